/-! MessengerBoardModel -/
set_option maxRecDepth 100000
def RX4 : String := "MessengerBoardModel"
def TX4 : u_T := fun k => match k with
  | 0 => ("MessengerBoardModel", "now", "[I", true)
  | 1 => ("MessengerBoardModel", "draft", "[I", true)
  | 2 => ("MessengerBoardModel", "aside", "[I", true)
  | 3 => ("MessengerBoardModel", "snapshot", "[I", true)
  | 4 => ("MessengerBoardModel", "history", "[I", true)
  | 5 => ("MessengerBoardModel", "undoCount", "I", false)
  | 6 => ("MessengerBoardModel", "thrown", "I", false)
  | 7 => ("MessengerBoardModel", "hasSnapshot", "Z", false)
  | 8 => ("MessengerBoardModel", "far", "[I", true)
  | 9 => ("MessengerBoardModel", "queue", "[I", true)
  | 10 => ("MessengerBoardModel", "formatted", "[I", true)
  | 11 => ("MessengerBoardModel", "formattedLength", "I", false)
  | 12 => ("MessengerBoardModel", "buffer", "[I", true)
  | 13 => ("MessengerBoardModel", "bufferLength", "I", false)
  | 14 => ("MessengerBoardModel", "limit", "I", false)
  | 15 => ("MessengerBoardModel", "next", "I", false)
  | 16 => ("MessengerBoardModel", "beginsAt", "I", false)
  | 17 => ("MessengerBoardModel", "token", "I", false)
  | 18 => ("MessengerBoardModel", "error", "I", false)
  | 19 => ("MessengerBoardModel", "errorAt", "I", false)
  | 20 => ("MessengerBoardModel", "errorPosition", "I", false)
  | 21 => ("MessengerBoardModel", "nested", "I", false)
  | 22 => ("MessengerBoardModel", "readX", "I", false)
  | 23 => ("MessengerBoardModel", "readY", "I", false)
  | 24 => ("MessengerBoardModel", "names", "[Ljava/lang/String;", true)
  | 25 => ("MessengerBoardModel", "codes", "[I", true)
  | 26 => ("MessengerBoardModel", "stack", "[J", true)
  | _ => ("MessengerBoardModel", "codeCount", "I", false)
def tyX4 : Nat → FieldType := fun k => match k with
  | 0 => .array .int
  | 1 => .array .int
  | 2 => .array .int
  | 3 => .array .int
  | 4 => .array .int
  | 5 => .int
  | 6 => .int
  | 7 => .boolean
  | 8 => .array .int
  | 9 => .array .int
  | 10 => .array .int
  | 11 => .int
  | 12 => .array .int
  | 13 => .int
  | 14 => .int
  | 15 => .int
  | 16 => .int
  | 17 => .int
  | 18 => .int
  | 19 => .int
  | 20 => .int
  | 21 => .int
  | 22 => .int
  | 23 => .int
  | 24 => .array (.object "java/lang/String")
  | 25 => .array .int
  | 26 => .array .long
  | _ => .int
abbrev wsX40 : List Cond := u_ws RX4 TX4 28
set_option maxRecDepth 100000 in
theorem nmX4 : ∀ a, a < 28 → ∀ b, b < 28 → a ≠ b → (TX4 a).2.1 ≠ (TX4 b).2.1 := by decide +kernel
set_option maxRecDepth 100000 in
theorem tyX4_ok : ∀ k, k < 28 → parseFieldDescriptor (TX4 k).2.2.1 = some (tyX4 k) := by decide +kernel
abbrev cX4_init : ByteArray := prog_24_method_1_code
def yX4_init : MethodName := ⟨RX4, "<init>", "()V"⟩
def dkwX4_init_7 : List UInt8 := [42, 180, 0, 9, 184, 0, 73, 177]
abbrev dktX4_init_7 : List UInt8 := dkwX4_init_7 ++ []
def dkwX4_init_6 : List UInt8 := [18, 60, 83, 181, 0, 62, 42, 17, 0, 200, 188, 10, 181, 0, 66, 42, 17, 0, 200, 188, 11, 181, 0, 69]
abbrev dktX4_init_6 : List UInt8 := dkwX4_init_6 ++ dktX4_init_7
def dkwX4_init_5 : List UInt8 := [7, 18, 52, 83, 89, 8, 18, 54, 83, 89, 16, 6, 18, 56, 83, 89, 16, 7, 18, 58, 83, 89, 16, 8]
abbrev dktX4_init_5 : List UInt8 := dkwX4_init_5 ++ dktX4_init_6
def dkwX4_init_4 : List UInt8 := [189, 0, 42, 89, 3, 18, 44, 83, 89, 4, 18, 46, 83, 89, 5, 18, 48, 83, 89, 6, 18, 50, 83, 89]
abbrev dktX4_init_4 : List UInt8 := dkwX4_init_4 ++ dktX4_init_5
def dkwX4_init_3 : List UInt8 := [188, 10, 181, 0, 32, 42, 17, 2, 88, 188, 10, 181, 0, 35, 42, 2, 181, 0, 38, 42, 16, 9]
abbrev dktX4_init_3 : List UInt8 := dkwX4_init_3 ++ dktX4_init_4
def dkwX4_init_2 : List UInt8 := [181, 0, 23, 42, 17, 0, 144, 188, 10, 181, 0, 26, 42, 17, 0, 144, 188, 10, 181, 0, 29, 42, 16, 12]
abbrev dktX4_init_2 : List UInt8 := dkwX4_init_2 ++ dktX4_init_3
def dkwX4_init_1 : List UInt8 := [17, 15, 94, 188, 10, 181, 0, 16, 42, 17, 15, 94, 188, 10, 181, 0, 19, 42, 18, 22, 188, 10]
abbrev dktX4_init_1 : List UInt8 := dkwX4_init_1 ++ dktX4_init_2
def dkwX4_init_0 : List UInt8 := [42, 183, 0, 1, 42, 17, 15, 94, 188, 10, 181, 0, 9, 42, 17, 15, 94, 188, 10, 181, 0, 13, 42]
abbrev dktX4_init_0 : List UInt8 := dkwX4_init_0 ++ dktX4_init_1
theorem dksX4_init_0 : cX4_init.data.toList.drop 0 = dktX4_init_0 := by decide +kernel
theorem dksX4_init_1 : cX4_init.data.toList.drop 23 = dktX4_init_1 := dk_seg dksX4_init_0 23 rfl rfl
theorem dksX4_init_2 : cX4_init.data.toList.drop 45 = dktX4_init_2 := dk_seg dksX4_init_1 22 rfl rfl
theorem dksX4_init_3 : cX4_init.data.toList.drop 69 = dktX4_init_3 := dk_seg dksX4_init_2 24 rfl rfl
theorem dksX4_init_4 : cX4_init.data.toList.drop 91 = dktX4_init_4 := dk_seg dksX4_init_3 22 rfl rfl
theorem dksX4_init_5 : cX4_init.data.toList.drop 115 = dktX4_init_5 := dk_seg dksX4_init_4 24 rfl rfl
theorem dksX4_init_6 : cX4_init.data.toList.drop 139 = dktX4_init_6 := dk_seg dksX4_init_5 24 rfl rfl
theorem dksX4_init_7 : cX4_init.data.toList.drop 163 = dktX4_init_7 := dk_seg dksX4_init_6 24 rfl rfl
theorem dX4_init_0 : decode cX4_init 0 = .ok (.aload_n 0, 1) := dk_42 (dk_at dksX4_init_0 0 rfl rfl)
theorem dX4_init_1 : decode cX4_init 1 = .ok (.invokespecial 1, 3) := dk_183 0 1 (dk_at dksX4_init_0 1 rfl rfl)
theorem dX4_init_4 : decode cX4_init 4 = .ok (.aload_n 0, 1) := dk_42 (dk_at dksX4_init_0 4 rfl rfl)
theorem dX4_init_5 : decode cX4_init 5 = .ok (.sipush 3934, 3) := dk_17 15 94 (dk_at dksX4_init_0 5 rfl rfl)
theorem dX4_init_8 : decode cX4_init 8 = .ok (.newarray .int, 2) := dk_188_10 (dk_at dksX4_init_0 8 rfl rfl)
theorem dX4_init_10 : decode cX4_init 10 = .ok (.putfield 9, 3) := dk_181 0 9 (dk_at dksX4_init_0 10 rfl rfl)
theorem dX4_init_13 : decode cX4_init 13 = .ok (.aload_n 0, 1) := dk_42 (dk_at dksX4_init_0 13 rfl rfl)
theorem dX4_init_14 : decode cX4_init 14 = .ok (.sipush 3934, 3) := dk_17 15 94 (dk_at dksX4_init_0 14 rfl rfl)
theorem dX4_init_17 : decode cX4_init 17 = .ok (.newarray .int, 2) := dk_188_10 (dk_at dksX4_init_0 17 rfl rfl)
theorem dX4_init_19 : decode cX4_init 19 = .ok (.putfield 13, 3) := dk_181 0 13 (dk_at dksX4_init_0 19 rfl rfl)
theorem dX4_init_22 : decode cX4_init 22 = .ok (.aload_n 0, 1) := dk_42 (dk_at dksX4_init_0 22 rfl rfl)
theorem dX4_init_23 : decode cX4_init 23 = .ok (.sipush 3934, 3) := dk_17 15 94 (dk_at dksX4_init_1 0 rfl rfl)
theorem dX4_init_26 : decode cX4_init 26 = .ok (.newarray .int, 2) := dk_188_10 (dk_at dksX4_init_1 3 rfl rfl)
theorem dX4_init_28 : decode cX4_init 28 = .ok (.putfield 16, 3) := dk_181 0 16 (dk_at dksX4_init_1 5 rfl rfl)
theorem dX4_init_31 : decode cX4_init 31 = .ok (.aload_n 0, 1) := dk_42 (dk_at dksX4_init_1 8 rfl rfl)
theorem dX4_init_32 : decode cX4_init 32 = .ok (.sipush 3934, 3) := dk_17 15 94 (dk_at dksX4_init_1 9 rfl rfl)
theorem dX4_init_35 : decode cX4_init 35 = .ok (.newarray .int, 2) := dk_188_10 (dk_at dksX4_init_1 12 rfl rfl)
theorem dX4_init_37 : decode cX4_init 37 = .ok (.putfield 19, 3) := dk_181 0 19 (dk_at dksX4_init_1 14 rfl rfl)
theorem dX4_init_40 : decode cX4_init 40 = .ok (.aload_n 0, 1) := dk_42 (dk_at dksX4_init_1 17 rfl rfl)
theorem dX4_init_41 : decode cX4_init 41 = .ok (.ldc 22, 2) := dk_18 22 (dk_at dksX4_init_1 18 rfl rfl)
theorem dX4_init_43 : decode cX4_init 43 = .ok (.newarray .int, 2) := dk_188_10 (dk_at dksX4_init_1 20 rfl rfl)
theorem dX4_init_45 : decode cX4_init 45 = .ok (.putfield 23, 3) := dk_181 0 23 (dk_at dksX4_init_2 0 rfl rfl)
theorem dX4_init_48 : decode cX4_init 48 = .ok (.aload_n 0, 1) := dk_42 (dk_at dksX4_init_2 3 rfl rfl)
theorem dX4_init_49 : decode cX4_init 49 = .ok (.sipush 144, 3) := dk_17 0 144 (dk_at dksX4_init_2 4 rfl rfl)
theorem dX4_init_52 : decode cX4_init 52 = .ok (.newarray .int, 2) := dk_188_10 (dk_at dksX4_init_2 7 rfl rfl)
theorem dX4_init_54 : decode cX4_init 54 = .ok (.putfield 26, 3) := dk_181 0 26 (dk_at dksX4_init_2 9 rfl rfl)
theorem dX4_init_57 : decode cX4_init 57 = .ok (.aload_n 0, 1) := dk_42 (dk_at dksX4_init_2 12 rfl rfl)
theorem dX4_init_58 : decode cX4_init 58 = .ok (.sipush 144, 3) := dk_17 0 144 (dk_at dksX4_init_2 13 rfl rfl)
theorem dX4_init_61 : decode cX4_init 61 = .ok (.newarray .int, 2) := dk_188_10 (dk_at dksX4_init_2 16 rfl rfl)
theorem dX4_init_63 : decode cX4_init 63 = .ok (.putfield 29, 3) := dk_181 0 29 (dk_at dksX4_init_2 18 rfl rfl)
theorem dX4_init_66 : decode cX4_init 66 = .ok (.aload_n 0, 1) := dk_42 (dk_at dksX4_init_2 21 rfl rfl)
theorem dX4_init_67 : decode cX4_init 67 = .ok (.bipush 12, 2) := dk_16 12 (dk_at dksX4_init_2 22 rfl rfl)
theorem dX4_init_69 : decode cX4_init 69 = .ok (.newarray .int, 2) := dk_188_10 (dk_at dksX4_init_3 0 rfl rfl)
theorem dX4_init_71 : decode cX4_init 71 = .ok (.putfield 32, 3) := dk_181 0 32 (dk_at dksX4_init_3 2 rfl rfl)
theorem dX4_init_74 : decode cX4_init 74 = .ok (.aload_n 0, 1) := dk_42 (dk_at dksX4_init_3 5 rfl rfl)
theorem dX4_init_75 : decode cX4_init 75 = .ok (.sipush 600, 3) := dk_17 2 88 (dk_at dksX4_init_3 6 rfl rfl)
theorem dX4_init_78 : decode cX4_init 78 = .ok (.newarray .int, 2) := dk_188_10 (dk_at dksX4_init_3 9 rfl rfl)
theorem dX4_init_80 : decode cX4_init 80 = .ok (.putfield 35, 3) := dk_181 0 35 (dk_at dksX4_init_3 11 rfl rfl)
theorem dX4_init_83 : decode cX4_init 83 = .ok (.aload_n 0, 1) := dk_42 (dk_at dksX4_init_3 14 rfl rfl)
theorem dX4_init_84 : decode cX4_init 84 = .ok (.iconst (-1), 1) := dk_2 (dk_at dksX4_init_3 15 rfl rfl)
theorem dX4_init_85 : decode cX4_init 85 = .ok (.putfield 38, 3) := dk_181 0 38 (dk_at dksX4_init_3 16 rfl rfl)
theorem dX4_init_88 : decode cX4_init 88 = .ok (.aload_n 0, 1) := dk_42 (dk_at dksX4_init_3 19 rfl rfl)
theorem dX4_init_89 : decode cX4_init 89 = .ok (.bipush 9, 2) := dk_16 9 (dk_at dksX4_init_3 20 rfl rfl)
theorem dX4_init_91 : decode cX4_init 91 = .ok (.anewarray 42, 3) := dk_189 0 42 (dk_at dksX4_init_4 0 rfl rfl)
theorem dX4_init_94 : decode cX4_init 94 = .ok (.dup, 1) := dk_89 (dk_at dksX4_init_4 3 rfl rfl)
theorem dX4_init_95 : decode cX4_init 95 = .ok (.iconst 0, 1) := dk_3 (dk_at dksX4_init_4 4 rfl rfl)
theorem dX4_init_96 : decode cX4_init 96 = .ok (.ldc 44, 2) := dk_18 44 (dk_at dksX4_init_4 5 rfl rfl)
theorem dX4_init_98 : decode cX4_init 98 = .ok (.aastore, 1) := dk_83 (dk_at dksX4_init_4 7 rfl rfl)
theorem dX4_init_99 : decode cX4_init 99 = .ok (.dup, 1) := dk_89 (dk_at dksX4_init_4 8 rfl rfl)
theorem dX4_init_100 : decode cX4_init 100 = .ok (.iconst 1, 1) := dk_4 (dk_at dksX4_init_4 9 rfl rfl)
theorem dX4_init_101 : decode cX4_init 101 = .ok (.ldc 46, 2) := dk_18 46 (dk_at dksX4_init_4 10 rfl rfl)
theorem dX4_init_103 : decode cX4_init 103 = .ok (.aastore, 1) := dk_83 (dk_at dksX4_init_4 12 rfl rfl)
theorem dX4_init_104 : decode cX4_init 104 = .ok (.dup, 1) := dk_89 (dk_at dksX4_init_4 13 rfl rfl)
theorem dX4_init_105 : decode cX4_init 105 = .ok (.iconst 2, 1) := dk_5 (dk_at dksX4_init_4 14 rfl rfl)
theorem dX4_init_106 : decode cX4_init 106 = .ok (.ldc 48, 2) := dk_18 48 (dk_at dksX4_init_4 15 rfl rfl)
theorem dX4_init_108 : decode cX4_init 108 = .ok (.aastore, 1) := dk_83 (dk_at dksX4_init_4 17 rfl rfl)
theorem dX4_init_109 : decode cX4_init 109 = .ok (.dup, 1) := dk_89 (dk_at dksX4_init_4 18 rfl rfl)
theorem dX4_init_110 : decode cX4_init 110 = .ok (.iconst 3, 1) := dk_6 (dk_at dksX4_init_4 19 rfl rfl)
theorem dX4_init_111 : decode cX4_init 111 = .ok (.ldc 50, 2) := dk_18 50 (dk_at dksX4_init_4 20 rfl rfl)
theorem dX4_init_113 : decode cX4_init 113 = .ok (.aastore, 1) := dk_83 (dk_at dksX4_init_4 22 rfl rfl)
theorem dX4_init_114 : decode cX4_init 114 = .ok (.dup, 1) := dk_89 (dk_at dksX4_init_4 23 rfl rfl)
theorem dX4_init_115 : decode cX4_init 115 = .ok (.iconst 4, 1) := dk_7 (dk_at dksX4_init_5 0 rfl rfl)
theorem dX4_init_116 : decode cX4_init 116 = .ok (.ldc 52, 2) := dk_18 52 (dk_at dksX4_init_5 1 rfl rfl)
theorem dX4_init_118 : decode cX4_init 118 = .ok (.aastore, 1) := dk_83 (dk_at dksX4_init_5 3 rfl rfl)
theorem dX4_init_119 : decode cX4_init 119 = .ok (.dup, 1) := dk_89 (dk_at dksX4_init_5 4 rfl rfl)
theorem dX4_init_120 : decode cX4_init 120 = .ok (.iconst 5, 1) := dk_8 (dk_at dksX4_init_5 5 rfl rfl)
theorem dX4_init_121 : decode cX4_init 121 = .ok (.ldc 54, 2) := dk_18 54 (dk_at dksX4_init_5 6 rfl rfl)
theorem dX4_init_123 : decode cX4_init 123 = .ok (.aastore, 1) := dk_83 (dk_at dksX4_init_5 8 rfl rfl)
theorem dX4_init_124 : decode cX4_init 124 = .ok (.dup, 1) := dk_89 (dk_at dksX4_init_5 9 rfl rfl)
theorem dX4_init_125 : decode cX4_init 125 = .ok (.bipush 6, 2) := dk_16 6 (dk_at dksX4_init_5 10 rfl rfl)
theorem dX4_init_127 : decode cX4_init 127 = .ok (.ldc 56, 2) := dk_18 56 (dk_at dksX4_init_5 12 rfl rfl)
theorem dX4_init_129 : decode cX4_init 129 = .ok (.aastore, 1) := dk_83 (dk_at dksX4_init_5 14 rfl rfl)
theorem dX4_init_130 : decode cX4_init 130 = .ok (.dup, 1) := dk_89 (dk_at dksX4_init_5 15 rfl rfl)
theorem dX4_init_131 : decode cX4_init 131 = .ok (.bipush 7, 2) := dk_16 7 (dk_at dksX4_init_5 16 rfl rfl)
theorem dX4_init_133 : decode cX4_init 133 = .ok (.ldc 58, 2) := dk_18 58 (dk_at dksX4_init_5 18 rfl rfl)
theorem dX4_init_135 : decode cX4_init 135 = .ok (.aastore, 1) := dk_83 (dk_at dksX4_init_5 20 rfl rfl)
theorem dX4_init_136 : decode cX4_init 136 = .ok (.dup, 1) := dk_89 (dk_at dksX4_init_5 21 rfl rfl)
theorem dX4_init_137 : decode cX4_init 137 = .ok (.bipush 8, 2) := dk_16 8 (dk_at dksX4_init_5 22 rfl rfl)
theorem dX4_init_139 : decode cX4_init 139 = .ok (.ldc 60, 2) := dk_18 60 (dk_at dksX4_init_6 0 rfl rfl)
theorem dX4_init_141 : decode cX4_init 141 = .ok (.aastore, 1) := dk_83 (dk_at dksX4_init_6 2 rfl rfl)
theorem dX4_init_142 : decode cX4_init 142 = .ok (.putfield 62, 3) := dk_181 0 62 (dk_at dksX4_init_6 3 rfl rfl)
theorem dX4_init_145 : decode cX4_init 145 = .ok (.aload_n 0, 1) := dk_42 (dk_at dksX4_init_6 6 rfl rfl)
theorem dX4_init_146 : decode cX4_init 146 = .ok (.sipush 200, 3) := dk_17 0 200 (dk_at dksX4_init_6 7 rfl rfl)
theorem dX4_init_149 : decode cX4_init 149 = .ok (.newarray .int, 2) := dk_188_10 (dk_at dksX4_init_6 10 rfl rfl)
theorem dX4_init_151 : decode cX4_init 151 = .ok (.putfield 66, 3) := dk_181 0 66 (dk_at dksX4_init_6 12 rfl rfl)
theorem dX4_init_154 : decode cX4_init 154 = .ok (.aload_n 0, 1) := dk_42 (dk_at dksX4_init_6 15 rfl rfl)
theorem dX4_init_155 : decode cX4_init 155 = .ok (.sipush 200, 3) := dk_17 0 200 (dk_at dksX4_init_6 16 rfl rfl)
theorem dX4_init_158 : decode cX4_init 158 = .ok (.newarray .long, 2) := dk_188_11 (dk_at dksX4_init_6 19 rfl rfl)
theorem dX4_init_160 : decode cX4_init 160 = .ok (.putfield 69, 3) := dk_181 0 69 (dk_at dksX4_init_6 21 rfl rfl)
theorem dX4_init_163 : decode cX4_init 163 = .ok (.aload_n 0, 1) := dk_42 (dk_at dksX4_init_7 0 rfl rfl)
theorem dX4_init_164 : decode cX4_init 164 = .ok (.getfield 9, 3) := dk_180 0 9 (dk_at dksX4_init_7 1 rfl rfl)
theorem dX4_init_167 : decode cX4_init 167 = .ok (.invokestatic 73, 3) := dk_184 0 73 (dk_at dksX4_init_7 4 rfl rfl)
theorem dX4_init_170 : decode cX4_init 170 = .ok (.return_, 1) := dk_177 (dk_at dksX4_init_7 7 rfl rfl)
abbrev cX4_clear : ByteArray := prog_24_method_5_code
def yX4_clear : MethodName := ⟨RX4, "clear", "([I)V"⟩
def dkwX4_clear_1 : List UInt8 := [4, 6, 79, 42, 16, 9, 16, 30, 79, 177]
abbrev dktX4_clear_1 : List UInt8 := dkwX4_clear_1 ++ []
def dkwX4_clear_0 : List UInt8 := [3, 60, 27, 17, 15, 94, 162, 0, 13, 42, 27, 3, 79, 132, 1, 1, 167, 255, 242, 42, 3, 6, 79, 42]
abbrev dktX4_clear_0 : List UInt8 := dkwX4_clear_0 ++ dktX4_clear_1
theorem dksX4_clear_0 : cX4_clear.data.toList.drop 0 = dktX4_clear_0 := by decide +kernel
theorem dksX4_clear_1 : cX4_clear.data.toList.drop 24 = dktX4_clear_1 := dk_seg dksX4_clear_0 24 rfl rfl
theorem dX4_clear_0 : decode cX4_clear 0 = .ok (.iconst 0, 1) := dk_3 (dk_at dksX4_clear_0 0 rfl rfl)
theorem dX4_clear_1 : decode cX4_clear 1 = .ok (.istore_n 1, 1) := dk_60 (dk_at dksX4_clear_0 1 rfl rfl)
theorem dX4_clear_2 : decode cX4_clear 2 = .ok (.iload_n 1, 1) := dk_27 (dk_at dksX4_clear_0 2 rfl rfl)
theorem dX4_clear_3 : decode cX4_clear 3 = .ok (.sipush 3934, 3) := dk_17 15 94 (dk_at dksX4_clear_0 3 rfl rfl)
theorem dX4_clear_6 : decode cX4_clear 6 = .ok (.if_icmp .ge 13, 3) := dk_162 0 13 (dk_at dksX4_clear_0 6 rfl rfl)
theorem dX4_clear_9 : decode cX4_clear 9 = .ok (.aload_n 0, 1) := dk_42 (dk_at dksX4_clear_0 9 rfl rfl)
theorem dX4_clear_10 : decode cX4_clear 10 = .ok (.iload_n 1, 1) := dk_27 (dk_at dksX4_clear_0 10 rfl rfl)
theorem dX4_clear_11 : decode cX4_clear 11 = .ok (.iconst 0, 1) := dk_3 (dk_at dksX4_clear_0 11 rfl rfl)
theorem dX4_clear_12 : decode cX4_clear 12 = .ok (.iastore, 1) := dk_79 (dk_at dksX4_clear_0 12 rfl rfl)
theorem dX4_clear_13 : decode cX4_clear 13 = .ok (.iinc 1 1, 3) := dk_132 1 1 (dk_at dksX4_clear_0 13 rfl rfl)
theorem dX4_clear_16 : decode cX4_clear 16 = .ok (.goto (-14), 3) := dk_167 255 242 (dk_at dksX4_clear_0 16 rfl rfl)
theorem dX4_clear_19 : decode cX4_clear 19 = .ok (.aload_n 0, 1) := dk_42 (dk_at dksX4_clear_0 19 rfl rfl)
theorem dX4_clear_20 : decode cX4_clear 20 = .ok (.iconst 0, 1) := dk_3 (dk_at dksX4_clear_0 20 rfl rfl)
theorem dX4_clear_21 : decode cX4_clear 21 = .ok (.iconst 3, 1) := dk_6 (dk_at dksX4_clear_0 21 rfl rfl)
theorem dX4_clear_22 : decode cX4_clear 22 = .ok (.iastore, 1) := dk_79 (dk_at dksX4_clear_0 22 rfl rfl)
theorem dX4_clear_23 : decode cX4_clear 23 = .ok (.aload_n 0, 1) := dk_42 (dk_at dksX4_clear_0 23 rfl rfl)
theorem dX4_clear_24 : decode cX4_clear 24 = .ok (.iconst 1, 1) := dk_4 (dk_at dksX4_clear_1 0 rfl rfl)
theorem dX4_clear_25 : decode cX4_clear 25 = .ok (.iconst 3, 1) := dk_6 (dk_at dksX4_clear_1 1 rfl rfl)
theorem dX4_clear_26 : decode cX4_clear 26 = .ok (.iastore, 1) := dk_79 (dk_at dksX4_clear_1 2 rfl rfl)
theorem dX4_clear_27 : decode cX4_clear 27 = .ok (.aload_n 0, 1) := dk_42 (dk_at dksX4_clear_1 3 rfl rfl)
theorem dX4_clear_28 : decode cX4_clear 28 = .ok (.bipush 9, 2) := dk_16 9 (dk_at dksX4_clear_1 4 rfl rfl)
theorem dX4_clear_30 : decode cX4_clear 30 = .ok (.bipush 30, 2) := dk_16 30 (dk_at dksX4_clear_1 6 rfl rfl)
theorem dX4_clear_32 : decode cX4_clear 32 = .ok (.iastore, 1) := dk_79 (dk_at dksX4_clear_1 8 rfl rfl)
theorem dX4_clear_33 : decode cX4_clear 33 = .ok (.return_, 1) := dk_177 (dk_at dksX4_clear_1 9 rfl rfl)
abbrev cX4_thrown : ByteArray := prog_24_method_2_code
def yX4_thrown : MethodName := ⟨RX4, "thrown", "()I"⟩
theorem dX4_thrown_0 : decode cX4_thrown 0 = .ok (.aload_n 0, 1) := by decide +kernel
theorem dX4_thrown_1 : decode cX4_thrown 1 = .ok (.getfield 77, 3) := by decide +kernel
theorem dX4_thrown_4 : decode cX4_thrown 4 = .ok (.ireturn, 1) := by decide +kernel
abbrev cX4_size : ByteArray := prog_24_method_42_code
def yX4_size : MethodName := ⟨RX4, "size", "(I)I"⟩
def dkwX4_size_1 : List UInt8 := [42, 4, 182, 0, 192, 172]
abbrev dktX4_size_1 : List UInt8 := dkwX4_size_1 ++ []
def dkwX4_size_0 : List UInt8 := [42, 3, 181, 0, 77, 27, 3, 16, 11, 184, 0, 90, 153, 0, 12, 42, 180, 0, 9, 27, 46, 167, 0, 8]
abbrev dktX4_size_0 : List UInt8 := dkwX4_size_0 ++ dktX4_size_1
theorem dksX4_size_0 : cX4_size.data.toList.drop 0 = dktX4_size_0 := by decide +kernel
theorem dksX4_size_1 : cX4_size.data.toList.drop 24 = dktX4_size_1 := dk_seg dksX4_size_0 24 rfl rfl
theorem dX4_size_0 : decode cX4_size 0 = .ok (.aload_n 0, 1) := dk_42 (dk_at dksX4_size_0 0 rfl rfl)
theorem dX4_size_1 : decode cX4_size 1 = .ok (.iconst 0, 1) := dk_3 (dk_at dksX4_size_0 1 rfl rfl)
theorem dX4_size_2 : decode cX4_size 2 = .ok (.putfield 77, 3) := dk_181 0 77 (dk_at dksX4_size_0 2 rfl rfl)
theorem dX4_size_5 : decode cX4_size 5 = .ok (.iload_n 1, 1) := dk_27 (dk_at dksX4_size_0 5 rfl rfl)
theorem dX4_size_6 : decode cX4_size 6 = .ok (.iconst 0, 1) := dk_3 (dk_at dksX4_size_0 6 rfl rfl)
theorem dX4_size_7 : decode cX4_size 7 = .ok (.bipush 11, 2) := dk_16 11 (dk_at dksX4_size_0 7 rfl rfl)
theorem dX4_size_9 : decode cX4_size 9 = .ok (.invokestatic 90, 3) := dk_184 0 90 (dk_at dksX4_size_0 9 rfl rfl)
theorem dX4_size_12 : decode cX4_size 12 = .ok (.ifCond .eq 12, 3) := dk_153 0 12 (dk_at dksX4_size_0 12 rfl rfl)
theorem dX4_size_15 : decode cX4_size 15 = .ok (.aload_n 0, 1) := dk_42 (dk_at dksX4_size_0 15 rfl rfl)
theorem dX4_size_16 : decode cX4_size 16 = .ok (.getfield 9, 3) := dk_180 0 9 (dk_at dksX4_size_0 16 rfl rfl)
theorem dX4_size_19 : decode cX4_size 19 = .ok (.iload_n 1, 1) := dk_27 (dk_at dksX4_size_0 19 rfl rfl)
theorem dX4_size_20 : decode cX4_size 20 = .ok (.iaload, 1) := dk_46 (dk_at dksX4_size_0 20 rfl rfl)
theorem dX4_size_21 : decode cX4_size 21 = .ok (.goto 8, 3) := dk_167 0 8 (dk_at dksX4_size_0 21 rfl rfl)
theorem dX4_size_24 : decode cX4_size 24 = .ok (.aload_n 0, 1) := dk_42 (dk_at dksX4_size_1 0 rfl rfl)
theorem dX4_size_25 : decode cX4_size 25 = .ok (.iconst 1, 1) := dk_4 (dk_at dksX4_size_1 1 rfl rfl)
theorem dX4_size_26 : decode cX4_size 26 = .ok (.invokevirtual 192, 3) := dk_182 0 192 (dk_at dksX4_size_1 2 rfl rfl)
theorem dX4_size_29 : decode cX4_size 29 = .ok (.ireturn, 1) := dk_172 (dk_at dksX4_size_1 5 rfl rfl)
abbrev cX4_inRange : ByteArray := prog_24_method_4_code
def yX4_inRange : MethodName := ⟨RX4, "inRange", "(III)Z"⟩
def dkwX4_inRange_0 : List UInt8 := [26, 27, 161, 0, 12, 26, 28, 163, 0, 7, 4, 167, 0, 4, 3, 172]
abbrev dktX4_inRange_0 : List UInt8 := dkwX4_inRange_0 ++ []
theorem dksX4_inRange_0 : cX4_inRange.data.toList.drop 0 = dktX4_inRange_0 := by decide +kernel
theorem dX4_inRange_0 : decode cX4_inRange 0 = .ok (.iload_n 0, 1) := dk_26 (dk_at dksX4_inRange_0 0 rfl rfl)
theorem dX4_inRange_1 : decode cX4_inRange 1 = .ok (.iload_n 1, 1) := dk_27 (dk_at dksX4_inRange_0 1 rfl rfl)
theorem dX4_inRange_2 : decode cX4_inRange 2 = .ok (.if_icmp .lt 12, 3) := dk_161 0 12 (dk_at dksX4_inRange_0 2 rfl rfl)
theorem dX4_inRange_5 : decode cX4_inRange 5 = .ok (.iload_n 0, 1) := dk_26 (dk_at dksX4_inRange_0 5 rfl rfl)
theorem dX4_inRange_6 : decode cX4_inRange 6 = .ok (.iload_n 2, 1) := dk_28 (dk_at dksX4_inRange_0 6 rfl rfl)
theorem dX4_inRange_7 : decode cX4_inRange 7 = .ok (.if_icmp .gt 7, 3) := dk_163 0 7 (dk_at dksX4_inRange_0 7 rfl rfl)
theorem dX4_inRange_10 : decode cX4_inRange 10 = .ok (.iconst 1, 1) := dk_4 (dk_at dksX4_inRange_0 10 rfl rfl)
theorem dX4_inRange_11 : decode cX4_inRange 11 = .ok (.goto 4, 3) := dk_167 0 4 (dk_at dksX4_inRange_0 11 rfl rfl)
theorem dX4_inRange_14 : decode cX4_inRange 14 = .ok (.iconst 0, 1) := dk_3 (dk_at dksX4_inRange_0 14 rfl rfl)
theorem dX4_inRange_15 : decode cX4_inRange 15 = .ok (.ireturn, 1) := dk_172 (dk_at dksX4_inRange_0 15 rfl rfl)
abbrev cX4_raise : ByteArray := prog_24_method_3_code
def yX4_raise : MethodName := ⟨RX4, "raise", "(I)I"⟩
def dkwX4_raise_0 : List UInt8 := [42, 27, 181, 0, 77, 3, 172]
abbrev dktX4_raise_0 : List UInt8 := dkwX4_raise_0 ++ []
theorem dksX4_raise_0 : cX4_raise.data.toList.drop 0 = dktX4_raise_0 := by decide +kernel
theorem dX4_raise_0 : decode cX4_raise 0 = .ok (.aload_n 0, 1) := dk_42 (dk_at dksX4_raise_0 0 rfl rfl)
theorem dX4_raise_1 : decode cX4_raise 1 = .ok (.iload_n 1, 1) := dk_27 (dk_at dksX4_raise_0 1 rfl rfl)
theorem dX4_raise_2 : decode cX4_raise 2 = .ok (.putfield 77, 3) := dk_181 0 77 (dk_at dksX4_raise_0 2 rfl rfl)
theorem dX4_raise_5 : decode cX4_raise 5 = .ok (.iconst 0, 1) := dk_3 (dk_at dksX4_raise_0 5 rfl rfl)
theorem dX4_raise_6 : decode cX4_raise 6 = .ok (.ireturn, 1) := dk_172 (dk_at dksX4_raise_0 6 rfl rfl)
abbrev cX4_unit : ByteArray := prog_24_method_44_code
def yX4_unit : MethodName := ⟨RX4, "unit", "(II)I"⟩
def dkwX4_unit_2 : List UInt8 := [27, 182, 0, 140, 167, 0, 8, 42, 27, 182, 0, 198, 172]
abbrev dktX4_unit_2 : List UInt8 := dkwX4_unit_2 ++ []
def dkwX4_unit_1 : List UInt8 := [182, 0, 192, 172, 28, 7, 162, 0, 12, 42, 27, 28, 182, 0, 133, 167, 0, 21, 28, 7, 160, 0, 11, 42]
abbrev dktX4_unit_1 : List UInt8 := dkwX4_unit_1 ++ dktX4_unit_2
def dkwX4_unit_0 : List UInt8 := [42, 3, 181, 0, 77, 42, 27, 182, 0, 195, 153, 0, 12, 28, 3, 8, 184, 0, 90, 154, 0, 9, 42, 4]
abbrev dktX4_unit_0 : List UInt8 := dkwX4_unit_0 ++ dktX4_unit_1
theorem dksX4_unit_0 : cX4_unit.data.toList.drop 0 = dktX4_unit_0 := by decide +kernel
theorem dksX4_unit_1 : cX4_unit.data.toList.drop 24 = dktX4_unit_1 := dk_seg dksX4_unit_0 24 rfl rfl
theorem dksX4_unit_2 : cX4_unit.data.toList.drop 48 = dktX4_unit_2 := dk_seg dksX4_unit_1 24 rfl rfl
theorem dX4_unit_0 : decode cX4_unit 0 = .ok (.aload_n 0, 1) := dk_42 (dk_at dksX4_unit_0 0 rfl rfl)
theorem dX4_unit_1 : decode cX4_unit 1 = .ok (.iconst 0, 1) := dk_3 (dk_at dksX4_unit_0 1 rfl rfl)
theorem dX4_unit_2 : decode cX4_unit 2 = .ok (.putfield 77, 3) := dk_181 0 77 (dk_at dksX4_unit_0 2 rfl rfl)
theorem dX4_unit_5 : decode cX4_unit 5 = .ok (.aload_n 0, 1) := dk_42 (dk_at dksX4_unit_0 5 rfl rfl)
theorem dX4_unit_6 : decode cX4_unit 6 = .ok (.iload_n 1, 1) := dk_27 (dk_at dksX4_unit_0 6 rfl rfl)
theorem dX4_unit_7 : decode cX4_unit 7 = .ok (.invokevirtual 195, 3) := dk_182 0 195 (dk_at dksX4_unit_0 7 rfl rfl)
theorem dX4_unit_10 : decode cX4_unit 10 = .ok (.ifCond .eq 12, 3) := dk_153 0 12 (dk_at dksX4_unit_0 10 rfl rfl)
theorem dX4_unit_13 : decode cX4_unit 13 = .ok (.iload_n 2, 1) := dk_28 (dk_at dksX4_unit_0 13 rfl rfl)
theorem dX4_unit_14 : decode cX4_unit 14 = .ok (.iconst 0, 1) := dk_3 (dk_at dksX4_unit_0 14 rfl rfl)
theorem dX4_unit_15 : decode cX4_unit 15 = .ok (.iconst 5, 1) := dk_8 (dk_at dksX4_unit_0 15 rfl rfl)
theorem dX4_unit_16 : decode cX4_unit 16 = .ok (.invokestatic 90, 3) := dk_184 0 90 (dk_at dksX4_unit_0 16 rfl rfl)
theorem dX4_unit_19 : decode cX4_unit 19 = .ok (.ifCond .ne 9, 3) := dk_154 0 9 (dk_at dksX4_unit_0 19 rfl rfl)
theorem dX4_unit_22 : decode cX4_unit 22 = .ok (.aload_n 0, 1) := dk_42 (dk_at dksX4_unit_0 22 rfl rfl)
theorem dX4_unit_23 : decode cX4_unit 23 = .ok (.iconst 1, 1) := dk_4 (dk_at dksX4_unit_0 23 rfl rfl)
theorem dX4_unit_24 : decode cX4_unit 24 = .ok (.invokevirtual 192, 3) := dk_182 0 192 (dk_at dksX4_unit_1 0 rfl rfl)
theorem dX4_unit_27 : decode cX4_unit 27 = .ok (.ireturn, 1) := dk_172 (dk_at dksX4_unit_1 3 rfl rfl)
theorem dX4_unit_28 : decode cX4_unit 28 = .ok (.iload_n 2, 1) := dk_28 (dk_at dksX4_unit_1 4 rfl rfl)
theorem dX4_unit_29 : decode cX4_unit 29 = .ok (.iconst 4, 1) := dk_7 (dk_at dksX4_unit_1 5 rfl rfl)
theorem dX4_unit_30 : decode cX4_unit 30 = .ok (.if_icmp .ge 12, 3) := dk_162 0 12 (dk_at dksX4_unit_1 6 rfl rfl)
theorem dX4_unit_33 : decode cX4_unit 33 = .ok (.aload_n 0, 1) := dk_42 (dk_at dksX4_unit_1 9 rfl rfl)
theorem dX4_unit_34 : decode cX4_unit 34 = .ok (.iload_n 1, 1) := dk_27 (dk_at dksX4_unit_1 10 rfl rfl)
theorem dX4_unit_35 : decode cX4_unit 35 = .ok (.iload_n 2, 1) := dk_28 (dk_at dksX4_unit_1 11 rfl rfl)
theorem dX4_unit_36 : decode cX4_unit 36 = .ok (.invokevirtual 133, 3) := dk_182 0 133 (dk_at dksX4_unit_1 12 rfl rfl)
theorem dX4_unit_39 : decode cX4_unit 39 = .ok (.goto 21, 3) := dk_167 0 21 (dk_at dksX4_unit_1 15 rfl rfl)
theorem dX4_unit_42 : decode cX4_unit 42 = .ok (.iload_n 2, 1) := dk_28 (dk_at dksX4_unit_1 18 rfl rfl)
theorem dX4_unit_43 : decode cX4_unit 43 = .ok (.iconst 4, 1) := dk_7 (dk_at dksX4_unit_1 19 rfl rfl)
theorem dX4_unit_44 : decode cX4_unit 44 = .ok (.if_icmp .ne 11, 3) := dk_160 0 11 (dk_at dksX4_unit_1 20 rfl rfl)
theorem dX4_unit_47 : decode cX4_unit 47 = .ok (.aload_n 0, 1) := dk_42 (dk_at dksX4_unit_1 23 rfl rfl)
theorem dX4_unit_48 : decode cX4_unit 48 = .ok (.iload_n 1, 1) := dk_27 (dk_at dksX4_unit_2 0 rfl rfl)
theorem dX4_unit_49 : decode cX4_unit 49 = .ok (.invokevirtual 140, 3) := dk_182 0 140 (dk_at dksX4_unit_2 1 rfl rfl)
theorem dX4_unit_52 : decode cX4_unit 52 = .ok (.goto 8, 3) := dk_167 0 8 (dk_at dksX4_unit_2 4 rfl rfl)
theorem dX4_unit_55 : decode cX4_unit 55 = .ok (.aload_n 0, 1) := dk_42 (dk_at dksX4_unit_2 7 rfl rfl)
theorem dX4_unit_56 : decode cX4_unit 56 = .ok (.iload_n 1, 1) := dk_27 (dk_at dksX4_unit_2 8 rfl rfl)
theorem dX4_unit_57 : decode cX4_unit 57 = .ok (.invokevirtual 198, 3) := dk_182 0 198 (dk_at dksX4_unit_2 9 rfl rfl)
theorem dX4_unit_60 : decode cX4_unit 60 = .ok (.ireturn, 1) := dk_172 (dk_at dksX4_unit_2 12 rfl rfl)
abbrev cX4_isUnit : ByteArray := prog_24_method_16_code
def yX4_isUnit : MethodName := ⟨RX4, "isUnit", "(I)Z"⟩
def dkwX4_isUnit_0 : List UInt8 := [27, 3, 42, 180, 0, 9, 5, 46, 4, 100, 184, 0, 90, 172]
abbrev dktX4_isUnit_0 : List UInt8 := dkwX4_isUnit_0 ++ []
theorem dksX4_isUnit_0 : cX4_isUnit.data.toList.drop 0 = dktX4_isUnit_0 := by decide +kernel
theorem dX4_isUnit_0 : decode cX4_isUnit 0 = .ok (.iload_n 1, 1) := dk_27 (dk_at dksX4_isUnit_0 0 rfl rfl)
theorem dX4_isUnit_1 : decode cX4_isUnit 1 = .ok (.iconst 0, 1) := dk_3 (dk_at dksX4_isUnit_0 1 rfl rfl)
theorem dX4_isUnit_2 : decode cX4_isUnit 2 = .ok (.aload_n 0, 1) := dk_42 (dk_at dksX4_isUnit_0 2 rfl rfl)
theorem dX4_isUnit_3 : decode cX4_isUnit 3 = .ok (.getfield 9, 3) := dk_180 0 9 (dk_at dksX4_isUnit_0 3 rfl rfl)
theorem dX4_isUnit_6 : decode cX4_isUnit 6 = .ok (.iconst 2, 1) := dk_5 (dk_at dksX4_isUnit_0 6 rfl rfl)
theorem dX4_isUnit_7 : decode cX4_isUnit 7 = .ok (.iaload, 1) := dk_46 (dk_at dksX4_isUnit_0 7 rfl rfl)
theorem dX4_isUnit_8 : decode cX4_isUnit 8 = .ok (.iconst 1, 1) := dk_4 (dk_at dksX4_isUnit_0 8 rfl rfl)
theorem dX4_isUnit_9 : decode cX4_isUnit 9 = .ok (.isub, 1) := dk_100 (dk_at dksX4_isUnit_0 9 rfl rfl)
theorem dX4_isUnit_10 : decode cX4_isUnit 10 = .ok (.invokestatic 90, 3) := dk_184 0 90 (dk_at dksX4_isUnit_0 10 rfl rfl)
theorem dX4_isUnit_13 : decode cX4_isUnit 13 = .ok (.ireturn, 1) := dk_172 (dk_at dksX4_isUnit_0 13 rfl rfl)
abbrev cX4_ofUnit : ByteArray := prog_24_method_12_code
def yX4_ofUnit : MethodName := ⟨RX4, "ofUnit", "(II)I"⟩
def dkwX4_ofUnit_0 : List UInt8 := [42, 180, 0, 9, 27, 28, 184, 0, 80, 46, 172]
abbrev dktX4_ofUnit_0 : List UInt8 := dkwX4_ofUnit_0 ++ []
theorem dksX4_ofUnit_0 : cX4_ofUnit.data.toList.drop 0 = dktX4_ofUnit_0 := by decide +kernel
theorem dX4_ofUnit_0 : decode cX4_ofUnit 0 = .ok (.aload_n 0, 1) := dk_42 (dk_at dksX4_ofUnit_0 0 rfl rfl)
theorem dX4_ofUnit_1 : decode cX4_ofUnit 1 = .ok (.getfield 9, 3) := dk_180 0 9 (dk_at dksX4_ofUnit_0 1 rfl rfl)
theorem dX4_ofUnit_4 : decode cX4_ofUnit 4 = .ok (.iload_n 1, 1) := dk_27 (dk_at dksX4_ofUnit_0 4 rfl rfl)
theorem dX4_ofUnit_5 : decode cX4_ofUnit 5 = .ok (.iload_n 2, 1) := dk_28 (dk_at dksX4_ofUnit_0 5 rfl rfl)
theorem dX4_ofUnit_6 : decode cX4_ofUnit 6 = .ok (.invokestatic 80, 3) := dk_184 0 80 (dk_at dksX4_ofUnit_0 6 rfl rfl)
theorem dX4_ofUnit_9 : decode cX4_ofUnit 9 = .ok (.iaload, 1) := dk_46 (dk_at dksX4_ofUnit_0 9 rfl rfl)
theorem dX4_ofUnit_10 : decode cX4_ofUnit 10 = .ok (.ireturn, 1) := dk_172 (dk_at dksX4_ofUnit_0 10 rfl rfl)
abbrev cX4_unitAt : ByteArray := prog_24_method_6_code
def yX4_unitAt : MethodName := ⟨RX4, "unitAt", "(II)I"⟩
def dkwX4_unitAt_0 : List UInt8 := [16, 12, 7, 26, 104, 96, 27, 96, 172]
abbrev dktX4_unitAt_0 : List UInt8 := dkwX4_unitAt_0 ++ []
theorem dksX4_unitAt_0 : cX4_unitAt.data.toList.drop 0 = dktX4_unitAt_0 := by decide +kernel
theorem dX4_unitAt_0 : decode cX4_unitAt 0 = .ok (.bipush 12, 2) := dk_16 12 (dk_at dksX4_unitAt_0 0 rfl rfl)
theorem dX4_unitAt_2 : decode cX4_unitAt 2 = .ok (.iconst 4, 1) := dk_7 (dk_at dksX4_unitAt_0 2 rfl rfl)
theorem dX4_unitAt_3 : decode cX4_unitAt 3 = .ok (.iload_n 0, 1) := dk_26 (dk_at dksX4_unitAt_0 3 rfl rfl)
theorem dX4_unitAt_4 : decode cX4_unitAt 4 = .ok (.imul, 1) := dk_104 (dk_at dksX4_unitAt_0 4 rfl rfl)
theorem dX4_unitAt_5 : decode cX4_unitAt 5 = .ok (.iadd, 1) := dk_96 (dk_at dksX4_unitAt_0 5 rfl rfl)
theorem dX4_unitAt_6 : decode cX4_unitAt 6 = .ok (.iload_n 1, 1) := dk_27 (dk_at dksX4_unitAt_0 6 rfl rfl)
theorem dX4_unitAt_7 : decode cX4_unitAt 7 = .ok (.iadd, 1) := dk_96 (dk_at dksX4_unitAt_0 7 rfl rfl)
theorem dX4_unitAt_8 : decode cX4_unitAt 8 = .ok (.ireturn, 1) := dk_172 (dk_at dksX4_unitAt_0 8 rfl rfl)
abbrev cX4_obeyedBy : ByteArray := prog_24_method_31_code
def yX4_obeyedBy : MethodName := ⟨RX4, "obeyedBy", "(I)I"⟩
def dkwX4_obeyedBy_1 : List UInt8 := [6, 182, 0, 130, 4, 160, 0, 5, 28, 172, 132, 2, 1, 167, 255, 221, 2, 172]
abbrev dktX4_obeyedBy_1 : List UInt8 := dkwX4_obeyedBy_1 ++ []
def dkwX4_obeyedBy_0 : List UInt8 := [3, 61, 28, 42, 180, 0, 9, 7, 46, 162, 0, 31, 42, 28, 3, 182, 0, 130, 27, 160, 0, 15, 42, 28]
abbrev dktX4_obeyedBy_0 : List UInt8 := dkwX4_obeyedBy_0 ++ dktX4_obeyedBy_1
theorem dksX4_obeyedBy_0 : cX4_obeyedBy.data.toList.drop 0 = dktX4_obeyedBy_0 := by decide +kernel
theorem dksX4_obeyedBy_1 : cX4_obeyedBy.data.toList.drop 24 = dktX4_obeyedBy_1 := dk_seg dksX4_obeyedBy_0 24 rfl rfl
theorem dX4_obeyedBy_0 : decode cX4_obeyedBy 0 = .ok (.iconst 0, 1) := dk_3 (dk_at dksX4_obeyedBy_0 0 rfl rfl)
theorem dX4_obeyedBy_1 : decode cX4_obeyedBy 1 = .ok (.istore_n 2, 1) := dk_61 (dk_at dksX4_obeyedBy_0 1 rfl rfl)
theorem dX4_obeyedBy_2 : decode cX4_obeyedBy 2 = .ok (.iload_n 2, 1) := dk_28 (dk_at dksX4_obeyedBy_0 2 rfl rfl)
theorem dX4_obeyedBy_3 : decode cX4_obeyedBy 3 = .ok (.aload_n 0, 1) := dk_42 (dk_at dksX4_obeyedBy_0 3 rfl rfl)
theorem dX4_obeyedBy_4 : decode cX4_obeyedBy 4 = .ok (.getfield 9, 3) := dk_180 0 9 (dk_at dksX4_obeyedBy_0 4 rfl rfl)
theorem dX4_obeyedBy_7 : decode cX4_obeyedBy 7 = .ok (.iconst 4, 1) := dk_7 (dk_at dksX4_obeyedBy_0 7 rfl rfl)
theorem dX4_obeyedBy_8 : decode cX4_obeyedBy 8 = .ok (.iaload, 1) := dk_46 (dk_at dksX4_obeyedBy_0 8 rfl rfl)
theorem dX4_obeyedBy_9 : decode cX4_obeyedBy 9 = .ok (.if_icmp .ge 31, 3) := dk_162 0 31 (dk_at dksX4_obeyedBy_0 9 rfl rfl)
theorem dX4_obeyedBy_12 : decode cX4_obeyedBy 12 = .ok (.aload_n 0, 1) := dk_42 (dk_at dksX4_obeyedBy_0 12 rfl rfl)
theorem dX4_obeyedBy_13 : decode cX4_obeyedBy 13 = .ok (.iload_n 2, 1) := dk_28 (dk_at dksX4_obeyedBy_0 13 rfl rfl)
theorem dX4_obeyedBy_14 : decode cX4_obeyedBy 14 = .ok (.iconst 0, 1) := dk_3 (dk_at dksX4_obeyedBy_0 14 rfl rfl)
theorem dX4_obeyedBy_15 : decode cX4_obeyedBy 15 = .ok (.invokevirtual 130, 3) := dk_182 0 130 (dk_at dksX4_obeyedBy_0 15 rfl rfl)
theorem dX4_obeyedBy_18 : decode cX4_obeyedBy 18 = .ok (.iload_n 1, 1) := dk_27 (dk_at dksX4_obeyedBy_0 18 rfl rfl)
theorem dX4_obeyedBy_19 : decode cX4_obeyedBy 19 = .ok (.if_icmp .ne 15, 3) := dk_160 0 15 (dk_at dksX4_obeyedBy_0 19 rfl rfl)
theorem dX4_obeyedBy_22 : decode cX4_obeyedBy 22 = .ok (.aload_n 0, 1) := dk_42 (dk_at dksX4_obeyedBy_0 22 rfl rfl)
theorem dX4_obeyedBy_23 : decode cX4_obeyedBy 23 = .ok (.iload_n 2, 1) := dk_28 (dk_at dksX4_obeyedBy_0 23 rfl rfl)
theorem dX4_obeyedBy_24 : decode cX4_obeyedBy 24 = .ok (.iconst 3, 1) := dk_6 (dk_at dksX4_obeyedBy_1 0 rfl rfl)
theorem dX4_obeyedBy_25 : decode cX4_obeyedBy 25 = .ok (.invokevirtual 130, 3) := dk_182 0 130 (dk_at dksX4_obeyedBy_1 1 rfl rfl)
theorem dX4_obeyedBy_28 : decode cX4_obeyedBy 28 = .ok (.iconst 1, 1) := dk_4 (dk_at dksX4_obeyedBy_1 4 rfl rfl)
theorem dX4_obeyedBy_29 : decode cX4_obeyedBy 29 = .ok (.if_icmp .ne 5, 3) := dk_160 0 5 (dk_at dksX4_obeyedBy_1 5 rfl rfl)
theorem dX4_obeyedBy_32 : decode cX4_obeyedBy 32 = .ok (.iload_n 2, 1) := dk_28 (dk_at dksX4_obeyedBy_1 8 rfl rfl)
theorem dX4_obeyedBy_33 : decode cX4_obeyedBy 33 = .ok (.ireturn, 1) := dk_172 (dk_at dksX4_obeyedBy_1 9 rfl rfl)
theorem dX4_obeyedBy_34 : decode cX4_obeyedBy 34 = .ok (.iinc 2 1, 3) := dk_132 2 1 (dk_at dksX4_obeyedBy_1 10 rfl rfl)
theorem dX4_obeyedBy_37 : decode cX4_obeyedBy 37 = .ok (.goto (-35), 3) := dk_167 255 221 (dk_at dksX4_obeyedBy_1 13 rfl rfl)
theorem dX4_obeyedBy_40 : decode cX4_obeyedBy 40 = .ok (.iconst (-1), 1) := dk_2 (dk_at dksX4_obeyedBy_1 16 rfl rfl)
theorem dX4_obeyedBy_41 : decode cX4_obeyedBy 41 = .ok (.ireturn, 1) := dk_172 (dk_at dksX4_obeyedBy_1 17 rfl rfl)
abbrev cX4_ofOrder : ByteArray := prog_24_method_14_code
def yX4_ofOrder : MethodName := ⟨RX4, "ofOrder", "(II)I"⟩
def dkwX4_ofOrder_0 : List UInt8 := [42, 180, 0, 9, 27, 28, 184, 0, 87, 46, 172]
abbrev dktX4_ofOrder_0 : List UInt8 := dkwX4_ofOrder_0 ++ []
theorem dksX4_ofOrder_0 : cX4_ofOrder.data.toList.drop 0 = dktX4_ofOrder_0 := by decide +kernel
theorem dX4_ofOrder_0 : decode cX4_ofOrder 0 = .ok (.aload_n 0, 1) := dk_42 (dk_at dksX4_ofOrder_0 0 rfl rfl)
theorem dX4_ofOrder_1 : decode cX4_ofOrder 1 = .ok (.getfield 9, 3) := dk_180 0 9 (dk_at dksX4_ofOrder_0 1 rfl rfl)
theorem dX4_ofOrder_4 : decode cX4_ofOrder 4 = .ok (.iload_n 1, 1) := dk_27 (dk_at dksX4_ofOrder_0 4 rfl rfl)
theorem dX4_ofOrder_5 : decode cX4_ofOrder 5 = .ok (.iload_n 2, 1) := dk_28 (dk_at dksX4_ofOrder_0 5 rfl rfl)
theorem dX4_ofOrder_6 : decode cX4_ofOrder 6 = .ok (.invokestatic 87, 3) := dk_184 0 87 (dk_at dksX4_ofOrder_0 6 rfl rfl)
theorem dX4_ofOrder_9 : decode cX4_ofOrder 9 = .ok (.iaload, 1) := dk_46 (dk_at dksX4_ofOrder_0 9 rfl rfl)
theorem dX4_ofOrder_10 : decode cX4_ofOrder 10 = .ok (.ireturn, 1) := dk_172 (dk_at dksX4_ofOrder_0 10 rfl rfl)
abbrev cX4_orderAt : ByteArray := prog_24_method_8_code
def yX4_orderAt : MethodName := ⟨RX4, "orderAt", "(II)I"⟩
def dkwX4_orderAt_0 : List UInt8 := [16, 64, 16, 10, 26, 104, 96, 27, 96, 172]
abbrev dktX4_orderAt_0 : List UInt8 := dkwX4_orderAt_0 ++ []
theorem dksX4_orderAt_0 : cX4_orderAt.data.toList.drop 0 = dktX4_orderAt_0 := by decide +kernel
theorem dX4_orderAt_0 : decode cX4_orderAt 0 = .ok (.bipush 64, 2) := dk_16 64 (dk_at dksX4_orderAt_0 0 rfl rfl)
theorem dX4_orderAt_2 : decode cX4_orderAt 2 = .ok (.bipush 10, 2) := dk_16 10 (dk_at dksX4_orderAt_0 2 rfl rfl)
theorem dX4_orderAt_4 : decode cX4_orderAt 4 = .ok (.iload_n 0, 1) := dk_26 (dk_at dksX4_orderAt_0 4 rfl rfl)
theorem dX4_orderAt_5 : decode cX4_orderAt 5 = .ok (.imul, 1) := dk_104 (dk_at dksX4_orderAt_0 5 rfl rfl)
theorem dX4_orderAt_6 : decode cX4_orderAt 6 = .ok (.iadd, 1) := dk_96 (dk_at dksX4_orderAt_0 6 rfl rfl)
theorem dX4_orderAt_7 : decode cX4_orderAt 7 = .ok (.iload_n 1, 1) := dk_27 (dk_at dksX4_orderAt_0 7 rfl rfl)
theorem dX4_orderAt_8 : decode cX4_orderAt 8 = .ok (.iadd, 1) := dk_96 (dk_at dksX4_orderAt_0 8 rfl rfl)
theorem dX4_orderAt_9 : decode cX4_orderAt 9 = .ok (.ireturn, 1) := dk_172 (dk_at dksX4_orderAt_0 9 rfl rfl)
abbrev cX4_onWayTo : ByteArray := prog_24_method_43_code
def yX4_onWayTo : MethodName := ⟨RX4, "onWayTo", "(I)I"⟩
def dkwX4_onWayTo_2 : List UInt8 := [167, 255, 216, 28, 172]
abbrev dktX4_onWayTo_2 : List UInt8 := dkwX4_onWayTo_2 ++ []
def dkwX4_onWayTo_1 : List UInt8 := [160, 0, 16, 42, 29, 6, 182, 0, 130, 154, 0, 7, 4, 167, 0, 4, 3, 96, 61, 132, 3, 1]
abbrev dktX4_onWayTo_1 : List UInt8 := dkwX4_onWayTo_1 ++ dktX4_onWayTo_2
def dkwX4_onWayTo_0 : List UInt8 := [3, 61, 3, 62, 29, 42, 180, 0, 9, 7, 46, 162, 0, 36, 28, 42, 29, 3, 182, 0, 130, 27]
abbrev dktX4_onWayTo_0 : List UInt8 := dkwX4_onWayTo_0 ++ dktX4_onWayTo_1
theorem dksX4_onWayTo_0 : cX4_onWayTo.data.toList.drop 0 = dktX4_onWayTo_0 := by decide +kernel
theorem dksX4_onWayTo_1 : cX4_onWayTo.data.toList.drop 22 = dktX4_onWayTo_1 := dk_seg dksX4_onWayTo_0 22 rfl rfl
theorem dksX4_onWayTo_2 : cX4_onWayTo.data.toList.drop 44 = dktX4_onWayTo_2 := dk_seg dksX4_onWayTo_1 22 rfl rfl
theorem dX4_onWayTo_0 : decode cX4_onWayTo 0 = .ok (.iconst 0, 1) := dk_3 (dk_at dksX4_onWayTo_0 0 rfl rfl)
theorem dX4_onWayTo_1 : decode cX4_onWayTo 1 = .ok (.istore_n 2, 1) := dk_61 (dk_at dksX4_onWayTo_0 1 rfl rfl)
theorem dX4_onWayTo_2 : decode cX4_onWayTo 2 = .ok (.iconst 0, 1) := dk_3 (dk_at dksX4_onWayTo_0 2 rfl rfl)
theorem dX4_onWayTo_3 : decode cX4_onWayTo 3 = .ok (.istore_n 3, 1) := dk_62 (dk_at dksX4_onWayTo_0 3 rfl rfl)
theorem dX4_onWayTo_4 : decode cX4_onWayTo 4 = .ok (.iload_n 3, 1) := dk_29 (dk_at dksX4_onWayTo_0 4 rfl rfl)
theorem dX4_onWayTo_5 : decode cX4_onWayTo 5 = .ok (.aload_n 0, 1) := dk_42 (dk_at dksX4_onWayTo_0 5 rfl rfl)
theorem dX4_onWayTo_6 : decode cX4_onWayTo 6 = .ok (.getfield 9, 3) := dk_180 0 9 (dk_at dksX4_onWayTo_0 6 rfl rfl)
theorem dX4_onWayTo_9 : decode cX4_onWayTo 9 = .ok (.iconst 4, 1) := dk_7 (dk_at dksX4_onWayTo_0 9 rfl rfl)
theorem dX4_onWayTo_10 : decode cX4_onWayTo 10 = .ok (.iaload, 1) := dk_46 (dk_at dksX4_onWayTo_0 10 rfl rfl)
theorem dX4_onWayTo_11 : decode cX4_onWayTo 11 = .ok (.if_icmp .ge 36, 3) := dk_162 0 36 (dk_at dksX4_onWayTo_0 11 rfl rfl)
theorem dX4_onWayTo_14 : decode cX4_onWayTo 14 = .ok (.iload_n 2, 1) := dk_28 (dk_at dksX4_onWayTo_0 14 rfl rfl)
theorem dX4_onWayTo_15 : decode cX4_onWayTo 15 = .ok (.aload_n 0, 1) := dk_42 (dk_at dksX4_onWayTo_0 15 rfl rfl)
theorem dX4_onWayTo_16 : decode cX4_onWayTo 16 = .ok (.iload_n 3, 1) := dk_29 (dk_at dksX4_onWayTo_0 16 rfl rfl)
theorem dX4_onWayTo_17 : decode cX4_onWayTo 17 = .ok (.iconst 0, 1) := dk_3 (dk_at dksX4_onWayTo_0 17 rfl rfl)
theorem dX4_onWayTo_18 : decode cX4_onWayTo 18 = .ok (.invokevirtual 130, 3) := dk_182 0 130 (dk_at dksX4_onWayTo_0 18 rfl rfl)
theorem dX4_onWayTo_21 : decode cX4_onWayTo 21 = .ok (.iload_n 1, 1) := dk_27 (dk_at dksX4_onWayTo_0 21 rfl rfl)
theorem dX4_onWayTo_22 : decode cX4_onWayTo 22 = .ok (.if_icmp .ne 16, 3) := dk_160 0 16 (dk_at dksX4_onWayTo_1 0 rfl rfl)
theorem dX4_onWayTo_25 : decode cX4_onWayTo 25 = .ok (.aload_n 0, 1) := dk_42 (dk_at dksX4_onWayTo_1 3 rfl rfl)
theorem dX4_onWayTo_26 : decode cX4_onWayTo 26 = .ok (.iload_n 3, 1) := dk_29 (dk_at dksX4_onWayTo_1 4 rfl rfl)
theorem dX4_onWayTo_27 : decode cX4_onWayTo 27 = .ok (.iconst 3, 1) := dk_6 (dk_at dksX4_onWayTo_1 5 rfl rfl)
theorem dX4_onWayTo_28 : decode cX4_onWayTo 28 = .ok (.invokevirtual 130, 3) := dk_182 0 130 (dk_at dksX4_onWayTo_1 6 rfl rfl)
theorem dX4_onWayTo_31 : decode cX4_onWayTo 31 = .ok (.ifCond .ne 7, 3) := dk_154 0 7 (dk_at dksX4_onWayTo_1 9 rfl rfl)
theorem dX4_onWayTo_34 : decode cX4_onWayTo 34 = .ok (.iconst 1, 1) := dk_4 (dk_at dksX4_onWayTo_1 12 rfl rfl)
theorem dX4_onWayTo_35 : decode cX4_onWayTo 35 = .ok (.goto 4, 3) := dk_167 0 4 (dk_at dksX4_onWayTo_1 13 rfl rfl)
theorem dX4_onWayTo_38 : decode cX4_onWayTo 38 = .ok (.iconst 0, 1) := dk_3 (dk_at dksX4_onWayTo_1 16 rfl rfl)
theorem dX4_onWayTo_39 : decode cX4_onWayTo 39 = .ok (.iadd, 1) := dk_96 (dk_at dksX4_onWayTo_1 17 rfl rfl)
theorem dX4_onWayTo_40 : decode cX4_onWayTo 40 = .ok (.istore_n 2, 1) := dk_61 (dk_at dksX4_onWayTo_1 18 rfl rfl)
theorem dX4_onWayTo_41 : decode cX4_onWayTo 41 = .ok (.iinc 3 1, 3) := dk_132 3 1 (dk_at dksX4_onWayTo_1 19 rfl rfl)
theorem dX4_onWayTo_44 : decode cX4_onWayTo 44 = .ok (.goto (-40), 3) := dk_167 255 216 (dk_at dksX4_onWayTo_2 0 rfl rfl)
theorem dX4_onWayTo_47 : decode cX4_onWayTo 47 = .ok (.iload_n 2, 1) := dk_28 (dk_at dksX4_onWayTo_2 3 rfl rfl)
theorem dX4_onWayTo_48 : decode cX4_onWayTo 48 = .ok (.ireturn, 1) := dk_172 (dk_at dksX4_onWayTo_2 4 rfl rfl)
abbrev cX4_picket : ByteArray := prog_24_method_45_code
def yX4_picket : MethodName := ⟨RX4, "picket", "(II)I"⟩
def dkwX4_picket_2 : List UInt8 := [167, 0, 4, 3, 172, 42, 27, 28, 16, 7, 160, 0, 8, 16, 6, 167, 0, 4, 28, 182, 0, 111, 172]
abbrev dktX4_picket_2 : List UInt8 := dkwX4_picket_2 ++ []
def dkwX4_picket_1 : List UInt8 := [4, 182, 0, 192, 172, 28, 16, 6, 160, 0, 21, 42, 27, 42, 182, 0, 126, 182, 0, 123, 153, 0, 7, 4]
abbrev dktX4_picket_1 : List UInt8 := dkwX4_picket_1 ++ dktX4_picket_2
def dkwX4_picket_0 : List UInt8 := [42, 3, 181, 0, 77, 42, 27, 182, 0, 201, 153, 0, 13, 28, 3, 16, 7, 184, 0, 90, 154, 0, 9, 42]
abbrev dktX4_picket_0 : List UInt8 := dkwX4_picket_0 ++ dktX4_picket_1
theorem dksX4_picket_0 : cX4_picket.data.toList.drop 0 = dktX4_picket_0 := by decide +kernel
theorem dksX4_picket_1 : cX4_picket.data.toList.drop 24 = dktX4_picket_1 := dk_seg dksX4_picket_0 24 rfl rfl
theorem dksX4_picket_2 : cX4_picket.data.toList.drop 48 = dktX4_picket_2 := dk_seg dksX4_picket_1 24 rfl rfl
theorem dX4_picket_0 : decode cX4_picket 0 = .ok (.aload_n 0, 1) := dk_42 (dk_at dksX4_picket_0 0 rfl rfl)
theorem dX4_picket_1 : decode cX4_picket 1 = .ok (.iconst 0, 1) := dk_3 (dk_at dksX4_picket_0 1 rfl rfl)
theorem dX4_picket_2 : decode cX4_picket 2 = .ok (.putfield 77, 3) := dk_181 0 77 (dk_at dksX4_picket_0 2 rfl rfl)
theorem dX4_picket_5 : decode cX4_picket 5 = .ok (.aload_n 0, 1) := dk_42 (dk_at dksX4_picket_0 5 rfl rfl)
theorem dX4_picket_6 : decode cX4_picket 6 = .ok (.iload_n 1, 1) := dk_27 (dk_at dksX4_picket_0 6 rfl rfl)
theorem dX4_picket_7 : decode cX4_picket 7 = .ok (.invokevirtual 201, 3) := dk_182 0 201 (dk_at dksX4_picket_0 7 rfl rfl)
theorem dX4_picket_10 : decode cX4_picket 10 = .ok (.ifCond .eq 13, 3) := dk_153 0 13 (dk_at dksX4_picket_0 10 rfl rfl)
theorem dX4_picket_13 : decode cX4_picket 13 = .ok (.iload_n 2, 1) := dk_28 (dk_at dksX4_picket_0 13 rfl rfl)
theorem dX4_picket_14 : decode cX4_picket 14 = .ok (.iconst 0, 1) := dk_3 (dk_at dksX4_picket_0 14 rfl rfl)
theorem dX4_picket_15 : decode cX4_picket 15 = .ok (.bipush 7, 2) := dk_16 7 (dk_at dksX4_picket_0 15 rfl rfl)
theorem dX4_picket_17 : decode cX4_picket 17 = .ok (.invokestatic 90, 3) := dk_184 0 90 (dk_at dksX4_picket_0 17 rfl rfl)
theorem dX4_picket_20 : decode cX4_picket 20 = .ok (.ifCond .ne 9, 3) := dk_154 0 9 (dk_at dksX4_picket_0 20 rfl rfl)
theorem dX4_picket_23 : decode cX4_picket 23 = .ok (.aload_n 0, 1) := dk_42 (dk_at dksX4_picket_0 23 rfl rfl)
theorem dX4_picket_24 : decode cX4_picket 24 = .ok (.iconst 1, 1) := dk_4 (dk_at dksX4_picket_1 0 rfl rfl)
theorem dX4_picket_25 : decode cX4_picket 25 = .ok (.invokevirtual 192, 3) := dk_182 0 192 (dk_at dksX4_picket_1 1 rfl rfl)
theorem dX4_picket_28 : decode cX4_picket 28 = .ok (.ireturn, 1) := dk_172 (dk_at dksX4_picket_1 4 rfl rfl)
theorem dX4_picket_29 : decode cX4_picket 29 = .ok (.iload_n 2, 1) := dk_28 (dk_at dksX4_picket_1 5 rfl rfl)
theorem dX4_picket_30 : decode cX4_picket 30 = .ok (.bipush 6, 2) := dk_16 6 (dk_at dksX4_picket_1 6 rfl rfl)
theorem dX4_picket_32 : decode cX4_picket 32 = .ok (.if_icmp .ne 21, 3) := dk_160 0 21 (dk_at dksX4_picket_1 8 rfl rfl)
theorem dX4_picket_35 : decode cX4_picket 35 = .ok (.aload_n 0, 1) := dk_42 (dk_at dksX4_picket_1 11 rfl rfl)
theorem dX4_picket_36 : decode cX4_picket 36 = .ok (.iload_n 1, 1) := dk_27 (dk_at dksX4_picket_1 12 rfl rfl)
theorem dX4_picket_37 : decode cX4_picket 37 = .ok (.aload_n 0, 1) := dk_42 (dk_at dksX4_picket_1 13 rfl rfl)
theorem dX4_picket_38 : decode cX4_picket 38 = .ok (.invokevirtual 126, 3) := dk_182 0 126 (dk_at dksX4_picket_1 14 rfl rfl)
theorem dX4_picket_41 : decode cX4_picket 41 = .ok (.invokevirtual 123, 3) := dk_182 0 123 (dk_at dksX4_picket_1 17 rfl rfl)
theorem dX4_picket_44 : decode cX4_picket 44 = .ok (.ifCond .eq 7, 3) := dk_153 0 7 (dk_at dksX4_picket_1 20 rfl rfl)
theorem dX4_picket_47 : decode cX4_picket 47 = .ok (.iconst 1, 1) := dk_4 (dk_at dksX4_picket_1 23 rfl rfl)
theorem dX4_picket_48 : decode cX4_picket 48 = .ok (.goto 4, 3) := dk_167 0 4 (dk_at dksX4_picket_2 0 rfl rfl)
theorem dX4_picket_51 : decode cX4_picket 51 = .ok (.iconst 0, 1) := dk_3 (dk_at dksX4_picket_2 3 rfl rfl)
theorem dX4_picket_52 : decode cX4_picket 52 = .ok (.ireturn, 1) := dk_172 (dk_at dksX4_picket_2 4 rfl rfl)
theorem dX4_picket_53 : decode cX4_picket 53 = .ok (.aload_n 0, 1) := dk_42 (dk_at dksX4_picket_2 5 rfl rfl)
theorem dX4_picket_54 : decode cX4_picket 54 = .ok (.iload_n 1, 1) := dk_27 (dk_at dksX4_picket_2 6 rfl rfl)
theorem dX4_picket_55 : decode cX4_picket 55 = .ok (.iload_n 2, 1) := dk_28 (dk_at dksX4_picket_2 7 rfl rfl)
theorem dX4_picket_56 : decode cX4_picket 56 = .ok (.bipush 7, 2) := dk_16 7 (dk_at dksX4_picket_2 8 rfl rfl)
theorem dX4_picket_58 : decode cX4_picket 58 = .ok (.if_icmp .ne 8, 3) := dk_160 0 8 (dk_at dksX4_picket_2 10 rfl rfl)
theorem dX4_picket_61 : decode cX4_picket 61 = .ok (.bipush 6, 2) := dk_16 6 (dk_at dksX4_picket_2 13 rfl rfl)
theorem dX4_picket_63 : decode cX4_picket 63 = .ok (.goto 4, 3) := dk_167 0 4 (dk_at dksX4_picket_2 15 rfl rfl)
theorem dX4_picket_66 : decode cX4_picket 66 = .ok (.iload_n 2, 1) := dk_28 (dk_at dksX4_picket_2 18 rfl rfl)
theorem dX4_picket_67 : decode cX4_picket 67 = .ok (.invokevirtual 111, 3) := dk_182 0 111 (dk_at dksX4_picket_2 19 rfl rfl)
theorem dX4_picket_70 : decode cX4_picket 70 = .ok (.ireturn, 1) := dk_172 (dk_at dksX4_picket_2 22 rfl rfl)
abbrev cX4_isPicket : ByteArray := prog_24_method_17_code
def yX4_isPicket : MethodName := ⟨RX4, "isPicket", "(I)Z"⟩
def dkwX4_isPicket_0 : List UInt8 := [27, 3, 42, 180, 0, 9, 6, 46, 4, 100, 184, 0, 90, 172]
abbrev dktX4_isPicket_0 : List UInt8 := dkwX4_isPicket_0 ++ []
theorem dksX4_isPicket_0 : cX4_isPicket.data.toList.drop 0 = dktX4_isPicket_0 := by decide +kernel
theorem dX4_isPicket_0 : decode cX4_isPicket 0 = .ok (.iload_n 1, 1) := dk_27 (dk_at dksX4_isPicket_0 0 rfl rfl)
theorem dX4_isPicket_1 : decode cX4_isPicket 1 = .ok (.iconst 0, 1) := dk_3 (dk_at dksX4_isPicket_0 1 rfl rfl)
theorem dX4_isPicket_2 : decode cX4_isPicket 2 = .ok (.aload_n 0, 1) := dk_42 (dk_at dksX4_isPicket_0 2 rfl rfl)
theorem dX4_isPicket_3 : decode cX4_isPicket 3 = .ok (.getfield 9, 3) := dk_180 0 9 (dk_at dksX4_isPicket_0 3 rfl rfl)
theorem dX4_isPicket_6 : decode cX4_isPicket 6 = .ok (.iconst 3, 1) := dk_6 (dk_at dksX4_isPicket_0 6 rfl rfl)
theorem dX4_isPicket_7 : decode cX4_isPicket 7 = .ok (.iaload, 1) := dk_46 (dk_at dksX4_isPicket_0 7 rfl rfl)
theorem dX4_isPicket_8 : decode cX4_isPicket 8 = .ok (.iconst 1, 1) := dk_4 (dk_at dksX4_isPicket_0 8 rfl rfl)
theorem dX4_isPicket_9 : decode cX4_isPicket 9 = .ok (.isub, 1) := dk_100 (dk_at dksX4_isPicket_0 9 rfl rfl)
theorem dX4_isPicket_10 : decode cX4_isPicket 10 = .ok (.invokestatic 90, 3) := dk_184 0 90 (dk_at dksX4_isPicket_0 10 rfl rfl)
theorem dX4_isPicket_13 : decode cX4_isPicket 13 = .ok (.ireturn, 1) := dk_172 (dk_at dksX4_isPicket_0 13 rfl rfl)
abbrev cX4_turnNow : ByteArray := prog_24_method_15_code
def yX4_turnNow : MethodName := ⟨RX4, "turnNow", "()I"⟩
def dkwX4_turnNow_0 : List UInt8 := [42, 180, 0, 9, 8, 46, 172]
abbrev dktX4_turnNow_0 : List UInt8 := dkwX4_turnNow_0 ++ []
theorem dksX4_turnNow_0 : cX4_turnNow.data.toList.drop 0 = dktX4_turnNow_0 := by decide +kernel
theorem dX4_turnNow_0 : decode cX4_turnNow 0 = .ok (.aload_n 0, 1) := dk_42 (dk_at dksX4_turnNow_0 0 rfl rfl)
theorem dX4_turnNow_1 : decode cX4_turnNow 1 = .ok (.getfield 9, 3) := dk_180 0 9 (dk_at dksX4_turnNow_0 1 rfl rfl)
theorem dX4_turnNow_4 : decode cX4_turnNow 4 = .ok (.iconst 5, 1) := dk_8 (dk_at dksX4_turnNow_0 4 rfl rfl)
theorem dX4_turnNow_5 : decode cX4_turnNow 5 = .ok (.iaload, 1) := dk_46 (dk_at dksX4_turnNow_0 5 rfl rfl)
theorem dX4_turnNow_6 : decode cX4_turnNow 6 = .ok (.ireturn, 1) := dk_172 (dk_at dksX4_turnNow_0 6 rfl rfl)
abbrev cX4_watches : ByteArray := prog_24_method_26_code
def yX4_watches : MethodName := ⟨RX4, "watches", "(II)Z"⟩
def dkwX4_watches_0 : List UInt8 := [28, 42, 27, 6, 182, 0, 111, 112, 42, 27, 7, 182, 0, 111, 42, 27, 8, 182, 0, 111, 184, 0, 90, 172]
abbrev dktX4_watches_0 : List UInt8 := dkwX4_watches_0 ++ []
theorem dksX4_watches_0 : cX4_watches.data.toList.drop 0 = dktX4_watches_0 := by decide +kernel
theorem dX4_watches_0 : decode cX4_watches 0 = .ok (.iload_n 2, 1) := dk_28 (dk_at dksX4_watches_0 0 rfl rfl)
theorem dX4_watches_1 : decode cX4_watches 1 = .ok (.aload_n 0, 1) := dk_42 (dk_at dksX4_watches_0 1 rfl rfl)
theorem dX4_watches_2 : decode cX4_watches 2 = .ok (.iload_n 1, 1) := dk_27 (dk_at dksX4_watches_0 2 rfl rfl)
theorem dX4_watches_3 : decode cX4_watches 3 = .ok (.iconst 3, 1) := dk_6 (dk_at dksX4_watches_0 3 rfl rfl)
theorem dX4_watches_4 : decode cX4_watches 4 = .ok (.invokevirtual 111, 3) := dk_182 0 111 (dk_at dksX4_watches_0 4 rfl rfl)
theorem dX4_watches_7 : decode cX4_watches 7 = .ok (.irem, 1) := dk_112 (dk_at dksX4_watches_0 7 rfl rfl)
theorem dX4_watches_8 : decode cX4_watches 8 = .ok (.aload_n 0, 1) := dk_42 (dk_at dksX4_watches_0 8 rfl rfl)
theorem dX4_watches_9 : decode cX4_watches 9 = .ok (.iload_n 1, 1) := dk_27 (dk_at dksX4_watches_0 9 rfl rfl)
theorem dX4_watches_10 : decode cX4_watches 10 = .ok (.iconst 4, 1) := dk_7 (dk_at dksX4_watches_0 10 rfl rfl)
theorem dX4_watches_11 : decode cX4_watches 11 = .ok (.invokevirtual 111, 3) := dk_182 0 111 (dk_at dksX4_watches_0 11 rfl rfl)
theorem dX4_watches_14 : decode cX4_watches 14 = .ok (.aload_n 0, 1) := dk_42 (dk_at dksX4_watches_0 14 rfl rfl)
theorem dX4_watches_15 : decode cX4_watches 15 = .ok (.iload_n 1, 1) := dk_27 (dk_at dksX4_watches_0 15 rfl rfl)
theorem dX4_watches_16 : decode cX4_watches 16 = .ok (.iconst 5, 1) := dk_8 (dk_at dksX4_watches_0 16 rfl rfl)
theorem dX4_watches_17 : decode cX4_watches 17 = .ok (.invokevirtual 111, 3) := dk_182 0 111 (dk_at dksX4_watches_0 17 rfl rfl)
theorem dX4_watches_20 : decode cX4_watches 20 = .ok (.invokestatic 90, 3) := dk_184 0 90 (dk_at dksX4_watches_0 20 rfl rfl)
theorem dX4_watches_23 : decode cX4_watches 23 = .ok (.ireturn, 1) := dk_172 (dk_at dksX4_watches_0 23 rfl rfl)
abbrev cX4_ofPicket : ByteArray := prog_24_method_13_code
def yX4_ofPicket : MethodName := ⟨RX4, "ofPicket", "(II)I"⟩
def dkwX4_ofPicket_0 : List UInt8 := [42, 180, 0, 9, 27, 28, 184, 0, 84, 46, 172]
abbrev dktX4_ofPicket_0 : List UInt8 := dkwX4_ofPicket_0 ++ []
theorem dksX4_ofPicket_0 : cX4_ofPicket.data.toList.drop 0 = dktX4_ofPicket_0 := by decide +kernel
theorem dX4_ofPicket_0 : decode cX4_ofPicket 0 = .ok (.aload_n 0, 1) := dk_42 (dk_at dksX4_ofPicket_0 0 rfl rfl)
theorem dX4_ofPicket_1 : decode cX4_ofPicket 1 = .ok (.getfield 9, 3) := dk_180 0 9 (dk_at dksX4_ofPicket_0 1 rfl rfl)
theorem dX4_ofPicket_4 : decode cX4_ofPicket 4 = .ok (.iload_n 1, 1) := dk_27 (dk_at dksX4_ofPicket_0 4 rfl rfl)
theorem dX4_ofPicket_5 : decode cX4_ofPicket 5 = .ok (.iload_n 2, 1) := dk_28 (dk_at dksX4_ofPicket_0 5 rfl rfl)
theorem dX4_ofPicket_6 : decode cX4_ofPicket 6 = .ok (.invokestatic 84, 3) := dk_184 0 84 (dk_at dksX4_ofPicket_0 6 rfl rfl)
theorem dX4_ofPicket_9 : decode cX4_ofPicket 9 = .ok (.iaload, 1) := dk_46 (dk_at dksX4_ofPicket_0 9 rfl rfl)
theorem dX4_ofPicket_10 : decode cX4_ofPicket 10 = .ok (.ireturn, 1) := dk_172 (dk_at dksX4_ofPicket_0 10 rfl rfl)
abbrev cX4_picketAt : ByteArray := prog_24_method_7_code
def yX4_picketAt : MethodName := ⟨RX4, "picketAt", "(II)I"⟩
def dkwX4_picketAt_0 : List UInt8 := [16, 36, 16, 7, 26, 104, 96, 27, 96, 172]
abbrev dktX4_picketAt_0 : List UInt8 := dkwX4_picketAt_0 ++ []
theorem dksX4_picketAt_0 : cX4_picketAt.data.toList.drop 0 = dktX4_picketAt_0 := by decide +kernel
theorem dX4_picketAt_0 : decode cX4_picketAt 0 = .ok (.bipush 36, 2) := dk_16 36 (dk_at dksX4_picketAt_0 0 rfl rfl)
theorem dX4_picketAt_2 : decode cX4_picketAt 2 = .ok (.bipush 7, 2) := dk_16 7 (dk_at dksX4_picketAt_0 2 rfl rfl)
theorem dX4_picketAt_4 : decode cX4_picketAt 4 = .ok (.iload_n 0, 1) := dk_26 (dk_at dksX4_picketAt_0 4 rfl rfl)
theorem dX4_picketAt_5 : decode cX4_picketAt 5 = .ok (.imul, 1) := dk_104 (dk_at dksX4_picketAt_0 5 rfl rfl)
theorem dX4_picketAt_6 : decode cX4_picketAt 6 = .ok (.iadd, 1) := dk_96 (dk_at dksX4_picketAt_0 6 rfl rfl)
theorem dX4_picketAt_7 : decode cX4_picketAt 7 = .ok (.iload_n 1, 1) := dk_27 (dk_at dksX4_picketAt_0 7 rfl rfl)
theorem dX4_picketAt_8 : decode cX4_picketAt 8 = .ok (.iadd, 1) := dk_96 (dk_at dksX4_picketAt_0 8 rfl rfl)
theorem dX4_picketAt_9 : decode cX4_picketAt 9 = .ok (.ireturn, 1) := dk_172 (dk_at dksX4_picketAt_0 9 rfl rfl)
abbrev cX4_order : ByteArray := prog_24_method_46_code
def yX4_order : MethodName := ⟨RX4, "order", "(II)I"⟩
def dkwX4_order_1 : List UInt8 := [27, 28, 182, 0, 130, 167, 0, 8, 42, 4, 182, 0, 192, 172]
abbrev dktX4_order_1 : List UInt8 := dkwX4_order_1 ++ []
def dkwX4_order_0 : List UInt8 := [42, 3, 181, 0, 77, 42, 27, 182, 0, 204, 153, 0, 22, 28, 3, 16, 9, 184, 0, 90, 153, 0, 12, 42]
abbrev dktX4_order_0 : List UInt8 := dkwX4_order_0 ++ dktX4_order_1
theorem dksX4_order_0 : cX4_order.data.toList.drop 0 = dktX4_order_0 := by decide +kernel
theorem dksX4_order_1 : cX4_order.data.toList.drop 24 = dktX4_order_1 := dk_seg dksX4_order_0 24 rfl rfl
theorem dX4_order_0 : decode cX4_order 0 = .ok (.aload_n 0, 1) := dk_42 (dk_at dksX4_order_0 0 rfl rfl)
theorem dX4_order_1 : decode cX4_order 1 = .ok (.iconst 0, 1) := dk_3 (dk_at dksX4_order_0 1 rfl rfl)
theorem dX4_order_2 : decode cX4_order 2 = .ok (.putfield 77, 3) := dk_181 0 77 (dk_at dksX4_order_0 2 rfl rfl)
theorem dX4_order_5 : decode cX4_order 5 = .ok (.aload_n 0, 1) := dk_42 (dk_at dksX4_order_0 5 rfl rfl)
theorem dX4_order_6 : decode cX4_order 6 = .ok (.iload_n 1, 1) := dk_27 (dk_at dksX4_order_0 6 rfl rfl)
theorem dX4_order_7 : decode cX4_order 7 = .ok (.invokevirtual 204, 3) := dk_182 0 204 (dk_at dksX4_order_0 7 rfl rfl)
theorem dX4_order_10 : decode cX4_order 10 = .ok (.ifCond .eq 22, 3) := dk_153 0 22 (dk_at dksX4_order_0 10 rfl rfl)
theorem dX4_order_13 : decode cX4_order 13 = .ok (.iload_n 2, 1) := dk_28 (dk_at dksX4_order_0 13 rfl rfl)
theorem dX4_order_14 : decode cX4_order 14 = .ok (.iconst 0, 1) := dk_3 (dk_at dksX4_order_0 14 rfl rfl)
theorem dX4_order_15 : decode cX4_order 15 = .ok (.bipush 9, 2) := dk_16 9 (dk_at dksX4_order_0 15 rfl rfl)
theorem dX4_order_17 : decode cX4_order 17 = .ok (.invokestatic 90, 3) := dk_184 0 90 (dk_at dksX4_order_0 17 rfl rfl)
theorem dX4_order_20 : decode cX4_order 20 = .ok (.ifCond .eq 12, 3) := dk_153 0 12 (dk_at dksX4_order_0 20 rfl rfl)
theorem dX4_order_23 : decode cX4_order 23 = .ok (.aload_n 0, 1) := dk_42 (dk_at dksX4_order_0 23 rfl rfl)
theorem dX4_order_24 : decode cX4_order 24 = .ok (.iload_n 1, 1) := dk_27 (dk_at dksX4_order_1 0 rfl rfl)
theorem dX4_order_25 : decode cX4_order 25 = .ok (.iload_n 2, 1) := dk_28 (dk_at dksX4_order_1 1 rfl rfl)
theorem dX4_order_26 : decode cX4_order 26 = .ok (.invokevirtual 130, 3) := dk_182 0 130 (dk_at dksX4_order_1 2 rfl rfl)
theorem dX4_order_29 : decode cX4_order 29 = .ok (.goto 8, 3) := dk_167 0 8 (dk_at dksX4_order_1 5 rfl rfl)
theorem dX4_order_32 : decode cX4_order 32 = .ok (.aload_n 0, 1) := dk_42 (dk_at dksX4_order_1 8 rfl rfl)
theorem dX4_order_33 : decode cX4_order 33 = .ok (.iconst 1, 1) := dk_4 (dk_at dksX4_order_1 9 rfl rfl)
theorem dX4_order_34 : decode cX4_order 34 = .ok (.invokevirtual 192, 3) := dk_182 0 192 (dk_at dksX4_order_1 10 rfl rfl)
theorem dX4_order_37 : decode cX4_order 37 = .ok (.ireturn, 1) := dk_172 (dk_at dksX4_order_1 13 rfl rfl)
abbrev cX4_isOrder : ByteArray := prog_24_method_18_code
def yX4_isOrder : MethodName := ⟨RX4, "isOrder", "(I)Z"⟩
def dkwX4_isOrder_0 : List UInt8 := [27, 3, 42, 180, 0, 9, 7, 46, 4, 100, 184, 0, 90, 172]
abbrev dktX4_isOrder_0 : List UInt8 := dkwX4_isOrder_0 ++ []
theorem dksX4_isOrder_0 : cX4_isOrder.data.toList.drop 0 = dktX4_isOrder_0 := by decide +kernel
theorem dX4_isOrder_0 : decode cX4_isOrder 0 = .ok (.iload_n 1, 1) := dk_27 (dk_at dksX4_isOrder_0 0 rfl rfl)
theorem dX4_isOrder_1 : decode cX4_isOrder 1 = .ok (.iconst 0, 1) := dk_3 (dk_at dksX4_isOrder_0 1 rfl rfl)
theorem dX4_isOrder_2 : decode cX4_isOrder 2 = .ok (.aload_n 0, 1) := dk_42 (dk_at dksX4_isOrder_0 2 rfl rfl)
theorem dX4_isOrder_3 : decode cX4_isOrder 3 = .ok (.getfield 9, 3) := dk_180 0 9 (dk_at dksX4_isOrder_0 3 rfl rfl)
theorem dX4_isOrder_6 : decode cX4_isOrder 6 = .ok (.iconst 4, 1) := dk_7 (dk_at dksX4_isOrder_0 6 rfl rfl)
theorem dX4_isOrder_7 : decode cX4_isOrder 7 = .ok (.iaload, 1) := dk_46 (dk_at dksX4_isOrder_0 7 rfl rfl)
theorem dX4_isOrder_8 : decode cX4_isOrder 8 = .ok (.iconst 1, 1) := dk_4 (dk_at dksX4_isOrder_0 8 rfl rfl)
theorem dX4_isOrder_9 : decode cX4_isOrder 9 = .ok (.isub, 1) := dk_100 (dk_at dksX4_isOrder_0 9 rfl rfl)
theorem dX4_isOrder_10 : decode cX4_isOrder 10 = .ok (.invokestatic 90, 3) := dk_184 0 90 (dk_at dksX4_isOrder_0 10 rfl rfl)
theorem dX4_isOrder_13 : decode cX4_isOrder 13 = .ok (.ireturn, 1) := dk_172 (dk_at dksX4_isOrder_0 13 rfl rfl)
abbrev cX4_plan : ByteArray := prog_24_method_47_code
def yX4_plan : MethodName := ⟨RX4, "plan", "(II)I"⟩
def dkwX4_plan_1 : List UInt8 := [180, 0, 9, 27, 28, 184, 0, 164, 46, 167, 0, 8, 42, 4, 182, 0, 192, 172]
abbrev dktX4_plan_1 : List UInt8 := dkwX4_plan_1 ++ []
def dkwX4_plan_0 : List UInt8 := [42, 3, 181, 0, 77, 42, 27, 182, 0, 207, 153, 0, 25, 28, 3, 6, 184, 0, 90, 153, 0, 16, 42]
abbrev dktX4_plan_0 : List UInt8 := dkwX4_plan_0 ++ dktX4_plan_1
theorem dksX4_plan_0 : cX4_plan.data.toList.drop 0 = dktX4_plan_0 := by decide +kernel
theorem dksX4_plan_1 : cX4_plan.data.toList.drop 23 = dktX4_plan_1 := dk_seg dksX4_plan_0 23 rfl rfl
theorem dX4_plan_0 : decode cX4_plan 0 = .ok (.aload_n 0, 1) := dk_42 (dk_at dksX4_plan_0 0 rfl rfl)
theorem dX4_plan_1 : decode cX4_plan 1 = .ok (.iconst 0, 1) := dk_3 (dk_at dksX4_plan_0 1 rfl rfl)
theorem dX4_plan_2 : decode cX4_plan 2 = .ok (.putfield 77, 3) := dk_181 0 77 (dk_at dksX4_plan_0 2 rfl rfl)
theorem dX4_plan_5 : decode cX4_plan 5 = .ok (.aload_n 0, 1) := dk_42 (dk_at dksX4_plan_0 5 rfl rfl)
theorem dX4_plan_6 : decode cX4_plan 6 = .ok (.iload_n 1, 1) := dk_27 (dk_at dksX4_plan_0 6 rfl rfl)
theorem dX4_plan_7 : decode cX4_plan 7 = .ok (.invokevirtual 207, 3) := dk_182 0 207 (dk_at dksX4_plan_0 7 rfl rfl)
theorem dX4_plan_10 : decode cX4_plan 10 = .ok (.ifCond .eq 25, 3) := dk_153 0 25 (dk_at dksX4_plan_0 10 rfl rfl)
theorem dX4_plan_13 : decode cX4_plan 13 = .ok (.iload_n 2, 1) := dk_28 (dk_at dksX4_plan_0 13 rfl rfl)
theorem dX4_plan_14 : decode cX4_plan 14 = .ok (.iconst 0, 1) := dk_3 (dk_at dksX4_plan_0 14 rfl rfl)
theorem dX4_plan_15 : decode cX4_plan 15 = .ok (.iconst 3, 1) := dk_6 (dk_at dksX4_plan_0 15 rfl rfl)
theorem dX4_plan_16 : decode cX4_plan 16 = .ok (.invokestatic 90, 3) := dk_184 0 90 (dk_at dksX4_plan_0 16 rfl rfl)
theorem dX4_plan_19 : decode cX4_plan 19 = .ok (.ifCond .eq 16, 3) := dk_153 0 16 (dk_at dksX4_plan_0 19 rfl rfl)
theorem dX4_plan_22 : decode cX4_plan 22 = .ok (.aload_n 0, 1) := dk_42 (dk_at dksX4_plan_0 22 rfl rfl)
theorem dX4_plan_23 : decode cX4_plan 23 = .ok (.getfield 9, 3) := dk_180 0 9 (dk_at dksX4_plan_1 0 rfl rfl)
theorem dX4_plan_26 : decode cX4_plan 26 = .ok (.iload_n 1, 1) := dk_27 (dk_at dksX4_plan_1 3 rfl rfl)
theorem dX4_plan_27 : decode cX4_plan 27 = .ok (.iload_n 2, 1) := dk_28 (dk_at dksX4_plan_1 4 rfl rfl)
theorem dX4_plan_28 : decode cX4_plan 28 = .ok (.invokestatic 164, 3) := dk_184 0 164 (dk_at dksX4_plan_1 5 rfl rfl)
theorem dX4_plan_31 : decode cX4_plan 31 = .ok (.iaload, 1) := dk_46 (dk_at dksX4_plan_1 8 rfl rfl)
theorem dX4_plan_32 : decode cX4_plan 32 = .ok (.goto 8, 3) := dk_167 0 8 (dk_at dksX4_plan_1 9 rfl rfl)
theorem dX4_plan_35 : decode cX4_plan 35 = .ok (.aload_n 0, 1) := dk_42 (dk_at dksX4_plan_1 12 rfl rfl)
theorem dX4_plan_36 : decode cX4_plan 36 = .ok (.iconst 1, 1) := dk_4 (dk_at dksX4_plan_1 13 rfl rfl)
theorem dX4_plan_37 : decode cX4_plan 37 = .ok (.invokevirtual 192, 3) := dk_182 0 192 (dk_at dksX4_plan_1 14 rfl rfl)
theorem dX4_plan_40 : decode cX4_plan 40 = .ok (.ireturn, 1) := dk_172 (dk_at dksX4_plan_1 17 rfl rfl)
abbrev cX4_isPlan : ByteArray := prog_24_method_19_code
def yX4_isPlan : MethodName := ⟨RX4, "isPlan", "(I)Z"⟩
def dkwX4_isPlan_0 : List UInt8 := [27, 3, 42, 180, 0, 9, 16, 8, 46, 4, 100, 184, 0, 90, 172]
abbrev dktX4_isPlan_0 : List UInt8 := dkwX4_isPlan_0 ++ []
theorem dksX4_isPlan_0 : cX4_isPlan.data.toList.drop 0 = dktX4_isPlan_0 := by decide +kernel
theorem dX4_isPlan_0 : decode cX4_isPlan 0 = .ok (.iload_n 1, 1) := dk_27 (dk_at dksX4_isPlan_0 0 rfl rfl)
theorem dX4_isPlan_1 : decode cX4_isPlan 1 = .ok (.iconst 0, 1) := dk_3 (dk_at dksX4_isPlan_0 1 rfl rfl)
theorem dX4_isPlan_2 : decode cX4_isPlan 2 = .ok (.aload_n 0, 1) := dk_42 (dk_at dksX4_isPlan_0 2 rfl rfl)
theorem dX4_isPlan_3 : decode cX4_isPlan 3 = .ok (.getfield 9, 3) := dk_180 0 9 (dk_at dksX4_isPlan_0 3 rfl rfl)
theorem dX4_isPlan_6 : decode cX4_isPlan 6 = .ok (.bipush 8, 2) := dk_16 8 (dk_at dksX4_isPlan_0 6 rfl rfl)
theorem dX4_isPlan_8 : decode cX4_isPlan 8 = .ok (.iaload, 1) := dk_46 (dk_at dksX4_isPlan_0 8 rfl rfl)
theorem dX4_isPlan_9 : decode cX4_isPlan 9 = .ok (.iconst 1, 1) := dk_4 (dk_at dksX4_isPlan_0 9 rfl rfl)
theorem dX4_isPlan_10 : decode cX4_isPlan 10 = .ok (.isub, 1) := dk_100 (dk_at dksX4_isPlan_0 10 rfl rfl)
theorem dX4_isPlan_11 : decode cX4_isPlan 11 = .ok (.invokestatic 90, 3) := dk_184 0 90 (dk_at dksX4_isPlan_0 11 rfl rfl)
theorem dX4_isPlan_14 : decode cX4_isPlan 14 = .ok (.ireturn, 1) := dk_172 (dk_at dksX4_isPlan_0 14 rfl rfl)
abbrev cX4_planAt : ByteArray := prog_24_method_9_code
def yX4_planAt : MethodName := ⟨RX4, "planAt", "(II)I"⟩
def dkwX4_planAt_0 : List UInt8 := [17, 1, 208, 7, 26, 104, 96, 27, 96, 172]
abbrev dktX4_planAt_0 : List UInt8 := dkwX4_planAt_0 ++ []
theorem dksX4_planAt_0 : cX4_planAt.data.toList.drop 0 = dktX4_planAt_0 := by decide +kernel
theorem dX4_planAt_0 : decode cX4_planAt 0 = .ok (.sipush 464, 3) := dk_17 1 208 (dk_at dksX4_planAt_0 0 rfl rfl)
theorem dX4_planAt_3 : decode cX4_planAt 3 = .ok (.iconst 4, 1) := dk_7 (dk_at dksX4_planAt_0 3 rfl rfl)
theorem dX4_planAt_4 : decode cX4_planAt 4 = .ok (.iload_n 0, 1) := dk_26 (dk_at dksX4_planAt_0 4 rfl rfl)
theorem dX4_planAt_5 : decode cX4_planAt 5 = .ok (.imul, 1) := dk_104 (dk_at dksX4_planAt_0 5 rfl rfl)
theorem dX4_planAt_6 : decode cX4_planAt 6 = .ok (.iadd, 1) := dk_96 (dk_at dksX4_planAt_0 6 rfl rfl)
theorem dX4_planAt_7 : decode cX4_planAt 7 = .ok (.iload_n 1, 1) := dk_27 (dk_at dksX4_planAt_0 7 rfl rfl)
theorem dX4_planAt_8 : decode cX4_planAt 8 = .ok (.iadd, 1) := dk_96 (dk_at dksX4_planAt_0 8 rfl rfl)
theorem dX4_planAt_9 : decode cX4_planAt 9 = .ok (.ireturn, 1) := dk_172 (dk_at dksX4_planAt_0 9 rfl rfl)
abbrev cX4_event : ByteArray := prog_24_method_48_code
def yX4_event : MethodName := ⟨RX4, "event", "(II)I"⟩
def dkwX4_event_2 : List UInt8 := [6, 27, 104, 96, 28, 96, 46, 167, 0, 8, 42, 4, 182, 0, 192, 172]
abbrev dktX4_event_2 : List UInt8 := dkwX4_event_2 ++ []
def dkwX4_event_1 : List UInt8 := [5, 184, 0, 90, 153, 0, 7, 4, 167, 0, 4, 3, 62, 29, 153, 0, 20, 42, 180, 0, 9, 17, 2, 32]
abbrev dktX4_event_1 : List UInt8 := dkwX4_event_1 ++ dktX4_event_2
def dkwX4_event_0 : List UInt8 := [42, 3, 181, 0, 77, 27, 3, 42, 180, 0, 9, 16, 7, 46, 4, 100, 184, 0, 90, 153, 0, 16, 28, 3]
abbrev dktX4_event_0 : List UInt8 := dkwX4_event_0 ++ dktX4_event_1
theorem dksX4_event_0 : cX4_event.data.toList.drop 0 = dktX4_event_0 := by decide +kernel
theorem dksX4_event_1 : cX4_event.data.toList.drop 24 = dktX4_event_1 := dk_seg dksX4_event_0 24 rfl rfl
theorem dksX4_event_2 : cX4_event.data.toList.drop 48 = dktX4_event_2 := dk_seg dksX4_event_1 24 rfl rfl
theorem dX4_event_0 : decode cX4_event 0 = .ok (.aload_n 0, 1) := dk_42 (dk_at dksX4_event_0 0 rfl rfl)
theorem dX4_event_1 : decode cX4_event 1 = .ok (.iconst 0, 1) := dk_3 (dk_at dksX4_event_0 1 rfl rfl)
theorem dX4_event_2 : decode cX4_event 2 = .ok (.putfield 77, 3) := dk_181 0 77 (dk_at dksX4_event_0 2 rfl rfl)
theorem dX4_event_5 : decode cX4_event 5 = .ok (.iload_n 1, 1) := dk_27 (dk_at dksX4_event_0 5 rfl rfl)
theorem dX4_event_6 : decode cX4_event 6 = .ok (.iconst 0, 1) := dk_3 (dk_at dksX4_event_0 6 rfl rfl)
theorem dX4_event_7 : decode cX4_event 7 = .ok (.aload_n 0, 1) := dk_42 (dk_at dksX4_event_0 7 rfl rfl)
theorem dX4_event_8 : decode cX4_event 8 = .ok (.getfield 9, 3) := dk_180 0 9 (dk_at dksX4_event_0 8 rfl rfl)
theorem dX4_event_11 : decode cX4_event 11 = .ok (.bipush 7, 2) := dk_16 7 (dk_at dksX4_event_0 11 rfl rfl)
theorem dX4_event_13 : decode cX4_event 13 = .ok (.iaload, 1) := dk_46 (dk_at dksX4_event_0 13 rfl rfl)
theorem dX4_event_14 : decode cX4_event 14 = .ok (.iconst 1, 1) := dk_4 (dk_at dksX4_event_0 14 rfl rfl)
theorem dX4_event_15 : decode cX4_event 15 = .ok (.isub, 1) := dk_100 (dk_at dksX4_event_0 15 rfl rfl)
theorem dX4_event_16 : decode cX4_event 16 = .ok (.invokestatic 90, 3) := dk_184 0 90 (dk_at dksX4_event_0 16 rfl rfl)
theorem dX4_event_19 : decode cX4_event 19 = .ok (.ifCond .eq 16, 3) := dk_153 0 16 (dk_at dksX4_event_0 19 rfl rfl)
theorem dX4_event_22 : decode cX4_event 22 = .ok (.iload_n 2, 1) := dk_28 (dk_at dksX4_event_0 22 rfl rfl)
theorem dX4_event_23 : decode cX4_event 23 = .ok (.iconst 0, 1) := dk_3 (dk_at dksX4_event_0 23 rfl rfl)
theorem dX4_event_24 : decode cX4_event 24 = .ok (.iconst 2, 1) := dk_5 (dk_at dksX4_event_1 0 rfl rfl)
theorem dX4_event_25 : decode cX4_event 25 = .ok (.invokestatic 90, 3) := dk_184 0 90 (dk_at dksX4_event_1 1 rfl rfl)
theorem dX4_event_28 : decode cX4_event 28 = .ok (.ifCond .eq 7, 3) := dk_153 0 7 (dk_at dksX4_event_1 4 rfl rfl)
theorem dX4_event_31 : decode cX4_event 31 = .ok (.iconst 1, 1) := dk_4 (dk_at dksX4_event_1 7 rfl rfl)
theorem dX4_event_32 : decode cX4_event 32 = .ok (.goto 4, 3) := dk_167 0 4 (dk_at dksX4_event_1 8 rfl rfl)
theorem dX4_event_35 : decode cX4_event 35 = .ok (.iconst 0, 1) := dk_3 (dk_at dksX4_event_1 11 rfl rfl)
theorem dX4_event_36 : decode cX4_event 36 = .ok (.istore_n 3, 1) := dk_62 (dk_at dksX4_event_1 12 rfl rfl)
theorem dX4_event_37 : decode cX4_event 37 = .ok (.iload_n 3, 1) := dk_29 (dk_at dksX4_event_1 13 rfl rfl)
theorem dX4_event_38 : decode cX4_event 38 = .ok (.ifCond .eq 20, 3) := dk_153 0 20 (dk_at dksX4_event_1 14 rfl rfl)
theorem dX4_event_41 : decode cX4_event 41 = .ok (.aload_n 0, 1) := dk_42 (dk_at dksX4_event_1 17 rfl rfl)
theorem dX4_event_42 : decode cX4_event 42 = .ok (.getfield 9, 3) := dk_180 0 9 (dk_at dksX4_event_1 18 rfl rfl)
theorem dX4_event_45 : decode cX4_event 45 = .ok (.sipush 544, 3) := dk_17 2 32 (dk_at dksX4_event_1 21 rfl rfl)
theorem dX4_event_48 : decode cX4_event 48 = .ok (.iconst 3, 1) := dk_6 (dk_at dksX4_event_2 0 rfl rfl)
theorem dX4_event_49 : decode cX4_event 49 = .ok (.iload_n 1, 1) := dk_27 (dk_at dksX4_event_2 1 rfl rfl)
theorem dX4_event_50 : decode cX4_event 50 = .ok (.imul, 1) := dk_104 (dk_at dksX4_event_2 2 rfl rfl)
theorem dX4_event_51 : decode cX4_event 51 = .ok (.iadd, 1) := dk_96 (dk_at dksX4_event_2 3 rfl rfl)
theorem dX4_event_52 : decode cX4_event 52 = .ok (.iload_n 2, 1) := dk_28 (dk_at dksX4_event_2 4 rfl rfl)
theorem dX4_event_53 : decode cX4_event 53 = .ok (.iadd, 1) := dk_96 (dk_at dksX4_event_2 5 rfl rfl)
theorem dX4_event_54 : decode cX4_event 54 = .ok (.iaload, 1) := dk_46 (dk_at dksX4_event_2 6 rfl rfl)
theorem dX4_event_55 : decode cX4_event 55 = .ok (.goto 8, 3) := dk_167 0 8 (dk_at dksX4_event_2 7 rfl rfl)
theorem dX4_event_58 : decode cX4_event 58 = .ok (.aload_n 0, 1) := dk_42 (dk_at dksX4_event_2 10 rfl rfl)
theorem dX4_event_59 : decode cX4_event 59 = .ok (.iconst 1, 1) := dk_4 (dk_at dksX4_event_2 11 rfl rfl)
theorem dX4_event_60 : decode cX4_event 60 = .ok (.invokevirtual 192, 3) := dk_182 0 192 (dk_at dksX4_event_2 12 rfl rfl)
theorem dX4_event_63 : decode cX4_event 63 = .ok (.ireturn, 1) := dk_172 (dk_at dksX4_event_2 15 rfl rfl)
abbrev cX4_orders : ByteArray := prog_24_method_50_code
def yX4_orders : MethodName := ⟨RX4, "orders", "(I)I"⟩
def dkwX4_orders_1 : List UInt8 := [4, 182, 0, 192, 172]
abbrev dktX4_orders_1 : List UInt8 := dkwX4_orders_1 ++ []
def dkwX4_orders_0 : List UInt8 := [42, 3, 181, 0, 77, 27, 3, 16, 6, 184, 0, 90, 153, 0, 11, 42, 27, 182, 0, 210, 167, 0, 8, 42]
abbrev dktX4_orders_0 : List UInt8 := dkwX4_orders_0 ++ dktX4_orders_1
theorem dksX4_orders_0 : cX4_orders.data.toList.drop 0 = dktX4_orders_0 := by decide +kernel
theorem dksX4_orders_1 : cX4_orders.data.toList.drop 24 = dktX4_orders_1 := dk_seg dksX4_orders_0 24 rfl rfl
theorem dX4_orders_0 : decode cX4_orders 0 = .ok (.aload_n 0, 1) := dk_42 (dk_at dksX4_orders_0 0 rfl rfl)
theorem dX4_orders_1 : decode cX4_orders 1 = .ok (.iconst 0, 1) := dk_3 (dk_at dksX4_orders_0 1 rfl rfl)
theorem dX4_orders_2 : decode cX4_orders 2 = .ok (.putfield 77, 3) := dk_181 0 77 (dk_at dksX4_orders_0 2 rfl rfl)
theorem dX4_orders_5 : decode cX4_orders 5 = .ok (.iload_n 1, 1) := dk_27 (dk_at dksX4_orders_0 5 rfl rfl)
theorem dX4_orders_6 : decode cX4_orders 6 = .ok (.iconst 0, 1) := dk_3 (dk_at dksX4_orders_0 6 rfl rfl)
theorem dX4_orders_7 : decode cX4_orders 7 = .ok (.bipush 6, 2) := dk_16 6 (dk_at dksX4_orders_0 7 rfl rfl)
theorem dX4_orders_9 : decode cX4_orders 9 = .ok (.invokestatic 90, 3) := dk_184 0 90 (dk_at dksX4_orders_0 9 rfl rfl)
theorem dX4_orders_12 : decode cX4_orders 12 = .ok (.ifCond .eq 11, 3) := dk_153 0 11 (dk_at dksX4_orders_0 12 rfl rfl)
theorem dX4_orders_15 : decode cX4_orders 15 = .ok (.aload_n 0, 1) := dk_42 (dk_at dksX4_orders_0 15 rfl rfl)
theorem dX4_orders_16 : decode cX4_orders 16 = .ok (.iload_n 1, 1) := dk_27 (dk_at dksX4_orders_0 16 rfl rfl)
theorem dX4_orders_17 : decode cX4_orders 17 = .ok (.invokevirtual 210, 3) := dk_182 0 210 (dk_at dksX4_orders_0 17 rfl rfl)
theorem dX4_orders_20 : decode cX4_orders 20 = .ok (.goto 8, 3) := dk_167 0 8 (dk_at dksX4_orders_0 20 rfl rfl)
theorem dX4_orders_23 : decode cX4_orders 23 = .ok (.aload_n 0, 1) := dk_42 (dk_at dksX4_orders_0 23 rfl rfl)
theorem dX4_orders_24 : decode cX4_orders 24 = .ok (.iconst 1, 1) := dk_4 (dk_at dksX4_orders_1 0 rfl rfl)
theorem dX4_orders_25 : decode cX4_orders 25 = .ok (.invokevirtual 192, 3) := dk_182 0 192 (dk_at dksX4_orders_1 1 rfl rfl)
theorem dX4_orders_28 : decode cX4_orders 28 = .ok (.ireturn, 1) := dk_172 (dk_at dksX4_orders_1 4 rfl rfl)
abbrev cX4_ordersIn : ByteArray := prog_24_method_49_code
def yX4_ordersIn : MethodName := ⟨RX4, "ordersIn", "(I)I"⟩
def dkwX4_ordersIn_1 : List UInt8 := [160, 0, 7, 4, 167, 0, 4, 3, 96, 61, 132, 3, 1, 167, 255, 225, 28, 172]
abbrev dktX4_ordersIn_1 : List UInt8 := dkwX4_ordersIn_1 ++ []
def dkwX4_ordersIn_0 : List UInt8 := [3, 61, 3, 62, 29, 42, 180, 0, 9, 7, 46, 162, 0, 27, 28, 42, 29, 6, 182, 0, 130, 27]
abbrev dktX4_ordersIn_0 : List UInt8 := dkwX4_ordersIn_0 ++ dktX4_ordersIn_1
theorem dksX4_ordersIn_0 : cX4_ordersIn.data.toList.drop 0 = dktX4_ordersIn_0 := by decide +kernel
theorem dksX4_ordersIn_1 : cX4_ordersIn.data.toList.drop 22 = dktX4_ordersIn_1 := dk_seg dksX4_ordersIn_0 22 rfl rfl
theorem dX4_ordersIn_0 : decode cX4_ordersIn 0 = .ok (.iconst 0, 1) := dk_3 (dk_at dksX4_ordersIn_0 0 rfl rfl)
theorem dX4_ordersIn_1 : decode cX4_ordersIn 1 = .ok (.istore_n 2, 1) := dk_61 (dk_at dksX4_ordersIn_0 1 rfl rfl)
theorem dX4_ordersIn_2 : decode cX4_ordersIn 2 = .ok (.iconst 0, 1) := dk_3 (dk_at dksX4_ordersIn_0 2 rfl rfl)
theorem dX4_ordersIn_3 : decode cX4_ordersIn 3 = .ok (.istore_n 3, 1) := dk_62 (dk_at dksX4_ordersIn_0 3 rfl rfl)
theorem dX4_ordersIn_4 : decode cX4_ordersIn 4 = .ok (.iload_n 3, 1) := dk_29 (dk_at dksX4_ordersIn_0 4 rfl rfl)
theorem dX4_ordersIn_5 : decode cX4_ordersIn 5 = .ok (.aload_n 0, 1) := dk_42 (dk_at dksX4_ordersIn_0 5 rfl rfl)
theorem dX4_ordersIn_6 : decode cX4_ordersIn 6 = .ok (.getfield 9, 3) := dk_180 0 9 (dk_at dksX4_ordersIn_0 6 rfl rfl)
theorem dX4_ordersIn_9 : decode cX4_ordersIn 9 = .ok (.iconst 4, 1) := dk_7 (dk_at dksX4_ordersIn_0 9 rfl rfl)
theorem dX4_ordersIn_10 : decode cX4_ordersIn 10 = .ok (.iaload, 1) := dk_46 (dk_at dksX4_ordersIn_0 10 rfl rfl)
theorem dX4_ordersIn_11 : decode cX4_ordersIn 11 = .ok (.if_icmp .ge 27, 3) := dk_162 0 27 (dk_at dksX4_ordersIn_0 11 rfl rfl)
theorem dX4_ordersIn_14 : decode cX4_ordersIn 14 = .ok (.iload_n 2, 1) := dk_28 (dk_at dksX4_ordersIn_0 14 rfl rfl)
theorem dX4_ordersIn_15 : decode cX4_ordersIn 15 = .ok (.aload_n 0, 1) := dk_42 (dk_at dksX4_ordersIn_0 15 rfl rfl)
theorem dX4_ordersIn_16 : decode cX4_ordersIn 16 = .ok (.iload_n 3, 1) := dk_29 (dk_at dksX4_ordersIn_0 16 rfl rfl)
theorem dX4_ordersIn_17 : decode cX4_ordersIn 17 = .ok (.iconst 3, 1) := dk_6 (dk_at dksX4_ordersIn_0 17 rfl rfl)
theorem dX4_ordersIn_18 : decode cX4_ordersIn 18 = .ok (.invokevirtual 130, 3) := dk_182 0 130 (dk_at dksX4_ordersIn_0 18 rfl rfl)
theorem dX4_ordersIn_21 : decode cX4_ordersIn 21 = .ok (.iload_n 1, 1) := dk_27 (dk_at dksX4_ordersIn_0 21 rfl rfl)
theorem dX4_ordersIn_22 : decode cX4_ordersIn 22 = .ok (.if_icmp .ne 7, 3) := dk_160 0 7 (dk_at dksX4_ordersIn_1 0 rfl rfl)
theorem dX4_ordersIn_25 : decode cX4_ordersIn 25 = .ok (.iconst 1, 1) := dk_4 (dk_at dksX4_ordersIn_1 3 rfl rfl)
theorem dX4_ordersIn_26 : decode cX4_ordersIn 26 = .ok (.goto 4, 3) := dk_167 0 4 (dk_at dksX4_ordersIn_1 4 rfl rfl)
theorem dX4_ordersIn_29 : decode cX4_ordersIn 29 = .ok (.iconst 0, 1) := dk_3 (dk_at dksX4_ordersIn_1 7 rfl rfl)
theorem dX4_ordersIn_30 : decode cX4_ordersIn 30 = .ok (.iadd, 1) := dk_96 (dk_at dksX4_ordersIn_1 8 rfl rfl)
theorem dX4_ordersIn_31 : decode cX4_ordersIn 31 = .ok (.istore_n 2, 1) := dk_61 (dk_at dksX4_ordersIn_1 9 rfl rfl)
theorem dX4_ordersIn_32 : decode cX4_ordersIn 32 = .ok (.iinc 3 1, 3) := dk_132 3 1 (dk_at dksX4_ordersIn_1 10 rfl rfl)
theorem dX4_ordersIn_35 : decode cX4_ordersIn 35 = .ok (.goto (-31), 3) := dk_167 255 225 (dk_at dksX4_ordersIn_1 13 rfl rfl)
theorem dX4_ordersIn_38 : decode cX4_ordersIn 38 = .ok (.iload_n 2, 1) := dk_28 (dk_at dksX4_ordersIn_1 16 rfl rfl)
theorem dX4_ordersIn_39 : decode cX4_ordersIn 39 = .ok (.ireturn, 1) := dk_172 (dk_at dksX4_ordersIn_1 17 rfl rfl)
abbrev cX4_isWall : ByteArray := prog_24_method_51_code
def yX4_isWall : MethodName := ⟨RX4, "isWall", "(II)Z"⟩
def dkwX4_isWall_1 : List UInt8 := [154, 0, 16, 42, 27, 28, 182, 0, 101, 154, 0, 7, 4, 167, 0, 4, 3, 172]
abbrev dktX4_isWall_1 : List UInt8 := dkwX4_isWall_1 ++ []
def dkwX4_isWall_0 : List UInt8 := [42, 42, 27, 28, 182, 0, 94, 153, 0, 7, 3, 167, 0, 4, 4, 181, 0, 77, 42, 180, 0, 77]
abbrev dktX4_isWall_0 : List UInt8 := dkwX4_isWall_0 ++ dktX4_isWall_1
theorem dksX4_isWall_0 : cX4_isWall.data.toList.drop 0 = dktX4_isWall_0 := by decide +kernel
theorem dksX4_isWall_1 : cX4_isWall.data.toList.drop 22 = dktX4_isWall_1 := dk_seg dksX4_isWall_0 22 rfl rfl
theorem dX4_isWall_0 : decode cX4_isWall 0 = .ok (.aload_n 0, 1) := dk_42 (dk_at dksX4_isWall_0 0 rfl rfl)
theorem dX4_isWall_1 : decode cX4_isWall 1 = .ok (.aload_n 0, 1) := dk_42 (dk_at dksX4_isWall_0 1 rfl rfl)
theorem dX4_isWall_2 : decode cX4_isWall 2 = .ok (.iload_n 1, 1) := dk_27 (dk_at dksX4_isWall_0 2 rfl rfl)
theorem dX4_isWall_3 : decode cX4_isWall 3 = .ok (.iload_n 2, 1) := dk_28 (dk_at dksX4_isWall_0 3 rfl rfl)
theorem dX4_isWall_4 : decode cX4_isWall 4 = .ok (.invokevirtual 94, 3) := dk_182 0 94 (dk_at dksX4_isWall_0 4 rfl rfl)
theorem dX4_isWall_7 : decode cX4_isWall 7 = .ok (.ifCond .eq 7, 3) := dk_153 0 7 (dk_at dksX4_isWall_0 7 rfl rfl)
theorem dX4_isWall_10 : decode cX4_isWall 10 = .ok (.iconst 0, 1) := dk_3 (dk_at dksX4_isWall_0 10 rfl rfl)
theorem dX4_isWall_11 : decode cX4_isWall 11 = .ok (.goto 4, 3) := dk_167 0 4 (dk_at dksX4_isWall_0 11 rfl rfl)
theorem dX4_isWall_14 : decode cX4_isWall 14 = .ok (.iconst 1, 1) := dk_4 (dk_at dksX4_isWall_0 14 rfl rfl)
theorem dX4_isWall_15 : decode cX4_isWall 15 = .ok (.putfield 77, 3) := dk_181 0 77 (dk_at dksX4_isWall_0 15 rfl rfl)
theorem dX4_isWall_18 : decode cX4_isWall 18 = .ok (.aload_n 0, 1) := dk_42 (dk_at dksX4_isWall_0 18 rfl rfl)
theorem dX4_isWall_19 : decode cX4_isWall 19 = .ok (.getfield 77, 3) := dk_180 0 77 (dk_at dksX4_isWall_0 19 rfl rfl)
theorem dX4_isWall_22 : decode cX4_isWall 22 = .ok (.ifCond .ne 16, 3) := dk_154 0 16 (dk_at dksX4_isWall_1 0 rfl rfl)
theorem dX4_isWall_25 : decode cX4_isWall 25 = .ok (.aload_n 0, 1) := dk_42 (dk_at dksX4_isWall_1 3 rfl rfl)
theorem dX4_isWall_26 : decode cX4_isWall 26 = .ok (.iload_n 1, 1) := dk_27 (dk_at dksX4_isWall_1 4 rfl rfl)
theorem dX4_isWall_27 : decode cX4_isWall 27 = .ok (.iload_n 2, 1) := dk_28 (dk_at dksX4_isWall_1 5 rfl rfl)
theorem dX4_isWall_28 : decode cX4_isWall 28 = .ok (.invokevirtual 101, 3) := dk_182 0 101 (dk_at dksX4_isWall_1 6 rfl rfl)
theorem dX4_isWall_31 : decode cX4_isWall 31 = .ok (.ifCond .ne 7, 3) := dk_154 0 7 (dk_at dksX4_isWall_1 9 rfl rfl)
theorem dX4_isWall_34 : decode cX4_isWall 34 = .ok (.iconst 1, 1) := dk_4 (dk_at dksX4_isWall_1 12 rfl rfl)
theorem dX4_isWall_35 : decode cX4_isWall 35 = .ok (.goto 4, 3) := dk_167 0 4 (dk_at dksX4_isWall_1 13 rfl rfl)
theorem dX4_isWall_38 : decode cX4_isWall 38 = .ok (.iconst 0, 1) := dk_3 (dk_at dksX4_isWall_1 16 rfl rfl)
theorem dX4_isWall_39 : decode cX4_isWall 39 = .ok (.ireturn, 1) := dk_172 (dk_at dksX4_isWall_1 17 rfl rfl)
abbrev cX4_isCell : ByteArray := prog_24_method_20_code
def yX4_isCell : MethodName := ⟨RX4, "isCell", "(II)Z"⟩
def dkwX4_isCell_1 : List UInt8 := [4, 100, 184, 0, 90, 153, 0, 7, 4, 167, 0, 4, 3, 172]
abbrev dktX4_isCell_1 : List UInt8 := dkwX4_isCell_1 ++ []
def dkwX4_isCell_0 : List UInt8 := [27, 3, 42, 180, 0, 9, 3, 46, 4, 100, 184, 0, 90, 153, 0, 23, 28, 3, 42, 180, 0, 9, 4, 46]
abbrev dktX4_isCell_0 : List UInt8 := dkwX4_isCell_0 ++ dktX4_isCell_1
theorem dksX4_isCell_0 : cX4_isCell.data.toList.drop 0 = dktX4_isCell_0 := by decide +kernel
theorem dksX4_isCell_1 : cX4_isCell.data.toList.drop 24 = dktX4_isCell_1 := dk_seg dksX4_isCell_0 24 rfl rfl
theorem dX4_isCell_0 : decode cX4_isCell 0 = .ok (.iload_n 1, 1) := dk_27 (dk_at dksX4_isCell_0 0 rfl rfl)
theorem dX4_isCell_1 : decode cX4_isCell 1 = .ok (.iconst 0, 1) := dk_3 (dk_at dksX4_isCell_0 1 rfl rfl)
theorem dX4_isCell_2 : decode cX4_isCell 2 = .ok (.aload_n 0, 1) := dk_42 (dk_at dksX4_isCell_0 2 rfl rfl)
theorem dX4_isCell_3 : decode cX4_isCell 3 = .ok (.getfield 9, 3) := dk_180 0 9 (dk_at dksX4_isCell_0 3 rfl rfl)
theorem dX4_isCell_6 : decode cX4_isCell 6 = .ok (.iconst 0, 1) := dk_3 (dk_at dksX4_isCell_0 6 rfl rfl)
theorem dX4_isCell_7 : decode cX4_isCell 7 = .ok (.iaload, 1) := dk_46 (dk_at dksX4_isCell_0 7 rfl rfl)
theorem dX4_isCell_8 : decode cX4_isCell 8 = .ok (.iconst 1, 1) := dk_4 (dk_at dksX4_isCell_0 8 rfl rfl)
theorem dX4_isCell_9 : decode cX4_isCell 9 = .ok (.isub, 1) := dk_100 (dk_at dksX4_isCell_0 9 rfl rfl)
theorem dX4_isCell_10 : decode cX4_isCell 10 = .ok (.invokestatic 90, 3) := dk_184 0 90 (dk_at dksX4_isCell_0 10 rfl rfl)
theorem dX4_isCell_13 : decode cX4_isCell 13 = .ok (.ifCond .eq 23, 3) := dk_153 0 23 (dk_at dksX4_isCell_0 13 rfl rfl)
theorem dX4_isCell_16 : decode cX4_isCell 16 = .ok (.iload_n 2, 1) := dk_28 (dk_at dksX4_isCell_0 16 rfl rfl)
theorem dX4_isCell_17 : decode cX4_isCell 17 = .ok (.iconst 0, 1) := dk_3 (dk_at dksX4_isCell_0 17 rfl rfl)
theorem dX4_isCell_18 : decode cX4_isCell 18 = .ok (.aload_n 0, 1) := dk_42 (dk_at dksX4_isCell_0 18 rfl rfl)
theorem dX4_isCell_19 : decode cX4_isCell 19 = .ok (.getfield 9, 3) := dk_180 0 9 (dk_at dksX4_isCell_0 19 rfl rfl)
theorem dX4_isCell_22 : decode cX4_isCell 22 = .ok (.iconst 1, 1) := dk_4 (dk_at dksX4_isCell_0 22 rfl rfl)
theorem dX4_isCell_23 : decode cX4_isCell 23 = .ok (.iaload, 1) := dk_46 (dk_at dksX4_isCell_0 23 rfl rfl)
theorem dX4_isCell_24 : decode cX4_isCell 24 = .ok (.iconst 1, 1) := dk_4 (dk_at dksX4_isCell_1 0 rfl rfl)
theorem dX4_isCell_25 : decode cX4_isCell 25 = .ok (.isub, 1) := dk_100 (dk_at dksX4_isCell_1 1 rfl rfl)
theorem dX4_isCell_26 : decode cX4_isCell 26 = .ok (.invokestatic 90, 3) := dk_184 0 90 (dk_at dksX4_isCell_1 2 rfl rfl)
theorem dX4_isCell_29 : decode cX4_isCell 29 = .ok (.ifCond .eq 7, 3) := dk_153 0 7 (dk_at dksX4_isCell_1 5 rfl rfl)
theorem dX4_isCell_32 : decode cX4_isCell 32 = .ok (.iconst 1, 1) := dk_4 (dk_at dksX4_isCell_1 8 rfl rfl)
theorem dX4_isCell_33 : decode cX4_isCell 33 = .ok (.goto 4, 3) := dk_167 0 4 (dk_at dksX4_isCell_1 9 rfl rfl)
theorem dX4_isCell_36 : decode cX4_isCell 36 = .ok (.iconst 0, 1) := dk_3 (dk_at dksX4_isCell_1 12 rfl rfl)
theorem dX4_isCell_37 : decode cX4_isCell 37 = .ok (.ireturn, 1) := dk_172 (dk_at dksX4_isCell_1 13 rfl rfl)
abbrev cX4_isFree : ByteArray := prog_24_method_21_code
def yX4_isFree : MethodName := ⟨RX4, "isFree", "(II)Z"⟩
def dkwX4_isFree_1 : List UInt8 := [167, 0, 4, 3, 172]
abbrev dktX4_isFree_1 : List UInt8 := dkwX4_isFree_1 ++ []
def dkwX4_isFree_0 : List UInt8 := [42, 27, 28, 182, 0, 94, 153, 0, 20, 42, 180, 0, 9, 27, 28, 184, 0, 98, 46, 154, 0, 7, 4]
abbrev dktX4_isFree_0 : List UInt8 := dkwX4_isFree_0 ++ dktX4_isFree_1
theorem dksX4_isFree_0 : cX4_isFree.data.toList.drop 0 = dktX4_isFree_0 := by decide +kernel
theorem dksX4_isFree_1 : cX4_isFree.data.toList.drop 23 = dktX4_isFree_1 := dk_seg dksX4_isFree_0 23 rfl rfl
theorem dX4_isFree_0 : decode cX4_isFree 0 = .ok (.aload_n 0, 1) := dk_42 (dk_at dksX4_isFree_0 0 rfl rfl)
theorem dX4_isFree_1 : decode cX4_isFree 1 = .ok (.iload_n 1, 1) := dk_27 (dk_at dksX4_isFree_0 1 rfl rfl)
theorem dX4_isFree_2 : decode cX4_isFree 2 = .ok (.iload_n 2, 1) := dk_28 (dk_at dksX4_isFree_0 2 rfl rfl)
theorem dX4_isFree_3 : decode cX4_isFree 3 = .ok (.invokevirtual 94, 3) := dk_182 0 94 (dk_at dksX4_isFree_0 3 rfl rfl)
theorem dX4_isFree_6 : decode cX4_isFree 6 = .ok (.ifCond .eq 20, 3) := dk_153 0 20 (dk_at dksX4_isFree_0 6 rfl rfl)
theorem dX4_isFree_9 : decode cX4_isFree 9 = .ok (.aload_n 0, 1) := dk_42 (dk_at dksX4_isFree_0 9 rfl rfl)
theorem dX4_isFree_10 : decode cX4_isFree 10 = .ok (.getfield 9, 3) := dk_180 0 9 (dk_at dksX4_isFree_0 10 rfl rfl)
theorem dX4_isFree_13 : decode cX4_isFree 13 = .ok (.iload_n 1, 1) := dk_27 (dk_at dksX4_isFree_0 13 rfl rfl)
theorem dX4_isFree_14 : decode cX4_isFree 14 = .ok (.iload_n 2, 1) := dk_28 (dk_at dksX4_isFree_0 14 rfl rfl)
theorem dX4_isFree_15 : decode cX4_isFree 15 = .ok (.invokestatic 98, 3) := dk_184 0 98 (dk_at dksX4_isFree_0 15 rfl rfl)
theorem dX4_isFree_18 : decode cX4_isFree 18 = .ok (.iaload, 1) := dk_46 (dk_at dksX4_isFree_0 18 rfl rfl)
theorem dX4_isFree_19 : decode cX4_isFree 19 = .ok (.ifCond .ne 7, 3) := dk_154 0 7 (dk_at dksX4_isFree_0 19 rfl rfl)
theorem dX4_isFree_22 : decode cX4_isFree 22 = .ok (.iconst 1, 1) := dk_4 (dk_at dksX4_isFree_0 22 rfl rfl)
theorem dX4_isFree_23 : decode cX4_isFree 23 = .ok (.goto 4, 3) := dk_167 0 4 (dk_at dksX4_isFree_1 0 rfl rfl)
theorem dX4_isFree_26 : decode cX4_isFree 26 = .ok (.iconst 0, 1) := dk_3 (dk_at dksX4_isFree_1 3 rfl rfl)
theorem dX4_isFree_27 : decode cX4_isFree 27 = .ok (.ireturn, 1) := dk_172 (dk_at dksX4_isFree_1 4 rfl rfl)
abbrev cX4_wallAt : ByteArray := prog_24_method_11_code
def yX4_wallAt : MethodName := ⟨RX4, "wallAt", "(II)I"⟩
def dkwX4_wallAt_0 : List UInt8 := [17, 3, 16, 16, 12, 27, 104, 96, 26, 96, 172]
abbrev dktX4_wallAt_0 : List UInt8 := dkwX4_wallAt_0 ++ []
theorem dksX4_wallAt_0 : cX4_wallAt.data.toList.drop 0 = dktX4_wallAt_0 := by decide +kernel
theorem dX4_wallAt_0 : decode cX4_wallAt 0 = .ok (.sipush 784, 3) := dk_17 3 16 (dk_at dksX4_wallAt_0 0 rfl rfl)
theorem dX4_wallAt_3 : decode cX4_wallAt 3 = .ok (.bipush 12, 2) := dk_16 12 (dk_at dksX4_wallAt_0 3 rfl rfl)
theorem dX4_wallAt_5 : decode cX4_wallAt 5 = .ok (.iload_n 1, 1) := dk_27 (dk_at dksX4_wallAt_0 5 rfl rfl)
theorem dX4_wallAt_6 : decode cX4_wallAt 6 = .ok (.imul, 1) := dk_104 (dk_at dksX4_wallAt_0 6 rfl rfl)
theorem dX4_wallAt_7 : decode cX4_wallAt 7 = .ok (.iadd, 1) := dk_96 (dk_at dksX4_wallAt_0 7 rfl rfl)
theorem dX4_wallAt_8 : decode cX4_wallAt 8 = .ok (.iload_n 0, 1) := dk_26 (dk_at dksX4_wallAt_0 8 rfl rfl)
theorem dX4_wallAt_9 : decode cX4_wallAt 9 = .ok (.iadd, 1) := dk_96 (dk_at dksX4_wallAt_0 9 rfl rfl)
theorem dX4_wallAt_10 : decode cX4_wallAt 10 = .ok (.ireturn, 1) := dk_172 (dk_at dksX4_wallAt_0 10 rfl rfl)
abbrev cX4_isWatched : ByteArray := prog_24_method_52_code
def yX4_isWatched : MethodName := ⟨RX4, "isWatched", "(III)Z"⟩
def dkwX4_isWatched_2 : List UInt8 := [167, 0, 4, 3, 172]
abbrev dktX4_isWatched_2 : List UInt8 := dkwX4_isWatched_2 ++ []
def dkwX4_isWatched_1 : List UInt8 := [181, 0, 77, 42, 180, 0, 77, 154, 0, 18, 42, 27, 28, 29, 182, 0, 146, 2, 159, 0, 7, 4]
abbrev dktX4_isWatched_1 : List UInt8 := dkwX4_isWatched_1 ++ dktX4_isWatched_2
def dkwX4_isWatched_0 : List UInt8 := [42, 42, 27, 28, 182, 0, 94, 154, 0, 7, 4, 167, 0, 12, 29, 155, 0, 7, 3, 167, 0, 4, 5]
abbrev dktX4_isWatched_0 : List UInt8 := dkwX4_isWatched_0 ++ dktX4_isWatched_1
theorem dksX4_isWatched_0 : cX4_isWatched.data.toList.drop 0 = dktX4_isWatched_0 := by decide +kernel
theorem dksX4_isWatched_1 : cX4_isWatched.data.toList.drop 23 = dktX4_isWatched_1 := dk_seg dksX4_isWatched_0 23 rfl rfl
theorem dksX4_isWatched_2 : cX4_isWatched.data.toList.drop 45 = dktX4_isWatched_2 := dk_seg dksX4_isWatched_1 22 rfl rfl
theorem dX4_isWatched_0 : decode cX4_isWatched 0 = .ok (.aload_n 0, 1) := dk_42 (dk_at dksX4_isWatched_0 0 rfl rfl)
theorem dX4_isWatched_1 : decode cX4_isWatched 1 = .ok (.aload_n 0, 1) := dk_42 (dk_at dksX4_isWatched_0 1 rfl rfl)
theorem dX4_isWatched_2 : decode cX4_isWatched 2 = .ok (.iload_n 1, 1) := dk_27 (dk_at dksX4_isWatched_0 2 rfl rfl)
theorem dX4_isWatched_3 : decode cX4_isWatched 3 = .ok (.iload_n 2, 1) := dk_28 (dk_at dksX4_isWatched_0 3 rfl rfl)
theorem dX4_isWatched_4 : decode cX4_isWatched 4 = .ok (.invokevirtual 94, 3) := dk_182 0 94 (dk_at dksX4_isWatched_0 4 rfl rfl)
theorem dX4_isWatched_7 : decode cX4_isWatched 7 = .ok (.ifCond .ne 7, 3) := dk_154 0 7 (dk_at dksX4_isWatched_0 7 rfl rfl)
theorem dX4_isWatched_10 : decode cX4_isWatched 10 = .ok (.iconst 1, 1) := dk_4 (dk_at dksX4_isWatched_0 10 rfl rfl)
theorem dX4_isWatched_11 : decode cX4_isWatched 11 = .ok (.goto 12, 3) := dk_167 0 12 (dk_at dksX4_isWatched_0 11 rfl rfl)
theorem dX4_isWatched_14 : decode cX4_isWatched 14 = .ok (.iload_n 3, 1) := dk_29 (dk_at dksX4_isWatched_0 14 rfl rfl)
theorem dX4_isWatched_15 : decode cX4_isWatched 15 = .ok (.ifCond .lt 7, 3) := dk_155 0 7 (dk_at dksX4_isWatched_0 15 rfl rfl)
theorem dX4_isWatched_18 : decode cX4_isWatched 18 = .ok (.iconst 0, 1) := dk_3 (dk_at dksX4_isWatched_0 18 rfl rfl)
theorem dX4_isWatched_19 : decode cX4_isWatched 19 = .ok (.goto 4, 3) := dk_167 0 4 (dk_at dksX4_isWatched_0 19 rfl rfl)
theorem dX4_isWatched_22 : decode cX4_isWatched 22 = .ok (.iconst 2, 1) := dk_5 (dk_at dksX4_isWatched_0 22 rfl rfl)
theorem dX4_isWatched_23 : decode cX4_isWatched 23 = .ok (.putfield 77, 3) := dk_181 0 77 (dk_at dksX4_isWatched_1 0 rfl rfl)
theorem dX4_isWatched_26 : decode cX4_isWatched 26 = .ok (.aload_n 0, 1) := dk_42 (dk_at dksX4_isWatched_1 3 rfl rfl)
theorem dX4_isWatched_27 : decode cX4_isWatched 27 = .ok (.getfield 77, 3) := dk_180 0 77 (dk_at dksX4_isWatched_1 4 rfl rfl)
theorem dX4_isWatched_30 : decode cX4_isWatched 30 = .ok (.ifCond .ne 18, 3) := dk_154 0 18 (dk_at dksX4_isWatched_1 7 rfl rfl)
theorem dX4_isWatched_33 : decode cX4_isWatched 33 = .ok (.aload_n 0, 1) := dk_42 (dk_at dksX4_isWatched_1 10 rfl rfl)
theorem dX4_isWatched_34 : decode cX4_isWatched 34 = .ok (.iload_n 1, 1) := dk_27 (dk_at dksX4_isWatched_1 11 rfl rfl)
theorem dX4_isWatched_35 : decode cX4_isWatched 35 = .ok (.iload_n 2, 1) := dk_28 (dk_at dksX4_isWatched_1 12 rfl rfl)
theorem dX4_isWatched_36 : decode cX4_isWatched 36 = .ok (.iload_n 3, 1) := dk_29 (dk_at dksX4_isWatched_1 13 rfl rfl)
theorem dX4_isWatched_37 : decode cX4_isWatched 37 = .ok (.invokevirtual 146, 3) := dk_182 0 146 (dk_at dksX4_isWatched_1 14 rfl rfl)
theorem dX4_isWatched_40 : decode cX4_isWatched 40 = .ok (.iconst (-1), 1) := dk_2 (dk_at dksX4_isWatched_1 17 rfl rfl)
theorem dX4_isWatched_41 : decode cX4_isWatched 41 = .ok (.if_icmp .eq 7, 3) := dk_159 0 7 (dk_at dksX4_isWatched_1 18 rfl rfl)
theorem dX4_isWatched_44 : decode cX4_isWatched 44 = .ok (.iconst 1, 1) := dk_4 (dk_at dksX4_isWatched_1 21 rfl rfl)
theorem dX4_isWatched_45 : decode cX4_isWatched 45 = .ok (.goto 4, 3) := dk_167 0 4 (dk_at dksX4_isWatched_2 0 rfl rfl)
theorem dX4_isWatched_48 : decode cX4_isWatched 48 = .ok (.iconst 0, 1) := dk_3 (dk_at dksX4_isWatched_2 3 rfl rfl)
theorem dX4_isWatched_49 : decode cX4_isWatched 49 = .ok (.ireturn, 1) := dk_172 (dk_at dksX4_isWatched_2 4 rfl rfl)
abbrev cX4_watcher : ByteArray := prog_24_method_28_code
def yX4_watcher : MethodName := ⟨RX4, "watcher", "(III)I"⟩
def dkwX4_watcher_1 : List UInt8 := [153, 0, 16, 42, 21, 4, 29, 182, 0, 123, 153, 0, 6, 21, 4, 172, 132, 4, 1, 167, 255, 218, 2, 172]
abbrev dktX4_watcher_1 : List UInt8 := dkwX4_watcher_1 ++ []
def dkwX4_watcher_0 : List UInt8 := [3, 54, 4, 21, 4, 42, 180, 0, 9, 6, 46, 162, 0, 33, 42, 21, 4, 27, 28, 182, 0, 120]
abbrev dktX4_watcher_0 : List UInt8 := dkwX4_watcher_0 ++ dktX4_watcher_1
theorem dksX4_watcher_0 : cX4_watcher.data.toList.drop 0 = dktX4_watcher_0 := by decide +kernel
theorem dksX4_watcher_1 : cX4_watcher.data.toList.drop 22 = dktX4_watcher_1 := dk_seg dksX4_watcher_0 22 rfl rfl
theorem dX4_watcher_0 : decode cX4_watcher 0 = .ok (.iconst 0, 1) := dk_3 (dk_at dksX4_watcher_0 0 rfl rfl)
theorem dX4_watcher_1 : decode cX4_watcher 1 = .ok (.istore 4, 2) := dk_54 4 (dk_at dksX4_watcher_0 1 rfl rfl)
theorem dX4_watcher_3 : decode cX4_watcher 3 = .ok (.iload 4, 2) := dk_21 4 (dk_at dksX4_watcher_0 3 rfl rfl)
theorem dX4_watcher_5 : decode cX4_watcher 5 = .ok (.aload_n 0, 1) := dk_42 (dk_at dksX4_watcher_0 5 rfl rfl)
theorem dX4_watcher_6 : decode cX4_watcher 6 = .ok (.getfield 9, 3) := dk_180 0 9 (dk_at dksX4_watcher_0 6 rfl rfl)
theorem dX4_watcher_9 : decode cX4_watcher 9 = .ok (.iconst 3, 1) := dk_6 (dk_at dksX4_watcher_0 9 rfl rfl)
theorem dX4_watcher_10 : decode cX4_watcher 10 = .ok (.iaload, 1) := dk_46 (dk_at dksX4_watcher_0 10 rfl rfl)
theorem dX4_watcher_11 : decode cX4_watcher 11 = .ok (.if_icmp .ge 33, 3) := dk_162 0 33 (dk_at dksX4_watcher_0 11 rfl rfl)
theorem dX4_watcher_14 : decode cX4_watcher 14 = .ok (.aload_n 0, 1) := dk_42 (dk_at dksX4_watcher_0 14 rfl rfl)
theorem dX4_watcher_15 : decode cX4_watcher 15 = .ok (.iload 4, 2) := dk_21 4 (dk_at dksX4_watcher_0 15 rfl rfl)
theorem dX4_watcher_17 : decode cX4_watcher 17 = .ok (.iload_n 1, 1) := dk_27 (dk_at dksX4_watcher_0 17 rfl rfl)
theorem dX4_watcher_18 : decode cX4_watcher 18 = .ok (.iload_n 2, 1) := dk_28 (dk_at dksX4_watcher_0 18 rfl rfl)
theorem dX4_watcher_19 : decode cX4_watcher 19 = .ok (.invokevirtual 120, 3) := dk_182 0 120 (dk_at dksX4_watcher_0 19 rfl rfl)
theorem dX4_watcher_22 : decode cX4_watcher 22 = .ok (.ifCond .eq 16, 3) := dk_153 0 16 (dk_at dksX4_watcher_1 0 rfl rfl)
theorem dX4_watcher_25 : decode cX4_watcher 25 = .ok (.aload_n 0, 1) := dk_42 (dk_at dksX4_watcher_1 3 rfl rfl)
theorem dX4_watcher_26 : decode cX4_watcher 26 = .ok (.iload 4, 2) := dk_21 4 (dk_at dksX4_watcher_1 4 rfl rfl)
theorem dX4_watcher_28 : decode cX4_watcher 28 = .ok (.iload_n 3, 1) := dk_29 (dk_at dksX4_watcher_1 6 rfl rfl)
theorem dX4_watcher_29 : decode cX4_watcher 29 = .ok (.invokevirtual 123, 3) := dk_182 0 123 (dk_at dksX4_watcher_1 7 rfl rfl)
theorem dX4_watcher_32 : decode cX4_watcher 32 = .ok (.ifCond .eq 6, 3) := dk_153 0 6 (dk_at dksX4_watcher_1 10 rfl rfl)
theorem dX4_watcher_35 : decode cX4_watcher 35 = .ok (.iload 4, 2) := dk_21 4 (dk_at dksX4_watcher_1 13 rfl rfl)
theorem dX4_watcher_37 : decode cX4_watcher 37 = .ok (.ireturn, 1) := dk_172 (dk_at dksX4_watcher_1 15 rfl rfl)
theorem dX4_watcher_38 : decode cX4_watcher 38 = .ok (.iinc 4 1, 3) := dk_132 4 1 (dk_at dksX4_watcher_1 16 rfl rfl)
theorem dX4_watcher_41 : decode cX4_watcher 41 = .ok (.goto (-38), 3) := dk_167 255 218 (dk_at dksX4_watcher_1 19 rfl rfl)
theorem dX4_watcher_44 : decode cX4_watcher 44 = .ok (.iconst (-1), 1) := dk_2 (dk_at dksX4_watcher_1 22 rfl rfl)
theorem dX4_watcher_45 : decode cX4_watcher 45 = .ok (.ireturn, 1) := dk_172 (dk_at dksX4_watcher_1 23 rfl rfl)
abbrev cX4_isNear : ByteArray := prog_24_method_27_code
def yX4_isNear : MethodName := ⟨RX4, "isNear", "(III)Z"⟩
def dkwX4_isNear_1 : List UInt8 := [29, 42, 27, 4, 182, 0, 111, 100, 184, 0, 114, 21, 4, 163, 0, 7, 4, 167, 0, 4, 3, 172]
abbrev dktX4_isNear_1 : List UInt8 := dkwX4_isNear_1 ++ []
def dkwX4_isNear_0 : List UInt8 := [42, 27, 5, 182, 0, 111, 54, 4, 28, 42, 27, 3, 182, 0, 111, 100, 184, 0, 114, 21, 4, 163, 0, 23]
abbrev dktX4_isNear_0 : List UInt8 := dkwX4_isNear_0 ++ dktX4_isNear_1
theorem dksX4_isNear_0 : cX4_isNear.data.toList.drop 0 = dktX4_isNear_0 := by decide +kernel
theorem dksX4_isNear_1 : cX4_isNear.data.toList.drop 24 = dktX4_isNear_1 := dk_seg dksX4_isNear_0 24 rfl rfl
theorem dX4_isNear_0 : decode cX4_isNear 0 = .ok (.aload_n 0, 1) := dk_42 (dk_at dksX4_isNear_0 0 rfl rfl)
theorem dX4_isNear_1 : decode cX4_isNear 1 = .ok (.iload_n 1, 1) := dk_27 (dk_at dksX4_isNear_0 1 rfl rfl)
theorem dX4_isNear_2 : decode cX4_isNear 2 = .ok (.iconst 2, 1) := dk_5 (dk_at dksX4_isNear_0 2 rfl rfl)
theorem dX4_isNear_3 : decode cX4_isNear 3 = .ok (.invokevirtual 111, 3) := dk_182 0 111 (dk_at dksX4_isNear_0 3 rfl rfl)
theorem dX4_isNear_6 : decode cX4_isNear 6 = .ok (.istore 4, 2) := dk_54 4 (dk_at dksX4_isNear_0 6 rfl rfl)
theorem dX4_isNear_8 : decode cX4_isNear 8 = .ok (.iload_n 2, 1) := dk_28 (dk_at dksX4_isNear_0 8 rfl rfl)
theorem dX4_isNear_9 : decode cX4_isNear 9 = .ok (.aload_n 0, 1) := dk_42 (dk_at dksX4_isNear_0 9 rfl rfl)
theorem dX4_isNear_10 : decode cX4_isNear 10 = .ok (.iload_n 1, 1) := dk_27 (dk_at dksX4_isNear_0 10 rfl rfl)
theorem dX4_isNear_11 : decode cX4_isNear 11 = .ok (.iconst 0, 1) := dk_3 (dk_at dksX4_isNear_0 11 rfl rfl)
theorem dX4_isNear_12 : decode cX4_isNear 12 = .ok (.invokevirtual 111, 3) := dk_182 0 111 (dk_at dksX4_isNear_0 12 rfl rfl)
theorem dX4_isNear_15 : decode cX4_isNear 15 = .ok (.isub, 1) := dk_100 (dk_at dksX4_isNear_0 15 rfl rfl)
theorem dX4_isNear_16 : decode cX4_isNear 16 = .ok (.invokestatic 114, 3) := dk_184 0 114 (dk_at dksX4_isNear_0 16 rfl rfl)
theorem dX4_isNear_19 : decode cX4_isNear 19 = .ok (.iload 4, 2) := dk_21 4 (dk_at dksX4_isNear_0 19 rfl rfl)
theorem dX4_isNear_21 : decode cX4_isNear 21 = .ok (.if_icmp .gt 23, 3) := dk_163 0 23 (dk_at dksX4_isNear_0 21 rfl rfl)
theorem dX4_isNear_24 : decode cX4_isNear 24 = .ok (.iload_n 3, 1) := dk_29 (dk_at dksX4_isNear_1 0 rfl rfl)
theorem dX4_isNear_25 : decode cX4_isNear 25 = .ok (.aload_n 0, 1) := dk_42 (dk_at dksX4_isNear_1 1 rfl rfl)
theorem dX4_isNear_26 : decode cX4_isNear 26 = .ok (.iload_n 1, 1) := dk_27 (dk_at dksX4_isNear_1 2 rfl rfl)
theorem dX4_isNear_27 : decode cX4_isNear 27 = .ok (.iconst 1, 1) := dk_4 (dk_at dksX4_isNear_1 3 rfl rfl)
theorem dX4_isNear_28 : decode cX4_isNear 28 = .ok (.invokevirtual 111, 3) := dk_182 0 111 (dk_at dksX4_isNear_1 4 rfl rfl)
theorem dX4_isNear_31 : decode cX4_isNear 31 = .ok (.isub, 1) := dk_100 (dk_at dksX4_isNear_1 7 rfl rfl)
theorem dX4_isNear_32 : decode cX4_isNear 32 = .ok (.invokestatic 114, 3) := dk_184 0 114 (dk_at dksX4_isNear_1 8 rfl rfl)
theorem dX4_isNear_35 : decode cX4_isNear 35 = .ok (.iload 4, 2) := dk_21 4 (dk_at dksX4_isNear_1 11 rfl rfl)
theorem dX4_isNear_37 : decode cX4_isNear 37 = .ok (.if_icmp .gt 7, 3) := dk_163 0 7 (dk_at dksX4_isNear_1 13 rfl rfl)
theorem dX4_isNear_40 : decode cX4_isNear 40 = .ok (.iconst 1, 1) := dk_4 (dk_at dksX4_isNear_1 16 rfl rfl)
theorem dX4_isNear_41 : decode cX4_isNear 41 = .ok (.goto 4, 3) := dk_167 0 4 (dk_at dksX4_isNear_1 17 rfl rfl)
theorem dX4_isNear_44 : decode cX4_isNear 44 = .ok (.iconst 0, 1) := dk_3 (dk_at dksX4_isNear_1 20 rfl rfl)
theorem dX4_isNear_45 : decode cX4_isNear 45 = .ok (.ireturn, 1) := dk_172 (dk_at dksX4_isNear_1 21 rfl rfl)
abbrev cX4_distance : ByteArray := prog_24_method_53_code
def yX4_distance : MethodName := ⟨RX4, "distance", "(IIII)I"⟩
def dkwX4_distance_2 : List UInt8 := [17, 3, 232, 160, 0, 7, 2, 167, 0, 14, 42, 180, 0, 26, 16, 12, 28, 104, 27, 96, 46, 172]
abbrev dktX4_distance_2 : List UInt8 := dkwX4_distance_2 ++ []
def dkwX4_distance_1 : List UInt8 := [42, 4, 182, 0, 192, 172, 42, 29, 21, 4, 182, 0, 158, 42, 180, 0, 26, 16, 12, 28, 104, 27, 96, 46]
abbrev dktX4_distance_1 : List UInt8 := dkwX4_distance_1 ++ dktX4_distance_2
def dkwX4_distance_0 : List UInt8 := [42, 3, 181, 0, 77, 42, 27, 28, 182, 0, 94, 153, 0, 13, 42, 29, 21, 4, 182, 0, 94, 154, 0, 9]
abbrev dktX4_distance_0 : List UInt8 := dkwX4_distance_0 ++ dktX4_distance_1
theorem dksX4_distance_0 : cX4_distance.data.toList.drop 0 = dktX4_distance_0 := by decide +kernel
theorem dksX4_distance_1 : cX4_distance.data.toList.drop 24 = dktX4_distance_1 := dk_seg dksX4_distance_0 24 rfl rfl
theorem dksX4_distance_2 : cX4_distance.data.toList.drop 48 = dktX4_distance_2 := dk_seg dksX4_distance_1 24 rfl rfl
theorem dX4_distance_0 : decode cX4_distance 0 = .ok (.aload_n 0, 1) := dk_42 (dk_at dksX4_distance_0 0 rfl rfl)
theorem dX4_distance_1 : decode cX4_distance 1 = .ok (.iconst 0, 1) := dk_3 (dk_at dksX4_distance_0 1 rfl rfl)
theorem dX4_distance_2 : decode cX4_distance 2 = .ok (.putfield 77, 3) := dk_181 0 77 (dk_at dksX4_distance_0 2 rfl rfl)
theorem dX4_distance_5 : decode cX4_distance 5 = .ok (.aload_n 0, 1) := dk_42 (dk_at dksX4_distance_0 5 rfl rfl)
theorem dX4_distance_6 : decode cX4_distance 6 = .ok (.iload_n 1, 1) := dk_27 (dk_at dksX4_distance_0 6 rfl rfl)
theorem dX4_distance_7 : decode cX4_distance 7 = .ok (.iload_n 2, 1) := dk_28 (dk_at dksX4_distance_0 7 rfl rfl)
theorem dX4_distance_8 : decode cX4_distance 8 = .ok (.invokevirtual 94, 3) := dk_182 0 94 (dk_at dksX4_distance_0 8 rfl rfl)
theorem dX4_distance_11 : decode cX4_distance 11 = .ok (.ifCond .eq 13, 3) := dk_153 0 13 (dk_at dksX4_distance_0 11 rfl rfl)
theorem dX4_distance_14 : decode cX4_distance 14 = .ok (.aload_n 0, 1) := dk_42 (dk_at dksX4_distance_0 14 rfl rfl)
theorem dX4_distance_15 : decode cX4_distance 15 = .ok (.iload_n 3, 1) := dk_29 (dk_at dksX4_distance_0 15 rfl rfl)
theorem dX4_distance_16 : decode cX4_distance 16 = .ok (.iload 4, 2) := dk_21 4 (dk_at dksX4_distance_0 16 rfl rfl)
theorem dX4_distance_18 : decode cX4_distance 18 = .ok (.invokevirtual 94, 3) := dk_182 0 94 (dk_at dksX4_distance_0 18 rfl rfl)
theorem dX4_distance_21 : decode cX4_distance 21 = .ok (.ifCond .ne 9, 3) := dk_154 0 9 (dk_at dksX4_distance_0 21 rfl rfl)
theorem dX4_distance_24 : decode cX4_distance 24 = .ok (.aload_n 0, 1) := dk_42 (dk_at dksX4_distance_1 0 rfl rfl)
theorem dX4_distance_25 : decode cX4_distance 25 = .ok (.iconst 1, 1) := dk_4 (dk_at dksX4_distance_1 1 rfl rfl)
theorem dX4_distance_26 : decode cX4_distance 26 = .ok (.invokevirtual 192, 3) := dk_182 0 192 (dk_at dksX4_distance_1 2 rfl rfl)
theorem dX4_distance_29 : decode cX4_distance 29 = .ok (.ireturn, 1) := dk_172 (dk_at dksX4_distance_1 5 rfl rfl)
theorem dX4_distance_30 : decode cX4_distance 30 = .ok (.aload_n 0, 1) := dk_42 (dk_at dksX4_distance_1 6 rfl rfl)
theorem dX4_distance_31 : decode cX4_distance 31 = .ok (.iload_n 3, 1) := dk_29 (dk_at dksX4_distance_1 7 rfl rfl)
theorem dX4_distance_32 : decode cX4_distance 32 = .ok (.iload 4, 2) := dk_21 4 (dk_at dksX4_distance_1 8 rfl rfl)
theorem dX4_distance_34 : decode cX4_distance 34 = .ok (.invokevirtual 158, 3) := dk_182 0 158 (dk_at dksX4_distance_1 10 rfl rfl)
theorem dX4_distance_37 : decode cX4_distance 37 = .ok (.aload_n 0, 1) := dk_42 (dk_at dksX4_distance_1 13 rfl rfl)
theorem dX4_distance_38 : decode cX4_distance 38 = .ok (.getfield 26, 3) := dk_180 0 26 (dk_at dksX4_distance_1 14 rfl rfl)
theorem dX4_distance_41 : decode cX4_distance 41 = .ok (.bipush 12, 2) := dk_16 12 (dk_at dksX4_distance_1 17 rfl rfl)
theorem dX4_distance_43 : decode cX4_distance 43 = .ok (.iload_n 2, 1) := dk_28 (dk_at dksX4_distance_1 19 rfl rfl)
theorem dX4_distance_44 : decode cX4_distance 44 = .ok (.imul, 1) := dk_104 (dk_at dksX4_distance_1 20 rfl rfl)
theorem dX4_distance_45 : decode cX4_distance 45 = .ok (.iload_n 1, 1) := dk_27 (dk_at dksX4_distance_1 21 rfl rfl)
theorem dX4_distance_46 : decode cX4_distance 46 = .ok (.iadd, 1) := dk_96 (dk_at dksX4_distance_1 22 rfl rfl)
theorem dX4_distance_47 : decode cX4_distance 47 = .ok (.iaload, 1) := dk_46 (dk_at dksX4_distance_1 23 rfl rfl)
theorem dX4_distance_48 : decode cX4_distance 48 = .ok (.sipush 1000, 3) := dk_17 3 232 (dk_at dksX4_distance_2 0 rfl rfl)
theorem dX4_distance_51 : decode cX4_distance 51 = .ok (.if_icmp .ne 7, 3) := dk_160 0 7 (dk_at dksX4_distance_2 3 rfl rfl)
theorem dX4_distance_54 : decode cX4_distance 54 = .ok (.iconst (-1), 1) := dk_2 (dk_at dksX4_distance_2 6 rfl rfl)
theorem dX4_distance_55 : decode cX4_distance 55 = .ok (.goto 14, 3) := dk_167 0 14 (dk_at dksX4_distance_2 7 rfl rfl)
theorem dX4_distance_58 : decode cX4_distance 58 = .ok (.aload_n 0, 1) := dk_42 (dk_at dksX4_distance_2 10 rfl rfl)
theorem dX4_distance_59 : decode cX4_distance 59 = .ok (.getfield 26, 3) := dk_180 0 26 (dk_at dksX4_distance_2 11 rfl rfl)
theorem dX4_distance_62 : decode cX4_distance 62 = .ok (.bipush 12, 2) := dk_16 12 (dk_at dksX4_distance_2 14 rfl rfl)
theorem dX4_distance_64 : decode cX4_distance 64 = .ok (.iload_n 2, 1) := dk_28 (dk_at dksX4_distance_2 16 rfl rfl)
theorem dX4_distance_65 : decode cX4_distance 65 = .ok (.imul, 1) := dk_104 (dk_at dksX4_distance_2 17 rfl rfl)
theorem dX4_distance_66 : decode cX4_distance 66 = .ok (.iload_n 1, 1) := dk_27 (dk_at dksX4_distance_2 18 rfl rfl)
theorem dX4_distance_67 : decode cX4_distance 67 = .ok (.iadd, 1) := dk_96 (dk_at dksX4_distance_2 19 rfl rfl)
theorem dX4_distance_68 : decode cX4_distance 68 = .ok (.iaload, 1) := dk_46 (dk_at dksX4_distance_2 20 rfl rfl)
theorem dX4_distance_69 : decode cX4_distance 69 = .ok (.ireturn, 1) := dk_172 (dk_at dksX4_distance_2 21 rfl rfl)
abbrev cX4_layFar : ByteArray := prog_24_method_23_code
def yX4_layFar : MethodName := ⟨RX4, "layFar", "(II)V"⟩
def dkwX4_layFar_3 : List UInt8 := [180, 0, 29, 21, 4, 46, 29, 182, 0, 104, 62, 132, 4, 1, 167, 255, 234, 177]
abbrev dktX4_layFar_3 : List UInt8 := dkwX4_layFar_3 ++ []
def dkwX4_layFar_2 : List UInt8 := [180, 0, 29, 3, 16, 12, 28, 104, 27, 96, 79, 4, 62, 3, 54, 4, 21, 4, 29, 162, 0, 22, 42, 42]
abbrev dktX4_layFar_2 : List UInt8 := dkwX4_layFar_2 ++ dktX4_layFar_3
def dkwX4_layFar_1 : List UInt8 := [42, 27, 28, 182, 0, 101, 154, 0, 4, 177, 42, 180, 0, 26, 16, 12, 28, 104, 27, 96, 3, 79, 42]
abbrev dktX4_layFar_1 : List UInt8 := dkwX4_layFar_1 ++ dktX4_layFar_2
def dkwX4_layFar_0 : List UInt8 := [3, 62, 29, 17, 0, 144, 162, 0, 18, 42, 180, 0, 26, 29, 17, 3, 232, 79, 132, 3, 1, 167, 255, 237]
abbrev dktX4_layFar_0 : List UInt8 := dkwX4_layFar_0 ++ dktX4_layFar_1
theorem dksX4_layFar_0 : cX4_layFar.data.toList.drop 0 = dktX4_layFar_0 := by decide +kernel
theorem dksX4_layFar_1 : cX4_layFar.data.toList.drop 24 = dktX4_layFar_1 := dk_seg dksX4_layFar_0 24 rfl rfl
theorem dksX4_layFar_2 : cX4_layFar.data.toList.drop 47 = dktX4_layFar_2 := dk_seg dksX4_layFar_1 23 rfl rfl
theorem dksX4_layFar_3 : cX4_layFar.data.toList.drop 71 = dktX4_layFar_3 := dk_seg dksX4_layFar_2 24 rfl rfl
theorem dX4_layFar_0 : decode cX4_layFar 0 = .ok (.iconst 0, 1) := dk_3 (dk_at dksX4_layFar_0 0 rfl rfl)
theorem dX4_layFar_1 : decode cX4_layFar 1 = .ok (.istore_n 3, 1) := dk_62 (dk_at dksX4_layFar_0 1 rfl rfl)
theorem dX4_layFar_2 : decode cX4_layFar 2 = .ok (.iload_n 3, 1) := dk_29 (dk_at dksX4_layFar_0 2 rfl rfl)
theorem dX4_layFar_3 : decode cX4_layFar 3 = .ok (.sipush 144, 3) := dk_17 0 144 (dk_at dksX4_layFar_0 3 rfl rfl)
theorem dX4_layFar_6 : decode cX4_layFar 6 = .ok (.if_icmp .ge 18, 3) := dk_162 0 18 (dk_at dksX4_layFar_0 6 rfl rfl)
theorem dX4_layFar_9 : decode cX4_layFar 9 = .ok (.aload_n 0, 1) := dk_42 (dk_at dksX4_layFar_0 9 rfl rfl)
theorem dX4_layFar_10 : decode cX4_layFar 10 = .ok (.getfield 26, 3) := dk_180 0 26 (dk_at dksX4_layFar_0 10 rfl rfl)
theorem dX4_layFar_13 : decode cX4_layFar 13 = .ok (.iload_n 3, 1) := dk_29 (dk_at dksX4_layFar_0 13 rfl rfl)
theorem dX4_layFar_14 : decode cX4_layFar 14 = .ok (.sipush 1000, 3) := dk_17 3 232 (dk_at dksX4_layFar_0 14 rfl rfl)
theorem dX4_layFar_17 : decode cX4_layFar 17 = .ok (.iastore, 1) := dk_79 (dk_at dksX4_layFar_0 17 rfl rfl)
theorem dX4_layFar_18 : decode cX4_layFar 18 = .ok (.iinc 3 1, 3) := dk_132 3 1 (dk_at dksX4_layFar_0 18 rfl rfl)
theorem dX4_layFar_21 : decode cX4_layFar 21 = .ok (.goto (-19), 3) := dk_167 255 237 (dk_at dksX4_layFar_0 21 rfl rfl)
theorem dX4_layFar_24 : decode cX4_layFar 24 = .ok (.aload_n 0, 1) := dk_42 (dk_at dksX4_layFar_1 0 rfl rfl)
theorem dX4_layFar_25 : decode cX4_layFar 25 = .ok (.iload_n 1, 1) := dk_27 (dk_at dksX4_layFar_1 1 rfl rfl)
theorem dX4_layFar_26 : decode cX4_layFar 26 = .ok (.iload_n 2, 1) := dk_28 (dk_at dksX4_layFar_1 2 rfl rfl)
theorem dX4_layFar_27 : decode cX4_layFar 27 = .ok (.invokevirtual 101, 3) := dk_182 0 101 (dk_at dksX4_layFar_1 3 rfl rfl)
theorem dX4_layFar_30 : decode cX4_layFar 30 = .ok (.ifCond .ne 4, 3) := dk_154 0 4 (dk_at dksX4_layFar_1 6 rfl rfl)
theorem dX4_layFar_33 : decode cX4_layFar 33 = .ok (.return_, 1) := dk_177 (dk_at dksX4_layFar_1 9 rfl rfl)
theorem dX4_layFar_34 : decode cX4_layFar 34 = .ok (.aload_n 0, 1) := dk_42 (dk_at dksX4_layFar_1 10 rfl rfl)
theorem dX4_layFar_35 : decode cX4_layFar 35 = .ok (.getfield 26, 3) := dk_180 0 26 (dk_at dksX4_layFar_1 11 rfl rfl)
theorem dX4_layFar_38 : decode cX4_layFar 38 = .ok (.bipush 12, 2) := dk_16 12 (dk_at dksX4_layFar_1 14 rfl rfl)
theorem dX4_layFar_40 : decode cX4_layFar 40 = .ok (.iload_n 2, 1) := dk_28 (dk_at dksX4_layFar_1 16 rfl rfl)
theorem dX4_layFar_41 : decode cX4_layFar 41 = .ok (.imul, 1) := dk_104 (dk_at dksX4_layFar_1 17 rfl rfl)
theorem dX4_layFar_42 : decode cX4_layFar 42 = .ok (.iload_n 1, 1) := dk_27 (dk_at dksX4_layFar_1 18 rfl rfl)
theorem dX4_layFar_43 : decode cX4_layFar 43 = .ok (.iadd, 1) := dk_96 (dk_at dksX4_layFar_1 19 rfl rfl)
theorem dX4_layFar_44 : decode cX4_layFar 44 = .ok (.iconst 0, 1) := dk_3 (dk_at dksX4_layFar_1 20 rfl rfl)
theorem dX4_layFar_45 : decode cX4_layFar 45 = .ok (.iastore, 1) := dk_79 (dk_at dksX4_layFar_1 21 rfl rfl)
theorem dX4_layFar_46 : decode cX4_layFar 46 = .ok (.aload_n 0, 1) := dk_42 (dk_at dksX4_layFar_1 22 rfl rfl)
theorem dX4_layFar_47 : decode cX4_layFar 47 = .ok (.getfield 29, 3) := dk_180 0 29 (dk_at dksX4_layFar_2 0 rfl rfl)
theorem dX4_layFar_50 : decode cX4_layFar 50 = .ok (.iconst 0, 1) := dk_3 (dk_at dksX4_layFar_2 3 rfl rfl)
theorem dX4_layFar_51 : decode cX4_layFar 51 = .ok (.bipush 12, 2) := dk_16 12 (dk_at dksX4_layFar_2 4 rfl rfl)
theorem dX4_layFar_53 : decode cX4_layFar 53 = .ok (.iload_n 2, 1) := dk_28 (dk_at dksX4_layFar_2 6 rfl rfl)
theorem dX4_layFar_54 : decode cX4_layFar 54 = .ok (.imul, 1) := dk_104 (dk_at dksX4_layFar_2 7 rfl rfl)
theorem dX4_layFar_55 : decode cX4_layFar 55 = .ok (.iload_n 1, 1) := dk_27 (dk_at dksX4_layFar_2 8 rfl rfl)
theorem dX4_layFar_56 : decode cX4_layFar 56 = .ok (.iadd, 1) := dk_96 (dk_at dksX4_layFar_2 9 rfl rfl)
theorem dX4_layFar_57 : decode cX4_layFar 57 = .ok (.iastore, 1) := dk_79 (dk_at dksX4_layFar_2 10 rfl rfl)
theorem dX4_layFar_58 : decode cX4_layFar 58 = .ok (.iconst 1, 1) := dk_4 (dk_at dksX4_layFar_2 11 rfl rfl)
theorem dX4_layFar_59 : decode cX4_layFar 59 = .ok (.istore_n 3, 1) := dk_62 (dk_at dksX4_layFar_2 12 rfl rfl)
theorem dX4_layFar_60 : decode cX4_layFar 60 = .ok (.iconst 0, 1) := dk_3 (dk_at dksX4_layFar_2 13 rfl rfl)
theorem dX4_layFar_61 : decode cX4_layFar 61 = .ok (.istore 4, 2) := dk_54 4 (dk_at dksX4_layFar_2 14 rfl rfl)
theorem dX4_layFar_63 : decode cX4_layFar 63 = .ok (.iload 4, 2) := dk_21 4 (dk_at dksX4_layFar_2 16 rfl rfl)
theorem dX4_layFar_65 : decode cX4_layFar 65 = .ok (.iload_n 3, 1) := dk_29 (dk_at dksX4_layFar_2 18 rfl rfl)
theorem dX4_layFar_66 : decode cX4_layFar 66 = .ok (.if_icmp .ge 22, 3) := dk_162 0 22 (dk_at dksX4_layFar_2 19 rfl rfl)
theorem dX4_layFar_69 : decode cX4_layFar 69 = .ok (.aload_n 0, 1) := dk_42 (dk_at dksX4_layFar_2 22 rfl rfl)
theorem dX4_layFar_70 : decode cX4_layFar 70 = .ok (.aload_n 0, 1) := dk_42 (dk_at dksX4_layFar_2 23 rfl rfl)
theorem dX4_layFar_71 : decode cX4_layFar 71 = .ok (.getfield 29, 3) := dk_180 0 29 (dk_at dksX4_layFar_3 0 rfl rfl)
theorem dX4_layFar_74 : decode cX4_layFar 74 = .ok (.iload 4, 2) := dk_21 4 (dk_at dksX4_layFar_3 3 rfl rfl)
theorem dX4_layFar_76 : decode cX4_layFar 76 = .ok (.iaload, 1) := dk_46 (dk_at dksX4_layFar_3 5 rfl rfl)
theorem dX4_layFar_77 : decode cX4_layFar 77 = .ok (.iload_n 3, 1) := dk_29 (dk_at dksX4_layFar_3 6 rfl rfl)
theorem dX4_layFar_78 : decode cX4_layFar 78 = .ok (.invokevirtual 104, 3) := dk_182 0 104 (dk_at dksX4_layFar_3 7 rfl rfl)
theorem dX4_layFar_81 : decode cX4_layFar 81 = .ok (.istore_n 3, 1) := dk_62 (dk_at dksX4_layFar_3 10 rfl rfl)
theorem dX4_layFar_82 : decode cX4_layFar 82 = .ok (.iinc 4 1, 3) := dk_132 4 1 (dk_at dksX4_layFar_3 11 rfl rfl)
theorem dX4_layFar_85 : decode cX4_layFar 85 = .ok (.goto (-22), 3) := dk_167 255 234 (dk_at dksX4_layFar_3 14 rfl rfl)
theorem dX4_layFar_88 : decode cX4_layFar 88 = .ok (.return_, 1) := dk_177 (dk_at dksX4_layFar_3 17 rfl rfl)
abbrev cX4_spread : ByteArray := prog_24_method_24_code
def yX4_spread : MethodName := ⟨RX4, "spread", "(II)I"⟩
def dkwX4_spread_4 : List UInt8 := [21, 6, 104, 21, 5, 96, 79, 132, 3, 1, 132, 4, 1, 167, 255, 153, 29, 172]
abbrev dktX4_spread_4 : List UInt8 := dkwX4_spread_4 ++ []
def dkwX4_spread_3 : List UInt8 := [16, 12, 21, 6, 104, 21, 5, 96, 42, 180, 0, 26, 27, 46, 4, 96, 79, 42, 180, 0, 29, 29, 16, 12]
abbrev dktX4_spread_3 : List UInt8 := dkwX4_spread_3 ++ dktX4_spread_4
def dkwX4_spread_2 : List UInt8 := [42, 180, 0, 26, 16, 12, 21, 6, 104, 21, 5, 96, 46, 17, 3, 232, 160, 0, 41, 42, 180, 0, 26]
abbrev dktX4_spread_2 : List UInt8 := dkwX4_spread_2 ++ dktX4_spread_3
def dkwX4_spread_1 : List UInt8 := [27, 16, 12, 108, 21, 4, 3, 184, 0, 107, 96, 54, 6, 42, 21, 5, 21, 6, 182, 0, 101, 153, 0, 60]
abbrev dktX4_spread_1 : List UInt8 := dkwX4_spread_1 ++ dktX4_spread_2
def dkwX4_spread_0 : List UInt8 := [28, 62, 3, 54, 4, 21, 4, 7, 162, 0, 103, 27, 16, 12, 112, 21, 4, 4, 184, 0, 107, 96, 54, 5]
abbrev dktX4_spread_0 : List UInt8 := dkwX4_spread_0 ++ dktX4_spread_1
theorem dksX4_spread_0 : cX4_spread.data.toList.drop 0 = dktX4_spread_0 := by decide +kernel
theorem dksX4_spread_1 : cX4_spread.data.toList.drop 24 = dktX4_spread_1 := dk_seg dksX4_spread_0 24 rfl rfl
theorem dksX4_spread_2 : cX4_spread.data.toList.drop 48 = dktX4_spread_2 := dk_seg dksX4_spread_1 24 rfl rfl
theorem dksX4_spread_3 : cX4_spread.data.toList.drop 71 = dktX4_spread_3 := dk_seg dksX4_spread_2 23 rfl rfl
theorem dksX4_spread_4 : cX4_spread.data.toList.drop 95 = dktX4_spread_4 := dk_seg dksX4_spread_3 24 rfl rfl
theorem dX4_spread_0 : decode cX4_spread 0 = .ok (.iload_n 2, 1) := dk_28 (dk_at dksX4_spread_0 0 rfl rfl)
theorem dX4_spread_1 : decode cX4_spread 1 = .ok (.istore_n 3, 1) := dk_62 (dk_at dksX4_spread_0 1 rfl rfl)
theorem dX4_spread_2 : decode cX4_spread 2 = .ok (.iconst 0, 1) := dk_3 (dk_at dksX4_spread_0 2 rfl rfl)
theorem dX4_spread_3 : decode cX4_spread 3 = .ok (.istore 4, 2) := dk_54 4 (dk_at dksX4_spread_0 3 rfl rfl)
theorem dX4_spread_5 : decode cX4_spread 5 = .ok (.iload 4, 2) := dk_21 4 (dk_at dksX4_spread_0 5 rfl rfl)
theorem dX4_spread_7 : decode cX4_spread 7 = .ok (.iconst 4, 1) := dk_7 (dk_at dksX4_spread_0 7 rfl rfl)
theorem dX4_spread_8 : decode cX4_spread 8 = .ok (.if_icmp .ge 103, 3) := dk_162 0 103 (dk_at dksX4_spread_0 8 rfl rfl)
theorem dX4_spread_11 : decode cX4_spread 11 = .ok (.iload_n 1, 1) := dk_27 (dk_at dksX4_spread_0 11 rfl rfl)
theorem dX4_spread_12 : decode cX4_spread 12 = .ok (.bipush 12, 2) := dk_16 12 (dk_at dksX4_spread_0 12 rfl rfl)
theorem dX4_spread_14 : decode cX4_spread 14 = .ok (.irem, 1) := dk_112 (dk_at dksX4_spread_0 14 rfl rfl)
theorem dX4_spread_15 : decode cX4_spread 15 = .ok (.iload 4, 2) := dk_21 4 (dk_at dksX4_spread_0 15 rfl rfl)
theorem dX4_spread_17 : decode cX4_spread 17 = .ok (.iconst 1, 1) := dk_4 (dk_at dksX4_spread_0 17 rfl rfl)
theorem dX4_spread_18 : decode cX4_spread 18 = .ok (.invokestatic 107, 3) := dk_184 0 107 (dk_at dksX4_spread_0 18 rfl rfl)
theorem dX4_spread_21 : decode cX4_spread 21 = .ok (.iadd, 1) := dk_96 (dk_at dksX4_spread_0 21 rfl rfl)
theorem dX4_spread_22 : decode cX4_spread 22 = .ok (.istore 5, 2) := dk_54 5 (dk_at dksX4_spread_0 22 rfl rfl)
theorem dX4_spread_24 : decode cX4_spread 24 = .ok (.iload_n 1, 1) := dk_27 (dk_at dksX4_spread_1 0 rfl rfl)
theorem dX4_spread_25 : decode cX4_spread 25 = .ok (.bipush 12, 2) := dk_16 12 (dk_at dksX4_spread_1 1 rfl rfl)
theorem dX4_spread_27 : decode cX4_spread 27 = .ok (.idiv, 1) := dk_108 (dk_at dksX4_spread_1 3 rfl rfl)
theorem dX4_spread_28 : decode cX4_spread 28 = .ok (.iload 4, 2) := dk_21 4 (dk_at dksX4_spread_1 4 rfl rfl)
theorem dX4_spread_30 : decode cX4_spread 30 = .ok (.iconst 0, 1) := dk_3 (dk_at dksX4_spread_1 6 rfl rfl)
theorem dX4_spread_31 : decode cX4_spread 31 = .ok (.invokestatic 107, 3) := dk_184 0 107 (dk_at dksX4_spread_1 7 rfl rfl)
theorem dX4_spread_34 : decode cX4_spread 34 = .ok (.iadd, 1) := dk_96 (dk_at dksX4_spread_1 10 rfl rfl)
theorem dX4_spread_35 : decode cX4_spread 35 = .ok (.istore 6, 2) := dk_54 6 (dk_at dksX4_spread_1 11 rfl rfl)
theorem dX4_spread_37 : decode cX4_spread 37 = .ok (.aload_n 0, 1) := dk_42 (dk_at dksX4_spread_1 13 rfl rfl)
theorem dX4_spread_38 : decode cX4_spread 38 = .ok (.iload 5, 2) := dk_21 5 (dk_at dksX4_spread_1 14 rfl rfl)
theorem dX4_spread_40 : decode cX4_spread 40 = .ok (.iload 6, 2) := dk_21 6 (dk_at dksX4_spread_1 16 rfl rfl)
theorem dX4_spread_42 : decode cX4_spread 42 = .ok (.invokevirtual 101, 3) := dk_182 0 101 (dk_at dksX4_spread_1 18 rfl rfl)
theorem dX4_spread_45 : decode cX4_spread 45 = .ok (.ifCond .eq 60, 3) := dk_153 0 60 (dk_at dksX4_spread_1 21 rfl rfl)
theorem dX4_spread_48 : decode cX4_spread 48 = .ok (.aload_n 0, 1) := dk_42 (dk_at dksX4_spread_2 0 rfl rfl)
theorem dX4_spread_49 : decode cX4_spread 49 = .ok (.getfield 26, 3) := dk_180 0 26 (dk_at dksX4_spread_2 1 rfl rfl)
theorem dX4_spread_52 : decode cX4_spread 52 = .ok (.bipush 12, 2) := dk_16 12 (dk_at dksX4_spread_2 4 rfl rfl)
theorem dX4_spread_54 : decode cX4_spread 54 = .ok (.iload 6, 2) := dk_21 6 (dk_at dksX4_spread_2 6 rfl rfl)
theorem dX4_spread_56 : decode cX4_spread 56 = .ok (.imul, 1) := dk_104 (dk_at dksX4_spread_2 8 rfl rfl)
theorem dX4_spread_57 : decode cX4_spread 57 = .ok (.iload 5, 2) := dk_21 5 (dk_at dksX4_spread_2 9 rfl rfl)
theorem dX4_spread_59 : decode cX4_spread 59 = .ok (.iadd, 1) := dk_96 (dk_at dksX4_spread_2 11 rfl rfl)
theorem dX4_spread_60 : decode cX4_spread 60 = .ok (.iaload, 1) := dk_46 (dk_at dksX4_spread_2 12 rfl rfl)
theorem dX4_spread_61 : decode cX4_spread 61 = .ok (.sipush 1000, 3) := dk_17 3 232 (dk_at dksX4_spread_2 13 rfl rfl)
theorem dX4_spread_64 : decode cX4_spread 64 = .ok (.if_icmp .ne 41, 3) := dk_160 0 41 (dk_at dksX4_spread_2 16 rfl rfl)
theorem dX4_spread_67 : decode cX4_spread 67 = .ok (.aload_n 0, 1) := dk_42 (dk_at dksX4_spread_2 19 rfl rfl)
theorem dX4_spread_68 : decode cX4_spread 68 = .ok (.getfield 26, 3) := dk_180 0 26 (dk_at dksX4_spread_2 20 rfl rfl)
theorem dX4_spread_71 : decode cX4_spread 71 = .ok (.bipush 12, 2) := dk_16 12 (dk_at dksX4_spread_3 0 rfl rfl)
theorem dX4_spread_73 : decode cX4_spread 73 = .ok (.iload 6, 2) := dk_21 6 (dk_at dksX4_spread_3 2 rfl rfl)
theorem dX4_spread_75 : decode cX4_spread 75 = .ok (.imul, 1) := dk_104 (dk_at dksX4_spread_3 4 rfl rfl)
theorem dX4_spread_76 : decode cX4_spread 76 = .ok (.iload 5, 2) := dk_21 5 (dk_at dksX4_spread_3 5 rfl rfl)
theorem dX4_spread_78 : decode cX4_spread 78 = .ok (.iadd, 1) := dk_96 (dk_at dksX4_spread_3 7 rfl rfl)
theorem dX4_spread_79 : decode cX4_spread 79 = .ok (.aload_n 0, 1) := dk_42 (dk_at dksX4_spread_3 8 rfl rfl)
theorem dX4_spread_80 : decode cX4_spread 80 = .ok (.getfield 26, 3) := dk_180 0 26 (dk_at dksX4_spread_3 9 rfl rfl)
theorem dX4_spread_83 : decode cX4_spread 83 = .ok (.iload_n 1, 1) := dk_27 (dk_at dksX4_spread_3 12 rfl rfl)
theorem dX4_spread_84 : decode cX4_spread 84 = .ok (.iaload, 1) := dk_46 (dk_at dksX4_spread_3 13 rfl rfl)
theorem dX4_spread_85 : decode cX4_spread 85 = .ok (.iconst 1, 1) := dk_4 (dk_at dksX4_spread_3 14 rfl rfl)
theorem dX4_spread_86 : decode cX4_spread 86 = .ok (.iadd, 1) := dk_96 (dk_at dksX4_spread_3 15 rfl rfl)
theorem dX4_spread_87 : decode cX4_spread 87 = .ok (.iastore, 1) := dk_79 (dk_at dksX4_spread_3 16 rfl rfl)
theorem dX4_spread_88 : decode cX4_spread 88 = .ok (.aload_n 0, 1) := dk_42 (dk_at dksX4_spread_3 17 rfl rfl)
theorem dX4_spread_89 : decode cX4_spread 89 = .ok (.getfield 29, 3) := dk_180 0 29 (dk_at dksX4_spread_3 18 rfl rfl)
theorem dX4_spread_92 : decode cX4_spread 92 = .ok (.iload_n 3, 1) := dk_29 (dk_at dksX4_spread_3 21 rfl rfl)
theorem dX4_spread_93 : decode cX4_spread 93 = .ok (.bipush 12, 2) := dk_16 12 (dk_at dksX4_spread_3 22 rfl rfl)
theorem dX4_spread_95 : decode cX4_spread 95 = .ok (.iload 6, 2) := dk_21 6 (dk_at dksX4_spread_4 0 rfl rfl)
theorem dX4_spread_97 : decode cX4_spread 97 = .ok (.imul, 1) := dk_104 (dk_at dksX4_spread_4 2 rfl rfl)
theorem dX4_spread_98 : decode cX4_spread 98 = .ok (.iload 5, 2) := dk_21 5 (dk_at dksX4_spread_4 3 rfl rfl)
theorem dX4_spread_100 : decode cX4_spread 100 = .ok (.iadd, 1) := dk_96 (dk_at dksX4_spread_4 5 rfl rfl)
theorem dX4_spread_101 : decode cX4_spread 101 = .ok (.iastore, 1) := dk_79 (dk_at dksX4_spread_4 6 rfl rfl)
theorem dX4_spread_102 : decode cX4_spread 102 = .ok (.iinc 3 1, 3) := dk_132 3 1 (dk_at dksX4_spread_4 7 rfl rfl)
theorem dX4_spread_105 : decode cX4_spread 105 = .ok (.iinc 4 1, 3) := dk_132 4 1 (dk_at dksX4_spread_4 10 rfl rfl)
theorem dX4_spread_108 : decode cX4_spread 108 = .ok (.goto (-103), 3) := dk_167 255 153 (dk_at dksX4_spread_4 13 rfl rfl)
theorem dX4_spread_111 : decode cX4_spread 111 = .ok (.iload_n 3, 1) := dk_29 (dk_at dksX4_spread_4 16 rfl rfl)
theorem dX4_spread_112 : decode cX4_spread 112 = .ok (.ireturn, 1) := dk_172 (dk_at dksX4_spread_4 17 rfl rfl)
abbrev cX4_beside : ByteArray := prog_24_method_22_code
def yX4_beside : MethodName := ⟨RX4, "beside", "(IZ)I"⟩
def dkwX4_beside_1 : List UInt8 := [26, 154, 0, 7, 2, 167, 0, 13, 26, 5, 160, 0, 7, 4, 167, 0, 4, 3, 172]
abbrev dktX4_beside_1 : List UInt8 := dkwX4_beside_1 ++ []
def dkwX4_beside_0 : List UInt8 := [27, 153, 0, 23, 26, 4, 160, 0, 7, 4, 167, 0, 13, 26, 6, 160, 0, 7, 2, 167, 0, 4, 3, 172]
abbrev dktX4_beside_0 : List UInt8 := dkwX4_beside_0 ++ dktX4_beside_1
theorem dksX4_beside_0 : cX4_beside.data.toList.drop 0 = dktX4_beside_0 := by decide +kernel
theorem dksX4_beside_1 : cX4_beside.data.toList.drop 24 = dktX4_beside_1 := dk_seg dksX4_beside_0 24 rfl rfl
theorem dX4_beside_0 : decode cX4_beside 0 = .ok (.iload_n 1, 1) := dk_27 (dk_at dksX4_beside_0 0 rfl rfl)
theorem dX4_beside_1 : decode cX4_beside 1 = .ok (.ifCond .eq 23, 3) := dk_153 0 23 (dk_at dksX4_beside_0 1 rfl rfl)
theorem dX4_beside_4 : decode cX4_beside 4 = .ok (.iload_n 0, 1) := dk_26 (dk_at dksX4_beside_0 4 rfl rfl)
theorem dX4_beside_5 : decode cX4_beside 5 = .ok (.iconst 1, 1) := dk_4 (dk_at dksX4_beside_0 5 rfl rfl)
theorem dX4_beside_6 : decode cX4_beside 6 = .ok (.if_icmp .ne 7, 3) := dk_160 0 7 (dk_at dksX4_beside_0 6 rfl rfl)
theorem dX4_beside_9 : decode cX4_beside 9 = .ok (.iconst 1, 1) := dk_4 (dk_at dksX4_beside_0 9 rfl rfl)
theorem dX4_beside_10 : decode cX4_beside 10 = .ok (.goto 13, 3) := dk_167 0 13 (dk_at dksX4_beside_0 10 rfl rfl)
theorem dX4_beside_13 : decode cX4_beside 13 = .ok (.iload_n 0, 1) := dk_26 (dk_at dksX4_beside_0 13 rfl rfl)
theorem dX4_beside_14 : decode cX4_beside 14 = .ok (.iconst 3, 1) := dk_6 (dk_at dksX4_beside_0 14 rfl rfl)
theorem dX4_beside_15 : decode cX4_beside 15 = .ok (.if_icmp .ne 7, 3) := dk_160 0 7 (dk_at dksX4_beside_0 15 rfl rfl)
theorem dX4_beside_18 : decode cX4_beside 18 = .ok (.iconst (-1), 1) := dk_2 (dk_at dksX4_beside_0 18 rfl rfl)
theorem dX4_beside_19 : decode cX4_beside 19 = .ok (.goto 4, 3) := dk_167 0 4 (dk_at dksX4_beside_0 19 rfl rfl)
theorem dX4_beside_22 : decode cX4_beside 22 = .ok (.iconst 0, 1) := dk_3 (dk_at dksX4_beside_0 22 rfl rfl)
theorem dX4_beside_23 : decode cX4_beside 23 = .ok (.ireturn, 1) := dk_172 (dk_at dksX4_beside_0 23 rfl rfl)
theorem dX4_beside_24 : decode cX4_beside 24 = .ok (.iload_n 0, 1) := dk_26 (dk_at dksX4_beside_1 0 rfl rfl)
theorem dX4_beside_25 : decode cX4_beside 25 = .ok (.ifCond .ne 7, 3) := dk_154 0 7 (dk_at dksX4_beside_1 1 rfl rfl)
theorem dX4_beside_28 : decode cX4_beside 28 = .ok (.iconst (-1), 1) := dk_2 (dk_at dksX4_beside_1 4 rfl rfl)
theorem dX4_beside_29 : decode cX4_beside 29 = .ok (.goto 13, 3) := dk_167 0 13 (dk_at dksX4_beside_1 5 rfl rfl)
theorem dX4_beside_32 : decode cX4_beside 32 = .ok (.iload_n 0, 1) := dk_26 (dk_at dksX4_beside_1 8 rfl rfl)
theorem dX4_beside_33 : decode cX4_beside 33 = .ok (.iconst 2, 1) := dk_5 (dk_at dksX4_beside_1 9 rfl rfl)
theorem dX4_beside_34 : decode cX4_beside 34 = .ok (.if_icmp .ne 7, 3) := dk_160 0 7 (dk_at dksX4_beside_1 10 rfl rfl)
theorem dX4_beside_37 : decode cX4_beside 37 = .ok (.iconst 1, 1) := dk_4 (dk_at dksX4_beside_1 13 rfl rfl)
theorem dX4_beside_38 : decode cX4_beside 38 = .ok (.goto 4, 3) := dk_167 0 4 (dk_at dksX4_beside_1 14 rfl rfl)
theorem dX4_beside_41 : decode cX4_beside 41 = .ok (.iconst 0, 1) := dk_3 (dk_at dksX4_beside_1 17 rfl rfl)
theorem dX4_beside_42 : decode cX4_beside 42 = .ok (.ireturn, 1) := dk_172 (dk_at dksX4_beside_1 18 rfl rfl)
abbrev cX4_step : ByteArray := prog_24_method_54_code
def yX4_step : MethodName := ⟨RX4, "step", "(IIII)I"⟩
def dkwX4_step_5 : List UInt8 := [172]
abbrev dktX4_step_5 : List UInt8 := dkwX4_step_5 ++ []
def dkwX4_step_4 : List UInt8 := [2, 167, 0, 23, 16, 100, 28, 21, 5, 3, 184, 0, 107, 96, 104, 27, 96, 21, 5, 4, 184, 0, 107, 96]
abbrev dktX4_step_4 : List UInt8 := dkwX4_step_4 ++ dktX4_step_5
def dkwX4_step_3 : List UInt8 := [154, 0, 10, 16, 100, 28, 104, 27, 96, 172, 42, 27, 28, 182, 0, 143, 54, 5, 21, 5, 2, 160, 0, 7]
abbrev dktX4_step_3 : List UInt8 := dkwX4_step_3 ++ dktX4_step_4
def dkwX4_step_2 : List UInt8 := [154, 0, 5, 2, 172, 42, 29, 21, 4, 182, 0, 158, 42, 180, 0, 26, 16, 12, 28, 104, 27, 96, 46]
abbrev dktX4_step_2 : List UInt8 := dkwX4_step_2 ++ dktX4_step_3
def dkwX4_step_1 : List UInt8 := [42, 4, 182, 0, 192, 172, 42, 27, 28, 182, 0, 101, 153, 0, 13, 42, 29, 21, 4, 182, 0, 101]
abbrev dktX4_step_1 : List UInt8 := dkwX4_step_1 ++ dktX4_step_2
def dkwX4_step_0 : List UInt8 := [42, 3, 181, 0, 77, 42, 27, 28, 182, 0, 94, 153, 0, 13, 42, 29, 21, 4, 182, 0, 94, 154, 0, 9]
abbrev dktX4_step_0 : List UInt8 := dkwX4_step_0 ++ dktX4_step_1
theorem dksX4_step_0 : cX4_step.data.toList.drop 0 = dktX4_step_0 := by decide +kernel
theorem dksX4_step_1 : cX4_step.data.toList.drop 24 = dktX4_step_1 := dk_seg dksX4_step_0 24 rfl rfl
theorem dksX4_step_2 : cX4_step.data.toList.drop 46 = dktX4_step_2 := dk_seg dksX4_step_1 22 rfl rfl
theorem dksX4_step_3 : cX4_step.data.toList.drop 69 = dktX4_step_3 := dk_seg dksX4_step_2 23 rfl rfl
theorem dksX4_step_4 : cX4_step.data.toList.drop 93 = dktX4_step_4 := dk_seg dksX4_step_3 24 rfl rfl
theorem dksX4_step_5 : cX4_step.data.toList.drop 117 = dktX4_step_5 := dk_seg dksX4_step_4 24 rfl rfl
theorem dX4_step_0 : decode cX4_step 0 = .ok (.aload_n 0, 1) := dk_42 (dk_at dksX4_step_0 0 rfl rfl)
theorem dX4_step_1 : decode cX4_step 1 = .ok (.iconst 0, 1) := dk_3 (dk_at dksX4_step_0 1 rfl rfl)
theorem dX4_step_2 : decode cX4_step 2 = .ok (.putfield 77, 3) := dk_181 0 77 (dk_at dksX4_step_0 2 rfl rfl)
theorem dX4_step_5 : decode cX4_step 5 = .ok (.aload_n 0, 1) := dk_42 (dk_at dksX4_step_0 5 rfl rfl)
theorem dX4_step_6 : decode cX4_step 6 = .ok (.iload_n 1, 1) := dk_27 (dk_at dksX4_step_0 6 rfl rfl)
theorem dX4_step_7 : decode cX4_step 7 = .ok (.iload_n 2, 1) := dk_28 (dk_at dksX4_step_0 7 rfl rfl)
theorem dX4_step_8 : decode cX4_step 8 = .ok (.invokevirtual 94, 3) := dk_182 0 94 (dk_at dksX4_step_0 8 rfl rfl)
theorem dX4_step_11 : decode cX4_step 11 = .ok (.ifCond .eq 13, 3) := dk_153 0 13 (dk_at dksX4_step_0 11 rfl rfl)
theorem dX4_step_14 : decode cX4_step 14 = .ok (.aload_n 0, 1) := dk_42 (dk_at dksX4_step_0 14 rfl rfl)
theorem dX4_step_15 : decode cX4_step 15 = .ok (.iload_n 3, 1) := dk_29 (dk_at dksX4_step_0 15 rfl rfl)
theorem dX4_step_16 : decode cX4_step 16 = .ok (.iload 4, 2) := dk_21 4 (dk_at dksX4_step_0 16 rfl rfl)
theorem dX4_step_18 : decode cX4_step 18 = .ok (.invokevirtual 94, 3) := dk_182 0 94 (dk_at dksX4_step_0 18 rfl rfl)
theorem dX4_step_21 : decode cX4_step 21 = .ok (.ifCond .ne 9, 3) := dk_154 0 9 (dk_at dksX4_step_0 21 rfl rfl)
theorem dX4_step_24 : decode cX4_step 24 = .ok (.aload_n 0, 1) := dk_42 (dk_at dksX4_step_1 0 rfl rfl)
theorem dX4_step_25 : decode cX4_step 25 = .ok (.iconst 1, 1) := dk_4 (dk_at dksX4_step_1 1 rfl rfl)
theorem dX4_step_26 : decode cX4_step 26 = .ok (.invokevirtual 192, 3) := dk_182 0 192 (dk_at dksX4_step_1 2 rfl rfl)
theorem dX4_step_29 : decode cX4_step 29 = .ok (.ireturn, 1) := dk_172 (dk_at dksX4_step_1 5 rfl rfl)
theorem dX4_step_30 : decode cX4_step 30 = .ok (.aload_n 0, 1) := dk_42 (dk_at dksX4_step_1 6 rfl rfl)
theorem dX4_step_31 : decode cX4_step 31 = .ok (.iload_n 1, 1) := dk_27 (dk_at dksX4_step_1 7 rfl rfl)
theorem dX4_step_32 : decode cX4_step 32 = .ok (.iload_n 2, 1) := dk_28 (dk_at dksX4_step_1 8 rfl rfl)
theorem dX4_step_33 : decode cX4_step 33 = .ok (.invokevirtual 101, 3) := dk_182 0 101 (dk_at dksX4_step_1 9 rfl rfl)
theorem dX4_step_36 : decode cX4_step 36 = .ok (.ifCond .eq 13, 3) := dk_153 0 13 (dk_at dksX4_step_1 12 rfl rfl)
theorem dX4_step_39 : decode cX4_step 39 = .ok (.aload_n 0, 1) := dk_42 (dk_at dksX4_step_1 15 rfl rfl)
theorem dX4_step_40 : decode cX4_step 40 = .ok (.iload_n 3, 1) := dk_29 (dk_at dksX4_step_1 16 rfl rfl)
theorem dX4_step_41 : decode cX4_step 41 = .ok (.iload 4, 2) := dk_21 4 (dk_at dksX4_step_1 17 rfl rfl)
theorem dX4_step_43 : decode cX4_step 43 = .ok (.invokevirtual 101, 3) := dk_182 0 101 (dk_at dksX4_step_1 19 rfl rfl)
theorem dX4_step_46 : decode cX4_step 46 = .ok (.ifCond .ne 5, 3) := dk_154 0 5 (dk_at dksX4_step_2 0 rfl rfl)
theorem dX4_step_49 : decode cX4_step 49 = .ok (.iconst (-1), 1) := dk_2 (dk_at dksX4_step_2 3 rfl rfl)
theorem dX4_step_50 : decode cX4_step 50 = .ok (.ireturn, 1) := dk_172 (dk_at dksX4_step_2 4 rfl rfl)
theorem dX4_step_51 : decode cX4_step 51 = .ok (.aload_n 0, 1) := dk_42 (dk_at dksX4_step_2 5 rfl rfl)
theorem dX4_step_52 : decode cX4_step 52 = .ok (.iload_n 3, 1) := dk_29 (dk_at dksX4_step_2 6 rfl rfl)
theorem dX4_step_53 : decode cX4_step 53 = .ok (.iload 4, 2) := dk_21 4 (dk_at dksX4_step_2 7 rfl rfl)
theorem dX4_step_55 : decode cX4_step 55 = .ok (.invokevirtual 158, 3) := dk_182 0 158 (dk_at dksX4_step_2 9 rfl rfl)
theorem dX4_step_58 : decode cX4_step 58 = .ok (.aload_n 0, 1) := dk_42 (dk_at dksX4_step_2 12 rfl rfl)
theorem dX4_step_59 : decode cX4_step 59 = .ok (.getfield 26, 3) := dk_180 0 26 (dk_at dksX4_step_2 13 rfl rfl)
theorem dX4_step_62 : decode cX4_step 62 = .ok (.bipush 12, 2) := dk_16 12 (dk_at dksX4_step_2 16 rfl rfl)
theorem dX4_step_64 : decode cX4_step 64 = .ok (.iload_n 2, 1) := dk_28 (dk_at dksX4_step_2 18 rfl rfl)
theorem dX4_step_65 : decode cX4_step 65 = .ok (.imul, 1) := dk_104 (dk_at dksX4_step_2 19 rfl rfl)
theorem dX4_step_66 : decode cX4_step 66 = .ok (.iload_n 1, 1) := dk_27 (dk_at dksX4_step_2 20 rfl rfl)
theorem dX4_step_67 : decode cX4_step 67 = .ok (.iadd, 1) := dk_96 (dk_at dksX4_step_2 21 rfl rfl)
theorem dX4_step_68 : decode cX4_step 68 = .ok (.iaload, 1) := dk_46 (dk_at dksX4_step_2 22 rfl rfl)
theorem dX4_step_69 : decode cX4_step 69 = .ok (.ifCond .ne 10, 3) := dk_154 0 10 (dk_at dksX4_step_3 0 rfl rfl)
theorem dX4_step_72 : decode cX4_step 72 = .ok (.bipush 100, 2) := dk_16 100 (dk_at dksX4_step_3 3 rfl rfl)
theorem dX4_step_74 : decode cX4_step 74 = .ok (.iload_n 2, 1) := dk_28 (dk_at dksX4_step_3 5 rfl rfl)
theorem dX4_step_75 : decode cX4_step 75 = .ok (.imul, 1) := dk_104 (dk_at dksX4_step_3 6 rfl rfl)
theorem dX4_step_76 : decode cX4_step 76 = .ok (.iload_n 1, 1) := dk_27 (dk_at dksX4_step_3 7 rfl rfl)
theorem dX4_step_77 : decode cX4_step 77 = .ok (.iadd, 1) := dk_96 (dk_at dksX4_step_3 8 rfl rfl)
theorem dX4_step_78 : decode cX4_step 78 = .ok (.ireturn, 1) := dk_172 (dk_at dksX4_step_3 9 rfl rfl)
theorem dX4_step_79 : decode cX4_step 79 = .ok (.aload_n 0, 1) := dk_42 (dk_at dksX4_step_3 10 rfl rfl)
theorem dX4_step_80 : decode cX4_step 80 = .ok (.iload_n 1, 1) := dk_27 (dk_at dksX4_step_3 11 rfl rfl)
theorem dX4_step_81 : decode cX4_step 81 = .ok (.iload_n 2, 1) := dk_28 (dk_at dksX4_step_3 12 rfl rfl)
theorem dX4_step_82 : decode cX4_step 82 = .ok (.invokevirtual 143, 3) := dk_182 0 143 (dk_at dksX4_step_3 13 rfl rfl)
theorem dX4_step_85 : decode cX4_step 85 = .ok (.istore 5, 2) := dk_54 5 (dk_at dksX4_step_3 16 rfl rfl)
theorem dX4_step_87 : decode cX4_step 87 = .ok (.iload 5, 2) := dk_21 5 (dk_at dksX4_step_3 18 rfl rfl)
theorem dX4_step_89 : decode cX4_step 89 = .ok (.iconst (-1), 1) := dk_2 (dk_at dksX4_step_3 20 rfl rfl)
theorem dX4_step_90 : decode cX4_step 90 = .ok (.if_icmp .ne 7, 3) := dk_160 0 7 (dk_at dksX4_step_3 21 rfl rfl)
theorem dX4_step_93 : decode cX4_step 93 = .ok (.iconst (-1), 1) := dk_2 (dk_at dksX4_step_4 0 rfl rfl)
theorem dX4_step_94 : decode cX4_step 94 = .ok (.goto 23, 3) := dk_167 0 23 (dk_at dksX4_step_4 1 rfl rfl)
theorem dX4_step_97 : decode cX4_step 97 = .ok (.bipush 100, 2) := dk_16 100 (dk_at dksX4_step_4 4 rfl rfl)
theorem dX4_step_99 : decode cX4_step 99 = .ok (.iload_n 2, 1) := dk_28 (dk_at dksX4_step_4 6 rfl rfl)
theorem dX4_step_100 : decode cX4_step 100 = .ok (.iload 5, 2) := dk_21 5 (dk_at dksX4_step_4 7 rfl rfl)
theorem dX4_step_102 : decode cX4_step 102 = .ok (.iconst 0, 1) := dk_3 (dk_at dksX4_step_4 9 rfl rfl)
theorem dX4_step_103 : decode cX4_step 103 = .ok (.invokestatic 107, 3) := dk_184 0 107 (dk_at dksX4_step_4 10 rfl rfl)
theorem dX4_step_106 : decode cX4_step 106 = .ok (.iadd, 1) := dk_96 (dk_at dksX4_step_4 13 rfl rfl)
theorem dX4_step_107 : decode cX4_step 107 = .ok (.imul, 1) := dk_104 (dk_at dksX4_step_4 14 rfl rfl)
theorem dX4_step_108 : decode cX4_step 108 = .ok (.iload_n 1, 1) := dk_27 (dk_at dksX4_step_4 15 rfl rfl)
theorem dX4_step_109 : decode cX4_step 109 = .ok (.iadd, 1) := dk_96 (dk_at dksX4_step_4 16 rfl rfl)
theorem dX4_step_110 : decode cX4_step 110 = .ok (.iload 5, 2) := dk_21 5 (dk_at dksX4_step_4 17 rfl rfl)
theorem dX4_step_112 : decode cX4_step 112 = .ok (.iconst 1, 1) := dk_4 (dk_at dksX4_step_4 19 rfl rfl)
theorem dX4_step_113 : decode cX4_step 113 = .ok (.invokestatic 107, 3) := dk_184 0 107 (dk_at dksX4_step_4 20 rfl rfl)
theorem dX4_step_116 : decode cX4_step 116 = .ok (.iadd, 1) := dk_96 (dk_at dksX4_step_4 23 rfl rfl)
theorem dX4_step_117 : decode cX4_step 117 = .ok (.ireturn, 1) := dk_172 (dk_at dksX4_step_5 0 rfl rfl)
abbrev cX4_stepFrom : ByteArray := prog_24_method_25_code
def yX4_stepFrom : MethodName := ⟨RX4, "stepFrom", "(II)I"⟩
def dkwX4_stepFrom_3 : List UInt8 := [2, 172]
abbrev dktX4_stepFrom_3 : List UInt8 := dkwX4_stepFrom_3 ++ []
def dkwX4_stepFrom_2 : List UInt8 := [96, 46, 42, 180, 0, 26, 16, 12, 28, 104, 27, 96, 46, 162, 0, 5, 29, 172, 132, 3, 1, 167, 255, 190]
abbrev dktX4_stepFrom_2 : List UInt8 := dkwX4_stepFrom_2 ++ dktX4_stepFrom_3
def dkwX4_stepFrom_1 : List UInt8 := [54, 5, 42, 21, 4, 21, 5, 182, 0, 101, 153, 0, 32, 42, 180, 0, 26, 16, 12, 21, 5, 104, 21, 4]
abbrev dktX4_stepFrom_1 : List UInt8 := dkwX4_stepFrom_1 ++ dktX4_stepFrom_2
def dkwX4_stepFrom_0 : List UInt8 := [3, 62, 29, 7, 162, 0, 67, 27, 29, 4, 184, 0, 107, 96, 54, 4, 28, 29, 3, 184, 0, 107, 96]
abbrev dktX4_stepFrom_0 : List UInt8 := dkwX4_stepFrom_0 ++ dktX4_stepFrom_1
theorem dksX4_stepFrom_0 : cX4_stepFrom.data.toList.drop 0 = dktX4_stepFrom_0 := by decide +kernel
theorem dksX4_stepFrom_1 : cX4_stepFrom.data.toList.drop 23 = dktX4_stepFrom_1 := dk_seg dksX4_stepFrom_0 23 rfl rfl
theorem dksX4_stepFrom_2 : cX4_stepFrom.data.toList.drop 47 = dktX4_stepFrom_2 := dk_seg dksX4_stepFrom_1 24 rfl rfl
theorem dksX4_stepFrom_3 : cX4_stepFrom.data.toList.drop 71 = dktX4_stepFrom_3 := dk_seg dksX4_stepFrom_2 24 rfl rfl
theorem dX4_stepFrom_0 : decode cX4_stepFrom 0 = .ok (.iconst 0, 1) := dk_3 (dk_at dksX4_stepFrom_0 0 rfl rfl)
theorem dX4_stepFrom_1 : decode cX4_stepFrom 1 = .ok (.istore_n 3, 1) := dk_62 (dk_at dksX4_stepFrom_0 1 rfl rfl)
theorem dX4_stepFrom_2 : decode cX4_stepFrom 2 = .ok (.iload_n 3, 1) := dk_29 (dk_at dksX4_stepFrom_0 2 rfl rfl)
theorem dX4_stepFrom_3 : decode cX4_stepFrom 3 = .ok (.iconst 4, 1) := dk_7 (dk_at dksX4_stepFrom_0 3 rfl rfl)
theorem dX4_stepFrom_4 : decode cX4_stepFrom 4 = .ok (.if_icmp .ge 67, 3) := dk_162 0 67 (dk_at dksX4_stepFrom_0 4 rfl rfl)
theorem dX4_stepFrom_7 : decode cX4_stepFrom 7 = .ok (.iload_n 1, 1) := dk_27 (dk_at dksX4_stepFrom_0 7 rfl rfl)
theorem dX4_stepFrom_8 : decode cX4_stepFrom 8 = .ok (.iload_n 3, 1) := dk_29 (dk_at dksX4_stepFrom_0 8 rfl rfl)
theorem dX4_stepFrom_9 : decode cX4_stepFrom 9 = .ok (.iconst 1, 1) := dk_4 (dk_at dksX4_stepFrom_0 9 rfl rfl)
theorem dX4_stepFrom_10 : decode cX4_stepFrom 10 = .ok (.invokestatic 107, 3) := dk_184 0 107 (dk_at dksX4_stepFrom_0 10 rfl rfl)
theorem dX4_stepFrom_13 : decode cX4_stepFrom 13 = .ok (.iadd, 1) := dk_96 (dk_at dksX4_stepFrom_0 13 rfl rfl)
theorem dX4_stepFrom_14 : decode cX4_stepFrom 14 = .ok (.istore 4, 2) := dk_54 4 (dk_at dksX4_stepFrom_0 14 rfl rfl)
theorem dX4_stepFrom_16 : decode cX4_stepFrom 16 = .ok (.iload_n 2, 1) := dk_28 (dk_at dksX4_stepFrom_0 16 rfl rfl)
theorem dX4_stepFrom_17 : decode cX4_stepFrom 17 = .ok (.iload_n 3, 1) := dk_29 (dk_at dksX4_stepFrom_0 17 rfl rfl)
theorem dX4_stepFrom_18 : decode cX4_stepFrom 18 = .ok (.iconst 0, 1) := dk_3 (dk_at dksX4_stepFrom_0 18 rfl rfl)
theorem dX4_stepFrom_19 : decode cX4_stepFrom 19 = .ok (.invokestatic 107, 3) := dk_184 0 107 (dk_at dksX4_stepFrom_0 19 rfl rfl)
theorem dX4_stepFrom_22 : decode cX4_stepFrom 22 = .ok (.iadd, 1) := dk_96 (dk_at dksX4_stepFrom_0 22 rfl rfl)
theorem dX4_stepFrom_23 : decode cX4_stepFrom 23 = .ok (.istore 5, 2) := dk_54 5 (dk_at dksX4_stepFrom_1 0 rfl rfl)
theorem dX4_stepFrom_25 : decode cX4_stepFrom 25 = .ok (.aload_n 0, 1) := dk_42 (dk_at dksX4_stepFrom_1 2 rfl rfl)
theorem dX4_stepFrom_26 : decode cX4_stepFrom 26 = .ok (.iload 4, 2) := dk_21 4 (dk_at dksX4_stepFrom_1 3 rfl rfl)
theorem dX4_stepFrom_28 : decode cX4_stepFrom 28 = .ok (.iload 5, 2) := dk_21 5 (dk_at dksX4_stepFrom_1 5 rfl rfl)
theorem dX4_stepFrom_30 : decode cX4_stepFrom 30 = .ok (.invokevirtual 101, 3) := dk_182 0 101 (dk_at dksX4_stepFrom_1 7 rfl rfl)
theorem dX4_stepFrom_33 : decode cX4_stepFrom 33 = .ok (.ifCond .eq 32, 3) := dk_153 0 32 (dk_at dksX4_stepFrom_1 10 rfl rfl)
theorem dX4_stepFrom_36 : decode cX4_stepFrom 36 = .ok (.aload_n 0, 1) := dk_42 (dk_at dksX4_stepFrom_1 13 rfl rfl)
theorem dX4_stepFrom_37 : decode cX4_stepFrom 37 = .ok (.getfield 26, 3) := dk_180 0 26 (dk_at dksX4_stepFrom_1 14 rfl rfl)
theorem dX4_stepFrom_40 : decode cX4_stepFrom 40 = .ok (.bipush 12, 2) := dk_16 12 (dk_at dksX4_stepFrom_1 17 rfl rfl)
theorem dX4_stepFrom_42 : decode cX4_stepFrom 42 = .ok (.iload 5, 2) := dk_21 5 (dk_at dksX4_stepFrom_1 19 rfl rfl)
theorem dX4_stepFrom_44 : decode cX4_stepFrom 44 = .ok (.imul, 1) := dk_104 (dk_at dksX4_stepFrom_1 21 rfl rfl)
theorem dX4_stepFrom_45 : decode cX4_stepFrom 45 = .ok (.iload 4, 2) := dk_21 4 (dk_at dksX4_stepFrom_1 22 rfl rfl)
theorem dX4_stepFrom_47 : decode cX4_stepFrom 47 = .ok (.iadd, 1) := dk_96 (dk_at dksX4_stepFrom_2 0 rfl rfl)
theorem dX4_stepFrom_48 : decode cX4_stepFrom 48 = .ok (.iaload, 1) := dk_46 (dk_at dksX4_stepFrom_2 1 rfl rfl)
theorem dX4_stepFrom_49 : decode cX4_stepFrom 49 = .ok (.aload_n 0, 1) := dk_42 (dk_at dksX4_stepFrom_2 2 rfl rfl)
theorem dX4_stepFrom_50 : decode cX4_stepFrom 50 = .ok (.getfield 26, 3) := dk_180 0 26 (dk_at dksX4_stepFrom_2 3 rfl rfl)
theorem dX4_stepFrom_53 : decode cX4_stepFrom 53 = .ok (.bipush 12, 2) := dk_16 12 (dk_at dksX4_stepFrom_2 6 rfl rfl)
theorem dX4_stepFrom_55 : decode cX4_stepFrom 55 = .ok (.iload_n 2, 1) := dk_28 (dk_at dksX4_stepFrom_2 8 rfl rfl)
theorem dX4_stepFrom_56 : decode cX4_stepFrom 56 = .ok (.imul, 1) := dk_104 (dk_at dksX4_stepFrom_2 9 rfl rfl)
theorem dX4_stepFrom_57 : decode cX4_stepFrom 57 = .ok (.iload_n 1, 1) := dk_27 (dk_at dksX4_stepFrom_2 10 rfl rfl)
theorem dX4_stepFrom_58 : decode cX4_stepFrom 58 = .ok (.iadd, 1) := dk_96 (dk_at dksX4_stepFrom_2 11 rfl rfl)
theorem dX4_stepFrom_59 : decode cX4_stepFrom 59 = .ok (.iaload, 1) := dk_46 (dk_at dksX4_stepFrom_2 12 rfl rfl)
theorem dX4_stepFrom_60 : decode cX4_stepFrom 60 = .ok (.if_icmp .ge 5, 3) := dk_162 0 5 (dk_at dksX4_stepFrom_2 13 rfl rfl)
theorem dX4_stepFrom_63 : decode cX4_stepFrom 63 = .ok (.iload_n 3, 1) := dk_29 (dk_at dksX4_stepFrom_2 16 rfl rfl)
theorem dX4_stepFrom_64 : decode cX4_stepFrom 64 = .ok (.ireturn, 1) := dk_172 (dk_at dksX4_stepFrom_2 17 rfl rfl)
theorem dX4_stepFrom_65 : decode cX4_stepFrom 65 = .ok (.iinc 3 1, 3) := dk_132 3 1 (dk_at dksX4_stepFrom_2 18 rfl rfl)
theorem dX4_stepFrom_68 : decode cX4_stepFrom 68 = .ok (.goto (-66), 3) := dk_167 255 190 (dk_at dksX4_stepFrom_2 21 rfl rfl)
theorem dX4_stepFrom_71 : decode cX4_stepFrom 71 = .ok (.iconst (-1), 1) := dk_2 (dk_at dksX4_stepFrom_3 0 rfl rfl)
theorem dX4_stepFrom_72 : decode cX4_stepFrom 72 = .ok (.ireturn, 1) := dk_172 (dk_at dksX4_stepFrom_3 1 rfl rfl)
abbrev cX4_wasAt : ByteArray := prog_24_method_55_code
def yX4_wasAt : MethodName := ⟨RX4, "wasAt", "(II)I"⟩
def dkwX4_wasAt_2 : List UInt8 := [184, 0, 177, 46, 167, 0, 4, 3, 172]
abbrev dktX4_wasAt_2 : List UInt8 := dkwX4_wasAt_2 ++ []
def dkwX4_wasAt_1 : List UInt8 := [153, 0, 7, 3, 167, 0, 4, 5, 181, 0, 77, 42, 180, 0, 77, 154, 0, 16, 42, 180, 0, 9, 27, 28]
abbrev dktX4_wasAt_1 : List UInt8 := dkwX4_wasAt_1 ++ dktX4_wasAt_2
def dkwX4_wasAt_0 : List UInt8 := [42, 42, 27, 182, 0, 195, 154, 0, 7, 4, 167, 0, 20, 28, 3, 42, 182, 0, 126, 184, 0, 90]
abbrev dktX4_wasAt_0 : List UInt8 := dkwX4_wasAt_0 ++ dktX4_wasAt_1
theorem dksX4_wasAt_0 : cX4_wasAt.data.toList.drop 0 = dktX4_wasAt_0 := by decide +kernel
theorem dksX4_wasAt_1 : cX4_wasAt.data.toList.drop 22 = dktX4_wasAt_1 := dk_seg dksX4_wasAt_0 22 rfl rfl
theorem dksX4_wasAt_2 : cX4_wasAt.data.toList.drop 46 = dktX4_wasAt_2 := dk_seg dksX4_wasAt_1 24 rfl rfl
theorem dX4_wasAt_0 : decode cX4_wasAt 0 = .ok (.aload_n 0, 1) := dk_42 (dk_at dksX4_wasAt_0 0 rfl rfl)
theorem dX4_wasAt_1 : decode cX4_wasAt 1 = .ok (.aload_n 0, 1) := dk_42 (dk_at dksX4_wasAt_0 1 rfl rfl)
theorem dX4_wasAt_2 : decode cX4_wasAt 2 = .ok (.iload_n 1, 1) := dk_27 (dk_at dksX4_wasAt_0 2 rfl rfl)
theorem dX4_wasAt_3 : decode cX4_wasAt 3 = .ok (.invokevirtual 195, 3) := dk_182 0 195 (dk_at dksX4_wasAt_0 3 rfl rfl)
theorem dX4_wasAt_6 : decode cX4_wasAt 6 = .ok (.ifCond .ne 7, 3) := dk_154 0 7 (dk_at dksX4_wasAt_0 6 rfl rfl)
theorem dX4_wasAt_9 : decode cX4_wasAt 9 = .ok (.iconst 1, 1) := dk_4 (dk_at dksX4_wasAt_0 9 rfl rfl)
theorem dX4_wasAt_10 : decode cX4_wasAt 10 = .ok (.goto 20, 3) := dk_167 0 20 (dk_at dksX4_wasAt_0 10 rfl rfl)
theorem dX4_wasAt_13 : decode cX4_wasAt 13 = .ok (.iload_n 2, 1) := dk_28 (dk_at dksX4_wasAt_0 13 rfl rfl)
theorem dX4_wasAt_14 : decode cX4_wasAt 14 = .ok (.iconst 0, 1) := dk_3 (dk_at dksX4_wasAt_0 14 rfl rfl)
theorem dX4_wasAt_15 : decode cX4_wasAt 15 = .ok (.aload_n 0, 1) := dk_42 (dk_at dksX4_wasAt_0 15 rfl rfl)
theorem dX4_wasAt_16 : decode cX4_wasAt 16 = .ok (.invokevirtual 126, 3) := dk_182 0 126 (dk_at dksX4_wasAt_0 16 rfl rfl)
theorem dX4_wasAt_19 : decode cX4_wasAt 19 = .ok (.invokestatic 90, 3) := dk_184 0 90 (dk_at dksX4_wasAt_0 19 rfl rfl)
theorem dX4_wasAt_22 : decode cX4_wasAt 22 = .ok (.ifCond .eq 7, 3) := dk_153 0 7 (dk_at dksX4_wasAt_1 0 rfl rfl)
theorem dX4_wasAt_25 : decode cX4_wasAt 25 = .ok (.iconst 0, 1) := dk_3 (dk_at dksX4_wasAt_1 3 rfl rfl)
theorem dX4_wasAt_26 : decode cX4_wasAt 26 = .ok (.goto 4, 3) := dk_167 0 4 (dk_at dksX4_wasAt_1 4 rfl rfl)
theorem dX4_wasAt_29 : decode cX4_wasAt 29 = .ok (.iconst 2, 1) := dk_5 (dk_at dksX4_wasAt_1 7 rfl rfl)
theorem dX4_wasAt_30 : decode cX4_wasAt 30 = .ok (.putfield 77, 3) := dk_181 0 77 (dk_at dksX4_wasAt_1 8 rfl rfl)
theorem dX4_wasAt_33 : decode cX4_wasAt 33 = .ok (.aload_n 0, 1) := dk_42 (dk_at dksX4_wasAt_1 11 rfl rfl)
theorem dX4_wasAt_34 : decode cX4_wasAt 34 = .ok (.getfield 77, 3) := dk_180 0 77 (dk_at dksX4_wasAt_1 12 rfl rfl)
theorem dX4_wasAt_37 : decode cX4_wasAt 37 = .ok (.ifCond .ne 16, 3) := dk_154 0 16 (dk_at dksX4_wasAt_1 15 rfl rfl)
theorem dX4_wasAt_40 : decode cX4_wasAt 40 = .ok (.aload_n 0, 1) := dk_42 (dk_at dksX4_wasAt_1 18 rfl rfl)
theorem dX4_wasAt_41 : decode cX4_wasAt 41 = .ok (.getfield 9, 3) := dk_180 0 9 (dk_at dksX4_wasAt_1 19 rfl rfl)
theorem dX4_wasAt_44 : decode cX4_wasAt 44 = .ok (.iload_n 1, 1) := dk_27 (dk_at dksX4_wasAt_1 22 rfl rfl)
theorem dX4_wasAt_45 : decode cX4_wasAt 45 = .ok (.iload_n 2, 1) := dk_28 (dk_at dksX4_wasAt_1 23 rfl rfl)
theorem dX4_wasAt_46 : decode cX4_wasAt 46 = .ok (.invokestatic 177, 3) := dk_184 0 177 (dk_at dksX4_wasAt_2 0 rfl rfl)
theorem dX4_wasAt_49 : decode cX4_wasAt 49 = .ok (.iaload, 1) := dk_46 (dk_at dksX4_wasAt_2 3 rfl rfl)
theorem dX4_wasAt_50 : decode cX4_wasAt 50 = .ok (.goto 4, 3) := dk_167 0 4 (dk_at dksX4_wasAt_2 4 rfl rfl)
theorem dX4_wasAt_53 : decode cX4_wasAt 53 = .ok (.iconst 0, 1) := dk_3 (dk_at dksX4_wasAt_2 7 rfl rfl)
theorem dX4_wasAt_54 : decode cX4_wasAt 54 = .ok (.ireturn, 1) := dk_172 (dk_at dksX4_wasAt_2 8 rfl rfl)
abbrev cX4_wasSlot : ByteArray := prog_24_method_10_code
def yX4_wasSlot : MethodName := ⟨RX4, "wasSlot", "(II)I"⟩
def dkwX4_wasSlot_0 : List UInt8 := [17, 3, 160, 17, 1, 245, 26, 104, 96, 27, 96, 172]
abbrev dktX4_wasSlot_0 : List UInt8 := dkwX4_wasSlot_0 ++ []
theorem dksX4_wasSlot_0 : cX4_wasSlot.data.toList.drop 0 = dktX4_wasSlot_0 := by decide +kernel
theorem dX4_wasSlot_0 : decode cX4_wasSlot 0 = .ok (.sipush 928, 3) := dk_17 3 160 (dk_at dksX4_wasSlot_0 0 rfl rfl)
theorem dX4_wasSlot_3 : decode cX4_wasSlot 3 = .ok (.sipush 501, 3) := dk_17 1 245 (dk_at dksX4_wasSlot_0 3 rfl rfl)
theorem dX4_wasSlot_6 : decode cX4_wasSlot 6 = .ok (.iload_n 0, 1) := dk_26 (dk_at dksX4_wasSlot_0 6 rfl rfl)
theorem dX4_wasSlot_7 : decode cX4_wasSlot 7 = .ok (.imul, 1) := dk_104 (dk_at dksX4_wasSlot_0 7 rfl rfl)
theorem dX4_wasSlot_8 : decode cX4_wasSlot 8 = .ok (.iadd, 1) := dk_96 (dk_at dksX4_wasSlot_0 8 rfl rfl)
theorem dX4_wasSlot_9 : decode cX4_wasSlot 9 = .ok (.iload_n 1, 1) := dk_27 (dk_at dksX4_wasSlot_0 9 rfl rfl)
theorem dX4_wasSlot_10 : decode cX4_wasSlot 10 = .ok (.iadd, 1) := dk_96 (dk_at dksX4_wasSlot_0 10 rfl rfl)
theorem dX4_wasSlot_11 : decode cX4_wasSlot 11 = .ok (.ireturn, 1) := dk_172 (dk_at dksX4_wasSlot_0 11 rfl rfl)
abbrev cX4_stateAt : ByteArray := prog_24_method_56_code
def yX4_stateAt : MethodName := ⟨RX4, "stateAt", "(II)I"⟩
def dkwX4_stateAt_5 : List UInt8 := [167, 0, 4, 29, 62, 132, 4, 1, 167, 255, 193, 29, 172]
abbrev dktX4_stateAt_5 : List UInt8 := dkwX4_stateAt_5 ++ []
def dkwX4_stateAt_4 : List UInt8 := [160, 0, 26, 42, 180, 0, 9, 21, 5, 46, 28, 162, 0, 15, 42, 180, 0, 9, 21, 5, 5, 96, 46]
abbrev dktX4_stateAt_4 : List UInt8 := dkwX4_stateAt_4 ++ dktX4_stateAt_5
def dkwX4_stateAt_3 : List UInt8 := [162, 0, 57, 17, 2, 32, 6, 21, 4, 104, 96, 54, 5, 42, 180, 0, 9, 21, 5, 4, 96, 46, 27]
abbrev dktX4_stateAt_3 : List UInt8 := dkwX4_stateAt_3 ++ dktX4_stateAt_4
def dkwX4_stateAt_2 : List UInt8 := [182, 0, 130, 164, 0, 7, 3, 167, 0, 4, 2, 62, 3, 54, 4, 21, 4, 42, 180, 0, 9, 16, 7, 46]
abbrev dktX4_stateAt_2 : List UInt8 := dkwX4_stateAt_2 ++ dktX4_stateAt_3
def dkwX4_stateAt_1 : List UInt8 := [153, 0, 7, 3, 167, 0, 4, 5, 181, 0, 77, 42, 180, 0, 77, 153, 0, 5, 3, 172, 28, 42, 27, 7]
abbrev dktX4_stateAt_1 : List UInt8 := dkwX4_stateAt_1 ++ dktX4_stateAt_2
def dkwX4_stateAt_0 : List UInt8 := [42, 42, 27, 182, 0, 204, 154, 0, 7, 4, 167, 0, 20, 28, 3, 42, 182, 0, 126, 184, 0, 90]
abbrev dktX4_stateAt_0 : List UInt8 := dkwX4_stateAt_0 ++ dktX4_stateAt_1
theorem dksX4_stateAt_0 : cX4_stateAt.data.toList.drop 0 = dktX4_stateAt_0 := by decide +kernel
theorem dksX4_stateAt_1 : cX4_stateAt.data.toList.drop 22 = dktX4_stateAt_1 := dk_seg dksX4_stateAt_0 22 rfl rfl
theorem dksX4_stateAt_2 : cX4_stateAt.data.toList.drop 46 = dktX4_stateAt_2 := dk_seg dksX4_stateAt_1 24 rfl rfl
theorem dksX4_stateAt_3 : cX4_stateAt.data.toList.drop 70 = dktX4_stateAt_3 := dk_seg dksX4_stateAt_2 24 rfl rfl
theorem dksX4_stateAt_4 : cX4_stateAt.data.toList.drop 93 = dktX4_stateAt_4 := dk_seg dksX4_stateAt_3 23 rfl rfl
theorem dksX4_stateAt_5 : cX4_stateAt.data.toList.drop 116 = dktX4_stateAt_5 := dk_seg dksX4_stateAt_4 23 rfl rfl
theorem dX4_stateAt_0 : decode cX4_stateAt 0 = .ok (.aload_n 0, 1) := dk_42 (dk_at dksX4_stateAt_0 0 rfl rfl)
theorem dX4_stateAt_1 : decode cX4_stateAt 1 = .ok (.aload_n 0, 1) := dk_42 (dk_at dksX4_stateAt_0 1 rfl rfl)
theorem dX4_stateAt_2 : decode cX4_stateAt 2 = .ok (.iload_n 1, 1) := dk_27 (dk_at dksX4_stateAt_0 2 rfl rfl)
theorem dX4_stateAt_3 : decode cX4_stateAt 3 = .ok (.invokevirtual 204, 3) := dk_182 0 204 (dk_at dksX4_stateAt_0 3 rfl rfl)
theorem dX4_stateAt_6 : decode cX4_stateAt 6 = .ok (.ifCond .ne 7, 3) := dk_154 0 7 (dk_at dksX4_stateAt_0 6 rfl rfl)
theorem dX4_stateAt_9 : decode cX4_stateAt 9 = .ok (.iconst 1, 1) := dk_4 (dk_at dksX4_stateAt_0 9 rfl rfl)
theorem dX4_stateAt_10 : decode cX4_stateAt 10 = .ok (.goto 20, 3) := dk_167 0 20 (dk_at dksX4_stateAt_0 10 rfl rfl)
theorem dX4_stateAt_13 : decode cX4_stateAt 13 = .ok (.iload_n 2, 1) := dk_28 (dk_at dksX4_stateAt_0 13 rfl rfl)
theorem dX4_stateAt_14 : decode cX4_stateAt 14 = .ok (.iconst 0, 1) := dk_3 (dk_at dksX4_stateAt_0 14 rfl rfl)
theorem dX4_stateAt_15 : decode cX4_stateAt 15 = .ok (.aload_n 0, 1) := dk_42 (dk_at dksX4_stateAt_0 15 rfl rfl)
theorem dX4_stateAt_16 : decode cX4_stateAt 16 = .ok (.invokevirtual 126, 3) := dk_182 0 126 (dk_at dksX4_stateAt_0 16 rfl rfl)
theorem dX4_stateAt_19 : decode cX4_stateAt 19 = .ok (.invokestatic 90, 3) := dk_184 0 90 (dk_at dksX4_stateAt_0 19 rfl rfl)
theorem dX4_stateAt_22 : decode cX4_stateAt 22 = .ok (.ifCond .eq 7, 3) := dk_153 0 7 (dk_at dksX4_stateAt_1 0 rfl rfl)
theorem dX4_stateAt_25 : decode cX4_stateAt 25 = .ok (.iconst 0, 1) := dk_3 (dk_at dksX4_stateAt_1 3 rfl rfl)
theorem dX4_stateAt_26 : decode cX4_stateAt 26 = .ok (.goto 4, 3) := dk_167 0 4 (dk_at dksX4_stateAt_1 4 rfl rfl)
theorem dX4_stateAt_29 : decode cX4_stateAt 29 = .ok (.iconst 2, 1) := dk_5 (dk_at dksX4_stateAt_1 7 rfl rfl)
theorem dX4_stateAt_30 : decode cX4_stateAt 30 = .ok (.putfield 77, 3) := dk_181 0 77 (dk_at dksX4_stateAt_1 8 rfl rfl)
theorem dX4_stateAt_33 : decode cX4_stateAt 33 = .ok (.aload_n 0, 1) := dk_42 (dk_at dksX4_stateAt_1 11 rfl rfl)
theorem dX4_stateAt_34 : decode cX4_stateAt 34 = .ok (.getfield 77, 3) := dk_180 0 77 (dk_at dksX4_stateAt_1 12 rfl rfl)
theorem dX4_stateAt_37 : decode cX4_stateAt 37 = .ok (.ifCond .eq 5, 3) := dk_153 0 5 (dk_at dksX4_stateAt_1 15 rfl rfl)
theorem dX4_stateAt_40 : decode cX4_stateAt 40 = .ok (.iconst 0, 1) := dk_3 (dk_at dksX4_stateAt_1 18 rfl rfl)
theorem dX4_stateAt_41 : decode cX4_stateAt 41 = .ok (.ireturn, 1) := dk_172 (dk_at dksX4_stateAt_1 19 rfl rfl)
theorem dX4_stateAt_42 : decode cX4_stateAt 42 = .ok (.iload_n 2, 1) := dk_28 (dk_at dksX4_stateAt_1 20 rfl rfl)
theorem dX4_stateAt_43 : decode cX4_stateAt 43 = .ok (.aload_n 0, 1) := dk_42 (dk_at dksX4_stateAt_1 21 rfl rfl)
theorem dX4_stateAt_44 : decode cX4_stateAt 44 = .ok (.iload_n 1, 1) := dk_27 (dk_at dksX4_stateAt_1 22 rfl rfl)
theorem dX4_stateAt_45 : decode cX4_stateAt 45 = .ok (.iconst 4, 1) := dk_7 (dk_at dksX4_stateAt_1 23 rfl rfl)
theorem dX4_stateAt_46 : decode cX4_stateAt 46 = .ok (.invokevirtual 130, 3) := dk_182 0 130 (dk_at dksX4_stateAt_2 0 rfl rfl)
theorem dX4_stateAt_49 : decode cX4_stateAt 49 = .ok (.if_icmp .le 7, 3) := dk_164 0 7 (dk_at dksX4_stateAt_2 3 rfl rfl)
theorem dX4_stateAt_52 : decode cX4_stateAt 52 = .ok (.iconst 0, 1) := dk_3 (dk_at dksX4_stateAt_2 6 rfl rfl)
theorem dX4_stateAt_53 : decode cX4_stateAt 53 = .ok (.goto 4, 3) := dk_167 0 4 (dk_at dksX4_stateAt_2 7 rfl rfl)
theorem dX4_stateAt_56 : decode cX4_stateAt 56 = .ok (.iconst (-1), 1) := dk_2 (dk_at dksX4_stateAt_2 10 rfl rfl)
theorem dX4_stateAt_57 : decode cX4_stateAt 57 = .ok (.istore_n 3, 1) := dk_62 (dk_at dksX4_stateAt_2 11 rfl rfl)
theorem dX4_stateAt_58 : decode cX4_stateAt 58 = .ok (.iconst 0, 1) := dk_3 (dk_at dksX4_stateAt_2 12 rfl rfl)
theorem dX4_stateAt_59 : decode cX4_stateAt 59 = .ok (.istore 4, 2) := dk_54 4 (dk_at dksX4_stateAt_2 13 rfl rfl)
theorem dX4_stateAt_61 : decode cX4_stateAt 61 = .ok (.iload 4, 2) := dk_21 4 (dk_at dksX4_stateAt_2 15 rfl rfl)
theorem dX4_stateAt_63 : decode cX4_stateAt 63 = .ok (.aload_n 0, 1) := dk_42 (dk_at dksX4_stateAt_2 17 rfl rfl)
theorem dX4_stateAt_64 : decode cX4_stateAt 64 = .ok (.getfield 9, 3) := dk_180 0 9 (dk_at dksX4_stateAt_2 18 rfl rfl)
theorem dX4_stateAt_67 : decode cX4_stateAt 67 = .ok (.bipush 7, 2) := dk_16 7 (dk_at dksX4_stateAt_2 21 rfl rfl)
theorem dX4_stateAt_69 : decode cX4_stateAt 69 = .ok (.iaload, 1) := dk_46 (dk_at dksX4_stateAt_2 23 rfl rfl)
theorem dX4_stateAt_70 : decode cX4_stateAt 70 = .ok (.if_icmp .ge 57, 3) := dk_162 0 57 (dk_at dksX4_stateAt_3 0 rfl rfl)
theorem dX4_stateAt_73 : decode cX4_stateAt 73 = .ok (.sipush 544, 3) := dk_17 2 32 (dk_at dksX4_stateAt_3 3 rfl rfl)
theorem dX4_stateAt_76 : decode cX4_stateAt 76 = .ok (.iconst 3, 1) := dk_6 (dk_at dksX4_stateAt_3 6 rfl rfl)
theorem dX4_stateAt_77 : decode cX4_stateAt 77 = .ok (.iload 4, 2) := dk_21 4 (dk_at dksX4_stateAt_3 7 rfl rfl)
theorem dX4_stateAt_79 : decode cX4_stateAt 79 = .ok (.imul, 1) := dk_104 (dk_at dksX4_stateAt_3 9 rfl rfl)
theorem dX4_stateAt_80 : decode cX4_stateAt 80 = .ok (.iadd, 1) := dk_96 (dk_at dksX4_stateAt_3 10 rfl rfl)
theorem dX4_stateAt_81 : decode cX4_stateAt 81 = .ok (.istore 5, 2) := dk_54 5 (dk_at dksX4_stateAt_3 11 rfl rfl)
theorem dX4_stateAt_83 : decode cX4_stateAt 83 = .ok (.aload_n 0, 1) := dk_42 (dk_at dksX4_stateAt_3 13 rfl rfl)
theorem dX4_stateAt_84 : decode cX4_stateAt 84 = .ok (.getfield 9, 3) := dk_180 0 9 (dk_at dksX4_stateAt_3 14 rfl rfl)
theorem dX4_stateAt_87 : decode cX4_stateAt 87 = .ok (.iload 5, 2) := dk_21 5 (dk_at dksX4_stateAt_3 17 rfl rfl)
theorem dX4_stateAt_89 : decode cX4_stateAt 89 = .ok (.iconst 1, 1) := dk_4 (dk_at dksX4_stateAt_3 19 rfl rfl)
theorem dX4_stateAt_90 : decode cX4_stateAt 90 = .ok (.iadd, 1) := dk_96 (dk_at dksX4_stateAt_3 20 rfl rfl)
theorem dX4_stateAt_91 : decode cX4_stateAt 91 = .ok (.iaload, 1) := dk_46 (dk_at dksX4_stateAt_3 21 rfl rfl)
theorem dX4_stateAt_92 : decode cX4_stateAt 92 = .ok (.iload_n 1, 1) := dk_27 (dk_at dksX4_stateAt_3 22 rfl rfl)
theorem dX4_stateAt_93 : decode cX4_stateAt 93 = .ok (.if_icmp .ne 26, 3) := dk_160 0 26 (dk_at dksX4_stateAt_4 0 rfl rfl)
theorem dX4_stateAt_96 : decode cX4_stateAt 96 = .ok (.aload_n 0, 1) := dk_42 (dk_at dksX4_stateAt_4 3 rfl rfl)
theorem dX4_stateAt_97 : decode cX4_stateAt 97 = .ok (.getfield 9, 3) := dk_180 0 9 (dk_at dksX4_stateAt_4 4 rfl rfl)
theorem dX4_stateAt_100 : decode cX4_stateAt 100 = .ok (.iload 5, 2) := dk_21 5 (dk_at dksX4_stateAt_4 7 rfl rfl)
theorem dX4_stateAt_102 : decode cX4_stateAt 102 = .ok (.iaload, 1) := dk_46 (dk_at dksX4_stateAt_4 9 rfl rfl)
theorem dX4_stateAt_103 : decode cX4_stateAt 103 = .ok (.iload_n 2, 1) := dk_28 (dk_at dksX4_stateAt_4 10 rfl rfl)
theorem dX4_stateAt_104 : decode cX4_stateAt 104 = .ok (.if_icmp .ge 15, 3) := dk_162 0 15 (dk_at dksX4_stateAt_4 11 rfl rfl)
theorem dX4_stateAt_107 : decode cX4_stateAt 107 = .ok (.aload_n 0, 1) := dk_42 (dk_at dksX4_stateAt_4 14 rfl rfl)
theorem dX4_stateAt_108 : decode cX4_stateAt 108 = .ok (.getfield 9, 3) := dk_180 0 9 (dk_at dksX4_stateAt_4 15 rfl rfl)
theorem dX4_stateAt_111 : decode cX4_stateAt 111 = .ok (.iload 5, 2) := dk_21 5 (dk_at dksX4_stateAt_4 18 rfl rfl)
theorem dX4_stateAt_113 : decode cX4_stateAt 113 = .ok (.iconst 2, 1) := dk_5 (dk_at dksX4_stateAt_4 20 rfl rfl)
theorem dX4_stateAt_114 : decode cX4_stateAt 114 = .ok (.iadd, 1) := dk_96 (dk_at dksX4_stateAt_4 21 rfl rfl)
theorem dX4_stateAt_115 : decode cX4_stateAt 115 = .ok (.iaload, 1) := dk_46 (dk_at dksX4_stateAt_4 22 rfl rfl)
theorem dX4_stateAt_116 : decode cX4_stateAt 116 = .ok (.goto 4, 3) := dk_167 0 4 (dk_at dksX4_stateAt_5 0 rfl rfl)
theorem dX4_stateAt_119 : decode cX4_stateAt 119 = .ok (.iload_n 3, 1) := dk_29 (dk_at dksX4_stateAt_5 3 rfl rfl)
theorem dX4_stateAt_120 : decode cX4_stateAt 120 = .ok (.istore_n 3, 1) := dk_62 (dk_at dksX4_stateAt_5 4 rfl rfl)
theorem dX4_stateAt_121 : decode cX4_stateAt 121 = .ok (.iinc 4 1, 3) := dk_132 4 1 (dk_at dksX4_stateAt_5 5 rfl rfl)
theorem dX4_stateAt_124 : decode cX4_stateAt 124 = .ok (.goto (-63), 3) := dk_167 255 193 (dk_at dksX4_stateAt_5 8 rfl rfl)
theorem dX4_stateAt_127 : decode cX4_stateAt 127 = .ok (.iload_n 3, 1) := dk_29 (dk_at dksX4_stateAt_5 11 rfl rfl)
theorem dX4_stateAt_128 : decode cX4_stateAt 128 = .ok (.ireturn, 1) := dk_172 (dk_at dksX4_stateAt_5 12 rfl rfl)
abbrev cX4_crossed : ByteArray := prog_24_method_57_code
def yX4_crossed : MethodName := ⟨RX4, "crossed", "()I"⟩
def dkwX4_crossed_5 : List UInt8 := [132, 3, 1, 167, 255, 161, 132, 2, 1, 167, 255, 141, 27, 172]
abbrev dktX4_crossed_5 : List UInt8 := dkwX4_crossed_5 ++ []
def dkwX4_crossed_4 : List UInt8 := [42, 29, 8, 182, 0, 130, 42, 28, 8, 182, 0, 130, 162, 0, 7, 4, 167, 0, 4, 3, 96, 60]
abbrev dktX4_crossed_4 : List UInt8 := dkwX4_crossed_4 ++ dktX4_crossed_5
def dkwX4_crossed_3 : List UInt8 := [182, 0, 130, 160, 0, 7, 4, 167, 0, 4, 3, 54, 5, 27, 21, 4, 153, 0, 27, 21, 5, 153, 0, 22]
abbrev dktX4_crossed_3 : List UInt8 := dkwX4_crossed_3 ++ dktX4_crossed_4
def dkwX4_crossed_2 : List UInt8 := [182, 0, 130, 2, 159, 0, 7, 4, 167, 0, 4, 3, 54, 4, 42, 28, 3, 182, 0, 130, 42, 29, 3]
abbrev dktX4_crossed_2 : List UInt8 := dkwX4_crossed_2 ++ dktX4_crossed_3
def dkwX4_crossed_1 : List UInt8 := [42, 180, 0, 9, 7, 46, 162, 0, 91, 42, 28, 8, 182, 0, 130, 2, 159, 0, 17, 42, 29, 8]
abbrev dktX4_crossed_1 : List UInt8 := dkwX4_crossed_1 ++ dktX4_crossed_2
def dkwX4_crossed_0 : List UInt8 := [42, 3, 181, 0, 77, 3, 60, 3, 61, 28, 42, 180, 0, 9, 7, 46, 162, 0, 111, 28, 4, 96, 62, 29]
abbrev dktX4_crossed_0 : List UInt8 := dkwX4_crossed_0 ++ dktX4_crossed_1
theorem dksX4_crossed_0 : cX4_crossed.data.toList.drop 0 = dktX4_crossed_0 := by decide +kernel
theorem dksX4_crossed_1 : cX4_crossed.data.toList.drop 24 = dktX4_crossed_1 := dk_seg dksX4_crossed_0 24 rfl rfl
theorem dksX4_crossed_2 : cX4_crossed.data.toList.drop 46 = dktX4_crossed_2 := dk_seg dksX4_crossed_1 22 rfl rfl
theorem dksX4_crossed_3 : cX4_crossed.data.toList.drop 69 = dktX4_crossed_3 := dk_seg dksX4_crossed_2 23 rfl rfl
theorem dksX4_crossed_4 : cX4_crossed.data.toList.drop 93 = dktX4_crossed_4 := dk_seg dksX4_crossed_3 24 rfl rfl
theorem dksX4_crossed_5 : cX4_crossed.data.toList.drop 115 = dktX4_crossed_5 := dk_seg dksX4_crossed_4 22 rfl rfl
theorem dX4_crossed_0 : decode cX4_crossed 0 = .ok (.aload_n 0, 1) := dk_42 (dk_at dksX4_crossed_0 0 rfl rfl)
theorem dX4_crossed_1 : decode cX4_crossed 1 = .ok (.iconst 0, 1) := dk_3 (dk_at dksX4_crossed_0 1 rfl rfl)
theorem dX4_crossed_2 : decode cX4_crossed 2 = .ok (.putfield 77, 3) := dk_181 0 77 (dk_at dksX4_crossed_0 2 rfl rfl)
theorem dX4_crossed_5 : decode cX4_crossed 5 = .ok (.iconst 0, 1) := dk_3 (dk_at dksX4_crossed_0 5 rfl rfl)
theorem dX4_crossed_6 : decode cX4_crossed 6 = .ok (.istore_n 1, 1) := dk_60 (dk_at dksX4_crossed_0 6 rfl rfl)
theorem dX4_crossed_7 : decode cX4_crossed 7 = .ok (.iconst 0, 1) := dk_3 (dk_at dksX4_crossed_0 7 rfl rfl)
theorem dX4_crossed_8 : decode cX4_crossed 8 = .ok (.istore_n 2, 1) := dk_61 (dk_at dksX4_crossed_0 8 rfl rfl)
theorem dX4_crossed_9 : decode cX4_crossed 9 = .ok (.iload_n 2, 1) := dk_28 (dk_at dksX4_crossed_0 9 rfl rfl)
theorem dX4_crossed_10 : decode cX4_crossed 10 = .ok (.aload_n 0, 1) := dk_42 (dk_at dksX4_crossed_0 10 rfl rfl)
theorem dX4_crossed_11 : decode cX4_crossed 11 = .ok (.getfield 9, 3) := dk_180 0 9 (dk_at dksX4_crossed_0 11 rfl rfl)
theorem dX4_crossed_14 : decode cX4_crossed 14 = .ok (.iconst 4, 1) := dk_7 (dk_at dksX4_crossed_0 14 rfl rfl)
theorem dX4_crossed_15 : decode cX4_crossed 15 = .ok (.iaload, 1) := dk_46 (dk_at dksX4_crossed_0 15 rfl rfl)
theorem dX4_crossed_16 : decode cX4_crossed 16 = .ok (.if_icmp .ge 111, 3) := dk_162 0 111 (dk_at dksX4_crossed_0 16 rfl rfl)
theorem dX4_crossed_19 : decode cX4_crossed 19 = .ok (.iload_n 2, 1) := dk_28 (dk_at dksX4_crossed_0 19 rfl rfl)
theorem dX4_crossed_20 : decode cX4_crossed 20 = .ok (.iconst 1, 1) := dk_4 (dk_at dksX4_crossed_0 20 rfl rfl)
theorem dX4_crossed_21 : decode cX4_crossed 21 = .ok (.iadd, 1) := dk_96 (dk_at dksX4_crossed_0 21 rfl rfl)
theorem dX4_crossed_22 : decode cX4_crossed 22 = .ok (.istore_n 3, 1) := dk_62 (dk_at dksX4_crossed_0 22 rfl rfl)
theorem dX4_crossed_23 : decode cX4_crossed 23 = .ok (.iload_n 3, 1) := dk_29 (dk_at dksX4_crossed_0 23 rfl rfl)
theorem dX4_crossed_24 : decode cX4_crossed 24 = .ok (.aload_n 0, 1) := dk_42 (dk_at dksX4_crossed_1 0 rfl rfl)
theorem dX4_crossed_25 : decode cX4_crossed 25 = .ok (.getfield 9, 3) := dk_180 0 9 (dk_at dksX4_crossed_1 1 rfl rfl)
theorem dX4_crossed_28 : decode cX4_crossed 28 = .ok (.iconst 4, 1) := dk_7 (dk_at dksX4_crossed_1 4 rfl rfl)
theorem dX4_crossed_29 : decode cX4_crossed 29 = .ok (.iaload, 1) := dk_46 (dk_at dksX4_crossed_1 5 rfl rfl)
theorem dX4_crossed_30 : decode cX4_crossed 30 = .ok (.if_icmp .ge 91, 3) := dk_162 0 91 (dk_at dksX4_crossed_1 6 rfl rfl)
theorem dX4_crossed_33 : decode cX4_crossed 33 = .ok (.aload_n 0, 1) := dk_42 (dk_at dksX4_crossed_1 9 rfl rfl)
theorem dX4_crossed_34 : decode cX4_crossed 34 = .ok (.iload_n 2, 1) := dk_28 (dk_at dksX4_crossed_1 10 rfl rfl)
theorem dX4_crossed_35 : decode cX4_crossed 35 = .ok (.iconst 5, 1) := dk_8 (dk_at dksX4_crossed_1 11 rfl rfl)
theorem dX4_crossed_36 : decode cX4_crossed 36 = .ok (.invokevirtual 130, 3) := dk_182 0 130 (dk_at dksX4_crossed_1 12 rfl rfl)
theorem dX4_crossed_39 : decode cX4_crossed 39 = .ok (.iconst (-1), 1) := dk_2 (dk_at dksX4_crossed_1 15 rfl rfl)
theorem dX4_crossed_40 : decode cX4_crossed 40 = .ok (.if_icmp .eq 17, 3) := dk_159 0 17 (dk_at dksX4_crossed_1 16 rfl rfl)
theorem dX4_crossed_43 : decode cX4_crossed 43 = .ok (.aload_n 0, 1) := dk_42 (dk_at dksX4_crossed_1 19 rfl rfl)
theorem dX4_crossed_44 : decode cX4_crossed 44 = .ok (.iload_n 3, 1) := dk_29 (dk_at dksX4_crossed_1 20 rfl rfl)
theorem dX4_crossed_45 : decode cX4_crossed 45 = .ok (.iconst 5, 1) := dk_8 (dk_at dksX4_crossed_1 21 rfl rfl)
theorem dX4_crossed_46 : decode cX4_crossed 46 = .ok (.invokevirtual 130, 3) := dk_182 0 130 (dk_at dksX4_crossed_2 0 rfl rfl)
theorem dX4_crossed_49 : decode cX4_crossed 49 = .ok (.iconst (-1), 1) := dk_2 (dk_at dksX4_crossed_2 3 rfl rfl)
theorem dX4_crossed_50 : decode cX4_crossed 50 = .ok (.if_icmp .eq 7, 3) := dk_159 0 7 (dk_at dksX4_crossed_2 4 rfl rfl)
theorem dX4_crossed_53 : decode cX4_crossed 53 = .ok (.iconst 1, 1) := dk_4 (dk_at dksX4_crossed_2 7 rfl rfl)
theorem dX4_crossed_54 : decode cX4_crossed 54 = .ok (.goto 4, 3) := dk_167 0 4 (dk_at dksX4_crossed_2 8 rfl rfl)
theorem dX4_crossed_57 : decode cX4_crossed 57 = .ok (.iconst 0, 1) := dk_3 (dk_at dksX4_crossed_2 11 rfl rfl)
theorem dX4_crossed_58 : decode cX4_crossed 58 = .ok (.istore 4, 2) := dk_54 4 (dk_at dksX4_crossed_2 12 rfl rfl)
theorem dX4_crossed_60 : decode cX4_crossed 60 = .ok (.aload_n 0, 1) := dk_42 (dk_at dksX4_crossed_2 14 rfl rfl)
theorem dX4_crossed_61 : decode cX4_crossed 61 = .ok (.iload_n 2, 1) := dk_28 (dk_at dksX4_crossed_2 15 rfl rfl)
theorem dX4_crossed_62 : decode cX4_crossed 62 = .ok (.iconst 0, 1) := dk_3 (dk_at dksX4_crossed_2 16 rfl rfl)
theorem dX4_crossed_63 : decode cX4_crossed 63 = .ok (.invokevirtual 130, 3) := dk_182 0 130 (dk_at dksX4_crossed_2 17 rfl rfl)
theorem dX4_crossed_66 : decode cX4_crossed 66 = .ok (.aload_n 0, 1) := dk_42 (dk_at dksX4_crossed_2 20 rfl rfl)
theorem dX4_crossed_67 : decode cX4_crossed 67 = .ok (.iload_n 3, 1) := dk_29 (dk_at dksX4_crossed_2 21 rfl rfl)
theorem dX4_crossed_68 : decode cX4_crossed 68 = .ok (.iconst 0, 1) := dk_3 (dk_at dksX4_crossed_2 22 rfl rfl)
theorem dX4_crossed_69 : decode cX4_crossed 69 = .ok (.invokevirtual 130, 3) := dk_182 0 130 (dk_at dksX4_crossed_3 0 rfl rfl)
theorem dX4_crossed_72 : decode cX4_crossed 72 = .ok (.if_icmp .ne 7, 3) := dk_160 0 7 (dk_at dksX4_crossed_3 3 rfl rfl)
theorem dX4_crossed_75 : decode cX4_crossed 75 = .ok (.iconst 1, 1) := dk_4 (dk_at dksX4_crossed_3 6 rfl rfl)
theorem dX4_crossed_76 : decode cX4_crossed 76 = .ok (.goto 4, 3) := dk_167 0 4 (dk_at dksX4_crossed_3 7 rfl rfl)
theorem dX4_crossed_79 : decode cX4_crossed 79 = .ok (.iconst 0, 1) := dk_3 (dk_at dksX4_crossed_3 10 rfl rfl)
theorem dX4_crossed_80 : decode cX4_crossed 80 = .ok (.istore 5, 2) := dk_54 5 (dk_at dksX4_crossed_3 11 rfl rfl)
theorem dX4_crossed_82 : decode cX4_crossed 82 = .ok (.iload_n 1, 1) := dk_27 (dk_at dksX4_crossed_3 13 rfl rfl)
theorem dX4_crossed_83 : decode cX4_crossed 83 = .ok (.iload 4, 2) := dk_21 4 (dk_at dksX4_crossed_3 14 rfl rfl)
theorem dX4_crossed_85 : decode cX4_crossed 85 = .ok (.ifCond .eq 27, 3) := dk_153 0 27 (dk_at dksX4_crossed_3 16 rfl rfl)
theorem dX4_crossed_88 : decode cX4_crossed 88 = .ok (.iload 5, 2) := dk_21 5 (dk_at dksX4_crossed_3 19 rfl rfl)
theorem dX4_crossed_90 : decode cX4_crossed 90 = .ok (.ifCond .eq 22, 3) := dk_153 0 22 (dk_at dksX4_crossed_3 21 rfl rfl)
theorem dX4_crossed_93 : decode cX4_crossed 93 = .ok (.aload_n 0, 1) := dk_42 (dk_at dksX4_crossed_4 0 rfl rfl)
theorem dX4_crossed_94 : decode cX4_crossed 94 = .ok (.iload_n 3, 1) := dk_29 (dk_at dksX4_crossed_4 1 rfl rfl)
theorem dX4_crossed_95 : decode cX4_crossed 95 = .ok (.iconst 5, 1) := dk_8 (dk_at dksX4_crossed_4 2 rfl rfl)
theorem dX4_crossed_96 : decode cX4_crossed 96 = .ok (.invokevirtual 130, 3) := dk_182 0 130 (dk_at dksX4_crossed_4 3 rfl rfl)
theorem dX4_crossed_99 : decode cX4_crossed 99 = .ok (.aload_n 0, 1) := dk_42 (dk_at dksX4_crossed_4 6 rfl rfl)
theorem dX4_crossed_100 : decode cX4_crossed 100 = .ok (.iload_n 2, 1) := dk_28 (dk_at dksX4_crossed_4 7 rfl rfl)
theorem dX4_crossed_101 : decode cX4_crossed 101 = .ok (.iconst 5, 1) := dk_8 (dk_at dksX4_crossed_4 8 rfl rfl)
theorem dX4_crossed_102 : decode cX4_crossed 102 = .ok (.invokevirtual 130, 3) := dk_182 0 130 (dk_at dksX4_crossed_4 9 rfl rfl)
theorem dX4_crossed_105 : decode cX4_crossed 105 = .ok (.if_icmp .ge 7, 3) := dk_162 0 7 (dk_at dksX4_crossed_4 12 rfl rfl)
theorem dX4_crossed_108 : decode cX4_crossed 108 = .ok (.iconst 1, 1) := dk_4 (dk_at dksX4_crossed_4 15 rfl rfl)
theorem dX4_crossed_109 : decode cX4_crossed 109 = .ok (.goto 4, 3) := dk_167 0 4 (dk_at dksX4_crossed_4 16 rfl rfl)
theorem dX4_crossed_112 : decode cX4_crossed 112 = .ok (.iconst 0, 1) := dk_3 (dk_at dksX4_crossed_4 19 rfl rfl)
theorem dX4_crossed_113 : decode cX4_crossed 113 = .ok (.iadd, 1) := dk_96 (dk_at dksX4_crossed_4 20 rfl rfl)
theorem dX4_crossed_114 : decode cX4_crossed 114 = .ok (.istore_n 1, 1) := dk_60 (dk_at dksX4_crossed_4 21 rfl rfl)
theorem dX4_crossed_115 : decode cX4_crossed 115 = .ok (.iinc 3 1, 3) := dk_132 3 1 (dk_at dksX4_crossed_5 0 rfl rfl)
theorem dX4_crossed_118 : decode cX4_crossed 118 = .ok (.goto (-95), 3) := dk_167 255 161 (dk_at dksX4_crossed_5 3 rfl rfl)
theorem dX4_crossed_121 : decode cX4_crossed 121 = .ok (.iinc 2 1, 3) := dk_132 2 1 (dk_at dksX4_crossed_5 6 rfl rfl)
theorem dX4_crossed_124 : decode cX4_crossed 124 = .ok (.goto (-115), 3) := dk_167 255 141 (dk_at dksX4_crossed_5 9 rfl rfl)
theorem dX4_crossed_127 : decode cX4_crossed 127 = .ok (.iload_n 1, 1) := dk_27 (dk_at dksX4_crossed_5 12 rfl rfl)
theorem dX4_crossed_128 : decode cX4_crossed 128 = .ok (.ireturn, 1) := dk_172 (dk_at dksX4_crossed_5 13 rfl rfl)
abbrev cX4_wouldBe : ByteArray := prog_24_method_61_code
def yX4_wouldBe : MethodName := ⟨RX4, "wouldBe", "(IIII)I"⟩
def dkwX4_wouldBe_4 : List UInt8 := [21, 6, 6, 182, 0, 130, 54, 7, 42, 182, 0, 226, 21, 7, 172]
abbrev dktX4_wouldBe_4 : List UInt8 := dkwX4_wouldBe_4 ++ []
def dkwX4_wouldBe_3 : List UInt8 := [182, 0, 167, 3, 54, 7, 21, 7, 21, 4, 162, 0, 13, 42, 182, 0, 223, 132, 7, 1, 167, 255, 242, 42]
abbrev dktX4_wouldBe_3 : List UInt8 := dkwX4_wouldBe_3 ++ dktX4_wouldBe_4
def dkwX4_wouldBe_2 : List UInt8 := [180, 0, 9, 7, 46, 54, 6, 21, 6, 16, 40, 160, 0, 5, 2, 172, 42, 182, 0, 220, 42, 27, 28, 29]
abbrev dktX4_wouldBe_2 : List UInt8 := dkwX4_wouldBe_2 ++ dktX4_wouldBe_3
def dkwX4_wouldBe_1 : List UInt8 := [154, 0, 7, 5, 167, 0, 7, 42, 180, 0, 77, 181, 0, 77, 42, 180, 0, 77, 153, 0, 5, 3, 172, 42]
abbrev dktX4_wouldBe_1 : List UInt8 := dkwX4_wouldBe_1 ++ dktX4_wouldBe_2
def dkwX4_wouldBe_0 : List UInt8 := [42, 27, 28, 29, 182, 0, 217, 54, 5, 42, 21, 5, 153, 0, 18, 21, 4, 3, 16, 60, 184, 0, 90]
abbrev dktX4_wouldBe_0 : List UInt8 := dkwX4_wouldBe_0 ++ dktX4_wouldBe_1
theorem dksX4_wouldBe_0 : cX4_wouldBe.data.toList.drop 0 = dktX4_wouldBe_0 := by decide +kernel
theorem dksX4_wouldBe_1 : cX4_wouldBe.data.toList.drop 23 = dktX4_wouldBe_1 := dk_seg dksX4_wouldBe_0 23 rfl rfl
theorem dksX4_wouldBe_2 : cX4_wouldBe.data.toList.drop 47 = dktX4_wouldBe_2 := dk_seg dksX4_wouldBe_1 24 rfl rfl
theorem dksX4_wouldBe_3 : cX4_wouldBe.data.toList.drop 71 = dktX4_wouldBe_3 := dk_seg dksX4_wouldBe_2 24 rfl rfl
theorem dksX4_wouldBe_4 : cX4_wouldBe.data.toList.drop 95 = dktX4_wouldBe_4 := dk_seg dksX4_wouldBe_3 24 rfl rfl
theorem dX4_wouldBe_0 : decode cX4_wouldBe 0 = .ok (.aload_n 0, 1) := dk_42 (dk_at dksX4_wouldBe_0 0 rfl rfl)
theorem dX4_wouldBe_1 : decode cX4_wouldBe 1 = .ok (.iload_n 1, 1) := dk_27 (dk_at dksX4_wouldBe_0 1 rfl rfl)
theorem dX4_wouldBe_2 : decode cX4_wouldBe 2 = .ok (.iload_n 2, 1) := dk_28 (dk_at dksX4_wouldBe_0 2 rfl rfl)
theorem dX4_wouldBe_3 : decode cX4_wouldBe 3 = .ok (.iload_n 3, 1) := dk_29 (dk_at dksX4_wouldBe_0 3 rfl rfl)
theorem dX4_wouldBe_4 : decode cX4_wouldBe 4 = .ok (.invokevirtual 217, 3) := dk_182 0 217 (dk_at dksX4_wouldBe_0 4 rfl rfl)
theorem dX4_wouldBe_7 : decode cX4_wouldBe 7 = .ok (.istore 5, 2) := dk_54 5 (dk_at dksX4_wouldBe_0 7 rfl rfl)
theorem dX4_wouldBe_9 : decode cX4_wouldBe 9 = .ok (.aload_n 0, 1) := dk_42 (dk_at dksX4_wouldBe_0 9 rfl rfl)
theorem dX4_wouldBe_10 : decode cX4_wouldBe 10 = .ok (.iload 5, 2) := dk_21 5 (dk_at dksX4_wouldBe_0 10 rfl rfl)
theorem dX4_wouldBe_12 : decode cX4_wouldBe 12 = .ok (.ifCond .eq 18, 3) := dk_153 0 18 (dk_at dksX4_wouldBe_0 12 rfl rfl)
theorem dX4_wouldBe_15 : decode cX4_wouldBe 15 = .ok (.iload 4, 2) := dk_21 4 (dk_at dksX4_wouldBe_0 15 rfl rfl)
theorem dX4_wouldBe_17 : decode cX4_wouldBe 17 = .ok (.iconst 0, 1) := dk_3 (dk_at dksX4_wouldBe_0 17 rfl rfl)
theorem dX4_wouldBe_18 : decode cX4_wouldBe 18 = .ok (.bipush 60, 2) := dk_16 60 (dk_at dksX4_wouldBe_0 18 rfl rfl)
theorem dX4_wouldBe_20 : decode cX4_wouldBe 20 = .ok (.invokestatic 90, 3) := dk_184 0 90 (dk_at dksX4_wouldBe_0 20 rfl rfl)
theorem dX4_wouldBe_23 : decode cX4_wouldBe 23 = .ok (.ifCond .ne 7, 3) := dk_154 0 7 (dk_at dksX4_wouldBe_1 0 rfl rfl)
theorem dX4_wouldBe_26 : decode cX4_wouldBe 26 = .ok (.iconst 2, 1) := dk_5 (dk_at dksX4_wouldBe_1 3 rfl rfl)
theorem dX4_wouldBe_27 : decode cX4_wouldBe 27 = .ok (.goto 7, 3) := dk_167 0 7 (dk_at dksX4_wouldBe_1 4 rfl rfl)
theorem dX4_wouldBe_30 : decode cX4_wouldBe 30 = .ok (.aload_n 0, 1) := dk_42 (dk_at dksX4_wouldBe_1 7 rfl rfl)
theorem dX4_wouldBe_31 : decode cX4_wouldBe 31 = .ok (.getfield 77, 3) := dk_180 0 77 (dk_at dksX4_wouldBe_1 8 rfl rfl)
theorem dX4_wouldBe_34 : decode cX4_wouldBe 34 = .ok (.putfield 77, 3) := dk_181 0 77 (dk_at dksX4_wouldBe_1 11 rfl rfl)
theorem dX4_wouldBe_37 : decode cX4_wouldBe 37 = .ok (.aload_n 0, 1) := dk_42 (dk_at dksX4_wouldBe_1 14 rfl rfl)
theorem dX4_wouldBe_38 : decode cX4_wouldBe 38 = .ok (.getfield 77, 3) := dk_180 0 77 (dk_at dksX4_wouldBe_1 15 rfl rfl)
theorem dX4_wouldBe_41 : decode cX4_wouldBe 41 = .ok (.ifCond .eq 5, 3) := dk_153 0 5 (dk_at dksX4_wouldBe_1 18 rfl rfl)
theorem dX4_wouldBe_44 : decode cX4_wouldBe 44 = .ok (.iconst 0, 1) := dk_3 (dk_at dksX4_wouldBe_1 21 rfl rfl)
theorem dX4_wouldBe_45 : decode cX4_wouldBe 45 = .ok (.ireturn, 1) := dk_172 (dk_at dksX4_wouldBe_1 22 rfl rfl)
theorem dX4_wouldBe_46 : decode cX4_wouldBe 46 = .ok (.aload_n 0, 1) := dk_42 (dk_at dksX4_wouldBe_1 23 rfl rfl)
theorem dX4_wouldBe_47 : decode cX4_wouldBe 47 = .ok (.getfield 9, 3) := dk_180 0 9 (dk_at dksX4_wouldBe_2 0 rfl rfl)
theorem dX4_wouldBe_50 : decode cX4_wouldBe 50 = .ok (.iconst 4, 1) := dk_7 (dk_at dksX4_wouldBe_2 3 rfl rfl)
theorem dX4_wouldBe_51 : decode cX4_wouldBe 51 = .ok (.iaload, 1) := dk_46 (dk_at dksX4_wouldBe_2 4 rfl rfl)
theorem dX4_wouldBe_52 : decode cX4_wouldBe 52 = .ok (.istore 6, 2) := dk_54 6 (dk_at dksX4_wouldBe_2 5 rfl rfl)
theorem dX4_wouldBe_54 : decode cX4_wouldBe 54 = .ok (.iload 6, 2) := dk_21 6 (dk_at dksX4_wouldBe_2 7 rfl rfl)
theorem dX4_wouldBe_56 : decode cX4_wouldBe 56 = .ok (.bipush 40, 2) := dk_16 40 (dk_at dksX4_wouldBe_2 9 rfl rfl)
theorem dX4_wouldBe_58 : decode cX4_wouldBe 58 = .ok (.if_icmp .ne 5, 3) := dk_160 0 5 (dk_at dksX4_wouldBe_2 11 rfl rfl)
theorem dX4_wouldBe_61 : decode cX4_wouldBe 61 = .ok (.iconst (-1), 1) := dk_2 (dk_at dksX4_wouldBe_2 14 rfl rfl)
theorem dX4_wouldBe_62 : decode cX4_wouldBe 62 = .ok (.ireturn, 1) := dk_172 (dk_at dksX4_wouldBe_2 15 rfl rfl)
theorem dX4_wouldBe_63 : decode cX4_wouldBe 63 = .ok (.aload_n 0, 1) := dk_42 (dk_at dksX4_wouldBe_2 16 rfl rfl)
theorem dX4_wouldBe_64 : decode cX4_wouldBe 64 = .ok (.invokevirtual 220, 3) := dk_182 0 220 (dk_at dksX4_wouldBe_2 17 rfl rfl)
theorem dX4_wouldBe_67 : decode cX4_wouldBe 67 = .ok (.aload_n 0, 1) := dk_42 (dk_at dksX4_wouldBe_2 20 rfl rfl)
theorem dX4_wouldBe_68 : decode cX4_wouldBe 68 = .ok (.iload_n 1, 1) := dk_27 (dk_at dksX4_wouldBe_2 21 rfl rfl)
theorem dX4_wouldBe_69 : decode cX4_wouldBe 69 = .ok (.iload_n 2, 1) := dk_28 (dk_at dksX4_wouldBe_2 22 rfl rfl)
theorem dX4_wouldBe_70 : decode cX4_wouldBe 70 = .ok (.iload_n 3, 1) := dk_29 (dk_at dksX4_wouldBe_2 23 rfl rfl)
theorem dX4_wouldBe_71 : decode cX4_wouldBe 71 = .ok (.invokevirtual 167, 3) := dk_182 0 167 (dk_at dksX4_wouldBe_3 0 rfl rfl)
theorem dX4_wouldBe_74 : decode cX4_wouldBe 74 = .ok (.iconst 0, 1) := dk_3 (dk_at dksX4_wouldBe_3 3 rfl rfl)
theorem dX4_wouldBe_75 : decode cX4_wouldBe 75 = .ok (.istore 7, 2) := dk_54 7 (dk_at dksX4_wouldBe_3 4 rfl rfl)
theorem dX4_wouldBe_77 : decode cX4_wouldBe 77 = .ok (.iload 7, 2) := dk_21 7 (dk_at dksX4_wouldBe_3 6 rfl rfl)
theorem dX4_wouldBe_79 : decode cX4_wouldBe 79 = .ok (.iload 4, 2) := dk_21 4 (dk_at dksX4_wouldBe_3 8 rfl rfl)
theorem dX4_wouldBe_81 : decode cX4_wouldBe 81 = .ok (.if_icmp .ge 13, 3) := dk_162 0 13 (dk_at dksX4_wouldBe_3 10 rfl rfl)
theorem dX4_wouldBe_84 : decode cX4_wouldBe 84 = .ok (.aload_n 0, 1) := dk_42 (dk_at dksX4_wouldBe_3 13 rfl rfl)
theorem dX4_wouldBe_85 : decode cX4_wouldBe 85 = .ok (.invokevirtual 223, 3) := dk_182 0 223 (dk_at dksX4_wouldBe_3 14 rfl rfl)
theorem dX4_wouldBe_88 : decode cX4_wouldBe 88 = .ok (.iinc 7 1, 3) := dk_132 7 1 (dk_at dksX4_wouldBe_3 17 rfl rfl)
theorem dX4_wouldBe_91 : decode cX4_wouldBe 91 = .ok (.goto (-14), 3) := dk_167 255 242 (dk_at dksX4_wouldBe_3 20 rfl rfl)
theorem dX4_wouldBe_94 : decode cX4_wouldBe 94 = .ok (.aload_n 0, 1) := dk_42 (dk_at dksX4_wouldBe_3 23 rfl rfl)
theorem dX4_wouldBe_95 : decode cX4_wouldBe 95 = .ok (.iload 6, 2) := dk_21 6 (dk_at dksX4_wouldBe_4 0 rfl rfl)
theorem dX4_wouldBe_97 : decode cX4_wouldBe 97 = .ok (.iconst 3, 1) := dk_6 (dk_at dksX4_wouldBe_4 2 rfl rfl)
theorem dX4_wouldBe_98 : decode cX4_wouldBe 98 = .ok (.invokevirtual 130, 3) := dk_182 0 130 (dk_at dksX4_wouldBe_4 3 rfl rfl)
theorem dX4_wouldBe_101 : decode cX4_wouldBe 101 = .ok (.istore 7, 2) := dk_54 7 (dk_at dksX4_wouldBe_4 6 rfl rfl)
theorem dX4_wouldBe_103 : decode cX4_wouldBe 103 = .ok (.aload_n 0, 1) := dk_42 (dk_at dksX4_wouldBe_4 8 rfl rfl)
theorem dX4_wouldBe_104 : decode cX4_wouldBe 104 = .ok (.invokevirtual 226, 3) := dk_182 0 226 (dk_at dksX4_wouldBe_4 9 rfl rfl)
theorem dX4_wouldBe_107 : decode cX4_wouldBe 107 = .ok (.iload 7, 2) := dk_21 7 (dk_at dksX4_wouldBe_4 12 rfl rfl)
theorem dX4_wouldBe_109 : decode cX4_wouldBe 109 = .ok (.ireturn, 1) := dk_172 (dk_at dksX4_wouldBe_4 14 rfl rfl)
abbrev cX4_isTarget : ByteArray := prog_24_method_58_code
def yX4_isTarget : MethodName := ⟨RX4, "isTarget", "(III)Z"⟩
def dkwX4_isTarget_2 : List UInt8 := [167, 0, 4, 3, 172]
abbrev dktX4_isTarget_2 : List UInt8 := dkwX4_isTarget_2 ++ []
def dkwX4_isTarget_1 : List UInt8 := [29, 182, 0, 101, 153, 0, 7, 3, 167, 0, 4, 5, 181, 0, 77, 42, 180, 0, 77, 154, 0, 7, 4]
abbrev dktX4_isTarget_1 : List UInt8 := dkwX4_isTarget_1 ++ dktX4_isTarget_2
def dkwX4_isTarget_0 : List UInt8 := [42, 42, 27, 182, 0, 195, 153, 0, 12, 42, 28, 29, 182, 0, 94, 154, 0, 7, 4, 167, 0, 17, 42, 28]
abbrev dktX4_isTarget_0 : List UInt8 := dkwX4_isTarget_0 ++ dktX4_isTarget_1
theorem dksX4_isTarget_0 : cX4_isTarget.data.toList.drop 0 = dktX4_isTarget_0 := by decide +kernel
theorem dksX4_isTarget_1 : cX4_isTarget.data.toList.drop 24 = dktX4_isTarget_1 := dk_seg dksX4_isTarget_0 24 rfl rfl
theorem dksX4_isTarget_2 : cX4_isTarget.data.toList.drop 47 = dktX4_isTarget_2 := dk_seg dksX4_isTarget_1 23 rfl rfl
theorem dX4_isTarget_0 : decode cX4_isTarget 0 = .ok (.aload_n 0, 1) := dk_42 (dk_at dksX4_isTarget_0 0 rfl rfl)
theorem dX4_isTarget_1 : decode cX4_isTarget 1 = .ok (.aload_n 0, 1) := dk_42 (dk_at dksX4_isTarget_0 1 rfl rfl)
theorem dX4_isTarget_2 : decode cX4_isTarget 2 = .ok (.iload_n 1, 1) := dk_27 (dk_at dksX4_isTarget_0 2 rfl rfl)
theorem dX4_isTarget_3 : decode cX4_isTarget 3 = .ok (.invokevirtual 195, 3) := dk_182 0 195 (dk_at dksX4_isTarget_0 3 rfl rfl)
theorem dX4_isTarget_6 : decode cX4_isTarget 6 = .ok (.ifCond .eq 12, 3) := dk_153 0 12 (dk_at dksX4_isTarget_0 6 rfl rfl)
theorem dX4_isTarget_9 : decode cX4_isTarget 9 = .ok (.aload_n 0, 1) := dk_42 (dk_at dksX4_isTarget_0 9 rfl rfl)
theorem dX4_isTarget_10 : decode cX4_isTarget 10 = .ok (.iload_n 2, 1) := dk_28 (dk_at dksX4_isTarget_0 10 rfl rfl)
theorem dX4_isTarget_11 : decode cX4_isTarget 11 = .ok (.iload_n 3, 1) := dk_29 (dk_at dksX4_isTarget_0 11 rfl rfl)
theorem dX4_isTarget_12 : decode cX4_isTarget 12 = .ok (.invokevirtual 94, 3) := dk_182 0 94 (dk_at dksX4_isTarget_0 12 rfl rfl)
theorem dX4_isTarget_15 : decode cX4_isTarget 15 = .ok (.ifCond .ne 7, 3) := dk_154 0 7 (dk_at dksX4_isTarget_0 15 rfl rfl)
theorem dX4_isTarget_18 : decode cX4_isTarget 18 = .ok (.iconst 1, 1) := dk_4 (dk_at dksX4_isTarget_0 18 rfl rfl)
theorem dX4_isTarget_19 : decode cX4_isTarget 19 = .ok (.goto 17, 3) := dk_167 0 17 (dk_at dksX4_isTarget_0 19 rfl rfl)
theorem dX4_isTarget_22 : decode cX4_isTarget 22 = .ok (.aload_n 0, 1) := dk_42 (dk_at dksX4_isTarget_0 22 rfl rfl)
theorem dX4_isTarget_23 : decode cX4_isTarget 23 = .ok (.iload_n 2, 1) := dk_28 (dk_at dksX4_isTarget_0 23 rfl rfl)
theorem dX4_isTarget_24 : decode cX4_isTarget 24 = .ok (.iload_n 3, 1) := dk_29 (dk_at dksX4_isTarget_1 0 rfl rfl)
theorem dX4_isTarget_25 : decode cX4_isTarget 25 = .ok (.invokevirtual 101, 3) := dk_182 0 101 (dk_at dksX4_isTarget_1 1 rfl rfl)
theorem dX4_isTarget_28 : decode cX4_isTarget 28 = .ok (.ifCond .eq 7, 3) := dk_153 0 7 (dk_at dksX4_isTarget_1 4 rfl rfl)
theorem dX4_isTarget_31 : decode cX4_isTarget 31 = .ok (.iconst 0, 1) := dk_3 (dk_at dksX4_isTarget_1 7 rfl rfl)
theorem dX4_isTarget_32 : decode cX4_isTarget 32 = .ok (.goto 4, 3) := dk_167 0 4 (dk_at dksX4_isTarget_1 8 rfl rfl)
theorem dX4_isTarget_35 : decode cX4_isTarget 35 = .ok (.iconst 2, 1) := dk_5 (dk_at dksX4_isTarget_1 11 rfl rfl)
theorem dX4_isTarget_36 : decode cX4_isTarget 36 = .ok (.putfield 77, 3) := dk_181 0 77 (dk_at dksX4_isTarget_1 12 rfl rfl)
theorem dX4_isTarget_39 : decode cX4_isTarget 39 = .ok (.aload_n 0, 1) := dk_42 (dk_at dksX4_isTarget_1 15 rfl rfl)
theorem dX4_isTarget_40 : decode cX4_isTarget 40 = .ok (.getfield 77, 3) := dk_180 0 77 (dk_at dksX4_isTarget_1 16 rfl rfl)
theorem dX4_isTarget_43 : decode cX4_isTarget 43 = .ok (.ifCond .ne 7, 3) := dk_154 0 7 (dk_at dksX4_isTarget_1 19 rfl rfl)
theorem dX4_isTarget_46 : decode cX4_isTarget 46 = .ok (.iconst 1, 1) := dk_4 (dk_at dksX4_isTarget_1 22 rfl rfl)
theorem dX4_isTarget_47 : decode cX4_isTarget 47 = .ok (.goto 4, 3) := dk_167 0 4 (dk_at dksX4_isTarget_2 0 rfl rfl)
theorem dX4_isTarget_50 : decode cX4_isTarget 50 = .ok (.iconst 0, 1) := dk_3 (dk_at dksX4_isTarget_2 3 rfl rfl)
theorem dX4_isTarget_51 : decode cX4_isTarget 51 = .ok (.ireturn, 1) := dk_172 (dk_at dksX4_isTarget_2 4 rfl rfl)
abbrev cX4_begin : ByteArray := prog_24_method_59_code
def yX4_begin : MethodName := ⟨RX4, "begin", "()V"⟩
def dkwX4_begin_0 : List UInt8 := [42, 180, 0, 9, 3, 42, 180, 0, 16, 3, 184, 0, 213, 177]
abbrev dktX4_begin_0 : List UInt8 := dkwX4_begin_0 ++ []
theorem dksX4_begin_0 : cX4_begin.data.toList.drop 0 = dktX4_begin_0 := by decide +kernel
theorem dX4_begin_0 : decode cX4_begin 0 = .ok (.aload_n 0, 1) := dk_42 (dk_at dksX4_begin_0 0 rfl rfl)
theorem dX4_begin_1 : decode cX4_begin 1 = .ok (.getfield 9, 3) := dk_180 0 9 (dk_at dksX4_begin_0 1 rfl rfl)
theorem dX4_begin_4 : decode cX4_begin 4 = .ok (.iconst 0, 1) := dk_3 (dk_at dksX4_begin_0 4 rfl rfl)
theorem dX4_begin_5 : decode cX4_begin 5 = .ok (.aload_n 0, 1) := dk_42 (dk_at dksX4_begin_0 5 rfl rfl)
theorem dX4_begin_6 : decode cX4_begin 6 = .ok (.getfield 16, 3) := dk_180 0 16 (dk_at dksX4_begin_0 6 rfl rfl)
theorem dX4_begin_9 : decode cX4_begin 9 = .ok (.iconst 0, 1) := dk_3 (dk_at dksX4_begin_0 9 rfl rfl)
theorem dX4_begin_10 : decode cX4_begin 10 = .ok (.invokestatic 213, 3) := dk_184 0 213 (dk_at dksX4_begin_0 10 rfl rfl)
theorem dX4_begin_13 : decode cX4_begin 13 = .ok (.return_, 1) := dk_177 (dk_at dksX4_begin_0 13 rfl rfl)
abbrev cX4_copy : ByteArray := prog_24_method_81_code
def yX4_copy : MethodName := ⟨RX4, "copy", "([II[II)V"⟩
def dkwX4_copy_1 : List UInt8 := [27, 104, 21, 4, 96, 46, 79, 132, 4, 1, 167, 255, 225, 177]
abbrev dktX4_copy_1 : List UInt8 := dkwX4_copy_1 ++ []
def dkwX4_copy_0 : List UInt8 := [3, 54, 4, 21, 4, 17, 15, 94, 162, 0, 29, 44, 17, 15, 94, 29, 104, 21, 4, 96, 42, 17, 15, 94]
abbrev dktX4_copy_0 : List UInt8 := dkwX4_copy_0 ++ dktX4_copy_1
theorem dksX4_copy_0 : cX4_copy.data.toList.drop 0 = dktX4_copy_0 := by decide +kernel
theorem dksX4_copy_1 : cX4_copy.data.toList.drop 24 = dktX4_copy_1 := dk_seg dksX4_copy_0 24 rfl rfl
theorem dX4_copy_0 : decode cX4_copy 0 = .ok (.iconst 0, 1) := dk_3 (dk_at dksX4_copy_0 0 rfl rfl)
theorem dX4_copy_1 : decode cX4_copy 1 = .ok (.istore 4, 2) := dk_54 4 (dk_at dksX4_copy_0 1 rfl rfl)
theorem dX4_copy_3 : decode cX4_copy 3 = .ok (.iload 4, 2) := dk_21 4 (dk_at dksX4_copy_0 3 rfl rfl)
theorem dX4_copy_5 : decode cX4_copy 5 = .ok (.sipush 3934, 3) := dk_17 15 94 (dk_at dksX4_copy_0 5 rfl rfl)
theorem dX4_copy_8 : decode cX4_copy 8 = .ok (.if_icmp .ge 29, 3) := dk_162 0 29 (dk_at dksX4_copy_0 8 rfl rfl)
theorem dX4_copy_11 : decode cX4_copy 11 = .ok (.aload_n 2, 1) := dk_44 (dk_at dksX4_copy_0 11 rfl rfl)
theorem dX4_copy_12 : decode cX4_copy 12 = .ok (.sipush 3934, 3) := dk_17 15 94 (dk_at dksX4_copy_0 12 rfl rfl)
theorem dX4_copy_15 : decode cX4_copy 15 = .ok (.iload_n 3, 1) := dk_29 (dk_at dksX4_copy_0 15 rfl rfl)
theorem dX4_copy_16 : decode cX4_copy 16 = .ok (.imul, 1) := dk_104 (dk_at dksX4_copy_0 16 rfl rfl)
theorem dX4_copy_17 : decode cX4_copy 17 = .ok (.iload 4, 2) := dk_21 4 (dk_at dksX4_copy_0 17 rfl rfl)
theorem dX4_copy_19 : decode cX4_copy 19 = .ok (.iadd, 1) := dk_96 (dk_at dksX4_copy_0 19 rfl rfl)
theorem dX4_copy_20 : decode cX4_copy 20 = .ok (.aload_n 0, 1) := dk_42 (dk_at dksX4_copy_0 20 rfl rfl)
theorem dX4_copy_21 : decode cX4_copy 21 = .ok (.sipush 3934, 3) := dk_17 15 94 (dk_at dksX4_copy_0 21 rfl rfl)
theorem dX4_copy_24 : decode cX4_copy 24 = .ok (.iload_n 1, 1) := dk_27 (dk_at dksX4_copy_1 0 rfl rfl)
theorem dX4_copy_25 : decode cX4_copy 25 = .ok (.imul, 1) := dk_104 (dk_at dksX4_copy_1 1 rfl rfl)
theorem dX4_copy_26 : decode cX4_copy 26 = .ok (.iload 4, 2) := dk_21 4 (dk_at dksX4_copy_1 2 rfl rfl)
theorem dX4_copy_28 : decode cX4_copy 28 = .ok (.iadd, 1) := dk_96 (dk_at dksX4_copy_1 4 rfl rfl)
theorem dX4_copy_29 : decode cX4_copy 29 = .ok (.iaload, 1) := dk_46 (dk_at dksX4_copy_1 5 rfl rfl)
theorem dX4_copy_30 : decode cX4_copy 30 = .ok (.iastore, 1) := dk_79 (dk_at dksX4_copy_1 6 rfl rfl)
theorem dX4_copy_31 : decode cX4_copy 31 = .ok (.iinc 4 1, 3) := dk_132 4 1 (dk_at dksX4_copy_1 7 rfl rfl)
theorem dX4_copy_34 : decode cX4_copy 34 = .ok (.goto (-31), 3) := dk_167 255 225 (dk_at dksX4_copy_1 10 rfl rfl)
theorem dX4_copy_37 : decode cX4_copy 37 = .ok (.return_, 1) := dk_177 (dk_at dksX4_copy_1 13 rfl rfl)
abbrev cX4_dispatch : ByteArray := prog_24_method_30_code
def yX4_dispatch : MethodName := ⟨RX4, "dispatch", "(III)V"⟩
def dkwX4_dispatch_6 : List UInt8 := [184, 0, 87, 3, 79, 42, 180, 0, 9, 7, 92, 46, 4, 96, 79, 177]
abbrev dktX4_dispatch_6 : List UInt8 := dkwX4_dispatch_6 ++ []
def dkwX4_dispatch_5 : List UInt8 := [21, 4, 16, 8, 184, 0, 87, 42, 180, 0, 9, 16, 11, 46, 79, 42, 180, 0, 9, 21, 4, 16, 9]
abbrev dktX4_dispatch_5 : List UInt8 := dkwX4_dispatch_5 ++ dktX4_dispatch_6
def dkwX4_dispatch_4 : List UInt8 := [42, 180, 0, 9, 21, 4, 16, 7, 184, 0, 87, 42, 180, 0, 9, 16, 10, 46, 79, 42, 180, 0, 9]
abbrev dktX4_dispatch_4 : List UInt8 := dkwX4_dispatch_4 ++ dktX4_dispatch_5
def dkwX4_dispatch_3 : List UInt8 := [180, 0, 9, 21, 4, 8, 184, 0, 87, 2, 79, 42, 180, 0, 9, 21, 4, 16, 6, 184, 0, 87, 2, 79]
abbrev dktX4_dispatch_3 : List UInt8 := dkwX4_dispatch_3 ++ dktX4_dispatch_4
def dkwX4_dispatch_2 : List UInt8 := [21, 4, 6, 184, 0, 87, 3, 79, 42, 180, 0, 9, 21, 4, 7, 184, 0, 87, 42, 182, 0, 126, 79, 42]
abbrev dktX4_dispatch_2 : List UInt8 := dkwX4_dispatch_2 ++ dktX4_dispatch_3
def dkwX4_dispatch_1 : List UInt8 := [21, 4, 4, 184, 0, 87, 28, 79, 42, 180, 0, 9, 21, 4, 5, 184, 0, 87, 29, 79, 42, 180, 0, 9]
abbrev dktX4_dispatch_1 : List UInt8 := dkwX4_dispatch_1 ++ dktX4_dispatch_2
def dkwX4_dispatch_0 : List UInt8 := [42, 180, 0, 9, 7, 46, 54, 4, 42, 180, 0, 9, 21, 4, 3, 184, 0, 87, 27, 79, 42, 180, 0, 9]
abbrev dktX4_dispatch_0 : List UInt8 := dkwX4_dispatch_0 ++ dktX4_dispatch_1
theorem dksX4_dispatch_0 : cX4_dispatch.data.toList.drop 0 = dktX4_dispatch_0 := by decide +kernel
theorem dksX4_dispatch_1 : cX4_dispatch.data.toList.drop 24 = dktX4_dispatch_1 := dk_seg dksX4_dispatch_0 24 rfl rfl
theorem dksX4_dispatch_2 : cX4_dispatch.data.toList.drop 48 = dktX4_dispatch_2 := dk_seg dksX4_dispatch_1 24 rfl rfl
theorem dksX4_dispatch_3 : cX4_dispatch.data.toList.drop 72 = dktX4_dispatch_3 := dk_seg dksX4_dispatch_2 24 rfl rfl
theorem dksX4_dispatch_4 : cX4_dispatch.data.toList.drop 96 = dktX4_dispatch_4 := dk_seg dksX4_dispatch_3 24 rfl rfl
theorem dksX4_dispatch_5 : cX4_dispatch.data.toList.drop 119 = dktX4_dispatch_5 := dk_seg dksX4_dispatch_4 23 rfl rfl
theorem dksX4_dispatch_6 : cX4_dispatch.data.toList.drop 142 = dktX4_dispatch_6 := dk_seg dksX4_dispatch_5 23 rfl rfl
theorem dX4_dispatch_0 : decode cX4_dispatch 0 = .ok (.aload_n 0, 1) := dk_42 (dk_at dksX4_dispatch_0 0 rfl rfl)
theorem dX4_dispatch_1 : decode cX4_dispatch 1 = .ok (.getfield 9, 3) := dk_180 0 9 (dk_at dksX4_dispatch_0 1 rfl rfl)
theorem dX4_dispatch_4 : decode cX4_dispatch 4 = .ok (.iconst 4, 1) := dk_7 (dk_at dksX4_dispatch_0 4 rfl rfl)
theorem dX4_dispatch_5 : decode cX4_dispatch 5 = .ok (.iaload, 1) := dk_46 (dk_at dksX4_dispatch_0 5 rfl rfl)
theorem dX4_dispatch_6 : decode cX4_dispatch 6 = .ok (.istore 4, 2) := dk_54 4 (dk_at dksX4_dispatch_0 6 rfl rfl)
theorem dX4_dispatch_8 : decode cX4_dispatch 8 = .ok (.aload_n 0, 1) := dk_42 (dk_at dksX4_dispatch_0 8 rfl rfl)
theorem dX4_dispatch_9 : decode cX4_dispatch 9 = .ok (.getfield 9, 3) := dk_180 0 9 (dk_at dksX4_dispatch_0 9 rfl rfl)
theorem dX4_dispatch_12 : decode cX4_dispatch 12 = .ok (.iload 4, 2) := dk_21 4 (dk_at dksX4_dispatch_0 12 rfl rfl)
theorem dX4_dispatch_14 : decode cX4_dispatch 14 = .ok (.iconst 0, 1) := dk_3 (dk_at dksX4_dispatch_0 14 rfl rfl)
theorem dX4_dispatch_15 : decode cX4_dispatch 15 = .ok (.invokestatic 87, 3) := dk_184 0 87 (dk_at dksX4_dispatch_0 15 rfl rfl)
theorem dX4_dispatch_18 : decode cX4_dispatch 18 = .ok (.iload_n 1, 1) := dk_27 (dk_at dksX4_dispatch_0 18 rfl rfl)
theorem dX4_dispatch_19 : decode cX4_dispatch 19 = .ok (.iastore, 1) := dk_79 (dk_at dksX4_dispatch_0 19 rfl rfl)
theorem dX4_dispatch_20 : decode cX4_dispatch 20 = .ok (.aload_n 0, 1) := dk_42 (dk_at dksX4_dispatch_0 20 rfl rfl)
theorem dX4_dispatch_21 : decode cX4_dispatch 21 = .ok (.getfield 9, 3) := dk_180 0 9 (dk_at dksX4_dispatch_0 21 rfl rfl)
theorem dX4_dispatch_24 : decode cX4_dispatch 24 = .ok (.iload 4, 2) := dk_21 4 (dk_at dksX4_dispatch_1 0 rfl rfl)
theorem dX4_dispatch_26 : decode cX4_dispatch 26 = .ok (.iconst 1, 1) := dk_4 (dk_at dksX4_dispatch_1 2 rfl rfl)
theorem dX4_dispatch_27 : decode cX4_dispatch 27 = .ok (.invokestatic 87, 3) := dk_184 0 87 (dk_at dksX4_dispatch_1 3 rfl rfl)
theorem dX4_dispatch_30 : decode cX4_dispatch 30 = .ok (.iload_n 2, 1) := dk_28 (dk_at dksX4_dispatch_1 6 rfl rfl)
theorem dX4_dispatch_31 : decode cX4_dispatch 31 = .ok (.iastore, 1) := dk_79 (dk_at dksX4_dispatch_1 7 rfl rfl)
theorem dX4_dispatch_32 : decode cX4_dispatch 32 = .ok (.aload_n 0, 1) := dk_42 (dk_at dksX4_dispatch_1 8 rfl rfl)
theorem dX4_dispatch_33 : decode cX4_dispatch 33 = .ok (.getfield 9, 3) := dk_180 0 9 (dk_at dksX4_dispatch_1 9 rfl rfl)
theorem dX4_dispatch_36 : decode cX4_dispatch 36 = .ok (.iload 4, 2) := dk_21 4 (dk_at dksX4_dispatch_1 12 rfl rfl)
theorem dX4_dispatch_38 : decode cX4_dispatch 38 = .ok (.iconst 2, 1) := dk_5 (dk_at dksX4_dispatch_1 14 rfl rfl)
theorem dX4_dispatch_39 : decode cX4_dispatch 39 = .ok (.invokestatic 87, 3) := dk_184 0 87 (dk_at dksX4_dispatch_1 15 rfl rfl)
theorem dX4_dispatch_42 : decode cX4_dispatch 42 = .ok (.iload_n 3, 1) := dk_29 (dk_at dksX4_dispatch_1 18 rfl rfl)
theorem dX4_dispatch_43 : decode cX4_dispatch 43 = .ok (.iastore, 1) := dk_79 (dk_at dksX4_dispatch_1 19 rfl rfl)
theorem dX4_dispatch_44 : decode cX4_dispatch 44 = .ok (.aload_n 0, 1) := dk_42 (dk_at dksX4_dispatch_1 20 rfl rfl)
theorem dX4_dispatch_45 : decode cX4_dispatch 45 = .ok (.getfield 9, 3) := dk_180 0 9 (dk_at dksX4_dispatch_1 21 rfl rfl)
theorem dX4_dispatch_48 : decode cX4_dispatch 48 = .ok (.iload 4, 2) := dk_21 4 (dk_at dksX4_dispatch_2 0 rfl rfl)
theorem dX4_dispatch_50 : decode cX4_dispatch 50 = .ok (.iconst 3, 1) := dk_6 (dk_at dksX4_dispatch_2 2 rfl rfl)
theorem dX4_dispatch_51 : decode cX4_dispatch 51 = .ok (.invokestatic 87, 3) := dk_184 0 87 (dk_at dksX4_dispatch_2 3 rfl rfl)
theorem dX4_dispatch_54 : decode cX4_dispatch 54 = .ok (.iconst 0, 1) := dk_3 (dk_at dksX4_dispatch_2 6 rfl rfl)
theorem dX4_dispatch_55 : decode cX4_dispatch 55 = .ok (.iastore, 1) := dk_79 (dk_at dksX4_dispatch_2 7 rfl rfl)
theorem dX4_dispatch_56 : decode cX4_dispatch 56 = .ok (.aload_n 0, 1) := dk_42 (dk_at dksX4_dispatch_2 8 rfl rfl)
theorem dX4_dispatch_57 : decode cX4_dispatch 57 = .ok (.getfield 9, 3) := dk_180 0 9 (dk_at dksX4_dispatch_2 9 rfl rfl)
theorem dX4_dispatch_60 : decode cX4_dispatch 60 = .ok (.iload 4, 2) := dk_21 4 (dk_at dksX4_dispatch_2 12 rfl rfl)
theorem dX4_dispatch_62 : decode cX4_dispatch 62 = .ok (.iconst 4, 1) := dk_7 (dk_at dksX4_dispatch_2 14 rfl rfl)
theorem dX4_dispatch_63 : decode cX4_dispatch 63 = .ok (.invokestatic 87, 3) := dk_184 0 87 (dk_at dksX4_dispatch_2 15 rfl rfl)
theorem dX4_dispatch_66 : decode cX4_dispatch 66 = .ok (.aload_n 0, 1) := dk_42 (dk_at dksX4_dispatch_2 18 rfl rfl)
theorem dX4_dispatch_67 : decode cX4_dispatch 67 = .ok (.invokevirtual 126, 3) := dk_182 0 126 (dk_at dksX4_dispatch_2 19 rfl rfl)
theorem dX4_dispatch_70 : decode cX4_dispatch 70 = .ok (.iastore, 1) := dk_79 (dk_at dksX4_dispatch_2 22 rfl rfl)
theorem dX4_dispatch_71 : decode cX4_dispatch 71 = .ok (.aload_n 0, 1) := dk_42 (dk_at dksX4_dispatch_2 23 rfl rfl)
theorem dX4_dispatch_72 : decode cX4_dispatch 72 = .ok (.getfield 9, 3) := dk_180 0 9 (dk_at dksX4_dispatch_3 0 rfl rfl)
theorem dX4_dispatch_75 : decode cX4_dispatch 75 = .ok (.iload 4, 2) := dk_21 4 (dk_at dksX4_dispatch_3 3 rfl rfl)
theorem dX4_dispatch_77 : decode cX4_dispatch 77 = .ok (.iconst 5, 1) := dk_8 (dk_at dksX4_dispatch_3 5 rfl rfl)
theorem dX4_dispatch_78 : decode cX4_dispatch 78 = .ok (.invokestatic 87, 3) := dk_184 0 87 (dk_at dksX4_dispatch_3 6 rfl rfl)
theorem dX4_dispatch_81 : decode cX4_dispatch 81 = .ok (.iconst (-1), 1) := dk_2 (dk_at dksX4_dispatch_3 9 rfl rfl)
theorem dX4_dispatch_82 : decode cX4_dispatch 82 = .ok (.iastore, 1) := dk_79 (dk_at dksX4_dispatch_3 10 rfl rfl)
theorem dX4_dispatch_83 : decode cX4_dispatch 83 = .ok (.aload_n 0, 1) := dk_42 (dk_at dksX4_dispatch_3 11 rfl rfl)
theorem dX4_dispatch_84 : decode cX4_dispatch 84 = .ok (.getfield 9, 3) := dk_180 0 9 (dk_at dksX4_dispatch_3 12 rfl rfl)
theorem dX4_dispatch_87 : decode cX4_dispatch 87 = .ok (.iload 4, 2) := dk_21 4 (dk_at dksX4_dispatch_3 15 rfl rfl)
theorem dX4_dispatch_89 : decode cX4_dispatch 89 = .ok (.bipush 6, 2) := dk_16 6 (dk_at dksX4_dispatch_3 17 rfl rfl)
theorem dX4_dispatch_91 : decode cX4_dispatch 91 = .ok (.invokestatic 87, 3) := dk_184 0 87 (dk_at dksX4_dispatch_3 19 rfl rfl)
theorem dX4_dispatch_94 : decode cX4_dispatch 94 = .ok (.iconst (-1), 1) := dk_2 (dk_at dksX4_dispatch_3 22 rfl rfl)
theorem dX4_dispatch_95 : decode cX4_dispatch 95 = .ok (.iastore, 1) := dk_79 (dk_at dksX4_dispatch_3 23 rfl rfl)
theorem dX4_dispatch_96 : decode cX4_dispatch 96 = .ok (.aload_n 0, 1) := dk_42 (dk_at dksX4_dispatch_4 0 rfl rfl)
theorem dX4_dispatch_97 : decode cX4_dispatch 97 = .ok (.getfield 9, 3) := dk_180 0 9 (dk_at dksX4_dispatch_4 1 rfl rfl)
theorem dX4_dispatch_100 : decode cX4_dispatch 100 = .ok (.iload 4, 2) := dk_21 4 (dk_at dksX4_dispatch_4 4 rfl rfl)
theorem dX4_dispatch_102 : decode cX4_dispatch 102 = .ok (.bipush 7, 2) := dk_16 7 (dk_at dksX4_dispatch_4 6 rfl rfl)
theorem dX4_dispatch_104 : decode cX4_dispatch 104 = .ok (.invokestatic 87, 3) := dk_184 0 87 (dk_at dksX4_dispatch_4 8 rfl rfl)
theorem dX4_dispatch_107 : decode cX4_dispatch 107 = .ok (.aload_n 0, 1) := dk_42 (dk_at dksX4_dispatch_4 11 rfl rfl)
theorem dX4_dispatch_108 : decode cX4_dispatch 108 = .ok (.getfield 9, 3) := dk_180 0 9 (dk_at dksX4_dispatch_4 12 rfl rfl)
theorem dX4_dispatch_111 : decode cX4_dispatch 111 = .ok (.bipush 10, 2) := dk_16 10 (dk_at dksX4_dispatch_4 15 rfl rfl)
theorem dX4_dispatch_113 : decode cX4_dispatch 113 = .ok (.iaload, 1) := dk_46 (dk_at dksX4_dispatch_4 17 rfl rfl)
theorem dX4_dispatch_114 : decode cX4_dispatch 114 = .ok (.iastore, 1) := dk_79 (dk_at dksX4_dispatch_4 18 rfl rfl)
theorem dX4_dispatch_115 : decode cX4_dispatch 115 = .ok (.aload_n 0, 1) := dk_42 (dk_at dksX4_dispatch_4 19 rfl rfl)
theorem dX4_dispatch_116 : decode cX4_dispatch 116 = .ok (.getfield 9, 3) := dk_180 0 9 (dk_at dksX4_dispatch_4 20 rfl rfl)
theorem dX4_dispatch_119 : decode cX4_dispatch 119 = .ok (.iload 4, 2) := dk_21 4 (dk_at dksX4_dispatch_5 0 rfl rfl)
theorem dX4_dispatch_121 : decode cX4_dispatch 121 = .ok (.bipush 8, 2) := dk_16 8 (dk_at dksX4_dispatch_5 2 rfl rfl)
theorem dX4_dispatch_123 : decode cX4_dispatch 123 = .ok (.invokestatic 87, 3) := dk_184 0 87 (dk_at dksX4_dispatch_5 4 rfl rfl)
theorem dX4_dispatch_126 : decode cX4_dispatch 126 = .ok (.aload_n 0, 1) := dk_42 (dk_at dksX4_dispatch_5 7 rfl rfl)
theorem dX4_dispatch_127 : decode cX4_dispatch 127 = .ok (.getfield 9, 3) := dk_180 0 9 (dk_at dksX4_dispatch_5 8 rfl rfl)
theorem dX4_dispatch_130 : decode cX4_dispatch 130 = .ok (.bipush 11, 2) := dk_16 11 (dk_at dksX4_dispatch_5 11 rfl rfl)
theorem dX4_dispatch_132 : decode cX4_dispatch 132 = .ok (.iaload, 1) := dk_46 (dk_at dksX4_dispatch_5 13 rfl rfl)
theorem dX4_dispatch_133 : decode cX4_dispatch 133 = .ok (.iastore, 1) := dk_79 (dk_at dksX4_dispatch_5 14 rfl rfl)
theorem dX4_dispatch_134 : decode cX4_dispatch 134 = .ok (.aload_n 0, 1) := dk_42 (dk_at dksX4_dispatch_5 15 rfl rfl)
theorem dX4_dispatch_135 : decode cX4_dispatch 135 = .ok (.getfield 9, 3) := dk_180 0 9 (dk_at dksX4_dispatch_5 16 rfl rfl)
theorem dX4_dispatch_138 : decode cX4_dispatch 138 = .ok (.iload 4, 2) := dk_21 4 (dk_at dksX4_dispatch_5 19 rfl rfl)
theorem dX4_dispatch_140 : decode cX4_dispatch 140 = .ok (.bipush 9, 2) := dk_16 9 (dk_at dksX4_dispatch_5 21 rfl rfl)
theorem dX4_dispatch_142 : decode cX4_dispatch 142 = .ok (.invokestatic 87, 3) := dk_184 0 87 (dk_at dksX4_dispatch_6 0 rfl rfl)
theorem dX4_dispatch_145 : decode cX4_dispatch 145 = .ok (.iconst 0, 1) := dk_3 (dk_at dksX4_dispatch_6 3 rfl rfl)
theorem dX4_dispatch_146 : decode cX4_dispatch 146 = .ok (.iastore, 1) := dk_79 (dk_at dksX4_dispatch_6 4 rfl rfl)
theorem dX4_dispatch_147 : decode cX4_dispatch 147 = .ok (.aload_n 0, 1) := dk_42 (dk_at dksX4_dispatch_6 5 rfl rfl)
theorem dX4_dispatch_148 : decode cX4_dispatch 148 = .ok (.getfield 9, 3) := dk_180 0 9 (dk_at dksX4_dispatch_6 6 rfl rfl)
theorem dX4_dispatch_151 : decode cX4_dispatch 151 = .ok (.iconst 4, 1) := dk_7 (dk_at dksX4_dispatch_6 9 rfl rfl)
theorem dX4_dispatch_152 : decode cX4_dispatch 152 = .ok (.dup2, 1) := dk_92 (dk_at dksX4_dispatch_6 10 rfl rfl)
theorem dX4_dispatch_153 : decode cX4_dispatch 153 = .ok (.iaload, 1) := dk_46 (dk_at dksX4_dispatch_6 11 rfl rfl)
theorem dX4_dispatch_154 : decode cX4_dispatch 154 = .ok (.iconst 1, 1) := dk_4 (dk_at dksX4_dispatch_6 12 rfl rfl)
theorem dX4_dispatch_155 : decode cX4_dispatch 155 = .ok (.iadd, 1) := dk_96 (dk_at dksX4_dispatch_6 13 rfl rfl)
theorem dX4_dispatch_156 : decode cX4_dispatch 156 = .ok (.iastore, 1) := dk_79 (dk_at dksX4_dispatch_6 14 rfl rfl)
theorem dX4_dispatch_157 : decode cX4_dispatch 157 = .ok (.return_, 1) := dk_177 (dk_at dksX4_dispatch_6 15 rfl rfl)
abbrev cX4_passTurn : ByteArray := prog_24_method_41_code
def yX4_passTurn : MethodName := ⟨RX4, "passTurn", "()V"⟩
def dkwX4_passTurn_5 : List UInt8 := [42, 182, 0, 189, 177]
abbrev dktX4_passTurn_5 : List UInt8 := dkwX4_passTurn_5 ++ []
def dkwX4_passTurn_4 : List UInt8 := [162, 0, 14, 42, 28, 182, 0, 186, 132, 2, 1, 167, 255, 238, 42, 180, 0, 9, 8, 92, 46, 4, 96, 79]
abbrev dktX4_passTurn_4 : List UInt8 := dkwX4_passTurn_4 ++ dktX4_passTurn_5
def dkwX4_passTurn_3 : List UInt8 := [161, 0, 9, 42, 28, 7, 182, 0, 136, 132, 2, 1, 167, 255, 212, 3, 61, 28, 42, 180, 0, 9, 5, 46]
abbrev dktX4_passTurn_3 : List UInt8 := dkwX4_passTurn_3 ++ dktX4_passTurn_4
def dkwX4_passTurn_2 : List UInt8 := [182, 0, 130, 154, 0, 30, 42, 182, 0, 126, 42, 28, 7, 182, 0, 130, 100, 42, 180, 0, 9, 16, 9, 46]
abbrev dktX4_passTurn_2 : List UInt8 := dkwX4_passTurn_2 ++ dktX4_passTurn_3
def dkwX4_passTurn_1 : List UInt8 := [154, 0, 8, 42, 28, 182, 0, 183, 132, 2, 1, 167, 255, 234, 3, 61, 28, 27, 162, 0, 45, 42, 28, 6]
abbrev dktX4_passTurn_1 : List UInt8 := dkwX4_passTurn_1 ++ dktX4_passTurn_2
def dkwX4_passTurn_0 : List UInt8 := [42, 182, 0, 180, 42, 180, 0, 9, 7, 46, 60, 3, 61, 28, 27, 162, 0, 23, 42, 28, 6, 182, 0, 130]
abbrev dktX4_passTurn_0 : List UInt8 := dkwX4_passTurn_0 ++ dktX4_passTurn_1
theorem dksX4_passTurn_0 : cX4_passTurn.data.toList.drop 0 = dktX4_passTurn_0 := by decide +kernel
theorem dksX4_passTurn_1 : cX4_passTurn.data.toList.drop 24 = dktX4_passTurn_1 := dk_seg dksX4_passTurn_0 24 rfl rfl
theorem dksX4_passTurn_2 : cX4_passTurn.data.toList.drop 48 = dktX4_passTurn_2 := dk_seg dksX4_passTurn_1 24 rfl rfl
theorem dksX4_passTurn_3 : cX4_passTurn.data.toList.drop 72 = dktX4_passTurn_3 := dk_seg dksX4_passTurn_2 24 rfl rfl
theorem dksX4_passTurn_4 : cX4_passTurn.data.toList.drop 96 = dktX4_passTurn_4 := dk_seg dksX4_passTurn_3 24 rfl rfl
theorem dksX4_passTurn_5 : cX4_passTurn.data.toList.drop 120 = dktX4_passTurn_5 := dk_seg dksX4_passTurn_4 24 rfl rfl
theorem dX4_passTurn_0 : decode cX4_passTurn 0 = .ok (.aload_n 0, 1) := dk_42 (dk_at dksX4_passTurn_0 0 rfl rfl)
theorem dX4_passTurn_1 : decode cX4_passTurn 1 = .ok (.invokevirtual 180, 3) := dk_182 0 180 (dk_at dksX4_passTurn_0 1 rfl rfl)
theorem dX4_passTurn_4 : decode cX4_passTurn 4 = .ok (.aload_n 0, 1) := dk_42 (dk_at dksX4_passTurn_0 4 rfl rfl)
theorem dX4_passTurn_5 : decode cX4_passTurn 5 = .ok (.getfield 9, 3) := dk_180 0 9 (dk_at dksX4_passTurn_0 5 rfl rfl)
theorem dX4_passTurn_8 : decode cX4_passTurn 8 = .ok (.iconst 4, 1) := dk_7 (dk_at dksX4_passTurn_0 8 rfl rfl)
theorem dX4_passTurn_9 : decode cX4_passTurn 9 = .ok (.iaload, 1) := dk_46 (dk_at dksX4_passTurn_0 9 rfl rfl)
theorem dX4_passTurn_10 : decode cX4_passTurn 10 = .ok (.istore_n 1, 1) := dk_60 (dk_at dksX4_passTurn_0 10 rfl rfl)
theorem dX4_passTurn_11 : decode cX4_passTurn 11 = .ok (.iconst 0, 1) := dk_3 (dk_at dksX4_passTurn_0 11 rfl rfl)
theorem dX4_passTurn_12 : decode cX4_passTurn 12 = .ok (.istore_n 2, 1) := dk_61 (dk_at dksX4_passTurn_0 12 rfl rfl)
theorem dX4_passTurn_13 : decode cX4_passTurn 13 = .ok (.iload_n 2, 1) := dk_28 (dk_at dksX4_passTurn_0 13 rfl rfl)
theorem dX4_passTurn_14 : decode cX4_passTurn 14 = .ok (.iload_n 1, 1) := dk_27 (dk_at dksX4_passTurn_0 14 rfl rfl)
theorem dX4_passTurn_15 : decode cX4_passTurn 15 = .ok (.if_icmp .ge 23, 3) := dk_162 0 23 (dk_at dksX4_passTurn_0 15 rfl rfl)
theorem dX4_passTurn_18 : decode cX4_passTurn 18 = .ok (.aload_n 0, 1) := dk_42 (dk_at dksX4_passTurn_0 18 rfl rfl)
theorem dX4_passTurn_19 : decode cX4_passTurn 19 = .ok (.iload_n 2, 1) := dk_28 (dk_at dksX4_passTurn_0 19 rfl rfl)
theorem dX4_passTurn_20 : decode cX4_passTurn 20 = .ok (.iconst 3, 1) := dk_6 (dk_at dksX4_passTurn_0 20 rfl rfl)
theorem dX4_passTurn_21 : decode cX4_passTurn 21 = .ok (.invokevirtual 130, 3) := dk_182 0 130 (dk_at dksX4_passTurn_0 21 rfl rfl)
theorem dX4_passTurn_24 : decode cX4_passTurn 24 = .ok (.ifCond .ne 8, 3) := dk_154 0 8 (dk_at dksX4_passTurn_1 0 rfl rfl)
theorem dX4_passTurn_27 : decode cX4_passTurn 27 = .ok (.aload_n 0, 1) := dk_42 (dk_at dksX4_passTurn_1 3 rfl rfl)
theorem dX4_passTurn_28 : decode cX4_passTurn 28 = .ok (.iload_n 2, 1) := dk_28 (dk_at dksX4_passTurn_1 4 rfl rfl)
theorem dX4_passTurn_29 : decode cX4_passTurn 29 = .ok (.invokevirtual 183, 3) := dk_182 0 183 (dk_at dksX4_passTurn_1 5 rfl rfl)
theorem dX4_passTurn_32 : decode cX4_passTurn 32 = .ok (.iinc 2 1, 3) := dk_132 2 1 (dk_at dksX4_passTurn_1 8 rfl rfl)
theorem dX4_passTurn_35 : decode cX4_passTurn 35 = .ok (.goto (-22), 3) := dk_167 255 234 (dk_at dksX4_passTurn_1 11 rfl rfl)
theorem dX4_passTurn_38 : decode cX4_passTurn 38 = .ok (.iconst 0, 1) := dk_3 (dk_at dksX4_passTurn_1 14 rfl rfl)
theorem dX4_passTurn_39 : decode cX4_passTurn 39 = .ok (.istore_n 2, 1) := dk_61 (dk_at dksX4_passTurn_1 15 rfl rfl)
theorem dX4_passTurn_40 : decode cX4_passTurn 40 = .ok (.iload_n 2, 1) := dk_28 (dk_at dksX4_passTurn_1 16 rfl rfl)
theorem dX4_passTurn_41 : decode cX4_passTurn 41 = .ok (.iload_n 1, 1) := dk_27 (dk_at dksX4_passTurn_1 17 rfl rfl)
theorem dX4_passTurn_42 : decode cX4_passTurn 42 = .ok (.if_icmp .ge 45, 3) := dk_162 0 45 (dk_at dksX4_passTurn_1 18 rfl rfl)
theorem dX4_passTurn_45 : decode cX4_passTurn 45 = .ok (.aload_n 0, 1) := dk_42 (dk_at dksX4_passTurn_1 21 rfl rfl)
theorem dX4_passTurn_46 : decode cX4_passTurn 46 = .ok (.iload_n 2, 1) := dk_28 (dk_at dksX4_passTurn_1 22 rfl rfl)
theorem dX4_passTurn_47 : decode cX4_passTurn 47 = .ok (.iconst 3, 1) := dk_6 (dk_at dksX4_passTurn_1 23 rfl rfl)
theorem dX4_passTurn_48 : decode cX4_passTurn 48 = .ok (.invokevirtual 130, 3) := dk_182 0 130 (dk_at dksX4_passTurn_2 0 rfl rfl)
theorem dX4_passTurn_51 : decode cX4_passTurn 51 = .ok (.ifCond .ne 30, 3) := dk_154 0 30 (dk_at dksX4_passTurn_2 3 rfl rfl)
theorem dX4_passTurn_54 : decode cX4_passTurn 54 = .ok (.aload_n 0, 1) := dk_42 (dk_at dksX4_passTurn_2 6 rfl rfl)
theorem dX4_passTurn_55 : decode cX4_passTurn 55 = .ok (.invokevirtual 126, 3) := dk_182 0 126 (dk_at dksX4_passTurn_2 7 rfl rfl)
theorem dX4_passTurn_58 : decode cX4_passTurn 58 = .ok (.aload_n 0, 1) := dk_42 (dk_at dksX4_passTurn_2 10 rfl rfl)
theorem dX4_passTurn_59 : decode cX4_passTurn 59 = .ok (.iload_n 2, 1) := dk_28 (dk_at dksX4_passTurn_2 11 rfl rfl)
theorem dX4_passTurn_60 : decode cX4_passTurn 60 = .ok (.iconst 4, 1) := dk_7 (dk_at dksX4_passTurn_2 12 rfl rfl)
theorem dX4_passTurn_61 : decode cX4_passTurn 61 = .ok (.invokevirtual 130, 3) := dk_182 0 130 (dk_at dksX4_passTurn_2 13 rfl rfl)
theorem dX4_passTurn_64 : decode cX4_passTurn 64 = .ok (.isub, 1) := dk_100 (dk_at dksX4_passTurn_2 16 rfl rfl)
theorem dX4_passTurn_65 : decode cX4_passTurn 65 = .ok (.aload_n 0, 1) := dk_42 (dk_at dksX4_passTurn_2 17 rfl rfl)
theorem dX4_passTurn_66 : decode cX4_passTurn 66 = .ok (.getfield 9, 3) := dk_180 0 9 (dk_at dksX4_passTurn_2 18 rfl rfl)
theorem dX4_passTurn_69 : decode cX4_passTurn 69 = .ok (.bipush 9, 2) := dk_16 9 (dk_at dksX4_passTurn_2 21 rfl rfl)
theorem dX4_passTurn_71 : decode cX4_passTurn 71 = .ok (.iaload, 1) := dk_46 (dk_at dksX4_passTurn_2 23 rfl rfl)
theorem dX4_passTurn_72 : decode cX4_passTurn 72 = .ok (.if_icmp .lt 9, 3) := dk_161 0 9 (dk_at dksX4_passTurn_3 0 rfl rfl)
theorem dX4_passTurn_75 : decode cX4_passTurn 75 = .ok (.aload_n 0, 1) := dk_42 (dk_at dksX4_passTurn_3 3 rfl rfl)
theorem dX4_passTurn_76 : decode cX4_passTurn 76 = .ok (.iload_n 2, 1) := dk_28 (dk_at dksX4_passTurn_3 4 rfl rfl)
theorem dX4_passTurn_77 : decode cX4_passTurn 77 = .ok (.iconst 4, 1) := dk_7 (dk_at dksX4_passTurn_3 5 rfl rfl)
theorem dX4_passTurn_78 : decode cX4_passTurn 78 = .ok (.invokevirtual 136, 3) := dk_182 0 136 (dk_at dksX4_passTurn_3 6 rfl rfl)
theorem dX4_passTurn_81 : decode cX4_passTurn 81 = .ok (.iinc 2 1, 3) := dk_132 2 1 (dk_at dksX4_passTurn_3 9 rfl rfl)
theorem dX4_passTurn_84 : decode cX4_passTurn 84 = .ok (.goto (-44), 3) := dk_167 255 212 (dk_at dksX4_passTurn_3 12 rfl rfl)
theorem dX4_passTurn_87 : decode cX4_passTurn 87 = .ok (.iconst 0, 1) := dk_3 (dk_at dksX4_passTurn_3 15 rfl rfl)
theorem dX4_passTurn_88 : decode cX4_passTurn 88 = .ok (.istore_n 2, 1) := dk_61 (dk_at dksX4_passTurn_3 16 rfl rfl)
theorem dX4_passTurn_89 : decode cX4_passTurn 89 = .ok (.iload_n 2, 1) := dk_28 (dk_at dksX4_passTurn_3 17 rfl rfl)
theorem dX4_passTurn_90 : decode cX4_passTurn 90 = .ok (.aload_n 0, 1) := dk_42 (dk_at dksX4_passTurn_3 18 rfl rfl)
theorem dX4_passTurn_91 : decode cX4_passTurn 91 = .ok (.getfield 9, 3) := dk_180 0 9 (dk_at dksX4_passTurn_3 19 rfl rfl)
theorem dX4_passTurn_94 : decode cX4_passTurn 94 = .ok (.iconst 2, 1) := dk_5 (dk_at dksX4_passTurn_3 22 rfl rfl)
theorem dX4_passTurn_95 : decode cX4_passTurn 95 = .ok (.iaload, 1) := dk_46 (dk_at dksX4_passTurn_3 23 rfl rfl)
theorem dX4_passTurn_96 : decode cX4_passTurn 96 = .ok (.if_icmp .ge 14, 3) := dk_162 0 14 (dk_at dksX4_passTurn_4 0 rfl rfl)
theorem dX4_passTurn_99 : decode cX4_passTurn 99 = .ok (.aload_n 0, 1) := dk_42 (dk_at dksX4_passTurn_4 3 rfl rfl)
theorem dX4_passTurn_100 : decode cX4_passTurn 100 = .ok (.iload_n 2, 1) := dk_28 (dk_at dksX4_passTurn_4 4 rfl rfl)
theorem dX4_passTurn_101 : decode cX4_passTurn 101 = .ok (.invokevirtual 186, 3) := dk_182 0 186 (dk_at dksX4_passTurn_4 5 rfl rfl)
theorem dX4_passTurn_104 : decode cX4_passTurn 104 = .ok (.iinc 2 1, 3) := dk_132 2 1 (dk_at dksX4_passTurn_4 8 rfl rfl)
theorem dX4_passTurn_107 : decode cX4_passTurn 107 = .ok (.goto (-18), 3) := dk_167 255 238 (dk_at dksX4_passTurn_4 11 rfl rfl)
theorem dX4_passTurn_110 : decode cX4_passTurn 110 = .ok (.aload_n 0, 1) := dk_42 (dk_at dksX4_passTurn_4 14 rfl rfl)
theorem dX4_passTurn_111 : decode cX4_passTurn 111 = .ok (.getfield 9, 3) := dk_180 0 9 (dk_at dksX4_passTurn_4 15 rfl rfl)
theorem dX4_passTurn_114 : decode cX4_passTurn 114 = .ok (.iconst 5, 1) := dk_8 (dk_at dksX4_passTurn_4 18 rfl rfl)
theorem dX4_passTurn_115 : decode cX4_passTurn 115 = .ok (.dup2, 1) := dk_92 (dk_at dksX4_passTurn_4 19 rfl rfl)
theorem dX4_passTurn_116 : decode cX4_passTurn 116 = .ok (.iaload, 1) := dk_46 (dk_at dksX4_passTurn_4 20 rfl rfl)
theorem dX4_passTurn_117 : decode cX4_passTurn 117 = .ok (.iconst 1, 1) := dk_4 (dk_at dksX4_passTurn_4 21 rfl rfl)
theorem dX4_passTurn_118 : decode cX4_passTurn 118 = .ok (.iadd, 1) := dk_96 (dk_at dksX4_passTurn_4 22 rfl rfl)
theorem dX4_passTurn_119 : decode cX4_passTurn 119 = .ok (.iastore, 1) := dk_79 (dk_at dksX4_passTurn_4 23 rfl rfl)
theorem dX4_passTurn_120 : decode cX4_passTurn 120 = .ok (.aload_n 0, 1) := dk_42 (dk_at dksX4_passTurn_5 0 rfl rfl)
theorem dX4_passTurn_121 : decode cX4_passTurn 121 = .ok (.invokevirtual 189, 3) := dk_182 0 189 (dk_at dksX4_passTurn_5 1 rfl rfl)
theorem dX4_passTurn_124 : decode cX4_passTurn 124 = .ok (.return_, 1) := dk_177 (dk_at dksX4_passTurn_5 4 rfl rfl)
abbrev cX4_sendPlanned : ByteArray := prog_24_method_36_code
def yX4_sendPlanned : MethodName := ⟨RX4, "sendPlanned", "()V"⟩
def dkwX4_sendPlanned_3 : List UInt8 := [182, 0, 167, 132, 1, 1, 167, 255, 180, 177]
abbrev dktX4_sendPlanned_3 : List UInt8 := dkwX4_sendPlanned_3 ++ []
def dkwX4_sendPlanned_2 : List UInt8 := [184, 0, 164, 46, 42, 180, 0, 9, 27, 4, 184, 0, 164, 46, 42, 180, 0, 9, 27, 5, 184, 0, 164, 46]
abbrev dktX4_sendPlanned_2 : List UInt8 := dkwX4_sendPlanned_2 ++ dktX4_sendPlanned_3
def dkwX4_sendPlanned_1 : List UInt8 := [182, 0, 126, 160, 0, 48, 42, 180, 0, 9, 7, 46, 16, 40, 162, 0, 37, 42, 42, 180, 0, 9, 27, 3]
abbrev dktX4_sendPlanned_1 : List UInt8 := dkwX4_sendPlanned_1 ++ dktX4_sendPlanned_2
def dkwX4_sendPlanned_0 : List UInt8 := [3, 60, 27, 42, 180, 0, 9, 16, 8, 46, 162, 0, 71, 42, 180, 0, 9, 27, 6, 184, 0, 164, 46, 42]
abbrev dktX4_sendPlanned_0 : List UInt8 := dkwX4_sendPlanned_0 ++ dktX4_sendPlanned_1
theorem dksX4_sendPlanned_0 : cX4_sendPlanned.data.toList.drop 0 = dktX4_sendPlanned_0 := by decide +kernel
theorem dksX4_sendPlanned_1 : cX4_sendPlanned.data.toList.drop 24 = dktX4_sendPlanned_1 := dk_seg dksX4_sendPlanned_0 24 rfl rfl
theorem dksX4_sendPlanned_2 : cX4_sendPlanned.data.toList.drop 48 = dktX4_sendPlanned_2 := dk_seg dksX4_sendPlanned_1 24 rfl rfl
theorem dksX4_sendPlanned_3 : cX4_sendPlanned.data.toList.drop 72 = dktX4_sendPlanned_3 := dk_seg dksX4_sendPlanned_2 24 rfl rfl
theorem dX4_sendPlanned_0 : decode cX4_sendPlanned 0 = .ok (.iconst 0, 1) := dk_3 (dk_at dksX4_sendPlanned_0 0 rfl rfl)
theorem dX4_sendPlanned_1 : decode cX4_sendPlanned 1 = .ok (.istore_n 1, 1) := dk_60 (dk_at dksX4_sendPlanned_0 1 rfl rfl)
theorem dX4_sendPlanned_2 : decode cX4_sendPlanned 2 = .ok (.iload_n 1, 1) := dk_27 (dk_at dksX4_sendPlanned_0 2 rfl rfl)
theorem dX4_sendPlanned_3 : decode cX4_sendPlanned 3 = .ok (.aload_n 0, 1) := dk_42 (dk_at dksX4_sendPlanned_0 3 rfl rfl)
theorem dX4_sendPlanned_4 : decode cX4_sendPlanned 4 = .ok (.getfield 9, 3) := dk_180 0 9 (dk_at dksX4_sendPlanned_0 4 rfl rfl)
theorem dX4_sendPlanned_7 : decode cX4_sendPlanned 7 = .ok (.bipush 8, 2) := dk_16 8 (dk_at dksX4_sendPlanned_0 7 rfl rfl)
theorem dX4_sendPlanned_9 : decode cX4_sendPlanned 9 = .ok (.iaload, 1) := dk_46 (dk_at dksX4_sendPlanned_0 9 rfl rfl)
theorem dX4_sendPlanned_10 : decode cX4_sendPlanned 10 = .ok (.if_icmp .ge 71, 3) := dk_162 0 71 (dk_at dksX4_sendPlanned_0 10 rfl rfl)
theorem dX4_sendPlanned_13 : decode cX4_sendPlanned 13 = .ok (.aload_n 0, 1) := dk_42 (dk_at dksX4_sendPlanned_0 13 rfl rfl)
theorem dX4_sendPlanned_14 : decode cX4_sendPlanned 14 = .ok (.getfield 9, 3) := dk_180 0 9 (dk_at dksX4_sendPlanned_0 14 rfl rfl)
theorem dX4_sendPlanned_17 : decode cX4_sendPlanned 17 = .ok (.iload_n 1, 1) := dk_27 (dk_at dksX4_sendPlanned_0 17 rfl rfl)
theorem dX4_sendPlanned_18 : decode cX4_sendPlanned 18 = .ok (.iconst 3, 1) := dk_6 (dk_at dksX4_sendPlanned_0 18 rfl rfl)
theorem dX4_sendPlanned_19 : decode cX4_sendPlanned 19 = .ok (.invokestatic 164, 3) := dk_184 0 164 (dk_at dksX4_sendPlanned_0 19 rfl rfl)
theorem dX4_sendPlanned_22 : decode cX4_sendPlanned 22 = .ok (.iaload, 1) := dk_46 (dk_at dksX4_sendPlanned_0 22 rfl rfl)
theorem dX4_sendPlanned_23 : decode cX4_sendPlanned 23 = .ok (.aload_n 0, 1) := dk_42 (dk_at dksX4_sendPlanned_0 23 rfl rfl)
theorem dX4_sendPlanned_24 : decode cX4_sendPlanned 24 = .ok (.invokevirtual 126, 3) := dk_182 0 126 (dk_at dksX4_sendPlanned_1 0 rfl rfl)
theorem dX4_sendPlanned_27 : decode cX4_sendPlanned 27 = .ok (.if_icmp .ne 48, 3) := dk_160 0 48 (dk_at dksX4_sendPlanned_1 3 rfl rfl)
theorem dX4_sendPlanned_30 : decode cX4_sendPlanned 30 = .ok (.aload_n 0, 1) := dk_42 (dk_at dksX4_sendPlanned_1 6 rfl rfl)
theorem dX4_sendPlanned_31 : decode cX4_sendPlanned 31 = .ok (.getfield 9, 3) := dk_180 0 9 (dk_at dksX4_sendPlanned_1 7 rfl rfl)
theorem dX4_sendPlanned_34 : decode cX4_sendPlanned 34 = .ok (.iconst 4, 1) := dk_7 (dk_at dksX4_sendPlanned_1 10 rfl rfl)
theorem dX4_sendPlanned_35 : decode cX4_sendPlanned 35 = .ok (.iaload, 1) := dk_46 (dk_at dksX4_sendPlanned_1 11 rfl rfl)
theorem dX4_sendPlanned_36 : decode cX4_sendPlanned 36 = .ok (.bipush 40, 2) := dk_16 40 (dk_at dksX4_sendPlanned_1 12 rfl rfl)
theorem dX4_sendPlanned_38 : decode cX4_sendPlanned 38 = .ok (.if_icmp .ge 37, 3) := dk_162 0 37 (dk_at dksX4_sendPlanned_1 14 rfl rfl)
theorem dX4_sendPlanned_41 : decode cX4_sendPlanned 41 = .ok (.aload_n 0, 1) := dk_42 (dk_at dksX4_sendPlanned_1 17 rfl rfl)
theorem dX4_sendPlanned_42 : decode cX4_sendPlanned 42 = .ok (.aload_n 0, 1) := dk_42 (dk_at dksX4_sendPlanned_1 18 rfl rfl)
theorem dX4_sendPlanned_43 : decode cX4_sendPlanned 43 = .ok (.getfield 9, 3) := dk_180 0 9 (dk_at dksX4_sendPlanned_1 19 rfl rfl)
theorem dX4_sendPlanned_46 : decode cX4_sendPlanned 46 = .ok (.iload_n 1, 1) := dk_27 (dk_at dksX4_sendPlanned_1 22 rfl rfl)
theorem dX4_sendPlanned_47 : decode cX4_sendPlanned 47 = .ok (.iconst 0, 1) := dk_3 (dk_at dksX4_sendPlanned_1 23 rfl rfl)
theorem dX4_sendPlanned_48 : decode cX4_sendPlanned 48 = .ok (.invokestatic 164, 3) := dk_184 0 164 (dk_at dksX4_sendPlanned_2 0 rfl rfl)
theorem dX4_sendPlanned_51 : decode cX4_sendPlanned 51 = .ok (.iaload, 1) := dk_46 (dk_at dksX4_sendPlanned_2 3 rfl rfl)
theorem dX4_sendPlanned_52 : decode cX4_sendPlanned 52 = .ok (.aload_n 0, 1) := dk_42 (dk_at dksX4_sendPlanned_2 4 rfl rfl)
theorem dX4_sendPlanned_53 : decode cX4_sendPlanned 53 = .ok (.getfield 9, 3) := dk_180 0 9 (dk_at dksX4_sendPlanned_2 5 rfl rfl)
theorem dX4_sendPlanned_56 : decode cX4_sendPlanned 56 = .ok (.iload_n 1, 1) := dk_27 (dk_at dksX4_sendPlanned_2 8 rfl rfl)
theorem dX4_sendPlanned_57 : decode cX4_sendPlanned 57 = .ok (.iconst 1, 1) := dk_4 (dk_at dksX4_sendPlanned_2 9 rfl rfl)
theorem dX4_sendPlanned_58 : decode cX4_sendPlanned 58 = .ok (.invokestatic 164, 3) := dk_184 0 164 (dk_at dksX4_sendPlanned_2 10 rfl rfl)
theorem dX4_sendPlanned_61 : decode cX4_sendPlanned 61 = .ok (.iaload, 1) := dk_46 (dk_at dksX4_sendPlanned_2 13 rfl rfl)
theorem dX4_sendPlanned_62 : decode cX4_sendPlanned 62 = .ok (.aload_n 0, 1) := dk_42 (dk_at dksX4_sendPlanned_2 14 rfl rfl)
theorem dX4_sendPlanned_63 : decode cX4_sendPlanned 63 = .ok (.getfield 9, 3) := dk_180 0 9 (dk_at dksX4_sendPlanned_2 15 rfl rfl)
theorem dX4_sendPlanned_66 : decode cX4_sendPlanned 66 = .ok (.iload_n 1, 1) := dk_27 (dk_at dksX4_sendPlanned_2 18 rfl rfl)
theorem dX4_sendPlanned_67 : decode cX4_sendPlanned 67 = .ok (.iconst 2, 1) := dk_5 (dk_at dksX4_sendPlanned_2 19 rfl rfl)
theorem dX4_sendPlanned_68 : decode cX4_sendPlanned 68 = .ok (.invokestatic 164, 3) := dk_184 0 164 (dk_at dksX4_sendPlanned_2 20 rfl rfl)
theorem dX4_sendPlanned_71 : decode cX4_sendPlanned 71 = .ok (.iaload, 1) := dk_46 (dk_at dksX4_sendPlanned_2 23 rfl rfl)
theorem dX4_sendPlanned_72 : decode cX4_sendPlanned 72 = .ok (.invokevirtual 167, 3) := dk_182 0 167 (dk_at dksX4_sendPlanned_3 0 rfl rfl)
theorem dX4_sendPlanned_75 : decode cX4_sendPlanned 75 = .ok (.iinc 1 1, 3) := dk_132 1 1 (dk_at dksX4_sendPlanned_3 3 rfl rfl)
theorem dX4_sendPlanned_78 : decode cX4_sendPlanned 78 = .ok (.goto (-76), 3) := dk_167 255 180 (dk_at dksX4_sendPlanned_3 6 rfl rfl)
theorem dX4_sendPlanned_81 : decode cX4_sendPlanned 81 = .ok (.return_, 1) := dk_177 (dk_at dksX4_sendPlanned_3 9 rfl rfl)
abbrev cX4_carry : ByteArray := prog_24_method_35_code
def yX4_carry : MethodName := ⟨RX4, "carry", "(I)V"⟩
def dkwX4_carry_2 : List UInt8 := [182, 0, 161, 87, 177]
abbrev dktX4_carry_2 : List UInt8 := dkwX4_carry_2 ++ []
def dkwX4_carry_1 : List UInt8 := [3, 182, 0, 133, 42, 28, 4, 182, 0, 133, 182, 0, 158, 42, 27, 182, 0, 161, 153, 0, 9, 42, 27]
abbrev dktX4_carry_1 : List UInt8 := dkwX4_carry_1 ++ dktX4_carry_2
def dkwX4_carry_0 : List UInt8 := [42, 27, 182, 0, 150, 153, 0, 9, 42, 27, 182, 0, 154, 177, 42, 27, 3, 182, 0, 130, 61, 42, 42, 28]
abbrev dktX4_carry_0 : List UInt8 := dkwX4_carry_0 ++ dktX4_carry_1
theorem dksX4_carry_0 : cX4_carry.data.toList.drop 0 = dktX4_carry_0 := by decide +kernel
theorem dksX4_carry_1 : cX4_carry.data.toList.drop 24 = dktX4_carry_1 := dk_seg dksX4_carry_0 24 rfl rfl
theorem dksX4_carry_2 : cX4_carry.data.toList.drop 47 = dktX4_carry_2 := dk_seg dksX4_carry_1 23 rfl rfl
theorem dX4_carry_0 : decode cX4_carry 0 = .ok (.aload_n 0, 1) := dk_42 (dk_at dksX4_carry_0 0 rfl rfl)
theorem dX4_carry_1 : decode cX4_carry 1 = .ok (.iload_n 1, 1) := dk_27 (dk_at dksX4_carry_0 1 rfl rfl)
theorem dX4_carry_2 : decode cX4_carry 2 = .ok (.invokevirtual 150, 3) := dk_182 0 150 (dk_at dksX4_carry_0 2 rfl rfl)
theorem dX4_carry_5 : decode cX4_carry 5 = .ok (.ifCond .eq 9, 3) := dk_153 0 9 (dk_at dksX4_carry_0 5 rfl rfl)
theorem dX4_carry_8 : decode cX4_carry 8 = .ok (.aload_n 0, 1) := dk_42 (dk_at dksX4_carry_0 8 rfl rfl)
theorem dX4_carry_9 : decode cX4_carry 9 = .ok (.iload_n 1, 1) := dk_27 (dk_at dksX4_carry_0 9 rfl rfl)
theorem dX4_carry_10 : decode cX4_carry 10 = .ok (.invokevirtual 154, 3) := dk_182 0 154 (dk_at dksX4_carry_0 10 rfl rfl)
theorem dX4_carry_13 : decode cX4_carry 13 = .ok (.return_, 1) := dk_177 (dk_at dksX4_carry_0 13 rfl rfl)
theorem dX4_carry_14 : decode cX4_carry 14 = .ok (.aload_n 0, 1) := dk_42 (dk_at dksX4_carry_0 14 rfl rfl)
theorem dX4_carry_15 : decode cX4_carry 15 = .ok (.iload_n 1, 1) := dk_27 (dk_at dksX4_carry_0 15 rfl rfl)
theorem dX4_carry_16 : decode cX4_carry 16 = .ok (.iconst 0, 1) := dk_3 (dk_at dksX4_carry_0 16 rfl rfl)
theorem dX4_carry_17 : decode cX4_carry 17 = .ok (.invokevirtual 130, 3) := dk_182 0 130 (dk_at dksX4_carry_0 17 rfl rfl)
theorem dX4_carry_20 : decode cX4_carry 20 = .ok (.istore_n 2, 1) := dk_61 (dk_at dksX4_carry_0 20 rfl rfl)
theorem dX4_carry_21 : decode cX4_carry 21 = .ok (.aload_n 0, 1) := dk_42 (dk_at dksX4_carry_0 21 rfl rfl)
theorem dX4_carry_22 : decode cX4_carry 22 = .ok (.aload_n 0, 1) := dk_42 (dk_at dksX4_carry_0 22 rfl rfl)
theorem dX4_carry_23 : decode cX4_carry 23 = .ok (.iload_n 2, 1) := dk_28 (dk_at dksX4_carry_0 23 rfl rfl)
theorem dX4_carry_24 : decode cX4_carry 24 = .ok (.iconst 0, 1) := dk_3 (dk_at dksX4_carry_1 0 rfl rfl)
theorem dX4_carry_25 : decode cX4_carry 25 = .ok (.invokevirtual 133, 3) := dk_182 0 133 (dk_at dksX4_carry_1 1 rfl rfl)
theorem dX4_carry_28 : decode cX4_carry 28 = .ok (.aload_n 0, 1) := dk_42 (dk_at dksX4_carry_1 4 rfl rfl)
theorem dX4_carry_29 : decode cX4_carry 29 = .ok (.iload_n 2, 1) := dk_28 (dk_at dksX4_carry_1 5 rfl rfl)
theorem dX4_carry_30 : decode cX4_carry 30 = .ok (.iconst 1, 1) := dk_4 (dk_at dksX4_carry_1 6 rfl rfl)
theorem dX4_carry_31 : decode cX4_carry 31 = .ok (.invokevirtual 133, 3) := dk_182 0 133 (dk_at dksX4_carry_1 7 rfl rfl)
theorem dX4_carry_34 : decode cX4_carry 34 = .ok (.invokevirtual 158, 3) := dk_182 0 158 (dk_at dksX4_carry_1 10 rfl rfl)
theorem dX4_carry_37 : decode cX4_carry 37 = .ok (.aload_n 0, 1) := dk_42 (dk_at dksX4_carry_1 13 rfl rfl)
theorem dX4_carry_38 : decode cX4_carry 38 = .ok (.iload_n 1, 1) := dk_27 (dk_at dksX4_carry_1 14 rfl rfl)
theorem dX4_carry_39 : decode cX4_carry 39 = .ok (.invokevirtual 161, 3) := dk_182 0 161 (dk_at dksX4_carry_1 15 rfl rfl)
theorem dX4_carry_42 : decode cX4_carry 42 = .ok (.ifCond .eq 9, 3) := dk_153 0 9 (dk_at dksX4_carry_1 18 rfl rfl)
theorem dX4_carry_45 : decode cX4_carry 45 = .ok (.aload_n 0, 1) := dk_42 (dk_at dksX4_carry_1 21 rfl rfl)
theorem dX4_carry_46 : decode cX4_carry 46 = .ok (.iload_n 1, 1) := dk_27 (dk_at dksX4_carry_1 22 rfl rfl)
theorem dX4_carry_47 : decode cX4_carry 47 = .ok (.invokevirtual 161, 3) := dk_182 0 161 (dk_at dksX4_carry_2 0 rfl rfl)
theorem dX4_carry_50 : decode cX4_carry 50 = .ok (.pop, 1) := dk_87 (dk_at dksX4_carry_2 3 rfl rfl)
theorem dX4_carry_51 : decode cX4_carry 51 = .ok (.return_, 1) := dk_177 (dk_at dksX4_carry_2 4 rfl rfl)
abbrev cX4_isThere : ByteArray := prog_24_method_33_code
def yX4_isThere : MethodName := ⟨RX4, "isThere", "(I)Z"⟩
def dkwX4_isThere_1 : List UInt8 := [27, 16, 8, 182, 0, 130, 42, 28, 4, 182, 0, 133, 160, 0, 7, 4, 167, 0, 4, 3, 172]
abbrev dktX4_isThere_1 : List UInt8 := dkwX4_isThere_1 ++ []
def dkwX4_isThere_0 : List UInt8 := [42, 27, 3, 182, 0, 130, 61, 42, 27, 16, 7, 182, 0, 130, 42, 28, 3, 182, 0, 133, 160, 0, 23, 42]
abbrev dktX4_isThere_0 : List UInt8 := dkwX4_isThere_0 ++ dktX4_isThere_1
theorem dksX4_isThere_0 : cX4_isThere.data.toList.drop 0 = dktX4_isThere_0 := by decide +kernel
theorem dksX4_isThere_1 : cX4_isThere.data.toList.drop 24 = dktX4_isThere_1 := dk_seg dksX4_isThere_0 24 rfl rfl
theorem dX4_isThere_0 : decode cX4_isThere 0 = .ok (.aload_n 0, 1) := dk_42 (dk_at dksX4_isThere_0 0 rfl rfl)
theorem dX4_isThere_1 : decode cX4_isThere 1 = .ok (.iload_n 1, 1) := dk_27 (dk_at dksX4_isThere_0 1 rfl rfl)
theorem dX4_isThere_2 : decode cX4_isThere 2 = .ok (.iconst 0, 1) := dk_3 (dk_at dksX4_isThere_0 2 rfl rfl)
theorem dX4_isThere_3 : decode cX4_isThere 3 = .ok (.invokevirtual 130, 3) := dk_182 0 130 (dk_at dksX4_isThere_0 3 rfl rfl)
theorem dX4_isThere_6 : decode cX4_isThere 6 = .ok (.istore_n 2, 1) := dk_61 (dk_at dksX4_isThere_0 6 rfl rfl)
theorem dX4_isThere_7 : decode cX4_isThere 7 = .ok (.aload_n 0, 1) := dk_42 (dk_at dksX4_isThere_0 7 rfl rfl)
theorem dX4_isThere_8 : decode cX4_isThere 8 = .ok (.iload_n 1, 1) := dk_27 (dk_at dksX4_isThere_0 8 rfl rfl)
theorem dX4_isThere_9 : decode cX4_isThere 9 = .ok (.bipush 7, 2) := dk_16 7 (dk_at dksX4_isThere_0 9 rfl rfl)
theorem dX4_isThere_11 : decode cX4_isThere 11 = .ok (.invokevirtual 130, 3) := dk_182 0 130 (dk_at dksX4_isThere_0 11 rfl rfl)
theorem dX4_isThere_14 : decode cX4_isThere 14 = .ok (.aload_n 0, 1) := dk_42 (dk_at dksX4_isThere_0 14 rfl rfl)
theorem dX4_isThere_15 : decode cX4_isThere 15 = .ok (.iload_n 2, 1) := dk_28 (dk_at dksX4_isThere_0 15 rfl rfl)
theorem dX4_isThere_16 : decode cX4_isThere 16 = .ok (.iconst 0, 1) := dk_3 (dk_at dksX4_isThere_0 16 rfl rfl)
theorem dX4_isThere_17 : decode cX4_isThere 17 = .ok (.invokevirtual 133, 3) := dk_182 0 133 (dk_at dksX4_isThere_0 17 rfl rfl)
theorem dX4_isThere_20 : decode cX4_isThere 20 = .ok (.if_icmp .ne 23, 3) := dk_160 0 23 (dk_at dksX4_isThere_0 20 rfl rfl)
theorem dX4_isThere_23 : decode cX4_isThere 23 = .ok (.aload_n 0, 1) := dk_42 (dk_at dksX4_isThere_0 23 rfl rfl)
theorem dX4_isThere_24 : decode cX4_isThere 24 = .ok (.iload_n 1, 1) := dk_27 (dk_at dksX4_isThere_1 0 rfl rfl)
theorem dX4_isThere_25 : decode cX4_isThere 25 = .ok (.bipush 8, 2) := dk_16 8 (dk_at dksX4_isThere_1 1 rfl rfl)
theorem dX4_isThere_27 : decode cX4_isThere 27 = .ok (.invokevirtual 130, 3) := dk_182 0 130 (dk_at dksX4_isThere_1 3 rfl rfl)
theorem dX4_isThere_30 : decode cX4_isThere 30 = .ok (.aload_n 0, 1) := dk_42 (dk_at dksX4_isThere_1 6 rfl rfl)
theorem dX4_isThere_31 : decode cX4_isThere 31 = .ok (.iload_n 2, 1) := dk_28 (dk_at dksX4_isThere_1 7 rfl rfl)
theorem dX4_isThere_32 : decode cX4_isThere 32 = .ok (.iconst 1, 1) := dk_4 (dk_at dksX4_isThere_1 8 rfl rfl)
theorem dX4_isThere_33 : decode cX4_isThere 33 = .ok (.invokevirtual 133, 3) := dk_182 0 133 (dk_at dksX4_isThere_1 9 rfl rfl)
theorem dX4_isThere_36 : decode cX4_isThere 36 = .ok (.if_icmp .ne 7, 3) := dk_160 0 7 (dk_at dksX4_isThere_1 12 rfl rfl)
theorem dX4_isThere_39 : decode cX4_isThere 39 = .ok (.iconst 1, 1) := dk_4 (dk_at dksX4_isThere_1 15 rfl rfl)
theorem dX4_isThere_40 : decode cX4_isThere 40 = .ok (.goto 4, 3) := dk_167 0 4 (dk_at dksX4_isThere_1 16 rfl rfl)
theorem dX4_isThere_43 : decode cX4_isThere 43 = .ok (.iconst 0, 1) := dk_3 (dk_at dksX4_isThere_1 19 rfl rfl)
theorem dX4_isThere_44 : decode cX4_isThere 44 = .ok (.ireturn, 1) := dk_172 (dk_at dksX4_isThere_1 20 rfl rfl)
abbrev cX4_arrive : ByteArray := prog_24_method_32_code
def yX4_arrive : MethodName := ⟨RX4, "arrive", "(I)V"⟩
def dkwX4_arrive_3 : List UInt8 := [184, 0, 80, 27, 79, 177]
abbrev dktX4_arrive_3 : List UInt8 := dkwX4_arrive_3 ++ []
def dkwX4_arrive_2 : List UInt8 := [159, 0, 10, 42, 29, 16, 6, 182, 0, 136, 42, 27, 4, 182, 0, 136, 42, 180, 0, 9, 28, 6]
abbrev dktX4_arrive_2 : List UInt8 := dkwX4_arrive_2 ++ dktX4_arrive_3
def dkwX4_arrive_1 : List UInt8 := [182, 0, 133, 27, 164, 0, 10, 42, 27, 6, 182, 0, 136, 177, 42, 28, 182, 0, 140, 62, 29, 2]
abbrev dktX4_arrive_1 : List UInt8 := dkwX4_arrive_1 ++ dktX4_arrive_2
def dkwX4_arrive_0 : List UInt8 := [42, 27, 3, 182, 0, 130, 61, 42, 180, 0, 9, 27, 8, 184, 0, 87, 42, 182, 0, 126, 79, 42, 28, 6]
abbrev dktX4_arrive_0 : List UInt8 := dkwX4_arrive_0 ++ dktX4_arrive_1
theorem dksX4_arrive_0 : cX4_arrive.data.toList.drop 0 = dktX4_arrive_0 := by decide +kernel
theorem dksX4_arrive_1 : cX4_arrive.data.toList.drop 24 = dktX4_arrive_1 := dk_seg dksX4_arrive_0 24 rfl rfl
theorem dksX4_arrive_2 : cX4_arrive.data.toList.drop 46 = dktX4_arrive_2 := dk_seg dksX4_arrive_1 22 rfl rfl
theorem dksX4_arrive_3 : cX4_arrive.data.toList.drop 68 = dktX4_arrive_3 := dk_seg dksX4_arrive_2 22 rfl rfl
theorem dX4_arrive_0 : decode cX4_arrive 0 = .ok (.aload_n 0, 1) := dk_42 (dk_at dksX4_arrive_0 0 rfl rfl)
theorem dX4_arrive_1 : decode cX4_arrive 1 = .ok (.iload_n 1, 1) := dk_27 (dk_at dksX4_arrive_0 1 rfl rfl)
theorem dX4_arrive_2 : decode cX4_arrive 2 = .ok (.iconst 0, 1) := dk_3 (dk_at dksX4_arrive_0 2 rfl rfl)
theorem dX4_arrive_3 : decode cX4_arrive 3 = .ok (.invokevirtual 130, 3) := dk_182 0 130 (dk_at dksX4_arrive_0 3 rfl rfl)
theorem dX4_arrive_6 : decode cX4_arrive 6 = .ok (.istore_n 2, 1) := dk_61 (dk_at dksX4_arrive_0 6 rfl rfl)
theorem dX4_arrive_7 : decode cX4_arrive 7 = .ok (.aload_n 0, 1) := dk_42 (dk_at dksX4_arrive_0 7 rfl rfl)
theorem dX4_arrive_8 : decode cX4_arrive 8 = .ok (.getfield 9, 3) := dk_180 0 9 (dk_at dksX4_arrive_0 8 rfl rfl)
theorem dX4_arrive_11 : decode cX4_arrive 11 = .ok (.iload_n 1, 1) := dk_27 (dk_at dksX4_arrive_0 11 rfl rfl)
theorem dX4_arrive_12 : decode cX4_arrive 12 = .ok (.iconst 5, 1) := dk_8 (dk_at dksX4_arrive_0 12 rfl rfl)
theorem dX4_arrive_13 : decode cX4_arrive 13 = .ok (.invokestatic 87, 3) := dk_184 0 87 (dk_at dksX4_arrive_0 13 rfl rfl)
theorem dX4_arrive_16 : decode cX4_arrive 16 = .ok (.aload_n 0, 1) := dk_42 (dk_at dksX4_arrive_0 16 rfl rfl)
theorem dX4_arrive_17 : decode cX4_arrive 17 = .ok (.invokevirtual 126, 3) := dk_182 0 126 (dk_at dksX4_arrive_0 17 rfl rfl)
theorem dX4_arrive_20 : decode cX4_arrive 20 = .ok (.iastore, 1) := dk_79 (dk_at dksX4_arrive_0 20 rfl rfl)
theorem dX4_arrive_21 : decode cX4_arrive 21 = .ok (.aload_n 0, 1) := dk_42 (dk_at dksX4_arrive_0 21 rfl rfl)
theorem dX4_arrive_22 : decode cX4_arrive 22 = .ok (.iload_n 2, 1) := dk_28 (dk_at dksX4_arrive_0 22 rfl rfl)
theorem dX4_arrive_23 : decode cX4_arrive 23 = .ok (.iconst 3, 1) := dk_6 (dk_at dksX4_arrive_0 23 rfl rfl)
theorem dX4_arrive_24 : decode cX4_arrive 24 = .ok (.invokevirtual 133, 3) := dk_182 0 133 (dk_at dksX4_arrive_1 0 rfl rfl)
theorem dX4_arrive_27 : decode cX4_arrive 27 = .ok (.iload_n 1, 1) := dk_27 (dk_at dksX4_arrive_1 3 rfl rfl)
theorem dX4_arrive_28 : decode cX4_arrive 28 = .ok (.if_icmp .le 10, 3) := dk_164 0 10 (dk_at dksX4_arrive_1 4 rfl rfl)
theorem dX4_arrive_31 : decode cX4_arrive 31 = .ok (.aload_n 0, 1) := dk_42 (dk_at dksX4_arrive_1 7 rfl rfl)
theorem dX4_arrive_32 : decode cX4_arrive 32 = .ok (.iload_n 1, 1) := dk_27 (dk_at dksX4_arrive_1 8 rfl rfl)
theorem dX4_arrive_33 : decode cX4_arrive 33 = .ok (.iconst 3, 1) := dk_6 (dk_at dksX4_arrive_1 9 rfl rfl)
theorem dX4_arrive_34 : decode cX4_arrive 34 = .ok (.invokevirtual 136, 3) := dk_182 0 136 (dk_at dksX4_arrive_1 10 rfl rfl)
theorem dX4_arrive_37 : decode cX4_arrive 37 = .ok (.return_, 1) := dk_177 (dk_at dksX4_arrive_1 13 rfl rfl)
theorem dX4_arrive_38 : decode cX4_arrive 38 = .ok (.aload_n 0, 1) := dk_42 (dk_at dksX4_arrive_1 14 rfl rfl)
theorem dX4_arrive_39 : decode cX4_arrive 39 = .ok (.iload_n 2, 1) := dk_28 (dk_at dksX4_arrive_1 15 rfl rfl)
theorem dX4_arrive_40 : decode cX4_arrive 40 = .ok (.invokevirtual 140, 3) := dk_182 0 140 (dk_at dksX4_arrive_1 16 rfl rfl)
theorem dX4_arrive_43 : decode cX4_arrive 43 = .ok (.istore_n 3, 1) := dk_62 (dk_at dksX4_arrive_1 19 rfl rfl)
theorem dX4_arrive_44 : decode cX4_arrive 44 = .ok (.iload_n 3, 1) := dk_29 (dk_at dksX4_arrive_1 20 rfl rfl)
theorem dX4_arrive_45 : decode cX4_arrive 45 = .ok (.iconst (-1), 1) := dk_2 (dk_at dksX4_arrive_1 21 rfl rfl)
theorem dX4_arrive_46 : decode cX4_arrive 46 = .ok (.if_icmp .eq 10, 3) := dk_159 0 10 (dk_at dksX4_arrive_2 0 rfl rfl)
theorem dX4_arrive_49 : decode cX4_arrive 49 = .ok (.aload_n 0, 1) := dk_42 (dk_at dksX4_arrive_2 3 rfl rfl)
theorem dX4_arrive_50 : decode cX4_arrive 50 = .ok (.iload_n 3, 1) := dk_29 (dk_at dksX4_arrive_2 4 rfl rfl)
theorem dX4_arrive_51 : decode cX4_arrive 51 = .ok (.bipush 6, 2) := dk_16 6 (dk_at dksX4_arrive_2 5 rfl rfl)
theorem dX4_arrive_53 : decode cX4_arrive 53 = .ok (.invokevirtual 136, 3) := dk_182 0 136 (dk_at dksX4_arrive_2 7 rfl rfl)
theorem dX4_arrive_56 : decode cX4_arrive 56 = .ok (.aload_n 0, 1) := dk_42 (dk_at dksX4_arrive_2 10 rfl rfl)
theorem dX4_arrive_57 : decode cX4_arrive 57 = .ok (.iload_n 1, 1) := dk_27 (dk_at dksX4_arrive_2 11 rfl rfl)
theorem dX4_arrive_58 : decode cX4_arrive 58 = .ok (.iconst 1, 1) := dk_4 (dk_at dksX4_arrive_2 12 rfl rfl)
theorem dX4_arrive_59 : decode cX4_arrive 59 = .ok (.invokevirtual 136, 3) := dk_182 0 136 (dk_at dksX4_arrive_2 13 rfl rfl)
theorem dX4_arrive_62 : decode cX4_arrive 62 = .ok (.aload_n 0, 1) := dk_42 (dk_at dksX4_arrive_2 16 rfl rfl)
theorem dX4_arrive_63 : decode cX4_arrive 63 = .ok (.getfield 9, 3) := dk_180 0 9 (dk_at dksX4_arrive_2 17 rfl rfl)
theorem dX4_arrive_66 : decode cX4_arrive 66 = .ok (.iload_n 2, 1) := dk_28 (dk_at dksX4_arrive_2 20 rfl rfl)
theorem dX4_arrive_67 : decode cX4_arrive 67 = .ok (.iconst 3, 1) := dk_6 (dk_at dksX4_arrive_2 21 rfl rfl)
theorem dX4_arrive_68 : decode cX4_arrive 68 = .ok (.invokestatic 80, 3) := dk_184 0 80 (dk_at dksX4_arrive_3 0 rfl rfl)
theorem dX4_arrive_71 : decode cX4_arrive 71 = .ok (.iload_n 1, 1) := dk_27 (dk_at dksX4_arrive_3 3 rfl rfl)
theorem dX4_arrive_72 : decode cX4_arrive 72 = .ok (.iastore, 1) := dk_79 (dk_at dksX4_arrive_3 4 rfl rfl)
theorem dX4_arrive_73 : decode cX4_arrive 73 = .ok (.return_, 1) := dk_177 (dk_at dksX4_arrive_3 5 rfl rfl)
abbrev cX4_become : ByteArray := prog_24_method_29_code
def yX4_become : MethodName := ⟨RX4, "become", "(II)V"⟩
def dkwX4_become_3 : List UInt8 := [184, 0, 87, 28, 4, 160, 0, 7, 2, 167, 0, 7, 42, 182, 0, 126, 79, 177]
abbrev dktX4_become_3 : List UInt8 := dkwX4_become_3 ++ []
def dkwX4_become_2 : List UInt8 := [92, 46, 4, 96, 79, 42, 180, 0, 9, 27, 6, 184, 0, 87, 28, 79, 42, 180, 0, 9, 27, 16, 6]
abbrev dktX4_become_2 : List UInt8 := dkwX4_become_2 ++ dktX4_become_3
def dkwX4_become_1 : List UInt8 := [42, 180, 0, 9, 29, 4, 96, 27, 79, 42, 180, 0, 9, 29, 5, 96, 28, 79, 42, 180, 0, 9, 16, 7]
abbrev dktX4_become_1 : List UInt8 := dkwX4_become_1 ++ dktX4_become_2
def dkwX4_become_0 : List UInt8 := [17, 2, 32, 6, 42, 180, 0, 9, 16, 7, 46, 104, 96, 62, 42, 180, 0, 9, 29, 42, 182, 0, 126, 79]
abbrev dktX4_become_0 : List UInt8 := dkwX4_become_0 ++ dktX4_become_1
theorem dksX4_become_0 : cX4_become.data.toList.drop 0 = dktX4_become_0 := by decide +kernel
theorem dksX4_become_1 : cX4_become.data.toList.drop 24 = dktX4_become_1 := dk_seg dksX4_become_0 24 rfl rfl
theorem dksX4_become_2 : cX4_become.data.toList.drop 48 = dktX4_become_2 := dk_seg dksX4_become_1 24 rfl rfl
theorem dksX4_become_3 : cX4_become.data.toList.drop 71 = dktX4_become_3 := dk_seg dksX4_become_2 23 rfl rfl
theorem dX4_become_0 : decode cX4_become 0 = .ok (.sipush 544, 3) := dk_17 2 32 (dk_at dksX4_become_0 0 rfl rfl)
theorem dX4_become_3 : decode cX4_become 3 = .ok (.iconst 3, 1) := dk_6 (dk_at dksX4_become_0 3 rfl rfl)
theorem dX4_become_4 : decode cX4_become 4 = .ok (.aload_n 0, 1) := dk_42 (dk_at dksX4_become_0 4 rfl rfl)
theorem dX4_become_5 : decode cX4_become 5 = .ok (.getfield 9, 3) := dk_180 0 9 (dk_at dksX4_become_0 5 rfl rfl)
theorem dX4_become_8 : decode cX4_become 8 = .ok (.bipush 7, 2) := dk_16 7 (dk_at dksX4_become_0 8 rfl rfl)
theorem dX4_become_10 : decode cX4_become 10 = .ok (.iaload, 1) := dk_46 (dk_at dksX4_become_0 10 rfl rfl)
theorem dX4_become_11 : decode cX4_become 11 = .ok (.imul, 1) := dk_104 (dk_at dksX4_become_0 11 rfl rfl)
theorem dX4_become_12 : decode cX4_become 12 = .ok (.iadd, 1) := dk_96 (dk_at dksX4_become_0 12 rfl rfl)
theorem dX4_become_13 : decode cX4_become 13 = .ok (.istore_n 3, 1) := dk_62 (dk_at dksX4_become_0 13 rfl rfl)
theorem dX4_become_14 : decode cX4_become 14 = .ok (.aload_n 0, 1) := dk_42 (dk_at dksX4_become_0 14 rfl rfl)
theorem dX4_become_15 : decode cX4_become 15 = .ok (.getfield 9, 3) := dk_180 0 9 (dk_at dksX4_become_0 15 rfl rfl)
theorem dX4_become_18 : decode cX4_become 18 = .ok (.iload_n 3, 1) := dk_29 (dk_at dksX4_become_0 18 rfl rfl)
theorem dX4_become_19 : decode cX4_become 19 = .ok (.aload_n 0, 1) := dk_42 (dk_at dksX4_become_0 19 rfl rfl)
theorem dX4_become_20 : decode cX4_become 20 = .ok (.invokevirtual 126, 3) := dk_182 0 126 (dk_at dksX4_become_0 20 rfl rfl)
theorem dX4_become_23 : decode cX4_become 23 = .ok (.iastore, 1) := dk_79 (dk_at dksX4_become_0 23 rfl rfl)
theorem dX4_become_24 : decode cX4_become 24 = .ok (.aload_n 0, 1) := dk_42 (dk_at dksX4_become_1 0 rfl rfl)
theorem dX4_become_25 : decode cX4_become 25 = .ok (.getfield 9, 3) := dk_180 0 9 (dk_at dksX4_become_1 1 rfl rfl)
theorem dX4_become_28 : decode cX4_become 28 = .ok (.iload_n 3, 1) := dk_29 (dk_at dksX4_become_1 4 rfl rfl)
theorem dX4_become_29 : decode cX4_become 29 = .ok (.iconst 1, 1) := dk_4 (dk_at dksX4_become_1 5 rfl rfl)
theorem dX4_become_30 : decode cX4_become 30 = .ok (.iadd, 1) := dk_96 (dk_at dksX4_become_1 6 rfl rfl)
theorem dX4_become_31 : decode cX4_become 31 = .ok (.iload_n 1, 1) := dk_27 (dk_at dksX4_become_1 7 rfl rfl)
theorem dX4_become_32 : decode cX4_become 32 = .ok (.iastore, 1) := dk_79 (dk_at dksX4_become_1 8 rfl rfl)
theorem dX4_become_33 : decode cX4_become 33 = .ok (.aload_n 0, 1) := dk_42 (dk_at dksX4_become_1 9 rfl rfl)
theorem dX4_become_34 : decode cX4_become 34 = .ok (.getfield 9, 3) := dk_180 0 9 (dk_at dksX4_become_1 10 rfl rfl)
theorem dX4_become_37 : decode cX4_become 37 = .ok (.iload_n 3, 1) := dk_29 (dk_at dksX4_become_1 13 rfl rfl)
theorem dX4_become_38 : decode cX4_become 38 = .ok (.iconst 2, 1) := dk_5 (dk_at dksX4_become_1 14 rfl rfl)
theorem dX4_become_39 : decode cX4_become 39 = .ok (.iadd, 1) := dk_96 (dk_at dksX4_become_1 15 rfl rfl)
theorem dX4_become_40 : decode cX4_become 40 = .ok (.iload_n 2, 1) := dk_28 (dk_at dksX4_become_1 16 rfl rfl)
theorem dX4_become_41 : decode cX4_become 41 = .ok (.iastore, 1) := dk_79 (dk_at dksX4_become_1 17 rfl rfl)
theorem dX4_become_42 : decode cX4_become 42 = .ok (.aload_n 0, 1) := dk_42 (dk_at dksX4_become_1 18 rfl rfl)
theorem dX4_become_43 : decode cX4_become 43 = .ok (.getfield 9, 3) := dk_180 0 9 (dk_at dksX4_become_1 19 rfl rfl)
theorem dX4_become_46 : decode cX4_become 46 = .ok (.bipush 7, 2) := dk_16 7 (dk_at dksX4_become_1 22 rfl rfl)
theorem dX4_become_48 : decode cX4_become 48 = .ok (.dup2, 1) := dk_92 (dk_at dksX4_become_2 0 rfl rfl)
theorem dX4_become_49 : decode cX4_become 49 = .ok (.iaload, 1) := dk_46 (dk_at dksX4_become_2 1 rfl rfl)
theorem dX4_become_50 : decode cX4_become 50 = .ok (.iconst 1, 1) := dk_4 (dk_at dksX4_become_2 2 rfl rfl)
theorem dX4_become_51 : decode cX4_become 51 = .ok (.iadd, 1) := dk_96 (dk_at dksX4_become_2 3 rfl rfl)
theorem dX4_become_52 : decode cX4_become 52 = .ok (.iastore, 1) := dk_79 (dk_at dksX4_become_2 4 rfl rfl)
theorem dX4_become_53 : decode cX4_become 53 = .ok (.aload_n 0, 1) := dk_42 (dk_at dksX4_become_2 5 rfl rfl)
theorem dX4_become_54 : decode cX4_become 54 = .ok (.getfield 9, 3) := dk_180 0 9 (dk_at dksX4_become_2 6 rfl rfl)
theorem dX4_become_57 : decode cX4_become 57 = .ok (.iload_n 1, 1) := dk_27 (dk_at dksX4_become_2 9 rfl rfl)
theorem dX4_become_58 : decode cX4_become 58 = .ok (.iconst 3, 1) := dk_6 (dk_at dksX4_become_2 10 rfl rfl)
theorem dX4_become_59 : decode cX4_become 59 = .ok (.invokestatic 87, 3) := dk_184 0 87 (dk_at dksX4_become_2 11 rfl rfl)
theorem dX4_become_62 : decode cX4_become 62 = .ok (.iload_n 2, 1) := dk_28 (dk_at dksX4_become_2 14 rfl rfl)
theorem dX4_become_63 : decode cX4_become 63 = .ok (.iastore, 1) := dk_79 (dk_at dksX4_become_2 15 rfl rfl)
theorem dX4_become_64 : decode cX4_become 64 = .ok (.aload_n 0, 1) := dk_42 (dk_at dksX4_become_2 16 rfl rfl)
theorem dX4_become_65 : decode cX4_become 65 = .ok (.getfield 9, 3) := dk_180 0 9 (dk_at dksX4_become_2 17 rfl rfl)
theorem dX4_become_68 : decode cX4_become 68 = .ok (.iload_n 1, 1) := dk_27 (dk_at dksX4_become_2 20 rfl rfl)
theorem dX4_become_69 : decode cX4_become 69 = .ok (.bipush 6, 2) := dk_16 6 (dk_at dksX4_become_2 21 rfl rfl)
theorem dX4_become_71 : decode cX4_become 71 = .ok (.invokestatic 87, 3) := dk_184 0 87 (dk_at dksX4_become_3 0 rfl rfl)
theorem dX4_become_74 : decode cX4_become 74 = .ok (.iload_n 2, 1) := dk_28 (dk_at dksX4_become_3 3 rfl rfl)
theorem dX4_become_75 : decode cX4_become 75 = .ok (.iconst 1, 1) := dk_4 (dk_at dksX4_become_3 4 rfl rfl)
theorem dX4_become_76 : decode cX4_become 76 = .ok (.if_icmp .ne 7, 3) := dk_160 0 7 (dk_at dksX4_become_3 5 rfl rfl)
theorem dX4_become_79 : decode cX4_become 79 = .ok (.iconst (-1), 1) := dk_2 (dk_at dksX4_become_3 8 rfl rfl)
theorem dX4_become_80 : decode cX4_become 80 = .ok (.goto 7, 3) := dk_167 0 7 (dk_at dksX4_become_3 9 rfl rfl)
theorem dX4_become_83 : decode cX4_become 83 = .ok (.aload_n 0, 1) := dk_42 (dk_at dksX4_become_3 12 rfl rfl)
theorem dX4_become_84 : decode cX4_become 84 = .ok (.invokevirtual 126, 3) := dk_182 0 126 (dk_at dksX4_become_3 13 rfl rfl)
theorem dX4_become_87 : decode cX4_become 87 = .ok (.iastore, 1) := dk_79 (dk_at dksX4_become_3 16 rfl rfl)
theorem dX4_become_88 : decode cX4_become 88 = .ok (.return_, 1) := dk_177 (dk_at dksX4_become_3 17 rfl rfl)
abbrev cX4_ride : ByteArray := prog_24_method_34_code
def yX4_ride : MethodName := ⟨RX4, "ride", "(I)Z"⟩
def dkwX4_ride_6 : List UInt8 := [153, 0, 8, 42, 27, 182, 0, 154, 42, 27, 6, 182, 0, 130, 154, 0, 7, 4, 167, 0, 4, 3, 172]
abbrev dktX4_ride_6 : List UInt8 := dkwX4_ride_6 ++ []
def dkwX4_ride_5 : List UInt8 := [184, 0, 84, 92, 46, 4, 96, 79, 42, 27, 8, 182, 0, 136, 167, 0, 16, 42, 27, 182, 0, 150]
abbrev dktX4_ride_5 : List UInt8 := dkwX4_ride_5 ++ dktX4_ride_6
def dkwX4_ride_4 : List UInt8 := [182, 0, 130, 42, 182, 0, 126, 182, 0, 146, 62, 29, 2, 159, 0, 27, 42, 180, 0, 9, 29, 16, 6]
abbrev dktX4_ride_4 : List UInt8 := dkwX4_ride_4 ++ dktX4_ride_5
def dkwX4_ride_3 : List UInt8 := [16, 9, 184, 0, 87, 92, 46, 4, 96, 79, 42, 42, 27, 16, 7, 182, 0, 130, 42, 27, 16, 8]
abbrev dktX4_ride_3 : List UInt8 := dkwX4_ride_3 ++ dktX4_ride_4
def dkwX4_ride_2 : List UInt8 := [180, 0, 9, 27, 16, 8, 184, 0, 87, 92, 46, 28, 3, 184, 0, 107, 96, 79, 42, 180, 0, 9, 27]
abbrev dktX4_ride_2 : List UInt8 := dkwX4_ride_2 ++ dktX4_ride_3
def dkwX4_ride_1 : List UInt8 := [3, 172, 42, 180, 0, 9, 27, 16, 7, 184, 0, 87, 92, 46, 28, 4, 184, 0, 107, 96, 79, 42]
abbrev dktX4_ride_1 : List UInt8 := dkwX4_ride_1 ++ dktX4_ride_2
def dkwX4_ride_0 : List UInt8 := [42, 42, 27, 16, 7, 182, 0, 130, 42, 27, 16, 8, 182, 0, 130, 182, 0, 143, 61, 28, 2, 160, 0, 5]
abbrev dktX4_ride_0 : List UInt8 := dkwX4_ride_0 ++ dktX4_ride_1
theorem dksX4_ride_0 : cX4_ride.data.toList.drop 0 = dktX4_ride_0 := by decide +kernel
theorem dksX4_ride_1 : cX4_ride.data.toList.drop 24 = dktX4_ride_1 := dk_seg dksX4_ride_0 24 rfl rfl
theorem dksX4_ride_2 : cX4_ride.data.toList.drop 46 = dktX4_ride_2 := dk_seg dksX4_ride_1 22 rfl rfl
theorem dksX4_ride_3 : cX4_ride.data.toList.drop 69 = dktX4_ride_3 := dk_seg dksX4_ride_2 23 rfl rfl
theorem dksX4_ride_4 : cX4_ride.data.toList.drop 91 = dktX4_ride_4 := dk_seg dksX4_ride_3 22 rfl rfl
theorem dksX4_ride_5 : cX4_ride.data.toList.drop 114 = dktX4_ride_5 := dk_seg dksX4_ride_4 23 rfl rfl
theorem dksX4_ride_6 : cX4_ride.data.toList.drop 136 = dktX4_ride_6 := dk_seg dksX4_ride_5 22 rfl rfl
theorem dX4_ride_0 : decode cX4_ride 0 = .ok (.aload_n 0, 1) := dk_42 (dk_at dksX4_ride_0 0 rfl rfl)
theorem dX4_ride_1 : decode cX4_ride 1 = .ok (.aload_n 0, 1) := dk_42 (dk_at dksX4_ride_0 1 rfl rfl)
theorem dX4_ride_2 : decode cX4_ride 2 = .ok (.iload_n 1, 1) := dk_27 (dk_at dksX4_ride_0 2 rfl rfl)
theorem dX4_ride_3 : decode cX4_ride 3 = .ok (.bipush 7, 2) := dk_16 7 (dk_at dksX4_ride_0 3 rfl rfl)
theorem dX4_ride_5 : decode cX4_ride 5 = .ok (.invokevirtual 130, 3) := dk_182 0 130 (dk_at dksX4_ride_0 5 rfl rfl)
theorem dX4_ride_8 : decode cX4_ride 8 = .ok (.aload_n 0, 1) := dk_42 (dk_at dksX4_ride_0 8 rfl rfl)
theorem dX4_ride_9 : decode cX4_ride 9 = .ok (.iload_n 1, 1) := dk_27 (dk_at dksX4_ride_0 9 rfl rfl)
theorem dX4_ride_10 : decode cX4_ride 10 = .ok (.bipush 8, 2) := dk_16 8 (dk_at dksX4_ride_0 10 rfl rfl)
theorem dX4_ride_12 : decode cX4_ride 12 = .ok (.invokevirtual 130, 3) := dk_182 0 130 (dk_at dksX4_ride_0 12 rfl rfl)
theorem dX4_ride_15 : decode cX4_ride 15 = .ok (.invokevirtual 143, 3) := dk_182 0 143 (dk_at dksX4_ride_0 15 rfl rfl)
theorem dX4_ride_18 : decode cX4_ride 18 = .ok (.istore_n 2, 1) := dk_61 (dk_at dksX4_ride_0 18 rfl rfl)
theorem dX4_ride_19 : decode cX4_ride 19 = .ok (.iload_n 2, 1) := dk_28 (dk_at dksX4_ride_0 19 rfl rfl)
theorem dX4_ride_20 : decode cX4_ride 20 = .ok (.iconst (-1), 1) := dk_2 (dk_at dksX4_ride_0 20 rfl rfl)
theorem dX4_ride_21 : decode cX4_ride 21 = .ok (.if_icmp .ne 5, 3) := dk_160 0 5 (dk_at dksX4_ride_0 21 rfl rfl)
theorem dX4_ride_24 : decode cX4_ride 24 = .ok (.iconst 0, 1) := dk_3 (dk_at dksX4_ride_1 0 rfl rfl)
theorem dX4_ride_25 : decode cX4_ride 25 = .ok (.ireturn, 1) := dk_172 (dk_at dksX4_ride_1 1 rfl rfl)
theorem dX4_ride_26 : decode cX4_ride 26 = .ok (.aload_n 0, 1) := dk_42 (dk_at dksX4_ride_1 2 rfl rfl)
theorem dX4_ride_27 : decode cX4_ride 27 = .ok (.getfield 9, 3) := dk_180 0 9 (dk_at dksX4_ride_1 3 rfl rfl)
theorem dX4_ride_30 : decode cX4_ride 30 = .ok (.iload_n 1, 1) := dk_27 (dk_at dksX4_ride_1 6 rfl rfl)
theorem dX4_ride_31 : decode cX4_ride 31 = .ok (.bipush 7, 2) := dk_16 7 (dk_at dksX4_ride_1 7 rfl rfl)
theorem dX4_ride_33 : decode cX4_ride 33 = .ok (.invokestatic 87, 3) := dk_184 0 87 (dk_at dksX4_ride_1 9 rfl rfl)
theorem dX4_ride_36 : decode cX4_ride 36 = .ok (.dup2, 1) := dk_92 (dk_at dksX4_ride_1 12 rfl rfl)
theorem dX4_ride_37 : decode cX4_ride 37 = .ok (.iaload, 1) := dk_46 (dk_at dksX4_ride_1 13 rfl rfl)
theorem dX4_ride_38 : decode cX4_ride 38 = .ok (.iload_n 2, 1) := dk_28 (dk_at dksX4_ride_1 14 rfl rfl)
theorem dX4_ride_39 : decode cX4_ride 39 = .ok (.iconst 1, 1) := dk_4 (dk_at dksX4_ride_1 15 rfl rfl)
theorem dX4_ride_40 : decode cX4_ride 40 = .ok (.invokestatic 107, 3) := dk_184 0 107 (dk_at dksX4_ride_1 16 rfl rfl)
theorem dX4_ride_43 : decode cX4_ride 43 = .ok (.iadd, 1) := dk_96 (dk_at dksX4_ride_1 19 rfl rfl)
theorem dX4_ride_44 : decode cX4_ride 44 = .ok (.iastore, 1) := dk_79 (dk_at dksX4_ride_1 20 rfl rfl)
theorem dX4_ride_45 : decode cX4_ride 45 = .ok (.aload_n 0, 1) := dk_42 (dk_at dksX4_ride_1 21 rfl rfl)
theorem dX4_ride_46 : decode cX4_ride 46 = .ok (.getfield 9, 3) := dk_180 0 9 (dk_at dksX4_ride_2 0 rfl rfl)
theorem dX4_ride_49 : decode cX4_ride 49 = .ok (.iload_n 1, 1) := dk_27 (dk_at dksX4_ride_2 3 rfl rfl)
theorem dX4_ride_50 : decode cX4_ride 50 = .ok (.bipush 8, 2) := dk_16 8 (dk_at dksX4_ride_2 4 rfl rfl)
theorem dX4_ride_52 : decode cX4_ride 52 = .ok (.invokestatic 87, 3) := dk_184 0 87 (dk_at dksX4_ride_2 6 rfl rfl)
theorem dX4_ride_55 : decode cX4_ride 55 = .ok (.dup2, 1) := dk_92 (dk_at dksX4_ride_2 9 rfl rfl)
theorem dX4_ride_56 : decode cX4_ride 56 = .ok (.iaload, 1) := dk_46 (dk_at dksX4_ride_2 10 rfl rfl)
theorem dX4_ride_57 : decode cX4_ride 57 = .ok (.iload_n 2, 1) := dk_28 (dk_at dksX4_ride_2 11 rfl rfl)
theorem dX4_ride_58 : decode cX4_ride 58 = .ok (.iconst 0, 1) := dk_3 (dk_at dksX4_ride_2 12 rfl rfl)
theorem dX4_ride_59 : decode cX4_ride 59 = .ok (.invokestatic 107, 3) := dk_184 0 107 (dk_at dksX4_ride_2 13 rfl rfl)
theorem dX4_ride_62 : decode cX4_ride 62 = .ok (.iadd, 1) := dk_96 (dk_at dksX4_ride_2 16 rfl rfl)
theorem dX4_ride_63 : decode cX4_ride 63 = .ok (.iastore, 1) := dk_79 (dk_at dksX4_ride_2 17 rfl rfl)
theorem dX4_ride_64 : decode cX4_ride 64 = .ok (.aload_n 0, 1) := dk_42 (dk_at dksX4_ride_2 18 rfl rfl)
theorem dX4_ride_65 : decode cX4_ride 65 = .ok (.getfield 9, 3) := dk_180 0 9 (dk_at dksX4_ride_2 19 rfl rfl)
theorem dX4_ride_68 : decode cX4_ride 68 = .ok (.iload_n 1, 1) := dk_27 (dk_at dksX4_ride_2 22 rfl rfl)
theorem dX4_ride_69 : decode cX4_ride 69 = .ok (.bipush 9, 2) := dk_16 9 (dk_at dksX4_ride_3 0 rfl rfl)
theorem dX4_ride_71 : decode cX4_ride 71 = .ok (.invokestatic 87, 3) := dk_184 0 87 (dk_at dksX4_ride_3 2 rfl rfl)
theorem dX4_ride_74 : decode cX4_ride 74 = .ok (.dup2, 1) := dk_92 (dk_at dksX4_ride_3 5 rfl rfl)
theorem dX4_ride_75 : decode cX4_ride 75 = .ok (.iaload, 1) := dk_46 (dk_at dksX4_ride_3 6 rfl rfl)
theorem dX4_ride_76 : decode cX4_ride 76 = .ok (.iconst 1, 1) := dk_4 (dk_at dksX4_ride_3 7 rfl rfl)
theorem dX4_ride_77 : decode cX4_ride 77 = .ok (.iadd, 1) := dk_96 (dk_at dksX4_ride_3 8 rfl rfl)
theorem dX4_ride_78 : decode cX4_ride 78 = .ok (.iastore, 1) := dk_79 (dk_at dksX4_ride_3 9 rfl rfl)
theorem dX4_ride_79 : decode cX4_ride 79 = .ok (.aload_n 0, 1) := dk_42 (dk_at dksX4_ride_3 10 rfl rfl)
theorem dX4_ride_80 : decode cX4_ride 80 = .ok (.aload_n 0, 1) := dk_42 (dk_at dksX4_ride_3 11 rfl rfl)
theorem dX4_ride_81 : decode cX4_ride 81 = .ok (.iload_n 1, 1) := dk_27 (dk_at dksX4_ride_3 12 rfl rfl)
theorem dX4_ride_82 : decode cX4_ride 82 = .ok (.bipush 7, 2) := dk_16 7 (dk_at dksX4_ride_3 13 rfl rfl)
theorem dX4_ride_84 : decode cX4_ride 84 = .ok (.invokevirtual 130, 3) := dk_182 0 130 (dk_at dksX4_ride_3 15 rfl rfl)
theorem dX4_ride_87 : decode cX4_ride 87 = .ok (.aload_n 0, 1) := dk_42 (dk_at dksX4_ride_3 18 rfl rfl)
theorem dX4_ride_88 : decode cX4_ride 88 = .ok (.iload_n 1, 1) := dk_27 (dk_at dksX4_ride_3 19 rfl rfl)
theorem dX4_ride_89 : decode cX4_ride 89 = .ok (.bipush 8, 2) := dk_16 8 (dk_at dksX4_ride_3 20 rfl rfl)
theorem dX4_ride_91 : decode cX4_ride 91 = .ok (.invokevirtual 130, 3) := dk_182 0 130 (dk_at dksX4_ride_4 0 rfl rfl)
theorem dX4_ride_94 : decode cX4_ride 94 = .ok (.aload_n 0, 1) := dk_42 (dk_at dksX4_ride_4 3 rfl rfl)
theorem dX4_ride_95 : decode cX4_ride 95 = .ok (.invokevirtual 126, 3) := dk_182 0 126 (dk_at dksX4_ride_4 4 rfl rfl)
theorem dX4_ride_98 : decode cX4_ride 98 = .ok (.invokevirtual 146, 3) := dk_182 0 146 (dk_at dksX4_ride_4 7 rfl rfl)
theorem dX4_ride_101 : decode cX4_ride 101 = .ok (.istore_n 3, 1) := dk_62 (dk_at dksX4_ride_4 10 rfl rfl)
theorem dX4_ride_102 : decode cX4_ride 102 = .ok (.iload_n 3, 1) := dk_29 (dk_at dksX4_ride_4 11 rfl rfl)
theorem dX4_ride_103 : decode cX4_ride 103 = .ok (.iconst (-1), 1) := dk_2 (dk_at dksX4_ride_4 12 rfl rfl)
theorem dX4_ride_104 : decode cX4_ride 104 = .ok (.if_icmp .eq 27, 3) := dk_159 0 27 (dk_at dksX4_ride_4 13 rfl rfl)
theorem dX4_ride_107 : decode cX4_ride 107 = .ok (.aload_n 0, 1) := dk_42 (dk_at dksX4_ride_4 16 rfl rfl)
theorem dX4_ride_108 : decode cX4_ride 108 = .ok (.getfield 9, 3) := dk_180 0 9 (dk_at dksX4_ride_4 17 rfl rfl)
theorem dX4_ride_111 : decode cX4_ride 111 = .ok (.iload_n 3, 1) := dk_29 (dk_at dksX4_ride_4 20 rfl rfl)
theorem dX4_ride_112 : decode cX4_ride 112 = .ok (.bipush 6, 2) := dk_16 6 (dk_at dksX4_ride_4 21 rfl rfl)
theorem dX4_ride_114 : decode cX4_ride 114 = .ok (.invokestatic 84, 3) := dk_184 0 84 (dk_at dksX4_ride_5 0 rfl rfl)
theorem dX4_ride_117 : decode cX4_ride 117 = .ok (.dup2, 1) := dk_92 (dk_at dksX4_ride_5 3 rfl rfl)
theorem dX4_ride_118 : decode cX4_ride 118 = .ok (.iaload, 1) := dk_46 (dk_at dksX4_ride_5 4 rfl rfl)
theorem dX4_ride_119 : decode cX4_ride 119 = .ok (.iconst 1, 1) := dk_4 (dk_at dksX4_ride_5 5 rfl rfl)
theorem dX4_ride_120 : decode cX4_ride 120 = .ok (.iadd, 1) := dk_96 (dk_at dksX4_ride_5 6 rfl rfl)
theorem dX4_ride_121 : decode cX4_ride 121 = .ok (.iastore, 1) := dk_79 (dk_at dksX4_ride_5 7 rfl rfl)
theorem dX4_ride_122 : decode cX4_ride 122 = .ok (.aload_n 0, 1) := dk_42 (dk_at dksX4_ride_5 8 rfl rfl)
theorem dX4_ride_123 : decode cX4_ride 123 = .ok (.iload_n 1, 1) := dk_27 (dk_at dksX4_ride_5 9 rfl rfl)
theorem dX4_ride_124 : decode cX4_ride 124 = .ok (.iconst 5, 1) := dk_8 (dk_at dksX4_ride_5 10 rfl rfl)
theorem dX4_ride_125 : decode cX4_ride 125 = .ok (.invokevirtual 136, 3) := dk_182 0 136 (dk_at dksX4_ride_5 11 rfl rfl)
theorem dX4_ride_128 : decode cX4_ride 128 = .ok (.goto 16, 3) := dk_167 0 16 (dk_at dksX4_ride_5 14 rfl rfl)
theorem dX4_ride_131 : decode cX4_ride 131 = .ok (.aload_n 0, 1) := dk_42 (dk_at dksX4_ride_5 17 rfl rfl)
theorem dX4_ride_132 : decode cX4_ride 132 = .ok (.iload_n 1, 1) := dk_27 (dk_at dksX4_ride_5 18 rfl rfl)
theorem dX4_ride_133 : decode cX4_ride 133 = .ok (.invokevirtual 150, 3) := dk_182 0 150 (dk_at dksX4_ride_5 19 rfl rfl)
theorem dX4_ride_136 : decode cX4_ride 136 = .ok (.ifCond .eq 8, 3) := dk_153 0 8 (dk_at dksX4_ride_6 0 rfl rfl)
theorem dX4_ride_139 : decode cX4_ride 139 = .ok (.aload_n 0, 1) := dk_42 (dk_at dksX4_ride_6 3 rfl rfl)
theorem dX4_ride_140 : decode cX4_ride 140 = .ok (.iload_n 1, 1) := dk_27 (dk_at dksX4_ride_6 4 rfl rfl)
theorem dX4_ride_141 : decode cX4_ride 141 = .ok (.invokevirtual 154, 3) := dk_182 0 154 (dk_at dksX4_ride_6 5 rfl rfl)
theorem dX4_ride_144 : decode cX4_ride 144 = .ok (.aload_n 0, 1) := dk_42 (dk_at dksX4_ride_6 8 rfl rfl)
theorem dX4_ride_145 : decode cX4_ride 145 = .ok (.iload_n 1, 1) := dk_27 (dk_at dksX4_ride_6 9 rfl rfl)
theorem dX4_ride_146 : decode cX4_ride 146 = .ok (.iconst 3, 1) := dk_6 (dk_at dksX4_ride_6 10 rfl rfl)
theorem dX4_ride_147 : decode cX4_ride 147 = .ok (.invokevirtual 130, 3) := dk_182 0 130 (dk_at dksX4_ride_6 11 rfl rfl)
theorem dX4_ride_150 : decode cX4_ride 150 = .ok (.ifCond .ne 7, 3) := dk_154 0 7 (dk_at dksX4_ride_6 14 rfl rfl)
theorem dX4_ride_153 : decode cX4_ride 153 = .ok (.iconst 1, 1) := dk_4 (dk_at dksX4_ride_6 17 rfl rfl)
theorem dX4_ride_154 : decode cX4_ride 154 = .ok (.goto 4, 3) := dk_167 0 4 (dk_at dksX4_ride_6 18 rfl rfl)
theorem dX4_ride_157 : decode cX4_ride 157 = .ok (.iconst 0, 1) := dk_3 (dk_at dksX4_ride_6 21 rfl rfl)
theorem dX4_ride_158 : decode cX4_ride 158 = .ok (.ireturn, 1) := dk_172 (dk_at dksX4_ride_6 22 rfl rfl)
abbrev cX4_move : ByteArray := prog_24_method_39_code
def yX4_move : MethodName := ⟨RX4, "move", "(I)V"⟩
def dkwX4_move_2 : List UInt8 := [182, 0, 171, 153, 0, 9, 42, 28, 5, 182, 0, 136, 177]
abbrev dktX4_move_2 : List UInt8 := dkwX4_move_2 ++ []
def dkwX4_move_1 : List UInt8 := [182, 0, 126, 42, 27, 5, 182, 0, 133, 112, 154, 0, 9, 42, 27, 28, 182, 0, 174, 42, 27, 28]
abbrev dktX4_move_1 : List UInt8 := dkwX4_move_1 ++ dktX4_move_2
def dkwX4_move_0 : List UInt8 := [42, 27, 182, 0, 140, 61, 28, 2, 160, 0, 4, 177, 42, 27, 28, 182, 0, 171, 154, 0, 23, 42]
abbrev dktX4_move_0 : List UInt8 := dkwX4_move_0 ++ dktX4_move_1
theorem dksX4_move_0 : cX4_move.data.toList.drop 0 = dktX4_move_0 := by decide +kernel
theorem dksX4_move_1 : cX4_move.data.toList.drop 22 = dktX4_move_1 := dk_seg dksX4_move_0 22 rfl rfl
theorem dksX4_move_2 : cX4_move.data.toList.drop 44 = dktX4_move_2 := dk_seg dksX4_move_1 22 rfl rfl
theorem dX4_move_0 : decode cX4_move 0 = .ok (.aload_n 0, 1) := dk_42 (dk_at dksX4_move_0 0 rfl rfl)
theorem dX4_move_1 : decode cX4_move 1 = .ok (.iload_n 1, 1) := dk_27 (dk_at dksX4_move_0 1 rfl rfl)
theorem dX4_move_2 : decode cX4_move 2 = .ok (.invokevirtual 140, 3) := dk_182 0 140 (dk_at dksX4_move_0 2 rfl rfl)
theorem dX4_move_5 : decode cX4_move 5 = .ok (.istore_n 2, 1) := dk_61 (dk_at dksX4_move_0 5 rfl rfl)
theorem dX4_move_6 : decode cX4_move 6 = .ok (.iload_n 2, 1) := dk_28 (dk_at dksX4_move_0 6 rfl rfl)
theorem dX4_move_7 : decode cX4_move 7 = .ok (.iconst (-1), 1) := dk_2 (dk_at dksX4_move_0 7 rfl rfl)
theorem dX4_move_8 : decode cX4_move 8 = .ok (.if_icmp .ne 4, 3) := dk_160 0 4 (dk_at dksX4_move_0 8 rfl rfl)
theorem dX4_move_11 : decode cX4_move 11 = .ok (.return_, 1) := dk_177 (dk_at dksX4_move_0 11 rfl rfl)
theorem dX4_move_12 : decode cX4_move 12 = .ok (.aload_n 0, 1) := dk_42 (dk_at dksX4_move_0 12 rfl rfl)
theorem dX4_move_13 : decode cX4_move 13 = .ok (.iload_n 1, 1) := dk_27 (dk_at dksX4_move_0 13 rfl rfl)
theorem dX4_move_14 : decode cX4_move 14 = .ok (.iload_n 2, 1) := dk_28 (dk_at dksX4_move_0 14 rfl rfl)
theorem dX4_move_15 : decode cX4_move 15 = .ok (.invokevirtual 171, 3) := dk_182 0 171 (dk_at dksX4_move_0 15 rfl rfl)
theorem dX4_move_18 : decode cX4_move 18 = .ok (.ifCond .ne 23, 3) := dk_154 0 23 (dk_at dksX4_move_0 18 rfl rfl)
theorem dX4_move_21 : decode cX4_move 21 = .ok (.aload_n 0, 1) := dk_42 (dk_at dksX4_move_0 21 rfl rfl)
theorem dX4_move_22 : decode cX4_move 22 = .ok (.invokevirtual 126, 3) := dk_182 0 126 (dk_at dksX4_move_1 0 rfl rfl)
theorem dX4_move_25 : decode cX4_move 25 = .ok (.aload_n 0, 1) := dk_42 (dk_at dksX4_move_1 3 rfl rfl)
theorem dX4_move_26 : decode cX4_move 26 = .ok (.iload_n 1, 1) := dk_27 (dk_at dksX4_move_1 4 rfl rfl)
theorem dX4_move_27 : decode cX4_move 27 = .ok (.iconst 2, 1) := dk_5 (dk_at dksX4_move_1 5 rfl rfl)
theorem dX4_move_28 : decode cX4_move 28 = .ok (.invokevirtual 133, 3) := dk_182 0 133 (dk_at dksX4_move_1 6 rfl rfl)
theorem dX4_move_31 : decode cX4_move 31 = .ok (.irem, 1) := dk_112 (dk_at dksX4_move_1 9 rfl rfl)
theorem dX4_move_32 : decode cX4_move 32 = .ok (.ifCond .ne 9, 3) := dk_154 0 9 (dk_at dksX4_move_1 10 rfl rfl)
theorem dX4_move_35 : decode cX4_move 35 = .ok (.aload_n 0, 1) := dk_42 (dk_at dksX4_move_1 13 rfl rfl)
theorem dX4_move_36 : decode cX4_move 36 = .ok (.iload_n 1, 1) := dk_27 (dk_at dksX4_move_1 14 rfl rfl)
theorem dX4_move_37 : decode cX4_move 37 = .ok (.iload_n 2, 1) := dk_28 (dk_at dksX4_move_1 15 rfl rfl)
theorem dX4_move_38 : decode cX4_move 38 = .ok (.invokevirtual 174, 3) := dk_182 0 174 (dk_at dksX4_move_1 16 rfl rfl)
theorem dX4_move_41 : decode cX4_move 41 = .ok (.aload_n 0, 1) := dk_42 (dk_at dksX4_move_1 19 rfl rfl)
theorem dX4_move_42 : decode cX4_move 42 = .ok (.iload_n 1, 1) := dk_27 (dk_at dksX4_move_1 20 rfl rfl)
theorem dX4_move_43 : decode cX4_move 43 = .ok (.iload_n 2, 1) := dk_28 (dk_at dksX4_move_1 21 rfl rfl)
theorem dX4_move_44 : decode cX4_move 44 = .ok (.invokevirtual 171, 3) := dk_182 0 171 (dk_at dksX4_move_2 0 rfl rfl)
theorem dX4_move_47 : decode cX4_move 47 = .ok (.ifCond .eq 9, 3) := dk_153 0 9 (dk_at dksX4_move_2 3 rfl rfl)
theorem dX4_move_50 : decode cX4_move 50 = .ok (.aload_n 0, 1) := dk_42 (dk_at dksX4_move_2 6 rfl rfl)
theorem dX4_move_51 : decode cX4_move 51 = .ok (.iload_n 2, 1) := dk_28 (dk_at dksX4_move_2 7 rfl rfl)
theorem dX4_move_52 : decode cX4_move 52 = .ok (.iconst 2, 1) := dk_5 (dk_at dksX4_move_2 8 rfl rfl)
theorem dX4_move_53 : decode cX4_move 53 = .ok (.invokevirtual 136, 3) := dk_182 0 136 (dk_at dksX4_move_2 9 rfl rfl)
theorem dX4_move_56 : decode cX4_move 56 = .ok (.return_, 1) := dk_177 (dk_at dksX4_move_2 12 rfl rfl)
abbrev cX4_isInGoal : ByteArray := prog_24_method_37_code
def yX4_isInGoal : MethodName := ⟨RX4, "isInGoal", "(II)Z"⟩
def dkwX4_isInGoal_1 : List UInt8 := [182, 0, 130, 160, 0, 7, 4, 167, 0, 4, 3, 172]
abbrev dktX4_isInGoal_1 : List UInt8 := dkwX4_isInGoal_1 ++ []
def dkwX4_isInGoal_0 : List UInt8 := [42, 27, 3, 182, 0, 133, 42, 28, 4, 182, 0, 130, 160, 0, 22, 42, 27, 4, 182, 0, 133, 42, 28, 5]
abbrev dktX4_isInGoal_0 : List UInt8 := dkwX4_isInGoal_0 ++ dktX4_isInGoal_1
theorem dksX4_isInGoal_0 : cX4_isInGoal.data.toList.drop 0 = dktX4_isInGoal_0 := by decide +kernel
theorem dksX4_isInGoal_1 : cX4_isInGoal.data.toList.drop 24 = dktX4_isInGoal_1 := dk_seg dksX4_isInGoal_0 24 rfl rfl
theorem dX4_isInGoal_0 : decode cX4_isInGoal 0 = .ok (.aload_n 0, 1) := dk_42 (dk_at dksX4_isInGoal_0 0 rfl rfl)
theorem dX4_isInGoal_1 : decode cX4_isInGoal 1 = .ok (.iload_n 1, 1) := dk_27 (dk_at dksX4_isInGoal_0 1 rfl rfl)
theorem dX4_isInGoal_2 : decode cX4_isInGoal 2 = .ok (.iconst 0, 1) := dk_3 (dk_at dksX4_isInGoal_0 2 rfl rfl)
theorem dX4_isInGoal_3 : decode cX4_isInGoal 3 = .ok (.invokevirtual 133, 3) := dk_182 0 133 (dk_at dksX4_isInGoal_0 3 rfl rfl)
theorem dX4_isInGoal_6 : decode cX4_isInGoal 6 = .ok (.aload_n 0, 1) := dk_42 (dk_at dksX4_isInGoal_0 6 rfl rfl)
theorem dX4_isInGoal_7 : decode cX4_isInGoal 7 = .ok (.iload_n 2, 1) := dk_28 (dk_at dksX4_isInGoal_0 7 rfl rfl)
theorem dX4_isInGoal_8 : decode cX4_isInGoal 8 = .ok (.iconst 1, 1) := dk_4 (dk_at dksX4_isInGoal_0 8 rfl rfl)
theorem dX4_isInGoal_9 : decode cX4_isInGoal 9 = .ok (.invokevirtual 130, 3) := dk_182 0 130 (dk_at dksX4_isInGoal_0 9 rfl rfl)
theorem dX4_isInGoal_12 : decode cX4_isInGoal 12 = .ok (.if_icmp .ne 22, 3) := dk_160 0 22 (dk_at dksX4_isInGoal_0 12 rfl rfl)
theorem dX4_isInGoal_15 : decode cX4_isInGoal 15 = .ok (.aload_n 0, 1) := dk_42 (dk_at dksX4_isInGoal_0 15 rfl rfl)
theorem dX4_isInGoal_16 : decode cX4_isInGoal 16 = .ok (.iload_n 1, 1) := dk_27 (dk_at dksX4_isInGoal_0 16 rfl rfl)
theorem dX4_isInGoal_17 : decode cX4_isInGoal 17 = .ok (.iconst 1, 1) := dk_4 (dk_at dksX4_isInGoal_0 17 rfl rfl)
theorem dX4_isInGoal_18 : decode cX4_isInGoal 18 = .ok (.invokevirtual 133, 3) := dk_182 0 133 (dk_at dksX4_isInGoal_0 18 rfl rfl)
theorem dX4_isInGoal_21 : decode cX4_isInGoal 21 = .ok (.aload_n 0, 1) := dk_42 (dk_at dksX4_isInGoal_0 21 rfl rfl)
theorem dX4_isInGoal_22 : decode cX4_isInGoal 22 = .ok (.iload_n 2, 1) := dk_28 (dk_at dksX4_isInGoal_0 22 rfl rfl)
theorem dX4_isInGoal_23 : decode cX4_isInGoal 23 = .ok (.iconst 2, 1) := dk_5 (dk_at dksX4_isInGoal_0 23 rfl rfl)
theorem dX4_isInGoal_24 : decode cX4_isInGoal 24 = .ok (.invokevirtual 130, 3) := dk_182 0 130 (dk_at dksX4_isInGoal_1 0 rfl rfl)
theorem dX4_isInGoal_27 : decode cX4_isInGoal 27 = .ok (.if_icmp .ne 7, 3) := dk_160 0 7 (dk_at dksX4_isInGoal_1 3 rfl rfl)
theorem dX4_isInGoal_30 : decode cX4_isInGoal 30 = .ok (.iconst 1, 1) := dk_4 (dk_at dksX4_isInGoal_1 6 rfl rfl)
theorem dX4_isInGoal_31 : decode cX4_isInGoal 31 = .ok (.goto 4, 3) := dk_167 0 4 (dk_at dksX4_isInGoal_1 7 rfl rfl)
theorem dX4_isInGoal_34 : decode cX4_isInGoal 34 = .ok (.iconst 0, 1) := dk_3 (dk_at dksX4_isInGoal_1 10 rfl rfl)
theorem dX4_isInGoal_35 : decode cX4_isInGoal 35 = .ok (.ireturn, 1) := dk_172 (dk_at dksX4_isInGoal_1 11 rfl rfl)
abbrev cX4_walk : ByteArray := prog_24_method_38_code
def yX4_walk : MethodName := ⟨RX4, "walk", "(II)V"⟩
def dkwX4_walk_3 : List UInt8 := [96, 79, 177]
abbrev dktX4_walk_3 : List UInt8 := dkwX4_walk_3 ++ []
def dkwX4_walk_2 : List UInt8 := [46, 29, 4, 184, 0, 107, 96, 79, 42, 180, 0, 9, 27, 4, 184, 0, 80, 92, 46, 29, 3, 184, 0, 107]
abbrev dktX4_walk_2 : List UInt8 := dkwX4_walk_2 ++ dktX4_walk_3
def dkwX4_walk_1 : List UInt8 := [27, 4, 182, 0, 133, 182, 0, 143, 62, 29, 2, 159, 0, 39, 42, 180, 0, 9, 27, 3, 184, 0, 80, 92]
abbrev dktX4_walk_1 : List UInt8 := dkwX4_walk_1 ++ dktX4_walk_2
def dkwX4_walk_0 : List UInt8 := [42, 42, 28, 4, 182, 0, 130, 42, 28, 5, 182, 0, 130, 182, 0, 158, 42, 42, 27, 3, 182, 0, 133, 42]
abbrev dktX4_walk_0 : List UInt8 := dkwX4_walk_0 ++ dktX4_walk_1
theorem dksX4_walk_0 : cX4_walk.data.toList.drop 0 = dktX4_walk_0 := by decide +kernel
theorem dksX4_walk_1 : cX4_walk.data.toList.drop 24 = dktX4_walk_1 := dk_seg dksX4_walk_0 24 rfl rfl
theorem dksX4_walk_2 : cX4_walk.data.toList.drop 48 = dktX4_walk_2 := dk_seg dksX4_walk_1 24 rfl rfl
theorem dksX4_walk_3 : cX4_walk.data.toList.drop 72 = dktX4_walk_3 := dk_seg dksX4_walk_2 24 rfl rfl
theorem dX4_walk_0 : decode cX4_walk 0 = .ok (.aload_n 0, 1) := dk_42 (dk_at dksX4_walk_0 0 rfl rfl)
theorem dX4_walk_1 : decode cX4_walk 1 = .ok (.aload_n 0, 1) := dk_42 (dk_at dksX4_walk_0 1 rfl rfl)
theorem dX4_walk_2 : decode cX4_walk 2 = .ok (.iload_n 2, 1) := dk_28 (dk_at dksX4_walk_0 2 rfl rfl)
theorem dX4_walk_3 : decode cX4_walk 3 = .ok (.iconst 1, 1) := dk_4 (dk_at dksX4_walk_0 3 rfl rfl)
theorem dX4_walk_4 : decode cX4_walk 4 = .ok (.invokevirtual 130, 3) := dk_182 0 130 (dk_at dksX4_walk_0 4 rfl rfl)
theorem dX4_walk_7 : decode cX4_walk 7 = .ok (.aload_n 0, 1) := dk_42 (dk_at dksX4_walk_0 7 rfl rfl)
theorem dX4_walk_8 : decode cX4_walk 8 = .ok (.iload_n 2, 1) := dk_28 (dk_at dksX4_walk_0 8 rfl rfl)
theorem dX4_walk_9 : decode cX4_walk 9 = .ok (.iconst 2, 1) := dk_5 (dk_at dksX4_walk_0 9 rfl rfl)
theorem dX4_walk_10 : decode cX4_walk 10 = .ok (.invokevirtual 130, 3) := dk_182 0 130 (dk_at dksX4_walk_0 10 rfl rfl)
theorem dX4_walk_13 : decode cX4_walk 13 = .ok (.invokevirtual 158, 3) := dk_182 0 158 (dk_at dksX4_walk_0 13 rfl rfl)
theorem dX4_walk_16 : decode cX4_walk 16 = .ok (.aload_n 0, 1) := dk_42 (dk_at dksX4_walk_0 16 rfl rfl)
theorem dX4_walk_17 : decode cX4_walk 17 = .ok (.aload_n 0, 1) := dk_42 (dk_at dksX4_walk_0 17 rfl rfl)
theorem dX4_walk_18 : decode cX4_walk 18 = .ok (.iload_n 1, 1) := dk_27 (dk_at dksX4_walk_0 18 rfl rfl)
theorem dX4_walk_19 : decode cX4_walk 19 = .ok (.iconst 0, 1) := dk_3 (dk_at dksX4_walk_0 19 rfl rfl)
theorem dX4_walk_20 : decode cX4_walk 20 = .ok (.invokevirtual 133, 3) := dk_182 0 133 (dk_at dksX4_walk_0 20 rfl rfl)
theorem dX4_walk_23 : decode cX4_walk 23 = .ok (.aload_n 0, 1) := dk_42 (dk_at dksX4_walk_0 23 rfl rfl)
theorem dX4_walk_24 : decode cX4_walk 24 = .ok (.iload_n 1, 1) := dk_27 (dk_at dksX4_walk_1 0 rfl rfl)
theorem dX4_walk_25 : decode cX4_walk 25 = .ok (.iconst 1, 1) := dk_4 (dk_at dksX4_walk_1 1 rfl rfl)
theorem dX4_walk_26 : decode cX4_walk 26 = .ok (.invokevirtual 133, 3) := dk_182 0 133 (dk_at dksX4_walk_1 2 rfl rfl)
theorem dX4_walk_29 : decode cX4_walk 29 = .ok (.invokevirtual 143, 3) := dk_182 0 143 (dk_at dksX4_walk_1 5 rfl rfl)
theorem dX4_walk_32 : decode cX4_walk 32 = .ok (.istore_n 3, 1) := dk_62 (dk_at dksX4_walk_1 8 rfl rfl)
theorem dX4_walk_33 : decode cX4_walk 33 = .ok (.iload_n 3, 1) := dk_29 (dk_at dksX4_walk_1 9 rfl rfl)
theorem dX4_walk_34 : decode cX4_walk 34 = .ok (.iconst (-1), 1) := dk_2 (dk_at dksX4_walk_1 10 rfl rfl)
theorem dX4_walk_35 : decode cX4_walk 35 = .ok (.if_icmp .eq 39, 3) := dk_159 0 39 (dk_at dksX4_walk_1 11 rfl rfl)
theorem dX4_walk_38 : decode cX4_walk 38 = .ok (.aload_n 0, 1) := dk_42 (dk_at dksX4_walk_1 14 rfl rfl)
theorem dX4_walk_39 : decode cX4_walk 39 = .ok (.getfield 9, 3) := dk_180 0 9 (dk_at dksX4_walk_1 15 rfl rfl)
theorem dX4_walk_42 : decode cX4_walk 42 = .ok (.iload_n 1, 1) := dk_27 (dk_at dksX4_walk_1 18 rfl rfl)
theorem dX4_walk_43 : decode cX4_walk 43 = .ok (.iconst 0, 1) := dk_3 (dk_at dksX4_walk_1 19 rfl rfl)
theorem dX4_walk_44 : decode cX4_walk 44 = .ok (.invokestatic 80, 3) := dk_184 0 80 (dk_at dksX4_walk_1 20 rfl rfl)
theorem dX4_walk_47 : decode cX4_walk 47 = .ok (.dup2, 1) := dk_92 (dk_at dksX4_walk_1 23 rfl rfl)
theorem dX4_walk_48 : decode cX4_walk 48 = .ok (.iaload, 1) := dk_46 (dk_at dksX4_walk_2 0 rfl rfl)
theorem dX4_walk_49 : decode cX4_walk 49 = .ok (.iload_n 3, 1) := dk_29 (dk_at dksX4_walk_2 1 rfl rfl)
theorem dX4_walk_50 : decode cX4_walk 50 = .ok (.iconst 1, 1) := dk_4 (dk_at dksX4_walk_2 2 rfl rfl)
theorem dX4_walk_51 : decode cX4_walk 51 = .ok (.invokestatic 107, 3) := dk_184 0 107 (dk_at dksX4_walk_2 3 rfl rfl)
theorem dX4_walk_54 : decode cX4_walk 54 = .ok (.iadd, 1) := dk_96 (dk_at dksX4_walk_2 6 rfl rfl)
theorem dX4_walk_55 : decode cX4_walk 55 = .ok (.iastore, 1) := dk_79 (dk_at dksX4_walk_2 7 rfl rfl)
theorem dX4_walk_56 : decode cX4_walk 56 = .ok (.aload_n 0, 1) := dk_42 (dk_at dksX4_walk_2 8 rfl rfl)
theorem dX4_walk_57 : decode cX4_walk 57 = .ok (.getfield 9, 3) := dk_180 0 9 (dk_at dksX4_walk_2 9 rfl rfl)
theorem dX4_walk_60 : decode cX4_walk 60 = .ok (.iload_n 1, 1) := dk_27 (dk_at dksX4_walk_2 12 rfl rfl)
theorem dX4_walk_61 : decode cX4_walk 61 = .ok (.iconst 1, 1) := dk_4 (dk_at dksX4_walk_2 13 rfl rfl)
theorem dX4_walk_62 : decode cX4_walk 62 = .ok (.invokestatic 80, 3) := dk_184 0 80 (dk_at dksX4_walk_2 14 rfl rfl)
theorem dX4_walk_65 : decode cX4_walk 65 = .ok (.dup2, 1) := dk_92 (dk_at dksX4_walk_2 17 rfl rfl)
theorem dX4_walk_66 : decode cX4_walk 66 = .ok (.iaload, 1) := dk_46 (dk_at dksX4_walk_2 18 rfl rfl)
theorem dX4_walk_67 : decode cX4_walk 67 = .ok (.iload_n 3, 1) := dk_29 (dk_at dksX4_walk_2 19 rfl rfl)
theorem dX4_walk_68 : decode cX4_walk 68 = .ok (.iconst 0, 1) := dk_3 (dk_at dksX4_walk_2 20 rfl rfl)
theorem dX4_walk_69 : decode cX4_walk 69 = .ok (.invokestatic 107, 3) := dk_184 0 107 (dk_at dksX4_walk_2 21 rfl rfl)
theorem dX4_walk_72 : decode cX4_walk 72 = .ok (.iadd, 1) := dk_96 (dk_at dksX4_walk_3 0 rfl rfl)
theorem dX4_walk_73 : decode cX4_walk 73 = .ok (.iastore, 1) := dk_79 (dk_at dksX4_walk_3 1 rfl rfl)
theorem dX4_walk_74 : decode cX4_walk 74 = .ok (.return_, 1) := dk_177 (dk_at dksX4_walk_3 2 rfl rfl)
abbrev cX4_remember : ByteArray := prog_24_method_40_code
def yX4_remember : MethodName := ⟨RX4, "remember", "()V"⟩
def dkwX4_remember_2 : List UInt8 := [182, 0, 133, 96, 79, 132, 1, 1, 167, 255, 204, 177]
abbrev dktX4_remember_2 : List UInt8 := dkwX4_remember_2 ++ []
def dkwX4_remember_1 : List UInt8 := [180, 0, 9, 27, 42, 182, 0, 126, 184, 0, 177, 16, 100, 42, 27, 4, 182, 0, 133, 104, 42, 27, 3]
abbrev dktX4_remember_1 : List UInt8 := dkwX4_remember_1 ++ dktX4_remember_2
def dkwX4_remember_0 : List UInt8 := [3, 60, 27, 42, 180, 0, 9, 5, 46, 162, 0, 48, 42, 182, 0, 126, 17, 1, 244, 163, 0, 38, 42]
abbrev dktX4_remember_0 : List UInt8 := dkwX4_remember_0 ++ dktX4_remember_1
theorem dksX4_remember_0 : cX4_remember.data.toList.drop 0 = dktX4_remember_0 := by decide +kernel
theorem dksX4_remember_1 : cX4_remember.data.toList.drop 23 = dktX4_remember_1 := dk_seg dksX4_remember_0 23 rfl rfl
theorem dksX4_remember_2 : cX4_remember.data.toList.drop 46 = dktX4_remember_2 := dk_seg dksX4_remember_1 23 rfl rfl
theorem dX4_remember_0 : decode cX4_remember 0 = .ok (.iconst 0, 1) := dk_3 (dk_at dksX4_remember_0 0 rfl rfl)
theorem dX4_remember_1 : decode cX4_remember 1 = .ok (.istore_n 1, 1) := dk_60 (dk_at dksX4_remember_0 1 rfl rfl)
theorem dX4_remember_2 : decode cX4_remember 2 = .ok (.iload_n 1, 1) := dk_27 (dk_at dksX4_remember_0 2 rfl rfl)
theorem dX4_remember_3 : decode cX4_remember 3 = .ok (.aload_n 0, 1) := dk_42 (dk_at dksX4_remember_0 3 rfl rfl)
theorem dX4_remember_4 : decode cX4_remember 4 = .ok (.getfield 9, 3) := dk_180 0 9 (dk_at dksX4_remember_0 4 rfl rfl)
theorem dX4_remember_7 : decode cX4_remember 7 = .ok (.iconst 2, 1) := dk_5 (dk_at dksX4_remember_0 7 rfl rfl)
theorem dX4_remember_8 : decode cX4_remember 8 = .ok (.iaload, 1) := dk_46 (dk_at dksX4_remember_0 8 rfl rfl)
theorem dX4_remember_9 : decode cX4_remember 9 = .ok (.if_icmp .ge 48, 3) := dk_162 0 48 (dk_at dksX4_remember_0 9 rfl rfl)
theorem dX4_remember_12 : decode cX4_remember 12 = .ok (.aload_n 0, 1) := dk_42 (dk_at dksX4_remember_0 12 rfl rfl)
theorem dX4_remember_13 : decode cX4_remember 13 = .ok (.invokevirtual 126, 3) := dk_182 0 126 (dk_at dksX4_remember_0 13 rfl rfl)
theorem dX4_remember_16 : decode cX4_remember 16 = .ok (.sipush 500, 3) := dk_17 1 244 (dk_at dksX4_remember_0 16 rfl rfl)
theorem dX4_remember_19 : decode cX4_remember 19 = .ok (.if_icmp .gt 38, 3) := dk_163 0 38 (dk_at dksX4_remember_0 19 rfl rfl)
theorem dX4_remember_22 : decode cX4_remember 22 = .ok (.aload_n 0, 1) := dk_42 (dk_at dksX4_remember_0 22 rfl rfl)
theorem dX4_remember_23 : decode cX4_remember 23 = .ok (.getfield 9, 3) := dk_180 0 9 (dk_at dksX4_remember_1 0 rfl rfl)
theorem dX4_remember_26 : decode cX4_remember 26 = .ok (.iload_n 1, 1) := dk_27 (dk_at dksX4_remember_1 3 rfl rfl)
theorem dX4_remember_27 : decode cX4_remember 27 = .ok (.aload_n 0, 1) := dk_42 (dk_at dksX4_remember_1 4 rfl rfl)
theorem dX4_remember_28 : decode cX4_remember 28 = .ok (.invokevirtual 126, 3) := dk_182 0 126 (dk_at dksX4_remember_1 5 rfl rfl)
theorem dX4_remember_31 : decode cX4_remember 31 = .ok (.invokestatic 177, 3) := dk_184 0 177 (dk_at dksX4_remember_1 8 rfl rfl)
theorem dX4_remember_34 : decode cX4_remember 34 = .ok (.bipush 100, 2) := dk_16 100 (dk_at dksX4_remember_1 11 rfl rfl)
theorem dX4_remember_36 : decode cX4_remember 36 = .ok (.aload_n 0, 1) := dk_42 (dk_at dksX4_remember_1 13 rfl rfl)
theorem dX4_remember_37 : decode cX4_remember 37 = .ok (.iload_n 1, 1) := dk_27 (dk_at dksX4_remember_1 14 rfl rfl)
theorem dX4_remember_38 : decode cX4_remember 38 = .ok (.iconst 1, 1) := dk_4 (dk_at dksX4_remember_1 15 rfl rfl)
theorem dX4_remember_39 : decode cX4_remember 39 = .ok (.invokevirtual 133, 3) := dk_182 0 133 (dk_at dksX4_remember_1 16 rfl rfl)
theorem dX4_remember_42 : decode cX4_remember 42 = .ok (.imul, 1) := dk_104 (dk_at dksX4_remember_1 19 rfl rfl)
theorem dX4_remember_43 : decode cX4_remember 43 = .ok (.aload_n 0, 1) := dk_42 (dk_at dksX4_remember_1 20 rfl rfl)
theorem dX4_remember_44 : decode cX4_remember 44 = .ok (.iload_n 1, 1) := dk_27 (dk_at dksX4_remember_1 21 rfl rfl)
theorem dX4_remember_45 : decode cX4_remember 45 = .ok (.iconst 0, 1) := dk_3 (dk_at dksX4_remember_1 22 rfl rfl)
theorem dX4_remember_46 : decode cX4_remember 46 = .ok (.invokevirtual 133, 3) := dk_182 0 133 (dk_at dksX4_remember_2 0 rfl rfl)
theorem dX4_remember_49 : decode cX4_remember 49 = .ok (.iadd, 1) := dk_96 (dk_at dksX4_remember_2 3 rfl rfl)
theorem dX4_remember_50 : decode cX4_remember 50 = .ok (.iastore, 1) := dk_79 (dk_at dksX4_remember_2 4 rfl rfl)
theorem dX4_remember_51 : decode cX4_remember 51 = .ok (.iinc 1 1, 3) := dk_132 1 1 (dk_at dksX4_remember_2 5 rfl rfl)
theorem dX4_remember_54 : decode cX4_remember 54 = .ok (.goto (-52), 3) := dk_167 255 204 (dk_at dksX4_remember_2 8 rfl rfl)
theorem dX4_remember_57 : decode cX4_remember 57 = .ok (.return_, 1) := dk_177 (dk_at dksX4_remember_2 11 rfl rfl)
abbrev cX4_end : ByteArray := prog_24_method_60_code
def yX4_end : MethodName := ⟨RX4, "end", "()V"⟩
def dkwX4_end_0 : List UInt8 := [42, 180, 0, 16, 3, 42, 180, 0, 9, 3, 184, 0, 213, 177]
abbrev dktX4_end_0 : List UInt8 := dkwX4_end_0 ++ []
theorem dksX4_end_0 : cX4_end.data.toList.drop 0 = dktX4_end_0 := by decide +kernel
theorem dX4_end_0 : decode cX4_end 0 = .ok (.aload_n 0, 1) := dk_42 (dk_at dksX4_end_0 0 rfl rfl)
theorem dX4_end_1 : decode cX4_end 1 = .ok (.getfield 16, 3) := dk_180 0 16 (dk_at dksX4_end_0 1 rfl rfl)
theorem dX4_end_4 : decode cX4_end 4 = .ok (.iconst 0, 1) := dk_3 (dk_at dksX4_end_0 4 rfl rfl)
theorem dX4_end_5 : decode cX4_end 5 = .ok (.aload_n 0, 1) := dk_42 (dk_at dksX4_end_0 5 rfl rfl)
theorem dX4_end_6 : decode cX4_end 6 = .ok (.getfield 9, 3) := dk_180 0 9 (dk_at dksX4_end_0 6 rfl rfl)
theorem dX4_end_9 : decode cX4_end 9 = .ok (.iconst 0, 1) := dk_3 (dk_at dksX4_end_0 9 rfl rfl)
theorem dX4_end_10 : decode cX4_end 10 = .ok (.invokestatic 213, 3) := dk_184 0 213 (dk_at dksX4_end_0 10 rfl rfl)
theorem dX4_end_13 : decode cX4_end 13 = .ok (.return_, 1) := dk_177 (dk_at dksX4_end_0 13 rfl rfl)
abbrev cX4_wouldArrive : ByteArray := prog_24_method_63_code
def yX4_wouldArrive : MethodName := ⟨RX4, "wouldArrive", "(III)I"⟩
def dkwX4_wouldArrive_1 : List UInt8 := [54, 4, 42, 182, 0, 226, 21, 4, 172]
abbrev dktX4_wouldArrive_1 : List UInt8 := dkwX4_wouldArrive_1 ++ []
def dkwX4_wouldArrive_0 : List UInt8 := [42, 27, 28, 29, 182, 0, 217, 154, 0, 5, 3, 172, 42, 182, 0, 220, 42, 27, 28, 29, 182, 0, 229]
abbrev dktX4_wouldArrive_0 : List UInt8 := dkwX4_wouldArrive_0 ++ dktX4_wouldArrive_1
theorem dksX4_wouldArrive_0 : cX4_wouldArrive.data.toList.drop 0 = dktX4_wouldArrive_0 := by decide +kernel
theorem dksX4_wouldArrive_1 : cX4_wouldArrive.data.toList.drop 23 = dktX4_wouldArrive_1 := dk_seg dksX4_wouldArrive_0 23 rfl rfl
theorem dX4_wouldArrive_0 : decode cX4_wouldArrive 0 = .ok (.aload_n 0, 1) := dk_42 (dk_at dksX4_wouldArrive_0 0 rfl rfl)
theorem dX4_wouldArrive_1 : decode cX4_wouldArrive 1 = .ok (.iload_n 1, 1) := dk_27 (dk_at dksX4_wouldArrive_0 1 rfl rfl)
theorem dX4_wouldArrive_2 : decode cX4_wouldArrive 2 = .ok (.iload_n 2, 1) := dk_28 (dk_at dksX4_wouldArrive_0 2 rfl rfl)
theorem dX4_wouldArrive_3 : decode cX4_wouldArrive 3 = .ok (.iload_n 3, 1) := dk_29 (dk_at dksX4_wouldArrive_0 3 rfl rfl)
theorem dX4_wouldArrive_4 : decode cX4_wouldArrive 4 = .ok (.invokevirtual 217, 3) := dk_182 0 217 (dk_at dksX4_wouldArrive_0 4 rfl rfl)
theorem dX4_wouldArrive_7 : decode cX4_wouldArrive 7 = .ok (.ifCond .ne 5, 3) := dk_154 0 5 (dk_at dksX4_wouldArrive_0 7 rfl rfl)
theorem dX4_wouldArrive_10 : decode cX4_wouldArrive 10 = .ok (.iconst 0, 1) := dk_3 (dk_at dksX4_wouldArrive_0 10 rfl rfl)
theorem dX4_wouldArrive_11 : decode cX4_wouldArrive 11 = .ok (.ireturn, 1) := dk_172 (dk_at dksX4_wouldArrive_0 11 rfl rfl)
theorem dX4_wouldArrive_12 : decode cX4_wouldArrive 12 = .ok (.aload_n 0, 1) := dk_42 (dk_at dksX4_wouldArrive_0 12 rfl rfl)
theorem dX4_wouldArrive_13 : decode cX4_wouldArrive 13 = .ok (.invokevirtual 220, 3) := dk_182 0 220 (dk_at dksX4_wouldArrive_0 13 rfl rfl)
theorem dX4_wouldArrive_16 : decode cX4_wouldArrive 16 = .ok (.aload_n 0, 1) := dk_42 (dk_at dksX4_wouldArrive_0 16 rfl rfl)
theorem dX4_wouldArrive_17 : decode cX4_wouldArrive 17 = .ok (.iload_n 1, 1) := dk_27 (dk_at dksX4_wouldArrive_0 17 rfl rfl)
theorem dX4_wouldArrive_18 : decode cX4_wouldArrive 18 = .ok (.iload_n 2, 1) := dk_28 (dk_at dksX4_wouldArrive_0 18 rfl rfl)
theorem dX4_wouldArrive_19 : decode cX4_wouldArrive 19 = .ok (.iload_n 3, 1) := dk_29 (dk_at dksX4_wouldArrive_0 19 rfl rfl)
theorem dX4_wouldArrive_20 : decode cX4_wouldArrive 20 = .ok (.invokevirtual 229, 3) := dk_182 0 229 (dk_at dksX4_wouldArrive_0 20 rfl rfl)
theorem dX4_wouldArrive_23 : decode cX4_wouldArrive 23 = .ok (.istore 4, 2) := dk_54 4 (dk_at dksX4_wouldArrive_1 0 rfl rfl)
theorem dX4_wouldArrive_25 : decode cX4_wouldArrive 25 = .ok (.aload_n 0, 1) := dk_42 (dk_at dksX4_wouldArrive_1 2 rfl rfl)
theorem dX4_wouldArrive_26 : decode cX4_wouldArrive 26 = .ok (.invokevirtual 226, 3) := dk_182 0 226 (dk_at dksX4_wouldArrive_1 3 rfl rfl)
theorem dX4_wouldArrive_29 : decode cX4_wouldArrive 29 = .ok (.iload 4, 2) := dk_21 4 (dk_at dksX4_wouldArrive_1 6 rfl rfl)
theorem dX4_wouldArrive_31 : decode cX4_wouldArrive 31 = .ok (.ireturn, 1) := dk_172 (dk_at dksX4_wouldArrive_1 8 rfl rfl)
abbrev cX4_arrivalOf : ByteArray := prog_24_method_62_code
def yX4_arrivalOf : MethodName := ⟨RX4, "arrivalOf", "(III)I"⟩
def dkwX4_arrivalOf_2 : List UInt8 := [172]
abbrev dktX4_arrivalOf_2 : List UInt8 := dkwX4_arrivalOf_2 ++ []
def dkwX4_arrivalOf_1 : List UInt8 := [42, 21, 4, 6, 182, 0, 130, 154, 0, 10, 42, 182, 0, 223, 167, 255, 242, 42, 21, 4, 8, 182, 0, 130]
abbrev dktX4_arrivalOf_1 : List UInt8 := dkwX4_arrivalOf_1 ++ dktX4_arrivalOf_2
def dkwX4_arrivalOf_0 : List UInt8 := [42, 180, 0, 9, 7, 46, 54, 4, 21, 4, 16, 40, 160, 0, 5, 2, 172, 42, 27, 28, 29, 182, 0, 167]
abbrev dktX4_arrivalOf_0 : List UInt8 := dkwX4_arrivalOf_0 ++ dktX4_arrivalOf_1
theorem dksX4_arrivalOf_0 : cX4_arrivalOf.data.toList.drop 0 = dktX4_arrivalOf_0 := by decide +kernel
theorem dksX4_arrivalOf_1 : cX4_arrivalOf.data.toList.drop 24 = dktX4_arrivalOf_1 := dk_seg dksX4_arrivalOf_0 24 rfl rfl
theorem dksX4_arrivalOf_2 : cX4_arrivalOf.data.toList.drop 48 = dktX4_arrivalOf_2 := dk_seg dksX4_arrivalOf_1 24 rfl rfl
theorem dX4_arrivalOf_0 : decode cX4_arrivalOf 0 = .ok (.aload_n 0, 1) := dk_42 (dk_at dksX4_arrivalOf_0 0 rfl rfl)
theorem dX4_arrivalOf_1 : decode cX4_arrivalOf 1 = .ok (.getfield 9, 3) := dk_180 0 9 (dk_at dksX4_arrivalOf_0 1 rfl rfl)
theorem dX4_arrivalOf_4 : decode cX4_arrivalOf 4 = .ok (.iconst 4, 1) := dk_7 (dk_at dksX4_arrivalOf_0 4 rfl rfl)
theorem dX4_arrivalOf_5 : decode cX4_arrivalOf 5 = .ok (.iaload, 1) := dk_46 (dk_at dksX4_arrivalOf_0 5 rfl rfl)
theorem dX4_arrivalOf_6 : decode cX4_arrivalOf 6 = .ok (.istore 4, 2) := dk_54 4 (dk_at dksX4_arrivalOf_0 6 rfl rfl)
theorem dX4_arrivalOf_8 : decode cX4_arrivalOf 8 = .ok (.iload 4, 2) := dk_21 4 (dk_at dksX4_arrivalOf_0 8 rfl rfl)
theorem dX4_arrivalOf_10 : decode cX4_arrivalOf 10 = .ok (.bipush 40, 2) := dk_16 40 (dk_at dksX4_arrivalOf_0 10 rfl rfl)
theorem dX4_arrivalOf_12 : decode cX4_arrivalOf 12 = .ok (.if_icmp .ne 5, 3) := dk_160 0 5 (dk_at dksX4_arrivalOf_0 12 rfl rfl)
theorem dX4_arrivalOf_15 : decode cX4_arrivalOf 15 = .ok (.iconst (-1), 1) := dk_2 (dk_at dksX4_arrivalOf_0 15 rfl rfl)
theorem dX4_arrivalOf_16 : decode cX4_arrivalOf 16 = .ok (.ireturn, 1) := dk_172 (dk_at dksX4_arrivalOf_0 16 rfl rfl)
theorem dX4_arrivalOf_17 : decode cX4_arrivalOf 17 = .ok (.aload_n 0, 1) := dk_42 (dk_at dksX4_arrivalOf_0 17 rfl rfl)
theorem dX4_arrivalOf_18 : decode cX4_arrivalOf 18 = .ok (.iload_n 1, 1) := dk_27 (dk_at dksX4_arrivalOf_0 18 rfl rfl)
theorem dX4_arrivalOf_19 : decode cX4_arrivalOf 19 = .ok (.iload_n 2, 1) := dk_28 (dk_at dksX4_arrivalOf_0 19 rfl rfl)
theorem dX4_arrivalOf_20 : decode cX4_arrivalOf 20 = .ok (.iload_n 3, 1) := dk_29 (dk_at dksX4_arrivalOf_0 20 rfl rfl)
theorem dX4_arrivalOf_21 : decode cX4_arrivalOf 21 = .ok (.invokevirtual 167, 3) := dk_182 0 167 (dk_at dksX4_arrivalOf_0 21 rfl rfl)
theorem dX4_arrivalOf_24 : decode cX4_arrivalOf 24 = .ok (.aload_n 0, 1) := dk_42 (dk_at dksX4_arrivalOf_1 0 rfl rfl)
theorem dX4_arrivalOf_25 : decode cX4_arrivalOf 25 = .ok (.iload 4, 2) := dk_21 4 (dk_at dksX4_arrivalOf_1 1 rfl rfl)
theorem dX4_arrivalOf_27 : decode cX4_arrivalOf 27 = .ok (.iconst 3, 1) := dk_6 (dk_at dksX4_arrivalOf_1 3 rfl rfl)
theorem dX4_arrivalOf_28 : decode cX4_arrivalOf 28 = .ok (.invokevirtual 130, 3) := dk_182 0 130 (dk_at dksX4_arrivalOf_1 4 rfl rfl)
theorem dX4_arrivalOf_31 : decode cX4_arrivalOf 31 = .ok (.ifCond .ne 10, 3) := dk_154 0 10 (dk_at dksX4_arrivalOf_1 7 rfl rfl)
theorem dX4_arrivalOf_34 : decode cX4_arrivalOf 34 = .ok (.aload_n 0, 1) := dk_42 (dk_at dksX4_arrivalOf_1 10 rfl rfl)
theorem dX4_arrivalOf_35 : decode cX4_arrivalOf 35 = .ok (.invokevirtual 223, 3) := dk_182 0 223 (dk_at dksX4_arrivalOf_1 11 rfl rfl)
theorem dX4_arrivalOf_38 : decode cX4_arrivalOf 38 = .ok (.goto (-14), 3) := dk_167 255 242 (dk_at dksX4_arrivalOf_1 14 rfl rfl)
theorem dX4_arrivalOf_41 : decode cX4_arrivalOf 41 = .ok (.aload_n 0, 1) := dk_42 (dk_at dksX4_arrivalOf_1 17 rfl rfl)
theorem dX4_arrivalOf_42 : decode cX4_arrivalOf 42 = .ok (.iload 4, 2) := dk_21 4 (dk_at dksX4_arrivalOf_1 18 rfl rfl)
theorem dX4_arrivalOf_44 : decode cX4_arrivalOf 44 = .ok (.iconst 5, 1) := dk_8 (dk_at dksX4_arrivalOf_1 20 rfl rfl)
theorem dX4_arrivalOf_45 : decode cX4_arrivalOf 45 = .ok (.invokevirtual 130, 3) := dk_182 0 130 (dk_at dksX4_arrivalOf_1 21 rfl rfl)
theorem dX4_arrivalOf_48 : decode cX4_arrivalOf 48 = .ok (.ireturn, 1) := dk_172 (dk_at dksX4_arrivalOf_2 0 rfl rfl)
abbrev cX4_bestDelay : ByteArray := prog_24_method_64_code
def yX4_bestDelay : MethodName := ⟨RX4, "bestDelay", "(III)I"⟩
def dkwX4_bestDelay_3 : List UInt8 := [167, 255, 200, 2, 172]
abbrev dktX4_bestDelay_3 : List UInt8 := dkwX4_bestDelay_3 ++ []
def dkwX4_bestDelay_2 : List UInt8 := [27, 28, 29, 182, 0, 229, 54, 5, 42, 182, 0, 226, 21, 5, 2, 159, 0, 6, 21, 4, 172, 132, 4, 1]
abbrev dktX4_bestDelay_2 : List UInt8 := dkwX4_bestDelay_2 ++ dktX4_bestDelay_3
def dkwX4_bestDelay_1 : List UInt8 := [182, 0, 220, 3, 54, 5, 21, 5, 21, 4, 162, 0, 13, 42, 182, 0, 223, 132, 5, 1, 167, 255, 242, 42]
abbrev dktX4_bestDelay_1 : List UInt8 := dkwX4_bestDelay_1 ++ dktX4_bestDelay_2
def dkwX4_bestDelay_0 : List UInt8 := [42, 27, 28, 29, 182, 0, 217, 154, 0, 5, 3, 172, 3, 54, 4, 21, 4, 16, 15, 163, 0, 55, 42]
abbrev dktX4_bestDelay_0 : List UInt8 := dkwX4_bestDelay_0 ++ dktX4_bestDelay_1
theorem dksX4_bestDelay_0 : cX4_bestDelay.data.toList.drop 0 = dktX4_bestDelay_0 := by decide +kernel
theorem dksX4_bestDelay_1 : cX4_bestDelay.data.toList.drop 23 = dktX4_bestDelay_1 := dk_seg dksX4_bestDelay_0 23 rfl rfl
theorem dksX4_bestDelay_2 : cX4_bestDelay.data.toList.drop 47 = dktX4_bestDelay_2 := dk_seg dksX4_bestDelay_1 24 rfl rfl
theorem dksX4_bestDelay_3 : cX4_bestDelay.data.toList.drop 71 = dktX4_bestDelay_3 := dk_seg dksX4_bestDelay_2 24 rfl rfl
theorem dX4_bestDelay_0 : decode cX4_bestDelay 0 = .ok (.aload_n 0, 1) := dk_42 (dk_at dksX4_bestDelay_0 0 rfl rfl)
theorem dX4_bestDelay_1 : decode cX4_bestDelay 1 = .ok (.iload_n 1, 1) := dk_27 (dk_at dksX4_bestDelay_0 1 rfl rfl)
theorem dX4_bestDelay_2 : decode cX4_bestDelay 2 = .ok (.iload_n 2, 1) := dk_28 (dk_at dksX4_bestDelay_0 2 rfl rfl)
theorem dX4_bestDelay_3 : decode cX4_bestDelay 3 = .ok (.iload_n 3, 1) := dk_29 (dk_at dksX4_bestDelay_0 3 rfl rfl)
theorem dX4_bestDelay_4 : decode cX4_bestDelay 4 = .ok (.invokevirtual 217, 3) := dk_182 0 217 (dk_at dksX4_bestDelay_0 4 rfl rfl)
theorem dX4_bestDelay_7 : decode cX4_bestDelay 7 = .ok (.ifCond .ne 5, 3) := dk_154 0 5 (dk_at dksX4_bestDelay_0 7 rfl rfl)
theorem dX4_bestDelay_10 : decode cX4_bestDelay 10 = .ok (.iconst 0, 1) := dk_3 (dk_at dksX4_bestDelay_0 10 rfl rfl)
theorem dX4_bestDelay_11 : decode cX4_bestDelay 11 = .ok (.ireturn, 1) := dk_172 (dk_at dksX4_bestDelay_0 11 rfl rfl)
theorem dX4_bestDelay_12 : decode cX4_bestDelay 12 = .ok (.iconst 0, 1) := dk_3 (dk_at dksX4_bestDelay_0 12 rfl rfl)
theorem dX4_bestDelay_13 : decode cX4_bestDelay 13 = .ok (.istore 4, 2) := dk_54 4 (dk_at dksX4_bestDelay_0 13 rfl rfl)
theorem dX4_bestDelay_15 : decode cX4_bestDelay 15 = .ok (.iload 4, 2) := dk_21 4 (dk_at dksX4_bestDelay_0 15 rfl rfl)
theorem dX4_bestDelay_17 : decode cX4_bestDelay 17 = .ok (.bipush 15, 2) := dk_16 15 (dk_at dksX4_bestDelay_0 17 rfl rfl)
theorem dX4_bestDelay_19 : decode cX4_bestDelay 19 = .ok (.if_icmp .gt 55, 3) := dk_163 0 55 (dk_at dksX4_bestDelay_0 19 rfl rfl)
theorem dX4_bestDelay_22 : decode cX4_bestDelay 22 = .ok (.aload_n 0, 1) := dk_42 (dk_at dksX4_bestDelay_0 22 rfl rfl)
theorem dX4_bestDelay_23 : decode cX4_bestDelay 23 = .ok (.invokevirtual 220, 3) := dk_182 0 220 (dk_at dksX4_bestDelay_1 0 rfl rfl)
theorem dX4_bestDelay_26 : decode cX4_bestDelay 26 = .ok (.iconst 0, 1) := dk_3 (dk_at dksX4_bestDelay_1 3 rfl rfl)
theorem dX4_bestDelay_27 : decode cX4_bestDelay 27 = .ok (.istore 5, 2) := dk_54 5 (dk_at dksX4_bestDelay_1 4 rfl rfl)
theorem dX4_bestDelay_29 : decode cX4_bestDelay 29 = .ok (.iload 5, 2) := dk_21 5 (dk_at dksX4_bestDelay_1 6 rfl rfl)
theorem dX4_bestDelay_31 : decode cX4_bestDelay 31 = .ok (.iload 4, 2) := dk_21 4 (dk_at dksX4_bestDelay_1 8 rfl rfl)
theorem dX4_bestDelay_33 : decode cX4_bestDelay 33 = .ok (.if_icmp .ge 13, 3) := dk_162 0 13 (dk_at dksX4_bestDelay_1 10 rfl rfl)
theorem dX4_bestDelay_36 : decode cX4_bestDelay 36 = .ok (.aload_n 0, 1) := dk_42 (dk_at dksX4_bestDelay_1 13 rfl rfl)
theorem dX4_bestDelay_37 : decode cX4_bestDelay 37 = .ok (.invokevirtual 223, 3) := dk_182 0 223 (dk_at dksX4_bestDelay_1 14 rfl rfl)
theorem dX4_bestDelay_40 : decode cX4_bestDelay 40 = .ok (.iinc 5 1, 3) := dk_132 5 1 (dk_at dksX4_bestDelay_1 17 rfl rfl)
theorem dX4_bestDelay_43 : decode cX4_bestDelay 43 = .ok (.goto (-14), 3) := dk_167 255 242 (dk_at dksX4_bestDelay_1 20 rfl rfl)
theorem dX4_bestDelay_46 : decode cX4_bestDelay 46 = .ok (.aload_n 0, 1) := dk_42 (dk_at dksX4_bestDelay_1 23 rfl rfl)
theorem dX4_bestDelay_47 : decode cX4_bestDelay 47 = .ok (.iload_n 1, 1) := dk_27 (dk_at dksX4_bestDelay_2 0 rfl rfl)
theorem dX4_bestDelay_48 : decode cX4_bestDelay 48 = .ok (.iload_n 2, 1) := dk_28 (dk_at dksX4_bestDelay_2 1 rfl rfl)
theorem dX4_bestDelay_49 : decode cX4_bestDelay 49 = .ok (.iload_n 3, 1) := dk_29 (dk_at dksX4_bestDelay_2 2 rfl rfl)
theorem dX4_bestDelay_50 : decode cX4_bestDelay 50 = .ok (.invokevirtual 229, 3) := dk_182 0 229 (dk_at dksX4_bestDelay_2 3 rfl rfl)
theorem dX4_bestDelay_53 : decode cX4_bestDelay 53 = .ok (.istore 5, 2) := dk_54 5 (dk_at dksX4_bestDelay_2 6 rfl rfl)
theorem dX4_bestDelay_55 : decode cX4_bestDelay 55 = .ok (.aload_n 0, 1) := dk_42 (dk_at dksX4_bestDelay_2 8 rfl rfl)
theorem dX4_bestDelay_56 : decode cX4_bestDelay 56 = .ok (.invokevirtual 226, 3) := dk_182 0 226 (dk_at dksX4_bestDelay_2 9 rfl rfl)
theorem dX4_bestDelay_59 : decode cX4_bestDelay 59 = .ok (.iload 5, 2) := dk_21 5 (dk_at dksX4_bestDelay_2 12 rfl rfl)
theorem dX4_bestDelay_61 : decode cX4_bestDelay 61 = .ok (.iconst (-1), 1) := dk_2 (dk_at dksX4_bestDelay_2 14 rfl rfl)
theorem dX4_bestDelay_62 : decode cX4_bestDelay 62 = .ok (.if_icmp .eq 6, 3) := dk_159 0 6 (dk_at dksX4_bestDelay_2 15 rfl rfl)
theorem dX4_bestDelay_65 : decode cX4_bestDelay 65 = .ok (.iload 4, 2) := dk_21 4 (dk_at dksX4_bestDelay_2 18 rfl rfl)
theorem dX4_bestDelay_67 : decode cX4_bestDelay 67 = .ok (.ireturn, 1) := dk_172 (dk_at dksX4_bestDelay_2 20 rfl rfl)
theorem dX4_bestDelay_68 : decode cX4_bestDelay 68 = .ok (.iinc 4 1, 3) := dk_132 4 1 (dk_at dksX4_bestDelay_2 21 rfl rfl)
theorem dX4_bestDelay_71 : decode cX4_bestDelay 71 = .ok (.goto (-56), 3) := dk_167 255 200 (dk_at dksX4_bestDelay_3 0 rfl rfl)
theorem dX4_bestDelay_74 : decode cX4_bestDelay 74 = .ok (.iconst (-1), 1) := dk_2 (dk_at dksX4_bestDelay_3 3 rfl rfl)
theorem dX4_bestDelay_75 : decode cX4_bestDelay 75 = .ok (.ireturn, 1) := dk_172 (dk_at dksX4_bestDelay_3 4 rfl rfl)
abbrev cX4_failing : ByteArray := prog_24_method_65_code
def yX4_failing : MethodName := ⟨RX4, "failing", "(I)I"⟩
def dkwX4_failing_4 : List UInt8 := [8, 160, 0, 7, 4, 167, 0, 4, 3, 96, 61, 132, 3, 1, 167, 255, 202, 42, 182, 0, 226, 28, 172]
abbrev dktX4_failing_4 : List UInt8 := dkwX4_failing_4 ++ []
def dkwX4_failing_3 : List UInt8 := [54, 4, 28, 42, 180, 0, 16, 29, 6, 184, 0, 87, 46, 154, 0, 19, 21, 4, 7, 159, 0, 9, 21, 4]
abbrev dktX4_failing_3 : List UInt8 := dkwX4_failing_3 ++ dktX4_failing_4
def dkwX4_failing_2 : List UInt8 := [167, 255, 244, 3, 61, 3, 62, 29, 42, 180, 0, 16, 7, 46, 162, 0, 50, 42, 29, 6, 182, 0, 130]
abbrev dktX4_failing_2 : List UInt8 := dkwX4_failing_2 ++ dktX4_failing_3
def dkwX4_failing_1 : List UInt8 := [153, 0, 5, 3, 172, 42, 182, 0, 220, 3, 61, 28, 27, 162, 0, 13, 42, 182, 0, 223, 132, 2, 1]
abbrev dktX4_failing_1 : List UInt8 := dkwX4_failing_1 ++ dktX4_failing_2
def dkwX4_failing_0 : List UInt8 := [42, 27, 3, 16, 60, 184, 0, 90, 153, 0, 7, 3, 167, 0, 4, 4, 181, 0, 77, 42, 180, 0, 77]
abbrev dktX4_failing_0 : List UInt8 := dkwX4_failing_0 ++ dktX4_failing_1
theorem dksX4_failing_0 : cX4_failing.data.toList.drop 0 = dktX4_failing_0 := by decide +kernel
theorem dksX4_failing_1 : cX4_failing.data.toList.drop 23 = dktX4_failing_1 := dk_seg dksX4_failing_0 23 rfl rfl
theorem dksX4_failing_2 : cX4_failing.data.toList.drop 46 = dktX4_failing_2 := dk_seg dksX4_failing_1 23 rfl rfl
theorem dksX4_failing_3 : cX4_failing.data.toList.drop 69 = dktX4_failing_3 := dk_seg dksX4_failing_2 23 rfl rfl
theorem dksX4_failing_4 : cX4_failing.data.toList.drop 93 = dktX4_failing_4 := dk_seg dksX4_failing_3 24 rfl rfl
theorem dX4_failing_0 : decode cX4_failing 0 = .ok (.aload_n 0, 1) := dk_42 (dk_at dksX4_failing_0 0 rfl rfl)
theorem dX4_failing_1 : decode cX4_failing 1 = .ok (.iload_n 1, 1) := dk_27 (dk_at dksX4_failing_0 1 rfl rfl)
theorem dX4_failing_2 : decode cX4_failing 2 = .ok (.iconst 0, 1) := dk_3 (dk_at dksX4_failing_0 2 rfl rfl)
theorem dX4_failing_3 : decode cX4_failing 3 = .ok (.bipush 60, 2) := dk_16 60 (dk_at dksX4_failing_0 3 rfl rfl)
theorem dX4_failing_5 : decode cX4_failing 5 = .ok (.invokestatic 90, 3) := dk_184 0 90 (dk_at dksX4_failing_0 5 rfl rfl)
theorem dX4_failing_8 : decode cX4_failing 8 = .ok (.ifCond .eq 7, 3) := dk_153 0 7 (dk_at dksX4_failing_0 8 rfl rfl)
theorem dX4_failing_11 : decode cX4_failing 11 = .ok (.iconst 0, 1) := dk_3 (dk_at dksX4_failing_0 11 rfl rfl)
theorem dX4_failing_12 : decode cX4_failing 12 = .ok (.goto 4, 3) := dk_167 0 4 (dk_at dksX4_failing_0 12 rfl rfl)
theorem dX4_failing_15 : decode cX4_failing 15 = .ok (.iconst 1, 1) := dk_4 (dk_at dksX4_failing_0 15 rfl rfl)
theorem dX4_failing_16 : decode cX4_failing 16 = .ok (.putfield 77, 3) := dk_181 0 77 (dk_at dksX4_failing_0 16 rfl rfl)
theorem dX4_failing_19 : decode cX4_failing 19 = .ok (.aload_n 0, 1) := dk_42 (dk_at dksX4_failing_0 19 rfl rfl)
theorem dX4_failing_20 : decode cX4_failing 20 = .ok (.getfield 77, 3) := dk_180 0 77 (dk_at dksX4_failing_0 20 rfl rfl)
theorem dX4_failing_23 : decode cX4_failing 23 = .ok (.ifCond .eq 5, 3) := dk_153 0 5 (dk_at dksX4_failing_1 0 rfl rfl)
theorem dX4_failing_26 : decode cX4_failing 26 = .ok (.iconst 0, 1) := dk_3 (dk_at dksX4_failing_1 3 rfl rfl)
theorem dX4_failing_27 : decode cX4_failing 27 = .ok (.ireturn, 1) := dk_172 (dk_at dksX4_failing_1 4 rfl rfl)
theorem dX4_failing_28 : decode cX4_failing 28 = .ok (.aload_n 0, 1) := dk_42 (dk_at dksX4_failing_1 5 rfl rfl)
theorem dX4_failing_29 : decode cX4_failing 29 = .ok (.invokevirtual 220, 3) := dk_182 0 220 (dk_at dksX4_failing_1 6 rfl rfl)
theorem dX4_failing_32 : decode cX4_failing 32 = .ok (.iconst 0, 1) := dk_3 (dk_at dksX4_failing_1 9 rfl rfl)
theorem dX4_failing_33 : decode cX4_failing 33 = .ok (.istore_n 2, 1) := dk_61 (dk_at dksX4_failing_1 10 rfl rfl)
theorem dX4_failing_34 : decode cX4_failing 34 = .ok (.iload_n 2, 1) := dk_28 (dk_at dksX4_failing_1 11 rfl rfl)
theorem dX4_failing_35 : decode cX4_failing 35 = .ok (.iload_n 1, 1) := dk_27 (dk_at dksX4_failing_1 12 rfl rfl)
theorem dX4_failing_36 : decode cX4_failing 36 = .ok (.if_icmp .ge 13, 3) := dk_162 0 13 (dk_at dksX4_failing_1 13 rfl rfl)
theorem dX4_failing_39 : decode cX4_failing 39 = .ok (.aload_n 0, 1) := dk_42 (dk_at dksX4_failing_1 16 rfl rfl)
theorem dX4_failing_40 : decode cX4_failing 40 = .ok (.invokevirtual 223, 3) := dk_182 0 223 (dk_at dksX4_failing_1 17 rfl rfl)
theorem dX4_failing_43 : decode cX4_failing 43 = .ok (.iinc 2 1, 3) := dk_132 2 1 (dk_at dksX4_failing_1 20 rfl rfl)
theorem dX4_failing_46 : decode cX4_failing 46 = .ok (.goto (-12), 3) := dk_167 255 244 (dk_at dksX4_failing_2 0 rfl rfl)
theorem dX4_failing_49 : decode cX4_failing 49 = .ok (.iconst 0, 1) := dk_3 (dk_at dksX4_failing_2 3 rfl rfl)
theorem dX4_failing_50 : decode cX4_failing 50 = .ok (.istore_n 2, 1) := dk_61 (dk_at dksX4_failing_2 4 rfl rfl)
theorem dX4_failing_51 : decode cX4_failing 51 = .ok (.iconst 0, 1) := dk_3 (dk_at dksX4_failing_2 5 rfl rfl)
theorem dX4_failing_52 : decode cX4_failing 52 = .ok (.istore_n 3, 1) := dk_62 (dk_at dksX4_failing_2 6 rfl rfl)
theorem dX4_failing_53 : decode cX4_failing 53 = .ok (.iload_n 3, 1) := dk_29 (dk_at dksX4_failing_2 7 rfl rfl)
theorem dX4_failing_54 : decode cX4_failing 54 = .ok (.aload_n 0, 1) := dk_42 (dk_at dksX4_failing_2 8 rfl rfl)
theorem dX4_failing_55 : decode cX4_failing 55 = .ok (.getfield 16, 3) := dk_180 0 16 (dk_at dksX4_failing_2 9 rfl rfl)
theorem dX4_failing_58 : decode cX4_failing 58 = .ok (.iconst 4, 1) := dk_7 (dk_at dksX4_failing_2 12 rfl rfl)
theorem dX4_failing_59 : decode cX4_failing 59 = .ok (.iaload, 1) := dk_46 (dk_at dksX4_failing_2 13 rfl rfl)
theorem dX4_failing_60 : decode cX4_failing 60 = .ok (.if_icmp .ge 50, 3) := dk_162 0 50 (dk_at dksX4_failing_2 14 rfl rfl)
theorem dX4_failing_63 : decode cX4_failing 63 = .ok (.aload_n 0, 1) := dk_42 (dk_at dksX4_failing_2 17 rfl rfl)
theorem dX4_failing_64 : decode cX4_failing 64 = .ok (.iload_n 3, 1) := dk_29 (dk_at dksX4_failing_2 18 rfl rfl)
theorem dX4_failing_65 : decode cX4_failing 65 = .ok (.iconst 3, 1) := dk_6 (dk_at dksX4_failing_2 19 rfl rfl)
theorem dX4_failing_66 : decode cX4_failing 66 = .ok (.invokevirtual 130, 3) := dk_182 0 130 (dk_at dksX4_failing_2 20 rfl rfl)
theorem dX4_failing_69 : decode cX4_failing 69 = .ok (.istore 4, 2) := dk_54 4 (dk_at dksX4_failing_3 0 rfl rfl)
theorem dX4_failing_71 : decode cX4_failing 71 = .ok (.iload_n 2, 1) := dk_28 (dk_at dksX4_failing_3 2 rfl rfl)
theorem dX4_failing_72 : decode cX4_failing 72 = .ok (.aload_n 0, 1) := dk_42 (dk_at dksX4_failing_3 3 rfl rfl)
theorem dX4_failing_73 : decode cX4_failing 73 = .ok (.getfield 16, 3) := dk_180 0 16 (dk_at dksX4_failing_3 4 rfl rfl)
theorem dX4_failing_76 : decode cX4_failing 76 = .ok (.iload_n 3, 1) := dk_29 (dk_at dksX4_failing_3 7 rfl rfl)
theorem dX4_failing_77 : decode cX4_failing 77 = .ok (.iconst 3, 1) := dk_6 (dk_at dksX4_failing_3 8 rfl rfl)
theorem dX4_failing_78 : decode cX4_failing 78 = .ok (.invokestatic 87, 3) := dk_184 0 87 (dk_at dksX4_failing_3 9 rfl rfl)
theorem dX4_failing_81 : decode cX4_failing 81 = .ok (.iaload, 1) := dk_46 (dk_at dksX4_failing_3 12 rfl rfl)
theorem dX4_failing_82 : decode cX4_failing 82 = .ok (.ifCond .ne 19, 3) := dk_154 0 19 (dk_at dksX4_failing_3 13 rfl rfl)
theorem dX4_failing_85 : decode cX4_failing 85 = .ok (.iload 4, 2) := dk_21 4 (dk_at dksX4_failing_3 16 rfl rfl)
theorem dX4_failing_87 : decode cX4_failing 87 = .ok (.iconst 4, 1) := dk_7 (dk_at dksX4_failing_3 18 rfl rfl)
theorem dX4_failing_88 : decode cX4_failing 88 = .ok (.if_icmp .eq 9, 3) := dk_159 0 9 (dk_at dksX4_failing_3 19 rfl rfl)
theorem dX4_failing_91 : decode cX4_failing 91 = .ok (.iload 4, 2) := dk_21 4 (dk_at dksX4_failing_3 22 rfl rfl)
theorem dX4_failing_93 : decode cX4_failing 93 = .ok (.iconst 5, 1) := dk_8 (dk_at dksX4_failing_4 0 rfl rfl)
theorem dX4_failing_94 : decode cX4_failing 94 = .ok (.if_icmp .ne 7, 3) := dk_160 0 7 (dk_at dksX4_failing_4 1 rfl rfl)
theorem dX4_failing_97 : decode cX4_failing 97 = .ok (.iconst 1, 1) := dk_4 (dk_at dksX4_failing_4 4 rfl rfl)
theorem dX4_failing_98 : decode cX4_failing 98 = .ok (.goto 4, 3) := dk_167 0 4 (dk_at dksX4_failing_4 5 rfl rfl)
theorem dX4_failing_101 : decode cX4_failing 101 = .ok (.iconst 0, 1) := dk_3 (dk_at dksX4_failing_4 8 rfl rfl)
theorem dX4_failing_102 : decode cX4_failing 102 = .ok (.iadd, 1) := dk_96 (dk_at dksX4_failing_4 9 rfl rfl)
theorem dX4_failing_103 : decode cX4_failing 103 = .ok (.istore_n 2, 1) := dk_61 (dk_at dksX4_failing_4 10 rfl rfl)
theorem dX4_failing_104 : decode cX4_failing 104 = .ok (.iinc 3 1, 3) := dk_132 3 1 (dk_at dksX4_failing_4 11 rfl rfl)
theorem dX4_failing_107 : decode cX4_failing 107 = .ok (.goto (-54), 3) := dk_167 255 202 (dk_at dksX4_failing_4 14 rfl rfl)
theorem dX4_failing_110 : decode cX4_failing 110 = .ok (.aload_n 0, 1) := dk_42 (dk_at dksX4_failing_4 17 rfl rfl)
theorem dX4_failing_111 : decode cX4_failing 111 = .ok (.invokevirtual 226, 3) := dk_182 0 226 (dk_at dksX4_failing_4 18 rfl rfl)
theorem dX4_failing_114 : decode cX4_failing 114 = .ok (.iload_n 2, 1) := dk_28 (dk_at dksX4_failing_4 21 rfl rfl)
theorem dX4_failing_115 : decode cX4_failing 115 = .ok (.ireturn, 1) := dk_172 (dk_at dksX4_failing_4 22 rfl rfl)
abbrev cX4_meanDelay : ByteArray := prog_24_method_66_code
def yX4_meanDelay : MethodName := ⟨RX4, "meanDelay", "()D"⟩
def dkwX4_meanDelay_4 : List UInt8 := [111, 175]
abbrev dktX4_meanDelay_4 : List UInt8 := dkwX4_meanDelay_4 ++ []
def dkwX4_meanDelay_3 : List UInt8 := [167, 0, 4, 3, 96, 61, 132, 3, 1, 167, 255, 188, 28, 154, 0, 7, 14, 167, 0, 8, 27, 135, 28, 135]
abbrev dktX4_meanDelay_3 : List UInt8 := dkwX4_meanDelay_3 ++ dktX4_meanDelay_4
def dkwX4_meanDelay_2 : List UInt8 := [182, 0, 130, 42, 29, 7, 182, 0, 130, 100, 167, 0, 4, 3, 96, 60, 28, 21, 4, 153, 0, 7, 4]
abbrev dktX4_meanDelay_2 : List UInt8 := dkwX4_meanDelay_2 ++ dktX4_meanDelay_3
def dkwX4_meanDelay_1 : List UInt8 := [182, 0, 130, 2, 159, 0, 7, 4, 167, 0, 4, 3, 54, 4, 27, 21, 4, 153, 0, 19, 42, 29, 8]
abbrev dktX4_meanDelay_1 : List UInt8 := dkwX4_meanDelay_1 ++ dktX4_meanDelay_2
def dkwX4_meanDelay_0 : List UInt8 := [42, 3, 181, 0, 77, 3, 60, 3, 61, 3, 62, 29, 42, 180, 0, 9, 7, 46, 162, 0, 64, 42, 29, 8]
abbrev dktX4_meanDelay_0 : List UInt8 := dkwX4_meanDelay_0 ++ dktX4_meanDelay_1
theorem dksX4_meanDelay_0 : cX4_meanDelay.data.toList.drop 0 = dktX4_meanDelay_0 := by decide +kernel
theorem dksX4_meanDelay_1 : cX4_meanDelay.data.toList.drop 24 = dktX4_meanDelay_1 := dk_seg dksX4_meanDelay_0 24 rfl rfl
theorem dksX4_meanDelay_2 : cX4_meanDelay.data.toList.drop 47 = dktX4_meanDelay_2 := dk_seg dksX4_meanDelay_1 23 rfl rfl
theorem dksX4_meanDelay_3 : cX4_meanDelay.data.toList.drop 70 = dktX4_meanDelay_3 := dk_seg dksX4_meanDelay_2 23 rfl rfl
theorem dksX4_meanDelay_4 : cX4_meanDelay.data.toList.drop 94 = dktX4_meanDelay_4 := dk_seg dksX4_meanDelay_3 24 rfl rfl
theorem dX4_meanDelay_0 : decode cX4_meanDelay 0 = .ok (.aload_n 0, 1) := dk_42 (dk_at dksX4_meanDelay_0 0 rfl rfl)
theorem dX4_meanDelay_1 : decode cX4_meanDelay 1 = .ok (.iconst 0, 1) := dk_3 (dk_at dksX4_meanDelay_0 1 rfl rfl)
theorem dX4_meanDelay_2 : decode cX4_meanDelay 2 = .ok (.putfield 77, 3) := dk_181 0 77 (dk_at dksX4_meanDelay_0 2 rfl rfl)
theorem dX4_meanDelay_5 : decode cX4_meanDelay 5 = .ok (.iconst 0, 1) := dk_3 (dk_at dksX4_meanDelay_0 5 rfl rfl)
theorem dX4_meanDelay_6 : decode cX4_meanDelay 6 = .ok (.istore_n 1, 1) := dk_60 (dk_at dksX4_meanDelay_0 6 rfl rfl)
theorem dX4_meanDelay_7 : decode cX4_meanDelay 7 = .ok (.iconst 0, 1) := dk_3 (dk_at dksX4_meanDelay_0 7 rfl rfl)
theorem dX4_meanDelay_8 : decode cX4_meanDelay 8 = .ok (.istore_n 2, 1) := dk_61 (dk_at dksX4_meanDelay_0 8 rfl rfl)
theorem dX4_meanDelay_9 : decode cX4_meanDelay 9 = .ok (.iconst 0, 1) := dk_3 (dk_at dksX4_meanDelay_0 9 rfl rfl)
theorem dX4_meanDelay_10 : decode cX4_meanDelay 10 = .ok (.istore_n 3, 1) := dk_62 (dk_at dksX4_meanDelay_0 10 rfl rfl)
theorem dX4_meanDelay_11 : decode cX4_meanDelay 11 = .ok (.iload_n 3, 1) := dk_29 (dk_at dksX4_meanDelay_0 11 rfl rfl)
theorem dX4_meanDelay_12 : decode cX4_meanDelay 12 = .ok (.aload_n 0, 1) := dk_42 (dk_at dksX4_meanDelay_0 12 rfl rfl)
theorem dX4_meanDelay_13 : decode cX4_meanDelay 13 = .ok (.getfield 9, 3) := dk_180 0 9 (dk_at dksX4_meanDelay_0 13 rfl rfl)
theorem dX4_meanDelay_16 : decode cX4_meanDelay 16 = .ok (.iconst 4, 1) := dk_7 (dk_at dksX4_meanDelay_0 16 rfl rfl)
theorem dX4_meanDelay_17 : decode cX4_meanDelay 17 = .ok (.iaload, 1) := dk_46 (dk_at dksX4_meanDelay_0 17 rfl rfl)
theorem dX4_meanDelay_18 : decode cX4_meanDelay 18 = .ok (.if_icmp .ge 64, 3) := dk_162 0 64 (dk_at dksX4_meanDelay_0 18 rfl rfl)
theorem dX4_meanDelay_21 : decode cX4_meanDelay 21 = .ok (.aload_n 0, 1) := dk_42 (dk_at dksX4_meanDelay_0 21 rfl rfl)
theorem dX4_meanDelay_22 : decode cX4_meanDelay 22 = .ok (.iload_n 3, 1) := dk_29 (dk_at dksX4_meanDelay_0 22 rfl rfl)
theorem dX4_meanDelay_23 : decode cX4_meanDelay 23 = .ok (.iconst 5, 1) := dk_8 (dk_at dksX4_meanDelay_0 23 rfl rfl)
theorem dX4_meanDelay_24 : decode cX4_meanDelay 24 = .ok (.invokevirtual 130, 3) := dk_182 0 130 (dk_at dksX4_meanDelay_1 0 rfl rfl)
theorem dX4_meanDelay_27 : decode cX4_meanDelay 27 = .ok (.iconst (-1), 1) := dk_2 (dk_at dksX4_meanDelay_1 3 rfl rfl)
theorem dX4_meanDelay_28 : decode cX4_meanDelay 28 = .ok (.if_icmp .eq 7, 3) := dk_159 0 7 (dk_at dksX4_meanDelay_1 4 rfl rfl)
theorem dX4_meanDelay_31 : decode cX4_meanDelay 31 = .ok (.iconst 1, 1) := dk_4 (dk_at dksX4_meanDelay_1 7 rfl rfl)
theorem dX4_meanDelay_32 : decode cX4_meanDelay 32 = .ok (.goto 4, 3) := dk_167 0 4 (dk_at dksX4_meanDelay_1 8 rfl rfl)
theorem dX4_meanDelay_35 : decode cX4_meanDelay 35 = .ok (.iconst 0, 1) := dk_3 (dk_at dksX4_meanDelay_1 11 rfl rfl)
theorem dX4_meanDelay_36 : decode cX4_meanDelay 36 = .ok (.istore 4, 2) := dk_54 4 (dk_at dksX4_meanDelay_1 12 rfl rfl)
theorem dX4_meanDelay_38 : decode cX4_meanDelay 38 = .ok (.iload_n 1, 1) := dk_27 (dk_at dksX4_meanDelay_1 14 rfl rfl)
theorem dX4_meanDelay_39 : decode cX4_meanDelay 39 = .ok (.iload 4, 2) := dk_21 4 (dk_at dksX4_meanDelay_1 15 rfl rfl)
theorem dX4_meanDelay_41 : decode cX4_meanDelay 41 = .ok (.ifCond .eq 19, 3) := dk_153 0 19 (dk_at dksX4_meanDelay_1 17 rfl rfl)
theorem dX4_meanDelay_44 : decode cX4_meanDelay 44 = .ok (.aload_n 0, 1) := dk_42 (dk_at dksX4_meanDelay_1 20 rfl rfl)
theorem dX4_meanDelay_45 : decode cX4_meanDelay 45 = .ok (.iload_n 3, 1) := dk_29 (dk_at dksX4_meanDelay_1 21 rfl rfl)
theorem dX4_meanDelay_46 : decode cX4_meanDelay 46 = .ok (.iconst 5, 1) := dk_8 (dk_at dksX4_meanDelay_1 22 rfl rfl)
theorem dX4_meanDelay_47 : decode cX4_meanDelay 47 = .ok (.invokevirtual 130, 3) := dk_182 0 130 (dk_at dksX4_meanDelay_2 0 rfl rfl)
theorem dX4_meanDelay_50 : decode cX4_meanDelay 50 = .ok (.aload_n 0, 1) := dk_42 (dk_at dksX4_meanDelay_2 3 rfl rfl)
theorem dX4_meanDelay_51 : decode cX4_meanDelay 51 = .ok (.iload_n 3, 1) := dk_29 (dk_at dksX4_meanDelay_2 4 rfl rfl)
theorem dX4_meanDelay_52 : decode cX4_meanDelay 52 = .ok (.iconst 4, 1) := dk_7 (dk_at dksX4_meanDelay_2 5 rfl rfl)
theorem dX4_meanDelay_53 : decode cX4_meanDelay 53 = .ok (.invokevirtual 130, 3) := dk_182 0 130 (dk_at dksX4_meanDelay_2 6 rfl rfl)
theorem dX4_meanDelay_56 : decode cX4_meanDelay 56 = .ok (.isub, 1) := dk_100 (dk_at dksX4_meanDelay_2 9 rfl rfl)
theorem dX4_meanDelay_57 : decode cX4_meanDelay 57 = .ok (.goto 4, 3) := dk_167 0 4 (dk_at dksX4_meanDelay_2 10 rfl rfl)
theorem dX4_meanDelay_60 : decode cX4_meanDelay 60 = .ok (.iconst 0, 1) := dk_3 (dk_at dksX4_meanDelay_2 13 rfl rfl)
theorem dX4_meanDelay_61 : decode cX4_meanDelay 61 = .ok (.iadd, 1) := dk_96 (dk_at dksX4_meanDelay_2 14 rfl rfl)
theorem dX4_meanDelay_62 : decode cX4_meanDelay 62 = .ok (.istore_n 1, 1) := dk_60 (dk_at dksX4_meanDelay_2 15 rfl rfl)
theorem dX4_meanDelay_63 : decode cX4_meanDelay 63 = .ok (.iload_n 2, 1) := dk_28 (dk_at dksX4_meanDelay_2 16 rfl rfl)
theorem dX4_meanDelay_64 : decode cX4_meanDelay 64 = .ok (.iload 4, 2) := dk_21 4 (dk_at dksX4_meanDelay_2 17 rfl rfl)
theorem dX4_meanDelay_66 : decode cX4_meanDelay 66 = .ok (.ifCond .eq 7, 3) := dk_153 0 7 (dk_at dksX4_meanDelay_2 19 rfl rfl)
theorem dX4_meanDelay_69 : decode cX4_meanDelay 69 = .ok (.iconst 1, 1) := dk_4 (dk_at dksX4_meanDelay_2 22 rfl rfl)
theorem dX4_meanDelay_70 : decode cX4_meanDelay 70 = .ok (.goto 4, 3) := dk_167 0 4 (dk_at dksX4_meanDelay_3 0 rfl rfl)
theorem dX4_meanDelay_73 : decode cX4_meanDelay 73 = .ok (.iconst 0, 1) := dk_3 (dk_at dksX4_meanDelay_3 3 rfl rfl)
theorem dX4_meanDelay_74 : decode cX4_meanDelay 74 = .ok (.iadd, 1) := dk_96 (dk_at dksX4_meanDelay_3 4 rfl rfl)
theorem dX4_meanDelay_75 : decode cX4_meanDelay 75 = .ok (.istore_n 2, 1) := dk_61 (dk_at dksX4_meanDelay_3 5 rfl rfl)
theorem dX4_meanDelay_76 : decode cX4_meanDelay 76 = .ok (.iinc 3 1, 3) := dk_132 3 1 (dk_at dksX4_meanDelay_3 6 rfl rfl)
theorem dX4_meanDelay_79 : decode cX4_meanDelay 79 = .ok (.goto (-68), 3) := dk_167 255 188 (dk_at dksX4_meanDelay_3 9 rfl rfl)
theorem dX4_meanDelay_82 : decode cX4_meanDelay 82 = .ok (.iload_n 2, 1) := dk_28 (dk_at dksX4_meanDelay_3 12 rfl rfl)
theorem dX4_meanDelay_83 : decode cX4_meanDelay 83 = .ok (.ifCond .ne 7, 3) := dk_154 0 7 (dk_at dksX4_meanDelay_3 13 rfl rfl)
theorem dX4_meanDelay_86 : decode cX4_meanDelay 86 = .ok (.dconst 0, 1) := dk_14 (dk_at dksX4_meanDelay_3 16 rfl rfl)
theorem dX4_meanDelay_87 : decode cX4_meanDelay 87 = .ok (.goto 8, 3) := dk_167 0 8 (dk_at dksX4_meanDelay_3 17 rfl rfl)
theorem dX4_meanDelay_90 : decode cX4_meanDelay 90 = .ok (.iload_n 1, 1) := dk_27 (dk_at dksX4_meanDelay_3 20 rfl rfl)
theorem dX4_meanDelay_91 : decode cX4_meanDelay 91 = .ok (.i2d, 1) := dk_135 (dk_at dksX4_meanDelay_3 21 rfl rfl)
theorem dX4_meanDelay_92 : decode cX4_meanDelay 92 = .ok (.iload_n 2, 1) := dk_28 (dk_at dksX4_meanDelay_3 22 rfl rfl)
theorem dX4_meanDelay_93 : decode cX4_meanDelay 93 = .ok (.i2d, 1) := dk_135 (dk_at dksX4_meanDelay_3 23 rfl rfl)
theorem dX4_meanDelay_94 : decode cX4_meanDelay 94 = .ok (.ddiv, 1) := dk_111 (dk_at dksX4_meanDelay_4 0 rfl rfl)
theorem dX4_meanDelay_95 : decode cX4_meanDelay 95 = .ok (.dreturn, 1) := dk_175 (dk_at dksX4_meanDelay_4 1 rfl rfl)
abbrev cX4_success : ByteArray := prog_24_method_67_code
def yX4_success : MethodName := ⟨RX4, "success", "()F"⟩
def dkwX4_success_1 : List UInt8 := [42, 180, 0, 9, 7, 46, 134, 110, 174]
abbrev dktX4_success_1 : List UInt8 := dkwX4_success_1 ++ []
def dkwX4_success_0 : List UInt8 := [42, 3, 181, 0, 77, 42, 180, 0, 9, 7, 46, 154, 0, 7, 11, 167, 0, 17, 42, 5, 182, 0, 210, 134]
abbrev dktX4_success_0 : List UInt8 := dkwX4_success_0 ++ dktX4_success_1
theorem dksX4_success_0 : cX4_success.data.toList.drop 0 = dktX4_success_0 := by decide +kernel
theorem dksX4_success_1 : cX4_success.data.toList.drop 24 = dktX4_success_1 := dk_seg dksX4_success_0 24 rfl rfl
theorem dX4_success_0 : decode cX4_success 0 = .ok (.aload_n 0, 1) := dk_42 (dk_at dksX4_success_0 0 rfl rfl)
theorem dX4_success_1 : decode cX4_success 1 = .ok (.iconst 0, 1) := dk_3 (dk_at dksX4_success_0 1 rfl rfl)
theorem dX4_success_2 : decode cX4_success 2 = .ok (.putfield 77, 3) := dk_181 0 77 (dk_at dksX4_success_0 2 rfl rfl)
theorem dX4_success_5 : decode cX4_success 5 = .ok (.aload_n 0, 1) := dk_42 (dk_at dksX4_success_0 5 rfl rfl)
theorem dX4_success_6 : decode cX4_success 6 = .ok (.getfield 9, 3) := dk_180 0 9 (dk_at dksX4_success_0 6 rfl rfl)
theorem dX4_success_9 : decode cX4_success 9 = .ok (.iconst 4, 1) := dk_7 (dk_at dksX4_success_0 9 rfl rfl)
theorem dX4_success_10 : decode cX4_success 10 = .ok (.iaload, 1) := dk_46 (dk_at dksX4_success_0 10 rfl rfl)
theorem dX4_success_11 : decode cX4_success 11 = .ok (.ifCond .ne 7, 3) := dk_154 0 7 (dk_at dksX4_success_0 11 rfl rfl)
theorem dX4_success_14 : decode cX4_success 14 = .ok (.fconst 0, 1) := dk_11 (dk_at dksX4_success_0 14 rfl rfl)
theorem dX4_success_15 : decode cX4_success 15 = .ok (.goto 17, 3) := dk_167 0 17 (dk_at dksX4_success_0 15 rfl rfl)
theorem dX4_success_18 : decode cX4_success 18 = .ok (.aload_n 0, 1) := dk_42 (dk_at dksX4_success_0 18 rfl rfl)
theorem dX4_success_19 : decode cX4_success 19 = .ok (.iconst 2, 1) := dk_5 (dk_at dksX4_success_0 19 rfl rfl)
theorem dX4_success_20 : decode cX4_success 20 = .ok (.invokevirtual 210, 3) := dk_182 0 210 (dk_at dksX4_success_0 20 rfl rfl)
theorem dX4_success_23 : decode cX4_success 23 = .ok (.i2f, 1) := dk_134 (dk_at dksX4_success_0 23 rfl rfl)
theorem dX4_success_24 : decode cX4_success 24 = .ok (.aload_n 0, 1) := dk_42 (dk_at dksX4_success_1 0 rfl rfl)
theorem dX4_success_25 : decode cX4_success 25 = .ok (.getfield 9, 3) := dk_180 0 9 (dk_at dksX4_success_1 1 rfl rfl)
theorem dX4_success_28 : decode cX4_success 28 = .ok (.iconst 4, 1) := dk_7 (dk_at dksX4_success_1 4 rfl rfl)
theorem dX4_success_29 : decode cX4_success 29 = .ok (.iaload, 1) := dk_46 (dk_at dksX4_success_1 5 rfl rfl)
theorem dX4_success_30 : decode cX4_success 30 = .ok (.i2f, 1) := dk_134 (dk_at dksX4_success_1 6 rfl rfl)
theorem dX4_success_31 : decode cX4_success 31 = .ok (.fdiv, 1) := dk_110 (dk_at dksX4_success_1 7 rfl rfl)
theorem dX4_success_32 : decode cX4_success 32 = .ok (.freturn, 1) := dk_174 (dk_at dksX4_success_1 8 rfl rfl)
abbrev cX4_pass : ByteArray := prog_24_method_68_code
def yX4_pass : MethodName := ⟨RX4, "pass", "(I)I"⟩
def dkwX4_pass_3 : List UInt8 := [16, 7, 46, 28, 100, 172]
abbrev dktX4_pass_3 : List UInt8 := dkwX4_pass_3 ++ []
def dkwX4_pass_2 : List UInt8 := [46, 61, 3, 62, 29, 27, 162, 0, 13, 42, 182, 0, 223, 132, 3, 1, 167, 255, 244, 42, 180, 0, 9]
abbrev dktX4_pass_2 : List UInt8 := dkwX4_pass_2 ++ dktX4_pass_3
def dkwX4_pass_1 : List UInt8 := [182, 0, 126, 27, 96, 17, 1, 244, 164, 0, 6, 16, 254, 172, 42, 182, 0, 232, 42, 180, 0, 9, 16, 7]
abbrev dktX4_pass_1 : List UInt8 := dkwX4_pass_1 ++ dktX4_pass_2
def dkwX4_pass_0 : List UInt8 := [42, 3, 181, 0, 77, 27, 4, 16, 60, 184, 0, 90, 154, 0, 9, 42, 4, 182, 0, 192, 172, 42]
abbrev dktX4_pass_0 : List UInt8 := dkwX4_pass_0 ++ dktX4_pass_1
theorem dksX4_pass_0 : cX4_pass.data.toList.drop 0 = dktX4_pass_0 := by decide +kernel
theorem dksX4_pass_1 : cX4_pass.data.toList.drop 22 = dktX4_pass_1 := dk_seg dksX4_pass_0 22 rfl rfl
theorem dksX4_pass_2 : cX4_pass.data.toList.drop 46 = dktX4_pass_2 := dk_seg dksX4_pass_1 24 rfl rfl
theorem dksX4_pass_3 : cX4_pass.data.toList.drop 69 = dktX4_pass_3 := dk_seg dksX4_pass_2 23 rfl rfl
theorem dX4_pass_0 : decode cX4_pass 0 = .ok (.aload_n 0, 1) := dk_42 (dk_at dksX4_pass_0 0 rfl rfl)
theorem dX4_pass_1 : decode cX4_pass 1 = .ok (.iconst 0, 1) := dk_3 (dk_at dksX4_pass_0 1 rfl rfl)
theorem dX4_pass_2 : decode cX4_pass 2 = .ok (.putfield 77, 3) := dk_181 0 77 (dk_at dksX4_pass_0 2 rfl rfl)
theorem dX4_pass_5 : decode cX4_pass 5 = .ok (.iload_n 1, 1) := dk_27 (dk_at dksX4_pass_0 5 rfl rfl)
theorem dX4_pass_6 : decode cX4_pass 6 = .ok (.iconst 1, 1) := dk_4 (dk_at dksX4_pass_0 6 rfl rfl)
theorem dX4_pass_7 : decode cX4_pass 7 = .ok (.bipush 60, 2) := dk_16 60 (dk_at dksX4_pass_0 7 rfl rfl)
theorem dX4_pass_9 : decode cX4_pass 9 = .ok (.invokestatic 90, 3) := dk_184 0 90 (dk_at dksX4_pass_0 9 rfl rfl)
theorem dX4_pass_12 : decode cX4_pass 12 = .ok (.ifCond .ne 9, 3) := dk_154 0 9 (dk_at dksX4_pass_0 12 rfl rfl)
theorem dX4_pass_15 : decode cX4_pass 15 = .ok (.aload_n 0, 1) := dk_42 (dk_at dksX4_pass_0 15 rfl rfl)
theorem dX4_pass_16 : decode cX4_pass 16 = .ok (.iconst 1, 1) := dk_4 (dk_at dksX4_pass_0 16 rfl rfl)
theorem dX4_pass_17 : decode cX4_pass 17 = .ok (.invokevirtual 192, 3) := dk_182 0 192 (dk_at dksX4_pass_0 17 rfl rfl)
theorem dX4_pass_20 : decode cX4_pass 20 = .ok (.ireturn, 1) := dk_172 (dk_at dksX4_pass_0 20 rfl rfl)
theorem dX4_pass_21 : decode cX4_pass 21 = .ok (.aload_n 0, 1) := dk_42 (dk_at dksX4_pass_0 21 rfl rfl)
theorem dX4_pass_22 : decode cX4_pass 22 = .ok (.invokevirtual 126, 3) := dk_182 0 126 (dk_at dksX4_pass_1 0 rfl rfl)
theorem dX4_pass_25 : decode cX4_pass 25 = .ok (.iload_n 1, 1) := dk_27 (dk_at dksX4_pass_1 3 rfl rfl)
theorem dX4_pass_26 : decode cX4_pass 26 = .ok (.iadd, 1) := dk_96 (dk_at dksX4_pass_1 4 rfl rfl)
theorem dX4_pass_27 : decode cX4_pass 27 = .ok (.sipush 500, 3) := dk_17 1 244 (dk_at dksX4_pass_1 5 rfl rfl)
theorem dX4_pass_30 : decode cX4_pass 30 = .ok (.if_icmp .le 6, 3) := dk_164 0 6 (dk_at dksX4_pass_1 8 rfl rfl)
theorem dX4_pass_33 : decode cX4_pass 33 = .ok (.bipush (-2), 2) := dk_16 254 (dk_at dksX4_pass_1 11 rfl rfl)
theorem dX4_pass_35 : decode cX4_pass 35 = .ok (.ireturn, 1) := dk_172 (dk_at dksX4_pass_1 13 rfl rfl)
theorem dX4_pass_36 : decode cX4_pass 36 = .ok (.aload_n 0, 1) := dk_42 (dk_at dksX4_pass_1 14 rfl rfl)
theorem dX4_pass_37 : decode cX4_pass 37 = .ok (.invokevirtual 232, 3) := dk_182 0 232 (dk_at dksX4_pass_1 15 rfl rfl)
theorem dX4_pass_40 : decode cX4_pass 40 = .ok (.aload_n 0, 1) := dk_42 (dk_at dksX4_pass_1 18 rfl rfl)
theorem dX4_pass_41 : decode cX4_pass 41 = .ok (.getfield 9, 3) := dk_180 0 9 (dk_at dksX4_pass_1 19 rfl rfl)
theorem dX4_pass_44 : decode cX4_pass 44 = .ok (.bipush 7, 2) := dk_16 7 (dk_at dksX4_pass_1 22 rfl rfl)
theorem dX4_pass_46 : decode cX4_pass 46 = .ok (.iaload, 1) := dk_46 (dk_at dksX4_pass_2 0 rfl rfl)
theorem dX4_pass_47 : decode cX4_pass 47 = .ok (.istore_n 2, 1) := dk_61 (dk_at dksX4_pass_2 1 rfl rfl)
theorem dX4_pass_48 : decode cX4_pass 48 = .ok (.iconst 0, 1) := dk_3 (dk_at dksX4_pass_2 2 rfl rfl)
theorem dX4_pass_49 : decode cX4_pass 49 = .ok (.istore_n 3, 1) := dk_62 (dk_at dksX4_pass_2 3 rfl rfl)
theorem dX4_pass_50 : decode cX4_pass 50 = .ok (.iload_n 3, 1) := dk_29 (dk_at dksX4_pass_2 4 rfl rfl)
theorem dX4_pass_51 : decode cX4_pass 51 = .ok (.iload_n 1, 1) := dk_27 (dk_at dksX4_pass_2 5 rfl rfl)
theorem dX4_pass_52 : decode cX4_pass 52 = .ok (.if_icmp .ge 13, 3) := dk_162 0 13 (dk_at dksX4_pass_2 6 rfl rfl)
theorem dX4_pass_55 : decode cX4_pass 55 = .ok (.aload_n 0, 1) := dk_42 (dk_at dksX4_pass_2 9 rfl rfl)
theorem dX4_pass_56 : decode cX4_pass 56 = .ok (.invokevirtual 223, 3) := dk_182 0 223 (dk_at dksX4_pass_2 10 rfl rfl)
theorem dX4_pass_59 : decode cX4_pass 59 = .ok (.iinc 3 1, 3) := dk_132 3 1 (dk_at dksX4_pass_2 13 rfl rfl)
theorem dX4_pass_62 : decode cX4_pass 62 = .ok (.goto (-12), 3) := dk_167 255 244 (dk_at dksX4_pass_2 16 rfl rfl)
theorem dX4_pass_65 : decode cX4_pass 65 = .ok (.aload_n 0, 1) := dk_42 (dk_at dksX4_pass_2 19 rfl rfl)
theorem dX4_pass_66 : decode cX4_pass 66 = .ok (.getfield 9, 3) := dk_180 0 9 (dk_at dksX4_pass_2 20 rfl rfl)
theorem dX4_pass_69 : decode cX4_pass 69 = .ok (.bipush 7, 2) := dk_16 7 (dk_at dksX4_pass_3 0 rfl rfl)
theorem dX4_pass_71 : decode cX4_pass 71 = .ok (.iaload, 1) := dk_46 (dk_at dksX4_pass_3 2 rfl rfl)
theorem dX4_pass_72 : decode cX4_pass 72 = .ok (.iload_n 2, 1) := dk_28 (dk_at dksX4_pass_3 3 rfl rfl)
theorem dX4_pass_73 : decode cX4_pass 73 = .ok (.isub, 1) := dk_100 (dk_at dksX4_pass_3 4 rfl rfl)
theorem dX4_pass_74 : decode cX4_pass 74 = .ok (.ireturn, 1) := dk_172 (dk_at dksX4_pass_3 5 rfl rfl)
abbrev cX4_record : ByteArray := prog_24_method_82_code
def yX4_record : MethodName := ⟨RX4, "record", "()V"⟩
def dkwX4_record_3 : List UInt8 := [4, 96, 181, 0, 253, 177]
abbrev dktX4_record_3 : List UInt8 := dkwX4_record_3 ++ []
def dkwX4_record_2 : List UInt8 := [181, 0, 253, 42, 180, 0, 9, 3, 42, 180, 0, 23, 42, 180, 0, 253, 184, 0, 213, 42, 89, 180, 0, 253]
abbrev dktX4_record_2 : List UInt8 := dkwX4_record_2 ++ dktX4_record_3
def dkwX4_record_1 : List UInt8 := [180, 0, 23, 27, 4, 100, 184, 0, 213, 132, 1, 1, 167, 255, 232, 42, 89, 180, 0, 253, 4, 100]
abbrev dktX4_record_1 : List UInt8 := dkwX4_record_1 ++ dktX4_record_2
def dkwX4_record_0 : List UInt8 := [42, 180, 0, 253, 16, 10, 160, 0, 42, 4, 60, 27, 16, 10, 162, 0, 24, 42, 180, 0, 23, 27, 42]
abbrev dktX4_record_0 : List UInt8 := dkwX4_record_0 ++ dktX4_record_1
theorem dksX4_record_0 : cX4_record.data.toList.drop 0 = dktX4_record_0 := by decide +kernel
theorem dksX4_record_1 : cX4_record.data.toList.drop 23 = dktX4_record_1 := dk_seg dksX4_record_0 23 rfl rfl
theorem dksX4_record_2 : cX4_record.data.toList.drop 45 = dktX4_record_2 := dk_seg dksX4_record_1 22 rfl rfl
theorem dksX4_record_3 : cX4_record.data.toList.drop 69 = dktX4_record_3 := dk_seg dksX4_record_2 24 rfl rfl
theorem dX4_record_0 : decode cX4_record 0 = .ok (.aload_n 0, 1) := dk_42 (dk_at dksX4_record_0 0 rfl rfl)
theorem dX4_record_1 : decode cX4_record 1 = .ok (.getfield 253, 3) := dk_180 0 253 (dk_at dksX4_record_0 1 rfl rfl)
theorem dX4_record_4 : decode cX4_record 4 = .ok (.bipush 10, 2) := dk_16 10 (dk_at dksX4_record_0 4 rfl rfl)
theorem dX4_record_6 : decode cX4_record 6 = .ok (.if_icmp .ne 42, 3) := dk_160 0 42 (dk_at dksX4_record_0 6 rfl rfl)
theorem dX4_record_9 : decode cX4_record 9 = .ok (.iconst 1, 1) := dk_4 (dk_at dksX4_record_0 9 rfl rfl)
theorem dX4_record_10 : decode cX4_record 10 = .ok (.istore_n 1, 1) := dk_60 (dk_at dksX4_record_0 10 rfl rfl)
theorem dX4_record_11 : decode cX4_record 11 = .ok (.iload_n 1, 1) := dk_27 (dk_at dksX4_record_0 11 rfl rfl)
theorem dX4_record_12 : decode cX4_record 12 = .ok (.bipush 10, 2) := dk_16 10 (dk_at dksX4_record_0 12 rfl rfl)
theorem dX4_record_14 : decode cX4_record 14 = .ok (.if_icmp .ge 24, 3) := dk_162 0 24 (dk_at dksX4_record_0 14 rfl rfl)
theorem dX4_record_17 : decode cX4_record 17 = .ok (.aload_n 0, 1) := dk_42 (dk_at dksX4_record_0 17 rfl rfl)
theorem dX4_record_18 : decode cX4_record 18 = .ok (.getfield 23, 3) := dk_180 0 23 (dk_at dksX4_record_0 18 rfl rfl)
theorem dX4_record_21 : decode cX4_record 21 = .ok (.iload_n 1, 1) := dk_27 (dk_at dksX4_record_0 21 rfl rfl)
theorem dX4_record_22 : decode cX4_record 22 = .ok (.aload_n 0, 1) := dk_42 (dk_at dksX4_record_0 22 rfl rfl)
theorem dX4_record_23 : decode cX4_record 23 = .ok (.getfield 23, 3) := dk_180 0 23 (dk_at dksX4_record_1 0 rfl rfl)
theorem dX4_record_26 : decode cX4_record 26 = .ok (.iload_n 1, 1) := dk_27 (dk_at dksX4_record_1 3 rfl rfl)
theorem dX4_record_27 : decode cX4_record 27 = .ok (.iconst 1, 1) := dk_4 (dk_at dksX4_record_1 4 rfl rfl)
theorem dX4_record_28 : decode cX4_record 28 = .ok (.isub, 1) := dk_100 (dk_at dksX4_record_1 5 rfl rfl)
theorem dX4_record_29 : decode cX4_record 29 = .ok (.invokestatic 213, 3) := dk_184 0 213 (dk_at dksX4_record_1 6 rfl rfl)
theorem dX4_record_32 : decode cX4_record 32 = .ok (.iinc 1 1, 3) := dk_132 1 1 (dk_at dksX4_record_1 9 rfl rfl)
theorem dX4_record_35 : decode cX4_record 35 = .ok (.goto (-24), 3) := dk_167 255 232 (dk_at dksX4_record_1 12 rfl rfl)
theorem dX4_record_38 : decode cX4_record 38 = .ok (.aload_n 0, 1) := dk_42 (dk_at dksX4_record_1 15 rfl rfl)
theorem dX4_record_39 : decode cX4_record 39 = .ok (.dup, 1) := dk_89 (dk_at dksX4_record_1 16 rfl rfl)
theorem dX4_record_40 : decode cX4_record 40 = .ok (.getfield 253, 3) := dk_180 0 253 (dk_at dksX4_record_1 17 rfl rfl)
theorem dX4_record_43 : decode cX4_record 43 = .ok (.iconst 1, 1) := dk_4 (dk_at dksX4_record_1 20 rfl rfl)
theorem dX4_record_44 : decode cX4_record 44 = .ok (.isub, 1) := dk_100 (dk_at dksX4_record_1 21 rfl rfl)
theorem dX4_record_45 : decode cX4_record 45 = .ok (.putfield 253, 3) := dk_181 0 253 (dk_at dksX4_record_2 0 rfl rfl)
theorem dX4_record_48 : decode cX4_record 48 = .ok (.aload_n 0, 1) := dk_42 (dk_at dksX4_record_2 3 rfl rfl)
theorem dX4_record_49 : decode cX4_record 49 = .ok (.getfield 9, 3) := dk_180 0 9 (dk_at dksX4_record_2 4 rfl rfl)
theorem dX4_record_52 : decode cX4_record 52 = .ok (.iconst 0, 1) := dk_3 (dk_at dksX4_record_2 7 rfl rfl)
theorem dX4_record_53 : decode cX4_record 53 = .ok (.aload_n 0, 1) := dk_42 (dk_at dksX4_record_2 8 rfl rfl)
theorem dX4_record_54 : decode cX4_record 54 = .ok (.getfield 23, 3) := dk_180 0 23 (dk_at dksX4_record_2 9 rfl rfl)
theorem dX4_record_57 : decode cX4_record 57 = .ok (.aload_n 0, 1) := dk_42 (dk_at dksX4_record_2 12 rfl rfl)
theorem dX4_record_58 : decode cX4_record 58 = .ok (.getfield 253, 3) := dk_180 0 253 (dk_at dksX4_record_2 13 rfl rfl)
theorem dX4_record_61 : decode cX4_record 61 = .ok (.invokestatic 213, 3) := dk_184 0 213 (dk_at dksX4_record_2 16 rfl rfl)
theorem dX4_record_64 : decode cX4_record 64 = .ok (.aload_n 0, 1) := dk_42 (dk_at dksX4_record_2 19 rfl rfl)
theorem dX4_record_65 : decode cX4_record 65 = .ok (.dup, 1) := dk_89 (dk_at dksX4_record_2 20 rfl rfl)
theorem dX4_record_66 : decode cX4_record 66 = .ok (.getfield 253, 3) := dk_180 0 253 (dk_at dksX4_record_2 21 rfl rfl)
theorem dX4_record_69 : decode cX4_record 69 = .ok (.iconst 1, 1) := dk_4 (dk_at dksX4_record_3 0 rfl rfl)
theorem dX4_record_70 : decode cX4_record 70 = .ok (.iadd, 1) := dk_96 (dk_at dksX4_record_3 1 rfl rfl)
theorem dX4_record_71 : decode cX4_record 71 = .ok (.putfield 253, 3) := dk_181 0 253 (dk_at dksX4_record_3 2 rfl rfl)
theorem dX4_record_74 : decode cX4_record 74 = .ok (.return_, 1) := dk_177 (dk_at dksX4_record_3 5 rfl rfl)
abbrev cX4_send : ByteArray := prog_24_method_69_code
def yX4_send : MethodName := ⟨RX4, "send", "(III)I"⟩
def dkwX4_send_1 : List UInt8 := [16, 253, 172, 42, 182, 0, 232, 42, 27, 28, 29, 182, 0, 167, 42, 180, 0, 9, 7, 46, 4, 100, 172]
abbrev dktX4_send_1 : List UInt8 := dkwX4_send_1 ++ []
def dkwX4_send_0 : List UInt8 := [42, 27, 28, 29, 182, 0, 217, 154, 0, 5, 3, 172, 42, 180, 0, 9, 7, 46, 16, 40, 160, 0, 6]
abbrev dktX4_send_0 : List UInt8 := dkwX4_send_0 ++ dktX4_send_1
theorem dksX4_send_0 : cX4_send.data.toList.drop 0 = dktX4_send_0 := by decide +kernel
theorem dksX4_send_1 : cX4_send.data.toList.drop 23 = dktX4_send_1 := dk_seg dksX4_send_0 23 rfl rfl
theorem dX4_send_0 : decode cX4_send 0 = .ok (.aload_n 0, 1) := dk_42 (dk_at dksX4_send_0 0 rfl rfl)
theorem dX4_send_1 : decode cX4_send 1 = .ok (.iload_n 1, 1) := dk_27 (dk_at dksX4_send_0 1 rfl rfl)
theorem dX4_send_2 : decode cX4_send 2 = .ok (.iload_n 2, 1) := dk_28 (dk_at dksX4_send_0 2 rfl rfl)
theorem dX4_send_3 : decode cX4_send 3 = .ok (.iload_n 3, 1) := dk_29 (dk_at dksX4_send_0 3 rfl rfl)
theorem dX4_send_4 : decode cX4_send 4 = .ok (.invokevirtual 217, 3) := dk_182 0 217 (dk_at dksX4_send_0 4 rfl rfl)
theorem dX4_send_7 : decode cX4_send 7 = .ok (.ifCond .ne 5, 3) := dk_154 0 5 (dk_at dksX4_send_0 7 rfl rfl)
theorem dX4_send_10 : decode cX4_send 10 = .ok (.iconst 0, 1) := dk_3 (dk_at dksX4_send_0 10 rfl rfl)
theorem dX4_send_11 : decode cX4_send 11 = .ok (.ireturn, 1) := dk_172 (dk_at dksX4_send_0 11 rfl rfl)
theorem dX4_send_12 : decode cX4_send 12 = .ok (.aload_n 0, 1) := dk_42 (dk_at dksX4_send_0 12 rfl rfl)
theorem dX4_send_13 : decode cX4_send 13 = .ok (.getfield 9, 3) := dk_180 0 9 (dk_at dksX4_send_0 13 rfl rfl)
theorem dX4_send_16 : decode cX4_send 16 = .ok (.iconst 4, 1) := dk_7 (dk_at dksX4_send_0 16 rfl rfl)
theorem dX4_send_17 : decode cX4_send 17 = .ok (.iaload, 1) := dk_46 (dk_at dksX4_send_0 17 rfl rfl)
theorem dX4_send_18 : decode cX4_send 18 = .ok (.bipush 40, 2) := dk_16 40 (dk_at dksX4_send_0 18 rfl rfl)
theorem dX4_send_20 : decode cX4_send 20 = .ok (.if_icmp .ne 6, 3) := dk_160 0 6 (dk_at dksX4_send_0 20 rfl rfl)
theorem dX4_send_23 : decode cX4_send 23 = .ok (.bipush (-3), 2) := dk_16 253 (dk_at dksX4_send_1 0 rfl rfl)
theorem dX4_send_25 : decode cX4_send 25 = .ok (.ireturn, 1) := dk_172 (dk_at dksX4_send_1 2 rfl rfl)
theorem dX4_send_26 : decode cX4_send 26 = .ok (.aload_n 0, 1) := dk_42 (dk_at dksX4_send_1 3 rfl rfl)
theorem dX4_send_27 : decode cX4_send 27 = .ok (.invokevirtual 232, 3) := dk_182 0 232 (dk_at dksX4_send_1 4 rfl rfl)
theorem dX4_send_30 : decode cX4_send 30 = .ok (.aload_n 0, 1) := dk_42 (dk_at dksX4_send_1 7 rfl rfl)
theorem dX4_send_31 : decode cX4_send 31 = .ok (.iload_n 1, 1) := dk_27 (dk_at dksX4_send_1 8 rfl rfl)
theorem dX4_send_32 : decode cX4_send 32 = .ok (.iload_n 2, 1) := dk_28 (dk_at dksX4_send_1 9 rfl rfl)
theorem dX4_send_33 : decode cX4_send 33 = .ok (.iload_n 3, 1) := dk_29 (dk_at dksX4_send_1 10 rfl rfl)
theorem dX4_send_34 : decode cX4_send 34 = .ok (.invokevirtual 167, 3) := dk_182 0 167 (dk_at dksX4_send_1 11 rfl rfl)
theorem dX4_send_37 : decode cX4_send 37 = .ok (.aload_n 0, 1) := dk_42 (dk_at dksX4_send_1 14 rfl rfl)
theorem dX4_send_38 : decode cX4_send 38 = .ok (.getfield 9, 3) := dk_180 0 9 (dk_at dksX4_send_1 15 rfl rfl)
theorem dX4_send_41 : decode cX4_send 41 = .ok (.iconst 4, 1) := dk_7 (dk_at dksX4_send_1 18 rfl rfl)
theorem dX4_send_42 : decode cX4_send 42 = .ok (.iaload, 1) := dk_46 (dk_at dksX4_send_1 19 rfl rfl)
theorem dX4_send_43 : decode cX4_send 43 = .ok (.iconst 1, 1) := dk_4 (dk_at dksX4_send_1 20 rfl rfl)
theorem dX4_send_44 : decode cX4_send 44 = .ok (.isub, 1) := dk_100 (dk_at dksX4_send_1 21 rfl rfl)
theorem dX4_send_45 : decode cX4_send 45 = .ok (.ireturn, 1) := dk_172 (dk_at dksX4_send_1 22 rfl rfl)
abbrev cX4_wall : ByteArray := prog_24_method_72_code
def yX4_wall : MethodName := ⟨RX4, "wall", "(II)I"⟩
def dkwX4_wall_4 : List UInt8 := [79, 42, 180, 0, 9, 16, 6, 46, 172]
abbrev dktX4_wall_4 : List UInt8 := dkwX4_wall_4 ++ []
def dkwX4_wall_3 : List UInt8 := [79, 42, 180, 0, 9, 16, 6, 92, 46, 5, 42, 180, 0, 9, 27, 28, 184, 0, 98, 46, 104, 4, 100, 96]
abbrev dktX4_wall_3 : List UInt8 := dkwX4_wall_3 ++ dktX4_wall_4
def dkwX4_wall_2 : List UInt8 := [182, 0, 232, 42, 180, 0, 9, 27, 28, 184, 0, 98, 4, 42, 180, 0, 9, 27, 28, 184, 0, 98, 46, 100]
abbrev dktX4_wall_2 : List UInt8 := dkwX4_wall_2 ++ dktX4_wall_3
def dkwX4_wall_1 : List UInt8 := [182, 0, 235, 153, 0, 6, 16, 254, 172, 42, 27, 28, 182, 0, 238, 153, 0, 6, 16, 253, 172, 42]
abbrev dktX4_wall_1 : List UInt8 := dkwX4_wall_1 ++ dktX4_wall_2
def dkwX4_wall_0 : List UInt8 := [42, 3, 181, 0, 77, 42, 27, 28, 182, 0, 94, 154, 0, 9, 42, 4, 182, 0, 192, 172, 42, 27, 28]
abbrev dktX4_wall_0 : List UInt8 := dkwX4_wall_0 ++ dktX4_wall_1
theorem dksX4_wall_0 : cX4_wall.data.toList.drop 0 = dktX4_wall_0 := by decide +kernel
theorem dksX4_wall_1 : cX4_wall.data.toList.drop 23 = dktX4_wall_1 := dk_seg dksX4_wall_0 23 rfl rfl
theorem dksX4_wall_2 : cX4_wall.data.toList.drop 45 = dktX4_wall_2 := dk_seg dksX4_wall_1 22 rfl rfl
theorem dksX4_wall_3 : cX4_wall.data.toList.drop 69 = dktX4_wall_3 := dk_seg dksX4_wall_2 24 rfl rfl
theorem dksX4_wall_4 : cX4_wall.data.toList.drop 93 = dktX4_wall_4 := dk_seg dksX4_wall_3 24 rfl rfl
theorem dX4_wall_0 : decode cX4_wall 0 = .ok (.aload_n 0, 1) := dk_42 (dk_at dksX4_wall_0 0 rfl rfl)
theorem dX4_wall_1 : decode cX4_wall 1 = .ok (.iconst 0, 1) := dk_3 (dk_at dksX4_wall_0 1 rfl rfl)
theorem dX4_wall_2 : decode cX4_wall 2 = .ok (.putfield 77, 3) := dk_181 0 77 (dk_at dksX4_wall_0 2 rfl rfl)
theorem dX4_wall_5 : decode cX4_wall 5 = .ok (.aload_n 0, 1) := dk_42 (dk_at dksX4_wall_0 5 rfl rfl)
theorem dX4_wall_6 : decode cX4_wall 6 = .ok (.iload_n 1, 1) := dk_27 (dk_at dksX4_wall_0 6 rfl rfl)
theorem dX4_wall_7 : decode cX4_wall 7 = .ok (.iload_n 2, 1) := dk_28 (dk_at dksX4_wall_0 7 rfl rfl)
theorem dX4_wall_8 : decode cX4_wall 8 = .ok (.invokevirtual 94, 3) := dk_182 0 94 (dk_at dksX4_wall_0 8 rfl rfl)
theorem dX4_wall_11 : decode cX4_wall 11 = .ok (.ifCond .ne 9, 3) := dk_154 0 9 (dk_at dksX4_wall_0 11 rfl rfl)
theorem dX4_wall_14 : decode cX4_wall 14 = .ok (.aload_n 0, 1) := dk_42 (dk_at dksX4_wall_0 14 rfl rfl)
theorem dX4_wall_15 : decode cX4_wall 15 = .ok (.iconst 1, 1) := dk_4 (dk_at dksX4_wall_0 15 rfl rfl)
theorem dX4_wall_16 : decode cX4_wall 16 = .ok (.invokevirtual 192, 3) := dk_182 0 192 (dk_at dksX4_wall_0 16 rfl rfl)
theorem dX4_wall_19 : decode cX4_wall 19 = .ok (.ireturn, 1) := dk_172 (dk_at dksX4_wall_0 19 rfl rfl)
theorem dX4_wall_20 : decode cX4_wall 20 = .ok (.aload_n 0, 1) := dk_42 (dk_at dksX4_wall_0 20 rfl rfl)
theorem dX4_wall_21 : decode cX4_wall 21 = .ok (.iload_n 1, 1) := dk_27 (dk_at dksX4_wall_0 21 rfl rfl)
theorem dX4_wall_22 : decode cX4_wall 22 = .ok (.iload_n 2, 1) := dk_28 (dk_at dksX4_wall_0 22 rfl rfl)
theorem dX4_wall_23 : decode cX4_wall 23 = .ok (.invokevirtual 235, 3) := dk_182 0 235 (dk_at dksX4_wall_1 0 rfl rfl)
theorem dX4_wall_26 : decode cX4_wall 26 = .ok (.ifCond .eq 6, 3) := dk_153 0 6 (dk_at dksX4_wall_1 3 rfl rfl)
theorem dX4_wall_29 : decode cX4_wall 29 = .ok (.bipush (-2), 2) := dk_16 254 (dk_at dksX4_wall_1 6 rfl rfl)
theorem dX4_wall_31 : decode cX4_wall 31 = .ok (.ireturn, 1) := dk_172 (dk_at dksX4_wall_1 8 rfl rfl)
theorem dX4_wall_32 : decode cX4_wall 32 = .ok (.aload_n 0, 1) := dk_42 (dk_at dksX4_wall_1 9 rfl rfl)
theorem dX4_wall_33 : decode cX4_wall 33 = .ok (.iload_n 1, 1) := dk_27 (dk_at dksX4_wall_1 10 rfl rfl)
theorem dX4_wall_34 : decode cX4_wall 34 = .ok (.iload_n 2, 1) := dk_28 (dk_at dksX4_wall_1 11 rfl rfl)
theorem dX4_wall_35 : decode cX4_wall 35 = .ok (.invokevirtual 238, 3) := dk_182 0 238 (dk_at dksX4_wall_1 12 rfl rfl)
theorem dX4_wall_38 : decode cX4_wall 38 = .ok (.ifCond .eq 6, 3) := dk_153 0 6 (dk_at dksX4_wall_1 15 rfl rfl)
theorem dX4_wall_41 : decode cX4_wall 41 = .ok (.bipush (-3), 2) := dk_16 253 (dk_at dksX4_wall_1 18 rfl rfl)
theorem dX4_wall_43 : decode cX4_wall 43 = .ok (.ireturn, 1) := dk_172 (dk_at dksX4_wall_1 20 rfl rfl)
theorem dX4_wall_44 : decode cX4_wall 44 = .ok (.aload_n 0, 1) := dk_42 (dk_at dksX4_wall_1 21 rfl rfl)
theorem dX4_wall_45 : decode cX4_wall 45 = .ok (.invokevirtual 232, 3) := dk_182 0 232 (dk_at dksX4_wall_2 0 rfl rfl)
theorem dX4_wall_48 : decode cX4_wall 48 = .ok (.aload_n 0, 1) := dk_42 (dk_at dksX4_wall_2 3 rfl rfl)
theorem dX4_wall_49 : decode cX4_wall 49 = .ok (.getfield 9, 3) := dk_180 0 9 (dk_at dksX4_wall_2 4 rfl rfl)
theorem dX4_wall_52 : decode cX4_wall 52 = .ok (.iload_n 1, 1) := dk_27 (dk_at dksX4_wall_2 7 rfl rfl)
theorem dX4_wall_53 : decode cX4_wall 53 = .ok (.iload_n 2, 1) := dk_28 (dk_at dksX4_wall_2 8 rfl rfl)
theorem dX4_wall_54 : decode cX4_wall 54 = .ok (.invokestatic 98, 3) := dk_184 0 98 (dk_at dksX4_wall_2 9 rfl rfl)
theorem dX4_wall_57 : decode cX4_wall 57 = .ok (.iconst 1, 1) := dk_4 (dk_at dksX4_wall_2 12 rfl rfl)
theorem dX4_wall_58 : decode cX4_wall 58 = .ok (.aload_n 0, 1) := dk_42 (dk_at dksX4_wall_2 13 rfl rfl)
theorem dX4_wall_59 : decode cX4_wall 59 = .ok (.getfield 9, 3) := dk_180 0 9 (dk_at dksX4_wall_2 14 rfl rfl)
theorem dX4_wall_62 : decode cX4_wall 62 = .ok (.iload_n 1, 1) := dk_27 (dk_at dksX4_wall_2 17 rfl rfl)
theorem dX4_wall_63 : decode cX4_wall 63 = .ok (.iload_n 2, 1) := dk_28 (dk_at dksX4_wall_2 18 rfl rfl)
theorem dX4_wall_64 : decode cX4_wall 64 = .ok (.invokestatic 98, 3) := dk_184 0 98 (dk_at dksX4_wall_2 19 rfl rfl)
theorem dX4_wall_67 : decode cX4_wall 67 = .ok (.iaload, 1) := dk_46 (dk_at dksX4_wall_2 22 rfl rfl)
theorem dX4_wall_68 : decode cX4_wall 68 = .ok (.isub, 1) := dk_100 (dk_at dksX4_wall_2 23 rfl rfl)
theorem dX4_wall_69 : decode cX4_wall 69 = .ok (.iastore, 1) := dk_79 (dk_at dksX4_wall_3 0 rfl rfl)
theorem dX4_wall_70 : decode cX4_wall 70 = .ok (.aload_n 0, 1) := dk_42 (dk_at dksX4_wall_3 1 rfl rfl)
theorem dX4_wall_71 : decode cX4_wall 71 = .ok (.getfield 9, 3) := dk_180 0 9 (dk_at dksX4_wall_3 2 rfl rfl)
theorem dX4_wall_74 : decode cX4_wall 74 = .ok (.bipush 6, 2) := dk_16 6 (dk_at dksX4_wall_3 5 rfl rfl)
theorem dX4_wall_76 : decode cX4_wall 76 = .ok (.dup2, 1) := dk_92 (dk_at dksX4_wall_3 7 rfl rfl)
theorem dX4_wall_77 : decode cX4_wall 77 = .ok (.iaload, 1) := dk_46 (dk_at dksX4_wall_3 8 rfl rfl)
theorem dX4_wall_78 : decode cX4_wall 78 = .ok (.iconst 2, 1) := dk_5 (dk_at dksX4_wall_3 9 rfl rfl)
theorem dX4_wall_79 : decode cX4_wall 79 = .ok (.aload_n 0, 1) := dk_42 (dk_at dksX4_wall_3 10 rfl rfl)
theorem dX4_wall_80 : decode cX4_wall 80 = .ok (.getfield 9, 3) := dk_180 0 9 (dk_at dksX4_wall_3 11 rfl rfl)
theorem dX4_wall_83 : decode cX4_wall 83 = .ok (.iload_n 1, 1) := dk_27 (dk_at dksX4_wall_3 14 rfl rfl)
theorem dX4_wall_84 : decode cX4_wall 84 = .ok (.iload_n 2, 1) := dk_28 (dk_at dksX4_wall_3 15 rfl rfl)
theorem dX4_wall_85 : decode cX4_wall 85 = .ok (.invokestatic 98, 3) := dk_184 0 98 (dk_at dksX4_wall_3 16 rfl rfl)
theorem dX4_wall_88 : decode cX4_wall 88 = .ok (.iaload, 1) := dk_46 (dk_at dksX4_wall_3 19 rfl rfl)
theorem dX4_wall_89 : decode cX4_wall 89 = .ok (.imul, 1) := dk_104 (dk_at dksX4_wall_3 20 rfl rfl)
theorem dX4_wall_90 : decode cX4_wall 90 = .ok (.iconst 1, 1) := dk_4 (dk_at dksX4_wall_3 21 rfl rfl)
theorem dX4_wall_91 : decode cX4_wall 91 = .ok (.isub, 1) := dk_100 (dk_at dksX4_wall_3 22 rfl rfl)
theorem dX4_wall_92 : decode cX4_wall 92 = .ok (.iadd, 1) := dk_96 (dk_at dksX4_wall_3 23 rfl rfl)
theorem dX4_wall_93 : decode cX4_wall 93 = .ok (.iastore, 1) := dk_79 (dk_at dksX4_wall_4 0 rfl rfl)
theorem dX4_wall_94 : decode cX4_wall 94 = .ok (.aload_n 0, 1) := dk_42 (dk_at dksX4_wall_4 1 rfl rfl)
theorem dX4_wall_95 : decode cX4_wall 95 = .ok (.getfield 9, 3) := dk_180 0 9 (dk_at dksX4_wall_4 2 rfl rfl)
theorem dX4_wall_98 : decode cX4_wall 98 = .ok (.bipush 6, 2) := dk_16 6 (dk_at dksX4_wall_4 5 rfl rfl)
theorem dX4_wall_100 : decode cX4_wall 100 = .ok (.iaload, 1) := dk_46 (dk_at dksX4_wall_4 7 rfl rfl)
theorem dX4_wall_101 : decode cX4_wall 101 = .ok (.ireturn, 1) := dk_172 (dk_at dksX4_wall_4 8 rfl rfl)
abbrev cX4_isHeld : ByteArray := prog_24_method_70_code
def yX4_isHeld : MethodName := ⟨RX4, "isHeld", "(II)Z"⟩
def dkwX4_isHeld_5 : List UInt8 := [16, 8, 182, 0, 130, 28, 160, 0, 7, 4, 167, 0, 4, 3, 128, 62, 132, 4, 1, 167, 255, 200, 29, 172]
abbrev dktX4_isHeld_5 : List UInt8 := dkwX4_isHeld_5 ++ []
def dkwX4_isHeld_4 : List UInt8 := [21, 4, 6, 182, 0, 130, 154, 0, 31, 42, 21, 4, 16, 7, 182, 0, 130, 27, 160, 0, 19, 42, 21, 4]
abbrev dktX4_isHeld_4 : List UInt8 := dkwX4_isHeld_4 ++ dktX4_isHeld_5
def dkwX4_isHeld_3 : List UInt8 := [62, 132, 4, 1, 167, 255, 212, 3, 54, 4, 21, 4, 42, 180, 0, 9, 7, 46, 162, 0, 51, 29, 42]
abbrev dktX4_isHeld_3 : List UInt8 := dkwX4_isHeld_3 ++ dktX4_isHeld_4
def dkwX4_isHeld_2 : List UInt8 := [182, 0, 133, 27, 160, 0, 18, 42, 21, 4, 4, 182, 0, 133, 28, 160, 0, 7, 4, 167, 0, 4, 3, 128]
abbrev dktX4_isHeld_2 : List UInt8 := dkwX4_isHeld_2 ++ dktX4_isHeld_3
def dkwX4_isHeld_1 : List UInt8 := [167, 0, 4, 3, 62, 3, 54, 4, 21, 4, 42, 180, 0, 9, 5, 46, 162, 0, 39, 29, 42, 21, 4, 3]
abbrev dktX4_isHeld_1 : List UInt8 := dkwX4_isHeld_1 ++ dktX4_isHeld_2
def dkwX4_isHeld_0 : List UInt8 := [42, 180, 0, 9, 16, 10, 46, 27, 160, 0, 18, 42, 180, 0, 9, 16, 11, 46, 28, 160, 0, 7, 4]
abbrev dktX4_isHeld_0 : List UInt8 := dkwX4_isHeld_0 ++ dktX4_isHeld_1
theorem dksX4_isHeld_0 : cX4_isHeld.data.toList.drop 0 = dktX4_isHeld_0 := by decide +kernel
theorem dksX4_isHeld_1 : cX4_isHeld.data.toList.drop 23 = dktX4_isHeld_1 := dk_seg dksX4_isHeld_0 23 rfl rfl
theorem dksX4_isHeld_2 : cX4_isHeld.data.toList.drop 47 = dktX4_isHeld_2 := dk_seg dksX4_isHeld_1 24 rfl rfl
theorem dksX4_isHeld_3 : cX4_isHeld.data.toList.drop 71 = dktX4_isHeld_3 := dk_seg dksX4_isHeld_2 24 rfl rfl
theorem dksX4_isHeld_4 : cX4_isHeld.data.toList.drop 94 = dktX4_isHeld_4 := dk_seg dksX4_isHeld_3 23 rfl rfl
theorem dksX4_isHeld_5 : cX4_isHeld.data.toList.drop 118 = dktX4_isHeld_5 := dk_seg dksX4_isHeld_4 24 rfl rfl
theorem dX4_isHeld_0 : decode cX4_isHeld 0 = .ok (.aload_n 0, 1) := dk_42 (dk_at dksX4_isHeld_0 0 rfl rfl)
theorem dX4_isHeld_1 : decode cX4_isHeld 1 = .ok (.getfield 9, 3) := dk_180 0 9 (dk_at dksX4_isHeld_0 1 rfl rfl)
theorem dX4_isHeld_4 : decode cX4_isHeld 4 = .ok (.bipush 10, 2) := dk_16 10 (dk_at dksX4_isHeld_0 4 rfl rfl)
theorem dX4_isHeld_6 : decode cX4_isHeld 6 = .ok (.iaload, 1) := dk_46 (dk_at dksX4_isHeld_0 6 rfl rfl)
theorem dX4_isHeld_7 : decode cX4_isHeld 7 = .ok (.iload_n 1, 1) := dk_27 (dk_at dksX4_isHeld_0 7 rfl rfl)
theorem dX4_isHeld_8 : decode cX4_isHeld 8 = .ok (.if_icmp .ne 18, 3) := dk_160 0 18 (dk_at dksX4_isHeld_0 8 rfl rfl)
theorem dX4_isHeld_11 : decode cX4_isHeld 11 = .ok (.aload_n 0, 1) := dk_42 (dk_at dksX4_isHeld_0 11 rfl rfl)
theorem dX4_isHeld_12 : decode cX4_isHeld 12 = .ok (.getfield 9, 3) := dk_180 0 9 (dk_at dksX4_isHeld_0 12 rfl rfl)
theorem dX4_isHeld_15 : decode cX4_isHeld 15 = .ok (.bipush 11, 2) := dk_16 11 (dk_at dksX4_isHeld_0 15 rfl rfl)
theorem dX4_isHeld_17 : decode cX4_isHeld 17 = .ok (.iaload, 1) := dk_46 (dk_at dksX4_isHeld_0 17 rfl rfl)
theorem dX4_isHeld_18 : decode cX4_isHeld 18 = .ok (.iload_n 2, 1) := dk_28 (dk_at dksX4_isHeld_0 18 rfl rfl)
theorem dX4_isHeld_19 : decode cX4_isHeld 19 = .ok (.if_icmp .ne 7, 3) := dk_160 0 7 (dk_at dksX4_isHeld_0 19 rfl rfl)
theorem dX4_isHeld_22 : decode cX4_isHeld 22 = .ok (.iconst 1, 1) := dk_4 (dk_at dksX4_isHeld_0 22 rfl rfl)
theorem dX4_isHeld_23 : decode cX4_isHeld 23 = .ok (.goto 4, 3) := dk_167 0 4 (dk_at dksX4_isHeld_1 0 rfl rfl)
theorem dX4_isHeld_26 : decode cX4_isHeld 26 = .ok (.iconst 0, 1) := dk_3 (dk_at dksX4_isHeld_1 3 rfl rfl)
theorem dX4_isHeld_27 : decode cX4_isHeld 27 = .ok (.istore_n 3, 1) := dk_62 (dk_at dksX4_isHeld_1 4 rfl rfl)
theorem dX4_isHeld_28 : decode cX4_isHeld 28 = .ok (.iconst 0, 1) := dk_3 (dk_at dksX4_isHeld_1 5 rfl rfl)
theorem dX4_isHeld_29 : decode cX4_isHeld 29 = .ok (.istore 4, 2) := dk_54 4 (dk_at dksX4_isHeld_1 6 rfl rfl)
theorem dX4_isHeld_31 : decode cX4_isHeld 31 = .ok (.iload 4, 2) := dk_21 4 (dk_at dksX4_isHeld_1 8 rfl rfl)
theorem dX4_isHeld_33 : decode cX4_isHeld 33 = .ok (.aload_n 0, 1) := dk_42 (dk_at dksX4_isHeld_1 10 rfl rfl)
theorem dX4_isHeld_34 : decode cX4_isHeld 34 = .ok (.getfield 9, 3) := dk_180 0 9 (dk_at dksX4_isHeld_1 11 rfl rfl)
theorem dX4_isHeld_37 : decode cX4_isHeld 37 = .ok (.iconst 2, 1) := dk_5 (dk_at dksX4_isHeld_1 14 rfl rfl)
theorem dX4_isHeld_38 : decode cX4_isHeld 38 = .ok (.iaload, 1) := dk_46 (dk_at dksX4_isHeld_1 15 rfl rfl)
theorem dX4_isHeld_39 : decode cX4_isHeld 39 = .ok (.if_icmp .ge 39, 3) := dk_162 0 39 (dk_at dksX4_isHeld_1 16 rfl rfl)
theorem dX4_isHeld_42 : decode cX4_isHeld 42 = .ok (.iload_n 3, 1) := dk_29 (dk_at dksX4_isHeld_1 19 rfl rfl)
theorem dX4_isHeld_43 : decode cX4_isHeld 43 = .ok (.aload_n 0, 1) := dk_42 (dk_at dksX4_isHeld_1 20 rfl rfl)
theorem dX4_isHeld_44 : decode cX4_isHeld 44 = .ok (.iload 4, 2) := dk_21 4 (dk_at dksX4_isHeld_1 21 rfl rfl)
theorem dX4_isHeld_46 : decode cX4_isHeld 46 = .ok (.iconst 0, 1) := dk_3 (dk_at dksX4_isHeld_1 23 rfl rfl)
theorem dX4_isHeld_47 : decode cX4_isHeld 47 = .ok (.invokevirtual 133, 3) := dk_182 0 133 (dk_at dksX4_isHeld_2 0 rfl rfl)
theorem dX4_isHeld_50 : decode cX4_isHeld 50 = .ok (.iload_n 1, 1) := dk_27 (dk_at dksX4_isHeld_2 3 rfl rfl)
theorem dX4_isHeld_51 : decode cX4_isHeld 51 = .ok (.if_icmp .ne 18, 3) := dk_160 0 18 (dk_at dksX4_isHeld_2 4 rfl rfl)
theorem dX4_isHeld_54 : decode cX4_isHeld 54 = .ok (.aload_n 0, 1) := dk_42 (dk_at dksX4_isHeld_2 7 rfl rfl)
theorem dX4_isHeld_55 : decode cX4_isHeld 55 = .ok (.iload 4, 2) := dk_21 4 (dk_at dksX4_isHeld_2 8 rfl rfl)
theorem dX4_isHeld_57 : decode cX4_isHeld 57 = .ok (.iconst 1, 1) := dk_4 (dk_at dksX4_isHeld_2 10 rfl rfl)
theorem dX4_isHeld_58 : decode cX4_isHeld 58 = .ok (.invokevirtual 133, 3) := dk_182 0 133 (dk_at dksX4_isHeld_2 11 rfl rfl)
theorem dX4_isHeld_61 : decode cX4_isHeld 61 = .ok (.iload_n 2, 1) := dk_28 (dk_at dksX4_isHeld_2 14 rfl rfl)
theorem dX4_isHeld_62 : decode cX4_isHeld 62 = .ok (.if_icmp .ne 7, 3) := dk_160 0 7 (dk_at dksX4_isHeld_2 15 rfl rfl)
theorem dX4_isHeld_65 : decode cX4_isHeld 65 = .ok (.iconst 1, 1) := dk_4 (dk_at dksX4_isHeld_2 18 rfl rfl)
theorem dX4_isHeld_66 : decode cX4_isHeld 66 = .ok (.goto 4, 3) := dk_167 0 4 (dk_at dksX4_isHeld_2 19 rfl rfl)
theorem dX4_isHeld_69 : decode cX4_isHeld 69 = .ok (.iconst 0, 1) := dk_3 (dk_at dksX4_isHeld_2 22 rfl rfl)
theorem dX4_isHeld_70 : decode cX4_isHeld 70 = .ok (.ior, 1) := dk_128 (dk_at dksX4_isHeld_2 23 rfl rfl)
theorem dX4_isHeld_71 : decode cX4_isHeld 71 = .ok (.istore_n 3, 1) := dk_62 (dk_at dksX4_isHeld_3 0 rfl rfl)
theorem dX4_isHeld_72 : decode cX4_isHeld 72 = .ok (.iinc 4 1, 3) := dk_132 4 1 (dk_at dksX4_isHeld_3 1 rfl rfl)
theorem dX4_isHeld_75 : decode cX4_isHeld 75 = .ok (.goto (-44), 3) := dk_167 255 212 (dk_at dksX4_isHeld_3 4 rfl rfl)
theorem dX4_isHeld_78 : decode cX4_isHeld 78 = .ok (.iconst 0, 1) := dk_3 (dk_at dksX4_isHeld_3 7 rfl rfl)
theorem dX4_isHeld_79 : decode cX4_isHeld 79 = .ok (.istore 4, 2) := dk_54 4 (dk_at dksX4_isHeld_3 8 rfl rfl)
theorem dX4_isHeld_81 : decode cX4_isHeld 81 = .ok (.iload 4, 2) := dk_21 4 (dk_at dksX4_isHeld_3 10 rfl rfl)
theorem dX4_isHeld_83 : decode cX4_isHeld 83 = .ok (.aload_n 0, 1) := dk_42 (dk_at dksX4_isHeld_3 12 rfl rfl)
theorem dX4_isHeld_84 : decode cX4_isHeld 84 = .ok (.getfield 9, 3) := dk_180 0 9 (dk_at dksX4_isHeld_3 13 rfl rfl)
theorem dX4_isHeld_87 : decode cX4_isHeld 87 = .ok (.iconst 4, 1) := dk_7 (dk_at dksX4_isHeld_3 16 rfl rfl)
theorem dX4_isHeld_88 : decode cX4_isHeld 88 = .ok (.iaload, 1) := dk_46 (dk_at dksX4_isHeld_3 17 rfl rfl)
theorem dX4_isHeld_89 : decode cX4_isHeld 89 = .ok (.if_icmp .ge 51, 3) := dk_162 0 51 (dk_at dksX4_isHeld_3 18 rfl rfl)
theorem dX4_isHeld_92 : decode cX4_isHeld 92 = .ok (.iload_n 3, 1) := dk_29 (dk_at dksX4_isHeld_3 21 rfl rfl)
theorem dX4_isHeld_93 : decode cX4_isHeld 93 = .ok (.aload_n 0, 1) := dk_42 (dk_at dksX4_isHeld_3 22 rfl rfl)
theorem dX4_isHeld_94 : decode cX4_isHeld 94 = .ok (.iload 4, 2) := dk_21 4 (dk_at dksX4_isHeld_4 0 rfl rfl)
theorem dX4_isHeld_96 : decode cX4_isHeld 96 = .ok (.iconst 3, 1) := dk_6 (dk_at dksX4_isHeld_4 2 rfl rfl)
theorem dX4_isHeld_97 : decode cX4_isHeld 97 = .ok (.invokevirtual 130, 3) := dk_182 0 130 (dk_at dksX4_isHeld_4 3 rfl rfl)
theorem dX4_isHeld_100 : decode cX4_isHeld 100 = .ok (.ifCond .ne 31, 3) := dk_154 0 31 (dk_at dksX4_isHeld_4 6 rfl rfl)
theorem dX4_isHeld_103 : decode cX4_isHeld 103 = .ok (.aload_n 0, 1) := dk_42 (dk_at dksX4_isHeld_4 9 rfl rfl)
theorem dX4_isHeld_104 : decode cX4_isHeld 104 = .ok (.iload 4, 2) := dk_21 4 (dk_at dksX4_isHeld_4 10 rfl rfl)
theorem dX4_isHeld_106 : decode cX4_isHeld 106 = .ok (.bipush 7, 2) := dk_16 7 (dk_at dksX4_isHeld_4 12 rfl rfl)
theorem dX4_isHeld_108 : decode cX4_isHeld 108 = .ok (.invokevirtual 130, 3) := dk_182 0 130 (dk_at dksX4_isHeld_4 14 rfl rfl)
theorem dX4_isHeld_111 : decode cX4_isHeld 111 = .ok (.iload_n 1, 1) := dk_27 (dk_at dksX4_isHeld_4 17 rfl rfl)
theorem dX4_isHeld_112 : decode cX4_isHeld 112 = .ok (.if_icmp .ne 19, 3) := dk_160 0 19 (dk_at dksX4_isHeld_4 18 rfl rfl)
theorem dX4_isHeld_115 : decode cX4_isHeld 115 = .ok (.aload_n 0, 1) := dk_42 (dk_at dksX4_isHeld_4 21 rfl rfl)
theorem dX4_isHeld_116 : decode cX4_isHeld 116 = .ok (.iload 4, 2) := dk_21 4 (dk_at dksX4_isHeld_4 22 rfl rfl)
theorem dX4_isHeld_118 : decode cX4_isHeld 118 = .ok (.bipush 8, 2) := dk_16 8 (dk_at dksX4_isHeld_5 0 rfl rfl)
theorem dX4_isHeld_120 : decode cX4_isHeld 120 = .ok (.invokevirtual 130, 3) := dk_182 0 130 (dk_at dksX4_isHeld_5 2 rfl rfl)
theorem dX4_isHeld_123 : decode cX4_isHeld 123 = .ok (.iload_n 2, 1) := dk_28 (dk_at dksX4_isHeld_5 5 rfl rfl)
theorem dX4_isHeld_124 : decode cX4_isHeld 124 = .ok (.if_icmp .ne 7, 3) := dk_160 0 7 (dk_at dksX4_isHeld_5 6 rfl rfl)
theorem dX4_isHeld_127 : decode cX4_isHeld 127 = .ok (.iconst 1, 1) := dk_4 (dk_at dksX4_isHeld_5 9 rfl rfl)
theorem dX4_isHeld_128 : decode cX4_isHeld 128 = .ok (.goto 4, 3) := dk_167 0 4 (dk_at dksX4_isHeld_5 10 rfl rfl)
theorem dX4_isHeld_131 : decode cX4_isHeld 131 = .ok (.iconst 0, 1) := dk_3 (dk_at dksX4_isHeld_5 13 rfl rfl)
theorem dX4_isHeld_132 : decode cX4_isHeld 132 = .ok (.ior, 1) := dk_128 (dk_at dksX4_isHeld_5 14 rfl rfl)
theorem dX4_isHeld_133 : decode cX4_isHeld 133 = .ok (.istore_n 3, 1) := dk_62 (dk_at dksX4_isHeld_5 15 rfl rfl)
theorem dX4_isHeld_134 : decode cX4_isHeld 134 = .ok (.iinc 4 1, 3) := dk_132 4 1 (dk_at dksX4_isHeld_5 16 rfl rfl)
theorem dX4_isHeld_137 : decode cX4_isHeld 137 = .ok (.goto (-56), 3) := dk_167 255 200 (dk_at dksX4_isHeld_5 19 rfl rfl)
theorem dX4_isHeld_140 : decode cX4_isHeld 140 = .ok (.iload_n 3, 1) := dk_29 (dk_at dksX4_isHeld_5 22 rfl rfl)
theorem dX4_isHeld_141 : decode cX4_isHeld 141 = .ok (.ireturn, 1) := dk_172 (dk_at dksX4_isHeld_5 23 rfl rfl)
abbrev cX4_isGoal : ByteArray := prog_24_method_71_code
def yX4_isGoal : MethodName := ⟨RX4, "isGoal", "(II)Z"⟩
def dkwX4_isGoal_6 : List UInt8 := [5, 184, 0, 164, 46, 28, 160, 0, 7, 4, 167, 0, 4, 3, 128, 62, 132, 4, 1, 167, 255, 173, 29, 172]
abbrev dktX4_isGoal_6 : List UInt8 := dkwX4_isGoal_6 ++ []
def dkwX4_isGoal_5 : List UInt8 := [153, 0, 37, 42, 180, 0, 9, 21, 4, 4, 184, 0, 164, 46, 27, 160, 0, 22, 42, 180, 0, 9, 21, 4]
abbrev dktX4_isGoal_5 : List UInt8 := dkwX4_isGoal_5 ++ dktX4_isGoal_6
def dkwX4_isGoal_4 : List UInt8 := [6, 184, 0, 164, 46, 42, 182, 0, 126, 161, 0, 7, 4, 167, 0, 4, 3, 54, 5, 29, 21, 5]
abbrev dktX4_isGoal_4 : List UInt8 := dkwX4_isGoal_4 ++ dktX4_isGoal_5
def dkwX4_isGoal_3 : List UInt8 := [167, 255, 189, 3, 54, 4, 21, 4, 42, 180, 0, 9, 16, 8, 46, 162, 0, 77, 42, 180, 0, 9, 21, 4]
abbrev dktX4_isGoal_3 : List UInt8 := dkwX4_isGoal_3 ++ dktX4_isGoal_4
def dkwX4_isGoal_2 : List UInt8 := [160, 0, 18, 42, 21, 4, 5, 182, 0, 130, 28, 160, 0, 7, 4, 167, 0, 4, 3, 128, 62, 132, 4, 1]
abbrev dktX4_isGoal_2 : List UInt8 := dkwX4_isGoal_2 ++ dktX4_isGoal_3
def dkwX4_isGoal_1 : List UInt8 := [163, 0, 7, 4, 167, 0, 4, 3, 54, 5, 29, 21, 5, 153, 0, 29, 42, 21, 4, 4, 182, 0, 130, 27]
abbrev dktX4_isGoal_1 : List UInt8 := dkwX4_isGoal_1 ++ dktX4_isGoal_2
def dkwX4_isGoal_0 : List UInt8 := [3, 62, 3, 54, 4, 21, 4, 42, 180, 0, 9, 7, 46, 162, 0, 62, 42, 21, 4, 6, 182, 0, 130, 4]
abbrev dktX4_isGoal_0 : List UInt8 := dkwX4_isGoal_0 ++ dktX4_isGoal_1
theorem dksX4_isGoal_0 : cX4_isGoal.data.toList.drop 0 = dktX4_isGoal_0 := by decide +kernel
theorem dksX4_isGoal_1 : cX4_isGoal.data.toList.drop 24 = dktX4_isGoal_1 := dk_seg dksX4_isGoal_0 24 rfl rfl
theorem dksX4_isGoal_2 : cX4_isGoal.data.toList.drop 48 = dktX4_isGoal_2 := dk_seg dksX4_isGoal_1 24 rfl rfl
theorem dksX4_isGoal_3 : cX4_isGoal.data.toList.drop 72 = dktX4_isGoal_3 := dk_seg dksX4_isGoal_2 24 rfl rfl
theorem dksX4_isGoal_4 : cX4_isGoal.data.toList.drop 96 = dktX4_isGoal_4 := dk_seg dksX4_isGoal_3 24 rfl rfl
theorem dksX4_isGoal_5 : cX4_isGoal.data.toList.drop 118 = dktX4_isGoal_5 := dk_seg dksX4_isGoal_4 22 rfl rfl
theorem dksX4_isGoal_6 : cX4_isGoal.data.toList.drop 142 = dktX4_isGoal_6 := dk_seg dksX4_isGoal_5 24 rfl rfl
theorem dX4_isGoal_0 : decode cX4_isGoal 0 = .ok (.iconst 0, 1) := dk_3 (dk_at dksX4_isGoal_0 0 rfl rfl)
theorem dX4_isGoal_1 : decode cX4_isGoal 1 = .ok (.istore_n 3, 1) := dk_62 (dk_at dksX4_isGoal_0 1 rfl rfl)
theorem dX4_isGoal_2 : decode cX4_isGoal 2 = .ok (.iconst 0, 1) := dk_3 (dk_at dksX4_isGoal_0 2 rfl rfl)
theorem dX4_isGoal_3 : decode cX4_isGoal 3 = .ok (.istore 4, 2) := dk_54 4 (dk_at dksX4_isGoal_0 3 rfl rfl)
theorem dX4_isGoal_5 : decode cX4_isGoal 5 = .ok (.iload 4, 2) := dk_21 4 (dk_at dksX4_isGoal_0 5 rfl rfl)
theorem dX4_isGoal_7 : decode cX4_isGoal 7 = .ok (.aload_n 0, 1) := dk_42 (dk_at dksX4_isGoal_0 7 rfl rfl)
theorem dX4_isGoal_8 : decode cX4_isGoal 8 = .ok (.getfield 9, 3) := dk_180 0 9 (dk_at dksX4_isGoal_0 8 rfl rfl)
theorem dX4_isGoal_11 : decode cX4_isGoal 11 = .ok (.iconst 4, 1) := dk_7 (dk_at dksX4_isGoal_0 11 rfl rfl)
theorem dX4_isGoal_12 : decode cX4_isGoal 12 = .ok (.iaload, 1) := dk_46 (dk_at dksX4_isGoal_0 12 rfl rfl)
theorem dX4_isGoal_13 : decode cX4_isGoal 13 = .ok (.if_icmp .ge 62, 3) := dk_162 0 62 (dk_at dksX4_isGoal_0 13 rfl rfl)
theorem dX4_isGoal_16 : decode cX4_isGoal 16 = .ok (.aload_n 0, 1) := dk_42 (dk_at dksX4_isGoal_0 16 rfl rfl)
theorem dX4_isGoal_17 : decode cX4_isGoal 17 = .ok (.iload 4, 2) := dk_21 4 (dk_at dksX4_isGoal_0 17 rfl rfl)
theorem dX4_isGoal_19 : decode cX4_isGoal 19 = .ok (.iconst 3, 1) := dk_6 (dk_at dksX4_isGoal_0 19 rfl rfl)
theorem dX4_isGoal_20 : decode cX4_isGoal 20 = .ok (.invokevirtual 130, 3) := dk_182 0 130 (dk_at dksX4_isGoal_0 20 rfl rfl)
theorem dX4_isGoal_23 : decode cX4_isGoal 23 = .ok (.iconst 1, 1) := dk_4 (dk_at dksX4_isGoal_0 23 rfl rfl)
theorem dX4_isGoal_24 : decode cX4_isGoal 24 = .ok (.if_icmp .gt 7, 3) := dk_163 0 7 (dk_at dksX4_isGoal_1 0 rfl rfl)
theorem dX4_isGoal_27 : decode cX4_isGoal 27 = .ok (.iconst 1, 1) := dk_4 (dk_at dksX4_isGoal_1 3 rfl rfl)
theorem dX4_isGoal_28 : decode cX4_isGoal 28 = .ok (.goto 4, 3) := dk_167 0 4 (dk_at dksX4_isGoal_1 4 rfl rfl)
theorem dX4_isGoal_31 : decode cX4_isGoal 31 = .ok (.iconst 0, 1) := dk_3 (dk_at dksX4_isGoal_1 7 rfl rfl)
theorem dX4_isGoal_32 : decode cX4_isGoal 32 = .ok (.istore 5, 2) := dk_54 5 (dk_at dksX4_isGoal_1 8 rfl rfl)
theorem dX4_isGoal_34 : decode cX4_isGoal 34 = .ok (.iload_n 3, 1) := dk_29 (dk_at dksX4_isGoal_1 10 rfl rfl)
theorem dX4_isGoal_35 : decode cX4_isGoal 35 = .ok (.iload 5, 2) := dk_21 5 (dk_at dksX4_isGoal_1 11 rfl rfl)
theorem dX4_isGoal_37 : decode cX4_isGoal 37 = .ok (.ifCond .eq 29, 3) := dk_153 0 29 (dk_at dksX4_isGoal_1 13 rfl rfl)
theorem dX4_isGoal_40 : decode cX4_isGoal 40 = .ok (.aload_n 0, 1) := dk_42 (dk_at dksX4_isGoal_1 16 rfl rfl)
theorem dX4_isGoal_41 : decode cX4_isGoal 41 = .ok (.iload 4, 2) := dk_21 4 (dk_at dksX4_isGoal_1 17 rfl rfl)
theorem dX4_isGoal_43 : decode cX4_isGoal 43 = .ok (.iconst 1, 1) := dk_4 (dk_at dksX4_isGoal_1 19 rfl rfl)
theorem dX4_isGoal_44 : decode cX4_isGoal 44 = .ok (.invokevirtual 130, 3) := dk_182 0 130 (dk_at dksX4_isGoal_1 20 rfl rfl)
theorem dX4_isGoal_47 : decode cX4_isGoal 47 = .ok (.iload_n 1, 1) := dk_27 (dk_at dksX4_isGoal_1 23 rfl rfl)
theorem dX4_isGoal_48 : decode cX4_isGoal 48 = .ok (.if_icmp .ne 18, 3) := dk_160 0 18 (dk_at dksX4_isGoal_2 0 rfl rfl)
theorem dX4_isGoal_51 : decode cX4_isGoal 51 = .ok (.aload_n 0, 1) := dk_42 (dk_at dksX4_isGoal_2 3 rfl rfl)
theorem dX4_isGoal_52 : decode cX4_isGoal 52 = .ok (.iload 4, 2) := dk_21 4 (dk_at dksX4_isGoal_2 4 rfl rfl)
theorem dX4_isGoal_54 : decode cX4_isGoal 54 = .ok (.iconst 2, 1) := dk_5 (dk_at dksX4_isGoal_2 6 rfl rfl)
theorem dX4_isGoal_55 : decode cX4_isGoal 55 = .ok (.invokevirtual 130, 3) := dk_182 0 130 (dk_at dksX4_isGoal_2 7 rfl rfl)
theorem dX4_isGoal_58 : decode cX4_isGoal 58 = .ok (.iload_n 2, 1) := dk_28 (dk_at dksX4_isGoal_2 10 rfl rfl)
theorem dX4_isGoal_59 : decode cX4_isGoal 59 = .ok (.if_icmp .ne 7, 3) := dk_160 0 7 (dk_at dksX4_isGoal_2 11 rfl rfl)
theorem dX4_isGoal_62 : decode cX4_isGoal 62 = .ok (.iconst 1, 1) := dk_4 (dk_at dksX4_isGoal_2 14 rfl rfl)
theorem dX4_isGoal_63 : decode cX4_isGoal 63 = .ok (.goto 4, 3) := dk_167 0 4 (dk_at dksX4_isGoal_2 15 rfl rfl)
theorem dX4_isGoal_66 : decode cX4_isGoal 66 = .ok (.iconst 0, 1) := dk_3 (dk_at dksX4_isGoal_2 18 rfl rfl)
theorem dX4_isGoal_67 : decode cX4_isGoal 67 = .ok (.ior, 1) := dk_128 (dk_at dksX4_isGoal_2 19 rfl rfl)
theorem dX4_isGoal_68 : decode cX4_isGoal 68 = .ok (.istore_n 3, 1) := dk_62 (dk_at dksX4_isGoal_2 20 rfl rfl)
theorem dX4_isGoal_69 : decode cX4_isGoal 69 = .ok (.iinc 4 1, 3) := dk_132 4 1 (dk_at dksX4_isGoal_2 21 rfl rfl)
theorem dX4_isGoal_72 : decode cX4_isGoal 72 = .ok (.goto (-67), 3) := dk_167 255 189 (dk_at dksX4_isGoal_3 0 rfl rfl)
theorem dX4_isGoal_75 : decode cX4_isGoal 75 = .ok (.iconst 0, 1) := dk_3 (dk_at dksX4_isGoal_3 3 rfl rfl)
theorem dX4_isGoal_76 : decode cX4_isGoal 76 = .ok (.istore 4, 2) := dk_54 4 (dk_at dksX4_isGoal_3 4 rfl rfl)
theorem dX4_isGoal_78 : decode cX4_isGoal 78 = .ok (.iload 4, 2) := dk_21 4 (dk_at dksX4_isGoal_3 6 rfl rfl)
theorem dX4_isGoal_80 : decode cX4_isGoal 80 = .ok (.aload_n 0, 1) := dk_42 (dk_at dksX4_isGoal_3 8 rfl rfl)
theorem dX4_isGoal_81 : decode cX4_isGoal 81 = .ok (.getfield 9, 3) := dk_180 0 9 (dk_at dksX4_isGoal_3 9 rfl rfl)
theorem dX4_isGoal_84 : decode cX4_isGoal 84 = .ok (.bipush 8, 2) := dk_16 8 (dk_at dksX4_isGoal_3 12 rfl rfl)
theorem dX4_isGoal_86 : decode cX4_isGoal 86 = .ok (.iaload, 1) := dk_46 (dk_at dksX4_isGoal_3 14 rfl rfl)
theorem dX4_isGoal_87 : decode cX4_isGoal 87 = .ok (.if_icmp .ge 77, 3) := dk_162 0 77 (dk_at dksX4_isGoal_3 15 rfl rfl)
theorem dX4_isGoal_90 : decode cX4_isGoal 90 = .ok (.aload_n 0, 1) := dk_42 (dk_at dksX4_isGoal_3 18 rfl rfl)
theorem dX4_isGoal_91 : decode cX4_isGoal 91 = .ok (.getfield 9, 3) := dk_180 0 9 (dk_at dksX4_isGoal_3 19 rfl rfl)
theorem dX4_isGoal_94 : decode cX4_isGoal 94 = .ok (.iload 4, 2) := dk_21 4 (dk_at dksX4_isGoal_3 22 rfl rfl)
theorem dX4_isGoal_96 : decode cX4_isGoal 96 = .ok (.iconst 3, 1) := dk_6 (dk_at dksX4_isGoal_4 0 rfl rfl)
theorem dX4_isGoal_97 : decode cX4_isGoal 97 = .ok (.invokestatic 164, 3) := dk_184 0 164 (dk_at dksX4_isGoal_4 1 rfl rfl)
theorem dX4_isGoal_100 : decode cX4_isGoal 100 = .ok (.iaload, 1) := dk_46 (dk_at dksX4_isGoal_4 4 rfl rfl)
theorem dX4_isGoal_101 : decode cX4_isGoal 101 = .ok (.aload_n 0, 1) := dk_42 (dk_at dksX4_isGoal_4 5 rfl rfl)
theorem dX4_isGoal_102 : decode cX4_isGoal 102 = .ok (.invokevirtual 126, 3) := dk_182 0 126 (dk_at dksX4_isGoal_4 6 rfl rfl)
theorem dX4_isGoal_105 : decode cX4_isGoal 105 = .ok (.if_icmp .lt 7, 3) := dk_161 0 7 (dk_at dksX4_isGoal_4 9 rfl rfl)
theorem dX4_isGoal_108 : decode cX4_isGoal 108 = .ok (.iconst 1, 1) := dk_4 (dk_at dksX4_isGoal_4 12 rfl rfl)
theorem dX4_isGoal_109 : decode cX4_isGoal 109 = .ok (.goto 4, 3) := dk_167 0 4 (dk_at dksX4_isGoal_4 13 rfl rfl)
theorem dX4_isGoal_112 : decode cX4_isGoal 112 = .ok (.iconst 0, 1) := dk_3 (dk_at dksX4_isGoal_4 16 rfl rfl)
theorem dX4_isGoal_113 : decode cX4_isGoal 113 = .ok (.istore 5, 2) := dk_54 5 (dk_at dksX4_isGoal_4 17 rfl rfl)
theorem dX4_isGoal_115 : decode cX4_isGoal 115 = .ok (.iload_n 3, 1) := dk_29 (dk_at dksX4_isGoal_4 19 rfl rfl)
theorem dX4_isGoal_116 : decode cX4_isGoal 116 = .ok (.iload 5, 2) := dk_21 5 (dk_at dksX4_isGoal_4 20 rfl rfl)
theorem dX4_isGoal_118 : decode cX4_isGoal 118 = .ok (.ifCond .eq 37, 3) := dk_153 0 37 (dk_at dksX4_isGoal_5 0 rfl rfl)
theorem dX4_isGoal_121 : decode cX4_isGoal 121 = .ok (.aload_n 0, 1) := dk_42 (dk_at dksX4_isGoal_5 3 rfl rfl)
theorem dX4_isGoal_122 : decode cX4_isGoal 122 = .ok (.getfield 9, 3) := dk_180 0 9 (dk_at dksX4_isGoal_5 4 rfl rfl)
theorem dX4_isGoal_125 : decode cX4_isGoal 125 = .ok (.iload 4, 2) := dk_21 4 (dk_at dksX4_isGoal_5 7 rfl rfl)
theorem dX4_isGoal_127 : decode cX4_isGoal 127 = .ok (.iconst 1, 1) := dk_4 (dk_at dksX4_isGoal_5 9 rfl rfl)
theorem dX4_isGoal_128 : decode cX4_isGoal 128 = .ok (.invokestatic 164, 3) := dk_184 0 164 (dk_at dksX4_isGoal_5 10 rfl rfl)
theorem dX4_isGoal_131 : decode cX4_isGoal 131 = .ok (.iaload, 1) := dk_46 (dk_at dksX4_isGoal_5 13 rfl rfl)
theorem dX4_isGoal_132 : decode cX4_isGoal 132 = .ok (.iload_n 1, 1) := dk_27 (dk_at dksX4_isGoal_5 14 rfl rfl)
theorem dX4_isGoal_133 : decode cX4_isGoal 133 = .ok (.if_icmp .ne 22, 3) := dk_160 0 22 (dk_at dksX4_isGoal_5 15 rfl rfl)
theorem dX4_isGoal_136 : decode cX4_isGoal 136 = .ok (.aload_n 0, 1) := dk_42 (dk_at dksX4_isGoal_5 18 rfl rfl)
theorem dX4_isGoal_137 : decode cX4_isGoal 137 = .ok (.getfield 9, 3) := dk_180 0 9 (dk_at dksX4_isGoal_5 19 rfl rfl)
theorem dX4_isGoal_140 : decode cX4_isGoal 140 = .ok (.iload 4, 2) := dk_21 4 (dk_at dksX4_isGoal_5 22 rfl rfl)
theorem dX4_isGoal_142 : decode cX4_isGoal 142 = .ok (.iconst 2, 1) := dk_5 (dk_at dksX4_isGoal_6 0 rfl rfl)
theorem dX4_isGoal_143 : decode cX4_isGoal 143 = .ok (.invokestatic 164, 3) := dk_184 0 164 (dk_at dksX4_isGoal_6 1 rfl rfl)
theorem dX4_isGoal_146 : decode cX4_isGoal 146 = .ok (.iaload, 1) := dk_46 (dk_at dksX4_isGoal_6 4 rfl rfl)
theorem dX4_isGoal_147 : decode cX4_isGoal 147 = .ok (.iload_n 2, 1) := dk_28 (dk_at dksX4_isGoal_6 5 rfl rfl)
theorem dX4_isGoal_148 : decode cX4_isGoal 148 = .ok (.if_icmp .ne 7, 3) := dk_160 0 7 (dk_at dksX4_isGoal_6 6 rfl rfl)
theorem dX4_isGoal_151 : decode cX4_isGoal 151 = .ok (.iconst 1, 1) := dk_4 (dk_at dksX4_isGoal_6 9 rfl rfl)
theorem dX4_isGoal_152 : decode cX4_isGoal 152 = .ok (.goto 4, 3) := dk_167 0 4 (dk_at dksX4_isGoal_6 10 rfl rfl)
theorem dX4_isGoal_155 : decode cX4_isGoal 155 = .ok (.iconst 0, 1) := dk_3 (dk_at dksX4_isGoal_6 13 rfl rfl)
theorem dX4_isGoal_156 : decode cX4_isGoal 156 = .ok (.ior, 1) := dk_128 (dk_at dksX4_isGoal_6 14 rfl rfl)
theorem dX4_isGoal_157 : decode cX4_isGoal 157 = .ok (.istore_n 3, 1) := dk_62 (dk_at dksX4_isGoal_6 15 rfl rfl)
theorem dX4_isGoal_158 : decode cX4_isGoal 158 = .ok (.iinc 4 1, 3) := dk_132 4 1 (dk_at dksX4_isGoal_6 16 rfl rfl)
theorem dX4_isGoal_161 : decode cX4_isGoal 161 = .ok (.goto (-83), 3) := dk_167 255 173 (dk_at dksX4_isGoal_6 19 rfl rfl)
theorem dX4_isGoal_164 : decode cX4_isGoal 164 = .ok (.iload_n 3, 1) := dk_29 (dk_at dksX4_isGoal_6 22 rfl rfl)
theorem dX4_isGoal_165 : decode cX4_isGoal 165 = .ok (.ireturn, 1) := dk_172 (dk_at dksX4_isGoal_6 23 rfl rfl)
abbrev cX4_movePicket : ByteArray := prog_24_method_73_code
def yX4_movePicket : MethodName := ⟨RX4, "movePicket", "(III)I"⟩
def dkwX4_movePicket_2 : List UInt8 := [4, 184, 0, 84, 29, 79, 42, 27, 42, 182, 0, 126, 182, 0, 123, 153, 0, 7, 4, 167, 0, 4, 3, 172]
abbrev dktX4_movePicket_2 : List UInt8 := dkwX4_movePicket_2 ++ []
def dkwX4_movePicket_1 : List UInt8 := [182, 0, 192, 172, 42, 182, 0, 232, 42, 180, 0, 9, 27, 3, 184, 0, 84, 28, 79, 42, 180, 0, 9, 27]
abbrev dktX4_movePicket_1 : List UInt8 := dkwX4_movePicket_1 ++ dktX4_movePicket_2
def dkwX4_movePicket_0 : List UInt8 := [42, 3, 181, 0, 77, 42, 27, 182, 0, 201, 153, 0, 12, 42, 28, 29, 182, 0, 94, 154, 0, 9, 42, 4]
abbrev dktX4_movePicket_0 : List UInt8 := dkwX4_movePicket_0 ++ dktX4_movePicket_1
theorem dksX4_movePicket_0 : cX4_movePicket.data.toList.drop 0 = dktX4_movePicket_0 := by decide +kernel
theorem dksX4_movePicket_1 : cX4_movePicket.data.toList.drop 24 = dktX4_movePicket_1 := dk_seg dksX4_movePicket_0 24 rfl rfl
theorem dksX4_movePicket_2 : cX4_movePicket.data.toList.drop 48 = dktX4_movePicket_2 := dk_seg dksX4_movePicket_1 24 rfl rfl
theorem dX4_movePicket_0 : decode cX4_movePicket 0 = .ok (.aload_n 0, 1) := dk_42 (dk_at dksX4_movePicket_0 0 rfl rfl)
theorem dX4_movePicket_1 : decode cX4_movePicket 1 = .ok (.iconst 0, 1) := dk_3 (dk_at dksX4_movePicket_0 1 rfl rfl)
theorem dX4_movePicket_2 : decode cX4_movePicket 2 = .ok (.putfield 77, 3) := dk_181 0 77 (dk_at dksX4_movePicket_0 2 rfl rfl)
theorem dX4_movePicket_5 : decode cX4_movePicket 5 = .ok (.aload_n 0, 1) := dk_42 (dk_at dksX4_movePicket_0 5 rfl rfl)
theorem dX4_movePicket_6 : decode cX4_movePicket 6 = .ok (.iload_n 1, 1) := dk_27 (dk_at dksX4_movePicket_0 6 rfl rfl)
theorem dX4_movePicket_7 : decode cX4_movePicket 7 = .ok (.invokevirtual 201, 3) := dk_182 0 201 (dk_at dksX4_movePicket_0 7 rfl rfl)
theorem dX4_movePicket_10 : decode cX4_movePicket 10 = .ok (.ifCond .eq 12, 3) := dk_153 0 12 (dk_at dksX4_movePicket_0 10 rfl rfl)
theorem dX4_movePicket_13 : decode cX4_movePicket 13 = .ok (.aload_n 0, 1) := dk_42 (dk_at dksX4_movePicket_0 13 rfl rfl)
theorem dX4_movePicket_14 : decode cX4_movePicket 14 = .ok (.iload_n 2, 1) := dk_28 (dk_at dksX4_movePicket_0 14 rfl rfl)
theorem dX4_movePicket_15 : decode cX4_movePicket 15 = .ok (.iload_n 3, 1) := dk_29 (dk_at dksX4_movePicket_0 15 rfl rfl)
theorem dX4_movePicket_16 : decode cX4_movePicket 16 = .ok (.invokevirtual 94, 3) := dk_182 0 94 (dk_at dksX4_movePicket_0 16 rfl rfl)
theorem dX4_movePicket_19 : decode cX4_movePicket 19 = .ok (.ifCond .ne 9, 3) := dk_154 0 9 (dk_at dksX4_movePicket_0 19 rfl rfl)
theorem dX4_movePicket_22 : decode cX4_movePicket 22 = .ok (.aload_n 0, 1) := dk_42 (dk_at dksX4_movePicket_0 22 rfl rfl)
theorem dX4_movePicket_23 : decode cX4_movePicket 23 = .ok (.iconst 1, 1) := dk_4 (dk_at dksX4_movePicket_0 23 rfl rfl)
theorem dX4_movePicket_24 : decode cX4_movePicket 24 = .ok (.invokevirtual 192, 3) := dk_182 0 192 (dk_at dksX4_movePicket_1 0 rfl rfl)
theorem dX4_movePicket_27 : decode cX4_movePicket 27 = .ok (.ireturn, 1) := dk_172 (dk_at dksX4_movePicket_1 3 rfl rfl)
theorem dX4_movePicket_28 : decode cX4_movePicket 28 = .ok (.aload_n 0, 1) := dk_42 (dk_at dksX4_movePicket_1 4 rfl rfl)
theorem dX4_movePicket_29 : decode cX4_movePicket 29 = .ok (.invokevirtual 232, 3) := dk_182 0 232 (dk_at dksX4_movePicket_1 5 rfl rfl)
theorem dX4_movePicket_32 : decode cX4_movePicket 32 = .ok (.aload_n 0, 1) := dk_42 (dk_at dksX4_movePicket_1 8 rfl rfl)
theorem dX4_movePicket_33 : decode cX4_movePicket 33 = .ok (.getfield 9, 3) := dk_180 0 9 (dk_at dksX4_movePicket_1 9 rfl rfl)
theorem dX4_movePicket_36 : decode cX4_movePicket 36 = .ok (.iload_n 1, 1) := dk_27 (dk_at dksX4_movePicket_1 12 rfl rfl)
theorem dX4_movePicket_37 : decode cX4_movePicket 37 = .ok (.iconst 0, 1) := dk_3 (dk_at dksX4_movePicket_1 13 rfl rfl)
theorem dX4_movePicket_38 : decode cX4_movePicket 38 = .ok (.invokestatic 84, 3) := dk_184 0 84 (dk_at dksX4_movePicket_1 14 rfl rfl)
theorem dX4_movePicket_41 : decode cX4_movePicket 41 = .ok (.iload_n 2, 1) := dk_28 (dk_at dksX4_movePicket_1 17 rfl rfl)
theorem dX4_movePicket_42 : decode cX4_movePicket 42 = .ok (.iastore, 1) := dk_79 (dk_at dksX4_movePicket_1 18 rfl rfl)
theorem dX4_movePicket_43 : decode cX4_movePicket 43 = .ok (.aload_n 0, 1) := dk_42 (dk_at dksX4_movePicket_1 19 rfl rfl)
theorem dX4_movePicket_44 : decode cX4_movePicket 44 = .ok (.getfield 9, 3) := dk_180 0 9 (dk_at dksX4_movePicket_1 20 rfl rfl)
theorem dX4_movePicket_47 : decode cX4_movePicket 47 = .ok (.iload_n 1, 1) := dk_27 (dk_at dksX4_movePicket_1 23 rfl rfl)
theorem dX4_movePicket_48 : decode cX4_movePicket 48 = .ok (.iconst 1, 1) := dk_4 (dk_at dksX4_movePicket_2 0 rfl rfl)
theorem dX4_movePicket_49 : decode cX4_movePicket 49 = .ok (.invokestatic 84, 3) := dk_184 0 84 (dk_at dksX4_movePicket_2 1 rfl rfl)
theorem dX4_movePicket_52 : decode cX4_movePicket 52 = .ok (.iload_n 3, 1) := dk_29 (dk_at dksX4_movePicket_2 4 rfl rfl)
theorem dX4_movePicket_53 : decode cX4_movePicket 53 = .ok (.iastore, 1) := dk_79 (dk_at dksX4_movePicket_2 5 rfl rfl)
theorem dX4_movePicket_54 : decode cX4_movePicket 54 = .ok (.aload_n 0, 1) := dk_42 (dk_at dksX4_movePicket_2 6 rfl rfl)
theorem dX4_movePicket_55 : decode cX4_movePicket 55 = .ok (.iload_n 1, 1) := dk_27 (dk_at dksX4_movePicket_2 7 rfl rfl)
theorem dX4_movePicket_56 : decode cX4_movePicket 56 = .ok (.aload_n 0, 1) := dk_42 (dk_at dksX4_movePicket_2 8 rfl rfl)
theorem dX4_movePicket_57 : decode cX4_movePicket 57 = .ok (.invokevirtual 126, 3) := dk_182 0 126 (dk_at dksX4_movePicket_2 9 rfl rfl)
theorem dX4_movePicket_60 : decode cX4_movePicket 60 = .ok (.invokevirtual 123, 3) := dk_182 0 123 (dk_at dksX4_movePicket_2 12 rfl rfl)
theorem dX4_movePicket_63 : decode cX4_movePicket 63 = .ok (.ifCond .eq 7, 3) := dk_153 0 7 (dk_at dksX4_movePicket_2 15 rfl rfl)
theorem dX4_movePicket_66 : decode cX4_movePicket 66 = .ok (.iconst 1, 1) := dk_4 (dk_at dksX4_movePicket_2 18 rfl rfl)
theorem dX4_movePicket_67 : decode cX4_movePicket 67 = .ok (.goto 4, 3) := dk_167 0 4 (dk_at dksX4_movePicket_2 19 rfl rfl)
theorem dX4_movePicket_70 : decode cX4_movePicket 70 = .ok (.iconst 0, 1) := dk_3 (dk_at dksX4_movePicket_2 22 rfl rfl)
theorem dX4_movePicket_71 : decode cX4_movePicket 71 = .ok (.ireturn, 1) := dk_172 (dk_at dksX4_movePicket_2 23 rfl rfl)
abbrev cX4_movePlan : ByteArray := prog_24_method_74_code
def yX4_movePlan : MethodName := ⟨RX4, "movePlan", "(II)I"⟩
def dkwX4_movePlan_3 : List UInt8 := [180, 0, 9, 27, 6, 184, 0, 164, 28, 79, 29, 172]
abbrev dktX4_movePlan_3 : List UInt8 := dkwX4_movePlan_3 ++ []
def dkwX4_movePlan_2 : List UInt8 := [27, 6, 184, 0, 164, 46, 62, 29, 42, 182, 0, 126, 162, 0, 6, 16, 254, 172, 42, 182, 0, 232, 42]
abbrev dktX4_movePlan_2 : List UInt8 := dkwX4_movePlan_2 ++ dktX4_movePlan_3
def dkwX4_movePlan_1 : List UInt8 := [153, 0, 7, 3, 167, 0, 4, 5, 181, 0, 77, 42, 180, 0, 77, 153, 0, 5, 3, 172, 42, 180, 0, 9]
abbrev dktX4_movePlan_1 : List UInt8 := dkwX4_movePlan_1 ++ dktX4_movePlan_2
def dkwX4_movePlan_0 : List UInt8 := [42, 42, 27, 182, 0, 207, 154, 0, 7, 4, 167, 0, 22, 28, 42, 182, 0, 126, 17, 1, 243, 184, 0, 90]
abbrev dktX4_movePlan_0 : List UInt8 := dkwX4_movePlan_0 ++ dktX4_movePlan_1
theorem dksX4_movePlan_0 : cX4_movePlan.data.toList.drop 0 = dktX4_movePlan_0 := by decide +kernel
theorem dksX4_movePlan_1 : cX4_movePlan.data.toList.drop 24 = dktX4_movePlan_1 := dk_seg dksX4_movePlan_0 24 rfl rfl
theorem dksX4_movePlan_2 : cX4_movePlan.data.toList.drop 48 = dktX4_movePlan_2 := dk_seg dksX4_movePlan_1 24 rfl rfl
theorem dksX4_movePlan_3 : cX4_movePlan.data.toList.drop 71 = dktX4_movePlan_3 := dk_seg dksX4_movePlan_2 23 rfl rfl
theorem dX4_movePlan_0 : decode cX4_movePlan 0 = .ok (.aload_n 0, 1) := dk_42 (dk_at dksX4_movePlan_0 0 rfl rfl)
theorem dX4_movePlan_1 : decode cX4_movePlan 1 = .ok (.aload_n 0, 1) := dk_42 (dk_at dksX4_movePlan_0 1 rfl rfl)
theorem dX4_movePlan_2 : decode cX4_movePlan 2 = .ok (.iload_n 1, 1) := dk_27 (dk_at dksX4_movePlan_0 2 rfl rfl)
theorem dX4_movePlan_3 : decode cX4_movePlan 3 = .ok (.invokevirtual 207, 3) := dk_182 0 207 (dk_at dksX4_movePlan_0 3 rfl rfl)
theorem dX4_movePlan_6 : decode cX4_movePlan 6 = .ok (.ifCond .ne 7, 3) := dk_154 0 7 (dk_at dksX4_movePlan_0 6 rfl rfl)
theorem dX4_movePlan_9 : decode cX4_movePlan 9 = .ok (.iconst 1, 1) := dk_4 (dk_at dksX4_movePlan_0 9 rfl rfl)
theorem dX4_movePlan_10 : decode cX4_movePlan 10 = .ok (.goto 22, 3) := dk_167 0 22 (dk_at dksX4_movePlan_0 10 rfl rfl)
theorem dX4_movePlan_13 : decode cX4_movePlan 13 = .ok (.iload_n 2, 1) := dk_28 (dk_at dksX4_movePlan_0 13 rfl rfl)
theorem dX4_movePlan_14 : decode cX4_movePlan 14 = .ok (.aload_n 0, 1) := dk_42 (dk_at dksX4_movePlan_0 14 rfl rfl)
theorem dX4_movePlan_15 : decode cX4_movePlan 15 = .ok (.invokevirtual 126, 3) := dk_182 0 126 (dk_at dksX4_movePlan_0 15 rfl rfl)
theorem dX4_movePlan_18 : decode cX4_movePlan 18 = .ok (.sipush 499, 3) := dk_17 1 243 (dk_at dksX4_movePlan_0 18 rfl rfl)
theorem dX4_movePlan_21 : decode cX4_movePlan 21 = .ok (.invokestatic 90, 3) := dk_184 0 90 (dk_at dksX4_movePlan_0 21 rfl rfl)
theorem dX4_movePlan_24 : decode cX4_movePlan 24 = .ok (.ifCond .eq 7, 3) := dk_153 0 7 (dk_at dksX4_movePlan_1 0 rfl rfl)
theorem dX4_movePlan_27 : decode cX4_movePlan 27 = .ok (.iconst 0, 1) := dk_3 (dk_at dksX4_movePlan_1 3 rfl rfl)
theorem dX4_movePlan_28 : decode cX4_movePlan 28 = .ok (.goto 4, 3) := dk_167 0 4 (dk_at dksX4_movePlan_1 4 rfl rfl)
theorem dX4_movePlan_31 : decode cX4_movePlan 31 = .ok (.iconst 2, 1) := dk_5 (dk_at dksX4_movePlan_1 7 rfl rfl)
theorem dX4_movePlan_32 : decode cX4_movePlan 32 = .ok (.putfield 77, 3) := dk_181 0 77 (dk_at dksX4_movePlan_1 8 rfl rfl)
theorem dX4_movePlan_35 : decode cX4_movePlan 35 = .ok (.aload_n 0, 1) := dk_42 (dk_at dksX4_movePlan_1 11 rfl rfl)
theorem dX4_movePlan_36 : decode cX4_movePlan 36 = .ok (.getfield 77, 3) := dk_180 0 77 (dk_at dksX4_movePlan_1 12 rfl rfl)
theorem dX4_movePlan_39 : decode cX4_movePlan 39 = .ok (.ifCond .eq 5, 3) := dk_153 0 5 (dk_at dksX4_movePlan_1 15 rfl rfl)
theorem dX4_movePlan_42 : decode cX4_movePlan 42 = .ok (.iconst 0, 1) := dk_3 (dk_at dksX4_movePlan_1 18 rfl rfl)
theorem dX4_movePlan_43 : decode cX4_movePlan 43 = .ok (.ireturn, 1) := dk_172 (dk_at dksX4_movePlan_1 19 rfl rfl)
theorem dX4_movePlan_44 : decode cX4_movePlan 44 = .ok (.aload_n 0, 1) := dk_42 (dk_at dksX4_movePlan_1 20 rfl rfl)
theorem dX4_movePlan_45 : decode cX4_movePlan 45 = .ok (.getfield 9, 3) := dk_180 0 9 (dk_at dksX4_movePlan_1 21 rfl rfl)
theorem dX4_movePlan_48 : decode cX4_movePlan 48 = .ok (.iload_n 1, 1) := dk_27 (dk_at dksX4_movePlan_2 0 rfl rfl)
theorem dX4_movePlan_49 : decode cX4_movePlan 49 = .ok (.iconst 3, 1) := dk_6 (dk_at dksX4_movePlan_2 1 rfl rfl)
theorem dX4_movePlan_50 : decode cX4_movePlan 50 = .ok (.invokestatic 164, 3) := dk_184 0 164 (dk_at dksX4_movePlan_2 2 rfl rfl)
theorem dX4_movePlan_53 : decode cX4_movePlan 53 = .ok (.iaload, 1) := dk_46 (dk_at dksX4_movePlan_2 5 rfl rfl)
theorem dX4_movePlan_54 : decode cX4_movePlan 54 = .ok (.istore_n 3, 1) := dk_62 (dk_at dksX4_movePlan_2 6 rfl rfl)
theorem dX4_movePlan_55 : decode cX4_movePlan 55 = .ok (.iload_n 3, 1) := dk_29 (dk_at dksX4_movePlan_2 7 rfl rfl)
theorem dX4_movePlan_56 : decode cX4_movePlan 56 = .ok (.aload_n 0, 1) := dk_42 (dk_at dksX4_movePlan_2 8 rfl rfl)
theorem dX4_movePlan_57 : decode cX4_movePlan 57 = .ok (.invokevirtual 126, 3) := dk_182 0 126 (dk_at dksX4_movePlan_2 9 rfl rfl)
theorem dX4_movePlan_60 : decode cX4_movePlan 60 = .ok (.if_icmp .ge 6, 3) := dk_162 0 6 (dk_at dksX4_movePlan_2 12 rfl rfl)
theorem dX4_movePlan_63 : decode cX4_movePlan 63 = .ok (.bipush (-2), 2) := dk_16 254 (dk_at dksX4_movePlan_2 15 rfl rfl)
theorem dX4_movePlan_65 : decode cX4_movePlan 65 = .ok (.ireturn, 1) := dk_172 (dk_at dksX4_movePlan_2 17 rfl rfl)
theorem dX4_movePlan_66 : decode cX4_movePlan 66 = .ok (.aload_n 0, 1) := dk_42 (dk_at dksX4_movePlan_2 18 rfl rfl)
theorem dX4_movePlan_67 : decode cX4_movePlan 67 = .ok (.invokevirtual 232, 3) := dk_182 0 232 (dk_at dksX4_movePlan_2 19 rfl rfl)
theorem dX4_movePlan_70 : decode cX4_movePlan 70 = .ok (.aload_n 0, 1) := dk_42 (dk_at dksX4_movePlan_2 22 rfl rfl)
theorem dX4_movePlan_71 : decode cX4_movePlan 71 = .ok (.getfield 9, 3) := dk_180 0 9 (dk_at dksX4_movePlan_3 0 rfl rfl)
theorem dX4_movePlan_74 : decode cX4_movePlan 74 = .ok (.iload_n 1, 1) := dk_27 (dk_at dksX4_movePlan_3 3 rfl rfl)
theorem dX4_movePlan_75 : decode cX4_movePlan 75 = .ok (.iconst 3, 1) := dk_6 (dk_at dksX4_movePlan_3 4 rfl rfl)
theorem dX4_movePlan_76 : decode cX4_movePlan 76 = .ok (.invokestatic 164, 3) := dk_184 0 164 (dk_at dksX4_movePlan_3 5 rfl rfl)
theorem dX4_movePlan_79 : decode cX4_movePlan 79 = .ok (.iload_n 2, 1) := dk_28 (dk_at dksX4_movePlan_3 8 rfl rfl)
theorem dX4_movePlan_80 : decode cX4_movePlan 80 = .ok (.iastore, 1) := dk_79 (dk_at dksX4_movePlan_3 9 rfl rfl)
theorem dX4_movePlan_81 : decode cX4_movePlan 81 = .ok (.iload_n 3, 1) := dk_29 (dk_at dksX4_movePlan_3 10 rfl rfl)
theorem dX4_movePlan_82 : decode cX4_movePlan 82 = .ok (.ireturn, 1) := dk_172 (dk_at dksX4_movePlan_3 11 rfl rfl)
abbrev cX4_setPatience : ByteArray := prog_24_method_75_code
def yX4_setPatience : MethodName := ⟨RX4, "setPatience", "(I)I"⟩
def dkwX4_setPatience_1 : List UInt8 := [182, 0, 232, 42, 180, 0, 9, 16, 9, 46, 61, 42, 180, 0, 9, 16, 9, 27, 79, 28, 172]
abbrev dktX4_setPatience_1 : List UInt8 := dkwX4_setPatience_1 ++ []
def dkwX4_setPatience_0 : List UInt8 := [42, 3, 181, 0, 77, 27, 4, 16, 30, 184, 0, 90, 154, 0, 9, 42, 4, 182, 0, 192, 172, 42]
abbrev dktX4_setPatience_0 : List UInt8 := dkwX4_setPatience_0 ++ dktX4_setPatience_1
theorem dksX4_setPatience_0 : cX4_setPatience.data.toList.drop 0 = dktX4_setPatience_0 := by decide +kernel
theorem dksX4_setPatience_1 : cX4_setPatience.data.toList.drop 22 = dktX4_setPatience_1 := dk_seg dksX4_setPatience_0 22 rfl rfl
theorem dX4_setPatience_0 : decode cX4_setPatience 0 = .ok (.aload_n 0, 1) := dk_42 (dk_at dksX4_setPatience_0 0 rfl rfl)
theorem dX4_setPatience_1 : decode cX4_setPatience 1 = .ok (.iconst 0, 1) := dk_3 (dk_at dksX4_setPatience_0 1 rfl rfl)
theorem dX4_setPatience_2 : decode cX4_setPatience 2 = .ok (.putfield 77, 3) := dk_181 0 77 (dk_at dksX4_setPatience_0 2 rfl rfl)
theorem dX4_setPatience_5 : decode cX4_setPatience 5 = .ok (.iload_n 1, 1) := dk_27 (dk_at dksX4_setPatience_0 5 rfl rfl)
theorem dX4_setPatience_6 : decode cX4_setPatience 6 = .ok (.iconst 1, 1) := dk_4 (dk_at dksX4_setPatience_0 6 rfl rfl)
theorem dX4_setPatience_7 : decode cX4_setPatience 7 = .ok (.bipush 30, 2) := dk_16 30 (dk_at dksX4_setPatience_0 7 rfl rfl)
theorem dX4_setPatience_9 : decode cX4_setPatience 9 = .ok (.invokestatic 90, 3) := dk_184 0 90 (dk_at dksX4_setPatience_0 9 rfl rfl)
theorem dX4_setPatience_12 : decode cX4_setPatience 12 = .ok (.ifCond .ne 9, 3) := dk_154 0 9 (dk_at dksX4_setPatience_0 12 rfl rfl)
theorem dX4_setPatience_15 : decode cX4_setPatience 15 = .ok (.aload_n 0, 1) := dk_42 (dk_at dksX4_setPatience_0 15 rfl rfl)
theorem dX4_setPatience_16 : decode cX4_setPatience 16 = .ok (.iconst 1, 1) := dk_4 (dk_at dksX4_setPatience_0 16 rfl rfl)
theorem dX4_setPatience_17 : decode cX4_setPatience 17 = .ok (.invokevirtual 192, 3) := dk_182 0 192 (dk_at dksX4_setPatience_0 17 rfl rfl)
theorem dX4_setPatience_20 : decode cX4_setPatience 20 = .ok (.ireturn, 1) := dk_172 (dk_at dksX4_setPatience_0 20 rfl rfl)
theorem dX4_setPatience_21 : decode cX4_setPatience 21 = .ok (.aload_n 0, 1) := dk_42 (dk_at dksX4_setPatience_0 21 rfl rfl)
theorem dX4_setPatience_22 : decode cX4_setPatience 22 = .ok (.invokevirtual 232, 3) := dk_182 0 232 (dk_at dksX4_setPatience_1 0 rfl rfl)
theorem dX4_setPatience_25 : decode cX4_setPatience 25 = .ok (.aload_n 0, 1) := dk_42 (dk_at dksX4_setPatience_1 3 rfl rfl)
theorem dX4_setPatience_26 : decode cX4_setPatience 26 = .ok (.getfield 9, 3) := dk_180 0 9 (dk_at dksX4_setPatience_1 4 rfl rfl)
theorem dX4_setPatience_29 : decode cX4_setPatience 29 = .ok (.bipush 9, 2) := dk_16 9 (dk_at dksX4_setPatience_1 7 rfl rfl)
theorem dX4_setPatience_31 : decode cX4_setPatience 31 = .ok (.iaload, 1) := dk_46 (dk_at dksX4_setPatience_1 9 rfl rfl)
theorem dX4_setPatience_32 : decode cX4_setPatience 32 = .ok (.istore_n 2, 1) := dk_61 (dk_at dksX4_setPatience_1 10 rfl rfl)
theorem dX4_setPatience_33 : decode cX4_setPatience 33 = .ok (.aload_n 0, 1) := dk_42 (dk_at dksX4_setPatience_1 11 rfl rfl)
theorem dX4_setPatience_34 : decode cX4_setPatience 34 = .ok (.getfield 9, 3) := dk_180 0 9 (dk_at dksX4_setPatience_1 12 rfl rfl)
theorem dX4_setPatience_37 : decode cX4_setPatience 37 = .ok (.bipush 9, 2) := dk_16 9 (dk_at dksX4_setPatience_1 15 rfl rfl)
theorem dX4_setPatience_39 : decode cX4_setPatience 39 = .ok (.iload_n 1, 1) := dk_27 (dk_at dksX4_setPatience_1 17 rfl rfl)
theorem dX4_setPatience_40 : decode cX4_setPatience 40 = .ok (.iastore, 1) := dk_79 (dk_at dksX4_setPatience_1 18 rfl rfl)
theorem dX4_setPatience_41 : decode cX4_setPatience 41 = .ok (.iload_n 2, 1) := dk_28 (dk_at dksX4_setPatience_1 19 rfl rfl)
theorem dX4_setPatience_42 : decode cX4_setPatience 42 = .ok (.ireturn, 1) := dk_172 (dk_at dksX4_setPatience_1 20 rfl rfl)
abbrev cX4_format : ByteArray := prog_24_method_79_code
def yX4_format : MethodName := ⟨RX4, "format", "(I)I"⟩
def dkwX4_format_2 : List UInt8 := [42, 180, 0, 32, 28, 42, 28, 27, 182, 0, 250, 79, 132, 2, 1, 167, 255, 233, 42, 180, 0, 247, 172]
abbrev dktX4_format_2 : List UInt8 := dkwX4_format_2 ++ []
def dkwX4_format_1 : List UInt8 := [182, 0, 192, 172, 42, 42, 180, 0, 9, 3, 46, 181, 0, 247, 3, 61, 28, 42, 180, 0, 247, 162, 0, 21]
abbrev dktX4_format_1 : List UInt8 := dkwX4_format_1 ++ dktX4_format_2
def dkwX4_format_0 : List UInt8 := [42, 3, 181, 0, 77, 27, 3, 42, 180, 0, 9, 4, 46, 4, 100, 184, 0, 90, 154, 0, 9, 42, 4]
abbrev dktX4_format_0 : List UInt8 := dkwX4_format_0 ++ dktX4_format_1
theorem dksX4_format_0 : cX4_format.data.toList.drop 0 = dktX4_format_0 := by decide +kernel
theorem dksX4_format_1 : cX4_format.data.toList.drop 23 = dktX4_format_1 := dk_seg dksX4_format_0 23 rfl rfl
theorem dksX4_format_2 : cX4_format.data.toList.drop 47 = dktX4_format_2 := dk_seg dksX4_format_1 24 rfl rfl
theorem dX4_format_0 : decode cX4_format 0 = .ok (.aload_n 0, 1) := dk_42 (dk_at dksX4_format_0 0 rfl rfl)
theorem dX4_format_1 : decode cX4_format 1 = .ok (.iconst 0, 1) := dk_3 (dk_at dksX4_format_0 1 rfl rfl)
theorem dX4_format_2 : decode cX4_format 2 = .ok (.putfield 77, 3) := dk_181 0 77 (dk_at dksX4_format_0 2 rfl rfl)
theorem dX4_format_5 : decode cX4_format 5 = .ok (.iload_n 1, 1) := dk_27 (dk_at dksX4_format_0 5 rfl rfl)
theorem dX4_format_6 : decode cX4_format 6 = .ok (.iconst 0, 1) := dk_3 (dk_at dksX4_format_0 6 rfl rfl)
theorem dX4_format_7 : decode cX4_format 7 = .ok (.aload_n 0, 1) := dk_42 (dk_at dksX4_format_0 7 rfl rfl)
theorem dX4_format_8 : decode cX4_format 8 = .ok (.getfield 9, 3) := dk_180 0 9 (dk_at dksX4_format_0 8 rfl rfl)
theorem dX4_format_11 : decode cX4_format 11 = .ok (.iconst 1, 1) := dk_4 (dk_at dksX4_format_0 11 rfl rfl)
theorem dX4_format_12 : decode cX4_format 12 = .ok (.iaload, 1) := dk_46 (dk_at dksX4_format_0 12 rfl rfl)
theorem dX4_format_13 : decode cX4_format 13 = .ok (.iconst 1, 1) := dk_4 (dk_at dksX4_format_0 13 rfl rfl)
theorem dX4_format_14 : decode cX4_format 14 = .ok (.isub, 1) := dk_100 (dk_at dksX4_format_0 14 rfl rfl)
theorem dX4_format_15 : decode cX4_format 15 = .ok (.invokestatic 90, 3) := dk_184 0 90 (dk_at dksX4_format_0 15 rfl rfl)
theorem dX4_format_18 : decode cX4_format 18 = .ok (.ifCond .ne 9, 3) := dk_154 0 9 (dk_at dksX4_format_0 18 rfl rfl)
theorem dX4_format_21 : decode cX4_format 21 = .ok (.aload_n 0, 1) := dk_42 (dk_at dksX4_format_0 21 rfl rfl)
theorem dX4_format_22 : decode cX4_format 22 = .ok (.iconst 1, 1) := dk_4 (dk_at dksX4_format_0 22 rfl rfl)
theorem dX4_format_23 : decode cX4_format 23 = .ok (.invokevirtual 192, 3) := dk_182 0 192 (dk_at dksX4_format_1 0 rfl rfl)
theorem dX4_format_26 : decode cX4_format 26 = .ok (.ireturn, 1) := dk_172 (dk_at dksX4_format_1 3 rfl rfl)
theorem dX4_format_27 : decode cX4_format 27 = .ok (.aload_n 0, 1) := dk_42 (dk_at dksX4_format_1 4 rfl rfl)
theorem dX4_format_28 : decode cX4_format 28 = .ok (.aload_n 0, 1) := dk_42 (dk_at dksX4_format_1 5 rfl rfl)
theorem dX4_format_29 : decode cX4_format 29 = .ok (.getfield 9, 3) := dk_180 0 9 (dk_at dksX4_format_1 6 rfl rfl)
theorem dX4_format_32 : decode cX4_format 32 = .ok (.iconst 0, 1) := dk_3 (dk_at dksX4_format_1 9 rfl rfl)
theorem dX4_format_33 : decode cX4_format 33 = .ok (.iaload, 1) := dk_46 (dk_at dksX4_format_1 10 rfl rfl)
theorem dX4_format_34 : decode cX4_format 34 = .ok (.putfield 247, 3) := dk_181 0 247 (dk_at dksX4_format_1 11 rfl rfl)
theorem dX4_format_37 : decode cX4_format 37 = .ok (.iconst 0, 1) := dk_3 (dk_at dksX4_format_1 14 rfl rfl)
theorem dX4_format_38 : decode cX4_format 38 = .ok (.istore_n 2, 1) := dk_61 (dk_at dksX4_format_1 15 rfl rfl)
theorem dX4_format_39 : decode cX4_format 39 = .ok (.iload_n 2, 1) := dk_28 (dk_at dksX4_format_1 16 rfl rfl)
theorem dX4_format_40 : decode cX4_format 40 = .ok (.aload_n 0, 1) := dk_42 (dk_at dksX4_format_1 17 rfl rfl)
theorem dX4_format_41 : decode cX4_format 41 = .ok (.getfield 247, 3) := dk_180 0 247 (dk_at dksX4_format_1 18 rfl rfl)
theorem dX4_format_44 : decode cX4_format 44 = .ok (.if_icmp .ge 21, 3) := dk_162 0 21 (dk_at dksX4_format_1 21 rfl rfl)
theorem dX4_format_47 : decode cX4_format 47 = .ok (.aload_n 0, 1) := dk_42 (dk_at dksX4_format_2 0 rfl rfl)
theorem dX4_format_48 : decode cX4_format 48 = .ok (.getfield 32, 3) := dk_180 0 32 (dk_at dksX4_format_2 1 rfl rfl)
theorem dX4_format_51 : decode cX4_format 51 = .ok (.iload_n 2, 1) := dk_28 (dk_at dksX4_format_2 4 rfl rfl)
theorem dX4_format_52 : decode cX4_format 52 = .ok (.aload_n 0, 1) := dk_42 (dk_at dksX4_format_2 5 rfl rfl)
theorem dX4_format_53 : decode cX4_format 53 = .ok (.iload_n 2, 1) := dk_28 (dk_at dksX4_format_2 6 rfl rfl)
theorem dX4_format_54 : decode cX4_format 54 = .ok (.iload_n 1, 1) := dk_27 (dk_at dksX4_format_2 7 rfl rfl)
theorem dX4_format_55 : decode cX4_format 55 = .ok (.invokevirtual 250, 3) := dk_182 0 250 (dk_at dksX4_format_2 8 rfl rfl)
theorem dX4_format_58 : decode cX4_format 58 = .ok (.iastore, 1) := dk_79 (dk_at dksX4_format_2 11 rfl rfl)
theorem dX4_format_59 : decode cX4_format 59 = .ok (.iinc 2 1, 3) := dk_132 2 1 (dk_at dksX4_format_2 12 rfl rfl)
theorem dX4_format_62 : decode cX4_format 62 = .ok (.goto (-23), 3) := dk_167 255 233 (dk_at dksX4_format_2 15 rfl rfl)
theorem dX4_format_65 : decode cX4_format 65 = .ok (.aload_n 0, 1) := dk_42 (dk_at dksX4_format_2 18 rfl rfl)
theorem dX4_format_66 : decode cX4_format 66 = .ok (.getfield 247, 3) := dk_180 0 247 (dk_at dksX4_format_2 19 rfl rfl)
theorem dX4_format_69 : decode cX4_format 69 = .ok (.ireturn, 1) := dk_172 (dk_at dksX4_format_2 22 rfl rfl)
abbrev cX4_symbol : ByteArray := prog_24_method_78_code
def yX4_symbol : MethodName := ⟨RX4, "symbol", "(II)I"⟩
def dkwX4_symbol_3 : List UInt8 := [167, 0, 19, 42, 27, 28, 182, 0, 101, 153, 0, 8, 16, 46, 167, 0, 5, 16, 35, 172]
abbrev dktX4_symbol_3 : List UInt8 := dkwX4_symbol_3 ++ []
def dkwX4_symbol_2 : List UInt8 := [28, 160, 0, 6, 16, 104, 172, 42, 27, 28, 42, 182, 0, 126, 182, 0, 146, 2, 159, 0, 8, 16, 33]
abbrev dktX4_symbol_2 : List UInt8 := dkwX4_symbol_2 ++ dktX4_symbol_3
def dkwX4_symbol_1 : List UInt8 := [153, 0, 6, 16, 109, 172, 42, 180, 0, 9, 16, 10, 46, 27, 160, 0, 17, 42, 180, 0, 9, 16, 11, 46]
abbrev dktX4_symbol_1 : List UInt8 := dkwX4_symbol_1 ++ dktX4_symbol_2
def dkwX4_symbol_0 : List UInt8 := [42, 27, 28, 182, 0, 241, 62, 29, 2, 159, 0, 8, 16, 48, 29, 96, 172, 42, 27, 28, 182, 0, 244]
abbrev dktX4_symbol_0 : List UInt8 := dkwX4_symbol_0 ++ dktX4_symbol_1
theorem dksX4_symbol_0 : cX4_symbol.data.toList.drop 0 = dktX4_symbol_0 := by decide +kernel
theorem dksX4_symbol_1 : cX4_symbol.data.toList.drop 23 = dktX4_symbol_1 := dk_seg dksX4_symbol_0 23 rfl rfl
theorem dksX4_symbol_2 : cX4_symbol.data.toList.drop 47 = dktX4_symbol_2 := dk_seg dksX4_symbol_1 24 rfl rfl
theorem dksX4_symbol_3 : cX4_symbol.data.toList.drop 70 = dktX4_symbol_3 := dk_seg dksX4_symbol_2 23 rfl rfl
theorem dX4_symbol_0 : decode cX4_symbol 0 = .ok (.aload_n 0, 1) := dk_42 (dk_at dksX4_symbol_0 0 rfl rfl)
theorem dX4_symbol_1 : decode cX4_symbol 1 = .ok (.iload_n 1, 1) := dk_27 (dk_at dksX4_symbol_0 1 rfl rfl)
theorem dX4_symbol_2 : decode cX4_symbol 2 = .ok (.iload_n 2, 1) := dk_28 (dk_at dksX4_symbol_0 2 rfl rfl)
theorem dX4_symbol_3 : decode cX4_symbol 3 = .ok (.invokevirtual 241, 3) := dk_182 0 241 (dk_at dksX4_symbol_0 3 rfl rfl)
theorem dX4_symbol_6 : decode cX4_symbol 6 = .ok (.istore_n 3, 1) := dk_62 (dk_at dksX4_symbol_0 6 rfl rfl)
theorem dX4_symbol_7 : decode cX4_symbol 7 = .ok (.iload_n 3, 1) := dk_29 (dk_at dksX4_symbol_0 7 rfl rfl)
theorem dX4_symbol_8 : decode cX4_symbol 8 = .ok (.iconst (-1), 1) := dk_2 (dk_at dksX4_symbol_0 8 rfl rfl)
theorem dX4_symbol_9 : decode cX4_symbol 9 = .ok (.if_icmp .eq 8, 3) := dk_159 0 8 (dk_at dksX4_symbol_0 9 rfl rfl)
theorem dX4_symbol_12 : decode cX4_symbol 12 = .ok (.bipush 48, 2) := dk_16 48 (dk_at dksX4_symbol_0 12 rfl rfl)
theorem dX4_symbol_14 : decode cX4_symbol 14 = .ok (.iload_n 3, 1) := dk_29 (dk_at dksX4_symbol_0 14 rfl rfl)
theorem dX4_symbol_15 : decode cX4_symbol 15 = .ok (.iadd, 1) := dk_96 (dk_at dksX4_symbol_0 15 rfl rfl)
theorem dX4_symbol_16 : decode cX4_symbol 16 = .ok (.ireturn, 1) := dk_172 (dk_at dksX4_symbol_0 16 rfl rfl)
theorem dX4_symbol_17 : decode cX4_symbol 17 = .ok (.aload_n 0, 1) := dk_42 (dk_at dksX4_symbol_0 17 rfl rfl)
theorem dX4_symbol_18 : decode cX4_symbol 18 = .ok (.iload_n 1, 1) := dk_27 (dk_at dksX4_symbol_0 18 rfl rfl)
theorem dX4_symbol_19 : decode cX4_symbol 19 = .ok (.iload_n 2, 1) := dk_28 (dk_at dksX4_symbol_0 19 rfl rfl)
theorem dX4_symbol_20 : decode cX4_symbol 20 = .ok (.invokevirtual 244, 3) := dk_182 0 244 (dk_at dksX4_symbol_0 20 rfl rfl)
theorem dX4_symbol_23 : decode cX4_symbol 23 = .ok (.ifCond .eq 6, 3) := dk_153 0 6 (dk_at dksX4_symbol_1 0 rfl rfl)
theorem dX4_symbol_26 : decode cX4_symbol 26 = .ok (.bipush 109, 2) := dk_16 109 (dk_at dksX4_symbol_1 3 rfl rfl)
theorem dX4_symbol_28 : decode cX4_symbol 28 = .ok (.ireturn, 1) := dk_172 (dk_at dksX4_symbol_1 5 rfl rfl)
theorem dX4_symbol_29 : decode cX4_symbol 29 = .ok (.aload_n 0, 1) := dk_42 (dk_at dksX4_symbol_1 6 rfl rfl)
theorem dX4_symbol_30 : decode cX4_symbol 30 = .ok (.getfield 9, 3) := dk_180 0 9 (dk_at dksX4_symbol_1 7 rfl rfl)
theorem dX4_symbol_33 : decode cX4_symbol 33 = .ok (.bipush 10, 2) := dk_16 10 (dk_at dksX4_symbol_1 10 rfl rfl)
theorem dX4_symbol_35 : decode cX4_symbol 35 = .ok (.iaload, 1) := dk_46 (dk_at dksX4_symbol_1 12 rfl rfl)
theorem dX4_symbol_36 : decode cX4_symbol 36 = .ok (.iload_n 1, 1) := dk_27 (dk_at dksX4_symbol_1 13 rfl rfl)
theorem dX4_symbol_37 : decode cX4_symbol 37 = .ok (.if_icmp .ne 17, 3) := dk_160 0 17 (dk_at dksX4_symbol_1 14 rfl rfl)
theorem dX4_symbol_40 : decode cX4_symbol 40 = .ok (.aload_n 0, 1) := dk_42 (dk_at dksX4_symbol_1 17 rfl rfl)
theorem dX4_symbol_41 : decode cX4_symbol 41 = .ok (.getfield 9, 3) := dk_180 0 9 (dk_at dksX4_symbol_1 18 rfl rfl)
theorem dX4_symbol_44 : decode cX4_symbol 44 = .ok (.bipush 11, 2) := dk_16 11 (dk_at dksX4_symbol_1 21 rfl rfl)
theorem dX4_symbol_46 : decode cX4_symbol 46 = .ok (.iaload, 1) := dk_46 (dk_at dksX4_symbol_1 23 rfl rfl)
theorem dX4_symbol_47 : decode cX4_symbol 47 = .ok (.iload_n 2, 1) := dk_28 (dk_at dksX4_symbol_2 0 rfl rfl)
theorem dX4_symbol_48 : decode cX4_symbol 48 = .ok (.if_icmp .ne 6, 3) := dk_160 0 6 (dk_at dksX4_symbol_2 1 rfl rfl)
theorem dX4_symbol_51 : decode cX4_symbol 51 = .ok (.bipush 104, 2) := dk_16 104 (dk_at dksX4_symbol_2 4 rfl rfl)
theorem dX4_symbol_53 : decode cX4_symbol 53 = .ok (.ireturn, 1) := dk_172 (dk_at dksX4_symbol_2 6 rfl rfl)
theorem dX4_symbol_54 : decode cX4_symbol 54 = .ok (.aload_n 0, 1) := dk_42 (dk_at dksX4_symbol_2 7 rfl rfl)
theorem dX4_symbol_55 : decode cX4_symbol 55 = .ok (.iload_n 1, 1) := dk_27 (dk_at dksX4_symbol_2 8 rfl rfl)
theorem dX4_symbol_56 : decode cX4_symbol 56 = .ok (.iload_n 2, 1) := dk_28 (dk_at dksX4_symbol_2 9 rfl rfl)
theorem dX4_symbol_57 : decode cX4_symbol 57 = .ok (.aload_n 0, 1) := dk_42 (dk_at dksX4_symbol_2 10 rfl rfl)
theorem dX4_symbol_58 : decode cX4_symbol 58 = .ok (.invokevirtual 126, 3) := dk_182 0 126 (dk_at dksX4_symbol_2 11 rfl rfl)
theorem dX4_symbol_61 : decode cX4_symbol 61 = .ok (.invokevirtual 146, 3) := dk_182 0 146 (dk_at dksX4_symbol_2 14 rfl rfl)
theorem dX4_symbol_64 : decode cX4_symbol 64 = .ok (.iconst (-1), 1) := dk_2 (dk_at dksX4_symbol_2 17 rfl rfl)
theorem dX4_symbol_65 : decode cX4_symbol 65 = .ok (.if_icmp .eq 8, 3) := dk_159 0 8 (dk_at dksX4_symbol_2 18 rfl rfl)
theorem dX4_symbol_68 : decode cX4_symbol 68 = .ok (.bipush 33, 2) := dk_16 33 (dk_at dksX4_symbol_2 21 rfl rfl)
theorem dX4_symbol_70 : decode cX4_symbol 70 = .ok (.goto 19, 3) := dk_167 0 19 (dk_at dksX4_symbol_3 0 rfl rfl)
theorem dX4_symbol_73 : decode cX4_symbol 73 = .ok (.aload_n 0, 1) := dk_42 (dk_at dksX4_symbol_3 3 rfl rfl)
theorem dX4_symbol_74 : decode cX4_symbol 74 = .ok (.iload_n 1, 1) := dk_27 (dk_at dksX4_symbol_3 4 rfl rfl)
theorem dX4_symbol_75 : decode cX4_symbol 75 = .ok (.iload_n 2, 1) := dk_28 (dk_at dksX4_symbol_3 5 rfl rfl)
theorem dX4_symbol_76 : decode cX4_symbol 76 = .ok (.invokevirtual 101, 3) := dk_182 0 101 (dk_at dksX4_symbol_3 6 rfl rfl)
theorem dX4_symbol_79 : decode cX4_symbol 79 = .ok (.ifCond .eq 8, 3) := dk_153 0 8 (dk_at dksX4_symbol_3 9 rfl rfl)
theorem dX4_symbol_82 : decode cX4_symbol 82 = .ok (.bipush 46, 2) := dk_16 46 (dk_at dksX4_symbol_3 12 rfl rfl)
theorem dX4_symbol_84 : decode cX4_symbol 84 = .ok (.goto 5, 3) := dk_167 0 5 (dk_at dksX4_symbol_3 14 rfl rfl)
theorem dX4_symbol_87 : decode cX4_symbol 87 = .ok (.bipush 35, 2) := dk_16 35 (dk_at dksX4_symbol_3 17 rfl rfl)
theorem dX4_symbol_89 : decode cX4_symbol 89 = .ok (.ireturn, 1) := dk_172 (dk_at dksX4_symbol_3 19 rfl rfl)
abbrev cX4_lowestIn : ByteArray := prog_24_method_76_code
def yX4_lowestIn : MethodName := ⟨RX4, "lowestIn", "(II)I"⟩
def dkwX4_lowestIn_1 : List UInt8 := [4, 182, 0, 133, 28, 160, 0, 5, 29, 172, 132, 3, 1, 167, 255, 221, 2, 172]
abbrev dktX4_lowestIn_1 : List UInt8 := dkwX4_lowestIn_1 ++ []
def dkwX4_lowestIn_0 : List UInt8 := [3, 62, 29, 42, 180, 0, 9, 5, 46, 162, 0, 31, 42, 29, 3, 182, 0, 133, 27, 160, 0, 15, 42, 29]
abbrev dktX4_lowestIn_0 : List UInt8 := dkwX4_lowestIn_0 ++ dktX4_lowestIn_1
theorem dksX4_lowestIn_0 : cX4_lowestIn.data.toList.drop 0 = dktX4_lowestIn_0 := by decide +kernel
theorem dksX4_lowestIn_1 : cX4_lowestIn.data.toList.drop 24 = dktX4_lowestIn_1 := dk_seg dksX4_lowestIn_0 24 rfl rfl
theorem dX4_lowestIn_0 : decode cX4_lowestIn 0 = .ok (.iconst 0, 1) := dk_3 (dk_at dksX4_lowestIn_0 0 rfl rfl)
theorem dX4_lowestIn_1 : decode cX4_lowestIn 1 = .ok (.istore_n 3, 1) := dk_62 (dk_at dksX4_lowestIn_0 1 rfl rfl)
theorem dX4_lowestIn_2 : decode cX4_lowestIn 2 = .ok (.iload_n 3, 1) := dk_29 (dk_at dksX4_lowestIn_0 2 rfl rfl)
theorem dX4_lowestIn_3 : decode cX4_lowestIn 3 = .ok (.aload_n 0, 1) := dk_42 (dk_at dksX4_lowestIn_0 3 rfl rfl)
theorem dX4_lowestIn_4 : decode cX4_lowestIn 4 = .ok (.getfield 9, 3) := dk_180 0 9 (dk_at dksX4_lowestIn_0 4 rfl rfl)
theorem dX4_lowestIn_7 : decode cX4_lowestIn 7 = .ok (.iconst 2, 1) := dk_5 (dk_at dksX4_lowestIn_0 7 rfl rfl)
theorem dX4_lowestIn_8 : decode cX4_lowestIn 8 = .ok (.iaload, 1) := dk_46 (dk_at dksX4_lowestIn_0 8 rfl rfl)
theorem dX4_lowestIn_9 : decode cX4_lowestIn 9 = .ok (.if_icmp .ge 31, 3) := dk_162 0 31 (dk_at dksX4_lowestIn_0 9 rfl rfl)
theorem dX4_lowestIn_12 : decode cX4_lowestIn 12 = .ok (.aload_n 0, 1) := dk_42 (dk_at dksX4_lowestIn_0 12 rfl rfl)
theorem dX4_lowestIn_13 : decode cX4_lowestIn 13 = .ok (.iload_n 3, 1) := dk_29 (dk_at dksX4_lowestIn_0 13 rfl rfl)
theorem dX4_lowestIn_14 : decode cX4_lowestIn 14 = .ok (.iconst 0, 1) := dk_3 (dk_at dksX4_lowestIn_0 14 rfl rfl)
theorem dX4_lowestIn_15 : decode cX4_lowestIn 15 = .ok (.invokevirtual 133, 3) := dk_182 0 133 (dk_at dksX4_lowestIn_0 15 rfl rfl)
theorem dX4_lowestIn_18 : decode cX4_lowestIn 18 = .ok (.iload_n 1, 1) := dk_27 (dk_at dksX4_lowestIn_0 18 rfl rfl)
theorem dX4_lowestIn_19 : decode cX4_lowestIn 19 = .ok (.if_icmp .ne 15, 3) := dk_160 0 15 (dk_at dksX4_lowestIn_0 19 rfl rfl)
theorem dX4_lowestIn_22 : decode cX4_lowestIn 22 = .ok (.aload_n 0, 1) := dk_42 (dk_at dksX4_lowestIn_0 22 rfl rfl)
theorem dX4_lowestIn_23 : decode cX4_lowestIn 23 = .ok (.iload_n 3, 1) := dk_29 (dk_at dksX4_lowestIn_0 23 rfl rfl)
theorem dX4_lowestIn_24 : decode cX4_lowestIn 24 = .ok (.iconst 1, 1) := dk_4 (dk_at dksX4_lowestIn_1 0 rfl rfl)
theorem dX4_lowestIn_25 : decode cX4_lowestIn 25 = .ok (.invokevirtual 133, 3) := dk_182 0 133 (dk_at dksX4_lowestIn_1 1 rfl rfl)
theorem dX4_lowestIn_28 : decode cX4_lowestIn 28 = .ok (.iload_n 2, 1) := dk_28 (dk_at dksX4_lowestIn_1 4 rfl rfl)
theorem dX4_lowestIn_29 : decode cX4_lowestIn 29 = .ok (.if_icmp .ne 5, 3) := dk_160 0 5 (dk_at dksX4_lowestIn_1 5 rfl rfl)
theorem dX4_lowestIn_32 : decode cX4_lowestIn 32 = .ok (.iload_n 3, 1) := dk_29 (dk_at dksX4_lowestIn_1 8 rfl rfl)
theorem dX4_lowestIn_33 : decode cX4_lowestIn 33 = .ok (.ireturn, 1) := dk_172 (dk_at dksX4_lowestIn_1 9 rfl rfl)
theorem dX4_lowestIn_34 : decode cX4_lowestIn 34 = .ok (.iinc 3 1, 3) := dk_132 3 1 (dk_at dksX4_lowestIn_1 10 rfl rfl)
theorem dX4_lowestIn_37 : decode cX4_lowestIn 37 = .ok (.goto (-35), 3) := dk_167 255 221 (dk_at dksX4_lowestIn_1 13 rfl rfl)
theorem dX4_lowestIn_40 : decode cX4_lowestIn 40 = .ok (.iconst (-1), 1) := dk_2 (dk_at dksX4_lowestIn_1 16 rfl rfl)
theorem dX4_lowestIn_41 : decode cX4_lowestIn 41 = .ok (.ireturn, 1) := dk_172 (dk_at dksX4_lowestIn_1 17 rfl rfl)
abbrev cX4_hasMessenger : ByteArray := prog_24_method_77_code
def yX4_hasMessenger : MethodName := ⟨RX4, "hasMessenger", "(II)Z"⟩
def dkwX4_hasMessenger_2 : List UInt8 := [132, 3, 1, 167, 255, 210, 3, 172]
abbrev dktX4_hasMessenger_2 : List UInt8 := dkwX4_hasMessenger_2 ++ []
def dkwX4_hasMessenger_1 : List UInt8 := [16, 7, 182, 0, 130, 27, 160, 0, 16, 42, 29, 16, 8, 182, 0, 130, 28, 160, 0, 5, 4, 172]
abbrev dktX4_hasMessenger_1 : List UInt8 := dkwX4_hasMessenger_1 ++ dktX4_hasMessenger_2
def dkwX4_hasMessenger_0 : List UInt8 := [3, 62, 29, 42, 180, 0, 9, 7, 46, 162, 0, 42, 42, 29, 6, 182, 0, 130, 154, 0, 27, 42, 29]
abbrev dktX4_hasMessenger_0 : List UInt8 := dkwX4_hasMessenger_0 ++ dktX4_hasMessenger_1
theorem dksX4_hasMessenger_0 : cX4_hasMessenger.data.toList.drop 0 = dktX4_hasMessenger_0 := by decide +kernel
theorem dksX4_hasMessenger_1 : cX4_hasMessenger.data.toList.drop 23 = dktX4_hasMessenger_1 := dk_seg dksX4_hasMessenger_0 23 rfl rfl
theorem dksX4_hasMessenger_2 : cX4_hasMessenger.data.toList.drop 45 = dktX4_hasMessenger_2 := dk_seg dksX4_hasMessenger_1 22 rfl rfl
theorem dX4_hasMessenger_0 : decode cX4_hasMessenger 0 = .ok (.iconst 0, 1) := dk_3 (dk_at dksX4_hasMessenger_0 0 rfl rfl)
theorem dX4_hasMessenger_1 : decode cX4_hasMessenger 1 = .ok (.istore_n 3, 1) := dk_62 (dk_at dksX4_hasMessenger_0 1 rfl rfl)
theorem dX4_hasMessenger_2 : decode cX4_hasMessenger 2 = .ok (.iload_n 3, 1) := dk_29 (dk_at dksX4_hasMessenger_0 2 rfl rfl)
theorem dX4_hasMessenger_3 : decode cX4_hasMessenger 3 = .ok (.aload_n 0, 1) := dk_42 (dk_at dksX4_hasMessenger_0 3 rfl rfl)
theorem dX4_hasMessenger_4 : decode cX4_hasMessenger 4 = .ok (.getfield 9, 3) := dk_180 0 9 (dk_at dksX4_hasMessenger_0 4 rfl rfl)
theorem dX4_hasMessenger_7 : decode cX4_hasMessenger 7 = .ok (.iconst 4, 1) := dk_7 (dk_at dksX4_hasMessenger_0 7 rfl rfl)
theorem dX4_hasMessenger_8 : decode cX4_hasMessenger 8 = .ok (.iaload, 1) := dk_46 (dk_at dksX4_hasMessenger_0 8 rfl rfl)
theorem dX4_hasMessenger_9 : decode cX4_hasMessenger 9 = .ok (.if_icmp .ge 42, 3) := dk_162 0 42 (dk_at dksX4_hasMessenger_0 9 rfl rfl)
theorem dX4_hasMessenger_12 : decode cX4_hasMessenger 12 = .ok (.aload_n 0, 1) := dk_42 (dk_at dksX4_hasMessenger_0 12 rfl rfl)
theorem dX4_hasMessenger_13 : decode cX4_hasMessenger 13 = .ok (.iload_n 3, 1) := dk_29 (dk_at dksX4_hasMessenger_0 13 rfl rfl)
theorem dX4_hasMessenger_14 : decode cX4_hasMessenger 14 = .ok (.iconst 3, 1) := dk_6 (dk_at dksX4_hasMessenger_0 14 rfl rfl)
theorem dX4_hasMessenger_15 : decode cX4_hasMessenger 15 = .ok (.invokevirtual 130, 3) := dk_182 0 130 (dk_at dksX4_hasMessenger_0 15 rfl rfl)
theorem dX4_hasMessenger_18 : decode cX4_hasMessenger 18 = .ok (.ifCond .ne 27, 3) := dk_154 0 27 (dk_at dksX4_hasMessenger_0 18 rfl rfl)
theorem dX4_hasMessenger_21 : decode cX4_hasMessenger 21 = .ok (.aload_n 0, 1) := dk_42 (dk_at dksX4_hasMessenger_0 21 rfl rfl)
theorem dX4_hasMessenger_22 : decode cX4_hasMessenger 22 = .ok (.iload_n 3, 1) := dk_29 (dk_at dksX4_hasMessenger_0 22 rfl rfl)
theorem dX4_hasMessenger_23 : decode cX4_hasMessenger 23 = .ok (.bipush 7, 2) := dk_16 7 (dk_at dksX4_hasMessenger_1 0 rfl rfl)
theorem dX4_hasMessenger_25 : decode cX4_hasMessenger 25 = .ok (.invokevirtual 130, 3) := dk_182 0 130 (dk_at dksX4_hasMessenger_1 2 rfl rfl)
theorem dX4_hasMessenger_28 : decode cX4_hasMessenger 28 = .ok (.iload_n 1, 1) := dk_27 (dk_at dksX4_hasMessenger_1 5 rfl rfl)
theorem dX4_hasMessenger_29 : decode cX4_hasMessenger 29 = .ok (.if_icmp .ne 16, 3) := dk_160 0 16 (dk_at dksX4_hasMessenger_1 6 rfl rfl)
theorem dX4_hasMessenger_32 : decode cX4_hasMessenger 32 = .ok (.aload_n 0, 1) := dk_42 (dk_at dksX4_hasMessenger_1 9 rfl rfl)
theorem dX4_hasMessenger_33 : decode cX4_hasMessenger 33 = .ok (.iload_n 3, 1) := dk_29 (dk_at dksX4_hasMessenger_1 10 rfl rfl)
theorem dX4_hasMessenger_34 : decode cX4_hasMessenger 34 = .ok (.bipush 8, 2) := dk_16 8 (dk_at dksX4_hasMessenger_1 11 rfl rfl)
theorem dX4_hasMessenger_36 : decode cX4_hasMessenger 36 = .ok (.invokevirtual 130, 3) := dk_182 0 130 (dk_at dksX4_hasMessenger_1 13 rfl rfl)
theorem dX4_hasMessenger_39 : decode cX4_hasMessenger 39 = .ok (.iload_n 2, 1) := dk_28 (dk_at dksX4_hasMessenger_1 16 rfl rfl)
theorem dX4_hasMessenger_40 : decode cX4_hasMessenger 40 = .ok (.if_icmp .ne 5, 3) := dk_160 0 5 (dk_at dksX4_hasMessenger_1 17 rfl rfl)
theorem dX4_hasMessenger_43 : decode cX4_hasMessenger 43 = .ok (.iconst 1, 1) := dk_4 (dk_at dksX4_hasMessenger_1 20 rfl rfl)
theorem dX4_hasMessenger_44 : decode cX4_hasMessenger 44 = .ok (.ireturn, 1) := dk_172 (dk_at dksX4_hasMessenger_1 21 rfl rfl)
theorem dX4_hasMessenger_45 : decode cX4_hasMessenger 45 = .ok (.iinc 3 1, 3) := dk_132 3 1 (dk_at dksX4_hasMessenger_2 0 rfl rfl)
theorem dX4_hasMessenger_48 : decode cX4_hasMessenger 48 = .ok (.goto (-46), 3) := dk_167 255 210 (dk_at dksX4_hasMessenger_2 3 rfl rfl)
theorem dX4_hasMessenger_51 : decode cX4_hasMessenger 51 = .ok (.iconst 0, 1) := dk_3 (dk_at dksX4_hasMessenger_2 6 rfl rfl)
theorem dX4_hasMessenger_52 : decode cX4_hasMessenger 52 = .ok (.ireturn, 1) := dk_172 (dk_at dksX4_hasMessenger_2 7 rfl rfl)
abbrev cX4_formattedByte : ByteArray := prog_24_method_80_code
def yX4_formattedByte : MethodName := ⟨RX4, "formattedByte", "(I)I"⟩
def dkwX4_formattedByte_1 : List UInt8 := [46, 167, 0, 4, 2, 172]
abbrev dktX4_formattedByte_1 : List UInt8 := dkwX4_formattedByte_1 ++ []
def dkwX4_formattedByte_0 : List UInt8 := [42, 3, 181, 0, 77, 27, 3, 42, 180, 0, 247, 4, 100, 184, 0, 90, 153, 0, 12, 42, 180, 0, 32, 27]
abbrev dktX4_formattedByte_0 : List UInt8 := dkwX4_formattedByte_0 ++ dktX4_formattedByte_1
theorem dksX4_formattedByte_0 : cX4_formattedByte.data.toList.drop 0 = dktX4_formattedByte_0 := by decide +kernel
theorem dksX4_formattedByte_1 : cX4_formattedByte.data.toList.drop 24 = dktX4_formattedByte_1 := dk_seg dksX4_formattedByte_0 24 rfl rfl
theorem dX4_formattedByte_0 : decode cX4_formattedByte 0 = .ok (.aload_n 0, 1) := dk_42 (dk_at dksX4_formattedByte_0 0 rfl rfl)
theorem dX4_formattedByte_1 : decode cX4_formattedByte 1 = .ok (.iconst 0, 1) := dk_3 (dk_at dksX4_formattedByte_0 1 rfl rfl)
theorem dX4_formattedByte_2 : decode cX4_formattedByte 2 = .ok (.putfield 77, 3) := dk_181 0 77 (dk_at dksX4_formattedByte_0 2 rfl rfl)
theorem dX4_formattedByte_5 : decode cX4_formattedByte 5 = .ok (.iload_n 1, 1) := dk_27 (dk_at dksX4_formattedByte_0 5 rfl rfl)
theorem dX4_formattedByte_6 : decode cX4_formattedByte 6 = .ok (.iconst 0, 1) := dk_3 (dk_at dksX4_formattedByte_0 6 rfl rfl)
theorem dX4_formattedByte_7 : decode cX4_formattedByte 7 = .ok (.aload_n 0, 1) := dk_42 (dk_at dksX4_formattedByte_0 7 rfl rfl)
theorem dX4_formattedByte_8 : decode cX4_formattedByte 8 = .ok (.getfield 247, 3) := dk_180 0 247 (dk_at dksX4_formattedByte_0 8 rfl rfl)
theorem dX4_formattedByte_11 : decode cX4_formattedByte 11 = .ok (.iconst 1, 1) := dk_4 (dk_at dksX4_formattedByte_0 11 rfl rfl)
theorem dX4_formattedByte_12 : decode cX4_formattedByte 12 = .ok (.isub, 1) := dk_100 (dk_at dksX4_formattedByte_0 12 rfl rfl)
theorem dX4_formattedByte_13 : decode cX4_formattedByte 13 = .ok (.invokestatic 90, 3) := dk_184 0 90 (dk_at dksX4_formattedByte_0 13 rfl rfl)
theorem dX4_formattedByte_16 : decode cX4_formattedByte 16 = .ok (.ifCond .eq 12, 3) := dk_153 0 12 (dk_at dksX4_formattedByte_0 16 rfl rfl)
theorem dX4_formattedByte_19 : decode cX4_formattedByte 19 = .ok (.aload_n 0, 1) := dk_42 (dk_at dksX4_formattedByte_0 19 rfl rfl)
theorem dX4_formattedByte_20 : decode cX4_formattedByte 20 = .ok (.getfield 32, 3) := dk_180 0 32 (dk_at dksX4_formattedByte_0 20 rfl rfl)
theorem dX4_formattedByte_23 : decode cX4_formattedByte 23 = .ok (.iload_n 1, 1) := dk_27 (dk_at dksX4_formattedByte_0 23 rfl rfl)
theorem dX4_formattedByte_24 : decode cX4_formattedByte 24 = .ok (.iaload, 1) := dk_46 (dk_at dksX4_formattedByte_1 0 rfl rfl)
theorem dX4_formattedByte_25 : decode cX4_formattedByte 25 = .ok (.goto 4, 3) := dk_167 0 4 (dk_at dksX4_formattedByte_1 1 rfl rfl)
theorem dX4_formattedByte_28 : decode cX4_formattedByte 28 = .ok (.iconst (-1), 1) := dk_2 (dk_at dksX4_formattedByte_1 4 rfl rfl)
theorem dX4_formattedByte_29 : decode cX4_formattedByte 29 = .ok (.ireturn, 1) := dk_172 (dk_at dksX4_formattedByte_1 5 rfl rfl)
abbrev cX4_undoCount : ByteArray := prog_24_method_83_code
def yX4_undoCount : MethodName := ⟨RX4, "undoCount", "()I"⟩
def dkwX4_undoCount_0 : List UInt8 := [42, 3, 181, 0, 77, 42, 180, 0, 253, 172]
abbrev dktX4_undoCount_0 : List UInt8 := dkwX4_undoCount_0 ++ []
theorem dksX4_undoCount_0 : cX4_undoCount.data.toList.drop 0 = dktX4_undoCount_0 := by decide +kernel
theorem dX4_undoCount_0 : decode cX4_undoCount 0 = .ok (.aload_n 0, 1) := dk_42 (dk_at dksX4_undoCount_0 0 rfl rfl)
theorem dX4_undoCount_1 : decode cX4_undoCount 1 = .ok (.iconst 0, 1) := dk_3 (dk_at dksX4_undoCount_0 1 rfl rfl)
theorem dX4_undoCount_2 : decode cX4_undoCount 2 = .ok (.putfield 77, 3) := dk_181 0 77 (dk_at dksX4_undoCount_0 2 rfl rfl)
theorem dX4_undoCount_5 : decode cX4_undoCount 5 = .ok (.aload_n 0, 1) := dk_42 (dk_at dksX4_undoCount_0 5 rfl rfl)
theorem dX4_undoCount_6 : decode cX4_undoCount 6 = .ok (.getfield 253, 3) := dk_180 0 253 (dk_at dksX4_undoCount_0 6 rfl rfl)
theorem dX4_undoCount_9 : decode cX4_undoCount 9 = .ok (.ireturn, 1) := dk_172 (dk_at dksX4_undoCount_0 9 rfl rfl)
abbrev cX4_undo : ByteArray := prog_24_method_84_code
def yX4_undo : MethodName := ⟨RX4, "undo", "()I"⟩
def dkwX4_undo_1 : List UInt8 := [42, 180, 0, 23, 42, 180, 0, 253, 42, 180, 0, 9, 3, 184, 0, 213, 42, 180, 0, 253, 172]
abbrev dktX4_undo_1 : List UInt8 := dkwX4_undo_1 ++ []
def dkwX4_undo_0 : List UInt8 := [42, 3, 181, 0, 77, 42, 180, 0, 253, 154, 0, 5, 2, 172, 42, 89, 180, 0, 253, 4, 100, 181, 0, 253]
abbrev dktX4_undo_0 : List UInt8 := dkwX4_undo_0 ++ dktX4_undo_1
theorem dksX4_undo_0 : cX4_undo.data.toList.drop 0 = dktX4_undo_0 := by decide +kernel
theorem dksX4_undo_1 : cX4_undo.data.toList.drop 24 = dktX4_undo_1 := dk_seg dksX4_undo_0 24 rfl rfl
theorem dX4_undo_0 : decode cX4_undo 0 = .ok (.aload_n 0, 1) := dk_42 (dk_at dksX4_undo_0 0 rfl rfl)
theorem dX4_undo_1 : decode cX4_undo 1 = .ok (.iconst 0, 1) := dk_3 (dk_at dksX4_undo_0 1 rfl rfl)
theorem dX4_undo_2 : decode cX4_undo 2 = .ok (.putfield 77, 3) := dk_181 0 77 (dk_at dksX4_undo_0 2 rfl rfl)
theorem dX4_undo_5 : decode cX4_undo 5 = .ok (.aload_n 0, 1) := dk_42 (dk_at dksX4_undo_0 5 rfl rfl)
theorem dX4_undo_6 : decode cX4_undo 6 = .ok (.getfield 253, 3) := dk_180 0 253 (dk_at dksX4_undo_0 6 rfl rfl)
theorem dX4_undo_9 : decode cX4_undo 9 = .ok (.ifCond .ne 5, 3) := dk_154 0 5 (dk_at dksX4_undo_0 9 rfl rfl)
theorem dX4_undo_12 : decode cX4_undo 12 = .ok (.iconst (-1), 1) := dk_2 (dk_at dksX4_undo_0 12 rfl rfl)
theorem dX4_undo_13 : decode cX4_undo 13 = .ok (.ireturn, 1) := dk_172 (dk_at dksX4_undo_0 13 rfl rfl)
theorem dX4_undo_14 : decode cX4_undo 14 = .ok (.aload_n 0, 1) := dk_42 (dk_at dksX4_undo_0 14 rfl rfl)
theorem dX4_undo_15 : decode cX4_undo 15 = .ok (.dup, 1) := dk_89 (dk_at dksX4_undo_0 15 rfl rfl)
theorem dX4_undo_16 : decode cX4_undo 16 = .ok (.getfield 253, 3) := dk_180 0 253 (dk_at dksX4_undo_0 16 rfl rfl)
theorem dX4_undo_19 : decode cX4_undo 19 = .ok (.iconst 1, 1) := dk_4 (dk_at dksX4_undo_0 19 rfl rfl)
theorem dX4_undo_20 : decode cX4_undo 20 = .ok (.isub, 1) := dk_100 (dk_at dksX4_undo_0 20 rfl rfl)
theorem dX4_undo_21 : decode cX4_undo 21 = .ok (.putfield 253, 3) := dk_181 0 253 (dk_at dksX4_undo_0 21 rfl rfl)
theorem dX4_undo_24 : decode cX4_undo 24 = .ok (.aload_n 0, 1) := dk_42 (dk_at dksX4_undo_1 0 rfl rfl)
theorem dX4_undo_25 : decode cX4_undo 25 = .ok (.getfield 23, 3) := dk_180 0 23 (dk_at dksX4_undo_1 1 rfl rfl)
theorem dX4_undo_28 : decode cX4_undo 28 = .ok (.aload_n 0, 1) := dk_42 (dk_at dksX4_undo_1 4 rfl rfl)
theorem dX4_undo_29 : decode cX4_undo 29 = .ok (.getfield 253, 3) := dk_180 0 253 (dk_at dksX4_undo_1 5 rfl rfl)
theorem dX4_undo_32 : decode cX4_undo 32 = .ok (.aload_n 0, 1) := dk_42 (dk_at dksX4_undo_1 8 rfl rfl)
theorem dX4_undo_33 : decode cX4_undo 33 = .ok (.getfield 9, 3) := dk_180 0 9 (dk_at dksX4_undo_1 9 rfl rfl)
theorem dX4_undo_36 : decode cX4_undo 36 = .ok (.iconst 0, 1) := dk_3 (dk_at dksX4_undo_1 12 rfl rfl)
theorem dX4_undo_37 : decode cX4_undo 37 = .ok (.invokestatic 213, 3) := dk_184 0 213 (dk_at dksX4_undo_1 13 rfl rfl)
theorem dX4_undo_40 : decode cX4_undo 40 = .ok (.aload_n 0, 1) := dk_42 (dk_at dksX4_undo_1 16 rfl rfl)
theorem dX4_undo_41 : decode cX4_undo 41 = .ok (.getfield 253, 3) := dk_180 0 253 (dk_at dksX4_undo_1 17 rfl rfl)
theorem dX4_undo_44 : decode cX4_undo 44 = .ok (.ireturn, 1) := dk_172 (dk_at dksX4_undo_1 20 rfl rfl)
abbrev cX4_saveSnapshot : ByteArray := prog_24_method_85_code
def yX4_saveSnapshot : MethodName := ⟨RX4, "saveSnapshot", "()V"⟩
def dkwX4_saveSnapshot_0 : List UInt8 := [42, 3, 181, 0, 77, 42, 180, 0, 9, 3, 42, 180, 0, 19, 3, 184, 0, 213, 42, 4, 181, 1, 0, 177]
abbrev dktX4_saveSnapshot_0 : List UInt8 := dkwX4_saveSnapshot_0 ++ []
theorem dksX4_saveSnapshot_0 : cX4_saveSnapshot.data.toList.drop 0 = dktX4_saveSnapshot_0 := by decide +kernel
theorem dX4_saveSnapshot_0 : decode cX4_saveSnapshot 0 = .ok (.aload_n 0, 1) := dk_42 (dk_at dksX4_saveSnapshot_0 0 rfl rfl)
theorem dX4_saveSnapshot_1 : decode cX4_saveSnapshot 1 = .ok (.iconst 0, 1) := dk_3 (dk_at dksX4_saveSnapshot_0 1 rfl rfl)
theorem dX4_saveSnapshot_2 : decode cX4_saveSnapshot 2 = .ok (.putfield 77, 3) := dk_181 0 77 (dk_at dksX4_saveSnapshot_0 2 rfl rfl)
theorem dX4_saveSnapshot_5 : decode cX4_saveSnapshot 5 = .ok (.aload_n 0, 1) := dk_42 (dk_at dksX4_saveSnapshot_0 5 rfl rfl)
theorem dX4_saveSnapshot_6 : decode cX4_saveSnapshot 6 = .ok (.getfield 9, 3) := dk_180 0 9 (dk_at dksX4_saveSnapshot_0 6 rfl rfl)
theorem dX4_saveSnapshot_9 : decode cX4_saveSnapshot 9 = .ok (.iconst 0, 1) := dk_3 (dk_at dksX4_saveSnapshot_0 9 rfl rfl)
theorem dX4_saveSnapshot_10 : decode cX4_saveSnapshot 10 = .ok (.aload_n 0, 1) := dk_42 (dk_at dksX4_saveSnapshot_0 10 rfl rfl)
theorem dX4_saveSnapshot_11 : decode cX4_saveSnapshot 11 = .ok (.getfield 19, 3) := dk_180 0 19 (dk_at dksX4_saveSnapshot_0 11 rfl rfl)
theorem dX4_saveSnapshot_14 : decode cX4_saveSnapshot 14 = .ok (.iconst 0, 1) := dk_3 (dk_at dksX4_saveSnapshot_0 14 rfl rfl)
theorem dX4_saveSnapshot_15 : decode cX4_saveSnapshot 15 = .ok (.invokestatic 213, 3) := dk_184 0 213 (dk_at dksX4_saveSnapshot_0 15 rfl rfl)
theorem dX4_saveSnapshot_18 : decode cX4_saveSnapshot 18 = .ok (.aload_n 0, 1) := dk_42 (dk_at dksX4_saveSnapshot_0 18 rfl rfl)
theorem dX4_saveSnapshot_19 : decode cX4_saveSnapshot 19 = .ok (.iconst 1, 1) := dk_4 (dk_at dksX4_saveSnapshot_0 19 rfl rfl)
theorem dX4_saveSnapshot_20 : decode cX4_saveSnapshot 20 = .ok (.putfield 256, 3) := dk_181 1 0 (dk_at dksX4_saveSnapshot_0 20 rfl rfl)
theorem dX4_saveSnapshot_23 : decode cX4_saveSnapshot 23 = .ok (.return_, 1) := dk_177 (dk_at dksX4_saveSnapshot_0 23 rfl rfl)
abbrev cX4_restoreSnapshot : ByteArray := prog_24_method_86_code
def yX4_restoreSnapshot : MethodName := ⟨RX4, "restoreSnapshot", "()Z"⟩
def dkwX4_restoreSnapshot_1 : List UInt8 := [184, 0, 213, 42, 3, 181, 0, 253, 4, 172]
abbrev dktX4_restoreSnapshot_1 : List UInt8 := dkwX4_restoreSnapshot_1 ++ []
def dkwX4_restoreSnapshot_0 : List UInt8 := [42, 3, 181, 0, 77, 42, 180, 1, 0, 154, 0, 5, 3, 172, 42, 180, 0, 19, 3, 42, 180, 0, 9, 3]
abbrev dktX4_restoreSnapshot_0 : List UInt8 := dkwX4_restoreSnapshot_0 ++ dktX4_restoreSnapshot_1
theorem dksX4_restoreSnapshot_0 : cX4_restoreSnapshot.data.toList.drop 0 = dktX4_restoreSnapshot_0 := by decide +kernel
theorem dksX4_restoreSnapshot_1 : cX4_restoreSnapshot.data.toList.drop 24 = dktX4_restoreSnapshot_1 := dk_seg dksX4_restoreSnapshot_0 24 rfl rfl
theorem dX4_restoreSnapshot_0 : decode cX4_restoreSnapshot 0 = .ok (.aload_n 0, 1) := dk_42 (dk_at dksX4_restoreSnapshot_0 0 rfl rfl)
theorem dX4_restoreSnapshot_1 : decode cX4_restoreSnapshot 1 = .ok (.iconst 0, 1) := dk_3 (dk_at dksX4_restoreSnapshot_0 1 rfl rfl)
theorem dX4_restoreSnapshot_2 : decode cX4_restoreSnapshot 2 = .ok (.putfield 77, 3) := dk_181 0 77 (dk_at dksX4_restoreSnapshot_0 2 rfl rfl)
theorem dX4_restoreSnapshot_5 : decode cX4_restoreSnapshot 5 = .ok (.aload_n 0, 1) := dk_42 (dk_at dksX4_restoreSnapshot_0 5 rfl rfl)
theorem dX4_restoreSnapshot_6 : decode cX4_restoreSnapshot 6 = .ok (.getfield 256, 3) := dk_180 1 0 (dk_at dksX4_restoreSnapshot_0 6 rfl rfl)
theorem dX4_restoreSnapshot_9 : decode cX4_restoreSnapshot 9 = .ok (.ifCond .ne 5, 3) := dk_154 0 5 (dk_at dksX4_restoreSnapshot_0 9 rfl rfl)
theorem dX4_restoreSnapshot_12 : decode cX4_restoreSnapshot 12 = .ok (.iconst 0, 1) := dk_3 (dk_at dksX4_restoreSnapshot_0 12 rfl rfl)
theorem dX4_restoreSnapshot_13 : decode cX4_restoreSnapshot 13 = .ok (.ireturn, 1) := dk_172 (dk_at dksX4_restoreSnapshot_0 13 rfl rfl)
theorem dX4_restoreSnapshot_14 : decode cX4_restoreSnapshot 14 = .ok (.aload_n 0, 1) := dk_42 (dk_at dksX4_restoreSnapshot_0 14 rfl rfl)
theorem dX4_restoreSnapshot_15 : decode cX4_restoreSnapshot 15 = .ok (.getfield 19, 3) := dk_180 0 19 (dk_at dksX4_restoreSnapshot_0 15 rfl rfl)
theorem dX4_restoreSnapshot_18 : decode cX4_restoreSnapshot 18 = .ok (.iconst 0, 1) := dk_3 (dk_at dksX4_restoreSnapshot_0 18 rfl rfl)
theorem dX4_restoreSnapshot_19 : decode cX4_restoreSnapshot 19 = .ok (.aload_n 0, 1) := dk_42 (dk_at dksX4_restoreSnapshot_0 19 rfl rfl)
theorem dX4_restoreSnapshot_20 : decode cX4_restoreSnapshot 20 = .ok (.getfield 9, 3) := dk_180 0 9 (dk_at dksX4_restoreSnapshot_0 20 rfl rfl)
theorem dX4_restoreSnapshot_23 : decode cX4_restoreSnapshot 23 = .ok (.iconst 0, 1) := dk_3 (dk_at dksX4_restoreSnapshot_0 23 rfl rfl)
theorem dX4_restoreSnapshot_24 : decode cX4_restoreSnapshot 24 = .ok (.invokestatic 213, 3) := dk_184 0 213 (dk_at dksX4_restoreSnapshot_1 0 rfl rfl)
theorem dX4_restoreSnapshot_27 : decode cX4_restoreSnapshot 27 = .ok (.aload_n 0, 1) := dk_42 (dk_at dksX4_restoreSnapshot_1 3 rfl rfl)
theorem dX4_restoreSnapshot_28 : decode cX4_restoreSnapshot 28 = .ok (.iconst 0, 1) := dk_3 (dk_at dksX4_restoreSnapshot_1 4 rfl rfl)
theorem dX4_restoreSnapshot_29 : decode cX4_restoreSnapshot 29 = .ok (.putfield 253, 3) := dk_181 0 253 (dk_at dksX4_restoreSnapshot_1 5 rfl rfl)
theorem dX4_restoreSnapshot_32 : decode cX4_restoreSnapshot 32 = .ok (.iconst 1, 1) := dk_4 (dk_at dksX4_restoreSnapshot_1 8 rfl rfl)
theorem dX4_restoreSnapshot_33 : decode cX4_restoreSnapshot 33 = .ok (.ireturn, 1) := dk_172 (dk_at dksX4_restoreSnapshot_1 9 rfl rfl)
abbrev cX4_feed : ByteArray := prog_24_method_87_code
def yX4_feed : MethodName := ⟨RX4, "feed", "(IIIII)I"⟩
def dkwX4_feed_5 : List UInt8 := [167, 255, 162, 42, 180, 1, 4, 172]
abbrev dktX4_feed_5 : List UInt8 := dkwX4_feed_5 ++ []
def dkwX4_feed_4 : List UInt8 := [112, 104, 100, 122, 17, 0, 255, 126, 79, 42, 89, 180, 1, 4, 4, 96, 181, 1, 4, 132, 6, 1]
abbrev dktX4_feed_4 : List UInt8 := dkwX4_feed_4 ++ dktX4_feed_5
def dkwX4_feed_3 : List UInt8 := [167, 0, 5, 21, 5, 54, 7, 42, 180, 0, 35, 42, 180, 1, 4, 21, 7, 16, 24, 16, 8, 21, 6, 7]
abbrev dktX4_feed_3 : List UInt8 := dkwX4_feed_3 ++ dktX4_feed_4
def dkwX4_feed_2 : List UInt8 := [28, 167, 0, 28, 21, 6, 16, 12, 162, 0, 7, 29, 167, 0, 17, 21, 6, 16, 16, 162, 0, 8, 21, 4]
abbrev dktX4_feed_2 : List UInt8 := dkwX4_feed_2 ++ dktX4_feed_3
def dkwX4_feed_1 : List UInt8 := [21, 6, 16, 20, 162, 0, 93, 21, 6, 7, 162, 0, 7, 27, 167, 0, 39, 21, 6, 16, 8, 162, 0, 7]
abbrev dktX4_feed_1 : List UInt8 := dkwX4_feed_1 ++ dktX4_feed_2
def dkwX4_feed_0 : List UInt8 := [42, 3, 181, 0, 77, 42, 180, 1, 4, 16, 20, 96, 17, 2, 88, 164, 0, 5, 2, 172, 3, 54, 6]
abbrev dktX4_feed_0 : List UInt8 := dkwX4_feed_0 ++ dktX4_feed_1
theorem dksX4_feed_0 : cX4_feed.data.toList.drop 0 = dktX4_feed_0 := by decide +kernel
theorem dksX4_feed_1 : cX4_feed.data.toList.drop 23 = dktX4_feed_1 := dk_seg dksX4_feed_0 23 rfl rfl
theorem dksX4_feed_2 : cX4_feed.data.toList.drop 47 = dktX4_feed_2 := dk_seg dksX4_feed_1 24 rfl rfl
theorem dksX4_feed_3 : cX4_feed.data.toList.drop 71 = dktX4_feed_3 := dk_seg dksX4_feed_2 24 rfl rfl
theorem dksX4_feed_4 : cX4_feed.data.toList.drop 95 = dktX4_feed_4 := dk_seg dksX4_feed_3 24 rfl rfl
theorem dksX4_feed_5 : cX4_feed.data.toList.drop 117 = dktX4_feed_5 := dk_seg dksX4_feed_4 22 rfl rfl
theorem dX4_feed_0 : decode cX4_feed 0 = .ok (.aload_n 0, 1) := dk_42 (dk_at dksX4_feed_0 0 rfl rfl)
theorem dX4_feed_1 : decode cX4_feed 1 = .ok (.iconst 0, 1) := dk_3 (dk_at dksX4_feed_0 1 rfl rfl)
theorem dX4_feed_2 : decode cX4_feed 2 = .ok (.putfield 77, 3) := dk_181 0 77 (dk_at dksX4_feed_0 2 rfl rfl)
theorem dX4_feed_5 : decode cX4_feed 5 = .ok (.aload_n 0, 1) := dk_42 (dk_at dksX4_feed_0 5 rfl rfl)
theorem dX4_feed_6 : decode cX4_feed 6 = .ok (.getfield 260, 3) := dk_180 1 4 (dk_at dksX4_feed_0 6 rfl rfl)
theorem dX4_feed_9 : decode cX4_feed 9 = .ok (.bipush 20, 2) := dk_16 20 (dk_at dksX4_feed_0 9 rfl rfl)
theorem dX4_feed_11 : decode cX4_feed 11 = .ok (.iadd, 1) := dk_96 (dk_at dksX4_feed_0 11 rfl rfl)
theorem dX4_feed_12 : decode cX4_feed 12 = .ok (.sipush 600, 3) := dk_17 2 88 (dk_at dksX4_feed_0 12 rfl rfl)
theorem dX4_feed_15 : decode cX4_feed 15 = .ok (.if_icmp .le 5, 3) := dk_164 0 5 (dk_at dksX4_feed_0 15 rfl rfl)
theorem dX4_feed_18 : decode cX4_feed 18 = .ok (.iconst (-1), 1) := dk_2 (dk_at dksX4_feed_0 18 rfl rfl)
theorem dX4_feed_19 : decode cX4_feed 19 = .ok (.ireturn, 1) := dk_172 (dk_at dksX4_feed_0 19 rfl rfl)
theorem dX4_feed_20 : decode cX4_feed 20 = .ok (.iconst 0, 1) := dk_3 (dk_at dksX4_feed_0 20 rfl rfl)
theorem dX4_feed_21 : decode cX4_feed 21 = .ok (.istore 6, 2) := dk_54 6 (dk_at dksX4_feed_0 21 rfl rfl)
theorem dX4_feed_23 : decode cX4_feed 23 = .ok (.iload 6, 2) := dk_21 6 (dk_at dksX4_feed_1 0 rfl rfl)
theorem dX4_feed_25 : decode cX4_feed 25 = .ok (.bipush 20, 2) := dk_16 20 (dk_at dksX4_feed_1 2 rfl rfl)
theorem dX4_feed_27 : decode cX4_feed 27 = .ok (.if_icmp .ge 93, 3) := dk_162 0 93 (dk_at dksX4_feed_1 4 rfl rfl)
theorem dX4_feed_30 : decode cX4_feed 30 = .ok (.iload 6, 2) := dk_21 6 (dk_at dksX4_feed_1 7 rfl rfl)
theorem dX4_feed_32 : decode cX4_feed 32 = .ok (.iconst 4, 1) := dk_7 (dk_at dksX4_feed_1 9 rfl rfl)
theorem dX4_feed_33 : decode cX4_feed 33 = .ok (.if_icmp .ge 7, 3) := dk_162 0 7 (dk_at dksX4_feed_1 10 rfl rfl)
theorem dX4_feed_36 : decode cX4_feed 36 = .ok (.iload_n 1, 1) := dk_27 (dk_at dksX4_feed_1 13 rfl rfl)
theorem dX4_feed_37 : decode cX4_feed 37 = .ok (.goto 39, 3) := dk_167 0 39 (dk_at dksX4_feed_1 14 rfl rfl)
theorem dX4_feed_40 : decode cX4_feed 40 = .ok (.iload 6, 2) := dk_21 6 (dk_at dksX4_feed_1 17 rfl rfl)
theorem dX4_feed_42 : decode cX4_feed 42 = .ok (.bipush 8, 2) := dk_16 8 (dk_at dksX4_feed_1 19 rfl rfl)
theorem dX4_feed_44 : decode cX4_feed 44 = .ok (.if_icmp .ge 7, 3) := dk_162 0 7 (dk_at dksX4_feed_1 21 rfl rfl)
theorem dX4_feed_47 : decode cX4_feed 47 = .ok (.iload_n 2, 1) := dk_28 (dk_at dksX4_feed_2 0 rfl rfl)
theorem dX4_feed_48 : decode cX4_feed 48 = .ok (.goto 28, 3) := dk_167 0 28 (dk_at dksX4_feed_2 1 rfl rfl)
theorem dX4_feed_51 : decode cX4_feed 51 = .ok (.iload 6, 2) := dk_21 6 (dk_at dksX4_feed_2 4 rfl rfl)
theorem dX4_feed_53 : decode cX4_feed 53 = .ok (.bipush 12, 2) := dk_16 12 (dk_at dksX4_feed_2 6 rfl rfl)
theorem dX4_feed_55 : decode cX4_feed 55 = .ok (.if_icmp .ge 7, 3) := dk_162 0 7 (dk_at dksX4_feed_2 8 rfl rfl)
theorem dX4_feed_58 : decode cX4_feed 58 = .ok (.iload_n 3, 1) := dk_29 (dk_at dksX4_feed_2 11 rfl rfl)
theorem dX4_feed_59 : decode cX4_feed 59 = .ok (.goto 17, 3) := dk_167 0 17 (dk_at dksX4_feed_2 12 rfl rfl)
theorem dX4_feed_62 : decode cX4_feed 62 = .ok (.iload 6, 2) := dk_21 6 (dk_at dksX4_feed_2 15 rfl rfl)
theorem dX4_feed_64 : decode cX4_feed 64 = .ok (.bipush 16, 2) := dk_16 16 (dk_at dksX4_feed_2 17 rfl rfl)
theorem dX4_feed_66 : decode cX4_feed 66 = .ok (.if_icmp .ge 8, 3) := dk_162 0 8 (dk_at dksX4_feed_2 19 rfl rfl)
theorem dX4_feed_69 : decode cX4_feed 69 = .ok (.iload 4, 2) := dk_21 4 (dk_at dksX4_feed_2 22 rfl rfl)
theorem dX4_feed_71 : decode cX4_feed 71 = .ok (.goto 5, 3) := dk_167 0 5 (dk_at dksX4_feed_3 0 rfl rfl)
theorem dX4_feed_74 : decode cX4_feed 74 = .ok (.iload 5, 2) := dk_21 5 (dk_at dksX4_feed_3 3 rfl rfl)
theorem dX4_feed_76 : decode cX4_feed 76 = .ok (.istore 7, 2) := dk_54 7 (dk_at dksX4_feed_3 5 rfl rfl)
theorem dX4_feed_78 : decode cX4_feed 78 = .ok (.aload_n 0, 1) := dk_42 (dk_at dksX4_feed_3 7 rfl rfl)
theorem dX4_feed_79 : decode cX4_feed 79 = .ok (.getfield 35, 3) := dk_180 0 35 (dk_at dksX4_feed_3 8 rfl rfl)
theorem dX4_feed_82 : decode cX4_feed 82 = .ok (.aload_n 0, 1) := dk_42 (dk_at dksX4_feed_3 11 rfl rfl)
theorem dX4_feed_83 : decode cX4_feed 83 = .ok (.getfield 260, 3) := dk_180 1 4 (dk_at dksX4_feed_3 12 rfl rfl)
theorem dX4_feed_86 : decode cX4_feed 86 = .ok (.iload 7, 2) := dk_21 7 (dk_at dksX4_feed_3 15 rfl rfl)
theorem dX4_feed_88 : decode cX4_feed 88 = .ok (.bipush 24, 2) := dk_16 24 (dk_at dksX4_feed_3 17 rfl rfl)
theorem dX4_feed_90 : decode cX4_feed 90 = .ok (.bipush 8, 2) := dk_16 8 (dk_at dksX4_feed_3 19 rfl rfl)
theorem dX4_feed_92 : decode cX4_feed 92 = .ok (.iload 6, 2) := dk_21 6 (dk_at dksX4_feed_3 21 rfl rfl)
theorem dX4_feed_94 : decode cX4_feed 94 = .ok (.iconst 4, 1) := dk_7 (dk_at dksX4_feed_3 23 rfl rfl)
theorem dX4_feed_95 : decode cX4_feed 95 = .ok (.irem, 1) := dk_112 (dk_at dksX4_feed_4 0 rfl rfl)
theorem dX4_feed_96 : decode cX4_feed 96 = .ok (.imul, 1) := dk_104 (dk_at dksX4_feed_4 1 rfl rfl)
theorem dX4_feed_97 : decode cX4_feed 97 = .ok (.isub, 1) := dk_100 (dk_at dksX4_feed_4 2 rfl rfl)
theorem dX4_feed_98 : decode cX4_feed 98 = .ok (.ishr, 1) := dk_122 (dk_at dksX4_feed_4 3 rfl rfl)
theorem dX4_feed_99 : decode cX4_feed 99 = .ok (.sipush 255, 3) := dk_17 0 255 (dk_at dksX4_feed_4 4 rfl rfl)
theorem dX4_feed_102 : decode cX4_feed 102 = .ok (.iand, 1) := dk_126 (dk_at dksX4_feed_4 7 rfl rfl)
theorem dX4_feed_103 : decode cX4_feed 103 = .ok (.iastore, 1) := dk_79 (dk_at dksX4_feed_4 8 rfl rfl)
theorem dX4_feed_104 : decode cX4_feed 104 = .ok (.aload_n 0, 1) := dk_42 (dk_at dksX4_feed_4 9 rfl rfl)
theorem dX4_feed_105 : decode cX4_feed 105 = .ok (.dup, 1) := dk_89 (dk_at dksX4_feed_4 10 rfl rfl)
theorem dX4_feed_106 : decode cX4_feed 106 = .ok (.getfield 260, 3) := dk_180 1 4 (dk_at dksX4_feed_4 11 rfl rfl)
theorem dX4_feed_109 : decode cX4_feed 109 = .ok (.iconst 1, 1) := dk_4 (dk_at dksX4_feed_4 14 rfl rfl)
theorem dX4_feed_110 : decode cX4_feed 110 = .ok (.iadd, 1) := dk_96 (dk_at dksX4_feed_4 15 rfl rfl)
theorem dX4_feed_111 : decode cX4_feed 111 = .ok (.putfield 260, 3) := dk_181 1 4 (dk_at dksX4_feed_4 16 rfl rfl)
theorem dX4_feed_114 : decode cX4_feed 114 = .ok (.iinc 6 1, 3) := dk_132 6 1 (dk_at dksX4_feed_4 19 rfl rfl)
theorem dX4_feed_117 : decode cX4_feed 117 = .ok (.goto (-94), 3) := dk_167 255 162 (dk_at dksX4_feed_5 0 rfl rfl)
theorem dX4_feed_120 : decode cX4_feed 120 = .ok (.aload_n 0, 1) := dk_42 (dk_at dksX4_feed_5 3 rfl rfl)
theorem dX4_feed_121 : decode cX4_feed 121 = .ok (.getfield 260, 3) := dk_180 1 4 (dk_at dksX4_feed_5 4 rfl rfl)
theorem dX4_feed_124 : decode cX4_feed 124 = .ok (.ireturn, 1) := dk_172 (dk_at dksX4_feed_5 7 rfl rfl)
abbrev cX4_errorPosition : ByteArray := prog_24_method_88_code
def yX4_errorPosition : MethodName := ⟨RX4, "errorPosition", "()I"⟩
def dkwX4_errorPosition_0 : List UInt8 := [42, 3, 181, 0, 77, 42, 180, 0, 38, 172]
abbrev dktX4_errorPosition_0 : List UInt8 := dkwX4_errorPosition_0 ++ []
theorem dksX4_errorPosition_0 : cX4_errorPosition.data.toList.drop 0 = dktX4_errorPosition_0 := by decide +kernel
theorem dX4_errorPosition_0 : decode cX4_errorPosition 0 = .ok (.aload_n 0, 1) := dk_42 (dk_at dksX4_errorPosition_0 0 rfl rfl)
theorem dX4_errorPosition_1 : decode cX4_errorPosition 1 = .ok (.iconst 0, 1) := dk_3 (dk_at dksX4_errorPosition_0 1 rfl rfl)
theorem dX4_errorPosition_2 : decode cX4_errorPosition 2 = .ok (.putfield 77, 3) := dk_181 0 77 (dk_at dksX4_errorPosition_0 2 rfl rfl)
theorem dX4_errorPosition_5 : decode cX4_errorPosition 5 = .ok (.aload_n 0, 1) := dk_42 (dk_at dksX4_errorPosition_0 5 rfl rfl)
theorem dX4_errorPosition_6 : decode cX4_errorPosition 6 = .ok (.getfield 38, 3) := dk_180 0 38 (dk_at dksX4_errorPosition_0 6 rfl rfl)
theorem dX4_errorPosition_9 : decode cX4_errorPosition 9 = .ok (.ireturn, 1) := dk_172 (dk_at dksX4_errorPosition_0 9 rfl rfl)
abbrev cX4_load : ByteArray := prog_24_method_114_code
def yX4_load : MethodName := ⟨RX4, "load", "(I)I"⟩
def dkwX4_load_3 : List UInt8 := [42, 3, 181, 1, 0, 42, 180, 0, 9, 5, 46, 172]
abbrev dktX4_load_3 : List UInt8 := dkwX4_load_3 ++ []
def dkwX4_load_2 : List UInt8 := [42, 180, 1, 28, 100, 172, 42, 180, 0, 13, 3, 42, 180, 0, 9, 3, 184, 0, 213, 42, 3, 181, 0, 253]
abbrev dktX4_load_2 : List UInt8 := dkwX4_load_2 ++ dktX4_load_3
def dkwX4_load_1 : List UInt8 := [180, 0, 13, 184, 0, 73, 42, 27, 182, 1, 133, 42, 182, 1, 136, 42, 182, 1, 139, 153, 0, 11, 16, 246]
abbrev dktX4_load_1 : List UInt8 := dkwX4_load_1 ++ dktX4_load_2
def dkwX4_load_0 : List UInt8 := [42, 3, 181, 0, 77, 27, 3, 42, 180, 1, 4, 184, 0, 90, 154, 0, 9, 42, 4, 182, 0, 192, 172, 42]
abbrev dktX4_load_0 : List UInt8 := dkwX4_load_0 ++ dktX4_load_1
theorem dksX4_load_0 : cX4_load.data.toList.drop 0 = dktX4_load_0 := by decide +kernel
theorem dksX4_load_1 : cX4_load.data.toList.drop 24 = dktX4_load_1 := dk_seg dksX4_load_0 24 rfl rfl
theorem dksX4_load_2 : cX4_load.data.toList.drop 48 = dktX4_load_2 := dk_seg dksX4_load_1 24 rfl rfl
theorem dksX4_load_3 : cX4_load.data.toList.drop 72 = dktX4_load_3 := dk_seg dksX4_load_2 24 rfl rfl
theorem dX4_load_0 : decode cX4_load 0 = .ok (.aload_n 0, 1) := dk_42 (dk_at dksX4_load_0 0 rfl rfl)
theorem dX4_load_1 : decode cX4_load 1 = .ok (.iconst 0, 1) := dk_3 (dk_at dksX4_load_0 1 rfl rfl)
theorem dX4_load_2 : decode cX4_load 2 = .ok (.putfield 77, 3) := dk_181 0 77 (dk_at dksX4_load_0 2 rfl rfl)
theorem dX4_load_5 : decode cX4_load 5 = .ok (.iload_n 1, 1) := dk_27 (dk_at dksX4_load_0 5 rfl rfl)
theorem dX4_load_6 : decode cX4_load 6 = .ok (.iconst 0, 1) := dk_3 (dk_at dksX4_load_0 6 rfl rfl)
theorem dX4_load_7 : decode cX4_load 7 = .ok (.aload_n 0, 1) := dk_42 (dk_at dksX4_load_0 7 rfl rfl)
theorem dX4_load_8 : decode cX4_load 8 = .ok (.getfield 260, 3) := dk_180 1 4 (dk_at dksX4_load_0 8 rfl rfl)
theorem dX4_load_11 : decode cX4_load 11 = .ok (.invokestatic 90, 3) := dk_184 0 90 (dk_at dksX4_load_0 11 rfl rfl)
theorem dX4_load_14 : decode cX4_load 14 = .ok (.ifCond .ne 9, 3) := dk_154 0 9 (dk_at dksX4_load_0 14 rfl rfl)
theorem dX4_load_17 : decode cX4_load 17 = .ok (.aload_n 0, 1) := dk_42 (dk_at dksX4_load_0 17 rfl rfl)
theorem dX4_load_18 : decode cX4_load 18 = .ok (.iconst 1, 1) := dk_4 (dk_at dksX4_load_0 18 rfl rfl)
theorem dX4_load_19 : decode cX4_load 19 = .ok (.invokevirtual 192, 3) := dk_182 0 192 (dk_at dksX4_load_0 19 rfl rfl)
theorem dX4_load_22 : decode cX4_load 22 = .ok (.ireturn, 1) := dk_172 (dk_at dksX4_load_0 22 rfl rfl)
theorem dX4_load_23 : decode cX4_load 23 = .ok (.aload_n 0, 1) := dk_42 (dk_at dksX4_load_0 23 rfl rfl)
theorem dX4_load_24 : decode cX4_load 24 = .ok (.getfield 13, 3) := dk_180 0 13 (dk_at dksX4_load_1 0 rfl rfl)
theorem dX4_load_27 : decode cX4_load 27 = .ok (.invokestatic 73, 3) := dk_184 0 73 (dk_at dksX4_load_1 3 rfl rfl)
theorem dX4_load_30 : decode cX4_load 30 = .ok (.aload_n 0, 1) := dk_42 (dk_at dksX4_load_1 6 rfl rfl)
theorem dX4_load_31 : decode cX4_load 31 = .ok (.iload_n 1, 1) := dk_27 (dk_at dksX4_load_1 7 rfl rfl)
theorem dX4_load_32 : decode cX4_load 32 = .ok (.invokevirtual 389, 3) := dk_182 1 133 (dk_at dksX4_load_1 8 rfl rfl)
theorem dX4_load_35 : decode cX4_load 35 = .ok (.aload_n 0, 1) := dk_42 (dk_at dksX4_load_1 11 rfl rfl)
theorem dX4_load_36 : decode cX4_load 36 = .ok (.invokevirtual 392, 3) := dk_182 1 136 (dk_at dksX4_load_1 12 rfl rfl)
theorem dX4_load_39 : decode cX4_load 39 = .ok (.aload_n 0, 1) := dk_42 (dk_at dksX4_load_1 15 rfl rfl)
theorem dX4_load_40 : decode cX4_load 40 = .ok (.invokevirtual 395, 3) := dk_182 1 139 (dk_at dksX4_load_1 16 rfl rfl)
theorem dX4_load_43 : decode cX4_load 43 = .ok (.ifCond .eq 11, 3) := dk_153 0 11 (dk_at dksX4_load_1 19 rfl rfl)
theorem dX4_load_46 : decode cX4_load 46 = .ok (.bipush (-10), 2) := dk_16 246 (dk_at dksX4_load_1 22 rfl rfl)
theorem dX4_load_48 : decode cX4_load 48 = .ok (.aload_n 0, 1) := dk_42 (dk_at dksX4_load_2 0 rfl rfl)
theorem dX4_load_49 : decode cX4_load 49 = .ok (.getfield 284, 3) := dk_180 1 28 (dk_at dksX4_load_2 1 rfl rfl)
theorem dX4_load_52 : decode cX4_load 52 = .ok (.isub, 1) := dk_100 (dk_at dksX4_load_2 4 rfl rfl)
theorem dX4_load_53 : decode cX4_load 53 = .ok (.ireturn, 1) := dk_172 (dk_at dksX4_load_2 5 rfl rfl)
theorem dX4_load_54 : decode cX4_load 54 = .ok (.aload_n 0, 1) := dk_42 (dk_at dksX4_load_2 6 rfl rfl)
theorem dX4_load_55 : decode cX4_load 55 = .ok (.getfield 13, 3) := dk_180 0 13 (dk_at dksX4_load_2 7 rfl rfl)
theorem dX4_load_58 : decode cX4_load 58 = .ok (.iconst 0, 1) := dk_3 (dk_at dksX4_load_2 10 rfl rfl)
theorem dX4_load_59 : decode cX4_load 59 = .ok (.aload_n 0, 1) := dk_42 (dk_at dksX4_load_2 11 rfl rfl)
theorem dX4_load_60 : decode cX4_load 60 = .ok (.getfield 9, 3) := dk_180 0 9 (dk_at dksX4_load_2 12 rfl rfl)
theorem dX4_load_63 : decode cX4_load 63 = .ok (.iconst 0, 1) := dk_3 (dk_at dksX4_load_2 15 rfl rfl)
theorem dX4_load_64 : decode cX4_load 64 = .ok (.invokestatic 213, 3) := dk_184 0 213 (dk_at dksX4_load_2 16 rfl rfl)
theorem dX4_load_67 : decode cX4_load 67 = .ok (.aload_n 0, 1) := dk_42 (dk_at dksX4_load_2 19 rfl rfl)
theorem dX4_load_68 : decode cX4_load 68 = .ok (.iconst 0, 1) := dk_3 (dk_at dksX4_load_2 20 rfl rfl)
theorem dX4_load_69 : decode cX4_load 69 = .ok (.putfield 253, 3) := dk_181 0 253 (dk_at dksX4_load_2 21 rfl rfl)
theorem dX4_load_72 : decode cX4_load 72 = .ok (.aload_n 0, 1) := dk_42 (dk_at dksX4_load_3 0 rfl rfl)
theorem dX4_load_73 : decode cX4_load 73 = .ok (.iconst 0, 1) := dk_3 (dk_at dksX4_load_3 1 rfl rfl)
theorem dX4_load_74 : decode cX4_load 74 = .ok (.putfield 256, 3) := dk_181 1 0 (dk_at dksX4_load_3 2 rfl rfl)
theorem dX4_load_77 : decode cX4_load 77 = .ok (.aload_n 0, 1) := dk_42 (dk_at dksX4_load_3 5 rfl rfl)
theorem dX4_load_78 : decode cX4_load 78 = .ok (.getfield 9, 3) := dk_180 0 9 (dk_at dksX4_load_3 6 rfl rfl)
theorem dX4_load_81 : decode cX4_load 81 = .ok (.iconst 2, 1) := dk_5 (dk_at dksX4_load_3 9 rfl rfl)
theorem dX4_load_82 : decode cX4_load 82 = .ok (.iaload, 1) := dk_46 (dk_at dksX4_load_3 10 rfl rfl)
theorem dX4_load_83 : decode cX4_load 83 = .ok (.ireturn, 1) := dk_172 (dk_at dksX4_load_3 11 rfl rfl)
abbrev cX4_startText : ByteArray := prog_24_method_93_code
def yX4_startText : MethodName := ⟨RX4, "startText", "(I)V"⟩
def dkwX4_startText_1 : List UInt8 := [177]
abbrev dktX4_startText_1 : List UInt8 := dkwX4_startText_1 ++ []
def dkwX4_startText_0 : List UInt8 := [42, 27, 181, 1, 7, 42, 3, 181, 1, 13, 42, 3, 181, 1, 28, 42, 3, 181, 1, 31, 42, 182, 1, 34]
abbrev dktX4_startText_0 : List UInt8 := dkwX4_startText_0 ++ dktX4_startText_1
theorem dksX4_startText_0 : cX4_startText.data.toList.drop 0 = dktX4_startText_0 := by decide +kernel
theorem dksX4_startText_1 : cX4_startText.data.toList.drop 24 = dktX4_startText_1 := dk_seg dksX4_startText_0 24 rfl rfl
theorem dX4_startText_0 : decode cX4_startText 0 = .ok (.aload_n 0, 1) := dk_42 (dk_at dksX4_startText_0 0 rfl rfl)
theorem dX4_startText_1 : decode cX4_startText 1 = .ok (.iload_n 1, 1) := dk_27 (dk_at dksX4_startText_0 1 rfl rfl)
theorem dX4_startText_2 : decode cX4_startText 2 = .ok (.putfield 263, 3) := dk_181 1 7 (dk_at dksX4_startText_0 2 rfl rfl)
theorem dX4_startText_5 : decode cX4_startText 5 = .ok (.aload_n 0, 1) := dk_42 (dk_at dksX4_startText_0 5 rfl rfl)
theorem dX4_startText_6 : decode cX4_startText 6 = .ok (.iconst 0, 1) := dk_3 (dk_at dksX4_startText_0 6 rfl rfl)
theorem dX4_startText_7 : decode cX4_startText 7 = .ok (.putfield 269, 3) := dk_181 1 13 (dk_at dksX4_startText_0 7 rfl rfl)
theorem dX4_startText_10 : decode cX4_startText 10 = .ok (.aload_n 0, 1) := dk_42 (dk_at dksX4_startText_0 10 rfl rfl)
theorem dX4_startText_11 : decode cX4_startText 11 = .ok (.iconst 0, 1) := dk_3 (dk_at dksX4_startText_0 11 rfl rfl)
theorem dX4_startText_12 : decode cX4_startText 12 = .ok (.putfield 284, 3) := dk_181 1 28 (dk_at dksX4_startText_0 12 rfl rfl)
theorem dX4_startText_15 : decode cX4_startText 15 = .ok (.aload_n 0, 1) := dk_42 (dk_at dksX4_startText_0 15 rfl rfl)
theorem dX4_startText_16 : decode cX4_startText 16 = .ok (.iconst 0, 1) := dk_3 (dk_at dksX4_startText_0 16 rfl rfl)
theorem dX4_startText_17 : decode cX4_startText 17 = .ok (.putfield 287, 3) := dk_181 1 31 (dk_at dksX4_startText_0 17 rfl rfl)
theorem dX4_startText_20 : decode cX4_startText 20 = .ok (.aload_n 0, 1) := dk_42 (dk_at dksX4_startText_0 20 rfl rfl)
theorem dX4_startText_21 : decode cX4_startText 21 = .ok (.invokevirtual 290, 3) := dk_182 1 34 (dk_at dksX4_startText_0 21 rfl rfl)
theorem dX4_startText_24 : decode cX4_startText 24 = .ok (.return_, 1) := dk_177 (dk_at dksX4_startText_1 0 rfl rfl)
abbrev cX4_scan : ByteArray := prog_24_method_92_code
def yX4_scan : MethodName := ⟨RX4, "scan", "()V"⟩
def dkwX4_scan_7 : List UInt8 := [181, 1, 19, 177]
abbrev dktX4_scan_7 : List UInt8 := dkwX4_scan_7 ++ []
def dkwX4_scan_6 : List UInt8 := [167, 255, 235, 42, 5, 181, 1, 19, 167, 0, 18, 42, 89, 180, 1, 13, 4, 96, 181, 1, 13, 42, 6]
abbrev dktX4_scan_6 : List UInt8 := dkwX4_scan_6 ++ dktX4_scan_7
def dkwX4_scan_5 : List UInt8 := [153, 0, 35, 42, 42, 180, 1, 13, 182, 1, 25, 153, 0, 16, 42, 89, 180, 1, 13, 4, 96, 181, 1, 13]
abbrev dktX4_scan_5 : List UInt8 := dkwX4_scan_5 ++ dktX4_scan_6
def dkwX4_scan_4 : List UInt8 := [181, 1, 13, 167, 255, 235, 42, 4, 181, 1, 19, 167, 0, 61, 42, 42, 180, 1, 13, 182, 1, 25]
abbrev dktX4_scan_4 : List UInt8 := dkwX4_scan_4 ++ dktX4_scan_5
def dkwX4_scan_3 : List UInt8 := [182, 1, 22, 153, 0, 35, 42, 42, 180, 1, 13, 182, 1, 22, 153, 0, 16, 42, 89, 180, 1, 13, 4, 96]
abbrev dktX4_scan_3 : List UInt8 := dkwX4_scan_3 ++ dktX4_scan_4
def dkwX4_scan_2 : List UInt8 := [42, 180, 1, 13, 42, 180, 1, 7, 161, 0, 11, 42, 3, 181, 1, 19, 167, 0, 104, 42, 42, 180, 1, 13]
abbrev dktX4_scan_2 : List UInt8 := dkwX4_scan_2 ++ dktX4_scan_3
def dkwX4_scan_1 : List UInt8 := [160, 0, 16, 42, 89, 180, 1, 13, 4, 96, 181, 1, 13, 167, 255, 220, 42, 42, 180, 1, 13, 181, 1, 16]
abbrev dktX4_scan_1 : List UInt8 := dkwX4_scan_1 ++ dktX4_scan_2
def dkwX4_scan_0 : List UInt8 := [42, 42, 180, 1, 13, 182, 1, 10, 16, 32, 159, 0, 16, 42, 42, 180, 1, 13, 182, 1, 10, 16, 10]
abbrev dktX4_scan_0 : List UInt8 := dkwX4_scan_0 ++ dktX4_scan_1
theorem dksX4_scan_0 : cX4_scan.data.toList.drop 0 = dktX4_scan_0 := by decide +kernel
theorem dksX4_scan_1 : cX4_scan.data.toList.drop 23 = dktX4_scan_1 := dk_seg dksX4_scan_0 23 rfl rfl
theorem dksX4_scan_2 : cX4_scan.data.toList.drop 47 = dktX4_scan_2 := dk_seg dksX4_scan_1 24 rfl rfl
theorem dksX4_scan_3 : cX4_scan.data.toList.drop 71 = dktX4_scan_3 := dk_seg dksX4_scan_2 24 rfl rfl
theorem dksX4_scan_4 : cX4_scan.data.toList.drop 95 = dktX4_scan_4 := dk_seg dksX4_scan_3 24 rfl rfl
theorem dksX4_scan_5 : cX4_scan.data.toList.drop 117 = dktX4_scan_5 := dk_seg dksX4_scan_4 22 rfl rfl
theorem dksX4_scan_6 : cX4_scan.data.toList.drop 141 = dktX4_scan_6 := dk_seg dksX4_scan_5 24 rfl rfl
theorem dksX4_scan_7 : cX4_scan.data.toList.drop 164 = dktX4_scan_7 := dk_seg dksX4_scan_6 23 rfl rfl
theorem dX4_scan_0 : decode cX4_scan 0 = .ok (.aload_n 0, 1) := dk_42 (dk_at dksX4_scan_0 0 rfl rfl)
theorem dX4_scan_1 : decode cX4_scan 1 = .ok (.aload_n 0, 1) := dk_42 (dk_at dksX4_scan_0 1 rfl rfl)
theorem dX4_scan_2 : decode cX4_scan 2 = .ok (.getfield 269, 3) := dk_180 1 13 (dk_at dksX4_scan_0 2 rfl rfl)
theorem dX4_scan_5 : decode cX4_scan 5 = .ok (.invokevirtual 266, 3) := dk_182 1 10 (dk_at dksX4_scan_0 5 rfl rfl)
theorem dX4_scan_8 : decode cX4_scan 8 = .ok (.bipush 32, 2) := dk_16 32 (dk_at dksX4_scan_0 8 rfl rfl)
theorem dX4_scan_10 : decode cX4_scan 10 = .ok (.if_icmp .eq 16, 3) := dk_159 0 16 (dk_at dksX4_scan_0 10 rfl rfl)
theorem dX4_scan_13 : decode cX4_scan 13 = .ok (.aload_n 0, 1) := dk_42 (dk_at dksX4_scan_0 13 rfl rfl)
theorem dX4_scan_14 : decode cX4_scan 14 = .ok (.aload_n 0, 1) := dk_42 (dk_at dksX4_scan_0 14 rfl rfl)
theorem dX4_scan_15 : decode cX4_scan 15 = .ok (.getfield 269, 3) := dk_180 1 13 (dk_at dksX4_scan_0 15 rfl rfl)
theorem dX4_scan_18 : decode cX4_scan 18 = .ok (.invokevirtual 266, 3) := dk_182 1 10 (dk_at dksX4_scan_0 18 rfl rfl)
theorem dX4_scan_21 : decode cX4_scan 21 = .ok (.bipush 10, 2) := dk_16 10 (dk_at dksX4_scan_0 21 rfl rfl)
theorem dX4_scan_23 : decode cX4_scan 23 = .ok (.if_icmp .ne 16, 3) := dk_160 0 16 (dk_at dksX4_scan_1 0 rfl rfl)
theorem dX4_scan_26 : decode cX4_scan 26 = .ok (.aload_n 0, 1) := dk_42 (dk_at dksX4_scan_1 3 rfl rfl)
theorem dX4_scan_27 : decode cX4_scan 27 = .ok (.dup, 1) := dk_89 (dk_at dksX4_scan_1 4 rfl rfl)
theorem dX4_scan_28 : decode cX4_scan 28 = .ok (.getfield 269, 3) := dk_180 1 13 (dk_at dksX4_scan_1 5 rfl rfl)
theorem dX4_scan_31 : decode cX4_scan 31 = .ok (.iconst 1, 1) := dk_4 (dk_at dksX4_scan_1 8 rfl rfl)
theorem dX4_scan_32 : decode cX4_scan 32 = .ok (.iadd, 1) := dk_96 (dk_at dksX4_scan_1 9 rfl rfl)
theorem dX4_scan_33 : decode cX4_scan 33 = .ok (.putfield 269, 3) := dk_181 1 13 (dk_at dksX4_scan_1 10 rfl rfl)
theorem dX4_scan_36 : decode cX4_scan 36 = .ok (.goto (-36), 3) := dk_167 255 220 (dk_at dksX4_scan_1 13 rfl rfl)
theorem dX4_scan_39 : decode cX4_scan 39 = .ok (.aload_n 0, 1) := dk_42 (dk_at dksX4_scan_1 16 rfl rfl)
theorem dX4_scan_40 : decode cX4_scan 40 = .ok (.aload_n 0, 1) := dk_42 (dk_at dksX4_scan_1 17 rfl rfl)
theorem dX4_scan_41 : decode cX4_scan 41 = .ok (.getfield 269, 3) := dk_180 1 13 (dk_at dksX4_scan_1 18 rfl rfl)
theorem dX4_scan_44 : decode cX4_scan 44 = .ok (.putfield 272, 3) := dk_181 1 16 (dk_at dksX4_scan_1 21 rfl rfl)
theorem dX4_scan_47 : decode cX4_scan 47 = .ok (.aload_n 0, 1) := dk_42 (dk_at dksX4_scan_2 0 rfl rfl)
theorem dX4_scan_48 : decode cX4_scan 48 = .ok (.getfield 269, 3) := dk_180 1 13 (dk_at dksX4_scan_2 1 rfl rfl)
theorem dX4_scan_51 : decode cX4_scan 51 = .ok (.aload_n 0, 1) := dk_42 (dk_at dksX4_scan_2 4 rfl rfl)
theorem dX4_scan_52 : decode cX4_scan 52 = .ok (.getfield 263, 3) := dk_180 1 7 (dk_at dksX4_scan_2 5 rfl rfl)
theorem dX4_scan_55 : decode cX4_scan 55 = .ok (.if_icmp .lt 11, 3) := dk_161 0 11 (dk_at dksX4_scan_2 8 rfl rfl)
theorem dX4_scan_58 : decode cX4_scan 58 = .ok (.aload_n 0, 1) := dk_42 (dk_at dksX4_scan_2 11 rfl rfl)
theorem dX4_scan_59 : decode cX4_scan 59 = .ok (.iconst 0, 1) := dk_3 (dk_at dksX4_scan_2 12 rfl rfl)
theorem dX4_scan_60 : decode cX4_scan 60 = .ok (.putfield 275, 3) := dk_181 1 19 (dk_at dksX4_scan_2 13 rfl rfl)
theorem dX4_scan_63 : decode cX4_scan 63 = .ok (.goto 104, 3) := dk_167 0 104 (dk_at dksX4_scan_2 16 rfl rfl)
theorem dX4_scan_66 : decode cX4_scan 66 = .ok (.aload_n 0, 1) := dk_42 (dk_at dksX4_scan_2 19 rfl rfl)
theorem dX4_scan_67 : decode cX4_scan 67 = .ok (.aload_n 0, 1) := dk_42 (dk_at dksX4_scan_2 20 rfl rfl)
theorem dX4_scan_68 : decode cX4_scan 68 = .ok (.getfield 269, 3) := dk_180 1 13 (dk_at dksX4_scan_2 21 rfl rfl)
theorem dX4_scan_71 : decode cX4_scan 71 = .ok (.invokevirtual 278, 3) := dk_182 1 22 (dk_at dksX4_scan_3 0 rfl rfl)
theorem dX4_scan_74 : decode cX4_scan 74 = .ok (.ifCond .eq 35, 3) := dk_153 0 35 (dk_at dksX4_scan_3 3 rfl rfl)
theorem dX4_scan_77 : decode cX4_scan 77 = .ok (.aload_n 0, 1) := dk_42 (dk_at dksX4_scan_3 6 rfl rfl)
theorem dX4_scan_78 : decode cX4_scan 78 = .ok (.aload_n 0, 1) := dk_42 (dk_at dksX4_scan_3 7 rfl rfl)
theorem dX4_scan_79 : decode cX4_scan 79 = .ok (.getfield 269, 3) := dk_180 1 13 (dk_at dksX4_scan_3 8 rfl rfl)
theorem dX4_scan_82 : decode cX4_scan 82 = .ok (.invokevirtual 278, 3) := dk_182 1 22 (dk_at dksX4_scan_3 11 rfl rfl)
theorem dX4_scan_85 : decode cX4_scan 85 = .ok (.ifCond .eq 16, 3) := dk_153 0 16 (dk_at dksX4_scan_3 14 rfl rfl)
theorem dX4_scan_88 : decode cX4_scan 88 = .ok (.aload_n 0, 1) := dk_42 (dk_at dksX4_scan_3 17 rfl rfl)
theorem dX4_scan_89 : decode cX4_scan 89 = .ok (.dup, 1) := dk_89 (dk_at dksX4_scan_3 18 rfl rfl)
theorem dX4_scan_90 : decode cX4_scan 90 = .ok (.getfield 269, 3) := dk_180 1 13 (dk_at dksX4_scan_3 19 rfl rfl)
theorem dX4_scan_93 : decode cX4_scan 93 = .ok (.iconst 1, 1) := dk_4 (dk_at dksX4_scan_3 22 rfl rfl)
theorem dX4_scan_94 : decode cX4_scan 94 = .ok (.iadd, 1) := dk_96 (dk_at dksX4_scan_3 23 rfl rfl)
theorem dX4_scan_95 : decode cX4_scan 95 = .ok (.putfield 269, 3) := dk_181 1 13 (dk_at dksX4_scan_4 0 rfl rfl)
theorem dX4_scan_98 : decode cX4_scan 98 = .ok (.goto (-21), 3) := dk_167 255 235 (dk_at dksX4_scan_4 3 rfl rfl)
theorem dX4_scan_101 : decode cX4_scan 101 = .ok (.aload_n 0, 1) := dk_42 (dk_at dksX4_scan_4 6 rfl rfl)
theorem dX4_scan_102 : decode cX4_scan 102 = .ok (.iconst 1, 1) := dk_4 (dk_at dksX4_scan_4 7 rfl rfl)
theorem dX4_scan_103 : decode cX4_scan 103 = .ok (.putfield 275, 3) := dk_181 1 19 (dk_at dksX4_scan_4 8 rfl rfl)
theorem dX4_scan_106 : decode cX4_scan 106 = .ok (.goto 61, 3) := dk_167 0 61 (dk_at dksX4_scan_4 11 rfl rfl)
theorem dX4_scan_109 : decode cX4_scan 109 = .ok (.aload_n 0, 1) := dk_42 (dk_at dksX4_scan_4 14 rfl rfl)
theorem dX4_scan_110 : decode cX4_scan 110 = .ok (.aload_n 0, 1) := dk_42 (dk_at dksX4_scan_4 15 rfl rfl)
theorem dX4_scan_111 : decode cX4_scan 111 = .ok (.getfield 269, 3) := dk_180 1 13 (dk_at dksX4_scan_4 16 rfl rfl)
theorem dX4_scan_114 : decode cX4_scan 114 = .ok (.invokevirtual 281, 3) := dk_182 1 25 (dk_at dksX4_scan_4 19 rfl rfl)
theorem dX4_scan_117 : decode cX4_scan 117 = .ok (.ifCond .eq 35, 3) := dk_153 0 35 (dk_at dksX4_scan_5 0 rfl rfl)
theorem dX4_scan_120 : decode cX4_scan 120 = .ok (.aload_n 0, 1) := dk_42 (dk_at dksX4_scan_5 3 rfl rfl)
theorem dX4_scan_121 : decode cX4_scan 121 = .ok (.aload_n 0, 1) := dk_42 (dk_at dksX4_scan_5 4 rfl rfl)
theorem dX4_scan_122 : decode cX4_scan 122 = .ok (.getfield 269, 3) := dk_180 1 13 (dk_at dksX4_scan_5 5 rfl rfl)
theorem dX4_scan_125 : decode cX4_scan 125 = .ok (.invokevirtual 281, 3) := dk_182 1 25 (dk_at dksX4_scan_5 8 rfl rfl)
theorem dX4_scan_128 : decode cX4_scan 128 = .ok (.ifCond .eq 16, 3) := dk_153 0 16 (dk_at dksX4_scan_5 11 rfl rfl)
theorem dX4_scan_131 : decode cX4_scan 131 = .ok (.aload_n 0, 1) := dk_42 (dk_at dksX4_scan_5 14 rfl rfl)
theorem dX4_scan_132 : decode cX4_scan 132 = .ok (.dup, 1) := dk_89 (dk_at dksX4_scan_5 15 rfl rfl)
theorem dX4_scan_133 : decode cX4_scan 133 = .ok (.getfield 269, 3) := dk_180 1 13 (dk_at dksX4_scan_5 16 rfl rfl)
theorem dX4_scan_136 : decode cX4_scan 136 = .ok (.iconst 1, 1) := dk_4 (dk_at dksX4_scan_5 19 rfl rfl)
theorem dX4_scan_137 : decode cX4_scan 137 = .ok (.iadd, 1) := dk_96 (dk_at dksX4_scan_5 20 rfl rfl)
theorem dX4_scan_138 : decode cX4_scan 138 = .ok (.putfield 269, 3) := dk_181 1 13 (dk_at dksX4_scan_5 21 rfl rfl)
theorem dX4_scan_141 : decode cX4_scan 141 = .ok (.goto (-21), 3) := dk_167 255 235 (dk_at dksX4_scan_6 0 rfl rfl)
theorem dX4_scan_144 : decode cX4_scan 144 = .ok (.aload_n 0, 1) := dk_42 (dk_at dksX4_scan_6 3 rfl rfl)
theorem dX4_scan_145 : decode cX4_scan 145 = .ok (.iconst 2, 1) := dk_5 (dk_at dksX4_scan_6 4 rfl rfl)
theorem dX4_scan_146 : decode cX4_scan 146 = .ok (.putfield 275, 3) := dk_181 1 19 (dk_at dksX4_scan_6 5 rfl rfl)
theorem dX4_scan_149 : decode cX4_scan 149 = .ok (.goto 18, 3) := dk_167 0 18 (dk_at dksX4_scan_6 8 rfl rfl)
theorem dX4_scan_152 : decode cX4_scan 152 = .ok (.aload_n 0, 1) := dk_42 (dk_at dksX4_scan_6 11 rfl rfl)
theorem dX4_scan_153 : decode cX4_scan 153 = .ok (.dup, 1) := dk_89 (dk_at dksX4_scan_6 12 rfl rfl)
theorem dX4_scan_154 : decode cX4_scan 154 = .ok (.getfield 269, 3) := dk_180 1 13 (dk_at dksX4_scan_6 13 rfl rfl)
theorem dX4_scan_157 : decode cX4_scan 157 = .ok (.iconst 1, 1) := dk_4 (dk_at dksX4_scan_6 16 rfl rfl)
theorem dX4_scan_158 : decode cX4_scan 158 = .ok (.iadd, 1) := dk_96 (dk_at dksX4_scan_6 17 rfl rfl)
theorem dX4_scan_159 : decode cX4_scan 159 = .ok (.putfield 269, 3) := dk_181 1 13 (dk_at dksX4_scan_6 18 rfl rfl)
theorem dX4_scan_162 : decode cX4_scan 162 = .ok (.aload_n 0, 1) := dk_42 (dk_at dksX4_scan_6 21 rfl rfl)
theorem dX4_scan_163 : decode cX4_scan 163 = .ok (.iconst 3, 1) := dk_6 (dk_at dksX4_scan_6 22 rfl rfl)
theorem dX4_scan_164 : decode cX4_scan 164 = .ok (.putfield 275, 3) := dk_181 1 19 (dk_at dksX4_scan_7 0 rfl rfl)
theorem dX4_scan_167 : decode cX4_scan 167 = .ok (.return_, 1) := dk_177 (dk_at dksX4_scan_7 3 rfl rfl)
abbrev cX4_byteAt : ByteArray := prog_24_method_89_code
def yX4_byteAt : MethodName := ⟨RX4, "byteAt", "(I)I"⟩
def dkwX4_byteAt_0 : List UInt8 := [27, 42, 180, 1, 7, 162, 0, 12, 42, 180, 0, 35, 27, 46, 167, 0, 4, 2, 172]
abbrev dktX4_byteAt_0 : List UInt8 := dkwX4_byteAt_0 ++ []
theorem dksX4_byteAt_0 : cX4_byteAt.data.toList.drop 0 = dktX4_byteAt_0 := by decide +kernel
theorem dX4_byteAt_0 : decode cX4_byteAt 0 = .ok (.iload_n 1, 1) := dk_27 (dk_at dksX4_byteAt_0 0 rfl rfl)
theorem dX4_byteAt_1 : decode cX4_byteAt 1 = .ok (.aload_n 0, 1) := dk_42 (dk_at dksX4_byteAt_0 1 rfl rfl)
theorem dX4_byteAt_2 : decode cX4_byteAt 2 = .ok (.getfield 263, 3) := dk_180 1 7 (dk_at dksX4_byteAt_0 2 rfl rfl)
theorem dX4_byteAt_5 : decode cX4_byteAt 5 = .ok (.if_icmp .ge 12, 3) := dk_162 0 12 (dk_at dksX4_byteAt_0 5 rfl rfl)
theorem dX4_byteAt_8 : decode cX4_byteAt 8 = .ok (.aload_n 0, 1) := dk_42 (dk_at dksX4_byteAt_0 8 rfl rfl)
theorem dX4_byteAt_9 : decode cX4_byteAt 9 = .ok (.getfield 35, 3) := dk_180 0 35 (dk_at dksX4_byteAt_0 9 rfl rfl)
theorem dX4_byteAt_12 : decode cX4_byteAt 12 = .ok (.iload_n 1, 1) := dk_27 (dk_at dksX4_byteAt_0 12 rfl rfl)
theorem dX4_byteAt_13 : decode cX4_byteAt 13 = .ok (.iaload, 1) := dk_46 (dk_at dksX4_byteAt_0 13 rfl rfl)
theorem dX4_byteAt_14 : decode cX4_byteAt 14 = .ok (.goto 4, 3) := dk_167 0 4 (dk_at dksX4_byteAt_0 14 rfl rfl)
theorem dX4_byteAt_17 : decode cX4_byteAt 17 = .ok (.iconst (-1), 1) := dk_2 (dk_at dksX4_byteAt_0 17 rfl rfl)
theorem dX4_byteAt_18 : decode cX4_byteAt 18 = .ok (.ireturn, 1) := dk_172 (dk_at dksX4_byteAt_0 18 rfl rfl)
abbrev cX4_isLetter : ByteArray := prog_24_method_90_code
def yX4_isLetter : MethodName := ⟨RX4, "isLetter", "(I)Z"⟩
def dkwX4_isLetter_1 : List UInt8 := [3, 172]
abbrev dktX4_isLetter_1 : List UInt8 := dkwX4_isLetter_1 ++ []
def dkwX4_isLetter_0 : List UInt8 := [42, 27, 182, 1, 10, 16, 97, 161, 0, 17, 42, 27, 182, 1, 10, 16, 122, 163, 0, 7, 4, 167, 0, 4]
abbrev dktX4_isLetter_0 : List UInt8 := dkwX4_isLetter_0 ++ dktX4_isLetter_1
theorem dksX4_isLetter_0 : cX4_isLetter.data.toList.drop 0 = dktX4_isLetter_0 := by decide +kernel
theorem dksX4_isLetter_1 : cX4_isLetter.data.toList.drop 24 = dktX4_isLetter_1 := dk_seg dksX4_isLetter_0 24 rfl rfl
theorem dX4_isLetter_0 : decode cX4_isLetter 0 = .ok (.aload_n 0, 1) := dk_42 (dk_at dksX4_isLetter_0 0 rfl rfl)
theorem dX4_isLetter_1 : decode cX4_isLetter 1 = .ok (.iload_n 1, 1) := dk_27 (dk_at dksX4_isLetter_0 1 rfl rfl)
theorem dX4_isLetter_2 : decode cX4_isLetter 2 = .ok (.invokevirtual 266, 3) := dk_182 1 10 (dk_at dksX4_isLetter_0 2 rfl rfl)
theorem dX4_isLetter_5 : decode cX4_isLetter 5 = .ok (.bipush 97, 2) := dk_16 97 (dk_at dksX4_isLetter_0 5 rfl rfl)
theorem dX4_isLetter_7 : decode cX4_isLetter 7 = .ok (.if_icmp .lt 17, 3) := dk_161 0 17 (dk_at dksX4_isLetter_0 7 rfl rfl)
theorem dX4_isLetter_10 : decode cX4_isLetter 10 = .ok (.aload_n 0, 1) := dk_42 (dk_at dksX4_isLetter_0 10 rfl rfl)
theorem dX4_isLetter_11 : decode cX4_isLetter 11 = .ok (.iload_n 1, 1) := dk_27 (dk_at dksX4_isLetter_0 11 rfl rfl)
theorem dX4_isLetter_12 : decode cX4_isLetter 12 = .ok (.invokevirtual 266, 3) := dk_182 1 10 (dk_at dksX4_isLetter_0 12 rfl rfl)
theorem dX4_isLetter_15 : decode cX4_isLetter 15 = .ok (.bipush 122, 2) := dk_16 122 (dk_at dksX4_isLetter_0 15 rfl rfl)
theorem dX4_isLetter_17 : decode cX4_isLetter 17 = .ok (.if_icmp .gt 7, 3) := dk_163 0 7 (dk_at dksX4_isLetter_0 17 rfl rfl)
theorem dX4_isLetter_20 : decode cX4_isLetter 20 = .ok (.iconst 1, 1) := dk_4 (dk_at dksX4_isLetter_0 20 rfl rfl)
theorem dX4_isLetter_21 : decode cX4_isLetter 21 = .ok (.goto 4, 3) := dk_167 0 4 (dk_at dksX4_isLetter_0 21 rfl rfl)
theorem dX4_isLetter_24 : decode cX4_isLetter 24 = .ok (.iconst 0, 1) := dk_3 (dk_at dksX4_isLetter_1 0 rfl rfl)
theorem dX4_isLetter_25 : decode cX4_isLetter 25 = .ok (.ireturn, 1) := dk_172 (dk_at dksX4_isLetter_1 1 rfl rfl)
abbrev cX4_isDigit : ByteArray := prog_24_method_91_code
def yX4_isDigit : MethodName := ⟨RX4, "isDigit", "(I)Z"⟩
def dkwX4_isDigit_1 : List UInt8 := [3, 172]
abbrev dktX4_isDigit_1 : List UInt8 := dkwX4_isDigit_1 ++ []
def dkwX4_isDigit_0 : List UInt8 := [42, 27, 182, 1, 10, 16, 48, 161, 0, 17, 42, 27, 182, 1, 10, 16, 57, 163, 0, 7, 4, 167, 0, 4]
abbrev dktX4_isDigit_0 : List UInt8 := dkwX4_isDigit_0 ++ dktX4_isDigit_1
theorem dksX4_isDigit_0 : cX4_isDigit.data.toList.drop 0 = dktX4_isDigit_0 := by decide +kernel
theorem dksX4_isDigit_1 : cX4_isDigit.data.toList.drop 24 = dktX4_isDigit_1 := dk_seg dksX4_isDigit_0 24 rfl rfl
theorem dX4_isDigit_0 : decode cX4_isDigit 0 = .ok (.aload_n 0, 1) := dk_42 (dk_at dksX4_isDigit_0 0 rfl rfl)
theorem dX4_isDigit_1 : decode cX4_isDigit 1 = .ok (.iload_n 1, 1) := dk_27 (dk_at dksX4_isDigit_0 1 rfl rfl)
theorem dX4_isDigit_2 : decode cX4_isDigit 2 = .ok (.invokevirtual 266, 3) := dk_182 1 10 (dk_at dksX4_isDigit_0 2 rfl rfl)
theorem dX4_isDigit_5 : decode cX4_isDigit 5 = .ok (.bipush 48, 2) := dk_16 48 (dk_at dksX4_isDigit_0 5 rfl rfl)
theorem dX4_isDigit_7 : decode cX4_isDigit 7 = .ok (.if_icmp .lt 17, 3) := dk_161 0 17 (dk_at dksX4_isDigit_0 7 rfl rfl)
theorem dX4_isDigit_10 : decode cX4_isDigit 10 = .ok (.aload_n 0, 1) := dk_42 (dk_at dksX4_isDigit_0 10 rfl rfl)
theorem dX4_isDigit_11 : decode cX4_isDigit 11 = .ok (.iload_n 1, 1) := dk_27 (dk_at dksX4_isDigit_0 11 rfl rfl)
theorem dX4_isDigit_12 : decode cX4_isDigit 12 = .ok (.invokevirtual 266, 3) := dk_182 1 10 (dk_at dksX4_isDigit_0 12 rfl rfl)
theorem dX4_isDigit_15 : decode cX4_isDigit 15 = .ok (.bipush 57, 2) := dk_16 57 (dk_at dksX4_isDigit_0 15 rfl rfl)
theorem dX4_isDigit_17 : decode cX4_isDigit 17 = .ok (.if_icmp .gt 7, 3) := dk_163 0 7 (dk_at dksX4_isDigit_0 17 rfl rfl)
theorem dX4_isDigit_20 : decode cX4_isDigit 20 = .ok (.iconst 1, 1) := dk_4 (dk_at dksX4_isDigit_0 20 rfl rfl)
theorem dX4_isDigit_21 : decode cX4_isDigit 21 = .ok (.goto 4, 3) := dk_167 0 4 (dk_at dksX4_isDigit_0 21 rfl rfl)
theorem dX4_isDigit_24 : decode cX4_isDigit 24 = .ok (.iconst 0, 1) := dk_3 (dk_at dksX4_isDigit_1 0 rfl rfl)
theorem dX4_isDigit_25 : decode cX4_isDigit 25 = .ok (.ireturn, 1) := dk_172 (dk_at dksX4_isDigit_1 1 rfl rfl)
abbrev cX4_readAll : ByteArray := prog_24_method_113_code
def yX4_readAll : MethodName := ⟨RX4, "readAll", "()V"⟩
def dkwX4_readAll_2 : List UInt8 := [180, 1, 19, 153, 0, 10, 42, 182, 1, 130, 167, 255, 238, 177]
abbrev dktX4_readAll_2 : List UInt8 := dkwX4_readAll_2 ++ []
def dkwX4_readAll_1 : List UInt8 := [4, 42, 6, 16, 12, 182, 1, 77, 79, 42, 16, 59, 182, 1, 121, 42, 180, 1, 28, 154, 0, 17, 42]
abbrev dktX4_readAll_1 : List UInt8 := dkwX4_readAll_1 ++ dktX4_readAll_2
def dkwX4_readAll_0 : List UInt8 := [42, 19, 1, 124, 182, 1, 126, 42, 180, 0, 13, 3, 42, 6, 16, 12, 182, 1, 77, 79, 42, 180, 0, 13]
abbrev dktX4_readAll_0 : List UInt8 := dkwX4_readAll_0 ++ dktX4_readAll_1
theorem dksX4_readAll_0 : cX4_readAll.data.toList.drop 0 = dktX4_readAll_0 := by decide +kernel
theorem dksX4_readAll_1 : cX4_readAll.data.toList.drop 24 = dktX4_readAll_1 := dk_seg dksX4_readAll_0 24 rfl rfl
theorem dksX4_readAll_2 : cX4_readAll.data.toList.drop 47 = dktX4_readAll_2 := dk_seg dksX4_readAll_1 23 rfl rfl
theorem dX4_readAll_0 : decode cX4_readAll 0 = .ok (.aload_n 0, 1) := dk_42 (dk_at dksX4_readAll_0 0 rfl rfl)
theorem dX4_readAll_1 : decode cX4_readAll 1 = .ok (.ldc_w 380, 3) := dk_19 1 124 (dk_at dksX4_readAll_0 1 rfl rfl)
theorem dX4_readAll_4 : decode cX4_readAll 4 = .ok (.invokevirtual 382, 3) := dk_182 1 126 (dk_at dksX4_readAll_0 4 rfl rfl)
theorem dX4_readAll_7 : decode cX4_readAll 7 = .ok (.aload_n 0, 1) := dk_42 (dk_at dksX4_readAll_0 7 rfl rfl)
theorem dX4_readAll_8 : decode cX4_readAll 8 = .ok (.getfield 13, 3) := dk_180 0 13 (dk_at dksX4_readAll_0 8 rfl rfl)
theorem dX4_readAll_11 : decode cX4_readAll 11 = .ok (.iconst 0, 1) := dk_3 (dk_at dksX4_readAll_0 11 rfl rfl)
theorem dX4_readAll_12 : decode cX4_readAll 12 = .ok (.aload_n 0, 1) := dk_42 (dk_at dksX4_readAll_0 12 rfl rfl)
theorem dX4_readAll_13 : decode cX4_readAll 13 = .ok (.iconst 3, 1) := dk_6 (dk_at dksX4_readAll_0 13 rfl rfl)
theorem dX4_readAll_14 : decode cX4_readAll 14 = .ok (.bipush 12, 2) := dk_16 12 (dk_at dksX4_readAll_0 14 rfl rfl)
theorem dX4_readAll_16 : decode cX4_readAll 16 = .ok (.invokevirtual 333, 3) := dk_182 1 77 (dk_at dksX4_readAll_0 16 rfl rfl)
theorem dX4_readAll_19 : decode cX4_readAll 19 = .ok (.iastore, 1) := dk_79 (dk_at dksX4_readAll_0 19 rfl rfl)
theorem dX4_readAll_20 : decode cX4_readAll 20 = .ok (.aload_n 0, 1) := dk_42 (dk_at dksX4_readAll_0 20 rfl rfl)
theorem dX4_readAll_21 : decode cX4_readAll 21 = .ok (.getfield 13, 3) := dk_180 0 13 (dk_at dksX4_readAll_0 21 rfl rfl)
theorem dX4_readAll_24 : decode cX4_readAll 24 = .ok (.iconst 1, 1) := dk_4 (dk_at dksX4_readAll_1 0 rfl rfl)
theorem dX4_readAll_25 : decode cX4_readAll 25 = .ok (.aload_n 0, 1) := dk_42 (dk_at dksX4_readAll_1 1 rfl rfl)
theorem dX4_readAll_26 : decode cX4_readAll 26 = .ok (.iconst 3, 1) := dk_6 (dk_at dksX4_readAll_1 2 rfl rfl)
theorem dX4_readAll_27 : decode cX4_readAll 27 = .ok (.bipush 12, 2) := dk_16 12 (dk_at dksX4_readAll_1 3 rfl rfl)
theorem dX4_readAll_29 : decode cX4_readAll 29 = .ok (.invokevirtual 333, 3) := dk_182 1 77 (dk_at dksX4_readAll_1 5 rfl rfl)
theorem dX4_readAll_32 : decode cX4_readAll 32 = .ok (.iastore, 1) := dk_79 (dk_at dksX4_readAll_1 8 rfl rfl)
theorem dX4_readAll_33 : decode cX4_readAll 33 = .ok (.aload_n 0, 1) := dk_42 (dk_at dksX4_readAll_1 9 rfl rfl)
theorem dX4_readAll_34 : decode cX4_readAll 34 = .ok (.bipush 59, 2) := dk_16 59 (dk_at dksX4_readAll_1 10 rfl rfl)
theorem dX4_readAll_36 : decode cX4_readAll 36 = .ok (.invokevirtual 377, 3) := dk_182 1 121 (dk_at dksX4_readAll_1 12 rfl rfl)
theorem dX4_readAll_39 : decode cX4_readAll 39 = .ok (.aload_n 0, 1) := dk_42 (dk_at dksX4_readAll_1 15 rfl rfl)
theorem dX4_readAll_40 : decode cX4_readAll 40 = .ok (.getfield 284, 3) := dk_180 1 28 (dk_at dksX4_readAll_1 16 rfl rfl)
theorem dX4_readAll_43 : decode cX4_readAll 43 = .ok (.ifCond .ne 17, 3) := dk_154 0 17 (dk_at dksX4_readAll_1 19 rfl rfl)
theorem dX4_readAll_46 : decode cX4_readAll 46 = .ok (.aload_n 0, 1) := dk_42 (dk_at dksX4_readAll_1 22 rfl rfl)
theorem dX4_readAll_47 : decode cX4_readAll 47 = .ok (.getfield 275, 3) := dk_180 1 19 (dk_at dksX4_readAll_2 0 rfl rfl)
theorem dX4_readAll_50 : decode cX4_readAll 50 = .ok (.ifCond .eq 10, 3) := dk_153 0 10 (dk_at dksX4_readAll_2 3 rfl rfl)
theorem dX4_readAll_53 : decode cX4_readAll 53 = .ok (.aload_n 0, 1) := dk_42 (dk_at dksX4_readAll_2 6 rfl rfl)
theorem dX4_readAll_54 : decode cX4_readAll 54 = .ok (.invokevirtual 386, 3) := dk_182 1 130 (dk_at dksX4_readAll_2 7 rfl rfl)
theorem dX4_readAll_57 : decode cX4_readAll 57 = .ok (.goto (-18), 3) := dk_167 255 238 (dk_at dksX4_readAll_2 10 rfl rfl)
theorem dX4_readAll_60 : decode cX4_readAll 60 = .ok (.return_, 1) := dk_177 (dk_at dksX4_readAll_2 13 rfl rfl)
abbrev cX4_expectWord : ByteArray := prog_24_method_101_code
def yX4_expectWord : MethodName := ⟨RX4, "expectWord", "(Ljava/lang/String;)V"⟩
def dkwX4_expectWord_0 : List UInt8 := [42, 42, 43, 182, 1, 50, 4, 182, 1, 54, 42, 182, 1, 58, 177]
abbrev dktX4_expectWord_0 : List UInt8 := dkwX4_expectWord_0 ++ []
theorem dksX4_expectWord_0 : cX4_expectWord.data.toList.drop 0 = dktX4_expectWord_0 := by decide +kernel
theorem dX4_expectWord_0 : decode cX4_expectWord 0 = .ok (.aload_n 0, 1) := dk_42 (dk_at dksX4_expectWord_0 0 rfl rfl)
theorem dX4_expectWord_1 : decode cX4_expectWord 1 = .ok (.aload_n 0, 1) := dk_42 (dk_at dksX4_expectWord_0 1 rfl rfl)
theorem dX4_expectWord_2 : decode cX4_expectWord 2 = .ok (.aload_n 1, 1) := dk_43 (dk_at dksX4_expectWord_0 2 rfl rfl)
theorem dX4_expectWord_3 : decode cX4_expectWord 3 = .ok (.invokevirtual 306, 3) := dk_182 1 50 (dk_at dksX4_expectWord_0 3 rfl rfl)
theorem dX4_expectWord_6 : decode cX4_expectWord 6 = .ok (.iconst 1, 1) := dk_4 (dk_at dksX4_expectWord_0 6 rfl rfl)
theorem dX4_expectWord_7 : decode cX4_expectWord 7 = .ok (.invokevirtual 310, 3) := dk_182 1 54 (dk_at dksX4_expectWord_0 7 rfl rfl)
theorem dX4_expectWord_10 : decode cX4_expectWord 10 = .ok (.aload_n 0, 1) := dk_42 (dk_at dksX4_expectWord_0 10 rfl rfl)
theorem dX4_expectWord_11 : decode cX4_expectWord 11 = .ok (.invokevirtual 314, 3) := dk_182 1 58 (dk_at dksX4_expectWord_0 11 rfl rfl)
theorem dX4_expectWord_14 : decode cX4_expectWord 14 = .ok (.return_, 1) := dk_177 (dk_at dksX4_expectWord_0 14 rfl rfl)
abbrev cX4_isWord : ByteArray := prog_24_method_99_code
def yX4_isWord : MethodName := ⟨RX4, "isWord", "(Ljava/lang/String;)Z"⟩
def dkwX4_isWord_3 : List UInt8 := [167, 0, 4, 3, 61, 132, 3, 1, 167, 255, 216, 28, 172]
abbrev dktX4_isWord_3 : List UInt8 := dkwX4_isWord_3 ++ []
def dkwX4_isWord_2 : List UInt8 := [162, 0, 34, 43, 29, 182, 1, 46, 42, 180, 0, 35, 42, 180, 1, 16, 29, 96, 46, 160, 0, 7, 4]
abbrev dktX4_isWord_2 : List UInt8 := dkwX4_isWord_2 ++ dktX4_isWord_3
def dkwX4_isWord_1 : List UInt8 := [180, 1, 16, 100, 160, 0, 7, 4, 167, 0, 4, 3, 61, 3, 62, 28, 153, 0, 42, 29, 43, 182, 1, 43]
abbrev dktX4_isWord_1 : List UInt8 := dkwX4_isWord_1 ++ dktX4_isWord_2
def dkwX4_isWord_0 : List UInt8 := [42, 180, 1, 28, 154, 0, 31, 42, 180, 1, 19, 4, 160, 0, 23, 43, 182, 1, 43, 42, 180, 1, 13, 42]
abbrev dktX4_isWord_0 : List UInt8 := dkwX4_isWord_0 ++ dktX4_isWord_1
theorem dksX4_isWord_0 : cX4_isWord.data.toList.drop 0 = dktX4_isWord_0 := by decide +kernel
theorem dksX4_isWord_1 : cX4_isWord.data.toList.drop 24 = dktX4_isWord_1 := dk_seg dksX4_isWord_0 24 rfl rfl
theorem dksX4_isWord_2 : cX4_isWord.data.toList.drop 48 = dktX4_isWord_2 := dk_seg dksX4_isWord_1 24 rfl rfl
theorem dksX4_isWord_3 : cX4_isWord.data.toList.drop 71 = dktX4_isWord_3 := dk_seg dksX4_isWord_2 23 rfl rfl
theorem dX4_isWord_0 : decode cX4_isWord 0 = .ok (.aload_n 0, 1) := dk_42 (dk_at dksX4_isWord_0 0 rfl rfl)
theorem dX4_isWord_1 : decode cX4_isWord 1 = .ok (.getfield 284, 3) := dk_180 1 28 (dk_at dksX4_isWord_0 1 rfl rfl)
theorem dX4_isWord_4 : decode cX4_isWord 4 = .ok (.ifCond .ne 31, 3) := dk_154 0 31 (dk_at dksX4_isWord_0 4 rfl rfl)
theorem dX4_isWord_7 : decode cX4_isWord 7 = .ok (.aload_n 0, 1) := dk_42 (dk_at dksX4_isWord_0 7 rfl rfl)
theorem dX4_isWord_8 : decode cX4_isWord 8 = .ok (.getfield 275, 3) := dk_180 1 19 (dk_at dksX4_isWord_0 8 rfl rfl)
theorem dX4_isWord_11 : decode cX4_isWord 11 = .ok (.iconst 1, 1) := dk_4 (dk_at dksX4_isWord_0 11 rfl rfl)
theorem dX4_isWord_12 : decode cX4_isWord 12 = .ok (.if_icmp .ne 23, 3) := dk_160 0 23 (dk_at dksX4_isWord_0 12 rfl rfl)
theorem dX4_isWord_15 : decode cX4_isWord 15 = .ok (.aload_n 1, 1) := dk_43 (dk_at dksX4_isWord_0 15 rfl rfl)
theorem dX4_isWord_16 : decode cX4_isWord 16 = .ok (.invokevirtual 299, 3) := dk_182 1 43 (dk_at dksX4_isWord_0 16 rfl rfl)
theorem dX4_isWord_19 : decode cX4_isWord 19 = .ok (.aload_n 0, 1) := dk_42 (dk_at dksX4_isWord_0 19 rfl rfl)
theorem dX4_isWord_20 : decode cX4_isWord 20 = .ok (.getfield 269, 3) := dk_180 1 13 (dk_at dksX4_isWord_0 20 rfl rfl)
theorem dX4_isWord_23 : decode cX4_isWord 23 = .ok (.aload_n 0, 1) := dk_42 (dk_at dksX4_isWord_0 23 rfl rfl)
theorem dX4_isWord_24 : decode cX4_isWord 24 = .ok (.getfield 272, 3) := dk_180 1 16 (dk_at dksX4_isWord_1 0 rfl rfl)
theorem dX4_isWord_27 : decode cX4_isWord 27 = .ok (.isub, 1) := dk_100 (dk_at dksX4_isWord_1 3 rfl rfl)
theorem dX4_isWord_28 : decode cX4_isWord 28 = .ok (.if_icmp .ne 7, 3) := dk_160 0 7 (dk_at dksX4_isWord_1 4 rfl rfl)
theorem dX4_isWord_31 : decode cX4_isWord 31 = .ok (.iconst 1, 1) := dk_4 (dk_at dksX4_isWord_1 7 rfl rfl)
theorem dX4_isWord_32 : decode cX4_isWord 32 = .ok (.goto 4, 3) := dk_167 0 4 (dk_at dksX4_isWord_1 8 rfl rfl)
theorem dX4_isWord_35 : decode cX4_isWord 35 = .ok (.iconst 0, 1) := dk_3 (dk_at dksX4_isWord_1 11 rfl rfl)
theorem dX4_isWord_36 : decode cX4_isWord 36 = .ok (.istore_n 2, 1) := dk_61 (dk_at dksX4_isWord_1 12 rfl rfl)
theorem dX4_isWord_37 : decode cX4_isWord 37 = .ok (.iconst 0, 1) := dk_3 (dk_at dksX4_isWord_1 13 rfl rfl)
theorem dX4_isWord_38 : decode cX4_isWord 38 = .ok (.istore_n 3, 1) := dk_62 (dk_at dksX4_isWord_1 14 rfl rfl)
theorem dX4_isWord_39 : decode cX4_isWord 39 = .ok (.iload_n 2, 1) := dk_28 (dk_at dksX4_isWord_1 15 rfl rfl)
theorem dX4_isWord_40 : decode cX4_isWord 40 = .ok (.ifCond .eq 42, 3) := dk_153 0 42 (dk_at dksX4_isWord_1 16 rfl rfl)
theorem dX4_isWord_43 : decode cX4_isWord 43 = .ok (.iload_n 3, 1) := dk_29 (dk_at dksX4_isWord_1 19 rfl rfl)
theorem dX4_isWord_44 : decode cX4_isWord 44 = .ok (.aload_n 1, 1) := dk_43 (dk_at dksX4_isWord_1 20 rfl rfl)
theorem dX4_isWord_45 : decode cX4_isWord 45 = .ok (.invokevirtual 299, 3) := dk_182 1 43 (dk_at dksX4_isWord_1 21 rfl rfl)
theorem dX4_isWord_48 : decode cX4_isWord 48 = .ok (.if_icmp .ge 34, 3) := dk_162 0 34 (dk_at dksX4_isWord_2 0 rfl rfl)
theorem dX4_isWord_51 : decode cX4_isWord 51 = .ok (.aload_n 1, 1) := dk_43 (dk_at dksX4_isWord_2 3 rfl rfl)
theorem dX4_isWord_52 : decode cX4_isWord 52 = .ok (.iload_n 3, 1) := dk_29 (dk_at dksX4_isWord_2 4 rfl rfl)
theorem dX4_isWord_53 : decode cX4_isWord 53 = .ok (.invokevirtual 302, 3) := dk_182 1 46 (dk_at dksX4_isWord_2 5 rfl rfl)
theorem dX4_isWord_56 : decode cX4_isWord 56 = .ok (.aload_n 0, 1) := dk_42 (dk_at dksX4_isWord_2 8 rfl rfl)
theorem dX4_isWord_57 : decode cX4_isWord 57 = .ok (.getfield 35, 3) := dk_180 0 35 (dk_at dksX4_isWord_2 9 rfl rfl)
theorem dX4_isWord_60 : decode cX4_isWord 60 = .ok (.aload_n 0, 1) := dk_42 (dk_at dksX4_isWord_2 12 rfl rfl)
theorem dX4_isWord_61 : decode cX4_isWord 61 = .ok (.getfield 272, 3) := dk_180 1 16 (dk_at dksX4_isWord_2 13 rfl rfl)
theorem dX4_isWord_64 : decode cX4_isWord 64 = .ok (.iload_n 3, 1) := dk_29 (dk_at dksX4_isWord_2 16 rfl rfl)
theorem dX4_isWord_65 : decode cX4_isWord 65 = .ok (.iadd, 1) := dk_96 (dk_at dksX4_isWord_2 17 rfl rfl)
theorem dX4_isWord_66 : decode cX4_isWord 66 = .ok (.iaload, 1) := dk_46 (dk_at dksX4_isWord_2 18 rfl rfl)
theorem dX4_isWord_67 : decode cX4_isWord 67 = .ok (.if_icmp .ne 7, 3) := dk_160 0 7 (dk_at dksX4_isWord_2 19 rfl rfl)
theorem dX4_isWord_70 : decode cX4_isWord 70 = .ok (.iconst 1, 1) := dk_4 (dk_at dksX4_isWord_2 22 rfl rfl)
theorem dX4_isWord_71 : decode cX4_isWord 71 = .ok (.goto 4, 3) := dk_167 0 4 (dk_at dksX4_isWord_3 0 rfl rfl)
theorem dX4_isWord_74 : decode cX4_isWord 74 = .ok (.iconst 0, 1) := dk_3 (dk_at dksX4_isWord_3 3 rfl rfl)
theorem dX4_isWord_75 : decode cX4_isWord 75 = .ok (.istore_n 2, 1) := dk_61 (dk_at dksX4_isWord_3 4 rfl rfl)
theorem dX4_isWord_76 : decode cX4_isWord 76 = .ok (.iinc 3 1, 3) := dk_132 3 1 (dk_at dksX4_isWord_3 5 rfl rfl)
theorem dX4_isWord_79 : decode cX4_isWord 79 = .ok (.goto (-40), 3) := dk_167 255 216 (dk_at dksX4_isWord_3 8 rfl rfl)
theorem dX4_isWord_82 : decode cX4_isWord 82 = .ok (.iload_n 2, 1) := dk_28 (dk_at dksX4_isWord_3 11 rfl rfl)
theorem dX4_isWord_83 : decode cX4_isWord 83 = .ok (.ireturn, 1) := dk_172 (dk_at dksX4_isWord_3 12 rfl rfl)
abbrev cX4_check : ByteArray := prog_24_method_96_code
def yX4_check : MethodName := ⟨RX4, "check", "(ZI)V"⟩
def dkwX4_check_0 : List UInt8 := [27, 154, 0, 8, 42, 28, 182, 1, 40, 177]
abbrev dktX4_check_0 : List UInt8 := dkwX4_check_0 ++ []
theorem dksX4_check_0 : cX4_check.data.toList.drop 0 = dktX4_check_0 := by decide +kernel
theorem dX4_check_0 : decode cX4_check 0 = .ok (.iload_n 1, 1) := dk_27 (dk_at dksX4_check_0 0 rfl rfl)
theorem dX4_check_1 : decode cX4_check 1 = .ok (.ifCond .ne 8, 3) := dk_154 0 8 (dk_at dksX4_check_0 1 rfl rfl)
theorem dX4_check_4 : decode cX4_check 4 = .ok (.aload_n 0, 1) := dk_42 (dk_at dksX4_check_0 4 rfl rfl)
theorem dX4_check_5 : decode cX4_check 5 = .ok (.iload_n 2, 1) := dk_28 (dk_at dksX4_check_0 5 rfl rfl)
theorem dX4_check_6 : decode cX4_check 6 = .ok (.invokevirtual 296, 3) := dk_182 1 40 (dk_at dksX4_check_0 6 rfl rfl)
theorem dX4_check_9 : decode cX4_check 9 = .ok (.return_, 1) := dk_177 (dk_at dksX4_check_0 9 rfl rfl)
abbrev cX4_flaw : ByteArray := prog_24_method_95_code
def yX4_flaw : MethodName := ⟨RX4, "flaw", "(I)V"⟩
def dkwX4_flaw_0 : List UInt8 := [42, 180, 1, 28, 154, 0, 16, 42, 27, 181, 1, 28, 42, 42, 180, 1, 16, 181, 1, 37, 177]
abbrev dktX4_flaw_0 : List UInt8 := dkwX4_flaw_0 ++ []
theorem dksX4_flaw_0 : cX4_flaw.data.toList.drop 0 = dktX4_flaw_0 := by decide +kernel
theorem dX4_flaw_0 : decode cX4_flaw 0 = .ok (.aload_n 0, 1) := dk_42 (dk_at dksX4_flaw_0 0 rfl rfl)
theorem dX4_flaw_1 : decode cX4_flaw 1 = .ok (.getfield 284, 3) := dk_180 1 28 (dk_at dksX4_flaw_0 1 rfl rfl)
theorem dX4_flaw_4 : decode cX4_flaw 4 = .ok (.ifCond .ne 16, 3) := dk_154 0 16 (dk_at dksX4_flaw_0 4 rfl rfl)
theorem dX4_flaw_7 : decode cX4_flaw 7 = .ok (.aload_n 0, 1) := dk_42 (dk_at dksX4_flaw_0 7 rfl rfl)
theorem dX4_flaw_8 : decode cX4_flaw 8 = .ok (.iload_n 1, 1) := dk_27 (dk_at dksX4_flaw_0 8 rfl rfl)
theorem dX4_flaw_9 : decode cX4_flaw 9 = .ok (.putfield 284, 3) := dk_181 1 28 (dk_at dksX4_flaw_0 9 rfl rfl)
theorem dX4_flaw_12 : decode cX4_flaw 12 = .ok (.aload_n 0, 1) := dk_42 (dk_at dksX4_flaw_0 12 rfl rfl)
theorem dX4_flaw_13 : decode cX4_flaw 13 = .ok (.aload_n 0, 1) := dk_42 (dk_at dksX4_flaw_0 13 rfl rfl)
theorem dX4_flaw_14 : decode cX4_flaw 14 = .ok (.getfield 272, 3) := dk_180 1 16 (dk_at dksX4_flaw_0 14 rfl rfl)
theorem dX4_flaw_17 : decode cX4_flaw 17 = .ok (.putfield 293, 3) := dk_181 1 37 (dk_at dksX4_flaw_0 17 rfl rfl)
theorem dX4_flaw_20 : decode cX4_flaw 20 = .ok (.return_, 1) := dk_177 (dk_at dksX4_flaw_0 20 rfl rfl)
abbrev cX4_advance : ByteArray := prog_24_method_97_code
def yX4_advance : MethodName := ⟨RX4, "advance", "()V"⟩
def dkwX4_advance_0 : List UInt8 := [42, 180, 1, 28, 154, 0, 7, 42, 182, 1, 34, 177]
abbrev dktX4_advance_0 : List UInt8 := dkwX4_advance_0 ++ []
theorem dksX4_advance_0 : cX4_advance.data.toList.drop 0 = dktX4_advance_0 := by decide +kernel
theorem dX4_advance_0 : decode cX4_advance 0 = .ok (.aload_n 0, 1) := dk_42 (dk_at dksX4_advance_0 0 rfl rfl)
theorem dX4_advance_1 : decode cX4_advance 1 = .ok (.getfield 284, 3) := dk_180 1 28 (dk_at dksX4_advance_0 1 rfl rfl)
theorem dX4_advance_4 : decode cX4_advance 4 = .ok (.ifCond .ne 7, 3) := dk_154 0 7 (dk_at dksX4_advance_0 4 rfl rfl)
theorem dX4_advance_7 : decode cX4_advance 7 = .ok (.aload_n 0, 1) := dk_42 (dk_at dksX4_advance_0 7 rfl rfl)
theorem dX4_advance_8 : decode cX4_advance 8 = .ok (.invokevirtual 290, 3) := dk_182 1 34 (dk_at dksX4_advance_0 8 rfl rfl)
theorem dX4_advance_11 : decode cX4_advance 11 = .ok (.return_, 1) := dk_177 (dk_at dksX4_advance_0 11 rfl rfl)
abbrev cX4_readNumber : ByteArray := prog_24_method_104_code
def yX4_readNumber : MethodName := ⟨RX4, "readNumber", "(II)I"⟩
def dkwX4_readNumber_3 : List UInt8 := [167, 0, 4, 27, 172]
abbrev dktX4_readNumber_3 : List UInt8 := dkwX4_readNumber_3 ++ []
def dkwX4_readNumber_2 : List UInt8 := [153, 0, 7, 4, 167, 0, 4, 3, 5, 182, 1, 54, 42, 182, 1, 58, 42, 180, 1, 28, 154, 0, 7, 29]
abbrev dktX4_readNumber_2 : List UInt8 := dkwX4_readNumber_2 ++ dktX4_readNumber_3
def dkwX4_readNumber_1 : List UInt8 := [182, 1, 54, 42, 182, 1, 74, 62, 42, 42, 180, 1, 28, 154, 0, 12, 29, 27, 28, 184, 0, 90]
abbrev dktX4_readNumber_1 : List UInt8 := dkwX4_readNumber_1 ++ dktX4_readNumber_2
def dkwX4_readNumber_0 : List UInt8 := [42, 42, 180, 1, 28, 154, 0, 11, 42, 180, 1, 19, 5, 160, 0, 7, 4, 167, 0, 4, 3, 4]
abbrev dktX4_readNumber_0 : List UInt8 := dkwX4_readNumber_0 ++ dktX4_readNumber_1
theorem dksX4_readNumber_0 : cX4_readNumber.data.toList.drop 0 = dktX4_readNumber_0 := by decide +kernel
theorem dksX4_readNumber_1 : cX4_readNumber.data.toList.drop 22 = dktX4_readNumber_1 := dk_seg dksX4_readNumber_0 22 rfl rfl
theorem dksX4_readNumber_2 : cX4_readNumber.data.toList.drop 44 = dktX4_readNumber_2 := dk_seg dksX4_readNumber_1 22 rfl rfl
theorem dksX4_readNumber_3 : cX4_readNumber.data.toList.drop 68 = dktX4_readNumber_3 := dk_seg dksX4_readNumber_2 24 rfl rfl
theorem dX4_readNumber_0 : decode cX4_readNumber 0 = .ok (.aload_n 0, 1) := dk_42 (dk_at dksX4_readNumber_0 0 rfl rfl)
theorem dX4_readNumber_1 : decode cX4_readNumber 1 = .ok (.aload_n 0, 1) := dk_42 (dk_at dksX4_readNumber_0 1 rfl rfl)
theorem dX4_readNumber_2 : decode cX4_readNumber 2 = .ok (.getfield 284, 3) := dk_180 1 28 (dk_at dksX4_readNumber_0 2 rfl rfl)
theorem dX4_readNumber_5 : decode cX4_readNumber 5 = .ok (.ifCond .ne 11, 3) := dk_154 0 11 (dk_at dksX4_readNumber_0 5 rfl rfl)
theorem dX4_readNumber_8 : decode cX4_readNumber 8 = .ok (.aload_n 0, 1) := dk_42 (dk_at dksX4_readNumber_0 8 rfl rfl)
theorem dX4_readNumber_9 : decode cX4_readNumber 9 = .ok (.getfield 275, 3) := dk_180 1 19 (dk_at dksX4_readNumber_0 9 rfl rfl)
theorem dX4_readNumber_12 : decode cX4_readNumber 12 = .ok (.iconst 2, 1) := dk_5 (dk_at dksX4_readNumber_0 12 rfl rfl)
theorem dX4_readNumber_13 : decode cX4_readNumber 13 = .ok (.if_icmp .ne 7, 3) := dk_160 0 7 (dk_at dksX4_readNumber_0 13 rfl rfl)
theorem dX4_readNumber_16 : decode cX4_readNumber 16 = .ok (.iconst 1, 1) := dk_4 (dk_at dksX4_readNumber_0 16 rfl rfl)
theorem dX4_readNumber_17 : decode cX4_readNumber 17 = .ok (.goto 4, 3) := dk_167 0 4 (dk_at dksX4_readNumber_0 17 rfl rfl)
theorem dX4_readNumber_20 : decode cX4_readNumber 20 = .ok (.iconst 0, 1) := dk_3 (dk_at dksX4_readNumber_0 20 rfl rfl)
theorem dX4_readNumber_21 : decode cX4_readNumber 21 = .ok (.iconst 1, 1) := dk_4 (dk_at dksX4_readNumber_0 21 rfl rfl)
theorem dX4_readNumber_22 : decode cX4_readNumber 22 = .ok (.invokevirtual 310, 3) := dk_182 1 54 (dk_at dksX4_readNumber_1 0 rfl rfl)
theorem dX4_readNumber_25 : decode cX4_readNumber 25 = .ok (.aload_n 0, 1) := dk_42 (dk_at dksX4_readNumber_1 3 rfl rfl)
theorem dX4_readNumber_26 : decode cX4_readNumber 26 = .ok (.invokevirtual 330, 3) := dk_182 1 74 (dk_at dksX4_readNumber_1 4 rfl rfl)
theorem dX4_readNumber_29 : decode cX4_readNumber 29 = .ok (.istore_n 3, 1) := dk_62 (dk_at dksX4_readNumber_1 7 rfl rfl)
theorem dX4_readNumber_30 : decode cX4_readNumber 30 = .ok (.aload_n 0, 1) := dk_42 (dk_at dksX4_readNumber_1 8 rfl rfl)
theorem dX4_readNumber_31 : decode cX4_readNumber 31 = .ok (.aload_n 0, 1) := dk_42 (dk_at dksX4_readNumber_1 9 rfl rfl)
theorem dX4_readNumber_32 : decode cX4_readNumber 32 = .ok (.getfield 284, 3) := dk_180 1 28 (dk_at dksX4_readNumber_1 10 rfl rfl)
theorem dX4_readNumber_35 : decode cX4_readNumber 35 = .ok (.ifCond .ne 12, 3) := dk_154 0 12 (dk_at dksX4_readNumber_1 13 rfl rfl)
theorem dX4_readNumber_38 : decode cX4_readNumber 38 = .ok (.iload_n 3, 1) := dk_29 (dk_at dksX4_readNumber_1 16 rfl rfl)
theorem dX4_readNumber_39 : decode cX4_readNumber 39 = .ok (.iload_n 1, 1) := dk_27 (dk_at dksX4_readNumber_1 17 rfl rfl)
theorem dX4_readNumber_40 : decode cX4_readNumber 40 = .ok (.iload_n 2, 1) := dk_28 (dk_at dksX4_readNumber_1 18 rfl rfl)
theorem dX4_readNumber_41 : decode cX4_readNumber 41 = .ok (.invokestatic 90, 3) := dk_184 0 90 (dk_at dksX4_readNumber_1 19 rfl rfl)
theorem dX4_readNumber_44 : decode cX4_readNumber 44 = .ok (.ifCond .eq 7, 3) := dk_153 0 7 (dk_at dksX4_readNumber_2 0 rfl rfl)
theorem dX4_readNumber_47 : decode cX4_readNumber 47 = .ok (.iconst 1, 1) := dk_4 (dk_at dksX4_readNumber_2 3 rfl rfl)
theorem dX4_readNumber_48 : decode cX4_readNumber 48 = .ok (.goto 4, 3) := dk_167 0 4 (dk_at dksX4_readNumber_2 4 rfl rfl)
theorem dX4_readNumber_51 : decode cX4_readNumber 51 = .ok (.iconst 0, 1) := dk_3 (dk_at dksX4_readNumber_2 7 rfl rfl)
theorem dX4_readNumber_52 : decode cX4_readNumber 52 = .ok (.iconst 2, 1) := dk_5 (dk_at dksX4_readNumber_2 8 rfl rfl)
theorem dX4_readNumber_53 : decode cX4_readNumber 53 = .ok (.invokevirtual 310, 3) := dk_182 1 54 (dk_at dksX4_readNumber_2 9 rfl rfl)
theorem dX4_readNumber_56 : decode cX4_readNumber 56 = .ok (.aload_n 0, 1) := dk_42 (dk_at dksX4_readNumber_2 12 rfl rfl)
theorem dX4_readNumber_57 : decode cX4_readNumber 57 = .ok (.invokevirtual 314, 3) := dk_182 1 58 (dk_at dksX4_readNumber_2 13 rfl rfl)
theorem dX4_readNumber_60 : decode cX4_readNumber 60 = .ok (.aload_n 0, 1) := dk_42 (dk_at dksX4_readNumber_2 16 rfl rfl)
theorem dX4_readNumber_61 : decode cX4_readNumber 61 = .ok (.getfield 284, 3) := dk_180 1 28 (dk_at dksX4_readNumber_2 17 rfl rfl)
theorem dX4_readNumber_64 : decode cX4_readNumber 64 = .ok (.ifCond .ne 7, 3) := dk_154 0 7 (dk_at dksX4_readNumber_2 20 rfl rfl)
theorem dX4_readNumber_67 : decode cX4_readNumber 67 = .ok (.iload_n 3, 1) := dk_29 (dk_at dksX4_readNumber_2 23 rfl rfl)
theorem dX4_readNumber_68 : decode cX4_readNumber 68 = .ok (.goto 4, 3) := dk_167 0 4 (dk_at dksX4_readNumber_3 0 rfl rfl)
theorem dX4_readNumber_71 : decode cX4_readNumber 71 = .ok (.iload_n 1, 1) := dk_27 (dk_at dksX4_readNumber_3 3 rfl rfl)
theorem dX4_readNumber_72 : decode cX4_readNumber 72 = .ok (.ireturn, 1) := dk_172 (dk_at dksX4_readNumber_3 4 rfl rfl)
abbrev cX4_value : ByteArray := prog_24_method_103_code
def yX4_value : MethodName := ⟨RX4, "value", "()I"⟩
def dkwX4_value_2 : List UInt8 := [136, 60, 132, 2, 1, 167, 255, 211, 27, 172]
abbrev dktX4_value_2 : List UInt8 := dkwX4_value_2 ++ []
def dkwX4_value_1 : List UInt8 := [20, 1, 64, 20, 1, 66, 27, 133, 105, 42, 180, 0, 35, 28, 46, 133, 97, 20, 1, 68, 101, 184, 1, 70]
abbrev dktX4_value_1 : List UInt8 := dkwX4_value_1 ++ dktX4_value_2
def dkwX4_value_0 : List UInt8 := [3, 60, 42, 180, 1, 16, 61, 28, 42, 180, 1, 13, 162, 0, 43, 42, 180, 1, 19, 5, 160, 0, 35]
abbrev dktX4_value_0 : List UInt8 := dkwX4_value_0 ++ dktX4_value_1
theorem dksX4_value_0 : cX4_value.data.toList.drop 0 = dktX4_value_0 := by decide +kernel
theorem dksX4_value_1 : cX4_value.data.toList.drop 23 = dktX4_value_1 := dk_seg dksX4_value_0 23 rfl rfl
theorem dksX4_value_2 : cX4_value.data.toList.drop 47 = dktX4_value_2 := dk_seg dksX4_value_1 24 rfl rfl
theorem dX4_value_0 : decode cX4_value 0 = .ok (.iconst 0, 1) := dk_3 (dk_at dksX4_value_0 0 rfl rfl)
theorem dX4_value_1 : decode cX4_value 1 = .ok (.istore_n 1, 1) := dk_60 (dk_at dksX4_value_0 1 rfl rfl)
theorem dX4_value_2 : decode cX4_value 2 = .ok (.aload_n 0, 1) := dk_42 (dk_at dksX4_value_0 2 rfl rfl)
theorem dX4_value_3 : decode cX4_value 3 = .ok (.getfield 272, 3) := dk_180 1 16 (dk_at dksX4_value_0 3 rfl rfl)
theorem dX4_value_6 : decode cX4_value 6 = .ok (.istore_n 2, 1) := dk_61 (dk_at dksX4_value_0 6 rfl rfl)
theorem dX4_value_7 : decode cX4_value 7 = .ok (.iload_n 2, 1) := dk_28 (dk_at dksX4_value_0 7 rfl rfl)
theorem dX4_value_8 : decode cX4_value 8 = .ok (.aload_n 0, 1) := dk_42 (dk_at dksX4_value_0 8 rfl rfl)
theorem dX4_value_9 : decode cX4_value 9 = .ok (.getfield 269, 3) := dk_180 1 13 (dk_at dksX4_value_0 9 rfl rfl)
theorem dX4_value_12 : decode cX4_value 12 = .ok (.if_icmp .ge 43, 3) := dk_162 0 43 (dk_at dksX4_value_0 12 rfl rfl)
theorem dX4_value_15 : decode cX4_value 15 = .ok (.aload_n 0, 1) := dk_42 (dk_at dksX4_value_0 15 rfl rfl)
theorem dX4_value_16 : decode cX4_value 16 = .ok (.getfield 275, 3) := dk_180 1 19 (dk_at dksX4_value_0 16 rfl rfl)
theorem dX4_value_19 : decode cX4_value 19 = .ok (.iconst 2, 1) := dk_5 (dk_at dksX4_value_0 19 rfl rfl)
theorem dX4_value_20 : decode cX4_value 20 = .ok (.if_icmp .ne 35, 3) := dk_160 0 35 (dk_at dksX4_value_0 20 rfl rfl)
theorem dX4_value_23 : decode cX4_value 23 = .ok (.ldc2_w 320, 3) := dk_20 1 64 (dk_at dksX4_value_1 0 rfl rfl)
theorem dX4_value_26 : decode cX4_value 26 = .ok (.ldc2_w 322, 3) := dk_20 1 66 (dk_at dksX4_value_1 3 rfl rfl)
theorem dX4_value_29 : decode cX4_value 29 = .ok (.iload_n 1, 1) := dk_27 (dk_at dksX4_value_1 6 rfl rfl)
theorem dX4_value_30 : decode cX4_value 30 = .ok (.i2l, 1) := dk_133 (dk_at dksX4_value_1 7 rfl rfl)
theorem dX4_value_31 : decode cX4_value 31 = .ok (.lmul, 1) := dk_105 (dk_at dksX4_value_1 8 rfl rfl)
theorem dX4_value_32 : decode cX4_value 32 = .ok (.aload_n 0, 1) := dk_42 (dk_at dksX4_value_1 9 rfl rfl)
theorem dX4_value_33 : decode cX4_value 33 = .ok (.getfield 35, 3) := dk_180 0 35 (dk_at dksX4_value_1 10 rfl rfl)
theorem dX4_value_36 : decode cX4_value 36 = .ok (.iload_n 2, 1) := dk_28 (dk_at dksX4_value_1 13 rfl rfl)
theorem dX4_value_37 : decode cX4_value 37 = .ok (.iaload, 1) := dk_46 (dk_at dksX4_value_1 14 rfl rfl)
theorem dX4_value_38 : decode cX4_value 38 = .ok (.i2l, 1) := dk_133 (dk_at dksX4_value_1 15 rfl rfl)
theorem dX4_value_39 : decode cX4_value 39 = .ok (.ladd, 1) := dk_97 (dk_at dksX4_value_1 16 rfl rfl)
theorem dX4_value_40 : decode cX4_value 40 = .ok (.ldc2_w 324, 3) := dk_20 1 68 (dk_at dksX4_value_1 17 rfl rfl)
theorem dX4_value_43 : decode cX4_value 43 = .ok (.lsub, 1) := dk_101 (dk_at dksX4_value_1 20 rfl rfl)
theorem dX4_value_44 : decode cX4_value 44 = .ok (.invokestatic 326, 3) := dk_184 1 70 (dk_at dksX4_value_1 21 rfl rfl)
theorem dX4_value_47 : decode cX4_value 47 = .ok (.l2i, 1) := dk_136 (dk_at dksX4_value_2 0 rfl rfl)
theorem dX4_value_48 : decode cX4_value 48 = .ok (.istore_n 1, 1) := dk_60 (dk_at dksX4_value_2 1 rfl rfl)
theorem dX4_value_49 : decode cX4_value 49 = .ok (.iinc 2 1, 3) := dk_132 2 1 (dk_at dksX4_value_2 2 rfl rfl)
theorem dX4_value_52 : decode cX4_value 52 = .ok (.goto (-45), 3) := dk_167 255 211 (dk_at dksX4_value_2 5 rfl rfl)
theorem dX4_value_55 : decode cX4_value 55 = .ok (.iload_n 1, 1) := dk_27 (dk_at dksX4_value_2 8 rfl rfl)
theorem dX4_value_56 : decode cX4_value 56 = .ok (.ireturn, 1) := dk_172 (dk_at dksX4_value_2 9 rfl rfl)
abbrev cX4_expect : ByteArray := prog_24_method_102_code
def yX4_expect : MethodName := ⟨RX4, "expect", "(I)V"⟩
def dkwX4_expect_0 : List UInt8 := [42, 42, 27, 182, 1, 61, 4, 182, 1, 54, 42, 182, 1, 58, 177]
abbrev dktX4_expect_0 : List UInt8 := dkwX4_expect_0 ++ []
theorem dksX4_expect_0 : cX4_expect.data.toList.drop 0 = dktX4_expect_0 := by decide +kernel
theorem dX4_expect_0 : decode cX4_expect 0 = .ok (.aload_n 0, 1) := dk_42 (dk_at dksX4_expect_0 0 rfl rfl)
theorem dX4_expect_1 : decode cX4_expect 1 = .ok (.aload_n 0, 1) := dk_42 (dk_at dksX4_expect_0 1 rfl rfl)
theorem dX4_expect_2 : decode cX4_expect 2 = .ok (.iload_n 1, 1) := dk_27 (dk_at dksX4_expect_0 2 rfl rfl)
theorem dX4_expect_3 : decode cX4_expect 3 = .ok (.invokevirtual 317, 3) := dk_182 1 61 (dk_at dksX4_expect_0 3 rfl rfl)
theorem dX4_expect_6 : decode cX4_expect 6 = .ok (.iconst 1, 1) := dk_4 (dk_at dksX4_expect_0 6 rfl rfl)
theorem dX4_expect_7 : decode cX4_expect 7 = .ok (.invokevirtual 310, 3) := dk_182 1 54 (dk_at dksX4_expect_0 7 rfl rfl)
theorem dX4_expect_10 : decode cX4_expect 10 = .ok (.aload_n 0, 1) := dk_42 (dk_at dksX4_expect_0 10 rfl rfl)
theorem dX4_expect_11 : decode cX4_expect 11 = .ok (.invokevirtual 314, 3) := dk_182 1 58 (dk_at dksX4_expect_0 11 rfl rfl)
theorem dX4_expect_14 : decode cX4_expect 14 = .ok (.return_, 1) := dk_177 (dk_at dksX4_expect_0 14 rfl rfl)
abbrev cX4_isSymbol : ByteArray := prog_24_method_98_code
def yX4_isSymbol : MethodName := ⟨RX4, "isSymbol", "(I)Z"⟩
def dkwX4_isSymbol_1 : List UInt8 := [27, 160, 0, 7, 4, 167, 0, 4, 3, 172]
abbrev dktX4_isSymbol_1 : List UInt8 := dkwX4_isSymbol_1 ++ []
def dkwX4_isSymbol_0 : List UInt8 := [42, 180, 1, 28, 154, 0, 28, 42, 180, 1, 19, 6, 160, 0, 20, 42, 180, 0, 35, 42, 180, 1, 16, 46]
abbrev dktX4_isSymbol_0 : List UInt8 := dkwX4_isSymbol_0 ++ dktX4_isSymbol_1
theorem dksX4_isSymbol_0 : cX4_isSymbol.data.toList.drop 0 = dktX4_isSymbol_0 := by decide +kernel
theorem dksX4_isSymbol_1 : cX4_isSymbol.data.toList.drop 24 = dktX4_isSymbol_1 := dk_seg dksX4_isSymbol_0 24 rfl rfl
theorem dX4_isSymbol_0 : decode cX4_isSymbol 0 = .ok (.aload_n 0, 1) := dk_42 (dk_at dksX4_isSymbol_0 0 rfl rfl)
theorem dX4_isSymbol_1 : decode cX4_isSymbol 1 = .ok (.getfield 284, 3) := dk_180 1 28 (dk_at dksX4_isSymbol_0 1 rfl rfl)
theorem dX4_isSymbol_4 : decode cX4_isSymbol 4 = .ok (.ifCond .ne 28, 3) := dk_154 0 28 (dk_at dksX4_isSymbol_0 4 rfl rfl)
theorem dX4_isSymbol_7 : decode cX4_isSymbol 7 = .ok (.aload_n 0, 1) := dk_42 (dk_at dksX4_isSymbol_0 7 rfl rfl)
theorem dX4_isSymbol_8 : decode cX4_isSymbol 8 = .ok (.getfield 275, 3) := dk_180 1 19 (dk_at dksX4_isSymbol_0 8 rfl rfl)
theorem dX4_isSymbol_11 : decode cX4_isSymbol 11 = .ok (.iconst 3, 1) := dk_6 (dk_at dksX4_isSymbol_0 11 rfl rfl)
theorem dX4_isSymbol_12 : decode cX4_isSymbol 12 = .ok (.if_icmp .ne 20, 3) := dk_160 0 20 (dk_at dksX4_isSymbol_0 12 rfl rfl)
theorem dX4_isSymbol_15 : decode cX4_isSymbol 15 = .ok (.aload_n 0, 1) := dk_42 (dk_at dksX4_isSymbol_0 15 rfl rfl)
theorem dX4_isSymbol_16 : decode cX4_isSymbol 16 = .ok (.getfield 35, 3) := dk_180 0 35 (dk_at dksX4_isSymbol_0 16 rfl rfl)
theorem dX4_isSymbol_19 : decode cX4_isSymbol 19 = .ok (.aload_n 0, 1) := dk_42 (dk_at dksX4_isSymbol_0 19 rfl rfl)
theorem dX4_isSymbol_20 : decode cX4_isSymbol 20 = .ok (.getfield 272, 3) := dk_180 1 16 (dk_at dksX4_isSymbol_0 20 rfl rfl)
theorem dX4_isSymbol_23 : decode cX4_isSymbol 23 = .ok (.iaload, 1) := dk_46 (dk_at dksX4_isSymbol_0 23 rfl rfl)
theorem dX4_isSymbol_24 : decode cX4_isSymbol 24 = .ok (.iload_n 1, 1) := dk_27 (dk_at dksX4_isSymbol_1 0 rfl rfl)
theorem dX4_isSymbol_25 : decode cX4_isSymbol 25 = .ok (.if_icmp .ne 7, 3) := dk_160 0 7 (dk_at dksX4_isSymbol_1 1 rfl rfl)
theorem dX4_isSymbol_28 : decode cX4_isSymbol 28 = .ok (.iconst 1, 1) := dk_4 (dk_at dksX4_isSymbol_1 4 rfl rfl)
theorem dX4_isSymbol_29 : decode cX4_isSymbol 29 = .ok (.goto 4, 3) := dk_167 0 4 (dk_at dksX4_isSymbol_1 5 rfl rfl)
theorem dX4_isSymbol_32 : decode cX4_isSymbol 32 = .ok (.iconst 0, 1) := dk_3 (dk_at dksX4_isSymbol_1 8 rfl rfl)
theorem dX4_isSymbol_33 : decode cX4_isSymbol 33 = .ok (.ireturn, 1) := dk_172 (dk_at dksX4_isSymbol_1 9 rfl rfl)
abbrev cX4_readClause : ByteArray := prog_24_method_112_code
def yX4_readClause : MethodName := ⟨RX4, "readClause", "()V"⟩
def dkwX4_readClause_5 : List UInt8 := [182, 1, 50, 4, 182, 1, 54, 42, 182, 1, 118, 42, 16, 59, 182, 1, 121, 177]
abbrev dktX4_readClause_5 : List UInt8 := dkwX4_readClause_5 ++ []
def dkwX4_readClause_4 : List UInt8 := [154, 0, 7, 27, 167, 0, 10, 42, 180, 0, 13, 16, 9, 46, 79, 167, 0, 19, 42, 42, 19, 1, 116]
abbrev dktX4_readClause_4 : List UInt8 := dkwX4_readClause_4 ++ dktX4_readClause_5
def dkwX4_readClause_3 : List UInt8 := [182, 1, 95, 153, 0, 39, 42, 4, 16, 30, 182, 1, 77, 60, 42, 180, 0, 13, 16, 9, 42, 180, 1, 28]
abbrev dktX4_readClause_3 : List UInt8 := dkwX4_readClause_3 ++ dktX4_readClause_4
def dkwX4_readClause_2 : List UInt8 := [167, 0, 82, 42, 19, 1, 109, 182, 1, 50, 153, 0, 10, 42, 182, 1, 111, 167, 0, 65, 42, 19, 1, 114]
abbrev dktX4_readClause_2 : List UInt8 := dkwX4_readClause_2 ++ dktX4_readClause_3
def dkwX4_readClause_1 : List UInt8 := [153, 0, 10, 42, 182, 1, 103, 167, 0, 98, 42, 18, 46, 182, 1, 50, 153, 0, 10, 42, 182, 1, 106]
abbrev dktX4_readClause_1 : List UInt8 := dkwX4_readClause_1 ++ dktX4_readClause_2
def dkwX4_readClause_0 : List UInt8 := [42, 19, 1, 93, 182, 1, 95, 153, 0, 10, 42, 182, 1, 98, 167, 0, 115, 42, 19, 1, 101, 182, 1, 95]
abbrev dktX4_readClause_0 : List UInt8 := dkwX4_readClause_0 ++ dktX4_readClause_1
theorem dksX4_readClause_0 : cX4_readClause.data.toList.drop 0 = dktX4_readClause_0 := by decide +kernel
theorem dksX4_readClause_1 : cX4_readClause.data.toList.drop 24 = dktX4_readClause_1 := dk_seg dksX4_readClause_0 24 rfl rfl
theorem dksX4_readClause_2 : cX4_readClause.data.toList.drop 47 = dktX4_readClause_2 := dk_seg dksX4_readClause_1 23 rfl rfl
theorem dksX4_readClause_3 : cX4_readClause.data.toList.drop 71 = dktX4_readClause_3 := dk_seg dksX4_readClause_2 24 rfl rfl
theorem dksX4_readClause_4 : cX4_readClause.data.toList.drop 95 = dktX4_readClause_4 := dk_seg dksX4_readClause_3 24 rfl rfl
theorem dksX4_readClause_5 : cX4_readClause.data.toList.drop 118 = dktX4_readClause_5 := dk_seg dksX4_readClause_4 23 rfl rfl
theorem dX4_readClause_0 : decode cX4_readClause 0 = .ok (.aload_n 0, 1) := dk_42 (dk_at dksX4_readClause_0 0 rfl rfl)
theorem dX4_readClause_1 : decode cX4_readClause 1 = .ok (.ldc_w 349, 3) := dk_19 1 93 (dk_at dksX4_readClause_0 1 rfl rfl)
theorem dX4_readClause_4 : decode cX4_readClause 4 = .ok (.invokevirtual 351, 3) := dk_182 1 95 (dk_at dksX4_readClause_0 4 rfl rfl)
theorem dX4_readClause_7 : decode cX4_readClause 7 = .ok (.ifCond .eq 10, 3) := dk_153 0 10 (dk_at dksX4_readClause_0 7 rfl rfl)
theorem dX4_readClause_10 : decode cX4_readClause 10 = .ok (.aload_n 0, 1) := dk_42 (dk_at dksX4_readClause_0 10 rfl rfl)
theorem dX4_readClause_11 : decode cX4_readClause 11 = .ok (.invokevirtual 354, 3) := dk_182 1 98 (dk_at dksX4_readClause_0 11 rfl rfl)
theorem dX4_readClause_14 : decode cX4_readClause 14 = .ok (.goto 115, 3) := dk_167 0 115 (dk_at dksX4_readClause_0 14 rfl rfl)
theorem dX4_readClause_17 : decode cX4_readClause 17 = .ok (.aload_n 0, 1) := dk_42 (dk_at dksX4_readClause_0 17 rfl rfl)
theorem dX4_readClause_18 : decode cX4_readClause 18 = .ok (.ldc_w 357, 3) := dk_19 1 101 (dk_at dksX4_readClause_0 18 rfl rfl)
theorem dX4_readClause_21 : decode cX4_readClause 21 = .ok (.invokevirtual 351, 3) := dk_182 1 95 (dk_at dksX4_readClause_0 21 rfl rfl)
theorem dX4_readClause_24 : decode cX4_readClause 24 = .ok (.ifCond .eq 10, 3) := dk_153 0 10 (dk_at dksX4_readClause_1 0 rfl rfl)
theorem dX4_readClause_27 : decode cX4_readClause 27 = .ok (.aload_n 0, 1) := dk_42 (dk_at dksX4_readClause_1 3 rfl rfl)
theorem dX4_readClause_28 : decode cX4_readClause 28 = .ok (.invokevirtual 359, 3) := dk_182 1 103 (dk_at dksX4_readClause_1 4 rfl rfl)
theorem dX4_readClause_31 : decode cX4_readClause 31 = .ok (.goto 98, 3) := dk_167 0 98 (dk_at dksX4_readClause_1 7 rfl rfl)
theorem dX4_readClause_34 : decode cX4_readClause 34 = .ok (.aload_n 0, 1) := dk_42 (dk_at dksX4_readClause_1 10 rfl rfl)
theorem dX4_readClause_35 : decode cX4_readClause 35 = .ok (.ldc 46, 2) := dk_18 46 (dk_at dksX4_readClause_1 11 rfl rfl)
theorem dX4_readClause_37 : decode cX4_readClause 37 = .ok (.invokevirtual 306, 3) := dk_182 1 50 (dk_at dksX4_readClause_1 13 rfl rfl)
theorem dX4_readClause_40 : decode cX4_readClause 40 = .ok (.ifCond .eq 10, 3) := dk_153 0 10 (dk_at dksX4_readClause_1 16 rfl rfl)
theorem dX4_readClause_43 : decode cX4_readClause 43 = .ok (.aload_n 0, 1) := dk_42 (dk_at dksX4_readClause_1 19 rfl rfl)
theorem dX4_readClause_44 : decode cX4_readClause 44 = .ok (.invokevirtual 362, 3) := dk_182 1 106 (dk_at dksX4_readClause_1 20 rfl rfl)
theorem dX4_readClause_47 : decode cX4_readClause 47 = .ok (.goto 82, 3) := dk_167 0 82 (dk_at dksX4_readClause_2 0 rfl rfl)
theorem dX4_readClause_50 : decode cX4_readClause 50 = .ok (.aload_n 0, 1) := dk_42 (dk_at dksX4_readClause_2 3 rfl rfl)
theorem dX4_readClause_51 : decode cX4_readClause 51 = .ok (.ldc_w 365, 3) := dk_19 1 109 (dk_at dksX4_readClause_2 4 rfl rfl)
theorem dX4_readClause_54 : decode cX4_readClause 54 = .ok (.invokevirtual 306, 3) := dk_182 1 50 (dk_at dksX4_readClause_2 7 rfl rfl)
theorem dX4_readClause_57 : decode cX4_readClause 57 = .ok (.ifCond .eq 10, 3) := dk_153 0 10 (dk_at dksX4_readClause_2 10 rfl rfl)
theorem dX4_readClause_60 : decode cX4_readClause 60 = .ok (.aload_n 0, 1) := dk_42 (dk_at dksX4_readClause_2 13 rfl rfl)
theorem dX4_readClause_61 : decode cX4_readClause 61 = .ok (.invokevirtual 367, 3) := dk_182 1 111 (dk_at dksX4_readClause_2 14 rfl rfl)
theorem dX4_readClause_64 : decode cX4_readClause 64 = .ok (.goto 65, 3) := dk_167 0 65 (dk_at dksX4_readClause_2 17 rfl rfl)
theorem dX4_readClause_67 : decode cX4_readClause 67 = .ok (.aload_n 0, 1) := dk_42 (dk_at dksX4_readClause_2 20 rfl rfl)
theorem dX4_readClause_68 : decode cX4_readClause 68 = .ok (.ldc_w 370, 3) := dk_19 1 114 (dk_at dksX4_readClause_2 21 rfl rfl)
theorem dX4_readClause_71 : decode cX4_readClause 71 = .ok (.invokevirtual 351, 3) := dk_182 1 95 (dk_at dksX4_readClause_3 0 rfl rfl)
theorem dX4_readClause_74 : decode cX4_readClause 74 = .ok (.ifCond .eq 39, 3) := dk_153 0 39 (dk_at dksX4_readClause_3 3 rfl rfl)
theorem dX4_readClause_77 : decode cX4_readClause 77 = .ok (.aload_n 0, 1) := dk_42 (dk_at dksX4_readClause_3 6 rfl rfl)
theorem dX4_readClause_78 : decode cX4_readClause 78 = .ok (.iconst 1, 1) := dk_4 (dk_at dksX4_readClause_3 7 rfl rfl)
theorem dX4_readClause_79 : decode cX4_readClause 79 = .ok (.bipush 30, 2) := dk_16 30 (dk_at dksX4_readClause_3 8 rfl rfl)
theorem dX4_readClause_81 : decode cX4_readClause 81 = .ok (.invokevirtual 333, 3) := dk_182 1 77 (dk_at dksX4_readClause_3 10 rfl rfl)
theorem dX4_readClause_84 : decode cX4_readClause 84 = .ok (.istore_n 1, 1) := dk_60 (dk_at dksX4_readClause_3 13 rfl rfl)
theorem dX4_readClause_85 : decode cX4_readClause 85 = .ok (.aload_n 0, 1) := dk_42 (dk_at dksX4_readClause_3 14 rfl rfl)
theorem dX4_readClause_86 : decode cX4_readClause 86 = .ok (.getfield 13, 3) := dk_180 0 13 (dk_at dksX4_readClause_3 15 rfl rfl)
theorem dX4_readClause_89 : decode cX4_readClause 89 = .ok (.bipush 9, 2) := dk_16 9 (dk_at dksX4_readClause_3 18 rfl rfl)
theorem dX4_readClause_91 : decode cX4_readClause 91 = .ok (.aload_n 0, 1) := dk_42 (dk_at dksX4_readClause_3 20 rfl rfl)
theorem dX4_readClause_92 : decode cX4_readClause 92 = .ok (.getfield 284, 3) := dk_180 1 28 (dk_at dksX4_readClause_3 21 rfl rfl)
theorem dX4_readClause_95 : decode cX4_readClause 95 = .ok (.ifCond .ne 7, 3) := dk_154 0 7 (dk_at dksX4_readClause_4 0 rfl rfl)
theorem dX4_readClause_98 : decode cX4_readClause 98 = .ok (.iload_n 1, 1) := dk_27 (dk_at dksX4_readClause_4 3 rfl rfl)
theorem dX4_readClause_99 : decode cX4_readClause 99 = .ok (.goto 10, 3) := dk_167 0 10 (dk_at dksX4_readClause_4 4 rfl rfl)
theorem dX4_readClause_102 : decode cX4_readClause 102 = .ok (.aload_n 0, 1) := dk_42 (dk_at dksX4_readClause_4 7 rfl rfl)
theorem dX4_readClause_103 : decode cX4_readClause 103 = .ok (.getfield 13, 3) := dk_180 0 13 (dk_at dksX4_readClause_4 8 rfl rfl)
theorem dX4_readClause_106 : decode cX4_readClause 106 = .ok (.bipush 9, 2) := dk_16 9 (dk_at dksX4_readClause_4 11 rfl rfl)
theorem dX4_readClause_108 : decode cX4_readClause 108 = .ok (.iaload, 1) := dk_46 (dk_at dksX4_readClause_4 13 rfl rfl)
theorem dX4_readClause_109 : decode cX4_readClause 109 = .ok (.iastore, 1) := dk_79 (dk_at dksX4_readClause_4 14 rfl rfl)
theorem dX4_readClause_110 : decode cX4_readClause 110 = .ok (.goto 19, 3) := dk_167 0 19 (dk_at dksX4_readClause_4 15 rfl rfl)
theorem dX4_readClause_113 : decode cX4_readClause 113 = .ok (.aload_n 0, 1) := dk_42 (dk_at dksX4_readClause_4 18 rfl rfl)
theorem dX4_readClause_114 : decode cX4_readClause 114 = .ok (.aload_n 0, 1) := dk_42 (dk_at dksX4_readClause_4 19 rfl rfl)
theorem dX4_readClause_115 : decode cX4_readClause 115 = .ok (.ldc_w 372, 3) := dk_19 1 116 (dk_at dksX4_readClause_4 20 rfl rfl)
theorem dX4_readClause_118 : decode cX4_readClause 118 = .ok (.invokevirtual 306, 3) := dk_182 1 50 (dk_at dksX4_readClause_5 0 rfl rfl)
theorem dX4_readClause_121 : decode cX4_readClause 121 = .ok (.iconst 1, 1) := dk_4 (dk_at dksX4_readClause_5 3 rfl rfl)
theorem dX4_readClause_122 : decode cX4_readClause 122 = .ok (.invokevirtual 310, 3) := dk_182 1 54 (dk_at dksX4_readClause_5 4 rfl rfl)
theorem dX4_readClause_125 : decode cX4_readClause 125 = .ok (.aload_n 0, 1) := dk_42 (dk_at dksX4_readClause_5 7 rfl rfl)
theorem dX4_readClause_126 : decode cX4_readClause 126 = .ok (.invokevirtual 374, 3) := dk_182 1 118 (dk_at dksX4_readClause_5 8 rfl rfl)
theorem dX4_readClause_129 : decode cX4_readClause 129 = .ok (.aload_n 0, 1) := dk_42 (dk_at dksX4_readClause_5 11 rfl rfl)
theorem dX4_readClause_130 : decode cX4_readClause 130 = .ok (.bipush 59, 2) := dk_16 59 (dk_at dksX4_readClause_5 12 rfl rfl)
theorem dX4_readClause_132 : decode cX4_readClause 132 = .ok (.invokevirtual 377, 3) := dk_182 1 121 (dk_at dksX4_readClause_5 14 rfl rfl)
theorem dX4_readClause_135 : decode cX4_readClause 135 = .ok (.return_, 1) := dk_177 (dk_at dksX4_readClause_5 17 rfl rfl)
abbrev cX4_accept : ByteArray := prog_24_method_100_code
def yX4_accept : MethodName := ⟨RX4, "accept", "(Ljava/lang/String;)Z"⟩
def dkwX4_accept_0 : List UInt8 := [42, 43, 182, 1, 50, 61, 28, 153, 0, 7, 42, 182, 1, 34, 28, 172]
abbrev dktX4_accept_0 : List UInt8 := dkwX4_accept_0 ++ []
theorem dksX4_accept_0 : cX4_accept.data.toList.drop 0 = dktX4_accept_0 := by decide +kernel
theorem dX4_accept_0 : decode cX4_accept 0 = .ok (.aload_n 0, 1) := dk_42 (dk_at dksX4_accept_0 0 rfl rfl)
theorem dX4_accept_1 : decode cX4_accept 1 = .ok (.aload_n 1, 1) := dk_43 (dk_at dksX4_accept_0 1 rfl rfl)
theorem dX4_accept_2 : decode cX4_accept 2 = .ok (.invokevirtual 306, 3) := dk_182 1 50 (dk_at dksX4_accept_0 2 rfl rfl)
theorem dX4_accept_5 : decode cX4_accept 5 = .ok (.istore_n 2, 1) := dk_61 (dk_at dksX4_accept_0 5 rfl rfl)
theorem dX4_accept_6 : decode cX4_accept 6 = .ok (.iload_n 2, 1) := dk_28 (dk_at dksX4_accept_0 6 rfl rfl)
theorem dX4_accept_7 : decode cX4_accept 7 = .ok (.ifCond .eq 7, 3) := dk_153 0 7 (dk_at dksX4_accept_0 7 rfl rfl)
theorem dX4_accept_10 : decode cX4_accept 10 = .ok (.aload_n 0, 1) := dk_42 (dk_at dksX4_accept_0 10 rfl rfl)
theorem dX4_accept_11 : decode cX4_accept 11 = .ok (.invokevirtual 290, 3) := dk_182 1 34 (dk_at dksX4_accept_0 11 rfl rfl)
theorem dX4_accept_14 : decode cX4_accept 14 = .ok (.iload_n 2, 1) := dk_28 (dk_at dksX4_accept_0 14 rfl rfl)
theorem dX4_accept_15 : decode cX4_accept 15 = .ok (.ireturn, 1) := dk_172 (dk_at dksX4_accept_0 15 rfl rfl)
abbrev cX4_readWall : ByteArray := prog_24_method_107_code
def yX4_readWall : MethodName := ⟨RX4, "readWall", "()V"⟩
def dkwX4_readWall_1 : List UInt8 := [180, 1, 83, 184, 0, 98, 4, 79, 42, 180, 0, 13, 16, 6, 92, 46, 4, 96, 79, 177]
abbrev dktX4_readWall_1 : List UInt8 := dkwX4_readWall_1 ++ []
def dkwX4_readWall_0 : List UInt8 := [42, 4, 3, 182, 1, 89, 42, 180, 1, 28, 154, 0, 31, 42, 180, 0, 13, 42, 180, 1, 80, 42]
abbrev dktX4_readWall_0 : List UInt8 := dkwX4_readWall_0 ++ dktX4_readWall_1
theorem dksX4_readWall_0 : cX4_readWall.data.toList.drop 0 = dktX4_readWall_0 := by decide +kernel
theorem dksX4_readWall_1 : cX4_readWall.data.toList.drop 22 = dktX4_readWall_1 := dk_seg dksX4_readWall_0 22 rfl rfl
theorem dX4_readWall_0 : decode cX4_readWall 0 = .ok (.aload_n 0, 1) := dk_42 (dk_at dksX4_readWall_0 0 rfl rfl)
theorem dX4_readWall_1 : decode cX4_readWall 1 = .ok (.iconst 1, 1) := dk_4 (dk_at dksX4_readWall_0 1 rfl rfl)
theorem dX4_readWall_2 : decode cX4_readWall 2 = .ok (.iconst 0, 1) := dk_3 (dk_at dksX4_readWall_0 2 rfl rfl)
theorem dX4_readWall_3 : decode cX4_readWall 3 = .ok (.invokevirtual 345, 3) := dk_182 1 89 (dk_at dksX4_readWall_0 3 rfl rfl)
theorem dX4_readWall_6 : decode cX4_readWall 6 = .ok (.aload_n 0, 1) := dk_42 (dk_at dksX4_readWall_0 6 rfl rfl)
theorem dX4_readWall_7 : decode cX4_readWall 7 = .ok (.getfield 284, 3) := dk_180 1 28 (dk_at dksX4_readWall_0 7 rfl rfl)
theorem dX4_readWall_10 : decode cX4_readWall 10 = .ok (.ifCond .ne 31, 3) := dk_154 0 31 (dk_at dksX4_readWall_0 10 rfl rfl)
theorem dX4_readWall_13 : decode cX4_readWall 13 = .ok (.aload_n 0, 1) := dk_42 (dk_at dksX4_readWall_0 13 rfl rfl)
theorem dX4_readWall_14 : decode cX4_readWall 14 = .ok (.getfield 13, 3) := dk_180 0 13 (dk_at dksX4_readWall_0 14 rfl rfl)
theorem dX4_readWall_17 : decode cX4_readWall 17 = .ok (.aload_n 0, 1) := dk_42 (dk_at dksX4_readWall_0 17 rfl rfl)
theorem dX4_readWall_18 : decode cX4_readWall 18 = .ok (.getfield 336, 3) := dk_180 1 80 (dk_at dksX4_readWall_0 18 rfl rfl)
theorem dX4_readWall_21 : decode cX4_readWall 21 = .ok (.aload_n 0, 1) := dk_42 (dk_at dksX4_readWall_0 21 rfl rfl)
theorem dX4_readWall_22 : decode cX4_readWall 22 = .ok (.getfield 339, 3) := dk_180 1 83 (dk_at dksX4_readWall_1 0 rfl rfl)
theorem dX4_readWall_25 : decode cX4_readWall 25 = .ok (.invokestatic 98, 3) := dk_184 0 98 (dk_at dksX4_readWall_1 3 rfl rfl)
theorem dX4_readWall_28 : decode cX4_readWall 28 = .ok (.iconst 1, 1) := dk_4 (dk_at dksX4_readWall_1 6 rfl rfl)
theorem dX4_readWall_29 : decode cX4_readWall 29 = .ok (.iastore, 1) := dk_79 (dk_at dksX4_readWall_1 7 rfl rfl)
theorem dX4_readWall_30 : decode cX4_readWall 30 = .ok (.aload_n 0, 1) := dk_42 (dk_at dksX4_readWall_1 8 rfl rfl)
theorem dX4_readWall_31 : decode cX4_readWall 31 = .ok (.getfield 13, 3) := dk_180 0 13 (dk_at dksX4_readWall_1 9 rfl rfl)
theorem dX4_readWall_34 : decode cX4_readWall 34 = .ok (.bipush 6, 2) := dk_16 6 (dk_at dksX4_readWall_1 12 rfl rfl)
theorem dX4_readWall_36 : decode cX4_readWall 36 = .ok (.dup2, 1) := dk_92 (dk_at dksX4_readWall_1 14 rfl rfl)
theorem dX4_readWall_37 : decode cX4_readWall 37 = .ok (.iaload, 1) := dk_46 (dk_at dksX4_readWall_1 15 rfl rfl)
theorem dX4_readWall_38 : decode cX4_readWall 38 = .ok (.iconst 1, 1) := dk_4 (dk_at dksX4_readWall_1 16 rfl rfl)
theorem dX4_readWall_39 : decode cX4_readWall 39 = .ok (.iadd, 1) := dk_96 (dk_at dksX4_readWall_1 17 rfl rfl)
theorem dX4_readWall_40 : decode cX4_readWall 40 = .ok (.iastore, 1) := dk_79 (dk_at dksX4_readWall_1 18 rfl rfl)
theorem dX4_readWall_41 : decode cX4_readWall 41 = .ok (.return_, 1) := dk_177 (dk_at dksX4_readWall_1 19 rfl rfl)
abbrev cX4_readCell : ByteArray := prog_24_method_106_code
def yX4_readCell : MethodName := ⟨RX4, "readCell", "(ZZ)V"⟩
def dkwX4_readCell_7 : List UInt8 := [182, 1, 86, 154, 0, 7, 4, 167, 0, 4, 3, 7, 182, 1, 54, 42, 182, 1, 58, 177]
abbrev dktX4_readCell_7 : List UInt8 := dkwX4_readCell_7 ++ []
def dkwX4_readCell_6 : List UInt8 := [154, 0, 30, 28, 154, 0, 26, 29, 154, 0, 26, 27, 153, 0, 18, 42, 42, 180, 1, 80, 42, 180, 1, 83]
abbrev dktX4_readCell_6 : List UInt8 := dkwX4_readCell_6 ++ dktX4_readCell_7
def dkwX4_readCell_5 : List UInt8 := [180, 1, 83, 184, 0, 98, 46, 4, 160, 0, 7, 4, 167, 0, 4, 3, 62, 42, 42, 180, 1, 28]
abbrev dktX4_readCell_5 : List UInt8 := dkwX4_readCell_5 ++ dktX4_readCell_6
def dkwX4_readCell_4 : List UInt8 := [42, 182, 1, 74, 181, 1, 83, 42, 180, 1, 28, 154, 0, 27, 42, 180, 0, 13, 42, 180, 1, 80, 42]
abbrev dktX4_readCell_4 : List UInt8 := dkwX4_readCell_4 ++ dktX4_readCell_5
def dkwX4_readCell_3 : List UInt8 := [153, 0, 7, 4, 167, 0, 4, 3, 5, 182, 1, 54, 42, 42, 180, 1, 28, 153, 0, 7, 3, 167, 0, 7]
abbrev dktX4_readCell_3 : List UInt8 := dkwX4_readCell_3 ++ dktX4_readCell_4
def dkwX4_readCell_2 : List UInt8 := [180, 1, 28, 154, 0, 22, 42, 182, 1, 74, 3, 42, 180, 0, 13, 4, 46, 4, 100, 184, 0, 90]
abbrev dktX4_readCell_2 : List UInt8 := dkwX4_readCell_2 ++ dktX4_readCell_3
def dkwX4_readCell_1 : List UInt8 := [154, 0, 11, 42, 180, 1, 19, 5, 160, 0, 7, 4, 167, 0, 4, 3, 4, 182, 1, 54, 42, 42]
abbrev dktX4_readCell_1 : List UInt8 := dkwX4_readCell_1 ++ dktX4_readCell_2
def dkwX4_readCell_0 : List UInt8 := [42, 42, 3, 42, 180, 0, 13, 3, 46, 4, 100, 182, 1, 77, 181, 1, 80, 42, 42, 180, 1, 28]
abbrev dktX4_readCell_0 : List UInt8 := dkwX4_readCell_0 ++ dktX4_readCell_1
theorem dksX4_readCell_0 : cX4_readCell.data.toList.drop 0 = dktX4_readCell_0 := by decide +kernel
theorem dksX4_readCell_1 : cX4_readCell.data.toList.drop 22 = dktX4_readCell_1 := dk_seg dksX4_readCell_0 22 rfl rfl
theorem dksX4_readCell_2 : cX4_readCell.data.toList.drop 44 = dktX4_readCell_2 := dk_seg dksX4_readCell_1 22 rfl rfl
theorem dksX4_readCell_3 : cX4_readCell.data.toList.drop 66 = dktX4_readCell_3 := dk_seg dksX4_readCell_2 22 rfl rfl
theorem dksX4_readCell_4 : cX4_readCell.data.toList.drop 90 = dktX4_readCell_4 := dk_seg dksX4_readCell_3 24 rfl rfl
theorem dksX4_readCell_5 : cX4_readCell.data.toList.drop 113 = dktX4_readCell_5 := dk_seg dksX4_readCell_4 23 rfl rfl
theorem dksX4_readCell_6 : cX4_readCell.data.toList.drop 135 = dktX4_readCell_6 := dk_seg dksX4_readCell_5 22 rfl rfl
theorem dksX4_readCell_7 : cX4_readCell.data.toList.drop 159 = dktX4_readCell_7 := dk_seg dksX4_readCell_6 24 rfl rfl
theorem dX4_readCell_0 : decode cX4_readCell 0 = .ok (.aload_n 0, 1) := dk_42 (dk_at dksX4_readCell_0 0 rfl rfl)
theorem dX4_readCell_1 : decode cX4_readCell 1 = .ok (.aload_n 0, 1) := dk_42 (dk_at dksX4_readCell_0 1 rfl rfl)
theorem dX4_readCell_2 : decode cX4_readCell 2 = .ok (.iconst 0, 1) := dk_3 (dk_at dksX4_readCell_0 2 rfl rfl)
theorem dX4_readCell_3 : decode cX4_readCell 3 = .ok (.aload_n 0, 1) := dk_42 (dk_at dksX4_readCell_0 3 rfl rfl)
theorem dX4_readCell_4 : decode cX4_readCell 4 = .ok (.getfield 13, 3) := dk_180 0 13 (dk_at dksX4_readCell_0 4 rfl rfl)
theorem dX4_readCell_7 : decode cX4_readCell 7 = .ok (.iconst 0, 1) := dk_3 (dk_at dksX4_readCell_0 7 rfl rfl)
theorem dX4_readCell_8 : decode cX4_readCell 8 = .ok (.iaload, 1) := dk_46 (dk_at dksX4_readCell_0 8 rfl rfl)
theorem dX4_readCell_9 : decode cX4_readCell 9 = .ok (.iconst 1, 1) := dk_4 (dk_at dksX4_readCell_0 9 rfl rfl)
theorem dX4_readCell_10 : decode cX4_readCell 10 = .ok (.isub, 1) := dk_100 (dk_at dksX4_readCell_0 10 rfl rfl)
theorem dX4_readCell_11 : decode cX4_readCell 11 = .ok (.invokevirtual 333, 3) := dk_182 1 77 (dk_at dksX4_readCell_0 11 rfl rfl)
theorem dX4_readCell_14 : decode cX4_readCell 14 = .ok (.putfield 336, 3) := dk_181 1 80 (dk_at dksX4_readCell_0 14 rfl rfl)
theorem dX4_readCell_17 : decode cX4_readCell 17 = .ok (.aload_n 0, 1) := dk_42 (dk_at dksX4_readCell_0 17 rfl rfl)
theorem dX4_readCell_18 : decode cX4_readCell 18 = .ok (.aload_n 0, 1) := dk_42 (dk_at dksX4_readCell_0 18 rfl rfl)
theorem dX4_readCell_19 : decode cX4_readCell 19 = .ok (.getfield 284, 3) := dk_180 1 28 (dk_at dksX4_readCell_0 19 rfl rfl)
theorem dX4_readCell_22 : decode cX4_readCell 22 = .ok (.ifCond .ne 11, 3) := dk_154 0 11 (dk_at dksX4_readCell_1 0 rfl rfl)
theorem dX4_readCell_25 : decode cX4_readCell 25 = .ok (.aload_n 0, 1) := dk_42 (dk_at dksX4_readCell_1 3 rfl rfl)
theorem dX4_readCell_26 : decode cX4_readCell 26 = .ok (.getfield 275, 3) := dk_180 1 19 (dk_at dksX4_readCell_1 4 rfl rfl)
theorem dX4_readCell_29 : decode cX4_readCell 29 = .ok (.iconst 2, 1) := dk_5 (dk_at dksX4_readCell_1 7 rfl rfl)
theorem dX4_readCell_30 : decode cX4_readCell 30 = .ok (.if_icmp .ne 7, 3) := dk_160 0 7 (dk_at dksX4_readCell_1 8 rfl rfl)
theorem dX4_readCell_33 : decode cX4_readCell 33 = .ok (.iconst 1, 1) := dk_4 (dk_at dksX4_readCell_1 11 rfl rfl)
theorem dX4_readCell_34 : decode cX4_readCell 34 = .ok (.goto 4, 3) := dk_167 0 4 (dk_at dksX4_readCell_1 12 rfl rfl)
theorem dX4_readCell_37 : decode cX4_readCell 37 = .ok (.iconst 0, 1) := dk_3 (dk_at dksX4_readCell_1 15 rfl rfl)
theorem dX4_readCell_38 : decode cX4_readCell 38 = .ok (.iconst 1, 1) := dk_4 (dk_at dksX4_readCell_1 16 rfl rfl)
theorem dX4_readCell_39 : decode cX4_readCell 39 = .ok (.invokevirtual 310, 3) := dk_182 1 54 (dk_at dksX4_readCell_1 17 rfl rfl)
theorem dX4_readCell_42 : decode cX4_readCell 42 = .ok (.aload_n 0, 1) := dk_42 (dk_at dksX4_readCell_1 20 rfl rfl)
theorem dX4_readCell_43 : decode cX4_readCell 43 = .ok (.aload_n 0, 1) := dk_42 (dk_at dksX4_readCell_1 21 rfl rfl)
theorem dX4_readCell_44 : decode cX4_readCell 44 = .ok (.getfield 284, 3) := dk_180 1 28 (dk_at dksX4_readCell_2 0 rfl rfl)
theorem dX4_readCell_47 : decode cX4_readCell 47 = .ok (.ifCond .ne 22, 3) := dk_154 0 22 (dk_at dksX4_readCell_2 3 rfl rfl)
theorem dX4_readCell_50 : decode cX4_readCell 50 = .ok (.aload_n 0, 1) := dk_42 (dk_at dksX4_readCell_2 6 rfl rfl)
theorem dX4_readCell_51 : decode cX4_readCell 51 = .ok (.invokevirtual 330, 3) := dk_182 1 74 (dk_at dksX4_readCell_2 7 rfl rfl)
theorem dX4_readCell_54 : decode cX4_readCell 54 = .ok (.iconst 0, 1) := dk_3 (dk_at dksX4_readCell_2 10 rfl rfl)
theorem dX4_readCell_55 : decode cX4_readCell 55 = .ok (.aload_n 0, 1) := dk_42 (dk_at dksX4_readCell_2 11 rfl rfl)
theorem dX4_readCell_56 : decode cX4_readCell 56 = .ok (.getfield 13, 3) := dk_180 0 13 (dk_at dksX4_readCell_2 12 rfl rfl)
theorem dX4_readCell_59 : decode cX4_readCell 59 = .ok (.iconst 1, 1) := dk_4 (dk_at dksX4_readCell_2 15 rfl rfl)
theorem dX4_readCell_60 : decode cX4_readCell 60 = .ok (.iaload, 1) := dk_46 (dk_at dksX4_readCell_2 16 rfl rfl)
theorem dX4_readCell_61 : decode cX4_readCell 61 = .ok (.iconst 1, 1) := dk_4 (dk_at dksX4_readCell_2 17 rfl rfl)
theorem dX4_readCell_62 : decode cX4_readCell 62 = .ok (.isub, 1) := dk_100 (dk_at dksX4_readCell_2 18 rfl rfl)
theorem dX4_readCell_63 : decode cX4_readCell 63 = .ok (.invokestatic 90, 3) := dk_184 0 90 (dk_at dksX4_readCell_2 19 rfl rfl)
theorem dX4_readCell_66 : decode cX4_readCell 66 = .ok (.ifCond .eq 7, 3) := dk_153 0 7 (dk_at dksX4_readCell_3 0 rfl rfl)
theorem dX4_readCell_69 : decode cX4_readCell 69 = .ok (.iconst 1, 1) := dk_4 (dk_at dksX4_readCell_3 3 rfl rfl)
theorem dX4_readCell_70 : decode cX4_readCell 70 = .ok (.goto 4, 3) := dk_167 0 4 (dk_at dksX4_readCell_3 4 rfl rfl)
theorem dX4_readCell_73 : decode cX4_readCell 73 = .ok (.iconst 0, 1) := dk_3 (dk_at dksX4_readCell_3 7 rfl rfl)
theorem dX4_readCell_74 : decode cX4_readCell 74 = .ok (.iconst 2, 1) := dk_5 (dk_at dksX4_readCell_3 8 rfl rfl)
theorem dX4_readCell_75 : decode cX4_readCell 75 = .ok (.invokevirtual 310, 3) := dk_182 1 54 (dk_at dksX4_readCell_3 9 rfl rfl)
theorem dX4_readCell_78 : decode cX4_readCell 78 = .ok (.aload_n 0, 1) := dk_42 (dk_at dksX4_readCell_3 12 rfl rfl)
theorem dX4_readCell_79 : decode cX4_readCell 79 = .ok (.aload_n 0, 1) := dk_42 (dk_at dksX4_readCell_3 13 rfl rfl)
theorem dX4_readCell_80 : decode cX4_readCell 80 = .ok (.getfield 284, 3) := dk_180 1 28 (dk_at dksX4_readCell_3 14 rfl rfl)
theorem dX4_readCell_83 : decode cX4_readCell 83 = .ok (.ifCond .eq 7, 3) := dk_153 0 7 (dk_at dksX4_readCell_3 17 rfl rfl)
theorem dX4_readCell_86 : decode cX4_readCell 86 = .ok (.iconst 0, 1) := dk_3 (dk_at dksX4_readCell_3 20 rfl rfl)
theorem dX4_readCell_87 : decode cX4_readCell 87 = .ok (.goto 7, 3) := dk_167 0 7 (dk_at dksX4_readCell_3 21 rfl rfl)
theorem dX4_readCell_90 : decode cX4_readCell 90 = .ok (.aload_n 0, 1) := dk_42 (dk_at dksX4_readCell_4 0 rfl rfl)
theorem dX4_readCell_91 : decode cX4_readCell 91 = .ok (.invokevirtual 330, 3) := dk_182 1 74 (dk_at dksX4_readCell_4 1 rfl rfl)
theorem dX4_readCell_94 : decode cX4_readCell 94 = .ok (.putfield 339, 3) := dk_181 1 83 (dk_at dksX4_readCell_4 4 rfl rfl)
theorem dX4_readCell_97 : decode cX4_readCell 97 = .ok (.aload_n 0, 1) := dk_42 (dk_at dksX4_readCell_4 7 rfl rfl)
theorem dX4_readCell_98 : decode cX4_readCell 98 = .ok (.getfield 284, 3) := dk_180 1 28 (dk_at dksX4_readCell_4 8 rfl rfl)
theorem dX4_readCell_101 : decode cX4_readCell 101 = .ok (.ifCond .ne 27, 3) := dk_154 0 27 (dk_at dksX4_readCell_4 11 rfl rfl)
theorem dX4_readCell_104 : decode cX4_readCell 104 = .ok (.aload_n 0, 1) := dk_42 (dk_at dksX4_readCell_4 14 rfl rfl)
theorem dX4_readCell_105 : decode cX4_readCell 105 = .ok (.getfield 13, 3) := dk_180 0 13 (dk_at dksX4_readCell_4 15 rfl rfl)
theorem dX4_readCell_108 : decode cX4_readCell 108 = .ok (.aload_n 0, 1) := dk_42 (dk_at dksX4_readCell_4 18 rfl rfl)
theorem dX4_readCell_109 : decode cX4_readCell 109 = .ok (.getfield 336, 3) := dk_180 1 80 (dk_at dksX4_readCell_4 19 rfl rfl)
theorem dX4_readCell_112 : decode cX4_readCell 112 = .ok (.aload_n 0, 1) := dk_42 (dk_at dksX4_readCell_4 22 rfl rfl)
theorem dX4_readCell_113 : decode cX4_readCell 113 = .ok (.getfield 339, 3) := dk_180 1 83 (dk_at dksX4_readCell_5 0 rfl rfl)
theorem dX4_readCell_116 : decode cX4_readCell 116 = .ok (.invokestatic 98, 3) := dk_184 0 98 (dk_at dksX4_readCell_5 3 rfl rfl)
theorem dX4_readCell_119 : decode cX4_readCell 119 = .ok (.iaload, 1) := dk_46 (dk_at dksX4_readCell_5 6 rfl rfl)
theorem dX4_readCell_120 : decode cX4_readCell 120 = .ok (.iconst 1, 1) := dk_4 (dk_at dksX4_readCell_5 7 rfl rfl)
theorem dX4_readCell_121 : decode cX4_readCell 121 = .ok (.if_icmp .ne 7, 3) := dk_160 0 7 (dk_at dksX4_readCell_5 8 rfl rfl)
theorem dX4_readCell_124 : decode cX4_readCell 124 = .ok (.iconst 1, 1) := dk_4 (dk_at dksX4_readCell_5 11 rfl rfl)
theorem dX4_readCell_125 : decode cX4_readCell 125 = .ok (.goto 4, 3) := dk_167 0 4 (dk_at dksX4_readCell_5 12 rfl rfl)
theorem dX4_readCell_128 : decode cX4_readCell 128 = .ok (.iconst 0, 1) := dk_3 (dk_at dksX4_readCell_5 15 rfl rfl)
theorem dX4_readCell_129 : decode cX4_readCell 129 = .ok (.istore_n 3, 1) := dk_62 (dk_at dksX4_readCell_5 16 rfl rfl)
theorem dX4_readCell_130 : decode cX4_readCell 130 = .ok (.aload_n 0, 1) := dk_42 (dk_at dksX4_readCell_5 17 rfl rfl)
theorem dX4_readCell_131 : decode cX4_readCell 131 = .ok (.aload_n 0, 1) := dk_42 (dk_at dksX4_readCell_5 18 rfl rfl)
theorem dX4_readCell_132 : decode cX4_readCell 132 = .ok (.getfield 284, 3) := dk_180 1 28 (dk_at dksX4_readCell_5 19 rfl rfl)
theorem dX4_readCell_135 : decode cX4_readCell 135 = .ok (.ifCond .ne 30, 3) := dk_154 0 30 (dk_at dksX4_readCell_6 0 rfl rfl)
theorem dX4_readCell_138 : decode cX4_readCell 138 = .ok (.iload_n 2, 1) := dk_28 (dk_at dksX4_readCell_6 3 rfl rfl)
theorem dX4_readCell_139 : decode cX4_readCell 139 = .ok (.ifCond .ne 26, 3) := dk_154 0 26 (dk_at dksX4_readCell_6 4 rfl rfl)
theorem dX4_readCell_142 : decode cX4_readCell 142 = .ok (.iload_n 3, 1) := dk_29 (dk_at dksX4_readCell_6 7 rfl rfl)
theorem dX4_readCell_143 : decode cX4_readCell 143 = .ok (.ifCond .ne 26, 3) := dk_154 0 26 (dk_at dksX4_readCell_6 8 rfl rfl)
theorem dX4_readCell_146 : decode cX4_readCell 146 = .ok (.iload_n 1, 1) := dk_27 (dk_at dksX4_readCell_6 11 rfl rfl)
theorem dX4_readCell_147 : decode cX4_readCell 147 = .ok (.ifCond .eq 18, 3) := dk_153 0 18 (dk_at dksX4_readCell_6 12 rfl rfl)
theorem dX4_readCell_150 : decode cX4_readCell 150 = .ok (.aload_n 0, 1) := dk_42 (dk_at dksX4_readCell_6 15 rfl rfl)
theorem dX4_readCell_151 : decode cX4_readCell 151 = .ok (.aload_n 0, 1) := dk_42 (dk_at dksX4_readCell_6 16 rfl rfl)
theorem dX4_readCell_152 : decode cX4_readCell 152 = .ok (.getfield 336, 3) := dk_180 1 80 (dk_at dksX4_readCell_6 17 rfl rfl)
theorem dX4_readCell_155 : decode cX4_readCell 155 = .ok (.aload_n 0, 1) := dk_42 (dk_at dksX4_readCell_6 20 rfl rfl)
theorem dX4_readCell_156 : decode cX4_readCell 156 = .ok (.getfield 339, 3) := dk_180 1 83 (dk_at dksX4_readCell_6 21 rfl rfl)
theorem dX4_readCell_159 : decode cX4_readCell 159 = .ok (.invokevirtual 342, 3) := dk_182 1 86 (dk_at dksX4_readCell_7 0 rfl rfl)
theorem dX4_readCell_162 : decode cX4_readCell 162 = .ok (.ifCond .ne 7, 3) := dk_154 0 7 (dk_at dksX4_readCell_7 3 rfl rfl)
theorem dX4_readCell_165 : decode cX4_readCell 165 = .ok (.iconst 1, 1) := dk_4 (dk_at dksX4_readCell_7 6 rfl rfl)
theorem dX4_readCell_166 : decode cX4_readCell 166 = .ok (.goto 4, 3) := dk_167 0 4 (dk_at dksX4_readCell_7 7 rfl rfl)
theorem dX4_readCell_169 : decode cX4_readCell 169 = .ok (.iconst 0, 1) := dk_3 (dk_at dksX4_readCell_7 10 rfl rfl)
theorem dX4_readCell_170 : decode cX4_readCell 170 = .ok (.iconst 4, 1) := dk_7 (dk_at dksX4_readCell_7 11 rfl rfl)
theorem dX4_readCell_171 : decode cX4_readCell 171 = .ok (.invokevirtual 310, 3) := dk_182 1 54 (dk_at dksX4_readCell_7 12 rfl rfl)
theorem dX4_readCell_174 : decode cX4_readCell 174 = .ok (.aload_n 0, 1) := dk_42 (dk_at dksX4_readCell_7 15 rfl rfl)
theorem dX4_readCell_175 : decode cX4_readCell 175 = .ok (.invokevirtual 314, 3) := dk_182 1 58 (dk_at dksX4_readCell_7 16 rfl rfl)
theorem dX4_readCell_178 : decode cX4_readCell 178 = .ok (.return_, 1) := dk_177 (dk_at dksX4_readCell_7 19 rfl rfl)
abbrev cX4_isHeldInDraft : ByteArray := prog_24_method_105_code
def yX4_isHeldInDraft : MethodName := ⟨RX4, "isHeldInDraft", "(II)Z"⟩
def dkwX4_isHeldInDraft_3 : List UInt8 := [160, 0, 7, 4, 167, 0, 4, 3, 128, 62, 132, 4, 1, 167, 255, 204, 29, 172]
abbrev dktX4_isHeldInDraft_3 : List UInt8 := dkwX4_isHeldInDraft_3 ++ []
def dkwX4_isHeldInDraft_2 : List UInt8 := [21, 4, 3, 184, 0, 80, 46, 27, 160, 0, 22, 42, 180, 0, 13, 21, 4, 4, 184, 0, 80, 46, 28]
abbrev dktX4_isHeldInDraft_2 : List UInt8 := dkwX4_isHeldInDraft_2 ++ dktX4_isHeldInDraft_3
def dkwX4_isHeldInDraft_1 : List UInt8 := [167, 0, 4, 3, 62, 3, 54, 4, 21, 4, 42, 180, 0, 13, 5, 46, 162, 0, 47, 29, 42, 180, 0, 13]
abbrev dktX4_isHeldInDraft_1 : List UInt8 := dkwX4_isHeldInDraft_1 ++ dktX4_isHeldInDraft_2
def dkwX4_isHeldInDraft_0 : List UInt8 := [42, 180, 0, 13, 16, 10, 46, 27, 160, 0, 18, 42, 180, 0, 13, 16, 11, 46, 28, 160, 0, 7, 4]
abbrev dktX4_isHeldInDraft_0 : List UInt8 := dkwX4_isHeldInDraft_0 ++ dktX4_isHeldInDraft_1
theorem dksX4_isHeldInDraft_0 : cX4_isHeldInDraft.data.toList.drop 0 = dktX4_isHeldInDraft_0 := by decide +kernel
theorem dksX4_isHeldInDraft_1 : cX4_isHeldInDraft.data.toList.drop 23 = dktX4_isHeldInDraft_1 := dk_seg dksX4_isHeldInDraft_0 23 rfl rfl
theorem dksX4_isHeldInDraft_2 : cX4_isHeldInDraft.data.toList.drop 47 = dktX4_isHeldInDraft_2 := dk_seg dksX4_isHeldInDraft_1 24 rfl rfl
theorem dksX4_isHeldInDraft_3 : cX4_isHeldInDraft.data.toList.drop 70 = dktX4_isHeldInDraft_3 := dk_seg dksX4_isHeldInDraft_2 23 rfl rfl
theorem dX4_isHeldInDraft_0 : decode cX4_isHeldInDraft 0 = .ok (.aload_n 0, 1) := dk_42 (dk_at dksX4_isHeldInDraft_0 0 rfl rfl)
theorem dX4_isHeldInDraft_1 : decode cX4_isHeldInDraft 1 = .ok (.getfield 13, 3) := dk_180 0 13 (dk_at dksX4_isHeldInDraft_0 1 rfl rfl)
theorem dX4_isHeldInDraft_4 : decode cX4_isHeldInDraft 4 = .ok (.bipush 10, 2) := dk_16 10 (dk_at dksX4_isHeldInDraft_0 4 rfl rfl)
theorem dX4_isHeldInDraft_6 : decode cX4_isHeldInDraft 6 = .ok (.iaload, 1) := dk_46 (dk_at dksX4_isHeldInDraft_0 6 rfl rfl)
theorem dX4_isHeldInDraft_7 : decode cX4_isHeldInDraft 7 = .ok (.iload_n 1, 1) := dk_27 (dk_at dksX4_isHeldInDraft_0 7 rfl rfl)
theorem dX4_isHeldInDraft_8 : decode cX4_isHeldInDraft 8 = .ok (.if_icmp .ne 18, 3) := dk_160 0 18 (dk_at dksX4_isHeldInDraft_0 8 rfl rfl)
theorem dX4_isHeldInDraft_11 : decode cX4_isHeldInDraft 11 = .ok (.aload_n 0, 1) := dk_42 (dk_at dksX4_isHeldInDraft_0 11 rfl rfl)
theorem dX4_isHeldInDraft_12 : decode cX4_isHeldInDraft 12 = .ok (.getfield 13, 3) := dk_180 0 13 (dk_at dksX4_isHeldInDraft_0 12 rfl rfl)
theorem dX4_isHeldInDraft_15 : decode cX4_isHeldInDraft 15 = .ok (.bipush 11, 2) := dk_16 11 (dk_at dksX4_isHeldInDraft_0 15 rfl rfl)
theorem dX4_isHeldInDraft_17 : decode cX4_isHeldInDraft 17 = .ok (.iaload, 1) := dk_46 (dk_at dksX4_isHeldInDraft_0 17 rfl rfl)
theorem dX4_isHeldInDraft_18 : decode cX4_isHeldInDraft 18 = .ok (.iload_n 2, 1) := dk_28 (dk_at dksX4_isHeldInDraft_0 18 rfl rfl)
theorem dX4_isHeldInDraft_19 : decode cX4_isHeldInDraft 19 = .ok (.if_icmp .ne 7, 3) := dk_160 0 7 (dk_at dksX4_isHeldInDraft_0 19 rfl rfl)
theorem dX4_isHeldInDraft_22 : decode cX4_isHeldInDraft 22 = .ok (.iconst 1, 1) := dk_4 (dk_at dksX4_isHeldInDraft_0 22 rfl rfl)
theorem dX4_isHeldInDraft_23 : decode cX4_isHeldInDraft 23 = .ok (.goto 4, 3) := dk_167 0 4 (dk_at dksX4_isHeldInDraft_1 0 rfl rfl)
theorem dX4_isHeldInDraft_26 : decode cX4_isHeldInDraft 26 = .ok (.iconst 0, 1) := dk_3 (dk_at dksX4_isHeldInDraft_1 3 rfl rfl)
theorem dX4_isHeldInDraft_27 : decode cX4_isHeldInDraft 27 = .ok (.istore_n 3, 1) := dk_62 (dk_at dksX4_isHeldInDraft_1 4 rfl rfl)
theorem dX4_isHeldInDraft_28 : decode cX4_isHeldInDraft 28 = .ok (.iconst 0, 1) := dk_3 (dk_at dksX4_isHeldInDraft_1 5 rfl rfl)
theorem dX4_isHeldInDraft_29 : decode cX4_isHeldInDraft 29 = .ok (.istore 4, 2) := dk_54 4 (dk_at dksX4_isHeldInDraft_1 6 rfl rfl)
theorem dX4_isHeldInDraft_31 : decode cX4_isHeldInDraft 31 = .ok (.iload 4, 2) := dk_21 4 (dk_at dksX4_isHeldInDraft_1 8 rfl rfl)
theorem dX4_isHeldInDraft_33 : decode cX4_isHeldInDraft 33 = .ok (.aload_n 0, 1) := dk_42 (dk_at dksX4_isHeldInDraft_1 10 rfl rfl)
theorem dX4_isHeldInDraft_34 : decode cX4_isHeldInDraft 34 = .ok (.getfield 13, 3) := dk_180 0 13 (dk_at dksX4_isHeldInDraft_1 11 rfl rfl)
theorem dX4_isHeldInDraft_37 : decode cX4_isHeldInDraft 37 = .ok (.iconst 2, 1) := dk_5 (dk_at dksX4_isHeldInDraft_1 14 rfl rfl)
theorem dX4_isHeldInDraft_38 : decode cX4_isHeldInDraft 38 = .ok (.iaload, 1) := dk_46 (dk_at dksX4_isHeldInDraft_1 15 rfl rfl)
theorem dX4_isHeldInDraft_39 : decode cX4_isHeldInDraft 39 = .ok (.if_icmp .ge 47, 3) := dk_162 0 47 (dk_at dksX4_isHeldInDraft_1 16 rfl rfl)
theorem dX4_isHeldInDraft_42 : decode cX4_isHeldInDraft 42 = .ok (.iload_n 3, 1) := dk_29 (dk_at dksX4_isHeldInDraft_1 19 rfl rfl)
theorem dX4_isHeldInDraft_43 : decode cX4_isHeldInDraft 43 = .ok (.aload_n 0, 1) := dk_42 (dk_at dksX4_isHeldInDraft_1 20 rfl rfl)
theorem dX4_isHeldInDraft_44 : decode cX4_isHeldInDraft 44 = .ok (.getfield 13, 3) := dk_180 0 13 (dk_at dksX4_isHeldInDraft_1 21 rfl rfl)
theorem dX4_isHeldInDraft_47 : decode cX4_isHeldInDraft 47 = .ok (.iload 4, 2) := dk_21 4 (dk_at dksX4_isHeldInDraft_2 0 rfl rfl)
theorem dX4_isHeldInDraft_49 : decode cX4_isHeldInDraft 49 = .ok (.iconst 0, 1) := dk_3 (dk_at dksX4_isHeldInDraft_2 2 rfl rfl)
theorem dX4_isHeldInDraft_50 : decode cX4_isHeldInDraft 50 = .ok (.invokestatic 80, 3) := dk_184 0 80 (dk_at dksX4_isHeldInDraft_2 3 rfl rfl)
theorem dX4_isHeldInDraft_53 : decode cX4_isHeldInDraft 53 = .ok (.iaload, 1) := dk_46 (dk_at dksX4_isHeldInDraft_2 6 rfl rfl)
theorem dX4_isHeldInDraft_54 : decode cX4_isHeldInDraft 54 = .ok (.iload_n 1, 1) := dk_27 (dk_at dksX4_isHeldInDraft_2 7 rfl rfl)
theorem dX4_isHeldInDraft_55 : decode cX4_isHeldInDraft 55 = .ok (.if_icmp .ne 22, 3) := dk_160 0 22 (dk_at dksX4_isHeldInDraft_2 8 rfl rfl)
theorem dX4_isHeldInDraft_58 : decode cX4_isHeldInDraft 58 = .ok (.aload_n 0, 1) := dk_42 (dk_at dksX4_isHeldInDraft_2 11 rfl rfl)
theorem dX4_isHeldInDraft_59 : decode cX4_isHeldInDraft 59 = .ok (.getfield 13, 3) := dk_180 0 13 (dk_at dksX4_isHeldInDraft_2 12 rfl rfl)
theorem dX4_isHeldInDraft_62 : decode cX4_isHeldInDraft 62 = .ok (.iload 4, 2) := dk_21 4 (dk_at dksX4_isHeldInDraft_2 15 rfl rfl)
theorem dX4_isHeldInDraft_64 : decode cX4_isHeldInDraft 64 = .ok (.iconst 1, 1) := dk_4 (dk_at dksX4_isHeldInDraft_2 17 rfl rfl)
theorem dX4_isHeldInDraft_65 : decode cX4_isHeldInDraft 65 = .ok (.invokestatic 80, 3) := dk_184 0 80 (dk_at dksX4_isHeldInDraft_2 18 rfl rfl)
theorem dX4_isHeldInDraft_68 : decode cX4_isHeldInDraft 68 = .ok (.iaload, 1) := dk_46 (dk_at dksX4_isHeldInDraft_2 21 rfl rfl)
theorem dX4_isHeldInDraft_69 : decode cX4_isHeldInDraft 69 = .ok (.iload_n 2, 1) := dk_28 (dk_at dksX4_isHeldInDraft_2 22 rfl rfl)
theorem dX4_isHeldInDraft_70 : decode cX4_isHeldInDraft 70 = .ok (.if_icmp .ne 7, 3) := dk_160 0 7 (dk_at dksX4_isHeldInDraft_3 0 rfl rfl)
theorem dX4_isHeldInDraft_73 : decode cX4_isHeldInDraft 73 = .ok (.iconst 1, 1) := dk_4 (dk_at dksX4_isHeldInDraft_3 3 rfl rfl)
theorem dX4_isHeldInDraft_74 : decode cX4_isHeldInDraft 74 = .ok (.goto 4, 3) := dk_167 0 4 (dk_at dksX4_isHeldInDraft_3 4 rfl rfl)
theorem dX4_isHeldInDraft_77 : decode cX4_isHeldInDraft 77 = .ok (.iconst 0, 1) := dk_3 (dk_at dksX4_isHeldInDraft_3 7 rfl rfl)
theorem dX4_isHeldInDraft_78 : decode cX4_isHeldInDraft 78 = .ok (.ior, 1) := dk_128 (dk_at dksX4_isHeldInDraft_3 8 rfl rfl)
theorem dX4_isHeldInDraft_79 : decode cX4_isHeldInDraft 79 = .ok (.istore_n 3, 1) := dk_62 (dk_at dksX4_isHeldInDraft_3 9 rfl rfl)
theorem dX4_isHeldInDraft_80 : decode cX4_isHeldInDraft 80 = .ok (.iinc 4 1, 3) := dk_132 4 1 (dk_at dksX4_isHeldInDraft_3 10 rfl rfl)
theorem dX4_isHeldInDraft_83 : decode cX4_isHeldInDraft 83 = .ok (.goto (-52), 3) := dk_167 255 204 (dk_at dksX4_isHeldInDraft_3 13 rfl rfl)
theorem dX4_isHeldInDraft_86 : decode cX4_isHeldInDraft 86 = .ok (.iload_n 3, 1) := dk_29 (dk_at dksX4_isHeldInDraft_3 16 rfl rfl)
theorem dX4_isHeldInDraft_87 : decode cX4_isHeldInDraft 87 = .ok (.ireturn, 1) := dk_172 (dk_at dksX4_isHeldInDraft_3 17 rfl rfl)
abbrev cX4_readMain : ByteArray := prog_24_method_108_code
def yX4_readMain : MethodName := ⟨RX4, "readMain", "()V"⟩
def dkwX4_readMain_1 : List UInt8 := [42, 180, 0, 13, 16, 11, 42, 180, 1, 83, 79, 177]
abbrev dktX4_readMain_1 : List UInt8 := dkwX4_readMain_1 ++ []
def dkwX4_readMain_0 : List UInt8 := [42, 3, 3, 182, 1, 89, 42, 180, 1, 28, 154, 0, 25, 42, 180, 0, 13, 16, 10, 42, 180, 1, 80, 79]
abbrev dktX4_readMain_0 : List UInt8 := dkwX4_readMain_0 ++ dktX4_readMain_1
theorem dksX4_readMain_0 : cX4_readMain.data.toList.drop 0 = dktX4_readMain_0 := by decide +kernel
theorem dksX4_readMain_1 : cX4_readMain.data.toList.drop 24 = dktX4_readMain_1 := dk_seg dksX4_readMain_0 24 rfl rfl
theorem dX4_readMain_0 : decode cX4_readMain 0 = .ok (.aload_n 0, 1) := dk_42 (dk_at dksX4_readMain_0 0 rfl rfl)
theorem dX4_readMain_1 : decode cX4_readMain 1 = .ok (.iconst 0, 1) := dk_3 (dk_at dksX4_readMain_0 1 rfl rfl)
theorem dX4_readMain_2 : decode cX4_readMain 2 = .ok (.iconst 0, 1) := dk_3 (dk_at dksX4_readMain_0 2 rfl rfl)
theorem dX4_readMain_3 : decode cX4_readMain 3 = .ok (.invokevirtual 345, 3) := dk_182 1 89 (dk_at dksX4_readMain_0 3 rfl rfl)
theorem dX4_readMain_6 : decode cX4_readMain 6 = .ok (.aload_n 0, 1) := dk_42 (dk_at dksX4_readMain_0 6 rfl rfl)
theorem dX4_readMain_7 : decode cX4_readMain 7 = .ok (.getfield 284, 3) := dk_180 1 28 (dk_at dksX4_readMain_0 7 rfl rfl)
theorem dX4_readMain_10 : decode cX4_readMain 10 = .ok (.ifCond .ne 25, 3) := dk_154 0 25 (dk_at dksX4_readMain_0 10 rfl rfl)
theorem dX4_readMain_13 : decode cX4_readMain 13 = .ok (.aload_n 0, 1) := dk_42 (dk_at dksX4_readMain_0 13 rfl rfl)
theorem dX4_readMain_14 : decode cX4_readMain 14 = .ok (.getfield 13, 3) := dk_180 0 13 (dk_at dksX4_readMain_0 14 rfl rfl)
theorem dX4_readMain_17 : decode cX4_readMain 17 = .ok (.bipush 10, 2) := dk_16 10 (dk_at dksX4_readMain_0 17 rfl rfl)
theorem dX4_readMain_19 : decode cX4_readMain 19 = .ok (.aload_n 0, 1) := dk_42 (dk_at dksX4_readMain_0 19 rfl rfl)
theorem dX4_readMain_20 : decode cX4_readMain 20 = .ok (.getfield 336, 3) := dk_180 1 80 (dk_at dksX4_readMain_0 20 rfl rfl)
theorem dX4_readMain_23 : decode cX4_readMain 23 = .ok (.iastore, 1) := dk_79 (dk_at dksX4_readMain_0 23 rfl rfl)
theorem dX4_readMain_24 : decode cX4_readMain 24 = .ok (.aload_n 0, 1) := dk_42 (dk_at dksX4_readMain_1 0 rfl rfl)
theorem dX4_readMain_25 : decode cX4_readMain 25 = .ok (.getfield 13, 3) := dk_180 0 13 (dk_at dksX4_readMain_1 1 rfl rfl)
theorem dX4_readMain_28 : decode cX4_readMain 28 = .ok (.bipush 11, 2) := dk_16 11 (dk_at dksX4_readMain_1 4 rfl rfl)
theorem dX4_readMain_30 : decode cX4_readMain 30 = .ok (.aload_n 0, 1) := dk_42 (dk_at dksX4_readMain_1 6 rfl rfl)
theorem dX4_readMain_31 : decode cX4_readMain 31 = .ok (.getfield 339, 3) := dk_180 1 83 (dk_at dksX4_readMain_1 7 rfl rfl)
theorem dX4_readMain_34 : decode cX4_readMain 34 = .ok (.iastore, 1) := dk_79 (dk_at dksX4_readMain_1 10 rfl rfl)
theorem dX4_readMain_35 : decode cX4_readMain 35 = .ok (.return_, 1) := dk_177 (dk_at dksX4_readMain_1 11 rfl rfl)
abbrev cX4_readUnit : ByteArray := prog_24_method_109_code
def yX4_readUnit : MethodName := ⟨RX4, "readUnit", "()V"⟩
def dkwX4_readUnit_5 : List UInt8 := [180, 1, 83, 104, 42, 180, 1, 80, 96, 79, 42, 180, 0, 13, 5, 92, 46, 4, 96, 79, 177]
abbrev dktX4_readUnit_5 : List UInt8 := dkwX4_readUnit_5 ++ []
def dkwX4_readUnit_4 : List UInt8 := [180, 0, 13, 28, 6, 184, 0, 80, 2, 79, 42, 180, 0, 13, 28, 3, 184, 0, 177, 16, 100, 42]
abbrev dktX4_readUnit_4 : List UInt8 := dkwX4_readUnit_4 ++ dktX4_readUnit_5
def dkwX4_readUnit_3 : List UInt8 := [28, 4, 184, 0, 80, 42, 180, 1, 83, 79, 42, 180, 0, 13, 28, 5, 184, 0, 80, 27, 79, 42]
abbrev dktX4_readUnit_3 : List UInt8 := dkwX4_readUnit_3 ++ dktX4_readUnit_4
def dkwX4_readUnit_2 : List UInt8 := [180, 0, 13, 5, 46, 61, 42, 180, 0, 13, 28, 3, 184, 0, 80, 42, 180, 1, 80, 79, 42, 180, 0, 13]
abbrev dktX4_readUnit_2 : List UInt8 := dkwX4_readUnit_2 ++ dktX4_readUnit_3
def dkwX4_readUnit_1 : List UInt8 := [182, 1, 58, 42, 3, 3, 182, 1, 89, 42, 4, 6, 182, 1, 77, 60, 42, 180, 1, 28, 154, 0, 92, 42]
abbrev dktX4_readUnit_1 : List UInt8 := dkwX4_readUnit_1 ++ dktX4_readUnit_2
def dkwX4_readUnit_0 : List UInt8 := [42, 42, 180, 0, 13, 5, 46, 16, 6, 162, 0, 7, 4, 167, 0, 4, 3, 6, 182, 1, 54, 42]
abbrev dktX4_readUnit_0 : List UInt8 := dkwX4_readUnit_0 ++ dktX4_readUnit_1
theorem dksX4_readUnit_0 : cX4_readUnit.data.toList.drop 0 = dktX4_readUnit_0 := by decide +kernel
theorem dksX4_readUnit_1 : cX4_readUnit.data.toList.drop 22 = dktX4_readUnit_1 := dk_seg dksX4_readUnit_0 22 rfl rfl
theorem dksX4_readUnit_2 : cX4_readUnit.data.toList.drop 46 = dktX4_readUnit_2 := dk_seg dksX4_readUnit_1 24 rfl rfl
theorem dksX4_readUnit_3 : cX4_readUnit.data.toList.drop 70 = dktX4_readUnit_3 := dk_seg dksX4_readUnit_2 24 rfl rfl
theorem dksX4_readUnit_4 : cX4_readUnit.data.toList.drop 92 = dktX4_readUnit_4 := dk_seg dksX4_readUnit_3 22 rfl rfl
theorem dksX4_readUnit_5 : cX4_readUnit.data.toList.drop 114 = dktX4_readUnit_5 := dk_seg dksX4_readUnit_4 22 rfl rfl
theorem dX4_readUnit_0 : decode cX4_readUnit 0 = .ok (.aload_n 0, 1) := dk_42 (dk_at dksX4_readUnit_0 0 rfl rfl)
theorem dX4_readUnit_1 : decode cX4_readUnit 1 = .ok (.aload_n 0, 1) := dk_42 (dk_at dksX4_readUnit_0 1 rfl rfl)
theorem dX4_readUnit_2 : decode cX4_readUnit 2 = .ok (.getfield 13, 3) := dk_180 0 13 (dk_at dksX4_readUnit_0 2 rfl rfl)
theorem dX4_readUnit_5 : decode cX4_readUnit 5 = .ok (.iconst 2, 1) := dk_5 (dk_at dksX4_readUnit_0 5 rfl rfl)
theorem dX4_readUnit_6 : decode cX4_readUnit 6 = .ok (.iaload, 1) := dk_46 (dk_at dksX4_readUnit_0 6 rfl rfl)
theorem dX4_readUnit_7 : decode cX4_readUnit 7 = .ok (.bipush 6, 2) := dk_16 6 (dk_at dksX4_readUnit_0 7 rfl rfl)
theorem dX4_readUnit_9 : decode cX4_readUnit 9 = .ok (.if_icmp .ge 7, 3) := dk_162 0 7 (dk_at dksX4_readUnit_0 9 rfl rfl)
theorem dX4_readUnit_12 : decode cX4_readUnit 12 = .ok (.iconst 1, 1) := dk_4 (dk_at dksX4_readUnit_0 12 rfl rfl)
theorem dX4_readUnit_13 : decode cX4_readUnit 13 = .ok (.goto 4, 3) := dk_167 0 4 (dk_at dksX4_readUnit_0 13 rfl rfl)
theorem dX4_readUnit_16 : decode cX4_readUnit 16 = .ok (.iconst 0, 1) := dk_3 (dk_at dksX4_readUnit_0 16 rfl rfl)
theorem dX4_readUnit_17 : decode cX4_readUnit 17 = .ok (.iconst 3, 1) := dk_6 (dk_at dksX4_readUnit_0 17 rfl rfl)
theorem dX4_readUnit_18 : decode cX4_readUnit 18 = .ok (.invokevirtual 310, 3) := dk_182 1 54 (dk_at dksX4_readUnit_0 18 rfl rfl)
theorem dX4_readUnit_21 : decode cX4_readUnit 21 = .ok (.aload_n 0, 1) := dk_42 (dk_at dksX4_readUnit_0 21 rfl rfl)
theorem dX4_readUnit_22 : decode cX4_readUnit 22 = .ok (.invokevirtual 314, 3) := dk_182 1 58 (dk_at dksX4_readUnit_1 0 rfl rfl)
theorem dX4_readUnit_25 : decode cX4_readUnit 25 = .ok (.aload_n 0, 1) := dk_42 (dk_at dksX4_readUnit_1 3 rfl rfl)
theorem dX4_readUnit_26 : decode cX4_readUnit 26 = .ok (.iconst 0, 1) := dk_3 (dk_at dksX4_readUnit_1 4 rfl rfl)
theorem dX4_readUnit_27 : decode cX4_readUnit 27 = .ok (.iconst 0, 1) := dk_3 (dk_at dksX4_readUnit_1 5 rfl rfl)
theorem dX4_readUnit_28 : decode cX4_readUnit 28 = .ok (.invokevirtual 345, 3) := dk_182 1 89 (dk_at dksX4_readUnit_1 6 rfl rfl)
theorem dX4_readUnit_31 : decode cX4_readUnit 31 = .ok (.aload_n 0, 1) := dk_42 (dk_at dksX4_readUnit_1 9 rfl rfl)
theorem dX4_readUnit_32 : decode cX4_readUnit 32 = .ok (.iconst 1, 1) := dk_4 (dk_at dksX4_readUnit_1 10 rfl rfl)
theorem dX4_readUnit_33 : decode cX4_readUnit 33 = .ok (.iconst 3, 1) := dk_6 (dk_at dksX4_readUnit_1 11 rfl rfl)
theorem dX4_readUnit_34 : decode cX4_readUnit 34 = .ok (.invokevirtual 333, 3) := dk_182 1 77 (dk_at dksX4_readUnit_1 12 rfl rfl)
theorem dX4_readUnit_37 : decode cX4_readUnit 37 = .ok (.istore_n 1, 1) := dk_60 (dk_at dksX4_readUnit_1 15 rfl rfl)
theorem dX4_readUnit_38 : decode cX4_readUnit 38 = .ok (.aload_n 0, 1) := dk_42 (dk_at dksX4_readUnit_1 16 rfl rfl)
theorem dX4_readUnit_39 : decode cX4_readUnit 39 = .ok (.getfield 284, 3) := dk_180 1 28 (dk_at dksX4_readUnit_1 17 rfl rfl)
theorem dX4_readUnit_42 : decode cX4_readUnit 42 = .ok (.ifCond .ne 92, 3) := dk_154 0 92 (dk_at dksX4_readUnit_1 20 rfl rfl)
theorem dX4_readUnit_45 : decode cX4_readUnit 45 = .ok (.aload_n 0, 1) := dk_42 (dk_at dksX4_readUnit_1 23 rfl rfl)
theorem dX4_readUnit_46 : decode cX4_readUnit 46 = .ok (.getfield 13, 3) := dk_180 0 13 (dk_at dksX4_readUnit_2 0 rfl rfl)
theorem dX4_readUnit_49 : decode cX4_readUnit 49 = .ok (.iconst 2, 1) := dk_5 (dk_at dksX4_readUnit_2 3 rfl rfl)
theorem dX4_readUnit_50 : decode cX4_readUnit 50 = .ok (.iaload, 1) := dk_46 (dk_at dksX4_readUnit_2 4 rfl rfl)
theorem dX4_readUnit_51 : decode cX4_readUnit 51 = .ok (.istore_n 2, 1) := dk_61 (dk_at dksX4_readUnit_2 5 rfl rfl)
theorem dX4_readUnit_52 : decode cX4_readUnit 52 = .ok (.aload_n 0, 1) := dk_42 (dk_at dksX4_readUnit_2 6 rfl rfl)
theorem dX4_readUnit_53 : decode cX4_readUnit 53 = .ok (.getfield 13, 3) := dk_180 0 13 (dk_at dksX4_readUnit_2 7 rfl rfl)
theorem dX4_readUnit_56 : decode cX4_readUnit 56 = .ok (.iload_n 2, 1) := dk_28 (dk_at dksX4_readUnit_2 10 rfl rfl)
theorem dX4_readUnit_57 : decode cX4_readUnit 57 = .ok (.iconst 0, 1) := dk_3 (dk_at dksX4_readUnit_2 11 rfl rfl)
theorem dX4_readUnit_58 : decode cX4_readUnit 58 = .ok (.invokestatic 80, 3) := dk_184 0 80 (dk_at dksX4_readUnit_2 12 rfl rfl)
theorem dX4_readUnit_61 : decode cX4_readUnit 61 = .ok (.aload_n 0, 1) := dk_42 (dk_at dksX4_readUnit_2 15 rfl rfl)
theorem dX4_readUnit_62 : decode cX4_readUnit 62 = .ok (.getfield 336, 3) := dk_180 1 80 (dk_at dksX4_readUnit_2 16 rfl rfl)
theorem dX4_readUnit_65 : decode cX4_readUnit 65 = .ok (.iastore, 1) := dk_79 (dk_at dksX4_readUnit_2 19 rfl rfl)
theorem dX4_readUnit_66 : decode cX4_readUnit 66 = .ok (.aload_n 0, 1) := dk_42 (dk_at dksX4_readUnit_2 20 rfl rfl)
theorem dX4_readUnit_67 : decode cX4_readUnit 67 = .ok (.getfield 13, 3) := dk_180 0 13 (dk_at dksX4_readUnit_2 21 rfl rfl)
theorem dX4_readUnit_70 : decode cX4_readUnit 70 = .ok (.iload_n 2, 1) := dk_28 (dk_at dksX4_readUnit_3 0 rfl rfl)
theorem dX4_readUnit_71 : decode cX4_readUnit 71 = .ok (.iconst 1, 1) := dk_4 (dk_at dksX4_readUnit_3 1 rfl rfl)
theorem dX4_readUnit_72 : decode cX4_readUnit 72 = .ok (.invokestatic 80, 3) := dk_184 0 80 (dk_at dksX4_readUnit_3 2 rfl rfl)
theorem dX4_readUnit_75 : decode cX4_readUnit 75 = .ok (.aload_n 0, 1) := dk_42 (dk_at dksX4_readUnit_3 5 rfl rfl)
theorem dX4_readUnit_76 : decode cX4_readUnit 76 = .ok (.getfield 339, 3) := dk_180 1 83 (dk_at dksX4_readUnit_3 6 rfl rfl)
theorem dX4_readUnit_79 : decode cX4_readUnit 79 = .ok (.iastore, 1) := dk_79 (dk_at dksX4_readUnit_3 9 rfl rfl)
theorem dX4_readUnit_80 : decode cX4_readUnit 80 = .ok (.aload_n 0, 1) := dk_42 (dk_at dksX4_readUnit_3 10 rfl rfl)
theorem dX4_readUnit_81 : decode cX4_readUnit 81 = .ok (.getfield 13, 3) := dk_180 0 13 (dk_at dksX4_readUnit_3 11 rfl rfl)
theorem dX4_readUnit_84 : decode cX4_readUnit 84 = .ok (.iload_n 2, 1) := dk_28 (dk_at dksX4_readUnit_3 14 rfl rfl)
theorem dX4_readUnit_85 : decode cX4_readUnit 85 = .ok (.iconst 2, 1) := dk_5 (dk_at dksX4_readUnit_3 15 rfl rfl)
theorem dX4_readUnit_86 : decode cX4_readUnit 86 = .ok (.invokestatic 80, 3) := dk_184 0 80 (dk_at dksX4_readUnit_3 16 rfl rfl)
theorem dX4_readUnit_89 : decode cX4_readUnit 89 = .ok (.iload_n 1, 1) := dk_27 (dk_at dksX4_readUnit_3 19 rfl rfl)
theorem dX4_readUnit_90 : decode cX4_readUnit 90 = .ok (.iastore, 1) := dk_79 (dk_at dksX4_readUnit_3 20 rfl rfl)
theorem dX4_readUnit_91 : decode cX4_readUnit 91 = .ok (.aload_n 0, 1) := dk_42 (dk_at dksX4_readUnit_3 21 rfl rfl)
theorem dX4_readUnit_92 : decode cX4_readUnit 92 = .ok (.getfield 13, 3) := dk_180 0 13 (dk_at dksX4_readUnit_4 0 rfl rfl)
theorem dX4_readUnit_95 : decode cX4_readUnit 95 = .ok (.iload_n 2, 1) := dk_28 (dk_at dksX4_readUnit_4 3 rfl rfl)
theorem dX4_readUnit_96 : decode cX4_readUnit 96 = .ok (.iconst 3, 1) := dk_6 (dk_at dksX4_readUnit_4 4 rfl rfl)
theorem dX4_readUnit_97 : decode cX4_readUnit 97 = .ok (.invokestatic 80, 3) := dk_184 0 80 (dk_at dksX4_readUnit_4 5 rfl rfl)
theorem dX4_readUnit_100 : decode cX4_readUnit 100 = .ok (.iconst (-1), 1) := dk_2 (dk_at dksX4_readUnit_4 8 rfl rfl)
theorem dX4_readUnit_101 : decode cX4_readUnit 101 = .ok (.iastore, 1) := dk_79 (dk_at dksX4_readUnit_4 9 rfl rfl)
theorem dX4_readUnit_102 : decode cX4_readUnit 102 = .ok (.aload_n 0, 1) := dk_42 (dk_at dksX4_readUnit_4 10 rfl rfl)
theorem dX4_readUnit_103 : decode cX4_readUnit 103 = .ok (.getfield 13, 3) := dk_180 0 13 (dk_at dksX4_readUnit_4 11 rfl rfl)
theorem dX4_readUnit_106 : decode cX4_readUnit 106 = .ok (.iload_n 2, 1) := dk_28 (dk_at dksX4_readUnit_4 14 rfl rfl)
theorem dX4_readUnit_107 : decode cX4_readUnit 107 = .ok (.iconst 0, 1) := dk_3 (dk_at dksX4_readUnit_4 15 rfl rfl)
theorem dX4_readUnit_108 : decode cX4_readUnit 108 = .ok (.invokestatic 177, 3) := dk_184 0 177 (dk_at dksX4_readUnit_4 16 rfl rfl)
theorem dX4_readUnit_111 : decode cX4_readUnit 111 = .ok (.bipush 100, 2) := dk_16 100 (dk_at dksX4_readUnit_4 19 rfl rfl)
theorem dX4_readUnit_113 : decode cX4_readUnit 113 = .ok (.aload_n 0, 1) := dk_42 (dk_at dksX4_readUnit_4 21 rfl rfl)
theorem dX4_readUnit_114 : decode cX4_readUnit 114 = .ok (.getfield 339, 3) := dk_180 1 83 (dk_at dksX4_readUnit_5 0 rfl rfl)
theorem dX4_readUnit_117 : decode cX4_readUnit 117 = .ok (.imul, 1) := dk_104 (dk_at dksX4_readUnit_5 3 rfl rfl)
theorem dX4_readUnit_118 : decode cX4_readUnit 118 = .ok (.aload_n 0, 1) := dk_42 (dk_at dksX4_readUnit_5 4 rfl rfl)
theorem dX4_readUnit_119 : decode cX4_readUnit 119 = .ok (.getfield 336, 3) := dk_180 1 80 (dk_at dksX4_readUnit_5 5 rfl rfl)
theorem dX4_readUnit_122 : decode cX4_readUnit 122 = .ok (.iadd, 1) := dk_96 (dk_at dksX4_readUnit_5 8 rfl rfl)
theorem dX4_readUnit_123 : decode cX4_readUnit 123 = .ok (.iastore, 1) := dk_79 (dk_at dksX4_readUnit_5 9 rfl rfl)
theorem dX4_readUnit_124 : decode cX4_readUnit 124 = .ok (.aload_n 0, 1) := dk_42 (dk_at dksX4_readUnit_5 10 rfl rfl)
theorem dX4_readUnit_125 : decode cX4_readUnit 125 = .ok (.getfield 13, 3) := dk_180 0 13 (dk_at dksX4_readUnit_5 11 rfl rfl)
theorem dX4_readUnit_128 : decode cX4_readUnit 128 = .ok (.iconst 2, 1) := dk_5 (dk_at dksX4_readUnit_5 14 rfl rfl)
theorem dX4_readUnit_129 : decode cX4_readUnit 129 = .ok (.dup2, 1) := dk_92 (dk_at dksX4_readUnit_5 15 rfl rfl)
theorem dX4_readUnit_130 : decode cX4_readUnit 130 = .ok (.iaload, 1) := dk_46 (dk_at dksX4_readUnit_5 16 rfl rfl)
theorem dX4_readUnit_131 : decode cX4_readUnit 131 = .ok (.iconst 1, 1) := dk_4 (dk_at dksX4_readUnit_5 17 rfl rfl)
theorem dX4_readUnit_132 : decode cX4_readUnit 132 = .ok (.iadd, 1) := dk_96 (dk_at dksX4_readUnit_5 18 rfl rfl)
theorem dX4_readUnit_133 : decode cX4_readUnit 133 = .ok (.iastore, 1) := dk_79 (dk_at dksX4_readUnit_5 19 rfl rfl)
theorem dX4_readUnit_134 : decode cX4_readUnit 134 = .ok (.return_, 1) := dk_177 (dk_at dksX4_readUnit_5 20 rfl rfl)
abbrev cX4_readPicket : ByteArray := prog_24_method_110_code
def yX4_readPicket : MethodName := ⟨RX4, "readPicket", "()V"⟩
def dkwX4_readPicket_10 : List UInt8 := [4, 96, 79, 177]
abbrev dktX4_readPicket_10 : List UInt8 := dkwX4_readPicket_10 ++ []
def dkwX4_readPicket_9 : List UInt8 := [21, 6, 184, 0, 84, 25, 5, 21, 6, 46, 79, 132, 6, 1, 167, 255, 225, 42, 180, 0, 13, 6, 92, 46]
abbrev dktX4_readPicket_9 : List UInt8 := dkwX4_readPicket_9 ++ dktX4_readPicket_10
def dkwX4_readPicket_8 : List UInt8 := [3, 79, 58, 5, 3, 54, 6, 21, 6, 16, 7, 162, 0, 30, 42, 180, 0, 13, 42, 180, 0, 13, 6, 46]
abbrev dktX4_readPicket_8 : List UInt8 := dkwX4_readPicket_8 ++ dktX4_readPicket_9
def dkwX4_readPicket_7 : List UInt8 := [180, 1, 83, 79, 89, 5, 27, 79, 89, 6, 28, 79, 89, 7, 29, 79, 89, 8, 21, 4, 79, 89, 16, 6]
abbrev dktX4_readPicket_7 : List UInt8 := dkwX4_readPicket_7 ++ dktX4_readPicket_8
def dkwX4_readPicket_6 : List UInt8 := [182, 1, 58, 42, 180, 1, 28, 154, 0, 92, 16, 7, 188, 10, 89, 3, 42, 180, 1, 80, 79, 89, 4, 42]
abbrev dktX4_readPicket_6 : List UInt8 := dkwX4_readPicket_6 ++ dktX4_readPicket_7
def dkwX4_readPicket_5 : List UInt8 := [182, 1, 74, 29, 161, 0, 7, 4, 167, 0, 4, 3, 7, 182, 1, 54, 42, 182, 1, 74, 54, 4, 42]
abbrev dktX4_readPicket_5 : List UInt8 := dkwX4_readPicket_5 ++ dktX4_readPicket_6
def dkwX4_readPicket_4 : List UInt8 := [184, 0, 90, 153, 0, 7, 4, 167, 0, 4, 3, 5, 182, 1, 54, 42, 42, 180, 1, 28, 154, 0, 11, 42]
abbrev dktX4_readPicket_4 : List UInt8 := dkwX4_readPicket_4 ++ dktX4_readPicket_5
def dkwX4_readPicket_3 : List UInt8 := [167, 0, 4, 3, 4, 182, 1, 54, 42, 42, 180, 1, 28, 154, 0, 17, 42, 182, 1, 74, 3, 28, 4, 100]
abbrev dktX4_readPicket_3 : List UInt8 := dkwX4_readPicket_3 ++ dktX4_readPicket_4
def dkwX4_readPicket_2 : List UInt8 := [4, 100, 182, 1, 77, 62, 42, 42, 180, 1, 28, 154, 0, 11, 42, 180, 1, 19, 5, 160, 0, 7, 4]
abbrev dktX4_readPicket_2 : List UInt8 := dkwX4_readPicket_2 ++ dktX4_readPicket_3
def dkwX4_readPicket_1 : List UInt8 := [42, 3, 4, 182, 1, 89, 42, 3, 6, 182, 1, 77, 60, 42, 4, 16, 20, 182, 1, 77, 61, 42, 3, 28]
abbrev dktX4_readPicket_1 : List UInt8 := dkwX4_readPicket_1 ++ dktX4_readPicket_2
def dkwX4_readPicket_0 : List UInt8 := [42, 42, 180, 0, 13, 6, 46, 7, 162, 0, 7, 4, 167, 0, 4, 3, 6, 182, 1, 54, 42, 182, 1, 58]
abbrev dktX4_readPicket_0 : List UInt8 := dkwX4_readPicket_0 ++ dktX4_readPicket_1
theorem dksX4_readPicket_0 : cX4_readPicket.data.toList.drop 0 = dktX4_readPicket_0 := by decide +kernel
theorem dksX4_readPicket_1 : cX4_readPicket.data.toList.drop 24 = dktX4_readPicket_1 := dk_seg dksX4_readPicket_0 24 rfl rfl
theorem dksX4_readPicket_2 : cX4_readPicket.data.toList.drop 48 = dktX4_readPicket_2 := dk_seg dksX4_readPicket_1 24 rfl rfl
theorem dksX4_readPicket_3 : cX4_readPicket.data.toList.drop 71 = dktX4_readPicket_3 := dk_seg dksX4_readPicket_2 23 rfl rfl
theorem dksX4_readPicket_4 : cX4_readPicket.data.toList.drop 95 = dktX4_readPicket_4 := dk_seg dksX4_readPicket_3 24 rfl rfl
theorem dksX4_readPicket_5 : cX4_readPicket.data.toList.drop 119 = dktX4_readPicket_5 := dk_seg dksX4_readPicket_4 24 rfl rfl
theorem dksX4_readPicket_6 : cX4_readPicket.data.toList.drop 142 = dktX4_readPicket_6 := dk_seg dksX4_readPicket_5 23 rfl rfl
theorem dksX4_readPicket_7 : cX4_readPicket.data.toList.drop 166 = dktX4_readPicket_7 := dk_seg dksX4_readPicket_6 24 rfl rfl
theorem dksX4_readPicket_8 : cX4_readPicket.data.toList.drop 190 = dktX4_readPicket_8 := dk_seg dksX4_readPicket_7 24 rfl rfl
theorem dksX4_readPicket_9 : cX4_readPicket.data.toList.drop 214 = dktX4_readPicket_9 := dk_seg dksX4_readPicket_8 24 rfl rfl
theorem dksX4_readPicket_10 : cX4_readPicket.data.toList.drop 238 = dktX4_readPicket_10 := dk_seg dksX4_readPicket_9 24 rfl rfl
theorem dX4_readPicket_0 : decode cX4_readPicket 0 = .ok (.aload_n 0, 1) := dk_42 (dk_at dksX4_readPicket_0 0 rfl rfl)
theorem dX4_readPicket_1 : decode cX4_readPicket 1 = .ok (.aload_n 0, 1) := dk_42 (dk_at dksX4_readPicket_0 1 rfl rfl)
theorem dX4_readPicket_2 : decode cX4_readPicket 2 = .ok (.getfield 13, 3) := dk_180 0 13 (dk_at dksX4_readPicket_0 2 rfl rfl)
theorem dX4_readPicket_5 : decode cX4_readPicket 5 = .ok (.iconst 3, 1) := dk_6 (dk_at dksX4_readPicket_0 5 rfl rfl)
theorem dX4_readPicket_6 : decode cX4_readPicket 6 = .ok (.iaload, 1) := dk_46 (dk_at dksX4_readPicket_0 6 rfl rfl)
theorem dX4_readPicket_7 : decode cX4_readPicket 7 = .ok (.iconst 4, 1) := dk_7 (dk_at dksX4_readPicket_0 7 rfl rfl)
theorem dX4_readPicket_8 : decode cX4_readPicket 8 = .ok (.if_icmp .ge 7, 3) := dk_162 0 7 (dk_at dksX4_readPicket_0 8 rfl rfl)
theorem dX4_readPicket_11 : decode cX4_readPicket 11 = .ok (.iconst 1, 1) := dk_4 (dk_at dksX4_readPicket_0 11 rfl rfl)
theorem dX4_readPicket_12 : decode cX4_readPicket 12 = .ok (.goto 4, 3) := dk_167 0 4 (dk_at dksX4_readPicket_0 12 rfl rfl)
theorem dX4_readPicket_15 : decode cX4_readPicket 15 = .ok (.iconst 0, 1) := dk_3 (dk_at dksX4_readPicket_0 15 rfl rfl)
theorem dX4_readPicket_16 : decode cX4_readPicket 16 = .ok (.iconst 3, 1) := dk_6 (dk_at dksX4_readPicket_0 16 rfl rfl)
theorem dX4_readPicket_17 : decode cX4_readPicket 17 = .ok (.invokevirtual 310, 3) := dk_182 1 54 (dk_at dksX4_readPicket_0 17 rfl rfl)
theorem dX4_readPicket_20 : decode cX4_readPicket 20 = .ok (.aload_n 0, 1) := dk_42 (dk_at dksX4_readPicket_0 20 rfl rfl)
theorem dX4_readPicket_21 : decode cX4_readPicket 21 = .ok (.invokevirtual 314, 3) := dk_182 1 58 (dk_at dksX4_readPicket_0 21 rfl rfl)
theorem dX4_readPicket_24 : decode cX4_readPicket 24 = .ok (.aload_n 0, 1) := dk_42 (dk_at dksX4_readPicket_1 0 rfl rfl)
theorem dX4_readPicket_25 : decode cX4_readPicket 25 = .ok (.iconst 0, 1) := dk_3 (dk_at dksX4_readPicket_1 1 rfl rfl)
theorem dX4_readPicket_26 : decode cX4_readPicket 26 = .ok (.iconst 1, 1) := dk_4 (dk_at dksX4_readPicket_1 2 rfl rfl)
theorem dX4_readPicket_27 : decode cX4_readPicket 27 = .ok (.invokevirtual 345, 3) := dk_182 1 89 (dk_at dksX4_readPicket_1 3 rfl rfl)
theorem dX4_readPicket_30 : decode cX4_readPicket 30 = .ok (.aload_n 0, 1) := dk_42 (dk_at dksX4_readPicket_1 6 rfl rfl)
theorem dX4_readPicket_31 : decode cX4_readPicket 31 = .ok (.iconst 0, 1) := dk_3 (dk_at dksX4_readPicket_1 7 rfl rfl)
theorem dX4_readPicket_32 : decode cX4_readPicket 32 = .ok (.iconst 3, 1) := dk_6 (dk_at dksX4_readPicket_1 8 rfl rfl)
theorem dX4_readPicket_33 : decode cX4_readPicket 33 = .ok (.invokevirtual 333, 3) := dk_182 1 77 (dk_at dksX4_readPicket_1 9 rfl rfl)
theorem dX4_readPicket_36 : decode cX4_readPicket 36 = .ok (.istore_n 1, 1) := dk_60 (dk_at dksX4_readPicket_1 12 rfl rfl)
theorem dX4_readPicket_37 : decode cX4_readPicket 37 = .ok (.aload_n 0, 1) := dk_42 (dk_at dksX4_readPicket_1 13 rfl rfl)
theorem dX4_readPicket_38 : decode cX4_readPicket 38 = .ok (.iconst 1, 1) := dk_4 (dk_at dksX4_readPicket_1 14 rfl rfl)
theorem dX4_readPicket_39 : decode cX4_readPicket 39 = .ok (.bipush 20, 2) := dk_16 20 (dk_at dksX4_readPicket_1 15 rfl rfl)
theorem dX4_readPicket_41 : decode cX4_readPicket 41 = .ok (.invokevirtual 333, 3) := dk_182 1 77 (dk_at dksX4_readPicket_1 17 rfl rfl)
theorem dX4_readPicket_44 : decode cX4_readPicket 44 = .ok (.istore_n 2, 1) := dk_61 (dk_at dksX4_readPicket_1 20 rfl rfl)
theorem dX4_readPicket_45 : decode cX4_readPicket 45 = .ok (.aload_n 0, 1) := dk_42 (dk_at dksX4_readPicket_1 21 rfl rfl)
theorem dX4_readPicket_46 : decode cX4_readPicket 46 = .ok (.iconst 0, 1) := dk_3 (dk_at dksX4_readPicket_1 22 rfl rfl)
theorem dX4_readPicket_47 : decode cX4_readPicket 47 = .ok (.iload_n 2, 1) := dk_28 (dk_at dksX4_readPicket_1 23 rfl rfl)
theorem dX4_readPicket_48 : decode cX4_readPicket 48 = .ok (.iconst 1, 1) := dk_4 (dk_at dksX4_readPicket_2 0 rfl rfl)
theorem dX4_readPicket_49 : decode cX4_readPicket 49 = .ok (.isub, 1) := dk_100 (dk_at dksX4_readPicket_2 1 rfl rfl)
theorem dX4_readPicket_50 : decode cX4_readPicket 50 = .ok (.invokevirtual 333, 3) := dk_182 1 77 (dk_at dksX4_readPicket_2 2 rfl rfl)
theorem dX4_readPicket_53 : decode cX4_readPicket 53 = .ok (.istore_n 3, 1) := dk_62 (dk_at dksX4_readPicket_2 5 rfl rfl)
theorem dX4_readPicket_54 : decode cX4_readPicket 54 = .ok (.aload_n 0, 1) := dk_42 (dk_at dksX4_readPicket_2 6 rfl rfl)
theorem dX4_readPicket_55 : decode cX4_readPicket 55 = .ok (.aload_n 0, 1) := dk_42 (dk_at dksX4_readPicket_2 7 rfl rfl)
theorem dX4_readPicket_56 : decode cX4_readPicket 56 = .ok (.getfield 284, 3) := dk_180 1 28 (dk_at dksX4_readPicket_2 8 rfl rfl)
theorem dX4_readPicket_59 : decode cX4_readPicket 59 = .ok (.ifCond .ne 11, 3) := dk_154 0 11 (dk_at dksX4_readPicket_2 11 rfl rfl)
theorem dX4_readPicket_62 : decode cX4_readPicket 62 = .ok (.aload_n 0, 1) := dk_42 (dk_at dksX4_readPicket_2 14 rfl rfl)
theorem dX4_readPicket_63 : decode cX4_readPicket 63 = .ok (.getfield 275, 3) := dk_180 1 19 (dk_at dksX4_readPicket_2 15 rfl rfl)
theorem dX4_readPicket_66 : decode cX4_readPicket 66 = .ok (.iconst 2, 1) := dk_5 (dk_at dksX4_readPicket_2 18 rfl rfl)
theorem dX4_readPicket_67 : decode cX4_readPicket 67 = .ok (.if_icmp .ne 7, 3) := dk_160 0 7 (dk_at dksX4_readPicket_2 19 rfl rfl)
theorem dX4_readPicket_70 : decode cX4_readPicket 70 = .ok (.iconst 1, 1) := dk_4 (dk_at dksX4_readPicket_2 22 rfl rfl)
theorem dX4_readPicket_71 : decode cX4_readPicket 71 = .ok (.goto 4, 3) := dk_167 0 4 (dk_at dksX4_readPicket_3 0 rfl rfl)
theorem dX4_readPicket_74 : decode cX4_readPicket 74 = .ok (.iconst 0, 1) := dk_3 (dk_at dksX4_readPicket_3 3 rfl rfl)
theorem dX4_readPicket_75 : decode cX4_readPicket 75 = .ok (.iconst 1, 1) := dk_4 (dk_at dksX4_readPicket_3 4 rfl rfl)
theorem dX4_readPicket_76 : decode cX4_readPicket 76 = .ok (.invokevirtual 310, 3) := dk_182 1 54 (dk_at dksX4_readPicket_3 5 rfl rfl)
theorem dX4_readPicket_79 : decode cX4_readPicket 79 = .ok (.aload_n 0, 1) := dk_42 (dk_at dksX4_readPicket_3 8 rfl rfl)
theorem dX4_readPicket_80 : decode cX4_readPicket 80 = .ok (.aload_n 0, 1) := dk_42 (dk_at dksX4_readPicket_3 9 rfl rfl)
theorem dX4_readPicket_81 : decode cX4_readPicket 81 = .ok (.getfield 284, 3) := dk_180 1 28 (dk_at dksX4_readPicket_3 10 rfl rfl)
theorem dX4_readPicket_84 : decode cX4_readPicket 84 = .ok (.ifCond .ne 17, 3) := dk_154 0 17 (dk_at dksX4_readPicket_3 13 rfl rfl)
theorem dX4_readPicket_87 : decode cX4_readPicket 87 = .ok (.aload_n 0, 1) := dk_42 (dk_at dksX4_readPicket_3 16 rfl rfl)
theorem dX4_readPicket_88 : decode cX4_readPicket 88 = .ok (.invokevirtual 330, 3) := dk_182 1 74 (dk_at dksX4_readPicket_3 17 rfl rfl)
theorem dX4_readPicket_91 : decode cX4_readPicket 91 = .ok (.iconst 0, 1) := dk_3 (dk_at dksX4_readPicket_3 20 rfl rfl)
theorem dX4_readPicket_92 : decode cX4_readPicket 92 = .ok (.iload_n 2, 1) := dk_28 (dk_at dksX4_readPicket_3 21 rfl rfl)
theorem dX4_readPicket_93 : decode cX4_readPicket 93 = .ok (.iconst 1, 1) := dk_4 (dk_at dksX4_readPicket_3 22 rfl rfl)
theorem dX4_readPicket_94 : decode cX4_readPicket 94 = .ok (.isub, 1) := dk_100 (dk_at dksX4_readPicket_3 23 rfl rfl)
theorem dX4_readPicket_95 : decode cX4_readPicket 95 = .ok (.invokestatic 90, 3) := dk_184 0 90 (dk_at dksX4_readPicket_4 0 rfl rfl)
theorem dX4_readPicket_98 : decode cX4_readPicket 98 = .ok (.ifCond .eq 7, 3) := dk_153 0 7 (dk_at dksX4_readPicket_4 3 rfl rfl)
theorem dX4_readPicket_101 : decode cX4_readPicket 101 = .ok (.iconst 1, 1) := dk_4 (dk_at dksX4_readPicket_4 6 rfl rfl)
theorem dX4_readPicket_102 : decode cX4_readPicket 102 = .ok (.goto 4, 3) := dk_167 0 4 (dk_at dksX4_readPicket_4 7 rfl rfl)
theorem dX4_readPicket_105 : decode cX4_readPicket 105 = .ok (.iconst 0, 1) := dk_3 (dk_at dksX4_readPicket_4 10 rfl rfl)
theorem dX4_readPicket_106 : decode cX4_readPicket 106 = .ok (.iconst 2, 1) := dk_5 (dk_at dksX4_readPicket_4 11 rfl rfl)
theorem dX4_readPicket_107 : decode cX4_readPicket 107 = .ok (.invokevirtual 310, 3) := dk_182 1 54 (dk_at dksX4_readPicket_4 12 rfl rfl)
theorem dX4_readPicket_110 : decode cX4_readPicket 110 = .ok (.aload_n 0, 1) := dk_42 (dk_at dksX4_readPicket_4 15 rfl rfl)
theorem dX4_readPicket_111 : decode cX4_readPicket 111 = .ok (.aload_n 0, 1) := dk_42 (dk_at dksX4_readPicket_4 16 rfl rfl)
theorem dX4_readPicket_112 : decode cX4_readPicket 112 = .ok (.getfield 284, 3) := dk_180 1 28 (dk_at dksX4_readPicket_4 17 rfl rfl)
theorem dX4_readPicket_115 : decode cX4_readPicket 115 = .ok (.ifCond .ne 11, 3) := dk_154 0 11 (dk_at dksX4_readPicket_4 20 rfl rfl)
theorem dX4_readPicket_118 : decode cX4_readPicket 118 = .ok (.aload_n 0, 1) := dk_42 (dk_at dksX4_readPicket_4 23 rfl rfl)
theorem dX4_readPicket_119 : decode cX4_readPicket 119 = .ok (.invokevirtual 330, 3) := dk_182 1 74 (dk_at dksX4_readPicket_5 0 rfl rfl)
theorem dX4_readPicket_122 : decode cX4_readPicket 122 = .ok (.iload_n 3, 1) := dk_29 (dk_at dksX4_readPicket_5 3 rfl rfl)
theorem dX4_readPicket_123 : decode cX4_readPicket 123 = .ok (.if_icmp .lt 7, 3) := dk_161 0 7 (dk_at dksX4_readPicket_5 4 rfl rfl)
theorem dX4_readPicket_126 : decode cX4_readPicket 126 = .ok (.iconst 1, 1) := dk_4 (dk_at dksX4_readPicket_5 7 rfl rfl)
theorem dX4_readPicket_127 : decode cX4_readPicket 127 = .ok (.goto 4, 3) := dk_167 0 4 (dk_at dksX4_readPicket_5 8 rfl rfl)
theorem dX4_readPicket_130 : decode cX4_readPicket 130 = .ok (.iconst 0, 1) := dk_3 (dk_at dksX4_readPicket_5 11 rfl rfl)
theorem dX4_readPicket_131 : decode cX4_readPicket 131 = .ok (.iconst 4, 1) := dk_7 (dk_at dksX4_readPicket_5 12 rfl rfl)
theorem dX4_readPicket_132 : decode cX4_readPicket 132 = .ok (.invokevirtual 310, 3) := dk_182 1 54 (dk_at dksX4_readPicket_5 13 rfl rfl)
theorem dX4_readPicket_135 : decode cX4_readPicket 135 = .ok (.aload_n 0, 1) := dk_42 (dk_at dksX4_readPicket_5 16 rfl rfl)
theorem dX4_readPicket_136 : decode cX4_readPicket 136 = .ok (.invokevirtual 330, 3) := dk_182 1 74 (dk_at dksX4_readPicket_5 17 rfl rfl)
theorem dX4_readPicket_139 : decode cX4_readPicket 139 = .ok (.istore 4, 2) := dk_54 4 (dk_at dksX4_readPicket_5 20 rfl rfl)
theorem dX4_readPicket_141 : decode cX4_readPicket 141 = .ok (.aload_n 0, 1) := dk_42 (dk_at dksX4_readPicket_5 22 rfl rfl)
theorem dX4_readPicket_142 : decode cX4_readPicket 142 = .ok (.invokevirtual 314, 3) := dk_182 1 58 (dk_at dksX4_readPicket_6 0 rfl rfl)
theorem dX4_readPicket_145 : decode cX4_readPicket 145 = .ok (.aload_n 0, 1) := dk_42 (dk_at dksX4_readPicket_6 3 rfl rfl)
theorem dX4_readPicket_146 : decode cX4_readPicket 146 = .ok (.getfield 284, 3) := dk_180 1 28 (dk_at dksX4_readPicket_6 4 rfl rfl)
theorem dX4_readPicket_149 : decode cX4_readPicket 149 = .ok (.ifCond .ne 92, 3) := dk_154 0 92 (dk_at dksX4_readPicket_6 7 rfl rfl)
theorem dX4_readPicket_152 : decode cX4_readPicket 152 = .ok (.bipush 7, 2) := dk_16 7 (dk_at dksX4_readPicket_6 10 rfl rfl)
theorem dX4_readPicket_154 : decode cX4_readPicket 154 = .ok (.newarray .int, 2) := dk_188_10 (dk_at dksX4_readPicket_6 12 rfl rfl)
theorem dX4_readPicket_156 : decode cX4_readPicket 156 = .ok (.dup, 1) := dk_89 (dk_at dksX4_readPicket_6 14 rfl rfl)
theorem dX4_readPicket_157 : decode cX4_readPicket 157 = .ok (.iconst 0, 1) := dk_3 (dk_at dksX4_readPicket_6 15 rfl rfl)
theorem dX4_readPicket_158 : decode cX4_readPicket 158 = .ok (.aload_n 0, 1) := dk_42 (dk_at dksX4_readPicket_6 16 rfl rfl)
theorem dX4_readPicket_159 : decode cX4_readPicket 159 = .ok (.getfield 336, 3) := dk_180 1 80 (dk_at dksX4_readPicket_6 17 rfl rfl)
theorem dX4_readPicket_162 : decode cX4_readPicket 162 = .ok (.iastore, 1) := dk_79 (dk_at dksX4_readPicket_6 20 rfl rfl)
theorem dX4_readPicket_163 : decode cX4_readPicket 163 = .ok (.dup, 1) := dk_89 (dk_at dksX4_readPicket_6 21 rfl rfl)
theorem dX4_readPicket_164 : decode cX4_readPicket 164 = .ok (.iconst 1, 1) := dk_4 (dk_at dksX4_readPicket_6 22 rfl rfl)
theorem dX4_readPicket_165 : decode cX4_readPicket 165 = .ok (.aload_n 0, 1) := dk_42 (dk_at dksX4_readPicket_6 23 rfl rfl)
theorem dX4_readPicket_166 : decode cX4_readPicket 166 = .ok (.getfield 339, 3) := dk_180 1 83 (dk_at dksX4_readPicket_7 0 rfl rfl)
theorem dX4_readPicket_169 : decode cX4_readPicket 169 = .ok (.iastore, 1) := dk_79 (dk_at dksX4_readPicket_7 3 rfl rfl)
theorem dX4_readPicket_170 : decode cX4_readPicket 170 = .ok (.dup, 1) := dk_89 (dk_at dksX4_readPicket_7 4 rfl rfl)
theorem dX4_readPicket_171 : decode cX4_readPicket 171 = .ok (.iconst 2, 1) := dk_5 (dk_at dksX4_readPicket_7 5 rfl rfl)
theorem dX4_readPicket_172 : decode cX4_readPicket 172 = .ok (.iload_n 1, 1) := dk_27 (dk_at dksX4_readPicket_7 6 rfl rfl)
theorem dX4_readPicket_173 : decode cX4_readPicket 173 = .ok (.iastore, 1) := dk_79 (dk_at dksX4_readPicket_7 7 rfl rfl)
theorem dX4_readPicket_174 : decode cX4_readPicket 174 = .ok (.dup, 1) := dk_89 (dk_at dksX4_readPicket_7 8 rfl rfl)
theorem dX4_readPicket_175 : decode cX4_readPicket 175 = .ok (.iconst 3, 1) := dk_6 (dk_at dksX4_readPicket_7 9 rfl rfl)
theorem dX4_readPicket_176 : decode cX4_readPicket 176 = .ok (.iload_n 2, 1) := dk_28 (dk_at dksX4_readPicket_7 10 rfl rfl)
theorem dX4_readPicket_177 : decode cX4_readPicket 177 = .ok (.iastore, 1) := dk_79 (dk_at dksX4_readPicket_7 11 rfl rfl)
theorem dX4_readPicket_178 : decode cX4_readPicket 178 = .ok (.dup, 1) := dk_89 (dk_at dksX4_readPicket_7 12 rfl rfl)
theorem dX4_readPicket_179 : decode cX4_readPicket 179 = .ok (.iconst 4, 1) := dk_7 (dk_at dksX4_readPicket_7 13 rfl rfl)
theorem dX4_readPicket_180 : decode cX4_readPicket 180 = .ok (.iload_n 3, 1) := dk_29 (dk_at dksX4_readPicket_7 14 rfl rfl)
theorem dX4_readPicket_181 : decode cX4_readPicket 181 = .ok (.iastore, 1) := dk_79 (dk_at dksX4_readPicket_7 15 rfl rfl)
theorem dX4_readPicket_182 : decode cX4_readPicket 182 = .ok (.dup, 1) := dk_89 (dk_at dksX4_readPicket_7 16 rfl rfl)
theorem dX4_readPicket_183 : decode cX4_readPicket 183 = .ok (.iconst 5, 1) := dk_8 (dk_at dksX4_readPicket_7 17 rfl rfl)
theorem dX4_readPicket_184 : decode cX4_readPicket 184 = .ok (.iload 4, 2) := dk_21 4 (dk_at dksX4_readPicket_7 18 rfl rfl)
theorem dX4_readPicket_186 : decode cX4_readPicket 186 = .ok (.iastore, 1) := dk_79 (dk_at dksX4_readPicket_7 20 rfl rfl)
theorem dX4_readPicket_187 : decode cX4_readPicket 187 = .ok (.dup, 1) := dk_89 (dk_at dksX4_readPicket_7 21 rfl rfl)
theorem dX4_readPicket_188 : decode cX4_readPicket 188 = .ok (.bipush 6, 2) := dk_16 6 (dk_at dksX4_readPicket_7 22 rfl rfl)
theorem dX4_readPicket_190 : decode cX4_readPicket 190 = .ok (.iconst 0, 1) := dk_3 (dk_at dksX4_readPicket_8 0 rfl rfl)
theorem dX4_readPicket_191 : decode cX4_readPicket 191 = .ok (.iastore, 1) := dk_79 (dk_at dksX4_readPicket_8 1 rfl rfl)
theorem dX4_readPicket_192 : decode cX4_readPicket 192 = .ok (.astore 5, 2) := dk_58 5 (dk_at dksX4_readPicket_8 2 rfl rfl)
theorem dX4_readPicket_194 : decode cX4_readPicket 194 = .ok (.iconst 0, 1) := dk_3 (dk_at dksX4_readPicket_8 4 rfl rfl)
theorem dX4_readPicket_195 : decode cX4_readPicket 195 = .ok (.istore 6, 2) := dk_54 6 (dk_at dksX4_readPicket_8 5 rfl rfl)
theorem dX4_readPicket_197 : decode cX4_readPicket 197 = .ok (.iload 6, 2) := dk_21 6 (dk_at dksX4_readPicket_8 7 rfl rfl)
theorem dX4_readPicket_199 : decode cX4_readPicket 199 = .ok (.bipush 7, 2) := dk_16 7 (dk_at dksX4_readPicket_8 9 rfl rfl)
theorem dX4_readPicket_201 : decode cX4_readPicket 201 = .ok (.if_icmp .ge 30, 3) := dk_162 0 30 (dk_at dksX4_readPicket_8 11 rfl rfl)
theorem dX4_readPicket_204 : decode cX4_readPicket 204 = .ok (.aload_n 0, 1) := dk_42 (dk_at dksX4_readPicket_8 14 rfl rfl)
theorem dX4_readPicket_205 : decode cX4_readPicket 205 = .ok (.getfield 13, 3) := dk_180 0 13 (dk_at dksX4_readPicket_8 15 rfl rfl)
theorem dX4_readPicket_208 : decode cX4_readPicket 208 = .ok (.aload_n 0, 1) := dk_42 (dk_at dksX4_readPicket_8 18 rfl rfl)
theorem dX4_readPicket_209 : decode cX4_readPicket 209 = .ok (.getfield 13, 3) := dk_180 0 13 (dk_at dksX4_readPicket_8 19 rfl rfl)
theorem dX4_readPicket_212 : decode cX4_readPicket 212 = .ok (.iconst 3, 1) := dk_6 (dk_at dksX4_readPicket_8 22 rfl rfl)
theorem dX4_readPicket_213 : decode cX4_readPicket 213 = .ok (.iaload, 1) := dk_46 (dk_at dksX4_readPicket_8 23 rfl rfl)
theorem dX4_readPicket_214 : decode cX4_readPicket 214 = .ok (.iload 6, 2) := dk_21 6 (dk_at dksX4_readPicket_9 0 rfl rfl)
theorem dX4_readPicket_216 : decode cX4_readPicket 216 = .ok (.invokestatic 84, 3) := dk_184 0 84 (dk_at dksX4_readPicket_9 2 rfl rfl)
theorem dX4_readPicket_219 : decode cX4_readPicket 219 = .ok (.aload 5, 2) := dk_25 5 (dk_at dksX4_readPicket_9 5 rfl rfl)
theorem dX4_readPicket_221 : decode cX4_readPicket 221 = .ok (.iload 6, 2) := dk_21 6 (dk_at dksX4_readPicket_9 7 rfl rfl)
theorem dX4_readPicket_223 : decode cX4_readPicket 223 = .ok (.iaload, 1) := dk_46 (dk_at dksX4_readPicket_9 9 rfl rfl)
theorem dX4_readPicket_224 : decode cX4_readPicket 224 = .ok (.iastore, 1) := dk_79 (dk_at dksX4_readPicket_9 10 rfl rfl)
theorem dX4_readPicket_225 : decode cX4_readPicket 225 = .ok (.iinc 6 1, 3) := dk_132 6 1 (dk_at dksX4_readPicket_9 11 rfl rfl)
theorem dX4_readPicket_228 : decode cX4_readPicket 228 = .ok (.goto (-31), 3) := dk_167 255 225 (dk_at dksX4_readPicket_9 14 rfl rfl)
theorem dX4_readPicket_231 : decode cX4_readPicket 231 = .ok (.aload_n 0, 1) := dk_42 (dk_at dksX4_readPicket_9 17 rfl rfl)
theorem dX4_readPicket_232 : decode cX4_readPicket 232 = .ok (.getfield 13, 3) := dk_180 0 13 (dk_at dksX4_readPicket_9 18 rfl rfl)
theorem dX4_readPicket_235 : decode cX4_readPicket 235 = .ok (.iconst 3, 1) := dk_6 (dk_at dksX4_readPicket_9 21 rfl rfl)
theorem dX4_readPicket_236 : decode cX4_readPicket 236 = .ok (.dup2, 1) := dk_92 (dk_at dksX4_readPicket_9 22 rfl rfl)
theorem dX4_readPicket_237 : decode cX4_readPicket 237 = .ok (.iaload, 1) := dk_46 (dk_at dksX4_readPicket_9 23 rfl rfl)
theorem dX4_readPicket_238 : decode cX4_readPicket 238 = .ok (.iconst 1, 1) := dk_4 (dk_at dksX4_readPicket_10 0 rfl rfl)
theorem dX4_readPicket_239 : decode cX4_readPicket 239 = .ok (.iadd, 1) := dk_96 (dk_at dksX4_readPicket_10 1 rfl rfl)
theorem dX4_readPicket_240 : decode cX4_readPicket 240 = .ok (.iastore, 1) := dk_79 (dk_at dksX4_readPicket_10 2 rfl rfl)
theorem dX4_readPicket_241 : decode cX4_readPicket 241 = .ok (.return_, 1) := dk_177 (dk_at dksX4_readPicket_10 3 rfl rfl)
abbrev cX4_readPlan : ByteArray := prog_24_method_111_code
def yX4_readPlan : MethodName := ⟨RX4, "readPlan", "()V"⟩
def dkwX4_readPlan_5 : List UInt8 := [79, 42, 180, 0, 13, 16, 8, 92, 46, 4, 96, 79, 177]
abbrev dktX4_readPlan_5 : List UInt8 := dkwX4_readPlan_5 ++ []
def dkwX4_readPlan_4 : List UInt8 := [42, 180, 0, 13, 29, 5, 184, 0, 164, 42, 180, 1, 83, 79, 42, 180, 0, 13, 29, 6, 184, 0, 164, 28]
abbrev dktX4_readPlan_4 : List UInt8 := dkwX4_readPlan_4 ++ dktX4_readPlan_5
def dkwX4_readPlan_3 : List UInt8 := [180, 0, 13, 29, 3, 184, 0, 164, 27, 79, 42, 180, 0, 13, 29, 4, 184, 0, 164, 42, 180, 1, 80, 79]
abbrev dktX4_readPlan_3 : List UInt8 := dkwX4_readPlan_3 ++ dktX4_readPlan_4
def dkwX4_readPlan_2 : List UInt8 := [3, 17, 1, 243, 182, 1, 77, 61, 42, 180, 1, 28, 154, 0, 72, 42, 180, 0, 13, 16, 8, 46, 62, 42]
abbrev dktX4_readPlan_2 : List UInt8 := dkwX4_readPlan_2 ++ dktX4_readPlan_3
def dkwX4_readPlan_1 : List UInt8 := [182, 1, 58, 42, 3, 42, 180, 0, 13, 5, 46, 4, 100, 182, 1, 77, 60, 42, 3, 3, 182, 1, 89, 42]
abbrev dktX4_readPlan_1 : List UInt8 := dkwX4_readPlan_1 ++ dktX4_readPlan_2
def dkwX4_readPlan_0 : List UInt8 := [42, 42, 180, 0, 13, 16, 8, 46, 16, 20, 162, 0, 7, 4, 167, 0, 4, 3, 6, 182, 1, 54, 42]
abbrev dktX4_readPlan_0 : List UInt8 := dkwX4_readPlan_0 ++ dktX4_readPlan_1
theorem dksX4_readPlan_0 : cX4_readPlan.data.toList.drop 0 = dktX4_readPlan_0 := by decide +kernel
theorem dksX4_readPlan_1 : cX4_readPlan.data.toList.drop 23 = dktX4_readPlan_1 := dk_seg dksX4_readPlan_0 23 rfl rfl
theorem dksX4_readPlan_2 : cX4_readPlan.data.toList.drop 47 = dktX4_readPlan_2 := dk_seg dksX4_readPlan_1 24 rfl rfl
theorem dksX4_readPlan_3 : cX4_readPlan.data.toList.drop 71 = dktX4_readPlan_3 := dk_seg dksX4_readPlan_2 24 rfl rfl
theorem dksX4_readPlan_4 : cX4_readPlan.data.toList.drop 95 = dktX4_readPlan_4 := dk_seg dksX4_readPlan_3 24 rfl rfl
theorem dksX4_readPlan_5 : cX4_readPlan.data.toList.drop 119 = dktX4_readPlan_5 := dk_seg dksX4_readPlan_4 24 rfl rfl
theorem dX4_readPlan_0 : decode cX4_readPlan 0 = .ok (.aload_n 0, 1) := dk_42 (dk_at dksX4_readPlan_0 0 rfl rfl)
theorem dX4_readPlan_1 : decode cX4_readPlan 1 = .ok (.aload_n 0, 1) := dk_42 (dk_at dksX4_readPlan_0 1 rfl rfl)
theorem dX4_readPlan_2 : decode cX4_readPlan 2 = .ok (.getfield 13, 3) := dk_180 0 13 (dk_at dksX4_readPlan_0 2 rfl rfl)
theorem dX4_readPlan_5 : decode cX4_readPlan 5 = .ok (.bipush 8, 2) := dk_16 8 (dk_at dksX4_readPlan_0 5 rfl rfl)
theorem dX4_readPlan_7 : decode cX4_readPlan 7 = .ok (.iaload, 1) := dk_46 (dk_at dksX4_readPlan_0 7 rfl rfl)
theorem dX4_readPlan_8 : decode cX4_readPlan 8 = .ok (.bipush 20, 2) := dk_16 20 (dk_at dksX4_readPlan_0 8 rfl rfl)
theorem dX4_readPlan_10 : decode cX4_readPlan 10 = .ok (.if_icmp .ge 7, 3) := dk_162 0 7 (dk_at dksX4_readPlan_0 10 rfl rfl)
theorem dX4_readPlan_13 : decode cX4_readPlan 13 = .ok (.iconst 1, 1) := dk_4 (dk_at dksX4_readPlan_0 13 rfl rfl)
theorem dX4_readPlan_14 : decode cX4_readPlan 14 = .ok (.goto 4, 3) := dk_167 0 4 (dk_at dksX4_readPlan_0 14 rfl rfl)
theorem dX4_readPlan_17 : decode cX4_readPlan 17 = .ok (.iconst 0, 1) := dk_3 (dk_at dksX4_readPlan_0 17 rfl rfl)
theorem dX4_readPlan_18 : decode cX4_readPlan 18 = .ok (.iconst 3, 1) := dk_6 (dk_at dksX4_readPlan_0 18 rfl rfl)
theorem dX4_readPlan_19 : decode cX4_readPlan 19 = .ok (.invokevirtual 310, 3) := dk_182 1 54 (dk_at dksX4_readPlan_0 19 rfl rfl)
theorem dX4_readPlan_22 : decode cX4_readPlan 22 = .ok (.aload_n 0, 1) := dk_42 (dk_at dksX4_readPlan_0 22 rfl rfl)
theorem dX4_readPlan_23 : decode cX4_readPlan 23 = .ok (.invokevirtual 314, 3) := dk_182 1 58 (dk_at dksX4_readPlan_1 0 rfl rfl)
theorem dX4_readPlan_26 : decode cX4_readPlan 26 = .ok (.aload_n 0, 1) := dk_42 (dk_at dksX4_readPlan_1 3 rfl rfl)
theorem dX4_readPlan_27 : decode cX4_readPlan 27 = .ok (.iconst 0, 1) := dk_3 (dk_at dksX4_readPlan_1 4 rfl rfl)
theorem dX4_readPlan_28 : decode cX4_readPlan 28 = .ok (.aload_n 0, 1) := dk_42 (dk_at dksX4_readPlan_1 5 rfl rfl)
theorem dX4_readPlan_29 : decode cX4_readPlan 29 = .ok (.getfield 13, 3) := dk_180 0 13 (dk_at dksX4_readPlan_1 6 rfl rfl)
theorem dX4_readPlan_32 : decode cX4_readPlan 32 = .ok (.iconst 2, 1) := dk_5 (dk_at dksX4_readPlan_1 9 rfl rfl)
theorem dX4_readPlan_33 : decode cX4_readPlan 33 = .ok (.iaload, 1) := dk_46 (dk_at dksX4_readPlan_1 10 rfl rfl)
theorem dX4_readPlan_34 : decode cX4_readPlan 34 = .ok (.iconst 1, 1) := dk_4 (dk_at dksX4_readPlan_1 11 rfl rfl)
theorem dX4_readPlan_35 : decode cX4_readPlan 35 = .ok (.isub, 1) := dk_100 (dk_at dksX4_readPlan_1 12 rfl rfl)
theorem dX4_readPlan_36 : decode cX4_readPlan 36 = .ok (.invokevirtual 333, 3) := dk_182 1 77 (dk_at dksX4_readPlan_1 13 rfl rfl)
theorem dX4_readPlan_39 : decode cX4_readPlan 39 = .ok (.istore_n 1, 1) := dk_60 (dk_at dksX4_readPlan_1 16 rfl rfl)
theorem dX4_readPlan_40 : decode cX4_readPlan 40 = .ok (.aload_n 0, 1) := dk_42 (dk_at dksX4_readPlan_1 17 rfl rfl)
theorem dX4_readPlan_41 : decode cX4_readPlan 41 = .ok (.iconst 0, 1) := dk_3 (dk_at dksX4_readPlan_1 18 rfl rfl)
theorem dX4_readPlan_42 : decode cX4_readPlan 42 = .ok (.iconst 0, 1) := dk_3 (dk_at dksX4_readPlan_1 19 rfl rfl)
theorem dX4_readPlan_43 : decode cX4_readPlan 43 = .ok (.invokevirtual 345, 3) := dk_182 1 89 (dk_at dksX4_readPlan_1 20 rfl rfl)
theorem dX4_readPlan_46 : decode cX4_readPlan 46 = .ok (.aload_n 0, 1) := dk_42 (dk_at dksX4_readPlan_1 23 rfl rfl)
theorem dX4_readPlan_47 : decode cX4_readPlan 47 = .ok (.iconst 0, 1) := dk_3 (dk_at dksX4_readPlan_2 0 rfl rfl)
theorem dX4_readPlan_48 : decode cX4_readPlan 48 = .ok (.sipush 499, 3) := dk_17 1 243 (dk_at dksX4_readPlan_2 1 rfl rfl)
theorem dX4_readPlan_51 : decode cX4_readPlan 51 = .ok (.invokevirtual 333, 3) := dk_182 1 77 (dk_at dksX4_readPlan_2 4 rfl rfl)
theorem dX4_readPlan_54 : decode cX4_readPlan 54 = .ok (.istore_n 2, 1) := dk_61 (dk_at dksX4_readPlan_2 7 rfl rfl)
theorem dX4_readPlan_55 : decode cX4_readPlan 55 = .ok (.aload_n 0, 1) := dk_42 (dk_at dksX4_readPlan_2 8 rfl rfl)
theorem dX4_readPlan_56 : decode cX4_readPlan 56 = .ok (.getfield 284, 3) := dk_180 1 28 (dk_at dksX4_readPlan_2 9 rfl rfl)
theorem dX4_readPlan_59 : decode cX4_readPlan 59 = .ok (.ifCond .ne 72, 3) := dk_154 0 72 (dk_at dksX4_readPlan_2 12 rfl rfl)
theorem dX4_readPlan_62 : decode cX4_readPlan 62 = .ok (.aload_n 0, 1) := dk_42 (dk_at dksX4_readPlan_2 15 rfl rfl)
theorem dX4_readPlan_63 : decode cX4_readPlan 63 = .ok (.getfield 13, 3) := dk_180 0 13 (dk_at dksX4_readPlan_2 16 rfl rfl)
theorem dX4_readPlan_66 : decode cX4_readPlan 66 = .ok (.bipush 8, 2) := dk_16 8 (dk_at dksX4_readPlan_2 19 rfl rfl)
theorem dX4_readPlan_68 : decode cX4_readPlan 68 = .ok (.iaload, 1) := dk_46 (dk_at dksX4_readPlan_2 21 rfl rfl)
theorem dX4_readPlan_69 : decode cX4_readPlan 69 = .ok (.istore_n 3, 1) := dk_62 (dk_at dksX4_readPlan_2 22 rfl rfl)
theorem dX4_readPlan_70 : decode cX4_readPlan 70 = .ok (.aload_n 0, 1) := dk_42 (dk_at dksX4_readPlan_2 23 rfl rfl)
theorem dX4_readPlan_71 : decode cX4_readPlan 71 = .ok (.getfield 13, 3) := dk_180 0 13 (dk_at dksX4_readPlan_3 0 rfl rfl)
theorem dX4_readPlan_74 : decode cX4_readPlan 74 = .ok (.iload_n 3, 1) := dk_29 (dk_at dksX4_readPlan_3 3 rfl rfl)
theorem dX4_readPlan_75 : decode cX4_readPlan 75 = .ok (.iconst 0, 1) := dk_3 (dk_at dksX4_readPlan_3 4 rfl rfl)
theorem dX4_readPlan_76 : decode cX4_readPlan 76 = .ok (.invokestatic 164, 3) := dk_184 0 164 (dk_at dksX4_readPlan_3 5 rfl rfl)
theorem dX4_readPlan_79 : decode cX4_readPlan 79 = .ok (.iload_n 1, 1) := dk_27 (dk_at dksX4_readPlan_3 8 rfl rfl)
theorem dX4_readPlan_80 : decode cX4_readPlan 80 = .ok (.iastore, 1) := dk_79 (dk_at dksX4_readPlan_3 9 rfl rfl)
theorem dX4_readPlan_81 : decode cX4_readPlan 81 = .ok (.aload_n 0, 1) := dk_42 (dk_at dksX4_readPlan_3 10 rfl rfl)
theorem dX4_readPlan_82 : decode cX4_readPlan 82 = .ok (.getfield 13, 3) := dk_180 0 13 (dk_at dksX4_readPlan_3 11 rfl rfl)
theorem dX4_readPlan_85 : decode cX4_readPlan 85 = .ok (.iload_n 3, 1) := dk_29 (dk_at dksX4_readPlan_3 14 rfl rfl)
theorem dX4_readPlan_86 : decode cX4_readPlan 86 = .ok (.iconst 1, 1) := dk_4 (dk_at dksX4_readPlan_3 15 rfl rfl)
theorem dX4_readPlan_87 : decode cX4_readPlan 87 = .ok (.invokestatic 164, 3) := dk_184 0 164 (dk_at dksX4_readPlan_3 16 rfl rfl)
theorem dX4_readPlan_90 : decode cX4_readPlan 90 = .ok (.aload_n 0, 1) := dk_42 (dk_at dksX4_readPlan_3 19 rfl rfl)
theorem dX4_readPlan_91 : decode cX4_readPlan 91 = .ok (.getfield 336, 3) := dk_180 1 80 (dk_at dksX4_readPlan_3 20 rfl rfl)
theorem dX4_readPlan_94 : decode cX4_readPlan 94 = .ok (.iastore, 1) := dk_79 (dk_at dksX4_readPlan_3 23 rfl rfl)
theorem dX4_readPlan_95 : decode cX4_readPlan 95 = .ok (.aload_n 0, 1) := dk_42 (dk_at dksX4_readPlan_4 0 rfl rfl)
theorem dX4_readPlan_96 : decode cX4_readPlan 96 = .ok (.getfield 13, 3) := dk_180 0 13 (dk_at dksX4_readPlan_4 1 rfl rfl)
theorem dX4_readPlan_99 : decode cX4_readPlan 99 = .ok (.iload_n 3, 1) := dk_29 (dk_at dksX4_readPlan_4 4 rfl rfl)
theorem dX4_readPlan_100 : decode cX4_readPlan 100 = .ok (.iconst 2, 1) := dk_5 (dk_at dksX4_readPlan_4 5 rfl rfl)
theorem dX4_readPlan_101 : decode cX4_readPlan 101 = .ok (.invokestatic 164, 3) := dk_184 0 164 (dk_at dksX4_readPlan_4 6 rfl rfl)
theorem dX4_readPlan_104 : decode cX4_readPlan 104 = .ok (.aload_n 0, 1) := dk_42 (dk_at dksX4_readPlan_4 9 rfl rfl)
theorem dX4_readPlan_105 : decode cX4_readPlan 105 = .ok (.getfield 339, 3) := dk_180 1 83 (dk_at dksX4_readPlan_4 10 rfl rfl)
theorem dX4_readPlan_108 : decode cX4_readPlan 108 = .ok (.iastore, 1) := dk_79 (dk_at dksX4_readPlan_4 13 rfl rfl)
theorem dX4_readPlan_109 : decode cX4_readPlan 109 = .ok (.aload_n 0, 1) := dk_42 (dk_at dksX4_readPlan_4 14 rfl rfl)
theorem dX4_readPlan_110 : decode cX4_readPlan 110 = .ok (.getfield 13, 3) := dk_180 0 13 (dk_at dksX4_readPlan_4 15 rfl rfl)
theorem dX4_readPlan_113 : decode cX4_readPlan 113 = .ok (.iload_n 3, 1) := dk_29 (dk_at dksX4_readPlan_4 18 rfl rfl)
theorem dX4_readPlan_114 : decode cX4_readPlan 114 = .ok (.iconst 3, 1) := dk_6 (dk_at dksX4_readPlan_4 19 rfl rfl)
theorem dX4_readPlan_115 : decode cX4_readPlan 115 = .ok (.invokestatic 164, 3) := dk_184 0 164 (dk_at dksX4_readPlan_4 20 rfl rfl)
theorem dX4_readPlan_118 : decode cX4_readPlan 118 = .ok (.iload_n 2, 1) := dk_28 (dk_at dksX4_readPlan_4 23 rfl rfl)
theorem dX4_readPlan_119 : decode cX4_readPlan 119 = .ok (.iastore, 1) := dk_79 (dk_at dksX4_readPlan_5 0 rfl rfl)
theorem dX4_readPlan_120 : decode cX4_readPlan 120 = .ok (.aload_n 0, 1) := dk_42 (dk_at dksX4_readPlan_5 1 rfl rfl)
theorem dX4_readPlan_121 : decode cX4_readPlan 121 = .ok (.getfield 13, 3) := dk_180 0 13 (dk_at dksX4_readPlan_5 2 rfl rfl)
theorem dX4_readPlan_124 : decode cX4_readPlan 124 = .ok (.bipush 8, 2) := dk_16 8 (dk_at dksX4_readPlan_5 5 rfl rfl)
theorem dX4_readPlan_126 : decode cX4_readPlan 126 = .ok (.dup2, 1) := dk_92 (dk_at dksX4_readPlan_5 7 rfl rfl)
theorem dX4_readPlan_127 : decode cX4_readPlan 127 = .ok (.iaload, 1) := dk_46 (dk_at dksX4_readPlan_5 8 rfl rfl)
theorem dX4_readPlan_128 : decode cX4_readPlan 128 = .ok (.iconst 1, 1) := dk_4 (dk_at dksX4_readPlan_5 9 rfl rfl)
theorem dX4_readPlan_129 : decode cX4_readPlan 129 = .ok (.iadd, 1) := dk_96 (dk_at dksX4_readPlan_5 10 rfl rfl)
theorem dX4_readPlan_130 : decode cX4_readPlan 130 = .ok (.iastore, 1) := dk_79 (dk_at dksX4_readPlan_5 11 rfl rfl)
theorem dX4_readPlan_131 : decode cX4_readPlan 131 = .ok (.return_, 1) := dk_177 (dk_at dksX4_readPlan_5 12 rfl rfl)
abbrev cX4_finish : ByteArray := prog_24_method_94_code
def yX4_finish : MethodName := ⟨RX4, "finish", "()I"⟩
def dkwX4_finish_1 : List UInt8 := [42, 180, 1, 28, 172]
abbrev dktX4_finish_1 : List UInt8 := dkwX4_finish_1 ++ []
def dkwX4_finish_0 : List UInt8 := [42, 3, 181, 1, 4, 42, 42, 180, 1, 28, 154, 0, 7, 2, 167, 0, 7, 42, 180, 1, 37, 181, 0, 38]
abbrev dktX4_finish_0 : List UInt8 := dkwX4_finish_0 ++ dktX4_finish_1
theorem dksX4_finish_0 : cX4_finish.data.toList.drop 0 = dktX4_finish_0 := by decide +kernel
theorem dksX4_finish_1 : cX4_finish.data.toList.drop 24 = dktX4_finish_1 := dk_seg dksX4_finish_0 24 rfl rfl
theorem dX4_finish_0 : decode cX4_finish 0 = .ok (.aload_n 0, 1) := dk_42 (dk_at dksX4_finish_0 0 rfl rfl)
theorem dX4_finish_1 : decode cX4_finish 1 = .ok (.iconst 0, 1) := dk_3 (dk_at dksX4_finish_0 1 rfl rfl)
theorem dX4_finish_2 : decode cX4_finish 2 = .ok (.putfield 260, 3) := dk_181 1 4 (dk_at dksX4_finish_0 2 rfl rfl)
theorem dX4_finish_5 : decode cX4_finish 5 = .ok (.aload_n 0, 1) := dk_42 (dk_at dksX4_finish_0 5 rfl rfl)
theorem dX4_finish_6 : decode cX4_finish 6 = .ok (.aload_n 0, 1) := dk_42 (dk_at dksX4_finish_0 6 rfl rfl)
theorem dX4_finish_7 : decode cX4_finish 7 = .ok (.getfield 284, 3) := dk_180 1 28 (dk_at dksX4_finish_0 7 rfl rfl)
theorem dX4_finish_10 : decode cX4_finish 10 = .ok (.ifCond .ne 7, 3) := dk_154 0 7 (dk_at dksX4_finish_0 10 rfl rfl)
theorem dX4_finish_13 : decode cX4_finish 13 = .ok (.iconst (-1), 1) := dk_2 (dk_at dksX4_finish_0 13 rfl rfl)
theorem dX4_finish_14 : decode cX4_finish 14 = .ok (.goto 7, 3) := dk_167 0 7 (dk_at dksX4_finish_0 14 rfl rfl)
theorem dX4_finish_17 : decode cX4_finish 17 = .ok (.aload_n 0, 1) := dk_42 (dk_at dksX4_finish_0 17 rfl rfl)
theorem dX4_finish_18 : decode cX4_finish 18 = .ok (.getfield 293, 3) := dk_180 1 37 (dk_at dksX4_finish_0 18 rfl rfl)
theorem dX4_finish_21 : decode cX4_finish 21 = .ok (.putfield 38, 3) := dk_181 0 38 (dk_at dksX4_finish_0 21 rfl rfl)
theorem dX4_finish_24 : decode cX4_finish 24 = .ok (.aload_n 0, 1) := dk_42 (dk_at dksX4_finish_1 0 rfl rfl)
theorem dX4_finish_25 : decode cX4_finish 25 = .ok (.getfield 284, 3) := dk_180 1 28 (dk_at dksX4_finish_1 1 rfl rfl)
theorem dX4_finish_28 : decode cX4_finish 28 = .ok (.ireturn, 1) := dk_172 (dk_at dksX4_finish_1 4 rfl rfl)
abbrev cX4_query : ByteArray := prog_24_method_124_code
def yX4_query : MethodName := ⟨RX4, "query", "(I)I"⟩
def dkwX4_query_7 : List UInt8 := [153, 0, 7, 2, 167, 0, 4, 29, 172]
abbrev dktX4_query_7 : List UInt8 := dkwX4_query_7 ++ []
def dkwX4_query_6 : List UInt8 := [154, 0, 6, 167, 0, 13, 28, 153, 0, 6, 21, 4, 172, 132, 3, 1, 132, 4, 1, 167, 255, 220, 28]
abbrev dktX4_query_6 : List UInt8 := dkwX4_query_6 ++ dktX4_query_7
def dkwX4_query_5 : List UInt8 := [3, 62, 3, 54, 4, 21, 4, 42, 180, 0, 9, 7, 46, 162, 0, 31, 42, 21, 4, 182, 1, 183]
abbrev dktX4_query_5 : List UInt8 := dkwX4_query_5 ++ dktX4_query_6
def dkwX4_query_4 : List UInt8 := [167, 0, 4, 3, 4, 182, 1, 54, 42, 182, 1, 139, 153, 0, 12, 19, 1, 182, 42, 180, 1, 28, 100, 172]
abbrev dktX4_query_4 : List UInt8 := dkwX4_query_4 ++ dktX4_query_5
def dkwX4_query_3 : List UInt8 := [182, 1, 58, 42, 182, 1, 156, 42, 42, 180, 1, 28, 154, 0, 10, 42, 180, 1, 19, 154, 0, 7, 4]
abbrev dktX4_query_3 : List UInt8 := dkwX4_query_3 ++ dktX4_query_4
def dkwX4_query_2 : List UInt8 := [28, 154, 0, 13, 42, 19, 1, 180, 182, 1, 50, 153, 0, 7, 4, 167, 0, 4, 3, 4, 182, 1, 54, 42]
abbrev dktX4_query_2 : List UInt8 := dkwX4_query_2 ++ dktX4_query_3
def dkwX4_query_1 : List UInt8 := [4, 182, 0, 192, 172, 42, 3, 181, 1, 142, 42, 27, 182, 1, 133, 42, 19, 1, 178, 182, 1, 50, 61, 42]
abbrev dktX4_query_1 : List UInt8 := dkwX4_query_1 ++ dktX4_query_2
def dkwX4_query_0 : List UInt8 := [42, 3, 181, 0, 77, 27, 3, 42, 180, 1, 4, 17, 0, 200, 184, 1, 176, 184, 0, 90, 154, 0, 9, 42]
abbrev dktX4_query_0 : List UInt8 := dkwX4_query_0 ++ dktX4_query_1
theorem dksX4_query_0 : cX4_query.data.toList.drop 0 = dktX4_query_0 := by decide +kernel
theorem dksX4_query_1 : cX4_query.data.toList.drop 24 = dktX4_query_1 := dk_seg dksX4_query_0 24 rfl rfl
theorem dksX4_query_2 : cX4_query.data.toList.drop 48 = dktX4_query_2 := dk_seg dksX4_query_1 24 rfl rfl
theorem dksX4_query_3 : cX4_query.data.toList.drop 72 = dktX4_query_3 := dk_seg dksX4_query_2 24 rfl rfl
theorem dksX4_query_4 : cX4_query.data.toList.drop 95 = dktX4_query_4 := dk_seg dksX4_query_3 23 rfl rfl
theorem dksX4_query_5 : cX4_query.data.toList.drop 119 = dktX4_query_5 := dk_seg dksX4_query_4 24 rfl rfl
theorem dksX4_query_6 : cX4_query.data.toList.drop 141 = dktX4_query_6 := dk_seg dksX4_query_5 22 rfl rfl
theorem dksX4_query_7 : cX4_query.data.toList.drop 164 = dktX4_query_7 := dk_seg dksX4_query_6 23 rfl rfl
theorem dX4_query_0 : decode cX4_query 0 = .ok (.aload_n 0, 1) := dk_42 (dk_at dksX4_query_0 0 rfl rfl)
theorem dX4_query_1 : decode cX4_query 1 = .ok (.iconst 0, 1) := dk_3 (dk_at dksX4_query_0 1 rfl rfl)
theorem dX4_query_2 : decode cX4_query 2 = .ok (.putfield 77, 3) := dk_181 0 77 (dk_at dksX4_query_0 2 rfl rfl)
theorem dX4_query_5 : decode cX4_query 5 = .ok (.iload_n 1, 1) := dk_27 (dk_at dksX4_query_0 5 rfl rfl)
theorem dX4_query_6 : decode cX4_query 6 = .ok (.iconst 0, 1) := dk_3 (dk_at dksX4_query_0 6 rfl rfl)
theorem dX4_query_7 : decode cX4_query 7 = .ok (.aload_n 0, 1) := dk_42 (dk_at dksX4_query_0 7 rfl rfl)
theorem dX4_query_8 : decode cX4_query 8 = .ok (.getfield 260, 3) := dk_180 1 4 (dk_at dksX4_query_0 8 rfl rfl)
theorem dX4_query_11 : decode cX4_query 11 = .ok (.sipush 200, 3) := dk_17 0 200 (dk_at dksX4_query_0 11 rfl rfl)
theorem dX4_query_14 : decode cX4_query 14 = .ok (.invokestatic 432, 3) := dk_184 1 176 (dk_at dksX4_query_0 14 rfl rfl)
theorem dX4_query_17 : decode cX4_query 17 = .ok (.invokestatic 90, 3) := dk_184 0 90 (dk_at dksX4_query_0 17 rfl rfl)
theorem dX4_query_20 : decode cX4_query 20 = .ok (.ifCond .ne 9, 3) := dk_154 0 9 (dk_at dksX4_query_0 20 rfl rfl)
theorem dX4_query_23 : decode cX4_query 23 = .ok (.aload_n 0, 1) := dk_42 (dk_at dksX4_query_0 23 rfl rfl)
theorem dX4_query_24 : decode cX4_query 24 = .ok (.iconst 1, 1) := dk_4 (dk_at dksX4_query_1 0 rfl rfl)
theorem dX4_query_25 : decode cX4_query 25 = .ok (.invokevirtual 192, 3) := dk_182 0 192 (dk_at dksX4_query_1 1 rfl rfl)
theorem dX4_query_28 : decode cX4_query 28 = .ok (.ireturn, 1) := dk_172 (dk_at dksX4_query_1 4 rfl rfl)
theorem dX4_query_29 : decode cX4_query 29 = .ok (.aload_n 0, 1) := dk_42 (dk_at dksX4_query_1 5 rfl rfl)
theorem dX4_query_30 : decode cX4_query 30 = .ok (.iconst 0, 1) := dk_3 (dk_at dksX4_query_1 6 rfl rfl)
theorem dX4_query_31 : decode cX4_query 31 = .ok (.putfield 398, 3) := dk_181 1 142 (dk_at dksX4_query_1 7 rfl rfl)
theorem dX4_query_34 : decode cX4_query 34 = .ok (.aload_n 0, 1) := dk_42 (dk_at dksX4_query_1 10 rfl rfl)
theorem dX4_query_35 : decode cX4_query 35 = .ok (.iload_n 1, 1) := dk_27 (dk_at dksX4_query_1 11 rfl rfl)
theorem dX4_query_36 : decode cX4_query 36 = .ok (.invokevirtual 389, 3) := dk_182 1 133 (dk_at dksX4_query_1 12 rfl rfl)
theorem dX4_query_39 : decode cX4_query 39 = .ok (.aload_n 0, 1) := dk_42 (dk_at dksX4_query_1 15 rfl rfl)
theorem dX4_query_40 : decode cX4_query 40 = .ok (.ldc_w 434, 3) := dk_19 1 178 (dk_at dksX4_query_1 16 rfl rfl)
theorem dX4_query_43 : decode cX4_query 43 = .ok (.invokevirtual 306, 3) := dk_182 1 50 (dk_at dksX4_query_1 19 rfl rfl)
theorem dX4_query_46 : decode cX4_query 46 = .ok (.istore_n 2, 1) := dk_61 (dk_at dksX4_query_1 22 rfl rfl)
theorem dX4_query_47 : decode cX4_query 47 = .ok (.aload_n 0, 1) := dk_42 (dk_at dksX4_query_1 23 rfl rfl)
theorem dX4_query_48 : decode cX4_query 48 = .ok (.iload_n 2, 1) := dk_28 (dk_at dksX4_query_2 0 rfl rfl)
theorem dX4_query_49 : decode cX4_query 49 = .ok (.ifCond .ne 13, 3) := dk_154 0 13 (dk_at dksX4_query_2 1 rfl rfl)
theorem dX4_query_52 : decode cX4_query 52 = .ok (.aload_n 0, 1) := dk_42 (dk_at dksX4_query_2 4 rfl rfl)
theorem dX4_query_53 : decode cX4_query 53 = .ok (.ldc_w 436, 3) := dk_19 1 180 (dk_at dksX4_query_2 5 rfl rfl)
theorem dX4_query_56 : decode cX4_query 56 = .ok (.invokevirtual 306, 3) := dk_182 1 50 (dk_at dksX4_query_2 8 rfl rfl)
theorem dX4_query_59 : decode cX4_query 59 = .ok (.ifCond .eq 7, 3) := dk_153 0 7 (dk_at dksX4_query_2 11 rfl rfl)
theorem dX4_query_62 : decode cX4_query 62 = .ok (.iconst 1, 1) := dk_4 (dk_at dksX4_query_2 14 rfl rfl)
theorem dX4_query_63 : decode cX4_query 63 = .ok (.goto 4, 3) := dk_167 0 4 (dk_at dksX4_query_2 15 rfl rfl)
theorem dX4_query_66 : decode cX4_query 66 = .ok (.iconst 0, 1) := dk_3 (dk_at dksX4_query_2 18 rfl rfl)
theorem dX4_query_67 : decode cX4_query 67 = .ok (.iconst 1, 1) := dk_4 (dk_at dksX4_query_2 19 rfl rfl)
theorem dX4_query_68 : decode cX4_query 68 = .ok (.invokevirtual 310, 3) := dk_182 1 54 (dk_at dksX4_query_2 20 rfl rfl)
theorem dX4_query_71 : decode cX4_query 71 = .ok (.aload_n 0, 1) := dk_42 (dk_at dksX4_query_2 23 rfl rfl)
theorem dX4_query_72 : decode cX4_query 72 = .ok (.invokevirtual 314, 3) := dk_182 1 58 (dk_at dksX4_query_3 0 rfl rfl)
theorem dX4_query_75 : decode cX4_query 75 = .ok (.aload_n 0, 1) := dk_42 (dk_at dksX4_query_3 3 rfl rfl)
theorem dX4_query_76 : decode cX4_query 76 = .ok (.invokevirtual 412, 3) := dk_182 1 156 (dk_at dksX4_query_3 4 rfl rfl)
theorem dX4_query_79 : decode cX4_query 79 = .ok (.aload_n 0, 1) := dk_42 (dk_at dksX4_query_3 7 rfl rfl)
theorem dX4_query_80 : decode cX4_query 80 = .ok (.aload_n 0, 1) := dk_42 (dk_at dksX4_query_3 8 rfl rfl)
theorem dX4_query_81 : decode cX4_query 81 = .ok (.getfield 284, 3) := dk_180 1 28 (dk_at dksX4_query_3 9 rfl rfl)
theorem dX4_query_84 : decode cX4_query 84 = .ok (.ifCond .ne 10, 3) := dk_154 0 10 (dk_at dksX4_query_3 12 rfl rfl)
theorem dX4_query_87 : decode cX4_query 87 = .ok (.aload_n 0, 1) := dk_42 (dk_at dksX4_query_3 15 rfl rfl)
theorem dX4_query_88 : decode cX4_query 88 = .ok (.getfield 275, 3) := dk_180 1 19 (dk_at dksX4_query_3 16 rfl rfl)
theorem dX4_query_91 : decode cX4_query 91 = .ok (.ifCond .ne 7, 3) := dk_154 0 7 (dk_at dksX4_query_3 19 rfl rfl)
theorem dX4_query_94 : decode cX4_query 94 = .ok (.iconst 1, 1) := dk_4 (dk_at dksX4_query_3 22 rfl rfl)
theorem dX4_query_95 : decode cX4_query 95 = .ok (.goto 4, 3) := dk_167 0 4 (dk_at dksX4_query_4 0 rfl rfl)
theorem dX4_query_98 : decode cX4_query 98 = .ok (.iconst 0, 1) := dk_3 (dk_at dksX4_query_4 3 rfl rfl)
theorem dX4_query_99 : decode cX4_query 99 = .ok (.iconst 1, 1) := dk_4 (dk_at dksX4_query_4 4 rfl rfl)
theorem dX4_query_100 : decode cX4_query 100 = .ok (.invokevirtual 310, 3) := dk_182 1 54 (dk_at dksX4_query_4 5 rfl rfl)
theorem dX4_query_103 : decode cX4_query 103 = .ok (.aload_n 0, 1) := dk_42 (dk_at dksX4_query_4 8 rfl rfl)
theorem dX4_query_104 : decode cX4_query 104 = .ok (.invokevirtual 395, 3) := dk_182 1 139 (dk_at dksX4_query_4 9 rfl rfl)
theorem dX4_query_107 : decode cX4_query 107 = .ok (.ifCond .eq 12, 3) := dk_153 0 12 (dk_at dksX4_query_4 12 rfl rfl)
theorem dX4_query_110 : decode cX4_query 110 = .ok (.ldc_w 438, 3) := dk_19 1 182 (dk_at dksX4_query_4 15 rfl rfl)
theorem dX4_query_113 : decode cX4_query 113 = .ok (.aload_n 0, 1) := dk_42 (dk_at dksX4_query_4 18 rfl rfl)
theorem dX4_query_114 : decode cX4_query 114 = .ok (.getfield 284, 3) := dk_180 1 28 (dk_at dksX4_query_4 19 rfl rfl)
theorem dX4_query_117 : decode cX4_query 117 = .ok (.isub, 1) := dk_100 (dk_at dksX4_query_4 22 rfl rfl)
theorem dX4_query_118 : decode cX4_query 118 = .ok (.ireturn, 1) := dk_172 (dk_at dksX4_query_4 23 rfl rfl)
theorem dX4_query_119 : decode cX4_query 119 = .ok (.iconst 0, 1) := dk_3 (dk_at dksX4_query_5 0 rfl rfl)
theorem dX4_query_120 : decode cX4_query 120 = .ok (.istore_n 3, 1) := dk_62 (dk_at dksX4_query_5 1 rfl rfl)
theorem dX4_query_121 : decode cX4_query 121 = .ok (.iconst 0, 1) := dk_3 (dk_at dksX4_query_5 2 rfl rfl)
theorem dX4_query_122 : decode cX4_query 122 = .ok (.istore 4, 2) := dk_54 4 (dk_at dksX4_query_5 3 rfl rfl)
theorem dX4_query_124 : decode cX4_query 124 = .ok (.iload 4, 2) := dk_21 4 (dk_at dksX4_query_5 5 rfl rfl)
theorem dX4_query_126 : decode cX4_query 126 = .ok (.aload_n 0, 1) := dk_42 (dk_at dksX4_query_5 7 rfl rfl)
theorem dX4_query_127 : decode cX4_query 127 = .ok (.getfield 9, 3) := dk_180 0 9 (dk_at dksX4_query_5 8 rfl rfl)
theorem dX4_query_130 : decode cX4_query 130 = .ok (.iconst 4, 1) := dk_7 (dk_at dksX4_query_5 11 rfl rfl)
theorem dX4_query_131 : decode cX4_query 131 = .ok (.iaload, 1) := dk_46 (dk_at dksX4_query_5 12 rfl rfl)
theorem dX4_query_132 : decode cX4_query 132 = .ok (.if_icmp .ge 31, 3) := dk_162 0 31 (dk_at dksX4_query_5 13 rfl rfl)
theorem dX4_query_135 : decode cX4_query 135 = .ok (.aload_n 0, 1) := dk_42 (dk_at dksX4_query_5 16 rfl rfl)
theorem dX4_query_136 : decode cX4_query 136 = .ok (.iload 4, 2) := dk_21 4 (dk_at dksX4_query_5 17 rfl rfl)
theorem dX4_query_138 : decode cX4_query 138 = .ok (.invokevirtual 439, 3) := dk_182 1 183 (dk_at dksX4_query_5 19 rfl rfl)
theorem dX4_query_141 : decode cX4_query 141 = .ok (.ifCond .ne 6, 3) := dk_154 0 6 (dk_at dksX4_query_6 0 rfl rfl)
theorem dX4_query_144 : decode cX4_query 144 = .ok (.goto 13, 3) := dk_167 0 13 (dk_at dksX4_query_6 3 rfl rfl)
theorem dX4_query_147 : decode cX4_query 147 = .ok (.iload_n 2, 1) := dk_28 (dk_at dksX4_query_6 6 rfl rfl)
theorem dX4_query_148 : decode cX4_query 148 = .ok (.ifCond .eq 6, 3) := dk_153 0 6 (dk_at dksX4_query_6 7 rfl rfl)
theorem dX4_query_151 : decode cX4_query 151 = .ok (.iload 4, 2) := dk_21 4 (dk_at dksX4_query_6 10 rfl rfl)
theorem dX4_query_153 : decode cX4_query 153 = .ok (.ireturn, 1) := dk_172 (dk_at dksX4_query_6 12 rfl rfl)
theorem dX4_query_154 : decode cX4_query 154 = .ok (.iinc 3 1, 3) := dk_132 3 1 (dk_at dksX4_query_6 13 rfl rfl)
theorem dX4_query_157 : decode cX4_query 157 = .ok (.iinc 4 1, 3) := dk_132 4 1 (dk_at dksX4_query_6 16 rfl rfl)
theorem dX4_query_160 : decode cX4_query 160 = .ok (.goto (-36), 3) := dk_167 255 220 (dk_at dksX4_query_6 19 rfl rfl)
theorem dX4_query_163 : decode cX4_query 163 = .ok (.iload_n 2, 1) := dk_28 (dk_at dksX4_query_6 22 rfl rfl)
theorem dX4_query_164 : decode cX4_query 164 = .ok (.ifCond .eq 7, 3) := dk_153 0 7 (dk_at dksX4_query_7 0 rfl rfl)
theorem dX4_query_167 : decode cX4_query 167 = .ok (.iconst (-1), 1) := dk_2 (dk_at dksX4_query_7 3 rfl rfl)
theorem dX4_query_168 : decode cX4_query 168 = .ok (.goto 4, 3) := dk_167 0 4 (dk_at dksX4_query_7 4 rfl rfl)
theorem dX4_query_171 : decode cX4_query 171 = .ok (.iload_n 3, 1) := dk_29 (dk_at dksX4_query_7 7 rfl rfl)
theorem dX4_query_172 : decode cX4_query 172 = .ok (.ireturn, 1) := dk_172 (dk_at dksX4_query_7 8 rfl rfl)
abbrev cX4_compileTest : ByteArray := prog_24_method_120_code
def yX4_compileTest : MethodName := ⟨RX4, "compileTest", "()V"⟩
def dkwX4_compileTest_1 : List UInt8 := [167, 255, 236, 177]
abbrev dktX4_compileTest_1 : List UInt8 := dkwX4_compileTest_1 ++ []
def dkwX4_compileTest_0 : List UInt8 := [42, 182, 1, 164, 42, 19, 1, 167, 182, 1, 95, 153, 0, 16, 42, 182, 1, 164, 42, 16, 231, 182, 1, 145]
abbrev dktX4_compileTest_0 : List UInt8 := dkwX4_compileTest_0 ++ dktX4_compileTest_1
theorem dksX4_compileTest_0 : cX4_compileTest.data.toList.drop 0 = dktX4_compileTest_0 := by decide +kernel
theorem dksX4_compileTest_1 : cX4_compileTest.data.toList.drop 24 = dktX4_compileTest_1 := dk_seg dksX4_compileTest_0 24 rfl rfl
theorem dX4_compileTest_0 : decode cX4_compileTest 0 = .ok (.aload_n 0, 1) := dk_42 (dk_at dksX4_compileTest_0 0 rfl rfl)
theorem dX4_compileTest_1 : decode cX4_compileTest 1 = .ok (.invokevirtual 420, 3) := dk_182 1 164 (dk_at dksX4_compileTest_0 1 rfl rfl)
theorem dX4_compileTest_4 : decode cX4_compileTest 4 = .ok (.aload_n 0, 1) := dk_42 (dk_at dksX4_compileTest_0 4 rfl rfl)
theorem dX4_compileTest_5 : decode cX4_compileTest 5 = .ok (.ldc_w 423, 3) := dk_19 1 167 (dk_at dksX4_compileTest_0 5 rfl rfl)
theorem dX4_compileTest_8 : decode cX4_compileTest 8 = .ok (.invokevirtual 351, 3) := dk_182 1 95 (dk_at dksX4_compileTest_0 8 rfl rfl)
theorem dX4_compileTest_11 : decode cX4_compileTest 11 = .ok (.ifCond .eq 16, 3) := dk_153 0 16 (dk_at dksX4_compileTest_0 11 rfl rfl)
theorem dX4_compileTest_14 : decode cX4_compileTest 14 = .ok (.aload_n 0, 1) := dk_42 (dk_at dksX4_compileTest_0 14 rfl rfl)
theorem dX4_compileTest_15 : decode cX4_compileTest 15 = .ok (.invokevirtual 420, 3) := dk_182 1 164 (dk_at dksX4_compileTest_0 15 rfl rfl)
theorem dX4_compileTest_18 : decode cX4_compileTest 18 = .ok (.aload_n 0, 1) := dk_42 (dk_at dksX4_compileTest_0 18 rfl rfl)
theorem dX4_compileTest_19 : decode cX4_compileTest 19 = .ok (.bipush (-25), 2) := dk_16 231 (dk_at dksX4_compileTest_0 19 rfl rfl)
theorem dX4_compileTest_21 : decode cX4_compileTest 21 = .ok (.invokevirtual 401, 3) := dk_182 1 145 (dk_at dksX4_compileTest_0 21 rfl rfl)
theorem dX4_compileTest_24 : decode cX4_compileTest 24 = .ok (.goto (-20), 3) := dk_167 255 236 (dk_at dksX4_compileTest_1 0 rfl rfl)
theorem dX4_compileTest_27 : decode cX4_compileTest 27 = .ok (.return_, 1) := dk_177 (dk_at dksX4_compileTest_1 3 rfl rfl)
abbrev cX4_compileConjunction : ByteArray := prog_24_method_119_code
def yX4_compileConjunction : MethodName := ⟨RX4, "compileConjunction", "()V"⟩
def dkwX4_compileConjunction_1 : List UInt8 := [167, 255, 236, 177]
abbrev dktX4_compileConjunction_1 : List UInt8 := dkwX4_compileConjunction_1 ++ []
def dkwX4_compileConjunction_0 : List UInt8 := [42, 182, 1, 153, 42, 19, 1, 162, 182, 1, 95, 153, 0, 16, 42, 182, 1, 153, 42, 16, 232, 182, 1, 145]
abbrev dktX4_compileConjunction_0 : List UInt8 := dkwX4_compileConjunction_0 ++ dktX4_compileConjunction_1
theorem dksX4_compileConjunction_0 : cX4_compileConjunction.data.toList.drop 0 = dktX4_compileConjunction_0 := by decide +kernel
theorem dksX4_compileConjunction_1 : cX4_compileConjunction.data.toList.drop 24 = dktX4_compileConjunction_1 := dk_seg dksX4_compileConjunction_0 24 rfl rfl
theorem dX4_compileConjunction_0 : decode cX4_compileConjunction 0 = .ok (.aload_n 0, 1) := dk_42 (dk_at dksX4_compileConjunction_0 0 rfl rfl)
theorem dX4_compileConjunction_1 : decode cX4_compileConjunction 1 = .ok (.invokevirtual 409, 3) := dk_182 1 153 (dk_at dksX4_compileConjunction_0 1 rfl rfl)
theorem dX4_compileConjunction_4 : decode cX4_compileConjunction 4 = .ok (.aload_n 0, 1) := dk_42 (dk_at dksX4_compileConjunction_0 4 rfl rfl)
theorem dX4_compileConjunction_5 : decode cX4_compileConjunction 5 = .ok (.ldc_w 418, 3) := dk_19 1 162 (dk_at dksX4_compileConjunction_0 5 rfl rfl)
theorem dX4_compileConjunction_8 : decode cX4_compileConjunction 8 = .ok (.invokevirtual 351, 3) := dk_182 1 95 (dk_at dksX4_compileConjunction_0 8 rfl rfl)
theorem dX4_compileConjunction_11 : decode cX4_compileConjunction 11 = .ok (.ifCond .eq 16, 3) := dk_153 0 16 (dk_at dksX4_compileConjunction_0 11 rfl rfl)
theorem dX4_compileConjunction_14 : decode cX4_compileConjunction 14 = .ok (.aload_n 0, 1) := dk_42 (dk_at dksX4_compileConjunction_0 14 rfl rfl)
theorem dX4_compileConjunction_15 : decode cX4_compileConjunction 15 = .ok (.invokevirtual 409, 3) := dk_182 1 153 (dk_at dksX4_compileConjunction_0 15 rfl rfl)
theorem dX4_compileConjunction_18 : decode cX4_compileConjunction 18 = .ok (.aload_n 0, 1) := dk_42 (dk_at dksX4_compileConjunction_0 18 rfl rfl)
theorem dX4_compileConjunction_19 : decode cX4_compileConjunction 19 = .ok (.bipush (-24), 2) := dk_16 232 (dk_at dksX4_compileConjunction_0 19 rfl rfl)
theorem dX4_compileConjunction_21 : decode cX4_compileConjunction 21 = .ok (.invokevirtual 401, 3) := dk_182 1 145 (dk_at dksX4_compileConjunction_0 21 rfl rfl)
theorem dX4_compileConjunction_24 : decode cX4_compileConjunction 24 = .ok (.goto (-20), 3) := dk_167 255 236 (dk_at dksX4_compileConjunction_1 0 rfl rfl)
theorem dX4_compileConjunction_27 : decode cX4_compileConjunction 27 = .ok (.return_, 1) := dk_177 (dk_at dksX4_compileConjunction_1 3 rfl rfl)
abbrev cX4_compileFactor : ByteArray := prog_24_method_118_code
def yX4_compileFactor : MethodName := ⟨RX4, "compileFactor", "()V"⟩
def dkwX4_compileFactor_6 : List UInt8 := [167, 0, 4, 3, 4, 182, 1, 54, 42, 182, 1, 58, 42, 182, 1, 159, 42, 27, 182, 1, 145, 177]
abbrev dktX4_compileFactor_6 : List UInt8 := dkwX4_compileFactor_6 ++ []
def dkwX4_compileFactor_5 : List UInt8 := [167, 0, 5, 16, 234, 60, 42, 27, 16, 234, 160, 0, 12, 42, 16, 62, 182, 1, 61, 153, 0, 7, 4]
abbrev dktX4_compileFactor_5 : List UInt8 := dkwX4_compileFactor_5 ++ dktX4_compileFactor_6
def dkwX4_compileFactor_4 : List UInt8 := [16, 60, 182, 1, 61, 153, 0, 8, 16, 236, 167, 0, 19, 42, 16, 61, 182, 1, 61, 153, 0, 8, 16, 235]
abbrev dktX4_compileFactor_4 : List UInt8 := dkwX4_compileFactor_4 ++ dktX4_compileFactor_5
def dkwX4_compileFactor_3 : List UInt8 := [16, 41, 182, 1, 121, 42, 89, 180, 1, 31, 4, 100, 181, 1, 31, 167, 0, 76, 42, 182, 1, 159, 42]
abbrev dktX4_compileFactor_3 : List UInt8 := dkwX4_compileFactor_3 ++ dktX4_compileFactor_4
def dkwX4_compileFactor_2 : List UInt8 := [16, 40, 182, 1, 61, 153, 0, 37, 42, 182, 1, 150, 42, 180, 1, 28, 154, 0, 7, 42, 182, 1, 156, 42]
abbrev dktX4_compileFactor_2 : List UInt8 := dkwX4_compileFactor_2 ++ dktX4_compileFactor_3
def dkwX4_compileFactor_1 : List UInt8 := [182, 1, 153, 42, 16, 233, 182, 1, 145, 42, 89, 180, 1, 31, 4, 100, 181, 1, 31, 167, 0, 119, 42]
abbrev dktX4_compileFactor_1 : List UInt8 := dkwX4_compileFactor_1 ++ dktX4_compileFactor_2
def dkwX4_compileFactor_0 : List UInt8 := [42, 19, 1, 148, 182, 1, 50, 153, 0, 37, 42, 182, 1, 150, 42, 180, 1, 28, 154, 0, 7, 42]
abbrev dktX4_compileFactor_0 : List UInt8 := dkwX4_compileFactor_0 ++ dktX4_compileFactor_1
theorem dksX4_compileFactor_0 : cX4_compileFactor.data.toList.drop 0 = dktX4_compileFactor_0 := by decide +kernel
theorem dksX4_compileFactor_1 : cX4_compileFactor.data.toList.drop 22 = dktX4_compileFactor_1 := dk_seg dksX4_compileFactor_0 22 rfl rfl
theorem dksX4_compileFactor_2 : cX4_compileFactor.data.toList.drop 45 = dktX4_compileFactor_2 := dk_seg dksX4_compileFactor_1 23 rfl rfl
theorem dksX4_compileFactor_3 : cX4_compileFactor.data.toList.drop 69 = dktX4_compileFactor_3 := dk_seg dksX4_compileFactor_2 24 rfl rfl
theorem dksX4_compileFactor_4 : cX4_compileFactor.data.toList.drop 92 = dktX4_compileFactor_4 := dk_seg dksX4_compileFactor_3 23 rfl rfl
theorem dksX4_compileFactor_5 : cX4_compileFactor.data.toList.drop 116 = dktX4_compileFactor_5 := dk_seg dksX4_compileFactor_4 24 rfl rfl
theorem dksX4_compileFactor_6 : cX4_compileFactor.data.toList.drop 139 = dktX4_compileFactor_6 := dk_seg dksX4_compileFactor_5 23 rfl rfl
theorem dX4_compileFactor_0 : decode cX4_compileFactor 0 = .ok (.aload_n 0, 1) := dk_42 (dk_at dksX4_compileFactor_0 0 rfl rfl)
theorem dX4_compileFactor_1 : decode cX4_compileFactor 1 = .ok (.ldc_w 404, 3) := dk_19 1 148 (dk_at dksX4_compileFactor_0 1 rfl rfl)
theorem dX4_compileFactor_4 : decode cX4_compileFactor 4 = .ok (.invokevirtual 306, 3) := dk_182 1 50 (dk_at dksX4_compileFactor_0 4 rfl rfl)
theorem dX4_compileFactor_7 : decode cX4_compileFactor 7 = .ok (.ifCond .eq 37, 3) := dk_153 0 37 (dk_at dksX4_compileFactor_0 7 rfl rfl)
theorem dX4_compileFactor_10 : decode cX4_compileFactor 10 = .ok (.aload_n 0, 1) := dk_42 (dk_at dksX4_compileFactor_0 10 rfl rfl)
theorem dX4_compileFactor_11 : decode cX4_compileFactor 11 = .ok (.invokevirtual 406, 3) := dk_182 1 150 (dk_at dksX4_compileFactor_0 11 rfl rfl)
theorem dX4_compileFactor_14 : decode cX4_compileFactor 14 = .ok (.aload_n 0, 1) := dk_42 (dk_at dksX4_compileFactor_0 14 rfl rfl)
theorem dX4_compileFactor_15 : decode cX4_compileFactor 15 = .ok (.getfield 284, 3) := dk_180 1 28 (dk_at dksX4_compileFactor_0 15 rfl rfl)
theorem dX4_compileFactor_18 : decode cX4_compileFactor 18 = .ok (.ifCond .ne 7, 3) := dk_154 0 7 (dk_at dksX4_compileFactor_0 18 rfl rfl)
theorem dX4_compileFactor_21 : decode cX4_compileFactor 21 = .ok (.aload_n 0, 1) := dk_42 (dk_at dksX4_compileFactor_0 21 rfl rfl)
theorem dX4_compileFactor_22 : decode cX4_compileFactor 22 = .ok (.invokevirtual 409, 3) := dk_182 1 153 (dk_at dksX4_compileFactor_1 0 rfl rfl)
theorem dX4_compileFactor_25 : decode cX4_compileFactor 25 = .ok (.aload_n 0, 1) := dk_42 (dk_at dksX4_compileFactor_1 3 rfl rfl)
theorem dX4_compileFactor_26 : decode cX4_compileFactor 26 = .ok (.bipush (-23), 2) := dk_16 233 (dk_at dksX4_compileFactor_1 4 rfl rfl)
theorem dX4_compileFactor_28 : decode cX4_compileFactor 28 = .ok (.invokevirtual 401, 3) := dk_182 1 145 (dk_at dksX4_compileFactor_1 6 rfl rfl)
theorem dX4_compileFactor_31 : decode cX4_compileFactor 31 = .ok (.aload_n 0, 1) := dk_42 (dk_at dksX4_compileFactor_1 9 rfl rfl)
theorem dX4_compileFactor_32 : decode cX4_compileFactor 32 = .ok (.dup, 1) := dk_89 (dk_at dksX4_compileFactor_1 10 rfl rfl)
theorem dX4_compileFactor_33 : decode cX4_compileFactor 33 = .ok (.getfield 287, 3) := dk_180 1 31 (dk_at dksX4_compileFactor_1 11 rfl rfl)
theorem dX4_compileFactor_36 : decode cX4_compileFactor 36 = .ok (.iconst 1, 1) := dk_4 (dk_at dksX4_compileFactor_1 14 rfl rfl)
theorem dX4_compileFactor_37 : decode cX4_compileFactor 37 = .ok (.isub, 1) := dk_100 (dk_at dksX4_compileFactor_1 15 rfl rfl)
theorem dX4_compileFactor_38 : decode cX4_compileFactor 38 = .ok (.putfield 287, 3) := dk_181 1 31 (dk_at dksX4_compileFactor_1 16 rfl rfl)
theorem dX4_compileFactor_41 : decode cX4_compileFactor 41 = .ok (.goto 119, 3) := dk_167 0 119 (dk_at dksX4_compileFactor_1 19 rfl rfl)
theorem dX4_compileFactor_44 : decode cX4_compileFactor 44 = .ok (.aload_n 0, 1) := dk_42 (dk_at dksX4_compileFactor_1 22 rfl rfl)
theorem dX4_compileFactor_45 : decode cX4_compileFactor 45 = .ok (.bipush 40, 2) := dk_16 40 (dk_at dksX4_compileFactor_2 0 rfl rfl)
theorem dX4_compileFactor_47 : decode cX4_compileFactor 47 = .ok (.invokevirtual 317, 3) := dk_182 1 61 (dk_at dksX4_compileFactor_2 2 rfl rfl)
theorem dX4_compileFactor_50 : decode cX4_compileFactor 50 = .ok (.ifCond .eq 37, 3) := dk_153 0 37 (dk_at dksX4_compileFactor_2 5 rfl rfl)
theorem dX4_compileFactor_53 : decode cX4_compileFactor 53 = .ok (.aload_n 0, 1) := dk_42 (dk_at dksX4_compileFactor_2 8 rfl rfl)
theorem dX4_compileFactor_54 : decode cX4_compileFactor 54 = .ok (.invokevirtual 406, 3) := dk_182 1 150 (dk_at dksX4_compileFactor_2 9 rfl rfl)
theorem dX4_compileFactor_57 : decode cX4_compileFactor 57 = .ok (.aload_n 0, 1) := dk_42 (dk_at dksX4_compileFactor_2 12 rfl rfl)
theorem dX4_compileFactor_58 : decode cX4_compileFactor 58 = .ok (.getfield 284, 3) := dk_180 1 28 (dk_at dksX4_compileFactor_2 13 rfl rfl)
theorem dX4_compileFactor_61 : decode cX4_compileFactor 61 = .ok (.ifCond .ne 7, 3) := dk_154 0 7 (dk_at dksX4_compileFactor_2 16 rfl rfl)
theorem dX4_compileFactor_64 : decode cX4_compileFactor 64 = .ok (.aload_n 0, 1) := dk_42 (dk_at dksX4_compileFactor_2 19 rfl rfl)
theorem dX4_compileFactor_65 : decode cX4_compileFactor 65 = .ok (.invokevirtual 412, 3) := dk_182 1 156 (dk_at dksX4_compileFactor_2 20 rfl rfl)
theorem dX4_compileFactor_68 : decode cX4_compileFactor 68 = .ok (.aload_n 0, 1) := dk_42 (dk_at dksX4_compileFactor_2 23 rfl rfl)
theorem dX4_compileFactor_69 : decode cX4_compileFactor 69 = .ok (.bipush 41, 2) := dk_16 41 (dk_at dksX4_compileFactor_3 0 rfl rfl)
theorem dX4_compileFactor_71 : decode cX4_compileFactor 71 = .ok (.invokevirtual 377, 3) := dk_182 1 121 (dk_at dksX4_compileFactor_3 2 rfl rfl)
theorem dX4_compileFactor_74 : decode cX4_compileFactor 74 = .ok (.aload_n 0, 1) := dk_42 (dk_at dksX4_compileFactor_3 5 rfl rfl)
theorem dX4_compileFactor_75 : decode cX4_compileFactor 75 = .ok (.dup, 1) := dk_89 (dk_at dksX4_compileFactor_3 6 rfl rfl)
theorem dX4_compileFactor_76 : decode cX4_compileFactor 76 = .ok (.getfield 287, 3) := dk_180 1 31 (dk_at dksX4_compileFactor_3 7 rfl rfl)
theorem dX4_compileFactor_79 : decode cX4_compileFactor 79 = .ok (.iconst 1, 1) := dk_4 (dk_at dksX4_compileFactor_3 10 rfl rfl)
theorem dX4_compileFactor_80 : decode cX4_compileFactor 80 = .ok (.isub, 1) := dk_100 (dk_at dksX4_compileFactor_3 11 rfl rfl)
theorem dX4_compileFactor_81 : decode cX4_compileFactor 81 = .ok (.putfield 287, 3) := dk_181 1 31 (dk_at dksX4_compileFactor_3 12 rfl rfl)
theorem dX4_compileFactor_84 : decode cX4_compileFactor 84 = .ok (.goto 76, 3) := dk_167 0 76 (dk_at dksX4_compileFactor_3 15 rfl rfl)
theorem dX4_compileFactor_87 : decode cX4_compileFactor 87 = .ok (.aload_n 0, 1) := dk_42 (dk_at dksX4_compileFactor_3 18 rfl rfl)
theorem dX4_compileFactor_88 : decode cX4_compileFactor 88 = .ok (.invokevirtual 415, 3) := dk_182 1 159 (dk_at dksX4_compileFactor_3 19 rfl rfl)
theorem dX4_compileFactor_91 : decode cX4_compileFactor 91 = .ok (.aload_n 0, 1) := dk_42 (dk_at dksX4_compileFactor_3 22 rfl rfl)
theorem dX4_compileFactor_92 : decode cX4_compileFactor 92 = .ok (.bipush 60, 2) := dk_16 60 (dk_at dksX4_compileFactor_4 0 rfl rfl)
theorem dX4_compileFactor_94 : decode cX4_compileFactor 94 = .ok (.invokevirtual 317, 3) := dk_182 1 61 (dk_at dksX4_compileFactor_4 2 rfl rfl)
theorem dX4_compileFactor_97 : decode cX4_compileFactor 97 = .ok (.ifCond .eq 8, 3) := dk_153 0 8 (dk_at dksX4_compileFactor_4 5 rfl rfl)
theorem dX4_compileFactor_100 : decode cX4_compileFactor 100 = .ok (.bipush (-20), 2) := dk_16 236 (dk_at dksX4_compileFactor_4 8 rfl rfl)
theorem dX4_compileFactor_102 : decode cX4_compileFactor 102 = .ok (.goto 19, 3) := dk_167 0 19 (dk_at dksX4_compileFactor_4 10 rfl rfl)
theorem dX4_compileFactor_105 : decode cX4_compileFactor 105 = .ok (.aload_n 0, 1) := dk_42 (dk_at dksX4_compileFactor_4 13 rfl rfl)
theorem dX4_compileFactor_106 : decode cX4_compileFactor 106 = .ok (.bipush 61, 2) := dk_16 61 (dk_at dksX4_compileFactor_4 14 rfl rfl)
theorem dX4_compileFactor_108 : decode cX4_compileFactor 108 = .ok (.invokevirtual 317, 3) := dk_182 1 61 (dk_at dksX4_compileFactor_4 16 rfl rfl)
theorem dX4_compileFactor_111 : decode cX4_compileFactor 111 = .ok (.ifCond .eq 8, 3) := dk_153 0 8 (dk_at dksX4_compileFactor_4 19 rfl rfl)
theorem dX4_compileFactor_114 : decode cX4_compileFactor 114 = .ok (.bipush (-21), 2) := dk_16 235 (dk_at dksX4_compileFactor_4 22 rfl rfl)
theorem dX4_compileFactor_116 : decode cX4_compileFactor 116 = .ok (.goto 5, 3) := dk_167 0 5 (dk_at dksX4_compileFactor_5 0 rfl rfl)
theorem dX4_compileFactor_119 : decode cX4_compileFactor 119 = .ok (.bipush (-22), 2) := dk_16 234 (dk_at dksX4_compileFactor_5 3 rfl rfl)
theorem dX4_compileFactor_121 : decode cX4_compileFactor 121 = .ok (.istore_n 1, 1) := dk_60 (dk_at dksX4_compileFactor_5 5 rfl rfl)
theorem dX4_compileFactor_122 : decode cX4_compileFactor 122 = .ok (.aload_n 0, 1) := dk_42 (dk_at dksX4_compileFactor_5 6 rfl rfl)
theorem dX4_compileFactor_123 : decode cX4_compileFactor 123 = .ok (.iload_n 1, 1) := dk_27 (dk_at dksX4_compileFactor_5 7 rfl rfl)
theorem dX4_compileFactor_124 : decode cX4_compileFactor 124 = .ok (.bipush (-22), 2) := dk_16 234 (dk_at dksX4_compileFactor_5 8 rfl rfl)
theorem dX4_compileFactor_126 : decode cX4_compileFactor 126 = .ok (.if_icmp .ne 12, 3) := dk_160 0 12 (dk_at dksX4_compileFactor_5 10 rfl rfl)
theorem dX4_compileFactor_129 : decode cX4_compileFactor 129 = .ok (.aload_n 0, 1) := dk_42 (dk_at dksX4_compileFactor_5 13 rfl rfl)
theorem dX4_compileFactor_130 : decode cX4_compileFactor 130 = .ok (.bipush 62, 2) := dk_16 62 (dk_at dksX4_compileFactor_5 14 rfl rfl)
theorem dX4_compileFactor_132 : decode cX4_compileFactor 132 = .ok (.invokevirtual 317, 3) := dk_182 1 61 (dk_at dksX4_compileFactor_5 16 rfl rfl)
theorem dX4_compileFactor_135 : decode cX4_compileFactor 135 = .ok (.ifCond .eq 7, 3) := dk_153 0 7 (dk_at dksX4_compileFactor_5 19 rfl rfl)
theorem dX4_compileFactor_138 : decode cX4_compileFactor 138 = .ok (.iconst 1, 1) := dk_4 (dk_at dksX4_compileFactor_5 22 rfl rfl)
theorem dX4_compileFactor_139 : decode cX4_compileFactor 139 = .ok (.goto 4, 3) := dk_167 0 4 (dk_at dksX4_compileFactor_6 0 rfl rfl)
theorem dX4_compileFactor_142 : decode cX4_compileFactor 142 = .ok (.iconst 0, 1) := dk_3 (dk_at dksX4_compileFactor_6 3 rfl rfl)
theorem dX4_compileFactor_143 : decode cX4_compileFactor 143 = .ok (.iconst 1, 1) := dk_4 (dk_at dksX4_compileFactor_6 4 rfl rfl)
theorem dX4_compileFactor_144 : decode cX4_compileFactor 144 = .ok (.invokevirtual 310, 3) := dk_182 1 54 (dk_at dksX4_compileFactor_6 5 rfl rfl)
theorem dX4_compileFactor_147 : decode cX4_compileFactor 147 = .ok (.aload_n 0, 1) := dk_42 (dk_at dksX4_compileFactor_6 8 rfl rfl)
theorem dX4_compileFactor_148 : decode cX4_compileFactor 148 = .ok (.invokevirtual 314, 3) := dk_182 1 58 (dk_at dksX4_compileFactor_6 9 rfl rfl)
theorem dX4_compileFactor_151 : decode cX4_compileFactor 151 = .ok (.aload_n 0, 1) := dk_42 (dk_at dksX4_compileFactor_6 12 rfl rfl)
theorem dX4_compileFactor_152 : decode cX4_compileFactor 152 = .ok (.invokevirtual 415, 3) := dk_182 1 159 (dk_at dksX4_compileFactor_6 13 rfl rfl)
theorem dX4_compileFactor_155 : decode cX4_compileFactor 155 = .ok (.aload_n 0, 1) := dk_42 (dk_at dksX4_compileFactor_6 16 rfl rfl)
theorem dX4_compileFactor_156 : decode cX4_compileFactor 156 = .ok (.iload_n 1, 1) := dk_27 (dk_at dksX4_compileFactor_6 17 rfl rfl)
theorem dX4_compileFactor_157 : decode cX4_compileFactor 157 = .ok (.invokevirtual 401, 3) := dk_182 1 145 (dk_at dksX4_compileFactor_6 18 rfl rfl)
theorem dX4_compileFactor_160 : decode cX4_compileFactor 160 = .ok (.return_, 1) := dk_177 (dk_at dksX4_compileFactor_6 21 rfl rfl)
abbrev cX4_enter : ByteArray := prog_24_method_116_code
def yX4_enter : MethodName := ⟨RX4, "enter", "()V"⟩
def dkwX4_enter_1 : List UInt8 := [4, 96, 181, 1, 31, 42, 182, 1, 58, 177]
abbrev dktX4_enter_1 : List UInt8 := dkwX4_enter_1 ++ []
def dkwX4_enter_0 : List UInt8 := [42, 42, 180, 1, 31, 16, 6, 162, 0, 7, 4, 167, 0, 4, 3, 6, 182, 1, 54, 42, 89, 180, 1, 31]
abbrev dktX4_enter_0 : List UInt8 := dkwX4_enter_0 ++ dktX4_enter_1
theorem dksX4_enter_0 : cX4_enter.data.toList.drop 0 = dktX4_enter_0 := by decide +kernel
theorem dksX4_enter_1 : cX4_enter.data.toList.drop 24 = dktX4_enter_1 := dk_seg dksX4_enter_0 24 rfl rfl
theorem dX4_enter_0 : decode cX4_enter 0 = .ok (.aload_n 0, 1) := dk_42 (dk_at dksX4_enter_0 0 rfl rfl)
theorem dX4_enter_1 : decode cX4_enter 1 = .ok (.aload_n 0, 1) := dk_42 (dk_at dksX4_enter_0 1 rfl rfl)
theorem dX4_enter_2 : decode cX4_enter 2 = .ok (.getfield 287, 3) := dk_180 1 31 (dk_at dksX4_enter_0 2 rfl rfl)
theorem dX4_enter_5 : decode cX4_enter 5 = .ok (.bipush 6, 2) := dk_16 6 (dk_at dksX4_enter_0 5 rfl rfl)
theorem dX4_enter_7 : decode cX4_enter 7 = .ok (.if_icmp .ge 7, 3) := dk_162 0 7 (dk_at dksX4_enter_0 7 rfl rfl)
theorem dX4_enter_10 : decode cX4_enter 10 = .ok (.iconst 1, 1) := dk_4 (dk_at dksX4_enter_0 10 rfl rfl)
theorem dX4_enter_11 : decode cX4_enter 11 = .ok (.goto 4, 3) := dk_167 0 4 (dk_at dksX4_enter_0 11 rfl rfl)
theorem dX4_enter_14 : decode cX4_enter 14 = .ok (.iconst 0, 1) := dk_3 (dk_at dksX4_enter_0 14 rfl rfl)
theorem dX4_enter_15 : decode cX4_enter 15 = .ok (.iconst 3, 1) := dk_6 (dk_at dksX4_enter_0 15 rfl rfl)
theorem dX4_enter_16 : decode cX4_enter 16 = .ok (.invokevirtual 310, 3) := dk_182 1 54 (dk_at dksX4_enter_0 16 rfl rfl)
theorem dX4_enter_19 : decode cX4_enter 19 = .ok (.aload_n 0, 1) := dk_42 (dk_at dksX4_enter_0 19 rfl rfl)
theorem dX4_enter_20 : decode cX4_enter 20 = .ok (.dup, 1) := dk_89 (dk_at dksX4_enter_0 20 rfl rfl)
theorem dX4_enter_21 : decode cX4_enter 21 = .ok (.getfield 287, 3) := dk_180 1 31 (dk_at dksX4_enter_0 21 rfl rfl)
theorem dX4_enter_24 : decode cX4_enter 24 = .ok (.iconst 1, 1) := dk_4 (dk_at dksX4_enter_1 0 rfl rfl)
theorem dX4_enter_25 : decode cX4_enter 25 = .ok (.iadd, 1) := dk_96 (dk_at dksX4_enter_1 1 rfl rfl)
theorem dX4_enter_26 : decode cX4_enter 26 = .ok (.putfield 287, 3) := dk_181 1 31 (dk_at dksX4_enter_1 2 rfl rfl)
theorem dX4_enter_29 : decode cX4_enter 29 = .ok (.aload_n 0, 1) := dk_42 (dk_at dksX4_enter_1 5 rfl rfl)
theorem dX4_enter_30 : decode cX4_enter 30 = .ok (.invokevirtual 314, 3) := dk_182 1 58 (dk_at dksX4_enter_1 6 rfl rfl)
theorem dX4_enter_33 : decode cX4_enter 33 = .ok (.return_, 1) := dk_177 (dk_at dksX4_enter_1 9 rfl rfl)
abbrev cX4_emit : ByteArray := prog_24_method_115_code
def yX4_emit : MethodName := ⟨RX4, "emit", "(I)V"⟩
def dkwX4_emit_1 : List UInt8 := [181, 1, 142, 177]
abbrev dktX4_emit_1 : List UInt8 := dkwX4_emit_1 ++ []
def dkwX4_emit_0 : List UInt8 := [42, 180, 1, 28, 154, 0, 23, 42, 180, 0, 66, 42, 180, 1, 142, 27, 79, 42, 89, 180, 1, 142, 4, 96]
abbrev dktX4_emit_0 : List UInt8 := dkwX4_emit_0 ++ dktX4_emit_1
theorem dksX4_emit_0 : cX4_emit.data.toList.drop 0 = dktX4_emit_0 := by decide +kernel
theorem dksX4_emit_1 : cX4_emit.data.toList.drop 24 = dktX4_emit_1 := dk_seg dksX4_emit_0 24 rfl rfl
theorem dX4_emit_0 : decode cX4_emit 0 = .ok (.aload_n 0, 1) := dk_42 (dk_at dksX4_emit_0 0 rfl rfl)
theorem dX4_emit_1 : decode cX4_emit 1 = .ok (.getfield 284, 3) := dk_180 1 28 (dk_at dksX4_emit_0 1 rfl rfl)
theorem dX4_emit_4 : decode cX4_emit 4 = .ok (.ifCond .ne 23, 3) := dk_154 0 23 (dk_at dksX4_emit_0 4 rfl rfl)
theorem dX4_emit_7 : decode cX4_emit 7 = .ok (.aload_n 0, 1) := dk_42 (dk_at dksX4_emit_0 7 rfl rfl)
theorem dX4_emit_8 : decode cX4_emit 8 = .ok (.getfield 66, 3) := dk_180 0 66 (dk_at dksX4_emit_0 8 rfl rfl)
theorem dX4_emit_11 : decode cX4_emit 11 = .ok (.aload_n 0, 1) := dk_42 (dk_at dksX4_emit_0 11 rfl rfl)
theorem dX4_emit_12 : decode cX4_emit 12 = .ok (.getfield 398, 3) := dk_180 1 142 (dk_at dksX4_emit_0 12 rfl rfl)
theorem dX4_emit_15 : decode cX4_emit 15 = .ok (.iload_n 1, 1) := dk_27 (dk_at dksX4_emit_0 15 rfl rfl)
theorem dX4_emit_16 : decode cX4_emit 16 = .ok (.iastore, 1) := dk_79 (dk_at dksX4_emit_0 16 rfl rfl)
theorem dX4_emit_17 : decode cX4_emit 17 = .ok (.aload_n 0, 1) := dk_42 (dk_at dksX4_emit_0 17 rfl rfl)
theorem dX4_emit_18 : decode cX4_emit 18 = .ok (.dup, 1) := dk_89 (dk_at dksX4_emit_0 18 rfl rfl)
theorem dX4_emit_19 : decode cX4_emit 19 = .ok (.getfield 398, 3) := dk_180 1 142 (dk_at dksX4_emit_0 19 rfl rfl)
theorem dX4_emit_22 : decode cX4_emit 22 = .ok (.iconst 1, 1) := dk_4 (dk_at dksX4_emit_0 22 rfl rfl)
theorem dX4_emit_23 : decode cX4_emit 23 = .ok (.iadd, 1) := dk_96 (dk_at dksX4_emit_0 23 rfl rfl)
theorem dX4_emit_24 : decode cX4_emit 24 = .ok (.putfield 398, 3) := dk_181 1 142 (dk_at dksX4_emit_1 0 rfl rfl)
theorem dX4_emit_27 : decode cX4_emit 27 = .ok (.return_, 1) := dk_177 (dk_at dksX4_emit_1 3 rfl rfl)
abbrev cX4_compileValue : ByteArray := prog_24_method_117_code
def yX4_compileValue : MethodName := ⟨RX4, "compileValue", "()V"⟩
def dkwX4_compileValue_3 : List UInt8 := [167, 0, 4, 3, 4, 182, 1, 54, 42, 2, 27, 100, 182, 1, 145, 42, 182, 1, 58, 177]
abbrev dktX4_compileValue_3 : List UInt8 := dkwX4_compileValue_3 ++ []
def dkwX4_compileValue_2 : List UInt8 := [182, 1, 50, 154, 0, 9, 132, 1, 1, 167, 255, 231, 42, 27, 42, 180, 0, 62, 190, 162, 0, 7, 4]
abbrev dktX4_compileValue_2 : List UInt8 := dkwX4_compileValue_2 ++ dktX4_compileValue_3
def dkwX4_compileValue_1 : List UInt8 := [182, 1, 145, 177, 3, 60, 27, 42, 180, 0, 62, 190, 162, 0, 22, 42, 42, 180, 0, 62, 27, 50]
abbrev dktX4_compileValue_1 : List UInt8 := dkwX4_compileValue_1 ++ dktX4_compileValue_2
def dkwX4_compileValue_0 : List UInt8 := [42, 180, 1, 28, 154, 0, 11, 42, 180, 1, 19, 5, 160, 0, 16, 42, 42, 3, 17, 39, 15, 182, 1, 77]
abbrev dktX4_compileValue_0 : List UInt8 := dkwX4_compileValue_0 ++ dktX4_compileValue_1
theorem dksX4_compileValue_0 : cX4_compileValue.data.toList.drop 0 = dktX4_compileValue_0 := by decide +kernel
theorem dksX4_compileValue_1 : cX4_compileValue.data.toList.drop 24 = dktX4_compileValue_1 := dk_seg dksX4_compileValue_0 24 rfl rfl
theorem dksX4_compileValue_2 : cX4_compileValue.data.toList.drop 46 = dktX4_compileValue_2 := dk_seg dksX4_compileValue_1 22 rfl rfl
theorem dksX4_compileValue_3 : cX4_compileValue.data.toList.drop 69 = dktX4_compileValue_3 := dk_seg dksX4_compileValue_2 23 rfl rfl
theorem dX4_compileValue_0 : decode cX4_compileValue 0 = .ok (.aload_n 0, 1) := dk_42 (dk_at dksX4_compileValue_0 0 rfl rfl)
theorem dX4_compileValue_1 : decode cX4_compileValue 1 = .ok (.getfield 284, 3) := dk_180 1 28 (dk_at dksX4_compileValue_0 1 rfl rfl)
theorem dX4_compileValue_4 : decode cX4_compileValue 4 = .ok (.ifCond .ne 11, 3) := dk_154 0 11 (dk_at dksX4_compileValue_0 4 rfl rfl)
theorem dX4_compileValue_7 : decode cX4_compileValue 7 = .ok (.aload_n 0, 1) := dk_42 (dk_at dksX4_compileValue_0 7 rfl rfl)
theorem dX4_compileValue_8 : decode cX4_compileValue 8 = .ok (.getfield 275, 3) := dk_180 1 19 (dk_at dksX4_compileValue_0 8 rfl rfl)
theorem dX4_compileValue_11 : decode cX4_compileValue 11 = .ok (.iconst 2, 1) := dk_5 (dk_at dksX4_compileValue_0 11 rfl rfl)
theorem dX4_compileValue_12 : decode cX4_compileValue 12 = .ok (.if_icmp .ne 16, 3) := dk_160 0 16 (dk_at dksX4_compileValue_0 12 rfl rfl)
theorem dX4_compileValue_15 : decode cX4_compileValue 15 = .ok (.aload_n 0, 1) := dk_42 (dk_at dksX4_compileValue_0 15 rfl rfl)
theorem dX4_compileValue_16 : decode cX4_compileValue 16 = .ok (.aload_n 0, 1) := dk_42 (dk_at dksX4_compileValue_0 16 rfl rfl)
theorem dX4_compileValue_17 : decode cX4_compileValue 17 = .ok (.iconst 0, 1) := dk_3 (dk_at dksX4_compileValue_0 17 rfl rfl)
theorem dX4_compileValue_18 : decode cX4_compileValue 18 = .ok (.sipush 9999, 3) := dk_17 39 15 (dk_at dksX4_compileValue_0 18 rfl rfl)
theorem dX4_compileValue_21 : decode cX4_compileValue 21 = .ok (.invokevirtual 333, 3) := dk_182 1 77 (dk_at dksX4_compileValue_0 21 rfl rfl)
theorem dX4_compileValue_24 : decode cX4_compileValue 24 = .ok (.invokevirtual 401, 3) := dk_182 1 145 (dk_at dksX4_compileValue_1 0 rfl rfl)
theorem dX4_compileValue_27 : decode cX4_compileValue 27 = .ok (.return_, 1) := dk_177 (dk_at dksX4_compileValue_1 3 rfl rfl)
theorem dX4_compileValue_28 : decode cX4_compileValue 28 = .ok (.iconst 0, 1) := dk_3 (dk_at dksX4_compileValue_1 4 rfl rfl)
theorem dX4_compileValue_29 : decode cX4_compileValue 29 = .ok (.istore_n 1, 1) := dk_60 (dk_at dksX4_compileValue_1 5 rfl rfl)
theorem dX4_compileValue_30 : decode cX4_compileValue 30 = .ok (.iload_n 1, 1) := dk_27 (dk_at dksX4_compileValue_1 6 rfl rfl)
theorem dX4_compileValue_31 : decode cX4_compileValue 31 = .ok (.aload_n 0, 1) := dk_42 (dk_at dksX4_compileValue_1 7 rfl rfl)
theorem dX4_compileValue_32 : decode cX4_compileValue 32 = .ok (.getfield 62, 3) := dk_180 0 62 (dk_at dksX4_compileValue_1 8 rfl rfl)
theorem dX4_compileValue_35 : decode cX4_compileValue 35 = .ok (.arraylength, 1) := dk_190 (dk_at dksX4_compileValue_1 11 rfl rfl)
theorem dX4_compileValue_36 : decode cX4_compileValue 36 = .ok (.if_icmp .ge 22, 3) := dk_162 0 22 (dk_at dksX4_compileValue_1 12 rfl rfl)
theorem dX4_compileValue_39 : decode cX4_compileValue 39 = .ok (.aload_n 0, 1) := dk_42 (dk_at dksX4_compileValue_1 15 rfl rfl)
theorem dX4_compileValue_40 : decode cX4_compileValue 40 = .ok (.aload_n 0, 1) := dk_42 (dk_at dksX4_compileValue_1 16 rfl rfl)
theorem dX4_compileValue_41 : decode cX4_compileValue 41 = .ok (.getfield 62, 3) := dk_180 0 62 (dk_at dksX4_compileValue_1 17 rfl rfl)
theorem dX4_compileValue_44 : decode cX4_compileValue 44 = .ok (.iload_n 1, 1) := dk_27 (dk_at dksX4_compileValue_1 20 rfl rfl)
theorem dX4_compileValue_45 : decode cX4_compileValue 45 = .ok (.aaload, 1) := dk_50 (dk_at dksX4_compileValue_1 21 rfl rfl)
theorem dX4_compileValue_46 : decode cX4_compileValue 46 = .ok (.invokevirtual 306, 3) := dk_182 1 50 (dk_at dksX4_compileValue_2 0 rfl rfl)
theorem dX4_compileValue_49 : decode cX4_compileValue 49 = .ok (.ifCond .ne 9, 3) := dk_154 0 9 (dk_at dksX4_compileValue_2 3 rfl rfl)
theorem dX4_compileValue_52 : decode cX4_compileValue 52 = .ok (.iinc 1 1, 3) := dk_132 1 1 (dk_at dksX4_compileValue_2 6 rfl rfl)
theorem dX4_compileValue_55 : decode cX4_compileValue 55 = .ok (.goto (-25), 3) := dk_167 255 231 (dk_at dksX4_compileValue_2 9 rfl rfl)
theorem dX4_compileValue_58 : decode cX4_compileValue 58 = .ok (.aload_n 0, 1) := dk_42 (dk_at dksX4_compileValue_2 12 rfl rfl)
theorem dX4_compileValue_59 : decode cX4_compileValue 59 = .ok (.iload_n 1, 1) := dk_27 (dk_at dksX4_compileValue_2 13 rfl rfl)
theorem dX4_compileValue_60 : decode cX4_compileValue 60 = .ok (.aload_n 0, 1) := dk_42 (dk_at dksX4_compileValue_2 14 rfl rfl)
theorem dX4_compileValue_61 : decode cX4_compileValue 61 = .ok (.getfield 62, 3) := dk_180 0 62 (dk_at dksX4_compileValue_2 15 rfl rfl)
theorem dX4_compileValue_64 : decode cX4_compileValue 64 = .ok (.arraylength, 1) := dk_190 (dk_at dksX4_compileValue_2 18 rfl rfl)
theorem dX4_compileValue_65 : decode cX4_compileValue 65 = .ok (.if_icmp .ge 7, 3) := dk_162 0 7 (dk_at dksX4_compileValue_2 19 rfl rfl)
theorem dX4_compileValue_68 : decode cX4_compileValue 68 = .ok (.iconst 1, 1) := dk_4 (dk_at dksX4_compileValue_2 22 rfl rfl)
theorem dX4_compileValue_69 : decode cX4_compileValue 69 = .ok (.goto 4, 3) := dk_167 0 4 (dk_at dksX4_compileValue_3 0 rfl rfl)
theorem dX4_compileValue_72 : decode cX4_compileValue 72 = .ok (.iconst 0, 1) := dk_3 (dk_at dksX4_compileValue_3 3 rfl rfl)
theorem dX4_compileValue_73 : decode cX4_compileValue 73 = .ok (.iconst 1, 1) := dk_4 (dk_at dksX4_compileValue_3 4 rfl rfl)
theorem dX4_compileValue_74 : decode cX4_compileValue 74 = .ok (.invokevirtual 310, 3) := dk_182 1 54 (dk_at dksX4_compileValue_3 5 rfl rfl)
theorem dX4_compileValue_77 : decode cX4_compileValue 77 = .ok (.aload_n 0, 1) := dk_42 (dk_at dksX4_compileValue_3 8 rfl rfl)
theorem dX4_compileValue_78 : decode cX4_compileValue 78 = .ok (.iconst (-1), 1) := dk_2 (dk_at dksX4_compileValue_3 9 rfl rfl)
theorem dX4_compileValue_79 : decode cX4_compileValue 79 = .ok (.iload_n 1, 1) := dk_27 (dk_at dksX4_compileValue_3 10 rfl rfl)
theorem dX4_compileValue_80 : decode cX4_compileValue 80 = .ok (.isub, 1) := dk_100 (dk_at dksX4_compileValue_3 11 rfl rfl)
theorem dX4_compileValue_81 : decode cX4_compileValue 81 = .ok (.invokevirtual 401, 3) := dk_182 1 145 (dk_at dksX4_compileValue_3 12 rfl rfl)
theorem dX4_compileValue_84 : decode cX4_compileValue 84 = .ok (.aload_n 0, 1) := dk_42 (dk_at dksX4_compileValue_3 15 rfl rfl)
theorem dX4_compileValue_85 : decode cX4_compileValue 85 = .ok (.invokevirtual 314, 3) := dk_182 1 58 (dk_at dksX4_compileValue_3 16 rfl rfl)
theorem dX4_compileValue_88 : decode cX4_compileValue 88 = .ok (.return_, 1) := dk_177 (dk_at dksX4_compileValue_3 19 rfl rfl)
abbrev cX4_holdsFor : ByteArray := prog_24_method_123_code
def yX4_holdsFor : MethodName := ⟨RX4, "holdsFor", "(I)Z"⟩
def dkwX4_holdsFor_5 : List UInt8 := [132, 3, 1, 167, 255, 139, 42, 180, 0, 69, 3, 47, 10, 148, 154, 0, 7, 4, 167, 0, 4, 3, 172]
abbrev dktX4_holdsFor_5 : List UInt8 := dkwX4_holdsFor_5 ++ []
def dkwX4_holdsFor_4 : List UInt8 := [4, 100, 21, 4, 42, 180, 0, 69, 28, 4, 100, 47, 42, 180, 0, 69, 28, 47, 184, 1, 172, 80]
abbrev dktX4_holdsFor_4 : List UInt8 := dkwX4_holdsFor_4 ++ dktX4_holdsFor_5
def dkwX4_holdsFor_3 : List UInt8 := [27, 2, 21, 4, 100, 182, 1, 169, 133, 80, 132, 2, 1, 167, 0, 33, 132, 2, 255, 42, 180, 0, 69, 28]
abbrev dktX4_holdsFor_3 : List UInt8 := dkwX4_holdsFor_3 ++ dktX4_holdsFor_4
def dkwX4_holdsFor_2 : List UInt8 := [21, 4, 16, 236, 164, 0, 36, 42, 180, 0, 69, 28, 21, 4, 155, 0, 9, 21, 4, 133, 167, 0, 13, 42]
abbrev dktX4_holdsFor_2 : List UInt8 := dkwX4_holdsFor_2 ++ dktX4_holdsFor_3
def dkwX4_holdsFor_1 : List UInt8 := [160, 0, 24, 42, 180, 0, 69, 28, 4, 100, 10, 42, 180, 0, 69, 28, 4, 100, 47, 101, 80, 167, 0, 73]
abbrev dktX4_holdsFor_1 : List UInt8 := dkwX4_holdsFor_1 ++ dktX4_holdsFor_2
def dkwX4_holdsFor_0 : List UInt8 := [3, 61, 3, 62, 29, 42, 180, 1, 142, 162, 0, 115, 42, 180, 0, 66, 29, 46, 54, 4, 21, 4, 16, 233]
abbrev dktX4_holdsFor_0 : List UInt8 := dkwX4_holdsFor_0 ++ dktX4_holdsFor_1
theorem dksX4_holdsFor_0 : cX4_holdsFor.data.toList.drop 0 = dktX4_holdsFor_0 := by decide +kernel
theorem dksX4_holdsFor_1 : cX4_holdsFor.data.toList.drop 24 = dktX4_holdsFor_1 := dk_seg dksX4_holdsFor_0 24 rfl rfl
theorem dksX4_holdsFor_2 : cX4_holdsFor.data.toList.drop 48 = dktX4_holdsFor_2 := dk_seg dksX4_holdsFor_1 24 rfl rfl
theorem dksX4_holdsFor_3 : cX4_holdsFor.data.toList.drop 72 = dktX4_holdsFor_3 := dk_seg dksX4_holdsFor_2 24 rfl rfl
theorem dksX4_holdsFor_4 : cX4_holdsFor.data.toList.drop 96 = dktX4_holdsFor_4 := dk_seg dksX4_holdsFor_3 24 rfl rfl
theorem dksX4_holdsFor_5 : cX4_holdsFor.data.toList.drop 118 = dktX4_holdsFor_5 := dk_seg dksX4_holdsFor_4 22 rfl rfl
theorem dX4_holdsFor_0 : decode cX4_holdsFor 0 = .ok (.iconst 0, 1) := dk_3 (dk_at dksX4_holdsFor_0 0 rfl rfl)
theorem dX4_holdsFor_1 : decode cX4_holdsFor 1 = .ok (.istore_n 2, 1) := dk_61 (dk_at dksX4_holdsFor_0 1 rfl rfl)
theorem dX4_holdsFor_2 : decode cX4_holdsFor 2 = .ok (.iconst 0, 1) := dk_3 (dk_at dksX4_holdsFor_0 2 rfl rfl)
theorem dX4_holdsFor_3 : decode cX4_holdsFor 3 = .ok (.istore_n 3, 1) := dk_62 (dk_at dksX4_holdsFor_0 3 rfl rfl)
theorem dX4_holdsFor_4 : decode cX4_holdsFor 4 = .ok (.iload_n 3, 1) := dk_29 (dk_at dksX4_holdsFor_0 4 rfl rfl)
theorem dX4_holdsFor_5 : decode cX4_holdsFor 5 = .ok (.aload_n 0, 1) := dk_42 (dk_at dksX4_holdsFor_0 5 rfl rfl)
theorem dX4_holdsFor_6 : decode cX4_holdsFor 6 = .ok (.getfield 398, 3) := dk_180 1 142 (dk_at dksX4_holdsFor_0 6 rfl rfl)
theorem dX4_holdsFor_9 : decode cX4_holdsFor 9 = .ok (.if_icmp .ge 115, 3) := dk_162 0 115 (dk_at dksX4_holdsFor_0 9 rfl rfl)
theorem dX4_holdsFor_12 : decode cX4_holdsFor 12 = .ok (.aload_n 0, 1) := dk_42 (dk_at dksX4_holdsFor_0 12 rfl rfl)
theorem dX4_holdsFor_13 : decode cX4_holdsFor 13 = .ok (.getfield 66, 3) := dk_180 0 66 (dk_at dksX4_holdsFor_0 13 rfl rfl)
theorem dX4_holdsFor_16 : decode cX4_holdsFor 16 = .ok (.iload_n 3, 1) := dk_29 (dk_at dksX4_holdsFor_0 16 rfl rfl)
theorem dX4_holdsFor_17 : decode cX4_holdsFor 17 = .ok (.iaload, 1) := dk_46 (dk_at dksX4_holdsFor_0 17 rfl rfl)
theorem dX4_holdsFor_18 : decode cX4_holdsFor 18 = .ok (.istore 4, 2) := dk_54 4 (dk_at dksX4_holdsFor_0 18 rfl rfl)
theorem dX4_holdsFor_20 : decode cX4_holdsFor 20 = .ok (.iload 4, 2) := dk_21 4 (dk_at dksX4_holdsFor_0 20 rfl rfl)
theorem dX4_holdsFor_22 : decode cX4_holdsFor 22 = .ok (.bipush (-23), 2) := dk_16 233 (dk_at dksX4_holdsFor_0 22 rfl rfl)
theorem dX4_holdsFor_24 : decode cX4_holdsFor 24 = .ok (.if_icmp .ne 24, 3) := dk_160 0 24 (dk_at dksX4_holdsFor_1 0 rfl rfl)
theorem dX4_holdsFor_27 : decode cX4_holdsFor 27 = .ok (.aload_n 0, 1) := dk_42 (dk_at dksX4_holdsFor_1 3 rfl rfl)
theorem dX4_holdsFor_28 : decode cX4_holdsFor 28 = .ok (.getfield 69, 3) := dk_180 0 69 (dk_at dksX4_holdsFor_1 4 rfl rfl)
theorem dX4_holdsFor_31 : decode cX4_holdsFor 31 = .ok (.iload_n 2, 1) := dk_28 (dk_at dksX4_holdsFor_1 7 rfl rfl)
theorem dX4_holdsFor_32 : decode cX4_holdsFor 32 = .ok (.iconst 1, 1) := dk_4 (dk_at dksX4_holdsFor_1 8 rfl rfl)
theorem dX4_holdsFor_33 : decode cX4_holdsFor 33 = .ok (.isub, 1) := dk_100 (dk_at dksX4_holdsFor_1 9 rfl rfl)
theorem dX4_holdsFor_34 : decode cX4_holdsFor 34 = .ok (.lconst 1, 1) := dk_10 (dk_at dksX4_holdsFor_1 10 rfl rfl)
theorem dX4_holdsFor_35 : decode cX4_holdsFor 35 = .ok (.aload_n 0, 1) := dk_42 (dk_at dksX4_holdsFor_1 11 rfl rfl)
theorem dX4_holdsFor_36 : decode cX4_holdsFor 36 = .ok (.getfield 69, 3) := dk_180 0 69 (dk_at dksX4_holdsFor_1 12 rfl rfl)
theorem dX4_holdsFor_39 : decode cX4_holdsFor 39 = .ok (.iload_n 2, 1) := dk_28 (dk_at dksX4_holdsFor_1 15 rfl rfl)
theorem dX4_holdsFor_40 : decode cX4_holdsFor 40 = .ok (.iconst 1, 1) := dk_4 (dk_at dksX4_holdsFor_1 16 rfl rfl)
theorem dX4_holdsFor_41 : decode cX4_holdsFor 41 = .ok (.isub, 1) := dk_100 (dk_at dksX4_holdsFor_1 17 rfl rfl)
theorem dX4_holdsFor_42 : decode cX4_holdsFor 42 = .ok (.laload, 1) := dk_47 (dk_at dksX4_holdsFor_1 18 rfl rfl)
theorem dX4_holdsFor_43 : decode cX4_holdsFor 43 = .ok (.lsub, 1) := dk_101 (dk_at dksX4_holdsFor_1 19 rfl rfl)
theorem dX4_holdsFor_44 : decode cX4_holdsFor 44 = .ok (.lastore, 1) := dk_80 (dk_at dksX4_holdsFor_1 20 rfl rfl)
theorem dX4_holdsFor_45 : decode cX4_holdsFor 45 = .ok (.goto 73, 3) := dk_167 0 73 (dk_at dksX4_holdsFor_1 21 rfl rfl)
theorem dX4_holdsFor_48 : decode cX4_holdsFor 48 = .ok (.iload 4, 2) := dk_21 4 (dk_at dksX4_holdsFor_2 0 rfl rfl)
theorem dX4_holdsFor_50 : decode cX4_holdsFor 50 = .ok (.bipush (-20), 2) := dk_16 236 (dk_at dksX4_holdsFor_2 2 rfl rfl)
theorem dX4_holdsFor_52 : decode cX4_holdsFor 52 = .ok (.if_icmp .le 36, 3) := dk_164 0 36 (dk_at dksX4_holdsFor_2 4 rfl rfl)
theorem dX4_holdsFor_55 : decode cX4_holdsFor 55 = .ok (.aload_n 0, 1) := dk_42 (dk_at dksX4_holdsFor_2 7 rfl rfl)
theorem dX4_holdsFor_56 : decode cX4_holdsFor 56 = .ok (.getfield 69, 3) := dk_180 0 69 (dk_at dksX4_holdsFor_2 8 rfl rfl)
theorem dX4_holdsFor_59 : decode cX4_holdsFor 59 = .ok (.iload_n 2, 1) := dk_28 (dk_at dksX4_holdsFor_2 11 rfl rfl)
theorem dX4_holdsFor_60 : decode cX4_holdsFor 60 = .ok (.iload 4, 2) := dk_21 4 (dk_at dksX4_holdsFor_2 12 rfl rfl)
theorem dX4_holdsFor_62 : decode cX4_holdsFor 62 = .ok (.ifCond .lt 9, 3) := dk_155 0 9 (dk_at dksX4_holdsFor_2 14 rfl rfl)
theorem dX4_holdsFor_65 : decode cX4_holdsFor 65 = .ok (.iload 4, 2) := dk_21 4 (dk_at dksX4_holdsFor_2 17 rfl rfl)
theorem dX4_holdsFor_67 : decode cX4_holdsFor 67 = .ok (.i2l, 1) := dk_133 (dk_at dksX4_holdsFor_2 19 rfl rfl)
theorem dX4_holdsFor_68 : decode cX4_holdsFor 68 = .ok (.goto 13, 3) := dk_167 0 13 (dk_at dksX4_holdsFor_2 20 rfl rfl)
theorem dX4_holdsFor_71 : decode cX4_holdsFor 71 = .ok (.aload_n 0, 1) := dk_42 (dk_at dksX4_holdsFor_2 23 rfl rfl)
theorem dX4_holdsFor_72 : decode cX4_holdsFor 72 = .ok (.iload_n 1, 1) := dk_27 (dk_at dksX4_holdsFor_3 0 rfl rfl)
theorem dX4_holdsFor_73 : decode cX4_holdsFor 73 = .ok (.iconst (-1), 1) := dk_2 (dk_at dksX4_holdsFor_3 1 rfl rfl)
theorem dX4_holdsFor_74 : decode cX4_holdsFor 74 = .ok (.iload 4, 2) := dk_21 4 (dk_at dksX4_holdsFor_3 2 rfl rfl)
theorem dX4_holdsFor_76 : decode cX4_holdsFor 76 = .ok (.isub, 1) := dk_100 (dk_at dksX4_holdsFor_3 4 rfl rfl)
theorem dX4_holdsFor_77 : decode cX4_holdsFor 77 = .ok (.invokevirtual 425, 3) := dk_182 1 169 (dk_at dksX4_holdsFor_3 5 rfl rfl)
theorem dX4_holdsFor_80 : decode cX4_holdsFor 80 = .ok (.i2l, 1) := dk_133 (dk_at dksX4_holdsFor_3 8 rfl rfl)
theorem dX4_holdsFor_81 : decode cX4_holdsFor 81 = .ok (.lastore, 1) := dk_80 (dk_at dksX4_holdsFor_3 9 rfl rfl)
theorem dX4_holdsFor_82 : decode cX4_holdsFor 82 = .ok (.iinc 2 1, 3) := dk_132 2 1 (dk_at dksX4_holdsFor_3 10 rfl rfl)
theorem dX4_holdsFor_85 : decode cX4_holdsFor 85 = .ok (.goto 33, 3) := dk_167 0 33 (dk_at dksX4_holdsFor_3 13 rfl rfl)
theorem dX4_holdsFor_88 : decode cX4_holdsFor 88 = .ok (.iinc 2 (-1), 3) := dk_132 2 255 (dk_at dksX4_holdsFor_3 16 rfl rfl)
theorem dX4_holdsFor_91 : decode cX4_holdsFor 91 = .ok (.aload_n 0, 1) := dk_42 (dk_at dksX4_holdsFor_3 19 rfl rfl)
theorem dX4_holdsFor_92 : decode cX4_holdsFor 92 = .ok (.getfield 69, 3) := dk_180 0 69 (dk_at dksX4_holdsFor_3 20 rfl rfl)
theorem dX4_holdsFor_95 : decode cX4_holdsFor 95 = .ok (.iload_n 2, 1) := dk_28 (dk_at dksX4_holdsFor_3 23 rfl rfl)
theorem dX4_holdsFor_96 : decode cX4_holdsFor 96 = .ok (.iconst 1, 1) := dk_4 (dk_at dksX4_holdsFor_4 0 rfl rfl)
theorem dX4_holdsFor_97 : decode cX4_holdsFor 97 = .ok (.isub, 1) := dk_100 (dk_at dksX4_holdsFor_4 1 rfl rfl)
theorem dX4_holdsFor_98 : decode cX4_holdsFor 98 = .ok (.iload 4, 2) := dk_21 4 (dk_at dksX4_holdsFor_4 2 rfl rfl)
theorem dX4_holdsFor_100 : decode cX4_holdsFor 100 = .ok (.aload_n 0, 1) := dk_42 (dk_at dksX4_holdsFor_4 4 rfl rfl)
theorem dX4_holdsFor_101 : decode cX4_holdsFor 101 = .ok (.getfield 69, 3) := dk_180 0 69 (dk_at dksX4_holdsFor_4 5 rfl rfl)
theorem dX4_holdsFor_104 : decode cX4_holdsFor 104 = .ok (.iload_n 2, 1) := dk_28 (dk_at dksX4_holdsFor_4 8 rfl rfl)
theorem dX4_holdsFor_105 : decode cX4_holdsFor 105 = .ok (.iconst 1, 1) := dk_4 (dk_at dksX4_holdsFor_4 9 rfl rfl)
theorem dX4_holdsFor_106 : decode cX4_holdsFor 106 = .ok (.isub, 1) := dk_100 (dk_at dksX4_holdsFor_4 10 rfl rfl)
theorem dX4_holdsFor_107 : decode cX4_holdsFor 107 = .ok (.laload, 1) := dk_47 (dk_at dksX4_holdsFor_4 11 rfl rfl)
theorem dX4_holdsFor_108 : decode cX4_holdsFor 108 = .ok (.aload_n 0, 1) := dk_42 (dk_at dksX4_holdsFor_4 12 rfl rfl)
theorem dX4_holdsFor_109 : decode cX4_holdsFor 109 = .ok (.getfield 69, 3) := dk_180 0 69 (dk_at dksX4_holdsFor_4 13 rfl rfl)
theorem dX4_holdsFor_112 : decode cX4_holdsFor 112 = .ok (.iload_n 2, 1) := dk_28 (dk_at dksX4_holdsFor_4 16 rfl rfl)
theorem dX4_holdsFor_113 : decode cX4_holdsFor 113 = .ok (.laload, 1) := dk_47 (dk_at dksX4_holdsFor_4 17 rfl rfl)
theorem dX4_holdsFor_114 : decode cX4_holdsFor 114 = .ok (.invokestatic 428, 3) := dk_184 1 172 (dk_at dksX4_holdsFor_4 18 rfl rfl)
theorem dX4_holdsFor_117 : decode cX4_holdsFor 117 = .ok (.lastore, 1) := dk_80 (dk_at dksX4_holdsFor_4 21 rfl rfl)
theorem dX4_holdsFor_118 : decode cX4_holdsFor 118 = .ok (.iinc 3 1, 3) := dk_132 3 1 (dk_at dksX4_holdsFor_5 0 rfl rfl)
theorem dX4_holdsFor_121 : decode cX4_holdsFor 121 = .ok (.goto (-117), 3) := dk_167 255 139 (dk_at dksX4_holdsFor_5 3 rfl rfl)
theorem dX4_holdsFor_124 : decode cX4_holdsFor 124 = .ok (.aload_n 0, 1) := dk_42 (dk_at dksX4_holdsFor_5 6 rfl rfl)
theorem dX4_holdsFor_125 : decode cX4_holdsFor 125 = .ok (.getfield 69, 3) := dk_180 0 69 (dk_at dksX4_holdsFor_5 7 rfl rfl)
theorem dX4_holdsFor_128 : decode cX4_holdsFor 128 = .ok (.iconst 0, 1) := dk_3 (dk_at dksX4_holdsFor_5 10 rfl rfl)
theorem dX4_holdsFor_129 : decode cX4_holdsFor 129 = .ok (.laload, 1) := dk_47 (dk_at dksX4_holdsFor_5 11 rfl rfl)
theorem dX4_holdsFor_130 : decode cX4_holdsFor 130 = .ok (.lconst 1, 1) := dk_10 (dk_at dksX4_holdsFor_5 12 rfl rfl)
theorem dX4_holdsFor_131 : decode cX4_holdsFor 131 = .ok (.lcmp, 1) := dk_148 (dk_at dksX4_holdsFor_5 13 rfl rfl)
theorem dX4_holdsFor_132 : decode cX4_holdsFor 132 = .ok (.ifCond .ne 7, 3) := dk_154 0 7 (dk_at dksX4_holdsFor_5 14 rfl rfl)
theorem dX4_holdsFor_135 : decode cX4_holdsFor 135 = .ok (.iconst 1, 1) := dk_4 (dk_at dksX4_holdsFor_5 17 rfl rfl)
theorem dX4_holdsFor_136 : decode cX4_holdsFor 136 = .ok (.goto 4, 3) := dk_167 0 4 (dk_at dksX4_holdsFor_5 18 rfl rfl)
theorem dX4_holdsFor_139 : decode cX4_holdsFor 139 = .ok (.iconst 0, 1) := dk_3 (dk_at dksX4_holdsFor_5 21 rfl rfl)
theorem dX4_holdsFor_140 : decode cX4_holdsFor 140 = .ok (.ireturn, 1) := dk_172 (dk_at dksX4_holdsFor_5 22 rfl rfl)
abbrev cX4_property : ByteArray := prog_24_method_122_code
def yX4_property : MethodName := ⟨RX4, "property", "(II)I"⟩
def dkwX4_property_4 : List UInt8 := [182, 0, 130, 172, 42, 27, 28, 16, 7, 160, 0, 7, 4, 167, 0, 4, 5, 182, 0, 130, 172]
abbrev dktX4_property_4 : List UInt8 := dkwX4_property_4 ++ []
def dkwX4_property_3 : List UInt8 := [42, 27, 8, 182, 0, 130, 96, 172, 4, 42, 27, 16, 6, 182, 0, 130, 96, 172, 42, 27, 16, 9]
abbrev dktX4_property_3 : List UInt8 := dkwX4_property_3 ++ dktX4_property_4
def dkwX4_property_2 : List UInt8 := [27, 172, 42, 27, 3, 182, 0, 130, 172, 42, 27, 6, 182, 0, 130, 172, 42, 27, 7, 182, 0, 130, 172, 4]
abbrev dktX4_property_2 : List UInt8 := dkwX4_property_2 ++ dktX4_property_3
def dkwX4_property_1 : List UInt8 := [170, 0, 0, 0, 0, 0, 93, 0, 0, 0, 0, 0, 0, 0, 6, 0, 0, 0, 43, 0, 0, 0, 45, 0, 0, 0, 52, 0, 0, 0, 59, 0, 0, 0, 66, 0, 0, 0, 75, 0, 0, 0, 85]
abbrev dktX4_property_1 : List UInt8 := dkwX4_property_1 ++ dktX4_property_2
def dkwX4_property_0 : List UInt8 := [28]
abbrev dktX4_property_0 : List UInt8 := dkwX4_property_0 ++ dktX4_property_1
theorem dksX4_property_0 : cX4_property.data.toList.drop 0 = dktX4_property_0 := by decide +kernel
theorem dksX4_property_1 : cX4_property.data.toList.drop 1 = dktX4_property_1 := dk_seg dksX4_property_0 1 rfl rfl
theorem dksX4_property_2 : cX4_property.data.toList.drop 44 = dktX4_property_2 := dk_seg dksX4_property_1 43 rfl rfl
theorem dksX4_property_3 : cX4_property.data.toList.drop 68 = dktX4_property_3 := dk_seg dksX4_property_2 24 rfl rfl
theorem dksX4_property_4 : cX4_property.data.toList.drop 90 = dktX4_property_4 := dk_seg dksX4_property_3 22 rfl rfl
theorem dX4_property_0 : decode cX4_property 0 = .ok (.iload_n 2, 1) := dk_28 (dk_at dksX4_property_0 0 rfl rfl)
theorem dX4_property_1 : decode cX4_property 1 = .ok (.tableswitch 93 0 6 #[43, 45, 52, 59, 66, 75, 85], 43) := by decide +kernel
theorem dX4_property_44 : decode cX4_property 44 = .ok (.iload_n 1, 1) := dk_27 (dk_at dksX4_property_2 0 rfl rfl)
theorem dX4_property_45 : decode cX4_property 45 = .ok (.ireturn, 1) := dk_172 (dk_at dksX4_property_2 1 rfl rfl)
theorem dX4_property_46 : decode cX4_property 46 = .ok (.aload_n 0, 1) := dk_42 (dk_at dksX4_property_2 2 rfl rfl)
theorem dX4_property_47 : decode cX4_property 47 = .ok (.iload_n 1, 1) := dk_27 (dk_at dksX4_property_2 3 rfl rfl)
theorem dX4_property_48 : decode cX4_property 48 = .ok (.iconst 0, 1) := dk_3 (dk_at dksX4_property_2 4 rfl rfl)
theorem dX4_property_49 : decode cX4_property 49 = .ok (.invokevirtual 130, 3) := dk_182 0 130 (dk_at dksX4_property_2 5 rfl rfl)
theorem dX4_property_52 : decode cX4_property 52 = .ok (.ireturn, 1) := dk_172 (dk_at dksX4_property_2 8 rfl rfl)
theorem dX4_property_53 : decode cX4_property 53 = .ok (.aload_n 0, 1) := dk_42 (dk_at dksX4_property_2 9 rfl rfl)
theorem dX4_property_54 : decode cX4_property 54 = .ok (.iload_n 1, 1) := dk_27 (dk_at dksX4_property_2 10 rfl rfl)
theorem dX4_property_55 : decode cX4_property 55 = .ok (.iconst 3, 1) := dk_6 (dk_at dksX4_property_2 11 rfl rfl)
theorem dX4_property_56 : decode cX4_property 56 = .ok (.invokevirtual 130, 3) := dk_182 0 130 (dk_at dksX4_property_2 12 rfl rfl)
theorem dX4_property_59 : decode cX4_property 59 = .ok (.ireturn, 1) := dk_172 (dk_at dksX4_property_2 15 rfl rfl)
theorem dX4_property_60 : decode cX4_property 60 = .ok (.aload_n 0, 1) := dk_42 (dk_at dksX4_property_2 16 rfl rfl)
theorem dX4_property_61 : decode cX4_property 61 = .ok (.iload_n 1, 1) := dk_27 (dk_at dksX4_property_2 17 rfl rfl)
theorem dX4_property_62 : decode cX4_property 62 = .ok (.iconst 4, 1) := dk_7 (dk_at dksX4_property_2 18 rfl rfl)
theorem dX4_property_63 : decode cX4_property 63 = .ok (.invokevirtual 130, 3) := dk_182 0 130 (dk_at dksX4_property_2 19 rfl rfl)
theorem dX4_property_66 : decode cX4_property 66 = .ok (.ireturn, 1) := dk_172 (dk_at dksX4_property_2 22 rfl rfl)
theorem dX4_property_67 : decode cX4_property 67 = .ok (.iconst 1, 1) := dk_4 (dk_at dksX4_property_2 23 rfl rfl)
theorem dX4_property_68 : decode cX4_property 68 = .ok (.aload_n 0, 1) := dk_42 (dk_at dksX4_property_3 0 rfl rfl)
theorem dX4_property_69 : decode cX4_property 69 = .ok (.iload_n 1, 1) := dk_27 (dk_at dksX4_property_3 1 rfl rfl)
theorem dX4_property_70 : decode cX4_property 70 = .ok (.iconst 5, 1) := dk_8 (dk_at dksX4_property_3 2 rfl rfl)
theorem dX4_property_71 : decode cX4_property 71 = .ok (.invokevirtual 130, 3) := dk_182 0 130 (dk_at dksX4_property_3 3 rfl rfl)
theorem dX4_property_74 : decode cX4_property 74 = .ok (.iadd, 1) := dk_96 (dk_at dksX4_property_3 6 rfl rfl)
theorem dX4_property_75 : decode cX4_property 75 = .ok (.ireturn, 1) := dk_172 (dk_at dksX4_property_3 7 rfl rfl)
theorem dX4_property_76 : decode cX4_property 76 = .ok (.iconst 1, 1) := dk_4 (dk_at dksX4_property_3 8 rfl rfl)
theorem dX4_property_77 : decode cX4_property 77 = .ok (.aload_n 0, 1) := dk_42 (dk_at dksX4_property_3 9 rfl rfl)
theorem dX4_property_78 : decode cX4_property 78 = .ok (.iload_n 1, 1) := dk_27 (dk_at dksX4_property_3 10 rfl rfl)
theorem dX4_property_79 : decode cX4_property 79 = .ok (.bipush 6, 2) := dk_16 6 (dk_at dksX4_property_3 11 rfl rfl)
theorem dX4_property_81 : decode cX4_property 81 = .ok (.invokevirtual 130, 3) := dk_182 0 130 (dk_at dksX4_property_3 13 rfl rfl)
theorem dX4_property_84 : decode cX4_property 84 = .ok (.iadd, 1) := dk_96 (dk_at dksX4_property_3 16 rfl rfl)
theorem dX4_property_85 : decode cX4_property 85 = .ok (.ireturn, 1) := dk_172 (dk_at dksX4_property_3 17 rfl rfl)
theorem dX4_property_86 : decode cX4_property 86 = .ok (.aload_n 0, 1) := dk_42 (dk_at dksX4_property_3 18 rfl rfl)
theorem dX4_property_87 : decode cX4_property 87 = .ok (.iload_n 1, 1) := dk_27 (dk_at dksX4_property_3 19 rfl rfl)
theorem dX4_property_88 : decode cX4_property 88 = .ok (.bipush 9, 2) := dk_16 9 (dk_at dksX4_property_3 20 rfl rfl)
theorem dX4_property_90 : decode cX4_property 90 = .ok (.invokevirtual 130, 3) := dk_182 0 130 (dk_at dksX4_property_4 0 rfl rfl)
theorem dX4_property_93 : decode cX4_property 93 = .ok (.ireturn, 1) := dk_172 (dk_at dksX4_property_4 3 rfl rfl)
theorem dX4_property_94 : decode cX4_property 94 = .ok (.aload_n 0, 1) := dk_42 (dk_at dksX4_property_4 4 rfl rfl)
theorem dX4_property_95 : decode cX4_property 95 = .ok (.iload_n 1, 1) := dk_27 (dk_at dksX4_property_4 5 rfl rfl)
theorem dX4_property_96 : decode cX4_property 96 = .ok (.iload_n 2, 1) := dk_28 (dk_at dksX4_property_4 6 rfl rfl)
theorem dX4_property_97 : decode cX4_property 97 = .ok (.bipush 7, 2) := dk_16 7 (dk_at dksX4_property_4 7 rfl rfl)
theorem dX4_property_99 : decode cX4_property 99 = .ok (.if_icmp .ne 7, 3) := dk_160 0 7 (dk_at dksX4_property_4 9 rfl rfl)
theorem dX4_property_102 : decode cX4_property 102 = .ok (.iconst 1, 1) := dk_4 (dk_at dksX4_property_4 12 rfl rfl)
theorem dX4_property_103 : decode cX4_property 103 = .ok (.goto 4, 3) := dk_167 0 4 (dk_at dksX4_property_4 13 rfl rfl)
theorem dX4_property_106 : decode cX4_property 106 = .ok (.iconst 2, 1) := dk_5 (dk_at dksX4_property_4 16 rfl rfl)
theorem dX4_property_107 : decode cX4_property 107 = .ok (.invokevirtual 130, 3) := dk_182 0 130 (dk_at dksX4_property_4 17 rfl rfl)
theorem dX4_property_110 : decode cX4_property 110 = .ok (.ireturn, 1) := dk_172 (dk_at dksX4_property_4 20 rfl rfl)
abbrev cX4_operate : ByteArray := prog_24_method_121_code
def yX4_operate : MethodName := ⟨RX4, "operate", "(IJJ)J"⟩
def dkwX4_operate_3 : List UInt8 := [31, 33, 148, 158, 0, 7, 10, 167, 0, 4, 9, 173, 31, 33, 127, 173, 31, 33, 129, 173]
abbrev dktX4_operate_3 : List UInt8 := dkwX4_operate_3 ++ []
def dkwX4_operate_2 : List UInt8 := [31, 33, 148, 156, 0, 7, 10, 167, 0, 4, 9, 173, 31, 33, 148, 154, 0, 7, 10, 167, 0, 4, 9, 173]
abbrev dktX4_operate_2 : List UInt8 := dkwX4_operate_2 ++ dktX4_operate_3
def dkwX4_operate_1 : List UInt8 := [170, 0, 0, 0, 0, 0, 75, 255, 255, 255, 232, 255, 255, 255, 236, 0, 0, 0, 71, 0, 0, 0, 75, 0, 0, 0, 59, 0, 0, 0, 47, 0, 0, 0, 35]
abbrev dktX4_operate_1 : List UInt8 := dkwX4_operate_1 ++ dktX4_operate_2
def dkwX4_operate_0 : List UInt8 := [26]
abbrev dktX4_operate_0 : List UInt8 := dkwX4_operate_0 ++ dktX4_operate_1
theorem dksX4_operate_0 : cX4_operate.data.toList.drop 0 = dktX4_operate_0 := by decide +kernel
theorem dksX4_operate_1 : cX4_operate.data.toList.drop 1 = dktX4_operate_1 := dk_seg dksX4_operate_0 1 rfl rfl
theorem dksX4_operate_2 : cX4_operate.data.toList.drop 36 = dktX4_operate_2 := dk_seg dksX4_operate_1 35 rfl rfl
theorem dksX4_operate_3 : cX4_operate.data.toList.drop 60 = dktX4_operate_3 := dk_seg dksX4_operate_2 24 rfl rfl
theorem dX4_operate_0 : decode cX4_operate 0 = .ok (.iload_n 0, 1) := dk_26 (dk_at dksX4_operate_0 0 rfl rfl)
theorem dX4_operate_1 : decode cX4_operate 1 = .ok (.tableswitch 75 (-24) (-20) #[71, 75, 59, 47, 35], 35) := by decide +kernel
theorem dX4_operate_36 : decode cX4_operate 36 = .ok (.lload_n 1, 1) := dk_31 (dk_at dksX4_operate_2 0 rfl rfl)
theorem dX4_operate_37 : decode cX4_operate 37 = .ok (.lload_n 3, 1) := dk_33 (dk_at dksX4_operate_2 1 rfl rfl)
theorem dX4_operate_38 : decode cX4_operate 38 = .ok (.lcmp, 1) := dk_148 (dk_at dksX4_operate_2 2 rfl rfl)
theorem dX4_operate_39 : decode cX4_operate 39 = .ok (.ifCond .ge 7, 3) := dk_156 0 7 (dk_at dksX4_operate_2 3 rfl rfl)
theorem dX4_operate_42 : decode cX4_operate 42 = .ok (.lconst 1, 1) := dk_10 (dk_at dksX4_operate_2 6 rfl rfl)
theorem dX4_operate_43 : decode cX4_operate 43 = .ok (.goto 4, 3) := dk_167 0 4 (dk_at dksX4_operate_2 7 rfl rfl)
theorem dX4_operate_46 : decode cX4_operate 46 = .ok (.lconst 0, 1) := dk_9 (dk_at dksX4_operate_2 10 rfl rfl)
theorem dX4_operate_47 : decode cX4_operate 47 = .ok (.lreturn, 1) := dk_173 (dk_at dksX4_operate_2 11 rfl rfl)
theorem dX4_operate_48 : decode cX4_operate 48 = .ok (.lload_n 1, 1) := dk_31 (dk_at dksX4_operate_2 12 rfl rfl)
theorem dX4_operate_49 : decode cX4_operate 49 = .ok (.lload_n 3, 1) := dk_33 (dk_at dksX4_operate_2 13 rfl rfl)
theorem dX4_operate_50 : decode cX4_operate 50 = .ok (.lcmp, 1) := dk_148 (dk_at dksX4_operate_2 14 rfl rfl)
theorem dX4_operate_51 : decode cX4_operate 51 = .ok (.ifCond .ne 7, 3) := dk_154 0 7 (dk_at dksX4_operate_2 15 rfl rfl)
theorem dX4_operate_54 : decode cX4_operate 54 = .ok (.lconst 1, 1) := dk_10 (dk_at dksX4_operate_2 18 rfl rfl)
theorem dX4_operate_55 : decode cX4_operate 55 = .ok (.goto 4, 3) := dk_167 0 4 (dk_at dksX4_operate_2 19 rfl rfl)
theorem dX4_operate_58 : decode cX4_operate 58 = .ok (.lconst 0, 1) := dk_9 (dk_at dksX4_operate_2 22 rfl rfl)
theorem dX4_operate_59 : decode cX4_operate 59 = .ok (.lreturn, 1) := dk_173 (dk_at dksX4_operate_2 23 rfl rfl)
theorem dX4_operate_60 : decode cX4_operate 60 = .ok (.lload_n 1, 1) := dk_31 (dk_at dksX4_operate_3 0 rfl rfl)
theorem dX4_operate_61 : decode cX4_operate 61 = .ok (.lload_n 3, 1) := dk_33 (dk_at dksX4_operate_3 1 rfl rfl)
theorem dX4_operate_62 : decode cX4_operate 62 = .ok (.lcmp, 1) := dk_148 (dk_at dksX4_operate_3 2 rfl rfl)
theorem dX4_operate_63 : decode cX4_operate 63 = .ok (.ifCond .le 7, 3) := dk_158 0 7 (dk_at dksX4_operate_3 3 rfl rfl)
theorem dX4_operate_66 : decode cX4_operate 66 = .ok (.lconst 1, 1) := dk_10 (dk_at dksX4_operate_3 6 rfl rfl)
theorem dX4_operate_67 : decode cX4_operate 67 = .ok (.goto 4, 3) := dk_167 0 4 (dk_at dksX4_operate_3 7 rfl rfl)
theorem dX4_operate_70 : decode cX4_operate 70 = .ok (.lconst 0, 1) := dk_9 (dk_at dksX4_operate_3 10 rfl rfl)
theorem dX4_operate_71 : decode cX4_operate 71 = .ok (.lreturn, 1) := dk_173 (dk_at dksX4_operate_3 11 rfl rfl)
theorem dX4_operate_72 : decode cX4_operate 72 = .ok (.lload_n 1, 1) := dk_31 (dk_at dksX4_operate_3 12 rfl rfl)
theorem dX4_operate_73 : decode cX4_operate 73 = .ok (.lload_n 3, 1) := dk_33 (dk_at dksX4_operate_3 13 rfl rfl)
theorem dX4_operate_74 : decode cX4_operate 74 = .ok (.land, 1) := dk_127 (dk_at dksX4_operate_3 14 rfl rfl)
theorem dX4_operate_75 : decode cX4_operate 75 = .ok (.lreturn, 1) := dk_173 (dk_at dksX4_operate_3 15 rfl rfl)
theorem dX4_operate_76 : decode cX4_operate 76 = .ok (.lload_n 1, 1) := dk_31 (dk_at dksX4_operate_3 16 rfl rfl)
theorem dX4_operate_77 : decode cX4_operate 77 = .ok (.lload_n 3, 1) := dk_33 (dk_at dksX4_operate_3 17 rfl rfl)
theorem dX4_operate_78 : decode cX4_operate 78 = .ok (.lor, 1) := dk_129 (dk_at dksX4_operate_3 18 rfl rfl)
theorem dX4_operate_79 : decode cX4_operate 79 = .ok (.lreturn, 1) := dk_173 (dk_at dksX4_operate_3 19 rfl rfl)
theorem q117 : (Jvm.Cond.initialized "MessengerBoardModel") ∈ lw_all := lw_g (lw_at lw_m1 8 rfl) rfl
theorem q1194 : (Jvm.Cond.selects "MessengerBoardModel" ({ cls := "java/lang/Object", name := "getClass", desc := "()Ljava/lang/Class;" } : Jvm.MethodName) ({ cls := "java/lang/Object", name := "getClass", desc := "()Ljava/lang/Class;" } : Jvm.MethodName)) ∈ lw_all := lw_g (lw_at lw_m5 125 rfl) rfl
theorem q2105 : (Jvm.Cond.instantiable "MessengerBoardModel" (28 : Nat)) ∈ lw_all := lw_g (lw_at lw_m9 76 rfl) rfl
theorem q2107 : (Jvm.Cond.instanceMethod ({ cls := "MessengerBoardModel", name := "<init>", desc := "()V" } : Jvm.MethodName)) ∈ lw_all := lw_g (lw_at lw_m9 78 rfl) rfl
theorem q2108 : (Jvm.Cond.code ({ cls := "MessengerBoardModel", name := "<init>", desc := "()V" } : Jvm.MethodName) prog_24_method_1_code (1 : Nat) (Option.none : Option Jvm.ClassFile.FieldType)) ∈ lw_all := lw_g (lw_at lw_m9 79 rfl) rfl
theorem q2109 : (Jvm.Cond.methodLink "MessengerBoardModel" (1 : Nat) ({ cls := "java/lang/Object", name := "<init>", desc := "()V" } : Jvm.MethodName)) ∈ lw_all := lw_g (lw_at lw_m9 80 rfl) rfl
theorem q2110 : (Jvm.Cond.constant "MessengerBoardModel" (22 : Nat) (39340 : Int32)) ∈ lw_all := lw_g (lw_at lw_m9 81 rfl) rfl
theorem q2111 : (Jvm.Cond.classLink "MessengerBoardModel" (42 : Nat) "java/lang/String") ∈ lw_all := lw_g (lw_at lw_m9 82 rfl) rfl
theorem q2113 : (Jvm.Cond.stringRef "MessengerBoardModel" (44 : Nat) "order") ∈ lw_tbl := lw_at lw_m9 84 rfl
theorem q2114 : (Jvm.Cond.stringRef "MessengerBoardModel" (46 : Nat) "unit") ∈ lw_tbl := lw_at lw_m9 85 rfl
theorem q2115 : (Jvm.Cond.stringRef "MessengerBoardModel" (48 : Nat) "state") ∈ lw_tbl := lw_at lw_m9 86 rfl
theorem q2116 : (Jvm.Cond.stringRef "MessengerBoardModel" (50 : Nat) "sent") ∈ lw_tbl := lw_at lw_m9 87 rfl
theorem q2117 : (Jvm.Cond.stringRef "MessengerBoardModel" (52 : Nat) "arrived") ∈ lw_tbl := lw_at lw_m9 88 rfl
theorem q2118 : (Jvm.Cond.stringRef "MessengerBoardModel" (54 : Nat) "ended") ∈ lw_tbl := lw_at lw_m9 89 rfl
theorem q2119 : (Jvm.Cond.stringRef "MessengerBoardModel" (56 : Nat) "steps") ∈ lw_tbl := lw_at lw_m9 90 rfl
theorem q2120 : (Jvm.Cond.stringRef "MessengerBoardModel" (58 : Nat) "x") ∈ lw_tbl := lw_at lw_m9 91 rfl
theorem q2121 : (Jvm.Cond.stringRef "MessengerBoardModel" (60 : Nat) "y") ∈ lw_tbl := lw_at lw_m9 92 rfl
theorem q2122 : (Jvm.Cond.methodLink "MessengerBoardModel" (73 : Nat) ({ cls := "MessengerBoardModel", name := "clear", desc := "([I)V" } : Jvm.MethodName)) ∈ lw_all := lw_g (lw_at lw_m9 93 rfl) rfl
theorem q2123 : (Jvm.Cond.static ({ cls := "MessengerBoardModel", name := "clear", desc := "([I)V" } : Jvm.MethodName)) ∈ lw_all := lw_g (lw_at lw_m9 94 rfl) rfl
theorem q2124 : (Jvm.Cond.code ({ cls := "MessengerBoardModel", name := "clear", desc := "([I)V" } : Jvm.MethodName) prog_24_method_5_code (2 : Nat) (Option.none : Option Jvm.ClassFile.FieldType)) ∈ lw_all := lw_g (lw_at lw_m9 95 rfl) rfl
theorem q2125 : (Jvm.Cond.fieldLink "MessengerBoardModel" (9 : Nat) "MessengerBoardModel" "now" "[I") ∈ lw_all := lw_g (lw_at lw_m9 96 rfl) rfl
theorem q2126 : (Jvm.Cond.fieldLink "MessengerBoardModel" (13 : Nat) "MessengerBoardModel" "draft" "[I") ∈ lw_all := lw_g (lw_at lw_m9 97 rfl) rfl
theorem q2127 : (Jvm.Cond.fieldLink "MessengerBoardModel" (16 : Nat) "MessengerBoardModel" "aside" "[I") ∈ lw_all := lw_g (lw_at lw_m9 98 rfl) rfl
theorem q2128 : (Jvm.Cond.fieldLink "MessengerBoardModel" (19 : Nat) "MessengerBoardModel" "snapshot" "[I") ∈ lw_all := lw_g (lw_at lw_m9 99 rfl) rfl
theorem q2129 : (Jvm.Cond.fieldLink "MessengerBoardModel" (23 : Nat) "MessengerBoardModel" "history" "[I") ∈ lw_all := lw_g (lw_at lw_m9 100 rfl) rfl
theorem q2130 : (Jvm.Cond.fieldLink "MessengerBoardModel" (253 : Nat) "MessengerBoardModel" "undoCount" "I") ∈ lw_all := lw_g (lw_at lw_m9 101 rfl) rfl
theorem q2131 : (Jvm.Cond.fieldLink "MessengerBoardModel" (77 : Nat) "MessengerBoardModel" "thrown" "I") ∈ lw_all := lw_g (lw_at lw_m9 102 rfl) rfl
theorem q2132 : (Jvm.Cond.fieldLink "MessengerBoardModel" (256 : Nat) "MessengerBoardModel" "hasSnapshot" "Z") ∈ lw_all := lw_g (lw_at lw_m9 103 rfl) rfl
theorem q2133 : (Jvm.Cond.fieldLink "MessengerBoardModel" (26 : Nat) "MessengerBoardModel" "far" "[I") ∈ lw_all := lw_g (lw_at lw_m9 104 rfl) rfl
theorem q2134 : (Jvm.Cond.fieldLink "MessengerBoardModel" (29 : Nat) "MessengerBoardModel" "queue" "[I") ∈ lw_all := lw_g (lw_at lw_m9 105 rfl) rfl
theorem q2135 : (Jvm.Cond.fieldLink "MessengerBoardModel" (32 : Nat) "MessengerBoardModel" "formatted" "[I") ∈ lw_all := lw_g (lw_at lw_m9 106 rfl) rfl
theorem q2136 : (Jvm.Cond.fieldLink "MessengerBoardModel" (247 : Nat) "MessengerBoardModel" "formattedLength" "I") ∈ lw_all := lw_g (lw_at lw_m9 107 rfl) rfl
theorem q2137 : (Jvm.Cond.fieldLink "MessengerBoardModel" (35 : Nat) "MessengerBoardModel" "buffer" "[I") ∈ lw_all := lw_g (lw_at lw_m9 108 rfl) rfl
theorem q2138 : (Jvm.Cond.fieldLink "MessengerBoardModel" (260 : Nat) "MessengerBoardModel" "bufferLength" "I") ∈ lw_all := lw_g (lw_at lw_m9 109 rfl) rfl
theorem q2139 : (Jvm.Cond.fieldLink "MessengerBoardModel" (263 : Nat) "MessengerBoardModel" "limit" "I") ∈ lw_all := lw_g (lw_at lw_m9 110 rfl) rfl
theorem q2140 : (Jvm.Cond.fieldLink "MessengerBoardModel" (269 : Nat) "MessengerBoardModel" "next" "I") ∈ lw_all := lw_g (lw_at lw_m9 111 rfl) rfl
theorem q2141 : (Jvm.Cond.fieldLink "MessengerBoardModel" (272 : Nat) "MessengerBoardModel" "beginsAt" "I") ∈ lw_all := lw_g (lw_at lw_m9 112 rfl) rfl
theorem q2142 : (Jvm.Cond.fieldLink "MessengerBoardModel" (275 : Nat) "MessengerBoardModel" "token" "I") ∈ lw_all := lw_g (lw_at lw_m9 113 rfl) rfl
theorem q2143 : (Jvm.Cond.fieldLink "MessengerBoardModel" (284 : Nat) "MessengerBoardModel" "error" "I") ∈ lw_all := lw_g (lw_at lw_m9 114 rfl) rfl
theorem q2144 : (Jvm.Cond.fieldLink "MessengerBoardModel" (293 : Nat) "MessengerBoardModel" "errorAt" "I") ∈ lw_all := lw_g (lw_at lw_m9 115 rfl) rfl
theorem q2145 : (Jvm.Cond.fieldLink "MessengerBoardModel" (38 : Nat) "MessengerBoardModel" "errorPosition" "I") ∈ lw_all := lw_g (lw_at lw_m9 116 rfl) rfl
theorem q2146 : (Jvm.Cond.fieldLink "MessengerBoardModel" (287 : Nat) "MessengerBoardModel" "nested" "I") ∈ lw_all := lw_g (lw_at lw_m9 117 rfl) rfl
theorem q2147 : (Jvm.Cond.fieldLink "MessengerBoardModel" (336 : Nat) "MessengerBoardModel" "readX" "I") ∈ lw_all := lw_g (lw_at lw_m9 118 rfl) rfl
theorem q2148 : (Jvm.Cond.fieldLink "MessengerBoardModel" (339 : Nat) "MessengerBoardModel" "readY" "I") ∈ lw_all := lw_g (lw_at lw_m9 119 rfl) rfl
theorem q2149 : (Jvm.Cond.fieldLink "MessengerBoardModel" (62 : Nat) "MessengerBoardModel" "names" "[Ljava/lang/String;") ∈ lw_all := lw_g (lw_at lw_m9 120 rfl) rfl
theorem q2150 : (Jvm.Cond.fieldLink "MessengerBoardModel" (66 : Nat) "MessengerBoardModel" "codes" "[I") ∈ lw_all := lw_g (lw_at lw_m9 121 rfl) rfl
theorem q2151 : (Jvm.Cond.fieldLink "MessengerBoardModel" (69 : Nat) "MessengerBoardModel" "stack" "[J") ∈ lw_all := lw_g (lw_at lw_m9 122 rfl) rfl
theorem q2152 : (Jvm.Cond.fieldLink "MessengerBoardModel" (398 : Nat) "MessengerBoardModel" "codeCount" "I") ∈ lw_all := lw_g (lw_at lw_m9 123 rfl) rfl
theorem q2153 : (Jvm.Cond.laysFinal "MessengerBoardModel" "MessengerBoardModel" "now" "[I") ∈ lw_all := lw_g (lw_at lw_m9 124 rfl) rfl
theorem q2154 : (Jvm.Cond.soleField "MessengerBoardModel" "now") ∈ lw_all := lw_g (lw_at lw_m9 125 rfl) rfl
theorem q2155 : (Jvm.Cond.laysFinal "MessengerBoardModel" "MessengerBoardModel" "draft" "[I") ∈ lw_all := lw_g (lw_at lw_m9 126 rfl) rfl
theorem q2156 : (Jvm.Cond.soleField "MessengerBoardModel" "draft") ∈ lw_all := lw_g (lw_at lw_m9 127 rfl) rfl
theorem q2157 : (Jvm.Cond.laysFinal "MessengerBoardModel" "MessengerBoardModel" "aside" "[I") ∈ lw_all := lw_g (lw_at lw_m9 128 rfl) rfl
theorem q2158 : (Jvm.Cond.soleField "MessengerBoardModel" "aside") ∈ lw_all := lw_g (lw_at lw_m9 129 rfl) rfl
theorem q2159 : (Jvm.Cond.laysFinal "MessengerBoardModel" "MessengerBoardModel" "snapshot" "[I") ∈ lw_all := lw_g (lw_at lw_m9 130 rfl) rfl
theorem q2160 : (Jvm.Cond.soleField "MessengerBoardModel" "snapshot") ∈ lw_all := lw_g (lw_at lw_m9 131 rfl) rfl
theorem q2161 : (Jvm.Cond.laysFinal "MessengerBoardModel" "MessengerBoardModel" "history" "[I") ∈ lw_all := lw_g (lw_at lw_m9 132 rfl) rfl
theorem q2162 : (Jvm.Cond.soleField "MessengerBoardModel" "history") ∈ lw_all := lw_g (lw_at lw_m9 133 rfl) rfl
theorem q2163 : (Jvm.Cond.lays "MessengerBoardModel" "MessengerBoardModel" "undoCount" "I") ∈ lw_all := lw_g (lw_at lw_m9 134 rfl) rfl
theorem q2164 : (Jvm.Cond.soleField "MessengerBoardModel" "undoCount") ∈ lw_all := lw_g (lw_at lw_m9 135 rfl) rfl
theorem q2165 : (Jvm.Cond.lays "MessengerBoardModel" "MessengerBoardModel" "thrown" "I") ∈ lw_all := lw_g (lw_at lw_m9 136 rfl) rfl
theorem q2166 : (Jvm.Cond.soleField "MessengerBoardModel" "thrown") ∈ lw_all := lw_g (lw_at lw_m9 137 rfl) rfl
theorem q2167 : (Jvm.Cond.lays "MessengerBoardModel" "MessengerBoardModel" "hasSnapshot" "Z") ∈ lw_all := lw_g (lw_at lw_m9 138 rfl) rfl
theorem q2168 : (Jvm.Cond.soleField "MessengerBoardModel" "hasSnapshot") ∈ lw_all := lw_g (lw_at lw_m9 139 rfl) rfl
theorem q2169 : (Jvm.Cond.laysFinal "MessengerBoardModel" "MessengerBoardModel" "far" "[I") ∈ lw_all := lw_g (lw_at lw_m9 140 rfl) rfl
theorem q2170 : (Jvm.Cond.soleField "MessengerBoardModel" "far") ∈ lw_all := lw_g (lw_at lw_m9 141 rfl) rfl
theorem q2171 : (Jvm.Cond.laysFinal "MessengerBoardModel" "MessengerBoardModel" "queue" "[I") ∈ lw_all := lw_g (lw_at lw_m9 142 rfl) rfl
theorem q2172 : (Jvm.Cond.soleField "MessengerBoardModel" "queue") ∈ lw_all := lw_g (lw_at lw_m9 143 rfl) rfl
theorem q2173 : (Jvm.Cond.laysFinal "MessengerBoardModel" "MessengerBoardModel" "formatted" "[I") ∈ lw_all := lw_g (lw_at lw_m9 144 rfl) rfl
theorem q2174 : (Jvm.Cond.soleField "MessengerBoardModel" "formatted") ∈ lw_all := lw_g (lw_at lw_m9 145 rfl) rfl
theorem q2175 : (Jvm.Cond.lays "MessengerBoardModel" "MessengerBoardModel" "formattedLength" "I") ∈ lw_all := lw_g (lw_at lw_m9 146 rfl) rfl
theorem q2176 : (Jvm.Cond.soleField "MessengerBoardModel" "formattedLength") ∈ lw_all := lw_g (lw_at lw_m9 147 rfl) rfl
theorem q2177 : (Jvm.Cond.laysFinal "MessengerBoardModel" "MessengerBoardModel" "buffer" "[I") ∈ lw_all := lw_g (lw_at lw_m9 148 rfl) rfl
theorem q2178 : (Jvm.Cond.soleField "MessengerBoardModel" "buffer") ∈ lw_all := lw_g (lw_at lw_m9 149 rfl) rfl
theorem q2179 : (Jvm.Cond.lays "MessengerBoardModel" "MessengerBoardModel" "bufferLength" "I") ∈ lw_all := lw_g (lw_at lw_m9 150 rfl) rfl
theorem q2180 : (Jvm.Cond.soleField "MessengerBoardModel" "bufferLength") ∈ lw_all := lw_g (lw_at lw_m9 151 rfl) rfl
theorem q2181 : (Jvm.Cond.lays "MessengerBoardModel" "MessengerBoardModel" "limit" "I") ∈ lw_all := lw_g (lw_at lw_m9 152 rfl) rfl
theorem q2182 : (Jvm.Cond.soleField "MessengerBoardModel" "limit") ∈ lw_all := lw_g (lw_at lw_m9 153 rfl) rfl
theorem q2183 : (Jvm.Cond.lays "MessengerBoardModel" "MessengerBoardModel" "next" "I") ∈ lw_all := lw_g (lw_at lw_m9 154 rfl) rfl
theorem q2184 : (Jvm.Cond.soleField "MessengerBoardModel" "next") ∈ lw_all := lw_g (lw_at lw_m9 155 rfl) rfl
theorem q2185 : (Jvm.Cond.lays "MessengerBoardModel" "MessengerBoardModel" "beginsAt" "I") ∈ lw_all := lw_g (lw_at lw_m9 156 rfl) rfl
theorem q2186 : (Jvm.Cond.soleField "MessengerBoardModel" "beginsAt") ∈ lw_all := lw_g (lw_at lw_m9 157 rfl) rfl
theorem q2187 : (Jvm.Cond.lays "MessengerBoardModel" "MessengerBoardModel" "token" "I") ∈ lw_all := lw_g (lw_at lw_m9 158 rfl) rfl
theorem q2188 : (Jvm.Cond.soleField "MessengerBoardModel" "token") ∈ lw_all := lw_g (lw_at lw_m9 159 rfl) rfl
theorem q2189 : (Jvm.Cond.lays "MessengerBoardModel" "MessengerBoardModel" "error" "I") ∈ lw_all := lw_g (lw_at lw_m9 160 rfl) rfl
theorem q2190 : (Jvm.Cond.soleField "MessengerBoardModel" "error") ∈ lw_all := lw_g (lw_at lw_m9 161 rfl) rfl
theorem q2191 : (Jvm.Cond.lays "MessengerBoardModel" "MessengerBoardModel" "errorAt" "I") ∈ lw_all := lw_g (lw_at lw_m9 162 rfl) rfl
theorem q2192 : (Jvm.Cond.soleField "MessengerBoardModel" "errorAt") ∈ lw_all := lw_g (lw_at lw_m9 163 rfl) rfl
theorem q2193 : (Jvm.Cond.lays "MessengerBoardModel" "MessengerBoardModel" "errorPosition" "I") ∈ lw_all := lw_g (lw_at lw_m9 164 rfl) rfl
theorem q2194 : (Jvm.Cond.soleField "MessengerBoardModel" "errorPosition") ∈ lw_all := lw_g (lw_at lw_m9 165 rfl) rfl
theorem q2195 : (Jvm.Cond.lays "MessengerBoardModel" "MessengerBoardModel" "nested" "I") ∈ lw_all := lw_g (lw_at lw_m9 166 rfl) rfl
theorem q2196 : (Jvm.Cond.soleField "MessengerBoardModel" "nested") ∈ lw_all := lw_g (lw_at lw_m9 167 rfl) rfl
theorem q2197 : (Jvm.Cond.lays "MessengerBoardModel" "MessengerBoardModel" "readX" "I") ∈ lw_all := lw_g (lw_at lw_m9 168 rfl) rfl
theorem q2198 : (Jvm.Cond.soleField "MessengerBoardModel" "readX") ∈ lw_all := lw_g (lw_at lw_m9 169 rfl) rfl
theorem q2199 : (Jvm.Cond.lays "MessengerBoardModel" "MessengerBoardModel" "readY" "I") ∈ lw_all := lw_g (lw_at lw_m9 170 rfl) rfl
theorem q2200 : (Jvm.Cond.soleField "MessengerBoardModel" "readY") ∈ lw_all := lw_g (lw_at lw_m9 171 rfl) rfl
theorem q2201 : (Jvm.Cond.laysFinal "MessengerBoardModel" "MessengerBoardModel" "names" "[Ljava/lang/String;") ∈ lw_all := lw_g (lw_at lw_m9 172 rfl) rfl
theorem q2202 : (Jvm.Cond.soleField "MessengerBoardModel" "names") ∈ lw_all := lw_g (lw_at lw_m9 173 rfl) rfl
theorem q2203 : (Jvm.Cond.laysFinal "MessengerBoardModel" "MessengerBoardModel" "codes" "[I") ∈ lw_all := lw_g (lw_at lw_m9 174 rfl) rfl
theorem q2204 : (Jvm.Cond.soleField "MessengerBoardModel" "codes") ∈ lw_all := lw_g (lw_at lw_m9 175 rfl) rfl
theorem q2205 : (Jvm.Cond.laysFinal "MessengerBoardModel" "MessengerBoardModel" "stack" "[J") ∈ lw_all := lw_g (lw_at lw_m9 176 rfl) rfl
theorem q2206 : (Jvm.Cond.soleField "MessengerBoardModel" "stack") ∈ lw_all := lw_g (lw_at lw_m9 177 rfl) rfl
theorem q2207 : (Jvm.Cond.lays "MessengerBoardModel" "MessengerBoardModel" "codeCount" "I") ∈ lw_all := lw_g (lw_at lw_m9 178 rfl) rfl
theorem q2208 : (Jvm.Cond.soleField "MessengerBoardModel" "codeCount") ∈ lw_all := lw_g (lw_at lw_m9 179 rfl) rfl
theorem q2209 : (Jvm.Cond.superclass "MessengerBoardModel" "java/lang/Object") ∈ lw_all := lw_g (lw_at lw_m9 180 rfl) rfl
theorem q2212 : (Jvm.Cond.instanceMethod ({ cls := "MessengerBoardModel", name := "thrown", desc := "()I" } : Jvm.MethodName)) ∈ lw_all := lw_g (lw_at lw_m9 183 rfl) rfl
theorem q2213 : (Jvm.Cond.selects "MessengerBoardModel" ({ cls := "MessengerBoardModel", name := "thrown", desc := "()I" } : Jvm.MethodName) ({ cls := "MessengerBoardModel", name := "thrown", desc := "()I" } : Jvm.MethodName)) ∈ lw_all := lw_g (lw_at lw_m9 184 rfl) rfl
theorem q2214 : (Jvm.Cond.code ({ cls := "MessengerBoardModel", name := "thrown", desc := "()I" } : Jvm.MethodName) prog_24_method_2_code (1 : Nat) (Option.some Jvm.ClassFile.FieldType.int)) ∈ lw_all := lw_g (lw_at lw_m9 185 rfl) rfl
theorem q2216 : (Jvm.Cond.instanceMethod ({ cls := "MessengerBoardModel", name := "size", desc := "(I)I" } : Jvm.MethodName)) ∈ lw_all := lw_g (lw_at lw_m9 187 rfl) rfl
theorem q2217 : (Jvm.Cond.selects "MessengerBoardModel" ({ cls := "MessengerBoardModel", name := "size", desc := "(I)I" } : Jvm.MethodName) ({ cls := "MessengerBoardModel", name := "size", desc := "(I)I" } : Jvm.MethodName)) ∈ lw_all := lw_g (lw_at lw_m9 188 rfl) rfl
theorem q2218 : (Jvm.Cond.code ({ cls := "MessengerBoardModel", name := "size", desc := "(I)I" } : Jvm.MethodName) prog_24_method_42_code (2 : Nat) (Option.some Jvm.ClassFile.FieldType.int)) ∈ lw_all := lw_g (lw_at lw_m9 189 rfl) rfl
theorem q2219 : (Jvm.Cond.methodLink "MessengerBoardModel" (90 : Nat) ({ cls := "MessengerBoardModel", name := "inRange", desc := "(III)Z" } : Jvm.MethodName)) ∈ lw_all := lw_g (lw_at lw_m9 190 rfl) rfl
theorem q2220 : (Jvm.Cond.static ({ cls := "MessengerBoardModel", name := "inRange", desc := "(III)Z" } : Jvm.MethodName)) ∈ lw_all := lw_g (lw_at lw_m9 191 rfl) rfl
theorem q2221 : (Jvm.Cond.code ({ cls := "MessengerBoardModel", name := "inRange", desc := "(III)Z" } : Jvm.MethodName) prog_24_method_4_code (3 : Nat) (Option.some Jvm.ClassFile.FieldType.boolean)) ∈ lw_all := lw_g (lw_at lw_m9 192 rfl) rfl
theorem q2222 : (Jvm.Cond.methodLink "MessengerBoardModel" (192 : Nat) ({ cls := "MessengerBoardModel", name := "raise", desc := "(I)I" } : Jvm.MethodName)) ∈ lw_all := lw_g (lw_at lw_m9 193 rfl) rfl
theorem q2223 : (Jvm.Cond.privateMethod ({ cls := "MessengerBoardModel", name := "raise", desc := "(I)I" } : Jvm.MethodName)) ∈ lw_tbl := lw_at lw_m9 194 rfl
theorem q2224 : (Jvm.Cond.instanceMethod ({ cls := "MessengerBoardModel", name := "raise", desc := "(I)I" } : Jvm.MethodName)) ∈ lw_all := lw_g (lw_at lw_m9 195 rfl) rfl
theorem q2225 : (Jvm.Cond.code ({ cls := "MessengerBoardModel", name := "raise", desc := "(I)I" } : Jvm.MethodName) prog_24_method_3_code (2 : Nat) (Option.some Jvm.ClassFile.FieldType.int)) ∈ lw_all := lw_g (lw_at lw_m9 196 rfl) rfl
theorem q2227 : (Jvm.Cond.instanceMethod ({ cls := "MessengerBoardModel", name := "unit", desc := "(II)I" } : Jvm.MethodName)) ∈ lw_all := lw_g (lw_at lw_m9 198 rfl) rfl
theorem q2228 : (Jvm.Cond.selects "MessengerBoardModel" ({ cls := "MessengerBoardModel", name := "unit", desc := "(II)I" } : Jvm.MethodName) ({ cls := "MessengerBoardModel", name := "unit", desc := "(II)I" } : Jvm.MethodName)) ∈ lw_all := lw_g (lw_at lw_m9 199 rfl) rfl
theorem q2229 : (Jvm.Cond.code ({ cls := "MessengerBoardModel", name := "unit", desc := "(II)I" } : Jvm.MethodName) prog_24_method_44_code (3 : Nat) (Option.some Jvm.ClassFile.FieldType.int)) ∈ lw_all := lw_g (lw_at lw_m9 200 rfl) rfl
theorem q2230 : (Jvm.Cond.methodLink "MessengerBoardModel" (195 : Nat) ({ cls := "MessengerBoardModel", name := "isUnit", desc := "(I)Z" } : Jvm.MethodName)) ∈ lw_all := lw_g (lw_at lw_m9 201 rfl) rfl
theorem q2231 : (Jvm.Cond.privateMethod ({ cls := "MessengerBoardModel", name := "isUnit", desc := "(I)Z" } : Jvm.MethodName)) ∈ lw_tbl := lw_at lw_m9 202 rfl
theorem q2232 : (Jvm.Cond.instanceMethod ({ cls := "MessengerBoardModel", name := "isUnit", desc := "(I)Z" } : Jvm.MethodName)) ∈ lw_all := lw_g (lw_at lw_m9 203 rfl) rfl
theorem q2233 : (Jvm.Cond.code ({ cls := "MessengerBoardModel", name := "isUnit", desc := "(I)Z" } : Jvm.MethodName) prog_24_method_16_code (2 : Nat) (Option.some Jvm.ClassFile.FieldType.boolean)) ∈ lw_all := lw_g (lw_at lw_m9 204 rfl) rfl
theorem q2234 : (Jvm.Cond.methodLink "MessengerBoardModel" (133 : Nat) ({ cls := "MessengerBoardModel", name := "ofUnit", desc := "(II)I" } : Jvm.MethodName)) ∈ lw_all := lw_g (lw_at lw_m9 205 rfl) rfl
theorem q2235 : (Jvm.Cond.privateMethod ({ cls := "MessengerBoardModel", name := "ofUnit", desc := "(II)I" } : Jvm.MethodName)) ∈ lw_tbl := lw_at lw_m9 206 rfl
theorem q2236 : (Jvm.Cond.instanceMethod ({ cls := "MessengerBoardModel", name := "ofUnit", desc := "(II)I" } : Jvm.MethodName)) ∈ lw_all := lw_g (lw_at lw_m9 207 rfl) rfl
theorem q2237 : (Jvm.Cond.code ({ cls := "MessengerBoardModel", name := "ofUnit", desc := "(II)I" } : Jvm.MethodName) prog_24_method_12_code (3 : Nat) (Option.some Jvm.ClassFile.FieldType.int)) ∈ lw_all := lw_g (lw_at lw_m9 208 rfl) rfl
theorem q2238 : (Jvm.Cond.methodLink "MessengerBoardModel" (80 : Nat) ({ cls := "MessengerBoardModel", name := "unitAt", desc := "(II)I" } : Jvm.MethodName)) ∈ lw_all := lw_g (lw_at lw_m9 209 rfl) rfl
theorem q2239 : (Jvm.Cond.static ({ cls := "MessengerBoardModel", name := "unitAt", desc := "(II)I" } : Jvm.MethodName)) ∈ lw_all := lw_g (lw_at lw_m9 210 rfl) rfl
theorem q2240 : (Jvm.Cond.code ({ cls := "MessengerBoardModel", name := "unitAt", desc := "(II)I" } : Jvm.MethodName) prog_24_method_6_code (2 : Nat) (Option.some Jvm.ClassFile.FieldType.int)) ∈ lw_all := lw_g (lw_at lw_m9 211 rfl) rfl
theorem q2241 : (Jvm.Cond.methodLink "MessengerBoardModel" (140 : Nat) ({ cls := "MessengerBoardModel", name := "obeyedBy", desc := "(I)I" } : Jvm.MethodName)) ∈ lw_all := lw_g (lw_at lw_m9 212 rfl) rfl
theorem q2242 : (Jvm.Cond.privateMethod ({ cls := "MessengerBoardModel", name := "obeyedBy", desc := "(I)I" } : Jvm.MethodName)) ∈ lw_tbl := lw_at lw_m9 213 rfl
theorem q2243 : (Jvm.Cond.instanceMethod ({ cls := "MessengerBoardModel", name := "obeyedBy", desc := "(I)I" } : Jvm.MethodName)) ∈ lw_all := lw_g (lw_at lw_m9 214 rfl) rfl
theorem q2244 : (Jvm.Cond.code ({ cls := "MessengerBoardModel", name := "obeyedBy", desc := "(I)I" } : Jvm.MethodName) prog_24_method_31_code (3 : Nat) (Option.some Jvm.ClassFile.FieldType.int)) ∈ lw_all := lw_g (lw_at lw_m9 215 rfl) rfl
theorem q2245 : (Jvm.Cond.methodLink "MessengerBoardModel" (130 : Nat) ({ cls := "MessengerBoardModel", name := "ofOrder", desc := "(II)I" } : Jvm.MethodName)) ∈ lw_all := lw_g (lw_at lw_m9 216 rfl) rfl
theorem q2246 : (Jvm.Cond.privateMethod ({ cls := "MessengerBoardModel", name := "ofOrder", desc := "(II)I" } : Jvm.MethodName)) ∈ lw_tbl := lw_at lw_m9 217 rfl
theorem q2247 : (Jvm.Cond.instanceMethod ({ cls := "MessengerBoardModel", name := "ofOrder", desc := "(II)I" } : Jvm.MethodName)) ∈ lw_all := lw_g (lw_at lw_m9 218 rfl) rfl
theorem q2248 : (Jvm.Cond.code ({ cls := "MessengerBoardModel", name := "ofOrder", desc := "(II)I" } : Jvm.MethodName) prog_24_method_14_code (3 : Nat) (Option.some Jvm.ClassFile.FieldType.int)) ∈ lw_all := lw_g (lw_at lw_m9 219 rfl) rfl
theorem q2249 : (Jvm.Cond.methodLink "MessengerBoardModel" (87 : Nat) ({ cls := "MessengerBoardModel", name := "orderAt", desc := "(II)I" } : Jvm.MethodName)) ∈ lw_all := lw_g (lw_at lw_m9 220 rfl) rfl
theorem q2250 : (Jvm.Cond.static ({ cls := "MessengerBoardModel", name := "orderAt", desc := "(II)I" } : Jvm.MethodName)) ∈ lw_all := lw_g (lw_at lw_m9 221 rfl) rfl
theorem q2251 : (Jvm.Cond.code ({ cls := "MessengerBoardModel", name := "orderAt", desc := "(II)I" } : Jvm.MethodName) prog_24_method_8_code (2 : Nat) (Option.some Jvm.ClassFile.FieldType.int)) ∈ lw_all := lw_g (lw_at lw_m9 222 rfl) rfl
theorem q2252 : (Jvm.Cond.methodLink "MessengerBoardModel" (198 : Nat) ({ cls := "MessengerBoardModel", name := "onWayTo", desc := "(I)I" } : Jvm.MethodName)) ∈ lw_all := lw_g (lw_at lw_m9 223 rfl) rfl
theorem q2253 : (Jvm.Cond.privateMethod ({ cls := "MessengerBoardModel", name := "onWayTo", desc := "(I)I" } : Jvm.MethodName)) ∈ lw_tbl := lw_at lw_m9 224 rfl
theorem q2254 : (Jvm.Cond.instanceMethod ({ cls := "MessengerBoardModel", name := "onWayTo", desc := "(I)I" } : Jvm.MethodName)) ∈ lw_all := lw_g (lw_at lw_m9 225 rfl) rfl
theorem q2255 : (Jvm.Cond.code ({ cls := "MessengerBoardModel", name := "onWayTo", desc := "(I)I" } : Jvm.MethodName) prog_24_method_43_code (4 : Nat) (Option.some Jvm.ClassFile.FieldType.int)) ∈ lw_all := lw_g (lw_at lw_m9 226 rfl) rfl
theorem q2257 : (Jvm.Cond.instanceMethod ({ cls := "MessengerBoardModel", name := "picket", desc := "(II)I" } : Jvm.MethodName)) ∈ lw_all := lw_g (lw_at lw_m9 228 rfl) rfl
theorem q2258 : (Jvm.Cond.selects "MessengerBoardModel" ({ cls := "MessengerBoardModel", name := "picket", desc := "(II)I" } : Jvm.MethodName) ({ cls := "MessengerBoardModel", name := "picket", desc := "(II)I" } : Jvm.MethodName)) ∈ lw_all := lw_g (lw_at lw_m9 229 rfl) rfl
theorem q2259 : (Jvm.Cond.code ({ cls := "MessengerBoardModel", name := "picket", desc := "(II)I" } : Jvm.MethodName) prog_24_method_45_code (3 : Nat) (Option.some Jvm.ClassFile.FieldType.int)) ∈ lw_all := lw_g (lw_at lw_m9 230 rfl) rfl
theorem q2260 : (Jvm.Cond.methodLink "MessengerBoardModel" (201 : Nat) ({ cls := "MessengerBoardModel", name := "isPicket", desc := "(I)Z" } : Jvm.MethodName)) ∈ lw_all := lw_g (lw_at lw_m9 231 rfl) rfl
theorem q2261 : (Jvm.Cond.privateMethod ({ cls := "MessengerBoardModel", name := "isPicket", desc := "(I)Z" } : Jvm.MethodName)) ∈ lw_tbl := lw_at lw_m9 232 rfl
theorem q2262 : (Jvm.Cond.instanceMethod ({ cls := "MessengerBoardModel", name := "isPicket", desc := "(I)Z" } : Jvm.MethodName)) ∈ lw_all := lw_g (lw_at lw_m9 233 rfl) rfl
theorem q2263 : (Jvm.Cond.code ({ cls := "MessengerBoardModel", name := "isPicket", desc := "(I)Z" } : Jvm.MethodName) prog_24_method_17_code (2 : Nat) (Option.some Jvm.ClassFile.FieldType.boolean)) ∈ lw_all := lw_g (lw_at lw_m9 234 rfl) rfl
theorem q2264 : (Jvm.Cond.methodLink "MessengerBoardModel" (126 : Nat) ({ cls := "MessengerBoardModel", name := "turnNow", desc := "()I" } : Jvm.MethodName)) ∈ lw_all := lw_g (lw_at lw_m9 235 rfl) rfl
theorem q2265 : (Jvm.Cond.privateMethod ({ cls := "MessengerBoardModel", name := "turnNow", desc := "()I" } : Jvm.MethodName)) ∈ lw_tbl := lw_at lw_m9 236 rfl
theorem q2266 : (Jvm.Cond.instanceMethod ({ cls := "MessengerBoardModel", name := "turnNow", desc := "()I" } : Jvm.MethodName)) ∈ lw_all := lw_g (lw_at lw_m9 237 rfl) rfl
theorem q2267 : (Jvm.Cond.code ({ cls := "MessengerBoardModel", name := "turnNow", desc := "()I" } : Jvm.MethodName) prog_24_method_15_code (1 : Nat) (Option.some Jvm.ClassFile.FieldType.int)) ∈ lw_all := lw_g (lw_at lw_m9 238 rfl) rfl
theorem q2268 : (Jvm.Cond.methodLink "MessengerBoardModel" (123 : Nat) ({ cls := "MessengerBoardModel", name := "watches", desc := "(II)Z" } : Jvm.MethodName)) ∈ lw_all := lw_g (lw_at lw_m9 239 rfl) rfl
theorem q2269 : (Jvm.Cond.privateMethod ({ cls := "MessengerBoardModel", name := "watches", desc := "(II)Z" } : Jvm.MethodName)) ∈ lw_tbl := lw_at lw_m10 0 rfl
theorem q2270 : (Jvm.Cond.instanceMethod ({ cls := "MessengerBoardModel", name := "watches", desc := "(II)Z" } : Jvm.MethodName)) ∈ lw_all := lw_g (lw_at lw_m10 1 rfl) rfl
theorem q2271 : (Jvm.Cond.code ({ cls := "MessengerBoardModel", name := "watches", desc := "(II)Z" } : Jvm.MethodName) prog_24_method_26_code (3 : Nat) (Option.some Jvm.ClassFile.FieldType.boolean)) ∈ lw_all := lw_g (lw_at lw_m10 2 rfl) rfl
theorem q2272 : (Jvm.Cond.methodLink "MessengerBoardModel" (111 : Nat) ({ cls := "MessengerBoardModel", name := "ofPicket", desc := "(II)I" } : Jvm.MethodName)) ∈ lw_all := lw_g (lw_at lw_m10 3 rfl) rfl
theorem q2273 : (Jvm.Cond.privateMethod ({ cls := "MessengerBoardModel", name := "ofPicket", desc := "(II)I" } : Jvm.MethodName)) ∈ lw_tbl := lw_at lw_m10 4 rfl
theorem q2274 : (Jvm.Cond.instanceMethod ({ cls := "MessengerBoardModel", name := "ofPicket", desc := "(II)I" } : Jvm.MethodName)) ∈ lw_all := lw_g (lw_at lw_m10 5 rfl) rfl
theorem q2275 : (Jvm.Cond.code ({ cls := "MessengerBoardModel", name := "ofPicket", desc := "(II)I" } : Jvm.MethodName) prog_24_method_13_code (3 : Nat) (Option.some Jvm.ClassFile.FieldType.int)) ∈ lw_all := lw_g (lw_at lw_m10 6 rfl) rfl
theorem q2276 : (Jvm.Cond.methodLink "MessengerBoardModel" (84 : Nat) ({ cls := "MessengerBoardModel", name := "picketAt", desc := "(II)I" } : Jvm.MethodName)) ∈ lw_all := lw_g (lw_at lw_m10 7 rfl) rfl
theorem q2277 : (Jvm.Cond.static ({ cls := "MessengerBoardModel", name := "picketAt", desc := "(II)I" } : Jvm.MethodName)) ∈ lw_all := lw_g (lw_at lw_m10 8 rfl) rfl
theorem q2278 : (Jvm.Cond.code ({ cls := "MessengerBoardModel", name := "picketAt", desc := "(II)I" } : Jvm.MethodName) prog_24_method_7_code (2 : Nat) (Option.some Jvm.ClassFile.FieldType.int)) ∈ lw_all := lw_g (lw_at lw_m10 9 rfl) rfl
theorem q2280 : (Jvm.Cond.instanceMethod ({ cls := "MessengerBoardModel", name := "order", desc := "(II)I" } : Jvm.MethodName)) ∈ lw_all := lw_g (lw_at lw_m10 11 rfl) rfl
theorem q2281 : (Jvm.Cond.selects "MessengerBoardModel" ({ cls := "MessengerBoardModel", name := "order", desc := "(II)I" } : Jvm.MethodName) ({ cls := "MessengerBoardModel", name := "order", desc := "(II)I" } : Jvm.MethodName)) ∈ lw_all := lw_g (lw_at lw_m10 12 rfl) rfl
theorem q2282 : (Jvm.Cond.code ({ cls := "MessengerBoardModel", name := "order", desc := "(II)I" } : Jvm.MethodName) prog_24_method_46_code (3 : Nat) (Option.some Jvm.ClassFile.FieldType.int)) ∈ lw_all := lw_g (lw_at lw_m10 13 rfl) rfl
theorem q2283 : (Jvm.Cond.methodLink "MessengerBoardModel" (204 : Nat) ({ cls := "MessengerBoardModel", name := "isOrder", desc := "(I)Z" } : Jvm.MethodName)) ∈ lw_all := lw_g (lw_at lw_m10 14 rfl) rfl
theorem q2284 : (Jvm.Cond.privateMethod ({ cls := "MessengerBoardModel", name := "isOrder", desc := "(I)Z" } : Jvm.MethodName)) ∈ lw_tbl := lw_at lw_m10 15 rfl
theorem q2285 : (Jvm.Cond.instanceMethod ({ cls := "MessengerBoardModel", name := "isOrder", desc := "(I)Z" } : Jvm.MethodName)) ∈ lw_all := lw_g (lw_at lw_m10 16 rfl) rfl
theorem q2286 : (Jvm.Cond.code ({ cls := "MessengerBoardModel", name := "isOrder", desc := "(I)Z" } : Jvm.MethodName) prog_24_method_18_code (2 : Nat) (Option.some Jvm.ClassFile.FieldType.boolean)) ∈ lw_all := lw_g (lw_at lw_m10 17 rfl) rfl
theorem q2288 : (Jvm.Cond.instanceMethod ({ cls := "MessengerBoardModel", name := "plan", desc := "(II)I" } : Jvm.MethodName)) ∈ lw_all := lw_g (lw_at lw_m10 19 rfl) rfl
theorem q2289 : (Jvm.Cond.selects "MessengerBoardModel" ({ cls := "MessengerBoardModel", name := "plan", desc := "(II)I" } : Jvm.MethodName) ({ cls := "MessengerBoardModel", name := "plan", desc := "(II)I" } : Jvm.MethodName)) ∈ lw_all := lw_g (lw_at lw_m10 20 rfl) rfl
theorem q2290 : (Jvm.Cond.code ({ cls := "MessengerBoardModel", name := "plan", desc := "(II)I" } : Jvm.MethodName) prog_24_method_47_code (3 : Nat) (Option.some Jvm.ClassFile.FieldType.int)) ∈ lw_all := lw_g (lw_at lw_m10 21 rfl) rfl
theorem q2291 : (Jvm.Cond.methodLink "MessengerBoardModel" (207 : Nat) ({ cls := "MessengerBoardModel", name := "isPlan", desc := "(I)Z" } : Jvm.MethodName)) ∈ lw_all := lw_g (lw_at lw_m10 22 rfl) rfl
theorem q2292 : (Jvm.Cond.privateMethod ({ cls := "MessengerBoardModel", name := "isPlan", desc := "(I)Z" } : Jvm.MethodName)) ∈ lw_tbl := lw_at lw_m10 23 rfl
theorem q2293 : (Jvm.Cond.instanceMethod ({ cls := "MessengerBoardModel", name := "isPlan", desc := "(I)Z" } : Jvm.MethodName)) ∈ lw_all := lw_g (lw_at lw_m10 24 rfl) rfl
theorem q2294 : (Jvm.Cond.code ({ cls := "MessengerBoardModel", name := "isPlan", desc := "(I)Z" } : Jvm.MethodName) prog_24_method_19_code (2 : Nat) (Option.some Jvm.ClassFile.FieldType.boolean)) ∈ lw_all := lw_g (lw_at lw_m10 25 rfl) rfl
theorem q2295 : (Jvm.Cond.methodLink "MessengerBoardModel" (164 : Nat) ({ cls := "MessengerBoardModel", name := "planAt", desc := "(II)I" } : Jvm.MethodName)) ∈ lw_all := lw_g (lw_at lw_m10 26 rfl) rfl
theorem q2296 : (Jvm.Cond.static ({ cls := "MessengerBoardModel", name := "planAt", desc := "(II)I" } : Jvm.MethodName)) ∈ lw_all := lw_g (lw_at lw_m10 27 rfl) rfl
theorem q2297 : (Jvm.Cond.code ({ cls := "MessengerBoardModel", name := "planAt", desc := "(II)I" } : Jvm.MethodName) prog_24_method_9_code (2 : Nat) (Option.some Jvm.ClassFile.FieldType.int)) ∈ lw_all := lw_g (lw_at lw_m10 28 rfl) rfl
theorem q2299 : (Jvm.Cond.instanceMethod ({ cls := "MessengerBoardModel", name := "event", desc := "(II)I" } : Jvm.MethodName)) ∈ lw_all := lw_g (lw_at lw_m10 30 rfl) rfl
theorem q2300 : (Jvm.Cond.selects "MessengerBoardModel" ({ cls := "MessengerBoardModel", name := "event", desc := "(II)I" } : Jvm.MethodName) ({ cls := "MessengerBoardModel", name := "event", desc := "(II)I" } : Jvm.MethodName)) ∈ lw_all := lw_g (lw_at lw_m10 31 rfl) rfl
theorem q2301 : (Jvm.Cond.code ({ cls := "MessengerBoardModel", name := "event", desc := "(II)I" } : Jvm.MethodName) prog_24_method_48_code (4 : Nat) (Option.some Jvm.ClassFile.FieldType.int)) ∈ lw_all := lw_g (lw_at lw_m10 32 rfl) rfl
theorem q2303 : (Jvm.Cond.instanceMethod ({ cls := "MessengerBoardModel", name := "orders", desc := "(I)I" } : Jvm.MethodName)) ∈ lw_all := lw_g (lw_at lw_m10 34 rfl) rfl
theorem q2304 : (Jvm.Cond.selects "MessengerBoardModel" ({ cls := "MessengerBoardModel", name := "orders", desc := "(I)I" } : Jvm.MethodName) ({ cls := "MessengerBoardModel", name := "orders", desc := "(I)I" } : Jvm.MethodName)) ∈ lw_all := lw_g (lw_at lw_m10 35 rfl) rfl
theorem q2305 : (Jvm.Cond.code ({ cls := "MessengerBoardModel", name := "orders", desc := "(I)I" } : Jvm.MethodName) prog_24_method_50_code (2 : Nat) (Option.some Jvm.ClassFile.FieldType.int)) ∈ lw_all := lw_g (lw_at lw_m10 36 rfl) rfl
theorem q2306 : (Jvm.Cond.methodLink "MessengerBoardModel" (210 : Nat) ({ cls := "MessengerBoardModel", name := "ordersIn", desc := "(I)I" } : Jvm.MethodName)) ∈ lw_all := lw_g (lw_at lw_m10 37 rfl) rfl
theorem q2307 : (Jvm.Cond.privateMethod ({ cls := "MessengerBoardModel", name := "ordersIn", desc := "(I)I" } : Jvm.MethodName)) ∈ lw_tbl := lw_at lw_m10 38 rfl
theorem q2308 : (Jvm.Cond.instanceMethod ({ cls := "MessengerBoardModel", name := "ordersIn", desc := "(I)I" } : Jvm.MethodName)) ∈ lw_all := lw_g (lw_at lw_m10 39 rfl) rfl
theorem q2309 : (Jvm.Cond.code ({ cls := "MessengerBoardModel", name := "ordersIn", desc := "(I)I" } : Jvm.MethodName) prog_24_method_49_code (4 : Nat) (Option.some Jvm.ClassFile.FieldType.int)) ∈ lw_all := lw_g (lw_at lw_m10 40 rfl) rfl
theorem q2311 : (Jvm.Cond.instanceMethod ({ cls := "MessengerBoardModel", name := "isWall", desc := "(II)Z" } : Jvm.MethodName)) ∈ lw_all := lw_g (lw_at lw_m10 42 rfl) rfl
theorem q2312 : (Jvm.Cond.selects "MessengerBoardModel" ({ cls := "MessengerBoardModel", name := "isWall", desc := "(II)Z" } : Jvm.MethodName) ({ cls := "MessengerBoardModel", name := "isWall", desc := "(II)Z" } : Jvm.MethodName)) ∈ lw_all := lw_g (lw_at lw_m10 43 rfl) rfl
theorem q2313 : (Jvm.Cond.code ({ cls := "MessengerBoardModel", name := "isWall", desc := "(II)Z" } : Jvm.MethodName) prog_24_method_51_code (3 : Nat) (Option.some Jvm.ClassFile.FieldType.boolean)) ∈ lw_all := lw_g (lw_at lw_m10 44 rfl) rfl
theorem q2314 : (Jvm.Cond.methodLink "MessengerBoardModel" (94 : Nat) ({ cls := "MessengerBoardModel", name := "isCell", desc := "(II)Z" } : Jvm.MethodName)) ∈ lw_all := lw_g (lw_at lw_m10 45 rfl) rfl
theorem q2315 : (Jvm.Cond.privateMethod ({ cls := "MessengerBoardModel", name := "isCell", desc := "(II)Z" } : Jvm.MethodName)) ∈ lw_tbl := lw_at lw_m10 46 rfl
theorem q2316 : (Jvm.Cond.instanceMethod ({ cls := "MessengerBoardModel", name := "isCell", desc := "(II)Z" } : Jvm.MethodName)) ∈ lw_all := lw_g (lw_at lw_m10 47 rfl) rfl
theorem q2317 : (Jvm.Cond.code ({ cls := "MessengerBoardModel", name := "isCell", desc := "(II)Z" } : Jvm.MethodName) prog_24_method_20_code (3 : Nat) (Option.some Jvm.ClassFile.FieldType.boolean)) ∈ lw_all := lw_g (lw_at lw_m10 48 rfl) rfl
theorem q2318 : (Jvm.Cond.methodLink "MessengerBoardModel" (101 : Nat) ({ cls := "MessengerBoardModel", name := "isFree", desc := "(II)Z" } : Jvm.MethodName)) ∈ lw_all := lw_g (lw_at lw_m10 49 rfl) rfl
theorem q2319 : (Jvm.Cond.privateMethod ({ cls := "MessengerBoardModel", name := "isFree", desc := "(II)Z" } : Jvm.MethodName)) ∈ lw_tbl := lw_at lw_m10 50 rfl
theorem q2320 : (Jvm.Cond.instanceMethod ({ cls := "MessengerBoardModel", name := "isFree", desc := "(II)Z" } : Jvm.MethodName)) ∈ lw_all := lw_g (lw_at lw_m10 51 rfl) rfl
theorem q2321 : (Jvm.Cond.code ({ cls := "MessengerBoardModel", name := "isFree", desc := "(II)Z" } : Jvm.MethodName) prog_24_method_21_code (3 : Nat) (Option.some Jvm.ClassFile.FieldType.boolean)) ∈ lw_all := lw_g (lw_at lw_m10 52 rfl) rfl
theorem q2322 : (Jvm.Cond.methodLink "MessengerBoardModel" (98 : Nat) ({ cls := "MessengerBoardModel", name := "wallAt", desc := "(II)I" } : Jvm.MethodName)) ∈ lw_all := lw_g (lw_at lw_m10 53 rfl) rfl
theorem q2323 : (Jvm.Cond.static ({ cls := "MessengerBoardModel", name := "wallAt", desc := "(II)I" } : Jvm.MethodName)) ∈ lw_all := lw_g (lw_at lw_m10 54 rfl) rfl
theorem q2324 : (Jvm.Cond.code ({ cls := "MessengerBoardModel", name := "wallAt", desc := "(II)I" } : Jvm.MethodName) prog_24_method_11_code (2 : Nat) (Option.some Jvm.ClassFile.FieldType.int)) ∈ lw_all := lw_g (lw_at lw_m10 55 rfl) rfl
theorem q2326 : (Jvm.Cond.instanceMethod ({ cls := "MessengerBoardModel", name := "isWatched", desc := "(III)Z" } : Jvm.MethodName)) ∈ lw_all := lw_g (lw_at lw_m10 57 rfl) rfl
theorem q2327 : (Jvm.Cond.selects "MessengerBoardModel" ({ cls := "MessengerBoardModel", name := "isWatched", desc := "(III)Z" } : Jvm.MethodName) ({ cls := "MessengerBoardModel", name := "isWatched", desc := "(III)Z" } : Jvm.MethodName)) ∈ lw_all := lw_g (lw_at lw_m10 58 rfl) rfl
theorem q2328 : (Jvm.Cond.code ({ cls := "MessengerBoardModel", name := "isWatched", desc := "(III)Z" } : Jvm.MethodName) prog_24_method_52_code (4 : Nat) (Option.some Jvm.ClassFile.FieldType.boolean)) ∈ lw_all := lw_g (lw_at lw_m10 59 rfl) rfl
theorem q2329 : (Jvm.Cond.methodLink "MessengerBoardModel" (146 : Nat) ({ cls := "MessengerBoardModel", name := "watcher", desc := "(III)I" } : Jvm.MethodName)) ∈ lw_all := lw_g (lw_at lw_m10 60 rfl) rfl
theorem q2330 : (Jvm.Cond.privateMethod ({ cls := "MessengerBoardModel", name := "watcher", desc := "(III)I" } : Jvm.MethodName)) ∈ lw_tbl := lw_at lw_m10 61 rfl
theorem q2331 : (Jvm.Cond.instanceMethod ({ cls := "MessengerBoardModel", name := "watcher", desc := "(III)I" } : Jvm.MethodName)) ∈ lw_all := lw_g (lw_at lw_m10 62 rfl) rfl
theorem q2332 : (Jvm.Cond.code ({ cls := "MessengerBoardModel", name := "watcher", desc := "(III)I" } : Jvm.MethodName) prog_24_method_28_code (5 : Nat) (Option.some Jvm.ClassFile.FieldType.int)) ∈ lw_all := lw_g (lw_at lw_m10 63 rfl) rfl
theorem q2333 : (Jvm.Cond.methodLink "MessengerBoardModel" (120 : Nat) ({ cls := "MessengerBoardModel", name := "isNear", desc := "(III)Z" } : Jvm.MethodName)) ∈ lw_all := lw_g (lw_at lw_m10 64 rfl) rfl
theorem q2334 : (Jvm.Cond.privateMethod ({ cls := "MessengerBoardModel", name := "isNear", desc := "(III)Z" } : Jvm.MethodName)) ∈ lw_tbl := lw_at lw_m10 65 rfl
theorem q2335 : (Jvm.Cond.instanceMethod ({ cls := "MessengerBoardModel", name := "isNear", desc := "(III)Z" } : Jvm.MethodName)) ∈ lw_all := lw_g (lw_at lw_m10 66 rfl) rfl
theorem q2336 : (Jvm.Cond.code ({ cls := "MessengerBoardModel", name := "isNear", desc := "(III)Z" } : Jvm.MethodName) prog_24_method_27_code (5 : Nat) (Option.some Jvm.ClassFile.FieldType.boolean)) ∈ lw_all := lw_g (lw_at lw_m10 67 rfl) rfl
theorem q2337 : (Jvm.Cond.methodLink "MessengerBoardModel" (114 : Nat) ({ cls := "java/lang/Math", name := "abs", desc := "(I)I" } : Jvm.MethodName)) ∈ lw_all := lw_g (lw_at lw_m10 68 rfl) rfl
theorem q2339 : (Jvm.Cond.instanceMethod ({ cls := "MessengerBoardModel", name := "distance", desc := "(IIII)I" } : Jvm.MethodName)) ∈ lw_all := lw_g (lw_at lw_m10 70 rfl) rfl
theorem q2340 : (Jvm.Cond.selects "MessengerBoardModel" ({ cls := "MessengerBoardModel", name := "distance", desc := "(IIII)I" } : Jvm.MethodName) ({ cls := "MessengerBoardModel", name := "distance", desc := "(IIII)I" } : Jvm.MethodName)) ∈ lw_all := lw_g (lw_at lw_m10 71 rfl) rfl
theorem q2341 : (Jvm.Cond.code ({ cls := "MessengerBoardModel", name := "distance", desc := "(IIII)I" } : Jvm.MethodName) prog_24_method_53_code (5 : Nat) (Option.some Jvm.ClassFile.FieldType.int)) ∈ lw_all := lw_g (lw_at lw_m10 72 rfl) rfl
theorem q2342 : (Jvm.Cond.methodLink "MessengerBoardModel" (158 : Nat) ({ cls := "MessengerBoardModel", name := "layFar", desc := "(II)V" } : Jvm.MethodName)) ∈ lw_all := lw_g (lw_at lw_m10 73 rfl) rfl
theorem q2343 : (Jvm.Cond.privateMethod ({ cls := "MessengerBoardModel", name := "layFar", desc := "(II)V" } : Jvm.MethodName)) ∈ lw_tbl := lw_at lw_m10 74 rfl
theorem q2344 : (Jvm.Cond.instanceMethod ({ cls := "MessengerBoardModel", name := "layFar", desc := "(II)V" } : Jvm.MethodName)) ∈ lw_all := lw_g (lw_at lw_m10 75 rfl) rfl
theorem q2345 : (Jvm.Cond.code ({ cls := "MessengerBoardModel", name := "layFar", desc := "(II)V" } : Jvm.MethodName) prog_24_method_23_code (5 : Nat) (Option.none : Option Jvm.ClassFile.FieldType)) ∈ lw_all := lw_g (lw_at lw_m10 76 rfl) rfl
theorem q2346 : (Jvm.Cond.methodLink "MessengerBoardModel" (104 : Nat) ({ cls := "MessengerBoardModel", name := "spread", desc := "(II)I" } : Jvm.MethodName)) ∈ lw_all := lw_g (lw_at lw_m10 77 rfl) rfl
theorem q2347 : (Jvm.Cond.privateMethod ({ cls := "MessengerBoardModel", name := "spread", desc := "(II)I" } : Jvm.MethodName)) ∈ lw_tbl := lw_at lw_m10 78 rfl
theorem q2348 : (Jvm.Cond.instanceMethod ({ cls := "MessengerBoardModel", name := "spread", desc := "(II)I" } : Jvm.MethodName)) ∈ lw_all := lw_g (lw_at lw_m10 79 rfl) rfl
theorem q2349 : (Jvm.Cond.code ({ cls := "MessengerBoardModel", name := "spread", desc := "(II)I" } : Jvm.MethodName) prog_24_method_24_code (7 : Nat) (Option.some Jvm.ClassFile.FieldType.int)) ∈ lw_all := lw_g (lw_at lw_m10 80 rfl) rfl
theorem q2350 : (Jvm.Cond.methodLink "MessengerBoardModel" (107 : Nat) ({ cls := "MessengerBoardModel", name := "beside", desc := "(IZ)I" } : Jvm.MethodName)) ∈ lw_all := lw_g (lw_at lw_m10 81 rfl) rfl
theorem q2351 : (Jvm.Cond.static ({ cls := "MessengerBoardModel", name := "beside", desc := "(IZ)I" } : Jvm.MethodName)) ∈ lw_all := lw_g (lw_at lw_m10 82 rfl) rfl
theorem q2352 : (Jvm.Cond.code ({ cls := "MessengerBoardModel", name := "beside", desc := "(IZ)I" } : Jvm.MethodName) prog_24_method_22_code (2 : Nat) (Option.some Jvm.ClassFile.FieldType.int)) ∈ lw_all := lw_g (lw_at lw_m10 83 rfl) rfl
theorem q2354 : (Jvm.Cond.instanceMethod ({ cls := "MessengerBoardModel", name := "step", desc := "(IIII)I" } : Jvm.MethodName)) ∈ lw_all := lw_g (lw_at lw_m10 85 rfl) rfl
theorem q2355 : (Jvm.Cond.selects "MessengerBoardModel" ({ cls := "MessengerBoardModel", name := "step", desc := "(IIII)I" } : Jvm.MethodName) ({ cls := "MessengerBoardModel", name := "step", desc := "(IIII)I" } : Jvm.MethodName)) ∈ lw_all := lw_g (lw_at lw_m10 86 rfl) rfl
theorem q2356 : (Jvm.Cond.code ({ cls := "MessengerBoardModel", name := "step", desc := "(IIII)I" } : Jvm.MethodName) prog_24_method_54_code (6 : Nat) (Option.some Jvm.ClassFile.FieldType.int)) ∈ lw_all := lw_g (lw_at lw_m10 87 rfl) rfl
theorem q2357 : (Jvm.Cond.methodLink "MessengerBoardModel" (143 : Nat) ({ cls := "MessengerBoardModel", name := "stepFrom", desc := "(II)I" } : Jvm.MethodName)) ∈ lw_all := lw_g (lw_at lw_m10 88 rfl) rfl
theorem q2358 : (Jvm.Cond.privateMethod ({ cls := "MessengerBoardModel", name := "stepFrom", desc := "(II)I" } : Jvm.MethodName)) ∈ lw_tbl := lw_at lw_m10 89 rfl
theorem q2359 : (Jvm.Cond.instanceMethod ({ cls := "MessengerBoardModel", name := "stepFrom", desc := "(II)I" } : Jvm.MethodName)) ∈ lw_all := lw_g (lw_at lw_m10 90 rfl) rfl
theorem q2360 : (Jvm.Cond.code ({ cls := "MessengerBoardModel", name := "stepFrom", desc := "(II)I" } : Jvm.MethodName) prog_24_method_25_code (6 : Nat) (Option.some Jvm.ClassFile.FieldType.int)) ∈ lw_all := lw_g (lw_at lw_m10 91 rfl) rfl
theorem q2362 : (Jvm.Cond.instanceMethod ({ cls := "MessengerBoardModel", name := "wasAt", desc := "(II)I" } : Jvm.MethodName)) ∈ lw_all := lw_g (lw_at lw_m10 93 rfl) rfl
theorem q2363 : (Jvm.Cond.selects "MessengerBoardModel" ({ cls := "MessengerBoardModel", name := "wasAt", desc := "(II)I" } : Jvm.MethodName) ({ cls := "MessengerBoardModel", name := "wasAt", desc := "(II)I" } : Jvm.MethodName)) ∈ lw_all := lw_g (lw_at lw_m10 94 rfl) rfl
theorem q2364 : (Jvm.Cond.code ({ cls := "MessengerBoardModel", name := "wasAt", desc := "(II)I" } : Jvm.MethodName) prog_24_method_55_code (3 : Nat) (Option.some Jvm.ClassFile.FieldType.int)) ∈ lw_all := lw_g (lw_at lw_m10 95 rfl) rfl
theorem q2365 : (Jvm.Cond.methodLink "MessengerBoardModel" (177 : Nat) ({ cls := "MessengerBoardModel", name := "wasSlot", desc := "(II)I" } : Jvm.MethodName)) ∈ lw_all := lw_g (lw_at lw_m10 96 rfl) rfl
theorem q2366 : (Jvm.Cond.static ({ cls := "MessengerBoardModel", name := "wasSlot", desc := "(II)I" } : Jvm.MethodName)) ∈ lw_all := lw_g (lw_at lw_m10 97 rfl) rfl
theorem q2367 : (Jvm.Cond.code ({ cls := "MessengerBoardModel", name := "wasSlot", desc := "(II)I" } : Jvm.MethodName) prog_24_method_10_code (2 : Nat) (Option.some Jvm.ClassFile.FieldType.int)) ∈ lw_all := lw_g (lw_at lw_m10 98 rfl) rfl
theorem q2369 : (Jvm.Cond.instanceMethod ({ cls := "MessengerBoardModel", name := "stateAt", desc := "(II)I" } : Jvm.MethodName)) ∈ lw_all := lw_g (lw_at lw_m10 100 rfl) rfl
theorem q2370 : (Jvm.Cond.selects "MessengerBoardModel" ({ cls := "MessengerBoardModel", name := "stateAt", desc := "(II)I" } : Jvm.MethodName) ({ cls := "MessengerBoardModel", name := "stateAt", desc := "(II)I" } : Jvm.MethodName)) ∈ lw_all := lw_g (lw_at lw_m10 101 rfl) rfl
theorem q2371 : (Jvm.Cond.code ({ cls := "MessengerBoardModel", name := "stateAt", desc := "(II)I" } : Jvm.MethodName) prog_24_method_56_code (6 : Nat) (Option.some Jvm.ClassFile.FieldType.int)) ∈ lw_all := lw_g (lw_at lw_m10 102 rfl) rfl
theorem q2373 : (Jvm.Cond.instanceMethod ({ cls := "MessengerBoardModel", name := "crossed", desc := "()I" } : Jvm.MethodName)) ∈ lw_all := lw_g (lw_at lw_m10 104 rfl) rfl
theorem q2374 : (Jvm.Cond.selects "MessengerBoardModel" ({ cls := "MessengerBoardModel", name := "crossed", desc := "()I" } : Jvm.MethodName) ({ cls := "MessengerBoardModel", name := "crossed", desc := "()I" } : Jvm.MethodName)) ∈ lw_all := lw_g (lw_at lw_m10 105 rfl) rfl
theorem q2375 : (Jvm.Cond.code ({ cls := "MessengerBoardModel", name := "crossed", desc := "()I" } : Jvm.MethodName) prog_24_method_57_code (6 : Nat) (Option.some Jvm.ClassFile.FieldType.int)) ∈ lw_all := lw_g (lw_at lw_m10 106 rfl) rfl
theorem q2377 : (Jvm.Cond.instanceMethod ({ cls := "MessengerBoardModel", name := "wouldBe", desc := "(IIII)I" } : Jvm.MethodName)) ∈ lw_all := lw_g (lw_at lw_m10 108 rfl) rfl
theorem q2378 : (Jvm.Cond.selects "MessengerBoardModel" ({ cls := "MessengerBoardModel", name := "wouldBe", desc := "(IIII)I" } : Jvm.MethodName) ({ cls := "MessengerBoardModel", name := "wouldBe", desc := "(IIII)I" } : Jvm.MethodName)) ∈ lw_all := lw_g (lw_at lw_m10 109 rfl) rfl
theorem q2379 : (Jvm.Cond.code ({ cls := "MessengerBoardModel", name := "wouldBe", desc := "(IIII)I" } : Jvm.MethodName) prog_24_method_61_code (8 : Nat) (Option.some Jvm.ClassFile.FieldType.int)) ∈ lw_all := lw_g (lw_at lw_m10 110 rfl) rfl
theorem q2380 : (Jvm.Cond.methodLink "MessengerBoardModel" (217 : Nat) ({ cls := "MessengerBoardModel", name := "isTarget", desc := "(III)Z" } : Jvm.MethodName)) ∈ lw_all := lw_g (lw_at lw_m10 111 rfl) rfl
theorem q2381 : (Jvm.Cond.privateMethod ({ cls := "MessengerBoardModel", name := "isTarget", desc := "(III)Z" } : Jvm.MethodName)) ∈ lw_tbl := lw_at lw_m10 112 rfl
theorem q2382 : (Jvm.Cond.instanceMethod ({ cls := "MessengerBoardModel", name := "isTarget", desc := "(III)Z" } : Jvm.MethodName)) ∈ lw_all := lw_g (lw_at lw_m10 113 rfl) rfl
theorem q2383 : (Jvm.Cond.code ({ cls := "MessengerBoardModel", name := "isTarget", desc := "(III)Z" } : Jvm.MethodName) prog_24_method_58_code (4 : Nat) (Option.some Jvm.ClassFile.FieldType.boolean)) ∈ lw_all := lw_g (lw_at lw_m10 114 rfl) rfl
theorem q2384 : (Jvm.Cond.methodLink "MessengerBoardModel" (220 : Nat) ({ cls := "MessengerBoardModel", name := "begin", desc := "()V" } : Jvm.MethodName)) ∈ lw_all := lw_g (lw_at lw_m10 115 rfl) rfl
theorem q2385 : (Jvm.Cond.privateMethod ({ cls := "MessengerBoardModel", name := "begin", desc := "()V" } : Jvm.MethodName)) ∈ lw_tbl := lw_at lw_m10 116 rfl
theorem q2386 : (Jvm.Cond.instanceMethod ({ cls := "MessengerBoardModel", name := "begin", desc := "()V" } : Jvm.MethodName)) ∈ lw_all := lw_g (lw_at lw_m10 117 rfl) rfl
theorem q2387 : (Jvm.Cond.code ({ cls := "MessengerBoardModel", name := "begin", desc := "()V" } : Jvm.MethodName) prog_24_method_59_code (1 : Nat) (Option.none : Option Jvm.ClassFile.FieldType)) ∈ lw_all := lw_g (lw_at lw_m10 118 rfl) rfl
theorem q2388 : (Jvm.Cond.methodLink "MessengerBoardModel" (213 : Nat) ({ cls := "MessengerBoardModel", name := "copy", desc := "([II[II)V" } : Jvm.MethodName)) ∈ lw_all := lw_g (lw_at lw_m10 119 rfl) rfl
theorem q2389 : (Jvm.Cond.static ({ cls := "MessengerBoardModel", name := "copy", desc := "([II[II)V" } : Jvm.MethodName)) ∈ lw_all := lw_g (lw_at lw_m10 120 rfl) rfl
theorem q2390 : (Jvm.Cond.code ({ cls := "MessengerBoardModel", name := "copy", desc := "([II[II)V" } : Jvm.MethodName) prog_24_method_81_code (5 : Nat) (Option.none : Option Jvm.ClassFile.FieldType)) ∈ lw_all := lw_g (lw_at lw_m10 121 rfl) rfl
theorem q2391 : (Jvm.Cond.methodLink "MessengerBoardModel" (167 : Nat) ({ cls := "MessengerBoardModel", name := "dispatch", desc := "(III)V" } : Jvm.MethodName)) ∈ lw_all := lw_g (lw_at lw_m10 122 rfl) rfl
theorem q2392 : (Jvm.Cond.privateMethod ({ cls := "MessengerBoardModel", name := "dispatch", desc := "(III)V" } : Jvm.MethodName)) ∈ lw_tbl := lw_at lw_m10 123 rfl
theorem q2393 : (Jvm.Cond.instanceMethod ({ cls := "MessengerBoardModel", name := "dispatch", desc := "(III)V" } : Jvm.MethodName)) ∈ lw_all := lw_g (lw_at lw_m10 124 rfl) rfl
theorem q2394 : (Jvm.Cond.code ({ cls := "MessengerBoardModel", name := "dispatch", desc := "(III)V" } : Jvm.MethodName) prog_24_method_30_code (5 : Nat) (Option.none : Option Jvm.ClassFile.FieldType)) ∈ lw_all := lw_g (lw_at lw_m10 125 rfl) rfl
theorem q2395 : (Jvm.Cond.methodLink "MessengerBoardModel" (223 : Nat) ({ cls := "MessengerBoardModel", name := "passTurn", desc := "()V" } : Jvm.MethodName)) ∈ lw_all := lw_g (lw_at lw_m10 126 rfl) rfl
theorem q2396 : (Jvm.Cond.privateMethod ({ cls := "MessengerBoardModel", name := "passTurn", desc := "()V" } : Jvm.MethodName)) ∈ lw_tbl := lw_at lw_m10 127 rfl
theorem q2397 : (Jvm.Cond.instanceMethod ({ cls := "MessengerBoardModel", name := "passTurn", desc := "()V" } : Jvm.MethodName)) ∈ lw_all := lw_g (lw_at lw_m10 128 rfl) rfl
theorem q2398 : (Jvm.Cond.code ({ cls := "MessengerBoardModel", name := "passTurn", desc := "()V" } : Jvm.MethodName) prog_24_method_41_code (3 : Nat) (Option.none : Option Jvm.ClassFile.FieldType)) ∈ lw_all := lw_g (lw_at lw_m10 129 rfl) rfl
theorem q2399 : (Jvm.Cond.methodLink "MessengerBoardModel" (180 : Nat) ({ cls := "MessengerBoardModel", name := "sendPlanned", desc := "()V" } : Jvm.MethodName)) ∈ lw_all := lw_g (lw_at lw_m10 130 rfl) rfl
theorem q2400 : (Jvm.Cond.privateMethod ({ cls := "MessengerBoardModel", name := "sendPlanned", desc := "()V" } : Jvm.MethodName)) ∈ lw_tbl := lw_at lw_m10 131 rfl
theorem q2401 : (Jvm.Cond.instanceMethod ({ cls := "MessengerBoardModel", name := "sendPlanned", desc := "()V" } : Jvm.MethodName)) ∈ lw_all := lw_g (lw_at lw_m10 132 rfl) rfl
theorem q2402 : (Jvm.Cond.code ({ cls := "MessengerBoardModel", name := "sendPlanned", desc := "()V" } : Jvm.MethodName) prog_24_method_36_code (2 : Nat) (Option.none : Option Jvm.ClassFile.FieldType)) ∈ lw_all := lw_g (lw_at lw_m10 133 rfl) rfl
theorem q2403 : (Jvm.Cond.methodLink "MessengerBoardModel" (183 : Nat) ({ cls := "MessengerBoardModel", name := "carry", desc := "(I)V" } : Jvm.MethodName)) ∈ lw_all := lw_g (lw_at lw_m10 134 rfl) rfl
theorem q2404 : (Jvm.Cond.privateMethod ({ cls := "MessengerBoardModel", name := "carry", desc := "(I)V" } : Jvm.MethodName)) ∈ lw_tbl := lw_at lw_m10 135 rfl
theorem q2405 : (Jvm.Cond.instanceMethod ({ cls := "MessengerBoardModel", name := "carry", desc := "(I)V" } : Jvm.MethodName)) ∈ lw_all := lw_g (lw_at lw_m10 136 rfl) rfl
theorem q2406 : (Jvm.Cond.code ({ cls := "MessengerBoardModel", name := "carry", desc := "(I)V" } : Jvm.MethodName) prog_24_method_35_code (3 : Nat) (Option.none : Option Jvm.ClassFile.FieldType)) ∈ lw_all := lw_g (lw_at lw_m10 137 rfl) rfl
theorem q2407 : (Jvm.Cond.methodLink "MessengerBoardModel" (150 : Nat) ({ cls := "MessengerBoardModel", name := "isThere", desc := "(I)Z" } : Jvm.MethodName)) ∈ lw_all := lw_g (lw_at lw_m10 138 rfl) rfl
theorem q2408 : (Jvm.Cond.privateMethod ({ cls := "MessengerBoardModel", name := "isThere", desc := "(I)Z" } : Jvm.MethodName)) ∈ lw_tbl := lw_at lw_m10 139 rfl
theorem q2409 : (Jvm.Cond.instanceMethod ({ cls := "MessengerBoardModel", name := "isThere", desc := "(I)Z" } : Jvm.MethodName)) ∈ lw_all := lw_g (lw_at lw_m10 140 rfl) rfl
theorem q2410 : (Jvm.Cond.code ({ cls := "MessengerBoardModel", name := "isThere", desc := "(I)Z" } : Jvm.MethodName) prog_24_method_33_code (3 : Nat) (Option.some Jvm.ClassFile.FieldType.boolean)) ∈ lw_all := lw_g (lw_at lw_m10 141 rfl) rfl
theorem q2411 : (Jvm.Cond.methodLink "MessengerBoardModel" (154 : Nat) ({ cls := "MessengerBoardModel", name := "arrive", desc := "(I)V" } : Jvm.MethodName)) ∈ lw_all := lw_g (lw_at lw_m10 142 rfl) rfl
theorem q2412 : (Jvm.Cond.privateMethod ({ cls := "MessengerBoardModel", name := "arrive", desc := "(I)V" } : Jvm.MethodName)) ∈ lw_tbl := lw_at lw_m10 143 rfl
theorem q2413 : (Jvm.Cond.instanceMethod ({ cls := "MessengerBoardModel", name := "arrive", desc := "(I)V" } : Jvm.MethodName)) ∈ lw_all := lw_g (lw_at lw_m10 144 rfl) rfl
theorem q2414 : (Jvm.Cond.code ({ cls := "MessengerBoardModel", name := "arrive", desc := "(I)V" } : Jvm.MethodName) prog_24_method_32_code (4 : Nat) (Option.none : Option Jvm.ClassFile.FieldType)) ∈ lw_all := lw_g (lw_at lw_m10 145 rfl) rfl
theorem q2415 : (Jvm.Cond.methodLink "MessengerBoardModel" (136 : Nat) ({ cls := "MessengerBoardModel", name := "become", desc := "(II)V" } : Jvm.MethodName)) ∈ lw_all := lw_g (lw_at lw_m10 146 rfl) rfl
theorem q2416 : (Jvm.Cond.privateMethod ({ cls := "MessengerBoardModel", name := "become", desc := "(II)V" } : Jvm.MethodName)) ∈ lw_tbl := lw_at lw_m10 147 rfl
theorem q2417 : (Jvm.Cond.instanceMethod ({ cls := "MessengerBoardModel", name := "become", desc := "(II)V" } : Jvm.MethodName)) ∈ lw_all := lw_g (lw_at lw_m10 148 rfl) rfl
theorem q2418 : (Jvm.Cond.code ({ cls := "MessengerBoardModel", name := "become", desc := "(II)V" } : Jvm.MethodName) prog_24_method_29_code (4 : Nat) (Option.none : Option Jvm.ClassFile.FieldType)) ∈ lw_all := lw_g (lw_at lw_m10 149 rfl) rfl
theorem q2419 : (Jvm.Cond.methodLink "MessengerBoardModel" (161 : Nat) ({ cls := "MessengerBoardModel", name := "ride", desc := "(I)Z" } : Jvm.MethodName)) ∈ lw_all := lw_g (lw_at lw_m10 150 rfl) rfl
theorem q2420 : (Jvm.Cond.privateMethod ({ cls := "MessengerBoardModel", name := "ride", desc := "(I)Z" } : Jvm.MethodName)) ∈ lw_tbl := lw_at lw_m10 151 rfl
theorem q2421 : (Jvm.Cond.instanceMethod ({ cls := "MessengerBoardModel", name := "ride", desc := "(I)Z" } : Jvm.MethodName)) ∈ lw_all := lw_g (lw_at lw_m10 152 rfl) rfl
theorem q2422 : (Jvm.Cond.code ({ cls := "MessengerBoardModel", name := "ride", desc := "(I)Z" } : Jvm.MethodName) prog_24_method_34_code (4 : Nat) (Option.some Jvm.ClassFile.FieldType.boolean)) ∈ lw_all := lw_g (lw_at lw_m10 153 rfl) rfl
theorem q2423 : (Jvm.Cond.methodLink "MessengerBoardModel" (186 : Nat) ({ cls := "MessengerBoardModel", name := "move", desc := "(I)V" } : Jvm.MethodName)) ∈ lw_all := lw_g (lw_at lw_m10 154 rfl) rfl
theorem q2424 : (Jvm.Cond.privateMethod ({ cls := "MessengerBoardModel", name := "move", desc := "(I)V" } : Jvm.MethodName)) ∈ lw_tbl := lw_at lw_m10 155 rfl
theorem q2425 : (Jvm.Cond.instanceMethod ({ cls := "MessengerBoardModel", name := "move", desc := "(I)V" } : Jvm.MethodName)) ∈ lw_all := lw_g (lw_at lw_m10 156 rfl) rfl
theorem q2426 : (Jvm.Cond.code ({ cls := "MessengerBoardModel", name := "move", desc := "(I)V" } : Jvm.MethodName) prog_24_method_39_code (3 : Nat) (Option.none : Option Jvm.ClassFile.FieldType)) ∈ lw_all := lw_g (lw_at lw_m10 157 rfl) rfl
theorem q2427 : (Jvm.Cond.methodLink "MessengerBoardModel" (171 : Nat) ({ cls := "MessengerBoardModel", name := "isInGoal", desc := "(II)Z" } : Jvm.MethodName)) ∈ lw_all := lw_g (lw_at lw_m10 158 rfl) rfl
theorem q2428 : (Jvm.Cond.privateMethod ({ cls := "MessengerBoardModel", name := "isInGoal", desc := "(II)Z" } : Jvm.MethodName)) ∈ lw_tbl := lw_at lw_m10 159 rfl
theorem q2429 : (Jvm.Cond.instanceMethod ({ cls := "MessengerBoardModel", name := "isInGoal", desc := "(II)Z" } : Jvm.MethodName)) ∈ lw_all := lw_g (lw_at lw_m10 160 rfl) rfl
theorem q2430 : (Jvm.Cond.code ({ cls := "MessengerBoardModel", name := "isInGoal", desc := "(II)Z" } : Jvm.MethodName) prog_24_method_37_code (3 : Nat) (Option.some Jvm.ClassFile.FieldType.boolean)) ∈ lw_all := lw_g (lw_at lw_m10 161 rfl) rfl
theorem q2431 : (Jvm.Cond.methodLink "MessengerBoardModel" (174 : Nat) ({ cls := "MessengerBoardModel", name := "walk", desc := "(II)V" } : Jvm.MethodName)) ∈ lw_all := lw_g (lw_at lw_m10 162 rfl) rfl
theorem q2432 : (Jvm.Cond.privateMethod ({ cls := "MessengerBoardModel", name := "walk", desc := "(II)V" } : Jvm.MethodName)) ∈ lw_tbl := lw_at lw_m10 163 rfl
theorem q2433 : (Jvm.Cond.instanceMethod ({ cls := "MessengerBoardModel", name := "walk", desc := "(II)V" } : Jvm.MethodName)) ∈ lw_all := lw_g (lw_at lw_m10 164 rfl) rfl
theorem q2434 : (Jvm.Cond.code ({ cls := "MessengerBoardModel", name := "walk", desc := "(II)V" } : Jvm.MethodName) prog_24_method_38_code (4 : Nat) (Option.none : Option Jvm.ClassFile.FieldType)) ∈ lw_all := lw_g (lw_at lw_m10 165 rfl) rfl
theorem q2435 : (Jvm.Cond.methodLink "MessengerBoardModel" (189 : Nat) ({ cls := "MessengerBoardModel", name := "remember", desc := "()V" } : Jvm.MethodName)) ∈ lw_all := lw_g (lw_at lw_m10 166 rfl) rfl
theorem q2436 : (Jvm.Cond.privateMethod ({ cls := "MessengerBoardModel", name := "remember", desc := "()V" } : Jvm.MethodName)) ∈ lw_tbl := lw_at lw_m10 167 rfl
theorem q2437 : (Jvm.Cond.instanceMethod ({ cls := "MessengerBoardModel", name := "remember", desc := "()V" } : Jvm.MethodName)) ∈ lw_all := lw_g (lw_at lw_m10 168 rfl) rfl
theorem q2438 : (Jvm.Cond.code ({ cls := "MessengerBoardModel", name := "remember", desc := "()V" } : Jvm.MethodName) prog_24_method_40_code (2 : Nat) (Option.none : Option Jvm.ClassFile.FieldType)) ∈ lw_all := lw_g (lw_at lw_m10 169 rfl) rfl
theorem q2439 : (Jvm.Cond.methodLink "MessengerBoardModel" (226 : Nat) ({ cls := "MessengerBoardModel", name := "end", desc := "()V" } : Jvm.MethodName)) ∈ lw_all := lw_g (lw_at lw_m10 170 rfl) rfl
theorem q2440 : (Jvm.Cond.privateMethod ({ cls := "MessengerBoardModel", name := "end", desc := "()V" } : Jvm.MethodName)) ∈ lw_tbl := lw_at lw_m10 171 rfl
theorem q2441 : (Jvm.Cond.instanceMethod ({ cls := "MessengerBoardModel", name := "end", desc := "()V" } : Jvm.MethodName)) ∈ lw_all := lw_g (lw_at lw_m10 172 rfl) rfl
theorem q2442 : (Jvm.Cond.code ({ cls := "MessengerBoardModel", name := "end", desc := "()V" } : Jvm.MethodName) prog_24_method_60_code (1 : Nat) (Option.none : Option Jvm.ClassFile.FieldType)) ∈ lw_all := lw_g (lw_at lw_m10 173 rfl) rfl
theorem q2444 : (Jvm.Cond.instanceMethod ({ cls := "MessengerBoardModel", name := "wouldArrive", desc := "(III)I" } : Jvm.MethodName)) ∈ lw_all := lw_g (lw_at lw_m10 175 rfl) rfl
theorem q2445 : (Jvm.Cond.selects "MessengerBoardModel" ({ cls := "MessengerBoardModel", name := "wouldArrive", desc := "(III)I" } : Jvm.MethodName) ({ cls := "MessengerBoardModel", name := "wouldArrive", desc := "(III)I" } : Jvm.MethodName)) ∈ lw_all := lw_g (lw_at lw_m10 176 rfl) rfl
theorem q2446 : (Jvm.Cond.code ({ cls := "MessengerBoardModel", name := "wouldArrive", desc := "(III)I" } : Jvm.MethodName) prog_24_method_63_code (5 : Nat) (Option.some Jvm.ClassFile.FieldType.int)) ∈ lw_all := lw_g (lw_at lw_m10 177 rfl) rfl
theorem q2447 : (Jvm.Cond.methodLink "MessengerBoardModel" (229 : Nat) ({ cls := "MessengerBoardModel", name := "arrivalOf", desc := "(III)I" } : Jvm.MethodName)) ∈ lw_all := lw_g (lw_at lw_m10 178 rfl) rfl
theorem q2448 : (Jvm.Cond.privateMethod ({ cls := "MessengerBoardModel", name := "arrivalOf", desc := "(III)I" } : Jvm.MethodName)) ∈ lw_tbl := lw_at lw_m10 179 rfl
theorem q2449 : (Jvm.Cond.instanceMethod ({ cls := "MessengerBoardModel", name := "arrivalOf", desc := "(III)I" } : Jvm.MethodName)) ∈ lw_all := lw_g (lw_at lw_m10 180 rfl) rfl
theorem q2450 : (Jvm.Cond.code ({ cls := "MessengerBoardModel", name := "arrivalOf", desc := "(III)I" } : Jvm.MethodName) prog_24_method_62_code (5 : Nat) (Option.some Jvm.ClassFile.FieldType.int)) ∈ lw_all := lw_g (lw_at lw_m10 181 rfl) rfl
theorem q2452 : (Jvm.Cond.instanceMethod ({ cls := "MessengerBoardModel", name := "bestDelay", desc := "(III)I" } : Jvm.MethodName)) ∈ lw_all := lw_g (lw_at lw_m10 183 rfl) rfl
theorem q2453 : (Jvm.Cond.selects "MessengerBoardModel" ({ cls := "MessengerBoardModel", name := "bestDelay", desc := "(III)I" } : Jvm.MethodName) ({ cls := "MessengerBoardModel", name := "bestDelay", desc := "(III)I" } : Jvm.MethodName)) ∈ lw_all := lw_g (lw_at lw_m10 184 rfl) rfl
theorem q2454 : (Jvm.Cond.code ({ cls := "MessengerBoardModel", name := "bestDelay", desc := "(III)I" } : Jvm.MethodName) prog_24_method_64_code (6 : Nat) (Option.some Jvm.ClassFile.FieldType.int)) ∈ lw_all := lw_g (lw_at lw_m10 185 rfl) rfl
theorem q2456 : (Jvm.Cond.instanceMethod ({ cls := "MessengerBoardModel", name := "failing", desc := "(I)I" } : Jvm.MethodName)) ∈ lw_all := lw_g (lw_at lw_m10 187 rfl) rfl
theorem q2457 : (Jvm.Cond.selects "MessengerBoardModel" ({ cls := "MessengerBoardModel", name := "failing", desc := "(I)I" } : Jvm.MethodName) ({ cls := "MessengerBoardModel", name := "failing", desc := "(I)I" } : Jvm.MethodName)) ∈ lw_all := lw_g (lw_at lw_m10 188 rfl) rfl
theorem q2458 : (Jvm.Cond.code ({ cls := "MessengerBoardModel", name := "failing", desc := "(I)I" } : Jvm.MethodName) prog_24_method_65_code (5 : Nat) (Option.some Jvm.ClassFile.FieldType.int)) ∈ lw_all := lw_g (lw_at lw_m10 189 rfl) rfl
theorem q2460 : (Jvm.Cond.instanceMethod ({ cls := "MessengerBoardModel", name := "meanDelay", desc := "()D" } : Jvm.MethodName)) ∈ lw_all := lw_g (lw_at lw_m10 191 rfl) rfl
theorem q2461 : (Jvm.Cond.selects "MessengerBoardModel" ({ cls := "MessengerBoardModel", name := "meanDelay", desc := "()D" } : Jvm.MethodName) ({ cls := "MessengerBoardModel", name := "meanDelay", desc := "()D" } : Jvm.MethodName)) ∈ lw_all := lw_g (lw_at lw_m10 192 rfl) rfl
theorem q2462 : (Jvm.Cond.code ({ cls := "MessengerBoardModel", name := "meanDelay", desc := "()D" } : Jvm.MethodName) prog_24_method_66_code (5 : Nat) (Option.some Jvm.ClassFile.FieldType.double)) ∈ lw_all := lw_g (lw_at lw_m10 193 rfl) rfl
theorem q2464 : (Jvm.Cond.instanceMethod ({ cls := "MessengerBoardModel", name := "success", desc := "()F" } : Jvm.MethodName)) ∈ lw_all := lw_g (lw_at lw_m10 195 rfl) rfl
theorem q2465 : (Jvm.Cond.selects "MessengerBoardModel" ({ cls := "MessengerBoardModel", name := "success", desc := "()F" } : Jvm.MethodName) ({ cls := "MessengerBoardModel", name := "success", desc := "()F" } : Jvm.MethodName)) ∈ lw_all := lw_g (lw_at lw_m10 196 rfl) rfl
theorem q2466 : (Jvm.Cond.code ({ cls := "MessengerBoardModel", name := "success", desc := "()F" } : Jvm.MethodName) prog_24_method_67_code (1 : Nat) (Option.some Jvm.ClassFile.FieldType.float)) ∈ lw_all := lw_g (lw_at lw_m10 197 rfl) rfl
theorem q2468 : (Jvm.Cond.instanceMethod ({ cls := "MessengerBoardModel", name := "pass", desc := "(I)I" } : Jvm.MethodName)) ∈ lw_all := lw_g (lw_at lw_m10 199 rfl) rfl
theorem q2469 : (Jvm.Cond.selects "MessengerBoardModel" ({ cls := "MessengerBoardModel", name := "pass", desc := "(I)I" } : Jvm.MethodName) ({ cls := "MessengerBoardModel", name := "pass", desc := "(I)I" } : Jvm.MethodName)) ∈ lw_all := lw_g (lw_at lw_m10 200 rfl) rfl
theorem q2470 : (Jvm.Cond.code ({ cls := "MessengerBoardModel", name := "pass", desc := "(I)I" } : Jvm.MethodName) prog_24_method_68_code (4 : Nat) (Option.some Jvm.ClassFile.FieldType.int)) ∈ lw_all := lw_g (lw_at lw_m10 201 rfl) rfl
theorem q2471 : (Jvm.Cond.methodLink "MessengerBoardModel" (232 : Nat) ({ cls := "MessengerBoardModel", name := "record", desc := "()V" } : Jvm.MethodName)) ∈ lw_all := lw_g (lw_at lw_m10 202 rfl) rfl
theorem q2472 : (Jvm.Cond.privateMethod ({ cls := "MessengerBoardModel", name := "record", desc := "()V" } : Jvm.MethodName)) ∈ lw_tbl := lw_at lw_m10 203 rfl
theorem q2473 : (Jvm.Cond.instanceMethod ({ cls := "MessengerBoardModel", name := "record", desc := "()V" } : Jvm.MethodName)) ∈ lw_all := lw_g (lw_at lw_m10 204 rfl) rfl
theorem q2474 : (Jvm.Cond.code ({ cls := "MessengerBoardModel", name := "record", desc := "()V" } : Jvm.MethodName) prog_24_method_82_code (2 : Nat) (Option.none : Option Jvm.ClassFile.FieldType)) ∈ lw_all := lw_g (lw_at lw_m10 205 rfl) rfl
theorem q2476 : (Jvm.Cond.instanceMethod ({ cls := "MessengerBoardModel", name := "send", desc := "(III)I" } : Jvm.MethodName)) ∈ lw_all := lw_g (lw_at lw_m10 207 rfl) rfl
theorem q2477 : (Jvm.Cond.selects "MessengerBoardModel" ({ cls := "MessengerBoardModel", name := "send", desc := "(III)I" } : Jvm.MethodName) ({ cls := "MessengerBoardModel", name := "send", desc := "(III)I" } : Jvm.MethodName)) ∈ lw_all := lw_g (lw_at lw_m10 208 rfl) rfl
theorem q2478 : (Jvm.Cond.code ({ cls := "MessengerBoardModel", name := "send", desc := "(III)I" } : Jvm.MethodName) prog_24_method_69_code (4 : Nat) (Option.some Jvm.ClassFile.FieldType.int)) ∈ lw_all := lw_g (lw_at lw_m10 209 rfl) rfl
theorem q2480 : (Jvm.Cond.instanceMethod ({ cls := "MessengerBoardModel", name := "wall", desc := "(II)I" } : Jvm.MethodName)) ∈ lw_all := lw_g (lw_at lw_m10 211 rfl) rfl
theorem q2481 : (Jvm.Cond.selects "MessengerBoardModel" ({ cls := "MessengerBoardModel", name := "wall", desc := "(II)I" } : Jvm.MethodName) ({ cls := "MessengerBoardModel", name := "wall", desc := "(II)I" } : Jvm.MethodName)) ∈ lw_all := lw_g (lw_at lw_m10 212 rfl) rfl
theorem q2482 : (Jvm.Cond.code ({ cls := "MessengerBoardModel", name := "wall", desc := "(II)I" } : Jvm.MethodName) prog_24_method_72_code (3 : Nat) (Option.some Jvm.ClassFile.FieldType.int)) ∈ lw_all := lw_g (lw_at lw_m10 213 rfl) rfl
theorem q2483 : (Jvm.Cond.methodLink "MessengerBoardModel" (235 : Nat) ({ cls := "MessengerBoardModel", name := "isHeld", desc := "(II)Z" } : Jvm.MethodName)) ∈ lw_all := lw_g (lw_at lw_m10 214 rfl) rfl
theorem q2484 : (Jvm.Cond.privateMethod ({ cls := "MessengerBoardModel", name := "isHeld", desc := "(II)Z" } : Jvm.MethodName)) ∈ lw_tbl := lw_at lw_m10 215 rfl
theorem q2485 : (Jvm.Cond.instanceMethod ({ cls := "MessengerBoardModel", name := "isHeld", desc := "(II)Z" } : Jvm.MethodName)) ∈ lw_all := lw_g (lw_at lw_m10 216 rfl) rfl
theorem q2486 : (Jvm.Cond.code ({ cls := "MessengerBoardModel", name := "isHeld", desc := "(II)Z" } : Jvm.MethodName) prog_24_method_70_code (5 : Nat) (Option.some Jvm.ClassFile.FieldType.boolean)) ∈ lw_all := lw_g (lw_at lw_m10 217 rfl) rfl
theorem q2487 : (Jvm.Cond.methodLink "MessengerBoardModel" (238 : Nat) ({ cls := "MessengerBoardModel", name := "isGoal", desc := "(II)Z" } : Jvm.MethodName)) ∈ lw_all := lw_g (lw_at lw_m10 218 rfl) rfl
theorem q2488 : (Jvm.Cond.privateMethod ({ cls := "MessengerBoardModel", name := "isGoal", desc := "(II)Z" } : Jvm.MethodName)) ∈ lw_tbl := lw_at lw_m10 219 rfl
theorem q2489 : (Jvm.Cond.instanceMethod ({ cls := "MessengerBoardModel", name := "isGoal", desc := "(II)Z" } : Jvm.MethodName)) ∈ lw_all := lw_g (lw_at lw_m10 220 rfl) rfl
theorem q2490 : (Jvm.Cond.code ({ cls := "MessengerBoardModel", name := "isGoal", desc := "(II)Z" } : Jvm.MethodName) prog_24_method_71_code (6 : Nat) (Option.some Jvm.ClassFile.FieldType.boolean)) ∈ lw_all := lw_g (lw_at lw_m10 221 rfl) rfl
theorem q2492 : (Jvm.Cond.instanceMethod ({ cls := "MessengerBoardModel", name := "movePicket", desc := "(III)I" } : Jvm.MethodName)) ∈ lw_all := lw_g (lw_at lw_m10 223 rfl) rfl
theorem q2493 : (Jvm.Cond.selects "MessengerBoardModel" ({ cls := "MessengerBoardModel", name := "movePicket", desc := "(III)I" } : Jvm.MethodName) ({ cls := "MessengerBoardModel", name := "movePicket", desc := "(III)I" } : Jvm.MethodName)) ∈ lw_all := lw_g (lw_at lw_m10 224 rfl) rfl
theorem q2494 : (Jvm.Cond.code ({ cls := "MessengerBoardModel", name := "movePicket", desc := "(III)I" } : Jvm.MethodName) prog_24_method_73_code (4 : Nat) (Option.some Jvm.ClassFile.FieldType.int)) ∈ lw_all := lw_g (lw_at lw_m10 225 rfl) rfl
theorem q2496 : (Jvm.Cond.instanceMethod ({ cls := "MessengerBoardModel", name := "movePlan", desc := "(II)I" } : Jvm.MethodName)) ∈ lw_all := lw_g (lw_at lw_m10 227 rfl) rfl
theorem q2497 : (Jvm.Cond.selects "MessengerBoardModel" ({ cls := "MessengerBoardModel", name := "movePlan", desc := "(II)I" } : Jvm.MethodName) ({ cls := "MessengerBoardModel", name := "movePlan", desc := "(II)I" } : Jvm.MethodName)) ∈ lw_all := lw_g (lw_at lw_m10 228 rfl) rfl
theorem q2498 : (Jvm.Cond.code ({ cls := "MessengerBoardModel", name := "movePlan", desc := "(II)I" } : Jvm.MethodName) prog_24_method_74_code (4 : Nat) (Option.some Jvm.ClassFile.FieldType.int)) ∈ lw_all := lw_g (lw_at lw_m10 229 rfl) rfl
theorem q2500 : (Jvm.Cond.instanceMethod ({ cls := "MessengerBoardModel", name := "setPatience", desc := "(I)I" } : Jvm.MethodName)) ∈ lw_all := lw_g (lw_at lw_m10 231 rfl) rfl
theorem q2501 : (Jvm.Cond.selects "MessengerBoardModel" ({ cls := "MessengerBoardModel", name := "setPatience", desc := "(I)I" } : Jvm.MethodName) ({ cls := "MessengerBoardModel", name := "setPatience", desc := "(I)I" } : Jvm.MethodName)) ∈ lw_all := lw_g (lw_at lw_m10 232 rfl) rfl
theorem q2502 : (Jvm.Cond.code ({ cls := "MessengerBoardModel", name := "setPatience", desc := "(I)I" } : Jvm.MethodName) prog_24_method_75_code (3 : Nat) (Option.some Jvm.ClassFile.FieldType.int)) ∈ lw_all := lw_g (lw_at lw_m10 233 rfl) rfl
theorem q2504 : (Jvm.Cond.instanceMethod ({ cls := "MessengerBoardModel", name := "format", desc := "(I)I" } : Jvm.MethodName)) ∈ lw_all := lw_g (lw_at lw_m10 235 rfl) rfl
theorem q2505 : (Jvm.Cond.selects "MessengerBoardModel" ({ cls := "MessengerBoardModel", name := "format", desc := "(I)I" } : Jvm.MethodName) ({ cls := "MessengerBoardModel", name := "format", desc := "(I)I" } : Jvm.MethodName)) ∈ lw_all := lw_g (lw_at lw_m10 236 rfl) rfl
theorem q2506 : (Jvm.Cond.code ({ cls := "MessengerBoardModel", name := "format", desc := "(I)I" } : Jvm.MethodName) prog_24_method_79_code (3 : Nat) (Option.some Jvm.ClassFile.FieldType.int)) ∈ lw_all := lw_g (lw_at lw_m10 237 rfl) rfl
theorem q2507 : (Jvm.Cond.methodLink "MessengerBoardModel" (250 : Nat) ({ cls := "MessengerBoardModel", name := "symbol", desc := "(II)I" } : Jvm.MethodName)) ∈ lw_all := lw_g (lw_at lw_m10 238 rfl) rfl
theorem q2508 : (Jvm.Cond.privateMethod ({ cls := "MessengerBoardModel", name := "symbol", desc := "(II)I" } : Jvm.MethodName)) ∈ lw_tbl := lw_at lw_m10 239 rfl
theorem q2509 : (Jvm.Cond.instanceMethod ({ cls := "MessengerBoardModel", name := "symbol", desc := "(II)I" } : Jvm.MethodName)) ∈ lw_all := lw_g (lw_at lw_m11 0 rfl) rfl
theorem q2510 : (Jvm.Cond.code ({ cls := "MessengerBoardModel", name := "symbol", desc := "(II)I" } : Jvm.MethodName) prog_24_method_78_code (4 : Nat) (Option.some Jvm.ClassFile.FieldType.int)) ∈ lw_all := lw_g (lw_at lw_m11 1 rfl) rfl
theorem q2511 : (Jvm.Cond.methodLink "MessengerBoardModel" (241 : Nat) ({ cls := "MessengerBoardModel", name := "lowestIn", desc := "(II)I" } : Jvm.MethodName)) ∈ lw_all := lw_g (lw_at lw_m11 2 rfl) rfl
theorem q2512 : (Jvm.Cond.privateMethod ({ cls := "MessengerBoardModel", name := "lowestIn", desc := "(II)I" } : Jvm.MethodName)) ∈ lw_tbl := lw_at lw_m11 3 rfl
theorem q2513 : (Jvm.Cond.instanceMethod ({ cls := "MessengerBoardModel", name := "lowestIn", desc := "(II)I" } : Jvm.MethodName)) ∈ lw_all := lw_g (lw_at lw_m11 4 rfl) rfl
theorem q2514 : (Jvm.Cond.code ({ cls := "MessengerBoardModel", name := "lowestIn", desc := "(II)I" } : Jvm.MethodName) prog_24_method_76_code (4 : Nat) (Option.some Jvm.ClassFile.FieldType.int)) ∈ lw_all := lw_g (lw_at lw_m11 5 rfl) rfl
theorem q2515 : (Jvm.Cond.methodLink "MessengerBoardModel" (244 : Nat) ({ cls := "MessengerBoardModel", name := "hasMessenger", desc := "(II)Z" } : Jvm.MethodName)) ∈ lw_all := lw_g (lw_at lw_m11 6 rfl) rfl
theorem q2516 : (Jvm.Cond.privateMethod ({ cls := "MessengerBoardModel", name := "hasMessenger", desc := "(II)Z" } : Jvm.MethodName)) ∈ lw_tbl := lw_at lw_m11 7 rfl
theorem q2517 : (Jvm.Cond.instanceMethod ({ cls := "MessengerBoardModel", name := "hasMessenger", desc := "(II)Z" } : Jvm.MethodName)) ∈ lw_all := lw_g (lw_at lw_m11 8 rfl) rfl
theorem q2518 : (Jvm.Cond.code ({ cls := "MessengerBoardModel", name := "hasMessenger", desc := "(II)Z" } : Jvm.MethodName) prog_24_method_77_code (4 : Nat) (Option.some Jvm.ClassFile.FieldType.boolean)) ∈ lw_all := lw_g (lw_at lw_m11 9 rfl) rfl
theorem q2520 : (Jvm.Cond.instanceMethod ({ cls := "MessengerBoardModel", name := "formattedByte", desc := "(I)I" } : Jvm.MethodName)) ∈ lw_all := lw_g (lw_at lw_m11 11 rfl) rfl
theorem q2521 : (Jvm.Cond.selects "MessengerBoardModel" ({ cls := "MessengerBoardModel", name := "formattedByte", desc := "(I)I" } : Jvm.MethodName) ({ cls := "MessengerBoardModel", name := "formattedByte", desc := "(I)I" } : Jvm.MethodName)) ∈ lw_all := lw_g (lw_at lw_m11 12 rfl) rfl
theorem q2522 : (Jvm.Cond.code ({ cls := "MessengerBoardModel", name := "formattedByte", desc := "(I)I" } : Jvm.MethodName) prog_24_method_80_code (2 : Nat) (Option.some Jvm.ClassFile.FieldType.int)) ∈ lw_all := lw_g (lw_at lw_m11 13 rfl) rfl
theorem q2524 : (Jvm.Cond.instanceMethod ({ cls := "MessengerBoardModel", name := "undoCount", desc := "()I" } : Jvm.MethodName)) ∈ lw_all := lw_g (lw_at lw_m11 15 rfl) rfl
theorem q2525 : (Jvm.Cond.selects "MessengerBoardModel" ({ cls := "MessengerBoardModel", name := "undoCount", desc := "()I" } : Jvm.MethodName) ({ cls := "MessengerBoardModel", name := "undoCount", desc := "()I" } : Jvm.MethodName)) ∈ lw_all := lw_g (lw_at lw_m11 16 rfl) rfl
theorem q2526 : (Jvm.Cond.code ({ cls := "MessengerBoardModel", name := "undoCount", desc := "()I" } : Jvm.MethodName) prog_24_method_83_code (1 : Nat) (Option.some Jvm.ClassFile.FieldType.int)) ∈ lw_all := lw_g (lw_at lw_m11 17 rfl) rfl
theorem q2528 : (Jvm.Cond.instanceMethod ({ cls := "MessengerBoardModel", name := "undo", desc := "()I" } : Jvm.MethodName)) ∈ lw_all := lw_g (lw_at lw_m11 19 rfl) rfl
theorem q2529 : (Jvm.Cond.selects "MessengerBoardModel" ({ cls := "MessengerBoardModel", name := "undo", desc := "()I" } : Jvm.MethodName) ({ cls := "MessengerBoardModel", name := "undo", desc := "()I" } : Jvm.MethodName)) ∈ lw_all := lw_g (lw_at lw_m11 20 rfl) rfl
theorem q2530 : (Jvm.Cond.code ({ cls := "MessengerBoardModel", name := "undo", desc := "()I" } : Jvm.MethodName) prog_24_method_84_code (1 : Nat) (Option.some Jvm.ClassFile.FieldType.int)) ∈ lw_all := lw_g (lw_at lw_m11 21 rfl) rfl
theorem q2532 : (Jvm.Cond.instanceMethod ({ cls := "MessengerBoardModel", name := "saveSnapshot", desc := "()V" } : Jvm.MethodName)) ∈ lw_all := lw_g (lw_at lw_m11 23 rfl) rfl
theorem q2533 : (Jvm.Cond.selects "MessengerBoardModel" ({ cls := "MessengerBoardModel", name := "saveSnapshot", desc := "()V" } : Jvm.MethodName) ({ cls := "MessengerBoardModel", name := "saveSnapshot", desc := "()V" } : Jvm.MethodName)) ∈ lw_all := lw_g (lw_at lw_m11 24 rfl) rfl
theorem q2534 : (Jvm.Cond.code ({ cls := "MessengerBoardModel", name := "saveSnapshot", desc := "()V" } : Jvm.MethodName) prog_24_method_85_code (1 : Nat) (Option.none : Option Jvm.ClassFile.FieldType)) ∈ lw_all := lw_g (lw_at lw_m11 25 rfl) rfl
theorem q2536 : (Jvm.Cond.instanceMethod ({ cls := "MessengerBoardModel", name := "restoreSnapshot", desc := "()Z" } : Jvm.MethodName)) ∈ lw_all := lw_g (lw_at lw_m11 27 rfl) rfl
theorem q2537 : (Jvm.Cond.selects "MessengerBoardModel" ({ cls := "MessengerBoardModel", name := "restoreSnapshot", desc := "()Z" } : Jvm.MethodName) ({ cls := "MessengerBoardModel", name := "restoreSnapshot", desc := "()Z" } : Jvm.MethodName)) ∈ lw_all := lw_g (lw_at lw_m11 28 rfl) rfl
theorem q2538 : (Jvm.Cond.code ({ cls := "MessengerBoardModel", name := "restoreSnapshot", desc := "()Z" } : Jvm.MethodName) prog_24_method_86_code (1 : Nat) (Option.some Jvm.ClassFile.FieldType.boolean)) ∈ lw_all := lw_g (lw_at lw_m11 29 rfl) rfl
theorem q2540 : (Jvm.Cond.instanceMethod ({ cls := "MessengerBoardModel", name := "feed", desc := "(IIIII)I" } : Jvm.MethodName)) ∈ lw_all := lw_g (lw_at lw_m11 31 rfl) rfl
theorem q2541 : (Jvm.Cond.selects "MessengerBoardModel" ({ cls := "MessengerBoardModel", name := "feed", desc := "(IIIII)I" } : Jvm.MethodName) ({ cls := "MessengerBoardModel", name := "feed", desc := "(IIIII)I" } : Jvm.MethodName)) ∈ lw_all := lw_g (lw_at lw_m11 32 rfl) rfl
theorem q2542 : (Jvm.Cond.code ({ cls := "MessengerBoardModel", name := "feed", desc := "(IIIII)I" } : Jvm.MethodName) prog_24_method_87_code (8 : Nat) (Option.some Jvm.ClassFile.FieldType.int)) ∈ lw_all := lw_g (lw_at lw_m11 33 rfl) rfl
theorem q2544 : (Jvm.Cond.instanceMethod ({ cls := "MessengerBoardModel", name := "errorPosition", desc := "()I" } : Jvm.MethodName)) ∈ lw_all := lw_g (lw_at lw_m11 35 rfl) rfl
theorem q2545 : (Jvm.Cond.selects "MessengerBoardModel" ({ cls := "MessengerBoardModel", name := "errorPosition", desc := "()I" } : Jvm.MethodName) ({ cls := "MessengerBoardModel", name := "errorPosition", desc := "()I" } : Jvm.MethodName)) ∈ lw_all := lw_g (lw_at lw_m11 36 rfl) rfl
theorem q2546 : (Jvm.Cond.code ({ cls := "MessengerBoardModel", name := "errorPosition", desc := "()I" } : Jvm.MethodName) prog_24_method_88_code (1 : Nat) (Option.some Jvm.ClassFile.FieldType.int)) ∈ lw_all := lw_g (lw_at lw_m11 37 rfl) rfl
theorem q2548 : (Jvm.Cond.instanceMethod ({ cls := "MessengerBoardModel", name := "load", desc := "(I)I" } : Jvm.MethodName)) ∈ lw_all := lw_g (lw_at lw_m11 39 rfl) rfl
theorem q2549 : (Jvm.Cond.selects "MessengerBoardModel" ({ cls := "MessengerBoardModel", name := "load", desc := "(I)I" } : Jvm.MethodName) ({ cls := "MessengerBoardModel", name := "load", desc := "(I)I" } : Jvm.MethodName)) ∈ lw_all := lw_g (lw_at lw_m11 40 rfl) rfl
theorem q2550 : (Jvm.Cond.code ({ cls := "MessengerBoardModel", name := "load", desc := "(I)I" } : Jvm.MethodName) prog_24_method_114_code (2 : Nat) (Option.some Jvm.ClassFile.FieldType.int)) ∈ lw_all := lw_g (lw_at lw_m11 41 rfl) rfl
theorem q2551 : (Jvm.Cond.methodLink "MessengerBoardModel" (389 : Nat) ({ cls := "MessengerBoardModel", name := "startText", desc := "(I)V" } : Jvm.MethodName)) ∈ lw_all := lw_g (lw_at lw_m11 42 rfl) rfl
theorem q2552 : (Jvm.Cond.privateMethod ({ cls := "MessengerBoardModel", name := "startText", desc := "(I)V" } : Jvm.MethodName)) ∈ lw_tbl := lw_at lw_m11 43 rfl
theorem q2553 : (Jvm.Cond.instanceMethod ({ cls := "MessengerBoardModel", name := "startText", desc := "(I)V" } : Jvm.MethodName)) ∈ lw_all := lw_g (lw_at lw_m11 44 rfl) rfl
theorem q2554 : (Jvm.Cond.code ({ cls := "MessengerBoardModel", name := "startText", desc := "(I)V" } : Jvm.MethodName) prog_24_method_93_code (2 : Nat) (Option.none : Option Jvm.ClassFile.FieldType)) ∈ lw_all := lw_g (lw_at lw_m11 45 rfl) rfl
theorem q2555 : (Jvm.Cond.methodLink "MessengerBoardModel" (290 : Nat) ({ cls := "MessengerBoardModel", name := "scan", desc := "()V" } : Jvm.MethodName)) ∈ lw_all := lw_g (lw_at lw_m11 46 rfl) rfl
theorem q2556 : (Jvm.Cond.privateMethod ({ cls := "MessengerBoardModel", name := "scan", desc := "()V" } : Jvm.MethodName)) ∈ lw_tbl := lw_at lw_m11 47 rfl
theorem q2557 : (Jvm.Cond.instanceMethod ({ cls := "MessengerBoardModel", name := "scan", desc := "()V" } : Jvm.MethodName)) ∈ lw_all := lw_g (lw_at lw_m11 48 rfl) rfl
theorem q2558 : (Jvm.Cond.code ({ cls := "MessengerBoardModel", name := "scan", desc := "()V" } : Jvm.MethodName) prog_24_method_92_code (1 : Nat) (Option.none : Option Jvm.ClassFile.FieldType)) ∈ lw_all := lw_g (lw_at lw_m11 49 rfl) rfl
theorem q2559 : (Jvm.Cond.methodLink "MessengerBoardModel" (266 : Nat) ({ cls := "MessengerBoardModel", name := "byteAt", desc := "(I)I" } : Jvm.MethodName)) ∈ lw_all := lw_g (lw_at lw_m11 50 rfl) rfl
theorem q2560 : (Jvm.Cond.privateMethod ({ cls := "MessengerBoardModel", name := "byteAt", desc := "(I)I" } : Jvm.MethodName)) ∈ lw_tbl := lw_at lw_m11 51 rfl
theorem q2561 : (Jvm.Cond.instanceMethod ({ cls := "MessengerBoardModel", name := "byteAt", desc := "(I)I" } : Jvm.MethodName)) ∈ lw_all := lw_g (lw_at lw_m11 52 rfl) rfl
theorem q2562 : (Jvm.Cond.code ({ cls := "MessengerBoardModel", name := "byteAt", desc := "(I)I" } : Jvm.MethodName) prog_24_method_89_code (2 : Nat) (Option.some Jvm.ClassFile.FieldType.int)) ∈ lw_all := lw_g (lw_at lw_m11 53 rfl) rfl
theorem q2563 : (Jvm.Cond.methodLink "MessengerBoardModel" (278 : Nat) ({ cls := "MessengerBoardModel", name := "isLetter", desc := "(I)Z" } : Jvm.MethodName)) ∈ lw_all := lw_g (lw_at lw_m11 54 rfl) rfl
theorem q2564 : (Jvm.Cond.privateMethod ({ cls := "MessengerBoardModel", name := "isLetter", desc := "(I)Z" } : Jvm.MethodName)) ∈ lw_tbl := lw_at lw_m11 55 rfl
theorem q2565 : (Jvm.Cond.instanceMethod ({ cls := "MessengerBoardModel", name := "isLetter", desc := "(I)Z" } : Jvm.MethodName)) ∈ lw_all := lw_g (lw_at lw_m11 56 rfl) rfl
theorem q2566 : (Jvm.Cond.code ({ cls := "MessengerBoardModel", name := "isLetter", desc := "(I)Z" } : Jvm.MethodName) prog_24_method_90_code (2 : Nat) (Option.some Jvm.ClassFile.FieldType.boolean)) ∈ lw_all := lw_g (lw_at lw_m11 57 rfl) rfl
theorem q2567 : (Jvm.Cond.methodLink "MessengerBoardModel" (281 : Nat) ({ cls := "MessengerBoardModel", name := "isDigit", desc := "(I)Z" } : Jvm.MethodName)) ∈ lw_all := lw_g (lw_at lw_m11 58 rfl) rfl
theorem q2568 : (Jvm.Cond.privateMethod ({ cls := "MessengerBoardModel", name := "isDigit", desc := "(I)Z" } : Jvm.MethodName)) ∈ lw_tbl := lw_at lw_m11 59 rfl
theorem q2569 : (Jvm.Cond.instanceMethod ({ cls := "MessengerBoardModel", name := "isDigit", desc := "(I)Z" } : Jvm.MethodName)) ∈ lw_all := lw_g (lw_at lw_m11 60 rfl) rfl
theorem q2570 : (Jvm.Cond.code ({ cls := "MessengerBoardModel", name := "isDigit", desc := "(I)Z" } : Jvm.MethodName) prog_24_method_91_code (2 : Nat) (Option.some Jvm.ClassFile.FieldType.boolean)) ∈ lw_all := lw_g (lw_at lw_m11 61 rfl) rfl
theorem q2571 : (Jvm.Cond.methodLink "MessengerBoardModel" (392 : Nat) ({ cls := "MessengerBoardModel", name := "readAll", desc := "()V" } : Jvm.MethodName)) ∈ lw_all := lw_g (lw_at lw_m11 62 rfl) rfl
theorem q2572 : (Jvm.Cond.privateMethod ({ cls := "MessengerBoardModel", name := "readAll", desc := "()V" } : Jvm.MethodName)) ∈ lw_tbl := lw_at lw_m11 63 rfl
theorem q2573 : (Jvm.Cond.instanceMethod ({ cls := "MessengerBoardModel", name := "readAll", desc := "()V" } : Jvm.MethodName)) ∈ lw_all := lw_g (lw_at lw_m11 64 rfl) rfl
theorem q2574 : (Jvm.Cond.code ({ cls := "MessengerBoardModel", name := "readAll", desc := "()V" } : Jvm.MethodName) prog_24_method_113_code (1 : Nat) (Option.none : Option Jvm.ClassFile.FieldType)) ∈ lw_all := lw_g (lw_at lw_m11 65 rfl) rfl
theorem q2575 : (Jvm.Cond.stringRef "MessengerBoardModel" (380 : Nat) "board") ∈ lw_tbl := lw_at lw_m11 66 rfl
theorem q2576 : (Jvm.Cond.methodLink "MessengerBoardModel" (382 : Nat) ({ cls := "MessengerBoardModel", name := "expectWord", desc := "(Ljava/lang/String;)V" } : Jvm.MethodName)) ∈ lw_all := lw_g (lw_at lw_m11 67 rfl) rfl
theorem q2577 : (Jvm.Cond.privateMethod ({ cls := "MessengerBoardModel", name := "expectWord", desc := "(Ljava/lang/String;)V" } : Jvm.MethodName)) ∈ lw_tbl := lw_at lw_m11 68 rfl
theorem q2578 : (Jvm.Cond.instanceMethod ({ cls := "MessengerBoardModel", name := "expectWord", desc := "(Ljava/lang/String;)V" } : Jvm.MethodName)) ∈ lw_all := lw_g (lw_at lw_m11 69 rfl) rfl
theorem q2579 : (Jvm.Cond.code ({ cls := "MessengerBoardModel", name := "expectWord", desc := "(Ljava/lang/String;)V" } : Jvm.MethodName) prog_24_method_101_code (2 : Nat) (Option.none : Option Jvm.ClassFile.FieldType)) ∈ lw_all := lw_g (lw_at lw_m11 70 rfl) rfl
theorem q2580 : (Jvm.Cond.methodLink "MessengerBoardModel" (306 : Nat) ({ cls := "MessengerBoardModel", name := "isWord", desc := "(Ljava/lang/String;)Z" } : Jvm.MethodName)) ∈ lw_all := lw_g (lw_at lw_m11 71 rfl) rfl
theorem q2581 : (Jvm.Cond.privateMethod ({ cls := "MessengerBoardModel", name := "isWord", desc := "(Ljava/lang/String;)Z" } : Jvm.MethodName)) ∈ lw_tbl := lw_at lw_m11 72 rfl
theorem q2582 : (Jvm.Cond.instanceMethod ({ cls := "MessengerBoardModel", name := "isWord", desc := "(Ljava/lang/String;)Z" } : Jvm.MethodName)) ∈ lw_all := lw_g (lw_at lw_m11 73 rfl) rfl
theorem q2583 : (Jvm.Cond.code ({ cls := "MessengerBoardModel", name := "isWord", desc := "(Ljava/lang/String;)Z" } : Jvm.MethodName) prog_24_method_99_code (4 : Nat) (Option.some Jvm.ClassFile.FieldType.boolean)) ∈ lw_all := lw_g (lw_at lw_m11 74 rfl) rfl
theorem q2584 : (Jvm.Cond.methodLink "MessengerBoardModel" (299 : Nat) ({ cls := "java/lang/String", name := "length", desc := "()I" } : Jvm.MethodName)) ∈ lw_all := lw_g (lw_at lw_m11 75 rfl) rfl
theorem q2585 : (Jvm.Cond.methodLink "MessengerBoardModel" (302 : Nat) ({ cls := "java/lang/String", name := "charAt", desc := "(I)C" } : Jvm.MethodName)) ∈ lw_all := lw_g (lw_at lw_m11 76 rfl) rfl
theorem q2586 : (Jvm.Cond.methodLink "MessengerBoardModel" (310 : Nat) ({ cls := "MessengerBoardModel", name := "check", desc := "(ZI)V" } : Jvm.MethodName)) ∈ lw_all := lw_g (lw_at lw_m11 77 rfl) rfl
theorem q2587 : (Jvm.Cond.privateMethod ({ cls := "MessengerBoardModel", name := "check", desc := "(ZI)V" } : Jvm.MethodName)) ∈ lw_tbl := lw_at lw_m11 78 rfl
theorem q2588 : (Jvm.Cond.instanceMethod ({ cls := "MessengerBoardModel", name := "check", desc := "(ZI)V" } : Jvm.MethodName)) ∈ lw_all := lw_g (lw_at lw_m11 79 rfl) rfl
theorem q2589 : (Jvm.Cond.code ({ cls := "MessengerBoardModel", name := "check", desc := "(ZI)V" } : Jvm.MethodName) prog_24_method_96_code (3 : Nat) (Option.none : Option Jvm.ClassFile.FieldType)) ∈ lw_all := lw_g (lw_at lw_m11 80 rfl) rfl
theorem q2590 : (Jvm.Cond.methodLink "MessengerBoardModel" (296 : Nat) ({ cls := "MessengerBoardModel", name := "flaw", desc := "(I)V" } : Jvm.MethodName)) ∈ lw_all := lw_g (lw_at lw_m11 81 rfl) rfl
theorem q2591 : (Jvm.Cond.privateMethod ({ cls := "MessengerBoardModel", name := "flaw", desc := "(I)V" } : Jvm.MethodName)) ∈ lw_tbl := lw_at lw_m11 82 rfl
theorem q2592 : (Jvm.Cond.instanceMethod ({ cls := "MessengerBoardModel", name := "flaw", desc := "(I)V" } : Jvm.MethodName)) ∈ lw_all := lw_g (lw_at lw_m11 83 rfl) rfl
theorem q2593 : (Jvm.Cond.code ({ cls := "MessengerBoardModel", name := "flaw", desc := "(I)V" } : Jvm.MethodName) prog_24_method_95_code (2 : Nat) (Option.none : Option Jvm.ClassFile.FieldType)) ∈ lw_all := lw_g (lw_at lw_m11 84 rfl) rfl
theorem q2594 : (Jvm.Cond.methodLink "MessengerBoardModel" (314 : Nat) ({ cls := "MessengerBoardModel", name := "advance", desc := "()V" } : Jvm.MethodName)) ∈ lw_all := lw_g (lw_at lw_m11 85 rfl) rfl
theorem q2595 : (Jvm.Cond.privateMethod ({ cls := "MessengerBoardModel", name := "advance", desc := "()V" } : Jvm.MethodName)) ∈ lw_tbl := lw_at lw_m11 86 rfl
theorem q2596 : (Jvm.Cond.instanceMethod ({ cls := "MessengerBoardModel", name := "advance", desc := "()V" } : Jvm.MethodName)) ∈ lw_all := lw_g (lw_at lw_m11 87 rfl) rfl
theorem q2597 : (Jvm.Cond.code ({ cls := "MessengerBoardModel", name := "advance", desc := "()V" } : Jvm.MethodName) prog_24_method_97_code (1 : Nat) (Option.none : Option Jvm.ClassFile.FieldType)) ∈ lw_all := lw_g (lw_at lw_m11 88 rfl) rfl
theorem q2598 : (Jvm.Cond.methodLink "MessengerBoardModel" (333 : Nat) ({ cls := "MessengerBoardModel", name := "readNumber", desc := "(II)I" } : Jvm.MethodName)) ∈ lw_all := lw_g (lw_at lw_m11 89 rfl) rfl
theorem q2599 : (Jvm.Cond.privateMethod ({ cls := "MessengerBoardModel", name := "readNumber", desc := "(II)I" } : Jvm.MethodName)) ∈ lw_tbl := lw_at lw_m11 90 rfl
theorem q2600 : (Jvm.Cond.instanceMethod ({ cls := "MessengerBoardModel", name := "readNumber", desc := "(II)I" } : Jvm.MethodName)) ∈ lw_all := lw_g (lw_at lw_m11 91 rfl) rfl
theorem q2601 : (Jvm.Cond.code ({ cls := "MessengerBoardModel", name := "readNumber", desc := "(II)I" } : Jvm.MethodName) prog_24_method_104_code (4 : Nat) (Option.some Jvm.ClassFile.FieldType.int)) ∈ lw_all := lw_g (lw_at lw_m11 92 rfl) rfl
theorem q2602 : (Jvm.Cond.methodLink "MessengerBoardModel" (330 : Nat) ({ cls := "MessengerBoardModel", name := "value", desc := "()I" } : Jvm.MethodName)) ∈ lw_all := lw_g (lw_at lw_m11 93 rfl) rfl
theorem q2603 : (Jvm.Cond.privateMethod ({ cls := "MessengerBoardModel", name := "value", desc := "()I" } : Jvm.MethodName)) ∈ lw_tbl := lw_at lw_m11 94 rfl
theorem q2604 : (Jvm.Cond.instanceMethod ({ cls := "MessengerBoardModel", name := "value", desc := "()I" } : Jvm.MethodName)) ∈ lw_all := lw_g (lw_at lw_m11 95 rfl) rfl
theorem q2605 : (Jvm.Cond.code ({ cls := "MessengerBoardModel", name := "value", desc := "()I" } : Jvm.MethodName) prog_24_method_103_code (3 : Nat) (Option.some Jvm.ClassFile.FieldType.int)) ∈ lw_all := lw_g (lw_at lw_m11 96 rfl) rfl
theorem q2606 : (Jvm.Cond.constantLong "MessengerBoardModel" (320 : Nat) (2000000000 : Int64)) ∈ lw_all := lw_g (lw_at lw_m11 97 rfl) rfl
theorem q2607 : (Jvm.Cond.constantLong "MessengerBoardModel" (322 : Nat) (10 : Int64)) ∈ lw_all := lw_g (lw_at lw_m11 98 rfl) rfl
theorem q2608 : (Jvm.Cond.constantLong "MessengerBoardModel" (324 : Nat) (48 : Int64)) ∈ lw_all := lw_g (lw_at lw_m11 99 rfl) rfl
theorem q2609 : (Jvm.Cond.methodLink "MessengerBoardModel" (326 : Nat) ({ cls := "java/lang/Math", name := "min", desc := "(JJ)J" } : Jvm.MethodName)) ∈ lw_all := lw_g (lw_at lw_m11 100 rfl) rfl
theorem q2612 : (Jvm.Cond.methodLink "MessengerBoardModel" (377 : Nat) ({ cls := "MessengerBoardModel", name := "expect", desc := "(I)V" } : Jvm.MethodName)) ∈ lw_all := lw_g (lw_at lw_m11 103 rfl) rfl
theorem q2613 : (Jvm.Cond.privateMethod ({ cls := "MessengerBoardModel", name := "expect", desc := "(I)V" } : Jvm.MethodName)) ∈ lw_tbl := lw_at lw_m11 104 rfl
theorem q2614 : (Jvm.Cond.instanceMethod ({ cls := "MessengerBoardModel", name := "expect", desc := "(I)V" } : Jvm.MethodName)) ∈ lw_all := lw_g (lw_at lw_m11 105 rfl) rfl
theorem q2615 : (Jvm.Cond.code ({ cls := "MessengerBoardModel", name := "expect", desc := "(I)V" } : Jvm.MethodName) prog_24_method_102_code (2 : Nat) (Option.none : Option Jvm.ClassFile.FieldType)) ∈ lw_all := lw_g (lw_at lw_m11 106 rfl) rfl
theorem q2616 : (Jvm.Cond.methodLink "MessengerBoardModel" (317 : Nat) ({ cls := "MessengerBoardModel", name := "isSymbol", desc := "(I)Z" } : Jvm.MethodName)) ∈ lw_all := lw_g (lw_at lw_m11 107 rfl) rfl
theorem q2617 : (Jvm.Cond.privateMethod ({ cls := "MessengerBoardModel", name := "isSymbol", desc := "(I)Z" } : Jvm.MethodName)) ∈ lw_tbl := lw_at lw_m11 108 rfl
theorem q2618 : (Jvm.Cond.instanceMethod ({ cls := "MessengerBoardModel", name := "isSymbol", desc := "(I)Z" } : Jvm.MethodName)) ∈ lw_all := lw_g (lw_at lw_m11 109 rfl) rfl
theorem q2619 : (Jvm.Cond.code ({ cls := "MessengerBoardModel", name := "isSymbol", desc := "(I)Z" } : Jvm.MethodName) prog_24_method_98_code (2 : Nat) (Option.some Jvm.ClassFile.FieldType.boolean)) ∈ lw_all := lw_g (lw_at lw_m11 110 rfl) rfl
theorem q2620 : (Jvm.Cond.methodLink "MessengerBoardModel" (386 : Nat) ({ cls := "MessengerBoardModel", name := "readClause", desc := "()V" } : Jvm.MethodName)) ∈ lw_all := lw_g (lw_at lw_m11 111 rfl) rfl
theorem q2621 : (Jvm.Cond.privateMethod ({ cls := "MessengerBoardModel", name := "readClause", desc := "()V" } : Jvm.MethodName)) ∈ lw_tbl := lw_at lw_m11 112 rfl
theorem q2622 : (Jvm.Cond.instanceMethod ({ cls := "MessengerBoardModel", name := "readClause", desc := "()V" } : Jvm.MethodName)) ∈ lw_all := lw_g (lw_at lw_m11 113 rfl) rfl
theorem q2623 : (Jvm.Cond.code ({ cls := "MessengerBoardModel", name := "readClause", desc := "()V" } : Jvm.MethodName) prog_24_method_112_code (2 : Nat) (Option.none : Option Jvm.ClassFile.FieldType)) ∈ lw_all := lw_g (lw_at lw_m11 114 rfl) rfl
theorem q2624 : (Jvm.Cond.stringRef "MessengerBoardModel" (349 : Nat) "wall") ∈ lw_tbl := lw_at lw_m11 115 rfl
theorem q2625 : (Jvm.Cond.methodLink "MessengerBoardModel" (351 : Nat) ({ cls := "MessengerBoardModel", name := "accept", desc := "(Ljava/lang/String;)Z" } : Jvm.MethodName)) ∈ lw_all := lw_g (lw_at lw_m11 116 rfl) rfl
theorem q2626 : (Jvm.Cond.privateMethod ({ cls := "MessengerBoardModel", name := "accept", desc := "(Ljava/lang/String;)Z" } : Jvm.MethodName)) ∈ lw_tbl := lw_at lw_m11 117 rfl
theorem q2627 : (Jvm.Cond.instanceMethod ({ cls := "MessengerBoardModel", name := "accept", desc := "(Ljava/lang/String;)Z" } : Jvm.MethodName)) ∈ lw_all := lw_g (lw_at lw_m11 118 rfl) rfl
theorem q2628 : (Jvm.Cond.code ({ cls := "MessengerBoardModel", name := "accept", desc := "(Ljava/lang/String;)Z" } : Jvm.MethodName) prog_24_method_100_code (3 : Nat) (Option.some Jvm.ClassFile.FieldType.boolean)) ∈ lw_all := lw_g (lw_at lw_m11 119 rfl) rfl
theorem q2629 : (Jvm.Cond.methodLink "MessengerBoardModel" (354 : Nat) ({ cls := "MessengerBoardModel", name := "readWall", desc := "()V" } : Jvm.MethodName)) ∈ lw_all := lw_g (lw_at lw_m11 120 rfl) rfl
theorem q2630 : (Jvm.Cond.privateMethod ({ cls := "MessengerBoardModel", name := "readWall", desc := "()V" } : Jvm.MethodName)) ∈ lw_tbl := lw_at lw_m11 121 rfl
theorem q2631 : (Jvm.Cond.instanceMethod ({ cls := "MessengerBoardModel", name := "readWall", desc := "()V" } : Jvm.MethodName)) ∈ lw_all := lw_g (lw_at lw_m11 122 rfl) rfl
theorem q2632 : (Jvm.Cond.code ({ cls := "MessengerBoardModel", name := "readWall", desc := "()V" } : Jvm.MethodName) prog_24_method_107_code (1 : Nat) (Option.none : Option Jvm.ClassFile.FieldType)) ∈ lw_all := lw_g (lw_at lw_m11 123 rfl) rfl
theorem q2633 : (Jvm.Cond.methodLink "MessengerBoardModel" (345 : Nat) ({ cls := "MessengerBoardModel", name := "readCell", desc := "(ZZ)V" } : Jvm.MethodName)) ∈ lw_all := lw_g (lw_at lw_m11 124 rfl) rfl
theorem q2634 : (Jvm.Cond.privateMethod ({ cls := "MessengerBoardModel", name := "readCell", desc := "(ZZ)V" } : Jvm.MethodName)) ∈ lw_tbl := lw_at lw_m11 125 rfl
theorem q2635 : (Jvm.Cond.instanceMethod ({ cls := "MessengerBoardModel", name := "readCell", desc := "(ZZ)V" } : Jvm.MethodName)) ∈ lw_all := lw_g (lw_at lw_m11 126 rfl) rfl
theorem q2636 : (Jvm.Cond.code ({ cls := "MessengerBoardModel", name := "readCell", desc := "(ZZ)V" } : Jvm.MethodName) prog_24_method_106_code (4 : Nat) (Option.none : Option Jvm.ClassFile.FieldType)) ∈ lw_all := lw_g (lw_at lw_m11 127 rfl) rfl
theorem q2637 : (Jvm.Cond.methodLink "MessengerBoardModel" (342 : Nat) ({ cls := "MessengerBoardModel", name := "isHeldInDraft", desc := "(II)Z" } : Jvm.MethodName)) ∈ lw_all := lw_g (lw_at lw_m11 128 rfl) rfl
theorem q2638 : (Jvm.Cond.privateMethod ({ cls := "MessengerBoardModel", name := "isHeldInDraft", desc := "(II)Z" } : Jvm.MethodName)) ∈ lw_tbl := lw_at lw_m11 129 rfl
theorem q2639 : (Jvm.Cond.instanceMethod ({ cls := "MessengerBoardModel", name := "isHeldInDraft", desc := "(II)Z" } : Jvm.MethodName)) ∈ lw_all := lw_g (lw_at lw_m11 130 rfl) rfl
theorem q2640 : (Jvm.Cond.code ({ cls := "MessengerBoardModel", name := "isHeldInDraft", desc := "(II)Z" } : Jvm.MethodName) prog_24_method_105_code (5 : Nat) (Option.some Jvm.ClassFile.FieldType.boolean)) ∈ lw_all := lw_g (lw_at lw_m11 131 rfl) rfl
theorem q2641 : (Jvm.Cond.stringRef "MessengerBoardModel" (357 : Nat) "headquarters") ∈ lw_tbl := lw_at lw_m11 132 rfl
theorem q2642 : (Jvm.Cond.methodLink "MessengerBoardModel" (359 : Nat) ({ cls := "MessengerBoardModel", name := "readMain", desc := "()V" } : Jvm.MethodName)) ∈ lw_all := lw_g (lw_at lw_m11 133 rfl) rfl
theorem q2643 : (Jvm.Cond.privateMethod ({ cls := "MessengerBoardModel", name := "readMain", desc := "()V" } : Jvm.MethodName)) ∈ lw_tbl := lw_at lw_m11 134 rfl
theorem q2644 : (Jvm.Cond.instanceMethod ({ cls := "MessengerBoardModel", name := "readMain", desc := "()V" } : Jvm.MethodName)) ∈ lw_all := lw_g (lw_at lw_m11 135 rfl) rfl
theorem q2645 : (Jvm.Cond.code ({ cls := "MessengerBoardModel", name := "readMain", desc := "()V" } : Jvm.MethodName) prog_24_method_108_code (1 : Nat) (Option.none : Option Jvm.ClassFile.FieldType)) ∈ lw_all := lw_g (lw_at lw_m11 136 rfl) rfl
theorem q2646 : (Jvm.Cond.methodLink "MessengerBoardModel" (362 : Nat) ({ cls := "MessengerBoardModel", name := "readUnit", desc := "()V" } : Jvm.MethodName)) ∈ lw_all := lw_g (lw_at lw_m11 137 rfl) rfl
theorem q2647 : (Jvm.Cond.privateMethod ({ cls := "MessengerBoardModel", name := "readUnit", desc := "()V" } : Jvm.MethodName)) ∈ lw_tbl := lw_at lw_m11 138 rfl
theorem q2648 : (Jvm.Cond.instanceMethod ({ cls := "MessengerBoardModel", name := "readUnit", desc := "()V" } : Jvm.MethodName)) ∈ lw_all := lw_g (lw_at lw_m11 139 rfl) rfl
theorem q2649 : (Jvm.Cond.code ({ cls := "MessengerBoardModel", name := "readUnit", desc := "()V" } : Jvm.MethodName) prog_24_method_109_code (3 : Nat) (Option.none : Option Jvm.ClassFile.FieldType)) ∈ lw_all := lw_g (lw_at lw_m11 140 rfl) rfl
theorem q2650 : (Jvm.Cond.stringRef "MessengerBoardModel" (365 : Nat) "picket") ∈ lw_tbl := lw_at lw_m11 141 rfl
theorem q2651 : (Jvm.Cond.methodLink "MessengerBoardModel" (367 : Nat) ({ cls := "MessengerBoardModel", name := "readPicket", desc := "()V" } : Jvm.MethodName)) ∈ lw_all := lw_g (lw_at lw_m11 142 rfl) rfl
theorem q2652 : (Jvm.Cond.privateMethod ({ cls := "MessengerBoardModel", name := "readPicket", desc := "()V" } : Jvm.MethodName)) ∈ lw_tbl := lw_at lw_m11 143 rfl
theorem q2653 : (Jvm.Cond.instanceMethod ({ cls := "MessengerBoardModel", name := "readPicket", desc := "()V" } : Jvm.MethodName)) ∈ lw_all := lw_g (lw_at lw_m11 144 rfl) rfl
theorem q2654 : (Jvm.Cond.code ({ cls := "MessengerBoardModel", name := "readPicket", desc := "()V" } : Jvm.MethodName) prog_24_method_110_code (7 : Nat) (Option.none : Option Jvm.ClassFile.FieldType)) ∈ lw_all := lw_g (lw_at lw_m11 145 rfl) rfl
theorem q2655 : (Jvm.Cond.stringRef "MessengerBoardModel" (370 : Nat) "patience") ∈ lw_tbl := lw_at lw_m11 146 rfl
theorem q2656 : (Jvm.Cond.stringRef "MessengerBoardModel" (372 : Nat) "plan") ∈ lw_tbl := lw_at lw_m11 147 rfl
theorem q2657 : (Jvm.Cond.methodLink "MessengerBoardModel" (374 : Nat) ({ cls := "MessengerBoardModel", name := "readPlan", desc := "()V" } : Jvm.MethodName)) ∈ lw_all := lw_g (lw_at lw_m11 148 rfl) rfl
theorem q2658 : (Jvm.Cond.privateMethod ({ cls := "MessengerBoardModel", name := "readPlan", desc := "()V" } : Jvm.MethodName)) ∈ lw_tbl := lw_at lw_m11 149 rfl
theorem q2659 : (Jvm.Cond.instanceMethod ({ cls := "MessengerBoardModel", name := "readPlan", desc := "()V" } : Jvm.MethodName)) ∈ lw_all := lw_g (lw_at lw_m11 150 rfl) rfl
theorem q2660 : (Jvm.Cond.code ({ cls := "MessengerBoardModel", name := "readPlan", desc := "()V" } : Jvm.MethodName) prog_24_method_111_code (4 : Nat) (Option.none : Option Jvm.ClassFile.FieldType)) ∈ lw_all := lw_g (lw_at lw_m11 151 rfl) rfl
theorem q2661 : (Jvm.Cond.methodLink "MessengerBoardModel" (395 : Nat) ({ cls := "MessengerBoardModel", name := "finish", desc := "()I" } : Jvm.MethodName)) ∈ lw_all := lw_g (lw_at lw_m11 152 rfl) rfl
theorem q2662 : (Jvm.Cond.privateMethod ({ cls := "MessengerBoardModel", name := "finish", desc := "()I" } : Jvm.MethodName)) ∈ lw_tbl := lw_at lw_m11 153 rfl
theorem q2663 : (Jvm.Cond.instanceMethod ({ cls := "MessengerBoardModel", name := "finish", desc := "()I" } : Jvm.MethodName)) ∈ lw_all := lw_g (lw_at lw_m11 154 rfl) rfl
theorem q2664 : (Jvm.Cond.code ({ cls := "MessengerBoardModel", name := "finish", desc := "()I" } : Jvm.MethodName) prog_24_method_94_code (1 : Nat) (Option.some Jvm.ClassFile.FieldType.int)) ∈ lw_all := lw_g (lw_at lw_m11 155 rfl) rfl
theorem q2666 : (Jvm.Cond.instanceMethod ({ cls := "MessengerBoardModel", name := "query", desc := "(I)I" } : Jvm.MethodName)) ∈ lw_all := lw_g (lw_at lw_m11 157 rfl) rfl
theorem q2667 : (Jvm.Cond.selects "MessengerBoardModel" ({ cls := "MessengerBoardModel", name := "query", desc := "(I)I" } : Jvm.MethodName) ({ cls := "MessengerBoardModel", name := "query", desc := "(I)I" } : Jvm.MethodName)) ∈ lw_all := lw_g (lw_at lw_m11 158 rfl) rfl
theorem q2668 : (Jvm.Cond.code ({ cls := "MessengerBoardModel", name := "query", desc := "(I)I" } : Jvm.MethodName) prog_24_method_124_code (5 : Nat) (Option.some Jvm.ClassFile.FieldType.int)) ∈ lw_all := lw_g (lw_at lw_m11 159 rfl) rfl
theorem q2669 : (Jvm.Cond.methodLink "MessengerBoardModel" (432 : Nat) ({ cls := "java/lang/Math", name := "min", desc := "(II)I" } : Jvm.MethodName)) ∈ lw_all := lw_g (lw_at lw_m11 160 rfl) rfl
theorem q2670 : (Jvm.Cond.stringRef "MessengerBoardModel" (434 : Nat) "first") ∈ lw_tbl := lw_at lw_m11 161 rfl
theorem q2671 : (Jvm.Cond.stringRef "MessengerBoardModel" (436 : Nat) "many") ∈ lw_tbl := lw_at lw_m11 162 rfl
theorem q2672 : (Jvm.Cond.methodLink "MessengerBoardModel" (412 : Nat) ({ cls := "MessengerBoardModel", name := "compileTest", desc := "()V" } : Jvm.MethodName)) ∈ lw_all := lw_g (lw_at lw_m11 163 rfl) rfl
theorem q2673 : (Jvm.Cond.privateMethod ({ cls := "MessengerBoardModel", name := "compileTest", desc := "()V" } : Jvm.MethodName)) ∈ lw_tbl := lw_at lw_m11 164 rfl
theorem q2674 : (Jvm.Cond.instanceMethod ({ cls := "MessengerBoardModel", name := "compileTest", desc := "()V" } : Jvm.MethodName)) ∈ lw_all := lw_g (lw_at lw_m11 165 rfl) rfl
theorem q2675 : (Jvm.Cond.code ({ cls := "MessengerBoardModel", name := "compileTest", desc := "()V" } : Jvm.MethodName) prog_24_method_120_code (1 : Nat) (Option.none : Option Jvm.ClassFile.FieldType)) ∈ lw_all := lw_g (lw_at lw_m11 166 rfl) rfl
theorem q2676 : (Jvm.Cond.methodLink "MessengerBoardModel" (420 : Nat) ({ cls := "MessengerBoardModel", name := "compileConjunction", desc := "()V" } : Jvm.MethodName)) ∈ lw_all := lw_g (lw_at lw_m11 167 rfl) rfl
theorem q2677 : (Jvm.Cond.privateMethod ({ cls := "MessengerBoardModel", name := "compileConjunction", desc := "()V" } : Jvm.MethodName)) ∈ lw_tbl := lw_at lw_m11 168 rfl
theorem q2678 : (Jvm.Cond.instanceMethod ({ cls := "MessengerBoardModel", name := "compileConjunction", desc := "()V" } : Jvm.MethodName)) ∈ lw_all := lw_g (lw_at lw_m11 169 rfl) rfl
theorem q2679 : (Jvm.Cond.code ({ cls := "MessengerBoardModel", name := "compileConjunction", desc := "()V" } : Jvm.MethodName) prog_24_method_119_code (1 : Nat) (Option.none : Option Jvm.ClassFile.FieldType)) ∈ lw_all := lw_g (lw_at lw_m11 170 rfl) rfl
theorem q2680 : (Jvm.Cond.methodLink "MessengerBoardModel" (409 : Nat) ({ cls := "MessengerBoardModel", name := "compileFactor", desc := "()V" } : Jvm.MethodName)) ∈ lw_all := lw_g (lw_at lw_m11 171 rfl) rfl
theorem q2681 : (Jvm.Cond.privateMethod ({ cls := "MessengerBoardModel", name := "compileFactor", desc := "()V" } : Jvm.MethodName)) ∈ lw_tbl := lw_at lw_m11 172 rfl
theorem q2682 : (Jvm.Cond.instanceMethod ({ cls := "MessengerBoardModel", name := "compileFactor", desc := "()V" } : Jvm.MethodName)) ∈ lw_all := lw_g (lw_at lw_m11 173 rfl) rfl
theorem q2683 : (Jvm.Cond.code ({ cls := "MessengerBoardModel", name := "compileFactor", desc := "()V" } : Jvm.MethodName) prog_24_method_118_code (2 : Nat) (Option.none : Option Jvm.ClassFile.FieldType)) ∈ lw_all := lw_g (lw_at lw_m11 174 rfl) rfl
theorem q2684 : (Jvm.Cond.stringRef "MessengerBoardModel" (404 : Nat) "not") ∈ lw_tbl := lw_at lw_m11 175 rfl
theorem q2685 : (Jvm.Cond.methodLink "MessengerBoardModel" (406 : Nat) ({ cls := "MessengerBoardModel", name := "enter", desc := "()V" } : Jvm.MethodName)) ∈ lw_all := lw_g (lw_at lw_m11 176 rfl) rfl
theorem q2686 : (Jvm.Cond.privateMethod ({ cls := "MessengerBoardModel", name := "enter", desc := "()V" } : Jvm.MethodName)) ∈ lw_tbl := lw_at lw_m11 177 rfl
theorem q2687 : (Jvm.Cond.instanceMethod ({ cls := "MessengerBoardModel", name := "enter", desc := "()V" } : Jvm.MethodName)) ∈ lw_all := lw_g (lw_at lw_m11 178 rfl) rfl
theorem q2688 : (Jvm.Cond.code ({ cls := "MessengerBoardModel", name := "enter", desc := "()V" } : Jvm.MethodName) prog_24_method_116_code (1 : Nat) (Option.none : Option Jvm.ClassFile.FieldType)) ∈ lw_all := lw_g (lw_at lw_m11 179 rfl) rfl
theorem q2689 : (Jvm.Cond.methodLink "MessengerBoardModel" (401 : Nat) ({ cls := "MessengerBoardModel", name := "emit", desc := "(I)V" } : Jvm.MethodName)) ∈ lw_all := lw_g (lw_at lw_m11 180 rfl) rfl
theorem q2690 : (Jvm.Cond.privateMethod ({ cls := "MessengerBoardModel", name := "emit", desc := "(I)V" } : Jvm.MethodName)) ∈ lw_tbl := lw_at lw_m11 181 rfl
theorem q2691 : (Jvm.Cond.instanceMethod ({ cls := "MessengerBoardModel", name := "emit", desc := "(I)V" } : Jvm.MethodName)) ∈ lw_all := lw_g (lw_at lw_m11 182 rfl) rfl
theorem q2692 : (Jvm.Cond.code ({ cls := "MessengerBoardModel", name := "emit", desc := "(I)V" } : Jvm.MethodName) prog_24_method_115_code (2 : Nat) (Option.none : Option Jvm.ClassFile.FieldType)) ∈ lw_all := lw_g (lw_at lw_m11 183 rfl) rfl
theorem q2693 : (Jvm.Cond.methodLink "MessengerBoardModel" (415 : Nat) ({ cls := "MessengerBoardModel", name := "compileValue", desc := "()V" } : Jvm.MethodName)) ∈ lw_all := lw_g (lw_at lw_m11 184 rfl) rfl
theorem q2694 : (Jvm.Cond.privateMethod ({ cls := "MessengerBoardModel", name := "compileValue", desc := "()V" } : Jvm.MethodName)) ∈ lw_tbl := lw_at lw_m11 185 rfl
theorem q2695 : (Jvm.Cond.instanceMethod ({ cls := "MessengerBoardModel", name := "compileValue", desc := "()V" } : Jvm.MethodName)) ∈ lw_all := lw_g (lw_at lw_m11 186 rfl) rfl
theorem q2696 : (Jvm.Cond.code ({ cls := "MessengerBoardModel", name := "compileValue", desc := "()V" } : Jvm.MethodName) prog_24_method_117_code (2 : Nat) (Option.none : Option Jvm.ClassFile.FieldType)) ∈ lw_all := lw_g (lw_at lw_m11 187 rfl) rfl
theorem q2697 : (Jvm.Cond.stringRef "MessengerBoardModel" (418 : Nat) "and") ∈ lw_tbl := lw_at lw_m11 188 rfl
theorem q2698 : (Jvm.Cond.stringRef "MessengerBoardModel" (423 : Nat) "or") ∈ lw_tbl := lw_at lw_m11 189 rfl
theorem q2699 : (Jvm.Cond.constant "MessengerBoardModel" (438 : Nat) (-1000000000 : Int32)) ∈ lw_all := lw_g (lw_at lw_m11 190 rfl) rfl
theorem q2700 : (Jvm.Cond.methodLink "MessengerBoardModel" (439 : Nat) ({ cls := "MessengerBoardModel", name := "holdsFor", desc := "(I)Z" } : Jvm.MethodName)) ∈ lw_all := lw_g (lw_at lw_m11 191 rfl) rfl
theorem q2701 : (Jvm.Cond.privateMethod ({ cls := "MessengerBoardModel", name := "holdsFor", desc := "(I)Z" } : Jvm.MethodName)) ∈ lw_tbl := lw_at lw_m11 192 rfl
theorem q2702 : (Jvm.Cond.instanceMethod ({ cls := "MessengerBoardModel", name := "holdsFor", desc := "(I)Z" } : Jvm.MethodName)) ∈ lw_all := lw_g (lw_at lw_m11 193 rfl) rfl
theorem q2703 : (Jvm.Cond.code ({ cls := "MessengerBoardModel", name := "holdsFor", desc := "(I)Z" } : Jvm.MethodName) prog_24_method_123_code (5 : Nat) (Option.some Jvm.ClassFile.FieldType.boolean)) ∈ lw_all := lw_g (lw_at lw_m11 194 rfl) rfl
theorem q2704 : (Jvm.Cond.methodLink "MessengerBoardModel" (425 : Nat) ({ cls := "MessengerBoardModel", name := "property", desc := "(II)I" } : Jvm.MethodName)) ∈ lw_all := lw_g (lw_at lw_m11 195 rfl) rfl
theorem q2705 : (Jvm.Cond.privateMethod ({ cls := "MessengerBoardModel", name := "property", desc := "(II)I" } : Jvm.MethodName)) ∈ lw_tbl := lw_at lw_m11 196 rfl
theorem q2706 : (Jvm.Cond.instanceMethod ({ cls := "MessengerBoardModel", name := "property", desc := "(II)I" } : Jvm.MethodName)) ∈ lw_all := lw_g (lw_at lw_m11 197 rfl) rfl
theorem q2707 : (Jvm.Cond.code ({ cls := "MessengerBoardModel", name := "property", desc := "(II)I" } : Jvm.MethodName) prog_24_method_122_code (3 : Nat) (Option.some Jvm.ClassFile.FieldType.int)) ∈ lw_all := lw_g (lw_at lw_m11 198 rfl) rfl
theorem q2708 : (Jvm.Cond.methodLink "MessengerBoardModel" (428 : Nat) ({ cls := "MessengerBoardModel", name := "operate", desc := "(IJJ)J" } : Jvm.MethodName)) ∈ lw_all := lw_g (lw_at lw_m11 199 rfl) rfl
theorem q2709 : (Jvm.Cond.static ({ cls := "MessengerBoardModel", name := "operate", desc := "(IJJ)J" } : Jvm.MethodName)) ∈ lw_all := lw_g (lw_at lw_m11 200 rfl) rfl
theorem q2710 : (Jvm.Cond.code ({ cls := "MessengerBoardModel", name := "operate", desc := "(IJJ)J" } : Jvm.MethodName) prog_24_method_121_code (5 : Nat) (Option.some Jvm.ClassFile.FieldType.long)) ∈ lw_all := lw_g (lw_at lw_m11 201 rfl) rfl
theorem q2736 : (Jvm.Cond.castable "MessengerBoardModel" "java/lang/Object") ∈ lw_tbl := lw_at lw_m11 227 rfl
theorem in_X4 : ∀ w ∈ wsX40, w ∈ lw_all := lw_in wsX40 [2153, 2155, 2157, 2159, 2161, 2163, 2165, 2167, 2169, 2171, 2173, 2175, 2177, 2179, 2181, 2183, 2185, 2187, 2189, 2191, 2193, 2195, 2197, 2199, 2201, 2203, 2205, 2207] (by decide +kernel) (by decide +kernel)
