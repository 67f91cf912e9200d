/-! MessengerBoard$Ways -/
set_option maxRecDepth 100000
def RX2 : String := "MessengerBoard$Ways"
def TX2 : u_T := fun k => match k with
  | 0 => ("MessengerBoard$Ways", "far", "[I", true)
  | _ => ("MessengerBoard$Ways", "queue", "[I", true)
def tyX2 : Nat → FieldType := fun k => match k with
  | 0 => .array .int
  | _ => .array .int
abbrev wsX20 : List Cond := u_ws RX2 TX2 2
theorem nmX2 : ∀ a, a < 2 → ∀ b, b < 2 → a ≠ b → (TX2 a).2.1 ≠ (TX2 b).2.1 := by decide +kernel
theorem tyX2_ok : ∀ k, k < 2 → parseFieldDescriptor (TX2 k).2.2.1 = some (tyX2 k) := by decide +kernel
abbrev cX2_init : ByteArray := prog_22_method_1_code
def yX2_init : MethodName := ⟨RX2, "<init>", "()V"⟩
def dkwX2_init_0 : List UInt8 := [42, 183, 0, 3, 42, 17, 0, 144, 188, 10, 181, 0, 9, 42, 17, 0, 144, 188, 10, 181, 0, 15, 177]
abbrev dktX2_init_0 : List UInt8 := dkwX2_init_0 ++ []
theorem dksX2_init_0 : cX2_init.data.toList.drop 0 = dktX2_init_0 := by decide +kernel
theorem dX2_init_0 : decode cX2_init 0 = .ok (.aload_n 0, 1) := dk_42 (dk_at dksX2_init_0 0 rfl rfl)
theorem dX2_init_1 : decode cX2_init 1 = .ok (.invokespecial 3, 3) := dk_183 0 3 (dk_at dksX2_init_0 1 rfl rfl)
theorem dX2_init_4 : decode cX2_init 4 = .ok (.aload_n 0, 1) := dk_42 (dk_at dksX2_init_0 4 rfl rfl)
theorem dX2_init_5 : decode cX2_init 5 = .ok (.sipush 144, 3) := dk_17 0 144 (dk_at dksX2_init_0 5 rfl rfl)
theorem dX2_init_8 : decode cX2_init 8 = .ok (.newarray .int, 2) := dk_188_10 (dk_at dksX2_init_0 8 rfl rfl)
theorem dX2_init_10 : decode cX2_init 10 = .ok (.putfield 9, 3) := dk_181 0 9 (dk_at dksX2_init_0 10 rfl rfl)
theorem dX2_init_13 : decode cX2_init 13 = .ok (.aload_n 0, 1) := dk_42 (dk_at dksX2_init_0 13 rfl rfl)
theorem dX2_init_14 : decode cX2_init 14 = .ok (.sipush 144, 3) := dk_17 0 144 (dk_at dksX2_init_0 14 rfl rfl)
theorem dX2_init_17 : decode cX2_init 17 = .ok (.newarray .int, 2) := dk_188_10 (dk_at dksX2_init_0 17 rfl rfl)
theorem dX2_init_19 : decode cX2_init 19 = .ok (.putfield 15, 3) := dk_181 0 15 (dk_at dksX2_init_0 19 rfl rfl)
theorem dX2_init_22 : decode cX2_init 22 = .ok (.return_, 1) := dk_177 (dk_at dksX2_init_0 22 rfl rfl)
abbrev cX2_lay : ByteArray := prog_22_method_2_code
def yX2_lay : MethodName := ⟨RX2, "lay", "(LMessengerBoard$State;II)V"⟩
def dkwX2_lay_8 : List UInt8 := [104, 21, 7, 96, 79, 132, 4, 1, 132, 6, 1, 167, 255, 133, 132, 5, 1, 167, 255, 117, 177]
abbrev dktX2_lay_8 : List UInt8 := dkwX2_lay_8 ++ []
def dkwX2_lay_7 : List UInt8 := [180, 0, 9, 42, 180, 0, 15, 21, 5, 46, 46, 4, 96, 79, 42, 180, 0, 15, 21, 4, 16, 12, 21, 8]
abbrev dktX2_lay_7 : List UInt8 := dkwX2_lay_7 ++ dktX2_lay_8
def dkwX2_lay_6 : List UInt8 := [21, 7, 96, 46, 2, 159, 0, 6, 167, 0, 48, 42, 180, 0, 9, 16, 12, 21, 8, 104, 21, 7, 96, 42]
abbrev dktX2_lay_6 : List UInt8 := dkwX2_lay_6 ++ dktX2_lay_7
def dkwX2_lay_5 : List UInt8 := [46, 96, 54, 8, 43, 21, 7, 21, 8, 182, 0, 18, 153, 0, 68, 42, 180, 0, 9, 16, 12, 21, 8, 104]
abbrev dktX2_lay_5 : List UInt8 := dkwX2_lay_5 ++ dktX2_lay_6
def dkwX2_lay_4 : List UInt8 := [178, 0, 24, 21, 6, 46, 96, 54, 7, 42, 180, 0, 15, 21, 5, 46, 16, 12, 108, 178, 0, 27, 21, 6]
abbrev dktX2_lay_4 : List UInt8 := dkwX2_lay_4 ++ dktX2_lay_5
def dkwX2_lay_3 : List UInt8 := [162, 0, 138, 3, 54, 6, 21, 6, 7, 162, 0, 123, 42, 180, 0, 15, 21, 5, 46, 16, 12, 112]
abbrev dktX2_lay_3 : List UInt8 := dkwX2_lay_3 ++ dktX2_lay_4
def dkwX2_lay_2 : List UInt8 := [79, 42, 180, 0, 15, 3, 16, 12, 29, 104, 28, 96, 79, 4, 54, 4, 3, 54, 5, 21, 5, 21, 4]
abbrev dktX2_lay_2 : List UInt8 := dkwX2_lay_2 ++ dktX2_lay_3
def dkwX2_lay_1 : List UInt8 := [167, 255, 237, 43, 28, 29, 182, 0, 18, 154, 0, 4, 177, 42, 180, 0, 9, 16, 12, 29, 104, 28, 96, 3]
abbrev dktX2_lay_1 : List UInt8 := dkwX2_lay_1 ++ dktX2_lay_2
def dkwX2_lay_0 : List UInt8 := [3, 54, 4, 21, 4, 17, 0, 144, 162, 0, 17, 42, 180, 0, 9, 21, 4, 2, 79, 132, 4, 1]
abbrev dktX2_lay_0 : List UInt8 := dkwX2_lay_0 ++ dktX2_lay_1
theorem dksX2_lay_0 : cX2_lay.data.toList.drop 0 = dktX2_lay_0 := by decide +kernel
theorem dksX2_lay_1 : cX2_lay.data.toList.drop 22 = dktX2_lay_1 := dk_seg dksX2_lay_0 22 rfl rfl
theorem dksX2_lay_2 : cX2_lay.data.toList.drop 46 = dktX2_lay_2 := dk_seg dksX2_lay_1 24 rfl rfl
theorem dksX2_lay_3 : cX2_lay.data.toList.drop 69 = dktX2_lay_3 := dk_seg dksX2_lay_2 23 rfl rfl
theorem dksX2_lay_4 : cX2_lay.data.toList.drop 91 = dktX2_lay_4 := dk_seg dksX2_lay_3 22 rfl rfl
theorem dksX2_lay_5 : cX2_lay.data.toList.drop 115 = dktX2_lay_5 := dk_seg dksX2_lay_4 24 rfl rfl
theorem dksX2_lay_6 : cX2_lay.data.toList.drop 139 = dktX2_lay_6 := dk_seg dksX2_lay_5 24 rfl rfl
theorem dksX2_lay_7 : cX2_lay.data.toList.drop 163 = dktX2_lay_7 := dk_seg dksX2_lay_6 24 rfl rfl
theorem dksX2_lay_8 : cX2_lay.data.toList.drop 187 = dktX2_lay_8 := dk_seg dksX2_lay_7 24 rfl rfl
theorem dX2_lay_0 : decode cX2_lay 0 = .ok (.iconst 0, 1) := dk_3 (dk_at dksX2_lay_0 0 rfl rfl)
theorem dX2_lay_1 : decode cX2_lay 1 = .ok (.istore 4, 2) := dk_54 4 (dk_at dksX2_lay_0 1 rfl rfl)
theorem dX2_lay_3 : decode cX2_lay 3 = .ok (.iload 4, 2) := dk_21 4 (dk_at dksX2_lay_0 3 rfl rfl)
theorem dX2_lay_5 : decode cX2_lay 5 = .ok (.sipush 144, 3) := dk_17 0 144 (dk_at dksX2_lay_0 5 rfl rfl)
theorem dX2_lay_8 : decode cX2_lay 8 = .ok (.if_icmp .ge 17, 3) := dk_162 0 17 (dk_at dksX2_lay_0 8 rfl rfl)
theorem dX2_lay_11 : decode cX2_lay 11 = .ok (.aload_n 0, 1) := dk_42 (dk_at dksX2_lay_0 11 rfl rfl)
theorem dX2_lay_12 : decode cX2_lay 12 = .ok (.getfield 9, 3) := dk_180 0 9 (dk_at dksX2_lay_0 12 rfl rfl)
theorem dX2_lay_15 : decode cX2_lay 15 = .ok (.iload 4, 2) := dk_21 4 (dk_at dksX2_lay_0 15 rfl rfl)
theorem dX2_lay_17 : decode cX2_lay 17 = .ok (.iconst (-1), 1) := dk_2 (dk_at dksX2_lay_0 17 rfl rfl)
theorem dX2_lay_18 : decode cX2_lay 18 = .ok (.iastore, 1) := dk_79 (dk_at dksX2_lay_0 18 rfl rfl)
theorem dX2_lay_19 : decode cX2_lay 19 = .ok (.iinc 4 1, 3) := dk_132 4 1 (dk_at dksX2_lay_0 19 rfl rfl)
theorem dX2_lay_22 : decode cX2_lay 22 = .ok (.goto (-19), 3) := dk_167 255 237 (dk_at dksX2_lay_1 0 rfl rfl)
theorem dX2_lay_25 : decode cX2_lay 25 = .ok (.aload_n 1, 1) := dk_43 (dk_at dksX2_lay_1 3 rfl rfl)
theorem dX2_lay_26 : decode cX2_lay 26 = .ok (.iload_n 2, 1) := dk_28 (dk_at dksX2_lay_1 4 rfl rfl)
theorem dX2_lay_27 : decode cX2_lay 27 = .ok (.iload_n 3, 1) := dk_29 (dk_at dksX2_lay_1 5 rfl rfl)
theorem dX2_lay_28 : decode cX2_lay 28 = .ok (.invokevirtual 18, 3) := dk_182 0 18 (dk_at dksX2_lay_1 6 rfl rfl)
theorem dX2_lay_31 : decode cX2_lay 31 = .ok (.ifCond .ne 4, 3) := dk_154 0 4 (dk_at dksX2_lay_1 9 rfl rfl)
theorem dX2_lay_34 : decode cX2_lay 34 = .ok (.return_, 1) := dk_177 (dk_at dksX2_lay_1 12 rfl rfl)
theorem dX2_lay_35 : decode cX2_lay 35 = .ok (.aload_n 0, 1) := dk_42 (dk_at dksX2_lay_1 13 rfl rfl)
theorem dX2_lay_36 : decode cX2_lay 36 = .ok (.getfield 9, 3) := dk_180 0 9 (dk_at dksX2_lay_1 14 rfl rfl)
theorem dX2_lay_39 : decode cX2_lay 39 = .ok (.bipush 12, 2) := dk_16 12 (dk_at dksX2_lay_1 17 rfl rfl)
theorem dX2_lay_41 : decode cX2_lay 41 = .ok (.iload_n 3, 1) := dk_29 (dk_at dksX2_lay_1 19 rfl rfl)
theorem dX2_lay_42 : decode cX2_lay 42 = .ok (.imul, 1) := dk_104 (dk_at dksX2_lay_1 20 rfl rfl)
theorem dX2_lay_43 : decode cX2_lay 43 = .ok (.iload_n 2, 1) := dk_28 (dk_at dksX2_lay_1 21 rfl rfl)
theorem dX2_lay_44 : decode cX2_lay 44 = .ok (.iadd, 1) := dk_96 (dk_at dksX2_lay_1 22 rfl rfl)
theorem dX2_lay_45 : decode cX2_lay 45 = .ok (.iconst 0, 1) := dk_3 (dk_at dksX2_lay_1 23 rfl rfl)
theorem dX2_lay_46 : decode cX2_lay 46 = .ok (.iastore, 1) := dk_79 (dk_at dksX2_lay_2 0 rfl rfl)
theorem dX2_lay_47 : decode cX2_lay 47 = .ok (.aload_n 0, 1) := dk_42 (dk_at dksX2_lay_2 1 rfl rfl)
theorem dX2_lay_48 : decode cX2_lay 48 = .ok (.getfield 15, 3) := dk_180 0 15 (dk_at dksX2_lay_2 2 rfl rfl)
theorem dX2_lay_51 : decode cX2_lay 51 = .ok (.iconst 0, 1) := dk_3 (dk_at dksX2_lay_2 5 rfl rfl)
theorem dX2_lay_52 : decode cX2_lay 52 = .ok (.bipush 12, 2) := dk_16 12 (dk_at dksX2_lay_2 6 rfl rfl)
theorem dX2_lay_54 : decode cX2_lay 54 = .ok (.iload_n 3, 1) := dk_29 (dk_at dksX2_lay_2 8 rfl rfl)
theorem dX2_lay_55 : decode cX2_lay 55 = .ok (.imul, 1) := dk_104 (dk_at dksX2_lay_2 9 rfl rfl)
theorem dX2_lay_56 : decode cX2_lay 56 = .ok (.iload_n 2, 1) := dk_28 (dk_at dksX2_lay_2 10 rfl rfl)
theorem dX2_lay_57 : decode cX2_lay 57 = .ok (.iadd, 1) := dk_96 (dk_at dksX2_lay_2 11 rfl rfl)
theorem dX2_lay_58 : decode cX2_lay 58 = .ok (.iastore, 1) := dk_79 (dk_at dksX2_lay_2 12 rfl rfl)
theorem dX2_lay_59 : decode cX2_lay 59 = .ok (.iconst 1, 1) := dk_4 (dk_at dksX2_lay_2 13 rfl rfl)
theorem dX2_lay_60 : decode cX2_lay 60 = .ok (.istore 4, 2) := dk_54 4 (dk_at dksX2_lay_2 14 rfl rfl)
theorem dX2_lay_62 : decode cX2_lay 62 = .ok (.iconst 0, 1) := dk_3 (dk_at dksX2_lay_2 16 rfl rfl)
theorem dX2_lay_63 : decode cX2_lay 63 = .ok (.istore 5, 2) := dk_54 5 (dk_at dksX2_lay_2 17 rfl rfl)
theorem dX2_lay_65 : decode cX2_lay 65 = .ok (.iload 5, 2) := dk_21 5 (dk_at dksX2_lay_2 19 rfl rfl)
theorem dX2_lay_67 : decode cX2_lay 67 = .ok (.iload 4, 2) := dk_21 4 (dk_at dksX2_lay_2 21 rfl rfl)
theorem dX2_lay_69 : decode cX2_lay 69 = .ok (.if_icmp .ge 138, 3) := dk_162 0 138 (dk_at dksX2_lay_3 0 rfl rfl)
theorem dX2_lay_72 : decode cX2_lay 72 = .ok (.iconst 0, 1) := dk_3 (dk_at dksX2_lay_3 3 rfl rfl)
theorem dX2_lay_73 : decode cX2_lay 73 = .ok (.istore 6, 2) := dk_54 6 (dk_at dksX2_lay_3 4 rfl rfl)
theorem dX2_lay_75 : decode cX2_lay 75 = .ok (.iload 6, 2) := dk_21 6 (dk_at dksX2_lay_3 6 rfl rfl)
theorem dX2_lay_77 : decode cX2_lay 77 = .ok (.iconst 4, 1) := dk_7 (dk_at dksX2_lay_3 8 rfl rfl)
theorem dX2_lay_78 : decode cX2_lay 78 = .ok (.if_icmp .ge 123, 3) := dk_162 0 123 (dk_at dksX2_lay_3 9 rfl rfl)
theorem dX2_lay_81 : decode cX2_lay 81 = .ok (.aload_n 0, 1) := dk_42 (dk_at dksX2_lay_3 12 rfl rfl)
theorem dX2_lay_82 : decode cX2_lay 82 = .ok (.getfield 15, 3) := dk_180 0 15 (dk_at dksX2_lay_3 13 rfl rfl)
theorem dX2_lay_85 : decode cX2_lay 85 = .ok (.iload 5, 2) := dk_21 5 (dk_at dksX2_lay_3 16 rfl rfl)
theorem dX2_lay_87 : decode cX2_lay 87 = .ok (.iaload, 1) := dk_46 (dk_at dksX2_lay_3 18 rfl rfl)
theorem dX2_lay_88 : decode cX2_lay 88 = .ok (.bipush 12, 2) := dk_16 12 (dk_at dksX2_lay_3 19 rfl rfl)
theorem dX2_lay_90 : decode cX2_lay 90 = .ok (.irem, 1) := dk_112 (dk_at dksX2_lay_3 21 rfl rfl)
theorem dX2_lay_91 : decode cX2_lay 91 = .ok (.getstatic 24, 3) := dk_178 0 24 (dk_at dksX2_lay_4 0 rfl rfl)
theorem dX2_lay_94 : decode cX2_lay 94 = .ok (.iload 6, 2) := dk_21 6 (dk_at dksX2_lay_4 3 rfl rfl)
theorem dX2_lay_96 : decode cX2_lay 96 = .ok (.iaload, 1) := dk_46 (dk_at dksX2_lay_4 5 rfl rfl)
theorem dX2_lay_97 : decode cX2_lay 97 = .ok (.iadd, 1) := dk_96 (dk_at dksX2_lay_4 6 rfl rfl)
theorem dX2_lay_98 : decode cX2_lay 98 = .ok (.istore 7, 2) := dk_54 7 (dk_at dksX2_lay_4 7 rfl rfl)
theorem dX2_lay_100 : decode cX2_lay 100 = .ok (.aload_n 0, 1) := dk_42 (dk_at dksX2_lay_4 9 rfl rfl)
theorem dX2_lay_101 : decode cX2_lay 101 = .ok (.getfield 15, 3) := dk_180 0 15 (dk_at dksX2_lay_4 10 rfl rfl)
theorem dX2_lay_104 : decode cX2_lay 104 = .ok (.iload 5, 2) := dk_21 5 (dk_at dksX2_lay_4 13 rfl rfl)
theorem dX2_lay_106 : decode cX2_lay 106 = .ok (.iaload, 1) := dk_46 (dk_at dksX2_lay_4 15 rfl rfl)
theorem dX2_lay_107 : decode cX2_lay 107 = .ok (.bipush 12, 2) := dk_16 12 (dk_at dksX2_lay_4 16 rfl rfl)
theorem dX2_lay_109 : decode cX2_lay 109 = .ok (.idiv, 1) := dk_108 (dk_at dksX2_lay_4 18 rfl rfl)
theorem dX2_lay_110 : decode cX2_lay 110 = .ok (.getstatic 27, 3) := dk_178 0 27 (dk_at dksX2_lay_4 19 rfl rfl)
theorem dX2_lay_113 : decode cX2_lay 113 = .ok (.iload 6, 2) := dk_21 6 (dk_at dksX2_lay_4 22 rfl rfl)
theorem dX2_lay_115 : decode cX2_lay 115 = .ok (.iaload, 1) := dk_46 (dk_at dksX2_lay_5 0 rfl rfl)
theorem dX2_lay_116 : decode cX2_lay 116 = .ok (.iadd, 1) := dk_96 (dk_at dksX2_lay_5 1 rfl rfl)
theorem dX2_lay_117 : decode cX2_lay 117 = .ok (.istore 8, 2) := dk_54 8 (dk_at dksX2_lay_5 2 rfl rfl)
theorem dX2_lay_119 : decode cX2_lay 119 = .ok (.aload_n 1, 1) := dk_43 (dk_at dksX2_lay_5 4 rfl rfl)
theorem dX2_lay_120 : decode cX2_lay 120 = .ok (.iload 7, 2) := dk_21 7 (dk_at dksX2_lay_5 5 rfl rfl)
theorem dX2_lay_122 : decode cX2_lay 122 = .ok (.iload 8, 2) := dk_21 8 (dk_at dksX2_lay_5 7 rfl rfl)
theorem dX2_lay_124 : decode cX2_lay 124 = .ok (.invokevirtual 18, 3) := dk_182 0 18 (dk_at dksX2_lay_5 9 rfl rfl)
theorem dX2_lay_127 : decode cX2_lay 127 = .ok (.ifCond .eq 68, 3) := dk_153 0 68 (dk_at dksX2_lay_5 12 rfl rfl)
theorem dX2_lay_130 : decode cX2_lay 130 = .ok (.aload_n 0, 1) := dk_42 (dk_at dksX2_lay_5 15 rfl rfl)
theorem dX2_lay_131 : decode cX2_lay 131 = .ok (.getfield 9, 3) := dk_180 0 9 (dk_at dksX2_lay_5 16 rfl rfl)
theorem dX2_lay_134 : decode cX2_lay 134 = .ok (.bipush 12, 2) := dk_16 12 (dk_at dksX2_lay_5 19 rfl rfl)
theorem dX2_lay_136 : decode cX2_lay 136 = .ok (.iload 8, 2) := dk_21 8 (dk_at dksX2_lay_5 21 rfl rfl)
theorem dX2_lay_138 : decode cX2_lay 138 = .ok (.imul, 1) := dk_104 (dk_at dksX2_lay_5 23 rfl rfl)
theorem dX2_lay_139 : decode cX2_lay 139 = .ok (.iload 7, 2) := dk_21 7 (dk_at dksX2_lay_6 0 rfl rfl)
theorem dX2_lay_141 : decode cX2_lay 141 = .ok (.iadd, 1) := dk_96 (dk_at dksX2_lay_6 2 rfl rfl)
theorem dX2_lay_142 : decode cX2_lay 142 = .ok (.iaload, 1) := dk_46 (dk_at dksX2_lay_6 3 rfl rfl)
theorem dX2_lay_143 : decode cX2_lay 143 = .ok (.iconst (-1), 1) := dk_2 (dk_at dksX2_lay_6 4 rfl rfl)
theorem dX2_lay_144 : decode cX2_lay 144 = .ok (.if_icmp .eq 6, 3) := dk_159 0 6 (dk_at dksX2_lay_6 5 rfl rfl)
theorem dX2_lay_147 : decode cX2_lay 147 = .ok (.goto 48, 3) := dk_167 0 48 (dk_at dksX2_lay_6 8 rfl rfl)
theorem dX2_lay_150 : decode cX2_lay 150 = .ok (.aload_n 0, 1) := dk_42 (dk_at dksX2_lay_6 11 rfl rfl)
theorem dX2_lay_151 : decode cX2_lay 151 = .ok (.getfield 9, 3) := dk_180 0 9 (dk_at dksX2_lay_6 12 rfl rfl)
theorem dX2_lay_154 : decode cX2_lay 154 = .ok (.bipush 12, 2) := dk_16 12 (dk_at dksX2_lay_6 15 rfl rfl)
theorem dX2_lay_156 : decode cX2_lay 156 = .ok (.iload 8, 2) := dk_21 8 (dk_at dksX2_lay_6 17 rfl rfl)
theorem dX2_lay_158 : decode cX2_lay 158 = .ok (.imul, 1) := dk_104 (dk_at dksX2_lay_6 19 rfl rfl)
theorem dX2_lay_159 : decode cX2_lay 159 = .ok (.iload 7, 2) := dk_21 7 (dk_at dksX2_lay_6 20 rfl rfl)
theorem dX2_lay_161 : decode cX2_lay 161 = .ok (.iadd, 1) := dk_96 (dk_at dksX2_lay_6 22 rfl rfl)
theorem dX2_lay_162 : decode cX2_lay 162 = .ok (.aload_n 0, 1) := dk_42 (dk_at dksX2_lay_6 23 rfl rfl)
theorem dX2_lay_163 : decode cX2_lay 163 = .ok (.getfield 9, 3) := dk_180 0 9 (dk_at dksX2_lay_7 0 rfl rfl)
theorem dX2_lay_166 : decode cX2_lay 166 = .ok (.aload_n 0, 1) := dk_42 (dk_at dksX2_lay_7 3 rfl rfl)
theorem dX2_lay_167 : decode cX2_lay 167 = .ok (.getfield 15, 3) := dk_180 0 15 (dk_at dksX2_lay_7 4 rfl rfl)
theorem dX2_lay_170 : decode cX2_lay 170 = .ok (.iload 5, 2) := dk_21 5 (dk_at dksX2_lay_7 7 rfl rfl)
theorem dX2_lay_172 : decode cX2_lay 172 = .ok (.iaload, 1) := dk_46 (dk_at dksX2_lay_7 9 rfl rfl)
theorem dX2_lay_173 : decode cX2_lay 173 = .ok (.iaload, 1) := dk_46 (dk_at dksX2_lay_7 10 rfl rfl)
theorem dX2_lay_174 : decode cX2_lay 174 = .ok (.iconst 1, 1) := dk_4 (dk_at dksX2_lay_7 11 rfl rfl)
theorem dX2_lay_175 : decode cX2_lay 175 = .ok (.iadd, 1) := dk_96 (dk_at dksX2_lay_7 12 rfl rfl)
theorem dX2_lay_176 : decode cX2_lay 176 = .ok (.iastore, 1) := dk_79 (dk_at dksX2_lay_7 13 rfl rfl)
theorem dX2_lay_177 : decode cX2_lay 177 = .ok (.aload_n 0, 1) := dk_42 (dk_at dksX2_lay_7 14 rfl rfl)
theorem dX2_lay_178 : decode cX2_lay 178 = .ok (.getfield 15, 3) := dk_180 0 15 (dk_at dksX2_lay_7 15 rfl rfl)
theorem dX2_lay_181 : decode cX2_lay 181 = .ok (.iload 4, 2) := dk_21 4 (dk_at dksX2_lay_7 18 rfl rfl)
theorem dX2_lay_183 : decode cX2_lay 183 = .ok (.bipush 12, 2) := dk_16 12 (dk_at dksX2_lay_7 20 rfl rfl)
theorem dX2_lay_185 : decode cX2_lay 185 = .ok (.iload 8, 2) := dk_21 8 (dk_at dksX2_lay_7 22 rfl rfl)
theorem dX2_lay_187 : decode cX2_lay 187 = .ok (.imul, 1) := dk_104 (dk_at dksX2_lay_8 0 rfl rfl)
theorem dX2_lay_188 : decode cX2_lay 188 = .ok (.iload 7, 2) := dk_21 7 (dk_at dksX2_lay_8 1 rfl rfl)
theorem dX2_lay_190 : decode cX2_lay 190 = .ok (.iadd, 1) := dk_96 (dk_at dksX2_lay_8 3 rfl rfl)
theorem dX2_lay_191 : decode cX2_lay 191 = .ok (.iastore, 1) := dk_79 (dk_at dksX2_lay_8 4 rfl rfl)
theorem dX2_lay_192 : decode cX2_lay 192 = .ok (.iinc 4 1, 3) := dk_132 4 1 (dk_at dksX2_lay_8 5 rfl rfl)
theorem dX2_lay_195 : decode cX2_lay 195 = .ok (.iinc 6 1, 3) := dk_132 6 1 (dk_at dksX2_lay_8 8 rfl rfl)
theorem dX2_lay_198 : decode cX2_lay 198 = .ok (.goto (-123), 3) := dk_167 255 133 (dk_at dksX2_lay_8 11 rfl rfl)
theorem dX2_lay_201 : decode cX2_lay 201 = .ok (.iinc 5 1, 3) := dk_132 5 1 (dk_at dksX2_lay_8 14 rfl rfl)
theorem dX2_lay_204 : decode cX2_lay 204 = .ok (.goto (-139), 3) := dk_167 255 117 (dk_at dksX2_lay_8 17 rfl rfl)
theorem dX2_lay_207 : decode cX2_lay 207 = .ok (.return_, 1) := dk_177 (dk_at dksX2_lay_8 20 rfl rfl)
abbrev cX2_distance : ByteArray := prog_22_method_3_code
def yX2_distance : MethodName := ⟨RX2, "distance", "(II)I"⟩
def dkwX2_distance_0 : List UInt8 := [42, 180, 0, 9, 16, 12, 28, 104, 27, 96, 46, 172]
abbrev dktX2_distance_0 : List UInt8 := dkwX2_distance_0 ++ []
theorem dksX2_distance_0 : cX2_distance.data.toList.drop 0 = dktX2_distance_0 := by decide +kernel
theorem dX2_distance_0 : decode cX2_distance 0 = .ok (.aload_n 0, 1) := dk_42 (dk_at dksX2_distance_0 0 rfl rfl)
theorem dX2_distance_1 : decode cX2_distance 1 = .ok (.getfield 9, 3) := dk_180 0 9 (dk_at dksX2_distance_0 1 rfl rfl)
theorem dX2_distance_4 : decode cX2_distance 4 = .ok (.bipush 12, 2) := dk_16 12 (dk_at dksX2_distance_0 4 rfl rfl)
theorem dX2_distance_6 : decode cX2_distance 6 = .ok (.iload_n 2, 1) := dk_28 (dk_at dksX2_distance_0 6 rfl rfl)
theorem dX2_distance_7 : decode cX2_distance 7 = .ok (.imul, 1) := dk_104 (dk_at dksX2_distance_0 7 rfl rfl)
theorem dX2_distance_8 : decode cX2_distance 8 = .ok (.iload_n 1, 1) := dk_27 (dk_at dksX2_distance_0 8 rfl rfl)
theorem dX2_distance_9 : decode cX2_distance 9 = .ok (.iadd, 1) := dk_96 (dk_at dksX2_distance_0 9 rfl rfl)
theorem dX2_distance_10 : decode cX2_distance 10 = .ok (.iaload, 1) := dk_46 (dk_at dksX2_distance_0 10 rfl rfl)
theorem dX2_distance_11 : decode cX2_distance 11 = .ok (.ireturn, 1) := dk_172 (dk_at dksX2_distance_0 11 rfl rfl)
abbrev cX2_way : ByteArray := prog_22_method_4_code
def yX2_way : MethodName := ⟨RX2, "way", "(LMessengerBoard$State;II)I"⟩
def dkwX2_way_3 : List UInt8 := [172, 132, 4, 1, 167, 255, 185, 2, 172]
abbrev dktX2_way_3 : List UInt8 := dkwX2_way_3 ++ []
def dkwX2_way_2 : List UInt8 := [153, 0, 25, 42, 21, 5, 21, 6, 182, 0, 30, 42, 28, 29, 182, 0, 30, 4, 100, 160, 0, 6, 21, 4]
abbrev dktX2_way_2 : List UInt8 := dkwX2_way_2 ++ dktX2_way_3
def dkwX2_way_1 : List UInt8 := [46, 96, 54, 5, 29, 178, 0, 27, 21, 4, 46, 96, 54, 6, 43, 21, 5, 21, 6, 182, 0, 18]
abbrev dktX2_way_1 : List UInt8 := dkwX2_way_1 ++ dktX2_way_2
def dkwX2_way_0 : List UInt8 := [3, 54, 4, 21, 4, 7, 162, 0, 71, 42, 28, 29, 182, 0, 30, 158, 0, 62, 28, 178, 0, 24, 21, 4]
abbrev dktX2_way_0 : List UInt8 := dkwX2_way_0 ++ dktX2_way_1
theorem dksX2_way_0 : cX2_way.data.toList.drop 0 = dktX2_way_0 := by decide +kernel
theorem dksX2_way_1 : cX2_way.data.toList.drop 24 = dktX2_way_1 := dk_seg dksX2_way_0 24 rfl rfl
theorem dksX2_way_2 : cX2_way.data.toList.drop 46 = dktX2_way_2 := dk_seg dksX2_way_1 22 rfl rfl
theorem dksX2_way_3 : cX2_way.data.toList.drop 70 = dktX2_way_3 := dk_seg dksX2_way_2 24 rfl rfl
theorem dX2_way_0 : decode cX2_way 0 = .ok (.iconst 0, 1) := dk_3 (dk_at dksX2_way_0 0 rfl rfl)
theorem dX2_way_1 : decode cX2_way 1 = .ok (.istore 4, 2) := dk_54 4 (dk_at dksX2_way_0 1 rfl rfl)
theorem dX2_way_3 : decode cX2_way 3 = .ok (.iload 4, 2) := dk_21 4 (dk_at dksX2_way_0 3 rfl rfl)
theorem dX2_way_5 : decode cX2_way 5 = .ok (.iconst 4, 1) := dk_7 (dk_at dksX2_way_0 5 rfl rfl)
theorem dX2_way_6 : decode cX2_way 6 = .ok (.if_icmp .ge 71, 3) := dk_162 0 71 (dk_at dksX2_way_0 6 rfl rfl)
theorem dX2_way_9 : decode cX2_way 9 = .ok (.aload_n 0, 1) := dk_42 (dk_at dksX2_way_0 9 rfl rfl)
theorem dX2_way_10 : decode cX2_way 10 = .ok (.iload_n 2, 1) := dk_28 (dk_at dksX2_way_0 10 rfl rfl)
theorem dX2_way_11 : decode cX2_way 11 = .ok (.iload_n 3, 1) := dk_29 (dk_at dksX2_way_0 11 rfl rfl)
theorem dX2_way_12 : decode cX2_way 12 = .ok (.invokevirtual 30, 3) := dk_182 0 30 (dk_at dksX2_way_0 12 rfl rfl)
theorem dX2_way_15 : decode cX2_way 15 = .ok (.ifCond .le 62, 3) := dk_158 0 62 (dk_at dksX2_way_0 15 rfl rfl)
theorem dX2_way_18 : decode cX2_way 18 = .ok (.iload_n 2, 1) := dk_28 (dk_at dksX2_way_0 18 rfl rfl)
theorem dX2_way_19 : decode cX2_way 19 = .ok (.getstatic 24, 3) := dk_178 0 24 (dk_at dksX2_way_0 19 rfl rfl)
theorem dX2_way_22 : decode cX2_way 22 = .ok (.iload 4, 2) := dk_21 4 (dk_at dksX2_way_0 22 rfl rfl)
theorem dX2_way_24 : decode cX2_way 24 = .ok (.iaload, 1) := dk_46 (dk_at dksX2_way_1 0 rfl rfl)
theorem dX2_way_25 : decode cX2_way 25 = .ok (.iadd, 1) := dk_96 (dk_at dksX2_way_1 1 rfl rfl)
theorem dX2_way_26 : decode cX2_way 26 = .ok (.istore 5, 2) := dk_54 5 (dk_at dksX2_way_1 2 rfl rfl)
theorem dX2_way_28 : decode cX2_way 28 = .ok (.iload_n 3, 1) := dk_29 (dk_at dksX2_way_1 4 rfl rfl)
theorem dX2_way_29 : decode cX2_way 29 = .ok (.getstatic 27, 3) := dk_178 0 27 (dk_at dksX2_way_1 5 rfl rfl)
theorem dX2_way_32 : decode cX2_way 32 = .ok (.iload 4, 2) := dk_21 4 (dk_at dksX2_way_1 8 rfl rfl)
theorem dX2_way_34 : decode cX2_way 34 = .ok (.iaload, 1) := dk_46 (dk_at dksX2_way_1 10 rfl rfl)
theorem dX2_way_35 : decode cX2_way 35 = .ok (.iadd, 1) := dk_96 (dk_at dksX2_way_1 11 rfl rfl)
theorem dX2_way_36 : decode cX2_way 36 = .ok (.istore 6, 2) := dk_54 6 (dk_at dksX2_way_1 12 rfl rfl)
theorem dX2_way_38 : decode cX2_way 38 = .ok (.aload_n 1, 1) := dk_43 (dk_at dksX2_way_1 14 rfl rfl)
theorem dX2_way_39 : decode cX2_way 39 = .ok (.iload 5, 2) := dk_21 5 (dk_at dksX2_way_1 15 rfl rfl)
theorem dX2_way_41 : decode cX2_way 41 = .ok (.iload 6, 2) := dk_21 6 (dk_at dksX2_way_1 17 rfl rfl)
theorem dX2_way_43 : decode cX2_way 43 = .ok (.invokevirtual 18, 3) := dk_182 0 18 (dk_at dksX2_way_1 19 rfl rfl)
theorem dX2_way_46 : decode cX2_way 46 = .ok (.ifCond .eq 25, 3) := dk_153 0 25 (dk_at dksX2_way_2 0 rfl rfl)
theorem dX2_way_49 : decode cX2_way 49 = .ok (.aload_n 0, 1) := dk_42 (dk_at dksX2_way_2 3 rfl rfl)
theorem dX2_way_50 : decode cX2_way 50 = .ok (.iload 5, 2) := dk_21 5 (dk_at dksX2_way_2 4 rfl rfl)
theorem dX2_way_52 : decode cX2_way 52 = .ok (.iload 6, 2) := dk_21 6 (dk_at dksX2_way_2 6 rfl rfl)
theorem dX2_way_54 : decode cX2_way 54 = .ok (.invokevirtual 30, 3) := dk_182 0 30 (dk_at dksX2_way_2 8 rfl rfl)
theorem dX2_way_57 : decode cX2_way 57 = .ok (.aload_n 0, 1) := dk_42 (dk_at dksX2_way_2 11 rfl rfl)
theorem dX2_way_58 : decode cX2_way 58 = .ok (.iload_n 2, 1) := dk_28 (dk_at dksX2_way_2 12 rfl rfl)
theorem dX2_way_59 : decode cX2_way 59 = .ok (.iload_n 3, 1) := dk_29 (dk_at dksX2_way_2 13 rfl rfl)
theorem dX2_way_60 : decode cX2_way 60 = .ok (.invokevirtual 30, 3) := dk_182 0 30 (dk_at dksX2_way_2 14 rfl rfl)
theorem dX2_way_63 : decode cX2_way 63 = .ok (.iconst 1, 1) := dk_4 (dk_at dksX2_way_2 17 rfl rfl)
theorem dX2_way_64 : decode cX2_way 64 = .ok (.isub, 1) := dk_100 (dk_at dksX2_way_2 18 rfl rfl)
theorem dX2_way_65 : decode cX2_way 65 = .ok (.if_icmp .ne 6, 3) := dk_160 0 6 (dk_at dksX2_way_2 19 rfl rfl)
theorem dX2_way_68 : decode cX2_way 68 = .ok (.iload 4, 2) := dk_21 4 (dk_at dksX2_way_2 22 rfl rfl)
theorem dX2_way_70 : decode cX2_way 70 = .ok (.ireturn, 1) := dk_172 (dk_at dksX2_way_3 0 rfl rfl)
theorem dX2_way_71 : decode cX2_way 71 = .ok (.iinc 4 1, 3) := dk_132 4 1 (dk_at dksX2_way_3 1 rfl rfl)
theorem dX2_way_74 : decode cX2_way 74 = .ok (.goto (-71), 3) := dk_167 255 185 (dk_at dksX2_way_3 4 rfl rfl)
theorem dX2_way_77 : decode cX2_way 77 = .ok (.iconst (-1), 1) := dk_2 (dk_at dksX2_way_3 7 rfl rfl)
theorem dX2_way_78 : decode cX2_way 78 = .ok (.ireturn, 1) := dk_172 (dk_at dksX2_way_3 8 rfl rfl)
theorem q111 : (Jvm.Cond.initialized "MessengerBoard$Ways") ∈ lw_all := lw_g (lw_at lw_m1 2 rfl) rfl
theorem q165 : (Jvm.Cond.instantiable "MessengerBoard$Ways" (2 : Nat)) ∈ lw_all := lw_g (lw_at lw_m1 56 rfl) rfl
theorem q167 : (Jvm.Cond.instanceMethod ({ cls := "MessengerBoard$Ways", name := "<init>", desc := "()V" } : Jvm.MethodName)) ∈ lw_all := lw_g (lw_at lw_m1 58 rfl) rfl
theorem q168 : (Jvm.Cond.code ({ cls := "MessengerBoard$Ways", name := "<init>", desc := "()V" } : Jvm.MethodName) prog_22_method_1_code (1 : Nat) (Option.none : Option Jvm.ClassFile.FieldType)) ∈ lw_all := lw_g (lw_at lw_m1 59 rfl) rfl
theorem q169 : (Jvm.Cond.methodLink "MessengerBoard$Ways" (3 : Nat) ({ cls := "java/lang/Object", name := "<init>", desc := "()V" } : Jvm.MethodName)) ∈ lw_all := lw_g (lw_at lw_m1 60 rfl) rfl
theorem q170 : (Jvm.Cond.fieldLink "MessengerBoard$Ways" (9 : Nat) "MessengerBoard$Ways" "far" "[I") ∈ lw_all := lw_g (lw_at lw_m1 61 rfl) rfl
theorem q171 : (Jvm.Cond.fieldLink "MessengerBoard$Ways" (15 : Nat) "MessengerBoard$Ways" "queue" "[I") ∈ lw_all := lw_g (lw_at lw_m1 62 rfl) rfl
theorem q172 : (Jvm.Cond.laysFinal "MessengerBoard$Ways" "MessengerBoard$Ways" "far" "[I") ∈ lw_all := lw_g (lw_at lw_m1 63 rfl) rfl
theorem q173 : (Jvm.Cond.soleField "MessengerBoard$Ways" "far") ∈ lw_all := lw_g (lw_at lw_m1 64 rfl) rfl
theorem q174 : (Jvm.Cond.laysFinal "MessengerBoard$Ways" "MessengerBoard$Ways" "queue" "[I") ∈ lw_all := lw_g (lw_at lw_m1 65 rfl) rfl
theorem q175 : (Jvm.Cond.soleField "MessengerBoard$Ways" "queue") ∈ lw_all := lw_g (lw_at lw_m1 66 rfl) rfl
theorem q176 : (Jvm.Cond.superclass "MessengerBoard$Ways" "java/lang/Object") ∈ lw_all := lw_g (lw_at lw_m1 67 rfl) rfl
theorem q1193 : (Jvm.Cond.selects "MessengerBoard$Ways" ({ cls := "java/lang/Object", name := "getClass", desc := "()Ljava/lang/Class;" } : Jvm.MethodName) ({ cls := "java/lang/Object", name := "getClass", desc := "()Ljava/lang/Class;" } : Jvm.MethodName)) ∈ lw_all := lw_g (lw_at lw_m5 124 rfl) rfl
theorem q1477 : (Jvm.Cond.instanceMethod ({ cls := "MessengerBoard$Ways", name := "lay", desc := "(LMessengerBoard$State;II)V" } : Jvm.MethodName)) ∈ lw_all := lw_g (lw_at lw_m6 168 rfl) rfl
theorem q1478 : (Jvm.Cond.selects "MessengerBoard$Ways" ({ cls := "MessengerBoard$Ways", name := "lay", desc := "(LMessengerBoard$State;II)V" } : Jvm.MethodName) ({ cls := "MessengerBoard$Ways", name := "lay", desc := "(LMessengerBoard$State;II)V" } : Jvm.MethodName)) ∈ lw_all := lw_g (lw_at lw_m6 169 rfl) rfl
theorem q1479 : (Jvm.Cond.code ({ cls := "MessengerBoard$Ways", name := "lay", desc := "(LMessengerBoard$State;II)V" } : Jvm.MethodName) prog_22_method_2_code (9 : Nat) (Option.none : Option Jvm.ClassFile.FieldType)) ∈ lw_all := lw_g (lw_at lw_m6 170 rfl) rfl
theorem q1480 : (Jvm.Cond.methodLink "MessengerBoard$Ways" (18 : Nat) ({ cls := "MessengerBoard$State", name := "isFree", desc := "(II)Z" } : Jvm.MethodName)) ∈ lw_all := lw_g (lw_at lw_m6 171 rfl) rfl
theorem q1486 : (Jvm.Cond.fieldLinkNest "MessengerBoard$Ways" (24 : Nat) "MessengerBoard" "ACROSS" "[I" "MessengerBoard") ∈ lw_tbl := lw_at lw_m6 177 rfl
theorem q1488 : (Jvm.Cond.fieldLinkNest "MessengerBoard$Ways" (27 : Nat) "MessengerBoard" "DOWNWARD" "[I" "MessengerBoard") ∈ lw_tbl := lw_at lw_m6 179 rfl
theorem q1491 : (Jvm.Cond.instanceMethod ({ cls := "MessengerBoard$Ways", name := "distance", desc := "(II)I" } : Jvm.MethodName)) ∈ lw_all := lw_g (lw_at lw_m6 182 rfl) rfl
theorem q1492 : (Jvm.Cond.selects "MessengerBoard$Ways" ({ cls := "MessengerBoard$Ways", name := "distance", desc := "(II)I" } : Jvm.MethodName) ({ cls := "MessengerBoard$Ways", name := "distance", desc := "(II)I" } : Jvm.MethodName)) ∈ lw_all := lw_g (lw_at lw_m6 183 rfl) rfl
theorem q1493 : (Jvm.Cond.code ({ cls := "MessengerBoard$Ways", name := "distance", desc := "(II)I" } : Jvm.MethodName) prog_22_method_3_code (3 : Nat) (Option.some Jvm.ClassFile.FieldType.int)) ∈ lw_all := lw_g (lw_at lw_m6 184 rfl) rfl
theorem q1503 : (Jvm.Cond.instanceMethod ({ cls := "MessengerBoard$Ways", name := "way", desc := "(LMessengerBoard$State;II)I" } : Jvm.MethodName)) ∈ lw_all := lw_g (lw_at lw_m6 194 rfl) rfl
theorem q1504 : (Jvm.Cond.selects "MessengerBoard$Ways" ({ cls := "MessengerBoard$Ways", name := "way", desc := "(LMessengerBoard$State;II)I" } : Jvm.MethodName) ({ cls := "MessengerBoard$Ways", name := "way", desc := "(LMessengerBoard$State;II)I" } : Jvm.MethodName)) ∈ lw_all := lw_g (lw_at lw_m6 195 rfl) rfl
theorem q1505 : (Jvm.Cond.code ({ cls := "MessengerBoard$Ways", name := "way", desc := "(LMessengerBoard$State;II)I" } : Jvm.MethodName) prog_22_method_4_code (7 : Nat) (Option.some Jvm.ClassFile.FieldType.int)) ∈ lw_all := lw_g (lw_at lw_m6 196 rfl) rfl
theorem q1506 : (Jvm.Cond.methodLink "MessengerBoard$Ways" (30 : Nat) ({ cls := "MessengerBoard$Ways", name := "distance", desc := "(II)I" } : Jvm.MethodName)) ∈ lw_all := lw_g (lw_at lw_m6 197 rfl) rfl
theorem q2732 : (Jvm.Cond.castable "MessengerBoard$Ways" "java/lang/Object") ∈ lw_tbl := lw_at lw_m11 223 rfl
theorem in_X2 : ∀ w ∈ wsX20, w ∈ lw_all := lw_in wsX20 [172, 174] (by decide +kernel) (by decide +kernel)
/-! MessengerBoard$Scanner -/
set_option maxRecDepth 100000
def RX5 : String := "MessengerBoard$Scanner"
abbrev cX5_init : ByteArray := prog_14_method_1_code
def yX5_init : MethodName := ⟨RX5, "<init>", "(LMessengerBoard;I)V"⟩
def dkwX5_init_1 : List UInt8 := [181, 0, 22, 42, 182, 0, 26, 177]
abbrev dktX5_init_1 : List UInt8 := dkwX5_init_1 ++ []
def dkwX5_init_0 : List UInt8 := [42, 43, 181, 0, 3, 42, 183, 0, 9, 42, 187, 0, 15, 89, 183, 0, 17, 181, 0, 18, 42, 28]
abbrev dktX5_init_0 : List UInt8 := dkwX5_init_0 ++ dktX5_init_1
theorem dksX5_init_0 : cX5_init.data.toList.drop 0 = dktX5_init_0 := by decide +kernel
theorem dksX5_init_1 : cX5_init.data.toList.drop 22 = dktX5_init_1 := dk_seg dksX5_init_0 22 rfl rfl
theorem dX5_init_0 : decode cX5_init 0 = .ok (.aload_n 0, 1) := dk_42 (dk_at dksX5_init_0 0 rfl rfl)
theorem dX5_init_1 : decode cX5_init 1 = .ok (.aload_n 1, 1) := dk_43 (dk_at dksX5_init_0 1 rfl rfl)
theorem dX5_init_2 : decode cX5_init 2 = .ok (.putfield 3, 3) := dk_181 0 3 (dk_at dksX5_init_0 2 rfl rfl)
theorem dX5_init_5 : decode cX5_init 5 = .ok (.aload_n 0, 1) := dk_42 (dk_at dksX5_init_0 5 rfl rfl)
theorem dX5_init_6 : decode cX5_init 6 = .ok (.invokespecial 9, 3) := dk_183 0 9 (dk_at dksX5_init_0 6 rfl rfl)
theorem dX5_init_9 : decode cX5_init 9 = .ok (.aload_n 0, 1) := dk_42 (dk_at dksX5_init_0 9 rfl rfl)
theorem dX5_init_10 : decode cX5_init 10 = .ok (.new 15, 3) := dk_187 0 15 (dk_at dksX5_init_0 10 rfl rfl)
theorem dX5_init_13 : decode cX5_init 13 = .ok (.dup, 1) := dk_89 (dk_at dksX5_init_0 13 rfl rfl)
theorem dX5_init_14 : decode cX5_init 14 = .ok (.invokespecial 17, 3) := dk_183 0 17 (dk_at dksX5_init_0 14 rfl rfl)
theorem dX5_init_17 : decode cX5_init 17 = .ok (.putfield 18, 3) := dk_181 0 18 (dk_at dksX5_init_0 17 rfl rfl)
theorem dX5_init_20 : decode cX5_init 20 = .ok (.aload_n 0, 1) := dk_42 (dk_at dksX5_init_0 20 rfl rfl)
theorem dX5_init_21 : decode cX5_init 21 = .ok (.iload_n 2, 1) := dk_28 (dk_at dksX5_init_0 21 rfl rfl)
theorem dX5_init_22 : decode cX5_init 22 = .ok (.putfield 22, 3) := dk_181 0 22 (dk_at dksX5_init_1 0 rfl rfl)
theorem dX5_init_25 : decode cX5_init 25 = .ok (.aload_n 0, 1) := dk_42 (dk_at dksX5_init_1 3 rfl rfl)
theorem dX5_init_26 : decode cX5_init 26 = .ok (.invokevirtual 26, 3) := dk_182 0 26 (dk_at dksX5_init_1 4 rfl rfl)
theorem dX5_init_29 : decode cX5_init 29 = .ok (.return_, 1) := dk_177 (dk_at dksX5_init_1 7 rfl rfl)
abbrev cX5_next : ByteArray := prog_14_method_5_code
def yX5_next : MethodName := ⟨RX5, "next", "()V"⟩
def dkwX5_next_10 : List UInt8 := [181, 0, 83, 42, 178, 0, 86, 181, 0, 53, 42, 89, 180, 0, 33, 4, 96, 181, 0, 33, 177]
abbrev dktX5_next_10 : List UInt8 := dkwX5_next_10 ++ []
def dkwX5_next_9 : List UInt8 := [180, 0, 33, 4, 96, 181, 0, 33, 167, 255, 204, 42, 178, 0, 80, 181, 0, 53, 167, 0, 25, 42, 27]
abbrev dktX5_next_9 : List UInt8 := dkwX5_next_9 ++ dktX5_next_10
def dkwX5_next_8 : List UInt8 := [180, 0, 70, 104, 42, 42, 180, 0, 33, 182, 0, 36, 96, 16, 48, 100, 184, 0, 74, 181, 0, 70, 42, 89]
abbrev dktX5_next_8 : List UInt8 := dkwX5_next_8 ++ dktX5_next_9
def dkwX5_next_7 : List UInt8 := [3, 181, 0, 70, 42, 42, 180, 0, 33, 182, 0, 36, 184, 0, 67, 153, 0, 44, 42, 18, 73, 16, 10, 42]
abbrev dktX5_next_7 : List UInt8 := dkwX5_next_7 ++ dktX5_next_8
def dkwX5_next_6 : List UInt8 := [181, 0, 33, 167, 255, 215, 42, 178, 0, 64, 181, 0, 53, 167, 0, 102, 27, 184, 0, 67, 153, 0, 73, 42]
abbrev dktX5_next_6 : List UInt8 := dkwX5_next_6 ++ dktX5_next_7
def dkwX5_next_5 : List UInt8 := [42, 180, 0, 18, 42, 42, 180, 0, 33, 182, 0, 36, 146, 182, 0, 60, 87, 42, 89, 180, 0, 33, 4, 96]
abbrev dktX5_next_5 : List UInt8 := dkwX5_next_5 ++ dktX5_next_6
def dkwX5_next_4 : List UInt8 := [167, 0, 163, 27, 184, 0, 56, 153, 0, 57, 42, 42, 180, 0, 33, 182, 0, 36, 184, 0, 56, 153, 0, 33]
abbrev dktX5_next_4 : List UInt8 := dkwX5_next_4 ++ dktX5_next_5
def dkwX5_next_3 : List UInt8 := [182, 0, 36, 60, 42, 180, 0, 33, 42, 180, 0, 22, 161, 0, 13, 42, 178, 0, 47, 181, 0, 53]
abbrev dktX5_next_3 : List UInt8 := dkwX5_next_3 ++ dktX5_next_4
def dkwX5_next_2 : List UInt8 := [167, 255, 209, 42, 42, 180, 0, 33, 181, 0, 40, 42, 180, 0, 18, 3, 182, 0, 43, 42, 42, 180, 0, 33]
abbrev dktX5_next_2 : List UInt8 := dkwX5_next_2 ++ dktX5_next_3
def dkwX5_next_1 : List UInt8 := [42, 42, 180, 0, 33, 182, 0, 36, 16, 10, 160, 0, 16, 42, 89, 180, 0, 33, 4, 96, 181, 0, 33]
abbrev dktX5_next_1 : List UInt8 := dkwX5_next_1 ++ dktX5_next_2
def dkwX5_next_0 : List UInt8 := [42, 180, 0, 33, 42, 180, 0, 22, 162, 0, 42, 42, 42, 180, 0, 33, 182, 0, 36, 16, 32, 159, 0, 16]
abbrev dktX5_next_0 : List UInt8 := dkwX5_next_0 ++ dktX5_next_1
theorem dksX5_next_0 : cX5_next.data.toList.drop 0 = dktX5_next_0 := by decide +kernel
theorem dksX5_next_1 : cX5_next.data.toList.drop 24 = dktX5_next_1 := dk_seg dksX5_next_0 24 rfl rfl
theorem dksX5_next_2 : cX5_next.data.toList.drop 47 = dktX5_next_2 := dk_seg dksX5_next_1 23 rfl rfl
theorem dksX5_next_3 : cX5_next.data.toList.drop 71 = dktX5_next_3 := dk_seg dksX5_next_2 24 rfl rfl
theorem dksX5_next_4 : cX5_next.data.toList.drop 93 = dktX5_next_4 := dk_seg dksX5_next_3 22 rfl rfl
theorem dksX5_next_5 : cX5_next.data.toList.drop 117 = dktX5_next_5 := dk_seg dksX5_next_4 24 rfl rfl
theorem dksX5_next_6 : cX5_next.data.toList.drop 141 = dktX5_next_6 := dk_seg dksX5_next_5 24 rfl rfl
theorem dksX5_next_7 : cX5_next.data.toList.drop 165 = dktX5_next_7 := dk_seg dksX5_next_6 24 rfl rfl
theorem dksX5_next_8 : cX5_next.data.toList.drop 189 = dktX5_next_8 := dk_seg dksX5_next_7 24 rfl rfl
theorem dksX5_next_9 : cX5_next.data.toList.drop 213 = dktX5_next_9 := dk_seg dksX5_next_8 24 rfl rfl
theorem dksX5_next_10 : cX5_next.data.toList.drop 236 = dktX5_next_10 := dk_seg dksX5_next_9 23 rfl rfl
theorem dX5_next_0 : decode cX5_next 0 = .ok (.aload_n 0, 1) := dk_42 (dk_at dksX5_next_0 0 rfl rfl)
theorem dX5_next_1 : decode cX5_next 1 = .ok (.getfield 33, 3) := dk_180 0 33 (dk_at dksX5_next_0 1 rfl rfl)
theorem dX5_next_4 : decode cX5_next 4 = .ok (.aload_n 0, 1) := dk_42 (dk_at dksX5_next_0 4 rfl rfl)
theorem dX5_next_5 : decode cX5_next 5 = .ok (.getfield 22, 3) := dk_180 0 22 (dk_at dksX5_next_0 5 rfl rfl)
theorem dX5_next_8 : decode cX5_next 8 = .ok (.if_icmp .ge 42, 3) := dk_162 0 42 (dk_at dksX5_next_0 8 rfl rfl)
theorem dX5_next_11 : decode cX5_next 11 = .ok (.aload_n 0, 1) := dk_42 (dk_at dksX5_next_0 11 rfl rfl)
theorem dX5_next_12 : decode cX5_next 12 = .ok (.aload_n 0, 1) := dk_42 (dk_at dksX5_next_0 12 rfl rfl)
theorem dX5_next_13 : decode cX5_next 13 = .ok (.getfield 33, 3) := dk_180 0 33 (dk_at dksX5_next_0 13 rfl rfl)
theorem dX5_next_16 : decode cX5_next 16 = .ok (.invokevirtual 36, 3) := dk_182 0 36 (dk_at dksX5_next_0 16 rfl rfl)
theorem dX5_next_19 : decode cX5_next 19 = .ok (.bipush 32, 2) := dk_16 32 (dk_at dksX5_next_0 19 rfl rfl)
theorem dX5_next_21 : decode cX5_next 21 = .ok (.if_icmp .eq 16, 3) := dk_159 0 16 (dk_at dksX5_next_0 21 rfl rfl)
theorem dX5_next_24 : decode cX5_next 24 = .ok (.aload_n 0, 1) := dk_42 (dk_at dksX5_next_1 0 rfl rfl)
theorem dX5_next_25 : decode cX5_next 25 = .ok (.aload_n 0, 1) := dk_42 (dk_at dksX5_next_1 1 rfl rfl)
theorem dX5_next_26 : decode cX5_next 26 = .ok (.getfield 33, 3) := dk_180 0 33 (dk_at dksX5_next_1 2 rfl rfl)
theorem dX5_next_29 : decode cX5_next 29 = .ok (.invokevirtual 36, 3) := dk_182 0 36 (dk_at dksX5_next_1 5 rfl rfl)
theorem dX5_next_32 : decode cX5_next 32 = .ok (.bipush 10, 2) := dk_16 10 (dk_at dksX5_next_1 8 rfl rfl)
theorem dX5_next_34 : decode cX5_next 34 = .ok (.if_icmp .ne 16, 3) := dk_160 0 16 (dk_at dksX5_next_1 10 rfl rfl)
theorem dX5_next_37 : decode cX5_next 37 = .ok (.aload_n 0, 1) := dk_42 (dk_at dksX5_next_1 13 rfl rfl)
theorem dX5_next_38 : decode cX5_next 38 = .ok (.dup, 1) := dk_89 (dk_at dksX5_next_1 14 rfl rfl)
theorem dX5_next_39 : decode cX5_next 39 = .ok (.getfield 33, 3) := dk_180 0 33 (dk_at dksX5_next_1 15 rfl rfl)
theorem dX5_next_42 : decode cX5_next 42 = .ok (.iconst 1, 1) := dk_4 (dk_at dksX5_next_1 18 rfl rfl)
theorem dX5_next_43 : decode cX5_next 43 = .ok (.iadd, 1) := dk_96 (dk_at dksX5_next_1 19 rfl rfl)
theorem dX5_next_44 : decode cX5_next 44 = .ok (.putfield 33, 3) := dk_181 0 33 (dk_at dksX5_next_1 20 rfl rfl)
theorem dX5_next_47 : decode cX5_next 47 = .ok (.goto (-47), 3) := dk_167 255 209 (dk_at dksX5_next_2 0 rfl rfl)
theorem dX5_next_50 : decode cX5_next 50 = .ok (.aload_n 0, 1) := dk_42 (dk_at dksX5_next_2 3 rfl rfl)
theorem dX5_next_51 : decode cX5_next 51 = .ok (.aload_n 0, 1) := dk_42 (dk_at dksX5_next_2 4 rfl rfl)
theorem dX5_next_52 : decode cX5_next 52 = .ok (.getfield 33, 3) := dk_180 0 33 (dk_at dksX5_next_2 5 rfl rfl)
theorem dX5_next_55 : decode cX5_next 55 = .ok (.putfield 40, 3) := dk_181 0 40 (dk_at dksX5_next_2 8 rfl rfl)
theorem dX5_next_58 : decode cX5_next 58 = .ok (.aload_n 0, 1) := dk_42 (dk_at dksX5_next_2 11 rfl rfl)
theorem dX5_next_59 : decode cX5_next 59 = .ok (.getfield 18, 3) := dk_180 0 18 (dk_at dksX5_next_2 12 rfl rfl)
theorem dX5_next_62 : decode cX5_next 62 = .ok (.iconst 0, 1) := dk_3 (dk_at dksX5_next_2 15 rfl rfl)
theorem dX5_next_63 : decode cX5_next 63 = .ok (.invokevirtual 43, 3) := dk_182 0 43 (dk_at dksX5_next_2 16 rfl rfl)
theorem dX5_next_66 : decode cX5_next 66 = .ok (.aload_n 0, 1) := dk_42 (dk_at dksX5_next_2 19 rfl rfl)
theorem dX5_next_67 : decode cX5_next 67 = .ok (.aload_n 0, 1) := dk_42 (dk_at dksX5_next_2 20 rfl rfl)
theorem dX5_next_68 : decode cX5_next 68 = .ok (.getfield 33, 3) := dk_180 0 33 (dk_at dksX5_next_2 21 rfl rfl)
theorem dX5_next_71 : decode cX5_next 71 = .ok (.invokevirtual 36, 3) := dk_182 0 36 (dk_at dksX5_next_3 0 rfl rfl)
theorem dX5_next_74 : decode cX5_next 74 = .ok (.istore_n 1, 1) := dk_60 (dk_at dksX5_next_3 3 rfl rfl)
theorem dX5_next_75 : decode cX5_next 75 = .ok (.aload_n 0, 1) := dk_42 (dk_at dksX5_next_3 4 rfl rfl)
theorem dX5_next_76 : decode cX5_next 76 = .ok (.getfield 33, 3) := dk_180 0 33 (dk_at dksX5_next_3 5 rfl rfl)
theorem dX5_next_79 : decode cX5_next 79 = .ok (.aload_n 0, 1) := dk_42 (dk_at dksX5_next_3 8 rfl rfl)
theorem dX5_next_80 : decode cX5_next 80 = .ok (.getfield 22, 3) := dk_180 0 22 (dk_at dksX5_next_3 9 rfl rfl)
theorem dX5_next_83 : decode cX5_next 83 = .ok (.if_icmp .lt 13, 3) := dk_161 0 13 (dk_at dksX5_next_3 12 rfl rfl)
theorem dX5_next_86 : decode cX5_next 86 = .ok (.aload_n 0, 1) := dk_42 (dk_at dksX5_next_3 15 rfl rfl)
theorem dX5_next_87 : decode cX5_next 87 = .ok (.getstatic 47, 3) := dk_178 0 47 (dk_at dksX5_next_3 16 rfl rfl)
theorem dX5_next_90 : decode cX5_next 90 = .ok (.putfield 53, 3) := dk_181 0 53 (dk_at dksX5_next_3 19 rfl rfl)
theorem dX5_next_93 : decode cX5_next 93 = .ok (.goto 163, 3) := dk_167 0 163 (dk_at dksX5_next_4 0 rfl rfl)
theorem dX5_next_96 : decode cX5_next 96 = .ok (.iload_n 1, 1) := dk_27 (dk_at dksX5_next_4 3 rfl rfl)
theorem dX5_next_97 : decode cX5_next 97 = .ok (.invokestatic 56, 3) := dk_184 0 56 (dk_at dksX5_next_4 4 rfl rfl)
theorem dX5_next_100 : decode cX5_next 100 = .ok (.ifCond .eq 57, 3) := dk_153 0 57 (dk_at dksX5_next_4 7 rfl rfl)
theorem dX5_next_103 : decode cX5_next 103 = .ok (.aload_n 0, 1) := dk_42 (dk_at dksX5_next_4 10 rfl rfl)
theorem dX5_next_104 : decode cX5_next 104 = .ok (.aload_n 0, 1) := dk_42 (dk_at dksX5_next_4 11 rfl rfl)
theorem dX5_next_105 : decode cX5_next 105 = .ok (.getfield 33, 3) := dk_180 0 33 (dk_at dksX5_next_4 12 rfl rfl)
theorem dX5_next_108 : decode cX5_next 108 = .ok (.invokevirtual 36, 3) := dk_182 0 36 (dk_at dksX5_next_4 15 rfl rfl)
theorem dX5_next_111 : decode cX5_next 111 = .ok (.invokestatic 56, 3) := dk_184 0 56 (dk_at dksX5_next_4 18 rfl rfl)
theorem dX5_next_114 : decode cX5_next 114 = .ok (.ifCond .eq 33, 3) := dk_153 0 33 (dk_at dksX5_next_4 21 rfl rfl)
theorem dX5_next_117 : decode cX5_next 117 = .ok (.aload_n 0, 1) := dk_42 (dk_at dksX5_next_5 0 rfl rfl)
theorem dX5_next_118 : decode cX5_next 118 = .ok (.getfield 18, 3) := dk_180 0 18 (dk_at dksX5_next_5 1 rfl rfl)
theorem dX5_next_121 : decode cX5_next 121 = .ok (.aload_n 0, 1) := dk_42 (dk_at dksX5_next_5 4 rfl rfl)
theorem dX5_next_122 : decode cX5_next 122 = .ok (.aload_n 0, 1) := dk_42 (dk_at dksX5_next_5 5 rfl rfl)
theorem dX5_next_123 : decode cX5_next 123 = .ok (.getfield 33, 3) := dk_180 0 33 (dk_at dksX5_next_5 6 rfl rfl)
theorem dX5_next_126 : decode cX5_next 126 = .ok (.invokevirtual 36, 3) := dk_182 0 36 (dk_at dksX5_next_5 9 rfl rfl)
theorem dX5_next_129 : decode cX5_next 129 = .ok (.i2c, 1) := dk_146 (dk_at dksX5_next_5 12 rfl rfl)
theorem dX5_next_130 : decode cX5_next 130 = .ok (.invokevirtual 60, 3) := dk_182 0 60 (dk_at dksX5_next_5 13 rfl rfl)
theorem dX5_next_133 : decode cX5_next 133 = .ok (.pop, 1) := dk_87 (dk_at dksX5_next_5 16 rfl rfl)
theorem dX5_next_134 : decode cX5_next 134 = .ok (.aload_n 0, 1) := dk_42 (dk_at dksX5_next_5 17 rfl rfl)
theorem dX5_next_135 : decode cX5_next 135 = .ok (.dup, 1) := dk_89 (dk_at dksX5_next_5 18 rfl rfl)
theorem dX5_next_136 : decode cX5_next 136 = .ok (.getfield 33, 3) := dk_180 0 33 (dk_at dksX5_next_5 19 rfl rfl)
theorem dX5_next_139 : decode cX5_next 139 = .ok (.iconst 1, 1) := dk_4 (dk_at dksX5_next_5 22 rfl rfl)
theorem dX5_next_140 : decode cX5_next 140 = .ok (.iadd, 1) := dk_96 (dk_at dksX5_next_5 23 rfl rfl)
theorem dX5_next_141 : decode cX5_next 141 = .ok (.putfield 33, 3) := dk_181 0 33 (dk_at dksX5_next_6 0 rfl rfl)
theorem dX5_next_144 : decode cX5_next 144 = .ok (.goto (-41), 3) := dk_167 255 215 (dk_at dksX5_next_6 3 rfl rfl)
theorem dX5_next_147 : decode cX5_next 147 = .ok (.aload_n 0, 1) := dk_42 (dk_at dksX5_next_6 6 rfl rfl)
theorem dX5_next_148 : decode cX5_next 148 = .ok (.getstatic 64, 3) := dk_178 0 64 (dk_at dksX5_next_6 7 rfl rfl)
theorem dX5_next_151 : decode cX5_next 151 = .ok (.putfield 53, 3) := dk_181 0 53 (dk_at dksX5_next_6 10 rfl rfl)
theorem dX5_next_154 : decode cX5_next 154 = .ok (.goto 102, 3) := dk_167 0 102 (dk_at dksX5_next_6 13 rfl rfl)
theorem dX5_next_157 : decode cX5_next 157 = .ok (.iload_n 1, 1) := dk_27 (dk_at dksX5_next_6 16 rfl rfl)
theorem dX5_next_158 : decode cX5_next 158 = .ok (.invokestatic 67, 3) := dk_184 0 67 (dk_at dksX5_next_6 17 rfl rfl)
theorem dX5_next_161 : decode cX5_next 161 = .ok (.ifCond .eq 73, 3) := dk_153 0 73 (dk_at dksX5_next_6 20 rfl rfl)
theorem dX5_next_164 : decode cX5_next 164 = .ok (.aload_n 0, 1) := dk_42 (dk_at dksX5_next_6 23 rfl rfl)
theorem dX5_next_165 : decode cX5_next 165 = .ok (.iconst 0, 1) := dk_3 (dk_at dksX5_next_7 0 rfl rfl)
theorem dX5_next_166 : decode cX5_next 166 = .ok (.putfield 70, 3) := dk_181 0 70 (dk_at dksX5_next_7 1 rfl rfl)
theorem dX5_next_169 : decode cX5_next 169 = .ok (.aload_n 0, 1) := dk_42 (dk_at dksX5_next_7 4 rfl rfl)
theorem dX5_next_170 : decode cX5_next 170 = .ok (.aload_n 0, 1) := dk_42 (dk_at dksX5_next_7 5 rfl rfl)
theorem dX5_next_171 : decode cX5_next 171 = .ok (.getfield 33, 3) := dk_180 0 33 (dk_at dksX5_next_7 6 rfl rfl)
theorem dX5_next_174 : decode cX5_next 174 = .ok (.invokevirtual 36, 3) := dk_182 0 36 (dk_at dksX5_next_7 9 rfl rfl)
theorem dX5_next_177 : decode cX5_next 177 = .ok (.invokestatic 67, 3) := dk_184 0 67 (dk_at dksX5_next_7 12 rfl rfl)
theorem dX5_next_180 : decode cX5_next 180 = .ok (.ifCond .eq 44, 3) := dk_153 0 44 (dk_at dksX5_next_7 15 rfl rfl)
theorem dX5_next_183 : decode cX5_next 183 = .ok (.aload_n 0, 1) := dk_42 (dk_at dksX5_next_7 18 rfl rfl)
theorem dX5_next_184 : decode cX5_next 184 = .ok (.ldc 73, 2) := dk_18 73 (dk_at dksX5_next_7 19 rfl rfl)
theorem dX5_next_186 : decode cX5_next 186 = .ok (.bipush 10, 2) := dk_16 10 (dk_at dksX5_next_7 21 rfl rfl)
theorem dX5_next_188 : decode cX5_next 188 = .ok (.aload_n 0, 1) := dk_42 (dk_at dksX5_next_7 23 rfl rfl)
theorem dX5_next_189 : decode cX5_next 189 = .ok (.getfield 70, 3) := dk_180 0 70 (dk_at dksX5_next_8 0 rfl rfl)
theorem dX5_next_192 : decode cX5_next 192 = .ok (.imul, 1) := dk_104 (dk_at dksX5_next_8 3 rfl rfl)
theorem dX5_next_193 : decode cX5_next 193 = .ok (.aload_n 0, 1) := dk_42 (dk_at dksX5_next_8 4 rfl rfl)
theorem dX5_next_194 : decode cX5_next 194 = .ok (.aload_n 0, 1) := dk_42 (dk_at dksX5_next_8 5 rfl rfl)
theorem dX5_next_195 : decode cX5_next 195 = .ok (.getfield 33, 3) := dk_180 0 33 (dk_at dksX5_next_8 6 rfl rfl)
theorem dX5_next_198 : decode cX5_next 198 = .ok (.invokevirtual 36, 3) := dk_182 0 36 (dk_at dksX5_next_8 9 rfl rfl)
theorem dX5_next_201 : decode cX5_next 201 = .ok (.iadd, 1) := dk_96 (dk_at dksX5_next_8 12 rfl rfl)
theorem dX5_next_202 : decode cX5_next 202 = .ok (.bipush 48, 2) := dk_16 48 (dk_at dksX5_next_8 13 rfl rfl)
theorem dX5_next_204 : decode cX5_next 204 = .ok (.isub, 1) := dk_100 (dk_at dksX5_next_8 15 rfl rfl)
theorem dX5_next_205 : decode cX5_next 205 = .ok (.invokestatic 74, 3) := dk_184 0 74 (dk_at dksX5_next_8 16 rfl rfl)
theorem dX5_next_208 : decode cX5_next 208 = .ok (.putfield 70, 3) := dk_181 0 70 (dk_at dksX5_next_8 19 rfl rfl)
theorem dX5_next_211 : decode cX5_next 211 = .ok (.aload_n 0, 1) := dk_42 (dk_at dksX5_next_8 22 rfl rfl)
theorem dX5_next_212 : decode cX5_next 212 = .ok (.dup, 1) := dk_89 (dk_at dksX5_next_8 23 rfl rfl)
theorem dX5_next_213 : decode cX5_next 213 = .ok (.getfield 33, 3) := dk_180 0 33 (dk_at dksX5_next_9 0 rfl rfl)
theorem dX5_next_216 : decode cX5_next 216 = .ok (.iconst 1, 1) := dk_4 (dk_at dksX5_next_9 3 rfl rfl)
theorem dX5_next_217 : decode cX5_next 217 = .ok (.iadd, 1) := dk_96 (dk_at dksX5_next_9 4 rfl rfl)
theorem dX5_next_218 : decode cX5_next 218 = .ok (.putfield 33, 3) := dk_181 0 33 (dk_at dksX5_next_9 5 rfl rfl)
theorem dX5_next_221 : decode cX5_next 221 = .ok (.goto (-52), 3) := dk_167 255 204 (dk_at dksX5_next_9 8 rfl rfl)
theorem dX5_next_224 : decode cX5_next 224 = .ok (.aload_n 0, 1) := dk_42 (dk_at dksX5_next_9 11 rfl rfl)
theorem dX5_next_225 : decode cX5_next 225 = .ok (.getstatic 80, 3) := dk_178 0 80 (dk_at dksX5_next_9 12 rfl rfl)
theorem dX5_next_228 : decode cX5_next 228 = .ok (.putfield 53, 3) := dk_181 0 53 (dk_at dksX5_next_9 15 rfl rfl)
theorem dX5_next_231 : decode cX5_next 231 = .ok (.goto 25, 3) := dk_167 0 25 (dk_at dksX5_next_9 18 rfl rfl)
theorem dX5_next_234 : decode cX5_next 234 = .ok (.aload_n 0, 1) := dk_42 (dk_at dksX5_next_9 21 rfl rfl)
theorem dX5_next_235 : decode cX5_next 235 = .ok (.iload_n 1, 1) := dk_27 (dk_at dksX5_next_9 22 rfl rfl)
theorem dX5_next_236 : decode cX5_next 236 = .ok (.putfield 83, 3) := dk_181 0 83 (dk_at dksX5_next_10 0 rfl rfl)
theorem dX5_next_239 : decode cX5_next 239 = .ok (.aload_n 0, 1) := dk_42 (dk_at dksX5_next_10 3 rfl rfl)
theorem dX5_next_240 : decode cX5_next 240 = .ok (.getstatic 86, 3) := dk_178 0 86 (dk_at dksX5_next_10 4 rfl rfl)
theorem dX5_next_243 : decode cX5_next 243 = .ok (.putfield 53, 3) := dk_181 0 53 (dk_at dksX5_next_10 7 rfl rfl)
theorem dX5_next_246 : decode cX5_next 246 = .ok (.aload_n 0, 1) := dk_42 (dk_at dksX5_next_10 10 rfl rfl)
theorem dX5_next_247 : decode cX5_next 247 = .ok (.dup, 1) := dk_89 (dk_at dksX5_next_10 11 rfl rfl)
theorem dX5_next_248 : decode cX5_next 248 = .ok (.getfield 33, 3) := dk_180 0 33 (dk_at dksX5_next_10 12 rfl rfl)
theorem dX5_next_251 : decode cX5_next 251 = .ok (.iconst 1, 1) := dk_4 (dk_at dksX5_next_10 15 rfl rfl)
theorem dX5_next_252 : decode cX5_next 252 = .ok (.iadd, 1) := dk_96 (dk_at dksX5_next_10 16 rfl rfl)
theorem dX5_next_253 : decode cX5_next 253 = .ok (.putfield 33, 3) := dk_181 0 33 (dk_at dksX5_next_10 17 rfl rfl)
theorem dX5_next_256 : decode cX5_next 256 = .ok (.return_, 1) := dk_177 (dk_at dksX5_next_10 20 rfl rfl)
abbrev cX5_byteAt : ByteArray := prog_14_method_2_code
def yX5_byteAt : MethodName := ⟨RX5, "byteAt", "(I)I"⟩
def dkwX5_byteAt_1 : List UInt8 := [3, 172]
abbrev dktX5_byteAt_1 : List UInt8 := dkwX5_byteAt_1 ++ []
def dkwX5_byteAt_0 : List UInt8 := [27, 42, 180, 0, 22, 162, 0, 19, 42, 180, 0, 3, 180, 0, 29, 27, 51, 17, 0, 255, 126, 167, 0, 4]
abbrev dktX5_byteAt_0 : List UInt8 := dkwX5_byteAt_0 ++ dktX5_byteAt_1
theorem dksX5_byteAt_0 : cX5_byteAt.data.toList.drop 0 = dktX5_byteAt_0 := by decide +kernel
theorem dksX5_byteAt_1 : cX5_byteAt.data.toList.drop 24 = dktX5_byteAt_1 := dk_seg dksX5_byteAt_0 24 rfl rfl
theorem dX5_byteAt_0 : decode cX5_byteAt 0 = .ok (.iload_n 1, 1) := dk_27 (dk_at dksX5_byteAt_0 0 rfl rfl)
theorem dX5_byteAt_1 : decode cX5_byteAt 1 = .ok (.aload_n 0, 1) := dk_42 (dk_at dksX5_byteAt_0 1 rfl rfl)
theorem dX5_byteAt_2 : decode cX5_byteAt 2 = .ok (.getfield 22, 3) := dk_180 0 22 (dk_at dksX5_byteAt_0 2 rfl rfl)
theorem dX5_byteAt_5 : decode cX5_byteAt 5 = .ok (.if_icmp .ge 19, 3) := dk_162 0 19 (dk_at dksX5_byteAt_0 5 rfl rfl)
theorem dX5_byteAt_8 : decode cX5_byteAt 8 = .ok (.aload_n 0, 1) := dk_42 (dk_at dksX5_byteAt_0 8 rfl rfl)
theorem dX5_byteAt_9 : decode cX5_byteAt 9 = .ok (.getfield 3, 3) := dk_180 0 3 (dk_at dksX5_byteAt_0 9 rfl rfl)
theorem dX5_byteAt_12 : decode cX5_byteAt 12 = .ok (.getfield 29, 3) := dk_180 0 29 (dk_at dksX5_byteAt_0 12 rfl rfl)
theorem dX5_byteAt_15 : decode cX5_byteAt 15 = .ok (.iload_n 1, 1) := dk_27 (dk_at dksX5_byteAt_0 15 rfl rfl)
theorem dX5_byteAt_16 : decode cX5_byteAt 16 = .ok (.baload, 1) := dk_51 (dk_at dksX5_byteAt_0 16 rfl rfl)
theorem dX5_byteAt_17 : decode cX5_byteAt 17 = .ok (.sipush 255, 3) := dk_17 0 255 (dk_at dksX5_byteAt_0 17 rfl rfl)
theorem dX5_byteAt_20 : decode cX5_byteAt 20 = .ok (.iand, 1) := dk_126 (dk_at dksX5_byteAt_0 20 rfl rfl)
theorem dX5_byteAt_21 : decode cX5_byteAt 21 = .ok (.goto 4, 3) := dk_167 0 4 (dk_at dksX5_byteAt_0 21 rfl rfl)
theorem dX5_byteAt_24 : decode cX5_byteAt 24 = .ok (.iconst 0, 1) := dk_3 (dk_at dksX5_byteAt_1 0 rfl rfl)
theorem dX5_byteAt_25 : decode cX5_byteAt 25 = .ok (.ireturn, 1) := dk_172 (dk_at dksX5_byteAt_1 1 rfl rfl)
abbrev cX5_isLetter : ByteArray := prog_14_method_3_code
def yX5_isLetter : MethodName := ⟨RX5, "isLetter", "(I)Z"⟩
def dkwX5_isLetter_0 : List UInt8 := [26, 16, 97, 161, 0, 13, 26, 16, 122, 163, 0, 7, 4, 167, 0, 4, 3, 172]
abbrev dktX5_isLetter_0 : List UInt8 := dkwX5_isLetter_0 ++ []
theorem dksX5_isLetter_0 : cX5_isLetter.data.toList.drop 0 = dktX5_isLetter_0 := by decide +kernel
theorem dX5_isLetter_0 : decode cX5_isLetter 0 = .ok (.iload_n 0, 1) := dk_26 (dk_at dksX5_isLetter_0 0 rfl rfl)
theorem dX5_isLetter_1 : decode cX5_isLetter 1 = .ok (.bipush 97, 2) := dk_16 97 (dk_at dksX5_isLetter_0 1 rfl rfl)
theorem dX5_isLetter_3 : decode cX5_isLetter 3 = .ok (.if_icmp .lt 13, 3) := dk_161 0 13 (dk_at dksX5_isLetter_0 3 rfl rfl)
theorem dX5_isLetter_6 : decode cX5_isLetter 6 = .ok (.iload_n 0, 1) := dk_26 (dk_at dksX5_isLetter_0 6 rfl rfl)
theorem dX5_isLetter_7 : decode cX5_isLetter 7 = .ok (.bipush 122, 2) := dk_16 122 (dk_at dksX5_isLetter_0 7 rfl rfl)
theorem dX5_isLetter_9 : decode cX5_isLetter 9 = .ok (.if_icmp .gt 7, 3) := dk_163 0 7 (dk_at dksX5_isLetter_0 9 rfl rfl)
theorem dX5_isLetter_12 : decode cX5_isLetter 12 = .ok (.iconst 1, 1) := dk_4 (dk_at dksX5_isLetter_0 12 rfl rfl)
theorem dX5_isLetter_13 : decode cX5_isLetter 13 = .ok (.goto 4, 3) := dk_167 0 4 (dk_at dksX5_isLetter_0 13 rfl rfl)
theorem dX5_isLetter_16 : decode cX5_isLetter 16 = .ok (.iconst 0, 1) := dk_3 (dk_at dksX5_isLetter_0 16 rfl rfl)
theorem dX5_isLetter_17 : decode cX5_isLetter 17 = .ok (.ireturn, 1) := dk_172 (dk_at dksX5_isLetter_0 17 rfl rfl)
abbrev cX5_isDigit : ByteArray := prog_14_method_4_code
def yX5_isDigit : MethodName := ⟨RX5, "isDigit", "(I)Z"⟩
def dkwX5_isDigit_0 : List UInt8 := [26, 16, 48, 161, 0, 13, 26, 16, 57, 163, 0, 7, 4, 167, 0, 4, 3, 172]
abbrev dktX5_isDigit_0 : List UInt8 := dkwX5_isDigit_0 ++ []
theorem dksX5_isDigit_0 : cX5_isDigit.data.toList.drop 0 = dktX5_isDigit_0 := by decide +kernel
theorem dX5_isDigit_0 : decode cX5_isDigit 0 = .ok (.iload_n 0, 1) := dk_26 (dk_at dksX5_isDigit_0 0 rfl rfl)
theorem dX5_isDigit_1 : decode cX5_isDigit 1 = .ok (.bipush 48, 2) := dk_16 48 (dk_at dksX5_isDigit_0 1 rfl rfl)
theorem dX5_isDigit_3 : decode cX5_isDigit 3 = .ok (.if_icmp .lt 13, 3) := dk_161 0 13 (dk_at dksX5_isDigit_0 3 rfl rfl)
theorem dX5_isDigit_6 : decode cX5_isDigit 6 = .ok (.iload_n 0, 1) := dk_26 (dk_at dksX5_isDigit_0 6 rfl rfl)
theorem dX5_isDigit_7 : decode cX5_isDigit 7 = .ok (.bipush 57, 2) := dk_16 57 (dk_at dksX5_isDigit_0 7 rfl rfl)
theorem dX5_isDigit_9 : decode cX5_isDigit 9 = .ok (.if_icmp .gt 7, 3) := dk_163 0 7 (dk_at dksX5_isDigit_0 9 rfl rfl)
theorem dX5_isDigit_12 : decode cX5_isDigit 12 = .ok (.iconst 1, 1) := dk_4 (dk_at dksX5_isDigit_0 12 rfl rfl)
theorem dX5_isDigit_13 : decode cX5_isDigit 13 = .ok (.goto 4, 3) := dk_167 0 4 (dk_at dksX5_isDigit_0 13 rfl rfl)
theorem dX5_isDigit_16 : decode cX5_isDigit 16 = .ok (.iconst 0, 1) := dk_3 (dk_at dksX5_isDigit_0 16 rfl rfl)
theorem dX5_isDigit_17 : decode cX5_isDigit 17 = .ok (.ireturn, 1) := dk_172 (dk_at dksX5_isDigit_0 17 rfl rfl)
abbrev cX5_accept : ByteArray := prog_14_method_10_code
def yX5_accept : MethodName := ⟨RX5, "accept", "(Ljava/lang/String;)Z"⟩
def dkwX5_accept_0 : List UInt8 := [42, 182, 0, 100, 43, 182, 0, 103, 61, 28, 153, 0, 7, 42, 182, 0, 26, 28, 172]
abbrev dktX5_accept_0 : List UInt8 := dkwX5_accept_0 ++ []
theorem dksX5_accept_0 : cX5_accept.data.toList.drop 0 = dktX5_accept_0 := by decide +kernel
theorem dX5_accept_0 : decode cX5_accept 0 = .ok (.aload_n 0, 1) := dk_42 (dk_at dksX5_accept_0 0 rfl rfl)
theorem dX5_accept_1 : decode cX5_accept 1 = .ok (.invokevirtual 100, 3) := dk_182 0 100 (dk_at dksX5_accept_0 1 rfl rfl)
theorem dX5_accept_4 : decode cX5_accept 4 = .ok (.aload_n 1, 1) := dk_43 (dk_at dksX5_accept_0 4 rfl rfl)
theorem dX5_accept_5 : decode cX5_accept 5 = .ok (.invokevirtual 103, 3) := dk_182 0 103 (dk_at dksX5_accept_0 5 rfl rfl)
theorem dX5_accept_8 : decode cX5_accept 8 = .ok (.istore_n 2, 1) := dk_61 (dk_at dksX5_accept_0 8 rfl rfl)
theorem dX5_accept_9 : decode cX5_accept 9 = .ok (.iload_n 2, 1) := dk_28 (dk_at dksX5_accept_0 9 rfl rfl)
theorem dX5_accept_10 : decode cX5_accept 10 = .ok (.ifCond .eq 7, 3) := dk_153 0 7 (dk_at dksX5_accept_0 10 rfl rfl)
theorem dX5_accept_13 : decode cX5_accept 13 = .ok (.aload_n 0, 1) := dk_42 (dk_at dksX5_accept_0 13 rfl rfl)
theorem dX5_accept_14 : decode cX5_accept 14 = .ok (.invokevirtual 26, 3) := dk_182 0 26 (dk_at dksX5_accept_0 14 rfl rfl)
theorem dX5_accept_17 : decode cX5_accept 17 = .ok (.iload_n 2, 1) := dk_28 (dk_at dksX5_accept_0 17 rfl rfl)
theorem dX5_accept_18 : decode cX5_accept 18 = .ok (.ireturn, 1) := dk_172 (dk_at dksX5_accept_0 18 rfl rfl)
abbrev cX5_keyword : ByteArray := prog_14_method_9_code
def yX5_keyword : MethodName := ⟨RX5, "keyword", "()Ljava/lang/String;"⟩
def dkwX5_keyword_0 : List UInt8 := [42, 180, 0, 53, 178, 0, 64, 166, 0, 13, 42, 180, 0, 18, 182, 0, 94, 167, 0, 5, 18, 98, 176]
abbrev dktX5_keyword_0 : List UInt8 := dkwX5_keyword_0 ++ []
theorem dksX5_keyword_0 : cX5_keyword.data.toList.drop 0 = dktX5_keyword_0 := by decide +kernel
theorem dX5_keyword_0 : decode cX5_keyword 0 = .ok (.aload_n 0, 1) := dk_42 (dk_at dksX5_keyword_0 0 rfl rfl)
theorem dX5_keyword_1 : decode cX5_keyword 1 = .ok (.getfield 53, 3) := dk_180 0 53 (dk_at dksX5_keyword_0 1 rfl rfl)
theorem dX5_keyword_4 : decode cX5_keyword 4 = .ok (.getstatic 64, 3) := dk_178 0 64 (dk_at dksX5_keyword_0 4 rfl rfl)
theorem dX5_keyword_7 : decode cX5_keyword 7 = .ok (.if_acmp .ne 13, 3) := dk_166 0 13 (dk_at dksX5_keyword_0 7 rfl rfl)
theorem dX5_keyword_10 : decode cX5_keyword 10 = .ok (.aload_n 0, 1) := dk_42 (dk_at dksX5_keyword_0 10 rfl rfl)
theorem dX5_keyword_11 : decode cX5_keyword 11 = .ok (.getfield 18, 3) := dk_180 0 18 (dk_at dksX5_keyword_0 11 rfl rfl)
theorem dX5_keyword_14 : decode cX5_keyword 14 = .ok (.invokevirtual 94, 3) := dk_182 0 94 (dk_at dksX5_keyword_0 14 rfl rfl)
theorem dX5_keyword_17 : decode cX5_keyword 17 = .ok (.goto 5, 3) := dk_167 0 5 (dk_at dksX5_keyword_0 17 rfl rfl)
theorem dX5_keyword_20 : decode cX5_keyword 20 = .ok (.ldc 98, 2) := dk_18 98 (dk_at dksX5_keyword_0 20 rfl rfl)
theorem dX5_keyword_22 : decode cX5_keyword 22 = .ok (.areturn, 1) := dk_176 (dk_at dksX5_keyword_0 22 rfl rfl)
abbrev cX5_check : ByteArray := prog_14_method_6_code
def yX5_check : MethodName := ⟨RX5, "check", "(ZI)V"⟩
def dkwX5_check_0 : List UInt8 := [27, 154, 0, 17, 187, 0, 89, 89, 28, 42, 180, 0, 40, 1, 183, 0, 91, 191, 177]
abbrev dktX5_check_0 : List UInt8 := dkwX5_check_0 ++ []
theorem dksX5_check_0 : cX5_check.data.toList.drop 0 = dktX5_check_0 := by decide +kernel
theorem dX5_check_0 : decode cX5_check 0 = .ok (.iload_n 1, 1) := dk_27 (dk_at dksX5_check_0 0 rfl rfl)
theorem dX5_check_1 : decode cX5_check 1 = .ok (.ifCond .ne 17, 3) := dk_154 0 17 (dk_at dksX5_check_0 1 rfl rfl)
theorem dX5_check_4 : decode cX5_check 4 = .ok (.new 89, 3) := dk_187 0 89 (dk_at dksX5_check_0 4 rfl rfl)
theorem dX5_check_7 : decode cX5_check 7 = .ok (.dup, 1) := dk_89 (dk_at dksX5_check_0 7 rfl rfl)
theorem dX5_check_8 : decode cX5_check 8 = .ok (.iload_n 2, 1) := dk_28 (dk_at dksX5_check_0 8 rfl rfl)
theorem dX5_check_9 : decode cX5_check 9 = .ok (.aload_n 0, 1) := dk_42 (dk_at dksX5_check_0 9 rfl rfl)
theorem dX5_check_10 : decode cX5_check 10 = .ok (.getfield 40, 3) := dk_180 0 40 (dk_at dksX5_check_0 10 rfl rfl)
theorem dX5_check_13 : decode cX5_check 13 = .ok (.aconst_null, 1) := dk_1 (dk_at dksX5_check_0 13 rfl rfl)
theorem dX5_check_14 : decode cX5_check 14 = .ok (.invokespecial 91, 3) := dk_183 0 91 (dk_at dksX5_check_0 14 rfl rfl)
theorem dX5_check_17 : decode cX5_check 17 = .ok (.athrow, 1) := dk_191 (dk_at dksX5_check_0 17 rfl rfl)
theorem dX5_check_18 : decode cX5_check 18 = .ok (.return_, 1) := dk_177 (dk_at dksX5_check_0 18 rfl rfl)
abbrev cX5_number : ByteArray := prog_14_method_14_code
def yX5_number : MethodName := ⟨RX5, "number", "(II)I"⟩
def dkwX5_number_0 : List UInt8 := [42, 27, 28, 182, 0, 116, 62, 42, 182, 0, 26, 29, 172]
abbrev dktX5_number_0 : List UInt8 := dkwX5_number_0 ++ []
theorem dksX5_number_0 : cX5_number.data.toList.drop 0 = dktX5_number_0 := by decide +kernel
theorem dX5_number_0 : decode cX5_number 0 = .ok (.aload_n 0, 1) := dk_42 (dk_at dksX5_number_0 0 rfl rfl)
theorem dX5_number_1 : decode cX5_number 1 = .ok (.iload_n 1, 1) := dk_27 (dk_at dksX5_number_0 1 rfl rfl)
theorem dX5_number_2 : decode cX5_number 2 = .ok (.iload_n 2, 1) := dk_28 (dk_at dksX5_number_0 2 rfl rfl)
theorem dX5_number_3 : decode cX5_number 3 = .ok (.invokevirtual 116, 3) := dk_182 0 116 (dk_at dksX5_number_0 3 rfl rfl)
theorem dX5_number_6 : decode cX5_number 6 = .ok (.istore_n 3, 1) := dk_62 (dk_at dksX5_number_0 6 rfl rfl)
theorem dX5_number_7 : decode cX5_number 7 = .ok (.aload_n 0, 1) := dk_42 (dk_at dksX5_number_0 7 rfl rfl)
theorem dX5_number_8 : decode cX5_number 8 = .ok (.invokevirtual 26, 3) := dk_182 0 26 (dk_at dksX5_number_0 8 rfl rfl)
theorem dX5_number_11 : decode cX5_number 11 = .ok (.iload_n 3, 1) := dk_29 (dk_at dksX5_number_0 11 rfl rfl)
theorem dX5_number_12 : decode cX5_number 12 = .ok (.ireturn, 1) := dk_172 (dk_at dksX5_number_0 12 rfl rfl)
abbrev cX5_peek : ByteArray := prog_14_method_13_code
def yX5_peek : MethodName := ⟨RX5, "peek", "(II)I"⟩
def dkwX5_peek_2 : List UInt8 := [42, 180, 0, 70, 172]
abbrev dktX5_peek_2 : List UInt8 := dkwX5_peek_2 ++ []
def dkwX5_peek_1 : List UInt8 := [180, 0, 70, 27, 161, 0, 15, 42, 180, 0, 70, 28, 163, 0, 7, 4, 167, 0, 4, 3, 5, 182, 0, 112]
abbrev dktX5_peek_1 : List UInt8 := dkwX5_peek_1 ++ dktX5_peek_2
def dkwX5_peek_0 : List UInt8 := [42, 42, 180, 0, 53, 178, 0, 80, 166, 0, 7, 4, 167, 0, 4, 3, 4, 182, 0, 112, 42, 42]
abbrev dktX5_peek_0 : List UInt8 := dkwX5_peek_0 ++ dktX5_peek_1
theorem dksX5_peek_0 : cX5_peek.data.toList.drop 0 = dktX5_peek_0 := by decide +kernel
theorem dksX5_peek_1 : cX5_peek.data.toList.drop 22 = dktX5_peek_1 := dk_seg dksX5_peek_0 22 rfl rfl
theorem dksX5_peek_2 : cX5_peek.data.toList.drop 46 = dktX5_peek_2 := dk_seg dksX5_peek_1 24 rfl rfl
theorem dX5_peek_0 : decode cX5_peek 0 = .ok (.aload_n 0, 1) := dk_42 (dk_at dksX5_peek_0 0 rfl rfl)
theorem dX5_peek_1 : decode cX5_peek 1 = .ok (.aload_n 0, 1) := dk_42 (dk_at dksX5_peek_0 1 rfl rfl)
theorem dX5_peek_2 : decode cX5_peek 2 = .ok (.getfield 53, 3) := dk_180 0 53 (dk_at dksX5_peek_0 2 rfl rfl)
theorem dX5_peek_5 : decode cX5_peek 5 = .ok (.getstatic 80, 3) := dk_178 0 80 (dk_at dksX5_peek_0 5 rfl rfl)
theorem dX5_peek_8 : decode cX5_peek 8 = .ok (.if_acmp .ne 7, 3) := dk_166 0 7 (dk_at dksX5_peek_0 8 rfl rfl)
theorem dX5_peek_11 : decode cX5_peek 11 = .ok (.iconst 1, 1) := dk_4 (dk_at dksX5_peek_0 11 rfl rfl)
theorem dX5_peek_12 : decode cX5_peek 12 = .ok (.goto 4, 3) := dk_167 0 4 (dk_at dksX5_peek_0 12 rfl rfl)
theorem dX5_peek_15 : decode cX5_peek 15 = .ok (.iconst 0, 1) := dk_3 (dk_at dksX5_peek_0 15 rfl rfl)
theorem dX5_peek_16 : decode cX5_peek 16 = .ok (.iconst 1, 1) := dk_4 (dk_at dksX5_peek_0 16 rfl rfl)
theorem dX5_peek_17 : decode cX5_peek 17 = .ok (.invokevirtual 112, 3) := dk_182 0 112 (dk_at dksX5_peek_0 17 rfl rfl)
theorem dX5_peek_20 : decode cX5_peek 20 = .ok (.aload_n 0, 1) := dk_42 (dk_at dksX5_peek_0 20 rfl rfl)
theorem dX5_peek_21 : decode cX5_peek 21 = .ok (.aload_n 0, 1) := dk_42 (dk_at dksX5_peek_0 21 rfl rfl)
theorem dX5_peek_22 : decode cX5_peek 22 = .ok (.getfield 70, 3) := dk_180 0 70 (dk_at dksX5_peek_1 0 rfl rfl)
theorem dX5_peek_25 : decode cX5_peek 25 = .ok (.iload_n 1, 1) := dk_27 (dk_at dksX5_peek_1 3 rfl rfl)
theorem dX5_peek_26 : decode cX5_peek 26 = .ok (.if_icmp .lt 15, 3) := dk_161 0 15 (dk_at dksX5_peek_1 4 rfl rfl)
theorem dX5_peek_29 : decode cX5_peek 29 = .ok (.aload_n 0, 1) := dk_42 (dk_at dksX5_peek_1 7 rfl rfl)
theorem dX5_peek_30 : decode cX5_peek 30 = .ok (.getfield 70, 3) := dk_180 0 70 (dk_at dksX5_peek_1 8 rfl rfl)
theorem dX5_peek_33 : decode cX5_peek 33 = .ok (.iload_n 2, 1) := dk_28 (dk_at dksX5_peek_1 11 rfl rfl)
theorem dX5_peek_34 : decode cX5_peek 34 = .ok (.if_icmp .gt 7, 3) := dk_163 0 7 (dk_at dksX5_peek_1 12 rfl rfl)
theorem dX5_peek_37 : decode cX5_peek 37 = .ok (.iconst 1, 1) := dk_4 (dk_at dksX5_peek_1 15 rfl rfl)
theorem dX5_peek_38 : decode cX5_peek 38 = .ok (.goto 4, 3) := dk_167 0 4 (dk_at dksX5_peek_1 16 rfl rfl)
theorem dX5_peek_41 : decode cX5_peek 41 = .ok (.iconst 0, 1) := dk_3 (dk_at dksX5_peek_1 19 rfl rfl)
theorem dX5_peek_42 : decode cX5_peek 42 = .ok (.iconst 2, 1) := dk_5 (dk_at dksX5_peek_1 20 rfl rfl)
theorem dX5_peek_43 : decode cX5_peek 43 = .ok (.invokevirtual 112, 3) := dk_182 0 112 (dk_at dksX5_peek_1 21 rfl rfl)
theorem dX5_peek_46 : decode cX5_peek 46 = .ok (.aload_n 0, 1) := dk_42 (dk_at dksX5_peek_2 0 rfl rfl)
theorem dX5_peek_47 : decode cX5_peek 47 = .ok (.getfield 70, 3) := dk_180 0 70 (dk_at dksX5_peek_2 1 rfl rfl)
theorem dX5_peek_50 : decode cX5_peek 50 = .ok (.ireturn, 1) := dk_172 (dk_at dksX5_peek_2 4 rfl rfl)
abbrev cX5_expectSign : ByteArray := prog_14_method_11_code
def yX5_expectSign : MethodName := ⟨RX5, "expectSign", "(I)V"⟩
def dkwX5_expectSign_0 : List UInt8 := [42, 42, 27, 182, 0, 109, 4, 182, 0, 112, 42, 182, 0, 26, 177]
abbrev dktX5_expectSign_0 : List UInt8 := dkwX5_expectSign_0 ++ []
theorem dksX5_expectSign_0 : cX5_expectSign.data.toList.drop 0 = dktX5_expectSign_0 := by decide +kernel
theorem dX5_expectSign_0 : decode cX5_expectSign 0 = .ok (.aload_n 0, 1) := dk_42 (dk_at dksX5_expectSign_0 0 rfl rfl)
theorem dX5_expectSign_1 : decode cX5_expectSign 1 = .ok (.aload_n 0, 1) := dk_42 (dk_at dksX5_expectSign_0 1 rfl rfl)
theorem dX5_expectSign_2 : decode cX5_expectSign 2 = .ok (.iload_n 1, 1) := dk_27 (dk_at dksX5_expectSign_0 2 rfl rfl)
theorem dX5_expectSign_3 : decode cX5_expectSign 3 = .ok (.invokevirtual 109, 3) := dk_182 0 109 (dk_at dksX5_expectSign_0 3 rfl rfl)
theorem dX5_expectSign_6 : decode cX5_expectSign 6 = .ok (.iconst 1, 1) := dk_4 (dk_at dksX5_expectSign_0 6 rfl rfl)
theorem dX5_expectSign_7 : decode cX5_expectSign 7 = .ok (.invokevirtual 112, 3) := dk_182 0 112 (dk_at dksX5_expectSign_0 7 rfl rfl)
theorem dX5_expectSign_10 : decode cX5_expectSign 10 = .ok (.aload_n 0, 1) := dk_42 (dk_at dksX5_expectSign_0 10 rfl rfl)
theorem dX5_expectSign_11 : decode cX5_expectSign 11 = .ok (.invokevirtual 26, 3) := dk_182 0 26 (dk_at dksX5_expectSign_0 11 rfl rfl)
theorem dX5_expectSign_14 : decode cX5_expectSign 14 = .ok (.return_, 1) := dk_177 (dk_at dksX5_expectSign_0 14 rfl rfl)
abbrev cX5_isSign : ByteArray := prog_14_method_8_code
def yX5_isSign : MethodName := ⟨RX5, "isSign", "(I)Z"⟩
def dkwX5_isSign_0 : List UInt8 := [42, 180, 0, 53, 178, 0, 86, 166, 0, 15, 42, 180, 0, 83, 27, 160, 0, 7, 4, 167, 0, 4, 3, 172]
abbrev dktX5_isSign_0 : List UInt8 := dkwX5_isSign_0 ++ []
theorem dksX5_isSign_0 : cX5_isSign.data.toList.drop 0 = dktX5_isSign_0 := by decide +kernel
theorem dX5_isSign_0 : decode cX5_isSign 0 = .ok (.aload_n 0, 1) := dk_42 (dk_at dksX5_isSign_0 0 rfl rfl)
theorem dX5_isSign_1 : decode cX5_isSign 1 = .ok (.getfield 53, 3) := dk_180 0 53 (dk_at dksX5_isSign_0 1 rfl rfl)
theorem dX5_isSign_4 : decode cX5_isSign 4 = .ok (.getstatic 86, 3) := dk_178 0 86 (dk_at dksX5_isSign_0 4 rfl rfl)
theorem dX5_isSign_7 : decode cX5_isSign 7 = .ok (.if_acmp .ne 15, 3) := dk_166 0 15 (dk_at dksX5_isSign_0 7 rfl rfl)
theorem dX5_isSign_10 : decode cX5_isSign 10 = .ok (.aload_n 0, 1) := dk_42 (dk_at dksX5_isSign_0 10 rfl rfl)
theorem dX5_isSign_11 : decode cX5_isSign 11 = .ok (.getfield 83, 3) := dk_180 0 83 (dk_at dksX5_isSign_0 11 rfl rfl)
theorem dX5_isSign_14 : decode cX5_isSign 14 = .ok (.iload_n 1, 1) := dk_27 (dk_at dksX5_isSign_0 14 rfl rfl)
theorem dX5_isSign_15 : decode cX5_isSign 15 = .ok (.if_icmp .ne 7, 3) := dk_160 0 7 (dk_at dksX5_isSign_0 15 rfl rfl)
theorem dX5_isSign_18 : decode cX5_isSign 18 = .ok (.iconst 1, 1) := dk_4 (dk_at dksX5_isSign_0 18 rfl rfl)
theorem dX5_isSign_19 : decode cX5_isSign 19 = .ok (.goto 4, 3) := dk_167 0 4 (dk_at dksX5_isSign_0 19 rfl rfl)
theorem dX5_isSign_22 : decode cX5_isSign 22 = .ok (.iconst 0, 1) := dk_3 (dk_at dksX5_isSign_0 22 rfl rfl)
theorem dX5_isSign_23 : decode cX5_isSign 23 = .ok (.ireturn, 1) := dk_172 (dk_at dksX5_isSign_0 23 rfl rfl)
abbrev cX5_relationSign : ByteArray := prog_14_method_12_code
def yX5_relationSign : MethodName := ⟨RX5, "relationSign", "()I"⟩
def dkwX5_relationSign_2 : List UInt8 := [27, 172]
abbrev dktX5_relationSign_2 : List UInt8 := dkwX5_relationSign_2 ++ []
def dkwX5_relationSign_1 : List UInt8 := [182, 0, 109, 153, 0, 7, 4, 167, 0, 4, 3, 4, 182, 0, 112, 42, 180, 0, 83, 60, 42, 182, 0, 26]
abbrev dktX5_relationSign_1 : List UInt8 := dkwX5_relationSign_1 ++ dktX5_relationSign_2
def dkwX5_relationSign_0 : List UInt8 := [42, 42, 16, 60, 182, 0, 109, 154, 0, 21, 42, 16, 61, 182, 0, 109, 154, 0, 12, 42, 16, 62]
abbrev dktX5_relationSign_0 : List UInt8 := dkwX5_relationSign_0 ++ dktX5_relationSign_1
theorem dksX5_relationSign_0 : cX5_relationSign.data.toList.drop 0 = dktX5_relationSign_0 := by decide +kernel
theorem dksX5_relationSign_1 : cX5_relationSign.data.toList.drop 22 = dktX5_relationSign_1 := dk_seg dksX5_relationSign_0 22 rfl rfl
theorem dksX5_relationSign_2 : cX5_relationSign.data.toList.drop 46 = dktX5_relationSign_2 := dk_seg dksX5_relationSign_1 24 rfl rfl
theorem dX5_relationSign_0 : decode cX5_relationSign 0 = .ok (.aload_n 0, 1) := dk_42 (dk_at dksX5_relationSign_0 0 rfl rfl)
theorem dX5_relationSign_1 : decode cX5_relationSign 1 = .ok (.aload_n 0, 1) := dk_42 (dk_at dksX5_relationSign_0 1 rfl rfl)
theorem dX5_relationSign_2 : decode cX5_relationSign 2 = .ok (.bipush 60, 2) := dk_16 60 (dk_at dksX5_relationSign_0 2 rfl rfl)
theorem dX5_relationSign_4 : decode cX5_relationSign 4 = .ok (.invokevirtual 109, 3) := dk_182 0 109 (dk_at dksX5_relationSign_0 4 rfl rfl)
theorem dX5_relationSign_7 : decode cX5_relationSign 7 = .ok (.ifCond .ne 21, 3) := dk_154 0 21 (dk_at dksX5_relationSign_0 7 rfl rfl)
theorem dX5_relationSign_10 : decode cX5_relationSign 10 = .ok (.aload_n 0, 1) := dk_42 (dk_at dksX5_relationSign_0 10 rfl rfl)
theorem dX5_relationSign_11 : decode cX5_relationSign 11 = .ok (.bipush 61, 2) := dk_16 61 (dk_at dksX5_relationSign_0 11 rfl rfl)
theorem dX5_relationSign_13 : decode cX5_relationSign 13 = .ok (.invokevirtual 109, 3) := dk_182 0 109 (dk_at dksX5_relationSign_0 13 rfl rfl)
theorem dX5_relationSign_16 : decode cX5_relationSign 16 = .ok (.ifCond .ne 12, 3) := dk_154 0 12 (dk_at dksX5_relationSign_0 16 rfl rfl)
theorem dX5_relationSign_19 : decode cX5_relationSign 19 = .ok (.aload_n 0, 1) := dk_42 (dk_at dksX5_relationSign_0 19 rfl rfl)
theorem dX5_relationSign_20 : decode cX5_relationSign 20 = .ok (.bipush 62, 2) := dk_16 62 (dk_at dksX5_relationSign_0 20 rfl rfl)
theorem dX5_relationSign_22 : decode cX5_relationSign 22 = .ok (.invokevirtual 109, 3) := dk_182 0 109 (dk_at dksX5_relationSign_1 0 rfl rfl)
theorem dX5_relationSign_25 : decode cX5_relationSign 25 = .ok (.ifCond .eq 7, 3) := dk_153 0 7 (dk_at dksX5_relationSign_1 3 rfl rfl)
theorem dX5_relationSign_28 : decode cX5_relationSign 28 = .ok (.iconst 1, 1) := dk_4 (dk_at dksX5_relationSign_1 6 rfl rfl)
theorem dX5_relationSign_29 : decode cX5_relationSign 29 = .ok (.goto 4, 3) := dk_167 0 4 (dk_at dksX5_relationSign_1 7 rfl rfl)
theorem dX5_relationSign_32 : decode cX5_relationSign 32 = .ok (.iconst 0, 1) := dk_3 (dk_at dksX5_relationSign_1 10 rfl rfl)
theorem dX5_relationSign_33 : decode cX5_relationSign 33 = .ok (.iconst 1, 1) := dk_4 (dk_at dksX5_relationSign_1 11 rfl rfl)
theorem dX5_relationSign_34 : decode cX5_relationSign 34 = .ok (.invokevirtual 112, 3) := dk_182 0 112 (dk_at dksX5_relationSign_1 12 rfl rfl)
theorem dX5_relationSign_37 : decode cX5_relationSign 37 = .ok (.aload_n 0, 1) := dk_42 (dk_at dksX5_relationSign_1 15 rfl rfl)
theorem dX5_relationSign_38 : decode cX5_relationSign 38 = .ok (.getfield 83, 3) := dk_180 0 83 (dk_at dksX5_relationSign_1 16 rfl rfl)
theorem dX5_relationSign_41 : decode cX5_relationSign 41 = .ok (.istore_n 1, 1) := dk_60 (dk_at dksX5_relationSign_1 19 rfl rfl)
theorem dX5_relationSign_42 : decode cX5_relationSign 42 = .ok (.aload_n 0, 1) := dk_42 (dk_at dksX5_relationSign_1 20 rfl rfl)
theorem dX5_relationSign_43 : decode cX5_relationSign 43 = .ok (.invokevirtual 26, 3) := dk_182 0 26 (dk_at dksX5_relationSign_1 21 rfl rfl)
theorem dX5_relationSign_46 : decode cX5_relationSign 46 = .ok (.iload_n 1, 1) := dk_27 (dk_at dksX5_relationSign_2 0 rfl rfl)
theorem dX5_relationSign_47 : decode cX5_relationSign 47 = .ok (.ireturn, 1) := dk_172 (dk_at dksX5_relationSign_2 1 rfl rfl)
theorem q123 : (Jvm.Cond.initialized "MessengerBoard$Scanner") ∈ lw_all := lw_g (lw_at lw_m1 14 rfl) rfl
theorem q306 : (Jvm.Cond.fieldLinkNest "MessengerBoard$Scanner" (29 : Nat) "MessengerBoard" "buffer" "[B" "MessengerBoard") ∈ lw_tbl := lw_at lw_m1 197 rfl
theorem q600 : (Jvm.Cond.instanceMethod ({ cls := "MessengerBoard$Scanner", name := "<init>", desc := "(LMessengerBoard;I)V" } : Jvm.MethodName)) ∈ lw_all := lw_g (lw_at lw_m3 11 rfl) rfl
theorem q601 : (Jvm.Cond.code ({ cls := "MessengerBoard$Scanner", name := "<init>", desc := "(LMessengerBoard;I)V" } : Jvm.MethodName) prog_14_method_1_code (3 : Nat) (Option.none : Option Jvm.ClassFile.FieldType)) ∈ lw_all := lw_g (lw_at lw_m3 12 rfl) rfl
theorem q602 : (Jvm.Cond.methodLink "MessengerBoard$Scanner" (9 : Nat) ({ cls := "java/lang/Object", name := "<init>", desc := "()V" } : Jvm.MethodName)) ∈ lw_all := lw_g (lw_at lw_m3 13 rfl) rfl
theorem q603 : (Jvm.Cond.classLink "MessengerBoard$Scanner" (15 : Nat) "java/lang/StringBuilder") ∈ lw_all := lw_g (lw_at lw_m3 14 rfl) rfl
theorem q605 : (Jvm.Cond.methodLink "MessengerBoard$Scanner" (17 : Nat) ({ cls := "java/lang/StringBuilder", name := "<init>", desc := "()V" } : Jvm.MethodName)) ∈ lw_all := lw_g (lw_at lw_m3 16 rfl) rfl
theorem q634 : (Jvm.Cond.methodLink "MessengerBoard$Scanner" (26 : Nat) ({ cls := "MessengerBoard$Scanner", name := "next", desc := "()V" } : Jvm.MethodName)) ∈ lw_all := lw_g (lw_at lw_m3 45 rfl) rfl
theorem q635 : (Jvm.Cond.instanceMethod ({ cls := "MessengerBoard$Scanner", name := "next", desc := "()V" } : Jvm.MethodName)) ∈ lw_all := lw_g (lw_at lw_m3 46 rfl) rfl
theorem q636 : (Jvm.Cond.sameMethod "MessengerBoard$Scanner" "MessengerBoard$Scanner" "next" "()V") ∈ lw_all := lw_g (lw_at lw_m3 47 rfl) rfl
theorem q639 : (Jvm.Cond.code ({ cls := "MessengerBoard$Scanner", name := "next", desc := "()V" } : Jvm.MethodName) prog_14_method_5_code (2 : Nat) (Option.none : Option Jvm.ClassFile.FieldType)) ∈ lw_all := lw_g (lw_at lw_m3 50 rfl) rfl
theorem q640 : (Jvm.Cond.methodLink "MessengerBoard$Scanner" (36 : Nat) ({ cls := "MessengerBoard$Scanner", name := "byteAt", desc := "(I)I" } : Jvm.MethodName)) ∈ lw_all := lw_g (lw_at lw_m3 51 rfl) rfl
theorem q641 : (Jvm.Cond.privateMethod ({ cls := "MessengerBoard$Scanner", name := "byteAt", desc := "(I)I" } : Jvm.MethodName)) ∈ lw_tbl := lw_at lw_m3 52 rfl
theorem q642 : (Jvm.Cond.instanceMethod ({ cls := "MessengerBoard$Scanner", name := "byteAt", desc := "(I)I" } : Jvm.MethodName)) ∈ lw_all := lw_g (lw_at lw_m3 53 rfl) rfl
theorem q643 : (Jvm.Cond.code ({ cls := "MessengerBoard$Scanner", name := "byteAt", desc := "(I)I" } : Jvm.MethodName) prog_14_method_2_code (2 : Nat) (Option.some Jvm.ClassFile.FieldType.int)) ∈ lw_all := lw_g (lw_at lw_m3 54 rfl) rfl
theorem q644 : (Jvm.Cond.methodLink "MessengerBoard$Scanner" (43 : Nat) ({ cls := "java/lang/StringBuilder", name := "setLength", desc := "(I)V" } : Jvm.MethodName)) ∈ lw_all := lw_g (lw_at lw_m3 55 rfl) rfl
theorem q866 : (Jvm.Cond.fieldLink "MessengerBoard$Scanner" (47 : Nat) "MessengerBoard$Token" "END" "LMessengerBoard$Token;") ∈ lw_all := lw_g (lw_at lw_m4 37 rfl) rfl
theorem q868 : (Jvm.Cond.methodLink "MessengerBoard$Scanner" (56 : Nat) ({ cls := "MessengerBoard$Scanner", name := "isLetter", desc := "(I)Z" } : Jvm.MethodName)) ∈ lw_all := lw_g (lw_at lw_m4 39 rfl) rfl
theorem q869 : (Jvm.Cond.static ({ cls := "MessengerBoard$Scanner", name := "isLetter", desc := "(I)Z" } : Jvm.MethodName)) ∈ lw_all := lw_g (lw_at lw_m4 40 rfl) rfl
theorem q870 : (Jvm.Cond.code ({ cls := "MessengerBoard$Scanner", name := "isLetter", desc := "(I)Z" } : Jvm.MethodName) prog_14_method_3_code (1 : Nat) (Option.some Jvm.ClassFile.FieldType.boolean)) ∈ lw_all := lw_g (lw_at lw_m4 41 rfl) rfl
theorem q871 : (Jvm.Cond.methodLink "MessengerBoard$Scanner" (60 : Nat) ({ cls := "java/lang/StringBuilder", name := "append", desc := "(C)Ljava/lang/StringBuilder;" } : Jvm.MethodName)) ∈ lw_all := lw_g (lw_at lw_m4 42 rfl) rfl
theorem q884 : (Jvm.Cond.fieldLink "MessengerBoard$Scanner" (64 : Nat) "MessengerBoard$Token" "WORD" "LMessengerBoard$Token;") ∈ lw_all := lw_g (lw_at lw_m4 55 rfl) rfl
theorem q886 : (Jvm.Cond.methodLink "MessengerBoard$Scanner" (67 : Nat) ({ cls := "MessengerBoard$Scanner", name := "isDigit", desc := "(I)Z" } : Jvm.MethodName)) ∈ lw_all := lw_g (lw_at lw_m4 57 rfl) rfl
theorem q887 : (Jvm.Cond.static ({ cls := "MessengerBoard$Scanner", name := "isDigit", desc := "(I)Z" } : Jvm.MethodName)) ∈ lw_all := lw_g (lw_at lw_m4 58 rfl) rfl
theorem q888 : (Jvm.Cond.code ({ cls := "MessengerBoard$Scanner", name := "isDigit", desc := "(I)Z" } : Jvm.MethodName) prog_14_method_4_code (1 : Nat) (Option.some Jvm.ClassFile.FieldType.boolean)) ∈ lw_all := lw_g (lw_at lw_m4 59 rfl) rfl
theorem q889 : (Jvm.Cond.constant "MessengerBoard$Scanner" (73 : Nat) (100000000 : Int32)) ∈ lw_all := lw_g (lw_at lw_m4 60 rfl) rfl
theorem q890 : (Jvm.Cond.methodLink "MessengerBoard$Scanner" (74 : Nat) ({ cls := "java/lang/Math", name := "min", desc := "(II)I" } : Jvm.MethodName)) ∈ lw_all := lw_g (lw_at lw_m4 61 rfl) rfl
theorem q891 : (Jvm.Cond.fieldLink "MessengerBoard$Scanner" (80 : Nat) "MessengerBoard$Token" "NUMBER" "LMessengerBoard$Token;") ∈ lw_all := lw_g (lw_at lw_m4 62 rfl) rfl
theorem q893 : (Jvm.Cond.fieldLink "MessengerBoard$Scanner" (86 : Nat) "MessengerBoard$Token" "SIGN" "LMessengerBoard$Token;") ∈ lw_all := lw_g (lw_at lw_m4 64 rfl) rfl
theorem q897 : (Jvm.Cond.fieldLink "MessengerBoard$Scanner" (18 : Nat) "MessengerBoard$Scanner" "word" "Ljava/lang/StringBuilder;") ∈ lw_all := lw_g (lw_at lw_m4 68 rfl) rfl
theorem q898 : (Jvm.Cond.fieldLink "MessengerBoard$Scanner" (22 : Nat) "MessengerBoard$Scanner" "end" "I") ∈ lw_all := lw_g (lw_at lw_m4 69 rfl) rfl
theorem q899 : (Jvm.Cond.fieldLink "MessengerBoard$Scanner" (33 : Nat) "MessengerBoard$Scanner" "at" "I") ∈ lw_all := lw_g (lw_at lw_m4 70 rfl) rfl
theorem q900 : (Jvm.Cond.fieldLink "MessengerBoard$Scanner" (40 : Nat) "MessengerBoard$Scanner" "begin" "I") ∈ lw_all := lw_g (lw_at lw_m4 71 rfl) rfl
theorem q901 : (Jvm.Cond.fieldLink "MessengerBoard$Scanner" (70 : Nat) "MessengerBoard$Scanner" "value" "I") ∈ lw_all := lw_g (lw_at lw_m4 72 rfl) rfl
theorem q902 : (Jvm.Cond.fieldLink "MessengerBoard$Scanner" (83 : Nat) "MessengerBoard$Scanner" "sign" "I") ∈ lw_all := lw_g (lw_at lw_m4 73 rfl) rfl
theorem q907 : (Jvm.Cond.fieldLink "MessengerBoard$Scanner" (53 : Nat) "MessengerBoard$Scanner" "token" "LMessengerBoard$Token;") ∈ lw_all := lw_g (lw_at lw_m4 78 rfl) rfl
theorem q908 : (Jvm.Cond.fieldLink "MessengerBoard$Scanner" (3 : Nat) "MessengerBoard$Scanner" "this$0" "LMessengerBoard;") ∈ lw_all := lw_g (lw_at lw_m4 79 rfl) rfl
theorem q914 : (Jvm.Cond.soleField "MessengerBoard$Scanner" "word") ∈ lw_all := lw_g (lw_at lw_m4 85 rfl) rfl
theorem q916 : (Jvm.Cond.soleField "MessengerBoard$Scanner" "end") ∈ lw_all := lw_g (lw_at lw_m4 87 rfl) rfl
theorem q918 : (Jvm.Cond.soleField "MessengerBoard$Scanner" "at") ∈ lw_all := lw_g (lw_at lw_m4 89 rfl) rfl
theorem q920 : (Jvm.Cond.soleField "MessengerBoard$Scanner" "begin") ∈ lw_all := lw_g (lw_at lw_m4 91 rfl) rfl
theorem q922 : (Jvm.Cond.soleField "MessengerBoard$Scanner" "value") ∈ lw_all := lw_g (lw_at lw_m4 93 rfl) rfl
theorem q924 : (Jvm.Cond.soleField "MessengerBoard$Scanner" "sign") ∈ lw_all := lw_g (lw_at lw_m4 95 rfl) rfl
theorem q926 : (Jvm.Cond.soleField "MessengerBoard$Scanner" "token") ∈ lw_all := lw_g (lw_at lw_m4 97 rfl) rfl
theorem q928 : (Jvm.Cond.soleField "MessengerBoard$Scanner" "this$0") ∈ lw_all := lw_g (lw_at lw_m4 99 rfl) rfl
theorem q937 : (Jvm.Cond.declares ({ cls := "MessengerBoard$Scanner", name := "accept", desc := "(Ljava/lang/String;)Z" } : Jvm.MethodName)) ∈ lw_tbl := lw_at lw_m4 108 rfl
theorem q939 : (Jvm.Cond.instanceMethod ({ cls := "MessengerBoard$Scanner", name := "accept", desc := "(Ljava/lang/String;)Z" } : Jvm.MethodName)) ∈ lw_all := lw_g (lw_at lw_m4 110 rfl) rfl
theorem q940 : (Jvm.Cond.code ({ cls := "MessengerBoard$Scanner", name := "accept", desc := "(Ljava/lang/String;)Z" } : Jvm.MethodName) prog_14_method_10_code (3 : Nat) (Option.some Jvm.ClassFile.FieldType.boolean)) ∈ lw_all := lw_g (lw_at lw_m4 111 rfl) rfl
theorem q941 : (Jvm.Cond.methodLink "MessengerBoard$Scanner" (100 : Nat) ({ cls := "MessengerBoard$Scanner", name := "keyword", desc := "()Ljava/lang/String;" } : Jvm.MethodName)) ∈ lw_all := lw_g (lw_at lw_m4 112 rfl) rfl
theorem q942 : (Jvm.Cond.instanceMethod ({ cls := "MessengerBoard$Scanner", name := "keyword", desc := "()Ljava/lang/String;" } : Jvm.MethodName)) ∈ lw_all := lw_g (lw_at lw_m4 113 rfl) rfl
theorem q943 : (Jvm.Cond.sameMethod "MessengerBoard$Scanner" "MessengerBoard$Scanner" "keyword" "()Ljava/lang/String;") ∈ lw_all := lw_g (lw_at lw_m4 114 rfl) rfl
theorem q946 : (Jvm.Cond.code ({ cls := "MessengerBoard$Scanner", name := "keyword", desc := "()Ljava/lang/String;" } : Jvm.MethodName) prog_14_method_9_code (1 : Nat) (Option.some (Jvm.ClassFile.FieldType.object "java/lang/String"))) ∈ lw_all := lw_g (lw_at lw_m4 117 rfl) rfl
theorem q947 : (Jvm.Cond.methodLink "MessengerBoard$Scanner" (94 : Nat) ({ cls := "java/lang/StringBuilder", name := "toString", desc := "()Ljava/lang/String;" } : Jvm.MethodName)) ∈ lw_all := lw_g (lw_at lw_m4 118 rfl) rfl
theorem q948 : (Jvm.Cond.stringRef "MessengerBoard$Scanner" (98 : Nat) "") ∈ lw_tbl := lw_at lw_m4 119 rfl
theorem q949 : (Jvm.Cond.methodLink "MessengerBoard$Scanner" (103 : Nat) ({ cls := "java/lang/String", name := "equals", desc := "(Ljava/lang/Object;)Z" } : Jvm.MethodName)) ∈ lw_all := lw_g (lw_at lw_m4 120 rfl) rfl
theorem q959 : (Jvm.Cond.declares ({ cls := "MessengerBoard$Scanner", name := "check", desc := "(ZI)V" } : Jvm.MethodName)) ∈ lw_tbl := lw_at lw_m4 130 rfl
theorem q961 : (Jvm.Cond.instanceMethod ({ cls := "MessengerBoard$Scanner", name := "check", desc := "(ZI)V" } : Jvm.MethodName)) ∈ lw_all := lw_g (lw_at lw_m4 132 rfl) rfl
theorem q962 : (Jvm.Cond.code ({ cls := "MessengerBoard$Scanner", name := "check", desc := "(ZI)V" } : Jvm.MethodName) prog_14_method_6_code (3 : Nat) (Option.none : Option Jvm.ClassFile.FieldType)) ∈ lw_all := lw_g (lw_at lw_m4 133 rfl) rfl
theorem q963 : (Jvm.Cond.classLink "MessengerBoard$Scanner" (89 : Nat) "MessengerBoard$TextError") ∈ lw_all := lw_g (lw_at lw_m4 134 rfl) rfl
theorem q972 : (Jvm.Cond.methodLink "MessengerBoard$Scanner" (91 : Nat) ({ cls := "MessengerBoard$TextError", name := "<init>", desc := "(IILjava/lang/Exception;)V" } : Jvm.MethodName)) ∈ lw_all := lw_g (lw_at lw_m4 143 rfl) rfl
theorem q993 : (Jvm.Cond.declares ({ cls := "MessengerBoard$Scanner", name := "number", desc := "(II)I" } : Jvm.MethodName)) ∈ lw_tbl := lw_at lw_m4 164 rfl
theorem q995 : (Jvm.Cond.instanceMethod ({ cls := "MessengerBoard$Scanner", name := "number", desc := "(II)I" } : Jvm.MethodName)) ∈ lw_all := lw_g (lw_at lw_m4 166 rfl) rfl
theorem q996 : (Jvm.Cond.code ({ cls := "MessengerBoard$Scanner", name := "number", desc := "(II)I" } : Jvm.MethodName) prog_14_method_14_code (4 : Nat) (Option.some Jvm.ClassFile.FieldType.int)) ∈ lw_all := lw_g (lw_at lw_m4 167 rfl) rfl
theorem q997 : (Jvm.Cond.methodLink "MessengerBoard$Scanner" (116 : Nat) ({ cls := "MessengerBoard$Scanner", name := "peek", desc := "(II)I" } : Jvm.MethodName)) ∈ lw_all := lw_g (lw_at lw_m4 168 rfl) rfl
theorem q998 : (Jvm.Cond.instanceMethod ({ cls := "MessengerBoard$Scanner", name := "peek", desc := "(II)I" } : Jvm.MethodName)) ∈ lw_all := lw_g (lw_at lw_m4 169 rfl) rfl
theorem q999 : (Jvm.Cond.sameMethod "MessengerBoard$Scanner" "MessengerBoard$Scanner" "peek" "(II)I") ∈ lw_all := lw_g (lw_at lw_m4 170 rfl) rfl
theorem q1002 : (Jvm.Cond.code ({ cls := "MessengerBoard$Scanner", name := "peek", desc := "(II)I" } : Jvm.MethodName) prog_14_method_13_code (3 : Nat) (Option.some Jvm.ClassFile.FieldType.int)) ∈ lw_all := lw_g (lw_at lw_m4 173 rfl) rfl
theorem q1003 : (Jvm.Cond.methodLink "MessengerBoard$Scanner" (112 : Nat) ({ cls := "MessengerBoard$Scanner", name := "check", desc := "(ZI)V" } : Jvm.MethodName)) ∈ lw_all := lw_g (lw_at lw_m4 174 rfl) rfl
theorem q1008 : (Jvm.Cond.declares ({ cls := "MessengerBoard$Scanner", name := "expectSign", desc := "(I)V" } : Jvm.MethodName)) ∈ lw_tbl := lw_at lw_m4 179 rfl
theorem q1010 : (Jvm.Cond.instanceMethod ({ cls := "MessengerBoard$Scanner", name := "expectSign", desc := "(I)V" } : Jvm.MethodName)) ∈ lw_all := lw_g (lw_at lw_m4 181 rfl) rfl
theorem q1011 : (Jvm.Cond.code ({ cls := "MessengerBoard$Scanner", name := "expectSign", desc := "(I)V" } : Jvm.MethodName) prog_14_method_11_code (2 : Nat) (Option.none : Option Jvm.ClassFile.FieldType)) ∈ lw_all := lw_g (lw_at lw_m4 182 rfl) rfl
theorem q1012 : (Jvm.Cond.methodLink "MessengerBoard$Scanner" (109 : Nat) ({ cls := "MessengerBoard$Scanner", name := "isSign", desc := "(I)Z" } : Jvm.MethodName)) ∈ lw_all := lw_g (lw_at lw_m4 183 rfl) rfl
theorem q1013 : (Jvm.Cond.instanceMethod ({ cls := "MessengerBoard$Scanner", name := "isSign", desc := "(I)Z" } : Jvm.MethodName)) ∈ lw_all := lw_g (lw_at lw_m4 184 rfl) rfl
theorem q1014 : (Jvm.Cond.sameMethod "MessengerBoard$Scanner" "MessengerBoard$Scanner" "isSign" "(I)Z") ∈ lw_all := lw_g (lw_at lw_m4 185 rfl) rfl
theorem q1017 : (Jvm.Cond.code ({ cls := "MessengerBoard$Scanner", name := "isSign", desc := "(I)Z" } : Jvm.MethodName) prog_14_method_8_code (2 : Nat) (Option.some Jvm.ClassFile.FieldType.boolean)) ∈ lw_all := lw_g (lw_at lw_m4 188 rfl) rfl
theorem q1021 : (Jvm.Cond.declares ({ cls := "MessengerBoard$Scanner", name := "keyword", desc := "()Ljava/lang/String;" } : Jvm.MethodName)) ∈ lw_tbl := lw_at lw_m4 192 rfl
theorem q1093 : (Jvm.Cond.declares ({ cls := "MessengerBoard$Scanner", name := "next", desc := "()V" } : Jvm.MethodName)) ∈ lw_tbl := lw_at lw_m5 24 rfl
theorem q1105 : (Jvm.Cond.declares ({ cls := "MessengerBoard$Scanner", name := "peek", desc := "(II)I" } : Jvm.MethodName)) ∈ lw_tbl := lw_at lw_m5 36 rfl
theorem q2012 : (Jvm.Cond.declares ({ cls := "MessengerBoard$Scanner", name := "isSign", desc := "(I)Z" } : Jvm.MethodName)) ∈ lw_tbl := lw_at lw_m8 223 rfl
theorem q2041 : (Jvm.Cond.declares ({ cls := "MessengerBoard$Scanner", name := "relationSign", desc := "()I" } : Jvm.MethodName)) ∈ lw_tbl := lw_at lw_m9 12 rfl
theorem q2043 : (Jvm.Cond.instanceMethod ({ cls := "MessengerBoard$Scanner", name := "relationSign", desc := "()I" } : Jvm.MethodName)) ∈ lw_all := lw_g (lw_at lw_m9 14 rfl) rfl
theorem q2044 : (Jvm.Cond.code ({ cls := "MessengerBoard$Scanner", name := "relationSign", desc := "()I" } : Jvm.MethodName) prog_14_method_12_code (2 : Nat) (Option.some Jvm.ClassFile.FieldType.int)) ∈ lw_all := lw_g (lw_at lw_m9 15 rfl) rfl
theorem q2712 : (Jvm.Cond.sameMethod "MessengerBoard$Scanner" "MessengerBoard$Scanner" "byteAt" "(I)I") ∈ lw_all := lw_g (lw_at lw_m11 203 rfl) rfl
theorem q2723 : (Jvm.Cond.sameMethod "MessengerBoard$Scanner" "MessengerBoard$Scanner" "check" "(ZI)V") ∈ lw_all := lw_g (lw_at lw_m11 214 rfl) rfl
/-! MessengerBoard$BoardParser -/
set_option maxRecDepth 100000
def RX6 : String := "MessengerBoard$BoardParser"
def TX6 : u_T := fun k => match k with
  | 0 => ("MessengerBoard$Scanner", "word", "Ljava/lang/StringBuilder;", true)
  | 1 => ("MessengerBoard$Scanner", "end", "I", true)
  | 2 => ("MessengerBoard$Scanner", "at", "I", false)
  | 3 => ("MessengerBoard$Scanner", "begin", "I", false)
  | 4 => ("MessengerBoard$Scanner", "value", "I", false)
  | 5 => ("MessengerBoard$Scanner", "sign", "I", false)
  | 6 => ("MessengerBoard$Scanner", "token", "LMessengerBoard$Token;", false)
  | 7 => ("MessengerBoard$Scanner", "this$0", "LMessengerBoard;", true)
  | 8 => ("MessengerBoard$BoardParser", "made", "LMessengerBoard$State;", false)
  | _ => ("MessengerBoard$BoardParser", "this$0", "LMessengerBoard;", true)
def tyX6 : Nat → FieldType := fun k => match k with
  | 0 => .object "java/lang/StringBuilder"
  | 1 => .int
  | 2 => .int
  | 3 => .int
  | 4 => .int
  | 5 => .int
  | 6 => .object "MessengerBoard$Token"
  | 7 => .object "MessengerBoard"
  | 8 => .object "MessengerBoard$State"
  | _ => .object "MessengerBoard"
abbrev wsX60 : List Cond := u_ws RX6 TX6 10
-- two fields of one name: no nmX6
theorem tyX6_ok : ∀ k, k < 10 → parseFieldDescriptor (TX6 k).2.2.1 = some (tyX6 k) := by decide +kernel
abbrev cX6_init : ByteArray := prog_5_method_1_code
def yX6_init : MethodName := ⟨RX6, "<init>", "(LMessengerBoard;I)V"⟩
def dkwX6_init_0 : List UInt8 := [42, 43, 181, 0, 3, 42, 43, 28, 183, 0, 9, 177]
abbrev dktX6_init_0 : List UInt8 := dkwX6_init_0 ++ []
theorem dksX6_init_0 : cX6_init.data.toList.drop 0 = dktX6_init_0 := by decide +kernel
theorem dX6_init_0 : decode cX6_init 0 = .ok (.aload_n 0, 1) := dk_42 (dk_at dksX6_init_0 0 rfl rfl)
theorem dX6_init_1 : decode cX6_init 1 = .ok (.aload_n 1, 1) := dk_43 (dk_at dksX6_init_0 1 rfl rfl)
theorem dX6_init_2 : decode cX6_init 2 = .ok (.putfield 3, 3) := dk_181 0 3 (dk_at dksX6_init_0 2 rfl rfl)
theorem dX6_init_5 : decode cX6_init 5 = .ok (.aload_n 0, 1) := dk_42 (dk_at dksX6_init_0 5 rfl rfl)
theorem dX6_init_6 : decode cX6_init 6 = .ok (.aload_n 1, 1) := dk_43 (dk_at dksX6_init_0 6 rfl rfl)
theorem dX6_init_7 : decode cX6_init 7 = .ok (.iload_n 2, 1) := dk_28 (dk_at dksX6_init_0 7 rfl rfl)
theorem dX6_init_8 : decode cX6_init 8 = .ok (.invokespecial 9, 3) := dk_183 0 9 (dk_at dksX6_init_0 8 rfl rfl)
theorem dX6_init_11 : decode cX6_init 11 = .ok (.return_, 1) := dk_177 (dk_at dksX6_init_0 11 rfl rfl)
abbrev cX6_parse : ByteArray := prog_5_method_2_code
def yX6_parse : MethodName := ⟨RX6, "parse", "()LMessengerBoard$State;"⟩
def dkwX6_parse_3 : List UInt8 := [182, 0, 42, 167, 255, 232, 42, 180, 0, 38, 176]
abbrev dktX6_parse_3 : List UInt8 := dkwX6_parse_3 ++ []
def dkwX6_parse_2 : List UInt8 := [182, 0, 42, 42, 180, 0, 46, 178, 0, 50, 165, 0, 20, 42, 42, 182, 0, 55, 182, 0, 59, 42, 16, 59]
abbrev dktX6_parse_2 : List UInt8 := dkwX6_parse_2 ++ dktX6_parse_3
def dkwX6_parse_1 : List UInt8 := [27, 42, 6, 16, 12, 182, 0, 25, 42, 180, 0, 3, 180, 0, 31, 183, 0, 35, 181, 0, 38, 42, 16, 59]
abbrev dktX6_parse_1 : List UInt8 := dkwX6_parse_1 ++ dktX6_parse_2
def dkwX6_parse_0 : List UInt8 := [42, 42, 18, 15, 182, 0, 17, 4, 182, 0, 21, 42, 6, 16, 12, 182, 0, 25, 60, 42, 187, 0, 29, 89]
abbrev dktX6_parse_0 : List UInt8 := dkwX6_parse_0 ++ dktX6_parse_1
theorem dksX6_parse_0 : cX6_parse.data.toList.drop 0 = dktX6_parse_0 := by decide +kernel
theorem dksX6_parse_1 : cX6_parse.data.toList.drop 24 = dktX6_parse_1 := dk_seg dksX6_parse_0 24 rfl rfl
theorem dksX6_parse_2 : cX6_parse.data.toList.drop 48 = dktX6_parse_2 := dk_seg dksX6_parse_1 24 rfl rfl
theorem dksX6_parse_3 : cX6_parse.data.toList.drop 72 = dktX6_parse_3 := dk_seg dksX6_parse_2 24 rfl rfl
theorem dX6_parse_0 : decode cX6_parse 0 = .ok (.aload_n 0, 1) := dk_42 (dk_at dksX6_parse_0 0 rfl rfl)
theorem dX6_parse_1 : decode cX6_parse 1 = .ok (.aload_n 0, 1) := dk_42 (dk_at dksX6_parse_0 1 rfl rfl)
theorem dX6_parse_2 : decode cX6_parse 2 = .ok (.ldc 15, 2) := dk_18 15 (dk_at dksX6_parse_0 2 rfl rfl)
theorem dX6_parse_4 : decode cX6_parse 4 = .ok (.invokevirtual 17, 3) := dk_182 0 17 (dk_at dksX6_parse_0 4 rfl rfl)
theorem dX6_parse_7 : decode cX6_parse 7 = .ok (.iconst 1, 1) := dk_4 (dk_at dksX6_parse_0 7 rfl rfl)
theorem dX6_parse_8 : decode cX6_parse 8 = .ok (.invokevirtual 21, 3) := dk_182 0 21 (dk_at dksX6_parse_0 8 rfl rfl)
theorem dX6_parse_11 : decode cX6_parse 11 = .ok (.aload_n 0, 1) := dk_42 (dk_at dksX6_parse_0 11 rfl rfl)
theorem dX6_parse_12 : decode cX6_parse 12 = .ok (.iconst 3, 1) := dk_6 (dk_at dksX6_parse_0 12 rfl rfl)
theorem dX6_parse_13 : decode cX6_parse 13 = .ok (.bipush 12, 2) := dk_16 12 (dk_at dksX6_parse_0 13 rfl rfl)
theorem dX6_parse_15 : decode cX6_parse 15 = .ok (.invokevirtual 25, 3) := dk_182 0 25 (dk_at dksX6_parse_0 15 rfl rfl)
theorem dX6_parse_18 : decode cX6_parse 18 = .ok (.istore_n 1, 1) := dk_60 (dk_at dksX6_parse_0 18 rfl rfl)
theorem dX6_parse_19 : decode cX6_parse 19 = .ok (.aload_n 0, 1) := dk_42 (dk_at dksX6_parse_0 19 rfl rfl)
theorem dX6_parse_20 : decode cX6_parse 20 = .ok (.new 29, 3) := dk_187 0 29 (dk_at dksX6_parse_0 20 rfl rfl)
theorem dX6_parse_23 : decode cX6_parse 23 = .ok (.dup, 1) := dk_89 (dk_at dksX6_parse_0 23 rfl rfl)
theorem dX6_parse_24 : decode cX6_parse 24 = .ok (.iload_n 1, 1) := dk_27 (dk_at dksX6_parse_1 0 rfl rfl)
theorem dX6_parse_25 : decode cX6_parse 25 = .ok (.aload_n 0, 1) := dk_42 (dk_at dksX6_parse_1 1 rfl rfl)
theorem dX6_parse_26 : decode cX6_parse 26 = .ok (.iconst 3, 1) := dk_6 (dk_at dksX6_parse_1 2 rfl rfl)
theorem dX6_parse_27 : decode cX6_parse 27 = .ok (.bipush 12, 2) := dk_16 12 (dk_at dksX6_parse_1 3 rfl rfl)
theorem dX6_parse_29 : decode cX6_parse 29 = .ok (.invokevirtual 25, 3) := dk_182 0 25 (dk_at dksX6_parse_1 5 rfl rfl)
theorem dX6_parse_32 : decode cX6_parse 32 = .ok (.aload_n 0, 1) := dk_42 (dk_at dksX6_parse_1 8 rfl rfl)
theorem dX6_parse_33 : decode cX6_parse 33 = .ok (.getfield 3, 3) := dk_180 0 3 (dk_at dksX6_parse_1 9 rfl rfl)
theorem dX6_parse_36 : decode cX6_parse 36 = .ok (.getfield 31, 3) := dk_180 0 31 (dk_at dksX6_parse_1 12 rfl rfl)
theorem dX6_parse_39 : decode cX6_parse 39 = .ok (.invokespecial 35, 3) := dk_183 0 35 (dk_at dksX6_parse_1 15 rfl rfl)
theorem dX6_parse_42 : decode cX6_parse 42 = .ok (.putfield 38, 3) := dk_181 0 38 (dk_at dksX6_parse_1 18 rfl rfl)
theorem dX6_parse_45 : decode cX6_parse 45 = .ok (.aload_n 0, 1) := dk_42 (dk_at dksX6_parse_1 21 rfl rfl)
theorem dX6_parse_46 : decode cX6_parse 46 = .ok (.bipush 59, 2) := dk_16 59 (dk_at dksX6_parse_1 22 rfl rfl)
theorem dX6_parse_48 : decode cX6_parse 48 = .ok (.invokevirtual 42, 3) := dk_182 0 42 (dk_at dksX6_parse_2 0 rfl rfl)
theorem dX6_parse_51 : decode cX6_parse 51 = .ok (.aload_n 0, 1) := dk_42 (dk_at dksX6_parse_2 3 rfl rfl)
theorem dX6_parse_52 : decode cX6_parse 52 = .ok (.getfield 46, 3) := dk_180 0 46 (dk_at dksX6_parse_2 4 rfl rfl)
theorem dX6_parse_55 : decode cX6_parse 55 = .ok (.getstatic 50, 3) := dk_178 0 50 (dk_at dksX6_parse_2 7 rfl rfl)
theorem dX6_parse_58 : decode cX6_parse 58 = .ok (.if_acmp .eq 20, 3) := dk_165 0 20 (dk_at dksX6_parse_2 10 rfl rfl)
theorem dX6_parse_61 : decode cX6_parse 61 = .ok (.aload_n 0, 1) := dk_42 (dk_at dksX6_parse_2 13 rfl rfl)
theorem dX6_parse_62 : decode cX6_parse 62 = .ok (.aload_n 0, 1) := dk_42 (dk_at dksX6_parse_2 14 rfl rfl)
theorem dX6_parse_63 : decode cX6_parse 63 = .ok (.invokevirtual 55, 3) := dk_182 0 55 (dk_at dksX6_parse_2 15 rfl rfl)
theorem dX6_parse_66 : decode cX6_parse 66 = .ok (.invokevirtual 59, 3) := dk_182 0 59 (dk_at dksX6_parse_2 18 rfl rfl)
theorem dX6_parse_69 : decode cX6_parse 69 = .ok (.aload_n 0, 1) := dk_42 (dk_at dksX6_parse_2 21 rfl rfl)
theorem dX6_parse_70 : decode cX6_parse 70 = .ok (.bipush 59, 2) := dk_16 59 (dk_at dksX6_parse_2 22 rfl rfl)
theorem dX6_parse_72 : decode cX6_parse 72 = .ok (.invokevirtual 42, 3) := dk_182 0 42 (dk_at dksX6_parse_3 0 rfl rfl)
theorem dX6_parse_75 : decode cX6_parse 75 = .ok (.goto (-24), 3) := dk_167 255 232 (dk_at dksX6_parse_3 3 rfl rfl)
theorem dX6_parse_78 : decode cX6_parse 78 = .ok (.aload_n 0, 1) := dk_42 (dk_at dksX6_parse_3 6 rfl rfl)
theorem dX6_parse_79 : decode cX6_parse 79 = .ok (.getfield 38, 3) := dk_180 0 38 (dk_at dksX6_parse_3 7 rfl rfl)
theorem dX6_parse_82 : decode cX6_parse 82 = .ok (.areturn, 1) := dk_176 (dk_at dksX6_parse_3 10 rfl rfl)
abbrev cX6_clause : ByteArray := prog_5_method_6_code
def yX6_clause : MethodName := ⟨RX6, "clause", "(Ljava/lang/String;)V"⟩
def dkwX6_clause_17 : List UInt8 := [182, 0, 146, 182, 0, 132, 87, 167, 0, 9, 42, 3, 4, 182, 0, 21, 177]
abbrev dktX6_clause_17 : List UInt8 := dkwX6_clause_17 ++ []
def dkwX6_clause_16 : List UInt8 := [162, 0, 7, 4, 167, 0, 4, 3, 6, 182, 0, 21, 42, 182, 0, 77, 42, 180, 0, 38, 180, 0, 143, 42]
abbrev dktX6_clause_16 : List UInt8 := dkwX6_clause_16 ++ dktX6_clause_17
def dkwX6_clause_15 : List UInt8 := [182, 0, 25, 181, 0, 141, 167, 0, 56, 42, 42, 180, 0, 38, 180, 0, 143, 182, 0, 122, 16, 20]
abbrev dktX6_clause_15 : List UInt8 := dkwX6_clause_15 ++ dktX6_clause_16
def dkwX6_clause_14 : List UInt8 := [42, 182, 0, 138, 182, 0, 132, 87, 167, 0, 77, 42, 182, 0, 77, 42, 180, 0, 38, 42, 4, 16, 30]
abbrev dktX6_clause_14 : List UInt8 := dkwX6_clause_14 ++ dktX6_clause_15
def dkwX6_clause_13 : List UInt8 := [7, 162, 0, 7, 4, 167, 0, 4, 3, 6, 182, 0, 21, 42, 182, 0, 77, 42, 180, 0, 38, 180, 0, 135]
abbrev dktX6_clause_13 : List UInt8 := dkwX6_clause_13 ++ dktX6_clause_14
def dkwX6_clause_12 : List UInt8 := [182, 0, 25, 183, 0, 129, 182, 0, 132, 87, 167, 0, 123, 42, 42, 180, 0, 38, 180, 0, 135, 182, 0, 122]
abbrev dktX6_clause_12 : List UInt8 := dkwX6_clause_12 ++ dktX6_clause_13
def dkwX6_clause_11 : List UInt8 := [182, 0, 108, 54, 7, 42, 180, 0, 38, 180, 0, 118, 187, 0, 127, 89, 21, 6, 21, 7, 42, 4, 6]
abbrev dktX6_clause_11 : List UInt8 := dkwX6_clause_11 ++ dktX6_clause_12
def dkwX6_clause_10 : List UInt8 := [4, 167, 0, 4, 3, 6, 182, 0, 21, 42, 182, 0, 77, 42, 182, 0, 103, 54, 6, 42, 21, 6]
abbrev dktX6_clause_10 : List UInt8 := dkwX6_clause_10 ++ dktX6_clause_11
def dkwX6_clause_9 : List UInt8 := [21, 5, 181, 0, 115, 167, 0, 197, 42, 42, 180, 0, 38, 180, 0, 118, 182, 0, 122, 16, 6, 162, 0, 7]
abbrev dktX6_clause_9 : List UInt8 := dkwX6_clause_9 ++ dktX6_clause_10
def dkwX6_clause_8 : List UInt8 := [54, 4, 42, 21, 4, 182, 0, 108, 54, 5, 42, 180, 0, 38, 21, 4, 181, 0, 112, 42, 180, 0, 38]
abbrev dktX6_clause_8 : List UInt8 := dkwX6_clause_8 ++ dktX6_clause_9
def dkwX6_clause_7 : List UInt8 := [42, 182, 0, 77, 42, 42, 182, 0, 103, 182, 0, 106, 167, 0, 236, 42, 182, 0, 77, 42, 182, 0, 103]
abbrev dktX6_clause_7 : List UInt8 := dkwX6_clause_7 ++ dktX6_clause_8
def dkwX6_clause_6 : List UInt8 := [170, 0, 0, 0, 1, 24, 0, 0, 0, 0, 0, 0, 0, 5, 0, 0, 0, 38, 0, 0, 0, 53, 0, 0, 0, 92, 0, 0, 0, 166, 0, 0, 0, 212, 0, 0, 0, 233]
abbrev dktX6_clause_6 : List UInt8 := dkwX6_clause_6 ++ dktX6_clause_7
def dkwX6_clause_5 : List UInt8 := [18, 101, 182, 0, 89, 153, 0, 5, 8, 62, 29]
abbrev dktX6_clause_5 : List UInt8 := dkwX6_clause_5 ++ dktX6_clause_6
def dkwX6_clause_4 : List UInt8 := [153, 0, 33, 6, 62, 167, 0, 28, 44, 18, 99, 182, 0, 89, 153, 0, 19, 7, 62, 167, 0, 14, 44]
abbrev dktX6_clause_4 : List UInt8 := dkwX6_clause_4 ++ dktX6_clause_5
def dkwX6_clause_3 : List UInt8 := [62, 167, 0, 56, 44, 18, 95, 182, 0, 89, 153, 0, 47, 5, 62, 167, 0, 42, 44, 18, 97, 182, 0, 89]
abbrev dktX6_clause_3 : List UInt8 := dkwX6_clause_3 ++ dktX6_clause_4
def dkwX6_clause_2 : List UInt8 := [44, 18, 87, 182, 0, 89, 153, 0, 75, 3, 62, 167, 0, 70, 44, 18, 93, 182, 0, 89, 153, 0, 61, 4]
abbrev dktX6_clause_2 : List UInt8 := dkwX6_clause_2 ++ dktX6_clause_3
def dkwX6_clause_1 : List UInt8 := [171, 0, 0, 0, 0, 0, 0, 141, 0, 0, 0, 6, 197, 21, 8, 144, 0, 0, 0, 102, 0, 52, 139, 41, 0, 0, 0, 130, 0, 54, 217, 132, 0, 0, 0, 88, 0, 55, 145, 202, 0, 0, 0, 60, 12, 149, 161, 39, 0, 0, 0, 74, 73, 169, 115, 241, 0, 0, 0, 116]
abbrev dktX6_clause_1 : List UInt8 := dkwX6_clause_1 ++ dktX6_clause_2
def dkwX6_clause_0 : List UInt8 := [43, 77, 2, 62, 44, 182, 0, 81]
abbrev dktX6_clause_0 : List UInt8 := dkwX6_clause_0 ++ dktX6_clause_1
theorem dksX6_clause_0 : cX6_clause.data.toList.drop 0 = dktX6_clause_0 := by decide +kernel
theorem dksX6_clause_1 : cX6_clause.data.toList.drop 8 = dktX6_clause_1 := dk_seg dksX6_clause_0 8 rfl rfl
theorem dksX6_clause_2 : cX6_clause.data.toList.drop 68 = dktX6_clause_2 := dk_seg dksX6_clause_1 60 rfl rfl
theorem dksX6_clause_3 : cX6_clause.data.toList.drop 92 = dktX6_clause_3 := dk_seg dksX6_clause_2 24 rfl rfl
theorem dksX6_clause_4 : cX6_clause.data.toList.drop 116 = dktX6_clause_4 := dk_seg dksX6_clause_3 24 rfl rfl
theorem dksX6_clause_5 : cX6_clause.data.toList.drop 139 = dktX6_clause_5 := dk_seg dksX6_clause_4 23 rfl rfl
theorem dksX6_clause_6 : cX6_clause.data.toList.drop 150 = dktX6_clause_6 := dk_seg dksX6_clause_5 11 rfl rfl
theorem dksX6_clause_7 : cX6_clause.data.toList.drop 188 = dktX6_clause_7 := dk_seg dksX6_clause_6 38 rfl rfl
theorem dksX6_clause_8 : cX6_clause.data.toList.drop 211 = dktX6_clause_8 := dk_seg dksX6_clause_7 23 rfl rfl
theorem dksX6_clause_9 : cX6_clause.data.toList.drop 234 = dktX6_clause_9 := dk_seg dksX6_clause_8 23 rfl rfl
theorem dksX6_clause_10 : cX6_clause.data.toList.drop 258 = dktX6_clause_10 := dk_seg dksX6_clause_9 24 rfl rfl
theorem dksX6_clause_11 : cX6_clause.data.toList.drop 280 = dktX6_clause_11 := dk_seg dksX6_clause_10 22 rfl rfl
theorem dksX6_clause_12 : cX6_clause.data.toList.drop 303 = dktX6_clause_12 := dk_seg dksX6_clause_11 23 rfl rfl
theorem dksX6_clause_13 : cX6_clause.data.toList.drop 327 = dktX6_clause_13 := dk_seg dksX6_clause_12 24 rfl rfl
theorem dksX6_clause_14 : cX6_clause.data.toList.drop 351 = dktX6_clause_14 := dk_seg dksX6_clause_13 24 rfl rfl
theorem dksX6_clause_15 : cX6_clause.data.toList.drop 374 = dktX6_clause_15 := dk_seg dksX6_clause_14 23 rfl rfl
theorem dksX6_clause_16 : cX6_clause.data.toList.drop 396 = dktX6_clause_16 := dk_seg dksX6_clause_15 22 rfl rfl
theorem dksX6_clause_17 : cX6_clause.data.toList.drop 420 = dktX6_clause_17 := dk_seg dksX6_clause_16 24 rfl rfl
theorem dX6_clause_0 : decode cX6_clause 0 = .ok (.aload_n 1, 1) := dk_43 (dk_at dksX6_clause_0 0 rfl rfl)
theorem dX6_clause_1 : decode cX6_clause 1 = .ok (.astore_n 2, 1) := dk_77 (dk_at dksX6_clause_0 1 rfl rfl)
theorem dX6_clause_2 : decode cX6_clause 2 = .ok (.iconst (-1), 1) := dk_2 (dk_at dksX6_clause_0 2 rfl rfl)
theorem dX6_clause_3 : decode cX6_clause 3 = .ok (.istore_n 3, 1) := dk_62 (dk_at dksX6_clause_0 3 rfl rfl)
theorem dX6_clause_4 : decode cX6_clause 4 = .ok (.aload_n 2, 1) := dk_44 (dk_at dksX6_clause_0 4 rfl rfl)
theorem dX6_clause_5 : decode cX6_clause 5 = .ok (.invokevirtual 81, 3) := dk_182 0 81 (dk_at dksX6_clause_0 5 rfl rfl)
theorem dX6_clause_8 : decode cX6_clause 8 = .ok (.lookupswitch 141 #[(-988477296, 102), (3443497, 130), (3594628, 88), (3641802, 60), (211132711, 74), (1235842033, 116)], 60) := by decide +kernel
theorem dX6_clause_68 : decode cX6_clause 68 = .ok (.aload_n 2, 1) := dk_44 (dk_at dksX6_clause_2 0 rfl rfl)
theorem dX6_clause_69 : decode cX6_clause 69 = .ok (.ldc 87, 2) := dk_18 87 (dk_at dksX6_clause_2 1 rfl rfl)
theorem dX6_clause_71 : decode cX6_clause 71 = .ok (.invokevirtual 89, 3) := dk_182 0 89 (dk_at dksX6_clause_2 3 rfl rfl)
theorem dX6_clause_74 : decode cX6_clause 74 = .ok (.ifCond .eq 75, 3) := dk_153 0 75 (dk_at dksX6_clause_2 6 rfl rfl)
theorem dX6_clause_77 : decode cX6_clause 77 = .ok (.iconst 0, 1) := dk_3 (dk_at dksX6_clause_2 9 rfl rfl)
theorem dX6_clause_78 : decode cX6_clause 78 = .ok (.istore_n 3, 1) := dk_62 (dk_at dksX6_clause_2 10 rfl rfl)
theorem dX6_clause_79 : decode cX6_clause 79 = .ok (.goto 70, 3) := dk_167 0 70 (dk_at dksX6_clause_2 11 rfl rfl)
theorem dX6_clause_82 : decode cX6_clause 82 = .ok (.aload_n 2, 1) := dk_44 (dk_at dksX6_clause_2 14 rfl rfl)
theorem dX6_clause_83 : decode cX6_clause 83 = .ok (.ldc 93, 2) := dk_18 93 (dk_at dksX6_clause_2 15 rfl rfl)
theorem dX6_clause_85 : decode cX6_clause 85 = .ok (.invokevirtual 89, 3) := dk_182 0 89 (dk_at dksX6_clause_2 17 rfl rfl)
theorem dX6_clause_88 : decode cX6_clause 88 = .ok (.ifCond .eq 61, 3) := dk_153 0 61 (dk_at dksX6_clause_2 20 rfl rfl)
theorem dX6_clause_91 : decode cX6_clause 91 = .ok (.iconst 1, 1) := dk_4 (dk_at dksX6_clause_2 23 rfl rfl)
theorem dX6_clause_92 : decode cX6_clause 92 = .ok (.istore_n 3, 1) := dk_62 (dk_at dksX6_clause_3 0 rfl rfl)
theorem dX6_clause_93 : decode cX6_clause 93 = .ok (.goto 56, 3) := dk_167 0 56 (dk_at dksX6_clause_3 1 rfl rfl)
theorem dX6_clause_96 : decode cX6_clause 96 = .ok (.aload_n 2, 1) := dk_44 (dk_at dksX6_clause_3 4 rfl rfl)
theorem dX6_clause_97 : decode cX6_clause 97 = .ok (.ldc 95, 2) := dk_18 95 (dk_at dksX6_clause_3 5 rfl rfl)
theorem dX6_clause_99 : decode cX6_clause 99 = .ok (.invokevirtual 89, 3) := dk_182 0 89 (dk_at dksX6_clause_3 7 rfl rfl)
theorem dX6_clause_102 : decode cX6_clause 102 = .ok (.ifCond .eq 47, 3) := dk_153 0 47 (dk_at dksX6_clause_3 10 rfl rfl)
theorem dX6_clause_105 : decode cX6_clause 105 = .ok (.iconst 2, 1) := dk_5 (dk_at dksX6_clause_3 13 rfl rfl)
theorem dX6_clause_106 : decode cX6_clause 106 = .ok (.istore_n 3, 1) := dk_62 (dk_at dksX6_clause_3 14 rfl rfl)
theorem dX6_clause_107 : decode cX6_clause 107 = .ok (.goto 42, 3) := dk_167 0 42 (dk_at dksX6_clause_3 15 rfl rfl)
theorem dX6_clause_110 : decode cX6_clause 110 = .ok (.aload_n 2, 1) := dk_44 (dk_at dksX6_clause_3 18 rfl rfl)
theorem dX6_clause_111 : decode cX6_clause 111 = .ok (.ldc 97, 2) := dk_18 97 (dk_at dksX6_clause_3 19 rfl rfl)
theorem dX6_clause_113 : decode cX6_clause 113 = .ok (.invokevirtual 89, 3) := dk_182 0 89 (dk_at dksX6_clause_3 21 rfl rfl)
theorem dX6_clause_116 : decode cX6_clause 116 = .ok (.ifCond .eq 33, 3) := dk_153 0 33 (dk_at dksX6_clause_4 0 rfl rfl)
theorem dX6_clause_119 : decode cX6_clause 119 = .ok (.iconst 3, 1) := dk_6 (dk_at dksX6_clause_4 3 rfl rfl)
theorem dX6_clause_120 : decode cX6_clause 120 = .ok (.istore_n 3, 1) := dk_62 (dk_at dksX6_clause_4 4 rfl rfl)
theorem dX6_clause_121 : decode cX6_clause 121 = .ok (.goto 28, 3) := dk_167 0 28 (dk_at dksX6_clause_4 5 rfl rfl)
theorem dX6_clause_124 : decode cX6_clause 124 = .ok (.aload_n 2, 1) := dk_44 (dk_at dksX6_clause_4 8 rfl rfl)
theorem dX6_clause_125 : decode cX6_clause 125 = .ok (.ldc 99, 2) := dk_18 99 (dk_at dksX6_clause_4 9 rfl rfl)
theorem dX6_clause_127 : decode cX6_clause 127 = .ok (.invokevirtual 89, 3) := dk_182 0 89 (dk_at dksX6_clause_4 11 rfl rfl)
theorem dX6_clause_130 : decode cX6_clause 130 = .ok (.ifCond .eq 19, 3) := dk_153 0 19 (dk_at dksX6_clause_4 14 rfl rfl)
theorem dX6_clause_133 : decode cX6_clause 133 = .ok (.iconst 4, 1) := dk_7 (dk_at dksX6_clause_4 17 rfl rfl)
theorem dX6_clause_134 : decode cX6_clause 134 = .ok (.istore_n 3, 1) := dk_62 (dk_at dksX6_clause_4 18 rfl rfl)
theorem dX6_clause_135 : decode cX6_clause 135 = .ok (.goto 14, 3) := dk_167 0 14 (dk_at dksX6_clause_4 19 rfl rfl)
theorem dX6_clause_138 : decode cX6_clause 138 = .ok (.aload_n 2, 1) := dk_44 (dk_at dksX6_clause_4 22 rfl rfl)
theorem dX6_clause_139 : decode cX6_clause 139 = .ok (.ldc 101, 2) := dk_18 101 (dk_at dksX6_clause_5 0 rfl rfl)
theorem dX6_clause_141 : decode cX6_clause 141 = .ok (.invokevirtual 89, 3) := dk_182 0 89 (dk_at dksX6_clause_5 2 rfl rfl)
theorem dX6_clause_144 : decode cX6_clause 144 = .ok (.ifCond .eq 5, 3) := dk_153 0 5 (dk_at dksX6_clause_5 5 rfl rfl)
theorem dX6_clause_147 : decode cX6_clause 147 = .ok (.iconst 5, 1) := dk_8 (dk_at dksX6_clause_5 8 rfl rfl)
theorem dX6_clause_148 : decode cX6_clause 148 = .ok (.istore_n 3, 1) := dk_62 (dk_at dksX6_clause_5 9 rfl rfl)
theorem dX6_clause_149 : decode cX6_clause 149 = .ok (.iload_n 3, 1) := dk_29 (dk_at dksX6_clause_5 10 rfl rfl)
theorem dX6_clause_150 : decode cX6_clause 150 = .ok (.tableswitch 280 0 5 #[38, 53, 92, 166, 212, 233], 38) := by decide +kernel
theorem dX6_clause_188 : decode cX6_clause 188 = .ok (.aload_n 0, 1) := dk_42 (dk_at dksX6_clause_7 0 rfl rfl)
theorem dX6_clause_189 : decode cX6_clause 189 = .ok (.invokevirtual 77, 3) := dk_182 0 77 (dk_at dksX6_clause_7 1 rfl rfl)
theorem dX6_clause_192 : decode cX6_clause 192 = .ok (.aload_n 0, 1) := dk_42 (dk_at dksX6_clause_7 4 rfl rfl)
theorem dX6_clause_193 : decode cX6_clause 193 = .ok (.aload_n 0, 1) := dk_42 (dk_at dksX6_clause_7 5 rfl rfl)
theorem dX6_clause_194 : decode cX6_clause 194 = .ok (.invokevirtual 103, 3) := dk_182 0 103 (dk_at dksX6_clause_7 6 rfl rfl)
theorem dX6_clause_197 : decode cX6_clause 197 = .ok (.invokevirtual 106, 3) := dk_182 0 106 (dk_at dksX6_clause_7 9 rfl rfl)
theorem dX6_clause_200 : decode cX6_clause 200 = .ok (.goto 236, 3) := dk_167 0 236 (dk_at dksX6_clause_7 12 rfl rfl)
theorem dX6_clause_203 : decode cX6_clause 203 = .ok (.aload_n 0, 1) := dk_42 (dk_at dksX6_clause_7 15 rfl rfl)
theorem dX6_clause_204 : decode cX6_clause 204 = .ok (.invokevirtual 77, 3) := dk_182 0 77 (dk_at dksX6_clause_7 16 rfl rfl)
theorem dX6_clause_207 : decode cX6_clause 207 = .ok (.aload_n 0, 1) := dk_42 (dk_at dksX6_clause_7 19 rfl rfl)
theorem dX6_clause_208 : decode cX6_clause 208 = .ok (.invokevirtual 103, 3) := dk_182 0 103 (dk_at dksX6_clause_7 20 rfl rfl)
theorem dX6_clause_211 : decode cX6_clause 211 = .ok (.istore 4, 2) := dk_54 4 (dk_at dksX6_clause_8 0 rfl rfl)
theorem dX6_clause_213 : decode cX6_clause 213 = .ok (.aload_n 0, 1) := dk_42 (dk_at dksX6_clause_8 2 rfl rfl)
theorem dX6_clause_214 : decode cX6_clause 214 = .ok (.iload 4, 2) := dk_21 4 (dk_at dksX6_clause_8 3 rfl rfl)
theorem dX6_clause_216 : decode cX6_clause 216 = .ok (.invokevirtual 108, 3) := dk_182 0 108 (dk_at dksX6_clause_8 5 rfl rfl)
theorem dX6_clause_219 : decode cX6_clause 219 = .ok (.istore 5, 2) := dk_54 5 (dk_at dksX6_clause_8 8 rfl rfl)
theorem dX6_clause_221 : decode cX6_clause 221 = .ok (.aload_n 0, 1) := dk_42 (dk_at dksX6_clause_8 10 rfl rfl)
theorem dX6_clause_222 : decode cX6_clause 222 = .ok (.getfield 38, 3) := dk_180 0 38 (dk_at dksX6_clause_8 11 rfl rfl)
theorem dX6_clause_225 : decode cX6_clause 225 = .ok (.iload 4, 2) := dk_21 4 (dk_at dksX6_clause_8 14 rfl rfl)
theorem dX6_clause_227 : decode cX6_clause 227 = .ok (.putfield 112, 3) := dk_181 0 112 (dk_at dksX6_clause_8 16 rfl rfl)
theorem dX6_clause_230 : decode cX6_clause 230 = .ok (.aload_n 0, 1) := dk_42 (dk_at dksX6_clause_8 19 rfl rfl)
theorem dX6_clause_231 : decode cX6_clause 231 = .ok (.getfield 38, 3) := dk_180 0 38 (dk_at dksX6_clause_8 20 rfl rfl)
theorem dX6_clause_234 : decode cX6_clause 234 = .ok (.iload 5, 2) := dk_21 5 (dk_at dksX6_clause_9 0 rfl rfl)
theorem dX6_clause_236 : decode cX6_clause 236 = .ok (.putfield 115, 3) := dk_181 0 115 (dk_at dksX6_clause_9 2 rfl rfl)
theorem dX6_clause_239 : decode cX6_clause 239 = .ok (.goto 197, 3) := dk_167 0 197 (dk_at dksX6_clause_9 5 rfl rfl)
theorem dX6_clause_242 : decode cX6_clause 242 = .ok (.aload_n 0, 1) := dk_42 (dk_at dksX6_clause_9 8 rfl rfl)
theorem dX6_clause_243 : decode cX6_clause 243 = .ok (.aload_n 0, 1) := dk_42 (dk_at dksX6_clause_9 9 rfl rfl)
theorem dX6_clause_244 : decode cX6_clause 244 = .ok (.getfield 38, 3) := dk_180 0 38 (dk_at dksX6_clause_9 10 rfl rfl)
theorem dX6_clause_247 : decode cX6_clause 247 = .ok (.getfield 118, 3) := dk_180 0 118 (dk_at dksX6_clause_9 13 rfl rfl)
theorem dX6_clause_250 : decode cX6_clause 250 = .ok (.invokevirtual 122, 3) := dk_182 0 122 (dk_at dksX6_clause_9 16 rfl rfl)
theorem dX6_clause_253 : decode cX6_clause 253 = .ok (.bipush 6, 2) := dk_16 6 (dk_at dksX6_clause_9 19 rfl rfl)
theorem dX6_clause_255 : decode cX6_clause 255 = .ok (.if_icmp .ge 7, 3) := dk_162 0 7 (dk_at dksX6_clause_9 21 rfl rfl)
theorem dX6_clause_258 : decode cX6_clause 258 = .ok (.iconst 1, 1) := dk_4 (dk_at dksX6_clause_10 0 rfl rfl)
theorem dX6_clause_259 : decode cX6_clause 259 = .ok (.goto 4, 3) := dk_167 0 4 (dk_at dksX6_clause_10 1 rfl rfl)
theorem dX6_clause_262 : decode cX6_clause 262 = .ok (.iconst 0, 1) := dk_3 (dk_at dksX6_clause_10 4 rfl rfl)
theorem dX6_clause_263 : decode cX6_clause 263 = .ok (.iconst 3, 1) := dk_6 (dk_at dksX6_clause_10 5 rfl rfl)
theorem dX6_clause_264 : decode cX6_clause 264 = .ok (.invokevirtual 21, 3) := dk_182 0 21 (dk_at dksX6_clause_10 6 rfl rfl)
theorem dX6_clause_267 : decode cX6_clause 267 = .ok (.aload_n 0, 1) := dk_42 (dk_at dksX6_clause_10 9 rfl rfl)
theorem dX6_clause_268 : decode cX6_clause 268 = .ok (.invokevirtual 77, 3) := dk_182 0 77 (dk_at dksX6_clause_10 10 rfl rfl)
theorem dX6_clause_271 : decode cX6_clause 271 = .ok (.aload_n 0, 1) := dk_42 (dk_at dksX6_clause_10 13 rfl rfl)
theorem dX6_clause_272 : decode cX6_clause 272 = .ok (.invokevirtual 103, 3) := dk_182 0 103 (dk_at dksX6_clause_10 14 rfl rfl)
theorem dX6_clause_275 : decode cX6_clause 275 = .ok (.istore 6, 2) := dk_54 6 (dk_at dksX6_clause_10 17 rfl rfl)
theorem dX6_clause_277 : decode cX6_clause 277 = .ok (.aload_n 0, 1) := dk_42 (dk_at dksX6_clause_10 19 rfl rfl)
theorem dX6_clause_278 : decode cX6_clause 278 = .ok (.iload 6, 2) := dk_21 6 (dk_at dksX6_clause_10 20 rfl rfl)
theorem dX6_clause_280 : decode cX6_clause 280 = .ok (.invokevirtual 108, 3) := dk_182 0 108 (dk_at dksX6_clause_11 0 rfl rfl)
theorem dX6_clause_283 : decode cX6_clause 283 = .ok (.istore 7, 2) := dk_54 7 (dk_at dksX6_clause_11 3 rfl rfl)
theorem dX6_clause_285 : decode cX6_clause 285 = .ok (.aload_n 0, 1) := dk_42 (dk_at dksX6_clause_11 5 rfl rfl)
theorem dX6_clause_286 : decode cX6_clause 286 = .ok (.getfield 38, 3) := dk_180 0 38 (dk_at dksX6_clause_11 6 rfl rfl)
theorem dX6_clause_289 : decode cX6_clause 289 = .ok (.getfield 118, 3) := dk_180 0 118 (dk_at dksX6_clause_11 9 rfl rfl)
theorem dX6_clause_292 : decode cX6_clause 292 = .ok (.new 127, 3) := dk_187 0 127 (dk_at dksX6_clause_11 12 rfl rfl)
theorem dX6_clause_295 : decode cX6_clause 295 = .ok (.dup, 1) := dk_89 (dk_at dksX6_clause_11 15 rfl rfl)
theorem dX6_clause_296 : decode cX6_clause 296 = .ok (.iload 6, 2) := dk_21 6 (dk_at dksX6_clause_11 16 rfl rfl)
theorem dX6_clause_298 : decode cX6_clause 298 = .ok (.iload 7, 2) := dk_21 7 (dk_at dksX6_clause_11 18 rfl rfl)
theorem dX6_clause_300 : decode cX6_clause 300 = .ok (.aload_n 0, 1) := dk_42 (dk_at dksX6_clause_11 20 rfl rfl)
theorem dX6_clause_301 : decode cX6_clause 301 = .ok (.iconst 1, 1) := dk_4 (dk_at dksX6_clause_11 21 rfl rfl)
theorem dX6_clause_302 : decode cX6_clause 302 = .ok (.iconst 3, 1) := dk_6 (dk_at dksX6_clause_11 22 rfl rfl)
theorem dX6_clause_303 : decode cX6_clause 303 = .ok (.invokevirtual 25, 3) := dk_182 0 25 (dk_at dksX6_clause_12 0 rfl rfl)
theorem dX6_clause_306 : decode cX6_clause 306 = .ok (.invokespecial 129, 3) := dk_183 0 129 (dk_at dksX6_clause_12 3 rfl rfl)
theorem dX6_clause_309 : decode cX6_clause 309 = .ok (.invokevirtual 132, 3) := dk_182 0 132 (dk_at dksX6_clause_12 6 rfl rfl)
theorem dX6_clause_312 : decode cX6_clause 312 = .ok (.pop, 1) := dk_87 (dk_at dksX6_clause_12 9 rfl rfl)
theorem dX6_clause_313 : decode cX6_clause 313 = .ok (.goto 123, 3) := dk_167 0 123 (dk_at dksX6_clause_12 10 rfl rfl)
theorem dX6_clause_316 : decode cX6_clause 316 = .ok (.aload_n 0, 1) := dk_42 (dk_at dksX6_clause_12 13 rfl rfl)
theorem dX6_clause_317 : decode cX6_clause 317 = .ok (.aload_n 0, 1) := dk_42 (dk_at dksX6_clause_12 14 rfl rfl)
theorem dX6_clause_318 : decode cX6_clause 318 = .ok (.getfield 38, 3) := dk_180 0 38 (dk_at dksX6_clause_12 15 rfl rfl)
theorem dX6_clause_321 : decode cX6_clause 321 = .ok (.getfield 135, 3) := dk_180 0 135 (dk_at dksX6_clause_12 18 rfl rfl)
theorem dX6_clause_324 : decode cX6_clause 324 = .ok (.invokevirtual 122, 3) := dk_182 0 122 (dk_at dksX6_clause_12 21 rfl rfl)
theorem dX6_clause_327 : decode cX6_clause 327 = .ok (.iconst 4, 1) := dk_7 (dk_at dksX6_clause_13 0 rfl rfl)
theorem dX6_clause_328 : decode cX6_clause 328 = .ok (.if_icmp .ge 7, 3) := dk_162 0 7 (dk_at dksX6_clause_13 1 rfl rfl)
theorem dX6_clause_331 : decode cX6_clause 331 = .ok (.iconst 1, 1) := dk_4 (dk_at dksX6_clause_13 4 rfl rfl)
theorem dX6_clause_332 : decode cX6_clause 332 = .ok (.goto 4, 3) := dk_167 0 4 (dk_at dksX6_clause_13 5 rfl rfl)
theorem dX6_clause_335 : decode cX6_clause 335 = .ok (.iconst 0, 1) := dk_3 (dk_at dksX6_clause_13 8 rfl rfl)
theorem dX6_clause_336 : decode cX6_clause 336 = .ok (.iconst 3, 1) := dk_6 (dk_at dksX6_clause_13 9 rfl rfl)
theorem dX6_clause_337 : decode cX6_clause 337 = .ok (.invokevirtual 21, 3) := dk_182 0 21 (dk_at dksX6_clause_13 10 rfl rfl)
theorem dX6_clause_340 : decode cX6_clause 340 = .ok (.aload_n 0, 1) := dk_42 (dk_at dksX6_clause_13 13 rfl rfl)
theorem dX6_clause_341 : decode cX6_clause 341 = .ok (.invokevirtual 77, 3) := dk_182 0 77 (dk_at dksX6_clause_13 14 rfl rfl)
theorem dX6_clause_344 : decode cX6_clause 344 = .ok (.aload_n 0, 1) := dk_42 (dk_at dksX6_clause_13 17 rfl rfl)
theorem dX6_clause_345 : decode cX6_clause 345 = .ok (.getfield 38, 3) := dk_180 0 38 (dk_at dksX6_clause_13 18 rfl rfl)
theorem dX6_clause_348 : decode cX6_clause 348 = .ok (.getfield 135, 3) := dk_180 0 135 (dk_at dksX6_clause_13 21 rfl rfl)
theorem dX6_clause_351 : decode cX6_clause 351 = .ok (.aload_n 0, 1) := dk_42 (dk_at dksX6_clause_14 0 rfl rfl)
theorem dX6_clause_352 : decode cX6_clause 352 = .ok (.invokevirtual 138, 3) := dk_182 0 138 (dk_at dksX6_clause_14 1 rfl rfl)
theorem dX6_clause_355 : decode cX6_clause 355 = .ok (.invokevirtual 132, 3) := dk_182 0 132 (dk_at dksX6_clause_14 4 rfl rfl)
theorem dX6_clause_358 : decode cX6_clause 358 = .ok (.pop, 1) := dk_87 (dk_at dksX6_clause_14 7 rfl rfl)
theorem dX6_clause_359 : decode cX6_clause 359 = .ok (.goto 77, 3) := dk_167 0 77 (dk_at dksX6_clause_14 8 rfl rfl)
theorem dX6_clause_362 : decode cX6_clause 362 = .ok (.aload_n 0, 1) := dk_42 (dk_at dksX6_clause_14 11 rfl rfl)
theorem dX6_clause_363 : decode cX6_clause 363 = .ok (.invokevirtual 77, 3) := dk_182 0 77 (dk_at dksX6_clause_14 12 rfl rfl)
theorem dX6_clause_366 : decode cX6_clause 366 = .ok (.aload_n 0, 1) := dk_42 (dk_at dksX6_clause_14 15 rfl rfl)
theorem dX6_clause_367 : decode cX6_clause 367 = .ok (.getfield 38, 3) := dk_180 0 38 (dk_at dksX6_clause_14 16 rfl rfl)
theorem dX6_clause_370 : decode cX6_clause 370 = .ok (.aload_n 0, 1) := dk_42 (dk_at dksX6_clause_14 19 rfl rfl)
theorem dX6_clause_371 : decode cX6_clause 371 = .ok (.iconst 1, 1) := dk_4 (dk_at dksX6_clause_14 20 rfl rfl)
theorem dX6_clause_372 : decode cX6_clause 372 = .ok (.bipush 30, 2) := dk_16 30 (dk_at dksX6_clause_14 21 rfl rfl)
theorem dX6_clause_374 : decode cX6_clause 374 = .ok (.invokevirtual 25, 3) := dk_182 0 25 (dk_at dksX6_clause_15 0 rfl rfl)
theorem dX6_clause_377 : decode cX6_clause 377 = .ok (.putfield 141, 3) := dk_181 0 141 (dk_at dksX6_clause_15 3 rfl rfl)
theorem dX6_clause_380 : decode cX6_clause 380 = .ok (.goto 56, 3) := dk_167 0 56 (dk_at dksX6_clause_15 6 rfl rfl)
theorem dX6_clause_383 : decode cX6_clause 383 = .ok (.aload_n 0, 1) := dk_42 (dk_at dksX6_clause_15 9 rfl rfl)
theorem dX6_clause_384 : decode cX6_clause 384 = .ok (.aload_n 0, 1) := dk_42 (dk_at dksX6_clause_15 10 rfl rfl)
theorem dX6_clause_385 : decode cX6_clause 385 = .ok (.getfield 38, 3) := dk_180 0 38 (dk_at dksX6_clause_15 11 rfl rfl)
theorem dX6_clause_388 : decode cX6_clause 388 = .ok (.getfield 143, 3) := dk_180 0 143 (dk_at dksX6_clause_15 14 rfl rfl)
theorem dX6_clause_391 : decode cX6_clause 391 = .ok (.invokevirtual 122, 3) := dk_182 0 122 (dk_at dksX6_clause_15 17 rfl rfl)
theorem dX6_clause_394 : decode cX6_clause 394 = .ok (.bipush 20, 2) := dk_16 20 (dk_at dksX6_clause_15 20 rfl rfl)
theorem dX6_clause_396 : decode cX6_clause 396 = .ok (.if_icmp .ge 7, 3) := dk_162 0 7 (dk_at dksX6_clause_16 0 rfl rfl)
theorem dX6_clause_399 : decode cX6_clause 399 = .ok (.iconst 1, 1) := dk_4 (dk_at dksX6_clause_16 3 rfl rfl)
theorem dX6_clause_400 : decode cX6_clause 400 = .ok (.goto 4, 3) := dk_167 0 4 (dk_at dksX6_clause_16 4 rfl rfl)
theorem dX6_clause_403 : decode cX6_clause 403 = .ok (.iconst 0, 1) := dk_3 (dk_at dksX6_clause_16 7 rfl rfl)
theorem dX6_clause_404 : decode cX6_clause 404 = .ok (.iconst 3, 1) := dk_6 (dk_at dksX6_clause_16 8 rfl rfl)
theorem dX6_clause_405 : decode cX6_clause 405 = .ok (.invokevirtual 21, 3) := dk_182 0 21 (dk_at dksX6_clause_16 9 rfl rfl)
theorem dX6_clause_408 : decode cX6_clause 408 = .ok (.aload_n 0, 1) := dk_42 (dk_at dksX6_clause_16 12 rfl rfl)
theorem dX6_clause_409 : decode cX6_clause 409 = .ok (.invokevirtual 77, 3) := dk_182 0 77 (dk_at dksX6_clause_16 13 rfl rfl)
theorem dX6_clause_412 : decode cX6_clause 412 = .ok (.aload_n 0, 1) := dk_42 (dk_at dksX6_clause_16 16 rfl rfl)
theorem dX6_clause_413 : decode cX6_clause 413 = .ok (.getfield 38, 3) := dk_180 0 38 (dk_at dksX6_clause_16 17 rfl rfl)
theorem dX6_clause_416 : decode cX6_clause 416 = .ok (.getfield 143, 3) := dk_180 0 143 (dk_at dksX6_clause_16 20 rfl rfl)
theorem dX6_clause_419 : decode cX6_clause 419 = .ok (.aload_n 0, 1) := dk_42 (dk_at dksX6_clause_16 23 rfl rfl)
theorem dX6_clause_420 : decode cX6_clause 420 = .ok (.invokevirtual 146, 3) := dk_182 0 146 (dk_at dksX6_clause_17 0 rfl rfl)
theorem dX6_clause_423 : decode cX6_clause 423 = .ok (.invokevirtual 132, 3) := dk_182 0 132 (dk_at dksX6_clause_17 3 rfl rfl)
theorem dX6_clause_426 : decode cX6_clause 426 = .ok (.pop, 1) := dk_87 (dk_at dksX6_clause_17 6 rfl rfl)
theorem dX6_clause_427 : decode cX6_clause 427 = .ok (.goto 9, 3) := dk_167 0 9 (dk_at dksX6_clause_17 7 rfl rfl)
theorem dX6_clause_430 : decode cX6_clause 430 = .ok (.aload_n 0, 1) := dk_42 (dk_at dksX6_clause_17 10 rfl rfl)
theorem dX6_clause_431 : decode cX6_clause 431 = .ok (.iconst 0, 1) := dk_3 (dk_at dksX6_clause_17 11 rfl rfl)
theorem dX6_clause_432 : decode cX6_clause 432 = .ok (.iconst 1, 1) := dk_4 (dk_at dksX6_clause_17 12 rfl rfl)
theorem dX6_clause_433 : decode cX6_clause 433 = .ok (.invokevirtual 21, 3) := dk_182 0 21 (dk_at dksX6_clause_17 13 rfl rfl)
theorem dX6_clause_436 : decode cX6_clause 436 = .ok (.return_, 1) := dk_177 (dk_at dksX6_clause_17 16 rfl rfl)
abbrev cX6_column : ByteArray := prog_5_method_3_code
def yX6_column : MethodName := ⟨RX6, "column", "()I"⟩
def dkwX6_column_0 : List UInt8 := [42, 3, 42, 180, 0, 38, 180, 0, 63, 4, 100, 182, 0, 25, 172]
abbrev dktX6_column_0 : List UInt8 := dkwX6_column_0 ++ []
theorem dksX6_column_0 : cX6_column.data.toList.drop 0 = dktX6_column_0 := by decide +kernel
theorem dX6_column_0 : decode cX6_column 0 = .ok (.aload_n 0, 1) := dk_42 (dk_at dksX6_column_0 0 rfl rfl)
theorem dX6_column_1 : decode cX6_column 1 = .ok (.iconst 0, 1) := dk_3 (dk_at dksX6_column_0 1 rfl rfl)
theorem dX6_column_2 : decode cX6_column 2 = .ok (.aload_n 0, 1) := dk_42 (dk_at dksX6_column_0 2 rfl rfl)
theorem dX6_column_3 : decode cX6_column 3 = .ok (.getfield 38, 3) := dk_180 0 38 (dk_at dksX6_column_0 3 rfl rfl)
theorem dX6_column_6 : decode cX6_column 6 = .ok (.getfield 63, 3) := dk_180 0 63 (dk_at dksX6_column_0 6 rfl rfl)
theorem dX6_column_9 : decode cX6_column 9 = .ok (.iconst 1, 1) := dk_4 (dk_at dksX6_column_0 9 rfl rfl)
theorem dX6_column_10 : decode cX6_column 10 = .ok (.isub, 1) := dk_100 (dk_at dksX6_column_0 10 rfl rfl)
theorem dX6_column_11 : decode cX6_column 11 = .ok (.invokevirtual 25, 3) := dk_182 0 25 (dk_at dksX6_column_0 11 rfl rfl)
theorem dX6_column_14 : decode cX6_column 14 = .ok (.ireturn, 1) := dk_172 (dk_at dksX6_column_0 14 rfl rfl)
abbrev cX6_wall : ByteArray := prog_5_method_7_code
def yX6_wall : MethodName := ⟨RX6, "wall", "(I)V"⟩
def dkwX6_wall_3 : List UInt8 := [7, 182, 0, 21, 42, 182, 0, 77, 42, 180, 0, 38, 180, 0, 152, 16, 12, 28, 104, 27, 96, 4, 84, 177]
abbrev dktX6_wall_3 : List UInt8 := dkwX6_wall_3 ++ []
def dkwX6_wall_2 : List UInt8 := [180, 0, 115, 159, 0, 20, 42, 180, 0, 38, 27, 28, 182, 0, 149, 2, 160, 0, 7, 4, 167, 0, 4, 3]
abbrev dktX6_wall_2 : List UInt8 := dkwX6_wall_2 ++ dktX6_wall_3
def dkwX6_wall_1 : List UInt8 := [182, 0, 73, 154, 0, 42, 27, 42, 180, 0, 38, 180, 0, 112, 160, 0, 14, 28, 42, 180, 0, 38]
abbrev dktX6_wall_1 : List UInt8 := dkwX6_wall_1 ++ dktX6_wall_2
def dkwX6_wall_0 : List UInt8 := [42, 3, 42, 180, 0, 38, 180, 0, 67, 4, 100, 182, 0, 70, 61, 42, 42, 180, 0, 38, 27, 28]
abbrev dktX6_wall_0 : List UInt8 := dkwX6_wall_0 ++ dktX6_wall_1
theorem dksX6_wall_0 : cX6_wall.data.toList.drop 0 = dktX6_wall_0 := by decide +kernel
theorem dksX6_wall_1 : cX6_wall.data.toList.drop 22 = dktX6_wall_1 := dk_seg dksX6_wall_0 22 rfl rfl
theorem dksX6_wall_2 : cX6_wall.data.toList.drop 44 = dktX6_wall_2 := dk_seg dksX6_wall_1 22 rfl rfl
theorem dksX6_wall_3 : cX6_wall.data.toList.drop 68 = dktX6_wall_3 := dk_seg dksX6_wall_2 24 rfl rfl
theorem dX6_wall_0 : decode cX6_wall 0 = .ok (.aload_n 0, 1) := dk_42 (dk_at dksX6_wall_0 0 rfl rfl)
theorem dX6_wall_1 : decode cX6_wall 1 = .ok (.iconst 0, 1) := dk_3 (dk_at dksX6_wall_0 1 rfl rfl)
theorem dX6_wall_2 : decode cX6_wall 2 = .ok (.aload_n 0, 1) := dk_42 (dk_at dksX6_wall_0 2 rfl rfl)
theorem dX6_wall_3 : decode cX6_wall 3 = .ok (.getfield 38, 3) := dk_180 0 38 (dk_at dksX6_wall_0 3 rfl rfl)
theorem dX6_wall_6 : decode cX6_wall 6 = .ok (.getfield 67, 3) := dk_180 0 67 (dk_at dksX6_wall_0 6 rfl rfl)
theorem dX6_wall_9 : decode cX6_wall 9 = .ok (.iconst 1, 1) := dk_4 (dk_at dksX6_wall_0 9 rfl rfl)
theorem dX6_wall_10 : decode cX6_wall 10 = .ok (.isub, 1) := dk_100 (dk_at dksX6_wall_0 10 rfl rfl)
theorem dX6_wall_11 : decode cX6_wall 11 = .ok (.invokevirtual 70, 3) := dk_182 0 70 (dk_at dksX6_wall_0 11 rfl rfl)
theorem dX6_wall_14 : decode cX6_wall 14 = .ok (.istore_n 2, 1) := dk_61 (dk_at dksX6_wall_0 14 rfl rfl)
theorem dX6_wall_15 : decode cX6_wall 15 = .ok (.aload_n 0, 1) := dk_42 (dk_at dksX6_wall_0 15 rfl rfl)
theorem dX6_wall_16 : decode cX6_wall 16 = .ok (.aload_n 0, 1) := dk_42 (dk_at dksX6_wall_0 16 rfl rfl)
theorem dX6_wall_17 : decode cX6_wall 17 = .ok (.getfield 38, 3) := dk_180 0 38 (dk_at dksX6_wall_0 17 rfl rfl)
theorem dX6_wall_20 : decode cX6_wall 20 = .ok (.iload_n 1, 1) := dk_27 (dk_at dksX6_wall_0 20 rfl rfl)
theorem dX6_wall_21 : decode cX6_wall 21 = .ok (.iload_n 2, 1) := dk_28 (dk_at dksX6_wall_0 21 rfl rfl)
theorem dX6_wall_22 : decode cX6_wall 22 = .ok (.invokevirtual 73, 3) := dk_182 0 73 (dk_at dksX6_wall_1 0 rfl rfl)
theorem dX6_wall_25 : decode cX6_wall 25 = .ok (.ifCond .ne 42, 3) := dk_154 0 42 (dk_at dksX6_wall_1 3 rfl rfl)
theorem dX6_wall_28 : decode cX6_wall 28 = .ok (.iload_n 1, 1) := dk_27 (dk_at dksX6_wall_1 6 rfl rfl)
theorem dX6_wall_29 : decode cX6_wall 29 = .ok (.aload_n 0, 1) := dk_42 (dk_at dksX6_wall_1 7 rfl rfl)
theorem dX6_wall_30 : decode cX6_wall 30 = .ok (.getfield 38, 3) := dk_180 0 38 (dk_at dksX6_wall_1 8 rfl rfl)
theorem dX6_wall_33 : decode cX6_wall 33 = .ok (.getfield 112, 3) := dk_180 0 112 (dk_at dksX6_wall_1 11 rfl rfl)
theorem dX6_wall_36 : decode cX6_wall 36 = .ok (.if_icmp .ne 14, 3) := dk_160 0 14 (dk_at dksX6_wall_1 14 rfl rfl)
theorem dX6_wall_39 : decode cX6_wall 39 = .ok (.iload_n 2, 1) := dk_28 (dk_at dksX6_wall_1 17 rfl rfl)
theorem dX6_wall_40 : decode cX6_wall 40 = .ok (.aload_n 0, 1) := dk_42 (dk_at dksX6_wall_1 18 rfl rfl)
theorem dX6_wall_41 : decode cX6_wall 41 = .ok (.getfield 38, 3) := dk_180 0 38 (dk_at dksX6_wall_1 19 rfl rfl)
theorem dX6_wall_44 : decode cX6_wall 44 = .ok (.getfield 115, 3) := dk_180 0 115 (dk_at dksX6_wall_2 0 rfl rfl)
theorem dX6_wall_47 : decode cX6_wall 47 = .ok (.if_icmp .eq 20, 3) := dk_159 0 20 (dk_at dksX6_wall_2 3 rfl rfl)
theorem dX6_wall_50 : decode cX6_wall 50 = .ok (.aload_n 0, 1) := dk_42 (dk_at dksX6_wall_2 6 rfl rfl)
theorem dX6_wall_51 : decode cX6_wall 51 = .ok (.getfield 38, 3) := dk_180 0 38 (dk_at dksX6_wall_2 7 rfl rfl)
theorem dX6_wall_54 : decode cX6_wall 54 = .ok (.iload_n 1, 1) := dk_27 (dk_at dksX6_wall_2 10 rfl rfl)
theorem dX6_wall_55 : decode cX6_wall 55 = .ok (.iload_n 2, 1) := dk_28 (dk_at dksX6_wall_2 11 rfl rfl)
theorem dX6_wall_56 : decode cX6_wall 56 = .ok (.invokevirtual 149, 3) := dk_182 0 149 (dk_at dksX6_wall_2 12 rfl rfl)
theorem dX6_wall_59 : decode cX6_wall 59 = .ok (.iconst (-1), 1) := dk_2 (dk_at dksX6_wall_2 15 rfl rfl)
theorem dX6_wall_60 : decode cX6_wall 60 = .ok (.if_icmp .ne 7, 3) := dk_160 0 7 (dk_at dksX6_wall_2 16 rfl rfl)
theorem dX6_wall_63 : decode cX6_wall 63 = .ok (.iconst 1, 1) := dk_4 (dk_at dksX6_wall_2 19 rfl rfl)
theorem dX6_wall_64 : decode cX6_wall 64 = .ok (.goto 4, 3) := dk_167 0 4 (dk_at dksX6_wall_2 20 rfl rfl)
theorem dX6_wall_67 : decode cX6_wall 67 = .ok (.iconst 0, 1) := dk_3 (dk_at dksX6_wall_2 23 rfl rfl)
theorem dX6_wall_68 : decode cX6_wall 68 = .ok (.iconst 4, 1) := dk_7 (dk_at dksX6_wall_3 0 rfl rfl)
theorem dX6_wall_69 : decode cX6_wall 69 = .ok (.invokevirtual 21, 3) := dk_182 0 21 (dk_at dksX6_wall_3 1 rfl rfl)
theorem dX6_wall_72 : decode cX6_wall 72 = .ok (.aload_n 0, 1) := dk_42 (dk_at dksX6_wall_3 4 rfl rfl)
theorem dX6_wall_73 : decode cX6_wall 73 = .ok (.invokevirtual 77, 3) := dk_182 0 77 (dk_at dksX6_wall_3 5 rfl rfl)
theorem dX6_wall_76 : decode cX6_wall 76 = .ok (.aload_n 0, 1) := dk_42 (dk_at dksX6_wall_3 8 rfl rfl)
theorem dX6_wall_77 : decode cX6_wall 77 = .ok (.getfield 38, 3) := dk_180 0 38 (dk_at dksX6_wall_3 9 rfl rfl)
theorem dX6_wall_80 : decode cX6_wall 80 = .ok (.getfield 152, 3) := dk_180 0 152 (dk_at dksX6_wall_3 12 rfl rfl)
theorem dX6_wall_83 : decode cX6_wall 83 = .ok (.bipush 12, 2) := dk_16 12 (dk_at dksX6_wall_3 15 rfl rfl)
theorem dX6_wall_85 : decode cX6_wall 85 = .ok (.iload_n 2, 1) := dk_28 (dk_at dksX6_wall_3 17 rfl rfl)
theorem dX6_wall_86 : decode cX6_wall 86 = .ok (.imul, 1) := dk_104 (dk_at dksX6_wall_3 18 rfl rfl)
theorem dX6_wall_87 : decode cX6_wall 87 = .ok (.iload_n 1, 1) := dk_27 (dk_at dksX6_wall_3 19 rfl rfl)
theorem dX6_wall_88 : decode cX6_wall 88 = .ok (.iadd, 1) := dk_96 (dk_at dksX6_wall_3 20 rfl rfl)
theorem dX6_wall_89 : decode cX6_wall 89 = .ok (.iconst 1, 1) := dk_4 (dk_at dksX6_wall_3 21 rfl rfl)
theorem dX6_wall_90 : decode cX6_wall 90 = .ok (.bastore, 1) := dk_84 (dk_at dksX6_wall_3 22 rfl rfl)
theorem dX6_wall_91 : decode cX6_wall 91 = .ok (.return_, 1) := dk_177 (dk_at dksX6_wall_3 23 rfl rfl)
abbrev cX6_freeRow : ByteArray := prog_5_method_5_code
def yX6_freeRow : MethodName := ⟨RX6, "freeRow", "(I)I"⟩
def dkwX6_freeRow_1 : List UInt8 := [182, 0, 73, 154, 0, 7, 4, 167, 0, 4, 3, 7, 182, 0, 21, 42, 182, 0, 77, 28, 172]
abbrev dktX6_freeRow_1 : List UInt8 := dkwX6_freeRow_1 ++ []
def dkwX6_freeRow_0 : List UInt8 := [42, 3, 42, 180, 0, 38, 180, 0, 67, 4, 100, 182, 0, 70, 61, 42, 42, 180, 0, 38, 27, 28]
abbrev dktX6_freeRow_0 : List UInt8 := dkwX6_freeRow_0 ++ dktX6_freeRow_1
theorem dksX6_freeRow_0 : cX6_freeRow.data.toList.drop 0 = dktX6_freeRow_0 := by decide +kernel
theorem dksX6_freeRow_1 : cX6_freeRow.data.toList.drop 22 = dktX6_freeRow_1 := dk_seg dksX6_freeRow_0 22 rfl rfl
theorem dX6_freeRow_0 : decode cX6_freeRow 0 = .ok (.aload_n 0, 1) := dk_42 (dk_at dksX6_freeRow_0 0 rfl rfl)
theorem dX6_freeRow_1 : decode cX6_freeRow 1 = .ok (.iconst 0, 1) := dk_3 (dk_at dksX6_freeRow_0 1 rfl rfl)
theorem dX6_freeRow_2 : decode cX6_freeRow 2 = .ok (.aload_n 0, 1) := dk_42 (dk_at dksX6_freeRow_0 2 rfl rfl)
theorem dX6_freeRow_3 : decode cX6_freeRow 3 = .ok (.getfield 38, 3) := dk_180 0 38 (dk_at dksX6_freeRow_0 3 rfl rfl)
theorem dX6_freeRow_6 : decode cX6_freeRow 6 = .ok (.getfield 67, 3) := dk_180 0 67 (dk_at dksX6_freeRow_0 6 rfl rfl)
theorem dX6_freeRow_9 : decode cX6_freeRow 9 = .ok (.iconst 1, 1) := dk_4 (dk_at dksX6_freeRow_0 9 rfl rfl)
theorem dX6_freeRow_10 : decode cX6_freeRow 10 = .ok (.isub, 1) := dk_100 (dk_at dksX6_freeRow_0 10 rfl rfl)
theorem dX6_freeRow_11 : decode cX6_freeRow 11 = .ok (.invokevirtual 70, 3) := dk_182 0 70 (dk_at dksX6_freeRow_0 11 rfl rfl)
theorem dX6_freeRow_14 : decode cX6_freeRow 14 = .ok (.istore_n 2, 1) := dk_61 (dk_at dksX6_freeRow_0 14 rfl rfl)
theorem dX6_freeRow_15 : decode cX6_freeRow 15 = .ok (.aload_n 0, 1) := dk_42 (dk_at dksX6_freeRow_0 15 rfl rfl)
theorem dX6_freeRow_16 : decode cX6_freeRow 16 = .ok (.aload_n 0, 1) := dk_42 (dk_at dksX6_freeRow_0 16 rfl rfl)
theorem dX6_freeRow_17 : decode cX6_freeRow 17 = .ok (.getfield 38, 3) := dk_180 0 38 (dk_at dksX6_freeRow_0 17 rfl rfl)
theorem dX6_freeRow_20 : decode cX6_freeRow 20 = .ok (.iload_n 1, 1) := dk_27 (dk_at dksX6_freeRow_0 20 rfl rfl)
theorem dX6_freeRow_21 : decode cX6_freeRow 21 = .ok (.iload_n 2, 1) := dk_28 (dk_at dksX6_freeRow_0 21 rfl rfl)
theorem dX6_freeRow_22 : decode cX6_freeRow 22 = .ok (.invokevirtual 73, 3) := dk_182 0 73 (dk_at dksX6_freeRow_1 0 rfl rfl)
theorem dX6_freeRow_25 : decode cX6_freeRow 25 = .ok (.ifCond .ne 7, 3) := dk_154 0 7 (dk_at dksX6_freeRow_1 3 rfl rfl)
theorem dX6_freeRow_28 : decode cX6_freeRow 28 = .ok (.iconst 1, 1) := dk_4 (dk_at dksX6_freeRow_1 6 rfl rfl)
theorem dX6_freeRow_29 : decode cX6_freeRow 29 = .ok (.goto 4, 3) := dk_167 0 4 (dk_at dksX6_freeRow_1 7 rfl rfl)
theorem dX6_freeRow_32 : decode cX6_freeRow 32 = .ok (.iconst 0, 1) := dk_3 (dk_at dksX6_freeRow_1 10 rfl rfl)
theorem dX6_freeRow_33 : decode cX6_freeRow 33 = .ok (.iconst 4, 1) := dk_7 (dk_at dksX6_freeRow_1 11 rfl rfl)
theorem dX6_freeRow_34 : decode cX6_freeRow 34 = .ok (.invokevirtual 21, 3) := dk_182 0 21 (dk_at dksX6_freeRow_1 12 rfl rfl)
theorem dX6_freeRow_37 : decode cX6_freeRow 37 = .ok (.aload_n 0, 1) := dk_42 (dk_at dksX6_freeRow_1 15 rfl rfl)
theorem dX6_freeRow_38 : decode cX6_freeRow 38 = .ok (.invokevirtual 77, 3) := dk_182 0 77 (dk_at dksX6_freeRow_1 16 rfl rfl)
theorem dX6_freeRow_41 : decode cX6_freeRow 41 = .ok (.iload_n 2, 1) := dk_28 (dk_at dksX6_freeRow_1 19 rfl rfl)
theorem dX6_freeRow_42 : decode cX6_freeRow 42 = .ok (.ireturn, 1) := dk_172 (dk_at dksX6_freeRow_1 20 rfl rfl)
abbrev cX6_picket : ByteArray := prog_5_method_8_code
def yX6_picket : MethodName := ⟨RX6, "picket", "()LMessengerBoard$Picket;"⟩
def dkwX6_picket_3 : List UInt8 := [89, 27, 28, 29, 21, 4, 21, 5, 21, 6, 183, 0, 161, 176]
abbrev dktX6_picket_3 : List UInt8 := dkwX6_picket_3 ++ []
def dkwX6_picket_2 : List UInt8 := [42, 21, 6, 21, 5, 161, 0, 7, 4, 167, 0, 4, 3, 7, 182, 0, 21, 42, 182, 0, 77, 187, 0, 159]
abbrev dktX6_picket_2 : List UInt8 := dkwX6_picket_2 ++ dktX6_picket_3
def dkwX6_picket_1 : List UInt8 := [54, 4, 42, 3, 21, 4, 4, 100, 182, 0, 25, 54, 5, 42, 3, 21, 4, 4, 100, 182, 0, 70, 54, 6]
abbrev dktX6_picket_1 : List UInt8 := dkwX6_picket_1 ++ dktX6_picket_2
def dkwX6_picket_0 : List UInt8 := [42, 182, 0, 103, 60, 42, 182, 0, 156, 61, 42, 3, 6, 182, 0, 25, 62, 42, 4, 16, 20, 182, 0, 25]
abbrev dktX6_picket_0 : List UInt8 := dkwX6_picket_0 ++ dktX6_picket_1
theorem dksX6_picket_0 : cX6_picket.data.toList.drop 0 = dktX6_picket_0 := by decide +kernel
theorem dksX6_picket_1 : cX6_picket.data.toList.drop 24 = dktX6_picket_1 := dk_seg dksX6_picket_0 24 rfl rfl
theorem dksX6_picket_2 : cX6_picket.data.toList.drop 48 = dktX6_picket_2 := dk_seg dksX6_picket_1 24 rfl rfl
theorem dksX6_picket_3 : cX6_picket.data.toList.drop 72 = dktX6_picket_3 := dk_seg dksX6_picket_2 24 rfl rfl
theorem dX6_picket_0 : decode cX6_picket 0 = .ok (.aload_n 0, 1) := dk_42 (dk_at dksX6_picket_0 0 rfl rfl)
theorem dX6_picket_1 : decode cX6_picket 1 = .ok (.invokevirtual 103, 3) := dk_182 0 103 (dk_at dksX6_picket_0 1 rfl rfl)
theorem dX6_picket_4 : decode cX6_picket 4 = .ok (.istore_n 1, 1) := dk_60 (dk_at dksX6_picket_0 4 rfl rfl)
theorem dX6_picket_5 : decode cX6_picket 5 = .ok (.aload_n 0, 1) := dk_42 (dk_at dksX6_picket_0 5 rfl rfl)
theorem dX6_picket_6 : decode cX6_picket 6 = .ok (.invokevirtual 156, 3) := dk_182 0 156 (dk_at dksX6_picket_0 6 rfl rfl)
theorem dX6_picket_9 : decode cX6_picket 9 = .ok (.istore_n 2, 1) := dk_61 (dk_at dksX6_picket_0 9 rfl rfl)
theorem dX6_picket_10 : decode cX6_picket 10 = .ok (.aload_n 0, 1) := dk_42 (dk_at dksX6_picket_0 10 rfl rfl)
theorem dX6_picket_11 : decode cX6_picket 11 = .ok (.iconst 0, 1) := dk_3 (dk_at dksX6_picket_0 11 rfl rfl)
theorem dX6_picket_12 : decode cX6_picket 12 = .ok (.iconst 3, 1) := dk_6 (dk_at dksX6_picket_0 12 rfl rfl)
theorem dX6_picket_13 : decode cX6_picket 13 = .ok (.invokevirtual 25, 3) := dk_182 0 25 (dk_at dksX6_picket_0 13 rfl rfl)
theorem dX6_picket_16 : decode cX6_picket 16 = .ok (.istore_n 3, 1) := dk_62 (dk_at dksX6_picket_0 16 rfl rfl)
theorem dX6_picket_17 : decode cX6_picket 17 = .ok (.aload_n 0, 1) := dk_42 (dk_at dksX6_picket_0 17 rfl rfl)
theorem dX6_picket_18 : decode cX6_picket 18 = .ok (.iconst 1, 1) := dk_4 (dk_at dksX6_picket_0 18 rfl rfl)
theorem dX6_picket_19 : decode cX6_picket 19 = .ok (.bipush 20, 2) := dk_16 20 (dk_at dksX6_picket_0 19 rfl rfl)
theorem dX6_picket_21 : decode cX6_picket 21 = .ok (.invokevirtual 25, 3) := dk_182 0 25 (dk_at dksX6_picket_0 21 rfl rfl)
theorem dX6_picket_24 : decode cX6_picket 24 = .ok (.istore 4, 2) := dk_54 4 (dk_at dksX6_picket_1 0 rfl rfl)
theorem dX6_picket_26 : decode cX6_picket 26 = .ok (.aload_n 0, 1) := dk_42 (dk_at dksX6_picket_1 2 rfl rfl)
theorem dX6_picket_27 : decode cX6_picket 27 = .ok (.iconst 0, 1) := dk_3 (dk_at dksX6_picket_1 3 rfl rfl)
theorem dX6_picket_28 : decode cX6_picket 28 = .ok (.iload 4, 2) := dk_21 4 (dk_at dksX6_picket_1 4 rfl rfl)
theorem dX6_picket_30 : decode cX6_picket 30 = .ok (.iconst 1, 1) := dk_4 (dk_at dksX6_picket_1 6 rfl rfl)
theorem dX6_picket_31 : decode cX6_picket 31 = .ok (.isub, 1) := dk_100 (dk_at dksX6_picket_1 7 rfl rfl)
theorem dX6_picket_32 : decode cX6_picket 32 = .ok (.invokevirtual 25, 3) := dk_182 0 25 (dk_at dksX6_picket_1 8 rfl rfl)
theorem dX6_picket_35 : decode cX6_picket 35 = .ok (.istore 5, 2) := dk_54 5 (dk_at dksX6_picket_1 11 rfl rfl)
theorem dX6_picket_37 : decode cX6_picket 37 = .ok (.aload_n 0, 1) := dk_42 (dk_at dksX6_picket_1 13 rfl rfl)
theorem dX6_picket_38 : decode cX6_picket 38 = .ok (.iconst 0, 1) := dk_3 (dk_at dksX6_picket_1 14 rfl rfl)
theorem dX6_picket_39 : decode cX6_picket 39 = .ok (.iload 4, 2) := dk_21 4 (dk_at dksX6_picket_1 15 rfl rfl)
theorem dX6_picket_41 : decode cX6_picket 41 = .ok (.iconst 1, 1) := dk_4 (dk_at dksX6_picket_1 17 rfl rfl)
theorem dX6_picket_42 : decode cX6_picket 42 = .ok (.isub, 1) := dk_100 (dk_at dksX6_picket_1 18 rfl rfl)
theorem dX6_picket_43 : decode cX6_picket 43 = .ok (.invokevirtual 70, 3) := dk_182 0 70 (dk_at dksX6_picket_1 19 rfl rfl)
theorem dX6_picket_46 : decode cX6_picket 46 = .ok (.istore 6, 2) := dk_54 6 (dk_at dksX6_picket_1 22 rfl rfl)
theorem dX6_picket_48 : decode cX6_picket 48 = .ok (.aload_n 0, 1) := dk_42 (dk_at dksX6_picket_2 0 rfl rfl)
theorem dX6_picket_49 : decode cX6_picket 49 = .ok (.iload 6, 2) := dk_21 6 (dk_at dksX6_picket_2 1 rfl rfl)
theorem dX6_picket_51 : decode cX6_picket 51 = .ok (.iload 5, 2) := dk_21 5 (dk_at dksX6_picket_2 3 rfl rfl)
theorem dX6_picket_53 : decode cX6_picket 53 = .ok (.if_icmp .lt 7, 3) := dk_161 0 7 (dk_at dksX6_picket_2 5 rfl rfl)
theorem dX6_picket_56 : decode cX6_picket 56 = .ok (.iconst 1, 1) := dk_4 (dk_at dksX6_picket_2 8 rfl rfl)
theorem dX6_picket_57 : decode cX6_picket 57 = .ok (.goto 4, 3) := dk_167 0 4 (dk_at dksX6_picket_2 9 rfl rfl)
theorem dX6_picket_60 : decode cX6_picket 60 = .ok (.iconst 0, 1) := dk_3 (dk_at dksX6_picket_2 12 rfl rfl)
theorem dX6_picket_61 : decode cX6_picket 61 = .ok (.iconst 4, 1) := dk_7 (dk_at dksX6_picket_2 13 rfl rfl)
theorem dX6_picket_62 : decode cX6_picket 62 = .ok (.invokevirtual 21, 3) := dk_182 0 21 (dk_at dksX6_picket_2 14 rfl rfl)
theorem dX6_picket_65 : decode cX6_picket 65 = .ok (.aload_n 0, 1) := dk_42 (dk_at dksX6_picket_2 17 rfl rfl)
theorem dX6_picket_66 : decode cX6_picket 66 = .ok (.invokevirtual 77, 3) := dk_182 0 77 (dk_at dksX6_picket_2 18 rfl rfl)
theorem dX6_picket_69 : decode cX6_picket 69 = .ok (.new 159, 3) := dk_187 0 159 (dk_at dksX6_picket_2 21 rfl rfl)
theorem dX6_picket_72 : decode cX6_picket 72 = .ok (.dup, 1) := dk_89 (dk_at dksX6_picket_3 0 rfl rfl)
theorem dX6_picket_73 : decode cX6_picket 73 = .ok (.iload_n 1, 1) := dk_27 (dk_at dksX6_picket_3 1 rfl rfl)
theorem dX6_picket_74 : decode cX6_picket 74 = .ok (.iload_n 2, 1) := dk_28 (dk_at dksX6_picket_3 2 rfl rfl)
theorem dX6_picket_75 : decode cX6_picket 75 = .ok (.iload_n 3, 1) := dk_29 (dk_at dksX6_picket_3 3 rfl rfl)
theorem dX6_picket_76 : decode cX6_picket 76 = .ok (.iload 4, 2) := dk_21 4 (dk_at dksX6_picket_3 4 rfl rfl)
theorem dX6_picket_78 : decode cX6_picket 78 = .ok (.iload 5, 2) := dk_21 5 (dk_at dksX6_picket_3 6 rfl rfl)
theorem dX6_picket_80 : decode cX6_picket 80 = .ok (.iload 6, 2) := dk_21 6 (dk_at dksX6_picket_3 8 rfl rfl)
theorem dX6_picket_82 : decode cX6_picket 82 = .ok (.invokespecial 161, 3) := dk_183 0 161 (dk_at dksX6_picket_3 10 rfl rfl)
theorem dX6_picket_85 : decode cX6_picket 85 = .ok (.areturn, 1) := dk_176 (dk_at dksX6_picket_3 13 rfl rfl)
abbrev cX6_row : ByteArray := prog_5_method_4_code
def yX6_row : MethodName := ⟨RX6, "row", "()I"⟩
def dkwX6_row_0 : List UInt8 := [42, 3, 42, 180, 0, 38, 180, 0, 67, 4, 100, 182, 0, 25, 172]
abbrev dktX6_row_0 : List UInt8 := dkwX6_row_0 ++ []
theorem dksX6_row_0 : cX6_row.data.toList.drop 0 = dktX6_row_0 := by decide +kernel
theorem dX6_row_0 : decode cX6_row 0 = .ok (.aload_n 0, 1) := dk_42 (dk_at dksX6_row_0 0 rfl rfl)
theorem dX6_row_1 : decode cX6_row 1 = .ok (.iconst 0, 1) := dk_3 (dk_at dksX6_row_0 1 rfl rfl)
theorem dX6_row_2 : decode cX6_row 2 = .ok (.aload_n 0, 1) := dk_42 (dk_at dksX6_row_0 2 rfl rfl)
theorem dX6_row_3 : decode cX6_row 3 = .ok (.getfield 38, 3) := dk_180 0 38 (dk_at dksX6_row_0 3 rfl rfl)
theorem dX6_row_6 : decode cX6_row 6 = .ok (.getfield 67, 3) := dk_180 0 67 (dk_at dksX6_row_0 6 rfl rfl)
theorem dX6_row_9 : decode cX6_row 9 = .ok (.iconst 1, 1) := dk_4 (dk_at dksX6_row_0 9 rfl rfl)
theorem dX6_row_10 : decode cX6_row 10 = .ok (.isub, 1) := dk_100 (dk_at dksX6_row_0 10 rfl rfl)
theorem dX6_row_11 : decode cX6_row 11 = .ok (.invokevirtual 25, 3) := dk_182 0 25 (dk_at dksX6_row_0 11 rfl rfl)
theorem dX6_row_14 : decode cX6_row 14 = .ok (.ireturn, 1) := dk_172 (dk_at dksX6_row_0 14 rfl rfl)
abbrev cX6_plan : ByteArray := prog_5_method_9_code
def yX6_plan : MethodName := ⟨RX6, "plan", "()LMessengerBoard$Plan;"⟩
def dkwX6_plan_1 : List UInt8 := [28, 182, 0, 108, 62, 187, 0, 164, 89, 27, 28, 29, 42, 3, 17, 1, 243, 182, 0, 25, 183, 0, 166, 176]
abbrev dktX6_plan_1 : List UInt8 := dkwX6_plan_1 ++ []
def dkwX6_plan_0 : List UInt8 := [42, 3, 42, 180, 0, 38, 180, 0, 118, 182, 0, 122, 4, 100, 182, 0, 25, 60, 42, 182, 0, 103, 61, 42]
abbrev dktX6_plan_0 : List UInt8 := dkwX6_plan_0 ++ dktX6_plan_1
theorem dksX6_plan_0 : cX6_plan.data.toList.drop 0 = dktX6_plan_0 := by decide +kernel
theorem dksX6_plan_1 : cX6_plan.data.toList.drop 24 = dktX6_plan_1 := dk_seg dksX6_plan_0 24 rfl rfl
theorem dX6_plan_0 : decode cX6_plan 0 = .ok (.aload_n 0, 1) := dk_42 (dk_at dksX6_plan_0 0 rfl rfl)
theorem dX6_plan_1 : decode cX6_plan 1 = .ok (.iconst 0, 1) := dk_3 (dk_at dksX6_plan_0 1 rfl rfl)
theorem dX6_plan_2 : decode cX6_plan 2 = .ok (.aload_n 0, 1) := dk_42 (dk_at dksX6_plan_0 2 rfl rfl)
theorem dX6_plan_3 : decode cX6_plan 3 = .ok (.getfield 38, 3) := dk_180 0 38 (dk_at dksX6_plan_0 3 rfl rfl)
theorem dX6_plan_6 : decode cX6_plan 6 = .ok (.getfield 118, 3) := dk_180 0 118 (dk_at dksX6_plan_0 6 rfl rfl)
theorem dX6_plan_9 : decode cX6_plan 9 = .ok (.invokevirtual 122, 3) := dk_182 0 122 (dk_at dksX6_plan_0 9 rfl rfl)
theorem dX6_plan_12 : decode cX6_plan 12 = .ok (.iconst 1, 1) := dk_4 (dk_at dksX6_plan_0 12 rfl rfl)
theorem dX6_plan_13 : decode cX6_plan 13 = .ok (.isub, 1) := dk_100 (dk_at dksX6_plan_0 13 rfl rfl)
theorem dX6_plan_14 : decode cX6_plan 14 = .ok (.invokevirtual 25, 3) := dk_182 0 25 (dk_at dksX6_plan_0 14 rfl rfl)
theorem dX6_plan_17 : decode cX6_plan 17 = .ok (.istore_n 1, 1) := dk_60 (dk_at dksX6_plan_0 17 rfl rfl)
theorem dX6_plan_18 : decode cX6_plan 18 = .ok (.aload_n 0, 1) := dk_42 (dk_at dksX6_plan_0 18 rfl rfl)
theorem dX6_plan_19 : decode cX6_plan 19 = .ok (.invokevirtual 103, 3) := dk_182 0 103 (dk_at dksX6_plan_0 19 rfl rfl)
theorem dX6_plan_22 : decode cX6_plan 22 = .ok (.istore_n 2, 1) := dk_61 (dk_at dksX6_plan_0 22 rfl rfl)
theorem dX6_plan_23 : decode cX6_plan 23 = .ok (.aload_n 0, 1) := dk_42 (dk_at dksX6_plan_0 23 rfl rfl)
theorem dX6_plan_24 : decode cX6_plan 24 = .ok (.iload_n 2, 1) := dk_28 (dk_at dksX6_plan_1 0 rfl rfl)
theorem dX6_plan_25 : decode cX6_plan 25 = .ok (.invokevirtual 108, 3) := dk_182 0 108 (dk_at dksX6_plan_1 1 rfl rfl)
theorem dX6_plan_28 : decode cX6_plan 28 = .ok (.istore_n 3, 1) := dk_62 (dk_at dksX6_plan_1 4 rfl rfl)
theorem dX6_plan_29 : decode cX6_plan 29 = .ok (.new 164, 3) := dk_187 0 164 (dk_at dksX6_plan_1 5 rfl rfl)
theorem dX6_plan_32 : decode cX6_plan 32 = .ok (.dup, 1) := dk_89 (dk_at dksX6_plan_1 8 rfl rfl)
theorem dX6_plan_33 : decode cX6_plan 33 = .ok (.iload_n 1, 1) := dk_27 (dk_at dksX6_plan_1 9 rfl rfl)
theorem dX6_plan_34 : decode cX6_plan 34 = .ok (.iload_n 2, 1) := dk_28 (dk_at dksX6_plan_1 10 rfl rfl)
theorem dX6_plan_35 : decode cX6_plan 35 = .ok (.iload_n 3, 1) := dk_29 (dk_at dksX6_plan_1 11 rfl rfl)
theorem dX6_plan_36 : decode cX6_plan 36 = .ok (.aload_n 0, 1) := dk_42 (dk_at dksX6_plan_1 12 rfl rfl)
theorem dX6_plan_37 : decode cX6_plan 37 = .ok (.iconst 0, 1) := dk_3 (dk_at dksX6_plan_1 13 rfl rfl)
theorem dX6_plan_38 : decode cX6_plan 38 = .ok (.sipush 499, 3) := dk_17 1 243 (dk_at dksX6_plan_1 14 rfl rfl)
theorem dX6_plan_41 : decode cX6_plan 41 = .ok (.invokevirtual 25, 3) := dk_182 0 25 (dk_at dksX6_plan_1 17 rfl rfl)
theorem dX6_plan_44 : decode cX6_plan 44 = .ok (.invokespecial 166, 3) := dk_183 0 166 (dk_at dksX6_plan_1 20 rfl rfl)
theorem dX6_plan_47 : decode cX6_plan 47 = .ok (.areturn, 1) := dk_176 (dk_at dksX6_plan_1 23 rfl rfl)
theorem q124 : (Jvm.Cond.initialized "MessengerBoard$BoardParser") ∈ lw_all := lw_g (lw_at lw_m1 15 rfl) rfl
theorem q212 : (Jvm.Cond.fieldLinkNest "MessengerBoard$BoardParser" (63 : Nat) "MessengerBoard$State" "width" "I" "MessengerBoard") ∈ lw_tbl := lw_at lw_m1 103 rfl
theorem q215 : (Jvm.Cond.fieldLinkNest "MessengerBoard$BoardParser" (67 : Nat) "MessengerBoard$State" "height" "I" "MessengerBoard") ∈ lw_tbl := lw_at lw_m1 106 rfl
theorem q218 : (Jvm.Cond.fieldLinkNest "MessengerBoard$BoardParser" (152 : Nat) "MessengerBoard$State" "walls" "[Z" "MessengerBoard") ∈ lw_tbl := lw_at lw_m1 109 rfl
theorem q221 : (Jvm.Cond.fieldLinkNest "MessengerBoard$BoardParser" (118 : Nat) "MessengerBoard$State" "units" "Ljava/util/ArrayList;" "MessengerBoard") ∈ lw_tbl := lw_at lw_m1 112 rfl
theorem q224 : (Jvm.Cond.fieldLinkNest "MessengerBoard$BoardParser" (135 : Nat) "MessengerBoard$State" "pickets" "Ljava/util/ArrayList;" "MessengerBoard") ∈ lw_tbl := lw_at lw_m1 115 rfl
theorem q227 : (Jvm.Cond.fieldLinkNest "MessengerBoard$BoardParser" (143 : Nat) "MessengerBoard$State" "plans" "Ljava/util/ArrayList;" "MessengerBoard") ∈ lw_tbl := lw_at lw_m1 118 rfl
theorem q242 : (Jvm.Cond.fieldLinkNest "MessengerBoard$BoardParser" (112 : Nat) "MessengerBoard$State" "homeX" "I" "MessengerBoard") ∈ lw_tbl := lw_at lw_m1 133 rfl
theorem q245 : (Jvm.Cond.fieldLinkNest "MessengerBoard$BoardParser" (115 : Nat) "MessengerBoard$State" "homeY" "I" "MessengerBoard") ∈ lw_tbl := lw_at lw_m1 136 rfl
theorem q250 : (Jvm.Cond.fieldLinkNest "MessengerBoard$BoardParser" (141 : Nat) "MessengerBoard$State" "patience" "I" "MessengerBoard") ∈ lw_tbl := lw_at lw_m1 141 rfl
theorem q300 : (Jvm.Cond.fieldLinkNest "MessengerBoard$BoardParser" (31 : Nat) "MessengerBoard" "ways" "LMessengerBoard$Ways;" "MessengerBoard") ∈ lw_tbl := lw_at lw_m1 191 rfl
theorem q595 : (Jvm.Cond.instantiable "MessengerBoard$BoardParser" (10 : Nat)) ∈ lw_all := lw_g (lw_at lw_m3 6 rfl) rfl
theorem q597 : (Jvm.Cond.instanceMethod ({ cls := "MessengerBoard$BoardParser", name := "<init>", desc := "(LMessengerBoard;I)V" } : Jvm.MethodName)) ∈ lw_all := lw_g (lw_at lw_m3 8 rfl) rfl
theorem q598 : (Jvm.Cond.code ({ cls := "MessengerBoard$BoardParser", name := "<init>", desc := "(LMessengerBoard;I)V" } : Jvm.MethodName) prog_5_method_1_code (3 : Nat) (Option.none : Option Jvm.ClassFile.FieldType)) ∈ lw_all := lw_g (lw_at lw_m3 9 rfl) rfl
theorem q599 : (Jvm.Cond.methodLink "MessengerBoard$BoardParser" (9 : Nat) ({ cls := "MessengerBoard$Scanner", name := "<init>", desc := "(LMessengerBoard;I)V" } : Jvm.MethodName)) ∈ lw_all := lw_g (lw_at lw_m3 10 rfl) rfl
theorem q637 : (Jvm.Cond.selects "MessengerBoard$BoardParser" ({ cls := "MessengerBoard$Scanner", name := "next", desc := "()V" } : Jvm.MethodName) ({ cls := "MessengerBoard$Scanner", name := "next", desc := "()V" } : Jvm.MethodName)) ∈ lw_all := lw_g (lw_at lw_m3 48 rfl) rfl
theorem q895 : (Jvm.Cond.fieldLink "MessengerBoard$BoardParser" (38 : Nat) "MessengerBoard$BoardParser" "made" "LMessengerBoard$State;") ∈ lw_all := lw_g (lw_at lw_m4 66 rfl) rfl
theorem q896 : (Jvm.Cond.fieldLink "MessengerBoard$BoardParser" (3 : Nat) "MessengerBoard$BoardParser" "this$0" "LMessengerBoard;") ∈ lw_all := lw_g (lw_at lw_m4 67 rfl) rfl
theorem q905 : (Jvm.Cond.fieldLink "MessengerBoard$BoardParser" (46 : Nat) "MessengerBoard$BoardParser" "token" "LMessengerBoard$Token;") ∈ lw_all := lw_g (lw_at lw_m4 76 rfl) rfl
theorem q906 : (Jvm.Cond.sameField "MessengerBoard$BoardParser" "MessengerBoard$Scanner" "token" "LMessengerBoard$Token;") ∈ lw_all := lw_g (lw_at lw_m4 77 rfl) rfl
theorem q909 : (Jvm.Cond.lays "MessengerBoard$BoardParser" "MessengerBoard$BoardParser" "made" "LMessengerBoard$State;") ∈ lw_all := lw_g (lw_at lw_m4 80 rfl) rfl
theorem q910 : (Jvm.Cond.soleField "MessengerBoard$BoardParser" "made") ∈ lw_all := lw_g (lw_at lw_m4 81 rfl) rfl
theorem q911 : (Jvm.Cond.laysFinal "MessengerBoard$BoardParser" "MessengerBoard$BoardParser" "this$0" "LMessengerBoard;") ∈ lw_all := lw_g (lw_at lw_m4 82 rfl) rfl
theorem q912 : (Jvm.Cond.soleField "MessengerBoard$BoardParser" "this$0") ∈ lw_all := lw_g (lw_at lw_m4 83 rfl) rfl
theorem q913 : (Jvm.Cond.laysFinal "MessengerBoard$BoardParser" "MessengerBoard$Scanner" "word" "Ljava/lang/StringBuilder;") ∈ lw_all := lw_g (lw_at lw_m4 84 rfl) rfl
theorem q915 : (Jvm.Cond.laysFinal "MessengerBoard$BoardParser" "MessengerBoard$Scanner" "end" "I") ∈ lw_all := lw_g (lw_at lw_m4 86 rfl) rfl
theorem q917 : (Jvm.Cond.lays "MessengerBoard$BoardParser" "MessengerBoard$Scanner" "at" "I") ∈ lw_all := lw_g (lw_at lw_m4 88 rfl) rfl
theorem q919 : (Jvm.Cond.lays "MessengerBoard$BoardParser" "MessengerBoard$Scanner" "begin" "I") ∈ lw_all := lw_g (lw_at lw_m4 90 rfl) rfl
theorem q921 : (Jvm.Cond.lays "MessengerBoard$BoardParser" "MessengerBoard$Scanner" "value" "I") ∈ lw_all := lw_g (lw_at lw_m4 92 rfl) rfl
theorem q923 : (Jvm.Cond.lays "MessengerBoard$BoardParser" "MessengerBoard$Scanner" "sign" "I") ∈ lw_all := lw_g (lw_at lw_m4 94 rfl) rfl
theorem q925 : (Jvm.Cond.lays "MessengerBoard$BoardParser" "MessengerBoard$Scanner" "token" "LMessengerBoard$Token;") ∈ lw_all := lw_g (lw_at lw_m4 96 rfl) rfl
theorem q927 : (Jvm.Cond.laysFinal "MessengerBoard$BoardParser" "MessengerBoard$Scanner" "this$0" "LMessengerBoard;") ∈ lw_all := lw_g (lw_at lw_m4 98 rfl) rfl
theorem q929 : (Jvm.Cond.superclass "MessengerBoard$BoardParser" "MessengerBoard$Scanner") ∈ lw_all := lw_g (lw_at lw_m4 100 rfl) rfl
theorem q931 : (Jvm.Cond.instanceMethod ({ cls := "MessengerBoard$BoardParser", name := "parse", desc := "()LMessengerBoard$State;" } : Jvm.MethodName)) ∈ lw_all := lw_g (lw_at lw_m4 102 rfl) rfl
theorem q932 : (Jvm.Cond.selects "MessengerBoard$BoardParser" ({ cls := "MessengerBoard$BoardParser", name := "parse", desc := "()LMessengerBoard$State;" } : Jvm.MethodName) ({ cls := "MessengerBoard$BoardParser", name := "parse", desc := "()LMessengerBoard$State;" } : Jvm.MethodName)) ∈ lw_all := lw_g (lw_at lw_m4 103 rfl) rfl
theorem q933 : (Jvm.Cond.code ({ cls := "MessengerBoard$BoardParser", name := "parse", desc := "()LMessengerBoard$State;" } : Jvm.MethodName) prog_5_method_2_code (2 : Nat) (Option.some (Jvm.ClassFile.FieldType.object "MessengerBoard$State"))) ∈ lw_all := lw_g (lw_at lw_m4 104 rfl) rfl
theorem q934 : (Jvm.Cond.stringRef "MessengerBoard$BoardParser" (15 : Nat) "board") ∈ lw_tbl := lw_at lw_m4 105 rfl
theorem q935 : (Jvm.Cond.methodLink "MessengerBoard$BoardParser" (17 : Nat) ({ cls := "MessengerBoard$BoardParser", name := "accept", desc := "(Ljava/lang/String;)Z" } : Jvm.MethodName)) ∈ lw_all := lw_g (lw_at lw_m4 106 rfl) rfl
theorem q936 : (Jvm.Cond.sameMethod "MessengerBoard$BoardParser" "MessengerBoard$Scanner" "accept" "(Ljava/lang/String;)Z") ∈ lw_all := lw_g (lw_at lw_m4 107 rfl) rfl
theorem q938 : (Jvm.Cond.selects "MessengerBoard$BoardParser" ({ cls := "MessengerBoard$BoardParser", name := "accept", desc := "(Ljava/lang/String;)Z" } : Jvm.MethodName) ({ cls := "MessengerBoard$Scanner", name := "accept", desc := "(Ljava/lang/String;)Z" } : Jvm.MethodName)) ∈ lw_all := lw_g (lw_at lw_m4 109 rfl) rfl
theorem q944 : (Jvm.Cond.selects "MessengerBoard$BoardParser" ({ cls := "MessengerBoard$Scanner", name := "keyword", desc := "()Ljava/lang/String;" } : Jvm.MethodName) ({ cls := "MessengerBoard$Scanner", name := "keyword", desc := "()Ljava/lang/String;" } : Jvm.MethodName)) ∈ lw_all := lw_g (lw_at lw_m4 115 rfl) rfl
theorem q957 : (Jvm.Cond.methodLink "MessengerBoard$BoardParser" (21 : Nat) ({ cls := "MessengerBoard$BoardParser", name := "check", desc := "(ZI)V" } : Jvm.MethodName)) ∈ lw_all := lw_g (lw_at lw_m4 128 rfl) rfl
theorem q958 : (Jvm.Cond.sameMethod "MessengerBoard$BoardParser" "MessengerBoard$Scanner" "check" "(ZI)V") ∈ lw_all := lw_g (lw_at lw_m4 129 rfl) rfl
theorem q960 : (Jvm.Cond.selects "MessengerBoard$BoardParser" ({ cls := "MessengerBoard$BoardParser", name := "check", desc := "(ZI)V" } : Jvm.MethodName) ({ cls := "MessengerBoard$Scanner", name := "check", desc := "(ZI)V" } : Jvm.MethodName)) ∈ lw_all := lw_g (lw_at lw_m4 131 rfl) rfl
theorem q991 : (Jvm.Cond.methodLink "MessengerBoard$BoardParser" (25 : Nat) ({ cls := "MessengerBoard$BoardParser", name := "number", desc := "(II)I" } : Jvm.MethodName)) ∈ lw_all := lw_g (lw_at lw_m4 162 rfl) rfl
theorem q992 : (Jvm.Cond.sameMethod "MessengerBoard$BoardParser" "MessengerBoard$Scanner" "number" "(II)I") ∈ lw_all := lw_g (lw_at lw_m4 163 rfl) rfl
theorem q994 : (Jvm.Cond.selects "MessengerBoard$BoardParser" ({ cls := "MessengerBoard$BoardParser", name := "number", desc := "(II)I" } : Jvm.MethodName) ({ cls := "MessengerBoard$Scanner", name := "number", desc := "(II)I" } : Jvm.MethodName)) ∈ lw_all := lw_g (lw_at lw_m4 165 rfl) rfl
theorem q1000 : (Jvm.Cond.selects "MessengerBoard$BoardParser" ({ cls := "MessengerBoard$Scanner", name := "peek", desc := "(II)I" } : Jvm.MethodName) ({ cls := "MessengerBoard$Scanner", name := "peek", desc := "(II)I" } : Jvm.MethodName)) ∈ lw_all := lw_g (lw_at lw_m4 171 rfl) rfl
theorem q1004 : (Jvm.Cond.classLink "MessengerBoard$BoardParser" (29 : Nat) "MessengerBoard$State") ∈ lw_all := lw_g (lw_at lw_m4 175 rfl) rfl
theorem q1005 : (Jvm.Cond.methodLink "MessengerBoard$BoardParser" (35 : Nat) ({ cls := "MessengerBoard$State", name := "<init>", desc := "(IILMessengerBoard$Ways;)V" } : Jvm.MethodName)) ∈ lw_all := lw_g (lw_at lw_m4 176 rfl) rfl
theorem q1006 : (Jvm.Cond.methodLink "MessengerBoard$BoardParser" (42 : Nat) ({ cls := "MessengerBoard$BoardParser", name := "expectSign", desc := "(I)V" } : Jvm.MethodName)) ∈ lw_all := lw_g (lw_at lw_m4 177 rfl) rfl
theorem q1007 : (Jvm.Cond.sameMethod "MessengerBoard$BoardParser" "MessengerBoard$Scanner" "expectSign" "(I)V") ∈ lw_all := lw_g (lw_at lw_m4 178 rfl) rfl
theorem q1009 : (Jvm.Cond.selects "MessengerBoard$BoardParser" ({ cls := "MessengerBoard$BoardParser", name := "expectSign", desc := "(I)V" } : Jvm.MethodName) ({ cls := "MessengerBoard$Scanner", name := "expectSign", desc := "(I)V" } : Jvm.MethodName)) ∈ lw_all := lw_g (lw_at lw_m4 180 rfl) rfl
theorem q1015 : (Jvm.Cond.selects "MessengerBoard$BoardParser" ({ cls := "MessengerBoard$Scanner", name := "isSign", desc := "(I)Z" } : Jvm.MethodName) ({ cls := "MessengerBoard$Scanner", name := "isSign", desc := "(I)Z" } : Jvm.MethodName)) ∈ lw_all := lw_g (lw_at lw_m4 186 rfl) rfl
theorem q1018 : (Jvm.Cond.fieldLink "MessengerBoard$BoardParser" (50 : Nat) "MessengerBoard$Token" "END" "LMessengerBoard$Token;") ∈ lw_all := lw_g (lw_at lw_m4 189 rfl) rfl
theorem q1019 : (Jvm.Cond.methodLink "MessengerBoard$BoardParser" (55 : Nat) ({ cls := "MessengerBoard$BoardParser", name := "keyword", desc := "()Ljava/lang/String;" } : Jvm.MethodName)) ∈ lw_all := lw_g (lw_at lw_m4 190 rfl) rfl
theorem q1020 : (Jvm.Cond.sameMethod "MessengerBoard$BoardParser" "MessengerBoard$Scanner" "keyword" "()Ljava/lang/String;") ∈ lw_all := lw_g (lw_at lw_m4 191 rfl) rfl
theorem q1022 : (Jvm.Cond.selects "MessengerBoard$BoardParser" ({ cls := "MessengerBoard$BoardParser", name := "keyword", desc := "()Ljava/lang/String;" } : Jvm.MethodName) ({ cls := "MessengerBoard$Scanner", name := "keyword", desc := "()Ljava/lang/String;" } : Jvm.MethodName)) ∈ lw_all := lw_g (lw_at lw_m4 193 rfl) rfl
theorem q1023 : (Jvm.Cond.methodLink "MessengerBoard$BoardParser" (59 : Nat) ({ cls := "MessengerBoard$BoardParser", name := "clause", desc := "(Ljava/lang/String;)V" } : Jvm.MethodName)) ∈ lw_all := lw_g (lw_at lw_m4 194 rfl) rfl
theorem q1024 : (Jvm.Cond.privateMethod ({ cls := "MessengerBoard$BoardParser", name := "clause", desc := "(Ljava/lang/String;)V" } : Jvm.MethodName)) ∈ lw_tbl := lw_at lw_m4 195 rfl
theorem q1025 : (Jvm.Cond.instanceMethod ({ cls := "MessengerBoard$BoardParser", name := "clause", desc := "(Ljava/lang/String;)V" } : Jvm.MethodName)) ∈ lw_all := lw_g (lw_at lw_m4 196 rfl) rfl
theorem q1026 : (Jvm.Cond.code ({ cls := "MessengerBoard$BoardParser", name := "clause", desc := "(Ljava/lang/String;)V" } : Jvm.MethodName) prog_5_method_6_code (8 : Nat) (Option.none : Option Jvm.ClassFile.FieldType)) ∈ lw_all := lw_g (lw_at lw_m4 197 rfl) rfl
theorem q1027 : (Jvm.Cond.methodLink "MessengerBoard$BoardParser" (81 : Nat) ({ cls := "java/lang/String", name := "hashCode", desc := "()I" } : Jvm.MethodName)) ∈ lw_all := lw_g (lw_at lw_m4 198 rfl) rfl
theorem q1084 : (Jvm.Cond.stringRef "MessengerBoard$BoardParser" (87 : Nat) "wall") ∈ lw_tbl := lw_at lw_m5 15 rfl
theorem q1085 : (Jvm.Cond.methodLink "MessengerBoard$BoardParser" (89 : Nat) ({ cls := "java/lang/String", name := "equals", desc := "(Ljava/lang/Object;)Z" } : Jvm.MethodName)) ∈ lw_all := lw_g (lw_at lw_m5 16 rfl) rfl
theorem q1086 : (Jvm.Cond.stringRef "MessengerBoard$BoardParser" (93 : Nat) "headquarters") ∈ lw_tbl := lw_at lw_m5 17 rfl
theorem q1087 : (Jvm.Cond.stringRef "MessengerBoard$BoardParser" (95 : Nat) "unit") ∈ lw_tbl := lw_at lw_m5 18 rfl
theorem q1088 : (Jvm.Cond.stringRef "MessengerBoard$BoardParser" (97 : Nat) "picket") ∈ lw_tbl := lw_at lw_m5 19 rfl
theorem q1089 : (Jvm.Cond.stringRef "MessengerBoard$BoardParser" (99 : Nat) "patience") ∈ lw_tbl := lw_at lw_m5 20 rfl
theorem q1090 : (Jvm.Cond.stringRef "MessengerBoard$BoardParser" (101 : Nat) "plan") ∈ lw_tbl := lw_at lw_m5 21 rfl
theorem q1091 : (Jvm.Cond.methodLink "MessengerBoard$BoardParser" (77 : Nat) ({ cls := "MessengerBoard$BoardParser", name := "next", desc := "()V" } : Jvm.MethodName)) ∈ lw_all := lw_g (lw_at lw_m5 22 rfl) rfl
theorem q1092 : (Jvm.Cond.sameMethod "MessengerBoard$BoardParser" "MessengerBoard$Scanner" "next" "()V") ∈ lw_all := lw_g (lw_at lw_m5 23 rfl) rfl
theorem q1094 : (Jvm.Cond.selects "MessengerBoard$BoardParser" ({ cls := "MessengerBoard$BoardParser", name := "next", desc := "()V" } : Jvm.MethodName) ({ cls := "MessengerBoard$Scanner", name := "next", desc := "()V" } : Jvm.MethodName)) ∈ lw_all := lw_g (lw_at lw_m5 25 rfl) rfl
theorem q1095 : (Jvm.Cond.methodLink "MessengerBoard$BoardParser" (103 : Nat) ({ cls := "MessengerBoard$BoardParser", name := "column", desc := "()I" } : Jvm.MethodName)) ∈ lw_all := lw_g (lw_at lw_m5 26 rfl) rfl
theorem q1096 : (Jvm.Cond.privateMethod ({ cls := "MessengerBoard$BoardParser", name := "column", desc := "()I" } : Jvm.MethodName)) ∈ lw_tbl := lw_at lw_m5 27 rfl
theorem q1097 : (Jvm.Cond.instanceMethod ({ cls := "MessengerBoard$BoardParser", name := "column", desc := "()I" } : Jvm.MethodName)) ∈ lw_all := lw_g (lw_at lw_m5 28 rfl) rfl
theorem q1098 : (Jvm.Cond.code ({ cls := "MessengerBoard$BoardParser", name := "column", desc := "()I" } : Jvm.MethodName) prog_5_method_3_code (1 : Nat) (Option.some Jvm.ClassFile.FieldType.int)) ∈ lw_all := lw_g (lw_at lw_m5 29 rfl) rfl
theorem q1099 : (Jvm.Cond.methodLink "MessengerBoard$BoardParser" (106 : Nat) ({ cls := "MessengerBoard$BoardParser", name := "wall", desc := "(I)V" } : Jvm.MethodName)) ∈ lw_all := lw_g (lw_at lw_m5 30 rfl) rfl
theorem q1100 : (Jvm.Cond.privateMethod ({ cls := "MessengerBoard$BoardParser", name := "wall", desc := "(I)V" } : Jvm.MethodName)) ∈ lw_tbl := lw_at lw_m5 31 rfl
theorem q1101 : (Jvm.Cond.instanceMethod ({ cls := "MessengerBoard$BoardParser", name := "wall", desc := "(I)V" } : Jvm.MethodName)) ∈ lw_all := lw_g (lw_at lw_m5 32 rfl) rfl
theorem q1102 : (Jvm.Cond.code ({ cls := "MessengerBoard$BoardParser", name := "wall", desc := "(I)V" } : Jvm.MethodName) prog_5_method_7_code (3 : Nat) (Option.none : Option Jvm.ClassFile.FieldType)) ∈ lw_all := lw_g (lw_at lw_m5 33 rfl) rfl
theorem q1103 : (Jvm.Cond.methodLink "MessengerBoard$BoardParser" (70 : Nat) ({ cls := "MessengerBoard$BoardParser", name := "peek", desc := "(II)I" } : Jvm.MethodName)) ∈ lw_all := lw_g (lw_at lw_m5 34 rfl) rfl
theorem q1104 : (Jvm.Cond.sameMethod "MessengerBoard$BoardParser" "MessengerBoard$Scanner" "peek" "(II)I") ∈ lw_all := lw_g (lw_at lw_m5 35 rfl) rfl
theorem q1106 : (Jvm.Cond.selects "MessengerBoard$BoardParser" ({ cls := "MessengerBoard$BoardParser", name := "peek", desc := "(II)I" } : Jvm.MethodName) ({ cls := "MessengerBoard$Scanner", name := "peek", desc := "(II)I" } : Jvm.MethodName)) ∈ lw_all := lw_g (lw_at lw_m5 37 rfl) rfl
theorem q1107 : (Jvm.Cond.methodLink "MessengerBoard$BoardParser" (73 : Nat) ({ cls := "MessengerBoard$State", name := "isWall", desc := "(II)Z" } : Jvm.MethodName)) ∈ lw_all := lw_g (lw_at lw_m5 38 rfl) rfl
theorem q1111 : (Jvm.Cond.methodLink "MessengerBoard$BoardParser" (149 : Nat) ({ cls := "MessengerBoard$State", name := "unitAt", desc := "(II)I" } : Jvm.MethodName)) ∈ lw_all := lw_g (lw_at lw_m5 42 rfl) rfl
theorem q1120 : (Jvm.Cond.methodLink "MessengerBoard$BoardParser" (108 : Nat) ({ cls := "MessengerBoard$BoardParser", name := "freeRow", desc := "(I)I" } : Jvm.MethodName)) ∈ lw_all := lw_g (lw_at lw_m5 51 rfl) rfl
theorem q1121 : (Jvm.Cond.privateMethod ({ cls := "MessengerBoard$BoardParser", name := "freeRow", desc := "(I)I" } : Jvm.MethodName)) ∈ lw_tbl := lw_at lw_m5 52 rfl
theorem q1122 : (Jvm.Cond.instanceMethod ({ cls := "MessengerBoard$BoardParser", name := "freeRow", desc := "(I)I" } : Jvm.MethodName)) ∈ lw_all := lw_g (lw_at lw_m5 53 rfl) rfl
theorem q1123 : (Jvm.Cond.code ({ cls := "MessengerBoard$BoardParser", name := "freeRow", desc := "(I)I" } : Jvm.MethodName) prog_5_method_5_code (3 : Nat) (Option.some Jvm.ClassFile.FieldType.int)) ∈ lw_all := lw_g (lw_at lw_m5 54 rfl) rfl
theorem q1124 : (Jvm.Cond.methodLink "MessengerBoard$BoardParser" (122 : Nat) ({ cls := "java/util/ArrayList", name := "size", desc := "()I" } : Jvm.MethodName)) ∈ lw_all := lw_g (lw_at lw_m5 55 rfl) rfl
theorem q1125 : (Jvm.Cond.classLink "MessengerBoard$BoardParser" (127 : Nat) "MessengerBoard$Unit") ∈ lw_all := lw_g (lw_at lw_m5 56 rfl) rfl
theorem q1127 : (Jvm.Cond.methodLink "MessengerBoard$BoardParser" (129 : Nat) ({ cls := "MessengerBoard$Unit", name := "<init>", desc := "(III)V" } : Jvm.MethodName)) ∈ lw_all := lw_g (lw_at lw_m5 58 rfl) rfl
theorem q1152 : (Jvm.Cond.methodLink "MessengerBoard$BoardParser" (132 : Nat) ({ cls := "java/util/ArrayList", name := "add", desc := "(Ljava/lang/Object;)Z" } : Jvm.MethodName)) ∈ lw_all := lw_g (lw_at lw_m5 83 rfl) rfl
theorem q1179 : (Jvm.Cond.selects "MessengerBoard$BoardParser" ({ cls := "java/lang/Object", name := "getClass", desc := "()Ljava/lang/Class;" } : Jvm.MethodName) ({ cls := "java/lang/Object", name := "getClass", desc := "()Ljava/lang/Class;" } : Jvm.MethodName)) ∈ lw_all := lw_g (lw_at lw_m5 110 rfl) rfl
theorem q1210 : (Jvm.Cond.methodLink "MessengerBoard$BoardParser" (138 : Nat) ({ cls := "MessengerBoard$BoardParser", name := "picket", desc := "()LMessengerBoard$Picket;" } : Jvm.MethodName)) ∈ lw_all := lw_g (lw_at lw_m5 141 rfl) rfl
theorem q1211 : (Jvm.Cond.privateMethod ({ cls := "MessengerBoard$BoardParser", name := "picket", desc := "()LMessengerBoard$Picket;" } : Jvm.MethodName)) ∈ lw_tbl := lw_at lw_m5 142 rfl
theorem q1212 : (Jvm.Cond.instanceMethod ({ cls := "MessengerBoard$BoardParser", name := "picket", desc := "()LMessengerBoard$Picket;" } : Jvm.MethodName)) ∈ lw_all := lw_g (lw_at lw_m5 143 rfl) rfl
theorem q1213 : (Jvm.Cond.code ({ cls := "MessengerBoard$BoardParser", name := "picket", desc := "()LMessengerBoard$Picket;" } : Jvm.MethodName) prog_5_method_8_code (7 : Nat) (Option.some (Jvm.ClassFile.FieldType.object "MessengerBoard$Picket"))) ∈ lw_all := lw_g (lw_at lw_m5 144 rfl) rfl
theorem q1214 : (Jvm.Cond.methodLink "MessengerBoard$BoardParser" (156 : Nat) ({ cls := "MessengerBoard$BoardParser", name := "row", desc := "()I" } : Jvm.MethodName)) ∈ lw_all := lw_g (lw_at lw_m5 145 rfl) rfl
theorem q1215 : (Jvm.Cond.privateMethod ({ cls := "MessengerBoard$BoardParser", name := "row", desc := "()I" } : Jvm.MethodName)) ∈ lw_tbl := lw_at lw_m5 146 rfl
theorem q1216 : (Jvm.Cond.instanceMethod ({ cls := "MessengerBoard$BoardParser", name := "row", desc := "()I" } : Jvm.MethodName)) ∈ lw_all := lw_g (lw_at lw_m5 147 rfl) rfl
theorem q1217 : (Jvm.Cond.code ({ cls := "MessengerBoard$BoardParser", name := "row", desc := "()I" } : Jvm.MethodName) prog_5_method_4_code (1 : Nat) (Option.some Jvm.ClassFile.FieldType.int)) ∈ lw_all := lw_g (lw_at lw_m5 148 rfl) rfl
theorem q1218 : (Jvm.Cond.classLink "MessengerBoard$BoardParser" (159 : Nat) "MessengerBoard$Picket") ∈ lw_all := lw_g (lw_at lw_m5 149 rfl) rfl
theorem q1220 : (Jvm.Cond.methodLink "MessengerBoard$BoardParser" (161 : Nat) ({ cls := "MessengerBoard$Picket", name := "<init>", desc := "(IIIIII)V" } : Jvm.MethodName)) ∈ lw_all := lw_g (lw_at lw_m5 151 rfl) rfl
theorem q1254 : (Jvm.Cond.methodLink "MessengerBoard$BoardParser" (146 : Nat) ({ cls := "MessengerBoard$BoardParser", name := "plan", desc := "()LMessengerBoard$Plan;" } : Jvm.MethodName)) ∈ lw_all := lw_g (lw_at lw_m5 185 rfl) rfl
theorem q1255 : (Jvm.Cond.privateMethod ({ cls := "MessengerBoard$BoardParser", name := "plan", desc := "()LMessengerBoard$Plan;" } : Jvm.MethodName)) ∈ lw_tbl := lw_at lw_m5 186 rfl
theorem q1256 : (Jvm.Cond.instanceMethod ({ cls := "MessengerBoard$BoardParser", name := "plan", desc := "()LMessengerBoard$Plan;" } : Jvm.MethodName)) ∈ lw_all := lw_g (lw_at lw_m5 187 rfl) rfl
theorem q1257 : (Jvm.Cond.code ({ cls := "MessengerBoard$BoardParser", name := "plan", desc := "()LMessengerBoard$Plan;" } : Jvm.MethodName) prog_5_method_9_code (4 : Nat) (Option.some (Jvm.ClassFile.FieldType.object "MessengerBoard$Plan"))) ∈ lw_all := lw_g (lw_at lw_m5 188 rfl) rfl
theorem q1258 : (Jvm.Cond.classLink "MessengerBoard$BoardParser" (164 : Nat) "MessengerBoard$Plan") ∈ lw_all := lw_g (lw_at lw_m5 189 rfl) rfl
theorem q1260 : (Jvm.Cond.methodLink "MessengerBoard$BoardParser" (166 : Nat) ({ cls := "MessengerBoard$Plan", name := "<init>", desc := "(IIII)V" } : Jvm.MethodName)) ∈ lw_all := lw_g (lw_at lw_m5 191 rfl) rfl
theorem q2724 : (Jvm.Cond.selects "MessengerBoard$BoardParser" ({ cls := "MessengerBoard$Scanner", name := "check", desc := "(ZI)V" } : Jvm.MethodName) ({ cls := "MessengerBoard$Scanner", name := "check", desc := "(ZI)V" } : Jvm.MethodName)) ∈ lw_all := lw_g (lw_at lw_m11 215 rfl) rfl
theorem q2738 : (Jvm.Cond.castable "MessengerBoard$BoardParser" "java/lang/Object") ∈ lw_tbl := lw_at lw_m11 229 rfl
theorem in_X6 : ∀ w ∈ wsX60, w ∈ lw_all := lw_in wsX60 [913, 915, 917, 919, 921, 923, 925, 927, 909, 911] (by decide +kernel) (by decide +kernel)
/-! MessengerBoard$TextError -/
set_option maxRecDepth 100000
def RX7 : String := "MessengerBoard$TextError"
def TX7 : u_T := fun k => match k with
  | 0 => ("java/lang/Throwable", "cause", "Ljava/lang/Throwable;", false)
  | 1 => ("java/lang/Throwable", "stackTrace", "[Ljava/lang/StackTraceElement;", false)
  | 2 => ("java/lang/Throwable", "suppressedExceptions", "Ljava/util/List;", false)
  | 3 => ("java/lang/Throwable", "detailMessage", "Ljava/lang/String;", false)
  | 4 => ("java/lang/Throwable", "backtrace", "Ljava/lang/Object;", false)
  | 5 => ("java/lang/Throwable", "depth", "I", false)
  | 6 => ("MessengerBoard$TextError", "code", "I", true)
  | _ => ("MessengerBoard$TextError", "position", "I", true)
def tyX7 : Nat → FieldType := fun k => match k with
  | 0 => .object "java/lang/Throwable"
  | 1 => .array (.object "java/lang/StackTraceElement")
  | 2 => .object "java/util/List"
  | 3 => .object "java/lang/String"
  | 4 => .object "java/lang/Object"
  | 5 => .int
  | 6 => .int
  | _ => .int
abbrev wsX70 : List Cond := u_ws RX7 TX7 8
theorem nmX7 : ∀ a, a < 8 → ∀ b, b < 8 → a ≠ b → (TX7 a).2.1 ≠ (TX7 b).2.1 := by decide +kernel
theorem tyX7_ok : ∀ k, k < 8 → parseFieldDescriptor (TX7 k).2.2.1 = some (tyX7 k) := by decide +kernel
abbrev cX7_init : ByteArray := prog_18_method_1_code
def yX7_init : MethodName := ⟨RX7, "<init>", "(IILjava/lang/Exception;)V"⟩
def dkwX7_init_0 : List UInt8 := [42, 1, 45, 3, 3, 183, 0, 1, 42, 27, 181, 0, 7, 42, 28, 181, 0, 13, 177]
abbrev dktX7_init_0 : List UInt8 := dkwX7_init_0 ++ []
theorem dksX7_init_0 : cX7_init.data.toList.drop 0 = dktX7_init_0 := by decide +kernel
theorem dX7_init_0 : decode cX7_init 0 = .ok (.aload_n 0, 1) := dk_42 (dk_at dksX7_init_0 0 rfl rfl)
theorem dX7_init_1 : decode cX7_init 1 = .ok (.aconst_null, 1) := dk_1 (dk_at dksX7_init_0 1 rfl rfl)
theorem dX7_init_2 : decode cX7_init 2 = .ok (.aload_n 3, 1) := dk_45 (dk_at dksX7_init_0 2 rfl rfl)
theorem dX7_init_3 : decode cX7_init 3 = .ok (.iconst 0, 1) := dk_3 (dk_at dksX7_init_0 3 rfl rfl)
theorem dX7_init_4 : decode cX7_init 4 = .ok (.iconst 0, 1) := dk_3 (dk_at dksX7_init_0 4 rfl rfl)
theorem dX7_init_5 : decode cX7_init 5 = .ok (.invokespecial 1, 3) := dk_183 0 1 (dk_at dksX7_init_0 5 rfl rfl)
theorem dX7_init_8 : decode cX7_init 8 = .ok (.aload_n 0, 1) := dk_42 (dk_at dksX7_init_0 8 rfl rfl)
theorem dX7_init_9 : decode cX7_init 9 = .ok (.iload_n 1, 1) := dk_27 (dk_at dksX7_init_0 9 rfl rfl)
theorem dX7_init_10 : decode cX7_init 10 = .ok (.putfield 7, 3) := dk_181 0 7 (dk_at dksX7_init_0 10 rfl rfl)
theorem dX7_init_13 : decode cX7_init 13 = .ok (.aload_n 0, 1) := dk_42 (dk_at dksX7_init_0 13 rfl rfl)
theorem dX7_init_14 : decode cX7_init 14 = .ok (.iload_n 2, 1) := dk_28 (dk_at dksX7_init_0 14 rfl rfl)
theorem dX7_init_15 : decode cX7_init 15 = .ok (.putfield 13, 3) := dk_181 0 13 (dk_at dksX7_init_0 15 rfl rfl)
theorem dX7_init_18 : decode cX7_init 18 = .ok (.return_, 1) := dk_177 (dk_at dksX7_init_0 18 rfl rfl)
theorem q138 : (Jvm.Cond.initialized "MessengerBoard$TextError") ∈ lw_all := lw_g (lw_at lw_m1 29 rfl) rfl
theorem q461 : (Jvm.Cond.selects "MessengerBoard$TextError" ({ cls := "java/lang/Throwable", name := "fillInStackTrace", desc := "()Ljava/lang/Throwable;" } : Jvm.MethodName) ({ cls := "java/lang/Throwable", name := "fillInStackTrace", desc := "()Ljava/lang/Throwable;" } : Jvm.MethodName)) ∈ lw_all := lw_g (lw_at lw_m2 112 rfl) rfl
theorem q964 : (Jvm.Cond.instantiable "MessengerBoard$TextError" (8 : Nat)) ∈ lw_all := lw_g (lw_at lw_m4 135 rfl) rfl
theorem q965 : (Jvm.Cond.castable "MessengerBoard$TextError" "MessengerBoard$TextError") ∈ lw_tbl := lw_at lw_m4 136 rfl
theorem q966 : (Jvm.Cond.selects "MessengerBoard$TextError" ({ cls := "java/lang/Throwable", name := "fillInStackTrace", desc := "(I)Ljava/lang/Throwable;" } : Jvm.MethodName) ({ cls := "java/lang/Throwable", name := "fillInStackTrace", desc := "(I)Ljava/lang/Throwable;" } : Jvm.MethodName)) ∈ lw_all := lw_g (lw_at lw_m4 137 rfl) rfl
theorem q967 : (Jvm.Cond.lays "MessengerBoard$TextError" "java/lang/Throwable" "cause" "Ljava/lang/Throwable;") ∈ lw_all := lw_g (lw_at lw_m4 138 rfl) rfl
theorem q968 : (Jvm.Cond.lays "MessengerBoard$TextError" "java/lang/Throwable" "stackTrace" "[Ljava/lang/StackTraceElement;") ∈ lw_all := lw_g (lw_at lw_m4 139 rfl) rfl
theorem q969 : (Jvm.Cond.lays "MessengerBoard$TextError" "java/lang/Throwable" "suppressedExceptions" "Ljava/util/List;") ∈ lw_all := lw_g (lw_at lw_m4 140 rfl) rfl
theorem q970 : (Jvm.Cond.lays "MessengerBoard$TextError" "java/lang/Throwable" "detailMessage" "Ljava/lang/String;") ∈ lw_all := lw_g (lw_at lw_m4 141 rfl) rfl
theorem q971 : (Jvm.Cond.lays "MessengerBoard$TextError" "java/lang/Throwable" "backtrace" "Ljava/lang/Object;") ∈ lw_all := lw_g (lw_at lw_m4 142 rfl) rfl
theorem q973 : (Jvm.Cond.instanceMethod ({ cls := "MessengerBoard$TextError", name := "<init>", desc := "(IILjava/lang/Exception;)V" } : Jvm.MethodName)) ∈ lw_all := lw_g (lw_at lw_m4 144 rfl) rfl
theorem q974 : (Jvm.Cond.code ({ cls := "MessengerBoard$TextError", name := "<init>", desc := "(IILjava/lang/Exception;)V" } : Jvm.MethodName) prog_18_method_1_code (4 : Nat) (Option.none : Option Jvm.ClassFile.FieldType)) ∈ lw_all := lw_g (lw_at lw_m4 145 rfl) rfl
theorem q975 : (Jvm.Cond.methodLink "MessengerBoard$TextError" (1 : Nat) ({ cls := "java/lang/Exception", name := "<init>", desc := "(Ljava/lang/String;Ljava/lang/Throwable;ZZ)V" } : Jvm.MethodName)) ∈ lw_all := lw_g (lw_at lw_m4 146 rfl) rfl
theorem q981 : (Jvm.Cond.fieldLink "MessengerBoard$TextError" (7 : Nat) "MessengerBoard$TextError" "code" "I") ∈ lw_all := lw_g (lw_at lw_m4 152 rfl) rfl
theorem q983 : (Jvm.Cond.fieldLink "MessengerBoard$TextError" (13 : Nat) "MessengerBoard$TextError" "position" "I") ∈ lw_all := lw_g (lw_at lw_m4 154 rfl) rfl
theorem q985 : (Jvm.Cond.laysFinal "MessengerBoard$TextError" "MessengerBoard$TextError" "code" "I") ∈ lw_all := lw_g (lw_at lw_m4 156 rfl) rfl
theorem q986 : (Jvm.Cond.soleField "MessengerBoard$TextError" "code") ∈ lw_all := lw_g (lw_at lw_m4 157 rfl) rfl
theorem q987 : (Jvm.Cond.laysFinal "MessengerBoard$TextError" "MessengerBoard$TextError" "position" "I") ∈ lw_all := lw_g (lw_at lw_m4 158 rfl) rfl
theorem q988 : (Jvm.Cond.soleField "MessengerBoard$TextError" "position") ∈ lw_all := lw_g (lw_at lw_m4 159 rfl) rfl
theorem q989 : (Jvm.Cond.lays "MessengerBoard$TextError" "java/lang/Throwable" "depth" "I") ∈ lw_all := lw_g (lw_at lw_m4 160 rfl) rfl
theorem q990 : (Jvm.Cond.superclass "MessengerBoard$TextError" "java/lang/Exception") ∈ lw_all := lw_g (lw_at lw_m4 161 rfl) rfl
theorem q1190 : (Jvm.Cond.selects "MessengerBoard$TextError" ({ cls := "java/lang/Object", name := "getClass", desc := "()Ljava/lang/Class;" } : Jvm.MethodName) ({ cls := "java/lang/Object", name := "getClass", desc := "()Ljava/lang/Class;" } : Jvm.MethodName)) ∈ lw_all := lw_g (lw_at lw_m5 121 rfl) rfl
theorem q2741 : (Jvm.Cond.castable "MessengerBoard$TextError" "java/lang/Object") ∈ lw_tbl := lw_at lw_m11 232 rfl
theorem in_X7 : ∀ w ∈ wsX70, w ∈ lw_all := lw_in wsX70 [967, 968, 969, 970, 971, 989, 985, 987] (by decide +kernel) (by decide +kernel)
/-! MessengerBoard$Unit -/
set_option maxRecDepth 100000
def RX8 : String := "MessengerBoard$Unit"
def TX8 : u_T := fun k => match k with
  | 0 => ("MessengerBoard$Unit", "pace", "I", true)
  | 1 => ("MessengerBoard$Unit", "x", "I", false)
  | 2 => ("MessengerBoard$Unit", "y", "I", false)
  | _ => ("MessengerBoard$Unit", "latest", "I", false)
def tyX8 : Nat → FieldType := fun k => match k with
  | 0 => .int
  | 1 => .int
  | 2 => .int
  | _ => .int
abbrev wsX80 : List Cond := u_ws RX8 TX8 4
theorem nmX8 : ∀ a, a < 4 → ∀ b, b < 4 → a ≠ b → (TX8 a).2.1 ≠ (TX8 b).2.1 := by decide +kernel
theorem tyX8_ok : ∀ k, k < 4 → parseFieldDescriptor (TX8 k).2.2.1 = some (tyX8 k) := by decide +kernel
abbrev cX8_isAt : ByteArray := prog_21_method_3_code
def yX8_isAt : MethodName := ⟨RX8, "isAt", "(II)Z"⟩
def dkwX8_isAt_0 : List UInt8 := [42, 180, 0, 15, 27, 160, 0, 15, 42, 180, 0, 18, 28, 160, 0, 7, 4, 167, 0, 4, 3, 172]
abbrev dktX8_isAt_0 : List UInt8 := dkwX8_isAt_0 ++ []
theorem dksX8_isAt_0 : cX8_isAt.data.toList.drop 0 = dktX8_isAt_0 := by decide +kernel
theorem dX8_isAt_0 : decode cX8_isAt 0 = .ok (.aload_n 0, 1) := dk_42 (dk_at dksX8_isAt_0 0 rfl rfl)
theorem dX8_isAt_1 : decode cX8_isAt 1 = .ok (.getfield 15, 3) := dk_180 0 15 (dk_at dksX8_isAt_0 1 rfl rfl)
theorem dX8_isAt_4 : decode cX8_isAt 4 = .ok (.iload_n 1, 1) := dk_27 (dk_at dksX8_isAt_0 4 rfl rfl)
theorem dX8_isAt_5 : decode cX8_isAt 5 = .ok (.if_icmp .ne 15, 3) := dk_160 0 15 (dk_at dksX8_isAt_0 5 rfl rfl)
theorem dX8_isAt_8 : decode cX8_isAt 8 = .ok (.aload_n 0, 1) := dk_42 (dk_at dksX8_isAt_0 8 rfl rfl)
theorem dX8_isAt_9 : decode cX8_isAt 9 = .ok (.getfield 18, 3) := dk_180 0 18 (dk_at dksX8_isAt_0 9 rfl rfl)
theorem dX8_isAt_12 : decode cX8_isAt 12 = .ok (.iload_n 2, 1) := dk_28 (dk_at dksX8_isAt_0 12 rfl rfl)
theorem dX8_isAt_13 : decode cX8_isAt 13 = .ok (.if_icmp .ne 7, 3) := dk_160 0 7 (dk_at dksX8_isAt_0 13 rfl rfl)
theorem dX8_isAt_16 : decode cX8_isAt 16 = .ok (.iconst 1, 1) := dk_4 (dk_at dksX8_isAt_0 16 rfl rfl)
theorem dX8_isAt_17 : decode cX8_isAt 17 = .ok (.goto 4, 3) := dk_167 0 4 (dk_at dksX8_isAt_0 17 rfl rfl)
theorem dX8_isAt_20 : decode cX8_isAt 20 = .ok (.iconst 0, 1) := dk_3 (dk_at dksX8_isAt_0 20 rfl rfl)
theorem dX8_isAt_21 : decode cX8_isAt 21 = .ok (.ireturn, 1) := dk_172 (dk_at dksX8_isAt_0 21 rfl rfl)
abbrev cX8_init : ByteArray := prog_21_method_1_code
def yX8_init : MethodName := ⟨RX8, "<init>", "(III)V"⟩
def dkwX8_init_1 : List UInt8 := [177]
abbrev dktX8_init_1 : List UInt8 := dkwX8_init_1 ++ []
def dkwX8_init_0 : List UInt8 := [42, 183, 0, 3, 42, 2, 181, 0, 9, 42, 27, 181, 0, 15, 42, 28, 181, 0, 18, 42, 29, 181, 0, 21]
abbrev dktX8_init_0 : List UInt8 := dkwX8_init_0 ++ dktX8_init_1
theorem dksX8_init_0 : cX8_init.data.toList.drop 0 = dktX8_init_0 := by decide +kernel
theorem dksX8_init_1 : cX8_init.data.toList.drop 24 = dktX8_init_1 := dk_seg dksX8_init_0 24 rfl rfl
theorem dX8_init_0 : decode cX8_init 0 = .ok (.aload_n 0, 1) := dk_42 (dk_at dksX8_init_0 0 rfl rfl)
theorem dX8_init_1 : decode cX8_init 1 = .ok (.invokespecial 3, 3) := dk_183 0 3 (dk_at dksX8_init_0 1 rfl rfl)
theorem dX8_init_4 : decode cX8_init 4 = .ok (.aload_n 0, 1) := dk_42 (dk_at dksX8_init_0 4 rfl rfl)
theorem dX8_init_5 : decode cX8_init 5 = .ok (.iconst (-1), 1) := dk_2 (dk_at dksX8_init_0 5 rfl rfl)
theorem dX8_init_6 : decode cX8_init 6 = .ok (.putfield 9, 3) := dk_181 0 9 (dk_at dksX8_init_0 6 rfl rfl)
theorem dX8_init_9 : decode cX8_init 9 = .ok (.aload_n 0, 1) := dk_42 (dk_at dksX8_init_0 9 rfl rfl)
theorem dX8_init_10 : decode cX8_init 10 = .ok (.iload_n 1, 1) := dk_27 (dk_at dksX8_init_0 10 rfl rfl)
theorem dX8_init_11 : decode cX8_init 11 = .ok (.putfield 15, 3) := dk_181 0 15 (dk_at dksX8_init_0 11 rfl rfl)
theorem dX8_init_14 : decode cX8_init 14 = .ok (.aload_n 0, 1) := dk_42 (dk_at dksX8_init_0 14 rfl rfl)
theorem dX8_init_15 : decode cX8_init 15 = .ok (.iload_n 2, 1) := dk_28 (dk_at dksX8_init_0 15 rfl rfl)
theorem dX8_init_16 : decode cX8_init 16 = .ok (.putfield 18, 3) := dk_181 0 18 (dk_at dksX8_init_0 16 rfl rfl)
theorem dX8_init_19 : decode cX8_init 19 = .ok (.aload_n 0, 1) := dk_42 (dk_at dksX8_init_0 19 rfl rfl)
theorem dX8_init_20 : decode cX8_init 20 = .ok (.iload_n 3, 1) := dk_29 (dk_at dksX8_init_0 20 rfl rfl)
theorem dX8_init_21 : decode cX8_init 21 = .ok (.putfield 21, 3) := dk_181 0 21 (dk_at dksX8_init_0 21 rfl rfl)
theorem dX8_init_24 : decode cX8_init 24 = .ok (.return_, 1) := dk_177 (dk_at dksX8_init_1 0 rfl rfl)
abbrev cX8_copy : ByteArray := prog_21_method_2_code
def yX8_copy : MethodName := ⟨RX8, "copy", "()LMessengerBoard$Unit;"⟩
def dkwX8_copy_1 : List UInt8 := [180, 0, 9, 181, 0, 9, 43, 176]
abbrev dktX8_copy_1 : List UInt8 := dkwX8_copy_1 ++ []
def dkwX8_copy_0 : List UInt8 := [187, 0, 10, 89, 42, 180, 0, 15, 42, 180, 0, 18, 42, 180, 0, 21, 183, 0, 24, 76, 43, 42]
abbrev dktX8_copy_0 : List UInt8 := dkwX8_copy_0 ++ dktX8_copy_1
theorem dksX8_copy_0 : cX8_copy.data.toList.drop 0 = dktX8_copy_0 := by decide +kernel
theorem dksX8_copy_1 : cX8_copy.data.toList.drop 22 = dktX8_copy_1 := dk_seg dksX8_copy_0 22 rfl rfl
theorem dX8_copy_0 : decode cX8_copy 0 = .ok (.new 10, 3) := dk_187 0 10 (dk_at dksX8_copy_0 0 rfl rfl)
theorem dX8_copy_3 : decode cX8_copy 3 = .ok (.dup, 1) := dk_89 (dk_at dksX8_copy_0 3 rfl rfl)
theorem dX8_copy_4 : decode cX8_copy 4 = .ok (.aload_n 0, 1) := dk_42 (dk_at dksX8_copy_0 4 rfl rfl)
theorem dX8_copy_5 : decode cX8_copy 5 = .ok (.getfield 15, 3) := dk_180 0 15 (dk_at dksX8_copy_0 5 rfl rfl)
theorem dX8_copy_8 : decode cX8_copy 8 = .ok (.aload_n 0, 1) := dk_42 (dk_at dksX8_copy_0 8 rfl rfl)
theorem dX8_copy_9 : decode cX8_copy 9 = .ok (.getfield 18, 3) := dk_180 0 18 (dk_at dksX8_copy_0 9 rfl rfl)
theorem dX8_copy_12 : decode cX8_copy 12 = .ok (.aload_n 0, 1) := dk_42 (dk_at dksX8_copy_0 12 rfl rfl)
theorem dX8_copy_13 : decode cX8_copy 13 = .ok (.getfield 21, 3) := dk_180 0 21 (dk_at dksX8_copy_0 13 rfl rfl)
theorem dX8_copy_16 : decode cX8_copy 16 = .ok (.invokespecial 24, 3) := dk_183 0 24 (dk_at dksX8_copy_0 16 rfl rfl)
theorem dX8_copy_19 : decode cX8_copy 19 = .ok (.astore_n 1, 1) := dk_76 (dk_at dksX8_copy_0 19 rfl rfl)
theorem dX8_copy_20 : decode cX8_copy 20 = .ok (.aload_n 1, 1) := dk_43 (dk_at dksX8_copy_0 20 rfl rfl)
theorem dX8_copy_21 : decode cX8_copy 21 = .ok (.aload_n 0, 1) := dk_42 (dk_at dksX8_copy_0 21 rfl rfl)
theorem dX8_copy_22 : decode cX8_copy 22 = .ok (.getfield 9, 3) := dk_180 0 9 (dk_at dksX8_copy_1 0 rfl rfl)
theorem dX8_copy_25 : decode cX8_copy 25 = .ok (.putfield 9, 3) := dk_181 0 9 (dk_at dksX8_copy_1 3 rfl rfl)
theorem dX8_copy_28 : decode cX8_copy 28 = .ok (.aload_n 1, 1) := dk_43 (dk_at dksX8_copy_1 6 rfl rfl)
theorem dX8_copy_29 : decode cX8_copy 29 = .ok (.areturn, 1) := dk_176 (dk_at dksX8_copy_1 7 rfl rfl)
theorem q140 : (Jvm.Cond.initialized "MessengerBoard$Unit") ∈ lw_all := lw_g (lw_at lw_m1 31 rfl) rfl
theorem q1117 : (Jvm.Cond.instanceMethod ({ cls := "MessengerBoard$Unit", name := "isAt", desc := "(II)Z" } : Jvm.MethodName)) ∈ lw_all := lw_g (lw_at lw_m5 48 rfl) rfl
theorem q1118 : (Jvm.Cond.selects "MessengerBoard$Unit" ({ cls := "MessengerBoard$Unit", name := "isAt", desc := "(II)Z" } : Jvm.MethodName) ({ cls := "MessengerBoard$Unit", name := "isAt", desc := "(II)Z" } : Jvm.MethodName)) ∈ lw_all := lw_g (lw_at lw_m5 49 rfl) rfl
theorem q1119 : (Jvm.Cond.code ({ cls := "MessengerBoard$Unit", name := "isAt", desc := "(II)Z" } : Jvm.MethodName) prog_21_method_3_code (3 : Nat) (Option.some Jvm.ClassFile.FieldType.boolean)) ∈ lw_all := lw_g (lw_at lw_m5 50 rfl) rfl
theorem q1126 : (Jvm.Cond.instantiable "MessengerBoard$Unit" (4 : Nat)) ∈ lw_all := lw_g (lw_at lw_m5 57 rfl) rfl
theorem q1128 : (Jvm.Cond.instanceMethod ({ cls := "MessengerBoard$Unit", name := "<init>", desc := "(III)V" } : Jvm.MethodName)) ∈ lw_all := lw_g (lw_at lw_m5 59 rfl) rfl
theorem q1129 : (Jvm.Cond.code ({ cls := "MessengerBoard$Unit", name := "<init>", desc := "(III)V" } : Jvm.MethodName) prog_21_method_1_code (4 : Nat) (Option.none : Option Jvm.ClassFile.FieldType)) ∈ lw_all := lw_g (lw_at lw_m5 60 rfl) rfl
theorem q1130 : (Jvm.Cond.methodLink "MessengerBoard$Unit" (3 : Nat) ({ cls := "java/lang/Object", name := "<init>", desc := "()V" } : Jvm.MethodName)) ∈ lw_all := lw_g (lw_at lw_m5 61 rfl) rfl
theorem q1131 : (Jvm.Cond.fieldLink "MessengerBoard$Unit" (21 : Nat) "MessengerBoard$Unit" "pace" "I") ∈ lw_all := lw_g (lw_at lw_m5 62 rfl) rfl
theorem q1134 : (Jvm.Cond.fieldLink "MessengerBoard$Unit" (15 : Nat) "MessengerBoard$Unit" "x" "I") ∈ lw_all := lw_g (lw_at lw_m5 65 rfl) rfl
theorem q1137 : (Jvm.Cond.fieldLink "MessengerBoard$Unit" (18 : Nat) "MessengerBoard$Unit" "y" "I") ∈ lw_all := lw_g (lw_at lw_m5 68 rfl) rfl
theorem q1140 : (Jvm.Cond.fieldLink "MessengerBoard$Unit" (9 : Nat) "MessengerBoard$Unit" "latest" "I") ∈ lw_all := lw_g (lw_at lw_m5 71 rfl) rfl
theorem q1143 : (Jvm.Cond.laysFinal "MessengerBoard$Unit" "MessengerBoard$Unit" "pace" "I") ∈ lw_all := lw_g (lw_at lw_m5 74 rfl) rfl
theorem q1144 : (Jvm.Cond.soleField "MessengerBoard$Unit" "pace") ∈ lw_all := lw_g (lw_at lw_m5 75 rfl) rfl
theorem q1145 : (Jvm.Cond.lays "MessengerBoard$Unit" "MessengerBoard$Unit" "x" "I") ∈ lw_all := lw_g (lw_at lw_m5 76 rfl) rfl
theorem q1146 : (Jvm.Cond.soleField "MessengerBoard$Unit" "x") ∈ lw_all := lw_g (lw_at lw_m5 77 rfl) rfl
theorem q1147 : (Jvm.Cond.lays "MessengerBoard$Unit" "MessengerBoard$Unit" "y" "I") ∈ lw_all := lw_g (lw_at lw_m5 78 rfl) rfl
theorem q1148 : (Jvm.Cond.soleField "MessengerBoard$Unit" "y") ∈ lw_all := lw_g (lw_at lw_m5 79 rfl) rfl
theorem q1149 : (Jvm.Cond.lays "MessengerBoard$Unit" "MessengerBoard$Unit" "latest" "I") ∈ lw_all := lw_g (lw_at lw_m5 80 rfl) rfl
theorem q1150 : (Jvm.Cond.soleField "MessengerBoard$Unit" "latest") ∈ lw_all := lw_g (lw_at lw_m5 81 rfl) rfl
theorem q1151 : (Jvm.Cond.superclass "MessengerBoard$Unit" "java/lang/Object") ∈ lw_all := lw_g (lw_at lw_m5 82 rfl) rfl
theorem q1192 : (Jvm.Cond.selects "MessengerBoard$Unit" ({ cls := "java/lang/Object", name := "getClass", desc := "()Ljava/lang/Class;" } : Jvm.MethodName) ({ cls := "java/lang/Object", name := "getClass", desc := "()Ljava/lang/Class;" } : Jvm.MethodName)) ∈ lw_all := lw_g (lw_at lw_m5 123 rfl) rfl
theorem q1553 : (Jvm.Cond.instanceMethod ({ cls := "MessengerBoard$Unit", name := "copy", desc := "()LMessengerBoard$Unit;" } : Jvm.MethodName)) ∈ lw_all := lw_g (lw_at lw_m7 4 rfl) rfl
theorem q1554 : (Jvm.Cond.selects "MessengerBoard$Unit" ({ cls := "MessengerBoard$Unit", name := "copy", desc := "()LMessengerBoard$Unit;" } : Jvm.MethodName) ({ cls := "MessengerBoard$Unit", name := "copy", desc := "()LMessengerBoard$Unit;" } : Jvm.MethodName)) ∈ lw_all := lw_g (lw_at lw_m7 5 rfl) rfl
theorem q1555 : (Jvm.Cond.code ({ cls := "MessengerBoard$Unit", name := "copy", desc := "()LMessengerBoard$Unit;" } : Jvm.MethodName) prog_21_method_2_code (2 : Nat) (Option.some (Jvm.ClassFile.FieldType.object "MessengerBoard$Unit"))) ∈ lw_all := lw_g (lw_at lw_m7 6 rfl) rfl
theorem q1556 : (Jvm.Cond.classLink "MessengerBoard$Unit" (10 : Nat) "MessengerBoard$Unit") ∈ lw_all := lw_g (lw_at lw_m7 7 rfl) rfl
theorem q1557 : (Jvm.Cond.methodLink "MessengerBoard$Unit" (24 : Nat) ({ cls := "MessengerBoard$Unit", name := "<init>", desc := "(III)V" } : Jvm.MethodName)) ∈ lw_all := lw_g (lw_at lw_m7 8 rfl) rfl
theorem q2743 : (Jvm.Cond.castable "MessengerBoard$Unit" "java/lang/Object") ∈ lw_tbl := lw_at lw_m11 234 rfl
theorem in_X8 : ∀ w ∈ wsX80, w ∈ lw_all := lw_in wsX80 [1143, 1145, 1147, 1149] (by decide +kernel) (by decide +kernel)
/-! MessengerBoard$Picket -/
set_option maxRecDepth 100000
def RX9 : String := "MessengerBoard$Picket"
def TX9 : u_T := fun k => match k with
  | 0 => ("MessengerBoard$Picket", "range", "I", true)
  | 1 => ("MessengerBoard$Picket", "period", "I", true)
  | 2 => ("MessengerBoard$Picket", "first", "I", true)
  | 3 => ("MessengerBoard$Picket", "last", "I", true)
  | 4 => ("MessengerBoard$Picket", "x", "I", false)
  | 5 => ("MessengerBoard$Picket", "y", "I", false)
  | _ => ("MessengerBoard$Picket", "caught", "I", false)
def tyX9 : Nat → FieldType := fun k => match k with
  | 0 => .int
  | 1 => .int
  | 2 => .int
  | 3 => .int
  | 4 => .int
  | 5 => .int
  | _ => .int
abbrev wsX90 : List Cond := u_ws RX9 TX9 7
theorem nmX9 : ∀ a, a < 7 → ∀ b, b < 7 → a ≠ b → (TX9 a).2.1 ≠ (TX9 b).2.1 := by decide +kernel
theorem tyX9_ok : ∀ k, k < 7 → parseFieldDescriptor (TX9 k).2.2.1 = some (tyX9 k) := by decide +kernel
abbrev cX9_init : ByteArray := prog_11_method_1_code
def yX9_init : MethodName := ⟨RX9, "<init>", "(IIIIII)V"⟩
def dkwX9_init_1 : List UInt8 := [181, 0, 19, 42, 21, 5, 181, 0, 22, 42, 21, 6, 181, 0, 25, 177]
abbrev dktX9_init_1 : List UInt8 := dkwX9_init_1 ++ []
def dkwX9_init_0 : List UInt8 := [42, 183, 0, 1, 42, 27, 181, 0, 7, 42, 28, 181, 0, 13, 42, 29, 181, 0, 16, 42, 21, 4]
abbrev dktX9_init_0 : List UInt8 := dkwX9_init_0 ++ dktX9_init_1
theorem dksX9_init_0 : cX9_init.data.toList.drop 0 = dktX9_init_0 := by decide +kernel
theorem dksX9_init_1 : cX9_init.data.toList.drop 22 = dktX9_init_1 := dk_seg dksX9_init_0 22 rfl rfl
theorem dX9_init_0 : decode cX9_init 0 = .ok (.aload_n 0, 1) := dk_42 (dk_at dksX9_init_0 0 rfl rfl)
theorem dX9_init_1 : decode cX9_init 1 = .ok (.invokespecial 1, 3) := dk_183 0 1 (dk_at dksX9_init_0 1 rfl rfl)
theorem dX9_init_4 : decode cX9_init 4 = .ok (.aload_n 0, 1) := dk_42 (dk_at dksX9_init_0 4 rfl rfl)
theorem dX9_init_5 : decode cX9_init 5 = .ok (.iload_n 1, 1) := dk_27 (dk_at dksX9_init_0 5 rfl rfl)
theorem dX9_init_6 : decode cX9_init 6 = .ok (.putfield 7, 3) := dk_181 0 7 (dk_at dksX9_init_0 6 rfl rfl)
theorem dX9_init_9 : decode cX9_init 9 = .ok (.aload_n 0, 1) := dk_42 (dk_at dksX9_init_0 9 rfl rfl)
theorem dX9_init_10 : decode cX9_init 10 = .ok (.iload_n 2, 1) := dk_28 (dk_at dksX9_init_0 10 rfl rfl)
theorem dX9_init_11 : decode cX9_init 11 = .ok (.putfield 13, 3) := dk_181 0 13 (dk_at dksX9_init_0 11 rfl rfl)
theorem dX9_init_14 : decode cX9_init 14 = .ok (.aload_n 0, 1) := dk_42 (dk_at dksX9_init_0 14 rfl rfl)
theorem dX9_init_15 : decode cX9_init 15 = .ok (.iload_n 3, 1) := dk_29 (dk_at dksX9_init_0 15 rfl rfl)
theorem dX9_init_16 : decode cX9_init 16 = .ok (.putfield 16, 3) := dk_181 0 16 (dk_at dksX9_init_0 16 rfl rfl)
theorem dX9_init_19 : decode cX9_init 19 = .ok (.aload_n 0, 1) := dk_42 (dk_at dksX9_init_0 19 rfl rfl)
theorem dX9_init_20 : decode cX9_init 20 = .ok (.iload 4, 2) := dk_21 4 (dk_at dksX9_init_0 20 rfl rfl)
theorem dX9_init_22 : decode cX9_init 22 = .ok (.putfield 19, 3) := dk_181 0 19 (dk_at dksX9_init_1 0 rfl rfl)
theorem dX9_init_25 : decode cX9_init 25 = .ok (.aload_n 0, 1) := dk_42 (dk_at dksX9_init_1 3 rfl rfl)
theorem dX9_init_26 : decode cX9_init 26 = .ok (.iload 5, 2) := dk_21 5 (dk_at dksX9_init_1 4 rfl rfl)
theorem dX9_init_28 : decode cX9_init 28 = .ok (.putfield 22, 3) := dk_181 0 22 (dk_at dksX9_init_1 6 rfl rfl)
theorem dX9_init_31 : decode cX9_init 31 = .ok (.aload_n 0, 1) := dk_42 (dk_at dksX9_init_1 9 rfl rfl)
theorem dX9_init_32 : decode cX9_init 32 = .ok (.iload 6, 2) := dk_21 6 (dk_at dksX9_init_1 10 rfl rfl)
theorem dX9_init_34 : decode cX9_init 34 = .ok (.putfield 25, 3) := dk_181 0 25 (dk_at dksX9_init_1 12 rfl rfl)
theorem dX9_init_37 : decode cX9_init 37 = .ok (.return_, 1) := dk_177 (dk_at dksX9_init_1 15 rfl rfl)
abbrev cX9_watches : ByteArray := prog_11_method_3_code
def yX9_watches : MethodName := ⟨RX9, "watches", "(I)Z"⟩
def dkwX9_watches_0 : List UInt8 := [27, 42, 180, 0, 19, 112, 133, 42, 180, 0, 22, 133, 42, 180, 0, 25, 133, 184, 0, 34, 172]
abbrev dktX9_watches_0 : List UInt8 := dkwX9_watches_0 ++ []
theorem dksX9_watches_0 : cX9_watches.data.toList.drop 0 = dktX9_watches_0 := by decide +kernel
theorem dX9_watches_0 : decode cX9_watches 0 = .ok (.iload_n 1, 1) := dk_27 (dk_at dksX9_watches_0 0 rfl rfl)
theorem dX9_watches_1 : decode cX9_watches 1 = .ok (.aload_n 0, 1) := dk_42 (dk_at dksX9_watches_0 1 rfl rfl)
theorem dX9_watches_2 : decode cX9_watches 2 = .ok (.getfield 19, 3) := dk_180 0 19 (dk_at dksX9_watches_0 2 rfl rfl)
theorem dX9_watches_5 : decode cX9_watches 5 = .ok (.irem, 1) := dk_112 (dk_at dksX9_watches_0 5 rfl rfl)
theorem dX9_watches_6 : decode cX9_watches 6 = .ok (.i2l, 1) := dk_133 (dk_at dksX9_watches_0 6 rfl rfl)
theorem dX9_watches_7 : decode cX9_watches 7 = .ok (.aload_n 0, 1) := dk_42 (dk_at dksX9_watches_0 7 rfl rfl)
theorem dX9_watches_8 : decode cX9_watches 8 = .ok (.getfield 22, 3) := dk_180 0 22 (dk_at dksX9_watches_0 8 rfl rfl)
theorem dX9_watches_11 : decode cX9_watches 11 = .ok (.i2l, 1) := dk_133 (dk_at dksX9_watches_0 11 rfl rfl)
theorem dX9_watches_12 : decode cX9_watches 12 = .ok (.aload_n 0, 1) := dk_42 (dk_at dksX9_watches_0 12 rfl rfl)
theorem dX9_watches_13 : decode cX9_watches 13 = .ok (.getfield 25, 3) := dk_180 0 25 (dk_at dksX9_watches_0 13 rfl rfl)
theorem dX9_watches_16 : decode cX9_watches 16 = .ok (.i2l, 1) := dk_133 (dk_at dksX9_watches_0 16 rfl rfl)
theorem dX9_watches_17 : decode cX9_watches 17 = .ok (.invokestatic 34, 3) := dk_184 0 34 (dk_at dksX9_watches_0 17 rfl rfl)
theorem dX9_watches_20 : decode cX9_watches 20 = .ok (.ireturn, 1) := dk_172 (dk_at dksX9_watches_0 20 rfl rfl)
abbrev cX9_sees : ByteArray := prog_11_method_4_code
def yX9_sees : MethodName := ⟨RX9, "sees", "(III)Z"⟩
def dkwX9_sees_1 : List UInt8 := [28, 42, 180, 0, 13, 100, 184, 0, 44, 42, 180, 0, 16, 163, 0, 7, 4, 167, 0, 4, 3, 172]
abbrev dktX9_sees_1 : List UInt8 := dkwX9_sees_1 ++ []
def dkwX9_sees_0 : List UInt8 := [42, 29, 182, 0, 40, 153, 0, 39, 27, 42, 180, 0, 7, 100, 184, 0, 44, 42, 180, 0, 16, 163, 0, 23]
abbrev dktX9_sees_0 : List UInt8 := dkwX9_sees_0 ++ dktX9_sees_1
theorem dksX9_sees_0 : cX9_sees.data.toList.drop 0 = dktX9_sees_0 := by decide +kernel
theorem dksX9_sees_1 : cX9_sees.data.toList.drop 24 = dktX9_sees_1 := dk_seg dksX9_sees_0 24 rfl rfl
theorem dX9_sees_0 : decode cX9_sees 0 = .ok (.aload_n 0, 1) := dk_42 (dk_at dksX9_sees_0 0 rfl rfl)
theorem dX9_sees_1 : decode cX9_sees 1 = .ok (.iload_n 3, 1) := dk_29 (dk_at dksX9_sees_0 1 rfl rfl)
theorem dX9_sees_2 : decode cX9_sees 2 = .ok (.invokevirtual 40, 3) := dk_182 0 40 (dk_at dksX9_sees_0 2 rfl rfl)
theorem dX9_sees_5 : decode cX9_sees 5 = .ok (.ifCond .eq 39, 3) := dk_153 0 39 (dk_at dksX9_sees_0 5 rfl rfl)
theorem dX9_sees_8 : decode cX9_sees 8 = .ok (.iload_n 1, 1) := dk_27 (dk_at dksX9_sees_0 8 rfl rfl)
theorem dX9_sees_9 : decode cX9_sees 9 = .ok (.aload_n 0, 1) := dk_42 (dk_at dksX9_sees_0 9 rfl rfl)
theorem dX9_sees_10 : decode cX9_sees 10 = .ok (.getfield 7, 3) := dk_180 0 7 (dk_at dksX9_sees_0 10 rfl rfl)
theorem dX9_sees_13 : decode cX9_sees 13 = .ok (.isub, 1) := dk_100 (dk_at dksX9_sees_0 13 rfl rfl)
theorem dX9_sees_14 : decode cX9_sees 14 = .ok (.invokestatic 44, 3) := dk_184 0 44 (dk_at dksX9_sees_0 14 rfl rfl)
theorem dX9_sees_17 : decode cX9_sees 17 = .ok (.aload_n 0, 1) := dk_42 (dk_at dksX9_sees_0 17 rfl rfl)
theorem dX9_sees_18 : decode cX9_sees 18 = .ok (.getfield 16, 3) := dk_180 0 16 (dk_at dksX9_sees_0 18 rfl rfl)
theorem dX9_sees_21 : decode cX9_sees 21 = .ok (.if_icmp .gt 23, 3) := dk_163 0 23 (dk_at dksX9_sees_0 21 rfl rfl)
theorem dX9_sees_24 : decode cX9_sees 24 = .ok (.iload_n 2, 1) := dk_28 (dk_at dksX9_sees_1 0 rfl rfl)
theorem dX9_sees_25 : decode cX9_sees 25 = .ok (.aload_n 0, 1) := dk_42 (dk_at dksX9_sees_1 1 rfl rfl)
theorem dX9_sees_26 : decode cX9_sees 26 = .ok (.getfield 13, 3) := dk_180 0 13 (dk_at dksX9_sees_1 2 rfl rfl)
theorem dX9_sees_29 : decode cX9_sees 29 = .ok (.isub, 1) := dk_100 (dk_at dksX9_sees_1 5 rfl rfl)
theorem dX9_sees_30 : decode cX9_sees 30 = .ok (.invokestatic 44, 3) := dk_184 0 44 (dk_at dksX9_sees_1 6 rfl rfl)
theorem dX9_sees_33 : decode cX9_sees 33 = .ok (.aload_n 0, 1) := dk_42 (dk_at dksX9_sees_1 9 rfl rfl)
theorem dX9_sees_34 : decode cX9_sees 34 = .ok (.getfield 16, 3) := dk_180 0 16 (dk_at dksX9_sees_1 10 rfl rfl)
theorem dX9_sees_37 : decode cX9_sees 37 = .ok (.if_icmp .gt 7, 3) := dk_163 0 7 (dk_at dksX9_sees_1 13 rfl rfl)
theorem dX9_sees_40 : decode cX9_sees 40 = .ok (.iconst 1, 1) := dk_4 (dk_at dksX9_sees_1 16 rfl rfl)
theorem dX9_sees_41 : decode cX9_sees 41 = .ok (.goto 4, 3) := dk_167 0 4 (dk_at dksX9_sees_1 17 rfl rfl)
theorem dX9_sees_44 : decode cX9_sees 44 = .ok (.iconst 0, 1) := dk_3 (dk_at dksX9_sees_1 20 rfl rfl)
theorem dX9_sees_45 : decode cX9_sees 45 = .ok (.ireturn, 1) := dk_172 (dk_at dksX9_sees_1 21 rfl rfl)
abbrev cX9_copy : ByteArray := prog_11_method_2_code
def yX9_copy : MethodName := ⟨RX9, "copy", "()LMessengerBoard$Picket;"⟩
def dkwX9_copy_1 : List UInt8 := [42, 180, 0, 25, 183, 0, 28, 76, 43, 42, 180, 0, 31, 181, 0, 31, 43, 176]
abbrev dktX9_copy_1 : List UInt8 := dkwX9_copy_1 ++ []
def dkwX9_copy_0 : List UInt8 := [187, 0, 8, 89, 42, 180, 0, 7, 42, 180, 0, 13, 42, 180, 0, 16, 42, 180, 0, 19, 42, 180, 0, 22]
abbrev dktX9_copy_0 : List UInt8 := dkwX9_copy_0 ++ dktX9_copy_1
theorem dksX9_copy_0 : cX9_copy.data.toList.drop 0 = dktX9_copy_0 := by decide +kernel
theorem dksX9_copy_1 : cX9_copy.data.toList.drop 24 = dktX9_copy_1 := dk_seg dksX9_copy_0 24 rfl rfl
theorem dX9_copy_0 : decode cX9_copy 0 = .ok (.new 8, 3) := dk_187 0 8 (dk_at dksX9_copy_0 0 rfl rfl)
theorem dX9_copy_3 : decode cX9_copy 3 = .ok (.dup, 1) := dk_89 (dk_at dksX9_copy_0 3 rfl rfl)
theorem dX9_copy_4 : decode cX9_copy 4 = .ok (.aload_n 0, 1) := dk_42 (dk_at dksX9_copy_0 4 rfl rfl)
theorem dX9_copy_5 : decode cX9_copy 5 = .ok (.getfield 7, 3) := dk_180 0 7 (dk_at dksX9_copy_0 5 rfl rfl)
theorem dX9_copy_8 : decode cX9_copy 8 = .ok (.aload_n 0, 1) := dk_42 (dk_at dksX9_copy_0 8 rfl rfl)
theorem dX9_copy_9 : decode cX9_copy 9 = .ok (.getfield 13, 3) := dk_180 0 13 (dk_at dksX9_copy_0 9 rfl rfl)
theorem dX9_copy_12 : decode cX9_copy 12 = .ok (.aload_n 0, 1) := dk_42 (dk_at dksX9_copy_0 12 rfl rfl)
theorem dX9_copy_13 : decode cX9_copy 13 = .ok (.getfield 16, 3) := dk_180 0 16 (dk_at dksX9_copy_0 13 rfl rfl)
theorem dX9_copy_16 : decode cX9_copy 16 = .ok (.aload_n 0, 1) := dk_42 (dk_at dksX9_copy_0 16 rfl rfl)
theorem dX9_copy_17 : decode cX9_copy 17 = .ok (.getfield 19, 3) := dk_180 0 19 (dk_at dksX9_copy_0 17 rfl rfl)
theorem dX9_copy_20 : decode cX9_copy 20 = .ok (.aload_n 0, 1) := dk_42 (dk_at dksX9_copy_0 20 rfl rfl)
theorem dX9_copy_21 : decode cX9_copy 21 = .ok (.getfield 22, 3) := dk_180 0 22 (dk_at dksX9_copy_0 21 rfl rfl)
theorem dX9_copy_24 : decode cX9_copy 24 = .ok (.aload_n 0, 1) := dk_42 (dk_at dksX9_copy_1 0 rfl rfl)
theorem dX9_copy_25 : decode cX9_copy 25 = .ok (.getfield 25, 3) := dk_180 0 25 (dk_at dksX9_copy_1 1 rfl rfl)
theorem dX9_copy_28 : decode cX9_copy 28 = .ok (.invokespecial 28, 3) := dk_183 0 28 (dk_at dksX9_copy_1 4 rfl rfl)
theorem dX9_copy_31 : decode cX9_copy 31 = .ok (.astore_n 1, 1) := dk_76 (dk_at dksX9_copy_1 7 rfl rfl)
theorem dX9_copy_32 : decode cX9_copy 32 = .ok (.aload_n 1, 1) := dk_43 (dk_at dksX9_copy_1 8 rfl rfl)
theorem dX9_copy_33 : decode cX9_copy 33 = .ok (.aload_n 0, 1) := dk_42 (dk_at dksX9_copy_1 9 rfl rfl)
theorem dX9_copy_34 : decode cX9_copy 34 = .ok (.getfield 31, 3) := dk_180 0 31 (dk_at dksX9_copy_1 10 rfl rfl)
theorem dX9_copy_37 : decode cX9_copy 37 = .ok (.putfield 31, 3) := dk_181 0 31 (dk_at dksX9_copy_1 13 rfl rfl)
theorem dX9_copy_40 : decode cX9_copy 40 = .ok (.aload_n 1, 1) := dk_43 (dk_at dksX9_copy_1 16 rfl rfl)
theorem dX9_copy_41 : decode cX9_copy 41 = .ok (.areturn, 1) := dk_176 (dk_at dksX9_copy_1 17 rfl rfl)
theorem q141 : (Jvm.Cond.initialized "MessengerBoard$Picket") ∈ lw_all := lw_g (lw_at lw_m1 32 rfl) rfl
theorem q1185 : (Jvm.Cond.selects "MessengerBoard$Picket" ({ cls := "java/lang/Object", name := "getClass", desc := "()Ljava/lang/Class;" } : Jvm.MethodName) ({ cls := "java/lang/Object", name := "getClass", desc := "()Ljava/lang/Class;" } : Jvm.MethodName)) ∈ lw_all := lw_g (lw_at lw_m5 116 rfl) rfl
theorem q1219 : (Jvm.Cond.instantiable "MessengerBoard$Picket" (7 : Nat)) ∈ lw_all := lw_g (lw_at lw_m5 150 rfl) rfl
theorem q1221 : (Jvm.Cond.instanceMethod ({ cls := "MessengerBoard$Picket", name := "<init>", desc := "(IIIIII)V" } : Jvm.MethodName)) ∈ lw_all := lw_g (lw_at lw_m5 152 rfl) rfl
theorem q1222 : (Jvm.Cond.code ({ cls := "MessengerBoard$Picket", name := "<init>", desc := "(IIIIII)V" } : Jvm.MethodName) prog_11_method_1_code (7 : Nat) (Option.none : Option Jvm.ClassFile.FieldType)) ∈ lw_all := lw_g (lw_at lw_m5 153 rfl) rfl
theorem q1223 : (Jvm.Cond.methodLink "MessengerBoard$Picket" (1 : Nat) ({ cls := "java/lang/Object", name := "<init>", desc := "()V" } : Jvm.MethodName)) ∈ lw_all := lw_g (lw_at lw_m5 154 rfl) rfl
theorem q1224 : (Jvm.Cond.fieldLink "MessengerBoard$Picket" (16 : Nat) "MessengerBoard$Picket" "range" "I") ∈ lw_all := lw_g (lw_at lw_m5 155 rfl) rfl
theorem q1226 : (Jvm.Cond.fieldLink "MessengerBoard$Picket" (19 : Nat) "MessengerBoard$Picket" "period" "I") ∈ lw_all := lw_g (lw_at lw_m5 157 rfl) rfl
theorem q1228 : (Jvm.Cond.fieldLink "MessengerBoard$Picket" (22 : Nat) "MessengerBoard$Picket" "first" "I") ∈ lw_all := lw_g (lw_at lw_m5 159 rfl) rfl
theorem q1230 : (Jvm.Cond.fieldLink "MessengerBoard$Picket" (25 : Nat) "MessengerBoard$Picket" "last" "I") ∈ lw_all := lw_g (lw_at lw_m5 161 rfl) rfl
theorem q1232 : (Jvm.Cond.fieldLink "MessengerBoard$Picket" (7 : Nat) "MessengerBoard$Picket" "x" "I") ∈ lw_all := lw_g (lw_at lw_m5 163 rfl) rfl
theorem q1234 : (Jvm.Cond.fieldLink "MessengerBoard$Picket" (13 : Nat) "MessengerBoard$Picket" "y" "I") ∈ lw_all := lw_g (lw_at lw_m5 165 rfl) rfl
theorem q1236 : (Jvm.Cond.fieldLink "MessengerBoard$Picket" (31 : Nat) "MessengerBoard$Picket" "caught" "I") ∈ lw_all := lw_g (lw_at lw_m5 167 rfl) rfl
theorem q1239 : (Jvm.Cond.laysFinal "MessengerBoard$Picket" "MessengerBoard$Picket" "range" "I") ∈ lw_all := lw_g (lw_at lw_m5 170 rfl) rfl
theorem q1240 : (Jvm.Cond.soleField "MessengerBoard$Picket" "range") ∈ lw_all := lw_g (lw_at lw_m5 171 rfl) rfl
theorem q1241 : (Jvm.Cond.laysFinal "MessengerBoard$Picket" "MessengerBoard$Picket" "period" "I") ∈ lw_all := lw_g (lw_at lw_m5 172 rfl) rfl
theorem q1242 : (Jvm.Cond.soleField "MessengerBoard$Picket" "period") ∈ lw_all := lw_g (lw_at lw_m5 173 rfl) rfl
theorem q1243 : (Jvm.Cond.laysFinal "MessengerBoard$Picket" "MessengerBoard$Picket" "first" "I") ∈ lw_all := lw_g (lw_at lw_m5 174 rfl) rfl
theorem q1244 : (Jvm.Cond.soleField "MessengerBoard$Picket" "first") ∈ lw_all := lw_g (lw_at lw_m5 175 rfl) rfl
theorem q1245 : (Jvm.Cond.laysFinal "MessengerBoard$Picket" "MessengerBoard$Picket" "last" "I") ∈ lw_all := lw_g (lw_at lw_m5 176 rfl) rfl
theorem q1246 : (Jvm.Cond.soleField "MessengerBoard$Picket" "last") ∈ lw_all := lw_g (lw_at lw_m5 177 rfl) rfl
theorem q1247 : (Jvm.Cond.lays "MessengerBoard$Picket" "MessengerBoard$Picket" "x" "I") ∈ lw_all := lw_g (lw_at lw_m5 178 rfl) rfl
theorem q1248 : (Jvm.Cond.soleField "MessengerBoard$Picket" "x") ∈ lw_all := lw_g (lw_at lw_m5 179 rfl) rfl
theorem q1249 : (Jvm.Cond.lays "MessengerBoard$Picket" "MessengerBoard$Picket" "y" "I") ∈ lw_all := lw_g (lw_at lw_m5 180 rfl) rfl
theorem q1250 : (Jvm.Cond.soleField "MessengerBoard$Picket" "y") ∈ lw_all := lw_g (lw_at lw_m5 181 rfl) rfl
theorem q1251 : (Jvm.Cond.lays "MessengerBoard$Picket" "MessengerBoard$Picket" "caught" "I") ∈ lw_all := lw_g (lw_at lw_m5 182 rfl) rfl
theorem q1252 : (Jvm.Cond.soleField "MessengerBoard$Picket" "caught") ∈ lw_all := lw_g (lw_at lw_m5 183 rfl) rfl
theorem q1253 : (Jvm.Cond.superclass "MessengerBoard$Picket" "java/lang/Object") ∈ lw_all := lw_g (lw_at lw_m5 184 rfl) rfl
theorem q1385 : (Jvm.Cond.instanceMethod ({ cls := "MessengerBoard$Picket", name := "watches", desc := "(I)Z" } : Jvm.MethodName)) ∈ lw_all := lw_g (lw_at lw_m6 76 rfl) rfl
theorem q1386 : (Jvm.Cond.selects "MessengerBoard$Picket" ({ cls := "MessengerBoard$Picket", name := "watches", desc := "(I)Z" } : Jvm.MethodName) ({ cls := "MessengerBoard$Picket", name := "watches", desc := "(I)Z" } : Jvm.MethodName)) ∈ lw_all := lw_g (lw_at lw_m6 77 rfl) rfl
theorem q1387 : (Jvm.Cond.code ({ cls := "MessengerBoard$Picket", name := "watches", desc := "(I)Z" } : Jvm.MethodName) prog_11_method_3_code (2 : Nat) (Option.some Jvm.ClassFile.FieldType.boolean)) ∈ lw_all := lw_g (lw_at lw_m6 78 rfl) rfl
theorem q1388 : (Jvm.Cond.methodLinkNest "MessengerBoard$Picket" (34 : Nat) ({ cls := "MessengerBoard", name := "isIn", desc := "(JJJ)Z" } : Jvm.MethodName) "MessengerBoard") ∈ lw_tbl := lw_at lw_m6 79 rfl
theorem q1462 : (Jvm.Cond.instanceMethod ({ cls := "MessengerBoard$Picket", name := "sees", desc := "(III)Z" } : Jvm.MethodName)) ∈ lw_all := lw_g (lw_at lw_m6 153 rfl) rfl
theorem q1463 : (Jvm.Cond.selects "MessengerBoard$Picket" ({ cls := "MessengerBoard$Picket", name := "sees", desc := "(III)Z" } : Jvm.MethodName) ({ cls := "MessengerBoard$Picket", name := "sees", desc := "(III)Z" } : Jvm.MethodName)) ∈ lw_all := lw_g (lw_at lw_m6 154 rfl) rfl
theorem q1464 : (Jvm.Cond.code ({ cls := "MessengerBoard$Picket", name := "sees", desc := "(III)Z" } : Jvm.MethodName) prog_11_method_4_code (4 : Nat) (Option.some Jvm.ClassFile.FieldType.boolean)) ∈ lw_all := lw_g (lw_at lw_m6 155 rfl) rfl
theorem q1465 : (Jvm.Cond.methodLink "MessengerBoard$Picket" (40 : Nat) ({ cls := "MessengerBoard$Picket", name := "watches", desc := "(I)Z" } : Jvm.MethodName)) ∈ lw_all := lw_g (lw_at lw_m6 156 rfl) rfl
theorem q1466 : (Jvm.Cond.methodLink "MessengerBoard$Picket" (44 : Nat) ({ cls := "java/lang/Math", name := "abs", desc := "(I)I" } : Jvm.MethodName)) ∈ lw_all := lw_g (lw_at lw_m6 157 rfl) rfl
theorem q1560 : (Jvm.Cond.instanceMethod ({ cls := "MessengerBoard$Picket", name := "copy", desc := "()LMessengerBoard$Picket;" } : Jvm.MethodName)) ∈ lw_all := lw_g (lw_at lw_m7 11 rfl) rfl
theorem q1561 : (Jvm.Cond.selects "MessengerBoard$Picket" ({ cls := "MessengerBoard$Picket", name := "copy", desc := "()LMessengerBoard$Picket;" } : Jvm.MethodName) ({ cls := "MessengerBoard$Picket", name := "copy", desc := "()LMessengerBoard$Picket;" } : Jvm.MethodName)) ∈ lw_all := lw_g (lw_at lw_m7 12 rfl) rfl
theorem q1562 : (Jvm.Cond.code ({ cls := "MessengerBoard$Picket", name := "copy", desc := "()LMessengerBoard$Picket;" } : Jvm.MethodName) prog_11_method_2_code (2 : Nat) (Option.some (Jvm.ClassFile.FieldType.object "MessengerBoard$Picket"))) ∈ lw_all := lw_g (lw_at lw_m7 13 rfl) rfl
theorem q1563 : (Jvm.Cond.classLink "MessengerBoard$Picket" (8 : Nat) "MessengerBoard$Picket") ∈ lw_all := lw_g (lw_at lw_m7 14 rfl) rfl
theorem q1564 : (Jvm.Cond.methodLink "MessengerBoard$Picket" (28 : Nat) ({ cls := "MessengerBoard$Picket", name := "<init>", desc := "(IIIIII)V" } : Jvm.MethodName)) ∈ lw_all := lw_g (lw_at lw_m7 15 rfl) rfl
theorem q2744 : (Jvm.Cond.castable "MessengerBoard$Picket" "java/lang/Object") ∈ lw_tbl := lw_at lw_m11 235 rfl
theorem in_X9 : ∀ w ∈ wsX90, w ∈ lw_all := lw_in wsX90 [1239, 1241, 1243, 1245, 1247, 1249, 1251] (by decide +kernel) (by decide +kernel)
/-! MessengerBoard$Plan -/
set_option maxRecDepth 100000
def RX10 : String := "MessengerBoard$Plan"
def TX10 : u_T := fun k => match k with
  | 0 => ("MessengerBoard$Plan", "unit", "I", true)
  | 1 => ("MessengerBoard$Plan", "x", "I", true)
  | 2 => ("MessengerBoard$Plan", "y", "I", true)
  | _ => ("MessengerBoard$Plan", "turn", "I", true)
def tyX10 : Nat → FieldType := fun k => match k with
  | 0 => .int
  | 1 => .int
  | 2 => .int
  | _ => .int
abbrev wsX100 : List Cond := u_ws RX10 TX10 4
theorem nmX10 : ∀ a, a < 4 → ∀ b, b < 4 → a ≠ b → (TX10 a).2.1 ≠ (TX10 b).2.1 := by decide +kernel
theorem tyX10_ok : ∀ k, k < 4 → parseFieldDescriptor (TX10 k).2.2.1 = some (tyX10 k) := by decide +kernel
abbrev cX10_init : ByteArray := prog_12_method_1_code
def yX10_init : MethodName := ⟨RX10, "<init>", "(IIII)V"⟩
def dkwX10_init_1 : List UInt8 := [181, 0, 19, 177]
abbrev dktX10_init_1 : List UInt8 := dkwX10_init_1 ++ []
def dkwX10_init_0 : List UInt8 := [42, 183, 0, 1, 42, 27, 181, 0, 7, 42, 28, 181, 0, 13, 42, 29, 181, 0, 16, 42, 21, 4]
abbrev dktX10_init_0 : List UInt8 := dkwX10_init_0 ++ dktX10_init_1
theorem dksX10_init_0 : cX10_init.data.toList.drop 0 = dktX10_init_0 := by decide +kernel
theorem dksX10_init_1 : cX10_init.data.toList.drop 22 = dktX10_init_1 := dk_seg dksX10_init_0 22 rfl rfl
theorem dX10_init_0 : decode cX10_init 0 = .ok (.aload_n 0, 1) := dk_42 (dk_at dksX10_init_0 0 rfl rfl)
theorem dX10_init_1 : decode cX10_init 1 = .ok (.invokespecial 1, 3) := dk_183 0 1 (dk_at dksX10_init_0 1 rfl rfl)
theorem dX10_init_4 : decode cX10_init 4 = .ok (.aload_n 0, 1) := dk_42 (dk_at dksX10_init_0 4 rfl rfl)
theorem dX10_init_5 : decode cX10_init 5 = .ok (.iload_n 1, 1) := dk_27 (dk_at dksX10_init_0 5 rfl rfl)
theorem dX10_init_6 : decode cX10_init 6 = .ok (.putfield 7, 3) := dk_181 0 7 (dk_at dksX10_init_0 6 rfl rfl)
theorem dX10_init_9 : decode cX10_init 9 = .ok (.aload_n 0, 1) := dk_42 (dk_at dksX10_init_0 9 rfl rfl)
theorem dX10_init_10 : decode cX10_init 10 = .ok (.iload_n 2, 1) := dk_28 (dk_at dksX10_init_0 10 rfl rfl)
theorem dX10_init_11 : decode cX10_init 11 = .ok (.putfield 13, 3) := dk_181 0 13 (dk_at dksX10_init_0 11 rfl rfl)
theorem dX10_init_14 : decode cX10_init 14 = .ok (.aload_n 0, 1) := dk_42 (dk_at dksX10_init_0 14 rfl rfl)
theorem dX10_init_15 : decode cX10_init 15 = .ok (.iload_n 3, 1) := dk_29 (dk_at dksX10_init_0 15 rfl rfl)
theorem dX10_init_16 : decode cX10_init 16 = .ok (.putfield 16, 3) := dk_181 0 16 (dk_at dksX10_init_0 16 rfl rfl)
theorem dX10_init_19 : decode cX10_init 19 = .ok (.aload_n 0, 1) := dk_42 (dk_at dksX10_init_0 19 rfl rfl)
theorem dX10_init_20 : decode cX10_init 20 = .ok (.iload 4, 2) := dk_21 4 (dk_at dksX10_init_0 20 rfl rfl)
theorem dX10_init_22 : decode cX10_init 22 = .ok (.putfield 19, 3) := dk_181 0 19 (dk_at dksX10_init_1 0 rfl rfl)
theorem dX10_init_25 : decode cX10_init 25 = .ok (.return_, 1) := dk_177 (dk_at dksX10_init_1 3 rfl rfl)
abbrev cX10_on : ByteArray := prog_12_method_2_code
def yX10_on : MethodName := ⟨RX10, "on", "(I)LMessengerBoard$Plan;"⟩
def dkwX10_on_0 : List UInt8 := [187, 0, 8, 89, 42, 180, 0, 7, 42, 180, 0, 13, 42, 180, 0, 16, 27, 183, 0, 22, 176]
abbrev dktX10_on_0 : List UInt8 := dkwX10_on_0 ++ []
theorem dksX10_on_0 : cX10_on.data.toList.drop 0 = dktX10_on_0 := by decide +kernel
theorem dX10_on_0 : decode cX10_on 0 = .ok (.new 8, 3) := dk_187 0 8 (dk_at dksX10_on_0 0 rfl rfl)
theorem dX10_on_3 : decode cX10_on 3 = .ok (.dup, 1) := dk_89 (dk_at dksX10_on_0 3 rfl rfl)
theorem dX10_on_4 : decode cX10_on 4 = .ok (.aload_n 0, 1) := dk_42 (dk_at dksX10_on_0 4 rfl rfl)
theorem dX10_on_5 : decode cX10_on 5 = .ok (.getfield 7, 3) := dk_180 0 7 (dk_at dksX10_on_0 5 rfl rfl)
theorem dX10_on_8 : decode cX10_on 8 = .ok (.aload_n 0, 1) := dk_42 (dk_at dksX10_on_0 8 rfl rfl)
theorem dX10_on_9 : decode cX10_on 9 = .ok (.getfield 13, 3) := dk_180 0 13 (dk_at dksX10_on_0 9 rfl rfl)
theorem dX10_on_12 : decode cX10_on 12 = .ok (.aload_n 0, 1) := dk_42 (dk_at dksX10_on_0 12 rfl rfl)
theorem dX10_on_13 : decode cX10_on 13 = .ok (.getfield 16, 3) := dk_180 0 16 (dk_at dksX10_on_0 13 rfl rfl)
theorem dX10_on_16 : decode cX10_on 16 = .ok (.iload_n 1, 1) := dk_27 (dk_at dksX10_on_0 16 rfl rfl)
theorem dX10_on_17 : decode cX10_on 17 = .ok (.invokespecial 22, 3) := dk_183 0 22 (dk_at dksX10_on_0 17 rfl rfl)
theorem dX10_on_20 : decode cX10_on 20 = .ok (.areturn, 1) := dk_176 (dk_at dksX10_on_0 20 rfl rfl)
theorem q142 : (Jvm.Cond.initialized "MessengerBoard$Plan") ∈ lw_all := lw_g (lw_at lw_m1 33 rfl) rfl
theorem q1186 : (Jvm.Cond.selects "MessengerBoard$Plan" ({ cls := "java/lang/Object", name := "getClass", desc := "()Ljava/lang/Class;" } : Jvm.MethodName) ({ cls := "java/lang/Object", name := "getClass", desc := "()Ljava/lang/Class;" } : Jvm.MethodName)) ∈ lw_all := lw_g (lw_at lw_m5 117 rfl) rfl
theorem q1259 : (Jvm.Cond.instantiable "MessengerBoard$Plan" (4 : Nat)) ∈ lw_all := lw_g (lw_at lw_m5 190 rfl) rfl
theorem q1261 : (Jvm.Cond.instanceMethod ({ cls := "MessengerBoard$Plan", name := "<init>", desc := "(IIII)V" } : Jvm.MethodName)) ∈ lw_all := lw_g (lw_at lw_m5 192 rfl) rfl
theorem q1262 : (Jvm.Cond.code ({ cls := "MessengerBoard$Plan", name := "<init>", desc := "(IIII)V" } : Jvm.MethodName) prog_12_method_1_code (5 : Nat) (Option.none : Option Jvm.ClassFile.FieldType)) ∈ lw_all := lw_g (lw_at lw_m5 193 rfl) rfl
theorem q1263 : (Jvm.Cond.methodLink "MessengerBoard$Plan" (1 : Nat) ({ cls := "java/lang/Object", name := "<init>", desc := "()V" } : Jvm.MethodName)) ∈ lw_all := lw_g (lw_at lw_m5 194 rfl) rfl
theorem q1264 : (Jvm.Cond.fieldLink "MessengerBoard$Plan" (7 : Nat) "MessengerBoard$Plan" "unit" "I") ∈ lw_all := lw_g (lw_at lw_m5 195 rfl) rfl
theorem q1267 : (Jvm.Cond.fieldLink "MessengerBoard$Plan" (13 : Nat) "MessengerBoard$Plan" "x" "I") ∈ lw_all := lw_g (lw_at lw_m5 198 rfl) rfl
theorem q1270 : (Jvm.Cond.fieldLink "MessengerBoard$Plan" (16 : Nat) "MessengerBoard$Plan" "y" "I") ∈ lw_all := lw_g (lw_at lw_m5 201 rfl) rfl
theorem q1273 : (Jvm.Cond.fieldLink "MessengerBoard$Plan" (19 : Nat) "MessengerBoard$Plan" "turn" "I") ∈ lw_all := lw_g (lw_at lw_m5 204 rfl) rfl
theorem q1276 : (Jvm.Cond.laysFinal "MessengerBoard$Plan" "MessengerBoard$Plan" "unit" "I") ∈ lw_all := lw_g (lw_at lw_m5 207 rfl) rfl
theorem q1277 : (Jvm.Cond.soleField "MessengerBoard$Plan" "unit") ∈ lw_all := lw_g (lw_at lw_m5 208 rfl) rfl
theorem q1278 : (Jvm.Cond.laysFinal "MessengerBoard$Plan" "MessengerBoard$Plan" "x" "I") ∈ lw_all := lw_g (lw_at lw_m5 209 rfl) rfl
theorem q1279 : (Jvm.Cond.soleField "MessengerBoard$Plan" "x") ∈ lw_all := lw_g (lw_at lw_m5 210 rfl) rfl
theorem q1280 : (Jvm.Cond.laysFinal "MessengerBoard$Plan" "MessengerBoard$Plan" "y" "I") ∈ lw_all := lw_g (lw_at lw_m5 211 rfl) rfl
theorem q1281 : (Jvm.Cond.soleField "MessengerBoard$Plan" "y") ∈ lw_all := lw_g (lw_at lw_m5 212 rfl) rfl
theorem q1282 : (Jvm.Cond.laysFinal "MessengerBoard$Plan" "MessengerBoard$Plan" "turn" "I") ∈ lw_all := lw_g (lw_at lw_m5 213 rfl) rfl
theorem q1283 : (Jvm.Cond.soleField "MessengerBoard$Plan" "turn") ∈ lw_all := lw_g (lw_at lw_m5 214 rfl) rfl
theorem q1284 : (Jvm.Cond.superclass "MessengerBoard$Plan" "java/lang/Object") ∈ lw_all := lw_g (lw_at lw_m5 215 rfl) rfl
theorem q1895 : (Jvm.Cond.instanceMethod ({ cls := "MessengerBoard$Plan", name := "on", desc := "(I)LMessengerBoard$Plan;" } : Jvm.MethodName)) ∈ lw_all := lw_g (lw_at lw_m8 106 rfl) rfl
theorem q1896 : (Jvm.Cond.selects "MessengerBoard$Plan" ({ cls := "MessengerBoard$Plan", name := "on", desc := "(I)LMessengerBoard$Plan;" } : Jvm.MethodName) ({ cls := "MessengerBoard$Plan", name := "on", desc := "(I)LMessengerBoard$Plan;" } : Jvm.MethodName)) ∈ lw_all := lw_g (lw_at lw_m8 107 rfl) rfl
theorem q1897 : (Jvm.Cond.code ({ cls := "MessengerBoard$Plan", name := "on", desc := "(I)LMessengerBoard$Plan;" } : Jvm.MethodName) prog_12_method_2_code (2 : Nat) (Option.some (Jvm.ClassFile.FieldType.object "MessengerBoard$Plan"))) ∈ lw_all := lw_g (lw_at lw_m8 108 rfl) rfl
theorem q1898 : (Jvm.Cond.classLink "MessengerBoard$Plan" (8 : Nat) "MessengerBoard$Plan") ∈ lw_all := lw_g (lw_at lw_m8 109 rfl) rfl
theorem q1899 : (Jvm.Cond.methodLink "MessengerBoard$Plan" (22 : Nat) ({ cls := "MessengerBoard$Plan", name := "<init>", desc := "(IIII)V" } : Jvm.MethodName)) ∈ lw_all := lw_g (lw_at lw_m8 110 rfl) rfl
theorem q2745 : (Jvm.Cond.castable "MessengerBoard$Plan" "java/lang/Object") ∈ lw_tbl := lw_at lw_m11 236 rfl
theorem in_X10 : ∀ w ∈ wsX100, w ∈ lw_all := lw_in wsX100 [1276, 1278, 1280, 1282] (by decide +kernel) (by decide +kernel)
/-! MessengerBoard$State$Messengers -/
set_option maxRecDepth 100000
def RX11 : String := "MessengerBoard$State$Messengers"
def TX11 : u_T := fun k => match k with
  | 0 => ("MessengerBoard$State$Messengers", "at", "I", false)
  | _ => ("MessengerBoard$State$Messengers", "this$0", "LMessengerBoard$State;", true)
def tyX11 : Nat → FieldType := fun k => match k with
  | 0 => .int
  | _ => .object "MessengerBoard$State"
abbrev wsX110 : List Cond := u_ws RX11 TX11 2
theorem nmX11 : ∀ a, a < 2 → ∀ b, b < 2 → a ≠ b → (TX11 a).2.1 ≠ (TX11 b).2.1 := by decide +kernel
theorem tyX11_ok : ∀ k, k < 2 → parseFieldDescriptor (TX11 k).2.2.1 = some (tyX11 k) := by decide +kernel
abbrev cX11_init : ByteArray := prog_16_method_1_code
def yX11_init : MethodName := ⟨RX11, "<init>", "(LMessengerBoard$State;)V"⟩
def dkwX11_init_0 : List UInt8 := [42, 43, 181, 0, 1, 42, 183, 0, 7, 177]
abbrev dktX11_init_0 : List UInt8 := dkwX11_init_0 ++ []
theorem dksX11_init_0 : cX11_init.data.toList.drop 0 = dktX11_init_0 := by decide +kernel
theorem dX11_init_0 : decode cX11_init 0 = .ok (.aload_n 0, 1) := dk_42 (dk_at dksX11_init_0 0 rfl rfl)
theorem dX11_init_1 : decode cX11_init 1 = .ok (.aload_n 1, 1) := dk_43 (dk_at dksX11_init_0 1 rfl rfl)
theorem dX11_init_2 : decode cX11_init 2 = .ok (.putfield 1, 3) := dk_181 0 1 (dk_at dksX11_init_0 2 rfl rfl)
theorem dX11_init_5 : decode cX11_init 5 = .ok (.aload_n 0, 1) := dk_42 (dk_at dksX11_init_0 5 rfl rfl)
theorem dX11_init_6 : decode cX11_init 6 = .ok (.invokespecial 7, 3) := dk_183 0 7 (dk_at dksX11_init_0 6 rfl rfl)
theorem dX11_init_9 : decode cX11_init 9 = .ok (.return_, 1) := dk_177 (dk_at dksX11_init_0 9 rfl rfl)
abbrev cX11_hasNext : ByteArray := prog_16_method_2_code
def yX11_hasNext : MethodName := ⟨RX11, "hasNext", "()Z"⟩
def dkwX11_hasNext_3 : List UInt8 := [167, 0, 4, 3, 172]
abbrev dktX11_hasNext_3 : List UInt8 := dkwX11_hasNext_3 ++ []
def dkwX11_hasNext_2 : List UInt8 := [181, 0, 13, 167, 255, 206, 42, 180, 0, 13, 42, 180, 0, 1, 180, 0, 17, 182, 0, 23, 162, 0, 7, 4]
abbrev dktX11_hasNext_2 : List UInt8 := dkwX11_hasNext_2 ++ dktX11_hasNext_3
def dkwX11_hasNext_1 : List UInt8 := [42, 180, 0, 13, 182, 0, 29, 192, 0, 33, 182, 0, 35, 154, 0, 16, 42, 89, 180, 0, 13, 4, 96]
abbrev dktX11_hasNext_1 : List UInt8 := dkwX11_hasNext_1 ++ dktX11_hasNext_2
def dkwX11_hasNext_0 : List UInt8 := [42, 180, 0, 13, 42, 180, 0, 1, 180, 0, 17, 182, 0, 23, 162, 0, 39, 42, 180, 0, 1, 180, 0, 17]
abbrev dktX11_hasNext_0 : List UInt8 := dkwX11_hasNext_0 ++ dktX11_hasNext_1
theorem dksX11_hasNext_0 : cX11_hasNext.data.toList.drop 0 = dktX11_hasNext_0 := by decide +kernel
theorem dksX11_hasNext_1 : cX11_hasNext.data.toList.drop 24 = dktX11_hasNext_1 := dk_seg dksX11_hasNext_0 24 rfl rfl
theorem dksX11_hasNext_2 : cX11_hasNext.data.toList.drop 47 = dktX11_hasNext_2 := dk_seg dksX11_hasNext_1 23 rfl rfl
theorem dksX11_hasNext_3 : cX11_hasNext.data.toList.drop 71 = dktX11_hasNext_3 := dk_seg dksX11_hasNext_2 24 rfl rfl
theorem dX11_hasNext_0 : decode cX11_hasNext 0 = .ok (.aload_n 0, 1) := dk_42 (dk_at dksX11_hasNext_0 0 rfl rfl)
theorem dX11_hasNext_1 : decode cX11_hasNext 1 = .ok (.getfield 13, 3) := dk_180 0 13 (dk_at dksX11_hasNext_0 1 rfl rfl)
theorem dX11_hasNext_4 : decode cX11_hasNext 4 = .ok (.aload_n 0, 1) := dk_42 (dk_at dksX11_hasNext_0 4 rfl rfl)
theorem dX11_hasNext_5 : decode cX11_hasNext 5 = .ok (.getfield 1, 3) := dk_180 0 1 (dk_at dksX11_hasNext_0 5 rfl rfl)
theorem dX11_hasNext_8 : decode cX11_hasNext 8 = .ok (.getfield 17, 3) := dk_180 0 17 (dk_at dksX11_hasNext_0 8 rfl rfl)
theorem dX11_hasNext_11 : decode cX11_hasNext 11 = .ok (.invokevirtual 23, 3) := dk_182 0 23 (dk_at dksX11_hasNext_0 11 rfl rfl)
theorem dX11_hasNext_14 : decode cX11_hasNext 14 = .ok (.if_icmp .ge 39, 3) := dk_162 0 39 (dk_at dksX11_hasNext_0 14 rfl rfl)
theorem dX11_hasNext_17 : decode cX11_hasNext 17 = .ok (.aload_n 0, 1) := dk_42 (dk_at dksX11_hasNext_0 17 rfl rfl)
theorem dX11_hasNext_18 : decode cX11_hasNext 18 = .ok (.getfield 1, 3) := dk_180 0 1 (dk_at dksX11_hasNext_0 18 rfl rfl)
theorem dX11_hasNext_21 : decode cX11_hasNext 21 = .ok (.getfield 17, 3) := dk_180 0 17 (dk_at dksX11_hasNext_0 21 rfl rfl)
theorem dX11_hasNext_24 : decode cX11_hasNext 24 = .ok (.aload_n 0, 1) := dk_42 (dk_at dksX11_hasNext_1 0 rfl rfl)
theorem dX11_hasNext_25 : decode cX11_hasNext 25 = .ok (.getfield 13, 3) := dk_180 0 13 (dk_at dksX11_hasNext_1 1 rfl rfl)
theorem dX11_hasNext_28 : decode cX11_hasNext 28 = .ok (.invokevirtual 29, 3) := dk_182 0 29 (dk_at dksX11_hasNext_1 4 rfl rfl)
theorem dX11_hasNext_31 : decode cX11_hasNext 31 = .ok (.checkcast 33, 3) := dk_192 0 33 (dk_at dksX11_hasNext_1 7 rfl rfl)
theorem dX11_hasNext_34 : decode cX11_hasNext 34 = .ok (.invokevirtual 35, 3) := dk_182 0 35 (dk_at dksX11_hasNext_1 10 rfl rfl)
theorem dX11_hasNext_37 : decode cX11_hasNext 37 = .ok (.ifCond .ne 16, 3) := dk_154 0 16 (dk_at dksX11_hasNext_1 13 rfl rfl)
theorem dX11_hasNext_40 : decode cX11_hasNext 40 = .ok (.aload_n 0, 1) := dk_42 (dk_at dksX11_hasNext_1 16 rfl rfl)
theorem dX11_hasNext_41 : decode cX11_hasNext 41 = .ok (.dup, 1) := dk_89 (dk_at dksX11_hasNext_1 17 rfl rfl)
theorem dX11_hasNext_42 : decode cX11_hasNext 42 = .ok (.getfield 13, 3) := dk_180 0 13 (dk_at dksX11_hasNext_1 18 rfl rfl)
theorem dX11_hasNext_45 : decode cX11_hasNext 45 = .ok (.iconst 1, 1) := dk_4 (dk_at dksX11_hasNext_1 21 rfl rfl)
theorem dX11_hasNext_46 : decode cX11_hasNext 46 = .ok (.iadd, 1) := dk_96 (dk_at dksX11_hasNext_1 22 rfl rfl)
theorem dX11_hasNext_47 : decode cX11_hasNext 47 = .ok (.putfield 13, 3) := dk_181 0 13 (dk_at dksX11_hasNext_2 0 rfl rfl)
theorem dX11_hasNext_50 : decode cX11_hasNext 50 = .ok (.goto (-50), 3) := dk_167 255 206 (dk_at dksX11_hasNext_2 3 rfl rfl)
theorem dX11_hasNext_53 : decode cX11_hasNext 53 = .ok (.aload_n 0, 1) := dk_42 (dk_at dksX11_hasNext_2 6 rfl rfl)
theorem dX11_hasNext_54 : decode cX11_hasNext 54 = .ok (.getfield 13, 3) := dk_180 0 13 (dk_at dksX11_hasNext_2 7 rfl rfl)
theorem dX11_hasNext_57 : decode cX11_hasNext 57 = .ok (.aload_n 0, 1) := dk_42 (dk_at dksX11_hasNext_2 10 rfl rfl)
theorem dX11_hasNext_58 : decode cX11_hasNext 58 = .ok (.getfield 1, 3) := dk_180 0 1 (dk_at dksX11_hasNext_2 11 rfl rfl)
theorem dX11_hasNext_61 : decode cX11_hasNext 61 = .ok (.getfield 17, 3) := dk_180 0 17 (dk_at dksX11_hasNext_2 14 rfl rfl)
theorem dX11_hasNext_64 : decode cX11_hasNext 64 = .ok (.invokevirtual 23, 3) := dk_182 0 23 (dk_at dksX11_hasNext_2 17 rfl rfl)
theorem dX11_hasNext_67 : decode cX11_hasNext 67 = .ok (.if_icmp .ge 7, 3) := dk_162 0 7 (dk_at dksX11_hasNext_2 20 rfl rfl)
theorem dX11_hasNext_70 : decode cX11_hasNext 70 = .ok (.iconst 1, 1) := dk_4 (dk_at dksX11_hasNext_2 23 rfl rfl)
theorem dX11_hasNext_71 : decode cX11_hasNext 71 = .ok (.goto 4, 3) := dk_167 0 4 (dk_at dksX11_hasNext_3 0 rfl rfl)
theorem dX11_hasNext_74 : decode cX11_hasNext 74 = .ok (.iconst 0, 1) := dk_3 (dk_at dksX11_hasNext_3 3 rfl rfl)
theorem dX11_hasNext_75 : decode cX11_hasNext 75 = .ok (.ireturn, 1) := dk_172 (dk_at dksX11_hasNext_3 4 rfl rfl)
abbrev cX11_next : ByteArray := prog_16_method_4_code
def yX11_next : MethodName := ⟨RX11, "next", "()Ljava/lang/Object;"⟩
theorem dX11_next_0 : decode cX11_next 0 = .ok (.aload_n 0, 1) := by decide +kernel
theorem dX11_next_1 : decode cX11_next 1 = .ok (.invokevirtual 39, 3) := by decide +kernel
theorem dX11_next_4 : decode cX11_next 4 = .ok (.areturn, 1) := by decide +kernel
abbrev cX11_next_2 : ByteArray := prog_16_method_3_code
def yX11_next_2 : MethodName := ⟨RX11, "next", "()LMessengerBoard$Order;"⟩
def dkwX11_next_2_1 : List UInt8 := [182, 0, 29, 192, 0, 33, 176]
abbrev dktX11_next_2_1 : List UInt8 := dkwX11_next_2_1 ++ []
def dkwX11_next_2_0 : List UInt8 := [42, 89, 180, 0, 13, 4, 96, 181, 0, 13, 42, 180, 0, 1, 180, 0, 17, 42, 180, 0, 13, 4, 100]
abbrev dktX11_next_2_0 : List UInt8 := dkwX11_next_2_0 ++ dktX11_next_2_1
theorem dksX11_next_2_0 : cX11_next_2.data.toList.drop 0 = dktX11_next_2_0 := by decide +kernel
theorem dksX11_next_2_1 : cX11_next_2.data.toList.drop 23 = dktX11_next_2_1 := dk_seg dksX11_next_2_0 23 rfl rfl
theorem dX11_next_2_0 : decode cX11_next_2 0 = .ok (.aload_n 0, 1) := dk_42 (dk_at dksX11_next_2_0 0 rfl rfl)
theorem dX11_next_2_1 : decode cX11_next_2 1 = .ok (.dup, 1) := dk_89 (dk_at dksX11_next_2_0 1 rfl rfl)
theorem dX11_next_2_2 : decode cX11_next_2 2 = .ok (.getfield 13, 3) := dk_180 0 13 (dk_at dksX11_next_2_0 2 rfl rfl)
theorem dX11_next_2_5 : decode cX11_next_2 5 = .ok (.iconst 1, 1) := dk_4 (dk_at dksX11_next_2_0 5 rfl rfl)
theorem dX11_next_2_6 : decode cX11_next_2 6 = .ok (.iadd, 1) := dk_96 (dk_at dksX11_next_2_0 6 rfl rfl)
theorem dX11_next_2_7 : decode cX11_next_2 7 = .ok (.putfield 13, 3) := dk_181 0 13 (dk_at dksX11_next_2_0 7 rfl rfl)
theorem dX11_next_2_10 : decode cX11_next_2 10 = .ok (.aload_n 0, 1) := dk_42 (dk_at dksX11_next_2_0 10 rfl rfl)
theorem dX11_next_2_11 : decode cX11_next_2 11 = .ok (.getfield 1, 3) := dk_180 0 1 (dk_at dksX11_next_2_0 11 rfl rfl)
theorem dX11_next_2_14 : decode cX11_next_2 14 = .ok (.getfield 17, 3) := dk_180 0 17 (dk_at dksX11_next_2_0 14 rfl rfl)
theorem dX11_next_2_17 : decode cX11_next_2 17 = .ok (.aload_n 0, 1) := dk_42 (dk_at dksX11_next_2_0 17 rfl rfl)
theorem dX11_next_2_18 : decode cX11_next_2 18 = .ok (.getfield 13, 3) := dk_180 0 13 (dk_at dksX11_next_2_0 18 rfl rfl)
theorem dX11_next_2_21 : decode cX11_next_2 21 = .ok (.iconst 1, 1) := dk_4 (dk_at dksX11_next_2_0 21 rfl rfl)
theorem dX11_next_2_22 : decode cX11_next_2 22 = .ok (.isub, 1) := dk_100 (dk_at dksX11_next_2_0 22 rfl rfl)
theorem dX11_next_2_23 : decode cX11_next_2 23 = .ok (.invokevirtual 29, 3) := dk_182 0 29 (dk_at dksX11_next_2_1 0 rfl rfl)
theorem dX11_next_2_26 : decode cX11_next_2 26 = .ok (.checkcast 33, 3) := dk_192 0 33 (dk_at dksX11_next_2_1 3 rfl rfl)
theorem dX11_next_2_29 : decode cX11_next_2 29 = .ok (.areturn, 1) := dk_176 (dk_at dksX11_next_2_1 6 rfl rfl)
theorem q144 : (Jvm.Cond.initialized "MessengerBoard$State$Messengers") ∈ lw_all := lw_g (lw_at lw_m1 35 rfl) rfl
theorem q230 : (Jvm.Cond.fieldLinkNest "MessengerBoard$State$Messengers" (17 : Nat) "MessengerBoard$State" "orders" "Ljava/util/ArrayList;" "MessengerBoard") ∈ lw_tbl := lw_at lw_m1 121 rfl
theorem q1189 : (Jvm.Cond.selects "MessengerBoard$State$Messengers" ({ cls := "java/lang/Object", name := "getClass", desc := "()Ljava/lang/Class;" } : Jvm.MethodName) ({ cls := "java/lang/Object", name := "getClass", desc := "()Ljava/lang/Class;" } : Jvm.MethodName)) ∈ lw_all := lw_g (lw_at lw_m5 120 rfl) rfl
theorem q1329 : (Jvm.Cond.instantiable "MessengerBoard$State$Messengers" (2 : Nat)) ∈ lw_all := lw_g (lw_at lw_m6 20 rfl) rfl
theorem q1331 : (Jvm.Cond.instanceMethod ({ cls := "MessengerBoard$State$Messengers", name := "<init>", desc := "(LMessengerBoard$State;)V" } : Jvm.MethodName)) ∈ lw_all := lw_g (lw_at lw_m6 22 rfl) rfl
theorem q1332 : (Jvm.Cond.code ({ cls := "MessengerBoard$State$Messengers", name := "<init>", desc := "(LMessengerBoard$State;)V" } : Jvm.MethodName) prog_16_method_1_code (2 : Nat) (Option.none : Option Jvm.ClassFile.FieldType)) ∈ lw_all := lw_g (lw_at lw_m6 23 rfl) rfl
theorem q1333 : (Jvm.Cond.methodLink "MessengerBoard$State$Messengers" (7 : Nat) ({ cls := "java/lang/Object", name := "<init>", desc := "()V" } : Jvm.MethodName)) ∈ lw_all := lw_g (lw_at lw_m6 24 rfl) rfl
theorem q1334 : (Jvm.Cond.fieldLink "MessengerBoard$State$Messengers" (13 : Nat) "MessengerBoard$State$Messengers" "at" "I") ∈ lw_all := lw_g (lw_at lw_m6 25 rfl) rfl
theorem q1335 : (Jvm.Cond.fieldLink "MessengerBoard$State$Messengers" (1 : Nat) "MessengerBoard$State$Messengers" "this$0" "LMessengerBoard$State;") ∈ lw_all := lw_g (lw_at lw_m6 26 rfl) rfl
theorem q1336 : (Jvm.Cond.lays "MessengerBoard$State$Messengers" "MessengerBoard$State$Messengers" "at" "I") ∈ lw_all := lw_g (lw_at lw_m6 27 rfl) rfl
theorem q1337 : (Jvm.Cond.soleField "MessengerBoard$State$Messengers" "at") ∈ lw_all := lw_g (lw_at lw_m6 28 rfl) rfl
theorem q1338 : (Jvm.Cond.laysFinal "MessengerBoard$State$Messengers" "MessengerBoard$State$Messengers" "this$0" "LMessengerBoard$State;") ∈ lw_all := lw_g (lw_at lw_m6 29 rfl) rfl
theorem q1339 : (Jvm.Cond.soleField "MessengerBoard$State$Messengers" "this$0") ∈ lw_all := lw_g (lw_at lw_m6 30 rfl) rfl
theorem q1340 : (Jvm.Cond.superclass "MessengerBoard$State$Messengers" "java/lang/Object") ∈ lw_all := lw_g (lw_at lw_m6 31 rfl) rfl
theorem q1345 : (Jvm.Cond.castable "MessengerBoard$State$Messengers" "java/util/Iterator") ∈ lw_tbl := lw_at lw_m6 36 rfl
theorem q1346 : (Jvm.Cond.selects "MessengerBoard$State$Messengers" ({ cls := "java/util/Iterator", name := "hasNext", desc := "()Z" } : Jvm.MethodName) ({ cls := "MessengerBoard$State$Messengers", name := "hasNext", desc := "()Z" } : Jvm.MethodName)) ∈ lw_all := lw_g (lw_at lw_m6 37 rfl) rfl
theorem q1347 : (Jvm.Cond.unhidden "MessengerBoard$State$Messengers" "hasNext" "()Z") ∈ lw_tbl := lw_at lw_m6 38 rfl
theorem q1348 : (Jvm.Cond.instanceMethod ({ cls := "MessengerBoard$State$Messengers", name := "hasNext", desc := "()Z" } : Jvm.MethodName)) ∈ lw_all := lw_g (lw_at lw_m6 39 rfl) rfl
theorem q1349 : (Jvm.Cond.publicMethod ({ cls := "MessengerBoard$State$Messengers", name := "hasNext", desc := "()Z" } : Jvm.MethodName)) ∈ lw_tbl := lw_at lw_m6 40 rfl
theorem q1350 : (Jvm.Cond.code ({ cls := "MessengerBoard$State$Messengers", name := "hasNext", desc := "()Z" } : Jvm.MethodName) prog_16_method_2_code (1 : Nat) (Option.some Jvm.ClassFile.FieldType.boolean)) ∈ lw_all := lw_g (lw_at lw_m6 41 rfl) rfl
theorem q1351 : (Jvm.Cond.methodLink "MessengerBoard$State$Messengers" (23 : Nat) ({ cls := "java/util/ArrayList", name := "size", desc := "()I" } : Jvm.MethodName)) ∈ lw_all := lw_g (lw_at lw_m6 42 rfl) rfl
theorem q1352 : (Jvm.Cond.methodLink "MessengerBoard$State$Messengers" (29 : Nat) ({ cls := "java/util/ArrayList", name := "get", desc := "(I)Ljava/lang/Object;" } : Jvm.MethodName)) ∈ lw_all := lw_g (lw_at lw_m6 43 rfl) rfl
theorem q1353 : (Jvm.Cond.classLink "MessengerBoard$State$Messengers" (33 : Nat) "MessengerBoard$Order") ∈ lw_all := lw_g (lw_at lw_m6 44 rfl) rfl
theorem q1354 : (Jvm.Cond.methodLink "MessengerBoard$State$Messengers" (35 : Nat) ({ cls := "MessengerBoard$Order", name := "isUnderWay", desc := "()Z" } : Jvm.MethodName)) ∈ lw_all := lw_g (lw_at lw_m6 45 rfl) rfl
theorem q1362 : (Jvm.Cond.selects "MessengerBoard$State$Messengers" ({ cls := "java/util/Iterator", name := "next", desc := "()Ljava/lang/Object;" } : Jvm.MethodName) ({ cls := "MessengerBoard$State$Messengers", name := "next", desc := "()Ljava/lang/Object;" } : Jvm.MethodName)) ∈ lw_all := lw_g (lw_at lw_m6 53 rfl) rfl
theorem q1363 : (Jvm.Cond.unhidden "MessengerBoard$State$Messengers" "next" "()Ljava/lang/Object;") ∈ lw_tbl := lw_at lw_m6 54 rfl
theorem q1364 : (Jvm.Cond.instanceMethod ({ cls := "MessengerBoard$State$Messengers", name := "next", desc := "()Ljava/lang/Object;" } : Jvm.MethodName)) ∈ lw_all := lw_g (lw_at lw_m6 55 rfl) rfl
theorem q1365 : (Jvm.Cond.publicMethod ({ cls := "MessengerBoard$State$Messengers", name := "next", desc := "()Ljava/lang/Object;" } : Jvm.MethodName)) ∈ lw_tbl := lw_at lw_m6 56 rfl
theorem q1366 : (Jvm.Cond.code ({ cls := "MessengerBoard$State$Messengers", name := "next", desc := "()Ljava/lang/Object;" } : Jvm.MethodName) prog_16_method_4_code (1 : Nat) (Option.some (Jvm.ClassFile.FieldType.object "java/lang/Object"))) ∈ lw_all := lw_g (lw_at lw_m6 57 rfl) rfl
theorem q1367 : (Jvm.Cond.methodLink "MessengerBoard$State$Messengers" (39 : Nat) ({ cls := "MessengerBoard$State$Messengers", name := "next", desc := "()LMessengerBoard$Order;" } : Jvm.MethodName)) ∈ lw_all := lw_g (lw_at lw_m6 58 rfl) rfl
theorem q1368 : (Jvm.Cond.instanceMethod ({ cls := "MessengerBoard$State$Messengers", name := "next", desc := "()LMessengerBoard$Order;" } : Jvm.MethodName)) ∈ lw_all := lw_g (lw_at lw_m6 59 rfl) rfl
theorem q1369 : (Jvm.Cond.selects "MessengerBoard$State$Messengers" ({ cls := "MessengerBoard$State$Messengers", name := "next", desc := "()LMessengerBoard$Order;" } : Jvm.MethodName) ({ cls := "MessengerBoard$State$Messengers", name := "next", desc := "()LMessengerBoard$Order;" } : Jvm.MethodName)) ∈ lw_all := lw_g (lw_at lw_m6 60 rfl) rfl
theorem q1370 : (Jvm.Cond.code ({ cls := "MessengerBoard$State$Messengers", name := "next", desc := "()LMessengerBoard$Order;" } : Jvm.MethodName) prog_16_method_3_code (1 : Nat) (Option.some (Jvm.ClassFile.FieldType.object "MessengerBoard$Order"))) ∈ lw_all := lw_g (lw_at lw_m6 61 rfl) rfl
theorem q2747 : (Jvm.Cond.castable "MessengerBoard$State$Messengers" "java/lang/Object") ∈ lw_tbl := lw_at lw_m11 238 rfl
theorem in_X11 : ∀ w ∈ wsX110, w ∈ lw_all := lw_in wsX110 [1336, 1338] (by decide +kernel) (by decide +kernel)
/-! MessengerBoard$Trial -/
set_option maxRecDepth 100000
def RX12 : String := "MessengerBoard$Trial"
abbrev cX12_init : ByteArray := prog_20_method_1_code
def yX12_init : MethodName := ⟨RX12, "<init>", "(LMessengerBoard$State;)V"⟩
def dkwX12_init_0 : List UInt8 := [42, 183, 0, 1, 42, 43, 182, 0, 7, 181, 0, 13, 177]
abbrev dktX12_init_0 : List UInt8 := dkwX12_init_0 ++ []
theorem dksX12_init_0 : cX12_init.data.toList.drop 0 = dktX12_init_0 := by decide +kernel
theorem dX12_init_0 : decode cX12_init 0 = .ok (.aload_n 0, 1) := dk_42 (dk_at dksX12_init_0 0 rfl rfl)
theorem dX12_init_1 : decode cX12_init 1 = .ok (.invokespecial 1, 3) := dk_183 0 1 (dk_at dksX12_init_0 1 rfl rfl)
theorem dX12_init_4 : decode cX12_init 4 = .ok (.aload_n 0, 1) := dk_42 (dk_at dksX12_init_0 4 rfl rfl)
theorem dX12_init_5 : decode cX12_init 5 = .ok (.aload_n 1, 1) := dk_43 (dk_at dksX12_init_0 5 rfl rfl)
theorem dX12_init_6 : decode cX12_init 6 = .ok (.invokevirtual 7, 3) := dk_182 0 7 (dk_at dksX12_init_0 6 rfl rfl)
theorem dX12_init_9 : decode cX12_init 9 = .ok (.putfield 13, 3) := dk_181 0 13 (dk_at dksX12_init_0 9 rfl rfl)
theorem dX12_init_12 : decode cX12_init 12 = .ok (.return_, 1) := dk_177 (dk_at dksX12_init_0 12 rfl rfl)
abbrev cX12_told : ByteArray := prog_20_method_3_code
def yX12_told : MethodName := ⟨RX12, "told", "()I"⟩
def dkwX12_told_0 : List UInt8 := [42, 42, 180, 0, 13, 182, 0, 18, 172]
abbrev dktX12_told_0 : List UInt8 := dkwX12_told_0 ++ []
theorem dksX12_told_0 : cX12_told.data.toList.drop 0 = dktX12_told_0 := by decide +kernel
theorem dX12_told_0 : decode cX12_told 0 = .ok (.aload_n 0, 1) := dk_42 (dk_at dksX12_told_0 0 rfl rfl)
theorem dX12_told_1 : decode cX12_told 1 = .ok (.aload_n 0, 1) := dk_42 (dk_at dksX12_told_0 1 rfl rfl)
theorem dX12_told_2 : decode cX12_told 2 = .ok (.getfield 13, 3) := dk_180 0 13 (dk_at dksX12_told_0 2 rfl rfl)
theorem dX12_told_5 : decode cX12_told 5 = .ok (.invokevirtual 18, 3) := dk_182 0 18 (dk_at dksX12_told_0 5 rfl rfl)
theorem dX12_told_8 : decode cX12_told 8 = .ok (.ireturn, 1) := dk_172 (dk_at dksX12_told_0 8 rfl rfl)
theorem q145 : (Jvm.Cond.initialized "MessengerBoard$Trial") ∈ lw_all := lw_g (lw_at lw_m1 36 rfl) rfl
theorem q1542 : (Jvm.Cond.instanceMethod ({ cls := "MessengerBoard$Trial", name := "<init>", desc := "(LMessengerBoard$State;)V" } : Jvm.MethodName)) ∈ lw_all := lw_g (lw_at lw_m6 233 rfl) rfl
theorem q1543 : (Jvm.Cond.code ({ cls := "MessengerBoard$Trial", name := "<init>", desc := "(LMessengerBoard$State;)V" } : Jvm.MethodName) prog_20_method_1_code (2 : Nat) (Option.none : Option Jvm.ClassFile.FieldType)) ∈ lw_all := lw_g (lw_at lw_m6 234 rfl) rfl
theorem q1544 : (Jvm.Cond.methodLink "MessengerBoard$Trial" (1 : Nat) ({ cls := "java/lang/Object", name := "<init>", desc := "()V" } : Jvm.MethodName)) ∈ lw_all := lw_g (lw_at lw_m6 235 rfl) rfl
theorem q1545 : (Jvm.Cond.methodLink "MessengerBoard$Trial" (7 : Nat) ({ cls := "MessengerBoard$State", name := "copy", desc := "()LMessengerBoard$State;" } : Jvm.MethodName)) ∈ lw_all := lw_g (lw_at lw_m6 236 rfl) rfl
theorem q1641 : (Jvm.Cond.fieldLink "MessengerBoard$Trial" (13 : Nat) "MessengerBoard$Trial" "copy" "LMessengerBoard$State;") ∈ lw_all := lw_g (lw_at lw_m7 92 rfl) rfl
theorem q1653 : (Jvm.Cond.soleField "MessengerBoard$Trial" "copy") ∈ lw_all := lw_g (lw_at lw_m7 104 rfl) rfl
theorem q1656 : (Jvm.Cond.instanceMethod ({ cls := "MessengerBoard$Trial", name := "told", desc := "()I" } : Jvm.MethodName)) ∈ lw_all := lw_g (lw_at lw_m7 107 rfl) rfl
theorem q1657 : (Jvm.Cond.sameMethod "MessengerBoard$Trial" "MessengerBoard$Trial" "told" "()I") ∈ lw_all := lw_g (lw_at lw_m7 108 rfl) rfl
theorem q1661 : (Jvm.Cond.code ({ cls := "MessengerBoard$Trial", name := "told", desc := "()I" } : Jvm.MethodName) prog_20_method_3_code (1 : Nat) (Option.some Jvm.ClassFile.FieldType.int)) ∈ lw_all := lw_g (lw_at lw_m7 112 rfl) rfl
theorem q1662 : (Jvm.Cond.methodLink "MessengerBoard$Trial" (18 : Nat) ({ cls := "MessengerBoard$Trial", name := "of", desc := "(LMessengerBoard$State;)I" } : Jvm.MethodName)) ∈ lw_all := lw_g (lw_at lw_m7 113 rfl) rfl
theorem q1663 : (Jvm.Cond.declares ({ cls := "MessengerBoard$Trial", name := "of", desc := "(LMessengerBoard$State;)I" } : Jvm.MethodName)) ∈ lw_tbl := lw_at lw_m7 114 rfl
theorem q1664 : (Jvm.Cond.sameMethod "MessengerBoard$Trial" "MessengerBoard$Trial" "of" "(LMessengerBoard$State;)I") ∈ lw_all := lw_g (lw_at lw_m7 115 rfl) rfl
/-! MessengerBoard$1 -/
set_option maxRecDepth 100000
def RX13 : String := "MessengerBoard$1"
def TX13 : u_T := fun k => match k with
  | 0 => ("MessengerBoard$Trial", "copy", "LMessengerBoard$State;", true)
  | 1 => ("MessengerBoard$1", "val$unit", "I", true)
  | 2 => ("MessengerBoard$1", "val$x", "I", true)
  | 3 => ("MessengerBoard$1", "val$y", "I", true)
  | 4 => ("MessengerBoard$1", "val$turns", "I", true)
  | _ => ("MessengerBoard$1", "this$0", "LMessengerBoard;", true)
def tyX13 : Nat → FieldType := fun k => match k with
  | 0 => .object "MessengerBoard$State"
  | 1 => .int
  | 2 => .int
  | 3 => .int
  | 4 => .int
  | _ => .object "MessengerBoard"
abbrev wsX130 : List Cond := u_ws RX13 TX13 6
theorem nmX13 : ∀ a, a < 6 → ∀ b, b < 6 → a ≠ b → (TX13 a).2.1 ≠ (TX13 b).2.1 := by decide +kernel
theorem tyX13_ok : ∀ k, k < 6 → parseFieldDescriptor (TX13 k).2.2.1 = some (tyX13 k) := by decide +kernel
abbrev cX13_init : ByteArray := prog_2_method_1_code
def yX13_init : MethodName := ⟨RX13, "<init>", "(LMessengerBoard;LMessengerBoard$State;IIII)V"⟩
def dkwX13_init_1 : List UInt8 := [21, 6, 181, 0, 17, 42, 44, 183, 0, 20, 177]
abbrev dktX13_init_1 : List UInt8 := dkwX13_init_1 ++ []
def dkwX13_init_0 : List UInt8 := [42, 43, 181, 0, 1, 42, 29, 181, 0, 7, 42, 21, 4, 181, 0, 11, 42, 21, 5, 181, 0, 14, 42]
abbrev dktX13_init_0 : List UInt8 := dkwX13_init_0 ++ dktX13_init_1
theorem dksX13_init_0 : cX13_init.data.toList.drop 0 = dktX13_init_0 := by decide +kernel
theorem dksX13_init_1 : cX13_init.data.toList.drop 23 = dktX13_init_1 := dk_seg dksX13_init_0 23 rfl rfl
theorem dX13_init_0 : decode cX13_init 0 = .ok (.aload_n 0, 1) := dk_42 (dk_at dksX13_init_0 0 rfl rfl)
theorem dX13_init_1 : decode cX13_init 1 = .ok (.aload_n 1, 1) := dk_43 (dk_at dksX13_init_0 1 rfl rfl)
theorem dX13_init_2 : decode cX13_init 2 = .ok (.putfield 1, 3) := dk_181 0 1 (dk_at dksX13_init_0 2 rfl rfl)
theorem dX13_init_5 : decode cX13_init 5 = .ok (.aload_n 0, 1) := dk_42 (dk_at dksX13_init_0 5 rfl rfl)
theorem dX13_init_6 : decode cX13_init 6 = .ok (.iload_n 3, 1) := dk_29 (dk_at dksX13_init_0 6 rfl rfl)
theorem dX13_init_7 : decode cX13_init 7 = .ok (.putfield 7, 3) := dk_181 0 7 (dk_at dksX13_init_0 7 rfl rfl)
theorem dX13_init_10 : decode cX13_init 10 = .ok (.aload_n 0, 1) := dk_42 (dk_at dksX13_init_0 10 rfl rfl)
theorem dX13_init_11 : decode cX13_init 11 = .ok (.iload 4, 2) := dk_21 4 (dk_at dksX13_init_0 11 rfl rfl)
theorem dX13_init_13 : decode cX13_init 13 = .ok (.putfield 11, 3) := dk_181 0 11 (dk_at dksX13_init_0 13 rfl rfl)
theorem dX13_init_16 : decode cX13_init 16 = .ok (.aload_n 0, 1) := dk_42 (dk_at dksX13_init_0 16 rfl rfl)
theorem dX13_init_17 : decode cX13_init 17 = .ok (.iload 5, 2) := dk_21 5 (dk_at dksX13_init_0 17 rfl rfl)
theorem dX13_init_19 : decode cX13_init 19 = .ok (.putfield 14, 3) := dk_181 0 14 (dk_at dksX13_init_0 19 rfl rfl)
theorem dX13_init_22 : decode cX13_init 22 = .ok (.aload_n 0, 1) := dk_42 (dk_at dksX13_init_0 22 rfl rfl)
theorem dX13_init_23 : decode cX13_init 23 = .ok (.iload 6, 2) := dk_21 6 (dk_at dksX13_init_1 0 rfl rfl)
theorem dX13_init_25 : decode cX13_init 25 = .ok (.putfield 17, 3) := dk_181 0 17 (dk_at dksX13_init_1 2 rfl rfl)
theorem dX13_init_28 : decode cX13_init 28 = .ok (.aload_n 0, 1) := dk_42 (dk_at dksX13_init_1 5 rfl rfl)
theorem dX13_init_29 : decode cX13_init 29 = .ok (.aload_n 2, 1) := dk_44 (dk_at dksX13_init_1 6 rfl rfl)
theorem dX13_init_30 : decode cX13_init 30 = .ok (.invokespecial 20, 3) := dk_183 0 20 (dk_at dksX13_init_1 7 rfl rfl)
theorem dX13_init_33 : decode cX13_init 33 = .ok (.return_, 1) := dk_177 (dk_at dksX13_init_1 10 rfl rfl)
abbrev cX13_of : ByteArray := prog_2_method_2_code
def yX13_of : MethodName := ⟨RX13, "of", "(LMessengerBoard$State;)I"⟩
def dkwX13_of_1 : List UInt8 := [182, 0, 32, 43, 180, 0, 36, 28, 182, 0, 40, 192, 0, 46, 180, 0, 48, 172]
abbrev dktX13_of_1 : List UInt8 := dkwX13_of_1 ++ []
def dkwX13_of_0 : List UInt8 := [43, 42, 180, 0, 7, 42, 180, 0, 11, 42, 180, 0, 14, 182, 0, 26, 61, 43, 42, 180, 0, 17]
abbrev dktX13_of_0 : List UInt8 := dkwX13_of_0 ++ dktX13_of_1
theorem dksX13_of_0 : cX13_of.data.toList.drop 0 = dktX13_of_0 := by decide +kernel
theorem dksX13_of_1 : cX13_of.data.toList.drop 22 = dktX13_of_1 := dk_seg dksX13_of_0 22 rfl rfl
theorem dX13_of_0 : decode cX13_of 0 = .ok (.aload_n 1, 1) := dk_43 (dk_at dksX13_of_0 0 rfl rfl)
theorem dX13_of_1 : decode cX13_of 1 = .ok (.aload_n 0, 1) := dk_42 (dk_at dksX13_of_0 1 rfl rfl)
theorem dX13_of_2 : decode cX13_of 2 = .ok (.getfield 7, 3) := dk_180 0 7 (dk_at dksX13_of_0 2 rfl rfl)
theorem dX13_of_5 : decode cX13_of 5 = .ok (.aload_n 0, 1) := dk_42 (dk_at dksX13_of_0 5 rfl rfl)
theorem dX13_of_6 : decode cX13_of 6 = .ok (.getfield 11, 3) := dk_180 0 11 (dk_at dksX13_of_0 6 rfl rfl)
theorem dX13_of_9 : decode cX13_of 9 = .ok (.aload_n 0, 1) := dk_42 (dk_at dksX13_of_0 9 rfl rfl)
theorem dX13_of_10 : decode cX13_of 10 = .ok (.getfield 14, 3) := dk_180 0 14 (dk_at dksX13_of_0 10 rfl rfl)
theorem dX13_of_13 : decode cX13_of 13 = .ok (.invokevirtual 26, 3) := dk_182 0 26 (dk_at dksX13_of_0 13 rfl rfl)
theorem dX13_of_16 : decode cX13_of 16 = .ok (.istore_n 2, 1) := dk_61 (dk_at dksX13_of_0 16 rfl rfl)
theorem dX13_of_17 : decode cX13_of 17 = .ok (.aload_n 1, 1) := dk_43 (dk_at dksX13_of_0 17 rfl rfl)
theorem dX13_of_18 : decode cX13_of 18 = .ok (.aload_n 0, 1) := dk_42 (dk_at dksX13_of_0 18 rfl rfl)
theorem dX13_of_19 : decode cX13_of 19 = .ok (.getfield 17, 3) := dk_180 0 17 (dk_at dksX13_of_0 19 rfl rfl)
theorem dX13_of_22 : decode cX13_of 22 = .ok (.invokevirtual 32, 3) := dk_182 0 32 (dk_at dksX13_of_1 0 rfl rfl)
theorem dX13_of_25 : decode cX13_of 25 = .ok (.aload_n 1, 1) := dk_43 (dk_at dksX13_of_1 3 rfl rfl)
theorem dX13_of_26 : decode cX13_of 26 = .ok (.getfield 36, 3) := dk_180 0 36 (dk_at dksX13_of_1 4 rfl rfl)
theorem dX13_of_29 : decode cX13_of 29 = .ok (.iload_n 2, 1) := dk_28 (dk_at dksX13_of_1 7 rfl rfl)
theorem dX13_of_30 : decode cX13_of 30 = .ok (.invokevirtual 40, 3) := dk_182 0 40 (dk_at dksX13_of_1 8 rfl rfl)
theorem dX13_of_33 : decode cX13_of 33 = .ok (.checkcast 46, 3) := dk_192 0 46 (dk_at dksX13_of_1 11 rfl rfl)
theorem dX13_of_36 : decode cX13_of 36 = .ok (.getfield 48, 3) := dk_180 0 48 (dk_at dksX13_of_1 14 rfl rfl)
theorem dX13_of_39 : decode cX13_of 39 = .ok (.ireturn, 1) := dk_172 (dk_at dksX13_of_1 17 rfl rfl)
theorem q146 : (Jvm.Cond.initialized "MessengerBoard$1") ∈ lw_all := lw_g (lw_at lw_m1 37 rfl) rfl
theorem q233 : (Jvm.Cond.fieldLinkNest "MessengerBoard$1" (36 : Nat) "MessengerBoard$State" "orders" "Ljava/util/ArrayList;" "MessengerBoard") ∈ lw_tbl := lw_at lw_m1 124 rfl
theorem q1176 : (Jvm.Cond.selects "MessengerBoard$1" ({ cls := "java/lang/Object", name := "getClass", desc := "()Ljava/lang/Class;" } : Jvm.MethodName) ({ cls := "java/lang/Object", name := "getClass", desc := "()Ljava/lang/Class;" } : Jvm.MethodName)) ∈ lw_all := lw_g (lw_at lw_m5 107 rfl) rfl
theorem q1537 : (Jvm.Cond.instantiable "MessengerBoard$1" (6 : Nat)) ∈ lw_all := lw_g (lw_at lw_m6 228 rfl) rfl
theorem q1539 : (Jvm.Cond.instanceMethod ({ cls := "MessengerBoard$1", name := "<init>", desc := "(LMessengerBoard;LMessengerBoard$State;IIII)V" } : Jvm.MethodName)) ∈ lw_all := lw_g (lw_at lw_m6 230 rfl) rfl
theorem q1540 : (Jvm.Cond.code ({ cls := "MessengerBoard$1", name := "<init>", desc := "(LMessengerBoard;LMessengerBoard$State;IIII)V" } : Jvm.MethodName) prog_2_method_1_code (7 : Nat) (Option.none : Option Jvm.ClassFile.FieldType)) ∈ lw_all := lw_g (lw_at lw_m6 231 rfl) rfl
theorem q1541 : (Jvm.Cond.methodLink "MessengerBoard$1" (20 : Nat) ({ cls := "MessengerBoard$Trial", name := "<init>", desc := "(LMessengerBoard$State;)V" } : Jvm.MethodName)) ∈ lw_all := lw_g (lw_at lw_m6 232 rfl) rfl
theorem q1591 : (Jvm.Cond.fieldLinkNest "MessengerBoard$1" (48 : Nat) "MessengerBoard$Order" "state" "I" "MessengerBoard") ∈ lw_tbl := lw_at lw_m7 42 rfl
theorem q1636 : (Jvm.Cond.fieldLink "MessengerBoard$1" (7 : Nat) "MessengerBoard$1" "val$unit" "I") ∈ lw_all := lw_g (lw_at lw_m7 87 rfl) rfl
theorem q1637 : (Jvm.Cond.fieldLink "MessengerBoard$1" (11 : Nat) "MessengerBoard$1" "val$x" "I") ∈ lw_all := lw_g (lw_at lw_m7 88 rfl) rfl
theorem q1638 : (Jvm.Cond.fieldLink "MessengerBoard$1" (14 : Nat) "MessengerBoard$1" "val$y" "I") ∈ lw_all := lw_g (lw_at lw_m7 89 rfl) rfl
theorem q1639 : (Jvm.Cond.fieldLink "MessengerBoard$1" (17 : Nat) "MessengerBoard$1" "val$turns" "I") ∈ lw_all := lw_g (lw_at lw_m7 90 rfl) rfl
theorem q1640 : (Jvm.Cond.fieldLink "MessengerBoard$1" (1 : Nat) "MessengerBoard$1" "this$0" "LMessengerBoard;") ∈ lw_all := lw_g (lw_at lw_m7 91 rfl) rfl
theorem q1642 : (Jvm.Cond.laysFinal "MessengerBoard$1" "MessengerBoard$1" "val$unit" "I") ∈ lw_all := lw_g (lw_at lw_m7 93 rfl) rfl
theorem q1643 : (Jvm.Cond.soleField "MessengerBoard$1" "val$unit") ∈ lw_all := lw_g (lw_at lw_m7 94 rfl) rfl
theorem q1644 : (Jvm.Cond.laysFinal "MessengerBoard$1" "MessengerBoard$1" "val$x" "I") ∈ lw_all := lw_g (lw_at lw_m7 95 rfl) rfl
theorem q1645 : (Jvm.Cond.soleField "MessengerBoard$1" "val$x") ∈ lw_all := lw_g (lw_at lw_m7 96 rfl) rfl
theorem q1646 : (Jvm.Cond.laysFinal "MessengerBoard$1" "MessengerBoard$1" "val$y" "I") ∈ lw_all := lw_g (lw_at lw_m7 97 rfl) rfl
theorem q1647 : (Jvm.Cond.soleField "MessengerBoard$1" "val$y") ∈ lw_all := lw_g (lw_at lw_m7 98 rfl) rfl
theorem q1648 : (Jvm.Cond.laysFinal "MessengerBoard$1" "MessengerBoard$1" "val$turns" "I") ∈ lw_all := lw_g (lw_at lw_m7 99 rfl) rfl
theorem q1649 : (Jvm.Cond.soleField "MessengerBoard$1" "val$turns") ∈ lw_all := lw_g (lw_at lw_m7 100 rfl) rfl
theorem q1650 : (Jvm.Cond.laysFinal "MessengerBoard$1" "MessengerBoard$1" "this$0" "LMessengerBoard;") ∈ lw_all := lw_g (lw_at lw_m7 101 rfl) rfl
theorem q1651 : (Jvm.Cond.soleField "MessengerBoard$1" "this$0") ∈ lw_all := lw_g (lw_at lw_m7 102 rfl) rfl
theorem q1652 : (Jvm.Cond.laysFinal "MessengerBoard$1" "MessengerBoard$Trial" "copy" "LMessengerBoard$State;") ∈ lw_all := lw_g (lw_at lw_m7 103 rfl) rfl
theorem q1654 : (Jvm.Cond.superclass "MessengerBoard$1" "MessengerBoard$Trial") ∈ lw_all := lw_g (lw_at lw_m7 105 rfl) rfl
theorem q1658 : (Jvm.Cond.selects "MessengerBoard$1" ({ cls := "MessengerBoard$Trial", name := "told", desc := "()I" } : Jvm.MethodName) ({ cls := "MessengerBoard$Trial", name := "told", desc := "()I" } : Jvm.MethodName)) ∈ lw_all := lw_g (lw_at lw_m7 109 rfl) rfl
theorem q1665 : (Jvm.Cond.selects "MessengerBoard$1" ({ cls := "MessengerBoard$Trial", name := "of", desc := "(LMessengerBoard$State;)I" } : Jvm.MethodName) ({ cls := "MessengerBoard$1", name := "of", desc := "(LMessengerBoard$State;)I" } : Jvm.MethodName)) ∈ lw_all := lw_g (lw_at lw_m7 116 rfl) rfl
theorem q1666 : (Jvm.Cond.instanceMethod ({ cls := "MessengerBoard$1", name := "of", desc := "(LMessengerBoard$State;)I" } : Jvm.MethodName)) ∈ lw_all := lw_g (lw_at lw_m7 117 rfl) rfl
theorem q1667 : (Jvm.Cond.code ({ cls := "MessengerBoard$1", name := "of", desc := "(LMessengerBoard$State;)I" } : Jvm.MethodName) prog_2_method_2_code (3 : Nat) (Option.some Jvm.ClassFile.FieldType.int)) ∈ lw_all := lw_g (lw_at lw_m7 118 rfl) rfl
theorem q1668 : (Jvm.Cond.methodLink "MessengerBoard$1" (26 : Nat) ({ cls := "MessengerBoard$State", name := "send", desc := "(III)I" } : Jvm.MethodName)) ∈ lw_all := lw_g (lw_at lw_m7 119 rfl) rfl
theorem q1673 : (Jvm.Cond.methodLink "MessengerBoard$1" (32 : Nat) ({ cls := "MessengerBoard$State", name := "pass", desc := "(I)V" } : Jvm.MethodName)) ∈ lw_all := lw_g (lw_at lw_m7 124 rfl) rfl
theorem q1731 : (Jvm.Cond.methodLink "MessengerBoard$1" (40 : Nat) ({ cls := "java/util/ArrayList", name := "get", desc := "(I)Ljava/lang/Object;" } : Jvm.MethodName)) ∈ lw_all := lw_g (lw_at lw_m7 182 rfl) rfl
theorem q1732 : (Jvm.Cond.classLink "MessengerBoard$1" (46 : Nat) "MessengerBoard$Order") ∈ lw_all := lw_g (lw_at lw_m7 183 rfl) rfl
theorem q2748 : (Jvm.Cond.castable "MessengerBoard$1" "java/lang/Object") ∈ lw_tbl := lw_at lw_m11 239 rfl
theorem in_X13 : ∀ w ∈ wsX130, w ∈ lw_all := lw_in wsX130 [1652, 1642, 1644, 1646, 1648, 1650] (by decide +kernel) (by decide +kernel)
/-! MessengerBoard$Order -/
set_option maxRecDepth 100000
def RX14 : String := "MessengerBoard$Order"
def TX14 : u_T := fun k => match k with
  | 0 => ("MessengerBoard$Order", "number", "I", true)
  | 1 => ("MessengerBoard$Order", "unit", "I", true)
  | 2 => ("MessengerBoard$Order", "x", "I", true)
  | 3 => ("MessengerBoard$Order", "y", "I", true)
  | 4 => ("MessengerBoard$Order", "sent", "I", true)
  | 5 => ("MessengerBoard$Order", "state", "I", false)
  | 6 => ("MessengerBoard$Order", "arrived", "I", false)
  | 7 => ("MessengerBoard$Order", "ended", "I", false)
  | 8 => ("MessengerBoard$Order", "atX", "I", false)
  | 9 => ("MessengerBoard$Order", "atY", "I", false)
  | _ => ("MessengerBoard$Order", "steps", "I", false)
def tyX14 : Nat → FieldType := fun k => match k with
  | 0 => .int
  | 1 => .int
  | 2 => .int
  | 3 => .int
  | 4 => .int
  | 5 => .int
  | 6 => .int
  | 7 => .int
  | 8 => .int
  | 9 => .int
  | _ => .int
abbrev wsX140 : List Cond := u_ws RX14 TX14 11
theorem nmX14 : ∀ a, a < 11 → ∀ b, b < 11 → a ≠ b → (TX14 a).2.1 ≠ (TX14 b).2.1 := by decide +kernel
theorem tyX14_ok : ∀ k, k < 11 → parseFieldDescriptor (TX14 k).2.2.1 = some (tyX14 k) := by decide +kernel
abbrev cX14_hasArrived : ByteArray := prog_10_method_4_code
def yX14_hasArrived : MethodName := ⟨RX14, "hasArrived", "()Z"⟩
def dkwX14_hasArrived_0 : List UInt8 := [42, 180, 0, 9, 2, 159, 0, 7, 4, 167, 0, 4, 3, 172]
abbrev dktX14_hasArrived_0 : List UInt8 := dkwX14_hasArrived_0 ++ []
theorem dksX14_hasArrived_0 : cX14_hasArrived.data.toList.drop 0 = dktX14_hasArrived_0 := by decide +kernel
theorem dX14_hasArrived_0 : decode cX14_hasArrived 0 = .ok (.aload_n 0, 1) := dk_42 (dk_at dksX14_hasArrived_0 0 rfl rfl)
theorem dX14_hasArrived_1 : decode cX14_hasArrived 1 = .ok (.getfield 9, 3) := dk_180 0 9 (dk_at dksX14_hasArrived_0 1 rfl rfl)
theorem dX14_hasArrived_4 : decode cX14_hasArrived 4 = .ok (.iconst (-1), 1) := dk_2 (dk_at dksX14_hasArrived_0 4 rfl rfl)
theorem dX14_hasArrived_5 : decode cX14_hasArrived 5 = .ok (.if_icmp .eq 7, 3) := dk_159 0 7 (dk_at dksX14_hasArrived_0 5 rfl rfl)
theorem dX14_hasArrived_8 : decode cX14_hasArrived 8 = .ok (.iconst 1, 1) := dk_4 (dk_at dksX14_hasArrived_0 8 rfl rfl)
theorem dX14_hasArrived_9 : decode cX14_hasArrived 9 = .ok (.goto 4, 3) := dk_167 0 4 (dk_at dksX14_hasArrived_0 9 rfl rfl)
theorem dX14_hasArrived_12 : decode cX14_hasArrived 12 = .ok (.iconst 0, 1) := dk_3 (dk_at dksX14_hasArrived_0 12 rfl rfl)
theorem dX14_hasArrived_13 : decode cX14_hasArrived 13 = .ok (.ireturn, 1) := dk_172 (dk_at dksX14_hasArrived_0 13 rfl rfl)
abbrev cX14_isUnderWay : ByteArray := prog_10_method_3_code
def yX14_isUnderWay : MethodName := ⟨RX14, "isUnderWay", "()Z"⟩
def dkwX14_isUnderWay_0 : List UInt8 := [42, 180, 0, 42, 154, 0, 7, 4, 167, 0, 4, 3, 172]
abbrev dktX14_isUnderWay_0 : List UInt8 := dkwX14_isUnderWay_0 ++ []
theorem dksX14_isUnderWay_0 : cX14_isUnderWay.data.toList.drop 0 = dktX14_isUnderWay_0 := by decide +kernel
theorem dX14_isUnderWay_0 : decode cX14_isUnderWay 0 = .ok (.aload_n 0, 1) := dk_42 (dk_at dksX14_isUnderWay_0 0 rfl rfl)
theorem dX14_isUnderWay_1 : decode cX14_isUnderWay 1 = .ok (.getfield 42, 3) := dk_180 0 42 (dk_at dksX14_isUnderWay_0 1 rfl rfl)
theorem dX14_isUnderWay_4 : decode cX14_isUnderWay 4 = .ok (.ifCond .ne 7, 3) := dk_154 0 7 (dk_at dksX14_isUnderWay_0 4 rfl rfl)
theorem dX14_isUnderWay_7 : decode cX14_isUnderWay 7 = .ok (.iconst 1, 1) := dk_4 (dk_at dksX14_isUnderWay_0 7 rfl rfl)
theorem dX14_isUnderWay_8 : decode cX14_isUnderWay 8 = .ok (.goto 4, 3) := dk_167 0 4 (dk_at dksX14_isUnderWay_0 8 rfl rfl)
theorem dX14_isUnderWay_11 : decode cX14_isUnderWay 11 = .ok (.iconst 0, 1) := dk_3 (dk_at dksX14_isUnderWay_0 11 rfl rfl)
theorem dX14_isUnderWay_12 : decode cX14_isUnderWay 12 = .ok (.ireturn, 1) := dk_172 (dk_at dksX14_isUnderWay_0 12 rfl rfl)
abbrev cX14_copy : ByteArray := prog_10_method_2_code
def yX14_copy : MethodName := ⟨RX14, "copy", "()LMessengerBoard$Order;"⟩
def dkwX14_copy_2 : List UInt8 := [180, 0, 9, 181, 0, 9, 43, 42, 180, 0, 15, 181, 0, 15, 43, 42, 180, 0, 45, 181, 0, 45, 43, 176]
abbrev dktX14_copy_2 : List UInt8 := dkwX14_copy_2 ++ []
def dkwX14_copy_1 : List UInt8 := [42, 180, 0, 33, 42, 180, 0, 36, 183, 0, 39, 76, 43, 42, 180, 0, 42, 181, 0, 42, 43, 42]
abbrev dktX14_copy_1 : List UInt8 := dkwX14_copy_1 ++ dktX14_copy_2
def dkwX14_copy_0 : List UInt8 := [187, 0, 10, 89, 42, 180, 0, 18, 42, 180, 0, 21, 42, 180, 0, 24, 42, 180, 0, 27, 42, 180, 0, 30]
abbrev dktX14_copy_0 : List UInt8 := dkwX14_copy_0 ++ dktX14_copy_1
theorem dksX14_copy_0 : cX14_copy.data.toList.drop 0 = dktX14_copy_0 := by decide +kernel
theorem dksX14_copy_1 : cX14_copy.data.toList.drop 24 = dktX14_copy_1 := dk_seg dksX14_copy_0 24 rfl rfl
theorem dksX14_copy_2 : cX14_copy.data.toList.drop 46 = dktX14_copy_2 := dk_seg dksX14_copy_1 22 rfl rfl
theorem dX14_copy_0 : decode cX14_copy 0 = .ok (.new 10, 3) := dk_187 0 10 (dk_at dksX14_copy_0 0 rfl rfl)
theorem dX14_copy_3 : decode cX14_copy 3 = .ok (.dup, 1) := dk_89 (dk_at dksX14_copy_0 3 rfl rfl)
theorem dX14_copy_4 : decode cX14_copy 4 = .ok (.aload_n 0, 1) := dk_42 (dk_at dksX14_copy_0 4 rfl rfl)
theorem dX14_copy_5 : decode cX14_copy 5 = .ok (.getfield 18, 3) := dk_180 0 18 (dk_at dksX14_copy_0 5 rfl rfl)
theorem dX14_copy_8 : decode cX14_copy 8 = .ok (.aload_n 0, 1) := dk_42 (dk_at dksX14_copy_0 8 rfl rfl)
theorem dX14_copy_9 : decode cX14_copy 9 = .ok (.getfield 21, 3) := dk_180 0 21 (dk_at dksX14_copy_0 9 rfl rfl)
theorem dX14_copy_12 : decode cX14_copy 12 = .ok (.aload_n 0, 1) := dk_42 (dk_at dksX14_copy_0 12 rfl rfl)
theorem dX14_copy_13 : decode cX14_copy 13 = .ok (.getfield 24, 3) := dk_180 0 24 (dk_at dksX14_copy_0 13 rfl rfl)
theorem dX14_copy_16 : decode cX14_copy 16 = .ok (.aload_n 0, 1) := dk_42 (dk_at dksX14_copy_0 16 rfl rfl)
theorem dX14_copy_17 : decode cX14_copy 17 = .ok (.getfield 27, 3) := dk_180 0 27 (dk_at dksX14_copy_0 17 rfl rfl)
theorem dX14_copy_20 : decode cX14_copy 20 = .ok (.aload_n 0, 1) := dk_42 (dk_at dksX14_copy_0 20 rfl rfl)
theorem dX14_copy_21 : decode cX14_copy 21 = .ok (.getfield 30, 3) := dk_180 0 30 (dk_at dksX14_copy_0 21 rfl rfl)
theorem dX14_copy_24 : decode cX14_copy 24 = .ok (.aload_n 0, 1) := dk_42 (dk_at dksX14_copy_1 0 rfl rfl)
theorem dX14_copy_25 : decode cX14_copy 25 = .ok (.getfield 33, 3) := dk_180 0 33 (dk_at dksX14_copy_1 1 rfl rfl)
theorem dX14_copy_28 : decode cX14_copy 28 = .ok (.aload_n 0, 1) := dk_42 (dk_at dksX14_copy_1 4 rfl rfl)
theorem dX14_copy_29 : decode cX14_copy 29 = .ok (.getfield 36, 3) := dk_180 0 36 (dk_at dksX14_copy_1 5 rfl rfl)
theorem dX14_copy_32 : decode cX14_copy 32 = .ok (.invokespecial 39, 3) := dk_183 0 39 (dk_at dksX14_copy_1 8 rfl rfl)
theorem dX14_copy_35 : decode cX14_copy 35 = .ok (.astore_n 1, 1) := dk_76 (dk_at dksX14_copy_1 11 rfl rfl)
theorem dX14_copy_36 : decode cX14_copy 36 = .ok (.aload_n 1, 1) := dk_43 (dk_at dksX14_copy_1 12 rfl rfl)
theorem dX14_copy_37 : decode cX14_copy 37 = .ok (.aload_n 0, 1) := dk_42 (dk_at dksX14_copy_1 13 rfl rfl)
theorem dX14_copy_38 : decode cX14_copy 38 = .ok (.getfield 42, 3) := dk_180 0 42 (dk_at dksX14_copy_1 14 rfl rfl)
theorem dX14_copy_41 : decode cX14_copy 41 = .ok (.putfield 42, 3) := dk_181 0 42 (dk_at dksX14_copy_1 17 rfl rfl)
theorem dX14_copy_44 : decode cX14_copy 44 = .ok (.aload_n 1, 1) := dk_43 (dk_at dksX14_copy_1 20 rfl rfl)
theorem dX14_copy_45 : decode cX14_copy 45 = .ok (.aload_n 0, 1) := dk_42 (dk_at dksX14_copy_1 21 rfl rfl)
theorem dX14_copy_46 : decode cX14_copy 46 = .ok (.getfield 9, 3) := dk_180 0 9 (dk_at dksX14_copy_2 0 rfl rfl)
theorem dX14_copy_49 : decode cX14_copy 49 = .ok (.putfield 9, 3) := dk_181 0 9 (dk_at dksX14_copy_2 3 rfl rfl)
theorem dX14_copy_52 : decode cX14_copy 52 = .ok (.aload_n 1, 1) := dk_43 (dk_at dksX14_copy_2 6 rfl rfl)
theorem dX14_copy_53 : decode cX14_copy 53 = .ok (.aload_n 0, 1) := dk_42 (dk_at dksX14_copy_2 7 rfl rfl)
theorem dX14_copy_54 : decode cX14_copy 54 = .ok (.getfield 15, 3) := dk_180 0 15 (dk_at dksX14_copy_2 8 rfl rfl)
theorem dX14_copy_57 : decode cX14_copy 57 = .ok (.putfield 15, 3) := dk_181 0 15 (dk_at dksX14_copy_2 11 rfl rfl)
theorem dX14_copy_60 : decode cX14_copy 60 = .ok (.aload_n 1, 1) := dk_43 (dk_at dksX14_copy_2 14 rfl rfl)
theorem dX14_copy_61 : decode cX14_copy 61 = .ok (.aload_n 0, 1) := dk_42 (dk_at dksX14_copy_2 15 rfl rfl)
theorem dX14_copy_62 : decode cX14_copy 62 = .ok (.getfield 45, 3) := dk_180 0 45 (dk_at dksX14_copy_2 16 rfl rfl)
theorem dX14_copy_65 : decode cX14_copy 65 = .ok (.putfield 45, 3) := dk_181 0 45 (dk_at dksX14_copy_2 19 rfl rfl)
theorem dX14_copy_68 : decode cX14_copy 68 = .ok (.aload_n 1, 1) := dk_43 (dk_at dksX14_copy_2 22 rfl rfl)
theorem dX14_copy_69 : decode cX14_copy 69 = .ok (.areturn, 1) := dk_176 (dk_at dksX14_copy_2 23 rfl rfl)
abbrev cX14_init : ByteArray := prog_10_method_1_code
def yX14_init : MethodName := ⟨RX14, "<init>", "(IIIIIII)V"⟩
def dkwX14_init_2 : List UInt8 := [21, 7, 181, 0, 36, 177]
abbrev dktX14_init_2 : List UInt8 := dkwX14_init_2 ++ []
def dkwX14_init_1 : List UInt8 := [42, 29, 181, 0, 24, 42, 21, 4, 181, 0, 27, 42, 21, 5, 181, 0, 30, 42, 21, 6, 181, 0, 33, 42]
abbrev dktX14_init_1 : List UInt8 := dkwX14_init_1 ++ dktX14_init_2
def dkwX14_init_0 : List UInt8 := [42, 183, 0, 3, 42, 2, 181, 0, 9, 42, 2, 181, 0, 15, 42, 27, 181, 0, 18, 42, 28, 181, 0, 21]
abbrev dktX14_init_0 : List UInt8 := dkwX14_init_0 ++ dktX14_init_1
theorem dksX14_init_0 : cX14_init.data.toList.drop 0 = dktX14_init_0 := by decide +kernel
theorem dksX14_init_1 : cX14_init.data.toList.drop 24 = dktX14_init_1 := dk_seg dksX14_init_0 24 rfl rfl
theorem dksX14_init_2 : cX14_init.data.toList.drop 48 = dktX14_init_2 := dk_seg dksX14_init_1 24 rfl rfl
theorem dX14_init_0 : decode cX14_init 0 = .ok (.aload_n 0, 1) := dk_42 (dk_at dksX14_init_0 0 rfl rfl)
theorem dX14_init_1 : decode cX14_init 1 = .ok (.invokespecial 3, 3) := dk_183 0 3 (dk_at dksX14_init_0 1 rfl rfl)
theorem dX14_init_4 : decode cX14_init 4 = .ok (.aload_n 0, 1) := dk_42 (dk_at dksX14_init_0 4 rfl rfl)
theorem dX14_init_5 : decode cX14_init 5 = .ok (.iconst (-1), 1) := dk_2 (dk_at dksX14_init_0 5 rfl rfl)
theorem dX14_init_6 : decode cX14_init 6 = .ok (.putfield 9, 3) := dk_181 0 9 (dk_at dksX14_init_0 6 rfl rfl)
theorem dX14_init_9 : decode cX14_init 9 = .ok (.aload_n 0, 1) := dk_42 (dk_at dksX14_init_0 9 rfl rfl)
theorem dX14_init_10 : decode cX14_init 10 = .ok (.iconst (-1), 1) := dk_2 (dk_at dksX14_init_0 10 rfl rfl)
theorem dX14_init_11 : decode cX14_init 11 = .ok (.putfield 15, 3) := dk_181 0 15 (dk_at dksX14_init_0 11 rfl rfl)
theorem dX14_init_14 : decode cX14_init 14 = .ok (.aload_n 0, 1) := dk_42 (dk_at dksX14_init_0 14 rfl rfl)
theorem dX14_init_15 : decode cX14_init 15 = .ok (.iload_n 1, 1) := dk_27 (dk_at dksX14_init_0 15 rfl rfl)
theorem dX14_init_16 : decode cX14_init 16 = .ok (.putfield 18, 3) := dk_181 0 18 (dk_at dksX14_init_0 16 rfl rfl)
theorem dX14_init_19 : decode cX14_init 19 = .ok (.aload_n 0, 1) := dk_42 (dk_at dksX14_init_0 19 rfl rfl)
theorem dX14_init_20 : decode cX14_init 20 = .ok (.iload_n 2, 1) := dk_28 (dk_at dksX14_init_0 20 rfl rfl)
theorem dX14_init_21 : decode cX14_init 21 = .ok (.putfield 21, 3) := dk_181 0 21 (dk_at dksX14_init_0 21 rfl rfl)
theorem dX14_init_24 : decode cX14_init 24 = .ok (.aload_n 0, 1) := dk_42 (dk_at dksX14_init_1 0 rfl rfl)
theorem dX14_init_25 : decode cX14_init 25 = .ok (.iload_n 3, 1) := dk_29 (dk_at dksX14_init_1 1 rfl rfl)
theorem dX14_init_26 : decode cX14_init 26 = .ok (.putfield 24, 3) := dk_181 0 24 (dk_at dksX14_init_1 2 rfl rfl)
theorem dX14_init_29 : decode cX14_init 29 = .ok (.aload_n 0, 1) := dk_42 (dk_at dksX14_init_1 5 rfl rfl)
theorem dX14_init_30 : decode cX14_init 30 = .ok (.iload 4, 2) := dk_21 4 (dk_at dksX14_init_1 6 rfl rfl)
theorem dX14_init_32 : decode cX14_init 32 = .ok (.putfield 27, 3) := dk_181 0 27 (dk_at dksX14_init_1 8 rfl rfl)
theorem dX14_init_35 : decode cX14_init 35 = .ok (.aload_n 0, 1) := dk_42 (dk_at dksX14_init_1 11 rfl rfl)
theorem dX14_init_36 : decode cX14_init 36 = .ok (.iload 5, 2) := dk_21 5 (dk_at dksX14_init_1 12 rfl rfl)
theorem dX14_init_38 : decode cX14_init 38 = .ok (.putfield 30, 3) := dk_181 0 30 (dk_at dksX14_init_1 14 rfl rfl)
theorem dX14_init_41 : decode cX14_init 41 = .ok (.aload_n 0, 1) := dk_42 (dk_at dksX14_init_1 17 rfl rfl)
theorem dX14_init_42 : decode cX14_init 42 = .ok (.iload 6, 2) := dk_21 6 (dk_at dksX14_init_1 18 rfl rfl)
theorem dX14_init_44 : decode cX14_init 44 = .ok (.putfield 33, 3) := dk_181 0 33 (dk_at dksX14_init_1 20 rfl rfl)
theorem dX14_init_47 : decode cX14_init 47 = .ok (.aload_n 0, 1) := dk_42 (dk_at dksX14_init_1 23 rfl rfl)
theorem dX14_init_48 : decode cX14_init 48 = .ok (.iload 7, 2) := dk_21 7 (dk_at dksX14_init_2 0 rfl rfl)
theorem dX14_init_50 : decode cX14_init 50 = .ok (.putfield 36, 3) := dk_181 0 36 (dk_at dksX14_init_2 2 rfl rfl)
theorem dX14_init_53 : decode cX14_init 53 = .ok (.return_, 1) := dk_177 (dk_at dksX14_init_2 5 rfl rfl)
abbrev cX14_hasGoal : ByteArray := prog_10_method_5_code
def yX14_hasGoal : MethodName := ⟨RX14, "hasGoal", "(II)Z"⟩
def dkwX14_hasGoal_0 : List UInt8 := [42, 180, 0, 24, 27, 160, 0, 15, 42, 180, 0, 27, 28, 160, 0, 7, 4, 167, 0, 4, 3, 172]
abbrev dktX14_hasGoal_0 : List UInt8 := dkwX14_hasGoal_0 ++ []
theorem dksX14_hasGoal_0 : cX14_hasGoal.data.toList.drop 0 = dktX14_hasGoal_0 := by decide +kernel
theorem dX14_hasGoal_0 : decode cX14_hasGoal 0 = .ok (.aload_n 0, 1) := dk_42 (dk_at dksX14_hasGoal_0 0 rfl rfl)
theorem dX14_hasGoal_1 : decode cX14_hasGoal 1 = .ok (.getfield 24, 3) := dk_180 0 24 (dk_at dksX14_hasGoal_0 1 rfl rfl)
theorem dX14_hasGoal_4 : decode cX14_hasGoal 4 = .ok (.iload_n 1, 1) := dk_27 (dk_at dksX14_hasGoal_0 4 rfl rfl)
theorem dX14_hasGoal_5 : decode cX14_hasGoal 5 = .ok (.if_icmp .ne 15, 3) := dk_160 0 15 (dk_at dksX14_hasGoal_0 5 rfl rfl)
theorem dX14_hasGoal_8 : decode cX14_hasGoal 8 = .ok (.aload_n 0, 1) := dk_42 (dk_at dksX14_hasGoal_0 8 rfl rfl)
theorem dX14_hasGoal_9 : decode cX14_hasGoal 9 = .ok (.getfield 27, 3) := dk_180 0 27 (dk_at dksX14_hasGoal_0 9 rfl rfl)
theorem dX14_hasGoal_12 : decode cX14_hasGoal 12 = .ok (.iload_n 2, 1) := dk_28 (dk_at dksX14_hasGoal_0 12 rfl rfl)
theorem dX14_hasGoal_13 : decode cX14_hasGoal 13 = .ok (.if_icmp .ne 7, 3) := dk_160 0 7 (dk_at dksX14_hasGoal_0 13 rfl rfl)
theorem dX14_hasGoal_16 : decode cX14_hasGoal 16 = .ok (.iconst 1, 1) := dk_4 (dk_at dksX14_hasGoal_0 16 rfl rfl)
theorem dX14_hasGoal_17 : decode cX14_hasGoal 17 = .ok (.goto 4, 3) := dk_167 0 4 (dk_at dksX14_hasGoal_0 17 rfl rfl)
theorem dX14_hasGoal_20 : decode cX14_hasGoal 20 = .ok (.iconst 0, 1) := dk_3 (dk_at dksX14_hasGoal_0 20 rfl rfl)
theorem dX14_hasGoal_21 : decode cX14_hasGoal 21 = .ok (.ireturn, 1) := dk_172 (dk_at dksX14_hasGoal_0 21 rfl rfl)
theorem q147 : (Jvm.Cond.initialized "MessengerBoard$Order") ∈ lw_all := lw_g (lw_at lw_m1 38 rfl) rfl
theorem q369 : (Jvm.Cond.instanceMethod ({ cls := "MessengerBoard$Order", name := "hasArrived", desc := "()Z" } : Jvm.MethodName)) ∈ lw_all := lw_g (lw_at lw_m2 20 rfl) rfl
theorem q370 : (Jvm.Cond.selects "MessengerBoard$Order" ({ cls := "MessengerBoard$Order", name := "hasArrived", desc := "()Z" } : Jvm.MethodName) ({ cls := "MessengerBoard$Order", name := "hasArrived", desc := "()Z" } : Jvm.MethodName)) ∈ lw_all := lw_g (lw_at lw_m2 21 rfl) rfl
theorem q371 : (Jvm.Cond.code ({ cls := "MessengerBoard$Order", name := "hasArrived", desc := "()Z" } : Jvm.MethodName) prog_10_method_4_code (1 : Nat) (Option.some Jvm.ClassFile.FieldType.boolean)) ∈ lw_all := lw_g (lw_at lw_m2 22 rfl) rfl
theorem q1184 : (Jvm.Cond.selects "MessengerBoard$Order" ({ cls := "java/lang/Object", name := "getClass", desc := "()Ljava/lang/Class;" } : Jvm.MethodName) ({ cls := "java/lang/Object", name := "getClass", desc := "()Ljava/lang/Class;" } : Jvm.MethodName)) ∈ lw_all := lw_g (lw_at lw_m5 115 rfl) rfl
theorem q1355 : (Jvm.Cond.instanceMethod ({ cls := "MessengerBoard$Order", name := "isUnderWay", desc := "()Z" } : Jvm.MethodName)) ∈ lw_all := lw_g (lw_at lw_m6 46 rfl) rfl
theorem q1356 : (Jvm.Cond.selects "MessengerBoard$Order" ({ cls := "MessengerBoard$Order", name := "isUnderWay", desc := "()Z" } : Jvm.MethodName) ({ cls := "MessengerBoard$Order", name := "isUnderWay", desc := "()Z" } : Jvm.MethodName)) ∈ lw_all := lw_g (lw_at lw_m6 47 rfl) rfl
theorem q1357 : (Jvm.Cond.code ({ cls := "MessengerBoard$Order", name := "isUnderWay", desc := "()Z" } : Jvm.MethodName) prog_10_method_3_code (1 : Nat) (Option.some Jvm.ClassFile.FieldType.boolean)) ∈ lw_all := lw_g (lw_at lw_m6 48 rfl) rfl
theorem q1567 : (Jvm.Cond.instanceMethod ({ cls := "MessengerBoard$Order", name := "copy", desc := "()LMessengerBoard$Order;" } : Jvm.MethodName)) ∈ lw_all := lw_g (lw_at lw_m7 18 rfl) rfl
theorem q1568 : (Jvm.Cond.selects "MessengerBoard$Order" ({ cls := "MessengerBoard$Order", name := "copy", desc := "()LMessengerBoard$Order;" } : Jvm.MethodName) ({ cls := "MessengerBoard$Order", name := "copy", desc := "()LMessengerBoard$Order;" } : Jvm.MethodName)) ∈ lw_all := lw_g (lw_at lw_m7 19 rfl) rfl
theorem q1569 : (Jvm.Cond.code ({ cls := "MessengerBoard$Order", name := "copy", desc := "()LMessengerBoard$Order;" } : Jvm.MethodName) prog_10_method_2_code (2 : Nat) (Option.some (Jvm.ClassFile.FieldType.object "MessengerBoard$Order"))) ∈ lw_all := lw_g (lw_at lw_m7 20 rfl) rfl
theorem q1570 : (Jvm.Cond.classLink "MessengerBoard$Order" (10 : Nat) "MessengerBoard$Order") ∈ lw_all := lw_g (lw_at lw_m7 21 rfl) rfl
theorem q1571 : (Jvm.Cond.instantiable "MessengerBoard$Order" (11 : Nat)) ∈ lw_all := lw_g (lw_at lw_m7 22 rfl) rfl
theorem q1572 : (Jvm.Cond.methodLink "MessengerBoard$Order" (39 : Nat) ({ cls := "MessengerBoard$Order", name := "<init>", desc := "(IIIIIII)V" } : Jvm.MethodName)) ∈ lw_all := lw_g (lw_at lw_m7 23 rfl) rfl
theorem q1573 : (Jvm.Cond.instanceMethod ({ cls := "MessengerBoard$Order", name := "<init>", desc := "(IIIIIII)V" } : Jvm.MethodName)) ∈ lw_all := lw_g (lw_at lw_m7 24 rfl) rfl
theorem q1574 : (Jvm.Cond.code ({ cls := "MessengerBoard$Order", name := "<init>", desc := "(IIIIIII)V" } : Jvm.MethodName) prog_10_method_1_code (8 : Nat) (Option.none : Option Jvm.ClassFile.FieldType)) ∈ lw_all := lw_g (lw_at lw_m7 25 rfl) rfl
theorem q1575 : (Jvm.Cond.methodLink "MessengerBoard$Order" (3 : Nat) ({ cls := "java/lang/Object", name := "<init>", desc := "()V" } : Jvm.MethodName)) ∈ lw_all := lw_g (lw_at lw_m7 26 rfl) rfl
theorem q1576 : (Jvm.Cond.fieldLink "MessengerBoard$Order" (18 : Nat) "MessengerBoard$Order" "number" "I") ∈ lw_all := lw_g (lw_at lw_m7 27 rfl) rfl
theorem q1579 : (Jvm.Cond.fieldLink "MessengerBoard$Order" (21 : Nat) "MessengerBoard$Order" "unit" "I") ∈ lw_all := lw_g (lw_at lw_m7 30 rfl) rfl
theorem q1582 : (Jvm.Cond.fieldLink "MessengerBoard$Order" (24 : Nat) "MessengerBoard$Order" "x" "I") ∈ lw_all := lw_g (lw_at lw_m7 33 rfl) rfl
theorem q1585 : (Jvm.Cond.fieldLink "MessengerBoard$Order" (27 : Nat) "MessengerBoard$Order" "y" "I") ∈ lw_all := lw_g (lw_at lw_m7 36 rfl) rfl
theorem q1588 : (Jvm.Cond.fieldLink "MessengerBoard$Order" (30 : Nat) "MessengerBoard$Order" "sent" "I") ∈ lw_all := lw_g (lw_at lw_m7 39 rfl) rfl
theorem q1592 : (Jvm.Cond.fieldLink "MessengerBoard$Order" (42 : Nat) "MessengerBoard$Order" "state" "I") ∈ lw_all := lw_g (lw_at lw_m7 43 rfl) rfl
theorem q1596 : (Jvm.Cond.fieldLink "MessengerBoard$Order" (9 : Nat) "MessengerBoard$Order" "arrived" "I") ∈ lw_all := lw_g (lw_at lw_m7 47 rfl) rfl
theorem q1599 : (Jvm.Cond.fieldLink "MessengerBoard$Order" (15 : Nat) "MessengerBoard$Order" "ended" "I") ∈ lw_all := lw_g (lw_at lw_m7 50 rfl) rfl
theorem q1602 : (Jvm.Cond.fieldLink "MessengerBoard$Order" (33 : Nat) "MessengerBoard$Order" "atX" "I") ∈ lw_all := lw_g (lw_at lw_m7 53 rfl) rfl
theorem q1605 : (Jvm.Cond.fieldLink "MessengerBoard$Order" (36 : Nat) "MessengerBoard$Order" "atY" "I") ∈ lw_all := lw_g (lw_at lw_m7 56 rfl) rfl
theorem q1608 : (Jvm.Cond.fieldLink "MessengerBoard$Order" (45 : Nat) "MessengerBoard$Order" "steps" "I") ∈ lw_all := lw_g (lw_at lw_m7 59 rfl) rfl
theorem q1611 : (Jvm.Cond.laysFinal "MessengerBoard$Order" "MessengerBoard$Order" "number" "I") ∈ lw_all := lw_g (lw_at lw_m7 62 rfl) rfl
theorem q1612 : (Jvm.Cond.soleField "MessengerBoard$Order" "number") ∈ lw_all := lw_g (lw_at lw_m7 63 rfl) rfl
theorem q1613 : (Jvm.Cond.laysFinal "MessengerBoard$Order" "MessengerBoard$Order" "unit" "I") ∈ lw_all := lw_g (lw_at lw_m7 64 rfl) rfl
theorem q1614 : (Jvm.Cond.soleField "MessengerBoard$Order" "unit") ∈ lw_all := lw_g (lw_at lw_m7 65 rfl) rfl
theorem q1615 : (Jvm.Cond.laysFinal "MessengerBoard$Order" "MessengerBoard$Order" "x" "I") ∈ lw_all := lw_g (lw_at lw_m7 66 rfl) rfl
theorem q1616 : (Jvm.Cond.soleField "MessengerBoard$Order" "x") ∈ lw_all := lw_g (lw_at lw_m7 67 rfl) rfl
theorem q1617 : (Jvm.Cond.laysFinal "MessengerBoard$Order" "MessengerBoard$Order" "y" "I") ∈ lw_all := lw_g (lw_at lw_m7 68 rfl) rfl
theorem q1618 : (Jvm.Cond.soleField "MessengerBoard$Order" "y") ∈ lw_all := lw_g (lw_at lw_m7 69 rfl) rfl
theorem q1619 : (Jvm.Cond.laysFinal "MessengerBoard$Order" "MessengerBoard$Order" "sent" "I") ∈ lw_all := lw_g (lw_at lw_m7 70 rfl) rfl
theorem q1620 : (Jvm.Cond.soleField "MessengerBoard$Order" "sent") ∈ lw_all := lw_g (lw_at lw_m7 71 rfl) rfl
theorem q1621 : (Jvm.Cond.lays "MessengerBoard$Order" "MessengerBoard$Order" "state" "I") ∈ lw_all := lw_g (lw_at lw_m7 72 rfl) rfl
theorem q1622 : (Jvm.Cond.soleField "MessengerBoard$Order" "state") ∈ lw_all := lw_g (lw_at lw_m7 73 rfl) rfl
theorem q1623 : (Jvm.Cond.lays "MessengerBoard$Order" "MessengerBoard$Order" "arrived" "I") ∈ lw_all := lw_g (lw_at lw_m7 74 rfl) rfl
theorem q1624 : (Jvm.Cond.soleField "MessengerBoard$Order" "arrived") ∈ lw_all := lw_g (lw_at lw_m7 75 rfl) rfl
theorem q1625 : (Jvm.Cond.lays "MessengerBoard$Order" "MessengerBoard$Order" "ended" "I") ∈ lw_all := lw_g (lw_at lw_m7 76 rfl) rfl
theorem q1626 : (Jvm.Cond.soleField "MessengerBoard$Order" "ended") ∈ lw_all := lw_g (lw_at lw_m7 77 rfl) rfl
theorem q1627 : (Jvm.Cond.lays "MessengerBoard$Order" "MessengerBoard$Order" "atX" "I") ∈ lw_all := lw_g (lw_at lw_m7 78 rfl) rfl
theorem q1628 : (Jvm.Cond.soleField "MessengerBoard$Order" "atX") ∈ lw_all := lw_g (lw_at lw_m7 79 rfl) rfl
theorem q1629 : (Jvm.Cond.lays "MessengerBoard$Order" "MessengerBoard$Order" "atY" "I") ∈ lw_all := lw_g (lw_at lw_m7 80 rfl) rfl
theorem q1630 : (Jvm.Cond.soleField "MessengerBoard$Order" "atY") ∈ lw_all := lw_g (lw_at lw_m7 81 rfl) rfl
theorem q1631 : (Jvm.Cond.lays "MessengerBoard$Order" "MessengerBoard$Order" "steps" "I") ∈ lw_all := lw_g (lw_at lw_m7 82 rfl) rfl
theorem q1632 : (Jvm.Cond.soleField "MessengerBoard$Order" "steps") ∈ lw_all := lw_g (lw_at lw_m7 83 rfl) rfl
theorem q1633 : (Jvm.Cond.superclass "MessengerBoard$Order" "java/lang/Object") ∈ lw_all := lw_g (lw_at lw_m7 84 rfl) rfl
theorem q1728 : (Jvm.Cond.instanceMethod ({ cls := "MessengerBoard$Order", name := "hasGoal", desc := "(II)Z" } : Jvm.MethodName)) ∈ lw_all := lw_g (lw_at lw_m7 179 rfl) rfl
theorem q1729 : (Jvm.Cond.selects "MessengerBoard$Order" ({ cls := "MessengerBoard$Order", name := "hasGoal", desc := "(II)Z" } : Jvm.MethodName) ({ cls := "MessengerBoard$Order", name := "hasGoal", desc := "(II)Z" } : Jvm.MethodName)) ∈ lw_all := lw_g (lw_at lw_m7 180 rfl) rfl
theorem q1730 : (Jvm.Cond.code ({ cls := "MessengerBoard$Order", name := "hasGoal", desc := "(II)Z" } : Jvm.MethodName) prog_10_method_5_code (3 : Nat) (Option.some Jvm.ClassFile.FieldType.boolean)) ∈ lw_all := lw_g (lw_at lw_m7 181 rfl) rfl
theorem q2749 : (Jvm.Cond.castable "MessengerBoard$Order" "java/lang/Object") ∈ lw_tbl := lw_at lw_m12 0 rfl
theorem in_X14 : ∀ w ∈ wsX140, w ∈ lw_all := lw_in wsX140 [1611, 1613, 1615, 1617, 1619, 1621, 1623, 1625, 1627, 1629, 1631] (by decide +kernel) (by decide +kernel)
/-! MessengerBoard$Event -/
set_option maxRecDepth 100000
def RX15 : String := "MessengerBoard$Event"
def TX15 : u_T := fun k => match k with
  | 0 => ("MessengerBoard$Event", "turn", "I", true)
  | 1 => ("MessengerBoard$Event", "order", "I", true)
  | _ => ("MessengerBoard$Event", "state", "I", true)
def tyX15 : Nat → FieldType := fun k => match k with
  | 0 => .int
  | 1 => .int
  | _ => .int
abbrev wsX150 : List Cond := u_ws RX15 TX15 3
theorem nmX15 : ∀ a, a < 3 → ∀ b, b < 3 → a ≠ b → (TX15 a).2.1 ≠ (TX15 b).2.1 := by decide +kernel
theorem tyX15_ok : ∀ k, k < 3 → parseFieldDescriptor (TX15 k).2.2.1 = some (tyX15 k) := by decide +kernel
abbrev cX15_init : ByteArray := prog_7_method_1_code
def yX15_init : MethodName := ⟨RX15, "<init>", "(III)V"⟩
def dkwX15_init_0 : List UInt8 := [42, 183, 0, 1, 42, 27, 181, 0, 7, 42, 28, 181, 0, 13, 42, 29, 181, 0, 16, 177]
abbrev dktX15_init_0 : List UInt8 := dkwX15_init_0 ++ []
theorem dksX15_init_0 : cX15_init.data.toList.drop 0 = dktX15_init_0 := by decide +kernel
theorem dX15_init_0 : decode cX15_init 0 = .ok (.aload_n 0, 1) := dk_42 (dk_at dksX15_init_0 0 rfl rfl)
theorem dX15_init_1 : decode cX15_init 1 = .ok (.invokespecial 1, 3) := dk_183 0 1 (dk_at dksX15_init_0 1 rfl rfl)
theorem dX15_init_4 : decode cX15_init 4 = .ok (.aload_n 0, 1) := dk_42 (dk_at dksX15_init_0 4 rfl rfl)
theorem dX15_init_5 : decode cX15_init 5 = .ok (.iload_n 1, 1) := dk_27 (dk_at dksX15_init_0 5 rfl rfl)
theorem dX15_init_6 : decode cX15_init 6 = .ok (.putfield 7, 3) := dk_181 0 7 (dk_at dksX15_init_0 6 rfl rfl)
theorem dX15_init_9 : decode cX15_init 9 = .ok (.aload_n 0, 1) := dk_42 (dk_at dksX15_init_0 9 rfl rfl)
theorem dX15_init_10 : decode cX15_init 10 = .ok (.iload_n 2, 1) := dk_28 (dk_at dksX15_init_0 10 rfl rfl)
theorem dX15_init_11 : decode cX15_init 11 = .ok (.putfield 13, 3) := dk_181 0 13 (dk_at dksX15_init_0 11 rfl rfl)
theorem dX15_init_14 : decode cX15_init 14 = .ok (.aload_n 0, 1) := dk_42 (dk_at dksX15_init_0 14 rfl rfl)
theorem dX15_init_15 : decode cX15_init 15 = .ok (.iload_n 3, 1) := dk_29 (dk_at dksX15_init_0 15 rfl rfl)
theorem dX15_init_16 : decode cX15_init 16 = .ok (.putfield 16, 3) := dk_181 0 16 (dk_at dksX15_init_0 16 rfl rfl)
theorem dX15_init_19 : decode cX15_init 19 = .ok (.return_, 1) := dk_177 (dk_at dksX15_init_0 19 rfl rfl)
theorem q148 : (Jvm.Cond.initialized "MessengerBoard$Event") ∈ lw_all := lw_g (lw_at lw_m1 39 rfl) rfl
theorem q1181 : (Jvm.Cond.selects "MessengerBoard$Event" ({ cls := "java/lang/Object", name := "getClass", desc := "()Ljava/lang/Class;" } : Jvm.MethodName) ({ cls := "java/lang/Object", name := "getClass", desc := "()Ljava/lang/Class;" } : Jvm.MethodName)) ∈ lw_all := lw_g (lw_at lw_m5 112 rfl) rfl
theorem q1698 : (Jvm.Cond.instantiable "MessengerBoard$Event" (3 : Nat)) ∈ lw_all := lw_g (lw_at lw_m7 149 rfl) rfl
theorem q1700 : (Jvm.Cond.instanceMethod ({ cls := "MessengerBoard$Event", name := "<init>", desc := "(III)V" } : Jvm.MethodName)) ∈ lw_all := lw_g (lw_at lw_m7 151 rfl) rfl
theorem q1701 : (Jvm.Cond.code ({ cls := "MessengerBoard$Event", name := "<init>", desc := "(III)V" } : Jvm.MethodName) prog_7_method_1_code (4 : Nat) (Option.none : Option Jvm.ClassFile.FieldType)) ∈ lw_all := lw_g (lw_at lw_m7 152 rfl) rfl
theorem q1702 : (Jvm.Cond.methodLink "MessengerBoard$Event" (1 : Nat) ({ cls := "java/lang/Object", name := "<init>", desc := "()V" } : Jvm.MethodName)) ∈ lw_all := lw_g (lw_at lw_m7 153 rfl) rfl
theorem q1703 : (Jvm.Cond.fieldLink "MessengerBoard$Event" (7 : Nat) "MessengerBoard$Event" "turn" "I") ∈ lw_all := lw_g (lw_at lw_m7 154 rfl) rfl
theorem q1705 : (Jvm.Cond.fieldLink "MessengerBoard$Event" (13 : Nat) "MessengerBoard$Event" "order" "I") ∈ lw_all := lw_g (lw_at lw_m7 156 rfl) rfl
theorem q1707 : (Jvm.Cond.fieldLink "MessengerBoard$Event" (16 : Nat) "MessengerBoard$Event" "state" "I") ∈ lw_all := lw_g (lw_at lw_m7 158 rfl) rfl
theorem q1709 : (Jvm.Cond.laysFinal "MessengerBoard$Event" "MessengerBoard$Event" "turn" "I") ∈ lw_all := lw_g (lw_at lw_m7 160 rfl) rfl
theorem q1710 : (Jvm.Cond.soleField "MessengerBoard$Event" "turn") ∈ lw_all := lw_g (lw_at lw_m7 161 rfl) rfl
theorem q1711 : (Jvm.Cond.laysFinal "MessengerBoard$Event" "MessengerBoard$Event" "order" "I") ∈ lw_all := lw_g (lw_at lw_m7 162 rfl) rfl
theorem q1712 : (Jvm.Cond.soleField "MessengerBoard$Event" "order") ∈ lw_all := lw_g (lw_at lw_m7 163 rfl) rfl
theorem q1713 : (Jvm.Cond.laysFinal "MessengerBoard$Event" "MessengerBoard$Event" "state" "I") ∈ lw_all := lw_g (lw_at lw_m7 164 rfl) rfl
theorem q1714 : (Jvm.Cond.soleField "MessengerBoard$Event" "state") ∈ lw_all := lw_g (lw_at lw_m7 165 rfl) rfl
theorem q1715 : (Jvm.Cond.superclass "MessengerBoard$Event" "java/lang/Object") ∈ lw_all := lw_g (lw_at lw_m7 166 rfl) rfl
theorem q2750 : (Jvm.Cond.castable "MessengerBoard$Event" "java/lang/Object") ∈ lw_tbl := lw_at lw_m12 1 rfl
theorem in_X15 : ∀ w ∈ wsX150, w ∈ lw_all := lw_in wsX150 [1709, 1711, 1713] (by decide +kernel) (by decide +kernel)
/-! MessengerBoard$2 -/
set_option maxRecDepth 100000
def RX16 : String := "MessengerBoard$2"
def TX16 : u_T := fun k => match k with
  | 0 => ("MessengerBoard$Trial", "copy", "LMessengerBoard$State;", true)
  | 1 => ("MessengerBoard$2", "val$turns", "I", true)
  | 2 => ("MessengerBoard$2", "val$unit", "I", true)
  | 3 => ("MessengerBoard$2", "val$x", "I", true)
  | 4 => ("MessengerBoard$2", "val$y", "I", true)
  | _ => ("MessengerBoard$2", "this$0", "LMessengerBoard;", true)
def tyX16 : Nat → FieldType := fun k => match k with
  | 0 => .object "MessengerBoard$State"
  | 1 => .int
  | 2 => .int
  | 3 => .int
  | 4 => .int
  | _ => .object "MessengerBoard"
abbrev wsX160 : List Cond := u_ws RX16 TX16 6
theorem nmX16 : ∀ a, a < 6 → ∀ b, b < 6 → a ≠ b → (TX16 a).2.1 ≠ (TX16 b).2.1 := by decide +kernel
theorem tyX16_ok : ∀ k, k < 6 → parseFieldDescriptor (TX16 k).2.2.1 = some (tyX16 k) := by decide +kernel
abbrev cX16_of : ByteArray := prog_3_method_2_code
def yX16_of : MethodName := ⟨RX16, "of", "(LMessengerBoard$State;)I"⟩
def dkwX16_of_1 : List UInt8 := [43, 43, 42, 180, 0, 13, 42, 180, 0, 16, 42, 180, 0, 19, 182, 0, 44, 182, 0, 48, 172]
abbrev dktX16_of_1 : List UInt8 := dkwX16_of_1 ++ []
def dkwX16_of_0 : List UInt8 := [43, 42, 180, 0, 9, 182, 0, 28, 43, 180, 0, 34, 182, 0, 38, 16, 40, 160, 0, 7, 2, 167, 0, 23]
abbrev dktX16_of_0 : List UInt8 := dkwX16_of_0 ++ dktX16_of_1
theorem dksX16_of_0 : cX16_of.data.toList.drop 0 = dktX16_of_0 := by decide +kernel
theorem dksX16_of_1 : cX16_of.data.toList.drop 24 = dktX16_of_1 := dk_seg dksX16_of_0 24 rfl rfl
theorem dX16_of_0 : decode cX16_of 0 = .ok (.aload_n 1, 1) := dk_43 (dk_at dksX16_of_0 0 rfl rfl)
theorem dX16_of_1 : decode cX16_of 1 = .ok (.aload_n 0, 1) := dk_42 (dk_at dksX16_of_0 1 rfl rfl)
theorem dX16_of_2 : decode cX16_of 2 = .ok (.getfield 9, 3) := dk_180 0 9 (dk_at dksX16_of_0 2 rfl rfl)
theorem dX16_of_5 : decode cX16_of 5 = .ok (.invokevirtual 28, 3) := dk_182 0 28 (dk_at dksX16_of_0 5 rfl rfl)
theorem dX16_of_8 : decode cX16_of 8 = .ok (.aload_n 1, 1) := dk_43 (dk_at dksX16_of_0 8 rfl rfl)
theorem dX16_of_9 : decode cX16_of 9 = .ok (.getfield 34, 3) := dk_180 0 34 (dk_at dksX16_of_0 9 rfl rfl)
theorem dX16_of_12 : decode cX16_of 12 = .ok (.invokevirtual 38, 3) := dk_182 0 38 (dk_at dksX16_of_0 12 rfl rfl)
theorem dX16_of_15 : decode cX16_of 15 = .ok (.bipush 40, 2) := dk_16 40 (dk_at dksX16_of_0 15 rfl rfl)
theorem dX16_of_17 : decode cX16_of 17 = .ok (.if_icmp .ne 7, 3) := dk_160 0 7 (dk_at dksX16_of_0 17 rfl rfl)
theorem dX16_of_20 : decode cX16_of 20 = .ok (.iconst (-1), 1) := dk_2 (dk_at dksX16_of_0 20 rfl rfl)
theorem dX16_of_21 : decode cX16_of 21 = .ok (.goto 23, 3) := dk_167 0 23 (dk_at dksX16_of_0 21 rfl rfl)
theorem dX16_of_24 : decode cX16_of 24 = .ok (.aload_n 1, 1) := dk_43 (dk_at dksX16_of_1 0 rfl rfl)
theorem dX16_of_25 : decode cX16_of 25 = .ok (.aload_n 1, 1) := dk_43 (dk_at dksX16_of_1 1 rfl rfl)
theorem dX16_of_26 : decode cX16_of 26 = .ok (.aload_n 0, 1) := dk_42 (dk_at dksX16_of_1 2 rfl rfl)
theorem dX16_of_27 : decode cX16_of 27 = .ok (.getfield 13, 3) := dk_180 0 13 (dk_at dksX16_of_1 3 rfl rfl)
theorem dX16_of_30 : decode cX16_of 30 = .ok (.aload_n 0, 1) := dk_42 (dk_at dksX16_of_1 6 rfl rfl)
theorem dX16_of_31 : decode cX16_of 31 = .ok (.getfield 16, 3) := dk_180 0 16 (dk_at dksX16_of_1 7 rfl rfl)
theorem dX16_of_34 : decode cX16_of 34 = .ok (.aload_n 0, 1) := dk_42 (dk_at dksX16_of_1 10 rfl rfl)
theorem dX16_of_35 : decode cX16_of 35 = .ok (.getfield 19, 3) := dk_180 0 19 (dk_at dksX16_of_1 11 rfl rfl)
theorem dX16_of_38 : decode cX16_of 38 = .ok (.invokevirtual 44, 3) := dk_182 0 44 (dk_at dksX16_of_1 14 rfl rfl)
theorem dX16_of_41 : decode cX16_of 41 = .ok (.invokevirtual 48, 3) := dk_182 0 48 (dk_at dksX16_of_1 17 rfl rfl)
theorem dX16_of_44 : decode cX16_of 44 = .ok (.ireturn, 1) := dk_172 (dk_at dksX16_of_1 20 rfl rfl)
abbrev cX16_init : ByteArray := prog_3_method_1_code
def yX16_init : MethodName := ⟨RX16, "<init>", "(LMessengerBoard;LMessengerBoard$State;IIII)V"⟩
def dkwX16_init_1 : List UInt8 := [21, 6, 181, 0, 19, 42, 44, 183, 0, 22, 177]
abbrev dktX16_init_1 : List UInt8 := dkwX16_init_1 ++ []
def dkwX16_init_0 : List UInt8 := [42, 43, 181, 0, 3, 42, 29, 181, 0, 9, 42, 21, 4, 181, 0, 13, 42, 21, 5, 181, 0, 16, 42]
abbrev dktX16_init_0 : List UInt8 := dkwX16_init_0 ++ dktX16_init_1
theorem dksX16_init_0 : cX16_init.data.toList.drop 0 = dktX16_init_0 := by decide +kernel
theorem dksX16_init_1 : cX16_init.data.toList.drop 23 = dktX16_init_1 := dk_seg dksX16_init_0 23 rfl rfl
theorem dX16_init_0 : decode cX16_init 0 = .ok (.aload_n 0, 1) := dk_42 (dk_at dksX16_init_0 0 rfl rfl)
theorem dX16_init_1 : decode cX16_init 1 = .ok (.aload_n 1, 1) := dk_43 (dk_at dksX16_init_0 1 rfl rfl)
theorem dX16_init_2 : decode cX16_init 2 = .ok (.putfield 3, 3) := dk_181 0 3 (dk_at dksX16_init_0 2 rfl rfl)
theorem dX16_init_5 : decode cX16_init 5 = .ok (.aload_n 0, 1) := dk_42 (dk_at dksX16_init_0 5 rfl rfl)
theorem dX16_init_6 : decode cX16_init 6 = .ok (.iload_n 3, 1) := dk_29 (dk_at dksX16_init_0 6 rfl rfl)
theorem dX16_init_7 : decode cX16_init 7 = .ok (.putfield 9, 3) := dk_181 0 9 (dk_at dksX16_init_0 7 rfl rfl)
theorem dX16_init_10 : decode cX16_init 10 = .ok (.aload_n 0, 1) := dk_42 (dk_at dksX16_init_0 10 rfl rfl)
theorem dX16_init_11 : decode cX16_init 11 = .ok (.iload 4, 2) := dk_21 4 (dk_at dksX16_init_0 11 rfl rfl)
theorem dX16_init_13 : decode cX16_init 13 = .ok (.putfield 13, 3) := dk_181 0 13 (dk_at dksX16_init_0 13 rfl rfl)
theorem dX16_init_16 : decode cX16_init 16 = .ok (.aload_n 0, 1) := dk_42 (dk_at dksX16_init_0 16 rfl rfl)
theorem dX16_init_17 : decode cX16_init 17 = .ok (.iload 5, 2) := dk_21 5 (dk_at dksX16_init_0 17 rfl rfl)
theorem dX16_init_19 : decode cX16_init 19 = .ok (.putfield 16, 3) := dk_181 0 16 (dk_at dksX16_init_0 19 rfl rfl)
theorem dX16_init_22 : decode cX16_init 22 = .ok (.aload_n 0, 1) := dk_42 (dk_at dksX16_init_0 22 rfl rfl)
theorem dX16_init_23 : decode cX16_init 23 = .ok (.iload 6, 2) := dk_21 6 (dk_at dksX16_init_1 0 rfl rfl)
theorem dX16_init_25 : decode cX16_init 25 = .ok (.putfield 19, 3) := dk_181 0 19 (dk_at dksX16_init_1 2 rfl rfl)
theorem dX16_init_28 : decode cX16_init 28 = .ok (.aload_n 0, 1) := dk_42 (dk_at dksX16_init_1 5 rfl rfl)
theorem dX16_init_29 : decode cX16_init 29 = .ok (.aload_n 2, 1) := dk_44 (dk_at dksX16_init_1 6 rfl rfl)
theorem dX16_init_30 : decode cX16_init 30 = .ok (.invokespecial 22, 3) := dk_183 0 22 (dk_at dksX16_init_1 7 rfl rfl)
theorem dX16_init_33 : decode cX16_init 33 = .ok (.return_, 1) := dk_177 (dk_at dksX16_init_1 10 rfl rfl)
theorem q149 : (Jvm.Cond.initialized "MessengerBoard$2") ∈ lw_all := lw_g (lw_at lw_m1 40 rfl) rfl
theorem q231 : (Jvm.Cond.fieldLinkNest "MessengerBoard$2" (34 : Nat) "MessengerBoard$State" "orders" "Ljava/util/ArrayList;" "MessengerBoard") ∈ lw_tbl := lw_at lw_m1 122 rfl
theorem q1177 : (Jvm.Cond.selects "MessengerBoard$2" ({ cls := "java/lang/Object", name := "getClass", desc := "()Ljava/lang/Class;" } : Jvm.MethodName) ({ cls := "java/lang/Object", name := "getClass", desc := "()Ljava/lang/Class;" } : Jvm.MethodName)) ∈ lw_all := lw_g (lw_at lw_m5 108 rfl) rfl
theorem q1659 : (Jvm.Cond.selects "MessengerBoard$2" ({ cls := "MessengerBoard$Trial", name := "told", desc := "()I" } : Jvm.MethodName) ({ cls := "MessengerBoard$Trial", name := "told", desc := "()I" } : Jvm.MethodName)) ∈ lw_all := lw_g (lw_at lw_m7 110 rfl) rfl
theorem q1733 : (Jvm.Cond.selects "MessengerBoard$2" ({ cls := "MessengerBoard$Trial", name := "of", desc := "(LMessengerBoard$State;)I" } : Jvm.MethodName) ({ cls := "MessengerBoard$2", name := "of", desc := "(LMessengerBoard$State;)I" } : Jvm.MethodName)) ∈ lw_all := lw_g (lw_at lw_m7 184 rfl) rfl
theorem q1734 : (Jvm.Cond.instanceMethod ({ cls := "MessengerBoard$2", name := "of", desc := "(LMessengerBoard$State;)I" } : Jvm.MethodName)) ∈ lw_all := lw_g (lw_at lw_m7 185 rfl) rfl
theorem q1735 : (Jvm.Cond.code ({ cls := "MessengerBoard$2", name := "of", desc := "(LMessengerBoard$State;)I" } : Jvm.MethodName) prog_3_method_2_code (2 : Nat) (Option.some Jvm.ClassFile.FieldType.int)) ∈ lw_all := lw_g (lw_at lw_m7 186 rfl) rfl
theorem q1736 : (Jvm.Cond.methodLink "MessengerBoard$2" (28 : Nat) ({ cls := "MessengerBoard$State", name := "pass", desc := "(I)V" } : Jvm.MethodName)) ∈ lw_all := lw_g (lw_at lw_m7 187 rfl) rfl
theorem q1737 : (Jvm.Cond.methodLink "MessengerBoard$2" (38 : Nat) ({ cls := "java/util/ArrayList", name := "size", desc := "()I" } : Jvm.MethodName)) ∈ lw_all := lw_g (lw_at lw_m7 188 rfl) rfl
theorem q1738 : (Jvm.Cond.methodLink "MessengerBoard$2" (44 : Nat) ({ cls := "MessengerBoard$State", name := "send", desc := "(III)I" } : Jvm.MethodName)) ∈ lw_all := lw_g (lw_at lw_m7 189 rfl) rfl
theorem q1739 : (Jvm.Cond.methodLink "MessengerBoard$2" (48 : Nat) ({ cls := "MessengerBoard$State", name := "arrivalOf", desc := "(I)I" } : Jvm.MethodName)) ∈ lw_all := lw_g (lw_at lw_m7 190 rfl) rfl
theorem q1764 : (Jvm.Cond.instantiable "MessengerBoard$2" (6 : Nat)) ∈ lw_all := lw_g (lw_at lw_m7 215 rfl) rfl
theorem q1766 : (Jvm.Cond.instanceMethod ({ cls := "MessengerBoard$2", name := "<init>", desc := "(LMessengerBoard;LMessengerBoard$State;IIII)V" } : Jvm.MethodName)) ∈ lw_all := lw_g (lw_at lw_m7 217 rfl) rfl
theorem q1767 : (Jvm.Cond.code ({ cls := "MessengerBoard$2", name := "<init>", desc := "(LMessengerBoard;LMessengerBoard$State;IIII)V" } : Jvm.MethodName) prog_3_method_1_code (7 : Nat) (Option.none : Option Jvm.ClassFile.FieldType)) ∈ lw_all := lw_g (lw_at lw_m7 218 rfl) rfl
theorem q1768 : (Jvm.Cond.methodLink "MessengerBoard$2" (22 : Nat) ({ cls := "MessengerBoard$Trial", name := "<init>", desc := "(LMessengerBoard$State;)V" } : Jvm.MethodName)) ∈ lw_all := lw_g (lw_at lw_m7 219 rfl) rfl
theorem q1769 : (Jvm.Cond.fieldLink "MessengerBoard$2" (9 : Nat) "MessengerBoard$2" "val$turns" "I") ∈ lw_all := lw_g (lw_at lw_m7 220 rfl) rfl
theorem q1770 : (Jvm.Cond.fieldLink "MessengerBoard$2" (13 : Nat) "MessengerBoard$2" "val$unit" "I") ∈ lw_all := lw_g (lw_at lw_m7 221 rfl) rfl
theorem q1771 : (Jvm.Cond.fieldLink "MessengerBoard$2" (16 : Nat) "MessengerBoard$2" "val$x" "I") ∈ lw_all := lw_g (lw_at lw_m7 222 rfl) rfl
theorem q1772 : (Jvm.Cond.fieldLink "MessengerBoard$2" (19 : Nat) "MessengerBoard$2" "val$y" "I") ∈ lw_all := lw_g (lw_at lw_m7 223 rfl) rfl
theorem q1773 : (Jvm.Cond.fieldLink "MessengerBoard$2" (3 : Nat) "MessengerBoard$2" "this$0" "LMessengerBoard;") ∈ lw_all := lw_g (lw_at lw_m7 224 rfl) rfl
theorem q1774 : (Jvm.Cond.laysFinal "MessengerBoard$2" "MessengerBoard$2" "val$turns" "I") ∈ lw_all := lw_g (lw_at lw_m7 225 rfl) rfl
theorem q1775 : (Jvm.Cond.soleField "MessengerBoard$2" "val$turns") ∈ lw_all := lw_g (lw_at lw_m7 226 rfl) rfl
theorem q1776 : (Jvm.Cond.laysFinal "MessengerBoard$2" "MessengerBoard$2" "val$unit" "I") ∈ lw_all := lw_g (lw_at lw_m7 227 rfl) rfl
theorem q1777 : (Jvm.Cond.soleField "MessengerBoard$2" "val$unit") ∈ lw_all := lw_g (lw_at lw_m7 228 rfl) rfl
theorem q1778 : (Jvm.Cond.laysFinal "MessengerBoard$2" "MessengerBoard$2" "val$x" "I") ∈ lw_all := lw_g (lw_at lw_m7 229 rfl) rfl
theorem q1779 : (Jvm.Cond.soleField "MessengerBoard$2" "val$x") ∈ lw_all := lw_g (lw_at lw_m7 230 rfl) rfl
theorem q1780 : (Jvm.Cond.laysFinal "MessengerBoard$2" "MessengerBoard$2" "val$y" "I") ∈ lw_all := lw_g (lw_at lw_m7 231 rfl) rfl
theorem q1781 : (Jvm.Cond.soleField "MessengerBoard$2" "val$y") ∈ lw_all := lw_g (lw_at lw_m7 232 rfl) rfl
theorem q1782 : (Jvm.Cond.laysFinal "MessengerBoard$2" "MessengerBoard$2" "this$0" "LMessengerBoard;") ∈ lw_all := lw_g (lw_at lw_m7 233 rfl) rfl
theorem q1783 : (Jvm.Cond.soleField "MessengerBoard$2" "this$0") ∈ lw_all := lw_g (lw_at lw_m7 234 rfl) rfl
theorem q1784 : (Jvm.Cond.laysFinal "MessengerBoard$2" "MessengerBoard$Trial" "copy" "LMessengerBoard$State;") ∈ lw_all := lw_g (lw_at lw_m7 235 rfl) rfl
theorem q1785 : (Jvm.Cond.superclass "MessengerBoard$2" "MessengerBoard$Trial") ∈ lw_all := lw_g (lw_at lw_m7 236 rfl) rfl
theorem q2751 : (Jvm.Cond.castable "MessengerBoard$2" "java/lang/Object") ∈ lw_tbl := lw_at lw_m12 2 rfl
theorem in_X16 : ∀ w ∈ wsX160, w ∈ lw_all := lw_in wsX160 [1784, 1774, 1776, 1778, 1780, 1782] (by decide +kernel) (by decide +kernel)
/-! MessengerBoard$3 -/
set_option maxRecDepth 100000
def RX17 : String := "MessengerBoard$3"
def TX17 : u_T := fun k => match k with
  | 0 => ("MessengerBoard$Trial", "copy", "LMessengerBoard$State;", true)
  | 1 => ("MessengerBoard$3", "val$turns", "I", true)
  | _ => ("MessengerBoard$3", "this$0", "LMessengerBoard;", true)
def tyX17 : Nat → FieldType := fun k => match k with
  | 0 => .object "MessengerBoard$State"
  | 1 => .int
  | _ => .object "MessengerBoard"
abbrev wsX170 : List Cond := u_ws RX17 TX17 3
theorem nmX17 : ∀ a, a < 3 → ∀ b, b < 3 → a ≠ b → (TX17 a).2.1 ≠ (TX17 b).2.1 := by decide +kernel
theorem tyX17_ok : ∀ k, k < 3 → parseFieldDescriptor (TX17 k).2.2.1 = some (tyX17 k) := by decide +kernel
abbrev cX17_of : ByteArray := prog_4_method_2_code
def yX17_of : MethodName := ⟨RX17, "of", "(LMessengerBoard$State;)I"⟩
def dkwX17_of_4 : List UInt8 := [167, 255, 174, 28, 172]
abbrev dktX17_of_4 : List UInt8 := dkwX17_of_4 ++ []
def dkwX17_of_3 : List UInt8 := [7, 159, 0, 9, 21, 4, 8, 160, 0, 7, 4, 167, 0, 4, 3, 184, 0, 52, 96, 61, 132, 3, 1]
abbrev dktX17_of_3 : List UInt8 := dkwX17_of_3 ++ dktX17_of_4
def dkwX17_of_2 : List UInt8 := [180, 0, 3, 180, 0, 25, 180, 0, 29, 29, 182, 0, 39, 192, 0, 43, 182, 0, 48, 153, 0, 19, 21, 4]
abbrev dktX17_of_2 : List UInt8 := dkwX17_of_2 ++ dktX17_of_3
def dkwX17_of_1 : List UInt8 := [182, 0, 33, 162, 0, 71, 43, 180, 0, 29, 29, 182, 0, 39, 192, 0, 43, 180, 0, 45, 54, 4, 28, 42]
abbrev dktX17_of_1 : List UInt8 := dkwX17_of_1 ++ dktX17_of_2
def dkwX17_of_0 : List UInt8 := [43, 42, 180, 0, 9, 182, 0, 19, 3, 61, 3, 62, 29, 42, 180, 0, 3, 180, 0, 25, 180, 0, 29]
abbrev dktX17_of_0 : List UInt8 := dkwX17_of_0 ++ dktX17_of_1
theorem dksX17_of_0 : cX17_of.data.toList.drop 0 = dktX17_of_0 := by decide +kernel
theorem dksX17_of_1 : cX17_of.data.toList.drop 23 = dktX17_of_1 := dk_seg dksX17_of_0 23 rfl rfl
theorem dksX17_of_2 : cX17_of.data.toList.drop 47 = dktX17_of_2 := dk_seg dksX17_of_1 24 rfl rfl
theorem dksX17_of_3 : cX17_of.data.toList.drop 71 = dktX17_of_3 := dk_seg dksX17_of_2 24 rfl rfl
theorem dksX17_of_4 : cX17_of.data.toList.drop 94 = dktX17_of_4 := dk_seg dksX17_of_3 23 rfl rfl
theorem dX17_of_0 : decode cX17_of 0 = .ok (.aload_n 1, 1) := dk_43 (dk_at dksX17_of_0 0 rfl rfl)
theorem dX17_of_1 : decode cX17_of 1 = .ok (.aload_n 0, 1) := dk_42 (dk_at dksX17_of_0 1 rfl rfl)
theorem dX17_of_2 : decode cX17_of 2 = .ok (.getfield 9, 3) := dk_180 0 9 (dk_at dksX17_of_0 2 rfl rfl)
theorem dX17_of_5 : decode cX17_of 5 = .ok (.invokevirtual 19, 3) := dk_182 0 19 (dk_at dksX17_of_0 5 rfl rfl)
theorem dX17_of_8 : decode cX17_of 8 = .ok (.iconst 0, 1) := dk_3 (dk_at dksX17_of_0 8 rfl rfl)
theorem dX17_of_9 : decode cX17_of 9 = .ok (.istore_n 2, 1) := dk_61 (dk_at dksX17_of_0 9 rfl rfl)
theorem dX17_of_10 : decode cX17_of 10 = .ok (.iconst 0, 1) := dk_3 (dk_at dksX17_of_0 10 rfl rfl)
theorem dX17_of_11 : decode cX17_of 11 = .ok (.istore_n 3, 1) := dk_62 (dk_at dksX17_of_0 11 rfl rfl)
theorem dX17_of_12 : decode cX17_of 12 = .ok (.iload_n 3, 1) := dk_29 (dk_at dksX17_of_0 12 rfl rfl)
theorem dX17_of_13 : decode cX17_of 13 = .ok (.aload_n 0, 1) := dk_42 (dk_at dksX17_of_0 13 rfl rfl)
theorem dX17_of_14 : decode cX17_of 14 = .ok (.getfield 3, 3) := dk_180 0 3 (dk_at dksX17_of_0 14 rfl rfl)
theorem dX17_of_17 : decode cX17_of 17 = .ok (.getfield 25, 3) := dk_180 0 25 (dk_at dksX17_of_0 17 rfl rfl)
theorem dX17_of_20 : decode cX17_of 20 = .ok (.getfield 29, 3) := dk_180 0 29 (dk_at dksX17_of_0 20 rfl rfl)
theorem dX17_of_23 : decode cX17_of 23 = .ok (.invokevirtual 33, 3) := dk_182 0 33 (dk_at dksX17_of_1 0 rfl rfl)
theorem dX17_of_26 : decode cX17_of 26 = .ok (.if_icmp .ge 71, 3) := dk_162 0 71 (dk_at dksX17_of_1 3 rfl rfl)
theorem dX17_of_29 : decode cX17_of 29 = .ok (.aload_n 1, 1) := dk_43 (dk_at dksX17_of_1 6 rfl rfl)
theorem dX17_of_30 : decode cX17_of 30 = .ok (.getfield 29, 3) := dk_180 0 29 (dk_at dksX17_of_1 7 rfl rfl)
theorem dX17_of_33 : decode cX17_of 33 = .ok (.iload_n 3, 1) := dk_29 (dk_at dksX17_of_1 10 rfl rfl)
theorem dX17_of_34 : decode cX17_of 34 = .ok (.invokevirtual 39, 3) := dk_182 0 39 (dk_at dksX17_of_1 11 rfl rfl)
theorem dX17_of_37 : decode cX17_of 37 = .ok (.checkcast 43, 3) := dk_192 0 43 (dk_at dksX17_of_1 14 rfl rfl)
theorem dX17_of_40 : decode cX17_of 40 = .ok (.getfield 45, 3) := dk_180 0 45 (dk_at dksX17_of_1 17 rfl rfl)
theorem dX17_of_43 : decode cX17_of 43 = .ok (.istore 4, 2) := dk_54 4 (dk_at dksX17_of_1 20 rfl rfl)
theorem dX17_of_45 : decode cX17_of 45 = .ok (.iload_n 2, 1) := dk_28 (dk_at dksX17_of_1 22 rfl rfl)
theorem dX17_of_46 : decode cX17_of 46 = .ok (.aload_n 0, 1) := dk_42 (dk_at dksX17_of_1 23 rfl rfl)
theorem dX17_of_47 : decode cX17_of 47 = .ok (.getfield 3, 3) := dk_180 0 3 (dk_at dksX17_of_2 0 rfl rfl)
theorem dX17_of_50 : decode cX17_of 50 = .ok (.getfield 25, 3) := dk_180 0 25 (dk_at dksX17_of_2 3 rfl rfl)
theorem dX17_of_53 : decode cX17_of 53 = .ok (.getfield 29, 3) := dk_180 0 29 (dk_at dksX17_of_2 6 rfl rfl)
theorem dX17_of_56 : decode cX17_of 56 = .ok (.iload_n 3, 1) := dk_29 (dk_at dksX17_of_2 9 rfl rfl)
theorem dX17_of_57 : decode cX17_of 57 = .ok (.invokevirtual 39, 3) := dk_182 0 39 (dk_at dksX17_of_2 10 rfl rfl)
theorem dX17_of_60 : decode cX17_of 60 = .ok (.checkcast 43, 3) := dk_192 0 43 (dk_at dksX17_of_2 13 rfl rfl)
theorem dX17_of_63 : decode cX17_of 63 = .ok (.invokevirtual 48, 3) := dk_182 0 48 (dk_at dksX17_of_2 16 rfl rfl)
theorem dX17_of_66 : decode cX17_of 66 = .ok (.ifCond .eq 19, 3) := dk_153 0 19 (dk_at dksX17_of_2 19 rfl rfl)
theorem dX17_of_69 : decode cX17_of 69 = .ok (.iload 4, 2) := dk_21 4 (dk_at dksX17_of_2 22 rfl rfl)
theorem dX17_of_71 : decode cX17_of 71 = .ok (.iconst 4, 1) := dk_7 (dk_at dksX17_of_3 0 rfl rfl)
theorem dX17_of_72 : decode cX17_of 72 = .ok (.if_icmp .eq 9, 3) := dk_159 0 9 (dk_at dksX17_of_3 1 rfl rfl)
theorem dX17_of_75 : decode cX17_of 75 = .ok (.iload 4, 2) := dk_21 4 (dk_at dksX17_of_3 4 rfl rfl)
theorem dX17_of_77 : decode cX17_of 77 = .ok (.iconst 5, 1) := dk_8 (dk_at dksX17_of_3 6 rfl rfl)
theorem dX17_of_78 : decode cX17_of 78 = .ok (.if_icmp .ne 7, 3) := dk_160 0 7 (dk_at dksX17_of_3 7 rfl rfl)
theorem dX17_of_81 : decode cX17_of 81 = .ok (.iconst 1, 1) := dk_4 (dk_at dksX17_of_3 10 rfl rfl)
theorem dX17_of_82 : decode cX17_of 82 = .ok (.goto 4, 3) := dk_167 0 4 (dk_at dksX17_of_3 11 rfl rfl)
theorem dX17_of_85 : decode cX17_of 85 = .ok (.iconst 0, 1) := dk_3 (dk_at dksX17_of_3 14 rfl rfl)
theorem dX17_of_86 : decode cX17_of 86 = .ok (.invokestatic 52, 3) := dk_184 0 52 (dk_at dksX17_of_3 15 rfl rfl)
theorem dX17_of_89 : decode cX17_of 89 = .ok (.iadd, 1) := dk_96 (dk_at dksX17_of_3 18 rfl rfl)
theorem dX17_of_90 : decode cX17_of 90 = .ok (.istore_n 2, 1) := dk_61 (dk_at dksX17_of_3 19 rfl rfl)
theorem dX17_of_91 : decode cX17_of 91 = .ok (.iinc 3 1, 3) := dk_132 3 1 (dk_at dksX17_of_3 20 rfl rfl)
theorem dX17_of_94 : decode cX17_of 94 = .ok (.goto (-82), 3) := dk_167 255 174 (dk_at dksX17_of_4 0 rfl rfl)
theorem dX17_of_97 : decode cX17_of 97 = .ok (.iload_n 2, 1) := dk_28 (dk_at dksX17_of_4 3 rfl rfl)
theorem dX17_of_98 : decode cX17_of 98 = .ok (.ireturn, 1) := dk_172 (dk_at dksX17_of_4 4 rfl rfl)
abbrev cX17_init : ByteArray := prog_4_method_1_code
def yX17_init : MethodName := ⟨RX17, "<init>", "(LMessengerBoard;LMessengerBoard$State;I)V"⟩
def dkwX17_init_0 : List UInt8 := [42, 43, 181, 0, 3, 42, 29, 181, 0, 9, 42, 44, 183, 0, 13, 177]
abbrev dktX17_init_0 : List UInt8 := dkwX17_init_0 ++ []
theorem dksX17_init_0 : cX17_init.data.toList.drop 0 = dktX17_init_0 := by decide +kernel
theorem dX17_init_0 : decode cX17_init 0 = .ok (.aload_n 0, 1) := dk_42 (dk_at dksX17_init_0 0 rfl rfl)
theorem dX17_init_1 : decode cX17_init 1 = .ok (.aload_n 1, 1) := dk_43 (dk_at dksX17_init_0 1 rfl rfl)
theorem dX17_init_2 : decode cX17_init 2 = .ok (.putfield 3, 3) := dk_181 0 3 (dk_at dksX17_init_0 2 rfl rfl)
theorem dX17_init_5 : decode cX17_init 5 = .ok (.aload_n 0, 1) := dk_42 (dk_at dksX17_init_0 5 rfl rfl)
theorem dX17_init_6 : decode cX17_init 6 = .ok (.iload_n 3, 1) := dk_29 (dk_at dksX17_init_0 6 rfl rfl)
theorem dX17_init_7 : decode cX17_init 7 = .ok (.putfield 9, 3) := dk_181 0 9 (dk_at dksX17_init_0 7 rfl rfl)
theorem dX17_init_10 : decode cX17_init 10 = .ok (.aload_n 0, 1) := dk_42 (dk_at dksX17_init_0 10 rfl rfl)
theorem dX17_init_11 : decode cX17_init 11 = .ok (.aload_n 2, 1) := dk_44 (dk_at dksX17_init_0 11 rfl rfl)
theorem dX17_init_12 : decode cX17_init 12 = .ok (.invokespecial 13, 3) := dk_183 0 13 (dk_at dksX17_init_0 12 rfl rfl)
theorem dX17_init_15 : decode cX17_init 15 = .ok (.return_, 1) := dk_177 (dk_at dksX17_init_0 15 rfl rfl)
theorem q150 : (Jvm.Cond.initialized "MessengerBoard$3") ∈ lw_all := lw_g (lw_at lw_m1 41 rfl) rfl
theorem q232 : (Jvm.Cond.fieldLinkNest "MessengerBoard$3" (29 : Nat) "MessengerBoard$State" "orders" "Ljava/util/ArrayList;" "MessengerBoard") ∈ lw_tbl := lw_at lw_m1 123 rfl
theorem q302 : (Jvm.Cond.fieldLinkNest "MessengerBoard$3" (25 : Nat) "MessengerBoard" "now" "LMessengerBoard$State;" "MessengerBoard") ∈ lw_tbl := lw_at lw_m1 193 rfl
theorem q1178 : (Jvm.Cond.selects "MessengerBoard$3" ({ cls := "java/lang/Object", name := "getClass", desc := "()Ljava/lang/Class;" } : Jvm.MethodName) ({ cls := "java/lang/Object", name := "getClass", desc := "()Ljava/lang/Class;" } : Jvm.MethodName)) ∈ lw_all := lw_g (lw_at lw_m5 109 rfl) rfl
theorem q1593 : (Jvm.Cond.fieldLinkNest "MessengerBoard$3" (45 : Nat) "MessengerBoard$Order" "state" "I" "MessengerBoard") ∈ lw_tbl := lw_at lw_m7 44 rfl
theorem q1660 : (Jvm.Cond.selects "MessengerBoard$3" ({ cls := "MessengerBoard$Trial", name := "told", desc := "()I" } : Jvm.MethodName) ({ cls := "MessengerBoard$Trial", name := "told", desc := "()I" } : Jvm.MethodName)) ∈ lw_all := lw_g (lw_at lw_m7 111 rfl) rfl
theorem q1743 : (Jvm.Cond.selects "MessengerBoard$3" ({ cls := "MessengerBoard$Trial", name := "of", desc := "(LMessengerBoard$State;)I" } : Jvm.MethodName) ({ cls := "MessengerBoard$3", name := "of", desc := "(LMessengerBoard$State;)I" } : Jvm.MethodName)) ∈ lw_all := lw_g (lw_at lw_m7 194 rfl) rfl
theorem q1744 : (Jvm.Cond.instanceMethod ({ cls := "MessengerBoard$3", name := "of", desc := "(LMessengerBoard$State;)I" } : Jvm.MethodName)) ∈ lw_all := lw_g (lw_at lw_m7 195 rfl) rfl
theorem q1745 : (Jvm.Cond.code ({ cls := "MessengerBoard$3", name := "of", desc := "(LMessengerBoard$State;)I" } : Jvm.MethodName) prog_4_method_2_code (5 : Nat) (Option.some Jvm.ClassFile.FieldType.int)) ∈ lw_all := lw_g (lw_at lw_m7 196 rfl) rfl
theorem q1746 : (Jvm.Cond.methodLink "MessengerBoard$3" (19 : Nat) ({ cls := "MessengerBoard$State", name := "pass", desc := "(I)V" } : Jvm.MethodName)) ∈ lw_all := lw_g (lw_at lw_m7 197 rfl) rfl
theorem q1747 : (Jvm.Cond.methodLink "MessengerBoard$3" (33 : Nat) ({ cls := "java/util/ArrayList", name := "size", desc := "()I" } : Jvm.MethodName)) ∈ lw_all := lw_g (lw_at lw_m7 198 rfl) rfl
theorem q1748 : (Jvm.Cond.methodLink "MessengerBoard$3" (39 : Nat) ({ cls := "java/util/ArrayList", name := "get", desc := "(I)Ljava/lang/Object;" } : Jvm.MethodName)) ∈ lw_all := lw_g (lw_at lw_m7 199 rfl) rfl
theorem q1749 : (Jvm.Cond.classLink "MessengerBoard$3" (43 : Nat) "MessengerBoard$Order") ∈ lw_all := lw_g (lw_at lw_m7 200 rfl) rfl
theorem q1750 : (Jvm.Cond.methodLink "MessengerBoard$3" (48 : Nat) ({ cls := "MessengerBoard$Order", name := "isUnderWay", desc := "()Z" } : Jvm.MethodName)) ∈ lw_all := lw_g (lw_at lw_m7 201 rfl) rfl
theorem q1751 : (Jvm.Cond.methodLinkNest "MessengerBoard$3" (52 : Nat) ({ cls := "MessengerBoard", name := "asInt", desc := "(Z)I" } : Jvm.MethodName) "MessengerBoard") ∈ lw_tbl := lw_at lw_m7 202 rfl
theorem q1801 : (Jvm.Cond.instantiable "MessengerBoard$3" (3 : Nat)) ∈ lw_all := lw_g (lw_at lw_m8 12 rfl) rfl
theorem q1803 : (Jvm.Cond.instanceMethod ({ cls := "MessengerBoard$3", name := "<init>", desc := "(LMessengerBoard;LMessengerBoard$State;I)V" } : Jvm.MethodName)) ∈ lw_all := lw_g (lw_at lw_m8 14 rfl) rfl
theorem q1804 : (Jvm.Cond.code ({ cls := "MessengerBoard$3", name := "<init>", desc := "(LMessengerBoard;LMessengerBoard$State;I)V" } : Jvm.MethodName) prog_4_method_1_code (4 : Nat) (Option.none : Option Jvm.ClassFile.FieldType)) ∈ lw_all := lw_g (lw_at lw_m8 15 rfl) rfl
theorem q1805 : (Jvm.Cond.methodLink "MessengerBoard$3" (13 : Nat) ({ cls := "MessengerBoard$Trial", name := "<init>", desc := "(LMessengerBoard$State;)V" } : Jvm.MethodName)) ∈ lw_all := lw_g (lw_at lw_m8 16 rfl) rfl
theorem q1806 : (Jvm.Cond.fieldLink "MessengerBoard$3" (9 : Nat) "MessengerBoard$3" "val$turns" "I") ∈ lw_all := lw_g (lw_at lw_m8 17 rfl) rfl
theorem q1807 : (Jvm.Cond.fieldLink "MessengerBoard$3" (3 : Nat) "MessengerBoard$3" "this$0" "LMessengerBoard;") ∈ lw_all := lw_g (lw_at lw_m8 18 rfl) rfl
theorem q1808 : (Jvm.Cond.laysFinal "MessengerBoard$3" "MessengerBoard$3" "val$turns" "I") ∈ lw_all := lw_g (lw_at lw_m8 19 rfl) rfl
theorem q1809 : (Jvm.Cond.soleField "MessengerBoard$3" "val$turns") ∈ lw_all := lw_g (lw_at lw_m8 20 rfl) rfl
theorem q1810 : (Jvm.Cond.laysFinal "MessengerBoard$3" "MessengerBoard$3" "this$0" "LMessengerBoard;") ∈ lw_all := lw_g (lw_at lw_m8 21 rfl) rfl
theorem q1811 : (Jvm.Cond.soleField "MessengerBoard$3" "this$0") ∈ lw_all := lw_g (lw_at lw_m8 22 rfl) rfl
theorem q1812 : (Jvm.Cond.laysFinal "MessengerBoard$3" "MessengerBoard$Trial" "copy" "LMessengerBoard$State;") ∈ lw_all := lw_g (lw_at lw_m8 23 rfl) rfl
theorem q1813 : (Jvm.Cond.superclass "MessengerBoard$3" "MessengerBoard$Trial") ∈ lw_all := lw_g (lw_at lw_m8 24 rfl) rfl
theorem q2752 : (Jvm.Cond.castable "MessengerBoard$3" "java/lang/Object") ∈ lw_tbl := lw_at lw_m12 3 rfl
theorem in_X17 : ∀ w ∈ wsX170, w ∈ lw_all := lw_in wsX170 [1812, 1808, 1810] (by decide +kernel) (by decide +kernel)
/-! MessengerBoard$QueryParser -/
set_option maxRecDepth 100000
def RX18 : String := "MessengerBoard$QueryParser"
def TX18 : u_T := fun k => match k with
  | 0 => ("MessengerBoard$Scanner", "word", "Ljava/lang/StringBuilder;", true)
  | 1 => ("MessengerBoard$Scanner", "end", "I", true)
  | 2 => ("MessengerBoard$Scanner", "at", "I", false)
  | 3 => ("MessengerBoard$Scanner", "begin", "I", false)
  | 4 => ("MessengerBoard$Scanner", "value", "I", false)
  | 5 => ("MessengerBoard$Scanner", "sign", "I", false)
  | 6 => ("MessengerBoard$Scanner", "token", "LMessengerBoard$Token;", false)
  | 7 => ("MessengerBoard$Scanner", "this$0", "LMessengerBoard;", true)
  | 8 => ("MessengerBoard$QueryParser", "isFirst", "Z", false)
  | 9 => ("MessengerBoard$QueryParser", "open", "I", false)
  | _ => ("MessengerBoard$QueryParser", "this$0", "LMessengerBoard;", true)
def tyX18 : Nat → FieldType := fun k => match k with
  | 0 => .object "java/lang/StringBuilder"
  | 1 => .int
  | 2 => .int
  | 3 => .int
  | 4 => .int
  | 5 => .int
  | 6 => .object "MessengerBoard$Token"
  | 7 => .object "MessengerBoard"
  | 8 => .boolean
  | 9 => .int
  | _ => .object "MessengerBoard"
abbrev wsX180 : List Cond := u_ws RX18 TX18 11
-- two fields of one name: no nmX18
theorem tyX18_ok : ∀ k, k < 11 → parseFieldDescriptor (TX18 k).2.2.1 = some (tyX18 k) := by decide +kernel
abbrev cX18_init : ByteArray := prog_13_method_1_code
def yX18_init : MethodName := ⟨RX18, "<init>", "(LMessengerBoard;I)V"⟩
def dkwX18_init_0 : List UInt8 := [42, 43, 181, 0, 3, 42, 43, 28, 183, 0, 9, 177]
abbrev dktX18_init_0 : List UInt8 := dkwX18_init_0 ++ []
theorem dksX18_init_0 : cX18_init.data.toList.drop 0 = dktX18_init_0 := by decide +kernel
theorem dX18_init_0 : decode cX18_init 0 = .ok (.aload_n 0, 1) := dk_42 (dk_at dksX18_init_0 0 rfl rfl)
theorem dX18_init_1 : decode cX18_init 1 = .ok (.aload_n 1, 1) := dk_43 (dk_at dksX18_init_0 1 rfl rfl)
theorem dX18_init_2 : decode cX18_init 2 = .ok (.putfield 3, 3) := dk_181 0 3 (dk_at dksX18_init_0 2 rfl rfl)
theorem dX18_init_5 : decode cX18_init 5 = .ok (.aload_n 0, 1) := dk_42 (dk_at dksX18_init_0 5 rfl rfl)
theorem dX18_init_6 : decode cX18_init 6 = .ok (.aload_n 1, 1) := dk_43 (dk_at dksX18_init_0 6 rfl rfl)
theorem dX18_init_7 : decode cX18_init 7 = .ok (.iload_n 2, 1) := dk_28 (dk_at dksX18_init_0 7 rfl rfl)
theorem dX18_init_8 : decode cX18_init 8 = .ok (.invokespecial 9, 3) := dk_183 0 9 (dk_at dksX18_init_0 8 rfl rfl)
theorem dX18_init_11 : decode cX18_init 11 = .ok (.return_, 1) := dk_177 (dk_at dksX18_init_0 11 rfl rfl)
abbrev cX18_parse : ByteArray := prog_13_method_2_code
def yX18_parse : MethodName := ⟨RX18, "parse", "()LMessengerBoard$Test;"⟩
def dkwX18_parse_2 : List UInt8 := [178, 0, 39, 166, 0, 7, 4, 167, 0, 4, 3, 4, 182, 0, 27, 43, 176]
abbrev dktX18_parse_2 : List UInt8 := dkwX18_parse_2 ++ []
def dkwX18_parse_1 : List UInt8 := [153, 0, 7, 4, 167, 0, 4, 3, 4, 182, 0, 27, 42, 182, 0, 31, 76, 42, 42, 180, 0, 35]
abbrev dktX18_parse_1 : List UInt8 := dkwX18_parse_1 ++ dktX18_parse_2
def dkwX18_parse_0 : List UInt8 := [42, 42, 18, 15, 182, 0, 17, 181, 0, 21, 42, 42, 180, 0, 21, 154, 0, 12, 42, 18, 25, 182, 0, 17]
abbrev dktX18_parse_0 : List UInt8 := dkwX18_parse_0 ++ dktX18_parse_1
theorem dksX18_parse_0 : cX18_parse.data.toList.drop 0 = dktX18_parse_0 := by decide +kernel
theorem dksX18_parse_1 : cX18_parse.data.toList.drop 24 = dktX18_parse_1 := dk_seg dksX18_parse_0 24 rfl rfl
theorem dksX18_parse_2 : cX18_parse.data.toList.drop 46 = dktX18_parse_2 := dk_seg dksX18_parse_1 22 rfl rfl
theorem dX18_parse_0 : decode cX18_parse 0 = .ok (.aload_n 0, 1) := dk_42 (dk_at dksX18_parse_0 0 rfl rfl)
theorem dX18_parse_1 : decode cX18_parse 1 = .ok (.aload_n 0, 1) := dk_42 (dk_at dksX18_parse_0 1 rfl rfl)
theorem dX18_parse_2 : decode cX18_parse 2 = .ok (.ldc 15, 2) := dk_18 15 (dk_at dksX18_parse_0 2 rfl rfl)
theorem dX18_parse_4 : decode cX18_parse 4 = .ok (.invokevirtual 17, 3) := dk_182 0 17 (dk_at dksX18_parse_0 4 rfl rfl)
theorem dX18_parse_7 : decode cX18_parse 7 = .ok (.putfield 21, 3) := dk_181 0 21 (dk_at dksX18_parse_0 7 rfl rfl)
theorem dX18_parse_10 : decode cX18_parse 10 = .ok (.aload_n 0, 1) := dk_42 (dk_at dksX18_parse_0 10 rfl rfl)
theorem dX18_parse_11 : decode cX18_parse 11 = .ok (.aload_n 0, 1) := dk_42 (dk_at dksX18_parse_0 11 rfl rfl)
theorem dX18_parse_12 : decode cX18_parse 12 = .ok (.getfield 21, 3) := dk_180 0 21 (dk_at dksX18_parse_0 12 rfl rfl)
theorem dX18_parse_15 : decode cX18_parse 15 = .ok (.ifCond .ne 12, 3) := dk_154 0 12 (dk_at dksX18_parse_0 15 rfl rfl)
theorem dX18_parse_18 : decode cX18_parse 18 = .ok (.aload_n 0, 1) := dk_42 (dk_at dksX18_parse_0 18 rfl rfl)
theorem dX18_parse_19 : decode cX18_parse 19 = .ok (.ldc 25, 2) := dk_18 25 (dk_at dksX18_parse_0 19 rfl rfl)
theorem dX18_parse_21 : decode cX18_parse 21 = .ok (.invokevirtual 17, 3) := dk_182 0 17 (dk_at dksX18_parse_0 21 rfl rfl)
theorem dX18_parse_24 : decode cX18_parse 24 = .ok (.ifCond .eq 7, 3) := dk_153 0 7 (dk_at dksX18_parse_1 0 rfl rfl)
theorem dX18_parse_27 : decode cX18_parse 27 = .ok (.iconst 1, 1) := dk_4 (dk_at dksX18_parse_1 3 rfl rfl)
theorem dX18_parse_28 : decode cX18_parse 28 = .ok (.goto 4, 3) := dk_167 0 4 (dk_at dksX18_parse_1 4 rfl rfl)
theorem dX18_parse_31 : decode cX18_parse 31 = .ok (.iconst 0, 1) := dk_3 (dk_at dksX18_parse_1 7 rfl rfl)
theorem dX18_parse_32 : decode cX18_parse 32 = .ok (.iconst 1, 1) := dk_4 (dk_at dksX18_parse_1 8 rfl rfl)
theorem dX18_parse_33 : decode cX18_parse 33 = .ok (.invokevirtual 27, 3) := dk_182 0 27 (dk_at dksX18_parse_1 9 rfl rfl)
theorem dX18_parse_36 : decode cX18_parse 36 = .ok (.aload_n 0, 1) := dk_42 (dk_at dksX18_parse_1 12 rfl rfl)
theorem dX18_parse_37 : decode cX18_parse 37 = .ok (.invokevirtual 31, 3) := dk_182 0 31 (dk_at dksX18_parse_1 13 rfl rfl)
theorem dX18_parse_40 : decode cX18_parse 40 = .ok (.astore_n 1, 1) := dk_76 (dk_at dksX18_parse_1 16 rfl rfl)
theorem dX18_parse_41 : decode cX18_parse 41 = .ok (.aload_n 0, 1) := dk_42 (dk_at dksX18_parse_1 17 rfl rfl)
theorem dX18_parse_42 : decode cX18_parse 42 = .ok (.aload_n 0, 1) := dk_42 (dk_at dksX18_parse_1 18 rfl rfl)
theorem dX18_parse_43 : decode cX18_parse 43 = .ok (.getfield 35, 3) := dk_180 0 35 (dk_at dksX18_parse_1 19 rfl rfl)
theorem dX18_parse_46 : decode cX18_parse 46 = .ok (.getstatic 39, 3) := dk_178 0 39 (dk_at dksX18_parse_2 0 rfl rfl)
theorem dX18_parse_49 : decode cX18_parse 49 = .ok (.if_acmp .ne 7, 3) := dk_166 0 7 (dk_at dksX18_parse_2 3 rfl rfl)
theorem dX18_parse_52 : decode cX18_parse 52 = .ok (.iconst 1, 1) := dk_4 (dk_at dksX18_parse_2 6 rfl rfl)
theorem dX18_parse_53 : decode cX18_parse 53 = .ok (.goto 4, 3) := dk_167 0 4 (dk_at dksX18_parse_2 7 rfl rfl)
theorem dX18_parse_56 : decode cX18_parse 56 = .ok (.iconst 0, 1) := dk_3 (dk_at dksX18_parse_2 10 rfl rfl)
theorem dX18_parse_57 : decode cX18_parse 57 = .ok (.iconst 1, 1) := dk_4 (dk_at dksX18_parse_2 11 rfl rfl)
theorem dX18_parse_58 : decode cX18_parse 58 = .ok (.invokevirtual 27, 3) := dk_182 0 27 (dk_at dksX18_parse_2 12 rfl rfl)
theorem dX18_parse_61 : decode cX18_parse 61 = .ok (.aload_n 1, 1) := dk_43 (dk_at dksX18_parse_2 15 rfl rfl)
theorem dX18_parse_62 : decode cX18_parse 62 = .ok (.areturn, 1) := dk_176 (dk_at dksX18_parse_2 16 rfl rfl)
abbrev cX18_test : ByteArray := prog_13_method_3_code
def yX18_test : MethodName := ⟨RX18, "test", "()LMessengerBoard$Test;"⟩
def dkwX18_test_1 : List UInt8 := [154, 255, 241, 187, 0, 58, 89, 43, 4, 183, 0, 60, 176]
abbrev dktX18_test_1 : List UInt8 := dkwX18_test_1 ++ []
def dkwX18_test_0 : List UInt8 := [187, 0, 44, 89, 183, 0, 46, 76, 43, 42, 182, 0, 49, 182, 0, 52, 87, 42, 18, 56, 182, 0, 17]
abbrev dktX18_test_0 : List UInt8 := dkwX18_test_0 ++ dktX18_test_1
theorem dksX18_test_0 : cX18_test.data.toList.drop 0 = dktX18_test_0 := by decide +kernel
theorem dksX18_test_1 : cX18_test.data.toList.drop 23 = dktX18_test_1 := dk_seg dksX18_test_0 23 rfl rfl
theorem dX18_test_0 : decode cX18_test 0 = .ok (.new 44, 3) := dk_187 0 44 (dk_at dksX18_test_0 0 rfl rfl)
theorem dX18_test_3 : decode cX18_test 3 = .ok (.dup, 1) := dk_89 (dk_at dksX18_test_0 3 rfl rfl)
theorem dX18_test_4 : decode cX18_test 4 = .ok (.invokespecial 46, 3) := dk_183 0 46 (dk_at dksX18_test_0 4 rfl rfl)
theorem dX18_test_7 : decode cX18_test 7 = .ok (.astore_n 1, 1) := dk_76 (dk_at dksX18_test_0 7 rfl rfl)
theorem dX18_test_8 : decode cX18_test 8 = .ok (.aload_n 1, 1) := dk_43 (dk_at dksX18_test_0 8 rfl rfl)
theorem dX18_test_9 : decode cX18_test 9 = .ok (.aload_n 0, 1) := dk_42 (dk_at dksX18_test_0 9 rfl rfl)
theorem dX18_test_10 : decode cX18_test 10 = .ok (.invokevirtual 49, 3) := dk_182 0 49 (dk_at dksX18_test_0 10 rfl rfl)
theorem dX18_test_13 : decode cX18_test 13 = .ok (.invokevirtual 52, 3) := dk_182 0 52 (dk_at dksX18_test_0 13 rfl rfl)
theorem dX18_test_16 : decode cX18_test 16 = .ok (.pop, 1) := dk_87 (dk_at dksX18_test_0 16 rfl rfl)
theorem dX18_test_17 : decode cX18_test 17 = .ok (.aload_n 0, 1) := dk_42 (dk_at dksX18_test_0 17 rfl rfl)
theorem dX18_test_18 : decode cX18_test 18 = .ok (.ldc 56, 2) := dk_18 56 (dk_at dksX18_test_0 18 rfl rfl)
theorem dX18_test_20 : decode cX18_test 20 = .ok (.invokevirtual 17, 3) := dk_182 0 17 (dk_at dksX18_test_0 20 rfl rfl)
theorem dX18_test_23 : decode cX18_test 23 = .ok (.ifCond .ne (-15), 3) := dk_154 255 241 (dk_at dksX18_test_1 0 rfl rfl)
theorem dX18_test_26 : decode cX18_test 26 = .ok (.new 58, 3) := dk_187 0 58 (dk_at dksX18_test_1 3 rfl rfl)
theorem dX18_test_29 : decode cX18_test 29 = .ok (.dup, 1) := dk_89 (dk_at dksX18_test_1 6 rfl rfl)
theorem dX18_test_30 : decode cX18_test 30 = .ok (.aload_n 1, 1) := dk_43 (dk_at dksX18_test_1 7 rfl rfl)
theorem dX18_test_31 : decode cX18_test 31 = .ok (.iconst 1, 1) := dk_4 (dk_at dksX18_test_1 8 rfl rfl)
theorem dX18_test_32 : decode cX18_test 32 = .ok (.invokespecial 60, 3) := dk_183 0 60 (dk_at dksX18_test_1 9 rfl rfl)
theorem dX18_test_35 : decode cX18_test 35 = .ok (.areturn, 1) := dk_176 (dk_at dksX18_test_1 12 rfl rfl)
abbrev cX18_conjunction : ByteArray := prog_13_method_4_code
def yX18_conjunction : MethodName := ⟨RX18, "conjunction", "()LMessengerBoard$Test;"⟩
def dkwX18_conjunction_1 : List UInt8 := [154, 255, 241, 187, 0, 58, 89, 43, 3, 183, 0, 60, 176]
abbrev dktX18_conjunction_1 : List UInt8 := dkwX18_conjunction_1 ++ []
def dkwX18_conjunction_0 : List UInt8 := [187, 0, 44, 89, 183, 0, 46, 76, 43, 42, 182, 0, 63, 182, 0, 52, 87, 42, 18, 66, 182, 0, 17]
abbrev dktX18_conjunction_0 : List UInt8 := dkwX18_conjunction_0 ++ dktX18_conjunction_1
theorem dksX18_conjunction_0 : cX18_conjunction.data.toList.drop 0 = dktX18_conjunction_0 := by decide +kernel
theorem dksX18_conjunction_1 : cX18_conjunction.data.toList.drop 23 = dktX18_conjunction_1 := dk_seg dksX18_conjunction_0 23 rfl rfl
theorem dX18_conjunction_0 : decode cX18_conjunction 0 = .ok (.new 44, 3) := dk_187 0 44 (dk_at dksX18_conjunction_0 0 rfl rfl)
theorem dX18_conjunction_3 : decode cX18_conjunction 3 = .ok (.dup, 1) := dk_89 (dk_at dksX18_conjunction_0 3 rfl rfl)
theorem dX18_conjunction_4 : decode cX18_conjunction 4 = .ok (.invokespecial 46, 3) := dk_183 0 46 (dk_at dksX18_conjunction_0 4 rfl rfl)
theorem dX18_conjunction_7 : decode cX18_conjunction 7 = .ok (.astore_n 1, 1) := dk_76 (dk_at dksX18_conjunction_0 7 rfl rfl)
theorem dX18_conjunction_8 : decode cX18_conjunction 8 = .ok (.aload_n 1, 1) := dk_43 (dk_at dksX18_conjunction_0 8 rfl rfl)
theorem dX18_conjunction_9 : decode cX18_conjunction 9 = .ok (.aload_n 0, 1) := dk_42 (dk_at dksX18_conjunction_0 9 rfl rfl)
theorem dX18_conjunction_10 : decode cX18_conjunction 10 = .ok (.invokevirtual 63, 3) := dk_182 0 63 (dk_at dksX18_conjunction_0 10 rfl rfl)
theorem dX18_conjunction_13 : decode cX18_conjunction 13 = .ok (.invokevirtual 52, 3) := dk_182 0 52 (dk_at dksX18_conjunction_0 13 rfl rfl)
theorem dX18_conjunction_16 : decode cX18_conjunction 16 = .ok (.pop, 1) := dk_87 (dk_at dksX18_conjunction_0 16 rfl rfl)
theorem dX18_conjunction_17 : decode cX18_conjunction 17 = .ok (.aload_n 0, 1) := dk_42 (dk_at dksX18_conjunction_0 17 rfl rfl)
theorem dX18_conjunction_18 : decode cX18_conjunction 18 = .ok (.ldc 66, 2) := dk_18 66 (dk_at dksX18_conjunction_0 18 rfl rfl)
theorem dX18_conjunction_20 : decode cX18_conjunction 20 = .ok (.invokevirtual 17, 3) := dk_182 0 17 (dk_at dksX18_conjunction_0 20 rfl rfl)
theorem dX18_conjunction_23 : decode cX18_conjunction 23 = .ok (.ifCond .ne (-15), 3) := dk_154 255 241 (dk_at dksX18_conjunction_1 0 rfl rfl)
theorem dX18_conjunction_26 : decode cX18_conjunction 26 = .ok (.new 58, 3) := dk_187 0 58 (dk_at dksX18_conjunction_1 3 rfl rfl)
theorem dX18_conjunction_29 : decode cX18_conjunction 29 = .ok (.dup, 1) := dk_89 (dk_at dksX18_conjunction_1 6 rfl rfl)
theorem dX18_conjunction_30 : decode cX18_conjunction 30 = .ok (.aload_n 1, 1) := dk_43 (dk_at dksX18_conjunction_1 7 rfl rfl)
theorem dX18_conjunction_31 : decode cX18_conjunction 31 = .ok (.iconst 0, 1) := dk_3 (dk_at dksX18_conjunction_1 8 rfl rfl)
theorem dX18_conjunction_32 : decode cX18_conjunction 32 = .ok (.invokespecial 60, 3) := dk_183 0 60 (dk_at dksX18_conjunction_1 9 rfl rfl)
theorem dX18_conjunction_35 : decode cX18_conjunction 35 = .ok (.areturn, 1) := dk_176 (dk_at dksX18_conjunction_1 12 rfl rfl)
abbrev cX18_factor : ByteArray := prog_13_method_6_code
def yX18_factor : MethodName := ⟨RX18, "factor", "()LMessengerBoard$Test;"⟩
def dkwX18_factor_4 : List UInt8 := [182, 0, 102, 183, 0, 111, 176]
abbrev dktX18_factor_4 : List UInt8 := dkwX18_factor_4 ++ []
def dkwX18_factor_3 : List UInt8 := [100, 181, 0, 68, 43, 176, 42, 182, 0, 102, 60, 42, 182, 0, 106, 61, 187, 0, 109, 89, 27, 28, 42]
abbrev dktX18_factor_3 : List UInt8 := dkwX18_factor_3 ++ dktX18_factor_4
def dkwX18_factor_2 : List UInt8 := [153, 0, 30, 42, 182, 0, 86, 42, 182, 0, 31, 76, 42, 16, 41, 182, 0, 98, 42, 89, 180, 0, 68, 4]
abbrev dktX18_factor_2 : List UInt8 := dkwX18_factor_2 ++ dktX18_factor_3
def dkwX18_factor_1 : List UInt8 := [183, 0, 91, 76, 42, 89, 180, 0, 68, 4, 100, 181, 0, 68, 43, 176, 42, 16, 40, 182, 0, 94]
abbrev dktX18_factor_1 : List UInt8 := dkwX18_factor_1 ++ dktX18_factor_2
def dkwX18_factor_0 : List UInt8 := [42, 182, 0, 75, 18, 79, 182, 0, 81, 153, 0, 31, 42, 182, 0, 86, 187, 0, 89, 89, 42, 182, 0, 63]
abbrev dktX18_factor_0 : List UInt8 := dkwX18_factor_0 ++ dktX18_factor_1
theorem dksX18_factor_0 : cX18_factor.data.toList.drop 0 = dktX18_factor_0 := by decide +kernel
theorem dksX18_factor_1 : cX18_factor.data.toList.drop 24 = dktX18_factor_1 := dk_seg dksX18_factor_0 24 rfl rfl
theorem dksX18_factor_2 : cX18_factor.data.toList.drop 46 = dktX18_factor_2 := dk_seg dksX18_factor_1 22 rfl rfl
theorem dksX18_factor_3 : cX18_factor.data.toList.drop 70 = dktX18_factor_3 := dk_seg dksX18_factor_2 24 rfl rfl
theorem dksX18_factor_4 : cX18_factor.data.toList.drop 93 = dktX18_factor_4 := dk_seg dksX18_factor_3 23 rfl rfl
theorem dX18_factor_0 : decode cX18_factor 0 = .ok (.aload_n 0, 1) := dk_42 (dk_at dksX18_factor_0 0 rfl rfl)
theorem dX18_factor_1 : decode cX18_factor 1 = .ok (.invokevirtual 75, 3) := dk_182 0 75 (dk_at dksX18_factor_0 1 rfl rfl)
theorem dX18_factor_4 : decode cX18_factor 4 = .ok (.ldc 79, 2) := dk_18 79 (dk_at dksX18_factor_0 4 rfl rfl)
theorem dX18_factor_6 : decode cX18_factor 6 = .ok (.invokevirtual 81, 3) := dk_182 0 81 (dk_at dksX18_factor_0 6 rfl rfl)
theorem dX18_factor_9 : decode cX18_factor 9 = .ok (.ifCond .eq 31, 3) := dk_153 0 31 (dk_at dksX18_factor_0 9 rfl rfl)
theorem dX18_factor_12 : decode cX18_factor 12 = .ok (.aload_n 0, 1) := dk_42 (dk_at dksX18_factor_0 12 rfl rfl)
theorem dX18_factor_13 : decode cX18_factor 13 = .ok (.invokevirtual 86, 3) := dk_182 0 86 (dk_at dksX18_factor_0 13 rfl rfl)
theorem dX18_factor_16 : decode cX18_factor 16 = .ok (.new 89, 3) := dk_187 0 89 (dk_at dksX18_factor_0 16 rfl rfl)
theorem dX18_factor_19 : decode cX18_factor 19 = .ok (.dup, 1) := dk_89 (dk_at dksX18_factor_0 19 rfl rfl)
theorem dX18_factor_20 : decode cX18_factor 20 = .ok (.aload_n 0, 1) := dk_42 (dk_at dksX18_factor_0 20 rfl rfl)
theorem dX18_factor_21 : decode cX18_factor 21 = .ok (.invokevirtual 63, 3) := dk_182 0 63 (dk_at dksX18_factor_0 21 rfl rfl)
theorem dX18_factor_24 : decode cX18_factor 24 = .ok (.invokespecial 91, 3) := dk_183 0 91 (dk_at dksX18_factor_1 0 rfl rfl)
theorem dX18_factor_27 : decode cX18_factor 27 = .ok (.astore_n 1, 1) := dk_76 (dk_at dksX18_factor_1 3 rfl rfl)
theorem dX18_factor_28 : decode cX18_factor 28 = .ok (.aload_n 0, 1) := dk_42 (dk_at dksX18_factor_1 4 rfl rfl)
theorem dX18_factor_29 : decode cX18_factor 29 = .ok (.dup, 1) := dk_89 (dk_at dksX18_factor_1 5 rfl rfl)
theorem dX18_factor_30 : decode cX18_factor 30 = .ok (.getfield 68, 3) := dk_180 0 68 (dk_at dksX18_factor_1 6 rfl rfl)
theorem dX18_factor_33 : decode cX18_factor 33 = .ok (.iconst 1, 1) := dk_4 (dk_at dksX18_factor_1 9 rfl rfl)
theorem dX18_factor_34 : decode cX18_factor 34 = .ok (.isub, 1) := dk_100 (dk_at dksX18_factor_1 10 rfl rfl)
theorem dX18_factor_35 : decode cX18_factor 35 = .ok (.putfield 68, 3) := dk_181 0 68 (dk_at dksX18_factor_1 11 rfl rfl)
theorem dX18_factor_38 : decode cX18_factor 38 = .ok (.aload_n 1, 1) := dk_43 (dk_at dksX18_factor_1 14 rfl rfl)
theorem dX18_factor_39 : decode cX18_factor 39 = .ok (.areturn, 1) := dk_176 (dk_at dksX18_factor_1 15 rfl rfl)
theorem dX18_factor_40 : decode cX18_factor 40 = .ok (.aload_n 0, 1) := dk_42 (dk_at dksX18_factor_1 16 rfl rfl)
theorem dX18_factor_41 : decode cX18_factor 41 = .ok (.bipush 40, 2) := dk_16 40 (dk_at dksX18_factor_1 17 rfl rfl)
theorem dX18_factor_43 : decode cX18_factor 43 = .ok (.invokevirtual 94, 3) := dk_182 0 94 (dk_at dksX18_factor_1 19 rfl rfl)
theorem dX18_factor_46 : decode cX18_factor 46 = .ok (.ifCond .eq 30, 3) := dk_153 0 30 (dk_at dksX18_factor_2 0 rfl rfl)
theorem dX18_factor_49 : decode cX18_factor 49 = .ok (.aload_n 0, 1) := dk_42 (dk_at dksX18_factor_2 3 rfl rfl)
theorem dX18_factor_50 : decode cX18_factor 50 = .ok (.invokevirtual 86, 3) := dk_182 0 86 (dk_at dksX18_factor_2 4 rfl rfl)
theorem dX18_factor_53 : decode cX18_factor 53 = .ok (.aload_n 0, 1) := dk_42 (dk_at dksX18_factor_2 7 rfl rfl)
theorem dX18_factor_54 : decode cX18_factor 54 = .ok (.invokevirtual 31, 3) := dk_182 0 31 (dk_at dksX18_factor_2 8 rfl rfl)
theorem dX18_factor_57 : decode cX18_factor 57 = .ok (.astore_n 1, 1) := dk_76 (dk_at dksX18_factor_2 11 rfl rfl)
theorem dX18_factor_58 : decode cX18_factor 58 = .ok (.aload_n 0, 1) := dk_42 (dk_at dksX18_factor_2 12 rfl rfl)
theorem dX18_factor_59 : decode cX18_factor 59 = .ok (.bipush 41, 2) := dk_16 41 (dk_at dksX18_factor_2 13 rfl rfl)
theorem dX18_factor_61 : decode cX18_factor 61 = .ok (.invokevirtual 98, 3) := dk_182 0 98 (dk_at dksX18_factor_2 15 rfl rfl)
theorem dX18_factor_64 : decode cX18_factor 64 = .ok (.aload_n 0, 1) := dk_42 (dk_at dksX18_factor_2 18 rfl rfl)
theorem dX18_factor_65 : decode cX18_factor 65 = .ok (.dup, 1) := dk_89 (dk_at dksX18_factor_2 19 rfl rfl)
theorem dX18_factor_66 : decode cX18_factor 66 = .ok (.getfield 68, 3) := dk_180 0 68 (dk_at dksX18_factor_2 20 rfl rfl)
theorem dX18_factor_69 : decode cX18_factor 69 = .ok (.iconst 1, 1) := dk_4 (dk_at dksX18_factor_2 23 rfl rfl)
theorem dX18_factor_70 : decode cX18_factor 70 = .ok (.isub, 1) := dk_100 (dk_at dksX18_factor_3 0 rfl rfl)
theorem dX18_factor_71 : decode cX18_factor 71 = .ok (.putfield 68, 3) := dk_181 0 68 (dk_at dksX18_factor_3 1 rfl rfl)
theorem dX18_factor_74 : decode cX18_factor 74 = .ok (.aload_n 1, 1) := dk_43 (dk_at dksX18_factor_3 4 rfl rfl)
theorem dX18_factor_75 : decode cX18_factor 75 = .ok (.areturn, 1) := dk_176 (dk_at dksX18_factor_3 5 rfl rfl)
theorem dX18_factor_76 : decode cX18_factor 76 = .ok (.aload_n 0, 1) := dk_42 (dk_at dksX18_factor_3 6 rfl rfl)
theorem dX18_factor_77 : decode cX18_factor 77 = .ok (.invokevirtual 102, 3) := dk_182 0 102 (dk_at dksX18_factor_3 7 rfl rfl)
theorem dX18_factor_80 : decode cX18_factor 80 = .ok (.istore_n 1, 1) := dk_60 (dk_at dksX18_factor_3 10 rfl rfl)
theorem dX18_factor_81 : decode cX18_factor 81 = .ok (.aload_n 0, 1) := dk_42 (dk_at dksX18_factor_3 11 rfl rfl)
theorem dX18_factor_82 : decode cX18_factor 82 = .ok (.invokevirtual 106, 3) := dk_182 0 106 (dk_at dksX18_factor_3 12 rfl rfl)
theorem dX18_factor_85 : decode cX18_factor 85 = .ok (.istore_n 2, 1) := dk_61 (dk_at dksX18_factor_3 15 rfl rfl)
theorem dX18_factor_86 : decode cX18_factor 86 = .ok (.new 109, 3) := dk_187 0 109 (dk_at dksX18_factor_3 16 rfl rfl)
theorem dX18_factor_89 : decode cX18_factor 89 = .ok (.dup, 1) := dk_89 (dk_at dksX18_factor_3 19 rfl rfl)
theorem dX18_factor_90 : decode cX18_factor 90 = .ok (.iload_n 1, 1) := dk_27 (dk_at dksX18_factor_3 20 rfl rfl)
theorem dX18_factor_91 : decode cX18_factor 91 = .ok (.iload_n 2, 1) := dk_28 (dk_at dksX18_factor_3 21 rfl rfl)
theorem dX18_factor_92 : decode cX18_factor 92 = .ok (.aload_n 0, 1) := dk_42 (dk_at dksX18_factor_3 22 rfl rfl)
theorem dX18_factor_93 : decode cX18_factor 93 = .ok (.invokevirtual 102, 3) := dk_182 0 102 (dk_at dksX18_factor_4 0 rfl rfl)
theorem dX18_factor_96 : decode cX18_factor 96 = .ok (.invokespecial 111, 3) := dk_183 0 111 (dk_at dksX18_factor_4 3 rfl rfl)
theorem dX18_factor_99 : decode cX18_factor 99 = .ok (.areturn, 1) := dk_176 (dk_at dksX18_factor_4 6 rfl rfl)
abbrev cX18_enter : ByteArray := prog_13_method_5_code
def yX18_enter : MethodName := ⟨RX18, "enter", "()V"⟩
def dkwX18_enter_1 : List UInt8 := [4, 96, 181, 0, 68, 42, 182, 0, 72, 177]
abbrev dktX18_enter_1 : List UInt8 := dkwX18_enter_1 ++ []
def dkwX18_enter_0 : List UInt8 := [42, 42, 180, 0, 68, 16, 6, 162, 0, 7, 4, 167, 0, 4, 3, 6, 182, 0, 27, 42, 89, 180, 0, 68]
abbrev dktX18_enter_0 : List UInt8 := dkwX18_enter_0 ++ dktX18_enter_1
theorem dksX18_enter_0 : cX18_enter.data.toList.drop 0 = dktX18_enter_0 := by decide +kernel
theorem dksX18_enter_1 : cX18_enter.data.toList.drop 24 = dktX18_enter_1 := dk_seg dksX18_enter_0 24 rfl rfl
theorem dX18_enter_0 : decode cX18_enter 0 = .ok (.aload_n 0, 1) := dk_42 (dk_at dksX18_enter_0 0 rfl rfl)
theorem dX18_enter_1 : decode cX18_enter 1 = .ok (.aload_n 0, 1) := dk_42 (dk_at dksX18_enter_0 1 rfl rfl)
theorem dX18_enter_2 : decode cX18_enter 2 = .ok (.getfield 68, 3) := dk_180 0 68 (dk_at dksX18_enter_0 2 rfl rfl)
theorem dX18_enter_5 : decode cX18_enter 5 = .ok (.bipush 6, 2) := dk_16 6 (dk_at dksX18_enter_0 5 rfl rfl)
theorem dX18_enter_7 : decode cX18_enter 7 = .ok (.if_icmp .ge 7, 3) := dk_162 0 7 (dk_at dksX18_enter_0 7 rfl rfl)
theorem dX18_enter_10 : decode cX18_enter 10 = .ok (.iconst 1, 1) := dk_4 (dk_at dksX18_enter_0 10 rfl rfl)
theorem dX18_enter_11 : decode cX18_enter 11 = .ok (.goto 4, 3) := dk_167 0 4 (dk_at dksX18_enter_0 11 rfl rfl)
theorem dX18_enter_14 : decode cX18_enter 14 = .ok (.iconst 0, 1) := dk_3 (dk_at dksX18_enter_0 14 rfl rfl)
theorem dX18_enter_15 : decode cX18_enter 15 = .ok (.iconst 3, 1) := dk_6 (dk_at dksX18_enter_0 15 rfl rfl)
theorem dX18_enter_16 : decode cX18_enter 16 = .ok (.invokevirtual 27, 3) := dk_182 0 27 (dk_at dksX18_enter_0 16 rfl rfl)
theorem dX18_enter_19 : decode cX18_enter 19 = .ok (.aload_n 0, 1) := dk_42 (dk_at dksX18_enter_0 19 rfl rfl)
theorem dX18_enter_20 : decode cX18_enter 20 = .ok (.dup, 1) := dk_89 (dk_at dksX18_enter_0 20 rfl rfl)
theorem dX18_enter_21 : decode cX18_enter 21 = .ok (.getfield 68, 3) := dk_180 0 68 (dk_at dksX18_enter_0 21 rfl rfl)
theorem dX18_enter_24 : decode cX18_enter 24 = .ok (.iconst 1, 1) := dk_4 (dk_at dksX18_enter_1 0 rfl rfl)
theorem dX18_enter_25 : decode cX18_enter 25 = .ok (.iadd, 1) := dk_96 (dk_at dksX18_enter_1 1 rfl rfl)
theorem dX18_enter_26 : decode cX18_enter 26 = .ok (.putfield 68, 3) := dk_181 0 68 (dk_at dksX18_enter_1 2 rfl rfl)
theorem dX18_enter_29 : decode cX18_enter 29 = .ok (.aload_n 0, 1) := dk_42 (dk_at dksX18_enter_1 5 rfl rfl)
theorem dX18_enter_30 : decode cX18_enter 30 = .ok (.invokevirtual 72, 3) := dk_182 0 72 (dk_at dksX18_enter_1 6 rfl rfl)
theorem dX18_enter_33 : decode cX18_enter 33 = .ok (.return_, 1) := dk_177 (dk_at dksX18_enter_1 9 rfl rfl)
abbrev cX18_operand : ByteArray := prog_13_method_7_code
def yX18_operand : MethodName := ⟨RX18, "operand", "()I"⟩
def dkwX18_operand_2 : List UInt8 := [182, 0, 72, 27, 172]
abbrev dktX18_operand_2 : List UInt8 := dkwX18_operand_2 ++ []
def dkwX18_operand_1 : List UInt8 := [182, 0, 75, 184, 0, 121, 60, 42, 27, 2, 159, 0, 7, 4, 167, 0, 4, 3, 4, 182, 0, 27, 42]
abbrev dktX18_operand_1 : List UInt8 := dkwX18_operand_1 ++ dktX18_operand_2
def dkwX18_operand_0 : List UInt8 := [42, 180, 0, 35, 178, 0, 114, 166, 0, 14, 2, 42, 3, 17, 39, 15, 182, 0, 117, 100, 172, 42]
abbrev dktX18_operand_0 : List UInt8 := dkwX18_operand_0 ++ dktX18_operand_1
theorem dksX18_operand_0 : cX18_operand.data.toList.drop 0 = dktX18_operand_0 := by decide +kernel
theorem dksX18_operand_1 : cX18_operand.data.toList.drop 22 = dktX18_operand_1 := dk_seg dksX18_operand_0 22 rfl rfl
theorem dksX18_operand_2 : cX18_operand.data.toList.drop 45 = dktX18_operand_2 := dk_seg dksX18_operand_1 23 rfl rfl
theorem dX18_operand_0 : decode cX18_operand 0 = .ok (.aload_n 0, 1) := dk_42 (dk_at dksX18_operand_0 0 rfl rfl)
theorem dX18_operand_1 : decode cX18_operand 1 = .ok (.getfield 35, 3) := dk_180 0 35 (dk_at dksX18_operand_0 1 rfl rfl)
theorem dX18_operand_4 : decode cX18_operand 4 = .ok (.getstatic 114, 3) := dk_178 0 114 (dk_at dksX18_operand_0 4 rfl rfl)
theorem dX18_operand_7 : decode cX18_operand 7 = .ok (.if_acmp .ne 14, 3) := dk_166 0 14 (dk_at dksX18_operand_0 7 rfl rfl)
theorem dX18_operand_10 : decode cX18_operand 10 = .ok (.iconst (-1), 1) := dk_2 (dk_at dksX18_operand_0 10 rfl rfl)
theorem dX18_operand_11 : decode cX18_operand 11 = .ok (.aload_n 0, 1) := dk_42 (dk_at dksX18_operand_0 11 rfl rfl)
theorem dX18_operand_12 : decode cX18_operand 12 = .ok (.iconst 0, 1) := dk_3 (dk_at dksX18_operand_0 12 rfl rfl)
theorem dX18_operand_13 : decode cX18_operand 13 = .ok (.sipush 9999, 3) := dk_17 39 15 (dk_at dksX18_operand_0 13 rfl rfl)
theorem dX18_operand_16 : decode cX18_operand 16 = .ok (.invokevirtual 117, 3) := dk_182 0 117 (dk_at dksX18_operand_0 16 rfl rfl)
theorem dX18_operand_19 : decode cX18_operand 19 = .ok (.isub, 1) := dk_100 (dk_at dksX18_operand_0 19 rfl rfl)
theorem dX18_operand_20 : decode cX18_operand 20 = .ok (.ireturn, 1) := dk_172 (dk_at dksX18_operand_0 20 rfl rfl)
theorem dX18_operand_21 : decode cX18_operand 21 = .ok (.aload_n 0, 1) := dk_42 (dk_at dksX18_operand_0 21 rfl rfl)
theorem dX18_operand_22 : decode cX18_operand 22 = .ok (.invokevirtual 75, 3) := dk_182 0 75 (dk_at dksX18_operand_1 0 rfl rfl)
theorem dX18_operand_25 : decode cX18_operand 25 = .ok (.invokestatic 121, 3) := dk_184 0 121 (dk_at dksX18_operand_1 3 rfl rfl)
theorem dX18_operand_28 : decode cX18_operand 28 = .ok (.istore_n 1, 1) := dk_60 (dk_at dksX18_operand_1 6 rfl rfl)
theorem dX18_operand_29 : decode cX18_operand 29 = .ok (.aload_n 0, 1) := dk_42 (dk_at dksX18_operand_1 7 rfl rfl)
theorem dX18_operand_30 : decode cX18_operand 30 = .ok (.iload_n 1, 1) := dk_27 (dk_at dksX18_operand_1 8 rfl rfl)
theorem dX18_operand_31 : decode cX18_operand 31 = .ok (.iconst (-1), 1) := dk_2 (dk_at dksX18_operand_1 9 rfl rfl)
theorem dX18_operand_32 : decode cX18_operand 32 = .ok (.if_icmp .eq 7, 3) := dk_159 0 7 (dk_at dksX18_operand_1 10 rfl rfl)
theorem dX18_operand_35 : decode cX18_operand 35 = .ok (.iconst 1, 1) := dk_4 (dk_at dksX18_operand_1 13 rfl rfl)
theorem dX18_operand_36 : decode cX18_operand 36 = .ok (.goto 4, 3) := dk_167 0 4 (dk_at dksX18_operand_1 14 rfl rfl)
theorem dX18_operand_39 : decode cX18_operand 39 = .ok (.iconst 0, 1) := dk_3 (dk_at dksX18_operand_1 17 rfl rfl)
theorem dX18_operand_40 : decode cX18_operand 40 = .ok (.iconst 1, 1) := dk_4 (dk_at dksX18_operand_1 18 rfl rfl)
theorem dX18_operand_41 : decode cX18_operand 41 = .ok (.invokevirtual 27, 3) := dk_182 0 27 (dk_at dksX18_operand_1 19 rfl rfl)
theorem dX18_operand_44 : decode cX18_operand 44 = .ok (.aload_n 0, 1) := dk_42 (dk_at dksX18_operand_1 22 rfl rfl)
theorem dX18_operand_45 : decode cX18_operand 45 = .ok (.invokevirtual 72, 3) := dk_182 0 72 (dk_at dksX18_operand_2 0 rfl rfl)
theorem dX18_operand_48 : decode cX18_operand 48 = .ok (.iload_n 1, 1) := dk_27 (dk_at dksX18_operand_2 3 rfl rfl)
theorem dX18_operand_49 : decode cX18_operand 49 = .ok (.ireturn, 1) := dk_172 (dk_at dksX18_operand_2 4 rfl rfl)
theorem q151 : (Jvm.Cond.initialized "MessengerBoard$QueryParser") ∈ lw_all := lw_g (lw_at lw_m1 42 rfl) rfl
theorem q638 : (Jvm.Cond.selects "MessengerBoard$QueryParser" ({ cls := "MessengerBoard$Scanner", name := "next", desc := "()V" } : Jvm.MethodName) ({ cls := "MessengerBoard$Scanner", name := "next", desc := "()V" } : Jvm.MethodName)) ∈ lw_all := lw_g (lw_at lw_m3 49 rfl) rfl
theorem q903 : (Jvm.Cond.fieldLink "MessengerBoard$QueryParser" (35 : Nat) "MessengerBoard$QueryParser" "token" "LMessengerBoard$Token;") ∈ lw_all := lw_g (lw_at lw_m4 74 rfl) rfl
theorem q904 : (Jvm.Cond.sameField "MessengerBoard$QueryParser" "MessengerBoard$Scanner" "token" "LMessengerBoard$Token;") ∈ lw_all := lw_g (lw_at lw_m4 75 rfl) rfl
theorem q945 : (Jvm.Cond.selects "MessengerBoard$QueryParser" ({ cls := "MessengerBoard$Scanner", name := "keyword", desc := "()Ljava/lang/String;" } : Jvm.MethodName) ({ cls := "MessengerBoard$Scanner", name := "keyword", desc := "()Ljava/lang/String;" } : Jvm.MethodName)) ∈ lw_all := lw_g (lw_at lw_m4 116 rfl) rfl
theorem q1001 : (Jvm.Cond.selects "MessengerBoard$QueryParser" ({ cls := "MessengerBoard$Scanner", name := "peek", desc := "(II)I" } : Jvm.MethodName) ({ cls := "MessengerBoard$Scanner", name := "peek", desc := "(II)I" } : Jvm.MethodName)) ∈ lw_all := lw_g (lw_at lw_m4 172 rfl) rfl
theorem q1016 : (Jvm.Cond.selects "MessengerBoard$QueryParser" ({ cls := "MessengerBoard$Scanner", name := "isSign", desc := "(I)Z" } : Jvm.MethodName) ({ cls := "MessengerBoard$Scanner", name := "isSign", desc := "(I)Z" } : Jvm.MethodName)) ∈ lw_all := lw_g (lw_at lw_m4 187 rfl) rfl
theorem q1187 : (Jvm.Cond.selects "MessengerBoard$QueryParser" ({ cls := "java/lang/Object", name := "getClass", desc := "()Ljava/lang/Class;" } : Jvm.MethodName) ({ cls := "java/lang/Object", name := "getClass", desc := "()Ljava/lang/Class;" } : Jvm.MethodName)) ∈ lw_all := lw_g (lw_at lw_m5 118 rfl) rfl
theorem q1935 : (Jvm.Cond.instantiable "MessengerBoard$QueryParser" (11 : Nat)) ∈ lw_all := lw_g (lw_at lw_m8 146 rfl) rfl
theorem q1937 : (Jvm.Cond.instanceMethod ({ cls := "MessengerBoard$QueryParser", name := "<init>", desc := "(LMessengerBoard;I)V" } : Jvm.MethodName)) ∈ lw_all := lw_g (lw_at lw_m8 148 rfl) rfl
theorem q1938 : (Jvm.Cond.code ({ cls := "MessengerBoard$QueryParser", name := "<init>", desc := "(LMessengerBoard;I)V" } : Jvm.MethodName) prog_13_method_1_code (3 : Nat) (Option.none : Option Jvm.ClassFile.FieldType)) ∈ lw_all := lw_g (lw_at lw_m8 149 rfl) rfl
theorem q1939 : (Jvm.Cond.methodLink "MessengerBoard$QueryParser" (9 : Nat) ({ cls := "MessengerBoard$Scanner", name := "<init>", desc := "(LMessengerBoard;I)V" } : Jvm.MethodName)) ∈ lw_all := lw_g (lw_at lw_m8 150 rfl) rfl
theorem q1940 : (Jvm.Cond.fieldLink "MessengerBoard$QueryParser" (21 : Nat) "MessengerBoard$QueryParser" "isFirst" "Z") ∈ lw_all := lw_g (lw_at lw_m8 151 rfl) rfl
theorem q1942 : (Jvm.Cond.fieldLink "MessengerBoard$QueryParser" (68 : Nat) "MessengerBoard$QueryParser" "open" "I") ∈ lw_all := lw_g (lw_at lw_m8 153 rfl) rfl
theorem q1943 : (Jvm.Cond.fieldLink "MessengerBoard$QueryParser" (3 : Nat) "MessengerBoard$QueryParser" "this$0" "LMessengerBoard;") ∈ lw_all := lw_g (lw_at lw_m8 154 rfl) rfl
theorem q1944 : (Jvm.Cond.lays "MessengerBoard$QueryParser" "MessengerBoard$QueryParser" "isFirst" "Z") ∈ lw_all := lw_g (lw_at lw_m8 155 rfl) rfl
theorem q1945 : (Jvm.Cond.soleField "MessengerBoard$QueryParser" "isFirst") ∈ lw_all := lw_g (lw_at lw_m8 156 rfl) rfl
theorem q1946 : (Jvm.Cond.lays "MessengerBoard$QueryParser" "MessengerBoard$QueryParser" "open" "I") ∈ lw_all := lw_g (lw_at lw_m8 157 rfl) rfl
theorem q1947 : (Jvm.Cond.soleField "MessengerBoard$QueryParser" "open") ∈ lw_all := lw_g (lw_at lw_m8 158 rfl) rfl
theorem q1948 : (Jvm.Cond.laysFinal "MessengerBoard$QueryParser" "MessengerBoard$QueryParser" "this$0" "LMessengerBoard;") ∈ lw_all := lw_g (lw_at lw_m8 159 rfl) rfl
theorem q1949 : (Jvm.Cond.soleField "MessengerBoard$QueryParser" "this$0") ∈ lw_all := lw_g (lw_at lw_m8 160 rfl) rfl
theorem q1950 : (Jvm.Cond.laysFinal "MessengerBoard$QueryParser" "MessengerBoard$Scanner" "word" "Ljava/lang/StringBuilder;") ∈ lw_all := lw_g (lw_at lw_m8 161 rfl) rfl
theorem q1951 : (Jvm.Cond.laysFinal "MessengerBoard$QueryParser" "MessengerBoard$Scanner" "end" "I") ∈ lw_all := lw_g (lw_at lw_m8 162 rfl) rfl
theorem q1952 : (Jvm.Cond.lays "MessengerBoard$QueryParser" "MessengerBoard$Scanner" "at" "I") ∈ lw_all := lw_g (lw_at lw_m8 163 rfl) rfl
theorem q1953 : (Jvm.Cond.lays "MessengerBoard$QueryParser" "MessengerBoard$Scanner" "begin" "I") ∈ lw_all := lw_g (lw_at lw_m8 164 rfl) rfl
theorem q1954 : (Jvm.Cond.lays "MessengerBoard$QueryParser" "MessengerBoard$Scanner" "value" "I") ∈ lw_all := lw_g (lw_at lw_m8 165 rfl) rfl
theorem q1955 : (Jvm.Cond.lays "MessengerBoard$QueryParser" "MessengerBoard$Scanner" "sign" "I") ∈ lw_all := lw_g (lw_at lw_m8 166 rfl) rfl
theorem q1956 : (Jvm.Cond.lays "MessengerBoard$QueryParser" "MessengerBoard$Scanner" "token" "LMessengerBoard$Token;") ∈ lw_all := lw_g (lw_at lw_m8 167 rfl) rfl
theorem q1957 : (Jvm.Cond.laysFinal "MessengerBoard$QueryParser" "MessengerBoard$Scanner" "this$0" "LMessengerBoard;") ∈ lw_all := lw_g (lw_at lw_m8 168 rfl) rfl
theorem q1958 : (Jvm.Cond.superclass "MessengerBoard$QueryParser" "MessengerBoard$Scanner") ∈ lw_all := lw_g (lw_at lw_m8 169 rfl) rfl
theorem q1960 : (Jvm.Cond.instanceMethod ({ cls := "MessengerBoard$QueryParser", name := "parse", desc := "()LMessengerBoard$Test;" } : Jvm.MethodName)) ∈ lw_all := lw_g (lw_at lw_m8 171 rfl) rfl
theorem q1961 : (Jvm.Cond.selects "MessengerBoard$QueryParser" ({ cls := "MessengerBoard$QueryParser", name := "parse", desc := "()LMessengerBoard$Test;" } : Jvm.MethodName) ({ cls := "MessengerBoard$QueryParser", name := "parse", desc := "()LMessengerBoard$Test;" } : Jvm.MethodName)) ∈ lw_all := lw_g (lw_at lw_m8 172 rfl) rfl
theorem q1962 : (Jvm.Cond.code ({ cls := "MessengerBoard$QueryParser", name := "parse", desc := "()LMessengerBoard$Test;" } : Jvm.MethodName) prog_13_method_2_code (2 : Nat) (Option.some (Jvm.ClassFile.FieldType.object "MessengerBoard$Test"))) ∈ lw_all := lw_g (lw_at lw_m8 173 rfl) rfl
theorem q1963 : (Jvm.Cond.stringRef "MessengerBoard$QueryParser" (15 : Nat) "first") ∈ lw_tbl := lw_at lw_m8 174 rfl
theorem q1964 : (Jvm.Cond.methodLink "MessengerBoard$QueryParser" (17 : Nat) ({ cls := "MessengerBoard$QueryParser", name := "accept", desc := "(Ljava/lang/String;)Z" } : Jvm.MethodName)) ∈ lw_all := lw_g (lw_at lw_m8 175 rfl) rfl
theorem q1965 : (Jvm.Cond.sameMethod "MessengerBoard$QueryParser" "MessengerBoard$Scanner" "accept" "(Ljava/lang/String;)Z") ∈ lw_all := lw_g (lw_at lw_m8 176 rfl) rfl
theorem q1966 : (Jvm.Cond.selects "MessengerBoard$QueryParser" ({ cls := "MessengerBoard$QueryParser", name := "accept", desc := "(Ljava/lang/String;)Z" } : Jvm.MethodName) ({ cls := "MessengerBoard$Scanner", name := "accept", desc := "(Ljava/lang/String;)Z" } : Jvm.MethodName)) ∈ lw_all := lw_g (lw_at lw_m8 177 rfl) rfl
theorem q1967 : (Jvm.Cond.stringRef "MessengerBoard$QueryParser" (25 : Nat) "many") ∈ lw_tbl := lw_at lw_m8 178 rfl
theorem q1968 : (Jvm.Cond.methodLink "MessengerBoard$QueryParser" (27 : Nat) ({ cls := "MessengerBoard$QueryParser", name := "check", desc := "(ZI)V" } : Jvm.MethodName)) ∈ lw_all := lw_g (lw_at lw_m8 179 rfl) rfl
theorem q1969 : (Jvm.Cond.sameMethod "MessengerBoard$QueryParser" "MessengerBoard$Scanner" "check" "(ZI)V") ∈ lw_all := lw_g (lw_at lw_m8 180 rfl) rfl
theorem q1970 : (Jvm.Cond.selects "MessengerBoard$QueryParser" ({ cls := "MessengerBoard$QueryParser", name := "check", desc := "(ZI)V" } : Jvm.MethodName) ({ cls := "MessengerBoard$Scanner", name := "check", desc := "(ZI)V" } : Jvm.MethodName)) ∈ lw_all := lw_g (lw_at lw_m8 181 rfl) rfl
theorem q1971 : (Jvm.Cond.methodLink "MessengerBoard$QueryParser" (31 : Nat) ({ cls := "MessengerBoard$QueryParser", name := "test", desc := "()LMessengerBoard$Test;" } : Jvm.MethodName)) ∈ lw_all := lw_g (lw_at lw_m8 182 rfl) rfl
theorem q1972 : (Jvm.Cond.privateMethod ({ cls := "MessengerBoard$QueryParser", name := "test", desc := "()LMessengerBoard$Test;" } : Jvm.MethodName)) ∈ lw_tbl := lw_at lw_m8 183 rfl
theorem q1973 : (Jvm.Cond.instanceMethod ({ cls := "MessengerBoard$QueryParser", name := "test", desc := "()LMessengerBoard$Test;" } : Jvm.MethodName)) ∈ lw_all := lw_g (lw_at lw_m8 184 rfl) rfl
theorem q1974 : (Jvm.Cond.code ({ cls := "MessengerBoard$QueryParser", name := "test", desc := "()LMessengerBoard$Test;" } : Jvm.MethodName) prog_13_method_3_code (2 : Nat) (Option.some (Jvm.ClassFile.FieldType.object "MessengerBoard$Test"))) ∈ lw_all := lw_g (lw_at lw_m8 185 rfl) rfl
theorem q1975 : (Jvm.Cond.classLink "MessengerBoard$QueryParser" (44 : Nat) "java/util/ArrayList") ∈ lw_all := lw_g (lw_at lw_m8 186 rfl) rfl
theorem q1976 : (Jvm.Cond.methodLink "MessengerBoard$QueryParser" (46 : Nat) ({ cls := "java/util/ArrayList", name := "<init>", desc := "()V" } : Jvm.MethodName)) ∈ lw_all := lw_g (lw_at lw_m8 187 rfl) rfl
theorem q1977 : (Jvm.Cond.methodLink "MessengerBoard$QueryParser" (49 : Nat) ({ cls := "MessengerBoard$QueryParser", name := "conjunction", desc := "()LMessengerBoard$Test;" } : Jvm.MethodName)) ∈ lw_all := lw_g (lw_at lw_m8 188 rfl) rfl
theorem q1978 : (Jvm.Cond.privateMethod ({ cls := "MessengerBoard$QueryParser", name := "conjunction", desc := "()LMessengerBoard$Test;" } : Jvm.MethodName)) ∈ lw_tbl := lw_at lw_m8 189 rfl
theorem q1979 : (Jvm.Cond.instanceMethod ({ cls := "MessengerBoard$QueryParser", name := "conjunction", desc := "()LMessengerBoard$Test;" } : Jvm.MethodName)) ∈ lw_all := lw_g (lw_at lw_m8 190 rfl) rfl
theorem q1980 : (Jvm.Cond.code ({ cls := "MessengerBoard$QueryParser", name := "conjunction", desc := "()LMessengerBoard$Test;" } : Jvm.MethodName) prog_13_method_4_code (2 : Nat) (Option.some (Jvm.ClassFile.FieldType.object "MessengerBoard$Test"))) ∈ lw_all := lw_g (lw_at lw_m8 191 rfl) rfl
theorem q1981 : (Jvm.Cond.methodLink "MessengerBoard$QueryParser" (63 : Nat) ({ cls := "MessengerBoard$QueryParser", name := "factor", desc := "()LMessengerBoard$Test;" } : Jvm.MethodName)) ∈ lw_all := lw_g (lw_at lw_m8 192 rfl) rfl
theorem q1982 : (Jvm.Cond.privateMethod ({ cls := "MessengerBoard$QueryParser", name := "factor", desc := "()LMessengerBoard$Test;" } : Jvm.MethodName)) ∈ lw_tbl := lw_at lw_m8 193 rfl
theorem q1983 : (Jvm.Cond.instanceMethod ({ cls := "MessengerBoard$QueryParser", name := "factor", desc := "()LMessengerBoard$Test;" } : Jvm.MethodName)) ∈ lw_all := lw_g (lw_at lw_m8 194 rfl) rfl
theorem q1984 : (Jvm.Cond.code ({ cls := "MessengerBoard$QueryParser", name := "factor", desc := "()LMessengerBoard$Test;" } : Jvm.MethodName) prog_13_method_6_code (3 : Nat) (Option.some (Jvm.ClassFile.FieldType.object "MessengerBoard$Test"))) ∈ lw_all := lw_g (lw_at lw_m8 195 rfl) rfl
theorem q1985 : (Jvm.Cond.methodLink "MessengerBoard$QueryParser" (75 : Nat) ({ cls := "MessengerBoard$QueryParser", name := "keyword", desc := "()Ljava/lang/String;" } : Jvm.MethodName)) ∈ lw_all := lw_g (lw_at lw_m8 196 rfl) rfl
theorem q1986 : (Jvm.Cond.sameMethod "MessengerBoard$QueryParser" "MessengerBoard$Scanner" "keyword" "()Ljava/lang/String;") ∈ lw_all := lw_g (lw_at lw_m8 197 rfl) rfl
theorem q1987 : (Jvm.Cond.selects "MessengerBoard$QueryParser" ({ cls := "MessengerBoard$QueryParser", name := "keyword", desc := "()Ljava/lang/String;" } : Jvm.MethodName) ({ cls := "MessengerBoard$Scanner", name := "keyword", desc := "()Ljava/lang/String;" } : Jvm.MethodName)) ∈ lw_all := lw_g (lw_at lw_m8 198 rfl) rfl
theorem q1988 : (Jvm.Cond.stringRef "MessengerBoard$QueryParser" (79 : Nat) "not") ∈ lw_tbl := lw_at lw_m8 199 rfl
theorem q1989 : (Jvm.Cond.methodLink "MessengerBoard$QueryParser" (81 : Nat) ({ cls := "java/lang/String", name := "equals", desc := "(Ljava/lang/Object;)Z" } : Jvm.MethodName)) ∈ lw_all := lw_g (lw_at lw_m8 200 rfl) rfl
theorem q1990 : (Jvm.Cond.methodLink "MessengerBoard$QueryParser" (86 : Nat) ({ cls := "MessengerBoard$QueryParser", name := "enter", desc := "()V" } : Jvm.MethodName)) ∈ lw_all := lw_g (lw_at lw_m8 201 rfl) rfl
theorem q1991 : (Jvm.Cond.privateMethod ({ cls := "MessengerBoard$QueryParser", name := "enter", desc := "()V" } : Jvm.MethodName)) ∈ lw_tbl := lw_at lw_m8 202 rfl
theorem q1992 : (Jvm.Cond.instanceMethod ({ cls := "MessengerBoard$QueryParser", name := "enter", desc := "()V" } : Jvm.MethodName)) ∈ lw_all := lw_g (lw_at lw_m8 203 rfl) rfl
theorem q1993 : (Jvm.Cond.code ({ cls := "MessengerBoard$QueryParser", name := "enter", desc := "()V" } : Jvm.MethodName) prog_13_method_5_code (1 : Nat) (Option.none : Option Jvm.ClassFile.FieldType)) ∈ lw_all := lw_g (lw_at lw_m8 204 rfl) rfl
theorem q1994 : (Jvm.Cond.methodLink "MessengerBoard$QueryParser" (72 : Nat) ({ cls := "MessengerBoard$QueryParser", name := "next", desc := "()V" } : Jvm.MethodName)) ∈ lw_all := lw_g (lw_at lw_m8 205 rfl) rfl
theorem q1995 : (Jvm.Cond.sameMethod "MessengerBoard$QueryParser" "MessengerBoard$Scanner" "next" "()V") ∈ lw_all := lw_g (lw_at lw_m8 206 rfl) rfl
theorem q1996 : (Jvm.Cond.selects "MessengerBoard$QueryParser" ({ cls := "MessengerBoard$QueryParser", name := "next", desc := "()V" } : Jvm.MethodName) ({ cls := "MessengerBoard$Scanner", name := "next", desc := "()V" } : Jvm.MethodName)) ∈ lw_all := lw_g (lw_at lw_m8 207 rfl) rfl
theorem q1997 : (Jvm.Cond.classLink "MessengerBoard$QueryParser" (89 : Nat) "MessengerBoard$Not") ∈ lw_all := lw_g (lw_at lw_m8 208 rfl) rfl
theorem q1999 : (Jvm.Cond.methodLink "MessengerBoard$QueryParser" (91 : Nat) ({ cls := "MessengerBoard$Not", name := "<init>", desc := "(LMessengerBoard$Test;)V" } : Jvm.MethodName)) ∈ lw_all := lw_g (lw_at lw_m8 210 rfl) rfl
theorem q2010 : (Jvm.Cond.methodLink "MessengerBoard$QueryParser" (94 : Nat) ({ cls := "MessengerBoard$QueryParser", name := "isSign", desc := "(I)Z" } : Jvm.MethodName)) ∈ lw_all := lw_g (lw_at lw_m8 221 rfl) rfl
theorem q2011 : (Jvm.Cond.sameMethod "MessengerBoard$QueryParser" "MessengerBoard$Scanner" "isSign" "(I)Z") ∈ lw_all := lw_g (lw_at lw_m8 222 rfl) rfl
theorem q2013 : (Jvm.Cond.selects "MessengerBoard$QueryParser" ({ cls := "MessengerBoard$QueryParser", name := "isSign", desc := "(I)Z" } : Jvm.MethodName) ({ cls := "MessengerBoard$Scanner", name := "isSign", desc := "(I)Z" } : Jvm.MethodName)) ∈ lw_all := lw_g (lw_at lw_m8 224 rfl) rfl
theorem q2014 : (Jvm.Cond.methodLink "MessengerBoard$QueryParser" (98 : Nat) ({ cls := "MessengerBoard$QueryParser", name := "expectSign", desc := "(I)V" } : Jvm.MethodName)) ∈ lw_all := lw_g (lw_at lw_m8 225 rfl) rfl
theorem q2015 : (Jvm.Cond.sameMethod "MessengerBoard$QueryParser" "MessengerBoard$Scanner" "expectSign" "(I)V") ∈ lw_all := lw_g (lw_at lw_m8 226 rfl) rfl
theorem q2016 : (Jvm.Cond.selects "MessengerBoard$QueryParser" ({ cls := "MessengerBoard$QueryParser", name := "expectSign", desc := "(I)V" } : Jvm.MethodName) ({ cls := "MessengerBoard$Scanner", name := "expectSign", desc := "(I)V" } : Jvm.MethodName)) ∈ lw_all := lw_g (lw_at lw_m8 227 rfl) rfl
theorem q2017 : (Jvm.Cond.methodLink "MessengerBoard$QueryParser" (102 : Nat) ({ cls := "MessengerBoard$QueryParser", name := "operand", desc := "()I" } : Jvm.MethodName)) ∈ lw_all := lw_g (lw_at lw_m8 228 rfl) rfl
theorem q2018 : (Jvm.Cond.privateMethod ({ cls := "MessengerBoard$QueryParser", name := "operand", desc := "()I" } : Jvm.MethodName)) ∈ lw_tbl := lw_at lw_m8 229 rfl
theorem q2019 : (Jvm.Cond.instanceMethod ({ cls := "MessengerBoard$QueryParser", name := "operand", desc := "()I" } : Jvm.MethodName)) ∈ lw_all := lw_g (lw_at lw_m8 230 rfl) rfl
theorem q2020 : (Jvm.Cond.code ({ cls := "MessengerBoard$QueryParser", name := "operand", desc := "()I" } : Jvm.MethodName) prog_13_method_7_code (2 : Nat) (Option.some Jvm.ClassFile.FieldType.int)) ∈ lw_all := lw_g (lw_at lw_m8 231 rfl) rfl
theorem q2021 : (Jvm.Cond.fieldLink "MessengerBoard$QueryParser" (114 : Nat) "MessengerBoard$Token" "NUMBER" "LMessengerBoard$Token;") ∈ lw_all := lw_g (lw_at lw_m8 232 rfl) rfl
theorem q2022 : (Jvm.Cond.methodLink "MessengerBoard$QueryParser" (117 : Nat) ({ cls := "MessengerBoard$QueryParser", name := "number", desc := "(II)I" } : Jvm.MethodName)) ∈ lw_all := lw_g (lw_at lw_m8 233 rfl) rfl
theorem q2023 : (Jvm.Cond.sameMethod "MessengerBoard$QueryParser" "MessengerBoard$Scanner" "number" "(II)I") ∈ lw_all := lw_g (lw_at lw_m8 234 rfl) rfl
theorem q2024 : (Jvm.Cond.selects "MessengerBoard$QueryParser" ({ cls := "MessengerBoard$QueryParser", name := "number", desc := "(II)I" } : Jvm.MethodName) ({ cls := "MessengerBoard$Scanner", name := "number", desc := "(II)I" } : Jvm.MethodName)) ∈ lw_all := lw_g (lw_at lw_m8 235 rfl) rfl
theorem q2025 : (Jvm.Cond.methodLinkNest "MessengerBoard$QueryParser" (121 : Nat) ({ cls := "MessengerBoard", name := "propertyCode", desc := "(Ljava/lang/String;)I" } : Jvm.MethodName) "MessengerBoard") ∈ lw_tbl := lw_at lw_m8 236 rfl
theorem q2039 : (Jvm.Cond.methodLink "MessengerBoard$QueryParser" (106 : Nat) ({ cls := "MessengerBoard$QueryParser", name := "relationSign", desc := "()I" } : Jvm.MethodName)) ∈ lw_all := lw_g (lw_at lw_m9 10 rfl) rfl
theorem q2040 : (Jvm.Cond.sameMethod "MessengerBoard$QueryParser" "MessengerBoard$Scanner" "relationSign" "()I") ∈ lw_all := lw_g (lw_at lw_m9 11 rfl) rfl
theorem q2042 : (Jvm.Cond.selects "MessengerBoard$QueryParser" ({ cls := "MessengerBoard$QueryParser", name := "relationSign", desc := "()I" } : Jvm.MethodName) ({ cls := "MessengerBoard$Scanner", name := "relationSign", desc := "()I" } : Jvm.MethodName)) ∈ lw_all := lw_g (lw_at lw_m9 13 rfl) rfl
theorem q2045 : (Jvm.Cond.classLink "MessengerBoard$QueryParser" (109 : Nat) "MessengerBoard$Comparison") ∈ lw_all := lw_g (lw_at lw_m9 16 rfl) rfl
theorem q2047 : (Jvm.Cond.methodLink "MessengerBoard$QueryParser" (111 : Nat) ({ cls := "MessengerBoard$Comparison", name := "<init>", desc := "(III)V" } : Jvm.MethodName)) ∈ lw_all := lw_g (lw_at lw_m9 18 rfl) rfl
theorem q2061 : (Jvm.Cond.methodLink "MessengerBoard$QueryParser" (52 : Nat) ({ cls := "java/util/ArrayList", name := "add", desc := "(Ljava/lang/Object;)Z" } : Jvm.MethodName)) ∈ lw_all := lw_g (lw_at lw_m9 32 rfl) rfl
theorem q2062 : (Jvm.Cond.stringRef "MessengerBoard$QueryParser" (66 : Nat) "and") ∈ lw_tbl := lw_at lw_m9 33 rfl
theorem q2063 : (Jvm.Cond.classLink "MessengerBoard$QueryParser" (58 : Nat) "MessengerBoard$Joined") ∈ lw_all := lw_g (lw_at lw_m9 34 rfl) rfl
theorem q2065 : (Jvm.Cond.methodLink "MessengerBoard$QueryParser" (60 : Nat) ({ cls := "MessengerBoard$Joined", name := "<init>", desc := "(Ljava/util/ArrayList;Z)V" } : Jvm.MethodName)) ∈ lw_all := lw_g (lw_at lw_m9 36 rfl) rfl
theorem q2076 : (Jvm.Cond.stringRef "MessengerBoard$QueryParser" (56 : Nat) "or") ∈ lw_tbl := lw_at lw_m9 47 rfl
theorem q2077 : (Jvm.Cond.fieldLink "MessengerBoard$QueryParser" (39 : Nat) "MessengerBoard$Token" "END" "LMessengerBoard$Token;") ∈ lw_all := lw_g (lw_at lw_m9 48 rfl) rfl
theorem q2725 : (Jvm.Cond.selects "MessengerBoard$QueryParser" ({ cls := "MessengerBoard$Scanner", name := "check", desc := "(ZI)V" } : Jvm.MethodName) ({ cls := "MessengerBoard$Scanner", name := "check", desc := "(ZI)V" } : Jvm.MethodName)) ∈ lw_all := lw_g (lw_at lw_m11 216 rfl) rfl
theorem q2753 : (Jvm.Cond.castable "MessengerBoard$QueryParser" "java/lang/Object") ∈ lw_tbl := lw_at lw_m12 4 rfl
theorem in_X18 : ∀ w ∈ wsX180, w ∈ lw_all := lw_in wsX180 [1950, 1951, 1952, 1953, 1954, 1955, 1956, 1957, 1944, 1946, 1948] (by decide +kernel) (by decide +kernel)
/-! MessengerBoard$Test -/
set_option maxRecDepth 100000
def RX19 : String := "MessengerBoard$Test"
abbrev cX19_init : ByteArray := prog_17_method_1_code
def yX19_init : MethodName := ⟨RX19, "<init>", "()V"⟩
theorem dX19_init_0 : decode cX19_init 0 = .ok (.aload_n 0, 1) := by decide +kernel
theorem dX19_init_1 : decode cX19_init 1 = .ok (.invokespecial 1, 3) := by decide +kernel
theorem dX19_init_4 : decode cX19_init 4 = .ok (.return_, 1) := by decide +kernel
theorem q152 : (Jvm.Cond.initialized "MessengerBoard$Test") ∈ lw_all := lw_g (lw_at lw_m1 43 rfl) rfl
theorem q2003 : (Jvm.Cond.instanceMethod ({ cls := "MessengerBoard$Test", name := "<init>", desc := "()V" } : Jvm.MethodName)) ∈ lw_all := lw_g (lw_at lw_m8 214 rfl) rfl
theorem q2004 : (Jvm.Cond.code ({ cls := "MessengerBoard$Test", name := "<init>", desc := "()V" } : Jvm.MethodName) prog_17_method_1_code (1 : Nat) (Option.none : Option Jvm.ClassFile.FieldType)) ∈ lw_all := lw_g (lw_at lw_m8 215 rfl) rfl
theorem q2005 : (Jvm.Cond.methodLink "MessengerBoard$Test" (1 : Nat) ({ cls := "java/lang/Object", name := "<init>", desc := "()V" } : Jvm.MethodName)) ∈ lw_all := lw_g (lw_at lw_m8 216 rfl) rfl
theorem q2080 : (Jvm.Cond.declares ({ cls := "MessengerBoard$Test", name := "holds", desc := "(LMessengerBoard$State;I)Z" } : Jvm.MethodName)) ∈ lw_tbl := lw_at lw_m9 51 rfl
theorem q2081 : (Jvm.Cond.sameMethod "MessengerBoard$Test" "MessengerBoard$Test" "holds" "(LMessengerBoard$State;I)Z") ∈ lw_all := lw_g (lw_at lw_m9 52 rfl) rfl
/-! MessengerBoard$Not -/
set_option maxRecDepth 100000
def RX20 : String := "MessengerBoard$Not"
def TX20 : u_T := fun k => match k with
  | _ => ("MessengerBoard$Not", "operand", "LMessengerBoard$Test;", true)
def tyX20 : Nat → FieldType := fun k => match k with
  | _ => .object "MessengerBoard$Test"
abbrev wsX200 : List Cond := u_ws RX20 TX20 1
theorem nmX20 : ∀ a, a < 1 → ∀ b, b < 1 → a ≠ b → (TX20 a).2.1 ≠ (TX20 b).2.1 := by decide +kernel
theorem tyX20_ok : ∀ k, k < 1 → parseFieldDescriptor (TX20 k).2.2.1 = some (tyX20 k) := by decide +kernel
abbrev cX20_init : ByteArray := prog_9_method_1_code
def yX20_init : MethodName := ⟨RX20, "<init>", "(LMessengerBoard$Test;)V"⟩
def dkwX20_init_0 : List UInt8 := [42, 183, 0, 1, 42, 43, 181, 0, 7, 177]
abbrev dktX20_init_0 : List UInt8 := dkwX20_init_0 ++ []
theorem dksX20_init_0 : cX20_init.data.toList.drop 0 = dktX20_init_0 := by decide +kernel
theorem dX20_init_0 : decode cX20_init 0 = .ok (.aload_n 0, 1) := dk_42 (dk_at dksX20_init_0 0 rfl rfl)
theorem dX20_init_1 : decode cX20_init 1 = .ok (.invokespecial 1, 3) := dk_183 0 1 (dk_at dksX20_init_0 1 rfl rfl)
theorem dX20_init_4 : decode cX20_init 4 = .ok (.aload_n 0, 1) := dk_42 (dk_at dksX20_init_0 4 rfl rfl)
theorem dX20_init_5 : decode cX20_init 5 = .ok (.aload_n 1, 1) := dk_43 (dk_at dksX20_init_0 5 rfl rfl)
theorem dX20_init_6 : decode cX20_init 6 = .ok (.putfield 7, 3) := dk_181 0 7 (dk_at dksX20_init_0 6 rfl rfl)
theorem dX20_init_9 : decode cX20_init 9 = .ok (.return_, 1) := dk_177 (dk_at dksX20_init_0 9 rfl rfl)
abbrev cX20_holds : ByteArray := prog_9_method_2_code
def yX20_holds : MethodName := ⟨RX20, "holds", "(LMessengerBoard$State;I)Z"⟩
def dkwX20_holds_0 : List UInt8 := [42, 180, 0, 7, 43, 28, 182, 0, 13, 154, 0, 7, 4, 167, 0, 4, 3, 172]
abbrev dktX20_holds_0 : List UInt8 := dkwX20_holds_0 ++ []
theorem dksX20_holds_0 : cX20_holds.data.toList.drop 0 = dktX20_holds_0 := by decide +kernel
theorem dX20_holds_0 : decode cX20_holds 0 = .ok (.aload_n 0, 1) := dk_42 (dk_at dksX20_holds_0 0 rfl rfl)
theorem dX20_holds_1 : decode cX20_holds 1 = .ok (.getfield 7, 3) := dk_180 0 7 (dk_at dksX20_holds_0 1 rfl rfl)
theorem dX20_holds_4 : decode cX20_holds 4 = .ok (.aload_n 1, 1) := dk_43 (dk_at dksX20_holds_0 4 rfl rfl)
theorem dX20_holds_5 : decode cX20_holds 5 = .ok (.iload_n 2, 1) := dk_28 (dk_at dksX20_holds_0 5 rfl rfl)
theorem dX20_holds_6 : decode cX20_holds 6 = .ok (.invokevirtual 13, 3) := dk_182 0 13 (dk_at dksX20_holds_0 6 rfl rfl)
theorem dX20_holds_9 : decode cX20_holds 9 = .ok (.ifCond .ne 7, 3) := dk_154 0 7 (dk_at dksX20_holds_0 9 rfl rfl)
theorem dX20_holds_12 : decode cX20_holds 12 = .ok (.iconst 1, 1) := dk_4 (dk_at dksX20_holds_0 12 rfl rfl)
theorem dX20_holds_13 : decode cX20_holds 13 = .ok (.goto 4, 3) := dk_167 0 4 (dk_at dksX20_holds_0 13 rfl rfl)
theorem dX20_holds_16 : decode cX20_holds 16 = .ok (.iconst 0, 1) := dk_3 (dk_at dksX20_holds_0 16 rfl rfl)
theorem dX20_holds_17 : decode cX20_holds 17 = .ok (.ireturn, 1) := dk_172 (dk_at dksX20_holds_0 17 rfl rfl)
theorem q153 : (Jvm.Cond.initialized "MessengerBoard$Not") ∈ lw_all := lw_g (lw_at lw_m1 44 rfl) rfl
theorem q1183 : (Jvm.Cond.selects "MessengerBoard$Not" ({ cls := "java/lang/Object", name := "getClass", desc := "()Ljava/lang/Class;" } : Jvm.MethodName) ({ cls := "java/lang/Object", name := "getClass", desc := "()Ljava/lang/Class;" } : Jvm.MethodName)) ∈ lw_all := lw_g (lw_at lw_m5 114 rfl) rfl
theorem q1998 : (Jvm.Cond.instantiable "MessengerBoard$Not" (1 : Nat)) ∈ lw_all := lw_g (lw_at lw_m8 209 rfl) rfl
theorem q2000 : (Jvm.Cond.instanceMethod ({ cls := "MessengerBoard$Not", name := "<init>", desc := "(LMessengerBoard$Test;)V" } : Jvm.MethodName)) ∈ lw_all := lw_g (lw_at lw_m8 211 rfl) rfl
theorem q2001 : (Jvm.Cond.code ({ cls := "MessengerBoard$Not", name := "<init>", desc := "(LMessengerBoard$Test;)V" } : Jvm.MethodName) prog_9_method_1_code (2 : Nat) (Option.none : Option Jvm.ClassFile.FieldType)) ∈ lw_all := lw_g (lw_at lw_m8 212 rfl) rfl
theorem q2002 : (Jvm.Cond.methodLinkNest "MessengerBoard$Not" (1 : Nat) ({ cls := "MessengerBoard$Test", name := "<init>", desc := "()V" } : Jvm.MethodName) "MessengerBoard") ∈ lw_tbl := lw_at lw_m8 213 rfl
theorem q2006 : (Jvm.Cond.fieldLink "MessengerBoard$Not" (7 : Nat) "MessengerBoard$Not" "operand" "LMessengerBoard$Test;") ∈ lw_all := lw_g (lw_at lw_m8 217 rfl) rfl
theorem q2007 : (Jvm.Cond.laysFinal "MessengerBoard$Not" "MessengerBoard$Not" "operand" "LMessengerBoard$Test;") ∈ lw_all := lw_g (lw_at lw_m8 218 rfl) rfl
theorem q2008 : (Jvm.Cond.soleField "MessengerBoard$Not" "operand") ∈ lw_all := lw_g (lw_at lw_m8 219 rfl) rfl
theorem q2009 : (Jvm.Cond.superclass "MessengerBoard$Not" "MessengerBoard$Test") ∈ lw_all := lw_g (lw_at lw_m8 220 rfl) rfl
theorem q2100 : (Jvm.Cond.instanceMethod ({ cls := "MessengerBoard$Not", name := "holds", desc := "(LMessengerBoard$State;I)Z" } : Jvm.MethodName)) ∈ lw_all := lw_g (lw_at lw_m9 71 rfl) rfl
theorem q2101 : (Jvm.Cond.code ({ cls := "MessengerBoard$Not", name := "holds", desc := "(LMessengerBoard$State;I)Z" } : Jvm.MethodName) prog_9_method_2_code (3 : Nat) (Option.some Jvm.ClassFile.FieldType.boolean)) ∈ lw_all := lw_g (lw_at lw_m9 72 rfl) rfl
theorem q2102 : (Jvm.Cond.methodLink "MessengerBoard$Not" (13 : Nat) ({ cls := "MessengerBoard$Test", name := "holds", desc := "(LMessengerBoard$State;I)Z" } : Jvm.MethodName)) ∈ lw_all := lw_g (lw_at lw_m9 73 rfl) rfl
theorem q2103 : (Jvm.Cond.selects "MessengerBoard$Not" ({ cls := "MessengerBoard$Test", name := "holds", desc := "(LMessengerBoard$State;I)Z" } : Jvm.MethodName) ({ cls := "MessengerBoard$Not", name := "holds", desc := "(LMessengerBoard$State;I)Z" } : Jvm.MethodName)) ∈ lw_all := lw_g (lw_at lw_m9 74 rfl) rfl
theorem q2729 : (Jvm.Cond.castable "MessengerBoard$Not" "MessengerBoard$Test") ∈ lw_tbl := lw_at lw_m11 220 rfl
theorem q2754 : (Jvm.Cond.castable "MessengerBoard$Not" "java/lang/Object") ∈ lw_tbl := lw_at lw_m12 5 rfl
theorem in_X20 : ∀ w ∈ wsX200, w ∈ lw_all := lw_in wsX200 [2007] (by decide +kernel) (by decide +kernel)
/-! MessengerBoard$Comparison -/
set_option maxRecDepth 100000
def RX21 : String := "MessengerBoard$Comparison"
def TX21 : u_T := fun k => match k with
  | 0 => ("MessengerBoard$Comparison", "left", "I", true)
  | 1 => ("MessengerBoard$Comparison", "sign", "I", true)
  | _ => ("MessengerBoard$Comparison", "right", "I", true)
def tyX21 : Nat → FieldType := fun k => match k with
  | 0 => .int
  | 1 => .int
  | _ => .int
abbrev wsX210 : List Cond := u_ws RX21 TX21 3
theorem nmX21 : ∀ a, a < 3 → ∀ b, b < 3 → a ≠ b → (TX21 a).2.1 ≠ (TX21 b).2.1 := by decide +kernel
theorem tyX21_ok : ∀ k, k < 3 → parseFieldDescriptor (TX21 k).2.2.1 = some (tyX21 k) := by decide +kernel
abbrev cX21_init : ByteArray := prog_6_method_1_code
def yX21_init : MethodName := ⟨RX21, "<init>", "(III)V"⟩
def dkwX21_init_0 : List UInt8 := [42, 183, 0, 1, 42, 27, 181, 0, 7, 42, 28, 181, 0, 13, 42, 29, 181, 0, 16, 177]
abbrev dktX21_init_0 : List UInt8 := dkwX21_init_0 ++ []
theorem dksX21_init_0 : cX21_init.data.toList.drop 0 = dktX21_init_0 := by decide +kernel
theorem dX21_init_0 : decode cX21_init 0 = .ok (.aload_n 0, 1) := dk_42 (dk_at dksX21_init_0 0 rfl rfl)
theorem dX21_init_1 : decode cX21_init 1 = .ok (.invokespecial 1, 3) := dk_183 0 1 (dk_at dksX21_init_0 1 rfl rfl)
theorem dX21_init_4 : decode cX21_init 4 = .ok (.aload_n 0, 1) := dk_42 (dk_at dksX21_init_0 4 rfl rfl)
theorem dX21_init_5 : decode cX21_init 5 = .ok (.iload_n 1, 1) := dk_27 (dk_at dksX21_init_0 5 rfl rfl)
theorem dX21_init_6 : decode cX21_init 6 = .ok (.putfield 7, 3) := dk_181 0 7 (dk_at dksX21_init_0 6 rfl rfl)
theorem dX21_init_9 : decode cX21_init 9 = .ok (.aload_n 0, 1) := dk_42 (dk_at dksX21_init_0 9 rfl rfl)
theorem dX21_init_10 : decode cX21_init 10 = .ok (.iload_n 2, 1) := dk_28 (dk_at dksX21_init_0 10 rfl rfl)
theorem dX21_init_11 : decode cX21_init 11 = .ok (.putfield 13, 3) := dk_181 0 13 (dk_at dksX21_init_0 11 rfl rfl)
theorem dX21_init_14 : decode cX21_init 14 = .ok (.aload_n 0, 1) := dk_42 (dk_at dksX21_init_0 14 rfl rfl)
theorem dX21_init_15 : decode cX21_init 15 = .ok (.iload_n 3, 1) := dk_29 (dk_at dksX21_init_0 15 rfl rfl)
theorem dX21_init_16 : decode cX21_init 16 = .ok (.putfield 16, 3) := dk_181 0 16 (dk_at dksX21_init_0 16 rfl rfl)
theorem dX21_init_19 : decode cX21_init 19 = .ok (.return_, 1) := dk_177 (dk_at dksX21_init_0 19 rfl rfl)
abbrev cX21_holds : ByteArray := prog_6_method_2_code
def yX21_holds : MethodName := ⟨RX21, "holds", "(LMessengerBoard$State;I)Z"⟩
def dkwX21_holds_3 : List UInt8 := [21, 4, 160, 0, 7, 4, 167, 0, 4, 3, 172]
abbrev dktX21_holds_3 : List UInt8 := dkwX21_holds_3 ++ []
def dkwX21_holds_2 : List UInt8 := [180, 0, 13, 16, 62, 160, 0, 17, 29, 21, 4, 164, 0, 7, 4, 167, 0, 18, 3, 167, 0, 14, 29]
abbrev dktX21_holds_2 : List UInt8 := dkwX21_holds_2 ++ dktX21_holds_3
def dkwX21_holds_1 : List UInt8 := [180, 0, 13, 16, 60, 160, 0, 17, 29, 21, 4, 162, 0, 7, 4, 167, 0, 41, 3, 167, 0, 37, 42]
abbrev dktX21_holds_1 : List UInt8 := dkwX21_holds_1 ++ dktX21_holds_2
def dkwX21_holds_0 : List UInt8 := [42, 180, 0, 7, 43, 28, 184, 0, 19, 62, 42, 180, 0, 16, 43, 28, 184, 0, 19, 54, 4, 42]
abbrev dktX21_holds_0 : List UInt8 := dkwX21_holds_0 ++ dktX21_holds_1
theorem dksX21_holds_0 : cX21_holds.data.toList.drop 0 = dktX21_holds_0 := by decide +kernel
theorem dksX21_holds_1 : cX21_holds.data.toList.drop 22 = dktX21_holds_1 := dk_seg dksX21_holds_0 22 rfl rfl
theorem dksX21_holds_2 : cX21_holds.data.toList.drop 45 = dktX21_holds_2 := dk_seg dksX21_holds_1 23 rfl rfl
theorem dksX21_holds_3 : cX21_holds.data.toList.drop 68 = dktX21_holds_3 := dk_seg dksX21_holds_2 23 rfl rfl
theorem dX21_holds_0 : decode cX21_holds 0 = .ok (.aload_n 0, 1) := dk_42 (dk_at dksX21_holds_0 0 rfl rfl)
theorem dX21_holds_1 : decode cX21_holds 1 = .ok (.getfield 7, 3) := dk_180 0 7 (dk_at dksX21_holds_0 1 rfl rfl)
theorem dX21_holds_4 : decode cX21_holds 4 = .ok (.aload_n 1, 1) := dk_43 (dk_at dksX21_holds_0 4 rfl rfl)
theorem dX21_holds_5 : decode cX21_holds 5 = .ok (.iload_n 2, 1) := dk_28 (dk_at dksX21_holds_0 5 rfl rfl)
theorem dX21_holds_6 : decode cX21_holds 6 = .ok (.invokestatic 19, 3) := dk_184 0 19 (dk_at dksX21_holds_0 6 rfl rfl)
theorem dX21_holds_9 : decode cX21_holds 9 = .ok (.istore_n 3, 1) := dk_62 (dk_at dksX21_holds_0 9 rfl rfl)
theorem dX21_holds_10 : decode cX21_holds 10 = .ok (.aload_n 0, 1) := dk_42 (dk_at dksX21_holds_0 10 rfl rfl)
theorem dX21_holds_11 : decode cX21_holds 11 = .ok (.getfield 16, 3) := dk_180 0 16 (dk_at dksX21_holds_0 11 rfl rfl)
theorem dX21_holds_14 : decode cX21_holds 14 = .ok (.aload_n 1, 1) := dk_43 (dk_at dksX21_holds_0 14 rfl rfl)
theorem dX21_holds_15 : decode cX21_holds 15 = .ok (.iload_n 2, 1) := dk_28 (dk_at dksX21_holds_0 15 rfl rfl)
theorem dX21_holds_16 : decode cX21_holds 16 = .ok (.invokestatic 19, 3) := dk_184 0 19 (dk_at dksX21_holds_0 16 rfl rfl)
theorem dX21_holds_19 : decode cX21_holds 19 = .ok (.istore 4, 2) := dk_54 4 (dk_at dksX21_holds_0 19 rfl rfl)
theorem dX21_holds_21 : decode cX21_holds 21 = .ok (.aload_n 0, 1) := dk_42 (dk_at dksX21_holds_0 21 rfl rfl)
theorem dX21_holds_22 : decode cX21_holds 22 = .ok (.getfield 13, 3) := dk_180 0 13 (dk_at dksX21_holds_1 0 rfl rfl)
theorem dX21_holds_25 : decode cX21_holds 25 = .ok (.bipush 60, 2) := dk_16 60 (dk_at dksX21_holds_1 3 rfl rfl)
theorem dX21_holds_27 : decode cX21_holds 27 = .ok (.if_icmp .ne 17, 3) := dk_160 0 17 (dk_at dksX21_holds_1 5 rfl rfl)
theorem dX21_holds_30 : decode cX21_holds 30 = .ok (.iload_n 3, 1) := dk_29 (dk_at dksX21_holds_1 8 rfl rfl)
theorem dX21_holds_31 : decode cX21_holds 31 = .ok (.iload 4, 2) := dk_21 4 (dk_at dksX21_holds_1 9 rfl rfl)
theorem dX21_holds_33 : decode cX21_holds 33 = .ok (.if_icmp .ge 7, 3) := dk_162 0 7 (dk_at dksX21_holds_1 11 rfl rfl)
theorem dX21_holds_36 : decode cX21_holds 36 = .ok (.iconst 1, 1) := dk_4 (dk_at dksX21_holds_1 14 rfl rfl)
theorem dX21_holds_37 : decode cX21_holds 37 = .ok (.goto 41, 3) := dk_167 0 41 (dk_at dksX21_holds_1 15 rfl rfl)
theorem dX21_holds_40 : decode cX21_holds 40 = .ok (.iconst 0, 1) := dk_3 (dk_at dksX21_holds_1 18 rfl rfl)
theorem dX21_holds_41 : decode cX21_holds 41 = .ok (.goto 37, 3) := dk_167 0 37 (dk_at dksX21_holds_1 19 rfl rfl)
theorem dX21_holds_44 : decode cX21_holds 44 = .ok (.aload_n 0, 1) := dk_42 (dk_at dksX21_holds_1 22 rfl rfl)
theorem dX21_holds_45 : decode cX21_holds 45 = .ok (.getfield 13, 3) := dk_180 0 13 (dk_at dksX21_holds_2 0 rfl rfl)
theorem dX21_holds_48 : decode cX21_holds 48 = .ok (.bipush 62, 2) := dk_16 62 (dk_at dksX21_holds_2 3 rfl rfl)
theorem dX21_holds_50 : decode cX21_holds 50 = .ok (.if_icmp .ne 17, 3) := dk_160 0 17 (dk_at dksX21_holds_2 5 rfl rfl)
theorem dX21_holds_53 : decode cX21_holds 53 = .ok (.iload_n 3, 1) := dk_29 (dk_at dksX21_holds_2 8 rfl rfl)
theorem dX21_holds_54 : decode cX21_holds 54 = .ok (.iload 4, 2) := dk_21 4 (dk_at dksX21_holds_2 9 rfl rfl)
theorem dX21_holds_56 : decode cX21_holds 56 = .ok (.if_icmp .le 7, 3) := dk_164 0 7 (dk_at dksX21_holds_2 11 rfl rfl)
theorem dX21_holds_59 : decode cX21_holds 59 = .ok (.iconst 1, 1) := dk_4 (dk_at dksX21_holds_2 14 rfl rfl)
theorem dX21_holds_60 : decode cX21_holds 60 = .ok (.goto 18, 3) := dk_167 0 18 (dk_at dksX21_holds_2 15 rfl rfl)
theorem dX21_holds_63 : decode cX21_holds 63 = .ok (.iconst 0, 1) := dk_3 (dk_at dksX21_holds_2 18 rfl rfl)
theorem dX21_holds_64 : decode cX21_holds 64 = .ok (.goto 14, 3) := dk_167 0 14 (dk_at dksX21_holds_2 19 rfl rfl)
theorem dX21_holds_67 : decode cX21_holds 67 = .ok (.iload_n 3, 1) := dk_29 (dk_at dksX21_holds_2 22 rfl rfl)
theorem dX21_holds_68 : decode cX21_holds 68 = .ok (.iload 4, 2) := dk_21 4 (dk_at dksX21_holds_3 0 rfl rfl)
theorem dX21_holds_70 : decode cX21_holds 70 = .ok (.if_icmp .ne 7, 3) := dk_160 0 7 (dk_at dksX21_holds_3 2 rfl rfl)
theorem dX21_holds_73 : decode cX21_holds 73 = .ok (.iconst 1, 1) := dk_4 (dk_at dksX21_holds_3 5 rfl rfl)
theorem dX21_holds_74 : decode cX21_holds 74 = .ok (.goto 4, 3) := dk_167 0 4 (dk_at dksX21_holds_3 6 rfl rfl)
theorem dX21_holds_77 : decode cX21_holds 77 = .ok (.iconst 0, 1) := dk_3 (dk_at dksX21_holds_3 9 rfl rfl)
theorem dX21_holds_78 : decode cX21_holds 78 = .ok (.ireturn, 1) := dk_172 (dk_at dksX21_holds_3 10 rfl rfl)
abbrev cX21_value : ByteArray := prog_6_method_3_code
def yX21_value : MethodName := ⟨RX21, "value", "(ILMessengerBoard$State;I)I"⟩
def dkwX21_value_0 : List UInt8 := [26, 156, 0, 7, 2, 26, 100, 172, 26, 43, 180, 0, 23, 28, 182, 0, 29, 192, 0, 35, 184, 0, 37, 172]
abbrev dktX21_value_0 : List UInt8 := dkwX21_value_0 ++ []
theorem dksX21_value_0 : cX21_value.data.toList.drop 0 = dktX21_value_0 := by decide +kernel
theorem dX21_value_0 : decode cX21_value 0 = .ok (.iload_n 0, 1) := dk_26 (dk_at dksX21_value_0 0 rfl rfl)
theorem dX21_value_1 : decode cX21_value 1 = .ok (.ifCond .ge 7, 3) := dk_156 0 7 (dk_at dksX21_value_0 1 rfl rfl)
theorem dX21_value_4 : decode cX21_value 4 = .ok (.iconst (-1), 1) := dk_2 (dk_at dksX21_value_0 4 rfl rfl)
theorem dX21_value_5 : decode cX21_value 5 = .ok (.iload_n 0, 1) := dk_26 (dk_at dksX21_value_0 5 rfl rfl)
theorem dX21_value_6 : decode cX21_value 6 = .ok (.isub, 1) := dk_100 (dk_at dksX21_value_0 6 rfl rfl)
theorem dX21_value_7 : decode cX21_value 7 = .ok (.ireturn, 1) := dk_172 (dk_at dksX21_value_0 7 rfl rfl)
theorem dX21_value_8 : decode cX21_value 8 = .ok (.iload_n 0, 1) := dk_26 (dk_at dksX21_value_0 8 rfl rfl)
theorem dX21_value_9 : decode cX21_value 9 = .ok (.aload_n 1, 1) := dk_43 (dk_at dksX21_value_0 9 rfl rfl)
theorem dX21_value_10 : decode cX21_value 10 = .ok (.getfield 23, 3) := dk_180 0 23 (dk_at dksX21_value_0 10 rfl rfl)
theorem dX21_value_13 : decode cX21_value 13 = .ok (.iload_n 2, 1) := dk_28 (dk_at dksX21_value_0 13 rfl rfl)
theorem dX21_value_14 : decode cX21_value 14 = .ok (.invokevirtual 29, 3) := dk_182 0 29 (dk_at dksX21_value_0 14 rfl rfl)
theorem dX21_value_17 : decode cX21_value 17 = .ok (.checkcast 35, 3) := dk_192 0 35 (dk_at dksX21_value_0 17 rfl rfl)
theorem dX21_value_20 : decode cX21_value 20 = .ok (.invokestatic 37, 3) := dk_184 0 37 (dk_at dksX21_value_0 20 rfl rfl)
theorem dX21_value_23 : decode cX21_value 23 = .ok (.ireturn, 1) := dk_172 (dk_at dksX21_value_0 23 rfl rfl)
theorem q154 : (Jvm.Cond.initialized "MessengerBoard$Comparison") ∈ lw_all := lw_g (lw_at lw_m1 45 rfl) rfl
theorem q234 : (Jvm.Cond.fieldLinkNest "MessengerBoard$Comparison" (23 : Nat) "MessengerBoard$State" "orders" "Ljava/util/ArrayList;" "MessengerBoard") ∈ lw_tbl := lw_at lw_m1 125 rfl
theorem q1180 : (Jvm.Cond.selects "MessengerBoard$Comparison" ({ cls := "java/lang/Object", name := "getClass", desc := "()Ljava/lang/Class;" } : Jvm.MethodName) ({ cls := "java/lang/Object", name := "getClass", desc := "()Ljava/lang/Class;" } : Jvm.MethodName)) ∈ lw_all := lw_g (lw_at lw_m5 111 rfl) rfl
theorem q2046 : (Jvm.Cond.instantiable "MessengerBoard$Comparison" (3 : Nat)) ∈ lw_all := lw_g (lw_at lw_m9 17 rfl) rfl
theorem q2048 : (Jvm.Cond.instanceMethod ({ cls := "MessengerBoard$Comparison", name := "<init>", desc := "(III)V" } : Jvm.MethodName)) ∈ lw_all := lw_g (lw_at lw_m9 19 rfl) rfl
theorem q2049 : (Jvm.Cond.code ({ cls := "MessengerBoard$Comparison", name := "<init>", desc := "(III)V" } : Jvm.MethodName) prog_6_method_1_code (4 : Nat) (Option.none : Option Jvm.ClassFile.FieldType)) ∈ lw_all := lw_g (lw_at lw_m9 20 rfl) rfl
theorem q2050 : (Jvm.Cond.methodLinkNest "MessengerBoard$Comparison" (1 : Nat) ({ cls := "MessengerBoard$Test", name := "<init>", desc := "()V" } : Jvm.MethodName) "MessengerBoard") ∈ lw_tbl := lw_at lw_m9 21 rfl
theorem q2051 : (Jvm.Cond.fieldLink "MessengerBoard$Comparison" (7 : Nat) "MessengerBoard$Comparison" "left" "I") ∈ lw_all := lw_g (lw_at lw_m9 22 rfl) rfl
theorem q2052 : (Jvm.Cond.fieldLink "MessengerBoard$Comparison" (13 : Nat) "MessengerBoard$Comparison" "sign" "I") ∈ lw_all := lw_g (lw_at lw_m9 23 rfl) rfl
theorem q2053 : (Jvm.Cond.fieldLink "MessengerBoard$Comparison" (16 : Nat) "MessengerBoard$Comparison" "right" "I") ∈ lw_all := lw_g (lw_at lw_m9 24 rfl) rfl
theorem q2054 : (Jvm.Cond.laysFinal "MessengerBoard$Comparison" "MessengerBoard$Comparison" "left" "I") ∈ lw_all := lw_g (lw_at lw_m9 25 rfl) rfl
theorem q2055 : (Jvm.Cond.soleField "MessengerBoard$Comparison" "left") ∈ lw_all := lw_g (lw_at lw_m9 26 rfl) rfl
theorem q2056 : (Jvm.Cond.laysFinal "MessengerBoard$Comparison" "MessengerBoard$Comparison" "sign" "I") ∈ lw_all := lw_g (lw_at lw_m9 27 rfl) rfl
theorem q2057 : (Jvm.Cond.soleField "MessengerBoard$Comparison" "sign") ∈ lw_all := lw_g (lw_at lw_m9 28 rfl) rfl
theorem q2058 : (Jvm.Cond.laysFinal "MessengerBoard$Comparison" "MessengerBoard$Comparison" "right" "I") ∈ lw_all := lw_g (lw_at lw_m9 29 rfl) rfl
theorem q2059 : (Jvm.Cond.soleField "MessengerBoard$Comparison" "right") ∈ lw_all := lw_g (lw_at lw_m9 30 rfl) rfl
theorem q2060 : (Jvm.Cond.superclass "MessengerBoard$Comparison" "MessengerBoard$Test") ∈ lw_all := lw_g (lw_at lw_m9 31 rfl) rfl
theorem q2082 : (Jvm.Cond.selects "MessengerBoard$Comparison" ({ cls := "MessengerBoard$Test", name := "holds", desc := "(LMessengerBoard$State;I)Z" } : Jvm.MethodName) ({ cls := "MessengerBoard$Comparison", name := "holds", desc := "(LMessengerBoard$State;I)Z" } : Jvm.MethodName)) ∈ lw_all := lw_g (lw_at lw_m9 53 rfl) rfl
theorem q2083 : (Jvm.Cond.instanceMethod ({ cls := "MessengerBoard$Comparison", name := "holds", desc := "(LMessengerBoard$State;I)Z" } : Jvm.MethodName)) ∈ lw_all := lw_g (lw_at lw_m9 54 rfl) rfl
theorem q2084 : (Jvm.Cond.code ({ cls := "MessengerBoard$Comparison", name := "holds", desc := "(LMessengerBoard$State;I)Z" } : Jvm.MethodName) prog_6_method_2_code (5 : Nat) (Option.some Jvm.ClassFile.FieldType.boolean)) ∈ lw_all := lw_g (lw_at lw_m9 55 rfl) rfl
theorem q2085 : (Jvm.Cond.methodLink "MessengerBoard$Comparison" (19 : Nat) ({ cls := "MessengerBoard$Comparison", name := "value", desc := "(ILMessengerBoard$State;I)I" } : Jvm.MethodName)) ∈ lw_all := lw_g (lw_at lw_m9 56 rfl) rfl
theorem q2086 : (Jvm.Cond.static ({ cls := "MessengerBoard$Comparison", name := "value", desc := "(ILMessengerBoard$State;I)I" } : Jvm.MethodName)) ∈ lw_all := lw_g (lw_at lw_m9 57 rfl) rfl
theorem q2087 : (Jvm.Cond.code ({ cls := "MessengerBoard$Comparison", name := "value", desc := "(ILMessengerBoard$State;I)I" } : Jvm.MethodName) prog_6_method_3_code (3 : Nat) (Option.some Jvm.ClassFile.FieldType.int)) ∈ lw_all := lw_g (lw_at lw_m9 58 rfl) rfl
theorem q2088 : (Jvm.Cond.methodLink "MessengerBoard$Comparison" (29 : Nat) ({ cls := "java/util/ArrayList", name := "get", desc := "(I)Ljava/lang/Object;" } : Jvm.MethodName)) ∈ lw_all := lw_g (lw_at lw_m9 59 rfl) rfl
theorem q2089 : (Jvm.Cond.classLink "MessengerBoard$Comparison" (35 : Nat) "MessengerBoard$Order") ∈ lw_all := lw_g (lw_at lw_m9 60 rfl) rfl
theorem q2090 : (Jvm.Cond.methodLinkNest "MessengerBoard$Comparison" (37 : Nat) ({ cls := "MessengerBoard", name := "of", desc := "(ILMessengerBoard$Order;)I" } : Jvm.MethodName) "MessengerBoard") ∈ lw_tbl := lw_at lw_m9 61 rfl
theorem q2727 : (Jvm.Cond.castable "MessengerBoard$Comparison" "MessengerBoard$Test") ∈ lw_tbl := lw_at lw_m11 218 rfl
theorem q2755 : (Jvm.Cond.castable "MessengerBoard$Comparison" "java/lang/Object") ∈ lw_tbl := lw_at lw_m12 6 rfl
theorem in_X21 : ∀ w ∈ wsX210, w ∈ lw_all := lw_in wsX210 [2054, 2056, 2058] (by decide +kernel) (by decide +kernel)
/-! MessengerBoard$Joined -/
set_option maxRecDepth 100000
def RX22 : String := "MessengerBoard$Joined"
def TX22 : u_T := fun k => match k with
  | 0 => ("MessengerBoard$Joined", "operands", "Ljava/util/ArrayList;", true)
  | _ => ("MessengerBoard$Joined", "isAny", "Z", true)
def tyX22 : Nat → FieldType := fun k => match k with
  | 0 => .object "java/util/ArrayList"
  | _ => .boolean
abbrev wsX220 : List Cond := u_ws RX22 TX22 2
theorem nmX22 : ∀ a, a < 2 → ∀ b, b < 2 → a ≠ b → (TX22 a).2.1 ≠ (TX22 b).2.1 := by decide +kernel
theorem tyX22_ok : ∀ k, k < 2 → parseFieldDescriptor (TX22 k).2.2.1 = some (tyX22 k) := by decide +kernel
abbrev cX22_init : ByteArray := prog_8_method_1_code
def yX22_init : MethodName := ⟨RX22, "<init>", "(Ljava/util/ArrayList;Z)V"⟩
def dkwX22_init_0 : List UInt8 := [42, 183, 0, 1, 42, 43, 181, 0, 7, 42, 28, 181, 0, 13, 177]
abbrev dktX22_init_0 : List UInt8 := dkwX22_init_0 ++ []
theorem dksX22_init_0 : cX22_init.data.toList.drop 0 = dktX22_init_0 := by decide +kernel
theorem dX22_init_0 : decode cX22_init 0 = .ok (.aload_n 0, 1) := dk_42 (dk_at dksX22_init_0 0 rfl rfl)
theorem dX22_init_1 : decode cX22_init 1 = .ok (.invokespecial 1, 3) := dk_183 0 1 (dk_at dksX22_init_0 1 rfl rfl)
theorem dX22_init_4 : decode cX22_init 4 = .ok (.aload_n 0, 1) := dk_42 (dk_at dksX22_init_0 4 rfl rfl)
theorem dX22_init_5 : decode cX22_init 5 = .ok (.aload_n 1, 1) := dk_43 (dk_at dksX22_init_0 5 rfl rfl)
theorem dX22_init_6 : decode cX22_init 6 = .ok (.putfield 7, 3) := dk_181 0 7 (dk_at dksX22_init_0 6 rfl rfl)
theorem dX22_init_9 : decode cX22_init 9 = .ok (.aload_n 0, 1) := dk_42 (dk_at dksX22_init_0 9 rfl rfl)
theorem dX22_init_10 : decode cX22_init 10 = .ok (.iload_n 2, 1) := dk_28 (dk_at dksX22_init_0 10 rfl rfl)
theorem dX22_init_11 : decode cX22_init 11 = .ok (.putfield 13, 3) := dk_181 0 13 (dk_at dksX22_init_0 11 rfl rfl)
theorem dX22_init_14 : decode cX22_init 14 = .ok (.return_, 1) := dk_177 (dk_at dksX22_init_0 14 rfl rfl)
abbrev cX22_holds : ByteArray := prog_8_method_2_code
def yX22_holds : MethodName := ⟨RX22, "holds", "(LMessengerBoard$State;I)Z"⟩
def dkwX22_holds_2 : List UInt8 := [180, 0, 13, 154, 0, 7, 4, 167, 0, 4, 3, 172]
abbrev dktX22_holds_2 : List UInt8 := dkwX22_holds_2 ++ []
def dkwX22_holds_1 : List UInt8 := [43, 28, 182, 0, 27, 42, 180, 0, 13, 160, 0, 8, 42, 180, 0, 13, 172, 132, 3, 1, 167, 255, 214, 42]
abbrev dktX22_holds_1 : List UInt8 := dkwX22_holds_1 ++ dktX22_holds_2
def dkwX22_holds_0 : List UInt8 := [3, 62, 29, 42, 180, 0, 7, 182, 0, 17, 162, 0, 37, 42, 180, 0, 7, 29, 182, 0, 23, 192, 0, 2]
abbrev dktX22_holds_0 : List UInt8 := dkwX22_holds_0 ++ dktX22_holds_1
theorem dksX22_holds_0 : cX22_holds.data.toList.drop 0 = dktX22_holds_0 := by decide +kernel
theorem dksX22_holds_1 : cX22_holds.data.toList.drop 24 = dktX22_holds_1 := dk_seg dksX22_holds_0 24 rfl rfl
theorem dksX22_holds_2 : cX22_holds.data.toList.drop 48 = dktX22_holds_2 := dk_seg dksX22_holds_1 24 rfl rfl
theorem dX22_holds_0 : decode cX22_holds 0 = .ok (.iconst 0, 1) := dk_3 (dk_at dksX22_holds_0 0 rfl rfl)
theorem dX22_holds_1 : decode cX22_holds 1 = .ok (.istore_n 3, 1) := dk_62 (dk_at dksX22_holds_0 1 rfl rfl)
theorem dX22_holds_2 : decode cX22_holds 2 = .ok (.iload_n 3, 1) := dk_29 (dk_at dksX22_holds_0 2 rfl rfl)
theorem dX22_holds_3 : decode cX22_holds 3 = .ok (.aload_n 0, 1) := dk_42 (dk_at dksX22_holds_0 3 rfl rfl)
theorem dX22_holds_4 : decode cX22_holds 4 = .ok (.getfield 7, 3) := dk_180 0 7 (dk_at dksX22_holds_0 4 rfl rfl)
theorem dX22_holds_7 : decode cX22_holds 7 = .ok (.invokevirtual 17, 3) := dk_182 0 17 (dk_at dksX22_holds_0 7 rfl rfl)
theorem dX22_holds_10 : decode cX22_holds 10 = .ok (.if_icmp .ge 37, 3) := dk_162 0 37 (dk_at dksX22_holds_0 10 rfl rfl)
theorem dX22_holds_13 : decode cX22_holds 13 = .ok (.aload_n 0, 1) := dk_42 (dk_at dksX22_holds_0 13 rfl rfl)
theorem dX22_holds_14 : decode cX22_holds 14 = .ok (.getfield 7, 3) := dk_180 0 7 (dk_at dksX22_holds_0 14 rfl rfl)
theorem dX22_holds_17 : decode cX22_holds 17 = .ok (.iload_n 3, 1) := dk_29 (dk_at dksX22_holds_0 17 rfl rfl)
theorem dX22_holds_18 : decode cX22_holds 18 = .ok (.invokevirtual 23, 3) := dk_182 0 23 (dk_at dksX22_holds_0 18 rfl rfl)
theorem dX22_holds_21 : decode cX22_holds 21 = .ok (.checkcast 2, 3) := dk_192 0 2 (dk_at dksX22_holds_0 21 rfl rfl)
theorem dX22_holds_24 : decode cX22_holds 24 = .ok (.aload_n 1, 1) := dk_43 (dk_at dksX22_holds_1 0 rfl rfl)
theorem dX22_holds_25 : decode cX22_holds 25 = .ok (.iload_n 2, 1) := dk_28 (dk_at dksX22_holds_1 1 rfl rfl)
theorem dX22_holds_26 : decode cX22_holds 26 = .ok (.invokevirtual 27, 3) := dk_182 0 27 (dk_at dksX22_holds_1 2 rfl rfl)
theorem dX22_holds_29 : decode cX22_holds 29 = .ok (.aload_n 0, 1) := dk_42 (dk_at dksX22_holds_1 5 rfl rfl)
theorem dX22_holds_30 : decode cX22_holds 30 = .ok (.getfield 13, 3) := dk_180 0 13 (dk_at dksX22_holds_1 6 rfl rfl)
theorem dX22_holds_33 : decode cX22_holds 33 = .ok (.if_icmp .ne 8, 3) := dk_160 0 8 (dk_at dksX22_holds_1 9 rfl rfl)
theorem dX22_holds_36 : decode cX22_holds 36 = .ok (.aload_n 0, 1) := dk_42 (dk_at dksX22_holds_1 12 rfl rfl)
theorem dX22_holds_37 : decode cX22_holds 37 = .ok (.getfield 13, 3) := dk_180 0 13 (dk_at dksX22_holds_1 13 rfl rfl)
theorem dX22_holds_40 : decode cX22_holds 40 = .ok (.ireturn, 1) := dk_172 (dk_at dksX22_holds_1 16 rfl rfl)
theorem dX22_holds_41 : decode cX22_holds 41 = .ok (.iinc 3 1, 3) := dk_132 3 1 (dk_at dksX22_holds_1 17 rfl rfl)
theorem dX22_holds_44 : decode cX22_holds 44 = .ok (.goto (-42), 3) := dk_167 255 214 (dk_at dksX22_holds_1 20 rfl rfl)
theorem dX22_holds_47 : decode cX22_holds 47 = .ok (.aload_n 0, 1) := dk_42 (dk_at dksX22_holds_1 23 rfl rfl)
theorem dX22_holds_48 : decode cX22_holds 48 = .ok (.getfield 13, 3) := dk_180 0 13 (dk_at dksX22_holds_2 0 rfl rfl)
theorem dX22_holds_51 : decode cX22_holds 51 = .ok (.ifCond .ne 7, 3) := dk_154 0 7 (dk_at dksX22_holds_2 3 rfl rfl)
theorem dX22_holds_54 : decode cX22_holds 54 = .ok (.iconst 1, 1) := dk_4 (dk_at dksX22_holds_2 6 rfl rfl)
theorem dX22_holds_55 : decode cX22_holds 55 = .ok (.goto 4, 3) := dk_167 0 4 (dk_at dksX22_holds_2 7 rfl rfl)
theorem dX22_holds_58 : decode cX22_holds 58 = .ok (.iconst 0, 1) := dk_3 (dk_at dksX22_holds_2 10 rfl rfl)
theorem dX22_holds_59 : decode cX22_holds 59 = .ok (.ireturn, 1) := dk_172 (dk_at dksX22_holds_2 11 rfl rfl)
theorem q155 : (Jvm.Cond.initialized "MessengerBoard$Joined") ∈ lw_all := lw_g (lw_at lw_m1 46 rfl) rfl
theorem q1182 : (Jvm.Cond.selects "MessengerBoard$Joined" ({ cls := "java/lang/Object", name := "getClass", desc := "()Ljava/lang/Class;" } : Jvm.MethodName) ({ cls := "java/lang/Object", name := "getClass", desc := "()Ljava/lang/Class;" } : Jvm.MethodName)) ∈ lw_all := lw_g (lw_at lw_m5 113 rfl) rfl
theorem q2064 : (Jvm.Cond.instantiable "MessengerBoard$Joined" (2 : Nat)) ∈ lw_all := lw_g (lw_at lw_m9 35 rfl) rfl
theorem q2066 : (Jvm.Cond.instanceMethod ({ cls := "MessengerBoard$Joined", name := "<init>", desc := "(Ljava/util/ArrayList;Z)V" } : Jvm.MethodName)) ∈ lw_all := lw_g (lw_at lw_m9 37 rfl) rfl
theorem q2067 : (Jvm.Cond.code ({ cls := "MessengerBoard$Joined", name := "<init>", desc := "(Ljava/util/ArrayList;Z)V" } : Jvm.MethodName) prog_8_method_1_code (3 : Nat) (Option.none : Option Jvm.ClassFile.FieldType)) ∈ lw_all := lw_g (lw_at lw_m9 38 rfl) rfl
theorem q2068 : (Jvm.Cond.methodLinkNest "MessengerBoard$Joined" (1 : Nat) ({ cls := "MessengerBoard$Test", name := "<init>", desc := "()V" } : Jvm.MethodName) "MessengerBoard") ∈ lw_tbl := lw_at lw_m9 39 rfl
theorem q2069 : (Jvm.Cond.fieldLink "MessengerBoard$Joined" (7 : Nat) "MessengerBoard$Joined" "operands" "Ljava/util/ArrayList;") ∈ lw_all := lw_g (lw_at lw_m9 40 rfl) rfl
theorem q2070 : (Jvm.Cond.fieldLink "MessengerBoard$Joined" (13 : Nat) "MessengerBoard$Joined" "isAny" "Z") ∈ lw_all := lw_g (lw_at lw_m9 41 rfl) rfl
theorem q2071 : (Jvm.Cond.laysFinal "MessengerBoard$Joined" "MessengerBoard$Joined" "operands" "Ljava/util/ArrayList;") ∈ lw_all := lw_g (lw_at lw_m9 42 rfl) rfl
theorem q2072 : (Jvm.Cond.soleField "MessengerBoard$Joined" "operands") ∈ lw_all := lw_g (lw_at lw_m9 43 rfl) rfl
theorem q2073 : (Jvm.Cond.laysFinal "MessengerBoard$Joined" "MessengerBoard$Joined" "isAny" "Z") ∈ lw_all := lw_g (lw_at lw_m9 44 rfl) rfl
theorem q2074 : (Jvm.Cond.soleField "MessengerBoard$Joined" "isAny") ∈ lw_all := lw_g (lw_at lw_m9 45 rfl) rfl
theorem q2075 : (Jvm.Cond.superclass "MessengerBoard$Joined" "MessengerBoard$Test") ∈ lw_all := lw_g (lw_at lw_m9 46 rfl) rfl
theorem q2093 : (Jvm.Cond.selects "MessengerBoard$Joined" ({ cls := "MessengerBoard$Test", name := "holds", desc := "(LMessengerBoard$State;I)Z" } : Jvm.MethodName) ({ cls := "MessengerBoard$Joined", name := "holds", desc := "(LMessengerBoard$State;I)Z" } : Jvm.MethodName)) ∈ lw_all := lw_g (lw_at lw_m9 64 rfl) rfl
theorem q2094 : (Jvm.Cond.instanceMethod ({ cls := "MessengerBoard$Joined", name := "holds", desc := "(LMessengerBoard$State;I)Z" } : Jvm.MethodName)) ∈ lw_all := lw_g (lw_at lw_m9 65 rfl) rfl
theorem q2095 : (Jvm.Cond.code ({ cls := "MessengerBoard$Joined", name := "holds", desc := "(LMessengerBoard$State;I)Z" } : Jvm.MethodName) prog_8_method_2_code (4 : Nat) (Option.some Jvm.ClassFile.FieldType.boolean)) ∈ lw_all := lw_g (lw_at lw_m9 66 rfl) rfl
theorem q2096 : (Jvm.Cond.methodLink "MessengerBoard$Joined" (17 : Nat) ({ cls := "java/util/ArrayList", name := "size", desc := "()I" } : Jvm.MethodName)) ∈ lw_all := lw_g (lw_at lw_m9 67 rfl) rfl
theorem q2097 : (Jvm.Cond.methodLink "MessengerBoard$Joined" (23 : Nat) ({ cls := "java/util/ArrayList", name := "get", desc := "(I)Ljava/lang/Object;" } : Jvm.MethodName)) ∈ lw_all := lw_g (lw_at lw_m9 68 rfl) rfl
theorem q2098 : (Jvm.Cond.classLink "MessengerBoard$Joined" (2 : Nat) "MessengerBoard$Test") ∈ lw_all := lw_g (lw_at lw_m9 69 rfl) rfl
theorem q2099 : (Jvm.Cond.methodLink "MessengerBoard$Joined" (27 : Nat) ({ cls := "MessengerBoard$Test", name := "holds", desc := "(LMessengerBoard$State;I)Z" } : Jvm.MethodName)) ∈ lw_all := lw_g (lw_at lw_m9 70 rfl) rfl
theorem q2728 : (Jvm.Cond.castable "MessengerBoard$Joined" "MessengerBoard$Test") ∈ lw_tbl := lw_at lw_m11 219 rfl
theorem q2756 : (Jvm.Cond.castable "MessengerBoard$Joined" "java/lang/Object") ∈ lw_tbl := lw_at lw_m12 7 rfl
theorem in_X22 : ∀ w ∈ wsX220, w ∈ lw_all := lw_in wsX220 [2071, 2073] (by decide +kernel) (by decide +kernel)
