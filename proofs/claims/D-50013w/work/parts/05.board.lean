/-! MessengerBoard -/
set_option maxRecDepth 100000
def RX1 : String := "MessengerBoard"
def TX1 : u_T := fun k => match k with
  | 0 => ("MessengerBoard", "ways", "LMessengerBoard$Ways;", true)
  | 1 => ("MessengerBoard", "now", "LMessengerBoard$State;", false)
  | 2 => ("MessengerBoard", "snapshot", "LMessengerBoard$State;", false)
  | 3 => ("MessengerBoard", "history", "Ljava/util/ArrayDeque;", true)
  | 4 => ("MessengerBoard", "buffer", "[B", true)
  | 5 => ("MessengerBoard", "buffered", "I", false)
  | 6 => ("MessengerBoard", "errorAt", "I", false)
  | _ => ("MessengerBoard", "formatted", "Ljava/lang/String;", false)
def tyX1 : Nat → FieldType := fun k => match k with
  | 0 => .object "MessengerBoard$Ways"
  | 1 => .object "MessengerBoard$State"
  | 2 => .object "MessengerBoard$State"
  | 3 => .object "java/util/ArrayDeque"
  | 4 => .array .byte
  | 5 => .int
  | 6 => .int
  | _ => .object "java/lang/String"
abbrev wsX10 : List Cond := u_ws RX1 TX1 8
theorem nmX1 : ∀ a, a < 8 → ∀ b, b < 8 → a ≠ b → (TX1 a).2.1 ≠ (TX1 b).2.1 := by decide +kernel
theorem tyX1_ok : ∀ k, k < 8 → parseFieldDescriptor (TX1 k).2.2.1 = some (tyX1 k) := by decide +kernel
abbrev cX1_init : ByteArray := prog_1_method_7_code
def yX1_init : MethodName := ⟨RX1, "<init>", "()V"⟩
def dkwX1_init_2 : List UInt8 := [188, 8, 181, 0, 88, 42, 2, 181, 0, 92, 42, 18, 95, 181, 0, 97, 177]
abbrev dktX1_init_2 : List UInt8 := dkwX1_init_2 ++ []
def dkwX1_init_1 : List UInt8 := [180, 0, 68, 183, 0, 74, 181, 0, 77, 42, 187, 0, 81, 89, 183, 0, 83, 181, 0, 84, 42, 17, 2, 88]
abbrev dktX1_init_1 : List UInt8 := dkwX1_init_1 ++ dktX1_init_2
def dkwX1_init_0 : List UInt8 := [42, 183, 0, 62, 42, 187, 0, 65, 89, 183, 0, 67, 181, 0, 68, 42, 187, 0, 72, 89, 6, 6, 42]
abbrev dktX1_init_0 : List UInt8 := dkwX1_init_0 ++ dktX1_init_1
theorem dksX1_init_0 : cX1_init.data.toList.drop 0 = dktX1_init_0 := by decide +kernel
theorem dksX1_init_1 : cX1_init.data.toList.drop 23 = dktX1_init_1 := dk_seg dksX1_init_0 23 rfl rfl
theorem dksX1_init_2 : cX1_init.data.toList.drop 47 = dktX1_init_2 := dk_seg dksX1_init_1 24 rfl rfl
theorem dX1_init_0 : decode cX1_init 0 = .ok (.aload_n 0, 1) := dk_42 (dk_at dksX1_init_0 0 rfl rfl)
theorem dX1_init_1 : decode cX1_init 1 = .ok (.invokespecial 62, 3) := dk_183 0 62 (dk_at dksX1_init_0 1 rfl rfl)
theorem dX1_init_4 : decode cX1_init 4 = .ok (.aload_n 0, 1) := dk_42 (dk_at dksX1_init_0 4 rfl rfl)
theorem dX1_init_5 : decode cX1_init 5 = .ok (.new 65, 3) := dk_187 0 65 (dk_at dksX1_init_0 5 rfl rfl)
theorem dX1_init_8 : decode cX1_init 8 = .ok (.dup, 1) := dk_89 (dk_at dksX1_init_0 8 rfl rfl)
theorem dX1_init_9 : decode cX1_init 9 = .ok (.invokespecial 67, 3) := dk_183 0 67 (dk_at dksX1_init_0 9 rfl rfl)
theorem dX1_init_12 : decode cX1_init 12 = .ok (.putfield 68, 3) := dk_181 0 68 (dk_at dksX1_init_0 12 rfl rfl)
theorem dX1_init_15 : decode cX1_init 15 = .ok (.aload_n 0, 1) := dk_42 (dk_at dksX1_init_0 15 rfl rfl)
theorem dX1_init_16 : decode cX1_init 16 = .ok (.new 72, 3) := dk_187 0 72 (dk_at dksX1_init_0 16 rfl rfl)
theorem dX1_init_19 : decode cX1_init 19 = .ok (.dup, 1) := dk_89 (dk_at dksX1_init_0 19 rfl rfl)
theorem dX1_init_20 : decode cX1_init 20 = .ok (.iconst 3, 1) := dk_6 (dk_at dksX1_init_0 20 rfl rfl)
theorem dX1_init_21 : decode cX1_init 21 = .ok (.iconst 3, 1) := dk_6 (dk_at dksX1_init_0 21 rfl rfl)
theorem dX1_init_22 : decode cX1_init 22 = .ok (.aload_n 0, 1) := dk_42 (dk_at dksX1_init_0 22 rfl rfl)
theorem dX1_init_23 : decode cX1_init 23 = .ok (.getfield 68, 3) := dk_180 0 68 (dk_at dksX1_init_1 0 rfl rfl)
theorem dX1_init_26 : decode cX1_init 26 = .ok (.invokespecial 74, 3) := dk_183 0 74 (dk_at dksX1_init_1 3 rfl rfl)
theorem dX1_init_29 : decode cX1_init 29 = .ok (.putfield 77, 3) := dk_181 0 77 (dk_at dksX1_init_1 6 rfl rfl)
theorem dX1_init_32 : decode cX1_init 32 = .ok (.aload_n 0, 1) := dk_42 (dk_at dksX1_init_1 9 rfl rfl)
theorem dX1_init_33 : decode cX1_init 33 = .ok (.new 81, 3) := dk_187 0 81 (dk_at dksX1_init_1 10 rfl rfl)
theorem dX1_init_36 : decode cX1_init 36 = .ok (.dup, 1) := dk_89 (dk_at dksX1_init_1 13 rfl rfl)
theorem dX1_init_37 : decode cX1_init 37 = .ok (.invokespecial 83, 3) := dk_183 0 83 (dk_at dksX1_init_1 14 rfl rfl)
theorem dX1_init_40 : decode cX1_init 40 = .ok (.putfield 84, 3) := dk_181 0 84 (dk_at dksX1_init_1 17 rfl rfl)
theorem dX1_init_43 : decode cX1_init 43 = .ok (.aload_n 0, 1) := dk_42 (dk_at dksX1_init_1 20 rfl rfl)
theorem dX1_init_44 : decode cX1_init 44 = .ok (.sipush 600, 3) := dk_17 2 88 (dk_at dksX1_init_1 21 rfl rfl)
theorem dX1_init_47 : decode cX1_init 47 = .ok (.newarray .byte, 2) := dk_188_8 (dk_at dksX1_init_2 0 rfl rfl)
theorem dX1_init_49 : decode cX1_init 49 = .ok (.putfield 88, 3) := dk_181 0 88 (dk_at dksX1_init_2 2 rfl rfl)
theorem dX1_init_52 : decode cX1_init 52 = .ok (.aload_n 0, 1) := dk_42 (dk_at dksX1_init_2 5 rfl rfl)
theorem dX1_init_53 : decode cX1_init 53 = .ok (.iconst (-1), 1) := dk_2 (dk_at dksX1_init_2 6 rfl rfl)
theorem dX1_init_54 : decode cX1_init 54 = .ok (.putfield 92, 3) := dk_181 0 92 (dk_at dksX1_init_2 7 rfl rfl)
theorem dX1_init_57 : decode cX1_init 57 = .ok (.aload_n 0, 1) := dk_42 (dk_at dksX1_init_2 10 rfl rfl)
theorem dX1_init_58 : decode cX1_init 58 = .ok (.ldc 95, 2) := dk_18 95 (dk_at dksX1_init_2 11 rfl rfl)
theorem dX1_init_60 : decode cX1_init 60 = .ok (.putfield 97, 3) := dk_181 0 97 (dk_at dksX1_init_2 13 rfl rfl)
theorem dX1_init_63 : decode cX1_init 63 = .ok (.return_, 1) := dk_177 (dk_at dksX1_init_2 16 rfl rfl)
abbrev cX1_feed : ByteArray := prog_1_method_8_code
def yX1_feed : MethodName := ⟨RX1, "feed", "(IIIII)I"⟩
def dkwX1_feed_2 : List UInt8 := [172]
abbrev dktX1_feed_2 : List UInt8 := dkwX1_feed_2 ++ []
def dkwX1_feed_1 : List UInt8 := [182, 0, 104, 42, 29, 182, 0, 104, 42, 21, 4, 182, 0, 104, 42, 21, 5, 182, 0, 104, 42, 180, 0, 101]
abbrev dktX1_feed_1 : List UInt8 := dkwX1_feed_1 ++ dktX1_feed_2
def dkwX1_feed_0 : List UInt8 := [42, 180, 0, 101, 16, 20, 96, 17, 2, 88, 164, 0, 5, 2, 172, 42, 27, 182, 0, 104, 42, 28]
abbrev dktX1_feed_0 : List UInt8 := dkwX1_feed_0 ++ dktX1_feed_1
theorem dksX1_feed_0 : cX1_feed.data.toList.drop 0 = dktX1_feed_0 := by decide +kernel
theorem dksX1_feed_1 : cX1_feed.data.toList.drop 22 = dktX1_feed_1 := dk_seg dksX1_feed_0 22 rfl rfl
theorem dksX1_feed_2 : cX1_feed.data.toList.drop 46 = dktX1_feed_2 := dk_seg dksX1_feed_1 24 rfl rfl
theorem dX1_feed_0 : decode cX1_feed 0 = .ok (.aload_n 0, 1) := dk_42 (dk_at dksX1_feed_0 0 rfl rfl)
theorem dX1_feed_1 : decode cX1_feed 1 = .ok (.getfield 101, 3) := dk_180 0 101 (dk_at dksX1_feed_0 1 rfl rfl)
theorem dX1_feed_4 : decode cX1_feed 4 = .ok (.bipush 20, 2) := dk_16 20 (dk_at dksX1_feed_0 4 rfl rfl)
theorem dX1_feed_6 : decode cX1_feed 6 = .ok (.iadd, 1) := dk_96 (dk_at dksX1_feed_0 6 rfl rfl)
theorem dX1_feed_7 : decode cX1_feed 7 = .ok (.sipush 600, 3) := dk_17 2 88 (dk_at dksX1_feed_0 7 rfl rfl)
theorem dX1_feed_10 : decode cX1_feed 10 = .ok (.if_icmp .le 5, 3) := dk_164 0 5 (dk_at dksX1_feed_0 10 rfl rfl)
theorem dX1_feed_13 : decode cX1_feed 13 = .ok (.iconst (-1), 1) := dk_2 (dk_at dksX1_feed_0 13 rfl rfl)
theorem dX1_feed_14 : decode cX1_feed 14 = .ok (.ireturn, 1) := dk_172 (dk_at dksX1_feed_0 14 rfl rfl)
theorem dX1_feed_15 : decode cX1_feed 15 = .ok (.aload_n 0, 1) := dk_42 (dk_at dksX1_feed_0 15 rfl rfl)
theorem dX1_feed_16 : decode cX1_feed 16 = .ok (.iload_n 1, 1) := dk_27 (dk_at dksX1_feed_0 16 rfl rfl)
theorem dX1_feed_17 : decode cX1_feed 17 = .ok (.invokevirtual 104, 3) := dk_182 0 104 (dk_at dksX1_feed_0 17 rfl rfl)
theorem dX1_feed_20 : decode cX1_feed 20 = .ok (.aload_n 0, 1) := dk_42 (dk_at dksX1_feed_0 20 rfl rfl)
theorem dX1_feed_21 : decode cX1_feed 21 = .ok (.iload_n 2, 1) := dk_28 (dk_at dksX1_feed_0 21 rfl rfl)
theorem dX1_feed_22 : decode cX1_feed 22 = .ok (.invokevirtual 104, 3) := dk_182 0 104 (dk_at dksX1_feed_1 0 rfl rfl)
theorem dX1_feed_25 : decode cX1_feed 25 = .ok (.aload_n 0, 1) := dk_42 (dk_at dksX1_feed_1 3 rfl rfl)
theorem dX1_feed_26 : decode cX1_feed 26 = .ok (.iload_n 3, 1) := dk_29 (dk_at dksX1_feed_1 4 rfl rfl)
theorem dX1_feed_27 : decode cX1_feed 27 = .ok (.invokevirtual 104, 3) := dk_182 0 104 (dk_at dksX1_feed_1 5 rfl rfl)
theorem dX1_feed_30 : decode cX1_feed 30 = .ok (.aload_n 0, 1) := dk_42 (dk_at dksX1_feed_1 8 rfl rfl)
theorem dX1_feed_31 : decode cX1_feed 31 = .ok (.iload 4, 2) := dk_21 4 (dk_at dksX1_feed_1 9 rfl rfl)
theorem dX1_feed_33 : decode cX1_feed 33 = .ok (.invokevirtual 104, 3) := dk_182 0 104 (dk_at dksX1_feed_1 11 rfl rfl)
theorem dX1_feed_36 : decode cX1_feed 36 = .ok (.aload_n 0, 1) := dk_42 (dk_at dksX1_feed_1 14 rfl rfl)
theorem dX1_feed_37 : decode cX1_feed 37 = .ok (.iload 5, 2) := dk_21 5 (dk_at dksX1_feed_1 15 rfl rfl)
theorem dX1_feed_39 : decode cX1_feed 39 = .ok (.invokevirtual 104, 3) := dk_182 0 104 (dk_at dksX1_feed_1 17 rfl rfl)
theorem dX1_feed_42 : decode cX1_feed 42 = .ok (.aload_n 0, 1) := dk_42 (dk_at dksX1_feed_1 20 rfl rfl)
theorem dX1_feed_43 : decode cX1_feed 43 = .ok (.getfield 101, 3) := dk_180 0 101 (dk_at dksX1_feed_1 21 rfl rfl)
theorem dX1_feed_46 : decode cX1_feed 46 = .ok (.ireturn, 1) := dk_172 (dk_at dksX1_feed_2 0 rfl rfl)
abbrev cX1_append : ByteArray := prog_1_method_9_code
def yX1_append : MethodName := ⟨RX1, "append", "(I)V"⟩
def dkwX1_append_1 : List UInt8 := [180, 0, 101, 4, 96, 181, 0, 101, 132, 2, 248, 167, 255, 226, 177]
abbrev dktX1_append_1 : List UInt8 := dkwX1_append_1 ++ []
def dkwX1_append_0 : List UInt8 := [16, 24, 61, 28, 155, 0, 32, 42, 180, 0, 88, 42, 180, 0, 101, 27, 28, 122, 145, 84, 42, 89]
abbrev dktX1_append_0 : List UInt8 := dkwX1_append_0 ++ dktX1_append_1
theorem dksX1_append_0 : cX1_append.data.toList.drop 0 = dktX1_append_0 := by decide +kernel
theorem dksX1_append_1 : cX1_append.data.toList.drop 22 = dktX1_append_1 := dk_seg dksX1_append_0 22 rfl rfl
theorem dX1_append_0 : decode cX1_append 0 = .ok (.bipush 24, 2) := dk_16 24 (dk_at dksX1_append_0 0 rfl rfl)
theorem dX1_append_2 : decode cX1_append 2 = .ok (.istore_n 2, 1) := dk_61 (dk_at dksX1_append_0 2 rfl rfl)
theorem dX1_append_3 : decode cX1_append 3 = .ok (.iload_n 2, 1) := dk_28 (dk_at dksX1_append_0 3 rfl rfl)
theorem dX1_append_4 : decode cX1_append 4 = .ok (.ifCond .lt 32, 3) := dk_155 0 32 (dk_at dksX1_append_0 4 rfl rfl)
theorem dX1_append_7 : decode cX1_append 7 = .ok (.aload_n 0, 1) := dk_42 (dk_at dksX1_append_0 7 rfl rfl)
theorem dX1_append_8 : decode cX1_append 8 = .ok (.getfield 88, 3) := dk_180 0 88 (dk_at dksX1_append_0 8 rfl rfl)
theorem dX1_append_11 : decode cX1_append 11 = .ok (.aload_n 0, 1) := dk_42 (dk_at dksX1_append_0 11 rfl rfl)
theorem dX1_append_12 : decode cX1_append 12 = .ok (.getfield 101, 3) := dk_180 0 101 (dk_at dksX1_append_0 12 rfl rfl)
theorem dX1_append_15 : decode cX1_append 15 = .ok (.iload_n 1, 1) := dk_27 (dk_at dksX1_append_0 15 rfl rfl)
theorem dX1_append_16 : decode cX1_append 16 = .ok (.iload_n 2, 1) := dk_28 (dk_at dksX1_append_0 16 rfl rfl)
theorem dX1_append_17 : decode cX1_append 17 = .ok (.ishr, 1) := dk_122 (dk_at dksX1_append_0 17 rfl rfl)
theorem dX1_append_18 : decode cX1_append 18 = .ok (.i2b, 1) := dk_145 (dk_at dksX1_append_0 18 rfl rfl)
theorem dX1_append_19 : decode cX1_append 19 = .ok (.bastore, 1) := dk_84 (dk_at dksX1_append_0 19 rfl rfl)
theorem dX1_append_20 : decode cX1_append 20 = .ok (.aload_n 0, 1) := dk_42 (dk_at dksX1_append_0 20 rfl rfl)
theorem dX1_append_21 : decode cX1_append 21 = .ok (.dup, 1) := dk_89 (dk_at dksX1_append_0 21 rfl rfl)
theorem dX1_append_22 : decode cX1_append 22 = .ok (.getfield 101, 3) := dk_180 0 101 (dk_at dksX1_append_1 0 rfl rfl)
theorem dX1_append_25 : decode cX1_append 25 = .ok (.iconst 1, 1) := dk_4 (dk_at dksX1_append_1 3 rfl rfl)
theorem dX1_append_26 : decode cX1_append 26 = .ok (.iadd, 1) := dk_96 (dk_at dksX1_append_1 4 rfl rfl)
theorem dX1_append_27 : decode cX1_append 27 = .ok (.putfield 101, 3) := dk_181 0 101 (dk_at dksX1_append_1 5 rfl rfl)
theorem dX1_append_30 : decode cX1_append 30 = .ok (.iinc 2 (-8), 3) := dk_132 2 248 (dk_at dksX1_append_1 8 rfl rfl)
theorem dX1_append_33 : decode cX1_append 33 = .ok (.goto (-30), 3) := dk_167 255 226 (dk_at dksX1_append_1 11 rfl rfl)
theorem dX1_append_36 : decode cX1_append 36 = .ok (.return_, 1) := dk_177 (dk_at dksX1_append_1 14 rfl rfl)
abbrev cX1_errorPosition : ByteArray := prog_1_method_13_code
def yX1_errorPosition : MethodName := ⟨RX1, "errorPosition", "()I"⟩
theorem dX1_errorPosition_0 : decode cX1_errorPosition 0 = .ok (.aload_n 0, 1) := by decide +kernel
theorem dX1_errorPosition_1 : decode cX1_errorPosition 1 = .ok (.getfield 92, 3) := by decide +kernel
theorem dX1_errorPosition_4 : decode cX1_errorPosition 4 = .ok (.ireturn, 1) := by decide +kernel
abbrev cX1_crossed : ByteArray := prog_1_method_32_code
def yX1_crossed : MethodName := ⟨RX1, "crossed", "()I"⟩
def dkwX1_crossed_0 : List UInt8 := [42, 180, 0, 77, 182, 1, 80, 172]
abbrev dktX1_crossed_0 : List UInt8 := dkwX1_crossed_0 ++ []
theorem dksX1_crossed_0 : cX1_crossed.data.toList.drop 0 = dktX1_crossed_0 := by decide +kernel
theorem dX1_crossed_0 : decode cX1_crossed 0 = .ok (.aload_n 0, 1) := dk_42 (dk_at dksX1_crossed_0 0 rfl rfl)
theorem dX1_crossed_1 : decode cX1_crossed 1 = .ok (.getfield 77, 3) := dk_180 0 77 (dk_at dksX1_crossed_0 1 rfl rfl)
theorem dX1_crossed_4 : decode cX1_crossed 4 = .ok (.invokevirtual 336, 3) := dk_182 1 80 (dk_at dksX1_crossed_0 4 rfl rfl)
theorem dX1_crossed_7 : decode cX1_crossed 7 = .ok (.ireturn, 1) := dk_172 (dk_at dksX1_crossed_0 7 rfl rfl)
abbrev cX1_asInt : ByteArray := prog_1_method_2_code
def yX1_asInt : MethodName := ⟨RX1, "asInt", "(Z)I"⟩
def dkwX1_asInt_0 : List UInt8 := [26, 153, 0, 7, 4, 167, 0, 4, 3, 172]
abbrev dktX1_asInt_0 : List UInt8 := dkwX1_asInt_0 ++ []
theorem dksX1_asInt_0 : cX1_asInt.data.toList.drop 0 = dktX1_asInt_0 := by decide +kernel
theorem dX1_asInt_0 : decode cX1_asInt 0 = .ok (.iload_n 0, 1) := dk_26 (dk_at dksX1_asInt_0 0 rfl rfl)
theorem dX1_asInt_1 : decode cX1_asInt 1 = .ok (.ifCond .eq 7, 3) := dk_153 0 7 (dk_at dksX1_asInt_0 1 rfl rfl)
theorem dX1_asInt_4 : decode cX1_asInt 4 = .ok (.iconst 1, 1) := dk_4 (dk_at dksX1_asInt_0 4 rfl rfl)
theorem dX1_asInt_5 : decode cX1_asInt 5 = .ok (.goto 4, 3) := dk_167 0 4 (dk_at dksX1_asInt_0 5 rfl rfl)
theorem dX1_asInt_8 : decode cX1_asInt 8 = .ok (.iconst 0, 1) := dk_3 (dk_at dksX1_asInt_0 8 rfl rfl)
theorem dX1_asInt_9 : decode cX1_asInt 9 = .ok (.ireturn, 1) := dk_172 (dk_at dksX1_asInt_0 9 rfl rfl)
abbrev cX1_meanDelay : ByteArray := prog_1_method_39_code
def yX1_meanDelay : MethodName := ⟨RX1, "meanDelay", "()D"⟩
def dkwX1_meanDelay_3 : List UInt8 := [154, 0, 7, 14, 167, 0, 8, 27, 135, 28, 135, 111, 175]
abbrev dktX1_meanDelay_3 : List UInt8 := dkwX1_meanDelay_3 ++ []
def dkwX1_meanDelay_2 : List UInt8 := [25, 4, 180, 0, 52, 25, 4, 180, 0, 50, 100, 96, 60, 132, 2, 1, 132, 3, 1, 167, 255, 195, 28]
abbrev dktX1_meanDelay_2 : List UInt8 := dkwX1_meanDelay_2 ++ dktX1_meanDelay_3
def dkwX1_meanDelay_1 : List UInt8 := [180, 0, 176, 29, 182, 0, 200, 192, 0, 41, 58, 4, 25, 4, 182, 1, 110, 154, 0, 6, 167, 0, 20, 27]
abbrev dktX1_meanDelay_1 : List UInt8 := dkwX1_meanDelay_1 ++ dktX1_meanDelay_2
def dkwX1_meanDelay_0 : List UInt8 := [3, 60, 3, 61, 3, 62, 29, 42, 180, 0, 77, 180, 0, 176, 182, 0, 157, 162, 0, 53, 42, 180, 0, 77]
abbrev dktX1_meanDelay_0 : List UInt8 := dkwX1_meanDelay_0 ++ dktX1_meanDelay_1
theorem dksX1_meanDelay_0 : cX1_meanDelay.data.toList.drop 0 = dktX1_meanDelay_0 := by decide +kernel
theorem dksX1_meanDelay_1 : cX1_meanDelay.data.toList.drop 24 = dktX1_meanDelay_1 := dk_seg dksX1_meanDelay_0 24 rfl rfl
theorem dksX1_meanDelay_2 : cX1_meanDelay.data.toList.drop 48 = dktX1_meanDelay_2 := dk_seg dksX1_meanDelay_1 24 rfl rfl
theorem dksX1_meanDelay_3 : cX1_meanDelay.data.toList.drop 71 = dktX1_meanDelay_3 := dk_seg dksX1_meanDelay_2 23 rfl rfl
theorem dX1_meanDelay_0 : decode cX1_meanDelay 0 = .ok (.iconst 0, 1) := dk_3 (dk_at dksX1_meanDelay_0 0 rfl rfl)
theorem dX1_meanDelay_1 : decode cX1_meanDelay 1 = .ok (.istore_n 1, 1) := dk_60 (dk_at dksX1_meanDelay_0 1 rfl rfl)
theorem dX1_meanDelay_2 : decode cX1_meanDelay 2 = .ok (.iconst 0, 1) := dk_3 (dk_at dksX1_meanDelay_0 2 rfl rfl)
theorem dX1_meanDelay_3 : decode cX1_meanDelay 3 = .ok (.istore_n 2, 1) := dk_61 (dk_at dksX1_meanDelay_0 3 rfl rfl)
theorem dX1_meanDelay_4 : decode cX1_meanDelay 4 = .ok (.iconst 0, 1) := dk_3 (dk_at dksX1_meanDelay_0 4 rfl rfl)
theorem dX1_meanDelay_5 : decode cX1_meanDelay 5 = .ok (.istore_n 3, 1) := dk_62 (dk_at dksX1_meanDelay_0 5 rfl rfl)
theorem dX1_meanDelay_6 : decode cX1_meanDelay 6 = .ok (.iload_n 3, 1) := dk_29 (dk_at dksX1_meanDelay_0 6 rfl rfl)
theorem dX1_meanDelay_7 : decode cX1_meanDelay 7 = .ok (.aload_n 0, 1) := dk_42 (dk_at dksX1_meanDelay_0 7 rfl rfl)
theorem dX1_meanDelay_8 : decode cX1_meanDelay 8 = .ok (.getfield 77, 3) := dk_180 0 77 (dk_at dksX1_meanDelay_0 8 rfl rfl)
theorem dX1_meanDelay_11 : decode cX1_meanDelay 11 = .ok (.getfield 176, 3) := dk_180 0 176 (dk_at dksX1_meanDelay_0 11 rfl rfl)
theorem dX1_meanDelay_14 : decode cX1_meanDelay 14 = .ok (.invokevirtual 157, 3) := dk_182 0 157 (dk_at dksX1_meanDelay_0 14 rfl rfl)
theorem dX1_meanDelay_17 : decode cX1_meanDelay 17 = .ok (.if_icmp .ge 53, 3) := dk_162 0 53 (dk_at dksX1_meanDelay_0 17 rfl rfl)
theorem dX1_meanDelay_20 : decode cX1_meanDelay 20 = .ok (.aload_n 0, 1) := dk_42 (dk_at dksX1_meanDelay_0 20 rfl rfl)
theorem dX1_meanDelay_21 : decode cX1_meanDelay 21 = .ok (.getfield 77, 3) := dk_180 0 77 (dk_at dksX1_meanDelay_0 21 rfl rfl)
theorem dX1_meanDelay_24 : decode cX1_meanDelay 24 = .ok (.getfield 176, 3) := dk_180 0 176 (dk_at dksX1_meanDelay_1 0 rfl rfl)
theorem dX1_meanDelay_27 : decode cX1_meanDelay 27 = .ok (.iload_n 3, 1) := dk_29 (dk_at dksX1_meanDelay_1 3 rfl rfl)
theorem dX1_meanDelay_28 : decode cX1_meanDelay 28 = .ok (.invokevirtual 200, 3) := dk_182 0 200 (dk_at dksX1_meanDelay_1 4 rfl rfl)
theorem dX1_meanDelay_31 : decode cX1_meanDelay 31 = .ok (.checkcast 41, 3) := dk_192 0 41 (dk_at dksX1_meanDelay_1 7 rfl rfl)
theorem dX1_meanDelay_34 : decode cX1_meanDelay 34 = .ok (.astore 4, 2) := dk_58 4 (dk_at dksX1_meanDelay_1 10 rfl rfl)
theorem dX1_meanDelay_36 : decode cX1_meanDelay 36 = .ok (.aload 4, 2) := dk_25 4 (dk_at dksX1_meanDelay_1 12 rfl rfl)
theorem dX1_meanDelay_38 : decode cX1_meanDelay 38 = .ok (.invokevirtual 366, 3) := dk_182 1 110 (dk_at dksX1_meanDelay_1 14 rfl rfl)
theorem dX1_meanDelay_41 : decode cX1_meanDelay 41 = .ok (.ifCond .ne 6, 3) := dk_154 0 6 (dk_at dksX1_meanDelay_1 17 rfl rfl)
theorem dX1_meanDelay_44 : decode cX1_meanDelay 44 = .ok (.goto 20, 3) := dk_167 0 20 (dk_at dksX1_meanDelay_1 20 rfl rfl)
theorem dX1_meanDelay_47 : decode cX1_meanDelay 47 = .ok (.iload_n 1, 1) := dk_27 (dk_at dksX1_meanDelay_1 23 rfl rfl)
theorem dX1_meanDelay_48 : decode cX1_meanDelay 48 = .ok (.aload 4, 2) := dk_25 4 (dk_at dksX1_meanDelay_2 0 rfl rfl)
theorem dX1_meanDelay_50 : decode cX1_meanDelay 50 = .ok (.getfield 52, 3) := dk_180 0 52 (dk_at dksX1_meanDelay_2 2 rfl rfl)
theorem dX1_meanDelay_53 : decode cX1_meanDelay 53 = .ok (.aload 4, 2) := dk_25 4 (dk_at dksX1_meanDelay_2 5 rfl rfl)
theorem dX1_meanDelay_55 : decode cX1_meanDelay 55 = .ok (.getfield 50, 3) := dk_180 0 50 (dk_at dksX1_meanDelay_2 7 rfl rfl)
theorem dX1_meanDelay_58 : decode cX1_meanDelay 58 = .ok (.isub, 1) := dk_100 (dk_at dksX1_meanDelay_2 10 rfl rfl)
theorem dX1_meanDelay_59 : decode cX1_meanDelay 59 = .ok (.iadd, 1) := dk_96 (dk_at dksX1_meanDelay_2 11 rfl rfl)
theorem dX1_meanDelay_60 : decode cX1_meanDelay 60 = .ok (.istore_n 1, 1) := dk_60 (dk_at dksX1_meanDelay_2 12 rfl rfl)
theorem dX1_meanDelay_61 : decode cX1_meanDelay 61 = .ok (.iinc 2 1, 3) := dk_132 2 1 (dk_at dksX1_meanDelay_2 13 rfl rfl)
theorem dX1_meanDelay_64 : decode cX1_meanDelay 64 = .ok (.iinc 3 1, 3) := dk_132 3 1 (dk_at dksX1_meanDelay_2 16 rfl rfl)
theorem dX1_meanDelay_67 : decode cX1_meanDelay 67 = .ok (.goto (-61), 3) := dk_167 255 195 (dk_at dksX1_meanDelay_2 19 rfl rfl)
theorem dX1_meanDelay_70 : decode cX1_meanDelay 70 = .ok (.iload_n 2, 1) := dk_28 (dk_at dksX1_meanDelay_2 22 rfl rfl)
theorem dX1_meanDelay_71 : decode cX1_meanDelay 71 = .ok (.ifCond .ne 7, 3) := dk_154 0 7 (dk_at dksX1_meanDelay_3 0 rfl rfl)
theorem dX1_meanDelay_74 : decode cX1_meanDelay 74 = .ok (.dconst 0, 1) := dk_14 (dk_at dksX1_meanDelay_3 3 rfl rfl)
theorem dX1_meanDelay_75 : decode cX1_meanDelay 75 = .ok (.goto 8, 3) := dk_167 0 8 (dk_at dksX1_meanDelay_3 4 rfl rfl)
theorem dX1_meanDelay_78 : decode cX1_meanDelay 78 = .ok (.iload_n 1, 1) := dk_27 (dk_at dksX1_meanDelay_3 7 rfl rfl)
theorem dX1_meanDelay_79 : decode cX1_meanDelay 79 = .ok (.i2d, 1) := dk_135 (dk_at dksX1_meanDelay_3 8 rfl rfl)
theorem dX1_meanDelay_80 : decode cX1_meanDelay 80 = .ok (.iload_n 2, 1) := dk_28 (dk_at dksX1_meanDelay_3 9 rfl rfl)
theorem dX1_meanDelay_81 : decode cX1_meanDelay 81 = .ok (.i2d, 1) := dk_135 (dk_at dksX1_meanDelay_3 10 rfl rfl)
theorem dX1_meanDelay_82 : decode cX1_meanDelay 82 = .ok (.ddiv, 1) := dk_111 (dk_at dksX1_meanDelay_3 11 rfl rfl)
theorem dX1_meanDelay_83 : decode cX1_meanDelay 83 = .ok (.dreturn, 1) := dk_175 (dk_at dksX1_meanDelay_3 12 rfl rfl)
abbrev cX1_success : ByteArray := prog_1_method_40_code
def yX1_success : MethodName := ⟨RX1, "success", "()F"⟩
def dkwX1_success_1 : List UInt8 := [182, 1, 42, 134, 42, 180, 0, 77, 180, 0, 176, 182, 0, 157, 134, 110, 174]
abbrev dktX1_success_1 : List UInt8 := dkwX1_success_1 ++ []
def dkwX1_success_0 : List UInt8 := [42, 180, 0, 77, 180, 0, 176, 182, 1, 114, 153, 0, 7, 11, 167, 0, 24, 42, 180, 0, 77, 5]
abbrev dktX1_success_0 : List UInt8 := dkwX1_success_0 ++ dktX1_success_1
theorem dksX1_success_0 : cX1_success.data.toList.drop 0 = dktX1_success_0 := by decide +kernel
theorem dksX1_success_1 : cX1_success.data.toList.drop 22 = dktX1_success_1 := dk_seg dksX1_success_0 22 rfl rfl
theorem dX1_success_0 : decode cX1_success 0 = .ok (.aload_n 0, 1) := dk_42 (dk_at dksX1_success_0 0 rfl rfl)
theorem dX1_success_1 : decode cX1_success 1 = .ok (.getfield 77, 3) := dk_180 0 77 (dk_at dksX1_success_0 1 rfl rfl)
theorem dX1_success_4 : decode cX1_success 4 = .ok (.getfield 176, 3) := dk_180 0 176 (dk_at dksX1_success_0 4 rfl rfl)
theorem dX1_success_7 : decode cX1_success 7 = .ok (.invokevirtual 370, 3) := dk_182 1 114 (dk_at dksX1_success_0 7 rfl rfl)
theorem dX1_success_10 : decode cX1_success 10 = .ok (.ifCond .eq 7, 3) := dk_153 0 7 (dk_at dksX1_success_0 10 rfl rfl)
theorem dX1_success_13 : decode cX1_success 13 = .ok (.fconst 0, 1) := dk_11 (dk_at dksX1_success_0 13 rfl rfl)
theorem dX1_success_14 : decode cX1_success 14 = .ok (.goto 24, 3) := dk_167 0 24 (dk_at dksX1_success_0 14 rfl rfl)
theorem dX1_success_17 : decode cX1_success 17 = .ok (.aload_n 0, 1) := dk_42 (dk_at dksX1_success_0 17 rfl rfl)
theorem dX1_success_18 : decode cX1_success 18 = .ok (.getfield 77, 3) := dk_180 0 77 (dk_at dksX1_success_0 18 rfl rfl)
theorem dX1_success_21 : decode cX1_success 21 = .ok (.iconst 2, 1) := dk_5 (dk_at dksX1_success_0 21 rfl rfl)
theorem dX1_success_22 : decode cX1_success 22 = .ok (.invokevirtual 298, 3) := dk_182 1 42 (dk_at dksX1_success_1 0 rfl rfl)
theorem dX1_success_25 : decode cX1_success 25 = .ok (.i2f, 1) := dk_134 (dk_at dksX1_success_1 3 rfl rfl)
theorem dX1_success_26 : decode cX1_success 26 = .ok (.aload_n 0, 1) := dk_42 (dk_at dksX1_success_1 4 rfl rfl)
theorem dX1_success_27 : decode cX1_success 27 = .ok (.getfield 77, 3) := dk_180 0 77 (dk_at dksX1_success_1 5 rfl rfl)
theorem dX1_success_30 : decode cX1_success 30 = .ok (.getfield 176, 3) := dk_180 0 176 (dk_at dksX1_success_1 8 rfl rfl)
theorem dX1_success_33 : decode cX1_success 33 = .ok (.invokevirtual 157, 3) := dk_182 0 157 (dk_at dksX1_success_1 11 rfl rfl)
theorem dX1_success_36 : decode cX1_success 36 = .ok (.i2f, 1) := dk_134 (dk_at dksX1_success_1 14 rfl rfl)
theorem dX1_success_37 : decode cX1_success 37 = .ok (.fdiv, 1) := dk_110 (dk_at dksX1_success_1 15 rfl rfl)
theorem dX1_success_38 : decode cX1_success 38 = .ok (.freturn, 1) := dk_174 (dk_at dksX1_success_1 16 rfl rfl)
abbrev cX1_undoCount : ByteArray := prog_1_method_48_code
def yX1_undoCount : MethodName := ⟨RX1, "undoCount", "()I"⟩
def dkwX1_undoCount_0 : List UInt8 := [42, 180, 0, 84, 182, 1, 117, 172]
abbrev dktX1_undoCount_0 : List UInt8 := dkwX1_undoCount_0 ++ []
theorem dksX1_undoCount_0 : cX1_undoCount.data.toList.drop 0 = dktX1_undoCount_0 := by decide +kernel
theorem dX1_undoCount_0 : decode cX1_undoCount 0 = .ok (.aload_n 0, 1) := dk_42 (dk_at dksX1_undoCount_0 0 rfl rfl)
theorem dX1_undoCount_1 : decode cX1_undoCount 1 = .ok (.getfield 84, 3) := dk_180 0 84 (dk_at dksX1_undoCount_0 1 rfl rfl)
theorem dX1_undoCount_4 : decode cX1_undoCount 4 = .ok (.invokevirtual 373, 3) := dk_182 1 117 (dk_at dksX1_undoCount_0 4 rfl rfl)
theorem dX1_undoCount_7 : decode cX1_undoCount 7 = .ok (.ireturn, 1) := dk_172 (dk_at dksX1_undoCount_0 7 rfl rfl)
abbrev cX1_undo : ByteArray := prog_1_method_49_code
def yX1_undo : MethodName := ⟨RX1, "undo", "()I"⟩
def dkwX1_undo_1 : List UInt8 := [181, 0, 77, 42, 180, 0, 84, 182, 1, 117, 172]
abbrev dktX1_undo_1 : List UInt8 := dkwX1_undo_1 ++ []
def dkwX1_undo_0 : List UInt8 := [42, 180, 0, 84, 182, 1, 166, 153, 0, 5, 2, 172, 42, 42, 180, 0, 84, 182, 1, 167, 192, 0, 72]
abbrev dktX1_undo_0 : List UInt8 := dkwX1_undo_0 ++ dktX1_undo_1
theorem dksX1_undo_0 : cX1_undo.data.toList.drop 0 = dktX1_undo_0 := by decide +kernel
theorem dksX1_undo_1 : cX1_undo.data.toList.drop 23 = dktX1_undo_1 := dk_seg dksX1_undo_0 23 rfl rfl
theorem dX1_undo_0 : decode cX1_undo 0 = .ok (.aload_n 0, 1) := dk_42 (dk_at dksX1_undo_0 0 rfl rfl)
theorem dX1_undo_1 : decode cX1_undo 1 = .ok (.getfield 84, 3) := dk_180 0 84 (dk_at dksX1_undo_0 1 rfl rfl)
theorem dX1_undo_4 : decode cX1_undo 4 = .ok (.invokevirtual 422, 3) := dk_182 1 166 (dk_at dksX1_undo_0 4 rfl rfl)
theorem dX1_undo_7 : decode cX1_undo 7 = .ok (.ifCond .eq 5, 3) := dk_153 0 5 (dk_at dksX1_undo_0 7 rfl rfl)
theorem dX1_undo_10 : decode cX1_undo 10 = .ok (.iconst (-1), 1) := dk_2 (dk_at dksX1_undo_0 10 rfl rfl)
theorem dX1_undo_11 : decode cX1_undo 11 = .ok (.ireturn, 1) := dk_172 (dk_at dksX1_undo_0 11 rfl rfl)
theorem dX1_undo_12 : decode cX1_undo 12 = .ok (.aload_n 0, 1) := dk_42 (dk_at dksX1_undo_0 12 rfl rfl)
theorem dX1_undo_13 : decode cX1_undo 13 = .ok (.aload_n 0, 1) := dk_42 (dk_at dksX1_undo_0 13 rfl rfl)
theorem dX1_undo_14 : decode cX1_undo 14 = .ok (.getfield 84, 3) := dk_180 0 84 (dk_at dksX1_undo_0 14 rfl rfl)
theorem dX1_undo_17 : decode cX1_undo 17 = .ok (.invokevirtual 423, 3) := dk_182 1 167 (dk_at dksX1_undo_0 17 rfl rfl)
theorem dX1_undo_20 : decode cX1_undo 20 = .ok (.checkcast 72, 3) := dk_192 0 72 (dk_at dksX1_undo_0 20 rfl rfl)
theorem dX1_undo_23 : decode cX1_undo 23 = .ok (.putfield 77, 3) := dk_181 0 77 (dk_at dksX1_undo_1 0 rfl rfl)
theorem dX1_undo_26 : decode cX1_undo 26 = .ok (.aload_n 0, 1) := dk_42 (dk_at dksX1_undo_1 3 rfl rfl)
theorem dX1_undo_27 : decode cX1_undo 27 = .ok (.getfield 84, 3) := dk_180 0 84 (dk_at dksX1_undo_1 4 rfl rfl)
theorem dX1_undo_30 : decode cX1_undo 30 = .ok (.invokevirtual 373, 3) := dk_182 1 117 (dk_at dksX1_undo_1 7 rfl rfl)
theorem dX1_undo_33 : decode cX1_undo 33 = .ok (.ireturn, 1) := dk_172 (dk_at dksX1_undo_1 10 rfl rfl)
abbrev cX1_saveSnapshot : ByteArray := prog_1_method_50_code
def yX1_saveSnapshot : MethodName := ⟨RX1, "saveSnapshot", "()V"⟩
def dkwX1_saveSnapshot_0 : List UInt8 := [42, 42, 180, 0, 77, 181, 0, 150, 177]
abbrev dktX1_saveSnapshot_0 : List UInt8 := dkwX1_saveSnapshot_0 ++ []
theorem dksX1_saveSnapshot_0 : cX1_saveSnapshot.data.toList.drop 0 = dktX1_saveSnapshot_0 := by decide +kernel
theorem dX1_saveSnapshot_0 : decode cX1_saveSnapshot 0 = .ok (.aload_n 0, 1) := dk_42 (dk_at dksX1_saveSnapshot_0 0 rfl rfl)
theorem dX1_saveSnapshot_1 : decode cX1_saveSnapshot 1 = .ok (.aload_n 0, 1) := dk_42 (dk_at dksX1_saveSnapshot_0 1 rfl rfl)
theorem dX1_saveSnapshot_2 : decode cX1_saveSnapshot 2 = .ok (.getfield 77, 3) := dk_180 0 77 (dk_at dksX1_saveSnapshot_0 2 rfl rfl)
theorem dX1_saveSnapshot_5 : decode cX1_saveSnapshot 5 = .ok (.putfield 150, 3) := dk_181 0 150 (dk_at dksX1_saveSnapshot_0 5 rfl rfl)
theorem dX1_saveSnapshot_8 : decode cX1_saveSnapshot 8 = .ok (.return_, 1) := dk_177 (dk_at dksX1_saveSnapshot_0 8 rfl rfl)
abbrev cX1_restoreSnapshot : ByteArray := prog_1_method_51_code
def yX1_restoreSnapshot : MethodName := ⟨RX1, "restoreSnapshot", "()Z"⟩
def dkwX1_restoreSnapshot_1 : List UInt8 := [4, 172]
abbrev dktX1_restoreSnapshot_1 : List UInt8 := dkwX1_restoreSnapshot_1 ++ []
def dkwX1_restoreSnapshot_0 : List UInt8 := [42, 180, 0, 150, 199, 0, 5, 3, 172, 42, 42, 180, 0, 150, 181, 0, 77, 42, 180, 0, 84, 182, 0, 147]
abbrev dktX1_restoreSnapshot_0 : List UInt8 := dkwX1_restoreSnapshot_0 ++ dktX1_restoreSnapshot_1
theorem dksX1_restoreSnapshot_0 : cX1_restoreSnapshot.data.toList.drop 0 = dktX1_restoreSnapshot_0 := by decide +kernel
theorem dksX1_restoreSnapshot_1 : cX1_restoreSnapshot.data.toList.drop 24 = dktX1_restoreSnapshot_1 := dk_seg dksX1_restoreSnapshot_0 24 rfl rfl
theorem dX1_restoreSnapshot_0 : decode cX1_restoreSnapshot 0 = .ok (.aload_n 0, 1) := dk_42 (dk_at dksX1_restoreSnapshot_0 0 rfl rfl)
theorem dX1_restoreSnapshot_1 : decode cX1_restoreSnapshot 1 = .ok (.getfield 150, 3) := dk_180 0 150 (dk_at dksX1_restoreSnapshot_0 1 rfl rfl)
theorem dX1_restoreSnapshot_4 : decode cX1_restoreSnapshot 4 = .ok (.ifnonnull 5, 3) := dk_199 0 5 (dk_at dksX1_restoreSnapshot_0 4 rfl rfl)
theorem dX1_restoreSnapshot_7 : decode cX1_restoreSnapshot 7 = .ok (.iconst 0, 1) := dk_3 (dk_at dksX1_restoreSnapshot_0 7 rfl rfl)
theorem dX1_restoreSnapshot_8 : decode cX1_restoreSnapshot 8 = .ok (.ireturn, 1) := dk_172 (dk_at dksX1_restoreSnapshot_0 8 rfl rfl)
theorem dX1_restoreSnapshot_9 : decode cX1_restoreSnapshot 9 = .ok (.aload_n 0, 1) := dk_42 (dk_at dksX1_restoreSnapshot_0 9 rfl rfl)
theorem dX1_restoreSnapshot_10 : decode cX1_restoreSnapshot 10 = .ok (.aload_n 0, 1) := dk_42 (dk_at dksX1_restoreSnapshot_0 10 rfl rfl)
theorem dX1_restoreSnapshot_11 : decode cX1_restoreSnapshot 11 = .ok (.getfield 150, 3) := dk_180 0 150 (dk_at dksX1_restoreSnapshot_0 11 rfl rfl)
theorem dX1_restoreSnapshot_14 : decode cX1_restoreSnapshot 14 = .ok (.putfield 77, 3) := dk_181 0 77 (dk_at dksX1_restoreSnapshot_0 14 rfl rfl)
theorem dX1_restoreSnapshot_17 : decode cX1_restoreSnapshot 17 = .ok (.aload_n 0, 1) := dk_42 (dk_at dksX1_restoreSnapshot_0 17 rfl rfl)
theorem dX1_restoreSnapshot_18 : decode cX1_restoreSnapshot 18 = .ok (.getfield 84, 3) := dk_180 0 84 (dk_at dksX1_restoreSnapshot_0 18 rfl rfl)
theorem dX1_restoreSnapshot_21 : decode cX1_restoreSnapshot 21 = .ok (.invokevirtual 147, 3) := dk_182 0 147 (dk_at dksX1_restoreSnapshot_0 21 rfl rfl)
theorem dX1_restoreSnapshot_24 : decode cX1_restoreSnapshot 24 = .ok (.iconst 1, 1) := dk_4 (dk_at dksX1_restoreSnapshot_1 0 rfl rfl)
theorem dX1_restoreSnapshot_25 : decode cX1_restoreSnapshot 25 = .ok (.ireturn, 1) := dk_172 (dk_at dksX1_restoreSnapshot_1 1 rfl rfl)
abbrev cX1_formattedByte : ByteArray := prog_1_method_54_code
def yX1_formattedByte : MethodName := ⟨RX1, "formattedByte", "(I)I"⟩
def dkwX1_formattedByte_1 : List UInt8 := [182, 1, 187, 167, 0, 4, 2, 172]
abbrev dktX1_formattedByte_1 : List UInt8 := dkwX1_formattedByte_1 ++ []
def dkwX1_formattedByte_0 : List UInt8 := [27, 133, 9, 42, 180, 0, 97, 182, 1, 184, 4, 100, 133, 184, 0, 114, 153, 0, 14, 42, 180, 0, 97, 27]
abbrev dktX1_formattedByte_0 : List UInt8 := dkwX1_formattedByte_0 ++ dktX1_formattedByte_1
theorem dksX1_formattedByte_0 : cX1_formattedByte.data.toList.drop 0 = dktX1_formattedByte_0 := by decide +kernel
theorem dksX1_formattedByte_1 : cX1_formattedByte.data.toList.drop 24 = dktX1_formattedByte_1 := dk_seg dksX1_formattedByte_0 24 rfl rfl
theorem dX1_formattedByte_0 : decode cX1_formattedByte 0 = .ok (.iload_n 1, 1) := dk_27 (dk_at dksX1_formattedByte_0 0 rfl rfl)
theorem dX1_formattedByte_1 : decode cX1_formattedByte 1 = .ok (.i2l, 1) := dk_133 (dk_at dksX1_formattedByte_0 1 rfl rfl)
theorem dX1_formattedByte_2 : decode cX1_formattedByte 2 = .ok (.lconst 0, 1) := dk_9 (dk_at dksX1_formattedByte_0 2 rfl rfl)
theorem dX1_formattedByte_3 : decode cX1_formattedByte 3 = .ok (.aload_n 0, 1) := dk_42 (dk_at dksX1_formattedByte_0 3 rfl rfl)
theorem dX1_formattedByte_4 : decode cX1_formattedByte 4 = .ok (.getfield 97, 3) := dk_180 0 97 (dk_at dksX1_formattedByte_0 4 rfl rfl)
theorem dX1_formattedByte_7 : decode cX1_formattedByte 7 = .ok (.invokevirtual 440, 3) := dk_182 1 184 (dk_at dksX1_formattedByte_0 7 rfl rfl)
theorem dX1_formattedByte_10 : decode cX1_formattedByte 10 = .ok (.iconst 1, 1) := dk_4 (dk_at dksX1_formattedByte_0 10 rfl rfl)
theorem dX1_formattedByte_11 : decode cX1_formattedByte 11 = .ok (.isub, 1) := dk_100 (dk_at dksX1_formattedByte_0 11 rfl rfl)
theorem dX1_formattedByte_12 : decode cX1_formattedByte 12 = .ok (.i2l, 1) := dk_133 (dk_at dksX1_formattedByte_0 12 rfl rfl)
theorem dX1_formattedByte_13 : decode cX1_formattedByte 13 = .ok (.invokestatic 114, 3) := dk_184 0 114 (dk_at dksX1_formattedByte_0 13 rfl rfl)
theorem dX1_formattedByte_16 : decode cX1_formattedByte 16 = .ok (.ifCond .eq 14, 3) := dk_153 0 14 (dk_at dksX1_formattedByte_0 16 rfl rfl)
theorem dX1_formattedByte_19 : decode cX1_formattedByte 19 = .ok (.aload_n 0, 1) := dk_42 (dk_at dksX1_formattedByte_0 19 rfl rfl)
theorem dX1_formattedByte_20 : decode cX1_formattedByte 20 = .ok (.getfield 97, 3) := dk_180 0 97 (dk_at dksX1_formattedByte_0 20 rfl rfl)
theorem dX1_formattedByte_23 : decode cX1_formattedByte 23 = .ok (.iload_n 1, 1) := dk_27 (dk_at dksX1_formattedByte_0 23 rfl rfl)
theorem dX1_formattedByte_24 : decode cX1_formattedByte 24 = .ok (.invokevirtual 443, 3) := dk_182 1 187 (dk_at dksX1_formattedByte_1 0 rfl rfl)
theorem dX1_formattedByte_27 : decode cX1_formattedByte 27 = .ok (.goto 4, 3) := dk_167 0 4 (dk_at dksX1_formattedByte_1 3 rfl rfl)
theorem dX1_formattedByte_30 : decode cX1_formattedByte 30 = .ok (.iconst (-1), 1) := dk_2 (dk_at dksX1_formattedByte_1 6 rfl rfl)
theorem dX1_formattedByte_31 : decode cX1_formattedByte 31 = .ok (.ireturn, 1) := dk_172 (dk_at dksX1_formattedByte_1 7 rfl rfl)
abbrev cX1_isIn : ByteArray := prog_1_method_1_code
def yX1_isIn : MethodName := ⟨RX1, "isIn", "(JJJ)Z"⟩
def dkwX1_isIn_0 : List UInt8 := [30, 32, 148, 155, 0, 14, 30, 22, 4, 148, 157, 0, 7, 4, 167, 0, 4, 3, 172]
abbrev dktX1_isIn_0 : List UInt8 := dkwX1_isIn_0 ++ []
theorem dksX1_isIn_0 : cX1_isIn.data.toList.drop 0 = dktX1_isIn_0 := by decide +kernel
theorem dX1_isIn_0 : decode cX1_isIn 0 = .ok (.lload_n 0, 1) := dk_30 (dk_at dksX1_isIn_0 0 rfl rfl)
theorem dX1_isIn_1 : decode cX1_isIn 1 = .ok (.lload_n 2, 1) := dk_32 (dk_at dksX1_isIn_0 1 rfl rfl)
theorem dX1_isIn_2 : decode cX1_isIn 2 = .ok (.lcmp, 1) := dk_148 (dk_at dksX1_isIn_0 2 rfl rfl)
theorem dX1_isIn_3 : decode cX1_isIn 3 = .ok (.ifCond .lt 14, 3) := dk_155 0 14 (dk_at dksX1_isIn_0 3 rfl rfl)
theorem dX1_isIn_6 : decode cX1_isIn 6 = .ok (.lload_n 0, 1) := dk_30 (dk_at dksX1_isIn_0 6 rfl rfl)
theorem dX1_isIn_7 : decode cX1_isIn 7 = .ok (.lload 4, 2) := dk_22 4 (dk_at dksX1_isIn_0 7 rfl rfl)
theorem dX1_isIn_9 : decode cX1_isIn 9 = .ok (.lcmp, 1) := dk_148 (dk_at dksX1_isIn_0 9 rfl rfl)
theorem dX1_isIn_10 : decode cX1_isIn 10 = .ok (.ifCond .gt 7, 3) := dk_157 0 7 (dk_at dksX1_isIn_0 10 rfl rfl)
theorem dX1_isIn_13 : decode cX1_isIn 13 = .ok (.iconst 1, 1) := dk_4 (dk_at dksX1_isIn_0 13 rfl rfl)
theorem dX1_isIn_14 : decode cX1_isIn 14 = .ok (.goto 4, 3) := dk_167 0 4 (dk_at dksX1_isIn_0 14 rfl rfl)
theorem dX1_isIn_17 : decode cX1_isIn 17 = .ok (.iconst 0, 1) := dk_3 (dk_at dksX1_isIn_0 17 rfl rfl)
theorem dX1_isIn_18 : decode cX1_isIn 18 = .ok (.ireturn, 1) := dk_172 (dk_at dksX1_isIn_0 18 rfl rfl)
abbrev cX1_load : ByteArray := prog_1_method_12_code
def yX1_load : MethodName := ⟨RX1, "load", "(I)I"⟩
def dkwX1_load_2 : List UInt8 := [42, 180, 0, 77, 180, 0, 153, 182, 0, 157, 172]
abbrev dktX1_load_2 : List UInt8 := dkwX1_load_2 ++ []
def dkwX1_load_1 : List UInt8 := [167, 0, 12, 77, 42, 44, 16, 246, 182, 0, 143, 172, 42, 180, 0, 84, 182, 0, 147, 42, 1, 181, 0, 150]
abbrev dktX1_load_1 : List UInt8 := dkwX1_load_1 ++ dktX1_load_2
def dkwX1_load_0 : List UInt8 := [42, 27, 17, 2, 88, 182, 0, 130, 42, 187, 0, 134, 89, 42, 27, 183, 0, 136, 182, 0, 139, 181, 0, 77]
abbrev dktX1_load_0 : List UInt8 := dkwX1_load_0 ++ dktX1_load_1
theorem dksX1_load_0 : cX1_load.data.toList.drop 0 = dktX1_load_0 := by decide +kernel
theorem dksX1_load_1 : cX1_load.data.toList.drop 24 = dktX1_load_1 := dk_seg dksX1_load_0 24 rfl rfl
theorem dksX1_load_2 : cX1_load.data.toList.drop 48 = dktX1_load_2 := dk_seg dksX1_load_1 24 rfl rfl
theorem dX1_load_0 : decode cX1_load 0 = .ok (.aload_n 0, 1) := dk_42 (dk_at dksX1_load_0 0 rfl rfl)
theorem dX1_load_1 : decode cX1_load 1 = .ok (.iload_n 1, 1) := dk_27 (dk_at dksX1_load_0 1 rfl rfl)
theorem dX1_load_2 : decode cX1_load 2 = .ok (.sipush 600, 3) := dk_17 2 88 (dk_at dksX1_load_0 2 rfl rfl)
theorem dX1_load_5 : decode cX1_load 5 = .ok (.invokevirtual 130, 3) := dk_182 0 130 (dk_at dksX1_load_0 5 rfl rfl)
theorem dX1_load_8 : decode cX1_load 8 = .ok (.aload_n 0, 1) := dk_42 (dk_at dksX1_load_0 8 rfl rfl)
theorem dX1_load_9 : decode cX1_load 9 = .ok (.new 134, 3) := dk_187 0 134 (dk_at dksX1_load_0 9 rfl rfl)
theorem dX1_load_12 : decode cX1_load 12 = .ok (.dup, 1) := dk_89 (dk_at dksX1_load_0 12 rfl rfl)
theorem dX1_load_13 : decode cX1_load 13 = .ok (.aload_n 0, 1) := dk_42 (dk_at dksX1_load_0 13 rfl rfl)
theorem dX1_load_14 : decode cX1_load 14 = .ok (.iload_n 1, 1) := dk_27 (dk_at dksX1_load_0 14 rfl rfl)
theorem dX1_load_15 : decode cX1_load 15 = .ok (.invokespecial 136, 3) := dk_183 0 136 (dk_at dksX1_load_0 15 rfl rfl)
theorem dX1_load_18 : decode cX1_load 18 = .ok (.invokevirtual 139, 3) := dk_182 0 139 (dk_at dksX1_load_0 18 rfl rfl)
theorem dX1_load_21 : decode cX1_load 21 = .ok (.putfield 77, 3) := dk_181 0 77 (dk_at dksX1_load_0 21 rfl rfl)
theorem dX1_load_24 : decode cX1_load 24 = .ok (.goto 12, 3) := dk_167 0 12 (dk_at dksX1_load_1 0 rfl rfl)
theorem dX1_load_27 : decode cX1_load 27 = .ok (.astore_n 2, 1) := dk_77 (dk_at dksX1_load_1 3 rfl rfl)
theorem dX1_load_28 : decode cX1_load 28 = .ok (.aload_n 0, 1) := dk_42 (dk_at dksX1_load_1 4 rfl rfl)
theorem dX1_load_29 : decode cX1_load 29 = .ok (.aload_n 2, 1) := dk_44 (dk_at dksX1_load_1 5 rfl rfl)
theorem dX1_load_30 : decode cX1_load 30 = .ok (.bipush (-10), 2) := dk_16 246 (dk_at dksX1_load_1 6 rfl rfl)
theorem dX1_load_32 : decode cX1_load 32 = .ok (.invokevirtual 143, 3) := dk_182 0 143 (dk_at dksX1_load_1 8 rfl rfl)
theorem dX1_load_35 : decode cX1_load 35 = .ok (.ireturn, 1) := dk_172 (dk_at dksX1_load_1 11 rfl rfl)
theorem dX1_load_36 : decode cX1_load 36 = .ok (.aload_n 0, 1) := dk_42 (dk_at dksX1_load_1 12 rfl rfl)
theorem dX1_load_37 : decode cX1_load 37 = .ok (.getfield 84, 3) := dk_180 0 84 (dk_at dksX1_load_1 13 rfl rfl)
theorem dX1_load_40 : decode cX1_load 40 = .ok (.invokevirtual 147, 3) := dk_182 0 147 (dk_at dksX1_load_1 16 rfl rfl)
theorem dX1_load_43 : decode cX1_load 43 = .ok (.aload_n 0, 1) := dk_42 (dk_at dksX1_load_1 19 rfl rfl)
theorem dX1_load_44 : decode cX1_load 44 = .ok (.aconst_null, 1) := dk_1 (dk_at dksX1_load_1 20 rfl rfl)
theorem dX1_load_45 : decode cX1_load 45 = .ok (.putfield 150, 3) := dk_181 0 150 (dk_at dksX1_load_1 21 rfl rfl)
theorem dX1_load_48 : decode cX1_load 48 = .ok (.aload_n 0, 1) := dk_42 (dk_at dksX1_load_2 0 rfl rfl)
theorem dX1_load_49 : decode cX1_load 49 = .ok (.getfield 77, 3) := dk_180 0 77 (dk_at dksX1_load_2 1 rfl rfl)
theorem dX1_load_52 : decode cX1_load 52 = .ok (.getfield 153, 3) := dk_180 0 153 (dk_at dksX1_load_2 4 rfl rfl)
theorem dX1_load_55 : decode cX1_load 55 = .ok (.invokevirtual 157, 3) := dk_182 0 157 (dk_at dksX1_load_2 7 rfl rfl)
theorem dX1_load_58 : decode cX1_load 58 = .ok (.ireturn, 1) := dk_172 (dk_at dksX1_load_2 10 rfl rfl)
abbrev cX1_startReading : ByteArray := prog_1_method_10_code
def yX1_startReading : MethodName := ⟨RX1, "startReading", "(II)V"⟩
def dkwX1_startReading_1 : List UInt8 := [2, 181, 0, 92, 177]
abbrev dktX1_startReading_1 : List UInt8 := dkwX1_startReading_1 ++ []
def dkwX1_startReading_0 : List UInt8 := [27, 133, 9, 42, 180, 0, 101, 28, 184, 0, 108, 133, 184, 0, 114, 184, 0, 118, 42, 3, 181, 0, 101, 42]
abbrev dktX1_startReading_0 : List UInt8 := dkwX1_startReading_0 ++ dktX1_startReading_1
theorem dksX1_startReading_0 : cX1_startReading.data.toList.drop 0 = dktX1_startReading_0 := by decide +kernel
theorem dksX1_startReading_1 : cX1_startReading.data.toList.drop 24 = dktX1_startReading_1 := dk_seg dksX1_startReading_0 24 rfl rfl
theorem dX1_startReading_0 : decode cX1_startReading 0 = .ok (.iload_n 1, 1) := dk_27 (dk_at dksX1_startReading_0 0 rfl rfl)
theorem dX1_startReading_1 : decode cX1_startReading 1 = .ok (.i2l, 1) := dk_133 (dk_at dksX1_startReading_0 1 rfl rfl)
theorem dX1_startReading_2 : decode cX1_startReading 2 = .ok (.lconst 0, 1) := dk_9 (dk_at dksX1_startReading_0 2 rfl rfl)
theorem dX1_startReading_3 : decode cX1_startReading 3 = .ok (.aload_n 0, 1) := dk_42 (dk_at dksX1_startReading_0 3 rfl rfl)
theorem dX1_startReading_4 : decode cX1_startReading 4 = .ok (.getfield 101, 3) := dk_180 0 101 (dk_at dksX1_startReading_0 4 rfl rfl)
theorem dX1_startReading_7 : decode cX1_startReading 7 = .ok (.iload_n 2, 1) := dk_28 (dk_at dksX1_startReading_0 7 rfl rfl)
theorem dX1_startReading_8 : decode cX1_startReading 8 = .ok (.invokestatic 108, 3) := dk_184 0 108 (dk_at dksX1_startReading_0 8 rfl rfl)
theorem dX1_startReading_11 : decode cX1_startReading 11 = .ok (.i2l, 1) := dk_133 (dk_at dksX1_startReading_0 11 rfl rfl)
theorem dX1_startReading_12 : decode cX1_startReading 12 = .ok (.invokestatic 114, 3) := dk_184 0 114 (dk_at dksX1_startReading_0 12 rfl rfl)
theorem dX1_startReading_15 : decode cX1_startReading 15 = .ok (.invokestatic 118, 3) := dk_184 0 118 (dk_at dksX1_startReading_0 15 rfl rfl)
theorem dX1_startReading_18 : decode cX1_startReading 18 = .ok (.aload_n 0, 1) := dk_42 (dk_at dksX1_startReading_0 18 rfl rfl)
theorem dX1_startReading_19 : decode cX1_startReading 19 = .ok (.iconst 0, 1) := dk_3 (dk_at dksX1_startReading_0 19 rfl rfl)
theorem dX1_startReading_20 : decode cX1_startReading 20 = .ok (.putfield 101, 3) := dk_181 0 101 (dk_at dksX1_startReading_0 20 rfl rfl)
theorem dX1_startReading_23 : decode cX1_startReading 23 = .ok (.aload_n 0, 1) := dk_42 (dk_at dksX1_startReading_0 23 rfl rfl)
theorem dX1_startReading_24 : decode cX1_startReading 24 = .ok (.iconst (-1), 1) := dk_2 (dk_at dksX1_startReading_1 0 rfl rfl)
theorem dX1_startReading_25 : decode cX1_startReading 25 = .ok (.putfield 92, 3) := dk_181 0 92 (dk_at dksX1_startReading_1 1 rfl rfl)
theorem dX1_startReading_28 : decode cX1_startReading 28 = .ok (.return_, 1) := dk_177 (dk_at dksX1_startReading_1 4 rfl rfl)
abbrev cX1_requireArgument : ByteArray := prog_1_method_3_code
def yX1_requireArgument : MethodName := ⟨RX1, "requireArgument", "(Z)V"⟩
def dkwX1_requireArgument_0 : List UInt8 := [26, 154, 0, 11, 187, 0, 1, 89, 183, 0, 3, 191, 177]
abbrev dktX1_requireArgument_0 : List UInt8 := dkwX1_requireArgument_0 ++ []
theorem dksX1_requireArgument_0 : cX1_requireArgument.data.toList.drop 0 = dktX1_requireArgument_0 := by decide +kernel
theorem dX1_requireArgument_0 : decode cX1_requireArgument 0 = .ok (.iload_n 0, 1) := dk_26 (dk_at dksX1_requireArgument_0 0 rfl rfl)
theorem dX1_requireArgument_1 : decode cX1_requireArgument 1 = .ok (.ifCond .ne 11, 3) := dk_154 0 11 (dk_at dksX1_requireArgument_0 1 rfl rfl)
theorem dX1_requireArgument_4 : decode cX1_requireArgument 4 = .ok (.new 1, 3) := dk_187 0 1 (dk_at dksX1_requireArgument_0 4 rfl rfl)
theorem dX1_requireArgument_7 : decode cX1_requireArgument 7 = .ok (.dup, 1) := dk_89 (dk_at dksX1_requireArgument_0 7 rfl rfl)
theorem dX1_requireArgument_8 : decode cX1_requireArgument 8 = .ok (.invokespecial 3, 3) := dk_183 0 3 (dk_at dksX1_requireArgument_0 8 rfl rfl)
theorem dX1_requireArgument_11 : decode cX1_requireArgument 11 = .ok (.athrow, 1) := dk_191 (dk_at dksX1_requireArgument_0 11 rfl rfl)
theorem dX1_requireArgument_12 : decode cX1_requireArgument 12 = .ok (.return_, 1) := dk_177 (dk_at dksX1_requireArgument_0 12 rfl rfl)
abbrev cX1_failed : ByteArray := prog_1_method_11_code
def yX1_failed : MethodName := ⟨RX1, "failed", "(LMessengerBoard$TextError;I)I"⟩
def dkwX1_failed_0 : List UInt8 := [42, 43, 180, 0, 122, 181, 0, 92, 28, 43, 180, 0, 127, 100, 172]
abbrev dktX1_failed_0 : List UInt8 := dkwX1_failed_0 ++ []
theorem dksX1_failed_0 : cX1_failed.data.toList.drop 0 = dktX1_failed_0 := by decide +kernel
theorem dX1_failed_0 : decode cX1_failed 0 = .ok (.aload_n 0, 1) := dk_42 (dk_at dksX1_failed_0 0 rfl rfl)
theorem dX1_failed_1 : decode cX1_failed 1 = .ok (.aload_n 1, 1) := dk_43 (dk_at dksX1_failed_0 1 rfl rfl)
theorem dX1_failed_2 : decode cX1_failed 2 = .ok (.getfield 122, 3) := dk_180 0 122 (dk_at dksX1_failed_0 2 rfl rfl)
theorem dX1_failed_5 : decode cX1_failed 5 = .ok (.putfield 92, 3) := dk_181 0 92 (dk_at dksX1_failed_0 5 rfl rfl)
theorem dX1_failed_8 : decode cX1_failed 8 = .ok (.iload_n 2, 1) := dk_28 (dk_at dksX1_failed_0 8 rfl rfl)
theorem dX1_failed_9 : decode cX1_failed 9 = .ok (.aload_n 1, 1) := dk_43 (dk_at dksX1_failed_0 9 rfl rfl)
theorem dX1_failed_10 : decode cX1_failed 10 = .ok (.getfield 127, 3) := dk_180 0 127 (dk_at dksX1_failed_0 10 rfl rfl)
theorem dX1_failed_13 : decode cX1_failed 13 = .ok (.isub, 1) := dk_100 (dk_at dksX1_failed_0 13 rfl rfl)
theorem dX1_failed_14 : decode cX1_failed 14 = .ok (.ireturn, 1) := dk_172 (dk_at dksX1_failed_0 14 rfl rfl)
abbrev cX1_size : ByteArray := prog_1_method_14_code
def yX1_size : MethodName := ⟨RX1, "size", "(I)I"⟩
def dkwX1_size_7 : List UInt8 := [180, 0, 77, 180, 0, 194, 167, 0, 10, 42, 180, 0, 77, 180, 0, 197, 172]
abbrev dktX1_size_7 : List UInt8 := dkwX1_size_7 ++ []
def dkwX1_size_6 : List UInt8 := [180, 0, 77, 180, 0, 188, 182, 0, 157, 167, 0, 30, 42, 180, 0, 77, 180, 0, 191, 167, 0, 20, 42]
abbrev dktX1_size_6 : List UInt8 := dkwX1_size_6 ++ dktX1_size_7
def dkwX1_size_5 : List UInt8 := [180, 0, 77, 182, 0, 182, 167, 0, 56, 42, 180, 0, 77, 180, 0, 185, 182, 0, 157, 167, 0, 43, 42]
abbrev dktX1_size_5 : List UInt8 := dkwX1_size_5 ++ dktX1_size_6
def dkwX1_size_4 : List UInt8 := [180, 0, 77, 180, 0, 176, 182, 0, 157, 167, 0, 76, 42, 180, 0, 77, 180, 0, 179, 167, 0, 66, 42]
abbrev dktX1_size_4 : List UInt8 := dkwX1_size_4 ++ dktX1_size_5
def dkwX1_size_3 : List UInt8 := [180, 0, 153, 182, 0, 157, 167, 0, 102, 42, 180, 0, 77, 180, 0, 173, 182, 0, 157, 167, 0, 89, 42]
abbrev dktX1_size_3 : List UInt8 := dkwX1_size_3 ++ dktX1_size_4
def dkwX1_size_2 : List UInt8 := [42, 180, 0, 77, 180, 0, 167, 167, 0, 125, 42, 180, 0, 77, 180, 0, 170, 167, 0, 115, 42, 180, 0, 77]
abbrev dktX1_size_2 : List UInt8 := dkwX1_size_2 ++ dktX1_size_3
def dkwX1_size_1 : List UInt8 := [170, 0, 0, 0, 0, 0, 184, 0, 0, 0, 0, 0, 0, 0, 10, 0, 0, 0, 59, 0, 0, 0, 69, 0, 0, 0, 79, 0, 0, 0, 92, 0, 0, 0, 105, 0, 0, 0, 118, 0, 0, 0, 128, 0, 0, 0, 138, 0, 0, 0, 151, 0, 0, 0, 164, 0, 0, 0, 174]
abbrev dktX1_size_1 : List UInt8 := dkwX1_size_1 ++ dktX1_size_2
def dkwX1_size_0 : List UInt8 := [27, 133, 9, 20, 0, 162, 184, 0, 114, 184, 0, 164, 27]
abbrev dktX1_size_0 : List UInt8 := dkwX1_size_0 ++ dktX1_size_1
theorem dksX1_size_0 : cX1_size.data.toList.drop 0 = dktX1_size_0 := by decide +kernel
theorem dksX1_size_1 : cX1_size.data.toList.drop 13 = dktX1_size_1 := dk_seg dksX1_size_0 13 rfl rfl
theorem dksX1_size_2 : cX1_size.data.toList.drop 72 = dktX1_size_2 := dk_seg dksX1_size_1 59 rfl rfl
theorem dksX1_size_3 : cX1_size.data.toList.drop 96 = dktX1_size_3 := dk_seg dksX1_size_2 24 rfl rfl
theorem dksX1_size_4 : cX1_size.data.toList.drop 119 = dktX1_size_4 := dk_seg dksX1_size_3 23 rfl rfl
theorem dksX1_size_5 : cX1_size.data.toList.drop 142 = dktX1_size_5 := dk_seg dksX1_size_4 23 rfl rfl
theorem dksX1_size_6 : cX1_size.data.toList.drop 165 = dktX1_size_6 := dk_seg dksX1_size_5 23 rfl rfl
theorem dksX1_size_7 : cX1_size.data.toList.drop 188 = dktX1_size_7 := dk_seg dksX1_size_6 23 rfl rfl
theorem dX1_size_0 : decode cX1_size 0 = .ok (.iload_n 1, 1) := dk_27 (dk_at dksX1_size_0 0 rfl rfl)
theorem dX1_size_1 : decode cX1_size 1 = .ok (.i2l, 1) := dk_133 (dk_at dksX1_size_0 1 rfl rfl)
theorem dX1_size_2 : decode cX1_size 2 = .ok (.lconst 0, 1) := dk_9 (dk_at dksX1_size_0 2 rfl rfl)
theorem dX1_size_3 : decode cX1_size 3 = .ok (.ldc2_w 162, 3) := dk_20 0 162 (dk_at dksX1_size_0 3 rfl rfl)
theorem dX1_size_6 : decode cX1_size 6 = .ok (.invokestatic 114, 3) := dk_184 0 114 (dk_at dksX1_size_0 6 rfl rfl)
theorem dX1_size_9 : decode cX1_size 9 = .ok (.invokestatic 164, 3) := dk_184 0 164 (dk_at dksX1_size_0 9 rfl rfl)
theorem dX1_size_12 : decode cX1_size 12 = .ok (.iload_n 1, 1) := dk_27 (dk_at dksX1_size_0 12 rfl rfl)
theorem dX1_size_13 : decode cX1_size 13 = .ok (.tableswitch 184 0 10 #[59, 69, 79, 92, 105, 118, 128, 138, 151, 164, 174], 59) := by decide +kernel
theorem dX1_size_72 : decode cX1_size 72 = .ok (.aload_n 0, 1) := dk_42 (dk_at dksX1_size_2 0 rfl rfl)
theorem dX1_size_73 : decode cX1_size 73 = .ok (.getfield 77, 3) := dk_180 0 77 (dk_at dksX1_size_2 1 rfl rfl)
theorem dX1_size_76 : decode cX1_size 76 = .ok (.getfield 167, 3) := dk_180 0 167 (dk_at dksX1_size_2 4 rfl rfl)
theorem dX1_size_79 : decode cX1_size 79 = .ok (.goto 125, 3) := dk_167 0 125 (dk_at dksX1_size_2 7 rfl rfl)
theorem dX1_size_82 : decode cX1_size 82 = .ok (.aload_n 0, 1) := dk_42 (dk_at dksX1_size_2 10 rfl rfl)
theorem dX1_size_83 : decode cX1_size 83 = .ok (.getfield 77, 3) := dk_180 0 77 (dk_at dksX1_size_2 11 rfl rfl)
theorem dX1_size_86 : decode cX1_size 86 = .ok (.getfield 170, 3) := dk_180 0 170 (dk_at dksX1_size_2 14 rfl rfl)
theorem dX1_size_89 : decode cX1_size 89 = .ok (.goto 115, 3) := dk_167 0 115 (dk_at dksX1_size_2 17 rfl rfl)
theorem dX1_size_92 : decode cX1_size 92 = .ok (.aload_n 0, 1) := dk_42 (dk_at dksX1_size_2 20 rfl rfl)
theorem dX1_size_93 : decode cX1_size 93 = .ok (.getfield 77, 3) := dk_180 0 77 (dk_at dksX1_size_2 21 rfl rfl)
theorem dX1_size_96 : decode cX1_size 96 = .ok (.getfield 153, 3) := dk_180 0 153 (dk_at dksX1_size_3 0 rfl rfl)
theorem dX1_size_99 : decode cX1_size 99 = .ok (.invokevirtual 157, 3) := dk_182 0 157 (dk_at dksX1_size_3 3 rfl rfl)
theorem dX1_size_102 : decode cX1_size 102 = .ok (.goto 102, 3) := dk_167 0 102 (dk_at dksX1_size_3 6 rfl rfl)
theorem dX1_size_105 : decode cX1_size 105 = .ok (.aload_n 0, 1) := dk_42 (dk_at dksX1_size_3 9 rfl rfl)
theorem dX1_size_106 : decode cX1_size 106 = .ok (.getfield 77, 3) := dk_180 0 77 (dk_at dksX1_size_3 10 rfl rfl)
theorem dX1_size_109 : decode cX1_size 109 = .ok (.getfield 173, 3) := dk_180 0 173 (dk_at dksX1_size_3 13 rfl rfl)
theorem dX1_size_112 : decode cX1_size 112 = .ok (.invokevirtual 157, 3) := dk_182 0 157 (dk_at dksX1_size_3 16 rfl rfl)
theorem dX1_size_115 : decode cX1_size 115 = .ok (.goto 89, 3) := dk_167 0 89 (dk_at dksX1_size_3 19 rfl rfl)
theorem dX1_size_118 : decode cX1_size 118 = .ok (.aload_n 0, 1) := dk_42 (dk_at dksX1_size_3 22 rfl rfl)
theorem dX1_size_119 : decode cX1_size 119 = .ok (.getfield 77, 3) := dk_180 0 77 (dk_at dksX1_size_4 0 rfl rfl)
theorem dX1_size_122 : decode cX1_size 122 = .ok (.getfield 176, 3) := dk_180 0 176 (dk_at dksX1_size_4 3 rfl rfl)
theorem dX1_size_125 : decode cX1_size 125 = .ok (.invokevirtual 157, 3) := dk_182 0 157 (dk_at dksX1_size_4 6 rfl rfl)
theorem dX1_size_128 : decode cX1_size 128 = .ok (.goto 76, 3) := dk_167 0 76 (dk_at dksX1_size_4 9 rfl rfl)
theorem dX1_size_131 : decode cX1_size 131 = .ok (.aload_n 0, 1) := dk_42 (dk_at dksX1_size_4 12 rfl rfl)
theorem dX1_size_132 : decode cX1_size 132 = .ok (.getfield 77, 3) := dk_180 0 77 (dk_at dksX1_size_4 13 rfl rfl)
theorem dX1_size_135 : decode cX1_size 135 = .ok (.getfield 179, 3) := dk_180 0 179 (dk_at dksX1_size_4 16 rfl rfl)
theorem dX1_size_138 : decode cX1_size 138 = .ok (.goto 66, 3) := dk_167 0 66 (dk_at dksX1_size_4 19 rfl rfl)
theorem dX1_size_141 : decode cX1_size 141 = .ok (.aload_n 0, 1) := dk_42 (dk_at dksX1_size_4 22 rfl rfl)
theorem dX1_size_142 : decode cX1_size 142 = .ok (.getfield 77, 3) := dk_180 0 77 (dk_at dksX1_size_5 0 rfl rfl)
theorem dX1_size_145 : decode cX1_size 145 = .ok (.invokevirtual 182, 3) := dk_182 0 182 (dk_at dksX1_size_5 3 rfl rfl)
theorem dX1_size_148 : decode cX1_size 148 = .ok (.goto 56, 3) := dk_167 0 56 (dk_at dksX1_size_5 6 rfl rfl)
theorem dX1_size_151 : decode cX1_size 151 = .ok (.aload_n 0, 1) := dk_42 (dk_at dksX1_size_5 9 rfl rfl)
theorem dX1_size_152 : decode cX1_size 152 = .ok (.getfield 77, 3) := dk_180 0 77 (dk_at dksX1_size_5 10 rfl rfl)
theorem dX1_size_155 : decode cX1_size 155 = .ok (.getfield 185, 3) := dk_180 0 185 (dk_at dksX1_size_5 13 rfl rfl)
theorem dX1_size_158 : decode cX1_size 158 = .ok (.invokevirtual 157, 3) := dk_182 0 157 (dk_at dksX1_size_5 16 rfl rfl)
theorem dX1_size_161 : decode cX1_size 161 = .ok (.goto 43, 3) := dk_167 0 43 (dk_at dksX1_size_5 19 rfl rfl)
theorem dX1_size_164 : decode cX1_size 164 = .ok (.aload_n 0, 1) := dk_42 (dk_at dksX1_size_5 22 rfl rfl)
theorem dX1_size_165 : decode cX1_size 165 = .ok (.getfield 77, 3) := dk_180 0 77 (dk_at dksX1_size_6 0 rfl rfl)
theorem dX1_size_168 : decode cX1_size 168 = .ok (.getfield 188, 3) := dk_180 0 188 (dk_at dksX1_size_6 3 rfl rfl)
theorem dX1_size_171 : decode cX1_size 171 = .ok (.invokevirtual 157, 3) := dk_182 0 157 (dk_at dksX1_size_6 6 rfl rfl)
theorem dX1_size_174 : decode cX1_size 174 = .ok (.goto 30, 3) := dk_167 0 30 (dk_at dksX1_size_6 9 rfl rfl)
theorem dX1_size_177 : decode cX1_size 177 = .ok (.aload_n 0, 1) := dk_42 (dk_at dksX1_size_6 12 rfl rfl)
theorem dX1_size_178 : decode cX1_size 178 = .ok (.getfield 77, 3) := dk_180 0 77 (dk_at dksX1_size_6 13 rfl rfl)
theorem dX1_size_181 : decode cX1_size 181 = .ok (.getfield 191, 3) := dk_180 0 191 (dk_at dksX1_size_6 16 rfl rfl)
theorem dX1_size_184 : decode cX1_size 184 = .ok (.goto 20, 3) := dk_167 0 20 (dk_at dksX1_size_6 19 rfl rfl)
theorem dX1_size_187 : decode cX1_size 187 = .ok (.aload_n 0, 1) := dk_42 (dk_at dksX1_size_6 22 rfl rfl)
theorem dX1_size_188 : decode cX1_size 188 = .ok (.getfield 77, 3) := dk_180 0 77 (dk_at dksX1_size_7 0 rfl rfl)
theorem dX1_size_191 : decode cX1_size 191 = .ok (.getfield 194, 3) := dk_180 0 194 (dk_at dksX1_size_7 3 rfl rfl)
theorem dX1_size_194 : decode cX1_size 194 = .ok (.goto 10, 3) := dk_167 0 10 (dk_at dksX1_size_7 6 rfl rfl)
theorem dX1_size_197 : decode cX1_size 197 = .ok (.aload_n 0, 1) := dk_42 (dk_at dksX1_size_7 9 rfl rfl)
theorem dX1_size_198 : decode cX1_size 198 = .ok (.getfield 77, 3) := dk_180 0 77 (dk_at dksX1_size_7 10 rfl rfl)
theorem dX1_size_201 : decode cX1_size 201 = .ok (.getfield 197, 3) := dk_180 0 197 (dk_at dksX1_size_7 13 rfl rfl)
theorem dX1_size_204 : decode cX1_size 204 = .ok (.ireturn, 1) := dk_172 (dk_at dksX1_size_7 16 rfl rfl)
abbrev cX1_requireElement : ByteArray := prog_1_method_4_code
def yX1_requireElement : MethodName := ⟨RX1, "requireElement", "(Z)V"⟩
def dkwX1_requireElement_0 : List UInt8 := [26, 154, 0, 11, 187, 0, 7, 89, 183, 0, 9, 191, 177]
abbrev dktX1_requireElement_0 : List UInt8 := dkwX1_requireElement_0 ++ []
theorem dksX1_requireElement_0 : cX1_requireElement.data.toList.drop 0 = dktX1_requireElement_0 := by decide +kernel
theorem dX1_requireElement_0 : decode cX1_requireElement 0 = .ok (.iload_n 0, 1) := dk_26 (dk_at dksX1_requireElement_0 0 rfl rfl)
theorem dX1_requireElement_1 : decode cX1_requireElement 1 = .ok (.ifCond .ne 11, 3) := dk_154 0 11 (dk_at dksX1_requireElement_0 1 rfl rfl)
theorem dX1_requireElement_4 : decode cX1_requireElement 4 = .ok (.new 7, 3) := dk_187 0 7 (dk_at dksX1_requireElement_0 4 rfl rfl)
theorem dX1_requireElement_7 : decode cX1_requireElement 7 = .ok (.dup, 1) := dk_89 (dk_at dksX1_requireElement_0 7 rfl rfl)
theorem dX1_requireElement_8 : decode cX1_requireElement 8 = .ok (.invokespecial 9, 3) := dk_183 0 9 (dk_at dksX1_requireElement_0 8 rfl rfl)
theorem dX1_requireElement_11 : decode cX1_requireElement 11 = .ok (.athrow, 1) := dk_191 (dk_at dksX1_requireElement_0 11 rfl rfl)
theorem dX1_requireElement_12 : decode cX1_requireElement 12 = .ok (.return_, 1) := dk_177 (dk_at dksX1_requireElement_0 12 rfl rfl)
abbrev cX1_unit : ByteArray := prog_1_method_20_code
def yX1_unit : MethodName := ⟨RX1, "unit", "(II)I"⟩
def dkwX1_unit_5 : List UInt8 := [180, 0, 77, 27, 182, 0, 232, 172]
abbrev dktX1_unit_5 : List UInt8 := dkwX1_unit_5 ++ []
def dkwX1_unit_4 : List UInt8 := [180, 0, 229, 167, 0, 28, 25, 4, 199, 0, 7, 2, 167, 0, 19, 25, 4, 180, 0, 40, 167, 0, 11, 42]
abbrev dktX1_unit_4 : List UInt8 := dkwX1_unit_4 ++ dktX1_unit_5
def dkwX1_unit_3 : List UInt8 := [45, 180, 0, 224, 167, 0, 49, 45, 180, 0, 225, 167, 0, 42, 45, 180, 0, 226, 167, 0, 35, 45]
abbrev dktX1_unit_3 : List UInt8 := dkwX1_unit_3 ++ dktX1_unit_4
def dkwX1_unit_2 : List UInt8 := [170, 0, 0, 0, 0, 0, 80, 0, 0, 0, 0, 0, 0, 0, 4, 0, 0, 0, 35, 0, 0, 0, 42, 0, 0, 0, 49, 0, 0, 0, 56, 0, 0, 0, 63]
abbrev dktX1_unit_2 : List UInt8 := dkwX1_unit_2 ++ dktX1_unit_3
def dkwX1_unit_1 : List UInt8 := [182, 0, 220, 58, 4, 28]
abbrev dktX1_unit_1 : List UInt8 := dkwX1_unit_1 ++ dktX1_unit_2
def dkwX1_unit_0 : List UInt8 := [42, 27, 182, 0, 214, 78, 28, 133, 9, 20, 0, 218, 184, 0, 114, 184, 0, 164, 42, 180, 0, 77, 27]
abbrev dktX1_unit_0 : List UInt8 := dkwX1_unit_0 ++ dktX1_unit_1
theorem dksX1_unit_0 : cX1_unit.data.toList.drop 0 = dktX1_unit_0 := by decide +kernel
theorem dksX1_unit_1 : cX1_unit.data.toList.drop 23 = dktX1_unit_1 := dk_seg dksX1_unit_0 23 rfl rfl
theorem dksX1_unit_2 : cX1_unit.data.toList.drop 29 = dktX1_unit_2 := dk_seg dksX1_unit_1 6 rfl rfl
theorem dksX1_unit_3 : cX1_unit.data.toList.drop 64 = dktX1_unit_3 := dk_seg dksX1_unit_2 35 rfl rfl
theorem dksX1_unit_4 : cX1_unit.data.toList.drop 86 = dktX1_unit_4 := dk_seg dksX1_unit_3 22 rfl rfl
theorem dksX1_unit_5 : cX1_unit.data.toList.drop 110 = dktX1_unit_5 := dk_seg dksX1_unit_4 24 rfl rfl
theorem dX1_unit_0 : decode cX1_unit 0 = .ok (.aload_n 0, 1) := dk_42 (dk_at dksX1_unit_0 0 rfl rfl)
theorem dX1_unit_1 : decode cX1_unit 1 = .ok (.iload_n 1, 1) := dk_27 (dk_at dksX1_unit_0 1 rfl rfl)
theorem dX1_unit_2 : decode cX1_unit 2 = .ok (.invokevirtual 214, 3) := dk_182 0 214 (dk_at dksX1_unit_0 2 rfl rfl)
theorem dX1_unit_5 : decode cX1_unit 5 = .ok (.astore_n 3, 1) := dk_78 (dk_at dksX1_unit_0 5 rfl rfl)
theorem dX1_unit_6 : decode cX1_unit 6 = .ok (.iload_n 2, 1) := dk_28 (dk_at dksX1_unit_0 6 rfl rfl)
theorem dX1_unit_7 : decode cX1_unit 7 = .ok (.i2l, 1) := dk_133 (dk_at dksX1_unit_0 7 rfl rfl)
theorem dX1_unit_8 : decode cX1_unit 8 = .ok (.lconst 0, 1) := dk_9 (dk_at dksX1_unit_0 8 rfl rfl)
theorem dX1_unit_9 : decode cX1_unit 9 = .ok (.ldc2_w 218, 3) := dk_20 0 218 (dk_at dksX1_unit_0 9 rfl rfl)
theorem dX1_unit_12 : decode cX1_unit 12 = .ok (.invokestatic 114, 3) := dk_184 0 114 (dk_at dksX1_unit_0 12 rfl rfl)
theorem dX1_unit_15 : decode cX1_unit 15 = .ok (.invokestatic 164, 3) := dk_184 0 164 (dk_at dksX1_unit_0 15 rfl rfl)
theorem dX1_unit_18 : decode cX1_unit 18 = .ok (.aload_n 0, 1) := dk_42 (dk_at dksX1_unit_0 18 rfl rfl)
theorem dX1_unit_19 : decode cX1_unit 19 = .ok (.getfield 77, 3) := dk_180 0 77 (dk_at dksX1_unit_0 19 rfl rfl)
theorem dX1_unit_22 : decode cX1_unit 22 = .ok (.iload_n 1, 1) := dk_27 (dk_at dksX1_unit_0 22 rfl rfl)
theorem dX1_unit_23 : decode cX1_unit 23 = .ok (.invokevirtual 220, 3) := dk_182 0 220 (dk_at dksX1_unit_1 0 rfl rfl)
theorem dX1_unit_26 : decode cX1_unit 26 = .ok (.astore 4, 2) := dk_58 4 (dk_at dksX1_unit_1 3 rfl rfl)
theorem dX1_unit_28 : decode cX1_unit 28 = .ok (.iload_n 2, 1) := dk_28 (dk_at dksX1_unit_1 5 rfl rfl)
theorem dX1_unit_29 : decode cX1_unit 29 = .ok (.tableswitch 80 0 4 #[35, 42, 49, 56, 63], 35) := by decide +kernel
theorem dX1_unit_64 : decode cX1_unit 64 = .ok (.aload_n 3, 1) := dk_45 (dk_at dksX1_unit_3 0 rfl rfl)
theorem dX1_unit_65 : decode cX1_unit 65 = .ok (.getfield 224, 3) := dk_180 0 224 (dk_at dksX1_unit_3 1 rfl rfl)
theorem dX1_unit_68 : decode cX1_unit 68 = .ok (.goto 49, 3) := dk_167 0 49 (dk_at dksX1_unit_3 4 rfl rfl)
theorem dX1_unit_71 : decode cX1_unit 71 = .ok (.aload_n 3, 1) := dk_45 (dk_at dksX1_unit_3 7 rfl rfl)
theorem dX1_unit_72 : decode cX1_unit 72 = .ok (.getfield 225, 3) := dk_180 0 225 (dk_at dksX1_unit_3 8 rfl rfl)
theorem dX1_unit_75 : decode cX1_unit 75 = .ok (.goto 42, 3) := dk_167 0 42 (dk_at dksX1_unit_3 11 rfl rfl)
theorem dX1_unit_78 : decode cX1_unit 78 = .ok (.aload_n 3, 1) := dk_45 (dk_at dksX1_unit_3 14 rfl rfl)
theorem dX1_unit_79 : decode cX1_unit 79 = .ok (.getfield 226, 3) := dk_180 0 226 (dk_at dksX1_unit_3 15 rfl rfl)
theorem dX1_unit_82 : decode cX1_unit 82 = .ok (.goto 35, 3) := dk_167 0 35 (dk_at dksX1_unit_3 18 rfl rfl)
theorem dX1_unit_85 : decode cX1_unit 85 = .ok (.aload_n 3, 1) := dk_45 (dk_at dksX1_unit_3 21 rfl rfl)
theorem dX1_unit_86 : decode cX1_unit 86 = .ok (.getfield 229, 3) := dk_180 0 229 (dk_at dksX1_unit_4 0 rfl rfl)
theorem dX1_unit_89 : decode cX1_unit 89 = .ok (.goto 28, 3) := dk_167 0 28 (dk_at dksX1_unit_4 3 rfl rfl)
theorem dX1_unit_92 : decode cX1_unit 92 = .ok (.aload 4, 2) := dk_25 4 (dk_at dksX1_unit_4 6 rfl rfl)
theorem dX1_unit_94 : decode cX1_unit 94 = .ok (.ifnonnull 7, 3) := dk_199 0 7 (dk_at dksX1_unit_4 8 rfl rfl)
theorem dX1_unit_97 : decode cX1_unit 97 = .ok (.iconst (-1), 1) := dk_2 (dk_at dksX1_unit_4 11 rfl rfl)
theorem dX1_unit_98 : decode cX1_unit 98 = .ok (.goto 19, 3) := dk_167 0 19 (dk_at dksX1_unit_4 12 rfl rfl)
theorem dX1_unit_101 : decode cX1_unit 101 = .ok (.aload 4, 2) := dk_25 4 (dk_at dksX1_unit_4 15 rfl rfl)
theorem dX1_unit_103 : decode cX1_unit 103 = .ok (.getfield 40, 3) := dk_180 0 40 (dk_at dksX1_unit_4 17 rfl rfl)
theorem dX1_unit_106 : decode cX1_unit 106 = .ok (.goto 11, 3) := dk_167 0 11 (dk_at dksX1_unit_4 20 rfl rfl)
theorem dX1_unit_109 : decode cX1_unit 109 = .ok (.aload_n 0, 1) := dk_42 (dk_at dksX1_unit_4 23 rfl rfl)
theorem dX1_unit_110 : decode cX1_unit 110 = .ok (.getfield 77, 3) := dk_180 0 77 (dk_at dksX1_unit_5 0 rfl rfl)
theorem dX1_unit_113 : decode cX1_unit 113 = .ok (.iload_n 1, 1) := dk_27 (dk_at dksX1_unit_5 3 rfl rfl)
theorem dX1_unit_114 : decode cX1_unit 114 = .ok (.invokevirtual 232, 3) := dk_182 0 232 (dk_at dksX1_unit_5 4 rfl rfl)
theorem dX1_unit_117 : decode cX1_unit 117 = .ok (.ireturn, 1) := dk_172 (dk_at dksX1_unit_5 7 rfl rfl)
abbrev cX1_unitOf : ByteArray := prog_1_method_15_code
def yX1_unitOf : MethodName := ⟨RX1, "unitOf", "(I)LMessengerBoard$Unit;"⟩
def dkwX1_unitOf_1 : List UInt8 := [180, 0, 77, 180, 0, 153, 27, 182, 0, 200, 192, 0, 204, 176]
abbrev dktX1_unitOf_1 : List UInt8 := dkwX1_unitOf_1 ++ []
def dkwX1_unitOf_0 : List UInt8 := [27, 133, 9, 42, 180, 0, 77, 180, 0, 153, 182, 0, 157, 4, 100, 133, 184, 0, 114, 184, 0, 164, 42]
abbrev dktX1_unitOf_0 : List UInt8 := dkwX1_unitOf_0 ++ dktX1_unitOf_1
theorem dksX1_unitOf_0 : cX1_unitOf.data.toList.drop 0 = dktX1_unitOf_0 := by decide +kernel
theorem dksX1_unitOf_1 : cX1_unitOf.data.toList.drop 23 = dktX1_unitOf_1 := dk_seg dksX1_unitOf_0 23 rfl rfl
theorem dX1_unitOf_0 : decode cX1_unitOf 0 = .ok (.iload_n 1, 1) := dk_27 (dk_at dksX1_unitOf_0 0 rfl rfl)
theorem dX1_unitOf_1 : decode cX1_unitOf 1 = .ok (.i2l, 1) := dk_133 (dk_at dksX1_unitOf_0 1 rfl rfl)
theorem dX1_unitOf_2 : decode cX1_unitOf 2 = .ok (.lconst 0, 1) := dk_9 (dk_at dksX1_unitOf_0 2 rfl rfl)
theorem dX1_unitOf_3 : decode cX1_unitOf 3 = .ok (.aload_n 0, 1) := dk_42 (dk_at dksX1_unitOf_0 3 rfl rfl)
theorem dX1_unitOf_4 : decode cX1_unitOf 4 = .ok (.getfield 77, 3) := dk_180 0 77 (dk_at dksX1_unitOf_0 4 rfl rfl)
theorem dX1_unitOf_7 : decode cX1_unitOf 7 = .ok (.getfield 153, 3) := dk_180 0 153 (dk_at dksX1_unitOf_0 7 rfl rfl)
theorem dX1_unitOf_10 : decode cX1_unitOf 10 = .ok (.invokevirtual 157, 3) := dk_182 0 157 (dk_at dksX1_unitOf_0 10 rfl rfl)
theorem dX1_unitOf_13 : decode cX1_unitOf 13 = .ok (.iconst 1, 1) := dk_4 (dk_at dksX1_unitOf_0 13 rfl rfl)
theorem dX1_unitOf_14 : decode cX1_unitOf 14 = .ok (.isub, 1) := dk_100 (dk_at dksX1_unitOf_0 14 rfl rfl)
theorem dX1_unitOf_15 : decode cX1_unitOf 15 = .ok (.i2l, 1) := dk_133 (dk_at dksX1_unitOf_0 15 rfl rfl)
theorem dX1_unitOf_16 : decode cX1_unitOf 16 = .ok (.invokestatic 114, 3) := dk_184 0 114 (dk_at dksX1_unitOf_0 16 rfl rfl)
theorem dX1_unitOf_19 : decode cX1_unitOf 19 = .ok (.invokestatic 164, 3) := dk_184 0 164 (dk_at dksX1_unitOf_0 19 rfl rfl)
theorem dX1_unitOf_22 : decode cX1_unitOf 22 = .ok (.aload_n 0, 1) := dk_42 (dk_at dksX1_unitOf_0 22 rfl rfl)
theorem dX1_unitOf_23 : decode cX1_unitOf 23 = .ok (.getfield 77, 3) := dk_180 0 77 (dk_at dksX1_unitOf_1 0 rfl rfl)
theorem dX1_unitOf_26 : decode cX1_unitOf 26 = .ok (.getfield 153, 3) := dk_180 0 153 (dk_at dksX1_unitOf_1 3 rfl rfl)
theorem dX1_unitOf_29 : decode cX1_unitOf 29 = .ok (.iload_n 1, 1) := dk_27 (dk_at dksX1_unitOf_1 6 rfl rfl)
theorem dX1_unitOf_30 : decode cX1_unitOf 30 = .ok (.invokevirtual 200, 3) := dk_182 0 200 (dk_at dksX1_unitOf_1 7 rfl rfl)
theorem dX1_unitOf_33 : decode cX1_unitOf 33 = .ok (.checkcast 204, 3) := dk_192 0 204 (dk_at dksX1_unitOf_1 10 rfl rfl)
theorem dX1_unitOf_36 : decode cX1_unitOf 36 = .ok (.areturn, 1) := dk_176 (dk_at dksX1_unitOf_1 13 rfl rfl)
abbrev cX1_picket : ByteArray := prog_1_method_21_code
def yX1_picket : MethodName := ⟨RX1, "picket", "(II)I"⟩
def dkwX1_picket_4 : List UInt8 := [180, 0, 77, 180, 0, 179, 182, 1, 0, 184, 1, 4, 167, 0, 7, 45, 180, 1, 8, 172]
abbrev dktX1_picket_4 : List UInt8 := dkwX1_picket_4 ++ []
def dkwX1_picket_3 : List UInt8 := [180, 0, 247, 167, 0, 38, 45, 180, 0, 250, 167, 0, 31, 45, 180, 0, 253, 167, 0, 24, 45, 42]
abbrev dktX1_picket_3 : List UInt8 := dkwX1_picket_3 ++ dktX1_picket_4
def dkwX1_picket_2 : List UInt8 := [45, 180, 0, 242, 167, 0, 59, 45, 180, 0, 243, 167, 0, 52, 45, 180, 0, 244, 167, 0, 45, 45]
abbrev dktX1_picket_2 : List UInt8 := dkwX1_picket_2 ++ dktX1_picket_3
def dkwX1_picket_1 : List UInt8 := [170, 0, 0, 0, 100, 0, 0, 0, 0, 0, 0, 0, 6, 0, 0, 0, 41, 0, 0, 0, 48, 0, 0, 0, 55, 0, 0, 0, 62, 0, 0, 0, 69, 0, 0, 0, 76, 0, 0, 0, 83]
abbrev dktX1_picket_1 : List UInt8 := dkwX1_picket_1 ++ dktX1_picket_2
def dkwX1_picket_0 : List UInt8 := [42, 27, 182, 0, 236, 78, 28, 133, 9, 20, 0, 240, 184, 0, 114, 184, 0, 164, 28]
abbrev dktX1_picket_0 : List UInt8 := dkwX1_picket_0 ++ dktX1_picket_1
theorem dksX1_picket_0 : cX1_picket.data.toList.drop 0 = dktX1_picket_0 := by decide +kernel
theorem dksX1_picket_1 : cX1_picket.data.toList.drop 19 = dktX1_picket_1 := dk_seg dksX1_picket_0 19 rfl rfl
theorem dksX1_picket_2 : cX1_picket.data.toList.drop 60 = dktX1_picket_2 := dk_seg dksX1_picket_1 41 rfl rfl
theorem dksX1_picket_3 : cX1_picket.data.toList.drop 82 = dktX1_picket_3 := dk_seg dksX1_picket_2 22 rfl rfl
theorem dksX1_picket_4 : cX1_picket.data.toList.drop 104 = dktX1_picket_4 := dk_seg dksX1_picket_3 22 rfl rfl
theorem dX1_picket_0 : decode cX1_picket 0 = .ok (.aload_n 0, 1) := dk_42 (dk_at dksX1_picket_0 0 rfl rfl)
theorem dX1_picket_1 : decode cX1_picket 1 = .ok (.iload_n 1, 1) := dk_27 (dk_at dksX1_picket_0 1 rfl rfl)
theorem dX1_picket_2 : decode cX1_picket 2 = .ok (.invokevirtual 236, 3) := dk_182 0 236 (dk_at dksX1_picket_0 2 rfl rfl)
theorem dX1_picket_5 : decode cX1_picket 5 = .ok (.astore_n 3, 1) := dk_78 (dk_at dksX1_picket_0 5 rfl rfl)
theorem dX1_picket_6 : decode cX1_picket 6 = .ok (.iload_n 2, 1) := dk_28 (dk_at dksX1_picket_0 6 rfl rfl)
theorem dX1_picket_7 : decode cX1_picket 7 = .ok (.i2l, 1) := dk_133 (dk_at dksX1_picket_0 7 rfl rfl)
theorem dX1_picket_8 : decode cX1_picket 8 = .ok (.lconst 0, 1) := dk_9 (dk_at dksX1_picket_0 8 rfl rfl)
theorem dX1_picket_9 : decode cX1_picket 9 = .ok (.ldc2_w 240, 3) := dk_20 0 240 (dk_at dksX1_picket_0 9 rfl rfl)
theorem dX1_picket_12 : decode cX1_picket 12 = .ok (.invokestatic 114, 3) := dk_184 0 114 (dk_at dksX1_picket_0 12 rfl rfl)
theorem dX1_picket_15 : decode cX1_picket 15 = .ok (.invokestatic 164, 3) := dk_184 0 164 (dk_at dksX1_picket_0 15 rfl rfl)
theorem dX1_picket_18 : decode cX1_picket 18 = .ok (.iload_n 2, 1) := dk_28 (dk_at dksX1_picket_0 18 rfl rfl)
theorem dX1_picket_19 : decode cX1_picket 19 = .ok (.tableswitch 100 0 6 #[41, 48, 55, 62, 69, 76, 83], 41) := by decide +kernel
theorem dX1_picket_60 : decode cX1_picket 60 = .ok (.aload_n 3, 1) := dk_45 (dk_at dksX1_picket_2 0 rfl rfl)
theorem dX1_picket_61 : decode cX1_picket 61 = .ok (.getfield 242, 3) := dk_180 0 242 (dk_at dksX1_picket_2 1 rfl rfl)
theorem dX1_picket_64 : decode cX1_picket 64 = .ok (.goto 59, 3) := dk_167 0 59 (dk_at dksX1_picket_2 4 rfl rfl)
theorem dX1_picket_67 : decode cX1_picket 67 = .ok (.aload_n 3, 1) := dk_45 (dk_at dksX1_picket_2 7 rfl rfl)
theorem dX1_picket_68 : decode cX1_picket 68 = .ok (.getfield 243, 3) := dk_180 0 243 (dk_at dksX1_picket_2 8 rfl rfl)
theorem dX1_picket_71 : decode cX1_picket 71 = .ok (.goto 52, 3) := dk_167 0 52 (dk_at dksX1_picket_2 11 rfl rfl)
theorem dX1_picket_74 : decode cX1_picket 74 = .ok (.aload_n 3, 1) := dk_45 (dk_at dksX1_picket_2 14 rfl rfl)
theorem dX1_picket_75 : decode cX1_picket 75 = .ok (.getfield 244, 3) := dk_180 0 244 (dk_at dksX1_picket_2 15 rfl rfl)
theorem dX1_picket_78 : decode cX1_picket 78 = .ok (.goto 45, 3) := dk_167 0 45 (dk_at dksX1_picket_2 18 rfl rfl)
theorem dX1_picket_81 : decode cX1_picket 81 = .ok (.aload_n 3, 1) := dk_45 (dk_at dksX1_picket_2 21 rfl rfl)
theorem dX1_picket_82 : decode cX1_picket 82 = .ok (.getfield 247, 3) := dk_180 0 247 (dk_at dksX1_picket_3 0 rfl rfl)
theorem dX1_picket_85 : decode cX1_picket 85 = .ok (.goto 38, 3) := dk_167 0 38 (dk_at dksX1_picket_3 3 rfl rfl)
theorem dX1_picket_88 : decode cX1_picket 88 = .ok (.aload_n 3, 1) := dk_45 (dk_at dksX1_picket_3 6 rfl rfl)
theorem dX1_picket_89 : decode cX1_picket 89 = .ok (.getfield 250, 3) := dk_180 0 250 (dk_at dksX1_picket_3 7 rfl rfl)
theorem dX1_picket_92 : decode cX1_picket 92 = .ok (.goto 31, 3) := dk_167 0 31 (dk_at dksX1_picket_3 10 rfl rfl)
theorem dX1_picket_95 : decode cX1_picket 95 = .ok (.aload_n 3, 1) := dk_45 (dk_at dksX1_picket_3 13 rfl rfl)
theorem dX1_picket_96 : decode cX1_picket 96 = .ok (.getfield 253, 3) := dk_180 0 253 (dk_at dksX1_picket_3 14 rfl rfl)
theorem dX1_picket_99 : decode cX1_picket 99 = .ok (.goto 24, 3) := dk_167 0 24 (dk_at dksX1_picket_3 17 rfl rfl)
theorem dX1_picket_102 : decode cX1_picket 102 = .ok (.aload_n 3, 1) := dk_45 (dk_at dksX1_picket_3 20 rfl rfl)
theorem dX1_picket_103 : decode cX1_picket 103 = .ok (.aload_n 0, 1) := dk_42 (dk_at dksX1_picket_3 21 rfl rfl)
theorem dX1_picket_104 : decode cX1_picket 104 = .ok (.getfield 77, 3) := dk_180 0 77 (dk_at dksX1_picket_4 0 rfl rfl)
theorem dX1_picket_107 : decode cX1_picket 107 = .ok (.getfield 179, 3) := dk_180 0 179 (dk_at dksX1_picket_4 3 rfl rfl)
theorem dX1_picket_110 : decode cX1_picket 110 = .ok (.invokevirtual 256, 3) := dk_182 1 0 (dk_at dksX1_picket_4 6 rfl rfl)
theorem dX1_picket_113 : decode cX1_picket 113 = .ok (.invokestatic 260, 3) := dk_184 1 4 (dk_at dksX1_picket_4 9 rfl rfl)
theorem dX1_picket_116 : decode cX1_picket 116 = .ok (.goto 7, 3) := dk_167 0 7 (dk_at dksX1_picket_4 12 rfl rfl)
theorem dX1_picket_119 : decode cX1_picket 119 = .ok (.aload_n 3, 1) := dk_45 (dk_at dksX1_picket_4 15 rfl rfl)
theorem dX1_picket_120 : decode cX1_picket 120 = .ok (.getfield 264, 3) := dk_180 1 8 (dk_at dksX1_picket_4 16 rfl rfl)
theorem dX1_picket_123 : decode cX1_picket 123 = .ok (.ireturn, 1) := dk_172 (dk_at dksX1_picket_4 19 rfl rfl)
abbrev cX1_picketOf : ByteArray := prog_1_method_16_code
def yX1_picketOf : MethodName := ⟨RX1, "picketOf", "(I)LMessengerBoard$Picket;"⟩
def dkwX1_picketOf_1 : List UInt8 := [180, 0, 77, 180, 0, 173, 27, 182, 0, 200, 192, 0, 206, 176]
abbrev dktX1_picketOf_1 : List UInt8 := dkwX1_picketOf_1 ++ []
def dkwX1_picketOf_0 : List UInt8 := [27, 133, 9, 42, 180, 0, 77, 180, 0, 173, 182, 0, 157, 4, 100, 133, 184, 0, 114, 184, 0, 164, 42]
abbrev dktX1_picketOf_0 : List UInt8 := dkwX1_picketOf_0 ++ dktX1_picketOf_1
theorem dksX1_picketOf_0 : cX1_picketOf.data.toList.drop 0 = dktX1_picketOf_0 := by decide +kernel
theorem dksX1_picketOf_1 : cX1_picketOf.data.toList.drop 23 = dktX1_picketOf_1 := dk_seg dksX1_picketOf_0 23 rfl rfl
theorem dX1_picketOf_0 : decode cX1_picketOf 0 = .ok (.iload_n 1, 1) := dk_27 (dk_at dksX1_picketOf_0 0 rfl rfl)
theorem dX1_picketOf_1 : decode cX1_picketOf 1 = .ok (.i2l, 1) := dk_133 (dk_at dksX1_picketOf_0 1 rfl rfl)
theorem dX1_picketOf_2 : decode cX1_picketOf 2 = .ok (.lconst 0, 1) := dk_9 (dk_at dksX1_picketOf_0 2 rfl rfl)
theorem dX1_picketOf_3 : decode cX1_picketOf 3 = .ok (.aload_n 0, 1) := dk_42 (dk_at dksX1_picketOf_0 3 rfl rfl)
theorem dX1_picketOf_4 : decode cX1_picketOf 4 = .ok (.getfield 77, 3) := dk_180 0 77 (dk_at dksX1_picketOf_0 4 rfl rfl)
theorem dX1_picketOf_7 : decode cX1_picketOf 7 = .ok (.getfield 173, 3) := dk_180 0 173 (dk_at dksX1_picketOf_0 7 rfl rfl)
theorem dX1_picketOf_10 : decode cX1_picketOf 10 = .ok (.invokevirtual 157, 3) := dk_182 0 157 (dk_at dksX1_picketOf_0 10 rfl rfl)
theorem dX1_picketOf_13 : decode cX1_picketOf 13 = .ok (.iconst 1, 1) := dk_4 (dk_at dksX1_picketOf_0 13 rfl rfl)
theorem dX1_picketOf_14 : decode cX1_picketOf 14 = .ok (.isub, 1) := dk_100 (dk_at dksX1_picketOf_0 14 rfl rfl)
theorem dX1_picketOf_15 : decode cX1_picketOf 15 = .ok (.i2l, 1) := dk_133 (dk_at dksX1_picketOf_0 15 rfl rfl)
theorem dX1_picketOf_16 : decode cX1_picketOf 16 = .ok (.invokestatic 114, 3) := dk_184 0 114 (dk_at dksX1_picketOf_0 16 rfl rfl)
theorem dX1_picketOf_19 : decode cX1_picketOf 19 = .ok (.invokestatic 164, 3) := dk_184 0 164 (dk_at dksX1_picketOf_0 19 rfl rfl)
theorem dX1_picketOf_22 : decode cX1_picketOf 22 = .ok (.aload_n 0, 1) := dk_42 (dk_at dksX1_picketOf_0 22 rfl rfl)
theorem dX1_picketOf_23 : decode cX1_picketOf 23 = .ok (.getfield 77, 3) := dk_180 0 77 (dk_at dksX1_picketOf_1 0 rfl rfl)
theorem dX1_picketOf_26 : decode cX1_picketOf 26 = .ok (.getfield 173, 3) := dk_180 0 173 (dk_at dksX1_picketOf_1 3 rfl rfl)
theorem dX1_picketOf_29 : decode cX1_picketOf 29 = .ok (.iload_n 1, 1) := dk_27 (dk_at dksX1_picketOf_1 6 rfl rfl)
theorem dX1_picketOf_30 : decode cX1_picketOf 30 = .ok (.invokevirtual 200, 3) := dk_182 0 200 (dk_at dksX1_picketOf_1 7 rfl rfl)
theorem dX1_picketOf_33 : decode cX1_picketOf 33 = .ok (.checkcast 206, 3) := dk_192 0 206 (dk_at dksX1_picketOf_1 10 rfl rfl)
theorem dX1_picketOf_36 : decode cX1_picketOf 36 = .ok (.areturn, 1) := dk_176 (dk_at dksX1_picketOf_1 13 rfl rfl)
abbrev cX1_order : ByteArray := prog_1_method_22_code
def yX1_order : MethodName := ⟨RX1, "order", "(II)I"⟩
def dkwX1_order_4 : List UInt8 := [167, 0, 21, 45, 180, 1, 16, 167, 0, 14, 45, 180, 1, 19, 167, 0, 7, 45, 180, 0, 56, 172]
abbrev dktX1_order_4 : List UInt8 := dkwX1_order_4 ++ []
def dkwX1_order_3 : List UInt8 := [180, 0, 48, 167, 0, 42, 45, 180, 0, 50, 167, 0, 35, 45, 180, 0, 52, 167, 0, 28, 45, 180, 0, 54]
abbrev dktX1_order_3 : List UInt8 := dkwX1_order_3 ++ dktX1_order_4
def dkwX1_order_2 : List UInt8 := [45, 180, 0, 46, 167, 0, 63, 45, 180, 0, 58, 167, 0, 56, 45, 180, 0, 60, 167, 0, 49, 45]
abbrev dktX1_order_2 : List UInt8 := dkwX1_order_2 ++ dktX1_order_3
def dkwX1_order_1 : List UInt8 := [170, 0, 0, 0, 112, 0, 0, 0, 0, 0, 0, 0, 8, 0, 0, 0, 49, 0, 0, 0, 56, 0, 0, 0, 63, 0, 0, 0, 70, 0, 0, 0, 77, 0, 0, 0, 84, 0, 0, 0, 91, 0, 0, 0, 98, 0, 0, 0, 105]
abbrev dktX1_order_1 : List UInt8 := dkwX1_order_1 ++ dktX1_order_2
def dkwX1_order_0 : List UInt8 := [42, 27, 182, 1, 11, 78, 28, 133, 9, 20, 1, 14, 184, 0, 114, 184, 0, 164, 28]
abbrev dktX1_order_0 : List UInt8 := dkwX1_order_0 ++ dktX1_order_1
theorem dksX1_order_0 : cX1_order.data.toList.drop 0 = dktX1_order_0 := by decide +kernel
theorem dksX1_order_1 : cX1_order.data.toList.drop 19 = dktX1_order_1 := dk_seg dksX1_order_0 19 rfl rfl
theorem dksX1_order_2 : cX1_order.data.toList.drop 68 = dktX1_order_2 := dk_seg dksX1_order_1 49 rfl rfl
theorem dksX1_order_3 : cX1_order.data.toList.drop 90 = dktX1_order_3 := dk_seg dksX1_order_2 22 rfl rfl
theorem dksX1_order_4 : cX1_order.data.toList.drop 114 = dktX1_order_4 := dk_seg dksX1_order_3 24 rfl rfl
theorem dX1_order_0 : decode cX1_order 0 = .ok (.aload_n 0, 1) := dk_42 (dk_at dksX1_order_0 0 rfl rfl)
theorem dX1_order_1 : decode cX1_order 1 = .ok (.iload_n 1, 1) := dk_27 (dk_at dksX1_order_0 1 rfl rfl)
theorem dX1_order_2 : decode cX1_order 2 = .ok (.invokevirtual 267, 3) := dk_182 1 11 (dk_at dksX1_order_0 2 rfl rfl)
theorem dX1_order_5 : decode cX1_order 5 = .ok (.astore_n 3, 1) := dk_78 (dk_at dksX1_order_0 5 rfl rfl)
theorem dX1_order_6 : decode cX1_order 6 = .ok (.iload_n 2, 1) := dk_28 (dk_at dksX1_order_0 6 rfl rfl)
theorem dX1_order_7 : decode cX1_order 7 = .ok (.i2l, 1) := dk_133 (dk_at dksX1_order_0 7 rfl rfl)
theorem dX1_order_8 : decode cX1_order 8 = .ok (.lconst 0, 1) := dk_9 (dk_at dksX1_order_0 8 rfl rfl)
theorem dX1_order_9 : decode cX1_order 9 = .ok (.ldc2_w 270, 3) := dk_20 1 14 (dk_at dksX1_order_0 9 rfl rfl)
theorem dX1_order_12 : decode cX1_order 12 = .ok (.invokestatic 114, 3) := dk_184 0 114 (dk_at dksX1_order_0 12 rfl rfl)
theorem dX1_order_15 : decode cX1_order 15 = .ok (.invokestatic 164, 3) := dk_184 0 164 (dk_at dksX1_order_0 15 rfl rfl)
theorem dX1_order_18 : decode cX1_order 18 = .ok (.iload_n 2, 1) := dk_28 (dk_at dksX1_order_0 18 rfl rfl)
theorem dX1_order_19 : decode cX1_order 19 = .ok (.tableswitch 112 0 8 #[49, 56, 63, 70, 77, 84, 91, 98, 105], 49) := by decide +kernel
theorem dX1_order_68 : decode cX1_order 68 = .ok (.aload_n 3, 1) := dk_45 (dk_at dksX1_order_2 0 rfl rfl)
theorem dX1_order_69 : decode cX1_order 69 = .ok (.getfield 46, 3) := dk_180 0 46 (dk_at dksX1_order_2 1 rfl rfl)
theorem dX1_order_72 : decode cX1_order 72 = .ok (.goto 63, 3) := dk_167 0 63 (dk_at dksX1_order_2 4 rfl rfl)
theorem dX1_order_75 : decode cX1_order 75 = .ok (.aload_n 3, 1) := dk_45 (dk_at dksX1_order_2 7 rfl rfl)
theorem dX1_order_76 : decode cX1_order 76 = .ok (.getfield 58, 3) := dk_180 0 58 (dk_at dksX1_order_2 8 rfl rfl)
theorem dX1_order_79 : decode cX1_order 79 = .ok (.goto 56, 3) := dk_167 0 56 (dk_at dksX1_order_2 11 rfl rfl)
theorem dX1_order_82 : decode cX1_order 82 = .ok (.aload_n 3, 1) := dk_45 (dk_at dksX1_order_2 14 rfl rfl)
theorem dX1_order_83 : decode cX1_order 83 = .ok (.getfield 60, 3) := dk_180 0 60 (dk_at dksX1_order_2 15 rfl rfl)
theorem dX1_order_86 : decode cX1_order 86 = .ok (.goto 49, 3) := dk_167 0 49 (dk_at dksX1_order_2 18 rfl rfl)
theorem dX1_order_89 : decode cX1_order 89 = .ok (.aload_n 3, 1) := dk_45 (dk_at dksX1_order_2 21 rfl rfl)
theorem dX1_order_90 : decode cX1_order 90 = .ok (.getfield 48, 3) := dk_180 0 48 (dk_at dksX1_order_3 0 rfl rfl)
theorem dX1_order_93 : decode cX1_order 93 = .ok (.goto 42, 3) := dk_167 0 42 (dk_at dksX1_order_3 3 rfl rfl)
theorem dX1_order_96 : decode cX1_order 96 = .ok (.aload_n 3, 1) := dk_45 (dk_at dksX1_order_3 6 rfl rfl)
theorem dX1_order_97 : decode cX1_order 97 = .ok (.getfield 50, 3) := dk_180 0 50 (dk_at dksX1_order_3 7 rfl rfl)
theorem dX1_order_100 : decode cX1_order 100 = .ok (.goto 35, 3) := dk_167 0 35 (dk_at dksX1_order_3 10 rfl rfl)
theorem dX1_order_103 : decode cX1_order 103 = .ok (.aload_n 3, 1) := dk_45 (dk_at dksX1_order_3 13 rfl rfl)
theorem dX1_order_104 : decode cX1_order 104 = .ok (.getfield 52, 3) := dk_180 0 52 (dk_at dksX1_order_3 14 rfl rfl)
theorem dX1_order_107 : decode cX1_order 107 = .ok (.goto 28, 3) := dk_167 0 28 (dk_at dksX1_order_3 17 rfl rfl)
theorem dX1_order_110 : decode cX1_order 110 = .ok (.aload_n 3, 1) := dk_45 (dk_at dksX1_order_3 20 rfl rfl)
theorem dX1_order_111 : decode cX1_order 111 = .ok (.getfield 54, 3) := dk_180 0 54 (dk_at dksX1_order_3 21 rfl rfl)
theorem dX1_order_114 : decode cX1_order 114 = .ok (.goto 21, 3) := dk_167 0 21 (dk_at dksX1_order_4 0 rfl rfl)
theorem dX1_order_117 : decode cX1_order 117 = .ok (.aload_n 3, 1) := dk_45 (dk_at dksX1_order_4 3 rfl rfl)
theorem dX1_order_118 : decode cX1_order 118 = .ok (.getfield 272, 3) := dk_180 1 16 (dk_at dksX1_order_4 4 rfl rfl)
theorem dX1_order_121 : decode cX1_order 121 = .ok (.goto 14, 3) := dk_167 0 14 (dk_at dksX1_order_4 7 rfl rfl)
theorem dX1_order_124 : decode cX1_order 124 = .ok (.aload_n 3, 1) := dk_45 (dk_at dksX1_order_4 10 rfl rfl)
theorem dX1_order_125 : decode cX1_order 125 = .ok (.getfield 275, 3) := dk_180 1 19 (dk_at dksX1_order_4 11 rfl rfl)
theorem dX1_order_128 : decode cX1_order 128 = .ok (.goto 7, 3) := dk_167 0 7 (dk_at dksX1_order_4 14 rfl rfl)
theorem dX1_order_131 : decode cX1_order 131 = .ok (.aload_n 3, 1) := dk_45 (dk_at dksX1_order_4 17 rfl rfl)
theorem dX1_order_132 : decode cX1_order 132 = .ok (.getfield 56, 3) := dk_180 0 56 (dk_at dksX1_order_4 18 rfl rfl)
theorem dX1_order_135 : decode cX1_order 135 = .ok (.ireturn, 1) := dk_172 (dk_at dksX1_order_4 21 rfl rfl)
abbrev cX1_orderOf : ByteArray := prog_1_method_17_code
def yX1_orderOf : MethodName := ⟨RX1, "orderOf", "(I)LMessengerBoard$Order;"⟩
def dkwX1_orderOf_1 : List UInt8 := [180, 0, 77, 180, 0, 176, 27, 182, 0, 200, 192, 0, 41, 176]
abbrev dktX1_orderOf_1 : List UInt8 := dkwX1_orderOf_1 ++ []
def dkwX1_orderOf_0 : List UInt8 := [27, 133, 9, 42, 180, 0, 77, 180, 0, 176, 182, 0, 157, 4, 100, 133, 184, 0, 114, 184, 0, 164, 42]
abbrev dktX1_orderOf_0 : List UInt8 := dkwX1_orderOf_0 ++ dktX1_orderOf_1
theorem dksX1_orderOf_0 : cX1_orderOf.data.toList.drop 0 = dktX1_orderOf_0 := by decide +kernel
theorem dksX1_orderOf_1 : cX1_orderOf.data.toList.drop 23 = dktX1_orderOf_1 := dk_seg dksX1_orderOf_0 23 rfl rfl
theorem dX1_orderOf_0 : decode cX1_orderOf 0 = .ok (.iload_n 1, 1) := dk_27 (dk_at dksX1_orderOf_0 0 rfl rfl)
theorem dX1_orderOf_1 : decode cX1_orderOf 1 = .ok (.i2l, 1) := dk_133 (dk_at dksX1_orderOf_0 1 rfl rfl)
theorem dX1_orderOf_2 : decode cX1_orderOf 2 = .ok (.lconst 0, 1) := dk_9 (dk_at dksX1_orderOf_0 2 rfl rfl)
theorem dX1_orderOf_3 : decode cX1_orderOf 3 = .ok (.aload_n 0, 1) := dk_42 (dk_at dksX1_orderOf_0 3 rfl rfl)
theorem dX1_orderOf_4 : decode cX1_orderOf 4 = .ok (.getfield 77, 3) := dk_180 0 77 (dk_at dksX1_orderOf_0 4 rfl rfl)
theorem dX1_orderOf_7 : decode cX1_orderOf 7 = .ok (.getfield 176, 3) := dk_180 0 176 (dk_at dksX1_orderOf_0 7 rfl rfl)
theorem dX1_orderOf_10 : decode cX1_orderOf 10 = .ok (.invokevirtual 157, 3) := dk_182 0 157 (dk_at dksX1_orderOf_0 10 rfl rfl)
theorem dX1_orderOf_13 : decode cX1_orderOf 13 = .ok (.iconst 1, 1) := dk_4 (dk_at dksX1_orderOf_0 13 rfl rfl)
theorem dX1_orderOf_14 : decode cX1_orderOf 14 = .ok (.isub, 1) := dk_100 (dk_at dksX1_orderOf_0 14 rfl rfl)
theorem dX1_orderOf_15 : decode cX1_orderOf 15 = .ok (.i2l, 1) := dk_133 (dk_at dksX1_orderOf_0 15 rfl rfl)
theorem dX1_orderOf_16 : decode cX1_orderOf 16 = .ok (.invokestatic 114, 3) := dk_184 0 114 (dk_at dksX1_orderOf_0 16 rfl rfl)
theorem dX1_orderOf_19 : decode cX1_orderOf 19 = .ok (.invokestatic 164, 3) := dk_184 0 164 (dk_at dksX1_orderOf_0 19 rfl rfl)
theorem dX1_orderOf_22 : decode cX1_orderOf 22 = .ok (.aload_n 0, 1) := dk_42 (dk_at dksX1_orderOf_0 22 rfl rfl)
theorem dX1_orderOf_23 : decode cX1_orderOf 23 = .ok (.getfield 77, 3) := dk_180 0 77 (dk_at dksX1_orderOf_1 0 rfl rfl)
theorem dX1_orderOf_26 : decode cX1_orderOf 26 = .ok (.getfield 176, 3) := dk_180 0 176 (dk_at dksX1_orderOf_1 3 rfl rfl)
theorem dX1_orderOf_29 : decode cX1_orderOf 29 = .ok (.iload_n 1, 1) := dk_27 (dk_at dksX1_orderOf_1 6 rfl rfl)
theorem dX1_orderOf_30 : decode cX1_orderOf 30 = .ok (.invokevirtual 200, 3) := dk_182 0 200 (dk_at dksX1_orderOf_1 7 rfl rfl)
theorem dX1_orderOf_33 : decode cX1_orderOf 33 = .ok (.checkcast 41, 3) := dk_192 0 41 (dk_at dksX1_orderOf_1 10 rfl rfl)
theorem dX1_orderOf_36 : decode cX1_orderOf 36 = .ok (.areturn, 1) := dk_176 (dk_at dksX1_orderOf_1 13 rfl rfl)
abbrev cX1_plan : ByteArray := prog_1_method_23_code
def yX1_plan : MethodName := ⟨RX1, "plan", "(II)I"⟩
def dkwX1_plan_2 : List UInt8 := [180, 1, 30, 167, 0, 7, 45, 180, 1, 31, 172]
abbrev dktX1_plan_2 : List UInt8 := dkwX1_plan_2 ++ []
def dkwX1_plan_1 : List UInt8 := [180, 1, 28, 167, 0, 31, 28, 4, 160, 0, 10, 45, 180, 1, 29, 167, 0, 19, 28, 5, 160, 0, 10, 45]
abbrev dktX1_plan_1 : List UInt8 := dkwX1_plan_1 ++ dktX1_plan_2
def dkwX1_plan_0 : List UInt8 := [42, 27, 182, 1, 22, 78, 28, 133, 9, 20, 1, 26, 184, 0, 114, 184, 0, 164, 28, 154, 0, 10, 45]
abbrev dktX1_plan_0 : List UInt8 := dkwX1_plan_0 ++ dktX1_plan_1
theorem dksX1_plan_0 : cX1_plan.data.toList.drop 0 = dktX1_plan_0 := by decide +kernel
theorem dksX1_plan_1 : cX1_plan.data.toList.drop 23 = dktX1_plan_1 := dk_seg dksX1_plan_0 23 rfl rfl
theorem dksX1_plan_2 : cX1_plan.data.toList.drop 47 = dktX1_plan_2 := dk_seg dksX1_plan_1 24 rfl rfl
theorem dX1_plan_0 : decode cX1_plan 0 = .ok (.aload_n 0, 1) := dk_42 (dk_at dksX1_plan_0 0 rfl rfl)
theorem dX1_plan_1 : decode cX1_plan 1 = .ok (.iload_n 1, 1) := dk_27 (dk_at dksX1_plan_0 1 rfl rfl)
theorem dX1_plan_2 : decode cX1_plan 2 = .ok (.invokevirtual 278, 3) := dk_182 1 22 (dk_at dksX1_plan_0 2 rfl rfl)
theorem dX1_plan_5 : decode cX1_plan 5 = .ok (.astore_n 3, 1) := dk_78 (dk_at dksX1_plan_0 5 rfl rfl)
theorem dX1_plan_6 : decode cX1_plan 6 = .ok (.iload_n 2, 1) := dk_28 (dk_at dksX1_plan_0 6 rfl rfl)
theorem dX1_plan_7 : decode cX1_plan 7 = .ok (.i2l, 1) := dk_133 (dk_at dksX1_plan_0 7 rfl rfl)
theorem dX1_plan_8 : decode cX1_plan 8 = .ok (.lconst 0, 1) := dk_9 (dk_at dksX1_plan_0 8 rfl rfl)
theorem dX1_plan_9 : decode cX1_plan 9 = .ok (.ldc2_w 282, 3) := dk_20 1 26 (dk_at dksX1_plan_0 9 rfl rfl)
theorem dX1_plan_12 : decode cX1_plan 12 = .ok (.invokestatic 114, 3) := dk_184 0 114 (dk_at dksX1_plan_0 12 rfl rfl)
theorem dX1_plan_15 : decode cX1_plan 15 = .ok (.invokestatic 164, 3) := dk_184 0 164 (dk_at dksX1_plan_0 15 rfl rfl)
theorem dX1_plan_18 : decode cX1_plan 18 = .ok (.iload_n 2, 1) := dk_28 (dk_at dksX1_plan_0 18 rfl rfl)
theorem dX1_plan_19 : decode cX1_plan 19 = .ok (.ifCond .ne 10, 3) := dk_154 0 10 (dk_at dksX1_plan_0 19 rfl rfl)
theorem dX1_plan_22 : decode cX1_plan 22 = .ok (.aload_n 3, 1) := dk_45 (dk_at dksX1_plan_0 22 rfl rfl)
theorem dX1_plan_23 : decode cX1_plan 23 = .ok (.getfield 284, 3) := dk_180 1 28 (dk_at dksX1_plan_1 0 rfl rfl)
theorem dX1_plan_26 : decode cX1_plan 26 = .ok (.goto 31, 3) := dk_167 0 31 (dk_at dksX1_plan_1 3 rfl rfl)
theorem dX1_plan_29 : decode cX1_plan 29 = .ok (.iload_n 2, 1) := dk_28 (dk_at dksX1_plan_1 6 rfl rfl)
theorem dX1_plan_30 : decode cX1_plan 30 = .ok (.iconst 1, 1) := dk_4 (dk_at dksX1_plan_1 7 rfl rfl)
theorem dX1_plan_31 : decode cX1_plan 31 = .ok (.if_icmp .ne 10, 3) := dk_160 0 10 (dk_at dksX1_plan_1 8 rfl rfl)
theorem dX1_plan_34 : decode cX1_plan 34 = .ok (.aload_n 3, 1) := dk_45 (dk_at dksX1_plan_1 11 rfl rfl)
theorem dX1_plan_35 : decode cX1_plan 35 = .ok (.getfield 285, 3) := dk_180 1 29 (dk_at dksX1_plan_1 12 rfl rfl)
theorem dX1_plan_38 : decode cX1_plan 38 = .ok (.goto 19, 3) := dk_167 0 19 (dk_at dksX1_plan_1 15 rfl rfl)
theorem dX1_plan_41 : decode cX1_plan 41 = .ok (.iload_n 2, 1) := dk_28 (dk_at dksX1_plan_1 18 rfl rfl)
theorem dX1_plan_42 : decode cX1_plan 42 = .ok (.iconst 2, 1) := dk_5 (dk_at dksX1_plan_1 19 rfl rfl)
theorem dX1_plan_43 : decode cX1_plan 43 = .ok (.if_icmp .ne 10, 3) := dk_160 0 10 (dk_at dksX1_plan_1 20 rfl rfl)
theorem dX1_plan_46 : decode cX1_plan 46 = .ok (.aload_n 3, 1) := dk_45 (dk_at dksX1_plan_1 23 rfl rfl)
theorem dX1_plan_47 : decode cX1_plan 47 = .ok (.getfield 286, 3) := dk_180 1 30 (dk_at dksX1_plan_2 0 rfl rfl)
theorem dX1_plan_50 : decode cX1_plan 50 = .ok (.goto 7, 3) := dk_167 0 7 (dk_at dksX1_plan_2 3 rfl rfl)
theorem dX1_plan_53 : decode cX1_plan 53 = .ok (.aload_n 3, 1) := dk_45 (dk_at dksX1_plan_2 6 rfl rfl)
theorem dX1_plan_54 : decode cX1_plan 54 = .ok (.getfield 287, 3) := dk_180 1 31 (dk_at dksX1_plan_2 7 rfl rfl)
theorem dX1_plan_57 : decode cX1_plan 57 = .ok (.ireturn, 1) := dk_172 (dk_at dksX1_plan_2 10 rfl rfl)
abbrev cX1_planOf : ByteArray := prog_1_method_18_code
def yX1_planOf : MethodName := ⟨RX1, "planOf", "(I)LMessengerBoard$Plan;"⟩
def dkwX1_planOf_1 : List UInt8 := [180, 0, 77, 180, 0, 188, 27, 182, 0, 200, 192, 0, 208, 176]
abbrev dktX1_planOf_1 : List UInt8 := dkwX1_planOf_1 ++ []
def dkwX1_planOf_0 : List UInt8 := [27, 133, 9, 42, 180, 0, 77, 180, 0, 188, 182, 0, 157, 4, 100, 133, 184, 0, 114, 184, 0, 164, 42]
abbrev dktX1_planOf_0 : List UInt8 := dkwX1_planOf_0 ++ dktX1_planOf_1
theorem dksX1_planOf_0 : cX1_planOf.data.toList.drop 0 = dktX1_planOf_0 := by decide +kernel
theorem dksX1_planOf_1 : cX1_planOf.data.toList.drop 23 = dktX1_planOf_1 := dk_seg dksX1_planOf_0 23 rfl rfl
theorem dX1_planOf_0 : decode cX1_planOf 0 = .ok (.iload_n 1, 1) := dk_27 (dk_at dksX1_planOf_0 0 rfl rfl)
theorem dX1_planOf_1 : decode cX1_planOf 1 = .ok (.i2l, 1) := dk_133 (dk_at dksX1_planOf_0 1 rfl rfl)
theorem dX1_planOf_2 : decode cX1_planOf 2 = .ok (.lconst 0, 1) := dk_9 (dk_at dksX1_planOf_0 2 rfl rfl)
theorem dX1_planOf_3 : decode cX1_planOf 3 = .ok (.aload_n 0, 1) := dk_42 (dk_at dksX1_planOf_0 3 rfl rfl)
theorem dX1_planOf_4 : decode cX1_planOf 4 = .ok (.getfield 77, 3) := dk_180 0 77 (dk_at dksX1_planOf_0 4 rfl rfl)
theorem dX1_planOf_7 : decode cX1_planOf 7 = .ok (.getfield 188, 3) := dk_180 0 188 (dk_at dksX1_planOf_0 7 rfl rfl)
theorem dX1_planOf_10 : decode cX1_planOf 10 = .ok (.invokevirtual 157, 3) := dk_182 0 157 (dk_at dksX1_planOf_0 10 rfl rfl)
theorem dX1_planOf_13 : decode cX1_planOf 13 = .ok (.iconst 1, 1) := dk_4 (dk_at dksX1_planOf_0 13 rfl rfl)
theorem dX1_planOf_14 : decode cX1_planOf 14 = .ok (.isub, 1) := dk_100 (dk_at dksX1_planOf_0 14 rfl rfl)
theorem dX1_planOf_15 : decode cX1_planOf 15 = .ok (.i2l, 1) := dk_133 (dk_at dksX1_planOf_0 15 rfl rfl)
theorem dX1_planOf_16 : decode cX1_planOf 16 = .ok (.invokestatic 114, 3) := dk_184 0 114 (dk_at dksX1_planOf_0 16 rfl rfl)
theorem dX1_planOf_19 : decode cX1_planOf 19 = .ok (.invokestatic 164, 3) := dk_184 0 164 (dk_at dksX1_planOf_0 19 rfl rfl)
theorem dX1_planOf_22 : decode cX1_planOf 22 = .ok (.aload_n 0, 1) := dk_42 (dk_at dksX1_planOf_0 22 rfl rfl)
theorem dX1_planOf_23 : decode cX1_planOf 23 = .ok (.getfield 77, 3) := dk_180 0 77 (dk_at dksX1_planOf_1 0 rfl rfl)
theorem dX1_planOf_26 : decode cX1_planOf 26 = .ok (.getfield 188, 3) := dk_180 0 188 (dk_at dksX1_planOf_1 3 rfl rfl)
theorem dX1_planOf_29 : decode cX1_planOf 29 = .ok (.iload_n 1, 1) := dk_27 (dk_at dksX1_planOf_1 6 rfl rfl)
theorem dX1_planOf_30 : decode cX1_planOf 30 = .ok (.invokevirtual 200, 3) := dk_182 0 200 (dk_at dksX1_planOf_1 7 rfl rfl)
theorem dX1_planOf_33 : decode cX1_planOf 33 = .ok (.checkcast 208, 3) := dk_192 0 208 (dk_at dksX1_planOf_1 10 rfl rfl)
theorem dX1_planOf_36 : decode cX1_planOf 36 = .ok (.areturn, 1) := dk_176 (dk_at dksX1_planOf_1 13 rfl rfl)
abbrev cX1_event : ByteArray := prog_1_method_24_code
def yX1_event : MethodName := ⟨RX1, "event", "(II)I"⟩
def dkwX1_event_3 : List UInt8 := [160, 0, 10, 45, 180, 1, 37, 167, 0, 7, 45, 180, 1, 39, 172]
abbrev dktX1_event_3 : List UInt8 := dkwX1_event_3 ++ []
def dkwX1_event_2 : List UInt8 := [180, 0, 185, 27, 182, 0, 200, 192, 1, 34, 78, 28, 154, 0, 10, 45, 180, 1, 36, 167, 0, 19, 28, 4]
abbrev dktX1_event_2 : List UInt8 := dkwX1_event_2 ++ dktX1_event_3
def dkwX1_event_1 : List UInt8 := [9, 20, 1, 32, 184, 0, 114, 153, 0, 7, 4, 167, 0, 4, 3, 184, 0, 164, 42, 180, 0, 77]
abbrev dktX1_event_1 : List UInt8 := dkwX1_event_1 ++ dktX1_event_2
def dkwX1_event_0 : List UInt8 := [27, 133, 9, 42, 180, 0, 77, 180, 0, 185, 182, 0, 157, 4, 100, 133, 184, 0, 114, 153, 0, 19, 28, 133]
abbrev dktX1_event_0 : List UInt8 := dkwX1_event_0 ++ dktX1_event_1
theorem dksX1_event_0 : cX1_event.data.toList.drop 0 = dktX1_event_0 := by decide +kernel
theorem dksX1_event_1 : cX1_event.data.toList.drop 24 = dktX1_event_1 := dk_seg dksX1_event_0 24 rfl rfl
theorem dksX1_event_2 : cX1_event.data.toList.drop 46 = dktX1_event_2 := dk_seg dksX1_event_1 22 rfl rfl
theorem dksX1_event_3 : cX1_event.data.toList.drop 70 = dktX1_event_3 := dk_seg dksX1_event_2 24 rfl rfl
theorem dX1_event_0 : decode cX1_event 0 = .ok (.iload_n 1, 1) := dk_27 (dk_at dksX1_event_0 0 rfl rfl)
theorem dX1_event_1 : decode cX1_event 1 = .ok (.i2l, 1) := dk_133 (dk_at dksX1_event_0 1 rfl rfl)
theorem dX1_event_2 : decode cX1_event 2 = .ok (.lconst 0, 1) := dk_9 (dk_at dksX1_event_0 2 rfl rfl)
theorem dX1_event_3 : decode cX1_event 3 = .ok (.aload_n 0, 1) := dk_42 (dk_at dksX1_event_0 3 rfl rfl)
theorem dX1_event_4 : decode cX1_event 4 = .ok (.getfield 77, 3) := dk_180 0 77 (dk_at dksX1_event_0 4 rfl rfl)
theorem dX1_event_7 : decode cX1_event 7 = .ok (.getfield 185, 3) := dk_180 0 185 (dk_at dksX1_event_0 7 rfl rfl)
theorem dX1_event_10 : decode cX1_event 10 = .ok (.invokevirtual 157, 3) := dk_182 0 157 (dk_at dksX1_event_0 10 rfl rfl)
theorem dX1_event_13 : decode cX1_event 13 = .ok (.iconst 1, 1) := dk_4 (dk_at dksX1_event_0 13 rfl rfl)
theorem dX1_event_14 : decode cX1_event 14 = .ok (.isub, 1) := dk_100 (dk_at dksX1_event_0 14 rfl rfl)
theorem dX1_event_15 : decode cX1_event 15 = .ok (.i2l, 1) := dk_133 (dk_at dksX1_event_0 15 rfl rfl)
theorem dX1_event_16 : decode cX1_event 16 = .ok (.invokestatic 114, 3) := dk_184 0 114 (dk_at dksX1_event_0 16 rfl rfl)
theorem dX1_event_19 : decode cX1_event 19 = .ok (.ifCond .eq 19, 3) := dk_153 0 19 (dk_at dksX1_event_0 19 rfl rfl)
theorem dX1_event_22 : decode cX1_event 22 = .ok (.iload_n 2, 1) := dk_28 (dk_at dksX1_event_0 22 rfl rfl)
theorem dX1_event_23 : decode cX1_event 23 = .ok (.i2l, 1) := dk_133 (dk_at dksX1_event_0 23 rfl rfl)
theorem dX1_event_24 : decode cX1_event 24 = .ok (.lconst 0, 1) := dk_9 (dk_at dksX1_event_1 0 rfl rfl)
theorem dX1_event_25 : decode cX1_event 25 = .ok (.ldc2_w 288, 3) := dk_20 1 32 (dk_at dksX1_event_1 1 rfl rfl)
theorem dX1_event_28 : decode cX1_event 28 = .ok (.invokestatic 114, 3) := dk_184 0 114 (dk_at dksX1_event_1 4 rfl rfl)
theorem dX1_event_31 : decode cX1_event 31 = .ok (.ifCond .eq 7, 3) := dk_153 0 7 (dk_at dksX1_event_1 7 rfl rfl)
theorem dX1_event_34 : decode cX1_event 34 = .ok (.iconst 1, 1) := dk_4 (dk_at dksX1_event_1 10 rfl rfl)
theorem dX1_event_35 : decode cX1_event 35 = .ok (.goto 4, 3) := dk_167 0 4 (dk_at dksX1_event_1 11 rfl rfl)
theorem dX1_event_38 : decode cX1_event 38 = .ok (.iconst 0, 1) := dk_3 (dk_at dksX1_event_1 14 rfl rfl)
theorem dX1_event_39 : decode cX1_event 39 = .ok (.invokestatic 164, 3) := dk_184 0 164 (dk_at dksX1_event_1 15 rfl rfl)
theorem dX1_event_42 : decode cX1_event 42 = .ok (.aload_n 0, 1) := dk_42 (dk_at dksX1_event_1 18 rfl rfl)
theorem dX1_event_43 : decode cX1_event 43 = .ok (.getfield 77, 3) := dk_180 0 77 (dk_at dksX1_event_1 19 rfl rfl)
theorem dX1_event_46 : decode cX1_event 46 = .ok (.getfield 185, 3) := dk_180 0 185 (dk_at dksX1_event_2 0 rfl rfl)
theorem dX1_event_49 : decode cX1_event 49 = .ok (.iload_n 1, 1) := dk_27 (dk_at dksX1_event_2 3 rfl rfl)
theorem dX1_event_50 : decode cX1_event 50 = .ok (.invokevirtual 200, 3) := dk_182 0 200 (dk_at dksX1_event_2 4 rfl rfl)
theorem dX1_event_53 : decode cX1_event 53 = .ok (.checkcast 290, 3) := dk_192 1 34 (dk_at dksX1_event_2 7 rfl rfl)
theorem dX1_event_56 : decode cX1_event 56 = .ok (.astore_n 3, 1) := dk_78 (dk_at dksX1_event_2 10 rfl rfl)
theorem dX1_event_57 : decode cX1_event 57 = .ok (.iload_n 2, 1) := dk_28 (dk_at dksX1_event_2 11 rfl rfl)
theorem dX1_event_58 : decode cX1_event 58 = .ok (.ifCond .ne 10, 3) := dk_154 0 10 (dk_at dksX1_event_2 12 rfl rfl)
theorem dX1_event_61 : decode cX1_event 61 = .ok (.aload_n 3, 1) := dk_45 (dk_at dksX1_event_2 15 rfl rfl)
theorem dX1_event_62 : decode cX1_event 62 = .ok (.getfield 292, 3) := dk_180 1 36 (dk_at dksX1_event_2 16 rfl rfl)
theorem dX1_event_65 : decode cX1_event 65 = .ok (.goto 19, 3) := dk_167 0 19 (dk_at dksX1_event_2 19 rfl rfl)
theorem dX1_event_68 : decode cX1_event 68 = .ok (.iload_n 2, 1) := dk_28 (dk_at dksX1_event_2 22 rfl rfl)
theorem dX1_event_69 : decode cX1_event 69 = .ok (.iconst 1, 1) := dk_4 (dk_at dksX1_event_2 23 rfl rfl)
theorem dX1_event_70 : decode cX1_event 70 = .ok (.if_icmp .ne 10, 3) := dk_160 0 10 (dk_at dksX1_event_3 0 rfl rfl)
theorem dX1_event_73 : decode cX1_event 73 = .ok (.aload_n 3, 1) := dk_45 (dk_at dksX1_event_3 3 rfl rfl)
theorem dX1_event_74 : decode cX1_event 74 = .ok (.getfield 293, 3) := dk_180 1 37 (dk_at dksX1_event_3 4 rfl rfl)
theorem dX1_event_77 : decode cX1_event 77 = .ok (.goto 7, 3) := dk_167 0 7 (dk_at dksX1_event_3 7 rfl rfl)
theorem dX1_event_80 : decode cX1_event 80 = .ok (.aload_n 3, 1) := dk_45 (dk_at dksX1_event_3 10 rfl rfl)
theorem dX1_event_81 : decode cX1_event 81 = .ok (.getfield 295, 3) := dk_180 1 39 (dk_at dksX1_event_3 11 rfl rfl)
theorem dX1_event_84 : decode cX1_event 84 = .ok (.ireturn, 1) := dk_172 (dk_at dksX1_event_3 14 rfl rfl)
abbrev cX1_orders : ByteArray := prog_1_method_25_code
def yX1_orders : MethodName := ⟨RX1, "orders", "(I)I"⟩
def dkwX1_orders_0 : List UInt8 := [27, 133, 9, 20, 1, 40, 184, 0, 114, 184, 0, 118, 42, 180, 0, 77, 27, 182, 1, 42, 172]
abbrev dktX1_orders_0 : List UInt8 := dkwX1_orders_0 ++ []
theorem dksX1_orders_0 : cX1_orders.data.toList.drop 0 = dktX1_orders_0 := by decide +kernel
theorem dX1_orders_0 : decode cX1_orders 0 = .ok (.iload_n 1, 1) := dk_27 (dk_at dksX1_orders_0 0 rfl rfl)
theorem dX1_orders_1 : decode cX1_orders 1 = .ok (.i2l, 1) := dk_133 (dk_at dksX1_orders_0 1 rfl rfl)
theorem dX1_orders_2 : decode cX1_orders 2 = .ok (.lconst 0, 1) := dk_9 (dk_at dksX1_orders_0 2 rfl rfl)
theorem dX1_orders_3 : decode cX1_orders 3 = .ok (.ldc2_w 296, 3) := dk_20 1 40 (dk_at dksX1_orders_0 3 rfl rfl)
theorem dX1_orders_6 : decode cX1_orders 6 = .ok (.invokestatic 114, 3) := dk_184 0 114 (dk_at dksX1_orders_0 6 rfl rfl)
theorem dX1_orders_9 : decode cX1_orders 9 = .ok (.invokestatic 118, 3) := dk_184 0 118 (dk_at dksX1_orders_0 9 rfl rfl)
theorem dX1_orders_12 : decode cX1_orders 12 = .ok (.aload_n 0, 1) := dk_42 (dk_at dksX1_orders_0 12 rfl rfl)
theorem dX1_orders_13 : decode cX1_orders 13 = .ok (.getfield 77, 3) := dk_180 0 77 (dk_at dksX1_orders_0 13 rfl rfl)
theorem dX1_orders_16 : decode cX1_orders 16 = .ok (.iload_n 1, 1) := dk_27 (dk_at dksX1_orders_0 16 rfl rfl)
theorem dX1_orders_17 : decode cX1_orders 17 = .ok (.invokevirtual 298, 3) := dk_182 1 42 (dk_at dksX1_orders_0 17 rfl rfl)
theorem dX1_orders_20 : decode cX1_orders 20 = .ok (.ireturn, 1) := dk_172 (dk_at dksX1_orders_0 20 rfl rfl)
abbrev cX1_isWall : ByteArray := prog_1_method_26_code
def yX1_isWall : MethodName := ⟨RX1, "isWall", "(II)Z"⟩
def dkwX1_isWall_0 : List UInt8 := [42, 27, 28, 182, 1, 45, 42, 180, 0, 77, 27, 28, 182, 1, 48, 172]
abbrev dktX1_isWall_0 : List UInt8 := dkwX1_isWall_0 ++ []
theorem dksX1_isWall_0 : cX1_isWall.data.toList.drop 0 = dktX1_isWall_0 := by decide +kernel
theorem dX1_isWall_0 : decode cX1_isWall 0 = .ok (.aload_n 0, 1) := dk_42 (dk_at dksX1_isWall_0 0 rfl rfl)
theorem dX1_isWall_1 : decode cX1_isWall 1 = .ok (.iload_n 1, 1) := dk_27 (dk_at dksX1_isWall_0 1 rfl rfl)
theorem dX1_isWall_2 : decode cX1_isWall 2 = .ok (.iload_n 2, 1) := dk_28 (dk_at dksX1_isWall_0 2 rfl rfl)
theorem dX1_isWall_3 : decode cX1_isWall 3 = .ok (.invokevirtual 301, 3) := dk_182 1 45 (dk_at dksX1_isWall_0 3 rfl rfl)
theorem dX1_isWall_6 : decode cX1_isWall 6 = .ok (.aload_n 0, 1) := dk_42 (dk_at dksX1_isWall_0 6 rfl rfl)
theorem dX1_isWall_7 : decode cX1_isWall 7 = .ok (.getfield 77, 3) := dk_180 0 77 (dk_at dksX1_isWall_0 7 rfl rfl)
theorem dX1_isWall_10 : decode cX1_isWall 10 = .ok (.iload_n 1, 1) := dk_27 (dk_at dksX1_isWall_0 10 rfl rfl)
theorem dX1_isWall_11 : decode cX1_isWall 11 = .ok (.iload_n 2, 1) := dk_28 (dk_at dksX1_isWall_0 11 rfl rfl)
theorem dX1_isWall_12 : decode cX1_isWall 12 = .ok (.invokevirtual 304, 3) := dk_182 1 48 (dk_at dksX1_isWall_0 12 rfl rfl)
theorem dX1_isWall_15 : decode cX1_isWall 15 = .ok (.ireturn, 1) := dk_172 (dk_at dksX1_isWall_0 15 rfl rfl)
abbrev cX1_requireCell : ByteArray := prog_1_method_19_code
def yX1_requireCell : MethodName := ⟨RX1, "requireCell", "(II)V"⟩
def dkwX1_requireCell_0 : List UInt8 := [42, 180, 0, 77, 27, 28, 182, 0, 210, 184, 0, 164, 177]
abbrev dktX1_requireCell_0 : List UInt8 := dkwX1_requireCell_0 ++ []
theorem dksX1_requireCell_0 : cX1_requireCell.data.toList.drop 0 = dktX1_requireCell_0 := by decide +kernel
theorem dX1_requireCell_0 : decode cX1_requireCell 0 = .ok (.aload_n 0, 1) := dk_42 (dk_at dksX1_requireCell_0 0 rfl rfl)
theorem dX1_requireCell_1 : decode cX1_requireCell 1 = .ok (.getfield 77, 3) := dk_180 0 77 (dk_at dksX1_requireCell_0 1 rfl rfl)
theorem dX1_requireCell_4 : decode cX1_requireCell 4 = .ok (.iload_n 1, 1) := dk_27 (dk_at dksX1_requireCell_0 4 rfl rfl)
theorem dX1_requireCell_5 : decode cX1_requireCell 5 = .ok (.iload_n 2, 1) := dk_28 (dk_at dksX1_requireCell_0 5 rfl rfl)
theorem dX1_requireCell_6 : decode cX1_requireCell 6 = .ok (.invokevirtual 210, 3) := dk_182 0 210 (dk_at dksX1_requireCell_0 6 rfl rfl)
theorem dX1_requireCell_9 : decode cX1_requireCell 9 = .ok (.invokestatic 164, 3) := dk_184 0 164 (dk_at dksX1_requireCell_0 9 rfl rfl)
theorem dX1_requireCell_12 : decode cX1_requireCell 12 = .ok (.return_, 1) := dk_177 (dk_at dksX1_requireCell_0 12 rfl rfl)
abbrev cX1_isWatched : ByteArray := prog_1_method_27_code
def yX1_isWatched : MethodName := ⟨RX1, "isWatched", "(III)Z"⟩
def dkwX1_isWatched_1 : List UInt8 := [29, 182, 1, 51, 2, 159, 0, 7, 4, 167, 0, 4, 3, 172]
abbrev dktX1_isWatched_1 : List UInt8 := dkwX1_isWatched_1 ++ []
def dkwX1_isWatched_0 : List UInt8 := [42, 27, 28, 182, 1, 45, 29, 155, 0, 7, 4, 167, 0, 4, 3, 184, 0, 118, 42, 180, 0, 77, 27, 28]
abbrev dktX1_isWatched_0 : List UInt8 := dkwX1_isWatched_0 ++ dktX1_isWatched_1
theorem dksX1_isWatched_0 : cX1_isWatched.data.toList.drop 0 = dktX1_isWatched_0 := by decide +kernel
theorem dksX1_isWatched_1 : cX1_isWatched.data.toList.drop 24 = dktX1_isWatched_1 := dk_seg dksX1_isWatched_0 24 rfl rfl
theorem dX1_isWatched_0 : decode cX1_isWatched 0 = .ok (.aload_n 0, 1) := dk_42 (dk_at dksX1_isWatched_0 0 rfl rfl)
theorem dX1_isWatched_1 : decode cX1_isWatched 1 = .ok (.iload_n 1, 1) := dk_27 (dk_at dksX1_isWatched_0 1 rfl rfl)
theorem dX1_isWatched_2 : decode cX1_isWatched 2 = .ok (.iload_n 2, 1) := dk_28 (dk_at dksX1_isWatched_0 2 rfl rfl)
theorem dX1_isWatched_3 : decode cX1_isWatched 3 = .ok (.invokevirtual 301, 3) := dk_182 1 45 (dk_at dksX1_isWatched_0 3 rfl rfl)
theorem dX1_isWatched_6 : decode cX1_isWatched 6 = .ok (.iload_n 3, 1) := dk_29 (dk_at dksX1_isWatched_0 6 rfl rfl)
theorem dX1_isWatched_7 : decode cX1_isWatched 7 = .ok (.ifCond .lt 7, 3) := dk_155 0 7 (dk_at dksX1_isWatched_0 7 rfl rfl)
theorem dX1_isWatched_10 : decode cX1_isWatched 10 = .ok (.iconst 1, 1) := dk_4 (dk_at dksX1_isWatched_0 10 rfl rfl)
theorem dX1_isWatched_11 : decode cX1_isWatched 11 = .ok (.goto 4, 3) := dk_167 0 4 (dk_at dksX1_isWatched_0 11 rfl rfl)
theorem dX1_isWatched_14 : decode cX1_isWatched 14 = .ok (.iconst 0, 1) := dk_3 (dk_at dksX1_isWatched_0 14 rfl rfl)
theorem dX1_isWatched_15 : decode cX1_isWatched 15 = .ok (.invokestatic 118, 3) := dk_184 0 118 (dk_at dksX1_isWatched_0 15 rfl rfl)
theorem dX1_isWatched_18 : decode cX1_isWatched 18 = .ok (.aload_n 0, 1) := dk_42 (dk_at dksX1_isWatched_0 18 rfl rfl)
theorem dX1_isWatched_19 : decode cX1_isWatched 19 = .ok (.getfield 77, 3) := dk_180 0 77 (dk_at dksX1_isWatched_0 19 rfl rfl)
theorem dX1_isWatched_22 : decode cX1_isWatched 22 = .ok (.iload_n 1, 1) := dk_27 (dk_at dksX1_isWatched_0 22 rfl rfl)
theorem dX1_isWatched_23 : decode cX1_isWatched 23 = .ok (.iload_n 2, 1) := dk_28 (dk_at dksX1_isWatched_0 23 rfl rfl)
theorem dX1_isWatched_24 : decode cX1_isWatched 24 = .ok (.iload_n 3, 1) := dk_29 (dk_at dksX1_isWatched_1 0 rfl rfl)
theorem dX1_isWatched_25 : decode cX1_isWatched 25 = .ok (.invokevirtual 307, 3) := dk_182 1 51 (dk_at dksX1_isWatched_1 1 rfl rfl)
theorem dX1_isWatched_28 : decode cX1_isWatched 28 = .ok (.iconst (-1), 1) := dk_2 (dk_at dksX1_isWatched_1 4 rfl rfl)
theorem dX1_isWatched_29 : decode cX1_isWatched 29 = .ok (.if_icmp .eq 7, 3) := dk_159 0 7 (dk_at dksX1_isWatched_1 5 rfl rfl)
theorem dX1_isWatched_32 : decode cX1_isWatched 32 = .ok (.iconst 1, 1) := dk_4 (dk_at dksX1_isWatched_1 8 rfl rfl)
theorem dX1_isWatched_33 : decode cX1_isWatched 33 = .ok (.goto 4, 3) := dk_167 0 4 (dk_at dksX1_isWatched_1 9 rfl rfl)
theorem dX1_isWatched_36 : decode cX1_isWatched 36 = .ok (.iconst 0, 1) := dk_3 (dk_at dksX1_isWatched_1 12 rfl rfl)
theorem dX1_isWatched_37 : decode cX1_isWatched 37 = .ok (.ireturn, 1) := dk_172 (dk_at dksX1_isWatched_1 13 rfl rfl)
abbrev cX1_distance : ByteArray := prog_1_method_28_code
def yX1_distance : MethodName := ⟨RX1, "distance", "(IIII)I"⟩
def dkwX1_distance_2 : List UInt8 := [180, 0, 77, 29, 21, 4, 182, 1, 55, 42, 180, 0, 68, 27, 28, 182, 1, 59, 172]
abbrev dktX1_distance_2 : List UInt8 := dkwX1_distance_2 ++ []
def dkwX1_distance_1 : List UInt8 := [154, 0, 16, 42, 180, 0, 77, 29, 21, 4, 182, 1, 48, 153, 0, 5, 2, 172, 42, 180, 0, 68, 42]
abbrev dktX1_distance_1 : List UInt8 := dkwX1_distance_1 ++ dktX1_distance_2
def dkwX1_distance_0 : List UInt8 := [42, 27, 28, 182, 1, 45, 42, 29, 21, 4, 182, 1, 45, 42, 180, 0, 77, 27, 28, 182, 1, 48]
abbrev dktX1_distance_0 : List UInt8 := dkwX1_distance_0 ++ dktX1_distance_1
theorem dksX1_distance_0 : cX1_distance.data.toList.drop 0 = dktX1_distance_0 := by decide +kernel
theorem dksX1_distance_1 : cX1_distance.data.toList.drop 22 = dktX1_distance_1 := dk_seg dksX1_distance_0 22 rfl rfl
theorem dksX1_distance_2 : cX1_distance.data.toList.drop 45 = dktX1_distance_2 := dk_seg dksX1_distance_1 23 rfl rfl
theorem dX1_distance_0 : decode cX1_distance 0 = .ok (.aload_n 0, 1) := dk_42 (dk_at dksX1_distance_0 0 rfl rfl)
theorem dX1_distance_1 : decode cX1_distance 1 = .ok (.iload_n 1, 1) := dk_27 (dk_at dksX1_distance_0 1 rfl rfl)
theorem dX1_distance_2 : decode cX1_distance 2 = .ok (.iload_n 2, 1) := dk_28 (dk_at dksX1_distance_0 2 rfl rfl)
theorem dX1_distance_3 : decode cX1_distance 3 = .ok (.invokevirtual 301, 3) := dk_182 1 45 (dk_at dksX1_distance_0 3 rfl rfl)
theorem dX1_distance_6 : decode cX1_distance 6 = .ok (.aload_n 0, 1) := dk_42 (dk_at dksX1_distance_0 6 rfl rfl)
theorem dX1_distance_7 : decode cX1_distance 7 = .ok (.iload_n 3, 1) := dk_29 (dk_at dksX1_distance_0 7 rfl rfl)
theorem dX1_distance_8 : decode cX1_distance 8 = .ok (.iload 4, 2) := dk_21 4 (dk_at dksX1_distance_0 8 rfl rfl)
theorem dX1_distance_10 : decode cX1_distance 10 = .ok (.invokevirtual 301, 3) := dk_182 1 45 (dk_at dksX1_distance_0 10 rfl rfl)
theorem dX1_distance_13 : decode cX1_distance 13 = .ok (.aload_n 0, 1) := dk_42 (dk_at dksX1_distance_0 13 rfl rfl)
theorem dX1_distance_14 : decode cX1_distance 14 = .ok (.getfield 77, 3) := dk_180 0 77 (dk_at dksX1_distance_0 14 rfl rfl)
theorem dX1_distance_17 : decode cX1_distance 17 = .ok (.iload_n 1, 1) := dk_27 (dk_at dksX1_distance_0 17 rfl rfl)
theorem dX1_distance_18 : decode cX1_distance 18 = .ok (.iload_n 2, 1) := dk_28 (dk_at dksX1_distance_0 18 rfl rfl)
theorem dX1_distance_19 : decode cX1_distance 19 = .ok (.invokevirtual 304, 3) := dk_182 1 48 (dk_at dksX1_distance_0 19 rfl rfl)
theorem dX1_distance_22 : decode cX1_distance 22 = .ok (.ifCond .ne 16, 3) := dk_154 0 16 (dk_at dksX1_distance_1 0 rfl rfl)
theorem dX1_distance_25 : decode cX1_distance 25 = .ok (.aload_n 0, 1) := dk_42 (dk_at dksX1_distance_1 3 rfl rfl)
theorem dX1_distance_26 : decode cX1_distance 26 = .ok (.getfield 77, 3) := dk_180 0 77 (dk_at dksX1_distance_1 4 rfl rfl)
theorem dX1_distance_29 : decode cX1_distance 29 = .ok (.iload_n 3, 1) := dk_29 (dk_at dksX1_distance_1 7 rfl rfl)
theorem dX1_distance_30 : decode cX1_distance 30 = .ok (.iload 4, 2) := dk_21 4 (dk_at dksX1_distance_1 8 rfl rfl)
theorem dX1_distance_32 : decode cX1_distance 32 = .ok (.invokevirtual 304, 3) := dk_182 1 48 (dk_at dksX1_distance_1 10 rfl rfl)
theorem dX1_distance_35 : decode cX1_distance 35 = .ok (.ifCond .eq 5, 3) := dk_153 0 5 (dk_at dksX1_distance_1 13 rfl rfl)
theorem dX1_distance_38 : decode cX1_distance 38 = .ok (.iconst (-1), 1) := dk_2 (dk_at dksX1_distance_1 16 rfl rfl)
theorem dX1_distance_39 : decode cX1_distance 39 = .ok (.ireturn, 1) := dk_172 (dk_at dksX1_distance_1 17 rfl rfl)
theorem dX1_distance_40 : decode cX1_distance 40 = .ok (.aload_n 0, 1) := dk_42 (dk_at dksX1_distance_1 18 rfl rfl)
theorem dX1_distance_41 : decode cX1_distance 41 = .ok (.getfield 68, 3) := dk_180 0 68 (dk_at dksX1_distance_1 19 rfl rfl)
theorem dX1_distance_44 : decode cX1_distance 44 = .ok (.aload_n 0, 1) := dk_42 (dk_at dksX1_distance_1 22 rfl rfl)
theorem dX1_distance_45 : decode cX1_distance 45 = .ok (.getfield 77, 3) := dk_180 0 77 (dk_at dksX1_distance_2 0 rfl rfl)
theorem dX1_distance_48 : decode cX1_distance 48 = .ok (.iload_n 3, 1) := dk_29 (dk_at dksX1_distance_2 3 rfl rfl)
theorem dX1_distance_49 : decode cX1_distance 49 = .ok (.iload 4, 2) := dk_21 4 (dk_at dksX1_distance_2 4 rfl rfl)
theorem dX1_distance_51 : decode cX1_distance 51 = .ok (.invokevirtual 311, 3) := dk_182 1 55 (dk_at dksX1_distance_2 6 rfl rfl)
theorem dX1_distance_54 : decode cX1_distance 54 = .ok (.aload_n 0, 1) := dk_42 (dk_at dksX1_distance_2 9 rfl rfl)
theorem dX1_distance_55 : decode cX1_distance 55 = .ok (.getfield 68, 3) := dk_180 0 68 (dk_at dksX1_distance_2 10 rfl rfl)
theorem dX1_distance_58 : decode cX1_distance 58 = .ok (.iload_n 1, 1) := dk_27 (dk_at dksX1_distance_2 13 rfl rfl)
theorem dX1_distance_59 : decode cX1_distance 59 = .ok (.iload_n 2, 1) := dk_28 (dk_at dksX1_distance_2 14 rfl rfl)
theorem dX1_distance_60 : decode cX1_distance 60 = .ok (.invokevirtual 315, 3) := dk_182 1 59 (dk_at dksX1_distance_2 15 rfl rfl)
theorem dX1_distance_63 : decode cX1_distance 63 = .ok (.ireturn, 1) := dk_172 (dk_at dksX1_distance_2 18 rfl rfl)
abbrev cX1_step : ByteArray := prog_1_method_29_code
def yX1_step : MethodName := ⟨RX1, "step", "(IIII)I"⟩
def dkwX1_step_2 : List UInt8 := [167, 0, 23, 16, 100, 28, 178, 1, 69, 21, 6, 46, 96, 104, 27, 96, 178, 1, 73, 21, 6, 46, 96, 172]
abbrev dktX1_step_2 : List UInt8 := dkwX1_step_2 ++ []
def dkwX1_step_1 : List UInt8 := [180, 0, 77, 27, 28, 182, 1, 65, 54, 6, 21, 6, 2, 160, 0, 12, 16, 100, 28, 104, 27, 96]
abbrev dktX1_step_1 : List UInt8 := dkwX1_step_1 ++ dktX1_step_2
def dkwX1_step_0 : List UInt8 := [42, 27, 28, 29, 21, 4, 182, 1, 62, 54, 5, 21, 5, 2, 160, 0, 5, 2, 172, 42, 180, 0, 68, 42]
abbrev dktX1_step_0 : List UInt8 := dkwX1_step_0 ++ dktX1_step_1
theorem dksX1_step_0 : cX1_step.data.toList.drop 0 = dktX1_step_0 := by decide +kernel
theorem dksX1_step_1 : cX1_step.data.toList.drop 24 = dktX1_step_1 := dk_seg dksX1_step_0 24 rfl rfl
theorem dksX1_step_2 : cX1_step.data.toList.drop 46 = dktX1_step_2 := dk_seg dksX1_step_1 22 rfl rfl
theorem dX1_step_0 : decode cX1_step 0 = .ok (.aload_n 0, 1) := dk_42 (dk_at dksX1_step_0 0 rfl rfl)
theorem dX1_step_1 : decode cX1_step 1 = .ok (.iload_n 1, 1) := dk_27 (dk_at dksX1_step_0 1 rfl rfl)
theorem dX1_step_2 : decode cX1_step 2 = .ok (.iload_n 2, 1) := dk_28 (dk_at dksX1_step_0 2 rfl rfl)
theorem dX1_step_3 : decode cX1_step 3 = .ok (.iload_n 3, 1) := dk_29 (dk_at dksX1_step_0 3 rfl rfl)
theorem dX1_step_4 : decode cX1_step 4 = .ok (.iload 4, 2) := dk_21 4 (dk_at dksX1_step_0 4 rfl rfl)
theorem dX1_step_6 : decode cX1_step 6 = .ok (.invokevirtual 318, 3) := dk_182 1 62 (dk_at dksX1_step_0 6 rfl rfl)
theorem dX1_step_9 : decode cX1_step 9 = .ok (.istore 5, 2) := dk_54 5 (dk_at dksX1_step_0 9 rfl rfl)
theorem dX1_step_11 : decode cX1_step 11 = .ok (.iload 5, 2) := dk_21 5 (dk_at dksX1_step_0 11 rfl rfl)
theorem dX1_step_13 : decode cX1_step 13 = .ok (.iconst (-1), 1) := dk_2 (dk_at dksX1_step_0 13 rfl rfl)
theorem dX1_step_14 : decode cX1_step 14 = .ok (.if_icmp .ne 5, 3) := dk_160 0 5 (dk_at dksX1_step_0 14 rfl rfl)
theorem dX1_step_17 : decode cX1_step 17 = .ok (.iconst (-1), 1) := dk_2 (dk_at dksX1_step_0 17 rfl rfl)
theorem dX1_step_18 : decode cX1_step 18 = .ok (.ireturn, 1) := dk_172 (dk_at dksX1_step_0 18 rfl rfl)
theorem dX1_step_19 : decode cX1_step 19 = .ok (.aload_n 0, 1) := dk_42 (dk_at dksX1_step_0 19 rfl rfl)
theorem dX1_step_20 : decode cX1_step 20 = .ok (.getfield 68, 3) := dk_180 0 68 (dk_at dksX1_step_0 20 rfl rfl)
theorem dX1_step_23 : decode cX1_step 23 = .ok (.aload_n 0, 1) := dk_42 (dk_at dksX1_step_0 23 rfl rfl)
theorem dX1_step_24 : decode cX1_step 24 = .ok (.getfield 77, 3) := dk_180 0 77 (dk_at dksX1_step_1 0 rfl rfl)
theorem dX1_step_27 : decode cX1_step 27 = .ok (.iload_n 1, 1) := dk_27 (dk_at dksX1_step_1 3 rfl rfl)
theorem dX1_step_28 : decode cX1_step 28 = .ok (.iload_n 2, 1) := dk_28 (dk_at dksX1_step_1 4 rfl rfl)
theorem dX1_step_29 : decode cX1_step 29 = .ok (.invokevirtual 321, 3) := dk_182 1 65 (dk_at dksX1_step_1 5 rfl rfl)
theorem dX1_step_32 : decode cX1_step 32 = .ok (.istore 6, 2) := dk_54 6 (dk_at dksX1_step_1 8 rfl rfl)
theorem dX1_step_34 : decode cX1_step 34 = .ok (.iload 6, 2) := dk_21 6 (dk_at dksX1_step_1 10 rfl rfl)
theorem dX1_step_36 : decode cX1_step 36 = .ok (.iconst (-1), 1) := dk_2 (dk_at dksX1_step_1 12 rfl rfl)
theorem dX1_step_37 : decode cX1_step 37 = .ok (.if_icmp .ne 12, 3) := dk_160 0 12 (dk_at dksX1_step_1 13 rfl rfl)
theorem dX1_step_40 : decode cX1_step 40 = .ok (.bipush 100, 2) := dk_16 100 (dk_at dksX1_step_1 16 rfl rfl)
theorem dX1_step_42 : decode cX1_step 42 = .ok (.iload_n 2, 1) := dk_28 (dk_at dksX1_step_1 18 rfl rfl)
theorem dX1_step_43 : decode cX1_step 43 = .ok (.imul, 1) := dk_104 (dk_at dksX1_step_1 19 rfl rfl)
theorem dX1_step_44 : decode cX1_step 44 = .ok (.iload_n 1, 1) := dk_27 (dk_at dksX1_step_1 20 rfl rfl)
theorem dX1_step_45 : decode cX1_step 45 = .ok (.iadd, 1) := dk_96 (dk_at dksX1_step_1 21 rfl rfl)
theorem dX1_step_46 : decode cX1_step 46 = .ok (.goto 23, 3) := dk_167 0 23 (dk_at dksX1_step_2 0 rfl rfl)
theorem dX1_step_49 : decode cX1_step 49 = .ok (.bipush 100, 2) := dk_16 100 (dk_at dksX1_step_2 3 rfl rfl)
theorem dX1_step_51 : decode cX1_step 51 = .ok (.iload_n 2, 1) := dk_28 (dk_at dksX1_step_2 5 rfl rfl)
theorem dX1_step_52 : decode cX1_step 52 = .ok (.getstatic 325, 3) := dk_178 1 69 (dk_at dksX1_step_2 6 rfl rfl)
theorem dX1_step_55 : decode cX1_step 55 = .ok (.iload 6, 2) := dk_21 6 (dk_at dksX1_step_2 9 rfl rfl)
theorem dX1_step_57 : decode cX1_step 57 = .ok (.iaload, 1) := dk_46 (dk_at dksX1_step_2 11 rfl rfl)
theorem dX1_step_58 : decode cX1_step 58 = .ok (.iadd, 1) := dk_96 (dk_at dksX1_step_2 12 rfl rfl)
theorem dX1_step_59 : decode cX1_step 59 = .ok (.imul, 1) := dk_104 (dk_at dksX1_step_2 13 rfl rfl)
theorem dX1_step_60 : decode cX1_step 60 = .ok (.iload_n 1, 1) := dk_27 (dk_at dksX1_step_2 14 rfl rfl)
theorem dX1_step_61 : decode cX1_step 61 = .ok (.iadd, 1) := dk_96 (dk_at dksX1_step_2 15 rfl rfl)
theorem dX1_step_62 : decode cX1_step 62 = .ok (.getstatic 329, 3) := dk_178 1 73 (dk_at dksX1_step_2 16 rfl rfl)
theorem dX1_step_65 : decode cX1_step 65 = .ok (.iload 6, 2) := dk_21 6 (dk_at dksX1_step_2 19 rfl rfl)
theorem dX1_step_67 : decode cX1_step 67 = .ok (.iaload, 1) := dk_46 (dk_at dksX1_step_2 21 rfl rfl)
theorem dX1_step_68 : decode cX1_step 68 = .ok (.iadd, 1) := dk_96 (dk_at dksX1_step_2 22 rfl rfl)
theorem dX1_step_69 : decode cX1_step 69 = .ok (.ireturn, 1) := dk_172 (dk_at dksX1_step_2 23 rfl rfl)
abbrev cX1_wasAt : ByteArray := prog_1_method_30_code
def yX1_wasAt : MethodName := ⟨RX1, "wasAt", "(II)I"⟩
def dkwX1_wasAt_2 : List UInt8 := [167, 0, 19, 42, 180, 0, 77, 180, 1, 76, 28, 182, 0, 200, 192, 1, 79, 27, 46, 172]
abbrev dktX1_wasAt_2 : List UInt8 := dkwX1_wasAt_2 ++ []
def dkwX1_wasAt_1 : List UInt8 := [42, 180, 0, 77, 180, 0, 179, 160, 0, 18, 16, 100, 45, 180, 0, 225, 104, 45, 180, 0, 224, 96]
abbrev dktX1_wasAt_1 : List UInt8 := dkwX1_wasAt_1 ++ dktX1_wasAt_2
def dkwX1_wasAt_0 : List UInt8 := [42, 27, 182, 0, 214, 78, 28, 133, 9, 42, 180, 0, 77, 180, 0, 179, 133, 184, 0, 114, 184, 0, 118, 28]
abbrev dktX1_wasAt_0 : List UInt8 := dkwX1_wasAt_0 ++ dktX1_wasAt_1
theorem dksX1_wasAt_0 : cX1_wasAt.data.toList.drop 0 = dktX1_wasAt_0 := by decide +kernel
theorem dksX1_wasAt_1 : cX1_wasAt.data.toList.drop 24 = dktX1_wasAt_1 := dk_seg dksX1_wasAt_0 24 rfl rfl
theorem dksX1_wasAt_2 : cX1_wasAt.data.toList.drop 46 = dktX1_wasAt_2 := dk_seg dksX1_wasAt_1 22 rfl rfl
theorem dX1_wasAt_0 : decode cX1_wasAt 0 = .ok (.aload_n 0, 1) := dk_42 (dk_at dksX1_wasAt_0 0 rfl rfl)
theorem dX1_wasAt_1 : decode cX1_wasAt 1 = .ok (.iload_n 1, 1) := dk_27 (dk_at dksX1_wasAt_0 1 rfl rfl)
theorem dX1_wasAt_2 : decode cX1_wasAt 2 = .ok (.invokevirtual 214, 3) := dk_182 0 214 (dk_at dksX1_wasAt_0 2 rfl rfl)
theorem dX1_wasAt_5 : decode cX1_wasAt 5 = .ok (.astore_n 3, 1) := dk_78 (dk_at dksX1_wasAt_0 5 rfl rfl)
theorem dX1_wasAt_6 : decode cX1_wasAt 6 = .ok (.iload_n 2, 1) := dk_28 (dk_at dksX1_wasAt_0 6 rfl rfl)
theorem dX1_wasAt_7 : decode cX1_wasAt 7 = .ok (.i2l, 1) := dk_133 (dk_at dksX1_wasAt_0 7 rfl rfl)
theorem dX1_wasAt_8 : decode cX1_wasAt 8 = .ok (.lconst 0, 1) := dk_9 (dk_at dksX1_wasAt_0 8 rfl rfl)
theorem dX1_wasAt_9 : decode cX1_wasAt 9 = .ok (.aload_n 0, 1) := dk_42 (dk_at dksX1_wasAt_0 9 rfl rfl)
theorem dX1_wasAt_10 : decode cX1_wasAt 10 = .ok (.getfield 77, 3) := dk_180 0 77 (dk_at dksX1_wasAt_0 10 rfl rfl)
theorem dX1_wasAt_13 : decode cX1_wasAt 13 = .ok (.getfield 179, 3) := dk_180 0 179 (dk_at dksX1_wasAt_0 13 rfl rfl)
theorem dX1_wasAt_16 : decode cX1_wasAt 16 = .ok (.i2l, 1) := dk_133 (dk_at dksX1_wasAt_0 16 rfl rfl)
theorem dX1_wasAt_17 : decode cX1_wasAt 17 = .ok (.invokestatic 114, 3) := dk_184 0 114 (dk_at dksX1_wasAt_0 17 rfl rfl)
theorem dX1_wasAt_20 : decode cX1_wasAt 20 = .ok (.invokestatic 118, 3) := dk_184 0 118 (dk_at dksX1_wasAt_0 20 rfl rfl)
theorem dX1_wasAt_23 : decode cX1_wasAt 23 = .ok (.iload_n 2, 1) := dk_28 (dk_at dksX1_wasAt_0 23 rfl rfl)
theorem dX1_wasAt_24 : decode cX1_wasAt 24 = .ok (.aload_n 0, 1) := dk_42 (dk_at dksX1_wasAt_1 0 rfl rfl)
theorem dX1_wasAt_25 : decode cX1_wasAt 25 = .ok (.getfield 77, 3) := dk_180 0 77 (dk_at dksX1_wasAt_1 1 rfl rfl)
theorem dX1_wasAt_28 : decode cX1_wasAt 28 = .ok (.getfield 179, 3) := dk_180 0 179 (dk_at dksX1_wasAt_1 4 rfl rfl)
theorem dX1_wasAt_31 : decode cX1_wasAt 31 = .ok (.if_icmp .ne 18, 3) := dk_160 0 18 (dk_at dksX1_wasAt_1 7 rfl rfl)
theorem dX1_wasAt_34 : decode cX1_wasAt 34 = .ok (.bipush 100, 2) := dk_16 100 (dk_at dksX1_wasAt_1 10 rfl rfl)
theorem dX1_wasAt_36 : decode cX1_wasAt 36 = .ok (.aload_n 3, 1) := dk_45 (dk_at dksX1_wasAt_1 12 rfl rfl)
theorem dX1_wasAt_37 : decode cX1_wasAt 37 = .ok (.getfield 225, 3) := dk_180 0 225 (dk_at dksX1_wasAt_1 13 rfl rfl)
theorem dX1_wasAt_40 : decode cX1_wasAt 40 = .ok (.imul, 1) := dk_104 (dk_at dksX1_wasAt_1 16 rfl rfl)
theorem dX1_wasAt_41 : decode cX1_wasAt 41 = .ok (.aload_n 3, 1) := dk_45 (dk_at dksX1_wasAt_1 17 rfl rfl)
theorem dX1_wasAt_42 : decode cX1_wasAt 42 = .ok (.getfield 224, 3) := dk_180 0 224 (dk_at dksX1_wasAt_1 18 rfl rfl)
theorem dX1_wasAt_45 : decode cX1_wasAt 45 = .ok (.iadd, 1) := dk_96 (dk_at dksX1_wasAt_1 21 rfl rfl)
theorem dX1_wasAt_46 : decode cX1_wasAt 46 = .ok (.goto 19, 3) := dk_167 0 19 (dk_at dksX1_wasAt_2 0 rfl rfl)
theorem dX1_wasAt_49 : decode cX1_wasAt 49 = .ok (.aload_n 0, 1) := dk_42 (dk_at dksX1_wasAt_2 3 rfl rfl)
theorem dX1_wasAt_50 : decode cX1_wasAt 50 = .ok (.getfield 77, 3) := dk_180 0 77 (dk_at dksX1_wasAt_2 4 rfl rfl)
theorem dX1_wasAt_53 : decode cX1_wasAt 53 = .ok (.getfield 332, 3) := dk_180 1 76 (dk_at dksX1_wasAt_2 7 rfl rfl)
theorem dX1_wasAt_56 : decode cX1_wasAt 56 = .ok (.iload_n 2, 1) := dk_28 (dk_at dksX1_wasAt_2 10 rfl rfl)
theorem dX1_wasAt_57 : decode cX1_wasAt 57 = .ok (.invokevirtual 200, 3) := dk_182 0 200 (dk_at dksX1_wasAt_2 11 rfl rfl)
theorem dX1_wasAt_60 : decode cX1_wasAt 60 = .ok (.checkcast 335, 3) := dk_192 1 79 (dk_at dksX1_wasAt_2 14 rfl rfl)
theorem dX1_wasAt_63 : decode cX1_wasAt 63 = .ok (.iload_n 1, 1) := dk_27 (dk_at dksX1_wasAt_2 17 rfl rfl)
theorem dX1_wasAt_64 : decode cX1_wasAt 64 = .ok (.iaload, 1) := dk_46 (dk_at dksX1_wasAt_2 18 rfl rfl)
theorem dX1_wasAt_65 : decode cX1_wasAt 65 = .ok (.ireturn, 1) := dk_172 (dk_at dksX1_wasAt_2 19 rfl rfl)
abbrev cX1_stateAt : ByteArray := prog_1_method_31_code
def yX1_stateAt : MethodName := ⟨RX1, "stateAt", "(II)I"⟩
def dkwX1_stateAt_4 : List UInt8 := [54, 4, 132, 5, 1, 167, 255, 196, 21, 4, 172]
abbrev dktX1_stateAt_4 : List UInt8 := dkwX1_stateAt_4 ++ []
def dkwX1_stateAt_3 : List UInt8 := [25, 6, 180, 1, 37, 27, 160, 0, 19, 25, 6, 180, 1, 36, 28, 162, 0, 10, 25, 6, 180, 1, 39]
abbrev dktX1_stateAt_3 : List UInt8 := dkwX1_stateAt_3 ++ dktX1_stateAt_4
def dkwX1_stateAt_2 : List UInt8 := [182, 0, 157, 162, 0, 51, 42, 180, 0, 77, 180, 0, 185, 21, 5, 182, 0, 200, 192, 1, 34, 58, 6]
abbrev dktX1_stateAt_2 : List UInt8 := dkwX1_stateAt_2 ++ dktX1_stateAt_3
def dkwX1_stateAt_1 : List UInt8 := [45, 180, 0, 50, 163, 0, 5, 2, 172, 3, 54, 4, 3, 54, 5, 21, 5, 42, 180, 0, 77, 180, 0, 185]
abbrev dktX1_stateAt_1 : List UInt8 := dkwX1_stateAt_1 ++ dktX1_stateAt_2
def dkwX1_stateAt_0 : List UInt8 := [42, 27, 182, 1, 11, 78, 28, 133, 9, 42, 180, 0, 77, 180, 0, 179, 133, 184, 0, 114, 184, 0, 118, 28]
abbrev dktX1_stateAt_0 : List UInt8 := dkwX1_stateAt_0 ++ dktX1_stateAt_1
theorem dksX1_stateAt_0 : cX1_stateAt.data.toList.drop 0 = dktX1_stateAt_0 := by decide +kernel
theorem dksX1_stateAt_1 : cX1_stateAt.data.toList.drop 24 = dktX1_stateAt_1 := dk_seg dksX1_stateAt_0 24 rfl rfl
theorem dksX1_stateAt_2 : cX1_stateAt.data.toList.drop 48 = dktX1_stateAt_2 := dk_seg dksX1_stateAt_1 24 rfl rfl
theorem dksX1_stateAt_3 : cX1_stateAt.data.toList.drop 71 = dktX1_stateAt_3 := dk_seg dksX1_stateAt_2 23 rfl rfl
theorem dksX1_stateAt_4 : cX1_stateAt.data.toList.drop 94 = dktX1_stateAt_4 := dk_seg dksX1_stateAt_3 23 rfl rfl
theorem dX1_stateAt_0 : decode cX1_stateAt 0 = .ok (.aload_n 0, 1) := dk_42 (dk_at dksX1_stateAt_0 0 rfl rfl)
theorem dX1_stateAt_1 : decode cX1_stateAt 1 = .ok (.iload_n 1, 1) := dk_27 (dk_at dksX1_stateAt_0 1 rfl rfl)
theorem dX1_stateAt_2 : decode cX1_stateAt 2 = .ok (.invokevirtual 267, 3) := dk_182 1 11 (dk_at dksX1_stateAt_0 2 rfl rfl)
theorem dX1_stateAt_5 : decode cX1_stateAt 5 = .ok (.astore_n 3, 1) := dk_78 (dk_at dksX1_stateAt_0 5 rfl rfl)
theorem dX1_stateAt_6 : decode cX1_stateAt 6 = .ok (.iload_n 2, 1) := dk_28 (dk_at dksX1_stateAt_0 6 rfl rfl)
theorem dX1_stateAt_7 : decode cX1_stateAt 7 = .ok (.i2l, 1) := dk_133 (dk_at dksX1_stateAt_0 7 rfl rfl)
theorem dX1_stateAt_8 : decode cX1_stateAt 8 = .ok (.lconst 0, 1) := dk_9 (dk_at dksX1_stateAt_0 8 rfl rfl)
theorem dX1_stateAt_9 : decode cX1_stateAt 9 = .ok (.aload_n 0, 1) := dk_42 (dk_at dksX1_stateAt_0 9 rfl rfl)
theorem dX1_stateAt_10 : decode cX1_stateAt 10 = .ok (.getfield 77, 3) := dk_180 0 77 (dk_at dksX1_stateAt_0 10 rfl rfl)
theorem dX1_stateAt_13 : decode cX1_stateAt 13 = .ok (.getfield 179, 3) := dk_180 0 179 (dk_at dksX1_stateAt_0 13 rfl rfl)
theorem dX1_stateAt_16 : decode cX1_stateAt 16 = .ok (.i2l, 1) := dk_133 (dk_at dksX1_stateAt_0 16 rfl rfl)
theorem dX1_stateAt_17 : decode cX1_stateAt 17 = .ok (.invokestatic 114, 3) := dk_184 0 114 (dk_at dksX1_stateAt_0 17 rfl rfl)
theorem dX1_stateAt_20 : decode cX1_stateAt 20 = .ok (.invokestatic 118, 3) := dk_184 0 118 (dk_at dksX1_stateAt_0 20 rfl rfl)
theorem dX1_stateAt_23 : decode cX1_stateAt 23 = .ok (.iload_n 2, 1) := dk_28 (dk_at dksX1_stateAt_0 23 rfl rfl)
theorem dX1_stateAt_24 : decode cX1_stateAt 24 = .ok (.aload_n 3, 1) := dk_45 (dk_at dksX1_stateAt_1 0 rfl rfl)
theorem dX1_stateAt_25 : decode cX1_stateAt 25 = .ok (.getfield 50, 3) := dk_180 0 50 (dk_at dksX1_stateAt_1 1 rfl rfl)
theorem dX1_stateAt_28 : decode cX1_stateAt 28 = .ok (.if_icmp .gt 5, 3) := dk_163 0 5 (dk_at dksX1_stateAt_1 4 rfl rfl)
theorem dX1_stateAt_31 : decode cX1_stateAt 31 = .ok (.iconst (-1), 1) := dk_2 (dk_at dksX1_stateAt_1 7 rfl rfl)
theorem dX1_stateAt_32 : decode cX1_stateAt 32 = .ok (.ireturn, 1) := dk_172 (dk_at dksX1_stateAt_1 8 rfl rfl)
theorem dX1_stateAt_33 : decode cX1_stateAt 33 = .ok (.iconst 0, 1) := dk_3 (dk_at dksX1_stateAt_1 9 rfl rfl)
theorem dX1_stateAt_34 : decode cX1_stateAt 34 = .ok (.istore 4, 2) := dk_54 4 (dk_at dksX1_stateAt_1 10 rfl rfl)
theorem dX1_stateAt_36 : decode cX1_stateAt 36 = .ok (.iconst 0, 1) := dk_3 (dk_at dksX1_stateAt_1 12 rfl rfl)
theorem dX1_stateAt_37 : decode cX1_stateAt 37 = .ok (.istore 5, 2) := dk_54 5 (dk_at dksX1_stateAt_1 13 rfl rfl)
theorem dX1_stateAt_39 : decode cX1_stateAt 39 = .ok (.iload 5, 2) := dk_21 5 (dk_at dksX1_stateAt_1 15 rfl rfl)
theorem dX1_stateAt_41 : decode cX1_stateAt 41 = .ok (.aload_n 0, 1) := dk_42 (dk_at dksX1_stateAt_1 17 rfl rfl)
theorem dX1_stateAt_42 : decode cX1_stateAt 42 = .ok (.getfield 77, 3) := dk_180 0 77 (dk_at dksX1_stateAt_1 18 rfl rfl)
theorem dX1_stateAt_45 : decode cX1_stateAt 45 = .ok (.getfield 185, 3) := dk_180 0 185 (dk_at dksX1_stateAt_1 21 rfl rfl)
theorem dX1_stateAt_48 : decode cX1_stateAt 48 = .ok (.invokevirtual 157, 3) := dk_182 0 157 (dk_at dksX1_stateAt_2 0 rfl rfl)
theorem dX1_stateAt_51 : decode cX1_stateAt 51 = .ok (.if_icmp .ge 51, 3) := dk_162 0 51 (dk_at dksX1_stateAt_2 3 rfl rfl)
theorem dX1_stateAt_54 : decode cX1_stateAt 54 = .ok (.aload_n 0, 1) := dk_42 (dk_at dksX1_stateAt_2 6 rfl rfl)
theorem dX1_stateAt_55 : decode cX1_stateAt 55 = .ok (.getfield 77, 3) := dk_180 0 77 (dk_at dksX1_stateAt_2 7 rfl rfl)
theorem dX1_stateAt_58 : decode cX1_stateAt 58 = .ok (.getfield 185, 3) := dk_180 0 185 (dk_at dksX1_stateAt_2 10 rfl rfl)
theorem dX1_stateAt_61 : decode cX1_stateAt 61 = .ok (.iload 5, 2) := dk_21 5 (dk_at dksX1_stateAt_2 13 rfl rfl)
theorem dX1_stateAt_63 : decode cX1_stateAt 63 = .ok (.invokevirtual 200, 3) := dk_182 0 200 (dk_at dksX1_stateAt_2 15 rfl rfl)
theorem dX1_stateAt_66 : decode cX1_stateAt 66 = .ok (.checkcast 290, 3) := dk_192 1 34 (dk_at dksX1_stateAt_2 18 rfl rfl)
theorem dX1_stateAt_69 : decode cX1_stateAt 69 = .ok (.astore 6, 2) := dk_58 6 (dk_at dksX1_stateAt_2 21 rfl rfl)
theorem dX1_stateAt_71 : decode cX1_stateAt 71 = .ok (.aload 6, 2) := dk_25 6 (dk_at dksX1_stateAt_3 0 rfl rfl)
theorem dX1_stateAt_73 : decode cX1_stateAt 73 = .ok (.getfield 293, 3) := dk_180 1 37 (dk_at dksX1_stateAt_3 2 rfl rfl)
theorem dX1_stateAt_76 : decode cX1_stateAt 76 = .ok (.iload_n 1, 1) := dk_27 (dk_at dksX1_stateAt_3 5 rfl rfl)
theorem dX1_stateAt_77 : decode cX1_stateAt 77 = .ok (.if_icmp .ne 19, 3) := dk_160 0 19 (dk_at dksX1_stateAt_3 6 rfl rfl)
theorem dX1_stateAt_80 : decode cX1_stateAt 80 = .ok (.aload 6, 2) := dk_25 6 (dk_at dksX1_stateAt_3 9 rfl rfl)
theorem dX1_stateAt_82 : decode cX1_stateAt 82 = .ok (.getfield 292, 3) := dk_180 1 36 (dk_at dksX1_stateAt_3 11 rfl rfl)
theorem dX1_stateAt_85 : decode cX1_stateAt 85 = .ok (.iload_n 2, 1) := dk_28 (dk_at dksX1_stateAt_3 14 rfl rfl)
theorem dX1_stateAt_86 : decode cX1_stateAt 86 = .ok (.if_icmp .ge 10, 3) := dk_162 0 10 (dk_at dksX1_stateAt_3 15 rfl rfl)
theorem dX1_stateAt_89 : decode cX1_stateAt 89 = .ok (.aload 6, 2) := dk_25 6 (dk_at dksX1_stateAt_3 18 rfl rfl)
theorem dX1_stateAt_91 : decode cX1_stateAt 91 = .ok (.getfield 295, 3) := dk_180 1 39 (dk_at dksX1_stateAt_3 20 rfl rfl)
theorem dX1_stateAt_94 : decode cX1_stateAt 94 = .ok (.istore 4, 2) := dk_54 4 (dk_at dksX1_stateAt_4 0 rfl rfl)
theorem dX1_stateAt_96 : decode cX1_stateAt 96 = .ok (.iinc 5 1, 3) := dk_132 5 1 (dk_at dksX1_stateAt_4 2 rfl rfl)
theorem dX1_stateAt_99 : decode cX1_stateAt 99 = .ok (.goto (-60), 3) := dk_167 255 196 (dk_at dksX1_stateAt_4 5 rfl rfl)
theorem dX1_stateAt_102 : decode cX1_stateAt 102 = .ok (.iload 4, 2) := dk_21 4 (dk_at dksX1_stateAt_4 8 rfl rfl)
theorem dX1_stateAt_104 : decode cX1_stateAt 104 = .ok (.ireturn, 1) := dk_172 (dk_at dksX1_stateAt_4 10 rfl rfl)
abbrev cX1_wouldBe : ByteArray := prog_1_method_34_code
def yX1_wouldBe : MethodName := ⟨RX1, "wouldBe", "(IIII)I"⟩
def dkwX1_wouldBe_3 : List UInt8 := [183, 1, 91, 58, 5, 25, 5, 182, 1, 94, 172]
abbrev dktX1_wouldBe_3 : List UInt8 := dkwX1_wouldBe_3 ++ []
def dkwX1_wouldBe_2 : List UInt8 := [182, 0, 157, 16, 40, 160, 0, 5, 2, 172, 187, 1, 89, 89, 42, 42, 180, 0, 77, 27, 28, 29, 21, 4]
abbrev dktX1_wouldBe_2 : List UInt8 := dkwX1_wouldBe_2 ++ dktX1_wouldBe_3
def dkwX1_wouldBe_1 : List UInt8 := [20, 1, 87, 184, 0, 114, 153, 0, 7, 4, 167, 0, 4, 3, 184, 0, 118, 42, 180, 0, 77, 180, 0, 176]
abbrev dktX1_wouldBe_1 : List UInt8 := dkwX1_wouldBe_1 ++ dktX1_wouldBe_2
def dkwX1_wouldBe_0 : List UInt8 := [42, 27, 28, 29, 182, 1, 83, 42, 180, 0, 77, 28, 29, 182, 1, 48, 154, 0, 20, 21, 4, 133, 9]
abbrev dktX1_wouldBe_0 : List UInt8 := dkwX1_wouldBe_0 ++ dktX1_wouldBe_1
theorem dksX1_wouldBe_0 : cX1_wouldBe.data.toList.drop 0 = dktX1_wouldBe_0 := by decide +kernel
theorem dksX1_wouldBe_1 : cX1_wouldBe.data.toList.drop 23 = dktX1_wouldBe_1 := dk_seg dksX1_wouldBe_0 23 rfl rfl
theorem dksX1_wouldBe_2 : cX1_wouldBe.data.toList.drop 47 = dktX1_wouldBe_2 := dk_seg dksX1_wouldBe_1 24 rfl rfl
theorem dksX1_wouldBe_3 : cX1_wouldBe.data.toList.drop 71 = dktX1_wouldBe_3 := dk_seg dksX1_wouldBe_2 24 rfl rfl
theorem dX1_wouldBe_0 : decode cX1_wouldBe 0 = .ok (.aload_n 0, 1) := dk_42 (dk_at dksX1_wouldBe_0 0 rfl rfl)
theorem dX1_wouldBe_1 : decode cX1_wouldBe 1 = .ok (.iload_n 1, 1) := dk_27 (dk_at dksX1_wouldBe_0 1 rfl rfl)
theorem dX1_wouldBe_2 : decode cX1_wouldBe 2 = .ok (.iload_n 2, 1) := dk_28 (dk_at dksX1_wouldBe_0 2 rfl rfl)
theorem dX1_wouldBe_3 : decode cX1_wouldBe 3 = .ok (.iload_n 3, 1) := dk_29 (dk_at dksX1_wouldBe_0 3 rfl rfl)
theorem dX1_wouldBe_4 : decode cX1_wouldBe 4 = .ok (.invokevirtual 339, 3) := dk_182 1 83 (dk_at dksX1_wouldBe_0 4 rfl rfl)
theorem dX1_wouldBe_7 : decode cX1_wouldBe 7 = .ok (.aload_n 0, 1) := dk_42 (dk_at dksX1_wouldBe_0 7 rfl rfl)
theorem dX1_wouldBe_8 : decode cX1_wouldBe 8 = .ok (.getfield 77, 3) := dk_180 0 77 (dk_at dksX1_wouldBe_0 8 rfl rfl)
theorem dX1_wouldBe_11 : decode cX1_wouldBe 11 = .ok (.iload_n 2, 1) := dk_28 (dk_at dksX1_wouldBe_0 11 rfl rfl)
theorem dX1_wouldBe_12 : decode cX1_wouldBe 12 = .ok (.iload_n 3, 1) := dk_29 (dk_at dksX1_wouldBe_0 12 rfl rfl)
theorem dX1_wouldBe_13 : decode cX1_wouldBe 13 = .ok (.invokevirtual 304, 3) := dk_182 1 48 (dk_at dksX1_wouldBe_0 13 rfl rfl)
theorem dX1_wouldBe_16 : decode cX1_wouldBe 16 = .ok (.ifCond .ne 20, 3) := dk_154 0 20 (dk_at dksX1_wouldBe_0 16 rfl rfl)
theorem dX1_wouldBe_19 : decode cX1_wouldBe 19 = .ok (.iload 4, 2) := dk_21 4 (dk_at dksX1_wouldBe_0 19 rfl rfl)
theorem dX1_wouldBe_21 : decode cX1_wouldBe 21 = .ok (.i2l, 1) := dk_133 (dk_at dksX1_wouldBe_0 21 rfl rfl)
theorem dX1_wouldBe_22 : decode cX1_wouldBe 22 = .ok (.lconst 0, 1) := dk_9 (dk_at dksX1_wouldBe_0 22 rfl rfl)
theorem dX1_wouldBe_23 : decode cX1_wouldBe 23 = .ok (.ldc2_w 343, 3) := dk_20 1 87 (dk_at dksX1_wouldBe_1 0 rfl rfl)
theorem dX1_wouldBe_26 : decode cX1_wouldBe 26 = .ok (.invokestatic 114, 3) := dk_184 0 114 (dk_at dksX1_wouldBe_1 3 rfl rfl)
theorem dX1_wouldBe_29 : decode cX1_wouldBe 29 = .ok (.ifCond .eq 7, 3) := dk_153 0 7 (dk_at dksX1_wouldBe_1 6 rfl rfl)
theorem dX1_wouldBe_32 : decode cX1_wouldBe 32 = .ok (.iconst 1, 1) := dk_4 (dk_at dksX1_wouldBe_1 9 rfl rfl)
theorem dX1_wouldBe_33 : decode cX1_wouldBe 33 = .ok (.goto 4, 3) := dk_167 0 4 (dk_at dksX1_wouldBe_1 10 rfl rfl)
theorem dX1_wouldBe_36 : decode cX1_wouldBe 36 = .ok (.iconst 0, 1) := dk_3 (dk_at dksX1_wouldBe_1 13 rfl rfl)
theorem dX1_wouldBe_37 : decode cX1_wouldBe 37 = .ok (.invokestatic 118, 3) := dk_184 0 118 (dk_at dksX1_wouldBe_1 14 rfl rfl)
theorem dX1_wouldBe_40 : decode cX1_wouldBe 40 = .ok (.aload_n 0, 1) := dk_42 (dk_at dksX1_wouldBe_1 17 rfl rfl)
theorem dX1_wouldBe_41 : decode cX1_wouldBe 41 = .ok (.getfield 77, 3) := dk_180 0 77 (dk_at dksX1_wouldBe_1 18 rfl rfl)
theorem dX1_wouldBe_44 : decode cX1_wouldBe 44 = .ok (.getfield 176, 3) := dk_180 0 176 (dk_at dksX1_wouldBe_1 21 rfl rfl)
theorem dX1_wouldBe_47 : decode cX1_wouldBe 47 = .ok (.invokevirtual 157, 3) := dk_182 0 157 (dk_at dksX1_wouldBe_2 0 rfl rfl)
theorem dX1_wouldBe_50 : decode cX1_wouldBe 50 = .ok (.bipush 40, 2) := dk_16 40 (dk_at dksX1_wouldBe_2 3 rfl rfl)
theorem dX1_wouldBe_52 : decode cX1_wouldBe 52 = .ok (.if_icmp .ne 5, 3) := dk_160 0 5 (dk_at dksX1_wouldBe_2 5 rfl rfl)
theorem dX1_wouldBe_55 : decode cX1_wouldBe 55 = .ok (.iconst (-1), 1) := dk_2 (dk_at dksX1_wouldBe_2 8 rfl rfl)
theorem dX1_wouldBe_56 : decode cX1_wouldBe 56 = .ok (.ireturn, 1) := dk_172 (dk_at dksX1_wouldBe_2 9 rfl rfl)
theorem dX1_wouldBe_57 : decode cX1_wouldBe 57 = .ok (.new 345, 3) := dk_187 1 89 (dk_at dksX1_wouldBe_2 10 rfl rfl)
theorem dX1_wouldBe_60 : decode cX1_wouldBe 60 = .ok (.dup, 1) := dk_89 (dk_at dksX1_wouldBe_2 13 rfl rfl)
theorem dX1_wouldBe_61 : decode cX1_wouldBe 61 = .ok (.aload_n 0, 1) := dk_42 (dk_at dksX1_wouldBe_2 14 rfl rfl)
theorem dX1_wouldBe_62 : decode cX1_wouldBe 62 = .ok (.aload_n 0, 1) := dk_42 (dk_at dksX1_wouldBe_2 15 rfl rfl)
theorem dX1_wouldBe_63 : decode cX1_wouldBe 63 = .ok (.getfield 77, 3) := dk_180 0 77 (dk_at dksX1_wouldBe_2 16 rfl rfl)
theorem dX1_wouldBe_66 : decode cX1_wouldBe 66 = .ok (.iload_n 1, 1) := dk_27 (dk_at dksX1_wouldBe_2 19 rfl rfl)
theorem dX1_wouldBe_67 : decode cX1_wouldBe 67 = .ok (.iload_n 2, 1) := dk_28 (dk_at dksX1_wouldBe_2 20 rfl rfl)
theorem dX1_wouldBe_68 : decode cX1_wouldBe 68 = .ok (.iload_n 3, 1) := dk_29 (dk_at dksX1_wouldBe_2 21 rfl rfl)
theorem dX1_wouldBe_69 : decode cX1_wouldBe 69 = .ok (.iload 4, 2) := dk_21 4 (dk_at dksX1_wouldBe_2 22 rfl rfl)
theorem dX1_wouldBe_71 : decode cX1_wouldBe 71 = .ok (.invokespecial 347, 3) := dk_183 1 91 (dk_at dksX1_wouldBe_3 0 rfl rfl)
theorem dX1_wouldBe_74 : decode cX1_wouldBe 74 = .ok (.astore 5, 2) := dk_58 5 (dk_at dksX1_wouldBe_3 3 rfl rfl)
theorem dX1_wouldBe_76 : decode cX1_wouldBe 76 = .ok (.aload 5, 2) := dk_25 5 (dk_at dksX1_wouldBe_3 5 rfl rfl)
theorem dX1_wouldBe_78 : decode cX1_wouldBe 78 = .ok (.invokevirtual 350, 3) := dk_182 1 94 (dk_at dksX1_wouldBe_3 7 rfl rfl)
theorem dX1_wouldBe_81 : decode cX1_wouldBe 81 = .ok (.ireturn, 1) := dk_172 (dk_at dksX1_wouldBe_3 10 rfl rfl)
abbrev cX1_requireGoal : ByteArray := prog_1_method_33_code
def yX1_requireGoal : MethodName := ⟨RX1, "requireGoal", "(III)V"⟩
def dkwX1_requireGoal_0 : List UInt8 := [42, 27, 182, 0, 214, 58, 4, 42, 28, 29, 182, 1, 45, 177]
abbrev dktX1_requireGoal_0 : List UInt8 := dkwX1_requireGoal_0 ++ []
theorem dksX1_requireGoal_0 : cX1_requireGoal.data.toList.drop 0 = dktX1_requireGoal_0 := by decide +kernel
theorem dX1_requireGoal_0 : decode cX1_requireGoal 0 = .ok (.aload_n 0, 1) := dk_42 (dk_at dksX1_requireGoal_0 0 rfl rfl)
theorem dX1_requireGoal_1 : decode cX1_requireGoal 1 = .ok (.iload_n 1, 1) := dk_27 (dk_at dksX1_requireGoal_0 1 rfl rfl)
theorem dX1_requireGoal_2 : decode cX1_requireGoal 2 = .ok (.invokevirtual 214, 3) := dk_182 0 214 (dk_at dksX1_requireGoal_0 2 rfl rfl)
theorem dX1_requireGoal_5 : decode cX1_requireGoal 5 = .ok (.astore 4, 2) := dk_58 4 (dk_at dksX1_requireGoal_0 5 rfl rfl)
theorem dX1_requireGoal_7 : decode cX1_requireGoal 7 = .ok (.aload_n 0, 1) := dk_42 (dk_at dksX1_requireGoal_0 7 rfl rfl)
theorem dX1_requireGoal_8 : decode cX1_requireGoal 8 = .ok (.iload_n 2, 1) := dk_28 (dk_at dksX1_requireGoal_0 8 rfl rfl)
theorem dX1_requireGoal_9 : decode cX1_requireGoal 9 = .ok (.iload_n 3, 1) := dk_29 (dk_at dksX1_requireGoal_0 9 rfl rfl)
theorem dX1_requireGoal_10 : decode cX1_requireGoal 10 = .ok (.invokevirtual 301, 3) := dk_182 1 45 (dk_at dksX1_requireGoal_0 10 rfl rfl)
theorem dX1_requireGoal_13 : decode cX1_requireGoal 13 = .ok (.return_, 1) := dk_177 (dk_at dksX1_requireGoal_0 13 rfl rfl)
abbrev cX1_wouldArrive : ByteArray := prog_1_method_36_code
def yX1_wouldArrive : MethodName := ⟨RX1, "wouldArrive", "(III)I"⟩
def dkwX1_wouldArrive_1 : List UInt8 := [184, 0, 118, 42, 3, 27, 28, 29, 182, 1, 102, 172]
abbrev dktX1_wouldArrive_1 : List UInt8 := dkwX1_wouldArrive_1 ++ []
def dkwX1_wouldArrive_0 : List UInt8 := [42, 27, 28, 29, 182, 1, 83, 42, 180, 0, 77, 28, 29, 182, 1, 48, 154, 0, 7, 4, 167, 0, 4, 3]
abbrev dktX1_wouldArrive_0 : List UInt8 := dkwX1_wouldArrive_0 ++ dktX1_wouldArrive_1
theorem dksX1_wouldArrive_0 : cX1_wouldArrive.data.toList.drop 0 = dktX1_wouldArrive_0 := by decide +kernel
theorem dksX1_wouldArrive_1 : cX1_wouldArrive.data.toList.drop 24 = dktX1_wouldArrive_1 := dk_seg dksX1_wouldArrive_0 24 rfl rfl
theorem dX1_wouldArrive_0 : decode cX1_wouldArrive 0 = .ok (.aload_n 0, 1) := dk_42 (dk_at dksX1_wouldArrive_0 0 rfl rfl)
theorem dX1_wouldArrive_1 : decode cX1_wouldArrive 1 = .ok (.iload_n 1, 1) := dk_27 (dk_at dksX1_wouldArrive_0 1 rfl rfl)
theorem dX1_wouldArrive_2 : decode cX1_wouldArrive 2 = .ok (.iload_n 2, 1) := dk_28 (dk_at dksX1_wouldArrive_0 2 rfl rfl)
theorem dX1_wouldArrive_3 : decode cX1_wouldArrive 3 = .ok (.iload_n 3, 1) := dk_29 (dk_at dksX1_wouldArrive_0 3 rfl rfl)
theorem dX1_wouldArrive_4 : decode cX1_wouldArrive 4 = .ok (.invokevirtual 339, 3) := dk_182 1 83 (dk_at dksX1_wouldArrive_0 4 rfl rfl)
theorem dX1_wouldArrive_7 : decode cX1_wouldArrive 7 = .ok (.aload_n 0, 1) := dk_42 (dk_at dksX1_wouldArrive_0 7 rfl rfl)
theorem dX1_wouldArrive_8 : decode cX1_wouldArrive 8 = .ok (.getfield 77, 3) := dk_180 0 77 (dk_at dksX1_wouldArrive_0 8 rfl rfl)
theorem dX1_wouldArrive_11 : decode cX1_wouldArrive 11 = .ok (.iload_n 2, 1) := dk_28 (dk_at dksX1_wouldArrive_0 11 rfl rfl)
theorem dX1_wouldArrive_12 : decode cX1_wouldArrive 12 = .ok (.iload_n 3, 1) := dk_29 (dk_at dksX1_wouldArrive_0 12 rfl rfl)
theorem dX1_wouldArrive_13 : decode cX1_wouldArrive 13 = .ok (.invokevirtual 304, 3) := dk_182 1 48 (dk_at dksX1_wouldArrive_0 13 rfl rfl)
theorem dX1_wouldArrive_16 : decode cX1_wouldArrive 16 = .ok (.ifCond .ne 7, 3) := dk_154 0 7 (dk_at dksX1_wouldArrive_0 16 rfl rfl)
theorem dX1_wouldArrive_19 : decode cX1_wouldArrive 19 = .ok (.iconst 1, 1) := dk_4 (dk_at dksX1_wouldArrive_0 19 rfl rfl)
theorem dX1_wouldArrive_20 : decode cX1_wouldArrive 20 = .ok (.goto 4, 3) := dk_167 0 4 (dk_at dksX1_wouldArrive_0 20 rfl rfl)
theorem dX1_wouldArrive_23 : decode cX1_wouldArrive 23 = .ok (.iconst 0, 1) := dk_3 (dk_at dksX1_wouldArrive_0 23 rfl rfl)
theorem dX1_wouldArrive_24 : decode cX1_wouldArrive 24 = .ok (.invokestatic 118, 3) := dk_184 0 118 (dk_at dksX1_wouldArrive_1 0 rfl rfl)
theorem dX1_wouldArrive_27 : decode cX1_wouldArrive 27 = .ok (.aload_n 0, 1) := dk_42 (dk_at dksX1_wouldArrive_1 3 rfl rfl)
theorem dX1_wouldArrive_28 : decode cX1_wouldArrive 28 = .ok (.iconst 0, 1) := dk_3 (dk_at dksX1_wouldArrive_1 4 rfl rfl)
theorem dX1_wouldArrive_29 : decode cX1_wouldArrive 29 = .ok (.iload_n 1, 1) := dk_27 (dk_at dksX1_wouldArrive_1 5 rfl rfl)
theorem dX1_wouldArrive_30 : decode cX1_wouldArrive 30 = .ok (.iload_n 2, 1) := dk_28 (dk_at dksX1_wouldArrive_1 6 rfl rfl)
theorem dX1_wouldArrive_31 : decode cX1_wouldArrive 31 = .ok (.iload_n 3, 1) := dk_29 (dk_at dksX1_wouldArrive_1 7 rfl rfl)
theorem dX1_wouldArrive_32 : decode cX1_wouldArrive 32 = .ok (.invokevirtual 358, 3) := dk_182 1 102 (dk_at dksX1_wouldArrive_1 8 rfl rfl)
theorem dX1_wouldArrive_35 : decode cX1_wouldArrive 35 = .ok (.ireturn, 1) := dk_172 (dk_at dksX1_wouldArrive_1 11 rfl rfl)
abbrev cX1_arrivalBehind : ByteArray := prog_1_method_35_code
def yX1_arrivalBehind : MethodName := ⟨RX1, "arrivalBehind", "(IIII)I"⟩
def dkwX1_arrivalBehind_1 : List UInt8 := [172]
abbrev dktX1_arrivalBehind_1 : List UInt8 := dkwX1_arrivalBehind_1 ++ []
def dkwX1_arrivalBehind_0 : List UInt8 := [187, 1, 99, 89, 42, 42, 180, 0, 77, 27, 28, 29, 21, 4, 183, 1, 101, 58, 5, 25, 5, 182, 1, 94]
abbrev dktX1_arrivalBehind_0 : List UInt8 := dkwX1_arrivalBehind_0 ++ dktX1_arrivalBehind_1
theorem dksX1_arrivalBehind_0 : cX1_arrivalBehind.data.toList.drop 0 = dktX1_arrivalBehind_0 := by decide +kernel
theorem dksX1_arrivalBehind_1 : cX1_arrivalBehind.data.toList.drop 24 = dktX1_arrivalBehind_1 := dk_seg dksX1_arrivalBehind_0 24 rfl rfl
theorem dX1_arrivalBehind_0 : decode cX1_arrivalBehind 0 = .ok (.new 355, 3) := dk_187 1 99 (dk_at dksX1_arrivalBehind_0 0 rfl rfl)
theorem dX1_arrivalBehind_3 : decode cX1_arrivalBehind 3 = .ok (.dup, 1) := dk_89 (dk_at dksX1_arrivalBehind_0 3 rfl rfl)
theorem dX1_arrivalBehind_4 : decode cX1_arrivalBehind 4 = .ok (.aload_n 0, 1) := dk_42 (dk_at dksX1_arrivalBehind_0 4 rfl rfl)
theorem dX1_arrivalBehind_5 : decode cX1_arrivalBehind 5 = .ok (.aload_n 0, 1) := dk_42 (dk_at dksX1_arrivalBehind_0 5 rfl rfl)
theorem dX1_arrivalBehind_6 : decode cX1_arrivalBehind 6 = .ok (.getfield 77, 3) := dk_180 0 77 (dk_at dksX1_arrivalBehind_0 6 rfl rfl)
theorem dX1_arrivalBehind_9 : decode cX1_arrivalBehind 9 = .ok (.iload_n 1, 1) := dk_27 (dk_at dksX1_arrivalBehind_0 9 rfl rfl)
theorem dX1_arrivalBehind_10 : decode cX1_arrivalBehind 10 = .ok (.iload_n 2, 1) := dk_28 (dk_at dksX1_arrivalBehind_0 10 rfl rfl)
theorem dX1_arrivalBehind_11 : decode cX1_arrivalBehind 11 = .ok (.iload_n 3, 1) := dk_29 (dk_at dksX1_arrivalBehind_0 11 rfl rfl)
theorem dX1_arrivalBehind_12 : decode cX1_arrivalBehind 12 = .ok (.iload 4, 2) := dk_21 4 (dk_at dksX1_arrivalBehind_0 12 rfl rfl)
theorem dX1_arrivalBehind_14 : decode cX1_arrivalBehind 14 = .ok (.invokespecial 357, 3) := dk_183 1 101 (dk_at dksX1_arrivalBehind_0 14 rfl rfl)
theorem dX1_arrivalBehind_17 : decode cX1_arrivalBehind 17 = .ok (.astore 5, 2) := dk_58 5 (dk_at dksX1_arrivalBehind_0 17 rfl rfl)
theorem dX1_arrivalBehind_19 : decode cX1_arrivalBehind 19 = .ok (.aload 5, 2) := dk_25 5 (dk_at dksX1_arrivalBehind_0 19 rfl rfl)
theorem dX1_arrivalBehind_21 : decode cX1_arrivalBehind 21 = .ok (.invokevirtual 350, 3) := dk_182 1 94 (dk_at dksX1_arrivalBehind_0 21 rfl rfl)
theorem dX1_arrivalBehind_24 : decode cX1_arrivalBehind 24 = .ok (.ireturn, 1) := dk_172 (dk_at dksX1_arrivalBehind_1 0 rfl rfl)
abbrev cX1_bestDelay : ByteArray := prog_1_method_37_code
def yX1_bestDelay : MethodName := ⟨RX1, "bestDelay", "(III)I"⟩
def dkwX1_bestDelay_2 : List UInt8 := [159, 0, 6, 21, 4, 172, 132, 4, 1, 167, 255, 230, 2, 172]
abbrev dktX1_bestDelay_2 : List UInt8 := dkwX1_bestDelay_2 ++ []
def dkwX1_bestDelay_1 : List UInt8 := [184, 0, 118, 3, 54, 4, 21, 4, 16, 15, 163, 0, 25, 42, 21, 4, 27, 28, 29, 182, 1, 102, 2]
abbrev dktX1_bestDelay_1 : List UInt8 := dkwX1_bestDelay_1 ++ dktX1_bestDelay_2
def dkwX1_bestDelay_0 : List UInt8 := [42, 27, 28, 29, 182, 1, 83, 42, 180, 0, 77, 28, 29, 182, 1, 48, 154, 0, 7, 4, 167, 0, 4, 3]
abbrev dktX1_bestDelay_0 : List UInt8 := dkwX1_bestDelay_0 ++ dktX1_bestDelay_1
theorem dksX1_bestDelay_0 : cX1_bestDelay.data.toList.drop 0 = dktX1_bestDelay_0 := by decide +kernel
theorem dksX1_bestDelay_1 : cX1_bestDelay.data.toList.drop 24 = dktX1_bestDelay_1 := dk_seg dksX1_bestDelay_0 24 rfl rfl
theorem dksX1_bestDelay_2 : cX1_bestDelay.data.toList.drop 47 = dktX1_bestDelay_2 := dk_seg dksX1_bestDelay_1 23 rfl rfl
theorem dX1_bestDelay_0 : decode cX1_bestDelay 0 = .ok (.aload_n 0, 1) := dk_42 (dk_at dksX1_bestDelay_0 0 rfl rfl)
theorem dX1_bestDelay_1 : decode cX1_bestDelay 1 = .ok (.iload_n 1, 1) := dk_27 (dk_at dksX1_bestDelay_0 1 rfl rfl)
theorem dX1_bestDelay_2 : decode cX1_bestDelay 2 = .ok (.iload_n 2, 1) := dk_28 (dk_at dksX1_bestDelay_0 2 rfl rfl)
theorem dX1_bestDelay_3 : decode cX1_bestDelay 3 = .ok (.iload_n 3, 1) := dk_29 (dk_at dksX1_bestDelay_0 3 rfl rfl)
theorem dX1_bestDelay_4 : decode cX1_bestDelay 4 = .ok (.invokevirtual 339, 3) := dk_182 1 83 (dk_at dksX1_bestDelay_0 4 rfl rfl)
theorem dX1_bestDelay_7 : decode cX1_bestDelay 7 = .ok (.aload_n 0, 1) := dk_42 (dk_at dksX1_bestDelay_0 7 rfl rfl)
theorem dX1_bestDelay_8 : decode cX1_bestDelay 8 = .ok (.getfield 77, 3) := dk_180 0 77 (dk_at dksX1_bestDelay_0 8 rfl rfl)
theorem dX1_bestDelay_11 : decode cX1_bestDelay 11 = .ok (.iload_n 2, 1) := dk_28 (dk_at dksX1_bestDelay_0 11 rfl rfl)
theorem dX1_bestDelay_12 : decode cX1_bestDelay 12 = .ok (.iload_n 3, 1) := dk_29 (dk_at dksX1_bestDelay_0 12 rfl rfl)
theorem dX1_bestDelay_13 : decode cX1_bestDelay 13 = .ok (.invokevirtual 304, 3) := dk_182 1 48 (dk_at dksX1_bestDelay_0 13 rfl rfl)
theorem dX1_bestDelay_16 : decode cX1_bestDelay 16 = .ok (.ifCond .ne 7, 3) := dk_154 0 7 (dk_at dksX1_bestDelay_0 16 rfl rfl)
theorem dX1_bestDelay_19 : decode cX1_bestDelay 19 = .ok (.iconst 1, 1) := dk_4 (dk_at dksX1_bestDelay_0 19 rfl rfl)
theorem dX1_bestDelay_20 : decode cX1_bestDelay 20 = .ok (.goto 4, 3) := dk_167 0 4 (dk_at dksX1_bestDelay_0 20 rfl rfl)
theorem dX1_bestDelay_23 : decode cX1_bestDelay 23 = .ok (.iconst 0, 1) := dk_3 (dk_at dksX1_bestDelay_0 23 rfl rfl)
theorem dX1_bestDelay_24 : decode cX1_bestDelay 24 = .ok (.invokestatic 118, 3) := dk_184 0 118 (dk_at dksX1_bestDelay_1 0 rfl rfl)
theorem dX1_bestDelay_27 : decode cX1_bestDelay 27 = .ok (.iconst 0, 1) := dk_3 (dk_at dksX1_bestDelay_1 3 rfl rfl)
theorem dX1_bestDelay_28 : decode cX1_bestDelay 28 = .ok (.istore 4, 2) := dk_54 4 (dk_at dksX1_bestDelay_1 4 rfl rfl)
theorem dX1_bestDelay_30 : decode cX1_bestDelay 30 = .ok (.iload 4, 2) := dk_21 4 (dk_at dksX1_bestDelay_1 6 rfl rfl)
theorem dX1_bestDelay_32 : decode cX1_bestDelay 32 = .ok (.bipush 15, 2) := dk_16 15 (dk_at dksX1_bestDelay_1 8 rfl rfl)
theorem dX1_bestDelay_34 : decode cX1_bestDelay 34 = .ok (.if_icmp .gt 25, 3) := dk_163 0 25 (dk_at dksX1_bestDelay_1 10 rfl rfl)
theorem dX1_bestDelay_37 : decode cX1_bestDelay 37 = .ok (.aload_n 0, 1) := dk_42 (dk_at dksX1_bestDelay_1 13 rfl rfl)
theorem dX1_bestDelay_38 : decode cX1_bestDelay 38 = .ok (.iload 4, 2) := dk_21 4 (dk_at dksX1_bestDelay_1 14 rfl rfl)
theorem dX1_bestDelay_40 : decode cX1_bestDelay 40 = .ok (.iload_n 1, 1) := dk_27 (dk_at dksX1_bestDelay_1 16 rfl rfl)
theorem dX1_bestDelay_41 : decode cX1_bestDelay 41 = .ok (.iload_n 2, 1) := dk_28 (dk_at dksX1_bestDelay_1 17 rfl rfl)
theorem dX1_bestDelay_42 : decode cX1_bestDelay 42 = .ok (.iload_n 3, 1) := dk_29 (dk_at dksX1_bestDelay_1 18 rfl rfl)
theorem dX1_bestDelay_43 : decode cX1_bestDelay 43 = .ok (.invokevirtual 358, 3) := dk_182 1 102 (dk_at dksX1_bestDelay_1 19 rfl rfl)
theorem dX1_bestDelay_46 : decode cX1_bestDelay 46 = .ok (.iconst (-1), 1) := dk_2 (dk_at dksX1_bestDelay_1 22 rfl rfl)
theorem dX1_bestDelay_47 : decode cX1_bestDelay 47 = .ok (.if_icmp .eq 6, 3) := dk_159 0 6 (dk_at dksX1_bestDelay_2 0 rfl rfl)
theorem dX1_bestDelay_50 : decode cX1_bestDelay 50 = .ok (.iload 4, 2) := dk_21 4 (dk_at dksX1_bestDelay_2 3 rfl rfl)
theorem dX1_bestDelay_52 : decode cX1_bestDelay 52 = .ok (.ireturn, 1) := dk_172 (dk_at dksX1_bestDelay_2 5 rfl rfl)
theorem dX1_bestDelay_53 : decode cX1_bestDelay 53 = .ok (.iinc 4 1, 3) := dk_132 4 1 (dk_at dksX1_bestDelay_2 6 rfl rfl)
theorem dX1_bestDelay_56 : decode cX1_bestDelay 56 = .ok (.goto (-26), 3) := dk_167 255 230 (dk_at dksX1_bestDelay_2 9 rfl rfl)
theorem dX1_bestDelay_59 : decode cX1_bestDelay 59 = .ok (.iconst (-1), 1) := dk_2 (dk_at dksX1_bestDelay_2 12 rfl rfl)
theorem dX1_bestDelay_60 : decode cX1_bestDelay 60 = .ok (.ireturn, 1) := dk_172 (dk_at dksX1_bestDelay_2 13 rfl rfl)
abbrev cX1_failing : ByteArray := prog_1_method_38_code
def yX1_failing : MethodName := ⟨RX1, "failing", "(I)I"⟩
def dkwX1_failing_1 : List UInt8 := [183, 1, 107, 77, 44, 182, 1, 94, 172]
abbrev dktX1_failing_1 : List UInt8 := dkwX1_failing_1 ++ []
def dkwX1_failing_0 : List UInt8 := [27, 133, 9, 20, 1, 87, 184, 0, 114, 184, 0, 118, 187, 1, 105, 89, 42, 42, 180, 0, 77, 27]
abbrev dktX1_failing_0 : List UInt8 := dkwX1_failing_0 ++ dktX1_failing_1
theorem dksX1_failing_0 : cX1_failing.data.toList.drop 0 = dktX1_failing_0 := by decide +kernel
theorem dksX1_failing_1 : cX1_failing.data.toList.drop 22 = dktX1_failing_1 := dk_seg dksX1_failing_0 22 rfl rfl
theorem dX1_failing_0 : decode cX1_failing 0 = .ok (.iload_n 1, 1) := dk_27 (dk_at dksX1_failing_0 0 rfl rfl)
theorem dX1_failing_1 : decode cX1_failing 1 = .ok (.i2l, 1) := dk_133 (dk_at dksX1_failing_0 1 rfl rfl)
theorem dX1_failing_2 : decode cX1_failing 2 = .ok (.lconst 0, 1) := dk_9 (dk_at dksX1_failing_0 2 rfl rfl)
theorem dX1_failing_3 : decode cX1_failing 3 = .ok (.ldc2_w 343, 3) := dk_20 1 87 (dk_at dksX1_failing_0 3 rfl rfl)
theorem dX1_failing_6 : decode cX1_failing 6 = .ok (.invokestatic 114, 3) := dk_184 0 114 (dk_at dksX1_failing_0 6 rfl rfl)
theorem dX1_failing_9 : decode cX1_failing 9 = .ok (.invokestatic 118, 3) := dk_184 0 118 (dk_at dksX1_failing_0 9 rfl rfl)
theorem dX1_failing_12 : decode cX1_failing 12 = .ok (.new 361, 3) := dk_187 1 105 (dk_at dksX1_failing_0 12 rfl rfl)
theorem dX1_failing_15 : decode cX1_failing 15 = .ok (.dup, 1) := dk_89 (dk_at dksX1_failing_0 15 rfl rfl)
theorem dX1_failing_16 : decode cX1_failing 16 = .ok (.aload_n 0, 1) := dk_42 (dk_at dksX1_failing_0 16 rfl rfl)
theorem dX1_failing_17 : decode cX1_failing 17 = .ok (.aload_n 0, 1) := dk_42 (dk_at dksX1_failing_0 17 rfl rfl)
theorem dX1_failing_18 : decode cX1_failing 18 = .ok (.getfield 77, 3) := dk_180 0 77 (dk_at dksX1_failing_0 18 rfl rfl)
theorem dX1_failing_21 : decode cX1_failing 21 = .ok (.iload_n 1, 1) := dk_27 (dk_at dksX1_failing_0 21 rfl rfl)
theorem dX1_failing_22 : decode cX1_failing 22 = .ok (.invokespecial 363, 3) := dk_183 1 107 (dk_at dksX1_failing_1 0 rfl rfl)
theorem dX1_failing_25 : decode cX1_failing 25 = .ok (.astore_n 2, 1) := dk_77 (dk_at dksX1_failing_1 3 rfl rfl)
theorem dX1_failing_26 : decode cX1_failing 26 = .ok (.aload_n 2, 1) := dk_44 (dk_at dksX1_failing_1 4 rfl rfl)
theorem dX1_failing_27 : decode cX1_failing 27 = .ok (.invokevirtual 350, 3) := dk_182 1 94 (dk_at dksX1_failing_1 5 rfl rfl)
theorem dX1_failing_30 : decode cX1_failing 30 = .ok (.ireturn, 1) := dk_172 (dk_at dksX1_failing_1 8 rfl rfl)
abbrev cX1_pass : ByteArray := prog_1_method_42_code
def yX1_pass : MethodName := ⟨RX1, "pass", "(I)I"⟩
def dkwX1_pass_2 : List UInt8 := [182, 1, 132, 42, 180, 0, 77, 180, 0, 185, 182, 0, 157, 28, 100, 172]
abbrev dktX1_pass_2 : List UInt8 := dkwX1_pass_2 ++ []
def dkwX1_pass_1 : List UInt8 := [164, 0, 6, 16, 254, 172, 42, 180, 0, 77, 180, 0, 185, 182, 0, 157, 61, 42, 182, 1, 129, 27]
abbrev dktX1_pass_1 : List UInt8 := dkwX1_pass_1 ++ dktX1_pass_2
def dkwX1_pass_0 : List UInt8 := [27, 133, 10, 20, 1, 87, 184, 0, 114, 184, 0, 118, 42, 180, 0, 77, 180, 0, 179, 27, 96, 17, 1, 244]
abbrev dktX1_pass_0 : List UInt8 := dkwX1_pass_0 ++ dktX1_pass_1
theorem dksX1_pass_0 : cX1_pass.data.toList.drop 0 = dktX1_pass_0 := by decide +kernel
theorem dksX1_pass_1 : cX1_pass.data.toList.drop 24 = dktX1_pass_1 := dk_seg dksX1_pass_0 24 rfl rfl
theorem dksX1_pass_2 : cX1_pass.data.toList.drop 46 = dktX1_pass_2 := dk_seg dksX1_pass_1 22 rfl rfl
theorem dX1_pass_0 : decode cX1_pass 0 = .ok (.iload_n 1, 1) := dk_27 (dk_at dksX1_pass_0 0 rfl rfl)
theorem dX1_pass_1 : decode cX1_pass 1 = .ok (.i2l, 1) := dk_133 (dk_at dksX1_pass_0 1 rfl rfl)
theorem dX1_pass_2 : decode cX1_pass 2 = .ok (.lconst 1, 1) := dk_10 (dk_at dksX1_pass_0 2 rfl rfl)
theorem dX1_pass_3 : decode cX1_pass 3 = .ok (.ldc2_w 343, 3) := dk_20 1 87 (dk_at dksX1_pass_0 3 rfl rfl)
theorem dX1_pass_6 : decode cX1_pass 6 = .ok (.invokestatic 114, 3) := dk_184 0 114 (dk_at dksX1_pass_0 6 rfl rfl)
theorem dX1_pass_9 : decode cX1_pass 9 = .ok (.invokestatic 118, 3) := dk_184 0 118 (dk_at dksX1_pass_0 9 rfl rfl)
theorem dX1_pass_12 : decode cX1_pass 12 = .ok (.aload_n 0, 1) := dk_42 (dk_at dksX1_pass_0 12 rfl rfl)
theorem dX1_pass_13 : decode cX1_pass 13 = .ok (.getfield 77, 3) := dk_180 0 77 (dk_at dksX1_pass_0 13 rfl rfl)
theorem dX1_pass_16 : decode cX1_pass 16 = .ok (.getfield 179, 3) := dk_180 0 179 (dk_at dksX1_pass_0 16 rfl rfl)
theorem dX1_pass_19 : decode cX1_pass 19 = .ok (.iload_n 1, 1) := dk_27 (dk_at dksX1_pass_0 19 rfl rfl)
theorem dX1_pass_20 : decode cX1_pass 20 = .ok (.iadd, 1) := dk_96 (dk_at dksX1_pass_0 20 rfl rfl)
theorem dX1_pass_21 : decode cX1_pass 21 = .ok (.sipush 500, 3) := dk_17 1 244 (dk_at dksX1_pass_0 21 rfl rfl)
theorem dX1_pass_24 : decode cX1_pass 24 = .ok (.if_icmp .le 6, 3) := dk_164 0 6 (dk_at dksX1_pass_1 0 rfl rfl)
theorem dX1_pass_27 : decode cX1_pass 27 = .ok (.bipush (-2), 2) := dk_16 254 (dk_at dksX1_pass_1 3 rfl rfl)
theorem dX1_pass_29 : decode cX1_pass 29 = .ok (.ireturn, 1) := dk_172 (dk_at dksX1_pass_1 5 rfl rfl)
theorem dX1_pass_30 : decode cX1_pass 30 = .ok (.aload_n 0, 1) := dk_42 (dk_at dksX1_pass_1 6 rfl rfl)
theorem dX1_pass_31 : decode cX1_pass 31 = .ok (.getfield 77, 3) := dk_180 0 77 (dk_at dksX1_pass_1 7 rfl rfl)
theorem dX1_pass_34 : decode cX1_pass 34 = .ok (.getfield 185, 3) := dk_180 0 185 (dk_at dksX1_pass_1 10 rfl rfl)
theorem dX1_pass_37 : decode cX1_pass 37 = .ok (.invokevirtual 157, 3) := dk_182 0 157 (dk_at dksX1_pass_1 13 rfl rfl)
theorem dX1_pass_40 : decode cX1_pass 40 = .ok (.istore_n 2, 1) := dk_61 (dk_at dksX1_pass_1 16 rfl rfl)
theorem dX1_pass_41 : decode cX1_pass 41 = .ok (.aload_n 0, 1) := dk_42 (dk_at dksX1_pass_1 17 rfl rfl)
theorem dX1_pass_42 : decode cX1_pass 42 = .ok (.invokevirtual 385, 3) := dk_182 1 129 (dk_at dksX1_pass_1 18 rfl rfl)
theorem dX1_pass_45 : decode cX1_pass 45 = .ok (.iload_n 1, 1) := dk_27 (dk_at dksX1_pass_1 21 rfl rfl)
theorem dX1_pass_46 : decode cX1_pass 46 = .ok (.invokevirtual 388, 3) := dk_182 1 132 (dk_at dksX1_pass_2 0 rfl rfl)
theorem dX1_pass_49 : decode cX1_pass 49 = .ok (.aload_n 0, 1) := dk_42 (dk_at dksX1_pass_2 3 rfl rfl)
theorem dX1_pass_50 : decode cX1_pass 50 = .ok (.getfield 77, 3) := dk_180 0 77 (dk_at dksX1_pass_2 4 rfl rfl)
theorem dX1_pass_53 : decode cX1_pass 53 = .ok (.getfield 185, 3) := dk_180 0 185 (dk_at dksX1_pass_2 7 rfl rfl)
theorem dX1_pass_56 : decode cX1_pass 56 = .ok (.invokevirtual 157, 3) := dk_182 0 157 (dk_at dksX1_pass_2 10 rfl rfl)
theorem dX1_pass_59 : decode cX1_pass 59 = .ok (.iload_n 2, 1) := dk_28 (dk_at dksX1_pass_2 13 rfl rfl)
theorem dX1_pass_60 : decode cX1_pass 60 = .ok (.isub, 1) := dk_100 (dk_at dksX1_pass_2 14 rfl rfl)
theorem dX1_pass_61 : decode cX1_pass 61 = .ok (.ireturn, 1) := dk_172 (dk_at dksX1_pass_2 15 rfl rfl)
abbrev cX1_record : ByteArray := prog_1_method_41_code
def yX1_record : MethodName := ⟨RX1, "record", "()LMessengerBoard$State;"⟩
def dkwX1_record_1 : List UInt8 := [42, 180, 0, 77, 182, 1, 122, 42, 42, 180, 0, 77, 182, 1, 126, 181, 0, 77, 42, 180, 0, 77, 176]
abbrev dktX1_record_1 : List UInt8 := dkwX1_record_1 ++ []
def dkwX1_record_0 : List UInt8 := [42, 180, 0, 84, 182, 1, 117, 16, 10, 160, 0, 11, 42, 180, 0, 84, 182, 1, 118, 87, 42, 180, 0, 84]
abbrev dktX1_record_0 : List UInt8 := dkwX1_record_0 ++ dktX1_record_1
theorem dksX1_record_0 : cX1_record.data.toList.drop 0 = dktX1_record_0 := by decide +kernel
theorem dksX1_record_1 : cX1_record.data.toList.drop 24 = dktX1_record_1 := dk_seg dksX1_record_0 24 rfl rfl
theorem dX1_record_0 : decode cX1_record 0 = .ok (.aload_n 0, 1) := dk_42 (dk_at dksX1_record_0 0 rfl rfl)
theorem dX1_record_1 : decode cX1_record 1 = .ok (.getfield 84, 3) := dk_180 0 84 (dk_at dksX1_record_0 1 rfl rfl)
theorem dX1_record_4 : decode cX1_record 4 = .ok (.invokevirtual 373, 3) := dk_182 1 117 (dk_at dksX1_record_0 4 rfl rfl)
theorem dX1_record_7 : decode cX1_record 7 = .ok (.bipush 10, 2) := dk_16 10 (dk_at dksX1_record_0 7 rfl rfl)
theorem dX1_record_9 : decode cX1_record 9 = .ok (.if_icmp .ne 11, 3) := dk_160 0 11 (dk_at dksX1_record_0 9 rfl rfl)
theorem dX1_record_12 : decode cX1_record 12 = .ok (.aload_n 0, 1) := dk_42 (dk_at dksX1_record_0 12 rfl rfl)
theorem dX1_record_13 : decode cX1_record 13 = .ok (.getfield 84, 3) := dk_180 0 84 (dk_at dksX1_record_0 13 rfl rfl)
theorem dX1_record_16 : decode cX1_record 16 = .ok (.invokevirtual 374, 3) := dk_182 1 118 (dk_at dksX1_record_0 16 rfl rfl)
theorem dX1_record_19 : decode cX1_record 19 = .ok (.pop, 1) := dk_87 (dk_at dksX1_record_0 19 rfl rfl)
theorem dX1_record_20 : decode cX1_record 20 = .ok (.aload_n 0, 1) := dk_42 (dk_at dksX1_record_0 20 rfl rfl)
theorem dX1_record_21 : decode cX1_record 21 = .ok (.getfield 84, 3) := dk_180 0 84 (dk_at dksX1_record_0 21 rfl rfl)
theorem dX1_record_24 : decode cX1_record 24 = .ok (.aload_n 0, 1) := dk_42 (dk_at dksX1_record_1 0 rfl rfl)
theorem dX1_record_25 : decode cX1_record 25 = .ok (.getfield 77, 3) := dk_180 0 77 (dk_at dksX1_record_1 1 rfl rfl)
theorem dX1_record_28 : decode cX1_record 28 = .ok (.invokevirtual 378, 3) := dk_182 1 122 (dk_at dksX1_record_1 4 rfl rfl)
theorem dX1_record_31 : decode cX1_record 31 = .ok (.aload_n 0, 1) := dk_42 (dk_at dksX1_record_1 7 rfl rfl)
theorem dX1_record_32 : decode cX1_record 32 = .ok (.aload_n 0, 1) := dk_42 (dk_at dksX1_record_1 8 rfl rfl)
theorem dX1_record_33 : decode cX1_record 33 = .ok (.getfield 77, 3) := dk_180 0 77 (dk_at dksX1_record_1 9 rfl rfl)
theorem dX1_record_36 : decode cX1_record 36 = .ok (.invokevirtual 382, 3) := dk_182 1 126 (dk_at dksX1_record_1 12 rfl rfl)
theorem dX1_record_39 : decode cX1_record 39 = .ok (.putfield 77, 3) := dk_181 0 77 (dk_at dksX1_record_1 15 rfl rfl)
theorem dX1_record_42 : decode cX1_record 42 = .ok (.aload_n 0, 1) := dk_42 (dk_at dksX1_record_1 18 rfl rfl)
theorem dX1_record_43 : decode cX1_record 43 = .ok (.getfield 77, 3) := dk_180 0 77 (dk_at dksX1_record_1 19 rfl rfl)
theorem dX1_record_46 : decode cX1_record 46 = .ok (.areturn, 1) := dk_176 (dk_at dksX1_record_1 22 rfl rfl)
abbrev cX1_send : ByteArray := prog_1_method_43_code
def yX1_send : MethodName := ⟨RX1, "send", "(III)I"⟩
def dkwX1_send_2 : List UInt8 := [182, 1, 129, 27, 28, 29, 182, 1, 135, 172]
abbrev dktX1_send_2 : List UInt8 := dkwX1_send_2 ++ []
def dkwX1_send_1 : List UInt8 := [184, 0, 118, 42, 180, 0, 77, 180, 0, 176, 182, 0, 157, 16, 40, 160, 0, 8, 16, 253, 167, 0, 13, 42]
abbrev dktX1_send_1 : List UInt8 := dkwX1_send_1 ++ dktX1_send_2
def dkwX1_send_0 : List UInt8 := [42, 27, 28, 29, 182, 1, 83, 42, 180, 0, 77, 28, 29, 182, 1, 48, 154, 0, 7, 4, 167, 0, 4, 3]
abbrev dktX1_send_0 : List UInt8 := dkwX1_send_0 ++ dktX1_send_1
theorem dksX1_send_0 : cX1_send.data.toList.drop 0 = dktX1_send_0 := by decide +kernel
theorem dksX1_send_1 : cX1_send.data.toList.drop 24 = dktX1_send_1 := dk_seg dksX1_send_0 24 rfl rfl
theorem dksX1_send_2 : cX1_send.data.toList.drop 48 = dktX1_send_2 := dk_seg dksX1_send_1 24 rfl rfl
theorem dX1_send_0 : decode cX1_send 0 = .ok (.aload_n 0, 1) := dk_42 (dk_at dksX1_send_0 0 rfl rfl)
theorem dX1_send_1 : decode cX1_send 1 = .ok (.iload_n 1, 1) := dk_27 (dk_at dksX1_send_0 1 rfl rfl)
theorem dX1_send_2 : decode cX1_send 2 = .ok (.iload_n 2, 1) := dk_28 (dk_at dksX1_send_0 2 rfl rfl)
theorem dX1_send_3 : decode cX1_send 3 = .ok (.iload_n 3, 1) := dk_29 (dk_at dksX1_send_0 3 rfl rfl)
theorem dX1_send_4 : decode cX1_send 4 = .ok (.invokevirtual 339, 3) := dk_182 1 83 (dk_at dksX1_send_0 4 rfl rfl)
theorem dX1_send_7 : decode cX1_send 7 = .ok (.aload_n 0, 1) := dk_42 (dk_at dksX1_send_0 7 rfl rfl)
theorem dX1_send_8 : decode cX1_send 8 = .ok (.getfield 77, 3) := dk_180 0 77 (dk_at dksX1_send_0 8 rfl rfl)
theorem dX1_send_11 : decode cX1_send 11 = .ok (.iload_n 2, 1) := dk_28 (dk_at dksX1_send_0 11 rfl rfl)
theorem dX1_send_12 : decode cX1_send 12 = .ok (.iload_n 3, 1) := dk_29 (dk_at dksX1_send_0 12 rfl rfl)
theorem dX1_send_13 : decode cX1_send 13 = .ok (.invokevirtual 304, 3) := dk_182 1 48 (dk_at dksX1_send_0 13 rfl rfl)
theorem dX1_send_16 : decode cX1_send 16 = .ok (.ifCond .ne 7, 3) := dk_154 0 7 (dk_at dksX1_send_0 16 rfl rfl)
theorem dX1_send_19 : decode cX1_send 19 = .ok (.iconst 1, 1) := dk_4 (dk_at dksX1_send_0 19 rfl rfl)
theorem dX1_send_20 : decode cX1_send 20 = .ok (.goto 4, 3) := dk_167 0 4 (dk_at dksX1_send_0 20 rfl rfl)
theorem dX1_send_23 : decode cX1_send 23 = .ok (.iconst 0, 1) := dk_3 (dk_at dksX1_send_0 23 rfl rfl)
theorem dX1_send_24 : decode cX1_send 24 = .ok (.invokestatic 118, 3) := dk_184 0 118 (dk_at dksX1_send_1 0 rfl rfl)
theorem dX1_send_27 : decode cX1_send 27 = .ok (.aload_n 0, 1) := dk_42 (dk_at dksX1_send_1 3 rfl rfl)
theorem dX1_send_28 : decode cX1_send 28 = .ok (.getfield 77, 3) := dk_180 0 77 (dk_at dksX1_send_1 4 rfl rfl)
theorem dX1_send_31 : decode cX1_send 31 = .ok (.getfield 176, 3) := dk_180 0 176 (dk_at dksX1_send_1 7 rfl rfl)
theorem dX1_send_34 : decode cX1_send 34 = .ok (.invokevirtual 157, 3) := dk_182 0 157 (dk_at dksX1_send_1 10 rfl rfl)
theorem dX1_send_37 : decode cX1_send 37 = .ok (.bipush 40, 2) := dk_16 40 (dk_at dksX1_send_1 13 rfl rfl)
theorem dX1_send_39 : decode cX1_send 39 = .ok (.if_icmp .ne 8, 3) := dk_160 0 8 (dk_at dksX1_send_1 15 rfl rfl)
theorem dX1_send_42 : decode cX1_send 42 = .ok (.bipush (-3), 2) := dk_16 253 (dk_at dksX1_send_1 18 rfl rfl)
theorem dX1_send_44 : decode cX1_send 44 = .ok (.goto 13, 3) := dk_167 0 13 (dk_at dksX1_send_1 20 rfl rfl)
theorem dX1_send_47 : decode cX1_send 47 = .ok (.aload_n 0, 1) := dk_42 (dk_at dksX1_send_1 23 rfl rfl)
theorem dX1_send_48 : decode cX1_send 48 = .ok (.invokevirtual 385, 3) := dk_182 1 129 (dk_at dksX1_send_2 0 rfl rfl)
theorem dX1_send_51 : decode cX1_send 51 = .ok (.iload_n 1, 1) := dk_27 (dk_at dksX1_send_2 3 rfl rfl)
theorem dX1_send_52 : decode cX1_send 52 = .ok (.iload_n 2, 1) := dk_28 (dk_at dksX1_send_2 4 rfl rfl)
theorem dX1_send_53 : decode cX1_send 53 = .ok (.iload_n 3, 1) := dk_29 (dk_at dksX1_send_2 5 rfl rfl)
theorem dX1_send_54 : decode cX1_send 54 = .ok (.invokevirtual 391, 3) := dk_182 1 135 (dk_at dksX1_send_2 6 rfl rfl)
theorem dX1_send_57 : decode cX1_send 57 = .ok (.ireturn, 1) := dk_172 (dk_at dksX1_send_2 9 rfl rfl)
abbrev cX1_wall : ByteArray := prog_1_method_44_code
def yX1_wall : MethodName := ⟨RX1, "wall", "(II)I"⟩
def dkwX1_wall_4 : List UInt8 := [96, 51, 154, 0, 7, 4, 167, 0, 4, 3, 84, 45, 182, 0, 182, 172]
abbrev dktX1_wall_4 : List UInt8 := dkwX1_wall_4 ++ []
def dkwX1_wall_3 : List UInt8 := [42, 182, 1, 129, 78, 45, 180, 1, 147, 16, 12, 28, 104, 27, 96, 45, 180, 1, 147, 16, 12, 28, 104, 27]
abbrev dktX1_wall_3 : List UInt8 := dkwX1_wall_3 ++ dktX1_wall_4
def dkwX1_wall_2 : List UInt8 := [182, 1, 141, 153, 0, 6, 16, 254, 172, 42, 180, 0, 77, 27, 28, 182, 1, 144, 153, 0, 6, 16, 253, 172]
abbrev dktX1_wall_2 : List UInt8 := dkwX1_wall_2 ++ dktX1_wall_3
def dkwX1_wall_1 : List UInt8 := [28, 159, 0, 28, 42, 180, 0, 77, 27, 28, 182, 1, 138, 2, 160, 0, 15, 42, 180, 0, 77, 27, 28]
abbrev dktX1_wall_1 : List UInt8 := dkwX1_wall_1 ++ dktX1_wall_2
def dkwX1_wall_0 : List UInt8 := [42, 27, 28, 182, 1, 45, 42, 180, 0, 77, 180, 0, 194, 27, 160, 0, 14, 42, 180, 0, 77, 180, 0, 197]
abbrev dktX1_wall_0 : List UInt8 := dkwX1_wall_0 ++ dktX1_wall_1
theorem dksX1_wall_0 : cX1_wall.data.toList.drop 0 = dktX1_wall_0 := by decide +kernel
theorem dksX1_wall_1 : cX1_wall.data.toList.drop 24 = dktX1_wall_1 := dk_seg dksX1_wall_0 24 rfl rfl
theorem dksX1_wall_2 : cX1_wall.data.toList.drop 47 = dktX1_wall_2 := dk_seg dksX1_wall_1 23 rfl rfl
theorem dksX1_wall_3 : cX1_wall.data.toList.drop 71 = dktX1_wall_3 := dk_seg dksX1_wall_2 24 rfl rfl
theorem dksX1_wall_4 : cX1_wall.data.toList.drop 95 = dktX1_wall_4 := dk_seg dksX1_wall_3 24 rfl rfl
theorem dX1_wall_0 : decode cX1_wall 0 = .ok (.aload_n 0, 1) := dk_42 (dk_at dksX1_wall_0 0 rfl rfl)
theorem dX1_wall_1 : decode cX1_wall 1 = .ok (.iload_n 1, 1) := dk_27 (dk_at dksX1_wall_0 1 rfl rfl)
theorem dX1_wall_2 : decode cX1_wall 2 = .ok (.iload_n 2, 1) := dk_28 (dk_at dksX1_wall_0 2 rfl rfl)
theorem dX1_wall_3 : decode cX1_wall 3 = .ok (.invokevirtual 301, 3) := dk_182 1 45 (dk_at dksX1_wall_0 3 rfl rfl)
theorem dX1_wall_6 : decode cX1_wall 6 = .ok (.aload_n 0, 1) := dk_42 (dk_at dksX1_wall_0 6 rfl rfl)
theorem dX1_wall_7 : decode cX1_wall 7 = .ok (.getfield 77, 3) := dk_180 0 77 (dk_at dksX1_wall_0 7 rfl rfl)
theorem dX1_wall_10 : decode cX1_wall 10 = .ok (.getfield 194, 3) := dk_180 0 194 (dk_at dksX1_wall_0 10 rfl rfl)
theorem dX1_wall_13 : decode cX1_wall 13 = .ok (.iload_n 1, 1) := dk_27 (dk_at dksX1_wall_0 13 rfl rfl)
theorem dX1_wall_14 : decode cX1_wall 14 = .ok (.if_icmp .ne 14, 3) := dk_160 0 14 (dk_at dksX1_wall_0 14 rfl rfl)
theorem dX1_wall_17 : decode cX1_wall 17 = .ok (.aload_n 0, 1) := dk_42 (dk_at dksX1_wall_0 17 rfl rfl)
theorem dX1_wall_18 : decode cX1_wall 18 = .ok (.getfield 77, 3) := dk_180 0 77 (dk_at dksX1_wall_0 18 rfl rfl)
theorem dX1_wall_21 : decode cX1_wall 21 = .ok (.getfield 197, 3) := dk_180 0 197 (dk_at dksX1_wall_0 21 rfl rfl)
theorem dX1_wall_24 : decode cX1_wall 24 = .ok (.iload_n 2, 1) := dk_28 (dk_at dksX1_wall_1 0 rfl rfl)
theorem dX1_wall_25 : decode cX1_wall 25 = .ok (.if_icmp .eq 28, 3) := dk_159 0 28 (dk_at dksX1_wall_1 1 rfl rfl)
theorem dX1_wall_28 : decode cX1_wall 28 = .ok (.aload_n 0, 1) := dk_42 (dk_at dksX1_wall_1 4 rfl rfl)
theorem dX1_wall_29 : decode cX1_wall 29 = .ok (.getfield 77, 3) := dk_180 0 77 (dk_at dksX1_wall_1 5 rfl rfl)
theorem dX1_wall_32 : decode cX1_wall 32 = .ok (.iload_n 1, 1) := dk_27 (dk_at dksX1_wall_1 8 rfl rfl)
theorem dX1_wall_33 : decode cX1_wall 33 = .ok (.iload_n 2, 1) := dk_28 (dk_at dksX1_wall_1 9 rfl rfl)
theorem dX1_wall_34 : decode cX1_wall 34 = .ok (.invokevirtual 394, 3) := dk_182 1 138 (dk_at dksX1_wall_1 10 rfl rfl)
theorem dX1_wall_37 : decode cX1_wall 37 = .ok (.iconst (-1), 1) := dk_2 (dk_at dksX1_wall_1 13 rfl rfl)
theorem dX1_wall_38 : decode cX1_wall 38 = .ok (.if_icmp .ne 15, 3) := dk_160 0 15 (dk_at dksX1_wall_1 14 rfl rfl)
theorem dX1_wall_41 : decode cX1_wall 41 = .ok (.aload_n 0, 1) := dk_42 (dk_at dksX1_wall_1 17 rfl rfl)
theorem dX1_wall_42 : decode cX1_wall 42 = .ok (.getfield 77, 3) := dk_180 0 77 (dk_at dksX1_wall_1 18 rfl rfl)
theorem dX1_wall_45 : decode cX1_wall 45 = .ok (.iload_n 1, 1) := dk_27 (dk_at dksX1_wall_1 21 rfl rfl)
theorem dX1_wall_46 : decode cX1_wall 46 = .ok (.iload_n 2, 1) := dk_28 (dk_at dksX1_wall_1 22 rfl rfl)
theorem dX1_wall_47 : decode cX1_wall 47 = .ok (.invokevirtual 397, 3) := dk_182 1 141 (dk_at dksX1_wall_2 0 rfl rfl)
theorem dX1_wall_50 : decode cX1_wall 50 = .ok (.ifCond .eq 6, 3) := dk_153 0 6 (dk_at dksX1_wall_2 3 rfl rfl)
theorem dX1_wall_53 : decode cX1_wall 53 = .ok (.bipush (-2), 2) := dk_16 254 (dk_at dksX1_wall_2 6 rfl rfl)
theorem dX1_wall_55 : decode cX1_wall 55 = .ok (.ireturn, 1) := dk_172 (dk_at dksX1_wall_2 8 rfl rfl)
theorem dX1_wall_56 : decode cX1_wall 56 = .ok (.aload_n 0, 1) := dk_42 (dk_at dksX1_wall_2 9 rfl rfl)
theorem dX1_wall_57 : decode cX1_wall 57 = .ok (.getfield 77, 3) := dk_180 0 77 (dk_at dksX1_wall_2 10 rfl rfl)
theorem dX1_wall_60 : decode cX1_wall 60 = .ok (.iload_n 1, 1) := dk_27 (dk_at dksX1_wall_2 13 rfl rfl)
theorem dX1_wall_61 : decode cX1_wall 61 = .ok (.iload_n 2, 1) := dk_28 (dk_at dksX1_wall_2 14 rfl rfl)
theorem dX1_wall_62 : decode cX1_wall 62 = .ok (.invokevirtual 400, 3) := dk_182 1 144 (dk_at dksX1_wall_2 15 rfl rfl)
theorem dX1_wall_65 : decode cX1_wall 65 = .ok (.ifCond .eq 6, 3) := dk_153 0 6 (dk_at dksX1_wall_2 18 rfl rfl)
theorem dX1_wall_68 : decode cX1_wall 68 = .ok (.bipush (-3), 2) := dk_16 253 (dk_at dksX1_wall_2 21 rfl rfl)
theorem dX1_wall_70 : decode cX1_wall 70 = .ok (.ireturn, 1) := dk_172 (dk_at dksX1_wall_2 23 rfl rfl)
theorem dX1_wall_71 : decode cX1_wall 71 = .ok (.aload_n 0, 1) := dk_42 (dk_at dksX1_wall_3 0 rfl rfl)
theorem dX1_wall_72 : decode cX1_wall 72 = .ok (.invokevirtual 385, 3) := dk_182 1 129 (dk_at dksX1_wall_3 1 rfl rfl)
theorem dX1_wall_75 : decode cX1_wall 75 = .ok (.astore_n 3, 1) := dk_78 (dk_at dksX1_wall_3 4 rfl rfl)
theorem dX1_wall_76 : decode cX1_wall 76 = .ok (.aload_n 3, 1) := dk_45 (dk_at dksX1_wall_3 5 rfl rfl)
theorem dX1_wall_77 : decode cX1_wall 77 = .ok (.getfield 403, 3) := dk_180 1 147 (dk_at dksX1_wall_3 6 rfl rfl)
theorem dX1_wall_80 : decode cX1_wall 80 = .ok (.bipush 12, 2) := dk_16 12 (dk_at dksX1_wall_3 9 rfl rfl)
theorem dX1_wall_82 : decode cX1_wall 82 = .ok (.iload_n 2, 1) := dk_28 (dk_at dksX1_wall_3 11 rfl rfl)
theorem dX1_wall_83 : decode cX1_wall 83 = .ok (.imul, 1) := dk_104 (dk_at dksX1_wall_3 12 rfl rfl)
theorem dX1_wall_84 : decode cX1_wall 84 = .ok (.iload_n 1, 1) := dk_27 (dk_at dksX1_wall_3 13 rfl rfl)
theorem dX1_wall_85 : decode cX1_wall 85 = .ok (.iadd, 1) := dk_96 (dk_at dksX1_wall_3 14 rfl rfl)
theorem dX1_wall_86 : decode cX1_wall 86 = .ok (.aload_n 3, 1) := dk_45 (dk_at dksX1_wall_3 15 rfl rfl)
theorem dX1_wall_87 : decode cX1_wall 87 = .ok (.getfield 403, 3) := dk_180 1 147 (dk_at dksX1_wall_3 16 rfl rfl)
theorem dX1_wall_90 : decode cX1_wall 90 = .ok (.bipush 12, 2) := dk_16 12 (dk_at dksX1_wall_3 19 rfl rfl)
theorem dX1_wall_92 : decode cX1_wall 92 = .ok (.iload_n 2, 1) := dk_28 (dk_at dksX1_wall_3 21 rfl rfl)
theorem dX1_wall_93 : decode cX1_wall 93 = .ok (.imul, 1) := dk_104 (dk_at dksX1_wall_3 22 rfl rfl)
theorem dX1_wall_94 : decode cX1_wall 94 = .ok (.iload_n 1, 1) := dk_27 (dk_at dksX1_wall_3 23 rfl rfl)
theorem dX1_wall_95 : decode cX1_wall 95 = .ok (.iadd, 1) := dk_96 (dk_at dksX1_wall_4 0 rfl rfl)
theorem dX1_wall_96 : decode cX1_wall 96 = .ok (.baload, 1) := dk_51 (dk_at dksX1_wall_4 1 rfl rfl)
theorem dX1_wall_97 : decode cX1_wall 97 = .ok (.ifCond .ne 7, 3) := dk_154 0 7 (dk_at dksX1_wall_4 2 rfl rfl)
theorem dX1_wall_100 : decode cX1_wall 100 = .ok (.iconst 1, 1) := dk_4 (dk_at dksX1_wall_4 5 rfl rfl)
theorem dX1_wall_101 : decode cX1_wall 101 = .ok (.goto 4, 3) := dk_167 0 4 (dk_at dksX1_wall_4 6 rfl rfl)
theorem dX1_wall_104 : decode cX1_wall 104 = .ok (.iconst 0, 1) := dk_3 (dk_at dksX1_wall_4 9 rfl rfl)
theorem dX1_wall_105 : decode cX1_wall 105 = .ok (.bastore, 1) := dk_84 (dk_at dksX1_wall_4 10 rfl rfl)
theorem dX1_wall_106 : decode cX1_wall 106 = .ok (.aload_n 3, 1) := dk_45 (dk_at dksX1_wall_4 11 rfl rfl)
theorem dX1_wall_107 : decode cX1_wall 107 = .ok (.invokevirtual 182, 3) := dk_182 0 182 (dk_at dksX1_wall_4 12 rfl rfl)
theorem dX1_wall_110 : decode cX1_wall 110 = .ok (.ireturn, 1) := dk_172 (dk_at dksX1_wall_4 15 rfl rfl)
abbrev cX1_movePicket : ByteArray := prog_1_method_45_code
def yX1_movePicket : MethodName := ⟨RX1, "movePicket", "(III)I"⟩
def dkwX1_movePicket_2 : List UInt8 := [180, 0, 77, 180, 0, 179, 182, 1, 151, 184, 1, 4, 172]
abbrev dktX1_movePicket_2 : List UInt8 := dkwX1_movePicket_2 ++ []
def dkwX1_movePicket_1 : List UInt8 := [192, 0, 206, 58, 5, 25, 5, 28, 181, 0, 242, 25, 5, 29, 181, 0, 243, 25, 5, 28, 29, 42]
abbrev dktX1_movePicket_1 : List UInt8 := dkwX1_movePicket_1 ++ dktX1_movePicket_2
def dkwX1_movePicket_0 : List UInt8 := [42, 27, 182, 0, 236, 58, 4, 42, 28, 29, 182, 1, 45, 42, 182, 1, 129, 180, 0, 173, 27, 182, 0, 200]
abbrev dktX1_movePicket_0 : List UInt8 := dkwX1_movePicket_0 ++ dktX1_movePicket_1
theorem dksX1_movePicket_0 : cX1_movePicket.data.toList.drop 0 = dktX1_movePicket_0 := by decide +kernel
theorem dksX1_movePicket_1 : cX1_movePicket.data.toList.drop 24 = dktX1_movePicket_1 := dk_seg dksX1_movePicket_0 24 rfl rfl
theorem dksX1_movePicket_2 : cX1_movePicket.data.toList.drop 46 = dktX1_movePicket_2 := dk_seg dksX1_movePicket_1 22 rfl rfl
theorem dX1_movePicket_0 : decode cX1_movePicket 0 = .ok (.aload_n 0, 1) := dk_42 (dk_at dksX1_movePicket_0 0 rfl rfl)
theorem dX1_movePicket_1 : decode cX1_movePicket 1 = .ok (.iload_n 1, 1) := dk_27 (dk_at dksX1_movePicket_0 1 rfl rfl)
theorem dX1_movePicket_2 : decode cX1_movePicket 2 = .ok (.invokevirtual 236, 3) := dk_182 0 236 (dk_at dksX1_movePicket_0 2 rfl rfl)
theorem dX1_movePicket_5 : decode cX1_movePicket 5 = .ok (.astore 4, 2) := dk_58 4 (dk_at dksX1_movePicket_0 5 rfl rfl)
theorem dX1_movePicket_7 : decode cX1_movePicket 7 = .ok (.aload_n 0, 1) := dk_42 (dk_at dksX1_movePicket_0 7 rfl rfl)
theorem dX1_movePicket_8 : decode cX1_movePicket 8 = .ok (.iload_n 2, 1) := dk_28 (dk_at dksX1_movePicket_0 8 rfl rfl)
theorem dX1_movePicket_9 : decode cX1_movePicket 9 = .ok (.iload_n 3, 1) := dk_29 (dk_at dksX1_movePicket_0 9 rfl rfl)
theorem dX1_movePicket_10 : decode cX1_movePicket 10 = .ok (.invokevirtual 301, 3) := dk_182 1 45 (dk_at dksX1_movePicket_0 10 rfl rfl)
theorem dX1_movePicket_13 : decode cX1_movePicket 13 = .ok (.aload_n 0, 1) := dk_42 (dk_at dksX1_movePicket_0 13 rfl rfl)
theorem dX1_movePicket_14 : decode cX1_movePicket 14 = .ok (.invokevirtual 385, 3) := dk_182 1 129 (dk_at dksX1_movePicket_0 14 rfl rfl)
theorem dX1_movePicket_17 : decode cX1_movePicket 17 = .ok (.getfield 173, 3) := dk_180 0 173 (dk_at dksX1_movePicket_0 17 rfl rfl)
theorem dX1_movePicket_20 : decode cX1_movePicket 20 = .ok (.iload_n 1, 1) := dk_27 (dk_at dksX1_movePicket_0 20 rfl rfl)
theorem dX1_movePicket_21 : decode cX1_movePicket 21 = .ok (.invokevirtual 200, 3) := dk_182 0 200 (dk_at dksX1_movePicket_0 21 rfl rfl)
theorem dX1_movePicket_24 : decode cX1_movePicket 24 = .ok (.checkcast 206, 3) := dk_192 0 206 (dk_at dksX1_movePicket_1 0 rfl rfl)
theorem dX1_movePicket_27 : decode cX1_movePicket 27 = .ok (.astore 5, 2) := dk_58 5 (dk_at dksX1_movePicket_1 3 rfl rfl)
theorem dX1_movePicket_29 : decode cX1_movePicket 29 = .ok (.aload 5, 2) := dk_25 5 (dk_at dksX1_movePicket_1 5 rfl rfl)
theorem dX1_movePicket_31 : decode cX1_movePicket 31 = .ok (.iload_n 2, 1) := dk_28 (dk_at dksX1_movePicket_1 7 rfl rfl)
theorem dX1_movePicket_32 : decode cX1_movePicket 32 = .ok (.putfield 242, 3) := dk_181 0 242 (dk_at dksX1_movePicket_1 8 rfl rfl)
theorem dX1_movePicket_35 : decode cX1_movePicket 35 = .ok (.aload 5, 2) := dk_25 5 (dk_at dksX1_movePicket_1 11 rfl rfl)
theorem dX1_movePicket_37 : decode cX1_movePicket 37 = .ok (.iload_n 3, 1) := dk_29 (dk_at dksX1_movePicket_1 13 rfl rfl)
theorem dX1_movePicket_38 : decode cX1_movePicket 38 = .ok (.putfield 243, 3) := dk_181 0 243 (dk_at dksX1_movePicket_1 14 rfl rfl)
theorem dX1_movePicket_41 : decode cX1_movePicket 41 = .ok (.aload 5, 2) := dk_25 5 (dk_at dksX1_movePicket_1 17 rfl rfl)
theorem dX1_movePicket_43 : decode cX1_movePicket 43 = .ok (.iload_n 2, 1) := dk_28 (dk_at dksX1_movePicket_1 19 rfl rfl)
theorem dX1_movePicket_44 : decode cX1_movePicket 44 = .ok (.iload_n 3, 1) := dk_29 (dk_at dksX1_movePicket_1 20 rfl rfl)
theorem dX1_movePicket_45 : decode cX1_movePicket 45 = .ok (.aload_n 0, 1) := dk_42 (dk_at dksX1_movePicket_1 21 rfl rfl)
theorem dX1_movePicket_46 : decode cX1_movePicket 46 = .ok (.getfield 77, 3) := dk_180 0 77 (dk_at dksX1_movePicket_2 0 rfl rfl)
theorem dX1_movePicket_49 : decode cX1_movePicket 49 = .ok (.getfield 179, 3) := dk_180 0 179 (dk_at dksX1_movePicket_2 3 rfl rfl)
theorem dX1_movePicket_52 : decode cX1_movePicket 52 = .ok (.invokevirtual 407, 3) := dk_182 1 151 (dk_at dksX1_movePicket_2 6 rfl rfl)
theorem dX1_movePicket_55 : decode cX1_movePicket 55 = .ok (.invokestatic 260, 3) := dk_184 1 4 (dk_at dksX1_movePicket_2 9 rfl rfl)
theorem dX1_movePicket_58 : decode cX1_movePicket 58 = .ok (.ireturn, 1) := dk_172 (dk_at dksX1_movePicket_2 12 rfl rfl)
abbrev cX1_movePlan : ByteArray := prog_1_method_46_code
def yX1_movePlan : MethodName := ⟨RX1, "movePlan", "(II)I"⟩
def dkwX1_movePlan_2 : List UInt8 := [58, 4, 25, 4, 180, 0, 188, 27, 45, 28, 182, 1, 157, 182, 1, 160, 87, 45, 180, 1, 31, 172]
abbrev dktX1_movePlan_2 : List UInt8 := dkwX1_movePlan_2 ++ []
def dkwX1_movePlan_1 : List UInt8 := [184, 0, 118, 45, 180, 1, 31, 42, 180, 0, 77, 180, 0, 179, 162, 0, 6, 16, 254, 172, 42, 182, 1, 129]
abbrev dktX1_movePlan_1 : List UInt8 := dkwX1_movePlan_1 ++ dktX1_movePlan_2
def dkwX1_movePlan_0 : List UInt8 := [42, 27, 182, 1, 22, 78, 28, 133, 42, 180, 0, 77, 180, 0, 179, 133, 20, 1, 155, 184, 0, 114]
abbrev dktX1_movePlan_0 : List UInt8 := dkwX1_movePlan_0 ++ dktX1_movePlan_1
theorem dksX1_movePlan_0 : cX1_movePlan.data.toList.drop 0 = dktX1_movePlan_0 := by decide +kernel
theorem dksX1_movePlan_1 : cX1_movePlan.data.toList.drop 22 = dktX1_movePlan_1 := dk_seg dksX1_movePlan_0 22 rfl rfl
theorem dksX1_movePlan_2 : cX1_movePlan.data.toList.drop 46 = dktX1_movePlan_2 := dk_seg dksX1_movePlan_1 24 rfl rfl
theorem dX1_movePlan_0 : decode cX1_movePlan 0 = .ok (.aload_n 0, 1) := dk_42 (dk_at dksX1_movePlan_0 0 rfl rfl)
theorem dX1_movePlan_1 : decode cX1_movePlan 1 = .ok (.iload_n 1, 1) := dk_27 (dk_at dksX1_movePlan_0 1 rfl rfl)
theorem dX1_movePlan_2 : decode cX1_movePlan 2 = .ok (.invokevirtual 278, 3) := dk_182 1 22 (dk_at dksX1_movePlan_0 2 rfl rfl)
theorem dX1_movePlan_5 : decode cX1_movePlan 5 = .ok (.astore_n 3, 1) := dk_78 (dk_at dksX1_movePlan_0 5 rfl rfl)
theorem dX1_movePlan_6 : decode cX1_movePlan 6 = .ok (.iload_n 2, 1) := dk_28 (dk_at dksX1_movePlan_0 6 rfl rfl)
theorem dX1_movePlan_7 : decode cX1_movePlan 7 = .ok (.i2l, 1) := dk_133 (dk_at dksX1_movePlan_0 7 rfl rfl)
theorem dX1_movePlan_8 : decode cX1_movePlan 8 = .ok (.aload_n 0, 1) := dk_42 (dk_at dksX1_movePlan_0 8 rfl rfl)
theorem dX1_movePlan_9 : decode cX1_movePlan 9 = .ok (.getfield 77, 3) := dk_180 0 77 (dk_at dksX1_movePlan_0 9 rfl rfl)
theorem dX1_movePlan_12 : decode cX1_movePlan 12 = .ok (.getfield 179, 3) := dk_180 0 179 (dk_at dksX1_movePlan_0 12 rfl rfl)
theorem dX1_movePlan_15 : decode cX1_movePlan 15 = .ok (.i2l, 1) := dk_133 (dk_at dksX1_movePlan_0 15 rfl rfl)
theorem dX1_movePlan_16 : decode cX1_movePlan 16 = .ok (.ldc2_w 411, 3) := dk_20 1 155 (dk_at dksX1_movePlan_0 16 rfl rfl)
theorem dX1_movePlan_19 : decode cX1_movePlan 19 = .ok (.invokestatic 114, 3) := dk_184 0 114 (dk_at dksX1_movePlan_0 19 rfl rfl)
theorem dX1_movePlan_22 : decode cX1_movePlan 22 = .ok (.invokestatic 118, 3) := dk_184 0 118 (dk_at dksX1_movePlan_1 0 rfl rfl)
theorem dX1_movePlan_25 : decode cX1_movePlan 25 = .ok (.aload_n 3, 1) := dk_45 (dk_at dksX1_movePlan_1 3 rfl rfl)
theorem dX1_movePlan_26 : decode cX1_movePlan 26 = .ok (.getfield 287, 3) := dk_180 1 31 (dk_at dksX1_movePlan_1 4 rfl rfl)
theorem dX1_movePlan_29 : decode cX1_movePlan 29 = .ok (.aload_n 0, 1) := dk_42 (dk_at dksX1_movePlan_1 7 rfl rfl)
theorem dX1_movePlan_30 : decode cX1_movePlan 30 = .ok (.getfield 77, 3) := dk_180 0 77 (dk_at dksX1_movePlan_1 8 rfl rfl)
theorem dX1_movePlan_33 : decode cX1_movePlan 33 = .ok (.getfield 179, 3) := dk_180 0 179 (dk_at dksX1_movePlan_1 11 rfl rfl)
theorem dX1_movePlan_36 : decode cX1_movePlan 36 = .ok (.if_icmp .ge 6, 3) := dk_162 0 6 (dk_at dksX1_movePlan_1 14 rfl rfl)
theorem dX1_movePlan_39 : decode cX1_movePlan 39 = .ok (.bipush (-2), 2) := dk_16 254 (dk_at dksX1_movePlan_1 17 rfl rfl)
theorem dX1_movePlan_41 : decode cX1_movePlan 41 = .ok (.ireturn, 1) := dk_172 (dk_at dksX1_movePlan_1 19 rfl rfl)
theorem dX1_movePlan_42 : decode cX1_movePlan 42 = .ok (.aload_n 0, 1) := dk_42 (dk_at dksX1_movePlan_1 20 rfl rfl)
theorem dX1_movePlan_43 : decode cX1_movePlan 43 = .ok (.invokevirtual 385, 3) := dk_182 1 129 (dk_at dksX1_movePlan_1 21 rfl rfl)
theorem dX1_movePlan_46 : decode cX1_movePlan 46 = .ok (.astore 4, 2) := dk_58 4 (dk_at dksX1_movePlan_2 0 rfl rfl)
theorem dX1_movePlan_48 : decode cX1_movePlan 48 = .ok (.aload 4, 2) := dk_25 4 (dk_at dksX1_movePlan_2 2 rfl rfl)
theorem dX1_movePlan_50 : decode cX1_movePlan 50 = .ok (.getfield 188, 3) := dk_180 0 188 (dk_at dksX1_movePlan_2 4 rfl rfl)
theorem dX1_movePlan_53 : decode cX1_movePlan 53 = .ok (.iload_n 1, 1) := dk_27 (dk_at dksX1_movePlan_2 7 rfl rfl)
theorem dX1_movePlan_54 : decode cX1_movePlan 54 = .ok (.aload_n 3, 1) := dk_45 (dk_at dksX1_movePlan_2 8 rfl rfl)
theorem dX1_movePlan_55 : decode cX1_movePlan 55 = .ok (.iload_n 2, 1) := dk_28 (dk_at dksX1_movePlan_2 9 rfl rfl)
theorem dX1_movePlan_56 : decode cX1_movePlan 56 = .ok (.invokevirtual 413, 3) := dk_182 1 157 (dk_at dksX1_movePlan_2 10 rfl rfl)
theorem dX1_movePlan_59 : decode cX1_movePlan 59 = .ok (.invokevirtual 416, 3) := dk_182 1 160 (dk_at dksX1_movePlan_2 13 rfl rfl)
theorem dX1_movePlan_62 : decode cX1_movePlan 62 = .ok (.pop, 1) := dk_87 (dk_at dksX1_movePlan_2 16 rfl rfl)
theorem dX1_movePlan_63 : decode cX1_movePlan 63 = .ok (.aload_n 3, 1) := dk_45 (dk_at dksX1_movePlan_2 17 rfl rfl)
theorem dX1_movePlan_64 : decode cX1_movePlan 64 = .ok (.getfield 287, 3) := dk_180 1 31 (dk_at dksX1_movePlan_2 18 rfl rfl)
theorem dX1_movePlan_67 : decode cX1_movePlan 67 = .ok (.ireturn, 1) := dk_172 (dk_at dksX1_movePlan_2 21 rfl rfl)
abbrev cX1_setPatience : ByteArray := prog_1_method_47_code
def yX1_setPatience : MethodName := ⟨RX1, "setPatience", "(I)I"⟩
def dkwX1_setPatience_1 : List UInt8 := [27, 181, 0, 191, 28, 172]
abbrev dktX1_setPatience_1 : List UInt8 := dkwX1_setPatience_1 ++ []
def dkwX1_setPatience_0 : List UInt8 := [27, 133, 10, 20, 1, 164, 184, 0, 114, 184, 0, 118, 42, 180, 0, 77, 180, 0, 191, 61, 42, 182, 1, 129]
abbrev dktX1_setPatience_0 : List UInt8 := dkwX1_setPatience_0 ++ dktX1_setPatience_1
theorem dksX1_setPatience_0 : cX1_setPatience.data.toList.drop 0 = dktX1_setPatience_0 := by decide +kernel
theorem dksX1_setPatience_1 : cX1_setPatience.data.toList.drop 24 = dktX1_setPatience_1 := dk_seg dksX1_setPatience_0 24 rfl rfl
theorem dX1_setPatience_0 : decode cX1_setPatience 0 = .ok (.iload_n 1, 1) := dk_27 (dk_at dksX1_setPatience_0 0 rfl rfl)
theorem dX1_setPatience_1 : decode cX1_setPatience 1 = .ok (.i2l, 1) := dk_133 (dk_at dksX1_setPatience_0 1 rfl rfl)
theorem dX1_setPatience_2 : decode cX1_setPatience 2 = .ok (.lconst 1, 1) := dk_10 (dk_at dksX1_setPatience_0 2 rfl rfl)
theorem dX1_setPatience_3 : decode cX1_setPatience 3 = .ok (.ldc2_w 420, 3) := dk_20 1 164 (dk_at dksX1_setPatience_0 3 rfl rfl)
theorem dX1_setPatience_6 : decode cX1_setPatience 6 = .ok (.invokestatic 114, 3) := dk_184 0 114 (dk_at dksX1_setPatience_0 6 rfl rfl)
theorem dX1_setPatience_9 : decode cX1_setPatience 9 = .ok (.invokestatic 118, 3) := dk_184 0 118 (dk_at dksX1_setPatience_0 9 rfl rfl)
theorem dX1_setPatience_12 : decode cX1_setPatience 12 = .ok (.aload_n 0, 1) := dk_42 (dk_at dksX1_setPatience_0 12 rfl rfl)
theorem dX1_setPatience_13 : decode cX1_setPatience 13 = .ok (.getfield 77, 3) := dk_180 0 77 (dk_at dksX1_setPatience_0 13 rfl rfl)
theorem dX1_setPatience_16 : decode cX1_setPatience 16 = .ok (.getfield 191, 3) := dk_180 0 191 (dk_at dksX1_setPatience_0 16 rfl rfl)
theorem dX1_setPatience_19 : decode cX1_setPatience 19 = .ok (.istore_n 2, 1) := dk_61 (dk_at dksX1_setPatience_0 19 rfl rfl)
theorem dX1_setPatience_20 : decode cX1_setPatience 20 = .ok (.aload_n 0, 1) := dk_42 (dk_at dksX1_setPatience_0 20 rfl rfl)
theorem dX1_setPatience_21 : decode cX1_setPatience 21 = .ok (.invokevirtual 385, 3) := dk_182 1 129 (dk_at dksX1_setPatience_0 21 rfl rfl)
theorem dX1_setPatience_24 : decode cX1_setPatience 24 = .ok (.iload_n 1, 1) := dk_27 (dk_at dksX1_setPatience_1 0 rfl rfl)
theorem dX1_setPatience_25 : decode cX1_setPatience 25 = .ok (.putfield 191, 3) := dk_181 0 191 (dk_at dksX1_setPatience_1 1 rfl rfl)
theorem dX1_setPatience_28 : decode cX1_setPatience 28 = .ok (.iload_n 2, 1) := dk_28 (dk_at dksX1_setPatience_1 4 rfl rfl)
theorem dX1_setPatience_29 : decode cX1_setPatience 29 = .ok (.ireturn, 1) := dk_172 (dk_at dksX1_setPatience_1 5 rfl rfl)
abbrev cX1_format : ByteArray := prog_1_method_53_code
def yX1_format : MethodName := ⟨RX1, "format", "(I)I"⟩
def dkwX1_format_3 : List UInt8 := [182, 1, 184, 172]
abbrev dktX1_format_3 : List UInt8 := dkwX1_format_3 ++ []
def dkwX1_format_2 : List UInt8 := [182, 1, 177, 87, 132, 3, 1, 167, 255, 231, 42, 44, 182, 1, 180, 181, 0, 97, 42, 180, 0, 97]
abbrev dktX1_format_2 : List UInt8 := dkwX1_format_2 ++ dktX1_format_3
def dkwX1_format_1 : List UInt8 := [183, 1, 172, 77, 3, 62, 29, 42, 180, 0, 77, 180, 0, 167, 162, 0, 20, 44, 42, 29, 27, 182, 1, 173]
abbrev dktX1_format_1 : List UInt8 := dkwX1_format_1 ++ dktX1_format_2
def dkwX1_format_0 : List UInt8 := [27, 133, 9, 42, 180, 0, 77, 180, 0, 170, 4, 100, 133, 184, 0, 114, 184, 0, 164, 187, 1, 170, 89]
abbrev dktX1_format_0 : List UInt8 := dkwX1_format_0 ++ dktX1_format_1
theorem dksX1_format_0 : cX1_format.data.toList.drop 0 = dktX1_format_0 := by decide +kernel
theorem dksX1_format_1 : cX1_format.data.toList.drop 23 = dktX1_format_1 := dk_seg dksX1_format_0 23 rfl rfl
theorem dksX1_format_2 : cX1_format.data.toList.drop 47 = dktX1_format_2 := dk_seg dksX1_format_1 24 rfl rfl
theorem dksX1_format_3 : cX1_format.data.toList.drop 69 = dktX1_format_3 := dk_seg dksX1_format_2 22 rfl rfl
theorem dX1_format_0 : decode cX1_format 0 = .ok (.iload_n 1, 1) := dk_27 (dk_at dksX1_format_0 0 rfl rfl)
theorem dX1_format_1 : decode cX1_format 1 = .ok (.i2l, 1) := dk_133 (dk_at dksX1_format_0 1 rfl rfl)
theorem dX1_format_2 : decode cX1_format 2 = .ok (.lconst 0, 1) := dk_9 (dk_at dksX1_format_0 2 rfl rfl)
theorem dX1_format_3 : decode cX1_format 3 = .ok (.aload_n 0, 1) := dk_42 (dk_at dksX1_format_0 3 rfl rfl)
theorem dX1_format_4 : decode cX1_format 4 = .ok (.getfield 77, 3) := dk_180 0 77 (dk_at dksX1_format_0 4 rfl rfl)
theorem dX1_format_7 : decode cX1_format 7 = .ok (.getfield 170, 3) := dk_180 0 170 (dk_at dksX1_format_0 7 rfl rfl)
theorem dX1_format_10 : decode cX1_format 10 = .ok (.iconst 1, 1) := dk_4 (dk_at dksX1_format_0 10 rfl rfl)
theorem dX1_format_11 : decode cX1_format 11 = .ok (.isub, 1) := dk_100 (dk_at dksX1_format_0 11 rfl rfl)
theorem dX1_format_12 : decode cX1_format 12 = .ok (.i2l, 1) := dk_133 (dk_at dksX1_format_0 12 rfl rfl)
theorem dX1_format_13 : decode cX1_format 13 = .ok (.invokestatic 114, 3) := dk_184 0 114 (dk_at dksX1_format_0 13 rfl rfl)
theorem dX1_format_16 : decode cX1_format 16 = .ok (.invokestatic 164, 3) := dk_184 0 164 (dk_at dksX1_format_0 16 rfl rfl)
theorem dX1_format_19 : decode cX1_format 19 = .ok (.new 426, 3) := dk_187 1 170 (dk_at dksX1_format_0 19 rfl rfl)
theorem dX1_format_22 : decode cX1_format 22 = .ok (.dup, 1) := dk_89 (dk_at dksX1_format_0 22 rfl rfl)
theorem dX1_format_23 : decode cX1_format 23 = .ok (.invokespecial 428, 3) := dk_183 1 172 (dk_at dksX1_format_1 0 rfl rfl)
theorem dX1_format_26 : decode cX1_format 26 = .ok (.astore_n 2, 1) := dk_77 (dk_at dksX1_format_1 3 rfl rfl)
theorem dX1_format_27 : decode cX1_format 27 = .ok (.iconst 0, 1) := dk_3 (dk_at dksX1_format_1 4 rfl rfl)
theorem dX1_format_28 : decode cX1_format 28 = .ok (.istore_n 3, 1) := dk_62 (dk_at dksX1_format_1 5 rfl rfl)
theorem dX1_format_29 : decode cX1_format 29 = .ok (.iload_n 3, 1) := dk_29 (dk_at dksX1_format_1 6 rfl rfl)
theorem dX1_format_30 : decode cX1_format 30 = .ok (.aload_n 0, 1) := dk_42 (dk_at dksX1_format_1 7 rfl rfl)
theorem dX1_format_31 : decode cX1_format 31 = .ok (.getfield 77, 3) := dk_180 0 77 (dk_at dksX1_format_1 8 rfl rfl)
theorem dX1_format_34 : decode cX1_format 34 = .ok (.getfield 167, 3) := dk_180 0 167 (dk_at dksX1_format_1 11 rfl rfl)
theorem dX1_format_37 : decode cX1_format 37 = .ok (.if_icmp .ge 20, 3) := dk_162 0 20 (dk_at dksX1_format_1 14 rfl rfl)
theorem dX1_format_40 : decode cX1_format 40 = .ok (.aload_n 2, 1) := dk_44 (dk_at dksX1_format_1 17 rfl rfl)
theorem dX1_format_41 : decode cX1_format 41 = .ok (.aload_n 0, 1) := dk_42 (dk_at dksX1_format_1 18 rfl rfl)
theorem dX1_format_42 : decode cX1_format 42 = .ok (.iload_n 3, 1) := dk_29 (dk_at dksX1_format_1 19 rfl rfl)
theorem dX1_format_43 : decode cX1_format 43 = .ok (.iload_n 1, 1) := dk_27 (dk_at dksX1_format_1 20 rfl rfl)
theorem dX1_format_44 : decode cX1_format 44 = .ok (.invokevirtual 429, 3) := dk_182 1 173 (dk_at dksX1_format_1 21 rfl rfl)
theorem dX1_format_47 : decode cX1_format 47 = .ok (.invokevirtual 433, 3) := dk_182 1 177 (dk_at dksX1_format_2 0 rfl rfl)
theorem dX1_format_50 : decode cX1_format 50 = .ok (.pop, 1) := dk_87 (dk_at dksX1_format_2 3 rfl rfl)
theorem dX1_format_51 : decode cX1_format 51 = .ok (.iinc 3 1, 3) := dk_132 3 1 (dk_at dksX1_format_2 4 rfl rfl)
theorem dX1_format_54 : decode cX1_format 54 = .ok (.goto (-25), 3) := dk_167 255 231 (dk_at dksX1_format_2 7 rfl rfl)
theorem dX1_format_57 : decode cX1_format 57 = .ok (.aload_n 0, 1) := dk_42 (dk_at dksX1_format_2 10 rfl rfl)
theorem dX1_format_58 : decode cX1_format 58 = .ok (.aload_n 2, 1) := dk_44 (dk_at dksX1_format_2 11 rfl rfl)
theorem dX1_format_59 : decode cX1_format 59 = .ok (.invokevirtual 436, 3) := dk_182 1 180 (dk_at dksX1_format_2 12 rfl rfl)
theorem dX1_format_62 : decode cX1_format 62 = .ok (.putfield 97, 3) := dk_181 0 97 (dk_at dksX1_format_2 15 rfl rfl)
theorem dX1_format_65 : decode cX1_format 65 = .ok (.aload_n 0, 1) := dk_42 (dk_at dksX1_format_2 18 rfl rfl)
theorem dX1_format_66 : decode cX1_format 66 = .ok (.getfield 97, 3) := dk_180 0 97 (dk_at dksX1_format_2 19 rfl rfl)
theorem dX1_format_69 : decode cX1_format 69 = .ok (.invokevirtual 440, 3) := dk_182 1 184 (dk_at dksX1_format_3 0 rfl rfl)
theorem dX1_format_72 : decode cX1_format 72 = .ok (.ireturn, 1) := dk_172 (dk_at dksX1_format_3 3 rfl rfl)
abbrev cX1_signOf : ByteArray := prog_1_method_52_code
def yX1_signOf : MethodName := ⟨RX1, "signOf", "(II)C"⟩
def dkwX1_signOf_4 : List UInt8 := [182, 1, 48, 153, 0, 8, 16, 35, 167, 0, 5, 16, 46, 172]
abbrev dktX1_signOf_4 : List UInt8 := dkwX1_signOf_4 ++ []
def dkwX1_signOf_3 : List UInt8 := [180, 0, 77, 180, 0, 179, 182, 1, 51, 2, 159, 0, 6, 16, 33, 172, 42, 180, 0, 77, 27, 28]
abbrev dktX1_signOf_3 : List UInt8 := dkwX1_signOf_3 ++ dktX1_signOf_4
def dkwX1_signOf_2 : List UInt8 := [160, 0, 17, 42, 180, 0, 77, 180, 0, 197, 28, 160, 0, 6, 16, 104, 172, 42, 180, 0, 77, 27, 28, 42]
abbrev dktX1_signOf_2 : List UInt8 := dkwX1_signOf_2 ++ dktX1_signOf_3
def dkwX1_signOf_1 : List UInt8 := [180, 0, 77, 27, 28, 182, 1, 141, 153, 0, 6, 16, 109, 172, 42, 180, 0, 77, 180, 0, 194, 27]
abbrev dktX1_signOf_1 : List UInt8 := dkwX1_signOf_1 ++ dktX1_signOf_2
def dkwX1_signOf_0 : List UInt8 := [42, 180, 0, 77, 27, 28, 182, 1, 138, 62, 29, 2, 159, 0, 9, 16, 48, 29, 96, 146, 172, 42]
abbrev dktX1_signOf_0 : List UInt8 := dkwX1_signOf_0 ++ dktX1_signOf_1
theorem dksX1_signOf_0 : cX1_signOf.data.toList.drop 0 = dktX1_signOf_0 := by decide +kernel
theorem dksX1_signOf_1 : cX1_signOf.data.toList.drop 22 = dktX1_signOf_1 := dk_seg dksX1_signOf_0 22 rfl rfl
theorem dksX1_signOf_2 : cX1_signOf.data.toList.drop 44 = dktX1_signOf_2 := dk_seg dksX1_signOf_1 22 rfl rfl
theorem dksX1_signOf_3 : cX1_signOf.data.toList.drop 68 = dktX1_signOf_3 := dk_seg dksX1_signOf_2 24 rfl rfl
theorem dksX1_signOf_4 : cX1_signOf.data.toList.drop 90 = dktX1_signOf_4 := dk_seg dksX1_signOf_3 22 rfl rfl
theorem dX1_signOf_0 : decode cX1_signOf 0 = .ok (.aload_n 0, 1) := dk_42 (dk_at dksX1_signOf_0 0 rfl rfl)
theorem dX1_signOf_1 : decode cX1_signOf 1 = .ok (.getfield 77, 3) := dk_180 0 77 (dk_at dksX1_signOf_0 1 rfl rfl)
theorem dX1_signOf_4 : decode cX1_signOf 4 = .ok (.iload_n 1, 1) := dk_27 (dk_at dksX1_signOf_0 4 rfl rfl)
theorem dX1_signOf_5 : decode cX1_signOf 5 = .ok (.iload_n 2, 1) := dk_28 (dk_at dksX1_signOf_0 5 rfl rfl)
theorem dX1_signOf_6 : decode cX1_signOf 6 = .ok (.invokevirtual 394, 3) := dk_182 1 138 (dk_at dksX1_signOf_0 6 rfl rfl)
theorem dX1_signOf_9 : decode cX1_signOf 9 = .ok (.istore_n 3, 1) := dk_62 (dk_at dksX1_signOf_0 9 rfl rfl)
theorem dX1_signOf_10 : decode cX1_signOf 10 = .ok (.iload_n 3, 1) := dk_29 (dk_at dksX1_signOf_0 10 rfl rfl)
theorem dX1_signOf_11 : decode cX1_signOf 11 = .ok (.iconst (-1), 1) := dk_2 (dk_at dksX1_signOf_0 11 rfl rfl)
theorem dX1_signOf_12 : decode cX1_signOf 12 = .ok (.if_icmp .eq 9, 3) := dk_159 0 9 (dk_at dksX1_signOf_0 12 rfl rfl)
theorem dX1_signOf_15 : decode cX1_signOf 15 = .ok (.bipush 48, 2) := dk_16 48 (dk_at dksX1_signOf_0 15 rfl rfl)
theorem dX1_signOf_17 : decode cX1_signOf 17 = .ok (.iload_n 3, 1) := dk_29 (dk_at dksX1_signOf_0 17 rfl rfl)
theorem dX1_signOf_18 : decode cX1_signOf 18 = .ok (.iadd, 1) := dk_96 (dk_at dksX1_signOf_0 18 rfl rfl)
theorem dX1_signOf_19 : decode cX1_signOf 19 = .ok (.i2c, 1) := dk_146 (dk_at dksX1_signOf_0 19 rfl rfl)
theorem dX1_signOf_20 : decode cX1_signOf 20 = .ok (.ireturn, 1) := dk_172 (dk_at dksX1_signOf_0 20 rfl rfl)
theorem dX1_signOf_21 : decode cX1_signOf 21 = .ok (.aload_n 0, 1) := dk_42 (dk_at dksX1_signOf_0 21 rfl rfl)
theorem dX1_signOf_22 : decode cX1_signOf 22 = .ok (.getfield 77, 3) := dk_180 0 77 (dk_at dksX1_signOf_1 0 rfl rfl)
theorem dX1_signOf_25 : decode cX1_signOf 25 = .ok (.iload_n 1, 1) := dk_27 (dk_at dksX1_signOf_1 3 rfl rfl)
theorem dX1_signOf_26 : decode cX1_signOf 26 = .ok (.iload_n 2, 1) := dk_28 (dk_at dksX1_signOf_1 4 rfl rfl)
theorem dX1_signOf_27 : decode cX1_signOf 27 = .ok (.invokevirtual 397, 3) := dk_182 1 141 (dk_at dksX1_signOf_1 5 rfl rfl)
theorem dX1_signOf_30 : decode cX1_signOf 30 = .ok (.ifCond .eq 6, 3) := dk_153 0 6 (dk_at dksX1_signOf_1 8 rfl rfl)
theorem dX1_signOf_33 : decode cX1_signOf 33 = .ok (.bipush 109, 2) := dk_16 109 (dk_at dksX1_signOf_1 11 rfl rfl)
theorem dX1_signOf_35 : decode cX1_signOf 35 = .ok (.ireturn, 1) := dk_172 (dk_at dksX1_signOf_1 13 rfl rfl)
theorem dX1_signOf_36 : decode cX1_signOf 36 = .ok (.aload_n 0, 1) := dk_42 (dk_at dksX1_signOf_1 14 rfl rfl)
theorem dX1_signOf_37 : decode cX1_signOf 37 = .ok (.getfield 77, 3) := dk_180 0 77 (dk_at dksX1_signOf_1 15 rfl rfl)
theorem dX1_signOf_40 : decode cX1_signOf 40 = .ok (.getfield 194, 3) := dk_180 0 194 (dk_at dksX1_signOf_1 18 rfl rfl)
theorem dX1_signOf_43 : decode cX1_signOf 43 = .ok (.iload_n 1, 1) := dk_27 (dk_at dksX1_signOf_1 21 rfl rfl)
theorem dX1_signOf_44 : decode cX1_signOf 44 = .ok (.if_icmp .ne 17, 3) := dk_160 0 17 (dk_at dksX1_signOf_2 0 rfl rfl)
theorem dX1_signOf_47 : decode cX1_signOf 47 = .ok (.aload_n 0, 1) := dk_42 (dk_at dksX1_signOf_2 3 rfl rfl)
theorem dX1_signOf_48 : decode cX1_signOf 48 = .ok (.getfield 77, 3) := dk_180 0 77 (dk_at dksX1_signOf_2 4 rfl rfl)
theorem dX1_signOf_51 : decode cX1_signOf 51 = .ok (.getfield 197, 3) := dk_180 0 197 (dk_at dksX1_signOf_2 7 rfl rfl)
theorem dX1_signOf_54 : decode cX1_signOf 54 = .ok (.iload_n 2, 1) := dk_28 (dk_at dksX1_signOf_2 10 rfl rfl)
theorem dX1_signOf_55 : decode cX1_signOf 55 = .ok (.if_icmp .ne 6, 3) := dk_160 0 6 (dk_at dksX1_signOf_2 11 rfl rfl)
theorem dX1_signOf_58 : decode cX1_signOf 58 = .ok (.bipush 104, 2) := dk_16 104 (dk_at dksX1_signOf_2 14 rfl rfl)
theorem dX1_signOf_60 : decode cX1_signOf 60 = .ok (.ireturn, 1) := dk_172 (dk_at dksX1_signOf_2 16 rfl rfl)
theorem dX1_signOf_61 : decode cX1_signOf 61 = .ok (.aload_n 0, 1) := dk_42 (dk_at dksX1_signOf_2 17 rfl rfl)
theorem dX1_signOf_62 : decode cX1_signOf 62 = .ok (.getfield 77, 3) := dk_180 0 77 (dk_at dksX1_signOf_2 18 rfl rfl)
theorem dX1_signOf_65 : decode cX1_signOf 65 = .ok (.iload_n 1, 1) := dk_27 (dk_at dksX1_signOf_2 21 rfl rfl)
theorem dX1_signOf_66 : decode cX1_signOf 66 = .ok (.iload_n 2, 1) := dk_28 (dk_at dksX1_signOf_2 22 rfl rfl)
theorem dX1_signOf_67 : decode cX1_signOf 67 = .ok (.aload_n 0, 1) := dk_42 (dk_at dksX1_signOf_2 23 rfl rfl)
theorem dX1_signOf_68 : decode cX1_signOf 68 = .ok (.getfield 77, 3) := dk_180 0 77 (dk_at dksX1_signOf_3 0 rfl rfl)
theorem dX1_signOf_71 : decode cX1_signOf 71 = .ok (.getfield 179, 3) := dk_180 0 179 (dk_at dksX1_signOf_3 3 rfl rfl)
theorem dX1_signOf_74 : decode cX1_signOf 74 = .ok (.invokevirtual 307, 3) := dk_182 1 51 (dk_at dksX1_signOf_3 6 rfl rfl)
theorem dX1_signOf_77 : decode cX1_signOf 77 = .ok (.iconst (-1), 1) := dk_2 (dk_at dksX1_signOf_3 9 rfl rfl)
theorem dX1_signOf_78 : decode cX1_signOf 78 = .ok (.if_icmp .eq 6, 3) := dk_159 0 6 (dk_at dksX1_signOf_3 10 rfl rfl)
theorem dX1_signOf_81 : decode cX1_signOf 81 = .ok (.bipush 33, 2) := dk_16 33 (dk_at dksX1_signOf_3 13 rfl rfl)
theorem dX1_signOf_83 : decode cX1_signOf 83 = .ok (.ireturn, 1) := dk_172 (dk_at dksX1_signOf_3 15 rfl rfl)
theorem dX1_signOf_84 : decode cX1_signOf 84 = .ok (.aload_n 0, 1) := dk_42 (dk_at dksX1_signOf_3 16 rfl rfl)
theorem dX1_signOf_85 : decode cX1_signOf 85 = .ok (.getfield 77, 3) := dk_180 0 77 (dk_at dksX1_signOf_3 17 rfl rfl)
theorem dX1_signOf_88 : decode cX1_signOf 88 = .ok (.iload_n 1, 1) := dk_27 (dk_at dksX1_signOf_3 20 rfl rfl)
theorem dX1_signOf_89 : decode cX1_signOf 89 = .ok (.iload_n 2, 1) := dk_28 (dk_at dksX1_signOf_3 21 rfl rfl)
theorem dX1_signOf_90 : decode cX1_signOf 90 = .ok (.invokevirtual 304, 3) := dk_182 1 48 (dk_at dksX1_signOf_4 0 rfl rfl)
theorem dX1_signOf_93 : decode cX1_signOf 93 = .ok (.ifCond .eq 8, 3) := dk_153 0 8 (dk_at dksX1_signOf_4 3 rfl rfl)
theorem dX1_signOf_96 : decode cX1_signOf 96 = .ok (.bipush 35, 2) := dk_16 35 (dk_at dksX1_signOf_4 6 rfl rfl)
theorem dX1_signOf_98 : decode cX1_signOf 98 = .ok (.goto 5, 3) := dk_167 0 5 (dk_at dksX1_signOf_4 8 rfl rfl)
theorem dX1_signOf_101 : decode cX1_signOf 101 = .ok (.bipush 46, 2) := dk_16 46 (dk_at dksX1_signOf_4 11 rfl rfl)
theorem dX1_signOf_103 : decode cX1_signOf 103 = .ok (.ireturn, 1) := dk_172 (dk_at dksX1_signOf_4 13 rfl rfl)
abbrev cX1_query : ByteArray := prog_1_method_55_code
def yX1_query : MethodName := ⟨RX1, "query", "(I)I"⟩
def dkwX1_query_4 : List UInt8 := [167, 255, 209, 44, 180, 1, 204, 153, 0, 7, 2, 167, 0, 5, 21, 4, 172]
abbrev dktX1_query_4 : List UInt8 := dkwX1_query_4 ++ []
def dkwX1_query_3 : List UInt8 := [154, 0, 6, 167, 0, 16, 44, 180, 1, 204, 153, 0, 6, 21, 5, 172, 132, 4, 1, 132, 5, 1]
abbrev dktX1_query_3 : List UInt8 := dkwX1_query_3 ++ dktX1_query_4
def dkwX1_query_2 : List UInt8 := [180, 0, 77, 180, 0, 176, 182, 0, 157, 162, 0, 38, 45, 42, 180, 0, 77, 21, 5, 182, 1, 198]
abbrev dktX1_query_2 : List UInt8 := dkwX1_query_2 ++ dktX1_query_3
def dkwX1_query_1 : List UInt8 := [167, 0, 15, 58, 4, 42, 25, 4, 19, 1, 197, 182, 0, 143, 172, 3, 54, 4, 3, 54, 5, 21, 5, 42]
abbrev dktX1_query_1 : List UInt8 := dkwX1_query_1 ++ dktX1_query_2
def dkwX1_query_0 : List UInt8 := [42, 27, 17, 0, 200, 182, 0, 130, 187, 1, 191, 89, 42, 27, 183, 1, 193, 77, 44, 182, 1, 194, 78]
abbrev dktX1_query_0 : List UInt8 := dkwX1_query_0 ++ dktX1_query_1
theorem dksX1_query_0 : cX1_query.data.toList.drop 0 = dktX1_query_0 := by decide +kernel
theorem dksX1_query_1 : cX1_query.data.toList.drop 23 = dktX1_query_1 := dk_seg dksX1_query_0 23 rfl rfl
theorem dksX1_query_2 : cX1_query.data.toList.drop 47 = dktX1_query_2 := dk_seg dksX1_query_1 24 rfl rfl
theorem dksX1_query_3 : cX1_query.data.toList.drop 69 = dktX1_query_3 := dk_seg dksX1_query_2 22 rfl rfl
theorem dksX1_query_4 : cX1_query.data.toList.drop 91 = dktX1_query_4 := dk_seg dksX1_query_3 22 rfl rfl
theorem dX1_query_0 : decode cX1_query 0 = .ok (.aload_n 0, 1) := dk_42 (dk_at dksX1_query_0 0 rfl rfl)
theorem dX1_query_1 : decode cX1_query 1 = .ok (.iload_n 1, 1) := dk_27 (dk_at dksX1_query_0 1 rfl rfl)
theorem dX1_query_2 : decode cX1_query 2 = .ok (.sipush 200, 3) := dk_17 0 200 (dk_at dksX1_query_0 2 rfl rfl)
theorem dX1_query_5 : decode cX1_query 5 = .ok (.invokevirtual 130, 3) := dk_182 0 130 (dk_at dksX1_query_0 5 rfl rfl)
theorem dX1_query_8 : decode cX1_query 8 = .ok (.new 447, 3) := dk_187 1 191 (dk_at dksX1_query_0 8 rfl rfl)
theorem dX1_query_11 : decode cX1_query 11 = .ok (.dup, 1) := dk_89 (dk_at dksX1_query_0 11 rfl rfl)
theorem dX1_query_12 : decode cX1_query 12 = .ok (.aload_n 0, 1) := dk_42 (dk_at dksX1_query_0 12 rfl rfl)
theorem dX1_query_13 : decode cX1_query 13 = .ok (.iload_n 1, 1) := dk_27 (dk_at dksX1_query_0 13 rfl rfl)
theorem dX1_query_14 : decode cX1_query 14 = .ok (.invokespecial 449, 3) := dk_183 1 193 (dk_at dksX1_query_0 14 rfl rfl)
theorem dX1_query_17 : decode cX1_query 17 = .ok (.astore_n 2, 1) := dk_77 (dk_at dksX1_query_0 17 rfl rfl)
theorem dX1_query_18 : decode cX1_query 18 = .ok (.aload_n 2, 1) := dk_44 (dk_at dksX1_query_0 18 rfl rfl)
theorem dX1_query_19 : decode cX1_query 19 = .ok (.invokevirtual 450, 3) := dk_182 1 194 (dk_at dksX1_query_0 19 rfl rfl)
theorem dX1_query_22 : decode cX1_query 22 = .ok (.astore_n 3, 1) := dk_78 (dk_at dksX1_query_0 22 rfl rfl)
theorem dX1_query_23 : decode cX1_query 23 = .ok (.goto 15, 3) := dk_167 0 15 (dk_at dksX1_query_1 0 rfl rfl)
theorem dX1_query_26 : decode cX1_query 26 = .ok (.astore 4, 2) := dk_58 4 (dk_at dksX1_query_1 3 rfl rfl)
theorem dX1_query_28 : decode cX1_query 28 = .ok (.aload_n 0, 1) := dk_42 (dk_at dksX1_query_1 5 rfl rfl)
theorem dX1_query_29 : decode cX1_query 29 = .ok (.aload 4, 2) := dk_25 4 (dk_at dksX1_query_1 6 rfl rfl)
theorem dX1_query_31 : decode cX1_query 31 = .ok (.ldc_w 453, 3) := dk_19 1 197 (dk_at dksX1_query_1 8 rfl rfl)
theorem dX1_query_34 : decode cX1_query 34 = .ok (.invokevirtual 143, 3) := dk_182 0 143 (dk_at dksX1_query_1 11 rfl rfl)
theorem dX1_query_37 : decode cX1_query 37 = .ok (.ireturn, 1) := dk_172 (dk_at dksX1_query_1 14 rfl rfl)
theorem dX1_query_38 : decode cX1_query 38 = .ok (.iconst 0, 1) := dk_3 (dk_at dksX1_query_1 15 rfl rfl)
theorem dX1_query_39 : decode cX1_query 39 = .ok (.istore 4, 2) := dk_54 4 (dk_at dksX1_query_1 16 rfl rfl)
theorem dX1_query_41 : decode cX1_query 41 = .ok (.iconst 0, 1) := dk_3 (dk_at dksX1_query_1 18 rfl rfl)
theorem dX1_query_42 : decode cX1_query 42 = .ok (.istore 5, 2) := dk_54 5 (dk_at dksX1_query_1 19 rfl rfl)
theorem dX1_query_44 : decode cX1_query 44 = .ok (.iload 5, 2) := dk_21 5 (dk_at dksX1_query_1 21 rfl rfl)
theorem dX1_query_46 : decode cX1_query 46 = .ok (.aload_n 0, 1) := dk_42 (dk_at dksX1_query_1 23 rfl rfl)
theorem dX1_query_47 : decode cX1_query 47 = .ok (.getfield 77, 3) := dk_180 0 77 (dk_at dksX1_query_2 0 rfl rfl)
theorem dX1_query_50 : decode cX1_query 50 = .ok (.getfield 176, 3) := dk_180 0 176 (dk_at dksX1_query_2 3 rfl rfl)
theorem dX1_query_53 : decode cX1_query 53 = .ok (.invokevirtual 157, 3) := dk_182 0 157 (dk_at dksX1_query_2 6 rfl rfl)
theorem dX1_query_56 : decode cX1_query 56 = .ok (.if_icmp .ge 38, 3) := dk_162 0 38 (dk_at dksX1_query_2 9 rfl rfl)
theorem dX1_query_59 : decode cX1_query 59 = .ok (.aload_n 3, 1) := dk_45 (dk_at dksX1_query_2 12 rfl rfl)
theorem dX1_query_60 : decode cX1_query 60 = .ok (.aload_n 0, 1) := dk_42 (dk_at dksX1_query_2 13 rfl rfl)
theorem dX1_query_61 : decode cX1_query 61 = .ok (.getfield 77, 3) := dk_180 0 77 (dk_at dksX1_query_2 14 rfl rfl)
theorem dX1_query_64 : decode cX1_query 64 = .ok (.iload 5, 2) := dk_21 5 (dk_at dksX1_query_2 17 rfl rfl)
theorem dX1_query_66 : decode cX1_query 66 = .ok (.invokevirtual 454, 3) := dk_182 1 198 (dk_at dksX1_query_2 19 rfl rfl)
theorem dX1_query_69 : decode cX1_query 69 = .ok (.ifCond .ne 6, 3) := dk_154 0 6 (dk_at dksX1_query_3 0 rfl rfl)
theorem dX1_query_72 : decode cX1_query 72 = .ok (.goto 16, 3) := dk_167 0 16 (dk_at dksX1_query_3 3 rfl rfl)
theorem dX1_query_75 : decode cX1_query 75 = .ok (.aload_n 2, 1) := dk_44 (dk_at dksX1_query_3 6 rfl rfl)
theorem dX1_query_76 : decode cX1_query 76 = .ok (.getfield 460, 3) := dk_180 1 204 (dk_at dksX1_query_3 7 rfl rfl)
theorem dX1_query_79 : decode cX1_query 79 = .ok (.ifCond .eq 6, 3) := dk_153 0 6 (dk_at dksX1_query_3 10 rfl rfl)
theorem dX1_query_82 : decode cX1_query 82 = .ok (.iload 5, 2) := dk_21 5 (dk_at dksX1_query_3 13 rfl rfl)
theorem dX1_query_84 : decode cX1_query 84 = .ok (.ireturn, 1) := dk_172 (dk_at dksX1_query_3 15 rfl rfl)
theorem dX1_query_85 : decode cX1_query 85 = .ok (.iinc 4 1, 3) := dk_132 4 1 (dk_at dksX1_query_3 16 rfl rfl)
theorem dX1_query_88 : decode cX1_query 88 = .ok (.iinc 5 1, 3) := dk_132 5 1 (dk_at dksX1_query_3 19 rfl rfl)
theorem dX1_query_91 : decode cX1_query 91 = .ok (.goto (-47), 3) := dk_167 255 209 (dk_at dksX1_query_4 0 rfl rfl)
theorem dX1_query_94 : decode cX1_query 94 = .ok (.aload_n 2, 1) := dk_44 (dk_at dksX1_query_4 3 rfl rfl)
theorem dX1_query_95 : decode cX1_query 95 = .ok (.getfield 460, 3) := dk_180 1 204 (dk_at dksX1_query_4 4 rfl rfl)
theorem dX1_query_98 : decode cX1_query 98 = .ok (.ifCond .eq 7, 3) := dk_153 0 7 (dk_at dksX1_query_4 7 rfl rfl)
theorem dX1_query_101 : decode cX1_query 101 = .ok (.iconst (-1), 1) := dk_2 (dk_at dksX1_query_4 10 rfl rfl)
theorem dX1_query_102 : decode cX1_query 102 = .ok (.goto 5, 3) := dk_167 0 5 (dk_at dksX1_query_4 11 rfl rfl)
theorem dX1_query_105 : decode cX1_query 105 = .ok (.iload 4, 2) := dk_21 4 (dk_at dksX1_query_4 14 rfl rfl)
theorem dX1_query_107 : decode cX1_query 107 = .ok (.ireturn, 1) := dk_172 (dk_at dksX1_query_4 16 rfl rfl)
abbrev cX1_propertyCode : ByteArray := prog_1_method_5_code
def yX1_propertyCode : MethodName := ⟨RX1, "propertyCode", "(Ljava/lang/String;)I"⟩
def dkwX1_propertyCode_10 : List UInt8 := [16, 6, 167, 0, 14, 16, 7, 167, 0, 9, 16, 8, 167, 0, 4, 2, 172]
abbrev dktX1_propertyCode_10 : List UInt8 := dkwX1_propertyCode_10 ++ []
def dkwX1_propertyCode_9 : List UInt8 := [3, 167, 0, 39, 4, 167, 0, 35, 5, 167, 0, 31, 6, 167, 0, 27, 7, 167, 0, 23, 8, 167, 0, 19]
abbrev dktX1_propertyCode_9 : List UInt8 := dkwX1_propertyCode_9 ++ dktX1_propertyCode_10
def dkwX1_propertyCode_8 : List UInt8 := [170, 0, 0, 0, 88, 0, 0, 0, 0, 0, 0, 0, 8, 0, 0, 0, 49, 0, 0, 0, 53, 0, 0, 0, 57, 0, 0, 0, 61, 0, 0, 0, 65, 0, 0, 0, 69, 0, 0, 0, 73, 0, 0, 0, 78, 0, 0, 0, 83]
abbrev dktX1_propertyCode_8 : List UInt8 := dkwX1_propertyCode_8 ++ dktX1_propertyCode_9
def dkwX1_propertyCode_7 : List UInt8 := [182, 0, 18, 153, 0, 6, 16, 8, 61, 28]
abbrev dktX1_propertyCode_7 : List UInt8 := dkwX1_propertyCode_7 ++ dktX1_propertyCode_8
def dkwX1_propertyCode_6 : List UInt8 := [61, 167, 0, 30, 43, 18, 34, 182, 0, 18, 153, 0, 21, 16, 7, 61, 167, 0, 15, 43, 18, 36]
abbrev dktX1_propertyCode_6 : List UInt8 := dkwX1_propertyCode_6 ++ dktX1_propertyCode_7
def dkwX1_propertyCode_5 : List UInt8 := [18, 30, 182, 0, 18, 153, 0, 50, 8, 61, 167, 0, 45, 43, 18, 32, 182, 0, 18, 153, 0, 36, 16, 6]
abbrev dktX1_propertyCode_5 : List UInt8 := dkwX1_propertyCode_5 ++ dktX1_propertyCode_6
def dkwX1_propertyCode_4 : List UInt8 := [153, 0, 78, 6, 61, 167, 0, 73, 43, 18, 28, 182, 0, 18, 153, 0, 64, 7, 61, 167, 0, 59, 43]
abbrev dktX1_propertyCode_4 : List UInt8 := dkwX1_propertyCode_4 ++ dktX1_propertyCode_5
def dkwX1_propertyCode_3 : List UInt8 := [61, 167, 0, 101, 43, 18, 24, 182, 0, 18, 153, 0, 92, 5, 61, 167, 0, 87, 43, 18, 26, 182, 0, 18]
abbrev dktX1_propertyCode_3 : List UInt8 := dkwX1_propertyCode_3 ++ dktX1_propertyCode_4
def dkwX1_propertyCode_2 : List UInt8 := [43, 18, 16, 182, 0, 18, 153, 0, 120, 3, 61, 167, 0, 115, 43, 18, 22, 182, 0, 18, 153, 0, 106, 4]
abbrev dktX1_propertyCode_2 : List UInt8 := dkwX1_propertyCode_2 ++ dktX1_propertyCode_3
def dkwX1_propertyCode_1 : List UInt8 := [171, 0, 0, 0, 0, 0, 0, 210, 0, 0, 0, 9, 212, 60, 228, 109, 0, 0, 0, 140, 0, 0, 0, 120, 0, 0, 0, 183, 0, 0, 0, 121, 0, 0, 0, 198, 0, 53, 207, 152, 0, 0, 0, 126, 0, 54, 217, 132, 0, 0, 0, 98, 5, 194, 202, 186, 0, 0, 0, 154, 6, 81, 135, 78, 0, 0, 0, 84, 6, 138, 196, 145, 0, 0, 0, 112, 6, 138, 211, 39, 0, 0, 0, 168]
abbrev dktX1_propertyCode_1 : List UInt8 := dkwX1_propertyCode_1 ++ dktX1_propertyCode_2
def dkwX1_propertyCode_0 : List UInt8 := [42, 76, 2, 61, 43, 182, 0, 10]
abbrev dktX1_propertyCode_0 : List UInt8 := dkwX1_propertyCode_0 ++ dktX1_propertyCode_1
theorem dksX1_propertyCode_0 : cX1_propertyCode.data.toList.drop 0 = dktX1_propertyCode_0 := by decide +kernel
theorem dksX1_propertyCode_1 : cX1_propertyCode.data.toList.drop 8 = dktX1_propertyCode_1 := dk_seg dksX1_propertyCode_0 8 rfl rfl
theorem dksX1_propertyCode_2 : cX1_propertyCode.data.toList.drop 92 = dktX1_propertyCode_2 := dk_seg dksX1_propertyCode_1 84 rfl rfl
theorem dksX1_propertyCode_3 : cX1_propertyCode.data.toList.drop 116 = dktX1_propertyCode_3 := dk_seg dksX1_propertyCode_2 24 rfl rfl
theorem dksX1_propertyCode_4 : cX1_propertyCode.data.toList.drop 140 = dktX1_propertyCode_4 := dk_seg dksX1_propertyCode_3 24 rfl rfl
theorem dksX1_propertyCode_5 : cX1_propertyCode.data.toList.drop 163 = dktX1_propertyCode_5 := dk_seg dksX1_propertyCode_4 23 rfl rfl
theorem dksX1_propertyCode_6 : cX1_propertyCode.data.toList.drop 187 = dktX1_propertyCode_6 := dk_seg dksX1_propertyCode_5 24 rfl rfl
theorem dksX1_propertyCode_7 : cX1_propertyCode.data.toList.drop 209 = dktX1_propertyCode_7 := dk_seg dksX1_propertyCode_6 22 rfl rfl
theorem dksX1_propertyCode_8 : cX1_propertyCode.data.toList.drop 219 = dktX1_propertyCode_8 := dk_seg dksX1_propertyCode_7 10 rfl rfl
theorem dksX1_propertyCode_9 : cX1_propertyCode.data.toList.drop 268 = dktX1_propertyCode_9 := dk_seg dksX1_propertyCode_8 49 rfl rfl
theorem dksX1_propertyCode_10 : cX1_propertyCode.data.toList.drop 292 = dktX1_propertyCode_10 := dk_seg dksX1_propertyCode_9 24 rfl rfl
theorem dX1_propertyCode_0 : decode cX1_propertyCode 0 = .ok (.aload_n 0, 1) := dk_42 (dk_at dksX1_propertyCode_0 0 rfl rfl)
theorem dX1_propertyCode_1 : decode cX1_propertyCode 1 = .ok (.astore_n 1, 1) := dk_76 (dk_at dksX1_propertyCode_0 1 rfl rfl)
theorem dX1_propertyCode_2 : decode cX1_propertyCode 2 = .ok (.iconst (-1), 1) := dk_2 (dk_at dksX1_propertyCode_0 2 rfl rfl)
theorem dX1_propertyCode_3 : decode cX1_propertyCode 3 = .ok (.istore_n 2, 1) := dk_61 (dk_at dksX1_propertyCode_0 3 rfl rfl)
theorem dX1_propertyCode_4 : decode cX1_propertyCode 4 = .ok (.aload_n 1, 1) := dk_43 (dk_at dksX1_propertyCode_0 4 rfl rfl)
theorem dX1_propertyCode_5 : decode cX1_propertyCode 5 = .ok (.invokevirtual 10, 3) := dk_182 0 10 (dk_at dksX1_propertyCode_0 5 rfl rfl)
theorem dX1_propertyCode_8 : decode cX1_propertyCode 8 = .ok (.lookupswitch 210 #[(-734206867, 140), (120, 183), (121, 198), (3526552, 126), (3594628, 98), (96651962, 154), (106006350, 84), (109757585, 112), (109761319, 168)], 84) := by decide +kernel
theorem dX1_propertyCode_92 : decode cX1_propertyCode 92 = .ok (.aload_n 1, 1) := dk_43 (dk_at dksX1_propertyCode_2 0 rfl rfl)
theorem dX1_propertyCode_93 : decode cX1_propertyCode 93 = .ok (.ldc 16, 2) := dk_18 16 (dk_at dksX1_propertyCode_2 1 rfl rfl)
theorem dX1_propertyCode_95 : decode cX1_propertyCode 95 = .ok (.invokevirtual 18, 3) := dk_182 0 18 (dk_at dksX1_propertyCode_2 3 rfl rfl)
theorem dX1_propertyCode_98 : decode cX1_propertyCode 98 = .ok (.ifCond .eq 120, 3) := dk_153 0 120 (dk_at dksX1_propertyCode_2 6 rfl rfl)
theorem dX1_propertyCode_101 : decode cX1_propertyCode 101 = .ok (.iconst 0, 1) := dk_3 (dk_at dksX1_propertyCode_2 9 rfl rfl)
theorem dX1_propertyCode_102 : decode cX1_propertyCode 102 = .ok (.istore_n 2, 1) := dk_61 (dk_at dksX1_propertyCode_2 10 rfl rfl)
theorem dX1_propertyCode_103 : decode cX1_propertyCode 103 = .ok (.goto 115, 3) := dk_167 0 115 (dk_at dksX1_propertyCode_2 11 rfl rfl)
theorem dX1_propertyCode_106 : decode cX1_propertyCode 106 = .ok (.aload_n 1, 1) := dk_43 (dk_at dksX1_propertyCode_2 14 rfl rfl)
theorem dX1_propertyCode_107 : decode cX1_propertyCode 107 = .ok (.ldc 22, 2) := dk_18 22 (dk_at dksX1_propertyCode_2 15 rfl rfl)
theorem dX1_propertyCode_109 : decode cX1_propertyCode 109 = .ok (.invokevirtual 18, 3) := dk_182 0 18 (dk_at dksX1_propertyCode_2 17 rfl rfl)
theorem dX1_propertyCode_112 : decode cX1_propertyCode 112 = .ok (.ifCond .eq 106, 3) := dk_153 0 106 (dk_at dksX1_propertyCode_2 20 rfl rfl)
theorem dX1_propertyCode_115 : decode cX1_propertyCode 115 = .ok (.iconst 1, 1) := dk_4 (dk_at dksX1_propertyCode_2 23 rfl rfl)
theorem dX1_propertyCode_116 : decode cX1_propertyCode 116 = .ok (.istore_n 2, 1) := dk_61 (dk_at dksX1_propertyCode_3 0 rfl rfl)
theorem dX1_propertyCode_117 : decode cX1_propertyCode 117 = .ok (.goto 101, 3) := dk_167 0 101 (dk_at dksX1_propertyCode_3 1 rfl rfl)
theorem dX1_propertyCode_120 : decode cX1_propertyCode 120 = .ok (.aload_n 1, 1) := dk_43 (dk_at dksX1_propertyCode_3 4 rfl rfl)
theorem dX1_propertyCode_121 : decode cX1_propertyCode 121 = .ok (.ldc 24, 2) := dk_18 24 (dk_at dksX1_propertyCode_3 5 rfl rfl)
theorem dX1_propertyCode_123 : decode cX1_propertyCode 123 = .ok (.invokevirtual 18, 3) := dk_182 0 18 (dk_at dksX1_propertyCode_3 7 rfl rfl)
theorem dX1_propertyCode_126 : decode cX1_propertyCode 126 = .ok (.ifCond .eq 92, 3) := dk_153 0 92 (dk_at dksX1_propertyCode_3 10 rfl rfl)
theorem dX1_propertyCode_129 : decode cX1_propertyCode 129 = .ok (.iconst 2, 1) := dk_5 (dk_at dksX1_propertyCode_3 13 rfl rfl)
theorem dX1_propertyCode_130 : decode cX1_propertyCode 130 = .ok (.istore_n 2, 1) := dk_61 (dk_at dksX1_propertyCode_3 14 rfl rfl)
theorem dX1_propertyCode_131 : decode cX1_propertyCode 131 = .ok (.goto 87, 3) := dk_167 0 87 (dk_at dksX1_propertyCode_3 15 rfl rfl)
theorem dX1_propertyCode_134 : decode cX1_propertyCode 134 = .ok (.aload_n 1, 1) := dk_43 (dk_at dksX1_propertyCode_3 18 rfl rfl)
theorem dX1_propertyCode_135 : decode cX1_propertyCode 135 = .ok (.ldc 26, 2) := dk_18 26 (dk_at dksX1_propertyCode_3 19 rfl rfl)
theorem dX1_propertyCode_137 : decode cX1_propertyCode 137 = .ok (.invokevirtual 18, 3) := dk_182 0 18 (dk_at dksX1_propertyCode_3 21 rfl rfl)
theorem dX1_propertyCode_140 : decode cX1_propertyCode 140 = .ok (.ifCond .eq 78, 3) := dk_153 0 78 (dk_at dksX1_propertyCode_4 0 rfl rfl)
theorem dX1_propertyCode_143 : decode cX1_propertyCode 143 = .ok (.iconst 3, 1) := dk_6 (dk_at dksX1_propertyCode_4 3 rfl rfl)
theorem dX1_propertyCode_144 : decode cX1_propertyCode 144 = .ok (.istore_n 2, 1) := dk_61 (dk_at dksX1_propertyCode_4 4 rfl rfl)
theorem dX1_propertyCode_145 : decode cX1_propertyCode 145 = .ok (.goto 73, 3) := dk_167 0 73 (dk_at dksX1_propertyCode_4 5 rfl rfl)
theorem dX1_propertyCode_148 : decode cX1_propertyCode 148 = .ok (.aload_n 1, 1) := dk_43 (dk_at dksX1_propertyCode_4 8 rfl rfl)
theorem dX1_propertyCode_149 : decode cX1_propertyCode 149 = .ok (.ldc 28, 2) := dk_18 28 (dk_at dksX1_propertyCode_4 9 rfl rfl)
theorem dX1_propertyCode_151 : decode cX1_propertyCode 151 = .ok (.invokevirtual 18, 3) := dk_182 0 18 (dk_at dksX1_propertyCode_4 11 rfl rfl)
theorem dX1_propertyCode_154 : decode cX1_propertyCode 154 = .ok (.ifCond .eq 64, 3) := dk_153 0 64 (dk_at dksX1_propertyCode_4 14 rfl rfl)
theorem dX1_propertyCode_157 : decode cX1_propertyCode 157 = .ok (.iconst 4, 1) := dk_7 (dk_at dksX1_propertyCode_4 17 rfl rfl)
theorem dX1_propertyCode_158 : decode cX1_propertyCode 158 = .ok (.istore_n 2, 1) := dk_61 (dk_at dksX1_propertyCode_4 18 rfl rfl)
theorem dX1_propertyCode_159 : decode cX1_propertyCode 159 = .ok (.goto 59, 3) := dk_167 0 59 (dk_at dksX1_propertyCode_4 19 rfl rfl)
theorem dX1_propertyCode_162 : decode cX1_propertyCode 162 = .ok (.aload_n 1, 1) := dk_43 (dk_at dksX1_propertyCode_4 22 rfl rfl)
theorem dX1_propertyCode_163 : decode cX1_propertyCode 163 = .ok (.ldc 30, 2) := dk_18 30 (dk_at dksX1_propertyCode_5 0 rfl rfl)
theorem dX1_propertyCode_165 : decode cX1_propertyCode 165 = .ok (.invokevirtual 18, 3) := dk_182 0 18 (dk_at dksX1_propertyCode_5 2 rfl rfl)
theorem dX1_propertyCode_168 : decode cX1_propertyCode 168 = .ok (.ifCond .eq 50, 3) := dk_153 0 50 (dk_at dksX1_propertyCode_5 5 rfl rfl)
theorem dX1_propertyCode_171 : decode cX1_propertyCode 171 = .ok (.iconst 5, 1) := dk_8 (dk_at dksX1_propertyCode_5 8 rfl rfl)
theorem dX1_propertyCode_172 : decode cX1_propertyCode 172 = .ok (.istore_n 2, 1) := dk_61 (dk_at dksX1_propertyCode_5 9 rfl rfl)
theorem dX1_propertyCode_173 : decode cX1_propertyCode 173 = .ok (.goto 45, 3) := dk_167 0 45 (dk_at dksX1_propertyCode_5 10 rfl rfl)
theorem dX1_propertyCode_176 : decode cX1_propertyCode 176 = .ok (.aload_n 1, 1) := dk_43 (dk_at dksX1_propertyCode_5 13 rfl rfl)
theorem dX1_propertyCode_177 : decode cX1_propertyCode 177 = .ok (.ldc 32, 2) := dk_18 32 (dk_at dksX1_propertyCode_5 14 rfl rfl)
theorem dX1_propertyCode_179 : decode cX1_propertyCode 179 = .ok (.invokevirtual 18, 3) := dk_182 0 18 (dk_at dksX1_propertyCode_5 16 rfl rfl)
theorem dX1_propertyCode_182 : decode cX1_propertyCode 182 = .ok (.ifCond .eq 36, 3) := dk_153 0 36 (dk_at dksX1_propertyCode_5 19 rfl rfl)
theorem dX1_propertyCode_185 : decode cX1_propertyCode 185 = .ok (.bipush 6, 2) := dk_16 6 (dk_at dksX1_propertyCode_5 22 rfl rfl)
theorem dX1_propertyCode_187 : decode cX1_propertyCode 187 = .ok (.istore_n 2, 1) := dk_61 (dk_at dksX1_propertyCode_6 0 rfl rfl)
theorem dX1_propertyCode_188 : decode cX1_propertyCode 188 = .ok (.goto 30, 3) := dk_167 0 30 (dk_at dksX1_propertyCode_6 1 rfl rfl)
theorem dX1_propertyCode_191 : decode cX1_propertyCode 191 = .ok (.aload_n 1, 1) := dk_43 (dk_at dksX1_propertyCode_6 4 rfl rfl)
theorem dX1_propertyCode_192 : decode cX1_propertyCode 192 = .ok (.ldc 34, 2) := dk_18 34 (dk_at dksX1_propertyCode_6 5 rfl rfl)
theorem dX1_propertyCode_194 : decode cX1_propertyCode 194 = .ok (.invokevirtual 18, 3) := dk_182 0 18 (dk_at dksX1_propertyCode_6 7 rfl rfl)
theorem dX1_propertyCode_197 : decode cX1_propertyCode 197 = .ok (.ifCond .eq 21, 3) := dk_153 0 21 (dk_at dksX1_propertyCode_6 10 rfl rfl)
theorem dX1_propertyCode_200 : decode cX1_propertyCode 200 = .ok (.bipush 7, 2) := dk_16 7 (dk_at dksX1_propertyCode_6 13 rfl rfl)
theorem dX1_propertyCode_202 : decode cX1_propertyCode 202 = .ok (.istore_n 2, 1) := dk_61 (dk_at dksX1_propertyCode_6 15 rfl rfl)
theorem dX1_propertyCode_203 : decode cX1_propertyCode 203 = .ok (.goto 15, 3) := dk_167 0 15 (dk_at dksX1_propertyCode_6 16 rfl rfl)
theorem dX1_propertyCode_206 : decode cX1_propertyCode 206 = .ok (.aload_n 1, 1) := dk_43 (dk_at dksX1_propertyCode_6 19 rfl rfl)
theorem dX1_propertyCode_207 : decode cX1_propertyCode 207 = .ok (.ldc 36, 2) := dk_18 36 (dk_at dksX1_propertyCode_6 20 rfl rfl)
theorem dX1_propertyCode_209 : decode cX1_propertyCode 209 = .ok (.invokevirtual 18, 3) := dk_182 0 18 (dk_at dksX1_propertyCode_7 0 rfl rfl)
theorem dX1_propertyCode_212 : decode cX1_propertyCode 212 = .ok (.ifCond .eq 6, 3) := dk_153 0 6 (dk_at dksX1_propertyCode_7 3 rfl rfl)
theorem dX1_propertyCode_215 : decode cX1_propertyCode 215 = .ok (.bipush 8, 2) := dk_16 8 (dk_at dksX1_propertyCode_7 6 rfl rfl)
theorem dX1_propertyCode_217 : decode cX1_propertyCode 217 = .ok (.istore_n 2, 1) := dk_61 (dk_at dksX1_propertyCode_7 8 rfl rfl)
theorem dX1_propertyCode_218 : decode cX1_propertyCode 218 = .ok (.iload_n 2, 1) := dk_28 (dk_at dksX1_propertyCode_7 9 rfl rfl)
theorem dX1_propertyCode_219 : decode cX1_propertyCode 219 = .ok (.tableswitch 88 0 8 #[49, 53, 57, 61, 65, 69, 73, 78, 83], 49) := by decide +kernel
theorem dX1_propertyCode_268 : decode cX1_propertyCode 268 = .ok (.iconst 0, 1) := dk_3 (dk_at dksX1_propertyCode_9 0 rfl rfl)
theorem dX1_propertyCode_269 : decode cX1_propertyCode 269 = .ok (.goto 39, 3) := dk_167 0 39 (dk_at dksX1_propertyCode_9 1 rfl rfl)
theorem dX1_propertyCode_272 : decode cX1_propertyCode 272 = .ok (.iconst 1, 1) := dk_4 (dk_at dksX1_propertyCode_9 4 rfl rfl)
theorem dX1_propertyCode_273 : decode cX1_propertyCode 273 = .ok (.goto 35, 3) := dk_167 0 35 (dk_at dksX1_propertyCode_9 5 rfl rfl)
theorem dX1_propertyCode_276 : decode cX1_propertyCode 276 = .ok (.iconst 2, 1) := dk_5 (dk_at dksX1_propertyCode_9 8 rfl rfl)
theorem dX1_propertyCode_277 : decode cX1_propertyCode 277 = .ok (.goto 31, 3) := dk_167 0 31 (dk_at dksX1_propertyCode_9 9 rfl rfl)
theorem dX1_propertyCode_280 : decode cX1_propertyCode 280 = .ok (.iconst 3, 1) := dk_6 (dk_at dksX1_propertyCode_9 12 rfl rfl)
theorem dX1_propertyCode_281 : decode cX1_propertyCode 281 = .ok (.goto 27, 3) := dk_167 0 27 (dk_at dksX1_propertyCode_9 13 rfl rfl)
theorem dX1_propertyCode_284 : decode cX1_propertyCode 284 = .ok (.iconst 4, 1) := dk_7 (dk_at dksX1_propertyCode_9 16 rfl rfl)
theorem dX1_propertyCode_285 : decode cX1_propertyCode 285 = .ok (.goto 23, 3) := dk_167 0 23 (dk_at dksX1_propertyCode_9 17 rfl rfl)
theorem dX1_propertyCode_288 : decode cX1_propertyCode 288 = .ok (.iconst 5, 1) := dk_8 (dk_at dksX1_propertyCode_9 20 rfl rfl)
theorem dX1_propertyCode_289 : decode cX1_propertyCode 289 = .ok (.goto 19, 3) := dk_167 0 19 (dk_at dksX1_propertyCode_9 21 rfl rfl)
theorem dX1_propertyCode_292 : decode cX1_propertyCode 292 = .ok (.bipush 6, 2) := dk_16 6 (dk_at dksX1_propertyCode_10 0 rfl rfl)
theorem dX1_propertyCode_294 : decode cX1_propertyCode 294 = .ok (.goto 14, 3) := dk_167 0 14 (dk_at dksX1_propertyCode_10 2 rfl rfl)
theorem dX1_propertyCode_297 : decode cX1_propertyCode 297 = .ok (.bipush 7, 2) := dk_16 7 (dk_at dksX1_propertyCode_10 5 rfl rfl)
theorem dX1_propertyCode_299 : decode cX1_propertyCode 299 = .ok (.goto 9, 3) := dk_167 0 9 (dk_at dksX1_propertyCode_10 7 rfl rfl)
theorem dX1_propertyCode_302 : decode cX1_propertyCode 302 = .ok (.bipush 8, 2) := dk_16 8 (dk_at dksX1_propertyCode_10 10 rfl rfl)
theorem dX1_propertyCode_304 : decode cX1_propertyCode 304 = .ok (.goto 4, 3) := dk_167 0 4 (dk_at dksX1_propertyCode_10 12 rfl rfl)
theorem dX1_propertyCode_307 : decode cX1_propertyCode 307 = .ok (.iconst (-1), 1) := dk_2 (dk_at dksX1_propertyCode_10 15 rfl rfl)
theorem dX1_propertyCode_308 : decode cX1_propertyCode 308 = .ok (.ireturn, 1) := dk_172 (dk_at dksX1_propertyCode_10 16 rfl rfl)
abbrev cX1_of : ByteArray := prog_1_method_6_code
def yX1_of : MethodName := ⟨RX1, "of", "(ILMessengerBoard$Order;)I"⟩
def dkwX1_of_4 : List UInt8 := [43, 180, 0, 56, 167, 0, 14, 43, 180, 0, 58, 167, 0, 7, 43, 180, 0, 60, 172]
abbrev dktX1_of_4 : List UInt8 := dkwX1_of_4 ++ []
def dkwX1_of_3 : List UInt8 := [180, 0, 50, 167, 0, 39, 43, 180, 0, 52, 4, 96, 167, 0, 30, 43, 180, 0, 54, 4, 96, 167, 0, 21]
abbrev dktX1_of_3 : List UInt8 := dkwX1_of_3 ++ dktX1_of_4
def dkwX1_of_2 : List UInt8 := [43, 180, 0, 40, 167, 0, 60, 43, 180, 0, 46, 167, 0, 53, 43, 180, 0, 48, 167, 0, 46, 43]
abbrev dktX1_of_2 : List UInt8 := dkwX1_of_2 ++ dktX1_of_3
def dkwX1_of_1 : List UInt8 := [170, 0, 0, 0, 0, 0, 107, 0, 0, 0, 0, 0, 0, 0, 7, 0, 0, 0, 47, 0, 0, 0, 54, 0, 0, 0, 61, 0, 0, 0, 68, 0, 0, 0, 75, 0, 0, 0, 84, 0, 0, 0, 93, 0, 0, 0, 100]
abbrev dktX1_of_1 : List UInt8 := dkwX1_of_1 ++ dktX1_of_2
def dkwX1_of_0 : List UInt8 := [26]
abbrev dktX1_of_0 : List UInt8 := dkwX1_of_0 ++ dktX1_of_1
theorem dksX1_of_0 : cX1_of.data.toList.drop 0 = dktX1_of_0 := by decide +kernel
theorem dksX1_of_1 : cX1_of.data.toList.drop 1 = dktX1_of_1 := dk_seg dksX1_of_0 1 rfl rfl
theorem dksX1_of_2 : cX1_of.data.toList.drop 48 = dktX1_of_2 := dk_seg dksX1_of_1 47 rfl rfl
theorem dksX1_of_3 : cX1_of.data.toList.drop 70 = dktX1_of_3 := dk_seg dksX1_of_2 22 rfl rfl
theorem dksX1_of_4 : cX1_of.data.toList.drop 94 = dktX1_of_4 := dk_seg dksX1_of_3 24 rfl rfl
theorem dX1_of_0 : decode cX1_of 0 = .ok (.iload_n 0, 1) := dk_26 (dk_at dksX1_of_0 0 rfl rfl)
theorem dX1_of_1 : decode cX1_of 1 = .ok (.tableswitch 107 0 7 #[47, 54, 61, 68, 75, 84, 93, 100], 47) := by decide +kernel
theorem dX1_of_48 : decode cX1_of 48 = .ok (.aload_n 1, 1) := dk_43 (dk_at dksX1_of_2 0 rfl rfl)
theorem dX1_of_49 : decode cX1_of 49 = .ok (.getfield 40, 3) := dk_180 0 40 (dk_at dksX1_of_2 1 rfl rfl)
theorem dX1_of_52 : decode cX1_of 52 = .ok (.goto 60, 3) := dk_167 0 60 (dk_at dksX1_of_2 4 rfl rfl)
theorem dX1_of_55 : decode cX1_of 55 = .ok (.aload_n 1, 1) := dk_43 (dk_at dksX1_of_2 7 rfl rfl)
theorem dX1_of_56 : decode cX1_of 56 = .ok (.getfield 46, 3) := dk_180 0 46 (dk_at dksX1_of_2 8 rfl rfl)
theorem dX1_of_59 : decode cX1_of 59 = .ok (.goto 53, 3) := dk_167 0 53 (dk_at dksX1_of_2 11 rfl rfl)
theorem dX1_of_62 : decode cX1_of 62 = .ok (.aload_n 1, 1) := dk_43 (dk_at dksX1_of_2 14 rfl rfl)
theorem dX1_of_63 : decode cX1_of 63 = .ok (.getfield 48, 3) := dk_180 0 48 (dk_at dksX1_of_2 15 rfl rfl)
theorem dX1_of_66 : decode cX1_of 66 = .ok (.goto 46, 3) := dk_167 0 46 (dk_at dksX1_of_2 18 rfl rfl)
theorem dX1_of_69 : decode cX1_of 69 = .ok (.aload_n 1, 1) := dk_43 (dk_at dksX1_of_2 21 rfl rfl)
theorem dX1_of_70 : decode cX1_of 70 = .ok (.getfield 50, 3) := dk_180 0 50 (dk_at dksX1_of_3 0 rfl rfl)
theorem dX1_of_73 : decode cX1_of 73 = .ok (.goto 39, 3) := dk_167 0 39 (dk_at dksX1_of_3 3 rfl rfl)
theorem dX1_of_76 : decode cX1_of 76 = .ok (.aload_n 1, 1) := dk_43 (dk_at dksX1_of_3 6 rfl rfl)
theorem dX1_of_77 : decode cX1_of 77 = .ok (.getfield 52, 3) := dk_180 0 52 (dk_at dksX1_of_3 7 rfl rfl)
theorem dX1_of_80 : decode cX1_of 80 = .ok (.iconst 1, 1) := dk_4 (dk_at dksX1_of_3 10 rfl rfl)
theorem dX1_of_81 : decode cX1_of 81 = .ok (.iadd, 1) := dk_96 (dk_at dksX1_of_3 11 rfl rfl)
theorem dX1_of_82 : decode cX1_of 82 = .ok (.goto 30, 3) := dk_167 0 30 (dk_at dksX1_of_3 12 rfl rfl)
theorem dX1_of_85 : decode cX1_of 85 = .ok (.aload_n 1, 1) := dk_43 (dk_at dksX1_of_3 15 rfl rfl)
theorem dX1_of_86 : decode cX1_of 86 = .ok (.getfield 54, 3) := dk_180 0 54 (dk_at dksX1_of_3 16 rfl rfl)
theorem dX1_of_89 : decode cX1_of 89 = .ok (.iconst 1, 1) := dk_4 (dk_at dksX1_of_3 19 rfl rfl)
theorem dX1_of_90 : decode cX1_of 90 = .ok (.iadd, 1) := dk_96 (dk_at dksX1_of_3 20 rfl rfl)
theorem dX1_of_91 : decode cX1_of 91 = .ok (.goto 21, 3) := dk_167 0 21 (dk_at dksX1_of_3 21 rfl rfl)
theorem dX1_of_94 : decode cX1_of 94 = .ok (.aload_n 1, 1) := dk_43 (dk_at dksX1_of_4 0 rfl rfl)
theorem dX1_of_95 : decode cX1_of 95 = .ok (.getfield 56, 3) := dk_180 0 56 (dk_at dksX1_of_4 1 rfl rfl)
theorem dX1_of_98 : decode cX1_of 98 = .ok (.goto 14, 3) := dk_167 0 14 (dk_at dksX1_of_4 4 rfl rfl)
theorem dX1_of_101 : decode cX1_of 101 = .ok (.aload_n 1, 1) := dk_43 (dk_at dksX1_of_4 7 rfl rfl)
theorem dX1_of_102 : decode cX1_of 102 = .ok (.getfield 58, 3) := dk_180 0 58 (dk_at dksX1_of_4 8 rfl rfl)
theorem dX1_of_105 : decode cX1_of 105 = .ok (.goto 7, 3) := dk_167 0 7 (dk_at dksX1_of_4 11 rfl rfl)
theorem dX1_of_108 : decode cX1_of 108 = .ok (.aload_n 1, 1) := dk_43 (dk_at dksX1_of_4 14 rfl rfl)
theorem dX1_of_109 : decode cX1_of 109 = .ok (.getfield 60, 3) := dk_180 0 60 (dk_at dksX1_of_4 15 rfl rfl)
theorem dX1_of_112 : decode cX1_of 112 = .ok (.ireturn, 1) := dk_172 (dk_at dksX1_of_4 18 rfl rfl)
theorem q110 : (Jvm.Cond.initialized "MessengerBoard") ∈ lw_all := lw_g (lw_at lw_m1 1 rfl) rfl
theorem q157 : (Jvm.Cond.instantiable "MessengerBoard" (8 : Nat)) ∈ lw_all := lw_g (lw_at lw_m1 48 rfl) rfl
theorem q159 : (Jvm.Cond.instanceMethod ({ cls := "MessengerBoard", name := "<init>", desc := "()V" } : Jvm.MethodName)) ∈ lw_all := lw_g (lw_at lw_m1 50 rfl) rfl
theorem q160 : (Jvm.Cond.code ({ cls := "MessengerBoard", name := "<init>", desc := "()V" } : Jvm.MethodName) prog_1_method_7_code (1 : Nat) (Option.none : Option Jvm.ClassFile.FieldType)) ∈ lw_all := lw_g (lw_at lw_m1 51 rfl) rfl
theorem q161 : (Jvm.Cond.methodLink "MessengerBoard" (62 : Nat) ({ cls := "java/lang/Object", name := "<init>", desc := "()V" } : Jvm.MethodName)) ∈ lw_all := lw_g (lw_at lw_m1 52 rfl) rfl
theorem q164 : (Jvm.Cond.classLink "MessengerBoard" (65 : Nat) "MessengerBoard$Ways") ∈ lw_all := lw_g (lw_at lw_m1 55 rfl) rfl
theorem q166 : (Jvm.Cond.methodLinkNest "MessengerBoard" (67 : Nat) ({ cls := "MessengerBoard$Ways", name := "<init>", desc := "()V" } : Jvm.MethodName) "MessengerBoard") ∈ lw_tbl := lw_at lw_m1 57 rfl
theorem q178 : (Jvm.Cond.classLink "MessengerBoard" (72 : Nat) "MessengerBoard$State") ∈ lw_all := lw_g (lw_at lw_m1 69 rfl) rfl
theorem q180 : (Jvm.Cond.methodLink "MessengerBoard" (74 : Nat) ({ cls := "MessengerBoard$State", name := "<init>", desc := "(IILMessengerBoard$Ways;)V" } : Jvm.MethodName)) ∈ lw_all := lw_g (lw_at lw_m1 71 rfl) rfl
theorem q213 : (Jvm.Cond.fieldLinkNest "MessengerBoard" (167 : Nat) "MessengerBoard$State" "width" "I" "MessengerBoard") ∈ lw_tbl := lw_at lw_m1 104 rfl
theorem q216 : (Jvm.Cond.fieldLinkNest "MessengerBoard" (170 : Nat) "MessengerBoard$State" "height" "I" "MessengerBoard") ∈ lw_tbl := lw_at lw_m1 107 rfl
theorem q219 : (Jvm.Cond.fieldLinkNest "MessengerBoard" (403 : Nat) "MessengerBoard$State" "walls" "[Z" "MessengerBoard") ∈ lw_tbl := lw_at lw_m1 110 rfl
theorem q222 : (Jvm.Cond.fieldLinkNest "MessengerBoard" (153 : Nat) "MessengerBoard$State" "units" "Ljava/util/ArrayList;" "MessengerBoard") ∈ lw_tbl := lw_at lw_m1 113 rfl
theorem q225 : (Jvm.Cond.fieldLinkNest "MessengerBoard" (173 : Nat) "MessengerBoard$State" "pickets" "Ljava/util/ArrayList;" "MessengerBoard") ∈ lw_tbl := lw_at lw_m1 116 rfl
theorem q228 : (Jvm.Cond.fieldLinkNest "MessengerBoard" (188 : Nat) "MessengerBoard$State" "plans" "Ljava/util/ArrayList;" "MessengerBoard") ∈ lw_tbl := lw_at lw_m1 119 rfl
theorem q235 : (Jvm.Cond.fieldLinkNest "MessengerBoard" (176 : Nat) "MessengerBoard$State" "orders" "Ljava/util/ArrayList;" "MessengerBoard") ∈ lw_tbl := lw_at lw_m1 126 rfl
theorem q237 : (Jvm.Cond.fieldLinkNest "MessengerBoard" (185 : Nat) "MessengerBoard$State" "events" "Ljava/util/ArrayList;" "MessengerBoard") ∈ lw_tbl := lw_at lw_m1 128 rfl
theorem q239 : (Jvm.Cond.fieldLinkNest "MessengerBoard" (332 : Nat) "MessengerBoard$State" "places" "Ljava/util/ArrayList;" "MessengerBoard") ∈ lw_tbl := lw_at lw_m1 130 rfl
theorem q243 : (Jvm.Cond.fieldLinkNest "MessengerBoard" (194 : Nat) "MessengerBoard$State" "homeX" "I" "MessengerBoard") ∈ lw_tbl := lw_at lw_m1 134 rfl
theorem q246 : (Jvm.Cond.fieldLinkNest "MessengerBoard" (197 : Nat) "MessengerBoard$State" "homeY" "I" "MessengerBoard") ∈ lw_tbl := lw_at lw_m1 137 rfl
theorem q248 : (Jvm.Cond.fieldLinkNest "MessengerBoard" (179 : Nat) "MessengerBoard$State" "turn" "I" "MessengerBoard") ∈ lw_tbl := lw_at lw_m1 139 rfl
theorem q251 : (Jvm.Cond.fieldLinkNest "MessengerBoard" (191 : Nat) "MessengerBoard$State" "patience" "I" "MessengerBoard") ∈ lw_tbl := lw_at lw_m1 142 rfl
theorem q281 : (Jvm.Cond.classLink "MessengerBoard" (81 : Nat) "java/util/ArrayDeque") ∈ lw_all := lw_g (lw_at lw_m1 172 rfl) rfl
theorem q283 : (Jvm.Cond.methodLink "MessengerBoard" (83 : Nat) ({ cls := "java/util/ArrayDeque", name := "<init>", desc := "()V" } : Jvm.MethodName)) ∈ lw_all := lw_g (lw_at lw_m1 174 rfl) rfl
theorem q299 : (Jvm.Cond.stringRef "MessengerBoard" (95 : Nat) "") ∈ lw_tbl := lw_at lw_m1 190 rfl
theorem q301 : (Jvm.Cond.fieldLink "MessengerBoard" (68 : Nat) "MessengerBoard" "ways" "LMessengerBoard$Ways;") ∈ lw_all := lw_g (lw_at lw_m1 192 rfl) rfl
theorem q303 : (Jvm.Cond.fieldLink "MessengerBoard" (77 : Nat) "MessengerBoard" "now" "LMessengerBoard$State;") ∈ lw_all := lw_g (lw_at lw_m1 194 rfl) rfl
theorem q304 : (Jvm.Cond.fieldLink "MessengerBoard" (150 : Nat) "MessengerBoard" "snapshot" "LMessengerBoard$State;") ∈ lw_all := lw_g (lw_at lw_m1 195 rfl) rfl
theorem q305 : (Jvm.Cond.fieldLink "MessengerBoard" (84 : Nat) "MessengerBoard" "history" "Ljava/util/ArrayDeque;") ∈ lw_all := lw_g (lw_at lw_m1 196 rfl) rfl
theorem q307 : (Jvm.Cond.fieldLink "MessengerBoard" (88 : Nat) "MessengerBoard" "buffer" "[B") ∈ lw_all := lw_g (lw_at lw_m1 198 rfl) rfl
theorem q308 : (Jvm.Cond.fieldLink "MessengerBoard" (101 : Nat) "MessengerBoard" "buffered" "I") ∈ lw_all := lw_g (lw_at lw_m1 199 rfl) rfl
theorem q309 : (Jvm.Cond.fieldLink "MessengerBoard" (92 : Nat) "MessengerBoard" "errorAt" "I") ∈ lw_all := lw_g (lw_at lw_m1 200 rfl) rfl
theorem q310 : (Jvm.Cond.fieldLink "MessengerBoard" (97 : Nat) "MessengerBoard" "formatted" "Ljava/lang/String;") ∈ lw_all := lw_g (lw_at lw_m1 201 rfl) rfl
theorem q311 : (Jvm.Cond.laysFinal "MessengerBoard" "MessengerBoard" "ways" "LMessengerBoard$Ways;") ∈ lw_all := lw_g (lw_at lw_m1 202 rfl) rfl
theorem q312 : (Jvm.Cond.soleField "MessengerBoard" "ways") ∈ lw_all := lw_g (lw_at lw_m1 203 rfl) rfl
theorem q313 : (Jvm.Cond.lays "MessengerBoard" "MessengerBoard" "now" "LMessengerBoard$State;") ∈ lw_all := lw_g (lw_at lw_m1 204 rfl) rfl
theorem q314 : (Jvm.Cond.soleField "MessengerBoard" "now") ∈ lw_all := lw_g (lw_at lw_m1 205 rfl) rfl
theorem q315 : (Jvm.Cond.lays "MessengerBoard" "MessengerBoard" "snapshot" "LMessengerBoard$State;") ∈ lw_all := lw_g (lw_at lw_m1 206 rfl) rfl
theorem q316 : (Jvm.Cond.soleField "MessengerBoard" "snapshot") ∈ lw_all := lw_g (lw_at lw_m1 207 rfl) rfl
theorem q317 : (Jvm.Cond.laysFinal "MessengerBoard" "MessengerBoard" "history" "Ljava/util/ArrayDeque;") ∈ lw_all := lw_g (lw_at lw_m1 208 rfl) rfl
theorem q318 : (Jvm.Cond.soleField "MessengerBoard" "history") ∈ lw_all := lw_g (lw_at lw_m1 209 rfl) rfl
theorem q319 : (Jvm.Cond.laysFinal "MessengerBoard" "MessengerBoard" "buffer" "[B") ∈ lw_all := lw_g (lw_at lw_m1 210 rfl) rfl
theorem q320 : (Jvm.Cond.soleField "MessengerBoard" "buffer") ∈ lw_all := lw_g (lw_at lw_m1 211 rfl) rfl
theorem q321 : (Jvm.Cond.lays "MessengerBoard" "MessengerBoard" "buffered" "I") ∈ lw_all := lw_g (lw_at lw_m1 212 rfl) rfl
theorem q322 : (Jvm.Cond.soleField "MessengerBoard" "buffered") ∈ lw_all := lw_g (lw_at lw_m1 213 rfl) rfl
theorem q323 : (Jvm.Cond.lays "MessengerBoard" "MessengerBoard" "errorAt" "I") ∈ lw_all := lw_g (lw_at lw_m1 214 rfl) rfl
theorem q324 : (Jvm.Cond.soleField "MessengerBoard" "errorAt") ∈ lw_all := lw_g (lw_at lw_m1 215 rfl) rfl
theorem q325 : (Jvm.Cond.lays "MessengerBoard" "MessengerBoard" "formatted" "Ljava/lang/String;") ∈ lw_all := lw_g (lw_at lw_m1 216 rfl) rfl
theorem q326 : (Jvm.Cond.soleField "MessengerBoard" "formatted") ∈ lw_all := lw_g (lw_at lw_m1 217 rfl) rfl
theorem q327 : (Jvm.Cond.superclass "MessengerBoard" "java/lang/Object") ∈ lw_all := lw_g (lw_at lw_m1 218 rfl) rfl
theorem q330 : (Jvm.Cond.instanceMethod ({ cls := "MessengerBoard", name := "feed", desc := "(IIIII)I" } : Jvm.MethodName)) ∈ lw_all := lw_g (lw_at lw_m1 221 rfl) rfl
theorem q331 : (Jvm.Cond.selects "MessengerBoard" ({ cls := "MessengerBoard", name := "feed", desc := "(IIIII)I" } : Jvm.MethodName) ({ cls := "MessengerBoard", name := "feed", desc := "(IIIII)I" } : Jvm.MethodName)) ∈ lw_all := lw_g (lw_at lw_m1 222 rfl) rfl
theorem q332 : (Jvm.Cond.code ({ cls := "MessengerBoard", name := "feed", desc := "(IIIII)I" } : Jvm.MethodName) prog_1_method_8_code (6 : Nat) (Option.some Jvm.ClassFile.FieldType.int)) ∈ lw_all := lw_g (lw_at lw_m1 223 rfl) rfl
theorem q333 : (Jvm.Cond.methodLink "MessengerBoard" (104 : Nat) ({ cls := "MessengerBoard", name := "append", desc := "(I)V" } : Jvm.MethodName)) ∈ lw_all := lw_g (lw_at lw_m1 224 rfl) rfl
theorem q334 : (Jvm.Cond.privateMethod ({ cls := "MessengerBoard", name := "append", desc := "(I)V" } : Jvm.MethodName)) ∈ lw_tbl := lw_at lw_m1 225 rfl
theorem q335 : (Jvm.Cond.instanceMethod ({ cls := "MessengerBoard", name := "append", desc := "(I)V" } : Jvm.MethodName)) ∈ lw_all := lw_g (lw_at lw_m1 226 rfl) rfl
theorem q336 : (Jvm.Cond.code ({ cls := "MessengerBoard", name := "append", desc := "(I)V" } : Jvm.MethodName) prog_1_method_9_code (3 : Nat) (Option.none : Option Jvm.ClassFile.FieldType)) ∈ lw_all := lw_g (lw_at lw_m1 227 rfl) rfl
theorem q338 : (Jvm.Cond.instanceMethod ({ cls := "MessengerBoard", name := "errorPosition", desc := "()I" } : Jvm.MethodName)) ∈ lw_all := lw_g (lw_at lw_m1 229 rfl) rfl
theorem q339 : (Jvm.Cond.selects "MessengerBoard" ({ cls := "MessengerBoard", name := "errorPosition", desc := "()I" } : Jvm.MethodName) ({ cls := "MessengerBoard", name := "errorPosition", desc := "()I" } : Jvm.MethodName)) ∈ lw_all := lw_g (lw_at lw_m1 230 rfl) rfl
theorem q340 : (Jvm.Cond.code ({ cls := "MessengerBoard", name := "errorPosition", desc := "()I" } : Jvm.MethodName) prog_1_method_13_code (1 : Nat) (Option.some Jvm.ClassFile.FieldType.int)) ∈ lw_all := lw_g (lw_at lw_m1 231 rfl) rfl
theorem q342 : (Jvm.Cond.instanceMethod ({ cls := "MessengerBoard", name := "crossed", desc := "()I" } : Jvm.MethodName)) ∈ lw_all := lw_g (lw_at lw_m1 233 rfl) rfl
theorem q343 : (Jvm.Cond.selects "MessengerBoard" ({ cls := "MessengerBoard", name := "crossed", desc := "()I" } : Jvm.MethodName) ({ cls := "MessengerBoard", name := "crossed", desc := "()I" } : Jvm.MethodName)) ∈ lw_all := lw_g (lw_at lw_m1 234 rfl) rfl
theorem q344 : (Jvm.Cond.code ({ cls := "MessengerBoard", name := "crossed", desc := "()I" } : Jvm.MethodName) prog_1_method_32_code (1 : Nat) (Option.some Jvm.ClassFile.FieldType.int)) ∈ lw_all := lw_g (lw_at lw_m1 235 rfl) rfl
theorem q345 : (Jvm.Cond.methodLink "MessengerBoard" (336 : Nat) ({ cls := "MessengerBoard$State", name := "crossed", desc := "()I" } : Jvm.MethodName)) ∈ lw_all := lw_g (lw_at lw_m1 236 rfl) rfl
theorem q373 : (Jvm.Cond.static ({ cls := "MessengerBoard", name := "asInt", desc := "(Z)I" } : Jvm.MethodName)) ∈ lw_all := lw_g (lw_at lw_m2 24 rfl) rfl
theorem q374 : (Jvm.Cond.code ({ cls := "MessengerBoard", name := "asInt", desc := "(Z)I" } : Jvm.MethodName) prog_1_method_2_code (1 : Nat) (Option.some Jvm.ClassFile.FieldType.int)) ∈ lw_all := lw_g (lw_at lw_m2 25 rfl) rfl
theorem q376 : (Jvm.Cond.instanceMethod ({ cls := "MessengerBoard", name := "meanDelay", desc := "()D" } : Jvm.MethodName)) ∈ lw_all := lw_g (lw_at lw_m2 27 rfl) rfl
theorem q377 : (Jvm.Cond.selects "MessengerBoard" ({ cls := "MessengerBoard", name := "meanDelay", desc := "()D" } : Jvm.MethodName) ({ cls := "MessengerBoard", name := "meanDelay", desc := "()D" } : Jvm.MethodName)) ∈ lw_all := lw_g (lw_at lw_m2 28 rfl) rfl
theorem q378 : (Jvm.Cond.code ({ cls := "MessengerBoard", name := "meanDelay", desc := "()D" } : Jvm.MethodName) prog_1_method_39_code (5 : Nat) (Option.some Jvm.ClassFile.FieldType.double)) ∈ lw_all := lw_g (lw_at lw_m2 29 rfl) rfl
theorem q379 : (Jvm.Cond.methodLink "MessengerBoard" (157 : Nat) ({ cls := "java/util/ArrayList", name := "size", desc := "()I" } : Jvm.MethodName)) ∈ lw_all := lw_g (lw_at lw_m2 30 rfl) rfl
theorem q380 : (Jvm.Cond.methodLink "MessengerBoard" (200 : Nat) ({ cls := "java/util/ArrayList", name := "get", desc := "(I)Ljava/lang/Object;" } : Jvm.MethodName)) ∈ lw_all := lw_g (lw_at lw_m2 31 rfl) rfl
theorem q381 : (Jvm.Cond.classLink "MessengerBoard" (41 : Nat) "MessengerBoard$Order") ∈ lw_all := lw_g (lw_at lw_m2 32 rfl) rfl
theorem q382 : (Jvm.Cond.methodLink "MessengerBoard" (366 : Nat) ({ cls := "MessengerBoard$Order", name := "hasArrived", desc := "()Z" } : Jvm.MethodName)) ∈ lw_all := lw_g (lw_at lw_m2 33 rfl) rfl
theorem q384 : (Jvm.Cond.instanceMethod ({ cls := "MessengerBoard", name := "success", desc := "()F" } : Jvm.MethodName)) ∈ lw_all := lw_g (lw_at lw_m2 35 rfl) rfl
theorem q385 : (Jvm.Cond.selects "MessengerBoard" ({ cls := "MessengerBoard", name := "success", desc := "()F" } : Jvm.MethodName) ({ cls := "MessengerBoard", name := "success", desc := "()F" } : Jvm.MethodName)) ∈ lw_all := lw_g (lw_at lw_m2 36 rfl) rfl
theorem q386 : (Jvm.Cond.code ({ cls := "MessengerBoard", name := "success", desc := "()F" } : Jvm.MethodName) prog_1_method_40_code (1 : Nat) (Option.some Jvm.ClassFile.FieldType.float)) ∈ lw_all := lw_g (lw_at lw_m2 37 rfl) rfl
theorem q387 : (Jvm.Cond.methodLink "MessengerBoard" (370 : Nat) ({ cls := "java/util/ArrayList", name := "isEmpty", desc := "()Z" } : Jvm.MethodName)) ∈ lw_all := lw_g (lw_at lw_m2 38 rfl) rfl
theorem q391 : (Jvm.Cond.methodLink "MessengerBoard" (298 : Nat) ({ cls := "MessengerBoard$State", name := "inState", desc := "(I)I" } : Jvm.MethodName)) ∈ lw_all := lw_g (lw_at lw_m2 42 rfl) rfl
theorem q396 : (Jvm.Cond.instanceMethod ({ cls := "MessengerBoard", name := "undoCount", desc := "()I" } : Jvm.MethodName)) ∈ lw_all := lw_g (lw_at lw_m2 47 rfl) rfl
theorem q397 : (Jvm.Cond.selects "MessengerBoard" ({ cls := "MessengerBoard", name := "undoCount", desc := "()I" } : Jvm.MethodName) ({ cls := "MessengerBoard", name := "undoCount", desc := "()I" } : Jvm.MethodName)) ∈ lw_all := lw_g (lw_at lw_m2 48 rfl) rfl
theorem q398 : (Jvm.Cond.code ({ cls := "MessengerBoard", name := "undoCount", desc := "()I" } : Jvm.MethodName) prog_1_method_48_code (1 : Nat) (Option.some Jvm.ClassFile.FieldType.int)) ∈ lw_all := lw_g (lw_at lw_m2 49 rfl) rfl
theorem q399 : (Jvm.Cond.methodLink "MessengerBoard" (373 : Nat) ({ cls := "java/util/ArrayDeque", name := "size", desc := "()I" } : Jvm.MethodName)) ∈ lw_all := lw_g (lw_at lw_m2 50 rfl) rfl
theorem q407 : (Jvm.Cond.instanceMethod ({ cls := "MessengerBoard", name := "undo", desc := "()I" } : Jvm.MethodName)) ∈ lw_all := lw_g (lw_at lw_m2 58 rfl) rfl
theorem q408 : (Jvm.Cond.selects "MessengerBoard" ({ cls := "MessengerBoard", name := "undo", desc := "()I" } : Jvm.MethodName) ({ cls := "MessengerBoard", name := "undo", desc := "()I" } : Jvm.MethodName)) ∈ lw_all := lw_g (lw_at lw_m2 59 rfl) rfl
theorem q409 : (Jvm.Cond.code ({ cls := "MessengerBoard", name := "undo", desc := "()I" } : Jvm.MethodName) prog_1_method_49_code (1 : Nat) (Option.some Jvm.ClassFile.FieldType.int)) ∈ lw_all := lw_g (lw_at lw_m2 60 rfl) rfl
theorem q410 : (Jvm.Cond.methodLink "MessengerBoard" (422 : Nat) ({ cls := "java/util/ArrayDeque", name := "isEmpty", desc := "()Z" } : Jvm.MethodName)) ∈ lw_all := lw_g (lw_at lw_m2 61 rfl) rfl
theorem q414 : (Jvm.Cond.methodLink "MessengerBoard" (423 : Nat) ({ cls := "java/util/ArrayDeque", name := "removeLast", desc := "()Ljava/lang/Object;" } : Jvm.MethodName)) ∈ lw_all := lw_g (lw_at lw_m2 65 rfl) rfl
theorem q493 : (Jvm.Cond.instanceMethod ({ cls := "MessengerBoard", name := "saveSnapshot", desc := "()V" } : Jvm.MethodName)) ∈ lw_all := lw_g (lw_at lw_m2 144 rfl) rfl
theorem q494 : (Jvm.Cond.selects "MessengerBoard" ({ cls := "MessengerBoard", name := "saveSnapshot", desc := "()V" } : Jvm.MethodName) ({ cls := "MessengerBoard", name := "saveSnapshot", desc := "()V" } : Jvm.MethodName)) ∈ lw_all := lw_g (lw_at lw_m2 145 rfl) rfl
theorem q495 : (Jvm.Cond.code ({ cls := "MessengerBoard", name := "saveSnapshot", desc := "()V" } : Jvm.MethodName) prog_1_method_50_code (1 : Nat) (Option.none : Option Jvm.ClassFile.FieldType)) ∈ lw_all := lw_g (lw_at lw_m2 146 rfl) rfl
theorem q497 : (Jvm.Cond.instanceMethod ({ cls := "MessengerBoard", name := "restoreSnapshot", desc := "()Z" } : Jvm.MethodName)) ∈ lw_all := lw_g (lw_at lw_m2 148 rfl) rfl
theorem q498 : (Jvm.Cond.selects "MessengerBoard" ({ cls := "MessengerBoard", name := "restoreSnapshot", desc := "()Z" } : Jvm.MethodName) ({ cls := "MessengerBoard", name := "restoreSnapshot", desc := "()Z" } : Jvm.MethodName)) ∈ lw_all := lw_g (lw_at lw_m2 149 rfl) rfl
theorem q499 : (Jvm.Cond.code ({ cls := "MessengerBoard", name := "restoreSnapshot", desc := "()Z" } : Jvm.MethodName) prog_1_method_51_code (1 : Nat) (Option.some Jvm.ClassFile.FieldType.boolean)) ∈ lw_all := lw_g (lw_at lw_m2 150 rfl) rfl
theorem q500 : (Jvm.Cond.methodLink "MessengerBoard" (147 : Nat) ({ cls := "java/util/ArrayDeque", name := "clear", desc := "()V" } : Jvm.MethodName)) ∈ lw_all := lw_g (lw_at lw_m2 151 rfl) rfl
theorem q508 : (Jvm.Cond.instanceMethod ({ cls := "MessengerBoard", name := "formattedByte", desc := "(I)I" } : Jvm.MethodName)) ∈ lw_all := lw_g (lw_at lw_m2 159 rfl) rfl
theorem q509 : (Jvm.Cond.selects "MessengerBoard" ({ cls := "MessengerBoard", name := "formattedByte", desc := "(I)I" } : Jvm.MethodName) ({ cls := "MessengerBoard", name := "formattedByte", desc := "(I)I" } : Jvm.MethodName)) ∈ lw_all := lw_g (lw_at lw_m2 160 rfl) rfl
theorem q510 : (Jvm.Cond.code ({ cls := "MessengerBoard", name := "formattedByte", desc := "(I)I" } : Jvm.MethodName) prog_1_method_54_code (2 : Nat) (Option.some Jvm.ClassFile.FieldType.int)) ∈ lw_all := lw_g (lw_at lw_m2 161 rfl) rfl
theorem q511 : (Jvm.Cond.methodLink "MessengerBoard" (440 : Nat) ({ cls := "java/lang/String", name := "length", desc := "()I" } : Jvm.MethodName)) ∈ lw_all := lw_g (lw_at lw_m2 162 rfl) rfl
theorem q521 : (Jvm.Cond.methodLink "MessengerBoard" (114 : Nat) ({ cls := "MessengerBoard", name := "isIn", desc := "(JJJ)Z" } : Jvm.MethodName)) ∈ lw_all := lw_g (lw_at lw_m2 172 rfl) rfl
theorem q522 : (Jvm.Cond.static ({ cls := "MessengerBoard", name := "isIn", desc := "(JJJ)Z" } : Jvm.MethodName)) ∈ lw_all := lw_g (lw_at lw_m2 173 rfl) rfl
theorem q523 : (Jvm.Cond.code ({ cls := "MessengerBoard", name := "isIn", desc := "(JJJ)Z" } : Jvm.MethodName) prog_1_method_1_code (6 : Nat) (Option.some Jvm.ClassFile.FieldType.boolean)) ∈ lw_all := lw_g (lw_at lw_m2 174 rfl) rfl
theorem q524 : (Jvm.Cond.methodLink "MessengerBoard" (443 : Nat) ({ cls := "java/lang/String", name := "charAt", desc := "(I)C" } : Jvm.MethodName)) ∈ lw_all := lw_g (lw_at lw_m2 175 rfl) rfl
theorem q565 : (Jvm.Cond.instanceMethod ({ cls := "MessengerBoard", name := "load", desc := "(I)I" } : Jvm.MethodName)) ∈ lw_all := lw_g (lw_at lw_m2 216 rfl) rfl
theorem q566 : (Jvm.Cond.selects "MessengerBoard" ({ cls := "MessengerBoard", name := "load", desc := "(I)I" } : Jvm.MethodName) ({ cls := "MessengerBoard", name := "load", desc := "(I)I" } : Jvm.MethodName)) ∈ lw_all := lw_g (lw_at lw_m2 217 rfl) rfl
theorem q567 : (Jvm.Cond.codeWith ({ cls := "MessengerBoard", name := "load", desc := "(I)I" } : Jvm.MethodName) prog_1_method_12_code (3 : Nat) (Option.some Jvm.ClassFile.FieldType.int) [((8 : Nat), (24 : Nat), (27 : Nat), (123 : Nat))]) ∈ lw_all := lw_g (lw_at lw_m2 218 rfl) rfl
theorem q568 : (Jvm.Cond.classLink "MessengerBoard" (123 : Nat) "MessengerBoard$TextError") ∈ lw_all := lw_g (lw_at lw_m2 219 rfl) rfl
theorem q569 : (Jvm.Cond.methodLink "MessengerBoard" (130 : Nat) ({ cls := "MessengerBoard", name := "startReading", desc := "(II)V" } : Jvm.MethodName)) ∈ lw_all := lw_g (lw_at lw_m2 220 rfl) rfl
theorem q570 : (Jvm.Cond.privateMethod ({ cls := "MessengerBoard", name := "startReading", desc := "(II)V" } : Jvm.MethodName)) ∈ lw_tbl := lw_at lw_m2 221 rfl
theorem q571 : (Jvm.Cond.instanceMethod ({ cls := "MessengerBoard", name := "startReading", desc := "(II)V" } : Jvm.MethodName)) ∈ lw_all := lw_g (lw_at lw_m2 222 rfl) rfl
theorem q572 : (Jvm.Cond.code ({ cls := "MessengerBoard", name := "startReading", desc := "(II)V" } : Jvm.MethodName) prog_1_method_10_code (3 : Nat) (Option.none : Option Jvm.ClassFile.FieldType)) ∈ lw_all := lw_g (lw_at lw_m2 223 rfl) rfl
theorem q573 : (Jvm.Cond.methodLink "MessengerBoard" (108 : Nat) ({ cls := "java/lang/Math", name := "min", desc := "(II)I" } : Jvm.MethodName)) ∈ lw_all := lw_g (lw_at lw_m2 224 rfl) rfl
theorem q576 : (Jvm.Cond.methodLink "MessengerBoard" (118 : Nat) ({ cls := "MessengerBoard", name := "requireArgument", desc := "(Z)V" } : Jvm.MethodName)) ∈ lw_all := lw_g (lw_at lw_m2 227 rfl) rfl
theorem q577 : (Jvm.Cond.static ({ cls := "MessengerBoard", name := "requireArgument", desc := "(Z)V" } : Jvm.MethodName)) ∈ lw_all := lw_g (lw_at lw_m2 228 rfl) rfl
theorem q578 : (Jvm.Cond.code ({ cls := "MessengerBoard", name := "requireArgument", desc := "(Z)V" } : Jvm.MethodName) prog_1_method_3_code (1 : Nat) (Option.none : Option Jvm.ClassFile.FieldType)) ∈ lw_all := lw_g (lw_at lw_m2 229 rfl) rfl
theorem q579 : (Jvm.Cond.classLink "MessengerBoard" (1 : Nat) "java/lang/IllegalArgumentException") ∈ lw_all := lw_g (lw_at lw_m2 230 rfl) rfl
theorem q588 : (Jvm.Cond.methodLink "MessengerBoard" (3 : Nat) ({ cls := "java/lang/IllegalArgumentException", name := "<init>", desc := "()V" } : Jvm.MethodName)) ∈ lw_all := lw_g (lw_at lw_m2 239 rfl) rfl
theorem q594 : (Jvm.Cond.classLink "MessengerBoard" (134 : Nat) "MessengerBoard$BoardParser") ∈ lw_all := lw_g (lw_at lw_m3 5 rfl) rfl
theorem q596 : (Jvm.Cond.methodLink "MessengerBoard" (136 : Nat) ({ cls := "MessengerBoard$BoardParser", name := "<init>", desc := "(LMessengerBoard;I)V" } : Jvm.MethodName)) ∈ lw_all := lw_g (lw_at lw_m3 7 rfl) rfl
theorem q930 : (Jvm.Cond.methodLink "MessengerBoard" (139 : Nat) ({ cls := "MessengerBoard$BoardParser", name := "parse", desc := "()LMessengerBoard$State;" } : Jvm.MethodName)) ∈ lw_all := lw_g (lw_at lw_m4 101 rfl) rfl
theorem q982 : (Jvm.Cond.fieldLinkNest "MessengerBoard" (127 : Nat) "MessengerBoard$TextError" "code" "I" "MessengerBoard") ∈ lw_tbl := lw_at lw_m4 153 rfl
theorem q984 : (Jvm.Cond.fieldLinkNest "MessengerBoard" (122 : Nat) "MessengerBoard$TextError" "position" "I" "MessengerBoard") ∈ lw_tbl := lw_at lw_m4 155 rfl
theorem q1133 : (Jvm.Cond.fieldLinkNest "MessengerBoard" (226 : Nat) "MessengerBoard$Unit" "pace" "I" "MessengerBoard") ∈ lw_tbl := lw_at lw_m5 64 rfl
theorem q1136 : (Jvm.Cond.fieldLinkNest "MessengerBoard" (224 : Nat) "MessengerBoard$Unit" "x" "I" "MessengerBoard") ∈ lw_tbl := lw_at lw_m5 67 rfl
theorem q1139 : (Jvm.Cond.fieldLinkNest "MessengerBoard" (225 : Nat) "MessengerBoard$Unit" "y" "I" "MessengerBoard") ∈ lw_tbl := lw_at lw_m5 70 rfl
theorem q1142 : (Jvm.Cond.fieldLinkNest "MessengerBoard" (229 : Nat) "MessengerBoard$Unit" "latest" "I" "MessengerBoard") ∈ lw_tbl := lw_at lw_m5 73 rfl
theorem q1175 : (Jvm.Cond.selects "MessengerBoard" ({ cls := "java/lang/Object", name := "getClass", desc := "()Ljava/lang/Class;" } : Jvm.MethodName) ({ cls := "java/lang/Object", name := "getClass", desc := "()Ljava/lang/Class;" } : Jvm.MethodName)) ∈ lw_all := lw_g (lw_at lw_m5 106 rfl) rfl
theorem q1225 : (Jvm.Cond.fieldLinkNest "MessengerBoard" (244 : Nat) "MessengerBoard$Picket" "range" "I" "MessengerBoard") ∈ lw_tbl := lw_at lw_m5 156 rfl
theorem q1227 : (Jvm.Cond.fieldLinkNest "MessengerBoard" (247 : Nat) "MessengerBoard$Picket" "period" "I" "MessengerBoard") ∈ lw_tbl := lw_at lw_m5 158 rfl
theorem q1229 : (Jvm.Cond.fieldLinkNest "MessengerBoard" (250 : Nat) "MessengerBoard$Picket" "first" "I" "MessengerBoard") ∈ lw_tbl := lw_at lw_m5 160 rfl
theorem q1231 : (Jvm.Cond.fieldLinkNest "MessengerBoard" (253 : Nat) "MessengerBoard$Picket" "last" "I" "MessengerBoard") ∈ lw_tbl := lw_at lw_m5 162 rfl
theorem q1233 : (Jvm.Cond.fieldLinkNest "MessengerBoard" (242 : Nat) "MessengerBoard$Picket" "x" "I" "MessengerBoard") ∈ lw_tbl := lw_at lw_m5 164 rfl
theorem q1235 : (Jvm.Cond.fieldLinkNest "MessengerBoard" (243 : Nat) "MessengerBoard$Picket" "y" "I" "MessengerBoard") ∈ lw_tbl := lw_at lw_m5 166 rfl
theorem q1238 : (Jvm.Cond.fieldLinkNest "MessengerBoard" (264 : Nat) "MessengerBoard$Picket" "caught" "I" "MessengerBoard") ∈ lw_tbl := lw_at lw_m5 169 rfl
theorem q1266 : (Jvm.Cond.fieldLinkNest "MessengerBoard" (284 : Nat) "MessengerBoard$Plan" "unit" "I" "MessengerBoard") ∈ lw_tbl := lw_at lw_m5 197 rfl
theorem q1269 : (Jvm.Cond.fieldLinkNest "MessengerBoard" (285 : Nat) "MessengerBoard$Plan" "x" "I" "MessengerBoard") ∈ lw_tbl := lw_at lw_m5 200 rfl
theorem q1272 : (Jvm.Cond.fieldLinkNest "MessengerBoard" (286 : Nat) "MessengerBoard$Plan" "y" "I" "MessengerBoard") ∈ lw_tbl := lw_at lw_m5 203 rfl
theorem q1275 : (Jvm.Cond.fieldLinkNest "MessengerBoard" (287 : Nat) "MessengerBoard$Plan" "turn" "I" "MessengerBoard") ∈ lw_tbl := lw_at lw_m5 206 rfl
theorem q1285 : (Jvm.Cond.methodLink "MessengerBoard" (143 : Nat) ({ cls := "MessengerBoard", name := "failed", desc := "(LMessengerBoard$TextError;I)I" } : Jvm.MethodName)) ∈ lw_all := lw_g (lw_at lw_m5 216 rfl) rfl
theorem q1286 : (Jvm.Cond.privateMethod ({ cls := "MessengerBoard", name := "failed", desc := "(LMessengerBoard$TextError;I)I" } : Jvm.MethodName)) ∈ lw_tbl := lw_at lw_m5 217 rfl
theorem q1287 : (Jvm.Cond.instanceMethod ({ cls := "MessengerBoard", name := "failed", desc := "(LMessengerBoard$TextError;I)I" } : Jvm.MethodName)) ∈ lw_all := lw_g (lw_at lw_m5 218 rfl) rfl
theorem q1288 : (Jvm.Cond.code ({ cls := "MessengerBoard", name := "failed", desc := "(LMessengerBoard$TextError;I)I" } : Jvm.MethodName) prog_1_method_11_code (3 : Nat) (Option.some Jvm.ClassFile.FieldType.int)) ∈ lw_all := lw_g (lw_at lw_m5 219 rfl) rfl
theorem q1294 : (Jvm.Cond.instanceMethod ({ cls := "MessengerBoard", name := "size", desc := "(I)I" } : Jvm.MethodName)) ∈ lw_all := lw_g (lw_at lw_m5 225 rfl) rfl
theorem q1295 : (Jvm.Cond.selects "MessengerBoard" ({ cls := "MessengerBoard", name := "size", desc := "(I)I" } : Jvm.MethodName) ({ cls := "MessengerBoard", name := "size", desc := "(I)I" } : Jvm.MethodName)) ∈ lw_all := lw_g (lw_at lw_m5 226 rfl) rfl
theorem q1296 : (Jvm.Cond.code ({ cls := "MessengerBoard", name := "size", desc := "(I)I" } : Jvm.MethodName) prog_1_method_14_code (2 : Nat) (Option.some Jvm.ClassFile.FieldType.int)) ∈ lw_all := lw_g (lw_at lw_m5 227 rfl) rfl
theorem q1297 : (Jvm.Cond.constantLong "MessengerBoard" (162 : Nat) (11 : Int64)) ∈ lw_all := lw_g (lw_at lw_m5 228 rfl) rfl
theorem q1298 : (Jvm.Cond.methodLink "MessengerBoard" (164 : Nat) ({ cls := "MessengerBoard", name := "requireElement", desc := "(Z)V" } : Jvm.MethodName)) ∈ lw_all := lw_g (lw_at lw_m5 229 rfl) rfl
theorem q1299 : (Jvm.Cond.static ({ cls := "MessengerBoard", name := "requireElement", desc := "(Z)V" } : Jvm.MethodName)) ∈ lw_all := lw_g (lw_at lw_m5 230 rfl) rfl
theorem q1300 : (Jvm.Cond.code ({ cls := "MessengerBoard", name := "requireElement", desc := "(Z)V" } : Jvm.MethodName) prog_1_method_4_code (1 : Nat) (Option.none : Option Jvm.ClassFile.FieldType)) ∈ lw_all := lw_g (lw_at lw_m5 231 rfl) rfl
theorem q1301 : (Jvm.Cond.classLink "MessengerBoard" (7 : Nat) "java/util/NoSuchElementException") ∈ lw_all := lw_g (lw_at lw_m5 232 rfl) rfl
theorem q1302 : (Jvm.Cond.methodLink "MessengerBoard" (9 : Nat) ({ cls := "java/util/NoSuchElementException", name := "<init>", desc := "()V" } : Jvm.MethodName)) ∈ lw_all := lw_g (lw_at lw_m5 233 rfl) rfl
theorem q1303 : (Jvm.Cond.methodLink "MessengerBoard" (182 : Nat) ({ cls := "MessengerBoard$State", name := "wallCount", desc := "()I" } : Jvm.MethodName)) ∈ lw_all := lw_g (lw_at lw_m5 234 rfl) rfl
theorem q1311 : (Jvm.Cond.instanceMethod ({ cls := "MessengerBoard", name := "unit", desc := "(II)I" } : Jvm.MethodName)) ∈ lw_all := lw_g (lw_at lw_m6 2 rfl) rfl
theorem q1312 : (Jvm.Cond.selects "MessengerBoard" ({ cls := "MessengerBoard", name := "unit", desc := "(II)I" } : Jvm.MethodName) ({ cls := "MessengerBoard", name := "unit", desc := "(II)I" } : Jvm.MethodName)) ∈ lw_all := lw_g (lw_at lw_m6 3 rfl) rfl
theorem q1313 : (Jvm.Cond.code ({ cls := "MessengerBoard", name := "unit", desc := "(II)I" } : Jvm.MethodName) prog_1_method_20_code (5 : Nat) (Option.some Jvm.ClassFile.FieldType.int)) ∈ lw_all := lw_g (lw_at lw_m6 4 rfl) rfl
theorem q1314 : (Jvm.Cond.methodLink "MessengerBoard" (214 : Nat) ({ cls := "MessengerBoard", name := "unitOf", desc := "(I)LMessengerBoard$Unit;" } : Jvm.MethodName)) ∈ lw_all := lw_g (lw_at lw_m6 5 rfl) rfl
theorem q1315 : (Jvm.Cond.privateMethod ({ cls := "MessengerBoard", name := "unitOf", desc := "(I)LMessengerBoard$Unit;" } : Jvm.MethodName)) ∈ lw_tbl := lw_at lw_m6 6 rfl
theorem q1316 : (Jvm.Cond.instanceMethod ({ cls := "MessengerBoard", name := "unitOf", desc := "(I)LMessengerBoard$Unit;" } : Jvm.MethodName)) ∈ lw_all := lw_g (lw_at lw_m6 7 rfl) rfl
theorem q1317 : (Jvm.Cond.code ({ cls := "MessengerBoard", name := "unitOf", desc := "(I)LMessengerBoard$Unit;" } : Jvm.MethodName) prog_1_method_15_code (2 : Nat) (Option.some (Jvm.ClassFile.FieldType.object "MessengerBoard$Unit"))) ∈ lw_all := lw_g (lw_at lw_m6 8 rfl) rfl
theorem q1318 : (Jvm.Cond.classLink "MessengerBoard" (204 : Nat) "MessengerBoard$Unit") ∈ lw_all := lw_g (lw_at lw_m6 9 rfl) rfl
theorem q1319 : (Jvm.Cond.constantLong "MessengerBoard" (218 : Nat) (5 : Int64)) ∈ lw_all := lw_g (lw_at lw_m6 10 rfl) rfl
theorem q1320 : (Jvm.Cond.methodLink "MessengerBoard" (220 : Nat) ({ cls := "MessengerBoard$State", name := "obeyed", desc := "(I)LMessengerBoard$Order;" } : Jvm.MethodName)) ∈ lw_all := lw_g (lw_at lw_m6 11 rfl) rfl
theorem q1324 : (Jvm.Cond.methodLink "MessengerBoard" (232 : Nat) ({ cls := "MessengerBoard$State", name := "underWayFor", desc := "(I)I" } : Jvm.MethodName)) ∈ lw_all := lw_g (lw_at lw_m6 15 rfl) rfl
theorem q1375 : (Jvm.Cond.instanceMethod ({ cls := "MessengerBoard", name := "picket", desc := "(II)I" } : Jvm.MethodName)) ∈ lw_all := lw_g (lw_at lw_m6 66 rfl) rfl
theorem q1376 : (Jvm.Cond.selects "MessengerBoard" ({ cls := "MessengerBoard", name := "picket", desc := "(II)I" } : Jvm.MethodName) ({ cls := "MessengerBoard", name := "picket", desc := "(II)I" } : Jvm.MethodName)) ∈ lw_all := lw_g (lw_at lw_m6 67 rfl) rfl
theorem q1377 : (Jvm.Cond.code ({ cls := "MessengerBoard", name := "picket", desc := "(II)I" } : Jvm.MethodName) prog_1_method_21_code (4 : Nat) (Option.some Jvm.ClassFile.FieldType.int)) ∈ lw_all := lw_g (lw_at lw_m6 68 rfl) rfl
theorem q1378 : (Jvm.Cond.methodLink "MessengerBoard" (236 : Nat) ({ cls := "MessengerBoard", name := "picketOf", desc := "(I)LMessengerBoard$Picket;" } : Jvm.MethodName)) ∈ lw_all := lw_g (lw_at lw_m6 69 rfl) rfl
theorem q1379 : (Jvm.Cond.privateMethod ({ cls := "MessengerBoard", name := "picketOf", desc := "(I)LMessengerBoard$Picket;" } : Jvm.MethodName)) ∈ lw_tbl := lw_at lw_m6 70 rfl
theorem q1380 : (Jvm.Cond.instanceMethod ({ cls := "MessengerBoard", name := "picketOf", desc := "(I)LMessengerBoard$Picket;" } : Jvm.MethodName)) ∈ lw_all := lw_g (lw_at lw_m6 71 rfl) rfl
theorem q1381 : (Jvm.Cond.code ({ cls := "MessengerBoard", name := "picketOf", desc := "(I)LMessengerBoard$Picket;" } : Jvm.MethodName) prog_1_method_16_code (2 : Nat) (Option.some (Jvm.ClassFile.FieldType.object "MessengerBoard$Picket"))) ∈ lw_all := lw_g (lw_at lw_m6 72 rfl) rfl
theorem q1382 : (Jvm.Cond.classLink "MessengerBoard" (206 : Nat) "MessengerBoard$Picket") ∈ lw_all := lw_g (lw_at lw_m6 73 rfl) rfl
theorem q1383 : (Jvm.Cond.constantLong "MessengerBoard" (240 : Nat) (7 : Int64)) ∈ lw_all := lw_g (lw_at lw_m6 74 rfl) rfl
theorem q1384 : (Jvm.Cond.methodLink "MessengerBoard" (256 : Nat) ({ cls := "MessengerBoard$Picket", name := "watches", desc := "(I)Z" } : Jvm.MethodName)) ∈ lw_all := lw_g (lw_at lw_m6 75 rfl) rfl
theorem q1389 : (Jvm.Cond.methodLink "MessengerBoard" (260 : Nat) ({ cls := "MessengerBoard", name := "asInt", desc := "(Z)I" } : Jvm.MethodName)) ∈ lw_all := lw_g (lw_at lw_m6 80 rfl) rfl
theorem q1394 : (Jvm.Cond.instanceMethod ({ cls := "MessengerBoard", name := "order", desc := "(II)I" } : Jvm.MethodName)) ∈ lw_all := lw_g (lw_at lw_m6 85 rfl) rfl
theorem q1395 : (Jvm.Cond.selects "MessengerBoard" ({ cls := "MessengerBoard", name := "order", desc := "(II)I" } : Jvm.MethodName) ({ cls := "MessengerBoard", name := "order", desc := "(II)I" } : Jvm.MethodName)) ∈ lw_all := lw_g (lw_at lw_m6 86 rfl) rfl
theorem q1396 : (Jvm.Cond.code ({ cls := "MessengerBoard", name := "order", desc := "(II)I" } : Jvm.MethodName) prog_1_method_22_code (4 : Nat) (Option.some Jvm.ClassFile.FieldType.int)) ∈ lw_all := lw_g (lw_at lw_m6 87 rfl) rfl
theorem q1397 : (Jvm.Cond.methodLink "MessengerBoard" (267 : Nat) ({ cls := "MessengerBoard", name := "orderOf", desc := "(I)LMessengerBoard$Order;" } : Jvm.MethodName)) ∈ lw_all := lw_g (lw_at lw_m6 88 rfl) rfl
theorem q1398 : (Jvm.Cond.privateMethod ({ cls := "MessengerBoard", name := "orderOf", desc := "(I)LMessengerBoard$Order;" } : Jvm.MethodName)) ∈ lw_tbl := lw_at lw_m6 89 rfl
theorem q1399 : (Jvm.Cond.instanceMethod ({ cls := "MessengerBoard", name := "orderOf", desc := "(I)LMessengerBoard$Order;" } : Jvm.MethodName)) ∈ lw_all := lw_g (lw_at lw_m6 90 rfl) rfl
theorem q1400 : (Jvm.Cond.code ({ cls := "MessengerBoard", name := "orderOf", desc := "(I)LMessengerBoard$Order;" } : Jvm.MethodName) prog_1_method_17_code (2 : Nat) (Option.some (Jvm.ClassFile.FieldType.object "MessengerBoard$Order"))) ∈ lw_all := lw_g (lw_at lw_m6 91 rfl) rfl
theorem q1401 : (Jvm.Cond.constantLong "MessengerBoard" (270 : Nat) (9 : Int64)) ∈ lw_all := lw_g (lw_at lw_m6 92 rfl) rfl
theorem q1406 : (Jvm.Cond.instanceMethod ({ cls := "MessengerBoard", name := "plan", desc := "(II)I" } : Jvm.MethodName)) ∈ lw_all := lw_g (lw_at lw_m6 97 rfl) rfl
theorem q1407 : (Jvm.Cond.selects "MessengerBoard" ({ cls := "MessengerBoard", name := "plan", desc := "(II)I" } : Jvm.MethodName) ({ cls := "MessengerBoard", name := "plan", desc := "(II)I" } : Jvm.MethodName)) ∈ lw_all := lw_g (lw_at lw_m6 98 rfl) rfl
theorem q1408 : (Jvm.Cond.code ({ cls := "MessengerBoard", name := "plan", desc := "(II)I" } : Jvm.MethodName) prog_1_method_23_code (4 : Nat) (Option.some Jvm.ClassFile.FieldType.int)) ∈ lw_all := lw_g (lw_at lw_m6 99 rfl) rfl
theorem q1409 : (Jvm.Cond.methodLink "MessengerBoard" (278 : Nat) ({ cls := "MessengerBoard", name := "planOf", desc := "(I)LMessengerBoard$Plan;" } : Jvm.MethodName)) ∈ lw_all := lw_g (lw_at lw_m6 100 rfl) rfl
theorem q1410 : (Jvm.Cond.privateMethod ({ cls := "MessengerBoard", name := "planOf", desc := "(I)LMessengerBoard$Plan;" } : Jvm.MethodName)) ∈ lw_tbl := lw_at lw_m6 101 rfl
theorem q1411 : (Jvm.Cond.instanceMethod ({ cls := "MessengerBoard", name := "planOf", desc := "(I)LMessengerBoard$Plan;" } : Jvm.MethodName)) ∈ lw_all := lw_g (lw_at lw_m6 102 rfl) rfl
theorem q1412 : (Jvm.Cond.code ({ cls := "MessengerBoard", name := "planOf", desc := "(I)LMessengerBoard$Plan;" } : Jvm.MethodName) prog_1_method_18_code (2 : Nat) (Option.some (Jvm.ClassFile.FieldType.object "MessengerBoard$Plan"))) ∈ lw_all := lw_g (lw_at lw_m6 103 rfl) rfl
theorem q1413 : (Jvm.Cond.classLink "MessengerBoard" (208 : Nat) "MessengerBoard$Plan") ∈ lw_all := lw_g (lw_at lw_m6 104 rfl) rfl
theorem q1414 : (Jvm.Cond.constantLong "MessengerBoard" (282 : Nat) (3 : Int64)) ∈ lw_all := lw_g (lw_at lw_m6 105 rfl) rfl
theorem q1419 : (Jvm.Cond.instanceMethod ({ cls := "MessengerBoard", name := "event", desc := "(II)I" } : Jvm.MethodName)) ∈ lw_all := lw_g (lw_at lw_m6 110 rfl) rfl
theorem q1420 : (Jvm.Cond.selects "MessengerBoard" ({ cls := "MessengerBoard", name := "event", desc := "(II)I" } : Jvm.MethodName) ({ cls := "MessengerBoard", name := "event", desc := "(II)I" } : Jvm.MethodName)) ∈ lw_all := lw_g (lw_at lw_m6 111 rfl) rfl
theorem q1421 : (Jvm.Cond.code ({ cls := "MessengerBoard", name := "event", desc := "(II)I" } : Jvm.MethodName) prog_1_method_24_code (4 : Nat) (Option.some Jvm.ClassFile.FieldType.int)) ∈ lw_all := lw_g (lw_at lw_m6 112 rfl) rfl
theorem q1422 : (Jvm.Cond.constantLong "MessengerBoard" (288 : Nat) (2 : Int64)) ∈ lw_all := lw_g (lw_at lw_m6 113 rfl) rfl
theorem q1423 : (Jvm.Cond.classLink "MessengerBoard" (290 : Nat) "MessengerBoard$Event") ∈ lw_all := lw_g (lw_at lw_m6 114 rfl) rfl
theorem q1428 : (Jvm.Cond.instanceMethod ({ cls := "MessengerBoard", name := "orders", desc := "(I)I" } : Jvm.MethodName)) ∈ lw_all := lw_g (lw_at lw_m6 119 rfl) rfl
theorem q1429 : (Jvm.Cond.selects "MessengerBoard" ({ cls := "MessengerBoard", name := "orders", desc := "(I)I" } : Jvm.MethodName) ({ cls := "MessengerBoard", name := "orders", desc := "(I)I" } : Jvm.MethodName)) ∈ lw_all := lw_g (lw_at lw_m6 120 rfl) rfl
theorem q1430 : (Jvm.Cond.code ({ cls := "MessengerBoard", name := "orders", desc := "(I)I" } : Jvm.MethodName) prog_1_method_25_code (2 : Nat) (Option.some Jvm.ClassFile.FieldType.int)) ∈ lw_all := lw_g (lw_at lw_m6 121 rfl) rfl
theorem q1431 : (Jvm.Cond.constantLong "MessengerBoard" (296 : Nat) (6 : Int64)) ∈ lw_all := lw_g (lw_at lw_m6 122 rfl) rfl
theorem q1436 : (Jvm.Cond.instanceMethod ({ cls := "MessengerBoard", name := "isWall", desc := "(II)Z" } : Jvm.MethodName)) ∈ lw_all := lw_g (lw_at lw_m6 127 rfl) rfl
theorem q1437 : (Jvm.Cond.selects "MessengerBoard" ({ cls := "MessengerBoard", name := "isWall", desc := "(II)Z" } : Jvm.MethodName) ({ cls := "MessengerBoard", name := "isWall", desc := "(II)Z" } : Jvm.MethodName)) ∈ lw_all := lw_g (lw_at lw_m6 128 rfl) rfl
theorem q1438 : (Jvm.Cond.code ({ cls := "MessengerBoard", name := "isWall", desc := "(II)Z" } : Jvm.MethodName) prog_1_method_26_code (3 : Nat) (Option.some Jvm.ClassFile.FieldType.boolean)) ∈ lw_all := lw_g (lw_at lw_m6 129 rfl) rfl
theorem q1439 : (Jvm.Cond.methodLink "MessengerBoard" (301 : Nat) ({ cls := "MessengerBoard", name := "requireCell", desc := "(II)V" } : Jvm.MethodName)) ∈ lw_all := lw_g (lw_at lw_m6 130 rfl) rfl
theorem q1440 : (Jvm.Cond.privateMethod ({ cls := "MessengerBoard", name := "requireCell", desc := "(II)V" } : Jvm.MethodName)) ∈ lw_tbl := lw_at lw_m6 131 rfl
theorem q1441 : (Jvm.Cond.instanceMethod ({ cls := "MessengerBoard", name := "requireCell", desc := "(II)V" } : Jvm.MethodName)) ∈ lw_all := lw_g (lw_at lw_m6 132 rfl) rfl
theorem q1442 : (Jvm.Cond.code ({ cls := "MessengerBoard", name := "requireCell", desc := "(II)V" } : Jvm.MethodName) prog_1_method_19_code (3 : Nat) (Option.none : Option Jvm.ClassFile.FieldType)) ∈ lw_all := lw_g (lw_at lw_m6 133 rfl) rfl
theorem q1443 : (Jvm.Cond.methodLink "MessengerBoard" (210 : Nat) ({ cls := "MessengerBoard$State", name := "isCell", desc := "(II)Z" } : Jvm.MethodName)) ∈ lw_all := lw_g (lw_at lw_m6 134 rfl) rfl
theorem q1448 : (Jvm.Cond.methodLink "MessengerBoard" (304 : Nat) ({ cls := "MessengerBoard$State", name := "isWall", desc := "(II)Z" } : Jvm.MethodName)) ∈ lw_all := lw_g (lw_at lw_m6 139 rfl) rfl
theorem q1453 : (Jvm.Cond.instanceMethod ({ cls := "MessengerBoard", name := "isWatched", desc := "(III)Z" } : Jvm.MethodName)) ∈ lw_all := lw_g (lw_at lw_m6 144 rfl) rfl
theorem q1454 : (Jvm.Cond.selects "MessengerBoard" ({ cls := "MessengerBoard", name := "isWatched", desc := "(III)Z" } : Jvm.MethodName) ({ cls := "MessengerBoard", name := "isWatched", desc := "(III)Z" } : Jvm.MethodName)) ∈ lw_all := lw_g (lw_at lw_m6 145 rfl) rfl
theorem q1455 : (Jvm.Cond.code ({ cls := "MessengerBoard", name := "isWatched", desc := "(III)Z" } : Jvm.MethodName) prog_1_method_27_code (4 : Nat) (Option.some Jvm.ClassFile.FieldType.boolean)) ∈ lw_all := lw_g (lw_at lw_m6 146 rfl) rfl
theorem q1456 : (Jvm.Cond.methodLink "MessengerBoard" (307 : Nat) ({ cls := "MessengerBoard$State", name := "watcher", desc := "(III)I" } : Jvm.MethodName)) ∈ lw_all := lw_g (lw_at lw_m6 147 rfl) rfl
theorem q1473 : (Jvm.Cond.instanceMethod ({ cls := "MessengerBoard", name := "distance", desc := "(IIII)I" } : Jvm.MethodName)) ∈ lw_all := lw_g (lw_at lw_m6 164 rfl) rfl
theorem q1474 : (Jvm.Cond.selects "MessengerBoard" ({ cls := "MessengerBoard", name := "distance", desc := "(IIII)I" } : Jvm.MethodName) ({ cls := "MessengerBoard", name := "distance", desc := "(IIII)I" } : Jvm.MethodName)) ∈ lw_all := lw_g (lw_at lw_m6 165 rfl) rfl
theorem q1475 : (Jvm.Cond.code ({ cls := "MessengerBoard", name := "distance", desc := "(IIII)I" } : Jvm.MethodName) prog_1_method_28_code (5 : Nat) (Option.some Jvm.ClassFile.FieldType.int)) ∈ lw_all := lw_g (lw_at lw_m6 166 rfl) rfl
theorem q1476 : (Jvm.Cond.methodLink "MessengerBoard" (311 : Nat) ({ cls := "MessengerBoard$Ways", name := "lay", desc := "(LMessengerBoard$State;II)V" } : Jvm.MethodName)) ∈ lw_all := lw_g (lw_at lw_m6 167 rfl) rfl
theorem q1487 : (Jvm.Cond.laysStatic "MessengerBoard" "ACROSS" "[I") ∈ lw_tbl := lw_at lw_m6 178 rfl
theorem q1489 : (Jvm.Cond.laysStatic "MessengerBoard" "DOWNWARD" "[I") ∈ lw_tbl := lw_at lw_m6 180 rfl
theorem q1490 : (Jvm.Cond.methodLink "MessengerBoard" (315 : Nat) ({ cls := "MessengerBoard$Ways", name := "distance", desc := "(II)I" } : Jvm.MethodName)) ∈ lw_all := lw_g (lw_at lw_m6 181 rfl) rfl
theorem q1498 : (Jvm.Cond.instanceMethod ({ cls := "MessengerBoard", name := "step", desc := "(IIII)I" } : Jvm.MethodName)) ∈ lw_all := lw_g (lw_at lw_m6 189 rfl) rfl
theorem q1499 : (Jvm.Cond.selects "MessengerBoard" ({ cls := "MessengerBoard", name := "step", desc := "(IIII)I" } : Jvm.MethodName) ({ cls := "MessengerBoard", name := "step", desc := "(IIII)I" } : Jvm.MethodName)) ∈ lw_all := lw_g (lw_at lw_m6 190 rfl) rfl
theorem q1500 : (Jvm.Cond.code ({ cls := "MessengerBoard", name := "step", desc := "(IIII)I" } : Jvm.MethodName) prog_1_method_29_code (7 : Nat) (Option.some Jvm.ClassFile.FieldType.int)) ∈ lw_all := lw_g (lw_at lw_m6 191 rfl) rfl
theorem q1501 : (Jvm.Cond.methodLink "MessengerBoard" (318 : Nat) ({ cls := "MessengerBoard", name := "distance", desc := "(IIII)I" } : Jvm.MethodName)) ∈ lw_all := lw_g (lw_at lw_m6 192 rfl) rfl
theorem q1502 : (Jvm.Cond.methodLink "MessengerBoard" (321 : Nat) ({ cls := "MessengerBoard$Ways", name := "way", desc := "(LMessengerBoard$State;II)I" } : Jvm.MethodName)) ∈ lw_all := lw_g (lw_at lw_m6 193 rfl) rfl
theorem q1507 : (Jvm.Cond.fieldLink "MessengerBoard" (325 : Nat) "MessengerBoard" "DOWNWARD" "[I") ∈ lw_all := lw_g (lw_at lw_m6 198 rfl) rfl
theorem q1508 : (Jvm.Cond.fieldLink "MessengerBoard" (329 : Nat) "MessengerBoard" "ACROSS" "[I") ∈ lw_all := lw_g (lw_at lw_m6 199 rfl) rfl
theorem q1513 : (Jvm.Cond.instanceMethod ({ cls := "MessengerBoard", name := "wasAt", desc := "(II)I" } : Jvm.MethodName)) ∈ lw_all := lw_g (lw_at lw_m6 204 rfl) rfl
theorem q1514 : (Jvm.Cond.selects "MessengerBoard" ({ cls := "MessengerBoard", name := "wasAt", desc := "(II)I" } : Jvm.MethodName) ({ cls := "MessengerBoard", name := "wasAt", desc := "(II)I" } : Jvm.MethodName)) ∈ lw_all := lw_g (lw_at lw_m6 205 rfl) rfl
theorem q1515 : (Jvm.Cond.code ({ cls := "MessengerBoard", name := "wasAt", desc := "(II)I" } : Jvm.MethodName) prog_1_method_30_code (4 : Nat) (Option.some Jvm.ClassFile.FieldType.int)) ∈ lw_all := lw_g (lw_at lw_m6 206 rfl) rfl
theorem q1516 : (Jvm.Cond.classLink "MessengerBoard" (335 : Nat) "[I") ∈ lw_all := lw_g (lw_at lw_m6 207 rfl) rfl
theorem q1521 : (Jvm.Cond.instanceMethod ({ cls := "MessengerBoard", name := "stateAt", desc := "(II)I" } : Jvm.MethodName)) ∈ lw_all := lw_g (lw_at lw_m6 212 rfl) rfl
theorem q1522 : (Jvm.Cond.selects "MessengerBoard" ({ cls := "MessengerBoard", name := "stateAt", desc := "(II)I" } : Jvm.MethodName) ({ cls := "MessengerBoard", name := "stateAt", desc := "(II)I" } : Jvm.MethodName)) ∈ lw_all := lw_g (lw_at lw_m6 213 rfl) rfl
theorem q1523 : (Jvm.Cond.code ({ cls := "MessengerBoard", name := "stateAt", desc := "(II)I" } : Jvm.MethodName) prog_1_method_31_code (7 : Nat) (Option.some Jvm.ClassFile.FieldType.int)) ∈ lw_all := lw_g (lw_at lw_m6 214 rfl) rfl
theorem q1528 : (Jvm.Cond.instanceMethod ({ cls := "MessengerBoard", name := "wouldBe", desc := "(IIII)I" } : Jvm.MethodName)) ∈ lw_all := lw_g (lw_at lw_m6 219 rfl) rfl
theorem q1529 : (Jvm.Cond.selects "MessengerBoard" ({ cls := "MessengerBoard", name := "wouldBe", desc := "(IIII)I" } : Jvm.MethodName) ({ cls := "MessengerBoard", name := "wouldBe", desc := "(IIII)I" } : Jvm.MethodName)) ∈ lw_all := lw_g (lw_at lw_m6 220 rfl) rfl
theorem q1530 : (Jvm.Cond.code ({ cls := "MessengerBoard", name := "wouldBe", desc := "(IIII)I" } : Jvm.MethodName) prog_1_method_34_code (6 : Nat) (Option.some Jvm.ClassFile.FieldType.int)) ∈ lw_all := lw_g (lw_at lw_m6 221 rfl) rfl
theorem q1531 : (Jvm.Cond.methodLink "MessengerBoard" (339 : Nat) ({ cls := "MessengerBoard", name := "requireGoal", desc := "(III)V" } : Jvm.MethodName)) ∈ lw_all := lw_g (lw_at lw_m6 222 rfl) rfl
theorem q1532 : (Jvm.Cond.privateMethod ({ cls := "MessengerBoard", name := "requireGoal", desc := "(III)V" } : Jvm.MethodName)) ∈ lw_tbl := lw_at lw_m6 223 rfl
theorem q1533 : (Jvm.Cond.instanceMethod ({ cls := "MessengerBoard", name := "requireGoal", desc := "(III)V" } : Jvm.MethodName)) ∈ lw_all := lw_g (lw_at lw_m6 224 rfl) rfl
theorem q1534 : (Jvm.Cond.code ({ cls := "MessengerBoard", name := "requireGoal", desc := "(III)V" } : Jvm.MethodName) prog_1_method_33_code (5 : Nat) (Option.none : Option Jvm.ClassFile.FieldType)) ∈ lw_all := lw_g (lw_at lw_m6 225 rfl) rfl
theorem q1535 : (Jvm.Cond.constantLong "MessengerBoard" (343 : Nat) (60 : Int64)) ∈ lw_all := lw_g (lw_at lw_m6 226 rfl) rfl
theorem q1536 : (Jvm.Cond.classLink "MessengerBoard" (345 : Nat) "MessengerBoard$1") ∈ lw_all := lw_g (lw_at lw_m6 227 rfl) rfl
theorem q1538 : (Jvm.Cond.methodLink "MessengerBoard" (347 : Nat) ({ cls := "MessengerBoard$1", name := "<init>", desc := "(LMessengerBoard;LMessengerBoard$State;IIII)V" } : Jvm.MethodName)) ∈ lw_all := lw_g (lw_at lw_m6 229 rfl) rfl
theorem q1577 : (Jvm.Cond.fieldLinkNest "MessengerBoard" (40 : Nat) "MessengerBoard$Order" "number" "I" "MessengerBoard") ∈ lw_tbl := lw_at lw_m7 28 rfl
theorem q1580 : (Jvm.Cond.fieldLinkNest "MessengerBoard" (46 : Nat) "MessengerBoard$Order" "unit" "I" "MessengerBoard") ∈ lw_tbl := lw_at lw_m7 31 rfl
theorem q1583 : (Jvm.Cond.fieldLinkNest "MessengerBoard" (58 : Nat) "MessengerBoard$Order" "x" "I" "MessengerBoard") ∈ lw_tbl := lw_at lw_m7 34 rfl
theorem q1586 : (Jvm.Cond.fieldLinkNest "MessengerBoard" (60 : Nat) "MessengerBoard$Order" "y" "I" "MessengerBoard") ∈ lw_tbl := lw_at lw_m7 37 rfl
theorem q1589 : (Jvm.Cond.fieldLinkNest "MessengerBoard" (50 : Nat) "MessengerBoard$Order" "sent" "I" "MessengerBoard") ∈ lw_tbl := lw_at lw_m7 40 rfl
theorem q1594 : (Jvm.Cond.fieldLinkNest "MessengerBoard" (48 : Nat) "MessengerBoard$Order" "state" "I" "MessengerBoard") ∈ lw_tbl := lw_at lw_m7 45 rfl
theorem q1597 : (Jvm.Cond.fieldLinkNest "MessengerBoard" (52 : Nat) "MessengerBoard$Order" "arrived" "I" "MessengerBoard") ∈ lw_tbl := lw_at lw_m7 48 rfl
theorem q1600 : (Jvm.Cond.fieldLinkNest "MessengerBoard" (54 : Nat) "MessengerBoard$Order" "ended" "I" "MessengerBoard") ∈ lw_tbl := lw_at lw_m7 51 rfl
theorem q1604 : (Jvm.Cond.fieldLinkNest "MessengerBoard" (272 : Nat) "MessengerBoard$Order" "atX" "I" "MessengerBoard") ∈ lw_tbl := lw_at lw_m7 55 rfl
theorem q1607 : (Jvm.Cond.fieldLinkNest "MessengerBoard" (275 : Nat) "MessengerBoard$Order" "atY" "I" "MessengerBoard") ∈ lw_tbl := lw_at lw_m7 58 rfl
theorem q1609 : (Jvm.Cond.fieldLinkNest "MessengerBoard" (56 : Nat) "MessengerBoard$Order" "steps" "I" "MessengerBoard") ∈ lw_tbl := lw_at lw_m7 60 rfl
theorem q1655 : (Jvm.Cond.methodLink "MessengerBoard" (350 : Nat) ({ cls := "MessengerBoard$Trial", name := "told", desc := "()I" } : Jvm.MethodName)) ∈ lw_all := lw_g (lw_at lw_m7 106 rfl) rfl
theorem q1704 : (Jvm.Cond.fieldLinkNest "MessengerBoard" (292 : Nat) "MessengerBoard$Event" "turn" "I" "MessengerBoard") ∈ lw_tbl := lw_at lw_m7 155 rfl
theorem q1706 : (Jvm.Cond.fieldLinkNest "MessengerBoard" (293 : Nat) "MessengerBoard$Event" "order" "I" "MessengerBoard") ∈ lw_tbl := lw_at lw_m7 157 rfl
theorem q1708 : (Jvm.Cond.fieldLinkNest "MessengerBoard" (295 : Nat) "MessengerBoard$Event" "state" "I" "MessengerBoard") ∈ lw_tbl := lw_at lw_m7 159 rfl
theorem q1756 : (Jvm.Cond.instanceMethod ({ cls := "MessengerBoard", name := "wouldArrive", desc := "(III)I" } : Jvm.MethodName)) ∈ lw_all := lw_g (lw_at lw_m7 207 rfl) rfl
theorem q1757 : (Jvm.Cond.selects "MessengerBoard" ({ cls := "MessengerBoard", name := "wouldArrive", desc := "(III)I" } : Jvm.MethodName) ({ cls := "MessengerBoard", name := "wouldArrive", desc := "(III)I" } : Jvm.MethodName)) ∈ lw_all := lw_g (lw_at lw_m7 208 rfl) rfl
theorem q1758 : (Jvm.Cond.code ({ cls := "MessengerBoard", name := "wouldArrive", desc := "(III)I" } : Jvm.MethodName) prog_1_method_36_code (4 : Nat) (Option.some Jvm.ClassFile.FieldType.int)) ∈ lw_all := lw_g (lw_at lw_m7 209 rfl) rfl
theorem q1759 : (Jvm.Cond.methodLink "MessengerBoard" (358 : Nat) ({ cls := "MessengerBoard", name := "arrivalBehind", desc := "(IIII)I" } : Jvm.MethodName)) ∈ lw_all := lw_g (lw_at lw_m7 210 rfl) rfl
theorem q1760 : (Jvm.Cond.privateMethod ({ cls := "MessengerBoard", name := "arrivalBehind", desc := "(IIII)I" } : Jvm.MethodName)) ∈ lw_tbl := lw_at lw_m7 211 rfl
theorem q1761 : (Jvm.Cond.instanceMethod ({ cls := "MessengerBoard", name := "arrivalBehind", desc := "(IIII)I" } : Jvm.MethodName)) ∈ lw_all := lw_g (lw_at lw_m7 212 rfl) rfl
theorem q1762 : (Jvm.Cond.code ({ cls := "MessengerBoard", name := "arrivalBehind", desc := "(IIII)I" } : Jvm.MethodName) prog_1_method_35_code (6 : Nat) (Option.some Jvm.ClassFile.FieldType.int)) ∈ lw_all := lw_g (lw_at lw_m7 213 rfl) rfl
theorem q1763 : (Jvm.Cond.classLink "MessengerBoard" (355 : Nat) "MessengerBoard$2") ∈ lw_all := lw_g (lw_at lw_m7 214 rfl) rfl
theorem q1765 : (Jvm.Cond.methodLink "MessengerBoard" (357 : Nat) ({ cls := "MessengerBoard$2", name := "<init>", desc := "(LMessengerBoard;LMessengerBoard$State;IIII)V" } : Jvm.MethodName)) ∈ lw_all := lw_g (lw_at lw_m7 216 rfl) rfl
theorem q1790 : (Jvm.Cond.instanceMethod ({ cls := "MessengerBoard", name := "bestDelay", desc := "(III)I" } : Jvm.MethodName)) ∈ lw_all := lw_g (lw_at lw_m8 1 rfl) rfl
theorem q1791 : (Jvm.Cond.selects "MessengerBoard" ({ cls := "MessengerBoard", name := "bestDelay", desc := "(III)I" } : Jvm.MethodName) ({ cls := "MessengerBoard", name := "bestDelay", desc := "(III)I" } : Jvm.MethodName)) ∈ lw_all := lw_g (lw_at lw_m8 2 rfl) rfl
theorem q1792 : (Jvm.Cond.code ({ cls := "MessengerBoard", name := "bestDelay", desc := "(III)I" } : Jvm.MethodName) prog_1_method_37_code (5 : Nat) (Option.some Jvm.ClassFile.FieldType.int)) ∈ lw_all := lw_g (lw_at lw_m8 3 rfl) rfl
theorem q1797 : (Jvm.Cond.instanceMethod ({ cls := "MessengerBoard", name := "failing", desc := "(I)I" } : Jvm.MethodName)) ∈ lw_all := lw_g (lw_at lw_m8 8 rfl) rfl
theorem q1798 : (Jvm.Cond.selects "MessengerBoard" ({ cls := "MessengerBoard", name := "failing", desc := "(I)I" } : Jvm.MethodName) ({ cls := "MessengerBoard", name := "failing", desc := "(I)I" } : Jvm.MethodName)) ∈ lw_all := lw_g (lw_at lw_m8 9 rfl) rfl
theorem q1799 : (Jvm.Cond.code ({ cls := "MessengerBoard", name := "failing", desc := "(I)I" } : Jvm.MethodName) prog_1_method_38_code (3 : Nat) (Option.some Jvm.ClassFile.FieldType.int)) ∈ lw_all := lw_g (lw_at lw_m8 10 rfl) rfl
theorem q1800 : (Jvm.Cond.classLink "MessengerBoard" (361 : Nat) "MessengerBoard$3") ∈ lw_all := lw_g (lw_at lw_m8 11 rfl) rfl
theorem q1802 : (Jvm.Cond.methodLink "MessengerBoard" (363 : Nat) ({ cls := "MessengerBoard$3", name := "<init>", desc := "(LMessengerBoard;LMessengerBoard$State;I)V" } : Jvm.MethodName)) ∈ lw_all := lw_g (lw_at lw_m8 13 rfl) rfl
theorem q1818 : (Jvm.Cond.instanceMethod ({ cls := "MessengerBoard", name := "pass", desc := "(I)I" } : Jvm.MethodName)) ∈ lw_all := lw_g (lw_at lw_m8 29 rfl) rfl
theorem q1819 : (Jvm.Cond.selects "MessengerBoard" ({ cls := "MessengerBoard", name := "pass", desc := "(I)I" } : Jvm.MethodName) ({ cls := "MessengerBoard", name := "pass", desc := "(I)I" } : Jvm.MethodName)) ∈ lw_all := lw_g (lw_at lw_m8 30 rfl) rfl
theorem q1820 : (Jvm.Cond.code ({ cls := "MessengerBoard", name := "pass", desc := "(I)I" } : Jvm.MethodName) prog_1_method_42_code (3 : Nat) (Option.some Jvm.ClassFile.FieldType.int)) ∈ lw_all := lw_g (lw_at lw_m8 31 rfl) rfl
theorem q1821 : (Jvm.Cond.methodLink "MessengerBoard" (385 : Nat) ({ cls := "MessengerBoard", name := "record", desc := "()LMessengerBoard$State;" } : Jvm.MethodName)) ∈ lw_all := lw_g (lw_at lw_m8 32 rfl) rfl
theorem q1822 : (Jvm.Cond.privateMethod ({ cls := "MessengerBoard", name := "record", desc := "()LMessengerBoard$State;" } : Jvm.MethodName)) ∈ lw_tbl := lw_at lw_m8 33 rfl
theorem q1823 : (Jvm.Cond.instanceMethod ({ cls := "MessengerBoard", name := "record", desc := "()LMessengerBoard$State;" } : Jvm.MethodName)) ∈ lw_all := lw_g (lw_at lw_m8 34 rfl) rfl
theorem q1824 : (Jvm.Cond.code ({ cls := "MessengerBoard", name := "record", desc := "()LMessengerBoard$State;" } : Jvm.MethodName) prog_1_method_41_code (1 : Nat) (Option.some (Jvm.ClassFile.FieldType.object "MessengerBoard$State"))) ∈ lw_all := lw_g (lw_at lw_m8 35 rfl) rfl
theorem q1825 : (Jvm.Cond.methodLink "MessengerBoard" (374 : Nat) ({ cls := "java/util/ArrayDeque", name := "removeFirst", desc := "()Ljava/lang/Object;" } : Jvm.MethodName)) ∈ lw_all := lw_g (lw_at lw_m8 36 rfl) rfl
theorem q1836 : (Jvm.Cond.methodLink "MessengerBoard" (378 : Nat) ({ cls := "java/util/ArrayDeque", name := "addLast", desc := "(Ljava/lang/Object;)V" } : Jvm.MethodName)) ∈ lw_all := lw_g (lw_at lw_m8 47 rfl) rfl
theorem q1852 : (Jvm.Cond.methodLink "MessengerBoard" (382 : Nat) ({ cls := "MessengerBoard$State", name := "copy", desc := "()LMessengerBoard$State;" } : Jvm.MethodName)) ∈ lw_all := lw_g (lw_at lw_m8 63 rfl) rfl
theorem q1853 : (Jvm.Cond.methodLink "MessengerBoard" (388 : Nat) ({ cls := "MessengerBoard$State", name := "pass", desc := "(I)V" } : Jvm.MethodName)) ∈ lw_all := lw_g (lw_at lw_m8 64 rfl) rfl
theorem q1858 : (Jvm.Cond.instanceMethod ({ cls := "MessengerBoard", name := "send", desc := "(III)I" } : Jvm.MethodName)) ∈ lw_all := lw_g (lw_at lw_m8 69 rfl) rfl
theorem q1859 : (Jvm.Cond.selects "MessengerBoard" ({ cls := "MessengerBoard", name := "send", desc := "(III)I" } : Jvm.MethodName) ({ cls := "MessengerBoard", name := "send", desc := "(III)I" } : Jvm.MethodName)) ∈ lw_all := lw_g (lw_at lw_m8 70 rfl) rfl
theorem q1860 : (Jvm.Cond.code ({ cls := "MessengerBoard", name := "send", desc := "(III)I" } : Jvm.MethodName) prog_1_method_43_code (4 : Nat) (Option.some Jvm.ClassFile.FieldType.int)) ∈ lw_all := lw_g (lw_at lw_m8 71 rfl) rfl
theorem q1861 : (Jvm.Cond.methodLink "MessengerBoard" (391 : Nat) ({ cls := "MessengerBoard$State", name := "send", desc := "(III)I" } : Jvm.MethodName)) ∈ lw_all := lw_g (lw_at lw_m8 72 rfl) rfl
theorem q1866 : (Jvm.Cond.instanceMethod ({ cls := "MessengerBoard", name := "wall", desc := "(II)I" } : Jvm.MethodName)) ∈ lw_all := lw_g (lw_at lw_m8 77 rfl) rfl
theorem q1867 : (Jvm.Cond.selects "MessengerBoard" ({ cls := "MessengerBoard", name := "wall", desc := "(II)I" } : Jvm.MethodName) ({ cls := "MessengerBoard", name := "wall", desc := "(II)I" } : Jvm.MethodName)) ∈ lw_all := lw_g (lw_at lw_m8 78 rfl) rfl
theorem q1868 : (Jvm.Cond.code ({ cls := "MessengerBoard", name := "wall", desc := "(II)I" } : Jvm.MethodName) prog_1_method_44_code (4 : Nat) (Option.some Jvm.ClassFile.FieldType.int)) ∈ lw_all := lw_g (lw_at lw_m8 79 rfl) rfl
theorem q1869 : (Jvm.Cond.methodLink "MessengerBoard" (394 : Nat) ({ cls := "MessengerBoard$State", name := "unitAt", desc := "(II)I" } : Jvm.MethodName)) ∈ lw_all := lw_g (lw_at lw_m8 80 rfl) rfl
theorem q1870 : (Jvm.Cond.methodLink "MessengerBoard" (397 : Nat) ({ cls := "MessengerBoard$State", name := "hasMessenger", desc := "(II)Z" } : Jvm.MethodName)) ∈ lw_all := lw_g (lw_at lw_m8 81 rfl) rfl
theorem q1874 : (Jvm.Cond.methodLink "MessengerBoard" (400 : Nat) ({ cls := "MessengerBoard$State", name := "isGoal", desc := "(II)Z" } : Jvm.MethodName)) ∈ lw_all := lw_g (lw_at lw_m8 85 rfl) rfl
theorem q1882 : (Jvm.Cond.instanceMethod ({ cls := "MessengerBoard", name := "movePicket", desc := "(III)I" } : Jvm.MethodName)) ∈ lw_all := lw_g (lw_at lw_m8 93 rfl) rfl
theorem q1883 : (Jvm.Cond.selects "MessengerBoard" ({ cls := "MessengerBoard", name := "movePicket", desc := "(III)I" } : Jvm.MethodName) ({ cls := "MessengerBoard", name := "movePicket", desc := "(III)I" } : Jvm.MethodName)) ∈ lw_all := lw_g (lw_at lw_m8 94 rfl) rfl
theorem q1884 : (Jvm.Cond.code ({ cls := "MessengerBoard", name := "movePicket", desc := "(III)I" } : Jvm.MethodName) prog_1_method_45_code (6 : Nat) (Option.some Jvm.ClassFile.FieldType.int)) ∈ lw_all := lw_g (lw_at lw_m8 95 rfl) rfl
theorem q1885 : (Jvm.Cond.methodLink "MessengerBoard" (407 : Nat) ({ cls := "MessengerBoard$Picket", name := "sees", desc := "(III)Z" } : Jvm.MethodName)) ∈ lw_all := lw_g (lw_at lw_m8 96 rfl) rfl
theorem q1890 : (Jvm.Cond.instanceMethod ({ cls := "MessengerBoard", name := "movePlan", desc := "(II)I" } : Jvm.MethodName)) ∈ lw_all := lw_g (lw_at lw_m8 101 rfl) rfl
theorem q1891 : (Jvm.Cond.selects "MessengerBoard" ({ cls := "MessengerBoard", name := "movePlan", desc := "(II)I" } : Jvm.MethodName) ({ cls := "MessengerBoard", name := "movePlan", desc := "(II)I" } : Jvm.MethodName)) ∈ lw_all := lw_g (lw_at lw_m8 102 rfl) rfl
theorem q1892 : (Jvm.Cond.code ({ cls := "MessengerBoard", name := "movePlan", desc := "(II)I" } : Jvm.MethodName) prog_1_method_46_code (5 : Nat) (Option.some Jvm.ClassFile.FieldType.int)) ∈ lw_all := lw_g (lw_at lw_m8 103 rfl) rfl
theorem q1893 : (Jvm.Cond.constantLong "MessengerBoard" (411 : Nat) (499 : Int64)) ∈ lw_all := lw_g (lw_at lw_m8 104 rfl) rfl
theorem q1894 : (Jvm.Cond.methodLink "MessengerBoard" (413 : Nat) ({ cls := "MessengerBoard$Plan", name := "on", desc := "(I)LMessengerBoard$Plan;" } : Jvm.MethodName)) ∈ lw_all := lw_g (lw_at lw_m8 105 rfl) rfl
theorem q1900 : (Jvm.Cond.methodLink "MessengerBoard" (416 : Nat) ({ cls := "java/util/ArrayList", name := "set", desc := "(ILjava/lang/Object;)Ljava/lang/Object;" } : Jvm.MethodName)) ∈ lw_all := lw_g (lw_at lw_m8 111 rfl) rfl
theorem q1908 : (Jvm.Cond.instanceMethod ({ cls := "MessengerBoard", name := "setPatience", desc := "(I)I" } : Jvm.MethodName)) ∈ lw_all := lw_g (lw_at lw_m8 119 rfl) rfl
theorem q1909 : (Jvm.Cond.selects "MessengerBoard" ({ cls := "MessengerBoard", name := "setPatience", desc := "(I)I" } : Jvm.MethodName) ({ cls := "MessengerBoard", name := "setPatience", desc := "(I)I" } : Jvm.MethodName)) ∈ lw_all := lw_g (lw_at lw_m8 120 rfl) rfl
theorem q1910 : (Jvm.Cond.code ({ cls := "MessengerBoard", name := "setPatience", desc := "(I)I" } : Jvm.MethodName) prog_1_method_47_code (3 : Nat) (Option.some Jvm.ClassFile.FieldType.int)) ∈ lw_all := lw_g (lw_at lw_m8 121 rfl) rfl
theorem q1911 : (Jvm.Cond.constantLong "MessengerBoard" (420 : Nat) (30 : Int64)) ∈ lw_all := lw_g (lw_at lw_m8 122 rfl) rfl
theorem q1916 : (Jvm.Cond.instanceMethod ({ cls := "MessengerBoard", name := "format", desc := "(I)I" } : Jvm.MethodName)) ∈ lw_all := lw_g (lw_at lw_m8 127 rfl) rfl
theorem q1917 : (Jvm.Cond.selects "MessengerBoard" ({ cls := "MessengerBoard", name := "format", desc := "(I)I" } : Jvm.MethodName) ({ cls := "MessengerBoard", name := "format", desc := "(I)I" } : Jvm.MethodName)) ∈ lw_all := lw_g (lw_at lw_m8 128 rfl) rfl
theorem q1918 : (Jvm.Cond.code ({ cls := "MessengerBoard", name := "format", desc := "(I)I" } : Jvm.MethodName) prog_1_method_53_code (4 : Nat) (Option.some Jvm.ClassFile.FieldType.int)) ∈ lw_all := lw_g (lw_at lw_m8 129 rfl) rfl
theorem q1919 : (Jvm.Cond.classLink "MessengerBoard" (426 : Nat) "java/lang/StringBuilder") ∈ lw_all := lw_g (lw_at lw_m8 130 rfl) rfl
theorem q1920 : (Jvm.Cond.methodLink "MessengerBoard" (428 : Nat) ({ cls := "java/lang/StringBuilder", name := "<init>", desc := "()V" } : Jvm.MethodName)) ∈ lw_all := lw_g (lw_at lw_m8 131 rfl) rfl
theorem q1921 : (Jvm.Cond.methodLink "MessengerBoard" (429 : Nat) ({ cls := "MessengerBoard", name := "signOf", desc := "(II)C" } : Jvm.MethodName)) ∈ lw_all := lw_g (lw_at lw_m8 132 rfl) rfl
theorem q1922 : (Jvm.Cond.privateMethod ({ cls := "MessengerBoard", name := "signOf", desc := "(II)C" } : Jvm.MethodName)) ∈ lw_tbl := lw_at lw_m8 133 rfl
theorem q1923 : (Jvm.Cond.instanceMethod ({ cls := "MessengerBoard", name := "signOf", desc := "(II)C" } : Jvm.MethodName)) ∈ lw_all := lw_g (lw_at lw_m8 134 rfl) rfl
theorem q1924 : (Jvm.Cond.code ({ cls := "MessengerBoard", name := "signOf", desc := "(II)C" } : Jvm.MethodName) prog_1_method_52_code (4 : Nat) (Option.some Jvm.ClassFile.FieldType.char)) ∈ lw_all := lw_g (lw_at lw_m8 135 rfl) rfl
theorem q1925 : (Jvm.Cond.methodLink "MessengerBoard" (433 : Nat) ({ cls := "java/lang/StringBuilder", name := "append", desc := "(C)Ljava/lang/StringBuilder;" } : Jvm.MethodName)) ∈ lw_all := lw_g (lw_at lw_m8 136 rfl) rfl
theorem q1926 : (Jvm.Cond.methodLink "MessengerBoard" (436 : Nat) ({ cls := "java/lang/StringBuilder", name := "toString", desc := "()Ljava/lang/String;" } : Jvm.MethodName)) ∈ lw_all := lw_g (lw_at lw_m8 137 rfl) rfl
theorem q1931 : (Jvm.Cond.instanceMethod ({ cls := "MessengerBoard", name := "query", desc := "(I)I" } : Jvm.MethodName)) ∈ lw_all := lw_g (lw_at lw_m8 142 rfl) rfl
theorem q1932 : (Jvm.Cond.selects "MessengerBoard" ({ cls := "MessengerBoard", name := "query", desc := "(I)I" } : Jvm.MethodName) ({ cls := "MessengerBoard", name := "query", desc := "(I)I" } : Jvm.MethodName)) ∈ lw_all := lw_g (lw_at lw_m8 143 rfl) rfl
theorem q1933 : (Jvm.Cond.codeWith ({ cls := "MessengerBoard", name := "query", desc := "(I)I" } : Jvm.MethodName) prog_1_method_55_code (6 : Nat) (Option.some Jvm.ClassFile.FieldType.int) [((18 : Nat), (23 : Nat), (26 : Nat), (123 : Nat))]) ∈ lw_all := lw_g (lw_at lw_m8 144 rfl) rfl
theorem q1934 : (Jvm.Cond.classLink "MessengerBoard" (447 : Nat) "MessengerBoard$QueryParser") ∈ lw_all := lw_g (lw_at lw_m8 145 rfl) rfl
theorem q1936 : (Jvm.Cond.methodLink "MessengerBoard" (449 : Nat) ({ cls := "MessengerBoard$QueryParser", name := "<init>", desc := "(LMessengerBoard;I)V" } : Jvm.MethodName)) ∈ lw_all := lw_g (lw_at lw_m8 147 rfl) rfl
theorem q1941 : (Jvm.Cond.fieldLinkNest "MessengerBoard" (460 : Nat) "MessengerBoard$QueryParser" "isFirst" "Z" "MessengerBoard") ∈ lw_tbl := lw_at lw_m8 152 rfl
theorem q1959 : (Jvm.Cond.methodLink "MessengerBoard" (450 : Nat) ({ cls := "MessengerBoard$QueryParser", name := "parse", desc := "()LMessengerBoard$Test;" } : Jvm.MethodName)) ∈ lw_all := lw_g (lw_at lw_m8 170 rfl) rfl
theorem q2026 : (Jvm.Cond.static ({ cls := "MessengerBoard", name := "propertyCode", desc := "(Ljava/lang/String;)I" } : Jvm.MethodName)) ∈ lw_all := lw_g (lw_at lw_m8 237 rfl) rfl
theorem q2027 : (Jvm.Cond.code ({ cls := "MessengerBoard", name := "propertyCode", desc := "(Ljava/lang/String;)I" } : Jvm.MethodName) prog_1_method_5_code (3 : Nat) (Option.some Jvm.ClassFile.FieldType.int)) ∈ lw_all := lw_g (lw_at lw_m8 238 rfl) rfl
theorem q2028 : (Jvm.Cond.methodLink "MessengerBoard" (10 : Nat) ({ cls := "java/lang/String", name := "hashCode", desc := "()I" } : Jvm.MethodName)) ∈ lw_all := lw_g (lw_at lw_m8 239 rfl) rfl
theorem q2029 : (Jvm.Cond.stringRef "MessengerBoard" (16 : Nat) "order") ∈ lw_tbl := lw_at lw_m9 0 rfl
theorem q2030 : (Jvm.Cond.methodLink "MessengerBoard" (18 : Nat) ({ cls := "java/lang/String", name := "equals", desc := "(Ljava/lang/Object;)Z" } : Jvm.MethodName)) ∈ lw_all := lw_g (lw_at lw_m9 1 rfl) rfl
theorem q2031 : (Jvm.Cond.stringRef "MessengerBoard" (22 : Nat) "unit") ∈ lw_tbl := lw_at lw_m9 2 rfl
theorem q2032 : (Jvm.Cond.stringRef "MessengerBoard" (24 : Nat) "state") ∈ lw_tbl := lw_at lw_m9 3 rfl
theorem q2033 : (Jvm.Cond.stringRef "MessengerBoard" (26 : Nat) "sent") ∈ lw_tbl := lw_at lw_m9 4 rfl
theorem q2034 : (Jvm.Cond.stringRef "MessengerBoard" (28 : Nat) "arrived") ∈ lw_tbl := lw_at lw_m9 5 rfl
theorem q2035 : (Jvm.Cond.stringRef "MessengerBoard" (30 : Nat) "ended") ∈ lw_tbl := lw_at lw_m9 6 rfl
theorem q2036 : (Jvm.Cond.stringRef "MessengerBoard" (32 : Nat) "steps") ∈ lw_tbl := lw_at lw_m9 7 rfl
theorem q2037 : (Jvm.Cond.stringRef "MessengerBoard" (34 : Nat) "x") ∈ lw_tbl := lw_at lw_m9 8 rfl
theorem q2038 : (Jvm.Cond.stringRef "MessengerBoard" (36 : Nat) "y") ∈ lw_tbl := lw_at lw_m9 9 rfl
theorem q2078 : (Jvm.Cond.constant "MessengerBoard" (453 : Nat) (-1000000000 : Int32)) ∈ lw_all := lw_g (lw_at lw_m9 49 rfl) rfl
theorem q2079 : (Jvm.Cond.methodLink "MessengerBoard" (454 : Nat) ({ cls := "MessengerBoard$Test", name := "holds", desc := "(LMessengerBoard$State;I)Z" } : Jvm.MethodName)) ∈ lw_all := lw_g (lw_at lw_m9 50 rfl) rfl
theorem q2091 : (Jvm.Cond.static ({ cls := "MessengerBoard", name := "of", desc := "(ILMessengerBoard$Order;)I" } : Jvm.MethodName)) ∈ lw_all := lw_g (lw_at lw_m9 62 rfl) rfl
theorem q2092 : (Jvm.Cond.code ({ cls := "MessengerBoard", name := "of", desc := "(ILMessengerBoard$Order;)I" } : Jvm.MethodName) prog_1_method_6_code (2 : Nat) (Option.some Jvm.ClassFile.FieldType.int)) ∈ lw_all := lw_g (lw_at lw_m9 63 rfl) rfl
theorem q2731 : (Jvm.Cond.castable "MessengerBoard" "java/lang/Object") ∈ lw_tbl := lw_at lw_m11 222 rfl
theorem in_X1 : ∀ w ∈ wsX10, w ∈ lw_all := lw_in wsX10 [311, 313, 315, 317, 319, 321, 323, 325] (by decide +kernel) (by decide +kernel)
/-! MessengerBoard$State -/
set_option maxRecDepth 100000
def RX3 : String := "MessengerBoard$State"
def TX3 : u_T := fun k => match k with
  | 0 => ("MessengerBoard$State", "width", "I", true)
  | 1 => ("MessengerBoard$State", "height", "I", true)
  | 2 => ("MessengerBoard$State", "walls", "[Z", true)
  | 3 => ("MessengerBoard$State", "units", "Ljava/util/ArrayList;", true)
  | 4 => ("MessengerBoard$State", "pickets", "Ljava/util/ArrayList;", true)
  | 5 => ("MessengerBoard$State", "plans", "Ljava/util/ArrayList;", true)
  | 6 => ("MessengerBoard$State", "orders", "Ljava/util/ArrayList;", true)
  | 7 => ("MessengerBoard$State", "events", "Ljava/util/ArrayList;", true)
  | 8 => ("MessengerBoard$State", "places", "Ljava/util/ArrayList;", true)
  | 9 => ("MessengerBoard$State", "ways", "LMessengerBoard$Ways;", true)
  | 10 => ("MessengerBoard$State", "homeX", "I", false)
  | 11 => ("MessengerBoard$State", "homeY", "I", false)
  | 12 => ("MessengerBoard$State", "turn", "I", false)
  | _ => ("MessengerBoard$State", "patience", "I", false)
def tyX3 : Nat → FieldType := fun k => match k with
  | 0 => .int
  | 1 => .int
  | 2 => .array .boolean
  | 3 => .object "java/util/ArrayList"
  | 4 => .object "java/util/ArrayList"
  | 5 => .object "java/util/ArrayList"
  | 6 => .object "java/util/ArrayList"
  | 7 => .object "java/util/ArrayList"
  | 8 => .object "java/util/ArrayList"
  | 9 => .object "MessengerBoard$Ways"
  | 10 => .int
  | 11 => .int
  | 12 => .int
  | _ => .int
abbrev wsX30 : List Cond := u_ws RX3 TX3 14
set_option maxRecDepth 100000 in
theorem nmX3 : ∀ a, a < 14 → ∀ b, b < 14 → a ≠ b → (TX3 a).2.1 ≠ (TX3 b).2.1 := by decide +kernel
set_option maxRecDepth 100000 in
theorem tyX3_ok : ∀ k, k < 14 → parseFieldDescriptor (TX3 k).2.2.1 = some (tyX3 k) := by decide +kernel
abbrev cX3_init : ByteArray := prog_15_method_1_code
def yX3_init : MethodName := ⟨RX3, "<init>", "(IILMessengerBoard$Ways;)V"⟩
def dkwX3_init_4 : List UInt8 := [181, 0, 44, 42, 45, 181, 0, 47, 177]
abbrev dktX3_init_4 : List UInt8 := dkwX3_init_4 ++ []
def dkwX3_init_3 : List UInt8 := [187, 0, 15, 89, 183, 0, 17, 181, 0, 34, 42, 16, 30, 181, 0, 37, 42, 27, 181, 0, 41, 42, 28]
abbrev dktX3_init_3 : List UInt8 := dkwX3_init_3 ++ dktX3_init_4
def dkwX3_init_2 : List UInt8 := [187, 0, 15, 89, 183, 0, 17, 181, 0, 28, 42, 187, 0, 15, 89, 183, 0, 17, 181, 0, 31, 42]
abbrev dktX3_init_2 : List UInt8 := dkwX3_init_2 ++ dktX3_init_3
def dkwX3_init_1 : List UInt8 := [42, 187, 0, 15, 89, 183, 0, 17, 181, 0, 22, 42, 187, 0, 15, 89, 183, 0, 17, 181, 0, 25, 42]
abbrev dktX3_init_1 : List UInt8 := dkwX3_init_1 ++ dktX3_init_2
def dkwX3_init_0 : List UInt8 := [42, 183, 0, 3, 42, 17, 0, 144, 188, 4, 181, 0, 9, 42, 187, 0, 15, 89, 183, 0, 17, 181, 0, 18]
abbrev dktX3_init_0 : List UInt8 := dkwX3_init_0 ++ dktX3_init_1
theorem dksX3_init_0 : cX3_init.data.toList.drop 0 = dktX3_init_0 := by decide +kernel
theorem dksX3_init_1 : cX3_init.data.toList.drop 24 = dktX3_init_1 := dk_seg dksX3_init_0 24 rfl rfl
theorem dksX3_init_2 : cX3_init.data.toList.drop 47 = dktX3_init_2 := dk_seg dksX3_init_1 23 rfl rfl
theorem dksX3_init_3 : cX3_init.data.toList.drop 69 = dktX3_init_3 := dk_seg dksX3_init_2 22 rfl rfl
theorem dksX3_init_4 : cX3_init.data.toList.drop 92 = dktX3_init_4 := dk_seg dksX3_init_3 23 rfl rfl
theorem dX3_init_0 : decode cX3_init 0 = .ok (.aload_n 0, 1) := dk_42 (dk_at dksX3_init_0 0 rfl rfl)
theorem dX3_init_1 : decode cX3_init 1 = .ok (.invokespecial 3, 3) := dk_183 0 3 (dk_at dksX3_init_0 1 rfl rfl)
theorem dX3_init_4 : decode cX3_init 4 = .ok (.aload_n 0, 1) := dk_42 (dk_at dksX3_init_0 4 rfl rfl)
theorem dX3_init_5 : decode cX3_init 5 = .ok (.sipush 144, 3) := dk_17 0 144 (dk_at dksX3_init_0 5 rfl rfl)
theorem dX3_init_8 : decode cX3_init 8 = .ok (.newarray .boolean, 2) := dk_188_4 (dk_at dksX3_init_0 8 rfl rfl)
theorem dX3_init_10 : decode cX3_init 10 = .ok (.putfield 9, 3) := dk_181 0 9 (dk_at dksX3_init_0 10 rfl rfl)
theorem dX3_init_13 : decode cX3_init 13 = .ok (.aload_n 0, 1) := dk_42 (dk_at dksX3_init_0 13 rfl rfl)
theorem dX3_init_14 : decode cX3_init 14 = .ok (.new 15, 3) := dk_187 0 15 (dk_at dksX3_init_0 14 rfl rfl)
theorem dX3_init_17 : decode cX3_init 17 = .ok (.dup, 1) := dk_89 (dk_at dksX3_init_0 17 rfl rfl)
theorem dX3_init_18 : decode cX3_init 18 = .ok (.invokespecial 17, 3) := dk_183 0 17 (dk_at dksX3_init_0 18 rfl rfl)
theorem dX3_init_21 : decode cX3_init 21 = .ok (.putfield 18, 3) := dk_181 0 18 (dk_at dksX3_init_0 21 rfl rfl)
theorem dX3_init_24 : decode cX3_init 24 = .ok (.aload_n 0, 1) := dk_42 (dk_at dksX3_init_1 0 rfl rfl)
theorem dX3_init_25 : decode cX3_init 25 = .ok (.new 15, 3) := dk_187 0 15 (dk_at dksX3_init_1 1 rfl rfl)
theorem dX3_init_28 : decode cX3_init 28 = .ok (.dup, 1) := dk_89 (dk_at dksX3_init_1 4 rfl rfl)
theorem dX3_init_29 : decode cX3_init 29 = .ok (.invokespecial 17, 3) := dk_183 0 17 (dk_at dksX3_init_1 5 rfl rfl)
theorem dX3_init_32 : decode cX3_init 32 = .ok (.putfield 22, 3) := dk_181 0 22 (dk_at dksX3_init_1 8 rfl rfl)
theorem dX3_init_35 : decode cX3_init 35 = .ok (.aload_n 0, 1) := dk_42 (dk_at dksX3_init_1 11 rfl rfl)
theorem dX3_init_36 : decode cX3_init 36 = .ok (.new 15, 3) := dk_187 0 15 (dk_at dksX3_init_1 12 rfl rfl)
theorem dX3_init_39 : decode cX3_init 39 = .ok (.dup, 1) := dk_89 (dk_at dksX3_init_1 15 rfl rfl)
theorem dX3_init_40 : decode cX3_init 40 = .ok (.invokespecial 17, 3) := dk_183 0 17 (dk_at dksX3_init_1 16 rfl rfl)
theorem dX3_init_43 : decode cX3_init 43 = .ok (.putfield 25, 3) := dk_181 0 25 (dk_at dksX3_init_1 19 rfl rfl)
theorem dX3_init_46 : decode cX3_init 46 = .ok (.aload_n 0, 1) := dk_42 (dk_at dksX3_init_1 22 rfl rfl)
theorem dX3_init_47 : decode cX3_init 47 = .ok (.new 15, 3) := dk_187 0 15 (dk_at dksX3_init_2 0 rfl rfl)
theorem dX3_init_50 : decode cX3_init 50 = .ok (.dup, 1) := dk_89 (dk_at dksX3_init_2 3 rfl rfl)
theorem dX3_init_51 : decode cX3_init 51 = .ok (.invokespecial 17, 3) := dk_183 0 17 (dk_at dksX3_init_2 4 rfl rfl)
theorem dX3_init_54 : decode cX3_init 54 = .ok (.putfield 28, 3) := dk_181 0 28 (dk_at dksX3_init_2 7 rfl rfl)
theorem dX3_init_57 : decode cX3_init 57 = .ok (.aload_n 0, 1) := dk_42 (dk_at dksX3_init_2 10 rfl rfl)
theorem dX3_init_58 : decode cX3_init 58 = .ok (.new 15, 3) := dk_187 0 15 (dk_at dksX3_init_2 11 rfl rfl)
theorem dX3_init_61 : decode cX3_init 61 = .ok (.dup, 1) := dk_89 (dk_at dksX3_init_2 14 rfl rfl)
theorem dX3_init_62 : decode cX3_init 62 = .ok (.invokespecial 17, 3) := dk_183 0 17 (dk_at dksX3_init_2 15 rfl rfl)
theorem dX3_init_65 : decode cX3_init 65 = .ok (.putfield 31, 3) := dk_181 0 31 (dk_at dksX3_init_2 18 rfl rfl)
theorem dX3_init_68 : decode cX3_init 68 = .ok (.aload_n 0, 1) := dk_42 (dk_at dksX3_init_2 21 rfl rfl)
theorem dX3_init_69 : decode cX3_init 69 = .ok (.new 15, 3) := dk_187 0 15 (dk_at dksX3_init_3 0 rfl rfl)
theorem dX3_init_72 : decode cX3_init 72 = .ok (.dup, 1) := dk_89 (dk_at dksX3_init_3 3 rfl rfl)
theorem dX3_init_73 : decode cX3_init 73 = .ok (.invokespecial 17, 3) := dk_183 0 17 (dk_at dksX3_init_3 4 rfl rfl)
theorem dX3_init_76 : decode cX3_init 76 = .ok (.putfield 34, 3) := dk_181 0 34 (dk_at dksX3_init_3 7 rfl rfl)
theorem dX3_init_79 : decode cX3_init 79 = .ok (.aload_n 0, 1) := dk_42 (dk_at dksX3_init_3 10 rfl rfl)
theorem dX3_init_80 : decode cX3_init 80 = .ok (.bipush 30, 2) := dk_16 30 (dk_at dksX3_init_3 11 rfl rfl)
theorem dX3_init_82 : decode cX3_init 82 = .ok (.putfield 37, 3) := dk_181 0 37 (dk_at dksX3_init_3 13 rfl rfl)
theorem dX3_init_85 : decode cX3_init 85 = .ok (.aload_n 0, 1) := dk_42 (dk_at dksX3_init_3 16 rfl rfl)
theorem dX3_init_86 : decode cX3_init 86 = .ok (.iload_n 1, 1) := dk_27 (dk_at dksX3_init_3 17 rfl rfl)
theorem dX3_init_87 : decode cX3_init 87 = .ok (.putfield 41, 3) := dk_181 0 41 (dk_at dksX3_init_3 18 rfl rfl)
theorem dX3_init_90 : decode cX3_init 90 = .ok (.aload_n 0, 1) := dk_42 (dk_at dksX3_init_3 21 rfl rfl)
theorem dX3_init_91 : decode cX3_init 91 = .ok (.iload_n 2, 1) := dk_28 (dk_at dksX3_init_3 22 rfl rfl)
theorem dX3_init_92 : decode cX3_init 92 = .ok (.putfield 44, 3) := dk_181 0 44 (dk_at dksX3_init_4 0 rfl rfl)
theorem dX3_init_95 : decode cX3_init 95 = .ok (.aload_n 0, 1) := dk_42 (dk_at dksX3_init_4 3 rfl rfl)
theorem dX3_init_96 : decode cX3_init 96 = .ok (.aload_n 3, 1) := dk_45 (dk_at dksX3_init_4 4 rfl rfl)
theorem dX3_init_97 : decode cX3_init 97 = .ok (.putfield 47, 3) := dk_181 0 47 (dk_at dksX3_init_4 5 rfl rfl)
theorem dX3_init_100 : decode cX3_init 100 = .ok (.return_, 1) := dk_177 (dk_at dksX3_init_4 8 rfl rfl)
abbrev cX3_crossed : ByteArray := prog_15_method_23_code
def yX3_crossed : MethodName := ⟨RX3, "crossed", "()I"⟩
def dkwX3_crossed_5 : List UInt8 := [167, 255, 142, 27, 172]
abbrev dktX3_crossed_5 : List UInt8 := dkwX3_crossed_5 ++ []
def dkwX3_crossed_4 : List UInt8 := [162, 0, 7, 4, 167, 0, 4, 3, 184, 0, 114, 96, 60, 132, 3, 1, 167, 255, 163, 132, 2, 1]
abbrev dktX3_crossed_4 : List UInt8 := dkwX3_crossed_4 ++ dktX3_crossed_5
def dkwX3_crossed_3 : List UInt8 := [182, 0, 249, 153, 0, 28, 25, 5, 182, 0, 249, 153, 0, 20, 25, 5, 180, 0, 163, 25, 4, 180, 0, 163]
abbrev dktX3_crossed_3 : List UInt8 := dkwX3_crossed_3 ++ dktX3_crossed_4
def dkwX3_crossed_2 : List UInt8 := [182, 0, 64, 192, 0, 85, 58, 5, 27, 25, 4, 180, 0, 160, 25, 5, 180, 0, 160, 160, 0, 36, 25, 4]
abbrev dktX3_crossed_2 : List UInt8 := dkwX3_crossed_2 ++ dktX3_crossed_3
def dkwX3_crossed_1 : List UInt8 := [182, 0, 60, 162, 0, 88, 42, 180, 0, 28, 28, 182, 0, 64, 192, 0, 85, 58, 4, 42, 180, 0, 28, 29]
abbrev dktX3_crossed_1 : List UInt8 := dkwX3_crossed_1 ++ dktX3_crossed_2
def dkwX3_crossed_0 : List UInt8 := [3, 60, 3, 61, 28, 42, 180, 0, 28, 182, 0, 60, 162, 0, 109, 28, 4, 96, 62, 29, 42, 180, 0, 28]
abbrev dktX3_crossed_0 : List UInt8 := dkwX3_crossed_0 ++ dktX3_crossed_1
theorem dksX3_crossed_0 : cX3_crossed.data.toList.drop 0 = dktX3_crossed_0 := by decide +kernel
theorem dksX3_crossed_1 : cX3_crossed.data.toList.drop 24 = dktX3_crossed_1 := dk_seg dksX3_crossed_0 24 rfl rfl
theorem dksX3_crossed_2 : cX3_crossed.data.toList.drop 48 = dktX3_crossed_2 := dk_seg dksX3_crossed_1 24 rfl rfl
theorem dksX3_crossed_3 : cX3_crossed.data.toList.drop 72 = dktX3_crossed_3 := dk_seg dksX3_crossed_2 24 rfl rfl
theorem dksX3_crossed_4 : cX3_crossed.data.toList.drop 96 = dktX3_crossed_4 := dk_seg dksX3_crossed_3 24 rfl rfl
theorem dksX3_crossed_5 : cX3_crossed.data.toList.drop 118 = dktX3_crossed_5 := dk_seg dksX3_crossed_4 22 rfl rfl
theorem dX3_crossed_0 : decode cX3_crossed 0 = .ok (.iconst 0, 1) := dk_3 (dk_at dksX3_crossed_0 0 rfl rfl)
theorem dX3_crossed_1 : decode cX3_crossed 1 = .ok (.istore_n 1, 1) := dk_60 (dk_at dksX3_crossed_0 1 rfl rfl)
theorem dX3_crossed_2 : decode cX3_crossed 2 = .ok (.iconst 0, 1) := dk_3 (dk_at dksX3_crossed_0 2 rfl rfl)
theorem dX3_crossed_3 : decode cX3_crossed 3 = .ok (.istore_n 2, 1) := dk_61 (dk_at dksX3_crossed_0 3 rfl rfl)
theorem dX3_crossed_4 : decode cX3_crossed 4 = .ok (.iload_n 2, 1) := dk_28 (dk_at dksX3_crossed_0 4 rfl rfl)
theorem dX3_crossed_5 : decode cX3_crossed 5 = .ok (.aload_n 0, 1) := dk_42 (dk_at dksX3_crossed_0 5 rfl rfl)
theorem dX3_crossed_6 : decode cX3_crossed 6 = .ok (.getfield 28, 3) := dk_180 0 28 (dk_at dksX3_crossed_0 6 rfl rfl)
theorem dX3_crossed_9 : decode cX3_crossed 9 = .ok (.invokevirtual 60, 3) := dk_182 0 60 (dk_at dksX3_crossed_0 9 rfl rfl)
theorem dX3_crossed_12 : decode cX3_crossed 12 = .ok (.if_icmp .ge 109, 3) := dk_162 0 109 (dk_at dksX3_crossed_0 12 rfl rfl)
theorem dX3_crossed_15 : decode cX3_crossed 15 = .ok (.iload_n 2, 1) := dk_28 (dk_at dksX3_crossed_0 15 rfl rfl)
theorem dX3_crossed_16 : decode cX3_crossed 16 = .ok (.iconst 1, 1) := dk_4 (dk_at dksX3_crossed_0 16 rfl rfl)
theorem dX3_crossed_17 : decode cX3_crossed 17 = .ok (.iadd, 1) := dk_96 (dk_at dksX3_crossed_0 17 rfl rfl)
theorem dX3_crossed_18 : decode cX3_crossed 18 = .ok (.istore_n 3, 1) := dk_62 (dk_at dksX3_crossed_0 18 rfl rfl)
theorem dX3_crossed_19 : decode cX3_crossed 19 = .ok (.iload_n 3, 1) := dk_29 (dk_at dksX3_crossed_0 19 rfl rfl)
theorem dX3_crossed_20 : decode cX3_crossed 20 = .ok (.aload_n 0, 1) := dk_42 (dk_at dksX3_crossed_0 20 rfl rfl)
theorem dX3_crossed_21 : decode cX3_crossed 21 = .ok (.getfield 28, 3) := dk_180 0 28 (dk_at dksX3_crossed_0 21 rfl rfl)
theorem dX3_crossed_24 : decode cX3_crossed 24 = .ok (.invokevirtual 60, 3) := dk_182 0 60 (dk_at dksX3_crossed_1 0 rfl rfl)
theorem dX3_crossed_27 : decode cX3_crossed 27 = .ok (.if_icmp .ge 88, 3) := dk_162 0 88 (dk_at dksX3_crossed_1 3 rfl rfl)
theorem dX3_crossed_30 : decode cX3_crossed 30 = .ok (.aload_n 0, 1) := dk_42 (dk_at dksX3_crossed_1 6 rfl rfl)
theorem dX3_crossed_31 : decode cX3_crossed 31 = .ok (.getfield 28, 3) := dk_180 0 28 (dk_at dksX3_crossed_1 7 rfl rfl)
theorem dX3_crossed_34 : decode cX3_crossed 34 = .ok (.iload_n 2, 1) := dk_28 (dk_at dksX3_crossed_1 10 rfl rfl)
theorem dX3_crossed_35 : decode cX3_crossed 35 = .ok (.invokevirtual 64, 3) := dk_182 0 64 (dk_at dksX3_crossed_1 11 rfl rfl)
theorem dX3_crossed_38 : decode cX3_crossed 38 = .ok (.checkcast 85, 3) := dk_192 0 85 (dk_at dksX3_crossed_1 14 rfl rfl)
theorem dX3_crossed_41 : decode cX3_crossed 41 = .ok (.astore 4, 2) := dk_58 4 (dk_at dksX3_crossed_1 17 rfl rfl)
theorem dX3_crossed_43 : decode cX3_crossed 43 = .ok (.aload_n 0, 1) := dk_42 (dk_at dksX3_crossed_1 19 rfl rfl)
theorem dX3_crossed_44 : decode cX3_crossed 44 = .ok (.getfield 28, 3) := dk_180 0 28 (dk_at dksX3_crossed_1 20 rfl rfl)
theorem dX3_crossed_47 : decode cX3_crossed 47 = .ok (.iload_n 3, 1) := dk_29 (dk_at dksX3_crossed_1 23 rfl rfl)
theorem dX3_crossed_48 : decode cX3_crossed 48 = .ok (.invokevirtual 64, 3) := dk_182 0 64 (dk_at dksX3_crossed_2 0 rfl rfl)
theorem dX3_crossed_51 : decode cX3_crossed 51 = .ok (.checkcast 85, 3) := dk_192 0 85 (dk_at dksX3_crossed_2 3 rfl rfl)
theorem dX3_crossed_54 : decode cX3_crossed 54 = .ok (.astore 5, 2) := dk_58 5 (dk_at dksX3_crossed_2 6 rfl rfl)
theorem dX3_crossed_56 : decode cX3_crossed 56 = .ok (.iload_n 1, 1) := dk_27 (dk_at dksX3_crossed_2 8 rfl rfl)
theorem dX3_crossed_57 : decode cX3_crossed 57 = .ok (.aload 4, 2) := dk_25 4 (dk_at dksX3_crossed_2 9 rfl rfl)
theorem dX3_crossed_59 : decode cX3_crossed 59 = .ok (.getfield 160, 3) := dk_180 0 160 (dk_at dksX3_crossed_2 11 rfl rfl)
theorem dX3_crossed_62 : decode cX3_crossed 62 = .ok (.aload 5, 2) := dk_25 5 (dk_at dksX3_crossed_2 14 rfl rfl)
theorem dX3_crossed_64 : decode cX3_crossed 64 = .ok (.getfield 160, 3) := dk_180 0 160 (dk_at dksX3_crossed_2 16 rfl rfl)
theorem dX3_crossed_67 : decode cX3_crossed 67 = .ok (.if_icmp .ne 36, 3) := dk_160 0 36 (dk_at dksX3_crossed_2 19 rfl rfl)
theorem dX3_crossed_70 : decode cX3_crossed 70 = .ok (.aload 4, 2) := dk_25 4 (dk_at dksX3_crossed_2 22 rfl rfl)
theorem dX3_crossed_72 : decode cX3_crossed 72 = .ok (.invokevirtual 249, 3) := dk_182 0 249 (dk_at dksX3_crossed_3 0 rfl rfl)
theorem dX3_crossed_75 : decode cX3_crossed 75 = .ok (.ifCond .eq 28, 3) := dk_153 0 28 (dk_at dksX3_crossed_3 3 rfl rfl)
theorem dX3_crossed_78 : decode cX3_crossed 78 = .ok (.aload 5, 2) := dk_25 5 (dk_at dksX3_crossed_3 6 rfl rfl)
theorem dX3_crossed_80 : decode cX3_crossed 80 = .ok (.invokevirtual 249, 3) := dk_182 0 249 (dk_at dksX3_crossed_3 8 rfl rfl)
theorem dX3_crossed_83 : decode cX3_crossed 83 = .ok (.ifCond .eq 20, 3) := dk_153 0 20 (dk_at dksX3_crossed_3 11 rfl rfl)
theorem dX3_crossed_86 : decode cX3_crossed 86 = .ok (.aload 5, 2) := dk_25 5 (dk_at dksX3_crossed_3 14 rfl rfl)
theorem dX3_crossed_88 : decode cX3_crossed 88 = .ok (.getfield 163, 3) := dk_180 0 163 (dk_at dksX3_crossed_3 16 rfl rfl)
theorem dX3_crossed_91 : decode cX3_crossed 91 = .ok (.aload 4, 2) := dk_25 4 (dk_at dksX3_crossed_3 19 rfl rfl)
theorem dX3_crossed_93 : decode cX3_crossed 93 = .ok (.getfield 163, 3) := dk_180 0 163 (dk_at dksX3_crossed_3 21 rfl rfl)
theorem dX3_crossed_96 : decode cX3_crossed 96 = .ok (.if_icmp .ge 7, 3) := dk_162 0 7 (dk_at dksX3_crossed_4 0 rfl rfl)
theorem dX3_crossed_99 : decode cX3_crossed 99 = .ok (.iconst 1, 1) := dk_4 (dk_at dksX3_crossed_4 3 rfl rfl)
theorem dX3_crossed_100 : decode cX3_crossed 100 = .ok (.goto 4, 3) := dk_167 0 4 (dk_at dksX3_crossed_4 4 rfl rfl)
theorem dX3_crossed_103 : decode cX3_crossed 103 = .ok (.iconst 0, 1) := dk_3 (dk_at dksX3_crossed_4 7 rfl rfl)
theorem dX3_crossed_104 : decode cX3_crossed 104 = .ok (.invokestatic 114, 3) := dk_184 0 114 (dk_at dksX3_crossed_4 8 rfl rfl)
theorem dX3_crossed_107 : decode cX3_crossed 107 = .ok (.iadd, 1) := dk_96 (dk_at dksX3_crossed_4 11 rfl rfl)
theorem dX3_crossed_108 : decode cX3_crossed 108 = .ok (.istore_n 1, 1) := dk_60 (dk_at dksX3_crossed_4 12 rfl rfl)
theorem dX3_crossed_109 : decode cX3_crossed 109 = .ok (.iinc 3 1, 3) := dk_132 3 1 (dk_at dksX3_crossed_4 13 rfl rfl)
theorem dX3_crossed_112 : decode cX3_crossed 112 = .ok (.goto (-93), 3) := dk_167 255 163 (dk_at dksX3_crossed_4 16 rfl rfl)
theorem dX3_crossed_115 : decode cX3_crossed 115 = .ok (.iinc 2 1, 3) := dk_132 2 1 (dk_at dksX3_crossed_4 19 rfl rfl)
theorem dX3_crossed_118 : decode cX3_crossed 118 = .ok (.goto (-114), 3) := dk_167 255 142 (dk_at dksX3_crossed_5 0 rfl rfl)
theorem dX3_crossed_121 : decode cX3_crossed 121 = .ok (.iload_n 1, 1) := dk_27 (dk_at dksX3_crossed_5 3 rfl rfl)
theorem dX3_crossed_122 : decode cX3_crossed 122 = .ok (.ireturn, 1) := dk_172 (dk_at dksX3_crossed_5 4 rfl rfl)
abbrev cX3_inState : ByteArray := prog_15_method_22_code
def yX3_inState : MethodName := ⟨RX3, "inState", "(I)I"⟩
def dkwX3_inState_2 : List UInt8 := [167, 255, 213, 28, 172]
abbrev dktX3_inState_2 : List UInt8 := dkwX3_inState_2 ++ []
def dkwX3_inState_1 : List UInt8 := [192, 0, 85, 180, 0, 135, 27, 160, 0, 7, 4, 167, 0, 4, 3, 184, 0, 114, 96, 61, 132, 3, 1]
abbrev dktX3_inState_1 : List UInt8 := dkwX3_inState_1 ++ dktX3_inState_2
def dkwX3_inState_0 : List UInt8 := [3, 61, 3, 62, 29, 42, 180, 0, 28, 182, 0, 60, 162, 0, 38, 28, 42, 180, 0, 28, 29, 182, 0, 64]
abbrev dktX3_inState_0 : List UInt8 := dkwX3_inState_0 ++ dktX3_inState_1
theorem dksX3_inState_0 : cX3_inState.data.toList.drop 0 = dktX3_inState_0 := by decide +kernel
theorem dksX3_inState_1 : cX3_inState.data.toList.drop 24 = dktX3_inState_1 := dk_seg dksX3_inState_0 24 rfl rfl
theorem dksX3_inState_2 : cX3_inState.data.toList.drop 47 = dktX3_inState_2 := dk_seg dksX3_inState_1 23 rfl rfl
theorem dX3_inState_0 : decode cX3_inState 0 = .ok (.iconst 0, 1) := dk_3 (dk_at dksX3_inState_0 0 rfl rfl)
theorem dX3_inState_1 : decode cX3_inState 1 = .ok (.istore_n 2, 1) := dk_61 (dk_at dksX3_inState_0 1 rfl rfl)
theorem dX3_inState_2 : decode cX3_inState 2 = .ok (.iconst 0, 1) := dk_3 (dk_at dksX3_inState_0 2 rfl rfl)
theorem dX3_inState_3 : decode cX3_inState 3 = .ok (.istore_n 3, 1) := dk_62 (dk_at dksX3_inState_0 3 rfl rfl)
theorem dX3_inState_4 : decode cX3_inState 4 = .ok (.iload_n 3, 1) := dk_29 (dk_at dksX3_inState_0 4 rfl rfl)
theorem dX3_inState_5 : decode cX3_inState 5 = .ok (.aload_n 0, 1) := dk_42 (dk_at dksX3_inState_0 5 rfl rfl)
theorem dX3_inState_6 : decode cX3_inState 6 = .ok (.getfield 28, 3) := dk_180 0 28 (dk_at dksX3_inState_0 6 rfl rfl)
theorem dX3_inState_9 : decode cX3_inState 9 = .ok (.invokevirtual 60, 3) := dk_182 0 60 (dk_at dksX3_inState_0 9 rfl rfl)
theorem dX3_inState_12 : decode cX3_inState 12 = .ok (.if_icmp .ge 38, 3) := dk_162 0 38 (dk_at dksX3_inState_0 12 rfl rfl)
theorem dX3_inState_15 : decode cX3_inState 15 = .ok (.iload_n 2, 1) := dk_28 (dk_at dksX3_inState_0 15 rfl rfl)
theorem dX3_inState_16 : decode cX3_inState 16 = .ok (.aload_n 0, 1) := dk_42 (dk_at dksX3_inState_0 16 rfl rfl)
theorem dX3_inState_17 : decode cX3_inState 17 = .ok (.getfield 28, 3) := dk_180 0 28 (dk_at dksX3_inState_0 17 rfl rfl)
theorem dX3_inState_20 : decode cX3_inState 20 = .ok (.iload_n 3, 1) := dk_29 (dk_at dksX3_inState_0 20 rfl rfl)
theorem dX3_inState_21 : decode cX3_inState 21 = .ok (.invokevirtual 64, 3) := dk_182 0 64 (dk_at dksX3_inState_0 21 rfl rfl)
theorem dX3_inState_24 : decode cX3_inState 24 = .ok (.checkcast 85, 3) := dk_192 0 85 (dk_at dksX3_inState_1 0 rfl rfl)
theorem dX3_inState_27 : decode cX3_inState 27 = .ok (.getfield 135, 3) := dk_180 0 135 (dk_at dksX3_inState_1 3 rfl rfl)
theorem dX3_inState_30 : decode cX3_inState 30 = .ok (.iload_n 1, 1) := dk_27 (dk_at dksX3_inState_1 6 rfl rfl)
theorem dX3_inState_31 : decode cX3_inState 31 = .ok (.if_icmp .ne 7, 3) := dk_160 0 7 (dk_at dksX3_inState_1 7 rfl rfl)
theorem dX3_inState_34 : decode cX3_inState 34 = .ok (.iconst 1, 1) := dk_4 (dk_at dksX3_inState_1 10 rfl rfl)
theorem dX3_inState_35 : decode cX3_inState 35 = .ok (.goto 4, 3) := dk_167 0 4 (dk_at dksX3_inState_1 11 rfl rfl)
theorem dX3_inState_38 : decode cX3_inState 38 = .ok (.iconst 0, 1) := dk_3 (dk_at dksX3_inState_1 14 rfl rfl)
theorem dX3_inState_39 : decode cX3_inState 39 = .ok (.invokestatic 114, 3) := dk_184 0 114 (dk_at dksX3_inState_1 15 rfl rfl)
theorem dX3_inState_42 : decode cX3_inState 42 = .ok (.iadd, 1) := dk_96 (dk_at dksX3_inState_1 18 rfl rfl)
theorem dX3_inState_43 : decode cX3_inState 43 = .ok (.istore_n 2, 1) := dk_61 (dk_at dksX3_inState_1 19 rfl rfl)
theorem dX3_inState_44 : decode cX3_inState 44 = .ok (.iinc 3 1, 3) := dk_132 3 1 (dk_at dksX3_inState_1 20 rfl rfl)
theorem dX3_inState_47 : decode cX3_inState 47 = .ok (.goto (-43), 3) := dk_167 255 213 (dk_at dksX3_inState_2 0 rfl rfl)
theorem dX3_inState_50 : decode cX3_inState 50 = .ok (.iload_n 2, 1) := dk_28 (dk_at dksX3_inState_2 3 rfl rfl)
theorem dX3_inState_51 : decode cX3_inState 51 = .ok (.ireturn, 1) := dk_172 (dk_at dksX3_inState_2 4 rfl rfl)
abbrev cX3_isWall : ByteArray := prog_15_method_4_code
def yX3_isWall : MethodName := ⟨RX3, "isWall", "(II)Z"⟩
def dkwX3_isWall_0 : List UInt8 := [42, 180, 0, 9, 16, 12, 28, 104, 27, 96, 51, 172]
abbrev dktX3_isWall_0 : List UInt8 := dkwX3_isWall_0 ++ []
theorem dksX3_isWall_0 : cX3_isWall.data.toList.drop 0 = dktX3_isWall_0 := by decide +kernel
theorem dX3_isWall_0 : decode cX3_isWall 0 = .ok (.aload_n 0, 1) := dk_42 (dk_at dksX3_isWall_0 0 rfl rfl)
theorem dX3_isWall_1 : decode cX3_isWall 1 = .ok (.getfield 9, 3) := dk_180 0 9 (dk_at dksX3_isWall_0 1 rfl rfl)
theorem dX3_isWall_4 : decode cX3_isWall 4 = .ok (.bipush 12, 2) := dk_16 12 (dk_at dksX3_isWall_0 4 rfl rfl)
theorem dX3_isWall_6 : decode cX3_isWall 6 = .ok (.iload_n 2, 1) := dk_28 (dk_at dksX3_isWall_0 6 rfl rfl)
theorem dX3_isWall_7 : decode cX3_isWall 7 = .ok (.imul, 1) := dk_104 (dk_at dksX3_isWall_0 7 rfl rfl)
theorem dX3_isWall_8 : decode cX3_isWall 8 = .ok (.iload_n 1, 1) := dk_27 (dk_at dksX3_isWall_0 8 rfl rfl)
theorem dX3_isWall_9 : decode cX3_isWall 9 = .ok (.iadd, 1) := dk_96 (dk_at dksX3_isWall_0 9 rfl rfl)
theorem dX3_isWall_10 : decode cX3_isWall 10 = .ok (.baload, 1) := dk_51 (dk_at dksX3_isWall_0 10 rfl rfl)
theorem dX3_isWall_11 : decode cX3_isWall 11 = .ok (.ireturn, 1) := dk_172 (dk_at dksX3_isWall_0 11 rfl rfl)
abbrev cX3_unitAt : ByteArray := prog_15_method_7_code
def yX3_unitAt : MethodName := ⟨RX3, "unitAt", "(II)I"⟩
def dkwX3_unitAt_1 : List UInt8 := [27, 28, 182, 0, 118, 153, 0, 5, 29, 172, 132, 3, 1, 167, 255, 221, 2, 172]
abbrev dktX3_unitAt_1 : List UInt8 := dkwX3_unitAt_1 ++ []
def dkwX3_unitAt_0 : List UInt8 := [3, 62, 29, 42, 180, 0, 18, 182, 0, 60, 162, 0, 30, 42, 180, 0, 18, 29, 182, 0, 64, 192, 0, 68]
abbrev dktX3_unitAt_0 : List UInt8 := dkwX3_unitAt_0 ++ dktX3_unitAt_1
theorem dksX3_unitAt_0 : cX3_unitAt.data.toList.drop 0 = dktX3_unitAt_0 := by decide +kernel
theorem dksX3_unitAt_1 : cX3_unitAt.data.toList.drop 24 = dktX3_unitAt_1 := dk_seg dksX3_unitAt_0 24 rfl rfl
theorem dX3_unitAt_0 : decode cX3_unitAt 0 = .ok (.iconst 0, 1) := dk_3 (dk_at dksX3_unitAt_0 0 rfl rfl)
theorem dX3_unitAt_1 : decode cX3_unitAt 1 = .ok (.istore_n 3, 1) := dk_62 (dk_at dksX3_unitAt_0 1 rfl rfl)
theorem dX3_unitAt_2 : decode cX3_unitAt 2 = .ok (.iload_n 3, 1) := dk_29 (dk_at dksX3_unitAt_0 2 rfl rfl)
theorem dX3_unitAt_3 : decode cX3_unitAt 3 = .ok (.aload_n 0, 1) := dk_42 (dk_at dksX3_unitAt_0 3 rfl rfl)
theorem dX3_unitAt_4 : decode cX3_unitAt 4 = .ok (.getfield 18, 3) := dk_180 0 18 (dk_at dksX3_unitAt_0 4 rfl rfl)
theorem dX3_unitAt_7 : decode cX3_unitAt 7 = .ok (.invokevirtual 60, 3) := dk_182 0 60 (dk_at dksX3_unitAt_0 7 rfl rfl)
theorem dX3_unitAt_10 : decode cX3_unitAt 10 = .ok (.if_icmp .ge 30, 3) := dk_162 0 30 (dk_at dksX3_unitAt_0 10 rfl rfl)
theorem dX3_unitAt_13 : decode cX3_unitAt 13 = .ok (.aload_n 0, 1) := dk_42 (dk_at dksX3_unitAt_0 13 rfl rfl)
theorem dX3_unitAt_14 : decode cX3_unitAt 14 = .ok (.getfield 18, 3) := dk_180 0 18 (dk_at dksX3_unitAt_0 14 rfl rfl)
theorem dX3_unitAt_17 : decode cX3_unitAt 17 = .ok (.iload_n 3, 1) := dk_29 (dk_at dksX3_unitAt_0 17 rfl rfl)
theorem dX3_unitAt_18 : decode cX3_unitAt 18 = .ok (.invokevirtual 64, 3) := dk_182 0 64 (dk_at dksX3_unitAt_0 18 rfl rfl)
theorem dX3_unitAt_21 : decode cX3_unitAt 21 = .ok (.checkcast 68, 3) := dk_192 0 68 (dk_at dksX3_unitAt_0 21 rfl rfl)
theorem dX3_unitAt_24 : decode cX3_unitAt 24 = .ok (.iload_n 1, 1) := dk_27 (dk_at dksX3_unitAt_1 0 rfl rfl)
theorem dX3_unitAt_25 : decode cX3_unitAt 25 = .ok (.iload_n 2, 1) := dk_28 (dk_at dksX3_unitAt_1 1 rfl rfl)
theorem dX3_unitAt_26 : decode cX3_unitAt 26 = .ok (.invokevirtual 118, 3) := dk_182 0 118 (dk_at dksX3_unitAt_1 2 rfl rfl)
theorem dX3_unitAt_29 : decode cX3_unitAt 29 = .ok (.ifCond .eq 5, 3) := dk_153 0 5 (dk_at dksX3_unitAt_1 5 rfl rfl)
theorem dX3_unitAt_32 : decode cX3_unitAt 32 = .ok (.iload_n 3, 1) := dk_29 (dk_at dksX3_unitAt_1 8 rfl rfl)
theorem dX3_unitAt_33 : decode cX3_unitAt 33 = .ok (.ireturn, 1) := dk_172 (dk_at dksX3_unitAt_1 9 rfl rfl)
theorem dX3_unitAt_34 : decode cX3_unitAt 34 = .ok (.iinc 3 1, 3) := dk_132 3 1 (dk_at dksX3_unitAt_1 10 rfl rfl)
theorem dX3_unitAt_37 : decode cX3_unitAt 37 = .ok (.goto (-35), 3) := dk_167 255 221 (dk_at dksX3_unitAt_1 13 rfl rfl)
theorem dX3_unitAt_40 : decode cX3_unitAt 40 = .ok (.iconst (-1), 1) := dk_2 (dk_at dksX3_unitAt_1 16 rfl rfl)
theorem dX3_unitAt_41 : decode cX3_unitAt 41 = .ok (.ireturn, 1) := dk_172 (dk_at dksX3_unitAt_1 17 rfl rfl)
abbrev cX3_wallCount : ByteArray := prog_15_method_6_code
def yX3_wallCount : MethodName := ⟨RX3, "wallCount", "()I"⟩
def dkwX3_wallCount_1 : List UInt8 := [54, 5, 27, 21, 5, 184, 0, 114, 96, 60, 132, 4, 1, 167, 255, 233, 27, 172]
abbrev dktX3_wallCount_1 : List UInt8 := dkwX3_wallCount_1 ++ []
def dkwX3_wallCount_0 : List UInt8 := [3, 60, 42, 180, 0, 9, 77, 44, 190, 62, 3, 54, 4, 21, 4, 29, 162, 0, 23, 44, 21, 4, 51]
abbrev dktX3_wallCount_0 : List UInt8 := dkwX3_wallCount_0 ++ dktX3_wallCount_1
theorem dksX3_wallCount_0 : cX3_wallCount.data.toList.drop 0 = dktX3_wallCount_0 := by decide +kernel
theorem dksX3_wallCount_1 : cX3_wallCount.data.toList.drop 23 = dktX3_wallCount_1 := dk_seg dksX3_wallCount_0 23 rfl rfl
theorem dX3_wallCount_0 : decode cX3_wallCount 0 = .ok (.iconst 0, 1) := dk_3 (dk_at dksX3_wallCount_0 0 rfl rfl)
theorem dX3_wallCount_1 : decode cX3_wallCount 1 = .ok (.istore_n 1, 1) := dk_60 (dk_at dksX3_wallCount_0 1 rfl rfl)
theorem dX3_wallCount_2 : decode cX3_wallCount 2 = .ok (.aload_n 0, 1) := dk_42 (dk_at dksX3_wallCount_0 2 rfl rfl)
theorem dX3_wallCount_3 : decode cX3_wallCount 3 = .ok (.getfield 9, 3) := dk_180 0 9 (dk_at dksX3_wallCount_0 3 rfl rfl)
theorem dX3_wallCount_6 : decode cX3_wallCount 6 = .ok (.astore_n 2, 1) := dk_77 (dk_at dksX3_wallCount_0 6 rfl rfl)
theorem dX3_wallCount_7 : decode cX3_wallCount 7 = .ok (.aload_n 2, 1) := dk_44 (dk_at dksX3_wallCount_0 7 rfl rfl)
theorem dX3_wallCount_8 : decode cX3_wallCount 8 = .ok (.arraylength, 1) := dk_190 (dk_at dksX3_wallCount_0 8 rfl rfl)
theorem dX3_wallCount_9 : decode cX3_wallCount 9 = .ok (.istore_n 3, 1) := dk_62 (dk_at dksX3_wallCount_0 9 rfl rfl)
theorem dX3_wallCount_10 : decode cX3_wallCount 10 = .ok (.iconst 0, 1) := dk_3 (dk_at dksX3_wallCount_0 10 rfl rfl)
theorem dX3_wallCount_11 : decode cX3_wallCount 11 = .ok (.istore 4, 2) := dk_54 4 (dk_at dksX3_wallCount_0 11 rfl rfl)
theorem dX3_wallCount_13 : decode cX3_wallCount 13 = .ok (.iload 4, 2) := dk_21 4 (dk_at dksX3_wallCount_0 13 rfl rfl)
theorem dX3_wallCount_15 : decode cX3_wallCount 15 = .ok (.iload_n 3, 1) := dk_29 (dk_at dksX3_wallCount_0 15 rfl rfl)
theorem dX3_wallCount_16 : decode cX3_wallCount 16 = .ok (.if_icmp .ge 23, 3) := dk_162 0 23 (dk_at dksX3_wallCount_0 16 rfl rfl)
theorem dX3_wallCount_19 : decode cX3_wallCount 19 = .ok (.aload_n 2, 1) := dk_44 (dk_at dksX3_wallCount_0 19 rfl rfl)
theorem dX3_wallCount_20 : decode cX3_wallCount 20 = .ok (.iload 4, 2) := dk_21 4 (dk_at dksX3_wallCount_0 20 rfl rfl)
theorem dX3_wallCount_22 : decode cX3_wallCount 22 = .ok (.baload, 1) := dk_51 (dk_at dksX3_wallCount_0 22 rfl rfl)
theorem dX3_wallCount_23 : decode cX3_wallCount 23 = .ok (.istore 5, 2) := dk_54 5 (dk_at dksX3_wallCount_1 0 rfl rfl)
theorem dX3_wallCount_25 : decode cX3_wallCount 25 = .ok (.iload_n 1, 1) := dk_27 (dk_at dksX3_wallCount_1 2 rfl rfl)
theorem dX3_wallCount_26 : decode cX3_wallCount 26 = .ok (.iload 5, 2) := dk_21 5 (dk_at dksX3_wallCount_1 3 rfl rfl)
theorem dX3_wallCount_28 : decode cX3_wallCount 28 = .ok (.invokestatic 114, 3) := dk_184 0 114 (dk_at dksX3_wallCount_1 5 rfl rfl)
theorem dX3_wallCount_31 : decode cX3_wallCount 31 = .ok (.iadd, 1) := dk_96 (dk_at dksX3_wallCount_1 8 rfl rfl)
theorem dX3_wallCount_32 : decode cX3_wallCount 32 = .ok (.istore_n 1, 1) := dk_60 (dk_at dksX3_wallCount_1 9 rfl rfl)
theorem dX3_wallCount_33 : decode cX3_wallCount 33 = .ok (.iinc 4 1, 3) := dk_132 4 1 (dk_at dksX3_wallCount_1 10 rfl rfl)
theorem dX3_wallCount_36 : decode cX3_wallCount 36 = .ok (.goto (-23), 3) := dk_167 255 233 (dk_at dksX3_wallCount_1 13 rfl rfl)
theorem dX3_wallCount_39 : decode cX3_wallCount 39 = .ok (.iload_n 1, 1) := dk_27 (dk_at dksX3_wallCount_1 16 rfl rfl)
theorem dX3_wallCount_40 : decode cX3_wallCount 40 = .ok (.ireturn, 1) := dk_172 (dk_at dksX3_wallCount_1 17 rfl rfl)
abbrev cX3_obeyed : ByteArray := prog_15_method_13_code
def yX3_obeyed : MethodName := ⟨RX3, "obeyed", "(I)LMessengerBoard$Order;"⟩
def dkwX3_obeyed_2 : List UInt8 := [160, 0, 15, 42, 180, 0, 28, 28, 182, 0, 64, 192, 0, 85, 176, 132, 2, 1, 167, 255, 194, 1, 176]
abbrev dktX3_obeyed_2 : List UInt8 := dkwX3_obeyed_2 ++ []
def dkwX3_obeyed_1 : List UInt8 := [180, 0, 160, 27, 160, 0, 33, 42, 180, 0, 28, 28, 182, 0, 64, 192, 0, 85, 180, 0, 135, 4]
abbrev dktX3_obeyed_1 : List UInt8 := dkwX3_obeyed_1 ++ dktX3_obeyed_2
def dkwX3_obeyed_0 : List UInt8 := [3, 61, 28, 42, 180, 0, 28, 182, 0, 60, 162, 0, 57, 42, 180, 0, 28, 28, 182, 0, 64, 192, 0, 85]
abbrev dktX3_obeyed_0 : List UInt8 := dkwX3_obeyed_0 ++ dktX3_obeyed_1
theorem dksX3_obeyed_0 : cX3_obeyed.data.toList.drop 0 = dktX3_obeyed_0 := by decide +kernel
theorem dksX3_obeyed_1 : cX3_obeyed.data.toList.drop 24 = dktX3_obeyed_1 := dk_seg dksX3_obeyed_0 24 rfl rfl
theorem dksX3_obeyed_2 : cX3_obeyed.data.toList.drop 46 = dktX3_obeyed_2 := dk_seg dksX3_obeyed_1 22 rfl rfl
theorem dX3_obeyed_0 : decode cX3_obeyed 0 = .ok (.iconst 0, 1) := dk_3 (dk_at dksX3_obeyed_0 0 rfl rfl)
theorem dX3_obeyed_1 : decode cX3_obeyed 1 = .ok (.istore_n 2, 1) := dk_61 (dk_at dksX3_obeyed_0 1 rfl rfl)
theorem dX3_obeyed_2 : decode cX3_obeyed 2 = .ok (.iload_n 2, 1) := dk_28 (dk_at dksX3_obeyed_0 2 rfl rfl)
theorem dX3_obeyed_3 : decode cX3_obeyed 3 = .ok (.aload_n 0, 1) := dk_42 (dk_at dksX3_obeyed_0 3 rfl rfl)
theorem dX3_obeyed_4 : decode cX3_obeyed 4 = .ok (.getfield 28, 3) := dk_180 0 28 (dk_at dksX3_obeyed_0 4 rfl rfl)
theorem dX3_obeyed_7 : decode cX3_obeyed 7 = .ok (.invokevirtual 60, 3) := dk_182 0 60 (dk_at dksX3_obeyed_0 7 rfl rfl)
theorem dX3_obeyed_10 : decode cX3_obeyed 10 = .ok (.if_icmp .ge 57, 3) := dk_162 0 57 (dk_at dksX3_obeyed_0 10 rfl rfl)
theorem dX3_obeyed_13 : decode cX3_obeyed 13 = .ok (.aload_n 0, 1) := dk_42 (dk_at dksX3_obeyed_0 13 rfl rfl)
theorem dX3_obeyed_14 : decode cX3_obeyed 14 = .ok (.getfield 28, 3) := dk_180 0 28 (dk_at dksX3_obeyed_0 14 rfl rfl)
theorem dX3_obeyed_17 : decode cX3_obeyed 17 = .ok (.iload_n 2, 1) := dk_28 (dk_at dksX3_obeyed_0 17 rfl rfl)
theorem dX3_obeyed_18 : decode cX3_obeyed 18 = .ok (.invokevirtual 64, 3) := dk_182 0 64 (dk_at dksX3_obeyed_0 18 rfl rfl)
theorem dX3_obeyed_21 : decode cX3_obeyed 21 = .ok (.checkcast 85, 3) := dk_192 0 85 (dk_at dksX3_obeyed_0 21 rfl rfl)
theorem dX3_obeyed_24 : decode cX3_obeyed 24 = .ok (.getfield 160, 3) := dk_180 0 160 (dk_at dksX3_obeyed_1 0 rfl rfl)
theorem dX3_obeyed_27 : decode cX3_obeyed 27 = .ok (.iload_n 1, 1) := dk_27 (dk_at dksX3_obeyed_1 3 rfl rfl)
theorem dX3_obeyed_28 : decode cX3_obeyed 28 = .ok (.if_icmp .ne 33, 3) := dk_160 0 33 (dk_at dksX3_obeyed_1 4 rfl rfl)
theorem dX3_obeyed_31 : decode cX3_obeyed 31 = .ok (.aload_n 0, 1) := dk_42 (dk_at dksX3_obeyed_1 7 rfl rfl)
theorem dX3_obeyed_32 : decode cX3_obeyed 32 = .ok (.getfield 28, 3) := dk_180 0 28 (dk_at dksX3_obeyed_1 8 rfl rfl)
theorem dX3_obeyed_35 : decode cX3_obeyed 35 = .ok (.iload_n 2, 1) := dk_28 (dk_at dksX3_obeyed_1 11 rfl rfl)
theorem dX3_obeyed_36 : decode cX3_obeyed 36 = .ok (.invokevirtual 64, 3) := dk_182 0 64 (dk_at dksX3_obeyed_1 12 rfl rfl)
theorem dX3_obeyed_39 : decode cX3_obeyed 39 = .ok (.checkcast 85, 3) := dk_192 0 85 (dk_at dksX3_obeyed_1 15 rfl rfl)
theorem dX3_obeyed_42 : decode cX3_obeyed 42 = .ok (.getfield 135, 3) := dk_180 0 135 (dk_at dksX3_obeyed_1 18 rfl rfl)
theorem dX3_obeyed_45 : decode cX3_obeyed 45 = .ok (.iconst 1, 1) := dk_4 (dk_at dksX3_obeyed_1 21 rfl rfl)
theorem dX3_obeyed_46 : decode cX3_obeyed 46 = .ok (.if_icmp .ne 15, 3) := dk_160 0 15 (dk_at dksX3_obeyed_2 0 rfl rfl)
theorem dX3_obeyed_49 : decode cX3_obeyed 49 = .ok (.aload_n 0, 1) := dk_42 (dk_at dksX3_obeyed_2 3 rfl rfl)
theorem dX3_obeyed_50 : decode cX3_obeyed 50 = .ok (.getfield 28, 3) := dk_180 0 28 (dk_at dksX3_obeyed_2 4 rfl rfl)
theorem dX3_obeyed_53 : decode cX3_obeyed 53 = .ok (.iload_n 2, 1) := dk_28 (dk_at dksX3_obeyed_2 7 rfl rfl)
theorem dX3_obeyed_54 : decode cX3_obeyed 54 = .ok (.invokevirtual 64, 3) := dk_182 0 64 (dk_at dksX3_obeyed_2 8 rfl rfl)
theorem dX3_obeyed_57 : decode cX3_obeyed 57 = .ok (.checkcast 85, 3) := dk_192 0 85 (dk_at dksX3_obeyed_2 11 rfl rfl)
theorem dX3_obeyed_60 : decode cX3_obeyed 60 = .ok (.areturn, 1) := dk_176 (dk_at dksX3_obeyed_2 14 rfl rfl)
theorem dX3_obeyed_61 : decode cX3_obeyed 61 = .ok (.iinc 2 1, 3) := dk_132 2 1 (dk_at dksX3_obeyed_2 15 rfl rfl)
theorem dX3_obeyed_64 : decode cX3_obeyed 64 = .ok (.goto (-62), 3) := dk_167 255 194 (dk_at dksX3_obeyed_2 18 rfl rfl)
theorem dX3_obeyed_67 : decode cX3_obeyed 67 = .ok (.aconst_null, 1) := dk_1 (dk_at dksX3_obeyed_2 21 rfl rfl)
theorem dX3_obeyed_68 : decode cX3_obeyed 68 = .ok (.areturn, 1) := dk_176 (dk_at dksX3_obeyed_2 22 rfl rfl)
abbrev cX3_underWayFor : ByteArray := prog_15_method_21_code
def yX3_underWayFor : MethodName := ⟨RX3, "underWayFor", "(I)I"⟩
def dkwX3_underWayFor_2 : List UInt8 := [61, 167, 255, 220, 28, 172]
abbrev dktX3_underWayFor_2 : List UInt8 := dkwX3_underWayFor_2 ++ []
def dkwX3_underWayFor_1 : List UInt8 := [185, 0, 232, 1, 0, 192, 0, 85, 180, 0, 160, 27, 160, 0, 7, 4, 167, 0, 4, 3, 184, 0, 114, 96]
abbrev dktX3_underWayFor_1 : List UInt8 := dkwX3_underWayFor_1 ++ dktX3_underWayFor_2
def dkwX3_underWayFor_0 : List UInt8 := [3, 61, 187, 0, 222, 89, 42, 183, 0, 224, 78, 45, 185, 0, 227, 1, 0, 153, 0, 33, 28, 45]
abbrev dktX3_underWayFor_0 : List UInt8 := dkwX3_underWayFor_0 ++ dktX3_underWayFor_1
theorem dksX3_underWayFor_0 : cX3_underWayFor.data.toList.drop 0 = dktX3_underWayFor_0 := by decide +kernel
theorem dksX3_underWayFor_1 : cX3_underWayFor.data.toList.drop 22 = dktX3_underWayFor_1 := dk_seg dksX3_underWayFor_0 22 rfl rfl
theorem dksX3_underWayFor_2 : cX3_underWayFor.data.toList.drop 46 = dktX3_underWayFor_2 := dk_seg dksX3_underWayFor_1 24 rfl rfl
theorem dX3_underWayFor_0 : decode cX3_underWayFor 0 = .ok (.iconst 0, 1) := dk_3 (dk_at dksX3_underWayFor_0 0 rfl rfl)
theorem dX3_underWayFor_1 : decode cX3_underWayFor 1 = .ok (.istore_n 2, 1) := dk_61 (dk_at dksX3_underWayFor_0 1 rfl rfl)
theorem dX3_underWayFor_2 : decode cX3_underWayFor 2 = .ok (.new 222, 3) := dk_187 0 222 (dk_at dksX3_underWayFor_0 2 rfl rfl)
theorem dX3_underWayFor_5 : decode cX3_underWayFor 5 = .ok (.dup, 1) := dk_89 (dk_at dksX3_underWayFor_0 5 rfl rfl)
theorem dX3_underWayFor_6 : decode cX3_underWayFor 6 = .ok (.aload_n 0, 1) := dk_42 (dk_at dksX3_underWayFor_0 6 rfl rfl)
theorem dX3_underWayFor_7 : decode cX3_underWayFor 7 = .ok (.invokespecial 224, 3) := dk_183 0 224 (dk_at dksX3_underWayFor_0 7 rfl rfl)
theorem dX3_underWayFor_10 : decode cX3_underWayFor 10 = .ok (.astore_n 3, 1) := dk_78 (dk_at dksX3_underWayFor_0 10 rfl rfl)
theorem dX3_underWayFor_11 : decode cX3_underWayFor 11 = .ok (.aload_n 3, 1) := dk_45 (dk_at dksX3_underWayFor_0 11 rfl rfl)
theorem dX3_underWayFor_12 : decode cX3_underWayFor 12 = .ok (.invokeinterface 227 1, 5) := by decide +kernel
theorem dX3_underWayFor_17 : decode cX3_underWayFor 17 = .ok (.ifCond .eq 33, 3) := dk_153 0 33 (dk_at dksX3_underWayFor_0 17 rfl rfl)
theorem dX3_underWayFor_20 : decode cX3_underWayFor 20 = .ok (.iload_n 2, 1) := dk_28 (dk_at dksX3_underWayFor_0 20 rfl rfl)
theorem dX3_underWayFor_21 : decode cX3_underWayFor 21 = .ok (.aload_n 3, 1) := dk_45 (dk_at dksX3_underWayFor_0 21 rfl rfl)
theorem dX3_underWayFor_22 : decode cX3_underWayFor 22 = .ok (.invokeinterface 232 1, 5) := by decide +kernel
theorem dX3_underWayFor_27 : decode cX3_underWayFor 27 = .ok (.checkcast 85, 3) := dk_192 0 85 (dk_at dksX3_underWayFor_1 5 rfl rfl)
theorem dX3_underWayFor_30 : decode cX3_underWayFor 30 = .ok (.getfield 160, 3) := dk_180 0 160 (dk_at dksX3_underWayFor_1 8 rfl rfl)
theorem dX3_underWayFor_33 : decode cX3_underWayFor 33 = .ok (.iload_n 1, 1) := dk_27 (dk_at dksX3_underWayFor_1 11 rfl rfl)
theorem dX3_underWayFor_34 : decode cX3_underWayFor 34 = .ok (.if_icmp .ne 7, 3) := dk_160 0 7 (dk_at dksX3_underWayFor_1 12 rfl rfl)
theorem dX3_underWayFor_37 : decode cX3_underWayFor 37 = .ok (.iconst 1, 1) := dk_4 (dk_at dksX3_underWayFor_1 15 rfl rfl)
theorem dX3_underWayFor_38 : decode cX3_underWayFor 38 = .ok (.goto 4, 3) := dk_167 0 4 (dk_at dksX3_underWayFor_1 16 rfl rfl)
theorem dX3_underWayFor_41 : decode cX3_underWayFor 41 = .ok (.iconst 0, 1) := dk_3 (dk_at dksX3_underWayFor_1 19 rfl rfl)
theorem dX3_underWayFor_42 : decode cX3_underWayFor 42 = .ok (.invokestatic 114, 3) := dk_184 0 114 (dk_at dksX3_underWayFor_1 20 rfl rfl)
theorem dX3_underWayFor_45 : decode cX3_underWayFor 45 = .ok (.iadd, 1) := dk_96 (dk_at dksX3_underWayFor_1 23 rfl rfl)
theorem dX3_underWayFor_46 : decode cX3_underWayFor 46 = .ok (.istore_n 2, 1) := dk_61 (dk_at dksX3_underWayFor_2 0 rfl rfl)
theorem dX3_underWayFor_47 : decode cX3_underWayFor 47 = .ok (.goto (-36), 3) := dk_167 255 220 (dk_at dksX3_underWayFor_2 1 rfl rfl)
theorem dX3_underWayFor_50 : decode cX3_underWayFor 50 = .ok (.iload_n 2, 1) := dk_28 (dk_at dksX3_underWayFor_2 4 rfl rfl)
theorem dX3_underWayFor_51 : decode cX3_underWayFor 51 = .ok (.ireturn, 1) := dk_172 (dk_at dksX3_underWayFor_2 5 rfl rfl)
abbrev cX3_isCell : ByteArray := prog_15_method_3_code
def yX3_isCell : MethodName := ⟨RX3, "isCell", "(II)Z"⟩
def dkwX3_isCell_1 : List UInt8 := [100, 133, 184, 0, 103, 153, 0, 7, 4, 167, 0, 4, 3, 172]
abbrev dktX3_isCell_1 : List UInt8 := dkwX3_isCell_1 ++ []
def dkwX3_isCell_0 : List UInt8 := [27, 133, 9, 42, 180, 0, 41, 4, 100, 133, 184, 0, 103, 153, 0, 23, 28, 133, 9, 42, 180, 0, 44, 4]
abbrev dktX3_isCell_0 : List UInt8 := dkwX3_isCell_0 ++ dktX3_isCell_1
theorem dksX3_isCell_0 : cX3_isCell.data.toList.drop 0 = dktX3_isCell_0 := by decide +kernel
theorem dksX3_isCell_1 : cX3_isCell.data.toList.drop 24 = dktX3_isCell_1 := dk_seg dksX3_isCell_0 24 rfl rfl
theorem dX3_isCell_0 : decode cX3_isCell 0 = .ok (.iload_n 1, 1) := dk_27 (dk_at dksX3_isCell_0 0 rfl rfl)
theorem dX3_isCell_1 : decode cX3_isCell 1 = .ok (.i2l, 1) := dk_133 (dk_at dksX3_isCell_0 1 rfl rfl)
theorem dX3_isCell_2 : decode cX3_isCell 2 = .ok (.lconst 0, 1) := dk_9 (dk_at dksX3_isCell_0 2 rfl rfl)
theorem dX3_isCell_3 : decode cX3_isCell 3 = .ok (.aload_n 0, 1) := dk_42 (dk_at dksX3_isCell_0 3 rfl rfl)
theorem dX3_isCell_4 : decode cX3_isCell 4 = .ok (.getfield 41, 3) := dk_180 0 41 (dk_at dksX3_isCell_0 4 rfl rfl)
theorem dX3_isCell_7 : decode cX3_isCell 7 = .ok (.iconst 1, 1) := dk_4 (dk_at dksX3_isCell_0 7 rfl rfl)
theorem dX3_isCell_8 : decode cX3_isCell 8 = .ok (.isub, 1) := dk_100 (dk_at dksX3_isCell_0 8 rfl rfl)
theorem dX3_isCell_9 : decode cX3_isCell 9 = .ok (.i2l, 1) := dk_133 (dk_at dksX3_isCell_0 9 rfl rfl)
theorem dX3_isCell_10 : decode cX3_isCell 10 = .ok (.invokestatic 103, 3) := dk_184 0 103 (dk_at dksX3_isCell_0 10 rfl rfl)
theorem dX3_isCell_13 : decode cX3_isCell 13 = .ok (.ifCond .eq 23, 3) := dk_153 0 23 (dk_at dksX3_isCell_0 13 rfl rfl)
theorem dX3_isCell_16 : decode cX3_isCell 16 = .ok (.iload_n 2, 1) := dk_28 (dk_at dksX3_isCell_0 16 rfl rfl)
theorem dX3_isCell_17 : decode cX3_isCell 17 = .ok (.i2l, 1) := dk_133 (dk_at dksX3_isCell_0 17 rfl rfl)
theorem dX3_isCell_18 : decode cX3_isCell 18 = .ok (.lconst 0, 1) := dk_9 (dk_at dksX3_isCell_0 18 rfl rfl)
theorem dX3_isCell_19 : decode cX3_isCell 19 = .ok (.aload_n 0, 1) := dk_42 (dk_at dksX3_isCell_0 19 rfl rfl)
theorem dX3_isCell_20 : decode cX3_isCell 20 = .ok (.getfield 44, 3) := dk_180 0 44 (dk_at dksX3_isCell_0 20 rfl rfl)
theorem dX3_isCell_23 : decode cX3_isCell 23 = .ok (.iconst 1, 1) := dk_4 (dk_at dksX3_isCell_0 23 rfl rfl)
theorem dX3_isCell_24 : decode cX3_isCell 24 = .ok (.isub, 1) := dk_100 (dk_at dksX3_isCell_1 0 rfl rfl)
theorem dX3_isCell_25 : decode cX3_isCell 25 = .ok (.i2l, 1) := dk_133 (dk_at dksX3_isCell_1 1 rfl rfl)
theorem dX3_isCell_26 : decode cX3_isCell 26 = .ok (.invokestatic 103, 3) := dk_184 0 103 (dk_at dksX3_isCell_1 2 rfl rfl)
theorem dX3_isCell_29 : decode cX3_isCell 29 = .ok (.ifCond .eq 7, 3) := dk_153 0 7 (dk_at dksX3_isCell_1 5 rfl rfl)
theorem dX3_isCell_32 : decode cX3_isCell 32 = .ok (.iconst 1, 1) := dk_4 (dk_at dksX3_isCell_1 8 rfl rfl)
theorem dX3_isCell_33 : decode cX3_isCell 33 = .ok (.goto 4, 3) := dk_167 0 4 (dk_at dksX3_isCell_1 9 rfl rfl)
theorem dX3_isCell_36 : decode cX3_isCell 36 = .ok (.iconst 0, 1) := dk_3 (dk_at dksX3_isCell_1 12 rfl rfl)
theorem dX3_isCell_37 : decode cX3_isCell 37 = .ok (.ireturn, 1) := dk_172 (dk_at dksX3_isCell_1 13 rfl rfl)
abbrev cX3_watcher : ByteArray := prog_15_method_9_code
def yX3_watcher : MethodName := ⟨RX3, "watcher", "(III)I"⟩
def dkwX3_watcher_1 : List UInt8 := [192, 0, 78, 27, 28, 29, 182, 0, 131, 153, 0, 6, 21, 4, 172, 132, 4, 1, 167, 255, 217, 2, 172]
abbrev dktX3_watcher_1 : List UInt8 := dkwX3_watcher_1 ++ []
def dkwX3_watcher_0 : List UInt8 := [3, 54, 4, 21, 4, 42, 180, 0, 22, 182, 0, 60, 162, 0, 33, 42, 180, 0, 22, 21, 4, 182, 0, 64]
abbrev dktX3_watcher_0 : List UInt8 := dkwX3_watcher_0 ++ dktX3_watcher_1
theorem dksX3_watcher_0 : cX3_watcher.data.toList.drop 0 = dktX3_watcher_0 := by decide +kernel
theorem dksX3_watcher_1 : cX3_watcher.data.toList.drop 24 = dktX3_watcher_1 := dk_seg dksX3_watcher_0 24 rfl rfl
theorem dX3_watcher_0 : decode cX3_watcher 0 = .ok (.iconst 0, 1) := dk_3 (dk_at dksX3_watcher_0 0 rfl rfl)
theorem dX3_watcher_1 : decode cX3_watcher 1 = .ok (.istore 4, 2) := dk_54 4 (dk_at dksX3_watcher_0 1 rfl rfl)
theorem dX3_watcher_3 : decode cX3_watcher 3 = .ok (.iload 4, 2) := dk_21 4 (dk_at dksX3_watcher_0 3 rfl rfl)
theorem dX3_watcher_5 : decode cX3_watcher 5 = .ok (.aload_n 0, 1) := dk_42 (dk_at dksX3_watcher_0 5 rfl rfl)
theorem dX3_watcher_6 : decode cX3_watcher 6 = .ok (.getfield 22, 3) := dk_180 0 22 (dk_at dksX3_watcher_0 6 rfl rfl)
theorem dX3_watcher_9 : decode cX3_watcher 9 = .ok (.invokevirtual 60, 3) := dk_182 0 60 (dk_at dksX3_watcher_0 9 rfl rfl)
theorem dX3_watcher_12 : decode cX3_watcher 12 = .ok (.if_icmp .ge 33, 3) := dk_162 0 33 (dk_at dksX3_watcher_0 12 rfl rfl)
theorem dX3_watcher_15 : decode cX3_watcher 15 = .ok (.aload_n 0, 1) := dk_42 (dk_at dksX3_watcher_0 15 rfl rfl)
theorem dX3_watcher_16 : decode cX3_watcher 16 = .ok (.getfield 22, 3) := dk_180 0 22 (dk_at dksX3_watcher_0 16 rfl rfl)
theorem dX3_watcher_19 : decode cX3_watcher 19 = .ok (.iload 4, 2) := dk_21 4 (dk_at dksX3_watcher_0 19 rfl rfl)
theorem dX3_watcher_21 : decode cX3_watcher 21 = .ok (.invokevirtual 64, 3) := dk_182 0 64 (dk_at dksX3_watcher_0 21 rfl rfl)
theorem dX3_watcher_24 : decode cX3_watcher 24 = .ok (.checkcast 78, 3) := dk_192 0 78 (dk_at dksX3_watcher_1 0 rfl rfl)
theorem dX3_watcher_27 : decode cX3_watcher 27 = .ok (.iload_n 1, 1) := dk_27 (dk_at dksX3_watcher_1 3 rfl rfl)
theorem dX3_watcher_28 : decode cX3_watcher 28 = .ok (.iload_n 2, 1) := dk_28 (dk_at dksX3_watcher_1 4 rfl rfl)
theorem dX3_watcher_29 : decode cX3_watcher 29 = .ok (.iload_n 3, 1) := dk_29 (dk_at dksX3_watcher_1 5 rfl rfl)
theorem dX3_watcher_30 : decode cX3_watcher 30 = .ok (.invokevirtual 131, 3) := dk_182 0 131 (dk_at dksX3_watcher_1 6 rfl rfl)
theorem dX3_watcher_33 : decode cX3_watcher 33 = .ok (.ifCond .eq 6, 3) := dk_153 0 6 (dk_at dksX3_watcher_1 9 rfl rfl)
theorem dX3_watcher_36 : decode cX3_watcher 36 = .ok (.iload 4, 2) := dk_21 4 (dk_at dksX3_watcher_1 12 rfl rfl)
theorem dX3_watcher_38 : decode cX3_watcher 38 = .ok (.ireturn, 1) := dk_172 (dk_at dksX3_watcher_1 14 rfl rfl)
theorem dX3_watcher_39 : decode cX3_watcher 39 = .ok (.iinc 4 1, 3) := dk_132 4 1 (dk_at dksX3_watcher_1 15 rfl rfl)
theorem dX3_watcher_42 : decode cX3_watcher 42 = .ok (.goto (-39), 3) := dk_167 255 217 (dk_at dksX3_watcher_1 18 rfl rfl)
theorem dX3_watcher_45 : decode cX3_watcher 45 = .ok (.iconst (-1), 1) := dk_2 (dk_at dksX3_watcher_1 21 rfl rfl)
theorem dX3_watcher_46 : decode cX3_watcher 46 = .ok (.ireturn, 1) := dk_172 (dk_at dksX3_watcher_1 22 rfl rfl)
abbrev cX3_isFree : ByteArray := prog_15_method_5_code
def yX3_isFree : MethodName := ⟨RX3, "isFree", "(II)Z"⟩
def dkwX3_isFree_0 : List UInt8 := [42, 27, 28, 182, 0, 107, 153, 0, 16, 42, 27, 28, 182, 0, 111, 154, 0, 7, 4, 167, 0, 4, 3, 172]
abbrev dktX3_isFree_0 : List UInt8 := dkwX3_isFree_0 ++ []
theorem dksX3_isFree_0 : cX3_isFree.data.toList.drop 0 = dktX3_isFree_0 := by decide +kernel
theorem dX3_isFree_0 : decode cX3_isFree 0 = .ok (.aload_n 0, 1) := dk_42 (dk_at dksX3_isFree_0 0 rfl rfl)
theorem dX3_isFree_1 : decode cX3_isFree 1 = .ok (.iload_n 1, 1) := dk_27 (dk_at dksX3_isFree_0 1 rfl rfl)
theorem dX3_isFree_2 : decode cX3_isFree 2 = .ok (.iload_n 2, 1) := dk_28 (dk_at dksX3_isFree_0 2 rfl rfl)
theorem dX3_isFree_3 : decode cX3_isFree 3 = .ok (.invokevirtual 107, 3) := dk_182 0 107 (dk_at dksX3_isFree_0 3 rfl rfl)
theorem dX3_isFree_6 : decode cX3_isFree 6 = .ok (.ifCond .eq 16, 3) := dk_153 0 16 (dk_at dksX3_isFree_0 6 rfl rfl)
theorem dX3_isFree_9 : decode cX3_isFree 9 = .ok (.aload_n 0, 1) := dk_42 (dk_at dksX3_isFree_0 9 rfl rfl)
theorem dX3_isFree_10 : decode cX3_isFree 10 = .ok (.iload_n 1, 1) := dk_27 (dk_at dksX3_isFree_0 10 rfl rfl)
theorem dX3_isFree_11 : decode cX3_isFree 11 = .ok (.iload_n 2, 1) := dk_28 (dk_at dksX3_isFree_0 11 rfl rfl)
theorem dX3_isFree_12 : decode cX3_isFree 12 = .ok (.invokevirtual 111, 3) := dk_182 0 111 (dk_at dksX3_isFree_0 12 rfl rfl)
theorem dX3_isFree_15 : decode cX3_isFree 15 = .ok (.ifCond .ne 7, 3) := dk_154 0 7 (dk_at dksX3_isFree_0 15 rfl rfl)
theorem dX3_isFree_18 : decode cX3_isFree 18 = .ok (.iconst 1, 1) := dk_4 (dk_at dksX3_isFree_0 18 rfl rfl)
theorem dX3_isFree_19 : decode cX3_isFree 19 = .ok (.goto 4, 3) := dk_167 0 4 (dk_at dksX3_isFree_0 19 rfl rfl)
theorem dX3_isFree_22 : decode cX3_isFree 22 = .ok (.iconst 0, 1) := dk_3 (dk_at dksX3_isFree_0 22 rfl rfl)
theorem dX3_isFree_23 : decode cX3_isFree 23 = .ok (.ireturn, 1) := dk_172 (dk_at dksX3_isFree_0 23 rfl rfl)
abbrev cX3_copy : ByteArray := prog_15_method_2_code
def yX3_copy : MethodName := ⟨RX3, "copy", "()LMessengerBoard$State;"⟩
def dkwX3_copy_13 : List UInt8 := [43, 176]
abbrev dktX3_copy_13 : List UInt8 := dkwX3_copy_13 ++ []
def dkwX3_copy_12 : List UInt8 := [43, 42, 180, 0, 97, 181, 0, 97, 43, 42, 180, 0, 100, 181, 0, 100, 43, 42, 180, 0, 37, 181, 0, 37]
abbrev dktX3_copy_12 : List UInt8 := dkwX3_copy_12 ++ dktX3_copy_13
def dkwX3_copy_11 : List UInt8 := [182, 0, 64, 192, 0, 92, 182, 0, 74, 87, 132, 2, 1, 167, 255, 223, 43, 42, 180, 0, 94, 181, 0, 94]
abbrev dktX3_copy_11 : List UInt8 := dkwX3_copy_11 ++ dktX3_copy_12
def dkwX3_copy_10 : List UInt8 := [3, 61, 28, 42, 180, 0, 34, 182, 0, 60, 162, 0, 28, 43, 180, 0, 34, 42, 180, 0, 34, 28]
abbrev dktX3_copy_10 : List UInt8 := dkwX3_copy_10 ++ dktX3_copy_11
def dkwX3_copy_9 : List UInt8 := [180, 0, 31, 42, 180, 0, 31, 28, 182, 0, 64, 192, 0, 90, 182, 0, 74, 87, 132, 2, 1, 167, 255, 223]
abbrev dktX3_copy_9 : List UInt8 := dkwX3_copy_9 ++ dktX3_copy_10
def dkwX3_copy_8 : List UInt8 := [182, 0, 74, 87, 132, 2, 1, 167, 255, 220, 3, 61, 28, 42, 180, 0, 31, 182, 0, 60, 162, 0, 28, 43]
abbrev dktX3_copy_8 : List UInt8 := dkwX3_copy_8 ++ dktX3_copy_9
def dkwX3_copy_7 : List UInt8 := [182, 0, 60, 162, 0, 31, 43, 180, 0, 28, 42, 180, 0, 28, 28, 182, 0, 64, 192, 0, 85, 182, 0, 87]
abbrev dktX3_copy_7 : List UInt8 := dkwX3_copy_7 ++ dktX3_copy_8
def dkwX3_copy_6 : List UInt8 := [182, 0, 64, 192, 0, 83, 182, 0, 74, 87, 132, 2, 1, 167, 255, 223, 3, 61, 28, 42, 180, 0, 28]
abbrev dktX3_copy_6 : List UInt8 := dkwX3_copy_6 ++ dktX3_copy_7
def dkwX3_copy_5 : List UInt8 := [3, 61, 28, 42, 180, 0, 25, 182, 0, 60, 162, 0, 28, 43, 180, 0, 25, 42, 180, 0, 25, 28]
abbrev dktX3_copy_5 : List UInt8 := dkwX3_copy_5 ++ dktX3_copy_6
def dkwX3_copy_4 : List UInt8 := [42, 180, 0, 22, 28, 182, 0, 64, 192, 0, 78, 182, 0, 80, 182, 0, 74, 87, 132, 2, 1, 167, 255, 220]
abbrev dktX3_copy_4 : List UInt8 := dkwX3_copy_4 ++ dktX3_copy_5
def dkwX3_copy_3 : List UInt8 := [87, 132, 2, 1, 167, 255, 220, 3, 61, 28, 42, 180, 0, 22, 182, 0, 60, 162, 0, 31, 43, 180, 0, 22]
abbrev dktX3_copy_3 : List UInt8 := dkwX3_copy_3 ++ dktX3_copy_4
def dkwX3_copy_2 : List UInt8 := [162, 0, 31, 43, 180, 0, 18, 42, 180, 0, 18, 28, 182, 0, 64, 192, 0, 68, 182, 0, 70, 182, 0, 74]
abbrev dktX3_copy_2 : List UInt8 := dkwX3_copy_2 ++ dktX3_copy_3
def dkwX3_copy_1 : List UInt8 := [3, 43, 180, 0, 9, 3, 17, 0, 144, 184, 0, 54, 3, 61, 28, 42, 180, 0, 18, 182, 0, 60]
abbrev dktX3_copy_1 : List UInt8 := dkwX3_copy_1 ++ dktX3_copy_2
def dkwX3_copy_0 : List UInt8 := [187, 0, 10, 89, 42, 180, 0, 41, 42, 180, 0, 44, 42, 180, 0, 47, 183, 0, 51, 76, 42, 180, 0, 9]
abbrev dktX3_copy_0 : List UInt8 := dkwX3_copy_0 ++ dktX3_copy_1
theorem dksX3_copy_0 : cX3_copy.data.toList.drop 0 = dktX3_copy_0 := by decide +kernel
theorem dksX3_copy_1 : cX3_copy.data.toList.drop 24 = dktX3_copy_1 := dk_seg dksX3_copy_0 24 rfl rfl
theorem dksX3_copy_2 : cX3_copy.data.toList.drop 46 = dktX3_copy_2 := dk_seg dksX3_copy_1 22 rfl rfl
theorem dksX3_copy_3 : cX3_copy.data.toList.drop 70 = dktX3_copy_3 := dk_seg dksX3_copy_2 24 rfl rfl
theorem dksX3_copy_4 : cX3_copy.data.toList.drop 94 = dktX3_copy_4 := dk_seg dksX3_copy_3 24 rfl rfl
theorem dksX3_copy_5 : cX3_copy.data.toList.drop 118 = dktX3_copy_5 := dk_seg dksX3_copy_4 24 rfl rfl
theorem dksX3_copy_6 : cX3_copy.data.toList.drop 140 = dktX3_copy_6 := dk_seg dksX3_copy_5 22 rfl rfl
theorem dksX3_copy_7 : cX3_copy.data.toList.drop 163 = dktX3_copy_7 := dk_seg dksX3_copy_6 23 rfl rfl
theorem dksX3_copy_8 : cX3_copy.data.toList.drop 187 = dktX3_copy_8 := dk_seg dksX3_copy_7 24 rfl rfl
theorem dksX3_copy_9 : cX3_copy.data.toList.drop 211 = dktX3_copy_9 := dk_seg dksX3_copy_8 24 rfl rfl
theorem dksX3_copy_10 : cX3_copy.data.toList.drop 235 = dktX3_copy_10 := dk_seg dksX3_copy_9 24 rfl rfl
theorem dksX3_copy_11 : cX3_copy.data.toList.drop 257 = dktX3_copy_11 := dk_seg dksX3_copy_10 22 rfl rfl
theorem dksX3_copy_12 : cX3_copy.data.toList.drop 281 = dktX3_copy_12 := dk_seg dksX3_copy_11 24 rfl rfl
theorem dksX3_copy_13 : cX3_copy.data.toList.drop 305 = dktX3_copy_13 := dk_seg dksX3_copy_12 24 rfl rfl
theorem dX3_copy_0 : decode cX3_copy 0 = .ok (.new 10, 3) := dk_187 0 10 (dk_at dksX3_copy_0 0 rfl rfl)
theorem dX3_copy_3 : decode cX3_copy 3 = .ok (.dup, 1) := dk_89 (dk_at dksX3_copy_0 3 rfl rfl)
theorem dX3_copy_4 : decode cX3_copy 4 = .ok (.aload_n 0, 1) := dk_42 (dk_at dksX3_copy_0 4 rfl rfl)
theorem dX3_copy_5 : decode cX3_copy 5 = .ok (.getfield 41, 3) := dk_180 0 41 (dk_at dksX3_copy_0 5 rfl rfl)
theorem dX3_copy_8 : decode cX3_copy 8 = .ok (.aload_n 0, 1) := dk_42 (dk_at dksX3_copy_0 8 rfl rfl)
theorem dX3_copy_9 : decode cX3_copy 9 = .ok (.getfield 44, 3) := dk_180 0 44 (dk_at dksX3_copy_0 9 rfl rfl)
theorem dX3_copy_12 : decode cX3_copy 12 = .ok (.aload_n 0, 1) := dk_42 (dk_at dksX3_copy_0 12 rfl rfl)
theorem dX3_copy_13 : decode cX3_copy 13 = .ok (.getfield 47, 3) := dk_180 0 47 (dk_at dksX3_copy_0 13 rfl rfl)
theorem dX3_copy_16 : decode cX3_copy 16 = .ok (.invokespecial 51, 3) := dk_183 0 51 (dk_at dksX3_copy_0 16 rfl rfl)
theorem dX3_copy_19 : decode cX3_copy 19 = .ok (.astore_n 1, 1) := dk_76 (dk_at dksX3_copy_0 19 rfl rfl)
theorem dX3_copy_20 : decode cX3_copy 20 = .ok (.aload_n 0, 1) := dk_42 (dk_at dksX3_copy_0 20 rfl rfl)
theorem dX3_copy_21 : decode cX3_copy 21 = .ok (.getfield 9, 3) := dk_180 0 9 (dk_at dksX3_copy_0 21 rfl rfl)
theorem dX3_copy_24 : decode cX3_copy 24 = .ok (.iconst 0, 1) := dk_3 (dk_at dksX3_copy_1 0 rfl rfl)
theorem dX3_copy_25 : decode cX3_copy 25 = .ok (.aload_n 1, 1) := dk_43 (dk_at dksX3_copy_1 1 rfl rfl)
theorem dX3_copy_26 : decode cX3_copy 26 = .ok (.getfield 9, 3) := dk_180 0 9 (dk_at dksX3_copy_1 2 rfl rfl)
theorem dX3_copy_29 : decode cX3_copy 29 = .ok (.iconst 0, 1) := dk_3 (dk_at dksX3_copy_1 5 rfl rfl)
theorem dX3_copy_30 : decode cX3_copy 30 = .ok (.sipush 144, 3) := dk_17 0 144 (dk_at dksX3_copy_1 6 rfl rfl)
theorem dX3_copy_33 : decode cX3_copy 33 = .ok (.invokestatic 54, 3) := dk_184 0 54 (dk_at dksX3_copy_1 9 rfl rfl)
theorem dX3_copy_36 : decode cX3_copy 36 = .ok (.iconst 0, 1) := dk_3 (dk_at dksX3_copy_1 12 rfl rfl)
theorem dX3_copy_37 : decode cX3_copy 37 = .ok (.istore_n 2, 1) := dk_61 (dk_at dksX3_copy_1 13 rfl rfl)
theorem dX3_copy_38 : decode cX3_copy 38 = .ok (.iload_n 2, 1) := dk_28 (dk_at dksX3_copy_1 14 rfl rfl)
theorem dX3_copy_39 : decode cX3_copy 39 = .ok (.aload_n 0, 1) := dk_42 (dk_at dksX3_copy_1 15 rfl rfl)
theorem dX3_copy_40 : decode cX3_copy 40 = .ok (.getfield 18, 3) := dk_180 0 18 (dk_at dksX3_copy_1 16 rfl rfl)
theorem dX3_copy_43 : decode cX3_copy 43 = .ok (.invokevirtual 60, 3) := dk_182 0 60 (dk_at dksX3_copy_1 19 rfl rfl)
theorem dX3_copy_46 : decode cX3_copy 46 = .ok (.if_icmp .ge 31, 3) := dk_162 0 31 (dk_at dksX3_copy_2 0 rfl rfl)
theorem dX3_copy_49 : decode cX3_copy 49 = .ok (.aload_n 1, 1) := dk_43 (dk_at dksX3_copy_2 3 rfl rfl)
theorem dX3_copy_50 : decode cX3_copy 50 = .ok (.getfield 18, 3) := dk_180 0 18 (dk_at dksX3_copy_2 4 rfl rfl)
theorem dX3_copy_53 : decode cX3_copy 53 = .ok (.aload_n 0, 1) := dk_42 (dk_at dksX3_copy_2 7 rfl rfl)
theorem dX3_copy_54 : decode cX3_copy 54 = .ok (.getfield 18, 3) := dk_180 0 18 (dk_at dksX3_copy_2 8 rfl rfl)
theorem dX3_copy_57 : decode cX3_copy 57 = .ok (.iload_n 2, 1) := dk_28 (dk_at dksX3_copy_2 11 rfl rfl)
theorem dX3_copy_58 : decode cX3_copy 58 = .ok (.invokevirtual 64, 3) := dk_182 0 64 (dk_at dksX3_copy_2 12 rfl rfl)
theorem dX3_copy_61 : decode cX3_copy 61 = .ok (.checkcast 68, 3) := dk_192 0 68 (dk_at dksX3_copy_2 15 rfl rfl)
theorem dX3_copy_64 : decode cX3_copy 64 = .ok (.invokevirtual 70, 3) := dk_182 0 70 (dk_at dksX3_copy_2 18 rfl rfl)
theorem dX3_copy_67 : decode cX3_copy 67 = .ok (.invokevirtual 74, 3) := dk_182 0 74 (dk_at dksX3_copy_2 21 rfl rfl)
theorem dX3_copy_70 : decode cX3_copy 70 = .ok (.pop, 1) := dk_87 (dk_at dksX3_copy_3 0 rfl rfl)
theorem dX3_copy_71 : decode cX3_copy 71 = .ok (.iinc 2 1, 3) := dk_132 2 1 (dk_at dksX3_copy_3 1 rfl rfl)
theorem dX3_copy_74 : decode cX3_copy 74 = .ok (.goto (-36), 3) := dk_167 255 220 (dk_at dksX3_copy_3 4 rfl rfl)
theorem dX3_copy_77 : decode cX3_copy 77 = .ok (.iconst 0, 1) := dk_3 (dk_at dksX3_copy_3 7 rfl rfl)
theorem dX3_copy_78 : decode cX3_copy 78 = .ok (.istore_n 2, 1) := dk_61 (dk_at dksX3_copy_3 8 rfl rfl)
theorem dX3_copy_79 : decode cX3_copy 79 = .ok (.iload_n 2, 1) := dk_28 (dk_at dksX3_copy_3 9 rfl rfl)
theorem dX3_copy_80 : decode cX3_copy 80 = .ok (.aload_n 0, 1) := dk_42 (dk_at dksX3_copy_3 10 rfl rfl)
theorem dX3_copy_81 : decode cX3_copy 81 = .ok (.getfield 22, 3) := dk_180 0 22 (dk_at dksX3_copy_3 11 rfl rfl)
theorem dX3_copy_84 : decode cX3_copy 84 = .ok (.invokevirtual 60, 3) := dk_182 0 60 (dk_at dksX3_copy_3 14 rfl rfl)
theorem dX3_copy_87 : decode cX3_copy 87 = .ok (.if_icmp .ge 31, 3) := dk_162 0 31 (dk_at dksX3_copy_3 17 rfl rfl)
theorem dX3_copy_90 : decode cX3_copy 90 = .ok (.aload_n 1, 1) := dk_43 (dk_at dksX3_copy_3 20 rfl rfl)
theorem dX3_copy_91 : decode cX3_copy 91 = .ok (.getfield 22, 3) := dk_180 0 22 (dk_at dksX3_copy_3 21 rfl rfl)
theorem dX3_copy_94 : decode cX3_copy 94 = .ok (.aload_n 0, 1) := dk_42 (dk_at dksX3_copy_4 0 rfl rfl)
theorem dX3_copy_95 : decode cX3_copy 95 = .ok (.getfield 22, 3) := dk_180 0 22 (dk_at dksX3_copy_4 1 rfl rfl)
theorem dX3_copy_98 : decode cX3_copy 98 = .ok (.iload_n 2, 1) := dk_28 (dk_at dksX3_copy_4 4 rfl rfl)
theorem dX3_copy_99 : decode cX3_copy 99 = .ok (.invokevirtual 64, 3) := dk_182 0 64 (dk_at dksX3_copy_4 5 rfl rfl)
theorem dX3_copy_102 : decode cX3_copy 102 = .ok (.checkcast 78, 3) := dk_192 0 78 (dk_at dksX3_copy_4 8 rfl rfl)
theorem dX3_copy_105 : decode cX3_copy 105 = .ok (.invokevirtual 80, 3) := dk_182 0 80 (dk_at dksX3_copy_4 11 rfl rfl)
theorem dX3_copy_108 : decode cX3_copy 108 = .ok (.invokevirtual 74, 3) := dk_182 0 74 (dk_at dksX3_copy_4 14 rfl rfl)
theorem dX3_copy_111 : decode cX3_copy 111 = .ok (.pop, 1) := dk_87 (dk_at dksX3_copy_4 17 rfl rfl)
theorem dX3_copy_112 : decode cX3_copy 112 = .ok (.iinc 2 1, 3) := dk_132 2 1 (dk_at dksX3_copy_4 18 rfl rfl)
theorem dX3_copy_115 : decode cX3_copy 115 = .ok (.goto (-36), 3) := dk_167 255 220 (dk_at dksX3_copy_4 21 rfl rfl)
theorem dX3_copy_118 : decode cX3_copy 118 = .ok (.iconst 0, 1) := dk_3 (dk_at dksX3_copy_5 0 rfl rfl)
theorem dX3_copy_119 : decode cX3_copy 119 = .ok (.istore_n 2, 1) := dk_61 (dk_at dksX3_copy_5 1 rfl rfl)
theorem dX3_copy_120 : decode cX3_copy 120 = .ok (.iload_n 2, 1) := dk_28 (dk_at dksX3_copy_5 2 rfl rfl)
theorem dX3_copy_121 : decode cX3_copy 121 = .ok (.aload_n 0, 1) := dk_42 (dk_at dksX3_copy_5 3 rfl rfl)
theorem dX3_copy_122 : decode cX3_copy 122 = .ok (.getfield 25, 3) := dk_180 0 25 (dk_at dksX3_copy_5 4 rfl rfl)
theorem dX3_copy_125 : decode cX3_copy 125 = .ok (.invokevirtual 60, 3) := dk_182 0 60 (dk_at dksX3_copy_5 7 rfl rfl)
theorem dX3_copy_128 : decode cX3_copy 128 = .ok (.if_icmp .ge 28, 3) := dk_162 0 28 (dk_at dksX3_copy_5 10 rfl rfl)
theorem dX3_copy_131 : decode cX3_copy 131 = .ok (.aload_n 1, 1) := dk_43 (dk_at dksX3_copy_5 13 rfl rfl)
theorem dX3_copy_132 : decode cX3_copy 132 = .ok (.getfield 25, 3) := dk_180 0 25 (dk_at dksX3_copy_5 14 rfl rfl)
theorem dX3_copy_135 : decode cX3_copy 135 = .ok (.aload_n 0, 1) := dk_42 (dk_at dksX3_copy_5 17 rfl rfl)
theorem dX3_copy_136 : decode cX3_copy 136 = .ok (.getfield 25, 3) := dk_180 0 25 (dk_at dksX3_copy_5 18 rfl rfl)
theorem dX3_copy_139 : decode cX3_copy 139 = .ok (.iload_n 2, 1) := dk_28 (dk_at dksX3_copy_5 21 rfl rfl)
theorem dX3_copy_140 : decode cX3_copy 140 = .ok (.invokevirtual 64, 3) := dk_182 0 64 (dk_at dksX3_copy_6 0 rfl rfl)
theorem dX3_copy_143 : decode cX3_copy 143 = .ok (.checkcast 83, 3) := dk_192 0 83 (dk_at dksX3_copy_6 3 rfl rfl)
theorem dX3_copy_146 : decode cX3_copy 146 = .ok (.invokevirtual 74, 3) := dk_182 0 74 (dk_at dksX3_copy_6 6 rfl rfl)
theorem dX3_copy_149 : decode cX3_copy 149 = .ok (.pop, 1) := dk_87 (dk_at dksX3_copy_6 9 rfl rfl)
theorem dX3_copy_150 : decode cX3_copy 150 = .ok (.iinc 2 1, 3) := dk_132 2 1 (dk_at dksX3_copy_6 10 rfl rfl)
theorem dX3_copy_153 : decode cX3_copy 153 = .ok (.goto (-33), 3) := dk_167 255 223 (dk_at dksX3_copy_6 13 rfl rfl)
theorem dX3_copy_156 : decode cX3_copy 156 = .ok (.iconst 0, 1) := dk_3 (dk_at dksX3_copy_6 16 rfl rfl)
theorem dX3_copy_157 : decode cX3_copy 157 = .ok (.istore_n 2, 1) := dk_61 (dk_at dksX3_copy_6 17 rfl rfl)
theorem dX3_copy_158 : decode cX3_copy 158 = .ok (.iload_n 2, 1) := dk_28 (dk_at dksX3_copy_6 18 rfl rfl)
theorem dX3_copy_159 : decode cX3_copy 159 = .ok (.aload_n 0, 1) := dk_42 (dk_at dksX3_copy_6 19 rfl rfl)
theorem dX3_copy_160 : decode cX3_copy 160 = .ok (.getfield 28, 3) := dk_180 0 28 (dk_at dksX3_copy_6 20 rfl rfl)
theorem dX3_copy_163 : decode cX3_copy 163 = .ok (.invokevirtual 60, 3) := dk_182 0 60 (dk_at dksX3_copy_7 0 rfl rfl)
theorem dX3_copy_166 : decode cX3_copy 166 = .ok (.if_icmp .ge 31, 3) := dk_162 0 31 (dk_at dksX3_copy_7 3 rfl rfl)
theorem dX3_copy_169 : decode cX3_copy 169 = .ok (.aload_n 1, 1) := dk_43 (dk_at dksX3_copy_7 6 rfl rfl)
theorem dX3_copy_170 : decode cX3_copy 170 = .ok (.getfield 28, 3) := dk_180 0 28 (dk_at dksX3_copy_7 7 rfl rfl)
theorem dX3_copy_173 : decode cX3_copy 173 = .ok (.aload_n 0, 1) := dk_42 (dk_at dksX3_copy_7 10 rfl rfl)
theorem dX3_copy_174 : decode cX3_copy 174 = .ok (.getfield 28, 3) := dk_180 0 28 (dk_at dksX3_copy_7 11 rfl rfl)
theorem dX3_copy_177 : decode cX3_copy 177 = .ok (.iload_n 2, 1) := dk_28 (dk_at dksX3_copy_7 14 rfl rfl)
theorem dX3_copy_178 : decode cX3_copy 178 = .ok (.invokevirtual 64, 3) := dk_182 0 64 (dk_at dksX3_copy_7 15 rfl rfl)
theorem dX3_copy_181 : decode cX3_copy 181 = .ok (.checkcast 85, 3) := dk_192 0 85 (dk_at dksX3_copy_7 18 rfl rfl)
theorem dX3_copy_184 : decode cX3_copy 184 = .ok (.invokevirtual 87, 3) := dk_182 0 87 (dk_at dksX3_copy_7 21 rfl rfl)
theorem dX3_copy_187 : decode cX3_copy 187 = .ok (.invokevirtual 74, 3) := dk_182 0 74 (dk_at dksX3_copy_8 0 rfl rfl)
theorem dX3_copy_190 : decode cX3_copy 190 = .ok (.pop, 1) := dk_87 (dk_at dksX3_copy_8 3 rfl rfl)
theorem dX3_copy_191 : decode cX3_copy 191 = .ok (.iinc 2 1, 3) := dk_132 2 1 (dk_at dksX3_copy_8 4 rfl rfl)
theorem dX3_copy_194 : decode cX3_copy 194 = .ok (.goto (-36), 3) := dk_167 255 220 (dk_at dksX3_copy_8 7 rfl rfl)
theorem dX3_copy_197 : decode cX3_copy 197 = .ok (.iconst 0, 1) := dk_3 (dk_at dksX3_copy_8 10 rfl rfl)
theorem dX3_copy_198 : decode cX3_copy 198 = .ok (.istore_n 2, 1) := dk_61 (dk_at dksX3_copy_8 11 rfl rfl)
theorem dX3_copy_199 : decode cX3_copy 199 = .ok (.iload_n 2, 1) := dk_28 (dk_at dksX3_copy_8 12 rfl rfl)
theorem dX3_copy_200 : decode cX3_copy 200 = .ok (.aload_n 0, 1) := dk_42 (dk_at dksX3_copy_8 13 rfl rfl)
theorem dX3_copy_201 : decode cX3_copy 201 = .ok (.getfield 31, 3) := dk_180 0 31 (dk_at dksX3_copy_8 14 rfl rfl)
theorem dX3_copy_204 : decode cX3_copy 204 = .ok (.invokevirtual 60, 3) := dk_182 0 60 (dk_at dksX3_copy_8 17 rfl rfl)
theorem dX3_copy_207 : decode cX3_copy 207 = .ok (.if_icmp .ge 28, 3) := dk_162 0 28 (dk_at dksX3_copy_8 20 rfl rfl)
theorem dX3_copy_210 : decode cX3_copy 210 = .ok (.aload_n 1, 1) := dk_43 (dk_at dksX3_copy_8 23 rfl rfl)
theorem dX3_copy_211 : decode cX3_copy 211 = .ok (.getfield 31, 3) := dk_180 0 31 (dk_at dksX3_copy_9 0 rfl rfl)
theorem dX3_copy_214 : decode cX3_copy 214 = .ok (.aload_n 0, 1) := dk_42 (dk_at dksX3_copy_9 3 rfl rfl)
theorem dX3_copy_215 : decode cX3_copy 215 = .ok (.getfield 31, 3) := dk_180 0 31 (dk_at dksX3_copy_9 4 rfl rfl)
theorem dX3_copy_218 : decode cX3_copy 218 = .ok (.iload_n 2, 1) := dk_28 (dk_at dksX3_copy_9 7 rfl rfl)
theorem dX3_copy_219 : decode cX3_copy 219 = .ok (.invokevirtual 64, 3) := dk_182 0 64 (dk_at dksX3_copy_9 8 rfl rfl)
theorem dX3_copy_222 : decode cX3_copy 222 = .ok (.checkcast 90, 3) := dk_192 0 90 (dk_at dksX3_copy_9 11 rfl rfl)
theorem dX3_copy_225 : decode cX3_copy 225 = .ok (.invokevirtual 74, 3) := dk_182 0 74 (dk_at dksX3_copy_9 14 rfl rfl)
theorem dX3_copy_228 : decode cX3_copy 228 = .ok (.pop, 1) := dk_87 (dk_at dksX3_copy_9 17 rfl rfl)
theorem dX3_copy_229 : decode cX3_copy 229 = .ok (.iinc 2 1, 3) := dk_132 2 1 (dk_at dksX3_copy_9 18 rfl rfl)
theorem dX3_copy_232 : decode cX3_copy 232 = .ok (.goto (-33), 3) := dk_167 255 223 (dk_at dksX3_copy_9 21 rfl rfl)
theorem dX3_copy_235 : decode cX3_copy 235 = .ok (.iconst 0, 1) := dk_3 (dk_at dksX3_copy_10 0 rfl rfl)
theorem dX3_copy_236 : decode cX3_copy 236 = .ok (.istore_n 2, 1) := dk_61 (dk_at dksX3_copy_10 1 rfl rfl)
theorem dX3_copy_237 : decode cX3_copy 237 = .ok (.iload_n 2, 1) := dk_28 (dk_at dksX3_copy_10 2 rfl rfl)
theorem dX3_copy_238 : decode cX3_copy 238 = .ok (.aload_n 0, 1) := dk_42 (dk_at dksX3_copy_10 3 rfl rfl)
theorem dX3_copy_239 : decode cX3_copy 239 = .ok (.getfield 34, 3) := dk_180 0 34 (dk_at dksX3_copy_10 4 rfl rfl)
theorem dX3_copy_242 : decode cX3_copy 242 = .ok (.invokevirtual 60, 3) := dk_182 0 60 (dk_at dksX3_copy_10 7 rfl rfl)
theorem dX3_copy_245 : decode cX3_copy 245 = .ok (.if_icmp .ge 28, 3) := dk_162 0 28 (dk_at dksX3_copy_10 10 rfl rfl)
theorem dX3_copy_248 : decode cX3_copy 248 = .ok (.aload_n 1, 1) := dk_43 (dk_at dksX3_copy_10 13 rfl rfl)
theorem dX3_copy_249 : decode cX3_copy 249 = .ok (.getfield 34, 3) := dk_180 0 34 (dk_at dksX3_copy_10 14 rfl rfl)
theorem dX3_copy_252 : decode cX3_copy 252 = .ok (.aload_n 0, 1) := dk_42 (dk_at dksX3_copy_10 17 rfl rfl)
theorem dX3_copy_253 : decode cX3_copy 253 = .ok (.getfield 34, 3) := dk_180 0 34 (dk_at dksX3_copy_10 18 rfl rfl)
theorem dX3_copy_256 : decode cX3_copy 256 = .ok (.iload_n 2, 1) := dk_28 (dk_at dksX3_copy_10 21 rfl rfl)
theorem dX3_copy_257 : decode cX3_copy 257 = .ok (.invokevirtual 64, 3) := dk_182 0 64 (dk_at dksX3_copy_11 0 rfl rfl)
theorem dX3_copy_260 : decode cX3_copy 260 = .ok (.checkcast 92, 3) := dk_192 0 92 (dk_at dksX3_copy_11 3 rfl rfl)
theorem dX3_copy_263 : decode cX3_copy 263 = .ok (.invokevirtual 74, 3) := dk_182 0 74 (dk_at dksX3_copy_11 6 rfl rfl)
theorem dX3_copy_266 : decode cX3_copy 266 = .ok (.pop, 1) := dk_87 (dk_at dksX3_copy_11 9 rfl rfl)
theorem dX3_copy_267 : decode cX3_copy 267 = .ok (.iinc 2 1, 3) := dk_132 2 1 (dk_at dksX3_copy_11 10 rfl rfl)
theorem dX3_copy_270 : decode cX3_copy 270 = .ok (.goto (-33), 3) := dk_167 255 223 (dk_at dksX3_copy_11 13 rfl rfl)
theorem dX3_copy_273 : decode cX3_copy 273 = .ok (.aload_n 1, 1) := dk_43 (dk_at dksX3_copy_11 16 rfl rfl)
theorem dX3_copy_274 : decode cX3_copy 274 = .ok (.aload_n 0, 1) := dk_42 (dk_at dksX3_copy_11 17 rfl rfl)
theorem dX3_copy_275 : decode cX3_copy 275 = .ok (.getfield 94, 3) := dk_180 0 94 (dk_at dksX3_copy_11 18 rfl rfl)
theorem dX3_copy_278 : decode cX3_copy 278 = .ok (.putfield 94, 3) := dk_181 0 94 (dk_at dksX3_copy_11 21 rfl rfl)
theorem dX3_copy_281 : decode cX3_copy 281 = .ok (.aload_n 1, 1) := dk_43 (dk_at dksX3_copy_12 0 rfl rfl)
theorem dX3_copy_282 : decode cX3_copy 282 = .ok (.aload_n 0, 1) := dk_42 (dk_at dksX3_copy_12 1 rfl rfl)
theorem dX3_copy_283 : decode cX3_copy 283 = .ok (.getfield 97, 3) := dk_180 0 97 (dk_at dksX3_copy_12 2 rfl rfl)
theorem dX3_copy_286 : decode cX3_copy 286 = .ok (.putfield 97, 3) := dk_181 0 97 (dk_at dksX3_copy_12 5 rfl rfl)
theorem dX3_copy_289 : decode cX3_copy 289 = .ok (.aload_n 1, 1) := dk_43 (dk_at dksX3_copy_12 8 rfl rfl)
theorem dX3_copy_290 : decode cX3_copy 290 = .ok (.aload_n 0, 1) := dk_42 (dk_at dksX3_copy_12 9 rfl rfl)
theorem dX3_copy_291 : decode cX3_copy 291 = .ok (.getfield 100, 3) := dk_180 0 100 (dk_at dksX3_copy_12 10 rfl rfl)
theorem dX3_copy_294 : decode cX3_copy 294 = .ok (.putfield 100, 3) := dk_181 0 100 (dk_at dksX3_copy_12 13 rfl rfl)
theorem dX3_copy_297 : decode cX3_copy 297 = .ok (.aload_n 1, 1) := dk_43 (dk_at dksX3_copy_12 16 rfl rfl)
theorem dX3_copy_298 : decode cX3_copy 298 = .ok (.aload_n 0, 1) := dk_42 (dk_at dksX3_copy_12 17 rfl rfl)
theorem dX3_copy_299 : decode cX3_copy 299 = .ok (.getfield 37, 3) := dk_180 0 37 (dk_at dksX3_copy_12 18 rfl rfl)
theorem dX3_copy_302 : decode cX3_copy 302 = .ok (.putfield 37, 3) := dk_181 0 37 (dk_at dksX3_copy_12 21 rfl rfl)
theorem dX3_copy_305 : decode cX3_copy 305 = .ok (.aload_n 1, 1) := dk_43 (dk_at dksX3_copy_13 0 rfl rfl)
theorem dX3_copy_306 : decode cX3_copy 306 = .ok (.areturn, 1) := dk_176 (dk_at dksX3_copy_13 1 rfl rfl)
abbrev cX3_send : ByteArray := prog_15_method_11_code
def yX3_send : MethodName := ⟨RX3, "send", "(III)I"⟩
def dkwX3_send_1 : List UInt8 := [180, 0, 94, 42, 180, 0, 97, 183, 0, 148, 182, 0, 74, 87, 42, 180, 0, 28, 182, 0, 60, 4, 100, 172]
abbrev dktX3_send_1 : List UInt8 := dkwX3_send_1 ++ []
def dkwX3_send_0 : List UInt8 := [42, 180, 0, 28, 187, 0, 85, 89, 42, 180, 0, 28, 182, 0, 60, 27, 28, 29, 42, 180, 0, 100, 42]
abbrev dktX3_send_0 : List UInt8 := dkwX3_send_0 ++ dktX3_send_1
theorem dksX3_send_0 : cX3_send.data.toList.drop 0 = dktX3_send_0 := by decide +kernel
theorem dksX3_send_1 : cX3_send.data.toList.drop 23 = dktX3_send_1 := dk_seg dksX3_send_0 23 rfl rfl
theorem dX3_send_0 : decode cX3_send 0 = .ok (.aload_n 0, 1) := dk_42 (dk_at dksX3_send_0 0 rfl rfl)
theorem dX3_send_1 : decode cX3_send 1 = .ok (.getfield 28, 3) := dk_180 0 28 (dk_at dksX3_send_0 1 rfl rfl)
theorem dX3_send_4 : decode cX3_send 4 = .ok (.new 85, 3) := dk_187 0 85 (dk_at dksX3_send_0 4 rfl rfl)
theorem dX3_send_7 : decode cX3_send 7 = .ok (.dup, 1) := dk_89 (dk_at dksX3_send_0 7 rfl rfl)
theorem dX3_send_8 : decode cX3_send 8 = .ok (.aload_n 0, 1) := dk_42 (dk_at dksX3_send_0 8 rfl rfl)
theorem dX3_send_9 : decode cX3_send 9 = .ok (.getfield 28, 3) := dk_180 0 28 (dk_at dksX3_send_0 9 rfl rfl)
theorem dX3_send_12 : decode cX3_send 12 = .ok (.invokevirtual 60, 3) := dk_182 0 60 (dk_at dksX3_send_0 12 rfl rfl)
theorem dX3_send_15 : decode cX3_send 15 = .ok (.iload_n 1, 1) := dk_27 (dk_at dksX3_send_0 15 rfl rfl)
theorem dX3_send_16 : decode cX3_send 16 = .ok (.iload_n 2, 1) := dk_28 (dk_at dksX3_send_0 16 rfl rfl)
theorem dX3_send_17 : decode cX3_send 17 = .ok (.iload_n 3, 1) := dk_29 (dk_at dksX3_send_0 17 rfl rfl)
theorem dX3_send_18 : decode cX3_send 18 = .ok (.aload_n 0, 1) := dk_42 (dk_at dksX3_send_0 18 rfl rfl)
theorem dX3_send_19 : decode cX3_send 19 = .ok (.getfield 100, 3) := dk_180 0 100 (dk_at dksX3_send_0 19 rfl rfl)
theorem dX3_send_22 : decode cX3_send 22 = .ok (.aload_n 0, 1) := dk_42 (dk_at dksX3_send_0 22 rfl rfl)
theorem dX3_send_23 : decode cX3_send 23 = .ok (.getfield 94, 3) := dk_180 0 94 (dk_at dksX3_send_1 0 rfl rfl)
theorem dX3_send_26 : decode cX3_send 26 = .ok (.aload_n 0, 1) := dk_42 (dk_at dksX3_send_1 3 rfl rfl)
theorem dX3_send_27 : decode cX3_send 27 = .ok (.getfield 97, 3) := dk_180 0 97 (dk_at dksX3_send_1 4 rfl rfl)
theorem dX3_send_30 : decode cX3_send 30 = .ok (.invokespecial 148, 3) := dk_183 0 148 (dk_at dksX3_send_1 7 rfl rfl)
theorem dX3_send_33 : decode cX3_send 33 = .ok (.invokevirtual 74, 3) := dk_182 0 74 (dk_at dksX3_send_1 10 rfl rfl)
theorem dX3_send_36 : decode cX3_send 36 = .ok (.pop, 1) := dk_87 (dk_at dksX3_send_1 13 rfl rfl)
theorem dX3_send_37 : decode cX3_send 37 = .ok (.aload_n 0, 1) := dk_42 (dk_at dksX3_send_1 14 rfl rfl)
theorem dX3_send_38 : decode cX3_send 38 = .ok (.getfield 28, 3) := dk_180 0 28 (dk_at dksX3_send_1 15 rfl rfl)
theorem dX3_send_41 : decode cX3_send 41 = .ok (.invokevirtual 60, 3) := dk_182 0 60 (dk_at dksX3_send_1 18 rfl rfl)
theorem dX3_send_44 : decode cX3_send 44 = .ok (.iconst 1, 1) := dk_4 (dk_at dksX3_send_1 21 rfl rfl)
theorem dX3_send_45 : decode cX3_send 45 = .ok (.isub, 1) := dk_100 (dk_at dksX3_send_1 22 rfl rfl)
theorem dX3_send_46 : decode cX3_send 46 = .ok (.ireturn, 1) := dk_172 (dk_at dksX3_send_1 23 rfl rfl)
abbrev cX3_pass : ByteArray := prog_15_method_19_code
def yX3_pass : MethodName := ⟨RX3, "pass", "(I)V"⟩
def dkwX3_pass_0 : List UInt8 := [3, 61, 28, 27, 162, 0, 13, 42, 182, 0, 246, 132, 2, 1, 167, 255, 244, 177]
abbrev dktX3_pass_0 : List UInt8 := dkwX3_pass_0 ++ []
theorem dksX3_pass_0 : cX3_pass.data.toList.drop 0 = dktX3_pass_0 := by decide +kernel
theorem dX3_pass_0 : decode cX3_pass 0 = .ok (.iconst 0, 1) := dk_3 (dk_at dksX3_pass_0 0 rfl rfl)
theorem dX3_pass_1 : decode cX3_pass 1 = .ok (.istore_n 2, 1) := dk_61 (dk_at dksX3_pass_0 1 rfl rfl)
theorem dX3_pass_2 : decode cX3_pass 2 = .ok (.iload_n 2, 1) := dk_28 (dk_at dksX3_pass_0 2 rfl rfl)
theorem dX3_pass_3 : decode cX3_pass 3 = .ok (.iload_n 1, 1) := dk_27 (dk_at dksX3_pass_0 3 rfl rfl)
theorem dX3_pass_4 : decode cX3_pass 4 = .ok (.if_icmp .ge 13, 3) := dk_162 0 13 (dk_at dksX3_pass_0 4 rfl rfl)
theorem dX3_pass_7 : decode cX3_pass 7 = .ok (.aload_n 0, 1) := dk_42 (dk_at dksX3_pass_0 7 rfl rfl)
theorem dX3_pass_8 : decode cX3_pass 8 = .ok (.invokevirtual 246, 3) := dk_182 0 246 (dk_at dksX3_pass_0 8 rfl rfl)
theorem dX3_pass_11 : decode cX3_pass 11 = .ok (.iinc 2 1, 3) := dk_132 2 1 (dk_at dksX3_pass_0 11 rfl rfl)
theorem dX3_pass_14 : decode cX3_pass 14 = .ok (.goto (-12), 3) := dk_167 255 244 (dk_at dksX3_pass_0 14 rfl rfl)
theorem dX3_pass_17 : decode cX3_pass 17 = .ok (.return_, 1) := dk_177 (dk_at dksX3_pass_0 17 rfl rfl)
abbrev cX3_pass_2 : ByteArray := prog_15_method_18_code
def yX3_pass_2 : MethodName := ⟨RX3, "pass", "()V"⟩
def dkwX3_pass_2_9 : List UInt8 := [177]
abbrev dktX3_pass_2_9 : List UInt8 := dkwX3_pass_2_9 ++ []
def dkwX3_pass_2_8 : List UInt8 := [162, 0, 14, 42, 27, 182, 0, 242, 132, 1, 1, 167, 255, 237, 42, 89, 180, 0, 100, 4, 96, 181, 0, 100]
abbrev dktX3_pass_2_8 : List UInt8 := dkwX3_pass_2_8 ++ dktX3_pass_2_9
def dkwX3_pass_2_7 : List UInt8 := [161, 0, 9, 42, 44, 7, 182, 0, 169, 167, 255, 215, 3, 60, 27, 42, 180, 0, 18, 182, 0, 60]
abbrev dktX3_pass_2_7 : List UInt8 := dkwX3_pass_2_7 ++ dktX3_pass_2_8
def dkwX3_pass_2_6 : List UInt8 := [43, 185, 0, 232, 1, 0, 192, 0, 85, 77, 42, 180, 0, 100, 44, 180, 0, 239, 100, 42, 180, 0, 37]
abbrev dktX3_pass_2_6 : List UInt8 := dkwX3_pass_2_6 ++ dktX3_pass_2_7
def dkwX3_pass_2_5 : List UInt8 := [182, 0, 236, 167, 255, 234, 187, 0, 222, 89, 42, 183, 0, 224, 76, 43, 185, 0, 227, 1, 0, 153, 0, 38]
abbrev dktX3_pass_2_5 : List UInt8 := dkwX3_pass_2_5 ++ dktX3_pass_2_6
def dkwX3_pass_2_4 : List UInt8 := [183, 0, 224, 76, 43, 185, 0, 227, 1, 0, 153, 0, 19, 42, 43, 185, 0, 232, 1, 0, 192, 0, 85]
abbrev dktX3_pass_2_4 : List UInt8 := dkwX3_pass_2_4 ++ dktX3_pass_2_5
def dkwX3_pass_2_3 : List UInt8 := [180, 0, 142, 44, 180, 0, 145, 182, 0, 219, 62, 132, 1, 1, 167, 255, 187, 187, 0, 222, 89, 42]
abbrev dktX3_pass_2_3 : List UInt8 := dkwX3_pass_2_3 ++ dktX3_pass_2_4
def dkwX3_pass_2_2 : List UInt8 := [160, 0, 35, 42, 180, 0, 28, 182, 0, 60, 16, 40, 160, 0, 6, 167, 0, 20, 42, 44, 180, 0, 218, 44]
abbrev dktX3_pass_2_2 : List UInt8 := dkwX3_pass_2_2 ++ dktX3_pass_2_3
def dkwX3_pass_2_1 : List UInt8 := [162, 0, 64, 42, 180, 0, 25, 27, 182, 0, 64, 192, 0, 83, 77, 44, 180, 0, 141, 42, 180, 0, 100]
abbrev dktX3_pass_2_1 : List UInt8 := dkwX3_pass_2_1 ++ dktX3_pass_2_2
def dkwX3_pass_2_0 : List UInt8 := [42, 180, 0, 34, 42, 182, 0, 214, 182, 0, 74, 87, 3, 60, 27, 42, 180, 0, 25, 182, 0, 60]
abbrev dktX3_pass_2_0 : List UInt8 := dkwX3_pass_2_0 ++ dktX3_pass_2_1
theorem dksX3_pass_2_0 : cX3_pass_2.data.toList.drop 0 = dktX3_pass_2_0 := by decide +kernel
theorem dksX3_pass_2_1 : cX3_pass_2.data.toList.drop 22 = dktX3_pass_2_1 := dk_seg dksX3_pass_2_0 22 rfl rfl
theorem dksX3_pass_2_2 : cX3_pass_2.data.toList.drop 45 = dktX3_pass_2_2 := dk_seg dksX3_pass_2_1 23 rfl rfl
theorem dksX3_pass_2_3 : cX3_pass_2.data.toList.drop 69 = dktX3_pass_2_3 := dk_seg dksX3_pass_2_2 24 rfl rfl
theorem dksX3_pass_2_4 : cX3_pass_2.data.toList.drop 91 = dktX3_pass_2_4 := dk_seg dksX3_pass_2_3 22 rfl rfl
theorem dksX3_pass_2_5 : cX3_pass_2.data.toList.drop 114 = dktX3_pass_2_5 := dk_seg dksX3_pass_2_4 23 rfl rfl
theorem dksX3_pass_2_6 : cX3_pass_2.data.toList.drop 138 = dktX3_pass_2_6 := dk_seg dksX3_pass_2_5 24 rfl rfl
theorem dksX3_pass_2_7 : cX3_pass_2.data.toList.drop 161 = dktX3_pass_2_7 := dk_seg dksX3_pass_2_6 23 rfl rfl
theorem dksX3_pass_2_8 : cX3_pass_2.data.toList.drop 183 = dktX3_pass_2_8 := dk_seg dksX3_pass_2_7 22 rfl rfl
theorem dksX3_pass_2_9 : cX3_pass_2.data.toList.drop 207 = dktX3_pass_2_9 := dk_seg dksX3_pass_2_8 24 rfl rfl
theorem dX3_pass_2_0 : decode cX3_pass_2 0 = .ok (.aload_n 0, 1) := dk_42 (dk_at dksX3_pass_2_0 0 rfl rfl)
theorem dX3_pass_2_1 : decode cX3_pass_2 1 = .ok (.getfield 34, 3) := dk_180 0 34 (dk_at dksX3_pass_2_0 1 rfl rfl)
theorem dX3_pass_2_4 : decode cX3_pass_2 4 = .ok (.aload_n 0, 1) := dk_42 (dk_at dksX3_pass_2_0 4 rfl rfl)
theorem dX3_pass_2_5 : decode cX3_pass_2 5 = .ok (.invokevirtual 214, 3) := dk_182 0 214 (dk_at dksX3_pass_2_0 5 rfl rfl)
theorem dX3_pass_2_8 : decode cX3_pass_2 8 = .ok (.invokevirtual 74, 3) := dk_182 0 74 (dk_at dksX3_pass_2_0 8 rfl rfl)
theorem dX3_pass_2_11 : decode cX3_pass_2 11 = .ok (.pop, 1) := dk_87 (dk_at dksX3_pass_2_0 11 rfl rfl)
theorem dX3_pass_2_12 : decode cX3_pass_2 12 = .ok (.iconst 0, 1) := dk_3 (dk_at dksX3_pass_2_0 12 rfl rfl)
theorem dX3_pass_2_13 : decode cX3_pass_2 13 = .ok (.istore_n 1, 1) := dk_60 (dk_at dksX3_pass_2_0 13 rfl rfl)
theorem dX3_pass_2_14 : decode cX3_pass_2 14 = .ok (.iload_n 1, 1) := dk_27 (dk_at dksX3_pass_2_0 14 rfl rfl)
theorem dX3_pass_2_15 : decode cX3_pass_2 15 = .ok (.aload_n 0, 1) := dk_42 (dk_at dksX3_pass_2_0 15 rfl rfl)
theorem dX3_pass_2_16 : decode cX3_pass_2 16 = .ok (.getfield 25, 3) := dk_180 0 25 (dk_at dksX3_pass_2_0 16 rfl rfl)
theorem dX3_pass_2_19 : decode cX3_pass_2 19 = .ok (.invokevirtual 60, 3) := dk_182 0 60 (dk_at dksX3_pass_2_0 19 rfl rfl)
theorem dX3_pass_2_22 : decode cX3_pass_2 22 = .ok (.if_icmp .ge 64, 3) := dk_162 0 64 (dk_at dksX3_pass_2_1 0 rfl rfl)
theorem dX3_pass_2_25 : decode cX3_pass_2 25 = .ok (.aload_n 0, 1) := dk_42 (dk_at dksX3_pass_2_1 3 rfl rfl)
theorem dX3_pass_2_26 : decode cX3_pass_2 26 = .ok (.getfield 25, 3) := dk_180 0 25 (dk_at dksX3_pass_2_1 4 rfl rfl)
theorem dX3_pass_2_29 : decode cX3_pass_2 29 = .ok (.iload_n 1, 1) := dk_27 (dk_at dksX3_pass_2_1 7 rfl rfl)
theorem dX3_pass_2_30 : decode cX3_pass_2 30 = .ok (.invokevirtual 64, 3) := dk_182 0 64 (dk_at dksX3_pass_2_1 8 rfl rfl)
theorem dX3_pass_2_33 : decode cX3_pass_2 33 = .ok (.checkcast 83, 3) := dk_192 0 83 (dk_at dksX3_pass_2_1 11 rfl rfl)
theorem dX3_pass_2_36 : decode cX3_pass_2 36 = .ok (.astore_n 2, 1) := dk_77 (dk_at dksX3_pass_2_1 14 rfl rfl)
theorem dX3_pass_2_37 : decode cX3_pass_2 37 = .ok (.aload_n 2, 1) := dk_44 (dk_at dksX3_pass_2_1 15 rfl rfl)
theorem dX3_pass_2_38 : decode cX3_pass_2 38 = .ok (.getfield 141, 3) := dk_180 0 141 (dk_at dksX3_pass_2_1 16 rfl rfl)
theorem dX3_pass_2_41 : decode cX3_pass_2 41 = .ok (.aload_n 0, 1) := dk_42 (dk_at dksX3_pass_2_1 19 rfl rfl)
theorem dX3_pass_2_42 : decode cX3_pass_2 42 = .ok (.getfield 100, 3) := dk_180 0 100 (dk_at dksX3_pass_2_1 20 rfl rfl)
theorem dX3_pass_2_45 : decode cX3_pass_2 45 = .ok (.if_icmp .ne 35, 3) := dk_160 0 35 (dk_at dksX3_pass_2_2 0 rfl rfl)
theorem dX3_pass_2_48 : decode cX3_pass_2 48 = .ok (.aload_n 0, 1) := dk_42 (dk_at dksX3_pass_2_2 3 rfl rfl)
theorem dX3_pass_2_49 : decode cX3_pass_2 49 = .ok (.getfield 28, 3) := dk_180 0 28 (dk_at dksX3_pass_2_2 4 rfl rfl)
theorem dX3_pass_2_52 : decode cX3_pass_2 52 = .ok (.invokevirtual 60, 3) := dk_182 0 60 (dk_at dksX3_pass_2_2 7 rfl rfl)
theorem dX3_pass_2_55 : decode cX3_pass_2 55 = .ok (.bipush 40, 2) := dk_16 40 (dk_at dksX3_pass_2_2 10 rfl rfl)
theorem dX3_pass_2_57 : decode cX3_pass_2 57 = .ok (.if_icmp .ne 6, 3) := dk_160 0 6 (dk_at dksX3_pass_2_2 12 rfl rfl)
theorem dX3_pass_2_60 : decode cX3_pass_2 60 = .ok (.goto 20, 3) := dk_167 0 20 (dk_at dksX3_pass_2_2 15 rfl rfl)
theorem dX3_pass_2_63 : decode cX3_pass_2 63 = .ok (.aload_n 0, 1) := dk_42 (dk_at dksX3_pass_2_2 18 rfl rfl)
theorem dX3_pass_2_64 : decode cX3_pass_2 64 = .ok (.aload_n 2, 1) := dk_44 (dk_at dksX3_pass_2_2 19 rfl rfl)
theorem dX3_pass_2_65 : decode cX3_pass_2 65 = .ok (.getfield 218, 3) := dk_180 0 218 (dk_at dksX3_pass_2_2 20 rfl rfl)
theorem dX3_pass_2_68 : decode cX3_pass_2 68 = .ok (.aload_n 2, 1) := dk_44 (dk_at dksX3_pass_2_2 23 rfl rfl)
theorem dX3_pass_2_69 : decode cX3_pass_2 69 = .ok (.getfield 142, 3) := dk_180 0 142 (dk_at dksX3_pass_2_3 0 rfl rfl)
theorem dX3_pass_2_72 : decode cX3_pass_2 72 = .ok (.aload_n 2, 1) := dk_44 (dk_at dksX3_pass_2_3 3 rfl rfl)
theorem dX3_pass_2_73 : decode cX3_pass_2 73 = .ok (.getfield 145, 3) := dk_180 0 145 (dk_at dksX3_pass_2_3 4 rfl rfl)
theorem dX3_pass_2_76 : decode cX3_pass_2 76 = .ok (.invokevirtual 219, 3) := dk_182 0 219 (dk_at dksX3_pass_2_3 7 rfl rfl)
theorem dX3_pass_2_79 : decode cX3_pass_2 79 = .ok (.istore_n 3, 1) := dk_62 (dk_at dksX3_pass_2_3 10 rfl rfl)
theorem dX3_pass_2_80 : decode cX3_pass_2 80 = .ok (.iinc 1 1, 3) := dk_132 1 1 (dk_at dksX3_pass_2_3 11 rfl rfl)
theorem dX3_pass_2_83 : decode cX3_pass_2 83 = .ok (.goto (-69), 3) := dk_167 255 187 (dk_at dksX3_pass_2_3 14 rfl rfl)
theorem dX3_pass_2_86 : decode cX3_pass_2 86 = .ok (.new 222, 3) := dk_187 0 222 (dk_at dksX3_pass_2_3 17 rfl rfl)
theorem dX3_pass_2_89 : decode cX3_pass_2 89 = .ok (.dup, 1) := dk_89 (dk_at dksX3_pass_2_3 20 rfl rfl)
theorem dX3_pass_2_90 : decode cX3_pass_2 90 = .ok (.aload_n 0, 1) := dk_42 (dk_at dksX3_pass_2_3 21 rfl rfl)
theorem dX3_pass_2_91 : decode cX3_pass_2 91 = .ok (.invokespecial 224, 3) := dk_183 0 224 (dk_at dksX3_pass_2_4 0 rfl rfl)
theorem dX3_pass_2_94 : decode cX3_pass_2 94 = .ok (.astore_n 1, 1) := dk_76 (dk_at dksX3_pass_2_4 3 rfl rfl)
theorem dX3_pass_2_95 : decode cX3_pass_2 95 = .ok (.aload_n 1, 1) := dk_43 (dk_at dksX3_pass_2_4 4 rfl rfl)
theorem dX3_pass_2_96 : decode cX3_pass_2 96 = .ok (.invokeinterface 227 1, 5) := by decide +kernel
theorem dX3_pass_2_101 : decode cX3_pass_2 101 = .ok (.ifCond .eq 19, 3) := dk_153 0 19 (dk_at dksX3_pass_2_4 10 rfl rfl)
theorem dX3_pass_2_104 : decode cX3_pass_2 104 = .ok (.aload_n 0, 1) := dk_42 (dk_at dksX3_pass_2_4 13 rfl rfl)
theorem dX3_pass_2_105 : decode cX3_pass_2 105 = .ok (.aload_n 1, 1) := dk_43 (dk_at dksX3_pass_2_4 14 rfl rfl)
theorem dX3_pass_2_106 : decode cX3_pass_2 106 = .ok (.invokeinterface 232 1, 5) := by decide +kernel
theorem dX3_pass_2_111 : decode cX3_pass_2 111 = .ok (.checkcast 85, 3) := dk_192 0 85 (dk_at dksX3_pass_2_4 20 rfl rfl)
theorem dX3_pass_2_114 : decode cX3_pass_2 114 = .ok (.invokevirtual 236, 3) := dk_182 0 236 (dk_at dksX3_pass_2_5 0 rfl rfl)
theorem dX3_pass_2_117 : decode cX3_pass_2 117 = .ok (.goto (-22), 3) := dk_167 255 234 (dk_at dksX3_pass_2_5 3 rfl rfl)
theorem dX3_pass_2_120 : decode cX3_pass_2 120 = .ok (.new 222, 3) := dk_187 0 222 (dk_at dksX3_pass_2_5 6 rfl rfl)
theorem dX3_pass_2_123 : decode cX3_pass_2 123 = .ok (.dup, 1) := dk_89 (dk_at dksX3_pass_2_5 9 rfl rfl)
theorem dX3_pass_2_124 : decode cX3_pass_2 124 = .ok (.aload_n 0, 1) := dk_42 (dk_at dksX3_pass_2_5 10 rfl rfl)
theorem dX3_pass_2_125 : decode cX3_pass_2 125 = .ok (.invokespecial 224, 3) := dk_183 0 224 (dk_at dksX3_pass_2_5 11 rfl rfl)
theorem dX3_pass_2_128 : decode cX3_pass_2 128 = .ok (.astore_n 1, 1) := dk_76 (dk_at dksX3_pass_2_5 14 rfl rfl)
theorem dX3_pass_2_129 : decode cX3_pass_2 129 = .ok (.aload_n 1, 1) := dk_43 (dk_at dksX3_pass_2_5 15 rfl rfl)
theorem dX3_pass_2_130 : decode cX3_pass_2 130 = .ok (.invokeinterface 227 1, 5) := by decide +kernel
theorem dX3_pass_2_135 : decode cX3_pass_2 135 = .ok (.ifCond .eq 38, 3) := dk_153 0 38 (dk_at dksX3_pass_2_5 21 rfl rfl)
theorem dX3_pass_2_138 : decode cX3_pass_2 138 = .ok (.aload_n 1, 1) := dk_43 (dk_at dksX3_pass_2_6 0 rfl rfl)
theorem dX3_pass_2_139 : decode cX3_pass_2 139 = .ok (.invokeinterface 232 1, 5) := by decide +kernel
theorem dX3_pass_2_144 : decode cX3_pass_2 144 = .ok (.checkcast 85, 3) := dk_192 0 85 (dk_at dksX3_pass_2_6 6 rfl rfl)
theorem dX3_pass_2_147 : decode cX3_pass_2 147 = .ok (.astore_n 2, 1) := dk_77 (dk_at dksX3_pass_2_6 9 rfl rfl)
theorem dX3_pass_2_148 : decode cX3_pass_2 148 = .ok (.aload_n 0, 1) := dk_42 (dk_at dksX3_pass_2_6 10 rfl rfl)
theorem dX3_pass_2_149 : decode cX3_pass_2 149 = .ok (.getfield 100, 3) := dk_180 0 100 (dk_at dksX3_pass_2_6 11 rfl rfl)
theorem dX3_pass_2_152 : decode cX3_pass_2 152 = .ok (.aload_n 2, 1) := dk_44 (dk_at dksX3_pass_2_6 14 rfl rfl)
theorem dX3_pass_2_153 : decode cX3_pass_2 153 = .ok (.getfield 239, 3) := dk_180 0 239 (dk_at dksX3_pass_2_6 15 rfl rfl)
theorem dX3_pass_2_156 : decode cX3_pass_2 156 = .ok (.isub, 1) := dk_100 (dk_at dksX3_pass_2_6 18 rfl rfl)
theorem dX3_pass_2_157 : decode cX3_pass_2 157 = .ok (.aload_n 0, 1) := dk_42 (dk_at dksX3_pass_2_6 19 rfl rfl)
theorem dX3_pass_2_158 : decode cX3_pass_2 158 = .ok (.getfield 37, 3) := dk_180 0 37 (dk_at dksX3_pass_2_6 20 rfl rfl)
theorem dX3_pass_2_161 : decode cX3_pass_2 161 = .ok (.if_icmp .lt 9, 3) := dk_161 0 9 (dk_at dksX3_pass_2_7 0 rfl rfl)
theorem dX3_pass_2_164 : decode cX3_pass_2 164 = .ok (.aload_n 0, 1) := dk_42 (dk_at dksX3_pass_2_7 3 rfl rfl)
theorem dX3_pass_2_165 : decode cX3_pass_2 165 = .ok (.aload_n 2, 1) := dk_44 (dk_at dksX3_pass_2_7 4 rfl rfl)
theorem dX3_pass_2_166 : decode cX3_pass_2 166 = .ok (.iconst 4, 1) := dk_7 (dk_at dksX3_pass_2_7 5 rfl rfl)
theorem dX3_pass_2_167 : decode cX3_pass_2 167 = .ok (.invokevirtual 169, 3) := dk_182 0 169 (dk_at dksX3_pass_2_7 6 rfl rfl)
theorem dX3_pass_2_170 : decode cX3_pass_2 170 = .ok (.goto (-41), 3) := dk_167 255 215 (dk_at dksX3_pass_2_7 9 rfl rfl)
theorem dX3_pass_2_173 : decode cX3_pass_2 173 = .ok (.iconst 0, 1) := dk_3 (dk_at dksX3_pass_2_7 12 rfl rfl)
theorem dX3_pass_2_174 : decode cX3_pass_2 174 = .ok (.istore_n 1, 1) := dk_60 (dk_at dksX3_pass_2_7 13 rfl rfl)
theorem dX3_pass_2_175 : decode cX3_pass_2 175 = .ok (.iload_n 1, 1) := dk_27 (dk_at dksX3_pass_2_7 14 rfl rfl)
theorem dX3_pass_2_176 : decode cX3_pass_2 176 = .ok (.aload_n 0, 1) := dk_42 (dk_at dksX3_pass_2_7 15 rfl rfl)
theorem dX3_pass_2_177 : decode cX3_pass_2 177 = .ok (.getfield 18, 3) := dk_180 0 18 (dk_at dksX3_pass_2_7 16 rfl rfl)
theorem dX3_pass_2_180 : decode cX3_pass_2 180 = .ok (.invokevirtual 60, 3) := dk_182 0 60 (dk_at dksX3_pass_2_7 19 rfl rfl)
theorem dX3_pass_2_183 : decode cX3_pass_2 183 = .ok (.if_icmp .ge 14, 3) := dk_162 0 14 (dk_at dksX3_pass_2_8 0 rfl rfl)
theorem dX3_pass_2_186 : decode cX3_pass_2 186 = .ok (.aload_n 0, 1) := dk_42 (dk_at dksX3_pass_2_8 3 rfl rfl)
theorem dX3_pass_2_187 : decode cX3_pass_2 187 = .ok (.iload_n 1, 1) := dk_27 (dk_at dksX3_pass_2_8 4 rfl rfl)
theorem dX3_pass_2_188 : decode cX3_pass_2 188 = .ok (.invokevirtual 242, 3) := dk_182 0 242 (dk_at dksX3_pass_2_8 5 rfl rfl)
theorem dX3_pass_2_191 : decode cX3_pass_2 191 = .ok (.iinc 1 1, 3) := dk_132 1 1 (dk_at dksX3_pass_2_8 8 rfl rfl)
theorem dX3_pass_2_194 : decode cX3_pass_2 194 = .ok (.goto (-19), 3) := dk_167 255 237 (dk_at dksX3_pass_2_8 11 rfl rfl)
theorem dX3_pass_2_197 : decode cX3_pass_2 197 = .ok (.aload_n 0, 1) := dk_42 (dk_at dksX3_pass_2_8 14 rfl rfl)
theorem dX3_pass_2_198 : decode cX3_pass_2 198 = .ok (.dup, 1) := dk_89 (dk_at dksX3_pass_2_8 15 rfl rfl)
theorem dX3_pass_2_199 : decode cX3_pass_2 199 = .ok (.getfield 100, 3) := dk_180 0 100 (dk_at dksX3_pass_2_8 16 rfl rfl)
theorem dX3_pass_2_202 : decode cX3_pass_2 202 = .ok (.iconst 1, 1) := dk_4 (dk_at dksX3_pass_2_8 19 rfl rfl)
theorem dX3_pass_2_203 : decode cX3_pass_2 203 = .ok (.iadd, 1) := dk_96 (dk_at dksX3_pass_2_8 20 rfl rfl)
theorem dX3_pass_2_204 : decode cX3_pass_2 204 = .ok (.putfield 100, 3) := dk_181 0 100 (dk_at dksX3_pass_2_8 21 rfl rfl)
theorem dX3_pass_2_207 : decode cX3_pass_2 207 = .ok (.return_, 1) := dk_177 (dk_at dksX3_pass_2_9 0 rfl rfl)
abbrev cX3_cells : ByteArray := prog_15_method_17_code
def yX3_cells : MethodName := ⟨RX3, "cells", "()[I"⟩
def dkwX3_cells_2 : List UInt8 := [192, 0, 68, 180, 0, 181, 96, 79, 132, 2, 1, 167, 255, 212, 43, 176]
abbrev dktX3_cells_2 : List UInt8 := dkwX3_cells_2 ++ []
def dkwX3_cells_1 : List UInt8 := [180, 0, 18, 28, 182, 0, 64, 192, 0, 68, 180, 0, 182, 104, 42, 180, 0, 18, 28, 182, 0, 64]
abbrev dktX3_cells_1 : List UInt8 := dkwX3_cells_1 ++ dktX3_cells_2
def dkwX3_cells_0 : List UInt8 := [42, 180, 0, 18, 182, 0, 60, 188, 10, 76, 3, 61, 28, 43, 190, 162, 0, 44, 43, 28, 16, 100, 42]
abbrev dktX3_cells_0 : List UInt8 := dkwX3_cells_0 ++ dktX3_cells_1
theorem dksX3_cells_0 : cX3_cells.data.toList.drop 0 = dktX3_cells_0 := by decide +kernel
theorem dksX3_cells_1 : cX3_cells.data.toList.drop 23 = dktX3_cells_1 := dk_seg dksX3_cells_0 23 rfl rfl
theorem dksX3_cells_2 : cX3_cells.data.toList.drop 45 = dktX3_cells_2 := dk_seg dksX3_cells_1 22 rfl rfl
theorem dX3_cells_0 : decode cX3_cells 0 = .ok (.aload_n 0, 1) := dk_42 (dk_at dksX3_cells_0 0 rfl rfl)
theorem dX3_cells_1 : decode cX3_cells 1 = .ok (.getfield 18, 3) := dk_180 0 18 (dk_at dksX3_cells_0 1 rfl rfl)
theorem dX3_cells_4 : decode cX3_cells 4 = .ok (.invokevirtual 60, 3) := dk_182 0 60 (dk_at dksX3_cells_0 4 rfl rfl)
theorem dX3_cells_7 : decode cX3_cells 7 = .ok (.newarray .int, 2) := dk_188_10 (dk_at dksX3_cells_0 7 rfl rfl)
theorem dX3_cells_9 : decode cX3_cells 9 = .ok (.astore_n 1, 1) := dk_76 (dk_at dksX3_cells_0 9 rfl rfl)
theorem dX3_cells_10 : decode cX3_cells 10 = .ok (.iconst 0, 1) := dk_3 (dk_at dksX3_cells_0 10 rfl rfl)
theorem dX3_cells_11 : decode cX3_cells 11 = .ok (.istore_n 2, 1) := dk_61 (dk_at dksX3_cells_0 11 rfl rfl)
theorem dX3_cells_12 : decode cX3_cells 12 = .ok (.iload_n 2, 1) := dk_28 (dk_at dksX3_cells_0 12 rfl rfl)
theorem dX3_cells_13 : decode cX3_cells 13 = .ok (.aload_n 1, 1) := dk_43 (dk_at dksX3_cells_0 13 rfl rfl)
theorem dX3_cells_14 : decode cX3_cells 14 = .ok (.arraylength, 1) := dk_190 (dk_at dksX3_cells_0 14 rfl rfl)
theorem dX3_cells_15 : decode cX3_cells 15 = .ok (.if_icmp .ge 44, 3) := dk_162 0 44 (dk_at dksX3_cells_0 15 rfl rfl)
theorem dX3_cells_18 : decode cX3_cells 18 = .ok (.aload_n 1, 1) := dk_43 (dk_at dksX3_cells_0 18 rfl rfl)
theorem dX3_cells_19 : decode cX3_cells 19 = .ok (.iload_n 2, 1) := dk_28 (dk_at dksX3_cells_0 19 rfl rfl)
theorem dX3_cells_20 : decode cX3_cells 20 = .ok (.bipush 100, 2) := dk_16 100 (dk_at dksX3_cells_0 20 rfl rfl)
theorem dX3_cells_22 : decode cX3_cells 22 = .ok (.aload_n 0, 1) := dk_42 (dk_at dksX3_cells_0 22 rfl rfl)
theorem dX3_cells_23 : decode cX3_cells 23 = .ok (.getfield 18, 3) := dk_180 0 18 (dk_at dksX3_cells_1 0 rfl rfl)
theorem dX3_cells_26 : decode cX3_cells 26 = .ok (.iload_n 2, 1) := dk_28 (dk_at dksX3_cells_1 3 rfl rfl)
theorem dX3_cells_27 : decode cX3_cells 27 = .ok (.invokevirtual 64, 3) := dk_182 0 64 (dk_at dksX3_cells_1 4 rfl rfl)
theorem dX3_cells_30 : decode cX3_cells 30 = .ok (.checkcast 68, 3) := dk_192 0 68 (dk_at dksX3_cells_1 7 rfl rfl)
theorem dX3_cells_33 : decode cX3_cells 33 = .ok (.getfield 182, 3) := dk_180 0 182 (dk_at dksX3_cells_1 10 rfl rfl)
theorem dX3_cells_36 : decode cX3_cells 36 = .ok (.imul, 1) := dk_104 (dk_at dksX3_cells_1 13 rfl rfl)
theorem dX3_cells_37 : decode cX3_cells 37 = .ok (.aload_n 0, 1) := dk_42 (dk_at dksX3_cells_1 14 rfl rfl)
theorem dX3_cells_38 : decode cX3_cells 38 = .ok (.getfield 18, 3) := dk_180 0 18 (dk_at dksX3_cells_1 15 rfl rfl)
theorem dX3_cells_41 : decode cX3_cells 41 = .ok (.iload_n 2, 1) := dk_28 (dk_at dksX3_cells_1 18 rfl rfl)
theorem dX3_cells_42 : decode cX3_cells 42 = .ok (.invokevirtual 64, 3) := dk_182 0 64 (dk_at dksX3_cells_1 19 rfl rfl)
theorem dX3_cells_45 : decode cX3_cells 45 = .ok (.checkcast 68, 3) := dk_192 0 68 (dk_at dksX3_cells_2 0 rfl rfl)
theorem dX3_cells_48 : decode cX3_cells 48 = .ok (.getfield 181, 3) := dk_180 0 181 (dk_at dksX3_cells_2 3 rfl rfl)
theorem dX3_cells_51 : decode cX3_cells 51 = .ok (.iadd, 1) := dk_96 (dk_at dksX3_cells_2 6 rfl rfl)
theorem dX3_cells_52 : decode cX3_cells 52 = .ok (.iastore, 1) := dk_79 (dk_at dksX3_cells_2 7 rfl rfl)
theorem dX3_cells_53 : decode cX3_cells 53 = .ok (.iinc 2 1, 3) := dk_132 2 1 (dk_at dksX3_cells_2 8 rfl rfl)
theorem dX3_cells_56 : decode cX3_cells 56 = .ok (.goto (-44), 3) := dk_167 255 212 (dk_at dksX3_cells_2 11 rfl rfl)
theorem dX3_cells_59 : decode cX3_cells 59 = .ok (.aload_n 1, 1) := dk_43 (dk_at dksX3_cells_2 14 rfl rfl)
theorem dX3_cells_60 : decode cX3_cells 60 = .ok (.areturn, 1) := dk_176 (dk_at dksX3_cells_2 15 rfl rfl)
abbrev cX3_carry : ByteArray := prog_15_method_15_code
def yX3_carry : MethodName := ⟨RX3, "carry", "(LMessengerBoard$Order;)V"⟩
def dkwX3_carry_9 : List UInt8 := [177]
abbrev dktX3_carry_9 : List UInt8 := dkwX3_carry_9 ++ []
def dkwX3_carry_8 : List UInt8 := [180, 0, 125, 43, 180, 0, 128, 182, 0, 118, 153, 0, 8, 42, 43, 182, 0, 177, 132, 3, 1, 167, 255, 102]
abbrev dktX3_carry_8 : List UInt8 := dkwX3_carry_8 ++ dktX3_carry_9
def dkwX3_carry_7 : List UInt8 := [192, 0, 78, 89, 180, 0, 206, 4, 96, 181, 0, 206, 42, 43, 8, 182, 0, 169, 167, 0, 23, 44, 43]
abbrev dktX3_carry_7 : List UInt8 := dkwX3_carry_7 ++ dktX3_carry_8
def dkwX3_carry_6 : List UInt8 := [180, 0, 100, 182, 0, 202, 54, 5, 21, 5, 2, 159, 0, 33, 42, 180, 0, 22, 21, 5, 182, 0, 64]
abbrev dktX3_carry_6 : List UInt8 := dkwX3_carry_6 ++ dktX3_carry_7
def dkwX3_carry_5 : List UInt8 := [96, 181, 0, 128, 43, 89, 180, 0, 199, 4, 96, 181, 0, 199, 42, 43, 180, 0, 125, 43, 180, 0, 128, 42]
abbrev dktX3_carry_5 : List UInt8 := dkwX3_carry_5 ++ dktX3_carry_6
def dkwX3_carry_4 : List UInt8 := [180, 0, 125, 178, 0, 193, 21, 4, 46, 96, 181, 0, 125, 43, 89, 180, 0, 128, 178, 0, 196, 21, 4, 46]
abbrev dktX3_carry_4 : List UInt8 := dkwX3_carry_4 ++ dktX3_carry_5
def dkwX3_carry_3 : List UInt8 := [42, 43, 180, 0, 125, 43, 180, 0, 128, 182, 0, 189, 54, 4, 21, 4, 2, 160, 0, 4, 177, 43, 89]
abbrev dktX3_carry_3 : List UInt8 := dkwX3_carry_3 ++ dktX3_carry_4
def dkwX3_carry_2 : List UInt8 := [180, 0, 182, 182, 0, 183, 3, 62, 29, 5, 162, 0, 155, 43, 182, 0, 121, 153, 0, 148, 42, 180, 0, 47]
abbrev dktX3_carry_2 : List UInt8 := dkwX3_carry_2 ++ dktX3_carry_3
def dkwX3_carry_1 : List UInt8 := [182, 0, 118, 153, 0, 9, 42, 43, 182, 0, 177, 177, 42, 180, 0, 47, 42, 44, 180, 0, 181, 44]
abbrev dktX3_carry_1 : List UInt8 := dkwX3_carry_1 ++ dktX3_carry_2
def dkwX3_carry_0 : List UInt8 := [42, 180, 0, 18, 43, 180, 0, 160, 182, 0, 64, 192, 0, 68, 77, 44, 43, 180, 0, 125, 43, 180, 0, 128]
abbrev dktX3_carry_0 : List UInt8 := dkwX3_carry_0 ++ dktX3_carry_1
theorem dksX3_carry_0 : cX3_carry.data.toList.drop 0 = dktX3_carry_0 := by decide +kernel
theorem dksX3_carry_1 : cX3_carry.data.toList.drop 24 = dktX3_carry_1 := dk_seg dksX3_carry_0 24 rfl rfl
theorem dksX3_carry_2 : cX3_carry.data.toList.drop 46 = dktX3_carry_2 := dk_seg dksX3_carry_1 22 rfl rfl
theorem dksX3_carry_3 : cX3_carry.data.toList.drop 70 = dktX3_carry_3 := dk_seg dksX3_carry_2 24 rfl rfl
theorem dksX3_carry_4 : cX3_carry.data.toList.drop 93 = dktX3_carry_4 := dk_seg dksX3_carry_3 23 rfl rfl
theorem dksX3_carry_5 : cX3_carry.data.toList.drop 117 = dktX3_carry_5 := dk_seg dksX3_carry_4 24 rfl rfl
theorem dksX3_carry_6 : cX3_carry.data.toList.drop 141 = dktX3_carry_6 := dk_seg dksX3_carry_5 24 rfl rfl
theorem dksX3_carry_7 : cX3_carry.data.toList.drop 164 = dktX3_carry_7 := dk_seg dksX3_carry_6 23 rfl rfl
theorem dksX3_carry_8 : cX3_carry.data.toList.drop 187 = dktX3_carry_8 := dk_seg dksX3_carry_7 23 rfl rfl
theorem dksX3_carry_9 : cX3_carry.data.toList.drop 211 = dktX3_carry_9 := dk_seg dksX3_carry_8 24 rfl rfl
theorem dX3_carry_0 : decode cX3_carry 0 = .ok (.aload_n 0, 1) := dk_42 (dk_at dksX3_carry_0 0 rfl rfl)
theorem dX3_carry_1 : decode cX3_carry 1 = .ok (.getfield 18, 3) := dk_180 0 18 (dk_at dksX3_carry_0 1 rfl rfl)
theorem dX3_carry_4 : decode cX3_carry 4 = .ok (.aload_n 1, 1) := dk_43 (dk_at dksX3_carry_0 4 rfl rfl)
theorem dX3_carry_5 : decode cX3_carry 5 = .ok (.getfield 160, 3) := dk_180 0 160 (dk_at dksX3_carry_0 5 rfl rfl)
theorem dX3_carry_8 : decode cX3_carry 8 = .ok (.invokevirtual 64, 3) := dk_182 0 64 (dk_at dksX3_carry_0 8 rfl rfl)
theorem dX3_carry_11 : decode cX3_carry 11 = .ok (.checkcast 68, 3) := dk_192 0 68 (dk_at dksX3_carry_0 11 rfl rfl)
theorem dX3_carry_14 : decode cX3_carry 14 = .ok (.astore_n 2, 1) := dk_77 (dk_at dksX3_carry_0 14 rfl rfl)
theorem dX3_carry_15 : decode cX3_carry 15 = .ok (.aload_n 2, 1) := dk_44 (dk_at dksX3_carry_0 15 rfl rfl)
theorem dX3_carry_16 : decode cX3_carry 16 = .ok (.aload_n 1, 1) := dk_43 (dk_at dksX3_carry_0 16 rfl rfl)
theorem dX3_carry_17 : decode cX3_carry 17 = .ok (.getfield 125, 3) := dk_180 0 125 (dk_at dksX3_carry_0 17 rfl rfl)
theorem dX3_carry_20 : decode cX3_carry 20 = .ok (.aload_n 1, 1) := dk_43 (dk_at dksX3_carry_0 20 rfl rfl)
theorem dX3_carry_21 : decode cX3_carry 21 = .ok (.getfield 128, 3) := dk_180 0 128 (dk_at dksX3_carry_0 21 rfl rfl)
theorem dX3_carry_24 : decode cX3_carry 24 = .ok (.invokevirtual 118, 3) := dk_182 0 118 (dk_at dksX3_carry_1 0 rfl rfl)
theorem dX3_carry_27 : decode cX3_carry 27 = .ok (.ifCond .eq 9, 3) := dk_153 0 9 (dk_at dksX3_carry_1 3 rfl rfl)
theorem dX3_carry_30 : decode cX3_carry 30 = .ok (.aload_n 0, 1) := dk_42 (dk_at dksX3_carry_1 6 rfl rfl)
theorem dX3_carry_31 : decode cX3_carry 31 = .ok (.aload_n 1, 1) := dk_43 (dk_at dksX3_carry_1 7 rfl rfl)
theorem dX3_carry_32 : decode cX3_carry 32 = .ok (.invokevirtual 177, 3) := dk_182 0 177 (dk_at dksX3_carry_1 8 rfl rfl)
theorem dX3_carry_35 : decode cX3_carry 35 = .ok (.return_, 1) := dk_177 (dk_at dksX3_carry_1 11 rfl rfl)
theorem dX3_carry_36 : decode cX3_carry 36 = .ok (.aload_n 0, 1) := dk_42 (dk_at dksX3_carry_1 12 rfl rfl)
theorem dX3_carry_37 : decode cX3_carry 37 = .ok (.getfield 47, 3) := dk_180 0 47 (dk_at dksX3_carry_1 13 rfl rfl)
theorem dX3_carry_40 : decode cX3_carry 40 = .ok (.aload_n 0, 1) := dk_42 (dk_at dksX3_carry_1 16 rfl rfl)
theorem dX3_carry_41 : decode cX3_carry 41 = .ok (.aload_n 2, 1) := dk_44 (dk_at dksX3_carry_1 17 rfl rfl)
theorem dX3_carry_42 : decode cX3_carry 42 = .ok (.getfield 181, 3) := dk_180 0 181 (dk_at dksX3_carry_1 18 rfl rfl)
theorem dX3_carry_45 : decode cX3_carry 45 = .ok (.aload_n 2, 1) := dk_44 (dk_at dksX3_carry_1 21 rfl rfl)
theorem dX3_carry_46 : decode cX3_carry 46 = .ok (.getfield 182, 3) := dk_180 0 182 (dk_at dksX3_carry_2 0 rfl rfl)
theorem dX3_carry_49 : decode cX3_carry 49 = .ok (.invokevirtual 183, 3) := dk_182 0 183 (dk_at dksX3_carry_2 3 rfl rfl)
theorem dX3_carry_52 : decode cX3_carry 52 = .ok (.iconst 0, 1) := dk_3 (dk_at dksX3_carry_2 6 rfl rfl)
theorem dX3_carry_53 : decode cX3_carry 53 = .ok (.istore_n 3, 1) := dk_62 (dk_at dksX3_carry_2 7 rfl rfl)
theorem dX3_carry_54 : decode cX3_carry 54 = .ok (.iload_n 3, 1) := dk_29 (dk_at dksX3_carry_2 8 rfl rfl)
theorem dX3_carry_55 : decode cX3_carry 55 = .ok (.iconst 2, 1) := dk_5 (dk_at dksX3_carry_2 9 rfl rfl)
theorem dX3_carry_56 : decode cX3_carry 56 = .ok (.if_icmp .ge 155, 3) := dk_162 0 155 (dk_at dksX3_carry_2 10 rfl rfl)
theorem dX3_carry_59 : decode cX3_carry 59 = .ok (.aload_n 1, 1) := dk_43 (dk_at dksX3_carry_2 13 rfl rfl)
theorem dX3_carry_60 : decode cX3_carry 60 = .ok (.invokevirtual 121, 3) := dk_182 0 121 (dk_at dksX3_carry_2 14 rfl rfl)
theorem dX3_carry_63 : decode cX3_carry 63 = .ok (.ifCond .eq 148, 3) := dk_153 0 148 (dk_at dksX3_carry_2 17 rfl rfl)
theorem dX3_carry_66 : decode cX3_carry 66 = .ok (.aload_n 0, 1) := dk_42 (dk_at dksX3_carry_2 20 rfl rfl)
theorem dX3_carry_67 : decode cX3_carry 67 = .ok (.getfield 47, 3) := dk_180 0 47 (dk_at dksX3_carry_2 21 rfl rfl)
theorem dX3_carry_70 : decode cX3_carry 70 = .ok (.aload_n 0, 1) := dk_42 (dk_at dksX3_carry_3 0 rfl rfl)
theorem dX3_carry_71 : decode cX3_carry 71 = .ok (.aload_n 1, 1) := dk_43 (dk_at dksX3_carry_3 1 rfl rfl)
theorem dX3_carry_72 : decode cX3_carry 72 = .ok (.getfield 125, 3) := dk_180 0 125 (dk_at dksX3_carry_3 2 rfl rfl)
theorem dX3_carry_75 : decode cX3_carry 75 = .ok (.aload_n 1, 1) := dk_43 (dk_at dksX3_carry_3 5 rfl rfl)
theorem dX3_carry_76 : decode cX3_carry 76 = .ok (.getfield 128, 3) := dk_180 0 128 (dk_at dksX3_carry_3 6 rfl rfl)
theorem dX3_carry_79 : decode cX3_carry 79 = .ok (.invokevirtual 189, 3) := dk_182 0 189 (dk_at dksX3_carry_3 9 rfl rfl)
theorem dX3_carry_82 : decode cX3_carry 82 = .ok (.istore 4, 2) := dk_54 4 (dk_at dksX3_carry_3 12 rfl rfl)
theorem dX3_carry_84 : decode cX3_carry 84 = .ok (.iload 4, 2) := dk_21 4 (dk_at dksX3_carry_3 14 rfl rfl)
theorem dX3_carry_86 : decode cX3_carry 86 = .ok (.iconst (-1), 1) := dk_2 (dk_at dksX3_carry_3 16 rfl rfl)
theorem dX3_carry_87 : decode cX3_carry 87 = .ok (.if_icmp .ne 4, 3) := dk_160 0 4 (dk_at dksX3_carry_3 17 rfl rfl)
theorem dX3_carry_90 : decode cX3_carry 90 = .ok (.return_, 1) := dk_177 (dk_at dksX3_carry_3 20 rfl rfl)
theorem dX3_carry_91 : decode cX3_carry 91 = .ok (.aload_n 1, 1) := dk_43 (dk_at dksX3_carry_3 21 rfl rfl)
theorem dX3_carry_92 : decode cX3_carry 92 = .ok (.dup, 1) := dk_89 (dk_at dksX3_carry_3 22 rfl rfl)
theorem dX3_carry_93 : decode cX3_carry 93 = .ok (.getfield 125, 3) := dk_180 0 125 (dk_at dksX3_carry_4 0 rfl rfl)
theorem dX3_carry_96 : decode cX3_carry 96 = .ok (.getstatic 193, 3) := dk_178 0 193 (dk_at dksX3_carry_4 3 rfl rfl)
theorem dX3_carry_99 : decode cX3_carry 99 = .ok (.iload 4, 2) := dk_21 4 (dk_at dksX3_carry_4 6 rfl rfl)
theorem dX3_carry_101 : decode cX3_carry 101 = .ok (.iaload, 1) := dk_46 (dk_at dksX3_carry_4 8 rfl rfl)
theorem dX3_carry_102 : decode cX3_carry 102 = .ok (.iadd, 1) := dk_96 (dk_at dksX3_carry_4 9 rfl rfl)
theorem dX3_carry_103 : decode cX3_carry 103 = .ok (.putfield 125, 3) := dk_181 0 125 (dk_at dksX3_carry_4 10 rfl rfl)
theorem dX3_carry_106 : decode cX3_carry 106 = .ok (.aload_n 1, 1) := dk_43 (dk_at dksX3_carry_4 13 rfl rfl)
theorem dX3_carry_107 : decode cX3_carry 107 = .ok (.dup, 1) := dk_89 (dk_at dksX3_carry_4 14 rfl rfl)
theorem dX3_carry_108 : decode cX3_carry 108 = .ok (.getfield 128, 3) := dk_180 0 128 (dk_at dksX3_carry_4 15 rfl rfl)
theorem dX3_carry_111 : decode cX3_carry 111 = .ok (.getstatic 196, 3) := dk_178 0 196 (dk_at dksX3_carry_4 18 rfl rfl)
theorem dX3_carry_114 : decode cX3_carry 114 = .ok (.iload 4, 2) := dk_21 4 (dk_at dksX3_carry_4 21 rfl rfl)
theorem dX3_carry_116 : decode cX3_carry 116 = .ok (.iaload, 1) := dk_46 (dk_at dksX3_carry_4 23 rfl rfl)
theorem dX3_carry_117 : decode cX3_carry 117 = .ok (.iadd, 1) := dk_96 (dk_at dksX3_carry_5 0 rfl rfl)
theorem dX3_carry_118 : decode cX3_carry 118 = .ok (.putfield 128, 3) := dk_181 0 128 (dk_at dksX3_carry_5 1 rfl rfl)
theorem dX3_carry_121 : decode cX3_carry 121 = .ok (.aload_n 1, 1) := dk_43 (dk_at dksX3_carry_5 4 rfl rfl)
theorem dX3_carry_122 : decode cX3_carry 122 = .ok (.dup, 1) := dk_89 (dk_at dksX3_carry_5 5 rfl rfl)
theorem dX3_carry_123 : decode cX3_carry 123 = .ok (.getfield 199, 3) := dk_180 0 199 (dk_at dksX3_carry_5 6 rfl rfl)
theorem dX3_carry_126 : decode cX3_carry 126 = .ok (.iconst 1, 1) := dk_4 (dk_at dksX3_carry_5 9 rfl rfl)
theorem dX3_carry_127 : decode cX3_carry 127 = .ok (.iadd, 1) := dk_96 (dk_at dksX3_carry_5 10 rfl rfl)
theorem dX3_carry_128 : decode cX3_carry 128 = .ok (.putfield 199, 3) := dk_181 0 199 (dk_at dksX3_carry_5 11 rfl rfl)
theorem dX3_carry_131 : decode cX3_carry 131 = .ok (.aload_n 0, 1) := dk_42 (dk_at dksX3_carry_5 14 rfl rfl)
theorem dX3_carry_132 : decode cX3_carry 132 = .ok (.aload_n 1, 1) := dk_43 (dk_at dksX3_carry_5 15 rfl rfl)
theorem dX3_carry_133 : decode cX3_carry 133 = .ok (.getfield 125, 3) := dk_180 0 125 (dk_at dksX3_carry_5 16 rfl rfl)
theorem dX3_carry_136 : decode cX3_carry 136 = .ok (.aload_n 1, 1) := dk_43 (dk_at dksX3_carry_5 19 rfl rfl)
theorem dX3_carry_137 : decode cX3_carry 137 = .ok (.getfield 128, 3) := dk_180 0 128 (dk_at dksX3_carry_5 20 rfl rfl)
theorem dX3_carry_140 : decode cX3_carry 140 = .ok (.aload_n 0, 1) := dk_42 (dk_at dksX3_carry_5 23 rfl rfl)
theorem dX3_carry_141 : decode cX3_carry 141 = .ok (.getfield 100, 3) := dk_180 0 100 (dk_at dksX3_carry_6 0 rfl rfl)
theorem dX3_carry_144 : decode cX3_carry 144 = .ok (.invokevirtual 202, 3) := dk_182 0 202 (dk_at dksX3_carry_6 3 rfl rfl)
theorem dX3_carry_147 : decode cX3_carry 147 = .ok (.istore 5, 2) := dk_54 5 (dk_at dksX3_carry_6 6 rfl rfl)
theorem dX3_carry_149 : decode cX3_carry 149 = .ok (.iload 5, 2) := dk_21 5 (dk_at dksX3_carry_6 8 rfl rfl)
theorem dX3_carry_151 : decode cX3_carry 151 = .ok (.iconst (-1), 1) := dk_2 (dk_at dksX3_carry_6 10 rfl rfl)
theorem dX3_carry_152 : decode cX3_carry 152 = .ok (.if_icmp .eq 33, 3) := dk_159 0 33 (dk_at dksX3_carry_6 11 rfl rfl)
theorem dX3_carry_155 : decode cX3_carry 155 = .ok (.aload_n 0, 1) := dk_42 (dk_at dksX3_carry_6 14 rfl rfl)
theorem dX3_carry_156 : decode cX3_carry 156 = .ok (.getfield 22, 3) := dk_180 0 22 (dk_at dksX3_carry_6 15 rfl rfl)
theorem dX3_carry_159 : decode cX3_carry 159 = .ok (.iload 5, 2) := dk_21 5 (dk_at dksX3_carry_6 18 rfl rfl)
theorem dX3_carry_161 : decode cX3_carry 161 = .ok (.invokevirtual 64, 3) := dk_182 0 64 (dk_at dksX3_carry_6 20 rfl rfl)
theorem dX3_carry_164 : decode cX3_carry 164 = .ok (.checkcast 78, 3) := dk_192 0 78 (dk_at dksX3_carry_7 0 rfl rfl)
theorem dX3_carry_167 : decode cX3_carry 167 = .ok (.dup, 1) := dk_89 (dk_at dksX3_carry_7 3 rfl rfl)
theorem dX3_carry_168 : decode cX3_carry 168 = .ok (.getfield 206, 3) := dk_180 0 206 (dk_at dksX3_carry_7 4 rfl rfl)
theorem dX3_carry_171 : decode cX3_carry 171 = .ok (.iconst 1, 1) := dk_4 (dk_at dksX3_carry_7 7 rfl rfl)
theorem dX3_carry_172 : decode cX3_carry 172 = .ok (.iadd, 1) := dk_96 (dk_at dksX3_carry_7 8 rfl rfl)
theorem dX3_carry_173 : decode cX3_carry 173 = .ok (.putfield 206, 3) := dk_181 0 206 (dk_at dksX3_carry_7 9 rfl rfl)
theorem dX3_carry_176 : decode cX3_carry 176 = .ok (.aload_n 0, 1) := dk_42 (dk_at dksX3_carry_7 12 rfl rfl)
theorem dX3_carry_177 : decode cX3_carry 177 = .ok (.aload_n 1, 1) := dk_43 (dk_at dksX3_carry_7 13 rfl rfl)
theorem dX3_carry_178 : decode cX3_carry 178 = .ok (.iconst 5, 1) := dk_8 (dk_at dksX3_carry_7 14 rfl rfl)
theorem dX3_carry_179 : decode cX3_carry 179 = .ok (.invokevirtual 169, 3) := dk_182 0 169 (dk_at dksX3_carry_7 15 rfl rfl)
theorem dX3_carry_182 : decode cX3_carry 182 = .ok (.goto 23, 3) := dk_167 0 23 (dk_at dksX3_carry_7 18 rfl rfl)
theorem dX3_carry_185 : decode cX3_carry 185 = .ok (.aload_n 2, 1) := dk_44 (dk_at dksX3_carry_7 21 rfl rfl)
theorem dX3_carry_186 : decode cX3_carry 186 = .ok (.aload_n 1, 1) := dk_43 (dk_at dksX3_carry_7 22 rfl rfl)
theorem dX3_carry_187 : decode cX3_carry 187 = .ok (.getfield 125, 3) := dk_180 0 125 (dk_at dksX3_carry_8 0 rfl rfl)
theorem dX3_carry_190 : decode cX3_carry 190 = .ok (.aload_n 1, 1) := dk_43 (dk_at dksX3_carry_8 3 rfl rfl)
theorem dX3_carry_191 : decode cX3_carry 191 = .ok (.getfield 128, 3) := dk_180 0 128 (dk_at dksX3_carry_8 4 rfl rfl)
theorem dX3_carry_194 : decode cX3_carry 194 = .ok (.invokevirtual 118, 3) := dk_182 0 118 (dk_at dksX3_carry_8 7 rfl rfl)
theorem dX3_carry_197 : decode cX3_carry 197 = .ok (.ifCond .eq 8, 3) := dk_153 0 8 (dk_at dksX3_carry_8 10 rfl rfl)
theorem dX3_carry_200 : decode cX3_carry 200 = .ok (.aload_n 0, 1) := dk_42 (dk_at dksX3_carry_8 13 rfl rfl)
theorem dX3_carry_201 : decode cX3_carry 201 = .ok (.aload_n 1, 1) := dk_43 (dk_at dksX3_carry_8 14 rfl rfl)
theorem dX3_carry_202 : decode cX3_carry 202 = .ok (.invokevirtual 177, 3) := dk_182 0 177 (dk_at dksX3_carry_8 15 rfl rfl)
theorem dX3_carry_205 : decode cX3_carry 205 = .ok (.iinc 3 1, 3) := dk_132 3 1 (dk_at dksX3_carry_8 18 rfl rfl)
theorem dX3_carry_208 : decode cX3_carry 208 = .ok (.goto (-154), 3) := dk_167 255 102 (dk_at dksX3_carry_8 21 rfl rfl)
theorem dX3_carry_211 : decode cX3_carry 211 = .ok (.return_, 1) := dk_177 (dk_at dksX3_carry_9 0 rfl rfl)
abbrev cX3_arrive : ByteArray := prog_15_method_14_code
def yX3_arrive : MethodName := ⟨RX3, "arrive", "(LMessengerBoard$Order;)V"⟩
def dkwX3_arrive_3 : List UInt8 := [43, 4, 182, 0, 169, 177]
abbrev dktX3_arrive_3 : List UInt8 := dkwX3_arrive_3 ++ []
def dkwX3_arrive_2 : List UInt8 := [182, 0, 173, 78, 45, 198, 0, 10, 42, 45, 16, 6, 182, 0, 169, 44, 43, 180, 0, 154, 181, 0, 166, 42]
abbrev dktX3_arrive_2 : List UInt8 := dkwX3_arrive_2 ++ dktX3_arrive_3
def dkwX3_arrive_1 : List UInt8 := [180, 0, 166, 43, 180, 0, 154, 164, 0, 10, 42, 43, 6, 182, 0, 169, 177, 42, 43, 180, 0, 160]
abbrev dktX3_arrive_1 : List UInt8 := dkwX3_arrive_1 ++ dktX3_arrive_2
def dkwX3_arrive_0 : List UInt8 := [42, 180, 0, 18, 43, 180, 0, 160, 182, 0, 64, 192, 0, 68, 77, 43, 42, 180, 0, 100, 181, 0, 163, 44]
abbrev dktX3_arrive_0 : List UInt8 := dkwX3_arrive_0 ++ dktX3_arrive_1
theorem dksX3_arrive_0 : cX3_arrive.data.toList.drop 0 = dktX3_arrive_0 := by decide +kernel
theorem dksX3_arrive_1 : cX3_arrive.data.toList.drop 24 = dktX3_arrive_1 := dk_seg dksX3_arrive_0 24 rfl rfl
theorem dksX3_arrive_2 : cX3_arrive.data.toList.drop 46 = dktX3_arrive_2 := dk_seg dksX3_arrive_1 22 rfl rfl
theorem dksX3_arrive_3 : cX3_arrive.data.toList.drop 70 = dktX3_arrive_3 := dk_seg dksX3_arrive_2 24 rfl rfl
theorem dX3_arrive_0 : decode cX3_arrive 0 = .ok (.aload_n 0, 1) := dk_42 (dk_at dksX3_arrive_0 0 rfl rfl)
theorem dX3_arrive_1 : decode cX3_arrive 1 = .ok (.getfield 18, 3) := dk_180 0 18 (dk_at dksX3_arrive_0 1 rfl rfl)
theorem dX3_arrive_4 : decode cX3_arrive 4 = .ok (.aload_n 1, 1) := dk_43 (dk_at dksX3_arrive_0 4 rfl rfl)
theorem dX3_arrive_5 : decode cX3_arrive 5 = .ok (.getfield 160, 3) := dk_180 0 160 (dk_at dksX3_arrive_0 5 rfl rfl)
theorem dX3_arrive_8 : decode cX3_arrive 8 = .ok (.invokevirtual 64, 3) := dk_182 0 64 (dk_at dksX3_arrive_0 8 rfl rfl)
theorem dX3_arrive_11 : decode cX3_arrive 11 = .ok (.checkcast 68, 3) := dk_192 0 68 (dk_at dksX3_arrive_0 11 rfl rfl)
theorem dX3_arrive_14 : decode cX3_arrive 14 = .ok (.astore_n 2, 1) := dk_77 (dk_at dksX3_arrive_0 14 rfl rfl)
theorem dX3_arrive_15 : decode cX3_arrive 15 = .ok (.aload_n 1, 1) := dk_43 (dk_at dksX3_arrive_0 15 rfl rfl)
theorem dX3_arrive_16 : decode cX3_arrive 16 = .ok (.aload_n 0, 1) := dk_42 (dk_at dksX3_arrive_0 16 rfl rfl)
theorem dX3_arrive_17 : decode cX3_arrive 17 = .ok (.getfield 100, 3) := dk_180 0 100 (dk_at dksX3_arrive_0 17 rfl rfl)
theorem dX3_arrive_20 : decode cX3_arrive 20 = .ok (.putfield 163, 3) := dk_181 0 163 (dk_at dksX3_arrive_0 20 rfl rfl)
theorem dX3_arrive_23 : decode cX3_arrive 23 = .ok (.aload_n 2, 1) := dk_44 (dk_at dksX3_arrive_0 23 rfl rfl)
theorem dX3_arrive_24 : decode cX3_arrive 24 = .ok (.getfield 166, 3) := dk_180 0 166 (dk_at dksX3_arrive_1 0 rfl rfl)
theorem dX3_arrive_27 : decode cX3_arrive 27 = .ok (.aload_n 1, 1) := dk_43 (dk_at dksX3_arrive_1 3 rfl rfl)
theorem dX3_arrive_28 : decode cX3_arrive 28 = .ok (.getfield 154, 3) := dk_180 0 154 (dk_at dksX3_arrive_1 4 rfl rfl)
theorem dX3_arrive_31 : decode cX3_arrive 31 = .ok (.if_icmp .le 10, 3) := dk_164 0 10 (dk_at dksX3_arrive_1 7 rfl rfl)
theorem dX3_arrive_34 : decode cX3_arrive 34 = .ok (.aload_n 0, 1) := dk_42 (dk_at dksX3_arrive_1 10 rfl rfl)
theorem dX3_arrive_35 : decode cX3_arrive 35 = .ok (.aload_n 1, 1) := dk_43 (dk_at dksX3_arrive_1 11 rfl rfl)
theorem dX3_arrive_36 : decode cX3_arrive 36 = .ok (.iconst 3, 1) := dk_6 (dk_at dksX3_arrive_1 12 rfl rfl)
theorem dX3_arrive_37 : decode cX3_arrive 37 = .ok (.invokevirtual 169, 3) := dk_182 0 169 (dk_at dksX3_arrive_1 13 rfl rfl)
theorem dX3_arrive_40 : decode cX3_arrive 40 = .ok (.return_, 1) := dk_177 (dk_at dksX3_arrive_1 16 rfl rfl)
theorem dX3_arrive_41 : decode cX3_arrive 41 = .ok (.aload_n 0, 1) := dk_42 (dk_at dksX3_arrive_1 17 rfl rfl)
theorem dX3_arrive_42 : decode cX3_arrive 42 = .ok (.aload_n 1, 1) := dk_43 (dk_at dksX3_arrive_1 18 rfl rfl)
theorem dX3_arrive_43 : decode cX3_arrive 43 = .ok (.getfield 160, 3) := dk_180 0 160 (dk_at dksX3_arrive_1 19 rfl rfl)
theorem dX3_arrive_46 : decode cX3_arrive 46 = .ok (.invokevirtual 173, 3) := dk_182 0 173 (dk_at dksX3_arrive_2 0 rfl rfl)
theorem dX3_arrive_49 : decode cX3_arrive 49 = .ok (.astore_n 3, 1) := dk_78 (dk_at dksX3_arrive_2 3 rfl rfl)
theorem dX3_arrive_50 : decode cX3_arrive 50 = .ok (.aload_n 3, 1) := dk_45 (dk_at dksX3_arrive_2 4 rfl rfl)
theorem dX3_arrive_51 : decode cX3_arrive 51 = .ok (.ifnull 10, 3) := dk_198 0 10 (dk_at dksX3_arrive_2 5 rfl rfl)
theorem dX3_arrive_54 : decode cX3_arrive 54 = .ok (.aload_n 0, 1) := dk_42 (dk_at dksX3_arrive_2 8 rfl rfl)
theorem dX3_arrive_55 : decode cX3_arrive 55 = .ok (.aload_n 3, 1) := dk_45 (dk_at dksX3_arrive_2 9 rfl rfl)
theorem dX3_arrive_56 : decode cX3_arrive 56 = .ok (.bipush 6, 2) := dk_16 6 (dk_at dksX3_arrive_2 10 rfl rfl)
theorem dX3_arrive_58 : decode cX3_arrive 58 = .ok (.invokevirtual 169, 3) := dk_182 0 169 (dk_at dksX3_arrive_2 12 rfl rfl)
theorem dX3_arrive_61 : decode cX3_arrive 61 = .ok (.aload_n 2, 1) := dk_44 (dk_at dksX3_arrive_2 15 rfl rfl)
theorem dX3_arrive_62 : decode cX3_arrive 62 = .ok (.aload_n 1, 1) := dk_43 (dk_at dksX3_arrive_2 16 rfl rfl)
theorem dX3_arrive_63 : decode cX3_arrive 63 = .ok (.getfield 154, 3) := dk_180 0 154 (dk_at dksX3_arrive_2 17 rfl rfl)
theorem dX3_arrive_66 : decode cX3_arrive 66 = .ok (.putfield 166, 3) := dk_181 0 166 (dk_at dksX3_arrive_2 20 rfl rfl)
theorem dX3_arrive_69 : decode cX3_arrive 69 = .ok (.aload_n 0, 1) := dk_42 (dk_at dksX3_arrive_2 23 rfl rfl)
theorem dX3_arrive_70 : decode cX3_arrive 70 = .ok (.aload_n 1, 1) := dk_43 (dk_at dksX3_arrive_3 0 rfl rfl)
theorem dX3_arrive_71 : decode cX3_arrive 71 = .ok (.iconst 1, 1) := dk_4 (dk_at dksX3_arrive_3 1 rfl rfl)
theorem dX3_arrive_72 : decode cX3_arrive 72 = .ok (.invokevirtual 169, 3) := dk_182 0 169 (dk_at dksX3_arrive_3 2 rfl rfl)
theorem dX3_arrive_75 : decode cX3_arrive 75 = .ok (.return_, 1) := dk_177 (dk_at dksX3_arrive_3 5 rfl rfl)
abbrev cX3_gets : ByteArray := prog_15_method_12_code
def yX3_gets : MethodName := ⟨RX3, "gets", "(LMessengerBoard$Order;I)V"⟩
def dkwX3_gets_1 : List UInt8 := [187, 0, 90, 89, 42, 180, 0, 100, 43, 180, 0, 154, 28, 183, 0, 157, 182, 0, 74, 87, 177]
abbrev dktX3_gets_1 : List UInt8 := dkwX3_gets_1 ++ []
def dkwX3_gets_0 : List UInt8 := [43, 28, 181, 0, 135, 28, 4, 159, 0, 11, 43, 42, 180, 0, 100, 181, 0, 151, 42, 180, 0, 31]
abbrev dktX3_gets_0 : List UInt8 := dkwX3_gets_0 ++ dktX3_gets_1
theorem dksX3_gets_0 : cX3_gets.data.toList.drop 0 = dktX3_gets_0 := by decide +kernel
theorem dksX3_gets_1 : cX3_gets.data.toList.drop 22 = dktX3_gets_1 := dk_seg dksX3_gets_0 22 rfl rfl
theorem dX3_gets_0 : decode cX3_gets 0 = .ok (.aload_n 1, 1) := dk_43 (dk_at dksX3_gets_0 0 rfl rfl)
theorem dX3_gets_1 : decode cX3_gets 1 = .ok (.iload_n 2, 1) := dk_28 (dk_at dksX3_gets_0 1 rfl rfl)
theorem dX3_gets_2 : decode cX3_gets 2 = .ok (.putfield 135, 3) := dk_181 0 135 (dk_at dksX3_gets_0 2 rfl rfl)
theorem dX3_gets_5 : decode cX3_gets 5 = .ok (.iload_n 2, 1) := dk_28 (dk_at dksX3_gets_0 5 rfl rfl)
theorem dX3_gets_6 : decode cX3_gets 6 = .ok (.iconst 1, 1) := dk_4 (dk_at dksX3_gets_0 6 rfl rfl)
theorem dX3_gets_7 : decode cX3_gets 7 = .ok (.if_icmp .eq 11, 3) := dk_159 0 11 (dk_at dksX3_gets_0 7 rfl rfl)
theorem dX3_gets_10 : decode cX3_gets 10 = .ok (.aload_n 1, 1) := dk_43 (dk_at dksX3_gets_0 10 rfl rfl)
theorem dX3_gets_11 : decode cX3_gets 11 = .ok (.aload_n 0, 1) := dk_42 (dk_at dksX3_gets_0 11 rfl rfl)
theorem dX3_gets_12 : decode cX3_gets 12 = .ok (.getfield 100, 3) := dk_180 0 100 (dk_at dksX3_gets_0 12 rfl rfl)
theorem dX3_gets_15 : decode cX3_gets 15 = .ok (.putfield 151, 3) := dk_181 0 151 (dk_at dksX3_gets_0 15 rfl rfl)
theorem dX3_gets_18 : decode cX3_gets 18 = .ok (.aload_n 0, 1) := dk_42 (dk_at dksX3_gets_0 18 rfl rfl)
theorem dX3_gets_19 : decode cX3_gets 19 = .ok (.getfield 31, 3) := dk_180 0 31 (dk_at dksX3_gets_0 19 rfl rfl)
theorem dX3_gets_22 : decode cX3_gets 22 = .ok (.new 90, 3) := dk_187 0 90 (dk_at dksX3_gets_1 0 rfl rfl)
theorem dX3_gets_25 : decode cX3_gets 25 = .ok (.dup, 1) := dk_89 (dk_at dksX3_gets_1 3 rfl rfl)
theorem dX3_gets_26 : decode cX3_gets 26 = .ok (.aload_n 0, 1) := dk_42 (dk_at dksX3_gets_1 4 rfl rfl)
theorem dX3_gets_27 : decode cX3_gets 27 = .ok (.getfield 100, 3) := dk_180 0 100 (dk_at dksX3_gets_1 5 rfl rfl)
theorem dX3_gets_30 : decode cX3_gets 30 = .ok (.aload_n 1, 1) := dk_43 (dk_at dksX3_gets_1 8 rfl rfl)
theorem dX3_gets_31 : decode cX3_gets 31 = .ok (.getfield 154, 3) := dk_180 0 154 (dk_at dksX3_gets_1 9 rfl rfl)
theorem dX3_gets_34 : decode cX3_gets 34 = .ok (.iload_n 2, 1) := dk_28 (dk_at dksX3_gets_1 12 rfl rfl)
theorem dX3_gets_35 : decode cX3_gets 35 = .ok (.invokespecial 157, 3) := dk_183 0 157 (dk_at dksX3_gets_1 13 rfl rfl)
theorem dX3_gets_38 : decode cX3_gets 38 = .ok (.invokevirtual 74, 3) := dk_182 0 74 (dk_at dksX3_gets_1 16 rfl rfl)
theorem dX3_gets_41 : decode cX3_gets 41 = .ok (.pop, 1) := dk_87 (dk_at dksX3_gets_1 19 rfl rfl)
theorem dX3_gets_42 : decode cX3_gets 42 = .ok (.return_, 1) := dk_177 (dk_at dksX3_gets_1 20 rfl rfl)
abbrev cX3_move : ByteArray := prog_15_method_16_code
def yX3_move : MethodName := ⟨RX3, "move", "(I)V"⟩
def dkwX3_move_6 : List UInt8 := [180, 0, 182, 182, 0, 138, 153, 0, 9, 42, 45, 5, 182, 0, 169, 177]
abbrev dktX3_move_6 : List UInt8 := dkwX3_move_6 ++ []
def dkwX3_move_5 : List UInt8 := [160, 0, 7, 3, 167, 0, 9, 178, 0, 196, 21, 4, 46, 96, 181, 0, 182, 45, 44, 180, 0, 181, 44]
abbrev dktX3_move_5 : List UInt8 := dkwX3_move_5 ++ dktX3_move_6
def dkwX3_move_4 : List UInt8 := [3, 167, 0, 9, 178, 0, 193, 21, 4, 46, 96, 181, 0, 181, 44, 89, 180, 0, 182, 21, 4, 2]
abbrev dktX3_move_4 : List UInt8 := dkwX3_move_4 ++ dktX3_move_5
def dkwX3_move_3 : List UInt8 := [44, 180, 0, 181, 44, 180, 0, 182, 182, 0, 189, 54, 4, 44, 89, 180, 0, 181, 21, 4, 2, 160, 0, 7]
abbrev dktX3_move_3 : List UInt8 := dkwX3_move_3 ++ dktX3_move_4
def dkwX3_move_2 : List UInt8 := [154, 0, 87, 42, 180, 0, 47, 42, 45, 180, 0, 212, 45, 180, 0, 213, 182, 0, 183, 42, 180, 0, 47, 42]
abbrev dktX3_move_2 : List UInt8 := dkwX3_move_2 ++ dktX3_move_3
def dkwX3_move_1 : List UInt8 := [44, 180, 0, 181, 44, 180, 0, 182, 182, 0, 138, 154, 0, 99, 42, 180, 0, 100, 44, 180, 0, 209, 112]
abbrev dktX3_move_1 : List UInt8 := dkwX3_move_1 ++ dktX3_move_2
def dkwX3_move_0 : List UInt8 := [42, 180, 0, 18, 27, 182, 0, 64, 192, 0, 68, 77, 42, 27, 182, 0, 173, 78, 45, 199, 0, 4, 177, 45]
abbrev dktX3_move_0 : List UInt8 := dkwX3_move_0 ++ dktX3_move_1
theorem dksX3_move_0 : cX3_move.data.toList.drop 0 = dktX3_move_0 := by decide +kernel
theorem dksX3_move_1 : cX3_move.data.toList.drop 24 = dktX3_move_1 := dk_seg dksX3_move_0 24 rfl rfl
theorem dksX3_move_2 : cX3_move.data.toList.drop 47 = dktX3_move_2 := dk_seg dksX3_move_1 23 rfl rfl
theorem dksX3_move_3 : cX3_move.data.toList.drop 71 = dktX3_move_3 := dk_seg dksX3_move_2 24 rfl rfl
theorem dksX3_move_4 : cX3_move.data.toList.drop 95 = dktX3_move_4 := dk_seg dksX3_move_3 24 rfl rfl
theorem dksX3_move_5 : cX3_move.data.toList.drop 117 = dktX3_move_5 := dk_seg dksX3_move_4 22 rfl rfl
theorem dksX3_move_6 : cX3_move.data.toList.drop 140 = dktX3_move_6 := dk_seg dksX3_move_5 23 rfl rfl
theorem dX3_move_0 : decode cX3_move 0 = .ok (.aload_n 0, 1) := dk_42 (dk_at dksX3_move_0 0 rfl rfl)
theorem dX3_move_1 : decode cX3_move 1 = .ok (.getfield 18, 3) := dk_180 0 18 (dk_at dksX3_move_0 1 rfl rfl)
theorem dX3_move_4 : decode cX3_move 4 = .ok (.iload_n 1, 1) := dk_27 (dk_at dksX3_move_0 4 rfl rfl)
theorem dX3_move_5 : decode cX3_move 5 = .ok (.invokevirtual 64, 3) := dk_182 0 64 (dk_at dksX3_move_0 5 rfl rfl)
theorem dX3_move_8 : decode cX3_move 8 = .ok (.checkcast 68, 3) := dk_192 0 68 (dk_at dksX3_move_0 8 rfl rfl)
theorem dX3_move_11 : decode cX3_move 11 = .ok (.astore_n 2, 1) := dk_77 (dk_at dksX3_move_0 11 rfl rfl)
theorem dX3_move_12 : decode cX3_move 12 = .ok (.aload_n 0, 1) := dk_42 (dk_at dksX3_move_0 12 rfl rfl)
theorem dX3_move_13 : decode cX3_move 13 = .ok (.iload_n 1, 1) := dk_27 (dk_at dksX3_move_0 13 rfl rfl)
theorem dX3_move_14 : decode cX3_move 14 = .ok (.invokevirtual 173, 3) := dk_182 0 173 (dk_at dksX3_move_0 14 rfl rfl)
theorem dX3_move_17 : decode cX3_move 17 = .ok (.astore_n 3, 1) := dk_78 (dk_at dksX3_move_0 17 rfl rfl)
theorem dX3_move_18 : decode cX3_move 18 = .ok (.aload_n 3, 1) := dk_45 (dk_at dksX3_move_0 18 rfl rfl)
theorem dX3_move_19 : decode cX3_move 19 = .ok (.ifnonnull 4, 3) := dk_199 0 4 (dk_at dksX3_move_0 19 rfl rfl)
theorem dX3_move_22 : decode cX3_move 22 = .ok (.return_, 1) := dk_177 (dk_at dksX3_move_0 22 rfl rfl)
theorem dX3_move_23 : decode cX3_move 23 = .ok (.aload_n 3, 1) := dk_45 (dk_at dksX3_move_0 23 rfl rfl)
theorem dX3_move_24 : decode cX3_move 24 = .ok (.aload_n 2, 1) := dk_44 (dk_at dksX3_move_1 0 rfl rfl)
theorem dX3_move_25 : decode cX3_move 25 = .ok (.getfield 181, 3) := dk_180 0 181 (dk_at dksX3_move_1 1 rfl rfl)
theorem dX3_move_28 : decode cX3_move 28 = .ok (.aload_n 2, 1) := dk_44 (dk_at dksX3_move_1 4 rfl rfl)
theorem dX3_move_29 : decode cX3_move 29 = .ok (.getfield 182, 3) := dk_180 0 182 (dk_at dksX3_move_1 5 rfl rfl)
theorem dX3_move_32 : decode cX3_move 32 = .ok (.invokevirtual 138, 3) := dk_182 0 138 (dk_at dksX3_move_1 8 rfl rfl)
theorem dX3_move_35 : decode cX3_move 35 = .ok (.ifCond .ne 99, 3) := dk_154 0 99 (dk_at dksX3_move_1 11 rfl rfl)
theorem dX3_move_38 : decode cX3_move 38 = .ok (.aload_n 0, 1) := dk_42 (dk_at dksX3_move_1 14 rfl rfl)
theorem dX3_move_39 : decode cX3_move 39 = .ok (.getfield 100, 3) := dk_180 0 100 (dk_at dksX3_move_1 15 rfl rfl)
theorem dX3_move_42 : decode cX3_move 42 = .ok (.aload_n 2, 1) := dk_44 (dk_at dksX3_move_1 18 rfl rfl)
theorem dX3_move_43 : decode cX3_move 43 = .ok (.getfield 209, 3) := dk_180 0 209 (dk_at dksX3_move_1 19 rfl rfl)
theorem dX3_move_46 : decode cX3_move 46 = .ok (.irem, 1) := dk_112 (dk_at dksX3_move_1 22 rfl rfl)
theorem dX3_move_47 : decode cX3_move 47 = .ok (.ifCond .ne 87, 3) := dk_154 0 87 (dk_at dksX3_move_2 0 rfl rfl)
theorem dX3_move_50 : decode cX3_move 50 = .ok (.aload_n 0, 1) := dk_42 (dk_at dksX3_move_2 3 rfl rfl)
theorem dX3_move_51 : decode cX3_move 51 = .ok (.getfield 47, 3) := dk_180 0 47 (dk_at dksX3_move_2 4 rfl rfl)
theorem dX3_move_54 : decode cX3_move 54 = .ok (.aload_n 0, 1) := dk_42 (dk_at dksX3_move_2 7 rfl rfl)
theorem dX3_move_55 : decode cX3_move 55 = .ok (.aload_n 3, 1) := dk_45 (dk_at dksX3_move_2 8 rfl rfl)
theorem dX3_move_56 : decode cX3_move 56 = .ok (.getfield 212, 3) := dk_180 0 212 (dk_at dksX3_move_2 9 rfl rfl)
theorem dX3_move_59 : decode cX3_move 59 = .ok (.aload_n 3, 1) := dk_45 (dk_at dksX3_move_2 12 rfl rfl)
theorem dX3_move_60 : decode cX3_move 60 = .ok (.getfield 213, 3) := dk_180 0 213 (dk_at dksX3_move_2 13 rfl rfl)
theorem dX3_move_63 : decode cX3_move 63 = .ok (.invokevirtual 183, 3) := dk_182 0 183 (dk_at dksX3_move_2 16 rfl rfl)
theorem dX3_move_66 : decode cX3_move 66 = .ok (.aload_n 0, 1) := dk_42 (dk_at dksX3_move_2 19 rfl rfl)
theorem dX3_move_67 : decode cX3_move 67 = .ok (.getfield 47, 3) := dk_180 0 47 (dk_at dksX3_move_2 20 rfl rfl)
theorem dX3_move_70 : decode cX3_move 70 = .ok (.aload_n 0, 1) := dk_42 (dk_at dksX3_move_2 23 rfl rfl)
theorem dX3_move_71 : decode cX3_move 71 = .ok (.aload_n 2, 1) := dk_44 (dk_at dksX3_move_3 0 rfl rfl)
theorem dX3_move_72 : decode cX3_move 72 = .ok (.getfield 181, 3) := dk_180 0 181 (dk_at dksX3_move_3 1 rfl rfl)
theorem dX3_move_75 : decode cX3_move 75 = .ok (.aload_n 2, 1) := dk_44 (dk_at dksX3_move_3 4 rfl rfl)
theorem dX3_move_76 : decode cX3_move 76 = .ok (.getfield 182, 3) := dk_180 0 182 (dk_at dksX3_move_3 5 rfl rfl)
theorem dX3_move_79 : decode cX3_move 79 = .ok (.invokevirtual 189, 3) := dk_182 0 189 (dk_at dksX3_move_3 8 rfl rfl)
theorem dX3_move_82 : decode cX3_move 82 = .ok (.istore 4, 2) := dk_54 4 (dk_at dksX3_move_3 11 rfl rfl)
theorem dX3_move_84 : decode cX3_move 84 = .ok (.aload_n 2, 1) := dk_44 (dk_at dksX3_move_3 13 rfl rfl)
theorem dX3_move_85 : decode cX3_move 85 = .ok (.dup, 1) := dk_89 (dk_at dksX3_move_3 14 rfl rfl)
theorem dX3_move_86 : decode cX3_move 86 = .ok (.getfield 181, 3) := dk_180 0 181 (dk_at dksX3_move_3 15 rfl rfl)
theorem dX3_move_89 : decode cX3_move 89 = .ok (.iload 4, 2) := dk_21 4 (dk_at dksX3_move_3 18 rfl rfl)
theorem dX3_move_91 : decode cX3_move 91 = .ok (.iconst (-1), 1) := dk_2 (dk_at dksX3_move_3 20 rfl rfl)
theorem dX3_move_92 : decode cX3_move 92 = .ok (.if_icmp .ne 7, 3) := dk_160 0 7 (dk_at dksX3_move_3 21 rfl rfl)
theorem dX3_move_95 : decode cX3_move 95 = .ok (.iconst 0, 1) := dk_3 (dk_at dksX3_move_4 0 rfl rfl)
theorem dX3_move_96 : decode cX3_move 96 = .ok (.goto 9, 3) := dk_167 0 9 (dk_at dksX3_move_4 1 rfl rfl)
theorem dX3_move_99 : decode cX3_move 99 = .ok (.getstatic 193, 3) := dk_178 0 193 (dk_at dksX3_move_4 4 rfl rfl)
theorem dX3_move_102 : decode cX3_move 102 = .ok (.iload 4, 2) := dk_21 4 (dk_at dksX3_move_4 7 rfl rfl)
theorem dX3_move_104 : decode cX3_move 104 = .ok (.iaload, 1) := dk_46 (dk_at dksX3_move_4 9 rfl rfl)
theorem dX3_move_105 : decode cX3_move 105 = .ok (.iadd, 1) := dk_96 (dk_at dksX3_move_4 10 rfl rfl)
theorem dX3_move_106 : decode cX3_move 106 = .ok (.putfield 181, 3) := dk_181 0 181 (dk_at dksX3_move_4 11 rfl rfl)
theorem dX3_move_109 : decode cX3_move 109 = .ok (.aload_n 2, 1) := dk_44 (dk_at dksX3_move_4 14 rfl rfl)
theorem dX3_move_110 : decode cX3_move 110 = .ok (.dup, 1) := dk_89 (dk_at dksX3_move_4 15 rfl rfl)
theorem dX3_move_111 : decode cX3_move 111 = .ok (.getfield 182, 3) := dk_180 0 182 (dk_at dksX3_move_4 16 rfl rfl)
theorem dX3_move_114 : decode cX3_move 114 = .ok (.iload 4, 2) := dk_21 4 (dk_at dksX3_move_4 19 rfl rfl)
theorem dX3_move_116 : decode cX3_move 116 = .ok (.iconst (-1), 1) := dk_2 (dk_at dksX3_move_4 21 rfl rfl)
theorem dX3_move_117 : decode cX3_move 117 = .ok (.if_icmp .ne 7, 3) := dk_160 0 7 (dk_at dksX3_move_5 0 rfl rfl)
theorem dX3_move_120 : decode cX3_move 120 = .ok (.iconst 0, 1) := dk_3 (dk_at dksX3_move_5 3 rfl rfl)
theorem dX3_move_121 : decode cX3_move 121 = .ok (.goto 9, 3) := dk_167 0 9 (dk_at dksX3_move_5 4 rfl rfl)
theorem dX3_move_124 : decode cX3_move 124 = .ok (.getstatic 196, 3) := dk_178 0 196 (dk_at dksX3_move_5 7 rfl rfl)
theorem dX3_move_127 : decode cX3_move 127 = .ok (.iload 4, 2) := dk_21 4 (dk_at dksX3_move_5 10 rfl rfl)
theorem dX3_move_129 : decode cX3_move 129 = .ok (.iaload, 1) := dk_46 (dk_at dksX3_move_5 12 rfl rfl)
theorem dX3_move_130 : decode cX3_move 130 = .ok (.iadd, 1) := dk_96 (dk_at dksX3_move_5 13 rfl rfl)
theorem dX3_move_131 : decode cX3_move 131 = .ok (.putfield 182, 3) := dk_181 0 182 (dk_at dksX3_move_5 14 rfl rfl)
theorem dX3_move_134 : decode cX3_move 134 = .ok (.aload_n 3, 1) := dk_45 (dk_at dksX3_move_5 17 rfl rfl)
theorem dX3_move_135 : decode cX3_move 135 = .ok (.aload_n 2, 1) := dk_44 (dk_at dksX3_move_5 18 rfl rfl)
theorem dX3_move_136 : decode cX3_move 136 = .ok (.getfield 181, 3) := dk_180 0 181 (dk_at dksX3_move_5 19 rfl rfl)
theorem dX3_move_139 : decode cX3_move 139 = .ok (.aload_n 2, 1) := dk_44 (dk_at dksX3_move_5 22 rfl rfl)
theorem dX3_move_140 : decode cX3_move 140 = .ok (.getfield 182, 3) := dk_180 0 182 (dk_at dksX3_move_6 0 rfl rfl)
theorem dX3_move_143 : decode cX3_move 143 = .ok (.invokevirtual 138, 3) := dk_182 0 138 (dk_at dksX3_move_6 3 rfl rfl)
theorem dX3_move_146 : decode cX3_move 146 = .ok (.ifCond .eq 9, 3) := dk_153 0 9 (dk_at dksX3_move_6 6 rfl rfl)
theorem dX3_move_149 : decode cX3_move 149 = .ok (.aload_n 0, 1) := dk_42 (dk_at dksX3_move_6 9 rfl rfl)
theorem dX3_move_150 : decode cX3_move 150 = .ok (.aload_n 3, 1) := dk_45 (dk_at dksX3_move_6 10 rfl rfl)
theorem dX3_move_151 : decode cX3_move 151 = .ok (.iconst 2, 1) := dk_5 (dk_at dksX3_move_6 11 rfl rfl)
theorem dX3_move_152 : decode cX3_move 152 = .ok (.invokevirtual 169, 3) := dk_182 0 169 (dk_at dksX3_move_6 12 rfl rfl)
theorem dX3_move_155 : decode cX3_move 155 = .ok (.return_, 1) := dk_177 (dk_at dksX3_move_6 15 rfl rfl)
abbrev cX3_arrivalOf : ByteArray := prog_15_method_20_code
def yX3_arrivalOf : MethodName := ⟨RX3, "arrivalOf", "(I)I"⟩
def dkwX3_arrivalOf_1 : List UInt8 := [42, 180, 0, 28, 27, 182, 0, 64, 192, 0, 85, 180, 0, 163, 172]
abbrev dktX3_arrivalOf_1 : List UInt8 := dkwX3_arrivalOf_1 ++ []
def dkwX3_arrivalOf_0 : List UInt8 := [42, 180, 0, 28, 27, 182, 0, 64, 192, 0, 85, 182, 0, 121, 153, 0, 10, 42, 182, 0, 246, 167, 255, 235]
abbrev dktX3_arrivalOf_0 : List UInt8 := dkwX3_arrivalOf_0 ++ dktX3_arrivalOf_1
theorem dksX3_arrivalOf_0 : cX3_arrivalOf.data.toList.drop 0 = dktX3_arrivalOf_0 := by decide +kernel
theorem dksX3_arrivalOf_1 : cX3_arrivalOf.data.toList.drop 24 = dktX3_arrivalOf_1 := dk_seg dksX3_arrivalOf_0 24 rfl rfl
theorem dX3_arrivalOf_0 : decode cX3_arrivalOf 0 = .ok (.aload_n 0, 1) := dk_42 (dk_at dksX3_arrivalOf_0 0 rfl rfl)
theorem dX3_arrivalOf_1 : decode cX3_arrivalOf 1 = .ok (.getfield 28, 3) := dk_180 0 28 (dk_at dksX3_arrivalOf_0 1 rfl rfl)
theorem dX3_arrivalOf_4 : decode cX3_arrivalOf 4 = .ok (.iload_n 1, 1) := dk_27 (dk_at dksX3_arrivalOf_0 4 rfl rfl)
theorem dX3_arrivalOf_5 : decode cX3_arrivalOf 5 = .ok (.invokevirtual 64, 3) := dk_182 0 64 (dk_at dksX3_arrivalOf_0 5 rfl rfl)
theorem dX3_arrivalOf_8 : decode cX3_arrivalOf 8 = .ok (.checkcast 85, 3) := dk_192 0 85 (dk_at dksX3_arrivalOf_0 8 rfl rfl)
theorem dX3_arrivalOf_11 : decode cX3_arrivalOf 11 = .ok (.invokevirtual 121, 3) := dk_182 0 121 (dk_at dksX3_arrivalOf_0 11 rfl rfl)
theorem dX3_arrivalOf_14 : decode cX3_arrivalOf 14 = .ok (.ifCond .eq 10, 3) := dk_153 0 10 (dk_at dksX3_arrivalOf_0 14 rfl rfl)
theorem dX3_arrivalOf_17 : decode cX3_arrivalOf 17 = .ok (.aload_n 0, 1) := dk_42 (dk_at dksX3_arrivalOf_0 17 rfl rfl)
theorem dX3_arrivalOf_18 : decode cX3_arrivalOf 18 = .ok (.invokevirtual 246, 3) := dk_182 0 246 (dk_at dksX3_arrivalOf_0 18 rfl rfl)
theorem dX3_arrivalOf_21 : decode cX3_arrivalOf 21 = .ok (.goto (-21), 3) := dk_167 255 235 (dk_at dksX3_arrivalOf_0 21 rfl rfl)
theorem dX3_arrivalOf_24 : decode cX3_arrivalOf 24 = .ok (.aload_n 0, 1) := dk_42 (dk_at dksX3_arrivalOf_1 0 rfl rfl)
theorem dX3_arrivalOf_25 : decode cX3_arrivalOf 25 = .ok (.getfield 28, 3) := dk_180 0 28 (dk_at dksX3_arrivalOf_1 1 rfl rfl)
theorem dX3_arrivalOf_28 : decode cX3_arrivalOf 28 = .ok (.iload_n 1, 1) := dk_27 (dk_at dksX3_arrivalOf_1 4 rfl rfl)
theorem dX3_arrivalOf_29 : decode cX3_arrivalOf 29 = .ok (.invokevirtual 64, 3) := dk_182 0 64 (dk_at dksX3_arrivalOf_1 5 rfl rfl)
theorem dX3_arrivalOf_32 : decode cX3_arrivalOf 32 = .ok (.checkcast 85, 3) := dk_192 0 85 (dk_at dksX3_arrivalOf_1 8 rfl rfl)
theorem dX3_arrivalOf_35 : decode cX3_arrivalOf 35 = .ok (.getfield 163, 3) := dk_180 0 163 (dk_at dksX3_arrivalOf_1 11 rfl rfl)
theorem dX3_arrivalOf_38 : decode cX3_arrivalOf 38 = .ok (.ireturn, 1) := dk_172 (dk_at dksX3_arrivalOf_1 14 rfl rfl)
abbrev cX3_hasMessenger : ByteArray := prog_15_method_8_code
def yX3_hasMessenger : MethodName := ⟨RX3, "hasMessenger", "(II)Z"⟩
def dkwX3_hasMessenger_2 : List UInt8 := [28, 160, 0, 5, 4, 172, 132, 3, 1, 167, 255, 201, 3, 172]
abbrev dktX3_hasMessenger_2 : List UInt8 := dkwX3_hasMessenger_2 ++ []
def dkwX3_hasMessenger_1 : List UInt8 := [58, 4, 25, 4, 182, 0, 121, 153, 0, 23, 25, 4, 180, 0, 125, 27, 160, 0, 14, 25, 4, 180, 0, 128]
abbrev dktX3_hasMessenger_1 : List UInt8 := dkwX3_hasMessenger_1 ++ dktX3_hasMessenger_2
def dkwX3_hasMessenger_0 : List UInt8 := [3, 62, 29, 42, 180, 0, 28, 182, 0, 60, 162, 0, 50, 42, 180, 0, 28, 29, 182, 0, 64, 192, 0, 85]
abbrev dktX3_hasMessenger_0 : List UInt8 := dkwX3_hasMessenger_0 ++ dktX3_hasMessenger_1
theorem dksX3_hasMessenger_0 : cX3_hasMessenger.data.toList.drop 0 = dktX3_hasMessenger_0 := by decide +kernel
theorem dksX3_hasMessenger_1 : cX3_hasMessenger.data.toList.drop 24 = dktX3_hasMessenger_1 := dk_seg dksX3_hasMessenger_0 24 rfl rfl
theorem dksX3_hasMessenger_2 : cX3_hasMessenger.data.toList.drop 48 = dktX3_hasMessenger_2 := dk_seg dksX3_hasMessenger_1 24 rfl rfl
theorem dX3_hasMessenger_0 : decode cX3_hasMessenger 0 = .ok (.iconst 0, 1) := dk_3 (dk_at dksX3_hasMessenger_0 0 rfl rfl)
theorem dX3_hasMessenger_1 : decode cX3_hasMessenger 1 = .ok (.istore_n 3, 1) := dk_62 (dk_at dksX3_hasMessenger_0 1 rfl rfl)
theorem dX3_hasMessenger_2 : decode cX3_hasMessenger 2 = .ok (.iload_n 3, 1) := dk_29 (dk_at dksX3_hasMessenger_0 2 rfl rfl)
theorem dX3_hasMessenger_3 : decode cX3_hasMessenger 3 = .ok (.aload_n 0, 1) := dk_42 (dk_at dksX3_hasMessenger_0 3 rfl rfl)
theorem dX3_hasMessenger_4 : decode cX3_hasMessenger 4 = .ok (.getfield 28, 3) := dk_180 0 28 (dk_at dksX3_hasMessenger_0 4 rfl rfl)
theorem dX3_hasMessenger_7 : decode cX3_hasMessenger 7 = .ok (.invokevirtual 60, 3) := dk_182 0 60 (dk_at dksX3_hasMessenger_0 7 rfl rfl)
theorem dX3_hasMessenger_10 : decode cX3_hasMessenger 10 = .ok (.if_icmp .ge 50, 3) := dk_162 0 50 (dk_at dksX3_hasMessenger_0 10 rfl rfl)
theorem dX3_hasMessenger_13 : decode cX3_hasMessenger 13 = .ok (.aload_n 0, 1) := dk_42 (dk_at dksX3_hasMessenger_0 13 rfl rfl)
theorem dX3_hasMessenger_14 : decode cX3_hasMessenger 14 = .ok (.getfield 28, 3) := dk_180 0 28 (dk_at dksX3_hasMessenger_0 14 rfl rfl)
theorem dX3_hasMessenger_17 : decode cX3_hasMessenger 17 = .ok (.iload_n 3, 1) := dk_29 (dk_at dksX3_hasMessenger_0 17 rfl rfl)
theorem dX3_hasMessenger_18 : decode cX3_hasMessenger 18 = .ok (.invokevirtual 64, 3) := dk_182 0 64 (dk_at dksX3_hasMessenger_0 18 rfl rfl)
theorem dX3_hasMessenger_21 : decode cX3_hasMessenger 21 = .ok (.checkcast 85, 3) := dk_192 0 85 (dk_at dksX3_hasMessenger_0 21 rfl rfl)
theorem dX3_hasMessenger_24 : decode cX3_hasMessenger 24 = .ok (.astore 4, 2) := dk_58 4 (dk_at dksX3_hasMessenger_1 0 rfl rfl)
theorem dX3_hasMessenger_26 : decode cX3_hasMessenger 26 = .ok (.aload 4, 2) := dk_25 4 (dk_at dksX3_hasMessenger_1 2 rfl rfl)
theorem dX3_hasMessenger_28 : decode cX3_hasMessenger 28 = .ok (.invokevirtual 121, 3) := dk_182 0 121 (dk_at dksX3_hasMessenger_1 4 rfl rfl)
theorem dX3_hasMessenger_31 : decode cX3_hasMessenger 31 = .ok (.ifCond .eq 23, 3) := dk_153 0 23 (dk_at dksX3_hasMessenger_1 7 rfl rfl)
theorem dX3_hasMessenger_34 : decode cX3_hasMessenger 34 = .ok (.aload 4, 2) := dk_25 4 (dk_at dksX3_hasMessenger_1 10 rfl rfl)
theorem dX3_hasMessenger_36 : decode cX3_hasMessenger 36 = .ok (.getfield 125, 3) := dk_180 0 125 (dk_at dksX3_hasMessenger_1 12 rfl rfl)
theorem dX3_hasMessenger_39 : decode cX3_hasMessenger 39 = .ok (.iload_n 1, 1) := dk_27 (dk_at dksX3_hasMessenger_1 15 rfl rfl)
theorem dX3_hasMessenger_40 : decode cX3_hasMessenger 40 = .ok (.if_icmp .ne 14, 3) := dk_160 0 14 (dk_at dksX3_hasMessenger_1 16 rfl rfl)
theorem dX3_hasMessenger_43 : decode cX3_hasMessenger 43 = .ok (.aload 4, 2) := dk_25 4 (dk_at dksX3_hasMessenger_1 19 rfl rfl)
theorem dX3_hasMessenger_45 : decode cX3_hasMessenger 45 = .ok (.getfield 128, 3) := dk_180 0 128 (dk_at dksX3_hasMessenger_1 21 rfl rfl)
theorem dX3_hasMessenger_48 : decode cX3_hasMessenger 48 = .ok (.iload_n 2, 1) := dk_28 (dk_at dksX3_hasMessenger_2 0 rfl rfl)
theorem dX3_hasMessenger_49 : decode cX3_hasMessenger 49 = .ok (.if_icmp .ne 5, 3) := dk_160 0 5 (dk_at dksX3_hasMessenger_2 1 rfl rfl)
theorem dX3_hasMessenger_52 : decode cX3_hasMessenger 52 = .ok (.iconst 1, 1) := dk_4 (dk_at dksX3_hasMessenger_2 4 rfl rfl)
theorem dX3_hasMessenger_53 : decode cX3_hasMessenger 53 = .ok (.ireturn, 1) := dk_172 (dk_at dksX3_hasMessenger_2 5 rfl rfl)
theorem dX3_hasMessenger_54 : decode cX3_hasMessenger 54 = .ok (.iinc 3 1, 3) := dk_132 3 1 (dk_at dksX3_hasMessenger_2 6 rfl rfl)
theorem dX3_hasMessenger_57 : decode cX3_hasMessenger 57 = .ok (.goto (-55), 3) := dk_167 255 201 (dk_at dksX3_hasMessenger_2 9 rfl rfl)
theorem dX3_hasMessenger_60 : decode cX3_hasMessenger 60 = .ok (.iconst 0, 1) := dk_3 (dk_at dksX3_hasMessenger_2 12 rfl rfl)
theorem dX3_hasMessenger_61 : decode cX3_hasMessenger 61 = .ok (.ireturn, 1) := dk_172 (dk_at dksX3_hasMessenger_2 13 rfl rfl)
abbrev cX3_isGoal : ByteArray := prog_15_method_10_code
def yX3_isGoal : MethodName := ⟨RX3, "isGoal", "(II)Z"⟩
def dkwX3_isGoal_5 : List UInt8 := [132, 3, 1, 167, 255, 197, 3, 172]
abbrev dktX3_isGoal_5 : List UInt8 := dkwX3_isGoal_5 ++ []
def dkwX3_isGoal_4 : List UInt8 := [161, 0, 23, 25, 4, 180, 0, 142, 27, 160, 0, 14, 25, 4, 180, 0, 145, 28, 160, 0, 5, 4, 172]
abbrev dktX3_isGoal_4 : List UInt8 := dkwX3_isGoal_4 ++ dktX3_isGoal_5
def dkwX3_isGoal_3 : List UInt8 := [42, 180, 0, 25, 29, 182, 0, 64, 192, 0, 83, 58, 4, 25, 4, 180, 0, 141, 42, 180, 0, 100]
abbrev dktX3_isGoal_3 : List UInt8 := dkwX3_isGoal_3 ++ dktX3_isGoal_4
def dkwX3_isGoal_2 : List UInt8 := [153, 0, 5, 4, 172, 132, 3, 1, 167, 255, 203, 3, 62, 29, 42, 180, 0, 25, 182, 0, 60, 162, 0, 54]
abbrev dktX3_isGoal_2 : List UInt8 := dkwX3_isGoal_2 ++ dktX3_isGoal_3
def dkwX3_isGoal_1 : List UInt8 := [180, 0, 135, 4, 163, 0, 24, 42, 180, 0, 28, 29, 182, 0, 64, 192, 0, 85, 27, 28, 182, 0, 138]
abbrev dktX3_isGoal_1 : List UInt8 := dkwX3_isGoal_1 ++ dktX3_isGoal_2
def dkwX3_isGoal_0 : List UInt8 := [3, 62, 29, 42, 180, 0, 28, 182, 0, 60, 162, 0, 48, 42, 180, 0, 28, 29, 182, 0, 64, 192, 0, 85]
abbrev dktX3_isGoal_0 : List UInt8 := dkwX3_isGoal_0 ++ dktX3_isGoal_1
theorem dksX3_isGoal_0 : cX3_isGoal.data.toList.drop 0 = dktX3_isGoal_0 := by decide +kernel
theorem dksX3_isGoal_1 : cX3_isGoal.data.toList.drop 24 = dktX3_isGoal_1 := dk_seg dksX3_isGoal_0 24 rfl rfl
theorem dksX3_isGoal_2 : cX3_isGoal.data.toList.drop 47 = dktX3_isGoal_2 := dk_seg dksX3_isGoal_1 23 rfl rfl
theorem dksX3_isGoal_3 : cX3_isGoal.data.toList.drop 71 = dktX3_isGoal_3 := dk_seg dksX3_isGoal_2 24 rfl rfl
theorem dksX3_isGoal_4 : cX3_isGoal.data.toList.drop 93 = dktX3_isGoal_4 := dk_seg dksX3_isGoal_3 22 rfl rfl
theorem dksX3_isGoal_5 : cX3_isGoal.data.toList.drop 116 = dktX3_isGoal_5 := dk_seg dksX3_isGoal_4 23 rfl rfl
theorem dX3_isGoal_0 : decode cX3_isGoal 0 = .ok (.iconst 0, 1) := dk_3 (dk_at dksX3_isGoal_0 0 rfl rfl)
theorem dX3_isGoal_1 : decode cX3_isGoal 1 = .ok (.istore_n 3, 1) := dk_62 (dk_at dksX3_isGoal_0 1 rfl rfl)
theorem dX3_isGoal_2 : decode cX3_isGoal 2 = .ok (.iload_n 3, 1) := dk_29 (dk_at dksX3_isGoal_0 2 rfl rfl)
theorem dX3_isGoal_3 : decode cX3_isGoal 3 = .ok (.aload_n 0, 1) := dk_42 (dk_at dksX3_isGoal_0 3 rfl rfl)
theorem dX3_isGoal_4 : decode cX3_isGoal 4 = .ok (.getfield 28, 3) := dk_180 0 28 (dk_at dksX3_isGoal_0 4 rfl rfl)
theorem dX3_isGoal_7 : decode cX3_isGoal 7 = .ok (.invokevirtual 60, 3) := dk_182 0 60 (dk_at dksX3_isGoal_0 7 rfl rfl)
theorem dX3_isGoal_10 : decode cX3_isGoal 10 = .ok (.if_icmp .ge 48, 3) := dk_162 0 48 (dk_at dksX3_isGoal_0 10 rfl rfl)
theorem dX3_isGoal_13 : decode cX3_isGoal 13 = .ok (.aload_n 0, 1) := dk_42 (dk_at dksX3_isGoal_0 13 rfl rfl)
theorem dX3_isGoal_14 : decode cX3_isGoal 14 = .ok (.getfield 28, 3) := dk_180 0 28 (dk_at dksX3_isGoal_0 14 rfl rfl)
theorem dX3_isGoal_17 : decode cX3_isGoal 17 = .ok (.iload_n 3, 1) := dk_29 (dk_at dksX3_isGoal_0 17 rfl rfl)
theorem dX3_isGoal_18 : decode cX3_isGoal 18 = .ok (.invokevirtual 64, 3) := dk_182 0 64 (dk_at dksX3_isGoal_0 18 rfl rfl)
theorem dX3_isGoal_21 : decode cX3_isGoal 21 = .ok (.checkcast 85, 3) := dk_192 0 85 (dk_at dksX3_isGoal_0 21 rfl rfl)
theorem dX3_isGoal_24 : decode cX3_isGoal 24 = .ok (.getfield 135, 3) := dk_180 0 135 (dk_at dksX3_isGoal_1 0 rfl rfl)
theorem dX3_isGoal_27 : decode cX3_isGoal 27 = .ok (.iconst 1, 1) := dk_4 (dk_at dksX3_isGoal_1 3 rfl rfl)
theorem dX3_isGoal_28 : decode cX3_isGoal 28 = .ok (.if_icmp .gt 24, 3) := dk_163 0 24 (dk_at dksX3_isGoal_1 4 rfl rfl)
theorem dX3_isGoal_31 : decode cX3_isGoal 31 = .ok (.aload_n 0, 1) := dk_42 (dk_at dksX3_isGoal_1 7 rfl rfl)
theorem dX3_isGoal_32 : decode cX3_isGoal 32 = .ok (.getfield 28, 3) := dk_180 0 28 (dk_at dksX3_isGoal_1 8 rfl rfl)
theorem dX3_isGoal_35 : decode cX3_isGoal 35 = .ok (.iload_n 3, 1) := dk_29 (dk_at dksX3_isGoal_1 11 rfl rfl)
theorem dX3_isGoal_36 : decode cX3_isGoal 36 = .ok (.invokevirtual 64, 3) := dk_182 0 64 (dk_at dksX3_isGoal_1 12 rfl rfl)
theorem dX3_isGoal_39 : decode cX3_isGoal 39 = .ok (.checkcast 85, 3) := dk_192 0 85 (dk_at dksX3_isGoal_1 15 rfl rfl)
theorem dX3_isGoal_42 : decode cX3_isGoal 42 = .ok (.iload_n 1, 1) := dk_27 (dk_at dksX3_isGoal_1 18 rfl rfl)
theorem dX3_isGoal_43 : decode cX3_isGoal 43 = .ok (.iload_n 2, 1) := dk_28 (dk_at dksX3_isGoal_1 19 rfl rfl)
theorem dX3_isGoal_44 : decode cX3_isGoal 44 = .ok (.invokevirtual 138, 3) := dk_182 0 138 (dk_at dksX3_isGoal_1 20 rfl rfl)
theorem dX3_isGoal_47 : decode cX3_isGoal 47 = .ok (.ifCond .eq 5, 3) := dk_153 0 5 (dk_at dksX3_isGoal_2 0 rfl rfl)
theorem dX3_isGoal_50 : decode cX3_isGoal 50 = .ok (.iconst 1, 1) := dk_4 (dk_at dksX3_isGoal_2 3 rfl rfl)
theorem dX3_isGoal_51 : decode cX3_isGoal 51 = .ok (.ireturn, 1) := dk_172 (dk_at dksX3_isGoal_2 4 rfl rfl)
theorem dX3_isGoal_52 : decode cX3_isGoal 52 = .ok (.iinc 3 1, 3) := dk_132 3 1 (dk_at dksX3_isGoal_2 5 rfl rfl)
theorem dX3_isGoal_55 : decode cX3_isGoal 55 = .ok (.goto (-53), 3) := dk_167 255 203 (dk_at dksX3_isGoal_2 8 rfl rfl)
theorem dX3_isGoal_58 : decode cX3_isGoal 58 = .ok (.iconst 0, 1) := dk_3 (dk_at dksX3_isGoal_2 11 rfl rfl)
theorem dX3_isGoal_59 : decode cX3_isGoal 59 = .ok (.istore_n 3, 1) := dk_62 (dk_at dksX3_isGoal_2 12 rfl rfl)
theorem dX3_isGoal_60 : decode cX3_isGoal 60 = .ok (.iload_n 3, 1) := dk_29 (dk_at dksX3_isGoal_2 13 rfl rfl)
theorem dX3_isGoal_61 : decode cX3_isGoal 61 = .ok (.aload_n 0, 1) := dk_42 (dk_at dksX3_isGoal_2 14 rfl rfl)
theorem dX3_isGoal_62 : decode cX3_isGoal 62 = .ok (.getfield 25, 3) := dk_180 0 25 (dk_at dksX3_isGoal_2 15 rfl rfl)
theorem dX3_isGoal_65 : decode cX3_isGoal 65 = .ok (.invokevirtual 60, 3) := dk_182 0 60 (dk_at dksX3_isGoal_2 18 rfl rfl)
theorem dX3_isGoal_68 : decode cX3_isGoal 68 = .ok (.if_icmp .ge 54, 3) := dk_162 0 54 (dk_at dksX3_isGoal_2 21 rfl rfl)
theorem dX3_isGoal_71 : decode cX3_isGoal 71 = .ok (.aload_n 0, 1) := dk_42 (dk_at dksX3_isGoal_3 0 rfl rfl)
theorem dX3_isGoal_72 : decode cX3_isGoal 72 = .ok (.getfield 25, 3) := dk_180 0 25 (dk_at dksX3_isGoal_3 1 rfl rfl)
theorem dX3_isGoal_75 : decode cX3_isGoal 75 = .ok (.iload_n 3, 1) := dk_29 (dk_at dksX3_isGoal_3 4 rfl rfl)
theorem dX3_isGoal_76 : decode cX3_isGoal 76 = .ok (.invokevirtual 64, 3) := dk_182 0 64 (dk_at dksX3_isGoal_3 5 rfl rfl)
theorem dX3_isGoal_79 : decode cX3_isGoal 79 = .ok (.checkcast 83, 3) := dk_192 0 83 (dk_at dksX3_isGoal_3 8 rfl rfl)
theorem dX3_isGoal_82 : decode cX3_isGoal 82 = .ok (.astore 4, 2) := dk_58 4 (dk_at dksX3_isGoal_3 11 rfl rfl)
theorem dX3_isGoal_84 : decode cX3_isGoal 84 = .ok (.aload 4, 2) := dk_25 4 (dk_at dksX3_isGoal_3 13 rfl rfl)
theorem dX3_isGoal_86 : decode cX3_isGoal 86 = .ok (.getfield 141, 3) := dk_180 0 141 (dk_at dksX3_isGoal_3 15 rfl rfl)
theorem dX3_isGoal_89 : decode cX3_isGoal 89 = .ok (.aload_n 0, 1) := dk_42 (dk_at dksX3_isGoal_3 18 rfl rfl)
theorem dX3_isGoal_90 : decode cX3_isGoal 90 = .ok (.getfield 100, 3) := dk_180 0 100 (dk_at dksX3_isGoal_3 19 rfl rfl)
theorem dX3_isGoal_93 : decode cX3_isGoal 93 = .ok (.if_icmp .lt 23, 3) := dk_161 0 23 (dk_at dksX3_isGoal_4 0 rfl rfl)
theorem dX3_isGoal_96 : decode cX3_isGoal 96 = .ok (.aload 4, 2) := dk_25 4 (dk_at dksX3_isGoal_4 3 rfl rfl)
theorem dX3_isGoal_98 : decode cX3_isGoal 98 = .ok (.getfield 142, 3) := dk_180 0 142 (dk_at dksX3_isGoal_4 5 rfl rfl)
theorem dX3_isGoal_101 : decode cX3_isGoal 101 = .ok (.iload_n 1, 1) := dk_27 (dk_at dksX3_isGoal_4 8 rfl rfl)
theorem dX3_isGoal_102 : decode cX3_isGoal 102 = .ok (.if_icmp .ne 14, 3) := dk_160 0 14 (dk_at dksX3_isGoal_4 9 rfl rfl)
theorem dX3_isGoal_105 : decode cX3_isGoal 105 = .ok (.aload 4, 2) := dk_25 4 (dk_at dksX3_isGoal_4 12 rfl rfl)
theorem dX3_isGoal_107 : decode cX3_isGoal 107 = .ok (.getfield 145, 3) := dk_180 0 145 (dk_at dksX3_isGoal_4 14 rfl rfl)
theorem dX3_isGoal_110 : decode cX3_isGoal 110 = .ok (.iload_n 2, 1) := dk_28 (dk_at dksX3_isGoal_4 17 rfl rfl)
theorem dX3_isGoal_111 : decode cX3_isGoal 111 = .ok (.if_icmp .ne 5, 3) := dk_160 0 5 (dk_at dksX3_isGoal_4 18 rfl rfl)
theorem dX3_isGoal_114 : decode cX3_isGoal 114 = .ok (.iconst 1, 1) := dk_4 (dk_at dksX3_isGoal_4 21 rfl rfl)
theorem dX3_isGoal_115 : decode cX3_isGoal 115 = .ok (.ireturn, 1) := dk_172 (dk_at dksX3_isGoal_4 22 rfl rfl)
theorem dX3_isGoal_116 : decode cX3_isGoal 116 = .ok (.iinc 3 1, 3) := dk_132 3 1 (dk_at dksX3_isGoal_5 0 rfl rfl)
theorem dX3_isGoal_119 : decode cX3_isGoal 119 = .ok (.goto (-59), 3) := dk_167 255 197 (dk_at dksX3_isGoal_5 3 rfl rfl)
theorem dX3_isGoal_122 : decode cX3_isGoal 122 = .ok (.iconst 0, 1) := dk_3 (dk_at dksX3_isGoal_5 6 rfl rfl)
theorem dX3_isGoal_123 : decode cX3_isGoal 123 = .ok (.ireturn, 1) := dk_172 (dk_at dksX3_isGoal_5 7 rfl rfl)
theorem q112 : (Jvm.Cond.initialized "MessengerBoard$State") ∈ lw_all := lw_g (lw_at lw_m1 3 rfl) rfl
theorem q179 : (Jvm.Cond.instantiable "MessengerBoard$State" (14 : Nat)) ∈ lw_all := lw_g (lw_at lw_m1 70 rfl) rfl
theorem q181 : (Jvm.Cond.instanceMethod ({ cls := "MessengerBoard$State", name := "<init>", desc := "(IILMessengerBoard$Ways;)V" } : Jvm.MethodName)) ∈ lw_all := lw_g (lw_at lw_m1 72 rfl) rfl
theorem q182 : (Jvm.Cond.code ({ cls := "MessengerBoard$State", name := "<init>", desc := "(IILMessengerBoard$Ways;)V" } : Jvm.MethodName) prog_15_method_1_code (4 : Nat) (Option.none : Option Jvm.ClassFile.FieldType)) ∈ lw_all := lw_g (lw_at lw_m1 73 rfl) rfl
theorem q183 : (Jvm.Cond.methodLink "MessengerBoard$State" (3 : Nat) ({ cls := "java/lang/Object", name := "<init>", desc := "()V" } : Jvm.MethodName)) ∈ lw_all := lw_g (lw_at lw_m1 74 rfl) rfl
theorem q184 : (Jvm.Cond.classLink "MessengerBoard$State" (15 : Nat) "java/util/ArrayList") ∈ lw_all := lw_g (lw_at lw_m1 75 rfl) rfl
theorem q186 : (Jvm.Cond.methodLink "MessengerBoard$State" (17 : Nat) ({ cls := "java/util/ArrayList", name := "<init>", desc := "()V" } : Jvm.MethodName)) ∈ lw_all := lw_g (lw_at lw_m1 77 rfl) rfl
theorem q211 : (Jvm.Cond.fieldLink "MessengerBoard$State" (41 : Nat) "MessengerBoard$State" "width" "I") ∈ lw_all := lw_g (lw_at lw_m1 102 rfl) rfl
theorem q214 : (Jvm.Cond.fieldLink "MessengerBoard$State" (44 : Nat) "MessengerBoard$State" "height" "I") ∈ lw_all := lw_g (lw_at lw_m1 105 rfl) rfl
theorem q217 : (Jvm.Cond.fieldLink "MessengerBoard$State" (9 : Nat) "MessengerBoard$State" "walls" "[Z") ∈ lw_all := lw_g (lw_at lw_m1 108 rfl) rfl
theorem q220 : (Jvm.Cond.fieldLink "MessengerBoard$State" (18 : Nat) "MessengerBoard$State" "units" "Ljava/util/ArrayList;") ∈ lw_all := lw_g (lw_at lw_m1 111 rfl) rfl
theorem q223 : (Jvm.Cond.fieldLink "MessengerBoard$State" (22 : Nat) "MessengerBoard$State" "pickets" "Ljava/util/ArrayList;") ∈ lw_all := lw_g (lw_at lw_m1 114 rfl) rfl
theorem q226 : (Jvm.Cond.fieldLink "MessengerBoard$State" (25 : Nat) "MessengerBoard$State" "plans" "Ljava/util/ArrayList;") ∈ lw_all := lw_g (lw_at lw_m1 117 rfl) rfl
theorem q229 : (Jvm.Cond.fieldLink "MessengerBoard$State" (28 : Nat) "MessengerBoard$State" "orders" "Ljava/util/ArrayList;") ∈ lw_all := lw_g (lw_at lw_m1 120 rfl) rfl
theorem q236 : (Jvm.Cond.fieldLink "MessengerBoard$State" (31 : Nat) "MessengerBoard$State" "events" "Ljava/util/ArrayList;") ∈ lw_all := lw_g (lw_at lw_m1 127 rfl) rfl
theorem q238 : (Jvm.Cond.fieldLink "MessengerBoard$State" (34 : Nat) "MessengerBoard$State" "places" "Ljava/util/ArrayList;") ∈ lw_all := lw_g (lw_at lw_m1 129 rfl) rfl
theorem q240 : (Jvm.Cond.fieldLink "MessengerBoard$State" (47 : Nat) "MessengerBoard$State" "ways" "LMessengerBoard$Ways;") ∈ lw_all := lw_g (lw_at lw_m1 131 rfl) rfl
theorem q241 : (Jvm.Cond.fieldLink "MessengerBoard$State" (94 : Nat) "MessengerBoard$State" "homeX" "I") ∈ lw_all := lw_g (lw_at lw_m1 132 rfl) rfl
theorem q244 : (Jvm.Cond.fieldLink "MessengerBoard$State" (97 : Nat) "MessengerBoard$State" "homeY" "I") ∈ lw_all := lw_g (lw_at lw_m1 135 rfl) rfl
theorem q247 : (Jvm.Cond.fieldLink "MessengerBoard$State" (100 : Nat) "MessengerBoard$State" "turn" "I") ∈ lw_all := lw_g (lw_at lw_m1 138 rfl) rfl
theorem q249 : (Jvm.Cond.fieldLink "MessengerBoard$State" (37 : Nat) "MessengerBoard$State" "patience" "I") ∈ lw_all := lw_g (lw_at lw_m1 140 rfl) rfl
theorem q252 : (Jvm.Cond.laysFinal "MessengerBoard$State" "MessengerBoard$State" "width" "I") ∈ lw_all := lw_g (lw_at lw_m1 143 rfl) rfl
theorem q253 : (Jvm.Cond.soleField "MessengerBoard$State" "width") ∈ lw_all := lw_g (lw_at lw_m1 144 rfl) rfl
theorem q254 : (Jvm.Cond.laysFinal "MessengerBoard$State" "MessengerBoard$State" "height" "I") ∈ lw_all := lw_g (lw_at lw_m1 145 rfl) rfl
theorem q255 : (Jvm.Cond.soleField "MessengerBoard$State" "height") ∈ lw_all := lw_g (lw_at lw_m1 146 rfl) rfl
theorem q256 : (Jvm.Cond.laysFinal "MessengerBoard$State" "MessengerBoard$State" "walls" "[Z") ∈ lw_all := lw_g (lw_at lw_m1 147 rfl) rfl
theorem q257 : (Jvm.Cond.soleField "MessengerBoard$State" "walls") ∈ lw_all := lw_g (lw_at lw_m1 148 rfl) rfl
theorem q258 : (Jvm.Cond.laysFinal "MessengerBoard$State" "MessengerBoard$State" "units" "Ljava/util/ArrayList;") ∈ lw_all := lw_g (lw_at lw_m1 149 rfl) rfl
theorem q259 : (Jvm.Cond.soleField "MessengerBoard$State" "units") ∈ lw_all := lw_g (lw_at lw_m1 150 rfl) rfl
theorem q260 : (Jvm.Cond.laysFinal "MessengerBoard$State" "MessengerBoard$State" "pickets" "Ljava/util/ArrayList;") ∈ lw_all := lw_g (lw_at lw_m1 151 rfl) rfl
theorem q261 : (Jvm.Cond.soleField "MessengerBoard$State" "pickets") ∈ lw_all := lw_g (lw_at lw_m1 152 rfl) rfl
theorem q262 : (Jvm.Cond.laysFinal "MessengerBoard$State" "MessengerBoard$State" "plans" "Ljava/util/ArrayList;") ∈ lw_all := lw_g (lw_at lw_m1 153 rfl) rfl
theorem q263 : (Jvm.Cond.soleField "MessengerBoard$State" "plans") ∈ lw_all := lw_g (lw_at lw_m1 154 rfl) rfl
theorem q264 : (Jvm.Cond.laysFinal "MessengerBoard$State" "MessengerBoard$State" "orders" "Ljava/util/ArrayList;") ∈ lw_all := lw_g (lw_at lw_m1 155 rfl) rfl
theorem q265 : (Jvm.Cond.soleField "MessengerBoard$State" "orders") ∈ lw_all := lw_g (lw_at lw_m1 156 rfl) rfl
theorem q266 : (Jvm.Cond.laysFinal "MessengerBoard$State" "MessengerBoard$State" "events" "Ljava/util/ArrayList;") ∈ lw_all := lw_g (lw_at lw_m1 157 rfl) rfl
theorem q267 : (Jvm.Cond.soleField "MessengerBoard$State" "events") ∈ lw_all := lw_g (lw_at lw_m1 158 rfl) rfl
theorem q268 : (Jvm.Cond.laysFinal "MessengerBoard$State" "MessengerBoard$State" "places" "Ljava/util/ArrayList;") ∈ lw_all := lw_g (lw_at lw_m1 159 rfl) rfl
theorem q269 : (Jvm.Cond.soleField "MessengerBoard$State" "places") ∈ lw_all := lw_g (lw_at lw_m1 160 rfl) rfl
theorem q270 : (Jvm.Cond.laysFinal "MessengerBoard$State" "MessengerBoard$State" "ways" "LMessengerBoard$Ways;") ∈ lw_all := lw_g (lw_at lw_m1 161 rfl) rfl
theorem q271 : (Jvm.Cond.soleField "MessengerBoard$State" "ways") ∈ lw_all := lw_g (lw_at lw_m1 162 rfl) rfl
theorem q272 : (Jvm.Cond.lays "MessengerBoard$State" "MessengerBoard$State" "homeX" "I") ∈ lw_all := lw_g (lw_at lw_m1 163 rfl) rfl
theorem q273 : (Jvm.Cond.soleField "MessengerBoard$State" "homeX") ∈ lw_all := lw_g (lw_at lw_m1 164 rfl) rfl
theorem q274 : (Jvm.Cond.lays "MessengerBoard$State" "MessengerBoard$State" "homeY" "I") ∈ lw_all := lw_g (lw_at lw_m1 165 rfl) rfl
theorem q275 : (Jvm.Cond.soleField "MessengerBoard$State" "homeY") ∈ lw_all := lw_g (lw_at lw_m1 166 rfl) rfl
theorem q276 : (Jvm.Cond.lays "MessengerBoard$State" "MessengerBoard$State" "turn" "I") ∈ lw_all := lw_g (lw_at lw_m1 167 rfl) rfl
theorem q277 : (Jvm.Cond.soleField "MessengerBoard$State" "turn") ∈ lw_all := lw_g (lw_at lw_m1 168 rfl) rfl
theorem q278 : (Jvm.Cond.lays "MessengerBoard$State" "MessengerBoard$State" "patience" "I") ∈ lw_all := lw_g (lw_at lw_m1 169 rfl) rfl
theorem q279 : (Jvm.Cond.soleField "MessengerBoard$State" "patience") ∈ lw_all := lw_g (lw_at lw_m1 170 rfl) rfl
theorem q280 : (Jvm.Cond.superclass "MessengerBoard$State" "java/lang/Object") ∈ lw_all := lw_g (lw_at lw_m1 171 rfl) rfl
theorem q346 : (Jvm.Cond.instanceMethod ({ cls := "MessengerBoard$State", name := "crossed", desc := "()I" } : Jvm.MethodName)) ∈ lw_all := lw_g (lw_at lw_m1 237 rfl) rfl
theorem q347 : (Jvm.Cond.selects "MessengerBoard$State" ({ cls := "MessengerBoard$State", name := "crossed", desc := "()I" } : Jvm.MethodName) ({ cls := "MessengerBoard$State", name := "crossed", desc := "()I" } : Jvm.MethodName)) ∈ lw_all := lw_g (lw_at lw_m1 238 rfl) rfl
theorem q348 : (Jvm.Cond.code ({ cls := "MessengerBoard$State", name := "crossed", desc := "()I" } : Jvm.MethodName) prog_15_method_23_code (6 : Nat) (Option.some Jvm.ClassFile.FieldType.int)) ∈ lw_all := lw_g (lw_at lw_m1 239 rfl) rfl
theorem q349 : (Jvm.Cond.methodLink "MessengerBoard$State" (60 : Nat) ({ cls := "java/util/ArrayList", name := "size", desc := "()I" } : Jvm.MethodName)) ∈ lw_all := lw_g (lw_at lw_m2 0 rfl) rfl
theorem q353 : (Jvm.Cond.methodLink "MessengerBoard$State" (64 : Nat) ({ cls := "java/util/ArrayList", name := "get", desc := "(I)Ljava/lang/Object;" } : Jvm.MethodName)) ∈ lw_all := lw_g (lw_at lw_m2 4 rfl) rfl
theorem q367 : (Jvm.Cond.classLink "MessengerBoard$State" (85 : Nat) "MessengerBoard$Order") ∈ lw_all := lw_g (lw_at lw_m2 18 rfl) rfl
theorem q368 : (Jvm.Cond.methodLink "MessengerBoard$State" (249 : Nat) ({ cls := "MessengerBoard$Order", name := "hasArrived", desc := "()Z" } : Jvm.MethodName)) ∈ lw_all := lw_g (lw_at lw_m2 19 rfl) rfl
theorem q372 : (Jvm.Cond.methodLinkNest "MessengerBoard$State" (114 : Nat) ({ cls := "MessengerBoard", name := "asInt", desc := "(Z)I" } : Jvm.MethodName) "MessengerBoard") ∈ lw_tbl := lw_at lw_m2 23 rfl
theorem q392 : (Jvm.Cond.instanceMethod ({ cls := "MessengerBoard$State", name := "inState", desc := "(I)I" } : Jvm.MethodName)) ∈ lw_all := lw_g (lw_at lw_m2 43 rfl) rfl
theorem q393 : (Jvm.Cond.selects "MessengerBoard$State" ({ cls := "MessengerBoard$State", name := "inState", desc := "(I)I" } : Jvm.MethodName) ({ cls := "MessengerBoard$State", name := "inState", desc := "(I)I" } : Jvm.MethodName)) ∈ lw_all := lw_g (lw_at lw_m2 44 rfl) rfl
theorem q394 : (Jvm.Cond.code ({ cls := "MessengerBoard$State", name := "inState", desc := "(I)I" } : Jvm.MethodName) prog_15_method_22_code (4 : Nat) (Option.some Jvm.ClassFile.FieldType.int)) ∈ lw_all := lw_g (lw_at lw_m2 45 rfl) rfl
theorem q1108 : (Jvm.Cond.instanceMethod ({ cls := "MessengerBoard$State", name := "isWall", desc := "(II)Z" } : Jvm.MethodName)) ∈ lw_all := lw_g (lw_at lw_m5 39 rfl) rfl
theorem q1109 : (Jvm.Cond.selects "MessengerBoard$State" ({ cls := "MessengerBoard$State", name := "isWall", desc := "(II)Z" } : Jvm.MethodName) ({ cls := "MessengerBoard$State", name := "isWall", desc := "(II)Z" } : Jvm.MethodName)) ∈ lw_all := lw_g (lw_at lw_m5 40 rfl) rfl
theorem q1110 : (Jvm.Cond.code ({ cls := "MessengerBoard$State", name := "isWall", desc := "(II)Z" } : Jvm.MethodName) prog_15_method_4_code (3 : Nat) (Option.some Jvm.ClassFile.FieldType.boolean)) ∈ lw_all := lw_g (lw_at lw_m5 41 rfl) rfl
theorem q1112 : (Jvm.Cond.instanceMethod ({ cls := "MessengerBoard$State", name := "unitAt", desc := "(II)I" } : Jvm.MethodName)) ∈ lw_all := lw_g (lw_at lw_m5 43 rfl) rfl
theorem q1113 : (Jvm.Cond.selects "MessengerBoard$State" ({ cls := "MessengerBoard$State", name := "unitAt", desc := "(II)I" } : Jvm.MethodName) ({ cls := "MessengerBoard$State", name := "unitAt", desc := "(II)I" } : Jvm.MethodName)) ∈ lw_all := lw_g (lw_at lw_m5 44 rfl) rfl
theorem q1114 : (Jvm.Cond.code ({ cls := "MessengerBoard$State", name := "unitAt", desc := "(II)I" } : Jvm.MethodName) prog_15_method_7_code (4 : Nat) (Option.some Jvm.ClassFile.FieldType.int)) ∈ lw_all := lw_g (lw_at lw_m5 45 rfl) rfl
theorem q1115 : (Jvm.Cond.classLink "MessengerBoard$State" (68 : Nat) "MessengerBoard$Unit") ∈ lw_all := lw_g (lw_at lw_m5 46 rfl) rfl
theorem q1116 : (Jvm.Cond.methodLink "MessengerBoard$State" (118 : Nat) ({ cls := "MessengerBoard$Unit", name := "isAt", desc := "(II)Z" } : Jvm.MethodName)) ∈ lw_all := lw_g (lw_at lw_m5 47 rfl) rfl
theorem q1132 : (Jvm.Cond.fieldLinkNest "MessengerBoard$State" (209 : Nat) "MessengerBoard$Unit" "pace" "I" "MessengerBoard") ∈ lw_tbl := lw_at lw_m5 63 rfl
theorem q1135 : (Jvm.Cond.fieldLinkNest "MessengerBoard$State" (181 : Nat) "MessengerBoard$Unit" "x" "I" "MessengerBoard") ∈ lw_tbl := lw_at lw_m5 66 rfl
theorem q1138 : (Jvm.Cond.fieldLinkNest "MessengerBoard$State" (182 : Nat) "MessengerBoard$Unit" "y" "I" "MessengerBoard") ∈ lw_tbl := lw_at lw_m5 69 rfl
theorem q1141 : (Jvm.Cond.fieldLinkNest "MessengerBoard$State" (166 : Nat) "MessengerBoard$Unit" "latest" "I" "MessengerBoard") ∈ lw_tbl := lw_at lw_m5 72 rfl
theorem q1188 : (Jvm.Cond.selects "MessengerBoard$State" ({ cls := "java/lang/Object", name := "getClass", desc := "()Ljava/lang/Class;" } : Jvm.MethodName) ({ cls := "java/lang/Object", name := "getClass", desc := "()Ljava/lang/Class;" } : Jvm.MethodName)) ∈ lw_all := lw_g (lw_at lw_m5 119 rfl) rfl
theorem q1237 : (Jvm.Cond.fieldLinkNest "MessengerBoard$State" (206 : Nat) "MessengerBoard$Picket" "caught" "I" "MessengerBoard") ∈ lw_tbl := lw_at lw_m5 168 rfl
theorem q1265 : (Jvm.Cond.fieldLinkNest "MessengerBoard$State" (218 : Nat) "MessengerBoard$Plan" "unit" "I" "MessengerBoard") ∈ lw_tbl := lw_at lw_m5 196 rfl
theorem q1268 : (Jvm.Cond.fieldLinkNest "MessengerBoard$State" (142 : Nat) "MessengerBoard$Plan" "x" "I" "MessengerBoard") ∈ lw_tbl := lw_at lw_m5 199 rfl
theorem q1271 : (Jvm.Cond.fieldLinkNest "MessengerBoard$State" (145 : Nat) "MessengerBoard$Plan" "y" "I" "MessengerBoard") ∈ lw_tbl := lw_at lw_m5 202 rfl
theorem q1274 : (Jvm.Cond.fieldLinkNest "MessengerBoard$State" (141 : Nat) "MessengerBoard$Plan" "turn" "I" "MessengerBoard") ∈ lw_tbl := lw_at lw_m5 205 rfl
theorem q1304 : (Jvm.Cond.instanceMethod ({ cls := "MessengerBoard$State", name := "wallCount", desc := "()I" } : Jvm.MethodName)) ∈ lw_all := lw_g (lw_at lw_m5 235 rfl) rfl
theorem q1305 : (Jvm.Cond.selects "MessengerBoard$State" ({ cls := "MessengerBoard$State", name := "wallCount", desc := "()I" } : Jvm.MethodName) ({ cls := "MessengerBoard$State", name := "wallCount", desc := "()I" } : Jvm.MethodName)) ∈ lw_all := lw_g (lw_at lw_m5 236 rfl) rfl
theorem q1306 : (Jvm.Cond.code ({ cls := "MessengerBoard$State", name := "wallCount", desc := "()I" } : Jvm.MethodName) prog_15_method_6_code (6 : Nat) (Option.some Jvm.ClassFile.FieldType.int)) ∈ lw_all := lw_g (lw_at lw_m5 237 rfl) rfl
theorem q1321 : (Jvm.Cond.instanceMethod ({ cls := "MessengerBoard$State", name := "obeyed", desc := "(I)LMessengerBoard$Order;" } : Jvm.MethodName)) ∈ lw_all := lw_g (lw_at lw_m6 12 rfl) rfl
theorem q1322 : (Jvm.Cond.selects "MessengerBoard$State" ({ cls := "MessengerBoard$State", name := "obeyed", desc := "(I)LMessengerBoard$Order;" } : Jvm.MethodName) ({ cls := "MessengerBoard$State", name := "obeyed", desc := "(I)LMessengerBoard$Order;" } : Jvm.MethodName)) ∈ lw_all := lw_g (lw_at lw_m6 13 rfl) rfl
theorem q1323 : (Jvm.Cond.code ({ cls := "MessengerBoard$State", name := "obeyed", desc := "(I)LMessengerBoard$Order;" } : Jvm.MethodName) prog_15_method_13_code (3 : Nat) (Option.some (Jvm.ClassFile.FieldType.object "MessengerBoard$Order"))) ∈ lw_all := lw_g (lw_at lw_m6 14 rfl) rfl
theorem q1325 : (Jvm.Cond.instanceMethod ({ cls := "MessengerBoard$State", name := "underWayFor", desc := "(I)I" } : Jvm.MethodName)) ∈ lw_all := lw_g (lw_at lw_m6 16 rfl) rfl
theorem q1326 : (Jvm.Cond.selects "MessengerBoard$State" ({ cls := "MessengerBoard$State", name := "underWayFor", desc := "(I)I" } : Jvm.MethodName) ({ cls := "MessengerBoard$State", name := "underWayFor", desc := "(I)I" } : Jvm.MethodName)) ∈ lw_all := lw_g (lw_at lw_m6 17 rfl) rfl
theorem q1327 : (Jvm.Cond.code ({ cls := "MessengerBoard$State", name := "underWayFor", desc := "(I)I" } : Jvm.MethodName) prog_15_method_21_code (4 : Nat) (Option.some Jvm.ClassFile.FieldType.int)) ∈ lw_all := lw_g (lw_at lw_m6 18 rfl) rfl
theorem q1328 : (Jvm.Cond.classLink "MessengerBoard$State" (222 : Nat) "MessengerBoard$State$Messengers") ∈ lw_all := lw_g (lw_at lw_m6 19 rfl) rfl
theorem q1330 : (Jvm.Cond.methodLinkNest "MessengerBoard$State" (224 : Nat) ({ cls := "MessengerBoard$State$Messengers", name := "<init>", desc := "(LMessengerBoard$State;)V" } : Jvm.MethodName) "MessengerBoard") ∈ lw_tbl := lw_at lw_m6 21 rfl
theorem q1341 : (Jvm.Cond.interfaceEntry "MessengerBoard$State" (227 : Nat)) ∈ lw_tbl := lw_at lw_m6 32 rfl
theorem q1342 : (Jvm.Cond.methodLink "MessengerBoard$State" (227 : Nat) ({ cls := "java/util/Iterator", name := "hasNext", desc := "()Z" } : Jvm.MethodName)) ∈ lw_all := lw_g (lw_at lw_m6 33 rfl) rfl
theorem q1358 : (Jvm.Cond.interfaceEntry "MessengerBoard$State" (232 : Nat)) ∈ lw_tbl := lw_at lw_m6 49 rfl
theorem q1359 : (Jvm.Cond.methodLink "MessengerBoard$State" (232 : Nat) ({ cls := "java/util/Iterator", name := "next", desc := "()Ljava/lang/Object;" } : Jvm.MethodName)) ∈ lw_all := lw_g (lw_at lw_m6 50 rfl) rfl
theorem q1444 : (Jvm.Cond.instanceMethod ({ cls := "MessengerBoard$State", name := "isCell", desc := "(II)Z" } : Jvm.MethodName)) ∈ lw_all := lw_g (lw_at lw_m6 135 rfl) rfl
theorem q1445 : (Jvm.Cond.selects "MessengerBoard$State" ({ cls := "MessengerBoard$State", name := "isCell", desc := "(II)Z" } : Jvm.MethodName) ({ cls := "MessengerBoard$State", name := "isCell", desc := "(II)Z" } : Jvm.MethodName)) ∈ lw_all := lw_g (lw_at lw_m6 136 rfl) rfl
theorem q1446 : (Jvm.Cond.code ({ cls := "MessengerBoard$State", name := "isCell", desc := "(II)Z" } : Jvm.MethodName) prog_15_method_3_code (3 : Nat) (Option.some Jvm.ClassFile.FieldType.boolean)) ∈ lw_all := lw_g (lw_at lw_m6 137 rfl) rfl
theorem q1447 : (Jvm.Cond.methodLinkNest "MessengerBoard$State" (103 : Nat) ({ cls := "MessengerBoard", name := "isIn", desc := "(JJJ)Z" } : Jvm.MethodName) "MessengerBoard") ∈ lw_tbl := lw_at lw_m6 138 rfl
theorem q1457 : (Jvm.Cond.instanceMethod ({ cls := "MessengerBoard$State", name := "watcher", desc := "(III)I" } : Jvm.MethodName)) ∈ lw_all := lw_g (lw_at lw_m6 148 rfl) rfl
theorem q1458 : (Jvm.Cond.selects "MessengerBoard$State" ({ cls := "MessengerBoard$State", name := "watcher", desc := "(III)I" } : Jvm.MethodName) ({ cls := "MessengerBoard$State", name := "watcher", desc := "(III)I" } : Jvm.MethodName)) ∈ lw_all := lw_g (lw_at lw_m6 149 rfl) rfl
theorem q1459 : (Jvm.Cond.code ({ cls := "MessengerBoard$State", name := "watcher", desc := "(III)I" } : Jvm.MethodName) prog_15_method_9_code (5 : Nat) (Option.some Jvm.ClassFile.FieldType.int)) ∈ lw_all := lw_g (lw_at lw_m6 150 rfl) rfl
theorem q1460 : (Jvm.Cond.classLink "MessengerBoard$State" (78 : Nat) "MessengerBoard$Picket") ∈ lw_all := lw_g (lw_at lw_m6 151 rfl) rfl
theorem q1461 : (Jvm.Cond.methodLink "MessengerBoard$State" (131 : Nat) ({ cls := "MessengerBoard$Picket", name := "sees", desc := "(III)Z" } : Jvm.MethodName)) ∈ lw_all := lw_g (lw_at lw_m6 152 rfl) rfl
theorem q1481 : (Jvm.Cond.instanceMethod ({ cls := "MessengerBoard$State", name := "isFree", desc := "(II)Z" } : Jvm.MethodName)) ∈ lw_all := lw_g (lw_at lw_m6 172 rfl) rfl
theorem q1482 : (Jvm.Cond.selects "MessengerBoard$State" ({ cls := "MessengerBoard$State", name := "isFree", desc := "(II)Z" } : Jvm.MethodName) ({ cls := "MessengerBoard$State", name := "isFree", desc := "(II)Z" } : Jvm.MethodName)) ∈ lw_all := lw_g (lw_at lw_m6 173 rfl) rfl
theorem q1483 : (Jvm.Cond.code ({ cls := "MessengerBoard$State", name := "isFree", desc := "(II)Z" } : Jvm.MethodName) prog_15_method_5_code (3 : Nat) (Option.some Jvm.ClassFile.FieldType.boolean)) ∈ lw_all := lw_g (lw_at lw_m6 174 rfl) rfl
theorem q1484 : (Jvm.Cond.methodLink "MessengerBoard$State" (107 : Nat) ({ cls := "MessengerBoard$State", name := "isCell", desc := "(II)Z" } : Jvm.MethodName)) ∈ lw_all := lw_g (lw_at lw_m6 175 rfl) rfl
theorem q1485 : (Jvm.Cond.methodLink "MessengerBoard$State" (111 : Nat) ({ cls := "MessengerBoard$State", name := "isWall", desc := "(II)Z" } : Jvm.MethodName)) ∈ lw_all := lw_g (lw_at lw_m6 176 rfl) rfl
theorem q1546 : (Jvm.Cond.instanceMethod ({ cls := "MessengerBoard$State", name := "copy", desc := "()LMessengerBoard$State;" } : Jvm.MethodName)) ∈ lw_all := lw_g (lw_at lw_m6 237 rfl) rfl
theorem q1547 : (Jvm.Cond.selects "MessengerBoard$State" ({ cls := "MessengerBoard$State", name := "copy", desc := "()LMessengerBoard$State;" } : Jvm.MethodName) ({ cls := "MessengerBoard$State", name := "copy", desc := "()LMessengerBoard$State;" } : Jvm.MethodName)) ∈ lw_all := lw_g (lw_at lw_m6 238 rfl) rfl
theorem q1548 : (Jvm.Cond.code ({ cls := "MessengerBoard$State", name := "copy", desc := "()LMessengerBoard$State;" } : Jvm.MethodName) prog_15_method_2_code (3 : Nat) (Option.some (Jvm.ClassFile.FieldType.object "MessengerBoard$State"))) ∈ lw_all := lw_g (lw_at lw_m6 239 rfl) rfl
theorem q1549 : (Jvm.Cond.classLink "MessengerBoard$State" (10 : Nat) "MessengerBoard$State") ∈ lw_all := lw_g (lw_at lw_m7 0 rfl) rfl
theorem q1550 : (Jvm.Cond.methodLink "MessengerBoard$State" (51 : Nat) ({ cls := "MessengerBoard$State", name := "<init>", desc := "(IILMessengerBoard$Ways;)V" } : Jvm.MethodName)) ∈ lw_all := lw_g (lw_at lw_m7 1 rfl) rfl
theorem q1551 : (Jvm.Cond.methodLink "MessengerBoard$State" (54 : Nat) ({ cls := "java/lang/System", name := "arraycopy", desc := "(Ljava/lang/Object;ILjava/lang/Object;II)V" } : Jvm.MethodName)) ∈ lw_all := lw_g (lw_at lw_m7 2 rfl) rfl
theorem q1552 : (Jvm.Cond.methodLink "MessengerBoard$State" (70 : Nat) ({ cls := "MessengerBoard$Unit", name := "copy", desc := "()LMessengerBoard$Unit;" } : Jvm.MethodName)) ∈ lw_all := lw_g (lw_at lw_m7 3 rfl) rfl
theorem q1558 : (Jvm.Cond.methodLink "MessengerBoard$State" (74 : Nat) ({ cls := "java/util/ArrayList", name := "add", desc := "(Ljava/lang/Object;)Z" } : Jvm.MethodName)) ∈ lw_all := lw_g (lw_at lw_m7 9 rfl) rfl
theorem q1559 : (Jvm.Cond.methodLink "MessengerBoard$State" (80 : Nat) ({ cls := "MessengerBoard$Picket", name := "copy", desc := "()LMessengerBoard$Picket;" } : Jvm.MethodName)) ∈ lw_all := lw_g (lw_at lw_m7 10 rfl) rfl
theorem q1565 : (Jvm.Cond.classLink "MessengerBoard$State" (83 : Nat) "MessengerBoard$Plan") ∈ lw_all := lw_g (lw_at lw_m7 16 rfl) rfl
theorem q1566 : (Jvm.Cond.methodLink "MessengerBoard$State" (87 : Nat) ({ cls := "MessengerBoard$Order", name := "copy", desc := "()LMessengerBoard$Order;" } : Jvm.MethodName)) ∈ lw_all := lw_g (lw_at lw_m7 17 rfl) rfl
theorem q1578 : (Jvm.Cond.fieldLinkNest "MessengerBoard$State" (154 : Nat) "MessengerBoard$Order" "number" "I" "MessengerBoard") ∈ lw_tbl := lw_at lw_m7 29 rfl
theorem q1581 : (Jvm.Cond.fieldLinkNest "MessengerBoard$State" (160 : Nat) "MessengerBoard$Order" "unit" "I" "MessengerBoard") ∈ lw_tbl := lw_at lw_m7 32 rfl
theorem q1584 : (Jvm.Cond.fieldLinkNest "MessengerBoard$State" (212 : Nat) "MessengerBoard$Order" "x" "I" "MessengerBoard") ∈ lw_tbl := lw_at lw_m7 35 rfl
theorem q1587 : (Jvm.Cond.fieldLinkNest "MessengerBoard$State" (213 : Nat) "MessengerBoard$Order" "y" "I" "MessengerBoard") ∈ lw_tbl := lw_at lw_m7 38 rfl
theorem q1590 : (Jvm.Cond.fieldLinkNest "MessengerBoard$State" (239 : Nat) "MessengerBoard$Order" "sent" "I" "MessengerBoard") ∈ lw_tbl := lw_at lw_m7 41 rfl
theorem q1595 : (Jvm.Cond.fieldLinkNest "MessengerBoard$State" (135 : Nat) "MessengerBoard$Order" "state" "I" "MessengerBoard") ∈ lw_tbl := lw_at lw_m7 46 rfl
theorem q1598 : (Jvm.Cond.fieldLinkNest "MessengerBoard$State" (163 : Nat) "MessengerBoard$Order" "arrived" "I" "MessengerBoard") ∈ lw_tbl := lw_at lw_m7 49 rfl
theorem q1601 : (Jvm.Cond.fieldLinkNest "MessengerBoard$State" (151 : Nat) "MessengerBoard$Order" "ended" "I" "MessengerBoard") ∈ lw_tbl := lw_at lw_m7 52 rfl
theorem q1603 : (Jvm.Cond.fieldLinkNest "MessengerBoard$State" (125 : Nat) "MessengerBoard$Order" "atX" "I" "MessengerBoard") ∈ lw_tbl := lw_at lw_m7 54 rfl
theorem q1606 : (Jvm.Cond.fieldLinkNest "MessengerBoard$State" (128 : Nat) "MessengerBoard$Order" "atY" "I" "MessengerBoard") ∈ lw_tbl := lw_at lw_m7 57 rfl
theorem q1610 : (Jvm.Cond.fieldLinkNest "MessengerBoard$State" (199 : Nat) "MessengerBoard$Order" "steps" "I" "MessengerBoard") ∈ lw_tbl := lw_at lw_m7 61 rfl
theorem q1634 : (Jvm.Cond.classLink "MessengerBoard$State" (90 : Nat) "MessengerBoard$Event") ∈ lw_all := lw_g (lw_at lw_m7 85 rfl) rfl
theorem q1635 : (Jvm.Cond.classLink "MessengerBoard$State" (92 : Nat) "[I") ∈ lw_all := lw_g (lw_at lw_m7 86 rfl) rfl
theorem q1669 : (Jvm.Cond.instanceMethod ({ cls := "MessengerBoard$State", name := "send", desc := "(III)I" } : Jvm.MethodName)) ∈ lw_all := lw_g (lw_at lw_m7 120 rfl) rfl
theorem q1670 : (Jvm.Cond.selects "MessengerBoard$State" ({ cls := "MessengerBoard$State", name := "send", desc := "(III)I" } : Jvm.MethodName) ({ cls := "MessengerBoard$State", name := "send", desc := "(III)I" } : Jvm.MethodName)) ∈ lw_all := lw_g (lw_at lw_m7 121 rfl) rfl
theorem q1671 : (Jvm.Cond.code ({ cls := "MessengerBoard$State", name := "send", desc := "(III)I" } : Jvm.MethodName) prog_15_method_11_code (4 : Nat) (Option.some Jvm.ClassFile.FieldType.int)) ∈ lw_all := lw_g (lw_at lw_m7 122 rfl) rfl
theorem q1672 : (Jvm.Cond.methodLink "MessengerBoard$State" (148 : Nat) ({ cls := "MessengerBoard$Order", name := "<init>", desc := "(IIIIIII)V" } : Jvm.MethodName)) ∈ lw_all := lw_g (lw_at lw_m7 123 rfl) rfl
theorem q1674 : (Jvm.Cond.instanceMethod ({ cls := "MessengerBoard$State", name := "pass", desc := "(I)V" } : Jvm.MethodName)) ∈ lw_all := lw_g (lw_at lw_m7 125 rfl) rfl
theorem q1675 : (Jvm.Cond.selects "MessengerBoard$State" ({ cls := "MessengerBoard$State", name := "pass", desc := "(I)V" } : Jvm.MethodName) ({ cls := "MessengerBoard$State", name := "pass", desc := "(I)V" } : Jvm.MethodName)) ∈ lw_all := lw_g (lw_at lw_m7 126 rfl) rfl
theorem q1676 : (Jvm.Cond.code ({ cls := "MessengerBoard$State", name := "pass", desc := "(I)V" } : Jvm.MethodName) prog_15_method_19_code (3 : Nat) (Option.none : Option Jvm.ClassFile.FieldType)) ∈ lw_all := lw_g (lw_at lw_m7 127 rfl) rfl
theorem q1677 : (Jvm.Cond.methodLink "MessengerBoard$State" (246 : Nat) ({ cls := "MessengerBoard$State", name := "pass", desc := "()V" } : Jvm.MethodName)) ∈ lw_all := lw_g (lw_at lw_m7 128 rfl) rfl
theorem q1678 : (Jvm.Cond.instanceMethod ({ cls := "MessengerBoard$State", name := "pass", desc := "()V" } : Jvm.MethodName)) ∈ lw_all := lw_g (lw_at lw_m7 129 rfl) rfl
theorem q1679 : (Jvm.Cond.selects "MessengerBoard$State" ({ cls := "MessengerBoard$State", name := "pass", desc := "()V" } : Jvm.MethodName) ({ cls := "MessengerBoard$State", name := "pass", desc := "()V" } : Jvm.MethodName)) ∈ lw_all := lw_g (lw_at lw_m7 130 rfl) rfl
theorem q1680 : (Jvm.Cond.code ({ cls := "MessengerBoard$State", name := "pass", desc := "()V" } : Jvm.MethodName) prog_15_method_18_code (4 : Nat) (Option.none : Option Jvm.ClassFile.FieldType)) ∈ lw_all := lw_g (lw_at lw_m7 131 rfl) rfl
theorem q1681 : (Jvm.Cond.methodLink "MessengerBoard$State" (214 : Nat) ({ cls := "MessengerBoard$State", name := "cells", desc := "()[I" } : Jvm.MethodName)) ∈ lw_all := lw_g (lw_at lw_m7 132 rfl) rfl
theorem q1682 : (Jvm.Cond.instanceMethod ({ cls := "MessengerBoard$State", name := "cells", desc := "()[I" } : Jvm.MethodName)) ∈ lw_all := lw_g (lw_at lw_m7 133 rfl) rfl
theorem q1683 : (Jvm.Cond.selects "MessengerBoard$State" ({ cls := "MessengerBoard$State", name := "cells", desc := "()[I" } : Jvm.MethodName) ({ cls := "MessengerBoard$State", name := "cells", desc := "()[I" } : Jvm.MethodName)) ∈ lw_all := lw_g (lw_at lw_m7 134 rfl) rfl
theorem q1684 : (Jvm.Cond.code ({ cls := "MessengerBoard$State", name := "cells", desc := "()[I" } : Jvm.MethodName) prog_15_method_17_code (3 : Nat) (Option.some (Jvm.ClassFile.FieldType.array Jvm.ClassFile.FieldType.int))) ∈ lw_all := lw_g (lw_at lw_m7 135 rfl) rfl
theorem q1685 : (Jvm.Cond.methodLink "MessengerBoard$State" (219 : Nat) ({ cls := "MessengerBoard$State", name := "send", desc := "(III)I" } : Jvm.MethodName)) ∈ lw_all := lw_g (lw_at lw_m7 136 rfl) rfl
theorem q1686 : (Jvm.Cond.methodLink "MessengerBoard$State" (236 : Nat) ({ cls := "MessengerBoard$State", name := "carry", desc := "(LMessengerBoard$Order;)V" } : Jvm.MethodName)) ∈ lw_all := lw_g (lw_at lw_m7 137 rfl) rfl
theorem q1687 : (Jvm.Cond.privateMethod ({ cls := "MessengerBoard$State", name := "carry", desc := "(LMessengerBoard$Order;)V" } : Jvm.MethodName)) ∈ lw_tbl := lw_at lw_m7 138 rfl
theorem q1688 : (Jvm.Cond.instanceMethod ({ cls := "MessengerBoard$State", name := "carry", desc := "(LMessengerBoard$Order;)V" } : Jvm.MethodName)) ∈ lw_all := lw_g (lw_at lw_m7 139 rfl) rfl
theorem q1689 : (Jvm.Cond.code ({ cls := "MessengerBoard$State", name := "carry", desc := "(LMessengerBoard$Order;)V" } : Jvm.MethodName) prog_15_method_15_code (6 : Nat) (Option.none : Option Jvm.ClassFile.FieldType)) ∈ lw_all := lw_g (lw_at lw_m7 140 rfl) rfl
theorem q1690 : (Jvm.Cond.methodLink "MessengerBoard$State" (177 : Nat) ({ cls := "MessengerBoard$State", name := "arrive", desc := "(LMessengerBoard$Order;)V" } : Jvm.MethodName)) ∈ lw_all := lw_g (lw_at lw_m7 141 rfl) rfl
theorem q1691 : (Jvm.Cond.privateMethod ({ cls := "MessengerBoard$State", name := "arrive", desc := "(LMessengerBoard$Order;)V" } : Jvm.MethodName)) ∈ lw_tbl := lw_at lw_m7 142 rfl
theorem q1692 : (Jvm.Cond.instanceMethod ({ cls := "MessengerBoard$State", name := "arrive", desc := "(LMessengerBoard$Order;)V" } : Jvm.MethodName)) ∈ lw_all := lw_g (lw_at lw_m7 143 rfl) rfl
theorem q1693 : (Jvm.Cond.code ({ cls := "MessengerBoard$State", name := "arrive", desc := "(LMessengerBoard$Order;)V" } : Jvm.MethodName) prog_15_method_14_code (4 : Nat) (Option.none : Option Jvm.ClassFile.FieldType)) ∈ lw_all := lw_g (lw_at lw_m7 144 rfl) rfl
theorem q1694 : (Jvm.Cond.methodLink "MessengerBoard$State" (169 : Nat) ({ cls := "MessengerBoard$State", name := "gets", desc := "(LMessengerBoard$Order;I)V" } : Jvm.MethodName)) ∈ lw_all := lw_g (lw_at lw_m7 145 rfl) rfl
theorem q1695 : (Jvm.Cond.privateMethod ({ cls := "MessengerBoard$State", name := "gets", desc := "(LMessengerBoard$Order;I)V" } : Jvm.MethodName)) ∈ lw_tbl := lw_at lw_m7 146 rfl
theorem q1696 : (Jvm.Cond.instanceMethod ({ cls := "MessengerBoard$State", name := "gets", desc := "(LMessengerBoard$Order;I)V" } : Jvm.MethodName)) ∈ lw_all := lw_g (lw_at lw_m7 147 rfl) rfl
theorem q1697 : (Jvm.Cond.code ({ cls := "MessengerBoard$State", name := "gets", desc := "(LMessengerBoard$Order;I)V" } : Jvm.MethodName) prog_15_method_12_code (3 : Nat) (Option.none : Option Jvm.ClassFile.FieldType)) ∈ lw_all := lw_g (lw_at lw_m7 148 rfl) rfl
theorem q1699 : (Jvm.Cond.methodLink "MessengerBoard$State" (157 : Nat) ({ cls := "MessengerBoard$Event", name := "<init>", desc := "(III)V" } : Jvm.MethodName)) ∈ lw_all := lw_g (lw_at lw_m7 150 rfl) rfl
theorem q1716 : (Jvm.Cond.methodLink "MessengerBoard$State" (173 : Nat) ({ cls := "MessengerBoard$State", name := "obeyed", desc := "(I)LMessengerBoard$Order;" } : Jvm.MethodName)) ∈ lw_all := lw_g (lw_at lw_m7 167 rfl) rfl
theorem q1717 : (Jvm.Cond.methodLink "MessengerBoard$State" (183 : Nat) ({ cls := "MessengerBoard$Ways", name := "lay", desc := "(LMessengerBoard$State;II)V" } : Jvm.MethodName)) ∈ lw_all := lw_g (lw_at lw_m7 168 rfl) rfl
theorem q1718 : (Jvm.Cond.methodLink "MessengerBoard$State" (121 : Nat) ({ cls := "MessengerBoard$Order", name := "isUnderWay", desc := "()Z" } : Jvm.MethodName)) ∈ lw_all := lw_g (lw_at lw_m7 169 rfl) rfl
theorem q1719 : (Jvm.Cond.methodLink "MessengerBoard$State" (189 : Nat) ({ cls := "MessengerBoard$Ways", name := "way", desc := "(LMessengerBoard$State;II)I" } : Jvm.MethodName)) ∈ lw_all := lw_g (lw_at lw_m7 170 rfl) rfl
theorem q1720 : (Jvm.Cond.fieldLinkNest "MessengerBoard$State" (193 : Nat) "MessengerBoard" "ACROSS" "[I" "MessengerBoard") ∈ lw_tbl := lw_at lw_m7 171 rfl
theorem q1721 : (Jvm.Cond.fieldLinkNest "MessengerBoard$State" (196 : Nat) "MessengerBoard" "DOWNWARD" "[I" "MessengerBoard") ∈ lw_tbl := lw_at lw_m7 172 rfl
theorem q1722 : (Jvm.Cond.methodLink "MessengerBoard$State" (202 : Nat) ({ cls := "MessengerBoard$State", name := "watcher", desc := "(III)I" } : Jvm.MethodName)) ∈ lw_all := lw_g (lw_at lw_m7 173 rfl) rfl
theorem q1723 : (Jvm.Cond.methodLink "MessengerBoard$State" (242 : Nat) ({ cls := "MessengerBoard$State", name := "move", desc := "(I)V" } : Jvm.MethodName)) ∈ lw_all := lw_g (lw_at lw_m7 174 rfl) rfl
theorem q1724 : (Jvm.Cond.privateMethod ({ cls := "MessengerBoard$State", name := "move", desc := "(I)V" } : Jvm.MethodName)) ∈ lw_tbl := lw_at lw_m7 175 rfl
theorem q1725 : (Jvm.Cond.instanceMethod ({ cls := "MessengerBoard$State", name := "move", desc := "(I)V" } : Jvm.MethodName)) ∈ lw_all := lw_g (lw_at lw_m7 176 rfl) rfl
theorem q1726 : (Jvm.Cond.code ({ cls := "MessengerBoard$State", name := "move", desc := "(I)V" } : Jvm.MethodName) prog_15_method_16_code (5 : Nat) (Option.none : Option Jvm.ClassFile.FieldType)) ∈ lw_all := lw_g (lw_at lw_m7 177 rfl) rfl
theorem q1727 : (Jvm.Cond.methodLink "MessengerBoard$State" (138 : Nat) ({ cls := "MessengerBoard$Order", name := "hasGoal", desc := "(II)Z" } : Jvm.MethodName)) ∈ lw_all := lw_g (lw_at lw_m7 178 rfl) rfl
theorem q1740 : (Jvm.Cond.instanceMethod ({ cls := "MessengerBoard$State", name := "arrivalOf", desc := "(I)I" } : Jvm.MethodName)) ∈ lw_all := lw_g (lw_at lw_m7 191 rfl) rfl
theorem q1741 : (Jvm.Cond.selects "MessengerBoard$State" ({ cls := "MessengerBoard$State", name := "arrivalOf", desc := "(I)I" } : Jvm.MethodName) ({ cls := "MessengerBoard$State", name := "arrivalOf", desc := "(I)I" } : Jvm.MethodName)) ∈ lw_all := lw_g (lw_at lw_m7 192 rfl) rfl
theorem q1742 : (Jvm.Cond.code ({ cls := "MessengerBoard$State", name := "arrivalOf", desc := "(I)I" } : Jvm.MethodName) prog_15_method_20_code (2 : Nat) (Option.some Jvm.ClassFile.FieldType.int)) ∈ lw_all := lw_g (lw_at lw_m7 193 rfl) rfl
theorem q1871 : (Jvm.Cond.instanceMethod ({ cls := "MessengerBoard$State", name := "hasMessenger", desc := "(II)Z" } : Jvm.MethodName)) ∈ lw_all := lw_g (lw_at lw_m8 82 rfl) rfl
theorem q1872 : (Jvm.Cond.selects "MessengerBoard$State" ({ cls := "MessengerBoard$State", name := "hasMessenger", desc := "(II)Z" } : Jvm.MethodName) ({ cls := "MessengerBoard$State", name := "hasMessenger", desc := "(II)Z" } : Jvm.MethodName)) ∈ lw_all := lw_g (lw_at lw_m8 83 rfl) rfl
theorem q1873 : (Jvm.Cond.code ({ cls := "MessengerBoard$State", name := "hasMessenger", desc := "(II)Z" } : Jvm.MethodName) prog_15_method_8_code (5 : Nat) (Option.some Jvm.ClassFile.FieldType.boolean)) ∈ lw_all := lw_g (lw_at lw_m8 84 rfl) rfl
theorem q1875 : (Jvm.Cond.instanceMethod ({ cls := "MessengerBoard$State", name := "isGoal", desc := "(II)Z" } : Jvm.MethodName)) ∈ lw_all := lw_g (lw_at lw_m8 86 rfl) rfl
theorem q1876 : (Jvm.Cond.selects "MessengerBoard$State" ({ cls := "MessengerBoard$State", name := "isGoal", desc := "(II)Z" } : Jvm.MethodName) ({ cls := "MessengerBoard$State", name := "isGoal", desc := "(II)Z" } : Jvm.MethodName)) ∈ lw_all := lw_g (lw_at lw_m8 87 rfl) rfl
theorem q1877 : (Jvm.Cond.code ({ cls := "MessengerBoard$State", name := "isGoal", desc := "(II)Z" } : Jvm.MethodName) prog_15_method_10_code (5 : Nat) (Option.some Jvm.ClassFile.FieldType.boolean)) ∈ lw_all := lw_g (lw_at lw_m8 88 rfl) rfl
theorem q2733 : (Jvm.Cond.castable "MessengerBoard$State" "java/lang/Object") ∈ lw_tbl := lw_at lw_m11 224 rfl
theorem in_X3 : ∀ w ∈ wsX30, w ∈ lw_all := lw_in wsX30 [252, 254, 256, 258, 260, 262, 264, 266, 268, 270, 272, 274, 276, 278] (by decide +kernel) (by decide +kernel)
