/-! MessengerBoardLaw -/
set_option maxRecDepth 100000
def RX0 : String := "MessengerBoardLaw"
abbrev cX0_load : ByteArray := method_3_code
def yX0_load : MethodName := ⟨RX0, "load", "(LMessengerBoard;I[J)I"⟩
def dkwX0_load_0 : List UInt8 := [44, 3, 42, 27, 182, 0, 7, 133, 80, 167, 0, 6, 78, 4, 172, 3, 172]
abbrev dktX0_load_0 : List UInt8 := dkwX0_load_0 ++ []
theorem dksX0_load_0 : cX0_load.data.toList.drop 0 = dktX0_load_0 := by decide +kernel
theorem dX0_load_0 : decode cX0_load 0 = .ok (.aload_n 2, 1) := dk_44 (dk_at dksX0_load_0 0 rfl rfl)
theorem dX0_load_1 : decode cX0_load 1 = .ok (.iconst 0, 1) := dk_3 (dk_at dksX0_load_0 1 rfl rfl)
theorem dX0_load_2 : decode cX0_load 2 = .ok (.aload_n 0, 1) := dk_42 (dk_at dksX0_load_0 2 rfl rfl)
theorem dX0_load_3 : decode cX0_load 3 = .ok (.iload_n 1, 1) := dk_27 (dk_at dksX0_load_0 3 rfl rfl)
theorem dX0_load_4 : decode cX0_load 4 = .ok (.invokevirtual 7, 3) := dk_182 0 7 (dk_at dksX0_load_0 4 rfl rfl)
theorem dX0_load_7 : decode cX0_load 7 = .ok (.i2l, 1) := dk_133 (dk_at dksX0_load_0 7 rfl rfl)
theorem dX0_load_8 : decode cX0_load 8 = .ok (.lastore, 1) := dk_80 (dk_at dksX0_load_0 8 rfl rfl)
theorem dX0_load_9 : decode cX0_load 9 = .ok (.goto 6, 3) := dk_167 0 6 (dk_at dksX0_load_0 9 rfl rfl)
theorem dX0_load_12 : decode cX0_load 12 = .ok (.astore_n 3, 1) := dk_78 (dk_at dksX0_load_0 12 rfl rfl)
theorem dX0_load_13 : decode cX0_load 13 = .ok (.iconst 1, 1) := dk_4 (dk_at dksX0_load_0 13 rfl rfl)
theorem dX0_load_14 : decode cX0_load 14 = .ok (.ireturn, 1) := dk_172 (dk_at dksX0_load_0 14 rfl rfl)
theorem dX0_load_15 : decode cX0_load 15 = .ok (.iconst 0, 1) := dk_3 (dk_at dksX0_load_0 15 rfl rfl)
theorem dX0_load_16 : decode cX0_load 16 = .ok (.ireturn, 1) := dk_172 (dk_at dksX0_load_0 16 rfl rfl)
abbrev cX0_size : ByteArray := method_4_code
def yX0_size : MethodName := ⟨RX0, "size", "(LMessengerBoard;I[J)I"⟩
def dkwX0_size_0 : List UInt8 := [44, 3, 42, 27, 182, 0, 15, 133, 80, 167, 0, 6, 78, 4, 172, 3, 172]
abbrev dktX0_size_0 : List UInt8 := dkwX0_size_0 ++ []
theorem dksX0_size_0 : cX0_size.data.toList.drop 0 = dktX0_size_0 := by decide +kernel
theorem dX0_size_0 : decode cX0_size 0 = .ok (.aload_n 2, 1) := dk_44 (dk_at dksX0_size_0 0 rfl rfl)
theorem dX0_size_1 : decode cX0_size 1 = .ok (.iconst 0, 1) := dk_3 (dk_at dksX0_size_0 1 rfl rfl)
theorem dX0_size_2 : decode cX0_size 2 = .ok (.aload_n 0, 1) := dk_42 (dk_at dksX0_size_0 2 rfl rfl)
theorem dX0_size_3 : decode cX0_size 3 = .ok (.iload_n 1, 1) := dk_27 (dk_at dksX0_size_0 3 rfl rfl)
theorem dX0_size_4 : decode cX0_size 4 = .ok (.invokevirtual 15, 3) := dk_182 0 15 (dk_at dksX0_size_0 4 rfl rfl)
theorem dX0_size_7 : decode cX0_size 7 = .ok (.i2l, 1) := dk_133 (dk_at dksX0_size_0 7 rfl rfl)
theorem dX0_size_8 : decode cX0_size 8 = .ok (.lastore, 1) := dk_80 (dk_at dksX0_size_0 8 rfl rfl)
theorem dX0_size_9 : decode cX0_size 9 = .ok (.goto 6, 3) := dk_167 0 6 (dk_at dksX0_size_0 9 rfl rfl)
theorem dX0_size_12 : decode cX0_size 12 = .ok (.astore_n 3, 1) := dk_78 (dk_at dksX0_size_0 12 rfl rfl)
theorem dX0_size_13 : decode cX0_size 13 = .ok (.iconst 1, 1) := dk_4 (dk_at dksX0_size_0 13 rfl rfl)
theorem dX0_size_14 : decode cX0_size 14 = .ok (.ireturn, 1) := dk_172 (dk_at dksX0_size_0 14 rfl rfl)
theorem dX0_size_15 : decode cX0_size 15 = .ok (.iconst 0, 1) := dk_3 (dk_at dksX0_size_0 15 rfl rfl)
theorem dX0_size_16 : decode cX0_size 16 = .ok (.ireturn, 1) := dk_172 (dk_at dksX0_size_0 16 rfl rfl)
abbrev cX0_unit : ByteArray := method_5_code
def yX0_unit : MethodName := ⟨RX0, "unit", "(LMessengerBoard;II[J)I"⟩
def dkwX0_unit_0 : List UInt8 := [45, 3, 42, 27, 28, 182, 0, 20, 133, 80, 167, 0, 7, 58, 4, 4, 172, 3, 172]
abbrev dktX0_unit_0 : List UInt8 := dkwX0_unit_0 ++ []
theorem dksX0_unit_0 : cX0_unit.data.toList.drop 0 = dktX0_unit_0 := by decide +kernel
theorem dX0_unit_0 : decode cX0_unit 0 = .ok (.aload_n 3, 1) := dk_45 (dk_at dksX0_unit_0 0 rfl rfl)
theorem dX0_unit_1 : decode cX0_unit 1 = .ok (.iconst 0, 1) := dk_3 (dk_at dksX0_unit_0 1 rfl rfl)
theorem dX0_unit_2 : decode cX0_unit 2 = .ok (.aload_n 0, 1) := dk_42 (dk_at dksX0_unit_0 2 rfl rfl)
theorem dX0_unit_3 : decode cX0_unit 3 = .ok (.iload_n 1, 1) := dk_27 (dk_at dksX0_unit_0 3 rfl rfl)
theorem dX0_unit_4 : decode cX0_unit 4 = .ok (.iload_n 2, 1) := dk_28 (dk_at dksX0_unit_0 4 rfl rfl)
theorem dX0_unit_5 : decode cX0_unit 5 = .ok (.invokevirtual 20, 3) := dk_182 0 20 (dk_at dksX0_unit_0 5 rfl rfl)
theorem dX0_unit_8 : decode cX0_unit 8 = .ok (.i2l, 1) := dk_133 (dk_at dksX0_unit_0 8 rfl rfl)
theorem dX0_unit_9 : decode cX0_unit 9 = .ok (.lastore, 1) := dk_80 (dk_at dksX0_unit_0 9 rfl rfl)
theorem dX0_unit_10 : decode cX0_unit 10 = .ok (.goto 7, 3) := dk_167 0 7 (dk_at dksX0_unit_0 10 rfl rfl)
theorem dX0_unit_13 : decode cX0_unit 13 = .ok (.astore 4, 2) := dk_58 4 (dk_at dksX0_unit_0 13 rfl rfl)
theorem dX0_unit_15 : decode cX0_unit 15 = .ok (.iconst 1, 1) := dk_4 (dk_at dksX0_unit_0 15 rfl rfl)
theorem dX0_unit_16 : decode cX0_unit 16 = .ok (.ireturn, 1) := dk_172 (dk_at dksX0_unit_0 16 rfl rfl)
theorem dX0_unit_17 : decode cX0_unit 17 = .ok (.iconst 0, 1) := dk_3 (dk_at dksX0_unit_0 17 rfl rfl)
theorem dX0_unit_18 : decode cX0_unit 18 = .ok (.ireturn, 1) := dk_172 (dk_at dksX0_unit_0 18 rfl rfl)
abbrev cX0_picket : ByteArray := method_6_code
def yX0_picket : MethodName := ⟨RX0, "picket", "(LMessengerBoard;II[J)I"⟩
def dkwX0_picket_0 : List UInt8 := [45, 3, 42, 27, 28, 182, 0, 24, 133, 80, 167, 0, 7, 58, 4, 4, 172, 3, 172]
abbrev dktX0_picket_0 : List UInt8 := dkwX0_picket_0 ++ []
theorem dksX0_picket_0 : cX0_picket.data.toList.drop 0 = dktX0_picket_0 := by decide +kernel
theorem dX0_picket_0 : decode cX0_picket 0 = .ok (.aload_n 3, 1) := dk_45 (dk_at dksX0_picket_0 0 rfl rfl)
theorem dX0_picket_1 : decode cX0_picket 1 = .ok (.iconst 0, 1) := dk_3 (dk_at dksX0_picket_0 1 rfl rfl)
theorem dX0_picket_2 : decode cX0_picket 2 = .ok (.aload_n 0, 1) := dk_42 (dk_at dksX0_picket_0 2 rfl rfl)
theorem dX0_picket_3 : decode cX0_picket 3 = .ok (.iload_n 1, 1) := dk_27 (dk_at dksX0_picket_0 3 rfl rfl)
theorem dX0_picket_4 : decode cX0_picket 4 = .ok (.iload_n 2, 1) := dk_28 (dk_at dksX0_picket_0 4 rfl rfl)
theorem dX0_picket_5 : decode cX0_picket 5 = .ok (.invokevirtual 24, 3) := dk_182 0 24 (dk_at dksX0_picket_0 5 rfl rfl)
theorem dX0_picket_8 : decode cX0_picket 8 = .ok (.i2l, 1) := dk_133 (dk_at dksX0_picket_0 8 rfl rfl)
theorem dX0_picket_9 : decode cX0_picket 9 = .ok (.lastore, 1) := dk_80 (dk_at dksX0_picket_0 9 rfl rfl)
theorem dX0_picket_10 : decode cX0_picket 10 = .ok (.goto 7, 3) := dk_167 0 7 (dk_at dksX0_picket_0 10 rfl rfl)
theorem dX0_picket_13 : decode cX0_picket 13 = .ok (.astore 4, 2) := dk_58 4 (dk_at dksX0_picket_0 13 rfl rfl)
theorem dX0_picket_15 : decode cX0_picket 15 = .ok (.iconst 1, 1) := dk_4 (dk_at dksX0_picket_0 15 rfl rfl)
theorem dX0_picket_16 : decode cX0_picket 16 = .ok (.ireturn, 1) := dk_172 (dk_at dksX0_picket_0 16 rfl rfl)
theorem dX0_picket_17 : decode cX0_picket 17 = .ok (.iconst 0, 1) := dk_3 (dk_at dksX0_picket_0 17 rfl rfl)
theorem dX0_picket_18 : decode cX0_picket 18 = .ok (.ireturn, 1) := dk_172 (dk_at dksX0_picket_0 18 rfl rfl)
abbrev cX0_order : ByteArray := method_7_code
def yX0_order : MethodName := ⟨RX0, "order", "(LMessengerBoard;II[J)I"⟩
def dkwX0_order_0 : List UInt8 := [45, 3, 42, 27, 28, 182, 0, 27, 133, 80, 167, 0, 7, 58, 4, 4, 172, 3, 172]
abbrev dktX0_order_0 : List UInt8 := dkwX0_order_0 ++ []
theorem dksX0_order_0 : cX0_order.data.toList.drop 0 = dktX0_order_0 := by decide +kernel
theorem dX0_order_0 : decode cX0_order 0 = .ok (.aload_n 3, 1) := dk_45 (dk_at dksX0_order_0 0 rfl rfl)
theorem dX0_order_1 : decode cX0_order 1 = .ok (.iconst 0, 1) := dk_3 (dk_at dksX0_order_0 1 rfl rfl)
theorem dX0_order_2 : decode cX0_order 2 = .ok (.aload_n 0, 1) := dk_42 (dk_at dksX0_order_0 2 rfl rfl)
theorem dX0_order_3 : decode cX0_order 3 = .ok (.iload_n 1, 1) := dk_27 (dk_at dksX0_order_0 3 rfl rfl)
theorem dX0_order_4 : decode cX0_order 4 = .ok (.iload_n 2, 1) := dk_28 (dk_at dksX0_order_0 4 rfl rfl)
theorem dX0_order_5 : decode cX0_order 5 = .ok (.invokevirtual 27, 3) := dk_182 0 27 (dk_at dksX0_order_0 5 rfl rfl)
theorem dX0_order_8 : decode cX0_order 8 = .ok (.i2l, 1) := dk_133 (dk_at dksX0_order_0 8 rfl rfl)
theorem dX0_order_9 : decode cX0_order 9 = .ok (.lastore, 1) := dk_80 (dk_at dksX0_order_0 9 rfl rfl)
theorem dX0_order_10 : decode cX0_order 10 = .ok (.goto 7, 3) := dk_167 0 7 (dk_at dksX0_order_0 10 rfl rfl)
theorem dX0_order_13 : decode cX0_order 13 = .ok (.astore 4, 2) := dk_58 4 (dk_at dksX0_order_0 13 rfl rfl)
theorem dX0_order_15 : decode cX0_order 15 = .ok (.iconst 1, 1) := dk_4 (dk_at dksX0_order_0 15 rfl rfl)
theorem dX0_order_16 : decode cX0_order 16 = .ok (.ireturn, 1) := dk_172 (dk_at dksX0_order_0 16 rfl rfl)
theorem dX0_order_17 : decode cX0_order 17 = .ok (.iconst 0, 1) := dk_3 (dk_at dksX0_order_0 17 rfl rfl)
theorem dX0_order_18 : decode cX0_order 18 = .ok (.ireturn, 1) := dk_172 (dk_at dksX0_order_0 18 rfl rfl)
abbrev cX0_plan : ByteArray := method_8_code
def yX0_plan : MethodName := ⟨RX0, "plan", "(LMessengerBoard;II[J)I"⟩
def dkwX0_plan_0 : List UInt8 := [45, 3, 42, 27, 28, 182, 0, 30, 133, 80, 167, 0, 7, 58, 4, 4, 172, 3, 172]
abbrev dktX0_plan_0 : List UInt8 := dkwX0_plan_0 ++ []
theorem dksX0_plan_0 : cX0_plan.data.toList.drop 0 = dktX0_plan_0 := by decide +kernel
theorem dX0_plan_0 : decode cX0_plan 0 = .ok (.aload_n 3, 1) := dk_45 (dk_at dksX0_plan_0 0 rfl rfl)
theorem dX0_plan_1 : decode cX0_plan 1 = .ok (.iconst 0, 1) := dk_3 (dk_at dksX0_plan_0 1 rfl rfl)
theorem dX0_plan_2 : decode cX0_plan 2 = .ok (.aload_n 0, 1) := dk_42 (dk_at dksX0_plan_0 2 rfl rfl)
theorem dX0_plan_3 : decode cX0_plan 3 = .ok (.iload_n 1, 1) := dk_27 (dk_at dksX0_plan_0 3 rfl rfl)
theorem dX0_plan_4 : decode cX0_plan 4 = .ok (.iload_n 2, 1) := dk_28 (dk_at dksX0_plan_0 4 rfl rfl)
theorem dX0_plan_5 : decode cX0_plan 5 = .ok (.invokevirtual 30, 3) := dk_182 0 30 (dk_at dksX0_plan_0 5 rfl rfl)
theorem dX0_plan_8 : decode cX0_plan 8 = .ok (.i2l, 1) := dk_133 (dk_at dksX0_plan_0 8 rfl rfl)
theorem dX0_plan_9 : decode cX0_plan 9 = .ok (.lastore, 1) := dk_80 (dk_at dksX0_plan_0 9 rfl rfl)
theorem dX0_plan_10 : decode cX0_plan 10 = .ok (.goto 7, 3) := dk_167 0 7 (dk_at dksX0_plan_0 10 rfl rfl)
theorem dX0_plan_13 : decode cX0_plan 13 = .ok (.astore 4, 2) := dk_58 4 (dk_at dksX0_plan_0 13 rfl rfl)
theorem dX0_plan_15 : decode cX0_plan 15 = .ok (.iconst 1, 1) := dk_4 (dk_at dksX0_plan_0 15 rfl rfl)
theorem dX0_plan_16 : decode cX0_plan 16 = .ok (.ireturn, 1) := dk_172 (dk_at dksX0_plan_0 16 rfl rfl)
theorem dX0_plan_17 : decode cX0_plan 17 = .ok (.iconst 0, 1) := dk_3 (dk_at dksX0_plan_0 17 rfl rfl)
theorem dX0_plan_18 : decode cX0_plan 18 = .ok (.ireturn, 1) := dk_172 (dk_at dksX0_plan_0 18 rfl rfl)
abbrev cX0_event : ByteArray := method_9_code
def yX0_event : MethodName := ⟨RX0, "event", "(LMessengerBoard;II[J)I"⟩
def dkwX0_event_0 : List UInt8 := [45, 3, 42, 27, 28, 182, 0, 33, 133, 80, 167, 0, 7, 58, 4, 4, 172, 3, 172]
abbrev dktX0_event_0 : List UInt8 := dkwX0_event_0 ++ []
theorem dksX0_event_0 : cX0_event.data.toList.drop 0 = dktX0_event_0 := by decide +kernel
theorem dX0_event_0 : decode cX0_event 0 = .ok (.aload_n 3, 1) := dk_45 (dk_at dksX0_event_0 0 rfl rfl)
theorem dX0_event_1 : decode cX0_event 1 = .ok (.iconst 0, 1) := dk_3 (dk_at dksX0_event_0 1 rfl rfl)
theorem dX0_event_2 : decode cX0_event 2 = .ok (.aload_n 0, 1) := dk_42 (dk_at dksX0_event_0 2 rfl rfl)
theorem dX0_event_3 : decode cX0_event 3 = .ok (.iload_n 1, 1) := dk_27 (dk_at dksX0_event_0 3 rfl rfl)
theorem dX0_event_4 : decode cX0_event 4 = .ok (.iload_n 2, 1) := dk_28 (dk_at dksX0_event_0 4 rfl rfl)
theorem dX0_event_5 : decode cX0_event 5 = .ok (.invokevirtual 33, 3) := dk_182 0 33 (dk_at dksX0_event_0 5 rfl rfl)
theorem dX0_event_8 : decode cX0_event 8 = .ok (.i2l, 1) := dk_133 (dk_at dksX0_event_0 8 rfl rfl)
theorem dX0_event_9 : decode cX0_event 9 = .ok (.lastore, 1) := dk_80 (dk_at dksX0_event_0 9 rfl rfl)
theorem dX0_event_10 : decode cX0_event 10 = .ok (.goto 7, 3) := dk_167 0 7 (dk_at dksX0_event_0 10 rfl rfl)
theorem dX0_event_13 : decode cX0_event 13 = .ok (.astore 4, 2) := dk_58 4 (dk_at dksX0_event_0 13 rfl rfl)
theorem dX0_event_15 : decode cX0_event 15 = .ok (.iconst 1, 1) := dk_4 (dk_at dksX0_event_0 15 rfl rfl)
theorem dX0_event_16 : decode cX0_event 16 = .ok (.ireturn, 1) := dk_172 (dk_at dksX0_event_0 16 rfl rfl)
theorem dX0_event_17 : decode cX0_event 17 = .ok (.iconst 0, 1) := dk_3 (dk_at dksX0_event_0 17 rfl rfl)
theorem dX0_event_18 : decode cX0_event 18 = .ok (.ireturn, 1) := dk_172 (dk_at dksX0_event_0 18 rfl rfl)
abbrev cX0_orders : ByteArray := method_10_code
def yX0_orders : MethodName := ⟨RX0, "orders", "(LMessengerBoard;I[J)I"⟩
def dkwX0_orders_0 : List UInt8 := [44, 3, 42, 27, 182, 0, 36, 133, 80, 167, 0, 6, 78, 4, 172, 3, 172]
abbrev dktX0_orders_0 : List UInt8 := dkwX0_orders_0 ++ []
theorem dksX0_orders_0 : cX0_orders.data.toList.drop 0 = dktX0_orders_0 := by decide +kernel
theorem dX0_orders_0 : decode cX0_orders 0 = .ok (.aload_n 2, 1) := dk_44 (dk_at dksX0_orders_0 0 rfl rfl)
theorem dX0_orders_1 : decode cX0_orders 1 = .ok (.iconst 0, 1) := dk_3 (dk_at dksX0_orders_0 1 rfl rfl)
theorem dX0_orders_2 : decode cX0_orders 2 = .ok (.aload_n 0, 1) := dk_42 (dk_at dksX0_orders_0 2 rfl rfl)
theorem dX0_orders_3 : decode cX0_orders 3 = .ok (.iload_n 1, 1) := dk_27 (dk_at dksX0_orders_0 3 rfl rfl)
theorem dX0_orders_4 : decode cX0_orders 4 = .ok (.invokevirtual 36, 3) := dk_182 0 36 (dk_at dksX0_orders_0 4 rfl rfl)
theorem dX0_orders_7 : decode cX0_orders 7 = .ok (.i2l, 1) := dk_133 (dk_at dksX0_orders_0 7 rfl rfl)
theorem dX0_orders_8 : decode cX0_orders 8 = .ok (.lastore, 1) := dk_80 (dk_at dksX0_orders_0 8 rfl rfl)
theorem dX0_orders_9 : decode cX0_orders 9 = .ok (.goto 6, 3) := dk_167 0 6 (dk_at dksX0_orders_0 9 rfl rfl)
theorem dX0_orders_12 : decode cX0_orders 12 = .ok (.astore_n 3, 1) := dk_78 (dk_at dksX0_orders_0 12 rfl rfl)
theorem dX0_orders_13 : decode cX0_orders 13 = .ok (.iconst 1, 1) := dk_4 (dk_at dksX0_orders_0 13 rfl rfl)
theorem dX0_orders_14 : decode cX0_orders 14 = .ok (.ireturn, 1) := dk_172 (dk_at dksX0_orders_0 14 rfl rfl)
theorem dX0_orders_15 : decode cX0_orders 15 = .ok (.iconst 0, 1) := dk_3 (dk_at dksX0_orders_0 15 rfl rfl)
theorem dX0_orders_16 : decode cX0_orders 16 = .ok (.ireturn, 1) := dk_172 (dk_at dksX0_orders_0 16 rfl rfl)
abbrev cX0_isWall : ByteArray := method_11_code
def yX0_isWall : MethodName := ⟨RX0, "isWall", "(LMessengerBoard;II[J)I"⟩
def dkwX0_isWall_1 : List UInt8 := [3, 172]
abbrev dktX0_isWall_1 : List UInt8 := dkwX0_isWall_1 ++ []
def dkwX0_isWall_0 : List UInt8 := [45, 3, 42, 27, 28, 182, 0, 39, 153, 0, 7, 10, 167, 0, 4, 9, 80, 167, 0, 7, 58, 4, 4, 172]
abbrev dktX0_isWall_0 : List UInt8 := dkwX0_isWall_0 ++ dktX0_isWall_1
theorem dksX0_isWall_0 : cX0_isWall.data.toList.drop 0 = dktX0_isWall_0 := by decide +kernel
theorem dksX0_isWall_1 : cX0_isWall.data.toList.drop 24 = dktX0_isWall_1 := dk_seg dksX0_isWall_0 24 rfl rfl
theorem dX0_isWall_0 : decode cX0_isWall 0 = .ok (.aload_n 3, 1) := dk_45 (dk_at dksX0_isWall_0 0 rfl rfl)
theorem dX0_isWall_1 : decode cX0_isWall 1 = .ok (.iconst 0, 1) := dk_3 (dk_at dksX0_isWall_0 1 rfl rfl)
theorem dX0_isWall_2 : decode cX0_isWall 2 = .ok (.aload_n 0, 1) := dk_42 (dk_at dksX0_isWall_0 2 rfl rfl)
theorem dX0_isWall_3 : decode cX0_isWall 3 = .ok (.iload_n 1, 1) := dk_27 (dk_at dksX0_isWall_0 3 rfl rfl)
theorem dX0_isWall_4 : decode cX0_isWall 4 = .ok (.iload_n 2, 1) := dk_28 (dk_at dksX0_isWall_0 4 rfl rfl)
theorem dX0_isWall_5 : decode cX0_isWall 5 = .ok (.invokevirtual 39, 3) := dk_182 0 39 (dk_at dksX0_isWall_0 5 rfl rfl)
theorem dX0_isWall_8 : decode cX0_isWall 8 = .ok (.ifCond .eq 7, 3) := dk_153 0 7 (dk_at dksX0_isWall_0 8 rfl rfl)
theorem dX0_isWall_11 : decode cX0_isWall 11 = .ok (.lconst 1, 1) := dk_10 (dk_at dksX0_isWall_0 11 rfl rfl)
theorem dX0_isWall_12 : decode cX0_isWall 12 = .ok (.goto 4, 3) := dk_167 0 4 (dk_at dksX0_isWall_0 12 rfl rfl)
theorem dX0_isWall_15 : decode cX0_isWall 15 = .ok (.lconst 0, 1) := dk_9 (dk_at dksX0_isWall_0 15 rfl rfl)
theorem dX0_isWall_16 : decode cX0_isWall 16 = .ok (.lastore, 1) := dk_80 (dk_at dksX0_isWall_0 16 rfl rfl)
theorem dX0_isWall_17 : decode cX0_isWall 17 = .ok (.goto 7, 3) := dk_167 0 7 (dk_at dksX0_isWall_0 17 rfl rfl)
theorem dX0_isWall_20 : decode cX0_isWall 20 = .ok (.astore 4, 2) := dk_58 4 (dk_at dksX0_isWall_0 20 rfl rfl)
theorem dX0_isWall_22 : decode cX0_isWall 22 = .ok (.iconst 1, 1) := dk_4 (dk_at dksX0_isWall_0 22 rfl rfl)
theorem dX0_isWall_23 : decode cX0_isWall 23 = .ok (.ireturn, 1) := dk_172 (dk_at dksX0_isWall_0 23 rfl rfl)
theorem dX0_isWall_24 : decode cX0_isWall 24 = .ok (.iconst 0, 1) := dk_3 (dk_at dksX0_isWall_1 0 rfl rfl)
theorem dX0_isWall_25 : decode cX0_isWall 25 = .ok (.ireturn, 1) := dk_172 (dk_at dksX0_isWall_1 1 rfl rfl)
abbrev cX0_isWatched : ByteArray := method_12_code
def yX0_isWatched : MethodName := ⟨RX0, "isWatched", "(LMessengerBoard;III[J)I"⟩
def dkwX0_isWatched_1 : List UInt8 := [4, 172, 58, 5, 5, 172, 3, 172]
abbrev dktX0_isWatched_1 : List UInt8 := dkwX0_isWatched_1 ++ []
def dkwX0_isWatched_0 : List UInt8 := [25, 4, 3, 42, 27, 28, 29, 182, 0, 43, 153, 0, 7, 10, 167, 0, 4, 9, 80, 167, 0, 11, 58, 5]
abbrev dktX0_isWatched_0 : List UInt8 := dkwX0_isWatched_0 ++ dktX0_isWatched_1
theorem dksX0_isWatched_0 : cX0_isWatched.data.toList.drop 0 = dktX0_isWatched_0 := by decide +kernel
theorem dksX0_isWatched_1 : cX0_isWatched.data.toList.drop 24 = dktX0_isWatched_1 := dk_seg dksX0_isWatched_0 24 rfl rfl
theorem dX0_isWatched_0 : decode cX0_isWatched 0 = .ok (.aload 4, 2) := dk_25 4 (dk_at dksX0_isWatched_0 0 rfl rfl)
theorem dX0_isWatched_2 : decode cX0_isWatched 2 = .ok (.iconst 0, 1) := dk_3 (dk_at dksX0_isWatched_0 2 rfl rfl)
theorem dX0_isWatched_3 : decode cX0_isWatched 3 = .ok (.aload_n 0, 1) := dk_42 (dk_at dksX0_isWatched_0 3 rfl rfl)
theorem dX0_isWatched_4 : decode cX0_isWatched 4 = .ok (.iload_n 1, 1) := dk_27 (dk_at dksX0_isWatched_0 4 rfl rfl)
theorem dX0_isWatched_5 : decode cX0_isWatched 5 = .ok (.iload_n 2, 1) := dk_28 (dk_at dksX0_isWatched_0 5 rfl rfl)
theorem dX0_isWatched_6 : decode cX0_isWatched 6 = .ok (.iload_n 3, 1) := dk_29 (dk_at dksX0_isWatched_0 6 rfl rfl)
theorem dX0_isWatched_7 : decode cX0_isWatched 7 = .ok (.invokevirtual 43, 3) := dk_182 0 43 (dk_at dksX0_isWatched_0 7 rfl rfl)
theorem dX0_isWatched_10 : decode cX0_isWatched 10 = .ok (.ifCond .eq 7, 3) := dk_153 0 7 (dk_at dksX0_isWatched_0 10 rfl rfl)
theorem dX0_isWatched_13 : decode cX0_isWatched 13 = .ok (.lconst 1, 1) := dk_10 (dk_at dksX0_isWatched_0 13 rfl rfl)
theorem dX0_isWatched_14 : decode cX0_isWatched 14 = .ok (.goto 4, 3) := dk_167 0 4 (dk_at dksX0_isWatched_0 14 rfl rfl)
theorem dX0_isWatched_17 : decode cX0_isWatched 17 = .ok (.lconst 0, 1) := dk_9 (dk_at dksX0_isWatched_0 17 rfl rfl)
theorem dX0_isWatched_18 : decode cX0_isWatched 18 = .ok (.lastore, 1) := dk_80 (dk_at dksX0_isWatched_0 18 rfl rfl)
theorem dX0_isWatched_19 : decode cX0_isWatched 19 = .ok (.goto 11, 3) := dk_167 0 11 (dk_at dksX0_isWatched_0 19 rfl rfl)
theorem dX0_isWatched_22 : decode cX0_isWatched 22 = .ok (.astore 5, 2) := dk_58 5 (dk_at dksX0_isWatched_0 22 rfl rfl)
theorem dX0_isWatched_24 : decode cX0_isWatched 24 = .ok (.iconst 1, 1) := dk_4 (dk_at dksX0_isWatched_1 0 rfl rfl)
theorem dX0_isWatched_25 : decode cX0_isWatched 25 = .ok (.ireturn, 1) := dk_172 (dk_at dksX0_isWatched_1 1 rfl rfl)
theorem dX0_isWatched_26 : decode cX0_isWatched 26 = .ok (.astore 5, 2) := dk_58 5 (dk_at dksX0_isWatched_1 2 rfl rfl)
theorem dX0_isWatched_28 : decode cX0_isWatched 28 = .ok (.iconst 2, 1) := dk_5 (dk_at dksX0_isWatched_1 4 rfl rfl)
theorem dX0_isWatched_29 : decode cX0_isWatched 29 = .ok (.ireturn, 1) := dk_172 (dk_at dksX0_isWatched_1 5 rfl rfl)
theorem dX0_isWatched_30 : decode cX0_isWatched 30 = .ok (.iconst 0, 1) := dk_3 (dk_at dksX0_isWatched_1 6 rfl rfl)
theorem dX0_isWatched_31 : decode cX0_isWatched 31 = .ok (.ireturn, 1) := dk_172 (dk_at dksX0_isWatched_1 7 rfl rfl)
abbrev cX0_distance : ByteArray := method_13_code
def yX0_distance : MethodName := ⟨RX0, "distance", "(LMessengerBoard;IIII[J)I"⟩
def dkwX0_distance_0 : List UInt8 := [25, 5, 3, 42, 27, 28, 29, 21, 4, 182, 0, 47, 133, 80, 167, 0, 7, 58, 6, 4, 172, 3, 172]
abbrev dktX0_distance_0 : List UInt8 := dkwX0_distance_0 ++ []
theorem dksX0_distance_0 : cX0_distance.data.toList.drop 0 = dktX0_distance_0 := by decide +kernel
theorem dX0_distance_0 : decode cX0_distance 0 = .ok (.aload 5, 2) := dk_25 5 (dk_at dksX0_distance_0 0 rfl rfl)
theorem dX0_distance_2 : decode cX0_distance 2 = .ok (.iconst 0, 1) := dk_3 (dk_at dksX0_distance_0 2 rfl rfl)
theorem dX0_distance_3 : decode cX0_distance 3 = .ok (.aload_n 0, 1) := dk_42 (dk_at dksX0_distance_0 3 rfl rfl)
theorem dX0_distance_4 : decode cX0_distance 4 = .ok (.iload_n 1, 1) := dk_27 (dk_at dksX0_distance_0 4 rfl rfl)
theorem dX0_distance_5 : decode cX0_distance 5 = .ok (.iload_n 2, 1) := dk_28 (dk_at dksX0_distance_0 5 rfl rfl)
theorem dX0_distance_6 : decode cX0_distance 6 = .ok (.iload_n 3, 1) := dk_29 (dk_at dksX0_distance_0 6 rfl rfl)
theorem dX0_distance_7 : decode cX0_distance 7 = .ok (.iload 4, 2) := dk_21 4 (dk_at dksX0_distance_0 7 rfl rfl)
theorem dX0_distance_9 : decode cX0_distance 9 = .ok (.invokevirtual 47, 3) := dk_182 0 47 (dk_at dksX0_distance_0 9 rfl rfl)
theorem dX0_distance_12 : decode cX0_distance 12 = .ok (.i2l, 1) := dk_133 (dk_at dksX0_distance_0 12 rfl rfl)
theorem dX0_distance_13 : decode cX0_distance 13 = .ok (.lastore, 1) := dk_80 (dk_at dksX0_distance_0 13 rfl rfl)
theorem dX0_distance_14 : decode cX0_distance 14 = .ok (.goto 7, 3) := dk_167 0 7 (dk_at dksX0_distance_0 14 rfl rfl)
theorem dX0_distance_17 : decode cX0_distance 17 = .ok (.astore 6, 2) := dk_58 6 (dk_at dksX0_distance_0 17 rfl rfl)
theorem dX0_distance_19 : decode cX0_distance 19 = .ok (.iconst 1, 1) := dk_4 (dk_at dksX0_distance_0 19 rfl rfl)
theorem dX0_distance_20 : decode cX0_distance 20 = .ok (.ireturn, 1) := dk_172 (dk_at dksX0_distance_0 20 rfl rfl)
theorem dX0_distance_21 : decode cX0_distance 21 = .ok (.iconst 0, 1) := dk_3 (dk_at dksX0_distance_0 21 rfl rfl)
theorem dX0_distance_22 : decode cX0_distance 22 = .ok (.ireturn, 1) := dk_172 (dk_at dksX0_distance_0 22 rfl rfl)
abbrev cX0_step : ByteArray := method_14_code
def yX0_step : MethodName := ⟨RX0, "step", "(LMessengerBoard;IIII[J)I"⟩
def dkwX0_step_0 : List UInt8 := [25, 5, 3, 42, 27, 28, 29, 21, 4, 182, 0, 51, 133, 80, 167, 0, 7, 58, 6, 4, 172, 3, 172]
abbrev dktX0_step_0 : List UInt8 := dkwX0_step_0 ++ []
theorem dksX0_step_0 : cX0_step.data.toList.drop 0 = dktX0_step_0 := by decide +kernel
theorem dX0_step_0 : decode cX0_step 0 = .ok (.aload 5, 2) := dk_25 5 (dk_at dksX0_step_0 0 rfl rfl)
theorem dX0_step_2 : decode cX0_step 2 = .ok (.iconst 0, 1) := dk_3 (dk_at dksX0_step_0 2 rfl rfl)
theorem dX0_step_3 : decode cX0_step 3 = .ok (.aload_n 0, 1) := dk_42 (dk_at dksX0_step_0 3 rfl rfl)
theorem dX0_step_4 : decode cX0_step 4 = .ok (.iload_n 1, 1) := dk_27 (dk_at dksX0_step_0 4 rfl rfl)
theorem dX0_step_5 : decode cX0_step 5 = .ok (.iload_n 2, 1) := dk_28 (dk_at dksX0_step_0 5 rfl rfl)
theorem dX0_step_6 : decode cX0_step 6 = .ok (.iload_n 3, 1) := dk_29 (dk_at dksX0_step_0 6 rfl rfl)
theorem dX0_step_7 : decode cX0_step 7 = .ok (.iload 4, 2) := dk_21 4 (dk_at dksX0_step_0 7 rfl rfl)
theorem dX0_step_9 : decode cX0_step 9 = .ok (.invokevirtual 51, 3) := dk_182 0 51 (dk_at dksX0_step_0 9 rfl rfl)
theorem dX0_step_12 : decode cX0_step 12 = .ok (.i2l, 1) := dk_133 (dk_at dksX0_step_0 12 rfl rfl)
theorem dX0_step_13 : decode cX0_step 13 = .ok (.lastore, 1) := dk_80 (dk_at dksX0_step_0 13 rfl rfl)
theorem dX0_step_14 : decode cX0_step 14 = .ok (.goto 7, 3) := dk_167 0 7 (dk_at dksX0_step_0 14 rfl rfl)
theorem dX0_step_17 : decode cX0_step 17 = .ok (.astore 6, 2) := dk_58 6 (dk_at dksX0_step_0 17 rfl rfl)
theorem dX0_step_19 : decode cX0_step 19 = .ok (.iconst 1, 1) := dk_4 (dk_at dksX0_step_0 19 rfl rfl)
theorem dX0_step_20 : decode cX0_step 20 = .ok (.ireturn, 1) := dk_172 (dk_at dksX0_step_0 20 rfl rfl)
theorem dX0_step_21 : decode cX0_step 21 = .ok (.iconst 0, 1) := dk_3 (dk_at dksX0_step_0 21 rfl rfl)
theorem dX0_step_22 : decode cX0_step 22 = .ok (.ireturn, 1) := dk_172 (dk_at dksX0_step_0 22 rfl rfl)
abbrev cX0_wasAt : ByteArray := method_15_code
def yX0_wasAt : MethodName := ⟨RX0, "wasAt", "(LMessengerBoard;II[J)I"⟩
def dkwX0_wasAt_0 : List UInt8 := [45, 3, 42, 27, 28, 182, 0, 54, 133, 80, 167, 0, 11, 58, 4, 4, 172, 58, 4, 5, 172, 3, 172]
abbrev dktX0_wasAt_0 : List UInt8 := dkwX0_wasAt_0 ++ []
theorem dksX0_wasAt_0 : cX0_wasAt.data.toList.drop 0 = dktX0_wasAt_0 := by decide +kernel
theorem dX0_wasAt_0 : decode cX0_wasAt 0 = .ok (.aload_n 3, 1) := dk_45 (dk_at dksX0_wasAt_0 0 rfl rfl)
theorem dX0_wasAt_1 : decode cX0_wasAt 1 = .ok (.iconst 0, 1) := dk_3 (dk_at dksX0_wasAt_0 1 rfl rfl)
theorem dX0_wasAt_2 : decode cX0_wasAt 2 = .ok (.aload_n 0, 1) := dk_42 (dk_at dksX0_wasAt_0 2 rfl rfl)
theorem dX0_wasAt_3 : decode cX0_wasAt 3 = .ok (.iload_n 1, 1) := dk_27 (dk_at dksX0_wasAt_0 3 rfl rfl)
theorem dX0_wasAt_4 : decode cX0_wasAt 4 = .ok (.iload_n 2, 1) := dk_28 (dk_at dksX0_wasAt_0 4 rfl rfl)
theorem dX0_wasAt_5 : decode cX0_wasAt 5 = .ok (.invokevirtual 54, 3) := dk_182 0 54 (dk_at dksX0_wasAt_0 5 rfl rfl)
theorem dX0_wasAt_8 : decode cX0_wasAt 8 = .ok (.i2l, 1) := dk_133 (dk_at dksX0_wasAt_0 8 rfl rfl)
theorem dX0_wasAt_9 : decode cX0_wasAt 9 = .ok (.lastore, 1) := dk_80 (dk_at dksX0_wasAt_0 9 rfl rfl)
theorem dX0_wasAt_10 : decode cX0_wasAt 10 = .ok (.goto 11, 3) := dk_167 0 11 (dk_at dksX0_wasAt_0 10 rfl rfl)
theorem dX0_wasAt_13 : decode cX0_wasAt 13 = .ok (.astore 4, 2) := dk_58 4 (dk_at dksX0_wasAt_0 13 rfl rfl)
theorem dX0_wasAt_15 : decode cX0_wasAt 15 = .ok (.iconst 1, 1) := dk_4 (dk_at dksX0_wasAt_0 15 rfl rfl)
theorem dX0_wasAt_16 : decode cX0_wasAt 16 = .ok (.ireturn, 1) := dk_172 (dk_at dksX0_wasAt_0 16 rfl rfl)
theorem dX0_wasAt_17 : decode cX0_wasAt 17 = .ok (.astore 4, 2) := dk_58 4 (dk_at dksX0_wasAt_0 17 rfl rfl)
theorem dX0_wasAt_19 : decode cX0_wasAt 19 = .ok (.iconst 2, 1) := dk_5 (dk_at dksX0_wasAt_0 19 rfl rfl)
theorem dX0_wasAt_20 : decode cX0_wasAt 20 = .ok (.ireturn, 1) := dk_172 (dk_at dksX0_wasAt_0 20 rfl rfl)
theorem dX0_wasAt_21 : decode cX0_wasAt 21 = .ok (.iconst 0, 1) := dk_3 (dk_at dksX0_wasAt_0 21 rfl rfl)
theorem dX0_wasAt_22 : decode cX0_wasAt 22 = .ok (.ireturn, 1) := dk_172 (dk_at dksX0_wasAt_0 22 rfl rfl)
abbrev cX0_stateAt : ByteArray := method_16_code
def yX0_stateAt : MethodName := ⟨RX0, "stateAt", "(LMessengerBoard;II[J)I"⟩
def dkwX0_stateAt_0 : List UInt8 := [45, 3, 42, 27, 28, 182, 0, 57, 133, 80, 167, 0, 11, 58, 4, 4, 172, 58, 4, 5, 172, 3, 172]
abbrev dktX0_stateAt_0 : List UInt8 := dkwX0_stateAt_0 ++ []
theorem dksX0_stateAt_0 : cX0_stateAt.data.toList.drop 0 = dktX0_stateAt_0 := by decide +kernel
theorem dX0_stateAt_0 : decode cX0_stateAt 0 = .ok (.aload_n 3, 1) := dk_45 (dk_at dksX0_stateAt_0 0 rfl rfl)
theorem dX0_stateAt_1 : decode cX0_stateAt 1 = .ok (.iconst 0, 1) := dk_3 (dk_at dksX0_stateAt_0 1 rfl rfl)
theorem dX0_stateAt_2 : decode cX0_stateAt 2 = .ok (.aload_n 0, 1) := dk_42 (dk_at dksX0_stateAt_0 2 rfl rfl)
theorem dX0_stateAt_3 : decode cX0_stateAt 3 = .ok (.iload_n 1, 1) := dk_27 (dk_at dksX0_stateAt_0 3 rfl rfl)
theorem dX0_stateAt_4 : decode cX0_stateAt 4 = .ok (.iload_n 2, 1) := dk_28 (dk_at dksX0_stateAt_0 4 rfl rfl)
theorem dX0_stateAt_5 : decode cX0_stateAt 5 = .ok (.invokevirtual 57, 3) := dk_182 0 57 (dk_at dksX0_stateAt_0 5 rfl rfl)
theorem dX0_stateAt_8 : decode cX0_stateAt 8 = .ok (.i2l, 1) := dk_133 (dk_at dksX0_stateAt_0 8 rfl rfl)
theorem dX0_stateAt_9 : decode cX0_stateAt 9 = .ok (.lastore, 1) := dk_80 (dk_at dksX0_stateAt_0 9 rfl rfl)
theorem dX0_stateAt_10 : decode cX0_stateAt 10 = .ok (.goto 11, 3) := dk_167 0 11 (dk_at dksX0_stateAt_0 10 rfl rfl)
theorem dX0_stateAt_13 : decode cX0_stateAt 13 = .ok (.astore 4, 2) := dk_58 4 (dk_at dksX0_stateAt_0 13 rfl rfl)
theorem dX0_stateAt_15 : decode cX0_stateAt 15 = .ok (.iconst 1, 1) := dk_4 (dk_at dksX0_stateAt_0 15 rfl rfl)
theorem dX0_stateAt_16 : decode cX0_stateAt 16 = .ok (.ireturn, 1) := dk_172 (dk_at dksX0_stateAt_0 16 rfl rfl)
theorem dX0_stateAt_17 : decode cX0_stateAt 17 = .ok (.astore 4, 2) := dk_58 4 (dk_at dksX0_stateAt_0 17 rfl rfl)
theorem dX0_stateAt_19 : decode cX0_stateAt 19 = .ok (.iconst 2, 1) := dk_5 (dk_at dksX0_stateAt_0 19 rfl rfl)
theorem dX0_stateAt_20 : decode cX0_stateAt 20 = .ok (.ireturn, 1) := dk_172 (dk_at dksX0_stateAt_0 20 rfl rfl)
theorem dX0_stateAt_21 : decode cX0_stateAt 21 = .ok (.iconst 0, 1) := dk_3 (dk_at dksX0_stateAt_0 21 rfl rfl)
theorem dX0_stateAt_22 : decode cX0_stateAt 22 = .ok (.ireturn, 1) := dk_172 (dk_at dksX0_stateAt_0 22 rfl rfl)
abbrev cX0_wouldBe : ByteArray := method_17_code
def yX0_wouldBe : MethodName := ⟨RX0, "wouldBe", "(LMessengerBoard;IIII[J)I"⟩
def dkwX0_wouldBe_1 : List UInt8 := [172, 3, 172]
abbrev dktX0_wouldBe_1 : List UInt8 := dkwX0_wouldBe_1 ++ []
def dkwX0_wouldBe_0 : List UInt8 := [25, 5, 3, 42, 27, 28, 29, 21, 4, 182, 0, 60, 133, 80, 167, 0, 11, 58, 6, 4, 172, 58, 6, 5]
abbrev dktX0_wouldBe_0 : List UInt8 := dkwX0_wouldBe_0 ++ dktX0_wouldBe_1
theorem dksX0_wouldBe_0 : cX0_wouldBe.data.toList.drop 0 = dktX0_wouldBe_0 := by decide +kernel
theorem dksX0_wouldBe_1 : cX0_wouldBe.data.toList.drop 24 = dktX0_wouldBe_1 := dk_seg dksX0_wouldBe_0 24 rfl rfl
theorem dX0_wouldBe_0 : decode cX0_wouldBe 0 = .ok (.aload 5, 2) := dk_25 5 (dk_at dksX0_wouldBe_0 0 rfl rfl)
theorem dX0_wouldBe_2 : decode cX0_wouldBe 2 = .ok (.iconst 0, 1) := dk_3 (dk_at dksX0_wouldBe_0 2 rfl rfl)
theorem dX0_wouldBe_3 : decode cX0_wouldBe 3 = .ok (.aload_n 0, 1) := dk_42 (dk_at dksX0_wouldBe_0 3 rfl rfl)
theorem dX0_wouldBe_4 : decode cX0_wouldBe 4 = .ok (.iload_n 1, 1) := dk_27 (dk_at dksX0_wouldBe_0 4 rfl rfl)
theorem dX0_wouldBe_5 : decode cX0_wouldBe 5 = .ok (.iload_n 2, 1) := dk_28 (dk_at dksX0_wouldBe_0 5 rfl rfl)
theorem dX0_wouldBe_6 : decode cX0_wouldBe 6 = .ok (.iload_n 3, 1) := dk_29 (dk_at dksX0_wouldBe_0 6 rfl rfl)
theorem dX0_wouldBe_7 : decode cX0_wouldBe 7 = .ok (.iload 4, 2) := dk_21 4 (dk_at dksX0_wouldBe_0 7 rfl rfl)
theorem dX0_wouldBe_9 : decode cX0_wouldBe 9 = .ok (.invokevirtual 60, 3) := dk_182 0 60 (dk_at dksX0_wouldBe_0 9 rfl rfl)
theorem dX0_wouldBe_12 : decode cX0_wouldBe 12 = .ok (.i2l, 1) := dk_133 (dk_at dksX0_wouldBe_0 12 rfl rfl)
theorem dX0_wouldBe_13 : decode cX0_wouldBe 13 = .ok (.lastore, 1) := dk_80 (dk_at dksX0_wouldBe_0 13 rfl rfl)
theorem dX0_wouldBe_14 : decode cX0_wouldBe 14 = .ok (.goto 11, 3) := dk_167 0 11 (dk_at dksX0_wouldBe_0 14 rfl rfl)
theorem dX0_wouldBe_17 : decode cX0_wouldBe 17 = .ok (.astore 6, 2) := dk_58 6 (dk_at dksX0_wouldBe_0 17 rfl rfl)
theorem dX0_wouldBe_19 : decode cX0_wouldBe 19 = .ok (.iconst 1, 1) := dk_4 (dk_at dksX0_wouldBe_0 19 rfl rfl)
theorem dX0_wouldBe_20 : decode cX0_wouldBe 20 = .ok (.ireturn, 1) := dk_172 (dk_at dksX0_wouldBe_0 20 rfl rfl)
theorem dX0_wouldBe_21 : decode cX0_wouldBe 21 = .ok (.astore 6, 2) := dk_58 6 (dk_at dksX0_wouldBe_0 21 rfl rfl)
theorem dX0_wouldBe_23 : decode cX0_wouldBe 23 = .ok (.iconst 2, 1) := dk_5 (dk_at dksX0_wouldBe_0 23 rfl rfl)
theorem dX0_wouldBe_24 : decode cX0_wouldBe 24 = .ok (.ireturn, 1) := dk_172 (dk_at dksX0_wouldBe_1 0 rfl rfl)
theorem dX0_wouldBe_25 : decode cX0_wouldBe 25 = .ok (.iconst 0, 1) := dk_3 (dk_at dksX0_wouldBe_1 1 rfl rfl)
theorem dX0_wouldBe_26 : decode cX0_wouldBe 26 = .ok (.ireturn, 1) := dk_172 (dk_at dksX0_wouldBe_1 2 rfl rfl)
abbrev cX0_wouldArrive : ByteArray := method_18_code
def yX0_wouldArrive : MethodName := ⟨RX0, "wouldArrive", "(LMessengerBoard;III[J)I"⟩
def dkwX0_wouldArrive_1 : List UInt8 := [172]
abbrev dktX0_wouldArrive_1 : List UInt8 := dkwX0_wouldArrive_1 ++ []
def dkwX0_wouldArrive_0 : List UInt8 := [25, 4, 3, 42, 27, 28, 29, 182, 0, 63, 133, 80, 167, 0, 11, 58, 5, 4, 172, 58, 5, 5, 172, 3]
abbrev dktX0_wouldArrive_0 : List UInt8 := dkwX0_wouldArrive_0 ++ dktX0_wouldArrive_1
theorem dksX0_wouldArrive_0 : cX0_wouldArrive.data.toList.drop 0 = dktX0_wouldArrive_0 := by decide +kernel
theorem dksX0_wouldArrive_1 : cX0_wouldArrive.data.toList.drop 24 = dktX0_wouldArrive_1 := dk_seg dksX0_wouldArrive_0 24 rfl rfl
theorem dX0_wouldArrive_0 : decode cX0_wouldArrive 0 = .ok (.aload 4, 2) := dk_25 4 (dk_at dksX0_wouldArrive_0 0 rfl rfl)
theorem dX0_wouldArrive_2 : decode cX0_wouldArrive 2 = .ok (.iconst 0, 1) := dk_3 (dk_at dksX0_wouldArrive_0 2 rfl rfl)
theorem dX0_wouldArrive_3 : decode cX0_wouldArrive 3 = .ok (.aload_n 0, 1) := dk_42 (dk_at dksX0_wouldArrive_0 3 rfl rfl)
theorem dX0_wouldArrive_4 : decode cX0_wouldArrive 4 = .ok (.iload_n 1, 1) := dk_27 (dk_at dksX0_wouldArrive_0 4 rfl rfl)
theorem dX0_wouldArrive_5 : decode cX0_wouldArrive 5 = .ok (.iload_n 2, 1) := dk_28 (dk_at dksX0_wouldArrive_0 5 rfl rfl)
theorem dX0_wouldArrive_6 : decode cX0_wouldArrive 6 = .ok (.iload_n 3, 1) := dk_29 (dk_at dksX0_wouldArrive_0 6 rfl rfl)
theorem dX0_wouldArrive_7 : decode cX0_wouldArrive 7 = .ok (.invokevirtual 63, 3) := dk_182 0 63 (dk_at dksX0_wouldArrive_0 7 rfl rfl)
theorem dX0_wouldArrive_10 : decode cX0_wouldArrive 10 = .ok (.i2l, 1) := dk_133 (dk_at dksX0_wouldArrive_0 10 rfl rfl)
theorem dX0_wouldArrive_11 : decode cX0_wouldArrive 11 = .ok (.lastore, 1) := dk_80 (dk_at dksX0_wouldArrive_0 11 rfl rfl)
theorem dX0_wouldArrive_12 : decode cX0_wouldArrive 12 = .ok (.goto 11, 3) := dk_167 0 11 (dk_at dksX0_wouldArrive_0 12 rfl rfl)
theorem dX0_wouldArrive_15 : decode cX0_wouldArrive 15 = .ok (.astore 5, 2) := dk_58 5 (dk_at dksX0_wouldArrive_0 15 rfl rfl)
theorem dX0_wouldArrive_17 : decode cX0_wouldArrive 17 = .ok (.iconst 1, 1) := dk_4 (dk_at dksX0_wouldArrive_0 17 rfl rfl)
theorem dX0_wouldArrive_18 : decode cX0_wouldArrive 18 = .ok (.ireturn, 1) := dk_172 (dk_at dksX0_wouldArrive_0 18 rfl rfl)
theorem dX0_wouldArrive_19 : decode cX0_wouldArrive 19 = .ok (.astore 5, 2) := dk_58 5 (dk_at dksX0_wouldArrive_0 19 rfl rfl)
theorem dX0_wouldArrive_21 : decode cX0_wouldArrive 21 = .ok (.iconst 2, 1) := dk_5 (dk_at dksX0_wouldArrive_0 21 rfl rfl)
theorem dX0_wouldArrive_22 : decode cX0_wouldArrive 22 = .ok (.ireturn, 1) := dk_172 (dk_at dksX0_wouldArrive_0 22 rfl rfl)
theorem dX0_wouldArrive_23 : decode cX0_wouldArrive 23 = .ok (.iconst 0, 1) := dk_3 (dk_at dksX0_wouldArrive_0 23 rfl rfl)
theorem dX0_wouldArrive_24 : decode cX0_wouldArrive 24 = .ok (.ireturn, 1) := dk_172 (dk_at dksX0_wouldArrive_1 0 rfl rfl)
abbrev cX0_bestDelay : ByteArray := method_19_code
def yX0_bestDelay : MethodName := ⟨RX0, "bestDelay", "(LMessengerBoard;III[J)I"⟩
def dkwX0_bestDelay_1 : List UInt8 := [172]
abbrev dktX0_bestDelay_1 : List UInt8 := dkwX0_bestDelay_1 ++ []
def dkwX0_bestDelay_0 : List UInt8 := [25, 4, 3, 42, 27, 28, 29, 182, 0, 67, 133, 80, 167, 0, 11, 58, 5, 4, 172, 58, 5, 5, 172, 3]
abbrev dktX0_bestDelay_0 : List UInt8 := dkwX0_bestDelay_0 ++ dktX0_bestDelay_1
theorem dksX0_bestDelay_0 : cX0_bestDelay.data.toList.drop 0 = dktX0_bestDelay_0 := by decide +kernel
theorem dksX0_bestDelay_1 : cX0_bestDelay.data.toList.drop 24 = dktX0_bestDelay_1 := dk_seg dksX0_bestDelay_0 24 rfl rfl
theorem dX0_bestDelay_0 : decode cX0_bestDelay 0 = .ok (.aload 4, 2) := dk_25 4 (dk_at dksX0_bestDelay_0 0 rfl rfl)
theorem dX0_bestDelay_2 : decode cX0_bestDelay 2 = .ok (.iconst 0, 1) := dk_3 (dk_at dksX0_bestDelay_0 2 rfl rfl)
theorem dX0_bestDelay_3 : decode cX0_bestDelay 3 = .ok (.aload_n 0, 1) := dk_42 (dk_at dksX0_bestDelay_0 3 rfl rfl)
theorem dX0_bestDelay_4 : decode cX0_bestDelay 4 = .ok (.iload_n 1, 1) := dk_27 (dk_at dksX0_bestDelay_0 4 rfl rfl)
theorem dX0_bestDelay_5 : decode cX0_bestDelay 5 = .ok (.iload_n 2, 1) := dk_28 (dk_at dksX0_bestDelay_0 5 rfl rfl)
theorem dX0_bestDelay_6 : decode cX0_bestDelay 6 = .ok (.iload_n 3, 1) := dk_29 (dk_at dksX0_bestDelay_0 6 rfl rfl)
theorem dX0_bestDelay_7 : decode cX0_bestDelay 7 = .ok (.invokevirtual 67, 3) := dk_182 0 67 (dk_at dksX0_bestDelay_0 7 rfl rfl)
theorem dX0_bestDelay_10 : decode cX0_bestDelay 10 = .ok (.i2l, 1) := dk_133 (dk_at dksX0_bestDelay_0 10 rfl rfl)
theorem dX0_bestDelay_11 : decode cX0_bestDelay 11 = .ok (.lastore, 1) := dk_80 (dk_at dksX0_bestDelay_0 11 rfl rfl)
theorem dX0_bestDelay_12 : decode cX0_bestDelay 12 = .ok (.goto 11, 3) := dk_167 0 11 (dk_at dksX0_bestDelay_0 12 rfl rfl)
theorem dX0_bestDelay_15 : decode cX0_bestDelay 15 = .ok (.astore 5, 2) := dk_58 5 (dk_at dksX0_bestDelay_0 15 rfl rfl)
theorem dX0_bestDelay_17 : decode cX0_bestDelay 17 = .ok (.iconst 1, 1) := dk_4 (dk_at dksX0_bestDelay_0 17 rfl rfl)
theorem dX0_bestDelay_18 : decode cX0_bestDelay 18 = .ok (.ireturn, 1) := dk_172 (dk_at dksX0_bestDelay_0 18 rfl rfl)
theorem dX0_bestDelay_19 : decode cX0_bestDelay 19 = .ok (.astore 5, 2) := dk_58 5 (dk_at dksX0_bestDelay_0 19 rfl rfl)
theorem dX0_bestDelay_21 : decode cX0_bestDelay 21 = .ok (.iconst 2, 1) := dk_5 (dk_at dksX0_bestDelay_0 21 rfl rfl)
theorem dX0_bestDelay_22 : decode cX0_bestDelay 22 = .ok (.ireturn, 1) := dk_172 (dk_at dksX0_bestDelay_0 22 rfl rfl)
theorem dX0_bestDelay_23 : decode cX0_bestDelay 23 = .ok (.iconst 0, 1) := dk_3 (dk_at dksX0_bestDelay_0 23 rfl rfl)
theorem dX0_bestDelay_24 : decode cX0_bestDelay 24 = .ok (.ireturn, 1) := dk_172 (dk_at dksX0_bestDelay_1 0 rfl rfl)
abbrev cX0_failing : ByteArray := method_20_code
def yX0_failing : MethodName := ⟨RX0, "failing", "(LMessengerBoard;I[J)I"⟩
def dkwX0_failing_0 : List UInt8 := [44, 3, 42, 27, 182, 0, 70, 133, 80, 167, 0, 6, 78, 4, 172, 3, 172]
abbrev dktX0_failing_0 : List UInt8 := dkwX0_failing_0 ++ []
theorem dksX0_failing_0 : cX0_failing.data.toList.drop 0 = dktX0_failing_0 := by decide +kernel
theorem dX0_failing_0 : decode cX0_failing 0 = .ok (.aload_n 2, 1) := dk_44 (dk_at dksX0_failing_0 0 rfl rfl)
theorem dX0_failing_1 : decode cX0_failing 1 = .ok (.iconst 0, 1) := dk_3 (dk_at dksX0_failing_0 1 rfl rfl)
theorem dX0_failing_2 : decode cX0_failing 2 = .ok (.aload_n 0, 1) := dk_42 (dk_at dksX0_failing_0 2 rfl rfl)
theorem dX0_failing_3 : decode cX0_failing 3 = .ok (.iload_n 1, 1) := dk_27 (dk_at dksX0_failing_0 3 rfl rfl)
theorem dX0_failing_4 : decode cX0_failing 4 = .ok (.invokevirtual 70, 3) := dk_182 0 70 (dk_at dksX0_failing_0 4 rfl rfl)
theorem dX0_failing_7 : decode cX0_failing 7 = .ok (.i2l, 1) := dk_133 (dk_at dksX0_failing_0 7 rfl rfl)
theorem dX0_failing_8 : decode cX0_failing 8 = .ok (.lastore, 1) := dk_80 (dk_at dksX0_failing_0 8 rfl rfl)
theorem dX0_failing_9 : decode cX0_failing 9 = .ok (.goto 6, 3) := dk_167 0 6 (dk_at dksX0_failing_0 9 rfl rfl)
theorem dX0_failing_12 : decode cX0_failing 12 = .ok (.astore_n 3, 1) := dk_78 (dk_at dksX0_failing_0 12 rfl rfl)
theorem dX0_failing_13 : decode cX0_failing 13 = .ok (.iconst 1, 1) := dk_4 (dk_at dksX0_failing_0 13 rfl rfl)
theorem dX0_failing_14 : decode cX0_failing 14 = .ok (.ireturn, 1) := dk_172 (dk_at dksX0_failing_0 14 rfl rfl)
theorem dX0_failing_15 : decode cX0_failing 15 = .ok (.iconst 0, 1) := dk_3 (dk_at dksX0_failing_0 15 rfl rfl)
theorem dX0_failing_16 : decode cX0_failing 16 = .ok (.ireturn, 1) := dk_172 (dk_at dksX0_failing_0 16 rfl rfl)
abbrev cX0_pass : ByteArray := method_21_code
def yX0_pass : MethodName := ⟨RX0, "pass", "(LMessengerBoard;I[J)I"⟩
def dkwX0_pass_0 : List UInt8 := [44, 3, 42, 27, 182, 0, 73, 133, 80, 167, 0, 6, 78, 4, 172, 3, 172]
abbrev dktX0_pass_0 : List UInt8 := dkwX0_pass_0 ++ []
theorem dksX0_pass_0 : cX0_pass.data.toList.drop 0 = dktX0_pass_0 := by decide +kernel
theorem dX0_pass_0 : decode cX0_pass 0 = .ok (.aload_n 2, 1) := dk_44 (dk_at dksX0_pass_0 0 rfl rfl)
theorem dX0_pass_1 : decode cX0_pass 1 = .ok (.iconst 0, 1) := dk_3 (dk_at dksX0_pass_0 1 rfl rfl)
theorem dX0_pass_2 : decode cX0_pass 2 = .ok (.aload_n 0, 1) := dk_42 (dk_at dksX0_pass_0 2 rfl rfl)
theorem dX0_pass_3 : decode cX0_pass 3 = .ok (.iload_n 1, 1) := dk_27 (dk_at dksX0_pass_0 3 rfl rfl)
theorem dX0_pass_4 : decode cX0_pass 4 = .ok (.invokevirtual 73, 3) := dk_182 0 73 (dk_at dksX0_pass_0 4 rfl rfl)
theorem dX0_pass_7 : decode cX0_pass 7 = .ok (.i2l, 1) := dk_133 (dk_at dksX0_pass_0 7 rfl rfl)
theorem dX0_pass_8 : decode cX0_pass 8 = .ok (.lastore, 1) := dk_80 (dk_at dksX0_pass_0 8 rfl rfl)
theorem dX0_pass_9 : decode cX0_pass 9 = .ok (.goto 6, 3) := dk_167 0 6 (dk_at dksX0_pass_0 9 rfl rfl)
theorem dX0_pass_12 : decode cX0_pass 12 = .ok (.astore_n 3, 1) := dk_78 (dk_at dksX0_pass_0 12 rfl rfl)
theorem dX0_pass_13 : decode cX0_pass 13 = .ok (.iconst 1, 1) := dk_4 (dk_at dksX0_pass_0 13 rfl rfl)
theorem dX0_pass_14 : decode cX0_pass 14 = .ok (.ireturn, 1) := dk_172 (dk_at dksX0_pass_0 14 rfl rfl)
theorem dX0_pass_15 : decode cX0_pass 15 = .ok (.iconst 0, 1) := dk_3 (dk_at dksX0_pass_0 15 rfl rfl)
theorem dX0_pass_16 : decode cX0_pass 16 = .ok (.ireturn, 1) := dk_172 (dk_at dksX0_pass_0 16 rfl rfl)
abbrev cX0_send : ByteArray := method_22_code
def yX0_send : MethodName := ⟨RX0, "send", "(LMessengerBoard;III[J)I"⟩
def dkwX0_send_1 : List UInt8 := [172]
abbrev dktX0_send_1 : List UInt8 := dkwX0_send_1 ++ []
def dkwX0_send_0 : List UInt8 := [25, 4, 3, 42, 27, 28, 29, 182, 0, 76, 133, 80, 167, 0, 11, 58, 5, 4, 172, 58, 5, 5, 172, 3]
abbrev dktX0_send_0 : List UInt8 := dkwX0_send_0 ++ dktX0_send_1
theorem dksX0_send_0 : cX0_send.data.toList.drop 0 = dktX0_send_0 := by decide +kernel
theorem dksX0_send_1 : cX0_send.data.toList.drop 24 = dktX0_send_1 := dk_seg dksX0_send_0 24 rfl rfl
theorem dX0_send_0 : decode cX0_send 0 = .ok (.aload 4, 2) := dk_25 4 (dk_at dksX0_send_0 0 rfl rfl)
theorem dX0_send_2 : decode cX0_send 2 = .ok (.iconst 0, 1) := dk_3 (dk_at dksX0_send_0 2 rfl rfl)
theorem dX0_send_3 : decode cX0_send 3 = .ok (.aload_n 0, 1) := dk_42 (dk_at dksX0_send_0 3 rfl rfl)
theorem dX0_send_4 : decode cX0_send 4 = .ok (.iload_n 1, 1) := dk_27 (dk_at dksX0_send_0 4 rfl rfl)
theorem dX0_send_5 : decode cX0_send 5 = .ok (.iload_n 2, 1) := dk_28 (dk_at dksX0_send_0 5 rfl rfl)
theorem dX0_send_6 : decode cX0_send 6 = .ok (.iload_n 3, 1) := dk_29 (dk_at dksX0_send_0 6 rfl rfl)
theorem dX0_send_7 : decode cX0_send 7 = .ok (.invokevirtual 76, 3) := dk_182 0 76 (dk_at dksX0_send_0 7 rfl rfl)
theorem dX0_send_10 : decode cX0_send 10 = .ok (.i2l, 1) := dk_133 (dk_at dksX0_send_0 10 rfl rfl)
theorem dX0_send_11 : decode cX0_send 11 = .ok (.lastore, 1) := dk_80 (dk_at dksX0_send_0 11 rfl rfl)
theorem dX0_send_12 : decode cX0_send 12 = .ok (.goto 11, 3) := dk_167 0 11 (dk_at dksX0_send_0 12 rfl rfl)
theorem dX0_send_15 : decode cX0_send 15 = .ok (.astore 5, 2) := dk_58 5 (dk_at dksX0_send_0 15 rfl rfl)
theorem dX0_send_17 : decode cX0_send 17 = .ok (.iconst 1, 1) := dk_4 (dk_at dksX0_send_0 17 rfl rfl)
theorem dX0_send_18 : decode cX0_send 18 = .ok (.ireturn, 1) := dk_172 (dk_at dksX0_send_0 18 rfl rfl)
theorem dX0_send_19 : decode cX0_send 19 = .ok (.astore 5, 2) := dk_58 5 (dk_at dksX0_send_0 19 rfl rfl)
theorem dX0_send_21 : decode cX0_send 21 = .ok (.iconst 2, 1) := dk_5 (dk_at dksX0_send_0 21 rfl rfl)
theorem dX0_send_22 : decode cX0_send 22 = .ok (.ireturn, 1) := dk_172 (dk_at dksX0_send_0 22 rfl rfl)
theorem dX0_send_23 : decode cX0_send 23 = .ok (.iconst 0, 1) := dk_3 (dk_at dksX0_send_0 23 rfl rfl)
theorem dX0_send_24 : decode cX0_send 24 = .ok (.ireturn, 1) := dk_172 (dk_at dksX0_send_1 0 rfl rfl)
abbrev cX0_wall : ByteArray := method_23_code
def yX0_wall : MethodName := ⟨RX0, "wall", "(LMessengerBoard;II[J)I"⟩
def dkwX0_wall_0 : List UInt8 := [45, 3, 42, 27, 28, 182, 0, 79, 133, 80, 167, 0, 7, 58, 4, 4, 172, 3, 172]
abbrev dktX0_wall_0 : List UInt8 := dkwX0_wall_0 ++ []
theorem dksX0_wall_0 : cX0_wall.data.toList.drop 0 = dktX0_wall_0 := by decide +kernel
theorem dX0_wall_0 : decode cX0_wall 0 = .ok (.aload_n 3, 1) := dk_45 (dk_at dksX0_wall_0 0 rfl rfl)
theorem dX0_wall_1 : decode cX0_wall 1 = .ok (.iconst 0, 1) := dk_3 (dk_at dksX0_wall_0 1 rfl rfl)
theorem dX0_wall_2 : decode cX0_wall 2 = .ok (.aload_n 0, 1) := dk_42 (dk_at dksX0_wall_0 2 rfl rfl)
theorem dX0_wall_3 : decode cX0_wall 3 = .ok (.iload_n 1, 1) := dk_27 (dk_at dksX0_wall_0 3 rfl rfl)
theorem dX0_wall_4 : decode cX0_wall 4 = .ok (.iload_n 2, 1) := dk_28 (dk_at dksX0_wall_0 4 rfl rfl)
theorem dX0_wall_5 : decode cX0_wall 5 = .ok (.invokevirtual 79, 3) := dk_182 0 79 (dk_at dksX0_wall_0 5 rfl rfl)
theorem dX0_wall_8 : decode cX0_wall 8 = .ok (.i2l, 1) := dk_133 (dk_at dksX0_wall_0 8 rfl rfl)
theorem dX0_wall_9 : decode cX0_wall 9 = .ok (.lastore, 1) := dk_80 (dk_at dksX0_wall_0 9 rfl rfl)
theorem dX0_wall_10 : decode cX0_wall 10 = .ok (.goto 7, 3) := dk_167 0 7 (dk_at dksX0_wall_0 10 rfl rfl)
theorem dX0_wall_13 : decode cX0_wall 13 = .ok (.astore 4, 2) := dk_58 4 (dk_at dksX0_wall_0 13 rfl rfl)
theorem dX0_wall_15 : decode cX0_wall 15 = .ok (.iconst 1, 1) := dk_4 (dk_at dksX0_wall_0 15 rfl rfl)
theorem dX0_wall_16 : decode cX0_wall 16 = .ok (.ireturn, 1) := dk_172 (dk_at dksX0_wall_0 16 rfl rfl)
theorem dX0_wall_17 : decode cX0_wall 17 = .ok (.iconst 0, 1) := dk_3 (dk_at dksX0_wall_0 17 rfl rfl)
theorem dX0_wall_18 : decode cX0_wall 18 = .ok (.ireturn, 1) := dk_172 (dk_at dksX0_wall_0 18 rfl rfl)
abbrev cX0_movePicket : ByteArray := method_24_code
def yX0_movePicket : MethodName := ⟨RX0, "movePicket", "(LMessengerBoard;III[J)I"⟩
def dkwX0_movePicket_0 : List UInt8 := [25, 4, 3, 42, 27, 28, 29, 182, 0, 82, 133, 80, 167, 0, 7, 58, 5, 4, 172, 3, 172]
abbrev dktX0_movePicket_0 : List UInt8 := dkwX0_movePicket_0 ++ []
theorem dksX0_movePicket_0 : cX0_movePicket.data.toList.drop 0 = dktX0_movePicket_0 := by decide +kernel
theorem dX0_movePicket_0 : decode cX0_movePicket 0 = .ok (.aload 4, 2) := dk_25 4 (dk_at dksX0_movePicket_0 0 rfl rfl)
theorem dX0_movePicket_2 : decode cX0_movePicket 2 = .ok (.iconst 0, 1) := dk_3 (dk_at dksX0_movePicket_0 2 rfl rfl)
theorem dX0_movePicket_3 : decode cX0_movePicket 3 = .ok (.aload_n 0, 1) := dk_42 (dk_at dksX0_movePicket_0 3 rfl rfl)
theorem dX0_movePicket_4 : decode cX0_movePicket 4 = .ok (.iload_n 1, 1) := dk_27 (dk_at dksX0_movePicket_0 4 rfl rfl)
theorem dX0_movePicket_5 : decode cX0_movePicket 5 = .ok (.iload_n 2, 1) := dk_28 (dk_at dksX0_movePicket_0 5 rfl rfl)
theorem dX0_movePicket_6 : decode cX0_movePicket 6 = .ok (.iload_n 3, 1) := dk_29 (dk_at dksX0_movePicket_0 6 rfl rfl)
theorem dX0_movePicket_7 : decode cX0_movePicket 7 = .ok (.invokevirtual 82, 3) := dk_182 0 82 (dk_at dksX0_movePicket_0 7 rfl rfl)
theorem dX0_movePicket_10 : decode cX0_movePicket 10 = .ok (.i2l, 1) := dk_133 (dk_at dksX0_movePicket_0 10 rfl rfl)
theorem dX0_movePicket_11 : decode cX0_movePicket 11 = .ok (.lastore, 1) := dk_80 (dk_at dksX0_movePicket_0 11 rfl rfl)
theorem dX0_movePicket_12 : decode cX0_movePicket 12 = .ok (.goto 7, 3) := dk_167 0 7 (dk_at dksX0_movePicket_0 12 rfl rfl)
theorem dX0_movePicket_15 : decode cX0_movePicket 15 = .ok (.astore 5, 2) := dk_58 5 (dk_at dksX0_movePicket_0 15 rfl rfl)
theorem dX0_movePicket_17 : decode cX0_movePicket 17 = .ok (.iconst 1, 1) := dk_4 (dk_at dksX0_movePicket_0 17 rfl rfl)
theorem dX0_movePicket_18 : decode cX0_movePicket 18 = .ok (.ireturn, 1) := dk_172 (dk_at dksX0_movePicket_0 18 rfl rfl)
theorem dX0_movePicket_19 : decode cX0_movePicket 19 = .ok (.iconst 0, 1) := dk_3 (dk_at dksX0_movePicket_0 19 rfl rfl)
theorem dX0_movePicket_20 : decode cX0_movePicket 20 = .ok (.ireturn, 1) := dk_172 (dk_at dksX0_movePicket_0 20 rfl rfl)
abbrev cX0_movePlan : ByteArray := method_25_code
def yX0_movePlan : MethodName := ⟨RX0, "movePlan", "(LMessengerBoard;II[J)I"⟩
def dkwX0_movePlan_0 : List UInt8 := [45, 3, 42, 27, 28, 182, 0, 85, 133, 80, 167, 0, 11, 58, 4, 4, 172, 58, 4, 5, 172, 3, 172]
abbrev dktX0_movePlan_0 : List UInt8 := dkwX0_movePlan_0 ++ []
theorem dksX0_movePlan_0 : cX0_movePlan.data.toList.drop 0 = dktX0_movePlan_0 := by decide +kernel
theorem dX0_movePlan_0 : decode cX0_movePlan 0 = .ok (.aload_n 3, 1) := dk_45 (dk_at dksX0_movePlan_0 0 rfl rfl)
theorem dX0_movePlan_1 : decode cX0_movePlan 1 = .ok (.iconst 0, 1) := dk_3 (dk_at dksX0_movePlan_0 1 rfl rfl)
theorem dX0_movePlan_2 : decode cX0_movePlan 2 = .ok (.aload_n 0, 1) := dk_42 (dk_at dksX0_movePlan_0 2 rfl rfl)
theorem dX0_movePlan_3 : decode cX0_movePlan 3 = .ok (.iload_n 1, 1) := dk_27 (dk_at dksX0_movePlan_0 3 rfl rfl)
theorem dX0_movePlan_4 : decode cX0_movePlan 4 = .ok (.iload_n 2, 1) := dk_28 (dk_at dksX0_movePlan_0 4 rfl rfl)
theorem dX0_movePlan_5 : decode cX0_movePlan 5 = .ok (.invokevirtual 85, 3) := dk_182 0 85 (dk_at dksX0_movePlan_0 5 rfl rfl)
theorem dX0_movePlan_8 : decode cX0_movePlan 8 = .ok (.i2l, 1) := dk_133 (dk_at dksX0_movePlan_0 8 rfl rfl)
theorem dX0_movePlan_9 : decode cX0_movePlan 9 = .ok (.lastore, 1) := dk_80 (dk_at dksX0_movePlan_0 9 rfl rfl)
theorem dX0_movePlan_10 : decode cX0_movePlan 10 = .ok (.goto 11, 3) := dk_167 0 11 (dk_at dksX0_movePlan_0 10 rfl rfl)
theorem dX0_movePlan_13 : decode cX0_movePlan 13 = .ok (.astore 4, 2) := dk_58 4 (dk_at dksX0_movePlan_0 13 rfl rfl)
theorem dX0_movePlan_15 : decode cX0_movePlan 15 = .ok (.iconst 1, 1) := dk_4 (dk_at dksX0_movePlan_0 15 rfl rfl)
theorem dX0_movePlan_16 : decode cX0_movePlan 16 = .ok (.ireturn, 1) := dk_172 (dk_at dksX0_movePlan_0 16 rfl rfl)
theorem dX0_movePlan_17 : decode cX0_movePlan 17 = .ok (.astore 4, 2) := dk_58 4 (dk_at dksX0_movePlan_0 17 rfl rfl)
theorem dX0_movePlan_19 : decode cX0_movePlan 19 = .ok (.iconst 2, 1) := dk_5 (dk_at dksX0_movePlan_0 19 rfl rfl)
theorem dX0_movePlan_20 : decode cX0_movePlan 20 = .ok (.ireturn, 1) := dk_172 (dk_at dksX0_movePlan_0 20 rfl rfl)
theorem dX0_movePlan_21 : decode cX0_movePlan 21 = .ok (.iconst 0, 1) := dk_3 (dk_at dksX0_movePlan_0 21 rfl rfl)
theorem dX0_movePlan_22 : decode cX0_movePlan 22 = .ok (.ireturn, 1) := dk_172 (dk_at dksX0_movePlan_0 22 rfl rfl)
abbrev cX0_setPatience : ByteArray := method_26_code
def yX0_setPatience : MethodName := ⟨RX0, "setPatience", "(LMessengerBoard;I[J)I"⟩
def dkwX0_setPatience_0 : List UInt8 := [44, 3, 42, 27, 182, 0, 88, 133, 80, 167, 0, 6, 78, 4, 172, 3, 172]
abbrev dktX0_setPatience_0 : List UInt8 := dkwX0_setPatience_0 ++ []
theorem dksX0_setPatience_0 : cX0_setPatience.data.toList.drop 0 = dktX0_setPatience_0 := by decide +kernel
theorem dX0_setPatience_0 : decode cX0_setPatience 0 = .ok (.aload_n 2, 1) := dk_44 (dk_at dksX0_setPatience_0 0 rfl rfl)
theorem dX0_setPatience_1 : decode cX0_setPatience 1 = .ok (.iconst 0, 1) := dk_3 (dk_at dksX0_setPatience_0 1 rfl rfl)
theorem dX0_setPatience_2 : decode cX0_setPatience 2 = .ok (.aload_n 0, 1) := dk_42 (dk_at dksX0_setPatience_0 2 rfl rfl)
theorem dX0_setPatience_3 : decode cX0_setPatience 3 = .ok (.iload_n 1, 1) := dk_27 (dk_at dksX0_setPatience_0 3 rfl rfl)
theorem dX0_setPatience_4 : decode cX0_setPatience 4 = .ok (.invokevirtual 88, 3) := dk_182 0 88 (dk_at dksX0_setPatience_0 4 rfl rfl)
theorem dX0_setPatience_7 : decode cX0_setPatience 7 = .ok (.i2l, 1) := dk_133 (dk_at dksX0_setPatience_0 7 rfl rfl)
theorem dX0_setPatience_8 : decode cX0_setPatience 8 = .ok (.lastore, 1) := dk_80 (dk_at dksX0_setPatience_0 8 rfl rfl)
theorem dX0_setPatience_9 : decode cX0_setPatience 9 = .ok (.goto 6, 3) := dk_167 0 6 (dk_at dksX0_setPatience_0 9 rfl rfl)
theorem dX0_setPatience_12 : decode cX0_setPatience 12 = .ok (.astore_n 3, 1) := dk_78 (dk_at dksX0_setPatience_0 12 rfl rfl)
theorem dX0_setPatience_13 : decode cX0_setPatience 13 = .ok (.iconst 1, 1) := dk_4 (dk_at dksX0_setPatience_0 13 rfl rfl)
theorem dX0_setPatience_14 : decode cX0_setPatience 14 = .ok (.ireturn, 1) := dk_172 (dk_at dksX0_setPatience_0 14 rfl rfl)
theorem dX0_setPatience_15 : decode cX0_setPatience 15 = .ok (.iconst 0, 1) := dk_3 (dk_at dksX0_setPatience_0 15 rfl rfl)
theorem dX0_setPatience_16 : decode cX0_setPatience 16 = .ok (.ireturn, 1) := dk_172 (dk_at dksX0_setPatience_0 16 rfl rfl)
abbrev cX0_format : ByteArray := method_27_code
def yX0_format : MethodName := ⟨RX0, "format", "(LMessengerBoard;I[J)I"⟩
def dkwX0_format_0 : List UInt8 := [44, 3, 42, 27, 182, 0, 91, 133, 80, 167, 0, 6, 78, 4, 172, 3, 172]
abbrev dktX0_format_0 : List UInt8 := dkwX0_format_0 ++ []
theorem dksX0_format_0 : cX0_format.data.toList.drop 0 = dktX0_format_0 := by decide +kernel
theorem dX0_format_0 : decode cX0_format 0 = .ok (.aload_n 2, 1) := dk_44 (dk_at dksX0_format_0 0 rfl rfl)
theorem dX0_format_1 : decode cX0_format 1 = .ok (.iconst 0, 1) := dk_3 (dk_at dksX0_format_0 1 rfl rfl)
theorem dX0_format_2 : decode cX0_format 2 = .ok (.aload_n 0, 1) := dk_42 (dk_at dksX0_format_0 2 rfl rfl)
theorem dX0_format_3 : decode cX0_format 3 = .ok (.iload_n 1, 1) := dk_27 (dk_at dksX0_format_0 3 rfl rfl)
theorem dX0_format_4 : decode cX0_format 4 = .ok (.invokevirtual 91, 3) := dk_182 0 91 (dk_at dksX0_format_0 4 rfl rfl)
theorem dX0_format_7 : decode cX0_format 7 = .ok (.i2l, 1) := dk_133 (dk_at dksX0_format_0 7 rfl rfl)
theorem dX0_format_8 : decode cX0_format 8 = .ok (.lastore, 1) := dk_80 (dk_at dksX0_format_0 8 rfl rfl)
theorem dX0_format_9 : decode cX0_format 9 = .ok (.goto 6, 3) := dk_167 0 6 (dk_at dksX0_format_0 9 rfl rfl)
theorem dX0_format_12 : decode cX0_format 12 = .ok (.astore_n 3, 1) := dk_78 (dk_at dksX0_format_0 12 rfl rfl)
theorem dX0_format_13 : decode cX0_format 13 = .ok (.iconst 1, 1) := dk_4 (dk_at dksX0_format_0 13 rfl rfl)
theorem dX0_format_14 : decode cX0_format 14 = .ok (.ireturn, 1) := dk_172 (dk_at dksX0_format_0 14 rfl rfl)
theorem dX0_format_15 : decode cX0_format 15 = .ok (.iconst 0, 1) := dk_3 (dk_at dksX0_format_0 15 rfl rfl)
theorem dX0_format_16 : decode cX0_format 16 = .ok (.ireturn, 1) := dk_172 (dk_at dksX0_format_0 16 rfl rfl)
abbrev cX0_query : ByteArray := method_28_code
def yX0_query : MethodName := ⟨RX0, "query", "(LMessengerBoard;I[J)I"⟩
def dkwX0_query_0 : List UInt8 := [44, 3, 42, 27, 182, 0, 94, 133, 80, 167, 0, 6, 78, 4, 172, 3, 172]
abbrev dktX0_query_0 : List UInt8 := dkwX0_query_0 ++ []
theorem dksX0_query_0 : cX0_query.data.toList.drop 0 = dktX0_query_0 := by decide +kernel
theorem dX0_query_0 : decode cX0_query 0 = .ok (.aload_n 2, 1) := dk_44 (dk_at dksX0_query_0 0 rfl rfl)
theorem dX0_query_1 : decode cX0_query 1 = .ok (.iconst 0, 1) := dk_3 (dk_at dksX0_query_0 1 rfl rfl)
theorem dX0_query_2 : decode cX0_query 2 = .ok (.aload_n 0, 1) := dk_42 (dk_at dksX0_query_0 2 rfl rfl)
theorem dX0_query_3 : decode cX0_query 3 = .ok (.iload_n 1, 1) := dk_27 (dk_at dksX0_query_0 3 rfl rfl)
theorem dX0_query_4 : decode cX0_query 4 = .ok (.invokevirtual 94, 3) := dk_182 0 94 (dk_at dksX0_query_0 4 rfl rfl)
theorem dX0_query_7 : decode cX0_query 7 = .ok (.i2l, 1) := dk_133 (dk_at dksX0_query_0 7 rfl rfl)
theorem dX0_query_8 : decode cX0_query 8 = .ok (.lastore, 1) := dk_80 (dk_at dksX0_query_0 8 rfl rfl)
theorem dX0_query_9 : decode cX0_query 9 = .ok (.goto 6, 3) := dk_167 0 6 (dk_at dksX0_query_0 9 rfl rfl)
theorem dX0_query_12 : decode cX0_query 12 = .ok (.astore_n 3, 1) := dk_78 (dk_at dksX0_query_0 12 rfl rfl)
theorem dX0_query_13 : decode cX0_query 13 = .ok (.iconst 1, 1) := dk_4 (dk_at dksX0_query_0 13 rfl rfl)
theorem dX0_query_14 : decode cX0_query 14 = .ok (.ireturn, 1) := dk_172 (dk_at dksX0_query_0 14 rfl rfl)
theorem dX0_query_15 : decode cX0_query 15 = .ok (.iconst 0, 1) := dk_3 (dk_at dksX0_query_0 15 rfl rfl)
theorem dX0_query_16 : decode cX0_query 16 = .ok (.ireturn, 1) := dk_172 (dk_at dksX0_query_0 16 rfl rfl)
theorem q109 : (Jvm.Cond.initialized "MessengerBoardLaw") ∈ lw_all := lw_g (lw_at lw_m1 0 rfl) rfl
theorem q156 : (Jvm.Cond.classLink "MessengerBoardLaw" (8 : Nat) "MessengerBoard") ∈ lw_all := lw_g (lw_at lw_m1 47 rfl) rfl
theorem q158 : (Jvm.Cond.methodLink "MessengerBoardLaw" (97 : Nat) ({ cls := "MessengerBoard", name := "<init>", desc := "()V" } : Jvm.MethodName)) ∈ lw_all := lw_g (lw_at lw_m1 49 rfl) rfl
theorem q329 : (Jvm.Cond.methodLink "MessengerBoardLaw" (101 : Nat) ({ cls := "MessengerBoard", name := "feed", desc := "(IIIII)I" } : Jvm.MethodName)) ∈ lw_all := lw_g (lw_at lw_m1 220 rfl) rfl
theorem q337 : (Jvm.Cond.methodLink "MessengerBoardLaw" (116 : Nat) ({ cls := "MessengerBoard", name := "errorPosition", desc := "()I" } : Jvm.MethodName)) ∈ lw_all := lw_g (lw_at lw_m1 228 rfl) rfl
theorem q341 : (Jvm.Cond.methodLink "MessengerBoardLaw" (162 : Nat) ({ cls := "MessengerBoard", name := "crossed", desc := "()I" } : Jvm.MethodName)) ∈ lw_all := lw_g (lw_at lw_m1 232 rfl) rfl
theorem q375 : (Jvm.Cond.methodLink "MessengerBoardLaw" (178 : Nat) ({ cls := "MessengerBoard", name := "meanDelay", desc := "()D" } : Jvm.MethodName)) ∈ lw_all := lw_g (lw_at lw_m2 26 rfl) rfl
theorem q383 : (Jvm.Cond.methodLink "MessengerBoardLaw" (183 : Nat) ({ cls := "MessengerBoard", name := "success", desc := "()F" } : Jvm.MethodName)) ∈ lw_all := lw_g (lw_at lw_m2 34 rfl) rfl
theorem q395 : (Jvm.Cond.methodLink "MessengerBoardLaw" (213 : Nat) ({ cls := "MessengerBoard", name := "undoCount", desc := "()I" } : Jvm.MethodName)) ∈ lw_all := lw_g (lw_at lw_m2 46 rfl) rfl
theorem q406 : (Jvm.Cond.methodLink "MessengerBoardLaw" (217 : Nat) ({ cls := "MessengerBoard", name := "undo", desc := "()I" } : Jvm.MethodName)) ∈ lw_all := lw_g (lw_at lw_m2 57 rfl) rfl
theorem q492 : (Jvm.Cond.methodLink "MessengerBoardLaw" (221 : Nat) ({ cls := "MessengerBoard", name := "saveSnapshot", desc := "()V" } : Jvm.MethodName)) ∈ lw_all := lw_g (lw_at lw_m2 143 rfl) rfl
theorem q496 : (Jvm.Cond.methodLink "MessengerBoardLaw" (225 : Nat) ({ cls := "MessengerBoard", name := "restoreSnapshot", desc := "()Z" } : Jvm.MethodName)) ∈ lw_all := lw_g (lw_at lw_m2 147 rfl) rfl
theorem q507 : (Jvm.Cond.methodLink "MessengerBoardLaw" (209 : Nat) ({ cls := "MessengerBoard", name := "formattedByte", desc := "(I)I" } : Jvm.MethodName)) ∈ lw_all := lw_g (lw_at lw_m2 158 rfl) rfl
theorem q560 : (Jvm.Cond.methodLink "MessengerBoardLaw" (106 : Nat) ({ cls := "MessengerBoardLaw", name := "load", desc := "(LMessengerBoard;I[J)I" } : Jvm.MethodName)) ∈ lw_all := lw_g (lw_at lw_m2 211 rfl) rfl
theorem q561 : (Jvm.Cond.static ({ cls := "MessengerBoardLaw", name := "load", desc := "(LMessengerBoard;I[J)I" } : Jvm.MethodName)) ∈ lw_all := lw_g (lw_at lw_m2 212 rfl) rfl
theorem q562 : (Jvm.Cond.codeWith ({ cls := "MessengerBoardLaw", name := "load", desc := "(LMessengerBoard;I[J)I" } : Jvm.MethodName) method_3_code (4 : Nat) (Option.some Jvm.ClassFile.FieldType.int) [((0 : Nat), (9 : Nat), (12 : Nat), (13 : Nat))]) ∈ lw_all := lw_g (lw_at lw_m2 213 rfl) rfl
theorem q563 : (Jvm.Cond.classLink "MessengerBoardLaw" (13 : Nat) "java/lang/IllegalArgumentException") ∈ lw_all := lw_g (lw_at lw_m2 214 rfl) rfl
theorem q564 : (Jvm.Cond.methodLink "MessengerBoardLaw" (7 : Nat) ({ cls := "MessengerBoard", name := "load", desc := "(I)I" } : Jvm.MethodName)) ∈ lw_all := lw_g (lw_at lw_m2 215 rfl) rfl
theorem q1289 : (Jvm.Cond.methodLink "MessengerBoardLaw" (120 : Nat) ({ cls := "MessengerBoardLaw", name := "size", desc := "(LMessengerBoard;I[J)I" } : Jvm.MethodName)) ∈ lw_all := lw_g (lw_at lw_m5 220 rfl) rfl
theorem q1290 : (Jvm.Cond.static ({ cls := "MessengerBoardLaw", name := "size", desc := "(LMessengerBoard;I[J)I" } : Jvm.MethodName)) ∈ lw_all := lw_g (lw_at lw_m5 221 rfl) rfl
theorem q1291 : (Jvm.Cond.codeWith ({ cls := "MessengerBoardLaw", name := "size", desc := "(LMessengerBoard;I[J)I" } : Jvm.MethodName) method_4_code (4 : Nat) (Option.some Jvm.ClassFile.FieldType.int) [((0 : Nat), (9 : Nat), (12 : Nat), (18 : Nat))]) ∈ lw_all := lw_g (lw_at lw_m5 222 rfl) rfl
theorem q1292 : (Jvm.Cond.classLink "MessengerBoardLaw" (18 : Nat) "java/util/NoSuchElementException") ∈ lw_all := lw_g (lw_at lw_m5 223 rfl) rfl
theorem q1293 : (Jvm.Cond.methodLink "MessengerBoardLaw" (15 : Nat) ({ cls := "MessengerBoard", name := "size", desc := "(I)I" } : Jvm.MethodName)) ∈ lw_all := lw_g (lw_at lw_m5 224 rfl) rfl
theorem q1307 : (Jvm.Cond.methodLink "MessengerBoardLaw" (123 : Nat) ({ cls := "MessengerBoardLaw", name := "unit", desc := "(LMessengerBoard;II[J)I" } : Jvm.MethodName)) ∈ lw_all := lw_g (lw_at lw_m5 238 rfl) rfl
theorem q1308 : (Jvm.Cond.static ({ cls := "MessengerBoardLaw", name := "unit", desc := "(LMessengerBoard;II[J)I" } : Jvm.MethodName)) ∈ lw_all := lw_g (lw_at lw_m5 239 rfl) rfl
theorem q1309 : (Jvm.Cond.codeWith ({ cls := "MessengerBoardLaw", name := "unit", desc := "(LMessengerBoard;II[J)I" } : Jvm.MethodName) method_5_code (5 : Nat) (Option.some Jvm.ClassFile.FieldType.int) [((0 : Nat), (10 : Nat), (13 : Nat), (18 : Nat))]) ∈ lw_all := lw_g (lw_at lw_m6 0 rfl) rfl
theorem q1310 : (Jvm.Cond.methodLink "MessengerBoardLaw" (20 : Nat) ({ cls := "MessengerBoard", name := "unit", desc := "(II)I" } : Jvm.MethodName)) ∈ lw_all := lw_g (lw_at lw_m6 1 rfl) rfl
theorem q1371 : (Jvm.Cond.methodLink "MessengerBoardLaw" (127 : Nat) ({ cls := "MessengerBoardLaw", name := "picket", desc := "(LMessengerBoard;II[J)I" } : Jvm.MethodName)) ∈ lw_all := lw_g (lw_at lw_m6 62 rfl) rfl
theorem q1372 : (Jvm.Cond.static ({ cls := "MessengerBoardLaw", name := "picket", desc := "(LMessengerBoard;II[J)I" } : Jvm.MethodName)) ∈ lw_all := lw_g (lw_at lw_m6 63 rfl) rfl
theorem q1373 : (Jvm.Cond.codeWith ({ cls := "MessengerBoardLaw", name := "picket", desc := "(LMessengerBoard;II[J)I" } : Jvm.MethodName) method_6_code (5 : Nat) (Option.some Jvm.ClassFile.FieldType.int) [((0 : Nat), (10 : Nat), (13 : Nat), (18 : Nat))]) ∈ lw_all := lw_g (lw_at lw_m6 64 rfl) rfl
theorem q1374 : (Jvm.Cond.methodLink "MessengerBoardLaw" (24 : Nat) ({ cls := "MessengerBoard", name := "picket", desc := "(II)I" } : Jvm.MethodName)) ∈ lw_all := lw_g (lw_at lw_m6 65 rfl) rfl
theorem q1390 : (Jvm.Cond.methodLink "MessengerBoardLaw" (130 : Nat) ({ cls := "MessengerBoardLaw", name := "order", desc := "(LMessengerBoard;II[J)I" } : Jvm.MethodName)) ∈ lw_all := lw_g (lw_at lw_m6 81 rfl) rfl
theorem q1391 : (Jvm.Cond.static ({ cls := "MessengerBoardLaw", name := "order", desc := "(LMessengerBoard;II[J)I" } : Jvm.MethodName)) ∈ lw_all := lw_g (lw_at lw_m6 82 rfl) rfl
theorem q1392 : (Jvm.Cond.codeWith ({ cls := "MessengerBoardLaw", name := "order", desc := "(LMessengerBoard;II[J)I" } : Jvm.MethodName) method_7_code (5 : Nat) (Option.some Jvm.ClassFile.FieldType.int) [((0 : Nat), (10 : Nat), (13 : Nat), (18 : Nat))]) ∈ lw_all := lw_g (lw_at lw_m6 83 rfl) rfl
theorem q1393 : (Jvm.Cond.methodLink "MessengerBoardLaw" (27 : Nat) ({ cls := "MessengerBoard", name := "order", desc := "(II)I" } : Jvm.MethodName)) ∈ lw_all := lw_g (lw_at lw_m6 84 rfl) rfl
theorem q1402 : (Jvm.Cond.methodLink "MessengerBoardLaw" (133 : Nat) ({ cls := "MessengerBoardLaw", name := "plan", desc := "(LMessengerBoard;II[J)I" } : Jvm.MethodName)) ∈ lw_all := lw_g (lw_at lw_m6 93 rfl) rfl
theorem q1403 : (Jvm.Cond.static ({ cls := "MessengerBoardLaw", name := "plan", desc := "(LMessengerBoard;II[J)I" } : Jvm.MethodName)) ∈ lw_all := lw_g (lw_at lw_m6 94 rfl) rfl
theorem q1404 : (Jvm.Cond.codeWith ({ cls := "MessengerBoardLaw", name := "plan", desc := "(LMessengerBoard;II[J)I" } : Jvm.MethodName) method_8_code (5 : Nat) (Option.some Jvm.ClassFile.FieldType.int) [((0 : Nat), (10 : Nat), (13 : Nat), (18 : Nat))]) ∈ lw_all := lw_g (lw_at lw_m6 95 rfl) rfl
theorem q1405 : (Jvm.Cond.methodLink "MessengerBoardLaw" (30 : Nat) ({ cls := "MessengerBoard", name := "plan", desc := "(II)I" } : Jvm.MethodName)) ∈ lw_all := lw_g (lw_at lw_m6 96 rfl) rfl
theorem q1415 : (Jvm.Cond.methodLink "MessengerBoardLaw" (136 : Nat) ({ cls := "MessengerBoardLaw", name := "event", desc := "(LMessengerBoard;II[J)I" } : Jvm.MethodName)) ∈ lw_all := lw_g (lw_at lw_m6 106 rfl) rfl
theorem q1416 : (Jvm.Cond.static ({ cls := "MessengerBoardLaw", name := "event", desc := "(LMessengerBoard;II[J)I" } : Jvm.MethodName)) ∈ lw_all := lw_g (lw_at lw_m6 107 rfl) rfl
theorem q1417 : (Jvm.Cond.codeWith ({ cls := "MessengerBoardLaw", name := "event", desc := "(LMessengerBoard;II[J)I" } : Jvm.MethodName) method_9_code (5 : Nat) (Option.some Jvm.ClassFile.FieldType.int) [((0 : Nat), (10 : Nat), (13 : Nat), (18 : Nat))]) ∈ lw_all := lw_g (lw_at lw_m6 108 rfl) rfl
theorem q1418 : (Jvm.Cond.methodLink "MessengerBoardLaw" (33 : Nat) ({ cls := "MessengerBoard", name := "event", desc := "(II)I" } : Jvm.MethodName)) ∈ lw_all := lw_g (lw_at lw_m6 109 rfl) rfl
theorem q1424 : (Jvm.Cond.methodLink "MessengerBoardLaw" (139 : Nat) ({ cls := "MessengerBoardLaw", name := "orders", desc := "(LMessengerBoard;I[J)I" } : Jvm.MethodName)) ∈ lw_all := lw_g (lw_at lw_m6 115 rfl) rfl
theorem q1425 : (Jvm.Cond.static ({ cls := "MessengerBoardLaw", name := "orders", desc := "(LMessengerBoard;I[J)I" } : Jvm.MethodName)) ∈ lw_all := lw_g (lw_at lw_m6 116 rfl) rfl
theorem q1426 : (Jvm.Cond.codeWith ({ cls := "MessengerBoardLaw", name := "orders", desc := "(LMessengerBoard;I[J)I" } : Jvm.MethodName) method_10_code (4 : Nat) (Option.some Jvm.ClassFile.FieldType.int) [((0 : Nat), (9 : Nat), (12 : Nat), (13 : Nat))]) ∈ lw_all := lw_g (lw_at lw_m6 117 rfl) rfl
theorem q1427 : (Jvm.Cond.methodLink "MessengerBoardLaw" (36 : Nat) ({ cls := "MessengerBoard", name := "orders", desc := "(I)I" } : Jvm.MethodName)) ∈ lw_all := lw_g (lw_at lw_m6 118 rfl) rfl
theorem q1432 : (Jvm.Cond.methodLink "MessengerBoardLaw" (142 : Nat) ({ cls := "MessengerBoardLaw", name := "isWall", desc := "(LMessengerBoard;II[J)I" } : Jvm.MethodName)) ∈ lw_all := lw_g (lw_at lw_m6 123 rfl) rfl
theorem q1433 : (Jvm.Cond.static ({ cls := "MessengerBoardLaw", name := "isWall", desc := "(LMessengerBoard;II[J)I" } : Jvm.MethodName)) ∈ lw_all := lw_g (lw_at lw_m6 124 rfl) rfl
theorem q1434 : (Jvm.Cond.codeWith ({ cls := "MessengerBoardLaw", name := "isWall", desc := "(LMessengerBoard;II[J)I" } : Jvm.MethodName) method_11_code (5 : Nat) (Option.some Jvm.ClassFile.FieldType.int) [((0 : Nat), (17 : Nat), (20 : Nat), (18 : Nat))]) ∈ lw_all := lw_g (lw_at lw_m6 125 rfl) rfl
theorem q1435 : (Jvm.Cond.methodLink "MessengerBoardLaw" (39 : Nat) ({ cls := "MessengerBoard", name := "isWall", desc := "(II)Z" } : Jvm.MethodName)) ∈ lw_all := lw_g (lw_at lw_m6 126 rfl) rfl
theorem q1449 : (Jvm.Cond.methodLink "MessengerBoardLaw" (145 : Nat) ({ cls := "MessengerBoardLaw", name := "isWatched", desc := "(LMessengerBoard;III[J)I" } : Jvm.MethodName)) ∈ lw_all := lw_g (lw_at lw_m6 140 rfl) rfl
theorem q1450 : (Jvm.Cond.static ({ cls := "MessengerBoardLaw", name := "isWatched", desc := "(LMessengerBoard;III[J)I" } : Jvm.MethodName)) ∈ lw_all := lw_g (lw_at lw_m6 141 rfl) rfl
theorem q1451 : (Jvm.Cond.codeWith ({ cls := "MessengerBoardLaw", name := "isWatched", desc := "(LMessengerBoard;III[J)I" } : Jvm.MethodName) method_12_code (6 : Nat) (Option.some Jvm.ClassFile.FieldType.int) [((0 : Nat), (19 : Nat), (22 : Nat), (18 : Nat)), ((0 : Nat), (19 : Nat), (26 : Nat), (13 : Nat))]) ∈ lw_all := lw_g (lw_at lw_m6 142 rfl) rfl
theorem q1452 : (Jvm.Cond.methodLink "MessengerBoardLaw" (43 : Nat) ({ cls := "MessengerBoard", name := "isWatched", desc := "(III)Z" } : Jvm.MethodName)) ∈ lw_all := lw_g (lw_at lw_m6 143 rfl) rfl
theorem q1469 : (Jvm.Cond.methodLink "MessengerBoardLaw" (149 : Nat) ({ cls := "MessengerBoardLaw", name := "distance", desc := "(LMessengerBoard;IIII[J)I" } : Jvm.MethodName)) ∈ lw_all := lw_g (lw_at lw_m6 160 rfl) rfl
theorem q1470 : (Jvm.Cond.static ({ cls := "MessengerBoardLaw", name := "distance", desc := "(LMessengerBoard;IIII[J)I" } : Jvm.MethodName)) ∈ lw_all := lw_g (lw_at lw_m6 161 rfl) rfl
theorem q1471 : (Jvm.Cond.codeWith ({ cls := "MessengerBoardLaw", name := "distance", desc := "(LMessengerBoard;IIII[J)I" } : Jvm.MethodName) method_13_code (7 : Nat) (Option.some Jvm.ClassFile.FieldType.int) [((0 : Nat), (14 : Nat), (17 : Nat), (18 : Nat))]) ∈ lw_all := lw_g (lw_at lw_m6 162 rfl) rfl
theorem q1472 : (Jvm.Cond.methodLink "MessengerBoardLaw" (47 : Nat) ({ cls := "MessengerBoard", name := "distance", desc := "(IIII)I" } : Jvm.MethodName)) ∈ lw_all := lw_g (lw_at lw_m6 163 rfl) rfl
theorem q1494 : (Jvm.Cond.methodLink "MessengerBoardLaw" (153 : Nat) ({ cls := "MessengerBoardLaw", name := "step", desc := "(LMessengerBoard;IIII[J)I" } : Jvm.MethodName)) ∈ lw_all := lw_g (lw_at lw_m6 185 rfl) rfl
theorem q1495 : (Jvm.Cond.static ({ cls := "MessengerBoardLaw", name := "step", desc := "(LMessengerBoard;IIII[J)I" } : Jvm.MethodName)) ∈ lw_all := lw_g (lw_at lw_m6 186 rfl) rfl
theorem q1496 : (Jvm.Cond.codeWith ({ cls := "MessengerBoardLaw", name := "step", desc := "(LMessengerBoard;IIII[J)I" } : Jvm.MethodName) method_14_code (7 : Nat) (Option.some Jvm.ClassFile.FieldType.int) [((0 : Nat), (14 : Nat), (17 : Nat), (18 : Nat))]) ∈ lw_all := lw_g (lw_at lw_m6 187 rfl) rfl
theorem q1497 : (Jvm.Cond.methodLink "MessengerBoardLaw" (51 : Nat) ({ cls := "MessengerBoard", name := "step", desc := "(IIII)I" } : Jvm.MethodName)) ∈ lw_all := lw_g (lw_at lw_m6 188 rfl) rfl
theorem q1509 : (Jvm.Cond.methodLink "MessengerBoardLaw" (156 : Nat) ({ cls := "MessengerBoardLaw", name := "wasAt", desc := "(LMessengerBoard;II[J)I" } : Jvm.MethodName)) ∈ lw_all := lw_g (lw_at lw_m6 200 rfl) rfl
theorem q1510 : (Jvm.Cond.static ({ cls := "MessengerBoardLaw", name := "wasAt", desc := "(LMessengerBoard;II[J)I" } : Jvm.MethodName)) ∈ lw_all := lw_g (lw_at lw_m6 201 rfl) rfl
theorem q1511 : (Jvm.Cond.codeWith ({ cls := "MessengerBoardLaw", name := "wasAt", desc := "(LMessengerBoard;II[J)I" } : Jvm.MethodName) method_15_code (5 : Nat) (Option.some Jvm.ClassFile.FieldType.int) [((0 : Nat), (10 : Nat), (13 : Nat), (18 : Nat)), ((0 : Nat), (10 : Nat), (17 : Nat), (13 : Nat))]) ∈ lw_all := lw_g (lw_at lw_m6 202 rfl) rfl
theorem q1512 : (Jvm.Cond.methodLink "MessengerBoardLaw" (54 : Nat) ({ cls := "MessengerBoard", name := "wasAt", desc := "(II)I" } : Jvm.MethodName)) ∈ lw_all := lw_g (lw_at lw_m6 203 rfl) rfl
theorem q1517 : (Jvm.Cond.methodLink "MessengerBoardLaw" (159 : Nat) ({ cls := "MessengerBoardLaw", name := "stateAt", desc := "(LMessengerBoard;II[J)I" } : Jvm.MethodName)) ∈ lw_all := lw_g (lw_at lw_m6 208 rfl) rfl
theorem q1518 : (Jvm.Cond.static ({ cls := "MessengerBoardLaw", name := "stateAt", desc := "(LMessengerBoard;II[J)I" } : Jvm.MethodName)) ∈ lw_all := lw_g (lw_at lw_m6 209 rfl) rfl
theorem q1519 : (Jvm.Cond.codeWith ({ cls := "MessengerBoardLaw", name := "stateAt", desc := "(LMessengerBoard;II[J)I" } : Jvm.MethodName) method_16_code (5 : Nat) (Option.some Jvm.ClassFile.FieldType.int) [((0 : Nat), (10 : Nat), (13 : Nat), (18 : Nat)), ((0 : Nat), (10 : Nat), (17 : Nat), (13 : Nat))]) ∈ lw_all := lw_g (lw_at lw_m6 210 rfl) rfl
theorem q1520 : (Jvm.Cond.methodLink "MessengerBoardLaw" (57 : Nat) ({ cls := "MessengerBoard", name := "stateAt", desc := "(II)I" } : Jvm.MethodName)) ∈ lw_all := lw_g (lw_at lw_m6 211 rfl) rfl
theorem q1524 : (Jvm.Cond.methodLink "MessengerBoardLaw" (166 : Nat) ({ cls := "MessengerBoardLaw", name := "wouldBe", desc := "(LMessengerBoard;IIII[J)I" } : Jvm.MethodName)) ∈ lw_all := lw_g (lw_at lw_m6 215 rfl) rfl
theorem q1525 : (Jvm.Cond.static ({ cls := "MessengerBoardLaw", name := "wouldBe", desc := "(LMessengerBoard;IIII[J)I" } : Jvm.MethodName)) ∈ lw_all := lw_g (lw_at lw_m6 216 rfl) rfl
theorem q1526 : (Jvm.Cond.codeWith ({ cls := "MessengerBoardLaw", name := "wouldBe", desc := "(LMessengerBoard;IIII[J)I" } : Jvm.MethodName) method_17_code (7 : Nat) (Option.some Jvm.ClassFile.FieldType.int) [((0 : Nat), (14 : Nat), (17 : Nat), (18 : Nat)), ((0 : Nat), (14 : Nat), (21 : Nat), (13 : Nat))]) ∈ lw_all := lw_g (lw_at lw_m6 217 rfl) rfl
theorem q1527 : (Jvm.Cond.methodLink "MessengerBoardLaw" (60 : Nat) ({ cls := "MessengerBoard", name := "wouldBe", desc := "(IIII)I" } : Jvm.MethodName)) ∈ lw_all := lw_g (lw_at lw_m6 218 rfl) rfl
theorem q1752 : (Jvm.Cond.methodLink "MessengerBoardLaw" (169 : Nat) ({ cls := "MessengerBoardLaw", name := "wouldArrive", desc := "(LMessengerBoard;III[J)I" } : Jvm.MethodName)) ∈ lw_all := lw_g (lw_at lw_m7 203 rfl) rfl
theorem q1753 : (Jvm.Cond.static ({ cls := "MessengerBoardLaw", name := "wouldArrive", desc := "(LMessengerBoard;III[J)I" } : Jvm.MethodName)) ∈ lw_all := lw_g (lw_at lw_m7 204 rfl) rfl
theorem q1754 : (Jvm.Cond.codeWith ({ cls := "MessengerBoardLaw", name := "wouldArrive", desc := "(LMessengerBoard;III[J)I" } : Jvm.MethodName) method_18_code (6 : Nat) (Option.some Jvm.ClassFile.FieldType.int) [((0 : Nat), (12 : Nat), (15 : Nat), (18 : Nat)), ((0 : Nat), (12 : Nat), (19 : Nat), (13 : Nat))]) ∈ lw_all := lw_g (lw_at lw_m7 205 rfl) rfl
theorem q1755 : (Jvm.Cond.methodLink "MessengerBoardLaw" (63 : Nat) ({ cls := "MessengerBoard", name := "wouldArrive", desc := "(III)I" } : Jvm.MethodName)) ∈ lw_all := lw_g (lw_at lw_m7 206 rfl) rfl
theorem q1786 : (Jvm.Cond.methodLink "MessengerBoardLaw" (172 : Nat) ({ cls := "MessengerBoardLaw", name := "bestDelay", desc := "(LMessengerBoard;III[J)I" } : Jvm.MethodName)) ∈ lw_all := lw_g (lw_at lw_m7 237 rfl) rfl
theorem q1787 : (Jvm.Cond.static ({ cls := "MessengerBoardLaw", name := "bestDelay", desc := "(LMessengerBoard;III[J)I" } : Jvm.MethodName)) ∈ lw_all := lw_g (lw_at lw_m7 238 rfl) rfl
theorem q1788 : (Jvm.Cond.codeWith ({ cls := "MessengerBoardLaw", name := "bestDelay", desc := "(LMessengerBoard;III[J)I" } : Jvm.MethodName) method_19_code (6 : Nat) (Option.some Jvm.ClassFile.FieldType.int) [((0 : Nat), (12 : Nat), (15 : Nat), (18 : Nat)), ((0 : Nat), (12 : Nat), (19 : Nat), (13 : Nat))]) ∈ lw_all := lw_g (lw_at lw_m7 239 rfl) rfl
theorem q1789 : (Jvm.Cond.methodLink "MessengerBoardLaw" (67 : Nat) ({ cls := "MessengerBoard", name := "bestDelay", desc := "(III)I" } : Jvm.MethodName)) ∈ lw_all := lw_g (lw_at lw_m8 0 rfl) rfl
theorem q1793 : (Jvm.Cond.methodLink "MessengerBoardLaw" (175 : Nat) ({ cls := "MessengerBoardLaw", name := "failing", desc := "(LMessengerBoard;I[J)I" } : Jvm.MethodName)) ∈ lw_all := lw_g (lw_at lw_m8 4 rfl) rfl
theorem q1794 : (Jvm.Cond.static ({ cls := "MessengerBoardLaw", name := "failing", desc := "(LMessengerBoard;I[J)I" } : Jvm.MethodName)) ∈ lw_all := lw_g (lw_at lw_m8 5 rfl) rfl
theorem q1795 : (Jvm.Cond.codeWith ({ cls := "MessengerBoardLaw", name := "failing", desc := "(LMessengerBoard;I[J)I" } : Jvm.MethodName) method_20_code (4 : Nat) (Option.some Jvm.ClassFile.FieldType.int) [((0 : Nat), (9 : Nat), (12 : Nat), (13 : Nat))]) ∈ lw_all := lw_g (lw_at lw_m8 6 rfl) rfl
theorem q1796 : (Jvm.Cond.methodLink "MessengerBoardLaw" (70 : Nat) ({ cls := "MessengerBoard", name := "failing", desc := "(I)I" } : Jvm.MethodName)) ∈ lw_all := lw_g (lw_at lw_m8 7 rfl) rfl
theorem q1814 : (Jvm.Cond.methodLink "MessengerBoardLaw" (188 : Nat) ({ cls := "MessengerBoardLaw", name := "pass", desc := "(LMessengerBoard;I[J)I" } : Jvm.MethodName)) ∈ lw_all := lw_g (lw_at lw_m8 25 rfl) rfl
theorem q1815 : (Jvm.Cond.static ({ cls := "MessengerBoardLaw", name := "pass", desc := "(LMessengerBoard;I[J)I" } : Jvm.MethodName)) ∈ lw_all := lw_g (lw_at lw_m8 26 rfl) rfl
theorem q1816 : (Jvm.Cond.codeWith ({ cls := "MessengerBoardLaw", name := "pass", desc := "(LMessengerBoard;I[J)I" } : Jvm.MethodName) method_21_code (4 : Nat) (Option.some Jvm.ClassFile.FieldType.int) [((0 : Nat), (9 : Nat), (12 : Nat), (13 : Nat))]) ∈ lw_all := lw_g (lw_at lw_m8 27 rfl) rfl
theorem q1817 : (Jvm.Cond.methodLink "MessengerBoardLaw" (73 : Nat) ({ cls := "MessengerBoard", name := "pass", desc := "(I)I" } : Jvm.MethodName)) ∈ lw_all := lw_g (lw_at lw_m8 28 rfl) rfl
theorem q1854 : (Jvm.Cond.methodLink "MessengerBoardLaw" (191 : Nat) ({ cls := "MessengerBoardLaw", name := "send", desc := "(LMessengerBoard;III[J)I" } : Jvm.MethodName)) ∈ lw_all := lw_g (lw_at lw_m8 65 rfl) rfl
theorem q1855 : (Jvm.Cond.static ({ cls := "MessengerBoardLaw", name := "send", desc := "(LMessengerBoard;III[J)I" } : Jvm.MethodName)) ∈ lw_all := lw_g (lw_at lw_m8 66 rfl) rfl
theorem q1856 : (Jvm.Cond.codeWith ({ cls := "MessengerBoardLaw", name := "send", desc := "(LMessengerBoard;III[J)I" } : Jvm.MethodName) method_22_code (6 : Nat) (Option.some Jvm.ClassFile.FieldType.int) [((0 : Nat), (12 : Nat), (15 : Nat), (18 : Nat)), ((0 : Nat), (12 : Nat), (19 : Nat), (13 : Nat))]) ∈ lw_all := lw_g (lw_at lw_m8 67 rfl) rfl
theorem q1857 : (Jvm.Cond.methodLink "MessengerBoardLaw" (76 : Nat) ({ cls := "MessengerBoard", name := "send", desc := "(III)I" } : Jvm.MethodName)) ∈ lw_all := lw_g (lw_at lw_m8 68 rfl) rfl
theorem q1862 : (Jvm.Cond.methodLink "MessengerBoardLaw" (194 : Nat) ({ cls := "MessengerBoardLaw", name := "wall", desc := "(LMessengerBoard;II[J)I" } : Jvm.MethodName)) ∈ lw_all := lw_g (lw_at lw_m8 73 rfl) rfl
theorem q1863 : (Jvm.Cond.static ({ cls := "MessengerBoardLaw", name := "wall", desc := "(LMessengerBoard;II[J)I" } : Jvm.MethodName)) ∈ lw_all := lw_g (lw_at lw_m8 74 rfl) rfl
theorem q1864 : (Jvm.Cond.codeWith ({ cls := "MessengerBoardLaw", name := "wall", desc := "(LMessengerBoard;II[J)I" } : Jvm.MethodName) method_23_code (5 : Nat) (Option.some Jvm.ClassFile.FieldType.int) [((0 : Nat), (10 : Nat), (13 : Nat), (18 : Nat))]) ∈ lw_all := lw_g (lw_at lw_m8 75 rfl) rfl
theorem q1865 : (Jvm.Cond.methodLink "MessengerBoardLaw" (79 : Nat) ({ cls := "MessengerBoard", name := "wall", desc := "(II)I" } : Jvm.MethodName)) ∈ lw_all := lw_g (lw_at lw_m8 76 rfl) rfl
theorem q1878 : (Jvm.Cond.methodLink "MessengerBoardLaw" (197 : Nat) ({ cls := "MessengerBoardLaw", name := "movePicket", desc := "(LMessengerBoard;III[J)I" } : Jvm.MethodName)) ∈ lw_all := lw_g (lw_at lw_m8 89 rfl) rfl
theorem q1879 : (Jvm.Cond.static ({ cls := "MessengerBoardLaw", name := "movePicket", desc := "(LMessengerBoard;III[J)I" } : Jvm.MethodName)) ∈ lw_all := lw_g (lw_at lw_m8 90 rfl) rfl
theorem q1880 : (Jvm.Cond.codeWith ({ cls := "MessengerBoardLaw", name := "movePicket", desc := "(LMessengerBoard;III[J)I" } : Jvm.MethodName) method_24_code (6 : Nat) (Option.some Jvm.ClassFile.FieldType.int) [((0 : Nat), (12 : Nat), (15 : Nat), (18 : Nat))]) ∈ lw_all := lw_g (lw_at lw_m8 91 rfl) rfl
theorem q1881 : (Jvm.Cond.methodLink "MessengerBoardLaw" (82 : Nat) ({ cls := "MessengerBoard", name := "movePicket", desc := "(III)I" } : Jvm.MethodName)) ∈ lw_all := lw_g (lw_at lw_m8 92 rfl) rfl
theorem q1886 : (Jvm.Cond.methodLink "MessengerBoardLaw" (200 : Nat) ({ cls := "MessengerBoardLaw", name := "movePlan", desc := "(LMessengerBoard;II[J)I" } : Jvm.MethodName)) ∈ lw_all := lw_g (lw_at lw_m8 97 rfl) rfl
theorem q1887 : (Jvm.Cond.static ({ cls := "MessengerBoardLaw", name := "movePlan", desc := "(LMessengerBoard;II[J)I" } : Jvm.MethodName)) ∈ lw_all := lw_g (lw_at lw_m8 98 rfl) rfl
theorem q1888 : (Jvm.Cond.codeWith ({ cls := "MessengerBoardLaw", name := "movePlan", desc := "(LMessengerBoard;II[J)I" } : Jvm.MethodName) method_25_code (5 : Nat) (Option.some Jvm.ClassFile.FieldType.int) [((0 : Nat), (10 : Nat), (13 : Nat), (18 : Nat)), ((0 : Nat), (10 : Nat), (17 : Nat), (13 : Nat))]) ∈ lw_all := lw_g (lw_at lw_m8 99 rfl) rfl
theorem q1889 : (Jvm.Cond.methodLink "MessengerBoardLaw" (85 : Nat) ({ cls := "MessengerBoard", name := "movePlan", desc := "(II)I" } : Jvm.MethodName)) ∈ lw_all := lw_g (lw_at lw_m8 100 rfl) rfl
theorem q1904 : (Jvm.Cond.methodLink "MessengerBoardLaw" (203 : Nat) ({ cls := "MessengerBoardLaw", name := "setPatience", desc := "(LMessengerBoard;I[J)I" } : Jvm.MethodName)) ∈ lw_all := lw_g (lw_at lw_m8 115 rfl) rfl
theorem q1905 : (Jvm.Cond.static ({ cls := "MessengerBoardLaw", name := "setPatience", desc := "(LMessengerBoard;I[J)I" } : Jvm.MethodName)) ∈ lw_all := lw_g (lw_at lw_m8 116 rfl) rfl
theorem q1906 : (Jvm.Cond.codeWith ({ cls := "MessengerBoardLaw", name := "setPatience", desc := "(LMessengerBoard;I[J)I" } : Jvm.MethodName) method_26_code (4 : Nat) (Option.some Jvm.ClassFile.FieldType.int) [((0 : Nat), (9 : Nat), (12 : Nat), (13 : Nat))]) ∈ lw_all := lw_g (lw_at lw_m8 117 rfl) rfl
theorem q1907 : (Jvm.Cond.methodLink "MessengerBoardLaw" (88 : Nat) ({ cls := "MessengerBoard", name := "setPatience", desc := "(I)I" } : Jvm.MethodName)) ∈ lw_all := lw_g (lw_at lw_m8 118 rfl) rfl
theorem q1912 : (Jvm.Cond.methodLink "MessengerBoardLaw" (206 : Nat) ({ cls := "MessengerBoardLaw", name := "format", desc := "(LMessengerBoard;I[J)I" } : Jvm.MethodName)) ∈ lw_all := lw_g (lw_at lw_m8 123 rfl) rfl
theorem q1913 : (Jvm.Cond.static ({ cls := "MessengerBoardLaw", name := "format", desc := "(LMessengerBoard;I[J)I" } : Jvm.MethodName)) ∈ lw_all := lw_g (lw_at lw_m8 124 rfl) rfl
theorem q1914 : (Jvm.Cond.codeWith ({ cls := "MessengerBoardLaw", name := "format", desc := "(LMessengerBoard;I[J)I" } : Jvm.MethodName) method_27_code (4 : Nat) (Option.some Jvm.ClassFile.FieldType.int) [((0 : Nat), (9 : Nat), (12 : Nat), (18 : Nat))]) ∈ lw_all := lw_g (lw_at lw_m8 125 rfl) rfl
theorem q1915 : (Jvm.Cond.methodLink "MessengerBoardLaw" (91 : Nat) ({ cls := "MessengerBoard", name := "format", desc := "(I)I" } : Jvm.MethodName)) ∈ lw_all := lw_g (lw_at lw_m8 126 rfl) rfl
theorem q1927 : (Jvm.Cond.methodLink "MessengerBoardLaw" (230 : Nat) ({ cls := "MessengerBoardLaw", name := "query", desc := "(LMessengerBoard;I[J)I" } : Jvm.MethodName)) ∈ lw_all := lw_g (lw_at lw_m8 138 rfl) rfl
theorem q1928 : (Jvm.Cond.static ({ cls := "MessengerBoardLaw", name := "query", desc := "(LMessengerBoard;I[J)I" } : Jvm.MethodName)) ∈ lw_all := lw_g (lw_at lw_m8 139 rfl) rfl
theorem q1929 : (Jvm.Cond.codeWith ({ cls := "MessengerBoardLaw", name := "query", desc := "(LMessengerBoard;I[J)I" } : Jvm.MethodName) method_28_code (4 : Nat) (Option.some Jvm.ClassFile.FieldType.int) [((0 : Nat), (9 : Nat), (12 : Nat), (13 : Nat))]) ∈ lw_all := lw_g (lw_at lw_m8 140 rfl) rfl
theorem q1930 : (Jvm.Cond.methodLink "MessengerBoardLaw" (94 : Nat) ({ cls := "MessengerBoard", name := "query", desc := "(I)I" } : Jvm.MethodName)) ∈ lw_all := lw_g (lw_at lw_m8 141 rfl) rfl
theorem q2104 : (Jvm.Cond.classLink "MessengerBoardLaw" (98 : Nat) "MessengerBoardModel") ∈ lw_all := lw_g (lw_at lw_m9 75 rfl) rfl
theorem q2106 : (Jvm.Cond.methodLink "MessengerBoardLaw" (100 : Nat) ({ cls := "MessengerBoardModel", name := "<init>", desc := "()V" } : Jvm.MethodName)) ∈ lw_all := lw_g (lw_at lw_m9 77 rfl) rfl
theorem q2211 : (Jvm.Cond.methodLink "MessengerBoardLaw" (112 : Nat) ({ cls := "MessengerBoardModel", name := "thrown", desc := "()I" } : Jvm.MethodName)) ∈ lw_all := lw_g (lw_at lw_m9 182 rfl) rfl
theorem q2215 : (Jvm.Cond.methodLink "MessengerBoardLaw" (122 : Nat) ({ cls := "MessengerBoardModel", name := "size", desc := "(I)I" } : Jvm.MethodName)) ∈ lw_all := lw_g (lw_at lw_m9 186 rfl) rfl
theorem q2226 : (Jvm.Cond.methodLink "MessengerBoardLaw" (126 : Nat) ({ cls := "MessengerBoardModel", name := "unit", desc := "(II)I" } : Jvm.MethodName)) ∈ lw_all := lw_g (lw_at lw_m9 197 rfl) rfl
theorem q2256 : (Jvm.Cond.methodLink "MessengerBoardLaw" (129 : Nat) ({ cls := "MessengerBoardModel", name := "picket", desc := "(II)I" } : Jvm.MethodName)) ∈ lw_all := lw_g (lw_at lw_m9 227 rfl) rfl
theorem q2279 : (Jvm.Cond.methodLink "MessengerBoardLaw" (132 : Nat) ({ cls := "MessengerBoardModel", name := "order", desc := "(II)I" } : Jvm.MethodName)) ∈ lw_all := lw_g (lw_at lw_m10 10 rfl) rfl
theorem q2287 : (Jvm.Cond.methodLink "MessengerBoardLaw" (135 : Nat) ({ cls := "MessengerBoardModel", name := "plan", desc := "(II)I" } : Jvm.MethodName)) ∈ lw_all := lw_g (lw_at lw_m10 18 rfl) rfl
theorem q2298 : (Jvm.Cond.methodLink "MessengerBoardLaw" (138 : Nat) ({ cls := "MessengerBoardModel", name := "event", desc := "(II)I" } : Jvm.MethodName)) ∈ lw_all := lw_g (lw_at lw_m10 29 rfl) rfl
theorem q2302 : (Jvm.Cond.methodLink "MessengerBoardLaw" (141 : Nat) ({ cls := "MessengerBoardModel", name := "orders", desc := "(I)I" } : Jvm.MethodName)) ∈ lw_all := lw_g (lw_at lw_m10 33 rfl) rfl
theorem q2310 : (Jvm.Cond.methodLink "MessengerBoardLaw" (144 : Nat) ({ cls := "MessengerBoardModel", name := "isWall", desc := "(II)Z" } : Jvm.MethodName)) ∈ lw_all := lw_g (lw_at lw_m10 41 rfl) rfl
theorem q2325 : (Jvm.Cond.methodLink "MessengerBoardLaw" (148 : Nat) ({ cls := "MessengerBoardModel", name := "isWatched", desc := "(III)Z" } : Jvm.MethodName)) ∈ lw_all := lw_g (lw_at lw_m10 56 rfl) rfl
theorem q2338 : (Jvm.Cond.methodLink "MessengerBoardLaw" (152 : Nat) ({ cls := "MessengerBoardModel", name := "distance", desc := "(IIII)I" } : Jvm.MethodName)) ∈ lw_all := lw_g (lw_at lw_m10 69 rfl) rfl
theorem q2353 : (Jvm.Cond.methodLink "MessengerBoardLaw" (155 : Nat) ({ cls := "MessengerBoardModel", name := "step", desc := "(IIII)I" } : Jvm.MethodName)) ∈ lw_all := lw_g (lw_at lw_m10 84 rfl) rfl
theorem q2361 : (Jvm.Cond.methodLink "MessengerBoardLaw" (158 : Nat) ({ cls := "MessengerBoardModel", name := "wasAt", desc := "(II)I" } : Jvm.MethodName)) ∈ lw_all := lw_g (lw_at lw_m10 92 rfl) rfl
theorem q2368 : (Jvm.Cond.methodLink "MessengerBoardLaw" (161 : Nat) ({ cls := "MessengerBoardModel", name := "stateAt", desc := "(II)I" } : Jvm.MethodName)) ∈ lw_all := lw_g (lw_at lw_m10 99 rfl) rfl
theorem q2372 : (Jvm.Cond.methodLink "MessengerBoardLaw" (165 : Nat) ({ cls := "MessengerBoardModel", name := "crossed", desc := "()I" } : Jvm.MethodName)) ∈ lw_all := lw_g (lw_at lw_m10 103 rfl) rfl
theorem q2376 : (Jvm.Cond.methodLink "MessengerBoardLaw" (168 : Nat) ({ cls := "MessengerBoardModel", name := "wouldBe", desc := "(IIII)I" } : Jvm.MethodName)) ∈ lw_all := lw_g (lw_at lw_m10 107 rfl) rfl
theorem q2443 : (Jvm.Cond.methodLink "MessengerBoardLaw" (171 : Nat) ({ cls := "MessengerBoardModel", name := "wouldArrive", desc := "(III)I" } : Jvm.MethodName)) ∈ lw_all := lw_g (lw_at lw_m10 174 rfl) rfl
theorem q2451 : (Jvm.Cond.methodLink "MessengerBoardLaw" (174 : Nat) ({ cls := "MessengerBoardModel", name := "bestDelay", desc := "(III)I" } : Jvm.MethodName)) ∈ lw_all := lw_g (lw_at lw_m10 182 rfl) rfl
theorem q2455 : (Jvm.Cond.methodLink "MessengerBoardLaw" (177 : Nat) ({ cls := "MessengerBoardModel", name := "failing", desc := "(I)I" } : Jvm.MethodName)) ∈ lw_all := lw_g (lw_at lw_m10 186 rfl) rfl
theorem q2459 : (Jvm.Cond.methodLink "MessengerBoardLaw" (182 : Nat) ({ cls := "MessengerBoardModel", name := "meanDelay", desc := "()D" } : Jvm.MethodName)) ∈ lw_all := lw_g (lw_at lw_m10 190 rfl) rfl
theorem q2463 : (Jvm.Cond.methodLink "MessengerBoardLaw" (187 : Nat) ({ cls := "MessengerBoardModel", name := "success", desc := "()F" } : Jvm.MethodName)) ∈ lw_all := lw_g (lw_at lw_m10 194 rfl) rfl
theorem q2467 : (Jvm.Cond.methodLink "MessengerBoardLaw" (190 : Nat) ({ cls := "MessengerBoardModel", name := "pass", desc := "(I)I" } : Jvm.MethodName)) ∈ lw_all := lw_g (lw_at lw_m10 198 rfl) rfl
theorem q2475 : (Jvm.Cond.methodLink "MessengerBoardLaw" (193 : Nat) ({ cls := "MessengerBoardModel", name := "send", desc := "(III)I" } : Jvm.MethodName)) ∈ lw_all := lw_g (lw_at lw_m10 206 rfl) rfl
theorem q2479 : (Jvm.Cond.methodLink "MessengerBoardLaw" (196 : Nat) ({ cls := "MessengerBoardModel", name := "wall", desc := "(II)I" } : Jvm.MethodName)) ∈ lw_all := lw_g (lw_at lw_m10 210 rfl) rfl
theorem q2491 : (Jvm.Cond.methodLink "MessengerBoardLaw" (199 : Nat) ({ cls := "MessengerBoardModel", name := "movePicket", desc := "(III)I" } : Jvm.MethodName)) ∈ lw_all := lw_g (lw_at lw_m10 222 rfl) rfl
theorem q2495 : (Jvm.Cond.methodLink "MessengerBoardLaw" (202 : Nat) ({ cls := "MessengerBoardModel", name := "movePlan", desc := "(II)I" } : Jvm.MethodName)) ∈ lw_all := lw_g (lw_at lw_m10 226 rfl) rfl
theorem q2499 : (Jvm.Cond.methodLink "MessengerBoardLaw" (205 : Nat) ({ cls := "MessengerBoardModel", name := "setPatience", desc := "(I)I" } : Jvm.MethodName)) ∈ lw_all := lw_g (lw_at lw_m10 230 rfl) rfl
theorem q2503 : (Jvm.Cond.methodLink "MessengerBoardLaw" (208 : Nat) ({ cls := "MessengerBoardModel", name := "format", desc := "(I)I" } : Jvm.MethodName)) ∈ lw_all := lw_g (lw_at lw_m10 234 rfl) rfl
theorem q2519 : (Jvm.Cond.methodLink "MessengerBoardLaw" (212 : Nat) ({ cls := "MessengerBoardModel", name := "formattedByte", desc := "(I)I" } : Jvm.MethodName)) ∈ lw_all := lw_g (lw_at lw_m11 10 rfl) rfl
theorem q2523 : (Jvm.Cond.methodLink "MessengerBoardLaw" (216 : Nat) ({ cls := "MessengerBoardModel", name := "undoCount", desc := "()I" } : Jvm.MethodName)) ∈ lw_all := lw_g (lw_at lw_m11 14 rfl) rfl
theorem q2527 : (Jvm.Cond.methodLink "MessengerBoardLaw" (220 : Nat) ({ cls := "MessengerBoardModel", name := "undo", desc := "()I" } : Jvm.MethodName)) ∈ lw_all := lw_g (lw_at lw_m11 18 rfl) rfl
theorem q2531 : (Jvm.Cond.methodLink "MessengerBoardLaw" (224 : Nat) ({ cls := "MessengerBoardModel", name := "saveSnapshot", desc := "()V" } : Jvm.MethodName)) ∈ lw_all := lw_g (lw_at lw_m11 22 rfl) rfl
theorem q2535 : (Jvm.Cond.methodLink "MessengerBoardLaw" (229 : Nat) ({ cls := "MessengerBoardModel", name := "restoreSnapshot", desc := "()Z" } : Jvm.MethodName)) ∈ lw_all := lw_g (lw_at lw_m11 26 rfl) rfl
theorem q2539 : (Jvm.Cond.methodLink "MessengerBoardLaw" (105 : Nat) ({ cls := "MessengerBoardModel", name := "feed", desc := "(IIIII)I" } : Jvm.MethodName)) ∈ lw_all := lw_g (lw_at lw_m11 30 rfl) rfl
theorem q2543 : (Jvm.Cond.methodLink "MessengerBoardLaw" (119 : Nat) ({ cls := "MessengerBoardModel", name := "errorPosition", desc := "()I" } : Jvm.MethodName)) ∈ lw_all := lw_g (lw_at lw_m11 34 rfl) rfl
theorem q2547 : (Jvm.Cond.methodLink "MessengerBoardLaw" (111 : Nat) ({ cls := "MessengerBoardModel", name := "load", desc := "(I)I" } : Jvm.MethodName)) ∈ lw_all := lw_g (lw_at lw_m11 38 rfl) rfl
theorem q2665 : (Jvm.Cond.methodLink "MessengerBoardLaw" (232 : Nat) ({ cls := "MessengerBoardModel", name := "query", desc := "(I)I" } : Jvm.MethodName)) ∈ lw_all := lw_g (lw_at lw_m11 156 rfl) rfl
/-! the law's own entry -/
set_option maxRecDepth 100000
abbrev cL_law : ByteArray := code
def dkwL_law_92 : List UInt8 := [167, 0, 3, 132, 4, 6, 167, 247, 48, 4, 172]
abbrev dktL_law_92 : List UInt8 := dkwL_law_92 ++ []
def dkwL_law_91 : List UInt8 := [159, 0, 5, 3, 172, 21, 5, 154, 0, 15, 45, 3, 47, 21, 6, 133, 148, 153, 0, 5, 3, 172]
abbrev dktL_law_91 : List UInt8 := dkwL_law_91 ++ dktL_law_92
def dkwL_law_90 : List UInt8 := [184, 0, 230, 54, 5, 44, 42, 21, 4, 4, 96, 46, 182, 0, 232, 54, 6, 44, 182, 0, 112, 21, 5]
abbrev dktL_law_90 : List UInt8 := dkwL_law_90 ++ dktL_law_91
def dkwL_law_89 : List UInt8 := [167, 0, 72, 43, 182, 0, 225, 44, 182, 0, 229, 159, 0, 61, 3, 172, 43, 42, 21, 4, 4, 96, 46, 45]
abbrev dktL_law_89 : List UInt8 := dkwL_law_89 ++ dktL_law_90
def dkwL_law_88 : List UInt8 := [3, 172, 43, 182, 0, 217, 44, 182, 0, 220, 159, 0, 85, 3, 172, 43, 182, 0, 221, 44, 182, 0, 224]
abbrev dktL_law_88 : List UInt8 := dkwL_law_88 ++ dktL_law_89
def dkwL_law_87 : List UInt8 := [21, 4, 4, 96, 46, 182, 0, 212, 159, 0, 111, 3, 172, 43, 182, 0, 213, 44, 182, 0, 216, 159, 0, 98]
abbrev dktL_law_87 : List UInt8 := dkwL_law_87 ++ dktL_law_88
def dkwL_law_86 : List UInt8 := [21, 6, 133, 148, 153, 0, 5, 3, 172, 167, 0, 134, 43, 42, 21, 4, 4, 96, 46, 182, 0, 209, 44, 42]
abbrev dktL_law_86 : List UInt8 := dkwL_law_86 ++ dktL_law_87
def dkwL_law_85 : List UInt8 := [182, 0, 208, 54, 6, 44, 182, 0, 112, 21, 5, 159, 0, 5, 3, 172, 21, 5, 154, 0, 15, 45, 3, 47]
abbrev dktL_law_85 : List UInt8 := dkwL_law_85 ++ dktL_law_86
def dkwL_law_84 : List UInt8 := [167, 0, 190, 43, 42, 21, 4, 4, 96, 46, 45, 184, 0, 206, 54, 5, 44, 42, 21, 4, 4, 96, 46]
abbrev dktL_law_84 : List UInt8 := dkwL_law_84 ++ dktL_law_85
def dkwL_law_83 : List UInt8 := [159, 0, 5, 3, 172, 21, 5, 154, 0, 15, 45, 3, 47, 21, 6, 133, 148, 153, 0, 5, 3, 172]
abbrev dktL_law_83 : List UInt8 := dkwL_law_83 ++ dktL_law_84
def dkwL_law_82 : List UInt8 := [184, 0, 203, 54, 5, 44, 42, 21, 4, 4, 96, 46, 182, 0, 205, 54, 6, 44, 182, 0, 112, 21, 5]
abbrev dktL_law_82 : List UInt8 := dkwL_law_82 ++ dktL_law_83
def dkwL_law_81 : List UInt8 := [3, 47, 21, 6, 133, 148, 153, 0, 5, 3, 172, 167, 0, 246, 43, 42, 21, 4, 4, 96, 46, 45]
abbrev dktL_law_81 : List UInt8 := dkwL_law_81 ++ dktL_law_82
def dkwL_law_80 : List UInt8 := [96, 46, 182, 0, 202, 54, 6, 44, 182, 0, 112, 21, 5, 159, 0, 5, 3, 172, 21, 5, 154, 0, 15, 45]
abbrev dktL_law_80 : List UInt8 := dkwL_law_80 ++ dktL_law_81
def dkwL_law_79 : List UInt8 := [46, 42, 21, 4, 5, 96, 46, 45, 184, 0, 200, 54, 5, 44, 42, 21, 4, 4, 96, 46, 42, 21, 4, 5]
abbrev dktL_law_79 : List UInt8 := dkwL_law_79 ++ dktL_law_80
def dkwL_law_78 : List UInt8 := [154, 0, 15, 45, 3, 47, 21, 6, 133, 148, 153, 0, 5, 3, 172, 167, 1, 58, 43, 42, 21, 4, 4, 96]
abbrev dktL_law_78 : List UInt8 := dkwL_law_78 ++ dktL_law_79
def dkwL_law_77 : List UInt8 := [21, 4, 6, 96, 46, 182, 0, 199, 54, 6, 44, 182, 0, 112, 21, 5, 159, 0, 5, 3, 172, 21, 5]
abbrev dktL_law_77 : List UInt8 := dkwL_law_77 ++ dktL_law_78
def dkwL_law_76 : List UInt8 := [6, 96, 46, 45, 184, 0, 197, 54, 5, 44, 42, 21, 4, 4, 96, 46, 42, 21, 4, 5, 96, 46, 42]
abbrev dktL_law_76 : List UInt8 := dkwL_law_76 ++ dktL_law_77
def dkwL_law_75 : List UInt8 := [153, 0, 5, 3, 172, 167, 1, 138, 43, 42, 21, 4, 4, 96, 46, 42, 21, 4, 5, 96, 46, 42, 21, 4]
abbrev dktL_law_75 : List UInt8 := dkwL_law_75 ++ dktL_law_76
def dkwL_law_74 : List UInt8 := [182, 0, 112, 21, 5, 159, 0, 5, 3, 172, 21, 5, 154, 0, 15, 45, 3, 47, 21, 6, 133, 148]
abbrev dktL_law_74 : List UInt8 := dkwL_law_74 ++ dktL_law_75
def dkwL_law_73 : List UInt8 := [184, 0, 194, 54, 5, 44, 42, 21, 4, 4, 96, 46, 42, 21, 4, 5, 96, 46, 182, 0, 196, 54, 6, 44]
abbrev dktL_law_73 : List UInt8 := dkwL_law_73 ++ dktL_law_74
def dkwL_law_72 : List UInt8 := [153, 0, 5, 3, 172, 167, 1, 206, 43, 42, 21, 4, 4, 96, 46, 42, 21, 4, 5, 96, 46, 45]
abbrev dktL_law_72 : List UInt8 := dkwL_law_72 ++ dktL_law_73
def dkwL_law_71 : List UInt8 := [182, 0, 112, 21, 5, 159, 0, 5, 3, 172, 21, 5, 154, 0, 15, 45, 3, 47, 21, 6, 133, 148]
abbrev dktL_law_71 : List UInt8 := dkwL_law_71 ++ dktL_law_72
def dkwL_law_70 : List UInt8 := [21, 4, 4, 96, 46, 42, 21, 4, 5, 96, 46, 42, 21, 4, 6, 96, 46, 182, 0, 193, 54, 6, 44]
abbrev dktL_law_70 : List UInt8 := dkwL_law_70 ++ dktL_law_71
def dkwL_law_69 : List UInt8 := [4, 96, 46, 42, 21, 4, 5, 96, 46, 42, 21, 4, 6, 96, 46, 45, 184, 0, 191, 54, 5, 44, 42]
abbrev dktL_law_69 : List UInt8 := dkwL_law_69 ++ dktL_law_70
def dkwL_law_68 : List UInt8 := [21, 5, 154, 0, 15, 45, 3, 47, 21, 6, 133, 148, 153, 0, 5, 3, 172, 167, 2, 30, 43, 42, 21, 4]
abbrev dktL_law_68 : List UInt8 := dkwL_law_68 ++ dktL_law_69
def dkwL_law_67 : List UInt8 := [44, 42, 21, 4, 4, 96, 46, 182, 0, 190, 54, 6, 44, 182, 0, 112, 21, 5, 159, 0, 5, 3, 172]
abbrev dktL_law_67 : List UInt8 := dkwL_law_67 ++ dktL_law_68
def dkwL_law_66 : List UInt8 := [24, 7, 151, 154, 0, 5, 3, 172, 167, 2, 86, 43, 42, 21, 4, 4, 96, 46, 45, 184, 0, 188, 54, 5]
abbrev dktL_law_66 : List UInt8 := dkwL_law_66 ++ dktL_law_67
def dkwL_law_65 : List UInt8 := [182, 0, 187, 141, 57, 7, 24, 5, 24, 7, 151, 153, 0, 21, 24, 5, 24, 5, 151, 153, 0, 11, 24, 7]
abbrev dktL_law_65 : List UInt8 := dkwL_law_65 ++ dktL_law_66
def dkwL_law_64 : List UInt8 := [153, 0, 11, 24, 7, 24, 7, 151, 154, 0, 5, 3, 172, 167, 2, 129, 43, 182, 0, 183, 141, 57, 5, 44]
abbrev dktL_law_64 : List UInt8 := dkwL_law_64 ++ dktL_law_65
def dkwL_law_63 : List UInt8 := [182, 0, 178, 57, 5, 44, 182, 0, 182, 57, 7, 24, 5, 24, 7, 151, 153, 0, 21, 24, 5, 24, 5, 151]
abbrev dktL_law_63 : List UInt8 := dkwL_law_63 ++ dktL_law_64
def dkwL_law_62 : List UInt8 := [172, 21, 5, 154, 0, 15, 45, 3, 47, 21, 6, 133, 148, 153, 0, 5, 3, 172, 167, 2, 170, 43]
abbrev dktL_law_62 : List UInt8 := dkwL_law_62 ++ dktL_law_63
def dkwL_law_61 : List UInt8 := [54, 5, 44, 42, 21, 4, 4, 96, 46, 182, 0, 177, 54, 6, 44, 182, 0, 112, 21, 5, 159, 0, 5, 3]
abbrev dktL_law_61 : List UInt8 := dkwL_law_61 ++ dktL_law_62
def dkwL_law_60 : List UInt8 := [21, 6, 133, 148, 153, 0, 5, 3, 172, 167, 2, 226, 43, 42, 21, 4, 4, 96, 46, 45, 184, 0, 175]
abbrev dktL_law_60 : List UInt8 := dkwL_law_60 ++ dktL_law_61
def dkwL_law_59 : List UInt8 := [182, 0, 174, 54, 6, 44, 182, 0, 112, 21, 5, 159, 0, 5, 3, 172, 21, 5, 154, 0, 15, 45, 3, 47]
abbrev dktL_law_59 : List UInt8 := dkwL_law_59 ++ dktL_law_60
def dkwL_law_58 : List UInt8 := [184, 0, 172, 54, 5, 44, 42, 21, 4, 4, 96, 46, 42, 21, 4, 5, 96, 46, 42, 21, 4, 6, 96, 46]
abbrev dktL_law_58 : List UInt8 := dkwL_law_58 ++ dktL_law_59
def dkwL_law_57 : List UInt8 := [167, 3, 50, 43, 42, 21, 4, 4, 96, 46, 42, 21, 4, 5, 96, 46, 42, 21, 4, 6, 96, 46, 45]
abbrev dktL_law_57 : List UInt8 := dkwL_law_57 ++ dktL_law_58
def dkwL_law_56 : List UInt8 := [21, 5, 159, 0, 5, 3, 172, 21, 5, 154, 0, 15, 45, 3, 47, 21, 6, 133, 148, 153, 0, 5, 3, 172]
abbrev dktL_law_56 : List UInt8 := dkwL_law_56 ++ dktL_law_57
def dkwL_law_55 : List UInt8 := [96, 46, 42, 21, 4, 5, 96, 46, 42, 21, 4, 6, 96, 46, 182, 0, 171, 54, 6, 44, 182, 0, 112]
abbrev dktL_law_55 : List UInt8 := dkwL_law_55 ++ dktL_law_56
def dkwL_law_54 : List UInt8 := [46, 42, 21, 4, 5, 96, 46, 42, 21, 4, 6, 96, 46, 45, 184, 0, 169, 54, 5, 44, 42, 21, 4, 4]
abbrev dktL_law_54 : List UInt8 := dkwL_law_54 ++ dktL_law_55
def dkwL_law_53 : List UInt8 := [154, 0, 15, 45, 3, 47, 21, 6, 133, 148, 153, 0, 5, 3, 172, 167, 3, 130, 43, 42, 21, 4, 4, 96]
abbrev dktL_law_53 : List UInt8 := dkwL_law_53 ++ dktL_law_54
def dkwL_law_52 : List UInt8 := [42, 21, 4, 7, 96, 46, 182, 0, 168, 54, 6, 44, 182, 0, 112, 21, 5, 159, 0, 5, 3, 172, 21, 5]
abbrev dktL_law_52 : List UInt8 := dkwL_law_52 ++ dktL_law_53
def dkwL_law_51 : List UInt8 := [184, 0, 166, 54, 5, 44, 42, 21, 4, 4, 96, 46, 42, 21, 4, 5, 96, 46, 42, 21, 4, 6, 96, 46]
abbrev dktL_law_51 : List UInt8 := dkwL_law_51 ++ dktL_law_52
def dkwL_law_50 : List UInt8 := [21, 4, 4, 96, 46, 42, 21, 4, 5, 96, 46, 42, 21, 4, 6, 96, 46, 42, 21, 4, 7, 96, 46, 45]
abbrev dktL_law_50 : List UInt8 := dkwL_law_50 ++ dktL_law_51
def dkwL_law_49 : List UInt8 := [153, 0, 5, 3, 172, 167, 3, 235, 43, 182, 0, 162, 44, 182, 0, 165, 159, 3, 224, 3, 172, 43, 42]
abbrev dktL_law_49 : List UInt8 := dkwL_law_49 ++ dktL_law_50
def dkwL_law_48 : List UInt8 := [182, 0, 112, 21, 5, 159, 0, 5, 3, 172, 21, 5, 154, 0, 15, 45, 3, 47, 21, 6, 133, 148]
abbrev dktL_law_48 : List UInt8 := dkwL_law_48 ++ dktL_law_49
def dkwL_law_47 : List UInt8 := [184, 0, 159, 54, 5, 44, 42, 21, 4, 4, 96, 46, 42, 21, 4, 5, 96, 46, 182, 0, 161, 54, 6, 44]
abbrev dktL_law_47 : List UInt8 := dkwL_law_47 ++ dktL_law_48
def dkwL_law_46 : List UInt8 := [153, 0, 5, 3, 172, 167, 4, 47, 43, 42, 21, 4, 4, 96, 46, 42, 21, 4, 5, 96, 46, 45]
abbrev dktL_law_46 : List UInt8 := dkwL_law_46 ++ dktL_law_47
def dkwL_law_45 : List UInt8 := [182, 0, 112, 21, 5, 159, 0, 5, 3, 172, 21, 5, 154, 0, 15, 45, 3, 47, 21, 6, 133, 148]
abbrev dktL_law_45 : List UInt8 := dkwL_law_45 ++ dktL_law_46
def dkwL_law_44 : List UInt8 := [184, 0, 156, 54, 5, 44, 42, 21, 4, 4, 96, 46, 42, 21, 4, 5, 96, 46, 182, 0, 158, 54, 6, 44]
abbrev dktL_law_44 : List UInt8 := dkwL_law_44 ++ dktL_law_45
def dkwL_law_43 : List UInt8 := [153, 0, 5, 3, 172, 167, 4, 115, 43, 42, 21, 4, 4, 96, 46, 42, 21, 4, 5, 96, 46, 45]
abbrev dktL_law_43 : List UInt8 := dkwL_law_43 ++ dktL_law_44
def dkwL_law_42 : List UInt8 := [182, 0, 112, 21, 5, 159, 0, 5, 3, 172, 21, 5, 154, 0, 15, 45, 3, 47, 21, 6, 133, 148]
abbrev dktL_law_42 : List UInt8 := dkwL_law_42 ++ dktL_law_43
def dkwL_law_41 : List UInt8 := [42, 21, 4, 5, 96, 46, 42, 21, 4, 6, 96, 46, 42, 21, 4, 7, 96, 46, 182, 0, 155, 54, 6, 44]
abbrev dktL_law_41 : List UInt8 := dkwL_law_41 ++ dktL_law_42
def dkwL_law_40 : List UInt8 := [21, 4, 6, 96, 46, 42, 21, 4, 7, 96, 46, 45, 184, 0, 153, 54, 5, 44, 42, 21, 4, 4, 96, 46]
abbrev dktL_law_40 : List UInt8 := dkwL_law_40 ++ dktL_law_41
def dkwL_law_39 : List UInt8 := [148, 153, 0, 5, 3, 172, 167, 4, 207, 43, 42, 21, 4, 4, 96, 46, 42, 21, 4, 5, 96, 46, 42]
abbrev dktL_law_39 : List UInt8 := dkwL_law_39 ++ dktL_law_40
def dkwL_law_38 : List UInt8 := [54, 6, 44, 182, 0, 112, 21, 5, 159, 0, 5, 3, 172, 21, 5, 154, 0, 15, 45, 3, 47, 21, 6, 133]
abbrev dktL_law_38 : List UInt8 := dkwL_law_38 ++ dktL_law_39
def dkwL_law_37 : List UInt8 := [4, 96, 46, 42, 21, 4, 5, 96, 46, 42, 21, 4, 6, 96, 46, 42, 21, 4, 7, 96, 46, 182, 0, 152]
abbrev dktL_law_37 : List UInt8 := dkwL_law_37 ++ dktL_law_38
def dkwL_law_36 : List UInt8 := [96, 46, 42, 21, 4, 6, 96, 46, 42, 21, 4, 7, 96, 46, 45, 184, 0, 149, 54, 5, 44, 42, 21, 4]
abbrev dktL_law_36 : List UInt8 := dkwL_law_36 ++ dktL_law_37
def dkwL_law_35 : List UInt8 := [167, 0, 4, 9, 148, 153, 0, 5, 3, 172, 167, 5, 43, 43, 42, 21, 4, 4, 96, 46, 42, 21, 4, 5]
abbrev dktL_law_35 : List UInt8 := dkwL_law_35 ++ dktL_law_36
def dkwL_law_34 : List UInt8 := [182, 0, 112, 21, 5, 159, 0, 5, 3, 172, 21, 5, 154, 0, 22, 45, 3, 47, 21, 6, 153, 0, 7, 10]
abbrev dktL_law_34 : List UInt8 := dkwL_law_34 ++ dktL_law_35
def dkwL_law_33 : List UInt8 := [42, 21, 4, 4, 96, 46, 42, 21, 4, 5, 96, 46, 42, 21, 4, 6, 96, 46, 182, 0, 148, 54, 6, 44]
abbrev dktL_law_33 : List UInt8 := dkwL_law_33 ++ dktL_law_34
def dkwL_law_32 : List UInt8 := [21, 4, 4, 96, 46, 42, 21, 4, 5, 96, 46, 42, 21, 4, 6, 96, 46, 45, 184, 0, 145, 54, 5, 44]
abbrev dktL_law_32 : List UInt8 := dkwL_law_32 ++ dktL_law_33
def dkwL_law_31 : List UInt8 := [3, 47, 21, 6, 153, 0, 7, 10, 167, 0, 4, 9, 148, 153, 0, 5, 3, 172, 167, 5, 130, 43, 42]
abbrev dktL_law_31 : List UInt8 := dkwL_law_31 ++ dktL_law_32
def dkwL_law_30 : List UInt8 := [96, 46, 182, 0, 144, 54, 6, 44, 182, 0, 112, 21, 5, 159, 0, 5, 3, 172, 21, 5, 154, 0, 22, 45]
abbrev dktL_law_30 : List UInt8 := dkwL_law_30 ++ dktL_law_31
def dkwL_law_29 : List UInt8 := [46, 42, 21, 4, 5, 96, 46, 45, 184, 0, 142, 54, 5, 44, 42, 21, 4, 4, 96, 46, 42, 21, 4, 5]
abbrev dktL_law_29 : List UInt8 := dkwL_law_29 ++ dktL_law_30
def dkwL_law_28 : List UInt8 := [154, 0, 15, 45, 3, 47, 21, 6, 133, 148, 153, 0, 5, 3, 172, 167, 5, 205, 43, 42, 21, 4, 4, 96]
abbrev dktL_law_28 : List UInt8 := dkwL_law_28 ++ dktL_law_29
def dkwL_law_27 : List UInt8 := [21, 4, 4, 96, 46, 182, 0, 141, 54, 6, 44, 182, 0, 112, 21, 5, 159, 0, 5, 3, 172, 21, 5]
abbrev dktL_law_27 : List UInt8 := dkwL_law_27 ++ dktL_law_28
def dkwL_law_26 : List UInt8 := [153, 0, 5, 3, 172, 167, 6, 5, 43, 42, 21, 4, 4, 96, 46, 45, 184, 0, 139, 54, 5, 44, 42]
abbrev dktL_law_26 : List UInt8 := dkwL_law_26 ++ dktL_law_27
def dkwL_law_25 : List UInt8 := [182, 0, 112, 21, 5, 159, 0, 5, 3, 172, 21, 5, 154, 0, 15, 45, 3, 47, 21, 6, 133, 148]
abbrev dktL_law_25 : List UInt8 := dkwL_law_25 ++ dktL_law_26
def dkwL_law_24 : List UInt8 := [184, 0, 136, 54, 5, 44, 42, 21, 4, 4, 96, 46, 42, 21, 4, 5, 96, 46, 182, 0, 138, 54, 6, 44]
abbrev dktL_law_24 : List UInt8 := dkwL_law_24 ++ dktL_law_25
def dkwL_law_23 : List UInt8 := [153, 0, 5, 3, 172, 167, 6, 73, 43, 42, 21, 4, 4, 96, 46, 42, 21, 4, 5, 96, 46, 45]
abbrev dktL_law_23 : List UInt8 := dkwL_law_23 ++ dktL_law_24
def dkwL_law_22 : List UInt8 := [182, 0, 112, 21, 5, 159, 0, 5, 3, 172, 21, 5, 154, 0, 15, 45, 3, 47, 21, 6, 133, 148]
abbrev dktL_law_22 : List UInt8 := dkwL_law_22 ++ dktL_law_23
def dkwL_law_21 : List UInt8 := [184, 0, 133, 54, 5, 44, 42, 21, 4, 4, 96, 46, 42, 21, 4, 5, 96, 46, 182, 0, 135, 54, 6, 44]
abbrev dktL_law_21 : List UInt8 := dkwL_law_21 ++ dktL_law_22
def dkwL_law_20 : List UInt8 := [153, 0, 5, 3, 172, 167, 6, 141, 43, 42, 21, 4, 4, 96, 46, 42, 21, 4, 5, 96, 46, 45]
abbrev dktL_law_20 : List UInt8 := dkwL_law_20 ++ dktL_law_21
def dkwL_law_19 : List UInt8 := [182, 0, 112, 21, 5, 159, 0, 5, 3, 172, 21, 5, 154, 0, 15, 45, 3, 47, 21, 6, 133, 148]
abbrev dktL_law_19 : List UInt8 := dkwL_law_19 ++ dktL_law_20
def dkwL_law_18 : List UInt8 := [184, 0, 130, 54, 5, 44, 42, 21, 4, 4, 96, 46, 42, 21, 4, 5, 96, 46, 182, 0, 132, 54, 6, 44]
abbrev dktL_law_18 : List UInt8 := dkwL_law_18 ++ dktL_law_19
def dkwL_law_17 : List UInt8 := [153, 0, 5, 3, 172, 167, 6, 209, 43, 42, 21, 4, 4, 96, 46, 42, 21, 4, 5, 96, 46, 45]
abbrev dktL_law_17 : List UInt8 := dkwL_law_17 ++ dktL_law_18
def dkwL_law_16 : List UInt8 := [182, 0, 112, 21, 5, 159, 0, 5, 3, 172, 21, 5, 154, 0, 15, 45, 3, 47, 21, 6, 133, 148]
abbrev dktL_law_16 : List UInt8 := dkwL_law_16 ++ dktL_law_17
def dkwL_law_15 : List UInt8 := [184, 0, 127, 54, 5, 44, 42, 21, 4, 4, 96, 46, 42, 21, 4, 5, 96, 46, 182, 0, 129, 54, 6, 44]
abbrev dktL_law_15 : List UInt8 := dkwL_law_15 ++ dktL_law_16
def dkwL_law_14 : List UInt8 := [153, 0, 5, 3, 172, 167, 7, 21, 43, 42, 21, 4, 4, 96, 46, 42, 21, 4, 5, 96, 46, 45]
abbrev dktL_law_14 : List UInt8 := dkwL_law_14 ++ dktL_law_15
def dkwL_law_13 : List UInt8 := [182, 0, 112, 21, 5, 159, 0, 5, 3, 172, 21, 5, 154, 0, 15, 45, 3, 47, 21, 6, 133, 148]
abbrev dktL_law_13 : List UInt8 := dkwL_law_13 ++ dktL_law_14
def dkwL_law_12 : List UInt8 := [184, 0, 123, 54, 5, 44, 42, 21, 4, 4, 96, 46, 42, 21, 4, 5, 96, 46, 182, 0, 126, 54, 6, 44]
abbrev dktL_law_12 : List UInt8 := dkwL_law_12 ++ dktL_law_13
def dkwL_law_11 : List UInt8 := [153, 0, 5, 3, 172, 167, 7, 89, 43, 42, 21, 4, 4, 96, 46, 42, 21, 4, 5, 96, 46, 45]
abbrev dktL_law_11 : List UInt8 := dkwL_law_11 ++ dktL_law_12
def dkwL_law_10 : List UInt8 := [182, 0, 112, 21, 5, 159, 0, 5, 3, 172, 21, 5, 154, 0, 15, 45, 3, 47, 21, 6, 133, 148]
abbrev dktL_law_10 : List UInt8 := dkwL_law_10 ++ dktL_law_11
def dkwL_law_9 : List UInt8 := [21, 4, 4, 96, 46, 45, 184, 0, 120, 54, 5, 44, 42, 21, 4, 4, 96, 46, 182, 0, 122, 54, 6, 44]
abbrev dktL_law_9 : List UInt8 := dkwL_law_9 ++ dktL_law_10
def dkwL_law_8 : List UInt8 := [148, 153, 0, 5, 3, 172, 167, 7, 158, 43, 182, 0, 116, 44, 182, 0, 119, 159, 7, 147, 3, 172, 43, 42]
abbrev dktL_law_8 : List UInt8 := dkwL_law_8 ++ dktL_law_9
def dkwL_law_7 : List UInt8 := [54, 6, 44, 182, 0, 112, 21, 5, 159, 0, 5, 3, 172, 21, 5, 154, 0, 15, 45, 3, 47, 21, 6, 133]
abbrev dktL_law_7 : List UInt8 := dkwL_law_7 ++ dktL_law_8
def dkwL_law_6 : List UInt8 := [172, 43, 42, 21, 4, 4, 96, 46, 45, 184, 0, 106, 54, 5, 44, 42, 21, 4, 4, 96, 46, 182, 0, 111]
abbrev dktL_law_6 : List UInt8 := dkwL_law_6 ++ dktL_law_7
def dkwL_law_5 : List UInt8 := [21, 4, 6, 96, 46, 42, 21, 4, 7, 96, 46, 42, 21, 4, 8, 96, 46, 182, 0, 105, 159, 7, 216, 3]
abbrev dktL_law_5 : List UInt8 := dkwL_law_5 ++ dktL_law_6
def dkwL_law_4 : List UInt8 := [46, 42, 21, 4, 8, 96, 46, 182, 0, 101, 44, 42, 21, 4, 4, 96, 46, 42, 21, 4, 5, 96, 46, 42]
abbrev dktL_law_4 : List UInt8 := dkwL_law_4 ++ dktL_law_5
def dkwL_law_3 : List UInt8 := [43, 42, 21, 4, 4, 96, 46, 42, 21, 4, 5, 96, 46, 42, 21, 4, 6, 96, 46, 42, 21, 4, 7, 96]
abbrev dktL_law_3 : List UInt8 := dkwL_law_3 ++ dktL_law_4
def dkwL_law_2 : List UInt8 := [170, 0, 0, 0, 0, 0, 8, 188, 0, 0, 0, 0, 0, 0, 0, 35, 0, 0, 0, 160, 0, 0, 0, 233, 0, 0, 1, 33, 0, 0, 1, 46, 0, 0, 1, 102, 0, 0, 1, 170, 0, 0, 1, 238, 0, 0, 2, 50, 0, 0, 2, 118, 0, 0, 2, 186, 0, 0, 2, 242, 0, 0, 3, 61, 0, 0, 3, 148, 0, 0, 3, 240, 0, 0, 4, 76, 0, 0, 4, 144, 0, 0, 4, 212, 0, 0, 4, 225, 0, 0, 5, 61, 0, 0, 5, 141, 0, 0, 5, 221, 0, 0, 6, 21, 0, 0, 6, 62, 0, 0, 6, 105, 0, 0, 6, 161, 0, 0, 6, 241, 0, 0, 7, 53, 0, 0, 7, 133, 0, 0, 7, 201, 0, 0, 8, 1, 0, 0, 8, 57, 0, 0, 8, 82, 0, 0, 8, 95, 0, 0, 8, 108, 0, 0, 8, 119, 0, 0, 8, 132]
abbrev dktL_law_2 : List UInt8 := dkwL_law_2 ++ dktL_law_3
def dkwL_law_1 : List UInt8 := [21, 4, 42, 190, 16, 6, 100, 163, 8, 204, 42, 21, 4, 46, 16, 63, 126]
abbrev dktL_law_1 : List UInt8 := dkwL_law_1 ++ dktL_law_2
def dkwL_law_0 : List UInt8 := [187, 0, 8, 89, 183, 0, 97, 76, 187, 0, 98, 89, 183, 0, 100, 77, 4, 188, 11, 78, 3, 54, 4]
abbrev dktL_law_0 : List UInt8 := dkwL_law_0 ++ dktL_law_1
theorem dksL_law_0 : cL_law.data.toList.drop 0 = dktL_law_0 := by decide +kernel
theorem dksL_law_1 : cL_law.data.toList.drop 23 = dktL_law_1 := dk_seg dksL_law_0 23 rfl rfl
theorem dksL_law_2 : cL_law.data.toList.drop 40 = dktL_law_2 := dk_seg dksL_law_1 17 rfl rfl
theorem dksL_law_3 : cL_law.data.toList.drop 200 = dktL_law_3 := dk_seg dksL_law_2 160 rfl rfl
theorem dksL_law_4 : cL_law.data.toList.drop 224 = dktL_law_4 := dk_seg dksL_law_3 24 rfl rfl
theorem dksL_law_5 : cL_law.data.toList.drop 248 = dktL_law_5 := dk_seg dksL_law_4 24 rfl rfl
theorem dksL_law_6 : cL_law.data.toList.drop 272 = dktL_law_6 := dk_seg dksL_law_5 24 rfl rfl
theorem dksL_law_7 : cL_law.data.toList.drop 296 = dktL_law_7 := dk_seg dksL_law_6 24 rfl rfl
theorem dksL_law_8 : cL_law.data.toList.drop 320 = dktL_law_8 := dk_seg dksL_law_7 24 rfl rfl
theorem dksL_law_9 : cL_law.data.toList.drop 344 = dktL_law_9 := dk_seg dksL_law_8 24 rfl rfl
theorem dksL_law_10 : cL_law.data.toList.drop 368 = dktL_law_10 := dk_seg dksL_law_9 24 rfl rfl
theorem dksL_law_11 : cL_law.data.toList.drop 390 = dktL_law_11 := dk_seg dksL_law_10 22 rfl rfl
theorem dksL_law_12 : cL_law.data.toList.drop 412 = dktL_law_12 := dk_seg dksL_law_11 22 rfl rfl
theorem dksL_law_13 : cL_law.data.toList.drop 436 = dktL_law_13 := dk_seg dksL_law_12 24 rfl rfl
theorem dksL_law_14 : cL_law.data.toList.drop 458 = dktL_law_14 := dk_seg dksL_law_13 22 rfl rfl
theorem dksL_law_15 : cL_law.data.toList.drop 480 = dktL_law_15 := dk_seg dksL_law_14 22 rfl rfl
theorem dksL_law_16 : cL_law.data.toList.drop 504 = dktL_law_16 := dk_seg dksL_law_15 24 rfl rfl
theorem dksL_law_17 : cL_law.data.toList.drop 526 = dktL_law_17 := dk_seg dksL_law_16 22 rfl rfl
theorem dksL_law_18 : cL_law.data.toList.drop 548 = dktL_law_18 := dk_seg dksL_law_17 22 rfl rfl
theorem dksL_law_19 : cL_law.data.toList.drop 572 = dktL_law_19 := dk_seg dksL_law_18 24 rfl rfl
theorem dksL_law_20 : cL_law.data.toList.drop 594 = dktL_law_20 := dk_seg dksL_law_19 22 rfl rfl
theorem dksL_law_21 : cL_law.data.toList.drop 616 = dktL_law_21 := dk_seg dksL_law_20 22 rfl rfl
theorem dksL_law_22 : cL_law.data.toList.drop 640 = dktL_law_22 := dk_seg dksL_law_21 24 rfl rfl
theorem dksL_law_23 : cL_law.data.toList.drop 662 = dktL_law_23 := dk_seg dksL_law_22 22 rfl rfl
theorem dksL_law_24 : cL_law.data.toList.drop 684 = dktL_law_24 := dk_seg dksL_law_23 22 rfl rfl
theorem dksL_law_25 : cL_law.data.toList.drop 708 = dktL_law_25 := dk_seg dksL_law_24 24 rfl rfl
theorem dksL_law_26 : cL_law.data.toList.drop 730 = dktL_law_26 := dk_seg dksL_law_25 22 rfl rfl
theorem dksL_law_27 : cL_law.data.toList.drop 753 = dktL_law_27 := dk_seg dksL_law_26 23 rfl rfl
theorem dksL_law_28 : cL_law.data.toList.drop 776 = dktL_law_28 := dk_seg dksL_law_27 23 rfl rfl
theorem dksL_law_29 : cL_law.data.toList.drop 800 = dktL_law_29 := dk_seg dksL_law_28 24 rfl rfl
theorem dksL_law_30 : cL_law.data.toList.drop 824 = dktL_law_30 := dk_seg dksL_law_29 24 rfl rfl
theorem dksL_law_31 : cL_law.data.toList.drop 848 = dktL_law_31 := dk_seg dksL_law_30 24 rfl rfl
theorem dksL_law_32 : cL_law.data.toList.drop 871 = dktL_law_32 := dk_seg dksL_law_31 23 rfl rfl
theorem dksL_law_33 : cL_law.data.toList.drop 895 = dktL_law_33 := dk_seg dksL_law_32 24 rfl rfl
theorem dksL_law_34 : cL_law.data.toList.drop 919 = dktL_law_34 := dk_seg dksL_law_33 24 rfl rfl
theorem dksL_law_35 : cL_law.data.toList.drop 943 = dktL_law_35 := dk_seg dksL_law_34 24 rfl rfl
theorem dksL_law_36 : cL_law.data.toList.drop 967 = dktL_law_36 := dk_seg dksL_law_35 24 rfl rfl
theorem dksL_law_37 : cL_law.data.toList.drop 991 = dktL_law_37 := dk_seg dksL_law_36 24 rfl rfl
theorem dksL_law_38 : cL_law.data.toList.drop 1015 = dktL_law_38 := dk_seg dksL_law_37 24 rfl rfl
theorem dksL_law_39 : cL_law.data.toList.drop 1039 = dktL_law_39 := dk_seg dksL_law_38 24 rfl rfl
theorem dksL_law_40 : cL_law.data.toList.drop 1062 = dktL_law_40 := dk_seg dksL_law_39 23 rfl rfl
theorem dksL_law_41 : cL_law.data.toList.drop 1086 = dktL_law_41 := dk_seg dksL_law_40 24 rfl rfl
theorem dksL_law_42 : cL_law.data.toList.drop 1110 = dktL_law_42 := dk_seg dksL_law_41 24 rfl rfl
theorem dksL_law_43 : cL_law.data.toList.drop 1132 = dktL_law_43 := dk_seg dksL_law_42 22 rfl rfl
theorem dksL_law_44 : cL_law.data.toList.drop 1154 = dktL_law_44 := dk_seg dksL_law_43 22 rfl rfl
theorem dksL_law_45 : cL_law.data.toList.drop 1178 = dktL_law_45 := dk_seg dksL_law_44 24 rfl rfl
theorem dksL_law_46 : cL_law.data.toList.drop 1200 = dktL_law_46 := dk_seg dksL_law_45 22 rfl rfl
theorem dksL_law_47 : cL_law.data.toList.drop 1222 = dktL_law_47 := dk_seg dksL_law_46 22 rfl rfl
theorem dksL_law_48 : cL_law.data.toList.drop 1246 = dktL_law_48 := dk_seg dksL_law_47 24 rfl rfl
theorem dksL_law_49 : cL_law.data.toList.drop 1268 = dktL_law_49 := dk_seg dksL_law_48 22 rfl rfl
theorem dksL_law_50 : cL_law.data.toList.drop 1291 = dktL_law_50 := dk_seg dksL_law_49 23 rfl rfl
theorem dksL_law_51 : cL_law.data.toList.drop 1315 = dktL_law_51 := dk_seg dksL_law_50 24 rfl rfl
theorem dksL_law_52 : cL_law.data.toList.drop 1339 = dktL_law_52 := dk_seg dksL_law_51 24 rfl rfl
theorem dksL_law_53 : cL_law.data.toList.drop 1363 = dktL_law_53 := dk_seg dksL_law_52 24 rfl rfl
theorem dksL_law_54 : cL_law.data.toList.drop 1387 = dktL_law_54 := dk_seg dksL_law_53 24 rfl rfl
theorem dksL_law_55 : cL_law.data.toList.drop 1411 = dktL_law_55 := dk_seg dksL_law_54 24 rfl rfl
theorem dksL_law_56 : cL_law.data.toList.drop 1434 = dktL_law_56 := dk_seg dksL_law_55 23 rfl rfl
theorem dksL_law_57 : cL_law.data.toList.drop 1458 = dktL_law_57 := dk_seg dksL_law_56 24 rfl rfl
theorem dksL_law_58 : cL_law.data.toList.drop 1481 = dktL_law_58 := dk_seg dksL_law_57 23 rfl rfl
theorem dksL_law_59 : cL_law.data.toList.drop 1505 = dktL_law_59 := dk_seg dksL_law_58 24 rfl rfl
theorem dksL_law_60 : cL_law.data.toList.drop 1529 = dktL_law_60 := dk_seg dksL_law_59 24 rfl rfl
theorem dksL_law_61 : cL_law.data.toList.drop 1552 = dktL_law_61 := dk_seg dksL_law_60 23 rfl rfl
theorem dksL_law_62 : cL_law.data.toList.drop 1576 = dktL_law_62 := dk_seg dksL_law_61 24 rfl rfl
theorem dksL_law_63 : cL_law.data.toList.drop 1598 = dktL_law_63 := dk_seg dksL_law_62 22 rfl rfl
theorem dksL_law_64 : cL_law.data.toList.drop 1622 = dktL_law_64 := dk_seg dksL_law_63 24 rfl rfl
theorem dksL_law_65 : cL_law.data.toList.drop 1646 = dktL_law_65 := dk_seg dksL_law_64 24 rfl rfl
theorem dksL_law_66 : cL_law.data.toList.drop 1670 = dktL_law_66 := dk_seg dksL_law_65 24 rfl rfl
theorem dksL_law_67 : cL_law.data.toList.drop 1694 = dktL_law_67 := dk_seg dksL_law_66 24 rfl rfl
theorem dksL_law_68 : cL_law.data.toList.drop 1717 = dktL_law_68 := dk_seg dksL_law_67 23 rfl rfl
theorem dksL_law_69 : cL_law.data.toList.drop 1741 = dktL_law_69 := dk_seg dksL_law_68 24 rfl rfl
theorem dksL_law_70 : cL_law.data.toList.drop 1764 = dktL_law_70 := dk_seg dksL_law_69 23 rfl rfl
theorem dksL_law_71 : cL_law.data.toList.drop 1787 = dktL_law_71 := dk_seg dksL_law_70 23 rfl rfl
theorem dksL_law_72 : cL_law.data.toList.drop 1809 = dktL_law_72 := dk_seg dksL_law_71 22 rfl rfl
theorem dksL_law_73 : cL_law.data.toList.drop 1831 = dktL_law_73 := dk_seg dksL_law_72 22 rfl rfl
theorem dksL_law_74 : cL_law.data.toList.drop 1855 = dktL_law_74 := dk_seg dksL_law_73 24 rfl rfl
theorem dksL_law_75 : cL_law.data.toList.drop 1877 = dktL_law_75 := dk_seg dksL_law_74 22 rfl rfl
theorem dksL_law_76 : cL_law.data.toList.drop 1901 = dktL_law_76 := dk_seg dksL_law_75 24 rfl rfl
theorem dksL_law_77 : cL_law.data.toList.drop 1924 = dktL_law_77 := dk_seg dksL_law_76 23 rfl rfl
theorem dksL_law_78 : cL_law.data.toList.drop 1947 = dktL_law_78 := dk_seg dksL_law_77 23 rfl rfl
theorem dksL_law_79 : cL_law.data.toList.drop 1971 = dktL_law_79 := dk_seg dksL_law_78 24 rfl rfl
theorem dksL_law_80 : cL_law.data.toList.drop 1995 = dktL_law_80 := dk_seg dksL_law_79 24 rfl rfl
theorem dksL_law_81 : cL_law.data.toList.drop 2019 = dktL_law_81 := dk_seg dksL_law_80 24 rfl rfl
theorem dksL_law_82 : cL_law.data.toList.drop 2041 = dktL_law_82 := dk_seg dksL_law_81 22 rfl rfl
theorem dksL_law_83 : cL_law.data.toList.drop 2064 = dktL_law_83 := dk_seg dksL_law_82 23 rfl rfl
theorem dksL_law_84 : cL_law.data.toList.drop 2086 = dktL_law_84 := dk_seg dksL_law_83 22 rfl rfl
theorem dksL_law_85 : cL_law.data.toList.drop 2109 = dktL_law_85 := dk_seg dksL_law_84 23 rfl rfl
theorem dksL_law_86 : cL_law.data.toList.drop 2133 = dktL_law_86 := dk_seg dksL_law_85 24 rfl rfl
theorem dksL_law_87 : cL_law.data.toList.drop 2157 = dktL_law_87 := dk_seg dksL_law_86 24 rfl rfl
theorem dksL_law_88 : cL_law.data.toList.drop 2181 = dktL_law_88 := dk_seg dksL_law_87 24 rfl rfl
theorem dksL_law_89 : cL_law.data.toList.drop 2204 = dktL_law_89 := dk_seg dksL_law_88 23 rfl rfl
theorem dksL_law_90 : cL_law.data.toList.drop 2228 = dktL_law_90 := dk_seg dksL_law_89 24 rfl rfl
theorem dksL_law_91 : cL_law.data.toList.drop 2251 = dktL_law_91 := dk_seg dksL_law_90 23 rfl rfl
theorem dksL_law_92 : cL_law.data.toList.drop 2273 = dktL_law_92 := dk_seg dksL_law_91 22 rfl rfl
theorem dL_law_0 : decode cL_law 0 = .ok (.new 8, 3) := dk_187 0 8 (dk_at dksL_law_0 0 rfl rfl)
theorem dL_law_3 : decode cL_law 3 = .ok (.dup, 1) := dk_89 (dk_at dksL_law_0 3 rfl rfl)
theorem dL_law_4 : decode cL_law 4 = .ok (.invokespecial 97, 3) := dk_183 0 97 (dk_at dksL_law_0 4 rfl rfl)
theorem dL_law_7 : decode cL_law 7 = .ok (.astore_n 1, 1) := dk_76 (dk_at dksL_law_0 7 rfl rfl)
theorem dL_law_8 : decode cL_law 8 = .ok (.new 98, 3) := dk_187 0 98 (dk_at dksL_law_0 8 rfl rfl)
theorem dL_law_11 : decode cL_law 11 = .ok (.dup, 1) := dk_89 (dk_at dksL_law_0 11 rfl rfl)
theorem dL_law_12 : decode cL_law 12 = .ok (.invokespecial 100, 3) := dk_183 0 100 (dk_at dksL_law_0 12 rfl rfl)
theorem dL_law_15 : decode cL_law 15 = .ok (.astore_n 2, 1) := dk_77 (dk_at dksL_law_0 15 rfl rfl)
theorem dL_law_16 : decode cL_law 16 = .ok (.iconst 1, 1) := dk_4 (dk_at dksL_law_0 16 rfl rfl)
theorem dL_law_17 : decode cL_law 17 = .ok (.newarray .long, 2) := dk_188_11 (dk_at dksL_law_0 17 rfl rfl)
theorem dL_law_19 : decode cL_law 19 = .ok (.astore_n 3, 1) := dk_78 (dk_at dksL_law_0 19 rfl rfl)
theorem dL_law_20 : decode cL_law 20 = .ok (.iconst 0, 1) := dk_3 (dk_at dksL_law_0 20 rfl rfl)
theorem dL_law_21 : decode cL_law 21 = .ok (.istore 4, 2) := dk_54 4 (dk_at dksL_law_0 21 rfl rfl)
theorem dL_law_23 : decode cL_law 23 = .ok (.iload 4, 2) := dk_21 4 (dk_at dksL_law_1 0 rfl rfl)
theorem dL_law_25 : decode cL_law 25 = .ok (.aload_n 0, 1) := dk_42 (dk_at dksL_law_1 2 rfl rfl)
theorem dL_law_26 : decode cL_law 26 = .ok (.arraylength, 1) := dk_190 (dk_at dksL_law_1 3 rfl rfl)
theorem dL_law_27 : decode cL_law 27 = .ok (.bipush 6, 2) := dk_16 6 (dk_at dksL_law_1 4 rfl rfl)
theorem dL_law_29 : decode cL_law 29 = .ok (.isub, 1) := dk_100 (dk_at dksL_law_1 6 rfl rfl)
theorem dL_law_30 : decode cL_law 30 = .ok (.if_icmp .gt 2252, 3) := dk_163 8 204 (dk_at dksL_law_1 7 rfl rfl)
theorem dL_law_33 : decode cL_law 33 = .ok (.aload_n 0, 1) := dk_42 (dk_at dksL_law_1 10 rfl rfl)
theorem dL_law_34 : decode cL_law 34 = .ok (.iload 4, 2) := dk_21 4 (dk_at dksL_law_1 11 rfl rfl)
theorem dL_law_36 : decode cL_law 36 = .ok (.iaload, 1) := dk_46 (dk_at dksL_law_1 13 rfl rfl)
theorem dL_law_37 : decode cL_law 37 = .ok (.bipush 63, 2) := dk_16 63 (dk_at dksL_law_1 14 rfl rfl)
theorem dL_law_39 : decode cL_law 39 = .ok (.iand, 1) := dk_126 (dk_at dksL_law_1 16 rfl rfl)
theorem dL_law_40 : decode cL_law 40 = .ok (.tableswitch 2236 0 35 #[160, 233, 289, 302, 358, 426, 494, 562, 630, 698, 754, 829, 916, 1008, 1100, 1168, 1236, 1249, 1341, 1421, 1501, 1557, 1598, 1641, 1697, 1777, 1845, 1925, 1993, 2049, 2105, 2130, 2143, 2156, 2167, 2180], 160) := by decide +kernel
theorem dL_law_200 : decode cL_law 200 = .ok (.aload_n 1, 1) := dk_43 (dk_at dksL_law_3 0 rfl rfl)
theorem dL_law_201 : decode cL_law 201 = .ok (.aload_n 0, 1) := dk_42 (dk_at dksL_law_3 1 rfl rfl)
theorem dL_law_202 : decode cL_law 202 = .ok (.iload 4, 2) := dk_21 4 (dk_at dksL_law_3 2 rfl rfl)
theorem dL_law_204 : decode cL_law 204 = .ok (.iconst 1, 1) := dk_4 (dk_at dksL_law_3 4 rfl rfl)
theorem dL_law_205 : decode cL_law 205 = .ok (.iadd, 1) := dk_96 (dk_at dksL_law_3 5 rfl rfl)
theorem dL_law_206 : decode cL_law 206 = .ok (.iaload, 1) := dk_46 (dk_at dksL_law_3 6 rfl rfl)
theorem dL_law_207 : decode cL_law 207 = .ok (.aload_n 0, 1) := dk_42 (dk_at dksL_law_3 7 rfl rfl)
theorem dL_law_208 : decode cL_law 208 = .ok (.iload 4, 2) := dk_21 4 (dk_at dksL_law_3 8 rfl rfl)
theorem dL_law_210 : decode cL_law 210 = .ok (.iconst 2, 1) := dk_5 (dk_at dksL_law_3 10 rfl rfl)
theorem dL_law_211 : decode cL_law 211 = .ok (.iadd, 1) := dk_96 (dk_at dksL_law_3 11 rfl rfl)
theorem dL_law_212 : decode cL_law 212 = .ok (.iaload, 1) := dk_46 (dk_at dksL_law_3 12 rfl rfl)
theorem dL_law_213 : decode cL_law 213 = .ok (.aload_n 0, 1) := dk_42 (dk_at dksL_law_3 13 rfl rfl)
theorem dL_law_214 : decode cL_law 214 = .ok (.iload 4, 2) := dk_21 4 (dk_at dksL_law_3 14 rfl rfl)
theorem dL_law_216 : decode cL_law 216 = .ok (.iconst 3, 1) := dk_6 (dk_at dksL_law_3 16 rfl rfl)
theorem dL_law_217 : decode cL_law 217 = .ok (.iadd, 1) := dk_96 (dk_at dksL_law_3 17 rfl rfl)
theorem dL_law_218 : decode cL_law 218 = .ok (.iaload, 1) := dk_46 (dk_at dksL_law_3 18 rfl rfl)
theorem dL_law_219 : decode cL_law 219 = .ok (.aload_n 0, 1) := dk_42 (dk_at dksL_law_3 19 rfl rfl)
theorem dL_law_220 : decode cL_law 220 = .ok (.iload 4, 2) := dk_21 4 (dk_at dksL_law_3 20 rfl rfl)
theorem dL_law_222 : decode cL_law 222 = .ok (.iconst 4, 1) := dk_7 (dk_at dksL_law_3 22 rfl rfl)
theorem dL_law_223 : decode cL_law 223 = .ok (.iadd, 1) := dk_96 (dk_at dksL_law_3 23 rfl rfl)
theorem dL_law_224 : decode cL_law 224 = .ok (.iaload, 1) := dk_46 (dk_at dksL_law_4 0 rfl rfl)
theorem dL_law_225 : decode cL_law 225 = .ok (.aload_n 0, 1) := dk_42 (dk_at dksL_law_4 1 rfl rfl)
theorem dL_law_226 : decode cL_law 226 = .ok (.iload 4, 2) := dk_21 4 (dk_at dksL_law_4 2 rfl rfl)
theorem dL_law_228 : decode cL_law 228 = .ok (.iconst 5, 1) := dk_8 (dk_at dksL_law_4 4 rfl rfl)
theorem dL_law_229 : decode cL_law 229 = .ok (.iadd, 1) := dk_96 (dk_at dksL_law_4 5 rfl rfl)
theorem dL_law_230 : decode cL_law 230 = .ok (.iaload, 1) := dk_46 (dk_at dksL_law_4 6 rfl rfl)
theorem dL_law_231 : decode cL_law 231 = .ok (.invokevirtual 101, 3) := dk_182 0 101 (dk_at dksL_law_4 7 rfl rfl)
theorem dL_law_234 : decode cL_law 234 = .ok (.aload_n 2, 1) := dk_44 (dk_at dksL_law_4 10 rfl rfl)
theorem dL_law_235 : decode cL_law 235 = .ok (.aload_n 0, 1) := dk_42 (dk_at dksL_law_4 11 rfl rfl)
theorem dL_law_236 : decode cL_law 236 = .ok (.iload 4, 2) := dk_21 4 (dk_at dksL_law_4 12 rfl rfl)
theorem dL_law_238 : decode cL_law 238 = .ok (.iconst 1, 1) := dk_4 (dk_at dksL_law_4 14 rfl rfl)
theorem dL_law_239 : decode cL_law 239 = .ok (.iadd, 1) := dk_96 (dk_at dksL_law_4 15 rfl rfl)
theorem dL_law_240 : decode cL_law 240 = .ok (.iaload, 1) := dk_46 (dk_at dksL_law_4 16 rfl rfl)
theorem dL_law_241 : decode cL_law 241 = .ok (.aload_n 0, 1) := dk_42 (dk_at dksL_law_4 17 rfl rfl)
theorem dL_law_242 : decode cL_law 242 = .ok (.iload 4, 2) := dk_21 4 (dk_at dksL_law_4 18 rfl rfl)
theorem dL_law_244 : decode cL_law 244 = .ok (.iconst 2, 1) := dk_5 (dk_at dksL_law_4 20 rfl rfl)
theorem dL_law_245 : decode cL_law 245 = .ok (.iadd, 1) := dk_96 (dk_at dksL_law_4 21 rfl rfl)
theorem dL_law_246 : decode cL_law 246 = .ok (.iaload, 1) := dk_46 (dk_at dksL_law_4 22 rfl rfl)
theorem dL_law_247 : decode cL_law 247 = .ok (.aload_n 0, 1) := dk_42 (dk_at dksL_law_4 23 rfl rfl)
theorem dL_law_248 : decode cL_law 248 = .ok (.iload 4, 2) := dk_21 4 (dk_at dksL_law_5 0 rfl rfl)
theorem dL_law_250 : decode cL_law 250 = .ok (.iconst 3, 1) := dk_6 (dk_at dksL_law_5 2 rfl rfl)
theorem dL_law_251 : decode cL_law 251 = .ok (.iadd, 1) := dk_96 (dk_at dksL_law_5 3 rfl rfl)
theorem dL_law_252 : decode cL_law 252 = .ok (.iaload, 1) := dk_46 (dk_at dksL_law_5 4 rfl rfl)
theorem dL_law_253 : decode cL_law 253 = .ok (.aload_n 0, 1) := dk_42 (dk_at dksL_law_5 5 rfl rfl)
theorem dL_law_254 : decode cL_law 254 = .ok (.iload 4, 2) := dk_21 4 (dk_at dksL_law_5 6 rfl rfl)
theorem dL_law_256 : decode cL_law 256 = .ok (.iconst 4, 1) := dk_7 (dk_at dksL_law_5 8 rfl rfl)
theorem dL_law_257 : decode cL_law 257 = .ok (.iadd, 1) := dk_96 (dk_at dksL_law_5 9 rfl rfl)
theorem dL_law_258 : decode cL_law 258 = .ok (.iaload, 1) := dk_46 (dk_at dksL_law_5 10 rfl rfl)
theorem dL_law_259 : decode cL_law 259 = .ok (.aload_n 0, 1) := dk_42 (dk_at dksL_law_5 11 rfl rfl)
theorem dL_law_260 : decode cL_law 260 = .ok (.iload 4, 2) := dk_21 4 (dk_at dksL_law_5 12 rfl rfl)
theorem dL_law_262 : decode cL_law 262 = .ok (.iconst 5, 1) := dk_8 (dk_at dksL_law_5 14 rfl rfl)
theorem dL_law_263 : decode cL_law 263 = .ok (.iadd, 1) := dk_96 (dk_at dksL_law_5 15 rfl rfl)
theorem dL_law_264 : decode cL_law 264 = .ok (.iaload, 1) := dk_46 (dk_at dksL_law_5 16 rfl rfl)
theorem dL_law_265 : decode cL_law 265 = .ok (.invokevirtual 105, 3) := dk_182 0 105 (dk_at dksL_law_5 17 rfl rfl)
theorem dL_law_268 : decode cL_law 268 = .ok (.if_icmp .eq 2008, 3) := dk_159 7 216 (dk_at dksL_law_5 20 rfl rfl)
theorem dL_law_271 : decode cL_law 271 = .ok (.iconst 0, 1) := dk_3 (dk_at dksL_law_5 23 rfl rfl)
theorem dL_law_272 : decode cL_law 272 = .ok (.ireturn, 1) := dk_172 (dk_at dksL_law_6 0 rfl rfl)
theorem dL_law_273 : decode cL_law 273 = .ok (.aload_n 1, 1) := dk_43 (dk_at dksL_law_6 1 rfl rfl)
theorem dL_law_274 : decode cL_law 274 = .ok (.aload_n 0, 1) := dk_42 (dk_at dksL_law_6 2 rfl rfl)
theorem dL_law_275 : decode cL_law 275 = .ok (.iload 4, 2) := dk_21 4 (dk_at dksL_law_6 3 rfl rfl)
theorem dL_law_277 : decode cL_law 277 = .ok (.iconst 1, 1) := dk_4 (dk_at dksL_law_6 5 rfl rfl)
theorem dL_law_278 : decode cL_law 278 = .ok (.iadd, 1) := dk_96 (dk_at dksL_law_6 6 rfl rfl)
theorem dL_law_279 : decode cL_law 279 = .ok (.iaload, 1) := dk_46 (dk_at dksL_law_6 7 rfl rfl)
theorem dL_law_280 : decode cL_law 280 = .ok (.aload_n 3, 1) := dk_45 (dk_at dksL_law_6 8 rfl rfl)
theorem dL_law_281 : decode cL_law 281 = .ok (.invokestatic 106, 3) := dk_184 0 106 (dk_at dksL_law_6 9 rfl rfl)
theorem dL_law_284 : decode cL_law 284 = .ok (.istore 5, 2) := dk_54 5 (dk_at dksL_law_6 12 rfl rfl)
theorem dL_law_286 : decode cL_law 286 = .ok (.aload_n 2, 1) := dk_44 (dk_at dksL_law_6 14 rfl rfl)
theorem dL_law_287 : decode cL_law 287 = .ok (.aload_n 0, 1) := dk_42 (dk_at dksL_law_6 15 rfl rfl)
theorem dL_law_288 : decode cL_law 288 = .ok (.iload 4, 2) := dk_21 4 (dk_at dksL_law_6 16 rfl rfl)
theorem dL_law_290 : decode cL_law 290 = .ok (.iconst 1, 1) := dk_4 (dk_at dksL_law_6 18 rfl rfl)
theorem dL_law_291 : decode cL_law 291 = .ok (.iadd, 1) := dk_96 (dk_at dksL_law_6 19 rfl rfl)
theorem dL_law_292 : decode cL_law 292 = .ok (.iaload, 1) := dk_46 (dk_at dksL_law_6 20 rfl rfl)
theorem dL_law_293 : decode cL_law 293 = .ok (.invokevirtual 111, 3) := dk_182 0 111 (dk_at dksL_law_6 21 rfl rfl)
theorem dL_law_296 : decode cL_law 296 = .ok (.istore 6, 2) := dk_54 6 (dk_at dksL_law_7 0 rfl rfl)
theorem dL_law_298 : decode cL_law 298 = .ok (.aload_n 2, 1) := dk_44 (dk_at dksL_law_7 2 rfl rfl)
theorem dL_law_299 : decode cL_law 299 = .ok (.invokevirtual 112, 3) := dk_182 0 112 (dk_at dksL_law_7 3 rfl rfl)
theorem dL_law_302 : decode cL_law 302 = .ok (.iload 5, 2) := dk_21 5 (dk_at dksL_law_7 6 rfl rfl)
theorem dL_law_304 : decode cL_law 304 = .ok (.if_icmp .eq 5, 3) := dk_159 0 5 (dk_at dksL_law_7 8 rfl rfl)
theorem dL_law_307 : decode cL_law 307 = .ok (.iconst 0, 1) := dk_3 (dk_at dksL_law_7 11 rfl rfl)
theorem dL_law_308 : decode cL_law 308 = .ok (.ireturn, 1) := dk_172 (dk_at dksL_law_7 12 rfl rfl)
theorem dL_law_309 : decode cL_law 309 = .ok (.iload 5, 2) := dk_21 5 (dk_at dksL_law_7 13 rfl rfl)
theorem dL_law_311 : decode cL_law 311 = .ok (.ifCond .ne 15, 3) := dk_154 0 15 (dk_at dksL_law_7 15 rfl rfl)
theorem dL_law_314 : decode cL_law 314 = .ok (.aload_n 3, 1) := dk_45 (dk_at dksL_law_7 18 rfl rfl)
theorem dL_law_315 : decode cL_law 315 = .ok (.iconst 0, 1) := dk_3 (dk_at dksL_law_7 19 rfl rfl)
theorem dL_law_316 : decode cL_law 316 = .ok (.laload, 1) := dk_47 (dk_at dksL_law_7 20 rfl rfl)
theorem dL_law_317 : decode cL_law 317 = .ok (.iload 6, 2) := dk_21 6 (dk_at dksL_law_7 21 rfl rfl)
theorem dL_law_319 : decode cL_law 319 = .ok (.i2l, 1) := dk_133 (dk_at dksL_law_7 23 rfl rfl)
theorem dL_law_320 : decode cL_law 320 = .ok (.lcmp, 1) := dk_148 (dk_at dksL_law_8 0 rfl rfl)
theorem dL_law_321 : decode cL_law 321 = .ok (.ifCond .eq 5, 3) := dk_153 0 5 (dk_at dksL_law_8 1 rfl rfl)
theorem dL_law_324 : decode cL_law 324 = .ok (.iconst 0, 1) := dk_3 (dk_at dksL_law_8 4 rfl rfl)
theorem dL_law_325 : decode cL_law 325 = .ok (.ireturn, 1) := dk_172 (dk_at dksL_law_8 5 rfl rfl)
theorem dL_law_326 : decode cL_law 326 = .ok (.goto 1950, 3) := dk_167 7 158 (dk_at dksL_law_8 6 rfl rfl)
theorem dL_law_329 : decode cL_law 329 = .ok (.aload_n 1, 1) := dk_43 (dk_at dksL_law_8 9 rfl rfl)
theorem dL_law_330 : decode cL_law 330 = .ok (.invokevirtual 116, 3) := dk_182 0 116 (dk_at dksL_law_8 10 rfl rfl)
theorem dL_law_333 : decode cL_law 333 = .ok (.aload_n 2, 1) := dk_44 (dk_at dksL_law_8 13 rfl rfl)
theorem dL_law_334 : decode cL_law 334 = .ok (.invokevirtual 119, 3) := dk_182 0 119 (dk_at dksL_law_8 14 rfl rfl)
theorem dL_law_337 : decode cL_law 337 = .ok (.if_icmp .eq 1939, 3) := dk_159 7 147 (dk_at dksL_law_8 17 rfl rfl)
theorem dL_law_340 : decode cL_law 340 = .ok (.iconst 0, 1) := dk_3 (dk_at dksL_law_8 20 rfl rfl)
theorem dL_law_341 : decode cL_law 341 = .ok (.ireturn, 1) := dk_172 (dk_at dksL_law_8 21 rfl rfl)
theorem dL_law_342 : decode cL_law 342 = .ok (.aload_n 1, 1) := dk_43 (dk_at dksL_law_8 22 rfl rfl)
theorem dL_law_343 : decode cL_law 343 = .ok (.aload_n 0, 1) := dk_42 (dk_at dksL_law_8 23 rfl rfl)
theorem dL_law_344 : decode cL_law 344 = .ok (.iload 4, 2) := dk_21 4 (dk_at dksL_law_9 0 rfl rfl)
theorem dL_law_346 : decode cL_law 346 = .ok (.iconst 1, 1) := dk_4 (dk_at dksL_law_9 2 rfl rfl)
theorem dL_law_347 : decode cL_law 347 = .ok (.iadd, 1) := dk_96 (dk_at dksL_law_9 3 rfl rfl)
theorem dL_law_348 : decode cL_law 348 = .ok (.iaload, 1) := dk_46 (dk_at dksL_law_9 4 rfl rfl)
theorem dL_law_349 : decode cL_law 349 = .ok (.aload_n 3, 1) := dk_45 (dk_at dksL_law_9 5 rfl rfl)
theorem dL_law_350 : decode cL_law 350 = .ok (.invokestatic 120, 3) := dk_184 0 120 (dk_at dksL_law_9 6 rfl rfl)
theorem dL_law_353 : decode cL_law 353 = .ok (.istore 5, 2) := dk_54 5 (dk_at dksL_law_9 9 rfl rfl)
theorem dL_law_355 : decode cL_law 355 = .ok (.aload_n 2, 1) := dk_44 (dk_at dksL_law_9 11 rfl rfl)
theorem dL_law_356 : decode cL_law 356 = .ok (.aload_n 0, 1) := dk_42 (dk_at dksL_law_9 12 rfl rfl)
theorem dL_law_357 : decode cL_law 357 = .ok (.iload 4, 2) := dk_21 4 (dk_at dksL_law_9 13 rfl rfl)
theorem dL_law_359 : decode cL_law 359 = .ok (.iconst 1, 1) := dk_4 (dk_at dksL_law_9 15 rfl rfl)
theorem dL_law_360 : decode cL_law 360 = .ok (.iadd, 1) := dk_96 (dk_at dksL_law_9 16 rfl rfl)
theorem dL_law_361 : decode cL_law 361 = .ok (.iaload, 1) := dk_46 (dk_at dksL_law_9 17 rfl rfl)
theorem dL_law_362 : decode cL_law 362 = .ok (.invokevirtual 122, 3) := dk_182 0 122 (dk_at dksL_law_9 18 rfl rfl)
theorem dL_law_365 : decode cL_law 365 = .ok (.istore 6, 2) := dk_54 6 (dk_at dksL_law_9 21 rfl rfl)
theorem dL_law_367 : decode cL_law 367 = .ok (.aload_n 2, 1) := dk_44 (dk_at dksL_law_9 23 rfl rfl)
theorem dL_law_368 : decode cL_law 368 = .ok (.invokevirtual 112, 3) := dk_182 0 112 (dk_at dksL_law_10 0 rfl rfl)
theorem dL_law_371 : decode cL_law 371 = .ok (.iload 5, 2) := dk_21 5 (dk_at dksL_law_10 3 rfl rfl)
theorem dL_law_373 : decode cL_law 373 = .ok (.if_icmp .eq 5, 3) := dk_159 0 5 (dk_at dksL_law_10 5 rfl rfl)
theorem dL_law_376 : decode cL_law 376 = .ok (.iconst 0, 1) := dk_3 (dk_at dksL_law_10 8 rfl rfl)
theorem dL_law_377 : decode cL_law 377 = .ok (.ireturn, 1) := dk_172 (dk_at dksL_law_10 9 rfl rfl)
theorem dL_law_378 : decode cL_law 378 = .ok (.iload 5, 2) := dk_21 5 (dk_at dksL_law_10 10 rfl rfl)
theorem dL_law_380 : decode cL_law 380 = .ok (.ifCond .ne 15, 3) := dk_154 0 15 (dk_at dksL_law_10 12 rfl rfl)
theorem dL_law_383 : decode cL_law 383 = .ok (.aload_n 3, 1) := dk_45 (dk_at dksL_law_10 15 rfl rfl)
theorem dL_law_384 : decode cL_law 384 = .ok (.iconst 0, 1) := dk_3 (dk_at dksL_law_10 16 rfl rfl)
theorem dL_law_385 : decode cL_law 385 = .ok (.laload, 1) := dk_47 (dk_at dksL_law_10 17 rfl rfl)
theorem dL_law_386 : decode cL_law 386 = .ok (.iload 6, 2) := dk_21 6 (dk_at dksL_law_10 18 rfl rfl)
theorem dL_law_388 : decode cL_law 388 = .ok (.i2l, 1) := dk_133 (dk_at dksL_law_10 20 rfl rfl)
theorem dL_law_389 : decode cL_law 389 = .ok (.lcmp, 1) := dk_148 (dk_at dksL_law_10 21 rfl rfl)
theorem dL_law_390 : decode cL_law 390 = .ok (.ifCond .eq 5, 3) := dk_153 0 5 (dk_at dksL_law_11 0 rfl rfl)
theorem dL_law_393 : decode cL_law 393 = .ok (.iconst 0, 1) := dk_3 (dk_at dksL_law_11 3 rfl rfl)
theorem dL_law_394 : decode cL_law 394 = .ok (.ireturn, 1) := dk_172 (dk_at dksL_law_11 4 rfl rfl)
theorem dL_law_395 : decode cL_law 395 = .ok (.goto 1881, 3) := dk_167 7 89 (dk_at dksL_law_11 5 rfl rfl)
theorem dL_law_398 : decode cL_law 398 = .ok (.aload_n 1, 1) := dk_43 (dk_at dksL_law_11 8 rfl rfl)
theorem dL_law_399 : decode cL_law 399 = .ok (.aload_n 0, 1) := dk_42 (dk_at dksL_law_11 9 rfl rfl)
theorem dL_law_400 : decode cL_law 400 = .ok (.iload 4, 2) := dk_21 4 (dk_at dksL_law_11 10 rfl rfl)
theorem dL_law_402 : decode cL_law 402 = .ok (.iconst 1, 1) := dk_4 (dk_at dksL_law_11 12 rfl rfl)
theorem dL_law_403 : decode cL_law 403 = .ok (.iadd, 1) := dk_96 (dk_at dksL_law_11 13 rfl rfl)
theorem dL_law_404 : decode cL_law 404 = .ok (.iaload, 1) := dk_46 (dk_at dksL_law_11 14 rfl rfl)
theorem dL_law_405 : decode cL_law 405 = .ok (.aload_n 0, 1) := dk_42 (dk_at dksL_law_11 15 rfl rfl)
theorem dL_law_406 : decode cL_law 406 = .ok (.iload 4, 2) := dk_21 4 (dk_at dksL_law_11 16 rfl rfl)
theorem dL_law_408 : decode cL_law 408 = .ok (.iconst 2, 1) := dk_5 (dk_at dksL_law_11 18 rfl rfl)
theorem dL_law_409 : decode cL_law 409 = .ok (.iadd, 1) := dk_96 (dk_at dksL_law_11 19 rfl rfl)
theorem dL_law_410 : decode cL_law 410 = .ok (.iaload, 1) := dk_46 (dk_at dksL_law_11 20 rfl rfl)
theorem dL_law_411 : decode cL_law 411 = .ok (.aload_n 3, 1) := dk_45 (dk_at dksL_law_11 21 rfl rfl)
theorem dL_law_412 : decode cL_law 412 = .ok (.invokestatic 123, 3) := dk_184 0 123 (dk_at dksL_law_12 0 rfl rfl)
theorem dL_law_415 : decode cL_law 415 = .ok (.istore 5, 2) := dk_54 5 (dk_at dksL_law_12 3 rfl rfl)
theorem dL_law_417 : decode cL_law 417 = .ok (.aload_n 2, 1) := dk_44 (dk_at dksL_law_12 5 rfl rfl)
theorem dL_law_418 : decode cL_law 418 = .ok (.aload_n 0, 1) := dk_42 (dk_at dksL_law_12 6 rfl rfl)
theorem dL_law_419 : decode cL_law 419 = .ok (.iload 4, 2) := dk_21 4 (dk_at dksL_law_12 7 rfl rfl)
theorem dL_law_421 : decode cL_law 421 = .ok (.iconst 1, 1) := dk_4 (dk_at dksL_law_12 9 rfl rfl)
theorem dL_law_422 : decode cL_law 422 = .ok (.iadd, 1) := dk_96 (dk_at dksL_law_12 10 rfl rfl)
theorem dL_law_423 : decode cL_law 423 = .ok (.iaload, 1) := dk_46 (dk_at dksL_law_12 11 rfl rfl)
theorem dL_law_424 : decode cL_law 424 = .ok (.aload_n 0, 1) := dk_42 (dk_at dksL_law_12 12 rfl rfl)
theorem dL_law_425 : decode cL_law 425 = .ok (.iload 4, 2) := dk_21 4 (dk_at dksL_law_12 13 rfl rfl)
theorem dL_law_427 : decode cL_law 427 = .ok (.iconst 2, 1) := dk_5 (dk_at dksL_law_12 15 rfl rfl)
theorem dL_law_428 : decode cL_law 428 = .ok (.iadd, 1) := dk_96 (dk_at dksL_law_12 16 rfl rfl)
theorem dL_law_429 : decode cL_law 429 = .ok (.iaload, 1) := dk_46 (dk_at dksL_law_12 17 rfl rfl)
theorem dL_law_430 : decode cL_law 430 = .ok (.invokevirtual 126, 3) := dk_182 0 126 (dk_at dksL_law_12 18 rfl rfl)
theorem dL_law_433 : decode cL_law 433 = .ok (.istore 6, 2) := dk_54 6 (dk_at dksL_law_12 21 rfl rfl)
theorem dL_law_435 : decode cL_law 435 = .ok (.aload_n 2, 1) := dk_44 (dk_at dksL_law_12 23 rfl rfl)
theorem dL_law_436 : decode cL_law 436 = .ok (.invokevirtual 112, 3) := dk_182 0 112 (dk_at dksL_law_13 0 rfl rfl)
theorem dL_law_439 : decode cL_law 439 = .ok (.iload 5, 2) := dk_21 5 (dk_at dksL_law_13 3 rfl rfl)
theorem dL_law_441 : decode cL_law 441 = .ok (.if_icmp .eq 5, 3) := dk_159 0 5 (dk_at dksL_law_13 5 rfl rfl)
theorem dL_law_444 : decode cL_law 444 = .ok (.iconst 0, 1) := dk_3 (dk_at dksL_law_13 8 rfl rfl)
theorem dL_law_445 : decode cL_law 445 = .ok (.ireturn, 1) := dk_172 (dk_at dksL_law_13 9 rfl rfl)
theorem dL_law_446 : decode cL_law 446 = .ok (.iload 5, 2) := dk_21 5 (dk_at dksL_law_13 10 rfl rfl)
theorem dL_law_448 : decode cL_law 448 = .ok (.ifCond .ne 15, 3) := dk_154 0 15 (dk_at dksL_law_13 12 rfl rfl)
theorem dL_law_451 : decode cL_law 451 = .ok (.aload_n 3, 1) := dk_45 (dk_at dksL_law_13 15 rfl rfl)
theorem dL_law_452 : decode cL_law 452 = .ok (.iconst 0, 1) := dk_3 (dk_at dksL_law_13 16 rfl rfl)
theorem dL_law_453 : decode cL_law 453 = .ok (.laload, 1) := dk_47 (dk_at dksL_law_13 17 rfl rfl)
theorem dL_law_454 : decode cL_law 454 = .ok (.iload 6, 2) := dk_21 6 (dk_at dksL_law_13 18 rfl rfl)
theorem dL_law_456 : decode cL_law 456 = .ok (.i2l, 1) := dk_133 (dk_at dksL_law_13 20 rfl rfl)
theorem dL_law_457 : decode cL_law 457 = .ok (.lcmp, 1) := dk_148 (dk_at dksL_law_13 21 rfl rfl)
theorem dL_law_458 : decode cL_law 458 = .ok (.ifCond .eq 5, 3) := dk_153 0 5 (dk_at dksL_law_14 0 rfl rfl)
theorem dL_law_461 : decode cL_law 461 = .ok (.iconst 0, 1) := dk_3 (dk_at dksL_law_14 3 rfl rfl)
theorem dL_law_462 : decode cL_law 462 = .ok (.ireturn, 1) := dk_172 (dk_at dksL_law_14 4 rfl rfl)
theorem dL_law_463 : decode cL_law 463 = .ok (.goto 1813, 3) := dk_167 7 21 (dk_at dksL_law_14 5 rfl rfl)
theorem dL_law_466 : decode cL_law 466 = .ok (.aload_n 1, 1) := dk_43 (dk_at dksL_law_14 8 rfl rfl)
theorem dL_law_467 : decode cL_law 467 = .ok (.aload_n 0, 1) := dk_42 (dk_at dksL_law_14 9 rfl rfl)
theorem dL_law_468 : decode cL_law 468 = .ok (.iload 4, 2) := dk_21 4 (dk_at dksL_law_14 10 rfl rfl)
theorem dL_law_470 : decode cL_law 470 = .ok (.iconst 1, 1) := dk_4 (dk_at dksL_law_14 12 rfl rfl)
theorem dL_law_471 : decode cL_law 471 = .ok (.iadd, 1) := dk_96 (dk_at dksL_law_14 13 rfl rfl)
theorem dL_law_472 : decode cL_law 472 = .ok (.iaload, 1) := dk_46 (dk_at dksL_law_14 14 rfl rfl)
theorem dL_law_473 : decode cL_law 473 = .ok (.aload_n 0, 1) := dk_42 (dk_at dksL_law_14 15 rfl rfl)
theorem dL_law_474 : decode cL_law 474 = .ok (.iload 4, 2) := dk_21 4 (dk_at dksL_law_14 16 rfl rfl)
theorem dL_law_476 : decode cL_law 476 = .ok (.iconst 2, 1) := dk_5 (dk_at dksL_law_14 18 rfl rfl)
theorem dL_law_477 : decode cL_law 477 = .ok (.iadd, 1) := dk_96 (dk_at dksL_law_14 19 rfl rfl)
theorem dL_law_478 : decode cL_law 478 = .ok (.iaload, 1) := dk_46 (dk_at dksL_law_14 20 rfl rfl)
theorem dL_law_479 : decode cL_law 479 = .ok (.aload_n 3, 1) := dk_45 (dk_at dksL_law_14 21 rfl rfl)
theorem dL_law_480 : decode cL_law 480 = .ok (.invokestatic 127, 3) := dk_184 0 127 (dk_at dksL_law_15 0 rfl rfl)
theorem dL_law_483 : decode cL_law 483 = .ok (.istore 5, 2) := dk_54 5 (dk_at dksL_law_15 3 rfl rfl)
theorem dL_law_485 : decode cL_law 485 = .ok (.aload_n 2, 1) := dk_44 (dk_at dksL_law_15 5 rfl rfl)
theorem dL_law_486 : decode cL_law 486 = .ok (.aload_n 0, 1) := dk_42 (dk_at dksL_law_15 6 rfl rfl)
theorem dL_law_487 : decode cL_law 487 = .ok (.iload 4, 2) := dk_21 4 (dk_at dksL_law_15 7 rfl rfl)
theorem dL_law_489 : decode cL_law 489 = .ok (.iconst 1, 1) := dk_4 (dk_at dksL_law_15 9 rfl rfl)
theorem dL_law_490 : decode cL_law 490 = .ok (.iadd, 1) := dk_96 (dk_at dksL_law_15 10 rfl rfl)
theorem dL_law_491 : decode cL_law 491 = .ok (.iaload, 1) := dk_46 (dk_at dksL_law_15 11 rfl rfl)
theorem dL_law_492 : decode cL_law 492 = .ok (.aload_n 0, 1) := dk_42 (dk_at dksL_law_15 12 rfl rfl)
theorem dL_law_493 : decode cL_law 493 = .ok (.iload 4, 2) := dk_21 4 (dk_at dksL_law_15 13 rfl rfl)
theorem dL_law_495 : decode cL_law 495 = .ok (.iconst 2, 1) := dk_5 (dk_at dksL_law_15 15 rfl rfl)
theorem dL_law_496 : decode cL_law 496 = .ok (.iadd, 1) := dk_96 (dk_at dksL_law_15 16 rfl rfl)
theorem dL_law_497 : decode cL_law 497 = .ok (.iaload, 1) := dk_46 (dk_at dksL_law_15 17 rfl rfl)
theorem dL_law_498 : decode cL_law 498 = .ok (.invokevirtual 129, 3) := dk_182 0 129 (dk_at dksL_law_15 18 rfl rfl)
theorem dL_law_501 : decode cL_law 501 = .ok (.istore 6, 2) := dk_54 6 (dk_at dksL_law_15 21 rfl rfl)
theorem dL_law_503 : decode cL_law 503 = .ok (.aload_n 2, 1) := dk_44 (dk_at dksL_law_15 23 rfl rfl)
theorem dL_law_504 : decode cL_law 504 = .ok (.invokevirtual 112, 3) := dk_182 0 112 (dk_at dksL_law_16 0 rfl rfl)
theorem dL_law_507 : decode cL_law 507 = .ok (.iload 5, 2) := dk_21 5 (dk_at dksL_law_16 3 rfl rfl)
theorem dL_law_509 : decode cL_law 509 = .ok (.if_icmp .eq 5, 3) := dk_159 0 5 (dk_at dksL_law_16 5 rfl rfl)
theorem dL_law_512 : decode cL_law 512 = .ok (.iconst 0, 1) := dk_3 (dk_at dksL_law_16 8 rfl rfl)
theorem dL_law_513 : decode cL_law 513 = .ok (.ireturn, 1) := dk_172 (dk_at dksL_law_16 9 rfl rfl)
theorem dL_law_514 : decode cL_law 514 = .ok (.iload 5, 2) := dk_21 5 (dk_at dksL_law_16 10 rfl rfl)
theorem dL_law_516 : decode cL_law 516 = .ok (.ifCond .ne 15, 3) := dk_154 0 15 (dk_at dksL_law_16 12 rfl rfl)
theorem dL_law_519 : decode cL_law 519 = .ok (.aload_n 3, 1) := dk_45 (dk_at dksL_law_16 15 rfl rfl)
theorem dL_law_520 : decode cL_law 520 = .ok (.iconst 0, 1) := dk_3 (dk_at dksL_law_16 16 rfl rfl)
theorem dL_law_521 : decode cL_law 521 = .ok (.laload, 1) := dk_47 (dk_at dksL_law_16 17 rfl rfl)
theorem dL_law_522 : decode cL_law 522 = .ok (.iload 6, 2) := dk_21 6 (dk_at dksL_law_16 18 rfl rfl)
theorem dL_law_524 : decode cL_law 524 = .ok (.i2l, 1) := dk_133 (dk_at dksL_law_16 20 rfl rfl)
theorem dL_law_525 : decode cL_law 525 = .ok (.lcmp, 1) := dk_148 (dk_at dksL_law_16 21 rfl rfl)
theorem dL_law_526 : decode cL_law 526 = .ok (.ifCond .eq 5, 3) := dk_153 0 5 (dk_at dksL_law_17 0 rfl rfl)
theorem dL_law_529 : decode cL_law 529 = .ok (.iconst 0, 1) := dk_3 (dk_at dksL_law_17 3 rfl rfl)
theorem dL_law_530 : decode cL_law 530 = .ok (.ireturn, 1) := dk_172 (dk_at dksL_law_17 4 rfl rfl)
theorem dL_law_531 : decode cL_law 531 = .ok (.goto 1745, 3) := dk_167 6 209 (dk_at dksL_law_17 5 rfl rfl)
theorem dL_law_534 : decode cL_law 534 = .ok (.aload_n 1, 1) := dk_43 (dk_at dksL_law_17 8 rfl rfl)
theorem dL_law_535 : decode cL_law 535 = .ok (.aload_n 0, 1) := dk_42 (dk_at dksL_law_17 9 rfl rfl)
theorem dL_law_536 : decode cL_law 536 = .ok (.iload 4, 2) := dk_21 4 (dk_at dksL_law_17 10 rfl rfl)
theorem dL_law_538 : decode cL_law 538 = .ok (.iconst 1, 1) := dk_4 (dk_at dksL_law_17 12 rfl rfl)
theorem dL_law_539 : decode cL_law 539 = .ok (.iadd, 1) := dk_96 (dk_at dksL_law_17 13 rfl rfl)
theorem dL_law_540 : decode cL_law 540 = .ok (.iaload, 1) := dk_46 (dk_at dksL_law_17 14 rfl rfl)
theorem dL_law_541 : decode cL_law 541 = .ok (.aload_n 0, 1) := dk_42 (dk_at dksL_law_17 15 rfl rfl)
theorem dL_law_542 : decode cL_law 542 = .ok (.iload 4, 2) := dk_21 4 (dk_at dksL_law_17 16 rfl rfl)
theorem dL_law_544 : decode cL_law 544 = .ok (.iconst 2, 1) := dk_5 (dk_at dksL_law_17 18 rfl rfl)
theorem dL_law_545 : decode cL_law 545 = .ok (.iadd, 1) := dk_96 (dk_at dksL_law_17 19 rfl rfl)
theorem dL_law_546 : decode cL_law 546 = .ok (.iaload, 1) := dk_46 (dk_at dksL_law_17 20 rfl rfl)
theorem dL_law_547 : decode cL_law 547 = .ok (.aload_n 3, 1) := dk_45 (dk_at dksL_law_17 21 rfl rfl)
theorem dL_law_548 : decode cL_law 548 = .ok (.invokestatic 130, 3) := dk_184 0 130 (dk_at dksL_law_18 0 rfl rfl)
theorem dL_law_551 : decode cL_law 551 = .ok (.istore 5, 2) := dk_54 5 (dk_at dksL_law_18 3 rfl rfl)
theorem dL_law_553 : decode cL_law 553 = .ok (.aload_n 2, 1) := dk_44 (dk_at dksL_law_18 5 rfl rfl)
theorem dL_law_554 : decode cL_law 554 = .ok (.aload_n 0, 1) := dk_42 (dk_at dksL_law_18 6 rfl rfl)
theorem dL_law_555 : decode cL_law 555 = .ok (.iload 4, 2) := dk_21 4 (dk_at dksL_law_18 7 rfl rfl)
theorem dL_law_557 : decode cL_law 557 = .ok (.iconst 1, 1) := dk_4 (dk_at dksL_law_18 9 rfl rfl)
theorem dL_law_558 : decode cL_law 558 = .ok (.iadd, 1) := dk_96 (dk_at dksL_law_18 10 rfl rfl)
theorem dL_law_559 : decode cL_law 559 = .ok (.iaload, 1) := dk_46 (dk_at dksL_law_18 11 rfl rfl)
theorem dL_law_560 : decode cL_law 560 = .ok (.aload_n 0, 1) := dk_42 (dk_at dksL_law_18 12 rfl rfl)
theorem dL_law_561 : decode cL_law 561 = .ok (.iload 4, 2) := dk_21 4 (dk_at dksL_law_18 13 rfl rfl)
theorem dL_law_563 : decode cL_law 563 = .ok (.iconst 2, 1) := dk_5 (dk_at dksL_law_18 15 rfl rfl)
theorem dL_law_564 : decode cL_law 564 = .ok (.iadd, 1) := dk_96 (dk_at dksL_law_18 16 rfl rfl)
theorem dL_law_565 : decode cL_law 565 = .ok (.iaload, 1) := dk_46 (dk_at dksL_law_18 17 rfl rfl)
theorem dL_law_566 : decode cL_law 566 = .ok (.invokevirtual 132, 3) := dk_182 0 132 (dk_at dksL_law_18 18 rfl rfl)
theorem dL_law_569 : decode cL_law 569 = .ok (.istore 6, 2) := dk_54 6 (dk_at dksL_law_18 21 rfl rfl)
theorem dL_law_571 : decode cL_law 571 = .ok (.aload_n 2, 1) := dk_44 (dk_at dksL_law_18 23 rfl rfl)
theorem dL_law_572 : decode cL_law 572 = .ok (.invokevirtual 112, 3) := dk_182 0 112 (dk_at dksL_law_19 0 rfl rfl)
theorem dL_law_575 : decode cL_law 575 = .ok (.iload 5, 2) := dk_21 5 (dk_at dksL_law_19 3 rfl rfl)
theorem dL_law_577 : decode cL_law 577 = .ok (.if_icmp .eq 5, 3) := dk_159 0 5 (dk_at dksL_law_19 5 rfl rfl)
theorem dL_law_580 : decode cL_law 580 = .ok (.iconst 0, 1) := dk_3 (dk_at dksL_law_19 8 rfl rfl)
theorem dL_law_581 : decode cL_law 581 = .ok (.ireturn, 1) := dk_172 (dk_at dksL_law_19 9 rfl rfl)
theorem dL_law_582 : decode cL_law 582 = .ok (.iload 5, 2) := dk_21 5 (dk_at dksL_law_19 10 rfl rfl)
theorem dL_law_584 : decode cL_law 584 = .ok (.ifCond .ne 15, 3) := dk_154 0 15 (dk_at dksL_law_19 12 rfl rfl)
theorem dL_law_587 : decode cL_law 587 = .ok (.aload_n 3, 1) := dk_45 (dk_at dksL_law_19 15 rfl rfl)
theorem dL_law_588 : decode cL_law 588 = .ok (.iconst 0, 1) := dk_3 (dk_at dksL_law_19 16 rfl rfl)
theorem dL_law_589 : decode cL_law 589 = .ok (.laload, 1) := dk_47 (dk_at dksL_law_19 17 rfl rfl)
theorem dL_law_590 : decode cL_law 590 = .ok (.iload 6, 2) := dk_21 6 (dk_at dksL_law_19 18 rfl rfl)
theorem dL_law_592 : decode cL_law 592 = .ok (.i2l, 1) := dk_133 (dk_at dksL_law_19 20 rfl rfl)
theorem dL_law_593 : decode cL_law 593 = .ok (.lcmp, 1) := dk_148 (dk_at dksL_law_19 21 rfl rfl)
theorem dL_law_594 : decode cL_law 594 = .ok (.ifCond .eq 5, 3) := dk_153 0 5 (dk_at dksL_law_20 0 rfl rfl)
theorem dL_law_597 : decode cL_law 597 = .ok (.iconst 0, 1) := dk_3 (dk_at dksL_law_20 3 rfl rfl)
theorem dL_law_598 : decode cL_law 598 = .ok (.ireturn, 1) := dk_172 (dk_at dksL_law_20 4 rfl rfl)
theorem dL_law_599 : decode cL_law 599 = .ok (.goto 1677, 3) := dk_167 6 141 (dk_at dksL_law_20 5 rfl rfl)
theorem dL_law_602 : decode cL_law 602 = .ok (.aload_n 1, 1) := dk_43 (dk_at dksL_law_20 8 rfl rfl)
theorem dL_law_603 : decode cL_law 603 = .ok (.aload_n 0, 1) := dk_42 (dk_at dksL_law_20 9 rfl rfl)
theorem dL_law_604 : decode cL_law 604 = .ok (.iload 4, 2) := dk_21 4 (dk_at dksL_law_20 10 rfl rfl)
theorem dL_law_606 : decode cL_law 606 = .ok (.iconst 1, 1) := dk_4 (dk_at dksL_law_20 12 rfl rfl)
theorem dL_law_607 : decode cL_law 607 = .ok (.iadd, 1) := dk_96 (dk_at dksL_law_20 13 rfl rfl)
theorem dL_law_608 : decode cL_law 608 = .ok (.iaload, 1) := dk_46 (dk_at dksL_law_20 14 rfl rfl)
theorem dL_law_609 : decode cL_law 609 = .ok (.aload_n 0, 1) := dk_42 (dk_at dksL_law_20 15 rfl rfl)
theorem dL_law_610 : decode cL_law 610 = .ok (.iload 4, 2) := dk_21 4 (dk_at dksL_law_20 16 rfl rfl)
theorem dL_law_612 : decode cL_law 612 = .ok (.iconst 2, 1) := dk_5 (dk_at dksL_law_20 18 rfl rfl)
theorem dL_law_613 : decode cL_law 613 = .ok (.iadd, 1) := dk_96 (dk_at dksL_law_20 19 rfl rfl)
theorem dL_law_614 : decode cL_law 614 = .ok (.iaload, 1) := dk_46 (dk_at dksL_law_20 20 rfl rfl)
theorem dL_law_615 : decode cL_law 615 = .ok (.aload_n 3, 1) := dk_45 (dk_at dksL_law_20 21 rfl rfl)
theorem dL_law_616 : decode cL_law 616 = .ok (.invokestatic 133, 3) := dk_184 0 133 (dk_at dksL_law_21 0 rfl rfl)
theorem dL_law_619 : decode cL_law 619 = .ok (.istore 5, 2) := dk_54 5 (dk_at dksL_law_21 3 rfl rfl)
theorem dL_law_621 : decode cL_law 621 = .ok (.aload_n 2, 1) := dk_44 (dk_at dksL_law_21 5 rfl rfl)
theorem dL_law_622 : decode cL_law 622 = .ok (.aload_n 0, 1) := dk_42 (dk_at dksL_law_21 6 rfl rfl)
theorem dL_law_623 : decode cL_law 623 = .ok (.iload 4, 2) := dk_21 4 (dk_at dksL_law_21 7 rfl rfl)
theorem dL_law_625 : decode cL_law 625 = .ok (.iconst 1, 1) := dk_4 (dk_at dksL_law_21 9 rfl rfl)
theorem dL_law_626 : decode cL_law 626 = .ok (.iadd, 1) := dk_96 (dk_at dksL_law_21 10 rfl rfl)
theorem dL_law_627 : decode cL_law 627 = .ok (.iaload, 1) := dk_46 (dk_at dksL_law_21 11 rfl rfl)
theorem dL_law_628 : decode cL_law 628 = .ok (.aload_n 0, 1) := dk_42 (dk_at dksL_law_21 12 rfl rfl)
theorem dL_law_629 : decode cL_law 629 = .ok (.iload 4, 2) := dk_21 4 (dk_at dksL_law_21 13 rfl rfl)
theorem dL_law_631 : decode cL_law 631 = .ok (.iconst 2, 1) := dk_5 (dk_at dksL_law_21 15 rfl rfl)
theorem dL_law_632 : decode cL_law 632 = .ok (.iadd, 1) := dk_96 (dk_at dksL_law_21 16 rfl rfl)
theorem dL_law_633 : decode cL_law 633 = .ok (.iaload, 1) := dk_46 (dk_at dksL_law_21 17 rfl rfl)
theorem dL_law_634 : decode cL_law 634 = .ok (.invokevirtual 135, 3) := dk_182 0 135 (dk_at dksL_law_21 18 rfl rfl)
theorem dL_law_637 : decode cL_law 637 = .ok (.istore 6, 2) := dk_54 6 (dk_at dksL_law_21 21 rfl rfl)
theorem dL_law_639 : decode cL_law 639 = .ok (.aload_n 2, 1) := dk_44 (dk_at dksL_law_21 23 rfl rfl)
theorem dL_law_640 : decode cL_law 640 = .ok (.invokevirtual 112, 3) := dk_182 0 112 (dk_at dksL_law_22 0 rfl rfl)
theorem dL_law_643 : decode cL_law 643 = .ok (.iload 5, 2) := dk_21 5 (dk_at dksL_law_22 3 rfl rfl)
theorem dL_law_645 : decode cL_law 645 = .ok (.if_icmp .eq 5, 3) := dk_159 0 5 (dk_at dksL_law_22 5 rfl rfl)
theorem dL_law_648 : decode cL_law 648 = .ok (.iconst 0, 1) := dk_3 (dk_at dksL_law_22 8 rfl rfl)
theorem dL_law_649 : decode cL_law 649 = .ok (.ireturn, 1) := dk_172 (dk_at dksL_law_22 9 rfl rfl)
theorem dL_law_650 : decode cL_law 650 = .ok (.iload 5, 2) := dk_21 5 (dk_at dksL_law_22 10 rfl rfl)
theorem dL_law_652 : decode cL_law 652 = .ok (.ifCond .ne 15, 3) := dk_154 0 15 (dk_at dksL_law_22 12 rfl rfl)
theorem dL_law_655 : decode cL_law 655 = .ok (.aload_n 3, 1) := dk_45 (dk_at dksL_law_22 15 rfl rfl)
theorem dL_law_656 : decode cL_law 656 = .ok (.iconst 0, 1) := dk_3 (dk_at dksL_law_22 16 rfl rfl)
theorem dL_law_657 : decode cL_law 657 = .ok (.laload, 1) := dk_47 (dk_at dksL_law_22 17 rfl rfl)
theorem dL_law_658 : decode cL_law 658 = .ok (.iload 6, 2) := dk_21 6 (dk_at dksL_law_22 18 rfl rfl)
theorem dL_law_660 : decode cL_law 660 = .ok (.i2l, 1) := dk_133 (dk_at dksL_law_22 20 rfl rfl)
theorem dL_law_661 : decode cL_law 661 = .ok (.lcmp, 1) := dk_148 (dk_at dksL_law_22 21 rfl rfl)
theorem dL_law_662 : decode cL_law 662 = .ok (.ifCond .eq 5, 3) := dk_153 0 5 (dk_at dksL_law_23 0 rfl rfl)
theorem dL_law_665 : decode cL_law 665 = .ok (.iconst 0, 1) := dk_3 (dk_at dksL_law_23 3 rfl rfl)
theorem dL_law_666 : decode cL_law 666 = .ok (.ireturn, 1) := dk_172 (dk_at dksL_law_23 4 rfl rfl)
theorem dL_law_667 : decode cL_law 667 = .ok (.goto 1609, 3) := dk_167 6 73 (dk_at dksL_law_23 5 rfl rfl)
theorem dL_law_670 : decode cL_law 670 = .ok (.aload_n 1, 1) := dk_43 (dk_at dksL_law_23 8 rfl rfl)
theorem dL_law_671 : decode cL_law 671 = .ok (.aload_n 0, 1) := dk_42 (dk_at dksL_law_23 9 rfl rfl)
theorem dL_law_672 : decode cL_law 672 = .ok (.iload 4, 2) := dk_21 4 (dk_at dksL_law_23 10 rfl rfl)
theorem dL_law_674 : decode cL_law 674 = .ok (.iconst 1, 1) := dk_4 (dk_at dksL_law_23 12 rfl rfl)
theorem dL_law_675 : decode cL_law 675 = .ok (.iadd, 1) := dk_96 (dk_at dksL_law_23 13 rfl rfl)
theorem dL_law_676 : decode cL_law 676 = .ok (.iaload, 1) := dk_46 (dk_at dksL_law_23 14 rfl rfl)
theorem dL_law_677 : decode cL_law 677 = .ok (.aload_n 0, 1) := dk_42 (dk_at dksL_law_23 15 rfl rfl)
theorem dL_law_678 : decode cL_law 678 = .ok (.iload 4, 2) := dk_21 4 (dk_at dksL_law_23 16 rfl rfl)
theorem dL_law_680 : decode cL_law 680 = .ok (.iconst 2, 1) := dk_5 (dk_at dksL_law_23 18 rfl rfl)
theorem dL_law_681 : decode cL_law 681 = .ok (.iadd, 1) := dk_96 (dk_at dksL_law_23 19 rfl rfl)
theorem dL_law_682 : decode cL_law 682 = .ok (.iaload, 1) := dk_46 (dk_at dksL_law_23 20 rfl rfl)
theorem dL_law_683 : decode cL_law 683 = .ok (.aload_n 3, 1) := dk_45 (dk_at dksL_law_23 21 rfl rfl)
theorem dL_law_684 : decode cL_law 684 = .ok (.invokestatic 136, 3) := dk_184 0 136 (dk_at dksL_law_24 0 rfl rfl)
theorem dL_law_687 : decode cL_law 687 = .ok (.istore 5, 2) := dk_54 5 (dk_at dksL_law_24 3 rfl rfl)
theorem dL_law_689 : decode cL_law 689 = .ok (.aload_n 2, 1) := dk_44 (dk_at dksL_law_24 5 rfl rfl)
theorem dL_law_690 : decode cL_law 690 = .ok (.aload_n 0, 1) := dk_42 (dk_at dksL_law_24 6 rfl rfl)
theorem dL_law_691 : decode cL_law 691 = .ok (.iload 4, 2) := dk_21 4 (dk_at dksL_law_24 7 rfl rfl)
theorem dL_law_693 : decode cL_law 693 = .ok (.iconst 1, 1) := dk_4 (dk_at dksL_law_24 9 rfl rfl)
theorem dL_law_694 : decode cL_law 694 = .ok (.iadd, 1) := dk_96 (dk_at dksL_law_24 10 rfl rfl)
theorem dL_law_695 : decode cL_law 695 = .ok (.iaload, 1) := dk_46 (dk_at dksL_law_24 11 rfl rfl)
theorem dL_law_696 : decode cL_law 696 = .ok (.aload_n 0, 1) := dk_42 (dk_at dksL_law_24 12 rfl rfl)
theorem dL_law_697 : decode cL_law 697 = .ok (.iload 4, 2) := dk_21 4 (dk_at dksL_law_24 13 rfl rfl)
theorem dL_law_699 : decode cL_law 699 = .ok (.iconst 2, 1) := dk_5 (dk_at dksL_law_24 15 rfl rfl)
theorem dL_law_700 : decode cL_law 700 = .ok (.iadd, 1) := dk_96 (dk_at dksL_law_24 16 rfl rfl)
theorem dL_law_701 : decode cL_law 701 = .ok (.iaload, 1) := dk_46 (dk_at dksL_law_24 17 rfl rfl)
theorem dL_law_702 : decode cL_law 702 = .ok (.invokevirtual 138, 3) := dk_182 0 138 (dk_at dksL_law_24 18 rfl rfl)
theorem dL_law_705 : decode cL_law 705 = .ok (.istore 6, 2) := dk_54 6 (dk_at dksL_law_24 21 rfl rfl)
theorem dL_law_707 : decode cL_law 707 = .ok (.aload_n 2, 1) := dk_44 (dk_at dksL_law_24 23 rfl rfl)
theorem dL_law_708 : decode cL_law 708 = .ok (.invokevirtual 112, 3) := dk_182 0 112 (dk_at dksL_law_25 0 rfl rfl)
theorem dL_law_711 : decode cL_law 711 = .ok (.iload 5, 2) := dk_21 5 (dk_at dksL_law_25 3 rfl rfl)
theorem dL_law_713 : decode cL_law 713 = .ok (.if_icmp .eq 5, 3) := dk_159 0 5 (dk_at dksL_law_25 5 rfl rfl)
theorem dL_law_716 : decode cL_law 716 = .ok (.iconst 0, 1) := dk_3 (dk_at dksL_law_25 8 rfl rfl)
theorem dL_law_717 : decode cL_law 717 = .ok (.ireturn, 1) := dk_172 (dk_at dksL_law_25 9 rfl rfl)
theorem dL_law_718 : decode cL_law 718 = .ok (.iload 5, 2) := dk_21 5 (dk_at dksL_law_25 10 rfl rfl)
theorem dL_law_720 : decode cL_law 720 = .ok (.ifCond .ne 15, 3) := dk_154 0 15 (dk_at dksL_law_25 12 rfl rfl)
theorem dL_law_723 : decode cL_law 723 = .ok (.aload_n 3, 1) := dk_45 (dk_at dksL_law_25 15 rfl rfl)
theorem dL_law_724 : decode cL_law 724 = .ok (.iconst 0, 1) := dk_3 (dk_at dksL_law_25 16 rfl rfl)
theorem dL_law_725 : decode cL_law 725 = .ok (.laload, 1) := dk_47 (dk_at dksL_law_25 17 rfl rfl)
theorem dL_law_726 : decode cL_law 726 = .ok (.iload 6, 2) := dk_21 6 (dk_at dksL_law_25 18 rfl rfl)
theorem dL_law_728 : decode cL_law 728 = .ok (.i2l, 1) := dk_133 (dk_at dksL_law_25 20 rfl rfl)
theorem dL_law_729 : decode cL_law 729 = .ok (.lcmp, 1) := dk_148 (dk_at dksL_law_25 21 rfl rfl)
theorem dL_law_730 : decode cL_law 730 = .ok (.ifCond .eq 5, 3) := dk_153 0 5 (dk_at dksL_law_26 0 rfl rfl)
theorem dL_law_733 : decode cL_law 733 = .ok (.iconst 0, 1) := dk_3 (dk_at dksL_law_26 3 rfl rfl)
theorem dL_law_734 : decode cL_law 734 = .ok (.ireturn, 1) := dk_172 (dk_at dksL_law_26 4 rfl rfl)
theorem dL_law_735 : decode cL_law 735 = .ok (.goto 1541, 3) := dk_167 6 5 (dk_at dksL_law_26 5 rfl rfl)
theorem dL_law_738 : decode cL_law 738 = .ok (.aload_n 1, 1) := dk_43 (dk_at dksL_law_26 8 rfl rfl)
theorem dL_law_739 : decode cL_law 739 = .ok (.aload_n 0, 1) := dk_42 (dk_at dksL_law_26 9 rfl rfl)
theorem dL_law_740 : decode cL_law 740 = .ok (.iload 4, 2) := dk_21 4 (dk_at dksL_law_26 10 rfl rfl)
theorem dL_law_742 : decode cL_law 742 = .ok (.iconst 1, 1) := dk_4 (dk_at dksL_law_26 12 rfl rfl)
theorem dL_law_743 : decode cL_law 743 = .ok (.iadd, 1) := dk_96 (dk_at dksL_law_26 13 rfl rfl)
theorem dL_law_744 : decode cL_law 744 = .ok (.iaload, 1) := dk_46 (dk_at dksL_law_26 14 rfl rfl)
theorem dL_law_745 : decode cL_law 745 = .ok (.aload_n 3, 1) := dk_45 (dk_at dksL_law_26 15 rfl rfl)
theorem dL_law_746 : decode cL_law 746 = .ok (.invokestatic 139, 3) := dk_184 0 139 (dk_at dksL_law_26 16 rfl rfl)
theorem dL_law_749 : decode cL_law 749 = .ok (.istore 5, 2) := dk_54 5 (dk_at dksL_law_26 19 rfl rfl)
theorem dL_law_751 : decode cL_law 751 = .ok (.aload_n 2, 1) := dk_44 (dk_at dksL_law_26 21 rfl rfl)
theorem dL_law_752 : decode cL_law 752 = .ok (.aload_n 0, 1) := dk_42 (dk_at dksL_law_26 22 rfl rfl)
theorem dL_law_753 : decode cL_law 753 = .ok (.iload 4, 2) := dk_21 4 (dk_at dksL_law_27 0 rfl rfl)
theorem dL_law_755 : decode cL_law 755 = .ok (.iconst 1, 1) := dk_4 (dk_at dksL_law_27 2 rfl rfl)
theorem dL_law_756 : decode cL_law 756 = .ok (.iadd, 1) := dk_96 (dk_at dksL_law_27 3 rfl rfl)
theorem dL_law_757 : decode cL_law 757 = .ok (.iaload, 1) := dk_46 (dk_at dksL_law_27 4 rfl rfl)
theorem dL_law_758 : decode cL_law 758 = .ok (.invokevirtual 141, 3) := dk_182 0 141 (dk_at dksL_law_27 5 rfl rfl)
theorem dL_law_761 : decode cL_law 761 = .ok (.istore 6, 2) := dk_54 6 (dk_at dksL_law_27 8 rfl rfl)
theorem dL_law_763 : decode cL_law 763 = .ok (.aload_n 2, 1) := dk_44 (dk_at dksL_law_27 10 rfl rfl)
theorem dL_law_764 : decode cL_law 764 = .ok (.invokevirtual 112, 3) := dk_182 0 112 (dk_at dksL_law_27 11 rfl rfl)
theorem dL_law_767 : decode cL_law 767 = .ok (.iload 5, 2) := dk_21 5 (dk_at dksL_law_27 14 rfl rfl)
theorem dL_law_769 : decode cL_law 769 = .ok (.if_icmp .eq 5, 3) := dk_159 0 5 (dk_at dksL_law_27 16 rfl rfl)
theorem dL_law_772 : decode cL_law 772 = .ok (.iconst 0, 1) := dk_3 (dk_at dksL_law_27 19 rfl rfl)
theorem dL_law_773 : decode cL_law 773 = .ok (.ireturn, 1) := dk_172 (dk_at dksL_law_27 20 rfl rfl)
theorem dL_law_774 : decode cL_law 774 = .ok (.iload 5, 2) := dk_21 5 (dk_at dksL_law_27 21 rfl rfl)
theorem dL_law_776 : decode cL_law 776 = .ok (.ifCond .ne 15, 3) := dk_154 0 15 (dk_at dksL_law_28 0 rfl rfl)
theorem dL_law_779 : decode cL_law 779 = .ok (.aload_n 3, 1) := dk_45 (dk_at dksL_law_28 3 rfl rfl)
theorem dL_law_780 : decode cL_law 780 = .ok (.iconst 0, 1) := dk_3 (dk_at dksL_law_28 4 rfl rfl)
theorem dL_law_781 : decode cL_law 781 = .ok (.laload, 1) := dk_47 (dk_at dksL_law_28 5 rfl rfl)
theorem dL_law_782 : decode cL_law 782 = .ok (.iload 6, 2) := dk_21 6 (dk_at dksL_law_28 6 rfl rfl)
theorem dL_law_784 : decode cL_law 784 = .ok (.i2l, 1) := dk_133 (dk_at dksL_law_28 8 rfl rfl)
theorem dL_law_785 : decode cL_law 785 = .ok (.lcmp, 1) := dk_148 (dk_at dksL_law_28 9 rfl rfl)
theorem dL_law_786 : decode cL_law 786 = .ok (.ifCond .eq 5, 3) := dk_153 0 5 (dk_at dksL_law_28 10 rfl rfl)
theorem dL_law_789 : decode cL_law 789 = .ok (.iconst 0, 1) := dk_3 (dk_at dksL_law_28 13 rfl rfl)
theorem dL_law_790 : decode cL_law 790 = .ok (.ireturn, 1) := dk_172 (dk_at dksL_law_28 14 rfl rfl)
theorem dL_law_791 : decode cL_law 791 = .ok (.goto 1485, 3) := dk_167 5 205 (dk_at dksL_law_28 15 rfl rfl)
theorem dL_law_794 : decode cL_law 794 = .ok (.aload_n 1, 1) := dk_43 (dk_at dksL_law_28 18 rfl rfl)
theorem dL_law_795 : decode cL_law 795 = .ok (.aload_n 0, 1) := dk_42 (dk_at dksL_law_28 19 rfl rfl)
theorem dL_law_796 : decode cL_law 796 = .ok (.iload 4, 2) := dk_21 4 (dk_at dksL_law_28 20 rfl rfl)
theorem dL_law_798 : decode cL_law 798 = .ok (.iconst 1, 1) := dk_4 (dk_at dksL_law_28 22 rfl rfl)
theorem dL_law_799 : decode cL_law 799 = .ok (.iadd, 1) := dk_96 (dk_at dksL_law_28 23 rfl rfl)
theorem dL_law_800 : decode cL_law 800 = .ok (.iaload, 1) := dk_46 (dk_at dksL_law_29 0 rfl rfl)
theorem dL_law_801 : decode cL_law 801 = .ok (.aload_n 0, 1) := dk_42 (dk_at dksL_law_29 1 rfl rfl)
theorem dL_law_802 : decode cL_law 802 = .ok (.iload 4, 2) := dk_21 4 (dk_at dksL_law_29 2 rfl rfl)
theorem dL_law_804 : decode cL_law 804 = .ok (.iconst 2, 1) := dk_5 (dk_at dksL_law_29 4 rfl rfl)
theorem dL_law_805 : decode cL_law 805 = .ok (.iadd, 1) := dk_96 (dk_at dksL_law_29 5 rfl rfl)
theorem dL_law_806 : decode cL_law 806 = .ok (.iaload, 1) := dk_46 (dk_at dksL_law_29 6 rfl rfl)
theorem dL_law_807 : decode cL_law 807 = .ok (.aload_n 3, 1) := dk_45 (dk_at dksL_law_29 7 rfl rfl)
theorem dL_law_808 : decode cL_law 808 = .ok (.invokestatic 142, 3) := dk_184 0 142 (dk_at dksL_law_29 8 rfl rfl)
theorem dL_law_811 : decode cL_law 811 = .ok (.istore 5, 2) := dk_54 5 (dk_at dksL_law_29 11 rfl rfl)
theorem dL_law_813 : decode cL_law 813 = .ok (.aload_n 2, 1) := dk_44 (dk_at dksL_law_29 13 rfl rfl)
theorem dL_law_814 : decode cL_law 814 = .ok (.aload_n 0, 1) := dk_42 (dk_at dksL_law_29 14 rfl rfl)
theorem dL_law_815 : decode cL_law 815 = .ok (.iload 4, 2) := dk_21 4 (dk_at dksL_law_29 15 rfl rfl)
theorem dL_law_817 : decode cL_law 817 = .ok (.iconst 1, 1) := dk_4 (dk_at dksL_law_29 17 rfl rfl)
theorem dL_law_818 : decode cL_law 818 = .ok (.iadd, 1) := dk_96 (dk_at dksL_law_29 18 rfl rfl)
theorem dL_law_819 : decode cL_law 819 = .ok (.iaload, 1) := dk_46 (dk_at dksL_law_29 19 rfl rfl)
theorem dL_law_820 : decode cL_law 820 = .ok (.aload_n 0, 1) := dk_42 (dk_at dksL_law_29 20 rfl rfl)
theorem dL_law_821 : decode cL_law 821 = .ok (.iload 4, 2) := dk_21 4 (dk_at dksL_law_29 21 rfl rfl)
theorem dL_law_823 : decode cL_law 823 = .ok (.iconst 2, 1) := dk_5 (dk_at dksL_law_29 23 rfl rfl)
theorem dL_law_824 : decode cL_law 824 = .ok (.iadd, 1) := dk_96 (dk_at dksL_law_30 0 rfl rfl)
theorem dL_law_825 : decode cL_law 825 = .ok (.iaload, 1) := dk_46 (dk_at dksL_law_30 1 rfl rfl)
theorem dL_law_826 : decode cL_law 826 = .ok (.invokevirtual 144, 3) := dk_182 0 144 (dk_at dksL_law_30 2 rfl rfl)
theorem dL_law_829 : decode cL_law 829 = .ok (.istore 6, 2) := dk_54 6 (dk_at dksL_law_30 5 rfl rfl)
theorem dL_law_831 : decode cL_law 831 = .ok (.aload_n 2, 1) := dk_44 (dk_at dksL_law_30 7 rfl rfl)
theorem dL_law_832 : decode cL_law 832 = .ok (.invokevirtual 112, 3) := dk_182 0 112 (dk_at dksL_law_30 8 rfl rfl)
theorem dL_law_835 : decode cL_law 835 = .ok (.iload 5, 2) := dk_21 5 (dk_at dksL_law_30 11 rfl rfl)
theorem dL_law_837 : decode cL_law 837 = .ok (.if_icmp .eq 5, 3) := dk_159 0 5 (dk_at dksL_law_30 13 rfl rfl)
theorem dL_law_840 : decode cL_law 840 = .ok (.iconst 0, 1) := dk_3 (dk_at dksL_law_30 16 rfl rfl)
theorem dL_law_841 : decode cL_law 841 = .ok (.ireturn, 1) := dk_172 (dk_at dksL_law_30 17 rfl rfl)
theorem dL_law_842 : decode cL_law 842 = .ok (.iload 5, 2) := dk_21 5 (dk_at dksL_law_30 18 rfl rfl)
theorem dL_law_844 : decode cL_law 844 = .ok (.ifCond .ne 22, 3) := dk_154 0 22 (dk_at dksL_law_30 20 rfl rfl)
theorem dL_law_847 : decode cL_law 847 = .ok (.aload_n 3, 1) := dk_45 (dk_at dksL_law_30 23 rfl rfl)
theorem dL_law_848 : decode cL_law 848 = .ok (.iconst 0, 1) := dk_3 (dk_at dksL_law_31 0 rfl rfl)
theorem dL_law_849 : decode cL_law 849 = .ok (.laload, 1) := dk_47 (dk_at dksL_law_31 1 rfl rfl)
theorem dL_law_850 : decode cL_law 850 = .ok (.iload 6, 2) := dk_21 6 (dk_at dksL_law_31 2 rfl rfl)
theorem dL_law_852 : decode cL_law 852 = .ok (.ifCond .eq 7, 3) := dk_153 0 7 (dk_at dksL_law_31 4 rfl rfl)
theorem dL_law_855 : decode cL_law 855 = .ok (.lconst 1, 1) := dk_10 (dk_at dksL_law_31 7 rfl rfl)
theorem dL_law_856 : decode cL_law 856 = .ok (.goto 4, 3) := dk_167 0 4 (dk_at dksL_law_31 8 rfl rfl)
theorem dL_law_859 : decode cL_law 859 = .ok (.lconst 0, 1) := dk_9 (dk_at dksL_law_31 11 rfl rfl)
theorem dL_law_860 : decode cL_law 860 = .ok (.lcmp, 1) := dk_148 (dk_at dksL_law_31 12 rfl rfl)
theorem dL_law_861 : decode cL_law 861 = .ok (.ifCond .eq 5, 3) := dk_153 0 5 (dk_at dksL_law_31 13 rfl rfl)
theorem dL_law_864 : decode cL_law 864 = .ok (.iconst 0, 1) := dk_3 (dk_at dksL_law_31 16 rfl rfl)
theorem dL_law_865 : decode cL_law 865 = .ok (.ireturn, 1) := dk_172 (dk_at dksL_law_31 17 rfl rfl)
theorem dL_law_866 : decode cL_law 866 = .ok (.goto 1410, 3) := dk_167 5 130 (dk_at dksL_law_31 18 rfl rfl)
theorem dL_law_869 : decode cL_law 869 = .ok (.aload_n 1, 1) := dk_43 (dk_at dksL_law_31 21 rfl rfl)
theorem dL_law_870 : decode cL_law 870 = .ok (.aload_n 0, 1) := dk_42 (dk_at dksL_law_31 22 rfl rfl)
theorem dL_law_871 : decode cL_law 871 = .ok (.iload 4, 2) := dk_21 4 (dk_at dksL_law_32 0 rfl rfl)
theorem dL_law_873 : decode cL_law 873 = .ok (.iconst 1, 1) := dk_4 (dk_at dksL_law_32 2 rfl rfl)
theorem dL_law_874 : decode cL_law 874 = .ok (.iadd, 1) := dk_96 (dk_at dksL_law_32 3 rfl rfl)
theorem dL_law_875 : decode cL_law 875 = .ok (.iaload, 1) := dk_46 (dk_at dksL_law_32 4 rfl rfl)
theorem dL_law_876 : decode cL_law 876 = .ok (.aload_n 0, 1) := dk_42 (dk_at dksL_law_32 5 rfl rfl)
theorem dL_law_877 : decode cL_law 877 = .ok (.iload 4, 2) := dk_21 4 (dk_at dksL_law_32 6 rfl rfl)
theorem dL_law_879 : decode cL_law 879 = .ok (.iconst 2, 1) := dk_5 (dk_at dksL_law_32 8 rfl rfl)
theorem dL_law_880 : decode cL_law 880 = .ok (.iadd, 1) := dk_96 (dk_at dksL_law_32 9 rfl rfl)
theorem dL_law_881 : decode cL_law 881 = .ok (.iaload, 1) := dk_46 (dk_at dksL_law_32 10 rfl rfl)
theorem dL_law_882 : decode cL_law 882 = .ok (.aload_n 0, 1) := dk_42 (dk_at dksL_law_32 11 rfl rfl)
theorem dL_law_883 : decode cL_law 883 = .ok (.iload 4, 2) := dk_21 4 (dk_at dksL_law_32 12 rfl rfl)
theorem dL_law_885 : decode cL_law 885 = .ok (.iconst 3, 1) := dk_6 (dk_at dksL_law_32 14 rfl rfl)
theorem dL_law_886 : decode cL_law 886 = .ok (.iadd, 1) := dk_96 (dk_at dksL_law_32 15 rfl rfl)
theorem dL_law_887 : decode cL_law 887 = .ok (.iaload, 1) := dk_46 (dk_at dksL_law_32 16 rfl rfl)
theorem dL_law_888 : decode cL_law 888 = .ok (.aload_n 3, 1) := dk_45 (dk_at dksL_law_32 17 rfl rfl)
theorem dL_law_889 : decode cL_law 889 = .ok (.invokestatic 145, 3) := dk_184 0 145 (dk_at dksL_law_32 18 rfl rfl)
theorem dL_law_892 : decode cL_law 892 = .ok (.istore 5, 2) := dk_54 5 (dk_at dksL_law_32 21 rfl rfl)
theorem dL_law_894 : decode cL_law 894 = .ok (.aload_n 2, 1) := dk_44 (dk_at dksL_law_32 23 rfl rfl)
theorem dL_law_895 : decode cL_law 895 = .ok (.aload_n 0, 1) := dk_42 (dk_at dksL_law_33 0 rfl rfl)
theorem dL_law_896 : decode cL_law 896 = .ok (.iload 4, 2) := dk_21 4 (dk_at dksL_law_33 1 rfl rfl)
theorem dL_law_898 : decode cL_law 898 = .ok (.iconst 1, 1) := dk_4 (dk_at dksL_law_33 3 rfl rfl)
theorem dL_law_899 : decode cL_law 899 = .ok (.iadd, 1) := dk_96 (dk_at dksL_law_33 4 rfl rfl)
theorem dL_law_900 : decode cL_law 900 = .ok (.iaload, 1) := dk_46 (dk_at dksL_law_33 5 rfl rfl)
theorem dL_law_901 : decode cL_law 901 = .ok (.aload_n 0, 1) := dk_42 (dk_at dksL_law_33 6 rfl rfl)
theorem dL_law_902 : decode cL_law 902 = .ok (.iload 4, 2) := dk_21 4 (dk_at dksL_law_33 7 rfl rfl)
theorem dL_law_904 : decode cL_law 904 = .ok (.iconst 2, 1) := dk_5 (dk_at dksL_law_33 9 rfl rfl)
theorem dL_law_905 : decode cL_law 905 = .ok (.iadd, 1) := dk_96 (dk_at dksL_law_33 10 rfl rfl)
theorem dL_law_906 : decode cL_law 906 = .ok (.iaload, 1) := dk_46 (dk_at dksL_law_33 11 rfl rfl)
theorem dL_law_907 : decode cL_law 907 = .ok (.aload_n 0, 1) := dk_42 (dk_at dksL_law_33 12 rfl rfl)
theorem dL_law_908 : decode cL_law 908 = .ok (.iload 4, 2) := dk_21 4 (dk_at dksL_law_33 13 rfl rfl)
theorem dL_law_910 : decode cL_law 910 = .ok (.iconst 3, 1) := dk_6 (dk_at dksL_law_33 15 rfl rfl)
theorem dL_law_911 : decode cL_law 911 = .ok (.iadd, 1) := dk_96 (dk_at dksL_law_33 16 rfl rfl)
theorem dL_law_912 : decode cL_law 912 = .ok (.iaload, 1) := dk_46 (dk_at dksL_law_33 17 rfl rfl)
theorem dL_law_913 : decode cL_law 913 = .ok (.invokevirtual 148, 3) := dk_182 0 148 (dk_at dksL_law_33 18 rfl rfl)
theorem dL_law_916 : decode cL_law 916 = .ok (.istore 6, 2) := dk_54 6 (dk_at dksL_law_33 21 rfl rfl)
theorem dL_law_918 : decode cL_law 918 = .ok (.aload_n 2, 1) := dk_44 (dk_at dksL_law_33 23 rfl rfl)
theorem dL_law_919 : decode cL_law 919 = .ok (.invokevirtual 112, 3) := dk_182 0 112 (dk_at dksL_law_34 0 rfl rfl)
theorem dL_law_922 : decode cL_law 922 = .ok (.iload 5, 2) := dk_21 5 (dk_at dksL_law_34 3 rfl rfl)
theorem dL_law_924 : decode cL_law 924 = .ok (.if_icmp .eq 5, 3) := dk_159 0 5 (dk_at dksL_law_34 5 rfl rfl)
theorem dL_law_927 : decode cL_law 927 = .ok (.iconst 0, 1) := dk_3 (dk_at dksL_law_34 8 rfl rfl)
theorem dL_law_928 : decode cL_law 928 = .ok (.ireturn, 1) := dk_172 (dk_at dksL_law_34 9 rfl rfl)
theorem dL_law_929 : decode cL_law 929 = .ok (.iload 5, 2) := dk_21 5 (dk_at dksL_law_34 10 rfl rfl)
theorem dL_law_931 : decode cL_law 931 = .ok (.ifCond .ne 22, 3) := dk_154 0 22 (dk_at dksL_law_34 12 rfl rfl)
theorem dL_law_934 : decode cL_law 934 = .ok (.aload_n 3, 1) := dk_45 (dk_at dksL_law_34 15 rfl rfl)
theorem dL_law_935 : decode cL_law 935 = .ok (.iconst 0, 1) := dk_3 (dk_at dksL_law_34 16 rfl rfl)
theorem dL_law_936 : decode cL_law 936 = .ok (.laload, 1) := dk_47 (dk_at dksL_law_34 17 rfl rfl)
theorem dL_law_937 : decode cL_law 937 = .ok (.iload 6, 2) := dk_21 6 (dk_at dksL_law_34 18 rfl rfl)
theorem dL_law_939 : decode cL_law 939 = .ok (.ifCond .eq 7, 3) := dk_153 0 7 (dk_at dksL_law_34 20 rfl rfl)
theorem dL_law_942 : decode cL_law 942 = .ok (.lconst 1, 1) := dk_10 (dk_at dksL_law_34 23 rfl rfl)
theorem dL_law_943 : decode cL_law 943 = .ok (.goto 4, 3) := dk_167 0 4 (dk_at dksL_law_35 0 rfl rfl)
theorem dL_law_946 : decode cL_law 946 = .ok (.lconst 0, 1) := dk_9 (dk_at dksL_law_35 3 rfl rfl)
theorem dL_law_947 : decode cL_law 947 = .ok (.lcmp, 1) := dk_148 (dk_at dksL_law_35 4 rfl rfl)
theorem dL_law_948 : decode cL_law 948 = .ok (.ifCond .eq 5, 3) := dk_153 0 5 (dk_at dksL_law_35 5 rfl rfl)
theorem dL_law_951 : decode cL_law 951 = .ok (.iconst 0, 1) := dk_3 (dk_at dksL_law_35 8 rfl rfl)
theorem dL_law_952 : decode cL_law 952 = .ok (.ireturn, 1) := dk_172 (dk_at dksL_law_35 9 rfl rfl)
theorem dL_law_953 : decode cL_law 953 = .ok (.goto 1323, 3) := dk_167 5 43 (dk_at dksL_law_35 10 rfl rfl)
theorem dL_law_956 : decode cL_law 956 = .ok (.aload_n 1, 1) := dk_43 (dk_at dksL_law_35 13 rfl rfl)
theorem dL_law_957 : decode cL_law 957 = .ok (.aload_n 0, 1) := dk_42 (dk_at dksL_law_35 14 rfl rfl)
theorem dL_law_958 : decode cL_law 958 = .ok (.iload 4, 2) := dk_21 4 (dk_at dksL_law_35 15 rfl rfl)
theorem dL_law_960 : decode cL_law 960 = .ok (.iconst 1, 1) := dk_4 (dk_at dksL_law_35 17 rfl rfl)
theorem dL_law_961 : decode cL_law 961 = .ok (.iadd, 1) := dk_96 (dk_at dksL_law_35 18 rfl rfl)
theorem dL_law_962 : decode cL_law 962 = .ok (.iaload, 1) := dk_46 (dk_at dksL_law_35 19 rfl rfl)
theorem dL_law_963 : decode cL_law 963 = .ok (.aload_n 0, 1) := dk_42 (dk_at dksL_law_35 20 rfl rfl)
theorem dL_law_964 : decode cL_law 964 = .ok (.iload 4, 2) := dk_21 4 (dk_at dksL_law_35 21 rfl rfl)
theorem dL_law_966 : decode cL_law 966 = .ok (.iconst 2, 1) := dk_5 (dk_at dksL_law_35 23 rfl rfl)
theorem dL_law_967 : decode cL_law 967 = .ok (.iadd, 1) := dk_96 (dk_at dksL_law_36 0 rfl rfl)
theorem dL_law_968 : decode cL_law 968 = .ok (.iaload, 1) := dk_46 (dk_at dksL_law_36 1 rfl rfl)
theorem dL_law_969 : decode cL_law 969 = .ok (.aload_n 0, 1) := dk_42 (dk_at dksL_law_36 2 rfl rfl)
theorem dL_law_970 : decode cL_law 970 = .ok (.iload 4, 2) := dk_21 4 (dk_at dksL_law_36 3 rfl rfl)
theorem dL_law_972 : decode cL_law 972 = .ok (.iconst 3, 1) := dk_6 (dk_at dksL_law_36 5 rfl rfl)
theorem dL_law_973 : decode cL_law 973 = .ok (.iadd, 1) := dk_96 (dk_at dksL_law_36 6 rfl rfl)
theorem dL_law_974 : decode cL_law 974 = .ok (.iaload, 1) := dk_46 (dk_at dksL_law_36 7 rfl rfl)
theorem dL_law_975 : decode cL_law 975 = .ok (.aload_n 0, 1) := dk_42 (dk_at dksL_law_36 8 rfl rfl)
theorem dL_law_976 : decode cL_law 976 = .ok (.iload 4, 2) := dk_21 4 (dk_at dksL_law_36 9 rfl rfl)
theorem dL_law_978 : decode cL_law 978 = .ok (.iconst 4, 1) := dk_7 (dk_at dksL_law_36 11 rfl rfl)
theorem dL_law_979 : decode cL_law 979 = .ok (.iadd, 1) := dk_96 (dk_at dksL_law_36 12 rfl rfl)
theorem dL_law_980 : decode cL_law 980 = .ok (.iaload, 1) := dk_46 (dk_at dksL_law_36 13 rfl rfl)
theorem dL_law_981 : decode cL_law 981 = .ok (.aload_n 3, 1) := dk_45 (dk_at dksL_law_36 14 rfl rfl)
theorem dL_law_982 : decode cL_law 982 = .ok (.invokestatic 149, 3) := dk_184 0 149 (dk_at dksL_law_36 15 rfl rfl)
theorem dL_law_985 : decode cL_law 985 = .ok (.istore 5, 2) := dk_54 5 (dk_at dksL_law_36 18 rfl rfl)
theorem dL_law_987 : decode cL_law 987 = .ok (.aload_n 2, 1) := dk_44 (dk_at dksL_law_36 20 rfl rfl)
theorem dL_law_988 : decode cL_law 988 = .ok (.aload_n 0, 1) := dk_42 (dk_at dksL_law_36 21 rfl rfl)
theorem dL_law_989 : decode cL_law 989 = .ok (.iload 4, 2) := dk_21 4 (dk_at dksL_law_36 22 rfl rfl)
theorem dL_law_991 : decode cL_law 991 = .ok (.iconst 1, 1) := dk_4 (dk_at dksL_law_37 0 rfl rfl)
theorem dL_law_992 : decode cL_law 992 = .ok (.iadd, 1) := dk_96 (dk_at dksL_law_37 1 rfl rfl)
theorem dL_law_993 : decode cL_law 993 = .ok (.iaload, 1) := dk_46 (dk_at dksL_law_37 2 rfl rfl)
theorem dL_law_994 : decode cL_law 994 = .ok (.aload_n 0, 1) := dk_42 (dk_at dksL_law_37 3 rfl rfl)
theorem dL_law_995 : decode cL_law 995 = .ok (.iload 4, 2) := dk_21 4 (dk_at dksL_law_37 4 rfl rfl)
theorem dL_law_997 : decode cL_law 997 = .ok (.iconst 2, 1) := dk_5 (dk_at dksL_law_37 6 rfl rfl)
theorem dL_law_998 : decode cL_law 998 = .ok (.iadd, 1) := dk_96 (dk_at dksL_law_37 7 rfl rfl)
theorem dL_law_999 : decode cL_law 999 = .ok (.iaload, 1) := dk_46 (dk_at dksL_law_37 8 rfl rfl)
theorem dL_law_1000 : decode cL_law 1000 = .ok (.aload_n 0, 1) := dk_42 (dk_at dksL_law_37 9 rfl rfl)
theorem dL_law_1001 : decode cL_law 1001 = .ok (.iload 4, 2) := dk_21 4 (dk_at dksL_law_37 10 rfl rfl)
theorem dL_law_1003 : decode cL_law 1003 = .ok (.iconst 3, 1) := dk_6 (dk_at dksL_law_37 12 rfl rfl)
theorem dL_law_1004 : decode cL_law 1004 = .ok (.iadd, 1) := dk_96 (dk_at dksL_law_37 13 rfl rfl)
theorem dL_law_1005 : decode cL_law 1005 = .ok (.iaload, 1) := dk_46 (dk_at dksL_law_37 14 rfl rfl)
theorem dL_law_1006 : decode cL_law 1006 = .ok (.aload_n 0, 1) := dk_42 (dk_at dksL_law_37 15 rfl rfl)
theorem dL_law_1007 : decode cL_law 1007 = .ok (.iload 4, 2) := dk_21 4 (dk_at dksL_law_37 16 rfl rfl)
theorem dL_law_1009 : decode cL_law 1009 = .ok (.iconst 4, 1) := dk_7 (dk_at dksL_law_37 18 rfl rfl)
theorem dL_law_1010 : decode cL_law 1010 = .ok (.iadd, 1) := dk_96 (dk_at dksL_law_37 19 rfl rfl)
theorem dL_law_1011 : decode cL_law 1011 = .ok (.iaload, 1) := dk_46 (dk_at dksL_law_37 20 rfl rfl)
theorem dL_law_1012 : decode cL_law 1012 = .ok (.invokevirtual 152, 3) := dk_182 0 152 (dk_at dksL_law_37 21 rfl rfl)
theorem dL_law_1015 : decode cL_law 1015 = .ok (.istore 6, 2) := dk_54 6 (dk_at dksL_law_38 0 rfl rfl)
theorem dL_law_1017 : decode cL_law 1017 = .ok (.aload_n 2, 1) := dk_44 (dk_at dksL_law_38 2 rfl rfl)
theorem dL_law_1018 : decode cL_law 1018 = .ok (.invokevirtual 112, 3) := dk_182 0 112 (dk_at dksL_law_38 3 rfl rfl)
theorem dL_law_1021 : decode cL_law 1021 = .ok (.iload 5, 2) := dk_21 5 (dk_at dksL_law_38 6 rfl rfl)
theorem dL_law_1023 : decode cL_law 1023 = .ok (.if_icmp .eq 5, 3) := dk_159 0 5 (dk_at dksL_law_38 8 rfl rfl)
theorem dL_law_1026 : decode cL_law 1026 = .ok (.iconst 0, 1) := dk_3 (dk_at dksL_law_38 11 rfl rfl)
theorem dL_law_1027 : decode cL_law 1027 = .ok (.ireturn, 1) := dk_172 (dk_at dksL_law_38 12 rfl rfl)
theorem dL_law_1028 : decode cL_law 1028 = .ok (.iload 5, 2) := dk_21 5 (dk_at dksL_law_38 13 rfl rfl)
theorem dL_law_1030 : decode cL_law 1030 = .ok (.ifCond .ne 15, 3) := dk_154 0 15 (dk_at dksL_law_38 15 rfl rfl)
theorem dL_law_1033 : decode cL_law 1033 = .ok (.aload_n 3, 1) := dk_45 (dk_at dksL_law_38 18 rfl rfl)
theorem dL_law_1034 : decode cL_law 1034 = .ok (.iconst 0, 1) := dk_3 (dk_at dksL_law_38 19 rfl rfl)
theorem dL_law_1035 : decode cL_law 1035 = .ok (.laload, 1) := dk_47 (dk_at dksL_law_38 20 rfl rfl)
theorem dL_law_1036 : decode cL_law 1036 = .ok (.iload 6, 2) := dk_21 6 (dk_at dksL_law_38 21 rfl rfl)
theorem dL_law_1038 : decode cL_law 1038 = .ok (.i2l, 1) := dk_133 (dk_at dksL_law_38 23 rfl rfl)
theorem dL_law_1039 : decode cL_law 1039 = .ok (.lcmp, 1) := dk_148 (dk_at dksL_law_39 0 rfl rfl)
theorem dL_law_1040 : decode cL_law 1040 = .ok (.ifCond .eq 5, 3) := dk_153 0 5 (dk_at dksL_law_39 1 rfl rfl)
theorem dL_law_1043 : decode cL_law 1043 = .ok (.iconst 0, 1) := dk_3 (dk_at dksL_law_39 4 rfl rfl)
theorem dL_law_1044 : decode cL_law 1044 = .ok (.ireturn, 1) := dk_172 (dk_at dksL_law_39 5 rfl rfl)
theorem dL_law_1045 : decode cL_law 1045 = .ok (.goto 1231, 3) := dk_167 4 207 (dk_at dksL_law_39 6 rfl rfl)
theorem dL_law_1048 : decode cL_law 1048 = .ok (.aload_n 1, 1) := dk_43 (dk_at dksL_law_39 9 rfl rfl)
theorem dL_law_1049 : decode cL_law 1049 = .ok (.aload_n 0, 1) := dk_42 (dk_at dksL_law_39 10 rfl rfl)
theorem dL_law_1050 : decode cL_law 1050 = .ok (.iload 4, 2) := dk_21 4 (dk_at dksL_law_39 11 rfl rfl)
theorem dL_law_1052 : decode cL_law 1052 = .ok (.iconst 1, 1) := dk_4 (dk_at dksL_law_39 13 rfl rfl)
theorem dL_law_1053 : decode cL_law 1053 = .ok (.iadd, 1) := dk_96 (dk_at dksL_law_39 14 rfl rfl)
theorem dL_law_1054 : decode cL_law 1054 = .ok (.iaload, 1) := dk_46 (dk_at dksL_law_39 15 rfl rfl)
theorem dL_law_1055 : decode cL_law 1055 = .ok (.aload_n 0, 1) := dk_42 (dk_at dksL_law_39 16 rfl rfl)
theorem dL_law_1056 : decode cL_law 1056 = .ok (.iload 4, 2) := dk_21 4 (dk_at dksL_law_39 17 rfl rfl)
theorem dL_law_1058 : decode cL_law 1058 = .ok (.iconst 2, 1) := dk_5 (dk_at dksL_law_39 19 rfl rfl)
theorem dL_law_1059 : decode cL_law 1059 = .ok (.iadd, 1) := dk_96 (dk_at dksL_law_39 20 rfl rfl)
theorem dL_law_1060 : decode cL_law 1060 = .ok (.iaload, 1) := dk_46 (dk_at dksL_law_39 21 rfl rfl)
theorem dL_law_1061 : decode cL_law 1061 = .ok (.aload_n 0, 1) := dk_42 (dk_at dksL_law_39 22 rfl rfl)
theorem dL_law_1062 : decode cL_law 1062 = .ok (.iload 4, 2) := dk_21 4 (dk_at dksL_law_40 0 rfl rfl)
theorem dL_law_1064 : decode cL_law 1064 = .ok (.iconst 3, 1) := dk_6 (dk_at dksL_law_40 2 rfl rfl)
theorem dL_law_1065 : decode cL_law 1065 = .ok (.iadd, 1) := dk_96 (dk_at dksL_law_40 3 rfl rfl)
theorem dL_law_1066 : decode cL_law 1066 = .ok (.iaload, 1) := dk_46 (dk_at dksL_law_40 4 rfl rfl)
theorem dL_law_1067 : decode cL_law 1067 = .ok (.aload_n 0, 1) := dk_42 (dk_at dksL_law_40 5 rfl rfl)
theorem dL_law_1068 : decode cL_law 1068 = .ok (.iload 4, 2) := dk_21 4 (dk_at dksL_law_40 6 rfl rfl)
theorem dL_law_1070 : decode cL_law 1070 = .ok (.iconst 4, 1) := dk_7 (dk_at dksL_law_40 8 rfl rfl)
theorem dL_law_1071 : decode cL_law 1071 = .ok (.iadd, 1) := dk_96 (dk_at dksL_law_40 9 rfl rfl)
theorem dL_law_1072 : decode cL_law 1072 = .ok (.iaload, 1) := dk_46 (dk_at dksL_law_40 10 rfl rfl)
theorem dL_law_1073 : decode cL_law 1073 = .ok (.aload_n 3, 1) := dk_45 (dk_at dksL_law_40 11 rfl rfl)
theorem dL_law_1074 : decode cL_law 1074 = .ok (.invokestatic 153, 3) := dk_184 0 153 (dk_at dksL_law_40 12 rfl rfl)
theorem dL_law_1077 : decode cL_law 1077 = .ok (.istore 5, 2) := dk_54 5 (dk_at dksL_law_40 15 rfl rfl)
theorem dL_law_1079 : decode cL_law 1079 = .ok (.aload_n 2, 1) := dk_44 (dk_at dksL_law_40 17 rfl rfl)
theorem dL_law_1080 : decode cL_law 1080 = .ok (.aload_n 0, 1) := dk_42 (dk_at dksL_law_40 18 rfl rfl)
theorem dL_law_1081 : decode cL_law 1081 = .ok (.iload 4, 2) := dk_21 4 (dk_at dksL_law_40 19 rfl rfl)
theorem dL_law_1083 : decode cL_law 1083 = .ok (.iconst 1, 1) := dk_4 (dk_at dksL_law_40 21 rfl rfl)
theorem dL_law_1084 : decode cL_law 1084 = .ok (.iadd, 1) := dk_96 (dk_at dksL_law_40 22 rfl rfl)
theorem dL_law_1085 : decode cL_law 1085 = .ok (.iaload, 1) := dk_46 (dk_at dksL_law_40 23 rfl rfl)
theorem dL_law_1086 : decode cL_law 1086 = .ok (.aload_n 0, 1) := dk_42 (dk_at dksL_law_41 0 rfl rfl)
theorem dL_law_1087 : decode cL_law 1087 = .ok (.iload 4, 2) := dk_21 4 (dk_at dksL_law_41 1 rfl rfl)
theorem dL_law_1089 : decode cL_law 1089 = .ok (.iconst 2, 1) := dk_5 (dk_at dksL_law_41 3 rfl rfl)
theorem dL_law_1090 : decode cL_law 1090 = .ok (.iadd, 1) := dk_96 (dk_at dksL_law_41 4 rfl rfl)
theorem dL_law_1091 : decode cL_law 1091 = .ok (.iaload, 1) := dk_46 (dk_at dksL_law_41 5 rfl rfl)
theorem dL_law_1092 : decode cL_law 1092 = .ok (.aload_n 0, 1) := dk_42 (dk_at dksL_law_41 6 rfl rfl)
theorem dL_law_1093 : decode cL_law 1093 = .ok (.iload 4, 2) := dk_21 4 (dk_at dksL_law_41 7 rfl rfl)
theorem dL_law_1095 : decode cL_law 1095 = .ok (.iconst 3, 1) := dk_6 (dk_at dksL_law_41 9 rfl rfl)
theorem dL_law_1096 : decode cL_law 1096 = .ok (.iadd, 1) := dk_96 (dk_at dksL_law_41 10 rfl rfl)
theorem dL_law_1097 : decode cL_law 1097 = .ok (.iaload, 1) := dk_46 (dk_at dksL_law_41 11 rfl rfl)
theorem dL_law_1098 : decode cL_law 1098 = .ok (.aload_n 0, 1) := dk_42 (dk_at dksL_law_41 12 rfl rfl)
theorem dL_law_1099 : decode cL_law 1099 = .ok (.iload 4, 2) := dk_21 4 (dk_at dksL_law_41 13 rfl rfl)
theorem dL_law_1101 : decode cL_law 1101 = .ok (.iconst 4, 1) := dk_7 (dk_at dksL_law_41 15 rfl rfl)
theorem dL_law_1102 : decode cL_law 1102 = .ok (.iadd, 1) := dk_96 (dk_at dksL_law_41 16 rfl rfl)
theorem dL_law_1103 : decode cL_law 1103 = .ok (.iaload, 1) := dk_46 (dk_at dksL_law_41 17 rfl rfl)
theorem dL_law_1104 : decode cL_law 1104 = .ok (.invokevirtual 155, 3) := dk_182 0 155 (dk_at dksL_law_41 18 rfl rfl)
theorem dL_law_1107 : decode cL_law 1107 = .ok (.istore 6, 2) := dk_54 6 (dk_at dksL_law_41 21 rfl rfl)
theorem dL_law_1109 : decode cL_law 1109 = .ok (.aload_n 2, 1) := dk_44 (dk_at dksL_law_41 23 rfl rfl)
theorem dL_law_1110 : decode cL_law 1110 = .ok (.invokevirtual 112, 3) := dk_182 0 112 (dk_at dksL_law_42 0 rfl rfl)
theorem dL_law_1113 : decode cL_law 1113 = .ok (.iload 5, 2) := dk_21 5 (dk_at dksL_law_42 3 rfl rfl)
theorem dL_law_1115 : decode cL_law 1115 = .ok (.if_icmp .eq 5, 3) := dk_159 0 5 (dk_at dksL_law_42 5 rfl rfl)
theorem dL_law_1118 : decode cL_law 1118 = .ok (.iconst 0, 1) := dk_3 (dk_at dksL_law_42 8 rfl rfl)
theorem dL_law_1119 : decode cL_law 1119 = .ok (.ireturn, 1) := dk_172 (dk_at dksL_law_42 9 rfl rfl)
theorem dL_law_1120 : decode cL_law 1120 = .ok (.iload 5, 2) := dk_21 5 (dk_at dksL_law_42 10 rfl rfl)
theorem dL_law_1122 : decode cL_law 1122 = .ok (.ifCond .ne 15, 3) := dk_154 0 15 (dk_at dksL_law_42 12 rfl rfl)
theorem dL_law_1125 : decode cL_law 1125 = .ok (.aload_n 3, 1) := dk_45 (dk_at dksL_law_42 15 rfl rfl)
theorem dL_law_1126 : decode cL_law 1126 = .ok (.iconst 0, 1) := dk_3 (dk_at dksL_law_42 16 rfl rfl)
theorem dL_law_1127 : decode cL_law 1127 = .ok (.laload, 1) := dk_47 (dk_at dksL_law_42 17 rfl rfl)
theorem dL_law_1128 : decode cL_law 1128 = .ok (.iload 6, 2) := dk_21 6 (dk_at dksL_law_42 18 rfl rfl)
theorem dL_law_1130 : decode cL_law 1130 = .ok (.i2l, 1) := dk_133 (dk_at dksL_law_42 20 rfl rfl)
theorem dL_law_1131 : decode cL_law 1131 = .ok (.lcmp, 1) := dk_148 (dk_at dksL_law_42 21 rfl rfl)
theorem dL_law_1132 : decode cL_law 1132 = .ok (.ifCond .eq 5, 3) := dk_153 0 5 (dk_at dksL_law_43 0 rfl rfl)
theorem dL_law_1135 : decode cL_law 1135 = .ok (.iconst 0, 1) := dk_3 (dk_at dksL_law_43 3 rfl rfl)
theorem dL_law_1136 : decode cL_law 1136 = .ok (.ireturn, 1) := dk_172 (dk_at dksL_law_43 4 rfl rfl)
theorem dL_law_1137 : decode cL_law 1137 = .ok (.goto 1139, 3) := dk_167 4 115 (dk_at dksL_law_43 5 rfl rfl)
theorem dL_law_1140 : decode cL_law 1140 = .ok (.aload_n 1, 1) := dk_43 (dk_at dksL_law_43 8 rfl rfl)
theorem dL_law_1141 : decode cL_law 1141 = .ok (.aload_n 0, 1) := dk_42 (dk_at dksL_law_43 9 rfl rfl)
theorem dL_law_1142 : decode cL_law 1142 = .ok (.iload 4, 2) := dk_21 4 (dk_at dksL_law_43 10 rfl rfl)
theorem dL_law_1144 : decode cL_law 1144 = .ok (.iconst 1, 1) := dk_4 (dk_at dksL_law_43 12 rfl rfl)
theorem dL_law_1145 : decode cL_law 1145 = .ok (.iadd, 1) := dk_96 (dk_at dksL_law_43 13 rfl rfl)
theorem dL_law_1146 : decode cL_law 1146 = .ok (.iaload, 1) := dk_46 (dk_at dksL_law_43 14 rfl rfl)
theorem dL_law_1147 : decode cL_law 1147 = .ok (.aload_n 0, 1) := dk_42 (dk_at dksL_law_43 15 rfl rfl)
theorem dL_law_1148 : decode cL_law 1148 = .ok (.iload 4, 2) := dk_21 4 (dk_at dksL_law_43 16 rfl rfl)
theorem dL_law_1150 : decode cL_law 1150 = .ok (.iconst 2, 1) := dk_5 (dk_at dksL_law_43 18 rfl rfl)
theorem dL_law_1151 : decode cL_law 1151 = .ok (.iadd, 1) := dk_96 (dk_at dksL_law_43 19 rfl rfl)
theorem dL_law_1152 : decode cL_law 1152 = .ok (.iaload, 1) := dk_46 (dk_at dksL_law_43 20 rfl rfl)
theorem dL_law_1153 : decode cL_law 1153 = .ok (.aload_n 3, 1) := dk_45 (dk_at dksL_law_43 21 rfl rfl)
theorem dL_law_1154 : decode cL_law 1154 = .ok (.invokestatic 156, 3) := dk_184 0 156 (dk_at dksL_law_44 0 rfl rfl)
theorem dL_law_1157 : decode cL_law 1157 = .ok (.istore 5, 2) := dk_54 5 (dk_at dksL_law_44 3 rfl rfl)
theorem dL_law_1159 : decode cL_law 1159 = .ok (.aload_n 2, 1) := dk_44 (dk_at dksL_law_44 5 rfl rfl)
theorem dL_law_1160 : decode cL_law 1160 = .ok (.aload_n 0, 1) := dk_42 (dk_at dksL_law_44 6 rfl rfl)
theorem dL_law_1161 : decode cL_law 1161 = .ok (.iload 4, 2) := dk_21 4 (dk_at dksL_law_44 7 rfl rfl)
theorem dL_law_1163 : decode cL_law 1163 = .ok (.iconst 1, 1) := dk_4 (dk_at dksL_law_44 9 rfl rfl)
theorem dL_law_1164 : decode cL_law 1164 = .ok (.iadd, 1) := dk_96 (dk_at dksL_law_44 10 rfl rfl)
theorem dL_law_1165 : decode cL_law 1165 = .ok (.iaload, 1) := dk_46 (dk_at dksL_law_44 11 rfl rfl)
theorem dL_law_1166 : decode cL_law 1166 = .ok (.aload_n 0, 1) := dk_42 (dk_at dksL_law_44 12 rfl rfl)
theorem dL_law_1167 : decode cL_law 1167 = .ok (.iload 4, 2) := dk_21 4 (dk_at dksL_law_44 13 rfl rfl)
theorem dL_law_1169 : decode cL_law 1169 = .ok (.iconst 2, 1) := dk_5 (dk_at dksL_law_44 15 rfl rfl)
theorem dL_law_1170 : decode cL_law 1170 = .ok (.iadd, 1) := dk_96 (dk_at dksL_law_44 16 rfl rfl)
theorem dL_law_1171 : decode cL_law 1171 = .ok (.iaload, 1) := dk_46 (dk_at dksL_law_44 17 rfl rfl)
theorem dL_law_1172 : decode cL_law 1172 = .ok (.invokevirtual 158, 3) := dk_182 0 158 (dk_at dksL_law_44 18 rfl rfl)
theorem dL_law_1175 : decode cL_law 1175 = .ok (.istore 6, 2) := dk_54 6 (dk_at dksL_law_44 21 rfl rfl)
theorem dL_law_1177 : decode cL_law 1177 = .ok (.aload_n 2, 1) := dk_44 (dk_at dksL_law_44 23 rfl rfl)
theorem dL_law_1178 : decode cL_law 1178 = .ok (.invokevirtual 112, 3) := dk_182 0 112 (dk_at dksL_law_45 0 rfl rfl)
theorem dL_law_1181 : decode cL_law 1181 = .ok (.iload 5, 2) := dk_21 5 (dk_at dksL_law_45 3 rfl rfl)
theorem dL_law_1183 : decode cL_law 1183 = .ok (.if_icmp .eq 5, 3) := dk_159 0 5 (dk_at dksL_law_45 5 rfl rfl)
theorem dL_law_1186 : decode cL_law 1186 = .ok (.iconst 0, 1) := dk_3 (dk_at dksL_law_45 8 rfl rfl)
theorem dL_law_1187 : decode cL_law 1187 = .ok (.ireturn, 1) := dk_172 (dk_at dksL_law_45 9 rfl rfl)
theorem dL_law_1188 : decode cL_law 1188 = .ok (.iload 5, 2) := dk_21 5 (dk_at dksL_law_45 10 rfl rfl)
theorem dL_law_1190 : decode cL_law 1190 = .ok (.ifCond .ne 15, 3) := dk_154 0 15 (dk_at dksL_law_45 12 rfl rfl)
theorem dL_law_1193 : decode cL_law 1193 = .ok (.aload_n 3, 1) := dk_45 (dk_at dksL_law_45 15 rfl rfl)
theorem dL_law_1194 : decode cL_law 1194 = .ok (.iconst 0, 1) := dk_3 (dk_at dksL_law_45 16 rfl rfl)
theorem dL_law_1195 : decode cL_law 1195 = .ok (.laload, 1) := dk_47 (dk_at dksL_law_45 17 rfl rfl)
theorem dL_law_1196 : decode cL_law 1196 = .ok (.iload 6, 2) := dk_21 6 (dk_at dksL_law_45 18 rfl rfl)
theorem dL_law_1198 : decode cL_law 1198 = .ok (.i2l, 1) := dk_133 (dk_at dksL_law_45 20 rfl rfl)
theorem dL_law_1199 : decode cL_law 1199 = .ok (.lcmp, 1) := dk_148 (dk_at dksL_law_45 21 rfl rfl)
theorem dL_law_1200 : decode cL_law 1200 = .ok (.ifCond .eq 5, 3) := dk_153 0 5 (dk_at dksL_law_46 0 rfl rfl)
theorem dL_law_1203 : decode cL_law 1203 = .ok (.iconst 0, 1) := dk_3 (dk_at dksL_law_46 3 rfl rfl)
theorem dL_law_1204 : decode cL_law 1204 = .ok (.ireturn, 1) := dk_172 (dk_at dksL_law_46 4 rfl rfl)
theorem dL_law_1205 : decode cL_law 1205 = .ok (.goto 1071, 3) := dk_167 4 47 (dk_at dksL_law_46 5 rfl rfl)
theorem dL_law_1208 : decode cL_law 1208 = .ok (.aload_n 1, 1) := dk_43 (dk_at dksL_law_46 8 rfl rfl)
theorem dL_law_1209 : decode cL_law 1209 = .ok (.aload_n 0, 1) := dk_42 (dk_at dksL_law_46 9 rfl rfl)
theorem dL_law_1210 : decode cL_law 1210 = .ok (.iload 4, 2) := dk_21 4 (dk_at dksL_law_46 10 rfl rfl)
theorem dL_law_1212 : decode cL_law 1212 = .ok (.iconst 1, 1) := dk_4 (dk_at dksL_law_46 12 rfl rfl)
theorem dL_law_1213 : decode cL_law 1213 = .ok (.iadd, 1) := dk_96 (dk_at dksL_law_46 13 rfl rfl)
theorem dL_law_1214 : decode cL_law 1214 = .ok (.iaload, 1) := dk_46 (dk_at dksL_law_46 14 rfl rfl)
theorem dL_law_1215 : decode cL_law 1215 = .ok (.aload_n 0, 1) := dk_42 (dk_at dksL_law_46 15 rfl rfl)
theorem dL_law_1216 : decode cL_law 1216 = .ok (.iload 4, 2) := dk_21 4 (dk_at dksL_law_46 16 rfl rfl)
theorem dL_law_1218 : decode cL_law 1218 = .ok (.iconst 2, 1) := dk_5 (dk_at dksL_law_46 18 rfl rfl)
theorem dL_law_1219 : decode cL_law 1219 = .ok (.iadd, 1) := dk_96 (dk_at dksL_law_46 19 rfl rfl)
theorem dL_law_1220 : decode cL_law 1220 = .ok (.iaload, 1) := dk_46 (dk_at dksL_law_46 20 rfl rfl)
theorem dL_law_1221 : decode cL_law 1221 = .ok (.aload_n 3, 1) := dk_45 (dk_at dksL_law_46 21 rfl rfl)
theorem dL_law_1222 : decode cL_law 1222 = .ok (.invokestatic 159, 3) := dk_184 0 159 (dk_at dksL_law_47 0 rfl rfl)
theorem dL_law_1225 : decode cL_law 1225 = .ok (.istore 5, 2) := dk_54 5 (dk_at dksL_law_47 3 rfl rfl)
theorem dL_law_1227 : decode cL_law 1227 = .ok (.aload_n 2, 1) := dk_44 (dk_at dksL_law_47 5 rfl rfl)
theorem dL_law_1228 : decode cL_law 1228 = .ok (.aload_n 0, 1) := dk_42 (dk_at dksL_law_47 6 rfl rfl)
theorem dL_law_1229 : decode cL_law 1229 = .ok (.iload 4, 2) := dk_21 4 (dk_at dksL_law_47 7 rfl rfl)
theorem dL_law_1231 : decode cL_law 1231 = .ok (.iconst 1, 1) := dk_4 (dk_at dksL_law_47 9 rfl rfl)
theorem dL_law_1232 : decode cL_law 1232 = .ok (.iadd, 1) := dk_96 (dk_at dksL_law_47 10 rfl rfl)
theorem dL_law_1233 : decode cL_law 1233 = .ok (.iaload, 1) := dk_46 (dk_at dksL_law_47 11 rfl rfl)
theorem dL_law_1234 : decode cL_law 1234 = .ok (.aload_n 0, 1) := dk_42 (dk_at dksL_law_47 12 rfl rfl)
theorem dL_law_1235 : decode cL_law 1235 = .ok (.iload 4, 2) := dk_21 4 (dk_at dksL_law_47 13 rfl rfl)
theorem dL_law_1237 : decode cL_law 1237 = .ok (.iconst 2, 1) := dk_5 (dk_at dksL_law_47 15 rfl rfl)
theorem dL_law_1238 : decode cL_law 1238 = .ok (.iadd, 1) := dk_96 (dk_at dksL_law_47 16 rfl rfl)
theorem dL_law_1239 : decode cL_law 1239 = .ok (.iaload, 1) := dk_46 (dk_at dksL_law_47 17 rfl rfl)
theorem dL_law_1240 : decode cL_law 1240 = .ok (.invokevirtual 161, 3) := dk_182 0 161 (dk_at dksL_law_47 18 rfl rfl)
theorem dL_law_1243 : decode cL_law 1243 = .ok (.istore 6, 2) := dk_54 6 (dk_at dksL_law_47 21 rfl rfl)
theorem dL_law_1245 : decode cL_law 1245 = .ok (.aload_n 2, 1) := dk_44 (dk_at dksL_law_47 23 rfl rfl)
theorem dL_law_1246 : decode cL_law 1246 = .ok (.invokevirtual 112, 3) := dk_182 0 112 (dk_at dksL_law_48 0 rfl rfl)
theorem dL_law_1249 : decode cL_law 1249 = .ok (.iload 5, 2) := dk_21 5 (dk_at dksL_law_48 3 rfl rfl)
theorem dL_law_1251 : decode cL_law 1251 = .ok (.if_icmp .eq 5, 3) := dk_159 0 5 (dk_at dksL_law_48 5 rfl rfl)
theorem dL_law_1254 : decode cL_law 1254 = .ok (.iconst 0, 1) := dk_3 (dk_at dksL_law_48 8 rfl rfl)
theorem dL_law_1255 : decode cL_law 1255 = .ok (.ireturn, 1) := dk_172 (dk_at dksL_law_48 9 rfl rfl)
theorem dL_law_1256 : decode cL_law 1256 = .ok (.iload 5, 2) := dk_21 5 (dk_at dksL_law_48 10 rfl rfl)
theorem dL_law_1258 : decode cL_law 1258 = .ok (.ifCond .ne 15, 3) := dk_154 0 15 (dk_at dksL_law_48 12 rfl rfl)
theorem dL_law_1261 : decode cL_law 1261 = .ok (.aload_n 3, 1) := dk_45 (dk_at dksL_law_48 15 rfl rfl)
theorem dL_law_1262 : decode cL_law 1262 = .ok (.iconst 0, 1) := dk_3 (dk_at dksL_law_48 16 rfl rfl)
theorem dL_law_1263 : decode cL_law 1263 = .ok (.laload, 1) := dk_47 (dk_at dksL_law_48 17 rfl rfl)
theorem dL_law_1264 : decode cL_law 1264 = .ok (.iload 6, 2) := dk_21 6 (dk_at dksL_law_48 18 rfl rfl)
theorem dL_law_1266 : decode cL_law 1266 = .ok (.i2l, 1) := dk_133 (dk_at dksL_law_48 20 rfl rfl)
theorem dL_law_1267 : decode cL_law 1267 = .ok (.lcmp, 1) := dk_148 (dk_at dksL_law_48 21 rfl rfl)
theorem dL_law_1268 : decode cL_law 1268 = .ok (.ifCond .eq 5, 3) := dk_153 0 5 (dk_at dksL_law_49 0 rfl rfl)
theorem dL_law_1271 : decode cL_law 1271 = .ok (.iconst 0, 1) := dk_3 (dk_at dksL_law_49 3 rfl rfl)
theorem dL_law_1272 : decode cL_law 1272 = .ok (.ireturn, 1) := dk_172 (dk_at dksL_law_49 4 rfl rfl)
theorem dL_law_1273 : decode cL_law 1273 = .ok (.goto 1003, 3) := dk_167 3 235 (dk_at dksL_law_49 5 rfl rfl)
theorem dL_law_1276 : decode cL_law 1276 = .ok (.aload_n 1, 1) := dk_43 (dk_at dksL_law_49 8 rfl rfl)
theorem dL_law_1277 : decode cL_law 1277 = .ok (.invokevirtual 162, 3) := dk_182 0 162 (dk_at dksL_law_49 9 rfl rfl)
theorem dL_law_1280 : decode cL_law 1280 = .ok (.aload_n 2, 1) := dk_44 (dk_at dksL_law_49 12 rfl rfl)
theorem dL_law_1281 : decode cL_law 1281 = .ok (.invokevirtual 165, 3) := dk_182 0 165 (dk_at dksL_law_49 13 rfl rfl)
theorem dL_law_1284 : decode cL_law 1284 = .ok (.if_icmp .eq 992, 3) := dk_159 3 224 (dk_at dksL_law_49 16 rfl rfl)
theorem dL_law_1287 : decode cL_law 1287 = .ok (.iconst 0, 1) := dk_3 (dk_at dksL_law_49 19 rfl rfl)
theorem dL_law_1288 : decode cL_law 1288 = .ok (.ireturn, 1) := dk_172 (dk_at dksL_law_49 20 rfl rfl)
theorem dL_law_1289 : decode cL_law 1289 = .ok (.aload_n 1, 1) := dk_43 (dk_at dksL_law_49 21 rfl rfl)
theorem dL_law_1290 : decode cL_law 1290 = .ok (.aload_n 0, 1) := dk_42 (dk_at dksL_law_49 22 rfl rfl)
theorem dL_law_1291 : decode cL_law 1291 = .ok (.iload 4, 2) := dk_21 4 (dk_at dksL_law_50 0 rfl rfl)
theorem dL_law_1293 : decode cL_law 1293 = .ok (.iconst 1, 1) := dk_4 (dk_at dksL_law_50 2 rfl rfl)
theorem dL_law_1294 : decode cL_law 1294 = .ok (.iadd, 1) := dk_96 (dk_at dksL_law_50 3 rfl rfl)
theorem dL_law_1295 : decode cL_law 1295 = .ok (.iaload, 1) := dk_46 (dk_at dksL_law_50 4 rfl rfl)
theorem dL_law_1296 : decode cL_law 1296 = .ok (.aload_n 0, 1) := dk_42 (dk_at dksL_law_50 5 rfl rfl)
theorem dL_law_1297 : decode cL_law 1297 = .ok (.iload 4, 2) := dk_21 4 (dk_at dksL_law_50 6 rfl rfl)
theorem dL_law_1299 : decode cL_law 1299 = .ok (.iconst 2, 1) := dk_5 (dk_at dksL_law_50 8 rfl rfl)
theorem dL_law_1300 : decode cL_law 1300 = .ok (.iadd, 1) := dk_96 (dk_at dksL_law_50 9 rfl rfl)
theorem dL_law_1301 : decode cL_law 1301 = .ok (.iaload, 1) := dk_46 (dk_at dksL_law_50 10 rfl rfl)
theorem dL_law_1302 : decode cL_law 1302 = .ok (.aload_n 0, 1) := dk_42 (dk_at dksL_law_50 11 rfl rfl)
theorem dL_law_1303 : decode cL_law 1303 = .ok (.iload 4, 2) := dk_21 4 (dk_at dksL_law_50 12 rfl rfl)
theorem dL_law_1305 : decode cL_law 1305 = .ok (.iconst 3, 1) := dk_6 (dk_at dksL_law_50 14 rfl rfl)
theorem dL_law_1306 : decode cL_law 1306 = .ok (.iadd, 1) := dk_96 (dk_at dksL_law_50 15 rfl rfl)
theorem dL_law_1307 : decode cL_law 1307 = .ok (.iaload, 1) := dk_46 (dk_at dksL_law_50 16 rfl rfl)
theorem dL_law_1308 : decode cL_law 1308 = .ok (.aload_n 0, 1) := dk_42 (dk_at dksL_law_50 17 rfl rfl)
theorem dL_law_1309 : decode cL_law 1309 = .ok (.iload 4, 2) := dk_21 4 (dk_at dksL_law_50 18 rfl rfl)
theorem dL_law_1311 : decode cL_law 1311 = .ok (.iconst 4, 1) := dk_7 (dk_at dksL_law_50 20 rfl rfl)
theorem dL_law_1312 : decode cL_law 1312 = .ok (.iadd, 1) := dk_96 (dk_at dksL_law_50 21 rfl rfl)
theorem dL_law_1313 : decode cL_law 1313 = .ok (.iaload, 1) := dk_46 (dk_at dksL_law_50 22 rfl rfl)
theorem dL_law_1314 : decode cL_law 1314 = .ok (.aload_n 3, 1) := dk_45 (dk_at dksL_law_50 23 rfl rfl)
theorem dL_law_1315 : decode cL_law 1315 = .ok (.invokestatic 166, 3) := dk_184 0 166 (dk_at dksL_law_51 0 rfl rfl)
theorem dL_law_1318 : decode cL_law 1318 = .ok (.istore 5, 2) := dk_54 5 (dk_at dksL_law_51 3 rfl rfl)
theorem dL_law_1320 : decode cL_law 1320 = .ok (.aload_n 2, 1) := dk_44 (dk_at dksL_law_51 5 rfl rfl)
theorem dL_law_1321 : decode cL_law 1321 = .ok (.aload_n 0, 1) := dk_42 (dk_at dksL_law_51 6 rfl rfl)
theorem dL_law_1322 : decode cL_law 1322 = .ok (.iload 4, 2) := dk_21 4 (dk_at dksL_law_51 7 rfl rfl)
theorem dL_law_1324 : decode cL_law 1324 = .ok (.iconst 1, 1) := dk_4 (dk_at dksL_law_51 9 rfl rfl)
theorem dL_law_1325 : decode cL_law 1325 = .ok (.iadd, 1) := dk_96 (dk_at dksL_law_51 10 rfl rfl)
theorem dL_law_1326 : decode cL_law 1326 = .ok (.iaload, 1) := dk_46 (dk_at dksL_law_51 11 rfl rfl)
theorem dL_law_1327 : decode cL_law 1327 = .ok (.aload_n 0, 1) := dk_42 (dk_at dksL_law_51 12 rfl rfl)
theorem dL_law_1328 : decode cL_law 1328 = .ok (.iload 4, 2) := dk_21 4 (dk_at dksL_law_51 13 rfl rfl)
theorem dL_law_1330 : decode cL_law 1330 = .ok (.iconst 2, 1) := dk_5 (dk_at dksL_law_51 15 rfl rfl)
theorem dL_law_1331 : decode cL_law 1331 = .ok (.iadd, 1) := dk_96 (dk_at dksL_law_51 16 rfl rfl)
theorem dL_law_1332 : decode cL_law 1332 = .ok (.iaload, 1) := dk_46 (dk_at dksL_law_51 17 rfl rfl)
theorem dL_law_1333 : decode cL_law 1333 = .ok (.aload_n 0, 1) := dk_42 (dk_at dksL_law_51 18 rfl rfl)
theorem dL_law_1334 : decode cL_law 1334 = .ok (.iload 4, 2) := dk_21 4 (dk_at dksL_law_51 19 rfl rfl)
theorem dL_law_1336 : decode cL_law 1336 = .ok (.iconst 3, 1) := dk_6 (dk_at dksL_law_51 21 rfl rfl)
theorem dL_law_1337 : decode cL_law 1337 = .ok (.iadd, 1) := dk_96 (dk_at dksL_law_51 22 rfl rfl)
theorem dL_law_1338 : decode cL_law 1338 = .ok (.iaload, 1) := dk_46 (dk_at dksL_law_51 23 rfl rfl)
theorem dL_law_1339 : decode cL_law 1339 = .ok (.aload_n 0, 1) := dk_42 (dk_at dksL_law_52 0 rfl rfl)
theorem dL_law_1340 : decode cL_law 1340 = .ok (.iload 4, 2) := dk_21 4 (dk_at dksL_law_52 1 rfl rfl)
theorem dL_law_1342 : decode cL_law 1342 = .ok (.iconst 4, 1) := dk_7 (dk_at dksL_law_52 3 rfl rfl)
theorem dL_law_1343 : decode cL_law 1343 = .ok (.iadd, 1) := dk_96 (dk_at dksL_law_52 4 rfl rfl)
theorem dL_law_1344 : decode cL_law 1344 = .ok (.iaload, 1) := dk_46 (dk_at dksL_law_52 5 rfl rfl)
theorem dL_law_1345 : decode cL_law 1345 = .ok (.invokevirtual 168, 3) := dk_182 0 168 (dk_at dksL_law_52 6 rfl rfl)
theorem dL_law_1348 : decode cL_law 1348 = .ok (.istore 6, 2) := dk_54 6 (dk_at dksL_law_52 9 rfl rfl)
theorem dL_law_1350 : decode cL_law 1350 = .ok (.aload_n 2, 1) := dk_44 (dk_at dksL_law_52 11 rfl rfl)
theorem dL_law_1351 : decode cL_law 1351 = .ok (.invokevirtual 112, 3) := dk_182 0 112 (dk_at dksL_law_52 12 rfl rfl)
theorem dL_law_1354 : decode cL_law 1354 = .ok (.iload 5, 2) := dk_21 5 (dk_at dksL_law_52 15 rfl rfl)
theorem dL_law_1356 : decode cL_law 1356 = .ok (.if_icmp .eq 5, 3) := dk_159 0 5 (dk_at dksL_law_52 17 rfl rfl)
theorem dL_law_1359 : decode cL_law 1359 = .ok (.iconst 0, 1) := dk_3 (dk_at dksL_law_52 20 rfl rfl)
theorem dL_law_1360 : decode cL_law 1360 = .ok (.ireturn, 1) := dk_172 (dk_at dksL_law_52 21 rfl rfl)
theorem dL_law_1361 : decode cL_law 1361 = .ok (.iload 5, 2) := dk_21 5 (dk_at dksL_law_52 22 rfl rfl)
theorem dL_law_1363 : decode cL_law 1363 = .ok (.ifCond .ne 15, 3) := dk_154 0 15 (dk_at dksL_law_53 0 rfl rfl)
theorem dL_law_1366 : decode cL_law 1366 = .ok (.aload_n 3, 1) := dk_45 (dk_at dksL_law_53 3 rfl rfl)
theorem dL_law_1367 : decode cL_law 1367 = .ok (.iconst 0, 1) := dk_3 (dk_at dksL_law_53 4 rfl rfl)
theorem dL_law_1368 : decode cL_law 1368 = .ok (.laload, 1) := dk_47 (dk_at dksL_law_53 5 rfl rfl)
theorem dL_law_1369 : decode cL_law 1369 = .ok (.iload 6, 2) := dk_21 6 (dk_at dksL_law_53 6 rfl rfl)
theorem dL_law_1371 : decode cL_law 1371 = .ok (.i2l, 1) := dk_133 (dk_at dksL_law_53 8 rfl rfl)
theorem dL_law_1372 : decode cL_law 1372 = .ok (.lcmp, 1) := dk_148 (dk_at dksL_law_53 9 rfl rfl)
theorem dL_law_1373 : decode cL_law 1373 = .ok (.ifCond .eq 5, 3) := dk_153 0 5 (dk_at dksL_law_53 10 rfl rfl)
theorem dL_law_1376 : decode cL_law 1376 = .ok (.iconst 0, 1) := dk_3 (dk_at dksL_law_53 13 rfl rfl)
theorem dL_law_1377 : decode cL_law 1377 = .ok (.ireturn, 1) := dk_172 (dk_at dksL_law_53 14 rfl rfl)
theorem dL_law_1378 : decode cL_law 1378 = .ok (.goto 898, 3) := dk_167 3 130 (dk_at dksL_law_53 15 rfl rfl)
theorem dL_law_1381 : decode cL_law 1381 = .ok (.aload_n 1, 1) := dk_43 (dk_at dksL_law_53 18 rfl rfl)
theorem dL_law_1382 : decode cL_law 1382 = .ok (.aload_n 0, 1) := dk_42 (dk_at dksL_law_53 19 rfl rfl)
theorem dL_law_1383 : decode cL_law 1383 = .ok (.iload 4, 2) := dk_21 4 (dk_at dksL_law_53 20 rfl rfl)
theorem dL_law_1385 : decode cL_law 1385 = .ok (.iconst 1, 1) := dk_4 (dk_at dksL_law_53 22 rfl rfl)
theorem dL_law_1386 : decode cL_law 1386 = .ok (.iadd, 1) := dk_96 (dk_at dksL_law_53 23 rfl rfl)
theorem dL_law_1387 : decode cL_law 1387 = .ok (.iaload, 1) := dk_46 (dk_at dksL_law_54 0 rfl rfl)
theorem dL_law_1388 : decode cL_law 1388 = .ok (.aload_n 0, 1) := dk_42 (dk_at dksL_law_54 1 rfl rfl)
theorem dL_law_1389 : decode cL_law 1389 = .ok (.iload 4, 2) := dk_21 4 (dk_at dksL_law_54 2 rfl rfl)
theorem dL_law_1391 : decode cL_law 1391 = .ok (.iconst 2, 1) := dk_5 (dk_at dksL_law_54 4 rfl rfl)
theorem dL_law_1392 : decode cL_law 1392 = .ok (.iadd, 1) := dk_96 (dk_at dksL_law_54 5 rfl rfl)
theorem dL_law_1393 : decode cL_law 1393 = .ok (.iaload, 1) := dk_46 (dk_at dksL_law_54 6 rfl rfl)
theorem dL_law_1394 : decode cL_law 1394 = .ok (.aload_n 0, 1) := dk_42 (dk_at dksL_law_54 7 rfl rfl)
theorem dL_law_1395 : decode cL_law 1395 = .ok (.iload 4, 2) := dk_21 4 (dk_at dksL_law_54 8 rfl rfl)
theorem dL_law_1397 : decode cL_law 1397 = .ok (.iconst 3, 1) := dk_6 (dk_at dksL_law_54 10 rfl rfl)
theorem dL_law_1398 : decode cL_law 1398 = .ok (.iadd, 1) := dk_96 (dk_at dksL_law_54 11 rfl rfl)
theorem dL_law_1399 : decode cL_law 1399 = .ok (.iaload, 1) := dk_46 (dk_at dksL_law_54 12 rfl rfl)
theorem dL_law_1400 : decode cL_law 1400 = .ok (.aload_n 3, 1) := dk_45 (dk_at dksL_law_54 13 rfl rfl)
theorem dL_law_1401 : decode cL_law 1401 = .ok (.invokestatic 169, 3) := dk_184 0 169 (dk_at dksL_law_54 14 rfl rfl)
theorem dL_law_1404 : decode cL_law 1404 = .ok (.istore 5, 2) := dk_54 5 (dk_at dksL_law_54 17 rfl rfl)
theorem dL_law_1406 : decode cL_law 1406 = .ok (.aload_n 2, 1) := dk_44 (dk_at dksL_law_54 19 rfl rfl)
theorem dL_law_1407 : decode cL_law 1407 = .ok (.aload_n 0, 1) := dk_42 (dk_at dksL_law_54 20 rfl rfl)
theorem dL_law_1408 : decode cL_law 1408 = .ok (.iload 4, 2) := dk_21 4 (dk_at dksL_law_54 21 rfl rfl)
theorem dL_law_1410 : decode cL_law 1410 = .ok (.iconst 1, 1) := dk_4 (dk_at dksL_law_54 23 rfl rfl)
theorem dL_law_1411 : decode cL_law 1411 = .ok (.iadd, 1) := dk_96 (dk_at dksL_law_55 0 rfl rfl)
theorem dL_law_1412 : decode cL_law 1412 = .ok (.iaload, 1) := dk_46 (dk_at dksL_law_55 1 rfl rfl)
theorem dL_law_1413 : decode cL_law 1413 = .ok (.aload_n 0, 1) := dk_42 (dk_at dksL_law_55 2 rfl rfl)
theorem dL_law_1414 : decode cL_law 1414 = .ok (.iload 4, 2) := dk_21 4 (dk_at dksL_law_55 3 rfl rfl)
theorem dL_law_1416 : decode cL_law 1416 = .ok (.iconst 2, 1) := dk_5 (dk_at dksL_law_55 5 rfl rfl)
theorem dL_law_1417 : decode cL_law 1417 = .ok (.iadd, 1) := dk_96 (dk_at dksL_law_55 6 rfl rfl)
theorem dL_law_1418 : decode cL_law 1418 = .ok (.iaload, 1) := dk_46 (dk_at dksL_law_55 7 rfl rfl)
theorem dL_law_1419 : decode cL_law 1419 = .ok (.aload_n 0, 1) := dk_42 (dk_at dksL_law_55 8 rfl rfl)
theorem dL_law_1420 : decode cL_law 1420 = .ok (.iload 4, 2) := dk_21 4 (dk_at dksL_law_55 9 rfl rfl)
theorem dL_law_1422 : decode cL_law 1422 = .ok (.iconst 3, 1) := dk_6 (dk_at dksL_law_55 11 rfl rfl)
theorem dL_law_1423 : decode cL_law 1423 = .ok (.iadd, 1) := dk_96 (dk_at dksL_law_55 12 rfl rfl)
theorem dL_law_1424 : decode cL_law 1424 = .ok (.iaload, 1) := dk_46 (dk_at dksL_law_55 13 rfl rfl)
theorem dL_law_1425 : decode cL_law 1425 = .ok (.invokevirtual 171, 3) := dk_182 0 171 (dk_at dksL_law_55 14 rfl rfl)
theorem dL_law_1428 : decode cL_law 1428 = .ok (.istore 6, 2) := dk_54 6 (dk_at dksL_law_55 17 rfl rfl)
theorem dL_law_1430 : decode cL_law 1430 = .ok (.aload_n 2, 1) := dk_44 (dk_at dksL_law_55 19 rfl rfl)
theorem dL_law_1431 : decode cL_law 1431 = .ok (.invokevirtual 112, 3) := dk_182 0 112 (dk_at dksL_law_55 20 rfl rfl)
theorem dL_law_1434 : decode cL_law 1434 = .ok (.iload 5, 2) := dk_21 5 (dk_at dksL_law_56 0 rfl rfl)
theorem dL_law_1436 : decode cL_law 1436 = .ok (.if_icmp .eq 5, 3) := dk_159 0 5 (dk_at dksL_law_56 2 rfl rfl)
theorem dL_law_1439 : decode cL_law 1439 = .ok (.iconst 0, 1) := dk_3 (dk_at dksL_law_56 5 rfl rfl)
theorem dL_law_1440 : decode cL_law 1440 = .ok (.ireturn, 1) := dk_172 (dk_at dksL_law_56 6 rfl rfl)
theorem dL_law_1441 : decode cL_law 1441 = .ok (.iload 5, 2) := dk_21 5 (dk_at dksL_law_56 7 rfl rfl)
theorem dL_law_1443 : decode cL_law 1443 = .ok (.ifCond .ne 15, 3) := dk_154 0 15 (dk_at dksL_law_56 9 rfl rfl)
theorem dL_law_1446 : decode cL_law 1446 = .ok (.aload_n 3, 1) := dk_45 (dk_at dksL_law_56 12 rfl rfl)
theorem dL_law_1447 : decode cL_law 1447 = .ok (.iconst 0, 1) := dk_3 (dk_at dksL_law_56 13 rfl rfl)
theorem dL_law_1448 : decode cL_law 1448 = .ok (.laload, 1) := dk_47 (dk_at dksL_law_56 14 rfl rfl)
theorem dL_law_1449 : decode cL_law 1449 = .ok (.iload 6, 2) := dk_21 6 (dk_at dksL_law_56 15 rfl rfl)
theorem dL_law_1451 : decode cL_law 1451 = .ok (.i2l, 1) := dk_133 (dk_at dksL_law_56 17 rfl rfl)
theorem dL_law_1452 : decode cL_law 1452 = .ok (.lcmp, 1) := dk_148 (dk_at dksL_law_56 18 rfl rfl)
theorem dL_law_1453 : decode cL_law 1453 = .ok (.ifCond .eq 5, 3) := dk_153 0 5 (dk_at dksL_law_56 19 rfl rfl)
theorem dL_law_1456 : decode cL_law 1456 = .ok (.iconst 0, 1) := dk_3 (dk_at dksL_law_56 22 rfl rfl)
theorem dL_law_1457 : decode cL_law 1457 = .ok (.ireturn, 1) := dk_172 (dk_at dksL_law_56 23 rfl rfl)
theorem dL_law_1458 : decode cL_law 1458 = .ok (.goto 818, 3) := dk_167 3 50 (dk_at dksL_law_57 0 rfl rfl)
theorem dL_law_1461 : decode cL_law 1461 = .ok (.aload_n 1, 1) := dk_43 (dk_at dksL_law_57 3 rfl rfl)
theorem dL_law_1462 : decode cL_law 1462 = .ok (.aload_n 0, 1) := dk_42 (dk_at dksL_law_57 4 rfl rfl)
theorem dL_law_1463 : decode cL_law 1463 = .ok (.iload 4, 2) := dk_21 4 (dk_at dksL_law_57 5 rfl rfl)
theorem dL_law_1465 : decode cL_law 1465 = .ok (.iconst 1, 1) := dk_4 (dk_at dksL_law_57 7 rfl rfl)
theorem dL_law_1466 : decode cL_law 1466 = .ok (.iadd, 1) := dk_96 (dk_at dksL_law_57 8 rfl rfl)
theorem dL_law_1467 : decode cL_law 1467 = .ok (.iaload, 1) := dk_46 (dk_at dksL_law_57 9 rfl rfl)
theorem dL_law_1468 : decode cL_law 1468 = .ok (.aload_n 0, 1) := dk_42 (dk_at dksL_law_57 10 rfl rfl)
theorem dL_law_1469 : decode cL_law 1469 = .ok (.iload 4, 2) := dk_21 4 (dk_at dksL_law_57 11 rfl rfl)
theorem dL_law_1471 : decode cL_law 1471 = .ok (.iconst 2, 1) := dk_5 (dk_at dksL_law_57 13 rfl rfl)
theorem dL_law_1472 : decode cL_law 1472 = .ok (.iadd, 1) := dk_96 (dk_at dksL_law_57 14 rfl rfl)
theorem dL_law_1473 : decode cL_law 1473 = .ok (.iaload, 1) := dk_46 (dk_at dksL_law_57 15 rfl rfl)
theorem dL_law_1474 : decode cL_law 1474 = .ok (.aload_n 0, 1) := dk_42 (dk_at dksL_law_57 16 rfl rfl)
theorem dL_law_1475 : decode cL_law 1475 = .ok (.iload 4, 2) := dk_21 4 (dk_at dksL_law_57 17 rfl rfl)
theorem dL_law_1477 : decode cL_law 1477 = .ok (.iconst 3, 1) := dk_6 (dk_at dksL_law_57 19 rfl rfl)
theorem dL_law_1478 : decode cL_law 1478 = .ok (.iadd, 1) := dk_96 (dk_at dksL_law_57 20 rfl rfl)
theorem dL_law_1479 : decode cL_law 1479 = .ok (.iaload, 1) := dk_46 (dk_at dksL_law_57 21 rfl rfl)
theorem dL_law_1480 : decode cL_law 1480 = .ok (.aload_n 3, 1) := dk_45 (dk_at dksL_law_57 22 rfl rfl)
theorem dL_law_1481 : decode cL_law 1481 = .ok (.invokestatic 172, 3) := dk_184 0 172 (dk_at dksL_law_58 0 rfl rfl)
theorem dL_law_1484 : decode cL_law 1484 = .ok (.istore 5, 2) := dk_54 5 (dk_at dksL_law_58 3 rfl rfl)
theorem dL_law_1486 : decode cL_law 1486 = .ok (.aload_n 2, 1) := dk_44 (dk_at dksL_law_58 5 rfl rfl)
theorem dL_law_1487 : decode cL_law 1487 = .ok (.aload_n 0, 1) := dk_42 (dk_at dksL_law_58 6 rfl rfl)
theorem dL_law_1488 : decode cL_law 1488 = .ok (.iload 4, 2) := dk_21 4 (dk_at dksL_law_58 7 rfl rfl)
theorem dL_law_1490 : decode cL_law 1490 = .ok (.iconst 1, 1) := dk_4 (dk_at dksL_law_58 9 rfl rfl)
theorem dL_law_1491 : decode cL_law 1491 = .ok (.iadd, 1) := dk_96 (dk_at dksL_law_58 10 rfl rfl)
theorem dL_law_1492 : decode cL_law 1492 = .ok (.iaload, 1) := dk_46 (dk_at dksL_law_58 11 rfl rfl)
theorem dL_law_1493 : decode cL_law 1493 = .ok (.aload_n 0, 1) := dk_42 (dk_at dksL_law_58 12 rfl rfl)
theorem dL_law_1494 : decode cL_law 1494 = .ok (.iload 4, 2) := dk_21 4 (dk_at dksL_law_58 13 rfl rfl)
theorem dL_law_1496 : decode cL_law 1496 = .ok (.iconst 2, 1) := dk_5 (dk_at dksL_law_58 15 rfl rfl)
theorem dL_law_1497 : decode cL_law 1497 = .ok (.iadd, 1) := dk_96 (dk_at dksL_law_58 16 rfl rfl)
theorem dL_law_1498 : decode cL_law 1498 = .ok (.iaload, 1) := dk_46 (dk_at dksL_law_58 17 rfl rfl)
theorem dL_law_1499 : decode cL_law 1499 = .ok (.aload_n 0, 1) := dk_42 (dk_at dksL_law_58 18 rfl rfl)
theorem dL_law_1500 : decode cL_law 1500 = .ok (.iload 4, 2) := dk_21 4 (dk_at dksL_law_58 19 rfl rfl)
theorem dL_law_1502 : decode cL_law 1502 = .ok (.iconst 3, 1) := dk_6 (dk_at dksL_law_58 21 rfl rfl)
theorem dL_law_1503 : decode cL_law 1503 = .ok (.iadd, 1) := dk_96 (dk_at dksL_law_58 22 rfl rfl)
theorem dL_law_1504 : decode cL_law 1504 = .ok (.iaload, 1) := dk_46 (dk_at dksL_law_58 23 rfl rfl)
theorem dL_law_1505 : decode cL_law 1505 = .ok (.invokevirtual 174, 3) := dk_182 0 174 (dk_at dksL_law_59 0 rfl rfl)
theorem dL_law_1508 : decode cL_law 1508 = .ok (.istore 6, 2) := dk_54 6 (dk_at dksL_law_59 3 rfl rfl)
theorem dL_law_1510 : decode cL_law 1510 = .ok (.aload_n 2, 1) := dk_44 (dk_at dksL_law_59 5 rfl rfl)
theorem dL_law_1511 : decode cL_law 1511 = .ok (.invokevirtual 112, 3) := dk_182 0 112 (dk_at dksL_law_59 6 rfl rfl)
theorem dL_law_1514 : decode cL_law 1514 = .ok (.iload 5, 2) := dk_21 5 (dk_at dksL_law_59 9 rfl rfl)
theorem dL_law_1516 : decode cL_law 1516 = .ok (.if_icmp .eq 5, 3) := dk_159 0 5 (dk_at dksL_law_59 11 rfl rfl)
theorem dL_law_1519 : decode cL_law 1519 = .ok (.iconst 0, 1) := dk_3 (dk_at dksL_law_59 14 rfl rfl)
theorem dL_law_1520 : decode cL_law 1520 = .ok (.ireturn, 1) := dk_172 (dk_at dksL_law_59 15 rfl rfl)
theorem dL_law_1521 : decode cL_law 1521 = .ok (.iload 5, 2) := dk_21 5 (dk_at dksL_law_59 16 rfl rfl)
theorem dL_law_1523 : decode cL_law 1523 = .ok (.ifCond .ne 15, 3) := dk_154 0 15 (dk_at dksL_law_59 18 rfl rfl)
theorem dL_law_1526 : decode cL_law 1526 = .ok (.aload_n 3, 1) := dk_45 (dk_at dksL_law_59 21 rfl rfl)
theorem dL_law_1527 : decode cL_law 1527 = .ok (.iconst 0, 1) := dk_3 (dk_at dksL_law_59 22 rfl rfl)
theorem dL_law_1528 : decode cL_law 1528 = .ok (.laload, 1) := dk_47 (dk_at dksL_law_59 23 rfl rfl)
theorem dL_law_1529 : decode cL_law 1529 = .ok (.iload 6, 2) := dk_21 6 (dk_at dksL_law_60 0 rfl rfl)
theorem dL_law_1531 : decode cL_law 1531 = .ok (.i2l, 1) := dk_133 (dk_at dksL_law_60 2 rfl rfl)
theorem dL_law_1532 : decode cL_law 1532 = .ok (.lcmp, 1) := dk_148 (dk_at dksL_law_60 3 rfl rfl)
theorem dL_law_1533 : decode cL_law 1533 = .ok (.ifCond .eq 5, 3) := dk_153 0 5 (dk_at dksL_law_60 4 rfl rfl)
theorem dL_law_1536 : decode cL_law 1536 = .ok (.iconst 0, 1) := dk_3 (dk_at dksL_law_60 7 rfl rfl)
theorem dL_law_1537 : decode cL_law 1537 = .ok (.ireturn, 1) := dk_172 (dk_at dksL_law_60 8 rfl rfl)
theorem dL_law_1538 : decode cL_law 1538 = .ok (.goto 738, 3) := dk_167 2 226 (dk_at dksL_law_60 9 rfl rfl)
theorem dL_law_1541 : decode cL_law 1541 = .ok (.aload_n 1, 1) := dk_43 (dk_at dksL_law_60 12 rfl rfl)
theorem dL_law_1542 : decode cL_law 1542 = .ok (.aload_n 0, 1) := dk_42 (dk_at dksL_law_60 13 rfl rfl)
theorem dL_law_1543 : decode cL_law 1543 = .ok (.iload 4, 2) := dk_21 4 (dk_at dksL_law_60 14 rfl rfl)
theorem dL_law_1545 : decode cL_law 1545 = .ok (.iconst 1, 1) := dk_4 (dk_at dksL_law_60 16 rfl rfl)
theorem dL_law_1546 : decode cL_law 1546 = .ok (.iadd, 1) := dk_96 (dk_at dksL_law_60 17 rfl rfl)
theorem dL_law_1547 : decode cL_law 1547 = .ok (.iaload, 1) := dk_46 (dk_at dksL_law_60 18 rfl rfl)
theorem dL_law_1548 : decode cL_law 1548 = .ok (.aload_n 3, 1) := dk_45 (dk_at dksL_law_60 19 rfl rfl)
theorem dL_law_1549 : decode cL_law 1549 = .ok (.invokestatic 175, 3) := dk_184 0 175 (dk_at dksL_law_60 20 rfl rfl)
theorem dL_law_1552 : decode cL_law 1552 = .ok (.istore 5, 2) := dk_54 5 (dk_at dksL_law_61 0 rfl rfl)
theorem dL_law_1554 : decode cL_law 1554 = .ok (.aload_n 2, 1) := dk_44 (dk_at dksL_law_61 2 rfl rfl)
theorem dL_law_1555 : decode cL_law 1555 = .ok (.aload_n 0, 1) := dk_42 (dk_at dksL_law_61 3 rfl rfl)
theorem dL_law_1556 : decode cL_law 1556 = .ok (.iload 4, 2) := dk_21 4 (dk_at dksL_law_61 4 rfl rfl)
theorem dL_law_1558 : decode cL_law 1558 = .ok (.iconst 1, 1) := dk_4 (dk_at dksL_law_61 6 rfl rfl)
theorem dL_law_1559 : decode cL_law 1559 = .ok (.iadd, 1) := dk_96 (dk_at dksL_law_61 7 rfl rfl)
theorem dL_law_1560 : decode cL_law 1560 = .ok (.iaload, 1) := dk_46 (dk_at dksL_law_61 8 rfl rfl)
theorem dL_law_1561 : decode cL_law 1561 = .ok (.invokevirtual 177, 3) := dk_182 0 177 (dk_at dksL_law_61 9 rfl rfl)
theorem dL_law_1564 : decode cL_law 1564 = .ok (.istore 6, 2) := dk_54 6 (dk_at dksL_law_61 12 rfl rfl)
theorem dL_law_1566 : decode cL_law 1566 = .ok (.aload_n 2, 1) := dk_44 (dk_at dksL_law_61 14 rfl rfl)
theorem dL_law_1567 : decode cL_law 1567 = .ok (.invokevirtual 112, 3) := dk_182 0 112 (dk_at dksL_law_61 15 rfl rfl)
theorem dL_law_1570 : decode cL_law 1570 = .ok (.iload 5, 2) := dk_21 5 (dk_at dksL_law_61 18 rfl rfl)
theorem dL_law_1572 : decode cL_law 1572 = .ok (.if_icmp .eq 5, 3) := dk_159 0 5 (dk_at dksL_law_61 20 rfl rfl)
theorem dL_law_1575 : decode cL_law 1575 = .ok (.iconst 0, 1) := dk_3 (dk_at dksL_law_61 23 rfl rfl)
theorem dL_law_1576 : decode cL_law 1576 = .ok (.ireturn, 1) := dk_172 (dk_at dksL_law_62 0 rfl rfl)
theorem dL_law_1577 : decode cL_law 1577 = .ok (.iload 5, 2) := dk_21 5 (dk_at dksL_law_62 1 rfl rfl)
theorem dL_law_1579 : decode cL_law 1579 = .ok (.ifCond .ne 15, 3) := dk_154 0 15 (dk_at dksL_law_62 3 rfl rfl)
theorem dL_law_1582 : decode cL_law 1582 = .ok (.aload_n 3, 1) := dk_45 (dk_at dksL_law_62 6 rfl rfl)
theorem dL_law_1583 : decode cL_law 1583 = .ok (.iconst 0, 1) := dk_3 (dk_at dksL_law_62 7 rfl rfl)
theorem dL_law_1584 : decode cL_law 1584 = .ok (.laload, 1) := dk_47 (dk_at dksL_law_62 8 rfl rfl)
theorem dL_law_1585 : decode cL_law 1585 = .ok (.iload 6, 2) := dk_21 6 (dk_at dksL_law_62 9 rfl rfl)
theorem dL_law_1587 : decode cL_law 1587 = .ok (.i2l, 1) := dk_133 (dk_at dksL_law_62 11 rfl rfl)
theorem dL_law_1588 : decode cL_law 1588 = .ok (.lcmp, 1) := dk_148 (dk_at dksL_law_62 12 rfl rfl)
theorem dL_law_1589 : decode cL_law 1589 = .ok (.ifCond .eq 5, 3) := dk_153 0 5 (dk_at dksL_law_62 13 rfl rfl)
theorem dL_law_1592 : decode cL_law 1592 = .ok (.iconst 0, 1) := dk_3 (dk_at dksL_law_62 16 rfl rfl)
theorem dL_law_1593 : decode cL_law 1593 = .ok (.ireturn, 1) := dk_172 (dk_at dksL_law_62 17 rfl rfl)
theorem dL_law_1594 : decode cL_law 1594 = .ok (.goto 682, 3) := dk_167 2 170 (dk_at dksL_law_62 18 rfl rfl)
theorem dL_law_1597 : decode cL_law 1597 = .ok (.aload_n 1, 1) := dk_43 (dk_at dksL_law_62 21 rfl rfl)
theorem dL_law_1598 : decode cL_law 1598 = .ok (.invokevirtual 178, 3) := dk_182 0 178 (dk_at dksL_law_63 0 rfl rfl)
theorem dL_law_1601 : decode cL_law 1601 = .ok (.dstore 5, 2) := dk_57 5 (dk_at dksL_law_63 3 rfl rfl)
theorem dL_law_1603 : decode cL_law 1603 = .ok (.aload_n 2, 1) := dk_44 (dk_at dksL_law_63 5 rfl rfl)
theorem dL_law_1604 : decode cL_law 1604 = .ok (.invokevirtual 182, 3) := dk_182 0 182 (dk_at dksL_law_63 6 rfl rfl)
theorem dL_law_1607 : decode cL_law 1607 = .ok (.dstore 7, 2) := dk_57 7 (dk_at dksL_law_63 9 rfl rfl)
theorem dL_law_1609 : decode cL_law 1609 = .ok (.dload 5, 2) := dk_24 5 (dk_at dksL_law_63 11 rfl rfl)
theorem dL_law_1611 : decode cL_law 1611 = .ok (.dload 7, 2) := dk_24 7 (dk_at dksL_law_63 13 rfl rfl)
theorem dL_law_1613 : decode cL_law 1613 = .ok (.dcmp .l, 1) := dk_151 (dk_at dksL_law_63 15 rfl rfl)
theorem dL_law_1614 : decode cL_law 1614 = .ok (.ifCond .eq 21, 3) := dk_153 0 21 (dk_at dksL_law_63 16 rfl rfl)
theorem dL_law_1617 : decode cL_law 1617 = .ok (.dload 5, 2) := dk_24 5 (dk_at dksL_law_63 19 rfl rfl)
theorem dL_law_1619 : decode cL_law 1619 = .ok (.dload 5, 2) := dk_24 5 (dk_at dksL_law_63 21 rfl rfl)
theorem dL_law_1621 : decode cL_law 1621 = .ok (.dcmp .l, 1) := dk_151 (dk_at dksL_law_63 23 rfl rfl)
theorem dL_law_1622 : decode cL_law 1622 = .ok (.ifCond .eq 11, 3) := dk_153 0 11 (dk_at dksL_law_64 0 rfl rfl)
theorem dL_law_1625 : decode cL_law 1625 = .ok (.dload 7, 2) := dk_24 7 (dk_at dksL_law_64 3 rfl rfl)
theorem dL_law_1627 : decode cL_law 1627 = .ok (.dload 7, 2) := dk_24 7 (dk_at dksL_law_64 5 rfl rfl)
theorem dL_law_1629 : decode cL_law 1629 = .ok (.dcmp .l, 1) := dk_151 (dk_at dksL_law_64 7 rfl rfl)
theorem dL_law_1630 : decode cL_law 1630 = .ok (.ifCond .ne 5, 3) := dk_154 0 5 (dk_at dksL_law_64 8 rfl rfl)
theorem dL_law_1633 : decode cL_law 1633 = .ok (.iconst 0, 1) := dk_3 (dk_at dksL_law_64 11 rfl rfl)
theorem dL_law_1634 : decode cL_law 1634 = .ok (.ireturn, 1) := dk_172 (dk_at dksL_law_64 12 rfl rfl)
theorem dL_law_1635 : decode cL_law 1635 = .ok (.goto 641, 3) := dk_167 2 129 (dk_at dksL_law_64 13 rfl rfl)
theorem dL_law_1638 : decode cL_law 1638 = .ok (.aload_n 1, 1) := dk_43 (dk_at dksL_law_64 16 rfl rfl)
theorem dL_law_1639 : decode cL_law 1639 = .ok (.invokevirtual 183, 3) := dk_182 0 183 (dk_at dksL_law_64 17 rfl rfl)
theorem dL_law_1642 : decode cL_law 1642 = .ok (.f2d, 1) := dk_141 (dk_at dksL_law_64 20 rfl rfl)
theorem dL_law_1643 : decode cL_law 1643 = .ok (.dstore 5, 2) := dk_57 5 (dk_at dksL_law_64 21 rfl rfl)
theorem dL_law_1645 : decode cL_law 1645 = .ok (.aload_n 2, 1) := dk_44 (dk_at dksL_law_64 23 rfl rfl)
theorem dL_law_1646 : decode cL_law 1646 = .ok (.invokevirtual 187, 3) := dk_182 0 187 (dk_at dksL_law_65 0 rfl rfl)
theorem dL_law_1649 : decode cL_law 1649 = .ok (.f2d, 1) := dk_141 (dk_at dksL_law_65 3 rfl rfl)
theorem dL_law_1650 : decode cL_law 1650 = .ok (.dstore 7, 2) := dk_57 7 (dk_at dksL_law_65 4 rfl rfl)
theorem dL_law_1652 : decode cL_law 1652 = .ok (.dload 5, 2) := dk_24 5 (dk_at dksL_law_65 6 rfl rfl)
theorem dL_law_1654 : decode cL_law 1654 = .ok (.dload 7, 2) := dk_24 7 (dk_at dksL_law_65 8 rfl rfl)
theorem dL_law_1656 : decode cL_law 1656 = .ok (.dcmp .l, 1) := dk_151 (dk_at dksL_law_65 10 rfl rfl)
theorem dL_law_1657 : decode cL_law 1657 = .ok (.ifCond .eq 21, 3) := dk_153 0 21 (dk_at dksL_law_65 11 rfl rfl)
theorem dL_law_1660 : decode cL_law 1660 = .ok (.dload 5, 2) := dk_24 5 (dk_at dksL_law_65 14 rfl rfl)
theorem dL_law_1662 : decode cL_law 1662 = .ok (.dload 5, 2) := dk_24 5 (dk_at dksL_law_65 16 rfl rfl)
theorem dL_law_1664 : decode cL_law 1664 = .ok (.dcmp .l, 1) := dk_151 (dk_at dksL_law_65 18 rfl rfl)
theorem dL_law_1665 : decode cL_law 1665 = .ok (.ifCond .eq 11, 3) := dk_153 0 11 (dk_at dksL_law_65 19 rfl rfl)
theorem dL_law_1668 : decode cL_law 1668 = .ok (.dload 7, 2) := dk_24 7 (dk_at dksL_law_65 22 rfl rfl)
theorem dL_law_1670 : decode cL_law 1670 = .ok (.dload 7, 2) := dk_24 7 (dk_at dksL_law_66 0 rfl rfl)
theorem dL_law_1672 : decode cL_law 1672 = .ok (.dcmp .l, 1) := dk_151 (dk_at dksL_law_66 2 rfl rfl)
theorem dL_law_1673 : decode cL_law 1673 = .ok (.ifCond .ne 5, 3) := dk_154 0 5 (dk_at dksL_law_66 3 rfl rfl)
theorem dL_law_1676 : decode cL_law 1676 = .ok (.iconst 0, 1) := dk_3 (dk_at dksL_law_66 6 rfl rfl)
theorem dL_law_1677 : decode cL_law 1677 = .ok (.ireturn, 1) := dk_172 (dk_at dksL_law_66 7 rfl rfl)
theorem dL_law_1678 : decode cL_law 1678 = .ok (.goto 598, 3) := dk_167 2 86 (dk_at dksL_law_66 8 rfl rfl)
theorem dL_law_1681 : decode cL_law 1681 = .ok (.aload_n 1, 1) := dk_43 (dk_at dksL_law_66 11 rfl rfl)
theorem dL_law_1682 : decode cL_law 1682 = .ok (.aload_n 0, 1) := dk_42 (dk_at dksL_law_66 12 rfl rfl)
theorem dL_law_1683 : decode cL_law 1683 = .ok (.iload 4, 2) := dk_21 4 (dk_at dksL_law_66 13 rfl rfl)
theorem dL_law_1685 : decode cL_law 1685 = .ok (.iconst 1, 1) := dk_4 (dk_at dksL_law_66 15 rfl rfl)
theorem dL_law_1686 : decode cL_law 1686 = .ok (.iadd, 1) := dk_96 (dk_at dksL_law_66 16 rfl rfl)
theorem dL_law_1687 : decode cL_law 1687 = .ok (.iaload, 1) := dk_46 (dk_at dksL_law_66 17 rfl rfl)
theorem dL_law_1688 : decode cL_law 1688 = .ok (.aload_n 3, 1) := dk_45 (dk_at dksL_law_66 18 rfl rfl)
theorem dL_law_1689 : decode cL_law 1689 = .ok (.invokestatic 188, 3) := dk_184 0 188 (dk_at dksL_law_66 19 rfl rfl)
theorem dL_law_1692 : decode cL_law 1692 = .ok (.istore 5, 2) := dk_54 5 (dk_at dksL_law_66 22 rfl rfl)
theorem dL_law_1694 : decode cL_law 1694 = .ok (.aload_n 2, 1) := dk_44 (dk_at dksL_law_67 0 rfl rfl)
theorem dL_law_1695 : decode cL_law 1695 = .ok (.aload_n 0, 1) := dk_42 (dk_at dksL_law_67 1 rfl rfl)
theorem dL_law_1696 : decode cL_law 1696 = .ok (.iload 4, 2) := dk_21 4 (dk_at dksL_law_67 2 rfl rfl)
theorem dL_law_1698 : decode cL_law 1698 = .ok (.iconst 1, 1) := dk_4 (dk_at dksL_law_67 4 rfl rfl)
theorem dL_law_1699 : decode cL_law 1699 = .ok (.iadd, 1) := dk_96 (dk_at dksL_law_67 5 rfl rfl)
theorem dL_law_1700 : decode cL_law 1700 = .ok (.iaload, 1) := dk_46 (dk_at dksL_law_67 6 rfl rfl)
theorem dL_law_1701 : decode cL_law 1701 = .ok (.invokevirtual 190, 3) := dk_182 0 190 (dk_at dksL_law_67 7 rfl rfl)
theorem dL_law_1704 : decode cL_law 1704 = .ok (.istore 6, 2) := dk_54 6 (dk_at dksL_law_67 10 rfl rfl)
theorem dL_law_1706 : decode cL_law 1706 = .ok (.aload_n 2, 1) := dk_44 (dk_at dksL_law_67 12 rfl rfl)
theorem dL_law_1707 : decode cL_law 1707 = .ok (.invokevirtual 112, 3) := dk_182 0 112 (dk_at dksL_law_67 13 rfl rfl)
theorem dL_law_1710 : decode cL_law 1710 = .ok (.iload 5, 2) := dk_21 5 (dk_at dksL_law_67 16 rfl rfl)
theorem dL_law_1712 : decode cL_law 1712 = .ok (.if_icmp .eq 5, 3) := dk_159 0 5 (dk_at dksL_law_67 18 rfl rfl)
theorem dL_law_1715 : decode cL_law 1715 = .ok (.iconst 0, 1) := dk_3 (dk_at dksL_law_67 21 rfl rfl)
theorem dL_law_1716 : decode cL_law 1716 = .ok (.ireturn, 1) := dk_172 (dk_at dksL_law_67 22 rfl rfl)
theorem dL_law_1717 : decode cL_law 1717 = .ok (.iload 5, 2) := dk_21 5 (dk_at dksL_law_68 0 rfl rfl)
theorem dL_law_1719 : decode cL_law 1719 = .ok (.ifCond .ne 15, 3) := dk_154 0 15 (dk_at dksL_law_68 2 rfl rfl)
theorem dL_law_1722 : decode cL_law 1722 = .ok (.aload_n 3, 1) := dk_45 (dk_at dksL_law_68 5 rfl rfl)
theorem dL_law_1723 : decode cL_law 1723 = .ok (.iconst 0, 1) := dk_3 (dk_at dksL_law_68 6 rfl rfl)
theorem dL_law_1724 : decode cL_law 1724 = .ok (.laload, 1) := dk_47 (dk_at dksL_law_68 7 rfl rfl)
theorem dL_law_1725 : decode cL_law 1725 = .ok (.iload 6, 2) := dk_21 6 (dk_at dksL_law_68 8 rfl rfl)
theorem dL_law_1727 : decode cL_law 1727 = .ok (.i2l, 1) := dk_133 (dk_at dksL_law_68 10 rfl rfl)
theorem dL_law_1728 : decode cL_law 1728 = .ok (.lcmp, 1) := dk_148 (dk_at dksL_law_68 11 rfl rfl)
theorem dL_law_1729 : decode cL_law 1729 = .ok (.ifCond .eq 5, 3) := dk_153 0 5 (dk_at dksL_law_68 12 rfl rfl)
theorem dL_law_1732 : decode cL_law 1732 = .ok (.iconst 0, 1) := dk_3 (dk_at dksL_law_68 15 rfl rfl)
theorem dL_law_1733 : decode cL_law 1733 = .ok (.ireturn, 1) := dk_172 (dk_at dksL_law_68 16 rfl rfl)
theorem dL_law_1734 : decode cL_law 1734 = .ok (.goto 542, 3) := dk_167 2 30 (dk_at dksL_law_68 17 rfl rfl)
theorem dL_law_1737 : decode cL_law 1737 = .ok (.aload_n 1, 1) := dk_43 (dk_at dksL_law_68 20 rfl rfl)
theorem dL_law_1738 : decode cL_law 1738 = .ok (.aload_n 0, 1) := dk_42 (dk_at dksL_law_68 21 rfl rfl)
theorem dL_law_1739 : decode cL_law 1739 = .ok (.iload 4, 2) := dk_21 4 (dk_at dksL_law_68 22 rfl rfl)
theorem dL_law_1741 : decode cL_law 1741 = .ok (.iconst 1, 1) := dk_4 (dk_at dksL_law_69 0 rfl rfl)
theorem dL_law_1742 : decode cL_law 1742 = .ok (.iadd, 1) := dk_96 (dk_at dksL_law_69 1 rfl rfl)
theorem dL_law_1743 : decode cL_law 1743 = .ok (.iaload, 1) := dk_46 (dk_at dksL_law_69 2 rfl rfl)
theorem dL_law_1744 : decode cL_law 1744 = .ok (.aload_n 0, 1) := dk_42 (dk_at dksL_law_69 3 rfl rfl)
theorem dL_law_1745 : decode cL_law 1745 = .ok (.iload 4, 2) := dk_21 4 (dk_at dksL_law_69 4 rfl rfl)
theorem dL_law_1747 : decode cL_law 1747 = .ok (.iconst 2, 1) := dk_5 (dk_at dksL_law_69 6 rfl rfl)
theorem dL_law_1748 : decode cL_law 1748 = .ok (.iadd, 1) := dk_96 (dk_at dksL_law_69 7 rfl rfl)
theorem dL_law_1749 : decode cL_law 1749 = .ok (.iaload, 1) := dk_46 (dk_at dksL_law_69 8 rfl rfl)
theorem dL_law_1750 : decode cL_law 1750 = .ok (.aload_n 0, 1) := dk_42 (dk_at dksL_law_69 9 rfl rfl)
theorem dL_law_1751 : decode cL_law 1751 = .ok (.iload 4, 2) := dk_21 4 (dk_at dksL_law_69 10 rfl rfl)
theorem dL_law_1753 : decode cL_law 1753 = .ok (.iconst 3, 1) := dk_6 (dk_at dksL_law_69 12 rfl rfl)
theorem dL_law_1754 : decode cL_law 1754 = .ok (.iadd, 1) := dk_96 (dk_at dksL_law_69 13 rfl rfl)
theorem dL_law_1755 : decode cL_law 1755 = .ok (.iaload, 1) := dk_46 (dk_at dksL_law_69 14 rfl rfl)
theorem dL_law_1756 : decode cL_law 1756 = .ok (.aload_n 3, 1) := dk_45 (dk_at dksL_law_69 15 rfl rfl)
theorem dL_law_1757 : decode cL_law 1757 = .ok (.invokestatic 191, 3) := dk_184 0 191 (dk_at dksL_law_69 16 rfl rfl)
theorem dL_law_1760 : decode cL_law 1760 = .ok (.istore 5, 2) := dk_54 5 (dk_at dksL_law_69 19 rfl rfl)
theorem dL_law_1762 : decode cL_law 1762 = .ok (.aload_n 2, 1) := dk_44 (dk_at dksL_law_69 21 rfl rfl)
theorem dL_law_1763 : decode cL_law 1763 = .ok (.aload_n 0, 1) := dk_42 (dk_at dksL_law_69 22 rfl rfl)
theorem dL_law_1764 : decode cL_law 1764 = .ok (.iload 4, 2) := dk_21 4 (dk_at dksL_law_70 0 rfl rfl)
theorem dL_law_1766 : decode cL_law 1766 = .ok (.iconst 1, 1) := dk_4 (dk_at dksL_law_70 2 rfl rfl)
theorem dL_law_1767 : decode cL_law 1767 = .ok (.iadd, 1) := dk_96 (dk_at dksL_law_70 3 rfl rfl)
theorem dL_law_1768 : decode cL_law 1768 = .ok (.iaload, 1) := dk_46 (dk_at dksL_law_70 4 rfl rfl)
theorem dL_law_1769 : decode cL_law 1769 = .ok (.aload_n 0, 1) := dk_42 (dk_at dksL_law_70 5 rfl rfl)
theorem dL_law_1770 : decode cL_law 1770 = .ok (.iload 4, 2) := dk_21 4 (dk_at dksL_law_70 6 rfl rfl)
theorem dL_law_1772 : decode cL_law 1772 = .ok (.iconst 2, 1) := dk_5 (dk_at dksL_law_70 8 rfl rfl)
theorem dL_law_1773 : decode cL_law 1773 = .ok (.iadd, 1) := dk_96 (dk_at dksL_law_70 9 rfl rfl)
theorem dL_law_1774 : decode cL_law 1774 = .ok (.iaload, 1) := dk_46 (dk_at dksL_law_70 10 rfl rfl)
theorem dL_law_1775 : decode cL_law 1775 = .ok (.aload_n 0, 1) := dk_42 (dk_at dksL_law_70 11 rfl rfl)
theorem dL_law_1776 : decode cL_law 1776 = .ok (.iload 4, 2) := dk_21 4 (dk_at dksL_law_70 12 rfl rfl)
theorem dL_law_1778 : decode cL_law 1778 = .ok (.iconst 3, 1) := dk_6 (dk_at dksL_law_70 14 rfl rfl)
theorem dL_law_1779 : decode cL_law 1779 = .ok (.iadd, 1) := dk_96 (dk_at dksL_law_70 15 rfl rfl)
theorem dL_law_1780 : decode cL_law 1780 = .ok (.iaload, 1) := dk_46 (dk_at dksL_law_70 16 rfl rfl)
theorem dL_law_1781 : decode cL_law 1781 = .ok (.invokevirtual 193, 3) := dk_182 0 193 (dk_at dksL_law_70 17 rfl rfl)
theorem dL_law_1784 : decode cL_law 1784 = .ok (.istore 6, 2) := dk_54 6 (dk_at dksL_law_70 20 rfl rfl)
theorem dL_law_1786 : decode cL_law 1786 = .ok (.aload_n 2, 1) := dk_44 (dk_at dksL_law_70 22 rfl rfl)
theorem dL_law_1787 : decode cL_law 1787 = .ok (.invokevirtual 112, 3) := dk_182 0 112 (dk_at dksL_law_71 0 rfl rfl)
theorem dL_law_1790 : decode cL_law 1790 = .ok (.iload 5, 2) := dk_21 5 (dk_at dksL_law_71 3 rfl rfl)
theorem dL_law_1792 : decode cL_law 1792 = .ok (.if_icmp .eq 5, 3) := dk_159 0 5 (dk_at dksL_law_71 5 rfl rfl)
theorem dL_law_1795 : decode cL_law 1795 = .ok (.iconst 0, 1) := dk_3 (dk_at dksL_law_71 8 rfl rfl)
theorem dL_law_1796 : decode cL_law 1796 = .ok (.ireturn, 1) := dk_172 (dk_at dksL_law_71 9 rfl rfl)
theorem dL_law_1797 : decode cL_law 1797 = .ok (.iload 5, 2) := dk_21 5 (dk_at dksL_law_71 10 rfl rfl)
theorem dL_law_1799 : decode cL_law 1799 = .ok (.ifCond .ne 15, 3) := dk_154 0 15 (dk_at dksL_law_71 12 rfl rfl)
theorem dL_law_1802 : decode cL_law 1802 = .ok (.aload_n 3, 1) := dk_45 (dk_at dksL_law_71 15 rfl rfl)
theorem dL_law_1803 : decode cL_law 1803 = .ok (.iconst 0, 1) := dk_3 (dk_at dksL_law_71 16 rfl rfl)
theorem dL_law_1804 : decode cL_law 1804 = .ok (.laload, 1) := dk_47 (dk_at dksL_law_71 17 rfl rfl)
theorem dL_law_1805 : decode cL_law 1805 = .ok (.iload 6, 2) := dk_21 6 (dk_at dksL_law_71 18 rfl rfl)
theorem dL_law_1807 : decode cL_law 1807 = .ok (.i2l, 1) := dk_133 (dk_at dksL_law_71 20 rfl rfl)
theorem dL_law_1808 : decode cL_law 1808 = .ok (.lcmp, 1) := dk_148 (dk_at dksL_law_71 21 rfl rfl)
theorem dL_law_1809 : decode cL_law 1809 = .ok (.ifCond .eq 5, 3) := dk_153 0 5 (dk_at dksL_law_72 0 rfl rfl)
theorem dL_law_1812 : decode cL_law 1812 = .ok (.iconst 0, 1) := dk_3 (dk_at dksL_law_72 3 rfl rfl)
theorem dL_law_1813 : decode cL_law 1813 = .ok (.ireturn, 1) := dk_172 (dk_at dksL_law_72 4 rfl rfl)
theorem dL_law_1814 : decode cL_law 1814 = .ok (.goto 462, 3) := dk_167 1 206 (dk_at dksL_law_72 5 rfl rfl)
theorem dL_law_1817 : decode cL_law 1817 = .ok (.aload_n 1, 1) := dk_43 (dk_at dksL_law_72 8 rfl rfl)
theorem dL_law_1818 : decode cL_law 1818 = .ok (.aload_n 0, 1) := dk_42 (dk_at dksL_law_72 9 rfl rfl)
theorem dL_law_1819 : decode cL_law 1819 = .ok (.iload 4, 2) := dk_21 4 (dk_at dksL_law_72 10 rfl rfl)
theorem dL_law_1821 : decode cL_law 1821 = .ok (.iconst 1, 1) := dk_4 (dk_at dksL_law_72 12 rfl rfl)
theorem dL_law_1822 : decode cL_law 1822 = .ok (.iadd, 1) := dk_96 (dk_at dksL_law_72 13 rfl rfl)
theorem dL_law_1823 : decode cL_law 1823 = .ok (.iaload, 1) := dk_46 (dk_at dksL_law_72 14 rfl rfl)
theorem dL_law_1824 : decode cL_law 1824 = .ok (.aload_n 0, 1) := dk_42 (dk_at dksL_law_72 15 rfl rfl)
theorem dL_law_1825 : decode cL_law 1825 = .ok (.iload 4, 2) := dk_21 4 (dk_at dksL_law_72 16 rfl rfl)
theorem dL_law_1827 : decode cL_law 1827 = .ok (.iconst 2, 1) := dk_5 (dk_at dksL_law_72 18 rfl rfl)
theorem dL_law_1828 : decode cL_law 1828 = .ok (.iadd, 1) := dk_96 (dk_at dksL_law_72 19 rfl rfl)
theorem dL_law_1829 : decode cL_law 1829 = .ok (.iaload, 1) := dk_46 (dk_at dksL_law_72 20 rfl rfl)
theorem dL_law_1830 : decode cL_law 1830 = .ok (.aload_n 3, 1) := dk_45 (dk_at dksL_law_72 21 rfl rfl)
theorem dL_law_1831 : decode cL_law 1831 = .ok (.invokestatic 194, 3) := dk_184 0 194 (dk_at dksL_law_73 0 rfl rfl)
theorem dL_law_1834 : decode cL_law 1834 = .ok (.istore 5, 2) := dk_54 5 (dk_at dksL_law_73 3 rfl rfl)
theorem dL_law_1836 : decode cL_law 1836 = .ok (.aload_n 2, 1) := dk_44 (dk_at dksL_law_73 5 rfl rfl)
theorem dL_law_1837 : decode cL_law 1837 = .ok (.aload_n 0, 1) := dk_42 (dk_at dksL_law_73 6 rfl rfl)
theorem dL_law_1838 : decode cL_law 1838 = .ok (.iload 4, 2) := dk_21 4 (dk_at dksL_law_73 7 rfl rfl)
theorem dL_law_1840 : decode cL_law 1840 = .ok (.iconst 1, 1) := dk_4 (dk_at dksL_law_73 9 rfl rfl)
theorem dL_law_1841 : decode cL_law 1841 = .ok (.iadd, 1) := dk_96 (dk_at dksL_law_73 10 rfl rfl)
theorem dL_law_1842 : decode cL_law 1842 = .ok (.iaload, 1) := dk_46 (dk_at dksL_law_73 11 rfl rfl)
theorem dL_law_1843 : decode cL_law 1843 = .ok (.aload_n 0, 1) := dk_42 (dk_at dksL_law_73 12 rfl rfl)
theorem dL_law_1844 : decode cL_law 1844 = .ok (.iload 4, 2) := dk_21 4 (dk_at dksL_law_73 13 rfl rfl)
theorem dL_law_1846 : decode cL_law 1846 = .ok (.iconst 2, 1) := dk_5 (dk_at dksL_law_73 15 rfl rfl)
theorem dL_law_1847 : decode cL_law 1847 = .ok (.iadd, 1) := dk_96 (dk_at dksL_law_73 16 rfl rfl)
theorem dL_law_1848 : decode cL_law 1848 = .ok (.iaload, 1) := dk_46 (dk_at dksL_law_73 17 rfl rfl)
theorem dL_law_1849 : decode cL_law 1849 = .ok (.invokevirtual 196, 3) := dk_182 0 196 (dk_at dksL_law_73 18 rfl rfl)
theorem dL_law_1852 : decode cL_law 1852 = .ok (.istore 6, 2) := dk_54 6 (dk_at dksL_law_73 21 rfl rfl)
theorem dL_law_1854 : decode cL_law 1854 = .ok (.aload_n 2, 1) := dk_44 (dk_at dksL_law_73 23 rfl rfl)
theorem dL_law_1855 : decode cL_law 1855 = .ok (.invokevirtual 112, 3) := dk_182 0 112 (dk_at dksL_law_74 0 rfl rfl)
theorem dL_law_1858 : decode cL_law 1858 = .ok (.iload 5, 2) := dk_21 5 (dk_at dksL_law_74 3 rfl rfl)
theorem dL_law_1860 : decode cL_law 1860 = .ok (.if_icmp .eq 5, 3) := dk_159 0 5 (dk_at dksL_law_74 5 rfl rfl)
theorem dL_law_1863 : decode cL_law 1863 = .ok (.iconst 0, 1) := dk_3 (dk_at dksL_law_74 8 rfl rfl)
theorem dL_law_1864 : decode cL_law 1864 = .ok (.ireturn, 1) := dk_172 (dk_at dksL_law_74 9 rfl rfl)
theorem dL_law_1865 : decode cL_law 1865 = .ok (.iload 5, 2) := dk_21 5 (dk_at dksL_law_74 10 rfl rfl)
theorem dL_law_1867 : decode cL_law 1867 = .ok (.ifCond .ne 15, 3) := dk_154 0 15 (dk_at dksL_law_74 12 rfl rfl)
theorem dL_law_1870 : decode cL_law 1870 = .ok (.aload_n 3, 1) := dk_45 (dk_at dksL_law_74 15 rfl rfl)
theorem dL_law_1871 : decode cL_law 1871 = .ok (.iconst 0, 1) := dk_3 (dk_at dksL_law_74 16 rfl rfl)
theorem dL_law_1872 : decode cL_law 1872 = .ok (.laload, 1) := dk_47 (dk_at dksL_law_74 17 rfl rfl)
theorem dL_law_1873 : decode cL_law 1873 = .ok (.iload 6, 2) := dk_21 6 (dk_at dksL_law_74 18 rfl rfl)
theorem dL_law_1875 : decode cL_law 1875 = .ok (.i2l, 1) := dk_133 (dk_at dksL_law_74 20 rfl rfl)
theorem dL_law_1876 : decode cL_law 1876 = .ok (.lcmp, 1) := dk_148 (dk_at dksL_law_74 21 rfl rfl)
theorem dL_law_1877 : decode cL_law 1877 = .ok (.ifCond .eq 5, 3) := dk_153 0 5 (dk_at dksL_law_75 0 rfl rfl)
theorem dL_law_1880 : decode cL_law 1880 = .ok (.iconst 0, 1) := dk_3 (dk_at dksL_law_75 3 rfl rfl)
theorem dL_law_1881 : decode cL_law 1881 = .ok (.ireturn, 1) := dk_172 (dk_at dksL_law_75 4 rfl rfl)
theorem dL_law_1882 : decode cL_law 1882 = .ok (.goto 394, 3) := dk_167 1 138 (dk_at dksL_law_75 5 rfl rfl)
theorem dL_law_1885 : decode cL_law 1885 = .ok (.aload_n 1, 1) := dk_43 (dk_at dksL_law_75 8 rfl rfl)
theorem dL_law_1886 : decode cL_law 1886 = .ok (.aload_n 0, 1) := dk_42 (dk_at dksL_law_75 9 rfl rfl)
theorem dL_law_1887 : decode cL_law 1887 = .ok (.iload 4, 2) := dk_21 4 (dk_at dksL_law_75 10 rfl rfl)
theorem dL_law_1889 : decode cL_law 1889 = .ok (.iconst 1, 1) := dk_4 (dk_at dksL_law_75 12 rfl rfl)
theorem dL_law_1890 : decode cL_law 1890 = .ok (.iadd, 1) := dk_96 (dk_at dksL_law_75 13 rfl rfl)
theorem dL_law_1891 : decode cL_law 1891 = .ok (.iaload, 1) := dk_46 (dk_at dksL_law_75 14 rfl rfl)
theorem dL_law_1892 : decode cL_law 1892 = .ok (.aload_n 0, 1) := dk_42 (dk_at dksL_law_75 15 rfl rfl)
theorem dL_law_1893 : decode cL_law 1893 = .ok (.iload 4, 2) := dk_21 4 (dk_at dksL_law_75 16 rfl rfl)
theorem dL_law_1895 : decode cL_law 1895 = .ok (.iconst 2, 1) := dk_5 (dk_at dksL_law_75 18 rfl rfl)
theorem dL_law_1896 : decode cL_law 1896 = .ok (.iadd, 1) := dk_96 (dk_at dksL_law_75 19 rfl rfl)
theorem dL_law_1897 : decode cL_law 1897 = .ok (.iaload, 1) := dk_46 (dk_at dksL_law_75 20 rfl rfl)
theorem dL_law_1898 : decode cL_law 1898 = .ok (.aload_n 0, 1) := dk_42 (dk_at dksL_law_75 21 rfl rfl)
theorem dL_law_1899 : decode cL_law 1899 = .ok (.iload 4, 2) := dk_21 4 (dk_at dksL_law_75 22 rfl rfl)
theorem dL_law_1901 : decode cL_law 1901 = .ok (.iconst 3, 1) := dk_6 (dk_at dksL_law_76 0 rfl rfl)
theorem dL_law_1902 : decode cL_law 1902 = .ok (.iadd, 1) := dk_96 (dk_at dksL_law_76 1 rfl rfl)
theorem dL_law_1903 : decode cL_law 1903 = .ok (.iaload, 1) := dk_46 (dk_at dksL_law_76 2 rfl rfl)
theorem dL_law_1904 : decode cL_law 1904 = .ok (.aload_n 3, 1) := dk_45 (dk_at dksL_law_76 3 rfl rfl)
theorem dL_law_1905 : decode cL_law 1905 = .ok (.invokestatic 197, 3) := dk_184 0 197 (dk_at dksL_law_76 4 rfl rfl)
theorem dL_law_1908 : decode cL_law 1908 = .ok (.istore 5, 2) := dk_54 5 (dk_at dksL_law_76 7 rfl rfl)
theorem dL_law_1910 : decode cL_law 1910 = .ok (.aload_n 2, 1) := dk_44 (dk_at dksL_law_76 9 rfl rfl)
theorem dL_law_1911 : decode cL_law 1911 = .ok (.aload_n 0, 1) := dk_42 (dk_at dksL_law_76 10 rfl rfl)
theorem dL_law_1912 : decode cL_law 1912 = .ok (.iload 4, 2) := dk_21 4 (dk_at dksL_law_76 11 rfl rfl)
theorem dL_law_1914 : decode cL_law 1914 = .ok (.iconst 1, 1) := dk_4 (dk_at dksL_law_76 13 rfl rfl)
theorem dL_law_1915 : decode cL_law 1915 = .ok (.iadd, 1) := dk_96 (dk_at dksL_law_76 14 rfl rfl)
theorem dL_law_1916 : decode cL_law 1916 = .ok (.iaload, 1) := dk_46 (dk_at dksL_law_76 15 rfl rfl)
theorem dL_law_1917 : decode cL_law 1917 = .ok (.aload_n 0, 1) := dk_42 (dk_at dksL_law_76 16 rfl rfl)
theorem dL_law_1918 : decode cL_law 1918 = .ok (.iload 4, 2) := dk_21 4 (dk_at dksL_law_76 17 rfl rfl)
theorem dL_law_1920 : decode cL_law 1920 = .ok (.iconst 2, 1) := dk_5 (dk_at dksL_law_76 19 rfl rfl)
theorem dL_law_1921 : decode cL_law 1921 = .ok (.iadd, 1) := dk_96 (dk_at dksL_law_76 20 rfl rfl)
theorem dL_law_1922 : decode cL_law 1922 = .ok (.iaload, 1) := dk_46 (dk_at dksL_law_76 21 rfl rfl)
theorem dL_law_1923 : decode cL_law 1923 = .ok (.aload_n 0, 1) := dk_42 (dk_at dksL_law_76 22 rfl rfl)
theorem dL_law_1924 : decode cL_law 1924 = .ok (.iload 4, 2) := dk_21 4 (dk_at dksL_law_77 0 rfl rfl)
theorem dL_law_1926 : decode cL_law 1926 = .ok (.iconst 3, 1) := dk_6 (dk_at dksL_law_77 2 rfl rfl)
theorem dL_law_1927 : decode cL_law 1927 = .ok (.iadd, 1) := dk_96 (dk_at dksL_law_77 3 rfl rfl)
theorem dL_law_1928 : decode cL_law 1928 = .ok (.iaload, 1) := dk_46 (dk_at dksL_law_77 4 rfl rfl)
theorem dL_law_1929 : decode cL_law 1929 = .ok (.invokevirtual 199, 3) := dk_182 0 199 (dk_at dksL_law_77 5 rfl rfl)
theorem dL_law_1932 : decode cL_law 1932 = .ok (.istore 6, 2) := dk_54 6 (dk_at dksL_law_77 8 rfl rfl)
theorem dL_law_1934 : decode cL_law 1934 = .ok (.aload_n 2, 1) := dk_44 (dk_at dksL_law_77 10 rfl rfl)
theorem dL_law_1935 : decode cL_law 1935 = .ok (.invokevirtual 112, 3) := dk_182 0 112 (dk_at dksL_law_77 11 rfl rfl)
theorem dL_law_1938 : decode cL_law 1938 = .ok (.iload 5, 2) := dk_21 5 (dk_at dksL_law_77 14 rfl rfl)
theorem dL_law_1940 : decode cL_law 1940 = .ok (.if_icmp .eq 5, 3) := dk_159 0 5 (dk_at dksL_law_77 16 rfl rfl)
theorem dL_law_1943 : decode cL_law 1943 = .ok (.iconst 0, 1) := dk_3 (dk_at dksL_law_77 19 rfl rfl)
theorem dL_law_1944 : decode cL_law 1944 = .ok (.ireturn, 1) := dk_172 (dk_at dksL_law_77 20 rfl rfl)
theorem dL_law_1945 : decode cL_law 1945 = .ok (.iload 5, 2) := dk_21 5 (dk_at dksL_law_77 21 rfl rfl)
theorem dL_law_1947 : decode cL_law 1947 = .ok (.ifCond .ne 15, 3) := dk_154 0 15 (dk_at dksL_law_78 0 rfl rfl)
theorem dL_law_1950 : decode cL_law 1950 = .ok (.aload_n 3, 1) := dk_45 (dk_at dksL_law_78 3 rfl rfl)
theorem dL_law_1951 : decode cL_law 1951 = .ok (.iconst 0, 1) := dk_3 (dk_at dksL_law_78 4 rfl rfl)
theorem dL_law_1952 : decode cL_law 1952 = .ok (.laload, 1) := dk_47 (dk_at dksL_law_78 5 rfl rfl)
theorem dL_law_1953 : decode cL_law 1953 = .ok (.iload 6, 2) := dk_21 6 (dk_at dksL_law_78 6 rfl rfl)
theorem dL_law_1955 : decode cL_law 1955 = .ok (.i2l, 1) := dk_133 (dk_at dksL_law_78 8 rfl rfl)
theorem dL_law_1956 : decode cL_law 1956 = .ok (.lcmp, 1) := dk_148 (dk_at dksL_law_78 9 rfl rfl)
theorem dL_law_1957 : decode cL_law 1957 = .ok (.ifCond .eq 5, 3) := dk_153 0 5 (dk_at dksL_law_78 10 rfl rfl)
theorem dL_law_1960 : decode cL_law 1960 = .ok (.iconst 0, 1) := dk_3 (dk_at dksL_law_78 13 rfl rfl)
theorem dL_law_1961 : decode cL_law 1961 = .ok (.ireturn, 1) := dk_172 (dk_at dksL_law_78 14 rfl rfl)
theorem dL_law_1962 : decode cL_law 1962 = .ok (.goto 314, 3) := dk_167 1 58 (dk_at dksL_law_78 15 rfl rfl)
theorem dL_law_1965 : decode cL_law 1965 = .ok (.aload_n 1, 1) := dk_43 (dk_at dksL_law_78 18 rfl rfl)
theorem dL_law_1966 : decode cL_law 1966 = .ok (.aload_n 0, 1) := dk_42 (dk_at dksL_law_78 19 rfl rfl)
theorem dL_law_1967 : decode cL_law 1967 = .ok (.iload 4, 2) := dk_21 4 (dk_at dksL_law_78 20 rfl rfl)
theorem dL_law_1969 : decode cL_law 1969 = .ok (.iconst 1, 1) := dk_4 (dk_at dksL_law_78 22 rfl rfl)
theorem dL_law_1970 : decode cL_law 1970 = .ok (.iadd, 1) := dk_96 (dk_at dksL_law_78 23 rfl rfl)
theorem dL_law_1971 : decode cL_law 1971 = .ok (.iaload, 1) := dk_46 (dk_at dksL_law_79 0 rfl rfl)
theorem dL_law_1972 : decode cL_law 1972 = .ok (.aload_n 0, 1) := dk_42 (dk_at dksL_law_79 1 rfl rfl)
theorem dL_law_1973 : decode cL_law 1973 = .ok (.iload 4, 2) := dk_21 4 (dk_at dksL_law_79 2 rfl rfl)
theorem dL_law_1975 : decode cL_law 1975 = .ok (.iconst 2, 1) := dk_5 (dk_at dksL_law_79 4 rfl rfl)
theorem dL_law_1976 : decode cL_law 1976 = .ok (.iadd, 1) := dk_96 (dk_at dksL_law_79 5 rfl rfl)
theorem dL_law_1977 : decode cL_law 1977 = .ok (.iaload, 1) := dk_46 (dk_at dksL_law_79 6 rfl rfl)
theorem dL_law_1978 : decode cL_law 1978 = .ok (.aload_n 3, 1) := dk_45 (dk_at dksL_law_79 7 rfl rfl)
theorem dL_law_1979 : decode cL_law 1979 = .ok (.invokestatic 200, 3) := dk_184 0 200 (dk_at dksL_law_79 8 rfl rfl)
theorem dL_law_1982 : decode cL_law 1982 = .ok (.istore 5, 2) := dk_54 5 (dk_at dksL_law_79 11 rfl rfl)
theorem dL_law_1984 : decode cL_law 1984 = .ok (.aload_n 2, 1) := dk_44 (dk_at dksL_law_79 13 rfl rfl)
theorem dL_law_1985 : decode cL_law 1985 = .ok (.aload_n 0, 1) := dk_42 (dk_at dksL_law_79 14 rfl rfl)
theorem dL_law_1986 : decode cL_law 1986 = .ok (.iload 4, 2) := dk_21 4 (dk_at dksL_law_79 15 rfl rfl)
theorem dL_law_1988 : decode cL_law 1988 = .ok (.iconst 1, 1) := dk_4 (dk_at dksL_law_79 17 rfl rfl)
theorem dL_law_1989 : decode cL_law 1989 = .ok (.iadd, 1) := dk_96 (dk_at dksL_law_79 18 rfl rfl)
theorem dL_law_1990 : decode cL_law 1990 = .ok (.iaload, 1) := dk_46 (dk_at dksL_law_79 19 rfl rfl)
theorem dL_law_1991 : decode cL_law 1991 = .ok (.aload_n 0, 1) := dk_42 (dk_at dksL_law_79 20 rfl rfl)
theorem dL_law_1992 : decode cL_law 1992 = .ok (.iload 4, 2) := dk_21 4 (dk_at dksL_law_79 21 rfl rfl)
theorem dL_law_1994 : decode cL_law 1994 = .ok (.iconst 2, 1) := dk_5 (dk_at dksL_law_79 23 rfl rfl)
theorem dL_law_1995 : decode cL_law 1995 = .ok (.iadd, 1) := dk_96 (dk_at dksL_law_80 0 rfl rfl)
theorem dL_law_1996 : decode cL_law 1996 = .ok (.iaload, 1) := dk_46 (dk_at dksL_law_80 1 rfl rfl)
theorem dL_law_1997 : decode cL_law 1997 = .ok (.invokevirtual 202, 3) := dk_182 0 202 (dk_at dksL_law_80 2 rfl rfl)
theorem dL_law_2000 : decode cL_law 2000 = .ok (.istore 6, 2) := dk_54 6 (dk_at dksL_law_80 5 rfl rfl)
theorem dL_law_2002 : decode cL_law 2002 = .ok (.aload_n 2, 1) := dk_44 (dk_at dksL_law_80 7 rfl rfl)
theorem dL_law_2003 : decode cL_law 2003 = .ok (.invokevirtual 112, 3) := dk_182 0 112 (dk_at dksL_law_80 8 rfl rfl)
theorem dL_law_2006 : decode cL_law 2006 = .ok (.iload 5, 2) := dk_21 5 (dk_at dksL_law_80 11 rfl rfl)
theorem dL_law_2008 : decode cL_law 2008 = .ok (.if_icmp .eq 5, 3) := dk_159 0 5 (dk_at dksL_law_80 13 rfl rfl)
theorem dL_law_2011 : decode cL_law 2011 = .ok (.iconst 0, 1) := dk_3 (dk_at dksL_law_80 16 rfl rfl)
theorem dL_law_2012 : decode cL_law 2012 = .ok (.ireturn, 1) := dk_172 (dk_at dksL_law_80 17 rfl rfl)
theorem dL_law_2013 : decode cL_law 2013 = .ok (.iload 5, 2) := dk_21 5 (dk_at dksL_law_80 18 rfl rfl)
theorem dL_law_2015 : decode cL_law 2015 = .ok (.ifCond .ne 15, 3) := dk_154 0 15 (dk_at dksL_law_80 20 rfl rfl)
theorem dL_law_2018 : decode cL_law 2018 = .ok (.aload_n 3, 1) := dk_45 (dk_at dksL_law_80 23 rfl rfl)
theorem dL_law_2019 : decode cL_law 2019 = .ok (.iconst 0, 1) := dk_3 (dk_at dksL_law_81 0 rfl rfl)
theorem dL_law_2020 : decode cL_law 2020 = .ok (.laload, 1) := dk_47 (dk_at dksL_law_81 1 rfl rfl)
theorem dL_law_2021 : decode cL_law 2021 = .ok (.iload 6, 2) := dk_21 6 (dk_at dksL_law_81 2 rfl rfl)
theorem dL_law_2023 : decode cL_law 2023 = .ok (.i2l, 1) := dk_133 (dk_at dksL_law_81 4 rfl rfl)
theorem dL_law_2024 : decode cL_law 2024 = .ok (.lcmp, 1) := dk_148 (dk_at dksL_law_81 5 rfl rfl)
theorem dL_law_2025 : decode cL_law 2025 = .ok (.ifCond .eq 5, 3) := dk_153 0 5 (dk_at dksL_law_81 6 rfl rfl)
theorem dL_law_2028 : decode cL_law 2028 = .ok (.iconst 0, 1) := dk_3 (dk_at dksL_law_81 9 rfl rfl)
theorem dL_law_2029 : decode cL_law 2029 = .ok (.ireturn, 1) := dk_172 (dk_at dksL_law_81 10 rfl rfl)
theorem dL_law_2030 : decode cL_law 2030 = .ok (.goto 246, 3) := dk_167 0 246 (dk_at dksL_law_81 11 rfl rfl)
theorem dL_law_2033 : decode cL_law 2033 = .ok (.aload_n 1, 1) := dk_43 (dk_at dksL_law_81 14 rfl rfl)
theorem dL_law_2034 : decode cL_law 2034 = .ok (.aload_n 0, 1) := dk_42 (dk_at dksL_law_81 15 rfl rfl)
theorem dL_law_2035 : decode cL_law 2035 = .ok (.iload 4, 2) := dk_21 4 (dk_at dksL_law_81 16 rfl rfl)
theorem dL_law_2037 : decode cL_law 2037 = .ok (.iconst 1, 1) := dk_4 (dk_at dksL_law_81 18 rfl rfl)
theorem dL_law_2038 : decode cL_law 2038 = .ok (.iadd, 1) := dk_96 (dk_at dksL_law_81 19 rfl rfl)
theorem dL_law_2039 : decode cL_law 2039 = .ok (.iaload, 1) := dk_46 (dk_at dksL_law_81 20 rfl rfl)
theorem dL_law_2040 : decode cL_law 2040 = .ok (.aload_n 3, 1) := dk_45 (dk_at dksL_law_81 21 rfl rfl)
theorem dL_law_2041 : decode cL_law 2041 = .ok (.invokestatic 203, 3) := dk_184 0 203 (dk_at dksL_law_82 0 rfl rfl)
theorem dL_law_2044 : decode cL_law 2044 = .ok (.istore 5, 2) := dk_54 5 (dk_at dksL_law_82 3 rfl rfl)
theorem dL_law_2046 : decode cL_law 2046 = .ok (.aload_n 2, 1) := dk_44 (dk_at dksL_law_82 5 rfl rfl)
theorem dL_law_2047 : decode cL_law 2047 = .ok (.aload_n 0, 1) := dk_42 (dk_at dksL_law_82 6 rfl rfl)
theorem dL_law_2048 : decode cL_law 2048 = .ok (.iload 4, 2) := dk_21 4 (dk_at dksL_law_82 7 rfl rfl)
theorem dL_law_2050 : decode cL_law 2050 = .ok (.iconst 1, 1) := dk_4 (dk_at dksL_law_82 9 rfl rfl)
theorem dL_law_2051 : decode cL_law 2051 = .ok (.iadd, 1) := dk_96 (dk_at dksL_law_82 10 rfl rfl)
theorem dL_law_2052 : decode cL_law 2052 = .ok (.iaload, 1) := dk_46 (dk_at dksL_law_82 11 rfl rfl)
theorem dL_law_2053 : decode cL_law 2053 = .ok (.invokevirtual 205, 3) := dk_182 0 205 (dk_at dksL_law_82 12 rfl rfl)
theorem dL_law_2056 : decode cL_law 2056 = .ok (.istore 6, 2) := dk_54 6 (dk_at dksL_law_82 15 rfl rfl)
theorem dL_law_2058 : decode cL_law 2058 = .ok (.aload_n 2, 1) := dk_44 (dk_at dksL_law_82 17 rfl rfl)
theorem dL_law_2059 : decode cL_law 2059 = .ok (.invokevirtual 112, 3) := dk_182 0 112 (dk_at dksL_law_82 18 rfl rfl)
theorem dL_law_2062 : decode cL_law 2062 = .ok (.iload 5, 2) := dk_21 5 (dk_at dksL_law_82 21 rfl rfl)
theorem dL_law_2064 : decode cL_law 2064 = .ok (.if_icmp .eq 5, 3) := dk_159 0 5 (dk_at dksL_law_83 0 rfl rfl)
theorem dL_law_2067 : decode cL_law 2067 = .ok (.iconst 0, 1) := dk_3 (dk_at dksL_law_83 3 rfl rfl)
theorem dL_law_2068 : decode cL_law 2068 = .ok (.ireturn, 1) := dk_172 (dk_at dksL_law_83 4 rfl rfl)
theorem dL_law_2069 : decode cL_law 2069 = .ok (.iload 5, 2) := dk_21 5 (dk_at dksL_law_83 5 rfl rfl)
theorem dL_law_2071 : decode cL_law 2071 = .ok (.ifCond .ne 15, 3) := dk_154 0 15 (dk_at dksL_law_83 7 rfl rfl)
theorem dL_law_2074 : decode cL_law 2074 = .ok (.aload_n 3, 1) := dk_45 (dk_at dksL_law_83 10 rfl rfl)
theorem dL_law_2075 : decode cL_law 2075 = .ok (.iconst 0, 1) := dk_3 (dk_at dksL_law_83 11 rfl rfl)
theorem dL_law_2076 : decode cL_law 2076 = .ok (.laload, 1) := dk_47 (dk_at dksL_law_83 12 rfl rfl)
theorem dL_law_2077 : decode cL_law 2077 = .ok (.iload 6, 2) := dk_21 6 (dk_at dksL_law_83 13 rfl rfl)
theorem dL_law_2079 : decode cL_law 2079 = .ok (.i2l, 1) := dk_133 (dk_at dksL_law_83 15 rfl rfl)
theorem dL_law_2080 : decode cL_law 2080 = .ok (.lcmp, 1) := dk_148 (dk_at dksL_law_83 16 rfl rfl)
theorem dL_law_2081 : decode cL_law 2081 = .ok (.ifCond .eq 5, 3) := dk_153 0 5 (dk_at dksL_law_83 17 rfl rfl)
theorem dL_law_2084 : decode cL_law 2084 = .ok (.iconst 0, 1) := dk_3 (dk_at dksL_law_83 20 rfl rfl)
theorem dL_law_2085 : decode cL_law 2085 = .ok (.ireturn, 1) := dk_172 (dk_at dksL_law_83 21 rfl rfl)
theorem dL_law_2086 : decode cL_law 2086 = .ok (.goto 190, 3) := dk_167 0 190 (dk_at dksL_law_84 0 rfl rfl)
theorem dL_law_2089 : decode cL_law 2089 = .ok (.aload_n 1, 1) := dk_43 (dk_at dksL_law_84 3 rfl rfl)
theorem dL_law_2090 : decode cL_law 2090 = .ok (.aload_n 0, 1) := dk_42 (dk_at dksL_law_84 4 rfl rfl)
theorem dL_law_2091 : decode cL_law 2091 = .ok (.iload 4, 2) := dk_21 4 (dk_at dksL_law_84 5 rfl rfl)
theorem dL_law_2093 : decode cL_law 2093 = .ok (.iconst 1, 1) := dk_4 (dk_at dksL_law_84 7 rfl rfl)
theorem dL_law_2094 : decode cL_law 2094 = .ok (.iadd, 1) := dk_96 (dk_at dksL_law_84 8 rfl rfl)
theorem dL_law_2095 : decode cL_law 2095 = .ok (.iaload, 1) := dk_46 (dk_at dksL_law_84 9 rfl rfl)
theorem dL_law_2096 : decode cL_law 2096 = .ok (.aload_n 3, 1) := dk_45 (dk_at dksL_law_84 10 rfl rfl)
theorem dL_law_2097 : decode cL_law 2097 = .ok (.invokestatic 206, 3) := dk_184 0 206 (dk_at dksL_law_84 11 rfl rfl)
theorem dL_law_2100 : decode cL_law 2100 = .ok (.istore 5, 2) := dk_54 5 (dk_at dksL_law_84 14 rfl rfl)
theorem dL_law_2102 : decode cL_law 2102 = .ok (.aload_n 2, 1) := dk_44 (dk_at dksL_law_84 16 rfl rfl)
theorem dL_law_2103 : decode cL_law 2103 = .ok (.aload_n 0, 1) := dk_42 (dk_at dksL_law_84 17 rfl rfl)
theorem dL_law_2104 : decode cL_law 2104 = .ok (.iload 4, 2) := dk_21 4 (dk_at dksL_law_84 18 rfl rfl)
theorem dL_law_2106 : decode cL_law 2106 = .ok (.iconst 1, 1) := dk_4 (dk_at dksL_law_84 20 rfl rfl)
theorem dL_law_2107 : decode cL_law 2107 = .ok (.iadd, 1) := dk_96 (dk_at dksL_law_84 21 rfl rfl)
theorem dL_law_2108 : decode cL_law 2108 = .ok (.iaload, 1) := dk_46 (dk_at dksL_law_84 22 rfl rfl)
theorem dL_law_2109 : decode cL_law 2109 = .ok (.invokevirtual 208, 3) := dk_182 0 208 (dk_at dksL_law_85 0 rfl rfl)
theorem dL_law_2112 : decode cL_law 2112 = .ok (.istore 6, 2) := dk_54 6 (dk_at dksL_law_85 3 rfl rfl)
theorem dL_law_2114 : decode cL_law 2114 = .ok (.aload_n 2, 1) := dk_44 (dk_at dksL_law_85 5 rfl rfl)
theorem dL_law_2115 : decode cL_law 2115 = .ok (.invokevirtual 112, 3) := dk_182 0 112 (dk_at dksL_law_85 6 rfl rfl)
theorem dL_law_2118 : decode cL_law 2118 = .ok (.iload 5, 2) := dk_21 5 (dk_at dksL_law_85 9 rfl rfl)
theorem dL_law_2120 : decode cL_law 2120 = .ok (.if_icmp .eq 5, 3) := dk_159 0 5 (dk_at dksL_law_85 11 rfl rfl)
theorem dL_law_2123 : decode cL_law 2123 = .ok (.iconst 0, 1) := dk_3 (dk_at dksL_law_85 14 rfl rfl)
theorem dL_law_2124 : decode cL_law 2124 = .ok (.ireturn, 1) := dk_172 (dk_at dksL_law_85 15 rfl rfl)
theorem dL_law_2125 : decode cL_law 2125 = .ok (.iload 5, 2) := dk_21 5 (dk_at dksL_law_85 16 rfl rfl)
theorem dL_law_2127 : decode cL_law 2127 = .ok (.ifCond .ne 15, 3) := dk_154 0 15 (dk_at dksL_law_85 18 rfl rfl)
theorem dL_law_2130 : decode cL_law 2130 = .ok (.aload_n 3, 1) := dk_45 (dk_at dksL_law_85 21 rfl rfl)
theorem dL_law_2131 : decode cL_law 2131 = .ok (.iconst 0, 1) := dk_3 (dk_at dksL_law_85 22 rfl rfl)
theorem dL_law_2132 : decode cL_law 2132 = .ok (.laload, 1) := dk_47 (dk_at dksL_law_85 23 rfl rfl)
theorem dL_law_2133 : decode cL_law 2133 = .ok (.iload 6, 2) := dk_21 6 (dk_at dksL_law_86 0 rfl rfl)
theorem dL_law_2135 : decode cL_law 2135 = .ok (.i2l, 1) := dk_133 (dk_at dksL_law_86 2 rfl rfl)
theorem dL_law_2136 : decode cL_law 2136 = .ok (.lcmp, 1) := dk_148 (dk_at dksL_law_86 3 rfl rfl)
theorem dL_law_2137 : decode cL_law 2137 = .ok (.ifCond .eq 5, 3) := dk_153 0 5 (dk_at dksL_law_86 4 rfl rfl)
theorem dL_law_2140 : decode cL_law 2140 = .ok (.iconst 0, 1) := dk_3 (dk_at dksL_law_86 7 rfl rfl)
theorem dL_law_2141 : decode cL_law 2141 = .ok (.ireturn, 1) := dk_172 (dk_at dksL_law_86 8 rfl rfl)
theorem dL_law_2142 : decode cL_law 2142 = .ok (.goto 134, 3) := dk_167 0 134 (dk_at dksL_law_86 9 rfl rfl)
theorem dL_law_2145 : decode cL_law 2145 = .ok (.aload_n 1, 1) := dk_43 (dk_at dksL_law_86 12 rfl rfl)
theorem dL_law_2146 : decode cL_law 2146 = .ok (.aload_n 0, 1) := dk_42 (dk_at dksL_law_86 13 rfl rfl)
theorem dL_law_2147 : decode cL_law 2147 = .ok (.iload 4, 2) := dk_21 4 (dk_at dksL_law_86 14 rfl rfl)
theorem dL_law_2149 : decode cL_law 2149 = .ok (.iconst 1, 1) := dk_4 (dk_at dksL_law_86 16 rfl rfl)
theorem dL_law_2150 : decode cL_law 2150 = .ok (.iadd, 1) := dk_96 (dk_at dksL_law_86 17 rfl rfl)
theorem dL_law_2151 : decode cL_law 2151 = .ok (.iaload, 1) := dk_46 (dk_at dksL_law_86 18 rfl rfl)
theorem dL_law_2152 : decode cL_law 2152 = .ok (.invokevirtual 209, 3) := dk_182 0 209 (dk_at dksL_law_86 19 rfl rfl)
theorem dL_law_2155 : decode cL_law 2155 = .ok (.aload_n 2, 1) := dk_44 (dk_at dksL_law_86 22 rfl rfl)
theorem dL_law_2156 : decode cL_law 2156 = .ok (.aload_n 0, 1) := dk_42 (dk_at dksL_law_86 23 rfl rfl)
theorem dL_law_2157 : decode cL_law 2157 = .ok (.iload 4, 2) := dk_21 4 (dk_at dksL_law_87 0 rfl rfl)
theorem dL_law_2159 : decode cL_law 2159 = .ok (.iconst 1, 1) := dk_4 (dk_at dksL_law_87 2 rfl rfl)
theorem dL_law_2160 : decode cL_law 2160 = .ok (.iadd, 1) := dk_96 (dk_at dksL_law_87 3 rfl rfl)
theorem dL_law_2161 : decode cL_law 2161 = .ok (.iaload, 1) := dk_46 (dk_at dksL_law_87 4 rfl rfl)
theorem dL_law_2162 : decode cL_law 2162 = .ok (.invokevirtual 212, 3) := dk_182 0 212 (dk_at dksL_law_87 5 rfl rfl)
theorem dL_law_2165 : decode cL_law 2165 = .ok (.if_icmp .eq 111, 3) := dk_159 0 111 (dk_at dksL_law_87 8 rfl rfl)
theorem dL_law_2168 : decode cL_law 2168 = .ok (.iconst 0, 1) := dk_3 (dk_at dksL_law_87 11 rfl rfl)
theorem dL_law_2169 : decode cL_law 2169 = .ok (.ireturn, 1) := dk_172 (dk_at dksL_law_87 12 rfl rfl)
theorem dL_law_2170 : decode cL_law 2170 = .ok (.aload_n 1, 1) := dk_43 (dk_at dksL_law_87 13 rfl rfl)
theorem dL_law_2171 : decode cL_law 2171 = .ok (.invokevirtual 213, 3) := dk_182 0 213 (dk_at dksL_law_87 14 rfl rfl)
theorem dL_law_2174 : decode cL_law 2174 = .ok (.aload_n 2, 1) := dk_44 (dk_at dksL_law_87 17 rfl rfl)
theorem dL_law_2175 : decode cL_law 2175 = .ok (.invokevirtual 216, 3) := dk_182 0 216 (dk_at dksL_law_87 18 rfl rfl)
theorem dL_law_2178 : decode cL_law 2178 = .ok (.if_icmp .eq 98, 3) := dk_159 0 98 (dk_at dksL_law_87 21 rfl rfl)
theorem dL_law_2181 : decode cL_law 2181 = .ok (.iconst 0, 1) := dk_3 (dk_at dksL_law_88 0 rfl rfl)
theorem dL_law_2182 : decode cL_law 2182 = .ok (.ireturn, 1) := dk_172 (dk_at dksL_law_88 1 rfl rfl)
theorem dL_law_2183 : decode cL_law 2183 = .ok (.aload_n 1, 1) := dk_43 (dk_at dksL_law_88 2 rfl rfl)
theorem dL_law_2184 : decode cL_law 2184 = .ok (.invokevirtual 217, 3) := dk_182 0 217 (dk_at dksL_law_88 3 rfl rfl)
theorem dL_law_2187 : decode cL_law 2187 = .ok (.aload_n 2, 1) := dk_44 (dk_at dksL_law_88 6 rfl rfl)
theorem dL_law_2188 : decode cL_law 2188 = .ok (.invokevirtual 220, 3) := dk_182 0 220 (dk_at dksL_law_88 7 rfl rfl)
theorem dL_law_2191 : decode cL_law 2191 = .ok (.if_icmp .eq 85, 3) := dk_159 0 85 (dk_at dksL_law_88 10 rfl rfl)
theorem dL_law_2194 : decode cL_law 2194 = .ok (.iconst 0, 1) := dk_3 (dk_at dksL_law_88 13 rfl rfl)
theorem dL_law_2195 : decode cL_law 2195 = .ok (.ireturn, 1) := dk_172 (dk_at dksL_law_88 14 rfl rfl)
theorem dL_law_2196 : decode cL_law 2196 = .ok (.aload_n 1, 1) := dk_43 (dk_at dksL_law_88 15 rfl rfl)
theorem dL_law_2197 : decode cL_law 2197 = .ok (.invokevirtual 221, 3) := dk_182 0 221 (dk_at dksL_law_88 16 rfl rfl)
theorem dL_law_2200 : decode cL_law 2200 = .ok (.aload_n 2, 1) := dk_44 (dk_at dksL_law_88 19 rfl rfl)
theorem dL_law_2201 : decode cL_law 2201 = .ok (.invokevirtual 224, 3) := dk_182 0 224 (dk_at dksL_law_88 20 rfl rfl)
theorem dL_law_2204 : decode cL_law 2204 = .ok (.goto 72, 3) := dk_167 0 72 (dk_at dksL_law_89 0 rfl rfl)
theorem dL_law_2207 : decode cL_law 2207 = .ok (.aload_n 1, 1) := dk_43 (dk_at dksL_law_89 3 rfl rfl)
theorem dL_law_2208 : decode cL_law 2208 = .ok (.invokevirtual 225, 3) := dk_182 0 225 (dk_at dksL_law_89 4 rfl rfl)
theorem dL_law_2211 : decode cL_law 2211 = .ok (.aload_n 2, 1) := dk_44 (dk_at dksL_law_89 7 rfl rfl)
theorem dL_law_2212 : decode cL_law 2212 = .ok (.invokevirtual 229, 3) := dk_182 0 229 (dk_at dksL_law_89 8 rfl rfl)
theorem dL_law_2215 : decode cL_law 2215 = .ok (.if_icmp .eq 61, 3) := dk_159 0 61 (dk_at dksL_law_89 11 rfl rfl)
theorem dL_law_2218 : decode cL_law 2218 = .ok (.iconst 0, 1) := dk_3 (dk_at dksL_law_89 14 rfl rfl)
theorem dL_law_2219 : decode cL_law 2219 = .ok (.ireturn, 1) := dk_172 (dk_at dksL_law_89 15 rfl rfl)
theorem dL_law_2220 : decode cL_law 2220 = .ok (.aload_n 1, 1) := dk_43 (dk_at dksL_law_89 16 rfl rfl)
theorem dL_law_2221 : decode cL_law 2221 = .ok (.aload_n 0, 1) := dk_42 (dk_at dksL_law_89 17 rfl rfl)
theorem dL_law_2222 : decode cL_law 2222 = .ok (.iload 4, 2) := dk_21 4 (dk_at dksL_law_89 18 rfl rfl)
theorem dL_law_2224 : decode cL_law 2224 = .ok (.iconst 1, 1) := dk_4 (dk_at dksL_law_89 20 rfl rfl)
theorem dL_law_2225 : decode cL_law 2225 = .ok (.iadd, 1) := dk_96 (dk_at dksL_law_89 21 rfl rfl)
theorem dL_law_2226 : decode cL_law 2226 = .ok (.iaload, 1) := dk_46 (dk_at dksL_law_89 22 rfl rfl)
theorem dL_law_2227 : decode cL_law 2227 = .ok (.aload_n 3, 1) := dk_45 (dk_at dksL_law_89 23 rfl rfl)
theorem dL_law_2228 : decode cL_law 2228 = .ok (.invokestatic 230, 3) := dk_184 0 230 (dk_at dksL_law_90 0 rfl rfl)
theorem dL_law_2231 : decode cL_law 2231 = .ok (.istore 5, 2) := dk_54 5 (dk_at dksL_law_90 3 rfl rfl)
theorem dL_law_2233 : decode cL_law 2233 = .ok (.aload_n 2, 1) := dk_44 (dk_at dksL_law_90 5 rfl rfl)
theorem dL_law_2234 : decode cL_law 2234 = .ok (.aload_n 0, 1) := dk_42 (dk_at dksL_law_90 6 rfl rfl)
theorem dL_law_2235 : decode cL_law 2235 = .ok (.iload 4, 2) := dk_21 4 (dk_at dksL_law_90 7 rfl rfl)
theorem dL_law_2237 : decode cL_law 2237 = .ok (.iconst 1, 1) := dk_4 (dk_at dksL_law_90 9 rfl rfl)
theorem dL_law_2238 : decode cL_law 2238 = .ok (.iadd, 1) := dk_96 (dk_at dksL_law_90 10 rfl rfl)
theorem dL_law_2239 : decode cL_law 2239 = .ok (.iaload, 1) := dk_46 (dk_at dksL_law_90 11 rfl rfl)
theorem dL_law_2240 : decode cL_law 2240 = .ok (.invokevirtual 232, 3) := dk_182 0 232 (dk_at dksL_law_90 12 rfl rfl)
theorem dL_law_2243 : decode cL_law 2243 = .ok (.istore 6, 2) := dk_54 6 (dk_at dksL_law_90 15 rfl rfl)
theorem dL_law_2245 : decode cL_law 2245 = .ok (.aload_n 2, 1) := dk_44 (dk_at dksL_law_90 17 rfl rfl)
theorem dL_law_2246 : decode cL_law 2246 = .ok (.invokevirtual 112, 3) := dk_182 0 112 (dk_at dksL_law_90 18 rfl rfl)
theorem dL_law_2249 : decode cL_law 2249 = .ok (.iload 5, 2) := dk_21 5 (dk_at dksL_law_90 21 rfl rfl)
theorem dL_law_2251 : decode cL_law 2251 = .ok (.if_icmp .eq 5, 3) := dk_159 0 5 (dk_at dksL_law_91 0 rfl rfl)
theorem dL_law_2254 : decode cL_law 2254 = .ok (.iconst 0, 1) := dk_3 (dk_at dksL_law_91 3 rfl rfl)
theorem dL_law_2255 : decode cL_law 2255 = .ok (.ireturn, 1) := dk_172 (dk_at dksL_law_91 4 rfl rfl)
theorem dL_law_2256 : decode cL_law 2256 = .ok (.iload 5, 2) := dk_21 5 (dk_at dksL_law_91 5 rfl rfl)
theorem dL_law_2258 : decode cL_law 2258 = .ok (.ifCond .ne 15, 3) := dk_154 0 15 (dk_at dksL_law_91 7 rfl rfl)
theorem dL_law_2261 : decode cL_law 2261 = .ok (.aload_n 3, 1) := dk_45 (dk_at dksL_law_91 10 rfl rfl)
theorem dL_law_2262 : decode cL_law 2262 = .ok (.iconst 0, 1) := dk_3 (dk_at dksL_law_91 11 rfl rfl)
theorem dL_law_2263 : decode cL_law 2263 = .ok (.laload, 1) := dk_47 (dk_at dksL_law_91 12 rfl rfl)
theorem dL_law_2264 : decode cL_law 2264 = .ok (.iload 6, 2) := dk_21 6 (dk_at dksL_law_91 13 rfl rfl)
theorem dL_law_2266 : decode cL_law 2266 = .ok (.i2l, 1) := dk_133 (dk_at dksL_law_91 15 rfl rfl)
theorem dL_law_2267 : decode cL_law 2267 = .ok (.lcmp, 1) := dk_148 (dk_at dksL_law_91 16 rfl rfl)
theorem dL_law_2268 : decode cL_law 2268 = .ok (.ifCond .eq 5, 3) := dk_153 0 5 (dk_at dksL_law_91 17 rfl rfl)
theorem dL_law_2271 : decode cL_law 2271 = .ok (.iconst 0, 1) := dk_3 (dk_at dksL_law_91 20 rfl rfl)
theorem dL_law_2272 : decode cL_law 2272 = .ok (.ireturn, 1) := dk_172 (dk_at dksL_law_91 21 rfl rfl)
theorem dL_law_2273 : decode cL_law 2273 = .ok (.goto 3, 3) := dk_167 0 3 (dk_at dksL_law_92 0 rfl rfl)
theorem dL_law_2276 : decode cL_law 2276 = .ok (.iinc 4 6, 3) := dk_132 4 6 (dk_at dksL_law_92 3 rfl rfl)
theorem dL_law_2279 : decode cL_law 2279 = .ok (.goto (-2256), 3) := dk_167 247 48 (dk_at dksL_law_92 6 rfl rfl)
theorem dL_law_2282 : decode cL_law 2282 = .ok (.iconst 1, 1) := dk_4 (dk_at dksL_law_92 9 rfl rfl)
theorem dL_law_2283 : decode cL_law 2283 = .ok (.ireturn, 1) := dk_172 (dk_at dksL_law_92 10 rfl rfl)
