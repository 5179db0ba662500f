/-! AislewrightLaw -/
set_option maxRecDepth 100000
def RX0 : String := "AislewrightLaw"
abbrev cX0_cell : ByteArray := method_2_code
def yX0_cell : MethodName := ⟨RX0, "cell", "([II)I"⟩
def dkwX0_cell_0 : List UInt8 := [27, 42, 190, 162, 0, 9, 42, 27, 46, 167, 0, 4, 3, 172]
abbrev dktX0_cell_0 : List UInt8 := dkwX0_cell_0 ++ []
theorem dksX0_cell_0 : cX0_cell.data.toList.drop 0 = dktX0_cell_0 := by decide +kernel
theorem dX0_cell_0 : decode cX0_cell 0 = .ok (.iload_n 1, 1) := dk_27 (dk_at dksX0_cell_0 0 rfl rfl)
theorem dX0_cell_1 : decode cX0_cell 1 = .ok (.aload_n 0, 1) := dk_42 (dk_at dksX0_cell_0 1 rfl rfl)
theorem dX0_cell_2 : decode cX0_cell 2 = .ok (.arraylength, 1) := dk_190 (dk_at dksX0_cell_0 2 rfl rfl)
theorem dX0_cell_3 : decode cX0_cell 3 = .ok (.if_icmp .ge 9, 3) := dk_162 0 9 (dk_at dksX0_cell_0 3 rfl rfl)
theorem dX0_cell_6 : decode cX0_cell 6 = .ok (.aload_n 0, 1) := dk_42 (dk_at dksX0_cell_0 6 rfl rfl)
theorem dX0_cell_7 : decode cX0_cell 7 = .ok (.iload_n 1, 1) := dk_27 (dk_at dksX0_cell_0 7 rfl rfl)
theorem dX0_cell_8 : decode cX0_cell 8 = .ok (.iaload, 1) := dk_46 (dk_at dksX0_cell_0 8 rfl rfl)
theorem dX0_cell_9 : decode cX0_cell 9 = .ok (.goto 4, 3) := dk_167 0 4 (dk_at dksX0_cell_0 9 rfl rfl)
theorem dX0_cell_12 : decode cX0_cell 12 = .ok (.iconst 0, 1) := dk_3 (dk_at dksX0_cell_0 12 rfl rfl)
theorem dX0_cell_13 : decode cX0_cell 13 = .ok (.ireturn, 1) := dk_172 (dk_at dksX0_cell_0 13 rfl rfl)
abbrev cX0_put : ByteArray := method_3_code
def yX0_put : MethodName := ⟨RX0, "put", "(LAislewright;III[J)I"⟩
def dkwX0_put_1 : List UInt8 := [172]
abbrev dktX0_put_1 : List UInt8 := dkwX0_put_1 ++ []
def dkwX0_put_0 : List UInt8 := [25, 4, 3, 42, 27, 28, 29, 182, 0, 7, 133, 80, 167, 0, 11, 58, 5, 4, 172, 58, 5, 5, 172, 3]
abbrev dktX0_put_0 : List UInt8 := dkwX0_put_0 ++ dktX0_put_1
theorem dksX0_put_0 : cX0_put.data.toList.drop 0 = dktX0_put_0 := by decide +kernel
theorem dksX0_put_1 : cX0_put.data.toList.drop 24 = dktX0_put_1 := dk_seg dksX0_put_0 24 rfl rfl
theorem dX0_put_0 : decode cX0_put 0 = .ok (.aload 4, 2) := dk_25 4 (dk_at dksX0_put_0 0 rfl rfl)
theorem dX0_put_2 : decode cX0_put 2 = .ok (.iconst 0, 1) := dk_3 (dk_at dksX0_put_0 2 rfl rfl)
theorem dX0_put_3 : decode cX0_put 3 = .ok (.aload_n 0, 1) := dk_42 (dk_at dksX0_put_0 3 rfl rfl)
theorem dX0_put_4 : decode cX0_put 4 = .ok (.iload_n 1, 1) := dk_27 (dk_at dksX0_put_0 4 rfl rfl)
theorem dX0_put_5 : decode cX0_put 5 = .ok (.iload_n 2, 1) := dk_28 (dk_at dksX0_put_0 5 rfl rfl)
theorem dX0_put_6 : decode cX0_put 6 = .ok (.iload_n 3, 1) := dk_29 (dk_at dksX0_put_0 6 rfl rfl)
theorem dX0_put_7 : decode cX0_put 7 = .ok (.invokevirtual 7, 3) := dk_182 0 7 (dk_at dksX0_put_0 7 rfl rfl)
theorem dX0_put_10 : decode cX0_put 10 = .ok (.i2l, 1) := dk_133 (dk_at dksX0_put_0 10 rfl rfl)
theorem dX0_put_11 : decode cX0_put 11 = .ok (.lastore, 1) := dk_80 (dk_at dksX0_put_0 11 rfl rfl)
theorem dX0_put_12 : decode cX0_put 12 = .ok (.goto 11, 3) := dk_167 0 11 (dk_at dksX0_put_0 12 rfl rfl)
theorem dX0_put_15 : decode cX0_put 15 = .ok (.astore 5, 2) := dk_58 5 (dk_at dksX0_put_0 15 rfl rfl)
theorem dX0_put_17 : decode cX0_put 17 = .ok (.iconst 1, 1) := dk_4 (dk_at dksX0_put_0 17 rfl rfl)
theorem dX0_put_18 : decode cX0_put 18 = .ok (.ireturn, 1) := dk_172 (dk_at dksX0_put_0 18 rfl rfl)
theorem dX0_put_19 : decode cX0_put 19 = .ok (.astore 5, 2) := dk_58 5 (dk_at dksX0_put_0 19 rfl rfl)
theorem dX0_put_21 : decode cX0_put 21 = .ok (.iconst 2, 1) := dk_5 (dk_at dksX0_put_0 21 rfl rfl)
theorem dX0_put_22 : decode cX0_put 22 = .ok (.ireturn, 1) := dk_172 (dk_at dksX0_put_0 22 rfl rfl)
theorem dX0_put_23 : decode cX0_put 23 = .ok (.iconst 0, 1) := dk_3 (dk_at dksX0_put_0 23 rfl rfl)
theorem dX0_put_24 : decode cX0_put 24 = .ok (.ireturn, 1) := dk_172 (dk_at dksX0_put_1 0 rfl rfl)
abbrev cX0_layOut : ByteArray := method_4_code
def yX0_layOut : MethodName := ⟨RX0, "layOut", "(LAislewright;[J)I"⟩
def dkwX0_layOut_0 : List UInt8 := [43, 3, 42, 182, 0, 17, 133, 80, 167, 0, 6, 77, 4, 172, 3, 172]
abbrev dktX0_layOut_0 : List UInt8 := dkwX0_layOut_0 ++ []
theorem dksX0_layOut_0 : cX0_layOut.data.toList.drop 0 = dktX0_layOut_0 := by decide +kernel
theorem dX0_layOut_0 : decode cX0_layOut 0 = .ok (.aload_n 1, 1) := dk_43 (dk_at dksX0_layOut_0 0 rfl rfl)
theorem dX0_layOut_1 : decode cX0_layOut 1 = .ok (.iconst 0, 1) := dk_3 (dk_at dksX0_layOut_0 1 rfl rfl)
theorem dX0_layOut_2 : decode cX0_layOut 2 = .ok (.aload_n 0, 1) := dk_42 (dk_at dksX0_layOut_0 2 rfl rfl)
theorem dX0_layOut_3 : decode cX0_layOut 3 = .ok (.invokevirtual 17, 3) := dk_182 0 17 (dk_at dksX0_layOut_0 3 rfl rfl)
theorem dX0_layOut_6 : decode cX0_layOut 6 = .ok (.i2l, 1) := dk_133 (dk_at dksX0_layOut_0 6 rfl rfl)
theorem dX0_layOut_7 : decode cX0_layOut 7 = .ok (.lastore, 1) := dk_80 (dk_at dksX0_layOut_0 7 rfl rfl)
theorem dX0_layOut_8 : decode cX0_layOut 8 = .ok (.goto 6, 3) := dk_167 0 6 (dk_at dksX0_layOut_0 8 rfl rfl)
theorem dX0_layOut_11 : decode cX0_layOut 11 = .ok (.astore_n 2, 1) := dk_77 (dk_at dksX0_layOut_0 11 rfl rfl)
theorem dX0_layOut_12 : decode cX0_layOut 12 = .ok (.iconst 1, 1) := dk_4 (dk_at dksX0_layOut_0 12 rfl rfl)
theorem dX0_layOut_13 : decode cX0_layOut 13 = .ok (.ireturn, 1) := dk_172 (dk_at dksX0_layOut_0 13 rfl rfl)
theorem dX0_layOut_14 : decode cX0_layOut 14 = .ok (.iconst 0, 1) := dk_3 (dk_at dksX0_layOut_0 14 rfl rfl)
theorem dX0_layOut_15 : decode cX0_layOut 15 = .ok (.ireturn, 1) := dk_172 (dk_at dksX0_layOut_0 15 rfl rfl)
abbrev cX0_placeOf : ByteArray := method_5_code
def yX0_placeOf : MethodName := ⟨RX0, "placeOf", "(LAislewright;I[J)I"⟩
def dkwX0_placeOf_0 : List UInt8 := [44, 3, 42, 27, 182, 0, 21, 133, 80, 167, 0, 6, 78, 4, 172, 3, 172]
abbrev dktX0_placeOf_0 : List UInt8 := dkwX0_placeOf_0 ++ []
theorem dksX0_placeOf_0 : cX0_placeOf.data.toList.drop 0 = dktX0_placeOf_0 := by decide +kernel
theorem dX0_placeOf_0 : decode cX0_placeOf 0 = .ok (.aload_n 2, 1) := dk_44 (dk_at dksX0_placeOf_0 0 rfl rfl)
theorem dX0_placeOf_1 : decode cX0_placeOf 1 = .ok (.iconst 0, 1) := dk_3 (dk_at dksX0_placeOf_0 1 rfl rfl)
theorem dX0_placeOf_2 : decode cX0_placeOf 2 = .ok (.aload_n 0, 1) := dk_42 (dk_at dksX0_placeOf_0 2 rfl rfl)
theorem dX0_placeOf_3 : decode cX0_placeOf 3 = .ok (.iload_n 1, 1) := dk_27 (dk_at dksX0_placeOf_0 3 rfl rfl)
theorem dX0_placeOf_4 : decode cX0_placeOf 4 = .ok (.invokevirtual 21, 3) := dk_182 0 21 (dk_at dksX0_placeOf_0 4 rfl rfl)
theorem dX0_placeOf_7 : decode cX0_placeOf 7 = .ok (.i2l, 1) := dk_133 (dk_at dksX0_placeOf_0 7 rfl rfl)
theorem dX0_placeOf_8 : decode cX0_placeOf 8 = .ok (.lastore, 1) := dk_80 (dk_at dksX0_placeOf_0 8 rfl rfl)
theorem dX0_placeOf_9 : decode cX0_placeOf 9 = .ok (.goto 6, 3) := dk_167 0 6 (dk_at dksX0_placeOf_0 9 rfl rfl)
theorem dX0_placeOf_12 : decode cX0_placeOf 12 = .ok (.astore_n 3, 1) := dk_78 (dk_at dksX0_placeOf_0 12 rfl rfl)
theorem dX0_placeOf_13 : decode cX0_placeOf 13 = .ok (.iconst 1, 1) := dk_4 (dk_at dksX0_placeOf_0 13 rfl rfl)
theorem dX0_placeOf_14 : decode cX0_placeOf 14 = .ok (.ireturn, 1) := dk_172 (dk_at dksX0_placeOf_0 14 rfl rfl)
theorem dX0_placeOf_15 : decode cX0_placeOf 15 = .ok (.iconst 0, 1) := dk_3 (dk_at dksX0_placeOf_0 15 rfl rfl)
theorem dX0_placeOf_16 : decode cX0_placeOf 16 = .ok (.ireturn, 1) := dk_172 (dk_at dksX0_placeOf_0 16 rfl rfl)
abbrev cX0_turnover : ByteArray := method_6_code
def yX0_turnover : MethodName := ⟨RX0, "turnover", "(LAislewright;I[J)I"⟩
def dkwX0_turnover_0 : List UInt8 := [44, 3, 42, 27, 182, 0, 25, 133, 80, 167, 0, 6, 78, 4, 172, 3, 172]
abbrev dktX0_turnover_0 : List UInt8 := dkwX0_turnover_0 ++ []
theorem dksX0_turnover_0 : cX0_turnover.data.toList.drop 0 = dktX0_turnover_0 := by decide +kernel
theorem dX0_turnover_0 : decode cX0_turnover 0 = .ok (.aload_n 2, 1) := dk_44 (dk_at dksX0_turnover_0 0 rfl rfl)
theorem dX0_turnover_1 : decode cX0_turnover 1 = .ok (.iconst 0, 1) := dk_3 (dk_at dksX0_turnover_0 1 rfl rfl)
theorem dX0_turnover_2 : decode cX0_turnover 2 = .ok (.aload_n 0, 1) := dk_42 (dk_at dksX0_turnover_0 2 rfl rfl)
theorem dX0_turnover_3 : decode cX0_turnover 3 = .ok (.iload_n 1, 1) := dk_27 (dk_at dksX0_turnover_0 3 rfl rfl)
theorem dX0_turnover_4 : decode cX0_turnover 4 = .ok (.invokevirtual 25, 3) := dk_182 0 25 (dk_at dksX0_turnover_0 4 rfl rfl)
theorem dX0_turnover_7 : decode cX0_turnover 7 = .ok (.i2l, 1) := dk_133 (dk_at dksX0_turnover_0 7 rfl rfl)
theorem dX0_turnover_8 : decode cX0_turnover 8 = .ok (.lastore, 1) := dk_80 (dk_at dksX0_turnover_0 8 rfl rfl)
theorem dX0_turnover_9 : decode cX0_turnover 9 = .ok (.goto 6, 3) := dk_167 0 6 (dk_at dksX0_turnover_0 9 rfl rfl)
theorem dX0_turnover_12 : decode cX0_turnover 12 = .ok (.astore_n 3, 1) := dk_78 (dk_at dksX0_turnover_0 12 rfl rfl)
theorem dX0_turnover_13 : decode cX0_turnover 13 = .ok (.iconst 1, 1) := dk_4 (dk_at dksX0_turnover_0 13 rfl rfl)
theorem dX0_turnover_14 : decode cX0_turnover 14 = .ok (.ireturn, 1) := dk_172 (dk_at dksX0_turnover_0 14 rfl rfl)
theorem dX0_turnover_15 : decode cX0_turnover 15 = .ok (.iconst 0, 1) := dk_3 (dk_at dksX0_turnover_0 15 rfl rfl)
theorem dX0_turnover_16 : decode cX0_turnover 16 = .ok (.ireturn, 1) := dk_172 (dk_at dksX0_turnover_0 16 rfl rfl)
abbrev cX0_distance : ByteArray := method_7_code
def yX0_distance : MethodName := ⟨RX0, "distance", "(LAislewright;II[J)I"⟩
def dkwX0_distance_0 : List UInt8 := [45, 3, 42, 27, 28, 182, 0, 28, 133, 80, 167, 0, 11, 58, 4, 4, 172, 58, 4, 5, 172, 3, 172]
abbrev dktX0_distance_0 : List UInt8 := dkwX0_distance_0 ++ []
theorem dksX0_distance_0 : cX0_distance.data.toList.drop 0 = dktX0_distance_0 := by decide +kernel
theorem dX0_distance_0 : decode cX0_distance 0 = .ok (.aload_n 3, 1) := dk_45 (dk_at dksX0_distance_0 0 rfl rfl)
theorem dX0_distance_1 : decode cX0_distance 1 = .ok (.iconst 0, 1) := dk_3 (dk_at dksX0_distance_0 1 rfl rfl)
theorem dX0_distance_2 : decode cX0_distance 2 = .ok (.aload_n 0, 1) := dk_42 (dk_at dksX0_distance_0 2 rfl rfl)
theorem dX0_distance_3 : decode cX0_distance 3 = .ok (.iload_n 1, 1) := dk_27 (dk_at dksX0_distance_0 3 rfl rfl)
theorem dX0_distance_4 : decode cX0_distance 4 = .ok (.iload_n 2, 1) := dk_28 (dk_at dksX0_distance_0 4 rfl rfl)
theorem dX0_distance_5 : decode cX0_distance 5 = .ok (.invokevirtual 28, 3) := dk_182 0 28 (dk_at dksX0_distance_0 5 rfl rfl)
theorem dX0_distance_8 : decode cX0_distance 8 = .ok (.i2l, 1) := dk_133 (dk_at dksX0_distance_0 8 rfl rfl)
theorem dX0_distance_9 : decode cX0_distance 9 = .ok (.lastore, 1) := dk_80 (dk_at dksX0_distance_0 9 rfl rfl)
theorem dX0_distance_10 : decode cX0_distance 10 = .ok (.goto 11, 3) := dk_167 0 11 (dk_at dksX0_distance_0 10 rfl rfl)
theorem dX0_distance_13 : decode cX0_distance 13 = .ok (.astore 4, 2) := dk_58 4 (dk_at dksX0_distance_0 13 rfl rfl)
theorem dX0_distance_15 : decode cX0_distance 15 = .ok (.iconst 1, 1) := dk_4 (dk_at dksX0_distance_0 15 rfl rfl)
theorem dX0_distance_16 : decode cX0_distance 16 = .ok (.ireturn, 1) := dk_172 (dk_at dksX0_distance_0 16 rfl rfl)
theorem dX0_distance_17 : decode cX0_distance 17 = .ok (.astore 4, 2) := dk_58 4 (dk_at dksX0_distance_0 17 rfl rfl)
theorem dX0_distance_19 : decode cX0_distance 19 = .ok (.iconst 2, 1) := dk_5 (dk_at dksX0_distance_0 19 rfl rfl)
theorem dX0_distance_20 : decode cX0_distance 20 = .ok (.ireturn, 1) := dk_172 (dk_at dksX0_distance_0 20 rfl rfl)
theorem dX0_distance_21 : decode cX0_distance 21 = .ok (.iconst 0, 1) := dk_3 (dk_at dksX0_distance_0 21 rfl rfl)
theorem dX0_distance_22 : decode cX0_distance 22 = .ok (.ireturn, 1) := dk_172 (dk_at dksX0_distance_0 22 rfl rfl)
abbrev cX0_order : ByteArray := method_8_code
def yX0_order : MethodName := ⟨RX0, "order", "(LAislewright;I[J)I"⟩
def dkwX0_order_0 : List UInt8 := [44, 3, 42, 27, 182, 0, 32, 133, 80, 167, 0, 9, 78, 4, 172, 78, 5, 172, 3, 172]
abbrev dktX0_order_0 : List UInt8 := dkwX0_order_0 ++ []
theorem dksX0_order_0 : cX0_order.data.toList.drop 0 = dktX0_order_0 := by decide +kernel
theorem dX0_order_0 : decode cX0_order 0 = .ok (.aload_n 2, 1) := dk_44 (dk_at dksX0_order_0 0 rfl rfl)
theorem dX0_order_1 : decode cX0_order 1 = .ok (.iconst 0, 1) := dk_3 (dk_at dksX0_order_0 1 rfl rfl)
theorem dX0_order_2 : decode cX0_order 2 = .ok (.aload_n 0, 1) := dk_42 (dk_at dksX0_order_0 2 rfl rfl)
theorem dX0_order_3 : decode cX0_order 3 = .ok (.iload_n 1, 1) := dk_27 (dk_at dksX0_order_0 3 rfl rfl)
theorem dX0_order_4 : decode cX0_order 4 = .ok (.invokevirtual 32, 3) := dk_182 0 32 (dk_at dksX0_order_0 4 rfl rfl)
theorem dX0_order_7 : decode cX0_order 7 = .ok (.i2l, 1) := dk_133 (dk_at dksX0_order_0 7 rfl rfl)
theorem dX0_order_8 : decode cX0_order 8 = .ok (.lastore, 1) := dk_80 (dk_at dksX0_order_0 8 rfl rfl)
theorem dX0_order_9 : decode cX0_order 9 = .ok (.goto 9, 3) := dk_167 0 9 (dk_at dksX0_order_0 9 rfl rfl)
theorem dX0_order_12 : decode cX0_order 12 = .ok (.astore_n 3, 1) := dk_78 (dk_at dksX0_order_0 12 rfl rfl)
theorem dX0_order_13 : decode cX0_order 13 = .ok (.iconst 1, 1) := dk_4 (dk_at dksX0_order_0 13 rfl rfl)
theorem dX0_order_14 : decode cX0_order 14 = .ok (.ireturn, 1) := dk_172 (dk_at dksX0_order_0 14 rfl rfl)
theorem dX0_order_15 : decode cX0_order 15 = .ok (.astore_n 3, 1) := dk_78 (dk_at dksX0_order_0 15 rfl rfl)
theorem dX0_order_16 : decode cX0_order 16 = .ok (.iconst 2, 1) := dk_5 (dk_at dksX0_order_0 16 rfl rfl)
theorem dX0_order_17 : decode cX0_order 17 = .ok (.ireturn, 1) := dk_172 (dk_at dksX0_order_0 17 rfl rfl)
theorem dX0_order_18 : decode cX0_order 18 = .ok (.iconst 0, 1) := dk_3 (dk_at dksX0_order_0 18 rfl rfl)
theorem dX0_order_19 : decode cX0_order 19 = .ok (.ireturn, 1) := dk_172 (dk_at dksX0_order_0 19 rfl rfl)
abbrev cX0_line : ByteArray := method_9_code
def yX0_line : MethodName := ⟨RX0, "line", "(LAislewright;III[J)I"⟩
def dkwX0_line_1 : List UInt8 := [58, 5, 6, 172, 3, 172]
abbrev dktX0_line_1 : List UInt8 := dkwX0_line_1 ++ []
def dkwX0_line_0 : List UInt8 := [25, 4, 3, 42, 27, 28, 29, 182, 0, 37, 133, 80, 167, 0, 15, 58, 5, 4, 172, 58, 5, 5, 172]
abbrev dktX0_line_0 : List UInt8 := dkwX0_line_0 ++ dktX0_line_1
theorem dksX0_line_0 : cX0_line.data.toList.drop 0 = dktX0_line_0 := by decide +kernel
theorem dksX0_line_1 : cX0_line.data.toList.drop 23 = dktX0_line_1 := dk_seg dksX0_line_0 23 rfl rfl
theorem dX0_line_0 : decode cX0_line 0 = .ok (.aload 4, 2) := dk_25 4 (dk_at dksX0_line_0 0 rfl rfl)
theorem dX0_line_2 : decode cX0_line 2 = .ok (.iconst 0, 1) := dk_3 (dk_at dksX0_line_0 2 rfl rfl)
theorem dX0_line_3 : decode cX0_line 3 = .ok (.aload_n 0, 1) := dk_42 (dk_at dksX0_line_0 3 rfl rfl)
theorem dX0_line_4 : decode cX0_line 4 = .ok (.iload_n 1, 1) := dk_27 (dk_at dksX0_line_0 4 rfl rfl)
theorem dX0_line_5 : decode cX0_line 5 = .ok (.iload_n 2, 1) := dk_28 (dk_at dksX0_line_0 5 rfl rfl)
theorem dX0_line_6 : decode cX0_line 6 = .ok (.iload_n 3, 1) := dk_29 (dk_at dksX0_line_0 6 rfl rfl)
theorem dX0_line_7 : decode cX0_line 7 = .ok (.invokevirtual 37, 3) := dk_182 0 37 (dk_at dksX0_line_0 7 rfl rfl)
theorem dX0_line_10 : decode cX0_line 10 = .ok (.i2l, 1) := dk_133 (dk_at dksX0_line_0 10 rfl rfl)
theorem dX0_line_11 : decode cX0_line 11 = .ok (.lastore, 1) := dk_80 (dk_at dksX0_line_0 11 rfl rfl)
theorem dX0_line_12 : decode cX0_line 12 = .ok (.goto 15, 3) := dk_167 0 15 (dk_at dksX0_line_0 12 rfl rfl)
theorem dX0_line_15 : decode cX0_line 15 = .ok (.astore 5, 2) := dk_58 5 (dk_at dksX0_line_0 15 rfl rfl)
theorem dX0_line_17 : decode cX0_line 17 = .ok (.iconst 1, 1) := dk_4 (dk_at dksX0_line_0 17 rfl rfl)
theorem dX0_line_18 : decode cX0_line 18 = .ok (.ireturn, 1) := dk_172 (dk_at dksX0_line_0 18 rfl rfl)
theorem dX0_line_19 : decode cX0_line 19 = .ok (.astore 5, 2) := dk_58 5 (dk_at dksX0_line_0 19 rfl rfl)
theorem dX0_line_21 : decode cX0_line 21 = .ok (.iconst 2, 1) := dk_5 (dk_at dksX0_line_0 21 rfl rfl)
theorem dX0_line_22 : decode cX0_line 22 = .ok (.ireturn, 1) := dk_172 (dk_at dksX0_line_0 22 rfl rfl)
theorem dX0_line_23 : decode cX0_line 23 = .ok (.astore 5, 2) := dk_58 5 (dk_at dksX0_line_1 0 rfl rfl)
theorem dX0_line_25 : decode cX0_line 25 = .ok (.iconst 3, 1) := dk_6 (dk_at dksX0_line_1 2 rfl rfl)
theorem dX0_line_26 : decode cX0_line 26 = .ok (.ireturn, 1) := dk_172 (dk_at dksX0_line_1 3 rfl rfl)
theorem dX0_line_27 : decode cX0_line 27 = .ok (.iconst 0, 1) := dk_3 (dk_at dksX0_line_1 4 rfl rfl)
theorem dX0_line_28 : decode cX0_line 28 = .ok (.ireturn, 1) := dk_172 (dk_at dksX0_line_1 5 rfl rfl)
abbrev cX0_stateOf : ByteArray := method_10_code
def yX0_stateOf : MethodName := ⟨RX0, "stateOf", "(LAislewright;I[J)I"⟩
def dkwX0_stateOf_0 : List UInt8 := [44, 3, 42, 27, 182, 0, 40, 133, 80, 167, 0, 6, 78, 4, 172, 3, 172]
abbrev dktX0_stateOf_0 : List UInt8 := dkwX0_stateOf_0 ++ []
theorem dksX0_stateOf_0 : cX0_stateOf.data.toList.drop 0 = dktX0_stateOf_0 := by decide +kernel
theorem dX0_stateOf_0 : decode cX0_stateOf 0 = .ok (.aload_n 2, 1) := dk_44 (dk_at dksX0_stateOf_0 0 rfl rfl)
theorem dX0_stateOf_1 : decode cX0_stateOf 1 = .ok (.iconst 0, 1) := dk_3 (dk_at dksX0_stateOf_0 1 rfl rfl)
theorem dX0_stateOf_2 : decode cX0_stateOf 2 = .ok (.aload_n 0, 1) := dk_42 (dk_at dksX0_stateOf_0 2 rfl rfl)
theorem dX0_stateOf_3 : decode cX0_stateOf 3 = .ok (.iload_n 1, 1) := dk_27 (dk_at dksX0_stateOf_0 3 rfl rfl)
theorem dX0_stateOf_4 : decode cX0_stateOf 4 = .ok (.invokevirtual 40, 3) := dk_182 0 40 (dk_at dksX0_stateOf_0 4 rfl rfl)
theorem dX0_stateOf_7 : decode cX0_stateOf 7 = .ok (.i2l, 1) := dk_133 (dk_at dksX0_stateOf_0 7 rfl rfl)
theorem dX0_stateOf_8 : decode cX0_stateOf 8 = .ok (.lastore, 1) := dk_80 (dk_at dksX0_stateOf_0 8 rfl rfl)
theorem dX0_stateOf_9 : decode cX0_stateOf 9 = .ok (.goto 6, 3) := dk_167 0 6 (dk_at dksX0_stateOf_0 9 rfl rfl)
theorem dX0_stateOf_12 : decode cX0_stateOf 12 = .ok (.astore_n 3, 1) := dk_78 (dk_at dksX0_stateOf_0 12 rfl rfl)
theorem dX0_stateOf_13 : decode cX0_stateOf 13 = .ok (.iconst 1, 1) := dk_4 (dk_at dksX0_stateOf_0 13 rfl rfl)
theorem dX0_stateOf_14 : decode cX0_stateOf 14 = .ok (.ireturn, 1) := dk_172 (dk_at dksX0_stateOf_0 14 rfl rfl)
theorem dX0_stateOf_15 : decode cX0_stateOf 15 = .ok (.iconst 0, 1) := dk_3 (dk_at dksX0_stateOf_0 15 rfl rfl)
theorem dX0_stateOf_16 : decode cX0_stateOf 16 = .ok (.ireturn, 1) := dk_172 (dk_at dksX0_stateOf_0 16 rfl rfl)
abbrev cX0_lengthAlone : ByteArray := method_11_code
def yX0_lengthAlone : MethodName := ⟨RX0, "lengthAlone", "(LAislewright;I[J)I"⟩
def dkwX0_lengthAlone_0 : List UInt8 := [44, 3, 42, 27, 182, 0, 43, 133, 80, 167, 0, 6, 78, 4, 172, 3, 172]
abbrev dktX0_lengthAlone_0 : List UInt8 := dkwX0_lengthAlone_0 ++ []
theorem dksX0_lengthAlone_0 : cX0_lengthAlone.data.toList.drop 0 = dktX0_lengthAlone_0 := by decide +kernel
theorem dX0_lengthAlone_0 : decode cX0_lengthAlone 0 = .ok (.aload_n 2, 1) := dk_44 (dk_at dksX0_lengthAlone_0 0 rfl rfl)
theorem dX0_lengthAlone_1 : decode cX0_lengthAlone 1 = .ok (.iconst 0, 1) := dk_3 (dk_at dksX0_lengthAlone_0 1 rfl rfl)
theorem dX0_lengthAlone_2 : decode cX0_lengthAlone 2 = .ok (.aload_n 0, 1) := dk_42 (dk_at dksX0_lengthAlone_0 2 rfl rfl)
theorem dX0_lengthAlone_3 : decode cX0_lengthAlone 3 = .ok (.iload_n 1, 1) := dk_27 (dk_at dksX0_lengthAlone_0 3 rfl rfl)
theorem dX0_lengthAlone_4 : decode cX0_lengthAlone 4 = .ok (.invokevirtual 43, 3) := dk_182 0 43 (dk_at dksX0_lengthAlone_0 4 rfl rfl)
theorem dX0_lengthAlone_7 : decode cX0_lengthAlone 7 = .ok (.i2l, 1) := dk_133 (dk_at dksX0_lengthAlone_0 7 rfl rfl)
theorem dX0_lengthAlone_8 : decode cX0_lengthAlone 8 = .ok (.lastore, 1) := dk_80 (dk_at dksX0_lengthAlone_0 8 rfl rfl)
theorem dX0_lengthAlone_9 : decode cX0_lengthAlone 9 = .ok (.goto 6, 3) := dk_167 0 6 (dk_at dksX0_lengthAlone_0 9 rfl rfl)
theorem dX0_lengthAlone_12 : decode cX0_lengthAlone 12 = .ok (.astore_n 3, 1) := dk_78 (dk_at dksX0_lengthAlone_0 12 rfl rfl)
theorem dX0_lengthAlone_13 : decode cX0_lengthAlone 13 = .ok (.iconst 1, 1) := dk_4 (dk_at dksX0_lengthAlone_0 13 rfl rfl)
theorem dX0_lengthAlone_14 : decode cX0_lengthAlone 14 = .ok (.ireturn, 1) := dk_172 (dk_at dksX0_lengthAlone_0 14 rfl rfl)
theorem dX0_lengthAlone_15 : decode cX0_lengthAlone 15 = .ok (.iconst 0, 1) := dk_3 (dk_at dksX0_lengthAlone_0 15 rfl rfl)
theorem dX0_lengthAlone_16 : decode cX0_lengthAlone 16 = .ok (.ireturn, 1) := dk_172 (dk_at dksX0_lengthAlone_0 16 rfl rfl)
abbrev cX0_setCapacity : ByteArray := method_12_code
def yX0_setCapacity : MethodName := ⟨RX0, "setCapacity", "(LAislewright;I[J)I"⟩
def dkwX0_setCapacity_0 : List UInt8 := [44, 3, 42, 27, 182, 0, 46, 133, 80, 167, 0, 9, 78, 4, 172, 78, 5, 172, 3, 172]
abbrev dktX0_setCapacity_0 : List UInt8 := dkwX0_setCapacity_0 ++ []
theorem dksX0_setCapacity_0 : cX0_setCapacity.data.toList.drop 0 = dktX0_setCapacity_0 := by decide +kernel
theorem dX0_setCapacity_0 : decode cX0_setCapacity 0 = .ok (.aload_n 2, 1) := dk_44 (dk_at dksX0_setCapacity_0 0 rfl rfl)
theorem dX0_setCapacity_1 : decode cX0_setCapacity 1 = .ok (.iconst 0, 1) := dk_3 (dk_at dksX0_setCapacity_0 1 rfl rfl)
theorem dX0_setCapacity_2 : decode cX0_setCapacity 2 = .ok (.aload_n 0, 1) := dk_42 (dk_at dksX0_setCapacity_0 2 rfl rfl)
theorem dX0_setCapacity_3 : decode cX0_setCapacity 3 = .ok (.iload_n 1, 1) := dk_27 (dk_at dksX0_setCapacity_0 3 rfl rfl)
theorem dX0_setCapacity_4 : decode cX0_setCapacity 4 = .ok (.invokevirtual 46, 3) := dk_182 0 46 (dk_at dksX0_setCapacity_0 4 rfl rfl)
theorem dX0_setCapacity_7 : decode cX0_setCapacity 7 = .ok (.i2l, 1) := dk_133 (dk_at dksX0_setCapacity_0 7 rfl rfl)
theorem dX0_setCapacity_8 : decode cX0_setCapacity 8 = .ok (.lastore, 1) := dk_80 (dk_at dksX0_setCapacity_0 8 rfl rfl)
theorem dX0_setCapacity_9 : decode cX0_setCapacity 9 = .ok (.goto 9, 3) := dk_167 0 9 (dk_at dksX0_setCapacity_0 9 rfl rfl)
theorem dX0_setCapacity_12 : decode cX0_setCapacity 12 = .ok (.astore_n 3, 1) := dk_78 (dk_at dksX0_setCapacity_0 12 rfl rfl)
theorem dX0_setCapacity_13 : decode cX0_setCapacity 13 = .ok (.iconst 1, 1) := dk_4 (dk_at dksX0_setCapacity_0 13 rfl rfl)
theorem dX0_setCapacity_14 : decode cX0_setCapacity 14 = .ok (.ireturn, 1) := dk_172 (dk_at dksX0_setCapacity_0 14 rfl rfl)
theorem dX0_setCapacity_15 : decode cX0_setCapacity 15 = .ok (.astore_n 3, 1) := dk_78 (dk_at dksX0_setCapacity_0 15 rfl rfl)
theorem dX0_setCapacity_16 : decode cX0_setCapacity 16 = .ok (.iconst 2, 1) := dk_5 (dk_at dksX0_setCapacity_0 16 rfl rfl)
theorem dX0_setCapacity_17 : decode cX0_setCapacity 17 = .ok (.ireturn, 1) := dk_172 (dk_at dksX0_setCapacity_0 17 rfl rfl)
theorem dX0_setCapacity_18 : decode cX0_setCapacity 18 = .ok (.iconst 0, 1) := dk_3 (dk_at dksX0_setCapacity_0 18 rfl rfl)
theorem dX0_setCapacity_19 : decode cX0_setCapacity 19 = .ok (.ireturn, 1) := dk_172 (dk_at dksX0_setCapacity_0 19 rfl rfl)
abbrev cX0_planWave : ByteArray := method_13_code
def yX0_planWave : MethodName := ⟨RX0, "planWave", "(LAislewright;I[J)I"⟩
def dkwX0_planWave_0 : List UInt8 := [44, 3, 42, 27, 182, 0, 49, 133, 80, 167, 0, 9, 78, 4, 172, 78, 5, 172, 3, 172]
abbrev dktX0_planWave_0 : List UInt8 := dkwX0_planWave_0 ++ []
theorem dksX0_planWave_0 : cX0_planWave.data.toList.drop 0 = dktX0_planWave_0 := by decide +kernel
theorem dX0_planWave_0 : decode cX0_planWave 0 = .ok (.aload_n 2, 1) := dk_44 (dk_at dksX0_planWave_0 0 rfl rfl)
theorem dX0_planWave_1 : decode cX0_planWave 1 = .ok (.iconst 0, 1) := dk_3 (dk_at dksX0_planWave_0 1 rfl rfl)
theorem dX0_planWave_2 : decode cX0_planWave 2 = .ok (.aload_n 0, 1) := dk_42 (dk_at dksX0_planWave_0 2 rfl rfl)
theorem dX0_planWave_3 : decode cX0_planWave 3 = .ok (.iload_n 1, 1) := dk_27 (dk_at dksX0_planWave_0 3 rfl rfl)
theorem dX0_planWave_4 : decode cX0_planWave 4 = .ok (.invokevirtual 49, 3) := dk_182 0 49 (dk_at dksX0_planWave_0 4 rfl rfl)
theorem dX0_planWave_7 : decode cX0_planWave 7 = .ok (.i2l, 1) := dk_133 (dk_at dksX0_planWave_0 7 rfl rfl)
theorem dX0_planWave_8 : decode cX0_planWave 8 = .ok (.lastore, 1) := dk_80 (dk_at dksX0_planWave_0 8 rfl rfl)
theorem dX0_planWave_9 : decode cX0_planWave 9 = .ok (.goto 9, 3) := dk_167 0 9 (dk_at dksX0_planWave_0 9 rfl rfl)
theorem dX0_planWave_12 : decode cX0_planWave 12 = .ok (.astore_n 3, 1) := dk_78 (dk_at dksX0_planWave_0 12 rfl rfl)
theorem dX0_planWave_13 : decode cX0_planWave 13 = .ok (.iconst 1, 1) := dk_4 (dk_at dksX0_planWave_0 13 rfl rfl)
theorem dX0_planWave_14 : decode cX0_planWave 14 = .ok (.ireturn, 1) := dk_172 (dk_at dksX0_planWave_0 14 rfl rfl)
theorem dX0_planWave_15 : decode cX0_planWave 15 = .ok (.astore_n 3, 1) := dk_78 (dk_at dksX0_planWave_0 15 rfl rfl)
theorem dX0_planWave_16 : decode cX0_planWave 16 = .ok (.iconst 2, 1) := dk_5 (dk_at dksX0_planWave_0 16 rfl rfl)
theorem dX0_planWave_17 : decode cX0_planWave 17 = .ok (.ireturn, 1) := dk_172 (dk_at dksX0_planWave_0 17 rfl rfl)
theorem dX0_planWave_18 : decode cX0_planWave 18 = .ok (.iconst 0, 1) := dk_3 (dk_at dksX0_planWave_0 18 rfl rfl)
theorem dX0_planWave_19 : decode cX0_planWave 19 = .ok (.ireturn, 1) := dk_172 (dk_at dksX0_planWave_0 19 rfl rfl)
abbrev cX0_pick : ByteArray := method_14_code
def yX0_pick : MethodName := ⟨RX0, "pick", "(LAislewright;I[J)I"⟩
def dkwX0_pick_0 : List UInt8 := [44, 3, 42, 27, 182, 0, 52, 133, 80, 167, 0, 6, 78, 4, 172, 3, 172]
abbrev dktX0_pick_0 : List UInt8 := dkwX0_pick_0 ++ []
theorem dksX0_pick_0 : cX0_pick.data.toList.drop 0 = dktX0_pick_0 := by decide +kernel
theorem dX0_pick_0 : decode cX0_pick 0 = .ok (.aload_n 2, 1) := dk_44 (dk_at dksX0_pick_0 0 rfl rfl)
theorem dX0_pick_1 : decode cX0_pick 1 = .ok (.iconst 0, 1) := dk_3 (dk_at dksX0_pick_0 1 rfl rfl)
theorem dX0_pick_2 : decode cX0_pick 2 = .ok (.aload_n 0, 1) := dk_42 (dk_at dksX0_pick_0 2 rfl rfl)
theorem dX0_pick_3 : decode cX0_pick 3 = .ok (.iload_n 1, 1) := dk_27 (dk_at dksX0_pick_0 3 rfl rfl)
theorem dX0_pick_4 : decode cX0_pick 4 = .ok (.invokevirtual 52, 3) := dk_182 0 52 (dk_at dksX0_pick_0 4 rfl rfl)
theorem dX0_pick_7 : decode cX0_pick 7 = .ok (.i2l, 1) := dk_133 (dk_at dksX0_pick_0 7 rfl rfl)
theorem dX0_pick_8 : decode cX0_pick 8 = .ok (.lastore, 1) := dk_80 (dk_at dksX0_pick_0 8 rfl rfl)
theorem dX0_pick_9 : decode cX0_pick 9 = .ok (.goto 6, 3) := dk_167 0 6 (dk_at dksX0_pick_0 9 rfl rfl)
theorem dX0_pick_12 : decode cX0_pick 12 = .ok (.astore_n 3, 1) := dk_78 (dk_at dksX0_pick_0 12 rfl rfl)
theorem dX0_pick_13 : decode cX0_pick 13 = .ok (.iconst 1, 1) := dk_4 (dk_at dksX0_pick_0 13 rfl rfl)
theorem dX0_pick_14 : decode cX0_pick 14 = .ok (.ireturn, 1) := dk_172 (dk_at dksX0_pick_0 14 rfl rfl)
theorem dX0_pick_15 : decode cX0_pick 15 = .ok (.iconst 0, 1) := dk_3 (dk_at dksX0_pick_0 15 rfl rfl)
theorem dX0_pick_16 : decode cX0_pick 16 = .ok (.ireturn, 1) := dk_172 (dk_at dksX0_pick_0 16 rfl rfl)
abbrev cX0_batchOf : ByteArray := method_15_code
def yX0_batchOf : MethodName := ⟨RX0, "batchOf", "(LAislewright;I[J)I"⟩
def dkwX0_batchOf_0 : List UInt8 := [44, 3, 42, 27, 182, 0, 55, 133, 80, 167, 0, 6, 78, 4, 172, 3, 172]
abbrev dktX0_batchOf_0 : List UInt8 := dkwX0_batchOf_0 ++ []
theorem dksX0_batchOf_0 : cX0_batchOf.data.toList.drop 0 = dktX0_batchOf_0 := by decide +kernel
theorem dX0_batchOf_0 : decode cX0_batchOf 0 = .ok (.aload_n 2, 1) := dk_44 (dk_at dksX0_batchOf_0 0 rfl rfl)
theorem dX0_batchOf_1 : decode cX0_batchOf 1 = .ok (.iconst 0, 1) := dk_3 (dk_at dksX0_batchOf_0 1 rfl rfl)
theorem dX0_batchOf_2 : decode cX0_batchOf 2 = .ok (.aload_n 0, 1) := dk_42 (dk_at dksX0_batchOf_0 2 rfl rfl)
theorem dX0_batchOf_3 : decode cX0_batchOf 3 = .ok (.iload_n 1, 1) := dk_27 (dk_at dksX0_batchOf_0 3 rfl rfl)
theorem dX0_batchOf_4 : decode cX0_batchOf 4 = .ok (.invokevirtual 55, 3) := dk_182 0 55 (dk_at dksX0_batchOf_0 4 rfl rfl)
theorem dX0_batchOf_7 : decode cX0_batchOf 7 = .ok (.i2l, 1) := dk_133 (dk_at dksX0_batchOf_0 7 rfl rfl)
theorem dX0_batchOf_8 : decode cX0_batchOf 8 = .ok (.lastore, 1) := dk_80 (dk_at dksX0_batchOf_0 8 rfl rfl)
theorem dX0_batchOf_9 : decode cX0_batchOf 9 = .ok (.goto 6, 3) := dk_167 0 6 (dk_at dksX0_batchOf_0 9 rfl rfl)
theorem dX0_batchOf_12 : decode cX0_batchOf 12 = .ok (.astore_n 3, 1) := dk_78 (dk_at dksX0_batchOf_0 12 rfl rfl)
theorem dX0_batchOf_13 : decode cX0_batchOf 13 = .ok (.iconst 1, 1) := dk_4 (dk_at dksX0_batchOf_0 13 rfl rfl)
theorem dX0_batchOf_14 : decode cX0_batchOf 14 = .ok (.ireturn, 1) := dk_172 (dk_at dksX0_batchOf_0 14 rfl rfl)
theorem dX0_batchOf_15 : decode cX0_batchOf 15 = .ok (.iconst 0, 1) := dk_3 (dk_at dksX0_batchOf_0 15 rfl rfl)
theorem dX0_batchOf_16 : decode cX0_batchOf 16 = .ok (.ireturn, 1) := dk_172 (dk_at dksX0_batchOf_0 16 rfl rfl)
abbrev cX0_linesOf : ByteArray := method_16_code
def yX0_linesOf : MethodName := ⟨RX0, "linesOf", "(LAislewright;I[J)I"⟩
def dkwX0_linesOf_0 : List UInt8 := [44, 3, 42, 27, 182, 0, 58, 133, 80, 167, 0, 6, 78, 4, 172, 3, 172]
abbrev dktX0_linesOf_0 : List UInt8 := dkwX0_linesOf_0 ++ []
theorem dksX0_linesOf_0 : cX0_linesOf.data.toList.drop 0 = dktX0_linesOf_0 := by decide +kernel
theorem dX0_linesOf_0 : decode cX0_linesOf 0 = .ok (.aload_n 2, 1) := dk_44 (dk_at dksX0_linesOf_0 0 rfl rfl)
theorem dX0_linesOf_1 : decode cX0_linesOf 1 = .ok (.iconst 0, 1) := dk_3 (dk_at dksX0_linesOf_0 1 rfl rfl)
theorem dX0_linesOf_2 : decode cX0_linesOf 2 = .ok (.aload_n 0, 1) := dk_42 (dk_at dksX0_linesOf_0 2 rfl rfl)
theorem dX0_linesOf_3 : decode cX0_linesOf 3 = .ok (.iload_n 1, 1) := dk_27 (dk_at dksX0_linesOf_0 3 rfl rfl)
theorem dX0_linesOf_4 : decode cX0_linesOf 4 = .ok (.invokevirtual 58, 3) := dk_182 0 58 (dk_at dksX0_linesOf_0 4 rfl rfl)
theorem dX0_linesOf_7 : decode cX0_linesOf 7 = .ok (.i2l, 1) := dk_133 (dk_at dksX0_linesOf_0 7 rfl rfl)
theorem dX0_linesOf_8 : decode cX0_linesOf 8 = .ok (.lastore, 1) := dk_80 (dk_at dksX0_linesOf_0 8 rfl rfl)
theorem dX0_linesOf_9 : decode cX0_linesOf 9 = .ok (.goto 6, 3) := dk_167 0 6 (dk_at dksX0_linesOf_0 9 rfl rfl)
theorem dX0_linesOf_12 : decode cX0_linesOf 12 = .ok (.astore_n 3, 1) := dk_78 (dk_at dksX0_linesOf_0 12 rfl rfl)
theorem dX0_linesOf_13 : decode cX0_linesOf 13 = .ok (.iconst 1, 1) := dk_4 (dk_at dksX0_linesOf_0 13 rfl rfl)
theorem dX0_linesOf_14 : decode cX0_linesOf 14 = .ok (.ireturn, 1) := dk_172 (dk_at dksX0_linesOf_0 14 rfl rfl)
theorem dX0_linesOf_15 : decode cX0_linesOf 15 = .ok (.iconst 0, 1) := dk_3 (dk_at dksX0_linesOf_0 15 rfl rfl)
theorem dX0_linesOf_16 : decode cX0_linesOf 16 = .ok (.ireturn, 1) := dk_172 (dk_at dksX0_linesOf_0 16 rfl rfl)
abbrev cX0_lengthOf : ByteArray := method_17_code
def yX0_lengthOf : MethodName := ⟨RX0, "lengthOf", "(LAislewright;I[J)I"⟩
def dkwX0_lengthOf_0 : List UInt8 := [44, 3, 42, 27, 182, 0, 61, 133, 80, 167, 0, 6, 78, 4, 172, 3, 172]
abbrev dktX0_lengthOf_0 : List UInt8 := dkwX0_lengthOf_0 ++ []
theorem dksX0_lengthOf_0 : cX0_lengthOf.data.toList.drop 0 = dktX0_lengthOf_0 := by decide +kernel
theorem dX0_lengthOf_0 : decode cX0_lengthOf 0 = .ok (.aload_n 2, 1) := dk_44 (dk_at dksX0_lengthOf_0 0 rfl rfl)
theorem dX0_lengthOf_1 : decode cX0_lengthOf 1 = .ok (.iconst 0, 1) := dk_3 (dk_at dksX0_lengthOf_0 1 rfl rfl)
theorem dX0_lengthOf_2 : decode cX0_lengthOf 2 = .ok (.aload_n 0, 1) := dk_42 (dk_at dksX0_lengthOf_0 2 rfl rfl)
theorem dX0_lengthOf_3 : decode cX0_lengthOf 3 = .ok (.iload_n 1, 1) := dk_27 (dk_at dksX0_lengthOf_0 3 rfl rfl)
theorem dX0_lengthOf_4 : decode cX0_lengthOf 4 = .ok (.invokevirtual 61, 3) := dk_182 0 61 (dk_at dksX0_lengthOf_0 4 rfl rfl)
theorem dX0_lengthOf_7 : decode cX0_lengthOf 7 = .ok (.i2l, 1) := dk_133 (dk_at dksX0_lengthOf_0 7 rfl rfl)
theorem dX0_lengthOf_8 : decode cX0_lengthOf 8 = .ok (.lastore, 1) := dk_80 (dk_at dksX0_lengthOf_0 8 rfl rfl)
theorem dX0_lengthOf_9 : decode cX0_lengthOf 9 = .ok (.goto 6, 3) := dk_167 0 6 (dk_at dksX0_lengthOf_0 9 rfl rfl)
theorem dX0_lengthOf_12 : decode cX0_lengthOf 12 = .ok (.astore_n 3, 1) := dk_78 (dk_at dksX0_lengthOf_0 12 rfl rfl)
theorem dX0_lengthOf_13 : decode cX0_lengthOf 13 = .ok (.iconst 1, 1) := dk_4 (dk_at dksX0_lengthOf_0 13 rfl rfl)
theorem dX0_lengthOf_14 : decode cX0_lengthOf 14 = .ok (.ireturn, 1) := dk_172 (dk_at dksX0_lengthOf_0 14 rfl rfl)
theorem dX0_lengthOf_15 : decode cX0_lengthOf 15 = .ok (.iconst 0, 1) := dk_3 (dk_at dksX0_lengthOf_0 15 rfl rfl)
theorem dX0_lengthOf_16 : decode cX0_lengthOf 16 = .ok (.ireturn, 1) := dk_172 (dk_at dksX0_lengthOf_0 16 rfl rfl)
abbrev cX0_lengthByTrying : ByteArray := method_18_code
def yX0_lengthByTrying : MethodName := ⟨RX0, "lengthByTrying", "(LAislewright;I[J)I"⟩
def dkwX0_lengthByTrying_0 : List UInt8 := [44, 3, 42, 27, 182, 0, 64, 133, 80, 167, 0, 9, 78, 4, 172, 78, 5, 172, 3, 172]
abbrev dktX0_lengthByTrying_0 : List UInt8 := dkwX0_lengthByTrying_0 ++ []
theorem dksX0_lengthByTrying_0 : cX0_lengthByTrying.data.toList.drop 0 = dktX0_lengthByTrying_0 := by decide +kernel
theorem dX0_lengthByTrying_0 : decode cX0_lengthByTrying 0 = .ok (.aload_n 2, 1) := dk_44 (dk_at dksX0_lengthByTrying_0 0 rfl rfl)
theorem dX0_lengthByTrying_1 : decode cX0_lengthByTrying 1 = .ok (.iconst 0, 1) := dk_3 (dk_at dksX0_lengthByTrying_0 1 rfl rfl)
theorem dX0_lengthByTrying_2 : decode cX0_lengthByTrying 2 = .ok (.aload_n 0, 1) := dk_42 (dk_at dksX0_lengthByTrying_0 2 rfl rfl)
theorem dX0_lengthByTrying_3 : decode cX0_lengthByTrying 3 = .ok (.iload_n 1, 1) := dk_27 (dk_at dksX0_lengthByTrying_0 3 rfl rfl)
theorem dX0_lengthByTrying_4 : decode cX0_lengthByTrying 4 = .ok (.invokevirtual 64, 3) := dk_182 0 64 (dk_at dksX0_lengthByTrying_0 4 rfl rfl)
theorem dX0_lengthByTrying_7 : decode cX0_lengthByTrying 7 = .ok (.i2l, 1) := dk_133 (dk_at dksX0_lengthByTrying_0 7 rfl rfl)
theorem dX0_lengthByTrying_8 : decode cX0_lengthByTrying 8 = .ok (.lastore, 1) := dk_80 (dk_at dksX0_lengthByTrying_0 8 rfl rfl)
theorem dX0_lengthByTrying_9 : decode cX0_lengthByTrying 9 = .ok (.goto 9, 3) := dk_167 0 9 (dk_at dksX0_lengthByTrying_0 9 rfl rfl)
theorem dX0_lengthByTrying_12 : decode cX0_lengthByTrying 12 = .ok (.astore_n 3, 1) := dk_78 (dk_at dksX0_lengthByTrying_0 12 rfl rfl)
theorem dX0_lengthByTrying_13 : decode cX0_lengthByTrying 13 = .ok (.iconst 1, 1) := dk_4 (dk_at dksX0_lengthByTrying_0 13 rfl rfl)
theorem dX0_lengthByTrying_14 : decode cX0_lengthByTrying 14 = .ok (.ireturn, 1) := dk_172 (dk_at dksX0_lengthByTrying_0 14 rfl rfl)
theorem dX0_lengthByTrying_15 : decode cX0_lengthByTrying 15 = .ok (.astore_n 3, 1) := dk_78 (dk_at dksX0_lengthByTrying_0 15 rfl rfl)
theorem dX0_lengthByTrying_16 : decode cX0_lengthByTrying 16 = .ok (.iconst 2, 1) := dk_5 (dk_at dksX0_lengthByTrying_0 16 rfl rfl)
theorem dX0_lengthByTrying_17 : decode cX0_lengthByTrying 17 = .ok (.ireturn, 1) := dk_172 (dk_at dksX0_lengthByTrying_0 17 rfl rfl)
theorem dX0_lengthByTrying_18 : decode cX0_lengthByTrying 18 = .ok (.iconst 0, 1) := dk_3 (dk_at dksX0_lengthByTrying_0 18 rfl rfl)
theorem dX0_lengthByTrying_19 : decode cX0_lengthByTrying 19 = .ok (.ireturn, 1) := dk_172 (dk_at dksX0_lengthByTrying_0 19 rfl rfl)
abbrev cX0_lengthThrough : ByteArray := method_19_code
def yX0_lengthThrough : MethodName := ⟨RX0, "lengthThrough", "(LAislewright;I[J)I"⟩
def dkwX0_lengthThrough_0 : List UInt8 := [44, 3, 42, 27, 182, 0, 67, 133, 80, 167, 0, 6, 78, 4, 172, 3, 172]
abbrev dktX0_lengthThrough_0 : List UInt8 := dkwX0_lengthThrough_0 ++ []
theorem dksX0_lengthThrough_0 : cX0_lengthThrough.data.toList.drop 0 = dktX0_lengthThrough_0 := by decide +kernel
theorem dX0_lengthThrough_0 : decode cX0_lengthThrough 0 = .ok (.aload_n 2, 1) := dk_44 (dk_at dksX0_lengthThrough_0 0 rfl rfl)
theorem dX0_lengthThrough_1 : decode cX0_lengthThrough 1 = .ok (.iconst 0, 1) := dk_3 (dk_at dksX0_lengthThrough_0 1 rfl rfl)
theorem dX0_lengthThrough_2 : decode cX0_lengthThrough 2 = .ok (.aload_n 0, 1) := dk_42 (dk_at dksX0_lengthThrough_0 2 rfl rfl)
theorem dX0_lengthThrough_3 : decode cX0_lengthThrough 3 = .ok (.iload_n 1, 1) := dk_27 (dk_at dksX0_lengthThrough_0 3 rfl rfl)
theorem dX0_lengthThrough_4 : decode cX0_lengthThrough 4 = .ok (.invokevirtual 67, 3) := dk_182 0 67 (dk_at dksX0_lengthThrough_0 4 rfl rfl)
theorem dX0_lengthThrough_7 : decode cX0_lengthThrough 7 = .ok (.i2l, 1) := dk_133 (dk_at dksX0_lengthThrough_0 7 rfl rfl)
theorem dX0_lengthThrough_8 : decode cX0_lengthThrough 8 = .ok (.lastore, 1) := dk_80 (dk_at dksX0_lengthThrough_0 8 rfl rfl)
theorem dX0_lengthThrough_9 : decode cX0_lengthThrough 9 = .ok (.goto 6, 3) := dk_167 0 6 (dk_at dksX0_lengthThrough_0 9 rfl rfl)
theorem dX0_lengthThrough_12 : decode cX0_lengthThrough 12 = .ok (.astore_n 3, 1) := dk_78 (dk_at dksX0_lengthThrough_0 12 rfl rfl)
theorem dX0_lengthThrough_13 : decode cX0_lengthThrough 13 = .ok (.iconst 1, 1) := dk_4 (dk_at dksX0_lengthThrough_0 13 rfl rfl)
theorem dX0_lengthThrough_14 : decode cX0_lengthThrough 14 = .ok (.ireturn, 1) := dk_172 (dk_at dksX0_lengthThrough_0 14 rfl rfl)
theorem dX0_lengthThrough_15 : decode cX0_lengthThrough 15 = .ok (.iconst 0, 1) := dk_3 (dk_at dksX0_lengthThrough_0 15 rfl rfl)
theorem dX0_lengthThrough_16 : decode cX0_lengthThrough 16 = .ok (.ireturn, 1) := dk_172 (dk_at dksX0_lengthThrough_0 16 rfl rfl)
abbrev cX0_stops : ByteArray := method_20_code
def yX0_stops : MethodName := ⟨RX0, "stops", "(LAislewright;I[J)I"⟩
def dkwX0_stops_0 : List UInt8 := [44, 3, 42, 27, 182, 0, 70, 133, 80, 167, 0, 6, 78, 4, 172, 3, 172]
abbrev dktX0_stops_0 : List UInt8 := dkwX0_stops_0 ++ []
theorem dksX0_stops_0 : cX0_stops.data.toList.drop 0 = dktX0_stops_0 := by decide +kernel
theorem dX0_stops_0 : decode cX0_stops 0 = .ok (.aload_n 2, 1) := dk_44 (dk_at dksX0_stops_0 0 rfl rfl)
theorem dX0_stops_1 : decode cX0_stops 1 = .ok (.iconst 0, 1) := dk_3 (dk_at dksX0_stops_0 1 rfl rfl)
theorem dX0_stops_2 : decode cX0_stops 2 = .ok (.aload_n 0, 1) := dk_42 (dk_at dksX0_stops_0 2 rfl rfl)
theorem dX0_stops_3 : decode cX0_stops 3 = .ok (.iload_n 1, 1) := dk_27 (dk_at dksX0_stops_0 3 rfl rfl)
theorem dX0_stops_4 : decode cX0_stops 4 = .ok (.invokevirtual 70, 3) := dk_182 0 70 (dk_at dksX0_stops_0 4 rfl rfl)
theorem dX0_stops_7 : decode cX0_stops 7 = .ok (.i2l, 1) := dk_133 (dk_at dksX0_stops_0 7 rfl rfl)
theorem dX0_stops_8 : decode cX0_stops 8 = .ok (.lastore, 1) := dk_80 (dk_at dksX0_stops_0 8 rfl rfl)
theorem dX0_stops_9 : decode cX0_stops 9 = .ok (.goto 6, 3) := dk_167 0 6 (dk_at dksX0_stops_0 9 rfl rfl)
theorem dX0_stops_12 : decode cX0_stops 12 = .ok (.astore_n 3, 1) := dk_78 (dk_at dksX0_stops_0 12 rfl rfl)
theorem dX0_stops_13 : decode cX0_stops 13 = .ok (.iconst 1, 1) := dk_4 (dk_at dksX0_stops_0 13 rfl rfl)
theorem dX0_stops_14 : decode cX0_stops 14 = .ok (.ireturn, 1) := dk_172 (dk_at dksX0_stops_0 14 rfl rfl)
theorem dX0_stops_15 : decode cX0_stops 15 = .ok (.iconst 0, 1) := dk_3 (dk_at dksX0_stops_0 15 rfl rfl)
theorem dX0_stops_16 : decode cX0_stops 16 = .ok (.ireturn, 1) := dk_172 (dk_at dksX0_stops_0 16 rfl rfl)
abbrev cX0_stopAt : ByteArray := method_21_code
def yX0_stopAt : MethodName := ⟨RX0, "stopAt", "(LAislewright;II[J)I"⟩
def dkwX0_stopAt_0 : List UInt8 := [45, 3, 42, 27, 28, 182, 0, 73, 133, 80, 167, 0, 7, 58, 4, 4, 172, 3, 172]
abbrev dktX0_stopAt_0 : List UInt8 := dkwX0_stopAt_0 ++ []
theorem dksX0_stopAt_0 : cX0_stopAt.data.toList.drop 0 = dktX0_stopAt_0 := by decide +kernel
theorem dX0_stopAt_0 : decode cX0_stopAt 0 = .ok (.aload_n 3, 1) := dk_45 (dk_at dksX0_stopAt_0 0 rfl rfl)
theorem dX0_stopAt_1 : decode cX0_stopAt 1 = .ok (.iconst 0, 1) := dk_3 (dk_at dksX0_stopAt_0 1 rfl rfl)
theorem dX0_stopAt_2 : decode cX0_stopAt 2 = .ok (.aload_n 0, 1) := dk_42 (dk_at dksX0_stopAt_0 2 rfl rfl)
theorem dX0_stopAt_3 : decode cX0_stopAt 3 = .ok (.iload_n 1, 1) := dk_27 (dk_at dksX0_stopAt_0 3 rfl rfl)
theorem dX0_stopAt_4 : decode cX0_stopAt 4 = .ok (.iload_n 2, 1) := dk_28 (dk_at dksX0_stopAt_0 4 rfl rfl)
theorem dX0_stopAt_5 : decode cX0_stopAt 5 = .ok (.invokevirtual 73, 3) := dk_182 0 73 (dk_at dksX0_stopAt_0 5 rfl rfl)
theorem dX0_stopAt_8 : decode cX0_stopAt 8 = .ok (.i2l, 1) := dk_133 (dk_at dksX0_stopAt_0 8 rfl rfl)
theorem dX0_stopAt_9 : decode cX0_stopAt 9 = .ok (.lastore, 1) := dk_80 (dk_at dksX0_stopAt_0 9 rfl rfl)
theorem dX0_stopAt_10 : decode cX0_stopAt 10 = .ok (.goto 7, 3) := dk_167 0 7 (dk_at dksX0_stopAt_0 10 rfl rfl)
theorem dX0_stopAt_13 : decode cX0_stopAt 13 = .ok (.astore 4, 2) := dk_58 4 (dk_at dksX0_stopAt_0 13 rfl rfl)
theorem dX0_stopAt_15 : decode cX0_stopAt 15 = .ok (.iconst 1, 1) := dk_4 (dk_at dksX0_stopAt_0 15 rfl rfl)
theorem dX0_stopAt_16 : decode cX0_stopAt 16 = .ok (.ireturn, 1) := dk_172 (dk_at dksX0_stopAt_0 16 rfl rfl)
theorem dX0_stopAt_17 : decode cX0_stopAt 17 = .ok (.iconst 0, 1) := dk_3 (dk_at dksX0_stopAt_0 17 rfl rfl)
theorem dX0_stopAt_18 : decode cX0_stopAt 18 = .ok (.ireturn, 1) := dk_172 (dk_at dksX0_stopAt_0 18 rfl rfl)
abbrev cX0_inAisle : ByteArray := method_22_code
def yX0_inAisle : MethodName := ⟨RX0, "inAisle", "(LAislewright;I[J)I"⟩
def dkwX0_inAisle_0 : List UInt8 := [44, 3, 42, 27, 182, 0, 76, 133, 80, 167, 0, 6, 78, 4, 172, 3, 172]
abbrev dktX0_inAisle_0 : List UInt8 := dkwX0_inAisle_0 ++ []
theorem dksX0_inAisle_0 : cX0_inAisle.data.toList.drop 0 = dktX0_inAisle_0 := by decide +kernel
theorem dX0_inAisle_0 : decode cX0_inAisle 0 = .ok (.aload_n 2, 1) := dk_44 (dk_at dksX0_inAisle_0 0 rfl rfl)
theorem dX0_inAisle_1 : decode cX0_inAisle 1 = .ok (.iconst 0, 1) := dk_3 (dk_at dksX0_inAisle_0 1 rfl rfl)
theorem dX0_inAisle_2 : decode cX0_inAisle 2 = .ok (.aload_n 0, 1) := dk_42 (dk_at dksX0_inAisle_0 2 rfl rfl)
theorem dX0_inAisle_3 : decode cX0_inAisle 3 = .ok (.iload_n 1, 1) := dk_27 (dk_at dksX0_inAisle_0 3 rfl rfl)
theorem dX0_inAisle_4 : decode cX0_inAisle 4 = .ok (.invokevirtual 76, 3) := dk_182 0 76 (dk_at dksX0_inAisle_0 4 rfl rfl)
theorem dX0_inAisle_7 : decode cX0_inAisle 7 = .ok (.i2l, 1) := dk_133 (dk_at dksX0_inAisle_0 7 rfl rfl)
theorem dX0_inAisle_8 : decode cX0_inAisle 8 = .ok (.lastore, 1) := dk_80 (dk_at dksX0_inAisle_0 8 rfl rfl)
theorem dX0_inAisle_9 : decode cX0_inAisle 9 = .ok (.goto 6, 3) := dk_167 0 6 (dk_at dksX0_inAisle_0 9 rfl rfl)
theorem dX0_inAisle_12 : decode cX0_inAisle 12 = .ok (.astore_n 3, 1) := dk_78 (dk_at dksX0_inAisle_0 12 rfl rfl)
theorem dX0_inAisle_13 : decode cX0_inAisle 13 = .ok (.iconst 1, 1) := dk_4 (dk_at dksX0_inAisle_0 13 rfl rfl)
theorem dX0_inAisle_14 : decode cX0_inAisle 14 = .ok (.ireturn, 1) := dk_172 (dk_at dksX0_inAisle_0 14 rfl rfl)
theorem dX0_inAisle_15 : decode cX0_inAisle 15 = .ok (.iconst 0, 1) := dk_3 (dk_at dksX0_inAisle_0 15 rfl rfl)
theorem dX0_inAisle_16 : decode cX0_inAisle 16 = .ok (.ireturn, 1) := dk_172 (dk_at dksX0_inAisle_0 16 rfl rfl)
theorem q37 : (Jvm.Cond.initialized "AislewrightLaw") ∈ lw_all := lw_g (lw_at lw_m1 0 rfl) rfl
theorem q71 : (Jvm.Cond.classLink "AislewrightLaw" (8 : Nat) "Aislewright") ∈ lw_all := lw_g (lw_at lw_m1 34 rfl) rfl
theorem q73 : (Jvm.Cond.methodLink "AislewrightLaw" (85 : Nat) ({ cls := "Aislewright", name := "<init>", desc := "(III)V" } : Jvm.MethodName)) ∈ lw_all := lw_g (lw_at lw_m1 36 rfl) rfl
theorem q178 : (Jvm.Cond.methodLink "AislewrightLaw" (119 : Nat) ({ cls := "Aislewright", name := "orders", desc := "()I" } : Jvm.MethodName)) ∈ lw_all := lw_g (lw_at lw_m1 141 rfl) rfl
theorem q192 : (Jvm.Cond.methodLink "AislewrightLaw" (138 : Nat) ({ cls := "Aislewright", name := "batches", desc := "()I" } : Jvm.MethodName)) ∈ lw_all := lw_g (lw_at lw_m1 155 rfl) rfl
theorem q196 : (Jvm.Cond.methodLink "AislewrightLaw" (166 : Nat) ({ cls := "Aislewright", name := "walked", desc := "()I" } : Jvm.MethodName)) ∈ lw_all := lw_g (lw_at lw_m1 159 rfl) rfl
theorem q200 : (Jvm.Cond.methodLink "AislewrightLaw" (170 : Nat) ({ cls := "Aislewright", name := "share", desc := "()D" } : Jvm.MethodName)) ∈ lw_all := lw_g (lw_at lw_m1 163 rfl) rfl
theorem q204 : (Jvm.Cond.methodLink "AislewrightLaw" (79 : Nat) ({ cls := "AislewrightLaw", name := "cell", desc := "([II)I" } : Jvm.MethodName)) ∈ lw_all := lw_g (lw_at lw_m1 167 rfl) rfl
theorem q205 : (Jvm.Cond.static ({ cls := "AislewrightLaw", name := "cell", desc := "([II)I" } : Jvm.MethodName)) ∈ lw_all := lw_g (lw_at lw_m1 168 rfl) rfl
theorem q206 : (Jvm.Cond.code ({ cls := "AislewrightLaw", name := "cell", desc := "([II)I" } : Jvm.MethodName) method_2_code (2 : Nat) (Option.some Jvm.ClassFile.FieldType.int)) ∈ lw_all := lw_g (lw_at lw_m1 169 rfl) rfl
theorem q207 : (Jvm.Cond.methodLink "AislewrightLaw" (91 : Nat) ({ cls := "AislewrightLaw", name := "put", desc := "(LAislewright;III[J)I" } : Jvm.MethodName)) ∈ lw_all := lw_g (lw_at lw_m1 170 rfl) rfl
theorem q208 : (Jvm.Cond.static ({ cls := "AislewrightLaw", name := "put", desc := "(LAislewright;III[J)I" } : Jvm.MethodName)) ∈ lw_all := lw_g (lw_at lw_m1 171 rfl) rfl
theorem q209 : (Jvm.Cond.codeWith ({ cls := "AislewrightLaw", name := "put", desc := "(LAislewright;III[J)I" } : Jvm.MethodName) method_3_code (6 : Nat) (Option.some Jvm.ClassFile.FieldType.int) [((0 : Nat), (12 : Nat), (15 : Nat), (13 : Nat)), ((0 : Nat), (12 : Nat), (19 : Nat), (15 : Nat))]) ∈ lw_all := lw_g (lw_at lw_m1 172 rfl) rfl
theorem q210 : (Jvm.Cond.classLink "AislewrightLaw" (13 : Nat) "java/lang/IndexOutOfBoundsException") ∈ lw_all := lw_g (lw_at lw_m1 173 rfl) rfl
theorem q287 : (Jvm.Cond.classLink "AislewrightLaw" (15 : Nat) "java/lang/IllegalStateException") ∈ lw_all := lw_g (lw_at lw_m2 10 rfl) rfl
theorem q288 : (Jvm.Cond.methodLink "AislewrightLaw" (7 : Nat) ({ cls := "Aislewright", name := "put", desc := "(III)I" } : Jvm.MethodName)) ∈ lw_all := lw_g (lw_at lw_m2 11 rfl) rfl
theorem q591 : (Jvm.Cond.methodLink "AislewrightLaw" (98 : Nat) ({ cls := "AislewrightLaw", name := "layOut", desc := "(LAislewright;[J)I" } : Jvm.MethodName)) ∈ lw_all := lw_g (lw_at lw_m3 74 rfl) rfl
theorem q592 : (Jvm.Cond.static ({ cls := "AislewrightLaw", name := "layOut", desc := "(LAislewright;[J)I" } : Jvm.MethodName)) ∈ lw_all := lw_g (lw_at lw_m3 75 rfl) rfl
theorem q593 : (Jvm.Cond.codeWith ({ cls := "AislewrightLaw", name := "layOut", desc := "(LAislewright;[J)I" } : Jvm.MethodName) method_4_code (3 : Nat) (Option.some Jvm.ClassFile.FieldType.int) [((0 : Nat), (8 : Nat), (11 : Nat), (15 : Nat))]) ∈ lw_all := lw_g (lw_at lw_m3 76 rfl) rfl
theorem q594 : (Jvm.Cond.methodLink "AislewrightLaw" (17 : Nat) ({ cls := "Aislewright", name := "layOut", desc := "()I" } : Jvm.MethodName)) ∈ lw_all := lw_g (lw_at lw_m3 77 rfl) rfl
theorem q902 : (Jvm.Cond.methodLink "AislewrightLaw" (102 : Nat) ({ cls := "AislewrightLaw", name := "placeOf", desc := "(LAislewright;I[J)I" } : Jvm.MethodName)) ∈ lw_all := lw_g (lw_at lw_m4 145 rfl) rfl
theorem q903 : (Jvm.Cond.static ({ cls := "AislewrightLaw", name := "placeOf", desc := "(LAislewright;I[J)I" } : Jvm.MethodName)) ∈ lw_all := lw_g (lw_at lw_m4 146 rfl) rfl
theorem q904 : (Jvm.Cond.codeWith ({ cls := "AislewrightLaw", name := "placeOf", desc := "(LAislewright;I[J)I" } : Jvm.MethodName) method_5_code (4 : Nat) (Option.some Jvm.ClassFile.FieldType.int) [((0 : Nat), (9 : Nat), (12 : Nat), (13 : Nat))]) ∈ lw_all := lw_g (lw_at lw_m4 147 rfl) rfl
theorem q905 : (Jvm.Cond.methodLink "AislewrightLaw" (21 : Nat) ({ cls := "Aislewright", name := "placeOf", desc := "(I)I" } : Jvm.MethodName)) ∈ lw_all := lw_g (lw_at lw_m4 148 rfl) rfl
theorem q909 : (Jvm.Cond.methodLink "AislewrightLaw" (106 : Nat) ({ cls := "AislewrightLaw", name := "turnover", desc := "(LAislewright;I[J)I" } : Jvm.MethodName)) ∈ lw_all := lw_g (lw_at lw_m4 152 rfl) rfl
theorem q910 : (Jvm.Cond.static ({ cls := "AislewrightLaw", name := "turnover", desc := "(LAislewright;I[J)I" } : Jvm.MethodName)) ∈ lw_all := lw_g (lw_at lw_m4 153 rfl) rfl
theorem q911 : (Jvm.Cond.codeWith ({ cls := "AislewrightLaw", name := "turnover", desc := "(LAislewright;I[J)I" } : Jvm.MethodName) method_6_code (4 : Nat) (Option.some Jvm.ClassFile.FieldType.int) [((0 : Nat), (9 : Nat), (12 : Nat), (13 : Nat))]) ∈ lw_all := lw_g (lw_at lw_m4 154 rfl) rfl
theorem q912 : (Jvm.Cond.methodLink "AislewrightLaw" (25 : Nat) ({ cls := "Aislewright", name := "turnover", desc := "(I)I" } : Jvm.MethodName)) ∈ lw_all := lw_g (lw_at lw_m4 155 rfl) rfl
theorem q916 : (Jvm.Cond.methodLink "AislewrightLaw" (109 : Nat) ({ cls := "AislewrightLaw", name := "distance", desc := "(LAislewright;II[J)I" } : Jvm.MethodName)) ∈ lw_all := lw_g (lw_at lw_m4 159 rfl) rfl
theorem q917 : (Jvm.Cond.static ({ cls := "AislewrightLaw", name := "distance", desc := "(LAislewright;II[J)I" } : Jvm.MethodName)) ∈ lw_all := lw_g (lw_at lw_m4 160 rfl) rfl
theorem q918 : (Jvm.Cond.codeWith ({ cls := "AislewrightLaw", name := "distance", desc := "(LAislewright;II[J)I" } : Jvm.MethodName) method_7_code (5 : Nat) (Option.some Jvm.ClassFile.FieldType.int) [((0 : Nat), (10 : Nat), (13 : Nat), (13 : Nat)), ((0 : Nat), (10 : Nat), (17 : Nat), (15 : Nat))]) ∈ lw_all := lw_g (lw_at lw_m4 161 rfl) rfl
theorem q919 : (Jvm.Cond.methodLink "AislewrightLaw" (28 : Nat) ({ cls := "Aislewright", name := "distance", desc := "(II)I" } : Jvm.MethodName)) ∈ lw_all := lw_g (lw_at lw_m4 162 rfl) rfl
theorem q931 : (Jvm.Cond.methodLink "AislewrightLaw" (113 : Nat) ({ cls := "AislewrightLaw", name := "order", desc := "(LAislewright;I[J)I" } : Jvm.MethodName)) ∈ lw_all := lw_g (lw_at lw_m4 174 rfl) rfl
theorem q932 : (Jvm.Cond.static ({ cls := "AislewrightLaw", name := "order", desc := "(LAislewright;I[J)I" } : Jvm.MethodName)) ∈ lw_all := lw_g (lw_at lw_m4 175 rfl) rfl
theorem q933 : (Jvm.Cond.codeWith ({ cls := "AislewrightLaw", name := "order", desc := "(LAislewright;I[J)I" } : Jvm.MethodName) method_8_code (4 : Nat) (Option.some Jvm.ClassFile.FieldType.int) [((0 : Nat), (9 : Nat), (12 : Nat), (35 : Nat)), ((0 : Nat), (9 : Nat), (15 : Nat), (15 : Nat))]) ∈ lw_all := lw_g (lw_at lw_m4 176 rfl) rfl
theorem q934 : (Jvm.Cond.classLink "AislewrightLaw" (35 : Nat) "java/lang/IllegalArgumentException") ∈ lw_all := lw_g (lw_at lw_m4 177 rfl) rfl
theorem q935 : (Jvm.Cond.methodLink "AislewrightLaw" (32 : Nat) ({ cls := "Aislewright", name := "order", desc := "(I)I" } : Jvm.MethodName)) ∈ lw_all := lw_g (lw_at lw_m4 178 rfl) rfl
theorem q984 : (Jvm.Cond.methodLink "AislewrightLaw" (116 : Nat) ({ cls := "AislewrightLaw", name := "line", desc := "(LAislewright;III[J)I" } : Jvm.MethodName)) ∈ lw_all := lw_g (lw_at lw_m4 227 rfl) rfl
theorem q985 : (Jvm.Cond.static ({ cls := "AislewrightLaw", name := "line", desc := "(LAislewright;III[J)I" } : Jvm.MethodName)) ∈ lw_all := lw_g (lw_at lw_m4 228 rfl) rfl
theorem q986 : (Jvm.Cond.codeWith ({ cls := "AislewrightLaw", name := "line", desc := "(LAislewright;III[J)I" } : Jvm.MethodName) method_9_code (6 : Nat) (Option.some Jvm.ClassFile.FieldType.int) [((0 : Nat), (12 : Nat), (15 : Nat), (13 : Nat)), ((0 : Nat), (12 : Nat), (19 : Nat), (35 : Nat)), ((0 : Nat), (12 : Nat), (23 : Nat), (15 : Nat))]) ∈ lw_all := lw_g (lw_at lw_m4 229 rfl) rfl
theorem q987 : (Jvm.Cond.methodLink "AislewrightLaw" (37 : Nat) ({ cls := "Aislewright", name := "line", desc := "(III)I" } : Jvm.MethodName)) ∈ lw_all := lw_g (lw_at lw_m4 230 rfl) rfl
theorem q1007 : (Jvm.Cond.methodLink "AislewrightLaw" (123 : Nat) ({ cls := "AislewrightLaw", name := "stateOf", desc := "(LAislewright;I[J)I" } : Jvm.MethodName)) ∈ lw_all := lw_g (lw_at lw_m5 10 rfl) rfl
theorem q1008 : (Jvm.Cond.static ({ cls := "AislewrightLaw", name := "stateOf", desc := "(LAislewright;I[J)I" } : Jvm.MethodName)) ∈ lw_all := lw_g (lw_at lw_m5 11 rfl) rfl
theorem q1009 : (Jvm.Cond.codeWith ({ cls := "AislewrightLaw", name := "stateOf", desc := "(LAislewright;I[J)I" } : Jvm.MethodName) method_10_code (4 : Nat) (Option.some Jvm.ClassFile.FieldType.int) [((0 : Nat), (9 : Nat), (12 : Nat), (13 : Nat))]) ∈ lw_all := lw_g (lw_at lw_m5 12 rfl) rfl
theorem q1010 : (Jvm.Cond.methodLink "AislewrightLaw" (40 : Nat) ({ cls := "Aislewright", name := "stateOf", desc := "(I)I" } : Jvm.MethodName)) ∈ lw_all := lw_g (lw_at lw_m5 13 rfl) rfl
theorem q1014 : (Jvm.Cond.methodLink "AislewrightLaw" (126 : Nat) ({ cls := "AislewrightLaw", name := "lengthAlone", desc := "(LAislewright;I[J)I" } : Jvm.MethodName)) ∈ lw_all := lw_g (lw_at lw_m5 17 rfl) rfl
theorem q1015 : (Jvm.Cond.static ({ cls := "AislewrightLaw", name := "lengthAlone", desc := "(LAislewright;I[J)I" } : Jvm.MethodName)) ∈ lw_all := lw_g (lw_at lw_m5 18 rfl) rfl
theorem q1016 : (Jvm.Cond.codeWith ({ cls := "AislewrightLaw", name := "lengthAlone", desc := "(LAislewright;I[J)I" } : Jvm.MethodName) method_11_code (4 : Nat) (Option.some Jvm.ClassFile.FieldType.int) [((0 : Nat), (9 : Nat), (12 : Nat), (13 : Nat))]) ∈ lw_all := lw_g (lw_at lw_m5 19 rfl) rfl
theorem q1017 : (Jvm.Cond.methodLink "AislewrightLaw" (43 : Nat) ({ cls := "Aislewright", name := "lengthAlone", desc := "(I)I" } : Jvm.MethodName)) ∈ lw_all := lw_g (lw_at lw_m5 20 rfl) rfl
theorem q1041 : (Jvm.Cond.methodLink "AislewrightLaw" (129 : Nat) ({ cls := "AislewrightLaw", name := "setCapacity", desc := "(LAislewright;I[J)I" } : Jvm.MethodName)) ∈ lw_all := lw_g (lw_at lw_m5 44 rfl) rfl
theorem q1042 : (Jvm.Cond.static ({ cls := "AislewrightLaw", name := "setCapacity", desc := "(LAislewright;I[J)I" } : Jvm.MethodName)) ∈ lw_all := lw_g (lw_at lw_m5 45 rfl) rfl
theorem q1043 : (Jvm.Cond.codeWith ({ cls := "AislewrightLaw", name := "setCapacity", desc := "(LAislewright;I[J)I" } : Jvm.MethodName) method_12_code (4 : Nat) (Option.some Jvm.ClassFile.FieldType.int) [((0 : Nat), (9 : Nat), (12 : Nat), (35 : Nat)), ((0 : Nat), (9 : Nat), (15 : Nat), (15 : Nat))]) ∈ lw_all := lw_g (lw_at lw_m5 46 rfl) rfl
theorem q1044 : (Jvm.Cond.methodLink "AislewrightLaw" (46 : Nat) ({ cls := "Aislewright", name := "setCapacity", desc := "(I)I" } : Jvm.MethodName)) ∈ lw_all := lw_g (lw_at lw_m5 47 rfl) rfl
theorem q1100 : (Jvm.Cond.methodLink "AislewrightLaw" (132 : Nat) ({ cls := "AislewrightLaw", name := "planWave", desc := "(LAislewright;I[J)I" } : Jvm.MethodName)) ∈ lw_all := lw_g (lw_at lw_m5 103 rfl) rfl
theorem q1101 : (Jvm.Cond.static ({ cls := "AislewrightLaw", name := "planWave", desc := "(LAislewright;I[J)I" } : Jvm.MethodName)) ∈ lw_all := lw_g (lw_at lw_m5 104 rfl) rfl
theorem q1102 : (Jvm.Cond.codeWith ({ cls := "AislewrightLaw", name := "planWave", desc := "(LAislewright;I[J)I" } : Jvm.MethodName) method_13_code (4 : Nat) (Option.some Jvm.ClassFile.FieldType.int) [((0 : Nat), (9 : Nat), (12 : Nat), (35 : Nat)), ((0 : Nat), (9 : Nat), (15 : Nat), (15 : Nat))]) ∈ lw_all := lw_g (lw_at lw_m5 105 rfl) rfl
theorem q1103 : (Jvm.Cond.methodLink "AislewrightLaw" (49 : Nat) ({ cls := "Aislewright", name := "planWave", desc := "(I)I" } : Jvm.MethodName)) ∈ lw_all := lw_g (lw_at lw_m5 106 rfl) rfl
theorem q1178 : (Jvm.Cond.methodLink "AislewrightLaw" (135 : Nat) ({ cls := "AislewrightLaw", name := "pick", desc := "(LAislewright;I[J)I" } : Jvm.MethodName)) ∈ lw_all := lw_g (lw_at lw_m5 181 rfl) rfl
theorem q1179 : (Jvm.Cond.static ({ cls := "AislewrightLaw", name := "pick", desc := "(LAislewright;I[J)I" } : Jvm.MethodName)) ∈ lw_all := lw_g (lw_at lw_m5 182 rfl) rfl
theorem q1180 : (Jvm.Cond.codeWith ({ cls := "AislewrightLaw", name := "pick", desc := "(LAislewright;I[J)I" } : Jvm.MethodName) method_14_code (4 : Nat) (Option.some Jvm.ClassFile.FieldType.int) [((0 : Nat), (9 : Nat), (12 : Nat), (13 : Nat))]) ∈ lw_all := lw_g (lw_at lw_m5 183 rfl) rfl
theorem q1181 : (Jvm.Cond.methodLink "AislewrightLaw" (52 : Nat) ({ cls := "Aislewright", name := "pick", desc := "(I)I" } : Jvm.MethodName)) ∈ lw_all := lw_g (lw_at lw_m5 184 rfl) rfl
theorem q1190 : (Jvm.Cond.methodLink "AislewrightLaw" (142 : Nat) ({ cls := "AislewrightLaw", name := "batchOf", desc := "(LAislewright;I[J)I" } : Jvm.MethodName)) ∈ lw_all := lw_g (lw_at lw_m5 193 rfl) rfl
theorem q1191 : (Jvm.Cond.static ({ cls := "AislewrightLaw", name := "batchOf", desc := "(LAislewright;I[J)I" } : Jvm.MethodName)) ∈ lw_all := lw_g (lw_at lw_m5 194 rfl) rfl
theorem q1192 : (Jvm.Cond.codeWith ({ cls := "AislewrightLaw", name := "batchOf", desc := "(LAislewright;I[J)I" } : Jvm.MethodName) method_15_code (4 : Nat) (Option.some Jvm.ClassFile.FieldType.int) [((0 : Nat), (9 : Nat), (12 : Nat), (13 : Nat))]) ∈ lw_all := lw_g (lw_at lw_m5 195 rfl) rfl
theorem q1193 : (Jvm.Cond.methodLink "AislewrightLaw" (55 : Nat) ({ cls := "Aislewright", name := "batchOf", desc := "(I)I" } : Jvm.MethodName)) ∈ lw_all := lw_g (lw_at lw_m5 196 rfl) rfl
theorem q1237 : (Jvm.Cond.methodLink "AislewrightLaw" (145 : Nat) ({ cls := "AislewrightLaw", name := "linesOf", desc := "(LAislewright;I[J)I" } : Jvm.MethodName)) ∈ lw_all := lw_g (lw_at lw_m6 0 rfl) rfl
theorem q1238 : (Jvm.Cond.static ({ cls := "AislewrightLaw", name := "linesOf", desc := "(LAislewright;I[J)I" } : Jvm.MethodName)) ∈ lw_all := lw_g (lw_at lw_m6 1 rfl) rfl
theorem q1239 : (Jvm.Cond.codeWith ({ cls := "AislewrightLaw", name := "linesOf", desc := "(LAislewright;I[J)I" } : Jvm.MethodName) method_16_code (4 : Nat) (Option.some Jvm.ClassFile.FieldType.int) [((0 : Nat), (9 : Nat), (12 : Nat), (13 : Nat))]) ∈ lw_all := lw_g (lw_at lw_m6 2 rfl) rfl
theorem q1240 : (Jvm.Cond.methodLink "AislewrightLaw" (58 : Nat) ({ cls := "Aislewright", name := "linesOf", desc := "(I)I" } : Jvm.MethodName)) ∈ lw_all := lw_g (lw_at lw_m6 3 rfl) rfl
theorem q1244 : (Jvm.Cond.methodLink "AislewrightLaw" (148 : Nat) ({ cls := "AislewrightLaw", name := "lengthOf", desc := "(LAislewright;I[J)I" } : Jvm.MethodName)) ∈ lw_all := lw_g (lw_at lw_m6 7 rfl) rfl
theorem q1245 : (Jvm.Cond.static ({ cls := "AislewrightLaw", name := "lengthOf", desc := "(LAislewright;I[J)I" } : Jvm.MethodName)) ∈ lw_all := lw_g (lw_at lw_m6 8 rfl) rfl
theorem q1246 : (Jvm.Cond.codeWith ({ cls := "AislewrightLaw", name := "lengthOf", desc := "(LAislewright;I[J)I" } : Jvm.MethodName) method_17_code (4 : Nat) (Option.some Jvm.ClassFile.FieldType.int) [((0 : Nat), (9 : Nat), (12 : Nat), (13 : Nat))]) ∈ lw_all := lw_g (lw_at lw_m6 9 rfl) rfl
theorem q1247 : (Jvm.Cond.methodLink "AislewrightLaw" (61 : Nat) ({ cls := "Aislewright", name := "lengthOf", desc := "(I)I" } : Jvm.MethodName)) ∈ lw_all := lw_g (lw_at lw_m6 10 rfl) rfl
theorem q1251 : (Jvm.Cond.methodLink "AislewrightLaw" (151 : Nat) ({ cls := "AislewrightLaw", name := "lengthByTrying", desc := "(LAislewright;I[J)I" } : Jvm.MethodName)) ∈ lw_all := lw_g (lw_at lw_m6 14 rfl) rfl
theorem q1252 : (Jvm.Cond.static ({ cls := "AislewrightLaw", name := "lengthByTrying", desc := "(LAislewright;I[J)I" } : Jvm.MethodName)) ∈ lw_all := lw_g (lw_at lw_m6 15 rfl) rfl
theorem q1253 : (Jvm.Cond.codeWith ({ cls := "AislewrightLaw", name := "lengthByTrying", desc := "(LAislewright;I[J)I" } : Jvm.MethodName) method_18_code (4 : Nat) (Option.some Jvm.ClassFile.FieldType.int) [((0 : Nat), (9 : Nat), (12 : Nat), (13 : Nat)), ((0 : Nat), (9 : Nat), (15 : Nat), (15 : Nat))]) ∈ lw_all := lw_g (lw_at lw_m6 16 rfl) rfl
theorem q1254 : (Jvm.Cond.methodLink "AislewrightLaw" (64 : Nat) ({ cls := "Aislewright", name := "lengthByTrying", desc := "(I)I" } : Jvm.MethodName)) ∈ lw_all := lw_g (lw_at lw_m6 17 rfl) rfl
theorem q1270 : (Jvm.Cond.methodLink "AislewrightLaw" (154 : Nat) ({ cls := "AislewrightLaw", name := "lengthThrough", desc := "(LAislewright;I[J)I" } : Jvm.MethodName)) ∈ lw_all := lw_g (lw_at lw_m6 33 rfl) rfl
theorem q1271 : (Jvm.Cond.static ({ cls := "AislewrightLaw", name := "lengthThrough", desc := "(LAislewright;I[J)I" } : Jvm.MethodName)) ∈ lw_all := lw_g (lw_at lw_m6 34 rfl) rfl
theorem q1272 : (Jvm.Cond.codeWith ({ cls := "AislewrightLaw", name := "lengthThrough", desc := "(LAislewright;I[J)I" } : Jvm.MethodName) method_19_code (4 : Nat) (Option.some Jvm.ClassFile.FieldType.int) [((0 : Nat), (9 : Nat), (12 : Nat), (13 : Nat))]) ∈ lw_all := lw_g (lw_at lw_m6 35 rfl) rfl
theorem q1273 : (Jvm.Cond.methodLink "AislewrightLaw" (67 : Nat) ({ cls := "Aislewright", name := "lengthThrough", desc := "(I)I" } : Jvm.MethodName)) ∈ lw_all := lw_g (lw_at lw_m6 36 rfl) rfl
theorem q1281 : (Jvm.Cond.methodLink "AislewrightLaw" (157 : Nat) ({ cls := "AislewrightLaw", name := "stops", desc := "(LAislewright;I[J)I" } : Jvm.MethodName)) ∈ lw_all := lw_g (lw_at lw_m6 44 rfl) rfl
theorem q1282 : (Jvm.Cond.static ({ cls := "AislewrightLaw", name := "stops", desc := "(LAislewright;I[J)I" } : Jvm.MethodName)) ∈ lw_all := lw_g (lw_at lw_m6 45 rfl) rfl
theorem q1283 : (Jvm.Cond.codeWith ({ cls := "AislewrightLaw", name := "stops", desc := "(LAislewright;I[J)I" } : Jvm.MethodName) method_20_code (4 : Nat) (Option.some Jvm.ClassFile.FieldType.int) [((0 : Nat), (9 : Nat), (12 : Nat), (13 : Nat))]) ∈ lw_all := lw_g (lw_at lw_m6 46 rfl) rfl
theorem q1284 : (Jvm.Cond.methodLink "AislewrightLaw" (70 : Nat) ({ cls := "Aislewright", name := "stops", desc := "(I)I" } : Jvm.MethodName)) ∈ lw_all := lw_g (lw_at lw_m6 47 rfl) rfl
theorem q1288 : (Jvm.Cond.methodLink "AislewrightLaw" (160 : Nat) ({ cls := "AislewrightLaw", name := "stopAt", desc := "(LAislewright;II[J)I" } : Jvm.MethodName)) ∈ lw_all := lw_g (lw_at lw_m6 51 rfl) rfl
theorem q1289 : (Jvm.Cond.static ({ cls := "AislewrightLaw", name := "stopAt", desc := "(LAislewright;II[J)I" } : Jvm.MethodName)) ∈ lw_all := lw_g (lw_at lw_m6 52 rfl) rfl
theorem q1290 : (Jvm.Cond.codeWith ({ cls := "AislewrightLaw", name := "stopAt", desc := "(LAislewright;II[J)I" } : Jvm.MethodName) method_21_code (5 : Nat) (Option.some Jvm.ClassFile.FieldType.int) [((0 : Nat), (10 : Nat), (13 : Nat), (13 : Nat))]) ∈ lw_all := lw_g (lw_at lw_m6 53 rfl) rfl
theorem q1291 : (Jvm.Cond.methodLink "AislewrightLaw" (73 : Nat) ({ cls := "Aislewright", name := "stopAt", desc := "(II)I" } : Jvm.MethodName)) ∈ lw_all := lw_g (lw_at lw_m6 54 rfl) rfl
theorem q1301 : (Jvm.Cond.methodLink "AislewrightLaw" (163 : Nat) ({ cls := "AislewrightLaw", name := "inAisle", desc := "(LAislewright;I[J)I" } : Jvm.MethodName)) ∈ lw_all := lw_g (lw_at lw_m6 64 rfl) rfl
theorem q1302 : (Jvm.Cond.static ({ cls := "AislewrightLaw", name := "inAisle", desc := "(LAislewright;I[J)I" } : Jvm.MethodName)) ∈ lw_all := lw_g (lw_at lw_m6 65 rfl) rfl
theorem q1303 : (Jvm.Cond.codeWith ({ cls := "AislewrightLaw", name := "inAisle", desc := "(LAislewright;I[J)I" } : Jvm.MethodName) method_22_code (4 : Nat) (Option.some Jvm.ClassFile.FieldType.int) [((0 : Nat), (9 : Nat), (12 : Nat), (13 : Nat))]) ∈ lw_all := lw_g (lw_at lw_m6 66 rfl) rfl
theorem q1304 : (Jvm.Cond.methodLink "AislewrightLaw" (76 : Nat) ({ cls := "Aislewright", name := "inAisle", desc := "(I)I" } : Jvm.MethodName)) ∈ lw_all := lw_g (lw_at lw_m6 67 rfl) rfl
theorem q1308 : (Jvm.Cond.classLink "AislewrightLaw" (88 : Nat) "AislewrightModel") ∈ lw_all := lw_g (lw_at lw_m6 71 rfl) rfl
theorem q1310 : (Jvm.Cond.methodLink "AislewrightLaw" (90 : Nat) ({ cls := "AislewrightModel", name := "<init>", desc := "(III)V" } : Jvm.MethodName)) ∈ lw_all := lw_g (lw_at lw_m6 73 rfl) rfl
theorem q1381 : (Jvm.Cond.methodLink "AislewrightLaw" (95 : Nat) ({ cls := "AislewrightModel", name := "thrown", desc := "()I" } : Jvm.MethodName)) ∈ lw_all := lw_g (lw_at lw_m6 144 rfl) rfl
theorem q1385 : (Jvm.Cond.methodLink "AislewrightLaw" (94 : Nat) ({ cls := "AislewrightModel", name := "put", desc := "(III)I" } : Jvm.MethodName)) ∈ lw_all := lw_g (lw_at lw_m6 148 rfl) rfl
theorem q1399 : (Jvm.Cond.methodLink "AislewrightLaw" (101 : Nat) ({ cls := "AislewrightModel", name := "layOut", desc := "()I" } : Jvm.MethodName)) ∈ lw_all := lw_g (lw_at lw_m6 162 rfl) rfl
theorem q1419 : (Jvm.Cond.methodLink "AislewrightLaw" (105 : Nat) ({ cls := "AislewrightModel", name := "placeOf", desc := "(I)I" } : Jvm.MethodName)) ∈ lw_all := lw_g (lw_at lw_m6 182 rfl) rfl
theorem q1423 : (Jvm.Cond.methodLink "AislewrightLaw" (108 : Nat) ({ cls := "AislewrightModel", name := "turnover", desc := "(I)I" } : Jvm.MethodName)) ∈ lw_all := lw_g (lw_at lw_m6 186 rfl) rfl
theorem q1427 : (Jvm.Cond.methodLink "AislewrightLaw" (112 : Nat) ({ cls := "AislewrightModel", name := "distance", desc := "(II)I" } : Jvm.MethodName)) ∈ lw_all := lw_g (lw_at lw_m6 190 rfl) rfl
theorem q1431 : (Jvm.Cond.methodLink "AislewrightLaw" (115 : Nat) ({ cls := "AislewrightModel", name := "order", desc := "(I)I" } : Jvm.MethodName)) ∈ lw_all := lw_g (lw_at lw_m6 194 rfl) rfl
theorem q1435 : (Jvm.Cond.methodLink "AislewrightLaw" (118 : Nat) ({ cls := "AislewrightModel", name := "line", desc := "(III)I" } : Jvm.MethodName)) ∈ lw_all := lw_g (lw_at lw_m6 198 rfl) rfl
theorem q1447 : (Jvm.Cond.methodLink "AislewrightLaw" (122 : Nat) ({ cls := "AislewrightModel", name := "orders", desc := "()I" } : Jvm.MethodName)) ∈ lw_all := lw_g (lw_at lw_m6 210 rfl) rfl
theorem q1451 : (Jvm.Cond.methodLink "AislewrightLaw" (125 : Nat) ({ cls := "AislewrightModel", name := "stateOf", desc := "(I)I" } : Jvm.MethodName)) ∈ lw_all := lw_g (lw_at lw_m6 214 rfl) rfl
theorem q1455 : (Jvm.Cond.methodLink "AislewrightLaw" (128 : Nat) ({ cls := "AislewrightModel", name := "lengthAlone", desc := "(I)I" } : Jvm.MethodName)) ∈ lw_all := lw_g (lw_at lw_m6 218 rfl) rfl
theorem q1476 : (Jvm.Cond.methodLink "AislewrightLaw" (131 : Nat) ({ cls := "AislewrightModel", name := "setCapacity", desc := "(I)I" } : Jvm.MethodName)) ∈ lw_all := lw_g (lw_at lw_m6 239 rfl) rfl
theorem q1480 : (Jvm.Cond.methodLink "AislewrightLaw" (134 : Nat) ({ cls := "AislewrightModel", name := "planWave", desc := "(I)I" } : Jvm.MethodName)) ∈ lw_all := lw_g (lw_at lw_m7 3 rfl) rfl
theorem q1500 : (Jvm.Cond.methodLink "AislewrightLaw" (137 : Nat) ({ cls := "AislewrightModel", name := "pick", desc := "(I)I" } : Jvm.MethodName)) ∈ lw_all := lw_g (lw_at lw_m7 23 rfl) rfl
theorem q1508 : (Jvm.Cond.methodLink "AislewrightLaw" (141 : Nat) ({ cls := "AislewrightModel", name := "batches", desc := "()I" } : Jvm.MethodName)) ∈ lw_all := lw_g (lw_at lw_m7 31 rfl) rfl
theorem q1512 : (Jvm.Cond.methodLink "AislewrightLaw" (144 : Nat) ({ cls := "AislewrightModel", name := "batchOf", desc := "(I)I" } : Jvm.MethodName)) ∈ lw_all := lw_g (lw_at lw_m7 35 rfl) rfl
theorem q1516 : (Jvm.Cond.methodLink "AislewrightLaw" (147 : Nat) ({ cls := "AislewrightModel", name := "linesOf", desc := "(I)I" } : Jvm.MethodName)) ∈ lw_all := lw_g (lw_at lw_m7 39 rfl) rfl
theorem q1520 : (Jvm.Cond.methodLink "AislewrightLaw" (150 : Nat) ({ cls := "AislewrightModel", name := "lengthOf", desc := "(I)I" } : Jvm.MethodName)) ∈ lw_all := lw_g (lw_at lw_m7 43 rfl) rfl
theorem q1524 : (Jvm.Cond.methodLink "AislewrightLaw" (153 : Nat) ({ cls := "AislewrightModel", name := "lengthByTrying", desc := "(I)I" } : Jvm.MethodName)) ∈ lw_all := lw_g (lw_at lw_m7 47 rfl) rfl
theorem q1528 : (Jvm.Cond.methodLink "AislewrightLaw" (156 : Nat) ({ cls := "AislewrightModel", name := "lengthThrough", desc := "(I)I" } : Jvm.MethodName)) ∈ lw_all := lw_g (lw_at lw_m7 51 rfl) rfl
theorem q1536 : (Jvm.Cond.methodLink "AislewrightLaw" (159 : Nat) ({ cls := "AislewrightModel", name := "stops", desc := "(I)I" } : Jvm.MethodName)) ∈ lw_all := lw_g (lw_at lw_m7 59 rfl) rfl
theorem q1540 : (Jvm.Cond.methodLink "AislewrightLaw" (162 : Nat) ({ cls := "AislewrightModel", name := "stopAt", desc := "(II)I" } : Jvm.MethodName)) ∈ lw_all := lw_g (lw_at lw_m7 63 rfl) rfl
theorem q1548 : (Jvm.Cond.methodLink "AislewrightLaw" (165 : Nat) ({ cls := "AislewrightModel", name := "inAisle", desc := "(I)I" } : Jvm.MethodName)) ∈ lw_all := lw_g (lw_at lw_m7 71 rfl) rfl
theorem q1552 : (Jvm.Cond.methodLink "AislewrightLaw" (169 : Nat) ({ cls := "AislewrightModel", name := "walked", desc := "()I" } : Jvm.MethodName)) ∈ lw_all := lw_g (lw_at lw_m7 75 rfl) rfl
theorem q1556 : (Jvm.Cond.methodLink "AislewrightLaw" (174 : Nat) ({ cls := "AislewrightModel", name := "share", desc := "()D" } : Jvm.MethodName)) ∈ lw_all := lw_g (lw_at lw_m7 79 rfl) rfl
/-! the law's own entry -/
set_option maxRecDepth 100000
abbrev cL_law : ByteArray := code
def dkwL_law_58 : List UInt8 := [167, 0, 3, 132, 4, 4, 167, 250, 146, 4, 172]
abbrev dktL_law_58 : List UInt8 := dkwL_law_58 ++ []
def dkwL_law_57 : List UInt8 := [151, 153, 0, 21, 24, 5, 24, 5, 151, 153, 0, 11, 24, 7, 24, 7, 151, 154, 0, 5, 3, 172]
abbrev dktL_law_57 : List UInt8 := dkwL_law_57 ++ dktL_law_58
def dkwL_law_56 : List UInt8 := [182, 0, 169, 159, 0, 46, 3, 172, 43, 182, 0, 170, 57, 5, 44, 182, 0, 174, 57, 7, 24, 5, 24, 7]
abbrev dktL_law_56 : List UInt8 := dkwL_law_56 ++ dktL_law_57
def dkwL_law_55 : List UInt8 := [154, 0, 15, 45, 3, 47, 21, 6, 133, 148, 153, 0, 5, 3, 172, 167, 0, 57, 43, 182, 0, 166, 44]
abbrev dktL_law_55 : List UInt8 := dkwL_law_55 ++ dktL_law_56
def dkwL_law_54 : List UInt8 := [21, 4, 4, 96, 46, 182, 0, 165, 54, 6, 44, 182, 0, 95, 21, 5, 159, 0, 5, 3, 172, 21, 5]
abbrev dktL_law_54 : List UInt8 := dkwL_law_54 ++ dktL_law_55
def dkwL_law_53 : List UInt8 := [153, 0, 5, 3, 172, 167, 0, 113, 43, 42, 21, 4, 4, 96, 46, 45, 184, 0, 163, 54, 5, 44, 42]
abbrev dktL_law_53 : List UInt8 := dkwL_law_53 ++ dktL_law_54
def dkwL_law_52 : List UInt8 := [182, 0, 95, 21, 5, 159, 0, 5, 3, 172, 21, 5, 154, 0, 15, 45, 3, 47, 21, 6, 133, 148]
abbrev dktL_law_52 : List UInt8 := dkwL_law_52 ++ dktL_law_53
def dkwL_law_51 : List UInt8 := [184, 0, 160, 54, 5, 44, 42, 21, 4, 4, 96, 46, 42, 21, 4, 5, 96, 46, 182, 0, 162, 54, 6, 44]
abbrev dktL_law_51 : List UInt8 := dkwL_law_51 ++ dktL_law_52
def dkwL_law_50 : List UInt8 := [153, 0, 5, 3, 172, 167, 0, 181, 43, 42, 21, 4, 4, 96, 46, 42, 21, 4, 5, 96, 46, 45]
abbrev dktL_law_50 : List UInt8 := dkwL_law_50 ++ dktL_law_51
def dkwL_law_49 : List UInt8 := [182, 0, 95, 21, 5, 159, 0, 5, 3, 172, 21, 5, 154, 0, 15, 45, 3, 47, 21, 6, 133, 148]
abbrev dktL_law_49 : List UInt8 := dkwL_law_49 ++ dktL_law_50
def dkwL_law_48 : List UInt8 := [21, 4, 4, 96, 46, 45, 184, 0, 157, 54, 5, 44, 42, 21, 4, 4, 96, 46, 182, 0, 159, 54, 6, 44]
abbrev dktL_law_48 : List UInt8 := dkwL_law_48 ++ dktL_law_49
def dkwL_law_47 : List UInt8 := [172, 21, 5, 154, 0, 15, 45, 3, 47, 21, 6, 133, 148, 153, 0, 5, 3, 172, 167, 0, 237, 43, 42]
abbrev dktL_law_47 : List UInt8 := dkwL_law_47 ++ dktL_law_48
def dkwL_law_46 : List UInt8 := [54, 5, 44, 42, 21, 4, 4, 96, 46, 182, 0, 156, 54, 6, 44, 182, 0, 95, 21, 5, 159, 0, 5, 3]
abbrev dktL_law_46 : List UInt8 := dkwL_law_46 ++ dktL_law_47
def dkwL_law_45 : List UInt8 := [21, 6, 133, 148, 153, 0, 5, 3, 172, 167, 1, 37, 43, 42, 21, 4, 4, 96, 46, 45, 184, 0, 154]
abbrev dktL_law_45 : List UInt8 := dkwL_law_45 ++ dktL_law_46
def dkwL_law_44 : List UInt8 := [182, 0, 153, 54, 6, 44, 182, 0, 95, 21, 5, 159, 0, 5, 3, 172, 21, 5, 154, 0, 15, 45, 3, 47]
abbrev dktL_law_44 : List UInt8 := dkwL_law_44 ++ dktL_law_45
def dkwL_law_43 : List UInt8 := [167, 1, 93, 43, 42, 21, 4, 4, 96, 46, 45, 184, 0, 151, 54, 5, 44, 42, 21, 4, 4, 96, 46]
abbrev dktL_law_43 : List UInt8 := dkwL_law_43 ++ dktL_law_44
def dkwL_law_42 : List UInt8 := [21, 5, 159, 0, 5, 3, 172, 21, 5, 154, 0, 15, 45, 3, 47, 21, 6, 133, 148, 153, 0, 5, 3, 172]
abbrev dktL_law_42 : List UInt8 := dkwL_law_42 ++ dktL_law_43
def dkwL_law_41 : List UInt8 := [46, 45, 184, 0, 148, 54, 5, 44, 42, 21, 4, 4, 96, 46, 182, 0, 150, 54, 6, 44, 182, 0, 95]
abbrev dktL_law_41 : List UInt8 := dkwL_law_41 ++ dktL_law_42
def dkwL_law_40 : List UInt8 := [154, 0, 15, 45, 3, 47, 21, 6, 133, 148, 153, 0, 5, 3, 172, 167, 1, 149, 43, 42, 21, 4, 4, 96]
abbrev dktL_law_40 : List UInt8 := dkwL_law_40 ++ dktL_law_41
def dkwL_law_39 : List UInt8 := [21, 4, 4, 96, 46, 182, 0, 147, 54, 6, 44, 182, 0, 95, 21, 5, 159, 0, 5, 3, 172, 21, 5]
abbrev dktL_law_39 : List UInt8 := dkwL_law_39 ++ dktL_law_40
def dkwL_law_38 : List UInt8 := [153, 0, 5, 3, 172, 167, 1, 205, 43, 42, 21, 4, 4, 96, 46, 45, 184, 0, 145, 54, 5, 44, 42]
abbrev dktL_law_38 : List UInt8 := dkwL_law_38 ++ dktL_law_39
def dkwL_law_37 : List UInt8 := [182, 0, 95, 21, 5, 159, 0, 5, 3, 172, 21, 5, 154, 0, 15, 45, 3, 47, 21, 6, 133, 148]
abbrev dktL_law_37 : List UInt8 := dkwL_law_37 ++ dktL_law_38
def dkwL_law_36 : List UInt8 := [21, 4, 4, 96, 46, 45, 184, 0, 142, 54, 5, 44, 42, 21, 4, 4, 96, 46, 182, 0, 144, 54, 6, 44]
abbrev dktL_law_36 : List UInt8 := dkwL_law_36 ++ dktL_law_37
def dkwL_law_35 : List UInt8 := [153, 0, 5, 3, 172, 167, 2, 18, 43, 182, 0, 138, 44, 182, 0, 141, 159, 2, 7, 3, 172, 43, 42]
abbrev dktL_law_35 : List UInt8 := dkwL_law_35 ++ dktL_law_36
def dkwL_law_34 : List UInt8 := [182, 0, 95, 21, 5, 159, 0, 5, 3, 172, 21, 5, 154, 0, 15, 45, 3, 47, 21, 6, 133, 148]
abbrev dktL_law_34 : List UInt8 := dkwL_law_34 ++ dktL_law_35
def dkwL_law_33 : List UInt8 := [21, 4, 4, 96, 46, 45, 184, 0, 135, 54, 5, 44, 42, 21, 4, 4, 96, 46, 182, 0, 137, 54, 6, 44]
abbrev dktL_law_33 : List UInt8 := dkwL_law_33 ++ dktL_law_34
def dkwL_law_32 : List UInt8 := [172, 21, 5, 154, 0, 15, 45, 3, 47, 21, 6, 133, 148, 153, 0, 5, 3, 172, 167, 2, 74, 43, 42]
abbrev dktL_law_32 : List UInt8 := dkwL_law_32 ++ dktL_law_33
def dkwL_law_31 : List UInt8 := [54, 5, 44, 42, 21, 4, 4, 96, 46, 182, 0, 134, 54, 6, 44, 182, 0, 95, 21, 5, 159, 0, 5, 3]
abbrev dktL_law_31 : List UInt8 := dkwL_law_31 ++ dktL_law_32
def dkwL_law_30 : List UInt8 := [21, 6, 133, 148, 153, 0, 5, 3, 172, 167, 2, 130, 43, 42, 21, 4, 4, 96, 46, 45, 184, 0, 132]
abbrev dktL_law_30 : List UInt8 := dkwL_law_30 ++ dktL_law_31
def dkwL_law_29 : List UInt8 := [182, 0, 131, 54, 6, 44, 182, 0, 95, 21, 5, 159, 0, 5, 3, 172, 21, 5, 154, 0, 15, 45, 3, 47]
abbrev dktL_law_29 : List UInt8 := dkwL_law_29 ++ dktL_law_30
def dkwL_law_28 : List UInt8 := [167, 2, 186, 43, 42, 21, 4, 4, 96, 46, 45, 184, 0, 129, 54, 5, 44, 42, 21, 4, 4, 96, 46]
abbrev dktL_law_28 : List UInt8 := dkwL_law_28 ++ dktL_law_29
def dkwL_law_27 : List UInt8 := [21, 5, 159, 0, 5, 3, 172, 21, 5, 154, 0, 15, 45, 3, 47, 21, 6, 133, 148, 153, 0, 5, 3, 172]
abbrev dktL_law_27 : List UInt8 := dkwL_law_27 ++ dktL_law_28
def dkwL_law_26 : List UInt8 := [46, 45, 184, 0, 126, 54, 5, 44, 42, 21, 4, 4, 96, 46, 182, 0, 128, 54, 6, 44, 182, 0, 95]
abbrev dktL_law_26 : List UInt8 := dkwL_law_26 ++ dktL_law_27
def dkwL_law_25 : List UInt8 := [154, 0, 15, 45, 3, 47, 21, 6, 133, 148, 153, 0, 5, 3, 172, 167, 2, 242, 43, 42, 21, 4, 4, 96]
abbrev dktL_law_25 : List UInt8 := dkwL_law_25 ++ dktL_law_26
def dkwL_law_24 : List UInt8 := [21, 4, 4, 96, 46, 182, 0, 125, 54, 6, 44, 182, 0, 95, 21, 5, 159, 0, 5, 3, 172, 21, 5]
abbrev dktL_law_24 : List UInt8 := dkwL_law_24 ++ dktL_law_25
def dkwL_law_23 : List UInt8 := [44, 182, 0, 122, 159, 3, 44, 3, 172, 43, 42, 21, 4, 4, 96, 46, 45, 184, 0, 123, 54, 5, 44, 42]
abbrev dktL_law_23 : List UInt8 := dkwL_law_23 ++ dktL_law_24
def dkwL_law_22 : List UInt8 := [21, 5, 154, 0, 15, 45, 3, 47, 21, 6, 133, 148, 153, 0, 5, 3, 172, 167, 3, 55, 43, 182, 0, 119]
abbrev dktL_law_22 : List UInt8 := dkwL_law_22 ++ dktL_law_23
def dkwL_law_21 : List UInt8 := [96, 46, 42, 21, 4, 6, 96, 46, 182, 0, 118, 54, 6, 44, 182, 0, 95, 21, 5, 159, 0, 5, 3, 172]
abbrev dktL_law_21 : List UInt8 := dkwL_law_21 ++ dktL_law_22
def dkwL_law_20 : List UInt8 := [46, 42, 21, 4, 6, 96, 46, 45, 184, 0, 116, 54, 5, 44, 42, 21, 4, 4, 96, 46, 42, 21, 4, 5]
abbrev dktL_law_20 : List UInt8 := dkwL_law_20 ++ dktL_law_21
def dkwL_law_19 : List UInt8 := [21, 6, 133, 148, 153, 0, 5, 3, 172, 167, 3, 135, 43, 42, 21, 4, 4, 96, 46, 42, 21, 4, 5, 96]
abbrev dktL_law_19 : List UInt8 := dkwL_law_19 ++ dktL_law_20
def dkwL_law_18 : List UInt8 := [182, 0, 115, 54, 6, 44, 182, 0, 95, 21, 5, 159, 0, 5, 3, 172, 21, 5, 154, 0, 15, 45, 3, 47]
abbrev dktL_law_18 : List UInt8 := dkwL_law_18 ++ dktL_law_19
def dkwL_law_17 : List UInt8 := [167, 3, 191, 43, 42, 21, 4, 4, 96, 46, 45, 184, 0, 113, 54, 5, 44, 42, 21, 4, 4, 96, 46]
abbrev dktL_law_17 : List UInt8 := dkwL_law_17 ++ dktL_law_18
def dkwL_law_16 : List UInt8 := [159, 0, 5, 3, 172, 21, 5, 154, 0, 15, 45, 3, 47, 21, 6, 133, 148, 153, 0, 5, 3, 172]
abbrev dktL_law_16 : List UInt8 := dkwL_law_16 ++ dktL_law_17
def dkwL_law_15 : List UInt8 := [21, 4, 4, 96, 46, 42, 21, 4, 5, 96, 46, 182, 0, 112, 54, 6, 44, 182, 0, 95, 21, 5]
abbrev dktL_law_15 : List UInt8 := dkwL_law_15 ++ dktL_law_16
def dkwL_law_14 : List UInt8 := [167, 4, 3, 43, 42, 21, 4, 4, 96, 46, 42, 21, 4, 5, 96, 46, 45, 184, 0, 109, 54, 5, 44, 42]
abbrev dktL_law_14 : List UInt8 := dkwL_law_14 ++ dktL_law_15
def dkwL_law_13 : List UInt8 := [21, 5, 159, 0, 5, 3, 172, 21, 5, 154, 0, 15, 45, 3, 47, 21, 6, 133, 148, 153, 0, 5, 3, 172]
abbrev dktL_law_13 : List UInt8 := dkwL_law_13 ++ dktL_law_14
def dkwL_law_12 : List UInt8 := [46, 45, 184, 0, 106, 54, 5, 44, 42, 21, 4, 4, 96, 46, 182, 0, 108, 54, 6, 44, 182, 0, 95]
abbrev dktL_law_12 : List UInt8 := dkwL_law_12 ++ dktL_law_13
def dkwL_law_11 : List UInt8 := [154, 0, 15, 45, 3, 47, 21, 6, 133, 148, 153, 0, 5, 3, 172, 167, 4, 59, 43, 42, 21, 4, 4, 96]
abbrev dktL_law_11 : List UInt8 := dkwL_law_11 ++ dktL_law_12
def dkwL_law_10 : List UInt8 := [21, 4, 4, 96, 46, 182, 0, 105, 54, 6, 44, 182, 0, 95, 21, 5, 159, 0, 5, 3, 172, 21, 5]
abbrev dktL_law_10 : List UInt8 := dkwL_law_10 ++ dktL_law_11
def dkwL_law_9 : List UInt8 := [153, 0, 5, 3, 172, 167, 4, 115, 43, 42, 21, 4, 4, 96, 46, 45, 184, 0, 102, 54, 5, 44, 42]
abbrev dktL_law_9 : List UInt8 := dkwL_law_9 ++ dktL_law_10
def dkwL_law_8 : List UInt8 := [182, 0, 95, 21, 5, 159, 0, 5, 3, 172, 21, 5, 154, 0, 15, 45, 3, 47, 21, 6, 133, 148]
abbrev dktL_law_8 : List UInt8 := dkwL_law_8 ++ dktL_law_9
def dkwL_law_7 : List UInt8 := [148, 153, 0, 5, 3, 172, 167, 4, 159, 43, 45, 184, 0, 98, 54, 5, 44, 182, 0, 101, 54, 6, 44]
abbrev dktL_law_7 : List UInt8 := dkwL_law_7 ++ dktL_law_8
def dkwL_law_6 : List UInt8 := [54, 6, 44, 182, 0, 95, 21, 5, 159, 0, 5, 3, 172, 21, 5, 154, 0, 15, 45, 3, 47, 21, 6, 133]
abbrev dktL_law_6 : List UInt8 := dkwL_law_6 ++ dktL_law_7
def dkwL_law_5 : List UInt8 := [54, 5, 44, 42, 21, 4, 4, 96, 46, 42, 21, 4, 5, 96, 46, 42, 21, 4, 6, 96, 46, 182, 0, 94]
abbrev dktL_law_5 : List UInt8 := dkwL_law_5 ++ dktL_law_6
def dkwL_law_4 : List UInt8 := [43, 42, 21, 4, 4, 96, 46, 42, 21, 4, 5, 96, 46, 42, 21, 4, 6, 96, 46, 45, 184, 0, 91]
abbrev dktL_law_4 : List UInt8 := dkwL_law_4 ++ dktL_law_5
def dkwL_law_3 : List UInt8 := [170, 0, 0, 0, 0, 5, 91, 0, 0, 0, 0, 0, 0, 0, 23, 0, 0, 0, 111, 0, 0, 0, 191, 0, 0, 0, 235, 0, 0, 1, 35, 0, 0, 1, 91, 0, 0, 1, 159, 0, 0, 1, 215, 0, 0, 2, 39, 0, 0, 2, 52, 0, 0, 2, 108, 0, 0, 2, 164, 0, 0, 2, 220, 0, 0, 3, 20, 0, 0, 3, 76, 0, 0, 3, 89, 0, 0, 3, 145, 0, 0, 3, 201, 0, 0, 4, 1, 0, 0, 4, 57, 0, 0, 4, 113, 0, 0, 4, 169, 0, 0, 4, 237, 0, 0, 5, 37, 0, 0, 5, 50]
abbrev dktL_law_3 : List UInt8 := dkwL_law_3 ++ dktL_law_4
def dkwL_law_2 : List UInt8 := [188, 11, 78, 6, 54, 4, 21, 4, 42, 190, 7, 100, 163, 5, 107, 42, 21, 4, 46, 16, 31, 126]
abbrev dktL_law_2 : List UInt8 := dkwL_law_2 ++ dktL_law_3
def dkwL_law_1 : List UInt8 := [187, 0, 88, 89, 42, 3, 184, 0, 79, 42, 4, 184, 0, 79, 42, 5, 184, 0, 79, 183, 0, 90, 77, 4]
abbrev dktL_law_1 : List UInt8 := dkwL_law_1 ++ dktL_law_2
def dkwL_law_0 : List UInt8 := [187, 0, 8, 89, 42, 3, 184, 0, 79, 42, 4, 184, 0, 79, 42, 5, 184, 0, 79, 183, 0, 85, 76]
abbrev dktL_law_0 : List UInt8 := dkwL_law_0 ++ dktL_law_1
theorem dksL_law_0 : cL_law.data.toList.drop 0 = dktL_law_0 := by decide +kernel
theorem dksL_law_1 : cL_law.data.toList.drop 23 = dktL_law_1 := dk_seg dksL_law_0 23 rfl rfl
theorem dksL_law_2 : cL_law.data.toList.drop 47 = dktL_law_2 := dk_seg dksL_law_1 24 rfl rfl
theorem dksL_law_3 : cL_law.data.toList.drop 69 = dktL_law_3 := dk_seg dksL_law_2 22 rfl rfl
theorem dksL_law_4 : cL_law.data.toList.drop 180 = dktL_law_4 := dk_seg dksL_law_3 111 rfl rfl
theorem dksL_law_5 : cL_law.data.toList.drop 203 = dktL_law_5 := dk_seg dksL_law_4 23 rfl rfl
theorem dksL_law_6 : cL_law.data.toList.drop 227 = dktL_law_6 := dk_seg dksL_law_5 24 rfl rfl
theorem dksL_law_7 : cL_law.data.toList.drop 251 = dktL_law_7 := dk_seg dksL_law_6 24 rfl rfl
theorem dksL_law_8 : cL_law.data.toList.drop 274 = dktL_law_8 := dk_seg dksL_law_7 23 rfl rfl
theorem dksL_law_9 : cL_law.data.toList.drop 296 = dktL_law_9 := dk_seg dksL_law_8 22 rfl rfl
theorem dksL_law_10 : cL_law.data.toList.drop 319 = dktL_law_10 := dk_seg dksL_law_9 23 rfl rfl
theorem dksL_law_11 : cL_law.data.toList.drop 342 = dktL_law_11 := dk_seg dksL_law_10 23 rfl rfl
theorem dksL_law_12 : cL_law.data.toList.drop 366 = dktL_law_12 := dk_seg dksL_law_11 24 rfl rfl
theorem dksL_law_13 : cL_law.data.toList.drop 389 = dktL_law_13 := dk_seg dksL_law_12 23 rfl rfl
theorem dksL_law_14 : cL_law.data.toList.drop 413 = dktL_law_14 := dk_seg dksL_law_13 24 rfl rfl
theorem dksL_law_15 : cL_law.data.toList.drop 437 = dktL_law_15 := dk_seg dksL_law_14 24 rfl rfl
theorem dksL_law_16 : cL_law.data.toList.drop 459 = dktL_law_16 := dk_seg dksL_law_15 22 rfl rfl
theorem dksL_law_17 : cL_law.data.toList.drop 481 = dktL_law_17 := dk_seg dksL_law_16 22 rfl rfl
theorem dksL_law_18 : cL_law.data.toList.drop 504 = dktL_law_18 := dk_seg dksL_law_17 23 rfl rfl
theorem dksL_law_19 : cL_law.data.toList.drop 528 = dktL_law_19 := dk_seg dksL_law_18 24 rfl rfl
theorem dksL_law_20 : cL_law.data.toList.drop 552 = dktL_law_20 := dk_seg dksL_law_19 24 rfl rfl
theorem dksL_law_21 : cL_law.data.toList.drop 576 = dktL_law_21 := dk_seg dksL_law_20 24 rfl rfl
theorem dksL_law_22 : cL_law.data.toList.drop 600 = dktL_law_22 := dk_seg dksL_law_21 24 rfl rfl
theorem dksL_law_23 : cL_law.data.toList.drop 624 = dktL_law_23 := dk_seg dksL_law_22 24 rfl rfl
theorem dksL_law_24 : cL_law.data.toList.drop 648 = dktL_law_24 := dk_seg dksL_law_23 24 rfl rfl
theorem dksL_law_25 : cL_law.data.toList.drop 671 = dktL_law_25 := dk_seg dksL_law_24 23 rfl rfl
theorem dksL_law_26 : cL_law.data.toList.drop 695 = dktL_law_26 := dk_seg dksL_law_25 24 rfl rfl
theorem dksL_law_27 : cL_law.data.toList.drop 718 = dktL_law_27 := dk_seg dksL_law_26 23 rfl rfl
theorem dksL_law_28 : cL_law.data.toList.drop 742 = dktL_law_28 := dk_seg dksL_law_27 24 rfl rfl
theorem dksL_law_29 : cL_law.data.toList.drop 765 = dktL_law_29 := dk_seg dksL_law_28 23 rfl rfl
theorem dksL_law_30 : cL_law.data.toList.drop 789 = dktL_law_30 := dk_seg dksL_law_29 24 rfl rfl
theorem dksL_law_31 : cL_law.data.toList.drop 812 = dktL_law_31 := dk_seg dksL_law_30 23 rfl rfl
theorem dksL_law_32 : cL_law.data.toList.drop 836 = dktL_law_32 := dk_seg dksL_law_31 24 rfl rfl
theorem dksL_law_33 : cL_law.data.toList.drop 859 = dktL_law_33 := dk_seg dksL_law_32 23 rfl rfl
theorem dksL_law_34 : cL_law.data.toList.drop 883 = dktL_law_34 := dk_seg dksL_law_33 24 rfl rfl
theorem dksL_law_35 : cL_law.data.toList.drop 905 = dktL_law_35 := dk_seg dksL_law_34 22 rfl rfl
theorem dksL_law_36 : cL_law.data.toList.drop 928 = dktL_law_36 := dk_seg dksL_law_35 23 rfl rfl
theorem dksL_law_37 : cL_law.data.toList.drop 952 = dktL_law_37 := dk_seg dksL_law_36 24 rfl rfl
theorem dksL_law_38 : cL_law.data.toList.drop 974 = dktL_law_38 := dk_seg dksL_law_37 22 rfl rfl
theorem dksL_law_39 : cL_law.data.toList.drop 997 = dktL_law_39 := dk_seg dksL_law_38 23 rfl rfl
theorem dksL_law_40 : cL_law.data.toList.drop 1020 = dktL_law_40 := dk_seg dksL_law_39 23 rfl rfl
theorem dksL_law_41 : cL_law.data.toList.drop 1044 = dktL_law_41 := dk_seg dksL_law_40 24 rfl rfl
theorem dksL_law_42 : cL_law.data.toList.drop 1067 = dktL_law_42 := dk_seg dksL_law_41 23 rfl rfl
theorem dksL_law_43 : cL_law.data.toList.drop 1091 = dktL_law_43 := dk_seg dksL_law_42 24 rfl rfl
theorem dksL_law_44 : cL_law.data.toList.drop 1114 = dktL_law_44 := dk_seg dksL_law_43 23 rfl rfl
theorem dksL_law_45 : cL_law.data.toList.drop 1138 = dktL_law_45 := dk_seg dksL_law_44 24 rfl rfl
theorem dksL_law_46 : cL_law.data.toList.drop 1161 = dktL_law_46 := dk_seg dksL_law_45 23 rfl rfl
theorem dksL_law_47 : cL_law.data.toList.drop 1185 = dktL_law_47 := dk_seg dksL_law_46 24 rfl rfl
theorem dksL_law_48 : cL_law.data.toList.drop 1208 = dktL_law_48 := dk_seg dksL_law_47 23 rfl rfl
theorem dksL_law_49 : cL_law.data.toList.drop 1232 = dktL_law_49 := dk_seg dksL_law_48 24 rfl rfl
theorem dksL_law_50 : cL_law.data.toList.drop 1254 = dktL_law_50 := dk_seg dksL_law_49 22 rfl rfl
theorem dksL_law_51 : cL_law.data.toList.drop 1276 = dktL_law_51 := dk_seg dksL_law_50 22 rfl rfl
theorem dksL_law_52 : cL_law.data.toList.drop 1300 = dktL_law_52 := dk_seg dksL_law_51 24 rfl rfl
theorem dksL_law_53 : cL_law.data.toList.drop 1322 = dktL_law_53 := dk_seg dksL_law_52 22 rfl rfl
theorem dksL_law_54 : cL_law.data.toList.drop 1345 = dktL_law_54 := dk_seg dksL_law_53 23 rfl rfl
theorem dksL_law_55 : cL_law.data.toList.drop 1368 = dktL_law_55 := dk_seg dksL_law_54 23 rfl rfl
theorem dksL_law_56 : cL_law.data.toList.drop 1391 = dktL_law_56 := dk_seg dksL_law_55 23 rfl rfl
theorem dksL_law_57 : cL_law.data.toList.drop 1415 = dktL_law_57 := dk_seg dksL_law_56 24 rfl rfl
theorem dksL_law_58 : cL_law.data.toList.drop 1437 = dktL_law_58 := dk_seg dksL_law_57 22 rfl rfl
theorem dL_law_0 : decode cL_law 0 = .ok (.new 8, 3) := dk_187 0 8 (dk_at dksL_law_0 0 rfl rfl)
theorem dL_law_3 : decode cL_law 3 = .ok (.dup, 1) := dk_89 (dk_at dksL_law_0 3 rfl rfl)
theorem dL_law_4 : decode cL_law 4 = .ok (.aload_n 0, 1) := dk_42 (dk_at dksL_law_0 4 rfl rfl)
theorem dL_law_5 : decode cL_law 5 = .ok (.iconst 0, 1) := dk_3 (dk_at dksL_law_0 5 rfl rfl)
theorem dL_law_6 : decode cL_law 6 = .ok (.invokestatic 79, 3) := dk_184 0 79 (dk_at dksL_law_0 6 rfl rfl)
theorem dL_law_9 : decode cL_law 9 = .ok (.aload_n 0, 1) := dk_42 (dk_at dksL_law_0 9 rfl rfl)
theorem dL_law_10 : decode cL_law 10 = .ok (.iconst 1, 1) := dk_4 (dk_at dksL_law_0 10 rfl rfl)
theorem dL_law_11 : decode cL_law 11 = .ok (.invokestatic 79, 3) := dk_184 0 79 (dk_at dksL_law_0 11 rfl rfl)
theorem dL_law_14 : decode cL_law 14 = .ok (.aload_n 0, 1) := dk_42 (dk_at dksL_law_0 14 rfl rfl)
theorem dL_law_15 : decode cL_law 15 = .ok (.iconst 2, 1) := dk_5 (dk_at dksL_law_0 15 rfl rfl)
theorem dL_law_16 : decode cL_law 16 = .ok (.invokestatic 79, 3) := dk_184 0 79 (dk_at dksL_law_0 16 rfl rfl)
theorem dL_law_19 : decode cL_law 19 = .ok (.invokespecial 85, 3) := dk_183 0 85 (dk_at dksL_law_0 19 rfl rfl)
theorem dL_law_22 : decode cL_law 22 = .ok (.astore_n 1, 1) := dk_76 (dk_at dksL_law_0 22 rfl rfl)
theorem dL_law_23 : decode cL_law 23 = .ok (.new 88, 3) := dk_187 0 88 (dk_at dksL_law_1 0 rfl rfl)
theorem dL_law_26 : decode cL_law 26 = .ok (.dup, 1) := dk_89 (dk_at dksL_law_1 3 rfl rfl)
theorem dL_law_27 : decode cL_law 27 = .ok (.aload_n 0, 1) := dk_42 (dk_at dksL_law_1 4 rfl rfl)
theorem dL_law_28 : decode cL_law 28 = .ok (.iconst 0, 1) := dk_3 (dk_at dksL_law_1 5 rfl rfl)
theorem dL_law_29 : decode cL_law 29 = .ok (.invokestatic 79, 3) := dk_184 0 79 (dk_at dksL_law_1 6 rfl rfl)
theorem dL_law_32 : decode cL_law 32 = .ok (.aload_n 0, 1) := dk_42 (dk_at dksL_law_1 9 rfl rfl)
theorem dL_law_33 : decode cL_law 33 = .ok (.iconst 1, 1) := dk_4 (dk_at dksL_law_1 10 rfl rfl)
theorem dL_law_34 : decode cL_law 34 = .ok (.invokestatic 79, 3) := dk_184 0 79 (dk_at dksL_law_1 11 rfl rfl)
theorem dL_law_37 : decode cL_law 37 = .ok (.aload_n 0, 1) := dk_42 (dk_at dksL_law_1 14 rfl rfl)
theorem dL_law_38 : decode cL_law 38 = .ok (.iconst 2, 1) := dk_5 (dk_at dksL_law_1 15 rfl rfl)
theorem dL_law_39 : decode cL_law 39 = .ok (.invokestatic 79, 3) := dk_184 0 79 (dk_at dksL_law_1 16 rfl rfl)
theorem dL_law_42 : decode cL_law 42 = .ok (.invokespecial 90, 3) := dk_183 0 90 (dk_at dksL_law_1 19 rfl rfl)
theorem dL_law_45 : decode cL_law 45 = .ok (.astore_n 2, 1) := dk_77 (dk_at dksL_law_1 22 rfl rfl)
theorem dL_law_46 : decode cL_law 46 = .ok (.iconst 1, 1) := dk_4 (dk_at dksL_law_1 23 rfl rfl)
theorem dL_law_47 : decode cL_law 47 = .ok (.newarray .long, 2) := dk_188_11 (dk_at dksL_law_2 0 rfl rfl)
theorem dL_law_49 : decode cL_law 49 = .ok (.astore_n 3, 1) := dk_78 (dk_at dksL_law_2 2 rfl rfl)
theorem dL_law_50 : decode cL_law 50 = .ok (.iconst 3, 1) := dk_6 (dk_at dksL_law_2 3 rfl rfl)
theorem dL_law_51 : decode cL_law 51 = .ok (.istore 4, 2) := dk_54 4 (dk_at dksL_law_2 4 rfl rfl)
theorem dL_law_53 : decode cL_law 53 = .ok (.iload 4, 2) := dk_21 4 (dk_at dksL_law_2 6 rfl rfl)
theorem dL_law_55 : decode cL_law 55 = .ok (.aload_n 0, 1) := dk_42 (dk_at dksL_law_2 8 rfl rfl)
theorem dL_law_56 : decode cL_law 56 = .ok (.arraylength, 1) := dk_190 (dk_at dksL_law_2 9 rfl rfl)
theorem dL_law_57 : decode cL_law 57 = .ok (.iconst 4, 1) := dk_7 (dk_at dksL_law_2 10 rfl rfl)
theorem dL_law_58 : decode cL_law 58 = .ok (.isub, 1) := dk_100 (dk_at dksL_law_2 11 rfl rfl)
theorem dL_law_59 : decode cL_law 59 = .ok (.if_icmp .gt 1387, 3) := dk_163 5 107 (dk_at dksL_law_2 12 rfl rfl)
theorem dL_law_62 : decode cL_law 62 = .ok (.aload_n 0, 1) := dk_42 (dk_at dksL_law_2 15 rfl rfl)
theorem dL_law_63 : decode cL_law 63 = .ok (.iload 4, 2) := dk_21 4 (dk_at dksL_law_2 16 rfl rfl)
theorem dL_law_65 : decode cL_law 65 = .ok (.iaload, 1) := dk_46 (dk_at dksL_law_2 18 rfl rfl)
theorem dL_law_66 : decode cL_law 66 = .ok (.bipush 31, 2) := dk_16 31 (dk_at dksL_law_2 19 rfl rfl)
theorem dL_law_68 : decode cL_law 68 = .ok (.iand, 1) := dk_126 (dk_at dksL_law_2 21 rfl rfl)
theorem dL_law_69 : decode cL_law 69 = .ok (.tableswitch 1371 0 23 #[111, 191, 235, 291, 347, 415, 471, 551, 564, 620, 676, 732, 788, 844, 857, 913, 969, 1025, 1081, 1137, 1193, 1261, 1317, 1330], 111) := by decide +kernel
theorem dL_law_180 : decode cL_law 180 = .ok (.aload_n 1, 1) := dk_43 (dk_at dksL_law_4 0 rfl rfl)
theorem dL_law_181 : decode cL_law 181 = .ok (.aload_n 0, 1) := dk_42 (dk_at dksL_law_4 1 rfl rfl)
theorem dL_law_182 : decode cL_law 182 = .ok (.iload 4, 2) := dk_21 4 (dk_at dksL_law_4 2 rfl rfl)
theorem dL_law_184 : decode cL_law 184 = .ok (.iconst 1, 1) := dk_4 (dk_at dksL_law_4 4 rfl rfl)
theorem dL_law_185 : decode cL_law 185 = .ok (.iadd, 1) := dk_96 (dk_at dksL_law_4 5 rfl rfl)
theorem dL_law_186 : decode cL_law 186 = .ok (.iaload, 1) := dk_46 (dk_at dksL_law_4 6 rfl rfl)
theorem dL_law_187 : decode cL_law 187 = .ok (.aload_n 0, 1) := dk_42 (dk_at dksL_law_4 7 rfl rfl)
theorem dL_law_188 : decode cL_law 188 = .ok (.iload 4, 2) := dk_21 4 (dk_at dksL_law_4 8 rfl rfl)
theorem dL_law_190 : decode cL_law 190 = .ok (.iconst 2, 1) := dk_5 (dk_at dksL_law_4 10 rfl rfl)
theorem dL_law_191 : decode cL_law 191 = .ok (.iadd, 1) := dk_96 (dk_at dksL_law_4 11 rfl rfl)
theorem dL_law_192 : decode cL_law 192 = .ok (.iaload, 1) := dk_46 (dk_at dksL_law_4 12 rfl rfl)
theorem dL_law_193 : decode cL_law 193 = .ok (.aload_n 0, 1) := dk_42 (dk_at dksL_law_4 13 rfl rfl)
theorem dL_law_194 : decode cL_law 194 = .ok (.iload 4, 2) := dk_21 4 (dk_at dksL_law_4 14 rfl rfl)
theorem dL_law_196 : decode cL_law 196 = .ok (.iconst 3, 1) := dk_6 (dk_at dksL_law_4 16 rfl rfl)
theorem dL_law_197 : decode cL_law 197 = .ok (.iadd, 1) := dk_96 (dk_at dksL_law_4 17 rfl rfl)
theorem dL_law_198 : decode cL_law 198 = .ok (.iaload, 1) := dk_46 (dk_at dksL_law_4 18 rfl rfl)
theorem dL_law_199 : decode cL_law 199 = .ok (.aload_n 3, 1) := dk_45 (dk_at dksL_law_4 19 rfl rfl)
theorem dL_law_200 : decode cL_law 200 = .ok (.invokestatic 91, 3) := dk_184 0 91 (dk_at dksL_law_4 20 rfl rfl)
theorem dL_law_203 : decode cL_law 203 = .ok (.istore 5, 2) := dk_54 5 (dk_at dksL_law_5 0 rfl rfl)
theorem dL_law_205 : decode cL_law 205 = .ok (.aload_n 2, 1) := dk_44 (dk_at dksL_law_5 2 rfl rfl)
theorem dL_law_206 : decode cL_law 206 = .ok (.aload_n 0, 1) := dk_42 (dk_at dksL_law_5 3 rfl rfl)
theorem dL_law_207 : decode cL_law 207 = .ok (.iload 4, 2) := dk_21 4 (dk_at dksL_law_5 4 rfl rfl)
theorem dL_law_209 : decode cL_law 209 = .ok (.iconst 1, 1) := dk_4 (dk_at dksL_law_5 6 rfl rfl)
theorem dL_law_210 : decode cL_law 210 = .ok (.iadd, 1) := dk_96 (dk_at dksL_law_5 7 rfl rfl)
theorem dL_law_211 : decode cL_law 211 = .ok (.iaload, 1) := dk_46 (dk_at dksL_law_5 8 rfl rfl)
theorem dL_law_212 : decode cL_law 212 = .ok (.aload_n 0, 1) := dk_42 (dk_at dksL_law_5 9 rfl rfl)
theorem dL_law_213 : decode cL_law 213 = .ok (.iload 4, 2) := dk_21 4 (dk_at dksL_law_5 10 rfl rfl)
theorem dL_law_215 : decode cL_law 215 = .ok (.iconst 2, 1) := dk_5 (dk_at dksL_law_5 12 rfl rfl)
theorem dL_law_216 : decode cL_law 216 = .ok (.iadd, 1) := dk_96 (dk_at dksL_law_5 13 rfl rfl)
theorem dL_law_217 : decode cL_law 217 = .ok (.iaload, 1) := dk_46 (dk_at dksL_law_5 14 rfl rfl)
theorem dL_law_218 : decode cL_law 218 = .ok (.aload_n 0, 1) := dk_42 (dk_at dksL_law_5 15 rfl rfl)
theorem dL_law_219 : decode cL_law 219 = .ok (.iload 4, 2) := dk_21 4 (dk_at dksL_law_5 16 rfl rfl)
theorem dL_law_221 : decode cL_law 221 = .ok (.iconst 3, 1) := dk_6 (dk_at dksL_law_5 18 rfl rfl)
theorem dL_law_222 : decode cL_law 222 = .ok (.iadd, 1) := dk_96 (dk_at dksL_law_5 19 rfl rfl)
theorem dL_law_223 : decode cL_law 223 = .ok (.iaload, 1) := dk_46 (dk_at dksL_law_5 20 rfl rfl)
theorem dL_law_224 : decode cL_law 224 = .ok (.invokevirtual 94, 3) := dk_182 0 94 (dk_at dksL_law_5 21 rfl rfl)
theorem dL_law_227 : decode cL_law 227 = .ok (.istore 6, 2) := dk_54 6 (dk_at dksL_law_6 0 rfl rfl)
theorem dL_law_229 : decode cL_law 229 = .ok (.aload_n 2, 1) := dk_44 (dk_at dksL_law_6 2 rfl rfl)
theorem dL_law_230 : decode cL_law 230 = .ok (.invokevirtual 95, 3) := dk_182 0 95 (dk_at dksL_law_6 3 rfl rfl)
theorem dL_law_233 : decode cL_law 233 = .ok (.iload 5, 2) := dk_21 5 (dk_at dksL_law_6 6 rfl rfl)
theorem dL_law_235 : decode cL_law 235 = .ok (.if_icmp .eq 5, 3) := dk_159 0 5 (dk_at dksL_law_6 8 rfl rfl)
theorem dL_law_238 : decode cL_law 238 = .ok (.iconst 0, 1) := dk_3 (dk_at dksL_law_6 11 rfl rfl)
theorem dL_law_239 : decode cL_law 239 = .ok (.ireturn, 1) := dk_172 (dk_at dksL_law_6 12 rfl rfl)
theorem dL_law_240 : decode cL_law 240 = .ok (.iload 5, 2) := dk_21 5 (dk_at dksL_law_6 13 rfl rfl)
theorem dL_law_242 : decode cL_law 242 = .ok (.ifCond .ne 15, 3) := dk_154 0 15 (dk_at dksL_law_6 15 rfl rfl)
theorem dL_law_245 : decode cL_law 245 = .ok (.aload_n 3, 1) := dk_45 (dk_at dksL_law_6 18 rfl rfl)
theorem dL_law_246 : decode cL_law 246 = .ok (.iconst 0, 1) := dk_3 (dk_at dksL_law_6 19 rfl rfl)
theorem dL_law_247 : decode cL_law 247 = .ok (.laload, 1) := dk_47 (dk_at dksL_law_6 20 rfl rfl)
theorem dL_law_248 : decode cL_law 248 = .ok (.iload 6, 2) := dk_21 6 (dk_at dksL_law_6 21 rfl rfl)
theorem dL_law_250 : decode cL_law 250 = .ok (.i2l, 1) := dk_133 (dk_at dksL_law_6 23 rfl rfl)
theorem dL_law_251 : decode cL_law 251 = .ok (.lcmp, 1) := dk_148 (dk_at dksL_law_7 0 rfl rfl)
theorem dL_law_252 : decode cL_law 252 = .ok (.ifCond .eq 5, 3) := dk_153 0 5 (dk_at dksL_law_7 1 rfl rfl)
theorem dL_law_255 : decode cL_law 255 = .ok (.iconst 0, 1) := dk_3 (dk_at dksL_law_7 4 rfl rfl)
theorem dL_law_256 : decode cL_law 256 = .ok (.ireturn, 1) := dk_172 (dk_at dksL_law_7 5 rfl rfl)
theorem dL_law_257 : decode cL_law 257 = .ok (.goto 1183, 3) := dk_167 4 159 (dk_at dksL_law_7 6 rfl rfl)
theorem dL_law_260 : decode cL_law 260 = .ok (.aload_n 1, 1) := dk_43 (dk_at dksL_law_7 9 rfl rfl)
theorem dL_law_261 : decode cL_law 261 = .ok (.aload_n 3, 1) := dk_45 (dk_at dksL_law_7 10 rfl rfl)
theorem dL_law_262 : decode cL_law 262 = .ok (.invokestatic 98, 3) := dk_184 0 98 (dk_at dksL_law_7 11 rfl rfl)
theorem dL_law_265 : decode cL_law 265 = .ok (.istore 5, 2) := dk_54 5 (dk_at dksL_law_7 14 rfl rfl)
theorem dL_law_267 : decode cL_law 267 = .ok (.aload_n 2, 1) := dk_44 (dk_at dksL_law_7 16 rfl rfl)
theorem dL_law_268 : decode cL_law 268 = .ok (.invokevirtual 101, 3) := dk_182 0 101 (dk_at dksL_law_7 17 rfl rfl)
theorem dL_law_271 : decode cL_law 271 = .ok (.istore 6, 2) := dk_54 6 (dk_at dksL_law_7 20 rfl rfl)
theorem dL_law_273 : decode cL_law 273 = .ok (.aload_n 2, 1) := dk_44 (dk_at dksL_law_7 22 rfl rfl)
theorem dL_law_274 : decode cL_law 274 = .ok (.invokevirtual 95, 3) := dk_182 0 95 (dk_at dksL_law_8 0 rfl rfl)
theorem dL_law_277 : decode cL_law 277 = .ok (.iload 5, 2) := dk_21 5 (dk_at dksL_law_8 3 rfl rfl)
theorem dL_law_279 : decode cL_law 279 = .ok (.if_icmp .eq 5, 3) := dk_159 0 5 (dk_at dksL_law_8 5 rfl rfl)
theorem dL_law_282 : decode cL_law 282 = .ok (.iconst 0, 1) := dk_3 (dk_at dksL_law_8 8 rfl rfl)
theorem dL_law_283 : decode cL_law 283 = .ok (.ireturn, 1) := dk_172 (dk_at dksL_law_8 9 rfl rfl)
theorem dL_law_284 : decode cL_law 284 = .ok (.iload 5, 2) := dk_21 5 (dk_at dksL_law_8 10 rfl rfl)
theorem dL_law_286 : decode cL_law 286 = .ok (.ifCond .ne 15, 3) := dk_154 0 15 (dk_at dksL_law_8 12 rfl rfl)
theorem dL_law_289 : decode cL_law 289 = .ok (.aload_n 3, 1) := dk_45 (dk_at dksL_law_8 15 rfl rfl)
theorem dL_law_290 : decode cL_law 290 = .ok (.iconst 0, 1) := dk_3 (dk_at dksL_law_8 16 rfl rfl)
theorem dL_law_291 : decode cL_law 291 = .ok (.laload, 1) := dk_47 (dk_at dksL_law_8 17 rfl rfl)
theorem dL_law_292 : decode cL_law 292 = .ok (.iload 6, 2) := dk_21 6 (dk_at dksL_law_8 18 rfl rfl)
theorem dL_law_294 : decode cL_law 294 = .ok (.i2l, 1) := dk_133 (dk_at dksL_law_8 20 rfl rfl)
theorem dL_law_295 : decode cL_law 295 = .ok (.lcmp, 1) := dk_148 (dk_at dksL_law_8 21 rfl rfl)
theorem dL_law_296 : decode cL_law 296 = .ok (.ifCond .eq 5, 3) := dk_153 0 5 (dk_at dksL_law_9 0 rfl rfl)
theorem dL_law_299 : decode cL_law 299 = .ok (.iconst 0, 1) := dk_3 (dk_at dksL_law_9 3 rfl rfl)
theorem dL_law_300 : decode cL_law 300 = .ok (.ireturn, 1) := dk_172 (dk_at dksL_law_9 4 rfl rfl)
theorem dL_law_301 : decode cL_law 301 = .ok (.goto 1139, 3) := dk_167 4 115 (dk_at dksL_law_9 5 rfl rfl)
theorem dL_law_304 : decode cL_law 304 = .ok (.aload_n 1, 1) := dk_43 (dk_at dksL_law_9 8 rfl rfl)
theorem dL_law_305 : decode cL_law 305 = .ok (.aload_n 0, 1) := dk_42 (dk_at dksL_law_9 9 rfl rfl)
theorem dL_law_306 : decode cL_law 306 = .ok (.iload 4, 2) := dk_21 4 (dk_at dksL_law_9 10 rfl rfl)
theorem dL_law_308 : decode cL_law 308 = .ok (.iconst 1, 1) := dk_4 (dk_at dksL_law_9 12 rfl rfl)
theorem dL_law_309 : decode cL_law 309 = .ok (.iadd, 1) := dk_96 (dk_at dksL_law_9 13 rfl rfl)
theorem dL_law_310 : decode cL_law 310 = .ok (.iaload, 1) := dk_46 (dk_at dksL_law_9 14 rfl rfl)
theorem dL_law_311 : decode cL_law 311 = .ok (.aload_n 3, 1) := dk_45 (dk_at dksL_law_9 15 rfl rfl)
theorem dL_law_312 : decode cL_law 312 = .ok (.invokestatic 102, 3) := dk_184 0 102 (dk_at dksL_law_9 16 rfl rfl)
theorem dL_law_315 : decode cL_law 315 = .ok (.istore 5, 2) := dk_54 5 (dk_at dksL_law_9 19 rfl rfl)
theorem dL_law_317 : decode cL_law 317 = .ok (.aload_n 2, 1) := dk_44 (dk_at dksL_law_9 21 rfl rfl)
theorem dL_law_318 : decode cL_law 318 = .ok (.aload_n 0, 1) := dk_42 (dk_at dksL_law_9 22 rfl rfl)
theorem dL_law_319 : decode cL_law 319 = .ok (.iload 4, 2) := dk_21 4 (dk_at dksL_law_10 0 rfl rfl)
theorem dL_law_321 : decode cL_law 321 = .ok (.iconst 1, 1) := dk_4 (dk_at dksL_law_10 2 rfl rfl)
theorem dL_law_322 : decode cL_law 322 = .ok (.iadd, 1) := dk_96 (dk_at dksL_law_10 3 rfl rfl)
theorem dL_law_323 : decode cL_law 323 = .ok (.iaload, 1) := dk_46 (dk_at dksL_law_10 4 rfl rfl)
theorem dL_law_324 : decode cL_law 324 = .ok (.invokevirtual 105, 3) := dk_182 0 105 (dk_at dksL_law_10 5 rfl rfl)
theorem dL_law_327 : decode cL_law 327 = .ok (.istore 6, 2) := dk_54 6 (dk_at dksL_law_10 8 rfl rfl)
theorem dL_law_329 : decode cL_law 329 = .ok (.aload_n 2, 1) := dk_44 (dk_at dksL_law_10 10 rfl rfl)
theorem dL_law_330 : decode cL_law 330 = .ok (.invokevirtual 95, 3) := dk_182 0 95 (dk_at dksL_law_10 11 rfl rfl)
theorem dL_law_333 : decode cL_law 333 = .ok (.iload 5, 2) := dk_21 5 (dk_at dksL_law_10 14 rfl rfl)
theorem dL_law_335 : decode cL_law 335 = .ok (.if_icmp .eq 5, 3) := dk_159 0 5 (dk_at dksL_law_10 16 rfl rfl)
theorem dL_law_338 : decode cL_law 338 = .ok (.iconst 0, 1) := dk_3 (dk_at dksL_law_10 19 rfl rfl)
theorem dL_law_339 : decode cL_law 339 = .ok (.ireturn, 1) := dk_172 (dk_at dksL_law_10 20 rfl rfl)
theorem dL_law_340 : decode cL_law 340 = .ok (.iload 5, 2) := dk_21 5 (dk_at dksL_law_10 21 rfl rfl)
theorem dL_law_342 : decode cL_law 342 = .ok (.ifCond .ne 15, 3) := dk_154 0 15 (dk_at dksL_law_11 0 rfl rfl)
theorem dL_law_345 : decode cL_law 345 = .ok (.aload_n 3, 1) := dk_45 (dk_at dksL_law_11 3 rfl rfl)
theorem dL_law_346 : decode cL_law 346 = .ok (.iconst 0, 1) := dk_3 (dk_at dksL_law_11 4 rfl rfl)
theorem dL_law_347 : decode cL_law 347 = .ok (.laload, 1) := dk_47 (dk_at dksL_law_11 5 rfl rfl)
theorem dL_law_348 : decode cL_law 348 = .ok (.iload 6, 2) := dk_21 6 (dk_at dksL_law_11 6 rfl rfl)
theorem dL_law_350 : decode cL_law 350 = .ok (.i2l, 1) := dk_133 (dk_at dksL_law_11 8 rfl rfl)
theorem dL_law_351 : decode cL_law 351 = .ok (.lcmp, 1) := dk_148 (dk_at dksL_law_11 9 rfl rfl)
theorem dL_law_352 : decode cL_law 352 = .ok (.ifCond .eq 5, 3) := dk_153 0 5 (dk_at dksL_law_11 10 rfl rfl)
theorem dL_law_355 : decode cL_law 355 = .ok (.iconst 0, 1) := dk_3 (dk_at dksL_law_11 13 rfl rfl)
theorem dL_law_356 : decode cL_law 356 = .ok (.ireturn, 1) := dk_172 (dk_at dksL_law_11 14 rfl rfl)
theorem dL_law_357 : decode cL_law 357 = .ok (.goto 1083, 3) := dk_167 4 59 (dk_at dksL_law_11 15 rfl rfl)
theorem dL_law_360 : decode cL_law 360 = .ok (.aload_n 1, 1) := dk_43 (dk_at dksL_law_11 18 rfl rfl)
theorem dL_law_361 : decode cL_law 361 = .ok (.aload_n 0, 1) := dk_42 (dk_at dksL_law_11 19 rfl rfl)
theorem dL_law_362 : decode cL_law 362 = .ok (.iload 4, 2) := dk_21 4 (dk_at dksL_law_11 20 rfl rfl)
theorem dL_law_364 : decode cL_law 364 = .ok (.iconst 1, 1) := dk_4 (dk_at dksL_law_11 22 rfl rfl)
theorem dL_law_365 : decode cL_law 365 = .ok (.iadd, 1) := dk_96 (dk_at dksL_law_11 23 rfl rfl)
theorem dL_law_366 : decode cL_law 366 = .ok (.iaload, 1) := dk_46 (dk_at dksL_law_12 0 rfl rfl)
theorem dL_law_367 : decode cL_law 367 = .ok (.aload_n 3, 1) := dk_45 (dk_at dksL_law_12 1 rfl rfl)
theorem dL_law_368 : decode cL_law 368 = .ok (.invokestatic 106, 3) := dk_184 0 106 (dk_at dksL_law_12 2 rfl rfl)
theorem dL_law_371 : decode cL_law 371 = .ok (.istore 5, 2) := dk_54 5 (dk_at dksL_law_12 5 rfl rfl)
theorem dL_law_373 : decode cL_law 373 = .ok (.aload_n 2, 1) := dk_44 (dk_at dksL_law_12 7 rfl rfl)
theorem dL_law_374 : decode cL_law 374 = .ok (.aload_n 0, 1) := dk_42 (dk_at dksL_law_12 8 rfl rfl)
theorem dL_law_375 : decode cL_law 375 = .ok (.iload 4, 2) := dk_21 4 (dk_at dksL_law_12 9 rfl rfl)
theorem dL_law_377 : decode cL_law 377 = .ok (.iconst 1, 1) := dk_4 (dk_at dksL_law_12 11 rfl rfl)
theorem dL_law_378 : decode cL_law 378 = .ok (.iadd, 1) := dk_96 (dk_at dksL_law_12 12 rfl rfl)
theorem dL_law_379 : decode cL_law 379 = .ok (.iaload, 1) := dk_46 (dk_at dksL_law_12 13 rfl rfl)
theorem dL_law_380 : decode cL_law 380 = .ok (.invokevirtual 108, 3) := dk_182 0 108 (dk_at dksL_law_12 14 rfl rfl)
theorem dL_law_383 : decode cL_law 383 = .ok (.istore 6, 2) := dk_54 6 (dk_at dksL_law_12 17 rfl rfl)
theorem dL_law_385 : decode cL_law 385 = .ok (.aload_n 2, 1) := dk_44 (dk_at dksL_law_12 19 rfl rfl)
theorem dL_law_386 : decode cL_law 386 = .ok (.invokevirtual 95, 3) := dk_182 0 95 (dk_at dksL_law_12 20 rfl rfl)
theorem dL_law_389 : decode cL_law 389 = .ok (.iload 5, 2) := dk_21 5 (dk_at dksL_law_13 0 rfl rfl)
theorem dL_law_391 : decode cL_law 391 = .ok (.if_icmp .eq 5, 3) := dk_159 0 5 (dk_at dksL_law_13 2 rfl rfl)
theorem dL_law_394 : decode cL_law 394 = .ok (.iconst 0, 1) := dk_3 (dk_at dksL_law_13 5 rfl rfl)
theorem dL_law_395 : decode cL_law 395 = .ok (.ireturn, 1) := dk_172 (dk_at dksL_law_13 6 rfl rfl)
theorem dL_law_396 : decode cL_law 396 = .ok (.iload 5, 2) := dk_21 5 (dk_at dksL_law_13 7 rfl rfl)
theorem dL_law_398 : decode cL_law 398 = .ok (.ifCond .ne 15, 3) := dk_154 0 15 (dk_at dksL_law_13 9 rfl rfl)
theorem dL_law_401 : decode cL_law 401 = .ok (.aload_n 3, 1) := dk_45 (dk_at dksL_law_13 12 rfl rfl)
theorem dL_law_402 : decode cL_law 402 = .ok (.iconst 0, 1) := dk_3 (dk_at dksL_law_13 13 rfl rfl)
theorem dL_law_403 : decode cL_law 403 = .ok (.laload, 1) := dk_47 (dk_at dksL_law_13 14 rfl rfl)
theorem dL_law_404 : decode cL_law 404 = .ok (.iload 6, 2) := dk_21 6 (dk_at dksL_law_13 15 rfl rfl)
theorem dL_law_406 : decode cL_law 406 = .ok (.i2l, 1) := dk_133 (dk_at dksL_law_13 17 rfl rfl)
theorem dL_law_407 : decode cL_law 407 = .ok (.lcmp, 1) := dk_148 (dk_at dksL_law_13 18 rfl rfl)
theorem dL_law_408 : decode cL_law 408 = .ok (.ifCond .eq 5, 3) := dk_153 0 5 (dk_at dksL_law_13 19 rfl rfl)
theorem dL_law_411 : decode cL_law 411 = .ok (.iconst 0, 1) := dk_3 (dk_at dksL_law_13 22 rfl rfl)
theorem dL_law_412 : decode cL_law 412 = .ok (.ireturn, 1) := dk_172 (dk_at dksL_law_13 23 rfl rfl)
theorem dL_law_413 : decode cL_law 413 = .ok (.goto 1027, 3) := dk_167 4 3 (dk_at dksL_law_14 0 rfl rfl)
theorem dL_law_416 : decode cL_law 416 = .ok (.aload_n 1, 1) := dk_43 (dk_at dksL_law_14 3 rfl rfl)
theorem dL_law_417 : decode cL_law 417 = .ok (.aload_n 0, 1) := dk_42 (dk_at dksL_law_14 4 rfl rfl)
theorem dL_law_418 : decode cL_law 418 = .ok (.iload 4, 2) := dk_21 4 (dk_at dksL_law_14 5 rfl rfl)
theorem dL_law_420 : decode cL_law 420 = .ok (.iconst 1, 1) := dk_4 (dk_at dksL_law_14 7 rfl rfl)
theorem dL_law_421 : decode cL_law 421 = .ok (.iadd, 1) := dk_96 (dk_at dksL_law_14 8 rfl rfl)
theorem dL_law_422 : decode cL_law 422 = .ok (.iaload, 1) := dk_46 (dk_at dksL_law_14 9 rfl rfl)
theorem dL_law_423 : decode cL_law 423 = .ok (.aload_n 0, 1) := dk_42 (dk_at dksL_law_14 10 rfl rfl)
theorem dL_law_424 : decode cL_law 424 = .ok (.iload 4, 2) := dk_21 4 (dk_at dksL_law_14 11 rfl rfl)
theorem dL_law_426 : decode cL_law 426 = .ok (.iconst 2, 1) := dk_5 (dk_at dksL_law_14 13 rfl rfl)
theorem dL_law_427 : decode cL_law 427 = .ok (.iadd, 1) := dk_96 (dk_at dksL_law_14 14 rfl rfl)
theorem dL_law_428 : decode cL_law 428 = .ok (.iaload, 1) := dk_46 (dk_at dksL_law_14 15 rfl rfl)
theorem dL_law_429 : decode cL_law 429 = .ok (.aload_n 3, 1) := dk_45 (dk_at dksL_law_14 16 rfl rfl)
theorem dL_law_430 : decode cL_law 430 = .ok (.invokestatic 109, 3) := dk_184 0 109 (dk_at dksL_law_14 17 rfl rfl)
theorem dL_law_433 : decode cL_law 433 = .ok (.istore 5, 2) := dk_54 5 (dk_at dksL_law_14 20 rfl rfl)
theorem dL_law_435 : decode cL_law 435 = .ok (.aload_n 2, 1) := dk_44 (dk_at dksL_law_14 22 rfl rfl)
theorem dL_law_436 : decode cL_law 436 = .ok (.aload_n 0, 1) := dk_42 (dk_at dksL_law_14 23 rfl rfl)
theorem dL_law_437 : decode cL_law 437 = .ok (.iload 4, 2) := dk_21 4 (dk_at dksL_law_15 0 rfl rfl)
theorem dL_law_439 : decode cL_law 439 = .ok (.iconst 1, 1) := dk_4 (dk_at dksL_law_15 2 rfl rfl)
theorem dL_law_440 : decode cL_law 440 = .ok (.iadd, 1) := dk_96 (dk_at dksL_law_15 3 rfl rfl)
theorem dL_law_441 : decode cL_law 441 = .ok (.iaload, 1) := dk_46 (dk_at dksL_law_15 4 rfl rfl)
theorem dL_law_442 : decode cL_law 442 = .ok (.aload_n 0, 1) := dk_42 (dk_at dksL_law_15 5 rfl rfl)
theorem dL_law_443 : decode cL_law 443 = .ok (.iload 4, 2) := dk_21 4 (dk_at dksL_law_15 6 rfl rfl)
theorem dL_law_445 : decode cL_law 445 = .ok (.iconst 2, 1) := dk_5 (dk_at dksL_law_15 8 rfl rfl)
theorem dL_law_446 : decode cL_law 446 = .ok (.iadd, 1) := dk_96 (dk_at dksL_law_15 9 rfl rfl)
theorem dL_law_447 : decode cL_law 447 = .ok (.iaload, 1) := dk_46 (dk_at dksL_law_15 10 rfl rfl)
theorem dL_law_448 : decode cL_law 448 = .ok (.invokevirtual 112, 3) := dk_182 0 112 (dk_at dksL_law_15 11 rfl rfl)
theorem dL_law_451 : decode cL_law 451 = .ok (.istore 6, 2) := dk_54 6 (dk_at dksL_law_15 14 rfl rfl)
theorem dL_law_453 : decode cL_law 453 = .ok (.aload_n 2, 1) := dk_44 (dk_at dksL_law_15 16 rfl rfl)
theorem dL_law_454 : decode cL_law 454 = .ok (.invokevirtual 95, 3) := dk_182 0 95 (dk_at dksL_law_15 17 rfl rfl)
theorem dL_law_457 : decode cL_law 457 = .ok (.iload 5, 2) := dk_21 5 (dk_at dksL_law_15 20 rfl rfl)
theorem dL_law_459 : decode cL_law 459 = .ok (.if_icmp .eq 5, 3) := dk_159 0 5 (dk_at dksL_law_16 0 rfl rfl)
theorem dL_law_462 : decode cL_law 462 = .ok (.iconst 0, 1) := dk_3 (dk_at dksL_law_16 3 rfl rfl)
theorem dL_law_463 : decode cL_law 463 = .ok (.ireturn, 1) := dk_172 (dk_at dksL_law_16 4 rfl rfl)
theorem dL_law_464 : decode cL_law 464 = .ok (.iload 5, 2) := dk_21 5 (dk_at dksL_law_16 5 rfl rfl)
theorem dL_law_466 : decode cL_law 466 = .ok (.ifCond .ne 15, 3) := dk_154 0 15 (dk_at dksL_law_16 7 rfl rfl)
theorem dL_law_469 : decode cL_law 469 = .ok (.aload_n 3, 1) := dk_45 (dk_at dksL_law_16 10 rfl rfl)
theorem dL_law_470 : decode cL_law 470 = .ok (.iconst 0, 1) := dk_3 (dk_at dksL_law_16 11 rfl rfl)
theorem dL_law_471 : decode cL_law 471 = .ok (.laload, 1) := dk_47 (dk_at dksL_law_16 12 rfl rfl)
theorem dL_law_472 : decode cL_law 472 = .ok (.iload 6, 2) := dk_21 6 (dk_at dksL_law_16 13 rfl rfl)
theorem dL_law_474 : decode cL_law 474 = .ok (.i2l, 1) := dk_133 (dk_at dksL_law_16 15 rfl rfl)
theorem dL_law_475 : decode cL_law 475 = .ok (.lcmp, 1) := dk_148 (dk_at dksL_law_16 16 rfl rfl)
theorem dL_law_476 : decode cL_law 476 = .ok (.ifCond .eq 5, 3) := dk_153 0 5 (dk_at dksL_law_16 17 rfl rfl)
theorem dL_law_479 : decode cL_law 479 = .ok (.iconst 0, 1) := dk_3 (dk_at dksL_law_16 20 rfl rfl)
theorem dL_law_480 : decode cL_law 480 = .ok (.ireturn, 1) := dk_172 (dk_at dksL_law_16 21 rfl rfl)
theorem dL_law_481 : decode cL_law 481 = .ok (.goto 959, 3) := dk_167 3 191 (dk_at dksL_law_17 0 rfl rfl)
theorem dL_law_484 : decode cL_law 484 = .ok (.aload_n 1, 1) := dk_43 (dk_at dksL_law_17 3 rfl rfl)
theorem dL_law_485 : decode cL_law 485 = .ok (.aload_n 0, 1) := dk_42 (dk_at dksL_law_17 4 rfl rfl)
theorem dL_law_486 : decode cL_law 486 = .ok (.iload 4, 2) := dk_21 4 (dk_at dksL_law_17 5 rfl rfl)
theorem dL_law_488 : decode cL_law 488 = .ok (.iconst 1, 1) := dk_4 (dk_at dksL_law_17 7 rfl rfl)
theorem dL_law_489 : decode cL_law 489 = .ok (.iadd, 1) := dk_96 (dk_at dksL_law_17 8 rfl rfl)
theorem dL_law_490 : decode cL_law 490 = .ok (.iaload, 1) := dk_46 (dk_at dksL_law_17 9 rfl rfl)
theorem dL_law_491 : decode cL_law 491 = .ok (.aload_n 3, 1) := dk_45 (dk_at dksL_law_17 10 rfl rfl)
theorem dL_law_492 : decode cL_law 492 = .ok (.invokestatic 113, 3) := dk_184 0 113 (dk_at dksL_law_17 11 rfl rfl)
theorem dL_law_495 : decode cL_law 495 = .ok (.istore 5, 2) := dk_54 5 (dk_at dksL_law_17 14 rfl rfl)
theorem dL_law_497 : decode cL_law 497 = .ok (.aload_n 2, 1) := dk_44 (dk_at dksL_law_17 16 rfl rfl)
theorem dL_law_498 : decode cL_law 498 = .ok (.aload_n 0, 1) := dk_42 (dk_at dksL_law_17 17 rfl rfl)
theorem dL_law_499 : decode cL_law 499 = .ok (.iload 4, 2) := dk_21 4 (dk_at dksL_law_17 18 rfl rfl)
theorem dL_law_501 : decode cL_law 501 = .ok (.iconst 1, 1) := dk_4 (dk_at dksL_law_17 20 rfl rfl)
theorem dL_law_502 : decode cL_law 502 = .ok (.iadd, 1) := dk_96 (dk_at dksL_law_17 21 rfl rfl)
theorem dL_law_503 : decode cL_law 503 = .ok (.iaload, 1) := dk_46 (dk_at dksL_law_17 22 rfl rfl)
theorem dL_law_504 : decode cL_law 504 = .ok (.invokevirtual 115, 3) := dk_182 0 115 (dk_at dksL_law_18 0 rfl rfl)
theorem dL_law_507 : decode cL_law 507 = .ok (.istore 6, 2) := dk_54 6 (dk_at dksL_law_18 3 rfl rfl)
theorem dL_law_509 : decode cL_law 509 = .ok (.aload_n 2, 1) := dk_44 (dk_at dksL_law_18 5 rfl rfl)
theorem dL_law_510 : decode cL_law 510 = .ok (.invokevirtual 95, 3) := dk_182 0 95 (dk_at dksL_law_18 6 rfl rfl)
theorem dL_law_513 : decode cL_law 513 = .ok (.iload 5, 2) := dk_21 5 (dk_at dksL_law_18 9 rfl rfl)
theorem dL_law_515 : decode cL_law 515 = .ok (.if_icmp .eq 5, 3) := dk_159 0 5 (dk_at dksL_law_18 11 rfl rfl)
theorem dL_law_518 : decode cL_law 518 = .ok (.iconst 0, 1) := dk_3 (dk_at dksL_law_18 14 rfl rfl)
theorem dL_law_519 : decode cL_law 519 = .ok (.ireturn, 1) := dk_172 (dk_at dksL_law_18 15 rfl rfl)
theorem dL_law_520 : decode cL_law 520 = .ok (.iload 5, 2) := dk_21 5 (dk_at dksL_law_18 16 rfl rfl)
theorem dL_law_522 : decode cL_law 522 = .ok (.ifCond .ne 15, 3) := dk_154 0 15 (dk_at dksL_law_18 18 rfl rfl)
theorem dL_law_525 : decode cL_law 525 = .ok (.aload_n 3, 1) := dk_45 (dk_at dksL_law_18 21 rfl rfl)
theorem dL_law_526 : decode cL_law 526 = .ok (.iconst 0, 1) := dk_3 (dk_at dksL_law_18 22 rfl rfl)
theorem dL_law_527 : decode cL_law 527 = .ok (.laload, 1) := dk_47 (dk_at dksL_law_18 23 rfl rfl)
theorem dL_law_528 : decode cL_law 528 = .ok (.iload 6, 2) := dk_21 6 (dk_at dksL_law_19 0 rfl rfl)
theorem dL_law_530 : decode cL_law 530 = .ok (.i2l, 1) := dk_133 (dk_at dksL_law_19 2 rfl rfl)
theorem dL_law_531 : decode cL_law 531 = .ok (.lcmp, 1) := dk_148 (dk_at dksL_law_19 3 rfl rfl)
theorem dL_law_532 : decode cL_law 532 = .ok (.ifCond .eq 5, 3) := dk_153 0 5 (dk_at dksL_law_19 4 rfl rfl)
theorem dL_law_535 : decode cL_law 535 = .ok (.iconst 0, 1) := dk_3 (dk_at dksL_law_19 7 rfl rfl)
theorem dL_law_536 : decode cL_law 536 = .ok (.ireturn, 1) := dk_172 (dk_at dksL_law_19 8 rfl rfl)
theorem dL_law_537 : decode cL_law 537 = .ok (.goto 903, 3) := dk_167 3 135 (dk_at dksL_law_19 9 rfl rfl)
theorem dL_law_540 : decode cL_law 540 = .ok (.aload_n 1, 1) := dk_43 (dk_at dksL_law_19 12 rfl rfl)
theorem dL_law_541 : decode cL_law 541 = .ok (.aload_n 0, 1) := dk_42 (dk_at dksL_law_19 13 rfl rfl)
theorem dL_law_542 : decode cL_law 542 = .ok (.iload 4, 2) := dk_21 4 (dk_at dksL_law_19 14 rfl rfl)
theorem dL_law_544 : decode cL_law 544 = .ok (.iconst 1, 1) := dk_4 (dk_at dksL_law_19 16 rfl rfl)
theorem dL_law_545 : decode cL_law 545 = .ok (.iadd, 1) := dk_96 (dk_at dksL_law_19 17 rfl rfl)
theorem dL_law_546 : decode cL_law 546 = .ok (.iaload, 1) := dk_46 (dk_at dksL_law_19 18 rfl rfl)
theorem dL_law_547 : decode cL_law 547 = .ok (.aload_n 0, 1) := dk_42 (dk_at dksL_law_19 19 rfl rfl)
theorem dL_law_548 : decode cL_law 548 = .ok (.iload 4, 2) := dk_21 4 (dk_at dksL_law_19 20 rfl rfl)
theorem dL_law_550 : decode cL_law 550 = .ok (.iconst 2, 1) := dk_5 (dk_at dksL_law_19 22 rfl rfl)
theorem dL_law_551 : decode cL_law 551 = .ok (.iadd, 1) := dk_96 (dk_at dksL_law_19 23 rfl rfl)
theorem dL_law_552 : decode cL_law 552 = .ok (.iaload, 1) := dk_46 (dk_at dksL_law_20 0 rfl rfl)
theorem dL_law_553 : decode cL_law 553 = .ok (.aload_n 0, 1) := dk_42 (dk_at dksL_law_20 1 rfl rfl)
theorem dL_law_554 : decode cL_law 554 = .ok (.iload 4, 2) := dk_21 4 (dk_at dksL_law_20 2 rfl rfl)
theorem dL_law_556 : decode cL_law 556 = .ok (.iconst 3, 1) := dk_6 (dk_at dksL_law_20 4 rfl rfl)
theorem dL_law_557 : decode cL_law 557 = .ok (.iadd, 1) := dk_96 (dk_at dksL_law_20 5 rfl rfl)
theorem dL_law_558 : decode cL_law 558 = .ok (.iaload, 1) := dk_46 (dk_at dksL_law_20 6 rfl rfl)
theorem dL_law_559 : decode cL_law 559 = .ok (.aload_n 3, 1) := dk_45 (dk_at dksL_law_20 7 rfl rfl)
theorem dL_law_560 : decode cL_law 560 = .ok (.invokestatic 116, 3) := dk_184 0 116 (dk_at dksL_law_20 8 rfl rfl)
theorem dL_law_563 : decode cL_law 563 = .ok (.istore 5, 2) := dk_54 5 (dk_at dksL_law_20 11 rfl rfl)
theorem dL_law_565 : decode cL_law 565 = .ok (.aload_n 2, 1) := dk_44 (dk_at dksL_law_20 13 rfl rfl)
theorem dL_law_566 : decode cL_law 566 = .ok (.aload_n 0, 1) := dk_42 (dk_at dksL_law_20 14 rfl rfl)
theorem dL_law_567 : decode cL_law 567 = .ok (.iload 4, 2) := dk_21 4 (dk_at dksL_law_20 15 rfl rfl)
theorem dL_law_569 : decode cL_law 569 = .ok (.iconst 1, 1) := dk_4 (dk_at dksL_law_20 17 rfl rfl)
theorem dL_law_570 : decode cL_law 570 = .ok (.iadd, 1) := dk_96 (dk_at dksL_law_20 18 rfl rfl)
theorem dL_law_571 : decode cL_law 571 = .ok (.iaload, 1) := dk_46 (dk_at dksL_law_20 19 rfl rfl)
theorem dL_law_572 : decode cL_law 572 = .ok (.aload_n 0, 1) := dk_42 (dk_at dksL_law_20 20 rfl rfl)
theorem dL_law_573 : decode cL_law 573 = .ok (.iload 4, 2) := dk_21 4 (dk_at dksL_law_20 21 rfl rfl)
theorem dL_law_575 : decode cL_law 575 = .ok (.iconst 2, 1) := dk_5 (dk_at dksL_law_20 23 rfl rfl)
theorem dL_law_576 : decode cL_law 576 = .ok (.iadd, 1) := dk_96 (dk_at dksL_law_21 0 rfl rfl)
theorem dL_law_577 : decode cL_law 577 = .ok (.iaload, 1) := dk_46 (dk_at dksL_law_21 1 rfl rfl)
theorem dL_law_578 : decode cL_law 578 = .ok (.aload_n 0, 1) := dk_42 (dk_at dksL_law_21 2 rfl rfl)
theorem dL_law_579 : decode cL_law 579 = .ok (.iload 4, 2) := dk_21 4 (dk_at dksL_law_21 3 rfl rfl)
theorem dL_law_581 : decode cL_law 581 = .ok (.iconst 3, 1) := dk_6 (dk_at dksL_law_21 5 rfl rfl)
theorem dL_law_582 : decode cL_law 582 = .ok (.iadd, 1) := dk_96 (dk_at dksL_law_21 6 rfl rfl)
theorem dL_law_583 : decode cL_law 583 = .ok (.iaload, 1) := dk_46 (dk_at dksL_law_21 7 rfl rfl)
theorem dL_law_584 : decode cL_law 584 = .ok (.invokevirtual 118, 3) := dk_182 0 118 (dk_at dksL_law_21 8 rfl rfl)
theorem dL_law_587 : decode cL_law 587 = .ok (.istore 6, 2) := dk_54 6 (dk_at dksL_law_21 11 rfl rfl)
theorem dL_law_589 : decode cL_law 589 = .ok (.aload_n 2, 1) := dk_44 (dk_at dksL_law_21 13 rfl rfl)
theorem dL_law_590 : decode cL_law 590 = .ok (.invokevirtual 95, 3) := dk_182 0 95 (dk_at dksL_law_21 14 rfl rfl)
theorem dL_law_593 : decode cL_law 593 = .ok (.iload 5, 2) := dk_21 5 (dk_at dksL_law_21 17 rfl rfl)
theorem dL_law_595 : decode cL_law 595 = .ok (.if_icmp .eq 5, 3) := dk_159 0 5 (dk_at dksL_law_21 19 rfl rfl)
theorem dL_law_598 : decode cL_law 598 = .ok (.iconst 0, 1) := dk_3 (dk_at dksL_law_21 22 rfl rfl)
theorem dL_law_599 : decode cL_law 599 = .ok (.ireturn, 1) := dk_172 (dk_at dksL_law_21 23 rfl rfl)
theorem dL_law_600 : decode cL_law 600 = .ok (.iload 5, 2) := dk_21 5 (dk_at dksL_law_22 0 rfl rfl)
theorem dL_law_602 : decode cL_law 602 = .ok (.ifCond .ne 15, 3) := dk_154 0 15 (dk_at dksL_law_22 2 rfl rfl)
theorem dL_law_605 : decode cL_law 605 = .ok (.aload_n 3, 1) := dk_45 (dk_at dksL_law_22 5 rfl rfl)
theorem dL_law_606 : decode cL_law 606 = .ok (.iconst 0, 1) := dk_3 (dk_at dksL_law_22 6 rfl rfl)
theorem dL_law_607 : decode cL_law 607 = .ok (.laload, 1) := dk_47 (dk_at dksL_law_22 7 rfl rfl)
theorem dL_law_608 : decode cL_law 608 = .ok (.iload 6, 2) := dk_21 6 (dk_at dksL_law_22 8 rfl rfl)
theorem dL_law_610 : decode cL_law 610 = .ok (.i2l, 1) := dk_133 (dk_at dksL_law_22 10 rfl rfl)
theorem dL_law_611 : decode cL_law 611 = .ok (.lcmp, 1) := dk_148 (dk_at dksL_law_22 11 rfl rfl)
theorem dL_law_612 : decode cL_law 612 = .ok (.ifCond .eq 5, 3) := dk_153 0 5 (dk_at dksL_law_22 12 rfl rfl)
theorem dL_law_615 : decode cL_law 615 = .ok (.iconst 0, 1) := dk_3 (dk_at dksL_law_22 15 rfl rfl)
theorem dL_law_616 : decode cL_law 616 = .ok (.ireturn, 1) := dk_172 (dk_at dksL_law_22 16 rfl rfl)
theorem dL_law_617 : decode cL_law 617 = .ok (.goto 823, 3) := dk_167 3 55 (dk_at dksL_law_22 17 rfl rfl)
theorem dL_law_620 : decode cL_law 620 = .ok (.aload_n 1, 1) := dk_43 (dk_at dksL_law_22 20 rfl rfl)
theorem dL_law_621 : decode cL_law 621 = .ok (.invokevirtual 119, 3) := dk_182 0 119 (dk_at dksL_law_22 21 rfl rfl)
theorem dL_law_624 : decode cL_law 624 = .ok (.aload_n 2, 1) := dk_44 (dk_at dksL_law_23 0 rfl rfl)
theorem dL_law_625 : decode cL_law 625 = .ok (.invokevirtual 122, 3) := dk_182 0 122 (dk_at dksL_law_23 1 rfl rfl)
theorem dL_law_628 : decode cL_law 628 = .ok (.if_icmp .eq 812, 3) := dk_159 3 44 (dk_at dksL_law_23 4 rfl rfl)
theorem dL_law_631 : decode cL_law 631 = .ok (.iconst 0, 1) := dk_3 (dk_at dksL_law_23 7 rfl rfl)
theorem dL_law_632 : decode cL_law 632 = .ok (.ireturn, 1) := dk_172 (dk_at dksL_law_23 8 rfl rfl)
theorem dL_law_633 : decode cL_law 633 = .ok (.aload_n 1, 1) := dk_43 (dk_at dksL_law_23 9 rfl rfl)
theorem dL_law_634 : decode cL_law 634 = .ok (.aload_n 0, 1) := dk_42 (dk_at dksL_law_23 10 rfl rfl)
theorem dL_law_635 : decode cL_law 635 = .ok (.iload 4, 2) := dk_21 4 (dk_at dksL_law_23 11 rfl rfl)
theorem dL_law_637 : decode cL_law 637 = .ok (.iconst 1, 1) := dk_4 (dk_at dksL_law_23 13 rfl rfl)
theorem dL_law_638 : decode cL_law 638 = .ok (.iadd, 1) := dk_96 (dk_at dksL_law_23 14 rfl rfl)
theorem dL_law_639 : decode cL_law 639 = .ok (.iaload, 1) := dk_46 (dk_at dksL_law_23 15 rfl rfl)
theorem dL_law_640 : decode cL_law 640 = .ok (.aload_n 3, 1) := dk_45 (dk_at dksL_law_23 16 rfl rfl)
theorem dL_law_641 : decode cL_law 641 = .ok (.invokestatic 123, 3) := dk_184 0 123 (dk_at dksL_law_23 17 rfl rfl)
theorem dL_law_644 : decode cL_law 644 = .ok (.istore 5, 2) := dk_54 5 (dk_at dksL_law_23 20 rfl rfl)
theorem dL_law_646 : decode cL_law 646 = .ok (.aload_n 2, 1) := dk_44 (dk_at dksL_law_23 22 rfl rfl)
theorem dL_law_647 : decode cL_law 647 = .ok (.aload_n 0, 1) := dk_42 (dk_at dksL_law_23 23 rfl rfl)
theorem dL_law_648 : decode cL_law 648 = .ok (.iload 4, 2) := dk_21 4 (dk_at dksL_law_24 0 rfl rfl)
theorem dL_law_650 : decode cL_law 650 = .ok (.iconst 1, 1) := dk_4 (dk_at dksL_law_24 2 rfl rfl)
theorem dL_law_651 : decode cL_law 651 = .ok (.iadd, 1) := dk_96 (dk_at dksL_law_24 3 rfl rfl)
theorem dL_law_652 : decode cL_law 652 = .ok (.iaload, 1) := dk_46 (dk_at dksL_law_24 4 rfl rfl)
theorem dL_law_653 : decode cL_law 653 = .ok (.invokevirtual 125, 3) := dk_182 0 125 (dk_at dksL_law_24 5 rfl rfl)
theorem dL_law_656 : decode cL_law 656 = .ok (.istore 6, 2) := dk_54 6 (dk_at dksL_law_24 8 rfl rfl)
theorem dL_law_658 : decode cL_law 658 = .ok (.aload_n 2, 1) := dk_44 (dk_at dksL_law_24 10 rfl rfl)
theorem dL_law_659 : decode cL_law 659 = .ok (.invokevirtual 95, 3) := dk_182 0 95 (dk_at dksL_law_24 11 rfl rfl)
theorem dL_law_662 : decode cL_law 662 = .ok (.iload 5, 2) := dk_21 5 (dk_at dksL_law_24 14 rfl rfl)
theorem dL_law_664 : decode cL_law 664 = .ok (.if_icmp .eq 5, 3) := dk_159 0 5 (dk_at dksL_law_24 16 rfl rfl)
theorem dL_law_667 : decode cL_law 667 = .ok (.iconst 0, 1) := dk_3 (dk_at dksL_law_24 19 rfl rfl)
theorem dL_law_668 : decode cL_law 668 = .ok (.ireturn, 1) := dk_172 (dk_at dksL_law_24 20 rfl rfl)
theorem dL_law_669 : decode cL_law 669 = .ok (.iload 5, 2) := dk_21 5 (dk_at dksL_law_24 21 rfl rfl)
theorem dL_law_671 : decode cL_law 671 = .ok (.ifCond .ne 15, 3) := dk_154 0 15 (dk_at dksL_law_25 0 rfl rfl)
theorem dL_law_674 : decode cL_law 674 = .ok (.aload_n 3, 1) := dk_45 (dk_at dksL_law_25 3 rfl rfl)
theorem dL_law_675 : decode cL_law 675 = .ok (.iconst 0, 1) := dk_3 (dk_at dksL_law_25 4 rfl rfl)
theorem dL_law_676 : decode cL_law 676 = .ok (.laload, 1) := dk_47 (dk_at dksL_law_25 5 rfl rfl)
theorem dL_law_677 : decode cL_law 677 = .ok (.iload 6, 2) := dk_21 6 (dk_at dksL_law_25 6 rfl rfl)
theorem dL_law_679 : decode cL_law 679 = .ok (.i2l, 1) := dk_133 (dk_at dksL_law_25 8 rfl rfl)
theorem dL_law_680 : decode cL_law 680 = .ok (.lcmp, 1) := dk_148 (dk_at dksL_law_25 9 rfl rfl)
theorem dL_law_681 : decode cL_law 681 = .ok (.ifCond .eq 5, 3) := dk_153 0 5 (dk_at dksL_law_25 10 rfl rfl)
theorem dL_law_684 : decode cL_law 684 = .ok (.iconst 0, 1) := dk_3 (dk_at dksL_law_25 13 rfl rfl)
theorem dL_law_685 : decode cL_law 685 = .ok (.ireturn, 1) := dk_172 (dk_at dksL_law_25 14 rfl rfl)
theorem dL_law_686 : decode cL_law 686 = .ok (.goto 754, 3) := dk_167 2 242 (dk_at dksL_law_25 15 rfl rfl)
theorem dL_law_689 : decode cL_law 689 = .ok (.aload_n 1, 1) := dk_43 (dk_at dksL_law_25 18 rfl rfl)
theorem dL_law_690 : decode cL_law 690 = .ok (.aload_n 0, 1) := dk_42 (dk_at dksL_law_25 19 rfl rfl)
theorem dL_law_691 : decode cL_law 691 = .ok (.iload 4, 2) := dk_21 4 (dk_at dksL_law_25 20 rfl rfl)
theorem dL_law_693 : decode cL_law 693 = .ok (.iconst 1, 1) := dk_4 (dk_at dksL_law_25 22 rfl rfl)
theorem dL_law_694 : decode cL_law 694 = .ok (.iadd, 1) := dk_96 (dk_at dksL_law_25 23 rfl rfl)
theorem dL_law_695 : decode cL_law 695 = .ok (.iaload, 1) := dk_46 (dk_at dksL_law_26 0 rfl rfl)
theorem dL_law_696 : decode cL_law 696 = .ok (.aload_n 3, 1) := dk_45 (dk_at dksL_law_26 1 rfl rfl)
theorem dL_law_697 : decode cL_law 697 = .ok (.invokestatic 126, 3) := dk_184 0 126 (dk_at dksL_law_26 2 rfl rfl)
theorem dL_law_700 : decode cL_law 700 = .ok (.istore 5, 2) := dk_54 5 (dk_at dksL_law_26 5 rfl rfl)
theorem dL_law_702 : decode cL_law 702 = .ok (.aload_n 2, 1) := dk_44 (dk_at dksL_law_26 7 rfl rfl)
theorem dL_law_703 : decode cL_law 703 = .ok (.aload_n 0, 1) := dk_42 (dk_at dksL_law_26 8 rfl rfl)
theorem dL_law_704 : decode cL_law 704 = .ok (.iload 4, 2) := dk_21 4 (dk_at dksL_law_26 9 rfl rfl)
theorem dL_law_706 : decode cL_law 706 = .ok (.iconst 1, 1) := dk_4 (dk_at dksL_law_26 11 rfl rfl)
theorem dL_law_707 : decode cL_law 707 = .ok (.iadd, 1) := dk_96 (dk_at dksL_law_26 12 rfl rfl)
theorem dL_law_708 : decode cL_law 708 = .ok (.iaload, 1) := dk_46 (dk_at dksL_law_26 13 rfl rfl)
theorem dL_law_709 : decode cL_law 709 = .ok (.invokevirtual 128, 3) := dk_182 0 128 (dk_at dksL_law_26 14 rfl rfl)
theorem dL_law_712 : decode cL_law 712 = .ok (.istore 6, 2) := dk_54 6 (dk_at dksL_law_26 17 rfl rfl)
theorem dL_law_714 : decode cL_law 714 = .ok (.aload_n 2, 1) := dk_44 (dk_at dksL_law_26 19 rfl rfl)
theorem dL_law_715 : decode cL_law 715 = .ok (.invokevirtual 95, 3) := dk_182 0 95 (dk_at dksL_law_26 20 rfl rfl)
theorem dL_law_718 : decode cL_law 718 = .ok (.iload 5, 2) := dk_21 5 (dk_at dksL_law_27 0 rfl rfl)
theorem dL_law_720 : decode cL_law 720 = .ok (.if_icmp .eq 5, 3) := dk_159 0 5 (dk_at dksL_law_27 2 rfl rfl)
theorem dL_law_723 : decode cL_law 723 = .ok (.iconst 0, 1) := dk_3 (dk_at dksL_law_27 5 rfl rfl)
theorem dL_law_724 : decode cL_law 724 = .ok (.ireturn, 1) := dk_172 (dk_at dksL_law_27 6 rfl rfl)
theorem dL_law_725 : decode cL_law 725 = .ok (.iload 5, 2) := dk_21 5 (dk_at dksL_law_27 7 rfl rfl)
theorem dL_law_727 : decode cL_law 727 = .ok (.ifCond .ne 15, 3) := dk_154 0 15 (dk_at dksL_law_27 9 rfl rfl)
theorem dL_law_730 : decode cL_law 730 = .ok (.aload_n 3, 1) := dk_45 (dk_at dksL_law_27 12 rfl rfl)
theorem dL_law_731 : decode cL_law 731 = .ok (.iconst 0, 1) := dk_3 (dk_at dksL_law_27 13 rfl rfl)
theorem dL_law_732 : decode cL_law 732 = .ok (.laload, 1) := dk_47 (dk_at dksL_law_27 14 rfl rfl)
theorem dL_law_733 : decode cL_law 733 = .ok (.iload 6, 2) := dk_21 6 (dk_at dksL_law_27 15 rfl rfl)
theorem dL_law_735 : decode cL_law 735 = .ok (.i2l, 1) := dk_133 (dk_at dksL_law_27 17 rfl rfl)
theorem dL_law_736 : decode cL_law 736 = .ok (.lcmp, 1) := dk_148 (dk_at dksL_law_27 18 rfl rfl)
theorem dL_law_737 : decode cL_law 737 = .ok (.ifCond .eq 5, 3) := dk_153 0 5 (dk_at dksL_law_27 19 rfl rfl)
theorem dL_law_740 : decode cL_law 740 = .ok (.iconst 0, 1) := dk_3 (dk_at dksL_law_27 22 rfl rfl)
theorem dL_law_741 : decode cL_law 741 = .ok (.ireturn, 1) := dk_172 (dk_at dksL_law_27 23 rfl rfl)
theorem dL_law_742 : decode cL_law 742 = .ok (.goto 698, 3) := dk_167 2 186 (dk_at dksL_law_28 0 rfl rfl)
theorem dL_law_745 : decode cL_law 745 = .ok (.aload_n 1, 1) := dk_43 (dk_at dksL_law_28 3 rfl rfl)
theorem dL_law_746 : decode cL_law 746 = .ok (.aload_n 0, 1) := dk_42 (dk_at dksL_law_28 4 rfl rfl)
theorem dL_law_747 : decode cL_law 747 = .ok (.iload 4, 2) := dk_21 4 (dk_at dksL_law_28 5 rfl rfl)
theorem dL_law_749 : decode cL_law 749 = .ok (.iconst 1, 1) := dk_4 (dk_at dksL_law_28 7 rfl rfl)
theorem dL_law_750 : decode cL_law 750 = .ok (.iadd, 1) := dk_96 (dk_at dksL_law_28 8 rfl rfl)
theorem dL_law_751 : decode cL_law 751 = .ok (.iaload, 1) := dk_46 (dk_at dksL_law_28 9 rfl rfl)
theorem dL_law_752 : decode cL_law 752 = .ok (.aload_n 3, 1) := dk_45 (dk_at dksL_law_28 10 rfl rfl)
theorem dL_law_753 : decode cL_law 753 = .ok (.invokestatic 129, 3) := dk_184 0 129 (dk_at dksL_law_28 11 rfl rfl)
theorem dL_law_756 : decode cL_law 756 = .ok (.istore 5, 2) := dk_54 5 (dk_at dksL_law_28 14 rfl rfl)
theorem dL_law_758 : decode cL_law 758 = .ok (.aload_n 2, 1) := dk_44 (dk_at dksL_law_28 16 rfl rfl)
theorem dL_law_759 : decode cL_law 759 = .ok (.aload_n 0, 1) := dk_42 (dk_at dksL_law_28 17 rfl rfl)
theorem dL_law_760 : decode cL_law 760 = .ok (.iload 4, 2) := dk_21 4 (dk_at dksL_law_28 18 rfl rfl)
theorem dL_law_762 : decode cL_law 762 = .ok (.iconst 1, 1) := dk_4 (dk_at dksL_law_28 20 rfl rfl)
theorem dL_law_763 : decode cL_law 763 = .ok (.iadd, 1) := dk_96 (dk_at dksL_law_28 21 rfl rfl)
theorem dL_law_764 : decode cL_law 764 = .ok (.iaload, 1) := dk_46 (dk_at dksL_law_28 22 rfl rfl)
theorem dL_law_765 : decode cL_law 765 = .ok (.invokevirtual 131, 3) := dk_182 0 131 (dk_at dksL_law_29 0 rfl rfl)
theorem dL_law_768 : decode cL_law 768 = .ok (.istore 6, 2) := dk_54 6 (dk_at dksL_law_29 3 rfl rfl)
theorem dL_law_770 : decode cL_law 770 = .ok (.aload_n 2, 1) := dk_44 (dk_at dksL_law_29 5 rfl rfl)
theorem dL_law_771 : decode cL_law 771 = .ok (.invokevirtual 95, 3) := dk_182 0 95 (dk_at dksL_law_29 6 rfl rfl)
theorem dL_law_774 : decode cL_law 774 = .ok (.iload 5, 2) := dk_21 5 (dk_at dksL_law_29 9 rfl rfl)
theorem dL_law_776 : decode cL_law 776 = .ok (.if_icmp .eq 5, 3) := dk_159 0 5 (dk_at dksL_law_29 11 rfl rfl)
theorem dL_law_779 : decode cL_law 779 = .ok (.iconst 0, 1) := dk_3 (dk_at dksL_law_29 14 rfl rfl)
theorem dL_law_780 : decode cL_law 780 = .ok (.ireturn, 1) := dk_172 (dk_at dksL_law_29 15 rfl rfl)
theorem dL_law_781 : decode cL_law 781 = .ok (.iload 5, 2) := dk_21 5 (dk_at dksL_law_29 16 rfl rfl)
theorem dL_law_783 : decode cL_law 783 = .ok (.ifCond .ne 15, 3) := dk_154 0 15 (dk_at dksL_law_29 18 rfl rfl)
theorem dL_law_786 : decode cL_law 786 = .ok (.aload_n 3, 1) := dk_45 (dk_at dksL_law_29 21 rfl rfl)
theorem dL_law_787 : decode cL_law 787 = .ok (.iconst 0, 1) := dk_3 (dk_at dksL_law_29 22 rfl rfl)
theorem dL_law_788 : decode cL_law 788 = .ok (.laload, 1) := dk_47 (dk_at dksL_law_29 23 rfl rfl)
theorem dL_law_789 : decode cL_law 789 = .ok (.iload 6, 2) := dk_21 6 (dk_at dksL_law_30 0 rfl rfl)
theorem dL_law_791 : decode cL_law 791 = .ok (.i2l, 1) := dk_133 (dk_at dksL_law_30 2 rfl rfl)
theorem dL_law_792 : decode cL_law 792 = .ok (.lcmp, 1) := dk_148 (dk_at dksL_law_30 3 rfl rfl)
theorem dL_law_793 : decode cL_law 793 = .ok (.ifCond .eq 5, 3) := dk_153 0 5 (dk_at dksL_law_30 4 rfl rfl)
theorem dL_law_796 : decode cL_law 796 = .ok (.iconst 0, 1) := dk_3 (dk_at dksL_law_30 7 rfl rfl)
theorem dL_law_797 : decode cL_law 797 = .ok (.ireturn, 1) := dk_172 (dk_at dksL_law_30 8 rfl rfl)
theorem dL_law_798 : decode cL_law 798 = .ok (.goto 642, 3) := dk_167 2 130 (dk_at dksL_law_30 9 rfl rfl)
theorem dL_law_801 : decode cL_law 801 = .ok (.aload_n 1, 1) := dk_43 (dk_at dksL_law_30 12 rfl rfl)
theorem dL_law_802 : decode cL_law 802 = .ok (.aload_n 0, 1) := dk_42 (dk_at dksL_law_30 13 rfl rfl)
theorem dL_law_803 : decode cL_law 803 = .ok (.iload 4, 2) := dk_21 4 (dk_at dksL_law_30 14 rfl rfl)
theorem dL_law_805 : decode cL_law 805 = .ok (.iconst 1, 1) := dk_4 (dk_at dksL_law_30 16 rfl rfl)
theorem dL_law_806 : decode cL_law 806 = .ok (.iadd, 1) := dk_96 (dk_at dksL_law_30 17 rfl rfl)
theorem dL_law_807 : decode cL_law 807 = .ok (.iaload, 1) := dk_46 (dk_at dksL_law_30 18 rfl rfl)
theorem dL_law_808 : decode cL_law 808 = .ok (.aload_n 3, 1) := dk_45 (dk_at dksL_law_30 19 rfl rfl)
theorem dL_law_809 : decode cL_law 809 = .ok (.invokestatic 132, 3) := dk_184 0 132 (dk_at dksL_law_30 20 rfl rfl)
theorem dL_law_812 : decode cL_law 812 = .ok (.istore 5, 2) := dk_54 5 (dk_at dksL_law_31 0 rfl rfl)
theorem dL_law_814 : decode cL_law 814 = .ok (.aload_n 2, 1) := dk_44 (dk_at dksL_law_31 2 rfl rfl)
theorem dL_law_815 : decode cL_law 815 = .ok (.aload_n 0, 1) := dk_42 (dk_at dksL_law_31 3 rfl rfl)
theorem dL_law_816 : decode cL_law 816 = .ok (.iload 4, 2) := dk_21 4 (dk_at dksL_law_31 4 rfl rfl)
theorem dL_law_818 : decode cL_law 818 = .ok (.iconst 1, 1) := dk_4 (dk_at dksL_law_31 6 rfl rfl)
theorem dL_law_819 : decode cL_law 819 = .ok (.iadd, 1) := dk_96 (dk_at dksL_law_31 7 rfl rfl)
theorem dL_law_820 : decode cL_law 820 = .ok (.iaload, 1) := dk_46 (dk_at dksL_law_31 8 rfl rfl)
theorem dL_law_821 : decode cL_law 821 = .ok (.invokevirtual 134, 3) := dk_182 0 134 (dk_at dksL_law_31 9 rfl rfl)
theorem dL_law_824 : decode cL_law 824 = .ok (.istore 6, 2) := dk_54 6 (dk_at dksL_law_31 12 rfl rfl)
theorem dL_law_826 : decode cL_law 826 = .ok (.aload_n 2, 1) := dk_44 (dk_at dksL_law_31 14 rfl rfl)
theorem dL_law_827 : decode cL_law 827 = .ok (.invokevirtual 95, 3) := dk_182 0 95 (dk_at dksL_law_31 15 rfl rfl)
theorem dL_law_830 : decode cL_law 830 = .ok (.iload 5, 2) := dk_21 5 (dk_at dksL_law_31 18 rfl rfl)
theorem dL_law_832 : decode cL_law 832 = .ok (.if_icmp .eq 5, 3) := dk_159 0 5 (dk_at dksL_law_31 20 rfl rfl)
theorem dL_law_835 : decode cL_law 835 = .ok (.iconst 0, 1) := dk_3 (dk_at dksL_law_31 23 rfl rfl)
theorem dL_law_836 : decode cL_law 836 = .ok (.ireturn, 1) := dk_172 (dk_at dksL_law_32 0 rfl rfl)
theorem dL_law_837 : decode cL_law 837 = .ok (.iload 5, 2) := dk_21 5 (dk_at dksL_law_32 1 rfl rfl)
theorem dL_law_839 : decode cL_law 839 = .ok (.ifCond .ne 15, 3) := dk_154 0 15 (dk_at dksL_law_32 3 rfl rfl)
theorem dL_law_842 : decode cL_law 842 = .ok (.aload_n 3, 1) := dk_45 (dk_at dksL_law_32 6 rfl rfl)
theorem dL_law_843 : decode cL_law 843 = .ok (.iconst 0, 1) := dk_3 (dk_at dksL_law_32 7 rfl rfl)
theorem dL_law_844 : decode cL_law 844 = .ok (.laload, 1) := dk_47 (dk_at dksL_law_32 8 rfl rfl)
theorem dL_law_845 : decode cL_law 845 = .ok (.iload 6, 2) := dk_21 6 (dk_at dksL_law_32 9 rfl rfl)
theorem dL_law_847 : decode cL_law 847 = .ok (.i2l, 1) := dk_133 (dk_at dksL_law_32 11 rfl rfl)
theorem dL_law_848 : decode cL_law 848 = .ok (.lcmp, 1) := dk_148 (dk_at dksL_law_32 12 rfl rfl)
theorem dL_law_849 : decode cL_law 849 = .ok (.ifCond .eq 5, 3) := dk_153 0 5 (dk_at dksL_law_32 13 rfl rfl)
theorem dL_law_852 : decode cL_law 852 = .ok (.iconst 0, 1) := dk_3 (dk_at dksL_law_32 16 rfl rfl)
theorem dL_law_853 : decode cL_law 853 = .ok (.ireturn, 1) := dk_172 (dk_at dksL_law_32 17 rfl rfl)
theorem dL_law_854 : decode cL_law 854 = .ok (.goto 586, 3) := dk_167 2 74 (dk_at dksL_law_32 18 rfl rfl)
theorem dL_law_857 : decode cL_law 857 = .ok (.aload_n 1, 1) := dk_43 (dk_at dksL_law_32 21 rfl rfl)
theorem dL_law_858 : decode cL_law 858 = .ok (.aload_n 0, 1) := dk_42 (dk_at dksL_law_32 22 rfl rfl)
theorem dL_law_859 : decode cL_law 859 = .ok (.iload 4, 2) := dk_21 4 (dk_at dksL_law_33 0 rfl rfl)
theorem dL_law_861 : decode cL_law 861 = .ok (.iconst 1, 1) := dk_4 (dk_at dksL_law_33 2 rfl rfl)
theorem dL_law_862 : decode cL_law 862 = .ok (.iadd, 1) := dk_96 (dk_at dksL_law_33 3 rfl rfl)
theorem dL_law_863 : decode cL_law 863 = .ok (.iaload, 1) := dk_46 (dk_at dksL_law_33 4 rfl rfl)
theorem dL_law_864 : decode cL_law 864 = .ok (.aload_n 3, 1) := dk_45 (dk_at dksL_law_33 5 rfl rfl)
theorem dL_law_865 : decode cL_law 865 = .ok (.invokestatic 135, 3) := dk_184 0 135 (dk_at dksL_law_33 6 rfl rfl)
theorem dL_law_868 : decode cL_law 868 = .ok (.istore 5, 2) := dk_54 5 (dk_at dksL_law_33 9 rfl rfl)
theorem dL_law_870 : decode cL_law 870 = .ok (.aload_n 2, 1) := dk_44 (dk_at dksL_law_33 11 rfl rfl)
theorem dL_law_871 : decode cL_law 871 = .ok (.aload_n 0, 1) := dk_42 (dk_at dksL_law_33 12 rfl rfl)
theorem dL_law_872 : decode cL_law 872 = .ok (.iload 4, 2) := dk_21 4 (dk_at dksL_law_33 13 rfl rfl)
theorem dL_law_874 : decode cL_law 874 = .ok (.iconst 1, 1) := dk_4 (dk_at dksL_law_33 15 rfl rfl)
theorem dL_law_875 : decode cL_law 875 = .ok (.iadd, 1) := dk_96 (dk_at dksL_law_33 16 rfl rfl)
theorem dL_law_876 : decode cL_law 876 = .ok (.iaload, 1) := dk_46 (dk_at dksL_law_33 17 rfl rfl)
theorem dL_law_877 : decode cL_law 877 = .ok (.invokevirtual 137, 3) := dk_182 0 137 (dk_at dksL_law_33 18 rfl rfl)
theorem dL_law_880 : decode cL_law 880 = .ok (.istore 6, 2) := dk_54 6 (dk_at dksL_law_33 21 rfl rfl)
theorem dL_law_882 : decode cL_law 882 = .ok (.aload_n 2, 1) := dk_44 (dk_at dksL_law_33 23 rfl rfl)
theorem dL_law_883 : decode cL_law 883 = .ok (.invokevirtual 95, 3) := dk_182 0 95 (dk_at dksL_law_34 0 rfl rfl)
theorem dL_law_886 : decode cL_law 886 = .ok (.iload 5, 2) := dk_21 5 (dk_at dksL_law_34 3 rfl rfl)
theorem dL_law_888 : decode cL_law 888 = .ok (.if_icmp .eq 5, 3) := dk_159 0 5 (dk_at dksL_law_34 5 rfl rfl)
theorem dL_law_891 : decode cL_law 891 = .ok (.iconst 0, 1) := dk_3 (dk_at dksL_law_34 8 rfl rfl)
theorem dL_law_892 : decode cL_law 892 = .ok (.ireturn, 1) := dk_172 (dk_at dksL_law_34 9 rfl rfl)
theorem dL_law_893 : decode cL_law 893 = .ok (.iload 5, 2) := dk_21 5 (dk_at dksL_law_34 10 rfl rfl)
theorem dL_law_895 : decode cL_law 895 = .ok (.ifCond .ne 15, 3) := dk_154 0 15 (dk_at dksL_law_34 12 rfl rfl)
theorem dL_law_898 : decode cL_law 898 = .ok (.aload_n 3, 1) := dk_45 (dk_at dksL_law_34 15 rfl rfl)
theorem dL_law_899 : decode cL_law 899 = .ok (.iconst 0, 1) := dk_3 (dk_at dksL_law_34 16 rfl rfl)
theorem dL_law_900 : decode cL_law 900 = .ok (.laload, 1) := dk_47 (dk_at dksL_law_34 17 rfl rfl)
theorem dL_law_901 : decode cL_law 901 = .ok (.iload 6, 2) := dk_21 6 (dk_at dksL_law_34 18 rfl rfl)
theorem dL_law_903 : decode cL_law 903 = .ok (.i2l, 1) := dk_133 (dk_at dksL_law_34 20 rfl rfl)
theorem dL_law_904 : decode cL_law 904 = .ok (.lcmp, 1) := dk_148 (dk_at dksL_law_34 21 rfl rfl)
theorem dL_law_905 : decode cL_law 905 = .ok (.ifCond .eq 5, 3) := dk_153 0 5 (dk_at dksL_law_35 0 rfl rfl)
theorem dL_law_908 : decode cL_law 908 = .ok (.iconst 0, 1) := dk_3 (dk_at dksL_law_35 3 rfl rfl)
theorem dL_law_909 : decode cL_law 909 = .ok (.ireturn, 1) := dk_172 (dk_at dksL_law_35 4 rfl rfl)
theorem dL_law_910 : decode cL_law 910 = .ok (.goto 530, 3) := dk_167 2 18 (dk_at dksL_law_35 5 rfl rfl)
theorem dL_law_913 : decode cL_law 913 = .ok (.aload_n 1, 1) := dk_43 (dk_at dksL_law_35 8 rfl rfl)
theorem dL_law_914 : decode cL_law 914 = .ok (.invokevirtual 138, 3) := dk_182 0 138 (dk_at dksL_law_35 9 rfl rfl)
theorem dL_law_917 : decode cL_law 917 = .ok (.aload_n 2, 1) := dk_44 (dk_at dksL_law_35 12 rfl rfl)
theorem dL_law_918 : decode cL_law 918 = .ok (.invokevirtual 141, 3) := dk_182 0 141 (dk_at dksL_law_35 13 rfl rfl)
theorem dL_law_921 : decode cL_law 921 = .ok (.if_icmp .eq 519, 3) := dk_159 2 7 (dk_at dksL_law_35 16 rfl rfl)
theorem dL_law_924 : decode cL_law 924 = .ok (.iconst 0, 1) := dk_3 (dk_at dksL_law_35 19 rfl rfl)
theorem dL_law_925 : decode cL_law 925 = .ok (.ireturn, 1) := dk_172 (dk_at dksL_law_35 20 rfl rfl)
theorem dL_law_926 : decode cL_law 926 = .ok (.aload_n 1, 1) := dk_43 (dk_at dksL_law_35 21 rfl rfl)
theorem dL_law_927 : decode cL_law 927 = .ok (.aload_n 0, 1) := dk_42 (dk_at dksL_law_35 22 rfl rfl)
theorem dL_law_928 : decode cL_law 928 = .ok (.iload 4, 2) := dk_21 4 (dk_at dksL_law_36 0 rfl rfl)
theorem dL_law_930 : decode cL_law 930 = .ok (.iconst 1, 1) := dk_4 (dk_at dksL_law_36 2 rfl rfl)
theorem dL_law_931 : decode cL_law 931 = .ok (.iadd, 1) := dk_96 (dk_at dksL_law_36 3 rfl rfl)
theorem dL_law_932 : decode cL_law 932 = .ok (.iaload, 1) := dk_46 (dk_at dksL_law_36 4 rfl rfl)
theorem dL_law_933 : decode cL_law 933 = .ok (.aload_n 3, 1) := dk_45 (dk_at dksL_law_36 5 rfl rfl)
theorem dL_law_934 : decode cL_law 934 = .ok (.invokestatic 142, 3) := dk_184 0 142 (dk_at dksL_law_36 6 rfl rfl)
theorem dL_law_937 : decode cL_law 937 = .ok (.istore 5, 2) := dk_54 5 (dk_at dksL_law_36 9 rfl rfl)
theorem dL_law_939 : decode cL_law 939 = .ok (.aload_n 2, 1) := dk_44 (dk_at dksL_law_36 11 rfl rfl)
theorem dL_law_940 : decode cL_law 940 = .ok (.aload_n 0, 1) := dk_42 (dk_at dksL_law_36 12 rfl rfl)
theorem dL_law_941 : decode cL_law 941 = .ok (.iload 4, 2) := dk_21 4 (dk_at dksL_law_36 13 rfl rfl)
theorem dL_law_943 : decode cL_law 943 = .ok (.iconst 1, 1) := dk_4 (dk_at dksL_law_36 15 rfl rfl)
theorem dL_law_944 : decode cL_law 944 = .ok (.iadd, 1) := dk_96 (dk_at dksL_law_36 16 rfl rfl)
theorem dL_law_945 : decode cL_law 945 = .ok (.iaload, 1) := dk_46 (dk_at dksL_law_36 17 rfl rfl)
theorem dL_law_946 : decode cL_law 946 = .ok (.invokevirtual 144, 3) := dk_182 0 144 (dk_at dksL_law_36 18 rfl rfl)
theorem dL_law_949 : decode cL_law 949 = .ok (.istore 6, 2) := dk_54 6 (dk_at dksL_law_36 21 rfl rfl)
theorem dL_law_951 : decode cL_law 951 = .ok (.aload_n 2, 1) := dk_44 (dk_at dksL_law_36 23 rfl rfl)
theorem dL_law_952 : decode cL_law 952 = .ok (.invokevirtual 95, 3) := dk_182 0 95 (dk_at dksL_law_37 0 rfl rfl)
theorem dL_law_955 : decode cL_law 955 = .ok (.iload 5, 2) := dk_21 5 (dk_at dksL_law_37 3 rfl rfl)
theorem dL_law_957 : decode cL_law 957 = .ok (.if_icmp .eq 5, 3) := dk_159 0 5 (dk_at dksL_law_37 5 rfl rfl)
theorem dL_law_960 : decode cL_law 960 = .ok (.iconst 0, 1) := dk_3 (dk_at dksL_law_37 8 rfl rfl)
theorem dL_law_961 : decode cL_law 961 = .ok (.ireturn, 1) := dk_172 (dk_at dksL_law_37 9 rfl rfl)
theorem dL_law_962 : decode cL_law 962 = .ok (.iload 5, 2) := dk_21 5 (dk_at dksL_law_37 10 rfl rfl)
theorem dL_law_964 : decode cL_law 964 = .ok (.ifCond .ne 15, 3) := dk_154 0 15 (dk_at dksL_law_37 12 rfl rfl)
theorem dL_law_967 : decode cL_law 967 = .ok (.aload_n 3, 1) := dk_45 (dk_at dksL_law_37 15 rfl rfl)
theorem dL_law_968 : decode cL_law 968 = .ok (.iconst 0, 1) := dk_3 (dk_at dksL_law_37 16 rfl rfl)
theorem dL_law_969 : decode cL_law 969 = .ok (.laload, 1) := dk_47 (dk_at dksL_law_37 17 rfl rfl)
theorem dL_law_970 : decode cL_law 970 = .ok (.iload 6, 2) := dk_21 6 (dk_at dksL_law_37 18 rfl rfl)
theorem dL_law_972 : decode cL_law 972 = .ok (.i2l, 1) := dk_133 (dk_at dksL_law_37 20 rfl rfl)
theorem dL_law_973 : decode cL_law 973 = .ok (.lcmp, 1) := dk_148 (dk_at dksL_law_37 21 rfl rfl)
theorem dL_law_974 : decode cL_law 974 = .ok (.ifCond .eq 5, 3) := dk_153 0 5 (dk_at dksL_law_38 0 rfl rfl)
theorem dL_law_977 : decode cL_law 977 = .ok (.iconst 0, 1) := dk_3 (dk_at dksL_law_38 3 rfl rfl)
theorem dL_law_978 : decode cL_law 978 = .ok (.ireturn, 1) := dk_172 (dk_at dksL_law_38 4 rfl rfl)
theorem dL_law_979 : decode cL_law 979 = .ok (.goto 461, 3) := dk_167 1 205 (dk_at dksL_law_38 5 rfl rfl)
theorem dL_law_982 : decode cL_law 982 = .ok (.aload_n 1, 1) := dk_43 (dk_at dksL_law_38 8 rfl rfl)
theorem dL_law_983 : decode cL_law 983 = .ok (.aload_n 0, 1) := dk_42 (dk_at dksL_law_38 9 rfl rfl)
theorem dL_law_984 : decode cL_law 984 = .ok (.iload 4, 2) := dk_21 4 (dk_at dksL_law_38 10 rfl rfl)
theorem dL_law_986 : decode cL_law 986 = .ok (.iconst 1, 1) := dk_4 (dk_at dksL_law_38 12 rfl rfl)
theorem dL_law_987 : decode cL_law 987 = .ok (.iadd, 1) := dk_96 (dk_at dksL_law_38 13 rfl rfl)
theorem dL_law_988 : decode cL_law 988 = .ok (.iaload, 1) := dk_46 (dk_at dksL_law_38 14 rfl rfl)
theorem dL_law_989 : decode cL_law 989 = .ok (.aload_n 3, 1) := dk_45 (dk_at dksL_law_38 15 rfl rfl)
theorem dL_law_990 : decode cL_law 990 = .ok (.invokestatic 145, 3) := dk_184 0 145 (dk_at dksL_law_38 16 rfl rfl)
theorem dL_law_993 : decode cL_law 993 = .ok (.istore 5, 2) := dk_54 5 (dk_at dksL_law_38 19 rfl rfl)
theorem dL_law_995 : decode cL_law 995 = .ok (.aload_n 2, 1) := dk_44 (dk_at dksL_law_38 21 rfl rfl)
theorem dL_law_996 : decode cL_law 996 = .ok (.aload_n 0, 1) := dk_42 (dk_at dksL_law_38 22 rfl rfl)
theorem dL_law_997 : decode cL_law 997 = .ok (.iload 4, 2) := dk_21 4 (dk_at dksL_law_39 0 rfl rfl)
theorem dL_law_999 : decode cL_law 999 = .ok (.iconst 1, 1) := dk_4 (dk_at dksL_law_39 2 rfl rfl)
theorem dL_law_1000 : decode cL_law 1000 = .ok (.iadd, 1) := dk_96 (dk_at dksL_law_39 3 rfl rfl)
theorem dL_law_1001 : decode cL_law 1001 = .ok (.iaload, 1) := dk_46 (dk_at dksL_law_39 4 rfl rfl)
theorem dL_law_1002 : decode cL_law 1002 = .ok (.invokevirtual 147, 3) := dk_182 0 147 (dk_at dksL_law_39 5 rfl rfl)
theorem dL_law_1005 : decode cL_law 1005 = .ok (.istore 6, 2) := dk_54 6 (dk_at dksL_law_39 8 rfl rfl)
theorem dL_law_1007 : decode cL_law 1007 = .ok (.aload_n 2, 1) := dk_44 (dk_at dksL_law_39 10 rfl rfl)
theorem dL_law_1008 : decode cL_law 1008 = .ok (.invokevirtual 95, 3) := dk_182 0 95 (dk_at dksL_law_39 11 rfl rfl)
theorem dL_law_1011 : decode cL_law 1011 = .ok (.iload 5, 2) := dk_21 5 (dk_at dksL_law_39 14 rfl rfl)
theorem dL_law_1013 : decode cL_law 1013 = .ok (.if_icmp .eq 5, 3) := dk_159 0 5 (dk_at dksL_law_39 16 rfl rfl)
theorem dL_law_1016 : decode cL_law 1016 = .ok (.iconst 0, 1) := dk_3 (dk_at dksL_law_39 19 rfl rfl)
theorem dL_law_1017 : decode cL_law 1017 = .ok (.ireturn, 1) := dk_172 (dk_at dksL_law_39 20 rfl rfl)
theorem dL_law_1018 : decode cL_law 1018 = .ok (.iload 5, 2) := dk_21 5 (dk_at dksL_law_39 21 rfl rfl)
theorem dL_law_1020 : decode cL_law 1020 = .ok (.ifCond .ne 15, 3) := dk_154 0 15 (dk_at dksL_law_40 0 rfl rfl)
theorem dL_law_1023 : decode cL_law 1023 = .ok (.aload_n 3, 1) := dk_45 (dk_at dksL_law_40 3 rfl rfl)
theorem dL_law_1024 : decode cL_law 1024 = .ok (.iconst 0, 1) := dk_3 (dk_at dksL_law_40 4 rfl rfl)
theorem dL_law_1025 : decode cL_law 1025 = .ok (.laload, 1) := dk_47 (dk_at dksL_law_40 5 rfl rfl)
theorem dL_law_1026 : decode cL_law 1026 = .ok (.iload 6, 2) := dk_21 6 (dk_at dksL_law_40 6 rfl rfl)
theorem dL_law_1028 : decode cL_law 1028 = .ok (.i2l, 1) := dk_133 (dk_at dksL_law_40 8 rfl rfl)
theorem dL_law_1029 : decode cL_law 1029 = .ok (.lcmp, 1) := dk_148 (dk_at dksL_law_40 9 rfl rfl)
theorem dL_law_1030 : decode cL_law 1030 = .ok (.ifCond .eq 5, 3) := dk_153 0 5 (dk_at dksL_law_40 10 rfl rfl)
theorem dL_law_1033 : decode cL_law 1033 = .ok (.iconst 0, 1) := dk_3 (dk_at dksL_law_40 13 rfl rfl)
theorem dL_law_1034 : decode cL_law 1034 = .ok (.ireturn, 1) := dk_172 (dk_at dksL_law_40 14 rfl rfl)
theorem dL_law_1035 : decode cL_law 1035 = .ok (.goto 405, 3) := dk_167 1 149 (dk_at dksL_law_40 15 rfl rfl)
theorem dL_law_1038 : decode cL_law 1038 = .ok (.aload_n 1, 1) := dk_43 (dk_at dksL_law_40 18 rfl rfl)
theorem dL_law_1039 : decode cL_law 1039 = .ok (.aload_n 0, 1) := dk_42 (dk_at dksL_law_40 19 rfl rfl)
theorem dL_law_1040 : decode cL_law 1040 = .ok (.iload 4, 2) := dk_21 4 (dk_at dksL_law_40 20 rfl rfl)
theorem dL_law_1042 : decode cL_law 1042 = .ok (.iconst 1, 1) := dk_4 (dk_at dksL_law_40 22 rfl rfl)
theorem dL_law_1043 : decode cL_law 1043 = .ok (.iadd, 1) := dk_96 (dk_at dksL_law_40 23 rfl rfl)
theorem dL_law_1044 : decode cL_law 1044 = .ok (.iaload, 1) := dk_46 (dk_at dksL_law_41 0 rfl rfl)
theorem dL_law_1045 : decode cL_law 1045 = .ok (.aload_n 3, 1) := dk_45 (dk_at dksL_law_41 1 rfl rfl)
theorem dL_law_1046 : decode cL_law 1046 = .ok (.invokestatic 148, 3) := dk_184 0 148 (dk_at dksL_law_41 2 rfl rfl)
theorem dL_law_1049 : decode cL_law 1049 = .ok (.istore 5, 2) := dk_54 5 (dk_at dksL_law_41 5 rfl rfl)
theorem dL_law_1051 : decode cL_law 1051 = .ok (.aload_n 2, 1) := dk_44 (dk_at dksL_law_41 7 rfl rfl)
theorem dL_law_1052 : decode cL_law 1052 = .ok (.aload_n 0, 1) := dk_42 (dk_at dksL_law_41 8 rfl rfl)
theorem dL_law_1053 : decode cL_law 1053 = .ok (.iload 4, 2) := dk_21 4 (dk_at dksL_law_41 9 rfl rfl)
theorem dL_law_1055 : decode cL_law 1055 = .ok (.iconst 1, 1) := dk_4 (dk_at dksL_law_41 11 rfl rfl)
theorem dL_law_1056 : decode cL_law 1056 = .ok (.iadd, 1) := dk_96 (dk_at dksL_law_41 12 rfl rfl)
theorem dL_law_1057 : decode cL_law 1057 = .ok (.iaload, 1) := dk_46 (dk_at dksL_law_41 13 rfl rfl)
theorem dL_law_1058 : decode cL_law 1058 = .ok (.invokevirtual 150, 3) := dk_182 0 150 (dk_at dksL_law_41 14 rfl rfl)
theorem dL_law_1061 : decode cL_law 1061 = .ok (.istore 6, 2) := dk_54 6 (dk_at dksL_law_41 17 rfl rfl)
theorem dL_law_1063 : decode cL_law 1063 = .ok (.aload_n 2, 1) := dk_44 (dk_at dksL_law_41 19 rfl rfl)
theorem dL_law_1064 : decode cL_law 1064 = .ok (.invokevirtual 95, 3) := dk_182 0 95 (dk_at dksL_law_41 20 rfl rfl)
theorem dL_law_1067 : decode cL_law 1067 = .ok (.iload 5, 2) := dk_21 5 (dk_at dksL_law_42 0 rfl rfl)
theorem dL_law_1069 : decode cL_law 1069 = .ok (.if_icmp .eq 5, 3) := dk_159 0 5 (dk_at dksL_law_42 2 rfl rfl)
theorem dL_law_1072 : decode cL_law 1072 = .ok (.iconst 0, 1) := dk_3 (dk_at dksL_law_42 5 rfl rfl)
theorem dL_law_1073 : decode cL_law 1073 = .ok (.ireturn, 1) := dk_172 (dk_at dksL_law_42 6 rfl rfl)
theorem dL_law_1074 : decode cL_law 1074 = .ok (.iload 5, 2) := dk_21 5 (dk_at dksL_law_42 7 rfl rfl)
theorem dL_law_1076 : decode cL_law 1076 = .ok (.ifCond .ne 15, 3) := dk_154 0 15 (dk_at dksL_law_42 9 rfl rfl)
theorem dL_law_1079 : decode cL_law 1079 = .ok (.aload_n 3, 1) := dk_45 (dk_at dksL_law_42 12 rfl rfl)
theorem dL_law_1080 : decode cL_law 1080 = .ok (.iconst 0, 1) := dk_3 (dk_at dksL_law_42 13 rfl rfl)
theorem dL_law_1081 : decode cL_law 1081 = .ok (.laload, 1) := dk_47 (dk_at dksL_law_42 14 rfl rfl)
theorem dL_law_1082 : decode cL_law 1082 = .ok (.iload 6, 2) := dk_21 6 (dk_at dksL_law_42 15 rfl rfl)
theorem dL_law_1084 : decode cL_law 1084 = .ok (.i2l, 1) := dk_133 (dk_at dksL_law_42 17 rfl rfl)
theorem dL_law_1085 : decode cL_law 1085 = .ok (.lcmp, 1) := dk_148 (dk_at dksL_law_42 18 rfl rfl)
theorem dL_law_1086 : decode cL_law 1086 = .ok (.ifCond .eq 5, 3) := dk_153 0 5 (dk_at dksL_law_42 19 rfl rfl)
theorem dL_law_1089 : decode cL_law 1089 = .ok (.iconst 0, 1) := dk_3 (dk_at dksL_law_42 22 rfl rfl)
theorem dL_law_1090 : decode cL_law 1090 = .ok (.ireturn, 1) := dk_172 (dk_at dksL_law_42 23 rfl rfl)
theorem dL_law_1091 : decode cL_law 1091 = .ok (.goto 349, 3) := dk_167 1 93 (dk_at dksL_law_43 0 rfl rfl)
theorem dL_law_1094 : decode cL_law 1094 = .ok (.aload_n 1, 1) := dk_43 (dk_at dksL_law_43 3 rfl rfl)
theorem dL_law_1095 : decode cL_law 1095 = .ok (.aload_n 0, 1) := dk_42 (dk_at dksL_law_43 4 rfl rfl)
theorem dL_law_1096 : decode cL_law 1096 = .ok (.iload 4, 2) := dk_21 4 (dk_at dksL_law_43 5 rfl rfl)
theorem dL_law_1098 : decode cL_law 1098 = .ok (.iconst 1, 1) := dk_4 (dk_at dksL_law_43 7 rfl rfl)
theorem dL_law_1099 : decode cL_law 1099 = .ok (.iadd, 1) := dk_96 (dk_at dksL_law_43 8 rfl rfl)
theorem dL_law_1100 : decode cL_law 1100 = .ok (.iaload, 1) := dk_46 (dk_at dksL_law_43 9 rfl rfl)
theorem dL_law_1101 : decode cL_law 1101 = .ok (.aload_n 3, 1) := dk_45 (dk_at dksL_law_43 10 rfl rfl)
theorem dL_law_1102 : decode cL_law 1102 = .ok (.invokestatic 151, 3) := dk_184 0 151 (dk_at dksL_law_43 11 rfl rfl)
theorem dL_law_1105 : decode cL_law 1105 = .ok (.istore 5, 2) := dk_54 5 (dk_at dksL_law_43 14 rfl rfl)
theorem dL_law_1107 : decode cL_law 1107 = .ok (.aload_n 2, 1) := dk_44 (dk_at dksL_law_43 16 rfl rfl)
theorem dL_law_1108 : decode cL_law 1108 = .ok (.aload_n 0, 1) := dk_42 (dk_at dksL_law_43 17 rfl rfl)
theorem dL_law_1109 : decode cL_law 1109 = .ok (.iload 4, 2) := dk_21 4 (dk_at dksL_law_43 18 rfl rfl)
theorem dL_law_1111 : decode cL_law 1111 = .ok (.iconst 1, 1) := dk_4 (dk_at dksL_law_43 20 rfl rfl)
theorem dL_law_1112 : decode cL_law 1112 = .ok (.iadd, 1) := dk_96 (dk_at dksL_law_43 21 rfl rfl)
theorem dL_law_1113 : decode cL_law 1113 = .ok (.iaload, 1) := dk_46 (dk_at dksL_law_43 22 rfl rfl)
theorem dL_law_1114 : decode cL_law 1114 = .ok (.invokevirtual 153, 3) := dk_182 0 153 (dk_at dksL_law_44 0 rfl rfl)
theorem dL_law_1117 : decode cL_law 1117 = .ok (.istore 6, 2) := dk_54 6 (dk_at dksL_law_44 3 rfl rfl)
theorem dL_law_1119 : decode cL_law 1119 = .ok (.aload_n 2, 1) := dk_44 (dk_at dksL_law_44 5 rfl rfl)
theorem dL_law_1120 : decode cL_law 1120 = .ok (.invokevirtual 95, 3) := dk_182 0 95 (dk_at dksL_law_44 6 rfl rfl)
theorem dL_law_1123 : decode cL_law 1123 = .ok (.iload 5, 2) := dk_21 5 (dk_at dksL_law_44 9 rfl rfl)
theorem dL_law_1125 : decode cL_law 1125 = .ok (.if_icmp .eq 5, 3) := dk_159 0 5 (dk_at dksL_law_44 11 rfl rfl)
theorem dL_law_1128 : decode cL_law 1128 = .ok (.iconst 0, 1) := dk_3 (dk_at dksL_law_44 14 rfl rfl)
theorem dL_law_1129 : decode cL_law 1129 = .ok (.ireturn, 1) := dk_172 (dk_at dksL_law_44 15 rfl rfl)
theorem dL_law_1130 : decode cL_law 1130 = .ok (.iload 5, 2) := dk_21 5 (dk_at dksL_law_44 16 rfl rfl)
theorem dL_law_1132 : decode cL_law 1132 = .ok (.ifCond .ne 15, 3) := dk_154 0 15 (dk_at dksL_law_44 18 rfl rfl)
theorem dL_law_1135 : decode cL_law 1135 = .ok (.aload_n 3, 1) := dk_45 (dk_at dksL_law_44 21 rfl rfl)
theorem dL_law_1136 : decode cL_law 1136 = .ok (.iconst 0, 1) := dk_3 (dk_at dksL_law_44 22 rfl rfl)
theorem dL_law_1137 : decode cL_law 1137 = .ok (.laload, 1) := dk_47 (dk_at dksL_law_44 23 rfl rfl)
theorem dL_law_1138 : decode cL_law 1138 = .ok (.iload 6, 2) := dk_21 6 (dk_at dksL_law_45 0 rfl rfl)
theorem dL_law_1140 : decode cL_law 1140 = .ok (.i2l, 1) := dk_133 (dk_at dksL_law_45 2 rfl rfl)
theorem dL_law_1141 : decode cL_law 1141 = .ok (.lcmp, 1) := dk_148 (dk_at dksL_law_45 3 rfl rfl)
theorem dL_law_1142 : decode cL_law 1142 = .ok (.ifCond .eq 5, 3) := dk_153 0 5 (dk_at dksL_law_45 4 rfl rfl)
theorem dL_law_1145 : decode cL_law 1145 = .ok (.iconst 0, 1) := dk_3 (dk_at dksL_law_45 7 rfl rfl)
theorem dL_law_1146 : decode cL_law 1146 = .ok (.ireturn, 1) := dk_172 (dk_at dksL_law_45 8 rfl rfl)
theorem dL_law_1147 : decode cL_law 1147 = .ok (.goto 293, 3) := dk_167 1 37 (dk_at dksL_law_45 9 rfl rfl)
theorem dL_law_1150 : decode cL_law 1150 = .ok (.aload_n 1, 1) := dk_43 (dk_at dksL_law_45 12 rfl rfl)
theorem dL_law_1151 : decode cL_law 1151 = .ok (.aload_n 0, 1) := dk_42 (dk_at dksL_law_45 13 rfl rfl)
theorem dL_law_1152 : decode cL_law 1152 = .ok (.iload 4, 2) := dk_21 4 (dk_at dksL_law_45 14 rfl rfl)
theorem dL_law_1154 : decode cL_law 1154 = .ok (.iconst 1, 1) := dk_4 (dk_at dksL_law_45 16 rfl rfl)
theorem dL_law_1155 : decode cL_law 1155 = .ok (.iadd, 1) := dk_96 (dk_at dksL_law_45 17 rfl rfl)
theorem dL_law_1156 : decode cL_law 1156 = .ok (.iaload, 1) := dk_46 (dk_at dksL_law_45 18 rfl rfl)
theorem dL_law_1157 : decode cL_law 1157 = .ok (.aload_n 3, 1) := dk_45 (dk_at dksL_law_45 19 rfl rfl)
theorem dL_law_1158 : decode cL_law 1158 = .ok (.invokestatic 154, 3) := dk_184 0 154 (dk_at dksL_law_45 20 rfl rfl)
theorem dL_law_1161 : decode cL_law 1161 = .ok (.istore 5, 2) := dk_54 5 (dk_at dksL_law_46 0 rfl rfl)
theorem dL_law_1163 : decode cL_law 1163 = .ok (.aload_n 2, 1) := dk_44 (dk_at dksL_law_46 2 rfl rfl)
theorem dL_law_1164 : decode cL_law 1164 = .ok (.aload_n 0, 1) := dk_42 (dk_at dksL_law_46 3 rfl rfl)
theorem dL_law_1165 : decode cL_law 1165 = .ok (.iload 4, 2) := dk_21 4 (dk_at dksL_law_46 4 rfl rfl)
theorem dL_law_1167 : decode cL_law 1167 = .ok (.iconst 1, 1) := dk_4 (dk_at dksL_law_46 6 rfl rfl)
theorem dL_law_1168 : decode cL_law 1168 = .ok (.iadd, 1) := dk_96 (dk_at dksL_law_46 7 rfl rfl)
theorem dL_law_1169 : decode cL_law 1169 = .ok (.iaload, 1) := dk_46 (dk_at dksL_law_46 8 rfl rfl)
theorem dL_law_1170 : decode cL_law 1170 = .ok (.invokevirtual 156, 3) := dk_182 0 156 (dk_at dksL_law_46 9 rfl rfl)
theorem dL_law_1173 : decode cL_law 1173 = .ok (.istore 6, 2) := dk_54 6 (dk_at dksL_law_46 12 rfl rfl)
theorem dL_law_1175 : decode cL_law 1175 = .ok (.aload_n 2, 1) := dk_44 (dk_at dksL_law_46 14 rfl rfl)
theorem dL_law_1176 : decode cL_law 1176 = .ok (.invokevirtual 95, 3) := dk_182 0 95 (dk_at dksL_law_46 15 rfl rfl)
theorem dL_law_1179 : decode cL_law 1179 = .ok (.iload 5, 2) := dk_21 5 (dk_at dksL_law_46 18 rfl rfl)
theorem dL_law_1181 : decode cL_law 1181 = .ok (.if_icmp .eq 5, 3) := dk_159 0 5 (dk_at dksL_law_46 20 rfl rfl)
theorem dL_law_1184 : decode cL_law 1184 = .ok (.iconst 0, 1) := dk_3 (dk_at dksL_law_46 23 rfl rfl)
theorem dL_law_1185 : decode cL_law 1185 = .ok (.ireturn, 1) := dk_172 (dk_at dksL_law_47 0 rfl rfl)
theorem dL_law_1186 : decode cL_law 1186 = .ok (.iload 5, 2) := dk_21 5 (dk_at dksL_law_47 1 rfl rfl)
theorem dL_law_1188 : decode cL_law 1188 = .ok (.ifCond .ne 15, 3) := dk_154 0 15 (dk_at dksL_law_47 3 rfl rfl)
theorem dL_law_1191 : decode cL_law 1191 = .ok (.aload_n 3, 1) := dk_45 (dk_at dksL_law_47 6 rfl rfl)
theorem dL_law_1192 : decode cL_law 1192 = .ok (.iconst 0, 1) := dk_3 (dk_at dksL_law_47 7 rfl rfl)
theorem dL_law_1193 : decode cL_law 1193 = .ok (.laload, 1) := dk_47 (dk_at dksL_law_47 8 rfl rfl)
theorem dL_law_1194 : decode cL_law 1194 = .ok (.iload 6, 2) := dk_21 6 (dk_at dksL_law_47 9 rfl rfl)
theorem dL_law_1196 : decode cL_law 1196 = .ok (.i2l, 1) := dk_133 (dk_at dksL_law_47 11 rfl rfl)
theorem dL_law_1197 : decode cL_law 1197 = .ok (.lcmp, 1) := dk_148 (dk_at dksL_law_47 12 rfl rfl)
theorem dL_law_1198 : decode cL_law 1198 = .ok (.ifCond .eq 5, 3) := dk_153 0 5 (dk_at dksL_law_47 13 rfl rfl)
theorem dL_law_1201 : decode cL_law 1201 = .ok (.iconst 0, 1) := dk_3 (dk_at dksL_law_47 16 rfl rfl)
theorem dL_law_1202 : decode cL_law 1202 = .ok (.ireturn, 1) := dk_172 (dk_at dksL_law_47 17 rfl rfl)
theorem dL_law_1203 : decode cL_law 1203 = .ok (.goto 237, 3) := dk_167 0 237 (dk_at dksL_law_47 18 rfl rfl)
theorem dL_law_1206 : decode cL_law 1206 = .ok (.aload_n 1, 1) := dk_43 (dk_at dksL_law_47 21 rfl rfl)
theorem dL_law_1207 : decode cL_law 1207 = .ok (.aload_n 0, 1) := dk_42 (dk_at dksL_law_47 22 rfl rfl)
theorem dL_law_1208 : decode cL_law 1208 = .ok (.iload 4, 2) := dk_21 4 (dk_at dksL_law_48 0 rfl rfl)
theorem dL_law_1210 : decode cL_law 1210 = .ok (.iconst 1, 1) := dk_4 (dk_at dksL_law_48 2 rfl rfl)
theorem dL_law_1211 : decode cL_law 1211 = .ok (.iadd, 1) := dk_96 (dk_at dksL_law_48 3 rfl rfl)
theorem dL_law_1212 : decode cL_law 1212 = .ok (.iaload, 1) := dk_46 (dk_at dksL_law_48 4 rfl rfl)
theorem dL_law_1213 : decode cL_law 1213 = .ok (.aload_n 3, 1) := dk_45 (dk_at dksL_law_48 5 rfl rfl)
theorem dL_law_1214 : decode cL_law 1214 = .ok (.invokestatic 157, 3) := dk_184 0 157 (dk_at dksL_law_48 6 rfl rfl)
theorem dL_law_1217 : decode cL_law 1217 = .ok (.istore 5, 2) := dk_54 5 (dk_at dksL_law_48 9 rfl rfl)
theorem dL_law_1219 : decode cL_law 1219 = .ok (.aload_n 2, 1) := dk_44 (dk_at dksL_law_48 11 rfl rfl)
theorem dL_law_1220 : decode cL_law 1220 = .ok (.aload_n 0, 1) := dk_42 (dk_at dksL_law_48 12 rfl rfl)
theorem dL_law_1221 : decode cL_law 1221 = .ok (.iload 4, 2) := dk_21 4 (dk_at dksL_law_48 13 rfl rfl)
theorem dL_law_1223 : decode cL_law 1223 = .ok (.iconst 1, 1) := dk_4 (dk_at dksL_law_48 15 rfl rfl)
theorem dL_law_1224 : decode cL_law 1224 = .ok (.iadd, 1) := dk_96 (dk_at dksL_law_48 16 rfl rfl)
theorem dL_law_1225 : decode cL_law 1225 = .ok (.iaload, 1) := dk_46 (dk_at dksL_law_48 17 rfl rfl)
theorem dL_law_1226 : decode cL_law 1226 = .ok (.invokevirtual 159, 3) := dk_182 0 159 (dk_at dksL_law_48 18 rfl rfl)
theorem dL_law_1229 : decode cL_law 1229 = .ok (.istore 6, 2) := dk_54 6 (dk_at dksL_law_48 21 rfl rfl)
theorem dL_law_1231 : decode cL_law 1231 = .ok (.aload_n 2, 1) := dk_44 (dk_at dksL_law_48 23 rfl rfl)
theorem dL_law_1232 : decode cL_law 1232 = .ok (.invokevirtual 95, 3) := dk_182 0 95 (dk_at dksL_law_49 0 rfl rfl)
theorem dL_law_1235 : decode cL_law 1235 = .ok (.iload 5, 2) := dk_21 5 (dk_at dksL_law_49 3 rfl rfl)
theorem dL_law_1237 : decode cL_law 1237 = .ok (.if_icmp .eq 5, 3) := dk_159 0 5 (dk_at dksL_law_49 5 rfl rfl)
theorem dL_law_1240 : decode cL_law 1240 = .ok (.iconst 0, 1) := dk_3 (dk_at dksL_law_49 8 rfl rfl)
theorem dL_law_1241 : decode cL_law 1241 = .ok (.ireturn, 1) := dk_172 (dk_at dksL_law_49 9 rfl rfl)
theorem dL_law_1242 : decode cL_law 1242 = .ok (.iload 5, 2) := dk_21 5 (dk_at dksL_law_49 10 rfl rfl)
theorem dL_law_1244 : decode cL_law 1244 = .ok (.ifCond .ne 15, 3) := dk_154 0 15 (dk_at dksL_law_49 12 rfl rfl)
theorem dL_law_1247 : decode cL_law 1247 = .ok (.aload_n 3, 1) := dk_45 (dk_at dksL_law_49 15 rfl rfl)
theorem dL_law_1248 : decode cL_law 1248 = .ok (.iconst 0, 1) := dk_3 (dk_at dksL_law_49 16 rfl rfl)
theorem dL_law_1249 : decode cL_law 1249 = .ok (.laload, 1) := dk_47 (dk_at dksL_law_49 17 rfl rfl)
theorem dL_law_1250 : decode cL_law 1250 = .ok (.iload 6, 2) := dk_21 6 (dk_at dksL_law_49 18 rfl rfl)
theorem dL_law_1252 : decode cL_law 1252 = .ok (.i2l, 1) := dk_133 (dk_at dksL_law_49 20 rfl rfl)
theorem dL_law_1253 : decode cL_law 1253 = .ok (.lcmp, 1) := dk_148 (dk_at dksL_law_49 21 rfl rfl)
theorem dL_law_1254 : decode cL_law 1254 = .ok (.ifCond .eq 5, 3) := dk_153 0 5 (dk_at dksL_law_50 0 rfl rfl)
theorem dL_law_1257 : decode cL_law 1257 = .ok (.iconst 0, 1) := dk_3 (dk_at dksL_law_50 3 rfl rfl)
theorem dL_law_1258 : decode cL_law 1258 = .ok (.ireturn, 1) := dk_172 (dk_at dksL_law_50 4 rfl rfl)
theorem dL_law_1259 : decode cL_law 1259 = .ok (.goto 181, 3) := dk_167 0 181 (dk_at dksL_law_50 5 rfl rfl)
theorem dL_law_1262 : decode cL_law 1262 = .ok (.aload_n 1, 1) := dk_43 (dk_at dksL_law_50 8 rfl rfl)
theorem dL_law_1263 : decode cL_law 1263 = .ok (.aload_n 0, 1) := dk_42 (dk_at dksL_law_50 9 rfl rfl)
theorem dL_law_1264 : decode cL_law 1264 = .ok (.iload 4, 2) := dk_21 4 (dk_at dksL_law_50 10 rfl rfl)
theorem dL_law_1266 : decode cL_law 1266 = .ok (.iconst 1, 1) := dk_4 (dk_at dksL_law_50 12 rfl rfl)
theorem dL_law_1267 : decode cL_law 1267 = .ok (.iadd, 1) := dk_96 (dk_at dksL_law_50 13 rfl rfl)
theorem dL_law_1268 : decode cL_law 1268 = .ok (.iaload, 1) := dk_46 (dk_at dksL_law_50 14 rfl rfl)
theorem dL_law_1269 : decode cL_law 1269 = .ok (.aload_n 0, 1) := dk_42 (dk_at dksL_law_50 15 rfl rfl)
theorem dL_law_1270 : decode cL_law 1270 = .ok (.iload 4, 2) := dk_21 4 (dk_at dksL_law_50 16 rfl rfl)
theorem dL_law_1272 : decode cL_law 1272 = .ok (.iconst 2, 1) := dk_5 (dk_at dksL_law_50 18 rfl rfl)
theorem dL_law_1273 : decode cL_law 1273 = .ok (.iadd, 1) := dk_96 (dk_at dksL_law_50 19 rfl rfl)
theorem dL_law_1274 : decode cL_law 1274 = .ok (.iaload, 1) := dk_46 (dk_at dksL_law_50 20 rfl rfl)
theorem dL_law_1275 : decode cL_law 1275 = .ok (.aload_n 3, 1) := dk_45 (dk_at dksL_law_50 21 rfl rfl)
theorem dL_law_1276 : decode cL_law 1276 = .ok (.invokestatic 160, 3) := dk_184 0 160 (dk_at dksL_law_51 0 rfl rfl)
theorem dL_law_1279 : decode cL_law 1279 = .ok (.istore 5, 2) := dk_54 5 (dk_at dksL_law_51 3 rfl rfl)
theorem dL_law_1281 : decode cL_law 1281 = .ok (.aload_n 2, 1) := dk_44 (dk_at dksL_law_51 5 rfl rfl)
theorem dL_law_1282 : decode cL_law 1282 = .ok (.aload_n 0, 1) := dk_42 (dk_at dksL_law_51 6 rfl rfl)
theorem dL_law_1283 : decode cL_law 1283 = .ok (.iload 4, 2) := dk_21 4 (dk_at dksL_law_51 7 rfl rfl)
theorem dL_law_1285 : decode cL_law 1285 = .ok (.iconst 1, 1) := dk_4 (dk_at dksL_law_51 9 rfl rfl)
theorem dL_law_1286 : decode cL_law 1286 = .ok (.iadd, 1) := dk_96 (dk_at dksL_law_51 10 rfl rfl)
theorem dL_law_1287 : decode cL_law 1287 = .ok (.iaload, 1) := dk_46 (dk_at dksL_law_51 11 rfl rfl)
theorem dL_law_1288 : decode cL_law 1288 = .ok (.aload_n 0, 1) := dk_42 (dk_at dksL_law_51 12 rfl rfl)
theorem dL_law_1289 : decode cL_law 1289 = .ok (.iload 4, 2) := dk_21 4 (dk_at dksL_law_51 13 rfl rfl)
theorem dL_law_1291 : decode cL_law 1291 = .ok (.iconst 2, 1) := dk_5 (dk_at dksL_law_51 15 rfl rfl)
theorem dL_law_1292 : decode cL_law 1292 = .ok (.iadd, 1) := dk_96 (dk_at dksL_law_51 16 rfl rfl)
theorem dL_law_1293 : decode cL_law 1293 = .ok (.iaload, 1) := dk_46 (dk_at dksL_law_51 17 rfl rfl)
theorem dL_law_1294 : decode cL_law 1294 = .ok (.invokevirtual 162, 3) := dk_182 0 162 (dk_at dksL_law_51 18 rfl rfl)
theorem dL_law_1297 : decode cL_law 1297 = .ok (.istore 6, 2) := dk_54 6 (dk_at dksL_law_51 21 rfl rfl)
theorem dL_law_1299 : decode cL_law 1299 = .ok (.aload_n 2, 1) := dk_44 (dk_at dksL_law_51 23 rfl rfl)
theorem dL_law_1300 : decode cL_law 1300 = .ok (.invokevirtual 95, 3) := dk_182 0 95 (dk_at dksL_law_52 0 rfl rfl)
theorem dL_law_1303 : decode cL_law 1303 = .ok (.iload 5, 2) := dk_21 5 (dk_at dksL_law_52 3 rfl rfl)
theorem dL_law_1305 : decode cL_law 1305 = .ok (.if_icmp .eq 5, 3) := dk_159 0 5 (dk_at dksL_law_52 5 rfl rfl)
theorem dL_law_1308 : decode cL_law 1308 = .ok (.iconst 0, 1) := dk_3 (dk_at dksL_law_52 8 rfl rfl)
theorem dL_law_1309 : decode cL_law 1309 = .ok (.ireturn, 1) := dk_172 (dk_at dksL_law_52 9 rfl rfl)
theorem dL_law_1310 : decode cL_law 1310 = .ok (.iload 5, 2) := dk_21 5 (dk_at dksL_law_52 10 rfl rfl)
theorem dL_law_1312 : decode cL_law 1312 = .ok (.ifCond .ne 15, 3) := dk_154 0 15 (dk_at dksL_law_52 12 rfl rfl)
theorem dL_law_1315 : decode cL_law 1315 = .ok (.aload_n 3, 1) := dk_45 (dk_at dksL_law_52 15 rfl rfl)
theorem dL_law_1316 : decode cL_law 1316 = .ok (.iconst 0, 1) := dk_3 (dk_at dksL_law_52 16 rfl rfl)
theorem dL_law_1317 : decode cL_law 1317 = .ok (.laload, 1) := dk_47 (dk_at dksL_law_52 17 rfl rfl)
theorem dL_law_1318 : decode cL_law 1318 = .ok (.iload 6, 2) := dk_21 6 (dk_at dksL_law_52 18 rfl rfl)
theorem dL_law_1320 : decode cL_law 1320 = .ok (.i2l, 1) := dk_133 (dk_at dksL_law_52 20 rfl rfl)
theorem dL_law_1321 : decode cL_law 1321 = .ok (.lcmp, 1) := dk_148 (dk_at dksL_law_52 21 rfl rfl)
theorem dL_law_1322 : decode cL_law 1322 = .ok (.ifCond .eq 5, 3) := dk_153 0 5 (dk_at dksL_law_53 0 rfl rfl)
theorem dL_law_1325 : decode cL_law 1325 = .ok (.iconst 0, 1) := dk_3 (dk_at dksL_law_53 3 rfl rfl)
theorem dL_law_1326 : decode cL_law 1326 = .ok (.ireturn, 1) := dk_172 (dk_at dksL_law_53 4 rfl rfl)
theorem dL_law_1327 : decode cL_law 1327 = .ok (.goto 113, 3) := dk_167 0 113 (dk_at dksL_law_53 5 rfl rfl)
theorem dL_law_1330 : decode cL_law 1330 = .ok (.aload_n 1, 1) := dk_43 (dk_at dksL_law_53 8 rfl rfl)
theorem dL_law_1331 : decode cL_law 1331 = .ok (.aload_n 0, 1) := dk_42 (dk_at dksL_law_53 9 rfl rfl)
theorem dL_law_1332 : decode cL_law 1332 = .ok (.iload 4, 2) := dk_21 4 (dk_at dksL_law_53 10 rfl rfl)
theorem dL_law_1334 : decode cL_law 1334 = .ok (.iconst 1, 1) := dk_4 (dk_at dksL_law_53 12 rfl rfl)
theorem dL_law_1335 : decode cL_law 1335 = .ok (.iadd, 1) := dk_96 (dk_at dksL_law_53 13 rfl rfl)
theorem dL_law_1336 : decode cL_law 1336 = .ok (.iaload, 1) := dk_46 (dk_at dksL_law_53 14 rfl rfl)
theorem dL_law_1337 : decode cL_law 1337 = .ok (.aload_n 3, 1) := dk_45 (dk_at dksL_law_53 15 rfl rfl)
theorem dL_law_1338 : decode cL_law 1338 = .ok (.invokestatic 163, 3) := dk_184 0 163 (dk_at dksL_law_53 16 rfl rfl)
theorem dL_law_1341 : decode cL_law 1341 = .ok (.istore 5, 2) := dk_54 5 (dk_at dksL_law_53 19 rfl rfl)
theorem dL_law_1343 : decode cL_law 1343 = .ok (.aload_n 2, 1) := dk_44 (dk_at dksL_law_53 21 rfl rfl)
theorem dL_law_1344 : decode cL_law 1344 = .ok (.aload_n 0, 1) := dk_42 (dk_at dksL_law_53 22 rfl rfl)
theorem dL_law_1345 : decode cL_law 1345 = .ok (.iload 4, 2) := dk_21 4 (dk_at dksL_law_54 0 rfl rfl)
theorem dL_law_1347 : decode cL_law 1347 = .ok (.iconst 1, 1) := dk_4 (dk_at dksL_law_54 2 rfl rfl)
theorem dL_law_1348 : decode cL_law 1348 = .ok (.iadd, 1) := dk_96 (dk_at dksL_law_54 3 rfl rfl)
theorem dL_law_1349 : decode cL_law 1349 = .ok (.iaload, 1) := dk_46 (dk_at dksL_law_54 4 rfl rfl)
theorem dL_law_1350 : decode cL_law 1350 = .ok (.invokevirtual 165, 3) := dk_182 0 165 (dk_at dksL_law_54 5 rfl rfl)
theorem dL_law_1353 : decode cL_law 1353 = .ok (.istore 6, 2) := dk_54 6 (dk_at dksL_law_54 8 rfl rfl)
theorem dL_law_1355 : decode cL_law 1355 = .ok (.aload_n 2, 1) := dk_44 (dk_at dksL_law_54 10 rfl rfl)
theorem dL_law_1356 : decode cL_law 1356 = .ok (.invokevirtual 95, 3) := dk_182 0 95 (dk_at dksL_law_54 11 rfl rfl)
theorem dL_law_1359 : decode cL_law 1359 = .ok (.iload 5, 2) := dk_21 5 (dk_at dksL_law_54 14 rfl rfl)
theorem dL_law_1361 : decode cL_law 1361 = .ok (.if_icmp .eq 5, 3) := dk_159 0 5 (dk_at dksL_law_54 16 rfl rfl)
theorem dL_law_1364 : decode cL_law 1364 = .ok (.iconst 0, 1) := dk_3 (dk_at dksL_law_54 19 rfl rfl)
theorem dL_law_1365 : decode cL_law 1365 = .ok (.ireturn, 1) := dk_172 (dk_at dksL_law_54 20 rfl rfl)
theorem dL_law_1366 : decode cL_law 1366 = .ok (.iload 5, 2) := dk_21 5 (dk_at dksL_law_54 21 rfl rfl)
theorem dL_law_1368 : decode cL_law 1368 = .ok (.ifCond .ne 15, 3) := dk_154 0 15 (dk_at dksL_law_55 0 rfl rfl)
theorem dL_law_1371 : decode cL_law 1371 = .ok (.aload_n 3, 1) := dk_45 (dk_at dksL_law_55 3 rfl rfl)
theorem dL_law_1372 : decode cL_law 1372 = .ok (.iconst 0, 1) := dk_3 (dk_at dksL_law_55 4 rfl rfl)
theorem dL_law_1373 : decode cL_law 1373 = .ok (.laload, 1) := dk_47 (dk_at dksL_law_55 5 rfl rfl)
theorem dL_law_1374 : decode cL_law 1374 = .ok (.iload 6, 2) := dk_21 6 (dk_at dksL_law_55 6 rfl rfl)
theorem dL_law_1376 : decode cL_law 1376 = .ok (.i2l, 1) := dk_133 (dk_at dksL_law_55 8 rfl rfl)
theorem dL_law_1377 : decode cL_law 1377 = .ok (.lcmp, 1) := dk_148 (dk_at dksL_law_55 9 rfl rfl)
theorem dL_law_1378 : decode cL_law 1378 = .ok (.ifCond .eq 5, 3) := dk_153 0 5 (dk_at dksL_law_55 10 rfl rfl)
theorem dL_law_1381 : decode cL_law 1381 = .ok (.iconst 0, 1) := dk_3 (dk_at dksL_law_55 13 rfl rfl)
theorem dL_law_1382 : decode cL_law 1382 = .ok (.ireturn, 1) := dk_172 (dk_at dksL_law_55 14 rfl rfl)
theorem dL_law_1383 : decode cL_law 1383 = .ok (.goto 57, 3) := dk_167 0 57 (dk_at dksL_law_55 15 rfl rfl)
theorem dL_law_1386 : decode cL_law 1386 = .ok (.aload_n 1, 1) := dk_43 (dk_at dksL_law_55 18 rfl rfl)
theorem dL_law_1387 : decode cL_law 1387 = .ok (.invokevirtual 166, 3) := dk_182 0 166 (dk_at dksL_law_55 19 rfl rfl)
theorem dL_law_1390 : decode cL_law 1390 = .ok (.aload_n 2, 1) := dk_44 (dk_at dksL_law_55 22 rfl rfl)
theorem dL_law_1391 : decode cL_law 1391 = .ok (.invokevirtual 169, 3) := dk_182 0 169 (dk_at dksL_law_56 0 rfl rfl)
theorem dL_law_1394 : decode cL_law 1394 = .ok (.if_icmp .eq 46, 3) := dk_159 0 46 (dk_at dksL_law_56 3 rfl rfl)
theorem dL_law_1397 : decode cL_law 1397 = .ok (.iconst 0, 1) := dk_3 (dk_at dksL_law_56 6 rfl rfl)
theorem dL_law_1398 : decode cL_law 1398 = .ok (.ireturn, 1) := dk_172 (dk_at dksL_law_56 7 rfl rfl)
theorem dL_law_1399 : decode cL_law 1399 = .ok (.aload_n 1, 1) := dk_43 (dk_at dksL_law_56 8 rfl rfl)
theorem dL_law_1400 : decode cL_law 1400 = .ok (.invokevirtual 170, 3) := dk_182 0 170 (dk_at dksL_law_56 9 rfl rfl)
theorem dL_law_1403 : decode cL_law 1403 = .ok (.dstore 5, 2) := dk_57 5 (dk_at dksL_law_56 12 rfl rfl)
theorem dL_law_1405 : decode cL_law 1405 = .ok (.aload_n 2, 1) := dk_44 (dk_at dksL_law_56 14 rfl rfl)
theorem dL_law_1406 : decode cL_law 1406 = .ok (.invokevirtual 174, 3) := dk_182 0 174 (dk_at dksL_law_56 15 rfl rfl)
theorem dL_law_1409 : decode cL_law 1409 = .ok (.dstore 7, 2) := dk_57 7 (dk_at dksL_law_56 18 rfl rfl)
theorem dL_law_1411 : decode cL_law 1411 = .ok (.dload 5, 2) := dk_24 5 (dk_at dksL_law_56 20 rfl rfl)
theorem dL_law_1413 : decode cL_law 1413 = .ok (.dload 7, 2) := dk_24 7 (dk_at dksL_law_56 22 rfl rfl)
theorem dL_law_1415 : decode cL_law 1415 = .ok (.dcmp .l, 1) := dk_151 (dk_at dksL_law_57 0 rfl rfl)
theorem dL_law_1416 : decode cL_law 1416 = .ok (.ifCond .eq 21, 3) := dk_153 0 21 (dk_at dksL_law_57 1 rfl rfl)
theorem dL_law_1419 : decode cL_law 1419 = .ok (.dload 5, 2) := dk_24 5 (dk_at dksL_law_57 4 rfl rfl)
theorem dL_law_1421 : decode cL_law 1421 = .ok (.dload 5, 2) := dk_24 5 (dk_at dksL_law_57 6 rfl rfl)
theorem dL_law_1423 : decode cL_law 1423 = .ok (.dcmp .l, 1) := dk_151 (dk_at dksL_law_57 8 rfl rfl)
theorem dL_law_1424 : decode cL_law 1424 = .ok (.ifCond .eq 11, 3) := dk_153 0 11 (dk_at dksL_law_57 9 rfl rfl)
theorem dL_law_1427 : decode cL_law 1427 = .ok (.dload 7, 2) := dk_24 7 (dk_at dksL_law_57 12 rfl rfl)
theorem dL_law_1429 : decode cL_law 1429 = .ok (.dload 7, 2) := dk_24 7 (dk_at dksL_law_57 14 rfl rfl)
theorem dL_law_1431 : decode cL_law 1431 = .ok (.dcmp .l, 1) := dk_151 (dk_at dksL_law_57 16 rfl rfl)
theorem dL_law_1432 : decode cL_law 1432 = .ok (.ifCond .ne 5, 3) := dk_154 0 5 (dk_at dksL_law_57 17 rfl rfl)
theorem dL_law_1435 : decode cL_law 1435 = .ok (.iconst 0, 1) := dk_3 (dk_at dksL_law_57 20 rfl rfl)
theorem dL_law_1436 : decode cL_law 1436 = .ok (.ireturn, 1) := dk_172 (dk_at dksL_law_57 21 rfl rfl)
theorem dL_law_1437 : decode cL_law 1437 = .ok (.goto 3, 3) := dk_167 0 3 (dk_at dksL_law_58 0 rfl rfl)
theorem dL_law_1440 : decode cL_law 1440 = .ok (.iinc 4 4, 3) := dk_132 4 4 (dk_at dksL_law_58 3 rfl rfl)
theorem dL_law_1443 : decode cL_law 1443 = .ok (.goto (-1390), 3) := dk_167 250 146 (dk_at dksL_law_58 6 rfl rfl)
theorem dL_law_1446 : decode cL_law 1446 = .ok (.iconst 1, 1) := dk_4 (dk_at dksL_law_58 9 rfl rfl)
theorem dL_law_1447 : decode cL_law 1447 = .ok (.ireturn, 1) := dk_172 (dk_at dksL_law_58 10 rfl rfl)
