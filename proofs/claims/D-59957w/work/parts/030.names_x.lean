/-! Aislewright -/
set_option maxRecDepth 100000
def RX1 : String := "Aislewright"
def TX1 : u_T := fun k => match k with
  | 0 => ("Aislewright", "aisles", "I", true)
  | 1 => ("Aislewright", "positions", "I", true)
  | 2 => ("Aislewright", "gap", "I", true)
  | 3 => ("Aislewright", "placeOfProduct", "[I", true)
  | 4 => ("Aislewright", "turnovers", "[I", true)
  | 5 => ("Aislewright", "orders", "Ljava/util/List;", true)
  | 6 => ("Aislewright", "wave", "Ljava/util/List;", true)
  | 7 => ("Aislewright", "savings", "[[I", true)
  | 8 => ("Aislewright", "router", "LAislewright$Router;", true)
  | 9 => ("Aislewright", "capacity", "I", false)
  | 10 => ("Aislewright", "walked", "I", false)
  | _ => ("Aislewright", "alone", "I", false)
def tyX1 : Nat → FieldType := fun k => match k with
  | 0 => .int
  | 1 => .int
  | 2 => .int
  | 3 => .array .int
  | 4 => .array .int
  | 5 => .object "java/util/List"
  | 6 => .object "java/util/List"
  | 7 => .array (.array .int)
  | 8 => .object "Aislewright$Router"
  | 9 => .int
  | 10 => .int
  | _ => .int
abbrev wsX10 : List Cond := u_ws RX1 TX1 12
theorem nmX1 : ∀ a, a < 12 → ∀ b, b < 12 → a ≠ b → (TX1 a).2.1 ≠ (TX1 b).2.1 := by decide +kernel
theorem tyX1_ok : ∀ k, k < 12 → parseFieldDescriptor (TX1 k).2.2.1 = some (tyX1 k) := by decide +kernel
abbrev cX1_init : ByteArray := prog_1_method_2_code
def yX1_init : MethodName := ⟨RX1, "<init>", "(III)V"⟩
def dkwX1_init_5 : List UInt8 := [54, 4, 21, 4, 16, 20, 162, 0, 17, 42, 180, 0, 29, 21, 4, 2, 79, 132, 4, 1, 167, 255, 238, 177]
abbrev dktX1_init_5 : List UInt8 := dkwX1_init_5 ++ []
def dkwX1_init_4 : List UInt8 := [184, 0, 64, 184, 0, 70, 181, 0, 76, 42, 4, 16, 9, 29, 184, 0, 64, 184, 0, 70, 181, 0, 79, 3]
abbrev dktX1_init_4 : List UInt8 := dkwX1_init_4 ++ dktX1_init_5
def dkwX1_init_3 : List UInt8 := [181, 0, 60, 42, 4, 16, 6, 27, 184, 0, 64, 184, 0, 70, 181, 0, 73, 42, 4, 16, 20, 28]
abbrev dktX1_init_3 : List UInt8 := dkwX1_init_3 ++ dktX1_init_4
def dkwX1_init_2 : List UInt8 := [197, 0, 46, 2, 181, 0, 48, 42, 187, 0, 51, 89, 42, 183, 0, 53, 181, 0, 56, 42, 16, 6]
abbrev dktX1_init_2 : List UInt8 := dkwX1_init_2 ++ dktX1_init_3
def dkwX1_init_1 : List UInt8 := [89, 183, 0, 38, 181, 0, 39, 42, 187, 0, 36, 89, 183, 0, 38, 181, 0, 43, 42, 16, 40, 16, 40]
abbrev dktX1_init_1 : List UInt8 := dkwX1_init_1 ++ dktX1_init_2
def dkwX1_init_0 : List UInt8 := [42, 183, 0, 21, 42, 16, 20, 188, 10, 181, 0, 29, 42, 16, 20, 188, 10, 181, 0, 33, 42, 187, 0, 36]
abbrev dktX1_init_0 : List UInt8 := dkwX1_init_0 ++ dktX1_init_1
theorem dksX1_init_0 : cX1_init.data.toList.drop 0 = dktX1_init_0 := by decide +kernel
theorem dksX1_init_1 : cX1_init.data.toList.drop 24 = dktX1_init_1 := dk_seg dksX1_init_0 24 rfl rfl
theorem dksX1_init_2 : cX1_init.data.toList.drop 47 = dktX1_init_2 := dk_seg dksX1_init_1 23 rfl rfl
theorem dksX1_init_3 : cX1_init.data.toList.drop 69 = dktX1_init_3 := dk_seg dksX1_init_2 22 rfl rfl
theorem dksX1_init_4 : cX1_init.data.toList.drop 91 = dktX1_init_4 := dk_seg dksX1_init_3 22 rfl rfl
theorem dksX1_init_5 : cX1_init.data.toList.drop 115 = dktX1_init_5 := dk_seg dksX1_init_4 24 rfl rfl
theorem dX1_init_0 : decode cX1_init 0 = .ok (.aload_n 0, 1) := dk_42 (dk_at dksX1_init_0 0 rfl rfl)
theorem dX1_init_1 : decode cX1_init 1 = .ok (.invokespecial 21, 3) := dk_183 0 21 (dk_at dksX1_init_0 1 rfl rfl)
theorem dX1_init_4 : decode cX1_init 4 = .ok (.aload_n 0, 1) := dk_42 (dk_at dksX1_init_0 4 rfl rfl)
theorem dX1_init_5 : decode cX1_init 5 = .ok (.bipush 20, 2) := dk_16 20 (dk_at dksX1_init_0 5 rfl rfl)
theorem dX1_init_7 : decode cX1_init 7 = .ok (.newarray .int, 2) := dk_188_10 (dk_at dksX1_init_0 7 rfl rfl)
theorem dX1_init_9 : decode cX1_init 9 = .ok (.putfield 29, 3) := dk_181 0 29 (dk_at dksX1_init_0 9 rfl rfl)
theorem dX1_init_12 : decode cX1_init 12 = .ok (.aload_n 0, 1) := dk_42 (dk_at dksX1_init_0 12 rfl rfl)
theorem dX1_init_13 : decode cX1_init 13 = .ok (.bipush 20, 2) := dk_16 20 (dk_at dksX1_init_0 13 rfl rfl)
theorem dX1_init_15 : decode cX1_init 15 = .ok (.newarray .int, 2) := dk_188_10 (dk_at dksX1_init_0 15 rfl rfl)
theorem dX1_init_17 : decode cX1_init 17 = .ok (.putfield 33, 3) := dk_181 0 33 (dk_at dksX1_init_0 17 rfl rfl)
theorem dX1_init_20 : decode cX1_init 20 = .ok (.aload_n 0, 1) := dk_42 (dk_at dksX1_init_0 20 rfl rfl)
theorem dX1_init_21 : decode cX1_init 21 = .ok (.new 36, 3) := dk_187 0 36 (dk_at dksX1_init_0 21 rfl rfl)
theorem dX1_init_24 : decode cX1_init 24 = .ok (.dup, 1) := dk_89 (dk_at dksX1_init_1 0 rfl rfl)
theorem dX1_init_25 : decode cX1_init 25 = .ok (.invokespecial 38, 3) := dk_183 0 38 (dk_at dksX1_init_1 1 rfl rfl)
theorem dX1_init_28 : decode cX1_init 28 = .ok (.putfield 39, 3) := dk_181 0 39 (dk_at dksX1_init_1 4 rfl rfl)
theorem dX1_init_31 : decode cX1_init 31 = .ok (.aload_n 0, 1) := dk_42 (dk_at dksX1_init_1 7 rfl rfl)
theorem dX1_init_32 : decode cX1_init 32 = .ok (.new 36, 3) := dk_187 0 36 (dk_at dksX1_init_1 8 rfl rfl)
theorem dX1_init_35 : decode cX1_init 35 = .ok (.dup, 1) := dk_89 (dk_at dksX1_init_1 11 rfl rfl)
theorem dX1_init_36 : decode cX1_init 36 = .ok (.invokespecial 38, 3) := dk_183 0 38 (dk_at dksX1_init_1 12 rfl rfl)
theorem dX1_init_39 : decode cX1_init 39 = .ok (.putfield 43, 3) := dk_181 0 43 (dk_at dksX1_init_1 15 rfl rfl)
theorem dX1_init_42 : decode cX1_init 42 = .ok (.aload_n 0, 1) := dk_42 (dk_at dksX1_init_1 18 rfl rfl)
theorem dX1_init_43 : decode cX1_init 43 = .ok (.bipush 40, 2) := dk_16 40 (dk_at dksX1_init_1 19 rfl rfl)
theorem dX1_init_45 : decode cX1_init 45 = .ok (.bipush 40, 2) := dk_16 40 (dk_at dksX1_init_1 21 rfl rfl)
theorem dX1_init_47 : decode cX1_init 47 = .ok (.multianewarray 46 2, 4) := by decide +kernel
theorem dX1_init_51 : decode cX1_init 51 = .ok (.putfield 48, 3) := dk_181 0 48 (dk_at dksX1_init_2 4 rfl rfl)
theorem dX1_init_54 : decode cX1_init 54 = .ok (.aload_n 0, 1) := dk_42 (dk_at dksX1_init_2 7 rfl rfl)
theorem dX1_init_55 : decode cX1_init 55 = .ok (.new 51, 3) := dk_187 0 51 (dk_at dksX1_init_2 8 rfl rfl)
theorem dX1_init_58 : decode cX1_init 58 = .ok (.dup, 1) := dk_89 (dk_at dksX1_init_2 11 rfl rfl)
theorem dX1_init_59 : decode cX1_init 59 = .ok (.aload_n 0, 1) := dk_42 (dk_at dksX1_init_2 12 rfl rfl)
theorem dX1_init_60 : decode cX1_init 60 = .ok (.invokespecial 53, 3) := dk_183 0 53 (dk_at dksX1_init_2 13 rfl rfl)
theorem dX1_init_63 : decode cX1_init 63 = .ok (.putfield 56, 3) := dk_181 0 56 (dk_at dksX1_init_2 16 rfl rfl)
theorem dX1_init_66 : decode cX1_init 66 = .ok (.aload_n 0, 1) := dk_42 (dk_at dksX1_init_2 19 rfl rfl)
theorem dX1_init_67 : decode cX1_init 67 = .ok (.bipush 6, 2) := dk_16 6 (dk_at dksX1_init_2 20 rfl rfl)
theorem dX1_init_69 : decode cX1_init 69 = .ok (.putfield 60, 3) := dk_181 0 60 (dk_at dksX1_init_3 0 rfl rfl)
theorem dX1_init_72 : decode cX1_init 72 = .ok (.aload_n 0, 1) := dk_42 (dk_at dksX1_init_3 3 rfl rfl)
theorem dX1_init_73 : decode cX1_init 73 = .ok (.iconst 1, 1) := dk_4 (dk_at dksX1_init_3 4 rfl rfl)
theorem dX1_init_74 : decode cX1_init 74 = .ok (.bipush 6, 2) := dk_16 6 (dk_at dksX1_init_3 5 rfl rfl)
theorem dX1_init_76 : decode cX1_init 76 = .ok (.iload_n 1, 1) := dk_27 (dk_at dksX1_init_3 7 rfl rfl)
theorem dX1_init_77 : decode cX1_init 77 = .ok (.invokestatic 64, 3) := dk_184 0 64 (dk_at dksX1_init_3 8 rfl rfl)
theorem dX1_init_80 : decode cX1_init 80 = .ok (.invokestatic 70, 3) := dk_184 0 70 (dk_at dksX1_init_3 11 rfl rfl)
theorem dX1_init_83 : decode cX1_init 83 = .ok (.putfield 73, 3) := dk_181 0 73 (dk_at dksX1_init_3 14 rfl rfl)
theorem dX1_init_86 : decode cX1_init 86 = .ok (.aload_n 0, 1) := dk_42 (dk_at dksX1_init_3 17 rfl rfl)
theorem dX1_init_87 : decode cX1_init 87 = .ok (.iconst 1, 1) := dk_4 (dk_at dksX1_init_3 18 rfl rfl)
theorem dX1_init_88 : decode cX1_init 88 = .ok (.bipush 20, 2) := dk_16 20 (dk_at dksX1_init_3 19 rfl rfl)
theorem dX1_init_90 : decode cX1_init 90 = .ok (.iload_n 2, 1) := dk_28 (dk_at dksX1_init_3 21 rfl rfl)
theorem dX1_init_91 : decode cX1_init 91 = .ok (.invokestatic 64, 3) := dk_184 0 64 (dk_at dksX1_init_4 0 rfl rfl)
theorem dX1_init_94 : decode cX1_init 94 = .ok (.invokestatic 70, 3) := dk_184 0 70 (dk_at dksX1_init_4 3 rfl rfl)
theorem dX1_init_97 : decode cX1_init 97 = .ok (.putfield 76, 3) := dk_181 0 76 (dk_at dksX1_init_4 6 rfl rfl)
theorem dX1_init_100 : decode cX1_init 100 = .ok (.aload_n 0, 1) := dk_42 (dk_at dksX1_init_4 9 rfl rfl)
theorem dX1_init_101 : decode cX1_init 101 = .ok (.iconst 1, 1) := dk_4 (dk_at dksX1_init_4 10 rfl rfl)
theorem dX1_init_102 : decode cX1_init 102 = .ok (.bipush 9, 2) := dk_16 9 (dk_at dksX1_init_4 11 rfl rfl)
theorem dX1_init_104 : decode cX1_init 104 = .ok (.iload_n 3, 1) := dk_29 (dk_at dksX1_init_4 13 rfl rfl)
theorem dX1_init_105 : decode cX1_init 105 = .ok (.invokestatic 64, 3) := dk_184 0 64 (dk_at dksX1_init_4 14 rfl rfl)
theorem dX1_init_108 : decode cX1_init 108 = .ok (.invokestatic 70, 3) := dk_184 0 70 (dk_at dksX1_init_4 17 rfl rfl)
theorem dX1_init_111 : decode cX1_init 111 = .ok (.putfield 79, 3) := dk_181 0 79 (dk_at dksX1_init_4 20 rfl rfl)
theorem dX1_init_114 : decode cX1_init 114 = .ok (.iconst 0, 1) := dk_3 (dk_at dksX1_init_4 23 rfl rfl)
theorem dX1_init_115 : decode cX1_init 115 = .ok (.istore 4, 2) := dk_54 4 (dk_at dksX1_init_5 0 rfl rfl)
theorem dX1_init_117 : decode cX1_init 117 = .ok (.iload 4, 2) := dk_21 4 (dk_at dksX1_init_5 2 rfl rfl)
theorem dX1_init_119 : decode cX1_init 119 = .ok (.bipush 20, 2) := dk_16 20 (dk_at dksX1_init_5 4 rfl rfl)
theorem dX1_init_121 : decode cX1_init 121 = .ok (.if_icmp .ge 17, 3) := dk_162 0 17 (dk_at dksX1_init_5 6 rfl rfl)
theorem dX1_init_124 : decode cX1_init 124 = .ok (.aload_n 0, 1) := dk_42 (dk_at dksX1_init_5 9 rfl rfl)
theorem dX1_init_125 : decode cX1_init 125 = .ok (.getfield 29, 3) := dk_180 0 29 (dk_at dksX1_init_5 10 rfl rfl)
theorem dX1_init_128 : decode cX1_init 128 = .ok (.iload 4, 2) := dk_21 4 (dk_at dksX1_init_5 13 rfl rfl)
theorem dX1_init_130 : decode cX1_init 130 = .ok (.iconst (-1), 1) := dk_2 (dk_at dksX1_init_5 15 rfl rfl)
theorem dX1_init_131 : decode cX1_init 131 = .ok (.iastore, 1) := dk_79 (dk_at dksX1_init_5 16 rfl rfl)
theorem dX1_init_132 : decode cX1_init 132 = .ok (.iinc 4 1, 3) := dk_132 4 1 (dk_at dksX1_init_5 17 rfl rfl)
theorem dX1_init_135 : decode cX1_init 135 = .ok (.goto (-18), 3) := dk_167 255 238 (dk_at dksX1_init_5 20 rfl rfl)
theorem dX1_init_138 : decode cX1_init 138 = .ok (.return_, 1) := dk_177 (dk_at dksX1_init_5 23 rfl rfl)
abbrev cX1_orders : ByteArray := prog_1_method_18_code
def yX1_orders : MethodName := ⟨RX1, "orders", "()I"⟩
def dkwX1_orders_0 : List UInt8 := [42, 180, 0, 39, 185, 0, 1, 1, 0, 172]
abbrev dktX1_orders_0 : List UInt8 := dkwX1_orders_0 ++ []
theorem dksX1_orders_0 : cX1_orders.data.toList.drop 0 = dktX1_orders_0 := by decide +kernel
theorem dX1_orders_0 : decode cX1_orders 0 = .ok (.aload_n 0, 1) := dk_42 (dk_at dksX1_orders_0 0 rfl rfl)
theorem dX1_orders_1 : decode cX1_orders 1 = .ok (.getfield 39, 3) := dk_180 0 39 (dk_at dksX1_orders_0 1 rfl rfl)
theorem dX1_orders_4 : decode cX1_orders 4 = .ok (.invokeinterface 1 1, 5) := by decide +kernel
theorem dX1_orders_9 : decode cX1_orders 9 = .ok (.ireturn, 1) := dk_172 (dk_at dksX1_orders_0 9 rfl rfl)
abbrev cX1_batches : ByteArray := prog_1_method_27_code
def yX1_batches : MethodName := ⟨RX1, "batches", "()I"⟩
def dkwX1_batches_0 : List UInt8 := [42, 180, 0, 43, 185, 0, 1, 1, 0, 172]
abbrev dktX1_batches_0 : List UInt8 := dkwX1_batches_0 ++ []
theorem dksX1_batches_0 : cX1_batches.data.toList.drop 0 = dktX1_batches_0 := by decide +kernel
theorem dX1_batches_0 : decode cX1_batches 0 = .ok (.aload_n 0, 1) := dk_42 (dk_at dksX1_batches_0 0 rfl rfl)
theorem dX1_batches_1 : decode cX1_batches 1 = .ok (.getfield 43, 3) := dk_180 0 43 (dk_at dksX1_batches_0 1 rfl rfl)
theorem dX1_batches_4 : decode cX1_batches 4 = .ok (.invokeinterface 1 1, 5) := by decide +kernel
theorem dX1_batches_9 : decode cX1_batches 9 = .ok (.ireturn, 1) := dk_172 (dk_at dksX1_batches_0 9 rfl rfl)
abbrev cX1_walked : ByteArray := prog_1_method_36_code
def yX1_walked : MethodName := ⟨RX1, "walked", "()I"⟩
theorem dX1_walked_0 : decode cX1_walked 0 = .ok (.aload_n 0, 1) := by decide +kernel
theorem dX1_walked_1 : decode cX1_walked 1 = .ok (.getfield 264, 3) := by decide +kernel
theorem dX1_walked_4 : decode cX1_walked 4 = .ok (.ireturn, 1) := by decide +kernel
abbrev cX1_share : ByteArray := prog_1_method_37_code
def yX1_share : MethodName := ⟨RX1, "share", "()D"⟩
def dkwX1_share_0 : List UInt8 := [42, 180, 1, 5, 154, 0, 7, 15, 167, 0, 14, 42, 180, 1, 8, 135, 42, 180, 1, 5, 135, 111, 175]
abbrev dktX1_share_0 : List UInt8 := dkwX1_share_0 ++ []
theorem dksX1_share_0 : cX1_share.data.toList.drop 0 = dktX1_share_0 := by decide +kernel
theorem dX1_share_0 : decode cX1_share 0 = .ok (.aload_n 0, 1) := dk_42 (dk_at dksX1_share_0 0 rfl rfl)
theorem dX1_share_1 : decode cX1_share 1 = .ok (.getfield 261, 3) := dk_180 1 5 (dk_at dksX1_share_0 1 rfl rfl)
theorem dX1_share_4 : decode cX1_share 4 = .ok (.ifCond .ne 7, 3) := dk_154 0 7 (dk_at dksX1_share_0 4 rfl rfl)
theorem dX1_share_7 : decode cX1_share 7 = .ok (.dconst 1, 1) := dk_15 (dk_at dksX1_share_0 7 rfl rfl)
theorem dX1_share_8 : decode cX1_share 8 = .ok (.goto 14, 3) := dk_167 0 14 (dk_at dksX1_share_0 8 rfl rfl)
theorem dX1_share_11 : decode cX1_share 11 = .ok (.aload_n 0, 1) := dk_42 (dk_at dksX1_share_0 11 rfl rfl)
theorem dX1_share_12 : decode cX1_share 12 = .ok (.getfield 264, 3) := dk_180 1 8 (dk_at dksX1_share_0 12 rfl rfl)
theorem dX1_share_15 : decode cX1_share 15 = .ok (.i2d, 1) := dk_135 (dk_at dksX1_share_0 15 rfl rfl)
theorem dX1_share_16 : decode cX1_share 16 = .ok (.aload_n 0, 1) := dk_42 (dk_at dksX1_share_0 16 rfl rfl)
theorem dX1_share_17 : decode cX1_share 17 = .ok (.getfield 261, 3) := dk_180 1 5 (dk_at dksX1_share_0 17 rfl rfl)
theorem dX1_share_20 : decode cX1_share 20 = .ok (.i2d, 1) := dk_135 (dk_at dksX1_share_0 20 rfl rfl)
theorem dX1_share_21 : decode cX1_share 21 = .ok (.ddiv, 1) := dk_111 (dk_at dksX1_share_0 21 rfl rfl)
theorem dX1_share_22 : decode cX1_share 22 = .ok (.dreturn, 1) := dk_175 (dk_at dksX1_share_0 22 rfl rfl)
abbrev cX1_put : ByteArray := prog_1_method_11_code
def yX1_put : MethodName := ⟨RX1, "put", "(III)I"⟩
def dkwX1_put_4 : List UInt8 := [18, 143, 184, 0, 145, 42, 180, 0, 29, 27, 46, 54, 6, 42, 180, 0, 29, 27, 21, 4, 79, 21, 6, 172]
abbrev dktX1_put_4 : List UInt8 := dkwX1_put_4 ++ []
def dkwX1_put_3 : List UInt8 := [21, 6, 46, 21, 4, 159, 0, 7, 4, 167, 0, 4, 3, 54, 5, 132, 6, 1, 167, 255, 216, 21, 5]
abbrev dktX1_put_3 : List UInt8 := dkwX1_put_3 ++ dktX1_put_4
def dkwX1_put_2 : List UInt8 := [54, 6, 21, 6, 16, 20, 162, 0, 39, 21, 5, 153, 0, 25, 21, 6, 27, 159, 0, 15, 42, 180, 0, 29]
abbrev dktX1_put_2 : List UInt8 := dkwX1_put_2 ++ dktX1_put_3
def dkwX1_put_1 : List UInt8 := [180, 0, 76, 18, 137, 184, 0, 107, 96, 54, 4, 42, 180, 0, 43, 185, 0, 139, 1, 0, 54, 5, 3]
abbrev dktX1_put_1 : List UInt8 := dkwX1_put_1 ++ dktX1_put_2
def dkwX1_put_0 : List UInt8 := [27, 184, 0, 133, 87, 16, 100, 28, 42, 180, 0, 73, 18, 135, 184, 0, 107, 104, 4, 96, 29, 4, 100, 42]
abbrev dktX1_put_0 : List UInt8 := dkwX1_put_0 ++ dktX1_put_1
theorem dksX1_put_0 : cX1_put.data.toList.drop 0 = dktX1_put_0 := by decide +kernel
theorem dksX1_put_1 : cX1_put.data.toList.drop 24 = dktX1_put_1 := dk_seg dksX1_put_0 24 rfl rfl
theorem dksX1_put_2 : cX1_put.data.toList.drop 47 = dktX1_put_2 := dk_seg dksX1_put_1 23 rfl rfl
theorem dksX1_put_3 : cX1_put.data.toList.drop 71 = dktX1_put_3 := dk_seg dksX1_put_2 24 rfl rfl
theorem dksX1_put_4 : cX1_put.data.toList.drop 94 = dktX1_put_4 := dk_seg dksX1_put_3 23 rfl rfl
theorem dX1_put_0 : decode cX1_put 0 = .ok (.iload_n 1, 1) := dk_27 (dk_at dksX1_put_0 0 rfl rfl)
theorem dX1_put_1 : decode cX1_put 1 = .ok (.invokestatic 133, 3) := dk_184 0 133 (dk_at dksX1_put_0 1 rfl rfl)
theorem dX1_put_4 : decode cX1_put 4 = .ok (.pop, 1) := dk_87 (dk_at dksX1_put_0 4 rfl rfl)
theorem dX1_put_5 : decode cX1_put 5 = .ok (.bipush 100, 2) := dk_16 100 (dk_at dksX1_put_0 5 rfl rfl)
theorem dX1_put_7 : decode cX1_put 7 = .ok (.iload_n 2, 1) := dk_28 (dk_at dksX1_put_0 7 rfl rfl)
theorem dX1_put_8 : decode cX1_put 8 = .ok (.aload_n 0, 1) := dk_42 (dk_at dksX1_put_0 8 rfl rfl)
theorem dX1_put_9 : decode cX1_put 9 = .ok (.getfield 73, 3) := dk_180 0 73 (dk_at dksX1_put_0 9 rfl rfl)
theorem dX1_put_12 : decode cX1_put 12 = .ok (.ldc 135, 2) := dk_18 135 (dk_at dksX1_put_0 12 rfl rfl)
theorem dX1_put_14 : decode cX1_put 14 = .ok (.invokestatic 107, 3) := dk_184 0 107 (dk_at dksX1_put_0 14 rfl rfl)
theorem dX1_put_17 : decode cX1_put 17 = .ok (.imul, 1) := dk_104 (dk_at dksX1_put_0 17 rfl rfl)
theorem dX1_put_18 : decode cX1_put 18 = .ok (.iconst 1, 1) := dk_4 (dk_at dksX1_put_0 18 rfl rfl)
theorem dX1_put_19 : decode cX1_put 19 = .ok (.iadd, 1) := dk_96 (dk_at dksX1_put_0 19 rfl rfl)
theorem dX1_put_20 : decode cX1_put 20 = .ok (.iload_n 3, 1) := dk_29 (dk_at dksX1_put_0 20 rfl rfl)
theorem dX1_put_21 : decode cX1_put 21 = .ok (.iconst 1, 1) := dk_4 (dk_at dksX1_put_0 21 rfl rfl)
theorem dX1_put_22 : decode cX1_put 22 = .ok (.isub, 1) := dk_100 (dk_at dksX1_put_0 22 rfl rfl)
theorem dX1_put_23 : decode cX1_put 23 = .ok (.aload_n 0, 1) := dk_42 (dk_at dksX1_put_0 23 rfl rfl)
theorem dX1_put_24 : decode cX1_put 24 = .ok (.getfield 76, 3) := dk_180 0 76 (dk_at dksX1_put_1 0 rfl rfl)
theorem dX1_put_27 : decode cX1_put 27 = .ok (.ldc 137, 2) := dk_18 137 (dk_at dksX1_put_1 3 rfl rfl)
theorem dX1_put_29 : decode cX1_put 29 = .ok (.invokestatic 107, 3) := dk_184 0 107 (dk_at dksX1_put_1 5 rfl rfl)
theorem dX1_put_32 : decode cX1_put 32 = .ok (.iadd, 1) := dk_96 (dk_at dksX1_put_1 8 rfl rfl)
theorem dX1_put_33 : decode cX1_put 33 = .ok (.istore 4, 2) := dk_54 4 (dk_at dksX1_put_1 9 rfl rfl)
theorem dX1_put_35 : decode cX1_put 35 = .ok (.aload_n 0, 1) := dk_42 (dk_at dksX1_put_1 11 rfl rfl)
theorem dX1_put_36 : decode cX1_put 36 = .ok (.getfield 43, 3) := dk_180 0 43 (dk_at dksX1_put_1 12 rfl rfl)
theorem dX1_put_39 : decode cX1_put 39 = .ok (.invokeinterface 139 1, 5) := by decide +kernel
theorem dX1_put_44 : decode cX1_put 44 = .ok (.istore 5, 2) := dk_54 5 (dk_at dksX1_put_1 20 rfl rfl)
theorem dX1_put_46 : decode cX1_put 46 = .ok (.iconst 0, 1) := dk_3 (dk_at dksX1_put_1 22 rfl rfl)
theorem dX1_put_47 : decode cX1_put 47 = .ok (.istore 6, 2) := dk_54 6 (dk_at dksX1_put_2 0 rfl rfl)
theorem dX1_put_49 : decode cX1_put 49 = .ok (.iload 6, 2) := dk_21 6 (dk_at dksX1_put_2 2 rfl rfl)
theorem dX1_put_51 : decode cX1_put 51 = .ok (.bipush 20, 2) := dk_16 20 (dk_at dksX1_put_2 4 rfl rfl)
theorem dX1_put_53 : decode cX1_put 53 = .ok (.if_icmp .ge 39, 3) := dk_162 0 39 (dk_at dksX1_put_2 6 rfl rfl)
theorem dX1_put_56 : decode cX1_put 56 = .ok (.iload 5, 2) := dk_21 5 (dk_at dksX1_put_2 9 rfl rfl)
theorem dX1_put_58 : decode cX1_put 58 = .ok (.ifCond .eq 25, 3) := dk_153 0 25 (dk_at dksX1_put_2 11 rfl rfl)
theorem dX1_put_61 : decode cX1_put 61 = .ok (.iload 6, 2) := dk_21 6 (dk_at dksX1_put_2 14 rfl rfl)
theorem dX1_put_63 : decode cX1_put 63 = .ok (.iload_n 1, 1) := dk_27 (dk_at dksX1_put_2 16 rfl rfl)
theorem dX1_put_64 : decode cX1_put 64 = .ok (.if_icmp .eq 15, 3) := dk_159 0 15 (dk_at dksX1_put_2 17 rfl rfl)
theorem dX1_put_67 : decode cX1_put 67 = .ok (.aload_n 0, 1) := dk_42 (dk_at dksX1_put_2 20 rfl rfl)
theorem dX1_put_68 : decode cX1_put 68 = .ok (.getfield 29, 3) := dk_180 0 29 (dk_at dksX1_put_2 21 rfl rfl)
theorem dX1_put_71 : decode cX1_put 71 = .ok (.iload 6, 2) := dk_21 6 (dk_at dksX1_put_3 0 rfl rfl)
theorem dX1_put_73 : decode cX1_put 73 = .ok (.iaload, 1) := dk_46 (dk_at dksX1_put_3 2 rfl rfl)
theorem dX1_put_74 : decode cX1_put 74 = .ok (.iload 4, 2) := dk_21 4 (dk_at dksX1_put_3 3 rfl rfl)
theorem dX1_put_76 : decode cX1_put 76 = .ok (.if_icmp .eq 7, 3) := dk_159 0 7 (dk_at dksX1_put_3 5 rfl rfl)
theorem dX1_put_79 : decode cX1_put 79 = .ok (.iconst 1, 1) := dk_4 (dk_at dksX1_put_3 8 rfl rfl)
theorem dX1_put_80 : decode cX1_put 80 = .ok (.goto 4, 3) := dk_167 0 4 (dk_at dksX1_put_3 9 rfl rfl)
theorem dX1_put_83 : decode cX1_put 83 = .ok (.iconst 0, 1) := dk_3 (dk_at dksX1_put_3 12 rfl rfl)
theorem dX1_put_84 : decode cX1_put 84 = .ok (.istore 5, 2) := dk_54 5 (dk_at dksX1_put_3 13 rfl rfl)
theorem dX1_put_86 : decode cX1_put 86 = .ok (.iinc 6 1, 3) := dk_132 6 1 (dk_at dksX1_put_3 15 rfl rfl)
theorem dX1_put_89 : decode cX1_put 89 = .ok (.goto (-40), 3) := dk_167 255 216 (dk_at dksX1_put_3 18 rfl rfl)
theorem dX1_put_92 : decode cX1_put 92 = .ok (.iload 5, 2) := dk_21 5 (dk_at dksX1_put_3 21 rfl rfl)
theorem dX1_put_94 : decode cX1_put 94 = .ok (.ldc 143, 2) := dk_18 143 (dk_at dksX1_put_4 0 rfl rfl)
theorem dX1_put_96 : decode cX1_put 96 = .ok (.invokestatic 145, 3) := dk_184 0 145 (dk_at dksX1_put_4 2 rfl rfl)
theorem dX1_put_99 : decode cX1_put 99 = .ok (.aload_n 0, 1) := dk_42 (dk_at dksX1_put_4 5 rfl rfl)
theorem dX1_put_100 : decode cX1_put 100 = .ok (.getfield 29, 3) := dk_180 0 29 (dk_at dksX1_put_4 6 rfl rfl)
theorem dX1_put_103 : decode cX1_put 103 = .ok (.iload_n 1, 1) := dk_27 (dk_at dksX1_put_4 9 rfl rfl)
theorem dX1_put_104 : decode cX1_put 104 = .ok (.iaload, 1) := dk_46 (dk_at dksX1_put_4 10 rfl rfl)
theorem dX1_put_105 : decode cX1_put 105 = .ok (.istore 6, 2) := dk_54 6 (dk_at dksX1_put_4 11 rfl rfl)
theorem dX1_put_107 : decode cX1_put 107 = .ok (.aload_n 0, 1) := dk_42 (dk_at dksX1_put_4 13 rfl rfl)
theorem dX1_put_108 : decode cX1_put 108 = .ok (.getfield 29, 3) := dk_180 0 29 (dk_at dksX1_put_4 14 rfl rfl)
theorem dX1_put_111 : decode cX1_put 111 = .ok (.iload_n 1, 1) := dk_27 (dk_at dksX1_put_4 17 rfl rfl)
theorem dX1_put_112 : decode cX1_put 112 = .ok (.iload 4, 2) := dk_21 4 (dk_at dksX1_put_4 18 rfl rfl)
theorem dX1_put_114 : decode cX1_put 114 = .ok (.iastore, 1) := dk_79 (dk_at dksX1_put_4 20 rfl rfl)
theorem dX1_put_115 : decode cX1_put 115 = .ok (.iload 6, 2) := dk_21 6 (dk_at dksX1_put_4 21 rfl rfl)
theorem dX1_put_117 : decode cX1_put 117 = .ok (.ireturn, 1) := dk_172 (dk_at dksX1_put_4 23 rfl rfl)
abbrev cX1_product : ByteArray := prog_1_method_4_code
def yX1_product : MethodName := ⟨RX1, "product", "(I)I"⟩
def dkwX1_product_0 : List UInt8 := [26, 16, 20, 18, 105, 184, 0, 107, 172]
abbrev dktX1_product_0 : List UInt8 := dkwX1_product_0 ++ []
theorem dksX1_product_0 : cX1_product.data.toList.drop 0 = dktX1_product_0 := by decide +kernel
theorem dX1_product_0 : decode cX1_product 0 = .ok (.iload_n 0, 1) := dk_26 (dk_at dksX1_product_0 0 rfl rfl)
theorem dX1_product_1 : decode cX1_product 1 = .ok (.bipush 20, 2) := dk_16 20 (dk_at dksX1_product_0 1 rfl rfl)
theorem dX1_product_3 : decode cX1_product 3 = .ok (.ldc 105, 2) := dk_18 105 (dk_at dksX1_product_0 3 rfl rfl)
theorem dX1_product_5 : decode cX1_product 5 = .ok (.invokestatic 107, 3) := dk_184 0 107 (dk_at dksX1_product_0 5 rfl rfl)
theorem dX1_product_8 : decode cX1_product 8 = .ok (.ireturn, 1) := dk_172 (dk_at dksX1_product_0 8 rfl rfl)
abbrev cX1_within : ByteArray := prog_1_method_3_code
def yX1_within : MethodName := ⟨RX1, "within", "(IILjava/lang/String;)I"⟩
def dkwX1_within_2 : List UInt8 := [172]
abbrev dktX1_within_2 : List UInt8 := dkwX1_within_2 ++ []
def dkwX1_within_1 : List UInt8 := [182, 0, 89, 44, 182, 0, 89, 18, 93, 182, 0, 89, 26, 182, 0, 95, 182, 0, 98, 183, 0, 102, 191, 26]
abbrev dktX1_within_1 : List UInt8 := dkwX1_within_1 ++ dktX1_within_2
def dkwX1_within_0 : List UInt8 := [26, 155, 0, 8, 26, 27, 161, 0, 39, 187, 0, 82, 89, 187, 0, 84, 89, 183, 0, 86, 18, 87]
abbrev dktX1_within_0 : List UInt8 := dkwX1_within_0 ++ dktX1_within_1
theorem dksX1_within_0 : cX1_within.data.toList.drop 0 = dktX1_within_0 := by decide +kernel
theorem dksX1_within_1 : cX1_within.data.toList.drop 22 = dktX1_within_1 := dk_seg dksX1_within_0 22 rfl rfl
theorem dksX1_within_2 : cX1_within.data.toList.drop 46 = dktX1_within_2 := dk_seg dksX1_within_1 24 rfl rfl
theorem dX1_within_0 : decode cX1_within 0 = .ok (.iload_n 0, 1) := dk_26 (dk_at dksX1_within_0 0 rfl rfl)
theorem dX1_within_1 : decode cX1_within 1 = .ok (.ifCond .lt 8, 3) := dk_155 0 8 (dk_at dksX1_within_0 1 rfl rfl)
theorem dX1_within_4 : decode cX1_within 4 = .ok (.iload_n 0, 1) := dk_26 (dk_at dksX1_within_0 4 rfl rfl)
theorem dX1_within_5 : decode cX1_within 5 = .ok (.iload_n 1, 1) := dk_27 (dk_at dksX1_within_0 5 rfl rfl)
theorem dX1_within_6 : decode cX1_within 6 = .ok (.if_icmp .lt 39, 3) := dk_161 0 39 (dk_at dksX1_within_0 6 rfl rfl)
theorem dX1_within_9 : decode cX1_within 9 = .ok (.new 82, 3) := dk_187 0 82 (dk_at dksX1_within_0 9 rfl rfl)
theorem dX1_within_12 : decode cX1_within 12 = .ok (.dup, 1) := dk_89 (dk_at dksX1_within_0 12 rfl rfl)
theorem dX1_within_13 : decode cX1_within 13 = .ok (.new 84, 3) := dk_187 0 84 (dk_at dksX1_within_0 13 rfl rfl)
theorem dX1_within_16 : decode cX1_within 16 = .ok (.dup, 1) := dk_89 (dk_at dksX1_within_0 16 rfl rfl)
theorem dX1_within_17 : decode cX1_within 17 = .ok (.invokespecial 86, 3) := dk_183 0 86 (dk_at dksX1_within_0 17 rfl rfl)
theorem dX1_within_20 : decode cX1_within 20 = .ok (.ldc 87, 2) := dk_18 87 (dk_at dksX1_within_0 20 rfl rfl)
theorem dX1_within_22 : decode cX1_within 22 = .ok (.invokevirtual 89, 3) := dk_182 0 89 (dk_at dksX1_within_1 0 rfl rfl)
theorem dX1_within_25 : decode cX1_within 25 = .ok (.aload_n 2, 1) := dk_44 (dk_at dksX1_within_1 3 rfl rfl)
theorem dX1_within_26 : decode cX1_within 26 = .ok (.invokevirtual 89, 3) := dk_182 0 89 (dk_at dksX1_within_1 4 rfl rfl)
theorem dX1_within_29 : decode cX1_within 29 = .ok (.ldc 93, 2) := dk_18 93 (dk_at dksX1_within_1 7 rfl rfl)
theorem dX1_within_31 : decode cX1_within 31 = .ok (.invokevirtual 89, 3) := dk_182 0 89 (dk_at dksX1_within_1 9 rfl rfl)
theorem dX1_within_34 : decode cX1_within 34 = .ok (.iload_n 0, 1) := dk_26 (dk_at dksX1_within_1 12 rfl rfl)
theorem dX1_within_35 : decode cX1_within 35 = .ok (.invokevirtual 95, 3) := dk_182 0 95 (dk_at dksX1_within_1 13 rfl rfl)
theorem dX1_within_38 : decode cX1_within 38 = .ok (.invokevirtual 98, 3) := dk_182 0 98 (dk_at dksX1_within_1 16 rfl rfl)
theorem dX1_within_41 : decode cX1_within 41 = .ok (.invokespecial 102, 3) := dk_183 0 102 (dk_at dksX1_within_1 19 rfl rfl)
theorem dX1_within_44 : decode cX1_within 44 = .ok (.athrow, 1) := dk_191 (dk_at dksX1_within_1 22 rfl rfl)
theorem dX1_within_45 : decode cX1_within 45 = .ok (.iload_n 0, 1) := dk_26 (dk_at dksX1_within_1 23 rfl rfl)
theorem dX1_within_46 : decode cX1_within 46 = .ok (.ireturn, 1) := dk_172 (dk_at dksX1_within_2 0 rfl rfl)
abbrev cX1_must : ByteArray := prog_1_method_8_code
def yX1_must : MethodName := ⟨RX1, "must", "(ZLjava/lang/String;)V"⟩
def dkwX1_must_0 : List UInt8 := [26, 154, 0, 12, 187, 0, 126, 89, 43, 183, 0, 128, 191, 177]
abbrev dktX1_must_0 : List UInt8 := dkwX1_must_0 ++ []
theorem dksX1_must_0 : cX1_must.data.toList.drop 0 = dktX1_must_0 := by decide +kernel
theorem dX1_must_0 : decode cX1_must 0 = .ok (.iload_n 0, 1) := dk_26 (dk_at dksX1_must_0 0 rfl rfl)
theorem dX1_must_1 : decode cX1_must 1 = .ok (.ifCond .ne 12, 3) := dk_154 0 12 (dk_at dksX1_must_0 1 rfl rfl)
theorem dX1_must_4 : decode cX1_must 4 = .ok (.new 126, 3) := dk_187 0 126 (dk_at dksX1_must_0 4 rfl rfl)
theorem dX1_must_7 : decode cX1_must 7 = .ok (.dup, 1) := dk_89 (dk_at dksX1_must_0 7 rfl rfl)
theorem dX1_must_8 : decode cX1_must 8 = .ok (.aload_n 1, 1) := dk_43 (dk_at dksX1_must_0 8 rfl rfl)
theorem dX1_must_9 : decode cX1_must 9 = .ok (.invokespecial 128, 3) := dk_183 0 128 (dk_at dksX1_must_0 9 rfl rfl)
theorem dX1_must_12 : decode cX1_must 12 = .ok (.athrow, 1) := dk_191 (dk_at dksX1_must_0 12 rfl rfl)
theorem dX1_must_13 : decode cX1_must 13 = .ok (.return_, 1) := dk_177 (dk_at dksX1_must_0 13 rfl rfl)
abbrev cX1_layOut : ByteArray := prog_1_method_12_code
def yX1_layOut : MethodName := ⟨RX1, "layOut", "()I"⟩
def dkwX1_layOut_8 : List UInt8 := [167, 255, 173, 29, 172]
abbrev dktX1_layOut_8 : List UInt8 := dkwX1_layOut_8 ++ []
def dkwX1_layOut_7 : List UInt8 := [180, 0, 29, 21, 5, 43, 21, 4, 185, 0, 7, 2, 0, 192, 0, 151, 180, 0, 163, 79, 132, 4, 1]
abbrev dktX1_layOut_7 : List UInt8 := dkwX1_layOut_7 ++ dktX1_layOut_8
def dkwX1_layOut_6 : List UInt8 := [21, 4, 185, 0, 7, 2, 0, 192, 0, 151, 180, 0, 163, 160, 0, 7, 3, 167, 0, 4, 4, 96, 62, 42]
abbrev dktX1_layOut_6 : List UInt8 := dkwX1_layOut_6 ++ dktX1_layOut_7
def dkwX1_layOut_5 : List UInt8 := [21, 4, 185, 0, 7, 2, 0, 192, 0, 151, 180, 0, 163, 54, 5, 29, 42, 180, 0, 29, 21, 5, 46, 43]
abbrev dktX1_layOut_5 : List UInt8 := dkwX1_layOut_5 ++ dktX1_layOut_6
def dkwX1_layOut_4 : List UInt8 := [132, 3, 1, 167, 255, 193, 3, 62, 3, 54, 4, 21, 4, 43, 185, 0, 1, 1, 0, 162, 0, 78, 44]
abbrev dktX1_layOut_4 : List UInt8 := dkwX1_layOut_4 ++ dktX1_layOut_5
def dkwX1_layOut_3 : List UInt8 := [184, 0, 159, 44, 44, 187, 0, 151, 89, 42, 180, 0, 33, 29, 46, 116, 29, 183, 0, 156, 184, 0, 159]
abbrev dktX1_layOut_3 : List UInt8 := dkwX1_layOut_3 ++ dktX1_layOut_4
def dkwX1_layOut_2 : List UInt8 := [21, 4, 2, 159, 0, 43, 43, 43, 187, 0, 151, 89, 42, 21, 4, 182, 0, 153, 21, 4, 183, 0, 156]
abbrev dktX1_layOut_2 : List UInt8 := dkwX1_layOut_2 ++ dktX1_layOut_3
def dkwX1_layOut_1 : List UInt8 := [187, 0, 36, 89, 183, 0, 38, 77, 3, 62, 29, 16, 20, 162, 0, 63, 42, 180, 0, 29, 29, 46, 54, 4]
abbrev dktX1_layOut_1 : List UInt8 := dkwX1_layOut_1 ++ dktX1_layOut_2
def dkwX1_layOut_0 : List UInt8 := [42, 180, 0, 43, 185, 0, 139, 1, 0, 18, 149, 184, 0, 145, 187, 0, 36, 89, 183, 0, 38, 76]
abbrev dktX1_layOut_0 : List UInt8 := dkwX1_layOut_0 ++ dktX1_layOut_1
theorem dksX1_layOut_0 : cX1_layOut.data.toList.drop 0 = dktX1_layOut_0 := by decide +kernel
theorem dksX1_layOut_1 : cX1_layOut.data.toList.drop 22 = dktX1_layOut_1 := dk_seg dksX1_layOut_0 22 rfl rfl
theorem dksX1_layOut_2 : cX1_layOut.data.toList.drop 46 = dktX1_layOut_2 := dk_seg dksX1_layOut_1 24 rfl rfl
theorem dksX1_layOut_3 : cX1_layOut.data.toList.drop 69 = dktX1_layOut_3 := dk_seg dksX1_layOut_2 23 rfl rfl
theorem dksX1_layOut_4 : cX1_layOut.data.toList.drop 92 = dktX1_layOut_4 := dk_seg dksX1_layOut_3 23 rfl rfl
theorem dksX1_layOut_5 : cX1_layOut.data.toList.drop 115 = dktX1_layOut_5 := dk_seg dksX1_layOut_4 23 rfl rfl
theorem dksX1_layOut_6 : cX1_layOut.data.toList.drop 139 = dktX1_layOut_6 := dk_seg dksX1_layOut_5 24 rfl rfl
theorem dksX1_layOut_7 : cX1_layOut.data.toList.drop 163 = dktX1_layOut_7 := dk_seg dksX1_layOut_6 24 rfl rfl
theorem dksX1_layOut_8 : cX1_layOut.data.toList.drop 186 = dktX1_layOut_8 := dk_seg dksX1_layOut_7 23 rfl rfl
theorem dX1_layOut_0 : decode cX1_layOut 0 = .ok (.aload_n 0, 1) := dk_42 (dk_at dksX1_layOut_0 0 rfl rfl)
theorem dX1_layOut_1 : decode cX1_layOut 1 = .ok (.getfield 43, 3) := dk_180 0 43 (dk_at dksX1_layOut_0 1 rfl rfl)
theorem dX1_layOut_4 : decode cX1_layOut 4 = .ok (.invokeinterface 139 1, 5) := by decide +kernel
theorem dX1_layOut_9 : decode cX1_layOut 9 = .ok (.ldc 149, 2) := dk_18 149 (dk_at dksX1_layOut_0 9 rfl rfl)
theorem dX1_layOut_11 : decode cX1_layOut 11 = .ok (.invokestatic 145, 3) := dk_184 0 145 (dk_at dksX1_layOut_0 11 rfl rfl)
theorem dX1_layOut_14 : decode cX1_layOut 14 = .ok (.new 36, 3) := dk_187 0 36 (dk_at dksX1_layOut_0 14 rfl rfl)
theorem dX1_layOut_17 : decode cX1_layOut 17 = .ok (.dup, 1) := dk_89 (dk_at dksX1_layOut_0 17 rfl rfl)
theorem dX1_layOut_18 : decode cX1_layOut 18 = .ok (.invokespecial 38, 3) := dk_183 0 38 (dk_at dksX1_layOut_0 18 rfl rfl)
theorem dX1_layOut_21 : decode cX1_layOut 21 = .ok (.astore_n 1, 1) := dk_76 (dk_at dksX1_layOut_0 21 rfl rfl)
theorem dX1_layOut_22 : decode cX1_layOut 22 = .ok (.new 36, 3) := dk_187 0 36 (dk_at dksX1_layOut_1 0 rfl rfl)
theorem dX1_layOut_25 : decode cX1_layOut 25 = .ok (.dup, 1) := dk_89 (dk_at dksX1_layOut_1 3 rfl rfl)
theorem dX1_layOut_26 : decode cX1_layOut 26 = .ok (.invokespecial 38, 3) := dk_183 0 38 (dk_at dksX1_layOut_1 4 rfl rfl)
theorem dX1_layOut_29 : decode cX1_layOut 29 = .ok (.astore_n 2, 1) := dk_77 (dk_at dksX1_layOut_1 7 rfl rfl)
theorem dX1_layOut_30 : decode cX1_layOut 30 = .ok (.iconst 0, 1) := dk_3 (dk_at dksX1_layOut_1 8 rfl rfl)
theorem dX1_layOut_31 : decode cX1_layOut 31 = .ok (.istore_n 3, 1) := dk_62 (dk_at dksX1_layOut_1 9 rfl rfl)
theorem dX1_layOut_32 : decode cX1_layOut 32 = .ok (.iload_n 3, 1) := dk_29 (dk_at dksX1_layOut_1 10 rfl rfl)
theorem dX1_layOut_33 : decode cX1_layOut 33 = .ok (.bipush 20, 2) := dk_16 20 (dk_at dksX1_layOut_1 11 rfl rfl)
theorem dX1_layOut_35 : decode cX1_layOut 35 = .ok (.if_icmp .ge 63, 3) := dk_162 0 63 (dk_at dksX1_layOut_1 13 rfl rfl)
theorem dX1_layOut_38 : decode cX1_layOut 38 = .ok (.aload_n 0, 1) := dk_42 (dk_at dksX1_layOut_1 16 rfl rfl)
theorem dX1_layOut_39 : decode cX1_layOut 39 = .ok (.getfield 29, 3) := dk_180 0 29 (dk_at dksX1_layOut_1 17 rfl rfl)
theorem dX1_layOut_42 : decode cX1_layOut 42 = .ok (.iload_n 3, 1) := dk_29 (dk_at dksX1_layOut_1 20 rfl rfl)
theorem dX1_layOut_43 : decode cX1_layOut 43 = .ok (.iaload, 1) := dk_46 (dk_at dksX1_layOut_1 21 rfl rfl)
theorem dX1_layOut_44 : decode cX1_layOut 44 = .ok (.istore 4, 2) := dk_54 4 (dk_at dksX1_layOut_1 22 rfl rfl)
theorem dX1_layOut_46 : decode cX1_layOut 46 = .ok (.iload 4, 2) := dk_21 4 (dk_at dksX1_layOut_2 0 rfl rfl)
theorem dX1_layOut_48 : decode cX1_layOut 48 = .ok (.iconst (-1), 1) := dk_2 (dk_at dksX1_layOut_2 2 rfl rfl)
theorem dX1_layOut_49 : decode cX1_layOut 49 = .ok (.if_icmp .eq 43, 3) := dk_159 0 43 (dk_at dksX1_layOut_2 3 rfl rfl)
theorem dX1_layOut_52 : decode cX1_layOut 52 = .ok (.aload_n 1, 1) := dk_43 (dk_at dksX1_layOut_2 6 rfl rfl)
theorem dX1_layOut_53 : decode cX1_layOut 53 = .ok (.aload_n 1, 1) := dk_43 (dk_at dksX1_layOut_2 7 rfl rfl)
theorem dX1_layOut_54 : decode cX1_layOut 54 = .ok (.new 151, 3) := dk_187 0 151 (dk_at dksX1_layOut_2 8 rfl rfl)
theorem dX1_layOut_57 : decode cX1_layOut 57 = .ok (.dup, 1) := dk_89 (dk_at dksX1_layOut_2 11 rfl rfl)
theorem dX1_layOut_58 : decode cX1_layOut 58 = .ok (.aload_n 0, 1) := dk_42 (dk_at dksX1_layOut_2 12 rfl rfl)
theorem dX1_layOut_59 : decode cX1_layOut 59 = .ok (.iload 4, 2) := dk_21 4 (dk_at dksX1_layOut_2 13 rfl rfl)
theorem dX1_layOut_61 : decode cX1_layOut 61 = .ok (.invokevirtual 153, 3) := dk_182 0 153 (dk_at dksX1_layOut_2 15 rfl rfl)
theorem dX1_layOut_64 : decode cX1_layOut 64 = .ok (.iload 4, 2) := dk_21 4 (dk_at dksX1_layOut_2 18 rfl rfl)
theorem dX1_layOut_66 : decode cX1_layOut 66 = .ok (.invokespecial 156, 3) := dk_183 0 156 (dk_at dksX1_layOut_2 20 rfl rfl)
theorem dX1_layOut_69 : decode cX1_layOut 69 = .ok (.invokestatic 159, 3) := dk_184 0 159 (dk_at dksX1_layOut_3 0 rfl rfl)
theorem dX1_layOut_72 : decode cX1_layOut 72 = .ok (.aload_n 2, 1) := dk_44 (dk_at dksX1_layOut_3 3 rfl rfl)
theorem dX1_layOut_73 : decode cX1_layOut 73 = .ok (.aload_n 2, 1) := dk_44 (dk_at dksX1_layOut_3 4 rfl rfl)
theorem dX1_layOut_74 : decode cX1_layOut 74 = .ok (.new 151, 3) := dk_187 0 151 (dk_at dksX1_layOut_3 5 rfl rfl)
theorem dX1_layOut_77 : decode cX1_layOut 77 = .ok (.dup, 1) := dk_89 (dk_at dksX1_layOut_3 8 rfl rfl)
theorem dX1_layOut_78 : decode cX1_layOut 78 = .ok (.aload_n 0, 1) := dk_42 (dk_at dksX1_layOut_3 9 rfl rfl)
theorem dX1_layOut_79 : decode cX1_layOut 79 = .ok (.getfield 33, 3) := dk_180 0 33 (dk_at dksX1_layOut_3 10 rfl rfl)
theorem dX1_layOut_82 : decode cX1_layOut 82 = .ok (.iload_n 3, 1) := dk_29 (dk_at dksX1_layOut_3 13 rfl rfl)
theorem dX1_layOut_83 : decode cX1_layOut 83 = .ok (.iaload, 1) := dk_46 (dk_at dksX1_layOut_3 14 rfl rfl)
theorem dX1_layOut_84 : decode cX1_layOut 84 = .ok (.ineg, 1) := dk_116 (dk_at dksX1_layOut_3 15 rfl rfl)
theorem dX1_layOut_85 : decode cX1_layOut 85 = .ok (.iload_n 3, 1) := dk_29 (dk_at dksX1_layOut_3 16 rfl rfl)
theorem dX1_layOut_86 : decode cX1_layOut 86 = .ok (.invokespecial 156, 3) := dk_183 0 156 (dk_at dksX1_layOut_3 17 rfl rfl)
theorem dX1_layOut_89 : decode cX1_layOut 89 = .ok (.invokestatic 159, 3) := dk_184 0 159 (dk_at dksX1_layOut_3 20 rfl rfl)
theorem dX1_layOut_92 : decode cX1_layOut 92 = .ok (.iinc 3 1, 3) := dk_132 3 1 (dk_at dksX1_layOut_4 0 rfl rfl)
theorem dX1_layOut_95 : decode cX1_layOut 95 = .ok (.goto (-63), 3) := dk_167 255 193 (dk_at dksX1_layOut_4 3 rfl rfl)
theorem dX1_layOut_98 : decode cX1_layOut 98 = .ok (.iconst 0, 1) := dk_3 (dk_at dksX1_layOut_4 6 rfl rfl)
theorem dX1_layOut_99 : decode cX1_layOut 99 = .ok (.istore_n 3, 1) := dk_62 (dk_at dksX1_layOut_4 7 rfl rfl)
theorem dX1_layOut_100 : decode cX1_layOut 100 = .ok (.iconst 0, 1) := dk_3 (dk_at dksX1_layOut_4 8 rfl rfl)
theorem dX1_layOut_101 : decode cX1_layOut 101 = .ok (.istore 4, 2) := dk_54 4 (dk_at dksX1_layOut_4 9 rfl rfl)
theorem dX1_layOut_103 : decode cX1_layOut 103 = .ok (.iload 4, 2) := dk_21 4 (dk_at dksX1_layOut_4 11 rfl rfl)
theorem dX1_layOut_105 : decode cX1_layOut 105 = .ok (.aload_n 1, 1) := dk_43 (dk_at dksX1_layOut_4 13 rfl rfl)
theorem dX1_layOut_106 : decode cX1_layOut 106 = .ok (.invokeinterface 1 1, 5) := by decide +kernel
theorem dX1_layOut_111 : decode cX1_layOut 111 = .ok (.if_icmp .ge 78, 3) := dk_162 0 78 (dk_at dksX1_layOut_4 19 rfl rfl)
theorem dX1_layOut_114 : decode cX1_layOut 114 = .ok (.aload_n 2, 1) := dk_44 (dk_at dksX1_layOut_4 22 rfl rfl)
theorem dX1_layOut_115 : decode cX1_layOut 115 = .ok (.iload 4, 2) := dk_21 4 (dk_at dksX1_layOut_5 0 rfl rfl)
theorem dX1_layOut_117 : decode cX1_layOut 117 = .ok (.invokeinterface 7 2, 5) := by decide +kernel
theorem dX1_layOut_122 : decode cX1_layOut 122 = .ok (.checkcast 151, 3) := dk_192 0 151 (dk_at dksX1_layOut_5 7 rfl rfl)
theorem dX1_layOut_125 : decode cX1_layOut 125 = .ok (.getfield 163, 3) := dk_180 0 163 (dk_at dksX1_layOut_5 10 rfl rfl)
theorem dX1_layOut_128 : decode cX1_layOut 128 = .ok (.istore 5, 2) := dk_54 5 (dk_at dksX1_layOut_5 13 rfl rfl)
theorem dX1_layOut_130 : decode cX1_layOut 130 = .ok (.iload_n 3, 1) := dk_29 (dk_at dksX1_layOut_5 15 rfl rfl)
theorem dX1_layOut_131 : decode cX1_layOut 131 = .ok (.aload_n 0, 1) := dk_42 (dk_at dksX1_layOut_5 16 rfl rfl)
theorem dX1_layOut_132 : decode cX1_layOut 132 = .ok (.getfield 29, 3) := dk_180 0 29 (dk_at dksX1_layOut_5 17 rfl rfl)
theorem dX1_layOut_135 : decode cX1_layOut 135 = .ok (.iload 5, 2) := dk_21 5 (dk_at dksX1_layOut_5 20 rfl rfl)
theorem dX1_layOut_137 : decode cX1_layOut 137 = .ok (.iaload, 1) := dk_46 (dk_at dksX1_layOut_5 22 rfl rfl)
theorem dX1_layOut_138 : decode cX1_layOut 138 = .ok (.aload_n 1, 1) := dk_43 (dk_at dksX1_layOut_5 23 rfl rfl)
theorem dX1_layOut_139 : decode cX1_layOut 139 = .ok (.iload 4, 2) := dk_21 4 (dk_at dksX1_layOut_6 0 rfl rfl)
theorem dX1_layOut_141 : decode cX1_layOut 141 = .ok (.invokeinterface 7 2, 5) := by decide +kernel
theorem dX1_layOut_146 : decode cX1_layOut 146 = .ok (.checkcast 151, 3) := dk_192 0 151 (dk_at dksX1_layOut_6 7 rfl rfl)
theorem dX1_layOut_149 : decode cX1_layOut 149 = .ok (.getfield 163, 3) := dk_180 0 163 (dk_at dksX1_layOut_6 10 rfl rfl)
theorem dX1_layOut_152 : decode cX1_layOut 152 = .ok (.if_icmp .ne 7, 3) := dk_160 0 7 (dk_at dksX1_layOut_6 13 rfl rfl)
theorem dX1_layOut_155 : decode cX1_layOut 155 = .ok (.iconst 0, 1) := dk_3 (dk_at dksX1_layOut_6 16 rfl rfl)
theorem dX1_layOut_156 : decode cX1_layOut 156 = .ok (.goto 4, 3) := dk_167 0 4 (dk_at dksX1_layOut_6 17 rfl rfl)
theorem dX1_layOut_159 : decode cX1_layOut 159 = .ok (.iconst 1, 1) := dk_4 (dk_at dksX1_layOut_6 20 rfl rfl)
theorem dX1_layOut_160 : decode cX1_layOut 160 = .ok (.iadd, 1) := dk_96 (dk_at dksX1_layOut_6 21 rfl rfl)
theorem dX1_layOut_161 : decode cX1_layOut 161 = .ok (.istore_n 3, 1) := dk_62 (dk_at dksX1_layOut_6 22 rfl rfl)
theorem dX1_layOut_162 : decode cX1_layOut 162 = .ok (.aload_n 0, 1) := dk_42 (dk_at dksX1_layOut_6 23 rfl rfl)
theorem dX1_layOut_163 : decode cX1_layOut 163 = .ok (.getfield 29, 3) := dk_180 0 29 (dk_at dksX1_layOut_7 0 rfl rfl)
theorem dX1_layOut_166 : decode cX1_layOut 166 = .ok (.iload 5, 2) := dk_21 5 (dk_at dksX1_layOut_7 3 rfl rfl)
theorem dX1_layOut_168 : decode cX1_layOut 168 = .ok (.aload_n 1, 1) := dk_43 (dk_at dksX1_layOut_7 5 rfl rfl)
theorem dX1_layOut_169 : decode cX1_layOut 169 = .ok (.iload 4, 2) := dk_21 4 (dk_at dksX1_layOut_7 6 rfl rfl)
theorem dX1_layOut_171 : decode cX1_layOut 171 = .ok (.invokeinterface 7 2, 5) := by decide +kernel
theorem dX1_layOut_176 : decode cX1_layOut 176 = .ok (.checkcast 151, 3) := dk_192 0 151 (dk_at dksX1_layOut_7 13 rfl rfl)
theorem dX1_layOut_179 : decode cX1_layOut 179 = .ok (.getfield 163, 3) := dk_180 0 163 (dk_at dksX1_layOut_7 16 rfl rfl)
theorem dX1_layOut_182 : decode cX1_layOut 182 = .ok (.iastore, 1) := dk_79 (dk_at dksX1_layOut_7 19 rfl rfl)
theorem dX1_layOut_183 : decode cX1_layOut 183 = .ok (.iinc 4 1, 3) := dk_132 4 1 (dk_at dksX1_layOut_7 20 rfl rfl)
theorem dX1_layOut_186 : decode cX1_layOut 186 = .ok (.goto (-83), 3) := dk_167 255 173 (dk_at dksX1_layOut_8 0 rfl rfl)
theorem dX1_layOut_189 : decode cX1_layOut 189 = .ok (.iload_n 3, 1) := dk_29 (dk_at dksX1_layOut_8 3 rfl rfl)
theorem dX1_layOut_190 : decode cX1_layOut 190 = .ok (.ireturn, 1) := dk_172 (dk_at dksX1_layOut_8 4 rfl rfl)
abbrev cX1_fromStart : ByteArray := prog_1_method_9_code
def yX1_fromStart : MethodName := ⟨RX1, "fromStart", "(I)I"⟩
def dkwX1_fromStart_0 : List UInt8 := [42, 180, 0, 79, 27, 16, 100, 108, 104, 27, 16, 100, 112, 96, 172]
abbrev dktX1_fromStart_0 : List UInt8 := dkwX1_fromStart_0 ++ []
theorem dksX1_fromStart_0 : cX1_fromStart.data.toList.drop 0 = dktX1_fromStart_0 := by decide +kernel
theorem dX1_fromStart_0 : decode cX1_fromStart 0 = .ok (.aload_n 0, 1) := dk_42 (dk_at dksX1_fromStart_0 0 rfl rfl)
theorem dX1_fromStart_1 : decode cX1_fromStart 1 = .ok (.getfield 79, 3) := dk_180 0 79 (dk_at dksX1_fromStart_0 1 rfl rfl)
theorem dX1_fromStart_4 : decode cX1_fromStart 4 = .ok (.iload_n 1, 1) := dk_27 (dk_at dksX1_fromStart_0 4 rfl rfl)
theorem dX1_fromStart_5 : decode cX1_fromStart 5 = .ok (.bipush 100, 2) := dk_16 100 (dk_at dksX1_fromStart_0 5 rfl rfl)
theorem dX1_fromStart_7 : decode cX1_fromStart 7 = .ok (.idiv, 1) := dk_108 (dk_at dksX1_fromStart_0 7 rfl rfl)
theorem dX1_fromStart_8 : decode cX1_fromStart 8 = .ok (.imul, 1) := dk_104 (dk_at dksX1_fromStart_0 8 rfl rfl)
theorem dX1_fromStart_9 : decode cX1_fromStart 9 = .ok (.iload_n 1, 1) := dk_27 (dk_at dksX1_fromStart_0 9 rfl rfl)
theorem dX1_fromStart_10 : decode cX1_fromStart 10 = .ok (.bipush 100, 2) := dk_16 100 (dk_at dksX1_fromStart_0 10 rfl rfl)
theorem dX1_fromStart_12 : decode cX1_fromStart 12 = .ok (.irem, 1) := dk_112 (dk_at dksX1_fromStart_0 12 rfl rfl)
theorem dX1_fromStart_13 : decode cX1_fromStart 13 = .ok (.iadd, 1) := dk_96 (dk_at dksX1_fromStart_0 13 rfl rfl)
theorem dX1_fromStart_14 : decode cX1_fromStart 14 = .ok (.ireturn, 1) := dk_172 (dk_at dksX1_fromStart_0 14 rfl rfl)
abbrev cX1_insert : ByteArray := prog_1_method_1_code
def yX1_insert : MethodName := ⟨RX1, "insert", "(Ljava/util/List;Ljava/util/List;Ljava/lang/Comparable;)V"⟩
def dkwX1_insert_1 : List UInt8 := [185, 0, 11, 2, 0, 156, 0, 9, 132, 3, 255, 167, 255, 231, 42, 29, 44, 185, 0, 17, 3, 0, 177]
abbrev dktX1_insert_1 : List UInt8 := dkwX1_insert_1 ++ []
def dkwX1_insert_0 : List UInt8 := [43, 185, 0, 1, 1, 0, 62, 29, 158, 0, 27, 44, 43, 29, 4, 100, 185, 0, 7, 2, 0]
abbrev dktX1_insert_0 : List UInt8 := dkwX1_insert_0 ++ dktX1_insert_1
theorem dksX1_insert_0 : cX1_insert.data.toList.drop 0 = dktX1_insert_0 := by decide +kernel
theorem dksX1_insert_1 : cX1_insert.data.toList.drop 21 = dktX1_insert_1 := dk_seg dksX1_insert_0 21 rfl rfl
theorem dX1_insert_0 : decode cX1_insert 0 = .ok (.aload_n 1, 1) := dk_43 (dk_at dksX1_insert_0 0 rfl rfl)
theorem dX1_insert_1 : decode cX1_insert 1 = .ok (.invokeinterface 1 1, 5) := by decide +kernel
theorem dX1_insert_6 : decode cX1_insert 6 = .ok (.istore_n 3, 1) := dk_62 (dk_at dksX1_insert_0 6 rfl rfl)
theorem dX1_insert_7 : decode cX1_insert 7 = .ok (.iload_n 3, 1) := dk_29 (dk_at dksX1_insert_0 7 rfl rfl)
theorem dX1_insert_8 : decode cX1_insert 8 = .ok (.ifCond .le 27, 3) := dk_158 0 27 (dk_at dksX1_insert_0 8 rfl rfl)
theorem dX1_insert_11 : decode cX1_insert 11 = .ok (.aload_n 2, 1) := dk_44 (dk_at dksX1_insert_0 11 rfl rfl)
theorem dX1_insert_12 : decode cX1_insert 12 = .ok (.aload_n 1, 1) := dk_43 (dk_at dksX1_insert_0 12 rfl rfl)
theorem dX1_insert_13 : decode cX1_insert 13 = .ok (.iload_n 3, 1) := dk_29 (dk_at dksX1_insert_0 13 rfl rfl)
theorem dX1_insert_14 : decode cX1_insert 14 = .ok (.iconst 1, 1) := dk_4 (dk_at dksX1_insert_0 14 rfl rfl)
theorem dX1_insert_15 : decode cX1_insert 15 = .ok (.isub, 1) := dk_100 (dk_at dksX1_insert_0 15 rfl rfl)
theorem dX1_insert_16 : decode cX1_insert 16 = .ok (.invokeinterface 7 2, 5) := by decide +kernel
theorem dX1_insert_21 : decode cX1_insert 21 = .ok (.invokeinterface 11 2, 5) := by decide +kernel
theorem dX1_insert_26 : decode cX1_insert 26 = .ok (.ifCond .ge 9, 3) := dk_156 0 9 (dk_at dksX1_insert_1 5 rfl rfl)
theorem dX1_insert_29 : decode cX1_insert 29 = .ok (.iinc 3 (-1), 3) := dk_132 3 255 (dk_at dksX1_insert_1 8 rfl rfl)
theorem dX1_insert_32 : decode cX1_insert 32 = .ok (.goto (-25), 3) := dk_167 255 231 (dk_at dksX1_insert_1 11 rfl rfl)
theorem dX1_insert_35 : decode cX1_insert 35 = .ok (.aload_n 0, 1) := dk_42 (dk_at dksX1_insert_1 14 rfl rfl)
theorem dX1_insert_36 : decode cX1_insert 36 = .ok (.iload_n 3, 1) := dk_29 (dk_at dksX1_insert_1 15 rfl rfl)
theorem dX1_insert_37 : decode cX1_insert 37 = .ok (.aload_n 2, 1) := dk_44 (dk_at dksX1_insert_1 16 rfl rfl)
theorem dX1_insert_38 : decode cX1_insert 38 = .ok (.invokeinterface 17 3, 5) := by decide +kernel
theorem dX1_insert_43 : decode cX1_insert 43 = .ok (.return_, 1) := dk_177 (dk_at dksX1_insert_1 22 rfl rfl)
abbrev cX1_placeOf : ByteArray := prog_1_method_13_code
def yX1_placeOf : MethodName := ⟨RX1, "placeOf", "(I)I"⟩
def dkwX1_placeOf_0 : List UInt8 := [42, 180, 0, 29, 27, 184, 0, 133, 46, 172]
abbrev dktX1_placeOf_0 : List UInt8 := dkwX1_placeOf_0 ++ []
theorem dksX1_placeOf_0 : cX1_placeOf.data.toList.drop 0 = dktX1_placeOf_0 := by decide +kernel
theorem dX1_placeOf_0 : decode cX1_placeOf 0 = .ok (.aload_n 0, 1) := dk_42 (dk_at dksX1_placeOf_0 0 rfl rfl)
theorem dX1_placeOf_1 : decode cX1_placeOf 1 = .ok (.getfield 29, 3) := dk_180 0 29 (dk_at dksX1_placeOf_0 1 rfl rfl)
theorem dX1_placeOf_4 : decode cX1_placeOf 4 = .ok (.iload_n 1, 1) := dk_27 (dk_at dksX1_placeOf_0 4 rfl rfl)
theorem dX1_placeOf_5 : decode cX1_placeOf 5 = .ok (.invokestatic 133, 3) := dk_184 0 133 (dk_at dksX1_placeOf_0 5 rfl rfl)
theorem dX1_placeOf_8 : decode cX1_placeOf 8 = .ok (.iaload, 1) := dk_46 (dk_at dksX1_placeOf_0 8 rfl rfl)
theorem dX1_placeOf_9 : decode cX1_placeOf 9 = .ok (.ireturn, 1) := dk_172 (dk_at dksX1_placeOf_0 9 rfl rfl)
abbrev cX1_turnover : ByteArray := prog_1_method_14_code
def yX1_turnover : MethodName := ⟨RX1, "turnover", "(I)I"⟩
def dkwX1_turnover_0 : List UInt8 := [42, 180, 0, 33, 27, 184, 0, 133, 46, 172]
abbrev dktX1_turnover_0 : List UInt8 := dkwX1_turnover_0 ++ []
theorem dksX1_turnover_0 : cX1_turnover.data.toList.drop 0 = dktX1_turnover_0 := by decide +kernel
theorem dX1_turnover_0 : decode cX1_turnover 0 = .ok (.aload_n 0, 1) := dk_42 (dk_at dksX1_turnover_0 0 rfl rfl)
theorem dX1_turnover_1 : decode cX1_turnover 1 = .ok (.getfield 33, 3) := dk_180 0 33 (dk_at dksX1_turnover_0 1 rfl rfl)
theorem dX1_turnover_4 : decode cX1_turnover 4 = .ok (.iload_n 1, 1) := dk_27 (dk_at dksX1_turnover_0 4 rfl rfl)
theorem dX1_turnover_5 : decode cX1_turnover 5 = .ok (.invokestatic 133, 3) := dk_184 0 133 (dk_at dksX1_turnover_0 5 rfl rfl)
theorem dX1_turnover_8 : decode cX1_turnover 8 = .ok (.iaload, 1) := dk_46 (dk_at dksX1_turnover_0 8 rfl rfl)
theorem dX1_turnover_9 : decode cX1_turnover 9 = .ok (.ireturn, 1) := dk_172 (dk_at dksX1_turnover_0 9 rfl rfl)
abbrev cX1_distance : ByteArray := prog_1_method_15_code
def yX1_distance : MethodName := ⟨RX1, "distance", "(II)I"⟩
def dkwX1_distance_2 : List UInt8 := [182, 0, 168, 172]
abbrev dktX1_distance_2 : List UInt8 := dkwX1_distance_2 ++ []
def dkwX1_distance_1 : List UInt8 := [159, 0, 13, 21, 4, 2, 159, 0, 7, 4, 167, 0, 4, 3, 18, 166, 184, 0, 145, 42, 29, 21, 4]
abbrev dktX1_distance_1 : List UInt8 := dkwX1_distance_1 ++ dktX1_distance_2
def dkwX1_distance_0 : List UInt8 := [42, 180, 0, 29, 27, 184, 0, 133, 46, 62, 42, 180, 0, 29, 28, 184, 0, 133, 46, 54, 4, 29, 2]
abbrev dktX1_distance_0 : List UInt8 := dkwX1_distance_0 ++ dktX1_distance_1
theorem dksX1_distance_0 : cX1_distance.data.toList.drop 0 = dktX1_distance_0 := by decide +kernel
theorem dksX1_distance_1 : cX1_distance.data.toList.drop 23 = dktX1_distance_1 := dk_seg dksX1_distance_0 23 rfl rfl
theorem dksX1_distance_2 : cX1_distance.data.toList.drop 46 = dktX1_distance_2 := dk_seg dksX1_distance_1 23 rfl rfl
theorem dX1_distance_0 : decode cX1_distance 0 = .ok (.aload_n 0, 1) := dk_42 (dk_at dksX1_distance_0 0 rfl rfl)
theorem dX1_distance_1 : decode cX1_distance 1 = .ok (.getfield 29, 3) := dk_180 0 29 (dk_at dksX1_distance_0 1 rfl rfl)
theorem dX1_distance_4 : decode cX1_distance 4 = .ok (.iload_n 1, 1) := dk_27 (dk_at dksX1_distance_0 4 rfl rfl)
theorem dX1_distance_5 : decode cX1_distance 5 = .ok (.invokestatic 133, 3) := dk_184 0 133 (dk_at dksX1_distance_0 5 rfl rfl)
theorem dX1_distance_8 : decode cX1_distance 8 = .ok (.iaload, 1) := dk_46 (dk_at dksX1_distance_0 8 rfl rfl)
theorem dX1_distance_9 : decode cX1_distance 9 = .ok (.istore_n 3, 1) := dk_62 (dk_at dksX1_distance_0 9 rfl rfl)
theorem dX1_distance_10 : decode cX1_distance 10 = .ok (.aload_n 0, 1) := dk_42 (dk_at dksX1_distance_0 10 rfl rfl)
theorem dX1_distance_11 : decode cX1_distance 11 = .ok (.getfield 29, 3) := dk_180 0 29 (dk_at dksX1_distance_0 11 rfl rfl)
theorem dX1_distance_14 : decode cX1_distance 14 = .ok (.iload_n 2, 1) := dk_28 (dk_at dksX1_distance_0 14 rfl rfl)
theorem dX1_distance_15 : decode cX1_distance 15 = .ok (.invokestatic 133, 3) := dk_184 0 133 (dk_at dksX1_distance_0 15 rfl rfl)
theorem dX1_distance_18 : decode cX1_distance 18 = .ok (.iaload, 1) := dk_46 (dk_at dksX1_distance_0 18 rfl rfl)
theorem dX1_distance_19 : decode cX1_distance 19 = .ok (.istore 4, 2) := dk_54 4 (dk_at dksX1_distance_0 19 rfl rfl)
theorem dX1_distance_21 : decode cX1_distance 21 = .ok (.iload_n 3, 1) := dk_29 (dk_at dksX1_distance_0 21 rfl rfl)
theorem dX1_distance_22 : decode cX1_distance 22 = .ok (.iconst (-1), 1) := dk_2 (dk_at dksX1_distance_0 22 rfl rfl)
theorem dX1_distance_23 : decode cX1_distance 23 = .ok (.if_icmp .eq 13, 3) := dk_159 0 13 (dk_at dksX1_distance_1 0 rfl rfl)
theorem dX1_distance_26 : decode cX1_distance 26 = .ok (.iload 4, 2) := dk_21 4 (dk_at dksX1_distance_1 3 rfl rfl)
theorem dX1_distance_28 : decode cX1_distance 28 = .ok (.iconst (-1), 1) := dk_2 (dk_at dksX1_distance_1 5 rfl rfl)
theorem dX1_distance_29 : decode cX1_distance 29 = .ok (.if_icmp .eq 7, 3) := dk_159 0 7 (dk_at dksX1_distance_1 6 rfl rfl)
theorem dX1_distance_32 : decode cX1_distance 32 = .ok (.iconst 1, 1) := dk_4 (dk_at dksX1_distance_1 9 rfl rfl)
theorem dX1_distance_33 : decode cX1_distance 33 = .ok (.goto 4, 3) := dk_167 0 4 (dk_at dksX1_distance_1 10 rfl rfl)
theorem dX1_distance_36 : decode cX1_distance 36 = .ok (.iconst 0, 1) := dk_3 (dk_at dksX1_distance_1 13 rfl rfl)
theorem dX1_distance_37 : decode cX1_distance 37 = .ok (.ldc 166, 2) := dk_18 166 (dk_at dksX1_distance_1 14 rfl rfl)
theorem dX1_distance_39 : decode cX1_distance 39 = .ok (.invokestatic 145, 3) := dk_184 0 145 (dk_at dksX1_distance_1 16 rfl rfl)
theorem dX1_distance_42 : decode cX1_distance 42 = .ok (.aload_n 0, 1) := dk_42 (dk_at dksX1_distance_1 19 rfl rfl)
theorem dX1_distance_43 : decode cX1_distance 43 = .ok (.iload_n 3, 1) := dk_29 (dk_at dksX1_distance_1 20 rfl rfl)
theorem dX1_distance_44 : decode cX1_distance 44 = .ok (.iload 4, 2) := dk_21 4 (dk_at dksX1_distance_1 21 rfl rfl)
theorem dX1_distance_46 : decode cX1_distance 46 = .ok (.invokevirtual 168, 3) := dk_182 0 168 (dk_at dksX1_distance_2 0 rfl rfl)
theorem dX1_distance_49 : decode cX1_distance 49 = .ok (.ireturn, 1) := dk_172 (dk_at dksX1_distance_2 3 rfl rfl)
abbrev cX1_between : ByteArray := prog_1_method_10_code
def yX1_between : MethodName := ⟨RX1, "between", "(II)I"⟩
def dkwX1_between_2 : List UInt8 := [108, 100, 184, 0, 129, 104, 21, 5, 5, 42, 180, 0, 76, 4, 96, 104, 21, 5, 100, 184, 0, 64, 96, 172]
abbrev dktX1_between_2 : List UInt8 := dkwX1_between_2 ++ []
def dkwX1_between_1 : List UInt8 := [21, 4, 100, 184, 0, 129, 172, 29, 21, 4, 96, 54, 5, 42, 180, 0, 79, 27, 16, 100, 108, 28, 16, 100]
abbrev dktX1_between_1 : List UInt8 := dkwX1_between_1 ++ dktX1_between_2
def dkwX1_between_0 : List UInt8 := [27, 16, 100, 112, 62, 28, 16, 100, 112, 54, 4, 27, 16, 100, 108, 28, 16, 100, 108, 160, 0, 11, 29]
abbrev dktX1_between_0 : List UInt8 := dkwX1_between_0 ++ dktX1_between_1
theorem dksX1_between_0 : cX1_between.data.toList.drop 0 = dktX1_between_0 := by decide +kernel
theorem dksX1_between_1 : cX1_between.data.toList.drop 23 = dktX1_between_1 := dk_seg dksX1_between_0 23 rfl rfl
theorem dksX1_between_2 : cX1_between.data.toList.drop 47 = dktX1_between_2 := dk_seg dksX1_between_1 24 rfl rfl
theorem dX1_between_0 : decode cX1_between 0 = .ok (.iload_n 1, 1) := dk_27 (dk_at dksX1_between_0 0 rfl rfl)
theorem dX1_between_1 : decode cX1_between 1 = .ok (.bipush 100, 2) := dk_16 100 (dk_at dksX1_between_0 1 rfl rfl)
theorem dX1_between_3 : decode cX1_between 3 = .ok (.irem, 1) := dk_112 (dk_at dksX1_between_0 3 rfl rfl)
theorem dX1_between_4 : decode cX1_between 4 = .ok (.istore_n 3, 1) := dk_62 (dk_at dksX1_between_0 4 rfl rfl)
theorem dX1_between_5 : decode cX1_between 5 = .ok (.iload_n 2, 1) := dk_28 (dk_at dksX1_between_0 5 rfl rfl)
theorem dX1_between_6 : decode cX1_between 6 = .ok (.bipush 100, 2) := dk_16 100 (dk_at dksX1_between_0 6 rfl rfl)
theorem dX1_between_8 : decode cX1_between 8 = .ok (.irem, 1) := dk_112 (dk_at dksX1_between_0 8 rfl rfl)
theorem dX1_between_9 : decode cX1_between 9 = .ok (.istore 4, 2) := dk_54 4 (dk_at dksX1_between_0 9 rfl rfl)
theorem dX1_between_11 : decode cX1_between 11 = .ok (.iload_n 1, 1) := dk_27 (dk_at dksX1_between_0 11 rfl rfl)
theorem dX1_between_12 : decode cX1_between 12 = .ok (.bipush 100, 2) := dk_16 100 (dk_at dksX1_between_0 12 rfl rfl)
theorem dX1_between_14 : decode cX1_between 14 = .ok (.idiv, 1) := dk_108 (dk_at dksX1_between_0 14 rfl rfl)
theorem dX1_between_15 : decode cX1_between 15 = .ok (.iload_n 2, 1) := dk_28 (dk_at dksX1_between_0 15 rfl rfl)
theorem dX1_between_16 : decode cX1_between 16 = .ok (.bipush 100, 2) := dk_16 100 (dk_at dksX1_between_0 16 rfl rfl)
theorem dX1_between_18 : decode cX1_between 18 = .ok (.idiv, 1) := dk_108 (dk_at dksX1_between_0 18 rfl rfl)
theorem dX1_between_19 : decode cX1_between 19 = .ok (.if_icmp .ne 11, 3) := dk_160 0 11 (dk_at dksX1_between_0 19 rfl rfl)
theorem dX1_between_22 : decode cX1_between 22 = .ok (.iload_n 3, 1) := dk_29 (dk_at dksX1_between_0 22 rfl rfl)
theorem dX1_between_23 : decode cX1_between 23 = .ok (.iload 4, 2) := dk_21 4 (dk_at dksX1_between_1 0 rfl rfl)
theorem dX1_between_25 : decode cX1_between 25 = .ok (.isub, 1) := dk_100 (dk_at dksX1_between_1 2 rfl rfl)
theorem dX1_between_26 : decode cX1_between 26 = .ok (.invokestatic 129, 3) := dk_184 0 129 (dk_at dksX1_between_1 3 rfl rfl)
theorem dX1_between_29 : decode cX1_between 29 = .ok (.ireturn, 1) := dk_172 (dk_at dksX1_between_1 6 rfl rfl)
theorem dX1_between_30 : decode cX1_between 30 = .ok (.iload_n 3, 1) := dk_29 (dk_at dksX1_between_1 7 rfl rfl)
theorem dX1_between_31 : decode cX1_between 31 = .ok (.iload 4, 2) := dk_21 4 (dk_at dksX1_between_1 8 rfl rfl)
theorem dX1_between_33 : decode cX1_between 33 = .ok (.iadd, 1) := dk_96 (dk_at dksX1_between_1 10 rfl rfl)
theorem dX1_between_34 : decode cX1_between 34 = .ok (.istore 5, 2) := dk_54 5 (dk_at dksX1_between_1 11 rfl rfl)
theorem dX1_between_36 : decode cX1_between 36 = .ok (.aload_n 0, 1) := dk_42 (dk_at dksX1_between_1 13 rfl rfl)
theorem dX1_between_37 : decode cX1_between 37 = .ok (.getfield 79, 3) := dk_180 0 79 (dk_at dksX1_between_1 14 rfl rfl)
theorem dX1_between_40 : decode cX1_between 40 = .ok (.iload_n 1, 1) := dk_27 (dk_at dksX1_between_1 17 rfl rfl)
theorem dX1_between_41 : decode cX1_between 41 = .ok (.bipush 100, 2) := dk_16 100 (dk_at dksX1_between_1 18 rfl rfl)
theorem dX1_between_43 : decode cX1_between 43 = .ok (.idiv, 1) := dk_108 (dk_at dksX1_between_1 20 rfl rfl)
theorem dX1_between_44 : decode cX1_between 44 = .ok (.iload_n 2, 1) := dk_28 (dk_at dksX1_between_1 21 rfl rfl)
theorem dX1_between_45 : decode cX1_between 45 = .ok (.bipush 100, 2) := dk_16 100 (dk_at dksX1_between_1 22 rfl rfl)
theorem dX1_between_47 : decode cX1_between 47 = .ok (.idiv, 1) := dk_108 (dk_at dksX1_between_2 0 rfl rfl)
theorem dX1_between_48 : decode cX1_between 48 = .ok (.isub, 1) := dk_100 (dk_at dksX1_between_2 1 rfl rfl)
theorem dX1_between_49 : decode cX1_between 49 = .ok (.invokestatic 129, 3) := dk_184 0 129 (dk_at dksX1_between_2 2 rfl rfl)
theorem dX1_between_52 : decode cX1_between 52 = .ok (.imul, 1) := dk_104 (dk_at dksX1_between_2 5 rfl rfl)
theorem dX1_between_53 : decode cX1_between 53 = .ok (.iload 5, 2) := dk_21 5 (dk_at dksX1_between_2 6 rfl rfl)
theorem dX1_between_55 : decode cX1_between 55 = .ok (.iconst 2, 1) := dk_5 (dk_at dksX1_between_2 8 rfl rfl)
theorem dX1_between_56 : decode cX1_between 56 = .ok (.aload_n 0, 1) := dk_42 (dk_at dksX1_between_2 9 rfl rfl)
theorem dX1_between_57 : decode cX1_between 57 = .ok (.getfield 76, 3) := dk_180 0 76 (dk_at dksX1_between_2 10 rfl rfl)
theorem dX1_between_60 : decode cX1_between 60 = .ok (.iconst 1, 1) := dk_4 (dk_at dksX1_between_2 13 rfl rfl)
theorem dX1_between_61 : decode cX1_between 61 = .ok (.iadd, 1) := dk_96 (dk_at dksX1_between_2 14 rfl rfl)
theorem dX1_between_62 : decode cX1_between 62 = .ok (.imul, 1) := dk_104 (dk_at dksX1_between_2 15 rfl rfl)
theorem dX1_between_63 : decode cX1_between 63 = .ok (.iload 5, 2) := dk_21 5 (dk_at dksX1_between_2 16 rfl rfl)
theorem dX1_between_65 : decode cX1_between 65 = .ok (.isub, 1) := dk_100 (dk_at dksX1_between_2 18 rfl rfl)
theorem dX1_between_66 : decode cX1_between 66 = .ok (.invokestatic 64, 3) := dk_184 0 64 (dk_at dksX1_between_2 19 rfl rfl)
theorem dX1_between_69 : decode cX1_between 69 = .ok (.iadd, 1) := dk_96 (dk_at dksX1_between_2 22 rfl rfl)
theorem dX1_between_70 : decode cX1_between 70 = .ok (.ireturn, 1) := dk_172 (dk_at dksX1_between_2 23 rfl rfl)
abbrev cX1_order : ByteArray := prog_1_method_16_code
def yX1_order : MethodName := ⟨RX1, "order", "(I)I"⟩
def dkwX1_order_2 : List UInt8 := [185, 0, 180, 2, 0, 87, 42, 180, 0, 39, 185, 0, 1, 1, 0, 4, 100, 172]
abbrev dktX1_order_2 : List UInt8 := dkwX1_order_2 ++ []
def dkwX1_order_1 : List UInt8 := [167, 0, 4, 3, 18, 175, 184, 0, 145, 42, 180, 0, 39, 187, 0, 113, 89, 27, 183, 0, 177]
abbrev dktX1_order_1 : List UInt8 := dkwX1_order_1 ++ dktX1_order_2
def dkwX1_order_0 : List UInt8 := [27, 3, 17, 3, 231, 184, 0, 171, 42, 180, 0, 39, 185, 0, 1, 1, 0, 16, 40, 162, 0, 7, 4]
abbrev dktX1_order_0 : List UInt8 := dkwX1_order_0 ++ dktX1_order_1
theorem dksX1_order_0 : cX1_order.data.toList.drop 0 = dktX1_order_0 := by decide +kernel
theorem dksX1_order_1 : cX1_order.data.toList.drop 23 = dktX1_order_1 := dk_seg dksX1_order_0 23 rfl rfl
theorem dksX1_order_2 : cX1_order.data.toList.drop 44 = dktX1_order_2 := dk_seg dksX1_order_1 21 rfl rfl
theorem dX1_order_0 : decode cX1_order 0 = .ok (.iload_n 1, 1) := dk_27 (dk_at dksX1_order_0 0 rfl rfl)
theorem dX1_order_1 : decode cX1_order 1 = .ok (.iconst 0, 1) := dk_3 (dk_at dksX1_order_0 1 rfl rfl)
theorem dX1_order_2 : decode cX1_order 2 = .ok (.sipush 999, 3) := dk_17 3 231 (dk_at dksX1_order_0 2 rfl rfl)
theorem dX1_order_5 : decode cX1_order 5 = .ok (.invokestatic 171, 3) := dk_184 0 171 (dk_at dksX1_order_0 5 rfl rfl)
theorem dX1_order_8 : decode cX1_order 8 = .ok (.aload_n 0, 1) := dk_42 (dk_at dksX1_order_0 8 rfl rfl)
theorem dX1_order_9 : decode cX1_order 9 = .ok (.getfield 39, 3) := dk_180 0 39 (dk_at dksX1_order_0 9 rfl rfl)
theorem dX1_order_12 : decode cX1_order 12 = .ok (.invokeinterface 1 1, 5) := by decide +kernel
theorem dX1_order_17 : decode cX1_order 17 = .ok (.bipush 40, 2) := dk_16 40 (dk_at dksX1_order_0 17 rfl rfl)
theorem dX1_order_19 : decode cX1_order 19 = .ok (.if_icmp .ge 7, 3) := dk_162 0 7 (dk_at dksX1_order_0 19 rfl rfl)
theorem dX1_order_22 : decode cX1_order 22 = .ok (.iconst 1, 1) := dk_4 (dk_at dksX1_order_0 22 rfl rfl)
theorem dX1_order_23 : decode cX1_order 23 = .ok (.goto 4, 3) := dk_167 0 4 (dk_at dksX1_order_1 0 rfl rfl)
theorem dX1_order_26 : decode cX1_order 26 = .ok (.iconst 0, 1) := dk_3 (dk_at dksX1_order_1 3 rfl rfl)
theorem dX1_order_27 : decode cX1_order 27 = .ok (.ldc 175, 2) := dk_18 175 (dk_at dksX1_order_1 4 rfl rfl)
theorem dX1_order_29 : decode cX1_order 29 = .ok (.invokestatic 145, 3) := dk_184 0 145 (dk_at dksX1_order_1 6 rfl rfl)
theorem dX1_order_32 : decode cX1_order 32 = .ok (.aload_n 0, 1) := dk_42 (dk_at dksX1_order_1 9 rfl rfl)
theorem dX1_order_33 : decode cX1_order 33 = .ok (.getfield 39, 3) := dk_180 0 39 (dk_at dksX1_order_1 10 rfl rfl)
theorem dX1_order_36 : decode cX1_order 36 = .ok (.new 113, 3) := dk_187 0 113 (dk_at dksX1_order_1 13 rfl rfl)
theorem dX1_order_39 : decode cX1_order 39 = .ok (.dup, 1) := dk_89 (dk_at dksX1_order_1 16 rfl rfl)
theorem dX1_order_40 : decode cX1_order 40 = .ok (.iload_n 1, 1) := dk_27 (dk_at dksX1_order_1 17 rfl rfl)
theorem dX1_order_41 : decode cX1_order 41 = .ok (.invokespecial 177, 3) := dk_183 0 177 (dk_at dksX1_order_1 18 rfl rfl)
theorem dX1_order_44 : decode cX1_order 44 = .ok (.invokeinterface 180 2, 5) := by decide +kernel
theorem dX1_order_49 : decode cX1_order 49 = .ok (.pop, 1) := dk_87 (dk_at dksX1_order_2 5 rfl rfl)
theorem dX1_order_50 : decode cX1_order 50 = .ok (.aload_n 0, 1) := dk_42 (dk_at dksX1_order_2 6 rfl rfl)
theorem dX1_order_51 : decode cX1_order 51 = .ok (.getfield 39, 3) := dk_180 0 39 (dk_at dksX1_order_2 7 rfl rfl)
theorem dX1_order_54 : decode cX1_order 54 = .ok (.invokeinterface 1 1, 5) := by decide +kernel
theorem dX1_order_59 : decode cX1_order 59 = .ok (.iconst 1, 1) := dk_4 (dk_at dksX1_order_2 15 rfl rfl)
theorem dX1_order_60 : decode cX1_order 60 = .ok (.isub, 1) := dk_100 (dk_at dksX1_order_2 16 rfl rfl)
theorem dX1_order_61 : decode cX1_order 61 = .ok (.ireturn, 1) := dk_172 (dk_at dksX1_order_2 17 rfl rfl)
abbrev cX1_isWithin : ByteArray := prog_1_method_7_code
def yX1_isWithin : MethodName := ⟨RX1, "isWithin", "(III)V"⟩
def dkwX1_isWithin_2 : List UInt8 := [183, 0, 125, 191, 177]
abbrev dktX1_isWithin_2 : List UInt8 := dkwX1_isWithin_2 ++ []
def dkwX1_isWithin_1 : List UInt8 := [182, 0, 95, 18, 121, 182, 0, 89, 27, 182, 0, 95, 18, 123, 182, 0, 89, 28, 182, 0, 95, 182, 0, 98]
abbrev dktX1_isWithin_1 : List UInt8 := dkwX1_isWithin_1 ++ dktX1_isWithin_2
def dkwX1_isWithin_0 : List UInt8 := [26, 27, 161, 0, 8, 26, 28, 164, 0, 43, 187, 0, 119, 89, 187, 0, 84, 89, 183, 0, 86, 26]
abbrev dktX1_isWithin_0 : List UInt8 := dkwX1_isWithin_0 ++ dktX1_isWithin_1
theorem dksX1_isWithin_0 : cX1_isWithin.data.toList.drop 0 = dktX1_isWithin_0 := by decide +kernel
theorem dksX1_isWithin_1 : cX1_isWithin.data.toList.drop 22 = dktX1_isWithin_1 := dk_seg dksX1_isWithin_0 22 rfl rfl
theorem dksX1_isWithin_2 : cX1_isWithin.data.toList.drop 46 = dktX1_isWithin_2 := dk_seg dksX1_isWithin_1 24 rfl rfl
theorem dX1_isWithin_0 : decode cX1_isWithin 0 = .ok (.iload_n 0, 1) := dk_26 (dk_at dksX1_isWithin_0 0 rfl rfl)
theorem dX1_isWithin_1 : decode cX1_isWithin 1 = .ok (.iload_n 1, 1) := dk_27 (dk_at dksX1_isWithin_0 1 rfl rfl)
theorem dX1_isWithin_2 : decode cX1_isWithin 2 = .ok (.if_icmp .lt 8, 3) := dk_161 0 8 (dk_at dksX1_isWithin_0 2 rfl rfl)
theorem dX1_isWithin_5 : decode cX1_isWithin 5 = .ok (.iload_n 0, 1) := dk_26 (dk_at dksX1_isWithin_0 5 rfl rfl)
theorem dX1_isWithin_6 : decode cX1_isWithin 6 = .ok (.iload_n 2, 1) := dk_28 (dk_at dksX1_isWithin_0 6 rfl rfl)
theorem dX1_isWithin_7 : decode cX1_isWithin 7 = .ok (.if_icmp .le 43, 3) := dk_164 0 43 (dk_at dksX1_isWithin_0 7 rfl rfl)
theorem dX1_isWithin_10 : decode cX1_isWithin 10 = .ok (.new 119, 3) := dk_187 0 119 (dk_at dksX1_isWithin_0 10 rfl rfl)
theorem dX1_isWithin_13 : decode cX1_isWithin 13 = .ok (.dup, 1) := dk_89 (dk_at dksX1_isWithin_0 13 rfl rfl)
theorem dX1_isWithin_14 : decode cX1_isWithin 14 = .ok (.new 84, 3) := dk_187 0 84 (dk_at dksX1_isWithin_0 14 rfl rfl)
theorem dX1_isWithin_17 : decode cX1_isWithin 17 = .ok (.dup, 1) := dk_89 (dk_at dksX1_isWithin_0 17 rfl rfl)
theorem dX1_isWithin_18 : decode cX1_isWithin 18 = .ok (.invokespecial 86, 3) := dk_183 0 86 (dk_at dksX1_isWithin_0 18 rfl rfl)
theorem dX1_isWithin_21 : decode cX1_isWithin 21 = .ok (.iload_n 0, 1) := dk_26 (dk_at dksX1_isWithin_0 21 rfl rfl)
theorem dX1_isWithin_22 : decode cX1_isWithin 22 = .ok (.invokevirtual 95, 3) := dk_182 0 95 (dk_at dksX1_isWithin_1 0 rfl rfl)
theorem dX1_isWithin_25 : decode cX1_isWithin 25 = .ok (.ldc 121, 2) := dk_18 121 (dk_at dksX1_isWithin_1 3 rfl rfl)
theorem dX1_isWithin_27 : decode cX1_isWithin 27 = .ok (.invokevirtual 89, 3) := dk_182 0 89 (dk_at dksX1_isWithin_1 5 rfl rfl)
theorem dX1_isWithin_30 : decode cX1_isWithin 30 = .ok (.iload_n 1, 1) := dk_27 (dk_at dksX1_isWithin_1 8 rfl rfl)
theorem dX1_isWithin_31 : decode cX1_isWithin 31 = .ok (.invokevirtual 95, 3) := dk_182 0 95 (dk_at dksX1_isWithin_1 9 rfl rfl)
theorem dX1_isWithin_34 : decode cX1_isWithin 34 = .ok (.ldc 123, 2) := dk_18 123 (dk_at dksX1_isWithin_1 12 rfl rfl)
theorem dX1_isWithin_36 : decode cX1_isWithin 36 = .ok (.invokevirtual 89, 3) := dk_182 0 89 (dk_at dksX1_isWithin_1 14 rfl rfl)
theorem dX1_isWithin_39 : decode cX1_isWithin 39 = .ok (.iload_n 2, 1) := dk_28 (dk_at dksX1_isWithin_1 17 rfl rfl)
theorem dX1_isWithin_40 : decode cX1_isWithin 40 = .ok (.invokevirtual 95, 3) := dk_182 0 95 (dk_at dksX1_isWithin_1 18 rfl rfl)
theorem dX1_isWithin_43 : decode cX1_isWithin 43 = .ok (.invokevirtual 98, 3) := dk_182 0 98 (dk_at dksX1_isWithin_1 21 rfl rfl)
theorem dX1_isWithin_46 : decode cX1_isWithin 46 = .ok (.invokespecial 125, 3) := dk_183 0 125 (dk_at dksX1_isWithin_2 0 rfl rfl)
theorem dX1_isWithin_49 : decode cX1_isWithin 49 = .ok (.athrow, 1) := dk_191 (dk_at dksX1_isWithin_2 3 rfl rfl)
theorem dX1_isWithin_50 : decode cX1_isWithin 50 = .ok (.return_, 1) := dk_177 (dk_at dksX1_isWithin_2 4 rfl rfl)
abbrev cX1_line : ByteArray := prog_1_method_17_code
def yX1_line : MethodName := ⟨RX1, "line", "(III)I"⟩
def dkwX1_line_4 : List UInt8 := [28, 29, 79, 25, 4, 89, 180, 0, 198, 4, 28, 120, 128, 181, 0, 198, 25, 4, 182, 0, 190, 172]
abbrev dktX1_line_4 : List UInt8 := dkwX1_line_4 ++ []
def dkwX1_line_3 : List UInt8 := [180, 0, 29, 28, 46, 2, 159, 0, 7, 4, 167, 0, 4, 3, 18, 196, 184, 0, 145, 25, 4, 180, 0, 193]
abbrev dktX1_line_3 : List UInt8 := dkwX1_line_3 ++ dktX1_line_4
def dkwX1_line_2 : List UInt8 := [4, 167, 0, 4, 3, 54, 5, 21, 5, 153, 0, 27, 25, 4, 180, 0, 193, 28, 46, 154, 0, 17, 42]
abbrev dktX1_line_2 : List UInt8 := dkwX1_line_2 ++ dktX1_line_3
def dkwX1_line_1 : List UInt8 := [154, 0, 28, 25, 4, 182, 0, 190, 8, 162, 0, 19, 25, 4, 182, 0, 190, 42, 180, 0, 60, 162, 0, 7]
abbrev dktX1_line_1 : List UInt8 := dkwX1_line_1 ++ dktX1_line_2
def dkwX1_line_0 : List UInt8 := [42, 27, 182, 0, 183, 58, 4, 28, 184, 0, 133, 87, 29, 4, 16, 99, 184, 0, 171, 25, 4, 180, 0, 187]
abbrev dktX1_line_0 : List UInt8 := dkwX1_line_0 ++ dktX1_line_1
theorem dksX1_line_0 : cX1_line.data.toList.drop 0 = dktX1_line_0 := by decide +kernel
theorem dksX1_line_1 : cX1_line.data.toList.drop 24 = dktX1_line_1 := dk_seg dksX1_line_0 24 rfl rfl
theorem dksX1_line_2 : cX1_line.data.toList.drop 48 = dktX1_line_2 := dk_seg dksX1_line_1 24 rfl rfl
theorem dksX1_line_3 : cX1_line.data.toList.drop 71 = dktX1_line_3 := dk_seg dksX1_line_2 23 rfl rfl
theorem dksX1_line_4 : cX1_line.data.toList.drop 95 = dktX1_line_4 := dk_seg dksX1_line_3 24 rfl rfl
theorem dX1_line_0 : decode cX1_line 0 = .ok (.aload_n 0, 1) := dk_42 (dk_at dksX1_line_0 0 rfl rfl)
theorem dX1_line_1 : decode cX1_line 1 = .ok (.iload_n 1, 1) := dk_27 (dk_at dksX1_line_0 1 rfl rfl)
theorem dX1_line_2 : decode cX1_line 2 = .ok (.invokevirtual 183, 3) := dk_182 0 183 (dk_at dksX1_line_0 2 rfl rfl)
theorem dX1_line_5 : decode cX1_line 5 = .ok (.astore 4, 2) := dk_58 4 (dk_at dksX1_line_0 5 rfl rfl)
theorem dX1_line_7 : decode cX1_line 7 = .ok (.iload_n 2, 1) := dk_28 (dk_at dksX1_line_0 7 rfl rfl)
theorem dX1_line_8 : decode cX1_line 8 = .ok (.invokestatic 133, 3) := dk_184 0 133 (dk_at dksX1_line_0 8 rfl rfl)
theorem dX1_line_11 : decode cX1_line 11 = .ok (.pop, 1) := dk_87 (dk_at dksX1_line_0 11 rfl rfl)
theorem dX1_line_12 : decode cX1_line 12 = .ok (.iload_n 3, 1) := dk_29 (dk_at dksX1_line_0 12 rfl rfl)
theorem dX1_line_13 : decode cX1_line 13 = .ok (.iconst 1, 1) := dk_4 (dk_at dksX1_line_0 13 rfl rfl)
theorem dX1_line_14 : decode cX1_line 14 = .ok (.bipush 99, 2) := dk_16 99 (dk_at dksX1_line_0 14 rfl rfl)
theorem dX1_line_16 : decode cX1_line 16 = .ok (.invokestatic 171, 3) := dk_184 0 171 (dk_at dksX1_line_0 16 rfl rfl)
theorem dX1_line_19 : decode cX1_line 19 = .ok (.aload 4, 2) := dk_25 4 (dk_at dksX1_line_0 19 rfl rfl)
theorem dX1_line_21 : decode cX1_line 21 = .ok (.getfield 187, 3) := dk_180 0 187 (dk_at dksX1_line_0 21 rfl rfl)
theorem dX1_line_24 : decode cX1_line 24 = .ok (.ifCond .ne 28, 3) := dk_154 0 28 (dk_at dksX1_line_1 0 rfl rfl)
theorem dX1_line_27 : decode cX1_line 27 = .ok (.aload 4, 2) := dk_25 4 (dk_at dksX1_line_1 3 rfl rfl)
theorem dX1_line_29 : decode cX1_line 29 = .ok (.invokevirtual 190, 3) := dk_182 0 190 (dk_at dksX1_line_1 5 rfl rfl)
theorem dX1_line_32 : decode cX1_line 32 = .ok (.iconst 5, 1) := dk_8 (dk_at dksX1_line_1 8 rfl rfl)
theorem dX1_line_33 : decode cX1_line 33 = .ok (.if_icmp .ge 19, 3) := dk_162 0 19 (dk_at dksX1_line_1 9 rfl rfl)
theorem dX1_line_36 : decode cX1_line 36 = .ok (.aload 4, 2) := dk_25 4 (dk_at dksX1_line_1 12 rfl rfl)
theorem dX1_line_38 : decode cX1_line 38 = .ok (.invokevirtual 190, 3) := dk_182 0 190 (dk_at dksX1_line_1 14 rfl rfl)
theorem dX1_line_41 : decode cX1_line 41 = .ok (.aload_n 0, 1) := dk_42 (dk_at dksX1_line_1 17 rfl rfl)
theorem dX1_line_42 : decode cX1_line 42 = .ok (.getfield 60, 3) := dk_180 0 60 (dk_at dksX1_line_1 18 rfl rfl)
theorem dX1_line_45 : decode cX1_line 45 = .ok (.if_icmp .ge 7, 3) := dk_162 0 7 (dk_at dksX1_line_1 21 rfl rfl)
theorem dX1_line_48 : decode cX1_line 48 = .ok (.iconst 1, 1) := dk_4 (dk_at dksX1_line_2 0 rfl rfl)
theorem dX1_line_49 : decode cX1_line 49 = .ok (.goto 4, 3) := dk_167 0 4 (dk_at dksX1_line_2 1 rfl rfl)
theorem dX1_line_52 : decode cX1_line 52 = .ok (.iconst 0, 1) := dk_3 (dk_at dksX1_line_2 4 rfl rfl)
theorem dX1_line_53 : decode cX1_line 53 = .ok (.istore 5, 2) := dk_54 5 (dk_at dksX1_line_2 5 rfl rfl)
theorem dX1_line_55 : decode cX1_line 55 = .ok (.iload 5, 2) := dk_21 5 (dk_at dksX1_line_2 7 rfl rfl)
theorem dX1_line_57 : decode cX1_line 57 = .ok (.ifCond .eq 27, 3) := dk_153 0 27 (dk_at dksX1_line_2 9 rfl rfl)
theorem dX1_line_60 : decode cX1_line 60 = .ok (.aload 4, 2) := dk_25 4 (dk_at dksX1_line_2 12 rfl rfl)
theorem dX1_line_62 : decode cX1_line 62 = .ok (.getfield 193, 3) := dk_180 0 193 (dk_at dksX1_line_2 14 rfl rfl)
theorem dX1_line_65 : decode cX1_line 65 = .ok (.iload_n 2, 1) := dk_28 (dk_at dksX1_line_2 17 rfl rfl)
theorem dX1_line_66 : decode cX1_line 66 = .ok (.iaload, 1) := dk_46 (dk_at dksX1_line_2 18 rfl rfl)
theorem dX1_line_67 : decode cX1_line 67 = .ok (.ifCond .ne 17, 3) := dk_154 0 17 (dk_at dksX1_line_2 19 rfl rfl)
theorem dX1_line_70 : decode cX1_line 70 = .ok (.aload_n 0, 1) := dk_42 (dk_at dksX1_line_2 22 rfl rfl)
theorem dX1_line_71 : decode cX1_line 71 = .ok (.getfield 29, 3) := dk_180 0 29 (dk_at dksX1_line_3 0 rfl rfl)
theorem dX1_line_74 : decode cX1_line 74 = .ok (.iload_n 2, 1) := dk_28 (dk_at dksX1_line_3 3 rfl rfl)
theorem dX1_line_75 : decode cX1_line 75 = .ok (.iaload, 1) := dk_46 (dk_at dksX1_line_3 4 rfl rfl)
theorem dX1_line_76 : decode cX1_line 76 = .ok (.iconst (-1), 1) := dk_2 (dk_at dksX1_line_3 5 rfl rfl)
theorem dX1_line_77 : decode cX1_line 77 = .ok (.if_icmp .eq 7, 3) := dk_159 0 7 (dk_at dksX1_line_3 6 rfl rfl)
theorem dX1_line_80 : decode cX1_line 80 = .ok (.iconst 1, 1) := dk_4 (dk_at dksX1_line_3 9 rfl rfl)
theorem dX1_line_81 : decode cX1_line 81 = .ok (.goto 4, 3) := dk_167 0 4 (dk_at dksX1_line_3 10 rfl rfl)
theorem dX1_line_84 : decode cX1_line 84 = .ok (.iconst 0, 1) := dk_3 (dk_at dksX1_line_3 13 rfl rfl)
theorem dX1_line_85 : decode cX1_line 85 = .ok (.ldc 196, 2) := dk_18 196 (dk_at dksX1_line_3 14 rfl rfl)
theorem dX1_line_87 : decode cX1_line 87 = .ok (.invokestatic 145, 3) := dk_184 0 145 (dk_at dksX1_line_3 16 rfl rfl)
theorem dX1_line_90 : decode cX1_line 90 = .ok (.aload 4, 2) := dk_25 4 (dk_at dksX1_line_3 19 rfl rfl)
theorem dX1_line_92 : decode cX1_line 92 = .ok (.getfield 193, 3) := dk_180 0 193 (dk_at dksX1_line_3 21 rfl rfl)
theorem dX1_line_95 : decode cX1_line 95 = .ok (.iload_n 2, 1) := dk_28 (dk_at dksX1_line_4 0 rfl rfl)
theorem dX1_line_96 : decode cX1_line 96 = .ok (.iload_n 3, 1) := dk_29 (dk_at dksX1_line_4 1 rfl rfl)
theorem dX1_line_97 : decode cX1_line 97 = .ok (.iastore, 1) := dk_79 (dk_at dksX1_line_4 2 rfl rfl)
theorem dX1_line_98 : decode cX1_line 98 = .ok (.aload 4, 2) := dk_25 4 (dk_at dksX1_line_4 3 rfl rfl)
theorem dX1_line_100 : decode cX1_line 100 = .ok (.dup, 1) := dk_89 (dk_at dksX1_line_4 5 rfl rfl)
theorem dX1_line_101 : decode cX1_line 101 = .ok (.getfield 198, 3) := dk_180 0 198 (dk_at dksX1_line_4 6 rfl rfl)
theorem dX1_line_104 : decode cX1_line 104 = .ok (.iconst 1, 1) := dk_4 (dk_at dksX1_line_4 9 rfl rfl)
theorem dX1_line_105 : decode cX1_line 105 = .ok (.iload_n 2, 1) := dk_28 (dk_at dksX1_line_4 10 rfl rfl)
theorem dX1_line_106 : decode cX1_line 106 = .ok (.ishl, 1) := dk_120 (dk_at dksX1_line_4 11 rfl rfl)
theorem dX1_line_107 : decode cX1_line 107 = .ok (.ior, 1) := dk_128 (dk_at dksX1_line_4 12 rfl rfl)
theorem dX1_line_108 : decode cX1_line 108 = .ok (.putfield 198, 3) := dk_181 0 198 (dk_at dksX1_line_4 13 rfl rfl)
theorem dX1_line_111 : decode cX1_line 111 = .ok (.aload 4, 2) := dk_25 4 (dk_at dksX1_line_4 16 rfl rfl)
theorem dX1_line_113 : decode cX1_line 113 = .ok (.invokevirtual 190, 3) := dk_182 0 190 (dk_at dksX1_line_4 18 rfl rfl)
theorem dX1_line_116 : decode cX1_line 116 = .ok (.ireturn, 1) := dk_172 (dk_at dksX1_line_4 21 rfl rfl)
abbrev cX1_written : ByteArray := prog_1_method_5_code
def yX1_written : MethodName := ⟨RX1, "written", "(I)LAislewright$Order;"⟩
def dkwX1_written_1 : List UInt8 := [192, 0, 113, 176]
abbrev dktX1_written_1 : List UInt8 := dkwX1_written_1 ++ []
def dkwX1_written_0 : List UInt8 := [42, 180, 0, 39, 27, 42, 180, 0, 39, 185, 0, 1, 1, 0, 18, 111, 184, 0, 107, 185, 0, 7, 2, 0]
abbrev dktX1_written_0 : List UInt8 := dkwX1_written_0 ++ dktX1_written_1
theorem dksX1_written_0 : cX1_written.data.toList.drop 0 = dktX1_written_0 := by decide +kernel
theorem dksX1_written_1 : cX1_written.data.toList.drop 24 = dktX1_written_1 := dk_seg dksX1_written_0 24 rfl rfl
theorem dX1_written_0 : decode cX1_written 0 = .ok (.aload_n 0, 1) := dk_42 (dk_at dksX1_written_0 0 rfl rfl)
theorem dX1_written_1 : decode cX1_written 1 = .ok (.getfield 39, 3) := dk_180 0 39 (dk_at dksX1_written_0 1 rfl rfl)
theorem dX1_written_4 : decode cX1_written 4 = .ok (.iload_n 1, 1) := dk_27 (dk_at dksX1_written_0 4 rfl rfl)
theorem dX1_written_5 : decode cX1_written 5 = .ok (.aload_n 0, 1) := dk_42 (dk_at dksX1_written_0 5 rfl rfl)
theorem dX1_written_6 : decode cX1_written 6 = .ok (.getfield 39, 3) := dk_180 0 39 (dk_at dksX1_written_0 6 rfl rfl)
theorem dX1_written_9 : decode cX1_written 9 = .ok (.invokeinterface 1 1, 5) := by decide +kernel
theorem dX1_written_14 : decode cX1_written 14 = .ok (.ldc 111, 2) := dk_18 111 (dk_at dksX1_written_0 14 rfl rfl)
theorem dX1_written_16 : decode cX1_written 16 = .ok (.invokestatic 107, 3) := dk_184 0 107 (dk_at dksX1_written_0 16 rfl rfl)
theorem dX1_written_19 : decode cX1_written 19 = .ok (.invokeinterface 7 2, 5) := by decide +kernel
theorem dX1_written_24 : decode cX1_written 24 = .ok (.checkcast 113, 3) := dk_192 0 113 (dk_at dksX1_written_1 0 rfl rfl)
theorem dX1_written_27 : decode cX1_written 27 = .ok (.areturn, 1) := dk_176 (dk_at dksX1_written_1 3 rfl rfl)
abbrev cX1_stateOf : ByteArray := prog_1_method_19_code
def yX1_stateOf : MethodName := ⟨RX1, "stateOf", "(I)I"⟩
def dkwX1_stateOf_0 : List UInt8 := [42, 27, 182, 0, 183, 180, 0, 187, 172]
abbrev dktX1_stateOf_0 : List UInt8 := dkwX1_stateOf_0 ++ []
theorem dksX1_stateOf_0 : cX1_stateOf.data.toList.drop 0 = dktX1_stateOf_0 := by decide +kernel
theorem dX1_stateOf_0 : decode cX1_stateOf 0 = .ok (.aload_n 0, 1) := dk_42 (dk_at dksX1_stateOf_0 0 rfl rfl)
theorem dX1_stateOf_1 : decode cX1_stateOf 1 = .ok (.iload_n 1, 1) := dk_27 (dk_at dksX1_stateOf_0 1 rfl rfl)
theorem dX1_stateOf_2 : decode cX1_stateOf 2 = .ok (.invokevirtual 183, 3) := dk_182 0 183 (dk_at dksX1_stateOf_0 2 rfl rfl)
theorem dX1_stateOf_5 : decode cX1_stateOf 5 = .ok (.getfield 187, 3) := dk_180 0 187 (dk_at dksX1_stateOf_0 5 rfl rfl)
theorem dX1_stateOf_8 : decode cX1_stateOf 8 = .ok (.ireturn, 1) := dk_172 (dk_at dksX1_stateOf_0 8 rfl rfl)
abbrev cX1_lengthAlone : ByteArray := prog_1_method_20_code
def yX1_lengthAlone : MethodName := ⟨RX1, "lengthAlone", "(I)I"⟩
def dkwX1_lengthAlone_0 : List UInt8 := [42, 180, 0, 56, 42, 27, 182, 0, 183, 180, 0, 198, 182, 0, 201, 172]
abbrev dktX1_lengthAlone_0 : List UInt8 := dkwX1_lengthAlone_0 ++ []
theorem dksX1_lengthAlone_0 : cX1_lengthAlone.data.toList.drop 0 = dktX1_lengthAlone_0 := by decide +kernel
theorem dX1_lengthAlone_0 : decode cX1_lengthAlone 0 = .ok (.aload_n 0, 1) := dk_42 (dk_at dksX1_lengthAlone_0 0 rfl rfl)
theorem dX1_lengthAlone_1 : decode cX1_lengthAlone 1 = .ok (.getfield 56, 3) := dk_180 0 56 (dk_at dksX1_lengthAlone_0 1 rfl rfl)
theorem dX1_lengthAlone_4 : decode cX1_lengthAlone 4 = .ok (.aload_n 0, 1) := dk_42 (dk_at dksX1_lengthAlone_0 4 rfl rfl)
theorem dX1_lengthAlone_5 : decode cX1_lengthAlone 5 = .ok (.iload_n 1, 1) := dk_27 (dk_at dksX1_lengthAlone_0 5 rfl rfl)
theorem dX1_lengthAlone_6 : decode cX1_lengthAlone 6 = .ok (.invokevirtual 183, 3) := dk_182 0 183 (dk_at dksX1_lengthAlone_0 6 rfl rfl)
theorem dX1_lengthAlone_9 : decode cX1_lengthAlone 9 = .ok (.getfield 198, 3) := dk_180 0 198 (dk_at dksX1_lengthAlone_0 9 rfl rfl)
theorem dX1_lengthAlone_12 : decode cX1_lengthAlone 12 = .ok (.invokevirtual 201, 3) := dk_182 0 201 (dk_at dksX1_lengthAlone_0 12 rfl rfl)
theorem dX1_lengthAlone_15 : decode cX1_lengthAlone 15 = .ok (.ireturn, 1) := dk_172 (dk_at dksX1_lengthAlone_0 15 rfl rfl)
abbrev cX1_setCapacity : ByteArray := prog_1_method_21_code
def yX1_setCapacity : MethodName := ⟨RX1, "setCapacity", "(I)I"⟩
def dkwX1_setCapacity_4 : List UInt8 := [181, 0, 60, 29, 172]
abbrev dktX1_setCapacity_4 : List UInt8 := dkwX1_setCapacity_4 ++ []
def dkwX1_setCapacity_3 : List UInt8 := [4, 167, 0, 4, 3, 61, 167, 255, 208, 28, 18, 217, 184, 0, 145, 42, 180, 0, 60, 62, 42, 27]
abbrev dktX1_setCapacity_3 : List UInt8 := dkwX1_setCapacity_3 ++ dktX1_setCapacity_4
def dkwX1_setCapacity_2 : List UInt8 := [58, 4, 28, 153, 0, 25, 25, 4, 180, 0, 187, 5, 159, 0, 12, 25, 4, 182, 0, 190, 27, 163, 0, 7]
abbrev dktX1_setCapacity_2 : List UInt8 := dkwX1_setCapacity_2 ++ dktX1_setCapacity_3
def dkwX1_setCapacity_1 : List UInt8 := [185, 0, 204, 1, 0, 78, 45, 185, 0, 208, 1, 0, 153, 0, 45, 45, 185, 0, 213, 1, 0, 192, 0, 113]
abbrev dktX1_setCapacity_1 : List UInt8 := dkwX1_setCapacity_1 ++ dktX1_setCapacity_2
def dkwX1_setCapacity_0 : List UInt8 := [27, 4, 16, 9, 184, 0, 171, 42, 180, 0, 43, 185, 0, 139, 1, 0, 61, 42, 180, 0, 39]
abbrev dktX1_setCapacity_0 : List UInt8 := dkwX1_setCapacity_0 ++ dktX1_setCapacity_1
theorem dksX1_setCapacity_0 : cX1_setCapacity.data.toList.drop 0 = dktX1_setCapacity_0 := by decide +kernel
theorem dksX1_setCapacity_1 : cX1_setCapacity.data.toList.drop 21 = dktX1_setCapacity_1 := dk_seg dksX1_setCapacity_0 21 rfl rfl
theorem dksX1_setCapacity_2 : cX1_setCapacity.data.toList.drop 45 = dktX1_setCapacity_2 := dk_seg dksX1_setCapacity_1 24 rfl rfl
theorem dksX1_setCapacity_3 : cX1_setCapacity.data.toList.drop 69 = dktX1_setCapacity_3 := dk_seg dksX1_setCapacity_2 24 rfl rfl
theorem dksX1_setCapacity_4 : cX1_setCapacity.data.toList.drop 91 = dktX1_setCapacity_4 := dk_seg dksX1_setCapacity_3 22 rfl rfl
theorem dX1_setCapacity_0 : decode cX1_setCapacity 0 = .ok (.iload_n 1, 1) := dk_27 (dk_at dksX1_setCapacity_0 0 rfl rfl)
theorem dX1_setCapacity_1 : decode cX1_setCapacity 1 = .ok (.iconst 1, 1) := dk_4 (dk_at dksX1_setCapacity_0 1 rfl rfl)
theorem dX1_setCapacity_2 : decode cX1_setCapacity 2 = .ok (.bipush 9, 2) := dk_16 9 (dk_at dksX1_setCapacity_0 2 rfl rfl)
theorem dX1_setCapacity_4 : decode cX1_setCapacity 4 = .ok (.invokestatic 171, 3) := dk_184 0 171 (dk_at dksX1_setCapacity_0 4 rfl rfl)
theorem dX1_setCapacity_7 : decode cX1_setCapacity 7 = .ok (.aload_n 0, 1) := dk_42 (dk_at dksX1_setCapacity_0 7 rfl rfl)
theorem dX1_setCapacity_8 : decode cX1_setCapacity 8 = .ok (.getfield 43, 3) := dk_180 0 43 (dk_at dksX1_setCapacity_0 8 rfl rfl)
theorem dX1_setCapacity_11 : decode cX1_setCapacity 11 = .ok (.invokeinterface 139 1, 5) := by decide +kernel
theorem dX1_setCapacity_16 : decode cX1_setCapacity 16 = .ok (.istore_n 2, 1) := dk_61 (dk_at dksX1_setCapacity_0 16 rfl rfl)
theorem dX1_setCapacity_17 : decode cX1_setCapacity 17 = .ok (.aload_n 0, 1) := dk_42 (dk_at dksX1_setCapacity_0 17 rfl rfl)
theorem dX1_setCapacity_18 : decode cX1_setCapacity 18 = .ok (.getfield 39, 3) := dk_180 0 39 (dk_at dksX1_setCapacity_0 18 rfl rfl)
theorem dX1_setCapacity_21 : decode cX1_setCapacity 21 = .ok (.invokeinterface 204 1, 5) := by decide +kernel
theorem dX1_setCapacity_26 : decode cX1_setCapacity 26 = .ok (.astore_n 3, 1) := dk_78 (dk_at dksX1_setCapacity_1 5 rfl rfl)
theorem dX1_setCapacity_27 : decode cX1_setCapacity 27 = .ok (.aload_n 3, 1) := dk_45 (dk_at dksX1_setCapacity_1 6 rfl rfl)
theorem dX1_setCapacity_28 : decode cX1_setCapacity 28 = .ok (.invokeinterface 208 1, 5) := by decide +kernel
theorem dX1_setCapacity_33 : decode cX1_setCapacity 33 = .ok (.ifCond .eq 45, 3) := dk_153 0 45 (dk_at dksX1_setCapacity_1 12 rfl rfl)
theorem dX1_setCapacity_36 : decode cX1_setCapacity 36 = .ok (.aload_n 3, 1) := dk_45 (dk_at dksX1_setCapacity_1 15 rfl rfl)
theorem dX1_setCapacity_37 : decode cX1_setCapacity 37 = .ok (.invokeinterface 213 1, 5) := by decide +kernel
theorem dX1_setCapacity_42 : decode cX1_setCapacity 42 = .ok (.checkcast 113, 3) := dk_192 0 113 (dk_at dksX1_setCapacity_1 21 rfl rfl)
theorem dX1_setCapacity_45 : decode cX1_setCapacity 45 = .ok (.astore 4, 2) := dk_58 4 (dk_at dksX1_setCapacity_2 0 rfl rfl)
theorem dX1_setCapacity_47 : decode cX1_setCapacity 47 = .ok (.iload_n 2, 1) := dk_28 (dk_at dksX1_setCapacity_2 2 rfl rfl)
theorem dX1_setCapacity_48 : decode cX1_setCapacity 48 = .ok (.ifCond .eq 25, 3) := dk_153 0 25 (dk_at dksX1_setCapacity_2 3 rfl rfl)
theorem dX1_setCapacity_51 : decode cX1_setCapacity 51 = .ok (.aload 4, 2) := dk_25 4 (dk_at dksX1_setCapacity_2 6 rfl rfl)
theorem dX1_setCapacity_53 : decode cX1_setCapacity 53 = .ok (.getfield 187, 3) := dk_180 0 187 (dk_at dksX1_setCapacity_2 8 rfl rfl)
theorem dX1_setCapacity_56 : decode cX1_setCapacity 56 = .ok (.iconst 2, 1) := dk_5 (dk_at dksX1_setCapacity_2 11 rfl rfl)
theorem dX1_setCapacity_57 : decode cX1_setCapacity 57 = .ok (.if_icmp .eq 12, 3) := dk_159 0 12 (dk_at dksX1_setCapacity_2 12 rfl rfl)
theorem dX1_setCapacity_60 : decode cX1_setCapacity 60 = .ok (.aload 4, 2) := dk_25 4 (dk_at dksX1_setCapacity_2 15 rfl rfl)
theorem dX1_setCapacity_62 : decode cX1_setCapacity 62 = .ok (.invokevirtual 190, 3) := dk_182 0 190 (dk_at dksX1_setCapacity_2 17 rfl rfl)
theorem dX1_setCapacity_65 : decode cX1_setCapacity 65 = .ok (.iload_n 1, 1) := dk_27 (dk_at dksX1_setCapacity_2 20 rfl rfl)
theorem dX1_setCapacity_66 : decode cX1_setCapacity 66 = .ok (.if_icmp .gt 7, 3) := dk_163 0 7 (dk_at dksX1_setCapacity_2 21 rfl rfl)
theorem dX1_setCapacity_69 : decode cX1_setCapacity 69 = .ok (.iconst 1, 1) := dk_4 (dk_at dksX1_setCapacity_3 0 rfl rfl)
theorem dX1_setCapacity_70 : decode cX1_setCapacity 70 = .ok (.goto 4, 3) := dk_167 0 4 (dk_at dksX1_setCapacity_3 1 rfl rfl)
theorem dX1_setCapacity_73 : decode cX1_setCapacity 73 = .ok (.iconst 0, 1) := dk_3 (dk_at dksX1_setCapacity_3 4 rfl rfl)
theorem dX1_setCapacity_74 : decode cX1_setCapacity 74 = .ok (.istore_n 2, 1) := dk_61 (dk_at dksX1_setCapacity_3 5 rfl rfl)
theorem dX1_setCapacity_75 : decode cX1_setCapacity 75 = .ok (.goto (-48), 3) := dk_167 255 208 (dk_at dksX1_setCapacity_3 6 rfl rfl)
theorem dX1_setCapacity_78 : decode cX1_setCapacity 78 = .ok (.iload_n 2, 1) := dk_28 (dk_at dksX1_setCapacity_3 9 rfl rfl)
theorem dX1_setCapacity_79 : decode cX1_setCapacity 79 = .ok (.ldc 217, 2) := dk_18 217 (dk_at dksX1_setCapacity_3 10 rfl rfl)
theorem dX1_setCapacity_81 : decode cX1_setCapacity 81 = .ok (.invokestatic 145, 3) := dk_184 0 145 (dk_at dksX1_setCapacity_3 12 rfl rfl)
theorem dX1_setCapacity_84 : decode cX1_setCapacity 84 = .ok (.aload_n 0, 1) := dk_42 (dk_at dksX1_setCapacity_3 15 rfl rfl)
theorem dX1_setCapacity_85 : decode cX1_setCapacity 85 = .ok (.getfield 60, 3) := dk_180 0 60 (dk_at dksX1_setCapacity_3 16 rfl rfl)
theorem dX1_setCapacity_88 : decode cX1_setCapacity 88 = .ok (.istore_n 3, 1) := dk_62 (dk_at dksX1_setCapacity_3 19 rfl rfl)
theorem dX1_setCapacity_89 : decode cX1_setCapacity 89 = .ok (.aload_n 0, 1) := dk_42 (dk_at dksX1_setCapacity_3 20 rfl rfl)
theorem dX1_setCapacity_90 : decode cX1_setCapacity 90 = .ok (.iload_n 1, 1) := dk_27 (dk_at dksX1_setCapacity_3 21 rfl rfl)
theorem dX1_setCapacity_91 : decode cX1_setCapacity 91 = .ok (.putfield 60, 3) := dk_181 0 60 (dk_at dksX1_setCapacity_4 0 rfl rfl)
theorem dX1_setCapacity_94 : decode cX1_setCapacity 94 = .ok (.iload_n 3, 1) := dk_29 (dk_at dksX1_setCapacity_4 3 rfl rfl)
theorem dX1_setCapacity_95 : decode cX1_setCapacity 95 = .ok (.ireturn, 1) := dk_172 (dk_at dksX1_setCapacity_4 4 rfl rfl)
abbrev cX1_planWave : ByteArray := prog_1_method_22_code
def yX1_planWave : MethodName := ⟨RX1, "planWave", "(I)I"⟩
def dkwX1_planWave_7 : List UInt8 := [61, 167, 255, 247, 42, 180, 0, 43, 185, 0, 1, 1, 0, 172]
abbrev dktX1_planWave_7 : List UInt8 := dkwX1_planWave_7 ++ []
def dkwX1_planWave_6 : List UInt8 := [42, 28, 182, 0, 227, 132, 2, 1, 167, 255, 235, 42, 182, 0, 230, 61, 28, 153, 0, 11, 42, 182, 0, 230]
abbrev dktX1_planWave_6 : List UInt8 := dkwX1_planWave_6 ++ dktX1_planWave_7
def dkwX1_planWave_5 : List UInt8 := [167, 0, 4, 3, 18, 225, 184, 0, 145, 3, 61, 28, 42, 180, 0, 43, 185, 0, 1, 1, 0, 162, 0, 14]
abbrev dktX1_planWave_5 : List UInt8 := dkwX1_planWave_5 ++ dktX1_planWave_6
def dkwX1_planWave_4 : List UInt8 := [185, 0, 180, 2, 0, 87, 167, 255, 192, 42, 180, 0, 43, 185, 0, 139, 1, 0, 154, 0, 7, 4]
abbrev dktX1_planWave_4 : List UInt8 := dkwX1_planWave_4 ++ dktX1_planWave_5
def dkwX1_planWave_3 : List UInt8 := [163, 0, 26, 45, 4, 181, 0, 187, 42, 180, 0, 43, 187, 0, 117, 89, 45, 183, 0, 222]
abbrev dktX1_planWave_3 : List UInt8 := dkwX1_planWave_3 ++ dktX1_planWave_4
def dkwX1_planWave_2 : List UInt8 := [192, 0, 113, 78, 45, 180, 0, 187, 154, 0, 41, 45, 180, 0, 198, 153, 0, 34, 45, 180, 0, 219, 27]
abbrev dktX1_planWave_2 : List UInt8 := dkwX1_planWave_2 ++ dktX1_planWave_3
def dkwX1_planWave_1 : List UInt8 := [180, 0, 39, 185, 0, 204, 1, 0, 77, 44, 185, 0, 208, 1, 0, 153, 0, 61, 44, 185, 0, 213, 1, 0]
abbrev dktX1_planWave_1 : List UInt8 := dkwX1_planWave_1 ++ dktX1_planWave_2
def dkwX1_planWave_0 : List UInt8 := [27, 3, 17, 3, 231, 184, 0, 171, 42, 180, 0, 43, 185, 0, 139, 1, 0, 18, 149, 184, 0, 145, 42]
abbrev dktX1_planWave_0 : List UInt8 := dkwX1_planWave_0 ++ dktX1_planWave_1
theorem dksX1_planWave_0 : cX1_planWave.data.toList.drop 0 = dktX1_planWave_0 := by decide +kernel
theorem dksX1_planWave_1 : cX1_planWave.data.toList.drop 23 = dktX1_planWave_1 := dk_seg dksX1_planWave_0 23 rfl rfl
theorem dksX1_planWave_2 : cX1_planWave.data.toList.drop 47 = dktX1_planWave_2 := dk_seg dksX1_planWave_1 24 rfl rfl
theorem dksX1_planWave_3 : cX1_planWave.data.toList.drop 70 = dktX1_planWave_3 := dk_seg dksX1_planWave_2 23 rfl rfl
theorem dksX1_planWave_4 : cX1_planWave.data.toList.drop 90 = dktX1_planWave_4 := dk_seg dksX1_planWave_3 20 rfl rfl
theorem dksX1_planWave_5 : cX1_planWave.data.toList.drop 112 = dktX1_planWave_5 := dk_seg dksX1_planWave_4 22 rfl rfl
theorem dksX1_planWave_6 : cX1_planWave.data.toList.drop 136 = dktX1_planWave_6 := dk_seg dksX1_planWave_5 24 rfl rfl
theorem dksX1_planWave_7 : cX1_planWave.data.toList.drop 160 = dktX1_planWave_7 := dk_seg dksX1_planWave_6 24 rfl rfl
theorem dX1_planWave_0 : decode cX1_planWave 0 = .ok (.iload_n 1, 1) := dk_27 (dk_at dksX1_planWave_0 0 rfl rfl)
theorem dX1_planWave_1 : decode cX1_planWave 1 = .ok (.iconst 0, 1) := dk_3 (dk_at dksX1_planWave_0 1 rfl rfl)
theorem dX1_planWave_2 : decode cX1_planWave 2 = .ok (.sipush 999, 3) := dk_17 3 231 (dk_at dksX1_planWave_0 2 rfl rfl)
theorem dX1_planWave_5 : decode cX1_planWave 5 = .ok (.invokestatic 171, 3) := dk_184 0 171 (dk_at dksX1_planWave_0 5 rfl rfl)
theorem dX1_planWave_8 : decode cX1_planWave 8 = .ok (.aload_n 0, 1) := dk_42 (dk_at dksX1_planWave_0 8 rfl rfl)
theorem dX1_planWave_9 : decode cX1_planWave 9 = .ok (.getfield 43, 3) := dk_180 0 43 (dk_at dksX1_planWave_0 9 rfl rfl)
theorem dX1_planWave_12 : decode cX1_planWave 12 = .ok (.invokeinterface 139 1, 5) := by decide +kernel
theorem dX1_planWave_17 : decode cX1_planWave 17 = .ok (.ldc 149, 2) := dk_18 149 (dk_at dksX1_planWave_0 17 rfl rfl)
theorem dX1_planWave_19 : decode cX1_planWave 19 = .ok (.invokestatic 145, 3) := dk_184 0 145 (dk_at dksX1_planWave_0 19 rfl rfl)
theorem dX1_planWave_22 : decode cX1_planWave 22 = .ok (.aload_n 0, 1) := dk_42 (dk_at dksX1_planWave_0 22 rfl rfl)
theorem dX1_planWave_23 : decode cX1_planWave 23 = .ok (.getfield 39, 3) := dk_180 0 39 (dk_at dksX1_planWave_1 0 rfl rfl)
theorem dX1_planWave_26 : decode cX1_planWave 26 = .ok (.invokeinterface 204 1, 5) := by decide +kernel
theorem dX1_planWave_31 : decode cX1_planWave 31 = .ok (.astore_n 2, 1) := dk_77 (dk_at dksX1_planWave_1 8 rfl rfl)
theorem dX1_planWave_32 : decode cX1_planWave 32 = .ok (.aload_n 2, 1) := dk_44 (dk_at dksX1_planWave_1 9 rfl rfl)
theorem dX1_planWave_33 : decode cX1_planWave 33 = .ok (.invokeinterface 208 1, 5) := by decide +kernel
theorem dX1_planWave_38 : decode cX1_planWave 38 = .ok (.ifCond .eq 61, 3) := dk_153 0 61 (dk_at dksX1_planWave_1 15 rfl rfl)
theorem dX1_planWave_41 : decode cX1_planWave 41 = .ok (.aload_n 2, 1) := dk_44 (dk_at dksX1_planWave_1 18 rfl rfl)
theorem dX1_planWave_42 : decode cX1_planWave 42 = .ok (.invokeinterface 213 1, 5) := by decide +kernel
theorem dX1_planWave_47 : decode cX1_planWave 47 = .ok (.checkcast 113, 3) := dk_192 0 113 (dk_at dksX1_planWave_2 0 rfl rfl)
theorem dX1_planWave_50 : decode cX1_planWave 50 = .ok (.astore_n 3, 1) := dk_78 (dk_at dksX1_planWave_2 3 rfl rfl)
theorem dX1_planWave_51 : decode cX1_planWave 51 = .ok (.aload_n 3, 1) := dk_45 (dk_at dksX1_planWave_2 4 rfl rfl)
theorem dX1_planWave_52 : decode cX1_planWave 52 = .ok (.getfield 187, 3) := dk_180 0 187 (dk_at dksX1_planWave_2 5 rfl rfl)
theorem dX1_planWave_55 : decode cX1_planWave 55 = .ok (.ifCond .ne 41, 3) := dk_154 0 41 (dk_at dksX1_planWave_2 8 rfl rfl)
theorem dX1_planWave_58 : decode cX1_planWave 58 = .ok (.aload_n 3, 1) := dk_45 (dk_at dksX1_planWave_2 11 rfl rfl)
theorem dX1_planWave_59 : decode cX1_planWave 59 = .ok (.getfield 198, 3) := dk_180 0 198 (dk_at dksX1_planWave_2 12 rfl rfl)
theorem dX1_planWave_62 : decode cX1_planWave 62 = .ok (.ifCond .eq 34, 3) := dk_153 0 34 (dk_at dksX1_planWave_2 15 rfl rfl)
theorem dX1_planWave_65 : decode cX1_planWave 65 = .ok (.aload_n 3, 1) := dk_45 (dk_at dksX1_planWave_2 18 rfl rfl)
theorem dX1_planWave_66 : decode cX1_planWave 66 = .ok (.getfield 219, 3) := dk_180 0 219 (dk_at dksX1_planWave_2 19 rfl rfl)
theorem dX1_planWave_69 : decode cX1_planWave 69 = .ok (.iload_n 1, 1) := dk_27 (dk_at dksX1_planWave_2 22 rfl rfl)
theorem dX1_planWave_70 : decode cX1_planWave 70 = .ok (.if_icmp .gt 26, 3) := dk_163 0 26 (dk_at dksX1_planWave_3 0 rfl rfl)
theorem dX1_planWave_73 : decode cX1_planWave 73 = .ok (.aload_n 3, 1) := dk_45 (dk_at dksX1_planWave_3 3 rfl rfl)
theorem dX1_planWave_74 : decode cX1_planWave 74 = .ok (.iconst 1, 1) := dk_4 (dk_at dksX1_planWave_3 4 rfl rfl)
theorem dX1_planWave_75 : decode cX1_planWave 75 = .ok (.putfield 187, 3) := dk_181 0 187 (dk_at dksX1_planWave_3 5 rfl rfl)
theorem dX1_planWave_78 : decode cX1_planWave 78 = .ok (.aload_n 0, 1) := dk_42 (dk_at dksX1_planWave_3 8 rfl rfl)
theorem dX1_planWave_79 : decode cX1_planWave 79 = .ok (.getfield 43, 3) := dk_180 0 43 (dk_at dksX1_planWave_3 9 rfl rfl)
theorem dX1_planWave_82 : decode cX1_planWave 82 = .ok (.new 117, 3) := dk_187 0 117 (dk_at dksX1_planWave_3 12 rfl rfl)
theorem dX1_planWave_85 : decode cX1_planWave 85 = .ok (.dup, 1) := dk_89 (dk_at dksX1_planWave_3 15 rfl rfl)
theorem dX1_planWave_86 : decode cX1_planWave 86 = .ok (.aload_n 3, 1) := dk_45 (dk_at dksX1_planWave_3 16 rfl rfl)
theorem dX1_planWave_87 : decode cX1_planWave 87 = .ok (.invokespecial 222, 3) := dk_183 0 222 (dk_at dksX1_planWave_3 17 rfl rfl)
theorem dX1_planWave_90 : decode cX1_planWave 90 = .ok (.invokeinterface 180 2, 5) := by decide +kernel
theorem dX1_planWave_95 : decode cX1_planWave 95 = .ok (.pop, 1) := dk_87 (dk_at dksX1_planWave_4 5 rfl rfl)
theorem dX1_planWave_96 : decode cX1_planWave 96 = .ok (.goto (-64), 3) := dk_167 255 192 (dk_at dksX1_planWave_4 6 rfl rfl)
theorem dX1_planWave_99 : decode cX1_planWave 99 = .ok (.aload_n 0, 1) := dk_42 (dk_at dksX1_planWave_4 9 rfl rfl)
theorem dX1_planWave_100 : decode cX1_planWave 100 = .ok (.getfield 43, 3) := dk_180 0 43 (dk_at dksX1_planWave_4 10 rfl rfl)
theorem dX1_planWave_103 : decode cX1_planWave 103 = .ok (.invokeinterface 139 1, 5) := by decide +kernel
theorem dX1_planWave_108 : decode cX1_planWave 108 = .ok (.ifCond .ne 7, 3) := dk_154 0 7 (dk_at dksX1_planWave_4 18 rfl rfl)
theorem dX1_planWave_111 : decode cX1_planWave 111 = .ok (.iconst 1, 1) := dk_4 (dk_at dksX1_planWave_4 21 rfl rfl)
theorem dX1_planWave_112 : decode cX1_planWave 112 = .ok (.goto 4, 3) := dk_167 0 4 (dk_at dksX1_planWave_5 0 rfl rfl)
theorem dX1_planWave_115 : decode cX1_planWave 115 = .ok (.iconst 0, 1) := dk_3 (dk_at dksX1_planWave_5 3 rfl rfl)
theorem dX1_planWave_116 : decode cX1_planWave 116 = .ok (.ldc 225, 2) := dk_18 225 (dk_at dksX1_planWave_5 4 rfl rfl)
theorem dX1_planWave_118 : decode cX1_planWave 118 = .ok (.invokestatic 145, 3) := dk_184 0 145 (dk_at dksX1_planWave_5 6 rfl rfl)
theorem dX1_planWave_121 : decode cX1_planWave 121 = .ok (.iconst 0, 1) := dk_3 (dk_at dksX1_planWave_5 9 rfl rfl)
theorem dX1_planWave_122 : decode cX1_planWave 122 = .ok (.istore_n 2, 1) := dk_61 (dk_at dksX1_planWave_5 10 rfl rfl)
theorem dX1_planWave_123 : decode cX1_planWave 123 = .ok (.iload_n 2, 1) := dk_28 (dk_at dksX1_planWave_5 11 rfl rfl)
theorem dX1_planWave_124 : decode cX1_planWave 124 = .ok (.aload_n 0, 1) := dk_42 (dk_at dksX1_planWave_5 12 rfl rfl)
theorem dX1_planWave_125 : decode cX1_planWave 125 = .ok (.getfield 43, 3) := dk_180 0 43 (dk_at dksX1_planWave_5 13 rfl rfl)
theorem dX1_planWave_128 : decode cX1_planWave 128 = .ok (.invokeinterface 1 1, 5) := by decide +kernel
theorem dX1_planWave_133 : decode cX1_planWave 133 = .ok (.if_icmp .ge 14, 3) := dk_162 0 14 (dk_at dksX1_planWave_5 21 rfl rfl)
theorem dX1_planWave_136 : decode cX1_planWave 136 = .ok (.aload_n 0, 1) := dk_42 (dk_at dksX1_planWave_6 0 rfl rfl)
theorem dX1_planWave_137 : decode cX1_planWave 137 = .ok (.iload_n 2, 1) := dk_28 (dk_at dksX1_planWave_6 1 rfl rfl)
theorem dX1_planWave_138 : decode cX1_planWave 138 = .ok (.invokevirtual 227, 3) := dk_182 0 227 (dk_at dksX1_planWave_6 2 rfl rfl)
theorem dX1_planWave_141 : decode cX1_planWave 141 = .ok (.iinc 2 1, 3) := dk_132 2 1 (dk_at dksX1_planWave_6 5 rfl rfl)
theorem dX1_planWave_144 : decode cX1_planWave 144 = .ok (.goto (-21), 3) := dk_167 255 235 (dk_at dksX1_planWave_6 8 rfl rfl)
theorem dX1_planWave_147 : decode cX1_planWave 147 = .ok (.aload_n 0, 1) := dk_42 (dk_at dksX1_planWave_6 11 rfl rfl)
theorem dX1_planWave_148 : decode cX1_planWave 148 = .ok (.invokevirtual 230, 3) := dk_182 0 230 (dk_at dksX1_planWave_6 12 rfl rfl)
theorem dX1_planWave_151 : decode cX1_planWave 151 = .ok (.istore_n 2, 1) := dk_61 (dk_at dksX1_planWave_6 15 rfl rfl)
theorem dX1_planWave_152 : decode cX1_planWave 152 = .ok (.iload_n 2, 1) := dk_28 (dk_at dksX1_planWave_6 16 rfl rfl)
theorem dX1_planWave_153 : decode cX1_planWave 153 = .ok (.ifCond .eq 11, 3) := dk_153 0 11 (dk_at dksX1_planWave_6 17 rfl rfl)
theorem dX1_planWave_156 : decode cX1_planWave 156 = .ok (.aload_n 0, 1) := dk_42 (dk_at dksX1_planWave_6 20 rfl rfl)
theorem dX1_planWave_157 : decode cX1_planWave 157 = .ok (.invokevirtual 230, 3) := dk_182 0 230 (dk_at dksX1_planWave_6 21 rfl rfl)
theorem dX1_planWave_160 : decode cX1_planWave 160 = .ok (.istore_n 2, 1) := dk_61 (dk_at dksX1_planWave_7 0 rfl rfl)
theorem dX1_planWave_161 : decode cX1_planWave 161 = .ok (.goto (-9), 3) := dk_167 255 247 (dk_at dksX1_planWave_7 1 rfl rfl)
theorem dX1_planWave_164 : decode cX1_planWave 164 = .ok (.aload_n 0, 1) := dk_42 (dk_at dksX1_planWave_7 4 rfl rfl)
theorem dX1_planWave_165 : decode cX1_planWave 165 = .ok (.getfield 43, 3) := dk_180 0 43 (dk_at dksX1_planWave_7 5 rfl rfl)
theorem dX1_planWave_168 : decode cX1_planWave 168 = .ok (.invokeinterface 1 1, 5) := by decide +kernel
theorem dX1_planWave_173 : decode cX1_planWave 173 = .ok (.ireturn, 1) := dk_172 (dk_at dksX1_planWave_7 13 rfl rfl)
abbrev cX1_reckons : ByteArray := prog_1_method_24_code
def yX1_reckons : MethodName := ⟨RX1, "reckons", "(I)V"⟩
def dkwX1_reckons_3 : List UInt8 := [79, 132, 2, 1, 167, 255, 182, 177]
abbrev dktX1_reckons_3 : List UInt8 := dkwX1_reckons_3 ++ []
def dkwX1_reckons_2 : List UInt8 := [192, 0, 117, 182, 0, 236, 62, 42, 180, 0, 48, 27, 50, 28, 29, 79, 42, 180, 0, 48, 28, 50, 27, 29]
abbrev dktX1_reckons_2 : List UInt8 := dkwX1_reckons_2 ++ dktX1_reckons_3
def dkwX1_reckons_1 : List UInt8 := [42, 42, 180, 0, 43, 27, 185, 0, 7, 2, 0, 192, 0, 117, 42, 180, 0, 43, 28, 185, 0, 7, 2, 0]
abbrev dktX1_reckons_1 : List UInt8 := dkwX1_reckons_1 ++ dktX1_reckons_2
def dkwX1_reckons_0 : List UInt8 := [3, 61, 28, 42, 180, 0, 43, 185, 0, 1, 1, 0, 162, 0, 67, 28, 27, 160, 0, 7, 3, 167, 0, 33]
abbrev dktX1_reckons_0 : List UInt8 := dkwX1_reckons_0 ++ dktX1_reckons_1
theorem dksX1_reckons_0 : cX1_reckons.data.toList.drop 0 = dktX1_reckons_0 := by decide +kernel
theorem dksX1_reckons_1 : cX1_reckons.data.toList.drop 24 = dktX1_reckons_1 := dk_seg dksX1_reckons_0 24 rfl rfl
theorem dksX1_reckons_2 : cX1_reckons.data.toList.drop 48 = dktX1_reckons_2 := dk_seg dksX1_reckons_1 24 rfl rfl
theorem dksX1_reckons_3 : cX1_reckons.data.toList.drop 72 = dktX1_reckons_3 := dk_seg dksX1_reckons_2 24 rfl rfl
theorem dX1_reckons_0 : decode cX1_reckons 0 = .ok (.iconst 0, 1) := dk_3 (dk_at dksX1_reckons_0 0 rfl rfl)
theorem dX1_reckons_1 : decode cX1_reckons 1 = .ok (.istore_n 2, 1) := dk_61 (dk_at dksX1_reckons_0 1 rfl rfl)
theorem dX1_reckons_2 : decode cX1_reckons 2 = .ok (.iload_n 2, 1) := dk_28 (dk_at dksX1_reckons_0 2 rfl rfl)
theorem dX1_reckons_3 : decode cX1_reckons 3 = .ok (.aload_n 0, 1) := dk_42 (dk_at dksX1_reckons_0 3 rfl rfl)
theorem dX1_reckons_4 : decode cX1_reckons 4 = .ok (.getfield 43, 3) := dk_180 0 43 (dk_at dksX1_reckons_0 4 rfl rfl)
theorem dX1_reckons_7 : decode cX1_reckons 7 = .ok (.invokeinterface 1 1, 5) := by decide +kernel
theorem dX1_reckons_12 : decode cX1_reckons 12 = .ok (.if_icmp .ge 67, 3) := dk_162 0 67 (dk_at dksX1_reckons_0 12 rfl rfl)
theorem dX1_reckons_15 : decode cX1_reckons 15 = .ok (.iload_n 2, 1) := dk_28 (dk_at dksX1_reckons_0 15 rfl rfl)
theorem dX1_reckons_16 : decode cX1_reckons 16 = .ok (.iload_n 1, 1) := dk_27 (dk_at dksX1_reckons_0 16 rfl rfl)
theorem dX1_reckons_17 : decode cX1_reckons 17 = .ok (.if_icmp .ne 7, 3) := dk_160 0 7 (dk_at dksX1_reckons_0 17 rfl rfl)
theorem dX1_reckons_20 : decode cX1_reckons 20 = .ok (.iconst 0, 1) := dk_3 (dk_at dksX1_reckons_0 20 rfl rfl)
theorem dX1_reckons_21 : decode cX1_reckons 21 = .ok (.goto 33, 3) := dk_167 0 33 (dk_at dksX1_reckons_0 21 rfl rfl)
theorem dX1_reckons_24 : decode cX1_reckons 24 = .ok (.aload_n 0, 1) := dk_42 (dk_at dksX1_reckons_1 0 rfl rfl)
theorem dX1_reckons_25 : decode cX1_reckons 25 = .ok (.aload_n 0, 1) := dk_42 (dk_at dksX1_reckons_1 1 rfl rfl)
theorem dX1_reckons_26 : decode cX1_reckons 26 = .ok (.getfield 43, 3) := dk_180 0 43 (dk_at dksX1_reckons_1 2 rfl rfl)
theorem dX1_reckons_29 : decode cX1_reckons 29 = .ok (.iload_n 1, 1) := dk_27 (dk_at dksX1_reckons_1 5 rfl rfl)
theorem dX1_reckons_30 : decode cX1_reckons 30 = .ok (.invokeinterface 7 2, 5) := by decide +kernel
theorem dX1_reckons_35 : decode cX1_reckons 35 = .ok (.checkcast 117, 3) := dk_192 0 117 (dk_at dksX1_reckons_1 11 rfl rfl)
theorem dX1_reckons_38 : decode cX1_reckons 38 = .ok (.aload_n 0, 1) := dk_42 (dk_at dksX1_reckons_1 14 rfl rfl)
theorem dX1_reckons_39 : decode cX1_reckons 39 = .ok (.getfield 43, 3) := dk_180 0 43 (dk_at dksX1_reckons_1 15 rfl rfl)
theorem dX1_reckons_42 : decode cX1_reckons 42 = .ok (.iload_n 2, 1) := dk_28 (dk_at dksX1_reckons_1 18 rfl rfl)
theorem dX1_reckons_43 : decode cX1_reckons 43 = .ok (.invokeinterface 7 2, 5) := by decide +kernel
theorem dX1_reckons_48 : decode cX1_reckons 48 = .ok (.checkcast 117, 3) := dk_192 0 117 (dk_at dksX1_reckons_2 0 rfl rfl)
theorem dX1_reckons_51 : decode cX1_reckons 51 = .ok (.invokevirtual 236, 3) := dk_182 0 236 (dk_at dksX1_reckons_2 3 rfl rfl)
theorem dX1_reckons_54 : decode cX1_reckons 54 = .ok (.istore_n 3, 1) := dk_62 (dk_at dksX1_reckons_2 6 rfl rfl)
theorem dX1_reckons_55 : decode cX1_reckons 55 = .ok (.aload_n 0, 1) := dk_42 (dk_at dksX1_reckons_2 7 rfl rfl)
theorem dX1_reckons_56 : decode cX1_reckons 56 = .ok (.getfield 48, 3) := dk_180 0 48 (dk_at dksX1_reckons_2 8 rfl rfl)
theorem dX1_reckons_59 : decode cX1_reckons 59 = .ok (.iload_n 1, 1) := dk_27 (dk_at dksX1_reckons_2 11 rfl rfl)
theorem dX1_reckons_60 : decode cX1_reckons 60 = .ok (.aaload, 1) := dk_50 (dk_at dksX1_reckons_2 12 rfl rfl)
theorem dX1_reckons_61 : decode cX1_reckons 61 = .ok (.iload_n 2, 1) := dk_28 (dk_at dksX1_reckons_2 13 rfl rfl)
theorem dX1_reckons_62 : decode cX1_reckons 62 = .ok (.iload_n 3, 1) := dk_29 (dk_at dksX1_reckons_2 14 rfl rfl)
theorem dX1_reckons_63 : decode cX1_reckons 63 = .ok (.iastore, 1) := dk_79 (dk_at dksX1_reckons_2 15 rfl rfl)
theorem dX1_reckons_64 : decode cX1_reckons 64 = .ok (.aload_n 0, 1) := dk_42 (dk_at dksX1_reckons_2 16 rfl rfl)
theorem dX1_reckons_65 : decode cX1_reckons 65 = .ok (.getfield 48, 3) := dk_180 0 48 (dk_at dksX1_reckons_2 17 rfl rfl)
theorem dX1_reckons_68 : decode cX1_reckons 68 = .ok (.iload_n 2, 1) := dk_28 (dk_at dksX1_reckons_2 20 rfl rfl)
theorem dX1_reckons_69 : decode cX1_reckons 69 = .ok (.aaload, 1) := dk_50 (dk_at dksX1_reckons_2 21 rfl rfl)
theorem dX1_reckons_70 : decode cX1_reckons 70 = .ok (.iload_n 1, 1) := dk_27 (dk_at dksX1_reckons_2 22 rfl rfl)
theorem dX1_reckons_71 : decode cX1_reckons 71 = .ok (.iload_n 3, 1) := dk_29 (dk_at dksX1_reckons_2 23 rfl rfl)
theorem dX1_reckons_72 : decode cX1_reckons 72 = .ok (.iastore, 1) := dk_79 (dk_at dksX1_reckons_3 0 rfl rfl)
theorem dX1_reckons_73 : decode cX1_reckons 73 = .ok (.iinc 2 1, 3) := dk_132 2 1 (dk_at dksX1_reckons_3 1 rfl rfl)
theorem dX1_reckons_76 : decode cX1_reckons 76 = .ok (.goto (-74), 3) := dk_167 255 182 (dk_at dksX1_reckons_3 4 rfl rfl)
theorem dX1_reckons_79 : decode cX1_reckons 79 = .ok (.return_, 1) := dk_177 (dk_at dksX1_reckons_3 7 rfl rfl)
abbrev cX1_saving : ByteArray := prog_1_method_23_code
def yX1_saving : MethodName := ⟨RX1, "saving", "(LAislewright$Batch;LAislewright$Batch;)I"⟩
def dkwX1_saving_2 : List UInt8 := [180, 0, 235, 44, 180, 0, 235, 128, 182, 0, 201, 100, 172]
abbrev dktX1_saving_2 : List UInt8 := dkwX1_saving_2 ++ []
def dkwX1_saving_1 : List UInt8 := [180, 0, 235, 182, 0, 201, 42, 180, 0, 56, 44, 180, 0, 235, 182, 0, 201, 96, 42, 180, 0, 56, 43]
abbrev dktX1_saving_1 : List UInt8 := dkwX1_saving_1 ++ dktX1_saving_2
def dkwX1_saving_0 : List UInt8 := [43, 180, 0, 233, 44, 180, 0, 233, 96, 42, 180, 0, 60, 164, 0, 5, 3, 172, 42, 180, 0, 56, 43]
abbrev dktX1_saving_0 : List UInt8 := dkwX1_saving_0 ++ dktX1_saving_1
theorem dksX1_saving_0 : cX1_saving.data.toList.drop 0 = dktX1_saving_0 := by decide +kernel
theorem dksX1_saving_1 : cX1_saving.data.toList.drop 23 = dktX1_saving_1 := dk_seg dksX1_saving_0 23 rfl rfl
theorem dksX1_saving_2 : cX1_saving.data.toList.drop 46 = dktX1_saving_2 := dk_seg dksX1_saving_1 23 rfl rfl
theorem dX1_saving_0 : decode cX1_saving 0 = .ok (.aload_n 1, 1) := dk_43 (dk_at dksX1_saving_0 0 rfl rfl)
theorem dX1_saving_1 : decode cX1_saving 1 = .ok (.getfield 233, 3) := dk_180 0 233 (dk_at dksX1_saving_0 1 rfl rfl)
theorem dX1_saving_4 : decode cX1_saving 4 = .ok (.aload_n 2, 1) := dk_44 (dk_at dksX1_saving_0 4 rfl rfl)
theorem dX1_saving_5 : decode cX1_saving 5 = .ok (.getfield 233, 3) := dk_180 0 233 (dk_at dksX1_saving_0 5 rfl rfl)
theorem dX1_saving_8 : decode cX1_saving 8 = .ok (.iadd, 1) := dk_96 (dk_at dksX1_saving_0 8 rfl rfl)
theorem dX1_saving_9 : decode cX1_saving 9 = .ok (.aload_n 0, 1) := dk_42 (dk_at dksX1_saving_0 9 rfl rfl)
theorem dX1_saving_10 : decode cX1_saving 10 = .ok (.getfield 60, 3) := dk_180 0 60 (dk_at dksX1_saving_0 10 rfl rfl)
theorem dX1_saving_13 : decode cX1_saving 13 = .ok (.if_icmp .le 5, 3) := dk_164 0 5 (dk_at dksX1_saving_0 13 rfl rfl)
theorem dX1_saving_16 : decode cX1_saving 16 = .ok (.iconst 0, 1) := dk_3 (dk_at dksX1_saving_0 16 rfl rfl)
theorem dX1_saving_17 : decode cX1_saving 17 = .ok (.ireturn, 1) := dk_172 (dk_at dksX1_saving_0 17 rfl rfl)
theorem dX1_saving_18 : decode cX1_saving 18 = .ok (.aload_n 0, 1) := dk_42 (dk_at dksX1_saving_0 18 rfl rfl)
theorem dX1_saving_19 : decode cX1_saving 19 = .ok (.getfield 56, 3) := dk_180 0 56 (dk_at dksX1_saving_0 19 rfl rfl)
theorem dX1_saving_22 : decode cX1_saving 22 = .ok (.aload_n 1, 1) := dk_43 (dk_at dksX1_saving_0 22 rfl rfl)
theorem dX1_saving_23 : decode cX1_saving 23 = .ok (.getfield 235, 3) := dk_180 0 235 (dk_at dksX1_saving_1 0 rfl rfl)
theorem dX1_saving_26 : decode cX1_saving 26 = .ok (.invokevirtual 201, 3) := dk_182 0 201 (dk_at dksX1_saving_1 3 rfl rfl)
theorem dX1_saving_29 : decode cX1_saving 29 = .ok (.aload_n 0, 1) := dk_42 (dk_at dksX1_saving_1 6 rfl rfl)
theorem dX1_saving_30 : decode cX1_saving 30 = .ok (.getfield 56, 3) := dk_180 0 56 (dk_at dksX1_saving_1 7 rfl rfl)
theorem dX1_saving_33 : decode cX1_saving 33 = .ok (.aload_n 2, 1) := dk_44 (dk_at dksX1_saving_1 10 rfl rfl)
theorem dX1_saving_34 : decode cX1_saving 34 = .ok (.getfield 235, 3) := dk_180 0 235 (dk_at dksX1_saving_1 11 rfl rfl)
theorem dX1_saving_37 : decode cX1_saving 37 = .ok (.invokevirtual 201, 3) := dk_182 0 201 (dk_at dksX1_saving_1 14 rfl rfl)
theorem dX1_saving_40 : decode cX1_saving 40 = .ok (.iadd, 1) := dk_96 (dk_at dksX1_saving_1 17 rfl rfl)
theorem dX1_saving_41 : decode cX1_saving 41 = .ok (.aload_n 0, 1) := dk_42 (dk_at dksX1_saving_1 18 rfl rfl)
theorem dX1_saving_42 : decode cX1_saving 42 = .ok (.getfield 56, 3) := dk_180 0 56 (dk_at dksX1_saving_1 19 rfl rfl)
theorem dX1_saving_45 : decode cX1_saving 45 = .ok (.aload_n 1, 1) := dk_43 (dk_at dksX1_saving_1 22 rfl rfl)
theorem dX1_saving_46 : decode cX1_saving 46 = .ok (.getfield 235, 3) := dk_180 0 235 (dk_at dksX1_saving_2 0 rfl rfl)
theorem dX1_saving_49 : decode cX1_saving 49 = .ok (.aload_n 2, 1) := dk_44 (dk_at dksX1_saving_2 3 rfl rfl)
theorem dX1_saving_50 : decode cX1_saving 50 = .ok (.getfield 235, 3) := dk_180 0 235 (dk_at dksX1_saving_2 4 rfl rfl)
theorem dX1_saving_53 : decode cX1_saving 53 = .ok (.ior, 1) := dk_128 (dk_at dksX1_saving_2 7 rfl rfl)
theorem dX1_saving_54 : decode cX1_saving 54 = .ok (.invokevirtual 201, 3) := dk_182 0 201 (dk_at dksX1_saving_2 8 rfl rfl)
theorem dX1_saving_57 : decode cX1_saving 57 = .ok (.isub, 1) := dk_100 (dk_at dksX1_saving_2 11 rfl rfl)
theorem dX1_saving_58 : decode cX1_saving 58 = .ok (.ireturn, 1) := dk_172 (dk_at dksX1_saving_2 12 rfl rfl)
abbrev cX1_joinsBest : ByteArray := prog_1_method_25_code
def yX1_joinsBest : MethodName := ⟨RX1, "joinsBest", "()Z"⟩
def dkwX1_joinsBest_9 : List UInt8 := [50, 28, 16, 40, 28, 100, 4, 100, 184, 0, 251, 132, 4, 1, 167, 255, 212, 42, 27, 182, 0, 227, 4, 172]
abbrev dktX1_joinsBest_9 : List UInt8 := dkwX1_joinsBest_9 ++ []
def dkwX1_joinsBest_8 : List UInt8 := [185, 0, 1, 1, 0, 162, 0, 36, 42, 180, 0, 48, 21, 4, 50, 28, 4, 96, 42, 180, 0, 48, 21, 4]
abbrev dktX1_joinsBest_8 : List UInt8 := dkwX1_joinsBest_8 ++ dktX1_joinsBest_9
def dkwX1_joinsBest_7 : List UInt8 := [96, 50, 182, 0, 247, 192, 0, 248, 83, 132, 4, 1, 167, 255, 217, 3, 54, 4, 21, 4, 42, 180, 0, 43]
abbrev dktX1_joinsBest_7 : List UInt8 := dkwX1_joinsBest_7 ++ dktX1_joinsBest_8
def dkwX1_joinsBest_6 : List UInt8 := [180, 0, 43, 185, 0, 1, 1, 0, 162, 0, 31, 42, 180, 0, 48, 21, 4, 42, 180, 0, 48, 21, 4, 4]
abbrev dktX1_joinsBest_6 : List UInt8 := dkwX1_joinsBest_6 ++ dktX1_joinsBest_7
def dkwX1_joinsBest_5 : List UInt8 := [192, 0, 117, 182, 0, 240, 42, 180, 0, 43, 28, 185, 0, 244, 2, 0, 87, 28, 54, 4, 21, 4, 42]
abbrev dktX1_joinsBest_5 : List UInt8 := dkwX1_joinsBest_5 ++ dktX1_joinsBest_6
def dkwX1_joinsBest_4 : List UInt8 := [180, 0, 43, 27, 185, 0, 7, 2, 0, 192, 0, 117, 42, 180, 0, 43, 28, 185, 0, 7, 2, 0]
abbrev dktX1_joinsBest_4 : List UInt8 := dkwX1_joinsBest_4 ++ dktX1_joinsBest_5
def dkwX1_joinsBest_3 : List UInt8 := [21, 5, 46, 62, 132, 5, 1, 167, 255, 208, 132, 4, 1, 167, 255, 182, 29, 154, 0, 5, 3, 172, 42]
abbrev dktX1_joinsBest_3 : List UInt8 := dkwX1_joinsBest_3 ++ dktX1_joinsBest_4
def dkwX1_joinsBest_2 : List UInt8 := [21, 4, 50, 21, 5, 46, 29, 164, 0, 20, 21, 4, 60, 21, 5, 61, 42, 180, 0, 48, 21, 4, 50]
abbrev dktX1_joinsBest_2 : List UInt8 := dkwX1_joinsBest_2 ++ dktX1_joinsBest_3
def dkwX1_joinsBest_1 : List UInt8 := [21, 4, 4, 96, 54, 5, 21, 5, 42, 180, 0, 43, 185, 0, 1, 1, 0, 162, 0, 40, 42, 180, 0, 48]
abbrev dktX1_joinsBest_1 : List UInt8 := dkwX1_joinsBest_1 ++ dktX1_joinsBest_2
def dkwX1_joinsBest_0 : List UInt8 := [3, 60, 3, 61, 3, 62, 3, 54, 4, 21, 4, 42, 180, 0, 43, 185, 0, 1, 1, 0, 162, 0, 66]
abbrev dktX1_joinsBest_0 : List UInt8 := dkwX1_joinsBest_0 ++ dktX1_joinsBest_1
theorem dksX1_joinsBest_0 : cX1_joinsBest.data.toList.drop 0 = dktX1_joinsBest_0 := by decide +kernel
theorem dksX1_joinsBest_1 : cX1_joinsBest.data.toList.drop 23 = dktX1_joinsBest_1 := dk_seg dksX1_joinsBest_0 23 rfl rfl
theorem dksX1_joinsBest_2 : cX1_joinsBest.data.toList.drop 47 = dktX1_joinsBest_2 := dk_seg dksX1_joinsBest_1 24 rfl rfl
theorem dksX1_joinsBest_3 : cX1_joinsBest.data.toList.drop 70 = dktX1_joinsBest_3 := dk_seg dksX1_joinsBest_2 23 rfl rfl
theorem dksX1_joinsBest_4 : cX1_joinsBest.data.toList.drop 93 = dktX1_joinsBest_4 := dk_seg dksX1_joinsBest_3 23 rfl rfl
theorem dksX1_joinsBest_5 : cX1_joinsBest.data.toList.drop 115 = dktX1_joinsBest_5 := dk_seg dksX1_joinsBest_4 22 rfl rfl
theorem dksX1_joinsBest_6 : cX1_joinsBest.data.toList.drop 138 = dktX1_joinsBest_6 := dk_seg dksX1_joinsBest_5 23 rfl rfl
theorem dksX1_joinsBest_7 : cX1_joinsBest.data.toList.drop 162 = dktX1_joinsBest_7 := dk_seg dksX1_joinsBest_6 24 rfl rfl
theorem dksX1_joinsBest_8 : cX1_joinsBest.data.toList.drop 186 = dktX1_joinsBest_8 := dk_seg dksX1_joinsBest_7 24 rfl rfl
theorem dksX1_joinsBest_9 : cX1_joinsBest.data.toList.drop 210 = dktX1_joinsBest_9 := dk_seg dksX1_joinsBest_8 24 rfl rfl
theorem dX1_joinsBest_0 : decode cX1_joinsBest 0 = .ok (.iconst 0, 1) := dk_3 (dk_at dksX1_joinsBest_0 0 rfl rfl)
theorem dX1_joinsBest_1 : decode cX1_joinsBest 1 = .ok (.istore_n 1, 1) := dk_60 (dk_at dksX1_joinsBest_0 1 rfl rfl)
theorem dX1_joinsBest_2 : decode cX1_joinsBest 2 = .ok (.iconst 0, 1) := dk_3 (dk_at dksX1_joinsBest_0 2 rfl rfl)
theorem dX1_joinsBest_3 : decode cX1_joinsBest 3 = .ok (.istore_n 2, 1) := dk_61 (dk_at dksX1_joinsBest_0 3 rfl rfl)
theorem dX1_joinsBest_4 : decode cX1_joinsBest 4 = .ok (.iconst 0, 1) := dk_3 (dk_at dksX1_joinsBest_0 4 rfl rfl)
theorem dX1_joinsBest_5 : decode cX1_joinsBest 5 = .ok (.istore_n 3, 1) := dk_62 (dk_at dksX1_joinsBest_0 5 rfl rfl)
theorem dX1_joinsBest_6 : decode cX1_joinsBest 6 = .ok (.iconst 0, 1) := dk_3 (dk_at dksX1_joinsBest_0 6 rfl rfl)
theorem dX1_joinsBest_7 : decode cX1_joinsBest 7 = .ok (.istore 4, 2) := dk_54 4 (dk_at dksX1_joinsBest_0 7 rfl rfl)
theorem dX1_joinsBest_9 : decode cX1_joinsBest 9 = .ok (.iload 4, 2) := dk_21 4 (dk_at dksX1_joinsBest_0 9 rfl rfl)
theorem dX1_joinsBest_11 : decode cX1_joinsBest 11 = .ok (.aload_n 0, 1) := dk_42 (dk_at dksX1_joinsBest_0 11 rfl rfl)
theorem dX1_joinsBest_12 : decode cX1_joinsBest 12 = .ok (.getfield 43, 3) := dk_180 0 43 (dk_at dksX1_joinsBest_0 12 rfl rfl)
theorem dX1_joinsBest_15 : decode cX1_joinsBest 15 = .ok (.invokeinterface 1 1, 5) := by decide +kernel
theorem dX1_joinsBest_20 : decode cX1_joinsBest 20 = .ok (.if_icmp .ge 66, 3) := dk_162 0 66 (dk_at dksX1_joinsBest_0 20 rfl rfl)
theorem dX1_joinsBest_23 : decode cX1_joinsBest 23 = .ok (.iload 4, 2) := dk_21 4 (dk_at dksX1_joinsBest_1 0 rfl rfl)
theorem dX1_joinsBest_25 : decode cX1_joinsBest 25 = .ok (.iconst 1, 1) := dk_4 (dk_at dksX1_joinsBest_1 2 rfl rfl)
theorem dX1_joinsBest_26 : decode cX1_joinsBest 26 = .ok (.iadd, 1) := dk_96 (dk_at dksX1_joinsBest_1 3 rfl rfl)
theorem dX1_joinsBest_27 : decode cX1_joinsBest 27 = .ok (.istore 5, 2) := dk_54 5 (dk_at dksX1_joinsBest_1 4 rfl rfl)
theorem dX1_joinsBest_29 : decode cX1_joinsBest 29 = .ok (.iload 5, 2) := dk_21 5 (dk_at dksX1_joinsBest_1 6 rfl rfl)
theorem dX1_joinsBest_31 : decode cX1_joinsBest 31 = .ok (.aload_n 0, 1) := dk_42 (dk_at dksX1_joinsBest_1 8 rfl rfl)
theorem dX1_joinsBest_32 : decode cX1_joinsBest 32 = .ok (.getfield 43, 3) := dk_180 0 43 (dk_at dksX1_joinsBest_1 9 rfl rfl)
theorem dX1_joinsBest_35 : decode cX1_joinsBest 35 = .ok (.invokeinterface 1 1, 5) := by decide +kernel
theorem dX1_joinsBest_40 : decode cX1_joinsBest 40 = .ok (.if_icmp .ge 40, 3) := dk_162 0 40 (dk_at dksX1_joinsBest_1 17 rfl rfl)
theorem dX1_joinsBest_43 : decode cX1_joinsBest 43 = .ok (.aload_n 0, 1) := dk_42 (dk_at dksX1_joinsBest_1 20 rfl rfl)
theorem dX1_joinsBest_44 : decode cX1_joinsBest 44 = .ok (.getfield 48, 3) := dk_180 0 48 (dk_at dksX1_joinsBest_1 21 rfl rfl)
theorem dX1_joinsBest_47 : decode cX1_joinsBest 47 = .ok (.iload 4, 2) := dk_21 4 (dk_at dksX1_joinsBest_2 0 rfl rfl)
theorem dX1_joinsBest_49 : decode cX1_joinsBest 49 = .ok (.aaload, 1) := dk_50 (dk_at dksX1_joinsBest_2 2 rfl rfl)
theorem dX1_joinsBest_50 : decode cX1_joinsBest 50 = .ok (.iload 5, 2) := dk_21 5 (dk_at dksX1_joinsBest_2 3 rfl rfl)
theorem dX1_joinsBest_52 : decode cX1_joinsBest 52 = .ok (.iaload, 1) := dk_46 (dk_at dksX1_joinsBest_2 5 rfl rfl)
theorem dX1_joinsBest_53 : decode cX1_joinsBest 53 = .ok (.iload_n 3, 1) := dk_29 (dk_at dksX1_joinsBest_2 6 rfl rfl)
theorem dX1_joinsBest_54 : decode cX1_joinsBest 54 = .ok (.if_icmp .le 20, 3) := dk_164 0 20 (dk_at dksX1_joinsBest_2 7 rfl rfl)
theorem dX1_joinsBest_57 : decode cX1_joinsBest 57 = .ok (.iload 4, 2) := dk_21 4 (dk_at dksX1_joinsBest_2 10 rfl rfl)
theorem dX1_joinsBest_59 : decode cX1_joinsBest 59 = .ok (.istore_n 1, 1) := dk_60 (dk_at dksX1_joinsBest_2 12 rfl rfl)
theorem dX1_joinsBest_60 : decode cX1_joinsBest 60 = .ok (.iload 5, 2) := dk_21 5 (dk_at dksX1_joinsBest_2 13 rfl rfl)
theorem dX1_joinsBest_62 : decode cX1_joinsBest 62 = .ok (.istore_n 2, 1) := dk_61 (dk_at dksX1_joinsBest_2 15 rfl rfl)
theorem dX1_joinsBest_63 : decode cX1_joinsBest 63 = .ok (.aload_n 0, 1) := dk_42 (dk_at dksX1_joinsBest_2 16 rfl rfl)
theorem dX1_joinsBest_64 : decode cX1_joinsBest 64 = .ok (.getfield 48, 3) := dk_180 0 48 (dk_at dksX1_joinsBest_2 17 rfl rfl)
theorem dX1_joinsBest_67 : decode cX1_joinsBest 67 = .ok (.iload 4, 2) := dk_21 4 (dk_at dksX1_joinsBest_2 20 rfl rfl)
theorem dX1_joinsBest_69 : decode cX1_joinsBest 69 = .ok (.aaload, 1) := dk_50 (dk_at dksX1_joinsBest_2 22 rfl rfl)
theorem dX1_joinsBest_70 : decode cX1_joinsBest 70 = .ok (.iload 5, 2) := dk_21 5 (dk_at dksX1_joinsBest_3 0 rfl rfl)
theorem dX1_joinsBest_72 : decode cX1_joinsBest 72 = .ok (.iaload, 1) := dk_46 (dk_at dksX1_joinsBest_3 2 rfl rfl)
theorem dX1_joinsBest_73 : decode cX1_joinsBest 73 = .ok (.istore_n 3, 1) := dk_62 (dk_at dksX1_joinsBest_3 3 rfl rfl)
theorem dX1_joinsBest_74 : decode cX1_joinsBest 74 = .ok (.iinc 5 1, 3) := dk_132 5 1 (dk_at dksX1_joinsBest_3 4 rfl rfl)
theorem dX1_joinsBest_77 : decode cX1_joinsBest 77 = .ok (.goto (-48), 3) := dk_167 255 208 (dk_at dksX1_joinsBest_3 7 rfl rfl)
theorem dX1_joinsBest_80 : decode cX1_joinsBest 80 = .ok (.iinc 4 1, 3) := dk_132 4 1 (dk_at dksX1_joinsBest_3 10 rfl rfl)
theorem dX1_joinsBest_83 : decode cX1_joinsBest 83 = .ok (.goto (-74), 3) := dk_167 255 182 (dk_at dksX1_joinsBest_3 13 rfl rfl)
theorem dX1_joinsBest_86 : decode cX1_joinsBest 86 = .ok (.iload_n 3, 1) := dk_29 (dk_at dksX1_joinsBest_3 16 rfl rfl)
theorem dX1_joinsBest_87 : decode cX1_joinsBest 87 = .ok (.ifCond .ne 5, 3) := dk_154 0 5 (dk_at dksX1_joinsBest_3 17 rfl rfl)
theorem dX1_joinsBest_90 : decode cX1_joinsBest 90 = .ok (.iconst 0, 1) := dk_3 (dk_at dksX1_joinsBest_3 20 rfl rfl)
theorem dX1_joinsBest_91 : decode cX1_joinsBest 91 = .ok (.ireturn, 1) := dk_172 (dk_at dksX1_joinsBest_3 21 rfl rfl)
theorem dX1_joinsBest_92 : decode cX1_joinsBest 92 = .ok (.aload_n 0, 1) := dk_42 (dk_at dksX1_joinsBest_3 22 rfl rfl)
theorem dX1_joinsBest_93 : decode cX1_joinsBest 93 = .ok (.getfield 43, 3) := dk_180 0 43 (dk_at dksX1_joinsBest_4 0 rfl rfl)
theorem dX1_joinsBest_96 : decode cX1_joinsBest 96 = .ok (.iload_n 1, 1) := dk_27 (dk_at dksX1_joinsBest_4 3 rfl rfl)
theorem dX1_joinsBest_97 : decode cX1_joinsBest 97 = .ok (.invokeinterface 7 2, 5) := by decide +kernel
theorem dX1_joinsBest_102 : decode cX1_joinsBest 102 = .ok (.checkcast 117, 3) := dk_192 0 117 (dk_at dksX1_joinsBest_4 9 rfl rfl)
theorem dX1_joinsBest_105 : decode cX1_joinsBest 105 = .ok (.aload_n 0, 1) := dk_42 (dk_at dksX1_joinsBest_4 12 rfl rfl)
theorem dX1_joinsBest_106 : decode cX1_joinsBest 106 = .ok (.getfield 43, 3) := dk_180 0 43 (dk_at dksX1_joinsBest_4 13 rfl rfl)
theorem dX1_joinsBest_109 : decode cX1_joinsBest 109 = .ok (.iload_n 2, 1) := dk_28 (dk_at dksX1_joinsBest_4 16 rfl rfl)
theorem dX1_joinsBest_110 : decode cX1_joinsBest 110 = .ok (.invokeinterface 7 2, 5) := by decide +kernel
theorem dX1_joinsBest_115 : decode cX1_joinsBest 115 = .ok (.checkcast 117, 3) := dk_192 0 117 (dk_at dksX1_joinsBest_5 0 rfl rfl)
theorem dX1_joinsBest_118 : decode cX1_joinsBest 118 = .ok (.invokevirtual 240, 3) := dk_182 0 240 (dk_at dksX1_joinsBest_5 3 rfl rfl)
theorem dX1_joinsBest_121 : decode cX1_joinsBest 121 = .ok (.aload_n 0, 1) := dk_42 (dk_at dksX1_joinsBest_5 6 rfl rfl)
theorem dX1_joinsBest_122 : decode cX1_joinsBest 122 = .ok (.getfield 43, 3) := dk_180 0 43 (dk_at dksX1_joinsBest_5 7 rfl rfl)
theorem dX1_joinsBest_125 : decode cX1_joinsBest 125 = .ok (.iload_n 2, 1) := dk_28 (dk_at dksX1_joinsBest_5 10 rfl rfl)
theorem dX1_joinsBest_126 : decode cX1_joinsBest 126 = .ok (.invokeinterface 244 2, 5) := by decide +kernel
theorem dX1_joinsBest_131 : decode cX1_joinsBest 131 = .ok (.pop, 1) := dk_87 (dk_at dksX1_joinsBest_5 16 rfl rfl)
theorem dX1_joinsBest_132 : decode cX1_joinsBest 132 = .ok (.iload_n 2, 1) := dk_28 (dk_at dksX1_joinsBest_5 17 rfl rfl)
theorem dX1_joinsBest_133 : decode cX1_joinsBest 133 = .ok (.istore 4, 2) := dk_54 4 (dk_at dksX1_joinsBest_5 18 rfl rfl)
theorem dX1_joinsBest_135 : decode cX1_joinsBest 135 = .ok (.iload 4, 2) := dk_21 4 (dk_at dksX1_joinsBest_5 20 rfl rfl)
theorem dX1_joinsBest_137 : decode cX1_joinsBest 137 = .ok (.aload_n 0, 1) := dk_42 (dk_at dksX1_joinsBest_5 22 rfl rfl)
theorem dX1_joinsBest_138 : decode cX1_joinsBest 138 = .ok (.getfield 43, 3) := dk_180 0 43 (dk_at dksX1_joinsBest_6 0 rfl rfl)
theorem dX1_joinsBest_141 : decode cX1_joinsBest 141 = .ok (.invokeinterface 1 1, 5) := by decide +kernel
theorem dX1_joinsBest_146 : decode cX1_joinsBest 146 = .ok (.if_icmp .ge 31, 3) := dk_162 0 31 (dk_at dksX1_joinsBest_6 8 rfl rfl)
theorem dX1_joinsBest_149 : decode cX1_joinsBest 149 = .ok (.aload_n 0, 1) := dk_42 (dk_at dksX1_joinsBest_6 11 rfl rfl)
theorem dX1_joinsBest_150 : decode cX1_joinsBest 150 = .ok (.getfield 48, 3) := dk_180 0 48 (dk_at dksX1_joinsBest_6 12 rfl rfl)
theorem dX1_joinsBest_153 : decode cX1_joinsBest 153 = .ok (.iload 4, 2) := dk_21 4 (dk_at dksX1_joinsBest_6 15 rfl rfl)
theorem dX1_joinsBest_155 : decode cX1_joinsBest 155 = .ok (.aload_n 0, 1) := dk_42 (dk_at dksX1_joinsBest_6 17 rfl rfl)
theorem dX1_joinsBest_156 : decode cX1_joinsBest 156 = .ok (.getfield 48, 3) := dk_180 0 48 (dk_at dksX1_joinsBest_6 18 rfl rfl)
theorem dX1_joinsBest_159 : decode cX1_joinsBest 159 = .ok (.iload 4, 2) := dk_21 4 (dk_at dksX1_joinsBest_6 21 rfl rfl)
theorem dX1_joinsBest_161 : decode cX1_joinsBest 161 = .ok (.iconst 1, 1) := dk_4 (dk_at dksX1_joinsBest_6 23 rfl rfl)
theorem dX1_joinsBest_162 : decode cX1_joinsBest 162 = .ok (.iadd, 1) := dk_96 (dk_at dksX1_joinsBest_7 0 rfl rfl)
theorem dX1_joinsBest_163 : decode cX1_joinsBest 163 = .ok (.aaload, 1) := dk_50 (dk_at dksX1_joinsBest_7 1 rfl rfl)
theorem dX1_joinsBest_164 : decode cX1_joinsBest 164 = .ok (.invokevirtual 247, 3) := dk_182 0 247 (dk_at dksX1_joinsBest_7 2 rfl rfl)
theorem dX1_joinsBest_167 : decode cX1_joinsBest 167 = .ok (.checkcast 248, 3) := dk_192 0 248 (dk_at dksX1_joinsBest_7 5 rfl rfl)
theorem dX1_joinsBest_170 : decode cX1_joinsBest 170 = .ok (.aastore, 1) := dk_83 (dk_at dksX1_joinsBest_7 8 rfl rfl)
theorem dX1_joinsBest_171 : decode cX1_joinsBest 171 = .ok (.iinc 4 1, 3) := dk_132 4 1 (dk_at dksX1_joinsBest_7 9 rfl rfl)
theorem dX1_joinsBest_174 : decode cX1_joinsBest 174 = .ok (.goto (-39), 3) := dk_167 255 217 (dk_at dksX1_joinsBest_7 12 rfl rfl)
theorem dX1_joinsBest_177 : decode cX1_joinsBest 177 = .ok (.iconst 0, 1) := dk_3 (dk_at dksX1_joinsBest_7 15 rfl rfl)
theorem dX1_joinsBest_178 : decode cX1_joinsBest 178 = .ok (.istore 4, 2) := dk_54 4 (dk_at dksX1_joinsBest_7 16 rfl rfl)
theorem dX1_joinsBest_180 : decode cX1_joinsBest 180 = .ok (.iload 4, 2) := dk_21 4 (dk_at dksX1_joinsBest_7 18 rfl rfl)
theorem dX1_joinsBest_182 : decode cX1_joinsBest 182 = .ok (.aload_n 0, 1) := dk_42 (dk_at dksX1_joinsBest_7 20 rfl rfl)
theorem dX1_joinsBest_183 : decode cX1_joinsBest 183 = .ok (.getfield 43, 3) := dk_180 0 43 (dk_at dksX1_joinsBest_7 21 rfl rfl)
theorem dX1_joinsBest_186 : decode cX1_joinsBest 186 = .ok (.invokeinterface 1 1, 5) := by decide +kernel
theorem dX1_joinsBest_191 : decode cX1_joinsBest 191 = .ok (.if_icmp .ge 36, 3) := dk_162 0 36 (dk_at dksX1_joinsBest_8 5 rfl rfl)
theorem dX1_joinsBest_194 : decode cX1_joinsBest 194 = .ok (.aload_n 0, 1) := dk_42 (dk_at dksX1_joinsBest_8 8 rfl rfl)
theorem dX1_joinsBest_195 : decode cX1_joinsBest 195 = .ok (.getfield 48, 3) := dk_180 0 48 (dk_at dksX1_joinsBest_8 9 rfl rfl)
theorem dX1_joinsBest_198 : decode cX1_joinsBest 198 = .ok (.iload 4, 2) := dk_21 4 (dk_at dksX1_joinsBest_8 12 rfl rfl)
theorem dX1_joinsBest_200 : decode cX1_joinsBest 200 = .ok (.aaload, 1) := dk_50 (dk_at dksX1_joinsBest_8 14 rfl rfl)
theorem dX1_joinsBest_201 : decode cX1_joinsBest 201 = .ok (.iload_n 2, 1) := dk_28 (dk_at dksX1_joinsBest_8 15 rfl rfl)
theorem dX1_joinsBest_202 : decode cX1_joinsBest 202 = .ok (.iconst 1, 1) := dk_4 (dk_at dksX1_joinsBest_8 16 rfl rfl)
theorem dX1_joinsBest_203 : decode cX1_joinsBest 203 = .ok (.iadd, 1) := dk_96 (dk_at dksX1_joinsBest_8 17 rfl rfl)
theorem dX1_joinsBest_204 : decode cX1_joinsBest 204 = .ok (.aload_n 0, 1) := dk_42 (dk_at dksX1_joinsBest_8 18 rfl rfl)
theorem dX1_joinsBest_205 : decode cX1_joinsBest 205 = .ok (.getfield 48, 3) := dk_180 0 48 (dk_at dksX1_joinsBest_8 19 rfl rfl)
theorem dX1_joinsBest_208 : decode cX1_joinsBest 208 = .ok (.iload 4, 2) := dk_21 4 (dk_at dksX1_joinsBest_8 22 rfl rfl)
theorem dX1_joinsBest_210 : decode cX1_joinsBest 210 = .ok (.aaload, 1) := dk_50 (dk_at dksX1_joinsBest_9 0 rfl rfl)
theorem dX1_joinsBest_211 : decode cX1_joinsBest 211 = .ok (.iload_n 2, 1) := dk_28 (dk_at dksX1_joinsBest_9 1 rfl rfl)
theorem dX1_joinsBest_212 : decode cX1_joinsBest 212 = .ok (.bipush 40, 2) := dk_16 40 (dk_at dksX1_joinsBest_9 2 rfl rfl)
theorem dX1_joinsBest_214 : decode cX1_joinsBest 214 = .ok (.iload_n 2, 1) := dk_28 (dk_at dksX1_joinsBest_9 4 rfl rfl)
theorem dX1_joinsBest_215 : decode cX1_joinsBest 215 = .ok (.isub, 1) := dk_100 (dk_at dksX1_joinsBest_9 5 rfl rfl)
theorem dX1_joinsBest_216 : decode cX1_joinsBest 216 = .ok (.iconst 1, 1) := dk_4 (dk_at dksX1_joinsBest_9 6 rfl rfl)
theorem dX1_joinsBest_217 : decode cX1_joinsBest 217 = .ok (.isub, 1) := dk_100 (dk_at dksX1_joinsBest_9 7 rfl rfl)
theorem dX1_joinsBest_218 : decode cX1_joinsBest 218 = .ok (.invokestatic 251, 3) := dk_184 0 251 (dk_at dksX1_joinsBest_9 8 rfl rfl)
theorem dX1_joinsBest_221 : decode cX1_joinsBest 221 = .ok (.iinc 4 1, 3) := dk_132 4 1 (dk_at dksX1_joinsBest_9 11 rfl rfl)
theorem dX1_joinsBest_224 : decode cX1_joinsBest 224 = .ok (.goto (-44), 3) := dk_167 255 212 (dk_at dksX1_joinsBest_9 14 rfl rfl)
theorem dX1_joinsBest_227 : decode cX1_joinsBest 227 = .ok (.aload_n 0, 1) := dk_42 (dk_at dksX1_joinsBest_9 17 rfl rfl)
theorem dX1_joinsBest_228 : decode cX1_joinsBest 228 = .ok (.iload_n 1, 1) := dk_27 (dk_at dksX1_joinsBest_9 18 rfl rfl)
theorem dX1_joinsBest_229 : decode cX1_joinsBest 229 = .ok (.invokevirtual 227, 3) := dk_182 0 227 (dk_at dksX1_joinsBest_9 19 rfl rfl)
theorem dX1_joinsBest_232 : decode cX1_joinsBest 232 = .ok (.iconst 1, 1) := dk_4 (dk_at dksX1_joinsBest_9 22 rfl rfl)
theorem dX1_joinsBest_233 : decode cX1_joinsBest 233 = .ok (.ireturn, 1) := dk_172 (dk_at dksX1_joinsBest_9 23 rfl rfl)
abbrev cX1_pick : ByteArray := prog_1_method_26_code
def yX1_pick : MethodName := ⟨RX1, "pick", "(I)I"⟩
def dkwX1_pick_5 : List UInt8 := [180, 0, 43, 27, 185, 0, 244, 2, 0, 87, 42, 89, 180, 1, 8, 29, 96, 181, 1, 8, 29, 172]
abbrev dktX1_pick_5 : List UInt8 := dkwX1_pick_5 ++ []
def dkwX1_pick_4 : List UInt8 := [21, 6, 92, 46, 25, 5, 180, 0, 193, 21, 6, 46, 96, 79, 132, 6, 1, 167, 255, 228, 167, 255, 173, 42]
abbrev dktX1_pick_4 : List UInt8 := dkwX1_pick_4 ++ dktX1_pick_5
def dkwX1_pick_3 : List UInt8 := [180, 0, 198, 182, 0, 201, 96, 181, 1, 5, 3, 54, 6, 21, 6, 16, 20, 162, 0, 27, 42, 180, 0, 33]
abbrev dktX1_pick_3 : List UInt8 := dkwX1_pick_3 ++ dktX1_pick_4
def dkwX1_pick_2 : List UInt8 := [192, 0, 113, 58, 5, 25, 5, 5, 181, 0, 187, 42, 89, 180, 1, 5, 42, 180, 0, 56, 25, 5]
abbrev dktX1_pick_2 : List UInt8 := dkwX1_pick_2 ++ dktX1_pick_3
def dkwX1_pick_1 : List UInt8 := [185, 0, 204, 1, 0, 58, 4, 25, 4, 185, 0, 208, 1, 0, 153, 0, 79, 25, 4, 185, 0, 213, 1, 0]
abbrev dktX1_pick_1 : List UInt8 := dkwX1_pick_1 ++ dktX1_pick_2
def dkwX1_pick_0 : List UInt8 := [42, 27, 182, 1, 1, 77, 42, 180, 0, 56, 44, 180, 0, 235, 182, 0, 201, 62, 44, 180, 1, 4]
abbrev dktX1_pick_0 : List UInt8 := dkwX1_pick_0 ++ dktX1_pick_1
theorem dksX1_pick_0 : cX1_pick.data.toList.drop 0 = dktX1_pick_0 := by decide +kernel
theorem dksX1_pick_1 : cX1_pick.data.toList.drop 22 = dktX1_pick_1 := dk_seg dksX1_pick_0 22 rfl rfl
theorem dksX1_pick_2 : cX1_pick.data.toList.drop 46 = dktX1_pick_2 := dk_seg dksX1_pick_1 24 rfl rfl
theorem dksX1_pick_3 : cX1_pick.data.toList.drop 68 = dktX1_pick_3 := dk_seg dksX1_pick_2 22 rfl rfl
theorem dksX1_pick_4 : cX1_pick.data.toList.drop 92 = dktX1_pick_4 := dk_seg dksX1_pick_3 24 rfl rfl
theorem dksX1_pick_5 : cX1_pick.data.toList.drop 116 = dktX1_pick_5 := dk_seg dksX1_pick_4 24 rfl rfl
theorem dX1_pick_0 : decode cX1_pick 0 = .ok (.aload_n 0, 1) := dk_42 (dk_at dksX1_pick_0 0 rfl rfl)
theorem dX1_pick_1 : decode cX1_pick 1 = .ok (.iload_n 1, 1) := dk_27 (dk_at dksX1_pick_0 1 rfl rfl)
theorem dX1_pick_2 : decode cX1_pick 2 = .ok (.invokevirtual 257, 3) := dk_182 1 1 (dk_at dksX1_pick_0 2 rfl rfl)
theorem dX1_pick_5 : decode cX1_pick 5 = .ok (.astore_n 2, 1) := dk_77 (dk_at dksX1_pick_0 5 rfl rfl)
theorem dX1_pick_6 : decode cX1_pick 6 = .ok (.aload_n 0, 1) := dk_42 (dk_at dksX1_pick_0 6 rfl rfl)
theorem dX1_pick_7 : decode cX1_pick 7 = .ok (.getfield 56, 3) := dk_180 0 56 (dk_at dksX1_pick_0 7 rfl rfl)
theorem dX1_pick_10 : decode cX1_pick 10 = .ok (.aload_n 2, 1) := dk_44 (dk_at dksX1_pick_0 10 rfl rfl)
theorem dX1_pick_11 : decode cX1_pick 11 = .ok (.getfield 235, 3) := dk_180 0 235 (dk_at dksX1_pick_0 11 rfl rfl)
theorem dX1_pick_14 : decode cX1_pick 14 = .ok (.invokevirtual 201, 3) := dk_182 0 201 (dk_at dksX1_pick_0 14 rfl rfl)
theorem dX1_pick_17 : decode cX1_pick 17 = .ok (.istore_n 3, 1) := dk_62 (dk_at dksX1_pick_0 17 rfl rfl)
theorem dX1_pick_18 : decode cX1_pick 18 = .ok (.aload_n 2, 1) := dk_44 (dk_at dksX1_pick_0 18 rfl rfl)
theorem dX1_pick_19 : decode cX1_pick 19 = .ok (.getfield 260, 3) := dk_180 1 4 (dk_at dksX1_pick_0 19 rfl rfl)
theorem dX1_pick_22 : decode cX1_pick 22 = .ok (.invokeinterface 204 1, 5) := by decide +kernel
theorem dX1_pick_27 : decode cX1_pick 27 = .ok (.astore 4, 2) := dk_58 4 (dk_at dksX1_pick_1 5 rfl rfl)
theorem dX1_pick_29 : decode cX1_pick 29 = .ok (.aload 4, 2) := dk_25 4 (dk_at dksX1_pick_1 7 rfl rfl)
theorem dX1_pick_31 : decode cX1_pick 31 = .ok (.invokeinterface 208 1, 5) := by decide +kernel
theorem dX1_pick_36 : decode cX1_pick 36 = .ok (.ifCond .eq 79, 3) := dk_153 0 79 (dk_at dksX1_pick_1 14 rfl rfl)
theorem dX1_pick_39 : decode cX1_pick 39 = .ok (.aload 4, 2) := dk_25 4 (dk_at dksX1_pick_1 17 rfl rfl)
theorem dX1_pick_41 : decode cX1_pick 41 = .ok (.invokeinterface 213 1, 5) := by decide +kernel
theorem dX1_pick_46 : decode cX1_pick 46 = .ok (.checkcast 113, 3) := dk_192 0 113 (dk_at dksX1_pick_2 0 rfl rfl)
theorem dX1_pick_49 : decode cX1_pick 49 = .ok (.astore 5, 2) := dk_58 5 (dk_at dksX1_pick_2 3 rfl rfl)
theorem dX1_pick_51 : decode cX1_pick 51 = .ok (.aload 5, 2) := dk_25 5 (dk_at dksX1_pick_2 5 rfl rfl)
theorem dX1_pick_53 : decode cX1_pick 53 = .ok (.iconst 2, 1) := dk_5 (dk_at dksX1_pick_2 7 rfl rfl)
theorem dX1_pick_54 : decode cX1_pick 54 = .ok (.putfield 187, 3) := dk_181 0 187 (dk_at dksX1_pick_2 8 rfl rfl)
theorem dX1_pick_57 : decode cX1_pick 57 = .ok (.aload_n 0, 1) := dk_42 (dk_at dksX1_pick_2 11 rfl rfl)
theorem dX1_pick_58 : decode cX1_pick 58 = .ok (.dup, 1) := dk_89 (dk_at dksX1_pick_2 12 rfl rfl)
theorem dX1_pick_59 : decode cX1_pick 59 = .ok (.getfield 261, 3) := dk_180 1 5 (dk_at dksX1_pick_2 13 rfl rfl)
theorem dX1_pick_62 : decode cX1_pick 62 = .ok (.aload_n 0, 1) := dk_42 (dk_at dksX1_pick_2 16 rfl rfl)
theorem dX1_pick_63 : decode cX1_pick 63 = .ok (.getfield 56, 3) := dk_180 0 56 (dk_at dksX1_pick_2 17 rfl rfl)
theorem dX1_pick_66 : decode cX1_pick 66 = .ok (.aload 5, 2) := dk_25 5 (dk_at dksX1_pick_2 20 rfl rfl)
theorem dX1_pick_68 : decode cX1_pick 68 = .ok (.getfield 198, 3) := dk_180 0 198 (dk_at dksX1_pick_3 0 rfl rfl)
theorem dX1_pick_71 : decode cX1_pick 71 = .ok (.invokevirtual 201, 3) := dk_182 0 201 (dk_at dksX1_pick_3 3 rfl rfl)
theorem dX1_pick_74 : decode cX1_pick 74 = .ok (.iadd, 1) := dk_96 (dk_at dksX1_pick_3 6 rfl rfl)
theorem dX1_pick_75 : decode cX1_pick 75 = .ok (.putfield 261, 3) := dk_181 1 5 (dk_at dksX1_pick_3 7 rfl rfl)
theorem dX1_pick_78 : decode cX1_pick 78 = .ok (.iconst 0, 1) := dk_3 (dk_at dksX1_pick_3 10 rfl rfl)
theorem dX1_pick_79 : decode cX1_pick 79 = .ok (.istore 6, 2) := dk_54 6 (dk_at dksX1_pick_3 11 rfl rfl)
theorem dX1_pick_81 : decode cX1_pick 81 = .ok (.iload 6, 2) := dk_21 6 (dk_at dksX1_pick_3 13 rfl rfl)
theorem dX1_pick_83 : decode cX1_pick 83 = .ok (.bipush 20, 2) := dk_16 20 (dk_at dksX1_pick_3 15 rfl rfl)
theorem dX1_pick_85 : decode cX1_pick 85 = .ok (.if_icmp .ge 27, 3) := dk_162 0 27 (dk_at dksX1_pick_3 17 rfl rfl)
theorem dX1_pick_88 : decode cX1_pick 88 = .ok (.aload_n 0, 1) := dk_42 (dk_at dksX1_pick_3 20 rfl rfl)
theorem dX1_pick_89 : decode cX1_pick 89 = .ok (.getfield 33, 3) := dk_180 0 33 (dk_at dksX1_pick_3 21 rfl rfl)
theorem dX1_pick_92 : decode cX1_pick 92 = .ok (.iload 6, 2) := dk_21 6 (dk_at dksX1_pick_4 0 rfl rfl)
theorem dX1_pick_94 : decode cX1_pick 94 = .ok (.dup2, 1) := dk_92 (dk_at dksX1_pick_4 2 rfl rfl)
theorem dX1_pick_95 : decode cX1_pick 95 = .ok (.iaload, 1) := dk_46 (dk_at dksX1_pick_4 3 rfl rfl)
theorem dX1_pick_96 : decode cX1_pick 96 = .ok (.aload 5, 2) := dk_25 5 (dk_at dksX1_pick_4 4 rfl rfl)
theorem dX1_pick_98 : decode cX1_pick 98 = .ok (.getfield 193, 3) := dk_180 0 193 (dk_at dksX1_pick_4 6 rfl rfl)
theorem dX1_pick_101 : decode cX1_pick 101 = .ok (.iload 6, 2) := dk_21 6 (dk_at dksX1_pick_4 9 rfl rfl)
theorem dX1_pick_103 : decode cX1_pick 103 = .ok (.iaload, 1) := dk_46 (dk_at dksX1_pick_4 11 rfl rfl)
theorem dX1_pick_104 : decode cX1_pick 104 = .ok (.iadd, 1) := dk_96 (dk_at dksX1_pick_4 12 rfl rfl)
theorem dX1_pick_105 : decode cX1_pick 105 = .ok (.iastore, 1) := dk_79 (dk_at dksX1_pick_4 13 rfl rfl)
theorem dX1_pick_106 : decode cX1_pick 106 = .ok (.iinc 6 1, 3) := dk_132 6 1 (dk_at dksX1_pick_4 14 rfl rfl)
theorem dX1_pick_109 : decode cX1_pick 109 = .ok (.goto (-28), 3) := dk_167 255 228 (dk_at dksX1_pick_4 17 rfl rfl)
theorem dX1_pick_112 : decode cX1_pick 112 = .ok (.goto (-83), 3) := dk_167 255 173 (dk_at dksX1_pick_4 20 rfl rfl)
theorem dX1_pick_115 : decode cX1_pick 115 = .ok (.aload_n 0, 1) := dk_42 (dk_at dksX1_pick_4 23 rfl rfl)
theorem dX1_pick_116 : decode cX1_pick 116 = .ok (.getfield 43, 3) := dk_180 0 43 (dk_at dksX1_pick_5 0 rfl rfl)
theorem dX1_pick_119 : decode cX1_pick 119 = .ok (.iload_n 1, 1) := dk_27 (dk_at dksX1_pick_5 3 rfl rfl)
theorem dX1_pick_120 : decode cX1_pick 120 = .ok (.invokeinterface 244 2, 5) := by decide +kernel
theorem dX1_pick_125 : decode cX1_pick 125 = .ok (.pop, 1) := dk_87 (dk_at dksX1_pick_5 9 rfl rfl)
theorem dX1_pick_126 : decode cX1_pick 126 = .ok (.aload_n 0, 1) := dk_42 (dk_at dksX1_pick_5 10 rfl rfl)
theorem dX1_pick_127 : decode cX1_pick 127 = .ok (.dup, 1) := dk_89 (dk_at dksX1_pick_5 11 rfl rfl)
theorem dX1_pick_128 : decode cX1_pick 128 = .ok (.getfield 264, 3) := dk_180 1 8 (dk_at dksX1_pick_5 12 rfl rfl)
theorem dX1_pick_131 : decode cX1_pick 131 = .ok (.iload_n 3, 1) := dk_29 (dk_at dksX1_pick_5 15 rfl rfl)
theorem dX1_pick_132 : decode cX1_pick 132 = .ok (.iadd, 1) := dk_96 (dk_at dksX1_pick_5 16 rfl rfl)
theorem dX1_pick_133 : decode cX1_pick 133 = .ok (.putfield 264, 3) := dk_181 1 8 (dk_at dksX1_pick_5 17 rfl rfl)
theorem dX1_pick_136 : decode cX1_pick 136 = .ok (.iload_n 3, 1) := dk_29 (dk_at dksX1_pick_5 20 rfl rfl)
theorem dX1_pick_137 : decode cX1_pick 137 = .ok (.ireturn, 1) := dk_172 (dk_at dksX1_pick_5 21 rfl rfl)
abbrev cX1_batch : ByteArray := prog_1_method_6_code
def yX1_batch : MethodName := ⟨RX1, "batch", "(I)LAislewright$Batch;"⟩
def dkwX1_batch_1 : List UInt8 := [192, 0, 117, 176]
abbrev dktX1_batch_1 : List UInt8 := dkwX1_batch_1 ++ []
def dkwX1_batch_0 : List UInt8 := [42, 180, 0, 43, 27, 42, 180, 0, 43, 185, 0, 1, 1, 0, 18, 115, 184, 0, 107, 185, 0, 7, 2, 0]
abbrev dktX1_batch_0 : List UInt8 := dkwX1_batch_0 ++ dktX1_batch_1
theorem dksX1_batch_0 : cX1_batch.data.toList.drop 0 = dktX1_batch_0 := by decide +kernel
theorem dksX1_batch_1 : cX1_batch.data.toList.drop 24 = dktX1_batch_1 := dk_seg dksX1_batch_0 24 rfl rfl
theorem dX1_batch_0 : decode cX1_batch 0 = .ok (.aload_n 0, 1) := dk_42 (dk_at dksX1_batch_0 0 rfl rfl)
theorem dX1_batch_1 : decode cX1_batch 1 = .ok (.getfield 43, 3) := dk_180 0 43 (dk_at dksX1_batch_0 1 rfl rfl)
theorem dX1_batch_4 : decode cX1_batch 4 = .ok (.iload_n 1, 1) := dk_27 (dk_at dksX1_batch_0 4 rfl rfl)
theorem dX1_batch_5 : decode cX1_batch 5 = .ok (.aload_n 0, 1) := dk_42 (dk_at dksX1_batch_0 5 rfl rfl)
theorem dX1_batch_6 : decode cX1_batch 6 = .ok (.getfield 43, 3) := dk_180 0 43 (dk_at dksX1_batch_0 6 rfl rfl)
theorem dX1_batch_9 : decode cX1_batch 9 = .ok (.invokeinterface 1 1, 5) := by decide +kernel
theorem dX1_batch_14 : decode cX1_batch 14 = .ok (.ldc 115, 2) := dk_18 115 (dk_at dksX1_batch_0 14 rfl rfl)
theorem dX1_batch_16 : decode cX1_batch 16 = .ok (.invokestatic 107, 3) := dk_184 0 107 (dk_at dksX1_batch_0 16 rfl rfl)
theorem dX1_batch_19 : decode cX1_batch 19 = .ok (.invokeinterface 7 2, 5) := by decide +kernel
theorem dX1_batch_24 : decode cX1_batch 24 = .ok (.checkcast 117, 3) := dk_192 0 117 (dk_at dksX1_batch_1 0 rfl rfl)
theorem dX1_batch_27 : decode cX1_batch 27 = .ok (.areturn, 1) := dk_176 (dk_at dksX1_batch_1 3 rfl rfl)
abbrev cX1_batchOf : ByteArray := prog_1_method_28_code
def yX1_batchOf : MethodName := ⟨RX1, "batchOf", "(I)I"⟩
def dkwX1_batchOf_2 : List UInt8 := [29, 172, 132, 3, 1, 167, 255, 213, 2, 172]
abbrev dktX1_batchOf_2 : List UInt8 := dkwX1_batchOf_2 ++ []
def dkwX1_batchOf_1 : List UInt8 := [180, 0, 43, 29, 185, 0, 7, 2, 0, 192, 0, 117, 180, 1, 4, 44, 185, 1, 11, 2, 0, 153, 0, 5]
abbrev dktX1_batchOf_1 : List UInt8 := dkwX1_batchOf_1 ++ dktX1_batchOf_2
def dkwX1_batchOf_0 : List UInt8 := [42, 27, 182, 0, 183, 77, 3, 62, 29, 42, 180, 0, 43, 185, 0, 1, 1, 0, 162, 0, 36, 42]
abbrev dktX1_batchOf_0 : List UInt8 := dkwX1_batchOf_0 ++ dktX1_batchOf_1
theorem dksX1_batchOf_0 : cX1_batchOf.data.toList.drop 0 = dktX1_batchOf_0 := by decide +kernel
theorem dksX1_batchOf_1 : cX1_batchOf.data.toList.drop 22 = dktX1_batchOf_1 := dk_seg dksX1_batchOf_0 22 rfl rfl
theorem dksX1_batchOf_2 : cX1_batchOf.data.toList.drop 46 = dktX1_batchOf_2 := dk_seg dksX1_batchOf_1 24 rfl rfl
theorem dX1_batchOf_0 : decode cX1_batchOf 0 = .ok (.aload_n 0, 1) := dk_42 (dk_at dksX1_batchOf_0 0 rfl rfl)
theorem dX1_batchOf_1 : decode cX1_batchOf 1 = .ok (.iload_n 1, 1) := dk_27 (dk_at dksX1_batchOf_0 1 rfl rfl)
theorem dX1_batchOf_2 : decode cX1_batchOf 2 = .ok (.invokevirtual 183, 3) := dk_182 0 183 (dk_at dksX1_batchOf_0 2 rfl rfl)
theorem dX1_batchOf_5 : decode cX1_batchOf 5 = .ok (.astore_n 2, 1) := dk_77 (dk_at dksX1_batchOf_0 5 rfl rfl)
theorem dX1_batchOf_6 : decode cX1_batchOf 6 = .ok (.iconst 0, 1) := dk_3 (dk_at dksX1_batchOf_0 6 rfl rfl)
theorem dX1_batchOf_7 : decode cX1_batchOf 7 = .ok (.istore_n 3, 1) := dk_62 (dk_at dksX1_batchOf_0 7 rfl rfl)
theorem dX1_batchOf_8 : decode cX1_batchOf 8 = .ok (.iload_n 3, 1) := dk_29 (dk_at dksX1_batchOf_0 8 rfl rfl)
theorem dX1_batchOf_9 : decode cX1_batchOf 9 = .ok (.aload_n 0, 1) := dk_42 (dk_at dksX1_batchOf_0 9 rfl rfl)
theorem dX1_batchOf_10 : decode cX1_batchOf 10 = .ok (.getfield 43, 3) := dk_180 0 43 (dk_at dksX1_batchOf_0 10 rfl rfl)
theorem dX1_batchOf_13 : decode cX1_batchOf 13 = .ok (.invokeinterface 1 1, 5) := by decide +kernel
theorem dX1_batchOf_18 : decode cX1_batchOf 18 = .ok (.if_icmp .ge 36, 3) := dk_162 0 36 (dk_at dksX1_batchOf_0 18 rfl rfl)
theorem dX1_batchOf_21 : decode cX1_batchOf 21 = .ok (.aload_n 0, 1) := dk_42 (dk_at dksX1_batchOf_0 21 rfl rfl)
theorem dX1_batchOf_22 : decode cX1_batchOf 22 = .ok (.getfield 43, 3) := dk_180 0 43 (dk_at dksX1_batchOf_1 0 rfl rfl)
theorem dX1_batchOf_25 : decode cX1_batchOf 25 = .ok (.iload_n 3, 1) := dk_29 (dk_at dksX1_batchOf_1 3 rfl rfl)
theorem dX1_batchOf_26 : decode cX1_batchOf 26 = .ok (.invokeinterface 7 2, 5) := by decide +kernel
theorem dX1_batchOf_31 : decode cX1_batchOf 31 = .ok (.checkcast 117, 3) := dk_192 0 117 (dk_at dksX1_batchOf_1 9 rfl rfl)
theorem dX1_batchOf_34 : decode cX1_batchOf 34 = .ok (.getfield 260, 3) := dk_180 1 4 (dk_at dksX1_batchOf_1 12 rfl rfl)
theorem dX1_batchOf_37 : decode cX1_batchOf 37 = .ok (.aload_n 2, 1) := dk_44 (dk_at dksX1_batchOf_1 15 rfl rfl)
theorem dX1_batchOf_38 : decode cX1_batchOf 38 = .ok (.invokeinterface 267 2, 5) := by decide +kernel
theorem dX1_batchOf_43 : decode cX1_batchOf 43 = .ok (.ifCond .eq 5, 3) := dk_153 0 5 (dk_at dksX1_batchOf_1 21 rfl rfl)
theorem dX1_batchOf_46 : decode cX1_batchOf 46 = .ok (.iload_n 3, 1) := dk_29 (dk_at dksX1_batchOf_2 0 rfl rfl)
theorem dX1_batchOf_47 : decode cX1_batchOf 47 = .ok (.ireturn, 1) := dk_172 (dk_at dksX1_batchOf_2 1 rfl rfl)
theorem dX1_batchOf_48 : decode cX1_batchOf 48 = .ok (.iinc 3 1, 3) := dk_132 3 1 (dk_at dksX1_batchOf_2 2 rfl rfl)
theorem dX1_batchOf_51 : decode cX1_batchOf 51 = .ok (.goto (-43), 3) := dk_167 255 213 (dk_at dksX1_batchOf_2 5 rfl rfl)
theorem dX1_batchOf_54 : decode cX1_batchOf 54 = .ok (.iconst (-1), 1) := dk_2 (dk_at dksX1_batchOf_2 8 rfl rfl)
theorem dX1_batchOf_55 : decode cX1_batchOf 55 = .ok (.ireturn, 1) := dk_172 (dk_at dksX1_batchOf_2 9 rfl rfl)
abbrev cX1_linesOf : ByteArray := prog_1_method_29_code
def yX1_linesOf : MethodName := ⟨RX1, "linesOf", "(I)I"⟩
def dkwX1_linesOf_0 : List UInt8 := [42, 27, 182, 1, 1, 180, 0, 233, 172]
abbrev dktX1_linesOf_0 : List UInt8 := dkwX1_linesOf_0 ++ []
theorem dksX1_linesOf_0 : cX1_linesOf.data.toList.drop 0 = dktX1_linesOf_0 := by decide +kernel
theorem dX1_linesOf_0 : decode cX1_linesOf 0 = .ok (.aload_n 0, 1) := dk_42 (dk_at dksX1_linesOf_0 0 rfl rfl)
theorem dX1_linesOf_1 : decode cX1_linesOf 1 = .ok (.iload_n 1, 1) := dk_27 (dk_at dksX1_linesOf_0 1 rfl rfl)
theorem dX1_linesOf_2 : decode cX1_linesOf 2 = .ok (.invokevirtual 257, 3) := dk_182 1 1 (dk_at dksX1_linesOf_0 2 rfl rfl)
theorem dX1_linesOf_5 : decode cX1_linesOf 5 = .ok (.getfield 233, 3) := dk_180 0 233 (dk_at dksX1_linesOf_0 5 rfl rfl)
theorem dX1_linesOf_8 : decode cX1_linesOf 8 = .ok (.ireturn, 1) := dk_172 (dk_at dksX1_linesOf_0 8 rfl rfl)
abbrev cX1_lengthOf : ByteArray := prog_1_method_30_code
def yX1_lengthOf : MethodName := ⟨RX1, "lengthOf", "(I)I"⟩
def dkwX1_lengthOf_0 : List UInt8 := [42, 180, 0, 56, 42, 27, 182, 1, 1, 180, 0, 235, 182, 0, 201, 172]
abbrev dktX1_lengthOf_0 : List UInt8 := dkwX1_lengthOf_0 ++ []
theorem dksX1_lengthOf_0 : cX1_lengthOf.data.toList.drop 0 = dktX1_lengthOf_0 := by decide +kernel
theorem dX1_lengthOf_0 : decode cX1_lengthOf 0 = .ok (.aload_n 0, 1) := dk_42 (dk_at dksX1_lengthOf_0 0 rfl rfl)
theorem dX1_lengthOf_1 : decode cX1_lengthOf 1 = .ok (.getfield 56, 3) := dk_180 0 56 (dk_at dksX1_lengthOf_0 1 rfl rfl)
theorem dX1_lengthOf_4 : decode cX1_lengthOf 4 = .ok (.aload_n 0, 1) := dk_42 (dk_at dksX1_lengthOf_0 4 rfl rfl)
theorem dX1_lengthOf_5 : decode cX1_lengthOf 5 = .ok (.iload_n 1, 1) := dk_27 (dk_at dksX1_lengthOf_0 5 rfl rfl)
theorem dX1_lengthOf_6 : decode cX1_lengthOf 6 = .ok (.invokevirtual 257, 3) := dk_182 1 1 (dk_at dksX1_lengthOf_0 6 rfl rfl)
theorem dX1_lengthOf_9 : decode cX1_lengthOf 9 = .ok (.getfield 235, 3) := dk_180 0 235 (dk_at dksX1_lengthOf_0 9 rfl rfl)
theorem dX1_lengthOf_12 : decode cX1_lengthOf 12 = .ok (.invokevirtual 201, 3) := dk_182 0 201 (dk_at dksX1_lengthOf_0 12 rfl rfl)
theorem dX1_lengthOf_15 : decode cX1_lengthOf 15 = .ok (.ireturn, 1) := dk_172 (dk_at dksX1_lengthOf_0 15 rfl rfl)
abbrev cX1_lengthByTrying : ByteArray := prog_1_method_31_code
def yX1_lengthByTrying : MethodName := ⟨RX1, "lengthByTrying", "(I)I"⟩
def dkwX1_lengthByTrying_2 : List UInt8 := [180, 0, 56, 180, 1, 24, 120, 4, 100, 2, 182, 1, 27, 172]
abbrev dktX1_lengthByTrying_2 : List UInt8 := dkwX1_lengthByTrying_2 ++ []
def dkwX1_lengthByTrying_1 : List UInt8 := [19, 1, 19, 184, 0, 145, 42, 180, 0, 56, 44, 180, 0, 235, 182, 1, 21, 42, 180, 0, 56, 4, 42]
abbrev dktX1_lengthByTrying_1 : List UInt8 := dkwX1_lengthByTrying_1 ++ dktX1_lengthByTrying_2
def dkwX1_lengthByTrying_0 : List UInt8 := [42, 27, 182, 1, 1, 77, 44, 180, 0, 235, 184, 1, 14, 16, 7, 163, 0, 7, 4, 167, 0, 4, 3]
abbrev dktX1_lengthByTrying_0 : List UInt8 := dkwX1_lengthByTrying_0 ++ dktX1_lengthByTrying_1
theorem dksX1_lengthByTrying_0 : cX1_lengthByTrying.data.toList.drop 0 = dktX1_lengthByTrying_0 := by decide +kernel
theorem dksX1_lengthByTrying_1 : cX1_lengthByTrying.data.toList.drop 23 = dktX1_lengthByTrying_1 := dk_seg dksX1_lengthByTrying_0 23 rfl rfl
theorem dksX1_lengthByTrying_2 : cX1_lengthByTrying.data.toList.drop 46 = dktX1_lengthByTrying_2 := dk_seg dksX1_lengthByTrying_1 23 rfl rfl
theorem dX1_lengthByTrying_0 : decode cX1_lengthByTrying 0 = .ok (.aload_n 0, 1) := dk_42 (dk_at dksX1_lengthByTrying_0 0 rfl rfl)
theorem dX1_lengthByTrying_1 : decode cX1_lengthByTrying 1 = .ok (.iload_n 1, 1) := dk_27 (dk_at dksX1_lengthByTrying_0 1 rfl rfl)
theorem dX1_lengthByTrying_2 : decode cX1_lengthByTrying 2 = .ok (.invokevirtual 257, 3) := dk_182 1 1 (dk_at dksX1_lengthByTrying_0 2 rfl rfl)
theorem dX1_lengthByTrying_5 : decode cX1_lengthByTrying 5 = .ok (.astore_n 2, 1) := dk_77 (dk_at dksX1_lengthByTrying_0 5 rfl rfl)
theorem dX1_lengthByTrying_6 : decode cX1_lengthByTrying 6 = .ok (.aload_n 2, 1) := dk_44 (dk_at dksX1_lengthByTrying_0 6 rfl rfl)
theorem dX1_lengthByTrying_7 : decode cX1_lengthByTrying 7 = .ok (.getfield 235, 3) := dk_180 0 235 (dk_at dksX1_lengthByTrying_0 7 rfl rfl)
theorem dX1_lengthByTrying_10 : decode cX1_lengthByTrying 10 = .ok (.invokestatic 270, 3) := dk_184 1 14 (dk_at dksX1_lengthByTrying_0 10 rfl rfl)
theorem dX1_lengthByTrying_13 : decode cX1_lengthByTrying 13 = .ok (.bipush 7, 2) := dk_16 7 (dk_at dksX1_lengthByTrying_0 13 rfl rfl)
theorem dX1_lengthByTrying_15 : decode cX1_lengthByTrying 15 = .ok (.if_icmp .gt 7, 3) := dk_163 0 7 (dk_at dksX1_lengthByTrying_0 15 rfl rfl)
theorem dX1_lengthByTrying_18 : decode cX1_lengthByTrying 18 = .ok (.iconst 1, 1) := dk_4 (dk_at dksX1_lengthByTrying_0 18 rfl rfl)
theorem dX1_lengthByTrying_19 : decode cX1_lengthByTrying 19 = .ok (.goto 4, 3) := dk_167 0 4 (dk_at dksX1_lengthByTrying_0 19 rfl rfl)
theorem dX1_lengthByTrying_22 : decode cX1_lengthByTrying 22 = .ok (.iconst 0, 1) := dk_3 (dk_at dksX1_lengthByTrying_0 22 rfl rfl)
theorem dX1_lengthByTrying_23 : decode cX1_lengthByTrying 23 = .ok (.ldc_w 275, 3) := dk_19 1 19 (dk_at dksX1_lengthByTrying_1 0 rfl rfl)
theorem dX1_lengthByTrying_26 : decode cX1_lengthByTrying 26 = .ok (.invokestatic 145, 3) := dk_184 0 145 (dk_at dksX1_lengthByTrying_1 3 rfl rfl)
theorem dX1_lengthByTrying_29 : decode cX1_lengthByTrying 29 = .ok (.aload_n 0, 1) := dk_42 (dk_at dksX1_lengthByTrying_1 6 rfl rfl)
theorem dX1_lengthByTrying_30 : decode cX1_lengthByTrying 30 = .ok (.getfield 56, 3) := dk_180 0 56 (dk_at dksX1_lengthByTrying_1 7 rfl rfl)
theorem dX1_lengthByTrying_33 : decode cX1_lengthByTrying 33 = .ok (.aload_n 2, 1) := dk_44 (dk_at dksX1_lengthByTrying_1 10 rfl rfl)
theorem dX1_lengthByTrying_34 : decode cX1_lengthByTrying 34 = .ok (.getfield 235, 3) := dk_180 0 235 (dk_at dksX1_lengthByTrying_1 11 rfl rfl)
theorem dX1_lengthByTrying_37 : decode cX1_lengthByTrying 37 = .ok (.invokevirtual 277, 3) := dk_182 1 21 (dk_at dksX1_lengthByTrying_1 14 rfl rfl)
theorem dX1_lengthByTrying_40 : decode cX1_lengthByTrying 40 = .ok (.aload_n 0, 1) := dk_42 (dk_at dksX1_lengthByTrying_1 17 rfl rfl)
theorem dX1_lengthByTrying_41 : decode cX1_lengthByTrying 41 = .ok (.getfield 56, 3) := dk_180 0 56 (dk_at dksX1_lengthByTrying_1 18 rfl rfl)
theorem dX1_lengthByTrying_44 : decode cX1_lengthByTrying 44 = .ok (.iconst 1, 1) := dk_4 (dk_at dksX1_lengthByTrying_1 21 rfl rfl)
theorem dX1_lengthByTrying_45 : decode cX1_lengthByTrying 45 = .ok (.aload_n 0, 1) := dk_42 (dk_at dksX1_lengthByTrying_1 22 rfl rfl)
theorem dX1_lengthByTrying_46 : decode cX1_lengthByTrying 46 = .ok (.getfield 56, 3) := dk_180 0 56 (dk_at dksX1_lengthByTrying_2 0 rfl rfl)
theorem dX1_lengthByTrying_49 : decode cX1_lengthByTrying 49 = .ok (.getfield 280, 3) := dk_180 1 24 (dk_at dksX1_lengthByTrying_2 3 rfl rfl)
theorem dX1_lengthByTrying_52 : decode cX1_lengthByTrying 52 = .ok (.ishl, 1) := dk_120 (dk_at dksX1_lengthByTrying_2 6 rfl rfl)
theorem dX1_lengthByTrying_53 : decode cX1_lengthByTrying 53 = .ok (.iconst 1, 1) := dk_4 (dk_at dksX1_lengthByTrying_2 7 rfl rfl)
theorem dX1_lengthByTrying_54 : decode cX1_lengthByTrying 54 = .ok (.isub, 1) := dk_100 (dk_at dksX1_lengthByTrying_2 8 rfl rfl)
theorem dX1_lengthByTrying_55 : decode cX1_lengthByTrying 55 = .ok (.iconst (-1), 1) := dk_2 (dk_at dksX1_lengthByTrying_2 9 rfl rfl)
theorem dX1_lengthByTrying_56 : decode cX1_lengthByTrying 56 = .ok (.invokevirtual 283, 3) := dk_182 1 27 (dk_at dksX1_lengthByTrying_2 10 rfl rfl)
theorem dX1_lengthByTrying_59 : decode cX1_lengthByTrying 59 = .ok (.ireturn, 1) := dk_172 (dk_at dksX1_lengthByTrying_2 13 rfl rfl)
abbrev cX1_lengthThrough : ByteArray := prog_1_method_32_code
def yX1_lengthThrough : MethodName := ⟨RX1, "lengthThrough", "(I)I"⟩
def dkwX1_lengthThrough_0 : List UInt8 := [42, 180, 0, 56, 42, 27, 182, 1, 1, 180, 0, 235, 182, 1, 21, 42, 180, 0, 56, 182, 1, 30, 172]
abbrev dktX1_lengthThrough_0 : List UInt8 := dkwX1_lengthThrough_0 ++ []
theorem dksX1_lengthThrough_0 : cX1_lengthThrough.data.toList.drop 0 = dktX1_lengthThrough_0 := by decide +kernel
theorem dX1_lengthThrough_0 : decode cX1_lengthThrough 0 = .ok (.aload_n 0, 1) := dk_42 (dk_at dksX1_lengthThrough_0 0 rfl rfl)
theorem dX1_lengthThrough_1 : decode cX1_lengthThrough 1 = .ok (.getfield 56, 3) := dk_180 0 56 (dk_at dksX1_lengthThrough_0 1 rfl rfl)
theorem dX1_lengthThrough_4 : decode cX1_lengthThrough 4 = .ok (.aload_n 0, 1) := dk_42 (dk_at dksX1_lengthThrough_0 4 rfl rfl)
theorem dX1_lengthThrough_5 : decode cX1_lengthThrough 5 = .ok (.iload_n 1, 1) := dk_27 (dk_at dksX1_lengthThrough_0 5 rfl rfl)
theorem dX1_lengthThrough_6 : decode cX1_lengthThrough 6 = .ok (.invokevirtual 257, 3) := dk_182 1 1 (dk_at dksX1_lengthThrough_0 6 rfl rfl)
theorem dX1_lengthThrough_9 : decode cX1_lengthThrough 9 = .ok (.getfield 235, 3) := dk_180 0 235 (dk_at dksX1_lengthThrough_0 9 rfl rfl)
theorem dX1_lengthThrough_12 : decode cX1_lengthThrough 12 = .ok (.invokevirtual 277, 3) := dk_182 1 21 (dk_at dksX1_lengthThrough_0 12 rfl rfl)
theorem dX1_lengthThrough_15 : decode cX1_lengthThrough 15 = .ok (.aload_n 0, 1) := dk_42 (dk_at dksX1_lengthThrough_0 15 rfl rfl)
theorem dX1_lengthThrough_16 : decode cX1_lengthThrough 16 = .ok (.getfield 56, 3) := dk_180 0 56 (dk_at dksX1_lengthThrough_0 16 rfl rfl)
theorem dX1_lengthThrough_19 : decode cX1_lengthThrough 19 = .ok (.invokevirtual 286, 3) := dk_182 1 30 (dk_at dksX1_lengthThrough_0 19 rfl rfl)
theorem dX1_lengthThrough_22 : decode cX1_lengthThrough 22 = .ok (.ireturn, 1) := dk_172 (dk_at dksX1_lengthThrough_0 22 rfl rfl)
abbrev cX1_stops : ByteArray := prog_1_method_33_code
def yX1_stops : MethodName := ⟨RX1, "stops", "(I)I"⟩
def dkwX1_stops_0 : List UInt8 := [42, 27, 182, 1, 1, 180, 0, 235, 184, 1, 14, 172]
abbrev dktX1_stops_0 : List UInt8 := dkwX1_stops_0 ++ []
theorem dksX1_stops_0 : cX1_stops.data.toList.drop 0 = dktX1_stops_0 := by decide +kernel
theorem dX1_stops_0 : decode cX1_stops 0 = .ok (.aload_n 0, 1) := dk_42 (dk_at dksX1_stops_0 0 rfl rfl)
theorem dX1_stops_1 : decode cX1_stops 1 = .ok (.iload_n 1, 1) := dk_27 (dk_at dksX1_stops_0 1 rfl rfl)
theorem dX1_stops_2 : decode cX1_stops 2 = .ok (.invokevirtual 257, 3) := dk_182 1 1 (dk_at dksX1_stops_0 2 rfl rfl)
theorem dX1_stops_5 : decode cX1_stops 5 = .ok (.getfield 235, 3) := dk_180 0 235 (dk_at dksX1_stops_0 5 rfl rfl)
theorem dX1_stops_8 : decode cX1_stops 8 = .ok (.invokestatic 270, 3) := dk_184 1 14 (dk_at dksX1_stops_0 8 rfl rfl)
theorem dX1_stops_11 : decode cX1_stops 11 = .ok (.ireturn, 1) := dk_172 (dk_at dksX1_stops_0 11 rfl rfl)
abbrev cX1_stopAt : ByteArray := prog_1_method_34_code
def yX1_stopAt : MethodName := ⟨RX1, "stopAt", "(II)I"⟩
def dkwX1_stopAt_1 : List UInt8 := [180, 0, 56, 45, 180, 0, 235, 28, 182, 1, 35, 172]
abbrev dktX1_stopAt_1 : List UInt8 := dkwX1_stopAt_1 ++ []
def dkwX1_stopAt_0 : List UInt8 := [42, 27, 182, 1, 1, 78, 28, 45, 180, 0, 235, 184, 1, 14, 19, 1, 33, 184, 0, 107, 87, 42]
abbrev dktX1_stopAt_0 : List UInt8 := dkwX1_stopAt_0 ++ dktX1_stopAt_1
theorem dksX1_stopAt_0 : cX1_stopAt.data.toList.drop 0 = dktX1_stopAt_0 := by decide +kernel
theorem dksX1_stopAt_1 : cX1_stopAt.data.toList.drop 22 = dktX1_stopAt_1 := dk_seg dksX1_stopAt_0 22 rfl rfl
theorem dX1_stopAt_0 : decode cX1_stopAt 0 = .ok (.aload_n 0, 1) := dk_42 (dk_at dksX1_stopAt_0 0 rfl rfl)
theorem dX1_stopAt_1 : decode cX1_stopAt 1 = .ok (.iload_n 1, 1) := dk_27 (dk_at dksX1_stopAt_0 1 rfl rfl)
theorem dX1_stopAt_2 : decode cX1_stopAt 2 = .ok (.invokevirtual 257, 3) := dk_182 1 1 (dk_at dksX1_stopAt_0 2 rfl rfl)
theorem dX1_stopAt_5 : decode cX1_stopAt 5 = .ok (.astore_n 3, 1) := dk_78 (dk_at dksX1_stopAt_0 5 rfl rfl)
theorem dX1_stopAt_6 : decode cX1_stopAt 6 = .ok (.iload_n 2, 1) := dk_28 (dk_at dksX1_stopAt_0 6 rfl rfl)
theorem dX1_stopAt_7 : decode cX1_stopAt 7 = .ok (.aload_n 3, 1) := dk_45 (dk_at dksX1_stopAt_0 7 rfl rfl)
theorem dX1_stopAt_8 : decode cX1_stopAt 8 = .ok (.getfield 235, 3) := dk_180 0 235 (dk_at dksX1_stopAt_0 8 rfl rfl)
theorem dX1_stopAt_11 : decode cX1_stopAt 11 = .ok (.invokestatic 270, 3) := dk_184 1 14 (dk_at dksX1_stopAt_0 11 rfl rfl)
theorem dX1_stopAt_14 : decode cX1_stopAt 14 = .ok (.ldc_w 289, 3) := dk_19 1 33 (dk_at dksX1_stopAt_0 14 rfl rfl)
theorem dX1_stopAt_17 : decode cX1_stopAt 17 = .ok (.invokestatic 107, 3) := dk_184 0 107 (dk_at dksX1_stopAt_0 17 rfl rfl)
theorem dX1_stopAt_20 : decode cX1_stopAt 20 = .ok (.pop, 1) := dk_87 (dk_at dksX1_stopAt_0 20 rfl rfl)
theorem dX1_stopAt_21 : decode cX1_stopAt 21 = .ok (.aload_n 0, 1) := dk_42 (dk_at dksX1_stopAt_0 21 rfl rfl)
theorem dX1_stopAt_22 : decode cX1_stopAt 22 = .ok (.getfield 56, 3) := dk_180 0 56 (dk_at dksX1_stopAt_1 0 rfl rfl)
theorem dX1_stopAt_25 : decode cX1_stopAt 25 = .ok (.aload_n 3, 1) := dk_45 (dk_at dksX1_stopAt_1 3 rfl rfl)
theorem dX1_stopAt_26 : decode cX1_stopAt 26 = .ok (.getfield 235, 3) := dk_180 0 235 (dk_at dksX1_stopAt_1 4 rfl rfl)
theorem dX1_stopAt_29 : decode cX1_stopAt 29 = .ok (.iload_n 2, 1) := dk_28 (dk_at dksX1_stopAt_1 7 rfl rfl)
theorem dX1_stopAt_30 : decode cX1_stopAt 30 = .ok (.invokevirtual 291, 3) := dk_182 1 35 (dk_at dksX1_stopAt_1 8 rfl rfl)
theorem dX1_stopAt_33 : decode cX1_stopAt 33 = .ok (.ireturn, 1) := dk_172 (dk_at dksX1_stopAt_1 11 rfl rfl)
abbrev cX1_inAisle : ByteArray := prog_1_method_35_code
def yX1_inAisle : MethodName := ⟨RX1, "inAisle", "(I)I"⟩
def dkwX1_inAisle_5 : List UInt8 := [28, 172]
abbrev dktX1_inAisle_5 : List UInt8 := dkwX1_inAisle_5 ++ []
def dkwX1_inAisle_4 : List UInt8 := [54, 5, 132, 6, 1, 167, 255, 208, 28, 21, 5, 153, 0, 7, 4, 167, 0, 4, 3, 96, 61, 167, 255, 166]
abbrev dktX1_inAisle_4 : List UInt8 := dkwX1_inAisle_4 ++ dktX1_inAisle_5
def dkwX1_inAisle_3 : List UInt8 := [160, 0, 21, 42, 180, 0, 29, 21, 6, 46, 16, 100, 108, 27, 160, 0, 7, 4, 167, 0, 4, 3, 128]
abbrev dktX1_inAisle_3 : List UInt8 := dkwX1_inAisle_3 ++ dktX1_inAisle_4
def dkwX1_inAisle_2 : List UInt8 := [54, 6, 21, 6, 16, 20, 162, 0, 47, 21, 5, 25, 4, 180, 0, 235, 21, 6, 122, 4, 126, 4]
abbrev dktX1_inAisle_2 : List UInt8 := dkwX1_inAisle_2 ++ dktX1_inAisle_3
def dkwX1_inAisle_1 : List UInt8 := [185, 0, 208, 1, 0, 153, 0, 87, 45, 185, 0, 213, 1, 0, 192, 0, 117, 58, 4, 3, 54, 5, 3]
abbrev dktX1_inAisle_1 : List UInt8 := dkwX1_inAisle_1 ++ dktX1_inAisle_2
def dkwX1_inAisle_0 : List UInt8 := [27, 42, 180, 0, 73, 18, 135, 184, 0, 107, 87, 3, 61, 42, 180, 0, 43, 185, 0, 204, 1, 0, 78, 45]
abbrev dktX1_inAisle_0 : List UInt8 := dkwX1_inAisle_0 ++ dktX1_inAisle_1
theorem dksX1_inAisle_0 : cX1_inAisle.data.toList.drop 0 = dktX1_inAisle_0 := by decide +kernel
theorem dksX1_inAisle_1 : cX1_inAisle.data.toList.drop 24 = dktX1_inAisle_1 := dk_seg dksX1_inAisle_0 24 rfl rfl
theorem dksX1_inAisle_2 : cX1_inAisle.data.toList.drop 47 = dktX1_inAisle_2 := dk_seg dksX1_inAisle_1 23 rfl rfl
theorem dksX1_inAisle_3 : cX1_inAisle.data.toList.drop 69 = dktX1_inAisle_3 := dk_seg dksX1_inAisle_2 22 rfl rfl
theorem dksX1_inAisle_4 : cX1_inAisle.data.toList.drop 92 = dktX1_inAisle_4 := dk_seg dksX1_inAisle_3 23 rfl rfl
theorem dksX1_inAisle_5 : cX1_inAisle.data.toList.drop 116 = dktX1_inAisle_5 := dk_seg dksX1_inAisle_4 24 rfl rfl
theorem dX1_inAisle_0 : decode cX1_inAisle 0 = .ok (.iload_n 1, 1) := dk_27 (dk_at dksX1_inAisle_0 0 rfl rfl)
theorem dX1_inAisle_1 : decode cX1_inAisle 1 = .ok (.aload_n 0, 1) := dk_42 (dk_at dksX1_inAisle_0 1 rfl rfl)
theorem dX1_inAisle_2 : decode cX1_inAisle 2 = .ok (.getfield 73, 3) := dk_180 0 73 (dk_at dksX1_inAisle_0 2 rfl rfl)
theorem dX1_inAisle_5 : decode cX1_inAisle 5 = .ok (.ldc 135, 2) := dk_18 135 (dk_at dksX1_inAisle_0 5 rfl rfl)
theorem dX1_inAisle_7 : decode cX1_inAisle 7 = .ok (.invokestatic 107, 3) := dk_184 0 107 (dk_at dksX1_inAisle_0 7 rfl rfl)
theorem dX1_inAisle_10 : decode cX1_inAisle 10 = .ok (.pop, 1) := dk_87 (dk_at dksX1_inAisle_0 10 rfl rfl)
theorem dX1_inAisle_11 : decode cX1_inAisle 11 = .ok (.iconst 0, 1) := dk_3 (dk_at dksX1_inAisle_0 11 rfl rfl)
theorem dX1_inAisle_12 : decode cX1_inAisle 12 = .ok (.istore_n 2, 1) := dk_61 (dk_at dksX1_inAisle_0 12 rfl rfl)
theorem dX1_inAisle_13 : decode cX1_inAisle 13 = .ok (.aload_n 0, 1) := dk_42 (dk_at dksX1_inAisle_0 13 rfl rfl)
theorem dX1_inAisle_14 : decode cX1_inAisle 14 = .ok (.getfield 43, 3) := dk_180 0 43 (dk_at dksX1_inAisle_0 14 rfl rfl)
theorem dX1_inAisle_17 : decode cX1_inAisle 17 = .ok (.invokeinterface 204 1, 5) := by decide +kernel
theorem dX1_inAisle_22 : decode cX1_inAisle 22 = .ok (.astore_n 3, 1) := dk_78 (dk_at dksX1_inAisle_0 22 rfl rfl)
theorem dX1_inAisle_23 : decode cX1_inAisle 23 = .ok (.aload_n 3, 1) := dk_45 (dk_at dksX1_inAisle_0 23 rfl rfl)
theorem dX1_inAisle_24 : decode cX1_inAisle 24 = .ok (.invokeinterface 208 1, 5) := by decide +kernel
theorem dX1_inAisle_29 : decode cX1_inAisle 29 = .ok (.ifCond .eq 87, 3) := dk_153 0 87 (dk_at dksX1_inAisle_1 5 rfl rfl)
theorem dX1_inAisle_32 : decode cX1_inAisle 32 = .ok (.aload_n 3, 1) := dk_45 (dk_at dksX1_inAisle_1 8 rfl rfl)
theorem dX1_inAisle_33 : decode cX1_inAisle 33 = .ok (.invokeinterface 213 1, 5) := by decide +kernel
theorem dX1_inAisle_38 : decode cX1_inAisle 38 = .ok (.checkcast 117, 3) := dk_192 0 117 (dk_at dksX1_inAisle_1 14 rfl rfl)
theorem dX1_inAisle_41 : decode cX1_inAisle 41 = .ok (.astore 4, 2) := dk_58 4 (dk_at dksX1_inAisle_1 17 rfl rfl)
theorem dX1_inAisle_43 : decode cX1_inAisle 43 = .ok (.iconst 0, 1) := dk_3 (dk_at dksX1_inAisle_1 19 rfl rfl)
theorem dX1_inAisle_44 : decode cX1_inAisle 44 = .ok (.istore 5, 2) := dk_54 5 (dk_at dksX1_inAisle_1 20 rfl rfl)
theorem dX1_inAisle_46 : decode cX1_inAisle 46 = .ok (.iconst 0, 1) := dk_3 (dk_at dksX1_inAisle_1 22 rfl rfl)
theorem dX1_inAisle_47 : decode cX1_inAisle 47 = .ok (.istore 6, 2) := dk_54 6 (dk_at dksX1_inAisle_2 0 rfl rfl)
theorem dX1_inAisle_49 : decode cX1_inAisle 49 = .ok (.iload 6, 2) := dk_21 6 (dk_at dksX1_inAisle_2 2 rfl rfl)
theorem dX1_inAisle_51 : decode cX1_inAisle 51 = .ok (.bipush 20, 2) := dk_16 20 (dk_at dksX1_inAisle_2 4 rfl rfl)
theorem dX1_inAisle_53 : decode cX1_inAisle 53 = .ok (.if_icmp .ge 47, 3) := dk_162 0 47 (dk_at dksX1_inAisle_2 6 rfl rfl)
theorem dX1_inAisle_56 : decode cX1_inAisle 56 = .ok (.iload 5, 2) := dk_21 5 (dk_at dksX1_inAisle_2 9 rfl rfl)
theorem dX1_inAisle_58 : decode cX1_inAisle 58 = .ok (.aload 4, 2) := dk_25 4 (dk_at dksX1_inAisle_2 11 rfl rfl)
theorem dX1_inAisle_60 : decode cX1_inAisle 60 = .ok (.getfield 235, 3) := dk_180 0 235 (dk_at dksX1_inAisle_2 13 rfl rfl)
theorem dX1_inAisle_63 : decode cX1_inAisle 63 = .ok (.iload 6, 2) := dk_21 6 (dk_at dksX1_inAisle_2 16 rfl rfl)
theorem dX1_inAisle_65 : decode cX1_inAisle 65 = .ok (.ishr, 1) := dk_122 (dk_at dksX1_inAisle_2 18 rfl rfl)
theorem dX1_inAisle_66 : decode cX1_inAisle 66 = .ok (.iconst 1, 1) := dk_4 (dk_at dksX1_inAisle_2 19 rfl rfl)
theorem dX1_inAisle_67 : decode cX1_inAisle 67 = .ok (.iand, 1) := dk_126 (dk_at dksX1_inAisle_2 20 rfl rfl)
theorem dX1_inAisle_68 : decode cX1_inAisle 68 = .ok (.iconst 1, 1) := dk_4 (dk_at dksX1_inAisle_2 21 rfl rfl)
theorem dX1_inAisle_69 : decode cX1_inAisle 69 = .ok (.if_icmp .ne 21, 3) := dk_160 0 21 (dk_at dksX1_inAisle_3 0 rfl rfl)
theorem dX1_inAisle_72 : decode cX1_inAisle 72 = .ok (.aload_n 0, 1) := dk_42 (dk_at dksX1_inAisle_3 3 rfl rfl)
theorem dX1_inAisle_73 : decode cX1_inAisle 73 = .ok (.getfield 29, 3) := dk_180 0 29 (dk_at dksX1_inAisle_3 4 rfl rfl)
theorem dX1_inAisle_76 : decode cX1_inAisle 76 = .ok (.iload 6, 2) := dk_21 6 (dk_at dksX1_inAisle_3 7 rfl rfl)
theorem dX1_inAisle_78 : decode cX1_inAisle 78 = .ok (.iaload, 1) := dk_46 (dk_at dksX1_inAisle_3 9 rfl rfl)
theorem dX1_inAisle_79 : decode cX1_inAisle 79 = .ok (.bipush 100, 2) := dk_16 100 (dk_at dksX1_inAisle_3 10 rfl rfl)
theorem dX1_inAisle_81 : decode cX1_inAisle 81 = .ok (.idiv, 1) := dk_108 (dk_at dksX1_inAisle_3 12 rfl rfl)
theorem dX1_inAisle_82 : decode cX1_inAisle 82 = .ok (.iload_n 1, 1) := dk_27 (dk_at dksX1_inAisle_3 13 rfl rfl)
theorem dX1_inAisle_83 : decode cX1_inAisle 83 = .ok (.if_icmp .ne 7, 3) := dk_160 0 7 (dk_at dksX1_inAisle_3 14 rfl rfl)
theorem dX1_inAisle_86 : decode cX1_inAisle 86 = .ok (.iconst 1, 1) := dk_4 (dk_at dksX1_inAisle_3 17 rfl rfl)
theorem dX1_inAisle_87 : decode cX1_inAisle 87 = .ok (.goto 4, 3) := dk_167 0 4 (dk_at dksX1_inAisle_3 18 rfl rfl)
theorem dX1_inAisle_90 : decode cX1_inAisle 90 = .ok (.iconst 0, 1) := dk_3 (dk_at dksX1_inAisle_3 21 rfl rfl)
theorem dX1_inAisle_91 : decode cX1_inAisle 91 = .ok (.ior, 1) := dk_128 (dk_at dksX1_inAisle_3 22 rfl rfl)
theorem dX1_inAisle_92 : decode cX1_inAisle 92 = .ok (.istore 5, 2) := dk_54 5 (dk_at dksX1_inAisle_4 0 rfl rfl)
theorem dX1_inAisle_94 : decode cX1_inAisle 94 = .ok (.iinc 6 1, 3) := dk_132 6 1 (dk_at dksX1_inAisle_4 2 rfl rfl)
theorem dX1_inAisle_97 : decode cX1_inAisle 97 = .ok (.goto (-48), 3) := dk_167 255 208 (dk_at dksX1_inAisle_4 5 rfl rfl)
theorem dX1_inAisle_100 : decode cX1_inAisle 100 = .ok (.iload_n 2, 1) := dk_28 (dk_at dksX1_inAisle_4 8 rfl rfl)
theorem dX1_inAisle_101 : decode cX1_inAisle 101 = .ok (.iload 5, 2) := dk_21 5 (dk_at dksX1_inAisle_4 9 rfl rfl)
theorem dX1_inAisle_103 : decode cX1_inAisle 103 = .ok (.ifCond .eq 7, 3) := dk_153 0 7 (dk_at dksX1_inAisle_4 11 rfl rfl)
theorem dX1_inAisle_106 : decode cX1_inAisle 106 = .ok (.iconst 1, 1) := dk_4 (dk_at dksX1_inAisle_4 14 rfl rfl)
theorem dX1_inAisle_107 : decode cX1_inAisle 107 = .ok (.goto 4, 3) := dk_167 0 4 (dk_at dksX1_inAisle_4 15 rfl rfl)
theorem dX1_inAisle_110 : decode cX1_inAisle 110 = .ok (.iconst 0, 1) := dk_3 (dk_at dksX1_inAisle_4 18 rfl rfl)
theorem dX1_inAisle_111 : decode cX1_inAisle 111 = .ok (.iadd, 1) := dk_96 (dk_at dksX1_inAisle_4 19 rfl rfl)
theorem dX1_inAisle_112 : decode cX1_inAisle 112 = .ok (.istore_n 2, 1) := dk_61 (dk_at dksX1_inAisle_4 20 rfl rfl)
theorem dX1_inAisle_113 : decode cX1_inAisle 113 = .ok (.goto (-90), 3) := dk_167 255 166 (dk_at dksX1_inAisle_4 21 rfl rfl)
theorem dX1_inAisle_116 : decode cX1_inAisle 116 = .ok (.iload_n 2, 1) := dk_28 (dk_at dksX1_inAisle_5 0 rfl rfl)
theorem dX1_inAisle_117 : decode cX1_inAisle 117 = .ok (.ireturn, 1) := dk_172 (dk_at dksX1_inAisle_5 1 rfl rfl)
theorem q38 : (Jvm.Cond.initialized "Aislewright") ∈ lw_all := lw_g (lw_at lw_m1 1 rfl) rfl
theorem q72 : (Jvm.Cond.instantiable "Aislewright" (12 : Nat)) ∈ lw_all := lw_g (lw_at lw_m1 35 rfl) rfl
theorem q74 : (Jvm.Cond.instanceMethod ({ cls := "Aislewright", name := "<init>", desc := "(III)V" } : Jvm.MethodName)) ∈ lw_all := lw_g (lw_at lw_m1 37 rfl) rfl
theorem q75 : (Jvm.Cond.code ({ cls := "Aislewright", name := "<init>", desc := "(III)V" } : Jvm.MethodName) prog_1_method_2_code (5 : Nat) (Option.none : Option Jvm.ClassFile.FieldType)) ∈ lw_all := lw_g (lw_at lw_m1 38 rfl) rfl
theorem q76 : (Jvm.Cond.methodLink "Aislewright" (21 : Nat) ({ cls := "java/lang/Object", name := "<init>", desc := "()V" } : Jvm.MethodName)) ∈ lw_all := lw_g (lw_at lw_m1 39 rfl) rfl
theorem q79 : (Jvm.Cond.classLink "Aislewright" (36 : Nat) "java/util/ArrayList") ∈ lw_all := lw_g (lw_at lw_m1 42 rfl) rfl
theorem q81 : (Jvm.Cond.methodLink "Aislewright" (38 : Nat) ({ cls := "java/util/ArrayList", name := "<init>", desc := "()V" } : Jvm.MethodName)) ∈ lw_all := lw_g (lw_at lw_m1 44 rfl) rfl
theorem q109 : (Jvm.Cond.classLink "Aislewright" (46 : Nat) "[[I") ∈ lw_all := lw_g (lw_at lw_m1 72 rfl) rfl
theorem q111 : (Jvm.Cond.classLink "Aislewright" (51 : Nat) "Aislewright$Router") ∈ lw_all := lw_g (lw_at lw_m1 74 rfl) rfl
theorem q113 : (Jvm.Cond.methodLinkNest "Aislewright" (53 : Nat) ({ cls := "Aislewright$Router", name := "<init>", desc := "(LAislewright;)V" } : Jvm.MethodName) "Aislewright") ∈ lw_tbl := lw_at lw_m1 76 rfl
theorem q121 : (Jvm.Cond.fieldLinkNest "Aislewright" (280 : Nat) "Aislewright$Router" "many" "I" "Aislewright") ∈ lw_tbl := lw_at lw_m1 84 rfl
theorem q132 : (Jvm.Cond.methodLink "Aislewright" (64 : Nat) ({ cls := "java/lang/Math", name := "min", desc := "(II)I" } : Jvm.MethodName)) ∈ lw_all := lw_g (lw_at lw_m1 95 rfl) rfl
theorem q135 : (Jvm.Cond.methodLink "Aislewright" (70 : Nat) ({ cls := "java/lang/Math", name := "max", desc := "(II)I" } : Jvm.MethodName)) ∈ lw_all := lw_g (lw_at lw_m1 98 rfl) rfl
theorem q138 : (Jvm.Cond.fieldLink "Aislewright" (73 : Nat) "Aislewright" "aisles" "I") ∈ lw_all := lw_g (lw_at lw_m1 101 rfl) rfl
theorem q139 : (Jvm.Cond.fieldLink "Aislewright" (76 : Nat) "Aislewright" "positions" "I") ∈ lw_all := lw_g (lw_at lw_m1 102 rfl) rfl
theorem q141 : (Jvm.Cond.fieldLink "Aislewright" (79 : Nat) "Aislewright" "gap" "I") ∈ lw_all := lw_g (lw_at lw_m1 104 rfl) rfl
theorem q143 : (Jvm.Cond.fieldLink "Aislewright" (29 : Nat) "Aislewright" "placeOfProduct" "[I") ∈ lw_all := lw_g (lw_at lw_m1 106 rfl) rfl
theorem q145 : (Jvm.Cond.fieldLink "Aislewright" (33 : Nat) "Aislewright" "turnovers" "[I") ∈ lw_all := lw_g (lw_at lw_m1 108 rfl) rfl
theorem q146 : (Jvm.Cond.fieldLink "Aislewright" (39 : Nat) "Aislewright" "orders" "Ljava/util/List;") ∈ lw_all := lw_g (lw_at lw_m1 109 rfl) rfl
theorem q147 : (Jvm.Cond.fieldLink "Aislewright" (43 : Nat) "Aislewright" "wave" "Ljava/util/List;") ∈ lw_all := lw_g (lw_at lw_m1 110 rfl) rfl
theorem q148 : (Jvm.Cond.fieldLink "Aislewright" (48 : Nat) "Aislewright" "savings" "[[I") ∈ lw_all := lw_g (lw_at lw_m1 111 rfl) rfl
theorem q149 : (Jvm.Cond.fieldLink "Aislewright" (56 : Nat) "Aislewright" "router" "LAislewright$Router;") ∈ lw_all := lw_g (lw_at lw_m1 112 rfl) rfl
theorem q150 : (Jvm.Cond.fieldLink "Aislewright" (60 : Nat) "Aislewright" "capacity" "I") ∈ lw_all := lw_g (lw_at lw_m1 113 rfl) rfl
theorem q151 : (Jvm.Cond.fieldLink "Aislewright" (264 : Nat) "Aislewright" "walked" "I") ∈ lw_all := lw_g (lw_at lw_m1 114 rfl) rfl
theorem q152 : (Jvm.Cond.fieldLink "Aislewright" (261 : Nat) "Aislewright" "alone" "I") ∈ lw_all := lw_g (lw_at lw_m1 115 rfl) rfl
theorem q153 : (Jvm.Cond.laysFinal "Aislewright" "Aislewright" "aisles" "I") ∈ lw_all := lw_g (lw_at lw_m1 116 rfl) rfl
theorem q154 : (Jvm.Cond.soleField "Aislewright" "aisles") ∈ lw_all := lw_g (lw_at lw_m1 117 rfl) rfl
theorem q155 : (Jvm.Cond.laysFinal "Aislewright" "Aislewright" "positions" "I") ∈ lw_all := lw_g (lw_at lw_m1 118 rfl) rfl
theorem q156 : (Jvm.Cond.soleField "Aislewright" "positions") ∈ lw_all := lw_g (lw_at lw_m1 119 rfl) rfl
theorem q157 : (Jvm.Cond.laysFinal "Aislewright" "Aislewright" "gap" "I") ∈ lw_all := lw_g (lw_at lw_m1 120 rfl) rfl
theorem q158 : (Jvm.Cond.soleField "Aislewright" "gap") ∈ lw_all := lw_g (lw_at lw_m1 121 rfl) rfl
theorem q159 : (Jvm.Cond.laysFinal "Aislewright" "Aislewright" "placeOfProduct" "[I") ∈ lw_all := lw_g (lw_at lw_m1 122 rfl) rfl
theorem q160 : (Jvm.Cond.soleField "Aislewright" "placeOfProduct") ∈ lw_all := lw_g (lw_at lw_m1 123 rfl) rfl
theorem q161 : (Jvm.Cond.laysFinal "Aislewright" "Aislewright" "turnovers" "[I") ∈ lw_all := lw_g (lw_at lw_m1 124 rfl) rfl
theorem q162 : (Jvm.Cond.soleField "Aislewright" "turnovers") ∈ lw_all := lw_g (lw_at lw_m1 125 rfl) rfl
theorem q163 : (Jvm.Cond.laysFinal "Aislewright" "Aislewright" "orders" "Ljava/util/List;") ∈ lw_all := lw_g (lw_at lw_m1 126 rfl) rfl
theorem q164 : (Jvm.Cond.soleField "Aislewright" "orders") ∈ lw_all := lw_g (lw_at lw_m1 127 rfl) rfl
theorem q165 : (Jvm.Cond.laysFinal "Aislewright" "Aislewright" "wave" "Ljava/util/List;") ∈ lw_all := lw_g (lw_at lw_m1 128 rfl) rfl
theorem q166 : (Jvm.Cond.soleField "Aislewright" "wave") ∈ lw_all := lw_g (lw_at lw_m1 129 rfl) rfl
theorem q167 : (Jvm.Cond.laysFinal "Aislewright" "Aislewright" "savings" "[[I") ∈ lw_all := lw_g (lw_at lw_m1 130 rfl) rfl
theorem q168 : (Jvm.Cond.soleField "Aislewright" "savings") ∈ lw_all := lw_g (lw_at lw_m1 131 rfl) rfl
theorem q169 : (Jvm.Cond.laysFinal "Aislewright" "Aislewright" "router" "LAislewright$Router;") ∈ lw_all := lw_g (lw_at lw_m1 132 rfl) rfl
theorem q170 : (Jvm.Cond.soleField "Aislewright" "router") ∈ lw_all := lw_g (lw_at lw_m1 133 rfl) rfl
theorem q171 : (Jvm.Cond.lays "Aislewright" "Aislewright" "capacity" "I") ∈ lw_all := lw_g (lw_at lw_m1 134 rfl) rfl
theorem q172 : (Jvm.Cond.soleField "Aislewright" "capacity") ∈ lw_all := lw_g (lw_at lw_m1 135 rfl) rfl
theorem q173 : (Jvm.Cond.lays "Aislewright" "Aislewright" "walked" "I") ∈ lw_all := lw_g (lw_at lw_m1 136 rfl) rfl
theorem q174 : (Jvm.Cond.soleField "Aislewright" "walked") ∈ lw_all := lw_g (lw_at lw_m1 137 rfl) rfl
theorem q175 : (Jvm.Cond.lays "Aislewright" "Aislewright" "alone" "I") ∈ lw_all := lw_g (lw_at lw_m1 138 rfl) rfl
theorem q176 : (Jvm.Cond.soleField "Aislewright" "alone") ∈ lw_all := lw_g (lw_at lw_m1 139 rfl) rfl
theorem q177 : (Jvm.Cond.superclass "Aislewright" "java/lang/Object") ∈ lw_all := lw_g (lw_at lw_m1 140 rfl) rfl
theorem q179 : (Jvm.Cond.instanceMethod ({ cls := "Aislewright", name := "orders", desc := "()I" } : Jvm.MethodName)) ∈ lw_all := lw_g (lw_at lw_m1 142 rfl) rfl
theorem q180 : (Jvm.Cond.selects "Aislewright" ({ cls := "Aislewright", name := "orders", desc := "()I" } : Jvm.MethodName) ({ cls := "Aislewright", name := "orders", desc := "()I" } : Jvm.MethodName)) ∈ lw_all := lw_g (lw_at lw_m1 143 rfl) rfl
theorem q181 : (Jvm.Cond.code ({ cls := "Aislewright", name := "orders", desc := "()I" } : Jvm.MethodName) prog_1_method_18_code (1 : Nat) (Option.some Jvm.ClassFile.FieldType.int)) ∈ lw_all := lw_g (lw_at lw_m1 144 rfl) rfl
theorem q182 : (Jvm.Cond.interfaceEntry "Aislewright" (1 : Nat)) ∈ lw_tbl := lw_at lw_m1 145 rfl
theorem q183 : (Jvm.Cond.methodLink "Aislewright" (1 : Nat) ({ cls := "java/util/List", name := "size", desc := "()I" } : Jvm.MethodName)) ∈ lw_all := lw_g (lw_at lw_m1 146 rfl) rfl
theorem q193 : (Jvm.Cond.instanceMethod ({ cls := "Aislewright", name := "batches", desc := "()I" } : Jvm.MethodName)) ∈ lw_all := lw_g (lw_at lw_m1 156 rfl) rfl
theorem q194 : (Jvm.Cond.selects "Aislewright" ({ cls := "Aislewright", name := "batches", desc := "()I" } : Jvm.MethodName) ({ cls := "Aislewright", name := "batches", desc := "()I" } : Jvm.MethodName)) ∈ lw_all := lw_g (lw_at lw_m1 157 rfl) rfl
theorem q195 : (Jvm.Cond.code ({ cls := "Aislewright", name := "batches", desc := "()I" } : Jvm.MethodName) prog_1_method_27_code (1 : Nat) (Option.some Jvm.ClassFile.FieldType.int)) ∈ lw_all := lw_g (lw_at lw_m1 158 rfl) rfl
theorem q197 : (Jvm.Cond.instanceMethod ({ cls := "Aislewright", name := "walked", desc := "()I" } : Jvm.MethodName)) ∈ lw_all := lw_g (lw_at lw_m1 160 rfl) rfl
theorem q198 : (Jvm.Cond.selects "Aislewright" ({ cls := "Aislewright", name := "walked", desc := "()I" } : Jvm.MethodName) ({ cls := "Aislewright", name := "walked", desc := "()I" } : Jvm.MethodName)) ∈ lw_all := lw_g (lw_at lw_m1 161 rfl) rfl
theorem q199 : (Jvm.Cond.code ({ cls := "Aislewright", name := "walked", desc := "()I" } : Jvm.MethodName) prog_1_method_36_code (1 : Nat) (Option.some Jvm.ClassFile.FieldType.int)) ∈ lw_all := lw_g (lw_at lw_m1 162 rfl) rfl
theorem q201 : (Jvm.Cond.instanceMethod ({ cls := "Aislewright", name := "share", desc := "()D" } : Jvm.MethodName)) ∈ lw_all := lw_g (lw_at lw_m1 164 rfl) rfl
theorem q202 : (Jvm.Cond.selects "Aislewright" ({ cls := "Aislewright", name := "share", desc := "()D" } : Jvm.MethodName) ({ cls := "Aislewright", name := "share", desc := "()D" } : Jvm.MethodName)) ∈ lw_all := lw_g (lw_at lw_m1 165 rfl) rfl
theorem q203 : (Jvm.Cond.code ({ cls := "Aislewright", name := "share", desc := "()D" } : Jvm.MethodName) prog_1_method_37_code (1 : Nat) (Option.some Jvm.ClassFile.FieldType.double)) ∈ lw_all := lw_g (lw_at lw_m1 166 rfl) rfl
theorem q289 : (Jvm.Cond.instanceMethod ({ cls := "Aislewright", name := "put", desc := "(III)I" } : Jvm.MethodName)) ∈ lw_all := lw_g (lw_at lw_m2 12 rfl) rfl
theorem q290 : (Jvm.Cond.selects "Aislewright" ({ cls := "Aislewright", name := "put", desc := "(III)I" } : Jvm.MethodName) ({ cls := "Aislewright", name := "put", desc := "(III)I" } : Jvm.MethodName)) ∈ lw_all := lw_g (lw_at lw_m2 13 rfl) rfl
theorem q291 : (Jvm.Cond.code ({ cls := "Aislewright", name := "put", desc := "(III)I" } : Jvm.MethodName) prog_1_method_11_code (7 : Nat) (Option.some Jvm.ClassFile.FieldType.int)) ∈ lw_all := lw_g (lw_at lw_m2 14 rfl) rfl
theorem q292 : (Jvm.Cond.methodLink "Aislewright" (133 : Nat) ({ cls := "Aislewright", name := "product", desc := "(I)I" } : Jvm.MethodName)) ∈ lw_all := lw_g (lw_at lw_m2 15 rfl) rfl
theorem q293 : (Jvm.Cond.static ({ cls := "Aislewright", name := "product", desc := "(I)I" } : Jvm.MethodName)) ∈ lw_all := lw_g (lw_at lw_m2 16 rfl) rfl
theorem q294 : (Jvm.Cond.code ({ cls := "Aislewright", name := "product", desc := "(I)I" } : Jvm.MethodName) prog_1_method_4_code (1 : Nat) (Option.some Jvm.ClassFile.FieldType.int)) ∈ lw_all := lw_g (lw_at lw_m2 17 rfl) rfl
theorem q295 : (Jvm.Cond.stringRef "Aislewright" (105 : Nat) "product") ∈ lw_tbl := lw_at lw_m2 18 rfl
theorem q296 : (Jvm.Cond.methodLink "Aislewright" (107 : Nat) ({ cls := "Aislewright", name := "within", desc := "(IILjava/lang/String;)I" } : Jvm.MethodName)) ∈ lw_all := lw_g (lw_at lw_m2 19 rfl) rfl
theorem q297 : (Jvm.Cond.static ({ cls := "Aislewright", name := "within", desc := "(IILjava/lang/String;)I" } : Jvm.MethodName)) ∈ lw_all := lw_g (lw_at lw_m2 20 rfl) rfl
theorem q298 : (Jvm.Cond.code ({ cls := "Aislewright", name := "within", desc := "(IILjava/lang/String;)I" } : Jvm.MethodName) prog_1_method_3_code (3 : Nat) (Option.some Jvm.ClassFile.FieldType.int)) ∈ lw_all := lw_g (lw_at lw_m2 21 rfl) rfl
theorem q299 : (Jvm.Cond.classLink "Aislewright" (82 : Nat) "java/lang/IndexOutOfBoundsException") ∈ lw_all := lw_g (lw_at lw_m2 22 rfl) rfl
theorem q308 : (Jvm.Cond.classLink "Aislewright" (84 : Nat) "java/lang/StringBuilder") ∈ lw_all := lw_g (lw_at lw_m2 31 rfl) rfl
theorem q310 : (Jvm.Cond.methodLink "Aislewright" (86 : Nat) ({ cls := "java/lang/StringBuilder", name := "<init>", desc := "()V" } : Jvm.MethodName)) ∈ lw_all := lw_g (lw_at lw_m2 33 rfl) rfl
theorem q339 : (Jvm.Cond.stringRef "Aislewright" (87 : Nat) "no ") ∈ lw_tbl := lw_at lw_m2 62 rfl
theorem q340 : (Jvm.Cond.methodLink "Aislewright" (89 : Nat) ({ cls := "java/lang/StringBuilder", name := "append", desc := "(Ljava/lang/String;)Ljava/lang/StringBuilder;" } : Jvm.MethodName)) ∈ lw_all := lw_g (lw_at lw_m2 63 rfl) rfl
theorem q456 : (Jvm.Cond.stringRef "Aislewright" (93 : Nat) " ") ∈ lw_tbl := lw_at lw_m2 179 rfl
theorem q457 : (Jvm.Cond.methodLink "Aislewright" (95 : Nat) ({ cls := "java/lang/StringBuilder", name := "append", desc := "(I)Ljava/lang/StringBuilder;" } : Jvm.MethodName)) ∈ lw_all := lw_g (lw_at lw_m2 180 rfl) rfl
theorem q482 : (Jvm.Cond.methodLink "Aislewright" (98 : Nat) ({ cls := "java/lang/StringBuilder", name := "toString", desc := "()Ljava/lang/String;" } : Jvm.MethodName)) ∈ lw_all := lw_g (lw_at lw_m2 205 rfl) rfl
theorem q558 : (Jvm.Cond.methodLink "Aislewright" (102 : Nat) ({ cls := "java/lang/IndexOutOfBoundsException", name := "<init>", desc := "(Ljava/lang/String;)V" } : Jvm.MethodName)) ∈ lw_all := lw_g (lw_at lw_m3 41 rfl) rfl
theorem q561 : (Jvm.Cond.stringRef "Aislewright" (135 : Nat) "aisle") ∈ lw_tbl := lw_at lw_m3 44 rfl
theorem q562 : (Jvm.Cond.stringRef "Aislewright" (137 : Nat) "position") ∈ lw_tbl := lw_at lw_m3 45 rfl
theorem q563 : (Jvm.Cond.interfaceEntry "Aislewright" (139 : Nat)) ∈ lw_tbl := lw_at lw_m3 46 rfl
theorem q564 : (Jvm.Cond.methodLink "Aislewright" (139 : Nat) ({ cls := "java/util/List", name := "isEmpty", desc := "()Z" } : Jvm.MethodName)) ∈ lw_all := lw_g (lw_at lw_m3 47 rfl) rfl
theorem q572 : (Jvm.Cond.stringRef "Aislewright" (143 : Nat) "the product cannot be put there") ∈ lw_tbl := lw_at lw_m3 55 rfl
theorem q573 : (Jvm.Cond.methodLink "Aislewright" (145 : Nat) ({ cls := "Aislewright", name := "must", desc := "(ZLjava/lang/String;)V" } : Jvm.MethodName)) ∈ lw_all := lw_g (lw_at lw_m3 56 rfl) rfl
theorem q574 : (Jvm.Cond.static ({ cls := "Aislewright", name := "must", desc := "(ZLjava/lang/String;)V" } : Jvm.MethodName)) ∈ lw_all := lw_g (lw_at lw_m3 57 rfl) rfl
theorem q575 : (Jvm.Cond.code ({ cls := "Aislewright", name := "must", desc := "(ZLjava/lang/String;)V" } : Jvm.MethodName) prog_1_method_8_code (2 : Nat) (Option.none : Option Jvm.ClassFile.FieldType)) ∈ lw_all := lw_g (lw_at lw_m3 58 rfl) rfl
theorem q576 : (Jvm.Cond.classLink "Aislewright" (126 : Nat) "java/lang/IllegalStateException") ∈ lw_all := lw_g (lw_at lw_m3 59 rfl) rfl
theorem q585 : (Jvm.Cond.methodLink "Aislewright" (128 : Nat) ({ cls := "java/lang/IllegalStateException", name := "<init>", desc := "(Ljava/lang/String;)V" } : Jvm.MethodName)) ∈ lw_all := lw_g (lw_at lw_m3 68 rfl) rfl
theorem q595 : (Jvm.Cond.instanceMethod ({ cls := "Aislewright", name := "layOut", desc := "()I" } : Jvm.MethodName)) ∈ lw_all := lw_g (lw_at lw_m3 78 rfl) rfl
theorem q596 : (Jvm.Cond.selects "Aislewright" ({ cls := "Aislewright", name := "layOut", desc := "()I" } : Jvm.MethodName) ({ cls := "Aislewright", name := "layOut", desc := "()I" } : Jvm.MethodName)) ∈ lw_all := lw_g (lw_at lw_m3 79 rfl) rfl
theorem q597 : (Jvm.Cond.code ({ cls := "Aislewright", name := "layOut", desc := "()I" } : Jvm.MethodName) prog_1_method_12_code (6 : Nat) (Option.some Jvm.ClassFile.FieldType.int)) ∈ lw_all := lw_g (lw_at lw_m3 80 rfl) rfl
theorem q598 : (Jvm.Cond.stringRef "Aislewright" (149 : Nat) "there is a wave") ∈ lw_tbl := lw_at lw_m3 81 rfl
theorem q599 : (Jvm.Cond.classLink "Aislewright" (151 : Nat) "Aislewright$Ranked") ∈ lw_all := lw_g (lw_at lw_m3 82 rfl) rfl
theorem q601 : (Jvm.Cond.methodLink "Aislewright" (153 : Nat) ({ cls := "Aislewright", name := "fromStart", desc := "(I)I" } : Jvm.MethodName)) ∈ lw_all := lw_g (lw_at lw_m3 84 rfl) rfl
theorem q602 : (Jvm.Cond.privateMethod ({ cls := "Aislewright", name := "fromStart", desc := "(I)I" } : Jvm.MethodName)) ∈ lw_tbl := lw_at lw_m3 85 rfl
theorem q603 : (Jvm.Cond.instanceMethod ({ cls := "Aislewright", name := "fromStart", desc := "(I)I" } : Jvm.MethodName)) ∈ lw_all := lw_g (lw_at lw_m3 86 rfl) rfl
theorem q604 : (Jvm.Cond.code ({ cls := "Aislewright", name := "fromStart", desc := "(I)I" } : Jvm.MethodName) prog_1_method_9_code (2 : Nat) (Option.some Jvm.ClassFile.FieldType.int)) ∈ lw_all := lw_g (lw_at lw_m3 87 rfl) rfl
theorem q605 : (Jvm.Cond.methodLink "Aislewright" (156 : Nat) ({ cls := "Aislewright$Ranked", name := "<init>", desc := "(II)V" } : Jvm.MethodName)) ∈ lw_all := lw_g (lw_at lw_m3 88 rfl) rfl
theorem q611 : (Jvm.Cond.fieldLinkNest "Aislewright" (163 : Nat) "Aislewright$Ranked" "number" "I" "Aislewright") ∈ lw_tbl := lw_at lw_m3 94 rfl
theorem q617 : (Jvm.Cond.methodLink "Aislewright" (159 : Nat) ({ cls := "Aislewright", name := "insert", desc := "(Ljava/util/List;Ljava/util/List;Ljava/lang/Comparable;)V" } : Jvm.MethodName)) ∈ lw_all := lw_g (lw_at lw_m3 100 rfl) rfl
theorem q618 : (Jvm.Cond.static ({ cls := "Aislewright", name := "insert", desc := "(Ljava/util/List;Ljava/util/List;Ljava/lang/Comparable;)V" } : Jvm.MethodName)) ∈ lw_all := lw_g (lw_at lw_m3 101 rfl) rfl
theorem q619 : (Jvm.Cond.code ({ cls := "Aislewright", name := "insert", desc := "(Ljava/util/List;Ljava/util/List;Ljava/lang/Comparable;)V" } : Jvm.MethodName) prog_1_method_1_code (4 : Nat) (Option.none : Option Jvm.ClassFile.FieldType)) ∈ lw_all := lw_g (lw_at lw_m3 102 rfl) rfl
theorem q620 : (Jvm.Cond.interfaceEntry "Aislewright" (7 : Nat)) ∈ lw_tbl := lw_at lw_m3 103 rfl
theorem q621 : (Jvm.Cond.methodLink "Aislewright" (7 : Nat) ({ cls := "java/util/List", name := "get", desc := "(I)Ljava/lang/Object;" } : Jvm.MethodName)) ∈ lw_all := lw_g (lw_at lw_m3 104 rfl) rfl
theorem q639 : (Jvm.Cond.interfaceEntry "Aislewright" (11 : Nat)) ∈ lw_tbl := lw_at lw_m3 122 rfl
theorem q640 : (Jvm.Cond.methodLink "Aislewright" (11 : Nat) ({ cls := "java/lang/Comparable", name := "compareTo", desc := "(Ljava/lang/Object;)I" } : Jvm.MethodName)) ∈ lw_all := lw_g (lw_at lw_m3 123 rfl) rfl
theorem q836 : (Jvm.Cond.interfaceEntry "Aislewright" (17 : Nat)) ∈ lw_tbl := lw_at lw_m4 79 rfl
theorem q837 : (Jvm.Cond.methodLink "Aislewright" (17 : Nat) ({ cls := "java/util/List", name := "add", desc := "(ILjava/lang/Object;)V" } : Jvm.MethodName)) ∈ lw_all := lw_g (lw_at lw_m4 80 rfl) rfl
theorem q877 : (Jvm.Cond.selects "Aislewright" ({ cls := "java/lang/Object", name := "getClass", desc := "()Ljava/lang/Class;" } : Jvm.MethodName) ({ cls := "java/lang/Object", name := "getClass", desc := "()Ljava/lang/Class;" } : Jvm.MethodName)) ∈ lw_all := lw_g (lw_at lw_m4 120 rfl) rfl
theorem q906 : (Jvm.Cond.instanceMethod ({ cls := "Aislewright", name := "placeOf", desc := "(I)I" } : Jvm.MethodName)) ∈ lw_all := lw_g (lw_at lw_m4 149 rfl) rfl
theorem q907 : (Jvm.Cond.selects "Aislewright" ({ cls := "Aislewright", name := "placeOf", desc := "(I)I" } : Jvm.MethodName) ({ cls := "Aislewright", name := "placeOf", desc := "(I)I" } : Jvm.MethodName)) ∈ lw_all := lw_g (lw_at lw_m4 150 rfl) rfl
theorem q908 : (Jvm.Cond.code ({ cls := "Aislewright", name := "placeOf", desc := "(I)I" } : Jvm.MethodName) prog_1_method_13_code (2 : Nat) (Option.some Jvm.ClassFile.FieldType.int)) ∈ lw_all := lw_g (lw_at lw_m4 151 rfl) rfl
theorem q913 : (Jvm.Cond.instanceMethod ({ cls := "Aislewright", name := "turnover", desc := "(I)I" } : Jvm.MethodName)) ∈ lw_all := lw_g (lw_at lw_m4 156 rfl) rfl
theorem q914 : (Jvm.Cond.selects "Aislewright" ({ cls := "Aislewright", name := "turnover", desc := "(I)I" } : Jvm.MethodName) ({ cls := "Aislewright", name := "turnover", desc := "(I)I" } : Jvm.MethodName)) ∈ lw_all := lw_g (lw_at lw_m4 157 rfl) rfl
theorem q915 : (Jvm.Cond.code ({ cls := "Aislewright", name := "turnover", desc := "(I)I" } : Jvm.MethodName) prog_1_method_14_code (2 : Nat) (Option.some Jvm.ClassFile.FieldType.int)) ∈ lw_all := lw_g (lw_at lw_m4 158 rfl) rfl
theorem q920 : (Jvm.Cond.instanceMethod ({ cls := "Aislewright", name := "distance", desc := "(II)I" } : Jvm.MethodName)) ∈ lw_all := lw_g (lw_at lw_m4 163 rfl) rfl
theorem q921 : (Jvm.Cond.selects "Aislewright" ({ cls := "Aislewright", name := "distance", desc := "(II)I" } : Jvm.MethodName) ({ cls := "Aislewright", name := "distance", desc := "(II)I" } : Jvm.MethodName)) ∈ lw_all := lw_g (lw_at lw_m4 164 rfl) rfl
theorem q922 : (Jvm.Cond.code ({ cls := "Aislewright", name := "distance", desc := "(II)I" } : Jvm.MethodName) prog_1_method_15_code (5 : Nat) (Option.some Jvm.ClassFile.FieldType.int)) ∈ lw_all := lw_g (lw_at lw_m4 165 rfl) rfl
theorem q923 : (Jvm.Cond.stringRef "Aislewright" (166 : Nat) "a product is at no place") ∈ lw_tbl := lw_at lw_m4 166 rfl
theorem q924 : (Jvm.Cond.methodLink "Aislewright" (168 : Nat) ({ cls := "Aislewright", name := "between", desc := "(II)I" } : Jvm.MethodName)) ∈ lw_all := lw_g (lw_at lw_m4 167 rfl) rfl
theorem q925 : (Jvm.Cond.privateMethod ({ cls := "Aislewright", name := "between", desc := "(II)I" } : Jvm.MethodName)) ∈ lw_tbl := lw_at lw_m4 168 rfl
theorem q926 : (Jvm.Cond.instanceMethod ({ cls := "Aislewright", name := "between", desc := "(II)I" } : Jvm.MethodName)) ∈ lw_all := lw_g (lw_at lw_m4 169 rfl) rfl
theorem q927 : (Jvm.Cond.code ({ cls := "Aislewright", name := "between", desc := "(II)I" } : Jvm.MethodName) prog_1_method_10_code (6 : Nat) (Option.some Jvm.ClassFile.FieldType.int)) ∈ lw_all := lw_g (lw_at lw_m4 170 rfl) rfl
theorem q928 : (Jvm.Cond.methodLink "Aislewright" (129 : Nat) ({ cls := "java/lang/Math", name := "abs", desc := "(I)I" } : Jvm.MethodName)) ∈ lw_all := lw_g (lw_at lw_m4 171 rfl) rfl
theorem q936 : (Jvm.Cond.instanceMethod ({ cls := "Aislewright", name := "order", desc := "(I)I" } : Jvm.MethodName)) ∈ lw_all := lw_g (lw_at lw_m4 179 rfl) rfl
theorem q937 : (Jvm.Cond.selects "Aislewright" ({ cls := "Aislewright", name := "order", desc := "(I)I" } : Jvm.MethodName) ({ cls := "Aislewright", name := "order", desc := "(I)I" } : Jvm.MethodName)) ∈ lw_all := lw_g (lw_at lw_m4 180 rfl) rfl
theorem q938 : (Jvm.Cond.code ({ cls := "Aislewright", name := "order", desc := "(I)I" } : Jvm.MethodName) prog_1_method_16_code (2 : Nat) (Option.some Jvm.ClassFile.FieldType.int)) ∈ lw_all := lw_g (lw_at lw_m4 181 rfl) rfl
theorem q939 : (Jvm.Cond.methodLink "Aislewright" (171 : Nat) ({ cls := "Aislewright", name := "isWithin", desc := "(III)V" } : Jvm.MethodName)) ∈ lw_all := lw_g (lw_at lw_m4 182 rfl) rfl
theorem q940 : (Jvm.Cond.static ({ cls := "Aislewright", name := "isWithin", desc := "(III)V" } : Jvm.MethodName)) ∈ lw_all := lw_g (lw_at lw_m4 183 rfl) rfl
theorem q941 : (Jvm.Cond.code ({ cls := "Aislewright", name := "isWithin", desc := "(III)V" } : Jvm.MethodName) prog_1_method_7_code (3 : Nat) (Option.none : Option Jvm.ClassFile.FieldType)) ∈ lw_all := lw_g (lw_at lw_m4 184 rfl) rfl
theorem q942 : (Jvm.Cond.classLink "Aislewright" (119 : Nat) "java/lang/IllegalArgumentException") ∈ lw_all := lw_g (lw_at lw_m4 185 rfl) rfl
theorem q943 : (Jvm.Cond.stringRef "Aislewright" (121 : Nat) " is not from ") ∈ lw_tbl := lw_at lw_m4 186 rfl
theorem q944 : (Jvm.Cond.stringRef "Aislewright" (123 : Nat) " to ") ∈ lw_tbl := lw_at lw_m4 187 rfl
theorem q945 : (Jvm.Cond.methodLink "Aislewright" (125 : Nat) ({ cls := "java/lang/IllegalArgumentException", name := "<init>", desc := "(Ljava/lang/String;)V" } : Jvm.MethodName)) ∈ lw_all := lw_g (lw_at lw_m4 188 rfl) rfl
theorem q946 : (Jvm.Cond.stringRef "Aislewright" (175 : Nat) "there are too many orders") ∈ lw_tbl := lw_at lw_m4 189 rfl
theorem q947 : (Jvm.Cond.classLink "Aislewright" (113 : Nat) "Aislewright$Order") ∈ lw_all := lw_g (lw_at lw_m4 190 rfl) rfl
theorem q949 : (Jvm.Cond.methodLink "Aislewright" (177 : Nat) ({ cls := "Aislewright$Order", name := "<init>", desc := "(I)V" } : Jvm.MethodName)) ∈ lw_all := lw_g (lw_at lw_m4 192 rfl) rfl
theorem q954 : (Jvm.Cond.fieldLinkNest "Aislewright" (219 : Nat) "Aislewright$Order" "due" "I" "Aislewright") ∈ lw_tbl := lw_at lw_m4 197 rfl
theorem q956 : (Jvm.Cond.fieldLinkNest "Aislewright" (193 : Nat) "Aislewright$Order" "quantities" "[I" "Aislewright") ∈ lw_tbl := lw_at lw_m4 199 rfl
theorem q959 : (Jvm.Cond.fieldLinkNest "Aislewright" (198 : Nat) "Aislewright$Order" "products" "I" "Aislewright") ∈ lw_tbl := lw_at lw_m4 202 rfl
theorem q961 : (Jvm.Cond.fieldLinkNest "Aislewright" (187 : Nat) "Aislewright$Order" "state" "I" "Aislewright") ∈ lw_tbl := lw_at lw_m4 204 rfl
theorem q971 : (Jvm.Cond.interfaceEntry "Aislewright" (180 : Nat)) ∈ lw_tbl := lw_at lw_m4 214 rfl
theorem q972 : (Jvm.Cond.methodLink "Aislewright" (180 : Nat) ({ cls := "java/util/List", name := "add", desc := "(Ljava/lang/Object;)Z" } : Jvm.MethodName)) ∈ lw_all := lw_g (lw_at lw_m4 215 rfl) rfl
theorem q988 : (Jvm.Cond.instanceMethod ({ cls := "Aislewright", name := "line", desc := "(III)I" } : Jvm.MethodName)) ∈ lw_all := lw_g (lw_at lw_m4 231 rfl) rfl
theorem q989 : (Jvm.Cond.selects "Aislewright" ({ cls := "Aislewright", name := "line", desc := "(III)I" } : Jvm.MethodName) ({ cls := "Aislewright", name := "line", desc := "(III)I" } : Jvm.MethodName)) ∈ lw_all := lw_g (lw_at lw_m4 232 rfl) rfl
theorem q990 : (Jvm.Cond.code ({ cls := "Aislewright", name := "line", desc := "(III)I" } : Jvm.MethodName) prog_1_method_17_code (6 : Nat) (Option.some Jvm.ClassFile.FieldType.int)) ∈ lw_all := lw_g (lw_at lw_m4 233 rfl) rfl
theorem q991 : (Jvm.Cond.methodLink "Aislewright" (183 : Nat) ({ cls := "Aislewright", name := "written", desc := "(I)LAislewright$Order;" } : Jvm.MethodName)) ∈ lw_all := lw_g (lw_at lw_m4 234 rfl) rfl
theorem q992 : (Jvm.Cond.privateMethod ({ cls := "Aislewright", name := "written", desc := "(I)LAislewright$Order;" } : Jvm.MethodName)) ∈ lw_tbl := lw_at lw_m4 235 rfl
theorem q993 : (Jvm.Cond.instanceMethod ({ cls := "Aislewright", name := "written", desc := "(I)LAislewright$Order;" } : Jvm.MethodName)) ∈ lw_all := lw_g (lw_at lw_m4 236 rfl) rfl
theorem q994 : (Jvm.Cond.code ({ cls := "Aislewright", name := "written", desc := "(I)LAislewright$Order;" } : Jvm.MethodName) prog_1_method_5_code (2 : Nat) (Option.some (Jvm.ClassFile.FieldType.object "Aislewright$Order"))) ∈ lw_all := lw_g (lw_at lw_m4 237 rfl) rfl
theorem q995 : (Jvm.Cond.stringRef "Aislewright" (111 : Nat) "order") ∈ lw_tbl := lw_at lw_m4 238 rfl
theorem q996 : (Jvm.Cond.methodLink "Aislewright" (190 : Nat) ({ cls := "Aislewright$Order", name := "lines", desc := "()I" } : Jvm.MethodName)) ∈ lw_all := lw_g (lw_at lw_m4 239 rfl) rfl
theorem q1006 : (Jvm.Cond.stringRef "Aislewright" (196 : Nat) "the line cannot be written") ∈ lw_tbl := lw_at lw_m5 9 rfl
theorem q1011 : (Jvm.Cond.instanceMethod ({ cls := "Aislewright", name := "stateOf", desc := "(I)I" } : Jvm.MethodName)) ∈ lw_all := lw_g (lw_at lw_m5 14 rfl) rfl
theorem q1012 : (Jvm.Cond.selects "Aislewright" ({ cls := "Aislewright", name := "stateOf", desc := "(I)I" } : Jvm.MethodName) ({ cls := "Aislewright", name := "stateOf", desc := "(I)I" } : Jvm.MethodName)) ∈ lw_all := lw_g (lw_at lw_m5 15 rfl) rfl
theorem q1013 : (Jvm.Cond.code ({ cls := "Aislewright", name := "stateOf", desc := "(I)I" } : Jvm.MethodName) prog_1_method_19_code (2 : Nat) (Option.some Jvm.ClassFile.FieldType.int)) ∈ lw_all := lw_g (lw_at lw_m5 16 rfl) rfl
theorem q1018 : (Jvm.Cond.instanceMethod ({ cls := "Aislewright", name := "lengthAlone", desc := "(I)I" } : Jvm.MethodName)) ∈ lw_all := lw_g (lw_at lw_m5 21 rfl) rfl
theorem q1019 : (Jvm.Cond.selects "Aislewright" ({ cls := "Aislewright", name := "lengthAlone", desc := "(I)I" } : Jvm.MethodName) ({ cls := "Aislewright", name := "lengthAlone", desc := "(I)I" } : Jvm.MethodName)) ∈ lw_all := lw_g (lw_at lw_m5 22 rfl) rfl
theorem q1020 : (Jvm.Cond.code ({ cls := "Aislewright", name := "lengthAlone", desc := "(I)I" } : Jvm.MethodName) prog_1_method_20_code (2 : Nat) (Option.some Jvm.ClassFile.FieldType.int)) ∈ lw_all := lw_g (lw_at lw_m5 23 rfl) rfl
theorem q1021 : (Jvm.Cond.methodLink "Aislewright" (201 : Nat) ({ cls := "Aislewright$Router", name := "length", desc := "(I)I" } : Jvm.MethodName)) ∈ lw_all := lw_g (lw_at lw_m5 24 rfl) rfl
theorem q1045 : (Jvm.Cond.instanceMethod ({ cls := "Aislewright", name := "setCapacity", desc := "(I)I" } : Jvm.MethodName)) ∈ lw_all := lw_g (lw_at lw_m5 48 rfl) rfl
theorem q1046 : (Jvm.Cond.selects "Aislewright" ({ cls := "Aislewright", name := "setCapacity", desc := "(I)I" } : Jvm.MethodName) ({ cls := "Aislewright", name := "setCapacity", desc := "(I)I" } : Jvm.MethodName)) ∈ lw_all := lw_g (lw_at lw_m5 49 rfl) rfl
theorem q1047 : (Jvm.Cond.code ({ cls := "Aislewright", name := "setCapacity", desc := "(I)I" } : Jvm.MethodName) prog_1_method_21_code (5 : Nat) (Option.some Jvm.ClassFile.FieldType.int)) ∈ lw_all := lw_g (lw_at lw_m5 50 rfl) rfl
theorem q1048 : (Jvm.Cond.interfaceEntry "Aislewright" (204 : Nat)) ∈ lw_tbl := lw_at lw_m5 51 rfl
theorem q1049 : (Jvm.Cond.methodLink "Aislewright" (204 : Nat) ({ cls := "java/util/List", name := "iterator", desc := "()Ljava/util/Iterator;" } : Jvm.MethodName)) ∈ lw_all := lw_g (lw_at lw_m5 52 rfl) rfl
theorem q1076 : (Jvm.Cond.interfaceEntry "Aislewright" (208 : Nat)) ∈ lw_tbl := lw_at lw_m5 79 rfl
theorem q1077 : (Jvm.Cond.methodLink "Aislewright" (208 : Nat) ({ cls := "java/util/Iterator", name := "hasNext", desc := "()Z" } : Jvm.MethodName)) ∈ lw_all := lw_g (lw_at lw_m5 80 rfl) rfl
theorem q1086 : (Jvm.Cond.interfaceEntry "Aislewright" (213 : Nat)) ∈ lw_tbl := lw_at lw_m5 89 rfl
theorem q1087 : (Jvm.Cond.methodLink "Aislewright" (213 : Nat) ({ cls := "java/util/Iterator", name := "next", desc := "()Ljava/lang/Object;" } : Jvm.MethodName)) ∈ lw_all := lw_g (lw_at lw_m5 90 rfl) rfl
theorem q1099 : (Jvm.Cond.stringRef "Aislewright" (217 : Nat) "the capacity cannot be set") ∈ lw_tbl := lw_at lw_m5 102 rfl
theorem q1104 : (Jvm.Cond.instanceMethod ({ cls := "Aislewright", name := "planWave", desc := "(I)I" } : Jvm.MethodName)) ∈ lw_all := lw_g (lw_at lw_m5 107 rfl) rfl
theorem q1105 : (Jvm.Cond.selects "Aislewright" ({ cls := "Aislewright", name := "planWave", desc := "(I)I" } : Jvm.MethodName) ({ cls := "Aislewright", name := "planWave", desc := "(I)I" } : Jvm.MethodName)) ∈ lw_all := lw_g (lw_at lw_m5 108 rfl) rfl
theorem q1106 : (Jvm.Cond.code ({ cls := "Aislewright", name := "planWave", desc := "(I)I" } : Jvm.MethodName) prog_1_method_22_code (4 : Nat) (Option.some Jvm.ClassFile.FieldType.int)) ∈ lw_all := lw_g (lw_at lw_m5 109 rfl) rfl
theorem q1107 : (Jvm.Cond.classLink "Aislewright" (117 : Nat) "Aislewright$Batch") ∈ lw_all := lw_g (lw_at lw_m5 110 rfl) rfl
theorem q1109 : (Jvm.Cond.methodLink "Aislewright" (222 : Nat) ({ cls := "Aislewright$Batch", name := "<init>", desc := "(LAislewright$Order;)V" } : Jvm.MethodName)) ∈ lw_all := lw_g (lw_at lw_m5 112 rfl) rfl
theorem q1123 : (Jvm.Cond.fieldLinkNest "Aislewright" (260 : Nat) "Aislewright$Batch" "orders" "Ljava/util/List;" "Aislewright") ∈ lw_tbl := lw_at lw_m5 126 rfl
theorem q1125 : (Jvm.Cond.fieldLinkNest "Aislewright" (235 : Nat) "Aislewright$Batch" "products" "I" "Aislewright") ∈ lw_tbl := lw_at lw_m5 128 rfl
theorem q1127 : (Jvm.Cond.fieldLinkNest "Aislewright" (233 : Nat) "Aislewright$Batch" "lines" "I" "Aislewright") ∈ lw_tbl := lw_at lw_m5 130 rfl
theorem q1135 : (Jvm.Cond.stringRef "Aislewright" (225 : Nat) "no order can be taken") ∈ lw_tbl := lw_at lw_m5 138 rfl
theorem q1136 : (Jvm.Cond.methodLink "Aislewright" (227 : Nat) ({ cls := "Aislewright", name := "reckons", desc := "(I)V" } : Jvm.MethodName)) ∈ lw_all := lw_g (lw_at lw_m5 139 rfl) rfl
theorem q1137 : (Jvm.Cond.privateMethod ({ cls := "Aislewright", name := "reckons", desc := "(I)V" } : Jvm.MethodName)) ∈ lw_tbl := lw_at lw_m5 140 rfl
theorem q1138 : (Jvm.Cond.instanceMethod ({ cls := "Aislewright", name := "reckons", desc := "(I)V" } : Jvm.MethodName)) ∈ lw_all := lw_g (lw_at lw_m5 141 rfl) rfl
theorem q1139 : (Jvm.Cond.code ({ cls := "Aislewright", name := "reckons", desc := "(I)V" } : Jvm.MethodName) prog_1_method_24_code (4 : Nat) (Option.none : Option Jvm.ClassFile.FieldType)) ∈ lw_all := lw_g (lw_at lw_m5 142 rfl) rfl
theorem q1140 : (Jvm.Cond.methodLink "Aislewright" (236 : Nat) ({ cls := "Aislewright", name := "saving", desc := "(LAislewright$Batch;LAislewright$Batch;)I" } : Jvm.MethodName)) ∈ lw_all := lw_g (lw_at lw_m5 143 rfl) rfl
theorem q1141 : (Jvm.Cond.privateMethod ({ cls := "Aislewright", name := "saving", desc := "(LAislewright$Batch;LAislewright$Batch;)I" } : Jvm.MethodName)) ∈ lw_tbl := lw_at lw_m5 144 rfl
theorem q1142 : (Jvm.Cond.instanceMethod ({ cls := "Aislewright", name := "saving", desc := "(LAislewright$Batch;LAislewright$Batch;)I" } : Jvm.MethodName)) ∈ lw_all := lw_g (lw_at lw_m5 145 rfl) rfl
theorem q1143 : (Jvm.Cond.code ({ cls := "Aislewright", name := "saving", desc := "(LAislewright$Batch;LAislewright$Batch;)I" } : Jvm.MethodName) prog_1_method_23_code (3 : Nat) (Option.some Jvm.ClassFile.FieldType.int)) ∈ lw_all := lw_g (lw_at lw_m5 146 rfl) rfl
theorem q1144 : (Jvm.Cond.methodLink "Aislewright" (230 : Nat) ({ cls := "Aislewright", name := "joinsBest", desc := "()Z" } : Jvm.MethodName)) ∈ lw_all := lw_g (lw_at lw_m5 147 rfl) rfl
theorem q1145 : (Jvm.Cond.privateMethod ({ cls := "Aislewright", name := "joinsBest", desc := "()Z" } : Jvm.MethodName)) ∈ lw_tbl := lw_at lw_m5 148 rfl
theorem q1146 : (Jvm.Cond.instanceMethod ({ cls := "Aislewright", name := "joinsBest", desc := "()Z" } : Jvm.MethodName)) ∈ lw_all := lw_g (lw_at lw_m5 149 rfl) rfl
theorem q1147 : (Jvm.Cond.code ({ cls := "Aislewright", name := "joinsBest", desc := "()Z" } : Jvm.MethodName) prog_1_method_25_code (6 : Nat) (Option.some Jvm.ClassFile.FieldType.boolean)) ∈ lw_all := lw_g (lw_at lw_m5 150 rfl) rfl
theorem q1148 : (Jvm.Cond.methodLink "Aislewright" (240 : Nat) ({ cls := "Aislewright$Batch", name := "takesAll", desc := "(LAislewright$Batch;)V" } : Jvm.MethodName)) ∈ lw_all := lw_g (lw_at lw_m5 151 rfl) rfl
theorem q1159 : (Jvm.Cond.interfaceEntry "Aislewright" (244 : Nat)) ∈ lw_tbl := lw_at lw_m5 162 rfl
theorem q1160 : (Jvm.Cond.methodLink "Aislewright" (244 : Nat) ({ cls := "java/util/List", name := "remove", desc := "(I)Ljava/lang/Object;" } : Jvm.MethodName)) ∈ lw_all := lw_g (lw_at lw_m5 163 rfl) rfl
theorem q1172 : (Jvm.Cond.methodLink "Aislewright" (247 : Nat) ({ cls := "[I", name := "clone", desc := "()Ljava/lang/Object;" } : Jvm.MethodName)) ∈ lw_all := lw_g (lw_at lw_m5 175 rfl) rfl
theorem q1176 : (Jvm.Cond.classLink "Aislewright" (248 : Nat) "[I") ∈ lw_all := lw_g (lw_at lw_m5 179 rfl) rfl
theorem q1177 : (Jvm.Cond.methodLink "Aislewright" (251 : Nat) ({ cls := "java/lang/System", name := "arraycopy", desc := "(Ljava/lang/Object;ILjava/lang/Object;II)V" } : Jvm.MethodName)) ∈ lw_all := lw_g (lw_at lw_m5 180 rfl) rfl
theorem q1182 : (Jvm.Cond.instanceMethod ({ cls := "Aislewright", name := "pick", desc := "(I)I" } : Jvm.MethodName)) ∈ lw_all := lw_g (lw_at lw_m5 185 rfl) rfl
theorem q1183 : (Jvm.Cond.selects "Aislewright" ({ cls := "Aislewright", name := "pick", desc := "(I)I" } : Jvm.MethodName) ({ cls := "Aislewright", name := "pick", desc := "(I)I" } : Jvm.MethodName)) ∈ lw_all := lw_g (lw_at lw_m5 186 rfl) rfl
theorem q1184 : (Jvm.Cond.code ({ cls := "Aislewright", name := "pick", desc := "(I)I" } : Jvm.MethodName) prog_1_method_26_code (7 : Nat) (Option.some Jvm.ClassFile.FieldType.int)) ∈ lw_all := lw_g (lw_at lw_m5 187 rfl) rfl
theorem q1185 : (Jvm.Cond.methodLink "Aislewright" (257 : Nat) ({ cls := "Aislewright", name := "batch", desc := "(I)LAislewright$Batch;" } : Jvm.MethodName)) ∈ lw_all := lw_g (lw_at lw_m5 188 rfl) rfl
theorem q1186 : (Jvm.Cond.privateMethod ({ cls := "Aislewright", name := "batch", desc := "(I)LAislewright$Batch;" } : Jvm.MethodName)) ∈ lw_tbl := lw_at lw_m5 189 rfl
theorem q1187 : (Jvm.Cond.instanceMethod ({ cls := "Aislewright", name := "batch", desc := "(I)LAislewright$Batch;" } : Jvm.MethodName)) ∈ lw_all := lw_g (lw_at lw_m5 190 rfl) rfl
theorem q1188 : (Jvm.Cond.code ({ cls := "Aislewright", name := "batch", desc := "(I)LAislewright$Batch;" } : Jvm.MethodName) prog_1_method_6_code (2 : Nat) (Option.some (Jvm.ClassFile.FieldType.object "Aislewright$Batch"))) ∈ lw_all := lw_g (lw_at lw_m5 191 rfl) rfl
theorem q1189 : (Jvm.Cond.stringRef "Aislewright" (115 : Nat) "batch") ∈ lw_tbl := lw_at lw_m5 192 rfl
theorem q1194 : (Jvm.Cond.instanceMethod ({ cls := "Aislewright", name := "batchOf", desc := "(I)I" } : Jvm.MethodName)) ∈ lw_all := lw_g (lw_at lw_m5 197 rfl) rfl
theorem q1195 : (Jvm.Cond.selects "Aislewright" ({ cls := "Aislewright", name := "batchOf", desc := "(I)I" } : Jvm.MethodName) ({ cls := "Aislewright", name := "batchOf", desc := "(I)I" } : Jvm.MethodName)) ∈ lw_all := lw_g (lw_at lw_m5 198 rfl) rfl
theorem q1196 : (Jvm.Cond.code ({ cls := "Aislewright", name := "batchOf", desc := "(I)I" } : Jvm.MethodName) prog_1_method_28_code (4 : Nat) (Option.some Jvm.ClassFile.FieldType.int)) ∈ lw_all := lw_g (lw_at lw_m5 199 rfl) rfl
theorem q1197 : (Jvm.Cond.interfaceEntry "Aislewright" (267 : Nat)) ∈ lw_tbl := lw_at lw_m5 200 rfl
theorem q1198 : (Jvm.Cond.methodLink "Aislewright" (267 : Nat) ({ cls := "java/util/List", name := "contains", desc := "(Ljava/lang/Object;)Z" } : Jvm.MethodName)) ∈ lw_all := lw_g (lw_at lw_m5 201 rfl) rfl
theorem q1218 : (Jvm.Cond.selects "Aislewright" ({ cls := "java/lang/Object", name := "equals", desc := "(Ljava/lang/Object;)Z" } : Jvm.MethodName) ({ cls := "java/lang/Object", name := "equals", desc := "(Ljava/lang/Object;)Z" } : Jvm.MethodName)) ∈ lw_all := lw_g (lw_at lw_m5 221 rfl) rfl
theorem q1241 : (Jvm.Cond.instanceMethod ({ cls := "Aislewright", name := "linesOf", desc := "(I)I" } : Jvm.MethodName)) ∈ lw_all := lw_g (lw_at lw_m6 4 rfl) rfl
theorem q1242 : (Jvm.Cond.selects "Aislewright" ({ cls := "Aislewright", name := "linesOf", desc := "(I)I" } : Jvm.MethodName) ({ cls := "Aislewright", name := "linesOf", desc := "(I)I" } : Jvm.MethodName)) ∈ lw_all := lw_g (lw_at lw_m6 5 rfl) rfl
theorem q1243 : (Jvm.Cond.code ({ cls := "Aislewright", name := "linesOf", desc := "(I)I" } : Jvm.MethodName) prog_1_method_29_code (2 : Nat) (Option.some Jvm.ClassFile.FieldType.int)) ∈ lw_all := lw_g (lw_at lw_m6 6 rfl) rfl
theorem q1248 : (Jvm.Cond.instanceMethod ({ cls := "Aislewright", name := "lengthOf", desc := "(I)I" } : Jvm.MethodName)) ∈ lw_all := lw_g (lw_at lw_m6 11 rfl) rfl
theorem q1249 : (Jvm.Cond.selects "Aislewright" ({ cls := "Aislewright", name := "lengthOf", desc := "(I)I" } : Jvm.MethodName) ({ cls := "Aislewright", name := "lengthOf", desc := "(I)I" } : Jvm.MethodName)) ∈ lw_all := lw_g (lw_at lw_m6 12 rfl) rfl
theorem q1250 : (Jvm.Cond.code ({ cls := "Aislewright", name := "lengthOf", desc := "(I)I" } : Jvm.MethodName) prog_1_method_30_code (2 : Nat) (Option.some Jvm.ClassFile.FieldType.int)) ∈ lw_all := lw_g (lw_at lw_m6 13 rfl) rfl
theorem q1255 : (Jvm.Cond.instanceMethod ({ cls := "Aislewright", name := "lengthByTrying", desc := "(I)I" } : Jvm.MethodName)) ∈ lw_all := lw_g (lw_at lw_m6 18 rfl) rfl
theorem q1256 : (Jvm.Cond.selects "Aislewright" ({ cls := "Aislewright", name := "lengthByTrying", desc := "(I)I" } : Jvm.MethodName) ({ cls := "Aislewright", name := "lengthByTrying", desc := "(I)I" } : Jvm.MethodName)) ∈ lw_all := lw_g (lw_at lw_m6 19 rfl) rfl
theorem q1257 : (Jvm.Cond.code ({ cls := "Aislewright", name := "lengthByTrying", desc := "(I)I" } : Jvm.MethodName) prog_1_method_31_code (3 : Nat) (Option.some Jvm.ClassFile.FieldType.int)) ∈ lw_all := lw_g (lw_at lw_m6 20 rfl) rfl
theorem q1258 : (Jvm.Cond.methodLink "Aislewright" (270 : Nat) ({ cls := "java/lang/Integer", name := "bitCount", desc := "(I)I" } : Jvm.MethodName)) ∈ lw_all := lw_g (lw_at lw_m6 21 rfl) rfl
theorem q1259 : (Jvm.Cond.stringRef "Aislewright" (275 : Nat) "there are too many places") ∈ lw_tbl := lw_at lw_m6 22 rfl
theorem q1260 : (Jvm.Cond.methodLinkNest "Aislewright" (277 : Nat) ({ cls := "Aislewright$Router", name := "lays", desc := "(I)V" } : Jvm.MethodName) "Aislewright") ∈ lw_tbl := lw_at lw_m6 23 rfl
theorem q1261 : (Jvm.Cond.methodLink "Aislewright" (283 : Nat) ({ cls := "Aislewright$Router", name := "byTrying", desc := "(II)I" } : Jvm.MethodName)) ∈ lw_all := lw_g (lw_at lw_m6 24 rfl) rfl
theorem q1274 : (Jvm.Cond.instanceMethod ({ cls := "Aislewright", name := "lengthThrough", desc := "(I)I" } : Jvm.MethodName)) ∈ lw_all := lw_g (lw_at lw_m6 37 rfl) rfl
theorem q1275 : (Jvm.Cond.selects "Aislewright" ({ cls := "Aislewright", name := "lengthThrough", desc := "(I)I" } : Jvm.MethodName) ({ cls := "Aislewright", name := "lengthThrough", desc := "(I)I" } : Jvm.MethodName)) ∈ lw_all := lw_g (lw_at lw_m6 38 rfl) rfl
theorem q1276 : (Jvm.Cond.code ({ cls := "Aislewright", name := "lengthThrough", desc := "(I)I" } : Jvm.MethodName) prog_1_method_32_code (2 : Nat) (Option.some Jvm.ClassFile.FieldType.int)) ∈ lw_all := lw_g (lw_at lw_m6 39 rfl) rfl
theorem q1277 : (Jvm.Cond.methodLink "Aislewright" (286 : Nat) ({ cls := "Aislewright$Router", name := "through", desc := "()I" } : Jvm.MethodName)) ∈ lw_all := lw_g (lw_at lw_m6 40 rfl) rfl
theorem q1285 : (Jvm.Cond.instanceMethod ({ cls := "Aislewright", name := "stops", desc := "(I)I" } : Jvm.MethodName)) ∈ lw_all := lw_g (lw_at lw_m6 48 rfl) rfl
theorem q1286 : (Jvm.Cond.selects "Aislewright" ({ cls := "Aislewright", name := "stops", desc := "(I)I" } : Jvm.MethodName) ({ cls := "Aislewright", name := "stops", desc := "(I)I" } : Jvm.MethodName)) ∈ lw_all := lw_g (lw_at lw_m6 49 rfl) rfl
theorem q1287 : (Jvm.Cond.code ({ cls := "Aislewright", name := "stops", desc := "(I)I" } : Jvm.MethodName) prog_1_method_33_code (2 : Nat) (Option.some Jvm.ClassFile.FieldType.int)) ∈ lw_all := lw_g (lw_at lw_m6 50 rfl) rfl
theorem q1292 : (Jvm.Cond.instanceMethod ({ cls := "Aislewright", name := "stopAt", desc := "(II)I" } : Jvm.MethodName)) ∈ lw_all := lw_g (lw_at lw_m6 55 rfl) rfl
theorem q1293 : (Jvm.Cond.selects "Aislewright" ({ cls := "Aislewright", name := "stopAt", desc := "(II)I" } : Jvm.MethodName) ({ cls := "Aislewright", name := "stopAt", desc := "(II)I" } : Jvm.MethodName)) ∈ lw_all := lw_g (lw_at lw_m6 56 rfl) rfl
theorem q1294 : (Jvm.Cond.code ({ cls := "Aislewright", name := "stopAt", desc := "(II)I" } : Jvm.MethodName) prog_1_method_34_code (4 : Nat) (Option.some Jvm.ClassFile.FieldType.int)) ∈ lw_all := lw_g (lw_at lw_m6 57 rfl) rfl
theorem q1295 : (Jvm.Cond.stringRef "Aislewright" (289 : Nat) "stop") ∈ lw_tbl := lw_at lw_m6 58 rfl
theorem q1296 : (Jvm.Cond.methodLink "Aislewright" (291 : Nat) ({ cls := "Aislewright$Router", name := "stop", desc := "(II)I" } : Jvm.MethodName)) ∈ lw_all := lw_g (lw_at lw_m6 59 rfl) rfl
theorem q1305 : (Jvm.Cond.instanceMethod ({ cls := "Aislewright", name := "inAisle", desc := "(I)I" } : Jvm.MethodName)) ∈ lw_all := lw_g (lw_at lw_m6 68 rfl) rfl
theorem q1306 : (Jvm.Cond.selects "Aislewright" ({ cls := "Aislewright", name := "inAisle", desc := "(I)I" } : Jvm.MethodName) ({ cls := "Aislewright", name := "inAisle", desc := "(I)I" } : Jvm.MethodName)) ∈ lw_all := lw_g (lw_at lw_m6 69 rfl) rfl
theorem q1307 : (Jvm.Cond.code ({ cls := "Aislewright", name := "inAisle", desc := "(I)I" } : Jvm.MethodName) prog_1_method_35_code (7 : Nat) (Option.some Jvm.ClassFile.FieldType.int)) ∈ lw_all := lw_g (lw_at lw_m6 70 rfl) rfl
theorem q1573 : (Jvm.Cond.castable "Aislewright" "java/lang/Object") ∈ lw_tbl := lw_at lw_m7 96 rfl
theorem in_X1 : ∀ w ∈ wsX10, w ∈ lw_all := lw_in wsX10 [153, 155, 157, 159, 161, 163, 165, 167, 169, 171, 173, 175] (by decide +kernel) (by decide +kernel)
/-! Aislewright$Router -/
set_option maxRecDepth 100000
def RX2 : String := "Aislewright$Router"
def TX2 : u_T := fun k => match k with
  | 0 => ("Aislewright$Router", "places", "[I", true)
  | 1 => ("Aislewright$Router", "rest", "[[I", true)
  | 2 => ("Aislewright$Router", "many", "I", false)
  | _ => ("Aislewright$Router", "this$0", "LAislewright;", true)
def tyX2 : Nat → FieldType := fun k => match k with
  | 0 => .array .int
  | 1 => .array (.array .int)
  | 2 => .int
  | _ => .object "Aislewright"
abbrev wsX20 : List Cond := u_ws RX2 TX2 4
theorem nmX2 : ∀ a, a < 4 → ∀ b, b < 4 → a ≠ b → (TX2 a).2.1 ≠ (TX2 b).2.1 := by decide +kernel
theorem tyX2_ok : ∀ k, k < 4 → parseFieldDescriptor (TX2 k).2.2.1 = some (tyX2 k) := by decide +kernel
abbrev cX2_init : ByteArray := prog_5_method_1_code
def yX2_init : MethodName := ⟨RX2, "<init>", "(LAislewright;)V"⟩
def dkwX2_init_1 : List UInt8 := [197, 0, 19, 2, 181, 0, 21, 177]
abbrev dktX2_init_1 : List UInt8 := dkwX2_init_1 ++ []
def dkwX2_init_0 : List UInt8 := [42, 43, 181, 0, 3, 42, 183, 0, 9, 42, 16, 9, 188, 10, 181, 0, 15, 42, 17, 2, 0, 16, 9]
abbrev dktX2_init_0 : List UInt8 := dkwX2_init_0 ++ dktX2_init_1
theorem dksX2_init_0 : cX2_init.data.toList.drop 0 = dktX2_init_0 := by decide +kernel
theorem dksX2_init_1 : cX2_init.data.toList.drop 23 = dktX2_init_1 := dk_seg dksX2_init_0 23 rfl rfl
theorem dX2_init_0 : decode cX2_init 0 = .ok (.aload_n 0, 1) := dk_42 (dk_at dksX2_init_0 0 rfl rfl)
theorem dX2_init_1 : decode cX2_init 1 = .ok (.aload_n 1, 1) := dk_43 (dk_at dksX2_init_0 1 rfl rfl)
theorem dX2_init_2 : decode cX2_init 2 = .ok (.putfield 3, 3) := dk_181 0 3 (dk_at dksX2_init_0 2 rfl rfl)
theorem dX2_init_5 : decode cX2_init 5 = .ok (.aload_n 0, 1) := dk_42 (dk_at dksX2_init_0 5 rfl rfl)
theorem dX2_init_6 : decode cX2_init 6 = .ok (.invokespecial 9, 3) := dk_183 0 9 (dk_at dksX2_init_0 6 rfl rfl)
theorem dX2_init_9 : decode cX2_init 9 = .ok (.aload_n 0, 1) := dk_42 (dk_at dksX2_init_0 9 rfl rfl)
theorem dX2_init_10 : decode cX2_init 10 = .ok (.bipush 9, 2) := dk_16 9 (dk_at dksX2_init_0 10 rfl rfl)
theorem dX2_init_12 : decode cX2_init 12 = .ok (.newarray .int, 2) := dk_188_10 (dk_at dksX2_init_0 12 rfl rfl)
theorem dX2_init_14 : decode cX2_init 14 = .ok (.putfield 15, 3) := dk_181 0 15 (dk_at dksX2_init_0 14 rfl rfl)
theorem dX2_init_17 : decode cX2_init 17 = .ok (.aload_n 0, 1) := dk_42 (dk_at dksX2_init_0 17 rfl rfl)
theorem dX2_init_18 : decode cX2_init 18 = .ok (.sipush 512, 3) := dk_17 2 0 (dk_at dksX2_init_0 18 rfl rfl)
theorem dX2_init_21 : decode cX2_init 21 = .ok (.bipush 9, 2) := dk_16 9 (dk_at dksX2_init_0 21 rfl rfl)
theorem dX2_init_23 : decode cX2_init 23 = .ok (.multianewarray 19 2, 4) := by decide +kernel
theorem dX2_init_27 : decode cX2_init 27 = .ok (.putfield 21, 3) := dk_181 0 21 (dk_at dksX2_init_1 4 rfl rfl)
theorem dX2_init_30 : decode cX2_init 30 = .ok (.return_, 1) := dk_177 (dk_at dksX2_init_1 7 rfl rfl)
abbrev cX2_length : ByteArray := prog_5_method_3_code
def yX2_length : MethodName := ⟨RX2, "length", "(I)I"⟩
def dkwX2_length_4 : List UInt8 := [182, 0, 43, 172]
abbrev dktX2_length_4 : List UInt8 := dkwX2_length_4 ++ []
def dkwX2_length_3 : List UInt8 := [132, 3, 1, 167, 255, 203, 132, 2, 1, 167, 255, 185, 42, 180, 0, 24, 154, 0, 7, 3, 167, 0, 7, 42]
abbrev dktX2_length_3 : List UInt8 := dkwX2_length_3 ++ dktX2_length_4
def dkwX2_length_2 : List UInt8 := [180, 0, 3, 42, 180, 0, 15, 29, 46, 182, 0, 35, 167, 0, 9, 42, 28, 29, 182, 0, 39, 79]
abbrev dktX2_length_2 : List UInt8 := dkwX2_length_2 ++ dktX2_length_3
def dkwX2_length_1 : List UInt8 := [162, 0, 51, 28, 29, 122, 4, 126, 154, 0, 37, 42, 180, 0, 21, 28, 50, 29, 28, 154, 0, 19, 42]
abbrev dktX2_length_1 : List UInt8 := dkwX2_length_1 ++ dktX2_length_2
def dkwX2_length_0 : List UInt8 := [42, 27, 182, 0, 31, 3, 61, 28, 4, 42, 180, 0, 24, 120, 162, 0, 67, 3, 62, 29, 42, 180, 0, 24]
abbrev dktX2_length_0 : List UInt8 := dkwX2_length_0 ++ dktX2_length_1
theorem dksX2_length_0 : cX2_length.data.toList.drop 0 = dktX2_length_0 := by decide +kernel
theorem dksX2_length_1 : cX2_length.data.toList.drop 24 = dktX2_length_1 := dk_seg dksX2_length_0 24 rfl rfl
theorem dksX2_length_2 : cX2_length.data.toList.drop 47 = dktX2_length_2 := dk_seg dksX2_length_1 23 rfl rfl
theorem dksX2_length_3 : cX2_length.data.toList.drop 69 = dktX2_length_3 := dk_seg dksX2_length_2 22 rfl rfl
theorem dksX2_length_4 : cX2_length.data.toList.drop 93 = dktX2_length_4 := dk_seg dksX2_length_3 24 rfl rfl
theorem dX2_length_0 : decode cX2_length 0 = .ok (.aload_n 0, 1) := dk_42 (dk_at dksX2_length_0 0 rfl rfl)
theorem dX2_length_1 : decode cX2_length 1 = .ok (.iload_n 1, 1) := dk_27 (dk_at dksX2_length_0 1 rfl rfl)
theorem dX2_length_2 : decode cX2_length 2 = .ok (.invokevirtual 31, 3) := dk_182 0 31 (dk_at dksX2_length_0 2 rfl rfl)
theorem dX2_length_5 : decode cX2_length 5 = .ok (.iconst 0, 1) := dk_3 (dk_at dksX2_length_0 5 rfl rfl)
theorem dX2_length_6 : decode cX2_length 6 = .ok (.istore_n 2, 1) := dk_61 (dk_at dksX2_length_0 6 rfl rfl)
theorem dX2_length_7 : decode cX2_length 7 = .ok (.iload_n 2, 1) := dk_28 (dk_at dksX2_length_0 7 rfl rfl)
theorem dX2_length_8 : decode cX2_length 8 = .ok (.iconst 1, 1) := dk_4 (dk_at dksX2_length_0 8 rfl rfl)
theorem dX2_length_9 : decode cX2_length 9 = .ok (.aload_n 0, 1) := dk_42 (dk_at dksX2_length_0 9 rfl rfl)
theorem dX2_length_10 : decode cX2_length 10 = .ok (.getfield 24, 3) := dk_180 0 24 (dk_at dksX2_length_0 10 rfl rfl)
theorem dX2_length_13 : decode cX2_length 13 = .ok (.ishl, 1) := dk_120 (dk_at dksX2_length_0 13 rfl rfl)
theorem dX2_length_14 : decode cX2_length 14 = .ok (.if_icmp .ge 67, 3) := dk_162 0 67 (dk_at dksX2_length_0 14 rfl rfl)
theorem dX2_length_17 : decode cX2_length 17 = .ok (.iconst 0, 1) := dk_3 (dk_at dksX2_length_0 17 rfl rfl)
theorem dX2_length_18 : decode cX2_length 18 = .ok (.istore_n 3, 1) := dk_62 (dk_at dksX2_length_0 18 rfl rfl)
theorem dX2_length_19 : decode cX2_length 19 = .ok (.iload_n 3, 1) := dk_29 (dk_at dksX2_length_0 19 rfl rfl)
theorem dX2_length_20 : decode cX2_length 20 = .ok (.aload_n 0, 1) := dk_42 (dk_at dksX2_length_0 20 rfl rfl)
theorem dX2_length_21 : decode cX2_length 21 = .ok (.getfield 24, 3) := dk_180 0 24 (dk_at dksX2_length_0 21 rfl rfl)
theorem dX2_length_24 : decode cX2_length 24 = .ok (.if_icmp .ge 51, 3) := dk_162 0 51 (dk_at dksX2_length_1 0 rfl rfl)
theorem dX2_length_27 : decode cX2_length 27 = .ok (.iload_n 2, 1) := dk_28 (dk_at dksX2_length_1 3 rfl rfl)
theorem dX2_length_28 : decode cX2_length 28 = .ok (.iload_n 3, 1) := dk_29 (dk_at dksX2_length_1 4 rfl rfl)
theorem dX2_length_29 : decode cX2_length 29 = .ok (.ishr, 1) := dk_122 (dk_at dksX2_length_1 5 rfl rfl)
theorem dX2_length_30 : decode cX2_length 30 = .ok (.iconst 1, 1) := dk_4 (dk_at dksX2_length_1 6 rfl rfl)
theorem dX2_length_31 : decode cX2_length 31 = .ok (.iand, 1) := dk_126 (dk_at dksX2_length_1 7 rfl rfl)
theorem dX2_length_32 : decode cX2_length 32 = .ok (.ifCond .ne 37, 3) := dk_154 0 37 (dk_at dksX2_length_1 8 rfl rfl)
theorem dX2_length_35 : decode cX2_length 35 = .ok (.aload_n 0, 1) := dk_42 (dk_at dksX2_length_1 11 rfl rfl)
theorem dX2_length_36 : decode cX2_length 36 = .ok (.getfield 21, 3) := dk_180 0 21 (dk_at dksX2_length_1 12 rfl rfl)
theorem dX2_length_39 : decode cX2_length 39 = .ok (.iload_n 2, 1) := dk_28 (dk_at dksX2_length_1 15 rfl rfl)
theorem dX2_length_40 : decode cX2_length 40 = .ok (.aaload, 1) := dk_50 (dk_at dksX2_length_1 16 rfl rfl)
theorem dX2_length_41 : decode cX2_length 41 = .ok (.iload_n 3, 1) := dk_29 (dk_at dksX2_length_1 17 rfl rfl)
theorem dX2_length_42 : decode cX2_length 42 = .ok (.iload_n 2, 1) := dk_28 (dk_at dksX2_length_1 18 rfl rfl)
theorem dX2_length_43 : decode cX2_length 43 = .ok (.ifCond .ne 19, 3) := dk_154 0 19 (dk_at dksX2_length_1 19 rfl rfl)
theorem dX2_length_46 : decode cX2_length 46 = .ok (.aload_n 0, 1) := dk_42 (dk_at dksX2_length_1 22 rfl rfl)
theorem dX2_length_47 : decode cX2_length 47 = .ok (.getfield 3, 3) := dk_180 0 3 (dk_at dksX2_length_2 0 rfl rfl)
theorem dX2_length_50 : decode cX2_length 50 = .ok (.aload_n 0, 1) := dk_42 (dk_at dksX2_length_2 3 rfl rfl)
theorem dX2_length_51 : decode cX2_length 51 = .ok (.getfield 15, 3) := dk_180 0 15 (dk_at dksX2_length_2 4 rfl rfl)
theorem dX2_length_54 : decode cX2_length 54 = .ok (.iload_n 3, 1) := dk_29 (dk_at dksX2_length_2 7 rfl rfl)
theorem dX2_length_55 : decode cX2_length 55 = .ok (.iaload, 1) := dk_46 (dk_at dksX2_length_2 8 rfl rfl)
theorem dX2_length_56 : decode cX2_length 56 = .ok (.invokevirtual 35, 3) := dk_182 0 35 (dk_at dksX2_length_2 9 rfl rfl)
theorem dX2_length_59 : decode cX2_length 59 = .ok (.goto 9, 3) := dk_167 0 9 (dk_at dksX2_length_2 12 rfl rfl)
theorem dX2_length_62 : decode cX2_length 62 = .ok (.aload_n 0, 1) := dk_42 (dk_at dksX2_length_2 15 rfl rfl)
theorem dX2_length_63 : decode cX2_length 63 = .ok (.iload_n 2, 1) := dk_28 (dk_at dksX2_length_2 16 rfl rfl)
theorem dX2_length_64 : decode cX2_length 64 = .ok (.iload_n 3, 1) := dk_29 (dk_at dksX2_length_2 17 rfl rfl)
theorem dX2_length_65 : decode cX2_length 65 = .ok (.invokevirtual 39, 3) := dk_182 0 39 (dk_at dksX2_length_2 18 rfl rfl)
theorem dX2_length_68 : decode cX2_length 68 = .ok (.iastore, 1) := dk_79 (dk_at dksX2_length_2 21 rfl rfl)
theorem dX2_length_69 : decode cX2_length 69 = .ok (.iinc 3 1, 3) := dk_132 3 1 (dk_at dksX2_length_3 0 rfl rfl)
theorem dX2_length_72 : decode cX2_length 72 = .ok (.goto (-53), 3) := dk_167 255 203 (dk_at dksX2_length_3 3 rfl rfl)
theorem dX2_length_75 : decode cX2_length 75 = .ok (.iinc 2 1, 3) := dk_132 2 1 (dk_at dksX2_length_3 6 rfl rfl)
theorem dX2_length_78 : decode cX2_length 78 = .ok (.goto (-71), 3) := dk_167 255 185 (dk_at dksX2_length_3 9 rfl rfl)
theorem dX2_length_81 : decode cX2_length 81 = .ok (.aload_n 0, 1) := dk_42 (dk_at dksX2_length_3 12 rfl rfl)
theorem dX2_length_82 : decode cX2_length 82 = .ok (.getfield 24, 3) := dk_180 0 24 (dk_at dksX2_length_3 13 rfl rfl)
theorem dX2_length_85 : decode cX2_length 85 = .ok (.ifCond .ne 7, 3) := dk_154 0 7 (dk_at dksX2_length_3 16 rfl rfl)
theorem dX2_length_88 : decode cX2_length 88 = .ok (.iconst 0, 1) := dk_3 (dk_at dksX2_length_3 19 rfl rfl)
theorem dX2_length_89 : decode cX2_length 89 = .ok (.goto 7, 3) := dk_167 0 7 (dk_at dksX2_length_3 20 rfl rfl)
theorem dX2_length_92 : decode cX2_length 92 = .ok (.aload_n 0, 1) := dk_42 (dk_at dksX2_length_3 23 rfl rfl)
theorem dX2_length_93 : decode cX2_length 93 = .ok (.invokevirtual 43, 3) := dk_182 0 43 (dk_at dksX2_length_4 0 rfl rfl)
theorem dX2_length_96 : decode cX2_length 96 = .ok (.ireturn, 1) := dk_172 (dk_at dksX2_length_4 3 rfl rfl)
abbrev cX2_lays : ByteArray := prog_5_method_2_code
def yX2_lays : MethodName := ⟨RX2, "lays", "(I)V"⟩
def dkwX2_lays_4 : List UInt8 := [181, 0, 24, 132, 2, 1, 167, 255, 164, 177]
abbrev dktX2_lays_4 : List UInt8 := dkwX2_lays_4 ++ []
def dkwX2_lays_3 : List UInt8 := [42, 180, 0, 15, 29, 42, 180, 0, 3, 180, 0, 28, 28, 46, 79, 42, 89, 180, 0, 24, 4, 96]
abbrev dktX2_lays_3 : List UInt8 := dkwX2_lays_3 ++ dktX2_lays_4
def dkwX2_lays_2 : List UInt8 := [46, 164, 0, 23, 42, 180, 0, 15, 29, 42, 180, 0, 15, 29, 4, 100, 46, 79, 132, 3, 255, 167, 255, 215]
abbrev dktX2_lays_2 : List UInt8 := dkwX2_lays_2 ++ dktX2_lays_3
def dkwX2_lays_1 : List UInt8 := [180, 0, 24, 62, 29, 158, 0, 43, 42, 180, 0, 15, 29, 4, 100, 46, 42, 180, 0, 3, 180, 0, 28, 28]
abbrev dktX2_lays_1 : List UInt8 := dkwX2_lays_1 ++ dktX2_lays_2
def dkwX2_lays_0 : List UInt8 := [42, 3, 181, 0, 24, 3, 61, 28, 16, 20, 162, 0, 92, 27, 28, 122, 4, 126, 4, 160, 0, 77, 42]
abbrev dktX2_lays_0 : List UInt8 := dkwX2_lays_0 ++ dktX2_lays_1
theorem dksX2_lays_0 : cX2_lays.data.toList.drop 0 = dktX2_lays_0 := by decide +kernel
theorem dksX2_lays_1 : cX2_lays.data.toList.drop 23 = dktX2_lays_1 := dk_seg dksX2_lays_0 23 rfl rfl
theorem dksX2_lays_2 : cX2_lays.data.toList.drop 47 = dktX2_lays_2 := dk_seg dksX2_lays_1 24 rfl rfl
theorem dksX2_lays_3 : cX2_lays.data.toList.drop 71 = dktX2_lays_3 := dk_seg dksX2_lays_2 24 rfl rfl
theorem dksX2_lays_4 : cX2_lays.data.toList.drop 93 = dktX2_lays_4 := dk_seg dksX2_lays_3 22 rfl rfl
theorem dX2_lays_0 : decode cX2_lays 0 = .ok (.aload_n 0, 1) := dk_42 (dk_at dksX2_lays_0 0 rfl rfl)
theorem dX2_lays_1 : decode cX2_lays 1 = .ok (.iconst 0, 1) := dk_3 (dk_at dksX2_lays_0 1 rfl rfl)
theorem dX2_lays_2 : decode cX2_lays 2 = .ok (.putfield 24, 3) := dk_181 0 24 (dk_at dksX2_lays_0 2 rfl rfl)
theorem dX2_lays_5 : decode cX2_lays 5 = .ok (.iconst 0, 1) := dk_3 (dk_at dksX2_lays_0 5 rfl rfl)
theorem dX2_lays_6 : decode cX2_lays 6 = .ok (.istore_n 2, 1) := dk_61 (dk_at dksX2_lays_0 6 rfl rfl)
theorem dX2_lays_7 : decode cX2_lays 7 = .ok (.iload_n 2, 1) := dk_28 (dk_at dksX2_lays_0 7 rfl rfl)
theorem dX2_lays_8 : decode cX2_lays 8 = .ok (.bipush 20, 2) := dk_16 20 (dk_at dksX2_lays_0 8 rfl rfl)
theorem dX2_lays_10 : decode cX2_lays 10 = .ok (.if_icmp .ge 92, 3) := dk_162 0 92 (dk_at dksX2_lays_0 10 rfl rfl)
theorem dX2_lays_13 : decode cX2_lays 13 = .ok (.iload_n 1, 1) := dk_27 (dk_at dksX2_lays_0 13 rfl rfl)
theorem dX2_lays_14 : decode cX2_lays 14 = .ok (.iload_n 2, 1) := dk_28 (dk_at dksX2_lays_0 14 rfl rfl)
theorem dX2_lays_15 : decode cX2_lays 15 = .ok (.ishr, 1) := dk_122 (dk_at dksX2_lays_0 15 rfl rfl)
theorem dX2_lays_16 : decode cX2_lays 16 = .ok (.iconst 1, 1) := dk_4 (dk_at dksX2_lays_0 16 rfl rfl)
theorem dX2_lays_17 : decode cX2_lays 17 = .ok (.iand, 1) := dk_126 (dk_at dksX2_lays_0 17 rfl rfl)
theorem dX2_lays_18 : decode cX2_lays 18 = .ok (.iconst 1, 1) := dk_4 (dk_at dksX2_lays_0 18 rfl rfl)
theorem dX2_lays_19 : decode cX2_lays 19 = .ok (.if_icmp .ne 77, 3) := dk_160 0 77 (dk_at dksX2_lays_0 19 rfl rfl)
theorem dX2_lays_22 : decode cX2_lays 22 = .ok (.aload_n 0, 1) := dk_42 (dk_at dksX2_lays_0 22 rfl rfl)
theorem dX2_lays_23 : decode cX2_lays 23 = .ok (.getfield 24, 3) := dk_180 0 24 (dk_at dksX2_lays_1 0 rfl rfl)
theorem dX2_lays_26 : decode cX2_lays 26 = .ok (.istore_n 3, 1) := dk_62 (dk_at dksX2_lays_1 3 rfl rfl)
theorem dX2_lays_27 : decode cX2_lays 27 = .ok (.iload_n 3, 1) := dk_29 (dk_at dksX2_lays_1 4 rfl rfl)
theorem dX2_lays_28 : decode cX2_lays 28 = .ok (.ifCond .le 43, 3) := dk_158 0 43 (dk_at dksX2_lays_1 5 rfl rfl)
theorem dX2_lays_31 : decode cX2_lays 31 = .ok (.aload_n 0, 1) := dk_42 (dk_at dksX2_lays_1 8 rfl rfl)
theorem dX2_lays_32 : decode cX2_lays 32 = .ok (.getfield 15, 3) := dk_180 0 15 (dk_at dksX2_lays_1 9 rfl rfl)
theorem dX2_lays_35 : decode cX2_lays 35 = .ok (.iload_n 3, 1) := dk_29 (dk_at dksX2_lays_1 12 rfl rfl)
theorem dX2_lays_36 : decode cX2_lays 36 = .ok (.iconst 1, 1) := dk_4 (dk_at dksX2_lays_1 13 rfl rfl)
theorem dX2_lays_37 : decode cX2_lays 37 = .ok (.isub, 1) := dk_100 (dk_at dksX2_lays_1 14 rfl rfl)
theorem dX2_lays_38 : decode cX2_lays 38 = .ok (.iaload, 1) := dk_46 (dk_at dksX2_lays_1 15 rfl rfl)
theorem dX2_lays_39 : decode cX2_lays 39 = .ok (.aload_n 0, 1) := dk_42 (dk_at dksX2_lays_1 16 rfl rfl)
theorem dX2_lays_40 : decode cX2_lays 40 = .ok (.getfield 3, 3) := dk_180 0 3 (dk_at dksX2_lays_1 17 rfl rfl)
theorem dX2_lays_43 : decode cX2_lays 43 = .ok (.getfield 28, 3) := dk_180 0 28 (dk_at dksX2_lays_1 20 rfl rfl)
theorem dX2_lays_46 : decode cX2_lays 46 = .ok (.iload_n 2, 1) := dk_28 (dk_at dksX2_lays_1 23 rfl rfl)
theorem dX2_lays_47 : decode cX2_lays 47 = .ok (.iaload, 1) := dk_46 (dk_at dksX2_lays_2 0 rfl rfl)
theorem dX2_lays_48 : decode cX2_lays 48 = .ok (.if_icmp .le 23, 3) := dk_164 0 23 (dk_at dksX2_lays_2 1 rfl rfl)
theorem dX2_lays_51 : decode cX2_lays 51 = .ok (.aload_n 0, 1) := dk_42 (dk_at dksX2_lays_2 4 rfl rfl)
theorem dX2_lays_52 : decode cX2_lays 52 = .ok (.getfield 15, 3) := dk_180 0 15 (dk_at dksX2_lays_2 5 rfl rfl)
theorem dX2_lays_55 : decode cX2_lays 55 = .ok (.iload_n 3, 1) := dk_29 (dk_at dksX2_lays_2 8 rfl rfl)
theorem dX2_lays_56 : decode cX2_lays 56 = .ok (.aload_n 0, 1) := dk_42 (dk_at dksX2_lays_2 9 rfl rfl)
theorem dX2_lays_57 : decode cX2_lays 57 = .ok (.getfield 15, 3) := dk_180 0 15 (dk_at dksX2_lays_2 10 rfl rfl)
theorem dX2_lays_60 : decode cX2_lays 60 = .ok (.iload_n 3, 1) := dk_29 (dk_at dksX2_lays_2 13 rfl rfl)
theorem dX2_lays_61 : decode cX2_lays 61 = .ok (.iconst 1, 1) := dk_4 (dk_at dksX2_lays_2 14 rfl rfl)
theorem dX2_lays_62 : decode cX2_lays 62 = .ok (.isub, 1) := dk_100 (dk_at dksX2_lays_2 15 rfl rfl)
theorem dX2_lays_63 : decode cX2_lays 63 = .ok (.iaload, 1) := dk_46 (dk_at dksX2_lays_2 16 rfl rfl)
theorem dX2_lays_64 : decode cX2_lays 64 = .ok (.iastore, 1) := dk_79 (dk_at dksX2_lays_2 17 rfl rfl)
theorem dX2_lays_65 : decode cX2_lays 65 = .ok (.iinc 3 (-1), 3) := dk_132 3 255 (dk_at dksX2_lays_2 18 rfl rfl)
theorem dX2_lays_68 : decode cX2_lays 68 = .ok (.goto (-41), 3) := dk_167 255 215 (dk_at dksX2_lays_2 21 rfl rfl)
theorem dX2_lays_71 : decode cX2_lays 71 = .ok (.aload_n 0, 1) := dk_42 (dk_at dksX2_lays_3 0 rfl rfl)
theorem dX2_lays_72 : decode cX2_lays 72 = .ok (.getfield 15, 3) := dk_180 0 15 (dk_at dksX2_lays_3 1 rfl rfl)
theorem dX2_lays_75 : decode cX2_lays 75 = .ok (.iload_n 3, 1) := dk_29 (dk_at dksX2_lays_3 4 rfl rfl)
theorem dX2_lays_76 : decode cX2_lays 76 = .ok (.aload_n 0, 1) := dk_42 (dk_at dksX2_lays_3 5 rfl rfl)
theorem dX2_lays_77 : decode cX2_lays 77 = .ok (.getfield 3, 3) := dk_180 0 3 (dk_at dksX2_lays_3 6 rfl rfl)
theorem dX2_lays_80 : decode cX2_lays 80 = .ok (.getfield 28, 3) := dk_180 0 28 (dk_at dksX2_lays_3 9 rfl rfl)
theorem dX2_lays_83 : decode cX2_lays 83 = .ok (.iload_n 2, 1) := dk_28 (dk_at dksX2_lays_3 12 rfl rfl)
theorem dX2_lays_84 : decode cX2_lays 84 = .ok (.iaload, 1) := dk_46 (dk_at dksX2_lays_3 13 rfl rfl)
theorem dX2_lays_85 : decode cX2_lays 85 = .ok (.iastore, 1) := dk_79 (dk_at dksX2_lays_3 14 rfl rfl)
theorem dX2_lays_86 : decode cX2_lays 86 = .ok (.aload_n 0, 1) := dk_42 (dk_at dksX2_lays_3 15 rfl rfl)
theorem dX2_lays_87 : decode cX2_lays 87 = .ok (.dup, 1) := dk_89 (dk_at dksX2_lays_3 16 rfl rfl)
theorem dX2_lays_88 : decode cX2_lays 88 = .ok (.getfield 24, 3) := dk_180 0 24 (dk_at dksX2_lays_3 17 rfl rfl)
theorem dX2_lays_91 : decode cX2_lays 91 = .ok (.iconst 1, 1) := dk_4 (dk_at dksX2_lays_3 20 rfl rfl)
theorem dX2_lays_92 : decode cX2_lays 92 = .ok (.iadd, 1) := dk_96 (dk_at dksX2_lays_3 21 rfl rfl)
theorem dX2_lays_93 : decode cX2_lays 93 = .ok (.putfield 24, 3) := dk_181 0 24 (dk_at dksX2_lays_4 0 rfl rfl)
theorem dX2_lays_96 : decode cX2_lays 96 = .ok (.iinc 2 1, 3) := dk_132 2 1 (dk_at dksX2_lays_4 3 rfl rfl)
theorem dX2_lays_99 : decode cX2_lays 99 = .ok (.goto (-92), 3) := dk_167 255 164 (dk_at dksX2_lays_4 6 rfl rfl)
theorem dX2_lays_102 : decode cX2_lays 102 = .ok (.return_, 1) := dk_177 (dk_at dksX2_lays_4 9 rfl rfl)
abbrev cX2_least : ByteArray := prog_5_method_4_code
def yX2_least : MethodName := ⟨RX2, "least", "(II)I"⟩
def dkwX2_least_3 : List UInt8 := [167, 255, 192, 29, 172]
abbrev dktX2_least_3 : List UInt8 := dkwX2_least_3 ++ []
def dkwX2_least_2 : List UInt8 := [42, 180, 0, 21, 27, 4, 21, 4, 120, 2, 130, 126, 50, 21, 4, 46, 96, 184, 0, 51, 62, 132, 4, 1]
abbrev dktX2_least_2 : List UInt8 := dkwX2_least_2 ++ dktX2_least_3
def dkwX2_least_1 : List UInt8 := [160, 0, 45, 29, 42, 180, 0, 3, 42, 180, 0, 15, 28, 46, 42, 180, 0, 15, 21, 4, 46, 182, 0, 48]
abbrev dktX2_least_1 : List UInt8 := dkwX2_least_1 ++ dktX2_least_2
def dkwX2_least_0 : List UInt8 := [18, 47, 62, 3, 54, 4, 21, 4, 42, 180, 0, 24, 162, 0, 61, 27, 21, 4, 122, 4, 126, 4]
abbrev dktX2_least_0 : List UInt8 := dkwX2_least_0 ++ dktX2_least_1
theorem dksX2_least_0 : cX2_least.data.toList.drop 0 = dktX2_least_0 := by decide +kernel
theorem dksX2_least_1 : cX2_least.data.toList.drop 22 = dktX2_least_1 := dk_seg dksX2_least_0 22 rfl rfl
theorem dksX2_least_2 : cX2_least.data.toList.drop 46 = dktX2_least_2 := dk_seg dksX2_least_1 24 rfl rfl
theorem dksX2_least_3 : cX2_least.data.toList.drop 70 = dktX2_least_3 := dk_seg dksX2_least_2 24 rfl rfl
theorem dX2_least_0 : decode cX2_least 0 = .ok (.ldc 47, 2) := dk_18 47 (dk_at dksX2_least_0 0 rfl rfl)
theorem dX2_least_2 : decode cX2_least 2 = .ok (.istore_n 3, 1) := dk_62 (dk_at dksX2_least_0 2 rfl rfl)
theorem dX2_least_3 : decode cX2_least 3 = .ok (.iconst 0, 1) := dk_3 (dk_at dksX2_least_0 3 rfl rfl)
theorem dX2_least_4 : decode cX2_least 4 = .ok (.istore 4, 2) := dk_54 4 (dk_at dksX2_least_0 4 rfl rfl)
theorem dX2_least_6 : decode cX2_least 6 = .ok (.iload 4, 2) := dk_21 4 (dk_at dksX2_least_0 6 rfl rfl)
theorem dX2_least_8 : decode cX2_least 8 = .ok (.aload_n 0, 1) := dk_42 (dk_at dksX2_least_0 8 rfl rfl)
theorem dX2_least_9 : decode cX2_least 9 = .ok (.getfield 24, 3) := dk_180 0 24 (dk_at dksX2_least_0 9 rfl rfl)
theorem dX2_least_12 : decode cX2_least 12 = .ok (.if_icmp .ge 61, 3) := dk_162 0 61 (dk_at dksX2_least_0 12 rfl rfl)
theorem dX2_least_15 : decode cX2_least 15 = .ok (.iload_n 1, 1) := dk_27 (dk_at dksX2_least_0 15 rfl rfl)
theorem dX2_least_16 : decode cX2_least 16 = .ok (.iload 4, 2) := dk_21 4 (dk_at dksX2_least_0 16 rfl rfl)
theorem dX2_least_18 : decode cX2_least 18 = .ok (.ishr, 1) := dk_122 (dk_at dksX2_least_0 18 rfl rfl)
theorem dX2_least_19 : decode cX2_least 19 = .ok (.iconst 1, 1) := dk_4 (dk_at dksX2_least_0 19 rfl rfl)
theorem dX2_least_20 : decode cX2_least 20 = .ok (.iand, 1) := dk_126 (dk_at dksX2_least_0 20 rfl rfl)
theorem dX2_least_21 : decode cX2_least 21 = .ok (.iconst 1, 1) := dk_4 (dk_at dksX2_least_0 21 rfl rfl)
theorem dX2_least_22 : decode cX2_least 22 = .ok (.if_icmp .ne 45, 3) := dk_160 0 45 (dk_at dksX2_least_1 0 rfl rfl)
theorem dX2_least_25 : decode cX2_least 25 = .ok (.iload_n 3, 1) := dk_29 (dk_at dksX2_least_1 3 rfl rfl)
theorem dX2_least_26 : decode cX2_least 26 = .ok (.aload_n 0, 1) := dk_42 (dk_at dksX2_least_1 4 rfl rfl)
theorem dX2_least_27 : decode cX2_least 27 = .ok (.getfield 3, 3) := dk_180 0 3 (dk_at dksX2_least_1 5 rfl rfl)
theorem dX2_least_30 : decode cX2_least 30 = .ok (.aload_n 0, 1) := dk_42 (dk_at dksX2_least_1 8 rfl rfl)
theorem dX2_least_31 : decode cX2_least 31 = .ok (.getfield 15, 3) := dk_180 0 15 (dk_at dksX2_least_1 9 rfl rfl)
theorem dX2_least_34 : decode cX2_least 34 = .ok (.iload_n 2, 1) := dk_28 (dk_at dksX2_least_1 12 rfl rfl)
theorem dX2_least_35 : decode cX2_least 35 = .ok (.iaload, 1) := dk_46 (dk_at dksX2_least_1 13 rfl rfl)
theorem dX2_least_36 : decode cX2_least 36 = .ok (.aload_n 0, 1) := dk_42 (dk_at dksX2_least_1 14 rfl rfl)
theorem dX2_least_37 : decode cX2_least 37 = .ok (.getfield 15, 3) := dk_180 0 15 (dk_at dksX2_least_1 15 rfl rfl)
theorem dX2_least_40 : decode cX2_least 40 = .ok (.iload 4, 2) := dk_21 4 (dk_at dksX2_least_1 18 rfl rfl)
theorem dX2_least_42 : decode cX2_least 42 = .ok (.iaload, 1) := dk_46 (dk_at dksX2_least_1 20 rfl rfl)
theorem dX2_least_43 : decode cX2_least 43 = .ok (.invokevirtual 48, 3) := dk_182 0 48 (dk_at dksX2_least_1 21 rfl rfl)
theorem dX2_least_46 : decode cX2_least 46 = .ok (.aload_n 0, 1) := dk_42 (dk_at dksX2_least_2 0 rfl rfl)
theorem dX2_least_47 : decode cX2_least 47 = .ok (.getfield 21, 3) := dk_180 0 21 (dk_at dksX2_least_2 1 rfl rfl)
theorem dX2_least_50 : decode cX2_least 50 = .ok (.iload_n 1, 1) := dk_27 (dk_at dksX2_least_2 4 rfl rfl)
theorem dX2_least_51 : decode cX2_least 51 = .ok (.iconst 1, 1) := dk_4 (dk_at dksX2_least_2 5 rfl rfl)
theorem dX2_least_52 : decode cX2_least 52 = .ok (.iload 4, 2) := dk_21 4 (dk_at dksX2_least_2 6 rfl rfl)
theorem dX2_least_54 : decode cX2_least 54 = .ok (.ishl, 1) := dk_120 (dk_at dksX2_least_2 8 rfl rfl)
theorem dX2_least_55 : decode cX2_least 55 = .ok (.iconst (-1), 1) := dk_2 (dk_at dksX2_least_2 9 rfl rfl)
theorem dX2_least_56 : decode cX2_least 56 = .ok (.ixor, 1) := dk_130 (dk_at dksX2_least_2 10 rfl rfl)
theorem dX2_least_57 : decode cX2_least 57 = .ok (.iand, 1) := dk_126 (dk_at dksX2_least_2 11 rfl rfl)
theorem dX2_least_58 : decode cX2_least 58 = .ok (.aaload, 1) := dk_50 (dk_at dksX2_least_2 12 rfl rfl)
theorem dX2_least_59 : decode cX2_least 59 = .ok (.iload 4, 2) := dk_21 4 (dk_at dksX2_least_2 13 rfl rfl)
theorem dX2_least_61 : decode cX2_least 61 = .ok (.iaload, 1) := dk_46 (dk_at dksX2_least_2 15 rfl rfl)
theorem dX2_least_62 : decode cX2_least 62 = .ok (.iadd, 1) := dk_96 (dk_at dksX2_least_2 16 rfl rfl)
theorem dX2_least_63 : decode cX2_least 63 = .ok (.invokestatic 51, 3) := dk_184 0 51 (dk_at dksX2_least_2 17 rfl rfl)
theorem dX2_least_66 : decode cX2_least 66 = .ok (.istore_n 3, 1) := dk_62 (dk_at dksX2_least_2 20 rfl rfl)
theorem dX2_least_67 : decode cX2_least 67 = .ok (.iinc 4 1, 3) := dk_132 4 1 (dk_at dksX2_least_2 21 rfl rfl)
theorem dX2_least_70 : decode cX2_least 70 = .ok (.goto (-64), 3) := dk_167 255 192 (dk_at dksX2_least_3 0 rfl rfl)
theorem dX2_least_73 : decode cX2_least 73 = .ok (.iload_n 3, 1) := dk_29 (dk_at dksX2_least_3 3 rfl rfl)
theorem dX2_least_74 : decode cX2_least 74 = .ok (.ireturn, 1) := dk_172 (dk_at dksX2_least_3 4 rfl rfl)
abbrev cX2_leastFromStart : ByteArray := prog_5_method_5_code
def yX2_leastFromStart : MethodName := ⟨RX2, "leastFromStart", "()I"⟩
def dkwX2_leastFromStart_2 : List UInt8 := [96, 184, 0, 51, 60, 132, 2, 1, 167, 255, 205, 27, 172]
abbrev dktX2_leastFromStart_2 : List UInt8 := dkwX2_leastFromStart_2 ++ []
def dkwX2_leastFromStart_1 : List UInt8 := [182, 0, 35, 42, 180, 0, 21, 4, 42, 180, 0, 24, 120, 4, 100, 4, 28, 120, 2, 130, 126, 50, 28, 46]
abbrev dktX2_leastFromStart_1 : List UInt8 := dkwX2_leastFromStart_1 ++ dktX2_leastFromStart_2
def dkwX2_leastFromStart_0 : List UInt8 := [18, 47, 60, 3, 61, 28, 42, 180, 0, 24, 162, 0, 49, 27, 42, 180, 0, 3, 42, 180, 0, 15, 28, 46]
abbrev dktX2_leastFromStart_0 : List UInt8 := dkwX2_leastFromStart_0 ++ dktX2_leastFromStart_1
theorem dksX2_leastFromStart_0 : cX2_leastFromStart.data.toList.drop 0 = dktX2_leastFromStart_0 := by decide +kernel
theorem dksX2_leastFromStart_1 : cX2_leastFromStart.data.toList.drop 24 = dktX2_leastFromStart_1 := dk_seg dksX2_leastFromStart_0 24 rfl rfl
theorem dksX2_leastFromStart_2 : cX2_leastFromStart.data.toList.drop 48 = dktX2_leastFromStart_2 := dk_seg dksX2_leastFromStart_1 24 rfl rfl
theorem dX2_leastFromStart_0 : decode cX2_leastFromStart 0 = .ok (.ldc 47, 2) := dk_18 47 (dk_at dksX2_leastFromStart_0 0 rfl rfl)
theorem dX2_leastFromStart_2 : decode cX2_leastFromStart 2 = .ok (.istore_n 1, 1) := dk_60 (dk_at dksX2_leastFromStart_0 2 rfl rfl)
theorem dX2_leastFromStart_3 : decode cX2_leastFromStart 3 = .ok (.iconst 0, 1) := dk_3 (dk_at dksX2_leastFromStart_0 3 rfl rfl)
theorem dX2_leastFromStart_4 : decode cX2_leastFromStart 4 = .ok (.istore_n 2, 1) := dk_61 (dk_at dksX2_leastFromStart_0 4 rfl rfl)
theorem dX2_leastFromStart_5 : decode cX2_leastFromStart 5 = .ok (.iload_n 2, 1) := dk_28 (dk_at dksX2_leastFromStart_0 5 rfl rfl)
theorem dX2_leastFromStart_6 : decode cX2_leastFromStart 6 = .ok (.aload_n 0, 1) := dk_42 (dk_at dksX2_leastFromStart_0 6 rfl rfl)
theorem dX2_leastFromStart_7 : decode cX2_leastFromStart 7 = .ok (.getfield 24, 3) := dk_180 0 24 (dk_at dksX2_leastFromStart_0 7 rfl rfl)
theorem dX2_leastFromStart_10 : decode cX2_leastFromStart 10 = .ok (.if_icmp .ge 49, 3) := dk_162 0 49 (dk_at dksX2_leastFromStart_0 10 rfl rfl)
theorem dX2_leastFromStart_13 : decode cX2_leastFromStart 13 = .ok (.iload_n 1, 1) := dk_27 (dk_at dksX2_leastFromStart_0 13 rfl rfl)
theorem dX2_leastFromStart_14 : decode cX2_leastFromStart 14 = .ok (.aload_n 0, 1) := dk_42 (dk_at dksX2_leastFromStart_0 14 rfl rfl)
theorem dX2_leastFromStart_15 : decode cX2_leastFromStart 15 = .ok (.getfield 3, 3) := dk_180 0 3 (dk_at dksX2_leastFromStart_0 15 rfl rfl)
theorem dX2_leastFromStart_18 : decode cX2_leastFromStart 18 = .ok (.aload_n 0, 1) := dk_42 (dk_at dksX2_leastFromStart_0 18 rfl rfl)
theorem dX2_leastFromStart_19 : decode cX2_leastFromStart 19 = .ok (.getfield 15, 3) := dk_180 0 15 (dk_at dksX2_leastFromStart_0 19 rfl rfl)
theorem dX2_leastFromStart_22 : decode cX2_leastFromStart 22 = .ok (.iload_n 2, 1) := dk_28 (dk_at dksX2_leastFromStart_0 22 rfl rfl)
theorem dX2_leastFromStart_23 : decode cX2_leastFromStart 23 = .ok (.iaload, 1) := dk_46 (dk_at dksX2_leastFromStart_0 23 rfl rfl)
theorem dX2_leastFromStart_24 : decode cX2_leastFromStart 24 = .ok (.invokevirtual 35, 3) := dk_182 0 35 (dk_at dksX2_leastFromStart_1 0 rfl rfl)
theorem dX2_leastFromStart_27 : decode cX2_leastFromStart 27 = .ok (.aload_n 0, 1) := dk_42 (dk_at dksX2_leastFromStart_1 3 rfl rfl)
theorem dX2_leastFromStart_28 : decode cX2_leastFromStart 28 = .ok (.getfield 21, 3) := dk_180 0 21 (dk_at dksX2_leastFromStart_1 4 rfl rfl)
theorem dX2_leastFromStart_31 : decode cX2_leastFromStart 31 = .ok (.iconst 1, 1) := dk_4 (dk_at dksX2_leastFromStart_1 7 rfl rfl)
theorem dX2_leastFromStart_32 : decode cX2_leastFromStart 32 = .ok (.aload_n 0, 1) := dk_42 (dk_at dksX2_leastFromStart_1 8 rfl rfl)
theorem dX2_leastFromStart_33 : decode cX2_leastFromStart 33 = .ok (.getfield 24, 3) := dk_180 0 24 (dk_at dksX2_leastFromStart_1 9 rfl rfl)
theorem dX2_leastFromStart_36 : decode cX2_leastFromStart 36 = .ok (.ishl, 1) := dk_120 (dk_at dksX2_leastFromStart_1 12 rfl rfl)
theorem dX2_leastFromStart_37 : decode cX2_leastFromStart 37 = .ok (.iconst 1, 1) := dk_4 (dk_at dksX2_leastFromStart_1 13 rfl rfl)
theorem dX2_leastFromStart_38 : decode cX2_leastFromStart 38 = .ok (.isub, 1) := dk_100 (dk_at dksX2_leastFromStart_1 14 rfl rfl)
theorem dX2_leastFromStart_39 : decode cX2_leastFromStart 39 = .ok (.iconst 1, 1) := dk_4 (dk_at dksX2_leastFromStart_1 15 rfl rfl)
theorem dX2_leastFromStart_40 : decode cX2_leastFromStart 40 = .ok (.iload_n 2, 1) := dk_28 (dk_at dksX2_leastFromStart_1 16 rfl rfl)
theorem dX2_leastFromStart_41 : decode cX2_leastFromStart 41 = .ok (.ishl, 1) := dk_120 (dk_at dksX2_leastFromStart_1 17 rfl rfl)
theorem dX2_leastFromStart_42 : decode cX2_leastFromStart 42 = .ok (.iconst (-1), 1) := dk_2 (dk_at dksX2_leastFromStart_1 18 rfl rfl)
theorem dX2_leastFromStart_43 : decode cX2_leastFromStart 43 = .ok (.ixor, 1) := dk_130 (dk_at dksX2_leastFromStart_1 19 rfl rfl)
theorem dX2_leastFromStart_44 : decode cX2_leastFromStart 44 = .ok (.iand, 1) := dk_126 (dk_at dksX2_leastFromStart_1 20 rfl rfl)
theorem dX2_leastFromStart_45 : decode cX2_leastFromStart 45 = .ok (.aaload, 1) := dk_50 (dk_at dksX2_leastFromStart_1 21 rfl rfl)
theorem dX2_leastFromStart_46 : decode cX2_leastFromStart 46 = .ok (.iload_n 2, 1) := dk_28 (dk_at dksX2_leastFromStart_1 22 rfl rfl)
theorem dX2_leastFromStart_47 : decode cX2_leastFromStart 47 = .ok (.iaload, 1) := dk_46 (dk_at dksX2_leastFromStart_1 23 rfl rfl)
theorem dX2_leastFromStart_48 : decode cX2_leastFromStart 48 = .ok (.iadd, 1) := dk_96 (dk_at dksX2_leastFromStart_2 0 rfl rfl)
theorem dX2_leastFromStart_49 : decode cX2_leastFromStart 49 = .ok (.invokestatic 51, 3) := dk_184 0 51 (dk_at dksX2_leastFromStart_2 1 rfl rfl)
theorem dX2_leastFromStart_52 : decode cX2_leastFromStart 52 = .ok (.istore_n 1, 1) := dk_60 (dk_at dksX2_leastFromStart_2 4 rfl rfl)
theorem dX2_leastFromStart_53 : decode cX2_leastFromStart 53 = .ok (.iinc 2 1, 3) := dk_132 2 1 (dk_at dksX2_leastFromStart_2 5 rfl rfl)
theorem dX2_leastFromStart_56 : decode cX2_leastFromStart 56 = .ok (.goto (-51), 3) := dk_167 255 205 (dk_at dksX2_leastFromStart_2 8 rfl rfl)
theorem dX2_leastFromStart_59 : decode cX2_leastFromStart 59 = .ok (.iload_n 1, 1) := dk_27 (dk_at dksX2_leastFromStart_2 11 rfl rfl)
theorem dX2_leastFromStart_60 : decode cX2_leastFromStart 60 = .ok (.ireturn, 1) := dk_172 (dk_at dksX2_leastFromStart_2 12 rfl rfl)
abbrev cX2_byTrying : ByteArray := prog_5_method_8_code
def yX2_byTrying : MethodName := ⟨RX2, "byTrying", "(II)I"⟩
def dkwX2_byTrying_3 : List UInt8 := [132, 4, 1, 167, 255, 207, 29, 172]
abbrev dktX2_byTrying_3 : List UInt8 := dkwX2_byTrying_3 ++ []
def dkwX2_byTrying_2 : List UInt8 := [182, 0, 59, 42, 27, 4, 21, 4, 120, 2, 130, 126, 21, 4, 182, 0, 62, 96, 184, 0, 51, 62]
abbrev dktX2_byTrying_2 : List UInt8 := dkwX2_byTrying_2 ++ dktX2_byTrying_3
def dkwX2_byTrying_1 : List UInt8 := [21, 4, 42, 180, 0, 24, 162, 0, 46, 27, 21, 4, 122, 4, 126, 4, 160, 0, 30, 29, 42, 28, 21, 4]
abbrev dktX2_byTrying_1 : List UInt8 := dkwX2_byTrying_1 ++ dktX2_byTrying_2
def dkwX2_byTrying_0 : List UInt8 := [27, 154, 0, 17, 42, 180, 0, 3, 42, 180, 0, 15, 28, 46, 182, 0, 35, 172, 18, 47, 62, 3, 54, 4]
abbrev dktX2_byTrying_0 : List UInt8 := dkwX2_byTrying_0 ++ dktX2_byTrying_1
theorem dksX2_byTrying_0 : cX2_byTrying.data.toList.drop 0 = dktX2_byTrying_0 := by decide +kernel
theorem dksX2_byTrying_1 : cX2_byTrying.data.toList.drop 24 = dktX2_byTrying_1 := dk_seg dksX2_byTrying_0 24 rfl rfl
theorem dksX2_byTrying_2 : cX2_byTrying.data.toList.drop 48 = dktX2_byTrying_2 := dk_seg dksX2_byTrying_1 24 rfl rfl
theorem dksX2_byTrying_3 : cX2_byTrying.data.toList.drop 70 = dktX2_byTrying_3 := dk_seg dksX2_byTrying_2 22 rfl rfl
theorem dX2_byTrying_0 : decode cX2_byTrying 0 = .ok (.iload_n 1, 1) := dk_27 (dk_at dksX2_byTrying_0 0 rfl rfl)
theorem dX2_byTrying_1 : decode cX2_byTrying 1 = .ok (.ifCond .ne 17, 3) := dk_154 0 17 (dk_at dksX2_byTrying_0 1 rfl rfl)
theorem dX2_byTrying_4 : decode cX2_byTrying 4 = .ok (.aload_n 0, 1) := dk_42 (dk_at dksX2_byTrying_0 4 rfl rfl)
theorem dX2_byTrying_5 : decode cX2_byTrying 5 = .ok (.getfield 3, 3) := dk_180 0 3 (dk_at dksX2_byTrying_0 5 rfl rfl)
theorem dX2_byTrying_8 : decode cX2_byTrying 8 = .ok (.aload_n 0, 1) := dk_42 (dk_at dksX2_byTrying_0 8 rfl rfl)
theorem dX2_byTrying_9 : decode cX2_byTrying 9 = .ok (.getfield 15, 3) := dk_180 0 15 (dk_at dksX2_byTrying_0 9 rfl rfl)
theorem dX2_byTrying_12 : decode cX2_byTrying 12 = .ok (.iload_n 2, 1) := dk_28 (dk_at dksX2_byTrying_0 12 rfl rfl)
theorem dX2_byTrying_13 : decode cX2_byTrying 13 = .ok (.iaload, 1) := dk_46 (dk_at dksX2_byTrying_0 13 rfl rfl)
theorem dX2_byTrying_14 : decode cX2_byTrying 14 = .ok (.invokevirtual 35, 3) := dk_182 0 35 (dk_at dksX2_byTrying_0 14 rfl rfl)
theorem dX2_byTrying_17 : decode cX2_byTrying 17 = .ok (.ireturn, 1) := dk_172 (dk_at dksX2_byTrying_0 17 rfl rfl)
theorem dX2_byTrying_18 : decode cX2_byTrying 18 = .ok (.ldc 47, 2) := dk_18 47 (dk_at dksX2_byTrying_0 18 rfl rfl)
theorem dX2_byTrying_20 : decode cX2_byTrying 20 = .ok (.istore_n 3, 1) := dk_62 (dk_at dksX2_byTrying_0 20 rfl rfl)
theorem dX2_byTrying_21 : decode cX2_byTrying 21 = .ok (.iconst 0, 1) := dk_3 (dk_at dksX2_byTrying_0 21 rfl rfl)
theorem dX2_byTrying_22 : decode cX2_byTrying 22 = .ok (.istore 4, 2) := dk_54 4 (dk_at dksX2_byTrying_0 22 rfl rfl)
theorem dX2_byTrying_24 : decode cX2_byTrying 24 = .ok (.iload 4, 2) := dk_21 4 (dk_at dksX2_byTrying_1 0 rfl rfl)
theorem dX2_byTrying_26 : decode cX2_byTrying 26 = .ok (.aload_n 0, 1) := dk_42 (dk_at dksX2_byTrying_1 2 rfl rfl)
theorem dX2_byTrying_27 : decode cX2_byTrying 27 = .ok (.getfield 24, 3) := dk_180 0 24 (dk_at dksX2_byTrying_1 3 rfl rfl)
theorem dX2_byTrying_30 : decode cX2_byTrying 30 = .ok (.if_icmp .ge 46, 3) := dk_162 0 46 (dk_at dksX2_byTrying_1 6 rfl rfl)
theorem dX2_byTrying_33 : decode cX2_byTrying 33 = .ok (.iload_n 1, 1) := dk_27 (dk_at dksX2_byTrying_1 9 rfl rfl)
theorem dX2_byTrying_34 : decode cX2_byTrying 34 = .ok (.iload 4, 2) := dk_21 4 (dk_at dksX2_byTrying_1 10 rfl rfl)
theorem dX2_byTrying_36 : decode cX2_byTrying 36 = .ok (.ishr, 1) := dk_122 (dk_at dksX2_byTrying_1 12 rfl rfl)
theorem dX2_byTrying_37 : decode cX2_byTrying 37 = .ok (.iconst 1, 1) := dk_4 (dk_at dksX2_byTrying_1 13 rfl rfl)
theorem dX2_byTrying_38 : decode cX2_byTrying 38 = .ok (.iand, 1) := dk_126 (dk_at dksX2_byTrying_1 14 rfl rfl)
theorem dX2_byTrying_39 : decode cX2_byTrying 39 = .ok (.iconst 1, 1) := dk_4 (dk_at dksX2_byTrying_1 15 rfl rfl)
theorem dX2_byTrying_40 : decode cX2_byTrying 40 = .ok (.if_icmp .ne 30, 3) := dk_160 0 30 (dk_at dksX2_byTrying_1 16 rfl rfl)
theorem dX2_byTrying_43 : decode cX2_byTrying 43 = .ok (.iload_n 3, 1) := dk_29 (dk_at dksX2_byTrying_1 19 rfl rfl)
theorem dX2_byTrying_44 : decode cX2_byTrying 44 = .ok (.aload_n 0, 1) := dk_42 (dk_at dksX2_byTrying_1 20 rfl rfl)
theorem dX2_byTrying_45 : decode cX2_byTrying 45 = .ok (.iload_n 2, 1) := dk_28 (dk_at dksX2_byTrying_1 21 rfl rfl)
theorem dX2_byTrying_46 : decode cX2_byTrying 46 = .ok (.iload 4, 2) := dk_21 4 (dk_at dksX2_byTrying_1 22 rfl rfl)
theorem dX2_byTrying_48 : decode cX2_byTrying 48 = .ok (.invokevirtual 59, 3) := dk_182 0 59 (dk_at dksX2_byTrying_2 0 rfl rfl)
theorem dX2_byTrying_51 : decode cX2_byTrying 51 = .ok (.aload_n 0, 1) := dk_42 (dk_at dksX2_byTrying_2 3 rfl rfl)
theorem dX2_byTrying_52 : decode cX2_byTrying 52 = .ok (.iload_n 1, 1) := dk_27 (dk_at dksX2_byTrying_2 4 rfl rfl)
theorem dX2_byTrying_53 : decode cX2_byTrying 53 = .ok (.iconst 1, 1) := dk_4 (dk_at dksX2_byTrying_2 5 rfl rfl)
theorem dX2_byTrying_54 : decode cX2_byTrying 54 = .ok (.iload 4, 2) := dk_21 4 (dk_at dksX2_byTrying_2 6 rfl rfl)
theorem dX2_byTrying_56 : decode cX2_byTrying 56 = .ok (.ishl, 1) := dk_120 (dk_at dksX2_byTrying_2 8 rfl rfl)
theorem dX2_byTrying_57 : decode cX2_byTrying 57 = .ok (.iconst (-1), 1) := dk_2 (dk_at dksX2_byTrying_2 9 rfl rfl)
theorem dX2_byTrying_58 : decode cX2_byTrying 58 = .ok (.ixor, 1) := dk_130 (dk_at dksX2_byTrying_2 10 rfl rfl)
theorem dX2_byTrying_59 : decode cX2_byTrying 59 = .ok (.iand, 1) := dk_126 (dk_at dksX2_byTrying_2 11 rfl rfl)
theorem dX2_byTrying_60 : decode cX2_byTrying 60 = .ok (.iload 4, 2) := dk_21 4 (dk_at dksX2_byTrying_2 12 rfl rfl)
theorem dX2_byTrying_62 : decode cX2_byTrying 62 = .ok (.invokevirtual 62, 3) := dk_182 0 62 (dk_at dksX2_byTrying_2 14 rfl rfl)
theorem dX2_byTrying_65 : decode cX2_byTrying 65 = .ok (.iadd, 1) := dk_96 (dk_at dksX2_byTrying_2 17 rfl rfl)
theorem dX2_byTrying_66 : decode cX2_byTrying 66 = .ok (.invokestatic 51, 3) := dk_184 0 51 (dk_at dksX2_byTrying_2 18 rfl rfl)
theorem dX2_byTrying_69 : decode cX2_byTrying 69 = .ok (.istore_n 3, 1) := dk_62 (dk_at dksX2_byTrying_2 21 rfl rfl)
theorem dX2_byTrying_70 : decode cX2_byTrying 70 = .ok (.iinc 4 1, 3) := dk_132 4 1 (dk_at dksX2_byTrying_3 0 rfl rfl)
theorem dX2_byTrying_73 : decode cX2_byTrying 73 = .ok (.goto (-49), 3) := dk_167 255 207 (dk_at dksX2_byTrying_3 3 rfl rfl)
theorem dX2_byTrying_76 : decode cX2_byTrying 76 = .ok (.iload_n 3, 1) := dk_29 (dk_at dksX2_byTrying_3 6 rfl rfl)
theorem dX2_byTrying_77 : decode cX2_byTrying 77 = .ok (.ireturn, 1) := dk_172 (dk_at dksX2_byTrying_3 7 rfl rfl)
abbrev cX2_step : ByteArray := prog_5_method_7_code
def yX2_step : MethodName := ⟨RX2, "step", "(II)I"⟩
def dkwX2_step_1 : List UInt8 := [180, 0, 3, 42, 180, 0, 15, 27, 46, 42, 180, 0, 15, 28, 46, 182, 0, 48, 172]
abbrev dktX2_step_1 : List UInt8 := dkwX2_step_1 ++ []
def dkwX2_step_0 : List UInt8 := [27, 2, 160, 0, 19, 42, 180, 0, 3, 42, 180, 0, 15, 28, 46, 182, 0, 35, 167, 0, 22, 42]
abbrev dktX2_step_0 : List UInt8 := dkwX2_step_0 ++ dktX2_step_1
theorem dksX2_step_0 : cX2_step.data.toList.drop 0 = dktX2_step_0 := by decide +kernel
theorem dksX2_step_1 : cX2_step.data.toList.drop 22 = dktX2_step_1 := dk_seg dksX2_step_0 22 rfl rfl
theorem dX2_step_0 : decode cX2_step 0 = .ok (.iload_n 1, 1) := dk_27 (dk_at dksX2_step_0 0 rfl rfl)
theorem dX2_step_1 : decode cX2_step 1 = .ok (.iconst (-1), 1) := dk_2 (dk_at dksX2_step_0 1 rfl rfl)
theorem dX2_step_2 : decode cX2_step 2 = .ok (.if_icmp .ne 19, 3) := dk_160 0 19 (dk_at dksX2_step_0 2 rfl rfl)
theorem dX2_step_5 : decode cX2_step 5 = .ok (.aload_n 0, 1) := dk_42 (dk_at dksX2_step_0 5 rfl rfl)
theorem dX2_step_6 : decode cX2_step 6 = .ok (.getfield 3, 3) := dk_180 0 3 (dk_at dksX2_step_0 6 rfl rfl)
theorem dX2_step_9 : decode cX2_step 9 = .ok (.aload_n 0, 1) := dk_42 (dk_at dksX2_step_0 9 rfl rfl)
theorem dX2_step_10 : decode cX2_step 10 = .ok (.getfield 15, 3) := dk_180 0 15 (dk_at dksX2_step_0 10 rfl rfl)
theorem dX2_step_13 : decode cX2_step 13 = .ok (.iload_n 2, 1) := dk_28 (dk_at dksX2_step_0 13 rfl rfl)
theorem dX2_step_14 : decode cX2_step 14 = .ok (.iaload, 1) := dk_46 (dk_at dksX2_step_0 14 rfl rfl)
theorem dX2_step_15 : decode cX2_step 15 = .ok (.invokevirtual 35, 3) := dk_182 0 35 (dk_at dksX2_step_0 15 rfl rfl)
theorem dX2_step_18 : decode cX2_step 18 = .ok (.goto 22, 3) := dk_167 0 22 (dk_at dksX2_step_0 18 rfl rfl)
theorem dX2_step_21 : decode cX2_step 21 = .ok (.aload_n 0, 1) := dk_42 (dk_at dksX2_step_0 21 rfl rfl)
theorem dX2_step_22 : decode cX2_step 22 = .ok (.getfield 3, 3) := dk_180 0 3 (dk_at dksX2_step_1 0 rfl rfl)
theorem dX2_step_25 : decode cX2_step 25 = .ok (.aload_n 0, 1) := dk_42 (dk_at dksX2_step_1 3 rfl rfl)
theorem dX2_step_26 : decode cX2_step 26 = .ok (.getfield 15, 3) := dk_180 0 15 (dk_at dksX2_step_1 4 rfl rfl)
theorem dX2_step_29 : decode cX2_step 29 = .ok (.iload_n 1, 1) := dk_27 (dk_at dksX2_step_1 7 rfl rfl)
theorem dX2_step_30 : decode cX2_step 30 = .ok (.iaload, 1) := dk_46 (dk_at dksX2_step_1 8 rfl rfl)
theorem dX2_step_31 : decode cX2_step 31 = .ok (.aload_n 0, 1) := dk_42 (dk_at dksX2_step_1 9 rfl rfl)
theorem dX2_step_32 : decode cX2_step 32 = .ok (.getfield 15, 3) := dk_180 0 15 (dk_at dksX2_step_1 10 rfl rfl)
theorem dX2_step_35 : decode cX2_step 35 = .ok (.iload_n 2, 1) := dk_28 (dk_at dksX2_step_1 13 rfl rfl)
theorem dX2_step_36 : decode cX2_step 36 = .ok (.iaload, 1) := dk_46 (dk_at dksX2_step_1 14 rfl rfl)
theorem dX2_step_37 : decode cX2_step 37 = .ok (.invokevirtual 48, 3) := dk_182 0 48 (dk_at dksX2_step_1 15 rfl rfl)
theorem dX2_step_40 : decode cX2_step 40 = .ok (.ireturn, 1) := dk_172 (dk_at dksX2_step_1 18 rfl rfl)
abbrev cX2_through : ByteArray := prog_5_method_9_code
def yX2_through : MethodName := ⟨RX2, "through", "()I"⟩
def dkwX2_through_7 : List UInt8 := [3, 62, 132, 4, 1, 167, 255, 93, 27, 42, 180, 0, 3, 180, 0, 65, 28, 104, 96, 172]
abbrev dktX2_through_7 : List UInt8 := dkwX2_through_7 ++ []
def dkwX2_through_6 : List UInt8 := [42, 180, 0, 3, 180, 0, 68, 4, 96, 96, 60, 21, 6, 154, 0, 7, 29, 154, 0, 7, 4, 167, 0, 4]
abbrev dktX2_through_6 : List UInt8 := dkwX2_through_6 ++ dktX2_through_7
def dkwX2_through_5 : List UInt8 := [3, 54, 6, 27, 21, 6, 153, 0, 18, 5, 42, 180, 0, 15, 21, 4, 46, 16, 100, 112, 104, 167, 0, 12]
abbrev dktX2_through_5 : List UInt8 := dkwX2_through_5 ++ dktX2_through_6
def dkwX2_through_4 : List UInt8 := [46, 16, 100, 108, 61, 21, 4, 42, 180, 0, 24, 4, 100, 160, 0, 11, 29, 153, 0, 7, 4, 167, 0, 4]
abbrev dktX2_through_4 : List UInt8 := dkwX2_through_4 ++ dktX2_through_5
def dkwX2_through_3 : List UInt8 := [180, 0, 65, 42, 180, 0, 15, 21, 4, 46, 16, 100, 108, 28, 100, 104, 96, 60, 42, 180, 0, 15, 21, 4]
abbrev dktX2_through_3 : List UInt8 := dkwX2_through_3 ++ dktX2_through_4
def dkwX2_through_2 : List UInt8 := [16, 100, 108, 159, 0, 7, 4, 167, 0, 4, 3, 54, 5, 21, 5, 153, 0, 106, 27, 42, 180, 0, 3]
abbrev dktX2_through_2 : List UInt8 := dkwX2_through_2 ++ dktX2_through_3
def dkwX2_through_1 : List UInt8 := [4, 100, 159, 0, 28, 42, 180, 0, 15, 21, 4, 4, 96, 46, 16, 100, 108, 42, 180, 0, 15, 21, 4, 46]
abbrev dktX2_through_1 : List UInt8 := dkwX2_through_1 ++ dktX2_through_2
def dkwX2_through_0 : List UInt8 := [3, 60, 3, 61, 4, 62, 3, 54, 4, 21, 4, 42, 180, 0, 24, 162, 0, 160, 21, 4, 42, 180, 0, 24]
abbrev dktX2_through_0 : List UInt8 := dkwX2_through_0 ++ dktX2_through_1
theorem dksX2_through_0 : cX2_through.data.toList.drop 0 = dktX2_through_0 := by decide +kernel
theorem dksX2_through_1 : cX2_through.data.toList.drop 24 = dktX2_through_1 := dk_seg dksX2_through_0 24 rfl rfl
theorem dksX2_through_2 : cX2_through.data.toList.drop 48 = dktX2_through_2 := dk_seg dksX2_through_1 24 rfl rfl
theorem dksX2_through_3 : cX2_through.data.toList.drop 71 = dktX2_through_3 := dk_seg dksX2_through_2 23 rfl rfl
theorem dksX2_through_4 : cX2_through.data.toList.drop 95 = dktX2_through_4 := dk_seg dksX2_through_3 24 rfl rfl
theorem dksX2_through_5 : cX2_through.data.toList.drop 119 = dktX2_through_5 := dk_seg dksX2_through_4 24 rfl rfl
theorem dksX2_through_6 : cX2_through.data.toList.drop 143 = dktX2_through_6 := dk_seg dksX2_through_5 24 rfl rfl
theorem dksX2_through_7 : cX2_through.data.toList.drop 167 = dktX2_through_7 := dk_seg dksX2_through_6 24 rfl rfl
theorem dX2_through_0 : decode cX2_through 0 = .ok (.iconst 0, 1) := dk_3 (dk_at dksX2_through_0 0 rfl rfl)
theorem dX2_through_1 : decode cX2_through 1 = .ok (.istore_n 1, 1) := dk_60 (dk_at dksX2_through_0 1 rfl rfl)
theorem dX2_through_2 : decode cX2_through 2 = .ok (.iconst 0, 1) := dk_3 (dk_at dksX2_through_0 2 rfl rfl)
theorem dX2_through_3 : decode cX2_through 3 = .ok (.istore_n 2, 1) := dk_61 (dk_at dksX2_through_0 3 rfl rfl)
theorem dX2_through_4 : decode cX2_through 4 = .ok (.iconst 1, 1) := dk_4 (dk_at dksX2_through_0 4 rfl rfl)
theorem dX2_through_5 : decode cX2_through 5 = .ok (.istore_n 3, 1) := dk_62 (dk_at dksX2_through_0 5 rfl rfl)
theorem dX2_through_6 : decode cX2_through 6 = .ok (.iconst 0, 1) := dk_3 (dk_at dksX2_through_0 6 rfl rfl)
theorem dX2_through_7 : decode cX2_through 7 = .ok (.istore 4, 2) := dk_54 4 (dk_at dksX2_through_0 7 rfl rfl)
theorem dX2_through_9 : decode cX2_through 9 = .ok (.iload 4, 2) := dk_21 4 (dk_at dksX2_through_0 9 rfl rfl)
theorem dX2_through_11 : decode cX2_through 11 = .ok (.aload_n 0, 1) := dk_42 (dk_at dksX2_through_0 11 rfl rfl)
theorem dX2_through_12 : decode cX2_through 12 = .ok (.getfield 24, 3) := dk_180 0 24 (dk_at dksX2_through_0 12 rfl rfl)
theorem dX2_through_15 : decode cX2_through 15 = .ok (.if_icmp .ge 160, 3) := dk_162 0 160 (dk_at dksX2_through_0 15 rfl rfl)
theorem dX2_through_18 : decode cX2_through 18 = .ok (.iload 4, 2) := dk_21 4 (dk_at dksX2_through_0 18 rfl rfl)
theorem dX2_through_20 : decode cX2_through 20 = .ok (.aload_n 0, 1) := dk_42 (dk_at dksX2_through_0 20 rfl rfl)
theorem dX2_through_21 : decode cX2_through 21 = .ok (.getfield 24, 3) := dk_180 0 24 (dk_at dksX2_through_0 21 rfl rfl)
theorem dX2_through_24 : decode cX2_through 24 = .ok (.iconst 1, 1) := dk_4 (dk_at dksX2_through_1 0 rfl rfl)
theorem dX2_through_25 : decode cX2_through 25 = .ok (.isub, 1) := dk_100 (dk_at dksX2_through_1 1 rfl rfl)
theorem dX2_through_26 : decode cX2_through 26 = .ok (.if_icmp .eq 28, 3) := dk_159 0 28 (dk_at dksX2_through_1 2 rfl rfl)
theorem dX2_through_29 : decode cX2_through 29 = .ok (.aload_n 0, 1) := dk_42 (dk_at dksX2_through_1 5 rfl rfl)
theorem dX2_through_30 : decode cX2_through 30 = .ok (.getfield 15, 3) := dk_180 0 15 (dk_at dksX2_through_1 6 rfl rfl)
theorem dX2_through_33 : decode cX2_through 33 = .ok (.iload 4, 2) := dk_21 4 (dk_at dksX2_through_1 9 rfl rfl)
theorem dX2_through_35 : decode cX2_through 35 = .ok (.iconst 1, 1) := dk_4 (dk_at dksX2_through_1 11 rfl rfl)
theorem dX2_through_36 : decode cX2_through 36 = .ok (.iadd, 1) := dk_96 (dk_at dksX2_through_1 12 rfl rfl)
theorem dX2_through_37 : decode cX2_through 37 = .ok (.iaload, 1) := dk_46 (dk_at dksX2_through_1 13 rfl rfl)
theorem dX2_through_38 : decode cX2_through 38 = .ok (.bipush 100, 2) := dk_16 100 (dk_at dksX2_through_1 14 rfl rfl)
theorem dX2_through_40 : decode cX2_through 40 = .ok (.idiv, 1) := dk_108 (dk_at dksX2_through_1 16 rfl rfl)
theorem dX2_through_41 : decode cX2_through 41 = .ok (.aload_n 0, 1) := dk_42 (dk_at dksX2_through_1 17 rfl rfl)
theorem dX2_through_42 : decode cX2_through 42 = .ok (.getfield 15, 3) := dk_180 0 15 (dk_at dksX2_through_1 18 rfl rfl)
theorem dX2_through_45 : decode cX2_through 45 = .ok (.iload 4, 2) := dk_21 4 (dk_at dksX2_through_1 21 rfl rfl)
theorem dX2_through_47 : decode cX2_through 47 = .ok (.iaload, 1) := dk_46 (dk_at dksX2_through_1 23 rfl rfl)
theorem dX2_through_48 : decode cX2_through 48 = .ok (.bipush 100, 2) := dk_16 100 (dk_at dksX2_through_2 0 rfl rfl)
theorem dX2_through_50 : decode cX2_through 50 = .ok (.idiv, 1) := dk_108 (dk_at dksX2_through_2 2 rfl rfl)
theorem dX2_through_51 : decode cX2_through 51 = .ok (.if_icmp .eq 7, 3) := dk_159 0 7 (dk_at dksX2_through_2 3 rfl rfl)
theorem dX2_through_54 : decode cX2_through 54 = .ok (.iconst 1, 1) := dk_4 (dk_at dksX2_through_2 6 rfl rfl)
theorem dX2_through_55 : decode cX2_through 55 = .ok (.goto 4, 3) := dk_167 0 4 (dk_at dksX2_through_2 7 rfl rfl)
theorem dX2_through_58 : decode cX2_through 58 = .ok (.iconst 0, 1) := dk_3 (dk_at dksX2_through_2 10 rfl rfl)
theorem dX2_through_59 : decode cX2_through 59 = .ok (.istore 5, 2) := dk_54 5 (dk_at dksX2_through_2 11 rfl rfl)
theorem dX2_through_61 : decode cX2_through 61 = .ok (.iload 5, 2) := dk_21 5 (dk_at dksX2_through_2 13 rfl rfl)
theorem dX2_through_63 : decode cX2_through 63 = .ok (.ifCond .eq 106, 3) := dk_153 0 106 (dk_at dksX2_through_2 15 rfl rfl)
theorem dX2_through_66 : decode cX2_through 66 = .ok (.iload_n 1, 1) := dk_27 (dk_at dksX2_through_2 18 rfl rfl)
theorem dX2_through_67 : decode cX2_through 67 = .ok (.aload_n 0, 1) := dk_42 (dk_at dksX2_through_2 19 rfl rfl)
theorem dX2_through_68 : decode cX2_through 68 = .ok (.getfield 3, 3) := dk_180 0 3 (dk_at dksX2_through_2 20 rfl rfl)
theorem dX2_through_71 : decode cX2_through 71 = .ok (.getfield 65, 3) := dk_180 0 65 (dk_at dksX2_through_3 0 rfl rfl)
theorem dX2_through_74 : decode cX2_through 74 = .ok (.aload_n 0, 1) := dk_42 (dk_at dksX2_through_3 3 rfl rfl)
theorem dX2_through_75 : decode cX2_through 75 = .ok (.getfield 15, 3) := dk_180 0 15 (dk_at dksX2_through_3 4 rfl rfl)
theorem dX2_through_78 : decode cX2_through 78 = .ok (.iload 4, 2) := dk_21 4 (dk_at dksX2_through_3 7 rfl rfl)
theorem dX2_through_80 : decode cX2_through 80 = .ok (.iaload, 1) := dk_46 (dk_at dksX2_through_3 9 rfl rfl)
theorem dX2_through_81 : decode cX2_through 81 = .ok (.bipush 100, 2) := dk_16 100 (dk_at dksX2_through_3 10 rfl rfl)
theorem dX2_through_83 : decode cX2_through 83 = .ok (.idiv, 1) := dk_108 (dk_at dksX2_through_3 12 rfl rfl)
theorem dX2_through_84 : decode cX2_through 84 = .ok (.iload_n 2, 1) := dk_28 (dk_at dksX2_through_3 13 rfl rfl)
theorem dX2_through_85 : decode cX2_through 85 = .ok (.isub, 1) := dk_100 (dk_at dksX2_through_3 14 rfl rfl)
theorem dX2_through_86 : decode cX2_through 86 = .ok (.imul, 1) := dk_104 (dk_at dksX2_through_3 15 rfl rfl)
theorem dX2_through_87 : decode cX2_through 87 = .ok (.iadd, 1) := dk_96 (dk_at dksX2_through_3 16 rfl rfl)
theorem dX2_through_88 : decode cX2_through 88 = .ok (.istore_n 1, 1) := dk_60 (dk_at dksX2_through_3 17 rfl rfl)
theorem dX2_through_89 : decode cX2_through 89 = .ok (.aload_n 0, 1) := dk_42 (dk_at dksX2_through_3 18 rfl rfl)
theorem dX2_through_90 : decode cX2_through 90 = .ok (.getfield 15, 3) := dk_180 0 15 (dk_at dksX2_through_3 19 rfl rfl)
theorem dX2_through_93 : decode cX2_through 93 = .ok (.iload 4, 2) := dk_21 4 (dk_at dksX2_through_3 22 rfl rfl)
theorem dX2_through_95 : decode cX2_through 95 = .ok (.iaload, 1) := dk_46 (dk_at dksX2_through_4 0 rfl rfl)
theorem dX2_through_96 : decode cX2_through 96 = .ok (.bipush 100, 2) := dk_16 100 (dk_at dksX2_through_4 1 rfl rfl)
theorem dX2_through_98 : decode cX2_through 98 = .ok (.idiv, 1) := dk_108 (dk_at dksX2_through_4 3 rfl rfl)
theorem dX2_through_99 : decode cX2_through 99 = .ok (.istore_n 2, 1) := dk_61 (dk_at dksX2_through_4 4 rfl rfl)
theorem dX2_through_100 : decode cX2_through 100 = .ok (.iload 4, 2) := dk_21 4 (dk_at dksX2_through_4 5 rfl rfl)
theorem dX2_through_102 : decode cX2_through 102 = .ok (.aload_n 0, 1) := dk_42 (dk_at dksX2_through_4 7 rfl rfl)
theorem dX2_through_103 : decode cX2_through 103 = .ok (.getfield 24, 3) := dk_180 0 24 (dk_at dksX2_through_4 8 rfl rfl)
theorem dX2_through_106 : decode cX2_through 106 = .ok (.iconst 1, 1) := dk_4 (dk_at dksX2_through_4 11 rfl rfl)
theorem dX2_through_107 : decode cX2_through 107 = .ok (.isub, 1) := dk_100 (dk_at dksX2_through_4 12 rfl rfl)
theorem dX2_through_108 : decode cX2_through 108 = .ok (.if_icmp .ne 11, 3) := dk_160 0 11 (dk_at dksX2_through_4 13 rfl rfl)
theorem dX2_through_111 : decode cX2_through 111 = .ok (.iload_n 3, 1) := dk_29 (dk_at dksX2_through_4 16 rfl rfl)
theorem dX2_through_112 : decode cX2_through 112 = .ok (.ifCond .eq 7, 3) := dk_153 0 7 (dk_at dksX2_through_4 17 rfl rfl)
theorem dX2_through_115 : decode cX2_through 115 = .ok (.iconst 1, 1) := dk_4 (dk_at dksX2_through_4 20 rfl rfl)
theorem dX2_through_116 : decode cX2_through 116 = .ok (.goto 4, 3) := dk_167 0 4 (dk_at dksX2_through_4 21 rfl rfl)
theorem dX2_through_119 : decode cX2_through 119 = .ok (.iconst 0, 1) := dk_3 (dk_at dksX2_through_5 0 rfl rfl)
theorem dX2_through_120 : decode cX2_through 120 = .ok (.istore 6, 2) := dk_54 6 (dk_at dksX2_through_5 1 rfl rfl)
theorem dX2_through_122 : decode cX2_through 122 = .ok (.iload_n 1, 1) := dk_27 (dk_at dksX2_through_5 3 rfl rfl)
theorem dX2_through_123 : decode cX2_through 123 = .ok (.iload 6, 2) := dk_21 6 (dk_at dksX2_through_5 4 rfl rfl)
theorem dX2_through_125 : decode cX2_through 125 = .ok (.ifCond .eq 18, 3) := dk_153 0 18 (dk_at dksX2_through_5 6 rfl rfl)
theorem dX2_through_128 : decode cX2_through 128 = .ok (.iconst 2, 1) := dk_5 (dk_at dksX2_through_5 9 rfl rfl)
theorem dX2_through_129 : decode cX2_through 129 = .ok (.aload_n 0, 1) := dk_42 (dk_at dksX2_through_5 10 rfl rfl)
theorem dX2_through_130 : decode cX2_through 130 = .ok (.getfield 15, 3) := dk_180 0 15 (dk_at dksX2_through_5 11 rfl rfl)
theorem dX2_through_133 : decode cX2_through 133 = .ok (.iload 4, 2) := dk_21 4 (dk_at dksX2_through_5 14 rfl rfl)
theorem dX2_through_135 : decode cX2_through 135 = .ok (.iaload, 1) := dk_46 (dk_at dksX2_through_5 16 rfl rfl)
theorem dX2_through_136 : decode cX2_through 136 = .ok (.bipush 100, 2) := dk_16 100 (dk_at dksX2_through_5 17 rfl rfl)
theorem dX2_through_138 : decode cX2_through 138 = .ok (.irem, 1) := dk_112 (dk_at dksX2_through_5 19 rfl rfl)
theorem dX2_through_139 : decode cX2_through 139 = .ok (.imul, 1) := dk_104 (dk_at dksX2_through_5 20 rfl rfl)
theorem dX2_through_140 : decode cX2_through 140 = .ok (.goto 12, 3) := dk_167 0 12 (dk_at dksX2_through_5 21 rfl rfl)
theorem dX2_through_143 : decode cX2_through 143 = .ok (.aload_n 0, 1) := dk_42 (dk_at dksX2_through_6 0 rfl rfl)
theorem dX2_through_144 : decode cX2_through 144 = .ok (.getfield 3, 3) := dk_180 0 3 (dk_at dksX2_through_6 1 rfl rfl)
theorem dX2_through_147 : decode cX2_through 147 = .ok (.getfield 68, 3) := dk_180 0 68 (dk_at dksX2_through_6 4 rfl rfl)
theorem dX2_through_150 : decode cX2_through 150 = .ok (.iconst 1, 1) := dk_4 (dk_at dksX2_through_6 7 rfl rfl)
theorem dX2_through_151 : decode cX2_through 151 = .ok (.iadd, 1) := dk_96 (dk_at dksX2_through_6 8 rfl rfl)
theorem dX2_through_152 : decode cX2_through 152 = .ok (.iadd, 1) := dk_96 (dk_at dksX2_through_6 9 rfl rfl)
theorem dX2_through_153 : decode cX2_through 153 = .ok (.istore_n 1, 1) := dk_60 (dk_at dksX2_through_6 10 rfl rfl)
theorem dX2_through_154 : decode cX2_through 154 = .ok (.iload 6, 2) := dk_21 6 (dk_at dksX2_through_6 11 rfl rfl)
theorem dX2_through_156 : decode cX2_through 156 = .ok (.ifCond .ne 7, 3) := dk_154 0 7 (dk_at dksX2_through_6 13 rfl rfl)
theorem dX2_through_159 : decode cX2_through 159 = .ok (.iload_n 3, 1) := dk_29 (dk_at dksX2_through_6 16 rfl rfl)
theorem dX2_through_160 : decode cX2_through 160 = .ok (.ifCond .ne 7, 3) := dk_154 0 7 (dk_at dksX2_through_6 17 rfl rfl)
theorem dX2_through_163 : decode cX2_through 163 = .ok (.iconst 1, 1) := dk_4 (dk_at dksX2_through_6 20 rfl rfl)
theorem dX2_through_164 : decode cX2_through 164 = .ok (.goto 4, 3) := dk_167 0 4 (dk_at dksX2_through_6 21 rfl rfl)
theorem dX2_through_167 : decode cX2_through 167 = .ok (.iconst 0, 1) := dk_3 (dk_at dksX2_through_7 0 rfl rfl)
theorem dX2_through_168 : decode cX2_through 168 = .ok (.istore_n 3, 1) := dk_62 (dk_at dksX2_through_7 1 rfl rfl)
theorem dX2_through_169 : decode cX2_through 169 = .ok (.iinc 4 1, 3) := dk_132 4 1 (dk_at dksX2_through_7 2 rfl rfl)
theorem dX2_through_172 : decode cX2_through 172 = .ok (.goto (-163), 3) := dk_167 255 93 (dk_at dksX2_through_7 5 rfl rfl)
theorem dX2_through_175 : decode cX2_through 175 = .ok (.iload_n 1, 1) := dk_27 (dk_at dksX2_through_7 8 rfl rfl)
theorem dX2_through_176 : decode cX2_through 176 = .ok (.aload_n 0, 1) := dk_42 (dk_at dksX2_through_7 9 rfl rfl)
theorem dX2_through_177 : decode cX2_through 177 = .ok (.getfield 3, 3) := dk_180 0 3 (dk_at dksX2_through_7 10 rfl rfl)
theorem dX2_through_180 : decode cX2_through 180 = .ok (.getfield 65, 3) := dk_180 0 65 (dk_at dksX2_through_7 13 rfl rfl)
theorem dX2_through_183 : decode cX2_through 183 = .ok (.iload_n 2, 1) := dk_28 (dk_at dksX2_through_7 16 rfl rfl)
theorem dX2_through_184 : decode cX2_through 184 = .ok (.imul, 1) := dk_104 (dk_at dksX2_through_7 17 rfl rfl)
theorem dX2_through_185 : decode cX2_through 185 = .ok (.iadd, 1) := dk_96 (dk_at dksX2_through_7 18 rfl rfl)
theorem dX2_through_186 : decode cX2_through 186 = .ok (.ireturn, 1) := dk_172 (dk_at dksX2_through_7 19 rfl rfl)
abbrev cX2_stop : ByteArray := prog_5_method_6_code
def yX2_stop : MethodName := ⟨RX2, "stop", "(II)I"⟩
def dkwX2_stop_5 : List UInt8 := [46, 172]
abbrev dktX2_stop_5 : List UInt8 := dkwX2_stop_5 ++ []
def dkwX2_stop_4 : List UInt8 := [21, 7, 120, 2, 130, 126, 54, 4, 21, 7, 54, 5, 132, 6, 1, 167, 255, 172, 42, 180, 0, 15, 21, 5]
abbrev dktX2_stop_4 : List UInt8 := dkwX2_stop_4 ++ dktX2_stop_5
def dkwX2_stop_3 : List UInt8 := [159, 0, 9, 132, 7, 1, 167, 255, 213, 29, 42, 21, 5, 21, 7, 182, 0, 59, 100, 62, 21, 4, 4]
abbrev dktX2_stop_3 : List UInt8 := dkwX2_stop_3 ++ dktX2_stop_4
def dkwX2_stop_2 : List UInt8 := [182, 0, 59, 42, 180, 0, 21, 21, 4, 4, 21, 7, 120, 2, 130, 126, 50, 21, 7, 46, 96, 29]
abbrev dktX2_stop_2 : List UInt8 := dkwX2_stop_2 ++ dktX2_stop_3
def dkwX2_stop_1 : List UInt8 := [28, 163, 0, 84, 3, 54, 7, 21, 4, 21, 7, 122, 4, 126, 153, 0, 33, 42, 21, 5, 21, 7]
abbrev dktX2_stop_1 : List UInt8 := dkwX2_stop_1 ++ dktX2_stop_2
def dkwX2_stop_0 : List UInt8 := [42, 27, 182, 0, 56, 62, 4, 42, 180, 0, 24, 120, 4, 100, 54, 4, 2, 54, 5, 3, 54, 6, 21, 6]
abbrev dktX2_stop_0 : List UInt8 := dkwX2_stop_0 ++ dktX2_stop_1
theorem dksX2_stop_0 : cX2_stop.data.toList.drop 0 = dktX2_stop_0 := by decide +kernel
theorem dksX2_stop_1 : cX2_stop.data.toList.drop 24 = dktX2_stop_1 := dk_seg dksX2_stop_0 24 rfl rfl
theorem dksX2_stop_2 : cX2_stop.data.toList.drop 46 = dktX2_stop_2 := dk_seg dksX2_stop_1 22 rfl rfl
theorem dksX2_stop_3 : cX2_stop.data.toList.drop 68 = dktX2_stop_3 := dk_seg dksX2_stop_2 22 rfl rfl
theorem dksX2_stop_4 : cX2_stop.data.toList.drop 91 = dktX2_stop_4 := dk_seg dksX2_stop_3 23 rfl rfl
theorem dksX2_stop_5 : cX2_stop.data.toList.drop 115 = dktX2_stop_5 := dk_seg dksX2_stop_4 24 rfl rfl
theorem dX2_stop_0 : decode cX2_stop 0 = .ok (.aload_n 0, 1) := dk_42 (dk_at dksX2_stop_0 0 rfl rfl)
theorem dX2_stop_1 : decode cX2_stop 1 = .ok (.iload_n 1, 1) := dk_27 (dk_at dksX2_stop_0 1 rfl rfl)
theorem dX2_stop_2 : decode cX2_stop 2 = .ok (.invokevirtual 56, 3) := dk_182 0 56 (dk_at dksX2_stop_0 2 rfl rfl)
theorem dX2_stop_5 : decode cX2_stop 5 = .ok (.istore_n 3, 1) := dk_62 (dk_at dksX2_stop_0 5 rfl rfl)
theorem dX2_stop_6 : decode cX2_stop 6 = .ok (.iconst 1, 1) := dk_4 (dk_at dksX2_stop_0 6 rfl rfl)
theorem dX2_stop_7 : decode cX2_stop 7 = .ok (.aload_n 0, 1) := dk_42 (dk_at dksX2_stop_0 7 rfl rfl)
theorem dX2_stop_8 : decode cX2_stop 8 = .ok (.getfield 24, 3) := dk_180 0 24 (dk_at dksX2_stop_0 8 rfl rfl)
theorem dX2_stop_11 : decode cX2_stop 11 = .ok (.ishl, 1) := dk_120 (dk_at dksX2_stop_0 11 rfl rfl)
theorem dX2_stop_12 : decode cX2_stop 12 = .ok (.iconst 1, 1) := dk_4 (dk_at dksX2_stop_0 12 rfl rfl)
theorem dX2_stop_13 : decode cX2_stop 13 = .ok (.isub, 1) := dk_100 (dk_at dksX2_stop_0 13 rfl rfl)
theorem dX2_stop_14 : decode cX2_stop 14 = .ok (.istore 4, 2) := dk_54 4 (dk_at dksX2_stop_0 14 rfl rfl)
theorem dX2_stop_16 : decode cX2_stop 16 = .ok (.iconst (-1), 1) := dk_2 (dk_at dksX2_stop_0 16 rfl rfl)
theorem dX2_stop_17 : decode cX2_stop 17 = .ok (.istore 5, 2) := dk_54 5 (dk_at dksX2_stop_0 17 rfl rfl)
theorem dX2_stop_19 : decode cX2_stop 19 = .ok (.iconst 0, 1) := dk_3 (dk_at dksX2_stop_0 19 rfl rfl)
theorem dX2_stop_20 : decode cX2_stop 20 = .ok (.istore 6, 2) := dk_54 6 (dk_at dksX2_stop_0 20 rfl rfl)
theorem dX2_stop_22 : decode cX2_stop 22 = .ok (.iload 6, 2) := dk_21 6 (dk_at dksX2_stop_0 22 rfl rfl)
theorem dX2_stop_24 : decode cX2_stop 24 = .ok (.iload_n 2, 1) := dk_28 (dk_at dksX2_stop_1 0 rfl rfl)
theorem dX2_stop_25 : decode cX2_stop 25 = .ok (.if_icmp .gt 84, 3) := dk_163 0 84 (dk_at dksX2_stop_1 1 rfl rfl)
theorem dX2_stop_28 : decode cX2_stop 28 = .ok (.iconst 0, 1) := dk_3 (dk_at dksX2_stop_1 4 rfl rfl)
theorem dX2_stop_29 : decode cX2_stop 29 = .ok (.istore 7, 2) := dk_54 7 (dk_at dksX2_stop_1 5 rfl rfl)
theorem dX2_stop_31 : decode cX2_stop 31 = .ok (.iload 4, 2) := dk_21 4 (dk_at dksX2_stop_1 7 rfl rfl)
theorem dX2_stop_33 : decode cX2_stop 33 = .ok (.iload 7, 2) := dk_21 7 (dk_at dksX2_stop_1 9 rfl rfl)
theorem dX2_stop_35 : decode cX2_stop 35 = .ok (.ishr, 1) := dk_122 (dk_at dksX2_stop_1 11 rfl rfl)
theorem dX2_stop_36 : decode cX2_stop 36 = .ok (.iconst 1, 1) := dk_4 (dk_at dksX2_stop_1 12 rfl rfl)
theorem dX2_stop_37 : decode cX2_stop 37 = .ok (.iand, 1) := dk_126 (dk_at dksX2_stop_1 13 rfl rfl)
theorem dX2_stop_38 : decode cX2_stop 38 = .ok (.ifCond .eq 33, 3) := dk_153 0 33 (dk_at dksX2_stop_1 14 rfl rfl)
theorem dX2_stop_41 : decode cX2_stop 41 = .ok (.aload_n 0, 1) := dk_42 (dk_at dksX2_stop_1 17 rfl rfl)
theorem dX2_stop_42 : decode cX2_stop 42 = .ok (.iload 5, 2) := dk_21 5 (dk_at dksX2_stop_1 18 rfl rfl)
theorem dX2_stop_44 : decode cX2_stop 44 = .ok (.iload 7, 2) := dk_21 7 (dk_at dksX2_stop_1 20 rfl rfl)
theorem dX2_stop_46 : decode cX2_stop 46 = .ok (.invokevirtual 59, 3) := dk_182 0 59 (dk_at dksX2_stop_2 0 rfl rfl)
theorem dX2_stop_49 : decode cX2_stop 49 = .ok (.aload_n 0, 1) := dk_42 (dk_at dksX2_stop_2 3 rfl rfl)
theorem dX2_stop_50 : decode cX2_stop 50 = .ok (.getfield 21, 3) := dk_180 0 21 (dk_at dksX2_stop_2 4 rfl rfl)
theorem dX2_stop_53 : decode cX2_stop 53 = .ok (.iload 4, 2) := dk_21 4 (dk_at dksX2_stop_2 7 rfl rfl)
theorem dX2_stop_55 : decode cX2_stop 55 = .ok (.iconst 1, 1) := dk_4 (dk_at dksX2_stop_2 9 rfl rfl)
theorem dX2_stop_56 : decode cX2_stop 56 = .ok (.iload 7, 2) := dk_21 7 (dk_at dksX2_stop_2 10 rfl rfl)
theorem dX2_stop_58 : decode cX2_stop 58 = .ok (.ishl, 1) := dk_120 (dk_at dksX2_stop_2 12 rfl rfl)
theorem dX2_stop_59 : decode cX2_stop 59 = .ok (.iconst (-1), 1) := dk_2 (dk_at dksX2_stop_2 13 rfl rfl)
theorem dX2_stop_60 : decode cX2_stop 60 = .ok (.ixor, 1) := dk_130 (dk_at dksX2_stop_2 14 rfl rfl)
theorem dX2_stop_61 : decode cX2_stop 61 = .ok (.iand, 1) := dk_126 (dk_at dksX2_stop_2 15 rfl rfl)
theorem dX2_stop_62 : decode cX2_stop 62 = .ok (.aaload, 1) := dk_50 (dk_at dksX2_stop_2 16 rfl rfl)
theorem dX2_stop_63 : decode cX2_stop 63 = .ok (.iload 7, 2) := dk_21 7 (dk_at dksX2_stop_2 17 rfl rfl)
theorem dX2_stop_65 : decode cX2_stop 65 = .ok (.iaload, 1) := dk_46 (dk_at dksX2_stop_2 19 rfl rfl)
theorem dX2_stop_66 : decode cX2_stop 66 = .ok (.iadd, 1) := dk_96 (dk_at dksX2_stop_2 20 rfl rfl)
theorem dX2_stop_67 : decode cX2_stop 67 = .ok (.iload_n 3, 1) := dk_29 (dk_at dksX2_stop_2 21 rfl rfl)
theorem dX2_stop_68 : decode cX2_stop 68 = .ok (.if_icmp .eq 9, 3) := dk_159 0 9 (dk_at dksX2_stop_3 0 rfl rfl)
theorem dX2_stop_71 : decode cX2_stop 71 = .ok (.iinc 7 1, 3) := dk_132 7 1 (dk_at dksX2_stop_3 3 rfl rfl)
theorem dX2_stop_74 : decode cX2_stop 74 = .ok (.goto (-43), 3) := dk_167 255 213 (dk_at dksX2_stop_3 6 rfl rfl)
theorem dX2_stop_77 : decode cX2_stop 77 = .ok (.iload_n 3, 1) := dk_29 (dk_at dksX2_stop_3 9 rfl rfl)
theorem dX2_stop_78 : decode cX2_stop 78 = .ok (.aload_n 0, 1) := dk_42 (dk_at dksX2_stop_3 10 rfl rfl)
theorem dX2_stop_79 : decode cX2_stop 79 = .ok (.iload 5, 2) := dk_21 5 (dk_at dksX2_stop_3 11 rfl rfl)
theorem dX2_stop_81 : decode cX2_stop 81 = .ok (.iload 7, 2) := dk_21 7 (dk_at dksX2_stop_3 13 rfl rfl)
theorem dX2_stop_83 : decode cX2_stop 83 = .ok (.invokevirtual 59, 3) := dk_182 0 59 (dk_at dksX2_stop_3 15 rfl rfl)
theorem dX2_stop_86 : decode cX2_stop 86 = .ok (.isub, 1) := dk_100 (dk_at dksX2_stop_3 18 rfl rfl)
theorem dX2_stop_87 : decode cX2_stop 87 = .ok (.istore_n 3, 1) := dk_62 (dk_at dksX2_stop_3 19 rfl rfl)
theorem dX2_stop_88 : decode cX2_stop 88 = .ok (.iload 4, 2) := dk_21 4 (dk_at dksX2_stop_3 20 rfl rfl)
theorem dX2_stop_90 : decode cX2_stop 90 = .ok (.iconst 1, 1) := dk_4 (dk_at dksX2_stop_3 22 rfl rfl)
theorem dX2_stop_91 : decode cX2_stop 91 = .ok (.iload 7, 2) := dk_21 7 (dk_at dksX2_stop_4 0 rfl rfl)
theorem dX2_stop_93 : decode cX2_stop 93 = .ok (.ishl, 1) := dk_120 (dk_at dksX2_stop_4 2 rfl rfl)
theorem dX2_stop_94 : decode cX2_stop 94 = .ok (.iconst (-1), 1) := dk_2 (dk_at dksX2_stop_4 3 rfl rfl)
theorem dX2_stop_95 : decode cX2_stop 95 = .ok (.ixor, 1) := dk_130 (dk_at dksX2_stop_4 4 rfl rfl)
theorem dX2_stop_96 : decode cX2_stop 96 = .ok (.iand, 1) := dk_126 (dk_at dksX2_stop_4 5 rfl rfl)
theorem dX2_stop_97 : decode cX2_stop 97 = .ok (.istore 4, 2) := dk_54 4 (dk_at dksX2_stop_4 6 rfl rfl)
theorem dX2_stop_99 : decode cX2_stop 99 = .ok (.iload 7, 2) := dk_21 7 (dk_at dksX2_stop_4 8 rfl rfl)
theorem dX2_stop_101 : decode cX2_stop 101 = .ok (.istore 5, 2) := dk_54 5 (dk_at dksX2_stop_4 10 rfl rfl)
theorem dX2_stop_103 : decode cX2_stop 103 = .ok (.iinc 6 1, 3) := dk_132 6 1 (dk_at dksX2_stop_4 12 rfl rfl)
theorem dX2_stop_106 : decode cX2_stop 106 = .ok (.goto (-84), 3) := dk_167 255 172 (dk_at dksX2_stop_4 15 rfl rfl)
theorem dX2_stop_109 : decode cX2_stop 109 = .ok (.aload_n 0, 1) := dk_42 (dk_at dksX2_stop_4 18 rfl rfl)
theorem dX2_stop_110 : decode cX2_stop 110 = .ok (.getfield 15, 3) := dk_180 0 15 (dk_at dksX2_stop_4 19 rfl rfl)
theorem dX2_stop_113 : decode cX2_stop 113 = .ok (.iload 5, 2) := dk_21 5 (dk_at dksX2_stop_4 22 rfl rfl)
theorem dX2_stop_115 : decode cX2_stop 115 = .ok (.iaload, 1) := dk_46 (dk_at dksX2_stop_5 0 rfl rfl)
theorem dX2_stop_116 : decode cX2_stop 116 = .ok (.ireturn, 1) := dk_172 (dk_at dksX2_stop_5 1 rfl rfl)
theorem q42 : (Jvm.Cond.initialized "Aislewright$Router") ∈ lw_all := lw_g (lw_at lw_m1 5 rfl) rfl
theorem q112 : (Jvm.Cond.instantiable "Aislewright$Router" (4 : Nat)) ∈ lw_all := lw_g (lw_at lw_m1 75 rfl) rfl
theorem q114 : (Jvm.Cond.instanceMethod ({ cls := "Aislewright$Router", name := "<init>", desc := "(LAislewright;)V" } : Jvm.MethodName)) ∈ lw_all := lw_g (lw_at lw_m1 77 rfl) rfl
theorem q115 : (Jvm.Cond.code ({ cls := "Aislewright$Router", name := "<init>", desc := "(LAislewright;)V" } : Jvm.MethodName) prog_5_method_1_code (2 : Nat) (Option.none : Option Jvm.ClassFile.FieldType)) ∈ lw_all := lw_g (lw_at lw_m1 78 rfl) rfl
theorem q116 : (Jvm.Cond.methodLink "Aislewright$Router" (9 : Nat) ({ cls := "java/lang/Object", name := "<init>", desc := "()V" } : Jvm.MethodName)) ∈ lw_all := lw_g (lw_at lw_m1 79 rfl) rfl
theorem q117 : (Jvm.Cond.classLink "Aislewright$Router" (19 : Nat) "[[I") ∈ lw_all := lw_g (lw_at lw_m1 80 rfl) rfl
theorem q118 : (Jvm.Cond.fieldLink "Aislewright$Router" (15 : Nat) "Aislewright$Router" "places" "[I") ∈ lw_all := lw_g (lw_at lw_m1 81 rfl) rfl
theorem q119 : (Jvm.Cond.fieldLink "Aislewright$Router" (21 : Nat) "Aislewright$Router" "rest" "[[I") ∈ lw_all := lw_g (lw_at lw_m1 82 rfl) rfl
theorem q120 : (Jvm.Cond.fieldLink "Aislewright$Router" (24 : Nat) "Aislewright$Router" "many" "I") ∈ lw_all := lw_g (lw_at lw_m1 83 rfl) rfl
theorem q122 : (Jvm.Cond.fieldLink "Aislewright$Router" (3 : Nat) "Aislewright$Router" "this$0" "LAislewright;") ∈ lw_all := lw_g (lw_at lw_m1 85 rfl) rfl
theorem q123 : (Jvm.Cond.laysFinal "Aislewright$Router" "Aislewright$Router" "places" "[I") ∈ lw_all := lw_g (lw_at lw_m1 86 rfl) rfl
theorem q124 : (Jvm.Cond.soleField "Aislewright$Router" "places") ∈ lw_all := lw_g (lw_at lw_m1 87 rfl) rfl
theorem q125 : (Jvm.Cond.laysFinal "Aislewright$Router" "Aislewright$Router" "rest" "[[I") ∈ lw_all := lw_g (lw_at lw_m1 88 rfl) rfl
theorem q126 : (Jvm.Cond.soleField "Aislewright$Router" "rest") ∈ lw_all := lw_g (lw_at lw_m1 89 rfl) rfl
theorem q127 : (Jvm.Cond.lays "Aislewright$Router" "Aislewright$Router" "many" "I") ∈ lw_all := lw_g (lw_at lw_m1 90 rfl) rfl
theorem q128 : (Jvm.Cond.soleField "Aislewright$Router" "many") ∈ lw_all := lw_g (lw_at lw_m1 91 rfl) rfl
theorem q129 : (Jvm.Cond.laysFinal "Aislewright$Router" "Aislewright$Router" "this$0" "LAislewright;") ∈ lw_all := lw_g (lw_at lw_m1 92 rfl) rfl
theorem q130 : (Jvm.Cond.soleField "Aislewright$Router" "this$0") ∈ lw_all := lw_g (lw_at lw_m1 93 rfl) rfl
theorem q131 : (Jvm.Cond.superclass "Aislewright$Router" "java/lang/Object") ∈ lw_all := lw_g (lw_at lw_m1 94 rfl) rfl
theorem q140 : (Jvm.Cond.fieldLinkNest "Aislewright$Router" (68 : Nat) "Aislewright" "positions" "I" "Aislewright") ∈ lw_tbl := lw_at lw_m1 103 rfl
theorem q142 : (Jvm.Cond.fieldLinkNest "Aislewright$Router" (65 : Nat) "Aislewright" "gap" "I" "Aislewright") ∈ lw_tbl := lw_at lw_m1 105 rfl
theorem q144 : (Jvm.Cond.fieldLinkNest "Aislewright$Router" (28 : Nat) "Aislewright" "placeOfProduct" "[I" "Aislewright") ∈ lw_tbl := lw_at lw_m1 107 rfl
theorem q881 : (Jvm.Cond.selects "Aislewright$Router" ({ cls := "java/lang/Object", name := "getClass", desc := "()Ljava/lang/Class;" } : Jvm.MethodName) ({ cls := "java/lang/Object", name := "getClass", desc := "()Ljava/lang/Class;" } : Jvm.MethodName)) ∈ lw_all := lw_g (lw_at lw_m4 124 rfl) rfl
theorem q1022 : (Jvm.Cond.instanceMethod ({ cls := "Aislewright$Router", name := "length", desc := "(I)I" } : Jvm.MethodName)) ∈ lw_all := lw_g (lw_at lw_m5 25 rfl) rfl
theorem q1023 : (Jvm.Cond.selects "Aislewright$Router" ({ cls := "Aislewright$Router", name := "length", desc := "(I)I" } : Jvm.MethodName) ({ cls := "Aislewright$Router", name := "length", desc := "(I)I" } : Jvm.MethodName)) ∈ lw_all := lw_g (lw_at lw_m5 26 rfl) rfl
theorem q1024 : (Jvm.Cond.code ({ cls := "Aislewright$Router", name := "length", desc := "(I)I" } : Jvm.MethodName) prog_5_method_3_code (4 : Nat) (Option.some Jvm.ClassFile.FieldType.int)) ∈ lw_all := lw_g (lw_at lw_m5 27 rfl) rfl
theorem q1025 : (Jvm.Cond.methodLink "Aislewright$Router" (31 : Nat) ({ cls := "Aislewright$Router", name := "lays", desc := "(I)V" } : Jvm.MethodName)) ∈ lw_all := lw_g (lw_at lw_m5 28 rfl) rfl
theorem q1026 : (Jvm.Cond.privateMethod ({ cls := "Aislewright$Router", name := "lays", desc := "(I)V" } : Jvm.MethodName)) ∈ lw_tbl := lw_at lw_m5 29 rfl
theorem q1027 : (Jvm.Cond.instanceMethod ({ cls := "Aislewright$Router", name := "lays", desc := "(I)V" } : Jvm.MethodName)) ∈ lw_all := lw_g (lw_at lw_m5 30 rfl) rfl
theorem q1028 : (Jvm.Cond.code ({ cls := "Aislewright$Router", name := "lays", desc := "(I)V" } : Jvm.MethodName) prog_5_method_2_code (4 : Nat) (Option.none : Option Jvm.ClassFile.FieldType)) ∈ lw_all := lw_g (lw_at lw_m5 31 rfl) rfl
theorem q1029 : (Jvm.Cond.methodLinkNest "Aislewright$Router" (35 : Nat) ({ cls := "Aislewright", name := "fromStart", desc := "(I)I" } : Jvm.MethodName) "Aislewright") ∈ lw_tbl := lw_at lw_m5 32 rfl
theorem q1030 : (Jvm.Cond.methodLink "Aislewright$Router" (39 : Nat) ({ cls := "Aislewright$Router", name := "least", desc := "(II)I" } : Jvm.MethodName)) ∈ lw_all := lw_g (lw_at lw_m5 33 rfl) rfl
theorem q1031 : (Jvm.Cond.privateMethod ({ cls := "Aislewright$Router", name := "least", desc := "(II)I" } : Jvm.MethodName)) ∈ lw_tbl := lw_at lw_m5 34 rfl
theorem q1032 : (Jvm.Cond.instanceMethod ({ cls := "Aislewright$Router", name := "least", desc := "(II)I" } : Jvm.MethodName)) ∈ lw_all := lw_g (lw_at lw_m5 35 rfl) rfl
theorem q1033 : (Jvm.Cond.code ({ cls := "Aislewright$Router", name := "least", desc := "(II)I" } : Jvm.MethodName) prog_5_method_4_code (5 : Nat) (Option.some Jvm.ClassFile.FieldType.int)) ∈ lw_all := lw_g (lw_at lw_m5 36 rfl) rfl
theorem q1034 : (Jvm.Cond.constant "Aislewright$Router" (47 : Nat) (1000000 : Int32)) ∈ lw_all := lw_g (lw_at lw_m5 37 rfl) rfl
theorem q1035 : (Jvm.Cond.methodLinkNest "Aislewright$Router" (48 : Nat) ({ cls := "Aislewright", name := "between", desc := "(II)I" } : Jvm.MethodName) "Aislewright") ∈ lw_tbl := lw_at lw_m5 38 rfl
theorem q1036 : (Jvm.Cond.methodLink "Aislewright$Router" (51 : Nat) ({ cls := "java/lang/Math", name := "min", desc := "(II)I" } : Jvm.MethodName)) ∈ lw_all := lw_g (lw_at lw_m5 39 rfl) rfl
theorem q1037 : (Jvm.Cond.methodLink "Aislewright$Router" (43 : Nat) ({ cls := "Aislewright$Router", name := "leastFromStart", desc := "()I" } : Jvm.MethodName)) ∈ lw_all := lw_g (lw_at lw_m5 40 rfl) rfl
theorem q1038 : (Jvm.Cond.privateMethod ({ cls := "Aislewright$Router", name := "leastFromStart", desc := "()I" } : Jvm.MethodName)) ∈ lw_tbl := lw_at lw_m5 41 rfl
theorem q1039 : (Jvm.Cond.instanceMethod ({ cls := "Aislewright$Router", name := "leastFromStart", desc := "()I" } : Jvm.MethodName)) ∈ lw_all := lw_g (lw_at lw_m5 42 rfl) rfl
theorem q1040 : (Jvm.Cond.code ({ cls := "Aislewright$Router", name := "leastFromStart", desc := "()I" } : Jvm.MethodName) prog_5_method_5_code (3 : Nat) (Option.some Jvm.ClassFile.FieldType.int)) ∈ lw_all := lw_g (lw_at lw_m5 43 rfl) rfl
theorem q1222 : (Jvm.Cond.selects "Aislewright$Router" ({ cls := "java/lang/Object", name := "equals", desc := "(Ljava/lang/Object;)Z" } : Jvm.MethodName) ({ cls := "java/lang/Object", name := "equals", desc := "(Ljava/lang/Object;)Z" } : Jvm.MethodName)) ∈ lw_all := lw_g (lw_at lw_m5 225 rfl) rfl
theorem q1262 : (Jvm.Cond.instanceMethod ({ cls := "Aislewright$Router", name := "byTrying", desc := "(II)I" } : Jvm.MethodName)) ∈ lw_all := lw_g (lw_at lw_m6 25 rfl) rfl
theorem q1263 : (Jvm.Cond.selects "Aislewright$Router" ({ cls := "Aislewright$Router", name := "byTrying", desc := "(II)I" } : Jvm.MethodName) ({ cls := "Aislewright$Router", name := "byTrying", desc := "(II)I" } : Jvm.MethodName)) ∈ lw_all := lw_g (lw_at lw_m6 26 rfl) rfl
theorem q1264 : (Jvm.Cond.code ({ cls := "Aislewright$Router", name := "byTrying", desc := "(II)I" } : Jvm.MethodName) prog_5_method_8_code (5 : Nat) (Option.some Jvm.ClassFile.FieldType.int)) ∈ lw_all := lw_g (lw_at lw_m6 27 rfl) rfl
theorem q1265 : (Jvm.Cond.methodLink "Aislewright$Router" (59 : Nat) ({ cls := "Aislewright$Router", name := "step", desc := "(II)I" } : Jvm.MethodName)) ∈ lw_all := lw_g (lw_at lw_m6 28 rfl) rfl
theorem q1266 : (Jvm.Cond.privateMethod ({ cls := "Aislewright$Router", name := "step", desc := "(II)I" } : Jvm.MethodName)) ∈ lw_tbl := lw_at lw_m6 29 rfl
theorem q1267 : (Jvm.Cond.instanceMethod ({ cls := "Aislewright$Router", name := "step", desc := "(II)I" } : Jvm.MethodName)) ∈ lw_all := lw_g (lw_at lw_m6 30 rfl) rfl
theorem q1268 : (Jvm.Cond.code ({ cls := "Aislewright$Router", name := "step", desc := "(II)I" } : Jvm.MethodName) prog_5_method_7_code (3 : Nat) (Option.some Jvm.ClassFile.FieldType.int)) ∈ lw_all := lw_g (lw_at lw_m6 31 rfl) rfl
theorem q1269 : (Jvm.Cond.methodLink "Aislewright$Router" (62 : Nat) ({ cls := "Aislewright$Router", name := "byTrying", desc := "(II)I" } : Jvm.MethodName)) ∈ lw_all := lw_g (lw_at lw_m6 32 rfl) rfl
theorem q1278 : (Jvm.Cond.instanceMethod ({ cls := "Aislewright$Router", name := "through", desc := "()I" } : Jvm.MethodName)) ∈ lw_all := lw_g (lw_at lw_m6 41 rfl) rfl
theorem q1279 : (Jvm.Cond.selects "Aislewright$Router" ({ cls := "Aislewright$Router", name := "through", desc := "()I" } : Jvm.MethodName) ({ cls := "Aislewright$Router", name := "through", desc := "()I" } : Jvm.MethodName)) ∈ lw_all := lw_g (lw_at lw_m6 42 rfl) rfl
theorem q1280 : (Jvm.Cond.code ({ cls := "Aislewright$Router", name := "through", desc := "()I" } : Jvm.MethodName) prog_5_method_9_code (7 : Nat) (Option.some Jvm.ClassFile.FieldType.int)) ∈ lw_all := lw_g (lw_at lw_m6 43 rfl) rfl
theorem q1297 : (Jvm.Cond.instanceMethod ({ cls := "Aislewright$Router", name := "stop", desc := "(II)I" } : Jvm.MethodName)) ∈ lw_all := lw_g (lw_at lw_m6 60 rfl) rfl
theorem q1298 : (Jvm.Cond.selects "Aislewright$Router" ({ cls := "Aislewright$Router", name := "stop", desc := "(II)I" } : Jvm.MethodName) ({ cls := "Aislewright$Router", name := "stop", desc := "(II)I" } : Jvm.MethodName)) ∈ lw_all := lw_g (lw_at lw_m6 61 rfl) rfl
theorem q1299 : (Jvm.Cond.code ({ cls := "Aislewright$Router", name := "stop", desc := "(II)I" } : Jvm.MethodName) prog_5_method_6_code (8 : Nat) (Option.some Jvm.ClassFile.FieldType.int)) ∈ lw_all := lw_g (lw_at lw_m6 62 rfl) rfl
theorem q1300 : (Jvm.Cond.methodLink "Aislewright$Router" (56 : Nat) ({ cls := "Aislewright$Router", name := "length", desc := "(I)I" } : Jvm.MethodName)) ∈ lw_all := lw_g (lw_at lw_m6 63 rfl) rfl
theorem q1575 : (Jvm.Cond.castable "Aislewright$Router" "java/lang/Object") ∈ lw_tbl := lw_at lw_m7 98 rfl
theorem in_X2 : ∀ w ∈ wsX20, w ∈ lw_all := lw_in wsX20 [123, 125, 127, 129] (by decide +kernel) (by decide +kernel)
/-! Aislewright$Ranked -/
set_option maxRecDepth 100000
def RX4 : String := "Aislewright$Ranked"
def TX4 : u_T := fun k => match k with
  | 0 => ("Aislewright$Ranked", "worth", "I", true)
  | _ => ("Aislewright$Ranked", "number", "I", true)
def tyX4 : Nat → FieldType := fun k => match k with
  | 0 => .int
  | _ => .int
abbrev wsX40 : List Cond := u_ws RX4 TX4 2
theorem nmX4 : ∀ a, a < 2 → ∀ b, b < 2 → a ≠ b → (TX4 a).2.1 ≠ (TX4 b).2.1 := by decide +kernel
theorem tyX4_ok : ∀ k, k < 2 → parseFieldDescriptor (TX4 k).2.2.1 = some (tyX4 k) := by decide +kernel
abbrev cX4_init : ByteArray := prog_4_method_1_code
def yX4_init : MethodName := ⟨RX4, "<init>", "(II)V"⟩
def dkwX4_init_0 : List UInt8 := [42, 183, 0, 1, 42, 27, 181, 0, 7, 42, 28, 181, 0, 13, 177]
abbrev dktX4_init_0 : List UInt8 := dkwX4_init_0 ++ []
theorem dksX4_init_0 : cX4_init.data.toList.drop 0 = dktX4_init_0 := by decide +kernel
theorem dX4_init_0 : decode cX4_init 0 = .ok (.aload_n 0, 1) := dk_42 (dk_at dksX4_init_0 0 rfl rfl)
theorem dX4_init_1 : decode cX4_init 1 = .ok (.invokespecial 1, 3) := dk_183 0 1 (dk_at dksX4_init_0 1 rfl rfl)
theorem dX4_init_4 : decode cX4_init 4 = .ok (.aload_n 0, 1) := dk_42 (dk_at dksX4_init_0 4 rfl rfl)
theorem dX4_init_5 : decode cX4_init 5 = .ok (.iload_n 1, 1) := dk_27 (dk_at dksX4_init_0 5 rfl rfl)
theorem dX4_init_6 : decode cX4_init 6 = .ok (.putfield 7, 3) := dk_181 0 7 (dk_at dksX4_init_0 6 rfl rfl)
theorem dX4_init_9 : decode cX4_init 9 = .ok (.aload_n 0, 1) := dk_42 (dk_at dksX4_init_0 9 rfl rfl)
theorem dX4_init_10 : decode cX4_init 10 = .ok (.iload_n 2, 1) := dk_28 (dk_at dksX4_init_0 10 rfl rfl)
theorem dX4_init_11 : decode cX4_init 11 = .ok (.putfield 13, 3) := dk_181 0 13 (dk_at dksX4_init_0 11 rfl rfl)
theorem dX4_init_14 : decode cX4_init 14 = .ok (.return_, 1) := dk_177 (dk_at dksX4_init_0 14 rfl rfl)
abbrev cX4_compareTo : ByteArray := prog_4_method_3_code
def yX4_compareTo : MethodName := ⟨RX4, "compareTo", "(Ljava/lang/Object;)I"⟩
def dkwX4_compareTo_0 : List UInt8 := [42, 43, 192, 0, 8, 182, 0, 22, 172]
abbrev dktX4_compareTo_0 : List UInt8 := dkwX4_compareTo_0 ++ []
theorem dksX4_compareTo_0 : cX4_compareTo.data.toList.drop 0 = dktX4_compareTo_0 := by decide +kernel
theorem dX4_compareTo_0 : decode cX4_compareTo 0 = .ok (.aload_n 0, 1) := dk_42 (dk_at dksX4_compareTo_0 0 rfl rfl)
theorem dX4_compareTo_1 : decode cX4_compareTo 1 = .ok (.aload_n 1, 1) := dk_43 (dk_at dksX4_compareTo_0 1 rfl rfl)
theorem dX4_compareTo_2 : decode cX4_compareTo 2 = .ok (.checkcast 8, 3) := dk_192 0 8 (dk_at dksX4_compareTo_0 2 rfl rfl)
theorem dX4_compareTo_5 : decode cX4_compareTo 5 = .ok (.invokevirtual 22, 3) := dk_182 0 22 (dk_at dksX4_compareTo_0 5 rfl rfl)
theorem dX4_compareTo_8 : decode cX4_compareTo 8 = .ok (.ireturn, 1) := dk_172 (dk_at dksX4_compareTo_0 8 rfl rfl)
abbrev cX4_compareTo_2 : ByteArray := prog_4_method_2_code
def yX4_compareTo_2 : MethodName := ⟨RX4, "compareTo", "(LAislewright$Ranked;)I"⟩
def dkwX4_compareTo_2_1 : List UInt8 := [167, 0, 14, 42, 180, 0, 13, 43, 180, 0, 13, 184, 0, 16, 172]
abbrev dktX4_compareTo_2_1 : List UInt8 := dkwX4_compareTo_2_1 ++ []
def dkwX4_compareTo_2_0 : List UInt8 := [42, 180, 0, 7, 43, 180, 0, 7, 159, 0, 17, 42, 180, 0, 7, 43, 180, 0, 7, 184, 0, 16]
abbrev dktX4_compareTo_2_0 : List UInt8 := dkwX4_compareTo_2_0 ++ dktX4_compareTo_2_1
theorem dksX4_compareTo_2_0 : cX4_compareTo_2.data.toList.drop 0 = dktX4_compareTo_2_0 := by decide +kernel
theorem dksX4_compareTo_2_1 : cX4_compareTo_2.data.toList.drop 22 = dktX4_compareTo_2_1 := dk_seg dksX4_compareTo_2_0 22 rfl rfl
theorem dX4_compareTo_2_0 : decode cX4_compareTo_2 0 = .ok (.aload_n 0, 1) := dk_42 (dk_at dksX4_compareTo_2_0 0 rfl rfl)
theorem dX4_compareTo_2_1 : decode cX4_compareTo_2 1 = .ok (.getfield 7, 3) := dk_180 0 7 (dk_at dksX4_compareTo_2_0 1 rfl rfl)
theorem dX4_compareTo_2_4 : decode cX4_compareTo_2 4 = .ok (.aload_n 1, 1) := dk_43 (dk_at dksX4_compareTo_2_0 4 rfl rfl)
theorem dX4_compareTo_2_5 : decode cX4_compareTo_2 5 = .ok (.getfield 7, 3) := dk_180 0 7 (dk_at dksX4_compareTo_2_0 5 rfl rfl)
theorem dX4_compareTo_2_8 : decode cX4_compareTo_2 8 = .ok (.if_icmp .eq 17, 3) := dk_159 0 17 (dk_at dksX4_compareTo_2_0 8 rfl rfl)
theorem dX4_compareTo_2_11 : decode cX4_compareTo_2 11 = .ok (.aload_n 0, 1) := dk_42 (dk_at dksX4_compareTo_2_0 11 rfl rfl)
theorem dX4_compareTo_2_12 : decode cX4_compareTo_2 12 = .ok (.getfield 7, 3) := dk_180 0 7 (dk_at dksX4_compareTo_2_0 12 rfl rfl)
theorem dX4_compareTo_2_15 : decode cX4_compareTo_2 15 = .ok (.aload_n 1, 1) := dk_43 (dk_at dksX4_compareTo_2_0 15 rfl rfl)
theorem dX4_compareTo_2_16 : decode cX4_compareTo_2 16 = .ok (.getfield 7, 3) := dk_180 0 7 (dk_at dksX4_compareTo_2_0 16 rfl rfl)
theorem dX4_compareTo_2_19 : decode cX4_compareTo_2 19 = .ok (.invokestatic 16, 3) := dk_184 0 16 (dk_at dksX4_compareTo_2_0 19 rfl rfl)
theorem dX4_compareTo_2_22 : decode cX4_compareTo_2 22 = .ok (.goto 14, 3) := dk_167 0 14 (dk_at dksX4_compareTo_2_1 0 rfl rfl)
theorem dX4_compareTo_2_25 : decode cX4_compareTo_2 25 = .ok (.aload_n 0, 1) := dk_42 (dk_at dksX4_compareTo_2_1 3 rfl rfl)
theorem dX4_compareTo_2_26 : decode cX4_compareTo_2 26 = .ok (.getfield 13, 3) := dk_180 0 13 (dk_at dksX4_compareTo_2_1 4 rfl rfl)
theorem dX4_compareTo_2_29 : decode cX4_compareTo_2 29 = .ok (.aload_n 1, 1) := dk_43 (dk_at dksX4_compareTo_2_1 7 rfl rfl)
theorem dX4_compareTo_2_30 : decode cX4_compareTo_2 30 = .ok (.getfield 13, 3) := dk_180 0 13 (dk_at dksX4_compareTo_2_1 8 rfl rfl)
theorem dX4_compareTo_2_33 : decode cX4_compareTo_2 33 = .ok (.invokestatic 16, 3) := dk_184 0 16 (dk_at dksX4_compareTo_2_1 11 rfl rfl)
theorem dX4_compareTo_2_36 : decode cX4_compareTo_2 36 = .ok (.ireturn, 1) := dk_172 (dk_at dksX4_compareTo_2_1 14 rfl rfl)
theorem q63 : (Jvm.Cond.initialized "Aislewright$Ranked") ∈ lw_all := lw_g (lw_at lw_m1 26 rfl) rfl
theorem q600 : (Jvm.Cond.instantiable "Aislewright$Ranked" (2 : Nat)) ∈ lw_all := lw_g (lw_at lw_m3 83 rfl) rfl
theorem q606 : (Jvm.Cond.instanceMethod ({ cls := "Aislewright$Ranked", name := "<init>", desc := "(II)V" } : Jvm.MethodName)) ∈ lw_all := lw_g (lw_at lw_m3 89 rfl) rfl
theorem q607 : (Jvm.Cond.code ({ cls := "Aislewright$Ranked", name := "<init>", desc := "(II)V" } : Jvm.MethodName) prog_4_method_1_code (3 : Nat) (Option.none : Option Jvm.ClassFile.FieldType)) ∈ lw_all := lw_g (lw_at lw_m3 90 rfl) rfl
theorem q608 : (Jvm.Cond.methodLink "Aislewright$Ranked" (1 : Nat) ({ cls := "java/lang/Object", name := "<init>", desc := "()V" } : Jvm.MethodName)) ∈ lw_all := lw_g (lw_at lw_m3 91 rfl) rfl
theorem q609 : (Jvm.Cond.fieldLink "Aislewright$Ranked" (7 : Nat) "Aislewright$Ranked" "worth" "I") ∈ lw_all := lw_g (lw_at lw_m3 92 rfl) rfl
theorem q610 : (Jvm.Cond.fieldLink "Aislewright$Ranked" (13 : Nat) "Aislewright$Ranked" "number" "I") ∈ lw_all := lw_g (lw_at lw_m3 93 rfl) rfl
theorem q612 : (Jvm.Cond.laysFinal "Aislewright$Ranked" "Aislewright$Ranked" "worth" "I") ∈ lw_all := lw_g (lw_at lw_m3 95 rfl) rfl
theorem q613 : (Jvm.Cond.soleField "Aislewright$Ranked" "worth") ∈ lw_all := lw_g (lw_at lw_m3 96 rfl) rfl
theorem q614 : (Jvm.Cond.laysFinal "Aislewright$Ranked" "Aislewright$Ranked" "number" "I") ∈ lw_all := lw_g (lw_at lw_m3 97 rfl) rfl
theorem q615 : (Jvm.Cond.soleField "Aislewright$Ranked" "number") ∈ lw_all := lw_g (lw_at lw_m3 98 rfl) rfl
theorem q616 : (Jvm.Cond.superclass "Aislewright$Ranked" "java/lang/Object") ∈ lw_all := lw_g (lw_at lw_m3 99 rfl) rfl
theorem q643 : (Jvm.Cond.castable "Aislewright$Ranked" "java/lang/Comparable") ∈ lw_tbl := lw_at lw_m3 126 rfl
theorem q644 : (Jvm.Cond.selects "Aislewright$Ranked" ({ cls := "java/lang/Comparable", name := "compareTo", desc := "(Ljava/lang/Object;)I" } : Jvm.MethodName) ({ cls := "Aislewright$Ranked", name := "compareTo", desc := "(Ljava/lang/Object;)I" } : Jvm.MethodName)) ∈ lw_all := lw_g (lw_at lw_m3 127 rfl) rfl
theorem q645 : (Jvm.Cond.unhidden "Aislewright$Ranked" "compareTo" "(Ljava/lang/Object;)I") ∈ lw_tbl := lw_at lw_m3 128 rfl
theorem q646 : (Jvm.Cond.instanceMethod ({ cls := "Aislewright$Ranked", name := "compareTo", desc := "(Ljava/lang/Object;)I" } : Jvm.MethodName)) ∈ lw_all := lw_g (lw_at lw_m3 129 rfl) rfl
theorem q647 : (Jvm.Cond.publicMethod ({ cls := "Aislewright$Ranked", name := "compareTo", desc := "(Ljava/lang/Object;)I" } : Jvm.MethodName)) ∈ lw_tbl := lw_at lw_m3 130 rfl
theorem q648 : (Jvm.Cond.code ({ cls := "Aislewright$Ranked", name := "compareTo", desc := "(Ljava/lang/Object;)I" } : Jvm.MethodName) prog_4_method_3_code (2 : Nat) (Option.some Jvm.ClassFile.FieldType.int)) ∈ lw_all := lw_g (lw_at lw_m3 131 rfl) rfl
theorem q649 : (Jvm.Cond.classLink "Aislewright$Ranked" (8 : Nat) "Aislewright$Ranked") ∈ lw_all := lw_g (lw_at lw_m3 132 rfl) rfl
theorem q650 : (Jvm.Cond.methodLink "Aislewright$Ranked" (22 : Nat) ({ cls := "Aislewright$Ranked", name := "compareTo", desc := "(LAislewright$Ranked;)I" } : Jvm.MethodName)) ∈ lw_all := lw_g (lw_at lw_m3 133 rfl) rfl
theorem q651 : (Jvm.Cond.instanceMethod ({ cls := "Aislewright$Ranked", name := "compareTo", desc := "(LAislewright$Ranked;)I" } : Jvm.MethodName)) ∈ lw_all := lw_g (lw_at lw_m3 134 rfl) rfl
theorem q652 : (Jvm.Cond.selects "Aislewright$Ranked" ({ cls := "Aislewright$Ranked", name := "compareTo", desc := "(LAislewright$Ranked;)I" } : Jvm.MethodName) ({ cls := "Aislewright$Ranked", name := "compareTo", desc := "(LAislewright$Ranked;)I" } : Jvm.MethodName)) ∈ lw_all := lw_g (lw_at lw_m3 135 rfl) rfl
theorem q653 : (Jvm.Cond.code ({ cls := "Aislewright$Ranked", name := "compareTo", desc := "(LAislewright$Ranked;)I" } : Jvm.MethodName) prog_4_method_2_code (2 : Nat) (Option.some Jvm.ClassFile.FieldType.int)) ∈ lw_all := lw_g (lw_at lw_m3 136 rfl) rfl
theorem q654 : (Jvm.Cond.methodLink "Aislewright$Ranked" (16 : Nat) ({ cls := "java/lang/Integer", name := "compare", desc := "(II)I" } : Jvm.MethodName)) ∈ lw_all := lw_g (lw_at lw_m3 137 rfl) rfl
theorem q880 : (Jvm.Cond.selects "Aislewright$Ranked" ({ cls := "java/lang/Object", name := "getClass", desc := "()Ljava/lang/Class;" } : Jvm.MethodName) ({ cls := "java/lang/Object", name := "getClass", desc := "()Ljava/lang/Class;" } : Jvm.MethodName)) ∈ lw_all := lw_g (lw_at lw_m4 123 rfl) rfl
theorem q1221 : (Jvm.Cond.selects "Aislewright$Ranked" ({ cls := "java/lang/Object", name := "equals", desc := "(Ljava/lang/Object;)Z" } : Jvm.MethodName) ({ cls := "java/lang/Object", name := "equals", desc := "(Ljava/lang/Object;)Z" } : Jvm.MethodName)) ∈ lw_all := lw_g (lw_at lw_m5 224 rfl) rfl
theorem q1583 : (Jvm.Cond.castable "Aislewright$Ranked" "java/lang/Object") ∈ lw_tbl := lw_at lw_m7 106 rfl
theorem in_X4 : ∀ w ∈ wsX40, w ∈ lw_all := lw_in wsX40 [612, 614] (by decide +kernel) (by decide +kernel)
/-! Aislewright$Order -/
set_option maxRecDepth 100000
def RX5 : String := "Aislewright$Order"
def TX5 : u_T := fun k => match k with
  | 0 => ("Aislewright$Order", "due", "I", true)
  | 1 => ("Aislewright$Order", "quantities", "[I", true)
  | 2 => ("Aislewright$Order", "products", "I", false)
  | _ => ("Aislewright$Order", "state", "I", false)
def tyX5 : Nat → FieldType := fun k => match k with
  | 0 => .int
  | 1 => .array .int
  | 2 => .int
  | _ => .int
abbrev wsX50 : List Cond := u_ws RX5 TX5 4
theorem nmX5 : ∀ a, a < 4 → ∀ b, b < 4 → a ≠ b → (TX5 a).2.1 ≠ (TX5 b).2.1 := by decide +kernel
theorem tyX5_ok : ∀ k, k < 4 → parseFieldDescriptor (TX5 k).2.2.1 = some (tyX5 k) := by decide +kernel
abbrev cX5_init : ByteArray := prog_3_method_1_code
def yX5_init : MethodName := ⟨RX5, "<init>", "(I)V"⟩
def dkwX5_init_0 : List UInt8 := [42, 183, 0, 3, 42, 16, 20, 188, 10, 181, 0, 9, 42, 3, 181, 0, 15, 42, 27, 181, 0, 19, 177]
abbrev dktX5_init_0 : List UInt8 := dkwX5_init_0 ++ []
theorem dksX5_init_0 : cX5_init.data.toList.drop 0 = dktX5_init_0 := by decide +kernel
theorem dX5_init_0 : decode cX5_init 0 = .ok (.aload_n 0, 1) := dk_42 (dk_at dksX5_init_0 0 rfl rfl)
theorem dX5_init_1 : decode cX5_init 1 = .ok (.invokespecial 3, 3) := dk_183 0 3 (dk_at dksX5_init_0 1 rfl rfl)
theorem dX5_init_4 : decode cX5_init 4 = .ok (.aload_n 0, 1) := dk_42 (dk_at dksX5_init_0 4 rfl rfl)
theorem dX5_init_5 : decode cX5_init 5 = .ok (.bipush 20, 2) := dk_16 20 (dk_at dksX5_init_0 5 rfl rfl)
theorem dX5_init_7 : decode cX5_init 7 = .ok (.newarray .int, 2) := dk_188_10 (dk_at dksX5_init_0 7 rfl rfl)
theorem dX5_init_9 : decode cX5_init 9 = .ok (.putfield 9, 3) := dk_181 0 9 (dk_at dksX5_init_0 9 rfl rfl)
theorem dX5_init_12 : decode cX5_init 12 = .ok (.aload_n 0, 1) := dk_42 (dk_at dksX5_init_0 12 rfl rfl)
theorem dX5_init_13 : decode cX5_init 13 = .ok (.iconst 0, 1) := dk_3 (dk_at dksX5_init_0 13 rfl rfl)
theorem dX5_init_14 : decode cX5_init 14 = .ok (.putfield 15, 3) := dk_181 0 15 (dk_at dksX5_init_0 14 rfl rfl)
theorem dX5_init_17 : decode cX5_init 17 = .ok (.aload_n 0, 1) := dk_42 (dk_at dksX5_init_0 17 rfl rfl)
theorem dX5_init_18 : decode cX5_init 18 = .ok (.iload_n 1, 1) := dk_27 (dk_at dksX5_init_0 18 rfl rfl)
theorem dX5_init_19 : decode cX5_init 19 = .ok (.putfield 19, 3) := dk_181 0 19 (dk_at dksX5_init_0 19 rfl rfl)
theorem dX5_init_22 : decode cX5_init 22 = .ok (.return_, 1) := dk_177 (dk_at dksX5_init_0 22 rfl rfl)
abbrev cX5_lines : ByteArray := prog_3_method_2_code
def yX5_lines : MethodName := ⟨RX5, "lines", "()I"⟩
def dkwX5_lines_0 : List UInt8 := [42, 180, 0, 22, 184, 0, 25, 172]
abbrev dktX5_lines_0 : List UInt8 := dkwX5_lines_0 ++ []
theorem dksX5_lines_0 : cX5_lines.data.toList.drop 0 = dktX5_lines_0 := by decide +kernel
theorem dX5_lines_0 : decode cX5_lines 0 = .ok (.aload_n 0, 1) := dk_42 (dk_at dksX5_lines_0 0 rfl rfl)
theorem dX5_lines_1 : decode cX5_lines 1 = .ok (.getfield 22, 3) := dk_180 0 22 (dk_at dksX5_lines_0 1 rfl rfl)
theorem dX5_lines_4 : decode cX5_lines 4 = .ok (.invokestatic 25, 3) := dk_184 0 25 (dk_at dksX5_lines_0 4 rfl rfl)
theorem dX5_lines_7 : decode cX5_lines 7 = .ok (.ireturn, 1) := dk_172 (dk_at dksX5_lines_0 7 rfl rfl)
theorem q68 : (Jvm.Cond.initialized "Aislewright$Order") ∈ lw_all := lw_g (lw_at lw_m1 31 rfl) rfl
theorem q879 : (Jvm.Cond.selects "Aislewright$Order" ({ cls := "java/lang/Object", name := "getClass", desc := "()Ljava/lang/Class;" } : Jvm.MethodName) ({ cls := "java/lang/Object", name := "getClass", desc := "()Ljava/lang/Class;" } : Jvm.MethodName)) ∈ lw_all := lw_g (lw_at lw_m4 122 rfl) rfl
theorem q948 : (Jvm.Cond.instantiable "Aislewright$Order" (4 : Nat)) ∈ lw_all := lw_g (lw_at lw_m4 191 rfl) rfl
theorem q950 : (Jvm.Cond.instanceMethod ({ cls := "Aislewright$Order", name := "<init>", desc := "(I)V" } : Jvm.MethodName)) ∈ lw_all := lw_g (lw_at lw_m4 193 rfl) rfl
theorem q951 : (Jvm.Cond.code ({ cls := "Aislewright$Order", name := "<init>", desc := "(I)V" } : Jvm.MethodName) prog_3_method_1_code (2 : Nat) (Option.none : Option Jvm.ClassFile.FieldType)) ∈ lw_all := lw_g (lw_at lw_m4 194 rfl) rfl
theorem q952 : (Jvm.Cond.methodLink "Aislewright$Order" (3 : Nat) ({ cls := "java/lang/Object", name := "<init>", desc := "()V" } : Jvm.MethodName)) ∈ lw_all := lw_g (lw_at lw_m4 195 rfl) rfl
theorem q953 : (Jvm.Cond.fieldLink "Aislewright$Order" (19 : Nat) "Aislewright$Order" "due" "I") ∈ lw_all := lw_g (lw_at lw_m4 196 rfl) rfl
theorem q955 : (Jvm.Cond.fieldLink "Aislewright$Order" (9 : Nat) "Aislewright$Order" "quantities" "[I") ∈ lw_all := lw_g (lw_at lw_m4 198 rfl) rfl
theorem q957 : (Jvm.Cond.fieldLink "Aislewright$Order" (22 : Nat) "Aislewright$Order" "products" "I") ∈ lw_all := lw_g (lw_at lw_m4 200 rfl) rfl
theorem q960 : (Jvm.Cond.fieldLink "Aislewright$Order" (15 : Nat) "Aislewright$Order" "state" "I") ∈ lw_all := lw_g (lw_at lw_m4 203 rfl) rfl
theorem q962 : (Jvm.Cond.laysFinal "Aislewright$Order" "Aislewright$Order" "due" "I") ∈ lw_all := lw_g (lw_at lw_m4 205 rfl) rfl
theorem q963 : (Jvm.Cond.soleField "Aislewright$Order" "due") ∈ lw_all := lw_g (lw_at lw_m4 206 rfl) rfl
theorem q964 : (Jvm.Cond.laysFinal "Aislewright$Order" "Aislewright$Order" "quantities" "[I") ∈ lw_all := lw_g (lw_at lw_m4 207 rfl) rfl
theorem q965 : (Jvm.Cond.soleField "Aislewright$Order" "quantities") ∈ lw_all := lw_g (lw_at lw_m4 208 rfl) rfl
theorem q966 : (Jvm.Cond.lays "Aislewright$Order" "Aislewright$Order" "products" "I") ∈ lw_all := lw_g (lw_at lw_m4 209 rfl) rfl
theorem q967 : (Jvm.Cond.soleField "Aislewright$Order" "products") ∈ lw_all := lw_g (lw_at lw_m4 210 rfl) rfl
theorem q968 : (Jvm.Cond.lays "Aislewright$Order" "Aislewright$Order" "state" "I") ∈ lw_all := lw_g (lw_at lw_m4 211 rfl) rfl
theorem q969 : (Jvm.Cond.soleField "Aislewright$Order" "state") ∈ lw_all := lw_g (lw_at lw_m4 212 rfl) rfl
theorem q970 : (Jvm.Cond.superclass "Aislewright$Order" "java/lang/Object") ∈ lw_all := lw_g (lw_at lw_m4 213 rfl) rfl
theorem q997 : (Jvm.Cond.instanceMethod ({ cls := "Aislewright$Order", name := "lines", desc := "()I" } : Jvm.MethodName)) ∈ lw_all := lw_g (lw_at lw_m5 0 rfl) rfl
theorem q998 : (Jvm.Cond.selects "Aislewright$Order" ({ cls := "Aislewright$Order", name := "lines", desc := "()I" } : Jvm.MethodName) ({ cls := "Aislewright$Order", name := "lines", desc := "()I" } : Jvm.MethodName)) ∈ lw_all := lw_g (lw_at lw_m5 1 rfl) rfl
theorem q999 : (Jvm.Cond.code ({ cls := "Aislewright$Order", name := "lines", desc := "()I" } : Jvm.MethodName) prog_3_method_2_code (1 : Nat) (Option.some Jvm.ClassFile.FieldType.int)) ∈ lw_all := lw_g (lw_at lw_m5 2 rfl) rfl
theorem q1000 : (Jvm.Cond.methodLink "Aislewright$Order" (25 : Nat) ({ cls := "java/lang/Integer", name := "bitCount", desc := "(I)I" } : Jvm.MethodName)) ∈ lw_all := lw_g (lw_at lw_m5 3 rfl) rfl
theorem q1220 : (Jvm.Cond.selects "Aislewright$Order" ({ cls := "java/lang/Object", name := "equals", desc := "(Ljava/lang/Object;)Z" } : Jvm.MethodName) ({ cls := "java/lang/Object", name := "equals", desc := "(Ljava/lang/Object;)Z" } : Jvm.MethodName)) ∈ lw_all := lw_g (lw_at lw_m5 223 rfl) rfl
theorem q1585 : (Jvm.Cond.castable "Aislewright$Order" "java/lang/Object") ∈ lw_tbl := lw_at lw_m7 108 rfl
theorem in_X5 : ∀ w ∈ wsX50, w ∈ lw_all := lw_in wsX50 [962, 964, 966, 968] (by decide +kernel) (by decide +kernel)
/-! Aislewright$Batch -/
set_option maxRecDepth 100000
def RX6 : String := "Aislewright$Batch"
def TX6 : u_T := fun k => match k with
  | 0 => ("Aislewright$Batch", "orders", "Ljava/util/List;", true)
  | 1 => ("Aislewright$Batch", "products", "I", false)
  | _ => ("Aislewright$Batch", "lines", "I", false)
def tyX6 : Nat → FieldType := fun k => match k with
  | 0 => .object "java/util/List"
  | 1 => .int
  | _ => .int
abbrev wsX60 : List Cond := u_ws RX6 TX6 3
theorem nmX6 : ∀ a, a < 3 → ∀ b, b < 3 → a ≠ b → (TX6 a).2.1 ≠ (TX6 b).2.1 := by decide +kernel
theorem tyX6_ok : ∀ k, k < 3 → parseFieldDescriptor (TX6 k).2.2.1 = some (tyX6 k) := by decide +kernel
abbrev cX6_init : ByteArray := prog_2_method_1_code
def yX6_init : MethodName := ⟨RX6, "<init>", "(LAislewright$Order;)V"⟩
def dkwX6_init_0 : List UInt8 := [42, 183, 0, 1, 42, 187, 0, 7, 89, 183, 0, 9, 181, 0, 10, 42, 43, 182, 0, 16, 177]
abbrev dktX6_init_0 : List UInt8 := dkwX6_init_0 ++ []
theorem dksX6_init_0 : cX6_init.data.toList.drop 0 = dktX6_init_0 := by decide +kernel
theorem dX6_init_0 : decode cX6_init 0 = .ok (.aload_n 0, 1) := dk_42 (dk_at dksX6_init_0 0 rfl rfl)
theorem dX6_init_1 : decode cX6_init 1 = .ok (.invokespecial 1, 3) := dk_183 0 1 (dk_at dksX6_init_0 1 rfl rfl)
theorem dX6_init_4 : decode cX6_init 4 = .ok (.aload_n 0, 1) := dk_42 (dk_at dksX6_init_0 4 rfl rfl)
theorem dX6_init_5 : decode cX6_init 5 = .ok (.new 7, 3) := dk_187 0 7 (dk_at dksX6_init_0 5 rfl rfl)
theorem dX6_init_8 : decode cX6_init 8 = .ok (.dup, 1) := dk_89 (dk_at dksX6_init_0 8 rfl rfl)
theorem dX6_init_9 : decode cX6_init 9 = .ok (.invokespecial 9, 3) := dk_183 0 9 (dk_at dksX6_init_0 9 rfl rfl)
theorem dX6_init_12 : decode cX6_init 12 = .ok (.putfield 10, 3) := dk_181 0 10 (dk_at dksX6_init_0 12 rfl rfl)
theorem dX6_init_15 : decode cX6_init 15 = .ok (.aload_n 0, 1) := dk_42 (dk_at dksX6_init_0 15 rfl rfl)
theorem dX6_init_16 : decode cX6_init 16 = .ok (.aload_n 1, 1) := dk_43 (dk_at dksX6_init_0 16 rfl rfl)
theorem dX6_init_17 : decode cX6_init 17 = .ok (.invokevirtual 16, 3) := dk_182 0 16 (dk_at dksX6_init_0 17 rfl rfl)
theorem dX6_init_20 : decode cX6_init 20 = .ok (.return_, 1) := dk_177 (dk_at dksX6_init_0 20 rfl rfl)
abbrev cX6_takes : ByteArray := prog_2_method_2_code
def yX6_takes : MethodName := ⟨RX6, "takes", "(LAislewright$Order;)V"⟩
def dkwX6_takes_1 : List UInt8 := [42, 89, 180, 0, 33, 43, 182, 0, 36, 96, 181, 0, 33, 177]
abbrev dktX6_takes_1 : List UInt8 := dkwX6_takes_1 ++ []
def dkwX6_takes_0 : List UInt8 := [42, 180, 0, 10, 43, 185, 0, 20, 2, 0, 87, 42, 89, 180, 0, 26, 43, 180, 0, 30, 128, 181, 0, 26]
abbrev dktX6_takes_0 : List UInt8 := dkwX6_takes_0 ++ dktX6_takes_1
theorem dksX6_takes_0 : cX6_takes.data.toList.drop 0 = dktX6_takes_0 := by decide +kernel
theorem dksX6_takes_1 : cX6_takes.data.toList.drop 24 = dktX6_takes_1 := dk_seg dksX6_takes_0 24 rfl rfl
theorem dX6_takes_0 : decode cX6_takes 0 = .ok (.aload_n 0, 1) := dk_42 (dk_at dksX6_takes_0 0 rfl rfl)
theorem dX6_takes_1 : decode cX6_takes 1 = .ok (.getfield 10, 3) := dk_180 0 10 (dk_at dksX6_takes_0 1 rfl rfl)
theorem dX6_takes_4 : decode cX6_takes 4 = .ok (.aload_n 1, 1) := dk_43 (dk_at dksX6_takes_0 4 rfl rfl)
theorem dX6_takes_5 : decode cX6_takes 5 = .ok (.invokeinterface 20 2, 5) := by decide +kernel
theorem dX6_takes_10 : decode cX6_takes 10 = .ok (.pop, 1) := dk_87 (dk_at dksX6_takes_0 10 rfl rfl)
theorem dX6_takes_11 : decode cX6_takes 11 = .ok (.aload_n 0, 1) := dk_42 (dk_at dksX6_takes_0 11 rfl rfl)
theorem dX6_takes_12 : decode cX6_takes 12 = .ok (.dup, 1) := dk_89 (dk_at dksX6_takes_0 12 rfl rfl)
theorem dX6_takes_13 : decode cX6_takes 13 = .ok (.getfield 26, 3) := dk_180 0 26 (dk_at dksX6_takes_0 13 rfl rfl)
theorem dX6_takes_16 : decode cX6_takes 16 = .ok (.aload_n 1, 1) := dk_43 (dk_at dksX6_takes_0 16 rfl rfl)
theorem dX6_takes_17 : decode cX6_takes 17 = .ok (.getfield 30, 3) := dk_180 0 30 (dk_at dksX6_takes_0 17 rfl rfl)
theorem dX6_takes_20 : decode cX6_takes 20 = .ok (.ior, 1) := dk_128 (dk_at dksX6_takes_0 20 rfl rfl)
theorem dX6_takes_21 : decode cX6_takes 21 = .ok (.putfield 26, 3) := dk_181 0 26 (dk_at dksX6_takes_0 21 rfl rfl)
theorem dX6_takes_24 : decode cX6_takes 24 = .ok (.aload_n 0, 1) := dk_42 (dk_at dksX6_takes_1 0 rfl rfl)
theorem dX6_takes_25 : decode cX6_takes 25 = .ok (.dup, 1) := dk_89 (dk_at dksX6_takes_1 1 rfl rfl)
theorem dX6_takes_26 : decode cX6_takes 26 = .ok (.getfield 33, 3) := dk_180 0 33 (dk_at dksX6_takes_1 2 rfl rfl)
theorem dX6_takes_29 : decode cX6_takes 29 = .ok (.aload_n 1, 1) := dk_43 (dk_at dksX6_takes_1 5 rfl rfl)
theorem dX6_takes_30 : decode cX6_takes 30 = .ok (.invokevirtual 36, 3) := dk_182 0 36 (dk_at dksX6_takes_1 6 rfl rfl)
theorem dX6_takes_33 : decode cX6_takes 33 = .ok (.iadd, 1) := dk_96 (dk_at dksX6_takes_1 9 rfl rfl)
theorem dX6_takes_34 : decode cX6_takes 34 = .ok (.putfield 33, 3) := dk_181 0 33 (dk_at dksX6_takes_1 10 rfl rfl)
theorem dX6_takes_37 : decode cX6_takes 37 = .ok (.return_, 1) := dk_177 (dk_at dksX6_takes_1 13 rfl rfl)
abbrev cX6_takesAll : ByteArray := prog_2_method_3_code
def yX6_takesAll : MethodName := ⟨RX6, "takesAll", "(LAislewright$Batch;)V"⟩
def dkwX6_takesAll_1 : List UInt8 := [185, 0, 49, 1, 0, 192, 0, 31, 78, 42, 45, 182, 0, 16, 167, 255, 232, 177]
abbrev dktX6_takesAll_1 : List UInt8 := dkwX6_takesAll_1 ++ []
def dkwX6_takesAll_0 : List UInt8 := [43, 180, 0, 10, 185, 0, 39, 1, 0, 77, 44, 185, 0, 43, 1, 0, 153, 0, 21, 44]
abbrev dktX6_takesAll_0 : List UInt8 := dkwX6_takesAll_0 ++ dktX6_takesAll_1
theorem dksX6_takesAll_0 : cX6_takesAll.data.toList.drop 0 = dktX6_takesAll_0 := by decide +kernel
theorem dksX6_takesAll_1 : cX6_takesAll.data.toList.drop 20 = dktX6_takesAll_1 := dk_seg dksX6_takesAll_0 20 rfl rfl
theorem dX6_takesAll_0 : decode cX6_takesAll 0 = .ok (.aload_n 1, 1) := dk_43 (dk_at dksX6_takesAll_0 0 rfl rfl)
theorem dX6_takesAll_1 : decode cX6_takesAll 1 = .ok (.getfield 10, 3) := dk_180 0 10 (dk_at dksX6_takesAll_0 1 rfl rfl)
theorem dX6_takesAll_4 : decode cX6_takesAll 4 = .ok (.invokeinterface 39 1, 5) := by decide +kernel
theorem dX6_takesAll_9 : decode cX6_takesAll 9 = .ok (.astore_n 2, 1) := dk_77 (dk_at dksX6_takesAll_0 9 rfl rfl)
theorem dX6_takesAll_10 : decode cX6_takesAll 10 = .ok (.aload_n 2, 1) := dk_44 (dk_at dksX6_takesAll_0 10 rfl rfl)
theorem dX6_takesAll_11 : decode cX6_takesAll 11 = .ok (.invokeinterface 43 1, 5) := by decide +kernel
theorem dX6_takesAll_16 : decode cX6_takesAll 16 = .ok (.ifCond .eq 21, 3) := dk_153 0 21 (dk_at dksX6_takesAll_0 16 rfl rfl)
theorem dX6_takesAll_19 : decode cX6_takesAll 19 = .ok (.aload_n 2, 1) := dk_44 (dk_at dksX6_takesAll_0 19 rfl rfl)
theorem dX6_takesAll_20 : decode cX6_takesAll 20 = .ok (.invokeinterface 49 1, 5) := by decide +kernel
theorem dX6_takesAll_25 : decode cX6_takesAll 25 = .ok (.checkcast 31, 3) := dk_192 0 31 (dk_at dksX6_takesAll_1 5 rfl rfl)
theorem dX6_takesAll_28 : decode cX6_takesAll 28 = .ok (.astore_n 3, 1) := dk_78 (dk_at dksX6_takesAll_1 8 rfl rfl)
theorem dX6_takesAll_29 : decode cX6_takesAll 29 = .ok (.aload_n 0, 1) := dk_42 (dk_at dksX6_takesAll_1 9 rfl rfl)
theorem dX6_takesAll_30 : decode cX6_takesAll 30 = .ok (.aload_n 3, 1) := dk_45 (dk_at dksX6_takesAll_1 10 rfl rfl)
theorem dX6_takesAll_31 : decode cX6_takesAll 31 = .ok (.invokevirtual 16, 3) := dk_182 0 16 (dk_at dksX6_takesAll_1 11 rfl rfl)
theorem dX6_takesAll_34 : decode cX6_takesAll 34 = .ok (.goto (-24), 3) := dk_167 255 232 (dk_at dksX6_takesAll_1 14 rfl rfl)
theorem dX6_takesAll_37 : decode cX6_takesAll 37 = .ok (.return_, 1) := dk_177 (dk_at dksX6_takesAll_1 17 rfl rfl)
theorem q70 : (Jvm.Cond.initialized "Aislewright$Batch") ∈ lw_all := lw_g (lw_at lw_m1 33 rfl) rfl
theorem q878 : (Jvm.Cond.selects "Aislewright$Batch" ({ cls := "java/lang/Object", name := "getClass", desc := "()Ljava/lang/Class;" } : Jvm.MethodName) ({ cls := "java/lang/Object", name := "getClass", desc := "()Ljava/lang/Class;" } : Jvm.MethodName)) ∈ lw_all := lw_g (lw_at lw_m4 121 rfl) rfl
theorem q958 : (Jvm.Cond.fieldLinkNest "Aislewright$Batch" (30 : Nat) "Aislewright$Order" "products" "I" "Aislewright") ∈ lw_tbl := lw_at lw_m4 201 rfl
theorem q1108 : (Jvm.Cond.instantiable "Aislewright$Batch" (3 : Nat)) ∈ lw_all := lw_g (lw_at lw_m5 111 rfl) rfl
theorem q1110 : (Jvm.Cond.instanceMethod ({ cls := "Aislewright$Batch", name := "<init>", desc := "(LAislewright$Order;)V" } : Jvm.MethodName)) ∈ lw_all := lw_g (lw_at lw_m5 113 rfl) rfl
theorem q1111 : (Jvm.Cond.code ({ cls := "Aislewright$Batch", name := "<init>", desc := "(LAislewright$Order;)V" } : Jvm.MethodName) prog_2_method_1_code (2 : Nat) (Option.none : Option Jvm.ClassFile.FieldType)) ∈ lw_all := lw_g (lw_at lw_m5 114 rfl) rfl
theorem q1112 : (Jvm.Cond.methodLink "Aislewright$Batch" (1 : Nat) ({ cls := "java/lang/Object", name := "<init>", desc := "()V" } : Jvm.MethodName)) ∈ lw_all := lw_g (lw_at lw_m5 115 rfl) rfl
theorem q1113 : (Jvm.Cond.classLink "Aislewright$Batch" (7 : Nat) "java/util/ArrayList") ∈ lw_all := lw_g (lw_at lw_m5 116 rfl) rfl
theorem q1114 : (Jvm.Cond.methodLink "Aislewright$Batch" (9 : Nat) ({ cls := "java/util/ArrayList", name := "<init>", desc := "()V" } : Jvm.MethodName)) ∈ lw_all := lw_g (lw_at lw_m5 117 rfl) rfl
theorem q1115 : (Jvm.Cond.methodLink "Aislewright$Batch" (16 : Nat) ({ cls := "Aislewright$Batch", name := "takes", desc := "(LAislewright$Order;)V" } : Jvm.MethodName)) ∈ lw_all := lw_g (lw_at lw_m5 118 rfl) rfl
theorem q1116 : (Jvm.Cond.privateMethod ({ cls := "Aislewright$Batch", name := "takes", desc := "(LAislewright$Order;)V" } : Jvm.MethodName)) ∈ lw_tbl := lw_at lw_m5 119 rfl
theorem q1117 : (Jvm.Cond.instanceMethod ({ cls := "Aislewright$Batch", name := "takes", desc := "(LAislewright$Order;)V" } : Jvm.MethodName)) ∈ lw_all := lw_g (lw_at lw_m5 120 rfl) rfl
theorem q1118 : (Jvm.Cond.code ({ cls := "Aislewright$Batch", name := "takes", desc := "(LAislewright$Order;)V" } : Jvm.MethodName) prog_2_method_2_code (2 : Nat) (Option.none : Option Jvm.ClassFile.FieldType)) ∈ lw_all := lw_g (lw_at lw_m5 121 rfl) rfl
theorem q1119 : (Jvm.Cond.interfaceEntry "Aislewright$Batch" (20 : Nat)) ∈ lw_tbl := lw_at lw_m5 122 rfl
theorem q1120 : (Jvm.Cond.methodLink "Aislewright$Batch" (20 : Nat) ({ cls := "java/util/List", name := "add", desc := "(Ljava/lang/Object;)Z" } : Jvm.MethodName)) ∈ lw_all := lw_g (lw_at lw_m5 123 rfl) rfl
theorem q1121 : (Jvm.Cond.methodLink "Aislewright$Batch" (36 : Nat) ({ cls := "Aislewright$Order", name := "lines", desc := "()I" } : Jvm.MethodName)) ∈ lw_all := lw_g (lw_at lw_m5 124 rfl) rfl
theorem q1122 : (Jvm.Cond.fieldLink "Aislewright$Batch" (10 : Nat) "Aislewright$Batch" "orders" "Ljava/util/List;") ∈ lw_all := lw_g (lw_at lw_m5 125 rfl) rfl
theorem q1124 : (Jvm.Cond.fieldLink "Aislewright$Batch" (26 : Nat) "Aislewright$Batch" "products" "I") ∈ lw_all := lw_g (lw_at lw_m5 127 rfl) rfl
theorem q1126 : (Jvm.Cond.fieldLink "Aislewright$Batch" (33 : Nat) "Aislewright$Batch" "lines" "I") ∈ lw_all := lw_g (lw_at lw_m5 129 rfl) rfl
theorem q1128 : (Jvm.Cond.laysFinal "Aislewright$Batch" "Aislewright$Batch" "orders" "Ljava/util/List;") ∈ lw_all := lw_g (lw_at lw_m5 131 rfl) rfl
theorem q1129 : (Jvm.Cond.soleField "Aislewright$Batch" "orders") ∈ lw_all := lw_g (lw_at lw_m5 132 rfl) rfl
theorem q1130 : (Jvm.Cond.lays "Aislewright$Batch" "Aislewright$Batch" "products" "I") ∈ lw_all := lw_g (lw_at lw_m5 133 rfl) rfl
theorem q1131 : (Jvm.Cond.soleField "Aislewright$Batch" "products") ∈ lw_all := lw_g (lw_at lw_m5 134 rfl) rfl
theorem q1132 : (Jvm.Cond.lays "Aislewright$Batch" "Aislewright$Batch" "lines" "I") ∈ lw_all := lw_g (lw_at lw_m5 135 rfl) rfl
theorem q1133 : (Jvm.Cond.soleField "Aislewright$Batch" "lines") ∈ lw_all := lw_g (lw_at lw_m5 136 rfl) rfl
theorem q1134 : (Jvm.Cond.superclass "Aislewright$Batch" "java/lang/Object") ∈ lw_all := lw_g (lw_at lw_m5 137 rfl) rfl
theorem q1149 : (Jvm.Cond.instanceMethod ({ cls := "Aislewright$Batch", name := "takesAll", desc := "(LAislewright$Batch;)V" } : Jvm.MethodName)) ∈ lw_all := lw_g (lw_at lw_m5 152 rfl) rfl
theorem q1150 : (Jvm.Cond.selects "Aislewright$Batch" ({ cls := "Aislewright$Batch", name := "takesAll", desc := "(LAislewright$Batch;)V" } : Jvm.MethodName) ({ cls := "Aislewright$Batch", name := "takesAll", desc := "(LAislewright$Batch;)V" } : Jvm.MethodName)) ∈ lw_all := lw_g (lw_at lw_m5 153 rfl) rfl
theorem q1151 : (Jvm.Cond.code ({ cls := "Aislewright$Batch", name := "takesAll", desc := "(LAislewright$Batch;)V" } : Jvm.MethodName) prog_2_method_3_code (4 : Nat) (Option.none : Option Jvm.ClassFile.FieldType)) ∈ lw_all := lw_g (lw_at lw_m5 154 rfl) rfl
theorem q1152 : (Jvm.Cond.interfaceEntry "Aislewright$Batch" (39 : Nat)) ∈ lw_tbl := lw_at lw_m5 155 rfl
theorem q1153 : (Jvm.Cond.methodLink "Aislewright$Batch" (39 : Nat) ({ cls := "java/util/List", name := "iterator", desc := "()Ljava/util/Iterator;" } : Jvm.MethodName)) ∈ lw_all := lw_g (lw_at lw_m5 156 rfl) rfl
theorem q1154 : (Jvm.Cond.interfaceEntry "Aislewright$Batch" (43 : Nat)) ∈ lw_tbl := lw_at lw_m5 157 rfl
theorem q1155 : (Jvm.Cond.methodLink "Aislewright$Batch" (43 : Nat) ({ cls := "java/util/Iterator", name := "hasNext", desc := "()Z" } : Jvm.MethodName)) ∈ lw_all := lw_g (lw_at lw_m5 158 rfl) rfl
theorem q1156 : (Jvm.Cond.interfaceEntry "Aislewright$Batch" (49 : Nat)) ∈ lw_tbl := lw_at lw_m5 159 rfl
theorem q1157 : (Jvm.Cond.methodLink "Aislewright$Batch" (49 : Nat) ({ cls := "java/util/Iterator", name := "next", desc := "()Ljava/lang/Object;" } : Jvm.MethodName)) ∈ lw_all := lw_g (lw_at lw_m5 160 rfl) rfl
theorem q1158 : (Jvm.Cond.classLink "Aislewright$Batch" (31 : Nat) "Aislewright$Order") ∈ lw_all := lw_g (lw_at lw_m5 161 rfl) rfl
theorem q1219 : (Jvm.Cond.selects "Aislewright$Batch" ({ cls := "java/lang/Object", name := "equals", desc := "(Ljava/lang/Object;)Z" } : Jvm.MethodName) ({ cls := "java/lang/Object", name := "equals", desc := "(Ljava/lang/Object;)Z" } : Jvm.MethodName)) ∈ lw_all := lw_g (lw_at lw_m5 222 rfl) rfl
theorem q1587 : (Jvm.Cond.castable "Aislewright$Batch" "java/lang/Object") ∈ lw_tbl := lw_at lw_m7 110 rfl
theorem in_X6 : ∀ w ∈ wsX60, w ∈ lw_all := lw_in wsX60 [1128, 1130, 1132] (by decide +kernel) (by decide +kernel)
