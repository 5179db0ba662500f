/-! AislewrightModel -/
set_option maxRecDepth 100000
def RX3 : String := "AislewrightModel"
def TX3 : u_T := fun k => match k with
  | 0 => ("AislewrightModel", "thrown", "I", false)
  | 1 => ("AislewrightModel", "aisles", "I", true)
  | 2 => ("AislewrightModel", "positions", "I", true)
  | 3 => ("AislewrightModel", "gap", "I", true)
  | 4 => ("AislewrightModel", "capacity", "I", false)
  | 5 => ("AislewrightModel", "place", "[I", true)
  | 6 => ("AislewrightModel", "orders", "I", false)
  | 7 => ("AislewrightModel", "due", "[I", true)
  | 8 => ("AislewrightModel", "state", "[I", true)
  | 9 => ("AislewrightModel", "batch", "[I", true)
  | 10 => ("AislewrightModel", "many", "[I", true)
  | 11 => ("AislewrightModel", "product", "[I", true)
  | 12 => ("AislewrightModel", "quantity", "[I", true)
  | 13 => ("AislewrightModel", "batches", "I", false)
  | 14 => ("AislewrightModel", "walked", "I", false)
  | 15 => ("AislewrightModel", "alone", "J", false)
  | 16 => ("AislewrightModel", "stops", "I", false)
  | 17 => ("AislewrightModel", "stop", "[I", true)
  | 18 => ("AislewrightModel", "on", "[I", true)
  | 19 => ("AislewrightModel", "path", "[I", true)
  | 20 => ("AislewrightModel", "ranked", "[I", true)
  | _ => ("AislewrightModel", "spots", "[I", true)
def tyX3 : Nat → FieldType := fun k => match k with
  | 0 => .int
  | 1 => .int
  | 2 => .int
  | 3 => .int
  | 4 => .int
  | 5 => .array .int
  | 6 => .int
  | 7 => .array .int
  | 8 => .array .int
  | 9 => .array .int
  | 10 => .array .int
  | 11 => .array .int
  | 12 => .array .int
  | 13 => .int
  | 14 => .int
  | 15 => .long
  | 16 => .int
  | 17 => .array .int
  | 18 => .array .int
  | 19 => .array .int
  | 20 => .array .int
  | _ => .array .int
abbrev wsX30 : List Cond := u_ws RX3 TX3 22
set_option maxRecDepth 100000 in
theorem nmX3 : ∀ a, a < 22 → ∀ b, b < 22 → a ≠ b → (TX3 a).2.1 ≠ (TX3 b).2.1 := by decide +kernel
set_option maxRecDepth 100000 in
theorem tyX3_ok : ∀ k, k < 22 → parseFieldDescriptor (TX3 k).2.2.1 = some (tyX3 k) := by decide +kernel
abbrev cX3_init : ByteArray := prog_7_method_1_code
def yX3_init : MethodName := ⟨RX3, "<init>", "(III)V"⟩
def dkwX3_init_8 : List UInt8 := [54, 4, 21, 4, 16, 20, 162, 0, 17, 42, 180, 0, 13, 21, 4, 2, 79, 132, 4, 1, 167, 255, 238, 177]
abbrev dktX3_init_8 : List UInt8 := dkwX3_init_8 ++ []
def dkwX3_init_7 : List UInt8 := [162, 0, 7, 4, 167, 0, 15, 29, 16, 9, 164, 0, 8, 16, 9, 167, 0, 4, 29, 181, 0, 56, 3]
abbrev dktX3_init_7 : List UInt8 := dkwX3_init_7 ++ dktX3_init_8
def dkwX3_init_6 : List UInt8 := [4, 167, 0, 15, 28, 16, 20, 164, 0, 8, 16, 20, 167, 0, 4, 28, 181, 0, 53, 42, 29, 4]
abbrev dktX3_init_6 : List UInt8 := dkwX3_init_6 ++ dktX3_init_7
def dkwX3_init_5 : List UInt8 := [167, 0, 15, 27, 16, 6, 164, 0, 8, 16, 6, 167, 0, 4, 27, 181, 0, 50, 42, 28, 4, 162, 0, 7]
abbrev dktX3_init_5 : List UInt8 := dkwX3_init_5 ++ dktX3_init_6
def dkwX3_init_4 : List UInt8 := [16, 20, 188, 10, 181, 0, 44, 42, 16, 20, 188, 10, 181, 0, 47, 42, 27, 4, 162, 0, 7, 4]
abbrev dktX3_init_4 : List UInt8 := dkwX3_init_4 ++ dktX3_init_5
def dkwX3_init_3 : List UInt8 := [188, 10, 181, 0, 35, 42, 17, 20, 0, 188, 10, 181, 0, 38, 42, 16, 9, 188, 10, 181, 0, 41, 42]
abbrev dktX3_init_3 : List UInt8 := dkwX3_init_3 ++ dktX3_init_4
def dkwX3_init_2 : List UInt8 := [181, 0, 26, 42, 17, 0, 200, 188, 10, 181, 0, 29, 42, 17, 0, 200, 188, 10, 181, 0, 32, 42, 16, 9]
abbrev dktX3_init_2 : List UInt8 := dkwX3_init_2 ++ dktX3_init_3
def dkwX3_init_1 : List UInt8 := [181, 0, 17, 42, 16, 40, 188, 10, 181, 0, 20, 42, 16, 40, 188, 10, 181, 0, 23, 42, 16, 40, 188, 10]
abbrev dktX3_init_1 : List UInt8 := dkwX3_init_1 ++ dktX3_init_2
def dkwX3_init_0 : List UInt8 := [42, 183, 0, 1, 42, 16, 6, 181, 0, 7, 42, 16, 20, 188, 10, 181, 0, 13, 42, 16, 40, 188, 10]
abbrev dktX3_init_0 : List UInt8 := dkwX3_init_0 ++ dktX3_init_1
theorem dksX3_init_0 : cX3_init.data.toList.drop 0 = dktX3_init_0 := by decide +kernel
theorem dksX3_init_1 : cX3_init.data.toList.drop 23 = dktX3_init_1 := dk_seg dksX3_init_0 23 rfl rfl
theorem dksX3_init_2 : cX3_init.data.toList.drop 47 = dktX3_init_2 := dk_seg dksX3_init_1 24 rfl rfl
theorem dksX3_init_3 : cX3_init.data.toList.drop 71 = dktX3_init_3 := dk_seg dksX3_init_2 24 rfl rfl
theorem dksX3_init_4 : cX3_init.data.toList.drop 94 = dktX3_init_4 := dk_seg dksX3_init_3 23 rfl rfl
theorem dksX3_init_5 : cX3_init.data.toList.drop 116 = dktX3_init_5 := dk_seg dksX3_init_4 22 rfl rfl
theorem dksX3_init_6 : cX3_init.data.toList.drop 140 = dktX3_init_6 := dk_seg dksX3_init_5 24 rfl rfl
theorem dksX3_init_7 : cX3_init.data.toList.drop 162 = dktX3_init_7 := dk_seg dksX3_init_6 22 rfl rfl
theorem dksX3_init_8 : cX3_init.data.toList.drop 185 = dktX3_init_8 := dk_seg dksX3_init_7 23 rfl rfl
theorem dX3_init_0 : decode cX3_init 0 = .ok (.aload_n 0, 1) := dk_42 (dk_at dksX3_init_0 0 rfl rfl)
theorem dX3_init_1 : decode cX3_init 1 = .ok (.invokespecial 1, 3) := dk_183 0 1 (dk_at dksX3_init_0 1 rfl rfl)
theorem dX3_init_4 : decode cX3_init 4 = .ok (.aload_n 0, 1) := dk_42 (dk_at dksX3_init_0 4 rfl rfl)
theorem dX3_init_5 : decode cX3_init 5 = .ok (.bipush 6, 2) := dk_16 6 (dk_at dksX3_init_0 5 rfl rfl)
theorem dX3_init_7 : decode cX3_init 7 = .ok (.putfield 7, 3) := dk_181 0 7 (dk_at dksX3_init_0 7 rfl rfl)
theorem dX3_init_10 : decode cX3_init 10 = .ok (.aload_n 0, 1) := dk_42 (dk_at dksX3_init_0 10 rfl rfl)
theorem dX3_init_11 : decode cX3_init 11 = .ok (.bipush 20, 2) := dk_16 20 (dk_at dksX3_init_0 11 rfl rfl)
theorem dX3_init_13 : decode cX3_init 13 = .ok (.newarray .int, 2) := dk_188_10 (dk_at dksX3_init_0 13 rfl rfl)
theorem dX3_init_15 : decode cX3_init 15 = .ok (.putfield 13, 3) := dk_181 0 13 (dk_at dksX3_init_0 15 rfl rfl)
theorem dX3_init_18 : decode cX3_init 18 = .ok (.aload_n 0, 1) := dk_42 (dk_at dksX3_init_0 18 rfl rfl)
theorem dX3_init_19 : decode cX3_init 19 = .ok (.bipush 40, 2) := dk_16 40 (dk_at dksX3_init_0 19 rfl rfl)
theorem dX3_init_21 : decode cX3_init 21 = .ok (.newarray .int, 2) := dk_188_10 (dk_at dksX3_init_0 21 rfl rfl)
theorem dX3_init_23 : decode cX3_init 23 = .ok (.putfield 17, 3) := dk_181 0 17 (dk_at dksX3_init_1 0 rfl rfl)
theorem dX3_init_26 : decode cX3_init 26 = .ok (.aload_n 0, 1) := dk_42 (dk_at dksX3_init_1 3 rfl rfl)
theorem dX3_init_27 : decode cX3_init 27 = .ok (.bipush 40, 2) := dk_16 40 (dk_at dksX3_init_1 4 rfl rfl)
theorem dX3_init_29 : decode cX3_init 29 = .ok (.newarray .int, 2) := dk_188_10 (dk_at dksX3_init_1 6 rfl rfl)
theorem dX3_init_31 : decode cX3_init 31 = .ok (.putfield 20, 3) := dk_181 0 20 (dk_at dksX3_init_1 8 rfl rfl)
theorem dX3_init_34 : decode cX3_init 34 = .ok (.aload_n 0, 1) := dk_42 (dk_at dksX3_init_1 11 rfl rfl)
theorem dX3_init_35 : decode cX3_init 35 = .ok (.bipush 40, 2) := dk_16 40 (dk_at dksX3_init_1 12 rfl rfl)
theorem dX3_init_37 : decode cX3_init 37 = .ok (.newarray .int, 2) := dk_188_10 (dk_at dksX3_init_1 14 rfl rfl)
theorem dX3_init_39 : decode cX3_init 39 = .ok (.putfield 23, 3) := dk_181 0 23 (dk_at dksX3_init_1 16 rfl rfl)
theorem dX3_init_42 : decode cX3_init 42 = .ok (.aload_n 0, 1) := dk_42 (dk_at dksX3_init_1 19 rfl rfl)
theorem dX3_init_43 : decode cX3_init 43 = .ok (.bipush 40, 2) := dk_16 40 (dk_at dksX3_init_1 20 rfl rfl)
theorem dX3_init_45 : decode cX3_init 45 = .ok (.newarray .int, 2) := dk_188_10 (dk_at dksX3_init_1 22 rfl rfl)
theorem dX3_init_47 : decode cX3_init 47 = .ok (.putfield 26, 3) := dk_181 0 26 (dk_at dksX3_init_2 0 rfl rfl)
theorem dX3_init_50 : decode cX3_init 50 = .ok (.aload_n 0, 1) := dk_42 (dk_at dksX3_init_2 3 rfl rfl)
theorem dX3_init_51 : decode cX3_init 51 = .ok (.sipush 200, 3) := dk_17 0 200 (dk_at dksX3_init_2 4 rfl rfl)
theorem dX3_init_54 : decode cX3_init 54 = .ok (.newarray .int, 2) := dk_188_10 (dk_at dksX3_init_2 7 rfl rfl)
theorem dX3_init_56 : decode cX3_init 56 = .ok (.putfield 29, 3) := dk_181 0 29 (dk_at dksX3_init_2 9 rfl rfl)
theorem dX3_init_59 : decode cX3_init 59 = .ok (.aload_n 0, 1) := dk_42 (dk_at dksX3_init_2 12 rfl rfl)
theorem dX3_init_60 : decode cX3_init 60 = .ok (.sipush 200, 3) := dk_17 0 200 (dk_at dksX3_init_2 13 rfl rfl)
theorem dX3_init_63 : decode cX3_init 63 = .ok (.newarray .int, 2) := dk_188_10 (dk_at dksX3_init_2 16 rfl rfl)
theorem dX3_init_65 : decode cX3_init 65 = .ok (.putfield 32, 3) := dk_181 0 32 (dk_at dksX3_init_2 18 rfl rfl)
theorem dX3_init_68 : decode cX3_init 68 = .ok (.aload_n 0, 1) := dk_42 (dk_at dksX3_init_2 21 rfl rfl)
theorem dX3_init_69 : decode cX3_init 69 = .ok (.bipush 9, 2) := dk_16 9 (dk_at dksX3_init_2 22 rfl rfl)
theorem dX3_init_71 : decode cX3_init 71 = .ok (.newarray .int, 2) := dk_188_10 (dk_at dksX3_init_3 0 rfl rfl)
theorem dX3_init_73 : decode cX3_init 73 = .ok (.putfield 35, 3) := dk_181 0 35 (dk_at dksX3_init_3 2 rfl rfl)
theorem dX3_init_76 : decode cX3_init 76 = .ok (.aload_n 0, 1) := dk_42 (dk_at dksX3_init_3 5 rfl rfl)
theorem dX3_init_77 : decode cX3_init 77 = .ok (.sipush 5120, 3) := dk_17 20 0 (dk_at dksX3_init_3 6 rfl rfl)
theorem dX3_init_80 : decode cX3_init 80 = .ok (.newarray .int, 2) := dk_188_10 (dk_at dksX3_init_3 9 rfl rfl)
theorem dX3_init_82 : decode cX3_init 82 = .ok (.putfield 38, 3) := dk_181 0 38 (dk_at dksX3_init_3 11 rfl rfl)
theorem dX3_init_85 : decode cX3_init 85 = .ok (.aload_n 0, 1) := dk_42 (dk_at dksX3_init_3 14 rfl rfl)
theorem dX3_init_86 : decode cX3_init 86 = .ok (.bipush 9, 2) := dk_16 9 (dk_at dksX3_init_3 15 rfl rfl)
theorem dX3_init_88 : decode cX3_init 88 = .ok (.newarray .int, 2) := dk_188_10 (dk_at dksX3_init_3 17 rfl rfl)
theorem dX3_init_90 : decode cX3_init 90 = .ok (.putfield 41, 3) := dk_181 0 41 (dk_at dksX3_init_3 19 rfl rfl)
theorem dX3_init_93 : decode cX3_init 93 = .ok (.aload_n 0, 1) := dk_42 (dk_at dksX3_init_3 22 rfl rfl)
theorem dX3_init_94 : decode cX3_init 94 = .ok (.bipush 20, 2) := dk_16 20 (dk_at dksX3_init_4 0 rfl rfl)
theorem dX3_init_96 : decode cX3_init 96 = .ok (.newarray .int, 2) := dk_188_10 (dk_at dksX3_init_4 2 rfl rfl)
theorem dX3_init_98 : decode cX3_init 98 = .ok (.putfield 44, 3) := dk_181 0 44 (dk_at dksX3_init_4 4 rfl rfl)
theorem dX3_init_101 : decode cX3_init 101 = .ok (.aload_n 0, 1) := dk_42 (dk_at dksX3_init_4 7 rfl rfl)
theorem dX3_init_102 : decode cX3_init 102 = .ok (.bipush 20, 2) := dk_16 20 (dk_at dksX3_init_4 8 rfl rfl)
theorem dX3_init_104 : decode cX3_init 104 = .ok (.newarray .int, 2) := dk_188_10 (dk_at dksX3_init_4 10 rfl rfl)
theorem dX3_init_106 : decode cX3_init 106 = .ok (.putfield 47, 3) := dk_181 0 47 (dk_at dksX3_init_4 12 rfl rfl)
theorem dX3_init_109 : decode cX3_init 109 = .ok (.aload_n 0, 1) := dk_42 (dk_at dksX3_init_4 15 rfl rfl)
theorem dX3_init_110 : decode cX3_init 110 = .ok (.iload_n 1, 1) := dk_27 (dk_at dksX3_init_4 16 rfl rfl)
theorem dX3_init_111 : decode cX3_init 111 = .ok (.iconst 1, 1) := dk_4 (dk_at dksX3_init_4 17 rfl rfl)
theorem dX3_init_112 : decode cX3_init 112 = .ok (.if_icmp .ge 7, 3) := dk_162 0 7 (dk_at dksX3_init_4 18 rfl rfl)
theorem dX3_init_115 : decode cX3_init 115 = .ok (.iconst 1, 1) := dk_4 (dk_at dksX3_init_4 21 rfl rfl)
theorem dX3_init_116 : decode cX3_init 116 = .ok (.goto 15, 3) := dk_167 0 15 (dk_at dksX3_init_5 0 rfl rfl)
theorem dX3_init_119 : decode cX3_init 119 = .ok (.iload_n 1, 1) := dk_27 (dk_at dksX3_init_5 3 rfl rfl)
theorem dX3_init_120 : decode cX3_init 120 = .ok (.bipush 6, 2) := dk_16 6 (dk_at dksX3_init_5 4 rfl rfl)
theorem dX3_init_122 : decode cX3_init 122 = .ok (.if_icmp .le 8, 3) := dk_164 0 8 (dk_at dksX3_init_5 6 rfl rfl)
theorem dX3_init_125 : decode cX3_init 125 = .ok (.bipush 6, 2) := dk_16 6 (dk_at dksX3_init_5 9 rfl rfl)
theorem dX3_init_127 : decode cX3_init 127 = .ok (.goto 4, 3) := dk_167 0 4 (dk_at dksX3_init_5 11 rfl rfl)
theorem dX3_init_130 : decode cX3_init 130 = .ok (.iload_n 1, 1) := dk_27 (dk_at dksX3_init_5 14 rfl rfl)
theorem dX3_init_131 : decode cX3_init 131 = .ok (.putfield 50, 3) := dk_181 0 50 (dk_at dksX3_init_5 15 rfl rfl)
theorem dX3_init_134 : decode cX3_init 134 = .ok (.aload_n 0, 1) := dk_42 (dk_at dksX3_init_5 18 rfl rfl)
theorem dX3_init_135 : decode cX3_init 135 = .ok (.iload_n 2, 1) := dk_28 (dk_at dksX3_init_5 19 rfl rfl)
theorem dX3_init_136 : decode cX3_init 136 = .ok (.iconst 1, 1) := dk_4 (dk_at dksX3_init_5 20 rfl rfl)
theorem dX3_init_137 : decode cX3_init 137 = .ok (.if_icmp .ge 7, 3) := dk_162 0 7 (dk_at dksX3_init_5 21 rfl rfl)
theorem dX3_init_140 : decode cX3_init 140 = .ok (.iconst 1, 1) := dk_4 (dk_at dksX3_init_6 0 rfl rfl)
theorem dX3_init_141 : decode cX3_init 141 = .ok (.goto 15, 3) := dk_167 0 15 (dk_at dksX3_init_6 1 rfl rfl)
theorem dX3_init_144 : decode cX3_init 144 = .ok (.iload_n 2, 1) := dk_28 (dk_at dksX3_init_6 4 rfl rfl)
theorem dX3_init_145 : decode cX3_init 145 = .ok (.bipush 20, 2) := dk_16 20 (dk_at dksX3_init_6 5 rfl rfl)
theorem dX3_init_147 : decode cX3_init 147 = .ok (.if_icmp .le 8, 3) := dk_164 0 8 (dk_at dksX3_init_6 7 rfl rfl)
theorem dX3_init_150 : decode cX3_init 150 = .ok (.bipush 20, 2) := dk_16 20 (dk_at dksX3_init_6 10 rfl rfl)
theorem dX3_init_152 : decode cX3_init 152 = .ok (.goto 4, 3) := dk_167 0 4 (dk_at dksX3_init_6 12 rfl rfl)
theorem dX3_init_155 : decode cX3_init 155 = .ok (.iload_n 2, 1) := dk_28 (dk_at dksX3_init_6 15 rfl rfl)
theorem dX3_init_156 : decode cX3_init 156 = .ok (.putfield 53, 3) := dk_181 0 53 (dk_at dksX3_init_6 16 rfl rfl)
theorem dX3_init_159 : decode cX3_init 159 = .ok (.aload_n 0, 1) := dk_42 (dk_at dksX3_init_6 19 rfl rfl)
theorem dX3_init_160 : decode cX3_init 160 = .ok (.iload_n 3, 1) := dk_29 (dk_at dksX3_init_6 20 rfl rfl)
theorem dX3_init_161 : decode cX3_init 161 = .ok (.iconst 1, 1) := dk_4 (dk_at dksX3_init_6 21 rfl rfl)
theorem dX3_init_162 : decode cX3_init 162 = .ok (.if_icmp .ge 7, 3) := dk_162 0 7 (dk_at dksX3_init_7 0 rfl rfl)
theorem dX3_init_165 : decode cX3_init 165 = .ok (.iconst 1, 1) := dk_4 (dk_at dksX3_init_7 3 rfl rfl)
theorem dX3_init_166 : decode cX3_init 166 = .ok (.goto 15, 3) := dk_167 0 15 (dk_at dksX3_init_7 4 rfl rfl)
theorem dX3_init_169 : decode cX3_init 169 = .ok (.iload_n 3, 1) := dk_29 (dk_at dksX3_init_7 7 rfl rfl)
theorem dX3_init_170 : decode cX3_init 170 = .ok (.bipush 9, 2) := dk_16 9 (dk_at dksX3_init_7 8 rfl rfl)
theorem dX3_init_172 : decode cX3_init 172 = .ok (.if_icmp .le 8, 3) := dk_164 0 8 (dk_at dksX3_init_7 10 rfl rfl)
theorem dX3_init_175 : decode cX3_init 175 = .ok (.bipush 9, 2) := dk_16 9 (dk_at dksX3_init_7 13 rfl rfl)
theorem dX3_init_177 : decode cX3_init 177 = .ok (.goto 4, 3) := dk_167 0 4 (dk_at dksX3_init_7 15 rfl rfl)
theorem dX3_init_180 : decode cX3_init 180 = .ok (.iload_n 3, 1) := dk_29 (dk_at dksX3_init_7 18 rfl rfl)
theorem dX3_init_181 : decode cX3_init 181 = .ok (.putfield 56, 3) := dk_181 0 56 (dk_at dksX3_init_7 19 rfl rfl)
theorem dX3_init_184 : decode cX3_init 184 = .ok (.iconst 0, 1) := dk_3 (dk_at dksX3_init_7 22 rfl rfl)
theorem dX3_init_185 : decode cX3_init 185 = .ok (.istore 4, 2) := dk_54 4 (dk_at dksX3_init_8 0 rfl rfl)
theorem dX3_init_187 : decode cX3_init 187 = .ok (.iload 4, 2) := dk_21 4 (dk_at dksX3_init_8 2 rfl rfl)
theorem dX3_init_189 : decode cX3_init 189 = .ok (.bipush 20, 2) := dk_16 20 (dk_at dksX3_init_8 4 rfl rfl)
theorem dX3_init_191 : decode cX3_init 191 = .ok (.if_icmp .ge 17, 3) := dk_162 0 17 (dk_at dksX3_init_8 6 rfl rfl)
theorem dX3_init_194 : decode cX3_init 194 = .ok (.aload_n 0, 1) := dk_42 (dk_at dksX3_init_8 9 rfl rfl)
theorem dX3_init_195 : decode cX3_init 195 = .ok (.getfield 13, 3) := dk_180 0 13 (dk_at dksX3_init_8 10 rfl rfl)
theorem dX3_init_198 : decode cX3_init 198 = .ok (.iload 4, 2) := dk_21 4 (dk_at dksX3_init_8 13 rfl rfl)
theorem dX3_init_200 : decode cX3_init 200 = .ok (.iconst (-1), 1) := dk_2 (dk_at dksX3_init_8 15 rfl rfl)
theorem dX3_init_201 : decode cX3_init 201 = .ok (.iastore, 1) := dk_79 (dk_at dksX3_init_8 16 rfl rfl)
theorem dX3_init_202 : decode cX3_init 202 = .ok (.iinc 4 1, 3) := dk_132 4 1 (dk_at dksX3_init_8 17 rfl rfl)
theorem dX3_init_205 : decode cX3_init 205 = .ok (.goto (-18), 3) := dk_167 255 238 (dk_at dksX3_init_8 20 rfl rfl)
theorem dX3_init_208 : decode cX3_init 208 = .ok (.return_, 1) := dk_177 (dk_at dksX3_init_8 23 rfl rfl)
abbrev cX3_thrown : ByteArray := prog_7_method_2_code
def yX3_thrown : MethodName := ⟨RX3, "thrown", "()I"⟩
theorem dX3_thrown_0 : decode cX3_thrown 0 = .ok (.aload_n 0, 1) := by decide +kernel
theorem dX3_thrown_1 : decode cX3_thrown 1 = .ok (.getfield 59, 3) := by decide +kernel
theorem dX3_thrown_4 : decode cX3_thrown 4 = .ok (.ireturn, 1) := by decide +kernel
abbrev cX3_put : ByteArray := prog_7_method_14_code
def yX3_put : MethodName := ⟨RX3, "put", "(III)I"⟩
def dkwX3_put_5 : List UInt8 := [182, 0, 94, 172, 42, 180, 0, 13, 27, 46, 54, 6, 42, 180, 0, 13, 27, 21, 4, 79, 21, 6, 172]
abbrev dktX3_put_5 : List UInt8 := dkwX3_put_5 ++ []
def dkwX3_put_4 : List UInt8 := [54, 5, 132, 6, 1, 167, 255, 216, 21, 5, 154, 0, 10, 42, 180, 0, 69, 158, 0, 9, 42, 5]
abbrev dktX3_put_4 : List UInt8 := dkwX3_put_4 ++ dktX3_put_5
def dkwX3_put_3 : List UInt8 := [21, 6, 27, 159, 0, 19, 42, 180, 0, 13, 21, 6, 46, 21, 4, 160, 0, 7, 4, 167, 0, 4, 3]
abbrev dktX3_put_3 : List UInt8 := dkwX3_put_3 ++ dktX3_put_4
def dkwX3_put_2 : List UInt8 := [104, 29, 96, 54, 4, 3, 54, 5, 3, 54, 6, 21, 6, 16, 20, 162, 0, 39, 21, 5, 154, 0, 21]
abbrev dktX3_put_2 : List UInt8 := dkwX3_put_2 ++ dktX3_put_3
def dkwX3_put_1 : List UInt8 := [153, 0, 15, 29, 4, 42, 180, 0, 53, 184, 0, 62, 154, 0, 9, 42, 4, 182, 0, 94, 172, 16, 100, 28]
abbrev dktX3_put_1 : List UInt8 := dkwX3_put_1 ++ dktX3_put_2
def dkwX3_put_0 : List UInt8 := [42, 3, 181, 0, 59, 27, 184, 0, 90, 153, 0, 29, 28, 3, 42, 180, 0, 50, 4, 100, 184, 0, 62]
abbrev dktX3_put_0 : List UInt8 := dkwX3_put_0 ++ dktX3_put_1
theorem dksX3_put_0 : cX3_put.data.toList.drop 0 = dktX3_put_0 := by decide +kernel
theorem dksX3_put_1 : cX3_put.data.toList.drop 23 = dktX3_put_1 := dk_seg dksX3_put_0 23 rfl rfl
theorem dksX3_put_2 : cX3_put.data.toList.drop 47 = dktX3_put_2 := dk_seg dksX3_put_1 24 rfl rfl
theorem dksX3_put_3 : cX3_put.data.toList.drop 70 = dktX3_put_3 := dk_seg dksX3_put_2 23 rfl rfl
theorem dksX3_put_4 : cX3_put.data.toList.drop 93 = dktX3_put_4 := dk_seg dksX3_put_3 23 rfl rfl
theorem dksX3_put_5 : cX3_put.data.toList.drop 115 = dktX3_put_5 := dk_seg dksX3_put_4 22 rfl rfl
theorem dX3_put_0 : decode cX3_put 0 = .ok (.aload_n 0, 1) := dk_42 (dk_at dksX3_put_0 0 rfl rfl)
theorem dX3_put_1 : decode cX3_put 1 = .ok (.iconst 0, 1) := dk_3 (dk_at dksX3_put_0 1 rfl rfl)
theorem dX3_put_2 : decode cX3_put 2 = .ok (.putfield 59, 3) := dk_181 0 59 (dk_at dksX3_put_0 2 rfl rfl)
theorem dX3_put_5 : decode cX3_put 5 = .ok (.iload_n 1, 1) := dk_27 (dk_at dksX3_put_0 5 rfl rfl)
theorem dX3_put_6 : decode cX3_put 6 = .ok (.invokestatic 90, 3) := dk_184 0 90 (dk_at dksX3_put_0 6 rfl rfl)
theorem dX3_put_9 : decode cX3_put 9 = .ok (.ifCond .eq 29, 3) := dk_153 0 29 (dk_at dksX3_put_0 9 rfl rfl)
theorem dX3_put_12 : decode cX3_put 12 = .ok (.iload_n 2, 1) := dk_28 (dk_at dksX3_put_0 12 rfl rfl)
theorem dX3_put_13 : decode cX3_put 13 = .ok (.iconst 0, 1) := dk_3 (dk_at dksX3_put_0 13 rfl rfl)
theorem dX3_put_14 : decode cX3_put 14 = .ok (.aload_n 0, 1) := dk_42 (dk_at dksX3_put_0 14 rfl rfl)
theorem dX3_put_15 : decode cX3_put 15 = .ok (.getfield 50, 3) := dk_180 0 50 (dk_at dksX3_put_0 15 rfl rfl)
theorem dX3_put_18 : decode cX3_put 18 = .ok (.iconst 1, 1) := dk_4 (dk_at dksX3_put_0 18 rfl rfl)
theorem dX3_put_19 : decode cX3_put 19 = .ok (.isub, 1) := dk_100 (dk_at dksX3_put_0 19 rfl rfl)
theorem dX3_put_20 : decode cX3_put 20 = .ok (.invokestatic 62, 3) := dk_184 0 62 (dk_at dksX3_put_0 20 rfl rfl)
theorem dX3_put_23 : decode cX3_put 23 = .ok (.ifCond .eq 15, 3) := dk_153 0 15 (dk_at dksX3_put_1 0 rfl rfl)
theorem dX3_put_26 : decode cX3_put 26 = .ok (.iload_n 3, 1) := dk_29 (dk_at dksX3_put_1 3 rfl rfl)
theorem dX3_put_27 : decode cX3_put 27 = .ok (.iconst 1, 1) := dk_4 (dk_at dksX3_put_1 4 rfl rfl)
theorem dX3_put_28 : decode cX3_put 28 = .ok (.aload_n 0, 1) := dk_42 (dk_at dksX3_put_1 5 rfl rfl)
theorem dX3_put_29 : decode cX3_put 29 = .ok (.getfield 53, 3) := dk_180 0 53 (dk_at dksX3_put_1 6 rfl rfl)
theorem dX3_put_32 : decode cX3_put 32 = .ok (.invokestatic 62, 3) := dk_184 0 62 (dk_at dksX3_put_1 9 rfl rfl)
theorem dX3_put_35 : decode cX3_put 35 = .ok (.ifCond .ne 9, 3) := dk_154 0 9 (dk_at dksX3_put_1 12 rfl rfl)
theorem dX3_put_38 : decode cX3_put 38 = .ok (.aload_n 0, 1) := dk_42 (dk_at dksX3_put_1 15 rfl rfl)
theorem dX3_put_39 : decode cX3_put 39 = .ok (.iconst 1, 1) := dk_4 (dk_at dksX3_put_1 16 rfl rfl)
theorem dX3_put_40 : decode cX3_put 40 = .ok (.invokevirtual 94, 3) := dk_182 0 94 (dk_at dksX3_put_1 17 rfl rfl)
theorem dX3_put_43 : decode cX3_put 43 = .ok (.ireturn, 1) := dk_172 (dk_at dksX3_put_1 20 rfl rfl)
theorem dX3_put_44 : decode cX3_put 44 = .ok (.bipush 100, 2) := dk_16 100 (dk_at dksX3_put_1 21 rfl rfl)
theorem dX3_put_46 : decode cX3_put 46 = .ok (.iload_n 2, 1) := dk_28 (dk_at dksX3_put_1 23 rfl rfl)
theorem dX3_put_47 : decode cX3_put 47 = .ok (.imul, 1) := dk_104 (dk_at dksX3_put_2 0 rfl rfl)
theorem dX3_put_48 : decode cX3_put 48 = .ok (.iload_n 3, 1) := dk_29 (dk_at dksX3_put_2 1 rfl rfl)
theorem dX3_put_49 : decode cX3_put 49 = .ok (.iadd, 1) := dk_96 (dk_at dksX3_put_2 2 rfl rfl)
theorem dX3_put_50 : decode cX3_put 50 = .ok (.istore 4, 2) := dk_54 4 (dk_at dksX3_put_2 3 rfl rfl)
theorem dX3_put_52 : decode cX3_put 52 = .ok (.iconst 0, 1) := dk_3 (dk_at dksX3_put_2 5 rfl rfl)
theorem dX3_put_53 : decode cX3_put 53 = .ok (.istore 5, 2) := dk_54 5 (dk_at dksX3_put_2 6 rfl rfl)
theorem dX3_put_55 : decode cX3_put 55 = .ok (.iconst 0, 1) := dk_3 (dk_at dksX3_put_2 8 rfl rfl)
theorem dX3_put_56 : decode cX3_put 56 = .ok (.istore 6, 2) := dk_54 6 (dk_at dksX3_put_2 9 rfl rfl)
theorem dX3_put_58 : decode cX3_put 58 = .ok (.iload 6, 2) := dk_21 6 (dk_at dksX3_put_2 11 rfl rfl)
theorem dX3_put_60 : decode cX3_put 60 = .ok (.bipush 20, 2) := dk_16 20 (dk_at dksX3_put_2 13 rfl rfl)
theorem dX3_put_62 : decode cX3_put 62 = .ok (.if_icmp .ge 39, 3) := dk_162 0 39 (dk_at dksX3_put_2 15 rfl rfl)
theorem dX3_put_65 : decode cX3_put 65 = .ok (.iload 5, 2) := dk_21 5 (dk_at dksX3_put_2 18 rfl rfl)
theorem dX3_put_67 : decode cX3_put 67 = .ok (.ifCond .ne 21, 3) := dk_154 0 21 (dk_at dksX3_put_2 20 rfl rfl)
theorem dX3_put_70 : decode cX3_put 70 = .ok (.iload 6, 2) := dk_21 6 (dk_at dksX3_put_3 0 rfl rfl)
theorem dX3_put_72 : decode cX3_put 72 = .ok (.iload_n 1, 1) := dk_27 (dk_at dksX3_put_3 2 rfl rfl)
theorem dX3_put_73 : decode cX3_put 73 = .ok (.if_icmp .eq 19, 3) := dk_159 0 19 (dk_at dksX3_put_3 3 rfl rfl)
theorem dX3_put_76 : decode cX3_put 76 = .ok (.aload_n 0, 1) := dk_42 (dk_at dksX3_put_3 6 rfl rfl)
theorem dX3_put_77 : decode cX3_put 77 = .ok (.getfield 13, 3) := dk_180 0 13 (dk_at dksX3_put_3 7 rfl rfl)
theorem dX3_put_80 : decode cX3_put 80 = .ok (.iload 6, 2) := dk_21 6 (dk_at dksX3_put_3 10 rfl rfl)
theorem dX3_put_82 : decode cX3_put 82 = .ok (.iaload, 1) := dk_46 (dk_at dksX3_put_3 12 rfl rfl)
theorem dX3_put_83 : decode cX3_put 83 = .ok (.iload 4, 2) := dk_21 4 (dk_at dksX3_put_3 13 rfl rfl)
theorem dX3_put_85 : decode cX3_put 85 = .ok (.if_icmp .ne 7, 3) := dk_160 0 7 (dk_at dksX3_put_3 15 rfl rfl)
theorem dX3_put_88 : decode cX3_put 88 = .ok (.iconst 1, 1) := dk_4 (dk_at dksX3_put_3 18 rfl rfl)
theorem dX3_put_89 : decode cX3_put 89 = .ok (.goto 4, 3) := dk_167 0 4 (dk_at dksX3_put_3 19 rfl rfl)
theorem dX3_put_92 : decode cX3_put 92 = .ok (.iconst 0, 1) := dk_3 (dk_at dksX3_put_3 22 rfl rfl)
theorem dX3_put_93 : decode cX3_put 93 = .ok (.istore 5, 2) := dk_54 5 (dk_at dksX3_put_4 0 rfl rfl)
theorem dX3_put_95 : decode cX3_put 95 = .ok (.iinc 6 1, 3) := dk_132 6 1 (dk_at dksX3_put_4 2 rfl rfl)
theorem dX3_put_98 : decode cX3_put 98 = .ok (.goto (-40), 3) := dk_167 255 216 (dk_at dksX3_put_4 5 rfl rfl)
theorem dX3_put_101 : decode cX3_put 101 = .ok (.iload 5, 2) := dk_21 5 (dk_at dksX3_put_4 8 rfl rfl)
theorem dX3_put_103 : decode cX3_put 103 = .ok (.ifCond .ne 10, 3) := dk_154 0 10 (dk_at dksX3_put_4 10 rfl rfl)
theorem dX3_put_106 : decode cX3_put 106 = .ok (.aload_n 0, 1) := dk_42 (dk_at dksX3_put_4 13 rfl rfl)
theorem dX3_put_107 : decode cX3_put 107 = .ok (.getfield 69, 3) := dk_180 0 69 (dk_at dksX3_put_4 14 rfl rfl)
theorem dX3_put_110 : decode cX3_put 110 = .ok (.ifCond .le 9, 3) := dk_158 0 9 (dk_at dksX3_put_4 17 rfl rfl)
theorem dX3_put_113 : decode cX3_put 113 = .ok (.aload_n 0, 1) := dk_42 (dk_at dksX3_put_4 20 rfl rfl)
theorem dX3_put_114 : decode cX3_put 114 = .ok (.iconst 2, 1) := dk_5 (dk_at dksX3_put_4 21 rfl rfl)
theorem dX3_put_115 : decode cX3_put 115 = .ok (.invokevirtual 94, 3) := dk_182 0 94 (dk_at dksX3_put_5 0 rfl rfl)
theorem dX3_put_118 : decode cX3_put 118 = .ok (.ireturn, 1) := dk_172 (dk_at dksX3_put_5 3 rfl rfl)
theorem dX3_put_119 : decode cX3_put 119 = .ok (.aload_n 0, 1) := dk_42 (dk_at dksX3_put_5 4 rfl rfl)
theorem dX3_put_120 : decode cX3_put 120 = .ok (.getfield 13, 3) := dk_180 0 13 (dk_at dksX3_put_5 5 rfl rfl)
theorem dX3_put_123 : decode cX3_put 123 = .ok (.iload_n 1, 1) := dk_27 (dk_at dksX3_put_5 8 rfl rfl)
theorem dX3_put_124 : decode cX3_put 124 = .ok (.iaload, 1) := dk_46 (dk_at dksX3_put_5 9 rfl rfl)
theorem dX3_put_125 : decode cX3_put 125 = .ok (.istore 6, 2) := dk_54 6 (dk_at dksX3_put_5 10 rfl rfl)
theorem dX3_put_127 : decode cX3_put 127 = .ok (.aload_n 0, 1) := dk_42 (dk_at dksX3_put_5 12 rfl rfl)
theorem dX3_put_128 : decode cX3_put 128 = .ok (.getfield 13, 3) := dk_180 0 13 (dk_at dksX3_put_5 13 rfl rfl)
theorem dX3_put_131 : decode cX3_put 131 = .ok (.iload_n 1, 1) := dk_27 (dk_at dksX3_put_5 16 rfl rfl)
theorem dX3_put_132 : decode cX3_put 132 = .ok (.iload 4, 2) := dk_21 4 (dk_at dksX3_put_5 17 rfl rfl)
theorem dX3_put_134 : decode cX3_put 134 = .ok (.iastore, 1) := dk_79 (dk_at dksX3_put_5 19 rfl rfl)
theorem dX3_put_135 : decode cX3_put 135 = .ok (.iload 6, 2) := dk_21 6 (dk_at dksX3_put_5 20 rfl rfl)
theorem dX3_put_137 : decode cX3_put 137 = .ok (.ireturn, 1) := dk_172 (dk_at dksX3_put_5 22 rfl rfl)
abbrev cX3_isProduct : ByteArray := prog_7_method_5_code
def yX3_isProduct : MethodName := ⟨RX3, "isProduct", "(I)Z"⟩
def dkwX3_isProduct_0 : List UInt8 := [26, 3, 16, 19, 184, 0, 62, 172]
abbrev dktX3_isProduct_0 : List UInt8 := dkwX3_isProduct_0 ++ []
theorem dksX3_isProduct_0 : cX3_isProduct.data.toList.drop 0 = dktX3_isProduct_0 := by decide +kernel
theorem dX3_isProduct_0 : decode cX3_isProduct 0 = .ok (.iload_n 0, 1) := dk_26 (dk_at dksX3_isProduct_0 0 rfl rfl)
theorem dX3_isProduct_1 : decode cX3_isProduct 1 = .ok (.iconst 0, 1) := dk_3 (dk_at dksX3_isProduct_0 1 rfl rfl)
theorem dX3_isProduct_2 : decode cX3_isProduct 2 = .ok (.bipush 19, 2) := dk_16 19 (dk_at dksX3_isProduct_0 2 rfl rfl)
theorem dX3_isProduct_4 : decode cX3_isProduct 4 = .ok (.invokestatic 62, 3) := dk_184 0 62 (dk_at dksX3_isProduct_0 4 rfl rfl)
theorem dX3_isProduct_7 : decode cX3_isProduct 7 = .ok (.ireturn, 1) := dk_172 (dk_at dksX3_isProduct_0 7 rfl rfl)
abbrev cX3_in : ByteArray := prog_7_method_4_code
def yX3_in : MethodName := ⟨RX3, "in", "(III)Z"⟩
def dkwX3_in_0 : List UInt8 := [26, 27, 161, 0, 12, 26, 28, 163, 0, 7, 4, 167, 0, 4, 3, 172]
abbrev dktX3_in_0 : List UInt8 := dkwX3_in_0 ++ []
theorem dksX3_in_0 : cX3_in.data.toList.drop 0 = dktX3_in_0 := by decide +kernel
theorem dX3_in_0 : decode cX3_in 0 = .ok (.iload_n 0, 1) := dk_26 (dk_at dksX3_in_0 0 rfl rfl)
theorem dX3_in_1 : decode cX3_in 1 = .ok (.iload_n 1, 1) := dk_27 (dk_at dksX3_in_0 1 rfl rfl)
theorem dX3_in_2 : decode cX3_in 2 = .ok (.if_icmp .lt 12, 3) := dk_161 0 12 (dk_at dksX3_in_0 2 rfl rfl)
theorem dX3_in_5 : decode cX3_in 5 = .ok (.iload_n 0, 1) := dk_26 (dk_at dksX3_in_0 5 rfl rfl)
theorem dX3_in_6 : decode cX3_in 6 = .ok (.iload_n 2, 1) := dk_28 (dk_at dksX3_in_0 6 rfl rfl)
theorem dX3_in_7 : decode cX3_in 7 = .ok (.if_icmp .gt 7, 3) := dk_163 0 7 (dk_at dksX3_in_0 7 rfl rfl)
theorem dX3_in_10 : decode cX3_in 10 = .ok (.iconst 1, 1) := dk_4 (dk_at dksX3_in_0 10 rfl rfl)
theorem dX3_in_11 : decode cX3_in 11 = .ok (.goto 4, 3) := dk_167 0 4 (dk_at dksX3_in_0 11 rfl rfl)
theorem dX3_in_14 : decode cX3_in 14 = .ok (.iconst 0, 1) := dk_3 (dk_at dksX3_in_0 14 rfl rfl)
theorem dX3_in_15 : decode cX3_in 15 = .ok (.ireturn, 1) := dk_172 (dk_at dksX3_in_0 15 rfl rfl)
abbrev cX3_fails : ByteArray := prog_7_method_3_code
def yX3_fails : MethodName := ⟨RX3, "fails", "(I)I"⟩
def dkwX3_fails_0 : List UInt8 := [42, 27, 181, 0, 59, 3, 172]
abbrev dktX3_fails_0 : List UInt8 := dkwX3_fails_0 ++ []
theorem dksX3_fails_0 : cX3_fails.data.toList.drop 0 = dktX3_fails_0 := by decide +kernel
theorem dX3_fails_0 : decode cX3_fails 0 = .ok (.aload_n 0, 1) := dk_42 (dk_at dksX3_fails_0 0 rfl rfl)
theorem dX3_fails_1 : decode cX3_fails 1 = .ok (.iload_n 1, 1) := dk_27 (dk_at dksX3_fails_0 1 rfl rfl)
theorem dX3_fails_2 : decode cX3_fails 2 = .ok (.putfield 59, 3) := dk_181 0 59 (dk_at dksX3_fails_0 2 rfl rfl)
theorem dX3_fails_5 : decode cX3_fails 5 = .ok (.iconst 0, 1) := dk_3 (dk_at dksX3_fails_0 5 rfl rfl)
theorem dX3_fails_6 : decode cX3_fails 6 = .ok (.ireturn, 1) := dk_172 (dk_at dksX3_fails_0 6 rfl rfl)
abbrev cX3_layOut : ByteArray := prog_7_method_18_code
def yX3_layOut : MethodName := ⟨RX3, "layOut", "()I"⟩
def dkwX3_layOut_5 : List UInt8 := [132, 3, 1, 167, 255, 203, 28, 172]
abbrev dktX3_layOut_5 : List UInt8 := dkwX3_layOut_5 ++ []
def dkwX3_layOut_4 : List UInt8 := [3, 167, 0, 4, 4, 96, 61, 42, 180, 0, 13, 42, 180, 0, 44, 29, 46, 42, 180, 0, 47, 29, 46, 79]
abbrev dktX3_layOut_4 : List UInt8 := dkwX3_layOut_4 ++ dktX3_layOut_5
def dkwX3_layOut_3 : List UInt8 := [162, 0, 54, 28, 42, 180, 0, 13, 42, 180, 0, 44, 29, 46, 46, 42, 180, 0, 47, 29, 46, 160, 0, 7]
abbrev dktX3_layOut_3 : List UInt8 := dkwX3_layOut_3 ++ dktX3_layOut_4
def dkwX3_layOut_2 : List UInt8 := [180, 0, 13, 28, 46, 27, 182, 0, 105, 132, 1, 1, 132, 2, 1, 167, 255, 217, 3, 61, 3, 62, 29, 27]
abbrev dktX3_layOut_2 : List UInt8 := dkwX3_layOut_2 ++ dktX3_layOut_3
def dkwX3_layOut_1 : List UInt8 := [16, 20, 162, 0, 39, 42, 180, 0, 13, 28, 46, 2, 159, 0, 23, 42, 28, 27, 182, 0, 101, 42, 42]
abbrev dktX3_layOut_1 : List UInt8 := dkwX3_layOut_1 ++ dktX3_layOut_2
def dkwX3_layOut_0 : List UInt8 := [42, 3, 181, 0, 59, 42, 180, 0, 69, 158, 0, 9, 42, 4, 182, 0, 94, 172, 3, 60, 3, 61, 28]
abbrev dktX3_layOut_0 : List UInt8 := dkwX3_layOut_0 ++ dktX3_layOut_1
theorem dksX3_layOut_0 : cX3_layOut.data.toList.drop 0 = dktX3_layOut_0 := by decide +kernel
theorem dksX3_layOut_1 : cX3_layOut.data.toList.drop 23 = dktX3_layOut_1 := dk_seg dksX3_layOut_0 23 rfl rfl
theorem dksX3_layOut_2 : cX3_layOut.data.toList.drop 46 = dktX3_layOut_2 := dk_seg dksX3_layOut_1 23 rfl rfl
theorem dksX3_layOut_3 : cX3_layOut.data.toList.drop 70 = dktX3_layOut_3 := dk_seg dksX3_layOut_2 24 rfl rfl
theorem dksX3_layOut_4 : cX3_layOut.data.toList.drop 94 = dktX3_layOut_4 := dk_seg dksX3_layOut_3 24 rfl rfl
theorem dksX3_layOut_5 : cX3_layOut.data.toList.drop 118 = dktX3_layOut_5 := dk_seg dksX3_layOut_4 24 rfl rfl
theorem dX3_layOut_0 : decode cX3_layOut 0 = .ok (.aload_n 0, 1) := dk_42 (dk_at dksX3_layOut_0 0 rfl rfl)
theorem dX3_layOut_1 : decode cX3_layOut 1 = .ok (.iconst 0, 1) := dk_3 (dk_at dksX3_layOut_0 1 rfl rfl)
theorem dX3_layOut_2 : decode cX3_layOut 2 = .ok (.putfield 59, 3) := dk_181 0 59 (dk_at dksX3_layOut_0 2 rfl rfl)
theorem dX3_layOut_5 : decode cX3_layOut 5 = .ok (.aload_n 0, 1) := dk_42 (dk_at dksX3_layOut_0 5 rfl rfl)
theorem dX3_layOut_6 : decode cX3_layOut 6 = .ok (.getfield 69, 3) := dk_180 0 69 (dk_at dksX3_layOut_0 6 rfl rfl)
theorem dX3_layOut_9 : decode cX3_layOut 9 = .ok (.ifCond .le 9, 3) := dk_158 0 9 (dk_at dksX3_layOut_0 9 rfl rfl)
theorem dX3_layOut_12 : decode cX3_layOut 12 = .ok (.aload_n 0, 1) := dk_42 (dk_at dksX3_layOut_0 12 rfl rfl)
theorem dX3_layOut_13 : decode cX3_layOut 13 = .ok (.iconst 1, 1) := dk_4 (dk_at dksX3_layOut_0 13 rfl rfl)
theorem dX3_layOut_14 : decode cX3_layOut 14 = .ok (.invokevirtual 94, 3) := dk_182 0 94 (dk_at dksX3_layOut_0 14 rfl rfl)
theorem dX3_layOut_17 : decode cX3_layOut 17 = .ok (.ireturn, 1) := dk_172 (dk_at dksX3_layOut_0 17 rfl rfl)
theorem dX3_layOut_18 : decode cX3_layOut 18 = .ok (.iconst 0, 1) := dk_3 (dk_at dksX3_layOut_0 18 rfl rfl)
theorem dX3_layOut_19 : decode cX3_layOut 19 = .ok (.istore_n 1, 1) := dk_60 (dk_at dksX3_layOut_0 19 rfl rfl)
theorem dX3_layOut_20 : decode cX3_layOut 20 = .ok (.iconst 0, 1) := dk_3 (dk_at dksX3_layOut_0 20 rfl rfl)
theorem dX3_layOut_21 : decode cX3_layOut 21 = .ok (.istore_n 2, 1) := dk_61 (dk_at dksX3_layOut_0 21 rfl rfl)
theorem dX3_layOut_22 : decode cX3_layOut 22 = .ok (.iload_n 2, 1) := dk_28 (dk_at dksX3_layOut_0 22 rfl rfl)
theorem dX3_layOut_23 : decode cX3_layOut 23 = .ok (.bipush 20, 2) := dk_16 20 (dk_at dksX3_layOut_1 0 rfl rfl)
theorem dX3_layOut_25 : decode cX3_layOut 25 = .ok (.if_icmp .ge 39, 3) := dk_162 0 39 (dk_at dksX3_layOut_1 2 rfl rfl)
theorem dX3_layOut_28 : decode cX3_layOut 28 = .ok (.aload_n 0, 1) := dk_42 (dk_at dksX3_layOut_1 5 rfl rfl)
theorem dX3_layOut_29 : decode cX3_layOut 29 = .ok (.getfield 13, 3) := dk_180 0 13 (dk_at dksX3_layOut_1 6 rfl rfl)
theorem dX3_layOut_32 : decode cX3_layOut 32 = .ok (.iload_n 2, 1) := dk_28 (dk_at dksX3_layOut_1 9 rfl rfl)
theorem dX3_layOut_33 : decode cX3_layOut 33 = .ok (.iaload, 1) := dk_46 (dk_at dksX3_layOut_1 10 rfl rfl)
theorem dX3_layOut_34 : decode cX3_layOut 34 = .ok (.iconst (-1), 1) := dk_2 (dk_at dksX3_layOut_1 11 rfl rfl)
theorem dX3_layOut_35 : decode cX3_layOut 35 = .ok (.if_icmp .eq 23, 3) := dk_159 0 23 (dk_at dksX3_layOut_1 12 rfl rfl)
theorem dX3_layOut_38 : decode cX3_layOut 38 = .ok (.aload_n 0, 1) := dk_42 (dk_at dksX3_layOut_1 15 rfl rfl)
theorem dX3_layOut_39 : decode cX3_layOut 39 = .ok (.iload_n 2, 1) := dk_28 (dk_at dksX3_layOut_1 16 rfl rfl)
theorem dX3_layOut_40 : decode cX3_layOut 40 = .ok (.iload_n 1, 1) := dk_27 (dk_at dksX3_layOut_1 17 rfl rfl)
theorem dX3_layOut_41 : decode cX3_layOut 41 = .ok (.invokevirtual 101, 3) := dk_182 0 101 (dk_at dksX3_layOut_1 18 rfl rfl)
theorem dX3_layOut_44 : decode cX3_layOut 44 = .ok (.aload_n 0, 1) := dk_42 (dk_at dksX3_layOut_1 21 rfl rfl)
theorem dX3_layOut_45 : decode cX3_layOut 45 = .ok (.aload_n 0, 1) := dk_42 (dk_at dksX3_layOut_1 22 rfl rfl)
theorem dX3_layOut_46 : decode cX3_layOut 46 = .ok (.getfield 13, 3) := dk_180 0 13 (dk_at dksX3_layOut_2 0 rfl rfl)
theorem dX3_layOut_49 : decode cX3_layOut 49 = .ok (.iload_n 2, 1) := dk_28 (dk_at dksX3_layOut_2 3 rfl rfl)
theorem dX3_layOut_50 : decode cX3_layOut 50 = .ok (.iaload, 1) := dk_46 (dk_at dksX3_layOut_2 4 rfl rfl)
theorem dX3_layOut_51 : decode cX3_layOut 51 = .ok (.iload_n 1, 1) := dk_27 (dk_at dksX3_layOut_2 5 rfl rfl)
theorem dX3_layOut_52 : decode cX3_layOut 52 = .ok (.invokevirtual 105, 3) := dk_182 0 105 (dk_at dksX3_layOut_2 6 rfl rfl)
theorem dX3_layOut_55 : decode cX3_layOut 55 = .ok (.iinc 1 1, 3) := dk_132 1 1 (dk_at dksX3_layOut_2 9 rfl rfl)
theorem dX3_layOut_58 : decode cX3_layOut 58 = .ok (.iinc 2 1, 3) := dk_132 2 1 (dk_at dksX3_layOut_2 12 rfl rfl)
theorem dX3_layOut_61 : decode cX3_layOut 61 = .ok (.goto (-39), 3) := dk_167 255 217 (dk_at dksX3_layOut_2 15 rfl rfl)
theorem dX3_layOut_64 : decode cX3_layOut 64 = .ok (.iconst 0, 1) := dk_3 (dk_at dksX3_layOut_2 18 rfl rfl)
theorem dX3_layOut_65 : decode cX3_layOut 65 = .ok (.istore_n 2, 1) := dk_61 (dk_at dksX3_layOut_2 19 rfl rfl)
theorem dX3_layOut_66 : decode cX3_layOut 66 = .ok (.iconst 0, 1) := dk_3 (dk_at dksX3_layOut_2 20 rfl rfl)
theorem dX3_layOut_67 : decode cX3_layOut 67 = .ok (.istore_n 3, 1) := dk_62 (dk_at dksX3_layOut_2 21 rfl rfl)
theorem dX3_layOut_68 : decode cX3_layOut 68 = .ok (.iload_n 3, 1) := dk_29 (dk_at dksX3_layOut_2 22 rfl rfl)
theorem dX3_layOut_69 : decode cX3_layOut 69 = .ok (.iload_n 1, 1) := dk_27 (dk_at dksX3_layOut_2 23 rfl rfl)
theorem dX3_layOut_70 : decode cX3_layOut 70 = .ok (.if_icmp .ge 54, 3) := dk_162 0 54 (dk_at dksX3_layOut_3 0 rfl rfl)
theorem dX3_layOut_73 : decode cX3_layOut 73 = .ok (.iload_n 2, 1) := dk_28 (dk_at dksX3_layOut_3 3 rfl rfl)
theorem dX3_layOut_74 : decode cX3_layOut 74 = .ok (.aload_n 0, 1) := dk_42 (dk_at dksX3_layOut_3 4 rfl rfl)
theorem dX3_layOut_75 : decode cX3_layOut 75 = .ok (.getfield 13, 3) := dk_180 0 13 (dk_at dksX3_layOut_3 5 rfl rfl)
theorem dX3_layOut_78 : decode cX3_layOut 78 = .ok (.aload_n 0, 1) := dk_42 (dk_at dksX3_layOut_3 8 rfl rfl)
theorem dX3_layOut_79 : decode cX3_layOut 79 = .ok (.getfield 44, 3) := dk_180 0 44 (dk_at dksX3_layOut_3 9 rfl rfl)
theorem dX3_layOut_82 : decode cX3_layOut 82 = .ok (.iload_n 3, 1) := dk_29 (dk_at dksX3_layOut_3 12 rfl rfl)
theorem dX3_layOut_83 : decode cX3_layOut 83 = .ok (.iaload, 1) := dk_46 (dk_at dksX3_layOut_3 13 rfl rfl)
theorem dX3_layOut_84 : decode cX3_layOut 84 = .ok (.iaload, 1) := dk_46 (dk_at dksX3_layOut_3 14 rfl rfl)
theorem dX3_layOut_85 : decode cX3_layOut 85 = .ok (.aload_n 0, 1) := dk_42 (dk_at dksX3_layOut_3 15 rfl rfl)
theorem dX3_layOut_86 : decode cX3_layOut 86 = .ok (.getfield 47, 3) := dk_180 0 47 (dk_at dksX3_layOut_3 16 rfl rfl)
theorem dX3_layOut_89 : decode cX3_layOut 89 = .ok (.iload_n 3, 1) := dk_29 (dk_at dksX3_layOut_3 19 rfl rfl)
theorem dX3_layOut_90 : decode cX3_layOut 90 = .ok (.iaload, 1) := dk_46 (dk_at dksX3_layOut_3 20 rfl rfl)
theorem dX3_layOut_91 : decode cX3_layOut 91 = .ok (.if_icmp .ne 7, 3) := dk_160 0 7 (dk_at dksX3_layOut_3 21 rfl rfl)
theorem dX3_layOut_94 : decode cX3_layOut 94 = .ok (.iconst 0, 1) := dk_3 (dk_at dksX3_layOut_4 0 rfl rfl)
theorem dX3_layOut_95 : decode cX3_layOut 95 = .ok (.goto 4, 3) := dk_167 0 4 (dk_at dksX3_layOut_4 1 rfl rfl)
theorem dX3_layOut_98 : decode cX3_layOut 98 = .ok (.iconst 1, 1) := dk_4 (dk_at dksX3_layOut_4 4 rfl rfl)
theorem dX3_layOut_99 : decode cX3_layOut 99 = .ok (.iadd, 1) := dk_96 (dk_at dksX3_layOut_4 5 rfl rfl)
theorem dX3_layOut_100 : decode cX3_layOut 100 = .ok (.istore_n 2, 1) := dk_61 (dk_at dksX3_layOut_4 6 rfl rfl)
theorem dX3_layOut_101 : decode cX3_layOut 101 = .ok (.aload_n 0, 1) := dk_42 (dk_at dksX3_layOut_4 7 rfl rfl)
theorem dX3_layOut_102 : decode cX3_layOut 102 = .ok (.getfield 13, 3) := dk_180 0 13 (dk_at dksX3_layOut_4 8 rfl rfl)
theorem dX3_layOut_105 : decode cX3_layOut 105 = .ok (.aload_n 0, 1) := dk_42 (dk_at dksX3_layOut_4 11 rfl rfl)
theorem dX3_layOut_106 : decode cX3_layOut 106 = .ok (.getfield 44, 3) := dk_180 0 44 (dk_at dksX3_layOut_4 12 rfl rfl)
theorem dX3_layOut_109 : decode cX3_layOut 109 = .ok (.iload_n 3, 1) := dk_29 (dk_at dksX3_layOut_4 15 rfl rfl)
theorem dX3_layOut_110 : decode cX3_layOut 110 = .ok (.iaload, 1) := dk_46 (dk_at dksX3_layOut_4 16 rfl rfl)
theorem dX3_layOut_111 : decode cX3_layOut 111 = .ok (.aload_n 0, 1) := dk_42 (dk_at dksX3_layOut_4 17 rfl rfl)
theorem dX3_layOut_112 : decode cX3_layOut 112 = .ok (.getfield 47, 3) := dk_180 0 47 (dk_at dksX3_layOut_4 18 rfl rfl)
theorem dX3_layOut_115 : decode cX3_layOut 115 = .ok (.iload_n 3, 1) := dk_29 (dk_at dksX3_layOut_4 21 rfl rfl)
theorem dX3_layOut_116 : decode cX3_layOut 116 = .ok (.iaload, 1) := dk_46 (dk_at dksX3_layOut_4 22 rfl rfl)
theorem dX3_layOut_117 : decode cX3_layOut 117 = .ok (.iastore, 1) := dk_79 (dk_at dksX3_layOut_4 23 rfl rfl)
theorem dX3_layOut_118 : decode cX3_layOut 118 = .ok (.iinc 3 1, 3) := dk_132 3 1 (dk_at dksX3_layOut_5 0 rfl rfl)
theorem dX3_layOut_121 : decode cX3_layOut 121 = .ok (.goto (-53), 3) := dk_167 255 203 (dk_at dksX3_layOut_5 3 rfl rfl)
theorem dX3_layOut_124 : decode cX3_layOut 124 = .ok (.iload_n 2, 1) := dk_28 (dk_at dksX3_layOut_5 6 rfl rfl)
theorem dX3_layOut_125 : decode cX3_layOut 125 = .ok (.ireturn, 1) := dk_172 (dk_at dksX3_layOut_5 7 rfl rfl)
abbrev cX3_ranks : ByteArray := prog_7_method_16_code
def yX3_ranks : MethodName := ⟨RX3, "ranks", "(II)V"⟩
def dkwX3_ranks_2 : List UInt8 := [180, 0, 44, 29, 27, 79, 177]
abbrev dktX3_ranks_2 : List UInt8 := dkwX3_ranks_2 ++ []
def dkwX3_ranks_1 : List UInt8 := [162, 0, 23, 42, 180, 0, 44, 29, 42, 180, 0, 44, 29, 4, 100, 46, 79, 132, 3, 255, 167, 255, 215, 42]
abbrev dktX3_ranks_1 : List UInt8 := dkwX3_ranks_1 ++ dktX3_ranks_2
def dkwX3_ranks_0 : List UInt8 := [28, 62, 29, 158, 0, 43, 42, 42, 180, 0, 44, 29, 4, 100, 46, 182, 0, 98, 42, 27, 182, 0, 98]
abbrev dktX3_ranks_0 : List UInt8 := dkwX3_ranks_0 ++ dktX3_ranks_1
theorem dksX3_ranks_0 : cX3_ranks.data.toList.drop 0 = dktX3_ranks_0 := by decide +kernel
theorem dksX3_ranks_1 : cX3_ranks.data.toList.drop 23 = dktX3_ranks_1 := dk_seg dksX3_ranks_0 23 rfl rfl
theorem dksX3_ranks_2 : cX3_ranks.data.toList.drop 47 = dktX3_ranks_2 := dk_seg dksX3_ranks_1 24 rfl rfl
theorem dX3_ranks_0 : decode cX3_ranks 0 = .ok (.iload_n 2, 1) := dk_28 (dk_at dksX3_ranks_0 0 rfl rfl)
theorem dX3_ranks_1 : decode cX3_ranks 1 = .ok (.istore_n 3, 1) := dk_62 (dk_at dksX3_ranks_0 1 rfl rfl)
theorem dX3_ranks_2 : decode cX3_ranks 2 = .ok (.iload_n 3, 1) := dk_29 (dk_at dksX3_ranks_0 2 rfl rfl)
theorem dX3_ranks_3 : decode cX3_ranks 3 = .ok (.ifCond .le 43, 3) := dk_158 0 43 (dk_at dksX3_ranks_0 3 rfl rfl)
theorem dX3_ranks_6 : decode cX3_ranks 6 = .ok (.aload_n 0, 1) := dk_42 (dk_at dksX3_ranks_0 6 rfl rfl)
theorem dX3_ranks_7 : decode cX3_ranks 7 = .ok (.aload_n 0, 1) := dk_42 (dk_at dksX3_ranks_0 7 rfl rfl)
theorem dX3_ranks_8 : decode cX3_ranks 8 = .ok (.getfield 44, 3) := dk_180 0 44 (dk_at dksX3_ranks_0 8 rfl rfl)
theorem dX3_ranks_11 : decode cX3_ranks 11 = .ok (.iload_n 3, 1) := dk_29 (dk_at dksX3_ranks_0 11 rfl rfl)
theorem dX3_ranks_12 : decode cX3_ranks 12 = .ok (.iconst 1, 1) := dk_4 (dk_at dksX3_ranks_0 12 rfl rfl)
theorem dX3_ranks_13 : decode cX3_ranks 13 = .ok (.isub, 1) := dk_100 (dk_at dksX3_ranks_0 13 rfl rfl)
theorem dX3_ranks_14 : decode cX3_ranks 14 = .ok (.iaload, 1) := dk_46 (dk_at dksX3_ranks_0 14 rfl rfl)
theorem dX3_ranks_15 : decode cX3_ranks 15 = .ok (.invokevirtual 98, 3) := dk_182 0 98 (dk_at dksX3_ranks_0 15 rfl rfl)
theorem dX3_ranks_18 : decode cX3_ranks 18 = .ok (.aload_n 0, 1) := dk_42 (dk_at dksX3_ranks_0 18 rfl rfl)
theorem dX3_ranks_19 : decode cX3_ranks 19 = .ok (.iload_n 1, 1) := dk_27 (dk_at dksX3_ranks_0 19 rfl rfl)
theorem dX3_ranks_20 : decode cX3_ranks 20 = .ok (.invokevirtual 98, 3) := dk_182 0 98 (dk_at dksX3_ranks_0 20 rfl rfl)
theorem dX3_ranks_23 : decode cX3_ranks 23 = .ok (.if_icmp .ge 23, 3) := dk_162 0 23 (dk_at dksX3_ranks_1 0 rfl rfl)
theorem dX3_ranks_26 : decode cX3_ranks 26 = .ok (.aload_n 0, 1) := dk_42 (dk_at dksX3_ranks_1 3 rfl rfl)
theorem dX3_ranks_27 : decode cX3_ranks 27 = .ok (.getfield 44, 3) := dk_180 0 44 (dk_at dksX3_ranks_1 4 rfl rfl)
theorem dX3_ranks_30 : decode cX3_ranks 30 = .ok (.iload_n 3, 1) := dk_29 (dk_at dksX3_ranks_1 7 rfl rfl)
theorem dX3_ranks_31 : decode cX3_ranks 31 = .ok (.aload_n 0, 1) := dk_42 (dk_at dksX3_ranks_1 8 rfl rfl)
theorem dX3_ranks_32 : decode cX3_ranks 32 = .ok (.getfield 44, 3) := dk_180 0 44 (dk_at dksX3_ranks_1 9 rfl rfl)
theorem dX3_ranks_35 : decode cX3_ranks 35 = .ok (.iload_n 3, 1) := dk_29 (dk_at dksX3_ranks_1 12 rfl rfl)
theorem dX3_ranks_36 : decode cX3_ranks 36 = .ok (.iconst 1, 1) := dk_4 (dk_at dksX3_ranks_1 13 rfl rfl)
theorem dX3_ranks_37 : decode cX3_ranks 37 = .ok (.isub, 1) := dk_100 (dk_at dksX3_ranks_1 14 rfl rfl)
theorem dX3_ranks_38 : decode cX3_ranks 38 = .ok (.iaload, 1) := dk_46 (dk_at dksX3_ranks_1 15 rfl rfl)
theorem dX3_ranks_39 : decode cX3_ranks 39 = .ok (.iastore, 1) := dk_79 (dk_at dksX3_ranks_1 16 rfl rfl)
theorem dX3_ranks_40 : decode cX3_ranks 40 = .ok (.iinc 3 (-1), 3) := dk_132 3 255 (dk_at dksX3_ranks_1 17 rfl rfl)
theorem dX3_ranks_43 : decode cX3_ranks 43 = .ok (.goto (-41), 3) := dk_167 255 215 (dk_at dksX3_ranks_1 20 rfl rfl)
theorem dX3_ranks_46 : decode cX3_ranks 46 = .ok (.aload_n 0, 1) := dk_42 (dk_at dksX3_ranks_1 23 rfl rfl)
theorem dX3_ranks_47 : decode cX3_ranks 47 = .ok (.getfield 44, 3) := dk_180 0 44 (dk_at dksX3_ranks_2 0 rfl rfl)
theorem dX3_ranks_50 : decode cX3_ranks 50 = .ok (.iload_n 3, 1) := dk_29 (dk_at dksX3_ranks_2 3 rfl rfl)
theorem dX3_ranks_51 : decode cX3_ranks 51 = .ok (.iload_n 1, 1) := dk_27 (dk_at dksX3_ranks_2 4 rfl rfl)
theorem dX3_ranks_52 : decode cX3_ranks 52 = .ok (.iastore, 1) := dk_79 (dk_at dksX3_ranks_2 5 rfl rfl)
theorem dX3_ranks_53 : decode cX3_ranks 53 = .ok (.return_, 1) := dk_177 (dk_at dksX3_ranks_2 6 rfl rfl)
abbrev cX3_turnoverOf : ByteArray := prog_7_method_15_code
def yX3_turnoverOf : MethodName := ⟨RX3, "turnoverOf", "(I)I"⟩
def dkwX3_turnoverOf_3 : List UInt8 := [132, 4, 1, 167, 255, 199, 132, 3, 1, 167, 255, 182, 28, 172]
abbrev dktX3_turnoverOf_3 : List UInt8 := dkwX3_turnoverOf_3 ++ []
def dkwX3_turnoverOf_2 : List UInt8 := [46, 27, 160, 0, 17, 42, 180, 0, 32, 8, 29, 104, 21, 4, 96, 46, 167, 0, 4, 3, 96, 61]
abbrev dktX3_turnoverOf_2 : List UInt8 := dkwX3_turnoverOf_2 ++ dktX3_turnoverOf_3
def dkwX3_turnoverOf_1 : List UInt8 := [162, 0, 52, 28, 42, 180, 0, 20, 29, 46, 5, 160, 0, 32, 42, 180, 0, 29, 8, 29, 104, 21, 4, 96]
abbrev dktX3_turnoverOf_1 : List UInt8 := dkwX3_turnoverOf_1 ++ dktX3_turnoverOf_2
def dkwX3_turnoverOf_0 : List UInt8 := [3, 61, 3, 62, 29, 42, 180, 0, 66, 162, 0, 72, 3, 54, 4, 21, 4, 42, 180, 0, 26, 29, 46]
abbrev dktX3_turnoverOf_0 : List UInt8 := dkwX3_turnoverOf_0 ++ dktX3_turnoverOf_1
theorem dksX3_turnoverOf_0 : cX3_turnoverOf.data.toList.drop 0 = dktX3_turnoverOf_0 := by decide +kernel
theorem dksX3_turnoverOf_1 : cX3_turnoverOf.data.toList.drop 23 = dktX3_turnoverOf_1 := dk_seg dksX3_turnoverOf_0 23 rfl rfl
theorem dksX3_turnoverOf_2 : cX3_turnoverOf.data.toList.drop 47 = dktX3_turnoverOf_2 := dk_seg dksX3_turnoverOf_1 24 rfl rfl
theorem dksX3_turnoverOf_3 : cX3_turnoverOf.data.toList.drop 69 = dktX3_turnoverOf_3 := dk_seg dksX3_turnoverOf_2 22 rfl rfl
theorem dX3_turnoverOf_0 : decode cX3_turnoverOf 0 = .ok (.iconst 0, 1) := dk_3 (dk_at dksX3_turnoverOf_0 0 rfl rfl)
theorem dX3_turnoverOf_1 : decode cX3_turnoverOf 1 = .ok (.istore_n 2, 1) := dk_61 (dk_at dksX3_turnoverOf_0 1 rfl rfl)
theorem dX3_turnoverOf_2 : decode cX3_turnoverOf 2 = .ok (.iconst 0, 1) := dk_3 (dk_at dksX3_turnoverOf_0 2 rfl rfl)
theorem dX3_turnoverOf_3 : decode cX3_turnoverOf 3 = .ok (.istore_n 3, 1) := dk_62 (dk_at dksX3_turnoverOf_0 3 rfl rfl)
theorem dX3_turnoverOf_4 : decode cX3_turnoverOf 4 = .ok (.iload_n 3, 1) := dk_29 (dk_at dksX3_turnoverOf_0 4 rfl rfl)
theorem dX3_turnoverOf_5 : decode cX3_turnoverOf 5 = .ok (.aload_n 0, 1) := dk_42 (dk_at dksX3_turnoverOf_0 5 rfl rfl)
theorem dX3_turnoverOf_6 : decode cX3_turnoverOf 6 = .ok (.getfield 66, 3) := dk_180 0 66 (dk_at dksX3_turnoverOf_0 6 rfl rfl)
theorem dX3_turnoverOf_9 : decode cX3_turnoverOf 9 = .ok (.if_icmp .ge 72, 3) := dk_162 0 72 (dk_at dksX3_turnoverOf_0 9 rfl rfl)
theorem dX3_turnoverOf_12 : decode cX3_turnoverOf 12 = .ok (.iconst 0, 1) := dk_3 (dk_at dksX3_turnoverOf_0 12 rfl rfl)
theorem dX3_turnoverOf_13 : decode cX3_turnoverOf 13 = .ok (.istore 4, 2) := dk_54 4 (dk_at dksX3_turnoverOf_0 13 rfl rfl)
theorem dX3_turnoverOf_15 : decode cX3_turnoverOf 15 = .ok (.iload 4, 2) := dk_21 4 (dk_at dksX3_turnoverOf_0 15 rfl rfl)
theorem dX3_turnoverOf_17 : decode cX3_turnoverOf 17 = .ok (.aload_n 0, 1) := dk_42 (dk_at dksX3_turnoverOf_0 17 rfl rfl)
theorem dX3_turnoverOf_18 : decode cX3_turnoverOf 18 = .ok (.getfield 26, 3) := dk_180 0 26 (dk_at dksX3_turnoverOf_0 18 rfl rfl)
theorem dX3_turnoverOf_21 : decode cX3_turnoverOf 21 = .ok (.iload_n 3, 1) := dk_29 (dk_at dksX3_turnoverOf_0 21 rfl rfl)
theorem dX3_turnoverOf_22 : decode cX3_turnoverOf 22 = .ok (.iaload, 1) := dk_46 (dk_at dksX3_turnoverOf_0 22 rfl rfl)
theorem dX3_turnoverOf_23 : decode cX3_turnoverOf 23 = .ok (.if_icmp .ge 52, 3) := dk_162 0 52 (dk_at dksX3_turnoverOf_1 0 rfl rfl)
theorem dX3_turnoverOf_26 : decode cX3_turnoverOf 26 = .ok (.iload_n 2, 1) := dk_28 (dk_at dksX3_turnoverOf_1 3 rfl rfl)
theorem dX3_turnoverOf_27 : decode cX3_turnoverOf 27 = .ok (.aload_n 0, 1) := dk_42 (dk_at dksX3_turnoverOf_1 4 rfl rfl)
theorem dX3_turnoverOf_28 : decode cX3_turnoverOf 28 = .ok (.getfield 20, 3) := dk_180 0 20 (dk_at dksX3_turnoverOf_1 5 rfl rfl)
theorem dX3_turnoverOf_31 : decode cX3_turnoverOf 31 = .ok (.iload_n 3, 1) := dk_29 (dk_at dksX3_turnoverOf_1 8 rfl rfl)
theorem dX3_turnoverOf_32 : decode cX3_turnoverOf 32 = .ok (.iaload, 1) := dk_46 (dk_at dksX3_turnoverOf_1 9 rfl rfl)
theorem dX3_turnoverOf_33 : decode cX3_turnoverOf 33 = .ok (.iconst 2, 1) := dk_5 (dk_at dksX3_turnoverOf_1 10 rfl rfl)
theorem dX3_turnoverOf_34 : decode cX3_turnoverOf 34 = .ok (.if_icmp .ne 32, 3) := dk_160 0 32 (dk_at dksX3_turnoverOf_1 11 rfl rfl)
theorem dX3_turnoverOf_37 : decode cX3_turnoverOf 37 = .ok (.aload_n 0, 1) := dk_42 (dk_at dksX3_turnoverOf_1 14 rfl rfl)
theorem dX3_turnoverOf_38 : decode cX3_turnoverOf 38 = .ok (.getfield 29, 3) := dk_180 0 29 (dk_at dksX3_turnoverOf_1 15 rfl rfl)
theorem dX3_turnoverOf_41 : decode cX3_turnoverOf 41 = .ok (.iconst 5, 1) := dk_8 (dk_at dksX3_turnoverOf_1 18 rfl rfl)
theorem dX3_turnoverOf_42 : decode cX3_turnoverOf 42 = .ok (.iload_n 3, 1) := dk_29 (dk_at dksX3_turnoverOf_1 19 rfl rfl)
theorem dX3_turnoverOf_43 : decode cX3_turnoverOf 43 = .ok (.imul, 1) := dk_104 (dk_at dksX3_turnoverOf_1 20 rfl rfl)
theorem dX3_turnoverOf_44 : decode cX3_turnoverOf 44 = .ok (.iload 4, 2) := dk_21 4 (dk_at dksX3_turnoverOf_1 21 rfl rfl)
theorem dX3_turnoverOf_46 : decode cX3_turnoverOf 46 = .ok (.iadd, 1) := dk_96 (dk_at dksX3_turnoverOf_1 23 rfl rfl)
theorem dX3_turnoverOf_47 : decode cX3_turnoverOf 47 = .ok (.iaload, 1) := dk_46 (dk_at dksX3_turnoverOf_2 0 rfl rfl)
theorem dX3_turnoverOf_48 : decode cX3_turnoverOf 48 = .ok (.iload_n 1, 1) := dk_27 (dk_at dksX3_turnoverOf_2 1 rfl rfl)
theorem dX3_turnoverOf_49 : decode cX3_turnoverOf 49 = .ok (.if_icmp .ne 17, 3) := dk_160 0 17 (dk_at dksX3_turnoverOf_2 2 rfl rfl)
theorem dX3_turnoverOf_52 : decode cX3_turnoverOf 52 = .ok (.aload_n 0, 1) := dk_42 (dk_at dksX3_turnoverOf_2 5 rfl rfl)
theorem dX3_turnoverOf_53 : decode cX3_turnoverOf 53 = .ok (.getfield 32, 3) := dk_180 0 32 (dk_at dksX3_turnoverOf_2 6 rfl rfl)
theorem dX3_turnoverOf_56 : decode cX3_turnoverOf 56 = .ok (.iconst 5, 1) := dk_8 (dk_at dksX3_turnoverOf_2 9 rfl rfl)
theorem dX3_turnoverOf_57 : decode cX3_turnoverOf 57 = .ok (.iload_n 3, 1) := dk_29 (dk_at dksX3_turnoverOf_2 10 rfl rfl)
theorem dX3_turnoverOf_58 : decode cX3_turnoverOf 58 = .ok (.imul, 1) := dk_104 (dk_at dksX3_turnoverOf_2 11 rfl rfl)
theorem dX3_turnoverOf_59 : decode cX3_turnoverOf 59 = .ok (.iload 4, 2) := dk_21 4 (dk_at dksX3_turnoverOf_2 12 rfl rfl)
theorem dX3_turnoverOf_61 : decode cX3_turnoverOf 61 = .ok (.iadd, 1) := dk_96 (dk_at dksX3_turnoverOf_2 14 rfl rfl)
theorem dX3_turnoverOf_62 : decode cX3_turnoverOf 62 = .ok (.iaload, 1) := dk_46 (dk_at dksX3_turnoverOf_2 15 rfl rfl)
theorem dX3_turnoverOf_63 : decode cX3_turnoverOf 63 = .ok (.goto 4, 3) := dk_167 0 4 (dk_at dksX3_turnoverOf_2 16 rfl rfl)
theorem dX3_turnoverOf_66 : decode cX3_turnoverOf 66 = .ok (.iconst 0, 1) := dk_3 (dk_at dksX3_turnoverOf_2 19 rfl rfl)
theorem dX3_turnoverOf_67 : decode cX3_turnoverOf 67 = .ok (.iadd, 1) := dk_96 (dk_at dksX3_turnoverOf_2 20 rfl rfl)
theorem dX3_turnoverOf_68 : decode cX3_turnoverOf 68 = .ok (.istore_n 2, 1) := dk_61 (dk_at dksX3_turnoverOf_2 21 rfl rfl)
theorem dX3_turnoverOf_69 : decode cX3_turnoverOf 69 = .ok (.iinc 4 1, 3) := dk_132 4 1 (dk_at dksX3_turnoverOf_3 0 rfl rfl)
theorem dX3_turnoverOf_72 : decode cX3_turnoverOf 72 = .ok (.goto (-57), 3) := dk_167 255 199 (dk_at dksX3_turnoverOf_3 3 rfl rfl)
theorem dX3_turnoverOf_75 : decode cX3_turnoverOf 75 = .ok (.iinc 3 1, 3) := dk_132 3 1 (dk_at dksX3_turnoverOf_3 6 rfl rfl)
theorem dX3_turnoverOf_78 : decode cX3_turnoverOf 78 = .ok (.goto (-74), 3) := dk_167 255 182 (dk_at dksX3_turnoverOf_3 9 rfl rfl)
theorem dX3_turnoverOf_81 : decode cX3_turnoverOf 81 = .ok (.iload_n 2, 1) := dk_28 (dk_at dksX3_turnoverOf_3 12 rfl rfl)
theorem dX3_turnoverOf_82 : decode cX3_turnoverOf 82 = .ok (.ireturn, 1) := dk_172 (dk_at dksX3_turnoverOf_3 13 rfl rfl)
abbrev cX3_spreads : ByteArray := prog_7_method_17_code
def yX3_spreads : MethodName := ⟨RX3, "spreads", "(II)V"⟩
def dkwX3_spreads_3 : List UInt8 := [180, 0, 47, 29, 4, 100, 46, 79, 132, 3, 255, 167, 255, 179, 42, 180, 0, 47, 29, 27, 79, 177]
abbrev dktX3_spreads_3 : List UInt8 := dkwX3_spreads_3 ++ []
def dkwX3_spreads_2 : List UInt8 := [182, 0, 72, 160, 0, 35, 42, 180, 0, 47, 29, 4, 100, 46, 27, 164, 0, 23, 42, 180, 0, 47, 29, 42]
abbrev dktX3_spreads_2 : List UInt8 := dkwX3_spreads_2 ++ dktX3_spreads_3
def dkwX3_spreads_1 : List UInt8 := [182, 0, 72, 163, 0, 37, 42, 3, 42, 180, 0, 47, 29, 4, 100, 46, 182, 0, 72, 42, 3, 27]
abbrev dktX3_spreads_1 : List UInt8 := dkwX3_spreads_1 ++ dktX3_spreads_2
def dkwX3_spreads_0 : List UInt8 := [28, 62, 29, 158, 0, 79, 42, 3, 42, 180, 0, 47, 29, 4, 100, 46, 182, 0, 72, 42, 3, 27]
abbrev dktX3_spreads_0 : List UInt8 := dkwX3_spreads_0 ++ dktX3_spreads_1
theorem dksX3_spreads_0 : cX3_spreads.data.toList.drop 0 = dktX3_spreads_0 := by decide +kernel
theorem dksX3_spreads_1 : cX3_spreads.data.toList.drop 22 = dktX3_spreads_1 := dk_seg dksX3_spreads_0 22 rfl rfl
theorem dksX3_spreads_2 : cX3_spreads.data.toList.drop 44 = dktX3_spreads_2 := dk_seg dksX3_spreads_1 22 rfl rfl
theorem dksX3_spreads_3 : cX3_spreads.data.toList.drop 68 = dktX3_spreads_3 := dk_seg dksX3_spreads_2 24 rfl rfl
theorem dX3_spreads_0 : decode cX3_spreads 0 = .ok (.iload_n 2, 1) := dk_28 (dk_at dksX3_spreads_0 0 rfl rfl)
theorem dX3_spreads_1 : decode cX3_spreads 1 = .ok (.istore_n 3, 1) := dk_62 (dk_at dksX3_spreads_0 1 rfl rfl)
theorem dX3_spreads_2 : decode cX3_spreads 2 = .ok (.iload_n 3, 1) := dk_29 (dk_at dksX3_spreads_0 2 rfl rfl)
theorem dX3_spreads_3 : decode cX3_spreads 3 = .ok (.ifCond .le 79, 3) := dk_158 0 79 (dk_at dksX3_spreads_0 3 rfl rfl)
theorem dX3_spreads_6 : decode cX3_spreads 6 = .ok (.aload_n 0, 1) := dk_42 (dk_at dksX3_spreads_0 6 rfl rfl)
theorem dX3_spreads_7 : decode cX3_spreads 7 = .ok (.iconst 0, 1) := dk_3 (dk_at dksX3_spreads_0 7 rfl rfl)
theorem dX3_spreads_8 : decode cX3_spreads 8 = .ok (.aload_n 0, 1) := dk_42 (dk_at dksX3_spreads_0 8 rfl rfl)
theorem dX3_spreads_9 : decode cX3_spreads 9 = .ok (.getfield 47, 3) := dk_180 0 47 (dk_at dksX3_spreads_0 9 rfl rfl)
theorem dX3_spreads_12 : decode cX3_spreads 12 = .ok (.iload_n 3, 1) := dk_29 (dk_at dksX3_spreads_0 12 rfl rfl)
theorem dX3_spreads_13 : decode cX3_spreads 13 = .ok (.iconst 1, 1) := dk_4 (dk_at dksX3_spreads_0 13 rfl rfl)
theorem dX3_spreads_14 : decode cX3_spreads 14 = .ok (.isub, 1) := dk_100 (dk_at dksX3_spreads_0 14 rfl rfl)
theorem dX3_spreads_15 : decode cX3_spreads 15 = .ok (.iaload, 1) := dk_46 (dk_at dksX3_spreads_0 15 rfl rfl)
theorem dX3_spreads_16 : decode cX3_spreads 16 = .ok (.invokevirtual 72, 3) := dk_182 0 72 (dk_at dksX3_spreads_0 16 rfl rfl)
theorem dX3_spreads_19 : decode cX3_spreads 19 = .ok (.aload_n 0, 1) := dk_42 (dk_at dksX3_spreads_0 19 rfl rfl)
theorem dX3_spreads_20 : decode cX3_spreads 20 = .ok (.iconst 0, 1) := dk_3 (dk_at dksX3_spreads_0 20 rfl rfl)
theorem dX3_spreads_21 : decode cX3_spreads 21 = .ok (.iload_n 1, 1) := dk_27 (dk_at dksX3_spreads_0 21 rfl rfl)
theorem dX3_spreads_22 : decode cX3_spreads 22 = .ok (.invokevirtual 72, 3) := dk_182 0 72 (dk_at dksX3_spreads_1 0 rfl rfl)
theorem dX3_spreads_25 : decode cX3_spreads 25 = .ok (.if_icmp .gt 37, 3) := dk_163 0 37 (dk_at dksX3_spreads_1 3 rfl rfl)
theorem dX3_spreads_28 : decode cX3_spreads 28 = .ok (.aload_n 0, 1) := dk_42 (dk_at dksX3_spreads_1 6 rfl rfl)
theorem dX3_spreads_29 : decode cX3_spreads 29 = .ok (.iconst 0, 1) := dk_3 (dk_at dksX3_spreads_1 7 rfl rfl)
theorem dX3_spreads_30 : decode cX3_spreads 30 = .ok (.aload_n 0, 1) := dk_42 (dk_at dksX3_spreads_1 8 rfl rfl)
theorem dX3_spreads_31 : decode cX3_spreads 31 = .ok (.getfield 47, 3) := dk_180 0 47 (dk_at dksX3_spreads_1 9 rfl rfl)
theorem dX3_spreads_34 : decode cX3_spreads 34 = .ok (.iload_n 3, 1) := dk_29 (dk_at dksX3_spreads_1 12 rfl rfl)
theorem dX3_spreads_35 : decode cX3_spreads 35 = .ok (.iconst 1, 1) := dk_4 (dk_at dksX3_spreads_1 13 rfl rfl)
theorem dX3_spreads_36 : decode cX3_spreads 36 = .ok (.isub, 1) := dk_100 (dk_at dksX3_spreads_1 14 rfl rfl)
theorem dX3_spreads_37 : decode cX3_spreads 37 = .ok (.iaload, 1) := dk_46 (dk_at dksX3_spreads_1 15 rfl rfl)
theorem dX3_spreads_38 : decode cX3_spreads 38 = .ok (.invokevirtual 72, 3) := dk_182 0 72 (dk_at dksX3_spreads_1 16 rfl rfl)
theorem dX3_spreads_41 : decode cX3_spreads 41 = .ok (.aload_n 0, 1) := dk_42 (dk_at dksX3_spreads_1 19 rfl rfl)
theorem dX3_spreads_42 : decode cX3_spreads 42 = .ok (.iconst 0, 1) := dk_3 (dk_at dksX3_spreads_1 20 rfl rfl)
theorem dX3_spreads_43 : decode cX3_spreads 43 = .ok (.iload_n 1, 1) := dk_27 (dk_at dksX3_spreads_1 21 rfl rfl)
theorem dX3_spreads_44 : decode cX3_spreads 44 = .ok (.invokevirtual 72, 3) := dk_182 0 72 (dk_at dksX3_spreads_2 0 rfl rfl)
theorem dX3_spreads_47 : decode cX3_spreads 47 = .ok (.if_icmp .ne 35, 3) := dk_160 0 35 (dk_at dksX3_spreads_2 3 rfl rfl)
theorem dX3_spreads_50 : decode cX3_spreads 50 = .ok (.aload_n 0, 1) := dk_42 (dk_at dksX3_spreads_2 6 rfl rfl)
theorem dX3_spreads_51 : decode cX3_spreads 51 = .ok (.getfield 47, 3) := dk_180 0 47 (dk_at dksX3_spreads_2 7 rfl rfl)
theorem dX3_spreads_54 : decode cX3_spreads 54 = .ok (.iload_n 3, 1) := dk_29 (dk_at dksX3_spreads_2 10 rfl rfl)
theorem dX3_spreads_55 : decode cX3_spreads 55 = .ok (.iconst 1, 1) := dk_4 (dk_at dksX3_spreads_2 11 rfl rfl)
theorem dX3_spreads_56 : decode cX3_spreads 56 = .ok (.isub, 1) := dk_100 (dk_at dksX3_spreads_2 12 rfl rfl)
theorem dX3_spreads_57 : decode cX3_spreads 57 = .ok (.iaload, 1) := dk_46 (dk_at dksX3_spreads_2 13 rfl rfl)
theorem dX3_spreads_58 : decode cX3_spreads 58 = .ok (.iload_n 1, 1) := dk_27 (dk_at dksX3_spreads_2 14 rfl rfl)
theorem dX3_spreads_59 : decode cX3_spreads 59 = .ok (.if_icmp .le 23, 3) := dk_164 0 23 (dk_at dksX3_spreads_2 15 rfl rfl)
theorem dX3_spreads_62 : decode cX3_spreads 62 = .ok (.aload_n 0, 1) := dk_42 (dk_at dksX3_spreads_2 18 rfl rfl)
theorem dX3_spreads_63 : decode cX3_spreads 63 = .ok (.getfield 47, 3) := dk_180 0 47 (dk_at dksX3_spreads_2 19 rfl rfl)
theorem dX3_spreads_66 : decode cX3_spreads 66 = .ok (.iload_n 3, 1) := dk_29 (dk_at dksX3_spreads_2 22 rfl rfl)
theorem dX3_spreads_67 : decode cX3_spreads 67 = .ok (.aload_n 0, 1) := dk_42 (dk_at dksX3_spreads_2 23 rfl rfl)
theorem dX3_spreads_68 : decode cX3_spreads 68 = .ok (.getfield 47, 3) := dk_180 0 47 (dk_at dksX3_spreads_3 0 rfl rfl)
theorem dX3_spreads_71 : decode cX3_spreads 71 = .ok (.iload_n 3, 1) := dk_29 (dk_at dksX3_spreads_3 3 rfl rfl)
theorem dX3_spreads_72 : decode cX3_spreads 72 = .ok (.iconst 1, 1) := dk_4 (dk_at dksX3_spreads_3 4 rfl rfl)
theorem dX3_spreads_73 : decode cX3_spreads 73 = .ok (.isub, 1) := dk_100 (dk_at dksX3_spreads_3 5 rfl rfl)
theorem dX3_spreads_74 : decode cX3_spreads 74 = .ok (.iaload, 1) := dk_46 (dk_at dksX3_spreads_3 6 rfl rfl)
theorem dX3_spreads_75 : decode cX3_spreads 75 = .ok (.iastore, 1) := dk_79 (dk_at dksX3_spreads_3 7 rfl rfl)
theorem dX3_spreads_76 : decode cX3_spreads 76 = .ok (.iinc 3 (-1), 3) := dk_132 3 255 (dk_at dksX3_spreads_3 8 rfl rfl)
theorem dX3_spreads_79 : decode cX3_spreads 79 = .ok (.goto (-77), 3) := dk_167 255 179 (dk_at dksX3_spreads_3 11 rfl rfl)
theorem dX3_spreads_82 : decode cX3_spreads 82 = .ok (.aload_n 0, 1) := dk_42 (dk_at dksX3_spreads_3 14 rfl rfl)
theorem dX3_spreads_83 : decode cX3_spreads 83 = .ok (.getfield 47, 3) := dk_180 0 47 (dk_at dksX3_spreads_3 15 rfl rfl)
theorem dX3_spreads_86 : decode cX3_spreads 86 = .ok (.iload_n 3, 1) := dk_29 (dk_at dksX3_spreads_3 18 rfl rfl)
theorem dX3_spreads_87 : decode cX3_spreads 87 = .ok (.iload_n 1, 1) := dk_27 (dk_at dksX3_spreads_3 19 rfl rfl)
theorem dX3_spreads_88 : decode cX3_spreads 88 = .ok (.iastore, 1) := dk_79 (dk_at dksX3_spreads_3 20 rfl rfl)
theorem dX3_spreads_89 : decode cX3_spreads 89 = .ok (.return_, 1) := dk_177 (dk_at dksX3_spreads_3 21 rfl rfl)
abbrev cX3_way : ByteArray := prog_7_method_8_code
def yX3_way : MethodName := ⟨RX3, "way", "(II)I"⟩
def dkwX3_way_4 : List UInt8 := [21, 7, 96, 172]
abbrev dktX3_way_4 : List UInt8 := dkwX3_way_4 ++ []
def dkwX3_way_3 : List UInt8 := [29, 116, 167, 0, 4, 29, 42, 180, 0, 56, 104, 21, 6, 21, 7, 162, 0, 8, 21, 6, 167, 0, 5]
abbrev dktX3_way_3 : List UInt8 := dkwX3_way_3 ++ dktX3_way_4
def dkwX3_way_2 : List UInt8 := [21, 4, 21, 5, 96, 54, 6, 5, 42, 180, 0, 53, 4, 96, 104, 21, 6, 100, 54, 7, 29, 156, 0, 8]
abbrev dktX3_way_2 : List UInt8 := dkwX3_way_2 ++ dktX3_way_3
def dkwX3_way_1 : List UInt8 := [154, 0, 24, 21, 4, 21, 5, 162, 0, 11, 21, 5, 21, 4, 100, 167, 0, 8, 21, 4, 21, 5, 100, 172]
abbrev dktX3_way_1 : List UInt8 := dkwX3_way_1 ++ dktX3_way_2
def dkwX3_way_0 : List UInt8 := [27, 16, 100, 108, 28, 16, 100, 108, 100, 62, 27, 16, 100, 112, 54, 4, 28, 16, 100, 112, 54, 5, 29]
abbrev dktX3_way_0 : List UInt8 := dkwX3_way_0 ++ dktX3_way_1
theorem dksX3_way_0 : cX3_way.data.toList.drop 0 = dktX3_way_0 := by decide +kernel
theorem dksX3_way_1 : cX3_way.data.toList.drop 23 = dktX3_way_1 := dk_seg dksX3_way_0 23 rfl rfl
theorem dksX3_way_2 : cX3_way.data.toList.drop 47 = dktX3_way_2 := dk_seg dksX3_way_1 24 rfl rfl
theorem dksX3_way_3 : cX3_way.data.toList.drop 71 = dktX3_way_3 := dk_seg dksX3_way_2 24 rfl rfl
theorem dksX3_way_4 : cX3_way.data.toList.drop 94 = dktX3_way_4 := dk_seg dksX3_way_3 23 rfl rfl
theorem dX3_way_0 : decode cX3_way 0 = .ok (.iload_n 1, 1) := dk_27 (dk_at dksX3_way_0 0 rfl rfl)
theorem dX3_way_1 : decode cX3_way 1 = .ok (.bipush 100, 2) := dk_16 100 (dk_at dksX3_way_0 1 rfl rfl)
theorem dX3_way_3 : decode cX3_way 3 = .ok (.idiv, 1) := dk_108 (dk_at dksX3_way_0 3 rfl rfl)
theorem dX3_way_4 : decode cX3_way 4 = .ok (.iload_n 2, 1) := dk_28 (dk_at dksX3_way_0 4 rfl rfl)
theorem dX3_way_5 : decode cX3_way 5 = .ok (.bipush 100, 2) := dk_16 100 (dk_at dksX3_way_0 5 rfl rfl)
theorem dX3_way_7 : decode cX3_way 7 = .ok (.idiv, 1) := dk_108 (dk_at dksX3_way_0 7 rfl rfl)
theorem dX3_way_8 : decode cX3_way 8 = .ok (.isub, 1) := dk_100 (dk_at dksX3_way_0 8 rfl rfl)
theorem dX3_way_9 : decode cX3_way 9 = .ok (.istore_n 3, 1) := dk_62 (dk_at dksX3_way_0 9 rfl rfl)
theorem dX3_way_10 : decode cX3_way 10 = .ok (.iload_n 1, 1) := dk_27 (dk_at dksX3_way_0 10 rfl rfl)
theorem dX3_way_11 : decode cX3_way 11 = .ok (.bipush 100, 2) := dk_16 100 (dk_at dksX3_way_0 11 rfl rfl)
theorem dX3_way_13 : decode cX3_way 13 = .ok (.irem, 1) := dk_112 (dk_at dksX3_way_0 13 rfl rfl)
theorem dX3_way_14 : decode cX3_way 14 = .ok (.istore 4, 2) := dk_54 4 (dk_at dksX3_way_0 14 rfl rfl)
theorem dX3_way_16 : decode cX3_way 16 = .ok (.iload_n 2, 1) := dk_28 (dk_at dksX3_way_0 16 rfl rfl)
theorem dX3_way_17 : decode cX3_way 17 = .ok (.bipush 100, 2) := dk_16 100 (dk_at dksX3_way_0 17 rfl rfl)
theorem dX3_way_19 : decode cX3_way 19 = .ok (.irem, 1) := dk_112 (dk_at dksX3_way_0 19 rfl rfl)
theorem dX3_way_20 : decode cX3_way 20 = .ok (.istore 5, 2) := dk_54 5 (dk_at dksX3_way_0 20 rfl rfl)
theorem dX3_way_22 : decode cX3_way 22 = .ok (.iload_n 3, 1) := dk_29 (dk_at dksX3_way_0 22 rfl rfl)
theorem dX3_way_23 : decode cX3_way 23 = .ok (.ifCond .ne 24, 3) := dk_154 0 24 (dk_at dksX3_way_1 0 rfl rfl)
theorem dX3_way_26 : decode cX3_way 26 = .ok (.iload 4, 2) := dk_21 4 (dk_at dksX3_way_1 3 rfl rfl)
theorem dX3_way_28 : decode cX3_way 28 = .ok (.iload 5, 2) := dk_21 5 (dk_at dksX3_way_1 5 rfl rfl)
theorem dX3_way_30 : decode cX3_way 30 = .ok (.if_icmp .ge 11, 3) := dk_162 0 11 (dk_at dksX3_way_1 7 rfl rfl)
theorem dX3_way_33 : decode cX3_way 33 = .ok (.iload 5, 2) := dk_21 5 (dk_at dksX3_way_1 10 rfl rfl)
theorem dX3_way_35 : decode cX3_way 35 = .ok (.iload 4, 2) := dk_21 4 (dk_at dksX3_way_1 12 rfl rfl)
theorem dX3_way_37 : decode cX3_way 37 = .ok (.isub, 1) := dk_100 (dk_at dksX3_way_1 14 rfl rfl)
theorem dX3_way_38 : decode cX3_way 38 = .ok (.goto 8, 3) := dk_167 0 8 (dk_at dksX3_way_1 15 rfl rfl)
theorem dX3_way_41 : decode cX3_way 41 = .ok (.iload 4, 2) := dk_21 4 (dk_at dksX3_way_1 18 rfl rfl)
theorem dX3_way_43 : decode cX3_way 43 = .ok (.iload 5, 2) := dk_21 5 (dk_at dksX3_way_1 20 rfl rfl)
theorem dX3_way_45 : decode cX3_way 45 = .ok (.isub, 1) := dk_100 (dk_at dksX3_way_1 22 rfl rfl)
theorem dX3_way_46 : decode cX3_way 46 = .ok (.ireturn, 1) := dk_172 (dk_at dksX3_way_1 23 rfl rfl)
theorem dX3_way_47 : decode cX3_way 47 = .ok (.iload 4, 2) := dk_21 4 (dk_at dksX3_way_2 0 rfl rfl)
theorem dX3_way_49 : decode cX3_way 49 = .ok (.iload 5, 2) := dk_21 5 (dk_at dksX3_way_2 2 rfl rfl)
theorem dX3_way_51 : decode cX3_way 51 = .ok (.iadd, 1) := dk_96 (dk_at dksX3_way_2 4 rfl rfl)
theorem dX3_way_52 : decode cX3_way 52 = .ok (.istore 6, 2) := dk_54 6 (dk_at dksX3_way_2 5 rfl rfl)
theorem dX3_way_54 : decode cX3_way 54 = .ok (.iconst 2, 1) := dk_5 (dk_at dksX3_way_2 7 rfl rfl)
theorem dX3_way_55 : decode cX3_way 55 = .ok (.aload_n 0, 1) := dk_42 (dk_at dksX3_way_2 8 rfl rfl)
theorem dX3_way_56 : decode cX3_way 56 = .ok (.getfield 53, 3) := dk_180 0 53 (dk_at dksX3_way_2 9 rfl rfl)
theorem dX3_way_59 : decode cX3_way 59 = .ok (.iconst 1, 1) := dk_4 (dk_at dksX3_way_2 12 rfl rfl)
theorem dX3_way_60 : decode cX3_way 60 = .ok (.iadd, 1) := dk_96 (dk_at dksX3_way_2 13 rfl rfl)
theorem dX3_way_61 : decode cX3_way 61 = .ok (.imul, 1) := dk_104 (dk_at dksX3_way_2 14 rfl rfl)
theorem dX3_way_62 : decode cX3_way 62 = .ok (.iload 6, 2) := dk_21 6 (dk_at dksX3_way_2 15 rfl rfl)
theorem dX3_way_64 : decode cX3_way 64 = .ok (.isub, 1) := dk_100 (dk_at dksX3_way_2 17 rfl rfl)
theorem dX3_way_65 : decode cX3_way 65 = .ok (.istore 7, 2) := dk_54 7 (dk_at dksX3_way_2 18 rfl rfl)
theorem dX3_way_67 : decode cX3_way 67 = .ok (.iload_n 3, 1) := dk_29 (dk_at dksX3_way_2 20 rfl rfl)
theorem dX3_way_68 : decode cX3_way 68 = .ok (.ifCond .ge 8, 3) := dk_156 0 8 (dk_at dksX3_way_2 21 rfl rfl)
theorem dX3_way_71 : decode cX3_way 71 = .ok (.iload_n 3, 1) := dk_29 (dk_at dksX3_way_3 0 rfl rfl)
theorem dX3_way_72 : decode cX3_way 72 = .ok (.ineg, 1) := dk_116 (dk_at dksX3_way_3 1 rfl rfl)
theorem dX3_way_73 : decode cX3_way 73 = .ok (.goto 4, 3) := dk_167 0 4 (dk_at dksX3_way_3 2 rfl rfl)
theorem dX3_way_76 : decode cX3_way 76 = .ok (.iload_n 3, 1) := dk_29 (dk_at dksX3_way_3 5 rfl rfl)
theorem dX3_way_77 : decode cX3_way 77 = .ok (.aload_n 0, 1) := dk_42 (dk_at dksX3_way_3 6 rfl rfl)
theorem dX3_way_78 : decode cX3_way 78 = .ok (.getfield 56, 3) := dk_180 0 56 (dk_at dksX3_way_3 7 rfl rfl)
theorem dX3_way_81 : decode cX3_way 81 = .ok (.imul, 1) := dk_104 (dk_at dksX3_way_3 10 rfl rfl)
theorem dX3_way_82 : decode cX3_way 82 = .ok (.iload 6, 2) := dk_21 6 (dk_at dksX3_way_3 11 rfl rfl)
theorem dX3_way_84 : decode cX3_way 84 = .ok (.iload 7, 2) := dk_21 7 (dk_at dksX3_way_3 13 rfl rfl)
theorem dX3_way_86 : decode cX3_way 86 = .ok (.if_icmp .ge 8, 3) := dk_162 0 8 (dk_at dksX3_way_3 15 rfl rfl)
theorem dX3_way_89 : decode cX3_way 89 = .ok (.iload 6, 2) := dk_21 6 (dk_at dksX3_way_3 18 rfl rfl)
theorem dX3_way_91 : decode cX3_way 91 = .ok (.goto 5, 3) := dk_167 0 5 (dk_at dksX3_way_3 20 rfl rfl)
theorem dX3_way_94 : decode cX3_way 94 = .ok (.iload 7, 2) := dk_21 7 (dk_at dksX3_way_4 0 rfl rfl)
theorem dX3_way_96 : decode cX3_way 96 = .ok (.iadd, 1) := dk_96 (dk_at dksX3_way_4 2 rfl rfl)
theorem dX3_way_97 : decode cX3_way 97 = .ok (.ireturn, 1) := dk_172 (dk_at dksX3_way_4 3 rfl rfl)
abbrev cX3_placeOf : ByteArray := prog_7_method_19_code
def yX3_placeOf : MethodName := ⟨RX3, "placeOf", "(I)I"⟩
def dkwX3_placeOf_1 : List UInt8 := [182, 0, 94, 172]
abbrev dktX3_placeOf_1 : List UInt8 := dkwX3_placeOf_1 ++ []
def dkwX3_placeOf_0 : List UInt8 := [42, 3, 181, 0, 59, 27, 184, 0, 90, 153, 0, 12, 42, 180, 0, 13, 27, 46, 167, 0, 8, 42, 4]
abbrev dktX3_placeOf_0 : List UInt8 := dkwX3_placeOf_0 ++ dktX3_placeOf_1
theorem dksX3_placeOf_0 : cX3_placeOf.data.toList.drop 0 = dktX3_placeOf_0 := by decide +kernel
theorem dksX3_placeOf_1 : cX3_placeOf.data.toList.drop 23 = dktX3_placeOf_1 := dk_seg dksX3_placeOf_0 23 rfl rfl
theorem dX3_placeOf_0 : decode cX3_placeOf 0 = .ok (.aload_n 0, 1) := dk_42 (dk_at dksX3_placeOf_0 0 rfl rfl)
theorem dX3_placeOf_1 : decode cX3_placeOf 1 = .ok (.iconst 0, 1) := dk_3 (dk_at dksX3_placeOf_0 1 rfl rfl)
theorem dX3_placeOf_2 : decode cX3_placeOf 2 = .ok (.putfield 59, 3) := dk_181 0 59 (dk_at dksX3_placeOf_0 2 rfl rfl)
theorem dX3_placeOf_5 : decode cX3_placeOf 5 = .ok (.iload_n 1, 1) := dk_27 (dk_at dksX3_placeOf_0 5 rfl rfl)
theorem dX3_placeOf_6 : decode cX3_placeOf 6 = .ok (.invokestatic 90, 3) := dk_184 0 90 (dk_at dksX3_placeOf_0 6 rfl rfl)
theorem dX3_placeOf_9 : decode cX3_placeOf 9 = .ok (.ifCond .eq 12, 3) := dk_153 0 12 (dk_at dksX3_placeOf_0 9 rfl rfl)
theorem dX3_placeOf_12 : decode cX3_placeOf 12 = .ok (.aload_n 0, 1) := dk_42 (dk_at dksX3_placeOf_0 12 rfl rfl)
theorem dX3_placeOf_13 : decode cX3_placeOf 13 = .ok (.getfield 13, 3) := dk_180 0 13 (dk_at dksX3_placeOf_0 13 rfl rfl)
theorem dX3_placeOf_16 : decode cX3_placeOf 16 = .ok (.iload_n 1, 1) := dk_27 (dk_at dksX3_placeOf_0 16 rfl rfl)
theorem dX3_placeOf_17 : decode cX3_placeOf 17 = .ok (.iaload, 1) := dk_46 (dk_at dksX3_placeOf_0 17 rfl rfl)
theorem dX3_placeOf_18 : decode cX3_placeOf 18 = .ok (.goto 8, 3) := dk_167 0 8 (dk_at dksX3_placeOf_0 18 rfl rfl)
theorem dX3_placeOf_21 : decode cX3_placeOf 21 = .ok (.aload_n 0, 1) := dk_42 (dk_at dksX3_placeOf_0 21 rfl rfl)
theorem dX3_placeOf_22 : decode cX3_placeOf 22 = .ok (.iconst 1, 1) := dk_4 (dk_at dksX3_placeOf_0 22 rfl rfl)
theorem dX3_placeOf_23 : decode cX3_placeOf 23 = .ok (.invokevirtual 94, 3) := dk_182 0 94 (dk_at dksX3_placeOf_1 0 rfl rfl)
theorem dX3_placeOf_26 : decode cX3_placeOf 26 = .ok (.ireturn, 1) := dk_172 (dk_at dksX3_placeOf_1 3 rfl rfl)
abbrev cX3_turnover : ByteArray := prog_7_method_20_code
def yX3_turnover : MethodName := ⟨RX3, "turnover", "(I)I"⟩
def dkwX3_turnover_1 : List UInt8 := [182, 0, 94, 172]
abbrev dktX3_turnover_1 : List UInt8 := dkwX3_turnover_1 ++ []
def dkwX3_turnover_0 : List UInt8 := [42, 3, 181, 0, 59, 27, 184, 0, 90, 153, 0, 11, 42, 27, 182, 0, 98, 167, 0, 8, 42, 4]
abbrev dktX3_turnover_0 : List UInt8 := dkwX3_turnover_0 ++ dktX3_turnover_1
theorem dksX3_turnover_0 : cX3_turnover.data.toList.drop 0 = dktX3_turnover_0 := by decide +kernel
theorem dksX3_turnover_1 : cX3_turnover.data.toList.drop 22 = dktX3_turnover_1 := dk_seg dksX3_turnover_0 22 rfl rfl
theorem dX3_turnover_0 : decode cX3_turnover 0 = .ok (.aload_n 0, 1) := dk_42 (dk_at dksX3_turnover_0 0 rfl rfl)
theorem dX3_turnover_1 : decode cX3_turnover 1 = .ok (.iconst 0, 1) := dk_3 (dk_at dksX3_turnover_0 1 rfl rfl)
theorem dX3_turnover_2 : decode cX3_turnover 2 = .ok (.putfield 59, 3) := dk_181 0 59 (dk_at dksX3_turnover_0 2 rfl rfl)
theorem dX3_turnover_5 : decode cX3_turnover 5 = .ok (.iload_n 1, 1) := dk_27 (dk_at dksX3_turnover_0 5 rfl rfl)
theorem dX3_turnover_6 : decode cX3_turnover 6 = .ok (.invokestatic 90, 3) := dk_184 0 90 (dk_at dksX3_turnover_0 6 rfl rfl)
theorem dX3_turnover_9 : decode cX3_turnover 9 = .ok (.ifCond .eq 11, 3) := dk_153 0 11 (dk_at dksX3_turnover_0 9 rfl rfl)
theorem dX3_turnover_12 : decode cX3_turnover 12 = .ok (.aload_n 0, 1) := dk_42 (dk_at dksX3_turnover_0 12 rfl rfl)
theorem dX3_turnover_13 : decode cX3_turnover 13 = .ok (.iload_n 1, 1) := dk_27 (dk_at dksX3_turnover_0 13 rfl rfl)
theorem dX3_turnover_14 : decode cX3_turnover 14 = .ok (.invokevirtual 98, 3) := dk_182 0 98 (dk_at dksX3_turnover_0 14 rfl rfl)
theorem dX3_turnover_17 : decode cX3_turnover 17 = .ok (.goto 8, 3) := dk_167 0 8 (dk_at dksX3_turnover_0 17 rfl rfl)
theorem dX3_turnover_20 : decode cX3_turnover 20 = .ok (.aload_n 0, 1) := dk_42 (dk_at dksX3_turnover_0 20 rfl rfl)
theorem dX3_turnover_21 : decode cX3_turnover 21 = .ok (.iconst 1, 1) := dk_4 (dk_at dksX3_turnover_0 21 rfl rfl)
theorem dX3_turnover_22 : decode cX3_turnover 22 = .ok (.invokevirtual 94, 3) := dk_182 0 94 (dk_at dksX3_turnover_1 0 rfl rfl)
theorem dX3_turnover_25 : decode cX3_turnover 25 = .ok (.ireturn, 1) := dk_172 (dk_at dksX3_turnover_1 3 rfl rfl)
abbrev cX3_distance : ByteArray := prog_7_method_21_code
def yX3_distance : MethodName := ⟨RX3, "distance", "(II)I"⟩
def dkwX3_distance_2 : List UInt8 := [182, 0, 94, 167, 0, 19, 42, 42, 180, 0, 13, 27, 46, 42, 180, 0, 13, 28, 46, 182, 0, 72, 172]
abbrev dktX3_distance_2 : List UInt8 := dkwX3_distance_2 ++ []
def dkwX3_distance_1 : List UInt8 := [172, 42, 180, 0, 13, 27, 46, 2, 159, 0, 13, 42, 180, 0, 13, 28, 46, 2, 160, 0, 11, 42, 5]
abbrev dktX3_distance_1 : List UInt8 := dkwX3_distance_1 ++ dktX3_distance_2
def dkwX3_distance_0 : List UInt8 := [42, 3, 181, 0, 59, 27, 184, 0, 90, 153, 0, 10, 28, 184, 0, 90, 154, 0, 9, 42, 4, 182, 0, 94]
abbrev dktX3_distance_0 : List UInt8 := dkwX3_distance_0 ++ dktX3_distance_1
theorem dksX3_distance_0 : cX3_distance.data.toList.drop 0 = dktX3_distance_0 := by decide +kernel
theorem dksX3_distance_1 : cX3_distance.data.toList.drop 24 = dktX3_distance_1 := dk_seg dksX3_distance_0 24 rfl rfl
theorem dksX3_distance_2 : cX3_distance.data.toList.drop 47 = dktX3_distance_2 := dk_seg dksX3_distance_1 23 rfl rfl
theorem dX3_distance_0 : decode cX3_distance 0 = .ok (.aload_n 0, 1) := dk_42 (dk_at dksX3_distance_0 0 rfl rfl)
theorem dX3_distance_1 : decode cX3_distance 1 = .ok (.iconst 0, 1) := dk_3 (dk_at dksX3_distance_0 1 rfl rfl)
theorem dX3_distance_2 : decode cX3_distance 2 = .ok (.putfield 59, 3) := dk_181 0 59 (dk_at dksX3_distance_0 2 rfl rfl)
theorem dX3_distance_5 : decode cX3_distance 5 = .ok (.iload_n 1, 1) := dk_27 (dk_at dksX3_distance_0 5 rfl rfl)
theorem dX3_distance_6 : decode cX3_distance 6 = .ok (.invokestatic 90, 3) := dk_184 0 90 (dk_at dksX3_distance_0 6 rfl rfl)
theorem dX3_distance_9 : decode cX3_distance 9 = .ok (.ifCond .eq 10, 3) := dk_153 0 10 (dk_at dksX3_distance_0 9 rfl rfl)
theorem dX3_distance_12 : decode cX3_distance 12 = .ok (.iload_n 2, 1) := dk_28 (dk_at dksX3_distance_0 12 rfl rfl)
theorem dX3_distance_13 : decode cX3_distance 13 = .ok (.invokestatic 90, 3) := dk_184 0 90 (dk_at dksX3_distance_0 13 rfl rfl)
theorem dX3_distance_16 : decode cX3_distance 16 = .ok (.ifCond .ne 9, 3) := dk_154 0 9 (dk_at dksX3_distance_0 16 rfl rfl)
theorem dX3_distance_19 : decode cX3_distance 19 = .ok (.aload_n 0, 1) := dk_42 (dk_at dksX3_distance_0 19 rfl rfl)
theorem dX3_distance_20 : decode cX3_distance 20 = .ok (.iconst 1, 1) := dk_4 (dk_at dksX3_distance_0 20 rfl rfl)
theorem dX3_distance_21 : decode cX3_distance 21 = .ok (.invokevirtual 94, 3) := dk_182 0 94 (dk_at dksX3_distance_0 21 rfl rfl)
theorem dX3_distance_24 : decode cX3_distance 24 = .ok (.ireturn, 1) := dk_172 (dk_at dksX3_distance_1 0 rfl rfl)
theorem dX3_distance_25 : decode cX3_distance 25 = .ok (.aload_n 0, 1) := dk_42 (dk_at dksX3_distance_1 1 rfl rfl)
theorem dX3_distance_26 : decode cX3_distance 26 = .ok (.getfield 13, 3) := dk_180 0 13 (dk_at dksX3_distance_1 2 rfl rfl)
theorem dX3_distance_29 : decode cX3_distance 29 = .ok (.iload_n 1, 1) := dk_27 (dk_at dksX3_distance_1 5 rfl rfl)
theorem dX3_distance_30 : decode cX3_distance 30 = .ok (.iaload, 1) := dk_46 (dk_at dksX3_distance_1 6 rfl rfl)
theorem dX3_distance_31 : decode cX3_distance 31 = .ok (.iconst (-1), 1) := dk_2 (dk_at dksX3_distance_1 7 rfl rfl)
theorem dX3_distance_32 : decode cX3_distance 32 = .ok (.if_icmp .eq 13, 3) := dk_159 0 13 (dk_at dksX3_distance_1 8 rfl rfl)
theorem dX3_distance_35 : decode cX3_distance 35 = .ok (.aload_n 0, 1) := dk_42 (dk_at dksX3_distance_1 11 rfl rfl)
theorem dX3_distance_36 : decode cX3_distance 36 = .ok (.getfield 13, 3) := dk_180 0 13 (dk_at dksX3_distance_1 12 rfl rfl)
theorem dX3_distance_39 : decode cX3_distance 39 = .ok (.iload_n 2, 1) := dk_28 (dk_at dksX3_distance_1 15 rfl rfl)
theorem dX3_distance_40 : decode cX3_distance 40 = .ok (.iaload, 1) := dk_46 (dk_at dksX3_distance_1 16 rfl rfl)
theorem dX3_distance_41 : decode cX3_distance 41 = .ok (.iconst (-1), 1) := dk_2 (dk_at dksX3_distance_1 17 rfl rfl)
theorem dX3_distance_42 : decode cX3_distance 42 = .ok (.if_icmp .ne 11, 3) := dk_160 0 11 (dk_at dksX3_distance_1 18 rfl rfl)
theorem dX3_distance_45 : decode cX3_distance 45 = .ok (.aload_n 0, 1) := dk_42 (dk_at dksX3_distance_1 21 rfl rfl)
theorem dX3_distance_46 : decode cX3_distance 46 = .ok (.iconst 2, 1) := dk_5 (dk_at dksX3_distance_1 22 rfl rfl)
theorem dX3_distance_47 : decode cX3_distance 47 = .ok (.invokevirtual 94, 3) := dk_182 0 94 (dk_at dksX3_distance_2 0 rfl rfl)
theorem dX3_distance_50 : decode cX3_distance 50 = .ok (.goto 19, 3) := dk_167 0 19 (dk_at dksX3_distance_2 3 rfl rfl)
theorem dX3_distance_53 : decode cX3_distance 53 = .ok (.aload_n 0, 1) := dk_42 (dk_at dksX3_distance_2 6 rfl rfl)
theorem dX3_distance_54 : decode cX3_distance 54 = .ok (.aload_n 0, 1) := dk_42 (dk_at dksX3_distance_2 7 rfl rfl)
theorem dX3_distance_55 : decode cX3_distance 55 = .ok (.getfield 13, 3) := dk_180 0 13 (dk_at dksX3_distance_2 8 rfl rfl)
theorem dX3_distance_58 : decode cX3_distance 58 = .ok (.iload_n 1, 1) := dk_27 (dk_at dksX3_distance_2 11 rfl rfl)
theorem dX3_distance_59 : decode cX3_distance 59 = .ok (.iaload, 1) := dk_46 (dk_at dksX3_distance_2 12 rfl rfl)
theorem dX3_distance_60 : decode cX3_distance 60 = .ok (.aload_n 0, 1) := dk_42 (dk_at dksX3_distance_2 13 rfl rfl)
theorem dX3_distance_61 : decode cX3_distance 61 = .ok (.getfield 13, 3) := dk_180 0 13 (dk_at dksX3_distance_2 14 rfl rfl)
theorem dX3_distance_64 : decode cX3_distance 64 = .ok (.iload_n 2, 1) := dk_28 (dk_at dksX3_distance_2 17 rfl rfl)
theorem dX3_distance_65 : decode cX3_distance 65 = .ok (.iaload, 1) := dk_46 (dk_at dksX3_distance_2 18 rfl rfl)
theorem dX3_distance_66 : decode cX3_distance 66 = .ok (.invokevirtual 72, 3) := dk_182 0 72 (dk_at dksX3_distance_2 19 rfl rfl)
theorem dX3_distance_69 : decode cX3_distance 69 = .ok (.ireturn, 1) := dk_172 (dk_at dksX3_distance_2 22 rfl rfl)
abbrev cX3_order : ByteArray := prog_7_method_22_code
def yX3_order : MethodName := ⟨RX3, "order", "(I)I"⟩
def dkwX3_order_3 : List UInt8 := [42, 180, 0, 66, 3, 79, 42, 89, 180, 0, 66, 4, 96, 181, 0, 66, 42, 180, 0, 66, 4, 100, 172]
abbrev dktX3_order_3 : List UInt8 := dkwX3_order_3 ++ []
def dkwX3_order_2 : List UInt8 := [42, 180, 0, 20, 42, 180, 0, 66, 3, 79, 42, 180, 0, 23, 42, 180, 0, 66, 2, 79, 42, 180, 0, 26]
abbrev dktX3_order_2 : List UInt8 := dkwX3_order_2 ++ dktX3_order_3
def dkwX3_order_1 : List UInt8 := [180, 0, 66, 16, 40, 160, 0, 9, 42, 5, 182, 0, 94, 172, 42, 180, 0, 17, 42, 180, 0, 66, 27, 79]
abbrev dktX3_order_1 : List UInt8 := dkwX3_order_1 ++ dktX3_order_2
def dkwX3_order_0 : List UInt8 := [42, 3, 181, 0, 59, 27, 3, 17, 3, 231, 184, 0, 62, 154, 0, 9, 42, 4, 182, 0, 94, 172, 42]
abbrev dktX3_order_0 : List UInt8 := dkwX3_order_0 ++ dktX3_order_1
theorem dksX3_order_0 : cX3_order.data.toList.drop 0 = dktX3_order_0 := by decide +kernel
theorem dksX3_order_1 : cX3_order.data.toList.drop 23 = dktX3_order_1 := dk_seg dksX3_order_0 23 rfl rfl
theorem dksX3_order_2 : cX3_order.data.toList.drop 47 = dktX3_order_2 := dk_seg dksX3_order_1 24 rfl rfl
theorem dksX3_order_3 : cX3_order.data.toList.drop 71 = dktX3_order_3 := dk_seg dksX3_order_2 24 rfl rfl
theorem dX3_order_0 : decode cX3_order 0 = .ok (.aload_n 0, 1) := dk_42 (dk_at dksX3_order_0 0 rfl rfl)
theorem dX3_order_1 : decode cX3_order 1 = .ok (.iconst 0, 1) := dk_3 (dk_at dksX3_order_0 1 rfl rfl)
theorem dX3_order_2 : decode cX3_order 2 = .ok (.putfield 59, 3) := dk_181 0 59 (dk_at dksX3_order_0 2 rfl rfl)
theorem dX3_order_5 : decode cX3_order 5 = .ok (.iload_n 1, 1) := dk_27 (dk_at dksX3_order_0 5 rfl rfl)
theorem dX3_order_6 : decode cX3_order 6 = .ok (.iconst 0, 1) := dk_3 (dk_at dksX3_order_0 6 rfl rfl)
theorem dX3_order_7 : decode cX3_order 7 = .ok (.sipush 999, 3) := dk_17 3 231 (dk_at dksX3_order_0 7 rfl rfl)
theorem dX3_order_10 : decode cX3_order 10 = .ok (.invokestatic 62, 3) := dk_184 0 62 (dk_at dksX3_order_0 10 rfl rfl)
theorem dX3_order_13 : decode cX3_order 13 = .ok (.ifCond .ne 9, 3) := dk_154 0 9 (dk_at dksX3_order_0 13 rfl rfl)
theorem dX3_order_16 : decode cX3_order 16 = .ok (.aload_n 0, 1) := dk_42 (dk_at dksX3_order_0 16 rfl rfl)
theorem dX3_order_17 : decode cX3_order 17 = .ok (.iconst 1, 1) := dk_4 (dk_at dksX3_order_0 17 rfl rfl)
theorem dX3_order_18 : decode cX3_order 18 = .ok (.invokevirtual 94, 3) := dk_182 0 94 (dk_at dksX3_order_0 18 rfl rfl)
theorem dX3_order_21 : decode cX3_order 21 = .ok (.ireturn, 1) := dk_172 (dk_at dksX3_order_0 21 rfl rfl)
theorem dX3_order_22 : decode cX3_order 22 = .ok (.aload_n 0, 1) := dk_42 (dk_at dksX3_order_0 22 rfl rfl)
theorem dX3_order_23 : decode cX3_order 23 = .ok (.getfield 66, 3) := dk_180 0 66 (dk_at dksX3_order_1 0 rfl rfl)
theorem dX3_order_26 : decode cX3_order 26 = .ok (.bipush 40, 2) := dk_16 40 (dk_at dksX3_order_1 3 rfl rfl)
theorem dX3_order_28 : decode cX3_order 28 = .ok (.if_icmp .ne 9, 3) := dk_160 0 9 (dk_at dksX3_order_1 5 rfl rfl)
theorem dX3_order_31 : decode cX3_order 31 = .ok (.aload_n 0, 1) := dk_42 (dk_at dksX3_order_1 8 rfl rfl)
theorem dX3_order_32 : decode cX3_order 32 = .ok (.iconst 2, 1) := dk_5 (dk_at dksX3_order_1 9 rfl rfl)
theorem dX3_order_33 : decode cX3_order 33 = .ok (.invokevirtual 94, 3) := dk_182 0 94 (dk_at dksX3_order_1 10 rfl rfl)
theorem dX3_order_36 : decode cX3_order 36 = .ok (.ireturn, 1) := dk_172 (dk_at dksX3_order_1 13 rfl rfl)
theorem dX3_order_37 : decode cX3_order 37 = .ok (.aload_n 0, 1) := dk_42 (dk_at dksX3_order_1 14 rfl rfl)
theorem dX3_order_38 : decode cX3_order 38 = .ok (.getfield 17, 3) := dk_180 0 17 (dk_at dksX3_order_1 15 rfl rfl)
theorem dX3_order_41 : decode cX3_order 41 = .ok (.aload_n 0, 1) := dk_42 (dk_at dksX3_order_1 18 rfl rfl)
theorem dX3_order_42 : decode cX3_order 42 = .ok (.getfield 66, 3) := dk_180 0 66 (dk_at dksX3_order_1 19 rfl rfl)
theorem dX3_order_45 : decode cX3_order 45 = .ok (.iload_n 1, 1) := dk_27 (dk_at dksX3_order_1 22 rfl rfl)
theorem dX3_order_46 : decode cX3_order 46 = .ok (.iastore, 1) := dk_79 (dk_at dksX3_order_1 23 rfl rfl)
theorem dX3_order_47 : decode cX3_order 47 = .ok (.aload_n 0, 1) := dk_42 (dk_at dksX3_order_2 0 rfl rfl)
theorem dX3_order_48 : decode cX3_order 48 = .ok (.getfield 20, 3) := dk_180 0 20 (dk_at dksX3_order_2 1 rfl rfl)
theorem dX3_order_51 : decode cX3_order 51 = .ok (.aload_n 0, 1) := dk_42 (dk_at dksX3_order_2 4 rfl rfl)
theorem dX3_order_52 : decode cX3_order 52 = .ok (.getfield 66, 3) := dk_180 0 66 (dk_at dksX3_order_2 5 rfl rfl)
theorem dX3_order_55 : decode cX3_order 55 = .ok (.iconst 0, 1) := dk_3 (dk_at dksX3_order_2 8 rfl rfl)
theorem dX3_order_56 : decode cX3_order 56 = .ok (.iastore, 1) := dk_79 (dk_at dksX3_order_2 9 rfl rfl)
theorem dX3_order_57 : decode cX3_order 57 = .ok (.aload_n 0, 1) := dk_42 (dk_at dksX3_order_2 10 rfl rfl)
theorem dX3_order_58 : decode cX3_order 58 = .ok (.getfield 23, 3) := dk_180 0 23 (dk_at dksX3_order_2 11 rfl rfl)
theorem dX3_order_61 : decode cX3_order 61 = .ok (.aload_n 0, 1) := dk_42 (dk_at dksX3_order_2 14 rfl rfl)
theorem dX3_order_62 : decode cX3_order 62 = .ok (.getfield 66, 3) := dk_180 0 66 (dk_at dksX3_order_2 15 rfl rfl)
theorem dX3_order_65 : decode cX3_order 65 = .ok (.iconst (-1), 1) := dk_2 (dk_at dksX3_order_2 18 rfl rfl)
theorem dX3_order_66 : decode cX3_order 66 = .ok (.iastore, 1) := dk_79 (dk_at dksX3_order_2 19 rfl rfl)
theorem dX3_order_67 : decode cX3_order 67 = .ok (.aload_n 0, 1) := dk_42 (dk_at dksX3_order_2 20 rfl rfl)
theorem dX3_order_68 : decode cX3_order 68 = .ok (.getfield 26, 3) := dk_180 0 26 (dk_at dksX3_order_2 21 rfl rfl)
theorem dX3_order_71 : decode cX3_order 71 = .ok (.aload_n 0, 1) := dk_42 (dk_at dksX3_order_3 0 rfl rfl)
theorem dX3_order_72 : decode cX3_order 72 = .ok (.getfield 66, 3) := dk_180 0 66 (dk_at dksX3_order_3 1 rfl rfl)
theorem dX3_order_75 : decode cX3_order 75 = .ok (.iconst 0, 1) := dk_3 (dk_at dksX3_order_3 4 rfl rfl)
theorem dX3_order_76 : decode cX3_order 76 = .ok (.iastore, 1) := dk_79 (dk_at dksX3_order_3 5 rfl rfl)
theorem dX3_order_77 : decode cX3_order 77 = .ok (.aload_n 0, 1) := dk_42 (dk_at dksX3_order_3 6 rfl rfl)
theorem dX3_order_78 : decode cX3_order 78 = .ok (.dup, 1) := dk_89 (dk_at dksX3_order_3 7 rfl rfl)
theorem dX3_order_79 : decode cX3_order 79 = .ok (.getfield 66, 3) := dk_180 0 66 (dk_at dksX3_order_3 8 rfl rfl)
theorem dX3_order_82 : decode cX3_order 82 = .ok (.iconst 1, 1) := dk_4 (dk_at dksX3_order_3 11 rfl rfl)
theorem dX3_order_83 : decode cX3_order 83 = .ok (.iadd, 1) := dk_96 (dk_at dksX3_order_3 12 rfl rfl)
theorem dX3_order_84 : decode cX3_order 84 = .ok (.putfield 66, 3) := dk_181 0 66 (dk_at dksX3_order_3 13 rfl rfl)
theorem dX3_order_87 : decode cX3_order 87 = .ok (.aload_n 0, 1) := dk_42 (dk_at dksX3_order_3 16 rfl rfl)
theorem dX3_order_88 : decode cX3_order 88 = .ok (.getfield 66, 3) := dk_180 0 66 (dk_at dksX3_order_3 17 rfl rfl)
theorem dX3_order_91 : decode cX3_order 91 = .ok (.iconst 1, 1) := dk_4 (dk_at dksX3_order_3 20 rfl rfl)
theorem dX3_order_92 : decode cX3_order 92 = .ok (.isub, 1) := dk_100 (dk_at dksX3_order_3 21 rfl rfl)
theorem dX3_order_93 : decode cX3_order 93 = .ok (.ireturn, 1) := dk_172 (dk_at dksX3_order_3 22 rfl rfl)
abbrev cX3_line : ByteArray := prog_7_method_24_code
def yX3_line : MethodName := ⟨RX3, "line", "(III)I"⟩
def dkwX3_line_6 : List UInt8 := [92, 46, 4, 96, 79, 42, 180, 0, 26, 27, 46, 172]
abbrev dktX3_line_6 : List UInt8 := dkwX3_line_6 ++ []
def dkwX3_line_5 : List UInt8 := [96, 28, 79, 42, 180, 0, 32, 8, 27, 104, 42, 180, 0, 26, 27, 46, 96, 29, 79, 42, 180, 0, 26, 27]
abbrev dktX3_line_5 : List UInt8 := dkwX3_line_5 ++ dktX3_line_6
def dkwX3_line_4 : List UInt8 := [46, 2, 160, 0, 9, 42, 6, 182, 0, 94, 172, 42, 180, 0, 29, 8, 27, 104, 42, 180, 0, 26, 27, 46]
abbrev dktX3_line_4 : List UInt8 := dkwX3_line_4 ++ dktX3_line_5
def dkwX3_line_3 : List UInt8 := [180, 0, 7, 162, 0, 26, 42, 27, 182, 0, 111, 28, 122, 4, 126, 4, 159, 0, 13, 42, 180, 0, 13, 28]
abbrev dktX3_line_3 : List UInt8 := dkwX3_line_3 ++ dktX3_line_4
def dkwX3_line_2 : List UInt8 := [27, 46, 154, 0, 49, 42, 180, 0, 26, 27, 46, 8, 159, 0, 39, 42, 180, 0, 26, 27, 46, 42]
abbrev dktX3_line_2 : List UInt8 := dkwX3_line_2 ++ dktX3_line_3
def dkwX3_line_1 : List UInt8 := [182, 0, 94, 172, 29, 4, 16, 99, 184, 0, 62, 154, 0, 9, 42, 5, 182, 0, 94, 172, 42, 180, 0, 20]
abbrev dktX3_line_1 : List UInt8 := dkwX3_line_1 ++ dktX3_line_2
def dkwX3_line_0 : List UInt8 := [42, 3, 181, 0, 59, 42, 27, 182, 0, 108, 153, 0, 10, 28, 184, 0, 90, 154, 0, 9, 42, 4]
abbrev dktX3_line_0 : List UInt8 := dkwX3_line_0 ++ dktX3_line_1
theorem dksX3_line_0 : cX3_line.data.toList.drop 0 = dktX3_line_0 := by decide +kernel
theorem dksX3_line_1 : cX3_line.data.toList.drop 22 = dktX3_line_1 := dk_seg dksX3_line_0 22 rfl rfl
theorem dksX3_line_2 : cX3_line.data.toList.drop 46 = dktX3_line_2 := dk_seg dksX3_line_1 24 rfl rfl
theorem dksX3_line_3 : cX3_line.data.toList.drop 68 = dktX3_line_3 := dk_seg dksX3_line_2 22 rfl rfl
theorem dksX3_line_4 : cX3_line.data.toList.drop 92 = dktX3_line_4 := dk_seg dksX3_line_3 24 rfl rfl
theorem dksX3_line_5 : cX3_line.data.toList.drop 116 = dktX3_line_5 := dk_seg dksX3_line_4 24 rfl rfl
theorem dksX3_line_6 : cX3_line.data.toList.drop 140 = dktX3_line_6 := dk_seg dksX3_line_5 24 rfl rfl
theorem dX3_line_0 : decode cX3_line 0 = .ok (.aload_n 0, 1) := dk_42 (dk_at dksX3_line_0 0 rfl rfl)
theorem dX3_line_1 : decode cX3_line 1 = .ok (.iconst 0, 1) := dk_3 (dk_at dksX3_line_0 1 rfl rfl)
theorem dX3_line_2 : decode cX3_line 2 = .ok (.putfield 59, 3) := dk_181 0 59 (dk_at dksX3_line_0 2 rfl rfl)
theorem dX3_line_5 : decode cX3_line 5 = .ok (.aload_n 0, 1) := dk_42 (dk_at dksX3_line_0 5 rfl rfl)
theorem dX3_line_6 : decode cX3_line 6 = .ok (.iload_n 1, 1) := dk_27 (dk_at dksX3_line_0 6 rfl rfl)
theorem dX3_line_7 : decode cX3_line 7 = .ok (.invokevirtual 108, 3) := dk_182 0 108 (dk_at dksX3_line_0 7 rfl rfl)
theorem dX3_line_10 : decode cX3_line 10 = .ok (.ifCond .eq 10, 3) := dk_153 0 10 (dk_at dksX3_line_0 10 rfl rfl)
theorem dX3_line_13 : decode cX3_line 13 = .ok (.iload_n 2, 1) := dk_28 (dk_at dksX3_line_0 13 rfl rfl)
theorem dX3_line_14 : decode cX3_line 14 = .ok (.invokestatic 90, 3) := dk_184 0 90 (dk_at dksX3_line_0 14 rfl rfl)
theorem dX3_line_17 : decode cX3_line 17 = .ok (.ifCond .ne 9, 3) := dk_154 0 9 (dk_at dksX3_line_0 17 rfl rfl)
theorem dX3_line_20 : decode cX3_line 20 = .ok (.aload_n 0, 1) := dk_42 (dk_at dksX3_line_0 20 rfl rfl)
theorem dX3_line_21 : decode cX3_line 21 = .ok (.iconst 1, 1) := dk_4 (dk_at dksX3_line_0 21 rfl rfl)
theorem dX3_line_22 : decode cX3_line 22 = .ok (.invokevirtual 94, 3) := dk_182 0 94 (dk_at dksX3_line_1 0 rfl rfl)
theorem dX3_line_25 : decode cX3_line 25 = .ok (.ireturn, 1) := dk_172 (dk_at dksX3_line_1 3 rfl rfl)
theorem dX3_line_26 : decode cX3_line 26 = .ok (.iload_n 3, 1) := dk_29 (dk_at dksX3_line_1 4 rfl rfl)
theorem dX3_line_27 : decode cX3_line 27 = .ok (.iconst 1, 1) := dk_4 (dk_at dksX3_line_1 5 rfl rfl)
theorem dX3_line_28 : decode cX3_line 28 = .ok (.bipush 99, 2) := dk_16 99 (dk_at dksX3_line_1 6 rfl rfl)
theorem dX3_line_30 : decode cX3_line 30 = .ok (.invokestatic 62, 3) := dk_184 0 62 (dk_at dksX3_line_1 8 rfl rfl)
theorem dX3_line_33 : decode cX3_line 33 = .ok (.ifCond .ne 9, 3) := dk_154 0 9 (dk_at dksX3_line_1 11 rfl rfl)
theorem dX3_line_36 : decode cX3_line 36 = .ok (.aload_n 0, 1) := dk_42 (dk_at dksX3_line_1 14 rfl rfl)
theorem dX3_line_37 : decode cX3_line 37 = .ok (.iconst 2, 1) := dk_5 (dk_at dksX3_line_1 15 rfl rfl)
theorem dX3_line_38 : decode cX3_line 38 = .ok (.invokevirtual 94, 3) := dk_182 0 94 (dk_at dksX3_line_1 16 rfl rfl)
theorem dX3_line_41 : decode cX3_line 41 = .ok (.ireturn, 1) := dk_172 (dk_at dksX3_line_1 19 rfl rfl)
theorem dX3_line_42 : decode cX3_line 42 = .ok (.aload_n 0, 1) := dk_42 (dk_at dksX3_line_1 20 rfl rfl)
theorem dX3_line_43 : decode cX3_line 43 = .ok (.getfield 20, 3) := dk_180 0 20 (dk_at dksX3_line_1 21 rfl rfl)
theorem dX3_line_46 : decode cX3_line 46 = .ok (.iload_n 1, 1) := dk_27 (dk_at dksX3_line_2 0 rfl rfl)
theorem dX3_line_47 : decode cX3_line 47 = .ok (.iaload, 1) := dk_46 (dk_at dksX3_line_2 1 rfl rfl)
theorem dX3_line_48 : decode cX3_line 48 = .ok (.ifCond .ne 49, 3) := dk_154 0 49 (dk_at dksX3_line_2 2 rfl rfl)
theorem dX3_line_51 : decode cX3_line 51 = .ok (.aload_n 0, 1) := dk_42 (dk_at dksX3_line_2 5 rfl rfl)
theorem dX3_line_52 : decode cX3_line 52 = .ok (.getfield 26, 3) := dk_180 0 26 (dk_at dksX3_line_2 6 rfl rfl)
theorem dX3_line_55 : decode cX3_line 55 = .ok (.iload_n 1, 1) := dk_27 (dk_at dksX3_line_2 9 rfl rfl)
theorem dX3_line_56 : decode cX3_line 56 = .ok (.iaload, 1) := dk_46 (dk_at dksX3_line_2 10 rfl rfl)
theorem dX3_line_57 : decode cX3_line 57 = .ok (.iconst 5, 1) := dk_8 (dk_at dksX3_line_2 11 rfl rfl)
theorem dX3_line_58 : decode cX3_line 58 = .ok (.if_icmp .eq 39, 3) := dk_159 0 39 (dk_at dksX3_line_2 12 rfl rfl)
theorem dX3_line_61 : decode cX3_line 61 = .ok (.aload_n 0, 1) := dk_42 (dk_at dksX3_line_2 15 rfl rfl)
theorem dX3_line_62 : decode cX3_line 62 = .ok (.getfield 26, 3) := dk_180 0 26 (dk_at dksX3_line_2 16 rfl rfl)
theorem dX3_line_65 : decode cX3_line 65 = .ok (.iload_n 1, 1) := dk_27 (dk_at dksX3_line_2 19 rfl rfl)
theorem dX3_line_66 : decode cX3_line 66 = .ok (.iaload, 1) := dk_46 (dk_at dksX3_line_2 20 rfl rfl)
theorem dX3_line_67 : decode cX3_line 67 = .ok (.aload_n 0, 1) := dk_42 (dk_at dksX3_line_2 21 rfl rfl)
theorem dX3_line_68 : decode cX3_line 68 = .ok (.getfield 7, 3) := dk_180 0 7 (dk_at dksX3_line_3 0 rfl rfl)
theorem dX3_line_71 : decode cX3_line 71 = .ok (.if_icmp .ge 26, 3) := dk_162 0 26 (dk_at dksX3_line_3 3 rfl rfl)
theorem dX3_line_74 : decode cX3_line 74 = .ok (.aload_n 0, 1) := dk_42 (dk_at dksX3_line_3 6 rfl rfl)
theorem dX3_line_75 : decode cX3_line 75 = .ok (.iload_n 1, 1) := dk_27 (dk_at dksX3_line_3 7 rfl rfl)
theorem dX3_line_76 : decode cX3_line 76 = .ok (.invokevirtual 111, 3) := dk_182 0 111 (dk_at dksX3_line_3 8 rfl rfl)
theorem dX3_line_79 : decode cX3_line 79 = .ok (.iload_n 2, 1) := dk_28 (dk_at dksX3_line_3 11 rfl rfl)
theorem dX3_line_80 : decode cX3_line 80 = .ok (.ishr, 1) := dk_122 (dk_at dksX3_line_3 12 rfl rfl)
theorem dX3_line_81 : decode cX3_line 81 = .ok (.iconst 1, 1) := dk_4 (dk_at dksX3_line_3 13 rfl rfl)
theorem dX3_line_82 : decode cX3_line 82 = .ok (.iand, 1) := dk_126 (dk_at dksX3_line_3 14 rfl rfl)
theorem dX3_line_83 : decode cX3_line 83 = .ok (.iconst 1, 1) := dk_4 (dk_at dksX3_line_3 15 rfl rfl)
theorem dX3_line_84 : decode cX3_line 84 = .ok (.if_icmp .eq 13, 3) := dk_159 0 13 (dk_at dksX3_line_3 16 rfl rfl)
theorem dX3_line_87 : decode cX3_line 87 = .ok (.aload_n 0, 1) := dk_42 (dk_at dksX3_line_3 19 rfl rfl)
theorem dX3_line_88 : decode cX3_line 88 = .ok (.getfield 13, 3) := dk_180 0 13 (dk_at dksX3_line_3 20 rfl rfl)
theorem dX3_line_91 : decode cX3_line 91 = .ok (.iload_n 2, 1) := dk_28 (dk_at dksX3_line_3 23 rfl rfl)
theorem dX3_line_92 : decode cX3_line 92 = .ok (.iaload, 1) := dk_46 (dk_at dksX3_line_4 0 rfl rfl)
theorem dX3_line_93 : decode cX3_line 93 = .ok (.iconst (-1), 1) := dk_2 (dk_at dksX3_line_4 1 rfl rfl)
theorem dX3_line_94 : decode cX3_line 94 = .ok (.if_icmp .ne 9, 3) := dk_160 0 9 (dk_at dksX3_line_4 2 rfl rfl)
theorem dX3_line_97 : decode cX3_line 97 = .ok (.aload_n 0, 1) := dk_42 (dk_at dksX3_line_4 5 rfl rfl)
theorem dX3_line_98 : decode cX3_line 98 = .ok (.iconst 3, 1) := dk_6 (dk_at dksX3_line_4 6 rfl rfl)
theorem dX3_line_99 : decode cX3_line 99 = .ok (.invokevirtual 94, 3) := dk_182 0 94 (dk_at dksX3_line_4 7 rfl rfl)
theorem dX3_line_102 : decode cX3_line 102 = .ok (.ireturn, 1) := dk_172 (dk_at dksX3_line_4 10 rfl rfl)
theorem dX3_line_103 : decode cX3_line 103 = .ok (.aload_n 0, 1) := dk_42 (dk_at dksX3_line_4 11 rfl rfl)
theorem dX3_line_104 : decode cX3_line 104 = .ok (.getfield 29, 3) := dk_180 0 29 (dk_at dksX3_line_4 12 rfl rfl)
theorem dX3_line_107 : decode cX3_line 107 = .ok (.iconst 5, 1) := dk_8 (dk_at dksX3_line_4 15 rfl rfl)
theorem dX3_line_108 : decode cX3_line 108 = .ok (.iload_n 1, 1) := dk_27 (dk_at dksX3_line_4 16 rfl rfl)
theorem dX3_line_109 : decode cX3_line 109 = .ok (.imul, 1) := dk_104 (dk_at dksX3_line_4 17 rfl rfl)
theorem dX3_line_110 : decode cX3_line 110 = .ok (.aload_n 0, 1) := dk_42 (dk_at dksX3_line_4 18 rfl rfl)
theorem dX3_line_111 : decode cX3_line 111 = .ok (.getfield 26, 3) := dk_180 0 26 (dk_at dksX3_line_4 19 rfl rfl)
theorem dX3_line_114 : decode cX3_line 114 = .ok (.iload_n 1, 1) := dk_27 (dk_at dksX3_line_4 22 rfl rfl)
theorem dX3_line_115 : decode cX3_line 115 = .ok (.iaload, 1) := dk_46 (dk_at dksX3_line_4 23 rfl rfl)
theorem dX3_line_116 : decode cX3_line 116 = .ok (.iadd, 1) := dk_96 (dk_at dksX3_line_5 0 rfl rfl)
theorem dX3_line_117 : decode cX3_line 117 = .ok (.iload_n 2, 1) := dk_28 (dk_at dksX3_line_5 1 rfl rfl)
theorem dX3_line_118 : decode cX3_line 118 = .ok (.iastore, 1) := dk_79 (dk_at dksX3_line_5 2 rfl rfl)
theorem dX3_line_119 : decode cX3_line 119 = .ok (.aload_n 0, 1) := dk_42 (dk_at dksX3_line_5 3 rfl rfl)
theorem dX3_line_120 : decode cX3_line 120 = .ok (.getfield 32, 3) := dk_180 0 32 (dk_at dksX3_line_5 4 rfl rfl)
theorem dX3_line_123 : decode cX3_line 123 = .ok (.iconst 5, 1) := dk_8 (dk_at dksX3_line_5 7 rfl rfl)
theorem dX3_line_124 : decode cX3_line 124 = .ok (.iload_n 1, 1) := dk_27 (dk_at dksX3_line_5 8 rfl rfl)
theorem dX3_line_125 : decode cX3_line 125 = .ok (.imul, 1) := dk_104 (dk_at dksX3_line_5 9 rfl rfl)
theorem dX3_line_126 : decode cX3_line 126 = .ok (.aload_n 0, 1) := dk_42 (dk_at dksX3_line_5 10 rfl rfl)
theorem dX3_line_127 : decode cX3_line 127 = .ok (.getfield 26, 3) := dk_180 0 26 (dk_at dksX3_line_5 11 rfl rfl)
theorem dX3_line_130 : decode cX3_line 130 = .ok (.iload_n 1, 1) := dk_27 (dk_at dksX3_line_5 14 rfl rfl)
theorem dX3_line_131 : decode cX3_line 131 = .ok (.iaload, 1) := dk_46 (dk_at dksX3_line_5 15 rfl rfl)
theorem dX3_line_132 : decode cX3_line 132 = .ok (.iadd, 1) := dk_96 (dk_at dksX3_line_5 16 rfl rfl)
theorem dX3_line_133 : decode cX3_line 133 = .ok (.iload_n 3, 1) := dk_29 (dk_at dksX3_line_5 17 rfl rfl)
theorem dX3_line_134 : decode cX3_line 134 = .ok (.iastore, 1) := dk_79 (dk_at dksX3_line_5 18 rfl rfl)
theorem dX3_line_135 : decode cX3_line 135 = .ok (.aload_n 0, 1) := dk_42 (dk_at dksX3_line_5 19 rfl rfl)
theorem dX3_line_136 : decode cX3_line 136 = .ok (.getfield 26, 3) := dk_180 0 26 (dk_at dksX3_line_5 20 rfl rfl)
theorem dX3_line_139 : decode cX3_line 139 = .ok (.iload_n 1, 1) := dk_27 (dk_at dksX3_line_5 23 rfl rfl)
theorem dX3_line_140 : decode cX3_line 140 = .ok (.dup2, 1) := dk_92 (dk_at dksX3_line_6 0 rfl rfl)
theorem dX3_line_141 : decode cX3_line 141 = .ok (.iaload, 1) := dk_46 (dk_at dksX3_line_6 1 rfl rfl)
theorem dX3_line_142 : decode cX3_line 142 = .ok (.iconst 1, 1) := dk_4 (dk_at dksX3_line_6 2 rfl rfl)
theorem dX3_line_143 : decode cX3_line 143 = .ok (.iadd, 1) := dk_96 (dk_at dksX3_line_6 3 rfl rfl)
theorem dX3_line_144 : decode cX3_line 144 = .ok (.iastore, 1) := dk_79 (dk_at dksX3_line_6 4 rfl rfl)
theorem dX3_line_145 : decode cX3_line 145 = .ok (.aload_n 0, 1) := dk_42 (dk_at dksX3_line_6 5 rfl rfl)
theorem dX3_line_146 : decode cX3_line 146 = .ok (.getfield 26, 3) := dk_180 0 26 (dk_at dksX3_line_6 6 rfl rfl)
theorem dX3_line_149 : decode cX3_line 149 = .ok (.iload_n 1, 1) := dk_27 (dk_at dksX3_line_6 9 rfl rfl)
theorem dX3_line_150 : decode cX3_line 150 = .ok (.iaload, 1) := dk_46 (dk_at dksX3_line_6 10 rfl rfl)
theorem dX3_line_151 : decode cX3_line 151 = .ok (.ireturn, 1) := dk_172 (dk_at dksX3_line_6 11 rfl rfl)
abbrev cX3_isOrder : ByteArray := prog_7_method_6_code
def yX3_isOrder : MethodName := ⟨RX3, "isOrder", "(I)Z"⟩
def dkwX3_isOrder_0 : List UInt8 := [27, 3, 42, 180, 0, 66, 4, 100, 184, 0, 62, 172]
abbrev dktX3_isOrder_0 : List UInt8 := dkwX3_isOrder_0 ++ []
theorem dksX3_isOrder_0 : cX3_isOrder.data.toList.drop 0 = dktX3_isOrder_0 := by decide +kernel
theorem dX3_isOrder_0 : decode cX3_isOrder 0 = .ok (.iload_n 1, 1) := dk_27 (dk_at dksX3_isOrder_0 0 rfl rfl)
theorem dX3_isOrder_1 : decode cX3_isOrder 1 = .ok (.iconst 0, 1) := dk_3 (dk_at dksX3_isOrder_0 1 rfl rfl)
theorem dX3_isOrder_2 : decode cX3_isOrder 2 = .ok (.aload_n 0, 1) := dk_42 (dk_at dksX3_isOrder_0 2 rfl rfl)
theorem dX3_isOrder_3 : decode cX3_isOrder 3 = .ok (.getfield 66, 3) := dk_180 0 66 (dk_at dksX3_isOrder_0 3 rfl rfl)
theorem dX3_isOrder_6 : decode cX3_isOrder 6 = .ok (.iconst 1, 1) := dk_4 (dk_at dksX3_isOrder_0 6 rfl rfl)
theorem dX3_isOrder_7 : decode cX3_isOrder 7 = .ok (.isub, 1) := dk_100 (dk_at dksX3_isOrder_0 7 rfl rfl)
theorem dX3_isOrder_8 : decode cX3_isOrder 8 = .ok (.invokestatic 62, 3) := dk_184 0 62 (dk_at dksX3_isOrder_0 8 rfl rfl)
theorem dX3_isOrder_11 : decode cX3_isOrder 11 = .ok (.ireturn, 1) := dk_172 (dk_at dksX3_isOrder_0 11 rfl rfl)
abbrev cX3_wanted : ByteArray := prog_7_method_23_code
def yX3_wanted : MethodName := ⟨RX3, "wanted", "(I)I"⟩
def dkwX3_wanted_1 : List UInt8 := [96, 46, 120, 128, 61, 132, 3, 1, 167, 255, 228, 28, 172]
abbrev dktX3_wanted_1 : List UInt8 := dkwX3_wanted_1 ++ []
def dkwX3_wanted_0 : List UInt8 := [3, 61, 3, 62, 29, 42, 180, 0, 26, 27, 46, 162, 0, 24, 28, 4, 42, 180, 0, 29, 8, 27, 104, 29]
abbrev dktX3_wanted_0 : List UInt8 := dkwX3_wanted_0 ++ dktX3_wanted_1
theorem dksX3_wanted_0 : cX3_wanted.data.toList.drop 0 = dktX3_wanted_0 := by decide +kernel
theorem dksX3_wanted_1 : cX3_wanted.data.toList.drop 24 = dktX3_wanted_1 := dk_seg dksX3_wanted_0 24 rfl rfl
theorem dX3_wanted_0 : decode cX3_wanted 0 = .ok (.iconst 0, 1) := dk_3 (dk_at dksX3_wanted_0 0 rfl rfl)
theorem dX3_wanted_1 : decode cX3_wanted 1 = .ok (.istore_n 2, 1) := dk_61 (dk_at dksX3_wanted_0 1 rfl rfl)
theorem dX3_wanted_2 : decode cX3_wanted 2 = .ok (.iconst 0, 1) := dk_3 (dk_at dksX3_wanted_0 2 rfl rfl)
theorem dX3_wanted_3 : decode cX3_wanted 3 = .ok (.istore_n 3, 1) := dk_62 (dk_at dksX3_wanted_0 3 rfl rfl)
theorem dX3_wanted_4 : decode cX3_wanted 4 = .ok (.iload_n 3, 1) := dk_29 (dk_at dksX3_wanted_0 4 rfl rfl)
theorem dX3_wanted_5 : decode cX3_wanted 5 = .ok (.aload_n 0, 1) := dk_42 (dk_at dksX3_wanted_0 5 rfl rfl)
theorem dX3_wanted_6 : decode cX3_wanted 6 = .ok (.getfield 26, 3) := dk_180 0 26 (dk_at dksX3_wanted_0 6 rfl rfl)
theorem dX3_wanted_9 : decode cX3_wanted 9 = .ok (.iload_n 1, 1) := dk_27 (dk_at dksX3_wanted_0 9 rfl rfl)
theorem dX3_wanted_10 : decode cX3_wanted 10 = .ok (.iaload, 1) := dk_46 (dk_at dksX3_wanted_0 10 rfl rfl)
theorem dX3_wanted_11 : decode cX3_wanted 11 = .ok (.if_icmp .ge 24, 3) := dk_162 0 24 (dk_at dksX3_wanted_0 11 rfl rfl)
theorem dX3_wanted_14 : decode cX3_wanted 14 = .ok (.iload_n 2, 1) := dk_28 (dk_at dksX3_wanted_0 14 rfl rfl)
theorem dX3_wanted_15 : decode cX3_wanted 15 = .ok (.iconst 1, 1) := dk_4 (dk_at dksX3_wanted_0 15 rfl rfl)
theorem dX3_wanted_16 : decode cX3_wanted 16 = .ok (.aload_n 0, 1) := dk_42 (dk_at dksX3_wanted_0 16 rfl rfl)
theorem dX3_wanted_17 : decode cX3_wanted 17 = .ok (.getfield 29, 3) := dk_180 0 29 (dk_at dksX3_wanted_0 17 rfl rfl)
theorem dX3_wanted_20 : decode cX3_wanted 20 = .ok (.iconst 5, 1) := dk_8 (dk_at dksX3_wanted_0 20 rfl rfl)
theorem dX3_wanted_21 : decode cX3_wanted 21 = .ok (.iload_n 1, 1) := dk_27 (dk_at dksX3_wanted_0 21 rfl rfl)
theorem dX3_wanted_22 : decode cX3_wanted 22 = .ok (.imul, 1) := dk_104 (dk_at dksX3_wanted_0 22 rfl rfl)
theorem dX3_wanted_23 : decode cX3_wanted 23 = .ok (.iload_n 3, 1) := dk_29 (dk_at dksX3_wanted_0 23 rfl rfl)
theorem dX3_wanted_24 : decode cX3_wanted 24 = .ok (.iadd, 1) := dk_96 (dk_at dksX3_wanted_1 0 rfl rfl)
theorem dX3_wanted_25 : decode cX3_wanted 25 = .ok (.iaload, 1) := dk_46 (dk_at dksX3_wanted_1 1 rfl rfl)
theorem dX3_wanted_26 : decode cX3_wanted 26 = .ok (.ishl, 1) := dk_120 (dk_at dksX3_wanted_1 2 rfl rfl)
theorem dX3_wanted_27 : decode cX3_wanted 27 = .ok (.ior, 1) := dk_128 (dk_at dksX3_wanted_1 3 rfl rfl)
theorem dX3_wanted_28 : decode cX3_wanted 28 = .ok (.istore_n 2, 1) := dk_61 (dk_at dksX3_wanted_1 4 rfl rfl)
theorem dX3_wanted_29 : decode cX3_wanted 29 = .ok (.iinc 3 1, 3) := dk_132 3 1 (dk_at dksX3_wanted_1 5 rfl rfl)
theorem dX3_wanted_32 : decode cX3_wanted 32 = .ok (.goto (-28), 3) := dk_167 255 228 (dk_at dksX3_wanted_1 8 rfl rfl)
theorem dX3_wanted_35 : decode cX3_wanted 35 = .ok (.iload_n 2, 1) := dk_28 (dk_at dksX3_wanted_1 11 rfl rfl)
theorem dX3_wanted_36 : decode cX3_wanted 36 = .ok (.ireturn, 1) := dk_172 (dk_at dksX3_wanted_1 12 rfl rfl)
abbrev cX3_orders : ByteArray := prog_7_method_25_code
def yX3_orders : MethodName := ⟨RX3, "orders", "()I"⟩
def dkwX3_orders_0 : List UInt8 := [42, 3, 181, 0, 59, 42, 180, 0, 66, 172]
abbrev dktX3_orders_0 : List UInt8 := dkwX3_orders_0 ++ []
theorem dksX3_orders_0 : cX3_orders.data.toList.drop 0 = dktX3_orders_0 := by decide +kernel
theorem dX3_orders_0 : decode cX3_orders 0 = .ok (.aload_n 0, 1) := dk_42 (dk_at dksX3_orders_0 0 rfl rfl)
theorem dX3_orders_1 : decode cX3_orders 1 = .ok (.iconst 0, 1) := dk_3 (dk_at dksX3_orders_0 1 rfl rfl)
theorem dX3_orders_2 : decode cX3_orders 2 = .ok (.putfield 59, 3) := dk_181 0 59 (dk_at dksX3_orders_0 2 rfl rfl)
theorem dX3_orders_5 : decode cX3_orders 5 = .ok (.aload_n 0, 1) := dk_42 (dk_at dksX3_orders_0 5 rfl rfl)
theorem dX3_orders_6 : decode cX3_orders 6 = .ok (.getfield 66, 3) := dk_180 0 66 (dk_at dksX3_orders_0 6 rfl rfl)
theorem dX3_orders_9 : decode cX3_orders 9 = .ok (.ireturn, 1) := dk_172 (dk_at dksX3_orders_0 9 rfl rfl)
abbrev cX3_stateOf : ByteArray := prog_7_method_26_code
def yX3_stateOf : MethodName := ⟨RX3, "stateOf", "(I)I"⟩
def dkwX3_stateOf_1 : List UInt8 := [182, 0, 94, 172]
abbrev dktX3_stateOf_1 : List UInt8 := dkwX3_stateOf_1 ++ []
def dkwX3_stateOf_0 : List UInt8 := [42, 3, 181, 0, 59, 42, 27, 182, 0, 108, 153, 0, 12, 42, 180, 0, 20, 27, 46, 167, 0, 8, 42, 4]
abbrev dktX3_stateOf_0 : List UInt8 := dkwX3_stateOf_0 ++ dktX3_stateOf_1
theorem dksX3_stateOf_0 : cX3_stateOf.data.toList.drop 0 = dktX3_stateOf_0 := by decide +kernel
theorem dksX3_stateOf_1 : cX3_stateOf.data.toList.drop 24 = dktX3_stateOf_1 := dk_seg dksX3_stateOf_0 24 rfl rfl
theorem dX3_stateOf_0 : decode cX3_stateOf 0 = .ok (.aload_n 0, 1) := dk_42 (dk_at dksX3_stateOf_0 0 rfl rfl)
theorem dX3_stateOf_1 : decode cX3_stateOf 1 = .ok (.iconst 0, 1) := dk_3 (dk_at dksX3_stateOf_0 1 rfl rfl)
theorem dX3_stateOf_2 : decode cX3_stateOf 2 = .ok (.putfield 59, 3) := dk_181 0 59 (dk_at dksX3_stateOf_0 2 rfl rfl)
theorem dX3_stateOf_5 : decode cX3_stateOf 5 = .ok (.aload_n 0, 1) := dk_42 (dk_at dksX3_stateOf_0 5 rfl rfl)
theorem dX3_stateOf_6 : decode cX3_stateOf 6 = .ok (.iload_n 1, 1) := dk_27 (dk_at dksX3_stateOf_0 6 rfl rfl)
theorem dX3_stateOf_7 : decode cX3_stateOf 7 = .ok (.invokevirtual 108, 3) := dk_182 0 108 (dk_at dksX3_stateOf_0 7 rfl rfl)
theorem dX3_stateOf_10 : decode cX3_stateOf 10 = .ok (.ifCond .eq 12, 3) := dk_153 0 12 (dk_at dksX3_stateOf_0 10 rfl rfl)
theorem dX3_stateOf_13 : decode cX3_stateOf 13 = .ok (.aload_n 0, 1) := dk_42 (dk_at dksX3_stateOf_0 13 rfl rfl)
theorem dX3_stateOf_14 : decode cX3_stateOf 14 = .ok (.getfield 20, 3) := dk_180 0 20 (dk_at dksX3_stateOf_0 14 rfl rfl)
theorem dX3_stateOf_17 : decode cX3_stateOf 17 = .ok (.iload_n 1, 1) := dk_27 (dk_at dksX3_stateOf_0 17 rfl rfl)
theorem dX3_stateOf_18 : decode cX3_stateOf 18 = .ok (.iaload, 1) := dk_46 (dk_at dksX3_stateOf_0 18 rfl rfl)
theorem dX3_stateOf_19 : decode cX3_stateOf 19 = .ok (.goto 8, 3) := dk_167 0 8 (dk_at dksX3_stateOf_0 19 rfl rfl)
theorem dX3_stateOf_22 : decode cX3_stateOf 22 = .ok (.aload_n 0, 1) := dk_42 (dk_at dksX3_stateOf_0 22 rfl rfl)
theorem dX3_stateOf_23 : decode cX3_stateOf 23 = .ok (.iconst 1, 1) := dk_4 (dk_at dksX3_stateOf_0 23 rfl rfl)
theorem dX3_stateOf_24 : decode cX3_stateOf 24 = .ok (.invokevirtual 94, 3) := dk_182 0 94 (dk_at dksX3_stateOf_1 0 rfl rfl)
theorem dX3_stateOf_27 : decode cX3_stateOf 27 = .ok (.ireturn, 1) := dk_172 (dk_at dksX3_stateOf_1 3 rfl rfl)
abbrev cX3_lengthAlone : ByteArray := prog_7_method_27_code
def yX3_lengthAlone : MethodName := ⟨RX3, "lengthAlone", "(I)I"⟩
def dkwX3_lengthAlone_1 : List UInt8 := [167, 0, 8, 42, 4, 182, 0, 94, 172]
abbrev dktX3_lengthAlone_1 : List UInt8 := dkwX3_lengthAlone_1 ++ []
def dkwX3_lengthAlone_0 : List UInt8 := [42, 3, 181, 0, 59, 42, 27, 182, 0, 108, 153, 0, 15, 42, 42, 27, 182, 0, 111, 182, 0, 114]
abbrev dktX3_lengthAlone_0 : List UInt8 := dkwX3_lengthAlone_0 ++ dktX3_lengthAlone_1
theorem dksX3_lengthAlone_0 : cX3_lengthAlone.data.toList.drop 0 = dktX3_lengthAlone_0 := by decide +kernel
theorem dksX3_lengthAlone_1 : cX3_lengthAlone.data.toList.drop 22 = dktX3_lengthAlone_1 := dk_seg dksX3_lengthAlone_0 22 rfl rfl
theorem dX3_lengthAlone_0 : decode cX3_lengthAlone 0 = .ok (.aload_n 0, 1) := dk_42 (dk_at dksX3_lengthAlone_0 0 rfl rfl)
theorem dX3_lengthAlone_1 : decode cX3_lengthAlone 1 = .ok (.iconst 0, 1) := dk_3 (dk_at dksX3_lengthAlone_0 1 rfl rfl)
theorem dX3_lengthAlone_2 : decode cX3_lengthAlone 2 = .ok (.putfield 59, 3) := dk_181 0 59 (dk_at dksX3_lengthAlone_0 2 rfl rfl)
theorem dX3_lengthAlone_5 : decode cX3_lengthAlone 5 = .ok (.aload_n 0, 1) := dk_42 (dk_at dksX3_lengthAlone_0 5 rfl rfl)
theorem dX3_lengthAlone_6 : decode cX3_lengthAlone 6 = .ok (.iload_n 1, 1) := dk_27 (dk_at dksX3_lengthAlone_0 6 rfl rfl)
theorem dX3_lengthAlone_7 : decode cX3_lengthAlone 7 = .ok (.invokevirtual 108, 3) := dk_182 0 108 (dk_at dksX3_lengthAlone_0 7 rfl rfl)
theorem dX3_lengthAlone_10 : decode cX3_lengthAlone 10 = .ok (.ifCond .eq 15, 3) := dk_153 0 15 (dk_at dksX3_lengthAlone_0 10 rfl rfl)
theorem dX3_lengthAlone_13 : decode cX3_lengthAlone 13 = .ok (.aload_n 0, 1) := dk_42 (dk_at dksX3_lengthAlone_0 13 rfl rfl)
theorem dX3_lengthAlone_14 : decode cX3_lengthAlone 14 = .ok (.aload_n 0, 1) := dk_42 (dk_at dksX3_lengthAlone_0 14 rfl rfl)
theorem dX3_lengthAlone_15 : decode cX3_lengthAlone 15 = .ok (.iload_n 1, 1) := dk_27 (dk_at dksX3_lengthAlone_0 15 rfl rfl)
theorem dX3_lengthAlone_16 : decode cX3_lengthAlone 16 = .ok (.invokevirtual 111, 3) := dk_182 0 111 (dk_at dksX3_lengthAlone_0 16 rfl rfl)
theorem dX3_lengthAlone_19 : decode cX3_lengthAlone 19 = .ok (.invokevirtual 114, 3) := dk_182 0 114 (dk_at dksX3_lengthAlone_0 19 rfl rfl)
theorem dX3_lengthAlone_22 : decode cX3_lengthAlone 22 = .ok (.goto 8, 3) := dk_167 0 8 (dk_at dksX3_lengthAlone_1 0 rfl rfl)
theorem dX3_lengthAlone_25 : decode cX3_lengthAlone 25 = .ok (.aload_n 0, 1) := dk_42 (dk_at dksX3_lengthAlone_1 3 rfl rfl)
theorem dX3_lengthAlone_26 : decode cX3_lengthAlone 26 = .ok (.iconst 1, 1) := dk_4 (dk_at dksX3_lengthAlone_1 4 rfl rfl)
theorem dX3_lengthAlone_27 : decode cX3_lengthAlone 27 = .ok (.invokevirtual 94, 3) := dk_182 0 94 (dk_at dksX3_lengthAlone_1 5 rfl rfl)
theorem dX3_lengthAlone_30 : decode cX3_lengthAlone 30 = .ok (.ireturn, 1) := dk_172 (dk_at dksX3_lengthAlone_1 8 rfl rfl)
abbrev cX3_length : ByteArray := prog_7_method_12_code
def yX3_length : MethodName := ⟨RX3, "length", "(I)I"⟩
def dkwX3_length_1 : List UInt8 := [172]
abbrev dktX3_length_1 : List UInt8 := dkwX3_length_1 ++ []
def dkwX3_length_0 : List UInt8 := [42, 27, 182, 0, 86, 42, 180, 0, 38, 16, 10, 4, 42, 180, 0, 76, 120, 4, 100, 104, 16, 9, 96, 46]
abbrev dktX3_length_0 : List UInt8 := dkwX3_length_0 ++ dktX3_length_1
theorem dksX3_length_0 : cX3_length.data.toList.drop 0 = dktX3_length_0 := by decide +kernel
theorem dksX3_length_1 : cX3_length.data.toList.drop 24 = dktX3_length_1 := dk_seg dksX3_length_0 24 rfl rfl
theorem dX3_length_0 : decode cX3_length 0 = .ok (.aload_n 0, 1) := dk_42 (dk_at dksX3_length_0 0 rfl rfl)
theorem dX3_length_1 : decode cX3_length 1 = .ok (.iload_n 1, 1) := dk_27 (dk_at dksX3_length_0 1 rfl rfl)
theorem dX3_length_2 : decode cX3_length 2 = .ok (.invokevirtual 86, 3) := dk_182 0 86 (dk_at dksX3_length_0 2 rfl rfl)
theorem dX3_length_5 : decode cX3_length 5 = .ok (.aload_n 0, 1) := dk_42 (dk_at dksX3_length_0 5 rfl rfl)
theorem dX3_length_6 : decode cX3_length 6 = .ok (.getfield 38, 3) := dk_180 0 38 (dk_at dksX3_length_0 6 rfl rfl)
theorem dX3_length_9 : decode cX3_length 9 = .ok (.bipush 10, 2) := dk_16 10 (dk_at dksX3_length_0 9 rfl rfl)
theorem dX3_length_11 : decode cX3_length 11 = .ok (.iconst 1, 1) := dk_4 (dk_at dksX3_length_0 11 rfl rfl)
theorem dX3_length_12 : decode cX3_length 12 = .ok (.aload_n 0, 1) := dk_42 (dk_at dksX3_length_0 12 rfl rfl)
theorem dX3_length_13 : decode cX3_length 13 = .ok (.getfield 76, 3) := dk_180 0 76 (dk_at dksX3_length_0 13 rfl rfl)
theorem dX3_length_16 : decode cX3_length 16 = .ok (.ishl, 1) := dk_120 (dk_at dksX3_length_0 16 rfl rfl)
theorem dX3_length_17 : decode cX3_length 17 = .ok (.iconst 1, 1) := dk_4 (dk_at dksX3_length_0 17 rfl rfl)
theorem dX3_length_18 : decode cX3_length 18 = .ok (.isub, 1) := dk_100 (dk_at dksX3_length_0 18 rfl rfl)
theorem dX3_length_19 : decode cX3_length 19 = .ok (.imul, 1) := dk_104 (dk_at dksX3_length_0 19 rfl rfl)
theorem dX3_length_20 : decode cX3_length 20 = .ok (.bipush 9, 2) := dk_16 9 (dk_at dksX3_length_0 20 rfl rfl)
theorem dX3_length_22 : decode cX3_length 22 = .ok (.iadd, 1) := dk_96 (dk_at dksX3_length_0 22 rfl rfl)
theorem dX3_length_23 : decode cX3_length 23 = .ok (.iaload, 1) := dk_46 (dk_at dksX3_length_0 23 rfl rfl)
theorem dX3_length_24 : decode cX3_length 24 = .ok (.ireturn, 1) := dk_172 (dk_at dksX3_length_1 0 rfl rfl)
abbrev cX3_layRoute : ByteArray := prog_7_method_10_code
def yX3_layRoute : MethodName := ⟨RX3, "layRoute", "(I)V"⟩
def dkwX3_layRoute_8 : List UInt8 := [167, 255, 173, 177]
abbrev dktX3_layRoute_8 : List UInt8 := dkwX3_layRoute_8 ++ []
def dkwX3_layRoute_7 : List UInt8 := [153, 0, 12, 42, 28, 29, 182, 0, 79, 167, 0, 5, 18, 82, 79, 132, 3, 1, 167, 255, 191, 132, 2, 1]
abbrev dktX3_layRoute_7 : List UInt8 := dkwX3_layRoute_7 ++ dktX3_layRoute_8
def dkwX3_layRoute_6 : List UInt8 := [154, 0, 7, 4, 167, 0, 4, 3, 54, 4, 42, 180, 0, 38, 16, 10, 28, 104, 29, 96, 21, 4]
abbrev dktX3_layRoute_6 : List UInt8 := dkwX3_layRoute_6 ++ dktX3_layRoute_7
def dkwX3_layRoute_5 : List UInt8 := [162, 0, 65, 29, 16, 9, 159, 0, 19, 29, 42, 180, 0, 76, 162, 0, 15, 28, 29, 122, 4, 126]
abbrev dktX3_layRoute_5 : List UInt8 := dkwX3_layRoute_5 ++ dktX3_layRoute_6
def dkwX3_layRoute_4 : List UInt8 := [132, 2, 1, 167, 255, 170, 3, 61, 28, 4, 42, 180, 0, 76, 120, 162, 0, 79, 3, 62, 29, 16, 10]
abbrev dktX3_layRoute_4 : List UInt8 := dkwX3_layRoute_4 ++ dktX3_layRoute_5
def dkwX3_layRoute_3 : List UInt8 := [132, 3, 255, 167, 255, 213, 42, 180, 0, 35, 29, 28, 79, 42, 89, 180, 0, 76, 4, 96, 181, 0, 76]
abbrev dktX3_layRoute_3 : List UInt8 := dkwX3_layRoute_3 ++ dktX3_layRoute_4
def dkwX3_layRoute_2 : List UInt8 := [180, 0, 13, 28, 46, 164, 0, 23, 42, 180, 0, 35, 29, 42, 180, 0, 35, 29, 4, 100, 46, 79]
abbrev dktX3_layRoute_2 : List UInt8 := dkwX3_layRoute_2 ++ dktX3_layRoute_3
def dkwX3_layRoute_1 : List UInt8 := [180, 0, 76, 62, 29, 158, 0, 45, 42, 180, 0, 13, 42, 180, 0, 35, 29, 4, 100, 46, 46, 42]
abbrev dktX3_layRoute_1 : List UInt8 := dkwX3_layRoute_1 ++ dktX3_layRoute_2
def dkwX3_layRoute_0 : List UInt8 := [42, 3, 181, 0, 76, 3, 61, 28, 16, 20, 162, 0, 86, 27, 28, 122, 4, 126, 4, 160, 0, 71, 42]
abbrev dktX3_layRoute_0 : List UInt8 := dkwX3_layRoute_0 ++ dktX3_layRoute_1
theorem dksX3_layRoute_0 : cX3_layRoute.data.toList.drop 0 = dktX3_layRoute_0 := by decide +kernel
theorem dksX3_layRoute_1 : cX3_layRoute.data.toList.drop 23 = dktX3_layRoute_1 := dk_seg dksX3_layRoute_0 23 rfl rfl
theorem dksX3_layRoute_2 : cX3_layRoute.data.toList.drop 45 = dktX3_layRoute_2 := dk_seg dksX3_layRoute_1 22 rfl rfl
theorem dksX3_layRoute_3 : cX3_layRoute.data.toList.drop 67 = dktX3_layRoute_3 := dk_seg dksX3_layRoute_2 22 rfl rfl
theorem dksX3_layRoute_4 : cX3_layRoute.data.toList.drop 90 = dktX3_layRoute_4 := dk_seg dksX3_layRoute_3 23 rfl rfl
theorem dksX3_layRoute_5 : cX3_layRoute.data.toList.drop 113 = dktX3_layRoute_5 := dk_seg dksX3_layRoute_4 23 rfl rfl
theorem dksX3_layRoute_6 : cX3_layRoute.data.toList.drop 135 = dktX3_layRoute_6 := dk_seg dksX3_layRoute_5 22 rfl rfl
theorem dksX3_layRoute_7 : cX3_layRoute.data.toList.drop 157 = dktX3_layRoute_7 := dk_seg dksX3_layRoute_6 22 rfl rfl
theorem dksX3_layRoute_8 : cX3_layRoute.data.toList.drop 181 = dktX3_layRoute_8 := dk_seg dksX3_layRoute_7 24 rfl rfl
theorem dX3_layRoute_0 : decode cX3_layRoute 0 = .ok (.aload_n 0, 1) := dk_42 (dk_at dksX3_layRoute_0 0 rfl rfl)
theorem dX3_layRoute_1 : decode cX3_layRoute 1 = .ok (.iconst 0, 1) := dk_3 (dk_at dksX3_layRoute_0 1 rfl rfl)
theorem dX3_layRoute_2 : decode cX3_layRoute 2 = .ok (.putfield 76, 3) := dk_181 0 76 (dk_at dksX3_layRoute_0 2 rfl rfl)
theorem dX3_layRoute_5 : decode cX3_layRoute 5 = .ok (.iconst 0, 1) := dk_3 (dk_at dksX3_layRoute_0 5 rfl rfl)
theorem dX3_layRoute_6 : decode cX3_layRoute 6 = .ok (.istore_n 2, 1) := dk_61 (dk_at dksX3_layRoute_0 6 rfl rfl)
theorem dX3_layRoute_7 : decode cX3_layRoute 7 = .ok (.iload_n 2, 1) := dk_28 (dk_at dksX3_layRoute_0 7 rfl rfl)
theorem dX3_layRoute_8 : decode cX3_layRoute 8 = .ok (.bipush 20, 2) := dk_16 20 (dk_at dksX3_layRoute_0 8 rfl rfl)
theorem dX3_layRoute_10 : decode cX3_layRoute 10 = .ok (.if_icmp .ge 86, 3) := dk_162 0 86 (dk_at dksX3_layRoute_0 10 rfl rfl)
theorem dX3_layRoute_13 : decode cX3_layRoute 13 = .ok (.iload_n 1, 1) := dk_27 (dk_at dksX3_layRoute_0 13 rfl rfl)
theorem dX3_layRoute_14 : decode cX3_layRoute 14 = .ok (.iload_n 2, 1) := dk_28 (dk_at dksX3_layRoute_0 14 rfl rfl)
theorem dX3_layRoute_15 : decode cX3_layRoute 15 = .ok (.ishr, 1) := dk_122 (dk_at dksX3_layRoute_0 15 rfl rfl)
theorem dX3_layRoute_16 : decode cX3_layRoute 16 = .ok (.iconst 1, 1) := dk_4 (dk_at dksX3_layRoute_0 16 rfl rfl)
theorem dX3_layRoute_17 : decode cX3_layRoute 17 = .ok (.iand, 1) := dk_126 (dk_at dksX3_layRoute_0 17 rfl rfl)
theorem dX3_layRoute_18 : decode cX3_layRoute 18 = .ok (.iconst 1, 1) := dk_4 (dk_at dksX3_layRoute_0 18 rfl rfl)
theorem dX3_layRoute_19 : decode cX3_layRoute 19 = .ok (.if_icmp .ne 71, 3) := dk_160 0 71 (dk_at dksX3_layRoute_0 19 rfl rfl)
theorem dX3_layRoute_22 : decode cX3_layRoute 22 = .ok (.aload_n 0, 1) := dk_42 (dk_at dksX3_layRoute_0 22 rfl rfl)
theorem dX3_layRoute_23 : decode cX3_layRoute 23 = .ok (.getfield 76, 3) := dk_180 0 76 (dk_at dksX3_layRoute_1 0 rfl rfl)
theorem dX3_layRoute_26 : decode cX3_layRoute 26 = .ok (.istore_n 3, 1) := dk_62 (dk_at dksX3_layRoute_1 3 rfl rfl)
theorem dX3_layRoute_27 : decode cX3_layRoute 27 = .ok (.iload_n 3, 1) := dk_29 (dk_at dksX3_layRoute_1 4 rfl rfl)
theorem dX3_layRoute_28 : decode cX3_layRoute 28 = .ok (.ifCond .le 45, 3) := dk_158 0 45 (dk_at dksX3_layRoute_1 5 rfl rfl)
theorem dX3_layRoute_31 : decode cX3_layRoute 31 = .ok (.aload_n 0, 1) := dk_42 (dk_at dksX3_layRoute_1 8 rfl rfl)
theorem dX3_layRoute_32 : decode cX3_layRoute 32 = .ok (.getfield 13, 3) := dk_180 0 13 (dk_at dksX3_layRoute_1 9 rfl rfl)
theorem dX3_layRoute_35 : decode cX3_layRoute 35 = .ok (.aload_n 0, 1) := dk_42 (dk_at dksX3_layRoute_1 12 rfl rfl)
theorem dX3_layRoute_36 : decode cX3_layRoute 36 = .ok (.getfield 35, 3) := dk_180 0 35 (dk_at dksX3_layRoute_1 13 rfl rfl)
theorem dX3_layRoute_39 : decode cX3_layRoute 39 = .ok (.iload_n 3, 1) := dk_29 (dk_at dksX3_layRoute_1 16 rfl rfl)
theorem dX3_layRoute_40 : decode cX3_layRoute 40 = .ok (.iconst 1, 1) := dk_4 (dk_at dksX3_layRoute_1 17 rfl rfl)
theorem dX3_layRoute_41 : decode cX3_layRoute 41 = .ok (.isub, 1) := dk_100 (dk_at dksX3_layRoute_1 18 rfl rfl)
theorem dX3_layRoute_42 : decode cX3_layRoute 42 = .ok (.iaload, 1) := dk_46 (dk_at dksX3_layRoute_1 19 rfl rfl)
theorem dX3_layRoute_43 : decode cX3_layRoute 43 = .ok (.iaload, 1) := dk_46 (dk_at dksX3_layRoute_1 20 rfl rfl)
theorem dX3_layRoute_44 : decode cX3_layRoute 44 = .ok (.aload_n 0, 1) := dk_42 (dk_at dksX3_layRoute_1 21 rfl rfl)
theorem dX3_layRoute_45 : decode cX3_layRoute 45 = .ok (.getfield 13, 3) := dk_180 0 13 (dk_at dksX3_layRoute_2 0 rfl rfl)
theorem dX3_layRoute_48 : decode cX3_layRoute 48 = .ok (.iload_n 2, 1) := dk_28 (dk_at dksX3_layRoute_2 3 rfl rfl)
theorem dX3_layRoute_49 : decode cX3_layRoute 49 = .ok (.iaload, 1) := dk_46 (dk_at dksX3_layRoute_2 4 rfl rfl)
theorem dX3_layRoute_50 : decode cX3_layRoute 50 = .ok (.if_icmp .le 23, 3) := dk_164 0 23 (dk_at dksX3_layRoute_2 5 rfl rfl)
theorem dX3_layRoute_53 : decode cX3_layRoute 53 = .ok (.aload_n 0, 1) := dk_42 (dk_at dksX3_layRoute_2 8 rfl rfl)
theorem dX3_layRoute_54 : decode cX3_layRoute 54 = .ok (.getfield 35, 3) := dk_180 0 35 (dk_at dksX3_layRoute_2 9 rfl rfl)
theorem dX3_layRoute_57 : decode cX3_layRoute 57 = .ok (.iload_n 3, 1) := dk_29 (dk_at dksX3_layRoute_2 12 rfl rfl)
theorem dX3_layRoute_58 : decode cX3_layRoute 58 = .ok (.aload_n 0, 1) := dk_42 (dk_at dksX3_layRoute_2 13 rfl rfl)
theorem dX3_layRoute_59 : decode cX3_layRoute 59 = .ok (.getfield 35, 3) := dk_180 0 35 (dk_at dksX3_layRoute_2 14 rfl rfl)
theorem dX3_layRoute_62 : decode cX3_layRoute 62 = .ok (.iload_n 3, 1) := dk_29 (dk_at dksX3_layRoute_2 17 rfl rfl)
theorem dX3_layRoute_63 : decode cX3_layRoute 63 = .ok (.iconst 1, 1) := dk_4 (dk_at dksX3_layRoute_2 18 rfl rfl)
theorem dX3_layRoute_64 : decode cX3_layRoute 64 = .ok (.isub, 1) := dk_100 (dk_at dksX3_layRoute_2 19 rfl rfl)
theorem dX3_layRoute_65 : decode cX3_layRoute 65 = .ok (.iaload, 1) := dk_46 (dk_at dksX3_layRoute_2 20 rfl rfl)
theorem dX3_layRoute_66 : decode cX3_layRoute 66 = .ok (.iastore, 1) := dk_79 (dk_at dksX3_layRoute_2 21 rfl rfl)
theorem dX3_layRoute_67 : decode cX3_layRoute 67 = .ok (.iinc 3 (-1), 3) := dk_132 3 255 (dk_at dksX3_layRoute_3 0 rfl rfl)
theorem dX3_layRoute_70 : decode cX3_layRoute 70 = .ok (.goto (-43), 3) := dk_167 255 213 (dk_at dksX3_layRoute_3 3 rfl rfl)
theorem dX3_layRoute_73 : decode cX3_layRoute 73 = .ok (.aload_n 0, 1) := dk_42 (dk_at dksX3_layRoute_3 6 rfl rfl)
theorem dX3_layRoute_74 : decode cX3_layRoute 74 = .ok (.getfield 35, 3) := dk_180 0 35 (dk_at dksX3_layRoute_3 7 rfl rfl)
theorem dX3_layRoute_77 : decode cX3_layRoute 77 = .ok (.iload_n 3, 1) := dk_29 (dk_at dksX3_layRoute_3 10 rfl rfl)
theorem dX3_layRoute_78 : decode cX3_layRoute 78 = .ok (.iload_n 2, 1) := dk_28 (dk_at dksX3_layRoute_3 11 rfl rfl)
theorem dX3_layRoute_79 : decode cX3_layRoute 79 = .ok (.iastore, 1) := dk_79 (dk_at dksX3_layRoute_3 12 rfl rfl)
theorem dX3_layRoute_80 : decode cX3_layRoute 80 = .ok (.aload_n 0, 1) := dk_42 (dk_at dksX3_layRoute_3 13 rfl rfl)
theorem dX3_layRoute_81 : decode cX3_layRoute 81 = .ok (.dup, 1) := dk_89 (dk_at dksX3_layRoute_3 14 rfl rfl)
theorem dX3_layRoute_82 : decode cX3_layRoute 82 = .ok (.getfield 76, 3) := dk_180 0 76 (dk_at dksX3_layRoute_3 15 rfl rfl)
theorem dX3_layRoute_85 : decode cX3_layRoute 85 = .ok (.iconst 1, 1) := dk_4 (dk_at dksX3_layRoute_3 18 rfl rfl)
theorem dX3_layRoute_86 : decode cX3_layRoute 86 = .ok (.iadd, 1) := dk_96 (dk_at dksX3_layRoute_3 19 rfl rfl)
theorem dX3_layRoute_87 : decode cX3_layRoute 87 = .ok (.putfield 76, 3) := dk_181 0 76 (dk_at dksX3_layRoute_3 20 rfl rfl)
theorem dX3_layRoute_90 : decode cX3_layRoute 90 = .ok (.iinc 2 1, 3) := dk_132 2 1 (dk_at dksX3_layRoute_4 0 rfl rfl)
theorem dX3_layRoute_93 : decode cX3_layRoute 93 = .ok (.goto (-86), 3) := dk_167 255 170 (dk_at dksX3_layRoute_4 3 rfl rfl)
theorem dX3_layRoute_96 : decode cX3_layRoute 96 = .ok (.iconst 0, 1) := dk_3 (dk_at dksX3_layRoute_4 6 rfl rfl)
theorem dX3_layRoute_97 : decode cX3_layRoute 97 = .ok (.istore_n 2, 1) := dk_61 (dk_at dksX3_layRoute_4 7 rfl rfl)
theorem dX3_layRoute_98 : decode cX3_layRoute 98 = .ok (.iload_n 2, 1) := dk_28 (dk_at dksX3_layRoute_4 8 rfl rfl)
theorem dX3_layRoute_99 : decode cX3_layRoute 99 = .ok (.iconst 1, 1) := dk_4 (dk_at dksX3_layRoute_4 9 rfl rfl)
theorem dX3_layRoute_100 : decode cX3_layRoute 100 = .ok (.aload_n 0, 1) := dk_42 (dk_at dksX3_layRoute_4 10 rfl rfl)
theorem dX3_layRoute_101 : decode cX3_layRoute 101 = .ok (.getfield 76, 3) := dk_180 0 76 (dk_at dksX3_layRoute_4 11 rfl rfl)
theorem dX3_layRoute_104 : decode cX3_layRoute 104 = .ok (.ishl, 1) := dk_120 (dk_at dksX3_layRoute_4 14 rfl rfl)
theorem dX3_layRoute_105 : decode cX3_layRoute 105 = .ok (.if_icmp .ge 79, 3) := dk_162 0 79 (dk_at dksX3_layRoute_4 15 rfl rfl)
theorem dX3_layRoute_108 : decode cX3_layRoute 108 = .ok (.iconst 0, 1) := dk_3 (dk_at dksX3_layRoute_4 18 rfl rfl)
theorem dX3_layRoute_109 : decode cX3_layRoute 109 = .ok (.istore_n 3, 1) := dk_62 (dk_at dksX3_layRoute_4 19 rfl rfl)
theorem dX3_layRoute_110 : decode cX3_layRoute 110 = .ok (.iload_n 3, 1) := dk_29 (dk_at dksX3_layRoute_4 20 rfl rfl)
theorem dX3_layRoute_111 : decode cX3_layRoute 111 = .ok (.bipush 10, 2) := dk_16 10 (dk_at dksX3_layRoute_4 21 rfl rfl)
theorem dX3_layRoute_113 : decode cX3_layRoute 113 = .ok (.if_icmp .ge 65, 3) := dk_162 0 65 (dk_at dksX3_layRoute_5 0 rfl rfl)
theorem dX3_layRoute_116 : decode cX3_layRoute 116 = .ok (.iload_n 3, 1) := dk_29 (dk_at dksX3_layRoute_5 3 rfl rfl)
theorem dX3_layRoute_117 : decode cX3_layRoute 117 = .ok (.bipush 9, 2) := dk_16 9 (dk_at dksX3_layRoute_5 4 rfl rfl)
theorem dX3_layRoute_119 : decode cX3_layRoute 119 = .ok (.if_icmp .eq 19, 3) := dk_159 0 19 (dk_at dksX3_layRoute_5 6 rfl rfl)
theorem dX3_layRoute_122 : decode cX3_layRoute 122 = .ok (.iload_n 3, 1) := dk_29 (dk_at dksX3_layRoute_5 9 rfl rfl)
theorem dX3_layRoute_123 : decode cX3_layRoute 123 = .ok (.aload_n 0, 1) := dk_42 (dk_at dksX3_layRoute_5 10 rfl rfl)
theorem dX3_layRoute_124 : decode cX3_layRoute 124 = .ok (.getfield 76, 3) := dk_180 0 76 (dk_at dksX3_layRoute_5 11 rfl rfl)
theorem dX3_layRoute_127 : decode cX3_layRoute 127 = .ok (.if_icmp .ge 15, 3) := dk_162 0 15 (dk_at dksX3_layRoute_5 14 rfl rfl)
theorem dX3_layRoute_130 : decode cX3_layRoute 130 = .ok (.iload_n 2, 1) := dk_28 (dk_at dksX3_layRoute_5 17 rfl rfl)
theorem dX3_layRoute_131 : decode cX3_layRoute 131 = .ok (.iload_n 3, 1) := dk_29 (dk_at dksX3_layRoute_5 18 rfl rfl)
theorem dX3_layRoute_132 : decode cX3_layRoute 132 = .ok (.ishr, 1) := dk_122 (dk_at dksX3_layRoute_5 19 rfl rfl)
theorem dX3_layRoute_133 : decode cX3_layRoute 133 = .ok (.iconst 1, 1) := dk_4 (dk_at dksX3_layRoute_5 20 rfl rfl)
theorem dX3_layRoute_134 : decode cX3_layRoute 134 = .ok (.iand, 1) := dk_126 (dk_at dksX3_layRoute_5 21 rfl rfl)
theorem dX3_layRoute_135 : decode cX3_layRoute 135 = .ok (.ifCond .ne 7, 3) := dk_154 0 7 (dk_at dksX3_layRoute_6 0 rfl rfl)
theorem dX3_layRoute_138 : decode cX3_layRoute 138 = .ok (.iconst 1, 1) := dk_4 (dk_at dksX3_layRoute_6 3 rfl rfl)
theorem dX3_layRoute_139 : decode cX3_layRoute 139 = .ok (.goto 4, 3) := dk_167 0 4 (dk_at dksX3_layRoute_6 4 rfl rfl)
theorem dX3_layRoute_142 : decode cX3_layRoute 142 = .ok (.iconst 0, 1) := dk_3 (dk_at dksX3_layRoute_6 7 rfl rfl)
theorem dX3_layRoute_143 : decode cX3_layRoute 143 = .ok (.istore 4, 2) := dk_54 4 (dk_at dksX3_layRoute_6 8 rfl rfl)
theorem dX3_layRoute_145 : decode cX3_layRoute 145 = .ok (.aload_n 0, 1) := dk_42 (dk_at dksX3_layRoute_6 10 rfl rfl)
theorem dX3_layRoute_146 : decode cX3_layRoute 146 = .ok (.getfield 38, 3) := dk_180 0 38 (dk_at dksX3_layRoute_6 11 rfl rfl)
theorem dX3_layRoute_149 : decode cX3_layRoute 149 = .ok (.bipush 10, 2) := dk_16 10 (dk_at dksX3_layRoute_6 14 rfl rfl)
theorem dX3_layRoute_151 : decode cX3_layRoute 151 = .ok (.iload_n 2, 1) := dk_28 (dk_at dksX3_layRoute_6 16 rfl rfl)
theorem dX3_layRoute_152 : decode cX3_layRoute 152 = .ok (.imul, 1) := dk_104 (dk_at dksX3_layRoute_6 17 rfl rfl)
theorem dX3_layRoute_153 : decode cX3_layRoute 153 = .ok (.iload_n 3, 1) := dk_29 (dk_at dksX3_layRoute_6 18 rfl rfl)
theorem dX3_layRoute_154 : decode cX3_layRoute 154 = .ok (.iadd, 1) := dk_96 (dk_at dksX3_layRoute_6 19 rfl rfl)
theorem dX3_layRoute_155 : decode cX3_layRoute 155 = .ok (.iload 4, 2) := dk_21 4 (dk_at dksX3_layRoute_6 20 rfl rfl)
theorem dX3_layRoute_157 : decode cX3_layRoute 157 = .ok (.ifCond .eq 12, 3) := dk_153 0 12 (dk_at dksX3_layRoute_7 0 rfl rfl)
theorem dX3_layRoute_160 : decode cX3_layRoute 160 = .ok (.aload_n 0, 1) := dk_42 (dk_at dksX3_layRoute_7 3 rfl rfl)
theorem dX3_layRoute_161 : decode cX3_layRoute 161 = .ok (.iload_n 2, 1) := dk_28 (dk_at dksX3_layRoute_7 4 rfl rfl)
theorem dX3_layRoute_162 : decode cX3_layRoute 162 = .ok (.iload_n 3, 1) := dk_29 (dk_at dksX3_layRoute_7 5 rfl rfl)
theorem dX3_layRoute_163 : decode cX3_layRoute 163 = .ok (.invokevirtual 79, 3) := dk_182 0 79 (dk_at dksX3_layRoute_7 6 rfl rfl)
theorem dX3_layRoute_166 : decode cX3_layRoute 166 = .ok (.goto 5, 3) := dk_167 0 5 (dk_at dksX3_layRoute_7 9 rfl rfl)
theorem dX3_layRoute_169 : decode cX3_layRoute 169 = .ok (.ldc 82, 2) := dk_18 82 (dk_at dksX3_layRoute_7 12 rfl rfl)
theorem dX3_layRoute_171 : decode cX3_layRoute 171 = .ok (.iastore, 1) := dk_79 (dk_at dksX3_layRoute_7 14 rfl rfl)
theorem dX3_layRoute_172 : decode cX3_layRoute 172 = .ok (.iinc 3 1, 3) := dk_132 3 1 (dk_at dksX3_layRoute_7 15 rfl rfl)
theorem dX3_layRoute_175 : decode cX3_layRoute 175 = .ok (.goto (-65), 3) := dk_167 255 191 (dk_at dksX3_layRoute_7 18 rfl rfl)
theorem dX3_layRoute_178 : decode cX3_layRoute 178 = .ok (.iinc 2 1, 3) := dk_132 2 1 (dk_at dksX3_layRoute_7 21 rfl rfl)
theorem dX3_layRoute_181 : decode cX3_layRoute 181 = .ok (.goto (-83), 3) := dk_167 255 173 (dk_at dksX3_layRoute_8 0 rfl rfl)
theorem dX3_layRoute_184 : decode cX3_layRoute 184 = .ok (.return_, 1) := dk_177 (dk_at dksX3_layRoute_8 3 rfl rfl)
abbrev cX3_wayOn : ByteArray := prog_7_method_11_code
def yX3_wayOn : MethodName := ⟨RX3, "wayOn", "(II)I"⟩
def dkwX3_wayOn_3 : List UInt8 := [162, 0, 8, 21, 5, 167, 0, 4, 29, 62, 132, 4, 1, 167, 255, 194, 29, 172]
abbrev dktX3_wayOn_3 : List UInt8 := dkwX3_wayOn_3 ++ []
def dkwX3_wayOn_2 : List UInt8 := [180, 0, 38, 16, 10, 27, 4, 21, 4, 120, 100, 104, 21, 4, 96, 46, 96, 54, 5, 21, 5, 29]
abbrev dktX3_wayOn_2 : List UInt8 := dkwX3_wayOn_2 ++ dktX3_wayOn_3
def dkwX3_wayOn_1 : List UInt8 := [180, 0, 76, 162, 0, 59, 27, 21, 4, 122, 4, 126, 4, 160, 0, 43, 42, 28, 21, 4, 182, 0, 83, 42]
abbrev dktX3_wayOn_1 : List UInt8 := dkwX3_wayOn_1 ++ dktX3_wayOn_2
def dkwX3_wayOn_0 : List UInt8 := [27, 154, 0, 13, 42, 28, 16, 9, 182, 0, 83, 167, 0, 5, 18, 82, 62, 3, 54, 4, 21, 4, 42]
abbrev dktX3_wayOn_0 : List UInt8 := dkwX3_wayOn_0 ++ dktX3_wayOn_1
theorem dksX3_wayOn_0 : cX3_wayOn.data.toList.drop 0 = dktX3_wayOn_0 := by decide +kernel
theorem dksX3_wayOn_1 : cX3_wayOn.data.toList.drop 23 = dktX3_wayOn_1 := dk_seg dksX3_wayOn_0 23 rfl rfl
theorem dksX3_wayOn_2 : cX3_wayOn.data.toList.drop 47 = dktX3_wayOn_2 := dk_seg dksX3_wayOn_1 24 rfl rfl
theorem dksX3_wayOn_3 : cX3_wayOn.data.toList.drop 69 = dktX3_wayOn_3 := dk_seg dksX3_wayOn_2 22 rfl rfl
theorem dX3_wayOn_0 : decode cX3_wayOn 0 = .ok (.iload_n 1, 1) := dk_27 (dk_at dksX3_wayOn_0 0 rfl rfl)
theorem dX3_wayOn_1 : decode cX3_wayOn 1 = .ok (.ifCond .ne 13, 3) := dk_154 0 13 (dk_at dksX3_wayOn_0 1 rfl rfl)
theorem dX3_wayOn_4 : decode cX3_wayOn 4 = .ok (.aload_n 0, 1) := dk_42 (dk_at dksX3_wayOn_0 4 rfl rfl)
theorem dX3_wayOn_5 : decode cX3_wayOn 5 = .ok (.iload_n 2, 1) := dk_28 (dk_at dksX3_wayOn_0 5 rfl rfl)
theorem dX3_wayOn_6 : decode cX3_wayOn 6 = .ok (.bipush 9, 2) := dk_16 9 (dk_at dksX3_wayOn_0 6 rfl rfl)
theorem dX3_wayOn_8 : decode cX3_wayOn 8 = .ok (.invokevirtual 83, 3) := dk_182 0 83 (dk_at dksX3_wayOn_0 8 rfl rfl)
theorem dX3_wayOn_11 : decode cX3_wayOn 11 = .ok (.goto 5, 3) := dk_167 0 5 (dk_at dksX3_wayOn_0 11 rfl rfl)
theorem dX3_wayOn_14 : decode cX3_wayOn 14 = .ok (.ldc 82, 2) := dk_18 82 (dk_at dksX3_wayOn_0 14 rfl rfl)
theorem dX3_wayOn_16 : decode cX3_wayOn 16 = .ok (.istore_n 3, 1) := dk_62 (dk_at dksX3_wayOn_0 16 rfl rfl)
theorem dX3_wayOn_17 : decode cX3_wayOn 17 = .ok (.iconst 0, 1) := dk_3 (dk_at dksX3_wayOn_0 17 rfl rfl)
theorem dX3_wayOn_18 : decode cX3_wayOn 18 = .ok (.istore 4, 2) := dk_54 4 (dk_at dksX3_wayOn_0 18 rfl rfl)
theorem dX3_wayOn_20 : decode cX3_wayOn 20 = .ok (.iload 4, 2) := dk_21 4 (dk_at dksX3_wayOn_0 20 rfl rfl)
theorem dX3_wayOn_22 : decode cX3_wayOn 22 = .ok (.aload_n 0, 1) := dk_42 (dk_at dksX3_wayOn_0 22 rfl rfl)
theorem dX3_wayOn_23 : decode cX3_wayOn 23 = .ok (.getfield 76, 3) := dk_180 0 76 (dk_at dksX3_wayOn_1 0 rfl rfl)
theorem dX3_wayOn_26 : decode cX3_wayOn 26 = .ok (.if_icmp .ge 59, 3) := dk_162 0 59 (dk_at dksX3_wayOn_1 3 rfl rfl)
theorem dX3_wayOn_29 : decode cX3_wayOn 29 = .ok (.iload_n 1, 1) := dk_27 (dk_at dksX3_wayOn_1 6 rfl rfl)
theorem dX3_wayOn_30 : decode cX3_wayOn 30 = .ok (.iload 4, 2) := dk_21 4 (dk_at dksX3_wayOn_1 7 rfl rfl)
theorem dX3_wayOn_32 : decode cX3_wayOn 32 = .ok (.ishr, 1) := dk_122 (dk_at dksX3_wayOn_1 9 rfl rfl)
theorem dX3_wayOn_33 : decode cX3_wayOn 33 = .ok (.iconst 1, 1) := dk_4 (dk_at dksX3_wayOn_1 10 rfl rfl)
theorem dX3_wayOn_34 : decode cX3_wayOn 34 = .ok (.iand, 1) := dk_126 (dk_at dksX3_wayOn_1 11 rfl rfl)
theorem dX3_wayOn_35 : decode cX3_wayOn 35 = .ok (.iconst 1, 1) := dk_4 (dk_at dksX3_wayOn_1 12 rfl rfl)
theorem dX3_wayOn_36 : decode cX3_wayOn 36 = .ok (.if_icmp .ne 43, 3) := dk_160 0 43 (dk_at dksX3_wayOn_1 13 rfl rfl)
theorem dX3_wayOn_39 : decode cX3_wayOn 39 = .ok (.aload_n 0, 1) := dk_42 (dk_at dksX3_wayOn_1 16 rfl rfl)
theorem dX3_wayOn_40 : decode cX3_wayOn 40 = .ok (.iload_n 2, 1) := dk_28 (dk_at dksX3_wayOn_1 17 rfl rfl)
theorem dX3_wayOn_41 : decode cX3_wayOn 41 = .ok (.iload 4, 2) := dk_21 4 (dk_at dksX3_wayOn_1 18 rfl rfl)
theorem dX3_wayOn_43 : decode cX3_wayOn 43 = .ok (.invokevirtual 83, 3) := dk_182 0 83 (dk_at dksX3_wayOn_1 20 rfl rfl)
theorem dX3_wayOn_46 : decode cX3_wayOn 46 = .ok (.aload_n 0, 1) := dk_42 (dk_at dksX3_wayOn_1 23 rfl rfl)
theorem dX3_wayOn_47 : decode cX3_wayOn 47 = .ok (.getfield 38, 3) := dk_180 0 38 (dk_at dksX3_wayOn_2 0 rfl rfl)
theorem dX3_wayOn_50 : decode cX3_wayOn 50 = .ok (.bipush 10, 2) := dk_16 10 (dk_at dksX3_wayOn_2 3 rfl rfl)
theorem dX3_wayOn_52 : decode cX3_wayOn 52 = .ok (.iload_n 1, 1) := dk_27 (dk_at dksX3_wayOn_2 5 rfl rfl)
theorem dX3_wayOn_53 : decode cX3_wayOn 53 = .ok (.iconst 1, 1) := dk_4 (dk_at dksX3_wayOn_2 6 rfl rfl)
theorem dX3_wayOn_54 : decode cX3_wayOn 54 = .ok (.iload 4, 2) := dk_21 4 (dk_at dksX3_wayOn_2 7 rfl rfl)
theorem dX3_wayOn_56 : decode cX3_wayOn 56 = .ok (.ishl, 1) := dk_120 (dk_at dksX3_wayOn_2 9 rfl rfl)
theorem dX3_wayOn_57 : decode cX3_wayOn 57 = .ok (.isub, 1) := dk_100 (dk_at dksX3_wayOn_2 10 rfl rfl)
theorem dX3_wayOn_58 : decode cX3_wayOn 58 = .ok (.imul, 1) := dk_104 (dk_at dksX3_wayOn_2 11 rfl rfl)
theorem dX3_wayOn_59 : decode cX3_wayOn 59 = .ok (.iload 4, 2) := dk_21 4 (dk_at dksX3_wayOn_2 12 rfl rfl)
theorem dX3_wayOn_61 : decode cX3_wayOn 61 = .ok (.iadd, 1) := dk_96 (dk_at dksX3_wayOn_2 14 rfl rfl)
theorem dX3_wayOn_62 : decode cX3_wayOn 62 = .ok (.iaload, 1) := dk_46 (dk_at dksX3_wayOn_2 15 rfl rfl)
theorem dX3_wayOn_63 : decode cX3_wayOn 63 = .ok (.iadd, 1) := dk_96 (dk_at dksX3_wayOn_2 16 rfl rfl)
theorem dX3_wayOn_64 : decode cX3_wayOn 64 = .ok (.istore 5, 2) := dk_54 5 (dk_at dksX3_wayOn_2 17 rfl rfl)
theorem dX3_wayOn_66 : decode cX3_wayOn 66 = .ok (.iload 5, 2) := dk_21 5 (dk_at dksX3_wayOn_2 19 rfl rfl)
theorem dX3_wayOn_68 : decode cX3_wayOn 68 = .ok (.iload_n 3, 1) := dk_29 (dk_at dksX3_wayOn_2 21 rfl rfl)
theorem dX3_wayOn_69 : decode cX3_wayOn 69 = .ok (.if_icmp .ge 8, 3) := dk_162 0 8 (dk_at dksX3_wayOn_3 0 rfl rfl)
theorem dX3_wayOn_72 : decode cX3_wayOn 72 = .ok (.iload 5, 2) := dk_21 5 (dk_at dksX3_wayOn_3 3 rfl rfl)
theorem dX3_wayOn_74 : decode cX3_wayOn 74 = .ok (.goto 4, 3) := dk_167 0 4 (dk_at dksX3_wayOn_3 5 rfl rfl)
theorem dX3_wayOn_77 : decode cX3_wayOn 77 = .ok (.iload_n 3, 1) := dk_29 (dk_at dksX3_wayOn_3 8 rfl rfl)
theorem dX3_wayOn_78 : decode cX3_wayOn 78 = .ok (.istore_n 3, 1) := dk_62 (dk_at dksX3_wayOn_3 9 rfl rfl)
theorem dX3_wayOn_79 : decode cX3_wayOn 79 = .ok (.iinc 4 1, 3) := dk_132 4 1 (dk_at dksX3_wayOn_3 10 rfl rfl)
theorem dX3_wayOn_82 : decode cX3_wayOn 82 = .ok (.goto (-62), 3) := dk_167 255 194 (dk_at dksX3_wayOn_3 13 rfl rfl)
theorem dX3_wayOn_85 : decode cX3_wayOn 85 = .ok (.iload_n 3, 1) := dk_29 (dk_at dksX3_wayOn_3 16 rfl rfl)
theorem dX3_wayOn_86 : decode cX3_wayOn 86 = .ok (.ireturn, 1) := dk_172 (dk_at dksX3_wayOn_3 17 rfl rfl)
abbrev cX3_step : ByteArray := prog_7_method_9_code
def yX3_step : MethodName := ⟨RX3, "step", "(II)I"⟩
def dkwX3_step_1 : List UInt8 := [16, 9, 160, 0, 7, 3, 167, 0, 14, 42, 180, 0, 13, 42, 180, 0, 35, 28, 46, 46, 182, 0, 72, 172]
abbrev dktX3_step_1 : List UInt8 := dkwX3_step_1 ++ []
def dkwX3_step_0 : List UInt8 := [42, 27, 16, 9, 160, 0, 7, 3, 167, 0, 14, 42, 180, 0, 13, 42, 180, 0, 35, 27, 46, 46, 28]
abbrev dktX3_step_0 : List UInt8 := dkwX3_step_0 ++ dktX3_step_1
theorem dksX3_step_0 : cX3_step.data.toList.drop 0 = dktX3_step_0 := by decide +kernel
theorem dksX3_step_1 : cX3_step.data.toList.drop 23 = dktX3_step_1 := dk_seg dksX3_step_0 23 rfl rfl
theorem dX3_step_0 : decode cX3_step 0 = .ok (.aload_n 0, 1) := dk_42 (dk_at dksX3_step_0 0 rfl rfl)
theorem dX3_step_1 : decode cX3_step 1 = .ok (.iload_n 1, 1) := dk_27 (dk_at dksX3_step_0 1 rfl rfl)
theorem dX3_step_2 : decode cX3_step 2 = .ok (.bipush 9, 2) := dk_16 9 (dk_at dksX3_step_0 2 rfl rfl)
theorem dX3_step_4 : decode cX3_step 4 = .ok (.if_icmp .ne 7, 3) := dk_160 0 7 (dk_at dksX3_step_0 4 rfl rfl)
theorem dX3_step_7 : decode cX3_step 7 = .ok (.iconst 0, 1) := dk_3 (dk_at dksX3_step_0 7 rfl rfl)
theorem dX3_step_8 : decode cX3_step 8 = .ok (.goto 14, 3) := dk_167 0 14 (dk_at dksX3_step_0 8 rfl rfl)
theorem dX3_step_11 : decode cX3_step 11 = .ok (.aload_n 0, 1) := dk_42 (dk_at dksX3_step_0 11 rfl rfl)
theorem dX3_step_12 : decode cX3_step 12 = .ok (.getfield 13, 3) := dk_180 0 13 (dk_at dksX3_step_0 12 rfl rfl)
theorem dX3_step_15 : decode cX3_step 15 = .ok (.aload_n 0, 1) := dk_42 (dk_at dksX3_step_0 15 rfl rfl)
theorem dX3_step_16 : decode cX3_step 16 = .ok (.getfield 35, 3) := dk_180 0 35 (dk_at dksX3_step_0 16 rfl rfl)
theorem dX3_step_19 : decode cX3_step 19 = .ok (.iload_n 1, 1) := dk_27 (dk_at dksX3_step_0 19 rfl rfl)
theorem dX3_step_20 : decode cX3_step 20 = .ok (.iaload, 1) := dk_46 (dk_at dksX3_step_0 20 rfl rfl)
theorem dX3_step_21 : decode cX3_step 21 = .ok (.iaload, 1) := dk_46 (dk_at dksX3_step_0 21 rfl rfl)
theorem dX3_step_22 : decode cX3_step 22 = .ok (.iload_n 2, 1) := dk_28 (dk_at dksX3_step_0 22 rfl rfl)
theorem dX3_step_23 : decode cX3_step 23 = .ok (.bipush 9, 2) := dk_16 9 (dk_at dksX3_step_1 0 rfl rfl)
theorem dX3_step_25 : decode cX3_step 25 = .ok (.if_icmp .ne 7, 3) := dk_160 0 7 (dk_at dksX3_step_1 2 rfl rfl)
theorem dX3_step_28 : decode cX3_step 28 = .ok (.iconst 0, 1) := dk_3 (dk_at dksX3_step_1 5 rfl rfl)
theorem dX3_step_29 : decode cX3_step 29 = .ok (.goto 14, 3) := dk_167 0 14 (dk_at dksX3_step_1 6 rfl rfl)
theorem dX3_step_32 : decode cX3_step 32 = .ok (.aload_n 0, 1) := dk_42 (dk_at dksX3_step_1 9 rfl rfl)
theorem dX3_step_33 : decode cX3_step 33 = .ok (.getfield 13, 3) := dk_180 0 13 (dk_at dksX3_step_1 10 rfl rfl)
theorem dX3_step_36 : decode cX3_step 36 = .ok (.aload_n 0, 1) := dk_42 (dk_at dksX3_step_1 13 rfl rfl)
theorem dX3_step_37 : decode cX3_step 37 = .ok (.getfield 35, 3) := dk_180 0 35 (dk_at dksX3_step_1 14 rfl rfl)
theorem dX3_step_40 : decode cX3_step 40 = .ok (.iload_n 2, 1) := dk_28 (dk_at dksX3_step_1 17 rfl rfl)
theorem dX3_step_41 : decode cX3_step 41 = .ok (.iaload, 1) := dk_46 (dk_at dksX3_step_1 18 rfl rfl)
theorem dX3_step_42 : decode cX3_step 42 = .ok (.iaload, 1) := dk_46 (dk_at dksX3_step_1 19 rfl rfl)
theorem dX3_step_43 : decode cX3_step 43 = .ok (.invokevirtual 72, 3) := dk_182 0 72 (dk_at dksX3_step_1 20 rfl rfl)
theorem dX3_step_46 : decode cX3_step 46 = .ok (.ireturn, 1) := dk_172 (dk_at dksX3_step_1 23 rfl rfl)
abbrev cX3_setCapacity : ByteArray := prog_7_method_28_code
def yX3_setCapacity : MethodName := ⟨RX3, "setCapacity", "(I)I"⟩
def dkwX3_setCapacity_4 : List UInt8 := [180, 0, 7, 62, 42, 27, 181, 0, 7, 29, 172]
abbrev dktX3_setCapacity_4 : List UInt8 := dkwX3_setCapacity_4 ++ []
def dkwX3_setCapacity_3 : List UInt8 := [167, 0, 4, 3, 61, 132, 3, 1, 167, 255, 215, 28, 154, 0, 9, 42, 5, 182, 0, 94, 172, 42]
abbrev dktX3_setCapacity_3 : List UInt8 := dkwX3_setCapacity_3 ++ dktX3_setCapacity_4
def dkwX3_setCapacity_2 : List UInt8 := [153, 0, 27, 42, 180, 0, 20, 29, 46, 5, 159, 0, 13, 42, 180, 0, 26, 29, 46, 27, 163, 0, 7, 4]
abbrev dktX3_setCapacity_2 : List UInt8 := dkwX3_setCapacity_2 ++ dktX3_setCapacity_3
def dkwX3_setCapacity_1 : List UInt8 := [180, 0, 69, 154, 0, 7, 4, 167, 0, 4, 3, 61, 3, 62, 29, 42, 180, 0, 66, 162, 0, 39, 28]
abbrev dktX3_setCapacity_1 : List UInt8 := dkwX3_setCapacity_1 ++ dktX3_setCapacity_2
def dkwX3_setCapacity_0 : List UInt8 := [42, 3, 181, 0, 59, 27, 4, 16, 9, 184, 0, 62, 154, 0, 9, 42, 4, 182, 0, 94, 172, 42]
abbrev dktX3_setCapacity_0 : List UInt8 := dkwX3_setCapacity_0 ++ dktX3_setCapacity_1
theorem dksX3_setCapacity_0 : cX3_setCapacity.data.toList.drop 0 = dktX3_setCapacity_0 := by decide +kernel
theorem dksX3_setCapacity_1 : cX3_setCapacity.data.toList.drop 22 = dktX3_setCapacity_1 := dk_seg dksX3_setCapacity_0 22 rfl rfl
theorem dksX3_setCapacity_2 : cX3_setCapacity.data.toList.drop 45 = dktX3_setCapacity_2 := dk_seg dksX3_setCapacity_1 23 rfl rfl
theorem dksX3_setCapacity_3 : cX3_setCapacity.data.toList.drop 69 = dktX3_setCapacity_3 := dk_seg dksX3_setCapacity_2 24 rfl rfl
theorem dksX3_setCapacity_4 : cX3_setCapacity.data.toList.drop 91 = dktX3_setCapacity_4 := dk_seg dksX3_setCapacity_3 22 rfl rfl
theorem dX3_setCapacity_0 : decode cX3_setCapacity 0 = .ok (.aload_n 0, 1) := dk_42 (dk_at dksX3_setCapacity_0 0 rfl rfl)
theorem dX3_setCapacity_1 : decode cX3_setCapacity 1 = .ok (.iconst 0, 1) := dk_3 (dk_at dksX3_setCapacity_0 1 rfl rfl)
theorem dX3_setCapacity_2 : decode cX3_setCapacity 2 = .ok (.putfield 59, 3) := dk_181 0 59 (dk_at dksX3_setCapacity_0 2 rfl rfl)
theorem dX3_setCapacity_5 : decode cX3_setCapacity 5 = .ok (.iload_n 1, 1) := dk_27 (dk_at dksX3_setCapacity_0 5 rfl rfl)
theorem dX3_setCapacity_6 : decode cX3_setCapacity 6 = .ok (.iconst 1, 1) := dk_4 (dk_at dksX3_setCapacity_0 6 rfl rfl)
theorem dX3_setCapacity_7 : decode cX3_setCapacity 7 = .ok (.bipush 9, 2) := dk_16 9 (dk_at dksX3_setCapacity_0 7 rfl rfl)
theorem dX3_setCapacity_9 : decode cX3_setCapacity 9 = .ok (.invokestatic 62, 3) := dk_184 0 62 (dk_at dksX3_setCapacity_0 9 rfl rfl)
theorem dX3_setCapacity_12 : decode cX3_setCapacity 12 = .ok (.ifCond .ne 9, 3) := dk_154 0 9 (dk_at dksX3_setCapacity_0 12 rfl rfl)
theorem dX3_setCapacity_15 : decode cX3_setCapacity 15 = .ok (.aload_n 0, 1) := dk_42 (dk_at dksX3_setCapacity_0 15 rfl rfl)
theorem dX3_setCapacity_16 : decode cX3_setCapacity 16 = .ok (.iconst 1, 1) := dk_4 (dk_at dksX3_setCapacity_0 16 rfl rfl)
theorem dX3_setCapacity_17 : decode cX3_setCapacity 17 = .ok (.invokevirtual 94, 3) := dk_182 0 94 (dk_at dksX3_setCapacity_0 17 rfl rfl)
theorem dX3_setCapacity_20 : decode cX3_setCapacity 20 = .ok (.ireturn, 1) := dk_172 (dk_at dksX3_setCapacity_0 20 rfl rfl)
theorem dX3_setCapacity_21 : decode cX3_setCapacity 21 = .ok (.aload_n 0, 1) := dk_42 (dk_at dksX3_setCapacity_0 21 rfl rfl)
theorem dX3_setCapacity_22 : decode cX3_setCapacity 22 = .ok (.getfield 69, 3) := dk_180 0 69 (dk_at dksX3_setCapacity_1 0 rfl rfl)
theorem dX3_setCapacity_25 : decode cX3_setCapacity 25 = .ok (.ifCond .ne 7, 3) := dk_154 0 7 (dk_at dksX3_setCapacity_1 3 rfl rfl)
theorem dX3_setCapacity_28 : decode cX3_setCapacity 28 = .ok (.iconst 1, 1) := dk_4 (dk_at dksX3_setCapacity_1 6 rfl rfl)
theorem dX3_setCapacity_29 : decode cX3_setCapacity 29 = .ok (.goto 4, 3) := dk_167 0 4 (dk_at dksX3_setCapacity_1 7 rfl rfl)
theorem dX3_setCapacity_32 : decode cX3_setCapacity 32 = .ok (.iconst 0, 1) := dk_3 (dk_at dksX3_setCapacity_1 10 rfl rfl)
theorem dX3_setCapacity_33 : decode cX3_setCapacity 33 = .ok (.istore_n 2, 1) := dk_61 (dk_at dksX3_setCapacity_1 11 rfl rfl)
theorem dX3_setCapacity_34 : decode cX3_setCapacity 34 = .ok (.iconst 0, 1) := dk_3 (dk_at dksX3_setCapacity_1 12 rfl rfl)
theorem dX3_setCapacity_35 : decode cX3_setCapacity 35 = .ok (.istore_n 3, 1) := dk_62 (dk_at dksX3_setCapacity_1 13 rfl rfl)
theorem dX3_setCapacity_36 : decode cX3_setCapacity 36 = .ok (.iload_n 3, 1) := dk_29 (dk_at dksX3_setCapacity_1 14 rfl rfl)
theorem dX3_setCapacity_37 : decode cX3_setCapacity 37 = .ok (.aload_n 0, 1) := dk_42 (dk_at dksX3_setCapacity_1 15 rfl rfl)
theorem dX3_setCapacity_38 : decode cX3_setCapacity 38 = .ok (.getfield 66, 3) := dk_180 0 66 (dk_at dksX3_setCapacity_1 16 rfl rfl)
theorem dX3_setCapacity_41 : decode cX3_setCapacity 41 = .ok (.if_icmp .ge 39, 3) := dk_162 0 39 (dk_at dksX3_setCapacity_1 19 rfl rfl)
theorem dX3_setCapacity_44 : decode cX3_setCapacity 44 = .ok (.iload_n 2, 1) := dk_28 (dk_at dksX3_setCapacity_1 22 rfl rfl)
theorem dX3_setCapacity_45 : decode cX3_setCapacity 45 = .ok (.ifCond .eq 27, 3) := dk_153 0 27 (dk_at dksX3_setCapacity_2 0 rfl rfl)
theorem dX3_setCapacity_48 : decode cX3_setCapacity 48 = .ok (.aload_n 0, 1) := dk_42 (dk_at dksX3_setCapacity_2 3 rfl rfl)
theorem dX3_setCapacity_49 : decode cX3_setCapacity 49 = .ok (.getfield 20, 3) := dk_180 0 20 (dk_at dksX3_setCapacity_2 4 rfl rfl)
theorem dX3_setCapacity_52 : decode cX3_setCapacity 52 = .ok (.iload_n 3, 1) := dk_29 (dk_at dksX3_setCapacity_2 7 rfl rfl)
theorem dX3_setCapacity_53 : decode cX3_setCapacity 53 = .ok (.iaload, 1) := dk_46 (dk_at dksX3_setCapacity_2 8 rfl rfl)
theorem dX3_setCapacity_54 : decode cX3_setCapacity 54 = .ok (.iconst 2, 1) := dk_5 (dk_at dksX3_setCapacity_2 9 rfl rfl)
theorem dX3_setCapacity_55 : decode cX3_setCapacity 55 = .ok (.if_icmp .eq 13, 3) := dk_159 0 13 (dk_at dksX3_setCapacity_2 10 rfl rfl)
theorem dX3_setCapacity_58 : decode cX3_setCapacity 58 = .ok (.aload_n 0, 1) := dk_42 (dk_at dksX3_setCapacity_2 13 rfl rfl)
theorem dX3_setCapacity_59 : decode cX3_setCapacity 59 = .ok (.getfield 26, 3) := dk_180 0 26 (dk_at dksX3_setCapacity_2 14 rfl rfl)
theorem dX3_setCapacity_62 : decode cX3_setCapacity 62 = .ok (.iload_n 3, 1) := dk_29 (dk_at dksX3_setCapacity_2 17 rfl rfl)
theorem dX3_setCapacity_63 : decode cX3_setCapacity 63 = .ok (.iaload, 1) := dk_46 (dk_at dksX3_setCapacity_2 18 rfl rfl)
theorem dX3_setCapacity_64 : decode cX3_setCapacity 64 = .ok (.iload_n 1, 1) := dk_27 (dk_at dksX3_setCapacity_2 19 rfl rfl)
theorem dX3_setCapacity_65 : decode cX3_setCapacity 65 = .ok (.if_icmp .gt 7, 3) := dk_163 0 7 (dk_at dksX3_setCapacity_2 20 rfl rfl)
theorem dX3_setCapacity_68 : decode cX3_setCapacity 68 = .ok (.iconst 1, 1) := dk_4 (dk_at dksX3_setCapacity_2 23 rfl rfl)
theorem dX3_setCapacity_69 : decode cX3_setCapacity 69 = .ok (.goto 4, 3) := dk_167 0 4 (dk_at dksX3_setCapacity_3 0 rfl rfl)
theorem dX3_setCapacity_72 : decode cX3_setCapacity 72 = .ok (.iconst 0, 1) := dk_3 (dk_at dksX3_setCapacity_3 3 rfl rfl)
theorem dX3_setCapacity_73 : decode cX3_setCapacity 73 = .ok (.istore_n 2, 1) := dk_61 (dk_at dksX3_setCapacity_3 4 rfl rfl)
theorem dX3_setCapacity_74 : decode cX3_setCapacity 74 = .ok (.iinc 3 1, 3) := dk_132 3 1 (dk_at dksX3_setCapacity_3 5 rfl rfl)
theorem dX3_setCapacity_77 : decode cX3_setCapacity 77 = .ok (.goto (-41), 3) := dk_167 255 215 (dk_at dksX3_setCapacity_3 8 rfl rfl)
theorem dX3_setCapacity_80 : decode cX3_setCapacity 80 = .ok (.iload_n 2, 1) := dk_28 (dk_at dksX3_setCapacity_3 11 rfl rfl)
theorem dX3_setCapacity_81 : decode cX3_setCapacity 81 = .ok (.ifCond .ne 9, 3) := dk_154 0 9 (dk_at dksX3_setCapacity_3 12 rfl rfl)
theorem dX3_setCapacity_84 : decode cX3_setCapacity 84 = .ok (.aload_n 0, 1) := dk_42 (dk_at dksX3_setCapacity_3 15 rfl rfl)
theorem dX3_setCapacity_85 : decode cX3_setCapacity 85 = .ok (.iconst 2, 1) := dk_5 (dk_at dksX3_setCapacity_3 16 rfl rfl)
theorem dX3_setCapacity_86 : decode cX3_setCapacity 86 = .ok (.invokevirtual 94, 3) := dk_182 0 94 (dk_at dksX3_setCapacity_3 17 rfl rfl)
theorem dX3_setCapacity_89 : decode cX3_setCapacity 89 = .ok (.ireturn, 1) := dk_172 (dk_at dksX3_setCapacity_3 20 rfl rfl)
theorem dX3_setCapacity_90 : decode cX3_setCapacity 90 = .ok (.aload_n 0, 1) := dk_42 (dk_at dksX3_setCapacity_3 21 rfl rfl)
theorem dX3_setCapacity_91 : decode cX3_setCapacity 91 = .ok (.getfield 7, 3) := dk_180 0 7 (dk_at dksX3_setCapacity_4 0 rfl rfl)
theorem dX3_setCapacity_94 : decode cX3_setCapacity 94 = .ok (.istore_n 3, 1) := dk_62 (dk_at dksX3_setCapacity_4 3 rfl rfl)
theorem dX3_setCapacity_95 : decode cX3_setCapacity 95 = .ok (.aload_n 0, 1) := dk_42 (dk_at dksX3_setCapacity_4 4 rfl rfl)
theorem dX3_setCapacity_96 : decode cX3_setCapacity 96 = .ok (.iload_n 1, 1) := dk_27 (dk_at dksX3_setCapacity_4 5 rfl rfl)
theorem dX3_setCapacity_97 : decode cX3_setCapacity 97 = .ok (.putfield 7, 3) := dk_181 0 7 (dk_at dksX3_setCapacity_4 6 rfl rfl)
theorem dX3_setCapacity_100 : decode cX3_setCapacity 100 = .ok (.iload_n 3, 1) := dk_29 (dk_at dksX3_setCapacity_4 9 rfl rfl)
theorem dX3_setCapacity_101 : decode cX3_setCapacity 101 = .ok (.ireturn, 1) := dk_172 (dk_at dksX3_setCapacity_4 10 rfl rfl)
abbrev cX3_planWave : ByteArray := prog_7_method_33_code
def yX3_planWave : MethodName := ⟨RX3, "planWave", "(I)I"⟩
def dkwX3_planWave_7 : List UInt8 := [29, 153, 0, 11, 42, 182, 0, 126, 62, 167, 255, 247, 42, 180, 0, 69, 172]
abbrev dktX3_planWave_7 : List UInt8 := dkwX3_planWave_7 ++ []
def dkwX3_planWave_6 : List UInt8 := [29, 42, 180, 0, 69, 79, 42, 89, 180, 0, 69, 4, 96, 181, 0, 69, 132, 3, 1, 167, 255, 190, 4, 62]
abbrev dktX3_planWave_6 : List UInt8 := dkwX3_planWave_6 ++ dktX3_planWave_7
def dkwX3_planWave_5 : List UInt8 := [158, 0, 40, 42, 180, 0, 17, 29, 46, 27, 163, 0, 30, 42, 180, 0, 20, 29, 4, 79, 42, 180, 0, 23]
abbrev dktX3_planWave_5 : List UInt8 := dkwX3_planWave_5 ++ dktX3_planWave_6
def dkwX3_planWave_4 : List UInt8 := [62, 29, 42, 180, 0, 66, 162, 0, 64, 42, 180, 0, 20, 29, 46, 154, 0, 49, 42, 180, 0, 26, 29, 46]
abbrev dktX3_planWave_4 : List UInt8 := dkwX3_planWave_4 ++ dktX3_planWave_5
def dkwX3_planWave_3 : List UInt8 := [132, 3, 1, 167, 255, 209, 42, 180, 0, 69, 157, 0, 7, 28, 154, 0, 9, 42, 5, 182, 0, 94, 172, 3]
abbrev dktX3_planWave_3 : List UInt8 := dkwX3_planWave_3 ++ dktX3_planWave_4
def dkwX3_planWave_2 : List UInt8 := [29, 46, 158, 0, 17, 42, 180, 0, 17, 29, 46, 27, 163, 0, 7, 4, 167, 0, 4, 3, 96, 61]
abbrev dktX3_planWave_2 : List UInt8 := dkwX3_planWave_2 ++ dktX3_planWave_3
def dkwX3_planWave_1 : List UInt8 := [3, 62, 29, 42, 180, 0, 66, 162, 0, 45, 28, 42, 180, 0, 20, 29, 46, 154, 0, 26, 42, 180, 0, 26]
abbrev dktX3_planWave_1 : List UInt8 := dkwX3_planWave_1 ++ dktX3_planWave_2
def dkwX3_planWave_0 : List UInt8 := [42, 3, 181, 0, 59, 27, 3, 17, 3, 231, 184, 0, 62, 154, 0, 9, 42, 4, 182, 0, 94, 172, 3, 61]
abbrev dktX3_planWave_0 : List UInt8 := dkwX3_planWave_0 ++ dktX3_planWave_1
theorem dksX3_planWave_0 : cX3_planWave.data.toList.drop 0 = dktX3_planWave_0 := by decide +kernel
theorem dksX3_planWave_1 : cX3_planWave.data.toList.drop 24 = dktX3_planWave_1 := dk_seg dksX3_planWave_0 24 rfl rfl
theorem dksX3_planWave_2 : cX3_planWave.data.toList.drop 48 = dktX3_planWave_2 := dk_seg dksX3_planWave_1 24 rfl rfl
theorem dksX3_planWave_3 : cX3_planWave.data.toList.drop 70 = dktX3_planWave_3 := dk_seg dksX3_planWave_2 22 rfl rfl
theorem dksX3_planWave_4 : cX3_planWave.data.toList.drop 94 = dktX3_planWave_4 := dk_seg dksX3_planWave_3 24 rfl rfl
theorem dksX3_planWave_5 : cX3_planWave.data.toList.drop 118 = dktX3_planWave_5 := dk_seg dksX3_planWave_4 24 rfl rfl
theorem dksX3_planWave_6 : cX3_planWave.data.toList.drop 142 = dktX3_planWave_6 := dk_seg dksX3_planWave_5 24 rfl rfl
theorem dksX3_planWave_7 : cX3_planWave.data.toList.drop 166 = dktX3_planWave_7 := dk_seg dksX3_planWave_6 24 rfl rfl
theorem dX3_planWave_0 : decode cX3_planWave 0 = .ok (.aload_n 0, 1) := dk_42 (dk_at dksX3_planWave_0 0 rfl rfl)
theorem dX3_planWave_1 : decode cX3_planWave 1 = .ok (.iconst 0, 1) := dk_3 (dk_at dksX3_planWave_0 1 rfl rfl)
theorem dX3_planWave_2 : decode cX3_planWave 2 = .ok (.putfield 59, 3) := dk_181 0 59 (dk_at dksX3_planWave_0 2 rfl rfl)
theorem dX3_planWave_5 : decode cX3_planWave 5 = .ok (.iload_n 1, 1) := dk_27 (dk_at dksX3_planWave_0 5 rfl rfl)
theorem dX3_planWave_6 : decode cX3_planWave 6 = .ok (.iconst 0, 1) := dk_3 (dk_at dksX3_planWave_0 6 rfl rfl)
theorem dX3_planWave_7 : decode cX3_planWave 7 = .ok (.sipush 999, 3) := dk_17 3 231 (dk_at dksX3_planWave_0 7 rfl rfl)
theorem dX3_planWave_10 : decode cX3_planWave 10 = .ok (.invokestatic 62, 3) := dk_184 0 62 (dk_at dksX3_planWave_0 10 rfl rfl)
theorem dX3_planWave_13 : decode cX3_planWave 13 = .ok (.ifCond .ne 9, 3) := dk_154 0 9 (dk_at dksX3_planWave_0 13 rfl rfl)
theorem dX3_planWave_16 : decode cX3_planWave 16 = .ok (.aload_n 0, 1) := dk_42 (dk_at dksX3_planWave_0 16 rfl rfl)
theorem dX3_planWave_17 : decode cX3_planWave 17 = .ok (.iconst 1, 1) := dk_4 (dk_at dksX3_planWave_0 17 rfl rfl)
theorem dX3_planWave_18 : decode cX3_planWave 18 = .ok (.invokevirtual 94, 3) := dk_182 0 94 (dk_at dksX3_planWave_0 18 rfl rfl)
theorem dX3_planWave_21 : decode cX3_planWave 21 = .ok (.ireturn, 1) := dk_172 (dk_at dksX3_planWave_0 21 rfl rfl)
theorem dX3_planWave_22 : decode cX3_planWave 22 = .ok (.iconst 0, 1) := dk_3 (dk_at dksX3_planWave_0 22 rfl rfl)
theorem dX3_planWave_23 : decode cX3_planWave 23 = .ok (.istore_n 2, 1) := dk_61 (dk_at dksX3_planWave_0 23 rfl rfl)
theorem dX3_planWave_24 : decode cX3_planWave 24 = .ok (.iconst 0, 1) := dk_3 (dk_at dksX3_planWave_1 0 rfl rfl)
theorem dX3_planWave_25 : decode cX3_planWave 25 = .ok (.istore_n 3, 1) := dk_62 (dk_at dksX3_planWave_1 1 rfl rfl)
theorem dX3_planWave_26 : decode cX3_planWave 26 = .ok (.iload_n 3, 1) := dk_29 (dk_at dksX3_planWave_1 2 rfl rfl)
theorem dX3_planWave_27 : decode cX3_planWave 27 = .ok (.aload_n 0, 1) := dk_42 (dk_at dksX3_planWave_1 3 rfl rfl)
theorem dX3_planWave_28 : decode cX3_planWave 28 = .ok (.getfield 66, 3) := dk_180 0 66 (dk_at dksX3_planWave_1 4 rfl rfl)
theorem dX3_planWave_31 : decode cX3_planWave 31 = .ok (.if_icmp .ge 45, 3) := dk_162 0 45 (dk_at dksX3_planWave_1 7 rfl rfl)
theorem dX3_planWave_34 : decode cX3_planWave 34 = .ok (.iload_n 2, 1) := dk_28 (dk_at dksX3_planWave_1 10 rfl rfl)
theorem dX3_planWave_35 : decode cX3_planWave 35 = .ok (.aload_n 0, 1) := dk_42 (dk_at dksX3_planWave_1 11 rfl rfl)
theorem dX3_planWave_36 : decode cX3_planWave 36 = .ok (.getfield 20, 3) := dk_180 0 20 (dk_at dksX3_planWave_1 12 rfl rfl)
theorem dX3_planWave_39 : decode cX3_planWave 39 = .ok (.iload_n 3, 1) := dk_29 (dk_at dksX3_planWave_1 15 rfl rfl)
theorem dX3_planWave_40 : decode cX3_planWave 40 = .ok (.iaload, 1) := dk_46 (dk_at dksX3_planWave_1 16 rfl rfl)
theorem dX3_planWave_41 : decode cX3_planWave 41 = .ok (.ifCond .ne 26, 3) := dk_154 0 26 (dk_at dksX3_planWave_1 17 rfl rfl)
theorem dX3_planWave_44 : decode cX3_planWave 44 = .ok (.aload_n 0, 1) := dk_42 (dk_at dksX3_planWave_1 20 rfl rfl)
theorem dX3_planWave_45 : decode cX3_planWave 45 = .ok (.getfield 26, 3) := dk_180 0 26 (dk_at dksX3_planWave_1 21 rfl rfl)
theorem dX3_planWave_48 : decode cX3_planWave 48 = .ok (.iload_n 3, 1) := dk_29 (dk_at dksX3_planWave_2 0 rfl rfl)
theorem dX3_planWave_49 : decode cX3_planWave 49 = .ok (.iaload, 1) := dk_46 (dk_at dksX3_planWave_2 1 rfl rfl)
theorem dX3_planWave_50 : decode cX3_planWave 50 = .ok (.ifCond .le 17, 3) := dk_158 0 17 (dk_at dksX3_planWave_2 2 rfl rfl)
theorem dX3_planWave_53 : decode cX3_planWave 53 = .ok (.aload_n 0, 1) := dk_42 (dk_at dksX3_planWave_2 5 rfl rfl)
theorem dX3_planWave_54 : decode cX3_planWave 54 = .ok (.getfield 17, 3) := dk_180 0 17 (dk_at dksX3_planWave_2 6 rfl rfl)
theorem dX3_planWave_57 : decode cX3_planWave 57 = .ok (.iload_n 3, 1) := dk_29 (dk_at dksX3_planWave_2 9 rfl rfl)
theorem dX3_planWave_58 : decode cX3_planWave 58 = .ok (.iaload, 1) := dk_46 (dk_at dksX3_planWave_2 10 rfl rfl)
theorem dX3_planWave_59 : decode cX3_planWave 59 = .ok (.iload_n 1, 1) := dk_27 (dk_at dksX3_planWave_2 11 rfl rfl)
theorem dX3_planWave_60 : decode cX3_planWave 60 = .ok (.if_icmp .gt 7, 3) := dk_163 0 7 (dk_at dksX3_planWave_2 12 rfl rfl)
theorem dX3_planWave_63 : decode cX3_planWave 63 = .ok (.iconst 1, 1) := dk_4 (dk_at dksX3_planWave_2 15 rfl rfl)
theorem dX3_planWave_64 : decode cX3_planWave 64 = .ok (.goto 4, 3) := dk_167 0 4 (dk_at dksX3_planWave_2 16 rfl rfl)
theorem dX3_planWave_67 : decode cX3_planWave 67 = .ok (.iconst 0, 1) := dk_3 (dk_at dksX3_planWave_2 19 rfl rfl)
theorem dX3_planWave_68 : decode cX3_planWave 68 = .ok (.iadd, 1) := dk_96 (dk_at dksX3_planWave_2 20 rfl rfl)
theorem dX3_planWave_69 : decode cX3_planWave 69 = .ok (.istore_n 2, 1) := dk_61 (dk_at dksX3_planWave_2 21 rfl rfl)
theorem dX3_planWave_70 : decode cX3_planWave 70 = .ok (.iinc 3 1, 3) := dk_132 3 1 (dk_at dksX3_planWave_3 0 rfl rfl)
theorem dX3_planWave_73 : decode cX3_planWave 73 = .ok (.goto (-47), 3) := dk_167 255 209 (dk_at dksX3_planWave_3 3 rfl rfl)
theorem dX3_planWave_76 : decode cX3_planWave 76 = .ok (.aload_n 0, 1) := dk_42 (dk_at dksX3_planWave_3 6 rfl rfl)
theorem dX3_planWave_77 : decode cX3_planWave 77 = .ok (.getfield 69, 3) := dk_180 0 69 (dk_at dksX3_planWave_3 7 rfl rfl)
theorem dX3_planWave_80 : decode cX3_planWave 80 = .ok (.ifCond .gt 7, 3) := dk_157 0 7 (dk_at dksX3_planWave_3 10 rfl rfl)
theorem dX3_planWave_83 : decode cX3_planWave 83 = .ok (.iload_n 2, 1) := dk_28 (dk_at dksX3_planWave_3 13 rfl rfl)
theorem dX3_planWave_84 : decode cX3_planWave 84 = .ok (.ifCond .ne 9, 3) := dk_154 0 9 (dk_at dksX3_planWave_3 14 rfl rfl)
theorem dX3_planWave_87 : decode cX3_planWave 87 = .ok (.aload_n 0, 1) := dk_42 (dk_at dksX3_planWave_3 17 rfl rfl)
theorem dX3_planWave_88 : decode cX3_planWave 88 = .ok (.iconst 2, 1) := dk_5 (dk_at dksX3_planWave_3 18 rfl rfl)
theorem dX3_planWave_89 : decode cX3_planWave 89 = .ok (.invokevirtual 94, 3) := dk_182 0 94 (dk_at dksX3_planWave_3 19 rfl rfl)
theorem dX3_planWave_92 : decode cX3_planWave 92 = .ok (.ireturn, 1) := dk_172 (dk_at dksX3_planWave_3 22 rfl rfl)
theorem dX3_planWave_93 : decode cX3_planWave 93 = .ok (.iconst 0, 1) := dk_3 (dk_at dksX3_planWave_3 23 rfl rfl)
theorem dX3_planWave_94 : decode cX3_planWave 94 = .ok (.istore_n 3, 1) := dk_62 (dk_at dksX3_planWave_4 0 rfl rfl)
theorem dX3_planWave_95 : decode cX3_planWave 95 = .ok (.iload_n 3, 1) := dk_29 (dk_at dksX3_planWave_4 1 rfl rfl)
theorem dX3_planWave_96 : decode cX3_planWave 96 = .ok (.aload_n 0, 1) := dk_42 (dk_at dksX3_planWave_4 2 rfl rfl)
theorem dX3_planWave_97 : decode cX3_planWave 97 = .ok (.getfield 66, 3) := dk_180 0 66 (dk_at dksX3_planWave_4 3 rfl rfl)
theorem dX3_planWave_100 : decode cX3_planWave 100 = .ok (.if_icmp .ge 64, 3) := dk_162 0 64 (dk_at dksX3_planWave_4 6 rfl rfl)
theorem dX3_planWave_103 : decode cX3_planWave 103 = .ok (.aload_n 0, 1) := dk_42 (dk_at dksX3_planWave_4 9 rfl rfl)
theorem dX3_planWave_104 : decode cX3_planWave 104 = .ok (.getfield 20, 3) := dk_180 0 20 (dk_at dksX3_planWave_4 10 rfl rfl)
theorem dX3_planWave_107 : decode cX3_planWave 107 = .ok (.iload_n 3, 1) := dk_29 (dk_at dksX3_planWave_4 13 rfl rfl)
theorem dX3_planWave_108 : decode cX3_planWave 108 = .ok (.iaload, 1) := dk_46 (dk_at dksX3_planWave_4 14 rfl rfl)
theorem dX3_planWave_109 : decode cX3_planWave 109 = .ok (.ifCond .ne 49, 3) := dk_154 0 49 (dk_at dksX3_planWave_4 15 rfl rfl)
theorem dX3_planWave_112 : decode cX3_planWave 112 = .ok (.aload_n 0, 1) := dk_42 (dk_at dksX3_planWave_4 18 rfl rfl)
theorem dX3_planWave_113 : decode cX3_planWave 113 = .ok (.getfield 26, 3) := dk_180 0 26 (dk_at dksX3_planWave_4 19 rfl rfl)
theorem dX3_planWave_116 : decode cX3_planWave 116 = .ok (.iload_n 3, 1) := dk_29 (dk_at dksX3_planWave_4 22 rfl rfl)
theorem dX3_planWave_117 : decode cX3_planWave 117 = .ok (.iaload, 1) := dk_46 (dk_at dksX3_planWave_4 23 rfl rfl)
theorem dX3_planWave_118 : decode cX3_planWave 118 = .ok (.ifCond .le 40, 3) := dk_158 0 40 (dk_at dksX3_planWave_5 0 rfl rfl)
theorem dX3_planWave_121 : decode cX3_planWave 121 = .ok (.aload_n 0, 1) := dk_42 (dk_at dksX3_planWave_5 3 rfl rfl)
theorem dX3_planWave_122 : decode cX3_planWave 122 = .ok (.getfield 17, 3) := dk_180 0 17 (dk_at dksX3_planWave_5 4 rfl rfl)
theorem dX3_planWave_125 : decode cX3_planWave 125 = .ok (.iload_n 3, 1) := dk_29 (dk_at dksX3_planWave_5 7 rfl rfl)
theorem dX3_planWave_126 : decode cX3_planWave 126 = .ok (.iaload, 1) := dk_46 (dk_at dksX3_planWave_5 8 rfl rfl)
theorem dX3_planWave_127 : decode cX3_planWave 127 = .ok (.iload_n 1, 1) := dk_27 (dk_at dksX3_planWave_5 9 rfl rfl)
theorem dX3_planWave_128 : decode cX3_planWave 128 = .ok (.if_icmp .gt 30, 3) := dk_163 0 30 (dk_at dksX3_planWave_5 10 rfl rfl)
theorem dX3_planWave_131 : decode cX3_planWave 131 = .ok (.aload_n 0, 1) := dk_42 (dk_at dksX3_planWave_5 13 rfl rfl)
theorem dX3_planWave_132 : decode cX3_planWave 132 = .ok (.getfield 20, 3) := dk_180 0 20 (dk_at dksX3_planWave_5 14 rfl rfl)
theorem dX3_planWave_135 : decode cX3_planWave 135 = .ok (.iload_n 3, 1) := dk_29 (dk_at dksX3_planWave_5 17 rfl rfl)
theorem dX3_planWave_136 : decode cX3_planWave 136 = .ok (.iconst 1, 1) := dk_4 (dk_at dksX3_planWave_5 18 rfl rfl)
theorem dX3_planWave_137 : decode cX3_planWave 137 = .ok (.iastore, 1) := dk_79 (dk_at dksX3_planWave_5 19 rfl rfl)
theorem dX3_planWave_138 : decode cX3_planWave 138 = .ok (.aload_n 0, 1) := dk_42 (dk_at dksX3_planWave_5 20 rfl rfl)
theorem dX3_planWave_139 : decode cX3_planWave 139 = .ok (.getfield 23, 3) := dk_180 0 23 (dk_at dksX3_planWave_5 21 rfl rfl)
theorem dX3_planWave_142 : decode cX3_planWave 142 = .ok (.iload_n 3, 1) := dk_29 (dk_at dksX3_planWave_6 0 rfl rfl)
theorem dX3_planWave_143 : decode cX3_planWave 143 = .ok (.aload_n 0, 1) := dk_42 (dk_at dksX3_planWave_6 1 rfl rfl)
theorem dX3_planWave_144 : decode cX3_planWave 144 = .ok (.getfield 69, 3) := dk_180 0 69 (dk_at dksX3_planWave_6 2 rfl rfl)
theorem dX3_planWave_147 : decode cX3_planWave 147 = .ok (.iastore, 1) := dk_79 (dk_at dksX3_planWave_6 5 rfl rfl)
theorem dX3_planWave_148 : decode cX3_planWave 148 = .ok (.aload_n 0, 1) := dk_42 (dk_at dksX3_planWave_6 6 rfl rfl)
theorem dX3_planWave_149 : decode cX3_planWave 149 = .ok (.dup, 1) := dk_89 (dk_at dksX3_planWave_6 7 rfl rfl)
theorem dX3_planWave_150 : decode cX3_planWave 150 = .ok (.getfield 69, 3) := dk_180 0 69 (dk_at dksX3_planWave_6 8 rfl rfl)
theorem dX3_planWave_153 : decode cX3_planWave 153 = .ok (.iconst 1, 1) := dk_4 (dk_at dksX3_planWave_6 11 rfl rfl)
theorem dX3_planWave_154 : decode cX3_planWave 154 = .ok (.iadd, 1) := dk_96 (dk_at dksX3_planWave_6 12 rfl rfl)
theorem dX3_planWave_155 : decode cX3_planWave 155 = .ok (.putfield 69, 3) := dk_181 0 69 (dk_at dksX3_planWave_6 13 rfl rfl)
theorem dX3_planWave_158 : decode cX3_planWave 158 = .ok (.iinc 3 1, 3) := dk_132 3 1 (dk_at dksX3_planWave_6 16 rfl rfl)
theorem dX3_planWave_161 : decode cX3_planWave 161 = .ok (.goto (-66), 3) := dk_167 255 190 (dk_at dksX3_planWave_6 19 rfl rfl)
theorem dX3_planWave_164 : decode cX3_planWave 164 = .ok (.iconst 1, 1) := dk_4 (dk_at dksX3_planWave_6 22 rfl rfl)
theorem dX3_planWave_165 : decode cX3_planWave 165 = .ok (.istore_n 3, 1) := dk_62 (dk_at dksX3_planWave_6 23 rfl rfl)
theorem dX3_planWave_166 : decode cX3_planWave 166 = .ok (.iload_n 3, 1) := dk_29 (dk_at dksX3_planWave_7 0 rfl rfl)
theorem dX3_planWave_167 : decode cX3_planWave 167 = .ok (.ifCond .eq 11, 3) := dk_153 0 11 (dk_at dksX3_planWave_7 1 rfl rfl)
theorem dX3_planWave_170 : decode cX3_planWave 170 = .ok (.aload_n 0, 1) := dk_42 (dk_at dksX3_planWave_7 4 rfl rfl)
theorem dX3_planWave_171 : decode cX3_planWave 171 = .ok (.invokevirtual 126, 3) := dk_182 0 126 (dk_at dksX3_planWave_7 5 rfl rfl)
theorem dX3_planWave_174 : decode cX3_planWave 174 = .ok (.istore_n 3, 1) := dk_62 (dk_at dksX3_planWave_7 8 rfl rfl)
theorem dX3_planWave_175 : decode cX3_planWave 175 = .ok (.goto (-9), 3) := dk_167 255 247 (dk_at dksX3_planWave_7 9 rfl rfl)
theorem dX3_planWave_178 : decode cX3_planWave 178 = .ok (.aload_n 0, 1) := dk_42 (dk_at dksX3_planWave_7 12 rfl rfl)
theorem dX3_planWave_179 : decode cX3_planWave 179 = .ok (.getfield 69, 3) := dk_180 0 69 (dk_at dksX3_planWave_7 13 rfl rfl)
theorem dX3_planWave_182 : decode cX3_planWave 182 = .ok (.ireturn, 1) := dk_172 (dk_at dksX3_planWave_7 16 rfl rfl)
abbrev cX3_joins : ByteArray := prog_7_method_32_code
def yX3_joins : MethodName := ⟨RX3, "joins", "()Z"⟩
def dkwX3_joins_9 : List UInt8 := [3, 172]
abbrev dktX3_joins_9 : List UInt8 := dkwX3_joins_9 ++ []
def dkwX3_joins_8 : List UInt8 := [79, 132, 4, 1, 167, 255, 211, 27, 158, 0, 8, 42, 29, 182, 0, 123, 27, 158, 0, 7, 4, 167, 0, 4]
abbrev dktX3_joins_8 : List UInt8 := dkwX3_joins_8 ++ dktX3_joins_9
def dkwX3_joins_7 : List UInt8 := [21, 4, 42, 180, 0, 23, 21, 4, 46, 29, 160, 0, 7, 28, 167, 0, 10, 42, 180, 0, 23, 21, 4, 46]
abbrev dktX3_joins_7 : List UInt8 := dkwX3_joins_7 ++ dktX3_joins_8
def dkwX3_joins_6 : List UInt8 := [167, 255, 123, 3, 54, 4, 21, 4, 42, 180, 0, 66, 162, 0, 42, 27, 158, 0, 38, 42, 180, 0, 23]
abbrev dktX3_joins_6 : List UInt8 := dkwX3_joins_6 ++ dktX3_joins_7
def dkwX3_joins_5 : List UInt8 := [29, 62, 21, 6, 27, 164, 0, 8, 21, 6, 167, 0, 4, 27, 60, 132, 5, 1, 167, 255, 144, 132, 4, 1]
abbrev dktX3_joins_5 : List UInt8 := dkwX3_joins_5 ++ dktX3_joins_6
def dkwX3_joins_4 : List UInt8 := [21, 6, 27, 164, 0, 8, 21, 4, 167, 0, 4, 28, 61, 21, 6, 27, 164, 0, 8, 21, 5, 167, 0, 4]
abbrev dktX3_joins_4 : List UInt8 := dkwX3_joins_4 ++ dktX3_joins_5
def dkwX3_joins_3 : List UInt8 := [182, 0, 114, 96, 42, 42, 21, 4, 182, 0, 120, 42, 21, 5, 182, 0, 120, 128, 182, 0, 114, 100, 54, 6]
abbrev dktX3_joins_3 : List UInt8 := dkwX3_joins_3 ++ dktX3_joins_4
def dkwX3_joins_2 : List UInt8 := [180, 0, 7, 163, 0, 83, 42, 42, 21, 4, 182, 0, 120, 182, 0, 114, 42, 42, 21, 5, 182, 0, 120]
abbrev dktX3_joins_2 : List UInt8 := dkwX3_joins_2 ++ dktX3_joins_3
def dkwX3_joins_1 : List UInt8 := [21, 5, 42, 180, 0, 69, 162, 0, 109, 42, 21, 4, 182, 0, 117, 42, 21, 5, 182, 0, 117, 96, 42]
abbrev dktX3_joins_1 : List UInt8 := dkwX3_joins_1 ++ dktX3_joins_2
def dkwX3_joins_0 : List UInt8 := [3, 60, 2, 61, 2, 62, 3, 54, 4, 21, 4, 42, 180, 0, 69, 162, 0, 130, 21, 4, 4, 96, 54, 5]
abbrev dktX3_joins_0 : List UInt8 := dkwX3_joins_0 ++ dktX3_joins_1
theorem dksX3_joins_0 : cX3_joins.data.toList.drop 0 = dktX3_joins_0 := by decide +kernel
theorem dksX3_joins_1 : cX3_joins.data.toList.drop 24 = dktX3_joins_1 := dk_seg dksX3_joins_0 24 rfl rfl
theorem dksX3_joins_2 : cX3_joins.data.toList.drop 47 = dktX3_joins_2 := dk_seg dksX3_joins_1 23 rfl rfl
theorem dksX3_joins_3 : cX3_joins.data.toList.drop 70 = dktX3_joins_3 := dk_seg dksX3_joins_2 23 rfl rfl
theorem dksX3_joins_4 : cX3_joins.data.toList.drop 94 = dktX3_joins_4 := dk_seg dksX3_joins_3 24 rfl rfl
theorem dksX3_joins_5 : cX3_joins.data.toList.drop 118 = dktX3_joins_5 := dk_seg dksX3_joins_4 24 rfl rfl
theorem dksX3_joins_6 : cX3_joins.data.toList.drop 142 = dktX3_joins_6 := dk_seg dksX3_joins_5 24 rfl rfl
theorem dksX3_joins_7 : cX3_joins.data.toList.drop 165 = dktX3_joins_7 := dk_seg dksX3_joins_6 23 rfl rfl
theorem dksX3_joins_8 : cX3_joins.data.toList.drop 189 = dktX3_joins_8 := dk_seg dksX3_joins_7 24 rfl rfl
theorem dksX3_joins_9 : cX3_joins.data.toList.drop 213 = dktX3_joins_9 := dk_seg dksX3_joins_8 24 rfl rfl
theorem dX3_joins_0 : decode cX3_joins 0 = .ok (.iconst 0, 1) := dk_3 (dk_at dksX3_joins_0 0 rfl rfl)
theorem dX3_joins_1 : decode cX3_joins 1 = .ok (.istore_n 1, 1) := dk_60 (dk_at dksX3_joins_0 1 rfl rfl)
theorem dX3_joins_2 : decode cX3_joins 2 = .ok (.iconst (-1), 1) := dk_2 (dk_at dksX3_joins_0 2 rfl rfl)
theorem dX3_joins_3 : decode cX3_joins 3 = .ok (.istore_n 2, 1) := dk_61 (dk_at dksX3_joins_0 3 rfl rfl)
theorem dX3_joins_4 : decode cX3_joins 4 = .ok (.iconst (-1), 1) := dk_2 (dk_at dksX3_joins_0 4 rfl rfl)
theorem dX3_joins_5 : decode cX3_joins 5 = .ok (.istore_n 3, 1) := dk_62 (dk_at dksX3_joins_0 5 rfl rfl)
theorem dX3_joins_6 : decode cX3_joins 6 = .ok (.iconst 0, 1) := dk_3 (dk_at dksX3_joins_0 6 rfl rfl)
theorem dX3_joins_7 : decode cX3_joins 7 = .ok (.istore 4, 2) := dk_54 4 (dk_at dksX3_joins_0 7 rfl rfl)
theorem dX3_joins_9 : decode cX3_joins 9 = .ok (.iload 4, 2) := dk_21 4 (dk_at dksX3_joins_0 9 rfl rfl)
theorem dX3_joins_11 : decode cX3_joins 11 = .ok (.aload_n 0, 1) := dk_42 (dk_at dksX3_joins_0 11 rfl rfl)
theorem dX3_joins_12 : decode cX3_joins 12 = .ok (.getfield 69, 3) := dk_180 0 69 (dk_at dksX3_joins_0 12 rfl rfl)
theorem dX3_joins_15 : decode cX3_joins 15 = .ok (.if_icmp .ge 130, 3) := dk_162 0 130 (dk_at dksX3_joins_0 15 rfl rfl)
theorem dX3_joins_18 : decode cX3_joins 18 = .ok (.iload 4, 2) := dk_21 4 (dk_at dksX3_joins_0 18 rfl rfl)
theorem dX3_joins_20 : decode cX3_joins 20 = .ok (.iconst 1, 1) := dk_4 (dk_at dksX3_joins_0 20 rfl rfl)
theorem dX3_joins_21 : decode cX3_joins 21 = .ok (.iadd, 1) := dk_96 (dk_at dksX3_joins_0 21 rfl rfl)
theorem dX3_joins_22 : decode cX3_joins 22 = .ok (.istore 5, 2) := dk_54 5 (dk_at dksX3_joins_0 22 rfl rfl)
theorem dX3_joins_24 : decode cX3_joins 24 = .ok (.iload 5, 2) := dk_21 5 (dk_at dksX3_joins_1 0 rfl rfl)
theorem dX3_joins_26 : decode cX3_joins 26 = .ok (.aload_n 0, 1) := dk_42 (dk_at dksX3_joins_1 2 rfl rfl)
theorem dX3_joins_27 : decode cX3_joins 27 = .ok (.getfield 69, 3) := dk_180 0 69 (dk_at dksX3_joins_1 3 rfl rfl)
theorem dX3_joins_30 : decode cX3_joins 30 = .ok (.if_icmp .ge 109, 3) := dk_162 0 109 (dk_at dksX3_joins_1 6 rfl rfl)
theorem dX3_joins_33 : decode cX3_joins 33 = .ok (.aload_n 0, 1) := dk_42 (dk_at dksX3_joins_1 9 rfl rfl)
theorem dX3_joins_34 : decode cX3_joins 34 = .ok (.iload 4, 2) := dk_21 4 (dk_at dksX3_joins_1 10 rfl rfl)
theorem dX3_joins_36 : decode cX3_joins 36 = .ok (.invokevirtual 117, 3) := dk_182 0 117 (dk_at dksX3_joins_1 12 rfl rfl)
theorem dX3_joins_39 : decode cX3_joins 39 = .ok (.aload_n 0, 1) := dk_42 (dk_at dksX3_joins_1 15 rfl rfl)
theorem dX3_joins_40 : decode cX3_joins 40 = .ok (.iload 5, 2) := dk_21 5 (dk_at dksX3_joins_1 16 rfl rfl)
theorem dX3_joins_42 : decode cX3_joins 42 = .ok (.invokevirtual 117, 3) := dk_182 0 117 (dk_at dksX3_joins_1 18 rfl rfl)
theorem dX3_joins_45 : decode cX3_joins 45 = .ok (.iadd, 1) := dk_96 (dk_at dksX3_joins_1 21 rfl rfl)
theorem dX3_joins_46 : decode cX3_joins 46 = .ok (.aload_n 0, 1) := dk_42 (dk_at dksX3_joins_1 22 rfl rfl)
theorem dX3_joins_47 : decode cX3_joins 47 = .ok (.getfield 7, 3) := dk_180 0 7 (dk_at dksX3_joins_2 0 rfl rfl)
theorem dX3_joins_50 : decode cX3_joins 50 = .ok (.if_icmp .gt 83, 3) := dk_163 0 83 (dk_at dksX3_joins_2 3 rfl rfl)
theorem dX3_joins_53 : decode cX3_joins 53 = .ok (.aload_n 0, 1) := dk_42 (dk_at dksX3_joins_2 6 rfl rfl)
theorem dX3_joins_54 : decode cX3_joins 54 = .ok (.aload_n 0, 1) := dk_42 (dk_at dksX3_joins_2 7 rfl rfl)
theorem dX3_joins_55 : decode cX3_joins 55 = .ok (.iload 4, 2) := dk_21 4 (dk_at dksX3_joins_2 8 rfl rfl)
theorem dX3_joins_57 : decode cX3_joins 57 = .ok (.invokevirtual 120, 3) := dk_182 0 120 (dk_at dksX3_joins_2 10 rfl rfl)
theorem dX3_joins_60 : decode cX3_joins 60 = .ok (.invokevirtual 114, 3) := dk_182 0 114 (dk_at dksX3_joins_2 13 rfl rfl)
theorem dX3_joins_63 : decode cX3_joins 63 = .ok (.aload_n 0, 1) := dk_42 (dk_at dksX3_joins_2 16 rfl rfl)
theorem dX3_joins_64 : decode cX3_joins 64 = .ok (.aload_n 0, 1) := dk_42 (dk_at dksX3_joins_2 17 rfl rfl)
theorem dX3_joins_65 : decode cX3_joins 65 = .ok (.iload 5, 2) := dk_21 5 (dk_at dksX3_joins_2 18 rfl rfl)
theorem dX3_joins_67 : decode cX3_joins 67 = .ok (.invokevirtual 120, 3) := dk_182 0 120 (dk_at dksX3_joins_2 20 rfl rfl)
theorem dX3_joins_70 : decode cX3_joins 70 = .ok (.invokevirtual 114, 3) := dk_182 0 114 (dk_at dksX3_joins_3 0 rfl rfl)
theorem dX3_joins_73 : decode cX3_joins 73 = .ok (.iadd, 1) := dk_96 (dk_at dksX3_joins_3 3 rfl rfl)
theorem dX3_joins_74 : decode cX3_joins 74 = .ok (.aload_n 0, 1) := dk_42 (dk_at dksX3_joins_3 4 rfl rfl)
theorem dX3_joins_75 : decode cX3_joins 75 = .ok (.aload_n 0, 1) := dk_42 (dk_at dksX3_joins_3 5 rfl rfl)
theorem dX3_joins_76 : decode cX3_joins 76 = .ok (.iload 4, 2) := dk_21 4 (dk_at dksX3_joins_3 6 rfl rfl)
theorem dX3_joins_78 : decode cX3_joins 78 = .ok (.invokevirtual 120, 3) := dk_182 0 120 (dk_at dksX3_joins_3 8 rfl rfl)
theorem dX3_joins_81 : decode cX3_joins 81 = .ok (.aload_n 0, 1) := dk_42 (dk_at dksX3_joins_3 11 rfl rfl)
theorem dX3_joins_82 : decode cX3_joins 82 = .ok (.iload 5, 2) := dk_21 5 (dk_at dksX3_joins_3 12 rfl rfl)
theorem dX3_joins_84 : decode cX3_joins 84 = .ok (.invokevirtual 120, 3) := dk_182 0 120 (dk_at dksX3_joins_3 14 rfl rfl)
theorem dX3_joins_87 : decode cX3_joins 87 = .ok (.ior, 1) := dk_128 (dk_at dksX3_joins_3 17 rfl rfl)
theorem dX3_joins_88 : decode cX3_joins 88 = .ok (.invokevirtual 114, 3) := dk_182 0 114 (dk_at dksX3_joins_3 18 rfl rfl)
theorem dX3_joins_91 : decode cX3_joins 91 = .ok (.isub, 1) := dk_100 (dk_at dksX3_joins_3 21 rfl rfl)
theorem dX3_joins_92 : decode cX3_joins 92 = .ok (.istore 6, 2) := dk_54 6 (dk_at dksX3_joins_3 22 rfl rfl)
theorem dX3_joins_94 : decode cX3_joins 94 = .ok (.iload 6, 2) := dk_21 6 (dk_at dksX3_joins_4 0 rfl rfl)
theorem dX3_joins_96 : decode cX3_joins 96 = .ok (.iload_n 1, 1) := dk_27 (dk_at dksX3_joins_4 2 rfl rfl)
theorem dX3_joins_97 : decode cX3_joins 97 = .ok (.if_icmp .le 8, 3) := dk_164 0 8 (dk_at dksX3_joins_4 3 rfl rfl)
theorem dX3_joins_100 : decode cX3_joins 100 = .ok (.iload 4, 2) := dk_21 4 (dk_at dksX3_joins_4 6 rfl rfl)
theorem dX3_joins_102 : decode cX3_joins 102 = .ok (.goto 4, 3) := dk_167 0 4 (dk_at dksX3_joins_4 8 rfl rfl)
theorem dX3_joins_105 : decode cX3_joins 105 = .ok (.iload_n 2, 1) := dk_28 (dk_at dksX3_joins_4 11 rfl rfl)
theorem dX3_joins_106 : decode cX3_joins 106 = .ok (.istore_n 2, 1) := dk_61 (dk_at dksX3_joins_4 12 rfl rfl)
theorem dX3_joins_107 : decode cX3_joins 107 = .ok (.iload 6, 2) := dk_21 6 (dk_at dksX3_joins_4 13 rfl rfl)
theorem dX3_joins_109 : decode cX3_joins 109 = .ok (.iload_n 1, 1) := dk_27 (dk_at dksX3_joins_4 15 rfl rfl)
theorem dX3_joins_110 : decode cX3_joins 110 = .ok (.if_icmp .le 8, 3) := dk_164 0 8 (dk_at dksX3_joins_4 16 rfl rfl)
theorem dX3_joins_113 : decode cX3_joins 113 = .ok (.iload 5, 2) := dk_21 5 (dk_at dksX3_joins_4 19 rfl rfl)
theorem dX3_joins_115 : decode cX3_joins 115 = .ok (.goto 4, 3) := dk_167 0 4 (dk_at dksX3_joins_4 21 rfl rfl)
theorem dX3_joins_118 : decode cX3_joins 118 = .ok (.iload_n 3, 1) := dk_29 (dk_at dksX3_joins_5 0 rfl rfl)
theorem dX3_joins_119 : decode cX3_joins 119 = .ok (.istore_n 3, 1) := dk_62 (dk_at dksX3_joins_5 1 rfl rfl)
theorem dX3_joins_120 : decode cX3_joins 120 = .ok (.iload 6, 2) := dk_21 6 (dk_at dksX3_joins_5 2 rfl rfl)
theorem dX3_joins_122 : decode cX3_joins 122 = .ok (.iload_n 1, 1) := dk_27 (dk_at dksX3_joins_5 4 rfl rfl)
theorem dX3_joins_123 : decode cX3_joins 123 = .ok (.if_icmp .le 8, 3) := dk_164 0 8 (dk_at dksX3_joins_5 5 rfl rfl)
theorem dX3_joins_126 : decode cX3_joins 126 = .ok (.iload 6, 2) := dk_21 6 (dk_at dksX3_joins_5 8 rfl rfl)
theorem dX3_joins_128 : decode cX3_joins 128 = .ok (.goto 4, 3) := dk_167 0 4 (dk_at dksX3_joins_5 10 rfl rfl)
theorem dX3_joins_131 : decode cX3_joins 131 = .ok (.iload_n 1, 1) := dk_27 (dk_at dksX3_joins_5 13 rfl rfl)
theorem dX3_joins_132 : decode cX3_joins 132 = .ok (.istore_n 1, 1) := dk_60 (dk_at dksX3_joins_5 14 rfl rfl)
theorem dX3_joins_133 : decode cX3_joins 133 = .ok (.iinc 5 1, 3) := dk_132 5 1 (dk_at dksX3_joins_5 15 rfl rfl)
theorem dX3_joins_136 : decode cX3_joins 136 = .ok (.goto (-112), 3) := dk_167 255 144 (dk_at dksX3_joins_5 18 rfl rfl)
theorem dX3_joins_139 : decode cX3_joins 139 = .ok (.iinc 4 1, 3) := dk_132 4 1 (dk_at dksX3_joins_5 21 rfl rfl)
theorem dX3_joins_142 : decode cX3_joins 142 = .ok (.goto (-133), 3) := dk_167 255 123 (dk_at dksX3_joins_6 0 rfl rfl)
theorem dX3_joins_145 : decode cX3_joins 145 = .ok (.iconst 0, 1) := dk_3 (dk_at dksX3_joins_6 3 rfl rfl)
theorem dX3_joins_146 : decode cX3_joins 146 = .ok (.istore 4, 2) := dk_54 4 (dk_at dksX3_joins_6 4 rfl rfl)
theorem dX3_joins_148 : decode cX3_joins 148 = .ok (.iload 4, 2) := dk_21 4 (dk_at dksX3_joins_6 6 rfl rfl)
theorem dX3_joins_150 : decode cX3_joins 150 = .ok (.aload_n 0, 1) := dk_42 (dk_at dksX3_joins_6 8 rfl rfl)
theorem dX3_joins_151 : decode cX3_joins 151 = .ok (.getfield 66, 3) := dk_180 0 66 (dk_at dksX3_joins_6 9 rfl rfl)
theorem dX3_joins_154 : decode cX3_joins 154 = .ok (.if_icmp .ge 42, 3) := dk_162 0 42 (dk_at dksX3_joins_6 12 rfl rfl)
theorem dX3_joins_157 : decode cX3_joins 157 = .ok (.iload_n 1, 1) := dk_27 (dk_at dksX3_joins_6 15 rfl rfl)
theorem dX3_joins_158 : decode cX3_joins 158 = .ok (.ifCond .le 38, 3) := dk_158 0 38 (dk_at dksX3_joins_6 16 rfl rfl)
theorem dX3_joins_161 : decode cX3_joins 161 = .ok (.aload_n 0, 1) := dk_42 (dk_at dksX3_joins_6 19 rfl rfl)
theorem dX3_joins_162 : decode cX3_joins 162 = .ok (.getfield 23, 3) := dk_180 0 23 (dk_at dksX3_joins_6 20 rfl rfl)
theorem dX3_joins_165 : decode cX3_joins 165 = .ok (.iload 4, 2) := dk_21 4 (dk_at dksX3_joins_7 0 rfl rfl)
theorem dX3_joins_167 : decode cX3_joins 167 = .ok (.aload_n 0, 1) := dk_42 (dk_at dksX3_joins_7 2 rfl rfl)
theorem dX3_joins_168 : decode cX3_joins 168 = .ok (.getfield 23, 3) := dk_180 0 23 (dk_at dksX3_joins_7 3 rfl rfl)
theorem dX3_joins_171 : decode cX3_joins 171 = .ok (.iload 4, 2) := dk_21 4 (dk_at dksX3_joins_7 6 rfl rfl)
theorem dX3_joins_173 : decode cX3_joins 173 = .ok (.iaload, 1) := dk_46 (dk_at dksX3_joins_7 8 rfl rfl)
theorem dX3_joins_174 : decode cX3_joins 174 = .ok (.iload_n 3, 1) := dk_29 (dk_at dksX3_joins_7 9 rfl rfl)
theorem dX3_joins_175 : decode cX3_joins 175 = .ok (.if_icmp .ne 7, 3) := dk_160 0 7 (dk_at dksX3_joins_7 10 rfl rfl)
theorem dX3_joins_178 : decode cX3_joins 178 = .ok (.iload_n 2, 1) := dk_28 (dk_at dksX3_joins_7 13 rfl rfl)
theorem dX3_joins_179 : decode cX3_joins 179 = .ok (.goto 10, 3) := dk_167 0 10 (dk_at dksX3_joins_7 14 rfl rfl)
theorem dX3_joins_182 : decode cX3_joins 182 = .ok (.aload_n 0, 1) := dk_42 (dk_at dksX3_joins_7 17 rfl rfl)
theorem dX3_joins_183 : decode cX3_joins 183 = .ok (.getfield 23, 3) := dk_180 0 23 (dk_at dksX3_joins_7 18 rfl rfl)
theorem dX3_joins_186 : decode cX3_joins 186 = .ok (.iload 4, 2) := dk_21 4 (dk_at dksX3_joins_7 21 rfl rfl)
theorem dX3_joins_188 : decode cX3_joins 188 = .ok (.iaload, 1) := dk_46 (dk_at dksX3_joins_7 23 rfl rfl)
theorem dX3_joins_189 : decode cX3_joins 189 = .ok (.iastore, 1) := dk_79 (dk_at dksX3_joins_8 0 rfl rfl)
theorem dX3_joins_190 : decode cX3_joins 190 = .ok (.iinc 4 1, 3) := dk_132 4 1 (dk_at dksX3_joins_8 1 rfl rfl)
theorem dX3_joins_193 : decode cX3_joins 193 = .ok (.goto (-45), 3) := dk_167 255 211 (dk_at dksX3_joins_8 4 rfl rfl)
theorem dX3_joins_196 : decode cX3_joins 196 = .ok (.iload_n 1, 1) := dk_27 (dk_at dksX3_joins_8 7 rfl rfl)
theorem dX3_joins_197 : decode cX3_joins 197 = .ok (.ifCond .le 8, 3) := dk_158 0 8 (dk_at dksX3_joins_8 8 rfl rfl)
theorem dX3_joins_200 : decode cX3_joins 200 = .ok (.aload_n 0, 1) := dk_42 (dk_at dksX3_joins_8 11 rfl rfl)
theorem dX3_joins_201 : decode cX3_joins 201 = .ok (.iload_n 3, 1) := dk_29 (dk_at dksX3_joins_8 12 rfl rfl)
theorem dX3_joins_202 : decode cX3_joins 202 = .ok (.invokevirtual 123, 3) := dk_182 0 123 (dk_at dksX3_joins_8 13 rfl rfl)
theorem dX3_joins_205 : decode cX3_joins 205 = .ok (.iload_n 1, 1) := dk_27 (dk_at dksX3_joins_8 16 rfl rfl)
theorem dX3_joins_206 : decode cX3_joins 206 = .ok (.ifCond .le 7, 3) := dk_158 0 7 (dk_at dksX3_joins_8 17 rfl rfl)
theorem dX3_joins_209 : decode cX3_joins 209 = .ok (.iconst 1, 1) := dk_4 (dk_at dksX3_joins_8 20 rfl rfl)
theorem dX3_joins_210 : decode cX3_joins 210 = .ok (.goto 4, 3) := dk_167 0 4 (dk_at dksX3_joins_8 21 rfl rfl)
theorem dX3_joins_213 : decode cX3_joins 213 = .ok (.iconst 0, 1) := dk_3 (dk_at dksX3_joins_9 0 rfl rfl)
theorem dX3_joins_214 : decode cX3_joins 214 = .ok (.ireturn, 1) := dk_172 (dk_at dksX3_joins_9 1 rfl rfl)
abbrev cX3_countLines : ByteArray := prog_7_method_30_code
def yX3_countLines : MethodName := ⟨RX3, "countLines", "(I)I"⟩
def dkwX3_countLines_1 : List UInt8 := [180, 0, 26, 29, 46, 167, 0, 4, 3, 96, 61, 132, 3, 1, 167, 255, 222, 28, 172]
abbrev dktX3_countLines_1 : List UInt8 := dkwX3_countLines_1 ++ []
def dkwX3_countLines_0 : List UInt8 := [3, 61, 3, 62, 29, 42, 180, 0, 66, 162, 0, 32, 28, 42, 180, 0, 23, 29, 46, 27, 160, 0, 12, 42]
abbrev dktX3_countLines_0 : List UInt8 := dkwX3_countLines_0 ++ dktX3_countLines_1
theorem dksX3_countLines_0 : cX3_countLines.data.toList.drop 0 = dktX3_countLines_0 := by decide +kernel
theorem dksX3_countLines_1 : cX3_countLines.data.toList.drop 24 = dktX3_countLines_1 := dk_seg dksX3_countLines_0 24 rfl rfl
theorem dX3_countLines_0 : decode cX3_countLines 0 = .ok (.iconst 0, 1) := dk_3 (dk_at dksX3_countLines_0 0 rfl rfl)
theorem dX3_countLines_1 : decode cX3_countLines 1 = .ok (.istore_n 2, 1) := dk_61 (dk_at dksX3_countLines_0 1 rfl rfl)
theorem dX3_countLines_2 : decode cX3_countLines 2 = .ok (.iconst 0, 1) := dk_3 (dk_at dksX3_countLines_0 2 rfl rfl)
theorem dX3_countLines_3 : decode cX3_countLines 3 = .ok (.istore_n 3, 1) := dk_62 (dk_at dksX3_countLines_0 3 rfl rfl)
theorem dX3_countLines_4 : decode cX3_countLines 4 = .ok (.iload_n 3, 1) := dk_29 (dk_at dksX3_countLines_0 4 rfl rfl)
theorem dX3_countLines_5 : decode cX3_countLines 5 = .ok (.aload_n 0, 1) := dk_42 (dk_at dksX3_countLines_0 5 rfl rfl)
theorem dX3_countLines_6 : decode cX3_countLines 6 = .ok (.getfield 66, 3) := dk_180 0 66 (dk_at dksX3_countLines_0 6 rfl rfl)
theorem dX3_countLines_9 : decode cX3_countLines 9 = .ok (.if_icmp .ge 32, 3) := dk_162 0 32 (dk_at dksX3_countLines_0 9 rfl rfl)
theorem dX3_countLines_12 : decode cX3_countLines 12 = .ok (.iload_n 2, 1) := dk_28 (dk_at dksX3_countLines_0 12 rfl rfl)
theorem dX3_countLines_13 : decode cX3_countLines 13 = .ok (.aload_n 0, 1) := dk_42 (dk_at dksX3_countLines_0 13 rfl rfl)
theorem dX3_countLines_14 : decode cX3_countLines 14 = .ok (.getfield 23, 3) := dk_180 0 23 (dk_at dksX3_countLines_0 14 rfl rfl)
theorem dX3_countLines_17 : decode cX3_countLines 17 = .ok (.iload_n 3, 1) := dk_29 (dk_at dksX3_countLines_0 17 rfl rfl)
theorem dX3_countLines_18 : decode cX3_countLines 18 = .ok (.iaload, 1) := dk_46 (dk_at dksX3_countLines_0 18 rfl rfl)
theorem dX3_countLines_19 : decode cX3_countLines 19 = .ok (.iload_n 1, 1) := dk_27 (dk_at dksX3_countLines_0 19 rfl rfl)
theorem dX3_countLines_20 : decode cX3_countLines 20 = .ok (.if_icmp .ne 12, 3) := dk_160 0 12 (dk_at dksX3_countLines_0 20 rfl rfl)
theorem dX3_countLines_23 : decode cX3_countLines 23 = .ok (.aload_n 0, 1) := dk_42 (dk_at dksX3_countLines_0 23 rfl rfl)
theorem dX3_countLines_24 : decode cX3_countLines 24 = .ok (.getfield 26, 3) := dk_180 0 26 (dk_at dksX3_countLines_1 0 rfl rfl)
theorem dX3_countLines_27 : decode cX3_countLines 27 = .ok (.iload_n 3, 1) := dk_29 (dk_at dksX3_countLines_1 3 rfl rfl)
theorem dX3_countLines_28 : decode cX3_countLines 28 = .ok (.iaload, 1) := dk_46 (dk_at dksX3_countLines_1 4 rfl rfl)
theorem dX3_countLines_29 : decode cX3_countLines 29 = .ok (.goto 4, 3) := dk_167 0 4 (dk_at dksX3_countLines_1 5 rfl rfl)
theorem dX3_countLines_32 : decode cX3_countLines 32 = .ok (.iconst 0, 1) := dk_3 (dk_at dksX3_countLines_1 8 rfl rfl)
theorem dX3_countLines_33 : decode cX3_countLines 33 = .ok (.iadd, 1) := dk_96 (dk_at dksX3_countLines_1 9 rfl rfl)
theorem dX3_countLines_34 : decode cX3_countLines 34 = .ok (.istore_n 2, 1) := dk_61 (dk_at dksX3_countLines_1 10 rfl rfl)
theorem dX3_countLines_35 : decode cX3_countLines 35 = .ok (.iinc 3 1, 3) := dk_132 3 1 (dk_at dksX3_countLines_1 11 rfl rfl)
theorem dX3_countLines_38 : decode cX3_countLines 38 = .ok (.goto (-34), 3) := dk_167 255 222 (dk_at dksX3_countLines_1 14 rfl rfl)
theorem dX3_countLines_41 : decode cX3_countLines 41 = .ok (.iload_n 2, 1) := dk_28 (dk_at dksX3_countLines_1 17 rfl rfl)
theorem dX3_countLines_42 : decode cX3_countLines 42 = .ok (.ireturn, 1) := dk_172 (dk_at dksX3_countLines_1 18 rfl rfl)
abbrev cX3_productsOf : ByteArray := prog_7_method_29_code
def yX3_productsOf : MethodName := ⟨RX3, "productsOf", "(I)I"⟩
def dkwX3_productsOf_1 : List UInt8 := [29, 182, 0, 111, 167, 0, 4, 3, 128, 61, 132, 3, 1, 167, 255, 223, 28, 172]
abbrev dktX3_productsOf_1 : List UInt8 := dkwX3_productsOf_1 ++ []
def dkwX3_productsOf_0 : List UInt8 := [3, 61, 3, 62, 29, 42, 180, 0, 66, 162, 0, 31, 28, 42, 180, 0, 23, 29, 46, 27, 160, 0, 11, 42]
abbrev dktX3_productsOf_0 : List UInt8 := dkwX3_productsOf_0 ++ dktX3_productsOf_1
theorem dksX3_productsOf_0 : cX3_productsOf.data.toList.drop 0 = dktX3_productsOf_0 := by decide +kernel
theorem dksX3_productsOf_1 : cX3_productsOf.data.toList.drop 24 = dktX3_productsOf_1 := dk_seg dksX3_productsOf_0 24 rfl rfl
theorem dX3_productsOf_0 : decode cX3_productsOf 0 = .ok (.iconst 0, 1) := dk_3 (dk_at dksX3_productsOf_0 0 rfl rfl)
theorem dX3_productsOf_1 : decode cX3_productsOf 1 = .ok (.istore_n 2, 1) := dk_61 (dk_at dksX3_productsOf_0 1 rfl rfl)
theorem dX3_productsOf_2 : decode cX3_productsOf 2 = .ok (.iconst 0, 1) := dk_3 (dk_at dksX3_productsOf_0 2 rfl rfl)
theorem dX3_productsOf_3 : decode cX3_productsOf 3 = .ok (.istore_n 3, 1) := dk_62 (dk_at dksX3_productsOf_0 3 rfl rfl)
theorem dX3_productsOf_4 : decode cX3_productsOf 4 = .ok (.iload_n 3, 1) := dk_29 (dk_at dksX3_productsOf_0 4 rfl rfl)
theorem dX3_productsOf_5 : decode cX3_productsOf 5 = .ok (.aload_n 0, 1) := dk_42 (dk_at dksX3_productsOf_0 5 rfl rfl)
theorem dX3_productsOf_6 : decode cX3_productsOf 6 = .ok (.getfield 66, 3) := dk_180 0 66 (dk_at dksX3_productsOf_0 6 rfl rfl)
theorem dX3_productsOf_9 : decode cX3_productsOf 9 = .ok (.if_icmp .ge 31, 3) := dk_162 0 31 (dk_at dksX3_productsOf_0 9 rfl rfl)
theorem dX3_productsOf_12 : decode cX3_productsOf 12 = .ok (.iload_n 2, 1) := dk_28 (dk_at dksX3_productsOf_0 12 rfl rfl)
theorem dX3_productsOf_13 : decode cX3_productsOf 13 = .ok (.aload_n 0, 1) := dk_42 (dk_at dksX3_productsOf_0 13 rfl rfl)
theorem dX3_productsOf_14 : decode cX3_productsOf 14 = .ok (.getfield 23, 3) := dk_180 0 23 (dk_at dksX3_productsOf_0 14 rfl rfl)
theorem dX3_productsOf_17 : decode cX3_productsOf 17 = .ok (.iload_n 3, 1) := dk_29 (dk_at dksX3_productsOf_0 17 rfl rfl)
theorem dX3_productsOf_18 : decode cX3_productsOf 18 = .ok (.iaload, 1) := dk_46 (dk_at dksX3_productsOf_0 18 rfl rfl)
theorem dX3_productsOf_19 : decode cX3_productsOf 19 = .ok (.iload_n 1, 1) := dk_27 (dk_at dksX3_productsOf_0 19 rfl rfl)
theorem dX3_productsOf_20 : decode cX3_productsOf 20 = .ok (.if_icmp .ne 11, 3) := dk_160 0 11 (dk_at dksX3_productsOf_0 20 rfl rfl)
theorem dX3_productsOf_23 : decode cX3_productsOf 23 = .ok (.aload_n 0, 1) := dk_42 (dk_at dksX3_productsOf_0 23 rfl rfl)
theorem dX3_productsOf_24 : decode cX3_productsOf 24 = .ok (.iload_n 3, 1) := dk_29 (dk_at dksX3_productsOf_1 0 rfl rfl)
theorem dX3_productsOf_25 : decode cX3_productsOf 25 = .ok (.invokevirtual 111, 3) := dk_182 0 111 (dk_at dksX3_productsOf_1 1 rfl rfl)
theorem dX3_productsOf_28 : decode cX3_productsOf 28 = .ok (.goto 4, 3) := dk_167 0 4 (dk_at dksX3_productsOf_1 4 rfl rfl)
theorem dX3_productsOf_31 : decode cX3_productsOf 31 = .ok (.iconst 0, 1) := dk_3 (dk_at dksX3_productsOf_1 7 rfl rfl)
theorem dX3_productsOf_32 : decode cX3_productsOf 32 = .ok (.ior, 1) := dk_128 (dk_at dksX3_productsOf_1 8 rfl rfl)
theorem dX3_productsOf_33 : decode cX3_productsOf 33 = .ok (.istore_n 2, 1) := dk_61 (dk_at dksX3_productsOf_1 9 rfl rfl)
theorem dX3_productsOf_34 : decode cX3_productsOf 34 = .ok (.iinc 3 1, 3) := dk_132 3 1 (dk_at dksX3_productsOf_1 10 rfl rfl)
theorem dX3_productsOf_37 : decode cX3_productsOf 37 = .ok (.goto (-33), 3) := dk_167 255 223 (dk_at dksX3_productsOf_1 13 rfl rfl)
theorem dX3_productsOf_40 : decode cX3_productsOf 40 = .ok (.iload_n 2, 1) := dk_28 (dk_at dksX3_productsOf_1 16 rfl rfl)
theorem dX3_productsOf_41 : decode cX3_productsOf 41 = .ok (.ireturn, 1) := dk_172 (dk_at dksX3_productsOf_1 17 rfl rfl)
abbrev cX3_closeUp : ByteArray := prog_7_method_31_code
def yX3_closeUp : MethodName := ⟨RX3, "closeUp", "(I)V"⟩
def dkwX3_closeUp_2 : List UInt8 := [181, 0, 69, 177]
abbrev dktX3_closeUp_2 : List UInt8 := dkwX3_closeUp_2 ++ []
def dkwX3_closeUp_1 : List UInt8 := [164, 0, 7, 4, 167, 0, 4, 3, 100, 79, 132, 2, 1, 167, 255, 221, 42, 89, 180, 0, 69, 4, 100]
abbrev dktX3_closeUp_1 : List UInt8 := dkwX3_closeUp_1 ++ dktX3_closeUp_2
def dkwX3_closeUp_0 : List UInt8 := [3, 61, 28, 42, 180, 0, 66, 162, 0, 33, 42, 180, 0, 23, 28, 92, 46, 42, 180, 0, 23, 28, 46, 27]
abbrev dktX3_closeUp_0 : List UInt8 := dkwX3_closeUp_0 ++ dktX3_closeUp_1
theorem dksX3_closeUp_0 : cX3_closeUp.data.toList.drop 0 = dktX3_closeUp_0 := by decide +kernel
theorem dksX3_closeUp_1 : cX3_closeUp.data.toList.drop 24 = dktX3_closeUp_1 := dk_seg dksX3_closeUp_0 24 rfl rfl
theorem dksX3_closeUp_2 : cX3_closeUp.data.toList.drop 47 = dktX3_closeUp_2 := dk_seg dksX3_closeUp_1 23 rfl rfl
theorem dX3_closeUp_0 : decode cX3_closeUp 0 = .ok (.iconst 0, 1) := dk_3 (dk_at dksX3_closeUp_0 0 rfl rfl)
theorem dX3_closeUp_1 : decode cX3_closeUp 1 = .ok (.istore_n 2, 1) := dk_61 (dk_at dksX3_closeUp_0 1 rfl rfl)
theorem dX3_closeUp_2 : decode cX3_closeUp 2 = .ok (.iload_n 2, 1) := dk_28 (dk_at dksX3_closeUp_0 2 rfl rfl)
theorem dX3_closeUp_3 : decode cX3_closeUp 3 = .ok (.aload_n 0, 1) := dk_42 (dk_at dksX3_closeUp_0 3 rfl rfl)
theorem dX3_closeUp_4 : decode cX3_closeUp 4 = .ok (.getfield 66, 3) := dk_180 0 66 (dk_at dksX3_closeUp_0 4 rfl rfl)
theorem dX3_closeUp_7 : decode cX3_closeUp 7 = .ok (.if_icmp .ge 33, 3) := dk_162 0 33 (dk_at dksX3_closeUp_0 7 rfl rfl)
theorem dX3_closeUp_10 : decode cX3_closeUp 10 = .ok (.aload_n 0, 1) := dk_42 (dk_at dksX3_closeUp_0 10 rfl rfl)
theorem dX3_closeUp_11 : decode cX3_closeUp 11 = .ok (.getfield 23, 3) := dk_180 0 23 (dk_at dksX3_closeUp_0 11 rfl rfl)
theorem dX3_closeUp_14 : decode cX3_closeUp 14 = .ok (.iload_n 2, 1) := dk_28 (dk_at dksX3_closeUp_0 14 rfl rfl)
theorem dX3_closeUp_15 : decode cX3_closeUp 15 = .ok (.dup2, 1) := dk_92 (dk_at dksX3_closeUp_0 15 rfl rfl)
theorem dX3_closeUp_16 : decode cX3_closeUp 16 = .ok (.iaload, 1) := dk_46 (dk_at dksX3_closeUp_0 16 rfl rfl)
theorem dX3_closeUp_17 : decode cX3_closeUp 17 = .ok (.aload_n 0, 1) := dk_42 (dk_at dksX3_closeUp_0 17 rfl rfl)
theorem dX3_closeUp_18 : decode cX3_closeUp 18 = .ok (.getfield 23, 3) := dk_180 0 23 (dk_at dksX3_closeUp_0 18 rfl rfl)
theorem dX3_closeUp_21 : decode cX3_closeUp 21 = .ok (.iload_n 2, 1) := dk_28 (dk_at dksX3_closeUp_0 21 rfl rfl)
theorem dX3_closeUp_22 : decode cX3_closeUp 22 = .ok (.iaload, 1) := dk_46 (dk_at dksX3_closeUp_0 22 rfl rfl)
theorem dX3_closeUp_23 : decode cX3_closeUp 23 = .ok (.iload_n 1, 1) := dk_27 (dk_at dksX3_closeUp_0 23 rfl rfl)
theorem dX3_closeUp_24 : decode cX3_closeUp 24 = .ok (.if_icmp .le 7, 3) := dk_164 0 7 (dk_at dksX3_closeUp_1 0 rfl rfl)
theorem dX3_closeUp_27 : decode cX3_closeUp 27 = .ok (.iconst 1, 1) := dk_4 (dk_at dksX3_closeUp_1 3 rfl rfl)
theorem dX3_closeUp_28 : decode cX3_closeUp 28 = .ok (.goto 4, 3) := dk_167 0 4 (dk_at dksX3_closeUp_1 4 rfl rfl)
theorem dX3_closeUp_31 : decode cX3_closeUp 31 = .ok (.iconst 0, 1) := dk_3 (dk_at dksX3_closeUp_1 7 rfl rfl)
theorem dX3_closeUp_32 : decode cX3_closeUp 32 = .ok (.isub, 1) := dk_100 (dk_at dksX3_closeUp_1 8 rfl rfl)
theorem dX3_closeUp_33 : decode cX3_closeUp 33 = .ok (.iastore, 1) := dk_79 (dk_at dksX3_closeUp_1 9 rfl rfl)
theorem dX3_closeUp_34 : decode cX3_closeUp 34 = .ok (.iinc 2 1, 3) := dk_132 2 1 (dk_at dksX3_closeUp_1 10 rfl rfl)
theorem dX3_closeUp_37 : decode cX3_closeUp 37 = .ok (.goto (-35), 3) := dk_167 255 221 (dk_at dksX3_closeUp_1 13 rfl rfl)
theorem dX3_closeUp_40 : decode cX3_closeUp 40 = .ok (.aload_n 0, 1) := dk_42 (dk_at dksX3_closeUp_1 16 rfl rfl)
theorem dX3_closeUp_41 : decode cX3_closeUp 41 = .ok (.dup, 1) := dk_89 (dk_at dksX3_closeUp_1 17 rfl rfl)
theorem dX3_closeUp_42 : decode cX3_closeUp 42 = .ok (.getfield 69, 3) := dk_180 0 69 (dk_at dksX3_closeUp_1 18 rfl rfl)
theorem dX3_closeUp_45 : decode cX3_closeUp 45 = .ok (.iconst 1, 1) := dk_4 (dk_at dksX3_closeUp_1 21 rfl rfl)
theorem dX3_closeUp_46 : decode cX3_closeUp 46 = .ok (.isub, 1) := dk_100 (dk_at dksX3_closeUp_1 22 rfl rfl)
theorem dX3_closeUp_47 : decode cX3_closeUp 47 = .ok (.putfield 69, 3) := dk_181 0 69 (dk_at dksX3_closeUp_2 0 rfl rfl)
theorem dX3_closeUp_50 : decode cX3_closeUp 50 = .ok (.return_, 1) := dk_177 (dk_at dksX3_closeUp_2 3 rfl rfl)
abbrev cX3_pick : ByteArray := prog_7_method_34_code
def yX3_pick : MethodName := ⟨RX3, "pick", "(I)I"⟩
def dkwX3_pick_4 : List UInt8 := [28, 96, 181, 0, 137, 42, 27, 182, 0, 123, 28, 172]
abbrev dktX3_pick_4 : List UInt8 := dkwX3_pick_4 ++ []
def dkwX3_pick_3 : List UInt8 := [180, 0, 20, 29, 5, 79, 42, 180, 0, 23, 29, 2, 79, 132, 3, 1, 167, 255, 202, 42, 89, 180, 0, 137]
abbrev dktX3_pick_3 : List UInt8 := dkwX3_pick_3 ++ dktX3_pick_4
def dkwX3_pick_2 : List UInt8 := [160, 0, 36, 42, 89, 180, 0, 133, 42, 42, 29, 182, 0, 111, 182, 0, 114, 133, 97, 181, 0, 133, 42]
abbrev dktX3_pick_2 : List UInt8 := dkwX3_pick_2 ++ dktX3_pick_3
def dkwX3_pick_1 : List UInt8 := [182, 0, 120, 182, 0, 114, 61, 3, 62, 29, 42, 180, 0, 66, 162, 0, 52, 42, 180, 0, 23, 29, 46, 27]
abbrev dktX3_pick_1 : List UInt8 := dkwX3_pick_1 ++ dktX3_pick_2
def dkwX3_pick_0 : List UInt8 := [42, 3, 181, 0, 59, 42, 27, 182, 0, 130, 154, 0, 9, 42, 4, 182, 0, 94, 172, 42, 42, 27]
abbrev dktX3_pick_0 : List UInt8 := dkwX3_pick_0 ++ dktX3_pick_1
theorem dksX3_pick_0 : cX3_pick.data.toList.drop 0 = dktX3_pick_0 := by decide +kernel
theorem dksX3_pick_1 : cX3_pick.data.toList.drop 22 = dktX3_pick_1 := dk_seg dksX3_pick_0 22 rfl rfl
theorem dksX3_pick_2 : cX3_pick.data.toList.drop 46 = dktX3_pick_2 := dk_seg dksX3_pick_1 24 rfl rfl
theorem dksX3_pick_3 : cX3_pick.data.toList.drop 69 = dktX3_pick_3 := dk_seg dksX3_pick_2 23 rfl rfl
theorem dksX3_pick_4 : cX3_pick.data.toList.drop 93 = dktX3_pick_4 := dk_seg dksX3_pick_3 24 rfl rfl
theorem dX3_pick_0 : decode cX3_pick 0 = .ok (.aload_n 0, 1) := dk_42 (dk_at dksX3_pick_0 0 rfl rfl)
theorem dX3_pick_1 : decode cX3_pick 1 = .ok (.iconst 0, 1) := dk_3 (dk_at dksX3_pick_0 1 rfl rfl)
theorem dX3_pick_2 : decode cX3_pick 2 = .ok (.putfield 59, 3) := dk_181 0 59 (dk_at dksX3_pick_0 2 rfl rfl)
theorem dX3_pick_5 : decode cX3_pick 5 = .ok (.aload_n 0, 1) := dk_42 (dk_at dksX3_pick_0 5 rfl rfl)
theorem dX3_pick_6 : decode cX3_pick 6 = .ok (.iload_n 1, 1) := dk_27 (dk_at dksX3_pick_0 6 rfl rfl)
theorem dX3_pick_7 : decode cX3_pick 7 = .ok (.invokevirtual 130, 3) := dk_182 0 130 (dk_at dksX3_pick_0 7 rfl rfl)
theorem dX3_pick_10 : decode cX3_pick 10 = .ok (.ifCond .ne 9, 3) := dk_154 0 9 (dk_at dksX3_pick_0 10 rfl rfl)
theorem dX3_pick_13 : decode cX3_pick 13 = .ok (.aload_n 0, 1) := dk_42 (dk_at dksX3_pick_0 13 rfl rfl)
theorem dX3_pick_14 : decode cX3_pick 14 = .ok (.iconst 1, 1) := dk_4 (dk_at dksX3_pick_0 14 rfl rfl)
theorem dX3_pick_15 : decode cX3_pick 15 = .ok (.invokevirtual 94, 3) := dk_182 0 94 (dk_at dksX3_pick_0 15 rfl rfl)
theorem dX3_pick_18 : decode cX3_pick 18 = .ok (.ireturn, 1) := dk_172 (dk_at dksX3_pick_0 18 rfl rfl)
theorem dX3_pick_19 : decode cX3_pick 19 = .ok (.aload_n 0, 1) := dk_42 (dk_at dksX3_pick_0 19 rfl rfl)
theorem dX3_pick_20 : decode cX3_pick 20 = .ok (.aload_n 0, 1) := dk_42 (dk_at dksX3_pick_0 20 rfl rfl)
theorem dX3_pick_21 : decode cX3_pick 21 = .ok (.iload_n 1, 1) := dk_27 (dk_at dksX3_pick_0 21 rfl rfl)
theorem dX3_pick_22 : decode cX3_pick 22 = .ok (.invokevirtual 120, 3) := dk_182 0 120 (dk_at dksX3_pick_1 0 rfl rfl)
theorem dX3_pick_25 : decode cX3_pick 25 = .ok (.invokevirtual 114, 3) := dk_182 0 114 (dk_at dksX3_pick_1 3 rfl rfl)
theorem dX3_pick_28 : decode cX3_pick 28 = .ok (.istore_n 2, 1) := dk_61 (dk_at dksX3_pick_1 6 rfl rfl)
theorem dX3_pick_29 : decode cX3_pick 29 = .ok (.iconst 0, 1) := dk_3 (dk_at dksX3_pick_1 7 rfl rfl)
theorem dX3_pick_30 : decode cX3_pick 30 = .ok (.istore_n 3, 1) := dk_62 (dk_at dksX3_pick_1 8 rfl rfl)
theorem dX3_pick_31 : decode cX3_pick 31 = .ok (.iload_n 3, 1) := dk_29 (dk_at dksX3_pick_1 9 rfl rfl)
theorem dX3_pick_32 : decode cX3_pick 32 = .ok (.aload_n 0, 1) := dk_42 (dk_at dksX3_pick_1 10 rfl rfl)
theorem dX3_pick_33 : decode cX3_pick 33 = .ok (.getfield 66, 3) := dk_180 0 66 (dk_at dksX3_pick_1 11 rfl rfl)
theorem dX3_pick_36 : decode cX3_pick 36 = .ok (.if_icmp .ge 52, 3) := dk_162 0 52 (dk_at dksX3_pick_1 14 rfl rfl)
theorem dX3_pick_39 : decode cX3_pick 39 = .ok (.aload_n 0, 1) := dk_42 (dk_at dksX3_pick_1 17 rfl rfl)
theorem dX3_pick_40 : decode cX3_pick 40 = .ok (.getfield 23, 3) := dk_180 0 23 (dk_at dksX3_pick_1 18 rfl rfl)
theorem dX3_pick_43 : decode cX3_pick 43 = .ok (.iload_n 3, 1) := dk_29 (dk_at dksX3_pick_1 21 rfl rfl)
theorem dX3_pick_44 : decode cX3_pick 44 = .ok (.iaload, 1) := dk_46 (dk_at dksX3_pick_1 22 rfl rfl)
theorem dX3_pick_45 : decode cX3_pick 45 = .ok (.iload_n 1, 1) := dk_27 (dk_at dksX3_pick_1 23 rfl rfl)
theorem dX3_pick_46 : decode cX3_pick 46 = .ok (.if_icmp .ne 36, 3) := dk_160 0 36 (dk_at dksX3_pick_2 0 rfl rfl)
theorem dX3_pick_49 : decode cX3_pick 49 = .ok (.aload_n 0, 1) := dk_42 (dk_at dksX3_pick_2 3 rfl rfl)
theorem dX3_pick_50 : decode cX3_pick 50 = .ok (.dup, 1) := dk_89 (dk_at dksX3_pick_2 4 rfl rfl)
theorem dX3_pick_51 : decode cX3_pick 51 = .ok (.getfield 133, 3) := dk_180 0 133 (dk_at dksX3_pick_2 5 rfl rfl)
theorem dX3_pick_54 : decode cX3_pick 54 = .ok (.aload_n 0, 1) := dk_42 (dk_at dksX3_pick_2 8 rfl rfl)
theorem dX3_pick_55 : decode cX3_pick 55 = .ok (.aload_n 0, 1) := dk_42 (dk_at dksX3_pick_2 9 rfl rfl)
theorem dX3_pick_56 : decode cX3_pick 56 = .ok (.iload_n 3, 1) := dk_29 (dk_at dksX3_pick_2 10 rfl rfl)
theorem dX3_pick_57 : decode cX3_pick 57 = .ok (.invokevirtual 111, 3) := dk_182 0 111 (dk_at dksX3_pick_2 11 rfl rfl)
theorem dX3_pick_60 : decode cX3_pick 60 = .ok (.invokevirtual 114, 3) := dk_182 0 114 (dk_at dksX3_pick_2 14 rfl rfl)
theorem dX3_pick_63 : decode cX3_pick 63 = .ok (.i2l, 1) := dk_133 (dk_at dksX3_pick_2 17 rfl rfl)
theorem dX3_pick_64 : decode cX3_pick 64 = .ok (.ladd, 1) := dk_97 (dk_at dksX3_pick_2 18 rfl rfl)
theorem dX3_pick_65 : decode cX3_pick 65 = .ok (.putfield 133, 3) := dk_181 0 133 (dk_at dksX3_pick_2 19 rfl rfl)
theorem dX3_pick_68 : decode cX3_pick 68 = .ok (.aload_n 0, 1) := dk_42 (dk_at dksX3_pick_2 22 rfl rfl)
theorem dX3_pick_69 : decode cX3_pick 69 = .ok (.getfield 20, 3) := dk_180 0 20 (dk_at dksX3_pick_3 0 rfl rfl)
theorem dX3_pick_72 : decode cX3_pick 72 = .ok (.iload_n 3, 1) := dk_29 (dk_at dksX3_pick_3 3 rfl rfl)
theorem dX3_pick_73 : decode cX3_pick 73 = .ok (.iconst 2, 1) := dk_5 (dk_at dksX3_pick_3 4 rfl rfl)
theorem dX3_pick_74 : decode cX3_pick 74 = .ok (.iastore, 1) := dk_79 (dk_at dksX3_pick_3 5 rfl rfl)
theorem dX3_pick_75 : decode cX3_pick 75 = .ok (.aload_n 0, 1) := dk_42 (dk_at dksX3_pick_3 6 rfl rfl)
theorem dX3_pick_76 : decode cX3_pick 76 = .ok (.getfield 23, 3) := dk_180 0 23 (dk_at dksX3_pick_3 7 rfl rfl)
theorem dX3_pick_79 : decode cX3_pick 79 = .ok (.iload_n 3, 1) := dk_29 (dk_at dksX3_pick_3 10 rfl rfl)
theorem dX3_pick_80 : decode cX3_pick 80 = .ok (.iconst (-1), 1) := dk_2 (dk_at dksX3_pick_3 11 rfl rfl)
theorem dX3_pick_81 : decode cX3_pick 81 = .ok (.iastore, 1) := dk_79 (dk_at dksX3_pick_3 12 rfl rfl)
theorem dX3_pick_82 : decode cX3_pick 82 = .ok (.iinc 3 1, 3) := dk_132 3 1 (dk_at dksX3_pick_3 13 rfl rfl)
theorem dX3_pick_85 : decode cX3_pick 85 = .ok (.goto (-54), 3) := dk_167 255 202 (dk_at dksX3_pick_3 16 rfl rfl)
theorem dX3_pick_88 : decode cX3_pick 88 = .ok (.aload_n 0, 1) := dk_42 (dk_at dksX3_pick_3 19 rfl rfl)
theorem dX3_pick_89 : decode cX3_pick 89 = .ok (.dup, 1) := dk_89 (dk_at dksX3_pick_3 20 rfl rfl)
theorem dX3_pick_90 : decode cX3_pick 90 = .ok (.getfield 137, 3) := dk_180 0 137 (dk_at dksX3_pick_3 21 rfl rfl)
theorem dX3_pick_93 : decode cX3_pick 93 = .ok (.iload_n 2, 1) := dk_28 (dk_at dksX3_pick_4 0 rfl rfl)
theorem dX3_pick_94 : decode cX3_pick 94 = .ok (.iadd, 1) := dk_96 (dk_at dksX3_pick_4 1 rfl rfl)
theorem dX3_pick_95 : decode cX3_pick 95 = .ok (.putfield 137, 3) := dk_181 0 137 (dk_at dksX3_pick_4 2 rfl rfl)
theorem dX3_pick_98 : decode cX3_pick 98 = .ok (.aload_n 0, 1) := dk_42 (dk_at dksX3_pick_4 5 rfl rfl)
theorem dX3_pick_99 : decode cX3_pick 99 = .ok (.iload_n 1, 1) := dk_27 (dk_at dksX3_pick_4 6 rfl rfl)
theorem dX3_pick_100 : decode cX3_pick 100 = .ok (.invokevirtual 123, 3) := dk_182 0 123 (dk_at dksX3_pick_4 7 rfl rfl)
theorem dX3_pick_103 : decode cX3_pick 103 = .ok (.iload_n 2, 1) := dk_28 (dk_at dksX3_pick_4 10 rfl rfl)
theorem dX3_pick_104 : decode cX3_pick 104 = .ok (.ireturn, 1) := dk_172 (dk_at dksX3_pick_4 11 rfl rfl)
abbrev cX3_isBatch : ByteArray := prog_7_method_7_code
def yX3_isBatch : MethodName := ⟨RX3, "isBatch", "(I)Z"⟩
def dkwX3_isBatch_0 : List UInt8 := [27, 3, 42, 180, 0, 69, 4, 100, 184, 0, 62, 172]
abbrev dktX3_isBatch_0 : List UInt8 := dkwX3_isBatch_0 ++ []
theorem dksX3_isBatch_0 : cX3_isBatch.data.toList.drop 0 = dktX3_isBatch_0 := by decide +kernel
theorem dX3_isBatch_0 : decode cX3_isBatch 0 = .ok (.iload_n 1, 1) := dk_27 (dk_at dksX3_isBatch_0 0 rfl rfl)
theorem dX3_isBatch_1 : decode cX3_isBatch 1 = .ok (.iconst 0, 1) := dk_3 (dk_at dksX3_isBatch_0 1 rfl rfl)
theorem dX3_isBatch_2 : decode cX3_isBatch 2 = .ok (.aload_n 0, 1) := dk_42 (dk_at dksX3_isBatch_0 2 rfl rfl)
theorem dX3_isBatch_3 : decode cX3_isBatch 3 = .ok (.getfield 69, 3) := dk_180 0 69 (dk_at dksX3_isBatch_0 3 rfl rfl)
theorem dX3_isBatch_6 : decode cX3_isBatch 6 = .ok (.iconst 1, 1) := dk_4 (dk_at dksX3_isBatch_0 6 rfl rfl)
theorem dX3_isBatch_7 : decode cX3_isBatch 7 = .ok (.isub, 1) := dk_100 (dk_at dksX3_isBatch_0 7 rfl rfl)
theorem dX3_isBatch_8 : decode cX3_isBatch 8 = .ok (.invokestatic 62, 3) := dk_184 0 62 (dk_at dksX3_isBatch_0 8 rfl rfl)
theorem dX3_isBatch_11 : decode cX3_isBatch 11 = .ok (.ireturn, 1) := dk_172 (dk_at dksX3_isBatch_0 11 rfl rfl)
abbrev cX3_batches : ByteArray := prog_7_method_35_code
def yX3_batches : MethodName := ⟨RX3, "batches", "()I"⟩
def dkwX3_batches_0 : List UInt8 := [42, 3, 181, 0, 59, 42, 180, 0, 69, 172]
abbrev dktX3_batches_0 : List UInt8 := dkwX3_batches_0 ++ []
theorem dksX3_batches_0 : cX3_batches.data.toList.drop 0 = dktX3_batches_0 := by decide +kernel
theorem dX3_batches_0 : decode cX3_batches 0 = .ok (.aload_n 0, 1) := dk_42 (dk_at dksX3_batches_0 0 rfl rfl)
theorem dX3_batches_1 : decode cX3_batches 1 = .ok (.iconst 0, 1) := dk_3 (dk_at dksX3_batches_0 1 rfl rfl)
theorem dX3_batches_2 : decode cX3_batches 2 = .ok (.putfield 59, 3) := dk_181 0 59 (dk_at dksX3_batches_0 2 rfl rfl)
theorem dX3_batches_5 : decode cX3_batches 5 = .ok (.aload_n 0, 1) := dk_42 (dk_at dksX3_batches_0 5 rfl rfl)
theorem dX3_batches_6 : decode cX3_batches 6 = .ok (.getfield 69, 3) := dk_180 0 69 (dk_at dksX3_batches_0 6 rfl rfl)
theorem dX3_batches_9 : decode cX3_batches 9 = .ok (.ireturn, 1) := dk_172 (dk_at dksX3_batches_0 9 rfl rfl)
abbrev cX3_batchOf : ByteArray := prog_7_method_36_code
def yX3_batchOf : MethodName := ⟨RX3, "batchOf", "(I)I"⟩
def dkwX3_batchOf_1 : List UInt8 := [182, 0, 94, 172]
abbrev dktX3_batchOf_1 : List UInt8 := dkwX3_batchOf_1 ++ []
def dkwX3_batchOf_0 : List UInt8 := [42, 3, 181, 0, 59, 42, 27, 182, 0, 108, 153, 0, 12, 42, 180, 0, 23, 27, 46, 167, 0, 8, 42, 4]
abbrev dktX3_batchOf_0 : List UInt8 := dkwX3_batchOf_0 ++ dktX3_batchOf_1
theorem dksX3_batchOf_0 : cX3_batchOf.data.toList.drop 0 = dktX3_batchOf_0 := by decide +kernel
theorem dksX3_batchOf_1 : cX3_batchOf.data.toList.drop 24 = dktX3_batchOf_1 := dk_seg dksX3_batchOf_0 24 rfl rfl
theorem dX3_batchOf_0 : decode cX3_batchOf 0 = .ok (.aload_n 0, 1) := dk_42 (dk_at dksX3_batchOf_0 0 rfl rfl)
theorem dX3_batchOf_1 : decode cX3_batchOf 1 = .ok (.iconst 0, 1) := dk_3 (dk_at dksX3_batchOf_0 1 rfl rfl)
theorem dX3_batchOf_2 : decode cX3_batchOf 2 = .ok (.putfield 59, 3) := dk_181 0 59 (dk_at dksX3_batchOf_0 2 rfl rfl)
theorem dX3_batchOf_5 : decode cX3_batchOf 5 = .ok (.aload_n 0, 1) := dk_42 (dk_at dksX3_batchOf_0 5 rfl rfl)
theorem dX3_batchOf_6 : decode cX3_batchOf 6 = .ok (.iload_n 1, 1) := dk_27 (dk_at dksX3_batchOf_0 6 rfl rfl)
theorem dX3_batchOf_7 : decode cX3_batchOf 7 = .ok (.invokevirtual 108, 3) := dk_182 0 108 (dk_at dksX3_batchOf_0 7 rfl rfl)
theorem dX3_batchOf_10 : decode cX3_batchOf 10 = .ok (.ifCond .eq 12, 3) := dk_153 0 12 (dk_at dksX3_batchOf_0 10 rfl rfl)
theorem dX3_batchOf_13 : decode cX3_batchOf 13 = .ok (.aload_n 0, 1) := dk_42 (dk_at dksX3_batchOf_0 13 rfl rfl)
theorem dX3_batchOf_14 : decode cX3_batchOf 14 = .ok (.getfield 23, 3) := dk_180 0 23 (dk_at dksX3_batchOf_0 14 rfl rfl)
theorem dX3_batchOf_17 : decode cX3_batchOf 17 = .ok (.iload_n 1, 1) := dk_27 (dk_at dksX3_batchOf_0 17 rfl rfl)
theorem dX3_batchOf_18 : decode cX3_batchOf 18 = .ok (.iaload, 1) := dk_46 (dk_at dksX3_batchOf_0 18 rfl rfl)
theorem dX3_batchOf_19 : decode cX3_batchOf 19 = .ok (.goto 8, 3) := dk_167 0 8 (dk_at dksX3_batchOf_0 19 rfl rfl)
theorem dX3_batchOf_22 : decode cX3_batchOf 22 = .ok (.aload_n 0, 1) := dk_42 (dk_at dksX3_batchOf_0 22 rfl rfl)
theorem dX3_batchOf_23 : decode cX3_batchOf 23 = .ok (.iconst 1, 1) := dk_4 (dk_at dksX3_batchOf_0 23 rfl rfl)
theorem dX3_batchOf_24 : decode cX3_batchOf 24 = .ok (.invokevirtual 94, 3) := dk_182 0 94 (dk_at dksX3_batchOf_1 0 rfl rfl)
theorem dX3_batchOf_27 : decode cX3_batchOf 27 = .ok (.ireturn, 1) := dk_172 (dk_at dksX3_batchOf_1 3 rfl rfl)
abbrev cX3_linesOf : ByteArray := prog_7_method_37_code
def yX3_linesOf : MethodName := ⟨RX3, "linesOf", "(I)I"⟩
def dkwX3_linesOf_1 : List UInt8 := [182, 0, 94, 172]
abbrev dktX3_linesOf_1 : List UInt8 := dkwX3_linesOf_1 ++ []
def dkwX3_linesOf_0 : List UInt8 := [42, 3, 181, 0, 59, 42, 27, 182, 0, 130, 153, 0, 11, 42, 27, 182, 0, 117, 167, 0, 8, 42, 4]
abbrev dktX3_linesOf_0 : List UInt8 := dkwX3_linesOf_0 ++ dktX3_linesOf_1
theorem dksX3_linesOf_0 : cX3_linesOf.data.toList.drop 0 = dktX3_linesOf_0 := by decide +kernel
theorem dksX3_linesOf_1 : cX3_linesOf.data.toList.drop 23 = dktX3_linesOf_1 := dk_seg dksX3_linesOf_0 23 rfl rfl
theorem dX3_linesOf_0 : decode cX3_linesOf 0 = .ok (.aload_n 0, 1) := dk_42 (dk_at dksX3_linesOf_0 0 rfl rfl)
theorem dX3_linesOf_1 : decode cX3_linesOf 1 = .ok (.iconst 0, 1) := dk_3 (dk_at dksX3_linesOf_0 1 rfl rfl)
theorem dX3_linesOf_2 : decode cX3_linesOf 2 = .ok (.putfield 59, 3) := dk_181 0 59 (dk_at dksX3_linesOf_0 2 rfl rfl)
theorem dX3_linesOf_5 : decode cX3_linesOf 5 = .ok (.aload_n 0, 1) := dk_42 (dk_at dksX3_linesOf_0 5 rfl rfl)
theorem dX3_linesOf_6 : decode cX3_linesOf 6 = .ok (.iload_n 1, 1) := dk_27 (dk_at dksX3_linesOf_0 6 rfl rfl)
theorem dX3_linesOf_7 : decode cX3_linesOf 7 = .ok (.invokevirtual 130, 3) := dk_182 0 130 (dk_at dksX3_linesOf_0 7 rfl rfl)
theorem dX3_linesOf_10 : decode cX3_linesOf 10 = .ok (.ifCond .eq 11, 3) := dk_153 0 11 (dk_at dksX3_linesOf_0 10 rfl rfl)
theorem dX3_linesOf_13 : decode cX3_linesOf 13 = .ok (.aload_n 0, 1) := dk_42 (dk_at dksX3_linesOf_0 13 rfl rfl)
theorem dX3_linesOf_14 : decode cX3_linesOf 14 = .ok (.iload_n 1, 1) := dk_27 (dk_at dksX3_linesOf_0 14 rfl rfl)
theorem dX3_linesOf_15 : decode cX3_linesOf 15 = .ok (.invokevirtual 117, 3) := dk_182 0 117 (dk_at dksX3_linesOf_0 15 rfl rfl)
theorem dX3_linesOf_18 : decode cX3_linesOf 18 = .ok (.goto 8, 3) := dk_167 0 8 (dk_at dksX3_linesOf_0 18 rfl rfl)
theorem dX3_linesOf_21 : decode cX3_linesOf 21 = .ok (.aload_n 0, 1) := dk_42 (dk_at dksX3_linesOf_0 21 rfl rfl)
theorem dX3_linesOf_22 : decode cX3_linesOf 22 = .ok (.iconst 1, 1) := dk_4 (dk_at dksX3_linesOf_0 22 rfl rfl)
theorem dX3_linesOf_23 : decode cX3_linesOf 23 = .ok (.invokevirtual 94, 3) := dk_182 0 94 (dk_at dksX3_linesOf_1 0 rfl rfl)
theorem dX3_linesOf_26 : decode cX3_linesOf 26 = .ok (.ireturn, 1) := dk_172 (dk_at dksX3_linesOf_1 3 rfl rfl)
abbrev cX3_lengthOf : ByteArray := prog_7_method_38_code
def yX3_lengthOf : MethodName := ⟨RX3, "lengthOf", "(I)I"⟩
def dkwX3_lengthOf_1 : List UInt8 := [167, 0, 8, 42, 4, 182, 0, 94, 172]
abbrev dktX3_lengthOf_1 : List UInt8 := dkwX3_lengthOf_1 ++ []
def dkwX3_lengthOf_0 : List UInt8 := [42, 3, 181, 0, 59, 42, 27, 182, 0, 130, 153, 0, 15, 42, 42, 27, 182, 0, 120, 182, 0, 114]
abbrev dktX3_lengthOf_0 : List UInt8 := dkwX3_lengthOf_0 ++ dktX3_lengthOf_1
theorem dksX3_lengthOf_0 : cX3_lengthOf.data.toList.drop 0 = dktX3_lengthOf_0 := by decide +kernel
theorem dksX3_lengthOf_1 : cX3_lengthOf.data.toList.drop 22 = dktX3_lengthOf_1 := dk_seg dksX3_lengthOf_0 22 rfl rfl
theorem dX3_lengthOf_0 : decode cX3_lengthOf 0 = .ok (.aload_n 0, 1) := dk_42 (dk_at dksX3_lengthOf_0 0 rfl rfl)
theorem dX3_lengthOf_1 : decode cX3_lengthOf 1 = .ok (.iconst 0, 1) := dk_3 (dk_at dksX3_lengthOf_0 1 rfl rfl)
theorem dX3_lengthOf_2 : decode cX3_lengthOf 2 = .ok (.putfield 59, 3) := dk_181 0 59 (dk_at dksX3_lengthOf_0 2 rfl rfl)
theorem dX3_lengthOf_5 : decode cX3_lengthOf 5 = .ok (.aload_n 0, 1) := dk_42 (dk_at dksX3_lengthOf_0 5 rfl rfl)
theorem dX3_lengthOf_6 : decode cX3_lengthOf 6 = .ok (.iload_n 1, 1) := dk_27 (dk_at dksX3_lengthOf_0 6 rfl rfl)
theorem dX3_lengthOf_7 : decode cX3_lengthOf 7 = .ok (.invokevirtual 130, 3) := dk_182 0 130 (dk_at dksX3_lengthOf_0 7 rfl rfl)
theorem dX3_lengthOf_10 : decode cX3_lengthOf 10 = .ok (.ifCond .eq 15, 3) := dk_153 0 15 (dk_at dksX3_lengthOf_0 10 rfl rfl)
theorem dX3_lengthOf_13 : decode cX3_lengthOf 13 = .ok (.aload_n 0, 1) := dk_42 (dk_at dksX3_lengthOf_0 13 rfl rfl)
theorem dX3_lengthOf_14 : decode cX3_lengthOf 14 = .ok (.aload_n 0, 1) := dk_42 (dk_at dksX3_lengthOf_0 14 rfl rfl)
theorem dX3_lengthOf_15 : decode cX3_lengthOf 15 = .ok (.iload_n 1, 1) := dk_27 (dk_at dksX3_lengthOf_0 15 rfl rfl)
theorem dX3_lengthOf_16 : decode cX3_lengthOf 16 = .ok (.invokevirtual 120, 3) := dk_182 0 120 (dk_at dksX3_lengthOf_0 16 rfl rfl)
theorem dX3_lengthOf_19 : decode cX3_lengthOf 19 = .ok (.invokevirtual 114, 3) := dk_182 0 114 (dk_at dksX3_lengthOf_0 19 rfl rfl)
theorem dX3_lengthOf_22 : decode cX3_lengthOf 22 = .ok (.goto 8, 3) := dk_167 0 8 (dk_at dksX3_lengthOf_1 0 rfl rfl)
theorem dX3_lengthOf_25 : decode cX3_lengthOf 25 = .ok (.aload_n 0, 1) := dk_42 (dk_at dksX3_lengthOf_1 3 rfl rfl)
theorem dX3_lengthOf_26 : decode cX3_lengthOf 26 = .ok (.iconst 1, 1) := dk_4 (dk_at dksX3_lengthOf_1 4 rfl rfl)
theorem dX3_lengthOf_27 : decode cX3_lengthOf 27 = .ok (.invokevirtual 94, 3) := dk_182 0 94 (dk_at dksX3_lengthOf_1 5 rfl rfl)
theorem dX3_lengthOf_30 : decode cX3_lengthOf 30 = .ok (.ireturn, 1) := dk_172 (dk_at dksX3_lengthOf_1 8 rfl rfl)
abbrev cX3_lengthByTrying : ByteArray := prog_7_method_39_code
def yX3_lengthByTrying : MethodName := ⟨RX3, "lengthByTrying", "(I)I"⟩
def dkwX3_lengthByTrying_2 : List UInt8 := [28, 172]
abbrev dktX3_lengthByTrying_2 : List UInt8 := dkwX3_lengthByTrying_2 ++ []
def dkwX3_lengthByTrying_1 : List UInt8 := [182, 0, 120, 182, 0, 114, 61, 42, 180, 0, 76, 16, 7, 164, 0, 11, 42, 5, 182, 0, 94, 167, 0, 4]
abbrev dktX3_lengthByTrying_1 : List UInt8 := dkwX3_lengthByTrying_1 ++ dktX3_lengthByTrying_2
def dkwX3_lengthByTrying_0 : List UInt8 := [42, 3, 181, 0, 59, 42, 27, 182, 0, 130, 154, 0, 9, 42, 4, 182, 0, 94, 172, 42, 42, 27]
abbrev dktX3_lengthByTrying_0 : List UInt8 := dkwX3_lengthByTrying_0 ++ dktX3_lengthByTrying_1
theorem dksX3_lengthByTrying_0 : cX3_lengthByTrying.data.toList.drop 0 = dktX3_lengthByTrying_0 := by decide +kernel
theorem dksX3_lengthByTrying_1 : cX3_lengthByTrying.data.toList.drop 22 = dktX3_lengthByTrying_1 := dk_seg dksX3_lengthByTrying_0 22 rfl rfl
theorem dksX3_lengthByTrying_2 : cX3_lengthByTrying.data.toList.drop 46 = dktX3_lengthByTrying_2 := dk_seg dksX3_lengthByTrying_1 24 rfl rfl
theorem dX3_lengthByTrying_0 : decode cX3_lengthByTrying 0 = .ok (.aload_n 0, 1) := dk_42 (dk_at dksX3_lengthByTrying_0 0 rfl rfl)
theorem dX3_lengthByTrying_1 : decode cX3_lengthByTrying 1 = .ok (.iconst 0, 1) := dk_3 (dk_at dksX3_lengthByTrying_0 1 rfl rfl)
theorem dX3_lengthByTrying_2 : decode cX3_lengthByTrying 2 = .ok (.putfield 59, 3) := dk_181 0 59 (dk_at dksX3_lengthByTrying_0 2 rfl rfl)
theorem dX3_lengthByTrying_5 : decode cX3_lengthByTrying 5 = .ok (.aload_n 0, 1) := dk_42 (dk_at dksX3_lengthByTrying_0 5 rfl rfl)
theorem dX3_lengthByTrying_6 : decode cX3_lengthByTrying 6 = .ok (.iload_n 1, 1) := dk_27 (dk_at dksX3_lengthByTrying_0 6 rfl rfl)
theorem dX3_lengthByTrying_7 : decode cX3_lengthByTrying 7 = .ok (.invokevirtual 130, 3) := dk_182 0 130 (dk_at dksX3_lengthByTrying_0 7 rfl rfl)
theorem dX3_lengthByTrying_10 : decode cX3_lengthByTrying 10 = .ok (.ifCond .ne 9, 3) := dk_154 0 9 (dk_at dksX3_lengthByTrying_0 10 rfl rfl)
theorem dX3_lengthByTrying_13 : decode cX3_lengthByTrying 13 = .ok (.aload_n 0, 1) := dk_42 (dk_at dksX3_lengthByTrying_0 13 rfl rfl)
theorem dX3_lengthByTrying_14 : decode cX3_lengthByTrying 14 = .ok (.iconst 1, 1) := dk_4 (dk_at dksX3_lengthByTrying_0 14 rfl rfl)
theorem dX3_lengthByTrying_15 : decode cX3_lengthByTrying 15 = .ok (.invokevirtual 94, 3) := dk_182 0 94 (dk_at dksX3_lengthByTrying_0 15 rfl rfl)
theorem dX3_lengthByTrying_18 : decode cX3_lengthByTrying 18 = .ok (.ireturn, 1) := dk_172 (dk_at dksX3_lengthByTrying_0 18 rfl rfl)
theorem dX3_lengthByTrying_19 : decode cX3_lengthByTrying 19 = .ok (.aload_n 0, 1) := dk_42 (dk_at dksX3_lengthByTrying_0 19 rfl rfl)
theorem dX3_lengthByTrying_20 : decode cX3_lengthByTrying 20 = .ok (.aload_n 0, 1) := dk_42 (dk_at dksX3_lengthByTrying_0 20 rfl rfl)
theorem dX3_lengthByTrying_21 : decode cX3_lengthByTrying 21 = .ok (.iload_n 1, 1) := dk_27 (dk_at dksX3_lengthByTrying_0 21 rfl rfl)
theorem dX3_lengthByTrying_22 : decode cX3_lengthByTrying 22 = .ok (.invokevirtual 120, 3) := dk_182 0 120 (dk_at dksX3_lengthByTrying_1 0 rfl rfl)
theorem dX3_lengthByTrying_25 : decode cX3_lengthByTrying 25 = .ok (.invokevirtual 114, 3) := dk_182 0 114 (dk_at dksX3_lengthByTrying_1 3 rfl rfl)
theorem dX3_lengthByTrying_28 : decode cX3_lengthByTrying 28 = .ok (.istore_n 2, 1) := dk_61 (dk_at dksX3_lengthByTrying_1 6 rfl rfl)
theorem dX3_lengthByTrying_29 : decode cX3_lengthByTrying 29 = .ok (.aload_n 0, 1) := dk_42 (dk_at dksX3_lengthByTrying_1 7 rfl rfl)
theorem dX3_lengthByTrying_30 : decode cX3_lengthByTrying 30 = .ok (.getfield 76, 3) := dk_180 0 76 (dk_at dksX3_lengthByTrying_1 8 rfl rfl)
theorem dX3_lengthByTrying_33 : decode cX3_lengthByTrying 33 = .ok (.bipush 7, 2) := dk_16 7 (dk_at dksX3_lengthByTrying_1 11 rfl rfl)
theorem dX3_lengthByTrying_35 : decode cX3_lengthByTrying 35 = .ok (.if_icmp .le 11, 3) := dk_164 0 11 (dk_at dksX3_lengthByTrying_1 13 rfl rfl)
theorem dX3_lengthByTrying_38 : decode cX3_lengthByTrying 38 = .ok (.aload_n 0, 1) := dk_42 (dk_at dksX3_lengthByTrying_1 16 rfl rfl)
theorem dX3_lengthByTrying_39 : decode cX3_lengthByTrying 39 = .ok (.iconst 2, 1) := dk_5 (dk_at dksX3_lengthByTrying_1 17 rfl rfl)
theorem dX3_lengthByTrying_40 : decode cX3_lengthByTrying 40 = .ok (.invokevirtual 94, 3) := dk_182 0 94 (dk_at dksX3_lengthByTrying_1 18 rfl rfl)
theorem dX3_lengthByTrying_43 : decode cX3_lengthByTrying 43 = .ok (.goto 4, 3) := dk_167 0 4 (dk_at dksX3_lengthByTrying_1 21 rfl rfl)
theorem dX3_lengthByTrying_46 : decode cX3_lengthByTrying 46 = .ok (.iload_n 2, 1) := dk_28 (dk_at dksX3_lengthByTrying_2 0 rfl rfl)
theorem dX3_lengthByTrying_47 : decode cX3_lengthByTrying 47 = .ok (.ireturn, 1) := dk_172 (dk_at dksX3_lengthByTrying_2 1 rfl rfl)
abbrev cX3_lengthThrough : ByteArray := prog_7_method_41_code
def yX3_lengthThrough : MethodName := ⟨RX3, "lengthThrough", "(I)I"⟩
def dkwX3_lengthThrough_5 : List UInt8 := [96, 104, 96, 21, 4, 96, 172]
abbrev dktX3_lengthThrough_5 : List UInt8 := dkwX3_lengthThrough_5 ++ []
def dkwX3_lengthThrough_4 : List UInt8 := [42, 180, 0, 53, 4, 96, 54, 4, 5, 28, 104, 42, 180, 0, 56, 104, 29, 4, 100, 42, 180, 0, 53, 4]
abbrev dktX3_lengthThrough_4 : List UInt8 := dkwX3_lengthThrough_4 ++ dktX3_lengthThrough_5
def dkwX3_lengthThrough_3 : List UInt8 := [132, 4, 1, 167, 255, 209, 29, 5, 112, 4, 160, 0, 14, 5, 42, 27, 28, 182, 0, 140, 104, 167, 0, 9]
abbrev dktX3_lengthThrough_3 : List UInt8 := dkwX3_lengthThrough_3 ++ dktX3_lengthThrough_4
def dkwX3_lengthThrough_2 : List UInt8 := [167, 0, 4, 28, 61, 29, 42, 27, 21, 4, 182, 0, 140, 158, 0, 7, 4, 167, 0, 4, 3, 96, 62]
abbrev dktX3_lengthThrough_2 : List UInt8 := dkwX3_lengthThrough_2 ++ dktX3_lengthThrough_3
def dkwX3_lengthThrough_1 : List UInt8 := [54, 4, 21, 4, 42, 180, 0, 50, 162, 0, 44, 42, 27, 21, 4, 182, 0, 140, 158, 0, 8, 21, 4]
abbrev dktX3_lengthThrough_1 : List UInt8 := dkwX3_lengthThrough_1 ++ dktX3_lengthThrough_2
def dkwX3_lengthThrough_0 : List UInt8 := [42, 3, 181, 0, 59, 42, 27, 182, 0, 130, 154, 0, 9, 42, 4, 182, 0, 94, 172, 3, 61, 3, 62, 3]
abbrev dktX3_lengthThrough_0 : List UInt8 := dkwX3_lengthThrough_0 ++ dktX3_lengthThrough_1
theorem dksX3_lengthThrough_0 : cX3_lengthThrough.data.toList.drop 0 = dktX3_lengthThrough_0 := by decide +kernel
theorem dksX3_lengthThrough_1 : cX3_lengthThrough.data.toList.drop 24 = dktX3_lengthThrough_1 := dk_seg dksX3_lengthThrough_0 24 rfl rfl
theorem dksX3_lengthThrough_2 : cX3_lengthThrough.data.toList.drop 47 = dktX3_lengthThrough_2 := dk_seg dksX3_lengthThrough_1 23 rfl rfl
theorem dksX3_lengthThrough_3 : cX3_lengthThrough.data.toList.drop 70 = dktX3_lengthThrough_3 := dk_seg dksX3_lengthThrough_2 23 rfl rfl
theorem dksX3_lengthThrough_4 : cX3_lengthThrough.data.toList.drop 94 = dktX3_lengthThrough_4 := dk_seg dksX3_lengthThrough_3 24 rfl rfl
theorem dksX3_lengthThrough_5 : cX3_lengthThrough.data.toList.drop 118 = dktX3_lengthThrough_5 := dk_seg dksX3_lengthThrough_4 24 rfl rfl
theorem dX3_lengthThrough_0 : decode cX3_lengthThrough 0 = .ok (.aload_n 0, 1) := dk_42 (dk_at dksX3_lengthThrough_0 0 rfl rfl)
theorem dX3_lengthThrough_1 : decode cX3_lengthThrough 1 = .ok (.iconst 0, 1) := dk_3 (dk_at dksX3_lengthThrough_0 1 rfl rfl)
theorem dX3_lengthThrough_2 : decode cX3_lengthThrough 2 = .ok (.putfield 59, 3) := dk_181 0 59 (dk_at dksX3_lengthThrough_0 2 rfl rfl)
theorem dX3_lengthThrough_5 : decode cX3_lengthThrough 5 = .ok (.aload_n 0, 1) := dk_42 (dk_at dksX3_lengthThrough_0 5 rfl rfl)
theorem dX3_lengthThrough_6 : decode cX3_lengthThrough 6 = .ok (.iload_n 1, 1) := dk_27 (dk_at dksX3_lengthThrough_0 6 rfl rfl)
theorem dX3_lengthThrough_7 : decode cX3_lengthThrough 7 = .ok (.invokevirtual 130, 3) := dk_182 0 130 (dk_at dksX3_lengthThrough_0 7 rfl rfl)
theorem dX3_lengthThrough_10 : decode cX3_lengthThrough 10 = .ok (.ifCond .ne 9, 3) := dk_154 0 9 (dk_at dksX3_lengthThrough_0 10 rfl rfl)
theorem dX3_lengthThrough_13 : decode cX3_lengthThrough 13 = .ok (.aload_n 0, 1) := dk_42 (dk_at dksX3_lengthThrough_0 13 rfl rfl)
theorem dX3_lengthThrough_14 : decode cX3_lengthThrough 14 = .ok (.iconst 1, 1) := dk_4 (dk_at dksX3_lengthThrough_0 14 rfl rfl)
theorem dX3_lengthThrough_15 : decode cX3_lengthThrough 15 = .ok (.invokevirtual 94, 3) := dk_182 0 94 (dk_at dksX3_lengthThrough_0 15 rfl rfl)
theorem dX3_lengthThrough_18 : decode cX3_lengthThrough 18 = .ok (.ireturn, 1) := dk_172 (dk_at dksX3_lengthThrough_0 18 rfl rfl)
theorem dX3_lengthThrough_19 : decode cX3_lengthThrough 19 = .ok (.iconst 0, 1) := dk_3 (dk_at dksX3_lengthThrough_0 19 rfl rfl)
theorem dX3_lengthThrough_20 : decode cX3_lengthThrough 20 = .ok (.istore_n 2, 1) := dk_61 (dk_at dksX3_lengthThrough_0 20 rfl rfl)
theorem dX3_lengthThrough_21 : decode cX3_lengthThrough 21 = .ok (.iconst 0, 1) := dk_3 (dk_at dksX3_lengthThrough_0 21 rfl rfl)
theorem dX3_lengthThrough_22 : decode cX3_lengthThrough 22 = .ok (.istore_n 3, 1) := dk_62 (dk_at dksX3_lengthThrough_0 22 rfl rfl)
theorem dX3_lengthThrough_23 : decode cX3_lengthThrough 23 = .ok (.iconst 0, 1) := dk_3 (dk_at dksX3_lengthThrough_0 23 rfl rfl)
theorem dX3_lengthThrough_24 : decode cX3_lengthThrough 24 = .ok (.istore 4, 2) := dk_54 4 (dk_at dksX3_lengthThrough_1 0 rfl rfl)
theorem dX3_lengthThrough_26 : decode cX3_lengthThrough 26 = .ok (.iload 4, 2) := dk_21 4 (dk_at dksX3_lengthThrough_1 2 rfl rfl)
theorem dX3_lengthThrough_28 : decode cX3_lengthThrough 28 = .ok (.aload_n 0, 1) := dk_42 (dk_at dksX3_lengthThrough_1 4 rfl rfl)
theorem dX3_lengthThrough_29 : decode cX3_lengthThrough 29 = .ok (.getfield 50, 3) := dk_180 0 50 (dk_at dksX3_lengthThrough_1 5 rfl rfl)
theorem dX3_lengthThrough_32 : decode cX3_lengthThrough 32 = .ok (.if_icmp .ge 44, 3) := dk_162 0 44 (dk_at dksX3_lengthThrough_1 8 rfl rfl)
theorem dX3_lengthThrough_35 : decode cX3_lengthThrough 35 = .ok (.aload_n 0, 1) := dk_42 (dk_at dksX3_lengthThrough_1 11 rfl rfl)
theorem dX3_lengthThrough_36 : decode cX3_lengthThrough 36 = .ok (.iload_n 1, 1) := dk_27 (dk_at dksX3_lengthThrough_1 12 rfl rfl)
theorem dX3_lengthThrough_37 : decode cX3_lengthThrough 37 = .ok (.iload 4, 2) := dk_21 4 (dk_at dksX3_lengthThrough_1 13 rfl rfl)
theorem dX3_lengthThrough_39 : decode cX3_lengthThrough 39 = .ok (.invokevirtual 140, 3) := dk_182 0 140 (dk_at dksX3_lengthThrough_1 15 rfl rfl)
theorem dX3_lengthThrough_42 : decode cX3_lengthThrough 42 = .ok (.ifCond .le 8, 3) := dk_158 0 8 (dk_at dksX3_lengthThrough_1 18 rfl rfl)
theorem dX3_lengthThrough_45 : decode cX3_lengthThrough 45 = .ok (.iload 4, 2) := dk_21 4 (dk_at dksX3_lengthThrough_1 21 rfl rfl)
theorem dX3_lengthThrough_47 : decode cX3_lengthThrough 47 = .ok (.goto 4, 3) := dk_167 0 4 (dk_at dksX3_lengthThrough_2 0 rfl rfl)
theorem dX3_lengthThrough_50 : decode cX3_lengthThrough 50 = .ok (.iload_n 2, 1) := dk_28 (dk_at dksX3_lengthThrough_2 3 rfl rfl)
theorem dX3_lengthThrough_51 : decode cX3_lengthThrough 51 = .ok (.istore_n 2, 1) := dk_61 (dk_at dksX3_lengthThrough_2 4 rfl rfl)
theorem dX3_lengthThrough_52 : decode cX3_lengthThrough 52 = .ok (.iload_n 3, 1) := dk_29 (dk_at dksX3_lengthThrough_2 5 rfl rfl)
theorem dX3_lengthThrough_53 : decode cX3_lengthThrough 53 = .ok (.aload_n 0, 1) := dk_42 (dk_at dksX3_lengthThrough_2 6 rfl rfl)
theorem dX3_lengthThrough_54 : decode cX3_lengthThrough 54 = .ok (.iload_n 1, 1) := dk_27 (dk_at dksX3_lengthThrough_2 7 rfl rfl)
theorem dX3_lengthThrough_55 : decode cX3_lengthThrough 55 = .ok (.iload 4, 2) := dk_21 4 (dk_at dksX3_lengthThrough_2 8 rfl rfl)
theorem dX3_lengthThrough_57 : decode cX3_lengthThrough 57 = .ok (.invokevirtual 140, 3) := dk_182 0 140 (dk_at dksX3_lengthThrough_2 10 rfl rfl)
theorem dX3_lengthThrough_60 : decode cX3_lengthThrough 60 = .ok (.ifCond .le 7, 3) := dk_158 0 7 (dk_at dksX3_lengthThrough_2 13 rfl rfl)
theorem dX3_lengthThrough_63 : decode cX3_lengthThrough 63 = .ok (.iconst 1, 1) := dk_4 (dk_at dksX3_lengthThrough_2 16 rfl rfl)
theorem dX3_lengthThrough_64 : decode cX3_lengthThrough 64 = .ok (.goto 4, 3) := dk_167 0 4 (dk_at dksX3_lengthThrough_2 17 rfl rfl)
theorem dX3_lengthThrough_67 : decode cX3_lengthThrough 67 = .ok (.iconst 0, 1) := dk_3 (dk_at dksX3_lengthThrough_2 20 rfl rfl)
theorem dX3_lengthThrough_68 : decode cX3_lengthThrough 68 = .ok (.iadd, 1) := dk_96 (dk_at dksX3_lengthThrough_2 21 rfl rfl)
theorem dX3_lengthThrough_69 : decode cX3_lengthThrough 69 = .ok (.istore_n 3, 1) := dk_62 (dk_at dksX3_lengthThrough_2 22 rfl rfl)
theorem dX3_lengthThrough_70 : decode cX3_lengthThrough 70 = .ok (.iinc 4 1, 3) := dk_132 4 1 (dk_at dksX3_lengthThrough_3 0 rfl rfl)
theorem dX3_lengthThrough_73 : decode cX3_lengthThrough 73 = .ok (.goto (-47), 3) := dk_167 255 209 (dk_at dksX3_lengthThrough_3 3 rfl rfl)
theorem dX3_lengthThrough_76 : decode cX3_lengthThrough 76 = .ok (.iload_n 3, 1) := dk_29 (dk_at dksX3_lengthThrough_3 6 rfl rfl)
theorem dX3_lengthThrough_77 : decode cX3_lengthThrough 77 = .ok (.iconst 2, 1) := dk_5 (dk_at dksX3_lengthThrough_3 7 rfl rfl)
theorem dX3_lengthThrough_78 : decode cX3_lengthThrough 78 = .ok (.irem, 1) := dk_112 (dk_at dksX3_lengthThrough_3 8 rfl rfl)
theorem dX3_lengthThrough_79 : decode cX3_lengthThrough 79 = .ok (.iconst 1, 1) := dk_4 (dk_at dksX3_lengthThrough_3 9 rfl rfl)
theorem dX3_lengthThrough_80 : decode cX3_lengthThrough 80 = .ok (.if_icmp .ne 14, 3) := dk_160 0 14 (dk_at dksX3_lengthThrough_3 10 rfl rfl)
theorem dX3_lengthThrough_83 : decode cX3_lengthThrough 83 = .ok (.iconst 2, 1) := dk_5 (dk_at dksX3_lengthThrough_3 13 rfl rfl)
theorem dX3_lengthThrough_84 : decode cX3_lengthThrough 84 = .ok (.aload_n 0, 1) := dk_42 (dk_at dksX3_lengthThrough_3 14 rfl rfl)
theorem dX3_lengthThrough_85 : decode cX3_lengthThrough 85 = .ok (.iload_n 1, 1) := dk_27 (dk_at dksX3_lengthThrough_3 15 rfl rfl)
theorem dX3_lengthThrough_86 : decode cX3_lengthThrough 86 = .ok (.iload_n 2, 1) := dk_28 (dk_at dksX3_lengthThrough_3 16 rfl rfl)
theorem dX3_lengthThrough_87 : decode cX3_lengthThrough 87 = .ok (.invokevirtual 140, 3) := dk_182 0 140 (dk_at dksX3_lengthThrough_3 17 rfl rfl)
theorem dX3_lengthThrough_90 : decode cX3_lengthThrough 90 = .ok (.imul, 1) := dk_104 (dk_at dksX3_lengthThrough_3 20 rfl rfl)
theorem dX3_lengthThrough_91 : decode cX3_lengthThrough 91 = .ok (.goto 9, 3) := dk_167 0 9 (dk_at dksX3_lengthThrough_3 21 rfl rfl)
theorem dX3_lengthThrough_94 : decode cX3_lengthThrough 94 = .ok (.aload_n 0, 1) := dk_42 (dk_at dksX3_lengthThrough_4 0 rfl rfl)
theorem dX3_lengthThrough_95 : decode cX3_lengthThrough 95 = .ok (.getfield 53, 3) := dk_180 0 53 (dk_at dksX3_lengthThrough_4 1 rfl rfl)
theorem dX3_lengthThrough_98 : decode cX3_lengthThrough 98 = .ok (.iconst 1, 1) := dk_4 (dk_at dksX3_lengthThrough_4 4 rfl rfl)
theorem dX3_lengthThrough_99 : decode cX3_lengthThrough 99 = .ok (.iadd, 1) := dk_96 (dk_at dksX3_lengthThrough_4 5 rfl rfl)
theorem dX3_lengthThrough_100 : decode cX3_lengthThrough 100 = .ok (.istore 4, 2) := dk_54 4 (dk_at dksX3_lengthThrough_4 6 rfl rfl)
theorem dX3_lengthThrough_102 : decode cX3_lengthThrough 102 = .ok (.iconst 2, 1) := dk_5 (dk_at dksX3_lengthThrough_4 8 rfl rfl)
theorem dX3_lengthThrough_103 : decode cX3_lengthThrough 103 = .ok (.iload_n 2, 1) := dk_28 (dk_at dksX3_lengthThrough_4 9 rfl rfl)
theorem dX3_lengthThrough_104 : decode cX3_lengthThrough 104 = .ok (.imul, 1) := dk_104 (dk_at dksX3_lengthThrough_4 10 rfl rfl)
theorem dX3_lengthThrough_105 : decode cX3_lengthThrough 105 = .ok (.aload_n 0, 1) := dk_42 (dk_at dksX3_lengthThrough_4 11 rfl rfl)
theorem dX3_lengthThrough_106 : decode cX3_lengthThrough 106 = .ok (.getfield 56, 3) := dk_180 0 56 (dk_at dksX3_lengthThrough_4 12 rfl rfl)
theorem dX3_lengthThrough_109 : decode cX3_lengthThrough 109 = .ok (.imul, 1) := dk_104 (dk_at dksX3_lengthThrough_4 15 rfl rfl)
theorem dX3_lengthThrough_110 : decode cX3_lengthThrough 110 = .ok (.iload_n 3, 1) := dk_29 (dk_at dksX3_lengthThrough_4 16 rfl rfl)
theorem dX3_lengthThrough_111 : decode cX3_lengthThrough 111 = .ok (.iconst 1, 1) := dk_4 (dk_at dksX3_lengthThrough_4 17 rfl rfl)
theorem dX3_lengthThrough_112 : decode cX3_lengthThrough 112 = .ok (.isub, 1) := dk_100 (dk_at dksX3_lengthThrough_4 18 rfl rfl)
theorem dX3_lengthThrough_113 : decode cX3_lengthThrough 113 = .ok (.aload_n 0, 1) := dk_42 (dk_at dksX3_lengthThrough_4 19 rfl rfl)
theorem dX3_lengthThrough_114 : decode cX3_lengthThrough 114 = .ok (.getfield 53, 3) := dk_180 0 53 (dk_at dksX3_lengthThrough_4 20 rfl rfl)
theorem dX3_lengthThrough_117 : decode cX3_lengthThrough 117 = .ok (.iconst 1, 1) := dk_4 (dk_at dksX3_lengthThrough_4 23 rfl rfl)
theorem dX3_lengthThrough_118 : decode cX3_lengthThrough 118 = .ok (.iadd, 1) := dk_96 (dk_at dksX3_lengthThrough_5 0 rfl rfl)
theorem dX3_lengthThrough_119 : decode cX3_lengthThrough 119 = .ok (.imul, 1) := dk_104 (dk_at dksX3_lengthThrough_5 1 rfl rfl)
theorem dX3_lengthThrough_120 : decode cX3_lengthThrough 120 = .ok (.iadd, 1) := dk_96 (dk_at dksX3_lengthThrough_5 2 rfl rfl)
theorem dX3_lengthThrough_121 : decode cX3_lengthThrough 121 = .ok (.iload 4, 2) := dk_21 4 (dk_at dksX3_lengthThrough_5 3 rfl rfl)
theorem dX3_lengthThrough_123 : decode cX3_lengthThrough 123 = .ok (.iadd, 1) := dk_96 (dk_at dksX3_lengthThrough_5 5 rfl rfl)
theorem dX3_lengthThrough_124 : decode cX3_lengthThrough 124 = .ok (.ireturn, 1) := dk_172 (dk_at dksX3_lengthThrough_5 6 rfl rfl)
abbrev cX3_farthest : ByteArray := prog_7_method_40_code
def yX3_farthest : MethodName := ⟨RX3, "farthest", "(II)I"⟩
def dkwX3_farthest_4 : List UInt8 := [172]
abbrev dktX3_farthest_4 : List UInt8 := dkwX3_farthest_4 ++ []
def dkwX3_farthest_3 : List UInt8 := [180, 0, 13, 21, 5, 46, 16, 100, 112, 167, 0, 5, 21, 4, 54, 4, 132, 5, 1, 167, 255, 178, 21, 4]
abbrev dktX3_farthest_3 : List UInt8 := dkwX3_farthest_3 ++ dktX3_farthest_4
def dkwX3_farthest_2 : List UInt8 := [54, 6, 21, 6, 153, 0, 31, 42, 180, 0, 13, 21, 5, 46, 16, 100, 112, 21, 4, 164, 0, 16, 42]
abbrev dktX3_farthest_2 : List UInt8 := dkwX3_farthest_2 ++ dktX3_farthest_3
def dkwX3_farthest_1 : List UInt8 := [126, 4, 160, 0, 21, 42, 180, 0, 13, 21, 5, 46, 16, 100, 108, 28, 160, 0, 7, 4, 167, 0, 4, 3]
abbrev dktX3_farthest_1 : List UInt8 := dkwX3_farthest_1 ++ dktX3_farthest_2
def dkwX3_farthest_0 : List UInt8 := [42, 27, 182, 0, 120, 62, 3, 54, 4, 3, 54, 5, 21, 5, 16, 20, 162, 0, 77, 29, 21, 5, 122, 4]
abbrev dktX3_farthest_0 : List UInt8 := dkwX3_farthest_0 ++ dktX3_farthest_1
theorem dksX3_farthest_0 : cX3_farthest.data.toList.drop 0 = dktX3_farthest_0 := by decide +kernel
theorem dksX3_farthest_1 : cX3_farthest.data.toList.drop 24 = dktX3_farthest_1 := dk_seg dksX3_farthest_0 24 rfl rfl
theorem dksX3_farthest_2 : cX3_farthest.data.toList.drop 48 = dktX3_farthest_2 := dk_seg dksX3_farthest_1 24 rfl rfl
theorem dksX3_farthest_3 : cX3_farthest.data.toList.drop 71 = dktX3_farthest_3 := dk_seg dksX3_farthest_2 23 rfl rfl
theorem dksX3_farthest_4 : cX3_farthest.data.toList.drop 95 = dktX3_farthest_4 := dk_seg dksX3_farthest_3 24 rfl rfl
theorem dX3_farthest_0 : decode cX3_farthest 0 = .ok (.aload_n 0, 1) := dk_42 (dk_at dksX3_farthest_0 0 rfl rfl)
theorem dX3_farthest_1 : decode cX3_farthest 1 = .ok (.iload_n 1, 1) := dk_27 (dk_at dksX3_farthest_0 1 rfl rfl)
theorem dX3_farthest_2 : decode cX3_farthest 2 = .ok (.invokevirtual 120, 3) := dk_182 0 120 (dk_at dksX3_farthest_0 2 rfl rfl)
theorem dX3_farthest_5 : decode cX3_farthest 5 = .ok (.istore_n 3, 1) := dk_62 (dk_at dksX3_farthest_0 5 rfl rfl)
theorem dX3_farthest_6 : decode cX3_farthest 6 = .ok (.iconst 0, 1) := dk_3 (dk_at dksX3_farthest_0 6 rfl rfl)
theorem dX3_farthest_7 : decode cX3_farthest 7 = .ok (.istore 4, 2) := dk_54 4 (dk_at dksX3_farthest_0 7 rfl rfl)
theorem dX3_farthest_9 : decode cX3_farthest 9 = .ok (.iconst 0, 1) := dk_3 (dk_at dksX3_farthest_0 9 rfl rfl)
theorem dX3_farthest_10 : decode cX3_farthest 10 = .ok (.istore 5, 2) := dk_54 5 (dk_at dksX3_farthest_0 10 rfl rfl)
theorem dX3_farthest_12 : decode cX3_farthest 12 = .ok (.iload 5, 2) := dk_21 5 (dk_at dksX3_farthest_0 12 rfl rfl)
theorem dX3_farthest_14 : decode cX3_farthest 14 = .ok (.bipush 20, 2) := dk_16 20 (dk_at dksX3_farthest_0 14 rfl rfl)
theorem dX3_farthest_16 : decode cX3_farthest 16 = .ok (.if_icmp .ge 77, 3) := dk_162 0 77 (dk_at dksX3_farthest_0 16 rfl rfl)
theorem dX3_farthest_19 : decode cX3_farthest 19 = .ok (.iload_n 3, 1) := dk_29 (dk_at dksX3_farthest_0 19 rfl rfl)
theorem dX3_farthest_20 : decode cX3_farthest 20 = .ok (.iload 5, 2) := dk_21 5 (dk_at dksX3_farthest_0 20 rfl rfl)
theorem dX3_farthest_22 : decode cX3_farthest 22 = .ok (.ishr, 1) := dk_122 (dk_at dksX3_farthest_0 22 rfl rfl)
theorem dX3_farthest_23 : decode cX3_farthest 23 = .ok (.iconst 1, 1) := dk_4 (dk_at dksX3_farthest_0 23 rfl rfl)
theorem dX3_farthest_24 : decode cX3_farthest 24 = .ok (.iand, 1) := dk_126 (dk_at dksX3_farthest_1 0 rfl rfl)
theorem dX3_farthest_25 : decode cX3_farthest 25 = .ok (.iconst 1, 1) := dk_4 (dk_at dksX3_farthest_1 1 rfl rfl)
theorem dX3_farthest_26 : decode cX3_farthest 26 = .ok (.if_icmp .ne 21, 3) := dk_160 0 21 (dk_at dksX3_farthest_1 2 rfl rfl)
theorem dX3_farthest_29 : decode cX3_farthest 29 = .ok (.aload_n 0, 1) := dk_42 (dk_at dksX3_farthest_1 5 rfl rfl)
theorem dX3_farthest_30 : decode cX3_farthest 30 = .ok (.getfield 13, 3) := dk_180 0 13 (dk_at dksX3_farthest_1 6 rfl rfl)
theorem dX3_farthest_33 : decode cX3_farthest 33 = .ok (.iload 5, 2) := dk_21 5 (dk_at dksX3_farthest_1 9 rfl rfl)
theorem dX3_farthest_35 : decode cX3_farthest 35 = .ok (.iaload, 1) := dk_46 (dk_at dksX3_farthest_1 11 rfl rfl)
theorem dX3_farthest_36 : decode cX3_farthest 36 = .ok (.bipush 100, 2) := dk_16 100 (dk_at dksX3_farthest_1 12 rfl rfl)
theorem dX3_farthest_38 : decode cX3_farthest 38 = .ok (.idiv, 1) := dk_108 (dk_at dksX3_farthest_1 14 rfl rfl)
theorem dX3_farthest_39 : decode cX3_farthest 39 = .ok (.iload_n 2, 1) := dk_28 (dk_at dksX3_farthest_1 15 rfl rfl)
theorem dX3_farthest_40 : decode cX3_farthest 40 = .ok (.if_icmp .ne 7, 3) := dk_160 0 7 (dk_at dksX3_farthest_1 16 rfl rfl)
theorem dX3_farthest_43 : decode cX3_farthest 43 = .ok (.iconst 1, 1) := dk_4 (dk_at dksX3_farthest_1 19 rfl rfl)
theorem dX3_farthest_44 : decode cX3_farthest 44 = .ok (.goto 4, 3) := dk_167 0 4 (dk_at dksX3_farthest_1 20 rfl rfl)
theorem dX3_farthest_47 : decode cX3_farthest 47 = .ok (.iconst 0, 1) := dk_3 (dk_at dksX3_farthest_1 23 rfl rfl)
theorem dX3_farthest_48 : decode cX3_farthest 48 = .ok (.istore 6, 2) := dk_54 6 (dk_at dksX3_farthest_2 0 rfl rfl)
theorem dX3_farthest_50 : decode cX3_farthest 50 = .ok (.iload 6, 2) := dk_21 6 (dk_at dksX3_farthest_2 2 rfl rfl)
theorem dX3_farthest_52 : decode cX3_farthest 52 = .ok (.ifCond .eq 31, 3) := dk_153 0 31 (dk_at dksX3_farthest_2 4 rfl rfl)
theorem dX3_farthest_55 : decode cX3_farthest 55 = .ok (.aload_n 0, 1) := dk_42 (dk_at dksX3_farthest_2 7 rfl rfl)
theorem dX3_farthest_56 : decode cX3_farthest 56 = .ok (.getfield 13, 3) := dk_180 0 13 (dk_at dksX3_farthest_2 8 rfl rfl)
theorem dX3_farthest_59 : decode cX3_farthest 59 = .ok (.iload 5, 2) := dk_21 5 (dk_at dksX3_farthest_2 11 rfl rfl)
theorem dX3_farthest_61 : decode cX3_farthest 61 = .ok (.iaload, 1) := dk_46 (dk_at dksX3_farthest_2 13 rfl rfl)
theorem dX3_farthest_62 : decode cX3_farthest 62 = .ok (.bipush 100, 2) := dk_16 100 (dk_at dksX3_farthest_2 14 rfl rfl)
theorem dX3_farthest_64 : decode cX3_farthest 64 = .ok (.irem, 1) := dk_112 (dk_at dksX3_farthest_2 16 rfl rfl)
theorem dX3_farthest_65 : decode cX3_farthest 65 = .ok (.iload 4, 2) := dk_21 4 (dk_at dksX3_farthest_2 17 rfl rfl)
theorem dX3_farthest_67 : decode cX3_farthest 67 = .ok (.if_icmp .le 16, 3) := dk_164 0 16 (dk_at dksX3_farthest_2 19 rfl rfl)
theorem dX3_farthest_70 : decode cX3_farthest 70 = .ok (.aload_n 0, 1) := dk_42 (dk_at dksX3_farthest_2 22 rfl rfl)
theorem dX3_farthest_71 : decode cX3_farthest 71 = .ok (.getfield 13, 3) := dk_180 0 13 (dk_at dksX3_farthest_3 0 rfl rfl)
theorem dX3_farthest_74 : decode cX3_farthest 74 = .ok (.iload 5, 2) := dk_21 5 (dk_at dksX3_farthest_3 3 rfl rfl)
theorem dX3_farthest_76 : decode cX3_farthest 76 = .ok (.iaload, 1) := dk_46 (dk_at dksX3_farthest_3 5 rfl rfl)
theorem dX3_farthest_77 : decode cX3_farthest 77 = .ok (.bipush 100, 2) := dk_16 100 (dk_at dksX3_farthest_3 6 rfl rfl)
theorem dX3_farthest_79 : decode cX3_farthest 79 = .ok (.irem, 1) := dk_112 (dk_at dksX3_farthest_3 8 rfl rfl)
theorem dX3_farthest_80 : decode cX3_farthest 80 = .ok (.goto 5, 3) := dk_167 0 5 (dk_at dksX3_farthest_3 9 rfl rfl)
theorem dX3_farthest_83 : decode cX3_farthest 83 = .ok (.iload 4, 2) := dk_21 4 (dk_at dksX3_farthest_3 12 rfl rfl)
theorem dX3_farthest_85 : decode cX3_farthest 85 = .ok (.istore 4, 2) := dk_54 4 (dk_at dksX3_farthest_3 14 rfl rfl)
theorem dX3_farthest_87 : decode cX3_farthest 87 = .ok (.iinc 5 1, 3) := dk_132 5 1 (dk_at dksX3_farthest_3 16 rfl rfl)
theorem dX3_farthest_90 : decode cX3_farthest 90 = .ok (.goto (-78), 3) := dk_167 255 178 (dk_at dksX3_farthest_3 19 rfl rfl)
theorem dX3_farthest_93 : decode cX3_farthest 93 = .ok (.iload 4, 2) := dk_21 4 (dk_at dksX3_farthest_3 22 rfl rfl)
theorem dX3_farthest_95 : decode cX3_farthest 95 = .ok (.ireturn, 1) := dk_172 (dk_at dksX3_farthest_4 0 rfl rfl)
abbrev cX3_stops : ByteArray := prog_7_method_42_code
def yX3_stops : MethodName := ⟨RX3, "stops", "(I)I"⟩
def dkwX3_stops_1 : List UInt8 := [182, 0, 120, 182, 0, 86, 42, 180, 0, 76, 172]
abbrev dktX3_stops_1 : List UInt8 := dkwX3_stops_1 ++ []
def dkwX3_stops_0 : List UInt8 := [42, 3, 181, 0, 59, 42, 27, 182, 0, 130, 154, 0, 9, 42, 4, 182, 0, 94, 172, 42, 42, 27]
abbrev dktX3_stops_0 : List UInt8 := dkwX3_stops_0 ++ dktX3_stops_1
theorem dksX3_stops_0 : cX3_stops.data.toList.drop 0 = dktX3_stops_0 := by decide +kernel
theorem dksX3_stops_1 : cX3_stops.data.toList.drop 22 = dktX3_stops_1 := dk_seg dksX3_stops_0 22 rfl rfl
theorem dX3_stops_0 : decode cX3_stops 0 = .ok (.aload_n 0, 1) := dk_42 (dk_at dksX3_stops_0 0 rfl rfl)
theorem dX3_stops_1 : decode cX3_stops 1 = .ok (.iconst 0, 1) := dk_3 (dk_at dksX3_stops_0 1 rfl rfl)
theorem dX3_stops_2 : decode cX3_stops 2 = .ok (.putfield 59, 3) := dk_181 0 59 (dk_at dksX3_stops_0 2 rfl rfl)
theorem dX3_stops_5 : decode cX3_stops 5 = .ok (.aload_n 0, 1) := dk_42 (dk_at dksX3_stops_0 5 rfl rfl)
theorem dX3_stops_6 : decode cX3_stops 6 = .ok (.iload_n 1, 1) := dk_27 (dk_at dksX3_stops_0 6 rfl rfl)
theorem dX3_stops_7 : decode cX3_stops 7 = .ok (.invokevirtual 130, 3) := dk_182 0 130 (dk_at dksX3_stops_0 7 rfl rfl)
theorem dX3_stops_10 : decode cX3_stops 10 = .ok (.ifCond .ne 9, 3) := dk_154 0 9 (dk_at dksX3_stops_0 10 rfl rfl)
theorem dX3_stops_13 : decode cX3_stops 13 = .ok (.aload_n 0, 1) := dk_42 (dk_at dksX3_stops_0 13 rfl rfl)
theorem dX3_stops_14 : decode cX3_stops 14 = .ok (.iconst 1, 1) := dk_4 (dk_at dksX3_stops_0 14 rfl rfl)
theorem dX3_stops_15 : decode cX3_stops 15 = .ok (.invokevirtual 94, 3) := dk_182 0 94 (dk_at dksX3_stops_0 15 rfl rfl)
theorem dX3_stops_18 : decode cX3_stops 18 = .ok (.ireturn, 1) := dk_172 (dk_at dksX3_stops_0 18 rfl rfl)
theorem dX3_stops_19 : decode cX3_stops 19 = .ok (.aload_n 0, 1) := dk_42 (dk_at dksX3_stops_0 19 rfl rfl)
theorem dX3_stops_20 : decode cX3_stops 20 = .ok (.aload_n 0, 1) := dk_42 (dk_at dksX3_stops_0 20 rfl rfl)
theorem dX3_stops_21 : decode cX3_stops 21 = .ok (.iload_n 1, 1) := dk_27 (dk_at dksX3_stops_0 21 rfl rfl)
theorem dX3_stops_22 : decode cX3_stops 22 = .ok (.invokevirtual 120, 3) := dk_182 0 120 (dk_at dksX3_stops_1 0 rfl rfl)
theorem dX3_stops_25 : decode cX3_stops 25 = .ok (.invokevirtual 86, 3) := dk_182 0 86 (dk_at dksX3_stops_1 3 rfl rfl)
theorem dX3_stops_28 : decode cX3_stops 28 = .ok (.aload_n 0, 1) := dk_42 (dk_at dksX3_stops_1 6 rfl rfl)
theorem dX3_stops_29 : decode cX3_stops 29 = .ok (.getfield 76, 3) := dk_180 0 76 (dk_at dksX3_stops_1 7 rfl rfl)
theorem dX3_stops_32 : decode cX3_stops 32 = .ok (.ireturn, 1) := dk_172 (dk_at dksX3_stops_1 10 rfl rfl)
abbrev cX3_stopAt : ByteArray := prog_7_method_43_code
def yX3_stopAt : MethodName := ⟨RX3, "stopAt", "(II)I"⟩
def dkwX3_stopAt_2 : List UInt8 := [42, 180, 0, 35, 42, 180, 0, 41, 28, 46, 46, 46, 167, 0, 8, 42, 4, 182, 0, 94, 172]
abbrev dktX3_stopAt_2 : List UInt8 := dkwX3_stopAt_2 ++ []
def dkwX3_stopAt_1 : List UInt8 := [182, 0, 120, 182, 0, 143, 28, 3, 42, 180, 0, 76, 4, 100, 184, 0, 62, 153, 0, 22, 42, 180, 0, 13]
abbrev dktX3_stopAt_1 : List UInt8 := dkwX3_stopAt_1 ++ dktX3_stopAt_2
def dkwX3_stopAt_0 : List UInt8 := [42, 3, 181, 0, 59, 42, 27, 182, 0, 130, 154, 0, 9, 42, 4, 182, 0, 94, 172, 42, 42, 27]
abbrev dktX3_stopAt_0 : List UInt8 := dkwX3_stopAt_0 ++ dktX3_stopAt_1
theorem dksX3_stopAt_0 : cX3_stopAt.data.toList.drop 0 = dktX3_stopAt_0 := by decide +kernel
theorem dksX3_stopAt_1 : cX3_stopAt.data.toList.drop 22 = dktX3_stopAt_1 := dk_seg dksX3_stopAt_0 22 rfl rfl
theorem dksX3_stopAt_2 : cX3_stopAt.data.toList.drop 46 = dktX3_stopAt_2 := dk_seg dksX3_stopAt_1 24 rfl rfl
theorem dX3_stopAt_0 : decode cX3_stopAt 0 = .ok (.aload_n 0, 1) := dk_42 (dk_at dksX3_stopAt_0 0 rfl rfl)
theorem dX3_stopAt_1 : decode cX3_stopAt 1 = .ok (.iconst 0, 1) := dk_3 (dk_at dksX3_stopAt_0 1 rfl rfl)
theorem dX3_stopAt_2 : decode cX3_stopAt 2 = .ok (.putfield 59, 3) := dk_181 0 59 (dk_at dksX3_stopAt_0 2 rfl rfl)
theorem dX3_stopAt_5 : decode cX3_stopAt 5 = .ok (.aload_n 0, 1) := dk_42 (dk_at dksX3_stopAt_0 5 rfl rfl)
theorem dX3_stopAt_6 : decode cX3_stopAt 6 = .ok (.iload_n 1, 1) := dk_27 (dk_at dksX3_stopAt_0 6 rfl rfl)
theorem dX3_stopAt_7 : decode cX3_stopAt 7 = .ok (.invokevirtual 130, 3) := dk_182 0 130 (dk_at dksX3_stopAt_0 7 rfl rfl)
theorem dX3_stopAt_10 : decode cX3_stopAt 10 = .ok (.ifCond .ne 9, 3) := dk_154 0 9 (dk_at dksX3_stopAt_0 10 rfl rfl)
theorem dX3_stopAt_13 : decode cX3_stopAt 13 = .ok (.aload_n 0, 1) := dk_42 (dk_at dksX3_stopAt_0 13 rfl rfl)
theorem dX3_stopAt_14 : decode cX3_stopAt 14 = .ok (.iconst 1, 1) := dk_4 (dk_at dksX3_stopAt_0 14 rfl rfl)
theorem dX3_stopAt_15 : decode cX3_stopAt 15 = .ok (.invokevirtual 94, 3) := dk_182 0 94 (dk_at dksX3_stopAt_0 15 rfl rfl)
theorem dX3_stopAt_18 : decode cX3_stopAt 18 = .ok (.ireturn, 1) := dk_172 (dk_at dksX3_stopAt_0 18 rfl rfl)
theorem dX3_stopAt_19 : decode cX3_stopAt 19 = .ok (.aload_n 0, 1) := dk_42 (dk_at dksX3_stopAt_0 19 rfl rfl)
theorem dX3_stopAt_20 : decode cX3_stopAt 20 = .ok (.aload_n 0, 1) := dk_42 (dk_at dksX3_stopAt_0 20 rfl rfl)
theorem dX3_stopAt_21 : decode cX3_stopAt 21 = .ok (.iload_n 1, 1) := dk_27 (dk_at dksX3_stopAt_0 21 rfl rfl)
theorem dX3_stopAt_22 : decode cX3_stopAt 22 = .ok (.invokevirtual 120, 3) := dk_182 0 120 (dk_at dksX3_stopAt_1 0 rfl rfl)
theorem dX3_stopAt_25 : decode cX3_stopAt 25 = .ok (.invokevirtual 143, 3) := dk_182 0 143 (dk_at dksX3_stopAt_1 3 rfl rfl)
theorem dX3_stopAt_28 : decode cX3_stopAt 28 = .ok (.iload_n 2, 1) := dk_28 (dk_at dksX3_stopAt_1 6 rfl rfl)
theorem dX3_stopAt_29 : decode cX3_stopAt 29 = .ok (.iconst 0, 1) := dk_3 (dk_at dksX3_stopAt_1 7 rfl rfl)
theorem dX3_stopAt_30 : decode cX3_stopAt 30 = .ok (.aload_n 0, 1) := dk_42 (dk_at dksX3_stopAt_1 8 rfl rfl)
theorem dX3_stopAt_31 : decode cX3_stopAt 31 = .ok (.getfield 76, 3) := dk_180 0 76 (dk_at dksX3_stopAt_1 9 rfl rfl)
theorem dX3_stopAt_34 : decode cX3_stopAt 34 = .ok (.iconst 1, 1) := dk_4 (dk_at dksX3_stopAt_1 12 rfl rfl)
theorem dX3_stopAt_35 : decode cX3_stopAt 35 = .ok (.isub, 1) := dk_100 (dk_at dksX3_stopAt_1 13 rfl rfl)
theorem dX3_stopAt_36 : decode cX3_stopAt 36 = .ok (.invokestatic 62, 3) := dk_184 0 62 (dk_at dksX3_stopAt_1 14 rfl rfl)
theorem dX3_stopAt_39 : decode cX3_stopAt 39 = .ok (.ifCond .eq 22, 3) := dk_153 0 22 (dk_at dksX3_stopAt_1 17 rfl rfl)
theorem dX3_stopAt_42 : decode cX3_stopAt 42 = .ok (.aload_n 0, 1) := dk_42 (dk_at dksX3_stopAt_1 20 rfl rfl)
theorem dX3_stopAt_43 : decode cX3_stopAt 43 = .ok (.getfield 13, 3) := dk_180 0 13 (dk_at dksX3_stopAt_1 21 rfl rfl)
theorem dX3_stopAt_46 : decode cX3_stopAt 46 = .ok (.aload_n 0, 1) := dk_42 (dk_at dksX3_stopAt_2 0 rfl rfl)
theorem dX3_stopAt_47 : decode cX3_stopAt 47 = .ok (.getfield 35, 3) := dk_180 0 35 (dk_at dksX3_stopAt_2 1 rfl rfl)
theorem dX3_stopAt_50 : decode cX3_stopAt 50 = .ok (.aload_n 0, 1) := dk_42 (dk_at dksX3_stopAt_2 4 rfl rfl)
theorem dX3_stopAt_51 : decode cX3_stopAt 51 = .ok (.getfield 41, 3) := dk_180 0 41 (dk_at dksX3_stopAt_2 5 rfl rfl)
theorem dX3_stopAt_54 : decode cX3_stopAt 54 = .ok (.iload_n 2, 1) := dk_28 (dk_at dksX3_stopAt_2 8 rfl rfl)
theorem dX3_stopAt_55 : decode cX3_stopAt 55 = .ok (.iaload, 1) := dk_46 (dk_at dksX3_stopAt_2 9 rfl rfl)
theorem dX3_stopAt_56 : decode cX3_stopAt 56 = .ok (.iaload, 1) := dk_46 (dk_at dksX3_stopAt_2 10 rfl rfl)
theorem dX3_stopAt_57 : decode cX3_stopAt 57 = .ok (.iaload, 1) := dk_46 (dk_at dksX3_stopAt_2 11 rfl rfl)
theorem dX3_stopAt_58 : decode cX3_stopAt 58 = .ok (.goto 8, 3) := dk_167 0 8 (dk_at dksX3_stopAt_2 12 rfl rfl)
theorem dX3_stopAt_61 : decode cX3_stopAt 61 = .ok (.aload_n 0, 1) := dk_42 (dk_at dksX3_stopAt_2 15 rfl rfl)
theorem dX3_stopAt_62 : decode cX3_stopAt 62 = .ok (.iconst 1, 1) := dk_4 (dk_at dksX3_stopAt_2 16 rfl rfl)
theorem dX3_stopAt_63 : decode cX3_stopAt 63 = .ok (.invokevirtual 94, 3) := dk_182 0 94 (dk_at dksX3_stopAt_2 17 rfl rfl)
theorem dX3_stopAt_66 : decode cX3_stopAt 66 = .ok (.ireturn, 1) := dk_172 (dk_at dksX3_stopAt_2 20 rfl rfl)
abbrev cX3_layPath : ByteArray := prog_7_method_13_code
def yX3_layPath : MethodName := ⟨RX3, "layPath", "(I)V"⟩
def dkwX3_layPath_6 : List UInt8 := [132, 4, 1, 167, 255, 133, 177]
abbrev dktX3_layPath_6 : List UInt8 := dkwX3_layPath_6 ++ []
def dkwX3_layPath_5 : List UInt8 := [167, 255, 178, 42, 180, 0, 41, 21, 4, 21, 5, 79, 28, 4, 21, 5, 120, 100, 61, 21, 5, 62]
abbrev dktX3_layPath_5 : List UInt8 := dkwX3_layPath_5 ++ dktX3_layPath_6
def dkwX3_layPath_4 : List UInt8 := [4, 167, 0, 4, 3, 54, 7, 21, 7, 153, 0, 8, 21, 6, 167, 0, 5, 21, 5, 54, 5, 132, 6, 255]
abbrev dktX3_layPath_4 : List UInt8 := dkwX3_layPath_4 ++ dktX3_layPath_5
def dkwX3_layPath_3 : List UInt8 := [21, 6, 120, 100, 104, 21, 6, 96, 46, 96, 42, 180, 0, 38, 16, 10, 28, 104, 29, 96, 46, 160, 0, 7]
abbrev dktX3_layPath_3 : List UInt8 := dkwX3_layPath_3 ++ dktX3_layPath_4
def dkwX3_layPath_2 : List UInt8 := [21, 6, 122, 4, 126, 4, 160, 0, 46, 42, 29, 21, 6, 182, 0, 83, 42, 180, 0, 38, 16, 10, 28, 4]
abbrev dktX3_layPath_2 : List UInt8 := dkwX3_layPath_2 ++ dktX3_layPath_3
def dkwX3_layPath_1 : List UInt8 := [180, 0, 76, 162, 0, 120, 2, 54, 5, 42, 180, 0, 76, 4, 100, 54, 6, 21, 6, 155, 0, 79, 28]
abbrev dktX3_layPath_1 : List UInt8 := dkwX3_layPath_1 ++ dktX3_layPath_2
def dkwX3_layPath_0 : List UInt8 := [42, 27, 182, 0, 86, 4, 42, 180, 0, 76, 120, 4, 100, 61, 16, 9, 62, 3, 54, 4, 21, 4, 42]
abbrev dktX3_layPath_0 : List UInt8 := dkwX3_layPath_0 ++ dktX3_layPath_1
theorem dksX3_layPath_0 : cX3_layPath.data.toList.drop 0 = dktX3_layPath_0 := by decide +kernel
theorem dksX3_layPath_1 : cX3_layPath.data.toList.drop 23 = dktX3_layPath_1 := dk_seg dksX3_layPath_0 23 rfl rfl
theorem dksX3_layPath_2 : cX3_layPath.data.toList.drop 46 = dktX3_layPath_2 := dk_seg dksX3_layPath_1 23 rfl rfl
theorem dksX3_layPath_3 : cX3_layPath.data.toList.drop 70 = dktX3_layPath_3 := dk_seg dksX3_layPath_2 24 rfl rfl
theorem dksX3_layPath_4 : cX3_layPath.data.toList.drop 94 = dktX3_layPath_4 := dk_seg dksX3_layPath_3 24 rfl rfl
theorem dksX3_layPath_5 : cX3_layPath.data.toList.drop 118 = dktX3_layPath_5 := dk_seg dksX3_layPath_4 24 rfl rfl
theorem dksX3_layPath_6 : cX3_layPath.data.toList.drop 140 = dktX3_layPath_6 := dk_seg dksX3_layPath_5 22 rfl rfl
theorem dX3_layPath_0 : decode cX3_layPath 0 = .ok (.aload_n 0, 1) := dk_42 (dk_at dksX3_layPath_0 0 rfl rfl)
theorem dX3_layPath_1 : decode cX3_layPath 1 = .ok (.iload_n 1, 1) := dk_27 (dk_at dksX3_layPath_0 1 rfl rfl)
theorem dX3_layPath_2 : decode cX3_layPath 2 = .ok (.invokevirtual 86, 3) := dk_182 0 86 (dk_at dksX3_layPath_0 2 rfl rfl)
theorem dX3_layPath_5 : decode cX3_layPath 5 = .ok (.iconst 1, 1) := dk_4 (dk_at dksX3_layPath_0 5 rfl rfl)
theorem dX3_layPath_6 : decode cX3_layPath 6 = .ok (.aload_n 0, 1) := dk_42 (dk_at dksX3_layPath_0 6 rfl rfl)
theorem dX3_layPath_7 : decode cX3_layPath 7 = .ok (.getfield 76, 3) := dk_180 0 76 (dk_at dksX3_layPath_0 7 rfl rfl)
theorem dX3_layPath_10 : decode cX3_layPath 10 = .ok (.ishl, 1) := dk_120 (dk_at dksX3_layPath_0 10 rfl rfl)
theorem dX3_layPath_11 : decode cX3_layPath 11 = .ok (.iconst 1, 1) := dk_4 (dk_at dksX3_layPath_0 11 rfl rfl)
theorem dX3_layPath_12 : decode cX3_layPath 12 = .ok (.isub, 1) := dk_100 (dk_at dksX3_layPath_0 12 rfl rfl)
theorem dX3_layPath_13 : decode cX3_layPath 13 = .ok (.istore_n 2, 1) := dk_61 (dk_at dksX3_layPath_0 13 rfl rfl)
theorem dX3_layPath_14 : decode cX3_layPath 14 = .ok (.bipush 9, 2) := dk_16 9 (dk_at dksX3_layPath_0 14 rfl rfl)
theorem dX3_layPath_16 : decode cX3_layPath 16 = .ok (.istore_n 3, 1) := dk_62 (dk_at dksX3_layPath_0 16 rfl rfl)
theorem dX3_layPath_17 : decode cX3_layPath 17 = .ok (.iconst 0, 1) := dk_3 (dk_at dksX3_layPath_0 17 rfl rfl)
theorem dX3_layPath_18 : decode cX3_layPath 18 = .ok (.istore 4, 2) := dk_54 4 (dk_at dksX3_layPath_0 18 rfl rfl)
theorem dX3_layPath_20 : decode cX3_layPath 20 = .ok (.iload 4, 2) := dk_21 4 (dk_at dksX3_layPath_0 20 rfl rfl)
theorem dX3_layPath_22 : decode cX3_layPath 22 = .ok (.aload_n 0, 1) := dk_42 (dk_at dksX3_layPath_0 22 rfl rfl)
theorem dX3_layPath_23 : decode cX3_layPath 23 = .ok (.getfield 76, 3) := dk_180 0 76 (dk_at dksX3_layPath_1 0 rfl rfl)
theorem dX3_layPath_26 : decode cX3_layPath 26 = .ok (.if_icmp .ge 120, 3) := dk_162 0 120 (dk_at dksX3_layPath_1 3 rfl rfl)
theorem dX3_layPath_29 : decode cX3_layPath 29 = .ok (.iconst (-1), 1) := dk_2 (dk_at dksX3_layPath_1 6 rfl rfl)
theorem dX3_layPath_30 : decode cX3_layPath 30 = .ok (.istore 5, 2) := dk_54 5 (dk_at dksX3_layPath_1 7 rfl rfl)
theorem dX3_layPath_32 : decode cX3_layPath 32 = .ok (.aload_n 0, 1) := dk_42 (dk_at dksX3_layPath_1 9 rfl rfl)
theorem dX3_layPath_33 : decode cX3_layPath 33 = .ok (.getfield 76, 3) := dk_180 0 76 (dk_at dksX3_layPath_1 10 rfl rfl)
theorem dX3_layPath_36 : decode cX3_layPath 36 = .ok (.iconst 1, 1) := dk_4 (dk_at dksX3_layPath_1 13 rfl rfl)
theorem dX3_layPath_37 : decode cX3_layPath 37 = .ok (.isub, 1) := dk_100 (dk_at dksX3_layPath_1 14 rfl rfl)
theorem dX3_layPath_38 : decode cX3_layPath 38 = .ok (.istore 6, 2) := dk_54 6 (dk_at dksX3_layPath_1 15 rfl rfl)
theorem dX3_layPath_40 : decode cX3_layPath 40 = .ok (.iload 6, 2) := dk_21 6 (dk_at dksX3_layPath_1 17 rfl rfl)
theorem dX3_layPath_42 : decode cX3_layPath 42 = .ok (.ifCond .lt 79, 3) := dk_155 0 79 (dk_at dksX3_layPath_1 19 rfl rfl)
theorem dX3_layPath_45 : decode cX3_layPath 45 = .ok (.iload_n 2, 1) := dk_28 (dk_at dksX3_layPath_1 22 rfl rfl)
theorem dX3_layPath_46 : decode cX3_layPath 46 = .ok (.iload 6, 2) := dk_21 6 (dk_at dksX3_layPath_2 0 rfl rfl)
theorem dX3_layPath_48 : decode cX3_layPath 48 = .ok (.ishr, 1) := dk_122 (dk_at dksX3_layPath_2 2 rfl rfl)
theorem dX3_layPath_49 : decode cX3_layPath 49 = .ok (.iconst 1, 1) := dk_4 (dk_at dksX3_layPath_2 3 rfl rfl)
theorem dX3_layPath_50 : decode cX3_layPath 50 = .ok (.iand, 1) := dk_126 (dk_at dksX3_layPath_2 4 rfl rfl)
theorem dX3_layPath_51 : decode cX3_layPath 51 = .ok (.iconst 1, 1) := dk_4 (dk_at dksX3_layPath_2 5 rfl rfl)
theorem dX3_layPath_52 : decode cX3_layPath 52 = .ok (.if_icmp .ne 46, 3) := dk_160 0 46 (dk_at dksX3_layPath_2 6 rfl rfl)
theorem dX3_layPath_55 : decode cX3_layPath 55 = .ok (.aload_n 0, 1) := dk_42 (dk_at dksX3_layPath_2 9 rfl rfl)
theorem dX3_layPath_56 : decode cX3_layPath 56 = .ok (.iload_n 3, 1) := dk_29 (dk_at dksX3_layPath_2 10 rfl rfl)
theorem dX3_layPath_57 : decode cX3_layPath 57 = .ok (.iload 6, 2) := dk_21 6 (dk_at dksX3_layPath_2 11 rfl rfl)
theorem dX3_layPath_59 : decode cX3_layPath 59 = .ok (.invokevirtual 83, 3) := dk_182 0 83 (dk_at dksX3_layPath_2 13 rfl rfl)
theorem dX3_layPath_62 : decode cX3_layPath 62 = .ok (.aload_n 0, 1) := dk_42 (dk_at dksX3_layPath_2 16 rfl rfl)
theorem dX3_layPath_63 : decode cX3_layPath 63 = .ok (.getfield 38, 3) := dk_180 0 38 (dk_at dksX3_layPath_2 17 rfl rfl)
theorem dX3_layPath_66 : decode cX3_layPath 66 = .ok (.bipush 10, 2) := dk_16 10 (dk_at dksX3_layPath_2 20 rfl rfl)
theorem dX3_layPath_68 : decode cX3_layPath 68 = .ok (.iload_n 2, 1) := dk_28 (dk_at dksX3_layPath_2 22 rfl rfl)
theorem dX3_layPath_69 : decode cX3_layPath 69 = .ok (.iconst 1, 1) := dk_4 (dk_at dksX3_layPath_2 23 rfl rfl)
theorem dX3_layPath_70 : decode cX3_layPath 70 = .ok (.iload 6, 2) := dk_21 6 (dk_at dksX3_layPath_3 0 rfl rfl)
theorem dX3_layPath_72 : decode cX3_layPath 72 = .ok (.ishl, 1) := dk_120 (dk_at dksX3_layPath_3 2 rfl rfl)
theorem dX3_layPath_73 : decode cX3_layPath 73 = .ok (.isub, 1) := dk_100 (dk_at dksX3_layPath_3 3 rfl rfl)
theorem dX3_layPath_74 : decode cX3_layPath 74 = .ok (.imul, 1) := dk_104 (dk_at dksX3_layPath_3 4 rfl rfl)
theorem dX3_layPath_75 : decode cX3_layPath 75 = .ok (.iload 6, 2) := dk_21 6 (dk_at dksX3_layPath_3 5 rfl rfl)
theorem dX3_layPath_77 : decode cX3_layPath 77 = .ok (.iadd, 1) := dk_96 (dk_at dksX3_layPath_3 7 rfl rfl)
theorem dX3_layPath_78 : decode cX3_layPath 78 = .ok (.iaload, 1) := dk_46 (dk_at dksX3_layPath_3 8 rfl rfl)
theorem dX3_layPath_79 : decode cX3_layPath 79 = .ok (.iadd, 1) := dk_96 (dk_at dksX3_layPath_3 9 rfl rfl)
theorem dX3_layPath_80 : decode cX3_layPath 80 = .ok (.aload_n 0, 1) := dk_42 (dk_at dksX3_layPath_3 10 rfl rfl)
theorem dX3_layPath_81 : decode cX3_layPath 81 = .ok (.getfield 38, 3) := dk_180 0 38 (dk_at dksX3_layPath_3 11 rfl rfl)
theorem dX3_layPath_84 : decode cX3_layPath 84 = .ok (.bipush 10, 2) := dk_16 10 (dk_at dksX3_layPath_3 14 rfl rfl)
theorem dX3_layPath_86 : decode cX3_layPath 86 = .ok (.iload_n 2, 1) := dk_28 (dk_at dksX3_layPath_3 16 rfl rfl)
theorem dX3_layPath_87 : decode cX3_layPath 87 = .ok (.imul, 1) := dk_104 (dk_at dksX3_layPath_3 17 rfl rfl)
theorem dX3_layPath_88 : decode cX3_layPath 88 = .ok (.iload_n 3, 1) := dk_29 (dk_at dksX3_layPath_3 18 rfl rfl)
theorem dX3_layPath_89 : decode cX3_layPath 89 = .ok (.iadd, 1) := dk_96 (dk_at dksX3_layPath_3 19 rfl rfl)
theorem dX3_layPath_90 : decode cX3_layPath 90 = .ok (.iaload, 1) := dk_46 (dk_at dksX3_layPath_3 20 rfl rfl)
theorem dX3_layPath_91 : decode cX3_layPath 91 = .ok (.if_icmp .ne 7, 3) := dk_160 0 7 (dk_at dksX3_layPath_3 21 rfl rfl)
theorem dX3_layPath_94 : decode cX3_layPath 94 = .ok (.iconst 1, 1) := dk_4 (dk_at dksX3_layPath_4 0 rfl rfl)
theorem dX3_layPath_95 : decode cX3_layPath 95 = .ok (.goto 4, 3) := dk_167 0 4 (dk_at dksX3_layPath_4 1 rfl rfl)
theorem dX3_layPath_98 : decode cX3_layPath 98 = .ok (.iconst 0, 1) := dk_3 (dk_at dksX3_layPath_4 4 rfl rfl)
theorem dX3_layPath_99 : decode cX3_layPath 99 = .ok (.istore 7, 2) := dk_54 7 (dk_at dksX3_layPath_4 5 rfl rfl)
theorem dX3_layPath_101 : decode cX3_layPath 101 = .ok (.iload 7, 2) := dk_21 7 (dk_at dksX3_layPath_4 7 rfl rfl)
theorem dX3_layPath_103 : decode cX3_layPath 103 = .ok (.ifCond .eq 8, 3) := dk_153 0 8 (dk_at dksX3_layPath_4 9 rfl rfl)
theorem dX3_layPath_106 : decode cX3_layPath 106 = .ok (.iload 6, 2) := dk_21 6 (dk_at dksX3_layPath_4 12 rfl rfl)
theorem dX3_layPath_108 : decode cX3_layPath 108 = .ok (.goto 5, 3) := dk_167 0 5 (dk_at dksX3_layPath_4 14 rfl rfl)
theorem dX3_layPath_111 : decode cX3_layPath 111 = .ok (.iload 5, 2) := dk_21 5 (dk_at dksX3_layPath_4 17 rfl rfl)
theorem dX3_layPath_113 : decode cX3_layPath 113 = .ok (.istore 5, 2) := dk_54 5 (dk_at dksX3_layPath_4 19 rfl rfl)
theorem dX3_layPath_115 : decode cX3_layPath 115 = .ok (.iinc 6 (-1), 3) := dk_132 6 255 (dk_at dksX3_layPath_4 21 rfl rfl)
theorem dX3_layPath_118 : decode cX3_layPath 118 = .ok (.goto (-78), 3) := dk_167 255 178 (dk_at dksX3_layPath_5 0 rfl rfl)
theorem dX3_layPath_121 : decode cX3_layPath 121 = .ok (.aload_n 0, 1) := dk_42 (dk_at dksX3_layPath_5 3 rfl rfl)
theorem dX3_layPath_122 : decode cX3_layPath 122 = .ok (.getfield 41, 3) := dk_180 0 41 (dk_at dksX3_layPath_5 4 rfl rfl)
theorem dX3_layPath_125 : decode cX3_layPath 125 = .ok (.iload 4, 2) := dk_21 4 (dk_at dksX3_layPath_5 7 rfl rfl)
theorem dX3_layPath_127 : decode cX3_layPath 127 = .ok (.iload 5, 2) := dk_21 5 (dk_at dksX3_layPath_5 9 rfl rfl)
theorem dX3_layPath_129 : decode cX3_layPath 129 = .ok (.iastore, 1) := dk_79 (dk_at dksX3_layPath_5 11 rfl rfl)
theorem dX3_layPath_130 : decode cX3_layPath 130 = .ok (.iload_n 2, 1) := dk_28 (dk_at dksX3_layPath_5 12 rfl rfl)
theorem dX3_layPath_131 : decode cX3_layPath 131 = .ok (.iconst 1, 1) := dk_4 (dk_at dksX3_layPath_5 13 rfl rfl)
theorem dX3_layPath_132 : decode cX3_layPath 132 = .ok (.iload 5, 2) := dk_21 5 (dk_at dksX3_layPath_5 14 rfl rfl)
theorem dX3_layPath_134 : decode cX3_layPath 134 = .ok (.ishl, 1) := dk_120 (dk_at dksX3_layPath_5 16 rfl rfl)
theorem dX3_layPath_135 : decode cX3_layPath 135 = .ok (.isub, 1) := dk_100 (dk_at dksX3_layPath_5 17 rfl rfl)
theorem dX3_layPath_136 : decode cX3_layPath 136 = .ok (.istore_n 2, 1) := dk_61 (dk_at dksX3_layPath_5 18 rfl rfl)
theorem dX3_layPath_137 : decode cX3_layPath 137 = .ok (.iload 5, 2) := dk_21 5 (dk_at dksX3_layPath_5 19 rfl rfl)
theorem dX3_layPath_139 : decode cX3_layPath 139 = .ok (.istore_n 3, 1) := dk_62 (dk_at dksX3_layPath_5 21 rfl rfl)
theorem dX3_layPath_140 : decode cX3_layPath 140 = .ok (.iinc 4 1, 3) := dk_132 4 1 (dk_at dksX3_layPath_6 0 rfl rfl)
theorem dX3_layPath_143 : decode cX3_layPath 143 = .ok (.goto (-123), 3) := dk_167 255 133 (dk_at dksX3_layPath_6 3 rfl rfl)
theorem dX3_layPath_146 : decode cX3_layPath 146 = .ok (.return_, 1) := dk_177 (dk_at dksX3_layPath_6 6 rfl rfl)
abbrev cX3_inAisle : ByteArray := prog_7_method_44_code
def yX3_inAisle : MethodName := ⟨RX3, "inAisle", "(I)I"⟩
def dkwX3_inAisle_2 : List UInt8 := [167, 0, 4, 3, 96, 61, 132, 3, 1, 167, 255, 228, 28, 172]
abbrev dktX3_inAisle_2 : List UInt8 := dkwX3_inAisle_2 ++ []
def dkwX3_inAisle_1 : List UInt8 := [172, 3, 61, 3, 62, 29, 42, 180, 0, 69, 162, 0, 26, 28, 42, 29, 27, 182, 0, 140, 158, 0, 7, 4]
abbrev dktX3_inAisle_1 : List UInt8 := dkwX3_inAisle_1 ++ dktX3_inAisle_2
def dkwX3_inAisle_0 : List UInt8 := [42, 3, 181, 0, 59, 27, 3, 42, 180, 0, 50, 4, 100, 184, 0, 62, 154, 0, 9, 42, 4, 182, 0, 94]
abbrev dktX3_inAisle_0 : List UInt8 := dkwX3_inAisle_0 ++ dktX3_inAisle_1
theorem dksX3_inAisle_0 : cX3_inAisle.data.toList.drop 0 = dktX3_inAisle_0 := by decide +kernel
theorem dksX3_inAisle_1 : cX3_inAisle.data.toList.drop 24 = dktX3_inAisle_1 := dk_seg dksX3_inAisle_0 24 rfl rfl
theorem dksX3_inAisle_2 : cX3_inAisle.data.toList.drop 48 = dktX3_inAisle_2 := dk_seg dksX3_inAisle_1 24 rfl rfl
theorem dX3_inAisle_0 : decode cX3_inAisle 0 = .ok (.aload_n 0, 1) := dk_42 (dk_at dksX3_inAisle_0 0 rfl rfl)
theorem dX3_inAisle_1 : decode cX3_inAisle 1 = .ok (.iconst 0, 1) := dk_3 (dk_at dksX3_inAisle_0 1 rfl rfl)
theorem dX3_inAisle_2 : decode cX3_inAisle 2 = .ok (.putfield 59, 3) := dk_181 0 59 (dk_at dksX3_inAisle_0 2 rfl rfl)
theorem dX3_inAisle_5 : decode cX3_inAisle 5 = .ok (.iload_n 1, 1) := dk_27 (dk_at dksX3_inAisle_0 5 rfl rfl)
theorem dX3_inAisle_6 : decode cX3_inAisle 6 = .ok (.iconst 0, 1) := dk_3 (dk_at dksX3_inAisle_0 6 rfl rfl)
theorem dX3_inAisle_7 : decode cX3_inAisle 7 = .ok (.aload_n 0, 1) := dk_42 (dk_at dksX3_inAisle_0 7 rfl rfl)
theorem dX3_inAisle_8 : decode cX3_inAisle 8 = .ok (.getfield 50, 3) := dk_180 0 50 (dk_at dksX3_inAisle_0 8 rfl rfl)
theorem dX3_inAisle_11 : decode cX3_inAisle 11 = .ok (.iconst 1, 1) := dk_4 (dk_at dksX3_inAisle_0 11 rfl rfl)
theorem dX3_inAisle_12 : decode cX3_inAisle 12 = .ok (.isub, 1) := dk_100 (dk_at dksX3_inAisle_0 12 rfl rfl)
theorem dX3_inAisle_13 : decode cX3_inAisle 13 = .ok (.invokestatic 62, 3) := dk_184 0 62 (dk_at dksX3_inAisle_0 13 rfl rfl)
theorem dX3_inAisle_16 : decode cX3_inAisle 16 = .ok (.ifCond .ne 9, 3) := dk_154 0 9 (dk_at dksX3_inAisle_0 16 rfl rfl)
theorem dX3_inAisle_19 : decode cX3_inAisle 19 = .ok (.aload_n 0, 1) := dk_42 (dk_at dksX3_inAisle_0 19 rfl rfl)
theorem dX3_inAisle_20 : decode cX3_inAisle 20 = .ok (.iconst 1, 1) := dk_4 (dk_at dksX3_inAisle_0 20 rfl rfl)
theorem dX3_inAisle_21 : decode cX3_inAisle 21 = .ok (.invokevirtual 94, 3) := dk_182 0 94 (dk_at dksX3_inAisle_0 21 rfl rfl)
theorem dX3_inAisle_24 : decode cX3_inAisle 24 = .ok (.ireturn, 1) := dk_172 (dk_at dksX3_inAisle_1 0 rfl rfl)
theorem dX3_inAisle_25 : decode cX3_inAisle 25 = .ok (.iconst 0, 1) := dk_3 (dk_at dksX3_inAisle_1 1 rfl rfl)
theorem dX3_inAisle_26 : decode cX3_inAisle 26 = .ok (.istore_n 2, 1) := dk_61 (dk_at dksX3_inAisle_1 2 rfl rfl)
theorem dX3_inAisle_27 : decode cX3_inAisle 27 = .ok (.iconst 0, 1) := dk_3 (dk_at dksX3_inAisle_1 3 rfl rfl)
theorem dX3_inAisle_28 : decode cX3_inAisle 28 = .ok (.istore_n 3, 1) := dk_62 (dk_at dksX3_inAisle_1 4 rfl rfl)
theorem dX3_inAisle_29 : decode cX3_inAisle 29 = .ok (.iload_n 3, 1) := dk_29 (dk_at dksX3_inAisle_1 5 rfl rfl)
theorem dX3_inAisle_30 : decode cX3_inAisle 30 = .ok (.aload_n 0, 1) := dk_42 (dk_at dksX3_inAisle_1 6 rfl rfl)
theorem dX3_inAisle_31 : decode cX3_inAisle 31 = .ok (.getfield 69, 3) := dk_180 0 69 (dk_at dksX3_inAisle_1 7 rfl rfl)
theorem dX3_inAisle_34 : decode cX3_inAisle 34 = .ok (.if_icmp .ge 26, 3) := dk_162 0 26 (dk_at dksX3_inAisle_1 10 rfl rfl)
theorem dX3_inAisle_37 : decode cX3_inAisle 37 = .ok (.iload_n 2, 1) := dk_28 (dk_at dksX3_inAisle_1 13 rfl rfl)
theorem dX3_inAisle_38 : decode cX3_inAisle 38 = .ok (.aload_n 0, 1) := dk_42 (dk_at dksX3_inAisle_1 14 rfl rfl)
theorem dX3_inAisle_39 : decode cX3_inAisle 39 = .ok (.iload_n 3, 1) := dk_29 (dk_at dksX3_inAisle_1 15 rfl rfl)
theorem dX3_inAisle_40 : decode cX3_inAisle 40 = .ok (.iload_n 1, 1) := dk_27 (dk_at dksX3_inAisle_1 16 rfl rfl)
theorem dX3_inAisle_41 : decode cX3_inAisle 41 = .ok (.invokevirtual 140, 3) := dk_182 0 140 (dk_at dksX3_inAisle_1 17 rfl rfl)
theorem dX3_inAisle_44 : decode cX3_inAisle 44 = .ok (.ifCond .le 7, 3) := dk_158 0 7 (dk_at dksX3_inAisle_1 20 rfl rfl)
theorem dX3_inAisle_47 : decode cX3_inAisle 47 = .ok (.iconst 1, 1) := dk_4 (dk_at dksX3_inAisle_1 23 rfl rfl)
theorem dX3_inAisle_48 : decode cX3_inAisle 48 = .ok (.goto 4, 3) := dk_167 0 4 (dk_at dksX3_inAisle_2 0 rfl rfl)
theorem dX3_inAisle_51 : decode cX3_inAisle 51 = .ok (.iconst 0, 1) := dk_3 (dk_at dksX3_inAisle_2 3 rfl rfl)
theorem dX3_inAisle_52 : decode cX3_inAisle 52 = .ok (.iadd, 1) := dk_96 (dk_at dksX3_inAisle_2 4 rfl rfl)
theorem dX3_inAisle_53 : decode cX3_inAisle 53 = .ok (.istore_n 2, 1) := dk_61 (dk_at dksX3_inAisle_2 5 rfl rfl)
theorem dX3_inAisle_54 : decode cX3_inAisle 54 = .ok (.iinc 3 1, 3) := dk_132 3 1 (dk_at dksX3_inAisle_2 6 rfl rfl)
theorem dX3_inAisle_57 : decode cX3_inAisle 57 = .ok (.goto (-28), 3) := dk_167 255 228 (dk_at dksX3_inAisle_2 9 rfl rfl)
theorem dX3_inAisle_60 : decode cX3_inAisle 60 = .ok (.iload_n 2, 1) := dk_28 (dk_at dksX3_inAisle_2 12 rfl rfl)
theorem dX3_inAisle_61 : decode cX3_inAisle 61 = .ok (.ireturn, 1) := dk_172 (dk_at dksX3_inAisle_2 13 rfl rfl)
abbrev cX3_walked : ByteArray := prog_7_method_45_code
def yX3_walked : MethodName := ⟨RX3, "walked", "()I"⟩
def dkwX3_walked_0 : List UInt8 := [42, 3, 181, 0, 59, 42, 180, 0, 137, 172]
abbrev dktX3_walked_0 : List UInt8 := dkwX3_walked_0 ++ []
theorem dksX3_walked_0 : cX3_walked.data.toList.drop 0 = dktX3_walked_0 := by decide +kernel
theorem dX3_walked_0 : decode cX3_walked 0 = .ok (.aload_n 0, 1) := dk_42 (dk_at dksX3_walked_0 0 rfl rfl)
theorem dX3_walked_1 : decode cX3_walked 1 = .ok (.iconst 0, 1) := dk_3 (dk_at dksX3_walked_0 1 rfl rfl)
theorem dX3_walked_2 : decode cX3_walked 2 = .ok (.putfield 59, 3) := dk_181 0 59 (dk_at dksX3_walked_0 2 rfl rfl)
theorem dX3_walked_5 : decode cX3_walked 5 = .ok (.aload_n 0, 1) := dk_42 (dk_at dksX3_walked_0 5 rfl rfl)
theorem dX3_walked_6 : decode cX3_walked 6 = .ok (.getfield 137, 3) := dk_180 0 137 (dk_at dksX3_walked_0 6 rfl rfl)
theorem dX3_walked_9 : decode cX3_walked 9 = .ok (.ireturn, 1) := dk_172 (dk_at dksX3_walked_0 9 rfl rfl)
abbrev cX3_share : ByteArray := prog_7_method_46_code
def yX3_share : MethodName := ⟨RX3, "share", "()D"⟩
def dkwX3_share_1 : List UInt8 := [180, 0, 133, 138, 111, 175]
abbrev dktX3_share_1 : List UInt8 := dkwX3_share_1 ++ []
def dkwX3_share_0 : List UInt8 := [42, 3, 181, 0, 59, 42, 180, 0, 133, 9, 148, 154, 0, 7, 15, 167, 0, 14, 42, 180, 0, 137, 135, 42]
abbrev dktX3_share_0 : List UInt8 := dkwX3_share_0 ++ dktX3_share_1
theorem dksX3_share_0 : cX3_share.data.toList.drop 0 = dktX3_share_0 := by decide +kernel
theorem dksX3_share_1 : cX3_share.data.toList.drop 24 = dktX3_share_1 := dk_seg dksX3_share_0 24 rfl rfl
theorem dX3_share_0 : decode cX3_share 0 = .ok (.aload_n 0, 1) := dk_42 (dk_at dksX3_share_0 0 rfl rfl)
theorem dX3_share_1 : decode cX3_share 1 = .ok (.iconst 0, 1) := dk_3 (dk_at dksX3_share_0 1 rfl rfl)
theorem dX3_share_2 : decode cX3_share 2 = .ok (.putfield 59, 3) := dk_181 0 59 (dk_at dksX3_share_0 2 rfl rfl)
theorem dX3_share_5 : decode cX3_share 5 = .ok (.aload_n 0, 1) := dk_42 (dk_at dksX3_share_0 5 rfl rfl)
theorem dX3_share_6 : decode cX3_share 6 = .ok (.getfield 133, 3) := dk_180 0 133 (dk_at dksX3_share_0 6 rfl rfl)
theorem dX3_share_9 : decode cX3_share 9 = .ok (.lconst 0, 1) := dk_9 (dk_at dksX3_share_0 9 rfl rfl)
theorem dX3_share_10 : decode cX3_share 10 = .ok (.lcmp, 1) := dk_148 (dk_at dksX3_share_0 10 rfl rfl)
theorem dX3_share_11 : decode cX3_share 11 = .ok (.ifCond .ne 7, 3) := dk_154 0 7 (dk_at dksX3_share_0 11 rfl rfl)
theorem dX3_share_14 : decode cX3_share 14 = .ok (.dconst 1, 1) := dk_15 (dk_at dksX3_share_0 14 rfl rfl)
theorem dX3_share_15 : decode cX3_share 15 = .ok (.goto 14, 3) := dk_167 0 14 (dk_at dksX3_share_0 15 rfl rfl)
theorem dX3_share_18 : decode cX3_share 18 = .ok (.aload_n 0, 1) := dk_42 (dk_at dksX3_share_0 18 rfl rfl)
theorem dX3_share_19 : decode cX3_share 19 = .ok (.getfield 137, 3) := dk_180 0 137 (dk_at dksX3_share_0 19 rfl rfl)
theorem dX3_share_22 : decode cX3_share 22 = .ok (.i2d, 1) := dk_135 (dk_at dksX3_share_0 22 rfl rfl)
theorem dX3_share_23 : decode cX3_share 23 = .ok (.aload_n 0, 1) := dk_42 (dk_at dksX3_share_0 23 rfl rfl)
theorem dX3_share_24 : decode cX3_share 24 = .ok (.getfield 133, 3) := dk_180 0 133 (dk_at dksX3_share_1 0 rfl rfl)
theorem dX3_share_27 : decode cX3_share 27 = .ok (.l2d, 1) := dk_138 (dk_at dksX3_share_1 3 rfl rfl)
theorem dX3_share_28 : decode cX3_share 28 = .ok (.ddiv, 1) := dk_111 (dk_at dksX3_share_1 4 rfl rfl)
theorem dX3_share_29 : decode cX3_share 29 = .ok (.dreturn, 1) := dk_175 (dk_at dksX3_share_1 5 rfl rfl)
theorem q44 : (Jvm.Cond.initialized "AislewrightModel") ∈ lw_all := lw_g (lw_at lw_m1 7 rfl) rfl
theorem q882 : (Jvm.Cond.selects "AislewrightModel" ({ cls := "java/lang/Object", name := "getClass", desc := "()Ljava/lang/Class;" } : Jvm.MethodName) ({ cls := "java/lang/Object", name := "getClass", desc := "()Ljava/lang/Class;" } : Jvm.MethodName)) ∈ lw_all := lw_g (lw_at lw_m4 125 rfl) rfl
theorem q1223 : (Jvm.Cond.selects "AislewrightModel" ({ cls := "java/lang/Object", name := "equals", desc := "(Ljava/lang/Object;)Z" } : Jvm.MethodName) ({ cls := "java/lang/Object", name := "equals", desc := "(Ljava/lang/Object;)Z" } : Jvm.MethodName)) ∈ lw_all := lw_g (lw_at lw_m5 226 rfl) rfl
theorem q1309 : (Jvm.Cond.instantiable "AislewrightModel" (22 : Nat)) ∈ lw_all := lw_g (lw_at lw_m6 72 rfl) rfl
theorem q1311 : (Jvm.Cond.instanceMethod ({ cls := "AislewrightModel", name := "<init>", desc := "(III)V" } : Jvm.MethodName)) ∈ lw_all := lw_g (lw_at lw_m6 74 rfl) rfl
theorem q1312 : (Jvm.Cond.code ({ cls := "AislewrightModel", name := "<init>", desc := "(III)V" } : Jvm.MethodName) prog_7_method_1_code (5 : Nat) (Option.none : Option Jvm.ClassFile.FieldType)) ∈ lw_all := lw_g (lw_at lw_m6 75 rfl) rfl
theorem q1313 : (Jvm.Cond.methodLink "AislewrightModel" (1 : Nat) ({ cls := "java/lang/Object", name := "<init>", desc := "()V" } : Jvm.MethodName)) ∈ lw_all := lw_g (lw_at lw_m6 76 rfl) rfl
theorem q1314 : (Jvm.Cond.fieldLink "AislewrightModel" (59 : Nat) "AislewrightModel" "thrown" "I") ∈ lw_all := lw_g (lw_at lw_m6 77 rfl) rfl
theorem q1315 : (Jvm.Cond.fieldLink "AislewrightModel" (50 : Nat) "AislewrightModel" "aisles" "I") ∈ lw_all := lw_g (lw_at lw_m6 78 rfl) rfl
theorem q1316 : (Jvm.Cond.fieldLink "AislewrightModel" (53 : Nat) "AislewrightModel" "positions" "I") ∈ lw_all := lw_g (lw_at lw_m6 79 rfl) rfl
theorem q1317 : (Jvm.Cond.fieldLink "AislewrightModel" (56 : Nat) "AislewrightModel" "gap" "I") ∈ lw_all := lw_g (lw_at lw_m6 80 rfl) rfl
theorem q1318 : (Jvm.Cond.fieldLink "AislewrightModel" (7 : Nat) "AislewrightModel" "capacity" "I") ∈ lw_all := lw_g (lw_at lw_m6 81 rfl) rfl
theorem q1319 : (Jvm.Cond.fieldLink "AislewrightModel" (13 : Nat) "AislewrightModel" "place" "[I") ∈ lw_all := lw_g (lw_at lw_m6 82 rfl) rfl
theorem q1320 : (Jvm.Cond.fieldLink "AislewrightModel" (66 : Nat) "AislewrightModel" "orders" "I") ∈ lw_all := lw_g (lw_at lw_m6 83 rfl) rfl
theorem q1321 : (Jvm.Cond.fieldLink "AislewrightModel" (17 : Nat) "AislewrightModel" "due" "[I") ∈ lw_all := lw_g (lw_at lw_m6 84 rfl) rfl
theorem q1322 : (Jvm.Cond.fieldLink "AislewrightModel" (20 : Nat) "AislewrightModel" "state" "[I") ∈ lw_all := lw_g (lw_at lw_m6 85 rfl) rfl
theorem q1323 : (Jvm.Cond.fieldLink "AislewrightModel" (23 : Nat) "AislewrightModel" "batch" "[I") ∈ lw_all := lw_g (lw_at lw_m6 86 rfl) rfl
theorem q1324 : (Jvm.Cond.fieldLink "AislewrightModel" (26 : Nat) "AislewrightModel" "many" "[I") ∈ lw_all := lw_g (lw_at lw_m6 87 rfl) rfl
theorem q1325 : (Jvm.Cond.fieldLink "AislewrightModel" (29 : Nat) "AislewrightModel" "product" "[I") ∈ lw_all := lw_g (lw_at lw_m6 88 rfl) rfl
theorem q1326 : (Jvm.Cond.fieldLink "AislewrightModel" (32 : Nat) "AislewrightModel" "quantity" "[I") ∈ lw_all := lw_g (lw_at lw_m6 89 rfl) rfl
theorem q1327 : (Jvm.Cond.fieldLink "AislewrightModel" (69 : Nat) "AislewrightModel" "batches" "I") ∈ lw_all := lw_g (lw_at lw_m6 90 rfl) rfl
theorem q1328 : (Jvm.Cond.fieldLink "AislewrightModel" (137 : Nat) "AislewrightModel" "walked" "I") ∈ lw_all := lw_g (lw_at lw_m6 91 rfl) rfl
theorem q1329 : (Jvm.Cond.fieldLink "AislewrightModel" (133 : Nat) "AislewrightModel" "alone" "J") ∈ lw_all := lw_g (lw_at lw_m6 92 rfl) rfl
theorem q1330 : (Jvm.Cond.fieldLink "AislewrightModel" (76 : Nat) "AislewrightModel" "stops" "I") ∈ lw_all := lw_g (lw_at lw_m6 93 rfl) rfl
theorem q1331 : (Jvm.Cond.fieldLink "AislewrightModel" (35 : Nat) "AislewrightModel" "stop" "[I") ∈ lw_all := lw_g (lw_at lw_m6 94 rfl) rfl
theorem q1332 : (Jvm.Cond.fieldLink "AislewrightModel" (38 : Nat) "AislewrightModel" "on" "[I") ∈ lw_all := lw_g (lw_at lw_m6 95 rfl) rfl
theorem q1333 : (Jvm.Cond.fieldLink "AislewrightModel" (41 : Nat) "AislewrightModel" "path" "[I") ∈ lw_all := lw_g (lw_at lw_m6 96 rfl) rfl
theorem q1334 : (Jvm.Cond.fieldLink "AislewrightModel" (44 : Nat) "AislewrightModel" "ranked" "[I") ∈ lw_all := lw_g (lw_at lw_m6 97 rfl) rfl
theorem q1335 : (Jvm.Cond.fieldLink "AislewrightModel" (47 : Nat) "AislewrightModel" "spots" "[I") ∈ lw_all := lw_g (lw_at lw_m6 98 rfl) rfl
theorem q1336 : (Jvm.Cond.lays "AislewrightModel" "AislewrightModel" "thrown" "I") ∈ lw_all := lw_g (lw_at lw_m6 99 rfl) rfl
theorem q1337 : (Jvm.Cond.soleField "AislewrightModel" "thrown") ∈ lw_all := lw_g (lw_at lw_m6 100 rfl) rfl
theorem q1338 : (Jvm.Cond.laysFinal "AislewrightModel" "AislewrightModel" "aisles" "I") ∈ lw_all := lw_g (lw_at lw_m6 101 rfl) rfl
theorem q1339 : (Jvm.Cond.soleField "AislewrightModel" "aisles") ∈ lw_all := lw_g (lw_at lw_m6 102 rfl) rfl
theorem q1340 : (Jvm.Cond.laysFinal "AislewrightModel" "AislewrightModel" "positions" "I") ∈ lw_all := lw_g (lw_at lw_m6 103 rfl) rfl
theorem q1341 : (Jvm.Cond.soleField "AislewrightModel" "positions") ∈ lw_all := lw_g (lw_at lw_m6 104 rfl) rfl
theorem q1342 : (Jvm.Cond.laysFinal "AislewrightModel" "AislewrightModel" "gap" "I") ∈ lw_all := lw_g (lw_at lw_m6 105 rfl) rfl
theorem q1343 : (Jvm.Cond.soleField "AislewrightModel" "gap") ∈ lw_all := lw_g (lw_at lw_m6 106 rfl) rfl
theorem q1344 : (Jvm.Cond.lays "AislewrightModel" "AislewrightModel" "capacity" "I") ∈ lw_all := lw_g (lw_at lw_m6 107 rfl) rfl
theorem q1345 : (Jvm.Cond.soleField "AislewrightModel" "capacity") ∈ lw_all := lw_g (lw_at lw_m6 108 rfl) rfl
theorem q1346 : (Jvm.Cond.laysFinal "AislewrightModel" "AislewrightModel" "place" "[I") ∈ lw_all := lw_g (lw_at lw_m6 109 rfl) rfl
theorem q1347 : (Jvm.Cond.soleField "AislewrightModel" "place") ∈ lw_all := lw_g (lw_at lw_m6 110 rfl) rfl
theorem q1348 : (Jvm.Cond.lays "AislewrightModel" "AislewrightModel" "orders" "I") ∈ lw_all := lw_g (lw_at lw_m6 111 rfl) rfl
theorem q1349 : (Jvm.Cond.soleField "AislewrightModel" "orders") ∈ lw_all := lw_g (lw_at lw_m6 112 rfl) rfl
theorem q1350 : (Jvm.Cond.laysFinal "AislewrightModel" "AislewrightModel" "due" "[I") ∈ lw_all := lw_g (lw_at lw_m6 113 rfl) rfl
theorem q1351 : (Jvm.Cond.soleField "AislewrightModel" "due") ∈ lw_all := lw_g (lw_at lw_m6 114 rfl) rfl
theorem q1352 : (Jvm.Cond.laysFinal "AislewrightModel" "AislewrightModel" "state" "[I") ∈ lw_all := lw_g (lw_at lw_m6 115 rfl) rfl
theorem q1353 : (Jvm.Cond.soleField "AislewrightModel" "state") ∈ lw_all := lw_g (lw_at lw_m6 116 rfl) rfl
theorem q1354 : (Jvm.Cond.laysFinal "AislewrightModel" "AislewrightModel" "batch" "[I") ∈ lw_all := lw_g (lw_at lw_m6 117 rfl) rfl
theorem q1355 : (Jvm.Cond.soleField "AislewrightModel" "batch") ∈ lw_all := lw_g (lw_at lw_m6 118 rfl) rfl
theorem q1356 : (Jvm.Cond.laysFinal "AislewrightModel" "AislewrightModel" "many" "[I") ∈ lw_all := lw_g (lw_at lw_m6 119 rfl) rfl
theorem q1357 : (Jvm.Cond.soleField "AislewrightModel" "many") ∈ lw_all := lw_g (lw_at lw_m6 120 rfl) rfl
theorem q1358 : (Jvm.Cond.laysFinal "AislewrightModel" "AislewrightModel" "product" "[I") ∈ lw_all := lw_g (lw_at lw_m6 121 rfl) rfl
theorem q1359 : (Jvm.Cond.soleField "AislewrightModel" "product") ∈ lw_all := lw_g (lw_at lw_m6 122 rfl) rfl
theorem q1360 : (Jvm.Cond.laysFinal "AislewrightModel" "AislewrightModel" "quantity" "[I") ∈ lw_all := lw_g (lw_at lw_m6 123 rfl) rfl
theorem q1361 : (Jvm.Cond.soleField "AislewrightModel" "quantity") ∈ lw_all := lw_g (lw_at lw_m6 124 rfl) rfl
theorem q1362 : (Jvm.Cond.lays "AislewrightModel" "AislewrightModel" "batches" "I") ∈ lw_all := lw_g (lw_at lw_m6 125 rfl) rfl
theorem q1363 : (Jvm.Cond.soleField "AislewrightModel" "batches") ∈ lw_all := lw_g (lw_at lw_m6 126 rfl) rfl
theorem q1364 : (Jvm.Cond.lays "AislewrightModel" "AislewrightModel" "walked" "I") ∈ lw_all := lw_g (lw_at lw_m6 127 rfl) rfl
theorem q1365 : (Jvm.Cond.soleField "AislewrightModel" "walked") ∈ lw_all := lw_g (lw_at lw_m6 128 rfl) rfl
theorem q1366 : (Jvm.Cond.lays "AislewrightModel" "AislewrightModel" "alone" "J") ∈ lw_all := lw_g (lw_at lw_m6 129 rfl) rfl
theorem q1367 : (Jvm.Cond.soleField "AislewrightModel" "alone") ∈ lw_all := lw_g (lw_at lw_m6 130 rfl) rfl
theorem q1368 : (Jvm.Cond.lays "AislewrightModel" "AislewrightModel" "stops" "I") ∈ lw_all := lw_g (lw_at lw_m6 131 rfl) rfl
theorem q1369 : (Jvm.Cond.soleField "AislewrightModel" "stops") ∈ lw_all := lw_g (lw_at lw_m6 132 rfl) rfl
theorem q1370 : (Jvm.Cond.laysFinal "AislewrightModel" "AislewrightModel" "stop" "[I") ∈ lw_all := lw_g (lw_at lw_m6 133 rfl) rfl
theorem q1371 : (Jvm.Cond.soleField "AislewrightModel" "stop") ∈ lw_all := lw_g (lw_at lw_m6 134 rfl) rfl
theorem q1372 : (Jvm.Cond.laysFinal "AislewrightModel" "AislewrightModel" "on" "[I") ∈ lw_all := lw_g (lw_at lw_m6 135 rfl) rfl
theorem q1373 : (Jvm.Cond.soleField "AislewrightModel" "on") ∈ lw_all := lw_g (lw_at lw_m6 136 rfl) rfl
theorem q1374 : (Jvm.Cond.laysFinal "AislewrightModel" "AislewrightModel" "path" "[I") ∈ lw_all := lw_g (lw_at lw_m6 137 rfl) rfl
theorem q1375 : (Jvm.Cond.soleField "AislewrightModel" "path") ∈ lw_all := lw_g (lw_at lw_m6 138 rfl) rfl
theorem q1376 : (Jvm.Cond.laysFinal "AislewrightModel" "AislewrightModel" "ranked" "[I") ∈ lw_all := lw_g (lw_at lw_m6 139 rfl) rfl
theorem q1377 : (Jvm.Cond.soleField "AislewrightModel" "ranked") ∈ lw_all := lw_g (lw_at lw_m6 140 rfl) rfl
theorem q1378 : (Jvm.Cond.laysFinal "AislewrightModel" "AislewrightModel" "spots" "[I") ∈ lw_all := lw_g (lw_at lw_m6 141 rfl) rfl
theorem q1379 : (Jvm.Cond.soleField "AislewrightModel" "spots") ∈ lw_all := lw_g (lw_at lw_m6 142 rfl) rfl
theorem q1380 : (Jvm.Cond.superclass "AislewrightModel" "java/lang/Object") ∈ lw_all := lw_g (lw_at lw_m6 143 rfl) rfl
theorem q1382 : (Jvm.Cond.instanceMethod ({ cls := "AislewrightModel", name := "thrown", desc := "()I" } : Jvm.MethodName)) ∈ lw_all := lw_g (lw_at lw_m6 145 rfl) rfl
theorem q1383 : (Jvm.Cond.selects "AislewrightModel" ({ cls := "AislewrightModel", name := "thrown", desc := "()I" } : Jvm.MethodName) ({ cls := "AislewrightModel", name := "thrown", desc := "()I" } : Jvm.MethodName)) ∈ lw_all := lw_g (lw_at lw_m6 146 rfl) rfl
theorem q1384 : (Jvm.Cond.code ({ cls := "AislewrightModel", name := "thrown", desc := "()I" } : Jvm.MethodName) prog_7_method_2_code (1 : Nat) (Option.some Jvm.ClassFile.FieldType.int)) ∈ lw_all := lw_g (lw_at lw_m6 147 rfl) rfl
theorem q1386 : (Jvm.Cond.instanceMethod ({ cls := "AislewrightModel", name := "put", desc := "(III)I" } : Jvm.MethodName)) ∈ lw_all := lw_g (lw_at lw_m6 149 rfl) rfl
theorem q1387 : (Jvm.Cond.selects "AislewrightModel" ({ cls := "AislewrightModel", name := "put", desc := "(III)I" } : Jvm.MethodName) ({ cls := "AislewrightModel", name := "put", desc := "(III)I" } : Jvm.MethodName)) ∈ lw_all := lw_g (lw_at lw_m6 150 rfl) rfl
theorem q1388 : (Jvm.Cond.code ({ cls := "AislewrightModel", name := "put", desc := "(III)I" } : Jvm.MethodName) prog_7_method_14_code (7 : Nat) (Option.some Jvm.ClassFile.FieldType.int)) ∈ lw_all := lw_g (lw_at lw_m6 151 rfl) rfl
theorem q1389 : (Jvm.Cond.methodLink "AislewrightModel" (90 : Nat) ({ cls := "AislewrightModel", name := "isProduct", desc := "(I)Z" } : Jvm.MethodName)) ∈ lw_all := lw_g (lw_at lw_m6 152 rfl) rfl
theorem q1390 : (Jvm.Cond.static ({ cls := "AislewrightModel", name := "isProduct", desc := "(I)Z" } : Jvm.MethodName)) ∈ lw_all := lw_g (lw_at lw_m6 153 rfl) rfl
theorem q1391 : (Jvm.Cond.code ({ cls := "AislewrightModel", name := "isProduct", desc := "(I)Z" } : Jvm.MethodName) prog_7_method_5_code (1 : Nat) (Option.some Jvm.ClassFile.FieldType.boolean)) ∈ lw_all := lw_g (lw_at lw_m6 154 rfl) rfl
theorem q1392 : (Jvm.Cond.methodLink "AislewrightModel" (62 : Nat) ({ cls := "AislewrightModel", name := "in", desc := "(III)Z" } : Jvm.MethodName)) ∈ lw_all := lw_g (lw_at lw_m6 155 rfl) rfl
theorem q1393 : (Jvm.Cond.static ({ cls := "AislewrightModel", name := "in", desc := "(III)Z" } : Jvm.MethodName)) ∈ lw_all := lw_g (lw_at lw_m6 156 rfl) rfl
theorem q1394 : (Jvm.Cond.code ({ cls := "AislewrightModel", name := "in", desc := "(III)Z" } : Jvm.MethodName) prog_7_method_4_code (3 : Nat) (Option.some Jvm.ClassFile.FieldType.boolean)) ∈ lw_all := lw_g (lw_at lw_m6 157 rfl) rfl
theorem q1395 : (Jvm.Cond.methodLink "AislewrightModel" (94 : Nat) ({ cls := "AislewrightModel", name := "fails", desc := "(I)I" } : Jvm.MethodName)) ∈ lw_all := lw_g (lw_at lw_m6 158 rfl) rfl
theorem q1396 : (Jvm.Cond.privateMethod ({ cls := "AislewrightModel", name := "fails", desc := "(I)I" } : Jvm.MethodName)) ∈ lw_tbl := lw_at lw_m6 159 rfl
theorem q1397 : (Jvm.Cond.instanceMethod ({ cls := "AislewrightModel", name := "fails", desc := "(I)I" } : Jvm.MethodName)) ∈ lw_all := lw_g (lw_at lw_m6 160 rfl) rfl
theorem q1398 : (Jvm.Cond.code ({ cls := "AislewrightModel", name := "fails", desc := "(I)I" } : Jvm.MethodName) prog_7_method_3_code (2 : Nat) (Option.some Jvm.ClassFile.FieldType.int)) ∈ lw_all := lw_g (lw_at lw_m6 161 rfl) rfl
theorem q1400 : (Jvm.Cond.instanceMethod ({ cls := "AislewrightModel", name := "layOut", desc := "()I" } : Jvm.MethodName)) ∈ lw_all := lw_g (lw_at lw_m6 163 rfl) rfl
theorem q1401 : (Jvm.Cond.selects "AislewrightModel" ({ cls := "AislewrightModel", name := "layOut", desc := "()I" } : Jvm.MethodName) ({ cls := "AislewrightModel", name := "layOut", desc := "()I" } : Jvm.MethodName)) ∈ lw_all := lw_g (lw_at lw_m6 164 rfl) rfl
theorem q1402 : (Jvm.Cond.code ({ cls := "AislewrightModel", name := "layOut", desc := "()I" } : Jvm.MethodName) prog_7_method_18_code (4 : Nat) (Option.some Jvm.ClassFile.FieldType.int)) ∈ lw_all := lw_g (lw_at lw_m6 165 rfl) rfl
theorem q1403 : (Jvm.Cond.methodLink "AislewrightModel" (101 : Nat) ({ cls := "AislewrightModel", name := "ranks", desc := "(II)V" } : Jvm.MethodName)) ∈ lw_all := lw_g (lw_at lw_m6 166 rfl) rfl
theorem q1404 : (Jvm.Cond.privateMethod ({ cls := "AislewrightModel", name := "ranks", desc := "(II)V" } : Jvm.MethodName)) ∈ lw_tbl := lw_at lw_m6 167 rfl
theorem q1405 : (Jvm.Cond.instanceMethod ({ cls := "AislewrightModel", name := "ranks", desc := "(II)V" } : Jvm.MethodName)) ∈ lw_all := lw_g (lw_at lw_m6 168 rfl) rfl
theorem q1406 : (Jvm.Cond.code ({ cls := "AislewrightModel", name := "ranks", desc := "(II)V" } : Jvm.MethodName) prog_7_method_16_code (4 : Nat) (Option.none : Option Jvm.ClassFile.FieldType)) ∈ lw_all := lw_g (lw_at lw_m6 169 rfl) rfl
theorem q1407 : (Jvm.Cond.methodLink "AislewrightModel" (98 : Nat) ({ cls := "AislewrightModel", name := "turnoverOf", desc := "(I)I" } : Jvm.MethodName)) ∈ lw_all := lw_g (lw_at lw_m6 170 rfl) rfl
theorem q1408 : (Jvm.Cond.privateMethod ({ cls := "AislewrightModel", name := "turnoverOf", desc := "(I)I" } : Jvm.MethodName)) ∈ lw_tbl := lw_at lw_m6 171 rfl
theorem q1409 : (Jvm.Cond.instanceMethod ({ cls := "AislewrightModel", name := "turnoverOf", desc := "(I)I" } : Jvm.MethodName)) ∈ lw_all := lw_g (lw_at lw_m6 172 rfl) rfl
theorem q1410 : (Jvm.Cond.code ({ cls := "AislewrightModel", name := "turnoverOf", desc := "(I)I" } : Jvm.MethodName) prog_7_method_15_code (5 : Nat) (Option.some Jvm.ClassFile.FieldType.int)) ∈ lw_all := lw_g (lw_at lw_m6 173 rfl) rfl
theorem q1411 : (Jvm.Cond.methodLink "AislewrightModel" (105 : Nat) ({ cls := "AislewrightModel", name := "spreads", desc := "(II)V" } : Jvm.MethodName)) ∈ lw_all := lw_g (lw_at lw_m6 174 rfl) rfl
theorem q1412 : (Jvm.Cond.privateMethod ({ cls := "AislewrightModel", name := "spreads", desc := "(II)V" } : Jvm.MethodName)) ∈ lw_tbl := lw_at lw_m6 175 rfl
theorem q1413 : (Jvm.Cond.instanceMethod ({ cls := "AislewrightModel", name := "spreads", desc := "(II)V" } : Jvm.MethodName)) ∈ lw_all := lw_g (lw_at lw_m6 176 rfl) rfl
theorem q1414 : (Jvm.Cond.code ({ cls := "AislewrightModel", name := "spreads", desc := "(II)V" } : Jvm.MethodName) prog_7_method_17_code (4 : Nat) (Option.none : Option Jvm.ClassFile.FieldType)) ∈ lw_all := lw_g (lw_at lw_m6 177 rfl) rfl
theorem q1415 : (Jvm.Cond.methodLink "AislewrightModel" (72 : Nat) ({ cls := "AislewrightModel", name := "way", desc := "(II)I" } : Jvm.MethodName)) ∈ lw_all := lw_g (lw_at lw_m6 178 rfl) rfl
theorem q1416 : (Jvm.Cond.privateMethod ({ cls := "AislewrightModel", name := "way", desc := "(II)I" } : Jvm.MethodName)) ∈ lw_tbl := lw_at lw_m6 179 rfl
theorem q1417 : (Jvm.Cond.instanceMethod ({ cls := "AislewrightModel", name := "way", desc := "(II)I" } : Jvm.MethodName)) ∈ lw_all := lw_g (lw_at lw_m6 180 rfl) rfl
theorem q1418 : (Jvm.Cond.code ({ cls := "AislewrightModel", name := "way", desc := "(II)I" } : Jvm.MethodName) prog_7_method_8_code (8 : Nat) (Option.some Jvm.ClassFile.FieldType.int)) ∈ lw_all := lw_g (lw_at lw_m6 181 rfl) rfl
theorem q1420 : (Jvm.Cond.instanceMethod ({ cls := "AislewrightModel", name := "placeOf", desc := "(I)I" } : Jvm.MethodName)) ∈ lw_all := lw_g (lw_at lw_m6 183 rfl) rfl
theorem q1421 : (Jvm.Cond.selects "AislewrightModel" ({ cls := "AislewrightModel", name := "placeOf", desc := "(I)I" } : Jvm.MethodName) ({ cls := "AislewrightModel", name := "placeOf", desc := "(I)I" } : Jvm.MethodName)) ∈ lw_all := lw_g (lw_at lw_m6 184 rfl) rfl
theorem q1422 : (Jvm.Cond.code ({ cls := "AislewrightModel", name := "placeOf", desc := "(I)I" } : Jvm.MethodName) prog_7_method_19_code (2 : Nat) (Option.some Jvm.ClassFile.FieldType.int)) ∈ lw_all := lw_g (lw_at lw_m6 185 rfl) rfl
theorem q1424 : (Jvm.Cond.instanceMethod ({ cls := "AislewrightModel", name := "turnover", desc := "(I)I" } : Jvm.MethodName)) ∈ lw_all := lw_g (lw_at lw_m6 187 rfl) rfl
theorem q1425 : (Jvm.Cond.selects "AislewrightModel" ({ cls := "AislewrightModel", name := "turnover", desc := "(I)I" } : Jvm.MethodName) ({ cls := "AislewrightModel", name := "turnover", desc := "(I)I" } : Jvm.MethodName)) ∈ lw_all := lw_g (lw_at lw_m6 188 rfl) rfl
theorem q1426 : (Jvm.Cond.code ({ cls := "AislewrightModel", name := "turnover", desc := "(I)I" } : Jvm.MethodName) prog_7_method_20_code (2 : Nat) (Option.some Jvm.ClassFile.FieldType.int)) ∈ lw_all := lw_g (lw_at lw_m6 189 rfl) rfl
theorem q1428 : (Jvm.Cond.instanceMethod ({ cls := "AislewrightModel", name := "distance", desc := "(II)I" } : Jvm.MethodName)) ∈ lw_all := lw_g (lw_at lw_m6 191 rfl) rfl
theorem q1429 : (Jvm.Cond.selects "AislewrightModel" ({ cls := "AislewrightModel", name := "distance", desc := "(II)I" } : Jvm.MethodName) ({ cls := "AislewrightModel", name := "distance", desc := "(II)I" } : Jvm.MethodName)) ∈ lw_all := lw_g (lw_at lw_m6 192 rfl) rfl
theorem q1430 : (Jvm.Cond.code ({ cls := "AislewrightModel", name := "distance", desc := "(II)I" } : Jvm.MethodName) prog_7_method_21_code (3 : Nat) (Option.some Jvm.ClassFile.FieldType.int)) ∈ lw_all := lw_g (lw_at lw_m6 193 rfl) rfl
theorem q1432 : (Jvm.Cond.instanceMethod ({ cls := "AislewrightModel", name := "order", desc := "(I)I" } : Jvm.MethodName)) ∈ lw_all := lw_g (lw_at lw_m6 195 rfl) rfl
theorem q1433 : (Jvm.Cond.selects "AislewrightModel" ({ cls := "AislewrightModel", name := "order", desc := "(I)I" } : Jvm.MethodName) ({ cls := "AislewrightModel", name := "order", desc := "(I)I" } : Jvm.MethodName)) ∈ lw_all := lw_g (lw_at lw_m6 196 rfl) rfl
theorem q1434 : (Jvm.Cond.code ({ cls := "AislewrightModel", name := "order", desc := "(I)I" } : Jvm.MethodName) prog_7_method_22_code (2 : Nat) (Option.some Jvm.ClassFile.FieldType.int)) ∈ lw_all := lw_g (lw_at lw_m6 197 rfl) rfl
theorem q1436 : (Jvm.Cond.instanceMethod ({ cls := "AislewrightModel", name := "line", desc := "(III)I" } : Jvm.MethodName)) ∈ lw_all := lw_g (lw_at lw_m6 199 rfl) rfl
theorem q1437 : (Jvm.Cond.selects "AislewrightModel" ({ cls := "AislewrightModel", name := "line", desc := "(III)I" } : Jvm.MethodName) ({ cls := "AislewrightModel", name := "line", desc := "(III)I" } : Jvm.MethodName)) ∈ lw_all := lw_g (lw_at lw_m6 200 rfl) rfl
theorem q1438 : (Jvm.Cond.code ({ cls := "AislewrightModel", name := "line", desc := "(III)I" } : Jvm.MethodName) prog_7_method_24_code (4 : Nat) (Option.some Jvm.ClassFile.FieldType.int)) ∈ lw_all := lw_g (lw_at lw_m6 201 rfl) rfl
theorem q1439 : (Jvm.Cond.methodLink "AislewrightModel" (108 : Nat) ({ cls := "AislewrightModel", name := "isOrder", desc := "(I)Z" } : Jvm.MethodName)) ∈ lw_all := lw_g (lw_at lw_m6 202 rfl) rfl
theorem q1440 : (Jvm.Cond.privateMethod ({ cls := "AislewrightModel", name := "isOrder", desc := "(I)Z" } : Jvm.MethodName)) ∈ lw_tbl := lw_at lw_m6 203 rfl
theorem q1441 : (Jvm.Cond.instanceMethod ({ cls := "AislewrightModel", name := "isOrder", desc := "(I)Z" } : Jvm.MethodName)) ∈ lw_all := lw_g (lw_at lw_m6 204 rfl) rfl
theorem q1442 : (Jvm.Cond.code ({ cls := "AislewrightModel", name := "isOrder", desc := "(I)Z" } : Jvm.MethodName) prog_7_method_6_code (2 : Nat) (Option.some Jvm.ClassFile.FieldType.boolean)) ∈ lw_all := lw_g (lw_at lw_m6 205 rfl) rfl
theorem q1443 : (Jvm.Cond.methodLink "AislewrightModel" (111 : Nat) ({ cls := "AislewrightModel", name := "wanted", desc := "(I)I" } : Jvm.MethodName)) ∈ lw_all := lw_g (lw_at lw_m6 206 rfl) rfl
theorem q1444 : (Jvm.Cond.privateMethod ({ cls := "AislewrightModel", name := "wanted", desc := "(I)I" } : Jvm.MethodName)) ∈ lw_tbl := lw_at lw_m6 207 rfl
theorem q1445 : (Jvm.Cond.instanceMethod ({ cls := "AislewrightModel", name := "wanted", desc := "(I)I" } : Jvm.MethodName)) ∈ lw_all := lw_g (lw_at lw_m6 208 rfl) rfl
theorem q1446 : (Jvm.Cond.code ({ cls := "AislewrightModel", name := "wanted", desc := "(I)I" } : Jvm.MethodName) prog_7_method_23_code (4 : Nat) (Option.some Jvm.ClassFile.FieldType.int)) ∈ lw_all := lw_g (lw_at lw_m6 209 rfl) rfl
theorem q1448 : (Jvm.Cond.instanceMethod ({ cls := "AislewrightModel", name := "orders", desc := "()I" } : Jvm.MethodName)) ∈ lw_all := lw_g (lw_at lw_m6 211 rfl) rfl
theorem q1449 : (Jvm.Cond.selects "AislewrightModel" ({ cls := "AislewrightModel", name := "orders", desc := "()I" } : Jvm.MethodName) ({ cls := "AislewrightModel", name := "orders", desc := "()I" } : Jvm.MethodName)) ∈ lw_all := lw_g (lw_at lw_m6 212 rfl) rfl
theorem q1450 : (Jvm.Cond.code ({ cls := "AislewrightModel", name := "orders", desc := "()I" } : Jvm.MethodName) prog_7_method_25_code (1 : Nat) (Option.some Jvm.ClassFile.FieldType.int)) ∈ lw_all := lw_g (lw_at lw_m6 213 rfl) rfl
theorem q1452 : (Jvm.Cond.instanceMethod ({ cls := "AislewrightModel", name := "stateOf", desc := "(I)I" } : Jvm.MethodName)) ∈ lw_all := lw_g (lw_at lw_m6 215 rfl) rfl
theorem q1453 : (Jvm.Cond.selects "AislewrightModel" ({ cls := "AislewrightModel", name := "stateOf", desc := "(I)I" } : Jvm.MethodName) ({ cls := "AislewrightModel", name := "stateOf", desc := "(I)I" } : Jvm.MethodName)) ∈ lw_all := lw_g (lw_at lw_m6 216 rfl) rfl
theorem q1454 : (Jvm.Cond.code ({ cls := "AislewrightModel", name := "stateOf", desc := "(I)I" } : Jvm.MethodName) prog_7_method_26_code (2 : Nat) (Option.some Jvm.ClassFile.FieldType.int)) ∈ lw_all := lw_g (lw_at lw_m6 217 rfl) rfl
theorem q1456 : (Jvm.Cond.instanceMethod ({ cls := "AislewrightModel", name := "lengthAlone", desc := "(I)I" } : Jvm.MethodName)) ∈ lw_all := lw_g (lw_at lw_m6 219 rfl) rfl
theorem q1457 : (Jvm.Cond.selects "AislewrightModel" ({ cls := "AislewrightModel", name := "lengthAlone", desc := "(I)I" } : Jvm.MethodName) ({ cls := "AislewrightModel", name := "lengthAlone", desc := "(I)I" } : Jvm.MethodName)) ∈ lw_all := lw_g (lw_at lw_m6 220 rfl) rfl
theorem q1458 : (Jvm.Cond.code ({ cls := "AislewrightModel", name := "lengthAlone", desc := "(I)I" } : Jvm.MethodName) prog_7_method_27_code (2 : Nat) (Option.some Jvm.ClassFile.FieldType.int)) ∈ lw_all := lw_g (lw_at lw_m6 221 rfl) rfl
theorem q1459 : (Jvm.Cond.methodLink "AislewrightModel" (114 : Nat) ({ cls := "AislewrightModel", name := "length", desc := "(I)I" } : Jvm.MethodName)) ∈ lw_all := lw_g (lw_at lw_m6 222 rfl) rfl
theorem q1460 : (Jvm.Cond.privateMethod ({ cls := "AislewrightModel", name := "length", desc := "(I)I" } : Jvm.MethodName)) ∈ lw_tbl := lw_at lw_m6 223 rfl
theorem q1461 : (Jvm.Cond.instanceMethod ({ cls := "AislewrightModel", name := "length", desc := "(I)I" } : Jvm.MethodName)) ∈ lw_all := lw_g (lw_at lw_m6 224 rfl) rfl
theorem q1462 : (Jvm.Cond.code ({ cls := "AislewrightModel", name := "length", desc := "(I)I" } : Jvm.MethodName) prog_7_method_12_code (2 : Nat) (Option.some Jvm.ClassFile.FieldType.int)) ∈ lw_all := lw_g (lw_at lw_m6 225 rfl) rfl
theorem q1463 : (Jvm.Cond.methodLink "AislewrightModel" (86 : Nat) ({ cls := "AislewrightModel", name := "layRoute", desc := "(I)V" } : Jvm.MethodName)) ∈ lw_all := lw_g (lw_at lw_m6 226 rfl) rfl
theorem q1464 : (Jvm.Cond.privateMethod ({ cls := "AislewrightModel", name := "layRoute", desc := "(I)V" } : Jvm.MethodName)) ∈ lw_tbl := lw_at lw_m6 227 rfl
theorem q1465 : (Jvm.Cond.instanceMethod ({ cls := "AislewrightModel", name := "layRoute", desc := "(I)V" } : Jvm.MethodName)) ∈ lw_all := lw_g (lw_at lw_m6 228 rfl) rfl
theorem q1466 : (Jvm.Cond.code ({ cls := "AislewrightModel", name := "layRoute", desc := "(I)V" } : Jvm.MethodName) prog_7_method_10_code (5 : Nat) (Option.none : Option Jvm.ClassFile.FieldType)) ∈ lw_all := lw_g (lw_at lw_m6 229 rfl) rfl
theorem q1467 : (Jvm.Cond.methodLink "AislewrightModel" (79 : Nat) ({ cls := "AislewrightModel", name := "wayOn", desc := "(II)I" } : Jvm.MethodName)) ∈ lw_all := lw_g (lw_at lw_m6 230 rfl) rfl
theorem q1468 : (Jvm.Cond.privateMethod ({ cls := "AislewrightModel", name := "wayOn", desc := "(II)I" } : Jvm.MethodName)) ∈ lw_tbl := lw_at lw_m6 231 rfl
theorem q1469 : (Jvm.Cond.instanceMethod ({ cls := "AislewrightModel", name := "wayOn", desc := "(II)I" } : Jvm.MethodName)) ∈ lw_all := lw_g (lw_at lw_m6 232 rfl) rfl
theorem q1470 : (Jvm.Cond.code ({ cls := "AislewrightModel", name := "wayOn", desc := "(II)I" } : Jvm.MethodName) prog_7_method_11_code (6 : Nat) (Option.some Jvm.ClassFile.FieldType.int)) ∈ lw_all := lw_g (lw_at lw_m6 233 rfl) rfl
theorem q1471 : (Jvm.Cond.methodLink "AislewrightModel" (83 : Nat) ({ cls := "AislewrightModel", name := "step", desc := "(II)I" } : Jvm.MethodName)) ∈ lw_all := lw_g (lw_at lw_m6 234 rfl) rfl
theorem q1472 : (Jvm.Cond.privateMethod ({ cls := "AislewrightModel", name := "step", desc := "(II)I" } : Jvm.MethodName)) ∈ lw_tbl := lw_at lw_m6 235 rfl
theorem q1473 : (Jvm.Cond.instanceMethod ({ cls := "AislewrightModel", name := "step", desc := "(II)I" } : Jvm.MethodName)) ∈ lw_all := lw_g (lw_at lw_m6 236 rfl) rfl
theorem q1474 : (Jvm.Cond.code ({ cls := "AislewrightModel", name := "step", desc := "(II)I" } : Jvm.MethodName) prog_7_method_9_code (3 : Nat) (Option.some Jvm.ClassFile.FieldType.int)) ∈ lw_all := lw_g (lw_at lw_m6 237 rfl) rfl
theorem q1475 : (Jvm.Cond.constant "AislewrightModel" (82 : Nat) (1000000000 : Int32)) ∈ lw_all := lw_g (lw_at lw_m6 238 rfl) rfl
theorem q1477 : (Jvm.Cond.instanceMethod ({ cls := "AislewrightModel", name := "setCapacity", desc := "(I)I" } : Jvm.MethodName)) ∈ lw_all := lw_g (lw_at lw_m7 0 rfl) rfl
theorem q1478 : (Jvm.Cond.selects "AislewrightModel" ({ cls := "AislewrightModel", name := "setCapacity", desc := "(I)I" } : Jvm.MethodName) ({ cls := "AislewrightModel", name := "setCapacity", desc := "(I)I" } : Jvm.MethodName)) ∈ lw_all := lw_g (lw_at lw_m7 1 rfl) rfl
theorem q1479 : (Jvm.Cond.code ({ cls := "AislewrightModel", name := "setCapacity", desc := "(I)I" } : Jvm.MethodName) prog_7_method_28_code (4 : Nat) (Option.some Jvm.ClassFile.FieldType.int)) ∈ lw_all := lw_g (lw_at lw_m7 2 rfl) rfl
theorem q1481 : (Jvm.Cond.instanceMethod ({ cls := "AislewrightModel", name := "planWave", desc := "(I)I" } : Jvm.MethodName)) ∈ lw_all := lw_g (lw_at lw_m7 4 rfl) rfl
theorem q1482 : (Jvm.Cond.selects "AislewrightModel" ({ cls := "AislewrightModel", name := "planWave", desc := "(I)I" } : Jvm.MethodName) ({ cls := "AislewrightModel", name := "planWave", desc := "(I)I" } : Jvm.MethodName)) ∈ lw_all := lw_g (lw_at lw_m7 5 rfl) rfl
theorem q1483 : (Jvm.Cond.code ({ cls := "AislewrightModel", name := "planWave", desc := "(I)I" } : Jvm.MethodName) prog_7_method_33_code (4 : Nat) (Option.some Jvm.ClassFile.FieldType.int)) ∈ lw_all := lw_g (lw_at lw_m7 6 rfl) rfl
theorem q1484 : (Jvm.Cond.methodLink "AislewrightModel" (126 : Nat) ({ cls := "AislewrightModel", name := "joins", desc := "()Z" } : Jvm.MethodName)) ∈ lw_all := lw_g (lw_at lw_m7 7 rfl) rfl
theorem q1485 : (Jvm.Cond.privateMethod ({ cls := "AislewrightModel", name := "joins", desc := "()Z" } : Jvm.MethodName)) ∈ lw_tbl := lw_at lw_m7 8 rfl
theorem q1486 : (Jvm.Cond.instanceMethod ({ cls := "AislewrightModel", name := "joins", desc := "()Z" } : Jvm.MethodName)) ∈ lw_all := lw_g (lw_at lw_m7 9 rfl) rfl
theorem q1487 : (Jvm.Cond.code ({ cls := "AislewrightModel", name := "joins", desc := "()Z" } : Jvm.MethodName) prog_7_method_32_code (7 : Nat) (Option.some Jvm.ClassFile.FieldType.boolean)) ∈ lw_all := lw_g (lw_at lw_m7 10 rfl) rfl
theorem q1488 : (Jvm.Cond.methodLink "AislewrightModel" (117 : Nat) ({ cls := "AislewrightModel", name := "countLines", desc := "(I)I" } : Jvm.MethodName)) ∈ lw_all := lw_g (lw_at lw_m7 11 rfl) rfl
theorem q1489 : (Jvm.Cond.privateMethod ({ cls := "AislewrightModel", name := "countLines", desc := "(I)I" } : Jvm.MethodName)) ∈ lw_tbl := lw_at lw_m7 12 rfl
theorem q1490 : (Jvm.Cond.instanceMethod ({ cls := "AislewrightModel", name := "countLines", desc := "(I)I" } : Jvm.MethodName)) ∈ lw_all := lw_g (lw_at lw_m7 13 rfl) rfl
theorem q1491 : (Jvm.Cond.code ({ cls := "AislewrightModel", name := "countLines", desc := "(I)I" } : Jvm.MethodName) prog_7_method_30_code (4 : Nat) (Option.some Jvm.ClassFile.FieldType.int)) ∈ lw_all := lw_g (lw_at lw_m7 14 rfl) rfl
theorem q1492 : (Jvm.Cond.methodLink "AislewrightModel" (120 : Nat) ({ cls := "AislewrightModel", name := "productsOf", desc := "(I)I" } : Jvm.MethodName)) ∈ lw_all := lw_g (lw_at lw_m7 15 rfl) rfl
theorem q1493 : (Jvm.Cond.privateMethod ({ cls := "AislewrightModel", name := "productsOf", desc := "(I)I" } : Jvm.MethodName)) ∈ lw_tbl := lw_at lw_m7 16 rfl
theorem q1494 : (Jvm.Cond.instanceMethod ({ cls := "AislewrightModel", name := "productsOf", desc := "(I)I" } : Jvm.MethodName)) ∈ lw_all := lw_g (lw_at lw_m7 17 rfl) rfl
theorem q1495 : (Jvm.Cond.code ({ cls := "AislewrightModel", name := "productsOf", desc := "(I)I" } : Jvm.MethodName) prog_7_method_29_code (4 : Nat) (Option.some Jvm.ClassFile.FieldType.int)) ∈ lw_all := lw_g (lw_at lw_m7 18 rfl) rfl
theorem q1496 : (Jvm.Cond.methodLink "AislewrightModel" (123 : Nat) ({ cls := "AislewrightModel", name := "closeUp", desc := "(I)V" } : Jvm.MethodName)) ∈ lw_all := lw_g (lw_at lw_m7 19 rfl) rfl
theorem q1497 : (Jvm.Cond.privateMethod ({ cls := "AislewrightModel", name := "closeUp", desc := "(I)V" } : Jvm.MethodName)) ∈ lw_tbl := lw_at lw_m7 20 rfl
theorem q1498 : (Jvm.Cond.instanceMethod ({ cls := "AislewrightModel", name := "closeUp", desc := "(I)V" } : Jvm.MethodName)) ∈ lw_all := lw_g (lw_at lw_m7 21 rfl) rfl
theorem q1499 : (Jvm.Cond.code ({ cls := "AislewrightModel", name := "closeUp", desc := "(I)V" } : Jvm.MethodName) prog_7_method_31_code (3 : Nat) (Option.none : Option Jvm.ClassFile.FieldType)) ∈ lw_all := lw_g (lw_at lw_m7 22 rfl) rfl
theorem q1501 : (Jvm.Cond.instanceMethod ({ cls := "AislewrightModel", name := "pick", desc := "(I)I" } : Jvm.MethodName)) ∈ lw_all := lw_g (lw_at lw_m7 24 rfl) rfl
theorem q1502 : (Jvm.Cond.selects "AislewrightModel" ({ cls := "AislewrightModel", name := "pick", desc := "(I)I" } : Jvm.MethodName) ({ cls := "AislewrightModel", name := "pick", desc := "(I)I" } : Jvm.MethodName)) ∈ lw_all := lw_g (lw_at lw_m7 25 rfl) rfl
theorem q1503 : (Jvm.Cond.code ({ cls := "AislewrightModel", name := "pick", desc := "(I)I" } : Jvm.MethodName) prog_7_method_34_code (4 : Nat) (Option.some Jvm.ClassFile.FieldType.int)) ∈ lw_all := lw_g (lw_at lw_m7 26 rfl) rfl
theorem q1504 : (Jvm.Cond.methodLink "AislewrightModel" (130 : Nat) ({ cls := "AislewrightModel", name := "isBatch", desc := "(I)Z" } : Jvm.MethodName)) ∈ lw_all := lw_g (lw_at lw_m7 27 rfl) rfl
theorem q1505 : (Jvm.Cond.privateMethod ({ cls := "AislewrightModel", name := "isBatch", desc := "(I)Z" } : Jvm.MethodName)) ∈ lw_tbl := lw_at lw_m7 28 rfl
theorem q1506 : (Jvm.Cond.instanceMethod ({ cls := "AislewrightModel", name := "isBatch", desc := "(I)Z" } : Jvm.MethodName)) ∈ lw_all := lw_g (lw_at lw_m7 29 rfl) rfl
theorem q1507 : (Jvm.Cond.code ({ cls := "AislewrightModel", name := "isBatch", desc := "(I)Z" } : Jvm.MethodName) prog_7_method_7_code (2 : Nat) (Option.some Jvm.ClassFile.FieldType.boolean)) ∈ lw_all := lw_g (lw_at lw_m7 30 rfl) rfl
theorem q1509 : (Jvm.Cond.instanceMethod ({ cls := "AislewrightModel", name := "batches", desc := "()I" } : Jvm.MethodName)) ∈ lw_all := lw_g (lw_at lw_m7 32 rfl) rfl
theorem q1510 : (Jvm.Cond.selects "AislewrightModel" ({ cls := "AislewrightModel", name := "batches", desc := "()I" } : Jvm.MethodName) ({ cls := "AislewrightModel", name := "batches", desc := "()I" } : Jvm.MethodName)) ∈ lw_all := lw_g (lw_at lw_m7 33 rfl) rfl
theorem q1511 : (Jvm.Cond.code ({ cls := "AislewrightModel", name := "batches", desc := "()I" } : Jvm.MethodName) prog_7_method_35_code (1 : Nat) (Option.some Jvm.ClassFile.FieldType.int)) ∈ lw_all := lw_g (lw_at lw_m7 34 rfl) rfl
theorem q1513 : (Jvm.Cond.instanceMethod ({ cls := "AislewrightModel", name := "batchOf", desc := "(I)I" } : Jvm.MethodName)) ∈ lw_all := lw_g (lw_at lw_m7 36 rfl) rfl
theorem q1514 : (Jvm.Cond.selects "AislewrightModel" ({ cls := "AislewrightModel", name := "batchOf", desc := "(I)I" } : Jvm.MethodName) ({ cls := "AislewrightModel", name := "batchOf", desc := "(I)I" } : Jvm.MethodName)) ∈ lw_all := lw_g (lw_at lw_m7 37 rfl) rfl
theorem q1515 : (Jvm.Cond.code ({ cls := "AislewrightModel", name := "batchOf", desc := "(I)I" } : Jvm.MethodName) prog_7_method_36_code (2 : Nat) (Option.some Jvm.ClassFile.FieldType.int)) ∈ lw_all := lw_g (lw_at lw_m7 38 rfl) rfl
theorem q1517 : (Jvm.Cond.instanceMethod ({ cls := "AislewrightModel", name := "linesOf", desc := "(I)I" } : Jvm.MethodName)) ∈ lw_all := lw_g (lw_at lw_m7 40 rfl) rfl
theorem q1518 : (Jvm.Cond.selects "AislewrightModel" ({ cls := "AislewrightModel", name := "linesOf", desc := "(I)I" } : Jvm.MethodName) ({ cls := "AislewrightModel", name := "linesOf", desc := "(I)I" } : Jvm.MethodName)) ∈ lw_all := lw_g (lw_at lw_m7 41 rfl) rfl
theorem q1519 : (Jvm.Cond.code ({ cls := "AislewrightModel", name := "linesOf", desc := "(I)I" } : Jvm.MethodName) prog_7_method_37_code (2 : Nat) (Option.some Jvm.ClassFile.FieldType.int)) ∈ lw_all := lw_g (lw_at lw_m7 42 rfl) rfl
theorem q1521 : (Jvm.Cond.instanceMethod ({ cls := "AislewrightModel", name := "lengthOf", desc := "(I)I" } : Jvm.MethodName)) ∈ lw_all := lw_g (lw_at lw_m7 44 rfl) rfl
theorem q1522 : (Jvm.Cond.selects "AislewrightModel" ({ cls := "AislewrightModel", name := "lengthOf", desc := "(I)I" } : Jvm.MethodName) ({ cls := "AislewrightModel", name := "lengthOf", desc := "(I)I" } : Jvm.MethodName)) ∈ lw_all := lw_g (lw_at lw_m7 45 rfl) rfl
theorem q1523 : (Jvm.Cond.code ({ cls := "AislewrightModel", name := "lengthOf", desc := "(I)I" } : Jvm.MethodName) prog_7_method_38_code (2 : Nat) (Option.some Jvm.ClassFile.FieldType.int)) ∈ lw_all := lw_g (lw_at lw_m7 46 rfl) rfl
theorem q1525 : (Jvm.Cond.instanceMethod ({ cls := "AislewrightModel", name := "lengthByTrying", desc := "(I)I" } : Jvm.MethodName)) ∈ lw_all := lw_g (lw_at lw_m7 48 rfl) rfl
theorem q1526 : (Jvm.Cond.selects "AislewrightModel" ({ cls := "AislewrightModel", name := "lengthByTrying", desc := "(I)I" } : Jvm.MethodName) ({ cls := "AislewrightModel", name := "lengthByTrying", desc := "(I)I" } : Jvm.MethodName)) ∈ lw_all := lw_g (lw_at lw_m7 49 rfl) rfl
theorem q1527 : (Jvm.Cond.code ({ cls := "AislewrightModel", name := "lengthByTrying", desc := "(I)I" } : Jvm.MethodName) prog_7_method_39_code (3 : Nat) (Option.some Jvm.ClassFile.FieldType.int)) ∈ lw_all := lw_g (lw_at lw_m7 50 rfl) rfl
theorem q1529 : (Jvm.Cond.instanceMethod ({ cls := "AislewrightModel", name := "lengthThrough", desc := "(I)I" } : Jvm.MethodName)) ∈ lw_all := lw_g (lw_at lw_m7 52 rfl) rfl
theorem q1530 : (Jvm.Cond.selects "AislewrightModel" ({ cls := "AislewrightModel", name := "lengthThrough", desc := "(I)I" } : Jvm.MethodName) ({ cls := "AislewrightModel", name := "lengthThrough", desc := "(I)I" } : Jvm.MethodName)) ∈ lw_all := lw_g (lw_at lw_m7 53 rfl) rfl
theorem q1531 : (Jvm.Cond.code ({ cls := "AislewrightModel", name := "lengthThrough", desc := "(I)I" } : Jvm.MethodName) prog_7_method_41_code (5 : Nat) (Option.some Jvm.ClassFile.FieldType.int)) ∈ lw_all := lw_g (lw_at lw_m7 54 rfl) rfl
theorem q1532 : (Jvm.Cond.methodLink "AislewrightModel" (140 : Nat) ({ cls := "AislewrightModel", name := "farthest", desc := "(II)I" } : Jvm.MethodName)) ∈ lw_all := lw_g (lw_at lw_m7 55 rfl) rfl
theorem q1533 : (Jvm.Cond.privateMethod ({ cls := "AislewrightModel", name := "farthest", desc := "(II)I" } : Jvm.MethodName)) ∈ lw_tbl := lw_at lw_m7 56 rfl
theorem q1534 : (Jvm.Cond.instanceMethod ({ cls := "AislewrightModel", name := "farthest", desc := "(II)I" } : Jvm.MethodName)) ∈ lw_all := lw_g (lw_at lw_m7 57 rfl) rfl
theorem q1535 : (Jvm.Cond.code ({ cls := "AislewrightModel", name := "farthest", desc := "(II)I" } : Jvm.MethodName) prog_7_method_40_code (7 : Nat) (Option.some Jvm.ClassFile.FieldType.int)) ∈ lw_all := lw_g (lw_at lw_m7 58 rfl) rfl
theorem q1537 : (Jvm.Cond.instanceMethod ({ cls := "AislewrightModel", name := "stops", desc := "(I)I" } : Jvm.MethodName)) ∈ lw_all := lw_g (lw_at lw_m7 60 rfl) rfl
theorem q1538 : (Jvm.Cond.selects "AislewrightModel" ({ cls := "AislewrightModel", name := "stops", desc := "(I)I" } : Jvm.MethodName) ({ cls := "AislewrightModel", name := "stops", desc := "(I)I" } : Jvm.MethodName)) ∈ lw_all := lw_g (lw_at lw_m7 61 rfl) rfl
theorem q1539 : (Jvm.Cond.code ({ cls := "AislewrightModel", name := "stops", desc := "(I)I" } : Jvm.MethodName) prog_7_method_42_code (2 : Nat) (Option.some Jvm.ClassFile.FieldType.int)) ∈ lw_all := lw_g (lw_at lw_m7 62 rfl) rfl
theorem q1541 : (Jvm.Cond.instanceMethod ({ cls := "AislewrightModel", name := "stopAt", desc := "(II)I" } : Jvm.MethodName)) ∈ lw_all := lw_g (lw_at lw_m7 64 rfl) rfl
theorem q1542 : (Jvm.Cond.selects "AislewrightModel" ({ cls := "AislewrightModel", name := "stopAt", desc := "(II)I" } : Jvm.MethodName) ({ cls := "AislewrightModel", name := "stopAt", desc := "(II)I" } : Jvm.MethodName)) ∈ lw_all := lw_g (lw_at lw_m7 65 rfl) rfl
theorem q1543 : (Jvm.Cond.code ({ cls := "AislewrightModel", name := "stopAt", desc := "(II)I" } : Jvm.MethodName) prog_7_method_43_code (3 : Nat) (Option.some Jvm.ClassFile.FieldType.int)) ∈ lw_all := lw_g (lw_at lw_m7 66 rfl) rfl
theorem q1544 : (Jvm.Cond.methodLink "AislewrightModel" (143 : Nat) ({ cls := "AislewrightModel", name := "layPath", desc := "(I)V" } : Jvm.MethodName)) ∈ lw_all := lw_g (lw_at lw_m7 67 rfl) rfl
theorem q1545 : (Jvm.Cond.privateMethod ({ cls := "AislewrightModel", name := "layPath", desc := "(I)V" } : Jvm.MethodName)) ∈ lw_tbl := lw_at lw_m7 68 rfl
theorem q1546 : (Jvm.Cond.instanceMethod ({ cls := "AislewrightModel", name := "layPath", desc := "(I)V" } : Jvm.MethodName)) ∈ lw_all := lw_g (lw_at lw_m7 69 rfl) rfl
theorem q1547 : (Jvm.Cond.code ({ cls := "AislewrightModel", name := "layPath", desc := "(I)V" } : Jvm.MethodName) prog_7_method_13_code (8 : Nat) (Option.none : Option Jvm.ClassFile.FieldType)) ∈ lw_all := lw_g (lw_at lw_m7 70 rfl) rfl
theorem q1549 : (Jvm.Cond.instanceMethod ({ cls := "AislewrightModel", name := "inAisle", desc := "(I)I" } : Jvm.MethodName)) ∈ lw_all := lw_g (lw_at lw_m7 72 rfl) rfl
theorem q1550 : (Jvm.Cond.selects "AislewrightModel" ({ cls := "AislewrightModel", name := "inAisle", desc := "(I)I" } : Jvm.MethodName) ({ cls := "AislewrightModel", name := "inAisle", desc := "(I)I" } : Jvm.MethodName)) ∈ lw_all := lw_g (lw_at lw_m7 73 rfl) rfl
theorem q1551 : (Jvm.Cond.code ({ cls := "AislewrightModel", name := "inAisle", desc := "(I)I" } : Jvm.MethodName) prog_7_method_44_code (4 : Nat) (Option.some Jvm.ClassFile.FieldType.int)) ∈ lw_all := lw_g (lw_at lw_m7 74 rfl) rfl
theorem q1553 : (Jvm.Cond.instanceMethod ({ cls := "AislewrightModel", name := "walked", desc := "()I" } : Jvm.MethodName)) ∈ lw_all := lw_g (lw_at lw_m7 76 rfl) rfl
theorem q1554 : (Jvm.Cond.selects "AislewrightModel" ({ cls := "AislewrightModel", name := "walked", desc := "()I" } : Jvm.MethodName) ({ cls := "AislewrightModel", name := "walked", desc := "()I" } : Jvm.MethodName)) ∈ lw_all := lw_g (lw_at lw_m7 77 rfl) rfl
theorem q1555 : (Jvm.Cond.code ({ cls := "AislewrightModel", name := "walked", desc := "()I" } : Jvm.MethodName) prog_7_method_45_code (1 : Nat) (Option.some Jvm.ClassFile.FieldType.int)) ∈ lw_all := lw_g (lw_at lw_m7 78 rfl) rfl
theorem q1557 : (Jvm.Cond.instanceMethod ({ cls := "AislewrightModel", name := "share", desc := "()D" } : Jvm.MethodName)) ∈ lw_all := lw_g (lw_at lw_m7 80 rfl) rfl
theorem q1558 : (Jvm.Cond.selects "AislewrightModel" ({ cls := "AislewrightModel", name := "share", desc := "()D" } : Jvm.MethodName) ({ cls := "AislewrightModel", name := "share", desc := "()D" } : Jvm.MethodName)) ∈ lw_all := lw_g (lw_at lw_m7 81 rfl) rfl
theorem q1559 : (Jvm.Cond.code ({ cls := "AislewrightModel", name := "share", desc := "()D" } : Jvm.MethodName) prog_7_method_46_code (1 : Nat) (Option.some Jvm.ClassFile.FieldType.double)) ∈ lw_all := lw_g (lw_at lw_m7 82 rfl) rfl
theorem q1576 : (Jvm.Cond.castable "AislewrightModel" "java/lang/Object") ∈ lw_tbl := lw_at lw_m7 99 rfl
theorem in_X3 : ∀ w ∈ wsX30, w ∈ lw_all := lw_in wsX30 [1336, 1338, 1340, 1342, 1344, 1346, 1348, 1350, 1352, 1354, 1356, 1358, 1360, 1362, 1364, 1366, 1368, 1370, 1372, 1374, 1376, 1378] (by decide +kernel) (by decide +kernel)
