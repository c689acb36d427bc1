/-! WaterGroundsModel -/
set_option maxRecDepth 100000
def RX8 : String := "WaterGroundsModel"
def TX8 : u_T := fun k => match k with
  | 0 => ("WaterGroundsModel", "rings", "I", false)
  | 1 => ("WaterGroundsModel", "layers", "I", false)
  | 2 => ("WaterGroundsModel", "gram", "[I", true)
  | 3 => ("WaterGroundsModel", "rate", "[I", true)
  | 4 => ("WaterGroundsModel", "step", "I", false)
  | 5 => ("WaterGroundsModel", "looseA", "I", false)
  | 6 => ("WaterGroundsModel", "looseB", "I", false)
  | 7 => ("WaterGroundsModel", "slack", "[I", true)
  | 8 => ("WaterGroundsModel", "side", "I", false)
  | 9 => ("WaterGroundsModel", "run", "I", false)
  | 10 => ("WaterGroundsModel", "warm", "I", false)
  | 11 => ("WaterGroundsModel", "grams", "I", false)
  | 12 => ("WaterGroundsModel", "pours", "I", false)
  | 13 => ("WaterGroundsModel", "pourTick", "[I", true)
  | 14 => ("WaterGroundsModel", "pourRing", "[I", true)
  | 15 => ("WaterGroundsModel", "pourMuch", "[I", true)
  | 16 => ("WaterGroundsModel", "ticks", "I", false)
  | 17 => ("WaterGroundsModel", "chart", "[I", true)
  | 18 => ("WaterGroundsModel", "bytes", "I", false)
  | 19 => ("WaterGroundsModel", "text", "[I", true)
  | 20 => ("WaterGroundsModel", "position", "I", false)
  | 21 => ("WaterGroundsModel", "tokenAt", "I", false)
  | 22 => ("WaterGroundsModel", "token", "J", false)
  | 23 => ("WaterGroundsModel", "digits", "I", false)
  | 24 => ("WaterGroundsModel", "number", "I", false)
  | 25 => ("WaterGroundsModel", "faultAt", "I", false)
  | 26 => ("WaterGroundsModel", "readMany", "I", false)
  | 27 => ("WaterGroundsModel", "read", "[I", true)
  | 28 => ("WaterGroundsModel", "readRings", "I", false)
  | 29 => ("WaterGroundsModel", "readLayers", "I", false)
  | 30 => ("WaterGroundsModel", "brew", "[I", true)
  | 31 => ("WaterGroundsModel", "aside", "[I", true)
  | 32 => ("WaterGroundsModel", "image", "[I", true)
  | 33 => ("WaterGroundsModel", "isKept", "[Z", true)
  | 34 => ("WaterGroundsModel", "more", "[I", true)
  | 35 => ("WaterGroundsModel", "row", "[I", true)
  | 36 => ("WaterGroundsModel", "rights", "[I", true)
  | 37 => ("WaterGroundsModel", "strongOf", "I", false)
  | 38 => ("WaterGroundsModel", "outOf", "I", false)
  | 39 => ("WaterGroundsModel", "unevenOf", "I", false)
  | 40 => ("WaterGroundsModel", "ranOf", "I", false)
  | _ => ("WaterGroundsModel", "runsOf", "I", false)
def tyX8 : Nat → FieldType := fun k => match k with
  | 0 => .int
  | 1 => .int
  | 2 => .array .int
  | 3 => .array .int
  | 4 => .int
  | 5 => .int
  | 6 => .int
  | 7 => .array .int
  | 8 => .int
  | 9 => .int
  | 10 => .int
  | 11 => .int
  | 12 => .int
  | 13 => .array .int
  | 14 => .array .int
  | 15 => .array .int
  | 16 => .int
  | 17 => .array .int
  | 18 => .int
  | 19 => .array .int
  | 20 => .int
  | 21 => .int
  | 22 => .long
  | 23 => .int
  | 24 => .int
  | 25 => .int
  | 26 => .int
  | 27 => .array .int
  | 28 => .int
  | 29 => .int
  | 30 => .array .int
  | 31 => .array .int
  | 32 => .array .int
  | 33 => .array .boolean
  | 34 => .array .int
  | 35 => .array .int
  | 36 => .array .int
  | 37 => .int
  | 38 => .int
  | 39 => .int
  | 40 => .int
  | _ => .int
abbrev wsX80 : List Cond := u_ws RX8 TX8 42
set_option maxRecDepth 100000 in
theorem nmX8 : ∀ a, a < 42 → ∀ b, b < 42 → a ≠ b → (TX8 a).2.1 ≠ (TX8 b).2.1 := by decide +kernel
set_option maxRecDepth 100000 in
theorem tyX8_ok : ∀ k, k < 42 → parseFieldDescriptor (TX8 k).2.2.1 = some (tyX8 k) := by decide +kernel
abbrev cX8_init : ByteArray := prog_17_method_1_code
def yX8_init : MethodName := ⟨RX8, "<init>", "()V"⟩
def dkwX8_init_11 : List UInt8 := [79, 42, 180, 0, 56, 7, 16, 50, 79, 42, 182, 0, 87, 177]
abbrev dktX8_init_11 : List UInt8 := dkwX8_init_11 ++ []
def dkwX8_init_10 : List UInt8 := [180, 0, 56, 4, 16, 120, 79, 42, 180, 0, 56, 5, 17, 0, 180, 79, 42, 180, 0, 56, 6, 17, 0, 220]
abbrev dktX8_init_10 : List UInt8 := dkwX8_init_10 ++ dktX8_init_11
def dkwX8_init_9 : List UInt8 := [180, 0, 20, 4, 16, 20, 79, 42, 180, 0, 20, 5, 16, 8, 79, 42, 180, 0, 56, 3, 16, 60, 79, 42]
abbrev dktX8_init_9 : List UInt8 := dkwX8_init_9 ++ dktX8_init_10
def dkwX8_init_8 : List UInt8 := [180, 0, 16, 4, 16, 20, 79, 42, 180, 0, 16, 5, 16, 30, 79, 42, 180, 0, 20, 3, 16, 40, 79, 42]
abbrev dktX8_init_8 : List UInt8 := dkwX8_init_8 ++ dktX8_init_9
def dkwX8_init_7 : List UInt8 := [6, 188, 10, 181, 0, 81, 42, 16, 121, 188, 10, 181, 0, 84, 42, 180, 0, 16, 3, 16, 10, 79, 42]
abbrev dktX8_init_7 : List UInt8 := dkwX8_init_7 ++ dktX8_init_8
def dkwX8_init_6 : List UInt8 := [17, 1, 20, 188, 10, 181, 0, 71, 42, 5, 188, 4, 181, 0, 74, 42, 16, 64, 188, 10, 181, 0, 78, 42]
abbrev dktX8_init_6 : List UInt8 := dkwX8_init_6 ++ dktX8_init_7
def dkwX8_init_5 : List UInt8 := [188, 10, 181, 0, 62, 42, 17, 0, 138, 188, 10, 181, 0, 65, 42, 17, 0, 138, 188, 10, 181, 0, 68, 42]
abbrev dktX8_init_5 : List UInt8 := dkwX8_init_5 ++ dktX8_init_6
def dkwX8_init_4 : List UInt8 := [16, 30, 181, 0, 53, 42, 8, 188, 10, 181, 0, 56, 42, 17, 0, 200, 188, 10, 181, 0, 59, 42, 16, 60]
abbrev dktX8_init_4 : List UInt8 := dkwX8_init_4 ++ dktX8_init_5
def dkwX8_init_3 : List UInt8 := [16, 12, 188, 10, 181, 0, 44, 42, 16, 12, 188, 10, 181, 0, 47, 42, 16, 12, 188, 10, 181, 0, 50, 42]
abbrev dktX8_init_3 : List UInt8 := dkwX8_init_3 ++ dktX8_init_4
def dkwX8_init_2 : List UInt8 := [16, 16, 188, 10, 181, 0, 32, 42, 8, 181, 0, 35, 42, 16, 90, 181, 0, 38, 42, 8, 181, 0, 41, 42]
abbrev dktX8_init_2 : List UInt8 := dkwX8_init_2 ++ dktX8_init_3
def dkwX8_init_1 : List UInt8 := [188, 10, 181, 0, 20, 42, 8, 181, 0, 23, 42, 16, 10, 181, 0, 26, 42, 16, 6, 181, 0, 29, 42]
abbrev dktX8_init_1 : List UInt8 := dkwX8_init_1 ++ dktX8_init_2
def dkwX8_init_0 : List UInt8 := [42, 183, 0, 1, 42, 5, 181, 0, 7, 42, 5, 181, 0, 13, 42, 6, 188, 10, 181, 0, 16, 42, 6]
abbrev dktX8_init_0 : List UInt8 := dkwX8_init_0 ++ dktX8_init_1
theorem dksX8_init_0 : cX8_init.data.toList.drop 0 = dktX8_init_0 := by decide +kernel
theorem dksX8_init_1 : cX8_init.data.toList.drop 23 = dktX8_init_1 := dk_seg dksX8_init_0 23 rfl rfl
theorem dksX8_init_2 : cX8_init.data.toList.drop 46 = dktX8_init_2 := dk_seg dksX8_init_1 23 rfl rfl
theorem dksX8_init_3 : cX8_init.data.toList.drop 70 = dktX8_init_3 := dk_seg dksX8_init_2 24 rfl rfl
theorem dksX8_init_4 : cX8_init.data.toList.drop 94 = dktX8_init_4 := dk_seg dksX8_init_3 24 rfl rfl
theorem dksX8_init_5 : cX8_init.data.toList.drop 118 = dktX8_init_5 := dk_seg dksX8_init_4 24 rfl rfl
theorem dksX8_init_6 : cX8_init.data.toList.drop 142 = dktX8_init_6 := dk_seg dksX8_init_5 24 rfl rfl
theorem dksX8_init_7 : cX8_init.data.toList.drop 166 = dktX8_init_7 := dk_seg dksX8_init_6 24 rfl rfl
theorem dksX8_init_8 : cX8_init.data.toList.drop 189 = dktX8_init_8 := dk_seg dksX8_init_7 23 rfl rfl
theorem dksX8_init_9 : cX8_init.data.toList.drop 213 = dktX8_init_9 := dk_seg dksX8_init_8 24 rfl rfl
theorem dksX8_init_10 : cX8_init.data.toList.drop 237 = dktX8_init_10 := dk_seg dksX8_init_9 24 rfl rfl
theorem dksX8_init_11 : cX8_init.data.toList.drop 261 = dktX8_init_11 := dk_seg dksX8_init_10 24 rfl rfl
theorem dX8_init_0 : decode cX8_init 0 = .ok (.aload_n 0, 1) := dk_42 (dk_at dksX8_init_0 0 rfl rfl)
theorem dX8_init_1 : decode cX8_init 1 = .ok (.invokespecial 1, 3) := dk_183 0 1 (dk_at dksX8_init_0 1 rfl rfl)
theorem dX8_init_4 : decode cX8_init 4 = .ok (.aload_n 0, 1) := dk_42 (dk_at dksX8_init_0 4 rfl rfl)
theorem dX8_init_5 : decode cX8_init 5 = .ok (.iconst 2, 1) := dk_5 (dk_at dksX8_init_0 5 rfl rfl)
theorem dX8_init_6 : decode cX8_init 6 = .ok (.putfield 7, 3) := dk_181 0 7 (dk_at dksX8_init_0 6 rfl rfl)
theorem dX8_init_9 : decode cX8_init 9 = .ok (.aload_n 0, 1) := dk_42 (dk_at dksX8_init_0 9 rfl rfl)
theorem dX8_init_10 : decode cX8_init 10 = .ok (.iconst 2, 1) := dk_5 (dk_at dksX8_init_0 10 rfl rfl)
theorem dX8_init_11 : decode cX8_init 11 = .ok (.putfield 13, 3) := dk_181 0 13 (dk_at dksX8_init_0 11 rfl rfl)
theorem dX8_init_14 : decode cX8_init 14 = .ok (.aload_n 0, 1) := dk_42 (dk_at dksX8_init_0 14 rfl rfl)
theorem dX8_init_15 : decode cX8_init 15 = .ok (.iconst 3, 1) := dk_6 (dk_at dksX8_init_0 15 rfl rfl)
theorem dX8_init_16 : decode cX8_init 16 = .ok (.newarray .int, 2) := dk_188_10 (dk_at dksX8_init_0 16 rfl rfl)
theorem dX8_init_18 : decode cX8_init 18 = .ok (.putfield 16, 3) := dk_181 0 16 (dk_at dksX8_init_0 18 rfl rfl)
theorem dX8_init_21 : decode cX8_init 21 = .ok (.aload_n 0, 1) := dk_42 (dk_at dksX8_init_0 21 rfl rfl)
theorem dX8_init_22 : decode cX8_init 22 = .ok (.iconst 3, 1) := dk_6 (dk_at dksX8_init_0 22 rfl rfl)
theorem dX8_init_23 : decode cX8_init 23 = .ok (.newarray .int, 2) := dk_188_10 (dk_at dksX8_init_1 0 rfl rfl)
theorem dX8_init_25 : decode cX8_init 25 = .ok (.putfield 20, 3) := dk_181 0 20 (dk_at dksX8_init_1 2 rfl rfl)
theorem dX8_init_28 : decode cX8_init 28 = .ok (.aload_n 0, 1) := dk_42 (dk_at dksX8_init_1 5 rfl rfl)
theorem dX8_init_29 : decode cX8_init 29 = .ok (.iconst 5, 1) := dk_8 (dk_at dksX8_init_1 6 rfl rfl)
theorem dX8_init_30 : decode cX8_init 30 = .ok (.putfield 23, 3) := dk_181 0 23 (dk_at dksX8_init_1 7 rfl rfl)
theorem dX8_init_33 : decode cX8_init 33 = .ok (.aload_n 0, 1) := dk_42 (dk_at dksX8_init_1 10 rfl rfl)
theorem dX8_init_34 : decode cX8_init 34 = .ok (.bipush 10, 2) := dk_16 10 (dk_at dksX8_init_1 11 rfl rfl)
theorem dX8_init_36 : decode cX8_init 36 = .ok (.putfield 26, 3) := dk_181 0 26 (dk_at dksX8_init_1 13 rfl rfl)
theorem dX8_init_39 : decode cX8_init 39 = .ok (.aload_n 0, 1) := dk_42 (dk_at dksX8_init_1 16 rfl rfl)
theorem dX8_init_40 : decode cX8_init 40 = .ok (.bipush 6, 2) := dk_16 6 (dk_at dksX8_init_1 17 rfl rfl)
theorem dX8_init_42 : decode cX8_init 42 = .ok (.putfield 29, 3) := dk_181 0 29 (dk_at dksX8_init_1 19 rfl rfl)
theorem dX8_init_45 : decode cX8_init 45 = .ok (.aload_n 0, 1) := dk_42 (dk_at dksX8_init_1 22 rfl rfl)
theorem dX8_init_46 : decode cX8_init 46 = .ok (.bipush 16, 2) := dk_16 16 (dk_at dksX8_init_2 0 rfl rfl)
theorem dX8_init_48 : decode cX8_init 48 = .ok (.newarray .int, 2) := dk_188_10 (dk_at dksX8_init_2 2 rfl rfl)
theorem dX8_init_50 : decode cX8_init 50 = .ok (.putfield 32, 3) := dk_181 0 32 (dk_at dksX8_init_2 4 rfl rfl)
theorem dX8_init_53 : decode cX8_init 53 = .ok (.aload_n 0, 1) := dk_42 (dk_at dksX8_init_2 7 rfl rfl)
theorem dX8_init_54 : decode cX8_init 54 = .ok (.iconst 5, 1) := dk_8 (dk_at dksX8_init_2 8 rfl rfl)
theorem dX8_init_55 : decode cX8_init 55 = .ok (.putfield 35, 3) := dk_181 0 35 (dk_at dksX8_init_2 9 rfl rfl)
theorem dX8_init_58 : decode cX8_init 58 = .ok (.aload_n 0, 1) := dk_42 (dk_at dksX8_init_2 12 rfl rfl)
theorem dX8_init_59 : decode cX8_init 59 = .ok (.bipush 90, 2) := dk_16 90 (dk_at dksX8_init_2 13 rfl rfl)
theorem dX8_init_61 : decode cX8_init 61 = .ok (.putfield 38, 3) := dk_181 0 38 (dk_at dksX8_init_2 15 rfl rfl)
theorem dX8_init_64 : decode cX8_init 64 = .ok (.aload_n 0, 1) := dk_42 (dk_at dksX8_init_2 18 rfl rfl)
theorem dX8_init_65 : decode cX8_init 65 = .ok (.iconst 5, 1) := dk_8 (dk_at dksX8_init_2 19 rfl rfl)
theorem dX8_init_66 : decode cX8_init 66 = .ok (.putfield 41, 3) := dk_181 0 41 (dk_at dksX8_init_2 20 rfl rfl)
theorem dX8_init_69 : decode cX8_init 69 = .ok (.aload_n 0, 1) := dk_42 (dk_at dksX8_init_2 23 rfl rfl)
theorem dX8_init_70 : decode cX8_init 70 = .ok (.bipush 12, 2) := dk_16 12 (dk_at dksX8_init_3 0 rfl rfl)
theorem dX8_init_72 : decode cX8_init 72 = .ok (.newarray .int, 2) := dk_188_10 (dk_at dksX8_init_3 2 rfl rfl)
theorem dX8_init_74 : decode cX8_init 74 = .ok (.putfield 44, 3) := dk_181 0 44 (dk_at dksX8_init_3 4 rfl rfl)
theorem dX8_init_77 : decode cX8_init 77 = .ok (.aload_n 0, 1) := dk_42 (dk_at dksX8_init_3 7 rfl rfl)
theorem dX8_init_78 : decode cX8_init 78 = .ok (.bipush 12, 2) := dk_16 12 (dk_at dksX8_init_3 8 rfl rfl)
theorem dX8_init_80 : decode cX8_init 80 = .ok (.newarray .int, 2) := dk_188_10 (dk_at dksX8_init_3 10 rfl rfl)
theorem dX8_init_82 : decode cX8_init 82 = .ok (.putfield 47, 3) := dk_181 0 47 (dk_at dksX8_init_3 12 rfl rfl)
theorem dX8_init_85 : decode cX8_init 85 = .ok (.aload_n 0, 1) := dk_42 (dk_at dksX8_init_3 15 rfl rfl)
theorem dX8_init_86 : decode cX8_init 86 = .ok (.bipush 12, 2) := dk_16 12 (dk_at dksX8_init_3 16 rfl rfl)
theorem dX8_init_88 : decode cX8_init 88 = .ok (.newarray .int, 2) := dk_188_10 (dk_at dksX8_init_3 18 rfl rfl)
theorem dX8_init_90 : decode cX8_init 90 = .ok (.putfield 50, 3) := dk_181 0 50 (dk_at dksX8_init_3 20 rfl rfl)
theorem dX8_init_93 : decode cX8_init 93 = .ok (.aload_n 0, 1) := dk_42 (dk_at dksX8_init_3 23 rfl rfl)
theorem dX8_init_94 : decode cX8_init 94 = .ok (.bipush 30, 2) := dk_16 30 (dk_at dksX8_init_4 0 rfl rfl)
theorem dX8_init_96 : decode cX8_init 96 = .ok (.putfield 53, 3) := dk_181 0 53 (dk_at dksX8_init_4 2 rfl rfl)
theorem dX8_init_99 : decode cX8_init 99 = .ok (.aload_n 0, 1) := dk_42 (dk_at dksX8_init_4 5 rfl rfl)
theorem dX8_init_100 : decode cX8_init 100 = .ok (.iconst 5, 1) := dk_8 (dk_at dksX8_init_4 6 rfl rfl)
theorem dX8_init_101 : decode cX8_init 101 = .ok (.newarray .int, 2) := dk_188_10 (dk_at dksX8_init_4 7 rfl rfl)
theorem dX8_init_103 : decode cX8_init 103 = .ok (.putfield 56, 3) := dk_181 0 56 (dk_at dksX8_init_4 9 rfl rfl)
theorem dX8_init_106 : decode cX8_init 106 = .ok (.aload_n 0, 1) := dk_42 (dk_at dksX8_init_4 12 rfl rfl)
theorem dX8_init_107 : decode cX8_init 107 = .ok (.sipush 200, 3) := dk_17 0 200 (dk_at dksX8_init_4 13 rfl rfl)
theorem dX8_init_110 : decode cX8_init 110 = .ok (.newarray .int, 2) := dk_188_10 (dk_at dksX8_init_4 16 rfl rfl)
theorem dX8_init_112 : decode cX8_init 112 = .ok (.putfield 59, 3) := dk_181 0 59 (dk_at dksX8_init_4 18 rfl rfl)
theorem dX8_init_115 : decode cX8_init 115 = .ok (.aload_n 0, 1) := dk_42 (dk_at dksX8_init_4 21 rfl rfl)
theorem dX8_init_116 : decode cX8_init 116 = .ok (.bipush 60, 2) := dk_16 60 (dk_at dksX8_init_4 22 rfl rfl)
theorem dX8_init_118 : decode cX8_init 118 = .ok (.newarray .int, 2) := dk_188_10 (dk_at dksX8_init_5 0 rfl rfl)
theorem dX8_init_120 : decode cX8_init 120 = .ok (.putfield 62, 3) := dk_181 0 62 (dk_at dksX8_init_5 2 rfl rfl)
theorem dX8_init_123 : decode cX8_init 123 = .ok (.aload_n 0, 1) := dk_42 (dk_at dksX8_init_5 5 rfl rfl)
theorem dX8_init_124 : decode cX8_init 124 = .ok (.sipush 138, 3) := dk_17 0 138 (dk_at dksX8_init_5 6 rfl rfl)
theorem dX8_init_127 : decode cX8_init 127 = .ok (.newarray .int, 2) := dk_188_10 (dk_at dksX8_init_5 9 rfl rfl)
theorem dX8_init_129 : decode cX8_init 129 = .ok (.putfield 65, 3) := dk_181 0 65 (dk_at dksX8_init_5 11 rfl rfl)
theorem dX8_init_132 : decode cX8_init 132 = .ok (.aload_n 0, 1) := dk_42 (dk_at dksX8_init_5 14 rfl rfl)
theorem dX8_init_133 : decode cX8_init 133 = .ok (.sipush 138, 3) := dk_17 0 138 (dk_at dksX8_init_5 15 rfl rfl)
theorem dX8_init_136 : decode cX8_init 136 = .ok (.newarray .int, 2) := dk_188_10 (dk_at dksX8_init_5 18 rfl rfl)
theorem dX8_init_138 : decode cX8_init 138 = .ok (.putfield 68, 3) := dk_181 0 68 (dk_at dksX8_init_5 20 rfl rfl)
theorem dX8_init_141 : decode cX8_init 141 = .ok (.aload_n 0, 1) := dk_42 (dk_at dksX8_init_5 23 rfl rfl)
theorem dX8_init_142 : decode cX8_init 142 = .ok (.sipush 276, 3) := dk_17 1 20 (dk_at dksX8_init_6 0 rfl rfl)
theorem dX8_init_145 : decode cX8_init 145 = .ok (.newarray .int, 2) := dk_188_10 (dk_at dksX8_init_6 3 rfl rfl)
theorem dX8_init_147 : decode cX8_init 147 = .ok (.putfield 71, 3) := dk_181 0 71 (dk_at dksX8_init_6 5 rfl rfl)
theorem dX8_init_150 : decode cX8_init 150 = .ok (.aload_n 0, 1) := dk_42 (dk_at dksX8_init_6 8 rfl rfl)
theorem dX8_init_151 : decode cX8_init 151 = .ok (.iconst 2, 1) := dk_5 (dk_at dksX8_init_6 9 rfl rfl)
theorem dX8_init_152 : decode cX8_init 152 = .ok (.newarray .boolean, 2) := dk_188_4 (dk_at dksX8_init_6 10 rfl rfl)
theorem dX8_init_154 : decode cX8_init 154 = .ok (.putfield 74, 3) := dk_181 0 74 (dk_at dksX8_init_6 12 rfl rfl)
theorem dX8_init_157 : decode cX8_init 157 = .ok (.aload_n 0, 1) := dk_42 (dk_at dksX8_init_6 15 rfl rfl)
theorem dX8_init_158 : decode cX8_init 158 = .ok (.bipush 64, 2) := dk_16 64 (dk_at dksX8_init_6 16 rfl rfl)
theorem dX8_init_160 : decode cX8_init 160 = .ok (.newarray .int, 2) := dk_188_10 (dk_at dksX8_init_6 18 rfl rfl)
theorem dX8_init_162 : decode cX8_init 162 = .ok (.putfield 78, 3) := dk_181 0 78 (dk_at dksX8_init_6 20 rfl rfl)
theorem dX8_init_165 : decode cX8_init 165 = .ok (.aload_n 0, 1) := dk_42 (dk_at dksX8_init_6 23 rfl rfl)
theorem dX8_init_166 : decode cX8_init 166 = .ok (.iconst 3, 1) := dk_6 (dk_at dksX8_init_7 0 rfl rfl)
theorem dX8_init_167 : decode cX8_init 167 = .ok (.newarray .int, 2) := dk_188_10 (dk_at dksX8_init_7 1 rfl rfl)
theorem dX8_init_169 : decode cX8_init 169 = .ok (.putfield 81, 3) := dk_181 0 81 (dk_at dksX8_init_7 3 rfl rfl)
theorem dX8_init_172 : decode cX8_init 172 = .ok (.aload_n 0, 1) := dk_42 (dk_at dksX8_init_7 6 rfl rfl)
theorem dX8_init_173 : decode cX8_init 173 = .ok (.bipush 121, 2) := dk_16 121 (dk_at dksX8_init_7 7 rfl rfl)
theorem dX8_init_175 : decode cX8_init 175 = .ok (.newarray .int, 2) := dk_188_10 (dk_at dksX8_init_7 9 rfl rfl)
theorem dX8_init_177 : decode cX8_init 177 = .ok (.putfield 84, 3) := dk_181 0 84 (dk_at dksX8_init_7 11 rfl rfl)
theorem dX8_init_180 : decode cX8_init 180 = .ok (.aload_n 0, 1) := dk_42 (dk_at dksX8_init_7 14 rfl rfl)
theorem dX8_init_181 : decode cX8_init 181 = .ok (.getfield 16, 3) := dk_180 0 16 (dk_at dksX8_init_7 15 rfl rfl)
theorem dX8_init_184 : decode cX8_init 184 = .ok (.iconst 0, 1) := dk_3 (dk_at dksX8_init_7 18 rfl rfl)
theorem dX8_init_185 : decode cX8_init 185 = .ok (.bipush 10, 2) := dk_16 10 (dk_at dksX8_init_7 19 rfl rfl)
theorem dX8_init_187 : decode cX8_init 187 = .ok (.iastore, 1) := dk_79 (dk_at dksX8_init_7 21 rfl rfl)
theorem dX8_init_188 : decode cX8_init 188 = .ok (.aload_n 0, 1) := dk_42 (dk_at dksX8_init_7 22 rfl rfl)
theorem dX8_init_189 : decode cX8_init 189 = .ok (.getfield 16, 3) := dk_180 0 16 (dk_at dksX8_init_8 0 rfl rfl)
theorem dX8_init_192 : decode cX8_init 192 = .ok (.iconst 1, 1) := dk_4 (dk_at dksX8_init_8 3 rfl rfl)
theorem dX8_init_193 : decode cX8_init 193 = .ok (.bipush 20, 2) := dk_16 20 (dk_at dksX8_init_8 4 rfl rfl)
theorem dX8_init_195 : decode cX8_init 195 = .ok (.iastore, 1) := dk_79 (dk_at dksX8_init_8 6 rfl rfl)
theorem dX8_init_196 : decode cX8_init 196 = .ok (.aload_n 0, 1) := dk_42 (dk_at dksX8_init_8 7 rfl rfl)
theorem dX8_init_197 : decode cX8_init 197 = .ok (.getfield 16, 3) := dk_180 0 16 (dk_at dksX8_init_8 8 rfl rfl)
theorem dX8_init_200 : decode cX8_init 200 = .ok (.iconst 2, 1) := dk_5 (dk_at dksX8_init_8 11 rfl rfl)
theorem dX8_init_201 : decode cX8_init 201 = .ok (.bipush 30, 2) := dk_16 30 (dk_at dksX8_init_8 12 rfl rfl)
theorem dX8_init_203 : decode cX8_init 203 = .ok (.iastore, 1) := dk_79 (dk_at dksX8_init_8 14 rfl rfl)
theorem dX8_init_204 : decode cX8_init 204 = .ok (.aload_n 0, 1) := dk_42 (dk_at dksX8_init_8 15 rfl rfl)
theorem dX8_init_205 : decode cX8_init 205 = .ok (.getfield 20, 3) := dk_180 0 20 (dk_at dksX8_init_8 16 rfl rfl)
theorem dX8_init_208 : decode cX8_init 208 = .ok (.iconst 0, 1) := dk_3 (dk_at dksX8_init_8 19 rfl rfl)
theorem dX8_init_209 : decode cX8_init 209 = .ok (.bipush 40, 2) := dk_16 40 (dk_at dksX8_init_8 20 rfl rfl)
theorem dX8_init_211 : decode cX8_init 211 = .ok (.iastore, 1) := dk_79 (dk_at dksX8_init_8 22 rfl rfl)
theorem dX8_init_212 : decode cX8_init 212 = .ok (.aload_n 0, 1) := dk_42 (dk_at dksX8_init_8 23 rfl rfl)
theorem dX8_init_213 : decode cX8_init 213 = .ok (.getfield 20, 3) := dk_180 0 20 (dk_at dksX8_init_9 0 rfl rfl)
theorem dX8_init_216 : decode cX8_init 216 = .ok (.iconst 1, 1) := dk_4 (dk_at dksX8_init_9 3 rfl rfl)
theorem dX8_init_217 : decode cX8_init 217 = .ok (.bipush 20, 2) := dk_16 20 (dk_at dksX8_init_9 4 rfl rfl)
theorem dX8_init_219 : decode cX8_init 219 = .ok (.iastore, 1) := dk_79 (dk_at dksX8_init_9 6 rfl rfl)
theorem dX8_init_220 : decode cX8_init 220 = .ok (.aload_n 0, 1) := dk_42 (dk_at dksX8_init_9 7 rfl rfl)
theorem dX8_init_221 : decode cX8_init 221 = .ok (.getfield 20, 3) := dk_180 0 20 (dk_at dksX8_init_9 8 rfl rfl)
theorem dX8_init_224 : decode cX8_init 224 = .ok (.iconst 2, 1) := dk_5 (dk_at dksX8_init_9 11 rfl rfl)
theorem dX8_init_225 : decode cX8_init 225 = .ok (.bipush 8, 2) := dk_16 8 (dk_at dksX8_init_9 12 rfl rfl)
theorem dX8_init_227 : decode cX8_init 227 = .ok (.iastore, 1) := dk_79 (dk_at dksX8_init_9 14 rfl rfl)
theorem dX8_init_228 : decode cX8_init 228 = .ok (.aload_n 0, 1) := dk_42 (dk_at dksX8_init_9 15 rfl rfl)
theorem dX8_init_229 : decode cX8_init 229 = .ok (.getfield 56, 3) := dk_180 0 56 (dk_at dksX8_init_9 16 rfl rfl)
theorem dX8_init_232 : decode cX8_init 232 = .ok (.iconst 0, 1) := dk_3 (dk_at dksX8_init_9 19 rfl rfl)
theorem dX8_init_233 : decode cX8_init 233 = .ok (.bipush 60, 2) := dk_16 60 (dk_at dksX8_init_9 20 rfl rfl)
theorem dX8_init_235 : decode cX8_init 235 = .ok (.iastore, 1) := dk_79 (dk_at dksX8_init_9 22 rfl rfl)
theorem dX8_init_236 : decode cX8_init 236 = .ok (.aload_n 0, 1) := dk_42 (dk_at dksX8_init_9 23 rfl rfl)
theorem dX8_init_237 : decode cX8_init 237 = .ok (.getfield 56, 3) := dk_180 0 56 (dk_at dksX8_init_10 0 rfl rfl)
theorem dX8_init_240 : decode cX8_init 240 = .ok (.iconst 1, 1) := dk_4 (dk_at dksX8_init_10 3 rfl rfl)
theorem dX8_init_241 : decode cX8_init 241 = .ok (.bipush 120, 2) := dk_16 120 (dk_at dksX8_init_10 4 rfl rfl)
theorem dX8_init_243 : decode cX8_init 243 = .ok (.iastore, 1) := dk_79 (dk_at dksX8_init_10 6 rfl rfl)
theorem dX8_init_244 : decode cX8_init 244 = .ok (.aload_n 0, 1) := dk_42 (dk_at dksX8_init_10 7 rfl rfl)
theorem dX8_init_245 : decode cX8_init 245 = .ok (.getfield 56, 3) := dk_180 0 56 (dk_at dksX8_init_10 8 rfl rfl)
theorem dX8_init_248 : decode cX8_init 248 = .ok (.iconst 2, 1) := dk_5 (dk_at dksX8_init_10 11 rfl rfl)
theorem dX8_init_249 : decode cX8_init 249 = .ok (.sipush 180, 3) := dk_17 0 180 (dk_at dksX8_init_10 12 rfl rfl)
theorem dX8_init_252 : decode cX8_init 252 = .ok (.iastore, 1) := dk_79 (dk_at dksX8_init_10 15 rfl rfl)
theorem dX8_init_253 : decode cX8_init 253 = .ok (.aload_n 0, 1) := dk_42 (dk_at dksX8_init_10 16 rfl rfl)
theorem dX8_init_254 : decode cX8_init 254 = .ok (.getfield 56, 3) := dk_180 0 56 (dk_at dksX8_init_10 17 rfl rfl)
theorem dX8_init_257 : decode cX8_init 257 = .ok (.iconst 3, 1) := dk_6 (dk_at dksX8_init_10 20 rfl rfl)
theorem dX8_init_258 : decode cX8_init 258 = .ok (.sipush 220, 3) := dk_17 0 220 (dk_at dksX8_init_10 21 rfl rfl)
theorem dX8_init_261 : decode cX8_init 261 = .ok (.iastore, 1) := dk_79 (dk_at dksX8_init_11 0 rfl rfl)
theorem dX8_init_262 : decode cX8_init 262 = .ok (.aload_n 0, 1) := dk_42 (dk_at dksX8_init_11 1 rfl rfl)
theorem dX8_init_263 : decode cX8_init 263 = .ok (.getfield 56, 3) := dk_180 0 56 (dk_at dksX8_init_11 2 rfl rfl)
theorem dX8_init_266 : decode cX8_init 266 = .ok (.iconst 4, 1) := dk_7 (dk_at dksX8_init_11 5 rfl rfl)
theorem dX8_init_267 : decode cX8_init 267 = .ok (.bipush 50, 2) := dk_16 50 (dk_at dksX8_init_11 6 rfl rfl)
theorem dX8_init_269 : decode cX8_init 269 = .ok (.iastore, 1) := dk_79 (dk_at dksX8_init_11 8 rfl rfl)
theorem dX8_init_270 : decode cX8_init 270 = .ok (.aload_n 0, 1) := dk_42 (dk_at dksX8_init_11 9 rfl rfl)
theorem dX8_init_271 : decode cX8_init 271 = .ok (.invokevirtual 87, 3) := dk_182 0 87 (dk_at dksX8_init_11 10 rfl rfl)
theorem dX8_init_274 : decode cX8_init 274 = .ok (.return_, 1) := dk_177 (dk_at dksX8_init_11 13 rfl rfl)
abbrev cX8_begin : ByteArray := prog_17_method_21_code
def yX8_begin : MethodName := ⟨RX8, "begin", "()V"⟩
def dkwX8_begin_4 : List UInt8 := [96, 92, 46, 29, 96, 79, 132, 2, 1, 167, 255, 185, 132, 1, 1, 167, 255, 171, 177]
abbrev dktX8_begin_4 : List UInt8 := dkwX8_begin_4 ++ []
def dkwX8_begin_3 : List UInt8 := [29, 79, 42, 180, 0, 65, 17, 0, 133, 92, 46, 29, 96, 79, 42, 180, 0, 65, 17, 0, 134, 27, 7, 112]
abbrev dktX8_begin_3 : List UInt8 := dkwX8_begin_3 ++ dktX8_begin_4
def dkwX8_begin_2 : List UInt8 := [180, 0, 16, 28, 46, 42, 180, 0, 41, 104, 62, 42, 180, 0, 65, 16, 32, 16, 16, 28, 104, 96, 27, 96]
abbrev dktX8_begin_2 : List UInt8 := dkwX8_begin_2 ++ dktX8_begin_3
def dkwX8_begin_1 : List UInt8 := [27, 16, 16, 162, 0, 85, 3, 61, 28, 6, 162, 0, 72, 42, 27, 182, 0, 214, 153, 0, 64, 42]
abbrev dktX8_begin_1 : List UInt8 := dkwX8_begin_1 ++ dktX8_begin_2
def dkwX8_begin_0 : List UInt8 := [3, 60, 27, 17, 0, 138, 162, 0, 16, 42, 180, 0, 65, 27, 3, 79, 132, 1, 1, 167, 255, 239, 3, 60]
abbrev dktX8_begin_0 : List UInt8 := dkwX8_begin_0 ++ dktX8_begin_1
theorem dksX8_begin_0 : cX8_begin.data.toList.drop 0 = dktX8_begin_0 := by decide +kernel
theorem dksX8_begin_1 : cX8_begin.data.toList.drop 24 = dktX8_begin_1 := dk_seg dksX8_begin_0 24 rfl rfl
theorem dksX8_begin_2 : cX8_begin.data.toList.drop 46 = dktX8_begin_2 := dk_seg dksX8_begin_1 22 rfl rfl
theorem dksX8_begin_3 : cX8_begin.data.toList.drop 70 = dktX8_begin_3 := dk_seg dksX8_begin_2 24 rfl rfl
theorem dksX8_begin_4 : cX8_begin.data.toList.drop 94 = dktX8_begin_4 := dk_seg dksX8_begin_3 24 rfl rfl
theorem dX8_begin_0 : decode cX8_begin 0 = .ok (.iconst 0, 1) := dk_3 (dk_at dksX8_begin_0 0 rfl rfl)
theorem dX8_begin_1 : decode cX8_begin 1 = .ok (.istore_n 1, 1) := dk_60 (dk_at dksX8_begin_0 1 rfl rfl)
theorem dX8_begin_2 : decode cX8_begin 2 = .ok (.iload_n 1, 1) := dk_27 (dk_at dksX8_begin_0 2 rfl rfl)
theorem dX8_begin_3 : decode cX8_begin 3 = .ok (.sipush 138, 3) := dk_17 0 138 (dk_at dksX8_begin_0 3 rfl rfl)
theorem dX8_begin_6 : decode cX8_begin 6 = .ok (.if_icmp .ge 16, 3) := dk_162 0 16 (dk_at dksX8_begin_0 6 rfl rfl)
theorem dX8_begin_9 : decode cX8_begin 9 = .ok (.aload_n 0, 1) := dk_42 (dk_at dksX8_begin_0 9 rfl rfl)
theorem dX8_begin_10 : decode cX8_begin 10 = .ok (.getfield 65, 3) := dk_180 0 65 (dk_at dksX8_begin_0 10 rfl rfl)
theorem dX8_begin_13 : decode cX8_begin 13 = .ok (.iload_n 1, 1) := dk_27 (dk_at dksX8_begin_0 13 rfl rfl)
theorem dX8_begin_14 : decode cX8_begin 14 = .ok (.iconst 0, 1) := dk_3 (dk_at dksX8_begin_0 14 rfl rfl)
theorem dX8_begin_15 : decode cX8_begin 15 = .ok (.iastore, 1) := dk_79 (dk_at dksX8_begin_0 15 rfl rfl)
theorem dX8_begin_16 : decode cX8_begin 16 = .ok (.iinc 1 1, 3) := dk_132 1 1 (dk_at dksX8_begin_0 16 rfl rfl)
theorem dX8_begin_19 : decode cX8_begin 19 = .ok (.goto (-17), 3) := dk_167 255 239 (dk_at dksX8_begin_0 19 rfl rfl)
theorem dX8_begin_22 : decode cX8_begin 22 = .ok (.iconst 0, 1) := dk_3 (dk_at dksX8_begin_0 22 rfl rfl)
theorem dX8_begin_23 : decode cX8_begin 23 = .ok (.istore_n 1, 1) := dk_60 (dk_at dksX8_begin_0 23 rfl rfl)
theorem dX8_begin_24 : decode cX8_begin 24 = .ok (.iload_n 1, 1) := dk_27 (dk_at dksX8_begin_1 0 rfl rfl)
theorem dX8_begin_25 : decode cX8_begin 25 = .ok (.bipush 16, 2) := dk_16 16 (dk_at dksX8_begin_1 1 rfl rfl)
theorem dX8_begin_27 : decode cX8_begin 27 = .ok (.if_icmp .ge 85, 3) := dk_162 0 85 (dk_at dksX8_begin_1 3 rfl rfl)
theorem dX8_begin_30 : decode cX8_begin 30 = .ok (.iconst 0, 1) := dk_3 (dk_at dksX8_begin_1 6 rfl rfl)
theorem dX8_begin_31 : decode cX8_begin 31 = .ok (.istore_n 2, 1) := dk_61 (dk_at dksX8_begin_1 7 rfl rfl)
theorem dX8_begin_32 : decode cX8_begin 32 = .ok (.iload_n 2, 1) := dk_28 (dk_at dksX8_begin_1 8 rfl rfl)
theorem dX8_begin_33 : decode cX8_begin 33 = .ok (.iconst 3, 1) := dk_6 (dk_at dksX8_begin_1 9 rfl rfl)
theorem dX8_begin_34 : decode cX8_begin 34 = .ok (.if_icmp .ge 72, 3) := dk_162 0 72 (dk_at dksX8_begin_1 10 rfl rfl)
theorem dX8_begin_37 : decode cX8_begin 37 = .ok (.aload_n 0, 1) := dk_42 (dk_at dksX8_begin_1 13 rfl rfl)
theorem dX8_begin_38 : decode cX8_begin 38 = .ok (.iload_n 1, 1) := dk_27 (dk_at dksX8_begin_1 14 rfl rfl)
theorem dX8_begin_39 : decode cX8_begin 39 = .ok (.invokevirtual 214, 3) := dk_182 0 214 (dk_at dksX8_begin_1 15 rfl rfl)
theorem dX8_begin_42 : decode cX8_begin 42 = .ok (.ifCond .eq 64, 3) := dk_153 0 64 (dk_at dksX8_begin_1 18 rfl rfl)
theorem dX8_begin_45 : decode cX8_begin 45 = .ok (.aload_n 0, 1) := dk_42 (dk_at dksX8_begin_1 21 rfl rfl)
theorem dX8_begin_46 : decode cX8_begin 46 = .ok (.getfield 16, 3) := dk_180 0 16 (dk_at dksX8_begin_2 0 rfl rfl)
theorem dX8_begin_49 : decode cX8_begin 49 = .ok (.iload_n 2, 1) := dk_28 (dk_at dksX8_begin_2 3 rfl rfl)
theorem dX8_begin_50 : decode cX8_begin 50 = .ok (.iaload, 1) := dk_46 (dk_at dksX8_begin_2 4 rfl rfl)
theorem dX8_begin_51 : decode cX8_begin 51 = .ok (.aload_n 0, 1) := dk_42 (dk_at dksX8_begin_2 5 rfl rfl)
theorem dX8_begin_52 : decode cX8_begin 52 = .ok (.getfield 41, 3) := dk_180 0 41 (dk_at dksX8_begin_2 6 rfl rfl)
theorem dX8_begin_55 : decode cX8_begin 55 = .ok (.imul, 1) := dk_104 (dk_at dksX8_begin_2 9 rfl rfl)
theorem dX8_begin_56 : decode cX8_begin 56 = .ok (.istore_n 3, 1) := dk_62 (dk_at dksX8_begin_2 10 rfl rfl)
theorem dX8_begin_57 : decode cX8_begin 57 = .ok (.aload_n 0, 1) := dk_42 (dk_at dksX8_begin_2 11 rfl rfl)
theorem dX8_begin_58 : decode cX8_begin 58 = .ok (.getfield 65, 3) := dk_180 0 65 (dk_at dksX8_begin_2 12 rfl rfl)
theorem dX8_begin_61 : decode cX8_begin 61 = .ok (.bipush 32, 2) := dk_16 32 (dk_at dksX8_begin_2 15 rfl rfl)
theorem dX8_begin_63 : decode cX8_begin 63 = .ok (.bipush 16, 2) := dk_16 16 (dk_at dksX8_begin_2 17 rfl rfl)
theorem dX8_begin_65 : decode cX8_begin 65 = .ok (.iload_n 2, 1) := dk_28 (dk_at dksX8_begin_2 19 rfl rfl)
theorem dX8_begin_66 : decode cX8_begin 66 = .ok (.imul, 1) := dk_104 (dk_at dksX8_begin_2 20 rfl rfl)
theorem dX8_begin_67 : decode cX8_begin 67 = .ok (.iadd, 1) := dk_96 (dk_at dksX8_begin_2 21 rfl rfl)
theorem dX8_begin_68 : decode cX8_begin 68 = .ok (.iload_n 1, 1) := dk_27 (dk_at dksX8_begin_2 22 rfl rfl)
theorem dX8_begin_69 : decode cX8_begin 69 = .ok (.iadd, 1) := dk_96 (dk_at dksX8_begin_2 23 rfl rfl)
theorem dX8_begin_70 : decode cX8_begin 70 = .ok (.iload_n 3, 1) := dk_29 (dk_at dksX8_begin_3 0 rfl rfl)
theorem dX8_begin_71 : decode cX8_begin 71 = .ok (.iastore, 1) := dk_79 (dk_at dksX8_begin_3 1 rfl rfl)
theorem dX8_begin_72 : decode cX8_begin 72 = .ok (.aload_n 0, 1) := dk_42 (dk_at dksX8_begin_3 2 rfl rfl)
theorem dX8_begin_73 : decode cX8_begin 73 = .ok (.getfield 65, 3) := dk_180 0 65 (dk_at dksX8_begin_3 3 rfl rfl)
theorem dX8_begin_76 : decode cX8_begin 76 = .ok (.sipush 133, 3) := dk_17 0 133 (dk_at dksX8_begin_3 6 rfl rfl)
theorem dX8_begin_79 : decode cX8_begin 79 = .ok (.dup2, 1) := dk_92 (dk_at dksX8_begin_3 9 rfl rfl)
theorem dX8_begin_80 : decode cX8_begin 80 = .ok (.iaload, 1) := dk_46 (dk_at dksX8_begin_3 10 rfl rfl)
theorem dX8_begin_81 : decode cX8_begin 81 = .ok (.iload_n 3, 1) := dk_29 (dk_at dksX8_begin_3 11 rfl rfl)
theorem dX8_begin_82 : decode cX8_begin 82 = .ok (.iadd, 1) := dk_96 (dk_at dksX8_begin_3 12 rfl rfl)
theorem dX8_begin_83 : decode cX8_begin 83 = .ok (.iastore, 1) := dk_79 (dk_at dksX8_begin_3 13 rfl rfl)
theorem dX8_begin_84 : decode cX8_begin 84 = .ok (.aload_n 0, 1) := dk_42 (dk_at dksX8_begin_3 14 rfl rfl)
theorem dX8_begin_85 : decode cX8_begin 85 = .ok (.getfield 65, 3) := dk_180 0 65 (dk_at dksX8_begin_3 15 rfl rfl)
theorem dX8_begin_88 : decode cX8_begin 88 = .ok (.sipush 134, 3) := dk_17 0 134 (dk_at dksX8_begin_3 18 rfl rfl)
theorem dX8_begin_91 : decode cX8_begin 91 = .ok (.iload_n 1, 1) := dk_27 (dk_at dksX8_begin_3 21 rfl rfl)
theorem dX8_begin_92 : decode cX8_begin 92 = .ok (.iconst 4, 1) := dk_7 (dk_at dksX8_begin_3 22 rfl rfl)
theorem dX8_begin_93 : decode cX8_begin 93 = .ok (.irem, 1) := dk_112 (dk_at dksX8_begin_3 23 rfl rfl)
theorem dX8_begin_94 : decode cX8_begin 94 = .ok (.iadd, 1) := dk_96 (dk_at dksX8_begin_4 0 rfl rfl)
theorem dX8_begin_95 : decode cX8_begin 95 = .ok (.dup2, 1) := dk_92 (dk_at dksX8_begin_4 1 rfl rfl)
theorem dX8_begin_96 : decode cX8_begin 96 = .ok (.iaload, 1) := dk_46 (dk_at dksX8_begin_4 2 rfl rfl)
theorem dX8_begin_97 : decode cX8_begin 97 = .ok (.iload_n 3, 1) := dk_29 (dk_at dksX8_begin_4 3 rfl rfl)
theorem dX8_begin_98 : decode cX8_begin 98 = .ok (.iadd, 1) := dk_96 (dk_at dksX8_begin_4 4 rfl rfl)
theorem dX8_begin_99 : decode cX8_begin 99 = .ok (.iastore, 1) := dk_79 (dk_at dksX8_begin_4 5 rfl rfl)
theorem dX8_begin_100 : decode cX8_begin 100 = .ok (.iinc 2 1, 3) := dk_132 2 1 (dk_at dksX8_begin_4 6 rfl rfl)
theorem dX8_begin_103 : decode cX8_begin 103 = .ok (.goto (-71), 3) := dk_167 255 185 (dk_at dksX8_begin_4 9 rfl rfl)
theorem dX8_begin_106 : decode cX8_begin 106 = .ok (.iinc 1 1, 3) := dk_132 1 1 (dk_at dksX8_begin_4 12 rfl rfl)
theorem dX8_begin_109 : decode cX8_begin 109 = .ok (.goto (-85), 3) := dk_167 255 171 (dk_at dksX8_begin_4 15 rfl rfl)
theorem dX8_begin_112 : decode cX8_begin 112 = .ok (.return_, 1) := dk_177 (dk_at dksX8_begin_4 18 rfl rfl)
abbrev cX8_isCell : ByteArray := prog_17_method_20_code
def yX8_isCell : MethodName := ⟨RX8, "isCell", "(I)Z"⟩
def dkwX8_isCell_1 : List UInt8 := [3, 172]
abbrev dktX8_isCell_1 : List UInt8 := dkwX8_isCell_1 ++ []
def dkwX8_isCell_0 : List UInt8 := [27, 7, 112, 42, 180, 0, 7, 162, 0, 17, 27, 7, 108, 42, 180, 0, 13, 162, 0, 7, 4, 167, 0, 4]
abbrev dktX8_isCell_0 : List UInt8 := dkwX8_isCell_0 ++ dktX8_isCell_1
theorem dksX8_isCell_0 : cX8_isCell.data.toList.drop 0 = dktX8_isCell_0 := by decide +kernel
theorem dksX8_isCell_1 : cX8_isCell.data.toList.drop 24 = dktX8_isCell_1 := dk_seg dksX8_isCell_0 24 rfl rfl
theorem dX8_isCell_0 : decode cX8_isCell 0 = .ok (.iload_n 1, 1) := dk_27 (dk_at dksX8_isCell_0 0 rfl rfl)
theorem dX8_isCell_1 : decode cX8_isCell 1 = .ok (.iconst 4, 1) := dk_7 (dk_at dksX8_isCell_0 1 rfl rfl)
theorem dX8_isCell_2 : decode cX8_isCell 2 = .ok (.irem, 1) := dk_112 (dk_at dksX8_isCell_0 2 rfl rfl)
theorem dX8_isCell_3 : decode cX8_isCell 3 = .ok (.aload_n 0, 1) := dk_42 (dk_at dksX8_isCell_0 3 rfl rfl)
theorem dX8_isCell_4 : decode cX8_isCell 4 = .ok (.getfield 7, 3) := dk_180 0 7 (dk_at dksX8_isCell_0 4 rfl rfl)
theorem dX8_isCell_7 : decode cX8_isCell 7 = .ok (.if_icmp .ge 17, 3) := dk_162 0 17 (dk_at dksX8_isCell_0 7 rfl rfl)
theorem dX8_isCell_10 : decode cX8_isCell 10 = .ok (.iload_n 1, 1) := dk_27 (dk_at dksX8_isCell_0 10 rfl rfl)
theorem dX8_isCell_11 : decode cX8_isCell 11 = .ok (.iconst 4, 1) := dk_7 (dk_at dksX8_isCell_0 11 rfl rfl)
theorem dX8_isCell_12 : decode cX8_isCell 12 = .ok (.idiv, 1) := dk_108 (dk_at dksX8_isCell_0 12 rfl rfl)
theorem dX8_isCell_13 : decode cX8_isCell 13 = .ok (.aload_n 0, 1) := dk_42 (dk_at dksX8_isCell_0 13 rfl rfl)
theorem dX8_isCell_14 : decode cX8_isCell 14 = .ok (.getfield 13, 3) := dk_180 0 13 (dk_at dksX8_isCell_0 14 rfl rfl)
theorem dX8_isCell_17 : decode cX8_isCell 17 = .ok (.if_icmp .ge 7, 3) := dk_162 0 7 (dk_at dksX8_isCell_0 17 rfl rfl)
theorem dX8_isCell_20 : decode cX8_isCell 20 = .ok (.iconst 1, 1) := dk_4 (dk_at dksX8_isCell_0 20 rfl rfl)
theorem dX8_isCell_21 : decode cX8_isCell 21 = .ok (.goto 4, 3) := dk_167 0 4 (dk_at dksX8_isCell_0 21 rfl rfl)
theorem dX8_isCell_24 : decode cX8_isCell 24 = .ok (.iconst 0, 1) := dk_3 (dk_at dksX8_isCell_1 0 rfl rfl)
theorem dX8_isCell_25 : decode cX8_isCell 25 = .ok (.ireturn, 1) := dk_172 (dk_at dksX8_isCell_1 1 rfl rfl)
abbrev cX8_write : ByteArray := prog_17_method_3_code
def yX8_write : MethodName := ⟨RX8, "write", "(JI)I"⟩
def dkwX8_write_3 : List UInt8 := [180, 0, 94, 29, 96, 181, 0, 94, 42, 180, 0, 94, 172]
abbrev dktX8_write_3 : List UInt8 := dkwX8_write_3 ++ []
def dkwX8_write_2 : List UInt8 := [21, 4, 96, 31, 16, 8, 21, 4, 104, 123, 20, 0, 97, 127, 136, 79, 132, 4, 1, 167, 255, 223, 42, 89]
abbrev dktX8_write_2 : List UInt8 := dkwX8_write_2 ++ dktX8_write_3
def dkwX8_write_1 : List UInt8 := [164, 0, 6, 16, 251, 172, 3, 54, 4, 21, 4, 29, 162, 0, 33, 42, 180, 0, 59, 42, 180, 0, 94]
abbrev dktX8_write_1 : List UInt8 := dkwX8_write_1 ++ dktX8_write_2
def dkwX8_write_0 : List UInt8 := [29, 4, 16, 8, 184, 0, 90, 154, 0, 6, 16, 253, 172, 42, 180, 0, 94, 29, 96, 17, 0, 200]
abbrev dktX8_write_0 : List UInt8 := dkwX8_write_0 ++ dktX8_write_1
theorem dksX8_write_0 : cX8_write.data.toList.drop 0 = dktX8_write_0 := by decide +kernel
theorem dksX8_write_1 : cX8_write.data.toList.drop 22 = dktX8_write_1 := dk_seg dksX8_write_0 22 rfl rfl
theorem dksX8_write_2 : cX8_write.data.toList.drop 45 = dktX8_write_2 := dk_seg dksX8_write_1 23 rfl rfl
theorem dksX8_write_3 : cX8_write.data.toList.drop 69 = dktX8_write_3 := dk_seg dksX8_write_2 24 rfl rfl
theorem dX8_write_0 : decode cX8_write 0 = .ok (.iload_n 3, 1) := dk_29 (dk_at dksX8_write_0 0 rfl rfl)
theorem dX8_write_1 : decode cX8_write 1 = .ok (.iconst 1, 1) := dk_4 (dk_at dksX8_write_0 1 rfl rfl)
theorem dX8_write_2 : decode cX8_write 2 = .ok (.bipush 8, 2) := dk_16 8 (dk_at dksX8_write_0 2 rfl rfl)
theorem dX8_write_4 : decode cX8_write 4 = .ok (.invokestatic 90, 3) := dk_184 0 90 (dk_at dksX8_write_0 4 rfl rfl)
theorem dX8_write_7 : decode cX8_write 7 = .ok (.ifCond .ne 6, 3) := dk_154 0 6 (dk_at dksX8_write_0 7 rfl rfl)
theorem dX8_write_10 : decode cX8_write 10 = .ok (.bipush (-3), 2) := dk_16 253 (dk_at dksX8_write_0 10 rfl rfl)
theorem dX8_write_12 : decode cX8_write 12 = .ok (.ireturn, 1) := dk_172 (dk_at dksX8_write_0 12 rfl rfl)
theorem dX8_write_13 : decode cX8_write 13 = .ok (.aload_n 0, 1) := dk_42 (dk_at dksX8_write_0 13 rfl rfl)
theorem dX8_write_14 : decode cX8_write 14 = .ok (.getfield 94, 3) := dk_180 0 94 (dk_at dksX8_write_0 14 rfl rfl)
theorem dX8_write_17 : decode cX8_write 17 = .ok (.iload_n 3, 1) := dk_29 (dk_at dksX8_write_0 17 rfl rfl)
theorem dX8_write_18 : decode cX8_write 18 = .ok (.iadd, 1) := dk_96 (dk_at dksX8_write_0 18 rfl rfl)
theorem dX8_write_19 : decode cX8_write 19 = .ok (.sipush 200, 3) := dk_17 0 200 (dk_at dksX8_write_0 19 rfl rfl)
theorem dX8_write_22 : decode cX8_write 22 = .ok (.if_icmp .le 6, 3) := dk_164 0 6 (dk_at dksX8_write_1 0 rfl rfl)
theorem dX8_write_25 : decode cX8_write 25 = .ok (.bipush (-5), 2) := dk_16 251 (dk_at dksX8_write_1 3 rfl rfl)
theorem dX8_write_27 : decode cX8_write 27 = .ok (.ireturn, 1) := dk_172 (dk_at dksX8_write_1 5 rfl rfl)
theorem dX8_write_28 : decode cX8_write 28 = .ok (.iconst 0, 1) := dk_3 (dk_at dksX8_write_1 6 rfl rfl)
theorem dX8_write_29 : decode cX8_write 29 = .ok (.istore 4, 2) := dk_54 4 (dk_at dksX8_write_1 7 rfl rfl)
theorem dX8_write_31 : decode cX8_write 31 = .ok (.iload 4, 2) := dk_21 4 (dk_at dksX8_write_1 9 rfl rfl)
theorem dX8_write_33 : decode cX8_write 33 = .ok (.iload_n 3, 1) := dk_29 (dk_at dksX8_write_1 11 rfl rfl)
theorem dX8_write_34 : decode cX8_write 34 = .ok (.if_icmp .ge 33, 3) := dk_162 0 33 (dk_at dksX8_write_1 12 rfl rfl)
theorem dX8_write_37 : decode cX8_write 37 = .ok (.aload_n 0, 1) := dk_42 (dk_at dksX8_write_1 15 rfl rfl)
theorem dX8_write_38 : decode cX8_write 38 = .ok (.getfield 59, 3) := dk_180 0 59 (dk_at dksX8_write_1 16 rfl rfl)
theorem dX8_write_41 : decode cX8_write 41 = .ok (.aload_n 0, 1) := dk_42 (dk_at dksX8_write_1 19 rfl rfl)
theorem dX8_write_42 : decode cX8_write 42 = .ok (.getfield 94, 3) := dk_180 0 94 (dk_at dksX8_write_1 20 rfl rfl)
theorem dX8_write_45 : decode cX8_write 45 = .ok (.iload 4, 2) := dk_21 4 (dk_at dksX8_write_2 0 rfl rfl)
theorem dX8_write_47 : decode cX8_write 47 = .ok (.iadd, 1) := dk_96 (dk_at dksX8_write_2 2 rfl rfl)
theorem dX8_write_48 : decode cX8_write 48 = .ok (.lload_n 1, 1) := dk_31 (dk_at dksX8_write_2 3 rfl rfl)
theorem dX8_write_49 : decode cX8_write 49 = .ok (.bipush 8, 2) := dk_16 8 (dk_at dksX8_write_2 4 rfl rfl)
theorem dX8_write_51 : decode cX8_write 51 = .ok (.iload 4, 2) := dk_21 4 (dk_at dksX8_write_2 6 rfl rfl)
theorem dX8_write_53 : decode cX8_write 53 = .ok (.imul, 1) := dk_104 (dk_at dksX8_write_2 8 rfl rfl)
theorem dX8_write_54 : decode cX8_write 54 = .ok (.lshr, 1) := dk_123 (dk_at dksX8_write_2 9 rfl rfl)
theorem dX8_write_55 : decode cX8_write 55 = .ok (.ldc2_w 97, 3) := dk_20 0 97 (dk_at dksX8_write_2 10 rfl rfl)
theorem dX8_write_58 : decode cX8_write 58 = .ok (.land, 1) := dk_127 (dk_at dksX8_write_2 13 rfl rfl)
theorem dX8_write_59 : decode cX8_write 59 = .ok (.l2i, 1) := dk_136 (dk_at dksX8_write_2 14 rfl rfl)
theorem dX8_write_60 : decode cX8_write 60 = .ok (.iastore, 1) := dk_79 (dk_at dksX8_write_2 15 rfl rfl)
theorem dX8_write_61 : decode cX8_write 61 = .ok (.iinc 4 1, 3) := dk_132 4 1 (dk_at dksX8_write_2 16 rfl rfl)
theorem dX8_write_64 : decode cX8_write 64 = .ok (.goto (-33), 3) := dk_167 255 223 (dk_at dksX8_write_2 19 rfl rfl)
theorem dX8_write_67 : decode cX8_write 67 = .ok (.aload_n 0, 1) := dk_42 (dk_at dksX8_write_2 22 rfl rfl)
theorem dX8_write_68 : decode cX8_write 68 = .ok (.dup, 1) := dk_89 (dk_at dksX8_write_2 23 rfl rfl)
theorem dX8_write_69 : decode cX8_write 69 = .ok (.getfield 94, 3) := dk_180 0 94 (dk_at dksX8_write_3 0 rfl rfl)
theorem dX8_write_72 : decode cX8_write 72 = .ok (.iload_n 3, 1) := dk_29 (dk_at dksX8_write_3 3 rfl rfl)
theorem dX8_write_73 : decode cX8_write 73 = .ok (.iadd, 1) := dk_96 (dk_at dksX8_write_3 4 rfl rfl)
theorem dX8_write_74 : decode cX8_write 74 = .ok (.putfield 94, 3) := dk_181 0 94 (dk_at dksX8_write_3 5 rfl rfl)
theorem dX8_write_77 : decode cX8_write 77 = .ok (.aload_n 0, 1) := dk_42 (dk_at dksX8_write_3 8 rfl rfl)
theorem dX8_write_78 : decode cX8_write 78 = .ok (.getfield 94, 3) := dk_180 0 94 (dk_at dksX8_write_3 9 rfl rfl)
theorem dX8_write_81 : decode cX8_write 81 = .ok (.ireturn, 1) := dk_172 (dk_at dksX8_write_3 12 rfl rfl)
abbrev cX8_in : ByteArray := prog_17_method_2_code
def yX8_in : MethodName := ⟨RX8, "in", "(III)Z"⟩
def dkwX8_in_0 : List UInt8 := [26, 27, 161, 0, 12, 26, 28, 163, 0, 7, 4, 167, 0, 4, 3, 172]
abbrev dktX8_in_0 : List UInt8 := dkwX8_in_0 ++ []
theorem dksX8_in_0 : cX8_in.data.toList.drop 0 = dktX8_in_0 := by decide +kernel
theorem dX8_in_0 : decode cX8_in 0 = .ok (.iload_n 0, 1) := dk_26 (dk_at dksX8_in_0 0 rfl rfl)
theorem dX8_in_1 : decode cX8_in 1 = .ok (.iload_n 1, 1) := dk_27 (dk_at dksX8_in_0 1 rfl rfl)
theorem dX8_in_2 : decode cX8_in 2 = .ok (.if_icmp .lt 12, 3) := dk_161 0 12 (dk_at dksX8_in_0 2 rfl rfl)
theorem dX8_in_5 : decode cX8_in 5 = .ok (.iload_n 0, 1) := dk_26 (dk_at dksX8_in_0 5 rfl rfl)
theorem dX8_in_6 : decode cX8_in 6 = .ok (.iload_n 2, 1) := dk_28 (dk_at dksX8_in_0 6 rfl rfl)
theorem dX8_in_7 : decode cX8_in 7 = .ok (.if_icmp .gt 7, 3) := dk_163 0 7 (dk_at dksX8_in_0 7 rfl rfl)
theorem dX8_in_10 : decode cX8_in 10 = .ok (.iconst 1, 1) := dk_4 (dk_at dksX8_in_0 10 rfl rfl)
theorem dX8_in_11 : decode cX8_in 11 = .ok (.goto 4, 3) := dk_167 0 4 (dk_at dksX8_in_0 11 rfl rfl)
theorem dX8_in_14 : decode cX8_in 14 = .ok (.iconst 0, 1) := dk_3 (dk_at dksX8_in_0 14 rfl rfl)
theorem dX8_in_15 : decode cX8_in 15 = .ok (.ireturn, 1) := dk_172 (dk_at dksX8_in_0 15 rfl rfl)
abbrev cX8_erase : ByteArray := prog_17_method_4_code
def yX8_erase : MethodName := ⟨RX8, "erase", "()I"⟩
def dkwX8_erase_0 : List UInt8 := [42, 180, 0, 94, 60, 42, 3, 181, 0, 94, 27, 172]
abbrev dktX8_erase_0 : List UInt8 := dkwX8_erase_0 ++ []
theorem dksX8_erase_0 : cX8_erase.data.toList.drop 0 = dktX8_erase_0 := by decide +kernel
theorem dX8_erase_0 : decode cX8_erase 0 = .ok (.aload_n 0, 1) := dk_42 (dk_at dksX8_erase_0 0 rfl rfl)
theorem dX8_erase_1 : decode cX8_erase 1 = .ok (.getfield 94, 3) := dk_180 0 94 (dk_at dksX8_erase_0 1 rfl rfl)
theorem dX8_erase_4 : decode cX8_erase 4 = .ok (.istore_n 1, 1) := dk_60 (dk_at dksX8_erase_0 4 rfl rfl)
theorem dX8_erase_5 : decode cX8_erase 5 = .ok (.aload_n 0, 1) := dk_42 (dk_at dksX8_erase_0 5 rfl rfl)
theorem dX8_erase_6 : decode cX8_erase 6 = .ok (.iconst 0, 1) := dk_3 (dk_at dksX8_erase_0 6 rfl rfl)
theorem dX8_erase_7 : decode cX8_erase 7 = .ok (.putfield 94, 3) := dk_181 0 94 (dk_at dksX8_erase_0 7 rfl rfl)
theorem dX8_erase_10 : decode cX8_erase 10 = .ok (.iload_n 1, 1) := dk_27 (dk_at dksX8_erase_0 10 rfl rfl)
theorem dX8_erase_11 : decode cX8_erase 11 = .ok (.ireturn, 1) := dk_172 (dk_at dksX8_erase_0 11 rfl rfl)
abbrev cX8_fault : ByteArray := prog_17_method_13_code
def yX8_fault : MethodName := ⟨RX8, "fault", "()I"⟩
def dkwX8_fault_0 : List UInt8 := [42, 182, 0, 193, 153, 0, 7, 2, 167, 0, 7, 42, 180, 0, 127, 172]
abbrev dktX8_fault_0 : List UInt8 := dkwX8_fault_0 ++ []
theorem dksX8_fault_0 : cX8_fault.data.toList.drop 0 = dktX8_fault_0 := by decide +kernel
theorem dX8_fault_0 : decode cX8_fault 0 = .ok (.aload_n 0, 1) := dk_42 (dk_at dksX8_fault_0 0 rfl rfl)
theorem dX8_fault_1 : decode cX8_fault 1 = .ok (.invokevirtual 193, 3) := dk_182 0 193 (dk_at dksX8_fault_0 1 rfl rfl)
theorem dX8_fault_4 : decode cX8_fault 4 = .ok (.ifCond .eq 7, 3) := dk_153 0 7 (dk_at dksX8_fault_0 4 rfl rfl)
theorem dX8_fault_7 : decode cX8_fault 7 = .ok (.iconst (-1), 1) := dk_2 (dk_at dksX8_fault_0 7 rfl rfl)
theorem dX8_fault_8 : decode cX8_fault 8 = .ok (.goto 7, 3) := dk_167 0 7 (dk_at dksX8_fault_0 8 rfl rfl)
theorem dX8_fault_11 : decode cX8_fault 11 = .ok (.aload_n 0, 1) := dk_42 (dk_at dksX8_fault_0 11 rfl rfl)
theorem dX8_fault_12 : decode cX8_fault 12 = .ok (.getfield 127, 3) := dk_180 0 127 (dk_at dksX8_fault_0 12 rfl rfl)
theorem dX8_fault_15 : decode cX8_fault 15 = .ok (.ireturn, 1) := dk_172 (dk_at dksX8_fault_0 15 rfl rfl)
abbrev cX8_isRead : ByteArray := prog_17_method_12_code
def yX8_isRead : MethodName := ⟨RX8, "isRead", "()Z"⟩
def dkwX8_isRead_4 : List UInt8 := [180, 0, 113, 20, 0, 111, 148, 153, 0, 10, 42, 182, 0, 133, 153, 0, 7, 4, 167, 0, 4, 3, 172]
abbrev dktX8_isRead_4 : List UInt8 := dkwX8_isRead_4 ++ []
def dkwX8_isRead_3 : List UInt8 := [154, 0, 16, 42, 180, 0, 187, 16, 10, 162, 0, 7, 4, 167, 0, 4, 3, 60, 167, 255, 196, 42]
abbrev dktX8_isRead_3 : List UInt8 := dkwX8_isRead_3 ++ dktX8_isRead_4
def dkwX8_isRead_2 : List UInt8 := [172, 42, 89, 180, 0, 187, 4, 96, 181, 0, 187, 42, 182, 0, 130, 42, 180, 0, 113, 20, 0, 125, 148]
abbrev dktX8_isRead_2 : List UInt8 := dkwX8_isRead_2 ++ dktX8_isRead_3
def dkwX8_isRead_1 : List UInt8 := [181, 0, 143, 4, 60, 27, 153, 0, 62, 42, 16, 6, 42, 180, 0, 187, 104, 182, 0, 190, 154, 0, 5, 3]
abbrev dktX8_isRead_1 : List UInt8 := dkwX8_isRead_1 ++ dktX8_isRead_2
def dkwX8_isRead_0 : List UInt8 := [42, 3, 181, 0, 99, 42, 3, 181, 0, 187, 42, 42, 180, 0, 7, 181, 0, 140, 42, 42, 180, 0, 13]
abbrev dktX8_isRead_0 : List UInt8 := dkwX8_isRead_0 ++ dktX8_isRead_1
theorem dksX8_isRead_0 : cX8_isRead.data.toList.drop 0 = dktX8_isRead_0 := by decide +kernel
theorem dksX8_isRead_1 : cX8_isRead.data.toList.drop 23 = dktX8_isRead_1 := dk_seg dksX8_isRead_0 23 rfl rfl
theorem dksX8_isRead_2 : cX8_isRead.data.toList.drop 47 = dktX8_isRead_2 := dk_seg dksX8_isRead_1 24 rfl rfl
theorem dksX8_isRead_3 : cX8_isRead.data.toList.drop 70 = dktX8_isRead_3 := dk_seg dksX8_isRead_2 23 rfl rfl
theorem dksX8_isRead_4 : cX8_isRead.data.toList.drop 92 = dktX8_isRead_4 := dk_seg dksX8_isRead_3 22 rfl rfl
theorem dX8_isRead_0 : decode cX8_isRead 0 = .ok (.aload_n 0, 1) := dk_42 (dk_at dksX8_isRead_0 0 rfl rfl)
theorem dX8_isRead_1 : decode cX8_isRead 1 = .ok (.iconst 0, 1) := dk_3 (dk_at dksX8_isRead_0 1 rfl rfl)
theorem dX8_isRead_2 : decode cX8_isRead 2 = .ok (.putfield 99, 3) := dk_181 0 99 (dk_at dksX8_isRead_0 2 rfl rfl)
theorem dX8_isRead_5 : decode cX8_isRead 5 = .ok (.aload_n 0, 1) := dk_42 (dk_at dksX8_isRead_0 5 rfl rfl)
theorem dX8_isRead_6 : decode cX8_isRead 6 = .ok (.iconst 0, 1) := dk_3 (dk_at dksX8_isRead_0 6 rfl rfl)
theorem dX8_isRead_7 : decode cX8_isRead 7 = .ok (.putfield 187, 3) := dk_181 0 187 (dk_at dksX8_isRead_0 7 rfl rfl)
theorem dX8_isRead_10 : decode cX8_isRead 10 = .ok (.aload_n 0, 1) := dk_42 (dk_at dksX8_isRead_0 10 rfl rfl)
theorem dX8_isRead_11 : decode cX8_isRead 11 = .ok (.aload_n 0, 1) := dk_42 (dk_at dksX8_isRead_0 11 rfl rfl)
theorem dX8_isRead_12 : decode cX8_isRead 12 = .ok (.getfield 7, 3) := dk_180 0 7 (dk_at dksX8_isRead_0 12 rfl rfl)
theorem dX8_isRead_15 : decode cX8_isRead 15 = .ok (.putfield 140, 3) := dk_181 0 140 (dk_at dksX8_isRead_0 15 rfl rfl)
theorem dX8_isRead_18 : decode cX8_isRead 18 = .ok (.aload_n 0, 1) := dk_42 (dk_at dksX8_isRead_0 18 rfl rfl)
theorem dX8_isRead_19 : decode cX8_isRead 19 = .ok (.aload_n 0, 1) := dk_42 (dk_at dksX8_isRead_0 19 rfl rfl)
theorem dX8_isRead_20 : decode cX8_isRead 20 = .ok (.getfield 13, 3) := dk_180 0 13 (dk_at dksX8_isRead_0 20 rfl rfl)
theorem dX8_isRead_23 : decode cX8_isRead 23 = .ok (.putfield 143, 3) := dk_181 0 143 (dk_at dksX8_isRead_1 0 rfl rfl)
theorem dX8_isRead_26 : decode cX8_isRead 26 = .ok (.iconst 1, 1) := dk_4 (dk_at dksX8_isRead_1 3 rfl rfl)
theorem dX8_isRead_27 : decode cX8_isRead 27 = .ok (.istore_n 1, 1) := dk_60 (dk_at dksX8_isRead_1 4 rfl rfl)
theorem dX8_isRead_28 : decode cX8_isRead 28 = .ok (.iload_n 1, 1) := dk_27 (dk_at dksX8_isRead_1 5 rfl rfl)
theorem dX8_isRead_29 : decode cX8_isRead 29 = .ok (.ifCond .eq 62, 3) := dk_153 0 62 (dk_at dksX8_isRead_1 6 rfl rfl)
theorem dX8_isRead_32 : decode cX8_isRead 32 = .ok (.aload_n 0, 1) := dk_42 (dk_at dksX8_isRead_1 9 rfl rfl)
theorem dX8_isRead_33 : decode cX8_isRead 33 = .ok (.bipush 6, 2) := dk_16 6 (dk_at dksX8_isRead_1 10 rfl rfl)
theorem dX8_isRead_35 : decode cX8_isRead 35 = .ok (.aload_n 0, 1) := dk_42 (dk_at dksX8_isRead_1 12 rfl rfl)
theorem dX8_isRead_36 : decode cX8_isRead 36 = .ok (.getfield 187, 3) := dk_180 0 187 (dk_at dksX8_isRead_1 13 rfl rfl)
theorem dX8_isRead_39 : decode cX8_isRead 39 = .ok (.imul, 1) := dk_104 (dk_at dksX8_isRead_1 16 rfl rfl)
theorem dX8_isRead_40 : decode cX8_isRead 40 = .ok (.invokevirtual 190, 3) := dk_182 0 190 (dk_at dksX8_isRead_1 17 rfl rfl)
theorem dX8_isRead_43 : decode cX8_isRead 43 = .ok (.ifCond .ne 5, 3) := dk_154 0 5 (dk_at dksX8_isRead_1 20 rfl rfl)
theorem dX8_isRead_46 : decode cX8_isRead 46 = .ok (.iconst 0, 1) := dk_3 (dk_at dksX8_isRead_1 23 rfl rfl)
theorem dX8_isRead_47 : decode cX8_isRead 47 = .ok (.ireturn, 1) := dk_172 (dk_at dksX8_isRead_2 0 rfl rfl)
theorem dX8_isRead_48 : decode cX8_isRead 48 = .ok (.aload_n 0, 1) := dk_42 (dk_at dksX8_isRead_2 1 rfl rfl)
theorem dX8_isRead_49 : decode cX8_isRead 49 = .ok (.dup, 1) := dk_89 (dk_at dksX8_isRead_2 2 rfl rfl)
theorem dX8_isRead_50 : decode cX8_isRead 50 = .ok (.getfield 187, 3) := dk_180 0 187 (dk_at dksX8_isRead_2 3 rfl rfl)
theorem dX8_isRead_53 : decode cX8_isRead 53 = .ok (.iconst 1, 1) := dk_4 (dk_at dksX8_isRead_2 6 rfl rfl)
theorem dX8_isRead_54 : decode cX8_isRead 54 = .ok (.iadd, 1) := dk_96 (dk_at dksX8_isRead_2 7 rfl rfl)
theorem dX8_isRead_55 : decode cX8_isRead 55 = .ok (.putfield 187, 3) := dk_181 0 187 (dk_at dksX8_isRead_2 8 rfl rfl)
theorem dX8_isRead_58 : decode cX8_isRead 58 = .ok (.aload_n 0, 1) := dk_42 (dk_at dksX8_isRead_2 11 rfl rfl)
theorem dX8_isRead_59 : decode cX8_isRead 59 = .ok (.invokevirtual 130, 3) := dk_182 0 130 (dk_at dksX8_isRead_2 12 rfl rfl)
theorem dX8_isRead_62 : decode cX8_isRead 62 = .ok (.aload_n 0, 1) := dk_42 (dk_at dksX8_isRead_2 15 rfl rfl)
theorem dX8_isRead_63 : decode cX8_isRead 63 = .ok (.getfield 113, 3) := dk_180 0 113 (dk_at dksX8_isRead_2 16 rfl rfl)
theorem dX8_isRead_66 : decode cX8_isRead 66 = .ok (.ldc2_w 125, 3) := dk_20 0 125 (dk_at dksX8_isRead_2 19 rfl rfl)
theorem dX8_isRead_69 : decode cX8_isRead 69 = .ok (.lcmp, 1) := dk_148 (dk_at dksX8_isRead_2 22 rfl rfl)
theorem dX8_isRead_70 : decode cX8_isRead 70 = .ok (.ifCond .ne 16, 3) := dk_154 0 16 (dk_at dksX8_isRead_3 0 rfl rfl)
theorem dX8_isRead_73 : decode cX8_isRead 73 = .ok (.aload_n 0, 1) := dk_42 (dk_at dksX8_isRead_3 3 rfl rfl)
theorem dX8_isRead_74 : decode cX8_isRead 74 = .ok (.getfield 187, 3) := dk_180 0 187 (dk_at dksX8_isRead_3 4 rfl rfl)
theorem dX8_isRead_77 : decode cX8_isRead 77 = .ok (.bipush 10, 2) := dk_16 10 (dk_at dksX8_isRead_3 7 rfl rfl)
theorem dX8_isRead_79 : decode cX8_isRead 79 = .ok (.if_icmp .ge 7, 3) := dk_162 0 7 (dk_at dksX8_isRead_3 9 rfl rfl)
theorem dX8_isRead_82 : decode cX8_isRead 82 = .ok (.iconst 1, 1) := dk_4 (dk_at dksX8_isRead_3 12 rfl rfl)
theorem dX8_isRead_83 : decode cX8_isRead 83 = .ok (.goto 4, 3) := dk_167 0 4 (dk_at dksX8_isRead_3 13 rfl rfl)
theorem dX8_isRead_86 : decode cX8_isRead 86 = .ok (.iconst 0, 1) := dk_3 (dk_at dksX8_isRead_3 16 rfl rfl)
theorem dX8_isRead_87 : decode cX8_isRead 87 = .ok (.istore_n 1, 1) := dk_60 (dk_at dksX8_isRead_3 17 rfl rfl)
theorem dX8_isRead_88 : decode cX8_isRead 88 = .ok (.goto (-60), 3) := dk_167 255 196 (dk_at dksX8_isRead_3 18 rfl rfl)
theorem dX8_isRead_91 : decode cX8_isRead 91 = .ok (.aload_n 0, 1) := dk_42 (dk_at dksX8_isRead_3 21 rfl rfl)
theorem dX8_isRead_92 : decode cX8_isRead 92 = .ok (.getfield 113, 3) := dk_180 0 113 (dk_at dksX8_isRead_4 0 rfl rfl)
theorem dX8_isRead_95 : decode cX8_isRead 95 = .ok (.ldc2_w 111, 3) := dk_20 0 111 (dk_at dksX8_isRead_4 3 rfl rfl)
theorem dX8_isRead_98 : decode cX8_isRead 98 = .ok (.lcmp, 1) := dk_148 (dk_at dksX8_isRead_4 6 rfl rfl)
theorem dX8_isRead_99 : decode cX8_isRead 99 = .ok (.ifCond .eq 10, 3) := dk_153 0 10 (dk_at dksX8_isRead_4 7 rfl rfl)
theorem dX8_isRead_102 : decode cX8_isRead 102 = .ok (.aload_n 0, 1) := dk_42 (dk_at dksX8_isRead_4 10 rfl rfl)
theorem dX8_isRead_103 : decode cX8_isRead 103 = .ok (.invokevirtual 133, 3) := dk_182 0 133 (dk_at dksX8_isRead_4 11 rfl rfl)
theorem dX8_isRead_106 : decode cX8_isRead 106 = .ok (.ifCond .eq 7, 3) := dk_153 0 7 (dk_at dksX8_isRead_4 14 rfl rfl)
theorem dX8_isRead_109 : decode cX8_isRead 109 = .ok (.iconst 1, 1) := dk_4 (dk_at dksX8_isRead_4 17 rfl rfl)
theorem dX8_isRead_110 : decode cX8_isRead 110 = .ok (.goto 4, 3) := dk_167 0 4 (dk_at dksX8_isRead_4 18 rfl rfl)
theorem dX8_isRead_113 : decode cX8_isRead 113 = .ok (.iconst 0, 1) := dk_3 (dk_at dksX8_isRead_4 21 rfl rfl)
theorem dX8_isRead_114 : decode cX8_isRead 114 = .ok (.ireturn, 1) := dk_172 (dk_at dksX8_isRead_4 22 rfl rfl)
abbrev cX8_isLine : ByteArray := prog_17_method_11_code
def yX8_isLine : MethodName := ⟨RX8, "isLine", "(I)Z"⟩
def dkwX8_isLine_23 : List UInt8 := [182, 0, 133, 172]
abbrev dktX8_isLine_23 : List UInt8 := dkwX8_isLine_23 ++ []
def dkwX8_isLine_22 : List UInt8 := [182, 0, 137, 172, 42, 27, 4, 96, 4, 16, 60, 182, 0, 137, 172, 42, 27, 182, 0, 184, 172, 42]
abbrev dktX8_isLine_22 : List UInt8 := dkwX8_isLine_22 ++ dktX8_isLine_23
def dkwX8_isLine_21 : List UInt8 := [182, 0, 137, 172, 42, 27, 4, 96, 3, 16, 100, 182, 0, 137, 172, 42, 27, 4, 96, 4, 16, 20]
abbrev dktX8_isLine_21 : List UInt8 := dkwX8_isLine_21 ++ dktX8_isLine_22
def dkwX8_isLine_20 : List UInt8 := [17, 1, 244, 182, 0, 137, 153, 0, 7, 4, 167, 0, 4, 3, 172, 4, 172, 42, 27, 4, 96, 3, 16, 10]
abbrev dktX8_isLine_20 : List UInt8 := dkwX8_isLine_20 ++ dktX8_isLine_21
def dkwX8_isLine_19 : List UInt8 := [42, 27, 5, 96, 3, 42, 180, 0, 140, 4, 100, 182, 0, 137, 153, 0, 21, 42, 27, 6, 96, 4]
abbrev dktX8_isLine_19 : List UInt8 := dkwX8_isLine_19 ++ dktX8_isLine_20
def dkwX8_isLine_18 : List UInt8 := [27, 4, 96, 3, 17, 3, 231, 182, 0, 137, 172, 42, 27, 4, 96, 3, 16, 59, 182, 0, 137, 153, 0, 38]
abbrev dktX8_isLine_18 : List UInt8 := dkwX8_isLine_18 ++ dktX8_isLine_19
def dkwX8_isLine_17 : List UInt8 := [182, 0, 137, 153, 0, 7, 4, 167, 0, 4, 3, 172, 42, 27, 4, 96, 3, 16, 20, 182, 0, 137, 172, 42]
abbrev dktX8_isLine_17 : List UInt8 := dkwX8_isLine_17 ++ dktX8_isLine_18
def dkwX8_isLine_16 : List UInt8 := [27, 5, 96, 3, 42, 180, 0, 143, 4, 100, 182, 0, 137, 153, 0, 20, 42, 27, 6, 96, 3, 16, 50]
abbrev dktX8_isLine_16 : List UInt8 := dkwX8_isLine_16 ++ dktX8_isLine_17
def dkwX8_isLine_15 : List UInt8 := [4, 167, 0, 4, 3, 172, 42, 27, 4, 96, 3, 42, 180, 0, 140, 4, 100, 182, 0, 137, 153, 0, 37, 42]
abbrev dktX8_isLine_15 : List UInt8 := dkwX8_isLine_15 ++ dktX8_isLine_16
def dkwX8_isLine_14 : List UInt8 := [4, 96, 3, 16, 95, 182, 0, 137, 153, 0, 20, 42, 27, 5, 96, 3, 16, 9, 182, 0, 137, 153, 0, 7]
abbrev dktX8_isLine_14 : List UInt8 := dkwX8_isLine_14 ++ dktX8_isLine_15
def dkwX8_isLine_13 : List UInt8 := [42, 27, 182, 0, 176, 172, 42, 27, 16, 99, 182, 0, 180, 172, 42, 27, 16, 100, 182, 0, 180, 172, 42, 27]
abbrev dktX8_isLine_13 : List UInt8 := dkwX8_isLine_13 ++ dktX8_isLine_14
def dkwX8_isLine_12 : List UInt8 := [170, 0, 0, 0, 0, 0, 1, 52, 0, 0, 0, 0, 0, 0, 0, 14, 0, 0, 0, 76, 0, 0, 0, 82, 0, 0, 0, 90, 0, 0, 0, 98, 0, 0, 0, 130, 0, 0, 0, 130, 0, 0, 0, 183, 0, 0, 0, 194, 0, 0, 0, 206, 0, 0, 1, 0, 0, 0, 1, 2, 0, 0, 1, 13, 0, 0, 1, 24, 0, 0, 1, 35, 0, 0, 1, 46]
abbrev dktX8_isLine_12 : List UInt8 := dkwX8_isLine_12 ++ dktX8_isLine_13
def dkwX8_isLine_11 : List UInt8 := [28, 79, 42, 180, 0, 62, 27, 46]
abbrev dktX8_isLine_11 : List UInt8 := dkwX8_isLine_11 ++ dktX8_isLine_12
def dkwX8_isLine_10 : List UInt8 := [154, 0, 8, 16, 14, 167, 0, 4, 2, 62, 42, 180, 0, 62, 27, 28, 2, 160, 0, 7, 29, 167, 0, 4]
abbrev dktX8_isLine_10 : List UInt8 := dkwX8_isLine_10 ++ dktX8_isLine_11
def dkwX8_isLine_9 : List UInt8 := [42, 180, 0, 113, 20, 0, 172, 148, 154, 0, 8, 16, 13, 167, 0, 20, 42, 180, 0, 113, 20, 0, 174, 148]
abbrev dktX8_isLine_9 : List UInt8 := dkwX8_isLine_9 ++ dktX8_isLine_10
def dkwX8_isLine_8 : List UInt8 := [154, 0, 8, 16, 11, 167, 0, 52, 42, 180, 0, 113, 20, 0, 170, 148, 154, 0, 8, 16, 12, 167, 0, 36]
abbrev dktX8_isLine_8 : List UInt8 := dkwX8_isLine_8 ++ dktX8_isLine_9
def dkwX8_isLine_7 : List UInt8 := [42, 180, 0, 113, 20, 0, 166, 148, 154, 0, 8, 16, 10, 167, 0, 68, 42, 180, 0, 113, 20, 0, 168, 148]
abbrev dktX8_isLine_7 : List UInt8 := dkwX8_isLine_7 ++ dktX8_isLine_8
def dkwX8_isLine_6 : List UInt8 := [154, 0, 8, 16, 8, 167, 0, 100, 42, 180, 0, 113, 20, 0, 164, 148, 154, 0, 8, 16, 9, 167, 0, 84]
abbrev dktX8_isLine_6 : List UInt8 := dkwX8_isLine_6 ++ dktX8_isLine_7
def dkwX8_isLine_5 : List UInt8 := [20, 0, 160, 148, 154, 0, 8, 16, 7, 167, 0, 4, 2, 61, 42, 180, 0, 113, 20, 0, 162, 148]
abbrev dktX8_isLine_5 : List UInt8 := dkwX8_isLine_5 ++ dktX8_isLine_6
def dkwX8_isLine_4 : List UInt8 := [167, 0, 36, 42, 180, 0, 113, 20, 0, 158, 148, 154, 0, 8, 16, 6, 167, 0, 20, 42, 180, 0, 113]
abbrev dktX8_isLine_4 : List UInt8 := dkwX8_isLine_4 ++ dktX8_isLine_5
def dkwX8_isLine_3 : List UInt8 := [20, 0, 154, 148, 154, 0, 7, 7, 167, 0, 51, 42, 180, 0, 113, 20, 0, 156, 148, 154, 0, 7, 8]
abbrev dktX8_isLine_3 : List UInt8 := dkwX8_isLine_3 ++ dktX8_isLine_4
def dkwX8_isLine_2 : List UInt8 := [167, 0, 81, 42, 180, 0, 113, 20, 0, 152, 148, 154, 0, 7, 6, 167, 0, 66, 42, 180, 0, 113]
abbrev dktX8_isLine_2 : List UInt8 := dkwX8_isLine_2 ++ dktX8_isLine_3
def dkwX8_isLine_1 : List UInt8 := [20, 0, 148, 148, 154, 0, 7, 4, 167, 0, 96, 42, 180, 0, 113, 20, 0, 150, 148, 154, 0, 7, 5]
abbrev dktX8_isLine_1 : List UInt8 := dkwX8_isLine_1 ++ dktX8_isLine_2
def dkwX8_isLine_0 : List UInt8 := [42, 182, 0, 130, 42, 180, 0, 113, 20, 0, 146, 148, 154, 0, 7, 3, 167, 0, 111, 42, 180, 0, 113]
abbrev dktX8_isLine_0 : List UInt8 := dkwX8_isLine_0 ++ dktX8_isLine_1
theorem dksX8_isLine_0 : cX8_isLine.data.toList.drop 0 = dktX8_isLine_0 := by decide +kernel
theorem dksX8_isLine_1 : cX8_isLine.data.toList.drop 23 = dktX8_isLine_1 := dk_seg dksX8_isLine_0 23 rfl rfl
theorem dksX8_isLine_2 : cX8_isLine.data.toList.drop 46 = dktX8_isLine_2 := dk_seg dksX8_isLine_1 23 rfl rfl
theorem dksX8_isLine_3 : cX8_isLine.data.toList.drop 68 = dktX8_isLine_3 := dk_seg dksX8_isLine_2 22 rfl rfl
theorem dksX8_isLine_4 : cX8_isLine.data.toList.drop 91 = dktX8_isLine_4 := dk_seg dksX8_isLine_3 23 rfl rfl
theorem dksX8_isLine_5 : cX8_isLine.data.toList.drop 114 = dktX8_isLine_5 := dk_seg dksX8_isLine_4 23 rfl rfl
theorem dksX8_isLine_6 : cX8_isLine.data.toList.drop 136 = dktX8_isLine_6 := dk_seg dksX8_isLine_5 22 rfl rfl
theorem dksX8_isLine_7 : cX8_isLine.data.toList.drop 160 = dktX8_isLine_7 := dk_seg dksX8_isLine_6 24 rfl rfl
theorem dksX8_isLine_8 : cX8_isLine.data.toList.drop 184 = dktX8_isLine_8 := dk_seg dksX8_isLine_7 24 rfl rfl
theorem dksX8_isLine_9 : cX8_isLine.data.toList.drop 208 = dktX8_isLine_9 := dk_seg dksX8_isLine_8 24 rfl rfl
theorem dksX8_isLine_10 : cX8_isLine.data.toList.drop 232 = dktX8_isLine_10 := dk_seg dksX8_isLine_9 24 rfl rfl
theorem dksX8_isLine_11 : cX8_isLine.data.toList.drop 256 = dktX8_isLine_11 := dk_seg dksX8_isLine_10 24 rfl rfl
theorem dksX8_isLine_12 : cX8_isLine.data.toList.drop 264 = dktX8_isLine_12 := dk_seg dksX8_isLine_11 8 rfl rfl
theorem dksX8_isLine_13 : cX8_isLine.data.toList.drop 340 = dktX8_isLine_13 := dk_seg dksX8_isLine_12 76 rfl rfl
theorem dksX8_isLine_14 : cX8_isLine.data.toList.drop 364 = dktX8_isLine_14 := dk_seg dksX8_isLine_13 24 rfl rfl
theorem dksX8_isLine_15 : cX8_isLine.data.toList.drop 388 = dktX8_isLine_15 := dk_seg dksX8_isLine_14 24 rfl rfl
theorem dksX8_isLine_16 : cX8_isLine.data.toList.drop 412 = dktX8_isLine_16 := dk_seg dksX8_isLine_15 24 rfl rfl
theorem dksX8_isLine_17 : cX8_isLine.data.toList.drop 435 = dktX8_isLine_17 := dk_seg dksX8_isLine_16 23 rfl rfl
theorem dksX8_isLine_18 : cX8_isLine.data.toList.drop 459 = dktX8_isLine_18 := dk_seg dksX8_isLine_17 24 rfl rfl
theorem dksX8_isLine_19 : cX8_isLine.data.toList.drop 483 = dktX8_isLine_19 := dk_seg dksX8_isLine_18 24 rfl rfl
theorem dksX8_isLine_20 : cX8_isLine.data.toList.drop 505 = dktX8_isLine_20 := dk_seg dksX8_isLine_19 22 rfl rfl
theorem dksX8_isLine_21 : cX8_isLine.data.toList.drop 529 = dktX8_isLine_21 := dk_seg dksX8_isLine_20 24 rfl rfl
theorem dksX8_isLine_22 : cX8_isLine.data.toList.drop 551 = dktX8_isLine_22 := dk_seg dksX8_isLine_21 22 rfl rfl
theorem dksX8_isLine_23 : cX8_isLine.data.toList.drop 573 = dktX8_isLine_23 := dk_seg dksX8_isLine_22 22 rfl rfl
theorem dX8_isLine_0 : decode cX8_isLine 0 = .ok (.aload_n 0, 1) := dk_42 (dk_at dksX8_isLine_0 0 rfl rfl)
theorem dX8_isLine_1 : decode cX8_isLine 1 = .ok (.invokevirtual 130, 3) := dk_182 0 130 (dk_at dksX8_isLine_0 1 rfl rfl)
theorem dX8_isLine_4 : decode cX8_isLine 4 = .ok (.aload_n 0, 1) := dk_42 (dk_at dksX8_isLine_0 4 rfl rfl)
theorem dX8_isLine_5 : decode cX8_isLine 5 = .ok (.getfield 113, 3) := dk_180 0 113 (dk_at dksX8_isLine_0 5 rfl rfl)
theorem dX8_isLine_8 : decode cX8_isLine 8 = .ok (.ldc2_w 146, 3) := dk_20 0 146 (dk_at dksX8_isLine_0 8 rfl rfl)
theorem dX8_isLine_11 : decode cX8_isLine 11 = .ok (.lcmp, 1) := dk_148 (dk_at dksX8_isLine_0 11 rfl rfl)
theorem dX8_isLine_12 : decode cX8_isLine 12 = .ok (.ifCond .ne 7, 3) := dk_154 0 7 (dk_at dksX8_isLine_0 12 rfl rfl)
theorem dX8_isLine_15 : decode cX8_isLine 15 = .ok (.iconst 0, 1) := dk_3 (dk_at dksX8_isLine_0 15 rfl rfl)
theorem dX8_isLine_16 : decode cX8_isLine 16 = .ok (.goto 111, 3) := dk_167 0 111 (dk_at dksX8_isLine_0 16 rfl rfl)
theorem dX8_isLine_19 : decode cX8_isLine 19 = .ok (.aload_n 0, 1) := dk_42 (dk_at dksX8_isLine_0 19 rfl rfl)
theorem dX8_isLine_20 : decode cX8_isLine 20 = .ok (.getfield 113, 3) := dk_180 0 113 (dk_at dksX8_isLine_0 20 rfl rfl)
theorem dX8_isLine_23 : decode cX8_isLine 23 = .ok (.ldc2_w 148, 3) := dk_20 0 148 (dk_at dksX8_isLine_1 0 rfl rfl)
theorem dX8_isLine_26 : decode cX8_isLine 26 = .ok (.lcmp, 1) := dk_148 (dk_at dksX8_isLine_1 3 rfl rfl)
theorem dX8_isLine_27 : decode cX8_isLine 27 = .ok (.ifCond .ne 7, 3) := dk_154 0 7 (dk_at dksX8_isLine_1 4 rfl rfl)
theorem dX8_isLine_30 : decode cX8_isLine 30 = .ok (.iconst 1, 1) := dk_4 (dk_at dksX8_isLine_1 7 rfl rfl)
theorem dX8_isLine_31 : decode cX8_isLine 31 = .ok (.goto 96, 3) := dk_167 0 96 (dk_at dksX8_isLine_1 8 rfl rfl)
theorem dX8_isLine_34 : decode cX8_isLine 34 = .ok (.aload_n 0, 1) := dk_42 (dk_at dksX8_isLine_1 11 rfl rfl)
theorem dX8_isLine_35 : decode cX8_isLine 35 = .ok (.getfield 113, 3) := dk_180 0 113 (dk_at dksX8_isLine_1 12 rfl rfl)
theorem dX8_isLine_38 : decode cX8_isLine 38 = .ok (.ldc2_w 150, 3) := dk_20 0 150 (dk_at dksX8_isLine_1 15 rfl rfl)
theorem dX8_isLine_41 : decode cX8_isLine 41 = .ok (.lcmp, 1) := dk_148 (dk_at dksX8_isLine_1 18 rfl rfl)
theorem dX8_isLine_42 : decode cX8_isLine 42 = .ok (.ifCond .ne 7, 3) := dk_154 0 7 (dk_at dksX8_isLine_1 19 rfl rfl)
theorem dX8_isLine_45 : decode cX8_isLine 45 = .ok (.iconst 2, 1) := dk_5 (dk_at dksX8_isLine_1 22 rfl rfl)
theorem dX8_isLine_46 : decode cX8_isLine 46 = .ok (.goto 81, 3) := dk_167 0 81 (dk_at dksX8_isLine_2 0 rfl rfl)
theorem dX8_isLine_49 : decode cX8_isLine 49 = .ok (.aload_n 0, 1) := dk_42 (dk_at dksX8_isLine_2 3 rfl rfl)
theorem dX8_isLine_50 : decode cX8_isLine 50 = .ok (.getfield 113, 3) := dk_180 0 113 (dk_at dksX8_isLine_2 4 rfl rfl)
theorem dX8_isLine_53 : decode cX8_isLine 53 = .ok (.ldc2_w 152, 3) := dk_20 0 152 (dk_at dksX8_isLine_2 7 rfl rfl)
theorem dX8_isLine_56 : decode cX8_isLine 56 = .ok (.lcmp, 1) := dk_148 (dk_at dksX8_isLine_2 10 rfl rfl)
theorem dX8_isLine_57 : decode cX8_isLine 57 = .ok (.ifCond .ne 7, 3) := dk_154 0 7 (dk_at dksX8_isLine_2 11 rfl rfl)
theorem dX8_isLine_60 : decode cX8_isLine 60 = .ok (.iconst 3, 1) := dk_6 (dk_at dksX8_isLine_2 14 rfl rfl)
theorem dX8_isLine_61 : decode cX8_isLine 61 = .ok (.goto 66, 3) := dk_167 0 66 (dk_at dksX8_isLine_2 15 rfl rfl)
theorem dX8_isLine_64 : decode cX8_isLine 64 = .ok (.aload_n 0, 1) := dk_42 (dk_at dksX8_isLine_2 18 rfl rfl)
theorem dX8_isLine_65 : decode cX8_isLine 65 = .ok (.getfield 113, 3) := dk_180 0 113 (dk_at dksX8_isLine_2 19 rfl rfl)
theorem dX8_isLine_68 : decode cX8_isLine 68 = .ok (.ldc2_w 154, 3) := dk_20 0 154 (dk_at dksX8_isLine_3 0 rfl rfl)
theorem dX8_isLine_71 : decode cX8_isLine 71 = .ok (.lcmp, 1) := dk_148 (dk_at dksX8_isLine_3 3 rfl rfl)
theorem dX8_isLine_72 : decode cX8_isLine 72 = .ok (.ifCond .ne 7, 3) := dk_154 0 7 (dk_at dksX8_isLine_3 4 rfl rfl)
theorem dX8_isLine_75 : decode cX8_isLine 75 = .ok (.iconst 4, 1) := dk_7 (dk_at dksX8_isLine_3 7 rfl rfl)
theorem dX8_isLine_76 : decode cX8_isLine 76 = .ok (.goto 51, 3) := dk_167 0 51 (dk_at dksX8_isLine_3 8 rfl rfl)
theorem dX8_isLine_79 : decode cX8_isLine 79 = .ok (.aload_n 0, 1) := dk_42 (dk_at dksX8_isLine_3 11 rfl rfl)
theorem dX8_isLine_80 : decode cX8_isLine 80 = .ok (.getfield 113, 3) := dk_180 0 113 (dk_at dksX8_isLine_3 12 rfl rfl)
theorem dX8_isLine_83 : decode cX8_isLine 83 = .ok (.ldc2_w 156, 3) := dk_20 0 156 (dk_at dksX8_isLine_3 15 rfl rfl)
theorem dX8_isLine_86 : decode cX8_isLine 86 = .ok (.lcmp, 1) := dk_148 (dk_at dksX8_isLine_3 18 rfl rfl)
theorem dX8_isLine_87 : decode cX8_isLine 87 = .ok (.ifCond .ne 7, 3) := dk_154 0 7 (dk_at dksX8_isLine_3 19 rfl rfl)
theorem dX8_isLine_90 : decode cX8_isLine 90 = .ok (.iconst 5, 1) := dk_8 (dk_at dksX8_isLine_3 22 rfl rfl)
theorem dX8_isLine_91 : decode cX8_isLine 91 = .ok (.goto 36, 3) := dk_167 0 36 (dk_at dksX8_isLine_4 0 rfl rfl)
theorem dX8_isLine_94 : decode cX8_isLine 94 = .ok (.aload_n 0, 1) := dk_42 (dk_at dksX8_isLine_4 3 rfl rfl)
theorem dX8_isLine_95 : decode cX8_isLine 95 = .ok (.getfield 113, 3) := dk_180 0 113 (dk_at dksX8_isLine_4 4 rfl rfl)
theorem dX8_isLine_98 : decode cX8_isLine 98 = .ok (.ldc2_w 158, 3) := dk_20 0 158 (dk_at dksX8_isLine_4 7 rfl rfl)
theorem dX8_isLine_101 : decode cX8_isLine 101 = .ok (.lcmp, 1) := dk_148 (dk_at dksX8_isLine_4 10 rfl rfl)
theorem dX8_isLine_102 : decode cX8_isLine 102 = .ok (.ifCond .ne 8, 3) := dk_154 0 8 (dk_at dksX8_isLine_4 11 rfl rfl)
theorem dX8_isLine_105 : decode cX8_isLine 105 = .ok (.bipush 6, 2) := dk_16 6 (dk_at dksX8_isLine_4 14 rfl rfl)
theorem dX8_isLine_107 : decode cX8_isLine 107 = .ok (.goto 20, 3) := dk_167 0 20 (dk_at dksX8_isLine_4 16 rfl rfl)
theorem dX8_isLine_110 : decode cX8_isLine 110 = .ok (.aload_n 0, 1) := dk_42 (dk_at dksX8_isLine_4 19 rfl rfl)
theorem dX8_isLine_111 : decode cX8_isLine 111 = .ok (.getfield 113, 3) := dk_180 0 113 (dk_at dksX8_isLine_4 20 rfl rfl)
theorem dX8_isLine_114 : decode cX8_isLine 114 = .ok (.ldc2_w 160, 3) := dk_20 0 160 (dk_at dksX8_isLine_5 0 rfl rfl)
theorem dX8_isLine_117 : decode cX8_isLine 117 = .ok (.lcmp, 1) := dk_148 (dk_at dksX8_isLine_5 3 rfl rfl)
theorem dX8_isLine_118 : decode cX8_isLine 118 = .ok (.ifCond .ne 8, 3) := dk_154 0 8 (dk_at dksX8_isLine_5 4 rfl rfl)
theorem dX8_isLine_121 : decode cX8_isLine 121 = .ok (.bipush 7, 2) := dk_16 7 (dk_at dksX8_isLine_5 7 rfl rfl)
theorem dX8_isLine_123 : decode cX8_isLine 123 = .ok (.goto 4, 3) := dk_167 0 4 (dk_at dksX8_isLine_5 9 rfl rfl)
theorem dX8_isLine_126 : decode cX8_isLine 126 = .ok (.iconst (-1), 1) := dk_2 (dk_at dksX8_isLine_5 12 rfl rfl)
theorem dX8_isLine_127 : decode cX8_isLine 127 = .ok (.istore_n 2, 1) := dk_61 (dk_at dksX8_isLine_5 13 rfl rfl)
theorem dX8_isLine_128 : decode cX8_isLine 128 = .ok (.aload_n 0, 1) := dk_42 (dk_at dksX8_isLine_5 14 rfl rfl)
theorem dX8_isLine_129 : decode cX8_isLine 129 = .ok (.getfield 113, 3) := dk_180 0 113 (dk_at dksX8_isLine_5 15 rfl rfl)
theorem dX8_isLine_132 : decode cX8_isLine 132 = .ok (.ldc2_w 162, 3) := dk_20 0 162 (dk_at dksX8_isLine_5 18 rfl rfl)
theorem dX8_isLine_135 : decode cX8_isLine 135 = .ok (.lcmp, 1) := dk_148 (dk_at dksX8_isLine_5 21 rfl rfl)
theorem dX8_isLine_136 : decode cX8_isLine 136 = .ok (.ifCond .ne 8, 3) := dk_154 0 8 (dk_at dksX8_isLine_6 0 rfl rfl)
theorem dX8_isLine_139 : decode cX8_isLine 139 = .ok (.bipush 8, 2) := dk_16 8 (dk_at dksX8_isLine_6 3 rfl rfl)
theorem dX8_isLine_141 : decode cX8_isLine 141 = .ok (.goto 100, 3) := dk_167 0 100 (dk_at dksX8_isLine_6 5 rfl rfl)
theorem dX8_isLine_144 : decode cX8_isLine 144 = .ok (.aload_n 0, 1) := dk_42 (dk_at dksX8_isLine_6 8 rfl rfl)
theorem dX8_isLine_145 : decode cX8_isLine 145 = .ok (.getfield 113, 3) := dk_180 0 113 (dk_at dksX8_isLine_6 9 rfl rfl)
theorem dX8_isLine_148 : decode cX8_isLine 148 = .ok (.ldc2_w 164, 3) := dk_20 0 164 (dk_at dksX8_isLine_6 12 rfl rfl)
theorem dX8_isLine_151 : decode cX8_isLine 151 = .ok (.lcmp, 1) := dk_148 (dk_at dksX8_isLine_6 15 rfl rfl)
theorem dX8_isLine_152 : decode cX8_isLine 152 = .ok (.ifCond .ne 8, 3) := dk_154 0 8 (dk_at dksX8_isLine_6 16 rfl rfl)
theorem dX8_isLine_155 : decode cX8_isLine 155 = .ok (.bipush 9, 2) := dk_16 9 (dk_at dksX8_isLine_6 19 rfl rfl)
theorem dX8_isLine_157 : decode cX8_isLine 157 = .ok (.goto 84, 3) := dk_167 0 84 (dk_at dksX8_isLine_6 21 rfl rfl)
theorem dX8_isLine_160 : decode cX8_isLine 160 = .ok (.aload_n 0, 1) := dk_42 (dk_at dksX8_isLine_7 0 rfl rfl)
theorem dX8_isLine_161 : decode cX8_isLine 161 = .ok (.getfield 113, 3) := dk_180 0 113 (dk_at dksX8_isLine_7 1 rfl rfl)
theorem dX8_isLine_164 : decode cX8_isLine 164 = .ok (.ldc2_w 166, 3) := dk_20 0 166 (dk_at dksX8_isLine_7 4 rfl rfl)
theorem dX8_isLine_167 : decode cX8_isLine 167 = .ok (.lcmp, 1) := dk_148 (dk_at dksX8_isLine_7 7 rfl rfl)
theorem dX8_isLine_168 : decode cX8_isLine 168 = .ok (.ifCond .ne 8, 3) := dk_154 0 8 (dk_at dksX8_isLine_7 8 rfl rfl)
theorem dX8_isLine_171 : decode cX8_isLine 171 = .ok (.bipush 10, 2) := dk_16 10 (dk_at dksX8_isLine_7 11 rfl rfl)
theorem dX8_isLine_173 : decode cX8_isLine 173 = .ok (.goto 68, 3) := dk_167 0 68 (dk_at dksX8_isLine_7 13 rfl rfl)
theorem dX8_isLine_176 : decode cX8_isLine 176 = .ok (.aload_n 0, 1) := dk_42 (dk_at dksX8_isLine_7 16 rfl rfl)
theorem dX8_isLine_177 : decode cX8_isLine 177 = .ok (.getfield 113, 3) := dk_180 0 113 (dk_at dksX8_isLine_7 17 rfl rfl)
theorem dX8_isLine_180 : decode cX8_isLine 180 = .ok (.ldc2_w 168, 3) := dk_20 0 168 (dk_at dksX8_isLine_7 20 rfl rfl)
theorem dX8_isLine_183 : decode cX8_isLine 183 = .ok (.lcmp, 1) := dk_148 (dk_at dksX8_isLine_7 23 rfl rfl)
theorem dX8_isLine_184 : decode cX8_isLine 184 = .ok (.ifCond .ne 8, 3) := dk_154 0 8 (dk_at dksX8_isLine_8 0 rfl rfl)
theorem dX8_isLine_187 : decode cX8_isLine 187 = .ok (.bipush 11, 2) := dk_16 11 (dk_at dksX8_isLine_8 3 rfl rfl)
theorem dX8_isLine_189 : decode cX8_isLine 189 = .ok (.goto 52, 3) := dk_167 0 52 (dk_at dksX8_isLine_8 5 rfl rfl)
theorem dX8_isLine_192 : decode cX8_isLine 192 = .ok (.aload_n 0, 1) := dk_42 (dk_at dksX8_isLine_8 8 rfl rfl)
theorem dX8_isLine_193 : decode cX8_isLine 193 = .ok (.getfield 113, 3) := dk_180 0 113 (dk_at dksX8_isLine_8 9 rfl rfl)
theorem dX8_isLine_196 : decode cX8_isLine 196 = .ok (.ldc2_w 170, 3) := dk_20 0 170 (dk_at dksX8_isLine_8 12 rfl rfl)
theorem dX8_isLine_199 : decode cX8_isLine 199 = .ok (.lcmp, 1) := dk_148 (dk_at dksX8_isLine_8 15 rfl rfl)
theorem dX8_isLine_200 : decode cX8_isLine 200 = .ok (.ifCond .ne 8, 3) := dk_154 0 8 (dk_at dksX8_isLine_8 16 rfl rfl)
theorem dX8_isLine_203 : decode cX8_isLine 203 = .ok (.bipush 12, 2) := dk_16 12 (dk_at dksX8_isLine_8 19 rfl rfl)
theorem dX8_isLine_205 : decode cX8_isLine 205 = .ok (.goto 36, 3) := dk_167 0 36 (dk_at dksX8_isLine_8 21 rfl rfl)
theorem dX8_isLine_208 : decode cX8_isLine 208 = .ok (.aload_n 0, 1) := dk_42 (dk_at dksX8_isLine_9 0 rfl rfl)
theorem dX8_isLine_209 : decode cX8_isLine 209 = .ok (.getfield 113, 3) := dk_180 0 113 (dk_at dksX8_isLine_9 1 rfl rfl)
theorem dX8_isLine_212 : decode cX8_isLine 212 = .ok (.ldc2_w 172, 3) := dk_20 0 172 (dk_at dksX8_isLine_9 4 rfl rfl)
theorem dX8_isLine_215 : decode cX8_isLine 215 = .ok (.lcmp, 1) := dk_148 (dk_at dksX8_isLine_9 7 rfl rfl)
theorem dX8_isLine_216 : decode cX8_isLine 216 = .ok (.ifCond .ne 8, 3) := dk_154 0 8 (dk_at dksX8_isLine_9 8 rfl rfl)
theorem dX8_isLine_219 : decode cX8_isLine 219 = .ok (.bipush 13, 2) := dk_16 13 (dk_at dksX8_isLine_9 11 rfl rfl)
theorem dX8_isLine_221 : decode cX8_isLine 221 = .ok (.goto 20, 3) := dk_167 0 20 (dk_at dksX8_isLine_9 13 rfl rfl)
theorem dX8_isLine_224 : decode cX8_isLine 224 = .ok (.aload_n 0, 1) := dk_42 (dk_at dksX8_isLine_9 16 rfl rfl)
theorem dX8_isLine_225 : decode cX8_isLine 225 = .ok (.getfield 113, 3) := dk_180 0 113 (dk_at dksX8_isLine_9 17 rfl rfl)
theorem dX8_isLine_228 : decode cX8_isLine 228 = .ok (.ldc2_w 174, 3) := dk_20 0 174 (dk_at dksX8_isLine_9 20 rfl rfl)
theorem dX8_isLine_231 : decode cX8_isLine 231 = .ok (.lcmp, 1) := dk_148 (dk_at dksX8_isLine_9 23 rfl rfl)
theorem dX8_isLine_232 : decode cX8_isLine 232 = .ok (.ifCond .ne 8, 3) := dk_154 0 8 (dk_at dksX8_isLine_10 0 rfl rfl)
theorem dX8_isLine_235 : decode cX8_isLine 235 = .ok (.bipush 14, 2) := dk_16 14 (dk_at dksX8_isLine_10 3 rfl rfl)
theorem dX8_isLine_237 : decode cX8_isLine 237 = .ok (.goto 4, 3) := dk_167 0 4 (dk_at dksX8_isLine_10 5 rfl rfl)
theorem dX8_isLine_240 : decode cX8_isLine 240 = .ok (.iconst (-1), 1) := dk_2 (dk_at dksX8_isLine_10 8 rfl rfl)
theorem dX8_isLine_241 : decode cX8_isLine 241 = .ok (.istore_n 3, 1) := dk_62 (dk_at dksX8_isLine_10 9 rfl rfl)
theorem dX8_isLine_242 : decode cX8_isLine 242 = .ok (.aload_n 0, 1) := dk_42 (dk_at dksX8_isLine_10 10 rfl rfl)
theorem dX8_isLine_243 : decode cX8_isLine 243 = .ok (.getfield 62, 3) := dk_180 0 62 (dk_at dksX8_isLine_10 11 rfl rfl)
theorem dX8_isLine_246 : decode cX8_isLine 246 = .ok (.iload_n 1, 1) := dk_27 (dk_at dksX8_isLine_10 14 rfl rfl)
theorem dX8_isLine_247 : decode cX8_isLine 247 = .ok (.iload_n 2, 1) := dk_28 (dk_at dksX8_isLine_10 15 rfl rfl)
theorem dX8_isLine_248 : decode cX8_isLine 248 = .ok (.iconst (-1), 1) := dk_2 (dk_at dksX8_isLine_10 16 rfl rfl)
theorem dX8_isLine_249 : decode cX8_isLine 249 = .ok (.if_icmp .ne 7, 3) := dk_160 0 7 (dk_at dksX8_isLine_10 17 rfl rfl)
theorem dX8_isLine_252 : decode cX8_isLine 252 = .ok (.iload_n 3, 1) := dk_29 (dk_at dksX8_isLine_10 20 rfl rfl)
theorem dX8_isLine_253 : decode cX8_isLine 253 = .ok (.goto 4, 3) := dk_167 0 4 (dk_at dksX8_isLine_10 21 rfl rfl)
theorem dX8_isLine_256 : decode cX8_isLine 256 = .ok (.iload_n 2, 1) := dk_28 (dk_at dksX8_isLine_11 0 rfl rfl)
theorem dX8_isLine_257 : decode cX8_isLine 257 = .ok (.iastore, 1) := dk_79 (dk_at dksX8_isLine_11 1 rfl rfl)
theorem dX8_isLine_258 : decode cX8_isLine 258 = .ok (.aload_n 0, 1) := dk_42 (dk_at dksX8_isLine_11 2 rfl rfl)
theorem dX8_isLine_259 : decode cX8_isLine 259 = .ok (.getfield 62, 3) := dk_180 0 62 (dk_at dksX8_isLine_11 3 rfl rfl)
theorem dX8_isLine_262 : decode cX8_isLine 262 = .ok (.iload_n 1, 1) := dk_27 (dk_at dksX8_isLine_11 6 rfl rfl)
theorem dX8_isLine_263 : decode cX8_isLine 263 = .ok (.iaload, 1) := dk_46 (dk_at dksX8_isLine_11 7 rfl rfl)
theorem dX8_isLine_264 : decode cX8_isLine 264 = .ok (.tableswitch 308 0 14 #[76, 82, 90, 98, 130, 130, 183, 194, 206, 256, 258, 269, 280, 291, 302], 76) := by decide +kernel
theorem dX8_isLine_340 : decode cX8_isLine 340 = .ok (.aload_n 0, 1) := dk_42 (dk_at dksX8_isLine_13 0 rfl rfl)
theorem dX8_isLine_341 : decode cX8_isLine 341 = .ok (.iload_n 1, 1) := dk_27 (dk_at dksX8_isLine_13 1 rfl rfl)
theorem dX8_isLine_342 : decode cX8_isLine 342 = .ok (.invokevirtual 176, 3) := dk_182 0 176 (dk_at dksX8_isLine_13 2 rfl rfl)
theorem dX8_isLine_345 : decode cX8_isLine 345 = .ok (.ireturn, 1) := dk_172 (dk_at dksX8_isLine_13 5 rfl rfl)
theorem dX8_isLine_346 : decode cX8_isLine 346 = .ok (.aload_n 0, 1) := dk_42 (dk_at dksX8_isLine_13 6 rfl rfl)
theorem dX8_isLine_347 : decode cX8_isLine 347 = .ok (.iload_n 1, 1) := dk_27 (dk_at dksX8_isLine_13 7 rfl rfl)
theorem dX8_isLine_348 : decode cX8_isLine 348 = .ok (.bipush 99, 2) := dk_16 99 (dk_at dksX8_isLine_13 8 rfl rfl)
theorem dX8_isLine_350 : decode cX8_isLine 350 = .ok (.invokevirtual 180, 3) := dk_182 0 180 (dk_at dksX8_isLine_13 10 rfl rfl)
theorem dX8_isLine_353 : decode cX8_isLine 353 = .ok (.ireturn, 1) := dk_172 (dk_at dksX8_isLine_13 13 rfl rfl)
theorem dX8_isLine_354 : decode cX8_isLine 354 = .ok (.aload_n 0, 1) := dk_42 (dk_at dksX8_isLine_13 14 rfl rfl)
theorem dX8_isLine_355 : decode cX8_isLine 355 = .ok (.iload_n 1, 1) := dk_27 (dk_at dksX8_isLine_13 15 rfl rfl)
theorem dX8_isLine_356 : decode cX8_isLine 356 = .ok (.bipush 100, 2) := dk_16 100 (dk_at dksX8_isLine_13 16 rfl rfl)
theorem dX8_isLine_358 : decode cX8_isLine 358 = .ok (.invokevirtual 180, 3) := dk_182 0 180 (dk_at dksX8_isLine_13 18 rfl rfl)
theorem dX8_isLine_361 : decode cX8_isLine 361 = .ok (.ireturn, 1) := dk_172 (dk_at dksX8_isLine_13 21 rfl rfl)
theorem dX8_isLine_362 : decode cX8_isLine 362 = .ok (.aload_n 0, 1) := dk_42 (dk_at dksX8_isLine_13 22 rfl rfl)
theorem dX8_isLine_363 : decode cX8_isLine 363 = .ok (.iload_n 1, 1) := dk_27 (dk_at dksX8_isLine_13 23 rfl rfl)
theorem dX8_isLine_364 : decode cX8_isLine 364 = .ok (.iconst 1, 1) := dk_4 (dk_at dksX8_isLine_14 0 rfl rfl)
theorem dX8_isLine_365 : decode cX8_isLine 365 = .ok (.iadd, 1) := dk_96 (dk_at dksX8_isLine_14 1 rfl rfl)
theorem dX8_isLine_366 : decode cX8_isLine 366 = .ok (.iconst 0, 1) := dk_3 (dk_at dksX8_isLine_14 2 rfl rfl)
theorem dX8_isLine_367 : decode cX8_isLine 367 = .ok (.bipush 95, 2) := dk_16 95 (dk_at dksX8_isLine_14 3 rfl rfl)
theorem dX8_isLine_369 : decode cX8_isLine 369 = .ok (.invokevirtual 137, 3) := dk_182 0 137 (dk_at dksX8_isLine_14 5 rfl rfl)
theorem dX8_isLine_372 : decode cX8_isLine 372 = .ok (.ifCond .eq 20, 3) := dk_153 0 20 (dk_at dksX8_isLine_14 8 rfl rfl)
theorem dX8_isLine_375 : decode cX8_isLine 375 = .ok (.aload_n 0, 1) := dk_42 (dk_at dksX8_isLine_14 11 rfl rfl)
theorem dX8_isLine_376 : decode cX8_isLine 376 = .ok (.iload_n 1, 1) := dk_27 (dk_at dksX8_isLine_14 12 rfl rfl)
theorem dX8_isLine_377 : decode cX8_isLine 377 = .ok (.iconst 2, 1) := dk_5 (dk_at dksX8_isLine_14 13 rfl rfl)
theorem dX8_isLine_378 : decode cX8_isLine 378 = .ok (.iadd, 1) := dk_96 (dk_at dksX8_isLine_14 14 rfl rfl)
theorem dX8_isLine_379 : decode cX8_isLine 379 = .ok (.iconst 0, 1) := dk_3 (dk_at dksX8_isLine_14 15 rfl rfl)
theorem dX8_isLine_380 : decode cX8_isLine 380 = .ok (.bipush 9, 2) := dk_16 9 (dk_at dksX8_isLine_14 16 rfl rfl)
theorem dX8_isLine_382 : decode cX8_isLine 382 = .ok (.invokevirtual 137, 3) := dk_182 0 137 (dk_at dksX8_isLine_14 18 rfl rfl)
theorem dX8_isLine_385 : decode cX8_isLine 385 = .ok (.ifCond .eq 7, 3) := dk_153 0 7 (dk_at dksX8_isLine_14 21 rfl rfl)
theorem dX8_isLine_388 : decode cX8_isLine 388 = .ok (.iconst 1, 1) := dk_4 (dk_at dksX8_isLine_15 0 rfl rfl)
theorem dX8_isLine_389 : decode cX8_isLine 389 = .ok (.goto 4, 3) := dk_167 0 4 (dk_at dksX8_isLine_15 1 rfl rfl)
theorem dX8_isLine_392 : decode cX8_isLine 392 = .ok (.iconst 0, 1) := dk_3 (dk_at dksX8_isLine_15 4 rfl rfl)
theorem dX8_isLine_393 : decode cX8_isLine 393 = .ok (.ireturn, 1) := dk_172 (dk_at dksX8_isLine_15 5 rfl rfl)
theorem dX8_isLine_394 : decode cX8_isLine 394 = .ok (.aload_n 0, 1) := dk_42 (dk_at dksX8_isLine_15 6 rfl rfl)
theorem dX8_isLine_395 : decode cX8_isLine 395 = .ok (.iload_n 1, 1) := dk_27 (dk_at dksX8_isLine_15 7 rfl rfl)
theorem dX8_isLine_396 : decode cX8_isLine 396 = .ok (.iconst 1, 1) := dk_4 (dk_at dksX8_isLine_15 8 rfl rfl)
theorem dX8_isLine_397 : decode cX8_isLine 397 = .ok (.iadd, 1) := dk_96 (dk_at dksX8_isLine_15 9 rfl rfl)
theorem dX8_isLine_398 : decode cX8_isLine 398 = .ok (.iconst 0, 1) := dk_3 (dk_at dksX8_isLine_15 10 rfl rfl)
theorem dX8_isLine_399 : decode cX8_isLine 399 = .ok (.aload_n 0, 1) := dk_42 (dk_at dksX8_isLine_15 11 rfl rfl)
theorem dX8_isLine_400 : decode cX8_isLine 400 = .ok (.getfield 140, 3) := dk_180 0 140 (dk_at dksX8_isLine_15 12 rfl rfl)
theorem dX8_isLine_403 : decode cX8_isLine 403 = .ok (.iconst 1, 1) := dk_4 (dk_at dksX8_isLine_15 15 rfl rfl)
theorem dX8_isLine_404 : decode cX8_isLine 404 = .ok (.isub, 1) := dk_100 (dk_at dksX8_isLine_15 16 rfl rfl)
theorem dX8_isLine_405 : decode cX8_isLine 405 = .ok (.invokevirtual 137, 3) := dk_182 0 137 (dk_at dksX8_isLine_15 17 rfl rfl)
theorem dX8_isLine_408 : decode cX8_isLine 408 = .ok (.ifCond .eq 37, 3) := dk_153 0 37 (dk_at dksX8_isLine_15 20 rfl rfl)
theorem dX8_isLine_411 : decode cX8_isLine 411 = .ok (.aload_n 0, 1) := dk_42 (dk_at dksX8_isLine_15 23 rfl rfl)
theorem dX8_isLine_412 : decode cX8_isLine 412 = .ok (.iload_n 1, 1) := dk_27 (dk_at dksX8_isLine_16 0 rfl rfl)
theorem dX8_isLine_413 : decode cX8_isLine 413 = .ok (.iconst 2, 1) := dk_5 (dk_at dksX8_isLine_16 1 rfl rfl)
theorem dX8_isLine_414 : decode cX8_isLine 414 = .ok (.iadd, 1) := dk_96 (dk_at dksX8_isLine_16 2 rfl rfl)
theorem dX8_isLine_415 : decode cX8_isLine 415 = .ok (.iconst 0, 1) := dk_3 (dk_at dksX8_isLine_16 3 rfl rfl)
theorem dX8_isLine_416 : decode cX8_isLine 416 = .ok (.aload_n 0, 1) := dk_42 (dk_at dksX8_isLine_16 4 rfl rfl)
theorem dX8_isLine_417 : decode cX8_isLine 417 = .ok (.getfield 143, 3) := dk_180 0 143 (dk_at dksX8_isLine_16 5 rfl rfl)
theorem dX8_isLine_420 : decode cX8_isLine 420 = .ok (.iconst 1, 1) := dk_4 (dk_at dksX8_isLine_16 8 rfl rfl)
theorem dX8_isLine_421 : decode cX8_isLine 421 = .ok (.isub, 1) := dk_100 (dk_at dksX8_isLine_16 9 rfl rfl)
theorem dX8_isLine_422 : decode cX8_isLine 422 = .ok (.invokevirtual 137, 3) := dk_182 0 137 (dk_at dksX8_isLine_16 10 rfl rfl)
theorem dX8_isLine_425 : decode cX8_isLine 425 = .ok (.ifCond .eq 20, 3) := dk_153 0 20 (dk_at dksX8_isLine_16 13 rfl rfl)
theorem dX8_isLine_428 : decode cX8_isLine 428 = .ok (.aload_n 0, 1) := dk_42 (dk_at dksX8_isLine_16 16 rfl rfl)
theorem dX8_isLine_429 : decode cX8_isLine 429 = .ok (.iload_n 1, 1) := dk_27 (dk_at dksX8_isLine_16 17 rfl rfl)
theorem dX8_isLine_430 : decode cX8_isLine 430 = .ok (.iconst 3, 1) := dk_6 (dk_at dksX8_isLine_16 18 rfl rfl)
theorem dX8_isLine_431 : decode cX8_isLine 431 = .ok (.iadd, 1) := dk_96 (dk_at dksX8_isLine_16 19 rfl rfl)
theorem dX8_isLine_432 : decode cX8_isLine 432 = .ok (.iconst 0, 1) := dk_3 (dk_at dksX8_isLine_16 20 rfl rfl)
theorem dX8_isLine_433 : decode cX8_isLine 433 = .ok (.bipush 50, 2) := dk_16 50 (dk_at dksX8_isLine_16 21 rfl rfl)
theorem dX8_isLine_435 : decode cX8_isLine 435 = .ok (.invokevirtual 137, 3) := dk_182 0 137 (dk_at dksX8_isLine_17 0 rfl rfl)
theorem dX8_isLine_438 : decode cX8_isLine 438 = .ok (.ifCond .eq 7, 3) := dk_153 0 7 (dk_at dksX8_isLine_17 3 rfl rfl)
theorem dX8_isLine_441 : decode cX8_isLine 441 = .ok (.iconst 1, 1) := dk_4 (dk_at dksX8_isLine_17 6 rfl rfl)
theorem dX8_isLine_442 : decode cX8_isLine 442 = .ok (.goto 4, 3) := dk_167 0 4 (dk_at dksX8_isLine_17 7 rfl rfl)
theorem dX8_isLine_445 : decode cX8_isLine 445 = .ok (.iconst 0, 1) := dk_3 (dk_at dksX8_isLine_17 10 rfl rfl)
theorem dX8_isLine_446 : decode cX8_isLine 446 = .ok (.ireturn, 1) := dk_172 (dk_at dksX8_isLine_17 11 rfl rfl)
theorem dX8_isLine_447 : decode cX8_isLine 447 = .ok (.aload_n 0, 1) := dk_42 (dk_at dksX8_isLine_17 12 rfl rfl)
theorem dX8_isLine_448 : decode cX8_isLine 448 = .ok (.iload_n 1, 1) := dk_27 (dk_at dksX8_isLine_17 13 rfl rfl)
theorem dX8_isLine_449 : decode cX8_isLine 449 = .ok (.iconst 1, 1) := dk_4 (dk_at dksX8_isLine_17 14 rfl rfl)
theorem dX8_isLine_450 : decode cX8_isLine 450 = .ok (.iadd, 1) := dk_96 (dk_at dksX8_isLine_17 15 rfl rfl)
theorem dX8_isLine_451 : decode cX8_isLine 451 = .ok (.iconst 0, 1) := dk_3 (dk_at dksX8_isLine_17 16 rfl rfl)
theorem dX8_isLine_452 : decode cX8_isLine 452 = .ok (.bipush 20, 2) := dk_16 20 (dk_at dksX8_isLine_17 17 rfl rfl)
theorem dX8_isLine_454 : decode cX8_isLine 454 = .ok (.invokevirtual 137, 3) := dk_182 0 137 (dk_at dksX8_isLine_17 19 rfl rfl)
theorem dX8_isLine_457 : decode cX8_isLine 457 = .ok (.ireturn, 1) := dk_172 (dk_at dksX8_isLine_17 22 rfl rfl)
theorem dX8_isLine_458 : decode cX8_isLine 458 = .ok (.aload_n 0, 1) := dk_42 (dk_at dksX8_isLine_17 23 rfl rfl)
theorem dX8_isLine_459 : decode cX8_isLine 459 = .ok (.iload_n 1, 1) := dk_27 (dk_at dksX8_isLine_18 0 rfl rfl)
theorem dX8_isLine_460 : decode cX8_isLine 460 = .ok (.iconst 1, 1) := dk_4 (dk_at dksX8_isLine_18 1 rfl rfl)
theorem dX8_isLine_461 : decode cX8_isLine 461 = .ok (.iadd, 1) := dk_96 (dk_at dksX8_isLine_18 2 rfl rfl)
theorem dX8_isLine_462 : decode cX8_isLine 462 = .ok (.iconst 0, 1) := dk_3 (dk_at dksX8_isLine_18 3 rfl rfl)
theorem dX8_isLine_463 : decode cX8_isLine 463 = .ok (.sipush 999, 3) := dk_17 3 231 (dk_at dksX8_isLine_18 4 rfl rfl)
theorem dX8_isLine_466 : decode cX8_isLine 466 = .ok (.invokevirtual 137, 3) := dk_182 0 137 (dk_at dksX8_isLine_18 7 rfl rfl)
theorem dX8_isLine_469 : decode cX8_isLine 469 = .ok (.ireturn, 1) := dk_172 (dk_at dksX8_isLine_18 10 rfl rfl)
theorem dX8_isLine_470 : decode cX8_isLine 470 = .ok (.aload_n 0, 1) := dk_42 (dk_at dksX8_isLine_18 11 rfl rfl)
theorem dX8_isLine_471 : decode cX8_isLine 471 = .ok (.iload_n 1, 1) := dk_27 (dk_at dksX8_isLine_18 12 rfl rfl)
theorem dX8_isLine_472 : decode cX8_isLine 472 = .ok (.iconst 1, 1) := dk_4 (dk_at dksX8_isLine_18 13 rfl rfl)
theorem dX8_isLine_473 : decode cX8_isLine 473 = .ok (.iadd, 1) := dk_96 (dk_at dksX8_isLine_18 14 rfl rfl)
theorem dX8_isLine_474 : decode cX8_isLine 474 = .ok (.iconst 0, 1) := dk_3 (dk_at dksX8_isLine_18 15 rfl rfl)
theorem dX8_isLine_475 : decode cX8_isLine 475 = .ok (.bipush 59, 2) := dk_16 59 (dk_at dksX8_isLine_18 16 rfl rfl)
theorem dX8_isLine_477 : decode cX8_isLine 477 = .ok (.invokevirtual 137, 3) := dk_182 0 137 (dk_at dksX8_isLine_18 18 rfl rfl)
theorem dX8_isLine_480 : decode cX8_isLine 480 = .ok (.ifCond .eq 38, 3) := dk_153 0 38 (dk_at dksX8_isLine_18 21 rfl rfl)
theorem dX8_isLine_483 : decode cX8_isLine 483 = .ok (.aload_n 0, 1) := dk_42 (dk_at dksX8_isLine_19 0 rfl rfl)
theorem dX8_isLine_484 : decode cX8_isLine 484 = .ok (.iload_n 1, 1) := dk_27 (dk_at dksX8_isLine_19 1 rfl rfl)
theorem dX8_isLine_485 : decode cX8_isLine 485 = .ok (.iconst 2, 1) := dk_5 (dk_at dksX8_isLine_19 2 rfl rfl)
theorem dX8_isLine_486 : decode cX8_isLine 486 = .ok (.iadd, 1) := dk_96 (dk_at dksX8_isLine_19 3 rfl rfl)
theorem dX8_isLine_487 : decode cX8_isLine 487 = .ok (.iconst 0, 1) := dk_3 (dk_at dksX8_isLine_19 4 rfl rfl)
theorem dX8_isLine_488 : decode cX8_isLine 488 = .ok (.aload_n 0, 1) := dk_42 (dk_at dksX8_isLine_19 5 rfl rfl)
theorem dX8_isLine_489 : decode cX8_isLine 489 = .ok (.getfield 140, 3) := dk_180 0 140 (dk_at dksX8_isLine_19 6 rfl rfl)
theorem dX8_isLine_492 : decode cX8_isLine 492 = .ok (.iconst 1, 1) := dk_4 (dk_at dksX8_isLine_19 9 rfl rfl)
theorem dX8_isLine_493 : decode cX8_isLine 493 = .ok (.isub, 1) := dk_100 (dk_at dksX8_isLine_19 10 rfl rfl)
theorem dX8_isLine_494 : decode cX8_isLine 494 = .ok (.invokevirtual 137, 3) := dk_182 0 137 (dk_at dksX8_isLine_19 11 rfl rfl)
theorem dX8_isLine_497 : decode cX8_isLine 497 = .ok (.ifCond .eq 21, 3) := dk_153 0 21 (dk_at dksX8_isLine_19 14 rfl rfl)
theorem dX8_isLine_500 : decode cX8_isLine 500 = .ok (.aload_n 0, 1) := dk_42 (dk_at dksX8_isLine_19 17 rfl rfl)
theorem dX8_isLine_501 : decode cX8_isLine 501 = .ok (.iload_n 1, 1) := dk_27 (dk_at dksX8_isLine_19 18 rfl rfl)
theorem dX8_isLine_502 : decode cX8_isLine 502 = .ok (.iconst 3, 1) := dk_6 (dk_at dksX8_isLine_19 19 rfl rfl)
theorem dX8_isLine_503 : decode cX8_isLine 503 = .ok (.iadd, 1) := dk_96 (dk_at dksX8_isLine_19 20 rfl rfl)
theorem dX8_isLine_504 : decode cX8_isLine 504 = .ok (.iconst 1, 1) := dk_4 (dk_at dksX8_isLine_19 21 rfl rfl)
theorem dX8_isLine_505 : decode cX8_isLine 505 = .ok (.sipush 500, 3) := dk_17 1 244 (dk_at dksX8_isLine_20 0 rfl rfl)
theorem dX8_isLine_508 : decode cX8_isLine 508 = .ok (.invokevirtual 137, 3) := dk_182 0 137 (dk_at dksX8_isLine_20 3 rfl rfl)
theorem dX8_isLine_511 : decode cX8_isLine 511 = .ok (.ifCond .eq 7, 3) := dk_153 0 7 (dk_at dksX8_isLine_20 6 rfl rfl)
theorem dX8_isLine_514 : decode cX8_isLine 514 = .ok (.iconst 1, 1) := dk_4 (dk_at dksX8_isLine_20 9 rfl rfl)
theorem dX8_isLine_515 : decode cX8_isLine 515 = .ok (.goto 4, 3) := dk_167 0 4 (dk_at dksX8_isLine_20 10 rfl rfl)
theorem dX8_isLine_518 : decode cX8_isLine 518 = .ok (.iconst 0, 1) := dk_3 (dk_at dksX8_isLine_20 13 rfl rfl)
theorem dX8_isLine_519 : decode cX8_isLine 519 = .ok (.ireturn, 1) := dk_172 (dk_at dksX8_isLine_20 14 rfl rfl)
theorem dX8_isLine_520 : decode cX8_isLine 520 = .ok (.iconst 1, 1) := dk_4 (dk_at dksX8_isLine_20 15 rfl rfl)
theorem dX8_isLine_521 : decode cX8_isLine 521 = .ok (.ireturn, 1) := dk_172 (dk_at dksX8_isLine_20 16 rfl rfl)
theorem dX8_isLine_522 : decode cX8_isLine 522 = .ok (.aload_n 0, 1) := dk_42 (dk_at dksX8_isLine_20 17 rfl rfl)
theorem dX8_isLine_523 : decode cX8_isLine 523 = .ok (.iload_n 1, 1) := dk_27 (dk_at dksX8_isLine_20 18 rfl rfl)
theorem dX8_isLine_524 : decode cX8_isLine 524 = .ok (.iconst 1, 1) := dk_4 (dk_at dksX8_isLine_20 19 rfl rfl)
theorem dX8_isLine_525 : decode cX8_isLine 525 = .ok (.iadd, 1) := dk_96 (dk_at dksX8_isLine_20 20 rfl rfl)
theorem dX8_isLine_526 : decode cX8_isLine 526 = .ok (.iconst 0, 1) := dk_3 (dk_at dksX8_isLine_20 21 rfl rfl)
theorem dX8_isLine_527 : decode cX8_isLine 527 = .ok (.bipush 10, 2) := dk_16 10 (dk_at dksX8_isLine_20 22 rfl rfl)
theorem dX8_isLine_529 : decode cX8_isLine 529 = .ok (.invokevirtual 137, 3) := dk_182 0 137 (dk_at dksX8_isLine_21 0 rfl rfl)
theorem dX8_isLine_532 : decode cX8_isLine 532 = .ok (.ireturn, 1) := dk_172 (dk_at dksX8_isLine_21 3 rfl rfl)
theorem dX8_isLine_533 : decode cX8_isLine 533 = .ok (.aload_n 0, 1) := dk_42 (dk_at dksX8_isLine_21 4 rfl rfl)
theorem dX8_isLine_534 : decode cX8_isLine 534 = .ok (.iload_n 1, 1) := dk_27 (dk_at dksX8_isLine_21 5 rfl rfl)
theorem dX8_isLine_535 : decode cX8_isLine 535 = .ok (.iconst 1, 1) := dk_4 (dk_at dksX8_isLine_21 6 rfl rfl)
theorem dX8_isLine_536 : decode cX8_isLine 536 = .ok (.iadd, 1) := dk_96 (dk_at dksX8_isLine_21 7 rfl rfl)
theorem dX8_isLine_537 : decode cX8_isLine 537 = .ok (.iconst 0, 1) := dk_3 (dk_at dksX8_isLine_21 8 rfl rfl)
theorem dX8_isLine_538 : decode cX8_isLine 538 = .ok (.bipush 100, 2) := dk_16 100 (dk_at dksX8_isLine_21 9 rfl rfl)
theorem dX8_isLine_540 : decode cX8_isLine 540 = .ok (.invokevirtual 137, 3) := dk_182 0 137 (dk_at dksX8_isLine_21 11 rfl rfl)
theorem dX8_isLine_543 : decode cX8_isLine 543 = .ok (.ireturn, 1) := dk_172 (dk_at dksX8_isLine_21 14 rfl rfl)
theorem dX8_isLine_544 : decode cX8_isLine 544 = .ok (.aload_n 0, 1) := dk_42 (dk_at dksX8_isLine_21 15 rfl rfl)
theorem dX8_isLine_545 : decode cX8_isLine 545 = .ok (.iload_n 1, 1) := dk_27 (dk_at dksX8_isLine_21 16 rfl rfl)
theorem dX8_isLine_546 : decode cX8_isLine 546 = .ok (.iconst 1, 1) := dk_4 (dk_at dksX8_isLine_21 17 rfl rfl)
theorem dX8_isLine_547 : decode cX8_isLine 547 = .ok (.iadd, 1) := dk_96 (dk_at dksX8_isLine_21 18 rfl rfl)
theorem dX8_isLine_548 : decode cX8_isLine 548 = .ok (.iconst 1, 1) := dk_4 (dk_at dksX8_isLine_21 19 rfl rfl)
theorem dX8_isLine_549 : decode cX8_isLine 549 = .ok (.bipush 20, 2) := dk_16 20 (dk_at dksX8_isLine_21 20 rfl rfl)
theorem dX8_isLine_551 : decode cX8_isLine 551 = .ok (.invokevirtual 137, 3) := dk_182 0 137 (dk_at dksX8_isLine_22 0 rfl rfl)
theorem dX8_isLine_554 : decode cX8_isLine 554 = .ok (.ireturn, 1) := dk_172 (dk_at dksX8_isLine_22 3 rfl rfl)
theorem dX8_isLine_555 : decode cX8_isLine 555 = .ok (.aload_n 0, 1) := dk_42 (dk_at dksX8_isLine_22 4 rfl rfl)
theorem dX8_isLine_556 : decode cX8_isLine 556 = .ok (.iload_n 1, 1) := dk_27 (dk_at dksX8_isLine_22 5 rfl rfl)
theorem dX8_isLine_557 : decode cX8_isLine 557 = .ok (.iconst 1, 1) := dk_4 (dk_at dksX8_isLine_22 6 rfl rfl)
theorem dX8_isLine_558 : decode cX8_isLine 558 = .ok (.iadd, 1) := dk_96 (dk_at dksX8_isLine_22 7 rfl rfl)
theorem dX8_isLine_559 : decode cX8_isLine 559 = .ok (.iconst 1, 1) := dk_4 (dk_at dksX8_isLine_22 8 rfl rfl)
theorem dX8_isLine_560 : decode cX8_isLine 560 = .ok (.bipush 60, 2) := dk_16 60 (dk_at dksX8_isLine_22 9 rfl rfl)
theorem dX8_isLine_562 : decode cX8_isLine 562 = .ok (.invokevirtual 137, 3) := dk_182 0 137 (dk_at dksX8_isLine_22 11 rfl rfl)
theorem dX8_isLine_565 : decode cX8_isLine 565 = .ok (.ireturn, 1) := dk_172 (dk_at dksX8_isLine_22 14 rfl rfl)
theorem dX8_isLine_566 : decode cX8_isLine 566 = .ok (.aload_n 0, 1) := dk_42 (dk_at dksX8_isLine_22 15 rfl rfl)
theorem dX8_isLine_567 : decode cX8_isLine 567 = .ok (.iload_n 1, 1) := dk_27 (dk_at dksX8_isLine_22 16 rfl rfl)
theorem dX8_isLine_568 : decode cX8_isLine 568 = .ok (.invokevirtual 184, 3) := dk_182 0 184 (dk_at dksX8_isLine_22 17 rfl rfl)
theorem dX8_isLine_571 : decode cX8_isLine 571 = .ok (.ireturn, 1) := dk_172 (dk_at dksX8_isLine_22 20 rfl rfl)
theorem dX8_isLine_572 : decode cX8_isLine 572 = .ok (.aload_n 0, 1) := dk_42 (dk_at dksX8_isLine_22 21 rfl rfl)
theorem dX8_isLine_573 : decode cX8_isLine 573 = .ok (.invokevirtual 133, 3) := dk_182 0 133 (dk_at dksX8_isLine_23 0 rfl rfl)
theorem dX8_isLine_576 : decode cX8_isLine 576 = .ok (.ireturn, 1) := dk_172 (dk_at dksX8_isLine_23 3 rfl rfl)
abbrev cX8_nextToken : ByteArray := prog_17_method_5_code
def yX8_nextToken : MethodName := ⟨RX8, "nextToken", "()V"⟩
def dkwX8_nextToken_17 : List UInt8 := [181, 0, 99, 177]
abbrev dktX8_nextToken_17 : List UInt8 := dkwX8_nextToken_17 ++ []
def dkwX8_nextToken_16 : List UInt8 := [160, 0, 9, 20, 0, 125, 167, 0, 6, 20, 0, 121, 181, 0, 113, 42, 89, 180, 0, 99, 4, 96]
abbrev dktX8_nextToken_16 : List UInt8 := dkwX8_nextToken_16 ++ dktX8_nextToken_17
def dkwX8_nextToken_15 : List UInt8 := [167, 0, 6, 20, 0, 123, 181, 0, 113, 167, 0, 40, 42, 42, 180, 0, 59, 42, 180, 0, 99, 46, 16, 59]
abbrev dktX8_nextToken_15 : List UInt8 := dkwX8_nextToken_15 ++ dktX8_nextToken_16
def dkwX8_nextToken_14 : List UInt8 := [180, 0, 99, 4, 96, 181, 0, 99, 167, 255, 167, 42, 42, 180, 0, 105, 6, 164, 0, 9, 20, 0, 121]
abbrev dktX8_nextToken_14 : List UInt8 := dkwX8_nextToken_14 ++ dktX8_nextToken_15
def dkwX8_nextToken_13 : List UInt8 := [167, 0, 7, 42, 180, 0, 108, 181, 0, 108, 42, 89, 180, 0, 105, 4, 96, 181, 0, 105, 42, 89]
abbrev dktX8_nextToken_13 : List UInt8 := dkwX8_nextToken_13 ++ dktX8_nextToken_14
def dkwX8_nextToken_12 : List UInt8 := [162, 0, 26, 16, 10, 42, 180, 0, 108, 104, 42, 180, 0, 59, 42, 180, 0, 99, 46, 96, 16, 48, 100]
abbrev dktX8_nextToken_12 : List UInt8 := dkwX8_nextToken_12 ++ dktX8_nextToken_13
def dkwX8_nextToken_11 : List UInt8 := [180, 0, 59, 42, 180, 0, 99, 46, 16, 48, 16, 57, 184, 0, 90, 153, 0, 65, 42, 42, 180, 0, 105, 6]
abbrev dktX8_nextToken_11 : List UInt8 := dkwX8_nextToken_11 ++ dktX8_nextToken_12
def dkwX8_nextToken_10 : List UInt8 := [46, 16, 48, 16, 57, 184, 0, 90, 153, 0, 119, 42, 180, 0, 99, 42, 180, 0, 94, 162, 0, 84, 42]
abbrev dktX8_nextToken_10 : List UInt8 := dkwX8_nextToken_10 ++ dktX8_nextToken_11
def dkwX8_nextToken_9 : List UInt8 := [20, 0, 121, 167, 0, 7, 42, 180, 0, 113, 181, 0, 113, 167, 0, 175, 42, 180, 0, 59, 42, 180, 0, 99]
abbrev dktX8_nextToken_9 : List UInt8 := dkwX8_nextToken_9 ++ dktX8_nextToken_10
def dkwX8_nextToken_8 : List UInt8 := [4, 96, 181, 0, 99, 167, 255, 169, 42, 42, 180, 0, 99, 42, 180, 0, 102, 100, 16, 9, 164, 0, 9]
abbrev dktX8_nextToken_8 : List UInt8 := dkwX8_nextToken_8 ++ dktX8_nextToken_9
def dkwX8_nextToken_7 : List UInt8 := [180, 0, 99, 46, 133, 97, 20, 0, 119, 101, 167, 0, 6, 20, 0, 121, 181, 0, 113, 42, 89, 180, 0, 99]
abbrev dktX8_nextToken_7 : List UInt8 := dkwX8_nextToken_7 ++ dktX8_nextToken_8
def dkwX8_nextToken_6 : List UInt8 := [180, 0, 102, 100, 16, 9, 162, 0, 29, 20, 0, 117, 42, 180, 0, 113, 105, 42, 180, 0, 59, 42]
abbrev dktX8_nextToken_6 : List UInt8 := dkwX8_nextToken_6 ++ dktX8_nextToken_7
def dkwX8_nextToken_5 : List UInt8 := [180, 0, 59, 42, 180, 0, 99, 46, 16, 97, 16, 122, 184, 0, 90, 153, 0, 63, 42, 42, 180, 0, 99, 42]
abbrev dktX8_nextToken_5 : List UInt8 := dkwX8_nextToken_5 ++ dktX8_nextToken_6
def dkwX8_nextToken_4 : List UInt8 := [184, 0, 90, 153, 0, 129, 42, 9, 181, 0, 113, 42, 180, 0, 99, 42, 180, 0, 94, 162, 0, 82, 42]
abbrev dktX8_nextToken_4 : List UInt8 := dkwX8_nextToken_4 ++ dktX8_nextToken_5
def dkwX8_nextToken_3 : List UInt8 := [20, 0, 111, 181, 0, 113, 167, 1, 64, 42, 180, 0, 59, 42, 180, 0, 99, 46, 16, 97, 16, 122]
abbrev dktX8_nextToken_3 : List UInt8 := dkwX8_nextToken_3 ++ dktX8_nextToken_4
def dkwX8_nextToken_2 : List UInt8 := [42, 3, 181, 0, 105, 42, 3, 181, 0, 108, 42, 180, 0, 99, 42, 180, 0, 94, 160, 0, 13, 42]
abbrev dktX8_nextToken_2 : List UInt8 := dkwX8_nextToken_2 ++ dktX8_nextToken_3
def dkwX8_nextToken_1 : List UInt8 := [160, 0, 16, 42, 89, 180, 0, 99, 4, 96, 181, 0, 99, 167, 255, 221, 42, 42, 180, 0, 99, 181, 0, 102]
abbrev dktX8_nextToken_1 : List UInt8 := dkwX8_nextToken_1 ++ dktX8_nextToken_2
def dkwX8_nextToken_0 : List UInt8 := [42, 180, 0, 99, 42, 180, 0, 94, 162, 0, 30, 42, 180, 0, 59, 42, 180, 0, 99, 46, 16, 32]
abbrev dktX8_nextToken_0 : List UInt8 := dkwX8_nextToken_0 ++ dktX8_nextToken_1
theorem dksX8_nextToken_0 : cX8_nextToken.data.toList.drop 0 = dktX8_nextToken_0 := by decide +kernel
theorem dksX8_nextToken_1 : cX8_nextToken.data.toList.drop 22 = dktX8_nextToken_1 := dk_seg dksX8_nextToken_0 22 rfl rfl
theorem dksX8_nextToken_2 : cX8_nextToken.data.toList.drop 46 = dktX8_nextToken_2 := dk_seg dksX8_nextToken_1 24 rfl rfl
theorem dksX8_nextToken_3 : cX8_nextToken.data.toList.drop 68 = dktX8_nextToken_3 := dk_seg dksX8_nextToken_2 22 rfl rfl
theorem dksX8_nextToken_4 : cX8_nextToken.data.toList.drop 90 = dktX8_nextToken_4 := dk_seg dksX8_nextToken_3 22 rfl rfl
theorem dksX8_nextToken_5 : cX8_nextToken.data.toList.drop 113 = dktX8_nextToken_5 := dk_seg dksX8_nextToken_4 23 rfl rfl
theorem dksX8_nextToken_6 : cX8_nextToken.data.toList.drop 137 = dktX8_nextToken_6 := dk_seg dksX8_nextToken_5 24 rfl rfl
theorem dksX8_nextToken_7 : cX8_nextToken.data.toList.drop 159 = dktX8_nextToken_7 := dk_seg dksX8_nextToken_6 22 rfl rfl
theorem dksX8_nextToken_8 : cX8_nextToken.data.toList.drop 183 = dktX8_nextToken_8 := dk_seg dksX8_nextToken_7 24 rfl rfl
theorem dksX8_nextToken_9 : cX8_nextToken.data.toList.drop 206 = dktX8_nextToken_9 := dk_seg dksX8_nextToken_8 23 rfl rfl
theorem dksX8_nextToken_10 : cX8_nextToken.data.toList.drop 230 = dktX8_nextToken_10 := dk_seg dksX8_nextToken_9 24 rfl rfl
theorem dksX8_nextToken_11 : cX8_nextToken.data.toList.drop 253 = dktX8_nextToken_11 := dk_seg dksX8_nextToken_10 23 rfl rfl
theorem dksX8_nextToken_12 : cX8_nextToken.data.toList.drop 277 = dktX8_nextToken_12 := dk_seg dksX8_nextToken_11 24 rfl rfl
theorem dksX8_nextToken_13 : cX8_nextToken.data.toList.drop 300 = dktX8_nextToken_13 := dk_seg dksX8_nextToken_12 23 rfl rfl
theorem dksX8_nextToken_14 : cX8_nextToken.data.toList.drop 322 = dktX8_nextToken_14 := dk_seg dksX8_nextToken_13 22 rfl rfl
theorem dksX8_nextToken_15 : cX8_nextToken.data.toList.drop 345 = dktX8_nextToken_15 := dk_seg dksX8_nextToken_14 23 rfl rfl
theorem dksX8_nextToken_16 : cX8_nextToken.data.toList.drop 369 = dktX8_nextToken_16 := dk_seg dksX8_nextToken_15 24 rfl rfl
theorem dksX8_nextToken_17 : cX8_nextToken.data.toList.drop 391 = dktX8_nextToken_17 := dk_seg dksX8_nextToken_16 22 rfl rfl
theorem dX8_nextToken_0 : decode cX8_nextToken 0 = .ok (.aload_n 0, 1) := dk_42 (dk_at dksX8_nextToken_0 0 rfl rfl)
theorem dX8_nextToken_1 : decode cX8_nextToken 1 = .ok (.getfield 99, 3) := dk_180 0 99 (dk_at dksX8_nextToken_0 1 rfl rfl)
theorem dX8_nextToken_4 : decode cX8_nextToken 4 = .ok (.aload_n 0, 1) := dk_42 (dk_at dksX8_nextToken_0 4 rfl rfl)
theorem dX8_nextToken_5 : decode cX8_nextToken 5 = .ok (.getfield 94, 3) := dk_180 0 94 (dk_at dksX8_nextToken_0 5 rfl rfl)
theorem dX8_nextToken_8 : decode cX8_nextToken 8 = .ok (.if_icmp .ge 30, 3) := dk_162 0 30 (dk_at dksX8_nextToken_0 8 rfl rfl)
theorem dX8_nextToken_11 : decode cX8_nextToken 11 = .ok (.aload_n 0, 1) := dk_42 (dk_at dksX8_nextToken_0 11 rfl rfl)
theorem dX8_nextToken_12 : decode cX8_nextToken 12 = .ok (.getfield 59, 3) := dk_180 0 59 (dk_at dksX8_nextToken_0 12 rfl rfl)
theorem dX8_nextToken_15 : decode cX8_nextToken 15 = .ok (.aload_n 0, 1) := dk_42 (dk_at dksX8_nextToken_0 15 rfl rfl)
theorem dX8_nextToken_16 : decode cX8_nextToken 16 = .ok (.getfield 99, 3) := dk_180 0 99 (dk_at dksX8_nextToken_0 16 rfl rfl)
theorem dX8_nextToken_19 : decode cX8_nextToken 19 = .ok (.iaload, 1) := dk_46 (dk_at dksX8_nextToken_0 19 rfl rfl)
theorem dX8_nextToken_20 : decode cX8_nextToken 20 = .ok (.bipush 32, 2) := dk_16 32 (dk_at dksX8_nextToken_0 20 rfl rfl)
theorem dX8_nextToken_22 : decode cX8_nextToken 22 = .ok (.if_icmp .ne 16, 3) := dk_160 0 16 (dk_at dksX8_nextToken_1 0 rfl rfl)
theorem dX8_nextToken_25 : decode cX8_nextToken 25 = .ok (.aload_n 0, 1) := dk_42 (dk_at dksX8_nextToken_1 3 rfl rfl)
theorem dX8_nextToken_26 : decode cX8_nextToken 26 = .ok (.dup, 1) := dk_89 (dk_at dksX8_nextToken_1 4 rfl rfl)
theorem dX8_nextToken_27 : decode cX8_nextToken 27 = .ok (.getfield 99, 3) := dk_180 0 99 (dk_at dksX8_nextToken_1 5 rfl rfl)
theorem dX8_nextToken_30 : decode cX8_nextToken 30 = .ok (.iconst 1, 1) := dk_4 (dk_at dksX8_nextToken_1 8 rfl rfl)
theorem dX8_nextToken_31 : decode cX8_nextToken 31 = .ok (.iadd, 1) := dk_96 (dk_at dksX8_nextToken_1 9 rfl rfl)
theorem dX8_nextToken_32 : decode cX8_nextToken 32 = .ok (.putfield 99, 3) := dk_181 0 99 (dk_at dksX8_nextToken_1 10 rfl rfl)
theorem dX8_nextToken_35 : decode cX8_nextToken 35 = .ok (.goto (-35), 3) := dk_167 255 221 (dk_at dksX8_nextToken_1 13 rfl rfl)
theorem dX8_nextToken_38 : decode cX8_nextToken 38 = .ok (.aload_n 0, 1) := dk_42 (dk_at dksX8_nextToken_1 16 rfl rfl)
theorem dX8_nextToken_39 : decode cX8_nextToken 39 = .ok (.aload_n 0, 1) := dk_42 (dk_at dksX8_nextToken_1 17 rfl rfl)
theorem dX8_nextToken_40 : decode cX8_nextToken 40 = .ok (.getfield 99, 3) := dk_180 0 99 (dk_at dksX8_nextToken_1 18 rfl rfl)
theorem dX8_nextToken_43 : decode cX8_nextToken 43 = .ok (.putfield 102, 3) := dk_181 0 102 (dk_at dksX8_nextToken_1 21 rfl rfl)
theorem dX8_nextToken_46 : decode cX8_nextToken 46 = .ok (.aload_n 0, 1) := dk_42 (dk_at dksX8_nextToken_2 0 rfl rfl)
theorem dX8_nextToken_47 : decode cX8_nextToken 47 = .ok (.iconst 0, 1) := dk_3 (dk_at dksX8_nextToken_2 1 rfl rfl)
theorem dX8_nextToken_48 : decode cX8_nextToken 48 = .ok (.putfield 105, 3) := dk_181 0 105 (dk_at dksX8_nextToken_2 2 rfl rfl)
theorem dX8_nextToken_51 : decode cX8_nextToken 51 = .ok (.aload_n 0, 1) := dk_42 (dk_at dksX8_nextToken_2 5 rfl rfl)
theorem dX8_nextToken_52 : decode cX8_nextToken 52 = .ok (.iconst 0, 1) := dk_3 (dk_at dksX8_nextToken_2 6 rfl rfl)
theorem dX8_nextToken_53 : decode cX8_nextToken 53 = .ok (.putfield 108, 3) := dk_181 0 108 (dk_at dksX8_nextToken_2 7 rfl rfl)
theorem dX8_nextToken_56 : decode cX8_nextToken 56 = .ok (.aload_n 0, 1) := dk_42 (dk_at dksX8_nextToken_2 10 rfl rfl)
theorem dX8_nextToken_57 : decode cX8_nextToken 57 = .ok (.getfield 99, 3) := dk_180 0 99 (dk_at dksX8_nextToken_2 11 rfl rfl)
theorem dX8_nextToken_60 : decode cX8_nextToken 60 = .ok (.aload_n 0, 1) := dk_42 (dk_at dksX8_nextToken_2 14 rfl rfl)
theorem dX8_nextToken_61 : decode cX8_nextToken 61 = .ok (.getfield 94, 3) := dk_180 0 94 (dk_at dksX8_nextToken_2 15 rfl rfl)
theorem dX8_nextToken_64 : decode cX8_nextToken 64 = .ok (.if_icmp .ne 13, 3) := dk_160 0 13 (dk_at dksX8_nextToken_2 18 rfl rfl)
theorem dX8_nextToken_67 : decode cX8_nextToken 67 = .ok (.aload_n 0, 1) := dk_42 (dk_at dksX8_nextToken_2 21 rfl rfl)
theorem dX8_nextToken_68 : decode cX8_nextToken 68 = .ok (.ldc2_w 111, 3) := dk_20 0 111 (dk_at dksX8_nextToken_3 0 rfl rfl)
theorem dX8_nextToken_71 : decode cX8_nextToken 71 = .ok (.putfield 113, 3) := dk_181 0 113 (dk_at dksX8_nextToken_3 3 rfl rfl)
theorem dX8_nextToken_74 : decode cX8_nextToken 74 = .ok (.goto 320, 3) := dk_167 1 64 (dk_at dksX8_nextToken_3 6 rfl rfl)
theorem dX8_nextToken_77 : decode cX8_nextToken 77 = .ok (.aload_n 0, 1) := dk_42 (dk_at dksX8_nextToken_3 9 rfl rfl)
theorem dX8_nextToken_78 : decode cX8_nextToken 78 = .ok (.getfield 59, 3) := dk_180 0 59 (dk_at dksX8_nextToken_3 10 rfl rfl)
theorem dX8_nextToken_81 : decode cX8_nextToken 81 = .ok (.aload_n 0, 1) := dk_42 (dk_at dksX8_nextToken_3 13 rfl rfl)
theorem dX8_nextToken_82 : decode cX8_nextToken 82 = .ok (.getfield 99, 3) := dk_180 0 99 (dk_at dksX8_nextToken_3 14 rfl rfl)
theorem dX8_nextToken_85 : decode cX8_nextToken 85 = .ok (.iaload, 1) := dk_46 (dk_at dksX8_nextToken_3 17 rfl rfl)
theorem dX8_nextToken_86 : decode cX8_nextToken 86 = .ok (.bipush 97, 2) := dk_16 97 (dk_at dksX8_nextToken_3 18 rfl rfl)
theorem dX8_nextToken_88 : decode cX8_nextToken 88 = .ok (.bipush 122, 2) := dk_16 122 (dk_at dksX8_nextToken_3 20 rfl rfl)
theorem dX8_nextToken_90 : decode cX8_nextToken 90 = .ok (.invokestatic 90, 3) := dk_184 0 90 (dk_at dksX8_nextToken_4 0 rfl rfl)
theorem dX8_nextToken_93 : decode cX8_nextToken 93 = .ok (.ifCond .eq 129, 3) := dk_153 0 129 (dk_at dksX8_nextToken_4 3 rfl rfl)
theorem dX8_nextToken_96 : decode cX8_nextToken 96 = .ok (.aload_n 0, 1) := dk_42 (dk_at dksX8_nextToken_4 6 rfl rfl)
theorem dX8_nextToken_97 : decode cX8_nextToken 97 = .ok (.lconst 0, 1) := dk_9 (dk_at dksX8_nextToken_4 7 rfl rfl)
theorem dX8_nextToken_98 : decode cX8_nextToken 98 = .ok (.putfield 113, 3) := dk_181 0 113 (dk_at dksX8_nextToken_4 8 rfl rfl)
theorem dX8_nextToken_101 : decode cX8_nextToken 101 = .ok (.aload_n 0, 1) := dk_42 (dk_at dksX8_nextToken_4 11 rfl rfl)
theorem dX8_nextToken_102 : decode cX8_nextToken 102 = .ok (.getfield 99, 3) := dk_180 0 99 (dk_at dksX8_nextToken_4 12 rfl rfl)
theorem dX8_nextToken_105 : decode cX8_nextToken 105 = .ok (.aload_n 0, 1) := dk_42 (dk_at dksX8_nextToken_4 15 rfl rfl)
theorem dX8_nextToken_106 : decode cX8_nextToken 106 = .ok (.getfield 94, 3) := dk_180 0 94 (dk_at dksX8_nextToken_4 16 rfl rfl)
theorem dX8_nextToken_109 : decode cX8_nextToken 109 = .ok (.if_icmp .ge 82, 3) := dk_162 0 82 (dk_at dksX8_nextToken_4 19 rfl rfl)
theorem dX8_nextToken_112 : decode cX8_nextToken 112 = .ok (.aload_n 0, 1) := dk_42 (dk_at dksX8_nextToken_4 22 rfl rfl)
theorem dX8_nextToken_113 : decode cX8_nextToken 113 = .ok (.getfield 59, 3) := dk_180 0 59 (dk_at dksX8_nextToken_5 0 rfl rfl)
theorem dX8_nextToken_116 : decode cX8_nextToken 116 = .ok (.aload_n 0, 1) := dk_42 (dk_at dksX8_nextToken_5 3 rfl rfl)
theorem dX8_nextToken_117 : decode cX8_nextToken 117 = .ok (.getfield 99, 3) := dk_180 0 99 (dk_at dksX8_nextToken_5 4 rfl rfl)
theorem dX8_nextToken_120 : decode cX8_nextToken 120 = .ok (.iaload, 1) := dk_46 (dk_at dksX8_nextToken_5 7 rfl rfl)
theorem dX8_nextToken_121 : decode cX8_nextToken 121 = .ok (.bipush 97, 2) := dk_16 97 (dk_at dksX8_nextToken_5 8 rfl rfl)
theorem dX8_nextToken_123 : decode cX8_nextToken 123 = .ok (.bipush 122, 2) := dk_16 122 (dk_at dksX8_nextToken_5 10 rfl rfl)
theorem dX8_nextToken_125 : decode cX8_nextToken 125 = .ok (.invokestatic 90, 3) := dk_184 0 90 (dk_at dksX8_nextToken_5 12 rfl rfl)
theorem dX8_nextToken_128 : decode cX8_nextToken 128 = .ok (.ifCond .eq 63, 3) := dk_153 0 63 (dk_at dksX8_nextToken_5 15 rfl rfl)
theorem dX8_nextToken_131 : decode cX8_nextToken 131 = .ok (.aload_n 0, 1) := dk_42 (dk_at dksX8_nextToken_5 18 rfl rfl)
theorem dX8_nextToken_132 : decode cX8_nextToken 132 = .ok (.aload_n 0, 1) := dk_42 (dk_at dksX8_nextToken_5 19 rfl rfl)
theorem dX8_nextToken_133 : decode cX8_nextToken 133 = .ok (.getfield 99, 3) := dk_180 0 99 (dk_at dksX8_nextToken_5 20 rfl rfl)
theorem dX8_nextToken_136 : decode cX8_nextToken 136 = .ok (.aload_n 0, 1) := dk_42 (dk_at dksX8_nextToken_5 23 rfl rfl)
theorem dX8_nextToken_137 : decode cX8_nextToken 137 = .ok (.getfield 102, 3) := dk_180 0 102 (dk_at dksX8_nextToken_6 0 rfl rfl)
theorem dX8_nextToken_140 : decode cX8_nextToken 140 = .ok (.isub, 1) := dk_100 (dk_at dksX8_nextToken_6 3 rfl rfl)
theorem dX8_nextToken_141 : decode cX8_nextToken 141 = .ok (.bipush 9, 2) := dk_16 9 (dk_at dksX8_nextToken_6 4 rfl rfl)
theorem dX8_nextToken_143 : decode cX8_nextToken 143 = .ok (.if_icmp .ge 29, 3) := dk_162 0 29 (dk_at dksX8_nextToken_6 6 rfl rfl)
theorem dX8_nextToken_146 : decode cX8_nextToken 146 = .ok (.ldc2_w 117, 3) := dk_20 0 117 (dk_at dksX8_nextToken_6 9 rfl rfl)
theorem dX8_nextToken_149 : decode cX8_nextToken 149 = .ok (.aload_n 0, 1) := dk_42 (dk_at dksX8_nextToken_6 12 rfl rfl)
theorem dX8_nextToken_150 : decode cX8_nextToken 150 = .ok (.getfield 113, 3) := dk_180 0 113 (dk_at dksX8_nextToken_6 13 rfl rfl)
theorem dX8_nextToken_153 : decode cX8_nextToken 153 = .ok (.lmul, 1) := dk_105 (dk_at dksX8_nextToken_6 16 rfl rfl)
theorem dX8_nextToken_154 : decode cX8_nextToken 154 = .ok (.aload_n 0, 1) := dk_42 (dk_at dksX8_nextToken_6 17 rfl rfl)
theorem dX8_nextToken_155 : decode cX8_nextToken 155 = .ok (.getfield 59, 3) := dk_180 0 59 (dk_at dksX8_nextToken_6 18 rfl rfl)
theorem dX8_nextToken_158 : decode cX8_nextToken 158 = .ok (.aload_n 0, 1) := dk_42 (dk_at dksX8_nextToken_6 21 rfl rfl)
theorem dX8_nextToken_159 : decode cX8_nextToken 159 = .ok (.getfield 99, 3) := dk_180 0 99 (dk_at dksX8_nextToken_7 0 rfl rfl)
theorem dX8_nextToken_162 : decode cX8_nextToken 162 = .ok (.iaload, 1) := dk_46 (dk_at dksX8_nextToken_7 3 rfl rfl)
theorem dX8_nextToken_163 : decode cX8_nextToken 163 = .ok (.i2l, 1) := dk_133 (dk_at dksX8_nextToken_7 4 rfl rfl)
theorem dX8_nextToken_164 : decode cX8_nextToken 164 = .ok (.ladd, 1) := dk_97 (dk_at dksX8_nextToken_7 5 rfl rfl)
theorem dX8_nextToken_165 : decode cX8_nextToken 165 = .ok (.ldc2_w 119, 3) := dk_20 0 119 (dk_at dksX8_nextToken_7 6 rfl rfl)
theorem dX8_nextToken_168 : decode cX8_nextToken 168 = .ok (.lsub, 1) := dk_101 (dk_at dksX8_nextToken_7 9 rfl rfl)
theorem dX8_nextToken_169 : decode cX8_nextToken 169 = .ok (.goto 6, 3) := dk_167 0 6 (dk_at dksX8_nextToken_7 10 rfl rfl)
theorem dX8_nextToken_172 : decode cX8_nextToken 172 = .ok (.ldc2_w 121, 3) := dk_20 0 121 (dk_at dksX8_nextToken_7 13 rfl rfl)
theorem dX8_nextToken_175 : decode cX8_nextToken 175 = .ok (.putfield 113, 3) := dk_181 0 113 (dk_at dksX8_nextToken_7 16 rfl rfl)
theorem dX8_nextToken_178 : decode cX8_nextToken 178 = .ok (.aload_n 0, 1) := dk_42 (dk_at dksX8_nextToken_7 19 rfl rfl)
theorem dX8_nextToken_179 : decode cX8_nextToken 179 = .ok (.dup, 1) := dk_89 (dk_at dksX8_nextToken_7 20 rfl rfl)
theorem dX8_nextToken_180 : decode cX8_nextToken 180 = .ok (.getfield 99, 3) := dk_180 0 99 (dk_at dksX8_nextToken_7 21 rfl rfl)
theorem dX8_nextToken_183 : decode cX8_nextToken 183 = .ok (.iconst 1, 1) := dk_4 (dk_at dksX8_nextToken_8 0 rfl rfl)
theorem dX8_nextToken_184 : decode cX8_nextToken 184 = .ok (.iadd, 1) := dk_96 (dk_at dksX8_nextToken_8 1 rfl rfl)
theorem dX8_nextToken_185 : decode cX8_nextToken 185 = .ok (.putfield 99, 3) := dk_181 0 99 (dk_at dksX8_nextToken_8 2 rfl rfl)
theorem dX8_nextToken_188 : decode cX8_nextToken 188 = .ok (.goto (-87), 3) := dk_167 255 169 (dk_at dksX8_nextToken_8 5 rfl rfl)
theorem dX8_nextToken_191 : decode cX8_nextToken 191 = .ok (.aload_n 0, 1) := dk_42 (dk_at dksX8_nextToken_8 8 rfl rfl)
theorem dX8_nextToken_192 : decode cX8_nextToken 192 = .ok (.aload_n 0, 1) := dk_42 (dk_at dksX8_nextToken_8 9 rfl rfl)
theorem dX8_nextToken_193 : decode cX8_nextToken 193 = .ok (.getfield 99, 3) := dk_180 0 99 (dk_at dksX8_nextToken_8 10 rfl rfl)
theorem dX8_nextToken_196 : decode cX8_nextToken 196 = .ok (.aload_n 0, 1) := dk_42 (dk_at dksX8_nextToken_8 13 rfl rfl)
theorem dX8_nextToken_197 : decode cX8_nextToken 197 = .ok (.getfield 102, 3) := dk_180 0 102 (dk_at dksX8_nextToken_8 14 rfl rfl)
theorem dX8_nextToken_200 : decode cX8_nextToken 200 = .ok (.isub, 1) := dk_100 (dk_at dksX8_nextToken_8 17 rfl rfl)
theorem dX8_nextToken_201 : decode cX8_nextToken 201 = .ok (.bipush 9, 2) := dk_16 9 (dk_at dksX8_nextToken_8 18 rfl rfl)
theorem dX8_nextToken_203 : decode cX8_nextToken 203 = .ok (.if_icmp .le 9, 3) := dk_164 0 9 (dk_at dksX8_nextToken_8 20 rfl rfl)
theorem dX8_nextToken_206 : decode cX8_nextToken 206 = .ok (.ldc2_w 121, 3) := dk_20 0 121 (dk_at dksX8_nextToken_9 0 rfl rfl)
theorem dX8_nextToken_209 : decode cX8_nextToken 209 = .ok (.goto 7, 3) := dk_167 0 7 (dk_at dksX8_nextToken_9 3 rfl rfl)
theorem dX8_nextToken_212 : decode cX8_nextToken 212 = .ok (.aload_n 0, 1) := dk_42 (dk_at dksX8_nextToken_9 6 rfl rfl)
theorem dX8_nextToken_213 : decode cX8_nextToken 213 = .ok (.getfield 113, 3) := dk_180 0 113 (dk_at dksX8_nextToken_9 7 rfl rfl)
theorem dX8_nextToken_216 : decode cX8_nextToken 216 = .ok (.putfield 113, 3) := dk_181 0 113 (dk_at dksX8_nextToken_9 10 rfl rfl)
theorem dX8_nextToken_219 : decode cX8_nextToken 219 = .ok (.goto 175, 3) := dk_167 0 175 (dk_at dksX8_nextToken_9 13 rfl rfl)
theorem dX8_nextToken_222 : decode cX8_nextToken 222 = .ok (.aload_n 0, 1) := dk_42 (dk_at dksX8_nextToken_9 16 rfl rfl)
theorem dX8_nextToken_223 : decode cX8_nextToken 223 = .ok (.getfield 59, 3) := dk_180 0 59 (dk_at dksX8_nextToken_9 17 rfl rfl)
theorem dX8_nextToken_226 : decode cX8_nextToken 226 = .ok (.aload_n 0, 1) := dk_42 (dk_at dksX8_nextToken_9 20 rfl rfl)
theorem dX8_nextToken_227 : decode cX8_nextToken 227 = .ok (.getfield 99, 3) := dk_180 0 99 (dk_at dksX8_nextToken_9 21 rfl rfl)
theorem dX8_nextToken_230 : decode cX8_nextToken 230 = .ok (.iaload, 1) := dk_46 (dk_at dksX8_nextToken_10 0 rfl rfl)
theorem dX8_nextToken_231 : decode cX8_nextToken 231 = .ok (.bipush 48, 2) := dk_16 48 (dk_at dksX8_nextToken_10 1 rfl rfl)
theorem dX8_nextToken_233 : decode cX8_nextToken 233 = .ok (.bipush 57, 2) := dk_16 57 (dk_at dksX8_nextToken_10 3 rfl rfl)
theorem dX8_nextToken_235 : decode cX8_nextToken 235 = .ok (.invokestatic 90, 3) := dk_184 0 90 (dk_at dksX8_nextToken_10 5 rfl rfl)
theorem dX8_nextToken_238 : decode cX8_nextToken 238 = .ok (.ifCond .eq 119, 3) := dk_153 0 119 (dk_at dksX8_nextToken_10 8 rfl rfl)
theorem dX8_nextToken_241 : decode cX8_nextToken 241 = .ok (.aload_n 0, 1) := dk_42 (dk_at dksX8_nextToken_10 11 rfl rfl)
theorem dX8_nextToken_242 : decode cX8_nextToken 242 = .ok (.getfield 99, 3) := dk_180 0 99 (dk_at dksX8_nextToken_10 12 rfl rfl)
theorem dX8_nextToken_245 : decode cX8_nextToken 245 = .ok (.aload_n 0, 1) := dk_42 (dk_at dksX8_nextToken_10 15 rfl rfl)
theorem dX8_nextToken_246 : decode cX8_nextToken 246 = .ok (.getfield 94, 3) := dk_180 0 94 (dk_at dksX8_nextToken_10 16 rfl rfl)
theorem dX8_nextToken_249 : decode cX8_nextToken 249 = .ok (.if_icmp .ge 84, 3) := dk_162 0 84 (dk_at dksX8_nextToken_10 19 rfl rfl)
theorem dX8_nextToken_252 : decode cX8_nextToken 252 = .ok (.aload_n 0, 1) := dk_42 (dk_at dksX8_nextToken_10 22 rfl rfl)
theorem dX8_nextToken_253 : decode cX8_nextToken 253 = .ok (.getfield 59, 3) := dk_180 0 59 (dk_at dksX8_nextToken_11 0 rfl rfl)
theorem dX8_nextToken_256 : decode cX8_nextToken 256 = .ok (.aload_n 0, 1) := dk_42 (dk_at dksX8_nextToken_11 3 rfl rfl)
theorem dX8_nextToken_257 : decode cX8_nextToken 257 = .ok (.getfield 99, 3) := dk_180 0 99 (dk_at dksX8_nextToken_11 4 rfl rfl)
theorem dX8_nextToken_260 : decode cX8_nextToken 260 = .ok (.iaload, 1) := dk_46 (dk_at dksX8_nextToken_11 7 rfl rfl)
theorem dX8_nextToken_261 : decode cX8_nextToken 261 = .ok (.bipush 48, 2) := dk_16 48 (dk_at dksX8_nextToken_11 8 rfl rfl)
theorem dX8_nextToken_263 : decode cX8_nextToken 263 = .ok (.bipush 57, 2) := dk_16 57 (dk_at dksX8_nextToken_11 10 rfl rfl)
theorem dX8_nextToken_265 : decode cX8_nextToken 265 = .ok (.invokestatic 90, 3) := dk_184 0 90 (dk_at dksX8_nextToken_11 12 rfl rfl)
theorem dX8_nextToken_268 : decode cX8_nextToken 268 = .ok (.ifCond .eq 65, 3) := dk_153 0 65 (dk_at dksX8_nextToken_11 15 rfl rfl)
theorem dX8_nextToken_271 : decode cX8_nextToken 271 = .ok (.aload_n 0, 1) := dk_42 (dk_at dksX8_nextToken_11 18 rfl rfl)
theorem dX8_nextToken_272 : decode cX8_nextToken 272 = .ok (.aload_n 0, 1) := dk_42 (dk_at dksX8_nextToken_11 19 rfl rfl)
theorem dX8_nextToken_273 : decode cX8_nextToken 273 = .ok (.getfield 105, 3) := dk_180 0 105 (dk_at dksX8_nextToken_11 20 rfl rfl)
theorem dX8_nextToken_276 : decode cX8_nextToken 276 = .ok (.iconst 3, 1) := dk_6 (dk_at dksX8_nextToken_11 23 rfl rfl)
theorem dX8_nextToken_277 : decode cX8_nextToken 277 = .ok (.if_icmp .ge 26, 3) := dk_162 0 26 (dk_at dksX8_nextToken_12 0 rfl rfl)
theorem dX8_nextToken_280 : decode cX8_nextToken 280 = .ok (.bipush 10, 2) := dk_16 10 (dk_at dksX8_nextToken_12 3 rfl rfl)
theorem dX8_nextToken_282 : decode cX8_nextToken 282 = .ok (.aload_n 0, 1) := dk_42 (dk_at dksX8_nextToken_12 5 rfl rfl)
theorem dX8_nextToken_283 : decode cX8_nextToken 283 = .ok (.getfield 108, 3) := dk_180 0 108 (dk_at dksX8_nextToken_12 6 rfl rfl)
theorem dX8_nextToken_286 : decode cX8_nextToken 286 = .ok (.imul, 1) := dk_104 (dk_at dksX8_nextToken_12 9 rfl rfl)
theorem dX8_nextToken_287 : decode cX8_nextToken 287 = .ok (.aload_n 0, 1) := dk_42 (dk_at dksX8_nextToken_12 10 rfl rfl)
theorem dX8_nextToken_288 : decode cX8_nextToken 288 = .ok (.getfield 59, 3) := dk_180 0 59 (dk_at dksX8_nextToken_12 11 rfl rfl)
theorem dX8_nextToken_291 : decode cX8_nextToken 291 = .ok (.aload_n 0, 1) := dk_42 (dk_at dksX8_nextToken_12 14 rfl rfl)
theorem dX8_nextToken_292 : decode cX8_nextToken 292 = .ok (.getfield 99, 3) := dk_180 0 99 (dk_at dksX8_nextToken_12 15 rfl rfl)
theorem dX8_nextToken_295 : decode cX8_nextToken 295 = .ok (.iaload, 1) := dk_46 (dk_at dksX8_nextToken_12 18 rfl rfl)
theorem dX8_nextToken_296 : decode cX8_nextToken 296 = .ok (.iadd, 1) := dk_96 (dk_at dksX8_nextToken_12 19 rfl rfl)
theorem dX8_nextToken_297 : decode cX8_nextToken 297 = .ok (.bipush 48, 2) := dk_16 48 (dk_at dksX8_nextToken_12 20 rfl rfl)
theorem dX8_nextToken_299 : decode cX8_nextToken 299 = .ok (.isub, 1) := dk_100 (dk_at dksX8_nextToken_12 22 rfl rfl)
theorem dX8_nextToken_300 : decode cX8_nextToken 300 = .ok (.goto 7, 3) := dk_167 0 7 (dk_at dksX8_nextToken_13 0 rfl rfl)
theorem dX8_nextToken_303 : decode cX8_nextToken 303 = .ok (.aload_n 0, 1) := dk_42 (dk_at dksX8_nextToken_13 3 rfl rfl)
theorem dX8_nextToken_304 : decode cX8_nextToken 304 = .ok (.getfield 108, 3) := dk_180 0 108 (dk_at dksX8_nextToken_13 4 rfl rfl)
theorem dX8_nextToken_307 : decode cX8_nextToken 307 = .ok (.putfield 108, 3) := dk_181 0 108 (dk_at dksX8_nextToken_13 7 rfl rfl)
theorem dX8_nextToken_310 : decode cX8_nextToken 310 = .ok (.aload_n 0, 1) := dk_42 (dk_at dksX8_nextToken_13 10 rfl rfl)
theorem dX8_nextToken_311 : decode cX8_nextToken 311 = .ok (.dup, 1) := dk_89 (dk_at dksX8_nextToken_13 11 rfl rfl)
theorem dX8_nextToken_312 : decode cX8_nextToken 312 = .ok (.getfield 105, 3) := dk_180 0 105 (dk_at dksX8_nextToken_13 12 rfl rfl)
theorem dX8_nextToken_315 : decode cX8_nextToken 315 = .ok (.iconst 1, 1) := dk_4 (dk_at dksX8_nextToken_13 15 rfl rfl)
theorem dX8_nextToken_316 : decode cX8_nextToken 316 = .ok (.iadd, 1) := dk_96 (dk_at dksX8_nextToken_13 16 rfl rfl)
theorem dX8_nextToken_317 : decode cX8_nextToken 317 = .ok (.putfield 105, 3) := dk_181 0 105 (dk_at dksX8_nextToken_13 17 rfl rfl)
theorem dX8_nextToken_320 : decode cX8_nextToken 320 = .ok (.aload_n 0, 1) := dk_42 (dk_at dksX8_nextToken_13 20 rfl rfl)
theorem dX8_nextToken_321 : decode cX8_nextToken 321 = .ok (.dup, 1) := dk_89 (dk_at dksX8_nextToken_13 21 rfl rfl)
theorem dX8_nextToken_322 : decode cX8_nextToken 322 = .ok (.getfield 99, 3) := dk_180 0 99 (dk_at dksX8_nextToken_14 0 rfl rfl)
theorem dX8_nextToken_325 : decode cX8_nextToken 325 = .ok (.iconst 1, 1) := dk_4 (dk_at dksX8_nextToken_14 3 rfl rfl)
theorem dX8_nextToken_326 : decode cX8_nextToken 326 = .ok (.iadd, 1) := dk_96 (dk_at dksX8_nextToken_14 4 rfl rfl)
theorem dX8_nextToken_327 : decode cX8_nextToken 327 = .ok (.putfield 99, 3) := dk_181 0 99 (dk_at dksX8_nextToken_14 5 rfl rfl)
theorem dX8_nextToken_330 : decode cX8_nextToken 330 = .ok (.goto (-89), 3) := dk_167 255 167 (dk_at dksX8_nextToken_14 8 rfl rfl)
theorem dX8_nextToken_333 : decode cX8_nextToken 333 = .ok (.aload_n 0, 1) := dk_42 (dk_at dksX8_nextToken_14 11 rfl rfl)
theorem dX8_nextToken_334 : decode cX8_nextToken 334 = .ok (.aload_n 0, 1) := dk_42 (dk_at dksX8_nextToken_14 12 rfl rfl)
theorem dX8_nextToken_335 : decode cX8_nextToken 335 = .ok (.getfield 105, 3) := dk_180 0 105 (dk_at dksX8_nextToken_14 13 rfl rfl)
theorem dX8_nextToken_338 : decode cX8_nextToken 338 = .ok (.iconst 3, 1) := dk_6 (dk_at dksX8_nextToken_14 16 rfl rfl)
theorem dX8_nextToken_339 : decode cX8_nextToken 339 = .ok (.if_icmp .le 9, 3) := dk_164 0 9 (dk_at dksX8_nextToken_14 17 rfl rfl)
theorem dX8_nextToken_342 : decode cX8_nextToken 342 = .ok (.ldc2_w 121, 3) := dk_20 0 121 (dk_at dksX8_nextToken_14 20 rfl rfl)
theorem dX8_nextToken_345 : decode cX8_nextToken 345 = .ok (.goto 6, 3) := dk_167 0 6 (dk_at dksX8_nextToken_15 0 rfl rfl)
theorem dX8_nextToken_348 : decode cX8_nextToken 348 = .ok (.ldc2_w 123, 3) := dk_20 0 123 (dk_at dksX8_nextToken_15 3 rfl rfl)
theorem dX8_nextToken_351 : decode cX8_nextToken 351 = .ok (.putfield 113, 3) := dk_181 0 113 (dk_at dksX8_nextToken_15 6 rfl rfl)
theorem dX8_nextToken_354 : decode cX8_nextToken 354 = .ok (.goto 40, 3) := dk_167 0 40 (dk_at dksX8_nextToken_15 9 rfl rfl)
theorem dX8_nextToken_357 : decode cX8_nextToken 357 = .ok (.aload_n 0, 1) := dk_42 (dk_at dksX8_nextToken_15 12 rfl rfl)
theorem dX8_nextToken_358 : decode cX8_nextToken 358 = .ok (.aload_n 0, 1) := dk_42 (dk_at dksX8_nextToken_15 13 rfl rfl)
theorem dX8_nextToken_359 : decode cX8_nextToken 359 = .ok (.getfield 59, 3) := dk_180 0 59 (dk_at dksX8_nextToken_15 14 rfl rfl)
theorem dX8_nextToken_362 : decode cX8_nextToken 362 = .ok (.aload_n 0, 1) := dk_42 (dk_at dksX8_nextToken_15 17 rfl rfl)
theorem dX8_nextToken_363 : decode cX8_nextToken 363 = .ok (.getfield 99, 3) := dk_180 0 99 (dk_at dksX8_nextToken_15 18 rfl rfl)
theorem dX8_nextToken_366 : decode cX8_nextToken 366 = .ok (.iaload, 1) := dk_46 (dk_at dksX8_nextToken_15 21 rfl rfl)
theorem dX8_nextToken_367 : decode cX8_nextToken 367 = .ok (.bipush 59, 2) := dk_16 59 (dk_at dksX8_nextToken_15 22 rfl rfl)
theorem dX8_nextToken_369 : decode cX8_nextToken 369 = .ok (.if_icmp .ne 9, 3) := dk_160 0 9 (dk_at dksX8_nextToken_16 0 rfl rfl)
theorem dX8_nextToken_372 : decode cX8_nextToken 372 = .ok (.ldc2_w 125, 3) := dk_20 0 125 (dk_at dksX8_nextToken_16 3 rfl rfl)
theorem dX8_nextToken_375 : decode cX8_nextToken 375 = .ok (.goto 6, 3) := dk_167 0 6 (dk_at dksX8_nextToken_16 6 rfl rfl)
theorem dX8_nextToken_378 : decode cX8_nextToken 378 = .ok (.ldc2_w 121, 3) := dk_20 0 121 (dk_at dksX8_nextToken_16 9 rfl rfl)
theorem dX8_nextToken_381 : decode cX8_nextToken 381 = .ok (.putfield 113, 3) := dk_181 0 113 (dk_at dksX8_nextToken_16 12 rfl rfl)
theorem dX8_nextToken_384 : decode cX8_nextToken 384 = .ok (.aload_n 0, 1) := dk_42 (dk_at dksX8_nextToken_16 15 rfl rfl)
theorem dX8_nextToken_385 : decode cX8_nextToken 385 = .ok (.dup, 1) := dk_89 (dk_at dksX8_nextToken_16 16 rfl rfl)
theorem dX8_nextToken_386 : decode cX8_nextToken 386 = .ok (.getfield 99, 3) := dk_180 0 99 (dk_at dksX8_nextToken_16 17 rfl rfl)
theorem dX8_nextToken_389 : decode cX8_nextToken 389 = .ok (.iconst 1, 1) := dk_4 (dk_at dksX8_nextToken_16 20 rfl rfl)
theorem dX8_nextToken_390 : decode cX8_nextToken 390 = .ok (.iadd, 1) := dk_96 (dk_at dksX8_nextToken_16 21 rfl rfl)
theorem dX8_nextToken_391 : decode cX8_nextToken 391 = .ok (.putfield 99, 3) := dk_181 0 99 (dk_at dksX8_nextToken_17 0 rfl rfl)
theorem dX8_nextToken_394 : decode cX8_nextToken 394 = .ok (.return_, 1) := dk_177 (dk_at dksX8_nextToken_17 3 rfl rfl)
abbrev cX8_isBed : ByteArray := prog_17_method_9_code
def yX8_isBed : MethodName := ⟨RX8, "isBed", "(I)Z"⟩
def dkwX8_isBed_2 : List UInt8 := [181, 0, 143, 4, 172]
abbrev dktX8_isBed_2 : List UInt8 := dkwX8_isBed_2 ++ []
def dkwX8_isBed_1 : List UInt8 := [3, 172, 42, 42, 180, 0, 62, 27, 4, 96, 46, 181, 0, 140, 42, 42, 180, 0, 62, 27, 5, 96, 46]
abbrev dktX8_isBed_1 : List UInt8 := dkwX8_isBed_1 ++ dktX8_isBed_2
def dkwX8_isBed_0 : List UInt8 := [42, 27, 4, 96, 4, 7, 182, 0, 137, 153, 0, 15, 42, 27, 5, 96, 4, 7, 182, 0, 137, 154, 0, 5]
abbrev dktX8_isBed_0 : List UInt8 := dkwX8_isBed_0 ++ dktX8_isBed_1
theorem dksX8_isBed_0 : cX8_isBed.data.toList.drop 0 = dktX8_isBed_0 := by decide +kernel
theorem dksX8_isBed_1 : cX8_isBed.data.toList.drop 24 = dktX8_isBed_1 := dk_seg dksX8_isBed_0 24 rfl rfl
theorem dksX8_isBed_2 : cX8_isBed.data.toList.drop 47 = dktX8_isBed_2 := dk_seg dksX8_isBed_1 23 rfl rfl
theorem dX8_isBed_0 : decode cX8_isBed 0 = .ok (.aload_n 0, 1) := dk_42 (dk_at dksX8_isBed_0 0 rfl rfl)
theorem dX8_isBed_1 : decode cX8_isBed 1 = .ok (.iload_n 1, 1) := dk_27 (dk_at dksX8_isBed_0 1 rfl rfl)
theorem dX8_isBed_2 : decode cX8_isBed 2 = .ok (.iconst 1, 1) := dk_4 (dk_at dksX8_isBed_0 2 rfl rfl)
theorem dX8_isBed_3 : decode cX8_isBed 3 = .ok (.iadd, 1) := dk_96 (dk_at dksX8_isBed_0 3 rfl rfl)
theorem dX8_isBed_4 : decode cX8_isBed 4 = .ok (.iconst 1, 1) := dk_4 (dk_at dksX8_isBed_0 4 rfl rfl)
theorem dX8_isBed_5 : decode cX8_isBed 5 = .ok (.iconst 4, 1) := dk_7 (dk_at dksX8_isBed_0 5 rfl rfl)
theorem dX8_isBed_6 : decode cX8_isBed 6 = .ok (.invokevirtual 137, 3) := dk_182 0 137 (dk_at dksX8_isBed_0 6 rfl rfl)
theorem dX8_isBed_9 : decode cX8_isBed 9 = .ok (.ifCond .eq 15, 3) := dk_153 0 15 (dk_at dksX8_isBed_0 9 rfl rfl)
theorem dX8_isBed_12 : decode cX8_isBed 12 = .ok (.aload_n 0, 1) := dk_42 (dk_at dksX8_isBed_0 12 rfl rfl)
theorem dX8_isBed_13 : decode cX8_isBed 13 = .ok (.iload_n 1, 1) := dk_27 (dk_at dksX8_isBed_0 13 rfl rfl)
theorem dX8_isBed_14 : decode cX8_isBed 14 = .ok (.iconst 2, 1) := dk_5 (dk_at dksX8_isBed_0 14 rfl rfl)
theorem dX8_isBed_15 : decode cX8_isBed 15 = .ok (.iadd, 1) := dk_96 (dk_at dksX8_isBed_0 15 rfl rfl)
theorem dX8_isBed_16 : decode cX8_isBed 16 = .ok (.iconst 1, 1) := dk_4 (dk_at dksX8_isBed_0 16 rfl rfl)
theorem dX8_isBed_17 : decode cX8_isBed 17 = .ok (.iconst 4, 1) := dk_7 (dk_at dksX8_isBed_0 17 rfl rfl)
theorem dX8_isBed_18 : decode cX8_isBed 18 = .ok (.invokevirtual 137, 3) := dk_182 0 137 (dk_at dksX8_isBed_0 18 rfl rfl)
theorem dX8_isBed_21 : decode cX8_isBed 21 = .ok (.ifCond .ne 5, 3) := dk_154 0 5 (dk_at dksX8_isBed_0 21 rfl rfl)
theorem dX8_isBed_24 : decode cX8_isBed 24 = .ok (.iconst 0, 1) := dk_3 (dk_at dksX8_isBed_1 0 rfl rfl)
theorem dX8_isBed_25 : decode cX8_isBed 25 = .ok (.ireturn, 1) := dk_172 (dk_at dksX8_isBed_1 1 rfl rfl)
theorem dX8_isBed_26 : decode cX8_isBed 26 = .ok (.aload_n 0, 1) := dk_42 (dk_at dksX8_isBed_1 2 rfl rfl)
theorem dX8_isBed_27 : decode cX8_isBed 27 = .ok (.aload_n 0, 1) := dk_42 (dk_at dksX8_isBed_1 3 rfl rfl)
theorem dX8_isBed_28 : decode cX8_isBed 28 = .ok (.getfield 62, 3) := dk_180 0 62 (dk_at dksX8_isBed_1 4 rfl rfl)
theorem dX8_isBed_31 : decode cX8_isBed 31 = .ok (.iload_n 1, 1) := dk_27 (dk_at dksX8_isBed_1 7 rfl rfl)
theorem dX8_isBed_32 : decode cX8_isBed 32 = .ok (.iconst 1, 1) := dk_4 (dk_at dksX8_isBed_1 8 rfl rfl)
theorem dX8_isBed_33 : decode cX8_isBed 33 = .ok (.iadd, 1) := dk_96 (dk_at dksX8_isBed_1 9 rfl rfl)
theorem dX8_isBed_34 : decode cX8_isBed 34 = .ok (.iaload, 1) := dk_46 (dk_at dksX8_isBed_1 10 rfl rfl)
theorem dX8_isBed_35 : decode cX8_isBed 35 = .ok (.putfield 140, 3) := dk_181 0 140 (dk_at dksX8_isBed_1 11 rfl rfl)
theorem dX8_isBed_38 : decode cX8_isBed 38 = .ok (.aload_n 0, 1) := dk_42 (dk_at dksX8_isBed_1 14 rfl rfl)
theorem dX8_isBed_39 : decode cX8_isBed 39 = .ok (.aload_n 0, 1) := dk_42 (dk_at dksX8_isBed_1 15 rfl rfl)
theorem dX8_isBed_40 : decode cX8_isBed 40 = .ok (.getfield 62, 3) := dk_180 0 62 (dk_at dksX8_isBed_1 16 rfl rfl)
theorem dX8_isBed_43 : decode cX8_isBed 43 = .ok (.iload_n 1, 1) := dk_27 (dk_at dksX8_isBed_1 19 rfl rfl)
theorem dX8_isBed_44 : decode cX8_isBed 44 = .ok (.iconst 2, 1) := dk_5 (dk_at dksX8_isBed_1 20 rfl rfl)
theorem dX8_isBed_45 : decode cX8_isBed 45 = .ok (.iadd, 1) := dk_96 (dk_at dksX8_isBed_1 21 rfl rfl)
theorem dX8_isBed_46 : decode cX8_isBed 46 = .ok (.iaload, 1) := dk_46 (dk_at dksX8_isBed_1 22 rfl rfl)
theorem dX8_isBed_47 : decode cX8_isBed 47 = .ok (.putfield 143, 3) := dk_181 0 143 (dk_at dksX8_isBed_2 0 rfl rfl)
theorem dX8_isBed_50 : decode cX8_isBed 50 = .ok (.iconst 1, 1) := dk_4 (dk_at dksX8_isBed_2 3 rfl rfl)
theorem dX8_isBed_51 : decode cX8_isBed 51 = .ok (.ireturn, 1) := dk_172 (dk_at dksX8_isBed_2 4 rfl rfl)
abbrev cX8_isNumber : ByteArray := prog_17_method_7_code
def yX8_isNumber : MethodName := ⟨RX8, "isNumber", "(III)Z"⟩
def dkwX8_isNumber_1 : List UInt8 := [154, 0, 8, 42, 182, 0, 133, 172, 42, 180, 0, 62, 27, 42, 180, 0, 108, 79, 4, 172]
abbrev dktX8_isNumber_1 : List UInt8 := dkwX8_isNumber_1 ++ []
def dkwX8_isNumber_0 : List UInt8 := [42, 182, 0, 130, 42, 180, 0, 113, 20, 0, 123, 148, 154, 0, 15, 42, 180, 0, 108, 28, 29, 184, 0, 90]
abbrev dktX8_isNumber_0 : List UInt8 := dkwX8_isNumber_0 ++ dktX8_isNumber_1
theorem dksX8_isNumber_0 : cX8_isNumber.data.toList.drop 0 = dktX8_isNumber_0 := by decide +kernel
theorem dksX8_isNumber_1 : cX8_isNumber.data.toList.drop 24 = dktX8_isNumber_1 := dk_seg dksX8_isNumber_0 24 rfl rfl
theorem dX8_isNumber_0 : decode cX8_isNumber 0 = .ok (.aload_n 0, 1) := dk_42 (dk_at dksX8_isNumber_0 0 rfl rfl)
theorem dX8_isNumber_1 : decode cX8_isNumber 1 = .ok (.invokevirtual 130, 3) := dk_182 0 130 (dk_at dksX8_isNumber_0 1 rfl rfl)
theorem dX8_isNumber_4 : decode cX8_isNumber 4 = .ok (.aload_n 0, 1) := dk_42 (dk_at dksX8_isNumber_0 4 rfl rfl)
theorem dX8_isNumber_5 : decode cX8_isNumber 5 = .ok (.getfield 113, 3) := dk_180 0 113 (dk_at dksX8_isNumber_0 5 rfl rfl)
theorem dX8_isNumber_8 : decode cX8_isNumber 8 = .ok (.ldc2_w 123, 3) := dk_20 0 123 (dk_at dksX8_isNumber_0 8 rfl rfl)
theorem dX8_isNumber_11 : decode cX8_isNumber 11 = .ok (.lcmp, 1) := dk_148 (dk_at dksX8_isNumber_0 11 rfl rfl)
theorem dX8_isNumber_12 : decode cX8_isNumber 12 = .ok (.ifCond .ne 15, 3) := dk_154 0 15 (dk_at dksX8_isNumber_0 12 rfl rfl)
theorem dX8_isNumber_15 : decode cX8_isNumber 15 = .ok (.aload_n 0, 1) := dk_42 (dk_at dksX8_isNumber_0 15 rfl rfl)
theorem dX8_isNumber_16 : decode cX8_isNumber 16 = .ok (.getfield 108, 3) := dk_180 0 108 (dk_at dksX8_isNumber_0 16 rfl rfl)
theorem dX8_isNumber_19 : decode cX8_isNumber 19 = .ok (.iload_n 2, 1) := dk_28 (dk_at dksX8_isNumber_0 19 rfl rfl)
theorem dX8_isNumber_20 : decode cX8_isNumber 20 = .ok (.iload_n 3, 1) := dk_29 (dk_at dksX8_isNumber_0 20 rfl rfl)
theorem dX8_isNumber_21 : decode cX8_isNumber 21 = .ok (.invokestatic 90, 3) := dk_184 0 90 (dk_at dksX8_isNumber_0 21 rfl rfl)
theorem dX8_isNumber_24 : decode cX8_isNumber 24 = .ok (.ifCond .ne 8, 3) := dk_154 0 8 (dk_at dksX8_isNumber_1 0 rfl rfl)
theorem dX8_isNumber_27 : decode cX8_isNumber 27 = .ok (.aload_n 0, 1) := dk_42 (dk_at dksX8_isNumber_1 3 rfl rfl)
theorem dX8_isNumber_28 : decode cX8_isNumber 28 = .ok (.invokevirtual 133, 3) := dk_182 0 133 (dk_at dksX8_isNumber_1 4 rfl rfl)
theorem dX8_isNumber_31 : decode cX8_isNumber 31 = .ok (.ireturn, 1) := dk_172 (dk_at dksX8_isNumber_1 7 rfl rfl)
theorem dX8_isNumber_32 : decode cX8_isNumber 32 = .ok (.aload_n 0, 1) := dk_42 (dk_at dksX8_isNumber_1 8 rfl rfl)
theorem dX8_isNumber_33 : decode cX8_isNumber 33 = .ok (.getfield 62, 3) := dk_180 0 62 (dk_at dksX8_isNumber_1 9 rfl rfl)
theorem dX8_isNumber_36 : decode cX8_isNumber 36 = .ok (.iload_n 1, 1) := dk_27 (dk_at dksX8_isNumber_1 12 rfl rfl)
theorem dX8_isNumber_37 : decode cX8_isNumber 37 = .ok (.aload_n 0, 1) := dk_42 (dk_at dksX8_isNumber_1 13 rfl rfl)
theorem dX8_isNumber_38 : decode cX8_isNumber 38 = .ok (.getfield 108, 3) := dk_180 0 108 (dk_at dksX8_isNumber_1 14 rfl rfl)
theorem dX8_isNumber_41 : decode cX8_isNumber 41 = .ok (.iastore, 1) := dk_79 (dk_at dksX8_isNumber_1 17 rfl rfl)
theorem dX8_isNumber_42 : decode cX8_isNumber 42 = .ok (.iconst 1, 1) := dk_4 (dk_at dksX8_isNumber_1 18 rfl rfl)
theorem dX8_isNumber_43 : decode cX8_isNumber 43 = .ok (.ireturn, 1) := dk_172 (dk_at dksX8_isNumber_1 19 rfl rfl)
abbrev cX8_fails : ByteArray := prog_17_method_6_code
def yX8_fails : MethodName := ⟨RX8, "fails", "()Z"⟩
def dkwX8_fails_0 : List UInt8 := [42, 42, 180, 0, 102, 181, 0, 127, 3, 172]
abbrev dktX8_fails_0 : List UInt8 := dkwX8_fails_0 ++ []
theorem dksX8_fails_0 : cX8_fails.data.toList.drop 0 = dktX8_fails_0 := by decide +kernel
theorem dX8_fails_0 : decode cX8_fails 0 = .ok (.aload_n 0, 1) := dk_42 (dk_at dksX8_fails_0 0 rfl rfl)
theorem dX8_fails_1 : decode cX8_fails 1 = .ok (.aload_n 0, 1) := dk_42 (dk_at dksX8_fails_0 1 rfl rfl)
theorem dX8_fails_2 : decode cX8_fails 2 = .ok (.getfield 102, 3) := dk_180 0 102 (dk_at dksX8_fails_0 2 rfl rfl)
theorem dX8_fails_5 : decode cX8_fails 5 = .ok (.putfield 127, 3) := dk_181 0 127 (dk_at dksX8_fails_0 5 rfl rfl)
theorem dX8_fails_8 : decode cX8_fails 8 = .ok (.iconst 0, 1) := dk_3 (dk_at dksX8_fails_0 8 rfl rfl)
theorem dX8_fails_9 : decode cX8_fails 9 = .ok (.ireturn, 1) := dk_172 (dk_at dksX8_fails_0 9 rfl rfl)
abbrev cX8_areThree : ByteArray := prog_17_method_8_code
def yX8_areThree : MethodName := ⟨RX8, "areThree", "(II)Z"⟩
def dkwX8_areThree_1 : List UInt8 := [42, 27, 6, 96, 3, 28, 182, 0, 137, 153, 0, 7, 4, 167, 0, 4, 3, 172]
abbrev dktX8_areThree_1 : List UInt8 := dkwX8_areThree_1 ++ []
def dkwX8_areThree_0 : List UInt8 := [42, 27, 4, 96, 3, 28, 182, 0, 137, 153, 0, 31, 42, 27, 5, 96, 3, 28, 182, 0, 137, 153, 0, 19]
abbrev dktX8_areThree_0 : List UInt8 := dkwX8_areThree_0 ++ dktX8_areThree_1
theorem dksX8_areThree_0 : cX8_areThree.data.toList.drop 0 = dktX8_areThree_0 := by decide +kernel
theorem dksX8_areThree_1 : cX8_areThree.data.toList.drop 24 = dktX8_areThree_1 := dk_seg dksX8_areThree_0 24 rfl rfl
theorem dX8_areThree_0 : decode cX8_areThree 0 = .ok (.aload_n 0, 1) := dk_42 (dk_at dksX8_areThree_0 0 rfl rfl)
theorem dX8_areThree_1 : decode cX8_areThree 1 = .ok (.iload_n 1, 1) := dk_27 (dk_at dksX8_areThree_0 1 rfl rfl)
theorem dX8_areThree_2 : decode cX8_areThree 2 = .ok (.iconst 1, 1) := dk_4 (dk_at dksX8_areThree_0 2 rfl rfl)
theorem dX8_areThree_3 : decode cX8_areThree 3 = .ok (.iadd, 1) := dk_96 (dk_at dksX8_areThree_0 3 rfl rfl)
theorem dX8_areThree_4 : decode cX8_areThree 4 = .ok (.iconst 0, 1) := dk_3 (dk_at dksX8_areThree_0 4 rfl rfl)
theorem dX8_areThree_5 : decode cX8_areThree 5 = .ok (.iload_n 2, 1) := dk_28 (dk_at dksX8_areThree_0 5 rfl rfl)
theorem dX8_areThree_6 : decode cX8_areThree 6 = .ok (.invokevirtual 137, 3) := dk_182 0 137 (dk_at dksX8_areThree_0 6 rfl rfl)
theorem dX8_areThree_9 : decode cX8_areThree 9 = .ok (.ifCond .eq 31, 3) := dk_153 0 31 (dk_at dksX8_areThree_0 9 rfl rfl)
theorem dX8_areThree_12 : decode cX8_areThree 12 = .ok (.aload_n 0, 1) := dk_42 (dk_at dksX8_areThree_0 12 rfl rfl)
theorem dX8_areThree_13 : decode cX8_areThree 13 = .ok (.iload_n 1, 1) := dk_27 (dk_at dksX8_areThree_0 13 rfl rfl)
theorem dX8_areThree_14 : decode cX8_areThree 14 = .ok (.iconst 2, 1) := dk_5 (dk_at dksX8_areThree_0 14 rfl rfl)
theorem dX8_areThree_15 : decode cX8_areThree 15 = .ok (.iadd, 1) := dk_96 (dk_at dksX8_areThree_0 15 rfl rfl)
theorem dX8_areThree_16 : decode cX8_areThree 16 = .ok (.iconst 0, 1) := dk_3 (dk_at dksX8_areThree_0 16 rfl rfl)
theorem dX8_areThree_17 : decode cX8_areThree 17 = .ok (.iload_n 2, 1) := dk_28 (dk_at dksX8_areThree_0 17 rfl rfl)
theorem dX8_areThree_18 : decode cX8_areThree 18 = .ok (.invokevirtual 137, 3) := dk_182 0 137 (dk_at dksX8_areThree_0 18 rfl rfl)
theorem dX8_areThree_21 : decode cX8_areThree 21 = .ok (.ifCond .eq 19, 3) := dk_153 0 19 (dk_at dksX8_areThree_0 21 rfl rfl)
theorem dX8_areThree_24 : decode cX8_areThree 24 = .ok (.aload_n 0, 1) := dk_42 (dk_at dksX8_areThree_1 0 rfl rfl)
theorem dX8_areThree_25 : decode cX8_areThree 25 = .ok (.iload_n 1, 1) := dk_27 (dk_at dksX8_areThree_1 1 rfl rfl)
theorem dX8_areThree_26 : decode cX8_areThree 26 = .ok (.iconst 3, 1) := dk_6 (dk_at dksX8_areThree_1 2 rfl rfl)
theorem dX8_areThree_27 : decode cX8_areThree 27 = .ok (.iadd, 1) := dk_96 (dk_at dksX8_areThree_1 3 rfl rfl)
theorem dX8_areThree_28 : decode cX8_areThree 28 = .ok (.iconst 0, 1) := dk_3 (dk_at dksX8_areThree_1 4 rfl rfl)
theorem dX8_areThree_29 : decode cX8_areThree 29 = .ok (.iload_n 2, 1) := dk_28 (dk_at dksX8_areThree_1 5 rfl rfl)
theorem dX8_areThree_30 : decode cX8_areThree 30 = .ok (.invokevirtual 137, 3) := dk_182 0 137 (dk_at dksX8_areThree_1 6 rfl rfl)
theorem dX8_areThree_33 : decode cX8_areThree 33 = .ok (.ifCond .eq 7, 3) := dk_153 0 7 (dk_at dksX8_areThree_1 9 rfl rfl)
theorem dX8_areThree_36 : decode cX8_areThree 36 = .ok (.iconst 1, 1) := dk_4 (dk_at dksX8_areThree_1 12 rfl rfl)
theorem dX8_areThree_37 : decode cX8_areThree 37 = .ok (.goto 4, 3) := dk_167 0 4 (dk_at dksX8_areThree_1 13 rfl rfl)
theorem dX8_areThree_40 : decode cX8_areThree 40 = .ok (.iconst 0, 1) := dk_3 (dk_at dksX8_areThree_1 16 rfl rfl)
theorem dX8_areThree_41 : decode cX8_areThree 41 = .ok (.ireturn, 1) := dk_172 (dk_at dksX8_areThree_1 17 rfl rfl)
abbrev cX8_isChart : ByteArray := prog_17_method_10_code
def yX8_isChart : MethodName := ⟨RX8, "isChart", "(I)Z"⟩
def dkwX8_isChart_3 : List UInt8 := [42, 27, 8, 96, 3, 17, 3, 231, 182, 0, 137, 153, 0, 7, 4, 167, 0, 4, 3, 172]
abbrev dktX8_isChart_3 : List UInt8 := dkwX8_isChart_3 ++ []
def dkwX8_isChart_2 : List UInt8 := [153, 0, 42, 42, 27, 7, 96, 42, 180, 0, 62, 27, 6, 96, 46, 17, 3, 231, 182, 0, 137, 153, 0, 21]
abbrev dktX8_isChart_2 : List UInt8 := dkwX8_isChart_2 ++ dktX8_isChart_3
def dkwX8_isChart_1 : List UInt8 := [96, 46, 17, 3, 231, 182, 0, 137, 153, 0, 56, 42, 27, 6, 96, 3, 17, 3, 231, 182, 0, 137]
abbrev dktX8_isChart_1 : List UInt8 := dkwX8_isChart_1 ++ dktX8_isChart_2
def dkwX8_isChart_0 : List UInt8 := [42, 27, 4, 96, 3, 17, 3, 231, 182, 0, 137, 153, 0, 77, 42, 27, 5, 96, 42, 180, 0, 62, 27, 4]
abbrev dktX8_isChart_0 : List UInt8 := dkwX8_isChart_0 ++ dktX8_isChart_1
theorem dksX8_isChart_0 : cX8_isChart.data.toList.drop 0 = dktX8_isChart_0 := by decide +kernel
theorem dksX8_isChart_1 : cX8_isChart.data.toList.drop 24 = dktX8_isChart_1 := dk_seg dksX8_isChart_0 24 rfl rfl
theorem dksX8_isChart_2 : cX8_isChart.data.toList.drop 46 = dktX8_isChart_2 := dk_seg dksX8_isChart_1 22 rfl rfl
theorem dksX8_isChart_3 : cX8_isChart.data.toList.drop 70 = dktX8_isChart_3 := dk_seg dksX8_isChart_2 24 rfl rfl
theorem dX8_isChart_0 : decode cX8_isChart 0 = .ok (.aload_n 0, 1) := dk_42 (dk_at dksX8_isChart_0 0 rfl rfl)
theorem dX8_isChart_1 : decode cX8_isChart 1 = .ok (.iload_n 1, 1) := dk_27 (dk_at dksX8_isChart_0 1 rfl rfl)
theorem dX8_isChart_2 : decode cX8_isChart 2 = .ok (.iconst 1, 1) := dk_4 (dk_at dksX8_isChart_0 2 rfl rfl)
theorem dX8_isChart_3 : decode cX8_isChart 3 = .ok (.iadd, 1) := dk_96 (dk_at dksX8_isChart_0 3 rfl rfl)
theorem dX8_isChart_4 : decode cX8_isChart 4 = .ok (.iconst 0, 1) := dk_3 (dk_at dksX8_isChart_0 4 rfl rfl)
theorem dX8_isChart_5 : decode cX8_isChart 5 = .ok (.sipush 999, 3) := dk_17 3 231 (dk_at dksX8_isChart_0 5 rfl rfl)
theorem dX8_isChart_8 : decode cX8_isChart 8 = .ok (.invokevirtual 137, 3) := dk_182 0 137 (dk_at dksX8_isChart_0 8 rfl rfl)
theorem dX8_isChart_11 : decode cX8_isChart 11 = .ok (.ifCond .eq 77, 3) := dk_153 0 77 (dk_at dksX8_isChart_0 11 rfl rfl)
theorem dX8_isChart_14 : decode cX8_isChart 14 = .ok (.aload_n 0, 1) := dk_42 (dk_at dksX8_isChart_0 14 rfl rfl)
theorem dX8_isChart_15 : decode cX8_isChart 15 = .ok (.iload_n 1, 1) := dk_27 (dk_at dksX8_isChart_0 15 rfl rfl)
theorem dX8_isChart_16 : decode cX8_isChart 16 = .ok (.iconst 2, 1) := dk_5 (dk_at dksX8_isChart_0 16 rfl rfl)
theorem dX8_isChart_17 : decode cX8_isChart 17 = .ok (.iadd, 1) := dk_96 (dk_at dksX8_isChart_0 17 rfl rfl)
theorem dX8_isChart_18 : decode cX8_isChart 18 = .ok (.aload_n 0, 1) := dk_42 (dk_at dksX8_isChart_0 18 rfl rfl)
theorem dX8_isChart_19 : decode cX8_isChart 19 = .ok (.getfield 62, 3) := dk_180 0 62 (dk_at dksX8_isChart_0 19 rfl rfl)
theorem dX8_isChart_22 : decode cX8_isChart 22 = .ok (.iload_n 1, 1) := dk_27 (dk_at dksX8_isChart_0 22 rfl rfl)
theorem dX8_isChart_23 : decode cX8_isChart 23 = .ok (.iconst 1, 1) := dk_4 (dk_at dksX8_isChart_0 23 rfl rfl)
theorem dX8_isChart_24 : decode cX8_isChart 24 = .ok (.iadd, 1) := dk_96 (dk_at dksX8_isChart_1 0 rfl rfl)
theorem dX8_isChart_25 : decode cX8_isChart 25 = .ok (.iaload, 1) := dk_46 (dk_at dksX8_isChart_1 1 rfl rfl)
theorem dX8_isChart_26 : decode cX8_isChart 26 = .ok (.sipush 999, 3) := dk_17 3 231 (dk_at dksX8_isChart_1 2 rfl rfl)
theorem dX8_isChart_29 : decode cX8_isChart 29 = .ok (.invokevirtual 137, 3) := dk_182 0 137 (dk_at dksX8_isChart_1 5 rfl rfl)
theorem dX8_isChart_32 : decode cX8_isChart 32 = .ok (.ifCond .eq 56, 3) := dk_153 0 56 (dk_at dksX8_isChart_1 8 rfl rfl)
theorem dX8_isChart_35 : decode cX8_isChart 35 = .ok (.aload_n 0, 1) := dk_42 (dk_at dksX8_isChart_1 11 rfl rfl)
theorem dX8_isChart_36 : decode cX8_isChart 36 = .ok (.iload_n 1, 1) := dk_27 (dk_at dksX8_isChart_1 12 rfl rfl)
theorem dX8_isChart_37 : decode cX8_isChart 37 = .ok (.iconst 3, 1) := dk_6 (dk_at dksX8_isChart_1 13 rfl rfl)
theorem dX8_isChart_38 : decode cX8_isChart 38 = .ok (.iadd, 1) := dk_96 (dk_at dksX8_isChart_1 14 rfl rfl)
theorem dX8_isChart_39 : decode cX8_isChart 39 = .ok (.iconst 0, 1) := dk_3 (dk_at dksX8_isChart_1 15 rfl rfl)
theorem dX8_isChart_40 : decode cX8_isChart 40 = .ok (.sipush 999, 3) := dk_17 3 231 (dk_at dksX8_isChart_1 16 rfl rfl)
theorem dX8_isChart_43 : decode cX8_isChart 43 = .ok (.invokevirtual 137, 3) := dk_182 0 137 (dk_at dksX8_isChart_1 19 rfl rfl)
theorem dX8_isChart_46 : decode cX8_isChart 46 = .ok (.ifCond .eq 42, 3) := dk_153 0 42 (dk_at dksX8_isChart_2 0 rfl rfl)
theorem dX8_isChart_49 : decode cX8_isChart 49 = .ok (.aload_n 0, 1) := dk_42 (dk_at dksX8_isChart_2 3 rfl rfl)
theorem dX8_isChart_50 : decode cX8_isChart 50 = .ok (.iload_n 1, 1) := dk_27 (dk_at dksX8_isChart_2 4 rfl rfl)
theorem dX8_isChart_51 : decode cX8_isChart 51 = .ok (.iconst 4, 1) := dk_7 (dk_at dksX8_isChart_2 5 rfl rfl)
theorem dX8_isChart_52 : decode cX8_isChart 52 = .ok (.iadd, 1) := dk_96 (dk_at dksX8_isChart_2 6 rfl rfl)
theorem dX8_isChart_53 : decode cX8_isChart 53 = .ok (.aload_n 0, 1) := dk_42 (dk_at dksX8_isChart_2 7 rfl rfl)
theorem dX8_isChart_54 : decode cX8_isChart 54 = .ok (.getfield 62, 3) := dk_180 0 62 (dk_at dksX8_isChart_2 8 rfl rfl)
theorem dX8_isChart_57 : decode cX8_isChart 57 = .ok (.iload_n 1, 1) := dk_27 (dk_at dksX8_isChart_2 11 rfl rfl)
theorem dX8_isChart_58 : decode cX8_isChart 58 = .ok (.iconst 3, 1) := dk_6 (dk_at dksX8_isChart_2 12 rfl rfl)
theorem dX8_isChart_59 : decode cX8_isChart 59 = .ok (.iadd, 1) := dk_96 (dk_at dksX8_isChart_2 13 rfl rfl)
theorem dX8_isChart_60 : decode cX8_isChart 60 = .ok (.iaload, 1) := dk_46 (dk_at dksX8_isChart_2 14 rfl rfl)
theorem dX8_isChart_61 : decode cX8_isChart 61 = .ok (.sipush 999, 3) := dk_17 3 231 (dk_at dksX8_isChart_2 15 rfl rfl)
theorem dX8_isChart_64 : decode cX8_isChart 64 = .ok (.invokevirtual 137, 3) := dk_182 0 137 (dk_at dksX8_isChart_2 18 rfl rfl)
theorem dX8_isChart_67 : decode cX8_isChart 67 = .ok (.ifCond .eq 21, 3) := dk_153 0 21 (dk_at dksX8_isChart_2 21 rfl rfl)
theorem dX8_isChart_70 : decode cX8_isChart 70 = .ok (.aload_n 0, 1) := dk_42 (dk_at dksX8_isChart_3 0 rfl rfl)
theorem dX8_isChart_71 : decode cX8_isChart 71 = .ok (.iload_n 1, 1) := dk_27 (dk_at dksX8_isChart_3 1 rfl rfl)
theorem dX8_isChart_72 : decode cX8_isChart 72 = .ok (.iconst 5, 1) := dk_8 (dk_at dksX8_isChart_3 2 rfl rfl)
theorem dX8_isChart_73 : decode cX8_isChart 73 = .ok (.iadd, 1) := dk_96 (dk_at dksX8_isChart_3 3 rfl rfl)
theorem dX8_isChart_74 : decode cX8_isChart 74 = .ok (.iconst 0, 1) := dk_3 (dk_at dksX8_isChart_3 4 rfl rfl)
theorem dX8_isChart_75 : decode cX8_isChart 75 = .ok (.sipush 999, 3) := dk_17 3 231 (dk_at dksX8_isChart_3 5 rfl rfl)
theorem dX8_isChart_78 : decode cX8_isChart 78 = .ok (.invokevirtual 137, 3) := dk_182 0 137 (dk_at dksX8_isChart_3 8 rfl rfl)
theorem dX8_isChart_81 : decode cX8_isChart 81 = .ok (.ifCond .eq 7, 3) := dk_153 0 7 (dk_at dksX8_isChart_3 11 rfl rfl)
theorem dX8_isChart_84 : decode cX8_isChart 84 = .ok (.iconst 1, 1) := dk_4 (dk_at dksX8_isChart_3 14 rfl rfl)
theorem dX8_isChart_85 : decode cX8_isChart 85 = .ok (.goto 4, 3) := dk_167 0 4 (dk_at dksX8_isChart_3 15 rfl rfl)
theorem dX8_isChart_88 : decode cX8_isChart 88 = .ok (.iconst 0, 1) := dk_3 (dk_at dksX8_isChart_3 18 rfl rfl)
theorem dX8_isChart_89 : decode cX8_isChart 89 = .ok (.ireturn, 1) := dk_172 (dk_at dksX8_isChart_3 19 rfl rfl)
abbrev cX8_plan : ByteArray := prog_17_method_17_code
def yX8_plan : MethodName := ⟨RX8, "plan", "()I"⟩
def dkwX8_plan_2 : List UInt8 := [180, 0, 74, 4, 3, 84, 42, 182, 0, 87, 42, 180, 0, 187, 172]
abbrev dktX8_plan_2 : List UInt8 := dkwX8_plan_2 ++ []
def dkwX8_plan_1 : List UInt8 := [104, 182, 0, 210, 132, 1, 1, 167, 255, 237, 42, 3, 181, 0, 94, 42, 180, 0, 74, 3, 3, 84, 42]
abbrev dktX8_plan_1 : List UInt8 := dkwX8_plan_1 ++ dktX8_plan_2
def dkwX8_plan_0 : List UInt8 := [42, 182, 0, 193, 154, 0, 6, 16, 252, 172, 3, 60, 27, 42, 180, 0, 187, 162, 0, 17, 42, 16, 6, 27]
abbrev dktX8_plan_0 : List UInt8 := dkwX8_plan_0 ++ dktX8_plan_1
theorem dksX8_plan_0 : cX8_plan.data.toList.drop 0 = dktX8_plan_0 := by decide +kernel
theorem dksX8_plan_1 : cX8_plan.data.toList.drop 24 = dktX8_plan_1 := dk_seg dksX8_plan_0 24 rfl rfl
theorem dksX8_plan_2 : cX8_plan.data.toList.drop 47 = dktX8_plan_2 := dk_seg dksX8_plan_1 23 rfl rfl
theorem dX8_plan_0 : decode cX8_plan 0 = .ok (.aload_n 0, 1) := dk_42 (dk_at dksX8_plan_0 0 rfl rfl)
theorem dX8_plan_1 : decode cX8_plan 1 = .ok (.invokevirtual 193, 3) := dk_182 0 193 (dk_at dksX8_plan_0 1 rfl rfl)
theorem dX8_plan_4 : decode cX8_plan 4 = .ok (.ifCond .ne 6, 3) := dk_154 0 6 (dk_at dksX8_plan_0 4 rfl rfl)
theorem dX8_plan_7 : decode cX8_plan 7 = .ok (.bipush (-4), 2) := dk_16 252 (dk_at dksX8_plan_0 7 rfl rfl)
theorem dX8_plan_9 : decode cX8_plan 9 = .ok (.ireturn, 1) := dk_172 (dk_at dksX8_plan_0 9 rfl rfl)
theorem dX8_plan_10 : decode cX8_plan 10 = .ok (.iconst 0, 1) := dk_3 (dk_at dksX8_plan_0 10 rfl rfl)
theorem dX8_plan_11 : decode cX8_plan 11 = .ok (.istore_n 1, 1) := dk_60 (dk_at dksX8_plan_0 11 rfl rfl)
theorem dX8_plan_12 : decode cX8_plan 12 = .ok (.iload_n 1, 1) := dk_27 (dk_at dksX8_plan_0 12 rfl rfl)
theorem dX8_plan_13 : decode cX8_plan 13 = .ok (.aload_n 0, 1) := dk_42 (dk_at dksX8_plan_0 13 rfl rfl)
theorem dX8_plan_14 : decode cX8_plan 14 = .ok (.getfield 187, 3) := dk_180 0 187 (dk_at dksX8_plan_0 14 rfl rfl)
theorem dX8_plan_17 : decode cX8_plan 17 = .ok (.if_icmp .ge 17, 3) := dk_162 0 17 (dk_at dksX8_plan_0 17 rfl rfl)
theorem dX8_plan_20 : decode cX8_plan 20 = .ok (.aload_n 0, 1) := dk_42 (dk_at dksX8_plan_0 20 rfl rfl)
theorem dX8_plan_21 : decode cX8_plan 21 = .ok (.bipush 6, 2) := dk_16 6 (dk_at dksX8_plan_0 21 rfl rfl)
theorem dX8_plan_23 : decode cX8_plan 23 = .ok (.iload_n 1, 1) := dk_27 (dk_at dksX8_plan_0 23 rfl rfl)
theorem dX8_plan_24 : decode cX8_plan 24 = .ok (.imul, 1) := dk_104 (dk_at dksX8_plan_1 0 rfl rfl)
theorem dX8_plan_25 : decode cX8_plan 25 = .ok (.invokevirtual 210, 3) := dk_182 0 210 (dk_at dksX8_plan_1 1 rfl rfl)
theorem dX8_plan_28 : decode cX8_plan 28 = .ok (.iinc 1 1, 3) := dk_132 1 1 (dk_at dksX8_plan_1 4 rfl rfl)
theorem dX8_plan_31 : decode cX8_plan 31 = .ok (.goto (-19), 3) := dk_167 255 237 (dk_at dksX8_plan_1 7 rfl rfl)
theorem dX8_plan_34 : decode cX8_plan 34 = .ok (.aload_n 0, 1) := dk_42 (dk_at dksX8_plan_1 10 rfl rfl)
theorem dX8_plan_35 : decode cX8_plan 35 = .ok (.iconst 0, 1) := dk_3 (dk_at dksX8_plan_1 11 rfl rfl)
theorem dX8_plan_36 : decode cX8_plan 36 = .ok (.putfield 94, 3) := dk_181 0 94 (dk_at dksX8_plan_1 12 rfl rfl)
theorem dX8_plan_39 : decode cX8_plan 39 = .ok (.aload_n 0, 1) := dk_42 (dk_at dksX8_plan_1 15 rfl rfl)
theorem dX8_plan_40 : decode cX8_plan 40 = .ok (.getfield 74, 3) := dk_180 0 74 (dk_at dksX8_plan_1 16 rfl rfl)
theorem dX8_plan_43 : decode cX8_plan 43 = .ok (.iconst 0, 1) := dk_3 (dk_at dksX8_plan_1 19 rfl rfl)
theorem dX8_plan_44 : decode cX8_plan 44 = .ok (.iconst 0, 1) := dk_3 (dk_at dksX8_plan_1 20 rfl rfl)
theorem dX8_plan_45 : decode cX8_plan 45 = .ok (.bastore, 1) := dk_84 (dk_at dksX8_plan_1 21 rfl rfl)
theorem dX8_plan_46 : decode cX8_plan 46 = .ok (.aload_n 0, 1) := dk_42 (dk_at dksX8_plan_1 22 rfl rfl)
theorem dX8_plan_47 : decode cX8_plan 47 = .ok (.getfield 74, 3) := dk_180 0 74 (dk_at dksX8_plan_2 0 rfl rfl)
theorem dX8_plan_50 : decode cX8_plan 50 = .ok (.iconst 1, 1) := dk_4 (dk_at dksX8_plan_2 3 rfl rfl)
theorem dX8_plan_51 : decode cX8_plan 51 = .ok (.iconst 0, 1) := dk_3 (dk_at dksX8_plan_2 4 rfl rfl)
theorem dX8_plan_52 : decode cX8_plan 52 = .ok (.bastore, 1) := dk_84 (dk_at dksX8_plan_2 5 rfl rfl)
theorem dX8_plan_53 : decode cX8_plan 53 = .ok (.aload_n 0, 1) := dk_42 (dk_at dksX8_plan_2 6 rfl rfl)
theorem dX8_plan_54 : decode cX8_plan 54 = .ok (.invokevirtual 87, 3) := dk_182 0 87 (dk_at dksX8_plan_2 7 rfl rfl)
theorem dX8_plan_57 : decode cX8_plan 57 = .ok (.aload_n 0, 1) := dk_42 (dk_at dksX8_plan_2 10 rfl rfl)
theorem dX8_plan_58 : decode cX8_plan 58 = .ok (.getfield 187, 3) := dk_180 0 187 (dk_at dksX8_plan_2 11 rfl rfl)
theorem dX8_plan_61 : decode cX8_plan 61 = .ok (.ireturn, 1) := dk_172 (dk_at dksX8_plan_2 14 rfl rfl)
abbrev cX8_doLine : ByteArray := prog_17_method_14_code
def yX8_doLine : MethodName := ⟨RX8, "doLine", "(I)V"⟩
def dkwX8_doLine_11 : List UInt8 := [167, 255, 229, 167, 0, 14, 42, 42, 180, 0, 62, 27, 46, 28, 182, 0, 203, 177]
abbrev dktX8_doLine_11 : List UInt8 := dkwX8_doLine_11 ++ []
def dkwX8_doLine_10 : List UInt8 := [162, 0, 27, 42, 180, 0, 56, 21, 5, 42, 180, 0, 62, 27, 4, 96, 21, 5, 96, 46, 79, 132, 5, 1]
abbrev dktX8_doLine_10 : List UInt8 := dkwX8_doLine_10 ++ dktX8_doLine_11
def dkwX8_doLine_9 : List UInt8 := [21, 4, 182, 0, 199, 167, 0, 58, 42, 3, 181, 0, 196, 167, 0, 50, 3, 54, 5, 21, 5, 8]
abbrev dktX8_doLine_9 : List UInt8 := dkwX8_doLine_9 ++ dktX8_doLine_10
def dkwX8_doLine_8 : List UInt8 := [79, 167, 0, 85, 42, 180, 0, 32, 7, 29, 104, 28, 96, 21, 4, 116, 79, 167, 0, 69, 42, 28, 29]
abbrev dktX8_doLine_8 : List UInt8 := dkwX8_doLine_8 ++ dktX8_doLine_9
def dkwX8_doLine_7 : List UInt8 := [42, 28, 181, 0, 26, 42, 29, 181, 0, 29, 167, 0, 100, 42, 180, 0, 32, 7, 29, 104, 28, 96, 21, 4]
abbrev dktX8_doLine_7 : List UInt8 := dkwX8_doLine_7 ++ dktX8_doLine_8
def dkwX8_doLine_6 : List UInt8 := [180, 0, 20, 3, 28, 79, 42, 180, 0, 20, 4, 29, 79, 42, 180, 0, 20, 5, 21, 4, 79, 167, 0, 113]
abbrev dktX8_doLine_6 : List UInt8 := dkwX8_doLine_6 ++ dktX8_doLine_7
def dkwX8_doLine_5 : List UInt8 := [3, 28, 79, 42, 180, 0, 16, 4, 29, 79, 42, 180, 0, 16, 5, 21, 4, 79, 167, 0, 138, 42]
abbrev dktX8_doLine_5 : List UInt8 := dkwX8_doLine_5 ++ dktX8_doLine_6
def dkwX8_doLine_4 : List UInt8 := [162, 0, 17, 42, 180, 0, 32, 21, 5, 3, 79, 132, 5, 1, 167, 255, 238, 167, 0, 163, 42, 180, 0, 16]
abbrev dktX8_doLine_4 : List UInt8 := dkwX8_doLine_4 ++ dktX8_doLine_5
def dkwX8_doLine_3 : List UInt8 := [42, 28, 181, 0, 7, 42, 29, 181, 0, 13, 42, 3, 181, 0, 196, 3, 54, 5, 21, 5, 16, 16]
abbrev dktX8_doLine_3 : List UInt8 := dkwX8_doLine_3 ++ dktX8_doLine_4
def dkwX8_doLine_2 : List UInt8 := [170, 0, 0, 0, 1, 9, 0, 0, 0, 0, 0, 0, 0, 14, 0, 0, 0, 74, 0, 0, 0, 116, 0, 0, 0, 141, 0, 0, 0, 166, 0, 0, 0, 179, 0, 0, 0, 194, 0, 0, 1, 9, 0, 0, 1, 9, 0, 0, 0, 210, 0, 0, 0, 221, 0, 0, 1, 9, 0, 0, 1, 9, 0, 0, 1, 9, 0, 0, 1, 9, 0, 0, 0, 229]
abbrev dktX8_doLine_2 : List UInt8 := dkwX8_doLine_2 ++ dktX8_doLine_3
def dkwX8_doLine_1 : List UInt8 := [96, 46, 54, 4, 42, 180, 0, 62, 27, 46]
abbrev dktX8_doLine_1 : List UInt8 := dkwX8_doLine_1 ++ dktX8_doLine_2
def dkwX8_doLine_0 : List UInt8 := [42, 180, 0, 62, 27, 4, 96, 46, 61, 42, 180, 0, 62, 27, 5, 96, 46, 62, 42, 180, 0, 62, 27, 6]
abbrev dktX8_doLine_0 : List UInt8 := dkwX8_doLine_0 ++ dktX8_doLine_1
theorem dksX8_doLine_0 : cX8_doLine.data.toList.drop 0 = dktX8_doLine_0 := by decide +kernel
theorem dksX8_doLine_1 : cX8_doLine.data.toList.drop 24 = dktX8_doLine_1 := dk_seg dksX8_doLine_0 24 rfl rfl
theorem dksX8_doLine_2 : cX8_doLine.data.toList.drop 34 = dktX8_doLine_2 := dk_seg dksX8_doLine_1 10 rfl rfl
theorem dksX8_doLine_3 : cX8_doLine.data.toList.drop 108 = dktX8_doLine_3 := dk_seg dksX8_doLine_2 74 rfl rfl
theorem dksX8_doLine_4 : cX8_doLine.data.toList.drop 130 = dktX8_doLine_4 := dk_seg dksX8_doLine_3 22 rfl rfl
theorem dksX8_doLine_5 : cX8_doLine.data.toList.drop 154 = dktX8_doLine_5 := dk_seg dksX8_doLine_4 24 rfl rfl
theorem dksX8_doLine_6 : cX8_doLine.data.toList.drop 176 = dktX8_doLine_6 := dk_seg dksX8_doLine_5 22 rfl rfl
theorem dksX8_doLine_7 : cX8_doLine.data.toList.drop 200 = dktX8_doLine_7 := dk_seg dksX8_doLine_6 24 rfl rfl
theorem dksX8_doLine_8 : cX8_doLine.data.toList.drop 224 = dktX8_doLine_8 := dk_seg dksX8_doLine_7 24 rfl rfl
theorem dksX8_doLine_9 : cX8_doLine.data.toList.drop 247 = dktX8_doLine_9 := dk_seg dksX8_doLine_8 23 rfl rfl
theorem dksX8_doLine_10 : cX8_doLine.data.toList.drop 269 = dktX8_doLine_10 := dk_seg dksX8_doLine_9 22 rfl rfl
theorem dksX8_doLine_11 : cX8_doLine.data.toList.drop 293 = dktX8_doLine_11 := dk_seg dksX8_doLine_10 24 rfl rfl
theorem dX8_doLine_0 : decode cX8_doLine 0 = .ok (.aload_n 0, 1) := dk_42 (dk_at dksX8_doLine_0 0 rfl rfl)
theorem dX8_doLine_1 : decode cX8_doLine 1 = .ok (.getfield 62, 3) := dk_180 0 62 (dk_at dksX8_doLine_0 1 rfl rfl)
theorem dX8_doLine_4 : decode cX8_doLine 4 = .ok (.iload_n 1, 1) := dk_27 (dk_at dksX8_doLine_0 4 rfl rfl)
theorem dX8_doLine_5 : decode cX8_doLine 5 = .ok (.iconst 1, 1) := dk_4 (dk_at dksX8_doLine_0 5 rfl rfl)
theorem dX8_doLine_6 : decode cX8_doLine 6 = .ok (.iadd, 1) := dk_96 (dk_at dksX8_doLine_0 6 rfl rfl)
theorem dX8_doLine_7 : decode cX8_doLine 7 = .ok (.iaload, 1) := dk_46 (dk_at dksX8_doLine_0 7 rfl rfl)
theorem dX8_doLine_8 : decode cX8_doLine 8 = .ok (.istore_n 2, 1) := dk_61 (dk_at dksX8_doLine_0 8 rfl rfl)
theorem dX8_doLine_9 : decode cX8_doLine 9 = .ok (.aload_n 0, 1) := dk_42 (dk_at dksX8_doLine_0 9 rfl rfl)
theorem dX8_doLine_10 : decode cX8_doLine 10 = .ok (.getfield 62, 3) := dk_180 0 62 (dk_at dksX8_doLine_0 10 rfl rfl)
theorem dX8_doLine_13 : decode cX8_doLine 13 = .ok (.iload_n 1, 1) := dk_27 (dk_at dksX8_doLine_0 13 rfl rfl)
theorem dX8_doLine_14 : decode cX8_doLine 14 = .ok (.iconst 2, 1) := dk_5 (dk_at dksX8_doLine_0 14 rfl rfl)
theorem dX8_doLine_15 : decode cX8_doLine 15 = .ok (.iadd, 1) := dk_96 (dk_at dksX8_doLine_0 15 rfl rfl)
theorem dX8_doLine_16 : decode cX8_doLine 16 = .ok (.iaload, 1) := dk_46 (dk_at dksX8_doLine_0 16 rfl rfl)
theorem dX8_doLine_17 : decode cX8_doLine 17 = .ok (.istore_n 3, 1) := dk_62 (dk_at dksX8_doLine_0 17 rfl rfl)
theorem dX8_doLine_18 : decode cX8_doLine 18 = .ok (.aload_n 0, 1) := dk_42 (dk_at dksX8_doLine_0 18 rfl rfl)
theorem dX8_doLine_19 : decode cX8_doLine 19 = .ok (.getfield 62, 3) := dk_180 0 62 (dk_at dksX8_doLine_0 19 rfl rfl)
theorem dX8_doLine_22 : decode cX8_doLine 22 = .ok (.iload_n 1, 1) := dk_27 (dk_at dksX8_doLine_0 22 rfl rfl)
theorem dX8_doLine_23 : decode cX8_doLine 23 = .ok (.iconst 3, 1) := dk_6 (dk_at dksX8_doLine_0 23 rfl rfl)
theorem dX8_doLine_24 : decode cX8_doLine 24 = .ok (.iadd, 1) := dk_96 (dk_at dksX8_doLine_1 0 rfl rfl)
theorem dX8_doLine_25 : decode cX8_doLine 25 = .ok (.iaload, 1) := dk_46 (dk_at dksX8_doLine_1 1 rfl rfl)
theorem dX8_doLine_26 : decode cX8_doLine 26 = .ok (.istore 4, 2) := dk_54 4 (dk_at dksX8_doLine_1 2 rfl rfl)
theorem dX8_doLine_28 : decode cX8_doLine 28 = .ok (.aload_n 0, 1) := dk_42 (dk_at dksX8_doLine_1 4 rfl rfl)
theorem dX8_doLine_29 : decode cX8_doLine 29 = .ok (.getfield 62, 3) := dk_180 0 62 (dk_at dksX8_doLine_1 5 rfl rfl)
theorem dX8_doLine_32 : decode cX8_doLine 32 = .ok (.iload_n 1, 1) := dk_27 (dk_at dksX8_doLine_1 8 rfl rfl)
theorem dX8_doLine_33 : decode cX8_doLine 33 = .ok (.iaload, 1) := dk_46 (dk_at dksX8_doLine_1 9 rfl rfl)
theorem dX8_doLine_34 : decode cX8_doLine 34 = .ok (.tableswitch 265 0 14 #[74, 116, 141, 166, 179, 194, 265, 265, 210, 221, 265, 265, 265, 265, 229], 74) := by decide +kernel
theorem dX8_doLine_108 : decode cX8_doLine 108 = .ok (.aload_n 0, 1) := dk_42 (dk_at dksX8_doLine_3 0 rfl rfl)
theorem dX8_doLine_109 : decode cX8_doLine 109 = .ok (.iload_n 2, 1) := dk_28 (dk_at dksX8_doLine_3 1 rfl rfl)
theorem dX8_doLine_110 : decode cX8_doLine 110 = .ok (.putfield 7, 3) := dk_181 0 7 (dk_at dksX8_doLine_3 2 rfl rfl)
theorem dX8_doLine_113 : decode cX8_doLine 113 = .ok (.aload_n 0, 1) := dk_42 (dk_at dksX8_doLine_3 5 rfl rfl)
theorem dX8_doLine_114 : decode cX8_doLine 114 = .ok (.iload_n 3, 1) := dk_29 (dk_at dksX8_doLine_3 6 rfl rfl)
theorem dX8_doLine_115 : decode cX8_doLine 115 = .ok (.putfield 13, 3) := dk_181 0 13 (dk_at dksX8_doLine_3 7 rfl rfl)
theorem dX8_doLine_118 : decode cX8_doLine 118 = .ok (.aload_n 0, 1) := dk_42 (dk_at dksX8_doLine_3 10 rfl rfl)
theorem dX8_doLine_119 : decode cX8_doLine 119 = .ok (.iconst 0, 1) := dk_3 (dk_at dksX8_doLine_3 11 rfl rfl)
theorem dX8_doLine_120 : decode cX8_doLine 120 = .ok (.putfield 196, 3) := dk_181 0 196 (dk_at dksX8_doLine_3 12 rfl rfl)
theorem dX8_doLine_123 : decode cX8_doLine 123 = .ok (.iconst 0, 1) := dk_3 (dk_at dksX8_doLine_3 15 rfl rfl)
theorem dX8_doLine_124 : decode cX8_doLine 124 = .ok (.istore 5, 2) := dk_54 5 (dk_at dksX8_doLine_3 16 rfl rfl)
theorem dX8_doLine_126 : decode cX8_doLine 126 = .ok (.iload 5, 2) := dk_21 5 (dk_at dksX8_doLine_3 18 rfl rfl)
theorem dX8_doLine_128 : decode cX8_doLine 128 = .ok (.bipush 16, 2) := dk_16 16 (dk_at dksX8_doLine_3 20 rfl rfl)
theorem dX8_doLine_130 : decode cX8_doLine 130 = .ok (.if_icmp .ge 17, 3) := dk_162 0 17 (dk_at dksX8_doLine_4 0 rfl rfl)
theorem dX8_doLine_133 : decode cX8_doLine 133 = .ok (.aload_n 0, 1) := dk_42 (dk_at dksX8_doLine_4 3 rfl rfl)
theorem dX8_doLine_134 : decode cX8_doLine 134 = .ok (.getfield 32, 3) := dk_180 0 32 (dk_at dksX8_doLine_4 4 rfl rfl)
theorem dX8_doLine_137 : decode cX8_doLine 137 = .ok (.iload 5, 2) := dk_21 5 (dk_at dksX8_doLine_4 7 rfl rfl)
theorem dX8_doLine_139 : decode cX8_doLine 139 = .ok (.iconst 0, 1) := dk_3 (dk_at dksX8_doLine_4 9 rfl rfl)
theorem dX8_doLine_140 : decode cX8_doLine 140 = .ok (.iastore, 1) := dk_79 (dk_at dksX8_doLine_4 10 rfl rfl)
theorem dX8_doLine_141 : decode cX8_doLine 141 = .ok (.iinc 5 1, 3) := dk_132 5 1 (dk_at dksX8_doLine_4 11 rfl rfl)
theorem dX8_doLine_144 : decode cX8_doLine 144 = .ok (.goto (-18), 3) := dk_167 255 238 (dk_at dksX8_doLine_4 14 rfl rfl)
theorem dX8_doLine_147 : decode cX8_doLine 147 = .ok (.goto 163, 3) := dk_167 0 163 (dk_at dksX8_doLine_4 17 rfl rfl)
theorem dX8_doLine_150 : decode cX8_doLine 150 = .ok (.aload_n 0, 1) := dk_42 (dk_at dksX8_doLine_4 20 rfl rfl)
theorem dX8_doLine_151 : decode cX8_doLine 151 = .ok (.getfield 16, 3) := dk_180 0 16 (dk_at dksX8_doLine_4 21 rfl rfl)
theorem dX8_doLine_154 : decode cX8_doLine 154 = .ok (.iconst 0, 1) := dk_3 (dk_at dksX8_doLine_5 0 rfl rfl)
theorem dX8_doLine_155 : decode cX8_doLine 155 = .ok (.iload_n 2, 1) := dk_28 (dk_at dksX8_doLine_5 1 rfl rfl)
theorem dX8_doLine_156 : decode cX8_doLine 156 = .ok (.iastore, 1) := dk_79 (dk_at dksX8_doLine_5 2 rfl rfl)
theorem dX8_doLine_157 : decode cX8_doLine 157 = .ok (.aload_n 0, 1) := dk_42 (dk_at dksX8_doLine_5 3 rfl rfl)
theorem dX8_doLine_158 : decode cX8_doLine 158 = .ok (.getfield 16, 3) := dk_180 0 16 (dk_at dksX8_doLine_5 4 rfl rfl)
theorem dX8_doLine_161 : decode cX8_doLine 161 = .ok (.iconst 1, 1) := dk_4 (dk_at dksX8_doLine_5 7 rfl rfl)
theorem dX8_doLine_162 : decode cX8_doLine 162 = .ok (.iload_n 3, 1) := dk_29 (dk_at dksX8_doLine_5 8 rfl rfl)
theorem dX8_doLine_163 : decode cX8_doLine 163 = .ok (.iastore, 1) := dk_79 (dk_at dksX8_doLine_5 9 rfl rfl)
theorem dX8_doLine_164 : decode cX8_doLine 164 = .ok (.aload_n 0, 1) := dk_42 (dk_at dksX8_doLine_5 10 rfl rfl)
theorem dX8_doLine_165 : decode cX8_doLine 165 = .ok (.getfield 16, 3) := dk_180 0 16 (dk_at dksX8_doLine_5 11 rfl rfl)
theorem dX8_doLine_168 : decode cX8_doLine 168 = .ok (.iconst 2, 1) := dk_5 (dk_at dksX8_doLine_5 14 rfl rfl)
theorem dX8_doLine_169 : decode cX8_doLine 169 = .ok (.iload 4, 2) := dk_21 4 (dk_at dksX8_doLine_5 15 rfl rfl)
theorem dX8_doLine_171 : decode cX8_doLine 171 = .ok (.iastore, 1) := dk_79 (dk_at dksX8_doLine_5 17 rfl rfl)
theorem dX8_doLine_172 : decode cX8_doLine 172 = .ok (.goto 138, 3) := dk_167 0 138 (dk_at dksX8_doLine_5 18 rfl rfl)
theorem dX8_doLine_175 : decode cX8_doLine 175 = .ok (.aload_n 0, 1) := dk_42 (dk_at dksX8_doLine_5 21 rfl rfl)
theorem dX8_doLine_176 : decode cX8_doLine 176 = .ok (.getfield 20, 3) := dk_180 0 20 (dk_at dksX8_doLine_6 0 rfl rfl)
theorem dX8_doLine_179 : decode cX8_doLine 179 = .ok (.iconst 0, 1) := dk_3 (dk_at dksX8_doLine_6 3 rfl rfl)
theorem dX8_doLine_180 : decode cX8_doLine 180 = .ok (.iload_n 2, 1) := dk_28 (dk_at dksX8_doLine_6 4 rfl rfl)
theorem dX8_doLine_181 : decode cX8_doLine 181 = .ok (.iastore, 1) := dk_79 (dk_at dksX8_doLine_6 5 rfl rfl)
theorem dX8_doLine_182 : decode cX8_doLine 182 = .ok (.aload_n 0, 1) := dk_42 (dk_at dksX8_doLine_6 6 rfl rfl)
theorem dX8_doLine_183 : decode cX8_doLine 183 = .ok (.getfield 20, 3) := dk_180 0 20 (dk_at dksX8_doLine_6 7 rfl rfl)
theorem dX8_doLine_186 : decode cX8_doLine 186 = .ok (.iconst 1, 1) := dk_4 (dk_at dksX8_doLine_6 10 rfl rfl)
theorem dX8_doLine_187 : decode cX8_doLine 187 = .ok (.iload_n 3, 1) := dk_29 (dk_at dksX8_doLine_6 11 rfl rfl)
theorem dX8_doLine_188 : decode cX8_doLine 188 = .ok (.iastore, 1) := dk_79 (dk_at dksX8_doLine_6 12 rfl rfl)
theorem dX8_doLine_189 : decode cX8_doLine 189 = .ok (.aload_n 0, 1) := dk_42 (dk_at dksX8_doLine_6 13 rfl rfl)
theorem dX8_doLine_190 : decode cX8_doLine 190 = .ok (.getfield 20, 3) := dk_180 0 20 (dk_at dksX8_doLine_6 14 rfl rfl)
theorem dX8_doLine_193 : decode cX8_doLine 193 = .ok (.iconst 2, 1) := dk_5 (dk_at dksX8_doLine_6 17 rfl rfl)
theorem dX8_doLine_194 : decode cX8_doLine 194 = .ok (.iload 4, 2) := dk_21 4 (dk_at dksX8_doLine_6 18 rfl rfl)
theorem dX8_doLine_196 : decode cX8_doLine 196 = .ok (.iastore, 1) := dk_79 (dk_at dksX8_doLine_6 20 rfl rfl)
theorem dX8_doLine_197 : decode cX8_doLine 197 = .ok (.goto 113, 3) := dk_167 0 113 (dk_at dksX8_doLine_6 21 rfl rfl)
theorem dX8_doLine_200 : decode cX8_doLine 200 = .ok (.aload_n 0, 1) := dk_42 (dk_at dksX8_doLine_7 0 rfl rfl)
theorem dX8_doLine_201 : decode cX8_doLine 201 = .ok (.iload_n 2, 1) := dk_28 (dk_at dksX8_doLine_7 1 rfl rfl)
theorem dX8_doLine_202 : decode cX8_doLine 202 = .ok (.putfield 26, 3) := dk_181 0 26 (dk_at dksX8_doLine_7 2 rfl rfl)
theorem dX8_doLine_205 : decode cX8_doLine 205 = .ok (.aload_n 0, 1) := dk_42 (dk_at dksX8_doLine_7 5 rfl rfl)
theorem dX8_doLine_206 : decode cX8_doLine 206 = .ok (.iload_n 3, 1) := dk_29 (dk_at dksX8_doLine_7 6 rfl rfl)
theorem dX8_doLine_207 : decode cX8_doLine 207 = .ok (.putfield 29, 3) := dk_181 0 29 (dk_at dksX8_doLine_7 7 rfl rfl)
theorem dX8_doLine_210 : decode cX8_doLine 210 = .ok (.goto 100, 3) := dk_167 0 100 (dk_at dksX8_doLine_7 10 rfl rfl)
theorem dX8_doLine_213 : decode cX8_doLine 213 = .ok (.aload_n 0, 1) := dk_42 (dk_at dksX8_doLine_7 13 rfl rfl)
theorem dX8_doLine_214 : decode cX8_doLine 214 = .ok (.getfield 32, 3) := dk_180 0 32 (dk_at dksX8_doLine_7 14 rfl rfl)
theorem dX8_doLine_217 : decode cX8_doLine 217 = .ok (.iconst 4, 1) := dk_7 (dk_at dksX8_doLine_7 17 rfl rfl)
theorem dX8_doLine_218 : decode cX8_doLine 218 = .ok (.iload_n 3, 1) := dk_29 (dk_at dksX8_doLine_7 18 rfl rfl)
theorem dX8_doLine_219 : decode cX8_doLine 219 = .ok (.imul, 1) := dk_104 (dk_at dksX8_doLine_7 19 rfl rfl)
theorem dX8_doLine_220 : decode cX8_doLine 220 = .ok (.iload_n 2, 1) := dk_28 (dk_at dksX8_doLine_7 20 rfl rfl)
theorem dX8_doLine_221 : decode cX8_doLine 221 = .ok (.iadd, 1) := dk_96 (dk_at dksX8_doLine_7 21 rfl rfl)
theorem dX8_doLine_222 : decode cX8_doLine 222 = .ok (.iload 4, 2) := dk_21 4 (dk_at dksX8_doLine_7 22 rfl rfl)
theorem dX8_doLine_224 : decode cX8_doLine 224 = .ok (.iastore, 1) := dk_79 (dk_at dksX8_doLine_8 0 rfl rfl)
theorem dX8_doLine_225 : decode cX8_doLine 225 = .ok (.goto 85, 3) := dk_167 0 85 (dk_at dksX8_doLine_8 1 rfl rfl)
theorem dX8_doLine_228 : decode cX8_doLine 228 = .ok (.aload_n 0, 1) := dk_42 (dk_at dksX8_doLine_8 4 rfl rfl)
theorem dX8_doLine_229 : decode cX8_doLine 229 = .ok (.getfield 32, 3) := dk_180 0 32 (dk_at dksX8_doLine_8 5 rfl rfl)
theorem dX8_doLine_232 : decode cX8_doLine 232 = .ok (.iconst 4, 1) := dk_7 (dk_at dksX8_doLine_8 8 rfl rfl)
theorem dX8_doLine_233 : decode cX8_doLine 233 = .ok (.iload_n 3, 1) := dk_29 (dk_at dksX8_doLine_8 9 rfl rfl)
theorem dX8_doLine_234 : decode cX8_doLine 234 = .ok (.imul, 1) := dk_104 (dk_at dksX8_doLine_8 10 rfl rfl)
theorem dX8_doLine_235 : decode cX8_doLine 235 = .ok (.iload_n 2, 1) := dk_28 (dk_at dksX8_doLine_8 11 rfl rfl)
theorem dX8_doLine_236 : decode cX8_doLine 236 = .ok (.iadd, 1) := dk_96 (dk_at dksX8_doLine_8 12 rfl rfl)
theorem dX8_doLine_237 : decode cX8_doLine 237 = .ok (.iload 4, 2) := dk_21 4 (dk_at dksX8_doLine_8 13 rfl rfl)
theorem dX8_doLine_239 : decode cX8_doLine 239 = .ok (.ineg, 1) := dk_116 (dk_at dksX8_doLine_8 15 rfl rfl)
theorem dX8_doLine_240 : decode cX8_doLine 240 = .ok (.iastore, 1) := dk_79 (dk_at dksX8_doLine_8 16 rfl rfl)
theorem dX8_doLine_241 : decode cX8_doLine 241 = .ok (.goto 69, 3) := dk_167 0 69 (dk_at dksX8_doLine_8 17 rfl rfl)
theorem dX8_doLine_244 : decode cX8_doLine 244 = .ok (.aload_n 0, 1) := dk_42 (dk_at dksX8_doLine_8 20 rfl rfl)
theorem dX8_doLine_245 : decode cX8_doLine 245 = .ok (.iload_n 2, 1) := dk_28 (dk_at dksX8_doLine_8 21 rfl rfl)
theorem dX8_doLine_246 : decode cX8_doLine 246 = .ok (.iload_n 3, 1) := dk_29 (dk_at dksX8_doLine_8 22 rfl rfl)
theorem dX8_doLine_247 : decode cX8_doLine 247 = .ok (.iload 4, 2) := dk_21 4 (dk_at dksX8_doLine_9 0 rfl rfl)
theorem dX8_doLine_249 : decode cX8_doLine 249 = .ok (.invokevirtual 199, 3) := dk_182 0 199 (dk_at dksX8_doLine_9 2 rfl rfl)
theorem dX8_doLine_252 : decode cX8_doLine 252 = .ok (.goto 58, 3) := dk_167 0 58 (dk_at dksX8_doLine_9 5 rfl rfl)
theorem dX8_doLine_255 : decode cX8_doLine 255 = .ok (.aload_n 0, 1) := dk_42 (dk_at dksX8_doLine_9 8 rfl rfl)
theorem dX8_doLine_256 : decode cX8_doLine 256 = .ok (.iconst 0, 1) := dk_3 (dk_at dksX8_doLine_9 9 rfl rfl)
theorem dX8_doLine_257 : decode cX8_doLine 257 = .ok (.putfield 196, 3) := dk_181 0 196 (dk_at dksX8_doLine_9 10 rfl rfl)
theorem dX8_doLine_260 : decode cX8_doLine 260 = .ok (.goto 50, 3) := dk_167 0 50 (dk_at dksX8_doLine_9 13 rfl rfl)
theorem dX8_doLine_263 : decode cX8_doLine 263 = .ok (.iconst 0, 1) := dk_3 (dk_at dksX8_doLine_9 16 rfl rfl)
theorem dX8_doLine_264 : decode cX8_doLine 264 = .ok (.istore 5, 2) := dk_54 5 (dk_at dksX8_doLine_9 17 rfl rfl)
theorem dX8_doLine_266 : decode cX8_doLine 266 = .ok (.iload 5, 2) := dk_21 5 (dk_at dksX8_doLine_9 19 rfl rfl)
theorem dX8_doLine_268 : decode cX8_doLine 268 = .ok (.iconst 5, 1) := dk_8 (dk_at dksX8_doLine_9 21 rfl rfl)
theorem dX8_doLine_269 : decode cX8_doLine 269 = .ok (.if_icmp .ge 27, 3) := dk_162 0 27 (dk_at dksX8_doLine_10 0 rfl rfl)
theorem dX8_doLine_272 : decode cX8_doLine 272 = .ok (.aload_n 0, 1) := dk_42 (dk_at dksX8_doLine_10 3 rfl rfl)
theorem dX8_doLine_273 : decode cX8_doLine 273 = .ok (.getfield 56, 3) := dk_180 0 56 (dk_at dksX8_doLine_10 4 rfl rfl)
theorem dX8_doLine_276 : decode cX8_doLine 276 = .ok (.iload 5, 2) := dk_21 5 (dk_at dksX8_doLine_10 7 rfl rfl)
theorem dX8_doLine_278 : decode cX8_doLine 278 = .ok (.aload_n 0, 1) := dk_42 (dk_at dksX8_doLine_10 9 rfl rfl)
theorem dX8_doLine_279 : decode cX8_doLine 279 = .ok (.getfield 62, 3) := dk_180 0 62 (dk_at dksX8_doLine_10 10 rfl rfl)
theorem dX8_doLine_282 : decode cX8_doLine 282 = .ok (.iload_n 1, 1) := dk_27 (dk_at dksX8_doLine_10 13 rfl rfl)
theorem dX8_doLine_283 : decode cX8_doLine 283 = .ok (.iconst 1, 1) := dk_4 (dk_at dksX8_doLine_10 14 rfl rfl)
theorem dX8_doLine_284 : decode cX8_doLine 284 = .ok (.iadd, 1) := dk_96 (dk_at dksX8_doLine_10 15 rfl rfl)
theorem dX8_doLine_285 : decode cX8_doLine 285 = .ok (.iload 5, 2) := dk_21 5 (dk_at dksX8_doLine_10 16 rfl rfl)
theorem dX8_doLine_287 : decode cX8_doLine 287 = .ok (.iadd, 1) := dk_96 (dk_at dksX8_doLine_10 18 rfl rfl)
theorem dX8_doLine_288 : decode cX8_doLine 288 = .ok (.iaload, 1) := dk_46 (dk_at dksX8_doLine_10 19 rfl rfl)
theorem dX8_doLine_289 : decode cX8_doLine 289 = .ok (.iastore, 1) := dk_79 (dk_at dksX8_doLine_10 20 rfl rfl)
theorem dX8_doLine_290 : decode cX8_doLine 290 = .ok (.iinc 5 1, 3) := dk_132 5 1 (dk_at dksX8_doLine_10 21 rfl rfl)
theorem dX8_doLine_293 : decode cX8_doLine 293 = .ok (.goto (-27), 3) := dk_167 255 229 (dk_at dksX8_doLine_11 0 rfl rfl)
theorem dX8_doLine_296 : decode cX8_doLine 296 = .ok (.goto 14, 3) := dk_167 0 14 (dk_at dksX8_doLine_11 3 rfl rfl)
theorem dX8_doLine_299 : decode cX8_doLine 299 = .ok (.aload_n 0, 1) := dk_42 (dk_at dksX8_doLine_11 6 rfl rfl)
theorem dX8_doLine_300 : decode cX8_doLine 300 = .ok (.aload_n 0, 1) := dk_42 (dk_at dksX8_doLine_11 7 rfl rfl)
theorem dX8_doLine_301 : decode cX8_doLine 301 = .ok (.getfield 62, 3) := dk_180 0 62 (dk_at dksX8_doLine_11 8 rfl rfl)
theorem dX8_doLine_304 : decode cX8_doLine 304 = .ok (.iload_n 1, 1) := dk_27 (dk_at dksX8_doLine_11 11 rfl rfl)
theorem dX8_doLine_305 : decode cX8_doLine 305 = .ok (.iaload, 1) := dk_46 (dk_at dksX8_doLine_11 12 rfl rfl)
theorem dX8_doLine_306 : decode cX8_doLine 306 = .ok (.iload_n 2, 1) := dk_28 (dk_at dksX8_doLine_11 13 rfl rfl)
theorem dX8_doLine_307 : decode cX8_doLine 307 = .ok (.invokevirtual 203, 3) := dk_182 0 203 (dk_at dksX8_doLine_11 14 rfl rfl)
theorem dX8_doLine_310 : decode cX8_doLine 310 = .ok (.return_, 1) := dk_177 (dk_at dksX8_doLine_11 17 rfl rfl)
abbrev cX8_doPour : ByteArray := prog_17_method_15_code
def yX8_doPour : MethodName := ⟨RX8, "doPour", "(III)V"⟩
def dkwX8_doPour_2 : List UInt8 := [181, 0, 196, 177]
abbrev dktX8_doPour_2 : List UInt8 := dkwX8_doPour_2 ++ []
def dkwX8_doPour_1 : List UInt8 := [180, 0, 196, 28, 79, 42, 180, 0, 50, 42, 180, 0, 196, 29, 79, 42, 89, 180, 0, 196, 4, 96]
abbrev dktX8_doPour_1 : List UInt8 := dkwX8_doPour_1 ++ dktX8_doPour_2
def dkwX8_doPour_0 : List UInt8 := [42, 180, 0, 196, 16, 12, 162, 0, 43, 42, 180, 0, 44, 42, 180, 0, 196, 27, 79, 42, 180, 0, 47, 42]
abbrev dktX8_doPour_0 : List UInt8 := dkwX8_doPour_0 ++ dktX8_doPour_1
theorem dksX8_doPour_0 : cX8_doPour.data.toList.drop 0 = dktX8_doPour_0 := by decide +kernel
theorem dksX8_doPour_1 : cX8_doPour.data.toList.drop 24 = dktX8_doPour_1 := dk_seg dksX8_doPour_0 24 rfl rfl
theorem dksX8_doPour_2 : cX8_doPour.data.toList.drop 46 = dktX8_doPour_2 := dk_seg dksX8_doPour_1 22 rfl rfl
theorem dX8_doPour_0 : decode cX8_doPour 0 = .ok (.aload_n 0, 1) := dk_42 (dk_at dksX8_doPour_0 0 rfl rfl)
theorem dX8_doPour_1 : decode cX8_doPour 1 = .ok (.getfield 196, 3) := dk_180 0 196 (dk_at dksX8_doPour_0 1 rfl rfl)
theorem dX8_doPour_4 : decode cX8_doPour 4 = .ok (.bipush 12, 2) := dk_16 12 (dk_at dksX8_doPour_0 4 rfl rfl)
theorem dX8_doPour_6 : decode cX8_doPour 6 = .ok (.if_icmp .ge 43, 3) := dk_162 0 43 (dk_at dksX8_doPour_0 6 rfl rfl)
theorem dX8_doPour_9 : decode cX8_doPour 9 = .ok (.aload_n 0, 1) := dk_42 (dk_at dksX8_doPour_0 9 rfl rfl)
theorem dX8_doPour_10 : decode cX8_doPour 10 = .ok (.getfield 44, 3) := dk_180 0 44 (dk_at dksX8_doPour_0 10 rfl rfl)
theorem dX8_doPour_13 : decode cX8_doPour 13 = .ok (.aload_n 0, 1) := dk_42 (dk_at dksX8_doPour_0 13 rfl rfl)
theorem dX8_doPour_14 : decode cX8_doPour 14 = .ok (.getfield 196, 3) := dk_180 0 196 (dk_at dksX8_doPour_0 14 rfl rfl)
theorem dX8_doPour_17 : decode cX8_doPour 17 = .ok (.iload_n 1, 1) := dk_27 (dk_at dksX8_doPour_0 17 rfl rfl)
theorem dX8_doPour_18 : decode cX8_doPour 18 = .ok (.iastore, 1) := dk_79 (dk_at dksX8_doPour_0 18 rfl rfl)
theorem dX8_doPour_19 : decode cX8_doPour 19 = .ok (.aload_n 0, 1) := dk_42 (dk_at dksX8_doPour_0 19 rfl rfl)
theorem dX8_doPour_20 : decode cX8_doPour 20 = .ok (.getfield 47, 3) := dk_180 0 47 (dk_at dksX8_doPour_0 20 rfl rfl)
theorem dX8_doPour_23 : decode cX8_doPour 23 = .ok (.aload_n 0, 1) := dk_42 (dk_at dksX8_doPour_0 23 rfl rfl)
theorem dX8_doPour_24 : decode cX8_doPour 24 = .ok (.getfield 196, 3) := dk_180 0 196 (dk_at dksX8_doPour_1 0 rfl rfl)
theorem dX8_doPour_27 : decode cX8_doPour 27 = .ok (.iload_n 2, 1) := dk_28 (dk_at dksX8_doPour_1 3 rfl rfl)
theorem dX8_doPour_28 : decode cX8_doPour 28 = .ok (.iastore, 1) := dk_79 (dk_at dksX8_doPour_1 4 rfl rfl)
theorem dX8_doPour_29 : decode cX8_doPour 29 = .ok (.aload_n 0, 1) := dk_42 (dk_at dksX8_doPour_1 5 rfl rfl)
theorem dX8_doPour_30 : decode cX8_doPour 30 = .ok (.getfield 50, 3) := dk_180 0 50 (dk_at dksX8_doPour_1 6 rfl rfl)
theorem dX8_doPour_33 : decode cX8_doPour 33 = .ok (.aload_n 0, 1) := dk_42 (dk_at dksX8_doPour_1 9 rfl rfl)
theorem dX8_doPour_34 : decode cX8_doPour 34 = .ok (.getfield 196, 3) := dk_180 0 196 (dk_at dksX8_doPour_1 10 rfl rfl)
theorem dX8_doPour_37 : decode cX8_doPour 37 = .ok (.iload_n 3, 1) := dk_29 (dk_at dksX8_doPour_1 13 rfl rfl)
theorem dX8_doPour_38 : decode cX8_doPour 38 = .ok (.iastore, 1) := dk_79 (dk_at dksX8_doPour_1 14 rfl rfl)
theorem dX8_doPour_39 : decode cX8_doPour 39 = .ok (.aload_n 0, 1) := dk_42 (dk_at dksX8_doPour_1 15 rfl rfl)
theorem dX8_doPour_40 : decode cX8_doPour 40 = .ok (.dup, 1) := dk_89 (dk_at dksX8_doPour_1 16 rfl rfl)
theorem dX8_doPour_41 : decode cX8_doPour 41 = .ok (.getfield 196, 3) := dk_180 0 196 (dk_at dksX8_doPour_1 17 rfl rfl)
theorem dX8_doPour_44 : decode cX8_doPour 44 = .ok (.iconst 1, 1) := dk_4 (dk_at dksX8_doPour_1 20 rfl rfl)
theorem dX8_doPour_45 : decode cX8_doPour 45 = .ok (.iadd, 1) := dk_96 (dk_at dksX8_doPour_1 21 rfl rfl)
theorem dX8_doPour_46 : decode cX8_doPour 46 = .ok (.putfield 196, 3) := dk_181 0 196 (dk_at dksX8_doPour_2 0 rfl rfl)
theorem dX8_doPour_49 : decode cX8_doPour 49 = .ok (.return_, 1) := dk_177 (dk_at dksX8_doPour_2 3 rfl rfl)
abbrev cX8_doOne : ByteArray := prog_17_method_16_code
def yX8_doOne : MethodName := ⟨RX8, "doOne", "(II)V"⟩
def dkwX8_doOne_4 : List UInt8 := [42, 27, 16, 13, 160, 0, 7, 28, 167, 0, 7, 42, 180, 0, 53, 181, 0, 53, 177]
abbrev dktX8_doOne_4 : List UInt8 := dkwX8_doOne_4 ++ []
def dkwX8_doOne_3 : List UInt8 := [180, 0, 38, 181, 0, 38, 42, 27, 16, 12, 160, 0, 7, 28, 167, 0, 7, 42, 180, 0, 41, 181, 0, 41]
abbrev dktX8_doOne_3 : List UInt8 := dkwX8_doOne_3 ++ dktX8_doOne_4
def dkwX8_doOne_2 : List UInt8 := [167, 0, 7, 42, 180, 0, 23, 181, 0, 23, 42, 27, 16, 11, 160, 0, 7, 28, 167, 0, 7, 42]
abbrev dktX8_doOne_2 : List UInt8 := dkwX8_doOne_2 ++ dktX8_doOne_3
def dkwX8_doOne_1 : List UInt8 := [160, 0, 7, 28, 167, 0, 7, 42, 180, 0, 207, 181, 0, 207, 42, 27, 16, 10, 160, 0, 7, 28]
abbrev dktX8_doOne_1 : List UInt8 := dkwX8_doOne_1 ++ dktX8_doOne_2
def dkwX8_doOne_0 : List UInt8 := [42, 27, 16, 6, 160, 0, 7, 28, 167, 0, 7, 42, 180, 0, 35, 181, 0, 35, 42, 27, 16, 7]
abbrev dktX8_doOne_0 : List UInt8 := dkwX8_doOne_0 ++ dktX8_doOne_1
theorem dksX8_doOne_0 : cX8_doOne.data.toList.drop 0 = dktX8_doOne_0 := by decide +kernel
theorem dksX8_doOne_1 : cX8_doOne.data.toList.drop 22 = dktX8_doOne_1 := dk_seg dksX8_doOne_0 22 rfl rfl
theorem dksX8_doOne_2 : cX8_doOne.data.toList.drop 44 = dktX8_doOne_2 := dk_seg dksX8_doOne_1 22 rfl rfl
theorem dksX8_doOne_3 : cX8_doOne.data.toList.drop 66 = dktX8_doOne_3 := dk_seg dksX8_doOne_2 22 rfl rfl
theorem dksX8_doOne_4 : cX8_doOne.data.toList.drop 90 = dktX8_doOne_4 := dk_seg dksX8_doOne_3 24 rfl rfl
theorem dX8_doOne_0 : decode cX8_doOne 0 = .ok (.aload_n 0, 1) := dk_42 (dk_at dksX8_doOne_0 0 rfl rfl)
theorem dX8_doOne_1 : decode cX8_doOne 1 = .ok (.iload_n 1, 1) := dk_27 (dk_at dksX8_doOne_0 1 rfl rfl)
theorem dX8_doOne_2 : decode cX8_doOne 2 = .ok (.bipush 6, 2) := dk_16 6 (dk_at dksX8_doOne_0 2 rfl rfl)
theorem dX8_doOne_4 : decode cX8_doOne 4 = .ok (.if_icmp .ne 7, 3) := dk_160 0 7 (dk_at dksX8_doOne_0 4 rfl rfl)
theorem dX8_doOne_7 : decode cX8_doOne 7 = .ok (.iload_n 2, 1) := dk_28 (dk_at dksX8_doOne_0 7 rfl rfl)
theorem dX8_doOne_8 : decode cX8_doOne 8 = .ok (.goto 7, 3) := dk_167 0 7 (dk_at dksX8_doOne_0 8 rfl rfl)
theorem dX8_doOne_11 : decode cX8_doOne 11 = .ok (.aload_n 0, 1) := dk_42 (dk_at dksX8_doOne_0 11 rfl rfl)
theorem dX8_doOne_12 : decode cX8_doOne 12 = .ok (.getfield 35, 3) := dk_180 0 35 (dk_at dksX8_doOne_0 12 rfl rfl)
theorem dX8_doOne_15 : decode cX8_doOne 15 = .ok (.putfield 35, 3) := dk_181 0 35 (dk_at dksX8_doOne_0 15 rfl rfl)
theorem dX8_doOne_18 : decode cX8_doOne 18 = .ok (.aload_n 0, 1) := dk_42 (dk_at dksX8_doOne_0 18 rfl rfl)
theorem dX8_doOne_19 : decode cX8_doOne 19 = .ok (.iload_n 1, 1) := dk_27 (dk_at dksX8_doOne_0 19 rfl rfl)
theorem dX8_doOne_20 : decode cX8_doOne 20 = .ok (.bipush 7, 2) := dk_16 7 (dk_at dksX8_doOne_0 20 rfl rfl)
theorem dX8_doOne_22 : decode cX8_doOne 22 = .ok (.if_icmp .ne 7, 3) := dk_160 0 7 (dk_at dksX8_doOne_1 0 rfl rfl)
theorem dX8_doOne_25 : decode cX8_doOne 25 = .ok (.iload_n 2, 1) := dk_28 (dk_at dksX8_doOne_1 3 rfl rfl)
theorem dX8_doOne_26 : decode cX8_doOne 26 = .ok (.goto 7, 3) := dk_167 0 7 (dk_at dksX8_doOne_1 4 rfl rfl)
theorem dX8_doOne_29 : decode cX8_doOne 29 = .ok (.aload_n 0, 1) := dk_42 (dk_at dksX8_doOne_1 7 rfl rfl)
theorem dX8_doOne_30 : decode cX8_doOne 30 = .ok (.getfield 207, 3) := dk_180 0 207 (dk_at dksX8_doOne_1 8 rfl rfl)
theorem dX8_doOne_33 : decode cX8_doOne 33 = .ok (.putfield 207, 3) := dk_181 0 207 (dk_at dksX8_doOne_1 11 rfl rfl)
theorem dX8_doOne_36 : decode cX8_doOne 36 = .ok (.aload_n 0, 1) := dk_42 (dk_at dksX8_doOne_1 14 rfl rfl)
theorem dX8_doOne_37 : decode cX8_doOne 37 = .ok (.iload_n 1, 1) := dk_27 (dk_at dksX8_doOne_1 15 rfl rfl)
theorem dX8_doOne_38 : decode cX8_doOne 38 = .ok (.bipush 10, 2) := dk_16 10 (dk_at dksX8_doOne_1 16 rfl rfl)
theorem dX8_doOne_40 : decode cX8_doOne 40 = .ok (.if_icmp .ne 7, 3) := dk_160 0 7 (dk_at dksX8_doOne_1 18 rfl rfl)
theorem dX8_doOne_43 : decode cX8_doOne 43 = .ok (.iload_n 2, 1) := dk_28 (dk_at dksX8_doOne_1 21 rfl rfl)
theorem dX8_doOne_44 : decode cX8_doOne 44 = .ok (.goto 7, 3) := dk_167 0 7 (dk_at dksX8_doOne_2 0 rfl rfl)
theorem dX8_doOne_47 : decode cX8_doOne 47 = .ok (.aload_n 0, 1) := dk_42 (dk_at dksX8_doOne_2 3 rfl rfl)
theorem dX8_doOne_48 : decode cX8_doOne 48 = .ok (.getfield 23, 3) := dk_180 0 23 (dk_at dksX8_doOne_2 4 rfl rfl)
theorem dX8_doOne_51 : decode cX8_doOne 51 = .ok (.putfield 23, 3) := dk_181 0 23 (dk_at dksX8_doOne_2 7 rfl rfl)
theorem dX8_doOne_54 : decode cX8_doOne 54 = .ok (.aload_n 0, 1) := dk_42 (dk_at dksX8_doOne_2 10 rfl rfl)
theorem dX8_doOne_55 : decode cX8_doOne 55 = .ok (.iload_n 1, 1) := dk_27 (dk_at dksX8_doOne_2 11 rfl rfl)
theorem dX8_doOne_56 : decode cX8_doOne 56 = .ok (.bipush 11, 2) := dk_16 11 (dk_at dksX8_doOne_2 12 rfl rfl)
theorem dX8_doOne_58 : decode cX8_doOne 58 = .ok (.if_icmp .ne 7, 3) := dk_160 0 7 (dk_at dksX8_doOne_2 14 rfl rfl)
theorem dX8_doOne_61 : decode cX8_doOne 61 = .ok (.iload_n 2, 1) := dk_28 (dk_at dksX8_doOne_2 17 rfl rfl)
theorem dX8_doOne_62 : decode cX8_doOne 62 = .ok (.goto 7, 3) := dk_167 0 7 (dk_at dksX8_doOne_2 18 rfl rfl)
theorem dX8_doOne_65 : decode cX8_doOne 65 = .ok (.aload_n 0, 1) := dk_42 (dk_at dksX8_doOne_2 21 rfl rfl)
theorem dX8_doOne_66 : decode cX8_doOne 66 = .ok (.getfield 38, 3) := dk_180 0 38 (dk_at dksX8_doOne_3 0 rfl rfl)
theorem dX8_doOne_69 : decode cX8_doOne 69 = .ok (.putfield 38, 3) := dk_181 0 38 (dk_at dksX8_doOne_3 3 rfl rfl)
theorem dX8_doOne_72 : decode cX8_doOne 72 = .ok (.aload_n 0, 1) := dk_42 (dk_at dksX8_doOne_3 6 rfl rfl)
theorem dX8_doOne_73 : decode cX8_doOne 73 = .ok (.iload_n 1, 1) := dk_27 (dk_at dksX8_doOne_3 7 rfl rfl)
theorem dX8_doOne_74 : decode cX8_doOne 74 = .ok (.bipush 12, 2) := dk_16 12 (dk_at dksX8_doOne_3 8 rfl rfl)
theorem dX8_doOne_76 : decode cX8_doOne 76 = .ok (.if_icmp .ne 7, 3) := dk_160 0 7 (dk_at dksX8_doOne_3 10 rfl rfl)
theorem dX8_doOne_79 : decode cX8_doOne 79 = .ok (.iload_n 2, 1) := dk_28 (dk_at dksX8_doOne_3 13 rfl rfl)
theorem dX8_doOne_80 : decode cX8_doOne 80 = .ok (.goto 7, 3) := dk_167 0 7 (dk_at dksX8_doOne_3 14 rfl rfl)
theorem dX8_doOne_83 : decode cX8_doOne 83 = .ok (.aload_n 0, 1) := dk_42 (dk_at dksX8_doOne_3 17 rfl rfl)
theorem dX8_doOne_84 : decode cX8_doOne 84 = .ok (.getfield 41, 3) := dk_180 0 41 (dk_at dksX8_doOne_3 18 rfl rfl)
theorem dX8_doOne_87 : decode cX8_doOne 87 = .ok (.putfield 41, 3) := dk_181 0 41 (dk_at dksX8_doOne_3 21 rfl rfl)
theorem dX8_doOne_90 : decode cX8_doOne 90 = .ok (.aload_n 0, 1) := dk_42 (dk_at dksX8_doOne_4 0 rfl rfl)
theorem dX8_doOne_91 : decode cX8_doOne 91 = .ok (.iload_n 1, 1) := dk_27 (dk_at dksX8_doOne_4 1 rfl rfl)
theorem dX8_doOne_92 : decode cX8_doOne 92 = .ok (.bipush 13, 2) := dk_16 13 (dk_at dksX8_doOne_4 2 rfl rfl)
theorem dX8_doOne_94 : decode cX8_doOne 94 = .ok (.if_icmp .ne 7, 3) := dk_160 0 7 (dk_at dksX8_doOne_4 4 rfl rfl)
theorem dX8_doOne_97 : decode cX8_doOne 97 = .ok (.iload_n 2, 1) := dk_28 (dk_at dksX8_doOne_4 7 rfl rfl)
theorem dX8_doOne_98 : decode cX8_doOne 98 = .ok (.goto 7, 3) := dk_167 0 7 (dk_at dksX8_doOne_4 8 rfl rfl)
theorem dX8_doOne_101 : decode cX8_doOne 101 = .ok (.aload_n 0, 1) := dk_42 (dk_at dksX8_doOne_4 11 rfl rfl)
theorem dX8_doOne_102 : decode cX8_doOne 102 = .ok (.getfield 53, 3) := dk_180 0 53 (dk_at dksX8_doOne_4 12 rfl rfl)
theorem dX8_doOne_105 : decode cX8_doOne 105 = .ok (.putfield 53, 3) := dk_181 0 53 (dk_at dksX8_doOne_4 15 rfl rfl)
theorem dX8_doOne_108 : decode cX8_doOne 108 = .ok (.return_, 1) := dk_177 (dk_at dksX8_doOne_4 18 rfl rfl)
abbrev cX8_stuff : ByteArray := prog_17_method_18_code
def yX8_stuff : MethodName := ⟨RX8, "stuff", "(II)I"⟩
def dkwX8_stuff_1 : List UInt8 := [167, 0, 19, 28, 4, 160, 0, 12, 42, 180, 0, 20, 27, 46, 167, 0, 5, 16, 253, 172]
abbrev dktX8_stuff_1 : List UInt8 := dkwX8_stuff_1 ++ []
def dkwX8_stuff_0 : List UInt8 := [27, 3, 5, 184, 0, 90, 154, 0, 6, 16, 254, 172, 28, 154, 0, 12, 42, 180, 0, 16, 27, 46]
abbrev dktX8_stuff_0 : List UInt8 := dkwX8_stuff_0 ++ dktX8_stuff_1
theorem dksX8_stuff_0 : cX8_stuff.data.toList.drop 0 = dktX8_stuff_0 := by decide +kernel
theorem dksX8_stuff_1 : cX8_stuff.data.toList.drop 22 = dktX8_stuff_1 := dk_seg dksX8_stuff_0 22 rfl rfl
theorem dX8_stuff_0 : decode cX8_stuff 0 = .ok (.iload_n 1, 1) := dk_27 (dk_at dksX8_stuff_0 0 rfl rfl)
theorem dX8_stuff_1 : decode cX8_stuff 1 = .ok (.iconst 0, 1) := dk_3 (dk_at dksX8_stuff_0 1 rfl rfl)
theorem dX8_stuff_2 : decode cX8_stuff 2 = .ok (.iconst 2, 1) := dk_5 (dk_at dksX8_stuff_0 2 rfl rfl)
theorem dX8_stuff_3 : decode cX8_stuff 3 = .ok (.invokestatic 90, 3) := dk_184 0 90 (dk_at dksX8_stuff_0 3 rfl rfl)
theorem dX8_stuff_6 : decode cX8_stuff 6 = .ok (.ifCond .ne 6, 3) := dk_154 0 6 (dk_at dksX8_stuff_0 6 rfl rfl)
theorem dX8_stuff_9 : decode cX8_stuff 9 = .ok (.bipush (-2), 2) := dk_16 254 (dk_at dksX8_stuff_0 9 rfl rfl)
theorem dX8_stuff_11 : decode cX8_stuff 11 = .ok (.ireturn, 1) := dk_172 (dk_at dksX8_stuff_0 11 rfl rfl)
theorem dX8_stuff_12 : decode cX8_stuff 12 = .ok (.iload_n 2, 1) := dk_28 (dk_at dksX8_stuff_0 12 rfl rfl)
theorem dX8_stuff_13 : decode cX8_stuff 13 = .ok (.ifCond .ne 12, 3) := dk_154 0 12 (dk_at dksX8_stuff_0 13 rfl rfl)
theorem dX8_stuff_16 : decode cX8_stuff 16 = .ok (.aload_n 0, 1) := dk_42 (dk_at dksX8_stuff_0 16 rfl rfl)
theorem dX8_stuff_17 : decode cX8_stuff 17 = .ok (.getfield 16, 3) := dk_180 0 16 (dk_at dksX8_stuff_0 17 rfl rfl)
theorem dX8_stuff_20 : decode cX8_stuff 20 = .ok (.iload_n 1, 1) := dk_27 (dk_at dksX8_stuff_0 20 rfl rfl)
theorem dX8_stuff_21 : decode cX8_stuff 21 = .ok (.iaload, 1) := dk_46 (dk_at dksX8_stuff_0 21 rfl rfl)
theorem dX8_stuff_22 : decode cX8_stuff 22 = .ok (.goto 19, 3) := dk_167 0 19 (dk_at dksX8_stuff_1 0 rfl rfl)
theorem dX8_stuff_25 : decode cX8_stuff 25 = .ok (.iload_n 2, 1) := dk_28 (dk_at dksX8_stuff_1 3 rfl rfl)
theorem dX8_stuff_26 : decode cX8_stuff 26 = .ok (.iconst 1, 1) := dk_4 (dk_at dksX8_stuff_1 4 rfl rfl)
theorem dX8_stuff_27 : decode cX8_stuff 27 = .ok (.if_icmp .ne 12, 3) := dk_160 0 12 (dk_at dksX8_stuff_1 5 rfl rfl)
theorem dX8_stuff_30 : decode cX8_stuff 30 = .ok (.aload_n 0, 1) := dk_42 (dk_at dksX8_stuff_1 8 rfl rfl)
theorem dX8_stuff_31 : decode cX8_stuff 31 = .ok (.getfield 20, 3) := dk_180 0 20 (dk_at dksX8_stuff_1 9 rfl rfl)
theorem dX8_stuff_34 : decode cX8_stuff 34 = .ok (.iload_n 1, 1) := dk_27 (dk_at dksX8_stuff_1 12 rfl rfl)
theorem dX8_stuff_35 : decode cX8_stuff 35 = .ok (.iaload, 1) := dk_46 (dk_at dksX8_stuff_1 13 rfl rfl)
theorem dX8_stuff_36 : decode cX8_stuff 36 = .ok (.goto 5, 3) := dk_167 0 5 (dk_at dksX8_stuff_1 14 rfl rfl)
theorem dX8_stuff_39 : decode cX8_stuff 39 = .ok (.bipush (-3), 2) := dk_16 253 (dk_at dksX8_stuff_1 17 rfl rfl)
theorem dX8_stuff_41 : decode cX8_stuff 41 = .ok (.ireturn, 1) := dk_172 (dk_at dksX8_stuff_1 19 rfl rfl)
abbrev cX8_pour : ByteArray := prog_17_method_19_code
def yX8_pour : MethodName := ⟨RX8, "pour", "(II)I"⟩
def dkwX8_pour_2 : List UInt8 := [27, 46, 167, 0, 9, 42, 180, 0, 50, 27, 46, 172]
abbrev dktX8_pour_2 : List UInt8 := dkwX8_pour_2 ++ []
def dkwX8_pour_1 : List UInt8 := [2, 172, 28, 154, 0, 12, 42, 180, 0, 44, 27, 46, 167, 0, 23, 28, 4, 160, 0, 12, 42, 180, 0, 47]
abbrev dktX8_pour_1 : List UInt8 := dkwX8_pour_1 ++ dktX8_pour_2
def dkwX8_pour_0 : List UInt8 := [27, 155, 0, 12, 28, 3, 5, 184, 0, 90, 154, 0, 6, 16, 253, 172, 27, 42, 180, 0, 196, 161, 0, 5]
abbrev dktX8_pour_0 : List UInt8 := dkwX8_pour_0 ++ dktX8_pour_1
theorem dksX8_pour_0 : cX8_pour.data.toList.drop 0 = dktX8_pour_0 := by decide +kernel
theorem dksX8_pour_1 : cX8_pour.data.toList.drop 24 = dktX8_pour_1 := dk_seg dksX8_pour_0 24 rfl rfl
theorem dksX8_pour_2 : cX8_pour.data.toList.drop 48 = dktX8_pour_2 := dk_seg dksX8_pour_1 24 rfl rfl
theorem dX8_pour_0 : decode cX8_pour 0 = .ok (.iload_n 1, 1) := dk_27 (dk_at dksX8_pour_0 0 rfl rfl)
theorem dX8_pour_1 : decode cX8_pour 1 = .ok (.ifCond .lt 12, 3) := dk_155 0 12 (dk_at dksX8_pour_0 1 rfl rfl)
theorem dX8_pour_4 : decode cX8_pour 4 = .ok (.iload_n 2, 1) := dk_28 (dk_at dksX8_pour_0 4 rfl rfl)
theorem dX8_pour_5 : decode cX8_pour 5 = .ok (.iconst 0, 1) := dk_3 (dk_at dksX8_pour_0 5 rfl rfl)
theorem dX8_pour_6 : decode cX8_pour 6 = .ok (.iconst 2, 1) := dk_5 (dk_at dksX8_pour_0 6 rfl rfl)
theorem dX8_pour_7 : decode cX8_pour 7 = .ok (.invokestatic 90, 3) := dk_184 0 90 (dk_at dksX8_pour_0 7 rfl rfl)
theorem dX8_pour_10 : decode cX8_pour 10 = .ok (.ifCond .ne 6, 3) := dk_154 0 6 (dk_at dksX8_pour_0 10 rfl rfl)
theorem dX8_pour_13 : decode cX8_pour 13 = .ok (.bipush (-3), 2) := dk_16 253 (dk_at dksX8_pour_0 13 rfl rfl)
theorem dX8_pour_15 : decode cX8_pour 15 = .ok (.ireturn, 1) := dk_172 (dk_at dksX8_pour_0 15 rfl rfl)
theorem dX8_pour_16 : decode cX8_pour 16 = .ok (.iload_n 1, 1) := dk_27 (dk_at dksX8_pour_0 16 rfl rfl)
theorem dX8_pour_17 : decode cX8_pour 17 = .ok (.aload_n 0, 1) := dk_42 (dk_at dksX8_pour_0 17 rfl rfl)
theorem dX8_pour_18 : decode cX8_pour 18 = .ok (.getfield 196, 3) := dk_180 0 196 (dk_at dksX8_pour_0 18 rfl rfl)
theorem dX8_pour_21 : decode cX8_pour 21 = .ok (.if_icmp .lt 5, 3) := dk_161 0 5 (dk_at dksX8_pour_0 21 rfl rfl)
theorem dX8_pour_24 : decode cX8_pour 24 = .ok (.iconst (-1), 1) := dk_2 (dk_at dksX8_pour_1 0 rfl rfl)
theorem dX8_pour_25 : decode cX8_pour 25 = .ok (.ireturn, 1) := dk_172 (dk_at dksX8_pour_1 1 rfl rfl)
theorem dX8_pour_26 : decode cX8_pour 26 = .ok (.iload_n 2, 1) := dk_28 (dk_at dksX8_pour_1 2 rfl rfl)
theorem dX8_pour_27 : decode cX8_pour 27 = .ok (.ifCond .ne 12, 3) := dk_154 0 12 (dk_at dksX8_pour_1 3 rfl rfl)
theorem dX8_pour_30 : decode cX8_pour 30 = .ok (.aload_n 0, 1) := dk_42 (dk_at dksX8_pour_1 6 rfl rfl)
theorem dX8_pour_31 : decode cX8_pour 31 = .ok (.getfield 44, 3) := dk_180 0 44 (dk_at dksX8_pour_1 7 rfl rfl)
theorem dX8_pour_34 : decode cX8_pour 34 = .ok (.iload_n 1, 1) := dk_27 (dk_at dksX8_pour_1 10 rfl rfl)
theorem dX8_pour_35 : decode cX8_pour 35 = .ok (.iaload, 1) := dk_46 (dk_at dksX8_pour_1 11 rfl rfl)
theorem dX8_pour_36 : decode cX8_pour 36 = .ok (.goto 23, 3) := dk_167 0 23 (dk_at dksX8_pour_1 12 rfl rfl)
theorem dX8_pour_39 : decode cX8_pour 39 = .ok (.iload_n 2, 1) := dk_28 (dk_at dksX8_pour_1 15 rfl rfl)
theorem dX8_pour_40 : decode cX8_pour 40 = .ok (.iconst 1, 1) := dk_4 (dk_at dksX8_pour_1 16 rfl rfl)
theorem dX8_pour_41 : decode cX8_pour 41 = .ok (.if_icmp .ne 12, 3) := dk_160 0 12 (dk_at dksX8_pour_1 17 rfl rfl)
theorem dX8_pour_44 : decode cX8_pour 44 = .ok (.aload_n 0, 1) := dk_42 (dk_at dksX8_pour_1 20 rfl rfl)
theorem dX8_pour_45 : decode cX8_pour 45 = .ok (.getfield 47, 3) := dk_180 0 47 (dk_at dksX8_pour_1 21 rfl rfl)
theorem dX8_pour_48 : decode cX8_pour 48 = .ok (.iload_n 1, 1) := dk_27 (dk_at dksX8_pour_2 0 rfl rfl)
theorem dX8_pour_49 : decode cX8_pour 49 = .ok (.iaload, 1) := dk_46 (dk_at dksX8_pour_2 1 rfl rfl)
theorem dX8_pour_50 : decode cX8_pour 50 = .ok (.goto 9, 3) := dk_167 0 9 (dk_at dksX8_pour_2 2 rfl rfl)
theorem dX8_pour_53 : decode cX8_pour 53 = .ok (.aload_n 0, 1) := dk_42 (dk_at dksX8_pour_2 5 rfl rfl)
theorem dX8_pour_54 : decode cX8_pour 54 = .ok (.getfield 50, 3) := dk_180 0 50 (dk_at dksX8_pour_2 6 rfl rfl)
theorem dX8_pour_57 : decode cX8_pour 57 = .ok (.iload_n 1, 1) := dk_27 (dk_at dksX8_pour_2 9 rfl rfl)
theorem dX8_pour_58 : decode cX8_pour 58 = .ok (.iaload, 1) := dk_46 (dk_at dksX8_pour_2 10 rfl rfl)
theorem dX8_pour_59 : decode cX8_pour 59 = .ok (.ireturn, 1) := dk_172 (dk_at dksX8_pour_2 11 rfl rfl)
abbrev cX8_brew : ByteArray := prog_17_method_30_code
def yX8_brew : MethodName := ⟨RX8, "brew", "(I)I"⟩
def dkwX8_brew_0 : List UInt8 := [27, 4, 16, 60, 184, 0, 90, 153, 0, 11, 42, 27, 182, 0, 241, 167, 0, 5, 16, 253, 172]
abbrev dktX8_brew_0 : List UInt8 := dkwX8_brew_0 ++ []
theorem dksX8_brew_0 : cX8_brew.data.toList.drop 0 = dktX8_brew_0 := by decide +kernel
theorem dX8_brew_0 : decode cX8_brew 0 = .ok (.iload_n 1, 1) := dk_27 (dk_at dksX8_brew_0 0 rfl rfl)
theorem dX8_brew_1 : decode cX8_brew 1 = .ok (.iconst 1, 1) := dk_4 (dk_at dksX8_brew_0 1 rfl rfl)
theorem dX8_brew_2 : decode cX8_brew 2 = .ok (.bipush 60, 2) := dk_16 60 (dk_at dksX8_brew_0 2 rfl rfl)
theorem dX8_brew_4 : decode cX8_brew 4 = .ok (.invokestatic 90, 3) := dk_184 0 90 (dk_at dksX8_brew_0 4 rfl rfl)
theorem dX8_brew_7 : decode cX8_brew 7 = .ok (.ifCond .eq 11, 3) := dk_153 0 11 (dk_at dksX8_brew_0 7 rfl rfl)
theorem dX8_brew_10 : decode cX8_brew 10 = .ok (.aload_n 0, 1) := dk_42 (dk_at dksX8_brew_0 10 rfl rfl)
theorem dX8_brew_11 : decode cX8_brew 11 = .ok (.iload_n 1, 1) := dk_27 (dk_at dksX8_brew_0 11 rfl rfl)
theorem dX8_brew_12 : decode cX8_brew 12 = .ok (.invokevirtual 241, 3) := dk_182 0 241 (dk_at dksX8_brew_0 12 rfl rfl)
theorem dX8_brew_15 : decode cX8_brew 15 = .ok (.goto 5, 3) := dk_167 0 5 (dk_at dksX8_brew_0 15 rfl rfl)
theorem dX8_brew_18 : decode cX8_brew 18 = .ok (.bipush (-3), 2) := dk_16 253 (dk_at dksX8_brew_0 18 rfl rfl)
theorem dX8_brew_20 : decode cX8_brew 20 = .ok (.ireturn, 1) := dk_172 (dk_at dksX8_brew_0 20 rfl rfl)
abbrev cX8_goOn : ByteArray := prog_17_method_29_code
def yX8_goOn : MethodName := ⟨RX8, "goOn", "(I)I"⟩
def dkwX8_goOn_1 : List UInt8 := [182, 0, 238, 132, 2, 1, 167, 255, 229, 28, 172]
abbrev dktX8_goOn_1 : List UInt8 := dkwX8_goOn_1 ++ []
def dkwX8_goOn_0 : List UInt8 := [3, 61, 28, 27, 162, 0, 28, 42, 180, 0, 65, 17, 0, 132, 46, 42, 180, 0, 53, 162, 0, 13, 42]
abbrev dktX8_goOn_0 : List UInt8 := dkwX8_goOn_0 ++ dktX8_goOn_1
theorem dksX8_goOn_0 : cX8_goOn.data.toList.drop 0 = dktX8_goOn_0 := by decide +kernel
theorem dksX8_goOn_1 : cX8_goOn.data.toList.drop 23 = dktX8_goOn_1 := dk_seg dksX8_goOn_0 23 rfl rfl
theorem dX8_goOn_0 : decode cX8_goOn 0 = .ok (.iconst 0, 1) := dk_3 (dk_at dksX8_goOn_0 0 rfl rfl)
theorem dX8_goOn_1 : decode cX8_goOn 1 = .ok (.istore_n 2, 1) := dk_61 (dk_at dksX8_goOn_0 1 rfl rfl)
theorem dX8_goOn_2 : decode cX8_goOn 2 = .ok (.iload_n 2, 1) := dk_28 (dk_at dksX8_goOn_0 2 rfl rfl)
theorem dX8_goOn_3 : decode cX8_goOn 3 = .ok (.iload_n 1, 1) := dk_27 (dk_at dksX8_goOn_0 3 rfl rfl)
theorem dX8_goOn_4 : decode cX8_goOn 4 = .ok (.if_icmp .ge 28, 3) := dk_162 0 28 (dk_at dksX8_goOn_0 4 rfl rfl)
theorem dX8_goOn_7 : decode cX8_goOn 7 = .ok (.aload_n 0, 1) := dk_42 (dk_at dksX8_goOn_0 7 rfl rfl)
theorem dX8_goOn_8 : decode cX8_goOn 8 = .ok (.getfield 65, 3) := dk_180 0 65 (dk_at dksX8_goOn_0 8 rfl rfl)
theorem dX8_goOn_11 : decode cX8_goOn 11 = .ok (.sipush 132, 3) := dk_17 0 132 (dk_at dksX8_goOn_0 11 rfl rfl)
theorem dX8_goOn_14 : decode cX8_goOn 14 = .ok (.iaload, 1) := dk_46 (dk_at dksX8_goOn_0 14 rfl rfl)
theorem dX8_goOn_15 : decode cX8_goOn 15 = .ok (.aload_n 0, 1) := dk_42 (dk_at dksX8_goOn_0 15 rfl rfl)
theorem dX8_goOn_16 : decode cX8_goOn 16 = .ok (.getfield 53, 3) := dk_180 0 53 (dk_at dksX8_goOn_0 16 rfl rfl)
theorem dX8_goOn_19 : decode cX8_goOn 19 = .ok (.if_icmp .ge 13, 3) := dk_162 0 13 (dk_at dksX8_goOn_0 19 rfl rfl)
theorem dX8_goOn_22 : decode cX8_goOn 22 = .ok (.aload_n 0, 1) := dk_42 (dk_at dksX8_goOn_0 22 rfl rfl)
theorem dX8_goOn_23 : decode cX8_goOn 23 = .ok (.invokevirtual 238, 3) := dk_182 0 238 (dk_at dksX8_goOn_1 0 rfl rfl)
theorem dX8_goOn_26 : decode cX8_goOn 26 = .ok (.iinc 2 1, 3) := dk_132 2 1 (dk_at dksX8_goOn_1 3 rfl rfl)
theorem dX8_goOn_29 : decode cX8_goOn 29 = .ok (.goto (-27), 3) := dk_167 255 229 (dk_at dksX8_goOn_1 6 rfl rfl)
theorem dX8_goOn_32 : decode cX8_goOn 32 = .ok (.iload_n 2, 1) := dk_28 (dk_at dksX8_goOn_1 9 rfl rfl)
theorem dX8_goOn_33 : decode cX8_goOn 33 = .ok (.ireturn, 1) := dk_172 (dk_at dksX8_goOn_1 10 rfl rfl)
abbrev cX8_goTick : ByteArray := prog_17_method_28_code
def yX8_goTick : MethodName := ⟨RX8, "goTick", "()V"⟩
def dkwX8_goTick_11 : List UInt8 := [180, 0, 65, 17, 0, 132, 92, 46, 4, 96, 79, 177]
abbrev dktX8_goTick_11 : List UInt8 := dkwX8_goTick_11 ++ []
def dkwX8_goTick_10 : List UInt8 := [180, 0, 207, 164, 0, 7, 4, 167, 0, 4, 3, 96, 79, 132, 1, 1, 167, 255, 157, 42, 182, 0, 231, 42]
abbrev dktX8_goTick_10 : List UInt8 := dkwX8_goTick_10 ++ dktX8_goTick_11
def dkwX8_goTick_9 : List UInt8 := [182, 0, 219, 42, 180, 0, 65, 16, 16, 27, 96, 92, 46, 42, 180, 0, 207, 158, 0, 15, 28, 42]
abbrev dktX8_goTick_9 : List UInt8 := dkwX8_goTick_9 ++ dktX8_goTick_10
def dkwX8_goTick_8 : List UInt8 := [61, 42, 27, 27, 7, 108, 42, 180, 0, 13, 4, 100, 160, 0, 7, 2, 167, 0, 6, 27, 7, 96, 28]
abbrev dktX8_goTick_8 : List UInt8 := dkwX8_goTick_8 ++ dktX8_goTick_9
def dkwX8_goTick_7 : List UInt8 := [42, 180, 0, 65, 27, 46, 42, 27, 42, 180, 0, 65, 16, 16, 27, 96, 46, 182, 0, 234, 104, 16, 100, 108]
abbrev dktX8_goTick_7 : List UInt8 := dkwX8_goTick_7 ++ dktX8_goTick_8
def dkwX8_goTick_6 : List UInt8 := [42, 182, 0, 231, 42, 182, 0, 225, 3, 60, 27, 16, 16, 162, 0, 99, 42, 27, 182, 0, 214, 153, 0, 85]
abbrev dktX8_goTick_6 : List UInt8 := dkwX8_goTick_6 ++ dktX8_goTick_7
def dkwX8_goTick_5 : List UInt8 := [182, 0, 228, 27, 7, 112, 6, 162, 0, 11, 42, 27, 27, 4, 96, 182, 0, 228, 132, 1, 1, 167, 255, 210]
abbrev dktX8_goTick_5 : List UInt8 := dkwX8_goTick_5 ++ dktX8_goTick_6
def dkwX8_goTick_4 : List UInt8 := [16, 16, 162, 0, 46, 42, 27, 182, 0, 214, 153, 0, 32, 27, 7, 112, 158, 0, 11, 42, 27, 27, 4, 100]
abbrev dktX8_goTick_4 : List UInt8 := dkwX8_goTick_4 ++ dktX8_goTick_5
def dkwX8_goTick_3 : List UInt8 := [182, 0, 214, 153, 0, 8, 42, 27, 182, 0, 222, 132, 1, 1, 167, 255, 234, 42, 182, 0, 225, 3, 60, 27]
abbrev dktX8_goTick_3 : List UInt8 := dkwX8_goTick_3 ++ dktX8_goTick_4
def dkwX8_goTick_2 : List UInt8 := [167, 0, 4, 3, 96, 79, 132, 1, 1, 167, 255, 204, 3, 60, 27, 16, 16, 162, 0, 22, 42, 27]
abbrev dktX8_goTick_2 : List UInt8 := dkwX8_goTick_2 ++ dktX8_goTick_3
def dkwX8_goTick_1 : List UInt8 := [180, 0, 44, 27, 46, 42, 180, 0, 65, 17, 0, 132, 46, 160, 0, 12, 42, 180, 0, 50, 27, 46]
abbrev dktX8_goTick_1 : List UInt8 := dkwX8_goTick_1 ++ dktX8_goTick_2
def dkwX8_goTick_0 : List UInt8 := [3, 60, 27, 42, 180, 0, 196, 162, 0, 50, 42, 180, 0, 65, 42, 180, 0, 47, 27, 46, 92, 46, 42]
abbrev dktX8_goTick_0 : List UInt8 := dkwX8_goTick_0 ++ dktX8_goTick_1
theorem dksX8_goTick_0 : cX8_goTick.data.toList.drop 0 = dktX8_goTick_0 := by decide +kernel
theorem dksX8_goTick_1 : cX8_goTick.data.toList.drop 23 = dktX8_goTick_1 := dk_seg dksX8_goTick_0 23 rfl rfl
theorem dksX8_goTick_2 : cX8_goTick.data.toList.drop 45 = dktX8_goTick_2 := dk_seg dksX8_goTick_1 22 rfl rfl
theorem dksX8_goTick_3 : cX8_goTick.data.toList.drop 67 = dktX8_goTick_3 := dk_seg dksX8_goTick_2 22 rfl rfl
theorem dksX8_goTick_4 : cX8_goTick.data.toList.drop 91 = dktX8_goTick_4 := dk_seg dksX8_goTick_3 24 rfl rfl
theorem dksX8_goTick_5 : cX8_goTick.data.toList.drop 115 = dktX8_goTick_5 := dk_seg dksX8_goTick_4 24 rfl rfl
theorem dksX8_goTick_6 : cX8_goTick.data.toList.drop 139 = dktX8_goTick_6 := dk_seg dksX8_goTick_5 24 rfl rfl
theorem dksX8_goTick_7 : cX8_goTick.data.toList.drop 163 = dktX8_goTick_7 := dk_seg dksX8_goTick_6 24 rfl rfl
theorem dksX8_goTick_8 : cX8_goTick.data.toList.drop 187 = dktX8_goTick_8 := dk_seg dksX8_goTick_7 24 rfl rfl
theorem dksX8_goTick_9 : cX8_goTick.data.toList.drop 210 = dktX8_goTick_9 := dk_seg dksX8_goTick_8 23 rfl rfl
theorem dksX8_goTick_10 : cX8_goTick.data.toList.drop 232 = dktX8_goTick_10 := dk_seg dksX8_goTick_9 22 rfl rfl
theorem dksX8_goTick_11 : cX8_goTick.data.toList.drop 256 = dktX8_goTick_11 := dk_seg dksX8_goTick_10 24 rfl rfl
theorem dX8_goTick_0 : decode cX8_goTick 0 = .ok (.iconst 0, 1) := dk_3 (dk_at dksX8_goTick_0 0 rfl rfl)
theorem dX8_goTick_1 : decode cX8_goTick 1 = .ok (.istore_n 1, 1) := dk_60 (dk_at dksX8_goTick_0 1 rfl rfl)
theorem dX8_goTick_2 : decode cX8_goTick 2 = .ok (.iload_n 1, 1) := dk_27 (dk_at dksX8_goTick_0 2 rfl rfl)
theorem dX8_goTick_3 : decode cX8_goTick 3 = .ok (.aload_n 0, 1) := dk_42 (dk_at dksX8_goTick_0 3 rfl rfl)
theorem dX8_goTick_4 : decode cX8_goTick 4 = .ok (.getfield 196, 3) := dk_180 0 196 (dk_at dksX8_goTick_0 4 rfl rfl)
theorem dX8_goTick_7 : decode cX8_goTick 7 = .ok (.if_icmp .ge 50, 3) := dk_162 0 50 (dk_at dksX8_goTick_0 7 rfl rfl)
theorem dX8_goTick_10 : decode cX8_goTick 10 = .ok (.aload_n 0, 1) := dk_42 (dk_at dksX8_goTick_0 10 rfl rfl)
theorem dX8_goTick_11 : decode cX8_goTick 11 = .ok (.getfield 65, 3) := dk_180 0 65 (dk_at dksX8_goTick_0 11 rfl rfl)
theorem dX8_goTick_14 : decode cX8_goTick 14 = .ok (.aload_n 0, 1) := dk_42 (dk_at dksX8_goTick_0 14 rfl rfl)
theorem dX8_goTick_15 : decode cX8_goTick 15 = .ok (.getfield 47, 3) := dk_180 0 47 (dk_at dksX8_goTick_0 15 rfl rfl)
theorem dX8_goTick_18 : decode cX8_goTick 18 = .ok (.iload_n 1, 1) := dk_27 (dk_at dksX8_goTick_0 18 rfl rfl)
theorem dX8_goTick_19 : decode cX8_goTick 19 = .ok (.iaload, 1) := dk_46 (dk_at dksX8_goTick_0 19 rfl rfl)
theorem dX8_goTick_20 : decode cX8_goTick 20 = .ok (.dup2, 1) := dk_92 (dk_at dksX8_goTick_0 20 rfl rfl)
theorem dX8_goTick_21 : decode cX8_goTick 21 = .ok (.iaload, 1) := dk_46 (dk_at dksX8_goTick_0 21 rfl rfl)
theorem dX8_goTick_22 : decode cX8_goTick 22 = .ok (.aload_n 0, 1) := dk_42 (dk_at dksX8_goTick_0 22 rfl rfl)
theorem dX8_goTick_23 : decode cX8_goTick 23 = .ok (.getfield 44, 3) := dk_180 0 44 (dk_at dksX8_goTick_1 0 rfl rfl)
theorem dX8_goTick_26 : decode cX8_goTick 26 = .ok (.iload_n 1, 1) := dk_27 (dk_at dksX8_goTick_1 3 rfl rfl)
theorem dX8_goTick_27 : decode cX8_goTick 27 = .ok (.iaload, 1) := dk_46 (dk_at dksX8_goTick_1 4 rfl rfl)
theorem dX8_goTick_28 : decode cX8_goTick 28 = .ok (.aload_n 0, 1) := dk_42 (dk_at dksX8_goTick_1 5 rfl rfl)
theorem dX8_goTick_29 : decode cX8_goTick 29 = .ok (.getfield 65, 3) := dk_180 0 65 (dk_at dksX8_goTick_1 6 rfl rfl)
theorem dX8_goTick_32 : decode cX8_goTick 32 = .ok (.sipush 132, 3) := dk_17 0 132 (dk_at dksX8_goTick_1 9 rfl rfl)
theorem dX8_goTick_35 : decode cX8_goTick 35 = .ok (.iaload, 1) := dk_46 (dk_at dksX8_goTick_1 12 rfl rfl)
theorem dX8_goTick_36 : decode cX8_goTick 36 = .ok (.if_icmp .ne 12, 3) := dk_160 0 12 (dk_at dksX8_goTick_1 13 rfl rfl)
theorem dX8_goTick_39 : decode cX8_goTick 39 = .ok (.aload_n 0, 1) := dk_42 (dk_at dksX8_goTick_1 16 rfl rfl)
theorem dX8_goTick_40 : decode cX8_goTick 40 = .ok (.getfield 50, 3) := dk_180 0 50 (dk_at dksX8_goTick_1 17 rfl rfl)
theorem dX8_goTick_43 : decode cX8_goTick 43 = .ok (.iload_n 1, 1) := dk_27 (dk_at dksX8_goTick_1 20 rfl rfl)
theorem dX8_goTick_44 : decode cX8_goTick 44 = .ok (.iaload, 1) := dk_46 (dk_at dksX8_goTick_1 21 rfl rfl)
theorem dX8_goTick_45 : decode cX8_goTick 45 = .ok (.goto 4, 3) := dk_167 0 4 (dk_at dksX8_goTick_2 0 rfl rfl)
theorem dX8_goTick_48 : decode cX8_goTick 48 = .ok (.iconst 0, 1) := dk_3 (dk_at dksX8_goTick_2 3 rfl rfl)
theorem dX8_goTick_49 : decode cX8_goTick 49 = .ok (.iadd, 1) := dk_96 (dk_at dksX8_goTick_2 4 rfl rfl)
theorem dX8_goTick_50 : decode cX8_goTick 50 = .ok (.iastore, 1) := dk_79 (dk_at dksX8_goTick_2 5 rfl rfl)
theorem dX8_goTick_51 : decode cX8_goTick 51 = .ok (.iinc 1 1, 3) := dk_132 1 1 (dk_at dksX8_goTick_2 6 rfl rfl)
theorem dX8_goTick_54 : decode cX8_goTick 54 = .ok (.goto (-52), 3) := dk_167 255 204 (dk_at dksX8_goTick_2 9 rfl rfl)
theorem dX8_goTick_57 : decode cX8_goTick 57 = .ok (.iconst 0, 1) := dk_3 (dk_at dksX8_goTick_2 12 rfl rfl)
theorem dX8_goTick_58 : decode cX8_goTick 58 = .ok (.istore_n 1, 1) := dk_60 (dk_at dksX8_goTick_2 13 rfl rfl)
theorem dX8_goTick_59 : decode cX8_goTick 59 = .ok (.iload_n 1, 1) := dk_27 (dk_at dksX8_goTick_2 14 rfl rfl)
theorem dX8_goTick_60 : decode cX8_goTick 60 = .ok (.bipush 16, 2) := dk_16 16 (dk_at dksX8_goTick_2 15 rfl rfl)
theorem dX8_goTick_62 : decode cX8_goTick 62 = .ok (.if_icmp .ge 22, 3) := dk_162 0 22 (dk_at dksX8_goTick_2 17 rfl rfl)
theorem dX8_goTick_65 : decode cX8_goTick 65 = .ok (.aload_n 0, 1) := dk_42 (dk_at dksX8_goTick_2 20 rfl rfl)
theorem dX8_goTick_66 : decode cX8_goTick 66 = .ok (.iload_n 1, 1) := dk_27 (dk_at dksX8_goTick_2 21 rfl rfl)
theorem dX8_goTick_67 : decode cX8_goTick 67 = .ok (.invokevirtual 214, 3) := dk_182 0 214 (dk_at dksX8_goTick_3 0 rfl rfl)
theorem dX8_goTick_70 : decode cX8_goTick 70 = .ok (.ifCond .eq 8, 3) := dk_153 0 8 (dk_at dksX8_goTick_3 3 rfl rfl)
theorem dX8_goTick_73 : decode cX8_goTick 73 = .ok (.aload_n 0, 1) := dk_42 (dk_at dksX8_goTick_3 6 rfl rfl)
theorem dX8_goTick_74 : decode cX8_goTick 74 = .ok (.iload_n 1, 1) := dk_27 (dk_at dksX8_goTick_3 7 rfl rfl)
theorem dX8_goTick_75 : decode cX8_goTick 75 = .ok (.invokevirtual 222, 3) := dk_182 0 222 (dk_at dksX8_goTick_3 8 rfl rfl)
theorem dX8_goTick_78 : decode cX8_goTick 78 = .ok (.iinc 1 1, 3) := dk_132 1 1 (dk_at dksX8_goTick_3 11 rfl rfl)
theorem dX8_goTick_81 : decode cX8_goTick 81 = .ok (.goto (-22), 3) := dk_167 255 234 (dk_at dksX8_goTick_3 14 rfl rfl)
theorem dX8_goTick_84 : decode cX8_goTick 84 = .ok (.aload_n 0, 1) := dk_42 (dk_at dksX8_goTick_3 17 rfl rfl)
theorem dX8_goTick_85 : decode cX8_goTick 85 = .ok (.invokevirtual 225, 3) := dk_182 0 225 (dk_at dksX8_goTick_3 18 rfl rfl)
theorem dX8_goTick_88 : decode cX8_goTick 88 = .ok (.iconst 0, 1) := dk_3 (dk_at dksX8_goTick_3 21 rfl rfl)
theorem dX8_goTick_89 : decode cX8_goTick 89 = .ok (.istore_n 1, 1) := dk_60 (dk_at dksX8_goTick_3 22 rfl rfl)
theorem dX8_goTick_90 : decode cX8_goTick 90 = .ok (.iload_n 1, 1) := dk_27 (dk_at dksX8_goTick_3 23 rfl rfl)
theorem dX8_goTick_91 : decode cX8_goTick 91 = .ok (.bipush 16, 2) := dk_16 16 (dk_at dksX8_goTick_4 0 rfl rfl)
theorem dX8_goTick_93 : decode cX8_goTick 93 = .ok (.if_icmp .ge 46, 3) := dk_162 0 46 (dk_at dksX8_goTick_4 2 rfl rfl)
theorem dX8_goTick_96 : decode cX8_goTick 96 = .ok (.aload_n 0, 1) := dk_42 (dk_at dksX8_goTick_4 5 rfl rfl)
theorem dX8_goTick_97 : decode cX8_goTick 97 = .ok (.iload_n 1, 1) := dk_27 (dk_at dksX8_goTick_4 6 rfl rfl)
theorem dX8_goTick_98 : decode cX8_goTick 98 = .ok (.invokevirtual 214, 3) := dk_182 0 214 (dk_at dksX8_goTick_4 7 rfl rfl)
theorem dX8_goTick_101 : decode cX8_goTick 101 = .ok (.ifCond .eq 32, 3) := dk_153 0 32 (dk_at dksX8_goTick_4 10 rfl rfl)
theorem dX8_goTick_104 : decode cX8_goTick 104 = .ok (.iload_n 1, 1) := dk_27 (dk_at dksX8_goTick_4 13 rfl rfl)
theorem dX8_goTick_105 : decode cX8_goTick 105 = .ok (.iconst 4, 1) := dk_7 (dk_at dksX8_goTick_4 14 rfl rfl)
theorem dX8_goTick_106 : decode cX8_goTick 106 = .ok (.irem, 1) := dk_112 (dk_at dksX8_goTick_4 15 rfl rfl)
theorem dX8_goTick_107 : decode cX8_goTick 107 = .ok (.ifCond .le 11, 3) := dk_158 0 11 (dk_at dksX8_goTick_4 16 rfl rfl)
theorem dX8_goTick_110 : decode cX8_goTick 110 = .ok (.aload_n 0, 1) := dk_42 (dk_at dksX8_goTick_4 19 rfl rfl)
theorem dX8_goTick_111 : decode cX8_goTick 111 = .ok (.iload_n 1, 1) := dk_27 (dk_at dksX8_goTick_4 20 rfl rfl)
theorem dX8_goTick_112 : decode cX8_goTick 112 = .ok (.iload_n 1, 1) := dk_27 (dk_at dksX8_goTick_4 21 rfl rfl)
theorem dX8_goTick_113 : decode cX8_goTick 113 = .ok (.iconst 1, 1) := dk_4 (dk_at dksX8_goTick_4 22 rfl rfl)
theorem dX8_goTick_114 : decode cX8_goTick 114 = .ok (.isub, 1) := dk_100 (dk_at dksX8_goTick_4 23 rfl rfl)
theorem dX8_goTick_115 : decode cX8_goTick 115 = .ok (.invokevirtual 228, 3) := dk_182 0 228 (dk_at dksX8_goTick_5 0 rfl rfl)
theorem dX8_goTick_118 : decode cX8_goTick 118 = .ok (.iload_n 1, 1) := dk_27 (dk_at dksX8_goTick_5 3 rfl rfl)
theorem dX8_goTick_119 : decode cX8_goTick 119 = .ok (.iconst 4, 1) := dk_7 (dk_at dksX8_goTick_5 4 rfl rfl)
theorem dX8_goTick_120 : decode cX8_goTick 120 = .ok (.irem, 1) := dk_112 (dk_at dksX8_goTick_5 5 rfl rfl)
theorem dX8_goTick_121 : decode cX8_goTick 121 = .ok (.iconst 3, 1) := dk_6 (dk_at dksX8_goTick_5 6 rfl rfl)
theorem dX8_goTick_122 : decode cX8_goTick 122 = .ok (.if_icmp .ge 11, 3) := dk_162 0 11 (dk_at dksX8_goTick_5 7 rfl rfl)
theorem dX8_goTick_125 : decode cX8_goTick 125 = .ok (.aload_n 0, 1) := dk_42 (dk_at dksX8_goTick_5 10 rfl rfl)
theorem dX8_goTick_126 : decode cX8_goTick 126 = .ok (.iload_n 1, 1) := dk_27 (dk_at dksX8_goTick_5 11 rfl rfl)
theorem dX8_goTick_127 : decode cX8_goTick 127 = .ok (.iload_n 1, 1) := dk_27 (dk_at dksX8_goTick_5 12 rfl rfl)
theorem dX8_goTick_128 : decode cX8_goTick 128 = .ok (.iconst 1, 1) := dk_4 (dk_at dksX8_goTick_5 13 rfl rfl)
theorem dX8_goTick_129 : decode cX8_goTick 129 = .ok (.iadd, 1) := dk_96 (dk_at dksX8_goTick_5 14 rfl rfl)
theorem dX8_goTick_130 : decode cX8_goTick 130 = .ok (.invokevirtual 228, 3) := dk_182 0 228 (dk_at dksX8_goTick_5 15 rfl rfl)
theorem dX8_goTick_133 : decode cX8_goTick 133 = .ok (.iinc 1 1, 3) := dk_132 1 1 (dk_at dksX8_goTick_5 18 rfl rfl)
theorem dX8_goTick_136 : decode cX8_goTick 136 = .ok (.goto (-46), 3) := dk_167 255 210 (dk_at dksX8_goTick_5 21 rfl rfl)
theorem dX8_goTick_139 : decode cX8_goTick 139 = .ok (.aload_n 0, 1) := dk_42 (dk_at dksX8_goTick_6 0 rfl rfl)
theorem dX8_goTick_140 : decode cX8_goTick 140 = .ok (.invokevirtual 231, 3) := dk_182 0 231 (dk_at dksX8_goTick_6 1 rfl rfl)
theorem dX8_goTick_143 : decode cX8_goTick 143 = .ok (.aload_n 0, 1) := dk_42 (dk_at dksX8_goTick_6 4 rfl rfl)
theorem dX8_goTick_144 : decode cX8_goTick 144 = .ok (.invokevirtual 225, 3) := dk_182 0 225 (dk_at dksX8_goTick_6 5 rfl rfl)
theorem dX8_goTick_147 : decode cX8_goTick 147 = .ok (.iconst 0, 1) := dk_3 (dk_at dksX8_goTick_6 8 rfl rfl)
theorem dX8_goTick_148 : decode cX8_goTick 148 = .ok (.istore_n 1, 1) := dk_60 (dk_at dksX8_goTick_6 9 rfl rfl)
theorem dX8_goTick_149 : decode cX8_goTick 149 = .ok (.iload_n 1, 1) := dk_27 (dk_at dksX8_goTick_6 10 rfl rfl)
theorem dX8_goTick_150 : decode cX8_goTick 150 = .ok (.bipush 16, 2) := dk_16 16 (dk_at dksX8_goTick_6 11 rfl rfl)
theorem dX8_goTick_152 : decode cX8_goTick 152 = .ok (.if_icmp .ge 99, 3) := dk_162 0 99 (dk_at dksX8_goTick_6 13 rfl rfl)
theorem dX8_goTick_155 : decode cX8_goTick 155 = .ok (.aload_n 0, 1) := dk_42 (dk_at dksX8_goTick_6 16 rfl rfl)
theorem dX8_goTick_156 : decode cX8_goTick 156 = .ok (.iload_n 1, 1) := dk_27 (dk_at dksX8_goTick_6 17 rfl rfl)
theorem dX8_goTick_157 : decode cX8_goTick 157 = .ok (.invokevirtual 214, 3) := dk_182 0 214 (dk_at dksX8_goTick_6 18 rfl rfl)
theorem dX8_goTick_160 : decode cX8_goTick 160 = .ok (.ifCond .eq 85, 3) := dk_153 0 85 (dk_at dksX8_goTick_6 21 rfl rfl)
theorem dX8_goTick_163 : decode cX8_goTick 163 = .ok (.aload_n 0, 1) := dk_42 (dk_at dksX8_goTick_7 0 rfl rfl)
theorem dX8_goTick_164 : decode cX8_goTick 164 = .ok (.getfield 65, 3) := dk_180 0 65 (dk_at dksX8_goTick_7 1 rfl rfl)
theorem dX8_goTick_167 : decode cX8_goTick 167 = .ok (.iload_n 1, 1) := dk_27 (dk_at dksX8_goTick_7 4 rfl rfl)
theorem dX8_goTick_168 : decode cX8_goTick 168 = .ok (.iaload, 1) := dk_46 (dk_at dksX8_goTick_7 5 rfl rfl)
theorem dX8_goTick_169 : decode cX8_goTick 169 = .ok (.aload_n 0, 1) := dk_42 (dk_at dksX8_goTick_7 6 rfl rfl)
theorem dX8_goTick_170 : decode cX8_goTick 170 = .ok (.iload_n 1, 1) := dk_27 (dk_at dksX8_goTick_7 7 rfl rfl)
theorem dX8_goTick_171 : decode cX8_goTick 171 = .ok (.aload_n 0, 1) := dk_42 (dk_at dksX8_goTick_7 8 rfl rfl)
theorem dX8_goTick_172 : decode cX8_goTick 172 = .ok (.getfield 65, 3) := dk_180 0 65 (dk_at dksX8_goTick_7 9 rfl rfl)
theorem dX8_goTick_175 : decode cX8_goTick 175 = .ok (.bipush 16, 2) := dk_16 16 (dk_at dksX8_goTick_7 12 rfl rfl)
theorem dX8_goTick_177 : decode cX8_goTick 177 = .ok (.iload_n 1, 1) := dk_27 (dk_at dksX8_goTick_7 14 rfl rfl)
theorem dX8_goTick_178 : decode cX8_goTick 178 = .ok (.iadd, 1) := dk_96 (dk_at dksX8_goTick_7 15 rfl rfl)
theorem dX8_goTick_179 : decode cX8_goTick 179 = .ok (.iaload, 1) := dk_46 (dk_at dksX8_goTick_7 16 rfl rfl)
theorem dX8_goTick_180 : decode cX8_goTick 180 = .ok (.invokevirtual 234, 3) := dk_182 0 234 (dk_at dksX8_goTick_7 17 rfl rfl)
theorem dX8_goTick_183 : decode cX8_goTick 183 = .ok (.imul, 1) := dk_104 (dk_at dksX8_goTick_7 20 rfl rfl)
theorem dX8_goTick_184 : decode cX8_goTick 184 = .ok (.bipush 100, 2) := dk_16 100 (dk_at dksX8_goTick_7 21 rfl rfl)
theorem dX8_goTick_186 : decode cX8_goTick 186 = .ok (.idiv, 1) := dk_108 (dk_at dksX8_goTick_7 23 rfl rfl)
theorem dX8_goTick_187 : decode cX8_goTick 187 = .ok (.istore_n 2, 1) := dk_61 (dk_at dksX8_goTick_8 0 rfl rfl)
theorem dX8_goTick_188 : decode cX8_goTick 188 = .ok (.aload_n 0, 1) := dk_42 (dk_at dksX8_goTick_8 1 rfl rfl)
theorem dX8_goTick_189 : decode cX8_goTick 189 = .ok (.iload_n 1, 1) := dk_27 (dk_at dksX8_goTick_8 2 rfl rfl)
theorem dX8_goTick_190 : decode cX8_goTick 190 = .ok (.iload_n 1, 1) := dk_27 (dk_at dksX8_goTick_8 3 rfl rfl)
theorem dX8_goTick_191 : decode cX8_goTick 191 = .ok (.iconst 4, 1) := dk_7 (dk_at dksX8_goTick_8 4 rfl rfl)
theorem dX8_goTick_192 : decode cX8_goTick 192 = .ok (.idiv, 1) := dk_108 (dk_at dksX8_goTick_8 5 rfl rfl)
theorem dX8_goTick_193 : decode cX8_goTick 193 = .ok (.aload_n 0, 1) := dk_42 (dk_at dksX8_goTick_8 6 rfl rfl)
theorem dX8_goTick_194 : decode cX8_goTick 194 = .ok (.getfield 13, 3) := dk_180 0 13 (dk_at dksX8_goTick_8 7 rfl rfl)
theorem dX8_goTick_197 : decode cX8_goTick 197 = .ok (.iconst 1, 1) := dk_4 (dk_at dksX8_goTick_8 10 rfl rfl)
theorem dX8_goTick_198 : decode cX8_goTick 198 = .ok (.isub, 1) := dk_100 (dk_at dksX8_goTick_8 11 rfl rfl)
theorem dX8_goTick_199 : decode cX8_goTick 199 = .ok (.if_icmp .ne 7, 3) := dk_160 0 7 (dk_at dksX8_goTick_8 12 rfl rfl)
theorem dX8_goTick_202 : decode cX8_goTick 202 = .ok (.iconst (-1), 1) := dk_2 (dk_at dksX8_goTick_8 15 rfl rfl)
theorem dX8_goTick_203 : decode cX8_goTick 203 = .ok (.goto 6, 3) := dk_167 0 6 (dk_at dksX8_goTick_8 16 rfl rfl)
theorem dX8_goTick_206 : decode cX8_goTick 206 = .ok (.iload_n 1, 1) := dk_27 (dk_at dksX8_goTick_8 19 rfl rfl)
theorem dX8_goTick_207 : decode cX8_goTick 207 = .ok (.iconst 4, 1) := dk_7 (dk_at dksX8_goTick_8 20 rfl rfl)
theorem dX8_goTick_208 : decode cX8_goTick 208 = .ok (.iadd, 1) := dk_96 (dk_at dksX8_goTick_8 21 rfl rfl)
theorem dX8_goTick_209 : decode cX8_goTick 209 = .ok (.iload_n 2, 1) := dk_28 (dk_at dksX8_goTick_8 22 rfl rfl)
theorem dX8_goTick_210 : decode cX8_goTick 210 = .ok (.invokevirtual 219, 3) := dk_182 0 219 (dk_at dksX8_goTick_9 0 rfl rfl)
theorem dX8_goTick_213 : decode cX8_goTick 213 = .ok (.aload_n 0, 1) := dk_42 (dk_at dksX8_goTick_9 3 rfl rfl)
theorem dX8_goTick_214 : decode cX8_goTick 214 = .ok (.getfield 65, 3) := dk_180 0 65 (dk_at dksX8_goTick_9 4 rfl rfl)
theorem dX8_goTick_217 : decode cX8_goTick 217 = .ok (.bipush 16, 2) := dk_16 16 (dk_at dksX8_goTick_9 7 rfl rfl)
theorem dX8_goTick_219 : decode cX8_goTick 219 = .ok (.iload_n 1, 1) := dk_27 (dk_at dksX8_goTick_9 9 rfl rfl)
theorem dX8_goTick_220 : decode cX8_goTick 220 = .ok (.iadd, 1) := dk_96 (dk_at dksX8_goTick_9 10 rfl rfl)
theorem dX8_goTick_221 : decode cX8_goTick 221 = .ok (.dup2, 1) := dk_92 (dk_at dksX8_goTick_9 11 rfl rfl)
theorem dX8_goTick_222 : decode cX8_goTick 222 = .ok (.iaload, 1) := dk_46 (dk_at dksX8_goTick_9 12 rfl rfl)
theorem dX8_goTick_223 : decode cX8_goTick 223 = .ok (.aload_n 0, 1) := dk_42 (dk_at dksX8_goTick_9 13 rfl rfl)
theorem dX8_goTick_224 : decode cX8_goTick 224 = .ok (.getfield 207, 3) := dk_180 0 207 (dk_at dksX8_goTick_9 14 rfl rfl)
theorem dX8_goTick_227 : decode cX8_goTick 227 = .ok (.ifCond .le 15, 3) := dk_158 0 15 (dk_at dksX8_goTick_9 17 rfl rfl)
theorem dX8_goTick_230 : decode cX8_goTick 230 = .ok (.iload_n 2, 1) := dk_28 (dk_at dksX8_goTick_9 20 rfl rfl)
theorem dX8_goTick_231 : decode cX8_goTick 231 = .ok (.aload_n 0, 1) := dk_42 (dk_at dksX8_goTick_9 21 rfl rfl)
theorem dX8_goTick_232 : decode cX8_goTick 232 = .ok (.getfield 207, 3) := dk_180 0 207 (dk_at dksX8_goTick_10 0 rfl rfl)
theorem dX8_goTick_235 : decode cX8_goTick 235 = .ok (.if_icmp .le 7, 3) := dk_164 0 7 (dk_at dksX8_goTick_10 3 rfl rfl)
theorem dX8_goTick_238 : decode cX8_goTick 238 = .ok (.iconst 1, 1) := dk_4 (dk_at dksX8_goTick_10 6 rfl rfl)
theorem dX8_goTick_239 : decode cX8_goTick 239 = .ok (.goto 4, 3) := dk_167 0 4 (dk_at dksX8_goTick_10 7 rfl rfl)
theorem dX8_goTick_242 : decode cX8_goTick 242 = .ok (.iconst 0, 1) := dk_3 (dk_at dksX8_goTick_10 10 rfl rfl)
theorem dX8_goTick_243 : decode cX8_goTick 243 = .ok (.iadd, 1) := dk_96 (dk_at dksX8_goTick_10 11 rfl rfl)
theorem dX8_goTick_244 : decode cX8_goTick 244 = .ok (.iastore, 1) := dk_79 (dk_at dksX8_goTick_10 12 rfl rfl)
theorem dX8_goTick_245 : decode cX8_goTick 245 = .ok (.iinc 1 1, 3) := dk_132 1 1 (dk_at dksX8_goTick_10 13 rfl rfl)
theorem dX8_goTick_248 : decode cX8_goTick 248 = .ok (.goto (-99), 3) := dk_167 255 157 (dk_at dksX8_goTick_10 16 rfl rfl)
theorem dX8_goTick_251 : decode cX8_goTick 251 = .ok (.aload_n 0, 1) := dk_42 (dk_at dksX8_goTick_10 19 rfl rfl)
theorem dX8_goTick_252 : decode cX8_goTick 252 = .ok (.invokevirtual 231, 3) := dk_182 0 231 (dk_at dksX8_goTick_10 20 rfl rfl)
theorem dX8_goTick_255 : decode cX8_goTick 255 = .ok (.aload_n 0, 1) := dk_42 (dk_at dksX8_goTick_10 23 rfl rfl)
theorem dX8_goTick_256 : decode cX8_goTick 256 = .ok (.getfield 65, 3) := dk_180 0 65 (dk_at dksX8_goTick_11 0 rfl rfl)
theorem dX8_goTick_259 : decode cX8_goTick 259 = .ok (.sipush 132, 3) := dk_17 0 132 (dk_at dksX8_goTick_11 3 rfl rfl)
theorem dX8_goTick_262 : decode cX8_goTick 262 = .ok (.dup2, 1) := dk_92 (dk_at dksX8_goTick_11 6 rfl rfl)
theorem dX8_goTick_263 : decode cX8_goTick 263 = .ok (.iaload, 1) := dk_46 (dk_at dksX8_goTick_11 7 rfl rfl)
theorem dX8_goTick_264 : decode cX8_goTick 264 = .ok (.iconst 1, 1) := dk_4 (dk_at dksX8_goTick_11 8 rfl rfl)
theorem dX8_goTick_265 : decode cX8_goTick 265 = .ok (.iadd, 1) := dk_96 (dk_at dksX8_goTick_11 9 rfl rfl)
theorem dX8_goTick_266 : decode cX8_goTick 266 = .ok (.iastore, 1) := dk_79 (dk_at dksX8_goTick_11 10 rfl rfl)
theorem dX8_goTick_267 : decode cX8_goTick 267 = .ok (.return_, 1) := dk_177 (dk_at dksX8_goTick_11 11 rfl rfl)
abbrev cX8_give : ByteArray := prog_17_method_23_code
def yX8_give : MethodName := ⟨RX8, "give", "(I)V"⟩
def dkwX8_give_4 : List UInt8 := [96, 27, 96, 92, 46, 21, 5, 96, 79, 132, 3, 1, 167, 255, 174, 177]
abbrev dktX8_give_4 : List UInt8 := dkwX8_give_4 ++ []
def dkwX8_give_3 : List UInt8 := [54, 5, 42, 180, 0, 65, 21, 4, 92, 46, 21, 5, 100, 79, 42, 180, 0, 65, 16, 80, 16, 16, 29, 104]
abbrev dktX8_give_3 : List UInt8 := dkwX8_give_3 ++ dktX8_give_4
def dkwX8_give_2 : List UInt8 := [133, 42, 180, 0, 20, 29, 46, 133, 105, 42, 180, 0, 38, 133, 105, 28, 133, 105, 20, 0, 217, 109, 136]
abbrev dktX8_give_2 : List UInt8 := dkwX8_give_2 ++ dktX8_give_3
def dkwX8_give_1 : List UInt8 := [62, 29, 6, 162, 0, 83, 16, 32, 16, 16, 29, 104, 96, 27, 96, 54, 4, 42, 180, 0, 65, 21, 4, 46]
abbrev dktX8_give_1 : List UInt8 := dkwX8_give_1 ++ dktX8_give_2
def dkwX8_give_0 : List UInt8 := [42, 180, 0, 65, 27, 46, 16, 100, 164, 0, 8, 16, 100, 167, 0, 9, 42, 180, 0, 65, 27, 46, 61, 3]
abbrev dktX8_give_0 : List UInt8 := dkwX8_give_0 ++ dktX8_give_1
theorem dksX8_give_0 : cX8_give.data.toList.drop 0 = dktX8_give_0 := by decide +kernel
theorem dksX8_give_1 : cX8_give.data.toList.drop 24 = dktX8_give_1 := dk_seg dksX8_give_0 24 rfl rfl
theorem dksX8_give_2 : cX8_give.data.toList.drop 48 = dktX8_give_2 := dk_seg dksX8_give_1 24 rfl rfl
theorem dksX8_give_3 : cX8_give.data.toList.drop 71 = dktX8_give_3 := dk_seg dksX8_give_2 23 rfl rfl
theorem dksX8_give_4 : cX8_give.data.toList.drop 95 = dktX8_give_4 := dk_seg dksX8_give_3 24 rfl rfl
theorem dX8_give_0 : decode cX8_give 0 = .ok (.aload_n 0, 1) := dk_42 (dk_at dksX8_give_0 0 rfl rfl)
theorem dX8_give_1 : decode cX8_give 1 = .ok (.getfield 65, 3) := dk_180 0 65 (dk_at dksX8_give_0 1 rfl rfl)
theorem dX8_give_4 : decode cX8_give 4 = .ok (.iload_n 1, 1) := dk_27 (dk_at dksX8_give_0 4 rfl rfl)
theorem dX8_give_5 : decode cX8_give 5 = .ok (.iaload, 1) := dk_46 (dk_at dksX8_give_0 5 rfl rfl)
theorem dX8_give_6 : decode cX8_give 6 = .ok (.bipush 100, 2) := dk_16 100 (dk_at dksX8_give_0 6 rfl rfl)
theorem dX8_give_8 : decode cX8_give 8 = .ok (.if_icmp .le 8, 3) := dk_164 0 8 (dk_at dksX8_give_0 8 rfl rfl)
theorem dX8_give_11 : decode cX8_give 11 = .ok (.bipush 100, 2) := dk_16 100 (dk_at dksX8_give_0 11 rfl rfl)
theorem dX8_give_13 : decode cX8_give 13 = .ok (.goto 9, 3) := dk_167 0 9 (dk_at dksX8_give_0 13 rfl rfl)
theorem dX8_give_16 : decode cX8_give 16 = .ok (.aload_n 0, 1) := dk_42 (dk_at dksX8_give_0 16 rfl rfl)
theorem dX8_give_17 : decode cX8_give 17 = .ok (.getfield 65, 3) := dk_180 0 65 (dk_at dksX8_give_0 17 rfl rfl)
theorem dX8_give_20 : decode cX8_give 20 = .ok (.iload_n 1, 1) := dk_27 (dk_at dksX8_give_0 20 rfl rfl)
theorem dX8_give_21 : decode cX8_give 21 = .ok (.iaload, 1) := dk_46 (dk_at dksX8_give_0 21 rfl rfl)
theorem dX8_give_22 : decode cX8_give 22 = .ok (.istore_n 2, 1) := dk_61 (dk_at dksX8_give_0 22 rfl rfl)
theorem dX8_give_23 : decode cX8_give 23 = .ok (.iconst 0, 1) := dk_3 (dk_at dksX8_give_0 23 rfl rfl)
theorem dX8_give_24 : decode cX8_give 24 = .ok (.istore_n 3, 1) := dk_62 (dk_at dksX8_give_1 0 rfl rfl)
theorem dX8_give_25 : decode cX8_give 25 = .ok (.iload_n 3, 1) := dk_29 (dk_at dksX8_give_1 1 rfl rfl)
theorem dX8_give_26 : decode cX8_give 26 = .ok (.iconst 3, 1) := dk_6 (dk_at dksX8_give_1 2 rfl rfl)
theorem dX8_give_27 : decode cX8_give 27 = .ok (.if_icmp .ge 83, 3) := dk_162 0 83 (dk_at dksX8_give_1 3 rfl rfl)
theorem dX8_give_30 : decode cX8_give 30 = .ok (.bipush 32, 2) := dk_16 32 (dk_at dksX8_give_1 6 rfl rfl)
theorem dX8_give_32 : decode cX8_give 32 = .ok (.bipush 16, 2) := dk_16 16 (dk_at dksX8_give_1 8 rfl rfl)
theorem dX8_give_34 : decode cX8_give 34 = .ok (.iload_n 3, 1) := dk_29 (dk_at dksX8_give_1 10 rfl rfl)
theorem dX8_give_35 : decode cX8_give 35 = .ok (.imul, 1) := dk_104 (dk_at dksX8_give_1 11 rfl rfl)
theorem dX8_give_36 : decode cX8_give 36 = .ok (.iadd, 1) := dk_96 (dk_at dksX8_give_1 12 rfl rfl)
theorem dX8_give_37 : decode cX8_give 37 = .ok (.iload_n 1, 1) := dk_27 (dk_at dksX8_give_1 13 rfl rfl)
theorem dX8_give_38 : decode cX8_give 38 = .ok (.iadd, 1) := dk_96 (dk_at dksX8_give_1 14 rfl rfl)
theorem dX8_give_39 : decode cX8_give 39 = .ok (.istore 4, 2) := dk_54 4 (dk_at dksX8_give_1 15 rfl rfl)
theorem dX8_give_41 : decode cX8_give 41 = .ok (.aload_n 0, 1) := dk_42 (dk_at dksX8_give_1 17 rfl rfl)
theorem dX8_give_42 : decode cX8_give 42 = .ok (.getfield 65, 3) := dk_180 0 65 (dk_at dksX8_give_1 18 rfl rfl)
theorem dX8_give_45 : decode cX8_give 45 = .ok (.iload 4, 2) := dk_21 4 (dk_at dksX8_give_1 21 rfl rfl)
theorem dX8_give_47 : decode cX8_give 47 = .ok (.iaload, 1) := dk_46 (dk_at dksX8_give_1 23 rfl rfl)
theorem dX8_give_48 : decode cX8_give 48 = .ok (.i2l, 1) := dk_133 (dk_at dksX8_give_2 0 rfl rfl)
theorem dX8_give_49 : decode cX8_give 49 = .ok (.aload_n 0, 1) := dk_42 (dk_at dksX8_give_2 1 rfl rfl)
theorem dX8_give_50 : decode cX8_give 50 = .ok (.getfield 20, 3) := dk_180 0 20 (dk_at dksX8_give_2 2 rfl rfl)
theorem dX8_give_53 : decode cX8_give 53 = .ok (.iload_n 3, 1) := dk_29 (dk_at dksX8_give_2 5 rfl rfl)
theorem dX8_give_54 : decode cX8_give 54 = .ok (.iaload, 1) := dk_46 (dk_at dksX8_give_2 6 rfl rfl)
theorem dX8_give_55 : decode cX8_give 55 = .ok (.i2l, 1) := dk_133 (dk_at dksX8_give_2 7 rfl rfl)
theorem dX8_give_56 : decode cX8_give 56 = .ok (.lmul, 1) := dk_105 (dk_at dksX8_give_2 8 rfl rfl)
theorem dX8_give_57 : decode cX8_give 57 = .ok (.aload_n 0, 1) := dk_42 (dk_at dksX8_give_2 9 rfl rfl)
theorem dX8_give_58 : decode cX8_give 58 = .ok (.getfield 38, 3) := dk_180 0 38 (dk_at dksX8_give_2 10 rfl rfl)
theorem dX8_give_61 : decode cX8_give 61 = .ok (.i2l, 1) := dk_133 (dk_at dksX8_give_2 13 rfl rfl)
theorem dX8_give_62 : decode cX8_give 62 = .ok (.lmul, 1) := dk_105 (dk_at dksX8_give_2 14 rfl rfl)
theorem dX8_give_63 : decode cX8_give 63 = .ok (.iload_n 2, 1) := dk_28 (dk_at dksX8_give_2 15 rfl rfl)
theorem dX8_give_64 : decode cX8_give 64 = .ok (.i2l, 1) := dk_133 (dk_at dksX8_give_2 16 rfl rfl)
theorem dX8_give_65 : decode cX8_give 65 = .ok (.lmul, 1) := dk_105 (dk_at dksX8_give_2 17 rfl rfl)
theorem dX8_give_66 : decode cX8_give 66 = .ok (.ldc2_w 217, 3) := dk_20 0 217 (dk_at dksX8_give_2 18 rfl rfl)
theorem dX8_give_69 : decode cX8_give 69 = .ok (.ldiv, 1) := dk_109 (dk_at dksX8_give_2 21 rfl rfl)
theorem dX8_give_70 : decode cX8_give 70 = .ok (.l2i, 1) := dk_136 (dk_at dksX8_give_2 22 rfl rfl)
theorem dX8_give_71 : decode cX8_give 71 = .ok (.istore 5, 2) := dk_54 5 (dk_at dksX8_give_3 0 rfl rfl)
theorem dX8_give_73 : decode cX8_give 73 = .ok (.aload_n 0, 1) := dk_42 (dk_at dksX8_give_3 2 rfl rfl)
theorem dX8_give_74 : decode cX8_give 74 = .ok (.getfield 65, 3) := dk_180 0 65 (dk_at dksX8_give_3 3 rfl rfl)
theorem dX8_give_77 : decode cX8_give 77 = .ok (.iload 4, 2) := dk_21 4 (dk_at dksX8_give_3 6 rfl rfl)
theorem dX8_give_79 : decode cX8_give 79 = .ok (.dup2, 1) := dk_92 (dk_at dksX8_give_3 8 rfl rfl)
theorem dX8_give_80 : decode cX8_give 80 = .ok (.iaload, 1) := dk_46 (dk_at dksX8_give_3 9 rfl rfl)
theorem dX8_give_81 : decode cX8_give 81 = .ok (.iload 5, 2) := dk_21 5 (dk_at dksX8_give_3 10 rfl rfl)
theorem dX8_give_83 : decode cX8_give 83 = .ok (.isub, 1) := dk_100 (dk_at dksX8_give_3 12 rfl rfl)
theorem dX8_give_84 : decode cX8_give 84 = .ok (.iastore, 1) := dk_79 (dk_at dksX8_give_3 13 rfl rfl)
theorem dX8_give_85 : decode cX8_give 85 = .ok (.aload_n 0, 1) := dk_42 (dk_at dksX8_give_3 14 rfl rfl)
theorem dX8_give_86 : decode cX8_give 86 = .ok (.getfield 65, 3) := dk_180 0 65 (dk_at dksX8_give_3 15 rfl rfl)
theorem dX8_give_89 : decode cX8_give 89 = .ok (.bipush 80, 2) := dk_16 80 (dk_at dksX8_give_3 18 rfl rfl)
theorem dX8_give_91 : decode cX8_give 91 = .ok (.bipush 16, 2) := dk_16 16 (dk_at dksX8_give_3 20 rfl rfl)
theorem dX8_give_93 : decode cX8_give 93 = .ok (.iload_n 3, 1) := dk_29 (dk_at dksX8_give_3 22 rfl rfl)
theorem dX8_give_94 : decode cX8_give 94 = .ok (.imul, 1) := dk_104 (dk_at dksX8_give_3 23 rfl rfl)
theorem dX8_give_95 : decode cX8_give 95 = .ok (.iadd, 1) := dk_96 (dk_at dksX8_give_4 0 rfl rfl)
theorem dX8_give_96 : decode cX8_give 96 = .ok (.iload_n 1, 1) := dk_27 (dk_at dksX8_give_4 1 rfl rfl)
theorem dX8_give_97 : decode cX8_give 97 = .ok (.iadd, 1) := dk_96 (dk_at dksX8_give_4 2 rfl rfl)
theorem dX8_give_98 : decode cX8_give 98 = .ok (.dup2, 1) := dk_92 (dk_at dksX8_give_4 3 rfl rfl)
theorem dX8_give_99 : decode cX8_give 99 = .ok (.iaload, 1) := dk_46 (dk_at dksX8_give_4 4 rfl rfl)
theorem dX8_give_100 : decode cX8_give 100 = .ok (.iload 5, 2) := dk_21 5 (dk_at dksX8_give_4 5 rfl rfl)
theorem dX8_give_102 : decode cX8_give 102 = .ok (.iadd, 1) := dk_96 (dk_at dksX8_give_4 7 rfl rfl)
theorem dX8_give_103 : decode cX8_give 103 = .ok (.iastore, 1) := dk_79 (dk_at dksX8_give_4 8 rfl rfl)
theorem dX8_give_104 : decode cX8_give 104 = .ok (.iinc 3 1, 3) := dk_132 3 1 (dk_at dksX8_give_4 9 rfl rfl)
theorem dX8_give_107 : decode cX8_give 107 = .ok (.goto (-82), 3) := dk_167 255 174 (dk_at dksX8_give_4 12 rfl rfl)
theorem dX8_give_110 : decode cX8_give 110 = .ok (.return_, 1) := dk_177 (dk_at dksX8_give_4 15 rfl rfl)
abbrev cX8_clearGoings : ByteArray := prog_17_method_25_code
def yX8_clearGoings : MethodName := ⟨RX8, "clearGoings", "()V"⟩
def dkwX8_clearGoings_0 : List UInt8 := [3, 60, 27, 16, 64, 162, 0, 16, 42, 180, 0, 78, 27, 3, 79, 132, 1, 1, 167, 255, 240, 177]
abbrev dktX8_clearGoings_0 : List UInt8 := dkwX8_clearGoings_0 ++ []
theorem dksX8_clearGoings_0 : cX8_clearGoings.data.toList.drop 0 = dktX8_clearGoings_0 := by decide +kernel
theorem dX8_clearGoings_0 : decode cX8_clearGoings 0 = .ok (.iconst 0, 1) := dk_3 (dk_at dksX8_clearGoings_0 0 rfl rfl)
theorem dX8_clearGoings_1 : decode cX8_clearGoings 1 = .ok (.istore_n 1, 1) := dk_60 (dk_at dksX8_clearGoings_0 1 rfl rfl)
theorem dX8_clearGoings_2 : decode cX8_clearGoings 2 = .ok (.iload_n 1, 1) := dk_27 (dk_at dksX8_clearGoings_0 2 rfl rfl)
theorem dX8_clearGoings_3 : decode cX8_clearGoings 3 = .ok (.bipush 64, 2) := dk_16 64 (dk_at dksX8_clearGoings_0 3 rfl rfl)
theorem dX8_clearGoings_5 : decode cX8_clearGoings 5 = .ok (.if_icmp .ge 16, 3) := dk_162 0 16 (dk_at dksX8_clearGoings_0 5 rfl rfl)
theorem dX8_clearGoings_8 : decode cX8_clearGoings 8 = .ok (.aload_n 0, 1) := dk_42 (dk_at dksX8_clearGoings_0 8 rfl rfl)
theorem dX8_clearGoings_9 : decode cX8_clearGoings 9 = .ok (.getfield 78, 3) := dk_180 0 78 (dk_at dksX8_clearGoings_0 9 rfl rfl)
theorem dX8_clearGoings_12 : decode cX8_clearGoings 12 = .ok (.iload_n 1, 1) := dk_27 (dk_at dksX8_clearGoings_0 12 rfl rfl)
theorem dX8_clearGoings_13 : decode cX8_clearGoings 13 = .ok (.iconst 0, 1) := dk_3 (dk_at dksX8_clearGoings_0 13 rfl rfl)
theorem dX8_clearGoings_14 : decode cX8_clearGoings 14 = .ok (.iastore, 1) := dk_79 (dk_at dksX8_clearGoings_0 14 rfl rfl)
theorem dX8_clearGoings_15 : decode cX8_clearGoings 15 = .ok (.iinc 1 1, 3) := dk_132 1 1 (dk_at dksX8_clearGoings_0 15 rfl rfl)
theorem dX8_clearGoings_18 : decode cX8_clearGoings 18 = .ok (.goto (-16), 3) := dk_167 255 240 (dk_at dksX8_clearGoings_0 18 rfl rfl)
theorem dX8_clearGoings_21 : decode cX8_clearGoings 21 = .ok (.return_, 1) := dk_177 (dk_at dksX8_clearGoings_0 21 rfl rfl)
abbrev cX8_goSide : ByteArray := prog_17_method_27_code
def yX8_goSide : MethodName := ⟨RX8, "goSide", "(II)V"⟩
def dkwX8_goSide_2 : List UInt8 := [182, 0, 219, 177]
abbrev dktX8_goSide_2 : List UInt8 := dkwX8_goSide_2 ++ []
def dkwX8_goSide_1 : List UInt8 := [27, 28, 42, 180, 0, 65, 27, 46, 42, 180, 0, 65, 28, 46, 100, 42, 180, 0, 35, 104, 16, 100, 108]
abbrev dktX8_goSide_1 : List UInt8 := dkwX8_goSide_1 ++ dktX8_goSide_2
def dkwX8_goSide_0 : List UInt8 := [42, 28, 182, 0, 214, 153, 0, 45, 42, 180, 0, 65, 28, 46, 42, 180, 0, 65, 27, 46, 162, 0, 30, 42]
abbrev dktX8_goSide_0 : List UInt8 := dkwX8_goSide_0 ++ dktX8_goSide_1
theorem dksX8_goSide_0 : cX8_goSide.data.toList.drop 0 = dktX8_goSide_0 := by decide +kernel
theorem dksX8_goSide_1 : cX8_goSide.data.toList.drop 24 = dktX8_goSide_1 := dk_seg dksX8_goSide_0 24 rfl rfl
theorem dksX8_goSide_2 : cX8_goSide.data.toList.drop 47 = dktX8_goSide_2 := dk_seg dksX8_goSide_1 23 rfl rfl
theorem dX8_goSide_0 : decode cX8_goSide 0 = .ok (.aload_n 0, 1) := dk_42 (dk_at dksX8_goSide_0 0 rfl rfl)
theorem dX8_goSide_1 : decode cX8_goSide 1 = .ok (.iload_n 2, 1) := dk_28 (dk_at dksX8_goSide_0 1 rfl rfl)
theorem dX8_goSide_2 : decode cX8_goSide 2 = .ok (.invokevirtual 214, 3) := dk_182 0 214 (dk_at dksX8_goSide_0 2 rfl rfl)
theorem dX8_goSide_5 : decode cX8_goSide 5 = .ok (.ifCond .eq 45, 3) := dk_153 0 45 (dk_at dksX8_goSide_0 5 rfl rfl)
theorem dX8_goSide_8 : decode cX8_goSide 8 = .ok (.aload_n 0, 1) := dk_42 (dk_at dksX8_goSide_0 8 rfl rfl)
theorem dX8_goSide_9 : decode cX8_goSide 9 = .ok (.getfield 65, 3) := dk_180 0 65 (dk_at dksX8_goSide_0 9 rfl rfl)
theorem dX8_goSide_12 : decode cX8_goSide 12 = .ok (.iload_n 2, 1) := dk_28 (dk_at dksX8_goSide_0 12 rfl rfl)
theorem dX8_goSide_13 : decode cX8_goSide 13 = .ok (.iaload, 1) := dk_46 (dk_at dksX8_goSide_0 13 rfl rfl)
theorem dX8_goSide_14 : decode cX8_goSide 14 = .ok (.aload_n 0, 1) := dk_42 (dk_at dksX8_goSide_0 14 rfl rfl)
theorem dX8_goSide_15 : decode cX8_goSide 15 = .ok (.getfield 65, 3) := dk_180 0 65 (dk_at dksX8_goSide_0 15 rfl rfl)
theorem dX8_goSide_18 : decode cX8_goSide 18 = .ok (.iload_n 1, 1) := dk_27 (dk_at dksX8_goSide_0 18 rfl rfl)
theorem dX8_goSide_19 : decode cX8_goSide 19 = .ok (.iaload, 1) := dk_46 (dk_at dksX8_goSide_0 19 rfl rfl)
theorem dX8_goSide_20 : decode cX8_goSide 20 = .ok (.if_icmp .ge 30, 3) := dk_162 0 30 (dk_at dksX8_goSide_0 20 rfl rfl)
theorem dX8_goSide_23 : decode cX8_goSide 23 = .ok (.aload_n 0, 1) := dk_42 (dk_at dksX8_goSide_0 23 rfl rfl)
theorem dX8_goSide_24 : decode cX8_goSide 24 = .ok (.iload_n 1, 1) := dk_27 (dk_at dksX8_goSide_1 0 rfl rfl)
theorem dX8_goSide_25 : decode cX8_goSide 25 = .ok (.iload_n 2, 1) := dk_28 (dk_at dksX8_goSide_1 1 rfl rfl)
theorem dX8_goSide_26 : decode cX8_goSide 26 = .ok (.aload_n 0, 1) := dk_42 (dk_at dksX8_goSide_1 2 rfl rfl)
theorem dX8_goSide_27 : decode cX8_goSide 27 = .ok (.getfield 65, 3) := dk_180 0 65 (dk_at dksX8_goSide_1 3 rfl rfl)
theorem dX8_goSide_30 : decode cX8_goSide 30 = .ok (.iload_n 1, 1) := dk_27 (dk_at dksX8_goSide_1 6 rfl rfl)
theorem dX8_goSide_31 : decode cX8_goSide 31 = .ok (.iaload, 1) := dk_46 (dk_at dksX8_goSide_1 7 rfl rfl)
theorem dX8_goSide_32 : decode cX8_goSide 32 = .ok (.aload_n 0, 1) := dk_42 (dk_at dksX8_goSide_1 8 rfl rfl)
theorem dX8_goSide_33 : decode cX8_goSide 33 = .ok (.getfield 65, 3) := dk_180 0 65 (dk_at dksX8_goSide_1 9 rfl rfl)
theorem dX8_goSide_36 : decode cX8_goSide 36 = .ok (.iload_n 2, 1) := dk_28 (dk_at dksX8_goSide_1 12 rfl rfl)
theorem dX8_goSide_37 : decode cX8_goSide 37 = .ok (.iaload, 1) := dk_46 (dk_at dksX8_goSide_1 13 rfl rfl)
theorem dX8_goSide_38 : decode cX8_goSide 38 = .ok (.isub, 1) := dk_100 (dk_at dksX8_goSide_1 14 rfl rfl)
theorem dX8_goSide_39 : decode cX8_goSide 39 = .ok (.aload_n 0, 1) := dk_42 (dk_at dksX8_goSide_1 15 rfl rfl)
theorem dX8_goSide_40 : decode cX8_goSide 40 = .ok (.getfield 35, 3) := dk_180 0 35 (dk_at dksX8_goSide_1 16 rfl rfl)
theorem dX8_goSide_43 : decode cX8_goSide 43 = .ok (.imul, 1) := dk_104 (dk_at dksX8_goSide_1 19 rfl rfl)
theorem dX8_goSide_44 : decode cX8_goSide 44 = .ok (.bipush 100, 2) := dk_16 100 (dk_at dksX8_goSide_1 20 rfl rfl)
theorem dX8_goSide_46 : decode cX8_goSide 46 = .ok (.idiv, 1) := dk_108 (dk_at dksX8_goSide_1 22 rfl rfl)
theorem dX8_goSide_47 : decode cX8_goSide 47 = .ok (.invokevirtual 219, 3) := dk_182 0 219 (dk_at dksX8_goSide_2 0 rfl rfl)
theorem dX8_goSide_50 : decode cX8_goSide 50 = .ok (.return_, 1) := dk_177 (dk_at dksX8_goSide_2 3 rfl rfl)
abbrev cX8_goes : ByteArray := prog_17_method_24_code
def yX8_goes : MethodName := ⟨RX8, "goes", "(III)V"⟩
def dkwX8_goes_6 : List UInt8 := [79, 132, 4, 1, 167, 255, 150, 177]
abbrev dktX8_goes_6 : List UInt8 := dkwX8_goes_6 ++ []
def dkwX8_goes_5 : List UInt8 := [92, 46, 21, 5, 96, 79, 167, 0, 19, 42, 180, 0, 65, 17, 0, 129, 21, 4, 96, 92, 46, 21, 5, 96]
abbrev dktX8_goes_5 : List UInt8 := dkwX8_goes_5 ++ dktX8_goes_6
def dkwX8_goes_4 : List UInt8 := [92, 46, 21, 5, 100, 79, 28, 155, 0, 26, 42, 180, 0, 78, 16, 16, 16, 16, 21, 4, 104, 96, 28, 96]
abbrev dktX8_goes_4 : List UInt8 := dkwX8_goes_4 ++ dktX8_goes_5
def dkwX8_goes_3 : List UInt8 := [180, 0, 65, 27, 46, 133, 109, 136, 54, 5, 42, 180, 0, 78, 16, 16, 16, 16, 21, 4, 104, 96, 27, 96]
abbrev dktX8_goes_3 : List UInt8 := dkwX8_goes_3 ++ dktX8_goes_4
def dkwX8_goes_2 : List UInt8 := [29, 158, 0, 102, 42, 180, 0, 65, 16, 80, 16, 16, 21, 4, 104, 96, 27, 96, 46, 133, 29, 133, 105, 42]
abbrev dktX8_goes_2 : List UInt8 := dkwX8_goes_2 ++ dktX8_goes_3
def dkwX8_goes_1 : List UInt8 := [167, 0, 15, 42, 180, 0, 65, 17, 0, 128, 92, 46, 29, 96, 79, 3, 54, 4, 21, 4, 6, 162, 0, 106]
abbrev dktX8_goes_1 : List UInt8 := dkwX8_goes_1 ++ dktX8_goes_2
def dkwX8_goes_0 : List UInt8 := [42, 180, 0, 78, 27, 92, 46, 29, 100, 79, 28, 155, 0, 16, 42, 180, 0, 78, 28, 92, 46, 29, 96, 79]
abbrev dktX8_goes_0 : List UInt8 := dkwX8_goes_0 ++ dktX8_goes_1
theorem dksX8_goes_0 : cX8_goes.data.toList.drop 0 = dktX8_goes_0 := by decide +kernel
theorem dksX8_goes_1 : cX8_goes.data.toList.drop 24 = dktX8_goes_1 := dk_seg dksX8_goes_0 24 rfl rfl
theorem dksX8_goes_2 : cX8_goes.data.toList.drop 48 = dktX8_goes_2 := dk_seg dksX8_goes_1 24 rfl rfl
theorem dksX8_goes_3 : cX8_goes.data.toList.drop 72 = dktX8_goes_3 := dk_seg dksX8_goes_2 24 rfl rfl
theorem dksX8_goes_4 : cX8_goes.data.toList.drop 96 = dktX8_goes_4 := dk_seg dksX8_goes_3 24 rfl rfl
theorem dksX8_goes_5 : cX8_goes.data.toList.drop 120 = dktX8_goes_5 := dk_seg dksX8_goes_4 24 rfl rfl
theorem dksX8_goes_6 : cX8_goes.data.toList.drop 144 = dktX8_goes_6 := dk_seg dksX8_goes_5 24 rfl rfl
theorem dX8_goes_0 : decode cX8_goes 0 = .ok (.aload_n 0, 1) := dk_42 (dk_at dksX8_goes_0 0 rfl rfl)
theorem dX8_goes_1 : decode cX8_goes 1 = .ok (.getfield 78, 3) := dk_180 0 78 (dk_at dksX8_goes_0 1 rfl rfl)
theorem dX8_goes_4 : decode cX8_goes 4 = .ok (.iload_n 1, 1) := dk_27 (dk_at dksX8_goes_0 4 rfl rfl)
theorem dX8_goes_5 : decode cX8_goes 5 = .ok (.dup2, 1) := dk_92 (dk_at dksX8_goes_0 5 rfl rfl)
theorem dX8_goes_6 : decode cX8_goes 6 = .ok (.iaload, 1) := dk_46 (dk_at dksX8_goes_0 6 rfl rfl)
theorem dX8_goes_7 : decode cX8_goes 7 = .ok (.iload_n 3, 1) := dk_29 (dk_at dksX8_goes_0 7 rfl rfl)
theorem dX8_goes_8 : decode cX8_goes 8 = .ok (.isub, 1) := dk_100 (dk_at dksX8_goes_0 8 rfl rfl)
theorem dX8_goes_9 : decode cX8_goes 9 = .ok (.iastore, 1) := dk_79 (dk_at dksX8_goes_0 9 rfl rfl)
theorem dX8_goes_10 : decode cX8_goes 10 = .ok (.iload_n 2, 1) := dk_28 (dk_at dksX8_goes_0 10 rfl rfl)
theorem dX8_goes_11 : decode cX8_goes 11 = .ok (.ifCond .lt 16, 3) := dk_155 0 16 (dk_at dksX8_goes_0 11 rfl rfl)
theorem dX8_goes_14 : decode cX8_goes 14 = .ok (.aload_n 0, 1) := dk_42 (dk_at dksX8_goes_0 14 rfl rfl)
theorem dX8_goes_15 : decode cX8_goes 15 = .ok (.getfield 78, 3) := dk_180 0 78 (dk_at dksX8_goes_0 15 rfl rfl)
theorem dX8_goes_18 : decode cX8_goes 18 = .ok (.iload_n 2, 1) := dk_28 (dk_at dksX8_goes_0 18 rfl rfl)
theorem dX8_goes_19 : decode cX8_goes 19 = .ok (.dup2, 1) := dk_92 (dk_at dksX8_goes_0 19 rfl rfl)
theorem dX8_goes_20 : decode cX8_goes 20 = .ok (.iaload, 1) := dk_46 (dk_at dksX8_goes_0 20 rfl rfl)
theorem dX8_goes_21 : decode cX8_goes 21 = .ok (.iload_n 3, 1) := dk_29 (dk_at dksX8_goes_0 21 rfl rfl)
theorem dX8_goes_22 : decode cX8_goes 22 = .ok (.iadd, 1) := dk_96 (dk_at dksX8_goes_0 22 rfl rfl)
theorem dX8_goes_23 : decode cX8_goes 23 = .ok (.iastore, 1) := dk_79 (dk_at dksX8_goes_0 23 rfl rfl)
theorem dX8_goes_24 : decode cX8_goes 24 = .ok (.goto 15, 3) := dk_167 0 15 (dk_at dksX8_goes_1 0 rfl rfl)
theorem dX8_goes_27 : decode cX8_goes 27 = .ok (.aload_n 0, 1) := dk_42 (dk_at dksX8_goes_1 3 rfl rfl)
theorem dX8_goes_28 : decode cX8_goes 28 = .ok (.getfield 65, 3) := dk_180 0 65 (dk_at dksX8_goes_1 4 rfl rfl)
theorem dX8_goes_31 : decode cX8_goes 31 = .ok (.sipush 128, 3) := dk_17 0 128 (dk_at dksX8_goes_1 7 rfl rfl)
theorem dX8_goes_34 : decode cX8_goes 34 = .ok (.dup2, 1) := dk_92 (dk_at dksX8_goes_1 10 rfl rfl)
theorem dX8_goes_35 : decode cX8_goes 35 = .ok (.iaload, 1) := dk_46 (dk_at dksX8_goes_1 11 rfl rfl)
theorem dX8_goes_36 : decode cX8_goes 36 = .ok (.iload_n 3, 1) := dk_29 (dk_at dksX8_goes_1 12 rfl rfl)
theorem dX8_goes_37 : decode cX8_goes 37 = .ok (.iadd, 1) := dk_96 (dk_at dksX8_goes_1 13 rfl rfl)
theorem dX8_goes_38 : decode cX8_goes 38 = .ok (.iastore, 1) := dk_79 (dk_at dksX8_goes_1 14 rfl rfl)
theorem dX8_goes_39 : decode cX8_goes 39 = .ok (.iconst 0, 1) := dk_3 (dk_at dksX8_goes_1 15 rfl rfl)
theorem dX8_goes_40 : decode cX8_goes 40 = .ok (.istore 4, 2) := dk_54 4 (dk_at dksX8_goes_1 16 rfl rfl)
theorem dX8_goes_42 : decode cX8_goes 42 = .ok (.iload 4, 2) := dk_21 4 (dk_at dksX8_goes_1 18 rfl rfl)
theorem dX8_goes_44 : decode cX8_goes 44 = .ok (.iconst 3, 1) := dk_6 (dk_at dksX8_goes_1 20 rfl rfl)
theorem dX8_goes_45 : decode cX8_goes 45 = .ok (.if_icmp .ge 106, 3) := dk_162 0 106 (dk_at dksX8_goes_1 21 rfl rfl)
theorem dX8_goes_48 : decode cX8_goes 48 = .ok (.iload_n 3, 1) := dk_29 (dk_at dksX8_goes_2 0 rfl rfl)
theorem dX8_goes_49 : decode cX8_goes 49 = .ok (.ifCond .le 102, 3) := dk_158 0 102 (dk_at dksX8_goes_2 1 rfl rfl)
theorem dX8_goes_52 : decode cX8_goes 52 = .ok (.aload_n 0, 1) := dk_42 (dk_at dksX8_goes_2 4 rfl rfl)
theorem dX8_goes_53 : decode cX8_goes 53 = .ok (.getfield 65, 3) := dk_180 0 65 (dk_at dksX8_goes_2 5 rfl rfl)
theorem dX8_goes_56 : decode cX8_goes 56 = .ok (.bipush 80, 2) := dk_16 80 (dk_at dksX8_goes_2 8 rfl rfl)
theorem dX8_goes_58 : decode cX8_goes 58 = .ok (.bipush 16, 2) := dk_16 16 (dk_at dksX8_goes_2 10 rfl rfl)
theorem dX8_goes_60 : decode cX8_goes 60 = .ok (.iload 4, 2) := dk_21 4 (dk_at dksX8_goes_2 12 rfl rfl)
theorem dX8_goes_62 : decode cX8_goes 62 = .ok (.imul, 1) := dk_104 (dk_at dksX8_goes_2 14 rfl rfl)
theorem dX8_goes_63 : decode cX8_goes 63 = .ok (.iadd, 1) := dk_96 (dk_at dksX8_goes_2 15 rfl rfl)
theorem dX8_goes_64 : decode cX8_goes 64 = .ok (.iload_n 1, 1) := dk_27 (dk_at dksX8_goes_2 16 rfl rfl)
theorem dX8_goes_65 : decode cX8_goes 65 = .ok (.iadd, 1) := dk_96 (dk_at dksX8_goes_2 17 rfl rfl)
theorem dX8_goes_66 : decode cX8_goes 66 = .ok (.iaload, 1) := dk_46 (dk_at dksX8_goes_2 18 rfl rfl)
theorem dX8_goes_67 : decode cX8_goes 67 = .ok (.i2l, 1) := dk_133 (dk_at dksX8_goes_2 19 rfl rfl)
theorem dX8_goes_68 : decode cX8_goes 68 = .ok (.iload_n 3, 1) := dk_29 (dk_at dksX8_goes_2 20 rfl rfl)
theorem dX8_goes_69 : decode cX8_goes 69 = .ok (.i2l, 1) := dk_133 (dk_at dksX8_goes_2 21 rfl rfl)
theorem dX8_goes_70 : decode cX8_goes 70 = .ok (.lmul, 1) := dk_105 (dk_at dksX8_goes_2 22 rfl rfl)
theorem dX8_goes_71 : decode cX8_goes 71 = .ok (.aload_n 0, 1) := dk_42 (dk_at dksX8_goes_2 23 rfl rfl)
theorem dX8_goes_72 : decode cX8_goes 72 = .ok (.getfield 65, 3) := dk_180 0 65 (dk_at dksX8_goes_3 0 rfl rfl)
theorem dX8_goes_75 : decode cX8_goes 75 = .ok (.iload_n 1, 1) := dk_27 (dk_at dksX8_goes_3 3 rfl rfl)
theorem dX8_goes_76 : decode cX8_goes 76 = .ok (.iaload, 1) := dk_46 (dk_at dksX8_goes_3 4 rfl rfl)
theorem dX8_goes_77 : decode cX8_goes 77 = .ok (.i2l, 1) := dk_133 (dk_at dksX8_goes_3 5 rfl rfl)
theorem dX8_goes_78 : decode cX8_goes 78 = .ok (.ldiv, 1) := dk_109 (dk_at dksX8_goes_3 6 rfl rfl)
theorem dX8_goes_79 : decode cX8_goes 79 = .ok (.l2i, 1) := dk_136 (dk_at dksX8_goes_3 7 rfl rfl)
theorem dX8_goes_80 : decode cX8_goes 80 = .ok (.istore 5, 2) := dk_54 5 (dk_at dksX8_goes_3 8 rfl rfl)
theorem dX8_goes_82 : decode cX8_goes 82 = .ok (.aload_n 0, 1) := dk_42 (dk_at dksX8_goes_3 10 rfl rfl)
theorem dX8_goes_83 : decode cX8_goes 83 = .ok (.getfield 78, 3) := dk_180 0 78 (dk_at dksX8_goes_3 11 rfl rfl)
theorem dX8_goes_86 : decode cX8_goes 86 = .ok (.bipush 16, 2) := dk_16 16 (dk_at dksX8_goes_3 14 rfl rfl)
theorem dX8_goes_88 : decode cX8_goes 88 = .ok (.bipush 16, 2) := dk_16 16 (dk_at dksX8_goes_3 16 rfl rfl)
theorem dX8_goes_90 : decode cX8_goes 90 = .ok (.iload 4, 2) := dk_21 4 (dk_at dksX8_goes_3 18 rfl rfl)
theorem dX8_goes_92 : decode cX8_goes 92 = .ok (.imul, 1) := dk_104 (dk_at dksX8_goes_3 20 rfl rfl)
theorem dX8_goes_93 : decode cX8_goes 93 = .ok (.iadd, 1) := dk_96 (dk_at dksX8_goes_3 21 rfl rfl)
theorem dX8_goes_94 : decode cX8_goes 94 = .ok (.iload_n 1, 1) := dk_27 (dk_at dksX8_goes_3 22 rfl rfl)
theorem dX8_goes_95 : decode cX8_goes 95 = .ok (.iadd, 1) := dk_96 (dk_at dksX8_goes_3 23 rfl rfl)
theorem dX8_goes_96 : decode cX8_goes 96 = .ok (.dup2, 1) := dk_92 (dk_at dksX8_goes_4 0 rfl rfl)
theorem dX8_goes_97 : decode cX8_goes 97 = .ok (.iaload, 1) := dk_46 (dk_at dksX8_goes_4 1 rfl rfl)
theorem dX8_goes_98 : decode cX8_goes 98 = .ok (.iload 5, 2) := dk_21 5 (dk_at dksX8_goes_4 2 rfl rfl)
theorem dX8_goes_100 : decode cX8_goes 100 = .ok (.isub, 1) := dk_100 (dk_at dksX8_goes_4 4 rfl rfl)
theorem dX8_goes_101 : decode cX8_goes 101 = .ok (.iastore, 1) := dk_79 (dk_at dksX8_goes_4 5 rfl rfl)
theorem dX8_goes_102 : decode cX8_goes 102 = .ok (.iload_n 2, 1) := dk_28 (dk_at dksX8_goes_4 6 rfl rfl)
theorem dX8_goes_103 : decode cX8_goes 103 = .ok (.ifCond .lt 26, 3) := dk_155 0 26 (dk_at dksX8_goes_4 7 rfl rfl)
theorem dX8_goes_106 : decode cX8_goes 106 = .ok (.aload_n 0, 1) := dk_42 (dk_at dksX8_goes_4 10 rfl rfl)
theorem dX8_goes_107 : decode cX8_goes 107 = .ok (.getfield 78, 3) := dk_180 0 78 (dk_at dksX8_goes_4 11 rfl rfl)
theorem dX8_goes_110 : decode cX8_goes 110 = .ok (.bipush 16, 2) := dk_16 16 (dk_at dksX8_goes_4 14 rfl rfl)
theorem dX8_goes_112 : decode cX8_goes 112 = .ok (.bipush 16, 2) := dk_16 16 (dk_at dksX8_goes_4 16 rfl rfl)
theorem dX8_goes_114 : decode cX8_goes 114 = .ok (.iload 4, 2) := dk_21 4 (dk_at dksX8_goes_4 18 rfl rfl)
theorem dX8_goes_116 : decode cX8_goes 116 = .ok (.imul, 1) := dk_104 (dk_at dksX8_goes_4 20 rfl rfl)
theorem dX8_goes_117 : decode cX8_goes 117 = .ok (.iadd, 1) := dk_96 (dk_at dksX8_goes_4 21 rfl rfl)
theorem dX8_goes_118 : decode cX8_goes 118 = .ok (.iload_n 2, 1) := dk_28 (dk_at dksX8_goes_4 22 rfl rfl)
theorem dX8_goes_119 : decode cX8_goes 119 = .ok (.iadd, 1) := dk_96 (dk_at dksX8_goes_4 23 rfl rfl)
theorem dX8_goes_120 : decode cX8_goes 120 = .ok (.dup2, 1) := dk_92 (dk_at dksX8_goes_5 0 rfl rfl)
theorem dX8_goes_121 : decode cX8_goes 121 = .ok (.iaload, 1) := dk_46 (dk_at dksX8_goes_5 1 rfl rfl)
theorem dX8_goes_122 : decode cX8_goes 122 = .ok (.iload 5, 2) := dk_21 5 (dk_at dksX8_goes_5 2 rfl rfl)
theorem dX8_goes_124 : decode cX8_goes 124 = .ok (.iadd, 1) := dk_96 (dk_at dksX8_goes_5 4 rfl rfl)
theorem dX8_goes_125 : decode cX8_goes 125 = .ok (.iastore, 1) := dk_79 (dk_at dksX8_goes_5 5 rfl rfl)
theorem dX8_goes_126 : decode cX8_goes 126 = .ok (.goto 19, 3) := dk_167 0 19 (dk_at dksX8_goes_5 6 rfl rfl)
theorem dX8_goes_129 : decode cX8_goes 129 = .ok (.aload_n 0, 1) := dk_42 (dk_at dksX8_goes_5 9 rfl rfl)
theorem dX8_goes_130 : decode cX8_goes 130 = .ok (.getfield 65, 3) := dk_180 0 65 (dk_at dksX8_goes_5 10 rfl rfl)
theorem dX8_goes_133 : decode cX8_goes 133 = .ok (.sipush 129, 3) := dk_17 0 129 (dk_at dksX8_goes_5 13 rfl rfl)
theorem dX8_goes_136 : decode cX8_goes 136 = .ok (.iload 4, 2) := dk_21 4 (dk_at dksX8_goes_5 16 rfl rfl)
theorem dX8_goes_138 : decode cX8_goes 138 = .ok (.iadd, 1) := dk_96 (dk_at dksX8_goes_5 18 rfl rfl)
theorem dX8_goes_139 : decode cX8_goes 139 = .ok (.dup2, 1) := dk_92 (dk_at dksX8_goes_5 19 rfl rfl)
theorem dX8_goes_140 : decode cX8_goes 140 = .ok (.iaload, 1) := dk_46 (dk_at dksX8_goes_5 20 rfl rfl)
theorem dX8_goes_141 : decode cX8_goes 141 = .ok (.iload 5, 2) := dk_21 5 (dk_at dksX8_goes_5 21 rfl rfl)
theorem dX8_goes_143 : decode cX8_goes 143 = .ok (.iadd, 1) := dk_96 (dk_at dksX8_goes_5 23 rfl rfl)
theorem dX8_goes_144 : decode cX8_goes 144 = .ok (.iastore, 1) := dk_79 (dk_at dksX8_goes_6 0 rfl rfl)
theorem dX8_goes_145 : decode cX8_goes 145 = .ok (.iinc 4 1, 3) := dk_132 4 1 (dk_at dksX8_goes_6 1 rfl rfl)
theorem dX8_goes_148 : decode cX8_goes 148 = .ok (.goto (-106), 3) := dk_167 255 150 (dk_at dksX8_goes_6 4 rfl rfl)
theorem dX8_goes_151 : decode cX8_goes 151 = .ok (.return_, 1) := dk_177 (dk_at dksX8_goes_6 7 rfl rfl)
abbrev cX8_doGoings : ByteArray := prog_17_method_26_code
def yX8_doGoings : MethodName := ⟨RX8, "doGoings", "()V"⟩
def dkwX8_doGoings_3 : List UInt8 := [167, 255, 188, 177]
abbrev dktX8_doGoings_3 : List UInt8 := dkwX8_doGoings_3 ++ []
def dkwX8_doGoings_2 : List UInt8 := [180, 0, 78, 16, 16, 16, 16, 28, 104, 96, 27, 96, 46, 96, 79, 132, 2, 1, 167, 255, 217, 132, 1, 1]
abbrev dktX8_doGoings_2 : List UInt8 := dkwX8_doGoings_2 ++ dktX8_doGoings_3
def dkwX8_doGoings_1 : List UInt8 := [61, 28, 6, 162, 0, 40, 42, 180, 0, 65, 16, 80, 16, 16, 28, 104, 96, 27, 96, 92, 46, 42]
abbrev dktX8_doGoings_1 : List UInt8 := dkwX8_doGoings_1 ++ dktX8_doGoings_2
def dkwX8_doGoings_0 : List UInt8 := [3, 60, 27, 16, 16, 162, 0, 68, 42, 180, 0, 65, 27, 92, 46, 42, 180, 0, 78, 27, 46, 96, 79, 3]
abbrev dktX8_doGoings_0 : List UInt8 := dkwX8_doGoings_0 ++ dktX8_doGoings_1
theorem dksX8_doGoings_0 : cX8_doGoings.data.toList.drop 0 = dktX8_doGoings_0 := by decide +kernel
theorem dksX8_doGoings_1 : cX8_doGoings.data.toList.drop 24 = dktX8_doGoings_1 := dk_seg dksX8_doGoings_0 24 rfl rfl
theorem dksX8_doGoings_2 : cX8_doGoings.data.toList.drop 46 = dktX8_doGoings_2 := dk_seg dksX8_doGoings_1 22 rfl rfl
theorem dksX8_doGoings_3 : cX8_doGoings.data.toList.drop 70 = dktX8_doGoings_3 := dk_seg dksX8_doGoings_2 24 rfl rfl
theorem dX8_doGoings_0 : decode cX8_doGoings 0 = .ok (.iconst 0, 1) := dk_3 (dk_at dksX8_doGoings_0 0 rfl rfl)
theorem dX8_doGoings_1 : decode cX8_doGoings 1 = .ok (.istore_n 1, 1) := dk_60 (dk_at dksX8_doGoings_0 1 rfl rfl)
theorem dX8_doGoings_2 : decode cX8_doGoings 2 = .ok (.iload_n 1, 1) := dk_27 (dk_at dksX8_doGoings_0 2 rfl rfl)
theorem dX8_doGoings_3 : decode cX8_doGoings 3 = .ok (.bipush 16, 2) := dk_16 16 (dk_at dksX8_doGoings_0 3 rfl rfl)
theorem dX8_doGoings_5 : decode cX8_doGoings 5 = .ok (.if_icmp .ge 68, 3) := dk_162 0 68 (dk_at dksX8_doGoings_0 5 rfl rfl)
theorem dX8_doGoings_8 : decode cX8_doGoings 8 = .ok (.aload_n 0, 1) := dk_42 (dk_at dksX8_doGoings_0 8 rfl rfl)
theorem dX8_doGoings_9 : decode cX8_doGoings 9 = .ok (.getfield 65, 3) := dk_180 0 65 (dk_at dksX8_doGoings_0 9 rfl rfl)
theorem dX8_doGoings_12 : decode cX8_doGoings 12 = .ok (.iload_n 1, 1) := dk_27 (dk_at dksX8_doGoings_0 12 rfl rfl)
theorem dX8_doGoings_13 : decode cX8_doGoings 13 = .ok (.dup2, 1) := dk_92 (dk_at dksX8_doGoings_0 13 rfl rfl)
theorem dX8_doGoings_14 : decode cX8_doGoings 14 = .ok (.iaload, 1) := dk_46 (dk_at dksX8_doGoings_0 14 rfl rfl)
theorem dX8_doGoings_15 : decode cX8_doGoings 15 = .ok (.aload_n 0, 1) := dk_42 (dk_at dksX8_doGoings_0 15 rfl rfl)
theorem dX8_doGoings_16 : decode cX8_doGoings 16 = .ok (.getfield 78, 3) := dk_180 0 78 (dk_at dksX8_doGoings_0 16 rfl rfl)
theorem dX8_doGoings_19 : decode cX8_doGoings 19 = .ok (.iload_n 1, 1) := dk_27 (dk_at dksX8_doGoings_0 19 rfl rfl)
theorem dX8_doGoings_20 : decode cX8_doGoings 20 = .ok (.iaload, 1) := dk_46 (dk_at dksX8_doGoings_0 20 rfl rfl)
theorem dX8_doGoings_21 : decode cX8_doGoings 21 = .ok (.iadd, 1) := dk_96 (dk_at dksX8_doGoings_0 21 rfl rfl)
theorem dX8_doGoings_22 : decode cX8_doGoings 22 = .ok (.iastore, 1) := dk_79 (dk_at dksX8_doGoings_0 22 rfl rfl)
theorem dX8_doGoings_23 : decode cX8_doGoings 23 = .ok (.iconst 0, 1) := dk_3 (dk_at dksX8_doGoings_0 23 rfl rfl)
theorem dX8_doGoings_24 : decode cX8_doGoings 24 = .ok (.istore_n 2, 1) := dk_61 (dk_at dksX8_doGoings_1 0 rfl rfl)
theorem dX8_doGoings_25 : decode cX8_doGoings 25 = .ok (.iload_n 2, 1) := dk_28 (dk_at dksX8_doGoings_1 1 rfl rfl)
theorem dX8_doGoings_26 : decode cX8_doGoings 26 = .ok (.iconst 3, 1) := dk_6 (dk_at dksX8_doGoings_1 2 rfl rfl)
theorem dX8_doGoings_27 : decode cX8_doGoings 27 = .ok (.if_icmp .ge 40, 3) := dk_162 0 40 (dk_at dksX8_doGoings_1 3 rfl rfl)
theorem dX8_doGoings_30 : decode cX8_doGoings 30 = .ok (.aload_n 0, 1) := dk_42 (dk_at dksX8_doGoings_1 6 rfl rfl)
theorem dX8_doGoings_31 : decode cX8_doGoings 31 = .ok (.getfield 65, 3) := dk_180 0 65 (dk_at dksX8_doGoings_1 7 rfl rfl)
theorem dX8_doGoings_34 : decode cX8_doGoings 34 = .ok (.bipush 80, 2) := dk_16 80 (dk_at dksX8_doGoings_1 10 rfl rfl)
theorem dX8_doGoings_36 : decode cX8_doGoings 36 = .ok (.bipush 16, 2) := dk_16 16 (dk_at dksX8_doGoings_1 12 rfl rfl)
theorem dX8_doGoings_38 : decode cX8_doGoings 38 = .ok (.iload_n 2, 1) := dk_28 (dk_at dksX8_doGoings_1 14 rfl rfl)
theorem dX8_doGoings_39 : decode cX8_doGoings 39 = .ok (.imul, 1) := dk_104 (dk_at dksX8_doGoings_1 15 rfl rfl)
theorem dX8_doGoings_40 : decode cX8_doGoings 40 = .ok (.iadd, 1) := dk_96 (dk_at dksX8_doGoings_1 16 rfl rfl)
theorem dX8_doGoings_41 : decode cX8_doGoings 41 = .ok (.iload_n 1, 1) := dk_27 (dk_at dksX8_doGoings_1 17 rfl rfl)
theorem dX8_doGoings_42 : decode cX8_doGoings 42 = .ok (.iadd, 1) := dk_96 (dk_at dksX8_doGoings_1 18 rfl rfl)
theorem dX8_doGoings_43 : decode cX8_doGoings 43 = .ok (.dup2, 1) := dk_92 (dk_at dksX8_doGoings_1 19 rfl rfl)
theorem dX8_doGoings_44 : decode cX8_doGoings 44 = .ok (.iaload, 1) := dk_46 (dk_at dksX8_doGoings_1 20 rfl rfl)
theorem dX8_doGoings_45 : decode cX8_doGoings 45 = .ok (.aload_n 0, 1) := dk_42 (dk_at dksX8_doGoings_1 21 rfl rfl)
theorem dX8_doGoings_46 : decode cX8_doGoings 46 = .ok (.getfield 78, 3) := dk_180 0 78 (dk_at dksX8_doGoings_2 0 rfl rfl)
theorem dX8_doGoings_49 : decode cX8_doGoings 49 = .ok (.bipush 16, 2) := dk_16 16 (dk_at dksX8_doGoings_2 3 rfl rfl)
theorem dX8_doGoings_51 : decode cX8_doGoings 51 = .ok (.bipush 16, 2) := dk_16 16 (dk_at dksX8_doGoings_2 5 rfl rfl)
theorem dX8_doGoings_53 : decode cX8_doGoings 53 = .ok (.iload_n 2, 1) := dk_28 (dk_at dksX8_doGoings_2 7 rfl rfl)
theorem dX8_doGoings_54 : decode cX8_doGoings 54 = .ok (.imul, 1) := dk_104 (dk_at dksX8_doGoings_2 8 rfl rfl)
theorem dX8_doGoings_55 : decode cX8_doGoings 55 = .ok (.iadd, 1) := dk_96 (dk_at dksX8_doGoings_2 9 rfl rfl)
theorem dX8_doGoings_56 : decode cX8_doGoings 56 = .ok (.iload_n 1, 1) := dk_27 (dk_at dksX8_doGoings_2 10 rfl rfl)
theorem dX8_doGoings_57 : decode cX8_doGoings 57 = .ok (.iadd, 1) := dk_96 (dk_at dksX8_doGoings_2 11 rfl rfl)
theorem dX8_doGoings_58 : decode cX8_doGoings 58 = .ok (.iaload, 1) := dk_46 (dk_at dksX8_doGoings_2 12 rfl rfl)
theorem dX8_doGoings_59 : decode cX8_doGoings 59 = .ok (.iadd, 1) := dk_96 (dk_at dksX8_doGoings_2 13 rfl rfl)
theorem dX8_doGoings_60 : decode cX8_doGoings 60 = .ok (.iastore, 1) := dk_79 (dk_at dksX8_doGoings_2 14 rfl rfl)
theorem dX8_doGoings_61 : decode cX8_doGoings 61 = .ok (.iinc 2 1, 3) := dk_132 2 1 (dk_at dksX8_doGoings_2 15 rfl rfl)
theorem dX8_doGoings_64 : decode cX8_doGoings 64 = .ok (.goto (-39), 3) := dk_167 255 217 (dk_at dksX8_doGoings_2 18 rfl rfl)
theorem dX8_doGoings_67 : decode cX8_doGoings 67 = .ok (.iinc 1 1, 3) := dk_132 1 1 (dk_at dksX8_doGoings_2 21 rfl rfl)
theorem dX8_doGoings_70 : decode cX8_doGoings 70 = .ok (.goto (-68), 3) := dk_167 255 188 (dk_at dksX8_doGoings_3 0 rfl rfl)
theorem dX8_doGoings_73 : decode cX8_doGoings 73 = .ok (.return_, 1) := dk_177 (dk_at dksX8_doGoings_3 3 rfl rfl)
abbrev cX8_looseOf : ByteArray := prog_17_method_22_code
def yX8_looseOf : MethodName := ⟨RX8, "looseOf", "(II)I"⟩
def dkwX8_looseOf_1 : List UInt8 := [29, 4, 162, 0, 7, 4, 167, 0, 15, 29, 16, 95, 164, 0, 8, 16, 95, 167, 0, 4, 29, 172]
abbrev dktX8_looseOf_1 : List UInt8 := dkwX8_looseOf_1 ++ []
def dkwX8_looseOf_0 : List UInt8 := [42, 180, 0, 26, 42, 180, 0, 23, 42, 180, 0, 29, 104, 96, 42, 180, 0, 32, 27, 46, 96, 28, 96, 62]
abbrev dktX8_looseOf_0 : List UInt8 := dkwX8_looseOf_0 ++ dktX8_looseOf_1
theorem dksX8_looseOf_0 : cX8_looseOf.data.toList.drop 0 = dktX8_looseOf_0 := by decide +kernel
theorem dksX8_looseOf_1 : cX8_looseOf.data.toList.drop 24 = dktX8_looseOf_1 := dk_seg dksX8_looseOf_0 24 rfl rfl
theorem dX8_looseOf_0 : decode cX8_looseOf 0 = .ok (.aload_n 0, 1) := dk_42 (dk_at dksX8_looseOf_0 0 rfl rfl)
theorem dX8_looseOf_1 : decode cX8_looseOf 1 = .ok (.getfield 26, 3) := dk_180 0 26 (dk_at dksX8_looseOf_0 1 rfl rfl)
theorem dX8_looseOf_4 : decode cX8_looseOf 4 = .ok (.aload_n 0, 1) := dk_42 (dk_at dksX8_looseOf_0 4 rfl rfl)
theorem dX8_looseOf_5 : decode cX8_looseOf 5 = .ok (.getfield 23, 3) := dk_180 0 23 (dk_at dksX8_looseOf_0 5 rfl rfl)
theorem dX8_looseOf_8 : decode cX8_looseOf 8 = .ok (.aload_n 0, 1) := dk_42 (dk_at dksX8_looseOf_0 8 rfl rfl)
theorem dX8_looseOf_9 : decode cX8_looseOf 9 = .ok (.getfield 29, 3) := dk_180 0 29 (dk_at dksX8_looseOf_0 9 rfl rfl)
theorem dX8_looseOf_12 : decode cX8_looseOf 12 = .ok (.imul, 1) := dk_104 (dk_at dksX8_looseOf_0 12 rfl rfl)
theorem dX8_looseOf_13 : decode cX8_looseOf 13 = .ok (.iadd, 1) := dk_96 (dk_at dksX8_looseOf_0 13 rfl rfl)
theorem dX8_looseOf_14 : decode cX8_looseOf 14 = .ok (.aload_n 0, 1) := dk_42 (dk_at dksX8_looseOf_0 14 rfl rfl)
theorem dX8_looseOf_15 : decode cX8_looseOf 15 = .ok (.getfield 32, 3) := dk_180 0 32 (dk_at dksX8_looseOf_0 15 rfl rfl)
theorem dX8_looseOf_18 : decode cX8_looseOf 18 = .ok (.iload_n 1, 1) := dk_27 (dk_at dksX8_looseOf_0 18 rfl rfl)
theorem dX8_looseOf_19 : decode cX8_looseOf 19 = .ok (.iaload, 1) := dk_46 (dk_at dksX8_looseOf_0 19 rfl rfl)
theorem dX8_looseOf_20 : decode cX8_looseOf 20 = .ok (.iadd, 1) := dk_96 (dk_at dksX8_looseOf_0 20 rfl rfl)
theorem dX8_looseOf_21 : decode cX8_looseOf 21 = .ok (.iload_n 2, 1) := dk_28 (dk_at dksX8_looseOf_0 21 rfl rfl)
theorem dX8_looseOf_22 : decode cX8_looseOf 22 = .ok (.iadd, 1) := dk_96 (dk_at dksX8_looseOf_0 22 rfl rfl)
theorem dX8_looseOf_23 : decode cX8_looseOf 23 = .ok (.istore_n 3, 1) := dk_62 (dk_at dksX8_looseOf_0 23 rfl rfl)
theorem dX8_looseOf_24 : decode cX8_looseOf 24 = .ok (.iload_n 3, 1) := dk_29 (dk_at dksX8_looseOf_1 0 rfl rfl)
theorem dX8_looseOf_25 : decode cX8_looseOf 25 = .ok (.iconst 1, 1) := dk_4 (dk_at dksX8_looseOf_1 1 rfl rfl)
theorem dX8_looseOf_26 : decode cX8_looseOf 26 = .ok (.if_icmp .ge 7, 3) := dk_162 0 7 (dk_at dksX8_looseOf_1 2 rfl rfl)
theorem dX8_looseOf_29 : decode cX8_looseOf 29 = .ok (.iconst 1, 1) := dk_4 (dk_at dksX8_looseOf_1 5 rfl rfl)
theorem dX8_looseOf_30 : decode cX8_looseOf 30 = .ok (.goto 15, 3) := dk_167 0 15 (dk_at dksX8_looseOf_1 6 rfl rfl)
theorem dX8_looseOf_33 : decode cX8_looseOf 33 = .ok (.iload_n 3, 1) := dk_29 (dk_at dksX8_looseOf_1 9 rfl rfl)
theorem dX8_looseOf_34 : decode cX8_looseOf 34 = .ok (.bipush 95, 2) := dk_16 95 (dk_at dksX8_looseOf_1 10 rfl rfl)
theorem dX8_looseOf_36 : decode cX8_looseOf 36 = .ok (.if_icmp .le 8, 3) := dk_164 0 8 (dk_at dksX8_looseOf_1 12 rfl rfl)
theorem dX8_looseOf_39 : decode cX8_looseOf 39 = .ok (.bipush 95, 2) := dk_16 95 (dk_at dksX8_looseOf_1 15 rfl rfl)
theorem dX8_looseOf_41 : decode cX8_looseOf 41 = .ok (.goto 4, 3) := dk_167 0 4 (dk_at dksX8_looseOf_1 17 rfl rfl)
theorem dX8_looseOf_44 : decode cX8_looseOf 44 = .ok (.iload_n 3, 1) := dk_29 (dk_at dksX8_looseOf_1 20 rfl rfl)
theorem dX8_looseOf_45 : decode cX8_looseOf 45 = .ok (.ireturn, 1) := dk_172 (dk_at dksX8_looseOf_1 21 rfl rfl)
abbrev cX8_again : ByteArray := prog_17_method_31_code
def yX8_again : MethodName := ⟨RX8, "again", "()I"⟩
def dkwX8_again_0 : List UInt8 := [42, 180, 0, 65, 17, 0, 132, 46, 60, 42, 182, 0, 87, 27, 172]
abbrev dktX8_again_0 : List UInt8 := dkwX8_again_0 ++ []
theorem dksX8_again_0 : cX8_again.data.toList.drop 0 = dktX8_again_0 := by decide +kernel
theorem dX8_again_0 : decode cX8_again 0 = .ok (.aload_n 0, 1) := dk_42 (dk_at dksX8_again_0 0 rfl rfl)
theorem dX8_again_1 : decode cX8_again 1 = .ok (.getfield 65, 3) := dk_180 0 65 (dk_at dksX8_again_0 1 rfl rfl)
theorem dX8_again_4 : decode cX8_again 4 = .ok (.sipush 132, 3) := dk_17 0 132 (dk_at dksX8_again_0 4 rfl rfl)
theorem dX8_again_7 : decode cX8_again 7 = .ok (.iaload, 1) := dk_46 (dk_at dksX8_again_0 7 rfl rfl)
theorem dX8_again_8 : decode cX8_again 8 = .ok (.istore_n 1, 1) := dk_60 (dk_at dksX8_again_0 8 rfl rfl)
theorem dX8_again_9 : decode cX8_again 9 = .ok (.aload_n 0, 1) := dk_42 (dk_at dksX8_again_0 9 rfl rfl)
theorem dX8_again_10 : decode cX8_again 10 = .ok (.invokevirtual 87, 3) := dk_182 0 87 (dk_at dksX8_again_0 10 rfl rfl)
theorem dX8_again_13 : decode cX8_again 13 = .ok (.iload_n 1, 1) := dk_27 (dk_at dksX8_again_0 13 rfl rfl)
theorem dX8_again_14 : decode cX8_again 14 = .ok (.ireturn, 1) := dk_172 (dk_at dksX8_again_0 14 rfl rfl)
abbrev cX8_cell : ByteArray := prog_17_method_32_code
def yX8_cell : MethodName := ⟨RX8, "cell", "(III)I"⟩
def dkwX8_cell_6 : List UInt8 := [172, 16, 253, 172]
abbrev dktX8_cell_6 : List UInt8 := dkwX8_cell_6 ++ []
def dkwX8_cell_5 : List UInt8 := [96, 21, 4, 96, 46, 172, 42, 180, 0, 65, 16, 80, 16, 16, 29, 16, 6, 100, 104, 96, 21, 4, 96, 46]
abbrev dktX8_cell_5 : List UInt8 := dkwX8_cell_5 ++ dktX8_cell_6
def dkwX8_cell_4 : List UInt8 := [172, 42, 180, 0, 65, 16, 16, 21, 4, 96, 46, 172, 42, 180, 0, 65, 16, 32, 16, 16, 29, 6, 100, 104]
abbrev dktX8_cell_4 : List UInt8 := dkwX8_cell_4 ++ dktX8_cell_5
def dkwX8_cell_3 : List UInt8 := [42, 180, 0, 65, 21, 4, 46, 172, 42, 21, 4, 42, 180, 0, 65, 16, 16, 21, 4, 96, 46, 182, 0, 234]
abbrev dktX8_cell_3 : List UInt8 := dkwX8_cell_3 ++ dktX8_cell_4
def dkwX8_cell_2 : List UInt8 := [170, 0, 0, 0, 122, 0, 0, 0, 0, 0, 0, 0, 8, 0, 0, 0, 49, 0, 0, 0, 57, 0, 0, 0, 74, 0, 0, 0, 85, 0, 0, 0, 85, 0, 0, 0, 85, 0, 0, 0, 103, 0, 0, 0, 103, 0, 0, 0, 103]
abbrev dktX8_cell_2 : List UInt8 := dkwX8_cell_2 ++ dktX8_cell_3
def dkwX8_cell_1 : List UInt8 := [184, 0, 90, 154, 0, 6, 16, 254, 172, 7, 28, 104, 27, 96, 54, 4, 29]
abbrev dktX8_cell_1 : List UInt8 := dkwX8_cell_1 ++ dktX8_cell_2
def dkwX8_cell_0 : List UInt8 := [27, 3, 42, 180, 0, 7, 4, 100, 184, 0, 90, 153, 0, 17, 28, 3, 42, 180, 0, 13, 4, 100]
abbrev dktX8_cell_0 : List UInt8 := dkwX8_cell_0 ++ dktX8_cell_1
theorem dksX8_cell_0 : cX8_cell.data.toList.drop 0 = dktX8_cell_0 := by decide +kernel
theorem dksX8_cell_1 : cX8_cell.data.toList.drop 22 = dktX8_cell_1 := dk_seg dksX8_cell_0 22 rfl rfl
theorem dksX8_cell_2 : cX8_cell.data.toList.drop 39 = dktX8_cell_2 := dk_seg dksX8_cell_1 17 rfl rfl
theorem dksX8_cell_3 : cX8_cell.data.toList.drop 88 = dktX8_cell_3 := dk_seg dksX8_cell_2 49 rfl rfl
theorem dksX8_cell_4 : cX8_cell.data.toList.drop 112 = dktX8_cell_4 := dk_seg dksX8_cell_3 24 rfl rfl
theorem dksX8_cell_5 : cX8_cell.data.toList.drop 136 = dktX8_cell_5 := dk_seg dksX8_cell_4 24 rfl rfl
theorem dksX8_cell_6 : cX8_cell.data.toList.drop 160 = dktX8_cell_6 := dk_seg dksX8_cell_5 24 rfl rfl
theorem dX8_cell_0 : decode cX8_cell 0 = .ok (.iload_n 1, 1) := dk_27 (dk_at dksX8_cell_0 0 rfl rfl)
theorem dX8_cell_1 : decode cX8_cell 1 = .ok (.iconst 0, 1) := dk_3 (dk_at dksX8_cell_0 1 rfl rfl)
theorem dX8_cell_2 : decode cX8_cell 2 = .ok (.aload_n 0, 1) := dk_42 (dk_at dksX8_cell_0 2 rfl rfl)
theorem dX8_cell_3 : decode cX8_cell 3 = .ok (.getfield 7, 3) := dk_180 0 7 (dk_at dksX8_cell_0 3 rfl rfl)
theorem dX8_cell_6 : decode cX8_cell 6 = .ok (.iconst 1, 1) := dk_4 (dk_at dksX8_cell_0 6 rfl rfl)
theorem dX8_cell_7 : decode cX8_cell 7 = .ok (.isub, 1) := dk_100 (dk_at dksX8_cell_0 7 rfl rfl)
theorem dX8_cell_8 : decode cX8_cell 8 = .ok (.invokestatic 90, 3) := dk_184 0 90 (dk_at dksX8_cell_0 8 rfl rfl)
theorem dX8_cell_11 : decode cX8_cell 11 = .ok (.ifCond .eq 17, 3) := dk_153 0 17 (dk_at dksX8_cell_0 11 rfl rfl)
theorem dX8_cell_14 : decode cX8_cell 14 = .ok (.iload_n 2, 1) := dk_28 (dk_at dksX8_cell_0 14 rfl rfl)
theorem dX8_cell_15 : decode cX8_cell 15 = .ok (.iconst 0, 1) := dk_3 (dk_at dksX8_cell_0 15 rfl rfl)
theorem dX8_cell_16 : decode cX8_cell 16 = .ok (.aload_n 0, 1) := dk_42 (dk_at dksX8_cell_0 16 rfl rfl)
theorem dX8_cell_17 : decode cX8_cell 17 = .ok (.getfield 13, 3) := dk_180 0 13 (dk_at dksX8_cell_0 17 rfl rfl)
theorem dX8_cell_20 : decode cX8_cell 20 = .ok (.iconst 1, 1) := dk_4 (dk_at dksX8_cell_0 20 rfl rfl)
theorem dX8_cell_21 : decode cX8_cell 21 = .ok (.isub, 1) := dk_100 (dk_at dksX8_cell_0 21 rfl rfl)
theorem dX8_cell_22 : decode cX8_cell 22 = .ok (.invokestatic 90, 3) := dk_184 0 90 (dk_at dksX8_cell_1 0 rfl rfl)
theorem dX8_cell_25 : decode cX8_cell 25 = .ok (.ifCond .ne 6, 3) := dk_154 0 6 (dk_at dksX8_cell_1 3 rfl rfl)
theorem dX8_cell_28 : decode cX8_cell 28 = .ok (.bipush (-2), 2) := dk_16 254 (dk_at dksX8_cell_1 6 rfl rfl)
theorem dX8_cell_30 : decode cX8_cell 30 = .ok (.ireturn, 1) := dk_172 (dk_at dksX8_cell_1 8 rfl rfl)
theorem dX8_cell_31 : decode cX8_cell 31 = .ok (.iconst 4, 1) := dk_7 (dk_at dksX8_cell_1 9 rfl rfl)
theorem dX8_cell_32 : decode cX8_cell 32 = .ok (.iload_n 2, 1) := dk_28 (dk_at dksX8_cell_1 10 rfl rfl)
theorem dX8_cell_33 : decode cX8_cell 33 = .ok (.imul, 1) := dk_104 (dk_at dksX8_cell_1 11 rfl rfl)
theorem dX8_cell_34 : decode cX8_cell 34 = .ok (.iload_n 1, 1) := dk_27 (dk_at dksX8_cell_1 12 rfl rfl)
theorem dX8_cell_35 : decode cX8_cell 35 = .ok (.iadd, 1) := dk_96 (dk_at dksX8_cell_1 13 rfl rfl)
theorem dX8_cell_36 : decode cX8_cell 36 = .ok (.istore 4, 2) := dk_54 4 (dk_at dksX8_cell_1 14 rfl rfl)
theorem dX8_cell_38 : decode cX8_cell 38 = .ok (.iload_n 3, 1) := dk_29 (dk_at dksX8_cell_1 16 rfl rfl)
theorem dX8_cell_39 : decode cX8_cell 39 = .ok (.tableswitch 122 0 8 #[49, 57, 74, 85, 85, 85, 103, 103, 103], 49) := by decide +kernel
theorem dX8_cell_88 : decode cX8_cell 88 = .ok (.aload_n 0, 1) := dk_42 (dk_at dksX8_cell_3 0 rfl rfl)
theorem dX8_cell_89 : decode cX8_cell 89 = .ok (.getfield 65, 3) := dk_180 0 65 (dk_at dksX8_cell_3 1 rfl rfl)
theorem dX8_cell_92 : decode cX8_cell 92 = .ok (.iload 4, 2) := dk_21 4 (dk_at dksX8_cell_3 4 rfl rfl)
theorem dX8_cell_94 : decode cX8_cell 94 = .ok (.iaload, 1) := dk_46 (dk_at dksX8_cell_3 6 rfl rfl)
theorem dX8_cell_95 : decode cX8_cell 95 = .ok (.ireturn, 1) := dk_172 (dk_at dksX8_cell_3 7 rfl rfl)
theorem dX8_cell_96 : decode cX8_cell 96 = .ok (.aload_n 0, 1) := dk_42 (dk_at dksX8_cell_3 8 rfl rfl)
theorem dX8_cell_97 : decode cX8_cell 97 = .ok (.iload 4, 2) := dk_21 4 (dk_at dksX8_cell_3 9 rfl rfl)
theorem dX8_cell_99 : decode cX8_cell 99 = .ok (.aload_n 0, 1) := dk_42 (dk_at dksX8_cell_3 11 rfl rfl)
theorem dX8_cell_100 : decode cX8_cell 100 = .ok (.getfield 65, 3) := dk_180 0 65 (dk_at dksX8_cell_3 12 rfl rfl)
theorem dX8_cell_103 : decode cX8_cell 103 = .ok (.bipush 16, 2) := dk_16 16 (dk_at dksX8_cell_3 15 rfl rfl)
theorem dX8_cell_105 : decode cX8_cell 105 = .ok (.iload 4, 2) := dk_21 4 (dk_at dksX8_cell_3 17 rfl rfl)
theorem dX8_cell_107 : decode cX8_cell 107 = .ok (.iadd, 1) := dk_96 (dk_at dksX8_cell_3 19 rfl rfl)
theorem dX8_cell_108 : decode cX8_cell 108 = .ok (.iaload, 1) := dk_46 (dk_at dksX8_cell_3 20 rfl rfl)
theorem dX8_cell_109 : decode cX8_cell 109 = .ok (.invokevirtual 234, 3) := dk_182 0 234 (dk_at dksX8_cell_3 21 rfl rfl)
theorem dX8_cell_112 : decode cX8_cell 112 = .ok (.ireturn, 1) := dk_172 (dk_at dksX8_cell_4 0 rfl rfl)
theorem dX8_cell_113 : decode cX8_cell 113 = .ok (.aload_n 0, 1) := dk_42 (dk_at dksX8_cell_4 1 rfl rfl)
theorem dX8_cell_114 : decode cX8_cell 114 = .ok (.getfield 65, 3) := dk_180 0 65 (dk_at dksX8_cell_4 2 rfl rfl)
theorem dX8_cell_117 : decode cX8_cell 117 = .ok (.bipush 16, 2) := dk_16 16 (dk_at dksX8_cell_4 5 rfl rfl)
theorem dX8_cell_119 : decode cX8_cell 119 = .ok (.iload 4, 2) := dk_21 4 (dk_at dksX8_cell_4 7 rfl rfl)
theorem dX8_cell_121 : decode cX8_cell 121 = .ok (.iadd, 1) := dk_96 (dk_at dksX8_cell_4 9 rfl rfl)
theorem dX8_cell_122 : decode cX8_cell 122 = .ok (.iaload, 1) := dk_46 (dk_at dksX8_cell_4 10 rfl rfl)
theorem dX8_cell_123 : decode cX8_cell 123 = .ok (.ireturn, 1) := dk_172 (dk_at dksX8_cell_4 11 rfl rfl)
theorem dX8_cell_124 : decode cX8_cell 124 = .ok (.aload_n 0, 1) := dk_42 (dk_at dksX8_cell_4 12 rfl rfl)
theorem dX8_cell_125 : decode cX8_cell 125 = .ok (.getfield 65, 3) := dk_180 0 65 (dk_at dksX8_cell_4 13 rfl rfl)
theorem dX8_cell_128 : decode cX8_cell 128 = .ok (.bipush 32, 2) := dk_16 32 (dk_at dksX8_cell_4 16 rfl rfl)
theorem dX8_cell_130 : decode cX8_cell 130 = .ok (.bipush 16, 2) := dk_16 16 (dk_at dksX8_cell_4 18 rfl rfl)
theorem dX8_cell_132 : decode cX8_cell 132 = .ok (.iload_n 3, 1) := dk_29 (dk_at dksX8_cell_4 20 rfl rfl)
theorem dX8_cell_133 : decode cX8_cell 133 = .ok (.iconst 3, 1) := dk_6 (dk_at dksX8_cell_4 21 rfl rfl)
theorem dX8_cell_134 : decode cX8_cell 134 = .ok (.isub, 1) := dk_100 (dk_at dksX8_cell_4 22 rfl rfl)
theorem dX8_cell_135 : decode cX8_cell 135 = .ok (.imul, 1) := dk_104 (dk_at dksX8_cell_4 23 rfl rfl)
theorem dX8_cell_136 : decode cX8_cell 136 = .ok (.iadd, 1) := dk_96 (dk_at dksX8_cell_5 0 rfl rfl)
theorem dX8_cell_137 : decode cX8_cell 137 = .ok (.iload 4, 2) := dk_21 4 (dk_at dksX8_cell_5 1 rfl rfl)
theorem dX8_cell_139 : decode cX8_cell 139 = .ok (.iadd, 1) := dk_96 (dk_at dksX8_cell_5 3 rfl rfl)
theorem dX8_cell_140 : decode cX8_cell 140 = .ok (.iaload, 1) := dk_46 (dk_at dksX8_cell_5 4 rfl rfl)
theorem dX8_cell_141 : decode cX8_cell 141 = .ok (.ireturn, 1) := dk_172 (dk_at dksX8_cell_5 5 rfl rfl)
theorem dX8_cell_142 : decode cX8_cell 142 = .ok (.aload_n 0, 1) := dk_42 (dk_at dksX8_cell_5 6 rfl rfl)
theorem dX8_cell_143 : decode cX8_cell 143 = .ok (.getfield 65, 3) := dk_180 0 65 (dk_at dksX8_cell_5 7 rfl rfl)
theorem dX8_cell_146 : decode cX8_cell 146 = .ok (.bipush 80, 2) := dk_16 80 (dk_at dksX8_cell_5 10 rfl rfl)
theorem dX8_cell_148 : decode cX8_cell 148 = .ok (.bipush 16, 2) := dk_16 16 (dk_at dksX8_cell_5 12 rfl rfl)
theorem dX8_cell_150 : decode cX8_cell 150 = .ok (.iload_n 3, 1) := dk_29 (dk_at dksX8_cell_5 14 rfl rfl)
theorem dX8_cell_151 : decode cX8_cell 151 = .ok (.bipush 6, 2) := dk_16 6 (dk_at dksX8_cell_5 15 rfl rfl)
theorem dX8_cell_153 : decode cX8_cell 153 = .ok (.isub, 1) := dk_100 (dk_at dksX8_cell_5 17 rfl rfl)
theorem dX8_cell_154 : decode cX8_cell 154 = .ok (.imul, 1) := dk_104 (dk_at dksX8_cell_5 18 rfl rfl)
theorem dX8_cell_155 : decode cX8_cell 155 = .ok (.iadd, 1) := dk_96 (dk_at dksX8_cell_5 19 rfl rfl)
theorem dX8_cell_156 : decode cX8_cell 156 = .ok (.iload 4, 2) := dk_21 4 (dk_at dksX8_cell_5 20 rfl rfl)
theorem dX8_cell_158 : decode cX8_cell 158 = .ok (.iadd, 1) := dk_96 (dk_at dksX8_cell_5 22 rfl rfl)
theorem dX8_cell_159 : decode cX8_cell 159 = .ok (.iaload, 1) := dk_46 (dk_at dksX8_cell_5 23 rfl rfl)
theorem dX8_cell_160 : decode cX8_cell 160 = .ok (.ireturn, 1) := dk_172 (dk_at dksX8_cell_6 0 rfl rfl)
theorem dX8_cell_161 : decode cX8_cell 161 = .ok (.bipush (-3), 2) := dk_16 253 (dk_at dksX8_cell_6 1 rfl rfl)
theorem dX8_cell_163 : decode cX8_cell 163 = .ok (.ireturn, 1) := dk_172 (dk_at dksX8_cell_6 3 rfl rfl)
abbrev cX8_cup : ByteArray := prog_17_method_38_code
def yX8_cup : MethodName := ⟨RX8, "cup", "(I)I"⟩
def dkwX8_cup_4 : List UInt8 := [16, 253, 172]
abbrev dktX8_cup_4 : List UInt8 := dkwX8_cup_4 ++ []
def dkwX8_cup_3 : List UInt8 := [182, 0, 254, 172, 42, 182, 1, 1, 172, 42, 182, 1, 4, 172, 42, 180, 0, 65, 17, 0, 132, 46, 172]
abbrev dktX8_cup_3 : List UInt8 := dkwX8_cup_3 ++ dktX8_cup_4
def dkwX8_cup_2 : List UInt8 := [42, 180, 0, 65, 17, 0, 128, 46, 172, 42, 180, 0, 65, 17, 0, 129, 27, 96, 4, 100, 46, 172, 42]
abbrev dktX8_cup_2 : List UInt8 := dkwX8_cup_2 ++ dktX8_cup_3
def dkwX8_cup_1 : List UInt8 := [170, 0, 0, 0, 0, 0, 93, 0, 0, 0, 0, 0, 0, 0, 7, 0, 0, 0, 47, 0, 0, 0, 56, 0, 0, 0, 56, 0, 0, 0, 56, 0, 0, 0, 69, 0, 0, 0, 74, 0, 0, 0, 79, 0, 0, 0, 84]
abbrev dktX8_cup_1 : List UInt8 := dkwX8_cup_1 ++ dktX8_cup_2
def dkwX8_cup_0 : List UInt8 := [27]
abbrev dktX8_cup_0 : List UInt8 := dkwX8_cup_0 ++ dktX8_cup_1
theorem dksX8_cup_0 : cX8_cup.data.toList.drop 0 = dktX8_cup_0 := by decide +kernel
theorem dksX8_cup_1 : cX8_cup.data.toList.drop 1 = dktX8_cup_1 := dk_seg dksX8_cup_0 1 rfl rfl
theorem dksX8_cup_2 : cX8_cup.data.toList.drop 48 = dktX8_cup_2 := dk_seg dksX8_cup_1 47 rfl rfl
theorem dksX8_cup_3 : cX8_cup.data.toList.drop 71 = dktX8_cup_3 := dk_seg dksX8_cup_2 23 rfl rfl
theorem dksX8_cup_4 : cX8_cup.data.toList.drop 94 = dktX8_cup_4 := dk_seg dksX8_cup_3 23 rfl rfl
theorem dX8_cup_0 : decode cX8_cup 0 = .ok (.iload_n 1, 1) := dk_27 (dk_at dksX8_cup_0 0 rfl rfl)
theorem dX8_cup_1 : decode cX8_cup 1 = .ok (.tableswitch 93 0 7 #[47, 56, 56, 56, 69, 74, 79, 84], 47) := by decide +kernel
theorem dX8_cup_48 : decode cX8_cup 48 = .ok (.aload_n 0, 1) := dk_42 (dk_at dksX8_cup_2 0 rfl rfl)
theorem dX8_cup_49 : decode cX8_cup 49 = .ok (.getfield 65, 3) := dk_180 0 65 (dk_at dksX8_cup_2 1 rfl rfl)
theorem dX8_cup_52 : decode cX8_cup 52 = .ok (.sipush 128, 3) := dk_17 0 128 (dk_at dksX8_cup_2 4 rfl rfl)
theorem dX8_cup_55 : decode cX8_cup 55 = .ok (.iaload, 1) := dk_46 (dk_at dksX8_cup_2 7 rfl rfl)
theorem dX8_cup_56 : decode cX8_cup 56 = .ok (.ireturn, 1) := dk_172 (dk_at dksX8_cup_2 8 rfl rfl)
theorem dX8_cup_57 : decode cX8_cup 57 = .ok (.aload_n 0, 1) := dk_42 (dk_at dksX8_cup_2 9 rfl rfl)
theorem dX8_cup_58 : decode cX8_cup 58 = .ok (.getfield 65, 3) := dk_180 0 65 (dk_at dksX8_cup_2 10 rfl rfl)
theorem dX8_cup_61 : decode cX8_cup 61 = .ok (.sipush 129, 3) := dk_17 0 129 (dk_at dksX8_cup_2 13 rfl rfl)
theorem dX8_cup_64 : decode cX8_cup 64 = .ok (.iload_n 1, 1) := dk_27 (dk_at dksX8_cup_2 16 rfl rfl)
theorem dX8_cup_65 : decode cX8_cup 65 = .ok (.iadd, 1) := dk_96 (dk_at dksX8_cup_2 17 rfl rfl)
theorem dX8_cup_66 : decode cX8_cup 66 = .ok (.iconst 1, 1) := dk_4 (dk_at dksX8_cup_2 18 rfl rfl)
theorem dX8_cup_67 : decode cX8_cup 67 = .ok (.isub, 1) := dk_100 (dk_at dksX8_cup_2 19 rfl rfl)
theorem dX8_cup_68 : decode cX8_cup 68 = .ok (.iaload, 1) := dk_46 (dk_at dksX8_cup_2 20 rfl rfl)
theorem dX8_cup_69 : decode cX8_cup 69 = .ok (.ireturn, 1) := dk_172 (dk_at dksX8_cup_2 21 rfl rfl)
theorem dX8_cup_70 : decode cX8_cup 70 = .ok (.aload_n 0, 1) := dk_42 (dk_at dksX8_cup_2 22 rfl rfl)
theorem dX8_cup_71 : decode cX8_cup 71 = .ok (.invokevirtual 254, 3) := dk_182 0 254 (dk_at dksX8_cup_3 0 rfl rfl)
theorem dX8_cup_74 : decode cX8_cup 74 = .ok (.ireturn, 1) := dk_172 (dk_at dksX8_cup_3 3 rfl rfl)
theorem dX8_cup_75 : decode cX8_cup 75 = .ok (.aload_n 0, 1) := dk_42 (dk_at dksX8_cup_3 4 rfl rfl)
theorem dX8_cup_76 : decode cX8_cup 76 = .ok (.invokevirtual 257, 3) := dk_182 1 1 (dk_at dksX8_cup_3 5 rfl rfl)
theorem dX8_cup_79 : decode cX8_cup 79 = .ok (.ireturn, 1) := dk_172 (dk_at dksX8_cup_3 8 rfl rfl)
theorem dX8_cup_80 : decode cX8_cup 80 = .ok (.aload_n 0, 1) := dk_42 (dk_at dksX8_cup_3 9 rfl rfl)
theorem dX8_cup_81 : decode cX8_cup 81 = .ok (.invokevirtual 260, 3) := dk_182 1 4 (dk_at dksX8_cup_3 10 rfl rfl)
theorem dX8_cup_84 : decode cX8_cup 84 = .ok (.ireturn, 1) := dk_172 (dk_at dksX8_cup_3 13 rfl rfl)
theorem dX8_cup_85 : decode cX8_cup 85 = .ok (.aload_n 0, 1) := dk_42 (dk_at dksX8_cup_3 14 rfl rfl)
theorem dX8_cup_86 : decode cX8_cup 86 = .ok (.getfield 65, 3) := dk_180 0 65 (dk_at dksX8_cup_3 15 rfl rfl)
theorem dX8_cup_89 : decode cX8_cup 89 = .ok (.sipush 132, 3) := dk_17 0 132 (dk_at dksX8_cup_3 18 rfl rfl)
theorem dX8_cup_92 : decode cX8_cup 92 = .ok (.iaload, 1) := dk_46 (dk_at dksX8_cup_3 21 rfl rfl)
theorem dX8_cup_93 : decode cX8_cup 93 = .ok (.ireturn, 1) := dk_172 (dk_at dksX8_cup_3 22 rfl rfl)
theorem dX8_cup_94 : decode cX8_cup 94 = .ok (.bipush (-3), 2) := dk_16 253 (dk_at dksX8_cup_4 0 rfl rfl)
theorem dX8_cup_96 : decode cX8_cup 96 = .ok (.ireturn, 1) := dk_172 (dk_at dksX8_cup_4 2 rfl rfl)
abbrev cX8_strong : ByteArray := prog_17_method_34_code
def yX8_strong : MethodName := ⟨RX8, "strong", "()I"⟩
def dkwX8_strong_1 : List UInt8 := [20, 0, 249, 42, 182, 0, 245, 133, 105, 27, 133, 109, 136, 172]
abbrev dktX8_strong_1 : List UInt8 := dkwX8_strong_1 ++ []
def dkwX8_strong_0 : List UInt8 := [42, 180, 0, 65, 17, 0, 128, 46, 42, 182, 0, 245, 96, 60, 27, 154, 0, 7, 3, 167, 0, 16]
abbrev dktX8_strong_0 : List UInt8 := dkwX8_strong_0 ++ dktX8_strong_1
theorem dksX8_strong_0 : cX8_strong.data.toList.drop 0 = dktX8_strong_0 := by decide +kernel
theorem dksX8_strong_1 : cX8_strong.data.toList.drop 22 = dktX8_strong_1 := dk_seg dksX8_strong_0 22 rfl rfl
theorem dX8_strong_0 : decode cX8_strong 0 = .ok (.aload_n 0, 1) := dk_42 (dk_at dksX8_strong_0 0 rfl rfl)
theorem dX8_strong_1 : decode cX8_strong 1 = .ok (.getfield 65, 3) := dk_180 0 65 (dk_at dksX8_strong_0 1 rfl rfl)
theorem dX8_strong_4 : decode cX8_strong 4 = .ok (.sipush 128, 3) := dk_17 0 128 (dk_at dksX8_strong_0 4 rfl rfl)
theorem dX8_strong_7 : decode cX8_strong 7 = .ok (.iaload, 1) := dk_46 (dk_at dksX8_strong_0 7 rfl rfl)
theorem dX8_strong_8 : decode cX8_strong 8 = .ok (.aload_n 0, 1) := dk_42 (dk_at dksX8_strong_0 8 rfl rfl)
theorem dX8_strong_9 : decode cX8_strong 9 = .ok (.invokevirtual 245, 3) := dk_182 0 245 (dk_at dksX8_strong_0 9 rfl rfl)
theorem dX8_strong_12 : decode cX8_strong 12 = .ok (.iadd, 1) := dk_96 (dk_at dksX8_strong_0 12 rfl rfl)
theorem dX8_strong_13 : decode cX8_strong 13 = .ok (.istore_n 1, 1) := dk_60 (dk_at dksX8_strong_0 13 rfl rfl)
theorem dX8_strong_14 : decode cX8_strong 14 = .ok (.iload_n 1, 1) := dk_27 (dk_at dksX8_strong_0 14 rfl rfl)
theorem dX8_strong_15 : decode cX8_strong 15 = .ok (.ifCond .ne 7, 3) := dk_154 0 7 (dk_at dksX8_strong_0 15 rfl rfl)
theorem dX8_strong_18 : decode cX8_strong 18 = .ok (.iconst 0, 1) := dk_3 (dk_at dksX8_strong_0 18 rfl rfl)
theorem dX8_strong_19 : decode cX8_strong 19 = .ok (.goto 16, 3) := dk_167 0 16 (dk_at dksX8_strong_0 19 rfl rfl)
theorem dX8_strong_22 : decode cX8_strong 22 = .ok (.ldc2_w 249, 3) := dk_20 0 249 (dk_at dksX8_strong_1 0 rfl rfl)
theorem dX8_strong_25 : decode cX8_strong 25 = .ok (.aload_n 0, 1) := dk_42 (dk_at dksX8_strong_1 3 rfl rfl)
theorem dX8_strong_26 : decode cX8_strong 26 = .ok (.invokevirtual 245, 3) := dk_182 0 245 (dk_at dksX8_strong_1 4 rfl rfl)
theorem dX8_strong_29 : decode cX8_strong 29 = .ok (.i2l, 1) := dk_133 (dk_at dksX8_strong_1 7 rfl rfl)
theorem dX8_strong_30 : decode cX8_strong 30 = .ok (.lmul, 1) := dk_105 (dk_at dksX8_strong_1 8 rfl rfl)
theorem dX8_strong_31 : decode cX8_strong 31 = .ok (.iload_n 1, 1) := dk_27 (dk_at dksX8_strong_1 9 rfl rfl)
theorem dX8_strong_32 : decode cX8_strong 32 = .ok (.i2l, 1) := dk_133 (dk_at dksX8_strong_1 10 rfl rfl)
theorem dX8_strong_33 : decode cX8_strong 33 = .ok (.ldiv, 1) := dk_109 (dk_at dksX8_strong_1 11 rfl rfl)
theorem dX8_strong_34 : decode cX8_strong 34 = .ok (.l2i, 1) := dk_136 (dk_at dksX8_strong_1 12 rfl rfl)
theorem dX8_strong_35 : decode cX8_strong 35 = .ok (.ireturn, 1) := dk_172 (dk_at dksX8_strong_1 13 rfl rfl)
abbrev cX8_cupStuffs : ByteArray := prog_17_method_33_code
def yX8_cupStuffs : MethodName := ⟨RX8, "cupStuffs", "()I"⟩
def dkwX8_cupStuffs_1 : List UInt8 := [46, 96, 172]
abbrev dktX8_cupStuffs_1 : List UInt8 := dkwX8_cupStuffs_1 ++ []
def dkwX8_cupStuffs_0 : List UInt8 := [42, 180, 0, 65, 17, 0, 129, 46, 42, 180, 0, 65, 17, 0, 130, 46, 96, 42, 180, 0, 65, 17, 0, 131]
abbrev dktX8_cupStuffs_0 : List UInt8 := dkwX8_cupStuffs_0 ++ dktX8_cupStuffs_1
theorem dksX8_cupStuffs_0 : cX8_cupStuffs.data.toList.drop 0 = dktX8_cupStuffs_0 := by decide +kernel
theorem dksX8_cupStuffs_1 : cX8_cupStuffs.data.toList.drop 24 = dktX8_cupStuffs_1 := dk_seg dksX8_cupStuffs_0 24 rfl rfl
theorem dX8_cupStuffs_0 : decode cX8_cupStuffs 0 = .ok (.aload_n 0, 1) := dk_42 (dk_at dksX8_cupStuffs_0 0 rfl rfl)
theorem dX8_cupStuffs_1 : decode cX8_cupStuffs 1 = .ok (.getfield 65, 3) := dk_180 0 65 (dk_at dksX8_cupStuffs_0 1 rfl rfl)
theorem dX8_cupStuffs_4 : decode cX8_cupStuffs 4 = .ok (.sipush 129, 3) := dk_17 0 129 (dk_at dksX8_cupStuffs_0 4 rfl rfl)
theorem dX8_cupStuffs_7 : decode cX8_cupStuffs 7 = .ok (.iaload, 1) := dk_46 (dk_at dksX8_cupStuffs_0 7 rfl rfl)
theorem dX8_cupStuffs_8 : decode cX8_cupStuffs 8 = .ok (.aload_n 0, 1) := dk_42 (dk_at dksX8_cupStuffs_0 8 rfl rfl)
theorem dX8_cupStuffs_9 : decode cX8_cupStuffs 9 = .ok (.getfield 65, 3) := dk_180 0 65 (dk_at dksX8_cupStuffs_0 9 rfl rfl)
theorem dX8_cupStuffs_12 : decode cX8_cupStuffs 12 = .ok (.sipush 130, 3) := dk_17 0 130 (dk_at dksX8_cupStuffs_0 12 rfl rfl)
theorem dX8_cupStuffs_15 : decode cX8_cupStuffs 15 = .ok (.iaload, 1) := dk_46 (dk_at dksX8_cupStuffs_0 15 rfl rfl)
theorem dX8_cupStuffs_16 : decode cX8_cupStuffs 16 = .ok (.iadd, 1) := dk_96 (dk_at dksX8_cupStuffs_0 16 rfl rfl)
theorem dX8_cupStuffs_17 : decode cX8_cupStuffs 17 = .ok (.aload_n 0, 1) := dk_42 (dk_at dksX8_cupStuffs_0 17 rfl rfl)
theorem dX8_cupStuffs_18 : decode cX8_cupStuffs 18 = .ok (.getfield 65, 3) := dk_180 0 65 (dk_at dksX8_cupStuffs_0 18 rfl rfl)
theorem dX8_cupStuffs_21 : decode cX8_cupStuffs 21 = .ok (.sipush 131, 3) := dk_17 0 131 (dk_at dksX8_cupStuffs_0 21 rfl rfl)
theorem dX8_cupStuffs_24 : decode cX8_cupStuffs 24 = .ok (.iaload, 1) := dk_46 (dk_at dksX8_cupStuffs_1 0 rfl rfl)
theorem dX8_cupStuffs_25 : decode cX8_cupStuffs 25 = .ok (.iadd, 1) := dk_96 (dk_at dksX8_cupStuffs_1 1 rfl rfl)
theorem dX8_cupStuffs_26 : decode cX8_cupStuffs 26 = .ok (.ireturn, 1) := dk_172 (dk_at dksX8_cupStuffs_1 2 rfl rfl)
abbrev cX8_out : ByteArray := prog_17_method_35_code
def yX8_out : MethodName := ⟨RX8, "out", "()I"⟩
def dkwX8_out_1 : List UInt8 := [42, 180, 0, 65, 17, 0, 133, 46, 133, 109, 136, 172]
abbrev dktX8_out_1 : List UInt8 := dkwX8_out_1 ++ []
def dkwX8_out_0 : List UInt8 := [42, 180, 0, 65, 17, 0, 133, 46, 154, 0, 7, 3, 167, 0, 23, 20, 0, 249, 42, 182, 0, 245, 133, 105]
abbrev dktX8_out_0 : List UInt8 := dkwX8_out_0 ++ dktX8_out_1
theorem dksX8_out_0 : cX8_out.data.toList.drop 0 = dktX8_out_0 := by decide +kernel
theorem dksX8_out_1 : cX8_out.data.toList.drop 24 = dktX8_out_1 := dk_seg dksX8_out_0 24 rfl rfl
theorem dX8_out_0 : decode cX8_out 0 = .ok (.aload_n 0, 1) := dk_42 (dk_at dksX8_out_0 0 rfl rfl)
theorem dX8_out_1 : decode cX8_out 1 = .ok (.getfield 65, 3) := dk_180 0 65 (dk_at dksX8_out_0 1 rfl rfl)
theorem dX8_out_4 : decode cX8_out 4 = .ok (.sipush 133, 3) := dk_17 0 133 (dk_at dksX8_out_0 4 rfl rfl)
theorem dX8_out_7 : decode cX8_out 7 = .ok (.iaload, 1) := dk_46 (dk_at dksX8_out_0 7 rfl rfl)
theorem dX8_out_8 : decode cX8_out 8 = .ok (.ifCond .ne 7, 3) := dk_154 0 7 (dk_at dksX8_out_0 8 rfl rfl)
theorem dX8_out_11 : decode cX8_out 11 = .ok (.iconst 0, 1) := dk_3 (dk_at dksX8_out_0 11 rfl rfl)
theorem dX8_out_12 : decode cX8_out 12 = .ok (.goto 23, 3) := dk_167 0 23 (dk_at dksX8_out_0 12 rfl rfl)
theorem dX8_out_15 : decode cX8_out 15 = .ok (.ldc2_w 249, 3) := dk_20 0 249 (dk_at dksX8_out_0 15 rfl rfl)
theorem dX8_out_18 : decode cX8_out 18 = .ok (.aload_n 0, 1) := dk_42 (dk_at dksX8_out_0 18 rfl rfl)
theorem dX8_out_19 : decode cX8_out 19 = .ok (.invokevirtual 245, 3) := dk_182 0 245 (dk_at dksX8_out_0 19 rfl rfl)
theorem dX8_out_22 : decode cX8_out 22 = .ok (.i2l, 1) := dk_133 (dk_at dksX8_out_0 22 rfl rfl)
theorem dX8_out_23 : decode cX8_out 23 = .ok (.lmul, 1) := dk_105 (dk_at dksX8_out_0 23 rfl rfl)
theorem dX8_out_24 : decode cX8_out 24 = .ok (.aload_n 0, 1) := dk_42 (dk_at dksX8_out_1 0 rfl rfl)
theorem dX8_out_25 : decode cX8_out 25 = .ok (.getfield 65, 3) := dk_180 0 65 (dk_at dksX8_out_1 1 rfl rfl)
theorem dX8_out_28 : decode cX8_out 28 = .ok (.sipush 133, 3) := dk_17 0 133 (dk_at dksX8_out_1 4 rfl rfl)
theorem dX8_out_31 : decode cX8_out 31 = .ok (.iaload, 1) := dk_46 (dk_at dksX8_out_1 7 rfl rfl)
theorem dX8_out_32 : decode cX8_out 32 = .ok (.i2l, 1) := dk_133 (dk_at dksX8_out_1 8 rfl rfl)
theorem dX8_out_33 : decode cX8_out 33 = .ok (.ldiv, 1) := dk_109 (dk_at dksX8_out_1 9 rfl rfl)
theorem dX8_out_34 : decode cX8_out 34 = .ok (.l2i, 1) := dk_136 (dk_at dksX8_out_1 10 rfl rfl)
theorem dX8_out_35 : decode cX8_out 35 = .ok (.ireturn, 1) := dk_172 (dk_at dksX8_out_1 11 rfl rfl)
abbrev cX8_uneven : ByteArray := prog_17_method_37_code
def yX8_uneven : MethodName := ⟨RX8, "uneven", "()I"⟩
def dkwX8_uneven_3 : List UInt8 := [28, 164, 0, 8, 21, 5, 167, 0, 4, 28, 61, 132, 3, 1, 167, 255, 178, 28, 27, 100, 172]
abbrev dktX8_uneven_3 : List UInt8 := dkwX8_uneven_3 ++ []
def dkwX8_uneven_2 : List UInt8 := [133, 105, 21, 4, 133, 109, 136, 54, 5, 21, 5, 27, 162, 0, 8, 21, 5, 167, 0, 4, 27, 60, 21, 5]
abbrev dktX8_uneven_2 : List UInt8 := dkwX8_uneven_2 ++ dktX8_uneven_3
def dkwX8_uneven_1 : List UInt8 := [96, 46, 54, 4, 21, 4, 154, 0, 7, 3, 167, 0, 21, 20, 0, 249, 21, 4, 42, 29, 182, 0, 251, 100]
abbrev dktX8_uneven_1 : List UInt8 := dkwX8_uneven_1 ++ dktX8_uneven_2
def dkwX8_uneven_0 : List UInt8 := [17, 3, 233, 60, 2, 61, 3, 62, 29, 42, 180, 0, 7, 162, 0, 76, 42, 180, 0, 65, 17, 0, 134, 29]
abbrev dktX8_uneven_0 : List UInt8 := dkwX8_uneven_0 ++ dktX8_uneven_1
theorem dksX8_uneven_0 : cX8_uneven.data.toList.drop 0 = dktX8_uneven_0 := by decide +kernel
theorem dksX8_uneven_1 : cX8_uneven.data.toList.drop 24 = dktX8_uneven_1 := dk_seg dksX8_uneven_0 24 rfl rfl
theorem dksX8_uneven_2 : cX8_uneven.data.toList.drop 48 = dktX8_uneven_2 := dk_seg dksX8_uneven_1 24 rfl rfl
theorem dksX8_uneven_3 : cX8_uneven.data.toList.drop 72 = dktX8_uneven_3 := dk_seg dksX8_uneven_2 24 rfl rfl
theorem dX8_uneven_0 : decode cX8_uneven 0 = .ok (.sipush 1001, 3) := dk_17 3 233 (dk_at dksX8_uneven_0 0 rfl rfl)
theorem dX8_uneven_3 : decode cX8_uneven 3 = .ok (.istore_n 1, 1) := dk_60 (dk_at dksX8_uneven_0 3 rfl rfl)
theorem dX8_uneven_4 : decode cX8_uneven 4 = .ok (.iconst (-1), 1) := dk_2 (dk_at dksX8_uneven_0 4 rfl rfl)
theorem dX8_uneven_5 : decode cX8_uneven 5 = .ok (.istore_n 2, 1) := dk_61 (dk_at dksX8_uneven_0 5 rfl rfl)
theorem dX8_uneven_6 : decode cX8_uneven 6 = .ok (.iconst 0, 1) := dk_3 (dk_at dksX8_uneven_0 6 rfl rfl)
theorem dX8_uneven_7 : decode cX8_uneven 7 = .ok (.istore_n 3, 1) := dk_62 (dk_at dksX8_uneven_0 7 rfl rfl)
theorem dX8_uneven_8 : decode cX8_uneven 8 = .ok (.iload_n 3, 1) := dk_29 (dk_at dksX8_uneven_0 8 rfl rfl)
theorem dX8_uneven_9 : decode cX8_uneven 9 = .ok (.aload_n 0, 1) := dk_42 (dk_at dksX8_uneven_0 9 rfl rfl)
theorem dX8_uneven_10 : decode cX8_uneven 10 = .ok (.getfield 7, 3) := dk_180 0 7 (dk_at dksX8_uneven_0 10 rfl rfl)
theorem dX8_uneven_13 : decode cX8_uneven 13 = .ok (.if_icmp .ge 76, 3) := dk_162 0 76 (dk_at dksX8_uneven_0 13 rfl rfl)
theorem dX8_uneven_16 : decode cX8_uneven 16 = .ok (.aload_n 0, 1) := dk_42 (dk_at dksX8_uneven_0 16 rfl rfl)
theorem dX8_uneven_17 : decode cX8_uneven 17 = .ok (.getfield 65, 3) := dk_180 0 65 (dk_at dksX8_uneven_0 17 rfl rfl)
theorem dX8_uneven_20 : decode cX8_uneven 20 = .ok (.sipush 134, 3) := dk_17 0 134 (dk_at dksX8_uneven_0 20 rfl rfl)
theorem dX8_uneven_23 : decode cX8_uneven 23 = .ok (.iload_n 3, 1) := dk_29 (dk_at dksX8_uneven_0 23 rfl rfl)
theorem dX8_uneven_24 : decode cX8_uneven 24 = .ok (.iadd, 1) := dk_96 (dk_at dksX8_uneven_1 0 rfl rfl)
theorem dX8_uneven_25 : decode cX8_uneven 25 = .ok (.iaload, 1) := dk_46 (dk_at dksX8_uneven_1 1 rfl rfl)
theorem dX8_uneven_26 : decode cX8_uneven 26 = .ok (.istore 4, 2) := dk_54 4 (dk_at dksX8_uneven_1 2 rfl rfl)
theorem dX8_uneven_28 : decode cX8_uneven 28 = .ok (.iload 4, 2) := dk_21 4 (dk_at dksX8_uneven_1 4 rfl rfl)
theorem dX8_uneven_30 : decode cX8_uneven 30 = .ok (.ifCond .ne 7, 3) := dk_154 0 7 (dk_at dksX8_uneven_1 6 rfl rfl)
theorem dX8_uneven_33 : decode cX8_uneven 33 = .ok (.iconst 0, 1) := dk_3 (dk_at dksX8_uneven_1 9 rfl rfl)
theorem dX8_uneven_34 : decode cX8_uneven 34 = .ok (.goto 21, 3) := dk_167 0 21 (dk_at dksX8_uneven_1 10 rfl rfl)
theorem dX8_uneven_37 : decode cX8_uneven 37 = .ok (.ldc2_w 249, 3) := dk_20 0 249 (dk_at dksX8_uneven_1 13 rfl rfl)
theorem dX8_uneven_40 : decode cX8_uneven 40 = .ok (.iload 4, 2) := dk_21 4 (dk_at dksX8_uneven_1 16 rfl rfl)
theorem dX8_uneven_42 : decode cX8_uneven 42 = .ok (.aload_n 0, 1) := dk_42 (dk_at dksX8_uneven_1 18 rfl rfl)
theorem dX8_uneven_43 : decode cX8_uneven 43 = .ok (.iload_n 3, 1) := dk_29 (dk_at dksX8_uneven_1 19 rfl rfl)
theorem dX8_uneven_44 : decode cX8_uneven 44 = .ok (.invokevirtual 251, 3) := dk_182 0 251 (dk_at dksX8_uneven_1 20 rfl rfl)
theorem dX8_uneven_47 : decode cX8_uneven 47 = .ok (.isub, 1) := dk_100 (dk_at dksX8_uneven_1 23 rfl rfl)
theorem dX8_uneven_48 : decode cX8_uneven 48 = .ok (.i2l, 1) := dk_133 (dk_at dksX8_uneven_2 0 rfl rfl)
theorem dX8_uneven_49 : decode cX8_uneven 49 = .ok (.lmul, 1) := dk_105 (dk_at dksX8_uneven_2 1 rfl rfl)
theorem dX8_uneven_50 : decode cX8_uneven 50 = .ok (.iload 4, 2) := dk_21 4 (dk_at dksX8_uneven_2 2 rfl rfl)
theorem dX8_uneven_52 : decode cX8_uneven 52 = .ok (.i2l, 1) := dk_133 (dk_at dksX8_uneven_2 4 rfl rfl)
theorem dX8_uneven_53 : decode cX8_uneven 53 = .ok (.ldiv, 1) := dk_109 (dk_at dksX8_uneven_2 5 rfl rfl)
theorem dX8_uneven_54 : decode cX8_uneven 54 = .ok (.l2i, 1) := dk_136 (dk_at dksX8_uneven_2 6 rfl rfl)
theorem dX8_uneven_55 : decode cX8_uneven 55 = .ok (.istore 5, 2) := dk_54 5 (dk_at dksX8_uneven_2 7 rfl rfl)
theorem dX8_uneven_57 : decode cX8_uneven 57 = .ok (.iload 5, 2) := dk_21 5 (dk_at dksX8_uneven_2 9 rfl rfl)
theorem dX8_uneven_59 : decode cX8_uneven 59 = .ok (.iload_n 1, 1) := dk_27 (dk_at dksX8_uneven_2 11 rfl rfl)
theorem dX8_uneven_60 : decode cX8_uneven 60 = .ok (.if_icmp .ge 8, 3) := dk_162 0 8 (dk_at dksX8_uneven_2 12 rfl rfl)
theorem dX8_uneven_63 : decode cX8_uneven 63 = .ok (.iload 5, 2) := dk_21 5 (dk_at dksX8_uneven_2 15 rfl rfl)
theorem dX8_uneven_65 : decode cX8_uneven 65 = .ok (.goto 4, 3) := dk_167 0 4 (dk_at dksX8_uneven_2 17 rfl rfl)
theorem dX8_uneven_68 : decode cX8_uneven 68 = .ok (.iload_n 1, 1) := dk_27 (dk_at dksX8_uneven_2 20 rfl rfl)
theorem dX8_uneven_69 : decode cX8_uneven 69 = .ok (.istore_n 1, 1) := dk_60 (dk_at dksX8_uneven_2 21 rfl rfl)
theorem dX8_uneven_70 : decode cX8_uneven 70 = .ok (.iload 5, 2) := dk_21 5 (dk_at dksX8_uneven_2 22 rfl rfl)
theorem dX8_uneven_72 : decode cX8_uneven 72 = .ok (.iload_n 2, 1) := dk_28 (dk_at dksX8_uneven_3 0 rfl rfl)
theorem dX8_uneven_73 : decode cX8_uneven 73 = .ok (.if_icmp .le 8, 3) := dk_164 0 8 (dk_at dksX8_uneven_3 1 rfl rfl)
theorem dX8_uneven_76 : decode cX8_uneven 76 = .ok (.iload 5, 2) := dk_21 5 (dk_at dksX8_uneven_3 4 rfl rfl)
theorem dX8_uneven_78 : decode cX8_uneven 78 = .ok (.goto 4, 3) := dk_167 0 4 (dk_at dksX8_uneven_3 6 rfl rfl)
theorem dX8_uneven_81 : decode cX8_uneven 81 = .ok (.iload_n 2, 1) := dk_28 (dk_at dksX8_uneven_3 9 rfl rfl)
theorem dX8_uneven_82 : decode cX8_uneven 82 = .ok (.istore_n 2, 1) := dk_61 (dk_at dksX8_uneven_3 10 rfl rfl)
theorem dX8_uneven_83 : decode cX8_uneven 83 = .ok (.iinc 3 1, 3) := dk_132 3 1 (dk_at dksX8_uneven_3 11 rfl rfl)
theorem dX8_uneven_86 : decode cX8_uneven 86 = .ok (.goto (-78), 3) := dk_167 255 178 (dk_at dksX8_uneven_3 14 rfl rfl)
theorem dX8_uneven_89 : decode cX8_uneven 89 = .ok (.iload_n 2, 1) := dk_28 (dk_at dksX8_uneven_3 17 rfl rfl)
theorem dX8_uneven_90 : decode cX8_uneven 90 = .ok (.iload_n 1, 1) := dk_27 (dk_at dksX8_uneven_3 18 rfl rfl)
theorem dX8_uneven_91 : decode cX8_uneven 91 = .ok (.isub, 1) := dk_100 (dk_at dksX8_uneven_3 19 rfl rfl)
theorem dX8_uneven_92 : decode cX8_uneven 92 = .ok (.ireturn, 1) := dk_172 (dk_at dksX8_uneven_3 20 rfl rfl)
abbrev cX8_leftIn : ByteArray := prog_17_method_36_code
def yX8_leftIn : MethodName := ⟨RX8, "leftIn", "(I)I"⟩
def dkwX8_leftIn_2 : List UInt8 := [28, 172]
abbrev dktX8_leftIn_2 : List UInt8 := dkwX8_leftIn_2 ++ []
def dkwX8_leftIn_1 : List UInt8 := [16, 48, 29, 96, 46, 96, 42, 180, 0, 65, 16, 64, 29, 96, 46, 96, 96, 61, 132, 3, 4, 167, 255, 215]
abbrev dktX8_leftIn_1 : List UInt8 := dkwX8_leftIn_1 ++ dktX8_leftIn_2
def dkwX8_leftIn_0 : List UInt8 := [3, 61, 27, 62, 29, 16, 16, 162, 0, 41, 28, 42, 180, 0, 65, 16, 32, 29, 96, 46, 42, 180, 0, 65]
abbrev dktX8_leftIn_0 : List UInt8 := dkwX8_leftIn_0 ++ dktX8_leftIn_1
theorem dksX8_leftIn_0 : cX8_leftIn.data.toList.drop 0 = dktX8_leftIn_0 := by decide +kernel
theorem dksX8_leftIn_1 : cX8_leftIn.data.toList.drop 24 = dktX8_leftIn_1 := dk_seg dksX8_leftIn_0 24 rfl rfl
theorem dksX8_leftIn_2 : cX8_leftIn.data.toList.drop 48 = dktX8_leftIn_2 := dk_seg dksX8_leftIn_1 24 rfl rfl
theorem dX8_leftIn_0 : decode cX8_leftIn 0 = .ok (.iconst 0, 1) := dk_3 (dk_at dksX8_leftIn_0 0 rfl rfl)
theorem dX8_leftIn_1 : decode cX8_leftIn 1 = .ok (.istore_n 2, 1) := dk_61 (dk_at dksX8_leftIn_0 1 rfl rfl)
theorem dX8_leftIn_2 : decode cX8_leftIn 2 = .ok (.iload_n 1, 1) := dk_27 (dk_at dksX8_leftIn_0 2 rfl rfl)
theorem dX8_leftIn_3 : decode cX8_leftIn 3 = .ok (.istore_n 3, 1) := dk_62 (dk_at dksX8_leftIn_0 3 rfl rfl)
theorem dX8_leftIn_4 : decode cX8_leftIn 4 = .ok (.iload_n 3, 1) := dk_29 (dk_at dksX8_leftIn_0 4 rfl rfl)
theorem dX8_leftIn_5 : decode cX8_leftIn 5 = .ok (.bipush 16, 2) := dk_16 16 (dk_at dksX8_leftIn_0 5 rfl rfl)
theorem dX8_leftIn_7 : decode cX8_leftIn 7 = .ok (.if_icmp .ge 41, 3) := dk_162 0 41 (dk_at dksX8_leftIn_0 7 rfl rfl)
theorem dX8_leftIn_10 : decode cX8_leftIn 10 = .ok (.iload_n 2, 1) := dk_28 (dk_at dksX8_leftIn_0 10 rfl rfl)
theorem dX8_leftIn_11 : decode cX8_leftIn 11 = .ok (.aload_n 0, 1) := dk_42 (dk_at dksX8_leftIn_0 11 rfl rfl)
theorem dX8_leftIn_12 : decode cX8_leftIn 12 = .ok (.getfield 65, 3) := dk_180 0 65 (dk_at dksX8_leftIn_0 12 rfl rfl)
theorem dX8_leftIn_15 : decode cX8_leftIn 15 = .ok (.bipush 32, 2) := dk_16 32 (dk_at dksX8_leftIn_0 15 rfl rfl)
theorem dX8_leftIn_17 : decode cX8_leftIn 17 = .ok (.iload_n 3, 1) := dk_29 (dk_at dksX8_leftIn_0 17 rfl rfl)
theorem dX8_leftIn_18 : decode cX8_leftIn 18 = .ok (.iadd, 1) := dk_96 (dk_at dksX8_leftIn_0 18 rfl rfl)
theorem dX8_leftIn_19 : decode cX8_leftIn 19 = .ok (.iaload, 1) := dk_46 (dk_at dksX8_leftIn_0 19 rfl rfl)
theorem dX8_leftIn_20 : decode cX8_leftIn 20 = .ok (.aload_n 0, 1) := dk_42 (dk_at dksX8_leftIn_0 20 rfl rfl)
theorem dX8_leftIn_21 : decode cX8_leftIn 21 = .ok (.getfield 65, 3) := dk_180 0 65 (dk_at dksX8_leftIn_0 21 rfl rfl)
theorem dX8_leftIn_24 : decode cX8_leftIn 24 = .ok (.bipush 48, 2) := dk_16 48 (dk_at dksX8_leftIn_1 0 rfl rfl)
theorem dX8_leftIn_26 : decode cX8_leftIn 26 = .ok (.iload_n 3, 1) := dk_29 (dk_at dksX8_leftIn_1 2 rfl rfl)
theorem dX8_leftIn_27 : decode cX8_leftIn 27 = .ok (.iadd, 1) := dk_96 (dk_at dksX8_leftIn_1 3 rfl rfl)
theorem dX8_leftIn_28 : decode cX8_leftIn 28 = .ok (.iaload, 1) := dk_46 (dk_at dksX8_leftIn_1 4 rfl rfl)
theorem dX8_leftIn_29 : decode cX8_leftIn 29 = .ok (.iadd, 1) := dk_96 (dk_at dksX8_leftIn_1 5 rfl rfl)
theorem dX8_leftIn_30 : decode cX8_leftIn 30 = .ok (.aload_n 0, 1) := dk_42 (dk_at dksX8_leftIn_1 6 rfl rfl)
theorem dX8_leftIn_31 : decode cX8_leftIn 31 = .ok (.getfield 65, 3) := dk_180 0 65 (dk_at dksX8_leftIn_1 7 rfl rfl)
theorem dX8_leftIn_34 : decode cX8_leftIn 34 = .ok (.bipush 64, 2) := dk_16 64 (dk_at dksX8_leftIn_1 10 rfl rfl)
theorem dX8_leftIn_36 : decode cX8_leftIn 36 = .ok (.iload_n 3, 1) := dk_29 (dk_at dksX8_leftIn_1 12 rfl rfl)
theorem dX8_leftIn_37 : decode cX8_leftIn 37 = .ok (.iadd, 1) := dk_96 (dk_at dksX8_leftIn_1 13 rfl rfl)
theorem dX8_leftIn_38 : decode cX8_leftIn 38 = .ok (.iaload, 1) := dk_46 (dk_at dksX8_leftIn_1 14 rfl rfl)
theorem dX8_leftIn_39 : decode cX8_leftIn 39 = .ok (.iadd, 1) := dk_96 (dk_at dksX8_leftIn_1 15 rfl rfl)
theorem dX8_leftIn_40 : decode cX8_leftIn 40 = .ok (.iadd, 1) := dk_96 (dk_at dksX8_leftIn_1 16 rfl rfl)
theorem dX8_leftIn_41 : decode cX8_leftIn 41 = .ok (.istore_n 2, 1) := dk_61 (dk_at dksX8_leftIn_1 17 rfl rfl)
theorem dX8_leftIn_42 : decode cX8_leftIn 42 = .ok (.iinc 3 4, 3) := dk_132 3 4 (dk_at dksX8_leftIn_1 18 rfl rfl)
theorem dX8_leftIn_45 : decode cX8_leftIn 45 = .ok (.goto (-41), 3) := dk_167 255 215 (dk_at dksX8_leftIn_1 21 rfl rfl)
theorem dX8_leftIn_48 : decode cX8_leftIn 48 = .ok (.iload_n 2, 1) := dk_28 (dk_at dksX8_leftIn_2 0 rfl rfl)
theorem dX8_leftIn_49 : decode cX8_leftIn 49 = .ok (.ireturn, 1) := dk_172 (dk_at dksX8_leftIn_2 1 rfl rfl)
abbrev cX8_keep : ByteArray := prog_17_method_40_code
def yX8_keep : MethodName := ⟨RX8, "keep", "(I)I"⟩
def dkwX8_keep_1 : List UInt8 := [27, 104, 184, 1, 7, 42, 180, 0, 74, 27, 4, 84, 42, 180, 0, 65, 17, 0, 132, 46, 172]
abbrev dktX8_keep_1 : List UInt8 := dkwX8_keep_1 ++ []
def dkwX8_keep_0 : List UInt8 := [27, 3, 4, 184, 0, 90, 154, 0, 6, 16, 254, 172, 42, 180, 0, 65, 3, 42, 180, 0, 71, 17, 0, 138]
abbrev dktX8_keep_0 : List UInt8 := dkwX8_keep_0 ++ dktX8_keep_1
theorem dksX8_keep_0 : cX8_keep.data.toList.drop 0 = dktX8_keep_0 := by decide +kernel
theorem dksX8_keep_1 : cX8_keep.data.toList.drop 24 = dktX8_keep_1 := dk_seg dksX8_keep_0 24 rfl rfl
theorem dX8_keep_0 : decode cX8_keep 0 = .ok (.iload_n 1, 1) := dk_27 (dk_at dksX8_keep_0 0 rfl rfl)
theorem dX8_keep_1 : decode cX8_keep 1 = .ok (.iconst 0, 1) := dk_3 (dk_at dksX8_keep_0 1 rfl rfl)
theorem dX8_keep_2 : decode cX8_keep 2 = .ok (.iconst 1, 1) := dk_4 (dk_at dksX8_keep_0 2 rfl rfl)
theorem dX8_keep_3 : decode cX8_keep 3 = .ok (.invokestatic 90, 3) := dk_184 0 90 (dk_at dksX8_keep_0 3 rfl rfl)
theorem dX8_keep_6 : decode cX8_keep 6 = .ok (.ifCond .ne 6, 3) := dk_154 0 6 (dk_at dksX8_keep_0 6 rfl rfl)
theorem dX8_keep_9 : decode cX8_keep 9 = .ok (.bipush (-2), 2) := dk_16 254 (dk_at dksX8_keep_0 9 rfl rfl)
theorem dX8_keep_11 : decode cX8_keep 11 = .ok (.ireturn, 1) := dk_172 (dk_at dksX8_keep_0 11 rfl rfl)
theorem dX8_keep_12 : decode cX8_keep 12 = .ok (.aload_n 0, 1) := dk_42 (dk_at dksX8_keep_0 12 rfl rfl)
theorem dX8_keep_13 : decode cX8_keep 13 = .ok (.getfield 65, 3) := dk_180 0 65 (dk_at dksX8_keep_0 13 rfl rfl)
theorem dX8_keep_16 : decode cX8_keep 16 = .ok (.iconst 0, 1) := dk_3 (dk_at dksX8_keep_0 16 rfl rfl)
theorem dX8_keep_17 : decode cX8_keep 17 = .ok (.aload_n 0, 1) := dk_42 (dk_at dksX8_keep_0 17 rfl rfl)
theorem dX8_keep_18 : decode cX8_keep 18 = .ok (.getfield 71, 3) := dk_180 0 71 (dk_at dksX8_keep_0 18 rfl rfl)
theorem dX8_keep_21 : decode cX8_keep 21 = .ok (.sipush 138, 3) := dk_17 0 138 (dk_at dksX8_keep_0 21 rfl rfl)
theorem dX8_keep_24 : decode cX8_keep 24 = .ok (.iload_n 1, 1) := dk_27 (dk_at dksX8_keep_1 0 rfl rfl)
theorem dX8_keep_25 : decode cX8_keep 25 = .ok (.imul, 1) := dk_104 (dk_at dksX8_keep_1 1 rfl rfl)
theorem dX8_keep_26 : decode cX8_keep 26 = .ok (.invokestatic 263, 3) := dk_184 1 7 (dk_at dksX8_keep_1 2 rfl rfl)
theorem dX8_keep_29 : decode cX8_keep 29 = .ok (.aload_n 0, 1) := dk_42 (dk_at dksX8_keep_1 5 rfl rfl)
theorem dX8_keep_30 : decode cX8_keep 30 = .ok (.getfield 74, 3) := dk_180 0 74 (dk_at dksX8_keep_1 6 rfl rfl)
theorem dX8_keep_33 : decode cX8_keep 33 = .ok (.iload_n 1, 1) := dk_27 (dk_at dksX8_keep_1 9 rfl rfl)
theorem dX8_keep_34 : decode cX8_keep 34 = .ok (.iconst 1, 1) := dk_4 (dk_at dksX8_keep_1 10 rfl rfl)
theorem dX8_keep_35 : decode cX8_keep 35 = .ok (.bastore, 1) := dk_84 (dk_at dksX8_keep_1 11 rfl rfl)
theorem dX8_keep_36 : decode cX8_keep 36 = .ok (.aload_n 0, 1) := dk_42 (dk_at dksX8_keep_1 12 rfl rfl)
theorem dX8_keep_37 : decode cX8_keep 37 = .ok (.getfield 65, 3) := dk_180 0 65 (dk_at dksX8_keep_1 13 rfl rfl)
theorem dX8_keep_40 : decode cX8_keep 40 = .ok (.sipush 132, 3) := dk_17 0 132 (dk_at dksX8_keep_1 16 rfl rfl)
theorem dX8_keep_43 : decode cX8_keep 43 = .ok (.iaload, 1) := dk_46 (dk_at dksX8_keep_1 19 rfl rfl)
theorem dX8_keep_44 : decode cX8_keep 44 = .ok (.ireturn, 1) := dk_172 (dk_at dksX8_keep_1 20 rfl rfl)
abbrev cX8_copy : ByteArray := prog_17_method_39_code
def yX8_copy : MethodName := ⟨RX8, "copy", "([II[II)V"⟩
def dkwX8_copy_1 : List UInt8 := [132, 4, 1, 167, 255, 233, 177]
abbrev dktX8_copy_1 : List UInt8 := dkwX8_copy_1 ++ []
def dkwX8_copy_0 : List UInt8 := [3, 54, 4, 21, 4, 17, 0, 138, 162, 0, 21, 44, 29, 21, 4, 96, 42, 27, 21, 4, 96, 46, 79]
abbrev dktX8_copy_0 : List UInt8 := dkwX8_copy_0 ++ dktX8_copy_1
theorem dksX8_copy_0 : cX8_copy.data.toList.drop 0 = dktX8_copy_0 := by decide +kernel
theorem dksX8_copy_1 : cX8_copy.data.toList.drop 23 = dktX8_copy_1 := dk_seg dksX8_copy_0 23 rfl rfl
theorem dX8_copy_0 : decode cX8_copy 0 = .ok (.iconst 0, 1) := dk_3 (dk_at dksX8_copy_0 0 rfl rfl)
theorem dX8_copy_1 : decode cX8_copy 1 = .ok (.istore 4, 2) := dk_54 4 (dk_at dksX8_copy_0 1 rfl rfl)
theorem dX8_copy_3 : decode cX8_copy 3 = .ok (.iload 4, 2) := dk_21 4 (dk_at dksX8_copy_0 3 rfl rfl)
theorem dX8_copy_5 : decode cX8_copy 5 = .ok (.sipush 138, 3) := dk_17 0 138 (dk_at dksX8_copy_0 5 rfl rfl)
theorem dX8_copy_8 : decode cX8_copy 8 = .ok (.if_icmp .ge 21, 3) := dk_162 0 21 (dk_at dksX8_copy_0 8 rfl rfl)
theorem dX8_copy_11 : decode cX8_copy 11 = .ok (.aload_n 2, 1) := dk_44 (dk_at dksX8_copy_0 11 rfl rfl)
theorem dX8_copy_12 : decode cX8_copy 12 = .ok (.iload_n 3, 1) := dk_29 (dk_at dksX8_copy_0 12 rfl rfl)
theorem dX8_copy_13 : decode cX8_copy 13 = .ok (.iload 4, 2) := dk_21 4 (dk_at dksX8_copy_0 13 rfl rfl)
theorem dX8_copy_15 : decode cX8_copy 15 = .ok (.iadd, 1) := dk_96 (dk_at dksX8_copy_0 15 rfl rfl)
theorem dX8_copy_16 : decode cX8_copy 16 = .ok (.aload_n 0, 1) := dk_42 (dk_at dksX8_copy_0 16 rfl rfl)
theorem dX8_copy_17 : decode cX8_copy 17 = .ok (.iload_n 1, 1) := dk_27 (dk_at dksX8_copy_0 17 rfl rfl)
theorem dX8_copy_18 : decode cX8_copy 18 = .ok (.iload 4, 2) := dk_21 4 (dk_at dksX8_copy_0 18 rfl rfl)
theorem dX8_copy_20 : decode cX8_copy 20 = .ok (.iadd, 1) := dk_96 (dk_at dksX8_copy_0 20 rfl rfl)
theorem dX8_copy_21 : decode cX8_copy 21 = .ok (.iaload, 1) := dk_46 (dk_at dksX8_copy_0 21 rfl rfl)
theorem dX8_copy_22 : decode cX8_copy 22 = .ok (.iastore, 1) := dk_79 (dk_at dksX8_copy_0 22 rfl rfl)
theorem dX8_copy_23 : decode cX8_copy 23 = .ok (.iinc 4 1, 3) := dk_132 4 1 (dk_at dksX8_copy_1 0 rfl rfl)
theorem dX8_copy_26 : decode cX8_copy 26 = .ok (.goto (-23), 3) := dk_167 255 233 (dk_at dksX8_copy_1 3 rfl rfl)
theorem dX8_copy_29 : decode cX8_copy 29 = .ok (.return_, 1) := dk_177 (dk_at dksX8_copy_1 6 rfl rfl)
abbrev cX8_back : ByteArray := prog_17_method_41_code
def yX8_back : MethodName := ⟨RX8, "back", "(I)I"⟩
def dkwX8_back_2 : List UInt8 := [46, 172]
abbrev dktX8_back_2 : List UInt8 := dkwX8_back_2 ++ []
def dkwX8_back_1 : List UInt8 := [42, 180, 0, 71, 17, 0, 138, 27, 104, 42, 180, 0, 65, 3, 184, 1, 7, 42, 180, 0, 65, 17, 0, 132]
abbrev dktX8_back_1 : List UInt8 := dkwX8_back_1 ++ dktX8_back_2
def dkwX8_back_0 : List UInt8 := [27, 3, 4, 184, 0, 90, 154, 0, 6, 16, 254, 172, 42, 180, 0, 74, 27, 51, 154, 0, 6, 16, 252, 172]
abbrev dktX8_back_0 : List UInt8 := dkwX8_back_0 ++ dktX8_back_1
theorem dksX8_back_0 : cX8_back.data.toList.drop 0 = dktX8_back_0 := by decide +kernel
theorem dksX8_back_1 : cX8_back.data.toList.drop 24 = dktX8_back_1 := dk_seg dksX8_back_0 24 rfl rfl
theorem dksX8_back_2 : cX8_back.data.toList.drop 48 = dktX8_back_2 := dk_seg dksX8_back_1 24 rfl rfl
theorem dX8_back_0 : decode cX8_back 0 = .ok (.iload_n 1, 1) := dk_27 (dk_at dksX8_back_0 0 rfl rfl)
theorem dX8_back_1 : decode cX8_back 1 = .ok (.iconst 0, 1) := dk_3 (dk_at dksX8_back_0 1 rfl rfl)
theorem dX8_back_2 : decode cX8_back 2 = .ok (.iconst 1, 1) := dk_4 (dk_at dksX8_back_0 2 rfl rfl)
theorem dX8_back_3 : decode cX8_back 3 = .ok (.invokestatic 90, 3) := dk_184 0 90 (dk_at dksX8_back_0 3 rfl rfl)
theorem dX8_back_6 : decode cX8_back 6 = .ok (.ifCond .ne 6, 3) := dk_154 0 6 (dk_at dksX8_back_0 6 rfl rfl)
theorem dX8_back_9 : decode cX8_back 9 = .ok (.bipush (-2), 2) := dk_16 254 (dk_at dksX8_back_0 9 rfl rfl)
theorem dX8_back_11 : decode cX8_back 11 = .ok (.ireturn, 1) := dk_172 (dk_at dksX8_back_0 11 rfl rfl)
theorem dX8_back_12 : decode cX8_back 12 = .ok (.aload_n 0, 1) := dk_42 (dk_at dksX8_back_0 12 rfl rfl)
theorem dX8_back_13 : decode cX8_back 13 = .ok (.getfield 74, 3) := dk_180 0 74 (dk_at dksX8_back_0 13 rfl rfl)
theorem dX8_back_16 : decode cX8_back 16 = .ok (.iload_n 1, 1) := dk_27 (dk_at dksX8_back_0 16 rfl rfl)
theorem dX8_back_17 : decode cX8_back 17 = .ok (.baload, 1) := dk_51 (dk_at dksX8_back_0 17 rfl rfl)
theorem dX8_back_18 : decode cX8_back 18 = .ok (.ifCond .ne 6, 3) := dk_154 0 6 (dk_at dksX8_back_0 18 rfl rfl)
theorem dX8_back_21 : decode cX8_back 21 = .ok (.bipush (-4), 2) := dk_16 252 (dk_at dksX8_back_0 21 rfl rfl)
theorem dX8_back_23 : decode cX8_back 23 = .ok (.ireturn, 1) := dk_172 (dk_at dksX8_back_0 23 rfl rfl)
theorem dX8_back_24 : decode cX8_back 24 = .ok (.aload_n 0, 1) := dk_42 (dk_at dksX8_back_1 0 rfl rfl)
theorem dX8_back_25 : decode cX8_back 25 = .ok (.getfield 71, 3) := dk_180 0 71 (dk_at dksX8_back_1 1 rfl rfl)
theorem dX8_back_28 : decode cX8_back 28 = .ok (.sipush 138, 3) := dk_17 0 138 (dk_at dksX8_back_1 4 rfl rfl)
theorem dX8_back_31 : decode cX8_back 31 = .ok (.iload_n 1, 1) := dk_27 (dk_at dksX8_back_1 7 rfl rfl)
theorem dX8_back_32 : decode cX8_back 32 = .ok (.imul, 1) := dk_104 (dk_at dksX8_back_1 8 rfl rfl)
theorem dX8_back_33 : decode cX8_back 33 = .ok (.aload_n 0, 1) := dk_42 (dk_at dksX8_back_1 9 rfl rfl)
theorem dX8_back_34 : decode cX8_back 34 = .ok (.getfield 65, 3) := dk_180 0 65 (dk_at dksX8_back_1 10 rfl rfl)
theorem dX8_back_37 : decode cX8_back 37 = .ok (.iconst 0, 1) := dk_3 (dk_at dksX8_back_1 13 rfl rfl)
theorem dX8_back_38 : decode cX8_back 38 = .ok (.invokestatic 263, 3) := dk_184 1 7 (dk_at dksX8_back_1 14 rfl rfl)
theorem dX8_back_41 : decode cX8_back 41 = .ok (.aload_n 0, 1) := dk_42 (dk_at dksX8_back_1 17 rfl rfl)
theorem dX8_back_42 : decode cX8_back 42 = .ok (.getfield 65, 3) := dk_180 0 65 (dk_at dksX8_back_1 18 rfl rfl)
theorem dX8_back_45 : decode cX8_back 45 = .ok (.sipush 132, 3) := dk_17 0 132 (dk_at dksX8_back_1 21 rfl rfl)
theorem dX8_back_48 : decode cX8_back 48 = .ok (.iaload, 1) := dk_46 (dk_at dksX8_back_2 0 rfl rfl)
theorem dX8_back_49 : decode cX8_back 49 = .ok (.ireturn, 1) := dk_172 (dk_at dksX8_back_2 1 rfl rfl)
abbrev cX8_taste : ByteArray := prog_17_method_45_code
def yX8_taste : MethodName := ⟨RX8, "taste", "(I)I"⟩
def dkwX8_taste_2 : List UInt8 := [167, 0, 7, 42, 180, 1, 17, 172]
abbrev dktX8_taste_2 : List UInt8 := dkwX8_taste_2 ++ []
def dkwX8_taste_1 : List UInt8 := [167, 0, 31, 27, 4, 160, 0, 10, 42, 180, 1, 11, 167, 0, 19, 27, 5, 160, 0, 10, 42, 180, 1, 14]
abbrev dktX8_taste_1 : List UInt8 := dkwX8_taste_1 ++ dktX8_taste_2
def dkwX8_taste_0 : List UInt8 := [27, 3, 6, 184, 0, 90, 154, 0, 6, 16, 253, 172, 42, 182, 1, 33, 61, 27, 154, 0, 7, 28]
abbrev dktX8_taste_0 : List UInt8 := dkwX8_taste_0 ++ dktX8_taste_1
theorem dksX8_taste_0 : cX8_taste.data.toList.drop 0 = dktX8_taste_0 := by decide +kernel
theorem dksX8_taste_1 : cX8_taste.data.toList.drop 22 = dktX8_taste_1 := dk_seg dksX8_taste_0 22 rfl rfl
theorem dksX8_taste_2 : cX8_taste.data.toList.drop 46 = dktX8_taste_2 := dk_seg dksX8_taste_1 24 rfl rfl
theorem dX8_taste_0 : decode cX8_taste 0 = .ok (.iload_n 1, 1) := dk_27 (dk_at dksX8_taste_0 0 rfl rfl)
theorem dX8_taste_1 : decode cX8_taste 1 = .ok (.iconst 0, 1) := dk_3 (dk_at dksX8_taste_0 1 rfl rfl)
theorem dX8_taste_2 : decode cX8_taste 2 = .ok (.iconst 3, 1) := dk_6 (dk_at dksX8_taste_0 2 rfl rfl)
theorem dX8_taste_3 : decode cX8_taste 3 = .ok (.invokestatic 90, 3) := dk_184 0 90 (dk_at dksX8_taste_0 3 rfl rfl)
theorem dX8_taste_6 : decode cX8_taste 6 = .ok (.ifCond .ne 6, 3) := dk_154 0 6 (dk_at dksX8_taste_0 6 rfl rfl)
theorem dX8_taste_9 : decode cX8_taste 9 = .ok (.bipush (-3), 2) := dk_16 253 (dk_at dksX8_taste_0 9 rfl rfl)
theorem dX8_taste_11 : decode cX8_taste 11 = .ok (.ireturn, 1) := dk_172 (dk_at dksX8_taste_0 11 rfl rfl)
theorem dX8_taste_12 : decode cX8_taste 12 = .ok (.aload_n 0, 1) := dk_42 (dk_at dksX8_taste_0 12 rfl rfl)
theorem dX8_taste_13 : decode cX8_taste 13 = .ok (.invokevirtual 289, 3) := dk_182 1 33 (dk_at dksX8_taste_0 13 rfl rfl)
theorem dX8_taste_16 : decode cX8_taste 16 = .ok (.istore_n 2, 1) := dk_61 (dk_at dksX8_taste_0 16 rfl rfl)
theorem dX8_taste_17 : decode cX8_taste 17 = .ok (.iload_n 1, 1) := dk_27 (dk_at dksX8_taste_0 17 rfl rfl)
theorem dX8_taste_18 : decode cX8_taste 18 = .ok (.ifCond .ne 7, 3) := dk_154 0 7 (dk_at dksX8_taste_0 18 rfl rfl)
theorem dX8_taste_21 : decode cX8_taste 21 = .ok (.iload_n 2, 1) := dk_28 (dk_at dksX8_taste_0 21 rfl rfl)
theorem dX8_taste_22 : decode cX8_taste 22 = .ok (.goto 31, 3) := dk_167 0 31 (dk_at dksX8_taste_1 0 rfl rfl)
theorem dX8_taste_25 : decode cX8_taste 25 = .ok (.iload_n 1, 1) := dk_27 (dk_at dksX8_taste_1 3 rfl rfl)
theorem dX8_taste_26 : decode cX8_taste 26 = .ok (.iconst 1, 1) := dk_4 (dk_at dksX8_taste_1 4 rfl rfl)
theorem dX8_taste_27 : decode cX8_taste 27 = .ok (.if_icmp .ne 10, 3) := dk_160 0 10 (dk_at dksX8_taste_1 5 rfl rfl)
theorem dX8_taste_30 : decode cX8_taste 30 = .ok (.aload_n 0, 1) := dk_42 (dk_at dksX8_taste_1 8 rfl rfl)
theorem dX8_taste_31 : decode cX8_taste 31 = .ok (.getfield 267, 3) := dk_180 1 11 (dk_at dksX8_taste_1 9 rfl rfl)
theorem dX8_taste_34 : decode cX8_taste 34 = .ok (.goto 19, 3) := dk_167 0 19 (dk_at dksX8_taste_1 12 rfl rfl)
theorem dX8_taste_37 : decode cX8_taste 37 = .ok (.iload_n 1, 1) := dk_27 (dk_at dksX8_taste_1 15 rfl rfl)
theorem dX8_taste_38 : decode cX8_taste 38 = .ok (.iconst 2, 1) := dk_5 (dk_at dksX8_taste_1 16 rfl rfl)
theorem dX8_taste_39 : decode cX8_taste 39 = .ok (.if_icmp .ne 10, 3) := dk_160 0 10 (dk_at dksX8_taste_1 17 rfl rfl)
theorem dX8_taste_42 : decode cX8_taste 42 = .ok (.aload_n 0, 1) := dk_42 (dk_at dksX8_taste_1 20 rfl rfl)
theorem dX8_taste_43 : decode cX8_taste 43 = .ok (.getfield 270, 3) := dk_180 1 14 (dk_at dksX8_taste_1 21 rfl rfl)
theorem dX8_taste_46 : decode cX8_taste 46 = .ok (.goto 7, 3) := dk_167 0 7 (dk_at dksX8_taste_2 0 rfl rfl)
theorem dX8_taste_49 : decode cX8_taste 49 = .ok (.aload_n 0, 1) := dk_42 (dk_at dksX8_taste_2 3 rfl rfl)
theorem dX8_taste_50 : decode cX8_taste 50 = .ok (.getfield 273, 3) := dk_180 1 17 (dk_at dksX8_taste_2 4 rfl rfl)
theorem dX8_taste_53 : decode cX8_taste 53 = .ok (.ireturn, 1) := dk_172 (dk_at dksX8_taste_2 7 rfl rfl)
abbrev cX8_tasteNow : ByteArray := prog_17_method_42_code
def yX8_tasteNow : MethodName := ⟨RX8, "tasteNow", "()I"⟩
def dkwX8_tasteNow_12 : List UInt8 := [42, 180, 1, 11, 42, 180, 0, 56, 4, 46, 164, 0, 7, 7, 167, 0, 4, 3, 172]
abbrev dktX8_tasteNow_12 : List UInt8 := dkwX8_tasteNow_12 ++ []
def dkwX8_tasteNow_11 : List UInt8 := [164, 0, 7, 5, 167, 0, 38, 42, 180, 1, 11, 42, 180, 0, 56, 3, 46, 162, 0, 7, 6, 167, 0, 21]
abbrev dktX8_tasteNow_11 : List UInt8 := dkwX8_tasteNow_11 ++ dktX8_tasteNow_12
def dkwX8_tasteNow_10 : List UInt8 := [180, 0, 56, 5, 46, 162, 0, 7, 4, 167, 0, 55, 42, 180, 1, 14, 42, 180, 0, 56, 6, 46]
abbrev dktX8_tasteNow_10 : List UInt8 := dkwX8_tasteNow_10 ++ dktX8_tasteNow_11
def dkwX8_tasteNow_9 : List UInt8 := [42, 180, 1, 17, 42, 180, 0, 56, 7, 46, 164, 0, 7, 8, 167, 0, 72, 42, 180, 1, 14, 42]
abbrev dktX8_tasteNow_9 : List UInt8 := dkwX8_tasteNow_9 ++ dktX8_tasteNow_10
def dkwX8_tasteNow_8 : List UInt8 := [3, 128, 181, 1, 23, 132, 1, 1, 167, 255, 183, 42, 180, 0, 68, 3, 42, 180, 0, 65, 3, 184, 1, 7]
abbrev dktX8_tasteNow_8 : List UInt8 := dkwX8_tasteNow_8 ++ dktX8_tasteNow_9
def dkwX8_tasteNow_7 : List UInt8 := [162, 0, 7, 4, 167, 0, 4, 3, 61, 42, 42, 180, 1, 23, 28, 153, 0, 9, 4, 27, 120, 167, 0, 4]
abbrev dktX8_tasteNow_7 : List UInt8 := dkwX8_tasteNow_7 ++ dktX8_tasteNow_8
def dkwX8_tasteNow_6 : List UInt8 := [180, 0, 65, 16, 16, 27, 96, 46, 182, 0, 234, 16, 95, 160, 0, 18, 42, 27, 3, 182, 0, 234, 16, 95]
abbrev dktX8_tasteNow_6 : List UInt8 := dkwX8_tasteNow_6 ++ dktX8_tasteNow_7
def dkwX8_tasteNow_5 : List UInt8 := [167, 255, 201, 3, 60, 27, 16, 16, 162, 0, 73, 42, 27, 182, 0, 214, 153, 0, 37, 42, 27, 42]
abbrev dktX8_tasteNow_5 : List UInt8 := dkwX8_tasteNow_5 ++ dktX8_tasteNow_6
def dkwX8_tasteNow_4 : List UInt8 := [182, 1, 30, 105, 148, 156, 0, 7, 27, 167, 0, 7, 42, 180, 1, 20, 181, 1, 20, 132, 1, 1]
abbrev dktX8_tasteNow_4 : List UInt8 := dkwX8_tasteNow_4 ++ dktX8_tasteNow_5
def dkwX8_tasteNow_3 : List UInt8 := [182, 1, 26, 42, 42, 180, 1, 20, 182, 1, 30, 105, 42, 42, 180, 1, 20, 182, 1, 26, 42, 27]
abbrev dktX8_tasteNow_3 : List UInt8 := dkwX8_tasteNow_3 ++ dktX8_tasteNow_4
def dkwX8_tasteNow_2 : List UInt8 := [42, 3, 181, 1, 20, 42, 3, 181, 1, 23, 4, 60, 27, 42, 180, 0, 7, 162, 0, 53, 42, 42, 27]
abbrev dktX8_tasteNow_2 : List UInt8 := dkwX8_tasteNow_2 ++ dktX8_tasteNow_3
def dkwX8_tasteNow_1 : List UInt8 := [42, 42, 182, 0, 254, 181, 1, 11, 42, 42, 182, 1, 1, 181, 1, 14, 42, 42, 182, 1, 4, 181, 1, 17]
abbrev dktX8_tasteNow_1 : List UInt8 := dkwX8_tasteNow_1 ++ dktX8_tasteNow_2
def dkwX8_tasteNow_0 : List UInt8 := [42, 180, 0, 65, 3, 42, 180, 0, 68, 3, 184, 1, 7, 42, 182, 0, 87, 42, 16, 60, 182, 0, 241, 87]
abbrev dktX8_tasteNow_0 : List UInt8 := dkwX8_tasteNow_0 ++ dktX8_tasteNow_1
theorem dksX8_tasteNow_0 : cX8_tasteNow.data.toList.drop 0 = dktX8_tasteNow_0 := by decide +kernel
theorem dksX8_tasteNow_1 : cX8_tasteNow.data.toList.drop 24 = dktX8_tasteNow_1 := dk_seg dksX8_tasteNow_0 24 rfl rfl
theorem dksX8_tasteNow_2 : cX8_tasteNow.data.toList.drop 48 = dktX8_tasteNow_2 := dk_seg dksX8_tasteNow_1 24 rfl rfl
theorem dksX8_tasteNow_3 : cX8_tasteNow.data.toList.drop 71 = dktX8_tasteNow_3 := dk_seg dksX8_tasteNow_2 23 rfl rfl
theorem dksX8_tasteNow_4 : cX8_tasteNow.data.toList.drop 93 = dktX8_tasteNow_4 := dk_seg dksX8_tasteNow_3 22 rfl rfl
theorem dksX8_tasteNow_5 : cX8_tasteNow.data.toList.drop 115 = dktX8_tasteNow_5 := dk_seg dksX8_tasteNow_4 22 rfl rfl
theorem dksX8_tasteNow_6 : cX8_tasteNow.data.toList.drop 137 = dktX8_tasteNow_6 := dk_seg dksX8_tasteNow_5 22 rfl rfl
theorem dksX8_tasteNow_7 : cX8_tasteNow.data.toList.drop 161 = dktX8_tasteNow_7 := dk_seg dksX8_tasteNow_6 24 rfl rfl
theorem dksX8_tasteNow_8 : cX8_tasteNow.data.toList.drop 185 = dktX8_tasteNow_8 := dk_seg dksX8_tasteNow_7 24 rfl rfl
theorem dksX8_tasteNow_9 : cX8_tasteNow.data.toList.drop 209 = dktX8_tasteNow_9 := dk_seg dksX8_tasteNow_8 24 rfl rfl
theorem dksX8_tasteNow_10 : cX8_tasteNow.data.toList.drop 231 = dktX8_tasteNow_10 := dk_seg dksX8_tasteNow_9 22 rfl rfl
theorem dksX8_tasteNow_11 : cX8_tasteNow.data.toList.drop 253 = dktX8_tasteNow_11 := dk_seg dksX8_tasteNow_10 22 rfl rfl
theorem dksX8_tasteNow_12 : cX8_tasteNow.data.toList.drop 277 = dktX8_tasteNow_12 := dk_seg dksX8_tasteNow_11 24 rfl rfl
theorem dX8_tasteNow_0 : decode cX8_tasteNow 0 = .ok (.aload_n 0, 1) := dk_42 (dk_at dksX8_tasteNow_0 0 rfl rfl)
theorem dX8_tasteNow_1 : decode cX8_tasteNow 1 = .ok (.getfield 65, 3) := dk_180 0 65 (dk_at dksX8_tasteNow_0 1 rfl rfl)
theorem dX8_tasteNow_4 : decode cX8_tasteNow 4 = .ok (.iconst 0, 1) := dk_3 (dk_at dksX8_tasteNow_0 4 rfl rfl)
theorem dX8_tasteNow_5 : decode cX8_tasteNow 5 = .ok (.aload_n 0, 1) := dk_42 (dk_at dksX8_tasteNow_0 5 rfl rfl)
theorem dX8_tasteNow_6 : decode cX8_tasteNow 6 = .ok (.getfield 68, 3) := dk_180 0 68 (dk_at dksX8_tasteNow_0 6 rfl rfl)
theorem dX8_tasteNow_9 : decode cX8_tasteNow 9 = .ok (.iconst 0, 1) := dk_3 (dk_at dksX8_tasteNow_0 9 rfl rfl)
theorem dX8_tasteNow_10 : decode cX8_tasteNow 10 = .ok (.invokestatic 263, 3) := dk_184 1 7 (dk_at dksX8_tasteNow_0 10 rfl rfl)
theorem dX8_tasteNow_13 : decode cX8_tasteNow 13 = .ok (.aload_n 0, 1) := dk_42 (dk_at dksX8_tasteNow_0 13 rfl rfl)
theorem dX8_tasteNow_14 : decode cX8_tasteNow 14 = .ok (.invokevirtual 87, 3) := dk_182 0 87 (dk_at dksX8_tasteNow_0 14 rfl rfl)
theorem dX8_tasteNow_17 : decode cX8_tasteNow 17 = .ok (.aload_n 0, 1) := dk_42 (dk_at dksX8_tasteNow_0 17 rfl rfl)
theorem dX8_tasteNow_18 : decode cX8_tasteNow 18 = .ok (.bipush 60, 2) := dk_16 60 (dk_at dksX8_tasteNow_0 18 rfl rfl)
theorem dX8_tasteNow_20 : decode cX8_tasteNow 20 = .ok (.invokevirtual 241, 3) := dk_182 0 241 (dk_at dksX8_tasteNow_0 20 rfl rfl)
theorem dX8_tasteNow_23 : decode cX8_tasteNow 23 = .ok (.pop, 1) := dk_87 (dk_at dksX8_tasteNow_0 23 rfl rfl)
theorem dX8_tasteNow_24 : decode cX8_tasteNow 24 = .ok (.aload_n 0, 1) := dk_42 (dk_at dksX8_tasteNow_1 0 rfl rfl)
theorem dX8_tasteNow_25 : decode cX8_tasteNow 25 = .ok (.aload_n 0, 1) := dk_42 (dk_at dksX8_tasteNow_1 1 rfl rfl)
theorem dX8_tasteNow_26 : decode cX8_tasteNow 26 = .ok (.invokevirtual 254, 3) := dk_182 0 254 (dk_at dksX8_tasteNow_1 2 rfl rfl)
theorem dX8_tasteNow_29 : decode cX8_tasteNow 29 = .ok (.putfield 267, 3) := dk_181 1 11 (dk_at dksX8_tasteNow_1 5 rfl rfl)
theorem dX8_tasteNow_32 : decode cX8_tasteNow 32 = .ok (.aload_n 0, 1) := dk_42 (dk_at dksX8_tasteNow_1 8 rfl rfl)
theorem dX8_tasteNow_33 : decode cX8_tasteNow 33 = .ok (.aload_n 0, 1) := dk_42 (dk_at dksX8_tasteNow_1 9 rfl rfl)
theorem dX8_tasteNow_34 : decode cX8_tasteNow 34 = .ok (.invokevirtual 257, 3) := dk_182 1 1 (dk_at dksX8_tasteNow_1 10 rfl rfl)
theorem dX8_tasteNow_37 : decode cX8_tasteNow 37 = .ok (.putfield 270, 3) := dk_181 1 14 (dk_at dksX8_tasteNow_1 13 rfl rfl)
theorem dX8_tasteNow_40 : decode cX8_tasteNow 40 = .ok (.aload_n 0, 1) := dk_42 (dk_at dksX8_tasteNow_1 16 rfl rfl)
theorem dX8_tasteNow_41 : decode cX8_tasteNow 41 = .ok (.aload_n 0, 1) := dk_42 (dk_at dksX8_tasteNow_1 17 rfl rfl)
theorem dX8_tasteNow_42 : decode cX8_tasteNow 42 = .ok (.invokevirtual 260, 3) := dk_182 1 4 (dk_at dksX8_tasteNow_1 18 rfl rfl)
theorem dX8_tasteNow_45 : decode cX8_tasteNow 45 = .ok (.putfield 273, 3) := dk_181 1 17 (dk_at dksX8_tasteNow_1 21 rfl rfl)
theorem dX8_tasteNow_48 : decode cX8_tasteNow 48 = .ok (.aload_n 0, 1) := dk_42 (dk_at dksX8_tasteNow_2 0 rfl rfl)
theorem dX8_tasteNow_49 : decode cX8_tasteNow 49 = .ok (.iconst 0, 1) := dk_3 (dk_at dksX8_tasteNow_2 1 rfl rfl)
theorem dX8_tasteNow_50 : decode cX8_tasteNow 50 = .ok (.putfield 276, 3) := dk_181 1 20 (dk_at dksX8_tasteNow_2 2 rfl rfl)
theorem dX8_tasteNow_53 : decode cX8_tasteNow 53 = .ok (.aload_n 0, 1) := dk_42 (dk_at dksX8_tasteNow_2 5 rfl rfl)
theorem dX8_tasteNow_54 : decode cX8_tasteNow 54 = .ok (.iconst 0, 1) := dk_3 (dk_at dksX8_tasteNow_2 6 rfl rfl)
theorem dX8_tasteNow_55 : decode cX8_tasteNow 55 = .ok (.putfield 279, 3) := dk_181 1 23 (dk_at dksX8_tasteNow_2 7 rfl rfl)
theorem dX8_tasteNow_58 : decode cX8_tasteNow 58 = .ok (.iconst 1, 1) := dk_4 (dk_at dksX8_tasteNow_2 10 rfl rfl)
theorem dX8_tasteNow_59 : decode cX8_tasteNow 59 = .ok (.istore_n 1, 1) := dk_60 (dk_at dksX8_tasteNow_2 11 rfl rfl)
theorem dX8_tasteNow_60 : decode cX8_tasteNow 60 = .ok (.iload_n 1, 1) := dk_27 (dk_at dksX8_tasteNow_2 12 rfl rfl)
theorem dX8_tasteNow_61 : decode cX8_tasteNow 61 = .ok (.aload_n 0, 1) := dk_42 (dk_at dksX8_tasteNow_2 13 rfl rfl)
theorem dX8_tasteNow_62 : decode cX8_tasteNow 62 = .ok (.getfield 7, 3) := dk_180 0 7 (dk_at dksX8_tasteNow_2 14 rfl rfl)
theorem dX8_tasteNow_65 : decode cX8_tasteNow 65 = .ok (.if_icmp .ge 53, 3) := dk_162 0 53 (dk_at dksX8_tasteNow_2 17 rfl rfl)
theorem dX8_tasteNow_68 : decode cX8_tasteNow 68 = .ok (.aload_n 0, 1) := dk_42 (dk_at dksX8_tasteNow_2 20 rfl rfl)
theorem dX8_tasteNow_69 : decode cX8_tasteNow 69 = .ok (.aload_n 0, 1) := dk_42 (dk_at dksX8_tasteNow_2 21 rfl rfl)
theorem dX8_tasteNow_70 : decode cX8_tasteNow 70 = .ok (.iload_n 1, 1) := dk_27 (dk_at dksX8_tasteNow_2 22 rfl rfl)
theorem dX8_tasteNow_71 : decode cX8_tasteNow 71 = .ok (.invokevirtual 282, 3) := dk_182 1 26 (dk_at dksX8_tasteNow_3 0 rfl rfl)
theorem dX8_tasteNow_74 : decode cX8_tasteNow 74 = .ok (.aload_n 0, 1) := dk_42 (dk_at dksX8_tasteNow_3 3 rfl rfl)
theorem dX8_tasteNow_75 : decode cX8_tasteNow 75 = .ok (.aload_n 0, 1) := dk_42 (dk_at dksX8_tasteNow_3 4 rfl rfl)
theorem dX8_tasteNow_76 : decode cX8_tasteNow 76 = .ok (.getfield 276, 3) := dk_180 1 20 (dk_at dksX8_tasteNow_3 5 rfl rfl)
theorem dX8_tasteNow_79 : decode cX8_tasteNow 79 = .ok (.invokevirtual 286, 3) := dk_182 1 30 (dk_at dksX8_tasteNow_3 8 rfl rfl)
theorem dX8_tasteNow_82 : decode cX8_tasteNow 82 = .ok (.lmul, 1) := dk_105 (dk_at dksX8_tasteNow_3 11 rfl rfl)
theorem dX8_tasteNow_83 : decode cX8_tasteNow 83 = .ok (.aload_n 0, 1) := dk_42 (dk_at dksX8_tasteNow_3 12 rfl rfl)
theorem dX8_tasteNow_84 : decode cX8_tasteNow 84 = .ok (.aload_n 0, 1) := dk_42 (dk_at dksX8_tasteNow_3 13 rfl rfl)
theorem dX8_tasteNow_85 : decode cX8_tasteNow 85 = .ok (.getfield 276, 3) := dk_180 1 20 (dk_at dksX8_tasteNow_3 14 rfl rfl)
theorem dX8_tasteNow_88 : decode cX8_tasteNow 88 = .ok (.invokevirtual 282, 3) := dk_182 1 26 (dk_at dksX8_tasteNow_3 17 rfl rfl)
theorem dX8_tasteNow_91 : decode cX8_tasteNow 91 = .ok (.aload_n 0, 1) := dk_42 (dk_at dksX8_tasteNow_3 20 rfl rfl)
theorem dX8_tasteNow_92 : decode cX8_tasteNow 92 = .ok (.iload_n 1, 1) := dk_27 (dk_at dksX8_tasteNow_3 21 rfl rfl)
theorem dX8_tasteNow_93 : decode cX8_tasteNow 93 = .ok (.invokevirtual 286, 3) := dk_182 1 30 (dk_at dksX8_tasteNow_4 0 rfl rfl)
theorem dX8_tasteNow_96 : decode cX8_tasteNow 96 = .ok (.lmul, 1) := dk_105 (dk_at dksX8_tasteNow_4 3 rfl rfl)
theorem dX8_tasteNow_97 : decode cX8_tasteNow 97 = .ok (.lcmp, 1) := dk_148 (dk_at dksX8_tasteNow_4 4 rfl rfl)
theorem dX8_tasteNow_98 : decode cX8_tasteNow 98 = .ok (.ifCond .ge 7, 3) := dk_156 0 7 (dk_at dksX8_tasteNow_4 5 rfl rfl)
theorem dX8_tasteNow_101 : decode cX8_tasteNow 101 = .ok (.iload_n 1, 1) := dk_27 (dk_at dksX8_tasteNow_4 8 rfl rfl)
theorem dX8_tasteNow_102 : decode cX8_tasteNow 102 = .ok (.goto 7, 3) := dk_167 0 7 (dk_at dksX8_tasteNow_4 9 rfl rfl)
theorem dX8_tasteNow_105 : decode cX8_tasteNow 105 = .ok (.aload_n 0, 1) := dk_42 (dk_at dksX8_tasteNow_4 12 rfl rfl)
theorem dX8_tasteNow_106 : decode cX8_tasteNow 106 = .ok (.getfield 276, 3) := dk_180 1 20 (dk_at dksX8_tasteNow_4 13 rfl rfl)
theorem dX8_tasteNow_109 : decode cX8_tasteNow 109 = .ok (.putfield 276, 3) := dk_181 1 20 (dk_at dksX8_tasteNow_4 16 rfl rfl)
theorem dX8_tasteNow_112 : decode cX8_tasteNow 112 = .ok (.iinc 1 1, 3) := dk_132 1 1 (dk_at dksX8_tasteNow_4 19 rfl rfl)
theorem dX8_tasteNow_115 : decode cX8_tasteNow 115 = .ok (.goto (-55), 3) := dk_167 255 201 (dk_at dksX8_tasteNow_5 0 rfl rfl)
theorem dX8_tasteNow_118 : decode cX8_tasteNow 118 = .ok (.iconst 0, 1) := dk_3 (dk_at dksX8_tasteNow_5 3 rfl rfl)
theorem dX8_tasteNow_119 : decode cX8_tasteNow 119 = .ok (.istore_n 1, 1) := dk_60 (dk_at dksX8_tasteNow_5 4 rfl rfl)
theorem dX8_tasteNow_120 : decode cX8_tasteNow 120 = .ok (.iload_n 1, 1) := dk_27 (dk_at dksX8_tasteNow_5 5 rfl rfl)
theorem dX8_tasteNow_121 : decode cX8_tasteNow 121 = .ok (.bipush 16, 2) := dk_16 16 (dk_at dksX8_tasteNow_5 6 rfl rfl)
theorem dX8_tasteNow_123 : decode cX8_tasteNow 123 = .ok (.if_icmp .ge 73, 3) := dk_162 0 73 (dk_at dksX8_tasteNow_5 8 rfl rfl)
theorem dX8_tasteNow_126 : decode cX8_tasteNow 126 = .ok (.aload_n 0, 1) := dk_42 (dk_at dksX8_tasteNow_5 11 rfl rfl)
theorem dX8_tasteNow_127 : decode cX8_tasteNow 127 = .ok (.iload_n 1, 1) := dk_27 (dk_at dksX8_tasteNow_5 12 rfl rfl)
theorem dX8_tasteNow_128 : decode cX8_tasteNow 128 = .ok (.invokevirtual 214, 3) := dk_182 0 214 (dk_at dksX8_tasteNow_5 13 rfl rfl)
theorem dX8_tasteNow_131 : decode cX8_tasteNow 131 = .ok (.ifCond .eq 37, 3) := dk_153 0 37 (dk_at dksX8_tasteNow_5 16 rfl rfl)
theorem dX8_tasteNow_134 : decode cX8_tasteNow 134 = .ok (.aload_n 0, 1) := dk_42 (dk_at dksX8_tasteNow_5 19 rfl rfl)
theorem dX8_tasteNow_135 : decode cX8_tasteNow 135 = .ok (.iload_n 1, 1) := dk_27 (dk_at dksX8_tasteNow_5 20 rfl rfl)
theorem dX8_tasteNow_136 : decode cX8_tasteNow 136 = .ok (.aload_n 0, 1) := dk_42 (dk_at dksX8_tasteNow_5 21 rfl rfl)
theorem dX8_tasteNow_137 : decode cX8_tasteNow 137 = .ok (.getfield 65, 3) := dk_180 0 65 (dk_at dksX8_tasteNow_6 0 rfl rfl)
theorem dX8_tasteNow_140 : decode cX8_tasteNow 140 = .ok (.bipush 16, 2) := dk_16 16 (dk_at dksX8_tasteNow_6 3 rfl rfl)
theorem dX8_tasteNow_142 : decode cX8_tasteNow 142 = .ok (.iload_n 1, 1) := dk_27 (dk_at dksX8_tasteNow_6 5 rfl rfl)
theorem dX8_tasteNow_143 : decode cX8_tasteNow 143 = .ok (.iadd, 1) := dk_96 (dk_at dksX8_tasteNow_6 6 rfl rfl)
theorem dX8_tasteNow_144 : decode cX8_tasteNow 144 = .ok (.iaload, 1) := dk_46 (dk_at dksX8_tasteNow_6 7 rfl rfl)
theorem dX8_tasteNow_145 : decode cX8_tasteNow 145 = .ok (.invokevirtual 234, 3) := dk_182 0 234 (dk_at dksX8_tasteNow_6 8 rfl rfl)
theorem dX8_tasteNow_148 : decode cX8_tasteNow 148 = .ok (.bipush 95, 2) := dk_16 95 (dk_at dksX8_tasteNow_6 11 rfl rfl)
theorem dX8_tasteNow_150 : decode cX8_tasteNow 150 = .ok (.if_icmp .ne 18, 3) := dk_160 0 18 (dk_at dksX8_tasteNow_6 13 rfl rfl)
theorem dX8_tasteNow_153 : decode cX8_tasteNow 153 = .ok (.aload_n 0, 1) := dk_42 (dk_at dksX8_tasteNow_6 16 rfl rfl)
theorem dX8_tasteNow_154 : decode cX8_tasteNow 154 = .ok (.iload_n 1, 1) := dk_27 (dk_at dksX8_tasteNow_6 17 rfl rfl)
theorem dX8_tasteNow_155 : decode cX8_tasteNow 155 = .ok (.iconst 0, 1) := dk_3 (dk_at dksX8_tasteNow_6 18 rfl rfl)
theorem dX8_tasteNow_156 : decode cX8_tasteNow 156 = .ok (.invokevirtual 234, 3) := dk_182 0 234 (dk_at dksX8_tasteNow_6 19 rfl rfl)
theorem dX8_tasteNow_159 : decode cX8_tasteNow 159 = .ok (.bipush 95, 2) := dk_16 95 (dk_at dksX8_tasteNow_6 22 rfl rfl)
theorem dX8_tasteNow_161 : decode cX8_tasteNow 161 = .ok (.if_icmp .ge 7, 3) := dk_162 0 7 (dk_at dksX8_tasteNow_7 0 rfl rfl)
theorem dX8_tasteNow_164 : decode cX8_tasteNow 164 = .ok (.iconst 1, 1) := dk_4 (dk_at dksX8_tasteNow_7 3 rfl rfl)
theorem dX8_tasteNow_165 : decode cX8_tasteNow 165 = .ok (.goto 4, 3) := dk_167 0 4 (dk_at dksX8_tasteNow_7 4 rfl rfl)
theorem dX8_tasteNow_168 : decode cX8_tasteNow 168 = .ok (.iconst 0, 1) := dk_3 (dk_at dksX8_tasteNow_7 7 rfl rfl)
theorem dX8_tasteNow_169 : decode cX8_tasteNow 169 = .ok (.istore_n 2, 1) := dk_61 (dk_at dksX8_tasteNow_7 8 rfl rfl)
theorem dX8_tasteNow_170 : decode cX8_tasteNow 170 = .ok (.aload_n 0, 1) := dk_42 (dk_at dksX8_tasteNow_7 9 rfl rfl)
theorem dX8_tasteNow_171 : decode cX8_tasteNow 171 = .ok (.aload_n 0, 1) := dk_42 (dk_at dksX8_tasteNow_7 10 rfl rfl)
theorem dX8_tasteNow_172 : decode cX8_tasteNow 172 = .ok (.getfield 279, 3) := dk_180 1 23 (dk_at dksX8_tasteNow_7 11 rfl rfl)
theorem dX8_tasteNow_175 : decode cX8_tasteNow 175 = .ok (.iload_n 2, 1) := dk_28 (dk_at dksX8_tasteNow_7 14 rfl rfl)
theorem dX8_tasteNow_176 : decode cX8_tasteNow 176 = .ok (.ifCond .eq 9, 3) := dk_153 0 9 (dk_at dksX8_tasteNow_7 15 rfl rfl)
theorem dX8_tasteNow_179 : decode cX8_tasteNow 179 = .ok (.iconst 1, 1) := dk_4 (dk_at dksX8_tasteNow_7 18 rfl rfl)
theorem dX8_tasteNow_180 : decode cX8_tasteNow 180 = .ok (.iload_n 1, 1) := dk_27 (dk_at dksX8_tasteNow_7 19 rfl rfl)
theorem dX8_tasteNow_181 : decode cX8_tasteNow 181 = .ok (.ishl, 1) := dk_120 (dk_at dksX8_tasteNow_7 20 rfl rfl)
theorem dX8_tasteNow_182 : decode cX8_tasteNow 182 = .ok (.goto 4, 3) := dk_167 0 4 (dk_at dksX8_tasteNow_7 21 rfl rfl)
theorem dX8_tasteNow_185 : decode cX8_tasteNow 185 = .ok (.iconst 0, 1) := dk_3 (dk_at dksX8_tasteNow_8 0 rfl rfl)
theorem dX8_tasteNow_186 : decode cX8_tasteNow 186 = .ok (.ior, 1) := dk_128 (dk_at dksX8_tasteNow_8 1 rfl rfl)
theorem dX8_tasteNow_187 : decode cX8_tasteNow 187 = .ok (.putfield 279, 3) := dk_181 1 23 (dk_at dksX8_tasteNow_8 2 rfl rfl)
theorem dX8_tasteNow_190 : decode cX8_tasteNow 190 = .ok (.iinc 1 1, 3) := dk_132 1 1 (dk_at dksX8_tasteNow_8 5 rfl rfl)
theorem dX8_tasteNow_193 : decode cX8_tasteNow 193 = .ok (.goto (-73), 3) := dk_167 255 183 (dk_at dksX8_tasteNow_8 8 rfl rfl)
theorem dX8_tasteNow_196 : decode cX8_tasteNow 196 = .ok (.aload_n 0, 1) := dk_42 (dk_at dksX8_tasteNow_8 11 rfl rfl)
theorem dX8_tasteNow_197 : decode cX8_tasteNow 197 = .ok (.getfield 68, 3) := dk_180 0 68 (dk_at dksX8_tasteNow_8 12 rfl rfl)
theorem dX8_tasteNow_200 : decode cX8_tasteNow 200 = .ok (.iconst 0, 1) := dk_3 (dk_at dksX8_tasteNow_8 15 rfl rfl)
theorem dX8_tasteNow_201 : decode cX8_tasteNow 201 = .ok (.aload_n 0, 1) := dk_42 (dk_at dksX8_tasteNow_8 16 rfl rfl)
theorem dX8_tasteNow_202 : decode cX8_tasteNow 202 = .ok (.getfield 65, 3) := dk_180 0 65 (dk_at dksX8_tasteNow_8 17 rfl rfl)
theorem dX8_tasteNow_205 : decode cX8_tasteNow 205 = .ok (.iconst 0, 1) := dk_3 (dk_at dksX8_tasteNow_8 20 rfl rfl)
theorem dX8_tasteNow_206 : decode cX8_tasteNow 206 = .ok (.invokestatic 263, 3) := dk_184 1 7 (dk_at dksX8_tasteNow_8 21 rfl rfl)
theorem dX8_tasteNow_209 : decode cX8_tasteNow 209 = .ok (.aload_n 0, 1) := dk_42 (dk_at dksX8_tasteNow_9 0 rfl rfl)
theorem dX8_tasteNow_210 : decode cX8_tasteNow 210 = .ok (.getfield 273, 3) := dk_180 1 17 (dk_at dksX8_tasteNow_9 1 rfl rfl)
theorem dX8_tasteNow_213 : decode cX8_tasteNow 213 = .ok (.aload_n 0, 1) := dk_42 (dk_at dksX8_tasteNow_9 4 rfl rfl)
theorem dX8_tasteNow_214 : decode cX8_tasteNow 214 = .ok (.getfield 56, 3) := dk_180 0 56 (dk_at dksX8_tasteNow_9 5 rfl rfl)
theorem dX8_tasteNow_217 : decode cX8_tasteNow 217 = .ok (.iconst 4, 1) := dk_7 (dk_at dksX8_tasteNow_9 8 rfl rfl)
theorem dX8_tasteNow_218 : decode cX8_tasteNow 218 = .ok (.iaload, 1) := dk_46 (dk_at dksX8_tasteNow_9 9 rfl rfl)
theorem dX8_tasteNow_219 : decode cX8_tasteNow 219 = .ok (.if_icmp .le 7, 3) := dk_164 0 7 (dk_at dksX8_tasteNow_9 10 rfl rfl)
theorem dX8_tasteNow_222 : decode cX8_tasteNow 222 = .ok (.iconst 5, 1) := dk_8 (dk_at dksX8_tasteNow_9 13 rfl rfl)
theorem dX8_tasteNow_223 : decode cX8_tasteNow 223 = .ok (.goto 72, 3) := dk_167 0 72 (dk_at dksX8_tasteNow_9 14 rfl rfl)
theorem dX8_tasteNow_226 : decode cX8_tasteNow 226 = .ok (.aload_n 0, 1) := dk_42 (dk_at dksX8_tasteNow_9 17 rfl rfl)
theorem dX8_tasteNow_227 : decode cX8_tasteNow 227 = .ok (.getfield 270, 3) := dk_180 1 14 (dk_at dksX8_tasteNow_9 18 rfl rfl)
theorem dX8_tasteNow_230 : decode cX8_tasteNow 230 = .ok (.aload_n 0, 1) := dk_42 (dk_at dksX8_tasteNow_9 21 rfl rfl)
theorem dX8_tasteNow_231 : decode cX8_tasteNow 231 = .ok (.getfield 56, 3) := dk_180 0 56 (dk_at dksX8_tasteNow_10 0 rfl rfl)
theorem dX8_tasteNow_234 : decode cX8_tasteNow 234 = .ok (.iconst 2, 1) := dk_5 (dk_at dksX8_tasteNow_10 3 rfl rfl)
theorem dX8_tasteNow_235 : decode cX8_tasteNow 235 = .ok (.iaload, 1) := dk_46 (dk_at dksX8_tasteNow_10 4 rfl rfl)
theorem dX8_tasteNow_236 : decode cX8_tasteNow 236 = .ok (.if_icmp .ge 7, 3) := dk_162 0 7 (dk_at dksX8_tasteNow_10 5 rfl rfl)
theorem dX8_tasteNow_239 : decode cX8_tasteNow 239 = .ok (.iconst 1, 1) := dk_4 (dk_at dksX8_tasteNow_10 8 rfl rfl)
theorem dX8_tasteNow_240 : decode cX8_tasteNow 240 = .ok (.goto 55, 3) := dk_167 0 55 (dk_at dksX8_tasteNow_10 9 rfl rfl)
theorem dX8_tasteNow_243 : decode cX8_tasteNow 243 = .ok (.aload_n 0, 1) := dk_42 (dk_at dksX8_tasteNow_10 12 rfl rfl)
theorem dX8_tasteNow_244 : decode cX8_tasteNow 244 = .ok (.getfield 270, 3) := dk_180 1 14 (dk_at dksX8_tasteNow_10 13 rfl rfl)
theorem dX8_tasteNow_247 : decode cX8_tasteNow 247 = .ok (.aload_n 0, 1) := dk_42 (dk_at dksX8_tasteNow_10 16 rfl rfl)
theorem dX8_tasteNow_248 : decode cX8_tasteNow 248 = .ok (.getfield 56, 3) := dk_180 0 56 (dk_at dksX8_tasteNow_10 17 rfl rfl)
theorem dX8_tasteNow_251 : decode cX8_tasteNow 251 = .ok (.iconst 3, 1) := dk_6 (dk_at dksX8_tasteNow_10 20 rfl rfl)
theorem dX8_tasteNow_252 : decode cX8_tasteNow 252 = .ok (.iaload, 1) := dk_46 (dk_at dksX8_tasteNow_10 21 rfl rfl)
theorem dX8_tasteNow_253 : decode cX8_tasteNow 253 = .ok (.if_icmp .le 7, 3) := dk_164 0 7 (dk_at dksX8_tasteNow_11 0 rfl rfl)
theorem dX8_tasteNow_256 : decode cX8_tasteNow 256 = .ok (.iconst 2, 1) := dk_5 (dk_at dksX8_tasteNow_11 3 rfl rfl)
theorem dX8_tasteNow_257 : decode cX8_tasteNow 257 = .ok (.goto 38, 3) := dk_167 0 38 (dk_at dksX8_tasteNow_11 4 rfl rfl)
theorem dX8_tasteNow_260 : decode cX8_tasteNow 260 = .ok (.aload_n 0, 1) := dk_42 (dk_at dksX8_tasteNow_11 7 rfl rfl)
theorem dX8_tasteNow_261 : decode cX8_tasteNow 261 = .ok (.getfield 267, 3) := dk_180 1 11 (dk_at dksX8_tasteNow_11 8 rfl rfl)
theorem dX8_tasteNow_264 : decode cX8_tasteNow 264 = .ok (.aload_n 0, 1) := dk_42 (dk_at dksX8_tasteNow_11 11 rfl rfl)
theorem dX8_tasteNow_265 : decode cX8_tasteNow 265 = .ok (.getfield 56, 3) := dk_180 0 56 (dk_at dksX8_tasteNow_11 12 rfl rfl)
theorem dX8_tasteNow_268 : decode cX8_tasteNow 268 = .ok (.iconst 0, 1) := dk_3 (dk_at dksX8_tasteNow_11 15 rfl rfl)
theorem dX8_tasteNow_269 : decode cX8_tasteNow 269 = .ok (.iaload, 1) := dk_46 (dk_at dksX8_tasteNow_11 16 rfl rfl)
theorem dX8_tasteNow_270 : decode cX8_tasteNow 270 = .ok (.if_icmp .ge 7, 3) := dk_162 0 7 (dk_at dksX8_tasteNow_11 17 rfl rfl)
theorem dX8_tasteNow_273 : decode cX8_tasteNow 273 = .ok (.iconst 3, 1) := dk_6 (dk_at dksX8_tasteNow_11 20 rfl rfl)
theorem dX8_tasteNow_274 : decode cX8_tasteNow 274 = .ok (.goto 21, 3) := dk_167 0 21 (dk_at dksX8_tasteNow_11 21 rfl rfl)
theorem dX8_tasteNow_277 : decode cX8_tasteNow 277 = .ok (.aload_n 0, 1) := dk_42 (dk_at dksX8_tasteNow_12 0 rfl rfl)
theorem dX8_tasteNow_278 : decode cX8_tasteNow 278 = .ok (.getfield 267, 3) := dk_180 1 11 (dk_at dksX8_tasteNow_12 1 rfl rfl)
theorem dX8_tasteNow_281 : decode cX8_tasteNow 281 = .ok (.aload_n 0, 1) := dk_42 (dk_at dksX8_tasteNow_12 4 rfl rfl)
theorem dX8_tasteNow_282 : decode cX8_tasteNow 282 = .ok (.getfield 56, 3) := dk_180 0 56 (dk_at dksX8_tasteNow_12 5 rfl rfl)
theorem dX8_tasteNow_285 : decode cX8_tasteNow 285 = .ok (.iconst 1, 1) := dk_4 (dk_at dksX8_tasteNow_12 8 rfl rfl)
theorem dX8_tasteNow_286 : decode cX8_tasteNow 286 = .ok (.iaload, 1) := dk_46 (dk_at dksX8_tasteNow_12 9 rfl rfl)
theorem dX8_tasteNow_287 : decode cX8_tasteNow 287 = .ok (.if_icmp .le 7, 3) := dk_164 0 7 (dk_at dksX8_tasteNow_12 10 rfl rfl)
theorem dX8_tasteNow_290 : decode cX8_tasteNow 290 = .ok (.iconst 4, 1) := dk_7 (dk_at dksX8_tasteNow_12 13 rfl rfl)
theorem dX8_tasteNow_291 : decode cX8_tasteNow 291 = .ok (.goto 4, 3) := dk_167 0 4 (dk_at dksX8_tasteNow_12 14 rfl rfl)
theorem dX8_tasteNow_294 : decode cX8_tasteNow 294 = .ok (.iconst 0, 1) := dk_3 (dk_at dksX8_tasteNow_12 17 rfl rfl)
theorem dX8_tasteNow_295 : decode cX8_tasteNow 295 = .ok (.ireturn, 1) := dk_172 (dk_at dksX8_tasteNow_12 18 rfl rfl)
abbrev cX8_partLeft : ByteArray := prog_17_method_43_code
def yX8_partLeft : MethodName := ⟨RX8, "partLeft", "(I)J"⟩
def dkwX8_partLeft_0 : List UInt8 := [42, 180, 0, 65, 17, 0, 134, 27, 96, 46, 154, 0, 7, 10, 167, 0, 9, 42, 27, 182, 0, 251, 133, 173]
abbrev dktX8_partLeft_0 : List UInt8 := dkwX8_partLeft_0 ++ []
theorem dksX8_partLeft_0 : cX8_partLeft.data.toList.drop 0 = dktX8_partLeft_0 := by decide +kernel
theorem dX8_partLeft_0 : decode cX8_partLeft 0 = .ok (.aload_n 0, 1) := dk_42 (dk_at dksX8_partLeft_0 0 rfl rfl)
theorem dX8_partLeft_1 : decode cX8_partLeft 1 = .ok (.getfield 65, 3) := dk_180 0 65 (dk_at dksX8_partLeft_0 1 rfl rfl)
theorem dX8_partLeft_4 : decode cX8_partLeft 4 = .ok (.sipush 134, 3) := dk_17 0 134 (dk_at dksX8_partLeft_0 4 rfl rfl)
theorem dX8_partLeft_7 : decode cX8_partLeft 7 = .ok (.iload_n 1, 1) := dk_27 (dk_at dksX8_partLeft_0 7 rfl rfl)
theorem dX8_partLeft_8 : decode cX8_partLeft 8 = .ok (.iadd, 1) := dk_96 (dk_at dksX8_partLeft_0 8 rfl rfl)
theorem dX8_partLeft_9 : decode cX8_partLeft 9 = .ok (.iaload, 1) := dk_46 (dk_at dksX8_partLeft_0 9 rfl rfl)
theorem dX8_partLeft_10 : decode cX8_partLeft 10 = .ok (.ifCond .ne 7, 3) := dk_154 0 7 (dk_at dksX8_partLeft_0 10 rfl rfl)
theorem dX8_partLeft_13 : decode cX8_partLeft 13 = .ok (.lconst 1, 1) := dk_10 (dk_at dksX8_partLeft_0 13 rfl rfl)
theorem dX8_partLeft_14 : decode cX8_partLeft 14 = .ok (.goto 9, 3) := dk_167 0 9 (dk_at dksX8_partLeft_0 14 rfl rfl)
theorem dX8_partLeft_17 : decode cX8_partLeft 17 = .ok (.aload_n 0, 1) := dk_42 (dk_at dksX8_partLeft_0 17 rfl rfl)
theorem dX8_partLeft_18 : decode cX8_partLeft 18 = .ok (.iload_n 1, 1) := dk_27 (dk_at dksX8_partLeft_0 18 rfl rfl)
theorem dX8_partLeft_19 : decode cX8_partLeft 19 = .ok (.invokevirtual 251, 3) := dk_182 0 251 (dk_at dksX8_partLeft_0 19 rfl rfl)
theorem dX8_partLeft_22 : decode cX8_partLeft 22 = .ok (.i2l, 1) := dk_133 (dk_at dksX8_partLeft_0 22 rfl rfl)
theorem dX8_partLeft_23 : decode cX8_partLeft 23 = .ok (.lreturn, 1) := dk_173 (dk_at dksX8_partLeft_0 23 rfl rfl)
abbrev cX8_allIn : ByteArray := prog_17_method_44_code
def yX8_allIn : MethodName := ⟨RX8, "allIn", "(I)J"⟩
def dkwX8_allIn_1 : List UInt8 := [27, 96, 46, 133, 173]
abbrev dktX8_allIn_1 : List UInt8 := dkwX8_allIn_1 ++ []
def dkwX8_allIn_0 : List UInt8 := [42, 180, 0, 65, 17, 0, 134, 27, 96, 46, 154, 0, 7, 10, 167, 0, 14, 42, 180, 0, 65, 17, 0, 134]
abbrev dktX8_allIn_0 : List UInt8 := dkwX8_allIn_0 ++ dktX8_allIn_1
theorem dksX8_allIn_0 : cX8_allIn.data.toList.drop 0 = dktX8_allIn_0 := by decide +kernel
theorem dksX8_allIn_1 : cX8_allIn.data.toList.drop 24 = dktX8_allIn_1 := dk_seg dksX8_allIn_0 24 rfl rfl
theorem dX8_allIn_0 : decode cX8_allIn 0 = .ok (.aload_n 0, 1) := dk_42 (dk_at dksX8_allIn_0 0 rfl rfl)
theorem dX8_allIn_1 : decode cX8_allIn 1 = .ok (.getfield 65, 3) := dk_180 0 65 (dk_at dksX8_allIn_0 1 rfl rfl)
theorem dX8_allIn_4 : decode cX8_allIn 4 = .ok (.sipush 134, 3) := dk_17 0 134 (dk_at dksX8_allIn_0 4 rfl rfl)
theorem dX8_allIn_7 : decode cX8_allIn 7 = .ok (.iload_n 1, 1) := dk_27 (dk_at dksX8_allIn_0 7 rfl rfl)
theorem dX8_allIn_8 : decode cX8_allIn 8 = .ok (.iadd, 1) := dk_96 (dk_at dksX8_allIn_0 8 rfl rfl)
theorem dX8_allIn_9 : decode cX8_allIn 9 = .ok (.iaload, 1) := dk_46 (dk_at dksX8_allIn_0 9 rfl rfl)
theorem dX8_allIn_10 : decode cX8_allIn 10 = .ok (.ifCond .ne 7, 3) := dk_154 0 7 (dk_at dksX8_allIn_0 10 rfl rfl)
theorem dX8_allIn_13 : decode cX8_allIn 13 = .ok (.lconst 1, 1) := dk_10 (dk_at dksX8_allIn_0 13 rfl rfl)
theorem dX8_allIn_14 : decode cX8_allIn 14 = .ok (.goto 14, 3) := dk_167 0 14 (dk_at dksX8_allIn_0 14 rfl rfl)
theorem dX8_allIn_17 : decode cX8_allIn 17 = .ok (.aload_n 0, 1) := dk_42 (dk_at dksX8_allIn_0 17 rfl rfl)
theorem dX8_allIn_18 : decode cX8_allIn 18 = .ok (.getfield 65, 3) := dk_180 0 65 (dk_at dksX8_allIn_0 18 rfl rfl)
theorem dX8_allIn_21 : decode cX8_allIn 21 = .ok (.sipush 134, 3) := dk_17 0 134 (dk_at dksX8_allIn_0 21 rfl rfl)
theorem dX8_allIn_24 : decode cX8_allIn 24 = .ok (.iload_n 1, 1) := dk_27 (dk_at dksX8_allIn_1 0 rfl rfl)
theorem dX8_allIn_25 : decode cX8_allIn 25 = .ok (.iadd, 1) := dk_96 (dk_at dksX8_allIn_1 1 rfl rfl)
theorem dX8_allIn_26 : decode cX8_allIn 26 = .ok (.iaload, 1) := dk_46 (dk_at dksX8_allIn_1 2 rfl rfl)
theorem dX8_allIn_27 : decode cX8_allIn 27 = .ok (.i2l, 1) := dk_133 (dk_at dksX8_allIn_1 3 rfl rfl)
theorem dX8_allIn_28 : decode cX8_allIn 28 = .ok (.lreturn, 1) := dk_173 (dk_at dksX8_allIn_1 4 rfl rfl)
abbrev cX8_knob : ByteArray := prog_17_method_47_code
def yX8_knob : MethodName := ⟨RX8, "knob", "(I)I"⟩
def dkwX8_knob_1 : List UInt8 := [182, 1, 33, 61, 42, 27, 2, 182, 1, 36, 87, 28, 172]
abbrev dktX8_knob_1 : List UInt8 := dkwX8_knob_1 ++ []
def dkwX8_knob_0 : List UInt8 := [27, 3, 8, 184, 0, 90, 154, 0, 6, 16, 254, 172, 42, 27, 4, 182, 1, 36, 154, 0, 5, 2, 172, 42]
abbrev dktX8_knob_0 : List UInt8 := dkwX8_knob_0 ++ dktX8_knob_1
theorem dksX8_knob_0 : cX8_knob.data.toList.drop 0 = dktX8_knob_0 := by decide +kernel
theorem dksX8_knob_1 : cX8_knob.data.toList.drop 24 = dktX8_knob_1 := dk_seg dksX8_knob_0 24 rfl rfl
theorem dX8_knob_0 : decode cX8_knob 0 = .ok (.iload_n 1, 1) := dk_27 (dk_at dksX8_knob_0 0 rfl rfl)
theorem dX8_knob_1 : decode cX8_knob 1 = .ok (.iconst 0, 1) := dk_3 (dk_at dksX8_knob_0 1 rfl rfl)
theorem dX8_knob_2 : decode cX8_knob 2 = .ok (.iconst 5, 1) := dk_8 (dk_at dksX8_knob_0 2 rfl rfl)
theorem dX8_knob_3 : decode cX8_knob 3 = .ok (.invokestatic 90, 3) := dk_184 0 90 (dk_at dksX8_knob_0 3 rfl rfl)
theorem dX8_knob_6 : decode cX8_knob 6 = .ok (.ifCond .ne 6, 3) := dk_154 0 6 (dk_at dksX8_knob_0 6 rfl rfl)
theorem dX8_knob_9 : decode cX8_knob 9 = .ok (.bipush (-2), 2) := dk_16 254 (dk_at dksX8_knob_0 9 rfl rfl)
theorem dX8_knob_11 : decode cX8_knob 11 = .ok (.ireturn, 1) := dk_172 (dk_at dksX8_knob_0 11 rfl rfl)
theorem dX8_knob_12 : decode cX8_knob 12 = .ok (.aload_n 0, 1) := dk_42 (dk_at dksX8_knob_0 12 rfl rfl)
theorem dX8_knob_13 : decode cX8_knob 13 = .ok (.iload_n 1, 1) := dk_27 (dk_at dksX8_knob_0 13 rfl rfl)
theorem dX8_knob_14 : decode cX8_knob 14 = .ok (.iconst 1, 1) := dk_4 (dk_at dksX8_knob_0 14 rfl rfl)
theorem dX8_knob_15 : decode cX8_knob 15 = .ok (.invokevirtual 292, 3) := dk_182 1 36 (dk_at dksX8_knob_0 15 rfl rfl)
theorem dX8_knob_18 : decode cX8_knob 18 = .ok (.ifCond .ne 5, 3) := dk_154 0 5 (dk_at dksX8_knob_0 18 rfl rfl)
theorem dX8_knob_21 : decode cX8_knob 21 = .ok (.iconst (-1), 1) := dk_2 (dk_at dksX8_knob_0 21 rfl rfl)
theorem dX8_knob_22 : decode cX8_knob 22 = .ok (.ireturn, 1) := dk_172 (dk_at dksX8_knob_0 22 rfl rfl)
theorem dX8_knob_23 : decode cX8_knob 23 = .ok (.aload_n 0, 1) := dk_42 (dk_at dksX8_knob_0 23 rfl rfl)
theorem dX8_knob_24 : decode cX8_knob 24 = .ok (.invokevirtual 289, 3) := dk_182 1 33 (dk_at dksX8_knob_1 0 rfl rfl)
theorem dX8_knob_27 : decode cX8_knob 27 = .ok (.istore_n 2, 1) := dk_61 (dk_at dksX8_knob_1 3 rfl rfl)
theorem dX8_knob_28 : decode cX8_knob 28 = .ok (.aload_n 0, 1) := dk_42 (dk_at dksX8_knob_1 4 rfl rfl)
theorem dX8_knob_29 : decode cX8_knob 29 = .ok (.iload_n 1, 1) := dk_27 (dk_at dksX8_knob_1 5 rfl rfl)
theorem dX8_knob_30 : decode cX8_knob 30 = .ok (.iconst (-1), 1) := dk_2 (dk_at dksX8_knob_1 6 rfl rfl)
theorem dX8_knob_31 : decode cX8_knob 31 = .ok (.invokevirtual 292, 3) := dk_182 1 36 (dk_at dksX8_knob_1 7 rfl rfl)
theorem dX8_knob_34 : decode cX8_knob 34 = .ok (.pop, 1) := dk_87 (dk_at dksX8_knob_1 10 rfl rfl)
theorem dX8_knob_35 : decode cX8_knob 35 = .ok (.iload_n 2, 1) := dk_28 (dk_at dksX8_knob_1 11 rfl rfl)
theorem dX8_knob_36 : decode cX8_knob 36 = .ok (.ireturn, 1) := dk_172 (dk_at dksX8_knob_1 12 rfl rfl)
abbrev cX8_isTurned : ByteArray := prog_17_method_46_code
def yX8_isTurned : MethodName := ⟨RX8, "isTurned", "(II)Z"⟩
def dkwX8_isTurned_4 : List UInt8 := [4, 16, 20, 184, 0, 90, 153, 0, 15, 42, 89, 180, 0, 41, 29, 96, 181, 0, 41, 4, 172, 3, 172]
abbrev dktX8_isTurned_4 : List UInt8 := dkwX8_isTurned_4 ++ []
def dkwX8_isTurned_3 : List UInt8 := [180, 0, 38, 16, 10, 29, 104, 96, 181, 0, 38, 4, 172, 27, 6, 164, 0, 30, 42, 180, 0, 41, 29, 96]
abbrev dktX8_isTurned_3 : List UInt8 := dkwX8_isTurned_3 ++ dktX8_isTurned_4
def dkwX8_isTurned_2 : List UInt8 := [4, 160, 0, 36, 42, 180, 0, 38, 16, 10, 29, 104, 96, 3, 16, 100, 184, 0, 90, 153, 0, 18, 42, 89]
abbrev dktX8_isTurned_2 : List UInt8 := dkwX8_isTurned_2 ++ dktX8_isTurned_3
def dkwX8_isTurned_1 : List UInt8 := [3, 16, 10, 184, 0, 90, 153, 0, 15, 42, 89, 180, 0, 23, 29, 96, 181, 0, 23, 4, 172, 27, 5, 108]
abbrev dktX8_isTurned_1 : List UInt8 := dkwX8_isTurned_1 ++ dktX8_isTurned_2
def dkwX8_isTurned_0 : List UInt8 := [27, 5, 112, 154, 0, 7, 28, 167, 0, 5, 28, 116, 62, 27, 5, 162, 0, 30, 42, 180, 0, 23, 29, 96]
abbrev dktX8_isTurned_0 : List UInt8 := dkwX8_isTurned_0 ++ dktX8_isTurned_1
theorem dksX8_isTurned_0 : cX8_isTurned.data.toList.drop 0 = dktX8_isTurned_0 := by decide +kernel
theorem dksX8_isTurned_1 : cX8_isTurned.data.toList.drop 24 = dktX8_isTurned_1 := dk_seg dksX8_isTurned_0 24 rfl rfl
theorem dksX8_isTurned_2 : cX8_isTurned.data.toList.drop 48 = dktX8_isTurned_2 := dk_seg dksX8_isTurned_1 24 rfl rfl
theorem dksX8_isTurned_3 : cX8_isTurned.data.toList.drop 72 = dktX8_isTurned_3 := dk_seg dksX8_isTurned_2 24 rfl rfl
theorem dksX8_isTurned_4 : cX8_isTurned.data.toList.drop 96 = dktX8_isTurned_4 := dk_seg dksX8_isTurned_3 24 rfl rfl
theorem dX8_isTurned_0 : decode cX8_isTurned 0 = .ok (.iload_n 1, 1) := dk_27 (dk_at dksX8_isTurned_0 0 rfl rfl)
theorem dX8_isTurned_1 : decode cX8_isTurned 1 = .ok (.iconst 2, 1) := dk_5 (dk_at dksX8_isTurned_0 1 rfl rfl)
theorem dX8_isTurned_2 : decode cX8_isTurned 2 = .ok (.irem, 1) := dk_112 (dk_at dksX8_isTurned_0 2 rfl rfl)
theorem dX8_isTurned_3 : decode cX8_isTurned 3 = .ok (.ifCond .ne 7, 3) := dk_154 0 7 (dk_at dksX8_isTurned_0 3 rfl rfl)
theorem dX8_isTurned_6 : decode cX8_isTurned 6 = .ok (.iload_n 2, 1) := dk_28 (dk_at dksX8_isTurned_0 6 rfl rfl)
theorem dX8_isTurned_7 : decode cX8_isTurned 7 = .ok (.goto 5, 3) := dk_167 0 5 (dk_at dksX8_isTurned_0 7 rfl rfl)
theorem dX8_isTurned_10 : decode cX8_isTurned 10 = .ok (.iload_n 2, 1) := dk_28 (dk_at dksX8_isTurned_0 10 rfl rfl)
theorem dX8_isTurned_11 : decode cX8_isTurned 11 = .ok (.ineg, 1) := dk_116 (dk_at dksX8_isTurned_0 11 rfl rfl)
theorem dX8_isTurned_12 : decode cX8_isTurned 12 = .ok (.istore_n 3, 1) := dk_62 (dk_at dksX8_isTurned_0 12 rfl rfl)
theorem dX8_isTurned_13 : decode cX8_isTurned 13 = .ok (.iload_n 1, 1) := dk_27 (dk_at dksX8_isTurned_0 13 rfl rfl)
theorem dX8_isTurned_14 : decode cX8_isTurned 14 = .ok (.iconst 2, 1) := dk_5 (dk_at dksX8_isTurned_0 14 rfl rfl)
theorem dX8_isTurned_15 : decode cX8_isTurned 15 = .ok (.if_icmp .ge 30, 3) := dk_162 0 30 (dk_at dksX8_isTurned_0 15 rfl rfl)
theorem dX8_isTurned_18 : decode cX8_isTurned 18 = .ok (.aload_n 0, 1) := dk_42 (dk_at dksX8_isTurned_0 18 rfl rfl)
theorem dX8_isTurned_19 : decode cX8_isTurned 19 = .ok (.getfield 23, 3) := dk_180 0 23 (dk_at dksX8_isTurned_0 19 rfl rfl)
theorem dX8_isTurned_22 : decode cX8_isTurned 22 = .ok (.iload_n 3, 1) := dk_29 (dk_at dksX8_isTurned_0 22 rfl rfl)
theorem dX8_isTurned_23 : decode cX8_isTurned 23 = .ok (.iadd, 1) := dk_96 (dk_at dksX8_isTurned_0 23 rfl rfl)
theorem dX8_isTurned_24 : decode cX8_isTurned 24 = .ok (.iconst 0, 1) := dk_3 (dk_at dksX8_isTurned_1 0 rfl rfl)
theorem dX8_isTurned_25 : decode cX8_isTurned 25 = .ok (.bipush 10, 2) := dk_16 10 (dk_at dksX8_isTurned_1 1 rfl rfl)
theorem dX8_isTurned_27 : decode cX8_isTurned 27 = .ok (.invokestatic 90, 3) := dk_184 0 90 (dk_at dksX8_isTurned_1 3 rfl rfl)
theorem dX8_isTurned_30 : decode cX8_isTurned 30 = .ok (.ifCond .eq 15, 3) := dk_153 0 15 (dk_at dksX8_isTurned_1 6 rfl rfl)
theorem dX8_isTurned_33 : decode cX8_isTurned 33 = .ok (.aload_n 0, 1) := dk_42 (dk_at dksX8_isTurned_1 9 rfl rfl)
theorem dX8_isTurned_34 : decode cX8_isTurned 34 = .ok (.dup, 1) := dk_89 (dk_at dksX8_isTurned_1 10 rfl rfl)
theorem dX8_isTurned_35 : decode cX8_isTurned 35 = .ok (.getfield 23, 3) := dk_180 0 23 (dk_at dksX8_isTurned_1 11 rfl rfl)
theorem dX8_isTurned_38 : decode cX8_isTurned 38 = .ok (.iload_n 3, 1) := dk_29 (dk_at dksX8_isTurned_1 14 rfl rfl)
theorem dX8_isTurned_39 : decode cX8_isTurned 39 = .ok (.iadd, 1) := dk_96 (dk_at dksX8_isTurned_1 15 rfl rfl)
theorem dX8_isTurned_40 : decode cX8_isTurned 40 = .ok (.putfield 23, 3) := dk_181 0 23 (dk_at dksX8_isTurned_1 16 rfl rfl)
theorem dX8_isTurned_43 : decode cX8_isTurned 43 = .ok (.iconst 1, 1) := dk_4 (dk_at dksX8_isTurned_1 19 rfl rfl)
theorem dX8_isTurned_44 : decode cX8_isTurned 44 = .ok (.ireturn, 1) := dk_172 (dk_at dksX8_isTurned_1 20 rfl rfl)
theorem dX8_isTurned_45 : decode cX8_isTurned 45 = .ok (.iload_n 1, 1) := dk_27 (dk_at dksX8_isTurned_1 21 rfl rfl)
theorem dX8_isTurned_46 : decode cX8_isTurned 46 = .ok (.iconst 2, 1) := dk_5 (dk_at dksX8_isTurned_1 22 rfl rfl)
theorem dX8_isTurned_47 : decode cX8_isTurned 47 = .ok (.idiv, 1) := dk_108 (dk_at dksX8_isTurned_1 23 rfl rfl)
theorem dX8_isTurned_48 : decode cX8_isTurned 48 = .ok (.iconst 1, 1) := dk_4 (dk_at dksX8_isTurned_2 0 rfl rfl)
theorem dX8_isTurned_49 : decode cX8_isTurned 49 = .ok (.if_icmp .ne 36, 3) := dk_160 0 36 (dk_at dksX8_isTurned_2 1 rfl rfl)
theorem dX8_isTurned_52 : decode cX8_isTurned 52 = .ok (.aload_n 0, 1) := dk_42 (dk_at dksX8_isTurned_2 4 rfl rfl)
theorem dX8_isTurned_53 : decode cX8_isTurned 53 = .ok (.getfield 38, 3) := dk_180 0 38 (dk_at dksX8_isTurned_2 5 rfl rfl)
theorem dX8_isTurned_56 : decode cX8_isTurned 56 = .ok (.bipush 10, 2) := dk_16 10 (dk_at dksX8_isTurned_2 8 rfl rfl)
theorem dX8_isTurned_58 : decode cX8_isTurned 58 = .ok (.iload_n 3, 1) := dk_29 (dk_at dksX8_isTurned_2 10 rfl rfl)
theorem dX8_isTurned_59 : decode cX8_isTurned 59 = .ok (.imul, 1) := dk_104 (dk_at dksX8_isTurned_2 11 rfl rfl)
theorem dX8_isTurned_60 : decode cX8_isTurned 60 = .ok (.iadd, 1) := dk_96 (dk_at dksX8_isTurned_2 12 rfl rfl)
theorem dX8_isTurned_61 : decode cX8_isTurned 61 = .ok (.iconst 0, 1) := dk_3 (dk_at dksX8_isTurned_2 13 rfl rfl)
theorem dX8_isTurned_62 : decode cX8_isTurned 62 = .ok (.bipush 100, 2) := dk_16 100 (dk_at dksX8_isTurned_2 14 rfl rfl)
theorem dX8_isTurned_64 : decode cX8_isTurned 64 = .ok (.invokestatic 90, 3) := dk_184 0 90 (dk_at dksX8_isTurned_2 16 rfl rfl)
theorem dX8_isTurned_67 : decode cX8_isTurned 67 = .ok (.ifCond .eq 18, 3) := dk_153 0 18 (dk_at dksX8_isTurned_2 19 rfl rfl)
theorem dX8_isTurned_70 : decode cX8_isTurned 70 = .ok (.aload_n 0, 1) := dk_42 (dk_at dksX8_isTurned_2 22 rfl rfl)
theorem dX8_isTurned_71 : decode cX8_isTurned 71 = .ok (.dup, 1) := dk_89 (dk_at dksX8_isTurned_2 23 rfl rfl)
theorem dX8_isTurned_72 : decode cX8_isTurned 72 = .ok (.getfield 38, 3) := dk_180 0 38 (dk_at dksX8_isTurned_3 0 rfl rfl)
theorem dX8_isTurned_75 : decode cX8_isTurned 75 = .ok (.bipush 10, 2) := dk_16 10 (dk_at dksX8_isTurned_3 3 rfl rfl)
theorem dX8_isTurned_77 : decode cX8_isTurned 77 = .ok (.iload_n 3, 1) := dk_29 (dk_at dksX8_isTurned_3 5 rfl rfl)
theorem dX8_isTurned_78 : decode cX8_isTurned 78 = .ok (.imul, 1) := dk_104 (dk_at dksX8_isTurned_3 6 rfl rfl)
theorem dX8_isTurned_79 : decode cX8_isTurned 79 = .ok (.iadd, 1) := dk_96 (dk_at dksX8_isTurned_3 7 rfl rfl)
theorem dX8_isTurned_80 : decode cX8_isTurned 80 = .ok (.putfield 38, 3) := dk_181 0 38 (dk_at dksX8_isTurned_3 8 rfl rfl)
theorem dX8_isTurned_83 : decode cX8_isTurned 83 = .ok (.iconst 1, 1) := dk_4 (dk_at dksX8_isTurned_3 11 rfl rfl)
theorem dX8_isTurned_84 : decode cX8_isTurned 84 = .ok (.ireturn, 1) := dk_172 (dk_at dksX8_isTurned_3 12 rfl rfl)
theorem dX8_isTurned_85 : decode cX8_isTurned 85 = .ok (.iload_n 1, 1) := dk_27 (dk_at dksX8_isTurned_3 13 rfl rfl)
theorem dX8_isTurned_86 : decode cX8_isTurned 86 = .ok (.iconst 3, 1) := dk_6 (dk_at dksX8_isTurned_3 14 rfl rfl)
theorem dX8_isTurned_87 : decode cX8_isTurned 87 = .ok (.if_icmp .le 30, 3) := dk_164 0 30 (dk_at dksX8_isTurned_3 15 rfl rfl)
theorem dX8_isTurned_90 : decode cX8_isTurned 90 = .ok (.aload_n 0, 1) := dk_42 (dk_at dksX8_isTurned_3 18 rfl rfl)
theorem dX8_isTurned_91 : decode cX8_isTurned 91 = .ok (.getfield 41, 3) := dk_180 0 41 (dk_at dksX8_isTurned_3 19 rfl rfl)
theorem dX8_isTurned_94 : decode cX8_isTurned 94 = .ok (.iload_n 3, 1) := dk_29 (dk_at dksX8_isTurned_3 22 rfl rfl)
theorem dX8_isTurned_95 : decode cX8_isTurned 95 = .ok (.iadd, 1) := dk_96 (dk_at dksX8_isTurned_3 23 rfl rfl)
theorem dX8_isTurned_96 : decode cX8_isTurned 96 = .ok (.iconst 1, 1) := dk_4 (dk_at dksX8_isTurned_4 0 rfl rfl)
theorem dX8_isTurned_97 : decode cX8_isTurned 97 = .ok (.bipush 20, 2) := dk_16 20 (dk_at dksX8_isTurned_4 1 rfl rfl)
theorem dX8_isTurned_99 : decode cX8_isTurned 99 = .ok (.invokestatic 90, 3) := dk_184 0 90 (dk_at dksX8_isTurned_4 3 rfl rfl)
theorem dX8_isTurned_102 : decode cX8_isTurned 102 = .ok (.ifCond .eq 15, 3) := dk_153 0 15 (dk_at dksX8_isTurned_4 6 rfl rfl)
theorem dX8_isTurned_105 : decode cX8_isTurned 105 = .ok (.aload_n 0, 1) := dk_42 (dk_at dksX8_isTurned_4 9 rfl rfl)
theorem dX8_isTurned_106 : decode cX8_isTurned 106 = .ok (.dup, 1) := dk_89 (dk_at dksX8_isTurned_4 10 rfl rfl)
theorem dX8_isTurned_107 : decode cX8_isTurned 107 = .ok (.getfield 41, 3) := dk_180 0 41 (dk_at dksX8_isTurned_4 11 rfl rfl)
theorem dX8_isTurned_110 : decode cX8_isTurned 110 = .ok (.iload_n 3, 1) := dk_29 (dk_at dksX8_isTurned_4 14 rfl rfl)
theorem dX8_isTurned_111 : decode cX8_isTurned 111 = .ok (.iadd, 1) := dk_96 (dk_at dksX8_isTurned_4 15 rfl rfl)
theorem dX8_isTurned_112 : decode cX8_isTurned 112 = .ok (.putfield 41, 3) := dk_181 0 41 (dk_at dksX8_isTurned_4 16 rfl rfl)
theorem dX8_isTurned_115 : decode cX8_isTurned 115 = .ok (.iconst 1, 1) := dk_4 (dk_at dksX8_isTurned_4 19 rfl rfl)
theorem dX8_isTurned_116 : decode cX8_isTurned 116 = .ok (.ireturn, 1) := dk_172 (dk_at dksX8_isTurned_4 20 rfl rfl)
theorem dX8_isTurned_117 : decode cX8_isTurned 117 = .ok (.iconst 0, 1) := dk_3 (dk_at dksX8_isTurned_4 21 rfl rfl)
theorem dX8_isTurned_118 : decode cX8_isTurned 118 = .ok (.ireturn, 1) := dk_172 (dk_at dksX8_isTurned_4 22 rfl rfl)
abbrev cX8_right : ByteArray := prog_17_method_49_code
def yX8_right : MethodName := ⟨RX8, "right", "(I)I"⟩
def dkwX8_right_2 : List UInt8 := [167, 0, 18, 27, 28, 162, 0, 12, 42, 180, 0, 81, 27, 46, 167, 0, 4, 2, 172]
abbrev dktX8_right_2 : List UInt8 := dkwX8_right_2 ++ []
def dkwX8_right_1 : List UInt8 := [182, 1, 39, 153, 0, 7, 29, 167, 0, 4, 2, 61, 132, 3, 1, 167, 255, 229, 27, 2, 160, 0, 7, 28]
abbrev dktX8_right_1 : List UInt8 := dkwX8_right_1 ++ dktX8_right_2
def dkwX8_right_0 : List UInt8 := [27, 2, 162, 0, 6, 16, 253, 172, 2, 61, 3, 62, 29, 7, 162, 0, 28, 28, 2, 160, 0, 23, 42, 29]
abbrev dktX8_right_0 : List UInt8 := dkwX8_right_0 ++ dktX8_right_1
theorem dksX8_right_0 : cX8_right.data.toList.drop 0 = dktX8_right_0 := by decide +kernel
theorem dksX8_right_1 : cX8_right.data.toList.drop 24 = dktX8_right_1 := dk_seg dksX8_right_0 24 rfl rfl
theorem dksX8_right_2 : cX8_right.data.toList.drop 48 = dktX8_right_2 := dk_seg dksX8_right_1 24 rfl rfl
theorem dX8_right_0 : decode cX8_right 0 = .ok (.iload_n 1, 1) := dk_27 (dk_at dksX8_right_0 0 rfl rfl)
theorem dX8_right_1 : decode cX8_right 1 = .ok (.iconst (-1), 1) := dk_2 (dk_at dksX8_right_0 1 rfl rfl)
theorem dX8_right_2 : decode cX8_right 2 = .ok (.if_icmp .ge 6, 3) := dk_162 0 6 (dk_at dksX8_right_0 2 rfl rfl)
theorem dX8_right_5 : decode cX8_right 5 = .ok (.bipush (-3), 2) := dk_16 253 (dk_at dksX8_right_0 5 rfl rfl)
theorem dX8_right_7 : decode cX8_right 7 = .ok (.ireturn, 1) := dk_172 (dk_at dksX8_right_0 7 rfl rfl)
theorem dX8_right_8 : decode cX8_right 8 = .ok (.iconst (-1), 1) := dk_2 (dk_at dksX8_right_0 8 rfl rfl)
theorem dX8_right_9 : decode cX8_right 9 = .ok (.istore_n 2, 1) := dk_61 (dk_at dksX8_right_0 9 rfl rfl)
theorem dX8_right_10 : decode cX8_right 10 = .ok (.iconst 0, 1) := dk_3 (dk_at dksX8_right_0 10 rfl rfl)
theorem dX8_right_11 : decode cX8_right 11 = .ok (.istore_n 3, 1) := dk_62 (dk_at dksX8_right_0 11 rfl rfl)
theorem dX8_right_12 : decode cX8_right 12 = .ok (.iload_n 3, 1) := dk_29 (dk_at dksX8_right_0 12 rfl rfl)
theorem dX8_right_13 : decode cX8_right 13 = .ok (.iconst 4, 1) := dk_7 (dk_at dksX8_right_0 13 rfl rfl)
theorem dX8_right_14 : decode cX8_right 14 = .ok (.if_icmp .ge 28, 3) := dk_162 0 28 (dk_at dksX8_right_0 14 rfl rfl)
theorem dX8_right_17 : decode cX8_right 17 = .ok (.iload_n 2, 1) := dk_28 (dk_at dksX8_right_0 17 rfl rfl)
theorem dX8_right_18 : decode cX8_right 18 = .ok (.iconst (-1), 1) := dk_2 (dk_at dksX8_right_0 18 rfl rfl)
theorem dX8_right_19 : decode cX8_right 19 = .ok (.if_icmp .ne 23, 3) := dk_160 0 23 (dk_at dksX8_right_0 19 rfl rfl)
theorem dX8_right_22 : decode cX8_right 22 = .ok (.aload_n 0, 1) := dk_42 (dk_at dksX8_right_0 22 rfl rfl)
theorem dX8_right_23 : decode cX8_right 23 = .ok (.iload_n 3, 1) := dk_29 (dk_at dksX8_right_0 23 rfl rfl)
theorem dX8_right_24 : decode cX8_right 24 = .ok (.invokevirtual 295, 3) := dk_182 1 39 (dk_at dksX8_right_1 0 rfl rfl)
theorem dX8_right_27 : decode cX8_right 27 = .ok (.ifCond .eq 7, 3) := dk_153 0 7 (dk_at dksX8_right_1 3 rfl rfl)
theorem dX8_right_30 : decode cX8_right 30 = .ok (.iload_n 3, 1) := dk_29 (dk_at dksX8_right_1 6 rfl rfl)
theorem dX8_right_31 : decode cX8_right 31 = .ok (.goto 4, 3) := dk_167 0 4 (dk_at dksX8_right_1 7 rfl rfl)
theorem dX8_right_34 : decode cX8_right 34 = .ok (.iconst (-1), 1) := dk_2 (dk_at dksX8_right_1 10 rfl rfl)
theorem dX8_right_35 : decode cX8_right 35 = .ok (.istore_n 2, 1) := dk_61 (dk_at dksX8_right_1 11 rfl rfl)
theorem dX8_right_36 : decode cX8_right 36 = .ok (.iinc 3 1, 3) := dk_132 3 1 (dk_at dksX8_right_1 12 rfl rfl)
theorem dX8_right_39 : decode cX8_right 39 = .ok (.goto (-27), 3) := dk_167 255 229 (dk_at dksX8_right_1 15 rfl rfl)
theorem dX8_right_42 : decode cX8_right 42 = .ok (.iload_n 1, 1) := dk_27 (dk_at dksX8_right_1 18 rfl rfl)
theorem dX8_right_43 : decode cX8_right 43 = .ok (.iconst (-1), 1) := dk_2 (dk_at dksX8_right_1 19 rfl rfl)
theorem dX8_right_44 : decode cX8_right 44 = .ok (.if_icmp .ne 7, 3) := dk_160 0 7 (dk_at dksX8_right_1 20 rfl rfl)
theorem dX8_right_47 : decode cX8_right 47 = .ok (.iload_n 2, 1) := dk_28 (dk_at dksX8_right_1 23 rfl rfl)
theorem dX8_right_48 : decode cX8_right 48 = .ok (.goto 18, 3) := dk_167 0 18 (dk_at dksX8_right_2 0 rfl rfl)
theorem dX8_right_51 : decode cX8_right 51 = .ok (.iload_n 1, 1) := dk_27 (dk_at dksX8_right_2 3 rfl rfl)
theorem dX8_right_52 : decode cX8_right 52 = .ok (.iload_n 2, 1) := dk_28 (dk_at dksX8_right_2 4 rfl rfl)
theorem dX8_right_53 : decode cX8_right 53 = .ok (.if_icmp .ge 12, 3) := dk_162 0 12 (dk_at dksX8_right_2 5 rfl rfl)
theorem dX8_right_56 : decode cX8_right 56 = .ok (.aload_n 0, 1) := dk_42 (dk_at dksX8_right_2 8 rfl rfl)
theorem dX8_right_57 : decode cX8_right 57 = .ok (.getfield 81, 3) := dk_180 0 81 (dk_at dksX8_right_2 9 rfl rfl)
theorem dX8_right_60 : decode cX8_right 60 = .ok (.iload_n 1, 1) := dk_27 (dk_at dksX8_right_2 12 rfl rfl)
theorem dX8_right_61 : decode cX8_right 61 = .ok (.iaload, 1) := dk_46 (dk_at dksX8_right_2 13 rfl rfl)
theorem dX8_right_62 : decode cX8_right 62 = .ok (.goto 4, 3) := dk_167 0 4 (dk_at dksX8_right_2 14 rfl rfl)
theorem dX8_right_65 : decode cX8_right 65 = .ok (.iconst (-1), 1) := dk_2 (dk_at dksX8_right_2 17 rfl rfl)
theorem dX8_right_66 : decode cX8_right 66 = .ok (.ireturn, 1) := dk_172 (dk_at dksX8_right_2 18 rfl rfl)
abbrev cX8_findRight : ByteArray := prog_17_method_48_code
def yX8_findRight : MethodName := ⟨RX8, "findRight", "(I)Z"⟩
def dkwX8_findRight_7 : List UInt8 := [132, 3, 1, 167, 255, 123, 3, 172]
abbrev dktX8_findRight_7 : List UInt8 := dkwX8_findRight_7 ++ []
def dkwX8_findRight_6 : List UInt8 := [180, 0, 81, 21, 7, 46, 2, 182, 1, 36, 87, 132, 7, 255, 167, 255, 235, 21, 6, 153, 0, 5, 4, 172]
abbrev dktX8_findRight_6 : List UInt8 := dkwX8_findRight_6 ++ dktX8_findRight_7
def dkwX8_findRight_5 : List UInt8 := [154, 0, 7, 4, 167, 0, 4, 3, 54, 6, 21, 5, 4, 100, 54, 7, 21, 7, 155, 0, 22, 42, 42]
abbrev dktX8_findRight_5 : List UInt8 := dkwX8_findRight_5 ++ dktX8_findRight_6
def dkwX8_findRight_4 : List UInt8 := [182, 1, 36, 153, 0, 9, 132, 5, 1, 167, 255, 232, 21, 5, 27, 160, 0, 14, 42, 182, 1, 33]
abbrev dktX8_findRight_4 : List UInt8 := dkwX8_findRight_4 ++ dktX8_findRight_5
def dkwX8_findRight_3 : List UInt8 := [132, 5, 255, 167, 255, 229, 3, 54, 5, 21, 5, 27, 162, 0, 24, 42, 42, 180, 0, 81, 21, 5, 46, 4]
abbrev dktX8_findRight_3 : List UInt8 := dkwX8_findRight_3 ++ dktX8_findRight_4
def dkwX8_findRight_2 : List UInt8 := [21, 5, 155, 0, 28, 42, 180, 0, 81, 21, 5, 21, 4, 16, 6, 112, 79, 21, 4, 16, 6, 108, 54, 4]
abbrev dktX8_findRight_2 : List UInt8 := dkwX8_findRight_2 ++ dktX8_findRight_3
def dkwX8_findRight_1 : List UInt8 := [16, 36, 167, 0, 6, 17, 0, 216, 61, 3, 62, 29, 28, 162, 0, 134, 29, 54, 4, 27, 4, 100, 54, 5]
abbrev dktX8_findRight_1 : List UInt8 := dkwX8_findRight_1 ++ dktX8_findRight_2
def dkwX8_findRight_0 : List UInt8 := [27, 154, 0, 7, 4, 167, 0, 26, 27, 4, 160, 0, 8, 16, 6, 167, 0, 16, 27, 5, 160, 0, 8]
abbrev dktX8_findRight_0 : List UInt8 := dkwX8_findRight_0 ++ dktX8_findRight_1
theorem dksX8_findRight_0 : cX8_findRight.data.toList.drop 0 = dktX8_findRight_0 := by decide +kernel
theorem dksX8_findRight_1 : cX8_findRight.data.toList.drop 23 = dktX8_findRight_1 := dk_seg dksX8_findRight_0 23 rfl rfl
theorem dksX8_findRight_2 : cX8_findRight.data.toList.drop 47 = dktX8_findRight_2 := dk_seg dksX8_findRight_1 24 rfl rfl
theorem dksX8_findRight_3 : cX8_findRight.data.toList.drop 71 = dktX8_findRight_3 := dk_seg dksX8_findRight_2 24 rfl rfl
theorem dksX8_findRight_4 : cX8_findRight.data.toList.drop 95 = dktX8_findRight_4 := dk_seg dksX8_findRight_3 24 rfl rfl
theorem dksX8_findRight_5 : cX8_findRight.data.toList.drop 117 = dktX8_findRight_5 := dk_seg dksX8_findRight_4 22 rfl rfl
theorem dksX8_findRight_6 : cX8_findRight.data.toList.drop 140 = dktX8_findRight_6 := dk_seg dksX8_findRight_5 23 rfl rfl
theorem dksX8_findRight_7 : cX8_findRight.data.toList.drop 164 = dktX8_findRight_7 := dk_seg dksX8_findRight_6 24 rfl rfl
theorem dX8_findRight_0 : decode cX8_findRight 0 = .ok (.iload_n 1, 1) := dk_27 (dk_at dksX8_findRight_0 0 rfl rfl)
theorem dX8_findRight_1 : decode cX8_findRight 1 = .ok (.ifCond .ne 7, 3) := dk_154 0 7 (dk_at dksX8_findRight_0 1 rfl rfl)
theorem dX8_findRight_4 : decode cX8_findRight 4 = .ok (.iconst 1, 1) := dk_4 (dk_at dksX8_findRight_0 4 rfl rfl)
theorem dX8_findRight_5 : decode cX8_findRight 5 = .ok (.goto 26, 3) := dk_167 0 26 (dk_at dksX8_findRight_0 5 rfl rfl)
theorem dX8_findRight_8 : decode cX8_findRight 8 = .ok (.iload_n 1, 1) := dk_27 (dk_at dksX8_findRight_0 8 rfl rfl)
theorem dX8_findRight_9 : decode cX8_findRight 9 = .ok (.iconst 1, 1) := dk_4 (dk_at dksX8_findRight_0 9 rfl rfl)
theorem dX8_findRight_10 : decode cX8_findRight 10 = .ok (.if_icmp .ne 8, 3) := dk_160 0 8 (dk_at dksX8_findRight_0 10 rfl rfl)
theorem dX8_findRight_13 : decode cX8_findRight 13 = .ok (.bipush 6, 2) := dk_16 6 (dk_at dksX8_findRight_0 13 rfl rfl)
theorem dX8_findRight_15 : decode cX8_findRight 15 = .ok (.goto 16, 3) := dk_167 0 16 (dk_at dksX8_findRight_0 15 rfl rfl)
theorem dX8_findRight_18 : decode cX8_findRight 18 = .ok (.iload_n 1, 1) := dk_27 (dk_at dksX8_findRight_0 18 rfl rfl)
theorem dX8_findRight_19 : decode cX8_findRight 19 = .ok (.iconst 2, 1) := dk_5 (dk_at dksX8_findRight_0 19 rfl rfl)
theorem dX8_findRight_20 : decode cX8_findRight 20 = .ok (.if_icmp .ne 8, 3) := dk_160 0 8 (dk_at dksX8_findRight_0 20 rfl rfl)
theorem dX8_findRight_23 : decode cX8_findRight 23 = .ok (.bipush 36, 2) := dk_16 36 (dk_at dksX8_findRight_1 0 rfl rfl)
theorem dX8_findRight_25 : decode cX8_findRight 25 = .ok (.goto 6, 3) := dk_167 0 6 (dk_at dksX8_findRight_1 2 rfl rfl)
theorem dX8_findRight_28 : decode cX8_findRight 28 = .ok (.sipush 216, 3) := dk_17 0 216 (dk_at dksX8_findRight_1 5 rfl rfl)
theorem dX8_findRight_31 : decode cX8_findRight 31 = .ok (.istore_n 2, 1) := dk_61 (dk_at dksX8_findRight_1 8 rfl rfl)
theorem dX8_findRight_32 : decode cX8_findRight 32 = .ok (.iconst 0, 1) := dk_3 (dk_at dksX8_findRight_1 9 rfl rfl)
theorem dX8_findRight_33 : decode cX8_findRight 33 = .ok (.istore_n 3, 1) := dk_62 (dk_at dksX8_findRight_1 10 rfl rfl)
theorem dX8_findRight_34 : decode cX8_findRight 34 = .ok (.iload_n 3, 1) := dk_29 (dk_at dksX8_findRight_1 11 rfl rfl)
theorem dX8_findRight_35 : decode cX8_findRight 35 = .ok (.iload_n 2, 1) := dk_28 (dk_at dksX8_findRight_1 12 rfl rfl)
theorem dX8_findRight_36 : decode cX8_findRight 36 = .ok (.if_icmp .ge 134, 3) := dk_162 0 134 (dk_at dksX8_findRight_1 13 rfl rfl)
theorem dX8_findRight_39 : decode cX8_findRight 39 = .ok (.iload_n 3, 1) := dk_29 (dk_at dksX8_findRight_1 16 rfl rfl)
theorem dX8_findRight_40 : decode cX8_findRight 40 = .ok (.istore 4, 2) := dk_54 4 (dk_at dksX8_findRight_1 17 rfl rfl)
theorem dX8_findRight_42 : decode cX8_findRight 42 = .ok (.iload_n 1, 1) := dk_27 (dk_at dksX8_findRight_1 19 rfl rfl)
theorem dX8_findRight_43 : decode cX8_findRight 43 = .ok (.iconst 1, 1) := dk_4 (dk_at dksX8_findRight_1 20 rfl rfl)
theorem dX8_findRight_44 : decode cX8_findRight 44 = .ok (.isub, 1) := dk_100 (dk_at dksX8_findRight_1 21 rfl rfl)
theorem dX8_findRight_45 : decode cX8_findRight 45 = .ok (.istore 5, 2) := dk_54 5 (dk_at dksX8_findRight_1 22 rfl rfl)
theorem dX8_findRight_47 : decode cX8_findRight 47 = .ok (.iload 5, 2) := dk_21 5 (dk_at dksX8_findRight_2 0 rfl rfl)
theorem dX8_findRight_49 : decode cX8_findRight 49 = .ok (.ifCond .lt 28, 3) := dk_155 0 28 (dk_at dksX8_findRight_2 2 rfl rfl)
theorem dX8_findRight_52 : decode cX8_findRight 52 = .ok (.aload_n 0, 1) := dk_42 (dk_at dksX8_findRight_2 5 rfl rfl)
theorem dX8_findRight_53 : decode cX8_findRight 53 = .ok (.getfield 81, 3) := dk_180 0 81 (dk_at dksX8_findRight_2 6 rfl rfl)
theorem dX8_findRight_56 : decode cX8_findRight 56 = .ok (.iload 5, 2) := dk_21 5 (dk_at dksX8_findRight_2 9 rfl rfl)
theorem dX8_findRight_58 : decode cX8_findRight 58 = .ok (.iload 4, 2) := dk_21 4 (dk_at dksX8_findRight_2 11 rfl rfl)
theorem dX8_findRight_60 : decode cX8_findRight 60 = .ok (.bipush 6, 2) := dk_16 6 (dk_at dksX8_findRight_2 13 rfl rfl)
theorem dX8_findRight_62 : decode cX8_findRight 62 = .ok (.irem, 1) := dk_112 (dk_at dksX8_findRight_2 15 rfl rfl)
theorem dX8_findRight_63 : decode cX8_findRight 63 = .ok (.iastore, 1) := dk_79 (dk_at dksX8_findRight_2 16 rfl rfl)
theorem dX8_findRight_64 : decode cX8_findRight 64 = .ok (.iload 4, 2) := dk_21 4 (dk_at dksX8_findRight_2 17 rfl rfl)
theorem dX8_findRight_66 : decode cX8_findRight 66 = .ok (.bipush 6, 2) := dk_16 6 (dk_at dksX8_findRight_2 19 rfl rfl)
theorem dX8_findRight_68 : decode cX8_findRight 68 = .ok (.idiv, 1) := dk_108 (dk_at dksX8_findRight_2 21 rfl rfl)
theorem dX8_findRight_69 : decode cX8_findRight 69 = .ok (.istore 4, 2) := dk_54 4 (dk_at dksX8_findRight_2 22 rfl rfl)
theorem dX8_findRight_71 : decode cX8_findRight 71 = .ok (.iinc 5 (-1), 3) := dk_132 5 255 (dk_at dksX8_findRight_3 0 rfl rfl)
theorem dX8_findRight_74 : decode cX8_findRight 74 = .ok (.goto (-27), 3) := dk_167 255 229 (dk_at dksX8_findRight_3 3 rfl rfl)
theorem dX8_findRight_77 : decode cX8_findRight 77 = .ok (.iconst 0, 1) := dk_3 (dk_at dksX8_findRight_3 6 rfl rfl)
theorem dX8_findRight_78 : decode cX8_findRight 78 = .ok (.istore 5, 2) := dk_54 5 (dk_at dksX8_findRight_3 7 rfl rfl)
theorem dX8_findRight_80 : decode cX8_findRight 80 = .ok (.iload 5, 2) := dk_21 5 (dk_at dksX8_findRight_3 9 rfl rfl)
theorem dX8_findRight_82 : decode cX8_findRight 82 = .ok (.iload_n 1, 1) := dk_27 (dk_at dksX8_findRight_3 11 rfl rfl)
theorem dX8_findRight_83 : decode cX8_findRight 83 = .ok (.if_icmp .ge 24, 3) := dk_162 0 24 (dk_at dksX8_findRight_3 12 rfl rfl)
theorem dX8_findRight_86 : decode cX8_findRight 86 = .ok (.aload_n 0, 1) := dk_42 (dk_at dksX8_findRight_3 15 rfl rfl)
theorem dX8_findRight_87 : decode cX8_findRight 87 = .ok (.aload_n 0, 1) := dk_42 (dk_at dksX8_findRight_3 16 rfl rfl)
theorem dX8_findRight_88 : decode cX8_findRight 88 = .ok (.getfield 81, 3) := dk_180 0 81 (dk_at dksX8_findRight_3 17 rfl rfl)
theorem dX8_findRight_91 : decode cX8_findRight 91 = .ok (.iload 5, 2) := dk_21 5 (dk_at dksX8_findRight_3 20 rfl rfl)
theorem dX8_findRight_93 : decode cX8_findRight 93 = .ok (.iaload, 1) := dk_46 (dk_at dksX8_findRight_3 22 rfl rfl)
theorem dX8_findRight_94 : decode cX8_findRight 94 = .ok (.iconst 1, 1) := dk_4 (dk_at dksX8_findRight_3 23 rfl rfl)
theorem dX8_findRight_95 : decode cX8_findRight 95 = .ok (.invokevirtual 292, 3) := dk_182 1 36 (dk_at dksX8_findRight_4 0 rfl rfl)
theorem dX8_findRight_98 : decode cX8_findRight 98 = .ok (.ifCond .eq 9, 3) := dk_153 0 9 (dk_at dksX8_findRight_4 3 rfl rfl)
theorem dX8_findRight_101 : decode cX8_findRight 101 = .ok (.iinc 5 1, 3) := dk_132 5 1 (dk_at dksX8_findRight_4 6 rfl rfl)
theorem dX8_findRight_104 : decode cX8_findRight 104 = .ok (.goto (-24), 3) := dk_167 255 232 (dk_at dksX8_findRight_4 9 rfl rfl)
theorem dX8_findRight_107 : decode cX8_findRight 107 = .ok (.iload 5, 2) := dk_21 5 (dk_at dksX8_findRight_4 12 rfl rfl)
theorem dX8_findRight_109 : decode cX8_findRight 109 = .ok (.iload_n 1, 1) := dk_27 (dk_at dksX8_findRight_4 14 rfl rfl)
theorem dX8_findRight_110 : decode cX8_findRight 110 = .ok (.if_icmp .ne 14, 3) := dk_160 0 14 (dk_at dksX8_findRight_4 15 rfl rfl)
theorem dX8_findRight_113 : decode cX8_findRight 113 = .ok (.aload_n 0, 1) := dk_42 (dk_at dksX8_findRight_4 18 rfl rfl)
theorem dX8_findRight_114 : decode cX8_findRight 114 = .ok (.invokevirtual 289, 3) := dk_182 1 33 (dk_at dksX8_findRight_4 19 rfl rfl)
theorem dX8_findRight_117 : decode cX8_findRight 117 = .ok (.ifCond .ne 7, 3) := dk_154 0 7 (dk_at dksX8_findRight_5 0 rfl rfl)
theorem dX8_findRight_120 : decode cX8_findRight 120 = .ok (.iconst 1, 1) := dk_4 (dk_at dksX8_findRight_5 3 rfl rfl)
theorem dX8_findRight_121 : decode cX8_findRight 121 = .ok (.goto 4, 3) := dk_167 0 4 (dk_at dksX8_findRight_5 4 rfl rfl)
theorem dX8_findRight_124 : decode cX8_findRight 124 = .ok (.iconst 0, 1) := dk_3 (dk_at dksX8_findRight_5 7 rfl rfl)
theorem dX8_findRight_125 : decode cX8_findRight 125 = .ok (.istore 6, 2) := dk_54 6 (dk_at dksX8_findRight_5 8 rfl rfl)
theorem dX8_findRight_127 : decode cX8_findRight 127 = .ok (.iload 5, 2) := dk_21 5 (dk_at dksX8_findRight_5 10 rfl rfl)
theorem dX8_findRight_129 : decode cX8_findRight 129 = .ok (.iconst 1, 1) := dk_4 (dk_at dksX8_findRight_5 12 rfl rfl)
theorem dX8_findRight_130 : decode cX8_findRight 130 = .ok (.isub, 1) := dk_100 (dk_at dksX8_findRight_5 13 rfl rfl)
theorem dX8_findRight_131 : decode cX8_findRight 131 = .ok (.istore 7, 2) := dk_54 7 (dk_at dksX8_findRight_5 14 rfl rfl)
theorem dX8_findRight_133 : decode cX8_findRight 133 = .ok (.iload 7, 2) := dk_21 7 (dk_at dksX8_findRight_5 16 rfl rfl)
theorem dX8_findRight_135 : decode cX8_findRight 135 = .ok (.ifCond .lt 22, 3) := dk_155 0 22 (dk_at dksX8_findRight_5 18 rfl rfl)
theorem dX8_findRight_138 : decode cX8_findRight 138 = .ok (.aload_n 0, 1) := dk_42 (dk_at dksX8_findRight_5 21 rfl rfl)
theorem dX8_findRight_139 : decode cX8_findRight 139 = .ok (.aload_n 0, 1) := dk_42 (dk_at dksX8_findRight_5 22 rfl rfl)
theorem dX8_findRight_140 : decode cX8_findRight 140 = .ok (.getfield 81, 3) := dk_180 0 81 (dk_at dksX8_findRight_6 0 rfl rfl)
theorem dX8_findRight_143 : decode cX8_findRight 143 = .ok (.iload 7, 2) := dk_21 7 (dk_at dksX8_findRight_6 3 rfl rfl)
theorem dX8_findRight_145 : decode cX8_findRight 145 = .ok (.iaload, 1) := dk_46 (dk_at dksX8_findRight_6 5 rfl rfl)
theorem dX8_findRight_146 : decode cX8_findRight 146 = .ok (.iconst (-1), 1) := dk_2 (dk_at dksX8_findRight_6 6 rfl rfl)
theorem dX8_findRight_147 : decode cX8_findRight 147 = .ok (.invokevirtual 292, 3) := dk_182 1 36 (dk_at dksX8_findRight_6 7 rfl rfl)
theorem dX8_findRight_150 : decode cX8_findRight 150 = .ok (.pop, 1) := dk_87 (dk_at dksX8_findRight_6 10 rfl rfl)
theorem dX8_findRight_151 : decode cX8_findRight 151 = .ok (.iinc 7 (-1), 3) := dk_132 7 255 (dk_at dksX8_findRight_6 11 rfl rfl)
theorem dX8_findRight_154 : decode cX8_findRight 154 = .ok (.goto (-21), 3) := dk_167 255 235 (dk_at dksX8_findRight_6 14 rfl rfl)
theorem dX8_findRight_157 : decode cX8_findRight 157 = .ok (.iload 6, 2) := dk_21 6 (dk_at dksX8_findRight_6 17 rfl rfl)
theorem dX8_findRight_159 : decode cX8_findRight 159 = .ok (.ifCond .eq 5, 3) := dk_153 0 5 (dk_at dksX8_findRight_6 19 rfl rfl)
theorem dX8_findRight_162 : decode cX8_findRight 162 = .ok (.iconst 1, 1) := dk_4 (dk_at dksX8_findRight_6 22 rfl rfl)
theorem dX8_findRight_163 : decode cX8_findRight 163 = .ok (.ireturn, 1) := dk_172 (dk_at dksX8_findRight_6 23 rfl rfl)
theorem dX8_findRight_164 : decode cX8_findRight 164 = .ok (.iinc 3 1, 3) := dk_132 3 1 (dk_at dksX8_findRight_7 0 rfl rfl)
theorem dX8_findRight_167 : decode cX8_findRight 167 = .ok (.goto (-133), 3) := dk_167 255 123 (dk_at dksX8_findRight_7 3 rfl rfl)
theorem dX8_findRight_170 : decode cX8_findRight 170 = .ok (.iconst 0, 1) := dk_3 (dk_at dksX8_findRight_7 6 rfl rfl)
theorem dX8_findRight_171 : decode cX8_findRight 171 = .ok (.ireturn, 1) := dk_172 (dk_at dksX8_findRight_7 7 rfl rfl)
abbrev cX8_broad : ByteArray := prog_17_method_51_code
def yX8_broad : MethodName := ⟨RX8, "broad", "(I)I"⟩
def dkwX8_broad_7 : List UInt8 := [28, 16, 11, 108, 167, 0, 10, 16, 10, 28, 16, 11, 112, 104, 172]
abbrev dktX8_broad_7 : List UInt8 := dkwX8_broad_7 ++ []
def dkwX8_broad_6 : List UInt8 := [167, 0, 4, 29, 62, 132, 4, 1, 167, 255, 129, 27, 154, 0, 7, 29, 167, 0, 22, 27, 4, 160, 0, 10]
abbrev dktX8_broad_6 : List UInt8 := dkwX8_broad_6 ++ dktX8_broad_7
def dkwX8_broad_5 : List UInt8 := [167, 255, 174, 21, 5, 29, 164, 0, 8, 21, 4, 167, 0, 4, 28, 61, 21, 5, 29, 164, 0, 8, 21, 5]
abbrev dktX8_broad_5 : List UInt8 := dkwX8_broad_5 ++ dktX8_broad_6
def dkwX8_broad_4 : List UInt8 := [42, 180, 0, 84, 16, 11, 21, 7, 104, 21, 8, 96, 46, 167, 0, 4, 3, 96, 54, 5, 132, 6, 1]
abbrev dktX8_broad_4 : List UInt8 := dkwX8_broad_4 ++ dktX8_broad_5
def dkwX8_broad_3 : List UInt8 := [21, 5, 21, 7, 3, 16, 10, 184, 0, 90, 153, 0, 30, 21, 8, 3, 16, 10, 184, 0, 90, 153, 0, 19]
abbrev dktX8_broad_3 : List UInt8 := dkwX8_broad_3 ++ dktX8_broad_4
def dkwX8_broad_2 : List UInt8 := [108, 21, 6, 6, 108, 96, 4, 100, 54, 7, 21, 4, 16, 11, 112, 21, 6, 6, 112, 96, 4, 100, 54, 8]
abbrev dktX8_broad_2 : List UInt8 := dkwX8_broad_2 ++ dktX8_broad_3
def dkwX8_broad_1 : List UInt8 := [21, 4, 16, 121, 162, 0, 126, 3, 54, 5, 3, 54, 6, 21, 6, 16, 9, 162, 0, 81, 21, 4, 16, 11]
abbrev dktX8_broad_1 : List UInt8 := dkwX8_broad_1 ++ dktX8_broad_2
def dkwX8_broad_0 : List UInt8 := [27, 3, 5, 184, 0, 90, 154, 0, 6, 16, 253, 172, 42, 182, 1, 42, 3, 61, 2, 62, 3, 54, 4]
abbrev dktX8_broad_0 : List UInt8 := dkwX8_broad_0 ++ dktX8_broad_1
theorem dksX8_broad_0 : cX8_broad.data.toList.drop 0 = dktX8_broad_0 := by decide +kernel
theorem dksX8_broad_1 : cX8_broad.data.toList.drop 23 = dktX8_broad_1 := dk_seg dksX8_broad_0 23 rfl rfl
theorem dksX8_broad_2 : cX8_broad.data.toList.drop 47 = dktX8_broad_2 := dk_seg dksX8_broad_1 24 rfl rfl
theorem dksX8_broad_3 : cX8_broad.data.toList.drop 71 = dktX8_broad_3 := dk_seg dksX8_broad_2 24 rfl rfl
theorem dksX8_broad_4 : cX8_broad.data.toList.drop 95 = dktX8_broad_4 := dk_seg dksX8_broad_3 24 rfl rfl
theorem dksX8_broad_5 : cX8_broad.data.toList.drop 118 = dktX8_broad_5 := dk_seg dksX8_broad_4 23 rfl rfl
theorem dksX8_broad_6 : cX8_broad.data.toList.drop 142 = dktX8_broad_6 := dk_seg dksX8_broad_5 24 rfl rfl
theorem dksX8_broad_7 : cX8_broad.data.toList.drop 166 = dktX8_broad_7 := dk_seg dksX8_broad_6 24 rfl rfl
theorem dX8_broad_0 : decode cX8_broad 0 = .ok (.iload_n 1, 1) := dk_27 (dk_at dksX8_broad_0 0 rfl rfl)
theorem dX8_broad_1 : decode cX8_broad 1 = .ok (.iconst 0, 1) := dk_3 (dk_at dksX8_broad_0 1 rfl rfl)
theorem dX8_broad_2 : decode cX8_broad 2 = .ok (.iconst 2, 1) := dk_5 (dk_at dksX8_broad_0 2 rfl rfl)
theorem dX8_broad_3 : decode cX8_broad 3 = .ok (.invokestatic 90, 3) := dk_184 0 90 (dk_at dksX8_broad_0 3 rfl rfl)
theorem dX8_broad_6 : decode cX8_broad 6 = .ok (.ifCond .ne 6, 3) := dk_154 0 6 (dk_at dksX8_broad_0 6 rfl rfl)
theorem dX8_broad_9 : decode cX8_broad 9 = .ok (.bipush (-3), 2) := dk_16 253 (dk_at dksX8_broad_0 9 rfl rfl)
theorem dX8_broad_11 : decode cX8_broad 11 = .ok (.ireturn, 1) := dk_172 (dk_at dksX8_broad_0 11 rfl rfl)
theorem dX8_broad_12 : decode cX8_broad 12 = .ok (.aload_n 0, 1) := dk_42 (dk_at dksX8_broad_0 12 rfl rfl)
theorem dX8_broad_13 : decode cX8_broad 13 = .ok (.invokevirtual 298, 3) := dk_182 1 42 (dk_at dksX8_broad_0 13 rfl rfl)
theorem dX8_broad_16 : decode cX8_broad 16 = .ok (.iconst 0, 1) := dk_3 (dk_at dksX8_broad_0 16 rfl rfl)
theorem dX8_broad_17 : decode cX8_broad 17 = .ok (.istore_n 2, 1) := dk_61 (dk_at dksX8_broad_0 17 rfl rfl)
theorem dX8_broad_18 : decode cX8_broad 18 = .ok (.iconst (-1), 1) := dk_2 (dk_at dksX8_broad_0 18 rfl rfl)
theorem dX8_broad_19 : decode cX8_broad 19 = .ok (.istore_n 3, 1) := dk_62 (dk_at dksX8_broad_0 19 rfl rfl)
theorem dX8_broad_20 : decode cX8_broad 20 = .ok (.iconst 0, 1) := dk_3 (dk_at dksX8_broad_0 20 rfl rfl)
theorem dX8_broad_21 : decode cX8_broad 21 = .ok (.istore 4, 2) := dk_54 4 (dk_at dksX8_broad_0 21 rfl rfl)
theorem dX8_broad_23 : decode cX8_broad 23 = .ok (.iload 4, 2) := dk_21 4 (dk_at dksX8_broad_1 0 rfl rfl)
theorem dX8_broad_25 : decode cX8_broad 25 = .ok (.bipush 121, 2) := dk_16 121 (dk_at dksX8_broad_1 2 rfl rfl)
theorem dX8_broad_27 : decode cX8_broad 27 = .ok (.if_icmp .ge 126, 3) := dk_162 0 126 (dk_at dksX8_broad_1 4 rfl rfl)
theorem dX8_broad_30 : decode cX8_broad 30 = .ok (.iconst 0, 1) := dk_3 (dk_at dksX8_broad_1 7 rfl rfl)
theorem dX8_broad_31 : decode cX8_broad 31 = .ok (.istore 5, 2) := dk_54 5 (dk_at dksX8_broad_1 8 rfl rfl)
theorem dX8_broad_33 : decode cX8_broad 33 = .ok (.iconst 0, 1) := dk_3 (dk_at dksX8_broad_1 10 rfl rfl)
theorem dX8_broad_34 : decode cX8_broad 34 = .ok (.istore 6, 2) := dk_54 6 (dk_at dksX8_broad_1 11 rfl rfl)
theorem dX8_broad_36 : decode cX8_broad 36 = .ok (.iload 6, 2) := dk_21 6 (dk_at dksX8_broad_1 13 rfl rfl)
theorem dX8_broad_38 : decode cX8_broad 38 = .ok (.bipush 9, 2) := dk_16 9 (dk_at dksX8_broad_1 15 rfl rfl)
theorem dX8_broad_40 : decode cX8_broad 40 = .ok (.if_icmp .ge 81, 3) := dk_162 0 81 (dk_at dksX8_broad_1 17 rfl rfl)
theorem dX8_broad_43 : decode cX8_broad 43 = .ok (.iload 4, 2) := dk_21 4 (dk_at dksX8_broad_1 20 rfl rfl)
theorem dX8_broad_45 : decode cX8_broad 45 = .ok (.bipush 11, 2) := dk_16 11 (dk_at dksX8_broad_1 22 rfl rfl)
theorem dX8_broad_47 : decode cX8_broad 47 = .ok (.idiv, 1) := dk_108 (dk_at dksX8_broad_2 0 rfl rfl)
theorem dX8_broad_48 : decode cX8_broad 48 = .ok (.iload 6, 2) := dk_21 6 (dk_at dksX8_broad_2 1 rfl rfl)
theorem dX8_broad_50 : decode cX8_broad 50 = .ok (.iconst 3, 1) := dk_6 (dk_at dksX8_broad_2 3 rfl rfl)
theorem dX8_broad_51 : decode cX8_broad 51 = .ok (.idiv, 1) := dk_108 (dk_at dksX8_broad_2 4 rfl rfl)
theorem dX8_broad_52 : decode cX8_broad 52 = .ok (.iadd, 1) := dk_96 (dk_at dksX8_broad_2 5 rfl rfl)
theorem dX8_broad_53 : decode cX8_broad 53 = .ok (.iconst 1, 1) := dk_4 (dk_at dksX8_broad_2 6 rfl rfl)
theorem dX8_broad_54 : decode cX8_broad 54 = .ok (.isub, 1) := dk_100 (dk_at dksX8_broad_2 7 rfl rfl)
theorem dX8_broad_55 : decode cX8_broad 55 = .ok (.istore 7, 2) := dk_54 7 (dk_at dksX8_broad_2 8 rfl rfl)
theorem dX8_broad_57 : decode cX8_broad 57 = .ok (.iload 4, 2) := dk_21 4 (dk_at dksX8_broad_2 10 rfl rfl)
theorem dX8_broad_59 : decode cX8_broad 59 = .ok (.bipush 11, 2) := dk_16 11 (dk_at dksX8_broad_2 12 rfl rfl)
theorem dX8_broad_61 : decode cX8_broad 61 = .ok (.irem, 1) := dk_112 (dk_at dksX8_broad_2 14 rfl rfl)
theorem dX8_broad_62 : decode cX8_broad 62 = .ok (.iload 6, 2) := dk_21 6 (dk_at dksX8_broad_2 15 rfl rfl)
theorem dX8_broad_64 : decode cX8_broad 64 = .ok (.iconst 3, 1) := dk_6 (dk_at dksX8_broad_2 17 rfl rfl)
theorem dX8_broad_65 : decode cX8_broad 65 = .ok (.irem, 1) := dk_112 (dk_at dksX8_broad_2 18 rfl rfl)
theorem dX8_broad_66 : decode cX8_broad 66 = .ok (.iadd, 1) := dk_96 (dk_at dksX8_broad_2 19 rfl rfl)
theorem dX8_broad_67 : decode cX8_broad 67 = .ok (.iconst 1, 1) := dk_4 (dk_at dksX8_broad_2 20 rfl rfl)
theorem dX8_broad_68 : decode cX8_broad 68 = .ok (.isub, 1) := dk_100 (dk_at dksX8_broad_2 21 rfl rfl)
theorem dX8_broad_69 : decode cX8_broad 69 = .ok (.istore 8, 2) := dk_54 8 (dk_at dksX8_broad_2 22 rfl rfl)
theorem dX8_broad_71 : decode cX8_broad 71 = .ok (.iload 5, 2) := dk_21 5 (dk_at dksX8_broad_3 0 rfl rfl)
theorem dX8_broad_73 : decode cX8_broad 73 = .ok (.iload 7, 2) := dk_21 7 (dk_at dksX8_broad_3 2 rfl rfl)
theorem dX8_broad_75 : decode cX8_broad 75 = .ok (.iconst 0, 1) := dk_3 (dk_at dksX8_broad_3 4 rfl rfl)
theorem dX8_broad_76 : decode cX8_broad 76 = .ok (.bipush 10, 2) := dk_16 10 (dk_at dksX8_broad_3 5 rfl rfl)
theorem dX8_broad_78 : decode cX8_broad 78 = .ok (.invokestatic 90, 3) := dk_184 0 90 (dk_at dksX8_broad_3 7 rfl rfl)
theorem dX8_broad_81 : decode cX8_broad 81 = .ok (.ifCond .eq 30, 3) := dk_153 0 30 (dk_at dksX8_broad_3 10 rfl rfl)
theorem dX8_broad_84 : decode cX8_broad 84 = .ok (.iload 8, 2) := dk_21 8 (dk_at dksX8_broad_3 13 rfl rfl)
theorem dX8_broad_86 : decode cX8_broad 86 = .ok (.iconst 0, 1) := dk_3 (dk_at dksX8_broad_3 15 rfl rfl)
theorem dX8_broad_87 : decode cX8_broad 87 = .ok (.bipush 10, 2) := dk_16 10 (dk_at dksX8_broad_3 16 rfl rfl)
theorem dX8_broad_89 : decode cX8_broad 89 = .ok (.invokestatic 90, 3) := dk_184 0 90 (dk_at dksX8_broad_3 18 rfl rfl)
theorem dX8_broad_92 : decode cX8_broad 92 = .ok (.ifCond .eq 19, 3) := dk_153 0 19 (dk_at dksX8_broad_3 21 rfl rfl)
theorem dX8_broad_95 : decode cX8_broad 95 = .ok (.aload_n 0, 1) := dk_42 (dk_at dksX8_broad_4 0 rfl rfl)
theorem dX8_broad_96 : decode cX8_broad 96 = .ok (.getfield 84, 3) := dk_180 0 84 (dk_at dksX8_broad_4 1 rfl rfl)
theorem dX8_broad_99 : decode cX8_broad 99 = .ok (.bipush 11, 2) := dk_16 11 (dk_at dksX8_broad_4 4 rfl rfl)
theorem dX8_broad_101 : decode cX8_broad 101 = .ok (.iload 7, 2) := dk_21 7 (dk_at dksX8_broad_4 6 rfl rfl)
theorem dX8_broad_103 : decode cX8_broad 103 = .ok (.imul, 1) := dk_104 (dk_at dksX8_broad_4 8 rfl rfl)
theorem dX8_broad_104 : decode cX8_broad 104 = .ok (.iload 8, 2) := dk_21 8 (dk_at dksX8_broad_4 9 rfl rfl)
theorem dX8_broad_106 : decode cX8_broad 106 = .ok (.iadd, 1) := dk_96 (dk_at dksX8_broad_4 11 rfl rfl)
theorem dX8_broad_107 : decode cX8_broad 107 = .ok (.iaload, 1) := dk_46 (dk_at dksX8_broad_4 12 rfl rfl)
theorem dX8_broad_108 : decode cX8_broad 108 = .ok (.goto 4, 3) := dk_167 0 4 (dk_at dksX8_broad_4 13 rfl rfl)
theorem dX8_broad_111 : decode cX8_broad 111 = .ok (.iconst 0, 1) := dk_3 (dk_at dksX8_broad_4 16 rfl rfl)
theorem dX8_broad_112 : decode cX8_broad 112 = .ok (.iadd, 1) := dk_96 (dk_at dksX8_broad_4 17 rfl rfl)
theorem dX8_broad_113 : decode cX8_broad 113 = .ok (.istore 5, 2) := dk_54 5 (dk_at dksX8_broad_4 18 rfl rfl)
theorem dX8_broad_115 : decode cX8_broad 115 = .ok (.iinc 6 1, 3) := dk_132 6 1 (dk_at dksX8_broad_4 20 rfl rfl)
theorem dX8_broad_118 : decode cX8_broad 118 = .ok (.goto (-82), 3) := dk_167 255 174 (dk_at dksX8_broad_5 0 rfl rfl)
theorem dX8_broad_121 : decode cX8_broad 121 = .ok (.iload 5, 2) := dk_21 5 (dk_at dksX8_broad_5 3 rfl rfl)
theorem dX8_broad_123 : decode cX8_broad 123 = .ok (.iload_n 3, 1) := dk_29 (dk_at dksX8_broad_5 5 rfl rfl)
theorem dX8_broad_124 : decode cX8_broad 124 = .ok (.if_icmp .le 8, 3) := dk_164 0 8 (dk_at dksX8_broad_5 6 rfl rfl)
theorem dX8_broad_127 : decode cX8_broad 127 = .ok (.iload 4, 2) := dk_21 4 (dk_at dksX8_broad_5 9 rfl rfl)
theorem dX8_broad_129 : decode cX8_broad 129 = .ok (.goto 4, 3) := dk_167 0 4 (dk_at dksX8_broad_5 11 rfl rfl)
theorem dX8_broad_132 : decode cX8_broad 132 = .ok (.iload_n 2, 1) := dk_28 (dk_at dksX8_broad_5 14 rfl rfl)
theorem dX8_broad_133 : decode cX8_broad 133 = .ok (.istore_n 2, 1) := dk_61 (dk_at dksX8_broad_5 15 rfl rfl)
theorem dX8_broad_134 : decode cX8_broad 134 = .ok (.iload 5, 2) := dk_21 5 (dk_at dksX8_broad_5 16 rfl rfl)
theorem dX8_broad_136 : decode cX8_broad 136 = .ok (.iload_n 3, 1) := dk_29 (dk_at dksX8_broad_5 18 rfl rfl)
theorem dX8_broad_137 : decode cX8_broad 137 = .ok (.if_icmp .le 8, 3) := dk_164 0 8 (dk_at dksX8_broad_5 19 rfl rfl)
theorem dX8_broad_140 : decode cX8_broad 140 = .ok (.iload 5, 2) := dk_21 5 (dk_at dksX8_broad_5 22 rfl rfl)
theorem dX8_broad_142 : decode cX8_broad 142 = .ok (.goto 4, 3) := dk_167 0 4 (dk_at dksX8_broad_6 0 rfl rfl)
theorem dX8_broad_145 : decode cX8_broad 145 = .ok (.iload_n 3, 1) := dk_29 (dk_at dksX8_broad_6 3 rfl rfl)
theorem dX8_broad_146 : decode cX8_broad 146 = .ok (.istore_n 3, 1) := dk_62 (dk_at dksX8_broad_6 4 rfl rfl)
theorem dX8_broad_147 : decode cX8_broad 147 = .ok (.iinc 4 1, 3) := dk_132 4 1 (dk_at dksX8_broad_6 5 rfl rfl)
theorem dX8_broad_150 : decode cX8_broad 150 = .ok (.goto (-127), 3) := dk_167 255 129 (dk_at dksX8_broad_6 8 rfl rfl)
theorem dX8_broad_153 : decode cX8_broad 153 = .ok (.iload_n 1, 1) := dk_27 (dk_at dksX8_broad_6 11 rfl rfl)
theorem dX8_broad_154 : decode cX8_broad 154 = .ok (.ifCond .ne 7, 3) := dk_154 0 7 (dk_at dksX8_broad_6 12 rfl rfl)
theorem dX8_broad_157 : decode cX8_broad 157 = .ok (.iload_n 3, 1) := dk_29 (dk_at dksX8_broad_6 15 rfl rfl)
theorem dX8_broad_158 : decode cX8_broad 158 = .ok (.goto 22, 3) := dk_167 0 22 (dk_at dksX8_broad_6 16 rfl rfl)
theorem dX8_broad_161 : decode cX8_broad 161 = .ok (.iload_n 1, 1) := dk_27 (dk_at dksX8_broad_6 19 rfl rfl)
theorem dX8_broad_162 : decode cX8_broad 162 = .ok (.iconst 1, 1) := dk_4 (dk_at dksX8_broad_6 20 rfl rfl)
theorem dX8_broad_163 : decode cX8_broad 163 = .ok (.if_icmp .ne 10, 3) := dk_160 0 10 (dk_at dksX8_broad_6 21 rfl rfl)
theorem dX8_broad_166 : decode cX8_broad 166 = .ok (.iload_n 2, 1) := dk_28 (dk_at dksX8_broad_7 0 rfl rfl)
theorem dX8_broad_167 : decode cX8_broad 167 = .ok (.bipush 11, 2) := dk_16 11 (dk_at dksX8_broad_7 1 rfl rfl)
theorem dX8_broad_169 : decode cX8_broad 169 = .ok (.idiv, 1) := dk_108 (dk_at dksX8_broad_7 3 rfl rfl)
theorem dX8_broad_170 : decode cX8_broad 170 = .ok (.goto 10, 3) := dk_167 0 10 (dk_at dksX8_broad_7 4 rfl rfl)
theorem dX8_broad_173 : decode cX8_broad 173 = .ok (.bipush 10, 2) := dk_16 10 (dk_at dksX8_broad_7 7 rfl rfl)
theorem dX8_broad_175 : decode cX8_broad 175 = .ok (.iload_n 2, 1) := dk_28 (dk_at dksX8_broad_7 9 rfl rfl)
theorem dX8_broad_176 : decode cX8_broad 176 = .ok (.bipush 11, 2) := dk_16 11 (dk_at dksX8_broad_7 10 rfl rfl)
theorem dX8_broad_178 : decode cX8_broad 178 = .ok (.irem, 1) := dk_112 (dk_at dksX8_broad_7 12 rfl rfl)
theorem dX8_broad_179 : decode cX8_broad 179 = .ok (.imul, 1) := dk_104 (dk_at dksX8_broad_7 13 rfl rfl)
theorem dX8_broad_180 : decode cX8_broad 180 = .ok (.ireturn, 1) := dk_172 (dk_at dksX8_broad_7 14 rfl rfl)
abbrev cX8_layRights : ByteArray := prog_17_method_50_code
def yX8_layRights : MethodName := ⟨RX8, "layRights", "()V"⟩
def dkwX8_layRights_3 : List UInt8 := [181, 0, 38, 177]
abbrev dktX8_layRights_3 : List UInt8 := dkwX8_layRights_3 ++ []
def dkwX8_layRights_2 : List UInt8 := [154, 0, 7, 4, 167, 0, 4, 3, 79, 132, 3, 1, 167, 255, 210, 42, 27, 181, 0, 23, 42, 28]
abbrev dktX8_layRights_2 : List UInt8 := dkwX8_layRights_2 ++ dktX8_layRights_3
def dkwX8_layRights_1 : List UInt8 := [181, 0, 23, 42, 16, 10, 29, 16, 11, 112, 104, 181, 0, 38, 42, 180, 0, 84, 29, 42, 182, 1, 33]
abbrev dktX8_layRights_1 : List UInt8 := dkwX8_layRights_1 ++ dktX8_layRights_2
def dkwX8_layRights_0 : List UInt8 := [42, 180, 0, 23, 60, 42, 180, 0, 38, 61, 3, 62, 29, 16, 121, 162, 0, 46, 42, 29, 16, 11, 108]
abbrev dktX8_layRights_0 : List UInt8 := dkwX8_layRights_0 ++ dktX8_layRights_1
theorem dksX8_layRights_0 : cX8_layRights.data.toList.drop 0 = dktX8_layRights_0 := by decide +kernel
theorem dksX8_layRights_1 : cX8_layRights.data.toList.drop 23 = dktX8_layRights_1 := dk_seg dksX8_layRights_0 23 rfl rfl
theorem dksX8_layRights_2 : cX8_layRights.data.toList.drop 46 = dktX8_layRights_2 := dk_seg dksX8_layRights_1 23 rfl rfl
theorem dksX8_layRights_3 : cX8_layRights.data.toList.drop 68 = dktX8_layRights_3 := dk_seg dksX8_layRights_2 22 rfl rfl
theorem dX8_layRights_0 : decode cX8_layRights 0 = .ok (.aload_n 0, 1) := dk_42 (dk_at dksX8_layRights_0 0 rfl rfl)
theorem dX8_layRights_1 : decode cX8_layRights 1 = .ok (.getfield 23, 3) := dk_180 0 23 (dk_at dksX8_layRights_0 1 rfl rfl)
theorem dX8_layRights_4 : decode cX8_layRights 4 = .ok (.istore_n 1, 1) := dk_60 (dk_at dksX8_layRights_0 4 rfl rfl)
theorem dX8_layRights_5 : decode cX8_layRights 5 = .ok (.aload_n 0, 1) := dk_42 (dk_at dksX8_layRights_0 5 rfl rfl)
theorem dX8_layRights_6 : decode cX8_layRights 6 = .ok (.getfield 38, 3) := dk_180 0 38 (dk_at dksX8_layRights_0 6 rfl rfl)
theorem dX8_layRights_9 : decode cX8_layRights 9 = .ok (.istore_n 2, 1) := dk_61 (dk_at dksX8_layRights_0 9 rfl rfl)
theorem dX8_layRights_10 : decode cX8_layRights 10 = .ok (.iconst 0, 1) := dk_3 (dk_at dksX8_layRights_0 10 rfl rfl)
theorem dX8_layRights_11 : decode cX8_layRights 11 = .ok (.istore_n 3, 1) := dk_62 (dk_at dksX8_layRights_0 11 rfl rfl)
theorem dX8_layRights_12 : decode cX8_layRights 12 = .ok (.iload_n 3, 1) := dk_29 (dk_at dksX8_layRights_0 12 rfl rfl)
theorem dX8_layRights_13 : decode cX8_layRights 13 = .ok (.bipush 121, 2) := dk_16 121 (dk_at dksX8_layRights_0 13 rfl rfl)
theorem dX8_layRights_15 : decode cX8_layRights 15 = .ok (.if_icmp .ge 46, 3) := dk_162 0 46 (dk_at dksX8_layRights_0 15 rfl rfl)
theorem dX8_layRights_18 : decode cX8_layRights 18 = .ok (.aload_n 0, 1) := dk_42 (dk_at dksX8_layRights_0 18 rfl rfl)
theorem dX8_layRights_19 : decode cX8_layRights 19 = .ok (.iload_n 3, 1) := dk_29 (dk_at dksX8_layRights_0 19 rfl rfl)
theorem dX8_layRights_20 : decode cX8_layRights 20 = .ok (.bipush 11, 2) := dk_16 11 (dk_at dksX8_layRights_0 20 rfl rfl)
theorem dX8_layRights_22 : decode cX8_layRights 22 = .ok (.idiv, 1) := dk_108 (dk_at dksX8_layRights_0 22 rfl rfl)
theorem dX8_layRights_23 : decode cX8_layRights 23 = .ok (.putfield 23, 3) := dk_181 0 23 (dk_at dksX8_layRights_1 0 rfl rfl)
theorem dX8_layRights_26 : decode cX8_layRights 26 = .ok (.aload_n 0, 1) := dk_42 (dk_at dksX8_layRights_1 3 rfl rfl)
theorem dX8_layRights_27 : decode cX8_layRights 27 = .ok (.bipush 10, 2) := dk_16 10 (dk_at dksX8_layRights_1 4 rfl rfl)
theorem dX8_layRights_29 : decode cX8_layRights 29 = .ok (.iload_n 3, 1) := dk_29 (dk_at dksX8_layRights_1 6 rfl rfl)
theorem dX8_layRights_30 : decode cX8_layRights 30 = .ok (.bipush 11, 2) := dk_16 11 (dk_at dksX8_layRights_1 7 rfl rfl)
theorem dX8_layRights_32 : decode cX8_layRights 32 = .ok (.irem, 1) := dk_112 (dk_at dksX8_layRights_1 9 rfl rfl)
theorem dX8_layRights_33 : decode cX8_layRights 33 = .ok (.imul, 1) := dk_104 (dk_at dksX8_layRights_1 10 rfl rfl)
theorem dX8_layRights_34 : decode cX8_layRights 34 = .ok (.putfield 38, 3) := dk_181 0 38 (dk_at dksX8_layRights_1 11 rfl rfl)
theorem dX8_layRights_37 : decode cX8_layRights 37 = .ok (.aload_n 0, 1) := dk_42 (dk_at dksX8_layRights_1 14 rfl rfl)
theorem dX8_layRights_38 : decode cX8_layRights 38 = .ok (.getfield 84, 3) := dk_180 0 84 (dk_at dksX8_layRights_1 15 rfl rfl)
theorem dX8_layRights_41 : decode cX8_layRights 41 = .ok (.iload_n 3, 1) := dk_29 (dk_at dksX8_layRights_1 18 rfl rfl)
theorem dX8_layRights_42 : decode cX8_layRights 42 = .ok (.aload_n 0, 1) := dk_42 (dk_at dksX8_layRights_1 19 rfl rfl)
theorem dX8_layRights_43 : decode cX8_layRights 43 = .ok (.invokevirtual 289, 3) := dk_182 1 33 (dk_at dksX8_layRights_1 20 rfl rfl)
theorem dX8_layRights_46 : decode cX8_layRights 46 = .ok (.ifCond .ne 7, 3) := dk_154 0 7 (dk_at dksX8_layRights_2 0 rfl rfl)
theorem dX8_layRights_49 : decode cX8_layRights 49 = .ok (.iconst 1, 1) := dk_4 (dk_at dksX8_layRights_2 3 rfl rfl)
theorem dX8_layRights_50 : decode cX8_layRights 50 = .ok (.goto 4, 3) := dk_167 0 4 (dk_at dksX8_layRights_2 4 rfl rfl)
theorem dX8_layRights_53 : decode cX8_layRights 53 = .ok (.iconst 0, 1) := dk_3 (dk_at dksX8_layRights_2 7 rfl rfl)
theorem dX8_layRights_54 : decode cX8_layRights 54 = .ok (.iastore, 1) := dk_79 (dk_at dksX8_layRights_2 8 rfl rfl)
theorem dX8_layRights_55 : decode cX8_layRights 55 = .ok (.iinc 3 1, 3) := dk_132 3 1 (dk_at dksX8_layRights_2 9 rfl rfl)
theorem dX8_layRights_58 : decode cX8_layRights 58 = .ok (.goto (-46), 3) := dk_167 255 210 (dk_at dksX8_layRights_2 12 rfl rfl)
theorem dX8_layRights_61 : decode cX8_layRights 61 = .ok (.aload_n 0, 1) := dk_42 (dk_at dksX8_layRights_2 15 rfl rfl)
theorem dX8_layRights_62 : decode cX8_layRights 62 = .ok (.iload_n 1, 1) := dk_27 (dk_at dksX8_layRights_2 16 rfl rfl)
theorem dX8_layRights_63 : decode cX8_layRights 63 = .ok (.putfield 23, 3) := dk_181 0 23 (dk_at dksX8_layRights_2 17 rfl rfl)
theorem dX8_layRights_66 : decode cX8_layRights 66 = .ok (.aload_n 0, 1) := dk_42 (dk_at dksX8_layRights_2 20 rfl rfl)
theorem dX8_layRights_67 : decode cX8_layRights 67 = .ok (.iload_n 2, 1) := dk_28 (dk_at dksX8_layRights_2 21 rfl rfl)
theorem dX8_layRights_68 : decode cX8_layRights 68 = .ok (.putfield 38, 3) := dk_181 0 38 (dk_at dksX8_layRights_3 0 rfl rfl)
theorem dX8_layRights_71 : decode cX8_layRights 71 = .ok (.return_, 1) := dk_177 (dk_at dksX8_layRights_3 3 rfl rfl)
abbrev cX8_takes : ByteArray := prog_17_method_52_code
def yX8_takes : MethodName := ⟨RX8, "takes", "(II)I"⟩
def dkwX8_takes_5 : List UInt8 := [21, 4, 172]
abbrev dktX8_takes_5 : List UInt8 := dkwX8_takes_5 ++ []
def dkwX8_takes_4 : List UInt8 := [132, 5, 1, 167, 255, 216, 42, 180, 0, 68, 3, 42, 180, 0, 65, 3, 184, 1, 7, 42, 29, 181, 0, 23]
abbrev dktX8_takes_4 : List UInt8 := dkwX8_takes_4 ++ dktX8_takes_5
def dkwX8_takes_3 : List UInt8 := [182, 0, 238, 42, 180, 0, 65, 17, 0, 128, 46, 27, 161, 0, 8, 21, 5, 167, 0, 4, 2, 54, 4]
abbrev dktX8_takes_3 : List UInt8 := dkwX8_takes_3 ++ dktX8_takes_4
def dkwX8_takes_2 : List UInt8 := [182, 0, 87, 2, 54, 4, 4, 54, 5, 21, 5, 16, 60, 163, 0, 39, 21, 4, 2, 160, 0, 33, 42]
abbrev dktX8_takes_2 : List UInt8 := dkwX8_takes_2 ++ dktX8_takes_3
def dkwX8_takes_1 : List UInt8 := [42, 180, 0, 23, 62, 42, 28, 181, 0, 23, 42, 180, 0, 65, 3, 42, 180, 0, 68, 3, 184, 1, 7, 42]
abbrev dktX8_takes_1 : List UInt8 := dkwX8_takes_1 ++ dktX8_takes_2
def dkwX8_takes_0 : List UInt8 := [27, 4, 17, 39, 15, 184, 0, 90, 153, 0, 13, 28, 3, 16, 10, 184, 0, 90, 154, 0, 6, 16, 253, 172]
abbrev dktX8_takes_0 : List UInt8 := dkwX8_takes_0 ++ dktX8_takes_1
theorem dksX8_takes_0 : cX8_takes.data.toList.drop 0 = dktX8_takes_0 := by decide +kernel
theorem dksX8_takes_1 : cX8_takes.data.toList.drop 24 = dktX8_takes_1 := dk_seg dksX8_takes_0 24 rfl rfl
theorem dksX8_takes_2 : cX8_takes.data.toList.drop 48 = dktX8_takes_2 := dk_seg dksX8_takes_1 24 rfl rfl
theorem dksX8_takes_3 : cX8_takes.data.toList.drop 71 = dktX8_takes_3 := dk_seg dksX8_takes_2 23 rfl rfl
theorem dksX8_takes_4 : cX8_takes.data.toList.drop 94 = dktX8_takes_4 := dk_seg dksX8_takes_3 23 rfl rfl
theorem dksX8_takes_5 : cX8_takes.data.toList.drop 118 = dktX8_takes_5 := dk_seg dksX8_takes_4 24 rfl rfl
theorem dX8_takes_0 : decode cX8_takes 0 = .ok (.iload_n 1, 1) := dk_27 (dk_at dksX8_takes_0 0 rfl rfl)
theorem dX8_takes_1 : decode cX8_takes 1 = .ok (.iconst 1, 1) := dk_4 (dk_at dksX8_takes_0 1 rfl rfl)
theorem dX8_takes_2 : decode cX8_takes 2 = .ok (.sipush 9999, 3) := dk_17 39 15 (dk_at dksX8_takes_0 2 rfl rfl)
theorem dX8_takes_5 : decode cX8_takes 5 = .ok (.invokestatic 90, 3) := dk_184 0 90 (dk_at dksX8_takes_0 5 rfl rfl)
theorem dX8_takes_8 : decode cX8_takes 8 = .ok (.ifCond .eq 13, 3) := dk_153 0 13 (dk_at dksX8_takes_0 8 rfl rfl)
theorem dX8_takes_11 : decode cX8_takes 11 = .ok (.iload_n 2, 1) := dk_28 (dk_at dksX8_takes_0 11 rfl rfl)
theorem dX8_takes_12 : decode cX8_takes 12 = .ok (.iconst 0, 1) := dk_3 (dk_at dksX8_takes_0 12 rfl rfl)
theorem dX8_takes_13 : decode cX8_takes 13 = .ok (.bipush 10, 2) := dk_16 10 (dk_at dksX8_takes_0 13 rfl rfl)
theorem dX8_takes_15 : decode cX8_takes 15 = .ok (.invokestatic 90, 3) := dk_184 0 90 (dk_at dksX8_takes_0 15 rfl rfl)
theorem dX8_takes_18 : decode cX8_takes 18 = .ok (.ifCond .ne 6, 3) := dk_154 0 6 (dk_at dksX8_takes_0 18 rfl rfl)
theorem dX8_takes_21 : decode cX8_takes 21 = .ok (.bipush (-3), 2) := dk_16 253 (dk_at dksX8_takes_0 21 rfl rfl)
theorem dX8_takes_23 : decode cX8_takes 23 = .ok (.ireturn, 1) := dk_172 (dk_at dksX8_takes_0 23 rfl rfl)
theorem dX8_takes_24 : decode cX8_takes 24 = .ok (.aload_n 0, 1) := dk_42 (dk_at dksX8_takes_1 0 rfl rfl)
theorem dX8_takes_25 : decode cX8_takes 25 = .ok (.getfield 23, 3) := dk_180 0 23 (dk_at dksX8_takes_1 1 rfl rfl)
theorem dX8_takes_28 : decode cX8_takes 28 = .ok (.istore_n 3, 1) := dk_62 (dk_at dksX8_takes_1 4 rfl rfl)
theorem dX8_takes_29 : decode cX8_takes 29 = .ok (.aload_n 0, 1) := dk_42 (dk_at dksX8_takes_1 5 rfl rfl)
theorem dX8_takes_30 : decode cX8_takes 30 = .ok (.iload_n 2, 1) := dk_28 (dk_at dksX8_takes_1 6 rfl rfl)
theorem dX8_takes_31 : decode cX8_takes 31 = .ok (.putfield 23, 3) := dk_181 0 23 (dk_at dksX8_takes_1 7 rfl rfl)
theorem dX8_takes_34 : decode cX8_takes 34 = .ok (.aload_n 0, 1) := dk_42 (dk_at dksX8_takes_1 10 rfl rfl)
theorem dX8_takes_35 : decode cX8_takes 35 = .ok (.getfield 65, 3) := dk_180 0 65 (dk_at dksX8_takes_1 11 rfl rfl)
theorem dX8_takes_38 : decode cX8_takes 38 = .ok (.iconst 0, 1) := dk_3 (dk_at dksX8_takes_1 14 rfl rfl)
theorem dX8_takes_39 : decode cX8_takes 39 = .ok (.aload_n 0, 1) := dk_42 (dk_at dksX8_takes_1 15 rfl rfl)
theorem dX8_takes_40 : decode cX8_takes 40 = .ok (.getfield 68, 3) := dk_180 0 68 (dk_at dksX8_takes_1 16 rfl rfl)
theorem dX8_takes_43 : decode cX8_takes 43 = .ok (.iconst 0, 1) := dk_3 (dk_at dksX8_takes_1 19 rfl rfl)
theorem dX8_takes_44 : decode cX8_takes 44 = .ok (.invokestatic 263, 3) := dk_184 1 7 (dk_at dksX8_takes_1 20 rfl rfl)
theorem dX8_takes_47 : decode cX8_takes 47 = .ok (.aload_n 0, 1) := dk_42 (dk_at dksX8_takes_1 23 rfl rfl)
theorem dX8_takes_48 : decode cX8_takes 48 = .ok (.invokevirtual 87, 3) := dk_182 0 87 (dk_at dksX8_takes_2 0 rfl rfl)
theorem dX8_takes_51 : decode cX8_takes 51 = .ok (.iconst (-1), 1) := dk_2 (dk_at dksX8_takes_2 3 rfl rfl)
theorem dX8_takes_52 : decode cX8_takes 52 = .ok (.istore 4, 2) := dk_54 4 (dk_at dksX8_takes_2 4 rfl rfl)
theorem dX8_takes_54 : decode cX8_takes 54 = .ok (.iconst 1, 1) := dk_4 (dk_at dksX8_takes_2 6 rfl rfl)
theorem dX8_takes_55 : decode cX8_takes 55 = .ok (.istore 5, 2) := dk_54 5 (dk_at dksX8_takes_2 7 rfl rfl)
theorem dX8_takes_57 : decode cX8_takes 57 = .ok (.iload 5, 2) := dk_21 5 (dk_at dksX8_takes_2 9 rfl rfl)
theorem dX8_takes_59 : decode cX8_takes 59 = .ok (.bipush 60, 2) := dk_16 60 (dk_at dksX8_takes_2 11 rfl rfl)
theorem dX8_takes_61 : decode cX8_takes 61 = .ok (.if_icmp .gt 39, 3) := dk_163 0 39 (dk_at dksX8_takes_2 13 rfl rfl)
theorem dX8_takes_64 : decode cX8_takes 64 = .ok (.iload 4, 2) := dk_21 4 (dk_at dksX8_takes_2 16 rfl rfl)
theorem dX8_takes_66 : decode cX8_takes 66 = .ok (.iconst (-1), 1) := dk_2 (dk_at dksX8_takes_2 18 rfl rfl)
theorem dX8_takes_67 : decode cX8_takes 67 = .ok (.if_icmp .ne 33, 3) := dk_160 0 33 (dk_at dksX8_takes_2 19 rfl rfl)
theorem dX8_takes_70 : decode cX8_takes 70 = .ok (.aload_n 0, 1) := dk_42 (dk_at dksX8_takes_2 22 rfl rfl)
theorem dX8_takes_71 : decode cX8_takes 71 = .ok (.invokevirtual 238, 3) := dk_182 0 238 (dk_at dksX8_takes_3 0 rfl rfl)
theorem dX8_takes_74 : decode cX8_takes 74 = .ok (.aload_n 0, 1) := dk_42 (dk_at dksX8_takes_3 3 rfl rfl)
theorem dX8_takes_75 : decode cX8_takes 75 = .ok (.getfield 65, 3) := dk_180 0 65 (dk_at dksX8_takes_3 4 rfl rfl)
theorem dX8_takes_78 : decode cX8_takes 78 = .ok (.sipush 128, 3) := dk_17 0 128 (dk_at dksX8_takes_3 7 rfl rfl)
theorem dX8_takes_81 : decode cX8_takes 81 = .ok (.iaload, 1) := dk_46 (dk_at dksX8_takes_3 10 rfl rfl)
theorem dX8_takes_82 : decode cX8_takes 82 = .ok (.iload_n 1, 1) := dk_27 (dk_at dksX8_takes_3 11 rfl rfl)
theorem dX8_takes_83 : decode cX8_takes 83 = .ok (.if_icmp .lt 8, 3) := dk_161 0 8 (dk_at dksX8_takes_3 12 rfl rfl)
theorem dX8_takes_86 : decode cX8_takes 86 = .ok (.iload 5, 2) := dk_21 5 (dk_at dksX8_takes_3 15 rfl rfl)
theorem dX8_takes_88 : decode cX8_takes 88 = .ok (.goto 4, 3) := dk_167 0 4 (dk_at dksX8_takes_3 17 rfl rfl)
theorem dX8_takes_91 : decode cX8_takes 91 = .ok (.iconst (-1), 1) := dk_2 (dk_at dksX8_takes_3 20 rfl rfl)
theorem dX8_takes_92 : decode cX8_takes 92 = .ok (.istore 4, 2) := dk_54 4 (dk_at dksX8_takes_3 21 rfl rfl)
theorem dX8_takes_94 : decode cX8_takes 94 = .ok (.iinc 5 1, 3) := dk_132 5 1 (dk_at dksX8_takes_4 0 rfl rfl)
theorem dX8_takes_97 : decode cX8_takes 97 = .ok (.goto (-40), 3) := dk_167 255 216 (dk_at dksX8_takes_4 3 rfl rfl)
theorem dX8_takes_100 : decode cX8_takes 100 = .ok (.aload_n 0, 1) := dk_42 (dk_at dksX8_takes_4 6 rfl rfl)
theorem dX8_takes_101 : decode cX8_takes 101 = .ok (.getfield 68, 3) := dk_180 0 68 (dk_at dksX8_takes_4 7 rfl rfl)
theorem dX8_takes_104 : decode cX8_takes 104 = .ok (.iconst 0, 1) := dk_3 (dk_at dksX8_takes_4 10 rfl rfl)
theorem dX8_takes_105 : decode cX8_takes 105 = .ok (.aload_n 0, 1) := dk_42 (dk_at dksX8_takes_4 11 rfl rfl)
theorem dX8_takes_106 : decode cX8_takes 106 = .ok (.getfield 65, 3) := dk_180 0 65 (dk_at dksX8_takes_4 12 rfl rfl)
theorem dX8_takes_109 : decode cX8_takes 109 = .ok (.iconst 0, 1) := dk_3 (dk_at dksX8_takes_4 15 rfl rfl)
theorem dX8_takes_110 : decode cX8_takes 110 = .ok (.invokestatic 263, 3) := dk_184 1 7 (dk_at dksX8_takes_4 16 rfl rfl)
theorem dX8_takes_113 : decode cX8_takes 113 = .ok (.aload_n 0, 1) := dk_42 (dk_at dksX8_takes_4 19 rfl rfl)
theorem dX8_takes_114 : decode cX8_takes 114 = .ok (.iload_n 3, 1) := dk_29 (dk_at dksX8_takes_4 20 rfl rfl)
theorem dX8_takes_115 : decode cX8_takes 115 = .ok (.putfield 23, 3) := dk_181 0 23 (dk_at dksX8_takes_4 21 rfl rfl)
theorem dX8_takes_118 : decode cX8_takes 118 = .ok (.iload 4, 2) := dk_21 4 (dk_at dksX8_takes_5 0 rfl rfl)
theorem dX8_takes_120 : decode cX8_takes 120 = .ok (.ireturn, 1) := dk_172 (dk_at dksX8_takes_5 2 rfl rfl)
abbrev cX8_little : ByteArray := prog_17_method_53_code
def yX8_little : MethodName := ⟨RX8, "little", "()I"⟩
def dkwX8_little_2 : List UInt8 := [27, 181, 0, 41, 28, 172]
abbrev dktX8_little_2 : List UInt8 := dkwX8_little_2 ++ []
def dkwX8_little_1 : List UInt8 := [181, 0, 41, 42, 182, 1, 33, 6, 159, 0, 7, 29, 167, 0, 4, 2, 61, 132, 3, 1, 167, 255, 223, 42]
abbrev dktX8_little_1 : List UInt8 := dkwX8_little_1 ++ dktX8_little_2
def dkwX8_little_0 : List UInt8 := [42, 180, 0, 41, 60, 2, 61, 4, 62, 29, 16, 21, 162, 0, 33, 28, 2, 160, 0, 28, 42, 29]
abbrev dktX8_little_0 : List UInt8 := dkwX8_little_0 ++ dktX8_little_1
theorem dksX8_little_0 : cX8_little.data.toList.drop 0 = dktX8_little_0 := by decide +kernel
theorem dksX8_little_1 : cX8_little.data.toList.drop 22 = dktX8_little_1 := dk_seg dksX8_little_0 22 rfl rfl
theorem dksX8_little_2 : cX8_little.data.toList.drop 46 = dktX8_little_2 := dk_seg dksX8_little_1 24 rfl rfl
theorem dX8_little_0 : decode cX8_little 0 = .ok (.aload_n 0, 1) := dk_42 (dk_at dksX8_little_0 0 rfl rfl)
theorem dX8_little_1 : decode cX8_little 1 = .ok (.getfield 41, 3) := dk_180 0 41 (dk_at dksX8_little_0 1 rfl rfl)
theorem dX8_little_4 : decode cX8_little 4 = .ok (.istore_n 1, 1) := dk_60 (dk_at dksX8_little_0 4 rfl rfl)
theorem dX8_little_5 : decode cX8_little 5 = .ok (.iconst (-1), 1) := dk_2 (dk_at dksX8_little_0 5 rfl rfl)
theorem dX8_little_6 : decode cX8_little 6 = .ok (.istore_n 2, 1) := dk_61 (dk_at dksX8_little_0 6 rfl rfl)
theorem dX8_little_7 : decode cX8_little 7 = .ok (.iconst 1, 1) := dk_4 (dk_at dksX8_little_0 7 rfl rfl)
theorem dX8_little_8 : decode cX8_little 8 = .ok (.istore_n 3, 1) := dk_62 (dk_at dksX8_little_0 8 rfl rfl)
theorem dX8_little_9 : decode cX8_little 9 = .ok (.iload_n 3, 1) := dk_29 (dk_at dksX8_little_0 9 rfl rfl)
theorem dX8_little_10 : decode cX8_little 10 = .ok (.bipush 21, 2) := dk_16 21 (dk_at dksX8_little_0 10 rfl rfl)
theorem dX8_little_12 : decode cX8_little 12 = .ok (.if_icmp .ge 33, 3) := dk_162 0 33 (dk_at dksX8_little_0 12 rfl rfl)
theorem dX8_little_15 : decode cX8_little 15 = .ok (.iload_n 2, 1) := dk_28 (dk_at dksX8_little_0 15 rfl rfl)
theorem dX8_little_16 : decode cX8_little 16 = .ok (.iconst (-1), 1) := dk_2 (dk_at dksX8_little_0 16 rfl rfl)
theorem dX8_little_17 : decode cX8_little 17 = .ok (.if_icmp .ne 28, 3) := dk_160 0 28 (dk_at dksX8_little_0 17 rfl rfl)
theorem dX8_little_20 : decode cX8_little 20 = .ok (.aload_n 0, 1) := dk_42 (dk_at dksX8_little_0 20 rfl rfl)
theorem dX8_little_21 : decode cX8_little 21 = .ok (.iload_n 3, 1) := dk_29 (dk_at dksX8_little_0 21 rfl rfl)
theorem dX8_little_22 : decode cX8_little 22 = .ok (.putfield 41, 3) := dk_181 0 41 (dk_at dksX8_little_1 0 rfl rfl)
theorem dX8_little_25 : decode cX8_little 25 = .ok (.aload_n 0, 1) := dk_42 (dk_at dksX8_little_1 3 rfl rfl)
theorem dX8_little_26 : decode cX8_little 26 = .ok (.invokevirtual 289, 3) := dk_182 1 33 (dk_at dksX8_little_1 4 rfl rfl)
theorem dX8_little_29 : decode cX8_little 29 = .ok (.iconst 3, 1) := dk_6 (dk_at dksX8_little_1 7 rfl rfl)
theorem dX8_little_30 : decode cX8_little 30 = .ok (.if_icmp .eq 7, 3) := dk_159 0 7 (dk_at dksX8_little_1 8 rfl rfl)
theorem dX8_little_33 : decode cX8_little 33 = .ok (.iload_n 3, 1) := dk_29 (dk_at dksX8_little_1 11 rfl rfl)
theorem dX8_little_34 : decode cX8_little 34 = .ok (.goto 4, 3) := dk_167 0 4 (dk_at dksX8_little_1 12 rfl rfl)
theorem dX8_little_37 : decode cX8_little 37 = .ok (.iconst (-1), 1) := dk_2 (dk_at dksX8_little_1 15 rfl rfl)
theorem dX8_little_38 : decode cX8_little 38 = .ok (.istore_n 2, 1) := dk_61 (dk_at dksX8_little_1 16 rfl rfl)
theorem dX8_little_39 : decode cX8_little 39 = .ok (.iinc 3 1, 3) := dk_132 3 1 (dk_at dksX8_little_1 17 rfl rfl)
theorem dX8_little_42 : decode cX8_little 42 = .ok (.goto (-33), 3) := dk_167 255 223 (dk_at dksX8_little_1 20 rfl rfl)
theorem dX8_little_45 : decode cX8_little 45 = .ok (.aload_n 0, 1) := dk_42 (dk_at dksX8_little_1 23 rfl rfl)
theorem dX8_little_46 : decode cX8_little 46 = .ok (.iload_n 1, 1) := dk_27 (dk_at dksX8_little_2 0 rfl rfl)
theorem dX8_little_47 : decode cX8_little 47 = .ok (.putfield 41, 3) := dk_181 0 41 (dk_at dksX8_little_2 1 rfl rfl)
theorem dX8_little_50 : decode cX8_little 50 = .ok (.iload_n 2, 1) := dk_28 (dk_at dksX8_little_2 4 rfl rfl)
theorem dX8_little_51 : decode cX8_little 51 = .ok (.ireturn, 1) := dk_172 (dk_at dksX8_little_2 5 rfl rfl)
abbrev cX8_ran : ByteArray := prog_17_method_54_code
def yX8_ran : MethodName := ⟨RX8, "ran", "()I"⟩
def dkwX8_ran_0 : List UInt8 := [42, 182, 1, 33, 87, 42, 180, 1, 20, 172]
abbrev dktX8_ran_0 : List UInt8 := dkwX8_ran_0 ++ []
theorem dksX8_ran_0 : cX8_ran.data.toList.drop 0 = dktX8_ran_0 := by decide +kernel
theorem dX8_ran_0 : decode cX8_ran 0 = .ok (.aload_n 0, 1) := dk_42 (dk_at dksX8_ran_0 0 rfl rfl)
theorem dX8_ran_1 : decode cX8_ran 1 = .ok (.invokevirtual 289, 3) := dk_182 1 33 (dk_at dksX8_ran_0 1 rfl rfl)
theorem dX8_ran_4 : decode cX8_ran 4 = .ok (.pop, 1) := dk_87 (dk_at dksX8_ran_0 4 rfl rfl)
theorem dX8_ran_5 : decode cX8_ran 5 = .ok (.aload_n 0, 1) := dk_42 (dk_at dksX8_ran_0 5 rfl rfl)
theorem dX8_ran_6 : decode cX8_ran 6 = .ok (.getfield 276, 3) := dk_180 1 20 (dk_at dksX8_ran_0 6 rfl rfl)
theorem dX8_ran_9 : decode cX8_ran 9 = .ok (.ireturn, 1) := dk_172 (dk_at dksX8_ran_0 9 rfl rfl)
abbrev cX8_runs : ByteArray := prog_17_method_55_code
def yX8_runs : MethodName := ⟨RX8, "runs", "()I"⟩
def dkwX8_runs_0 : List UInt8 := [42, 182, 1, 33, 87, 42, 180, 1, 23, 172]
abbrev dktX8_runs_0 : List UInt8 := dkwX8_runs_0 ++ []
theorem dksX8_runs_0 : cX8_runs.data.toList.drop 0 = dktX8_runs_0 := by decide +kernel
theorem dX8_runs_0 : decode cX8_runs 0 = .ok (.aload_n 0, 1) := dk_42 (dk_at dksX8_runs_0 0 rfl rfl)
theorem dX8_runs_1 : decode cX8_runs 1 = .ok (.invokevirtual 289, 3) := dk_182 1 33 (dk_at dksX8_runs_0 1 rfl rfl)
theorem dX8_runs_4 : decode cX8_runs 4 = .ok (.pop, 1) := dk_87 (dk_at dksX8_runs_0 4 rfl rfl)
theorem dX8_runs_5 : decode cX8_runs 5 = .ok (.aload_n 0, 1) := dk_42 (dk_at dksX8_runs_0 5 rfl rfl)
theorem dX8_runs_6 : decode cX8_runs 6 = .ok (.getfield 279, 3) := dk_180 1 23 (dk_at dksX8_runs_0 6 rfl rfl)
theorem dX8_runs_9 : decode cX8_runs 9 = .ok (.ireturn, 1) := dk_172 (dk_at dksX8_runs_0 9 rfl rfl)
abbrev cX8_blind : ByteArray := prog_17_method_56_code
def yX8_blind : MethodName := ⟨RX8, "blind", "(IIII)J"⟩
def dkwX8_blind_9 : List UInt8 := [22, 9, 109, 167, 0, 8, 22, 7, 22, 9, 109, 173]
abbrev dktX8_blind_9 : List UInt8 := dkwX8_blind_9 ++ []
def dkwX8_blind_8 : List UInt8 := [22, 11, 113, 55, 13, 22, 11, 55, 9, 22, 13, 55, 11, 167, 255, 234, 21, 4, 154, 0, 11, 22, 5]
abbrev dktX8_blind_8 : List UInt8 := dkwX8_blind_8 ++ dktX8_blind_9
def dkwX8_blind_7 : List UInt8 := [132, 9, 1, 167, 255, 167, 22, 5, 55, 9, 22, 7, 55, 11, 22, 11, 9, 148, 153, 0, 21, 22, 9]
abbrev dktX8_blind_7 : List UInt8 := dkwX8_blind_7 ++ dktX8_blind_8
def dkwX8_blind_6 : List UInt8 := [167, 0, 8, 16, 10, 29, 100, 133, 105, 55, 10, 132, 12, 1, 167, 255, 225, 22, 5, 22, 10, 97, 55, 5]
abbrev dktX8_blind_6 : List UInt8 := dkwX8_blind_6 ++ dktX8_blind_7
def dkwX8_blind_5 : List UInt8 := [167, 255, 229, 3, 54, 12, 21, 12, 27, 162, 0, 31, 22, 10, 21, 12, 21, 9, 162, 0, 8, 29, 133]
abbrev dktX8_blind_5 : List UInt8 := dkwX8_blind_5 ++ dktX8_blind_6
def dkwX8_blind_4 : List UInt8 := [163, 0, 26, 22, 10, 27, 21, 9, 100, 21, 12, 96, 133, 105, 21, 12, 133, 109, 55, 10, 132, 12, 1]
abbrev dktX8_blind_4 : List UInt8 := dkwX8_blind_4 ++ dktX8_blind_5
def dkwX8_blind_3 : List UInt8 := [167, 255, 239, 28, 54, 9, 21, 9, 27, 163, 0, 89, 10, 55, 10, 4, 54, 12, 21, 12, 21, 9]
abbrev dktX8_blind_3 : List UInt8 := dkwX8_blind_3 ++ dktX8_blind_4
def dkwX8_blind_2 : List UInt8 := [55, 7, 3, 54, 9, 21, 9, 27, 162, 0, 17, 22, 7, 20, 1, 45, 105, 55, 7, 132, 9, 1]
abbrev dktX8_blind_2 : List UInt8 := dkwX8_blind_2 ++ dktX8_blind_3
def dkwX8_blind_1 : List UInt8 := [184, 0, 90, 153, 0, 13, 21, 4, 3, 4, 184, 0, 90, 154, 0, 7, 20, 0, 125, 173, 9, 55, 5, 10]
abbrev dktX8_blind_1 : List UInt8 := dkwX8_blind_1 ++ dktX8_blind_2
def dkwX8_blind_0 : List UInt8 := [27, 4, 16, 10, 184, 0, 90, 153, 0, 32, 28, 3, 27, 184, 0, 90, 153, 0, 23, 29, 3, 16, 10]
abbrev dktX8_blind_0 : List UInt8 := dkwX8_blind_0 ++ dktX8_blind_1
theorem dksX8_blind_0 : cX8_blind.data.toList.drop 0 = dktX8_blind_0 := by decide +kernel
theorem dksX8_blind_1 : cX8_blind.data.toList.drop 23 = dktX8_blind_1 := dk_seg dksX8_blind_0 23 rfl rfl
theorem dksX8_blind_2 : cX8_blind.data.toList.drop 47 = dktX8_blind_2 := dk_seg dksX8_blind_1 24 rfl rfl
theorem dksX8_blind_3 : cX8_blind.data.toList.drop 69 = dktX8_blind_3 := dk_seg dksX8_blind_2 22 rfl rfl
theorem dksX8_blind_4 : cX8_blind.data.toList.drop 91 = dktX8_blind_4 := dk_seg dksX8_blind_3 22 rfl rfl
theorem dksX8_blind_5 : cX8_blind.data.toList.drop 114 = dktX8_blind_5 := dk_seg dksX8_blind_4 23 rfl rfl
theorem dksX8_blind_6 : cX8_blind.data.toList.drop 137 = dktX8_blind_6 := dk_seg dksX8_blind_5 23 rfl rfl
theorem dksX8_blind_7 : cX8_blind.data.toList.drop 161 = dktX8_blind_7 := dk_seg dksX8_blind_6 24 rfl rfl
theorem dksX8_blind_8 : cX8_blind.data.toList.drop 184 = dktX8_blind_8 := dk_seg dksX8_blind_7 23 rfl rfl
theorem dksX8_blind_9 : cX8_blind.data.toList.drop 207 = dktX8_blind_9 := dk_seg dksX8_blind_8 23 rfl rfl
theorem dX8_blind_0 : decode cX8_blind 0 = .ok (.iload_n 1, 1) := dk_27 (dk_at dksX8_blind_0 0 rfl rfl)
theorem dX8_blind_1 : decode cX8_blind 1 = .ok (.iconst 1, 1) := dk_4 (dk_at dksX8_blind_0 1 rfl rfl)
theorem dX8_blind_2 : decode cX8_blind 2 = .ok (.bipush 10, 2) := dk_16 10 (dk_at dksX8_blind_0 2 rfl rfl)
theorem dX8_blind_4 : decode cX8_blind 4 = .ok (.invokestatic 90, 3) := dk_184 0 90 (dk_at dksX8_blind_0 4 rfl rfl)
theorem dX8_blind_7 : decode cX8_blind 7 = .ok (.ifCond .eq 32, 3) := dk_153 0 32 (dk_at dksX8_blind_0 7 rfl rfl)
theorem dX8_blind_10 : decode cX8_blind 10 = .ok (.iload_n 2, 1) := dk_28 (dk_at dksX8_blind_0 10 rfl rfl)
theorem dX8_blind_11 : decode cX8_blind 11 = .ok (.iconst 0, 1) := dk_3 (dk_at dksX8_blind_0 11 rfl rfl)
theorem dX8_blind_12 : decode cX8_blind 12 = .ok (.iload_n 1, 1) := dk_27 (dk_at dksX8_blind_0 12 rfl rfl)
theorem dX8_blind_13 : decode cX8_blind 13 = .ok (.invokestatic 90, 3) := dk_184 0 90 (dk_at dksX8_blind_0 13 rfl rfl)
theorem dX8_blind_16 : decode cX8_blind 16 = .ok (.ifCond .eq 23, 3) := dk_153 0 23 (dk_at dksX8_blind_0 16 rfl rfl)
theorem dX8_blind_19 : decode cX8_blind 19 = .ok (.iload_n 3, 1) := dk_29 (dk_at dksX8_blind_0 19 rfl rfl)
theorem dX8_blind_20 : decode cX8_blind 20 = .ok (.iconst 0, 1) := dk_3 (dk_at dksX8_blind_0 20 rfl rfl)
theorem dX8_blind_21 : decode cX8_blind 21 = .ok (.bipush 10, 2) := dk_16 10 (dk_at dksX8_blind_0 21 rfl rfl)
theorem dX8_blind_23 : decode cX8_blind 23 = .ok (.invokestatic 90, 3) := dk_184 0 90 (dk_at dksX8_blind_1 0 rfl rfl)
theorem dX8_blind_26 : decode cX8_blind 26 = .ok (.ifCond .eq 13, 3) := dk_153 0 13 (dk_at dksX8_blind_1 3 rfl rfl)
theorem dX8_blind_29 : decode cX8_blind 29 = .ok (.iload 4, 2) := dk_21 4 (dk_at dksX8_blind_1 6 rfl rfl)
theorem dX8_blind_31 : decode cX8_blind 31 = .ok (.iconst 0, 1) := dk_3 (dk_at dksX8_blind_1 8 rfl rfl)
theorem dX8_blind_32 : decode cX8_blind 32 = .ok (.iconst 1, 1) := dk_4 (dk_at dksX8_blind_1 9 rfl rfl)
theorem dX8_blind_33 : decode cX8_blind 33 = .ok (.invokestatic 90, 3) := dk_184 0 90 (dk_at dksX8_blind_1 10 rfl rfl)
theorem dX8_blind_36 : decode cX8_blind 36 = .ok (.ifCond .ne 7, 3) := dk_154 0 7 (dk_at dksX8_blind_1 13 rfl rfl)
theorem dX8_blind_39 : decode cX8_blind 39 = .ok (.ldc2_w 125, 3) := dk_20 0 125 (dk_at dksX8_blind_1 16 rfl rfl)
theorem dX8_blind_42 : decode cX8_blind 42 = .ok (.lreturn, 1) := dk_173 (dk_at dksX8_blind_1 19 rfl rfl)
theorem dX8_blind_43 : decode cX8_blind 43 = .ok (.lconst 0, 1) := dk_9 (dk_at dksX8_blind_1 20 rfl rfl)
theorem dX8_blind_44 : decode cX8_blind 44 = .ok (.lstore 5, 2) := dk_55 5 (dk_at dksX8_blind_1 21 rfl rfl)
theorem dX8_blind_46 : decode cX8_blind 46 = .ok (.lconst 1, 1) := dk_10 (dk_at dksX8_blind_1 23 rfl rfl)
theorem dX8_blind_47 : decode cX8_blind 47 = .ok (.lstore 7, 2) := dk_55 7 (dk_at dksX8_blind_2 0 rfl rfl)
theorem dX8_blind_49 : decode cX8_blind 49 = .ok (.iconst 0, 1) := dk_3 (dk_at dksX8_blind_2 2 rfl rfl)
theorem dX8_blind_50 : decode cX8_blind 50 = .ok (.istore 9, 2) := dk_54 9 (dk_at dksX8_blind_2 3 rfl rfl)
theorem dX8_blind_52 : decode cX8_blind 52 = .ok (.iload 9, 2) := dk_21 9 (dk_at dksX8_blind_2 5 rfl rfl)
theorem dX8_blind_54 : decode cX8_blind 54 = .ok (.iload_n 1, 1) := dk_27 (dk_at dksX8_blind_2 7 rfl rfl)
theorem dX8_blind_55 : decode cX8_blind 55 = .ok (.if_icmp .ge 17, 3) := dk_162 0 17 (dk_at dksX8_blind_2 8 rfl rfl)
theorem dX8_blind_58 : decode cX8_blind 58 = .ok (.lload 7, 2) := dk_22 7 (dk_at dksX8_blind_2 11 rfl rfl)
theorem dX8_blind_60 : decode cX8_blind 60 = .ok (.ldc2_w 301, 3) := dk_20 1 45 (dk_at dksX8_blind_2 13 rfl rfl)
theorem dX8_blind_63 : decode cX8_blind 63 = .ok (.lmul, 1) := dk_105 (dk_at dksX8_blind_2 16 rfl rfl)
theorem dX8_blind_64 : decode cX8_blind 64 = .ok (.lstore 7, 2) := dk_55 7 (dk_at dksX8_blind_2 17 rfl rfl)
theorem dX8_blind_66 : decode cX8_blind 66 = .ok (.iinc 9 1, 3) := dk_132 9 1 (dk_at dksX8_blind_2 19 rfl rfl)
theorem dX8_blind_69 : decode cX8_blind 69 = .ok (.goto (-17), 3) := dk_167 255 239 (dk_at dksX8_blind_3 0 rfl rfl)
theorem dX8_blind_72 : decode cX8_blind 72 = .ok (.iload_n 2, 1) := dk_28 (dk_at dksX8_blind_3 3 rfl rfl)
theorem dX8_blind_73 : decode cX8_blind 73 = .ok (.istore 9, 2) := dk_54 9 (dk_at dksX8_blind_3 4 rfl rfl)
theorem dX8_blind_75 : decode cX8_blind 75 = .ok (.iload 9, 2) := dk_21 9 (dk_at dksX8_blind_3 6 rfl rfl)
theorem dX8_blind_77 : decode cX8_blind 77 = .ok (.iload_n 1, 1) := dk_27 (dk_at dksX8_blind_3 8 rfl rfl)
theorem dX8_blind_78 : decode cX8_blind 78 = .ok (.if_icmp .gt 89, 3) := dk_163 0 89 (dk_at dksX8_blind_3 9 rfl rfl)
theorem dX8_blind_81 : decode cX8_blind 81 = .ok (.lconst 1, 1) := dk_10 (dk_at dksX8_blind_3 12 rfl rfl)
theorem dX8_blind_82 : decode cX8_blind 82 = .ok (.lstore 10, 2) := dk_55 10 (dk_at dksX8_blind_3 13 rfl rfl)
theorem dX8_blind_84 : decode cX8_blind 84 = .ok (.iconst 1, 1) := dk_4 (dk_at dksX8_blind_3 15 rfl rfl)
theorem dX8_blind_85 : decode cX8_blind 85 = .ok (.istore 12, 2) := dk_54 12 (dk_at dksX8_blind_3 16 rfl rfl)
theorem dX8_blind_87 : decode cX8_blind 87 = .ok (.iload 12, 2) := dk_21 12 (dk_at dksX8_blind_3 18 rfl rfl)
theorem dX8_blind_89 : decode cX8_blind 89 = .ok (.iload 9, 2) := dk_21 9 (dk_at dksX8_blind_3 20 rfl rfl)
theorem dX8_blind_91 : decode cX8_blind 91 = .ok (.if_icmp .gt 26, 3) := dk_163 0 26 (dk_at dksX8_blind_4 0 rfl rfl)
theorem dX8_blind_94 : decode cX8_blind 94 = .ok (.lload 10, 2) := dk_22 10 (dk_at dksX8_blind_4 3 rfl rfl)
theorem dX8_blind_96 : decode cX8_blind 96 = .ok (.iload_n 1, 1) := dk_27 (dk_at dksX8_blind_4 5 rfl rfl)
theorem dX8_blind_97 : decode cX8_blind 97 = .ok (.iload 9, 2) := dk_21 9 (dk_at dksX8_blind_4 6 rfl rfl)
theorem dX8_blind_99 : decode cX8_blind 99 = .ok (.isub, 1) := dk_100 (dk_at dksX8_blind_4 8 rfl rfl)
theorem dX8_blind_100 : decode cX8_blind 100 = .ok (.iload 12, 2) := dk_21 12 (dk_at dksX8_blind_4 9 rfl rfl)
theorem dX8_blind_102 : decode cX8_blind 102 = .ok (.iadd, 1) := dk_96 (dk_at dksX8_blind_4 11 rfl rfl)
theorem dX8_blind_103 : decode cX8_blind 103 = .ok (.i2l, 1) := dk_133 (dk_at dksX8_blind_4 12 rfl rfl)
theorem dX8_blind_104 : decode cX8_blind 104 = .ok (.lmul, 1) := dk_105 (dk_at dksX8_blind_4 13 rfl rfl)
theorem dX8_blind_105 : decode cX8_blind 105 = .ok (.iload 12, 2) := dk_21 12 (dk_at dksX8_blind_4 14 rfl rfl)
theorem dX8_blind_107 : decode cX8_blind 107 = .ok (.i2l, 1) := dk_133 (dk_at dksX8_blind_4 16 rfl rfl)
theorem dX8_blind_108 : decode cX8_blind 108 = .ok (.ldiv, 1) := dk_109 (dk_at dksX8_blind_4 17 rfl rfl)
theorem dX8_blind_109 : decode cX8_blind 109 = .ok (.lstore 10, 2) := dk_55 10 (dk_at dksX8_blind_4 18 rfl rfl)
theorem dX8_blind_111 : decode cX8_blind 111 = .ok (.iinc 12 1, 3) := dk_132 12 1 (dk_at dksX8_blind_4 20 rfl rfl)
theorem dX8_blind_114 : decode cX8_blind 114 = .ok (.goto (-27), 3) := dk_167 255 229 (dk_at dksX8_blind_5 0 rfl rfl)
theorem dX8_blind_117 : decode cX8_blind 117 = .ok (.iconst 0, 1) := dk_3 (dk_at dksX8_blind_5 3 rfl rfl)
theorem dX8_blind_118 : decode cX8_blind 118 = .ok (.istore 12, 2) := dk_54 12 (dk_at dksX8_blind_5 4 rfl rfl)
theorem dX8_blind_120 : decode cX8_blind 120 = .ok (.iload 12, 2) := dk_21 12 (dk_at dksX8_blind_5 6 rfl rfl)
theorem dX8_blind_122 : decode cX8_blind 122 = .ok (.iload_n 1, 1) := dk_27 (dk_at dksX8_blind_5 8 rfl rfl)
theorem dX8_blind_123 : decode cX8_blind 123 = .ok (.if_icmp .ge 31, 3) := dk_162 0 31 (dk_at dksX8_blind_5 9 rfl rfl)
theorem dX8_blind_126 : decode cX8_blind 126 = .ok (.lload 10, 2) := dk_22 10 (dk_at dksX8_blind_5 12 rfl rfl)
theorem dX8_blind_128 : decode cX8_blind 128 = .ok (.iload 12, 2) := dk_21 12 (dk_at dksX8_blind_5 14 rfl rfl)
theorem dX8_blind_130 : decode cX8_blind 130 = .ok (.iload 9, 2) := dk_21 9 (dk_at dksX8_blind_5 16 rfl rfl)
theorem dX8_blind_132 : decode cX8_blind 132 = .ok (.if_icmp .ge 8, 3) := dk_162 0 8 (dk_at dksX8_blind_5 18 rfl rfl)
theorem dX8_blind_135 : decode cX8_blind 135 = .ok (.iload_n 3, 1) := dk_29 (dk_at dksX8_blind_5 21 rfl rfl)
theorem dX8_blind_136 : decode cX8_blind 136 = .ok (.i2l, 1) := dk_133 (dk_at dksX8_blind_5 22 rfl rfl)
theorem dX8_blind_137 : decode cX8_blind 137 = .ok (.goto 8, 3) := dk_167 0 8 (dk_at dksX8_blind_6 0 rfl rfl)
theorem dX8_blind_140 : decode cX8_blind 140 = .ok (.bipush 10, 2) := dk_16 10 (dk_at dksX8_blind_6 3 rfl rfl)
theorem dX8_blind_142 : decode cX8_blind 142 = .ok (.iload_n 3, 1) := dk_29 (dk_at dksX8_blind_6 5 rfl rfl)
theorem dX8_blind_143 : decode cX8_blind 143 = .ok (.isub, 1) := dk_100 (dk_at dksX8_blind_6 6 rfl rfl)
theorem dX8_blind_144 : decode cX8_blind 144 = .ok (.i2l, 1) := dk_133 (dk_at dksX8_blind_6 7 rfl rfl)
theorem dX8_blind_145 : decode cX8_blind 145 = .ok (.lmul, 1) := dk_105 (dk_at dksX8_blind_6 8 rfl rfl)
theorem dX8_blind_146 : decode cX8_blind 146 = .ok (.lstore 10, 2) := dk_55 10 (dk_at dksX8_blind_6 9 rfl rfl)
theorem dX8_blind_148 : decode cX8_blind 148 = .ok (.iinc 12 1, 3) := dk_132 12 1 (dk_at dksX8_blind_6 11 rfl rfl)
theorem dX8_blind_151 : decode cX8_blind 151 = .ok (.goto (-31), 3) := dk_167 255 225 (dk_at dksX8_blind_6 14 rfl rfl)
theorem dX8_blind_154 : decode cX8_blind 154 = .ok (.lload 5, 2) := dk_22 5 (dk_at dksX8_blind_6 17 rfl rfl)
theorem dX8_blind_156 : decode cX8_blind 156 = .ok (.lload 10, 2) := dk_22 10 (dk_at dksX8_blind_6 19 rfl rfl)
theorem dX8_blind_158 : decode cX8_blind 158 = .ok (.ladd, 1) := dk_97 (dk_at dksX8_blind_6 21 rfl rfl)
theorem dX8_blind_159 : decode cX8_blind 159 = .ok (.lstore 5, 2) := dk_55 5 (dk_at dksX8_blind_6 22 rfl rfl)
theorem dX8_blind_161 : decode cX8_blind 161 = .ok (.iinc 9 1, 3) := dk_132 9 1 (dk_at dksX8_blind_7 0 rfl rfl)
theorem dX8_blind_164 : decode cX8_blind 164 = .ok (.goto (-89), 3) := dk_167 255 167 (dk_at dksX8_blind_7 3 rfl rfl)
theorem dX8_blind_167 : decode cX8_blind 167 = .ok (.lload 5, 2) := dk_22 5 (dk_at dksX8_blind_7 6 rfl rfl)
theorem dX8_blind_169 : decode cX8_blind 169 = .ok (.lstore 9, 2) := dk_55 9 (dk_at dksX8_blind_7 8 rfl rfl)
theorem dX8_blind_171 : decode cX8_blind 171 = .ok (.lload 7, 2) := dk_22 7 (dk_at dksX8_blind_7 10 rfl rfl)
theorem dX8_blind_173 : decode cX8_blind 173 = .ok (.lstore 11, 2) := dk_55 11 (dk_at dksX8_blind_7 12 rfl rfl)
theorem dX8_blind_175 : decode cX8_blind 175 = .ok (.lload 11, 2) := dk_22 11 (dk_at dksX8_blind_7 14 rfl rfl)
theorem dX8_blind_177 : decode cX8_blind 177 = .ok (.lconst 0, 1) := dk_9 (dk_at dksX8_blind_7 16 rfl rfl)
theorem dX8_blind_178 : decode cX8_blind 178 = .ok (.lcmp, 1) := dk_148 (dk_at dksX8_blind_7 17 rfl rfl)
theorem dX8_blind_179 : decode cX8_blind 179 = .ok (.ifCond .eq 21, 3) := dk_153 0 21 (dk_at dksX8_blind_7 18 rfl rfl)
theorem dX8_blind_182 : decode cX8_blind 182 = .ok (.lload 9, 2) := dk_22 9 (dk_at dksX8_blind_7 21 rfl rfl)
theorem dX8_blind_184 : decode cX8_blind 184 = .ok (.lload 11, 2) := dk_22 11 (dk_at dksX8_blind_8 0 rfl rfl)
theorem dX8_blind_186 : decode cX8_blind 186 = .ok (.lrem, 1) := dk_113 (dk_at dksX8_blind_8 2 rfl rfl)
theorem dX8_blind_187 : decode cX8_blind 187 = .ok (.lstore 13, 2) := dk_55 13 (dk_at dksX8_blind_8 3 rfl rfl)
theorem dX8_blind_189 : decode cX8_blind 189 = .ok (.lload 11, 2) := dk_22 11 (dk_at dksX8_blind_8 5 rfl rfl)
theorem dX8_blind_191 : decode cX8_blind 191 = .ok (.lstore 9, 2) := dk_55 9 (dk_at dksX8_blind_8 7 rfl rfl)
theorem dX8_blind_193 : decode cX8_blind 193 = .ok (.lload 13, 2) := dk_22 13 (dk_at dksX8_blind_8 9 rfl rfl)
theorem dX8_blind_195 : decode cX8_blind 195 = .ok (.lstore 11, 2) := dk_55 11 (dk_at dksX8_blind_8 11 rfl rfl)
theorem dX8_blind_197 : decode cX8_blind 197 = .ok (.goto (-22), 3) := dk_167 255 234 (dk_at dksX8_blind_8 13 rfl rfl)
theorem dX8_blind_200 : decode cX8_blind 200 = .ok (.iload 4, 2) := dk_21 4 (dk_at dksX8_blind_8 16 rfl rfl)
theorem dX8_blind_202 : decode cX8_blind 202 = .ok (.ifCond .ne 11, 3) := dk_154 0 11 (dk_at dksX8_blind_8 18 rfl rfl)
theorem dX8_blind_205 : decode cX8_blind 205 = .ok (.lload 5, 2) := dk_22 5 (dk_at dksX8_blind_8 21 rfl rfl)
theorem dX8_blind_207 : decode cX8_blind 207 = .ok (.lload 9, 2) := dk_22 9 (dk_at dksX8_blind_9 0 rfl rfl)
theorem dX8_blind_209 : decode cX8_blind 209 = .ok (.ldiv, 1) := dk_109 (dk_at dksX8_blind_9 2 rfl rfl)
theorem dX8_blind_210 : decode cX8_blind 210 = .ok (.goto 8, 3) := dk_167 0 8 (dk_at dksX8_blind_9 3 rfl rfl)
theorem dX8_blind_213 : decode cX8_blind 213 = .ok (.lload 7, 2) := dk_22 7 (dk_at dksX8_blind_9 6 rfl rfl)
theorem dX8_blind_215 : decode cX8_blind 215 = .ok (.lload 9, 2) := dk_22 9 (dk_at dksX8_blind_9 8 rfl rfl)
theorem dX8_blind_217 : decode cX8_blind 217 = .ok (.ldiv, 1) := dk_109 (dk_at dksX8_blind_9 10 rfl rfl)
theorem dX8_blind_218 : decode cX8_blind 218 = .ok (.lreturn, 1) := dk_173 (dk_at dksX8_blind_9 11 rfl rfl)
abbrev cX8_count : ByteArray := prog_17_method_57_code
def yX8_count : MethodName := ⟨RX8, "count", "(I)I"⟩
def dkwX8_count_4 : List UInt8 := [180, 0, 207, 172, 16, 253, 172]
abbrev dktX8_count_4 : List UInt8 := dkwX8_count_4 ++ []
def dkwX8_count_3 : List UInt8 := [172, 42, 180, 0, 53, 172, 42, 180, 0, 196, 172, 42, 180, 0, 94, 172, 42, 180, 0, 35, 172, 42]
abbrev dktX8_count_3 : List UInt8 := dkwX8_count_3 ++ dktX8_count_4
def dkwX8_count_2 : List UInt8 := [42, 180, 0, 7, 172, 42, 180, 0, 13, 172, 42, 180, 0, 23, 172, 42, 180, 0, 38, 172, 42, 180, 0, 41]
abbrev dktX8_count_2 : List UInt8 := dkwX8_count_2 ++ dktX8_count_3
def dkwX8_count_1 : List UInt8 := [170, 0, 0, 0, 0, 0, 105, 0, 0, 0, 0, 0, 0, 0, 9, 0, 0, 0, 55, 0, 0, 0, 60, 0, 0, 0, 65, 0, 0, 0, 70, 0, 0, 0, 75, 0, 0, 0, 80, 0, 0, 0, 85, 0, 0, 0, 90, 0, 0, 0, 95, 0, 0, 0, 100]
abbrev dktX8_count_1 : List UInt8 := dkwX8_count_1 ++ dktX8_count_2
def dkwX8_count_0 : List UInt8 := [27]
abbrev dktX8_count_0 : List UInt8 := dkwX8_count_0 ++ dktX8_count_1
theorem dksX8_count_0 : cX8_count.data.toList.drop 0 = dktX8_count_0 := by decide +kernel
theorem dksX8_count_1 : cX8_count.data.toList.drop 1 = dktX8_count_1 := dk_seg dksX8_count_0 1 rfl rfl
theorem dksX8_count_2 : cX8_count.data.toList.drop 56 = dktX8_count_2 := dk_seg dksX8_count_1 55 rfl rfl
theorem dksX8_count_3 : cX8_count.data.toList.drop 80 = dktX8_count_3 := dk_seg dksX8_count_2 24 rfl rfl
theorem dksX8_count_4 : cX8_count.data.toList.drop 102 = dktX8_count_4 := dk_seg dksX8_count_3 22 rfl rfl
theorem dX8_count_0 : decode cX8_count 0 = .ok (.iload_n 1, 1) := dk_27 (dk_at dksX8_count_0 0 rfl rfl)
theorem dX8_count_1 : decode cX8_count 1 = .ok (.tableswitch 105 0 9 #[55, 60, 65, 70, 75, 80, 85, 90, 95, 100], 55) := by decide +kernel
theorem dX8_count_56 : decode cX8_count 56 = .ok (.aload_n 0, 1) := dk_42 (dk_at dksX8_count_2 0 rfl rfl)
theorem dX8_count_57 : decode cX8_count 57 = .ok (.getfield 7, 3) := dk_180 0 7 (dk_at dksX8_count_2 1 rfl rfl)
theorem dX8_count_60 : decode cX8_count 60 = .ok (.ireturn, 1) := dk_172 (dk_at dksX8_count_2 4 rfl rfl)
theorem dX8_count_61 : decode cX8_count 61 = .ok (.aload_n 0, 1) := dk_42 (dk_at dksX8_count_2 5 rfl rfl)
theorem dX8_count_62 : decode cX8_count 62 = .ok (.getfield 13, 3) := dk_180 0 13 (dk_at dksX8_count_2 6 rfl rfl)
theorem dX8_count_65 : decode cX8_count 65 = .ok (.ireturn, 1) := dk_172 (dk_at dksX8_count_2 9 rfl rfl)
theorem dX8_count_66 : decode cX8_count 66 = .ok (.aload_n 0, 1) := dk_42 (dk_at dksX8_count_2 10 rfl rfl)
theorem dX8_count_67 : decode cX8_count 67 = .ok (.getfield 23, 3) := dk_180 0 23 (dk_at dksX8_count_2 11 rfl rfl)
theorem dX8_count_70 : decode cX8_count 70 = .ok (.ireturn, 1) := dk_172 (dk_at dksX8_count_2 14 rfl rfl)
theorem dX8_count_71 : decode cX8_count 71 = .ok (.aload_n 0, 1) := dk_42 (dk_at dksX8_count_2 15 rfl rfl)
theorem dX8_count_72 : decode cX8_count 72 = .ok (.getfield 38, 3) := dk_180 0 38 (dk_at dksX8_count_2 16 rfl rfl)
theorem dX8_count_75 : decode cX8_count 75 = .ok (.ireturn, 1) := dk_172 (dk_at dksX8_count_2 19 rfl rfl)
theorem dX8_count_76 : decode cX8_count 76 = .ok (.aload_n 0, 1) := dk_42 (dk_at dksX8_count_2 20 rfl rfl)
theorem dX8_count_77 : decode cX8_count 77 = .ok (.getfield 41, 3) := dk_180 0 41 (dk_at dksX8_count_2 21 rfl rfl)
theorem dX8_count_80 : decode cX8_count 80 = .ok (.ireturn, 1) := dk_172 (dk_at dksX8_count_3 0 rfl rfl)
theorem dX8_count_81 : decode cX8_count 81 = .ok (.aload_n 0, 1) := dk_42 (dk_at dksX8_count_3 1 rfl rfl)
theorem dX8_count_82 : decode cX8_count 82 = .ok (.getfield 53, 3) := dk_180 0 53 (dk_at dksX8_count_3 2 rfl rfl)
theorem dX8_count_85 : decode cX8_count 85 = .ok (.ireturn, 1) := dk_172 (dk_at dksX8_count_3 5 rfl rfl)
theorem dX8_count_86 : decode cX8_count 86 = .ok (.aload_n 0, 1) := dk_42 (dk_at dksX8_count_3 6 rfl rfl)
theorem dX8_count_87 : decode cX8_count 87 = .ok (.getfield 196, 3) := dk_180 0 196 (dk_at dksX8_count_3 7 rfl rfl)
theorem dX8_count_90 : decode cX8_count 90 = .ok (.ireturn, 1) := dk_172 (dk_at dksX8_count_3 10 rfl rfl)
theorem dX8_count_91 : decode cX8_count 91 = .ok (.aload_n 0, 1) := dk_42 (dk_at dksX8_count_3 11 rfl rfl)
theorem dX8_count_92 : decode cX8_count 92 = .ok (.getfield 94, 3) := dk_180 0 94 (dk_at dksX8_count_3 12 rfl rfl)
theorem dX8_count_95 : decode cX8_count 95 = .ok (.ireturn, 1) := dk_172 (dk_at dksX8_count_3 15 rfl rfl)
theorem dX8_count_96 : decode cX8_count 96 = .ok (.aload_n 0, 1) := dk_42 (dk_at dksX8_count_3 16 rfl rfl)
theorem dX8_count_97 : decode cX8_count 97 = .ok (.getfield 35, 3) := dk_180 0 35 (dk_at dksX8_count_3 17 rfl rfl)
theorem dX8_count_100 : decode cX8_count 100 = .ok (.ireturn, 1) := dk_172 (dk_at dksX8_count_3 20 rfl rfl)
theorem dX8_count_101 : decode cX8_count 101 = .ok (.aload_n 0, 1) := dk_42 (dk_at dksX8_count_3 21 rfl rfl)
theorem dX8_count_102 : decode cX8_count 102 = .ok (.getfield 207, 3) := dk_180 0 207 (dk_at dksX8_count_4 0 rfl rfl)
theorem dX8_count_105 : decode cX8_count 105 = .ok (.ireturn, 1) := dk_172 (dk_at dksX8_count_4 3 rfl rfl)
theorem dX8_count_106 : decode cX8_count 106 = .ok (.bipush (-3), 2) := dk_16 253 (dk_at dksX8_count_4 4 rfl rfl)
theorem dX8_count_108 : decode cX8_count 108 = .ok (.ireturn, 1) := dk_172 (dk_at dksX8_count_4 6 rfl rfl)
theorem q63 : (Jvm.Cond.initialized "WaterGroundsModel") ∈ lw_all := lw_g (lw_at lw_m1 9 rfl) rfl
theorem q972 : (Jvm.Cond.instantiable "WaterGroundsModel" (42 : Nat)) ∈ lw_all := lw_g (lw_at lw_m4 198 rfl) rfl
theorem q974 : (Jvm.Cond.instanceMethod ({ cls := "WaterGroundsModel", name := "<init>", desc := "()V" } : Jvm.MethodName)) ∈ lw_all := lw_g (lw_at lw_m4 200 rfl) rfl
theorem q975 : (Jvm.Cond.code ({ cls := "WaterGroundsModel", name := "<init>", desc := "()V" } : Jvm.MethodName) prog_17_method_1_code (1 : Nat) (Option.none : Option Jvm.ClassFile.FieldType)) ∈ lw_all := lw_g (lw_at lw_m4 201 rfl) rfl
theorem q976 : (Jvm.Cond.methodLink "WaterGroundsModel" (1 : Nat) ({ cls := "java/lang/Object", name := "<init>", desc := "()V" } : Jvm.MethodName)) ∈ lw_all := lw_g (lw_at lw_m4 202 rfl) rfl
theorem q977 : (Jvm.Cond.methodLink "WaterGroundsModel" (87 : Nat) ({ cls := "WaterGroundsModel", name := "begin", desc := "()V" } : Jvm.MethodName)) ∈ lw_all := lw_g (lw_at lw_m4 203 rfl) rfl
theorem q978 : (Jvm.Cond.privateMethod ({ cls := "WaterGroundsModel", name := "begin", desc := "()V" } : Jvm.MethodName)) ∈ lw_tbl := lw_at lw_m4 204 rfl
theorem q979 : (Jvm.Cond.instanceMethod ({ cls := "WaterGroundsModel", name := "begin", desc := "()V" } : Jvm.MethodName)) ∈ lw_all := lw_g (lw_at lw_m4 205 rfl) rfl
theorem q980 : (Jvm.Cond.code ({ cls := "WaterGroundsModel", name := "begin", desc := "()V" } : Jvm.MethodName) prog_17_method_21_code (4 : Nat) (Option.none : Option Jvm.ClassFile.FieldType)) ∈ lw_all := lw_g (lw_at lw_m4 206 rfl) rfl
theorem q981 : (Jvm.Cond.methodLink "WaterGroundsModel" (214 : Nat) ({ cls := "WaterGroundsModel", name := "isCell", desc := "(I)Z" } : Jvm.MethodName)) ∈ lw_all := lw_g (lw_at lw_m4 207 rfl) rfl
theorem q982 : (Jvm.Cond.privateMethod ({ cls := "WaterGroundsModel", name := "isCell", desc := "(I)Z" } : Jvm.MethodName)) ∈ lw_tbl := lw_at lw_m4 208 rfl
theorem q983 : (Jvm.Cond.instanceMethod ({ cls := "WaterGroundsModel", name := "isCell", desc := "(I)Z" } : Jvm.MethodName)) ∈ lw_all := lw_g (lw_at lw_m4 209 rfl) rfl
theorem q984 : (Jvm.Cond.code ({ cls := "WaterGroundsModel", name := "isCell", desc := "(I)Z" } : Jvm.MethodName) prog_17_method_20_code (2 : Nat) (Option.some Jvm.ClassFile.FieldType.boolean)) ∈ lw_all := lw_g (lw_at lw_m4 210 rfl) rfl
theorem q985 : (Jvm.Cond.fieldLink "WaterGroundsModel" (7 : Nat) "WaterGroundsModel" "rings" "I") ∈ lw_all := lw_g (lw_at lw_m4 211 rfl) rfl
theorem q986 : (Jvm.Cond.fieldLink "WaterGroundsModel" (13 : Nat) "WaterGroundsModel" "layers" "I") ∈ lw_all := lw_g (lw_at lw_m4 212 rfl) rfl
theorem q987 : (Jvm.Cond.fieldLink "WaterGroundsModel" (16 : Nat) "WaterGroundsModel" "gram" "[I") ∈ lw_all := lw_g (lw_at lw_m4 213 rfl) rfl
theorem q988 : (Jvm.Cond.fieldLink "WaterGroundsModel" (20 : Nat) "WaterGroundsModel" "rate" "[I") ∈ lw_all := lw_g (lw_at lw_m4 214 rfl) rfl
theorem q989 : (Jvm.Cond.fieldLink "WaterGroundsModel" (23 : Nat) "WaterGroundsModel" "step" "I") ∈ lw_all := lw_g (lw_at lw_m4 215 rfl) rfl
theorem q990 : (Jvm.Cond.fieldLink "WaterGroundsModel" (26 : Nat) "WaterGroundsModel" "looseA" "I") ∈ lw_all := lw_g (lw_at lw_m4 216 rfl) rfl
theorem q991 : (Jvm.Cond.fieldLink "WaterGroundsModel" (29 : Nat) "WaterGroundsModel" "looseB" "I") ∈ lw_all := lw_g (lw_at lw_m4 217 rfl) rfl
theorem q992 : (Jvm.Cond.fieldLink "WaterGroundsModel" (32 : Nat) "WaterGroundsModel" "slack" "[I") ∈ lw_all := lw_g (lw_at lw_m4 218 rfl) rfl
theorem q993 : (Jvm.Cond.fieldLink "WaterGroundsModel" (35 : Nat) "WaterGroundsModel" "side" "I") ∈ lw_all := lw_g (lw_at lw_m4 219 rfl) rfl
theorem q994 : (Jvm.Cond.fieldLink "WaterGroundsModel" (207 : Nat) "WaterGroundsModel" "run" "I") ∈ lw_all := lw_g (lw_at lw_m4 220 rfl) rfl
theorem q995 : (Jvm.Cond.fieldLink "WaterGroundsModel" (38 : Nat) "WaterGroundsModel" "warm" "I") ∈ lw_all := lw_g (lw_at lw_m4 221 rfl) rfl
theorem q996 : (Jvm.Cond.fieldLink "WaterGroundsModel" (41 : Nat) "WaterGroundsModel" "grams" "I") ∈ lw_all := lw_g (lw_at lw_m4 222 rfl) rfl
theorem q997 : (Jvm.Cond.fieldLink "WaterGroundsModel" (196 : Nat) "WaterGroundsModel" "pours" "I") ∈ lw_all := lw_g (lw_at lw_m4 223 rfl) rfl
theorem q998 : (Jvm.Cond.fieldLink "WaterGroundsModel" (44 : Nat) "WaterGroundsModel" "pourTick" "[I") ∈ lw_all := lw_g (lw_at lw_m4 224 rfl) rfl
theorem q999 : (Jvm.Cond.fieldLink "WaterGroundsModel" (47 : Nat) "WaterGroundsModel" "pourRing" "[I") ∈ lw_all := lw_g (lw_at lw_m4 225 rfl) rfl
theorem q1000 : (Jvm.Cond.fieldLink "WaterGroundsModel" (50 : Nat) "WaterGroundsModel" "pourMuch" "[I") ∈ lw_all := lw_g (lw_at lw_m4 226 rfl) rfl
theorem q1001 : (Jvm.Cond.fieldLink "WaterGroundsModel" (53 : Nat) "WaterGroundsModel" "ticks" "I") ∈ lw_all := lw_g (lw_at lw_m4 227 rfl) rfl
theorem q1002 : (Jvm.Cond.fieldLink "WaterGroundsModel" (56 : Nat) "WaterGroundsModel" "chart" "[I") ∈ lw_all := lw_g (lw_at lw_m4 228 rfl) rfl
theorem q1003 : (Jvm.Cond.fieldLink "WaterGroundsModel" (94 : Nat) "WaterGroundsModel" "bytes" "I") ∈ lw_all := lw_g (lw_at lw_m4 229 rfl) rfl
theorem q1004 : (Jvm.Cond.fieldLink "WaterGroundsModel" (59 : Nat) "WaterGroundsModel" "text" "[I") ∈ lw_all := lw_g (lw_at lw_m4 230 rfl) rfl
theorem q1005 : (Jvm.Cond.fieldLink "WaterGroundsModel" (99 : Nat) "WaterGroundsModel" "position" "I") ∈ lw_all := lw_g (lw_at lw_m4 231 rfl) rfl
theorem q1006 : (Jvm.Cond.fieldLink "WaterGroundsModel" (102 : Nat) "WaterGroundsModel" "tokenAt" "I") ∈ lw_all := lw_g (lw_at lw_m4 232 rfl) rfl
theorem q1007 : (Jvm.Cond.fieldLink "WaterGroundsModel" (113 : Nat) "WaterGroundsModel" "token" "J") ∈ lw_all := lw_g (lw_at lw_m4 233 rfl) rfl
theorem q1008 : (Jvm.Cond.fieldLink "WaterGroundsModel" (105 : Nat) "WaterGroundsModel" "digits" "I") ∈ lw_all := lw_g (lw_at lw_m4 234 rfl) rfl
theorem q1009 : (Jvm.Cond.fieldLink "WaterGroundsModel" (108 : Nat) "WaterGroundsModel" "number" "I") ∈ lw_all := lw_g (lw_at lw_m4 235 rfl) rfl
theorem q1010 : (Jvm.Cond.fieldLink "WaterGroundsModel" (127 : Nat) "WaterGroundsModel" "faultAt" "I") ∈ lw_all := lw_g (lw_at lw_m4 236 rfl) rfl
theorem q1011 : (Jvm.Cond.fieldLink "WaterGroundsModel" (187 : Nat) "WaterGroundsModel" "readMany" "I") ∈ lw_all := lw_g (lw_at lw_m4 237 rfl) rfl
theorem q1012 : (Jvm.Cond.fieldLink "WaterGroundsModel" (62 : Nat) "WaterGroundsModel" "read" "[I") ∈ lw_all := lw_g (lw_at lw_m4 238 rfl) rfl
theorem q1013 : (Jvm.Cond.fieldLink "WaterGroundsModel" (140 : Nat) "WaterGroundsModel" "readRings" "I") ∈ lw_all := lw_g (lw_at lw_m4 239 rfl) rfl
theorem q1014 : (Jvm.Cond.fieldLink "WaterGroundsModel" (143 : Nat) "WaterGroundsModel" "readLayers" "I") ∈ lw_all := lw_g (lw_at lw_m5 0 rfl) rfl
theorem q1015 : (Jvm.Cond.fieldLink "WaterGroundsModel" (65 : Nat) "WaterGroundsModel" "brew" "[I") ∈ lw_all := lw_g (lw_at lw_m5 1 rfl) rfl
theorem q1016 : (Jvm.Cond.fieldLink "WaterGroundsModel" (68 : Nat) "WaterGroundsModel" "aside" "[I") ∈ lw_all := lw_g (lw_at lw_m5 2 rfl) rfl
theorem q1017 : (Jvm.Cond.fieldLink "WaterGroundsModel" (71 : Nat) "WaterGroundsModel" "image" "[I") ∈ lw_all := lw_g (lw_at lw_m5 3 rfl) rfl
theorem q1018 : (Jvm.Cond.fieldLink "WaterGroundsModel" (74 : Nat) "WaterGroundsModel" "isKept" "[Z") ∈ lw_all := lw_g (lw_at lw_m5 4 rfl) rfl
theorem q1019 : (Jvm.Cond.fieldLink "WaterGroundsModel" (78 : Nat) "WaterGroundsModel" "more" "[I") ∈ lw_all := lw_g (lw_at lw_m5 5 rfl) rfl
theorem q1020 : (Jvm.Cond.fieldLink "WaterGroundsModel" (81 : Nat) "WaterGroundsModel" "row" "[I") ∈ lw_all := lw_g (lw_at lw_m5 6 rfl) rfl
theorem q1021 : (Jvm.Cond.fieldLink "WaterGroundsModel" (84 : Nat) "WaterGroundsModel" "rights" "[I") ∈ lw_all := lw_g (lw_at lw_m5 7 rfl) rfl
theorem q1022 : (Jvm.Cond.fieldLink "WaterGroundsModel" (267 : Nat) "WaterGroundsModel" "strongOf" "I") ∈ lw_all := lw_g (lw_at lw_m5 8 rfl) rfl
theorem q1023 : (Jvm.Cond.fieldLink "WaterGroundsModel" (270 : Nat) "WaterGroundsModel" "outOf" "I") ∈ lw_all := lw_g (lw_at lw_m5 9 rfl) rfl
theorem q1024 : (Jvm.Cond.fieldLink "WaterGroundsModel" (273 : Nat) "WaterGroundsModel" "unevenOf" "I") ∈ lw_all := lw_g (lw_at lw_m5 10 rfl) rfl
theorem q1025 : (Jvm.Cond.fieldLink "WaterGroundsModel" (276 : Nat) "WaterGroundsModel" "ranOf" "I") ∈ lw_all := lw_g (lw_at lw_m5 11 rfl) rfl
theorem q1026 : (Jvm.Cond.fieldLink "WaterGroundsModel" (279 : Nat) "WaterGroundsModel" "runsOf" "I") ∈ lw_all := lw_g (lw_at lw_m5 12 rfl) rfl
theorem q1027 : (Jvm.Cond.lays "WaterGroundsModel" "WaterGroundsModel" "rings" "I") ∈ lw_all := lw_g (lw_at lw_m5 13 rfl) rfl
theorem q1028 : (Jvm.Cond.soleField "WaterGroundsModel" "rings") ∈ lw_all := lw_g (lw_at lw_m5 14 rfl) rfl
theorem q1029 : (Jvm.Cond.lays "WaterGroundsModel" "WaterGroundsModel" "layers" "I") ∈ lw_all := lw_g (lw_at lw_m5 15 rfl) rfl
theorem q1030 : (Jvm.Cond.soleField "WaterGroundsModel" "layers") ∈ lw_all := lw_g (lw_at lw_m5 16 rfl) rfl
theorem q1031 : (Jvm.Cond.laysFinal "WaterGroundsModel" "WaterGroundsModel" "gram" "[I") ∈ lw_all := lw_g (lw_at lw_m5 17 rfl) rfl
theorem q1032 : (Jvm.Cond.soleField "WaterGroundsModel" "gram") ∈ lw_all := lw_g (lw_at lw_m5 18 rfl) rfl
theorem q1033 : (Jvm.Cond.laysFinal "WaterGroundsModel" "WaterGroundsModel" "rate" "[I") ∈ lw_all := lw_g (lw_at lw_m5 19 rfl) rfl
theorem q1034 : (Jvm.Cond.soleField "WaterGroundsModel" "rate") ∈ lw_all := lw_g (lw_at lw_m5 20 rfl) rfl
theorem q1035 : (Jvm.Cond.lays "WaterGroundsModel" "WaterGroundsModel" "step" "I") ∈ lw_all := lw_g (lw_at lw_m5 21 rfl) rfl
theorem q1036 : (Jvm.Cond.soleField "WaterGroundsModel" "step") ∈ lw_all := lw_g (lw_at lw_m5 22 rfl) rfl
theorem q1037 : (Jvm.Cond.lays "WaterGroundsModel" "WaterGroundsModel" "looseA" "I") ∈ lw_all := lw_g (lw_at lw_m5 23 rfl) rfl
theorem q1038 : (Jvm.Cond.soleField "WaterGroundsModel" "looseA") ∈ lw_all := lw_g (lw_at lw_m5 24 rfl) rfl
theorem q1039 : (Jvm.Cond.lays "WaterGroundsModel" "WaterGroundsModel" "looseB" "I") ∈ lw_all := lw_g (lw_at lw_m5 25 rfl) rfl
theorem q1040 : (Jvm.Cond.soleField "WaterGroundsModel" "looseB") ∈ lw_all := lw_g (lw_at lw_m5 26 rfl) rfl
theorem q1041 : (Jvm.Cond.laysFinal "WaterGroundsModel" "WaterGroundsModel" "slack" "[I") ∈ lw_all := lw_g (lw_at lw_m5 27 rfl) rfl
theorem q1042 : (Jvm.Cond.soleField "WaterGroundsModel" "slack") ∈ lw_all := lw_g (lw_at lw_m5 28 rfl) rfl
theorem q1043 : (Jvm.Cond.lays "WaterGroundsModel" "WaterGroundsModel" "side" "I") ∈ lw_all := lw_g (lw_at lw_m5 29 rfl) rfl
theorem q1044 : (Jvm.Cond.soleField "WaterGroundsModel" "side") ∈ lw_all := lw_g (lw_at lw_m5 30 rfl) rfl
theorem q1045 : (Jvm.Cond.lays "WaterGroundsModel" "WaterGroundsModel" "run" "I") ∈ lw_all := lw_g (lw_at lw_m5 31 rfl) rfl
theorem q1046 : (Jvm.Cond.soleField "WaterGroundsModel" "run") ∈ lw_all := lw_g (lw_at lw_m5 32 rfl) rfl
theorem q1047 : (Jvm.Cond.lays "WaterGroundsModel" "WaterGroundsModel" "warm" "I") ∈ lw_all := lw_g (lw_at lw_m5 33 rfl) rfl
theorem q1048 : (Jvm.Cond.soleField "WaterGroundsModel" "warm") ∈ lw_all := lw_g (lw_at lw_m5 34 rfl) rfl
theorem q1049 : (Jvm.Cond.lays "WaterGroundsModel" "WaterGroundsModel" "grams" "I") ∈ lw_all := lw_g (lw_at lw_m5 35 rfl) rfl
theorem q1050 : (Jvm.Cond.soleField "WaterGroundsModel" "grams") ∈ lw_all := lw_g (lw_at lw_m5 36 rfl) rfl
theorem q1051 : (Jvm.Cond.lays "WaterGroundsModel" "WaterGroundsModel" "pours" "I") ∈ lw_all := lw_g (lw_at lw_m5 37 rfl) rfl
theorem q1052 : (Jvm.Cond.soleField "WaterGroundsModel" "pours") ∈ lw_all := lw_g (lw_at lw_m5 38 rfl) rfl
theorem q1053 : (Jvm.Cond.laysFinal "WaterGroundsModel" "WaterGroundsModel" "pourTick" "[I") ∈ lw_all := lw_g (lw_at lw_m5 39 rfl) rfl
theorem q1054 : (Jvm.Cond.soleField "WaterGroundsModel" "pourTick") ∈ lw_all := lw_g (lw_at lw_m5 40 rfl) rfl
theorem q1055 : (Jvm.Cond.laysFinal "WaterGroundsModel" "WaterGroundsModel" "pourRing" "[I") ∈ lw_all := lw_g (lw_at lw_m5 41 rfl) rfl
theorem q1056 : (Jvm.Cond.soleField "WaterGroundsModel" "pourRing") ∈ lw_all := lw_g (lw_at lw_m5 42 rfl) rfl
theorem q1057 : (Jvm.Cond.laysFinal "WaterGroundsModel" "WaterGroundsModel" "pourMuch" "[I") ∈ lw_all := lw_g (lw_at lw_m5 43 rfl) rfl
theorem q1058 : (Jvm.Cond.soleField "WaterGroundsModel" "pourMuch") ∈ lw_all := lw_g (lw_at lw_m5 44 rfl) rfl
theorem q1059 : (Jvm.Cond.lays "WaterGroundsModel" "WaterGroundsModel" "ticks" "I") ∈ lw_all := lw_g (lw_at lw_m5 45 rfl) rfl
theorem q1060 : (Jvm.Cond.soleField "WaterGroundsModel" "ticks") ∈ lw_all := lw_g (lw_at lw_m5 46 rfl) rfl
theorem q1061 : (Jvm.Cond.laysFinal "WaterGroundsModel" "WaterGroundsModel" "chart" "[I") ∈ lw_all := lw_g (lw_at lw_m5 47 rfl) rfl
theorem q1062 : (Jvm.Cond.soleField "WaterGroundsModel" "chart") ∈ lw_all := lw_g (lw_at lw_m5 48 rfl) rfl
theorem q1063 : (Jvm.Cond.lays "WaterGroundsModel" "WaterGroundsModel" "bytes" "I") ∈ lw_all := lw_g (lw_at lw_m5 49 rfl) rfl
theorem q1064 : (Jvm.Cond.soleField "WaterGroundsModel" "bytes") ∈ lw_all := lw_g (lw_at lw_m5 50 rfl) rfl
theorem q1065 : (Jvm.Cond.laysFinal "WaterGroundsModel" "WaterGroundsModel" "text" "[I") ∈ lw_all := lw_g (lw_at lw_m5 51 rfl) rfl
theorem q1066 : (Jvm.Cond.soleField "WaterGroundsModel" "text") ∈ lw_all := lw_g (lw_at lw_m5 52 rfl) rfl
theorem q1067 : (Jvm.Cond.lays "WaterGroundsModel" "WaterGroundsModel" "position" "I") ∈ lw_all := lw_g (lw_at lw_m5 53 rfl) rfl
theorem q1068 : (Jvm.Cond.soleField "WaterGroundsModel" "position") ∈ lw_all := lw_g (lw_at lw_m5 54 rfl) rfl
theorem q1069 : (Jvm.Cond.lays "WaterGroundsModel" "WaterGroundsModel" "tokenAt" "I") ∈ lw_all := lw_g (lw_at lw_m5 55 rfl) rfl
theorem q1070 : (Jvm.Cond.soleField "WaterGroundsModel" "tokenAt") ∈ lw_all := lw_g (lw_at lw_m5 56 rfl) rfl
theorem q1071 : (Jvm.Cond.lays "WaterGroundsModel" "WaterGroundsModel" "token" "J") ∈ lw_all := lw_g (lw_at lw_m5 57 rfl) rfl
theorem q1072 : (Jvm.Cond.soleField "WaterGroundsModel" "token") ∈ lw_all := lw_g (lw_at lw_m5 58 rfl) rfl
theorem q1073 : (Jvm.Cond.lays "WaterGroundsModel" "WaterGroundsModel" "digits" "I") ∈ lw_all := lw_g (lw_at lw_m5 59 rfl) rfl
theorem q1074 : (Jvm.Cond.soleField "WaterGroundsModel" "digits") ∈ lw_all := lw_g (lw_at lw_m5 60 rfl) rfl
theorem q1075 : (Jvm.Cond.lays "WaterGroundsModel" "WaterGroundsModel" "number" "I") ∈ lw_all := lw_g (lw_at lw_m5 61 rfl) rfl
theorem q1076 : (Jvm.Cond.soleField "WaterGroundsModel" "number") ∈ lw_all := lw_g (lw_at lw_m5 62 rfl) rfl
theorem q1077 : (Jvm.Cond.lays "WaterGroundsModel" "WaterGroundsModel" "faultAt" "I") ∈ lw_all := lw_g (lw_at lw_m5 63 rfl) rfl
theorem q1078 : (Jvm.Cond.soleField "WaterGroundsModel" "faultAt") ∈ lw_all := lw_g (lw_at lw_m5 64 rfl) rfl
theorem q1079 : (Jvm.Cond.lays "WaterGroundsModel" "WaterGroundsModel" "readMany" "I") ∈ lw_all := lw_g (lw_at lw_m5 65 rfl) rfl
theorem q1080 : (Jvm.Cond.soleField "WaterGroundsModel" "readMany") ∈ lw_all := lw_g (lw_at lw_m5 66 rfl) rfl
theorem q1081 : (Jvm.Cond.laysFinal "WaterGroundsModel" "WaterGroundsModel" "read" "[I") ∈ lw_all := lw_g (lw_at lw_m5 67 rfl) rfl
theorem q1082 : (Jvm.Cond.soleField "WaterGroundsModel" "read") ∈ lw_all := lw_g (lw_at lw_m5 68 rfl) rfl
theorem q1083 : (Jvm.Cond.lays "WaterGroundsModel" "WaterGroundsModel" "readRings" "I") ∈ lw_all := lw_g (lw_at lw_m5 69 rfl) rfl
theorem q1084 : (Jvm.Cond.soleField "WaterGroundsModel" "readRings") ∈ lw_all := lw_g (lw_at lw_m5 70 rfl) rfl
theorem q1085 : (Jvm.Cond.lays "WaterGroundsModel" "WaterGroundsModel" "readLayers" "I") ∈ lw_all := lw_g (lw_at lw_m5 71 rfl) rfl
theorem q1086 : (Jvm.Cond.soleField "WaterGroundsModel" "readLayers") ∈ lw_all := lw_g (lw_at lw_m5 72 rfl) rfl
theorem q1087 : (Jvm.Cond.laysFinal "WaterGroundsModel" "WaterGroundsModel" "brew" "[I") ∈ lw_all := lw_g (lw_at lw_m5 73 rfl) rfl
theorem q1088 : (Jvm.Cond.soleField "WaterGroundsModel" "brew") ∈ lw_all := lw_g (lw_at lw_m5 74 rfl) rfl
theorem q1089 : (Jvm.Cond.laysFinal "WaterGroundsModel" "WaterGroundsModel" "aside" "[I") ∈ lw_all := lw_g (lw_at lw_m5 75 rfl) rfl
theorem q1090 : (Jvm.Cond.soleField "WaterGroundsModel" "aside") ∈ lw_all := lw_g (lw_at lw_m5 76 rfl) rfl
theorem q1091 : (Jvm.Cond.laysFinal "WaterGroundsModel" "WaterGroundsModel" "image" "[I") ∈ lw_all := lw_g (lw_at lw_m5 77 rfl) rfl
theorem q1092 : (Jvm.Cond.soleField "WaterGroundsModel" "image") ∈ lw_all := lw_g (lw_at lw_m5 78 rfl) rfl
theorem q1093 : (Jvm.Cond.laysFinal "WaterGroundsModel" "WaterGroundsModel" "isKept" "[Z") ∈ lw_all := lw_g (lw_at lw_m5 79 rfl) rfl
theorem q1094 : (Jvm.Cond.soleField "WaterGroundsModel" "isKept") ∈ lw_all := lw_g (lw_at lw_m5 80 rfl) rfl
theorem q1095 : (Jvm.Cond.laysFinal "WaterGroundsModel" "WaterGroundsModel" "more" "[I") ∈ lw_all := lw_g (lw_at lw_m5 81 rfl) rfl
theorem q1096 : (Jvm.Cond.soleField "WaterGroundsModel" "more") ∈ lw_all := lw_g (lw_at lw_m5 82 rfl) rfl
theorem q1097 : (Jvm.Cond.laysFinal "WaterGroundsModel" "WaterGroundsModel" "row" "[I") ∈ lw_all := lw_g (lw_at lw_m5 83 rfl) rfl
theorem q1098 : (Jvm.Cond.soleField "WaterGroundsModel" "row") ∈ lw_all := lw_g (lw_at lw_m5 84 rfl) rfl
theorem q1099 : (Jvm.Cond.laysFinal "WaterGroundsModel" "WaterGroundsModel" "rights" "[I") ∈ lw_all := lw_g (lw_at lw_m5 85 rfl) rfl
theorem q1100 : (Jvm.Cond.soleField "WaterGroundsModel" "rights") ∈ lw_all := lw_g (lw_at lw_m5 86 rfl) rfl
theorem q1101 : (Jvm.Cond.lays "WaterGroundsModel" "WaterGroundsModel" "strongOf" "I") ∈ lw_all := lw_g (lw_at lw_m5 87 rfl) rfl
theorem q1102 : (Jvm.Cond.soleField "WaterGroundsModel" "strongOf") ∈ lw_all := lw_g (lw_at lw_m5 88 rfl) rfl
theorem q1103 : (Jvm.Cond.lays "WaterGroundsModel" "WaterGroundsModel" "outOf" "I") ∈ lw_all := lw_g (lw_at lw_m5 89 rfl) rfl
theorem q1104 : (Jvm.Cond.soleField "WaterGroundsModel" "outOf") ∈ lw_all := lw_g (lw_at lw_m5 90 rfl) rfl
theorem q1105 : (Jvm.Cond.lays "WaterGroundsModel" "WaterGroundsModel" "unevenOf" "I") ∈ lw_all := lw_g (lw_at lw_m5 91 rfl) rfl
theorem q1106 : (Jvm.Cond.soleField "WaterGroundsModel" "unevenOf") ∈ lw_all := lw_g (lw_at lw_m5 92 rfl) rfl
theorem q1107 : (Jvm.Cond.lays "WaterGroundsModel" "WaterGroundsModel" "ranOf" "I") ∈ lw_all := lw_g (lw_at lw_m5 93 rfl) rfl
theorem q1108 : (Jvm.Cond.soleField "WaterGroundsModel" "ranOf") ∈ lw_all := lw_g (lw_at lw_m5 94 rfl) rfl
theorem q1109 : (Jvm.Cond.lays "WaterGroundsModel" "WaterGroundsModel" "runsOf" "I") ∈ lw_all := lw_g (lw_at lw_m5 95 rfl) rfl
theorem q1110 : (Jvm.Cond.soleField "WaterGroundsModel" "runsOf") ∈ lw_all := lw_g (lw_at lw_m5 96 rfl) rfl
theorem q1111 : (Jvm.Cond.superclass "WaterGroundsModel" "java/lang/Object") ∈ lw_all := lw_g (lw_at lw_m5 97 rfl) rfl
theorem q1114 : (Jvm.Cond.instanceMethod ({ cls := "WaterGroundsModel", name := "write", desc := "(JI)I" } : Jvm.MethodName)) ∈ lw_all := lw_g (lw_at lw_m5 100 rfl) rfl
theorem q1115 : (Jvm.Cond.selects "WaterGroundsModel" ({ cls := "WaterGroundsModel", name := "write", desc := "(JI)I" } : Jvm.MethodName) ({ cls := "WaterGroundsModel", name := "write", desc := "(JI)I" } : Jvm.MethodName)) ∈ lw_all := lw_g (lw_at lw_m5 101 rfl) rfl
theorem q1116 : (Jvm.Cond.code ({ cls := "WaterGroundsModel", name := "write", desc := "(JI)I" } : Jvm.MethodName) prog_17_method_3_code (5 : Nat) (Option.some Jvm.ClassFile.FieldType.int)) ∈ lw_all := lw_g (lw_at lw_m5 102 rfl) rfl
theorem q1117 : (Jvm.Cond.methodLink "WaterGroundsModel" (90 : Nat) ({ cls := "WaterGroundsModel", name := "in", desc := "(III)Z" } : Jvm.MethodName)) ∈ lw_all := lw_g (lw_at lw_m5 103 rfl) rfl
theorem q1118 : (Jvm.Cond.static ({ cls := "WaterGroundsModel", name := "in", desc := "(III)Z" } : Jvm.MethodName)) ∈ lw_all := lw_g (lw_at lw_m5 104 rfl) rfl
theorem q1119 : (Jvm.Cond.code ({ cls := "WaterGroundsModel", name := "in", desc := "(III)Z" } : Jvm.MethodName) prog_17_method_2_code (3 : Nat) (Option.some Jvm.ClassFile.FieldType.boolean)) ∈ lw_all := lw_g (lw_at lw_m5 105 rfl) rfl
theorem q1120 : (Jvm.Cond.constantLong "WaterGroundsModel" (97 : Nat) (255 : Int64)) ∈ lw_all := lw_g (lw_at lw_m5 106 rfl) rfl
theorem q1122 : (Jvm.Cond.instanceMethod ({ cls := "WaterGroundsModel", name := "erase", desc := "()I" } : Jvm.MethodName)) ∈ lw_all := lw_g (lw_at lw_m5 108 rfl) rfl
theorem q1123 : (Jvm.Cond.selects "WaterGroundsModel" ({ cls := "WaterGroundsModel", name := "erase", desc := "()I" } : Jvm.MethodName) ({ cls := "WaterGroundsModel", name := "erase", desc := "()I" } : Jvm.MethodName)) ∈ lw_all := lw_g (lw_at lw_m5 109 rfl) rfl
theorem q1124 : (Jvm.Cond.code ({ cls := "WaterGroundsModel", name := "erase", desc := "()I" } : Jvm.MethodName) prog_17_method_4_code (2 : Nat) (Option.some Jvm.ClassFile.FieldType.int)) ∈ lw_all := lw_g (lw_at lw_m5 110 rfl) rfl
theorem q1126 : (Jvm.Cond.instanceMethod ({ cls := "WaterGroundsModel", name := "fault", desc := "()I" } : Jvm.MethodName)) ∈ lw_all := lw_g (lw_at lw_m5 112 rfl) rfl
theorem q1127 : (Jvm.Cond.selects "WaterGroundsModel" ({ cls := "WaterGroundsModel", name := "fault", desc := "()I" } : Jvm.MethodName) ({ cls := "WaterGroundsModel", name := "fault", desc := "()I" } : Jvm.MethodName)) ∈ lw_all := lw_g (lw_at lw_m5 113 rfl) rfl
theorem q1128 : (Jvm.Cond.code ({ cls := "WaterGroundsModel", name := "fault", desc := "()I" } : Jvm.MethodName) prog_17_method_13_code (1 : Nat) (Option.some Jvm.ClassFile.FieldType.int)) ∈ lw_all := lw_g (lw_at lw_m5 114 rfl) rfl
theorem q1129 : (Jvm.Cond.methodLink "WaterGroundsModel" (193 : Nat) ({ cls := "WaterGroundsModel", name := "isRead", desc := "()Z" } : Jvm.MethodName)) ∈ lw_all := lw_g (lw_at lw_m5 115 rfl) rfl
theorem q1130 : (Jvm.Cond.privateMethod ({ cls := "WaterGroundsModel", name := "isRead", desc := "()Z" } : Jvm.MethodName)) ∈ lw_tbl := lw_at lw_m5 116 rfl
theorem q1131 : (Jvm.Cond.instanceMethod ({ cls := "WaterGroundsModel", name := "isRead", desc := "()Z" } : Jvm.MethodName)) ∈ lw_all := lw_g (lw_at lw_m5 117 rfl) rfl
theorem q1132 : (Jvm.Cond.code ({ cls := "WaterGroundsModel", name := "isRead", desc := "()Z" } : Jvm.MethodName) prog_17_method_12_code (2 : Nat) (Option.some Jvm.ClassFile.FieldType.boolean)) ∈ lw_all := lw_g (lw_at lw_m5 118 rfl) rfl
theorem q1133 : (Jvm.Cond.methodLink "WaterGroundsModel" (190 : Nat) ({ cls := "WaterGroundsModel", name := "isLine", desc := "(I)Z" } : Jvm.MethodName)) ∈ lw_all := lw_g (lw_at lw_m5 119 rfl) rfl
theorem q1134 : (Jvm.Cond.privateMethod ({ cls := "WaterGroundsModel", name := "isLine", desc := "(I)Z" } : Jvm.MethodName)) ∈ lw_tbl := lw_at lw_m5 120 rfl
theorem q1135 : (Jvm.Cond.instanceMethod ({ cls := "WaterGroundsModel", name := "isLine", desc := "(I)Z" } : Jvm.MethodName)) ∈ lw_all := lw_g (lw_at lw_m5 121 rfl) rfl
theorem q1136 : (Jvm.Cond.code ({ cls := "WaterGroundsModel", name := "isLine", desc := "(I)Z" } : Jvm.MethodName) prog_17_method_11_code (4 : Nat) (Option.some Jvm.ClassFile.FieldType.boolean)) ∈ lw_all := lw_g (lw_at lw_m5 122 rfl) rfl
theorem q1137 : (Jvm.Cond.methodLink "WaterGroundsModel" (130 : Nat) ({ cls := "WaterGroundsModel", name := "nextToken", desc := "()V" } : Jvm.MethodName)) ∈ lw_all := lw_g (lw_at lw_m5 123 rfl) rfl
theorem q1138 : (Jvm.Cond.privateMethod ({ cls := "WaterGroundsModel", name := "nextToken", desc := "()V" } : Jvm.MethodName)) ∈ lw_tbl := lw_at lw_m5 124 rfl
theorem q1139 : (Jvm.Cond.instanceMethod ({ cls := "WaterGroundsModel", name := "nextToken", desc := "()V" } : Jvm.MethodName)) ∈ lw_all := lw_g (lw_at lw_m5 125 rfl) rfl
theorem q1140 : (Jvm.Cond.code ({ cls := "WaterGroundsModel", name := "nextToken", desc := "()V" } : Jvm.MethodName) prog_17_method_5_code (1 : Nat) (Option.none : Option Jvm.ClassFile.FieldType)) ∈ lw_all := lw_g (lw_at lw_m5 126 rfl) rfl
theorem q1141 : (Jvm.Cond.constantLong "WaterGroundsModel" (111 : Nat) (-2 : Int64)) ∈ lw_all := lw_g (lw_at lw_m5 127 rfl) rfl
theorem q1142 : (Jvm.Cond.constantLong "WaterGroundsModel" (117 : Nat) (27 : Int64)) ∈ lw_all := lw_g (lw_at lw_m5 128 rfl) rfl
theorem q1143 : (Jvm.Cond.constantLong "WaterGroundsModel" (119 : Nat) (96 : Int64)) ∈ lw_all := lw_g (lw_at lw_m5 129 rfl) rfl
theorem q1144 : (Jvm.Cond.constantLong "WaterGroundsModel" (121 : Nat) (-4 : Int64)) ∈ lw_all := lw_g (lw_at lw_m5 130 rfl) rfl
theorem q1145 : (Jvm.Cond.constantLong "WaterGroundsModel" (123 : Nat) (-1 : Int64)) ∈ lw_all := lw_g (lw_at lw_m5 131 rfl) rfl
theorem q1146 : (Jvm.Cond.constantLong "WaterGroundsModel" (125 : Nat) (-3 : Int64)) ∈ lw_all := lw_g (lw_at lw_m5 132 rfl) rfl
theorem q1147 : (Jvm.Cond.constantLong "WaterGroundsModel" (146 : Nat) (1597 : Int64)) ∈ lw_all := lw_g (lw_at lw_m5 133 rfl) rfl
theorem q1148 : (Jvm.Cond.constantLong "WaterGroundsModel" (148 : Nat) (10506516 : Int64)) ∈ lw_all := lw_g (lw_at lw_m5 134 rfl) rfl
theorem q1149 : (Jvm.Cond.constantLong "WaterGroundsModel" (150 : Nat) (355568 : Int64)) ∈ lw_all := lw_g (lw_at lw_m5 135 rfl) rfl
theorem q1150 : (Jvm.Cond.constantLong "WaterGroundsModel" (152 : Nat) (6683990 : Int64)) ∈ lw_all := lw_g (lw_at lw_m5 136 rfl) rfl
theorem q1151 : (Jvm.Cond.constantLong "WaterGroundsModel" (154 : Nat) (10334396 : Int64)) ∈ lw_all := lw_g (lw_at lw_m5 137 rfl) rfl
theorem q1152 : (Jvm.Cond.constantLong "WaterGroundsModel" (156 : Nat) (10811306 : Int64)) ∈ lw_all := lw_g (lw_at lw_m5 138 rfl) rfl
theorem q1153 : (Jvm.Cond.constantLong "WaterGroundsModel" (158 : Nat) (380651 : Int64)) ∈ lw_all := lw_g (lw_at lw_m5 139 rfl) rfl
theorem q1154 : (Jvm.Cond.constantLong "WaterGroundsModel" (160 : Nat) (13703 : Int64)) ∈ lw_all := lw_g (lw_at lw_m5 140 rfl) rfl
theorem q1155 : (Jvm.Cond.constantLong "WaterGroundsModel" (162 : Nat) (326448 : Int64)) ∈ lw_all := lw_g (lw_at lw_m5 141 rfl) rfl
theorem q1156 : (Jvm.Cond.constantLong "WaterGroundsModel" (164 : Nat) (10497936 : Int64)) ∈ lw_all := lw_g (lw_at lw_m5 142 rfl) rfl
theorem q1157 : (Jvm.Cond.constantLong "WaterGroundsModel" (166 : Nat) (262776 : Int64)) ∈ lw_all := lw_g (lw_at lw_m5 143 rfl) rfl
theorem q1158 : (Jvm.Cond.constantLong "WaterGroundsModel" (168 : Nat) (453937 : Int64)) ∈ lw_all := lw_g (lw_at lw_m5 144 rfl) rfl
theorem q1159 : (Jvm.Cond.constantLong "WaterGroundsModel" (170 : Nat) (4075480 : Int64)) ∈ lw_all := lw_g (lw_at lw_m5 145 rfl) rfl
theorem q1160 : (Jvm.Cond.constantLong "WaterGroundsModel" (172 : Nat) (10808470 : Int64)) ∈ lw_all := lw_g (lw_at lw_m5 146 rfl) rfl
theorem q1161 : (Jvm.Cond.constantLong "WaterGroundsModel" (174 : Nat) (1753022 : Int64)) ∈ lw_all := lw_g (lw_at lw_m5 147 rfl) rfl
theorem q1162 : (Jvm.Cond.methodLink "WaterGroundsModel" (176 : Nat) ({ cls := "WaterGroundsModel", name := "isBed", desc := "(I)Z" } : Jvm.MethodName)) ∈ lw_all := lw_g (lw_at lw_m5 148 rfl) rfl
theorem q1163 : (Jvm.Cond.privateMethod ({ cls := "WaterGroundsModel", name := "isBed", desc := "(I)Z" } : Jvm.MethodName)) ∈ lw_tbl := lw_at lw_m5 149 rfl
theorem q1164 : (Jvm.Cond.instanceMethod ({ cls := "WaterGroundsModel", name := "isBed", desc := "(I)Z" } : Jvm.MethodName)) ∈ lw_all := lw_g (lw_at lw_m5 150 rfl) rfl
theorem q1165 : (Jvm.Cond.code ({ cls := "WaterGroundsModel", name := "isBed", desc := "(I)Z" } : Jvm.MethodName) prog_17_method_9_code (2 : Nat) (Option.some Jvm.ClassFile.FieldType.boolean)) ∈ lw_all := lw_g (lw_at lw_m5 151 rfl) rfl
theorem q1166 : (Jvm.Cond.methodLink "WaterGroundsModel" (137 : Nat) ({ cls := "WaterGroundsModel", name := "isNumber", desc := "(III)Z" } : Jvm.MethodName)) ∈ lw_all := lw_g (lw_at lw_m5 152 rfl) rfl
theorem q1167 : (Jvm.Cond.privateMethod ({ cls := "WaterGroundsModel", name := "isNumber", desc := "(III)Z" } : Jvm.MethodName)) ∈ lw_tbl := lw_at lw_m5 153 rfl
theorem q1168 : (Jvm.Cond.instanceMethod ({ cls := "WaterGroundsModel", name := "isNumber", desc := "(III)Z" } : Jvm.MethodName)) ∈ lw_all := lw_g (lw_at lw_m5 154 rfl) rfl
theorem q1169 : (Jvm.Cond.code ({ cls := "WaterGroundsModel", name := "isNumber", desc := "(III)Z" } : Jvm.MethodName) prog_17_method_7_code (4 : Nat) (Option.some Jvm.ClassFile.FieldType.boolean)) ∈ lw_all := lw_g (lw_at lw_m5 155 rfl) rfl
theorem q1170 : (Jvm.Cond.methodLink "WaterGroundsModel" (133 : Nat) ({ cls := "WaterGroundsModel", name := "fails", desc := "()Z" } : Jvm.MethodName)) ∈ lw_all := lw_g (lw_at lw_m5 156 rfl) rfl
theorem q1171 : (Jvm.Cond.privateMethod ({ cls := "WaterGroundsModel", name := "fails", desc := "()Z" } : Jvm.MethodName)) ∈ lw_tbl := lw_at lw_m5 157 rfl
theorem q1172 : (Jvm.Cond.instanceMethod ({ cls := "WaterGroundsModel", name := "fails", desc := "()Z" } : Jvm.MethodName)) ∈ lw_all := lw_g (lw_at lw_m5 158 rfl) rfl
theorem q1173 : (Jvm.Cond.code ({ cls := "WaterGroundsModel", name := "fails", desc := "()Z" } : Jvm.MethodName) prog_17_method_6_code (1 : Nat) (Option.some Jvm.ClassFile.FieldType.boolean)) ∈ lw_all := lw_g (lw_at lw_m5 159 rfl) rfl
theorem q1174 : (Jvm.Cond.methodLink "WaterGroundsModel" (180 : Nat) ({ cls := "WaterGroundsModel", name := "areThree", desc := "(II)Z" } : Jvm.MethodName)) ∈ lw_all := lw_g (lw_at lw_m5 160 rfl) rfl
theorem q1175 : (Jvm.Cond.privateMethod ({ cls := "WaterGroundsModel", name := "areThree", desc := "(II)Z" } : Jvm.MethodName)) ∈ lw_tbl := lw_at lw_m5 161 rfl
theorem q1176 : (Jvm.Cond.instanceMethod ({ cls := "WaterGroundsModel", name := "areThree", desc := "(II)Z" } : Jvm.MethodName)) ∈ lw_all := lw_g (lw_at lw_m5 162 rfl) rfl
theorem q1177 : (Jvm.Cond.code ({ cls := "WaterGroundsModel", name := "areThree", desc := "(II)Z" } : Jvm.MethodName) prog_17_method_8_code (3 : Nat) (Option.some Jvm.ClassFile.FieldType.boolean)) ∈ lw_all := lw_g (lw_at lw_m5 163 rfl) rfl
theorem q1178 : (Jvm.Cond.methodLink "WaterGroundsModel" (184 : Nat) ({ cls := "WaterGroundsModel", name := "isChart", desc := "(I)Z" } : Jvm.MethodName)) ∈ lw_all := lw_g (lw_at lw_m5 164 rfl) rfl
theorem q1179 : (Jvm.Cond.privateMethod ({ cls := "WaterGroundsModel", name := "isChart", desc := "(I)Z" } : Jvm.MethodName)) ∈ lw_tbl := lw_at lw_m5 165 rfl
theorem q1180 : (Jvm.Cond.instanceMethod ({ cls := "WaterGroundsModel", name := "isChart", desc := "(I)Z" } : Jvm.MethodName)) ∈ lw_all := lw_g (lw_at lw_m5 166 rfl) rfl
theorem q1181 : (Jvm.Cond.code ({ cls := "WaterGroundsModel", name := "isChart", desc := "(I)Z" } : Jvm.MethodName) prog_17_method_10_code (2 : Nat) (Option.some Jvm.ClassFile.FieldType.boolean)) ∈ lw_all := lw_g (lw_at lw_m5 167 rfl) rfl
theorem q1183 : (Jvm.Cond.instanceMethod ({ cls := "WaterGroundsModel", name := "plan", desc := "()I" } : Jvm.MethodName)) ∈ lw_all := lw_g (lw_at lw_m5 169 rfl) rfl
theorem q1184 : (Jvm.Cond.selects "WaterGroundsModel" ({ cls := "WaterGroundsModel", name := "plan", desc := "()I" } : Jvm.MethodName) ({ cls := "WaterGroundsModel", name := "plan", desc := "()I" } : Jvm.MethodName)) ∈ lw_all := lw_g (lw_at lw_m5 170 rfl) rfl
theorem q1185 : (Jvm.Cond.code ({ cls := "WaterGroundsModel", name := "plan", desc := "()I" } : Jvm.MethodName) prog_17_method_17_code (2 : Nat) (Option.some Jvm.ClassFile.FieldType.int)) ∈ lw_all := lw_g (lw_at lw_m5 171 rfl) rfl
theorem q1186 : (Jvm.Cond.methodLink "WaterGroundsModel" (210 : Nat) ({ cls := "WaterGroundsModel", name := "doLine", desc := "(I)V" } : Jvm.MethodName)) ∈ lw_all := lw_g (lw_at lw_m5 172 rfl) rfl
theorem q1187 : (Jvm.Cond.privateMethod ({ cls := "WaterGroundsModel", name := "doLine", desc := "(I)V" } : Jvm.MethodName)) ∈ lw_tbl := lw_at lw_m5 173 rfl
theorem q1188 : (Jvm.Cond.instanceMethod ({ cls := "WaterGroundsModel", name := "doLine", desc := "(I)V" } : Jvm.MethodName)) ∈ lw_all := lw_g (lw_at lw_m5 174 rfl) rfl
theorem q1189 : (Jvm.Cond.code ({ cls := "WaterGroundsModel", name := "doLine", desc := "(I)V" } : Jvm.MethodName) prog_17_method_14_code (6 : Nat) (Option.none : Option Jvm.ClassFile.FieldType)) ∈ lw_all := lw_g (lw_at lw_m5 175 rfl) rfl
theorem q1190 : (Jvm.Cond.methodLink "WaterGroundsModel" (199 : Nat) ({ cls := "WaterGroundsModel", name := "doPour", desc := "(III)V" } : Jvm.MethodName)) ∈ lw_all := lw_g (lw_at lw_m5 176 rfl) rfl
theorem q1191 : (Jvm.Cond.privateMethod ({ cls := "WaterGroundsModel", name := "doPour", desc := "(III)V" } : Jvm.MethodName)) ∈ lw_tbl := lw_at lw_m5 177 rfl
theorem q1192 : (Jvm.Cond.instanceMethod ({ cls := "WaterGroundsModel", name := "doPour", desc := "(III)V" } : Jvm.MethodName)) ∈ lw_all := lw_g (lw_at lw_m5 178 rfl) rfl
theorem q1193 : (Jvm.Cond.code ({ cls := "WaterGroundsModel", name := "doPour", desc := "(III)V" } : Jvm.MethodName) prog_17_method_15_code (4 : Nat) (Option.none : Option Jvm.ClassFile.FieldType)) ∈ lw_all := lw_g (lw_at lw_m5 179 rfl) rfl
theorem q1194 : (Jvm.Cond.methodLink "WaterGroundsModel" (203 : Nat) ({ cls := "WaterGroundsModel", name := "doOne", desc := "(II)V" } : Jvm.MethodName)) ∈ lw_all := lw_g (lw_at lw_m5 180 rfl) rfl
theorem q1195 : (Jvm.Cond.privateMethod ({ cls := "WaterGroundsModel", name := "doOne", desc := "(II)V" } : Jvm.MethodName)) ∈ lw_tbl := lw_at lw_m5 181 rfl
theorem q1196 : (Jvm.Cond.instanceMethod ({ cls := "WaterGroundsModel", name := "doOne", desc := "(II)V" } : Jvm.MethodName)) ∈ lw_all := lw_g (lw_at lw_m5 182 rfl) rfl
theorem q1197 : (Jvm.Cond.code ({ cls := "WaterGroundsModel", name := "doOne", desc := "(II)V" } : Jvm.MethodName) prog_17_method_16_code (3 : Nat) (Option.none : Option Jvm.ClassFile.FieldType)) ∈ lw_all := lw_g (lw_at lw_m5 183 rfl) rfl
theorem q1199 : (Jvm.Cond.instanceMethod ({ cls := "WaterGroundsModel", name := "stuff", desc := "(II)I" } : Jvm.MethodName)) ∈ lw_all := lw_g (lw_at lw_m5 185 rfl) rfl
theorem q1200 : (Jvm.Cond.selects "WaterGroundsModel" ({ cls := "WaterGroundsModel", name := "stuff", desc := "(II)I" } : Jvm.MethodName) ({ cls := "WaterGroundsModel", name := "stuff", desc := "(II)I" } : Jvm.MethodName)) ∈ lw_all := lw_g (lw_at lw_m5 186 rfl) rfl
theorem q1201 : (Jvm.Cond.code ({ cls := "WaterGroundsModel", name := "stuff", desc := "(II)I" } : Jvm.MethodName) prog_17_method_18_code (3 : Nat) (Option.some Jvm.ClassFile.FieldType.int)) ∈ lw_all := lw_g (lw_at lw_m5 187 rfl) rfl
theorem q1203 : (Jvm.Cond.instanceMethod ({ cls := "WaterGroundsModel", name := "pour", desc := "(II)I" } : Jvm.MethodName)) ∈ lw_all := lw_g (lw_at lw_m5 189 rfl) rfl
theorem q1204 : (Jvm.Cond.selects "WaterGroundsModel" ({ cls := "WaterGroundsModel", name := "pour", desc := "(II)I" } : Jvm.MethodName) ({ cls := "WaterGroundsModel", name := "pour", desc := "(II)I" } : Jvm.MethodName)) ∈ lw_all := lw_g (lw_at lw_m5 190 rfl) rfl
theorem q1205 : (Jvm.Cond.code ({ cls := "WaterGroundsModel", name := "pour", desc := "(II)I" } : Jvm.MethodName) prog_17_method_19_code (3 : Nat) (Option.some Jvm.ClassFile.FieldType.int)) ∈ lw_all := lw_g (lw_at lw_m5 191 rfl) rfl
theorem q1207 : (Jvm.Cond.instanceMethod ({ cls := "WaterGroundsModel", name := "brew", desc := "(I)I" } : Jvm.MethodName)) ∈ lw_all := lw_g (lw_at lw_m5 193 rfl) rfl
theorem q1208 : (Jvm.Cond.selects "WaterGroundsModel" ({ cls := "WaterGroundsModel", name := "brew", desc := "(I)I" } : Jvm.MethodName) ({ cls := "WaterGroundsModel", name := "brew", desc := "(I)I" } : Jvm.MethodName)) ∈ lw_all := lw_g (lw_at lw_m5 194 rfl) rfl
theorem q1209 : (Jvm.Cond.code ({ cls := "WaterGroundsModel", name := "brew", desc := "(I)I" } : Jvm.MethodName) prog_17_method_30_code (2 : Nat) (Option.some Jvm.ClassFile.FieldType.int)) ∈ lw_all := lw_g (lw_at lw_m5 195 rfl) rfl
theorem q1210 : (Jvm.Cond.methodLink "WaterGroundsModel" (241 : Nat) ({ cls := "WaterGroundsModel", name := "goOn", desc := "(I)I" } : Jvm.MethodName)) ∈ lw_all := lw_g (lw_at lw_m5 196 rfl) rfl
theorem q1211 : (Jvm.Cond.privateMethod ({ cls := "WaterGroundsModel", name := "goOn", desc := "(I)I" } : Jvm.MethodName)) ∈ lw_tbl := lw_at lw_m5 197 rfl
theorem q1212 : (Jvm.Cond.instanceMethod ({ cls := "WaterGroundsModel", name := "goOn", desc := "(I)I" } : Jvm.MethodName)) ∈ lw_all := lw_g (lw_at lw_m5 198 rfl) rfl
theorem q1213 : (Jvm.Cond.code ({ cls := "WaterGroundsModel", name := "goOn", desc := "(I)I" } : Jvm.MethodName) prog_17_method_29_code (3 : Nat) (Option.some Jvm.ClassFile.FieldType.int)) ∈ lw_all := lw_g (lw_at lw_m5 199 rfl) rfl
theorem q1214 : (Jvm.Cond.methodLink "WaterGroundsModel" (238 : Nat) ({ cls := "WaterGroundsModel", name := "goTick", desc := "()V" } : Jvm.MethodName)) ∈ lw_all := lw_g (lw_at lw_m5 200 rfl) rfl
theorem q1215 : (Jvm.Cond.privateMethod ({ cls := "WaterGroundsModel", name := "goTick", desc := "()V" } : Jvm.MethodName)) ∈ lw_tbl := lw_at lw_m5 201 rfl
theorem q1216 : (Jvm.Cond.instanceMethod ({ cls := "WaterGroundsModel", name := "goTick", desc := "()V" } : Jvm.MethodName)) ∈ lw_all := lw_g (lw_at lw_m5 202 rfl) rfl
theorem q1217 : (Jvm.Cond.code ({ cls := "WaterGroundsModel", name := "goTick", desc := "()V" } : Jvm.MethodName) prog_17_method_28_code (3 : Nat) (Option.none : Option Jvm.ClassFile.FieldType)) ∈ lw_all := lw_g (lw_at lw_m5 203 rfl) rfl
theorem q1218 : (Jvm.Cond.methodLink "WaterGroundsModel" (222 : Nat) ({ cls := "WaterGroundsModel", name := "give", desc := "(I)V" } : Jvm.MethodName)) ∈ lw_all := lw_g (lw_at lw_m5 204 rfl) rfl
theorem q1219 : (Jvm.Cond.privateMethod ({ cls := "WaterGroundsModel", name := "give", desc := "(I)V" } : Jvm.MethodName)) ∈ lw_tbl := lw_at lw_m5 205 rfl
theorem q1220 : (Jvm.Cond.instanceMethod ({ cls := "WaterGroundsModel", name := "give", desc := "(I)V" } : Jvm.MethodName)) ∈ lw_all := lw_g (lw_at lw_m5 206 rfl) rfl
theorem q1221 : (Jvm.Cond.code ({ cls := "WaterGroundsModel", name := "give", desc := "(I)V" } : Jvm.MethodName) prog_17_method_23_code (6 : Nat) (Option.none : Option Jvm.ClassFile.FieldType)) ∈ lw_all := lw_g (lw_at lw_m5 207 rfl) rfl
theorem q1222 : (Jvm.Cond.constantLong "WaterGroundsModel" (217 : Nat) (1000000 : Int64)) ∈ lw_all := lw_g (lw_at lw_m5 208 rfl) rfl
theorem q1223 : (Jvm.Cond.methodLink "WaterGroundsModel" (225 : Nat) ({ cls := "WaterGroundsModel", name := "clearGoings", desc := "()V" } : Jvm.MethodName)) ∈ lw_all := lw_g (lw_at lw_m5 209 rfl) rfl
theorem q1224 : (Jvm.Cond.privateMethod ({ cls := "WaterGroundsModel", name := "clearGoings", desc := "()V" } : Jvm.MethodName)) ∈ lw_tbl := lw_at lw_m5 210 rfl
theorem q1225 : (Jvm.Cond.instanceMethod ({ cls := "WaterGroundsModel", name := "clearGoings", desc := "()V" } : Jvm.MethodName)) ∈ lw_all := lw_g (lw_at lw_m5 211 rfl) rfl
theorem q1226 : (Jvm.Cond.code ({ cls := "WaterGroundsModel", name := "clearGoings", desc := "()V" } : Jvm.MethodName) prog_17_method_25_code (2 : Nat) (Option.none : Option Jvm.ClassFile.FieldType)) ∈ lw_all := lw_g (lw_at lw_m5 212 rfl) rfl
theorem q1227 : (Jvm.Cond.methodLink "WaterGroundsModel" (228 : Nat) ({ cls := "WaterGroundsModel", name := "goSide", desc := "(II)V" } : Jvm.MethodName)) ∈ lw_all := lw_g (lw_at lw_m5 213 rfl) rfl
theorem q1228 : (Jvm.Cond.privateMethod ({ cls := "WaterGroundsModel", name := "goSide", desc := "(II)V" } : Jvm.MethodName)) ∈ lw_tbl := lw_at lw_m5 214 rfl
theorem q1229 : (Jvm.Cond.instanceMethod ({ cls := "WaterGroundsModel", name := "goSide", desc := "(II)V" } : Jvm.MethodName)) ∈ lw_all := lw_g (lw_at lw_m5 215 rfl) rfl
theorem q1230 : (Jvm.Cond.code ({ cls := "WaterGroundsModel", name := "goSide", desc := "(II)V" } : Jvm.MethodName) prog_17_method_27_code (3 : Nat) (Option.none : Option Jvm.ClassFile.FieldType)) ∈ lw_all := lw_g (lw_at lw_m5 216 rfl) rfl
theorem q1231 : (Jvm.Cond.methodLink "WaterGroundsModel" (219 : Nat) ({ cls := "WaterGroundsModel", name := "goes", desc := "(III)V" } : Jvm.MethodName)) ∈ lw_all := lw_g (lw_at lw_m5 217 rfl) rfl
theorem q1232 : (Jvm.Cond.privateMethod ({ cls := "WaterGroundsModel", name := "goes", desc := "(III)V" } : Jvm.MethodName)) ∈ lw_tbl := lw_at lw_m5 218 rfl
theorem q1233 : (Jvm.Cond.instanceMethod ({ cls := "WaterGroundsModel", name := "goes", desc := "(III)V" } : Jvm.MethodName)) ∈ lw_all := lw_g (lw_at lw_m5 219 rfl) rfl
theorem q1234 : (Jvm.Cond.code ({ cls := "WaterGroundsModel", name := "goes", desc := "(III)V" } : Jvm.MethodName) prog_17_method_24_code (6 : Nat) (Option.none : Option Jvm.ClassFile.FieldType)) ∈ lw_all := lw_g (lw_at lw_m5 220 rfl) rfl
theorem q1235 : (Jvm.Cond.methodLink "WaterGroundsModel" (231 : Nat) ({ cls := "WaterGroundsModel", name := "doGoings", desc := "()V" } : Jvm.MethodName)) ∈ lw_all := lw_g (lw_at lw_m5 221 rfl) rfl
theorem q1236 : (Jvm.Cond.privateMethod ({ cls := "WaterGroundsModel", name := "doGoings", desc := "()V" } : Jvm.MethodName)) ∈ lw_tbl := lw_at lw_m5 222 rfl
theorem q1237 : (Jvm.Cond.instanceMethod ({ cls := "WaterGroundsModel", name := "doGoings", desc := "()V" } : Jvm.MethodName)) ∈ lw_all := lw_g (lw_at lw_m5 223 rfl) rfl
theorem q1238 : (Jvm.Cond.code ({ cls := "WaterGroundsModel", name := "doGoings", desc := "()V" } : Jvm.MethodName) prog_17_method_26_code (3 : Nat) (Option.none : Option Jvm.ClassFile.FieldType)) ∈ lw_all := lw_g (lw_at lw_m5 224 rfl) rfl
theorem q1239 : (Jvm.Cond.methodLink "WaterGroundsModel" (234 : Nat) ({ cls := "WaterGroundsModel", name := "looseOf", desc := "(II)I" } : Jvm.MethodName)) ∈ lw_all := lw_g (lw_at lw_m5 225 rfl) rfl
theorem q1240 : (Jvm.Cond.privateMethod ({ cls := "WaterGroundsModel", name := "looseOf", desc := "(II)I" } : Jvm.MethodName)) ∈ lw_tbl := lw_at lw_m5 226 rfl
theorem q1241 : (Jvm.Cond.instanceMethod ({ cls := "WaterGroundsModel", name := "looseOf", desc := "(II)I" } : Jvm.MethodName)) ∈ lw_all := lw_g (lw_at lw_m5 227 rfl) rfl
theorem q1242 : (Jvm.Cond.code ({ cls := "WaterGroundsModel", name := "looseOf", desc := "(II)I" } : Jvm.MethodName) prog_17_method_22_code (4 : Nat) (Option.some Jvm.ClassFile.FieldType.int)) ∈ lw_all := lw_g (lw_at lw_m5 228 rfl) rfl
theorem q1244 : (Jvm.Cond.instanceMethod ({ cls := "WaterGroundsModel", name := "again", desc := "()I" } : Jvm.MethodName)) ∈ lw_all := lw_g (lw_at lw_m5 230 rfl) rfl
theorem q1245 : (Jvm.Cond.selects "WaterGroundsModel" ({ cls := "WaterGroundsModel", name := "again", desc := "()I" } : Jvm.MethodName) ({ cls := "WaterGroundsModel", name := "again", desc := "()I" } : Jvm.MethodName)) ∈ lw_all := lw_g (lw_at lw_m5 231 rfl) rfl
theorem q1246 : (Jvm.Cond.code ({ cls := "WaterGroundsModel", name := "again", desc := "()I" } : Jvm.MethodName) prog_17_method_31_code (2 : Nat) (Option.some Jvm.ClassFile.FieldType.int)) ∈ lw_all := lw_g (lw_at lw_m5 232 rfl) rfl
theorem q1248 : (Jvm.Cond.instanceMethod ({ cls := "WaterGroundsModel", name := "cell", desc := "(III)I" } : Jvm.MethodName)) ∈ lw_all := lw_g (lw_at lw_m5 234 rfl) rfl
theorem q1249 : (Jvm.Cond.selects "WaterGroundsModel" ({ cls := "WaterGroundsModel", name := "cell", desc := "(III)I" } : Jvm.MethodName) ({ cls := "WaterGroundsModel", name := "cell", desc := "(III)I" } : Jvm.MethodName)) ∈ lw_all := lw_g (lw_at lw_m5 235 rfl) rfl
theorem q1250 : (Jvm.Cond.code ({ cls := "WaterGroundsModel", name := "cell", desc := "(III)I" } : Jvm.MethodName) prog_17_method_32_code (5 : Nat) (Option.some Jvm.ClassFile.FieldType.int)) ∈ lw_all := lw_g (lw_at lw_m5 236 rfl) rfl
theorem q1252 : (Jvm.Cond.instanceMethod ({ cls := "WaterGroundsModel", name := "cup", desc := "(I)I" } : Jvm.MethodName)) ∈ lw_all := lw_g (lw_at lw_m5 238 rfl) rfl
theorem q1253 : (Jvm.Cond.selects "WaterGroundsModel" ({ cls := "WaterGroundsModel", name := "cup", desc := "(I)I" } : Jvm.MethodName) ({ cls := "WaterGroundsModel", name := "cup", desc := "(I)I" } : Jvm.MethodName)) ∈ lw_all := lw_g (lw_at lw_m5 239 rfl) rfl
theorem q1254 : (Jvm.Cond.code ({ cls := "WaterGroundsModel", name := "cup", desc := "(I)I" } : Jvm.MethodName) prog_17_method_38_code (2 : Nat) (Option.some Jvm.ClassFile.FieldType.int)) ∈ lw_all := lw_g (lw_at lw_m6 0 rfl) rfl
theorem q1255 : (Jvm.Cond.methodLink "WaterGroundsModel" (254 : Nat) ({ cls := "WaterGroundsModel", name := "strong", desc := "()I" } : Jvm.MethodName)) ∈ lw_all := lw_g (lw_at lw_m6 1 rfl) rfl
theorem q1256 : (Jvm.Cond.privateMethod ({ cls := "WaterGroundsModel", name := "strong", desc := "()I" } : Jvm.MethodName)) ∈ lw_tbl := lw_at lw_m6 2 rfl
theorem q1257 : (Jvm.Cond.instanceMethod ({ cls := "WaterGroundsModel", name := "strong", desc := "()I" } : Jvm.MethodName)) ∈ lw_all := lw_g (lw_at lw_m6 3 rfl) rfl
theorem q1258 : (Jvm.Cond.code ({ cls := "WaterGroundsModel", name := "strong", desc := "()I" } : Jvm.MethodName) prog_17_method_34_code (2 : Nat) (Option.some Jvm.ClassFile.FieldType.int)) ∈ lw_all := lw_g (lw_at lw_m6 4 rfl) rfl
theorem q1259 : (Jvm.Cond.methodLink "WaterGroundsModel" (245 : Nat) ({ cls := "WaterGroundsModel", name := "cupStuffs", desc := "()I" } : Jvm.MethodName)) ∈ lw_all := lw_g (lw_at lw_m6 5 rfl) rfl
theorem q1260 : (Jvm.Cond.privateMethod ({ cls := "WaterGroundsModel", name := "cupStuffs", desc := "()I" } : Jvm.MethodName)) ∈ lw_tbl := lw_at lw_m6 6 rfl
theorem q1261 : (Jvm.Cond.instanceMethod ({ cls := "WaterGroundsModel", name := "cupStuffs", desc := "()I" } : Jvm.MethodName)) ∈ lw_all := lw_g (lw_at lw_m6 7 rfl) rfl
theorem q1262 : (Jvm.Cond.code ({ cls := "WaterGroundsModel", name := "cupStuffs", desc := "()I" } : Jvm.MethodName) prog_17_method_33_code (1 : Nat) (Option.some Jvm.ClassFile.FieldType.int)) ∈ lw_all := lw_g (lw_at lw_m6 8 rfl) rfl
theorem q1263 : (Jvm.Cond.constantLong "WaterGroundsModel" (249 : Nat) (1000 : Int64)) ∈ lw_all := lw_g (lw_at lw_m6 9 rfl) rfl
theorem q1264 : (Jvm.Cond.methodLink "WaterGroundsModel" (257 : Nat) ({ cls := "WaterGroundsModel", name := "out", desc := "()I" } : Jvm.MethodName)) ∈ lw_all := lw_g (lw_at lw_m6 10 rfl) rfl
theorem q1265 : (Jvm.Cond.privateMethod ({ cls := "WaterGroundsModel", name := "out", desc := "()I" } : Jvm.MethodName)) ∈ lw_tbl := lw_at lw_m6 11 rfl
theorem q1266 : (Jvm.Cond.instanceMethod ({ cls := "WaterGroundsModel", name := "out", desc := "()I" } : Jvm.MethodName)) ∈ lw_all := lw_g (lw_at lw_m6 12 rfl) rfl
theorem q1267 : (Jvm.Cond.code ({ cls := "WaterGroundsModel", name := "out", desc := "()I" } : Jvm.MethodName) prog_17_method_35_code (1 : Nat) (Option.some Jvm.ClassFile.FieldType.int)) ∈ lw_all := lw_g (lw_at lw_m6 13 rfl) rfl
theorem q1268 : (Jvm.Cond.methodLink "WaterGroundsModel" (260 : Nat) ({ cls := "WaterGroundsModel", name := "uneven", desc := "()I" } : Jvm.MethodName)) ∈ lw_all := lw_g (lw_at lw_m6 14 rfl) rfl
theorem q1269 : (Jvm.Cond.privateMethod ({ cls := "WaterGroundsModel", name := "uneven", desc := "()I" } : Jvm.MethodName)) ∈ lw_tbl := lw_at lw_m6 15 rfl
theorem q1270 : (Jvm.Cond.instanceMethod ({ cls := "WaterGroundsModel", name := "uneven", desc := "()I" } : Jvm.MethodName)) ∈ lw_all := lw_g (lw_at lw_m6 16 rfl) rfl
theorem q1271 : (Jvm.Cond.code ({ cls := "WaterGroundsModel", name := "uneven", desc := "()I" } : Jvm.MethodName) prog_17_method_37_code (6 : Nat) (Option.some Jvm.ClassFile.FieldType.int)) ∈ lw_all := lw_g (lw_at lw_m6 17 rfl) rfl
theorem q1272 : (Jvm.Cond.methodLink "WaterGroundsModel" (251 : Nat) ({ cls := "WaterGroundsModel", name := "leftIn", desc := "(I)I" } : Jvm.MethodName)) ∈ lw_all := lw_g (lw_at lw_m6 18 rfl) rfl
theorem q1273 : (Jvm.Cond.privateMethod ({ cls := "WaterGroundsModel", name := "leftIn", desc := "(I)I" } : Jvm.MethodName)) ∈ lw_tbl := lw_at lw_m6 19 rfl
theorem q1274 : (Jvm.Cond.instanceMethod ({ cls := "WaterGroundsModel", name := "leftIn", desc := "(I)I" } : Jvm.MethodName)) ∈ lw_all := lw_g (lw_at lw_m6 20 rfl) rfl
theorem q1275 : (Jvm.Cond.code ({ cls := "WaterGroundsModel", name := "leftIn", desc := "(I)I" } : Jvm.MethodName) prog_17_method_36_code (4 : Nat) (Option.some Jvm.ClassFile.FieldType.int)) ∈ lw_all := lw_g (lw_at lw_m6 21 rfl) rfl
theorem q1277 : (Jvm.Cond.instanceMethod ({ cls := "WaterGroundsModel", name := "keep", desc := "(I)I" } : Jvm.MethodName)) ∈ lw_all := lw_g (lw_at lw_m6 23 rfl) rfl
theorem q1278 : (Jvm.Cond.selects "WaterGroundsModel" ({ cls := "WaterGroundsModel", name := "keep", desc := "(I)I" } : Jvm.MethodName) ({ cls := "WaterGroundsModel", name := "keep", desc := "(I)I" } : Jvm.MethodName)) ∈ lw_all := lw_g (lw_at lw_m6 24 rfl) rfl
theorem q1279 : (Jvm.Cond.code ({ cls := "WaterGroundsModel", name := "keep", desc := "(I)I" } : Jvm.MethodName) prog_17_method_40_code (2 : Nat) (Option.some Jvm.ClassFile.FieldType.int)) ∈ lw_all := lw_g (lw_at lw_m6 25 rfl) rfl
theorem q1280 : (Jvm.Cond.methodLink "WaterGroundsModel" (263 : Nat) ({ cls := "WaterGroundsModel", name := "copy", desc := "([II[II)V" } : Jvm.MethodName)) ∈ lw_all := lw_g (lw_at lw_m6 26 rfl) rfl
theorem q1281 : (Jvm.Cond.static ({ cls := "WaterGroundsModel", name := "copy", desc := "([II[II)V" } : Jvm.MethodName)) ∈ lw_all := lw_g (lw_at lw_m6 27 rfl) rfl
theorem q1282 : (Jvm.Cond.code ({ cls := "WaterGroundsModel", name := "copy", desc := "([II[II)V" } : Jvm.MethodName) prog_17_method_39_code (5 : Nat) (Option.none : Option Jvm.ClassFile.FieldType)) ∈ lw_all := lw_g (lw_at lw_m6 28 rfl) rfl
theorem q1284 : (Jvm.Cond.instanceMethod ({ cls := "WaterGroundsModel", name := "back", desc := "(I)I" } : Jvm.MethodName)) ∈ lw_all := lw_g (lw_at lw_m6 30 rfl) rfl
theorem q1285 : (Jvm.Cond.selects "WaterGroundsModel" ({ cls := "WaterGroundsModel", name := "back", desc := "(I)I" } : Jvm.MethodName) ({ cls := "WaterGroundsModel", name := "back", desc := "(I)I" } : Jvm.MethodName)) ∈ lw_all := lw_g (lw_at lw_m6 31 rfl) rfl
theorem q1286 : (Jvm.Cond.code ({ cls := "WaterGroundsModel", name := "back", desc := "(I)I" } : Jvm.MethodName) prog_17_method_41_code (2 : Nat) (Option.some Jvm.ClassFile.FieldType.int)) ∈ lw_all := lw_g (lw_at lw_m6 32 rfl) rfl
theorem q1288 : (Jvm.Cond.instanceMethod ({ cls := "WaterGroundsModel", name := "taste", desc := "(I)I" } : Jvm.MethodName)) ∈ lw_all := lw_g (lw_at lw_m6 34 rfl) rfl
theorem q1289 : (Jvm.Cond.selects "WaterGroundsModel" ({ cls := "WaterGroundsModel", name := "taste", desc := "(I)I" } : Jvm.MethodName) ({ cls := "WaterGroundsModel", name := "taste", desc := "(I)I" } : Jvm.MethodName)) ∈ lw_all := lw_g (lw_at lw_m6 35 rfl) rfl
theorem q1290 : (Jvm.Cond.code ({ cls := "WaterGroundsModel", name := "taste", desc := "(I)I" } : Jvm.MethodName) prog_17_method_45_code (3 : Nat) (Option.some Jvm.ClassFile.FieldType.int)) ∈ lw_all := lw_g (lw_at lw_m6 36 rfl) rfl
theorem q1291 : (Jvm.Cond.methodLink "WaterGroundsModel" (289 : Nat) ({ cls := "WaterGroundsModel", name := "tasteNow", desc := "()I" } : Jvm.MethodName)) ∈ lw_all := lw_g (lw_at lw_m6 37 rfl) rfl
theorem q1292 : (Jvm.Cond.privateMethod ({ cls := "WaterGroundsModel", name := "tasteNow", desc := "()I" } : Jvm.MethodName)) ∈ lw_tbl := lw_at lw_m6 38 rfl
theorem q1293 : (Jvm.Cond.instanceMethod ({ cls := "WaterGroundsModel", name := "tasteNow", desc := "()I" } : Jvm.MethodName)) ∈ lw_all := lw_g (lw_at lw_m6 39 rfl) rfl
theorem q1294 : (Jvm.Cond.code ({ cls := "WaterGroundsModel", name := "tasteNow", desc := "()I" } : Jvm.MethodName) prog_17_method_42_code (3 : Nat) (Option.some Jvm.ClassFile.FieldType.int)) ∈ lw_all := lw_g (lw_at lw_m6 40 rfl) rfl
theorem q1295 : (Jvm.Cond.methodLink "WaterGroundsModel" (282 : Nat) ({ cls := "WaterGroundsModel", name := "partLeft", desc := "(I)J" } : Jvm.MethodName)) ∈ lw_all := lw_g (lw_at lw_m6 41 rfl) rfl
theorem q1296 : (Jvm.Cond.privateMethod ({ cls := "WaterGroundsModel", name := "partLeft", desc := "(I)J" } : Jvm.MethodName)) ∈ lw_tbl := lw_at lw_m6 42 rfl
theorem q1297 : (Jvm.Cond.instanceMethod ({ cls := "WaterGroundsModel", name := "partLeft", desc := "(I)J" } : Jvm.MethodName)) ∈ lw_all := lw_g (lw_at lw_m6 43 rfl) rfl
theorem q1298 : (Jvm.Cond.code ({ cls := "WaterGroundsModel", name := "partLeft", desc := "(I)J" } : Jvm.MethodName) prog_17_method_43_code (2 : Nat) (Option.some Jvm.ClassFile.FieldType.long)) ∈ lw_all := lw_g (lw_at lw_m6 44 rfl) rfl
theorem q1299 : (Jvm.Cond.methodLink "WaterGroundsModel" (286 : Nat) ({ cls := "WaterGroundsModel", name := "allIn", desc := "(I)J" } : Jvm.MethodName)) ∈ lw_all := lw_g (lw_at lw_m6 45 rfl) rfl
theorem q1300 : (Jvm.Cond.privateMethod ({ cls := "WaterGroundsModel", name := "allIn", desc := "(I)J" } : Jvm.MethodName)) ∈ lw_tbl := lw_at lw_m6 46 rfl
theorem q1301 : (Jvm.Cond.instanceMethod ({ cls := "WaterGroundsModel", name := "allIn", desc := "(I)J" } : Jvm.MethodName)) ∈ lw_all := lw_g (lw_at lw_m6 47 rfl) rfl
theorem q1302 : (Jvm.Cond.code ({ cls := "WaterGroundsModel", name := "allIn", desc := "(I)J" } : Jvm.MethodName) prog_17_method_44_code (2 : Nat) (Option.some Jvm.ClassFile.FieldType.long)) ∈ lw_all := lw_g (lw_at lw_m6 48 rfl) rfl
theorem q1304 : (Jvm.Cond.instanceMethod ({ cls := "WaterGroundsModel", name := "knob", desc := "(I)I" } : Jvm.MethodName)) ∈ lw_all := lw_g (lw_at lw_m6 50 rfl) rfl
theorem q1305 : (Jvm.Cond.selects "WaterGroundsModel" ({ cls := "WaterGroundsModel", name := "knob", desc := "(I)I" } : Jvm.MethodName) ({ cls := "WaterGroundsModel", name := "knob", desc := "(I)I" } : Jvm.MethodName)) ∈ lw_all := lw_g (lw_at lw_m6 51 rfl) rfl
theorem q1306 : (Jvm.Cond.code ({ cls := "WaterGroundsModel", name := "knob", desc := "(I)I" } : Jvm.MethodName) prog_17_method_47_code (3 : Nat) (Option.some Jvm.ClassFile.FieldType.int)) ∈ lw_all := lw_g (lw_at lw_m6 52 rfl) rfl
theorem q1307 : (Jvm.Cond.methodLink "WaterGroundsModel" (292 : Nat) ({ cls := "WaterGroundsModel", name := "isTurned", desc := "(II)Z" } : Jvm.MethodName)) ∈ lw_all := lw_g (lw_at lw_m6 53 rfl) rfl
theorem q1308 : (Jvm.Cond.privateMethod ({ cls := "WaterGroundsModel", name := "isTurned", desc := "(II)Z" } : Jvm.MethodName)) ∈ lw_tbl := lw_at lw_m6 54 rfl
theorem q1309 : (Jvm.Cond.instanceMethod ({ cls := "WaterGroundsModel", name := "isTurned", desc := "(II)Z" } : Jvm.MethodName)) ∈ lw_all := lw_g (lw_at lw_m6 55 rfl) rfl
theorem q1310 : (Jvm.Cond.code ({ cls := "WaterGroundsModel", name := "isTurned", desc := "(II)Z" } : Jvm.MethodName) prog_17_method_46_code (4 : Nat) (Option.some Jvm.ClassFile.FieldType.boolean)) ∈ lw_all := lw_g (lw_at lw_m6 56 rfl) rfl
theorem q1312 : (Jvm.Cond.instanceMethod ({ cls := "WaterGroundsModel", name := "right", desc := "(I)I" } : Jvm.MethodName)) ∈ lw_all := lw_g (lw_at lw_m6 58 rfl) rfl
theorem q1313 : (Jvm.Cond.selects "WaterGroundsModel" ({ cls := "WaterGroundsModel", name := "right", desc := "(I)I" } : Jvm.MethodName) ({ cls := "WaterGroundsModel", name := "right", desc := "(I)I" } : Jvm.MethodName)) ∈ lw_all := lw_g (lw_at lw_m6 59 rfl) rfl
theorem q1314 : (Jvm.Cond.code ({ cls := "WaterGroundsModel", name := "right", desc := "(I)I" } : Jvm.MethodName) prog_17_method_49_code (4 : Nat) (Option.some Jvm.ClassFile.FieldType.int)) ∈ lw_all := lw_g (lw_at lw_m6 60 rfl) rfl
theorem q1315 : (Jvm.Cond.methodLink "WaterGroundsModel" (295 : Nat) ({ cls := "WaterGroundsModel", name := "findRight", desc := "(I)Z" } : Jvm.MethodName)) ∈ lw_all := lw_g (lw_at lw_m6 61 rfl) rfl
theorem q1316 : (Jvm.Cond.privateMethod ({ cls := "WaterGroundsModel", name := "findRight", desc := "(I)Z" } : Jvm.MethodName)) ∈ lw_tbl := lw_at lw_m6 62 rfl
theorem q1317 : (Jvm.Cond.instanceMethod ({ cls := "WaterGroundsModel", name := "findRight", desc := "(I)Z" } : Jvm.MethodName)) ∈ lw_all := lw_g (lw_at lw_m6 63 rfl) rfl
theorem q1318 : (Jvm.Cond.code ({ cls := "WaterGroundsModel", name := "findRight", desc := "(I)Z" } : Jvm.MethodName) prog_17_method_48_code (8 : Nat) (Option.some Jvm.ClassFile.FieldType.boolean)) ∈ lw_all := lw_g (lw_at lw_m6 64 rfl) rfl
theorem q1320 : (Jvm.Cond.instanceMethod ({ cls := "WaterGroundsModel", name := "broad", desc := "(I)I" } : Jvm.MethodName)) ∈ lw_all := lw_g (lw_at lw_m6 66 rfl) rfl
theorem q1321 : (Jvm.Cond.selects "WaterGroundsModel" ({ cls := "WaterGroundsModel", name := "broad", desc := "(I)I" } : Jvm.MethodName) ({ cls := "WaterGroundsModel", name := "broad", desc := "(I)I" } : Jvm.MethodName)) ∈ lw_all := lw_g (lw_at lw_m6 67 rfl) rfl
theorem q1322 : (Jvm.Cond.code ({ cls := "WaterGroundsModel", name := "broad", desc := "(I)I" } : Jvm.MethodName) prog_17_method_51_code (9 : Nat) (Option.some Jvm.ClassFile.FieldType.int)) ∈ lw_all := lw_g (lw_at lw_m6 68 rfl) rfl
theorem q1323 : (Jvm.Cond.methodLink "WaterGroundsModel" (298 : Nat) ({ cls := "WaterGroundsModel", name := "layRights", desc := "()V" } : Jvm.MethodName)) ∈ lw_all := lw_g (lw_at lw_m6 69 rfl) rfl
theorem q1324 : (Jvm.Cond.privateMethod ({ cls := "WaterGroundsModel", name := "layRights", desc := "()V" } : Jvm.MethodName)) ∈ lw_tbl := lw_at lw_m6 70 rfl
theorem q1325 : (Jvm.Cond.instanceMethod ({ cls := "WaterGroundsModel", name := "layRights", desc := "()V" } : Jvm.MethodName)) ∈ lw_all := lw_g (lw_at lw_m6 71 rfl) rfl
theorem q1326 : (Jvm.Cond.code ({ cls := "WaterGroundsModel", name := "layRights", desc := "()V" } : Jvm.MethodName) prog_17_method_50_code (4 : Nat) (Option.none : Option Jvm.ClassFile.FieldType)) ∈ lw_all := lw_g (lw_at lw_m6 72 rfl) rfl
theorem q1328 : (Jvm.Cond.instanceMethod ({ cls := "WaterGroundsModel", name := "takes", desc := "(II)I" } : Jvm.MethodName)) ∈ lw_all := lw_g (lw_at lw_m6 74 rfl) rfl
theorem q1329 : (Jvm.Cond.selects "WaterGroundsModel" ({ cls := "WaterGroundsModel", name := "takes", desc := "(II)I" } : Jvm.MethodName) ({ cls := "WaterGroundsModel", name := "takes", desc := "(II)I" } : Jvm.MethodName)) ∈ lw_all := lw_g (lw_at lw_m6 75 rfl) rfl
theorem q1330 : (Jvm.Cond.code ({ cls := "WaterGroundsModel", name := "takes", desc := "(II)I" } : Jvm.MethodName) prog_17_method_52_code (6 : Nat) (Option.some Jvm.ClassFile.FieldType.int)) ∈ lw_all := lw_g (lw_at lw_m6 76 rfl) rfl
theorem q1332 : (Jvm.Cond.instanceMethod ({ cls := "WaterGroundsModel", name := "little", desc := "()I" } : Jvm.MethodName)) ∈ lw_all := lw_g (lw_at lw_m6 78 rfl) rfl
theorem q1333 : (Jvm.Cond.selects "WaterGroundsModel" ({ cls := "WaterGroundsModel", name := "little", desc := "()I" } : Jvm.MethodName) ({ cls := "WaterGroundsModel", name := "little", desc := "()I" } : Jvm.MethodName)) ∈ lw_all := lw_g (lw_at lw_m6 79 rfl) rfl
theorem q1334 : (Jvm.Cond.code ({ cls := "WaterGroundsModel", name := "little", desc := "()I" } : Jvm.MethodName) prog_17_method_53_code (4 : Nat) (Option.some Jvm.ClassFile.FieldType.int)) ∈ lw_all := lw_g (lw_at lw_m6 80 rfl) rfl
theorem q1336 : (Jvm.Cond.instanceMethod ({ cls := "WaterGroundsModel", name := "ran", desc := "()I" } : Jvm.MethodName)) ∈ lw_all := lw_g (lw_at lw_m6 82 rfl) rfl
theorem q1337 : (Jvm.Cond.selects "WaterGroundsModel" ({ cls := "WaterGroundsModel", name := "ran", desc := "()I" } : Jvm.MethodName) ({ cls := "WaterGroundsModel", name := "ran", desc := "()I" } : Jvm.MethodName)) ∈ lw_all := lw_g (lw_at lw_m6 83 rfl) rfl
theorem q1338 : (Jvm.Cond.code ({ cls := "WaterGroundsModel", name := "ran", desc := "()I" } : Jvm.MethodName) prog_17_method_54_code (1 : Nat) (Option.some Jvm.ClassFile.FieldType.int)) ∈ lw_all := lw_g (lw_at lw_m6 84 rfl) rfl
theorem q1340 : (Jvm.Cond.instanceMethod ({ cls := "WaterGroundsModel", name := "runs", desc := "()I" } : Jvm.MethodName)) ∈ lw_all := lw_g (lw_at lw_m6 86 rfl) rfl
theorem q1341 : (Jvm.Cond.selects "WaterGroundsModel" ({ cls := "WaterGroundsModel", name := "runs", desc := "()I" } : Jvm.MethodName) ({ cls := "WaterGroundsModel", name := "runs", desc := "()I" } : Jvm.MethodName)) ∈ lw_all := lw_g (lw_at lw_m6 87 rfl) rfl
theorem q1342 : (Jvm.Cond.code ({ cls := "WaterGroundsModel", name := "runs", desc := "()I" } : Jvm.MethodName) prog_17_method_55_code (1 : Nat) (Option.some Jvm.ClassFile.FieldType.int)) ∈ lw_all := lw_g (lw_at lw_m6 88 rfl) rfl
theorem q1344 : (Jvm.Cond.instanceMethod ({ cls := "WaterGroundsModel", name := "blind", desc := "(IIII)J" } : Jvm.MethodName)) ∈ lw_all := lw_g (lw_at lw_m6 90 rfl) rfl
theorem q1345 : (Jvm.Cond.selects "WaterGroundsModel" ({ cls := "WaterGroundsModel", name := "blind", desc := "(IIII)J" } : Jvm.MethodName) ({ cls := "WaterGroundsModel", name := "blind", desc := "(IIII)J" } : Jvm.MethodName)) ∈ lw_all := lw_g (lw_at lw_m6 91 rfl) rfl
theorem q1346 : (Jvm.Cond.code ({ cls := "WaterGroundsModel", name := "blind", desc := "(IIII)J" } : Jvm.MethodName) prog_17_method_56_code (15 : Nat) (Option.some Jvm.ClassFile.FieldType.long)) ∈ lw_all := lw_g (lw_at lw_m6 92 rfl) rfl
theorem q1347 : (Jvm.Cond.constantLong "WaterGroundsModel" (301 : Nat) (10 : Int64)) ∈ lw_all := lw_g (lw_at lw_m6 93 rfl) rfl
theorem q1349 : (Jvm.Cond.instanceMethod ({ cls := "WaterGroundsModel", name := "count", desc := "(I)I" } : Jvm.MethodName)) ∈ lw_all := lw_g (lw_at lw_m6 95 rfl) rfl
theorem q1350 : (Jvm.Cond.selects "WaterGroundsModel" ({ cls := "WaterGroundsModel", name := "count", desc := "(I)I" } : Jvm.MethodName) ({ cls := "WaterGroundsModel", name := "count", desc := "(I)I" } : Jvm.MethodName)) ∈ lw_all := lw_g (lw_at lw_m6 96 rfl) rfl
theorem q1351 : (Jvm.Cond.code ({ cls := "WaterGroundsModel", name := "count", desc := "(I)I" } : Jvm.MethodName) prog_17_method_57_code (2 : Nat) (Option.some Jvm.ClassFile.FieldType.int)) ∈ lw_all := lw_g (lw_at lw_m6 97 rfl) rfl
theorem in_X8 : ∀ w ∈ wsX80, w ∈ lw_all := lw_in wsX80 [1027, 1029, 1031, 1033, 1035, 1037, 1039, 1041, 1043, 1045, 1047, 1049, 1051, 1053, 1055, 1057, 1059, 1061, 1063, 1065, 1067, 1069, 1071, 1073, 1075, 1077, 1079, 1081, 1083, 1085, 1087, 1089, 1091, 1093, 1095, 1097, 1099, 1101, 1103, 1105, 1107, 1109] (by decide +kernel) (by decide +kernel)
