/-! WaterGrounds -/
set_option maxRecDepth 100000
def RX0 : String := "WaterGrounds"
def TX0 : u_T := fun k => match k with
  | 0 => ("WaterGrounds", "rings", "I", false)
  | 1 => ("WaterGrounds", "layers", "I", false)
  | 2 => ("WaterGrounds", "stuffs", "[I", false)
  | 3 => ("WaterGrounds", "rates", "[I", false)
  | 4 => ("WaterGrounds", "loose", "[I", false)
  | 5 => ("WaterGrounds", "looser", "[[I", true)
  | 6 => ("WaterGrounds", "side", "I", false)
  | 7 => ("WaterGrounds", "run", "I", false)
  | 8 => ("WaterGrounds", "mill", "I", false)
  | 9 => ("WaterGrounds", "warm", "I", false)
  | 10 => ("WaterGrounds", "grams", "I", false)
  | 11 => ("WaterGrounds", "ticks", "I", false)
  | 12 => ("WaterGrounds", "chart", "[I", false)
  | 13 => ("WaterGrounds", "pours", "[[I", true)
  | 14 => ("WaterGrounds", "pourMany", "I", false)
  | 15 => ("WaterGrounds", "bed", "LWaterGrounds$Bed;", true)
  | 16 => ("WaterGrounds", "kept", "[LWaterGrounds$Bed;", true)
  | 17 => ("WaterGrounds", "keptSet", "I", false)
  | 18 => ("WaterGrounds", "trial", "LWaterGrounds$Bed;", true)
  | 19 => ("WaterGrounds", "text", "[B", true)
  | 20 => ("WaterGrounds", "length", "I", false)
  | 21 => ("WaterGrounds", "reader", "LWaterGrounds$Reader;", true)
  | 22 => ("WaterGrounds", "plain", "LWaterGrounds$Brew;", true)
  | 23 => ("WaterGrounds", "turned", "LWaterGrounds$Turned;", true)
  | 24 => ("WaterGrounds", "tried", "LWaterGrounds$Tried;", true)
  | _ => ("WaterGrounds", "rights", "[[I", true)
def tyX0 : Nat → FieldType := fun k => match k with
  | 0 => .int
  | 1 => .int
  | 2 => .array .int
  | 3 => .array .int
  | 4 => .array .int
  | 5 => .array (.array .int)
  | 6 => .int
  | 7 => .int
  | 8 => .int
  | 9 => .int
  | 10 => .int
  | 11 => .int
  | 12 => .array .int
  | 13 => .array (.array .int)
  | 14 => .int
  | 15 => .object "WaterGrounds$Bed"
  | 16 => .array (.object "WaterGrounds$Bed")
  | 17 => .int
  | 18 => .object "WaterGrounds$Bed"
  | 19 => .array .byte
  | 20 => .int
  | 21 => .object "WaterGrounds$Reader"
  | 22 => .object "WaterGrounds$Brew"
  | 23 => .object "WaterGrounds$Turned"
  | 24 => .object "WaterGrounds$Tried"
  | _ => .array (.array .int)
abbrev wsX00 : List Cond := u_ws RX0 TX0 26
set_option maxRecDepth 100000 in
theorem nmX0 : ∀ a, a < 26 → ∀ b, b < 26 → a ≠ b → (TX0 a).2.1 ≠ (TX0 b).2.1 := by decide +kernel
set_option maxRecDepth 100000 in
theorem tyX0_ok : ∀ k, k < 26 → parseFieldDescriptor (TX0 k).2.2.1 = some (tyX0 k) := by decide +kernel
abbrev cX0_init : ByteArray := prog_1_method_2_code
def yX0_init : MethodName := ⟨RX0, "<init>", "()V"⟩
def dkwX0_init_12 : List UInt8 := [42, 180, 0, 40, 182, 0, 103, 177]
abbrev dktX0_init_12 : List UInt8 := dkwX0_init_12 ++ []
def dkwX0_init_11 : List UInt8 := [89, 42, 183, 0, 95, 181, 0, 96, 42, 16, 11, 16, 11, 197, 0, 26, 2, 181, 0, 100, 42, 180, 0, 57]
abbrev dktX0_init_11 : List UInt8 := dkwX0_init_11 ++ dktX0_init_12
def dkwX0_init_10 : List UInt8 := [89, 42, 183, 0, 81, 181, 0, 82, 42, 187, 0, 86, 89, 42, 183, 0, 88, 181, 0, 89, 42, 187, 0, 93]
abbrev dktX0_init_10 : List UInt8 := dkwX0_init_10 ++ dktX0_init_11
def dkwX0_init_9 : List UInt8 := [17, 0, 200, 188, 8, 181, 0, 68, 42, 187, 0, 72, 89, 42, 183, 0, 74, 181, 0, 75, 42, 187, 0, 79]
abbrev dktX0_init_9 : List UInt8 := dkwX0_init_9 ++ dktX0_init_10
def dkwX0_init_8 : List UInt8 := [89, 42, 183, 0, 54, 83, 181, 0, 61, 42, 187, 0, 52, 89, 42, 183, 0, 54, 181, 0, 65, 42]
abbrev dktX0_init_8 : List UInt8 := dkwX0_init_8 ++ dktX0_init_9
def dkwX0_init_7 : List UInt8 := [181, 0, 57, 42, 5, 189, 0, 52, 89, 3, 187, 0, 52, 89, 42, 183, 0, 54, 83, 89, 4, 187, 0, 52]
abbrev dktX0_init_7 : List UInt8 := dkwX0_init_7 ++ dktX0_init_8
def dkwX0_init_6 : List UInt8 := [79, 181, 0, 46, 42, 16, 12, 6, 197, 0, 26, 2, 181, 0, 49, 42, 187, 0, 52, 89, 42, 183, 0, 54]
abbrev dktX0_init_6 : List UInt8 := dkwX0_init_6 ++ dktX0_init_7
def dkwX0_init_5 : List UInt8 := [16, 60, 79, 89, 4, 16, 120, 79, 89, 5, 17, 0, 180, 79, 89, 6, 17, 0, 220, 79, 89, 7, 16, 50]
abbrev dktX0_init_5 : List UInt8 := dkwX0_init_5 ++ dktX0_init_6
def dkwX0_init_4 : List UInt8 := [42, 16, 90, 181, 0, 37, 42, 8, 181, 0, 40, 42, 16, 30, 181, 0, 43, 42, 8, 188, 10, 89, 3]
abbrev dktX0_init_4 : List UInt8 := dkwX0_init_4 ++ dktX0_init_5
def dkwX0_init_3 : List UInt8 := [79, 181, 0, 23, 42, 7, 7, 197, 0, 26, 2, 181, 0, 28, 42, 8, 181, 0, 31, 42, 8, 181, 0, 34]
abbrev dktX0_init_3 : List UInt8 := dkwX0_init_3 ++ dktX0_init_4
def dkwX0_init_2 : List UInt8 := [16, 20, 79, 89, 5, 16, 8, 79, 181, 0, 20, 42, 5, 188, 10, 89, 3, 16, 10, 79, 89, 4, 16, 6]
abbrev dktX0_init_2 : List UInt8 := dkwX0_init_2 ++ dktX0_init_3
def dkwX0_init_1 : List UInt8 := [4, 16, 20, 79, 89, 5, 16, 30, 79, 181, 0, 16, 42, 6, 188, 10, 89, 3, 16, 40, 79, 89, 4]
abbrev dktX0_init_1 : List UInt8 := dkwX0_init_1 ++ dktX0_init_2
def dkwX0_init_0 : List UInt8 := [42, 183, 0, 1, 42, 5, 181, 0, 7, 42, 5, 181, 0, 13, 42, 6, 188, 10, 89, 3, 16, 10, 79, 89]
abbrev dktX0_init_0 : List UInt8 := dkwX0_init_0 ++ dktX0_init_1
theorem dksX0_init_0 : cX0_init.data.toList.drop 0 = dktX0_init_0 := by decide +kernel
theorem dksX0_init_1 : cX0_init.data.toList.drop 24 = dktX0_init_1 := dk_seg dksX0_init_0 24 rfl rfl
theorem dksX0_init_2 : cX0_init.data.toList.drop 47 = dktX0_init_2 := dk_seg dksX0_init_1 23 rfl rfl
theorem dksX0_init_3 : cX0_init.data.toList.drop 71 = dktX0_init_3 := dk_seg dksX0_init_2 24 rfl rfl
theorem dksX0_init_4 : cX0_init.data.toList.drop 95 = dktX0_init_4 := dk_seg dksX0_init_3 24 rfl rfl
theorem dksX0_init_5 : cX0_init.data.toList.drop 118 = dktX0_init_5 := dk_seg dksX0_init_4 23 rfl rfl
theorem dksX0_init_6 : cX0_init.data.toList.drop 142 = dktX0_init_6 := dk_seg dksX0_init_5 24 rfl rfl
theorem dksX0_init_7 : cX0_init.data.toList.drop 166 = dktX0_init_7 := dk_seg dksX0_init_6 24 rfl rfl
theorem dksX0_init_8 : cX0_init.data.toList.drop 190 = dktX0_init_8 := dk_seg dksX0_init_7 24 rfl rfl
theorem dksX0_init_9 : cX0_init.data.toList.drop 212 = dktX0_init_9 := dk_seg dksX0_init_8 22 rfl rfl
theorem dksX0_init_10 : cX0_init.data.toList.drop 236 = dktX0_init_10 := dk_seg dksX0_init_9 24 rfl rfl
theorem dksX0_init_11 : cX0_init.data.toList.drop 260 = dktX0_init_11 := dk_seg dksX0_init_10 24 rfl rfl
theorem dksX0_init_12 : cX0_init.data.toList.drop 284 = dktX0_init_12 := dk_seg dksX0_init_11 24 rfl rfl
theorem dX0_init_0 : decode cX0_init 0 = .ok (.aload_n 0, 1) := dk_42 (dk_at dksX0_init_0 0 rfl rfl)
theorem dX0_init_1 : decode cX0_init 1 = .ok (.invokespecial 1, 3) := dk_183 0 1 (dk_at dksX0_init_0 1 rfl rfl)
theorem dX0_init_4 : decode cX0_init 4 = .ok (.aload_n 0, 1) := dk_42 (dk_at dksX0_init_0 4 rfl rfl)
theorem dX0_init_5 : decode cX0_init 5 = .ok (.iconst 2, 1) := dk_5 (dk_at dksX0_init_0 5 rfl rfl)
theorem dX0_init_6 : decode cX0_init 6 = .ok (.putfield 7, 3) := dk_181 0 7 (dk_at dksX0_init_0 6 rfl rfl)
theorem dX0_init_9 : decode cX0_init 9 = .ok (.aload_n 0, 1) := dk_42 (dk_at dksX0_init_0 9 rfl rfl)
theorem dX0_init_10 : decode cX0_init 10 = .ok (.iconst 2, 1) := dk_5 (dk_at dksX0_init_0 10 rfl rfl)
theorem dX0_init_11 : decode cX0_init 11 = .ok (.putfield 13, 3) := dk_181 0 13 (dk_at dksX0_init_0 11 rfl rfl)
theorem dX0_init_14 : decode cX0_init 14 = .ok (.aload_n 0, 1) := dk_42 (dk_at dksX0_init_0 14 rfl rfl)
theorem dX0_init_15 : decode cX0_init 15 = .ok (.iconst 3, 1) := dk_6 (dk_at dksX0_init_0 15 rfl rfl)
theorem dX0_init_16 : decode cX0_init 16 = .ok (.newarray .int, 2) := dk_188_10 (dk_at dksX0_init_0 16 rfl rfl)
theorem dX0_init_18 : decode cX0_init 18 = .ok (.dup, 1) := dk_89 (dk_at dksX0_init_0 18 rfl rfl)
theorem dX0_init_19 : decode cX0_init 19 = .ok (.iconst 0, 1) := dk_3 (dk_at dksX0_init_0 19 rfl rfl)
theorem dX0_init_20 : decode cX0_init 20 = .ok (.bipush 10, 2) := dk_16 10 (dk_at dksX0_init_0 20 rfl rfl)
theorem dX0_init_22 : decode cX0_init 22 = .ok (.iastore, 1) := dk_79 (dk_at dksX0_init_0 22 rfl rfl)
theorem dX0_init_23 : decode cX0_init 23 = .ok (.dup, 1) := dk_89 (dk_at dksX0_init_0 23 rfl rfl)
theorem dX0_init_24 : decode cX0_init 24 = .ok (.iconst 1, 1) := dk_4 (dk_at dksX0_init_1 0 rfl rfl)
theorem dX0_init_25 : decode cX0_init 25 = .ok (.bipush 20, 2) := dk_16 20 (dk_at dksX0_init_1 1 rfl rfl)
theorem dX0_init_27 : decode cX0_init 27 = .ok (.iastore, 1) := dk_79 (dk_at dksX0_init_1 3 rfl rfl)
theorem dX0_init_28 : decode cX0_init 28 = .ok (.dup, 1) := dk_89 (dk_at dksX0_init_1 4 rfl rfl)
theorem dX0_init_29 : decode cX0_init 29 = .ok (.iconst 2, 1) := dk_5 (dk_at dksX0_init_1 5 rfl rfl)
theorem dX0_init_30 : decode cX0_init 30 = .ok (.bipush 30, 2) := dk_16 30 (dk_at dksX0_init_1 6 rfl rfl)
theorem dX0_init_32 : decode cX0_init 32 = .ok (.iastore, 1) := dk_79 (dk_at dksX0_init_1 8 rfl rfl)
theorem dX0_init_33 : decode cX0_init 33 = .ok (.putfield 16, 3) := dk_181 0 16 (dk_at dksX0_init_1 9 rfl rfl)
theorem dX0_init_36 : decode cX0_init 36 = .ok (.aload_n 0, 1) := dk_42 (dk_at dksX0_init_1 12 rfl rfl)
theorem dX0_init_37 : decode cX0_init 37 = .ok (.iconst 3, 1) := dk_6 (dk_at dksX0_init_1 13 rfl rfl)
theorem dX0_init_38 : decode cX0_init 38 = .ok (.newarray .int, 2) := dk_188_10 (dk_at dksX0_init_1 14 rfl rfl)
theorem dX0_init_40 : decode cX0_init 40 = .ok (.dup, 1) := dk_89 (dk_at dksX0_init_1 16 rfl rfl)
theorem dX0_init_41 : decode cX0_init 41 = .ok (.iconst 0, 1) := dk_3 (dk_at dksX0_init_1 17 rfl rfl)
theorem dX0_init_42 : decode cX0_init 42 = .ok (.bipush 40, 2) := dk_16 40 (dk_at dksX0_init_1 18 rfl rfl)
theorem dX0_init_44 : decode cX0_init 44 = .ok (.iastore, 1) := dk_79 (dk_at dksX0_init_1 20 rfl rfl)
theorem dX0_init_45 : decode cX0_init 45 = .ok (.dup, 1) := dk_89 (dk_at dksX0_init_1 21 rfl rfl)
theorem dX0_init_46 : decode cX0_init 46 = .ok (.iconst 1, 1) := dk_4 (dk_at dksX0_init_1 22 rfl rfl)
theorem dX0_init_47 : decode cX0_init 47 = .ok (.bipush 20, 2) := dk_16 20 (dk_at dksX0_init_2 0 rfl rfl)
theorem dX0_init_49 : decode cX0_init 49 = .ok (.iastore, 1) := dk_79 (dk_at dksX0_init_2 2 rfl rfl)
theorem dX0_init_50 : decode cX0_init 50 = .ok (.dup, 1) := dk_89 (dk_at dksX0_init_2 3 rfl rfl)
theorem dX0_init_51 : decode cX0_init 51 = .ok (.iconst 2, 1) := dk_5 (dk_at dksX0_init_2 4 rfl rfl)
theorem dX0_init_52 : decode cX0_init 52 = .ok (.bipush 8, 2) := dk_16 8 (dk_at dksX0_init_2 5 rfl rfl)
theorem dX0_init_54 : decode cX0_init 54 = .ok (.iastore, 1) := dk_79 (dk_at dksX0_init_2 7 rfl rfl)
theorem dX0_init_55 : decode cX0_init 55 = .ok (.putfield 20, 3) := dk_181 0 20 (dk_at dksX0_init_2 8 rfl rfl)
theorem dX0_init_58 : decode cX0_init 58 = .ok (.aload_n 0, 1) := dk_42 (dk_at dksX0_init_2 11 rfl rfl)
theorem dX0_init_59 : decode cX0_init 59 = .ok (.iconst 2, 1) := dk_5 (dk_at dksX0_init_2 12 rfl rfl)
theorem dX0_init_60 : decode cX0_init 60 = .ok (.newarray .int, 2) := dk_188_10 (dk_at dksX0_init_2 13 rfl rfl)
theorem dX0_init_62 : decode cX0_init 62 = .ok (.dup, 1) := dk_89 (dk_at dksX0_init_2 15 rfl rfl)
theorem dX0_init_63 : decode cX0_init 63 = .ok (.iconst 0, 1) := dk_3 (dk_at dksX0_init_2 16 rfl rfl)
theorem dX0_init_64 : decode cX0_init 64 = .ok (.bipush 10, 2) := dk_16 10 (dk_at dksX0_init_2 17 rfl rfl)
theorem dX0_init_66 : decode cX0_init 66 = .ok (.iastore, 1) := dk_79 (dk_at dksX0_init_2 19 rfl rfl)
theorem dX0_init_67 : decode cX0_init 67 = .ok (.dup, 1) := dk_89 (dk_at dksX0_init_2 20 rfl rfl)
theorem dX0_init_68 : decode cX0_init 68 = .ok (.iconst 1, 1) := dk_4 (dk_at dksX0_init_2 21 rfl rfl)
theorem dX0_init_69 : decode cX0_init 69 = .ok (.bipush 6, 2) := dk_16 6 (dk_at dksX0_init_2 22 rfl rfl)
theorem dX0_init_71 : decode cX0_init 71 = .ok (.iastore, 1) := dk_79 (dk_at dksX0_init_3 0 rfl rfl)
theorem dX0_init_72 : decode cX0_init 72 = .ok (.putfield 23, 3) := dk_181 0 23 (dk_at dksX0_init_3 1 rfl rfl)
theorem dX0_init_75 : decode cX0_init 75 = .ok (.aload_n 0, 1) := dk_42 (dk_at dksX0_init_3 4 rfl rfl)
theorem dX0_init_76 : decode cX0_init 76 = .ok (.iconst 4, 1) := dk_7 (dk_at dksX0_init_3 5 rfl rfl)
theorem dX0_init_77 : decode cX0_init 77 = .ok (.iconst 4, 1) := dk_7 (dk_at dksX0_init_3 6 rfl rfl)
theorem dX0_init_78 : decode cX0_init 78 = .ok (.multianewarray 26 2, 4) := by decide +kernel
theorem dX0_init_82 : decode cX0_init 82 = .ok (.putfield 28, 3) := dk_181 0 28 (dk_at dksX0_init_3 11 rfl rfl)
theorem dX0_init_85 : decode cX0_init 85 = .ok (.aload_n 0, 1) := dk_42 (dk_at dksX0_init_3 14 rfl rfl)
theorem dX0_init_86 : decode cX0_init 86 = .ok (.iconst 5, 1) := dk_8 (dk_at dksX0_init_3 15 rfl rfl)
theorem dX0_init_87 : decode cX0_init 87 = .ok (.putfield 31, 3) := dk_181 0 31 (dk_at dksX0_init_3 16 rfl rfl)
theorem dX0_init_90 : decode cX0_init 90 = .ok (.aload_n 0, 1) := dk_42 (dk_at dksX0_init_3 19 rfl rfl)
theorem dX0_init_91 : decode cX0_init 91 = .ok (.iconst 5, 1) := dk_8 (dk_at dksX0_init_3 20 rfl rfl)
theorem dX0_init_92 : decode cX0_init 92 = .ok (.putfield 34, 3) := dk_181 0 34 (dk_at dksX0_init_3 21 rfl rfl)
theorem dX0_init_95 : decode cX0_init 95 = .ok (.aload_n 0, 1) := dk_42 (dk_at dksX0_init_4 0 rfl rfl)
theorem dX0_init_96 : decode cX0_init 96 = .ok (.bipush 90, 2) := dk_16 90 (dk_at dksX0_init_4 1 rfl rfl)
theorem dX0_init_98 : decode cX0_init 98 = .ok (.putfield 37, 3) := dk_181 0 37 (dk_at dksX0_init_4 3 rfl rfl)
theorem dX0_init_101 : decode cX0_init 101 = .ok (.aload_n 0, 1) := dk_42 (dk_at dksX0_init_4 6 rfl rfl)
theorem dX0_init_102 : decode cX0_init 102 = .ok (.iconst 5, 1) := dk_8 (dk_at dksX0_init_4 7 rfl rfl)
theorem dX0_init_103 : decode cX0_init 103 = .ok (.putfield 40, 3) := dk_181 0 40 (dk_at dksX0_init_4 8 rfl rfl)
theorem dX0_init_106 : decode cX0_init 106 = .ok (.aload_n 0, 1) := dk_42 (dk_at dksX0_init_4 11 rfl rfl)
theorem dX0_init_107 : decode cX0_init 107 = .ok (.bipush 30, 2) := dk_16 30 (dk_at dksX0_init_4 12 rfl rfl)
theorem dX0_init_109 : decode cX0_init 109 = .ok (.putfield 43, 3) := dk_181 0 43 (dk_at dksX0_init_4 14 rfl rfl)
theorem dX0_init_112 : decode cX0_init 112 = .ok (.aload_n 0, 1) := dk_42 (dk_at dksX0_init_4 17 rfl rfl)
theorem dX0_init_113 : decode cX0_init 113 = .ok (.iconst 5, 1) := dk_8 (dk_at dksX0_init_4 18 rfl rfl)
theorem dX0_init_114 : decode cX0_init 114 = .ok (.newarray .int, 2) := dk_188_10 (dk_at dksX0_init_4 19 rfl rfl)
theorem dX0_init_116 : decode cX0_init 116 = .ok (.dup, 1) := dk_89 (dk_at dksX0_init_4 21 rfl rfl)
theorem dX0_init_117 : decode cX0_init 117 = .ok (.iconst 0, 1) := dk_3 (dk_at dksX0_init_4 22 rfl rfl)
theorem dX0_init_118 : decode cX0_init 118 = .ok (.bipush 60, 2) := dk_16 60 (dk_at dksX0_init_5 0 rfl rfl)
theorem dX0_init_120 : decode cX0_init 120 = .ok (.iastore, 1) := dk_79 (dk_at dksX0_init_5 2 rfl rfl)
theorem dX0_init_121 : decode cX0_init 121 = .ok (.dup, 1) := dk_89 (dk_at dksX0_init_5 3 rfl rfl)
theorem dX0_init_122 : decode cX0_init 122 = .ok (.iconst 1, 1) := dk_4 (dk_at dksX0_init_5 4 rfl rfl)
theorem dX0_init_123 : decode cX0_init 123 = .ok (.bipush 120, 2) := dk_16 120 (dk_at dksX0_init_5 5 rfl rfl)
theorem dX0_init_125 : decode cX0_init 125 = .ok (.iastore, 1) := dk_79 (dk_at dksX0_init_5 7 rfl rfl)
theorem dX0_init_126 : decode cX0_init 126 = .ok (.dup, 1) := dk_89 (dk_at dksX0_init_5 8 rfl rfl)
theorem dX0_init_127 : decode cX0_init 127 = .ok (.iconst 2, 1) := dk_5 (dk_at dksX0_init_5 9 rfl rfl)
theorem dX0_init_128 : decode cX0_init 128 = .ok (.sipush 180, 3) := dk_17 0 180 (dk_at dksX0_init_5 10 rfl rfl)
theorem dX0_init_131 : decode cX0_init 131 = .ok (.iastore, 1) := dk_79 (dk_at dksX0_init_5 13 rfl rfl)
theorem dX0_init_132 : decode cX0_init 132 = .ok (.dup, 1) := dk_89 (dk_at dksX0_init_5 14 rfl rfl)
theorem dX0_init_133 : decode cX0_init 133 = .ok (.iconst 3, 1) := dk_6 (dk_at dksX0_init_5 15 rfl rfl)
theorem dX0_init_134 : decode cX0_init 134 = .ok (.sipush 220, 3) := dk_17 0 220 (dk_at dksX0_init_5 16 rfl rfl)
theorem dX0_init_137 : decode cX0_init 137 = .ok (.iastore, 1) := dk_79 (dk_at dksX0_init_5 19 rfl rfl)
theorem dX0_init_138 : decode cX0_init 138 = .ok (.dup, 1) := dk_89 (dk_at dksX0_init_5 20 rfl rfl)
theorem dX0_init_139 : decode cX0_init 139 = .ok (.iconst 4, 1) := dk_7 (dk_at dksX0_init_5 21 rfl rfl)
theorem dX0_init_140 : decode cX0_init 140 = .ok (.bipush 50, 2) := dk_16 50 (dk_at dksX0_init_5 22 rfl rfl)
theorem dX0_init_142 : decode cX0_init 142 = .ok (.iastore, 1) := dk_79 (dk_at dksX0_init_6 0 rfl rfl)
theorem dX0_init_143 : decode cX0_init 143 = .ok (.putfield 46, 3) := dk_181 0 46 (dk_at dksX0_init_6 1 rfl rfl)
theorem dX0_init_146 : decode cX0_init 146 = .ok (.aload_n 0, 1) := dk_42 (dk_at dksX0_init_6 4 rfl rfl)
theorem dX0_init_147 : decode cX0_init 147 = .ok (.bipush 12, 2) := dk_16 12 (dk_at dksX0_init_6 5 rfl rfl)
theorem dX0_init_149 : decode cX0_init 149 = .ok (.iconst 3, 1) := dk_6 (dk_at dksX0_init_6 7 rfl rfl)
theorem dX0_init_150 : decode cX0_init 150 = .ok (.multianewarray 26 2, 4) := by decide +kernel
theorem dX0_init_154 : decode cX0_init 154 = .ok (.putfield 49, 3) := dk_181 0 49 (dk_at dksX0_init_6 12 rfl rfl)
theorem dX0_init_157 : decode cX0_init 157 = .ok (.aload_n 0, 1) := dk_42 (dk_at dksX0_init_6 15 rfl rfl)
theorem dX0_init_158 : decode cX0_init 158 = .ok (.new 52, 3) := dk_187 0 52 (dk_at dksX0_init_6 16 rfl rfl)
theorem dX0_init_161 : decode cX0_init 161 = .ok (.dup, 1) := dk_89 (dk_at dksX0_init_6 19 rfl rfl)
theorem dX0_init_162 : decode cX0_init 162 = .ok (.aload_n 0, 1) := dk_42 (dk_at dksX0_init_6 20 rfl rfl)
theorem dX0_init_163 : decode cX0_init 163 = .ok (.invokespecial 54, 3) := dk_183 0 54 (dk_at dksX0_init_6 21 rfl rfl)
theorem dX0_init_166 : decode cX0_init 166 = .ok (.putfield 57, 3) := dk_181 0 57 (dk_at dksX0_init_7 0 rfl rfl)
theorem dX0_init_169 : decode cX0_init 169 = .ok (.aload_n 0, 1) := dk_42 (dk_at dksX0_init_7 3 rfl rfl)
theorem dX0_init_170 : decode cX0_init 170 = .ok (.iconst 2, 1) := dk_5 (dk_at dksX0_init_7 4 rfl rfl)
theorem dX0_init_171 : decode cX0_init 171 = .ok (.anewarray 52, 3) := dk_189 0 52 (dk_at dksX0_init_7 5 rfl rfl)
theorem dX0_init_174 : decode cX0_init 174 = .ok (.dup, 1) := dk_89 (dk_at dksX0_init_7 8 rfl rfl)
theorem dX0_init_175 : decode cX0_init 175 = .ok (.iconst 0, 1) := dk_3 (dk_at dksX0_init_7 9 rfl rfl)
theorem dX0_init_176 : decode cX0_init 176 = .ok (.new 52, 3) := dk_187 0 52 (dk_at dksX0_init_7 10 rfl rfl)
theorem dX0_init_179 : decode cX0_init 179 = .ok (.dup, 1) := dk_89 (dk_at dksX0_init_7 13 rfl rfl)
theorem dX0_init_180 : decode cX0_init 180 = .ok (.aload_n 0, 1) := dk_42 (dk_at dksX0_init_7 14 rfl rfl)
theorem dX0_init_181 : decode cX0_init 181 = .ok (.invokespecial 54, 3) := dk_183 0 54 (dk_at dksX0_init_7 15 rfl rfl)
theorem dX0_init_184 : decode cX0_init 184 = .ok (.aastore, 1) := dk_83 (dk_at dksX0_init_7 18 rfl rfl)
theorem dX0_init_185 : decode cX0_init 185 = .ok (.dup, 1) := dk_89 (dk_at dksX0_init_7 19 rfl rfl)
theorem dX0_init_186 : decode cX0_init 186 = .ok (.iconst 1, 1) := dk_4 (dk_at dksX0_init_7 20 rfl rfl)
theorem dX0_init_187 : decode cX0_init 187 = .ok (.new 52, 3) := dk_187 0 52 (dk_at dksX0_init_7 21 rfl rfl)
theorem dX0_init_190 : decode cX0_init 190 = .ok (.dup, 1) := dk_89 (dk_at dksX0_init_8 0 rfl rfl)
theorem dX0_init_191 : decode cX0_init 191 = .ok (.aload_n 0, 1) := dk_42 (dk_at dksX0_init_8 1 rfl rfl)
theorem dX0_init_192 : decode cX0_init 192 = .ok (.invokespecial 54, 3) := dk_183 0 54 (dk_at dksX0_init_8 2 rfl rfl)
theorem dX0_init_195 : decode cX0_init 195 = .ok (.aastore, 1) := dk_83 (dk_at dksX0_init_8 5 rfl rfl)
theorem dX0_init_196 : decode cX0_init 196 = .ok (.putfield 61, 3) := dk_181 0 61 (dk_at dksX0_init_8 6 rfl rfl)
theorem dX0_init_199 : decode cX0_init 199 = .ok (.aload_n 0, 1) := dk_42 (dk_at dksX0_init_8 9 rfl rfl)
theorem dX0_init_200 : decode cX0_init 200 = .ok (.new 52, 3) := dk_187 0 52 (dk_at dksX0_init_8 10 rfl rfl)
theorem dX0_init_203 : decode cX0_init 203 = .ok (.dup, 1) := dk_89 (dk_at dksX0_init_8 13 rfl rfl)
theorem dX0_init_204 : decode cX0_init 204 = .ok (.aload_n 0, 1) := dk_42 (dk_at dksX0_init_8 14 rfl rfl)
theorem dX0_init_205 : decode cX0_init 205 = .ok (.invokespecial 54, 3) := dk_183 0 54 (dk_at dksX0_init_8 15 rfl rfl)
theorem dX0_init_208 : decode cX0_init 208 = .ok (.putfield 65, 3) := dk_181 0 65 (dk_at dksX0_init_8 18 rfl rfl)
theorem dX0_init_211 : decode cX0_init 211 = .ok (.aload_n 0, 1) := dk_42 (dk_at dksX0_init_8 21 rfl rfl)
theorem dX0_init_212 : decode cX0_init 212 = .ok (.sipush 200, 3) := dk_17 0 200 (dk_at dksX0_init_9 0 rfl rfl)
theorem dX0_init_215 : decode cX0_init 215 = .ok (.newarray .byte, 2) := dk_188_8 (dk_at dksX0_init_9 3 rfl rfl)
theorem dX0_init_217 : decode cX0_init 217 = .ok (.putfield 68, 3) := dk_181 0 68 (dk_at dksX0_init_9 5 rfl rfl)
theorem dX0_init_220 : decode cX0_init 220 = .ok (.aload_n 0, 1) := dk_42 (dk_at dksX0_init_9 8 rfl rfl)
theorem dX0_init_221 : decode cX0_init 221 = .ok (.new 72, 3) := dk_187 0 72 (dk_at dksX0_init_9 9 rfl rfl)
theorem dX0_init_224 : decode cX0_init 224 = .ok (.dup, 1) := dk_89 (dk_at dksX0_init_9 12 rfl rfl)
theorem dX0_init_225 : decode cX0_init 225 = .ok (.aload_n 0, 1) := dk_42 (dk_at dksX0_init_9 13 rfl rfl)
theorem dX0_init_226 : decode cX0_init 226 = .ok (.invokespecial 74, 3) := dk_183 0 74 (dk_at dksX0_init_9 14 rfl rfl)
theorem dX0_init_229 : decode cX0_init 229 = .ok (.putfield 75, 3) := dk_181 0 75 (dk_at dksX0_init_9 17 rfl rfl)
theorem dX0_init_232 : decode cX0_init 232 = .ok (.aload_n 0, 1) := dk_42 (dk_at dksX0_init_9 20 rfl rfl)
theorem dX0_init_233 : decode cX0_init 233 = .ok (.new 79, 3) := dk_187 0 79 (dk_at dksX0_init_9 21 rfl rfl)
theorem dX0_init_236 : decode cX0_init 236 = .ok (.dup, 1) := dk_89 (dk_at dksX0_init_10 0 rfl rfl)
theorem dX0_init_237 : decode cX0_init 237 = .ok (.aload_n 0, 1) := dk_42 (dk_at dksX0_init_10 1 rfl rfl)
theorem dX0_init_238 : decode cX0_init 238 = .ok (.invokespecial 81, 3) := dk_183 0 81 (dk_at dksX0_init_10 2 rfl rfl)
theorem dX0_init_241 : decode cX0_init 241 = .ok (.putfield 82, 3) := dk_181 0 82 (dk_at dksX0_init_10 5 rfl rfl)
theorem dX0_init_244 : decode cX0_init 244 = .ok (.aload_n 0, 1) := dk_42 (dk_at dksX0_init_10 8 rfl rfl)
theorem dX0_init_245 : decode cX0_init 245 = .ok (.new 86, 3) := dk_187 0 86 (dk_at dksX0_init_10 9 rfl rfl)
theorem dX0_init_248 : decode cX0_init 248 = .ok (.dup, 1) := dk_89 (dk_at dksX0_init_10 12 rfl rfl)
theorem dX0_init_249 : decode cX0_init 249 = .ok (.aload_n 0, 1) := dk_42 (dk_at dksX0_init_10 13 rfl rfl)
theorem dX0_init_250 : decode cX0_init 250 = .ok (.invokespecial 88, 3) := dk_183 0 88 (dk_at dksX0_init_10 14 rfl rfl)
theorem dX0_init_253 : decode cX0_init 253 = .ok (.putfield 89, 3) := dk_181 0 89 (dk_at dksX0_init_10 17 rfl rfl)
theorem dX0_init_256 : decode cX0_init 256 = .ok (.aload_n 0, 1) := dk_42 (dk_at dksX0_init_10 20 rfl rfl)
theorem dX0_init_257 : decode cX0_init 257 = .ok (.new 93, 3) := dk_187 0 93 (dk_at dksX0_init_10 21 rfl rfl)
theorem dX0_init_260 : decode cX0_init 260 = .ok (.dup, 1) := dk_89 (dk_at dksX0_init_11 0 rfl rfl)
theorem dX0_init_261 : decode cX0_init 261 = .ok (.aload_n 0, 1) := dk_42 (dk_at dksX0_init_11 1 rfl rfl)
theorem dX0_init_262 : decode cX0_init 262 = .ok (.invokespecial 95, 3) := dk_183 0 95 (dk_at dksX0_init_11 2 rfl rfl)
theorem dX0_init_265 : decode cX0_init 265 = .ok (.putfield 96, 3) := dk_181 0 96 (dk_at dksX0_init_11 5 rfl rfl)
theorem dX0_init_268 : decode cX0_init 268 = .ok (.aload_n 0, 1) := dk_42 (dk_at dksX0_init_11 8 rfl rfl)
theorem dX0_init_269 : decode cX0_init 269 = .ok (.bipush 11, 2) := dk_16 11 (dk_at dksX0_init_11 9 rfl rfl)
theorem dX0_init_271 : decode cX0_init 271 = .ok (.bipush 11, 2) := dk_16 11 (dk_at dksX0_init_11 11 rfl rfl)
theorem dX0_init_273 : decode cX0_init 273 = .ok (.multianewarray 26 2, 4) := by decide +kernel
theorem dX0_init_277 : decode cX0_init 277 = .ok (.putfield 100, 3) := dk_181 0 100 (dk_at dksX0_init_11 17 rfl rfl)
theorem dX0_init_280 : decode cX0_init 280 = .ok (.aload_n 0, 1) := dk_42 (dk_at dksX0_init_11 20 rfl rfl)
theorem dX0_init_281 : decode cX0_init 281 = .ok (.getfield 57, 3) := dk_180 0 57 (dk_at dksX0_init_11 21 rfl rfl)
theorem dX0_init_284 : decode cX0_init 284 = .ok (.aload_n 0, 1) := dk_42 (dk_at dksX0_init_12 0 rfl rfl)
theorem dX0_init_285 : decode cX0_init 285 = .ok (.getfield 40, 3) := dk_180 0 40 (dk_at dksX0_init_12 1 rfl rfl)
theorem dX0_init_288 : decode cX0_init 288 = .ok (.invokevirtual 103, 3) := dk_182 0 103 (dk_at dksX0_init_12 4 rfl rfl)
theorem dX0_init_291 : decode cX0_init 291 = .ok (.return_, 1) := dk_177 (dk_at dksX0_init_12 7 rfl rfl)
abbrev cX0_write : ByteArray := prog_1_method_3_code
def yX0_write : MethodName := ⟨RX0, "write", "(JI)I"⟩
def dkwX0_write_3 : List UInt8 := [167, 255, 219, 42, 180, 0, 113, 172]
abbrev dktX0_write_3 : List UInt8 := dkwX0_write_3 ++ []
def dkwX0_write_2 : List UInt8 := [16, 8, 21, 4, 104, 123, 136, 145, 84, 42, 89, 180, 0, 113, 4, 96, 181, 0, 113, 132, 4, 1]
abbrev dktX0_write_2 : List UInt8 := dkwX0_write_2 ++ dktX0_write_3
def dkwX0_write_1 : List UInt8 := [164, 0, 6, 16, 251, 172, 3, 54, 4, 21, 4, 29, 162, 0, 37, 42, 180, 0, 68, 42, 180, 0, 113, 31]
abbrev dktX0_write_1 : List UInt8 := dkwX0_write_1 ++ dktX0_write_2
def dkwX0_write_0 : List UInt8 := [29, 133, 10, 20, 0, 107, 184, 0, 109, 154, 0, 6, 16, 253, 172, 42, 180, 0, 113, 29, 96, 17, 0, 200]
abbrev dktX0_write_0 : List UInt8 := dkwX0_write_0 ++ dktX0_write_1
theorem dksX0_write_0 : cX0_write.data.toList.drop 0 = dktX0_write_0 := by decide +kernel
theorem dksX0_write_1 : cX0_write.data.toList.drop 24 = dktX0_write_1 := dk_seg dksX0_write_0 24 rfl rfl
theorem dksX0_write_2 : cX0_write.data.toList.drop 48 = dktX0_write_2 := dk_seg dksX0_write_1 24 rfl rfl
theorem dksX0_write_3 : cX0_write.data.toList.drop 70 = dktX0_write_3 := dk_seg dksX0_write_2 22 rfl rfl
theorem dX0_write_0 : decode cX0_write 0 = .ok (.iload_n 3, 1) := dk_29 (dk_at dksX0_write_0 0 rfl rfl)
theorem dX0_write_1 : decode cX0_write 1 = .ok (.i2l, 1) := dk_133 (dk_at dksX0_write_0 1 rfl rfl)
theorem dX0_write_2 : decode cX0_write 2 = .ok (.lconst 1, 1) := dk_10 (dk_at dksX0_write_0 2 rfl rfl)
theorem dX0_write_3 : decode cX0_write 3 = .ok (.ldc2_w 107, 3) := dk_20 0 107 (dk_at dksX0_write_0 3 rfl rfl)
theorem dX0_write_6 : decode cX0_write 6 = .ok (.invokestatic 109, 3) := dk_184 0 109 (dk_at dksX0_write_0 6 rfl rfl)
theorem dX0_write_9 : decode cX0_write 9 = .ok (.ifCond .ne 6, 3) := dk_154 0 6 (dk_at dksX0_write_0 9 rfl rfl)
theorem dX0_write_12 : decode cX0_write 12 = .ok (.bipush (-3), 2) := dk_16 253 (dk_at dksX0_write_0 12 rfl rfl)
theorem dX0_write_14 : decode cX0_write 14 = .ok (.ireturn, 1) := dk_172 (dk_at dksX0_write_0 14 rfl rfl)
theorem dX0_write_15 : decode cX0_write 15 = .ok (.aload_n 0, 1) := dk_42 (dk_at dksX0_write_0 15 rfl rfl)
theorem dX0_write_16 : decode cX0_write 16 = .ok (.getfield 113, 3) := dk_180 0 113 (dk_at dksX0_write_0 16 rfl rfl)
theorem dX0_write_19 : decode cX0_write 19 = .ok (.iload_n 3, 1) := dk_29 (dk_at dksX0_write_0 19 rfl rfl)
theorem dX0_write_20 : decode cX0_write 20 = .ok (.iadd, 1) := dk_96 (dk_at dksX0_write_0 20 rfl rfl)
theorem dX0_write_21 : decode cX0_write 21 = .ok (.sipush 200, 3) := dk_17 0 200 (dk_at dksX0_write_0 21 rfl rfl)
theorem dX0_write_24 : decode cX0_write 24 = .ok (.if_icmp .le 6, 3) := dk_164 0 6 (dk_at dksX0_write_1 0 rfl rfl)
theorem dX0_write_27 : decode cX0_write 27 = .ok (.bipush (-5), 2) := dk_16 251 (dk_at dksX0_write_1 3 rfl rfl)
theorem dX0_write_29 : decode cX0_write 29 = .ok (.ireturn, 1) := dk_172 (dk_at dksX0_write_1 5 rfl rfl)
theorem dX0_write_30 : decode cX0_write 30 = .ok (.iconst 0, 1) := dk_3 (dk_at dksX0_write_1 6 rfl rfl)
theorem dX0_write_31 : decode cX0_write 31 = .ok (.istore 4, 2) := dk_54 4 (dk_at dksX0_write_1 7 rfl rfl)
theorem dX0_write_33 : decode cX0_write 33 = .ok (.iload 4, 2) := dk_21 4 (dk_at dksX0_write_1 9 rfl rfl)
theorem dX0_write_35 : decode cX0_write 35 = .ok (.iload_n 3, 1) := dk_29 (dk_at dksX0_write_1 11 rfl rfl)
theorem dX0_write_36 : decode cX0_write 36 = .ok (.if_icmp .ge 37, 3) := dk_162 0 37 (dk_at dksX0_write_1 12 rfl rfl)
theorem dX0_write_39 : decode cX0_write 39 = .ok (.aload_n 0, 1) := dk_42 (dk_at dksX0_write_1 15 rfl rfl)
theorem dX0_write_40 : decode cX0_write 40 = .ok (.getfield 68, 3) := dk_180 0 68 (dk_at dksX0_write_1 16 rfl rfl)
theorem dX0_write_43 : decode cX0_write 43 = .ok (.aload_n 0, 1) := dk_42 (dk_at dksX0_write_1 19 rfl rfl)
theorem dX0_write_44 : decode cX0_write 44 = .ok (.getfield 113, 3) := dk_180 0 113 (dk_at dksX0_write_1 20 rfl rfl)
theorem dX0_write_47 : decode cX0_write 47 = .ok (.lload_n 1, 1) := dk_31 (dk_at dksX0_write_1 23 rfl rfl)
theorem dX0_write_48 : decode cX0_write 48 = .ok (.bipush 8, 2) := dk_16 8 (dk_at dksX0_write_2 0 rfl rfl)
theorem dX0_write_50 : decode cX0_write 50 = .ok (.iload 4, 2) := dk_21 4 (dk_at dksX0_write_2 2 rfl rfl)
theorem dX0_write_52 : decode cX0_write 52 = .ok (.imul, 1) := dk_104 (dk_at dksX0_write_2 4 rfl rfl)
theorem dX0_write_53 : decode cX0_write 53 = .ok (.lshr, 1) := dk_123 (dk_at dksX0_write_2 5 rfl rfl)
theorem dX0_write_54 : decode cX0_write 54 = .ok (.l2i, 1) := dk_136 (dk_at dksX0_write_2 6 rfl rfl)
theorem dX0_write_55 : decode cX0_write 55 = .ok (.i2b, 1) := dk_145 (dk_at dksX0_write_2 7 rfl rfl)
theorem dX0_write_56 : decode cX0_write 56 = .ok (.bastore, 1) := dk_84 (dk_at dksX0_write_2 8 rfl rfl)
theorem dX0_write_57 : decode cX0_write 57 = .ok (.aload_n 0, 1) := dk_42 (dk_at dksX0_write_2 9 rfl rfl)
theorem dX0_write_58 : decode cX0_write 58 = .ok (.dup, 1) := dk_89 (dk_at dksX0_write_2 10 rfl rfl)
theorem dX0_write_59 : decode cX0_write 59 = .ok (.getfield 113, 3) := dk_180 0 113 (dk_at dksX0_write_2 11 rfl rfl)
theorem dX0_write_62 : decode cX0_write 62 = .ok (.iconst 1, 1) := dk_4 (dk_at dksX0_write_2 14 rfl rfl)
theorem dX0_write_63 : decode cX0_write 63 = .ok (.iadd, 1) := dk_96 (dk_at dksX0_write_2 15 rfl rfl)
theorem dX0_write_64 : decode cX0_write 64 = .ok (.putfield 113, 3) := dk_181 0 113 (dk_at dksX0_write_2 16 rfl rfl)
theorem dX0_write_67 : decode cX0_write 67 = .ok (.iinc 4 1, 3) := dk_132 4 1 (dk_at dksX0_write_2 19 rfl rfl)
theorem dX0_write_70 : decode cX0_write 70 = .ok (.goto (-37), 3) := dk_167 255 219 (dk_at dksX0_write_3 0 rfl rfl)
theorem dX0_write_73 : decode cX0_write 73 = .ok (.aload_n 0, 1) := dk_42 (dk_at dksX0_write_3 3 rfl rfl)
theorem dX0_write_74 : decode cX0_write 74 = .ok (.getfield 113, 3) := dk_180 0 113 (dk_at dksX0_write_3 4 rfl rfl)
theorem dX0_write_77 : decode cX0_write 77 = .ok (.ireturn, 1) := dk_172 (dk_at dksX0_write_3 7 rfl rfl)
abbrev cX0_isIn : ByteArray := prog_1_method_1_code
def yX0_isIn : MethodName := ⟨RX0, "isIn", "(JJJ)Z"⟩
def dkwX0_isIn_0 : List UInt8 := [30, 32, 148, 155, 0, 14, 30, 22, 4, 148, 157, 0, 7, 4, 167, 0, 4, 3, 172]
abbrev dktX0_isIn_0 : List UInt8 := dkwX0_isIn_0 ++ []
theorem dksX0_isIn_0 : cX0_isIn.data.toList.drop 0 = dktX0_isIn_0 := by decide +kernel
theorem dX0_isIn_0 : decode cX0_isIn 0 = .ok (.lload_n 0, 1) := dk_30 (dk_at dksX0_isIn_0 0 rfl rfl)
theorem dX0_isIn_1 : decode cX0_isIn 1 = .ok (.lload_n 2, 1) := dk_32 (dk_at dksX0_isIn_0 1 rfl rfl)
theorem dX0_isIn_2 : decode cX0_isIn 2 = .ok (.lcmp, 1) := dk_148 (dk_at dksX0_isIn_0 2 rfl rfl)
theorem dX0_isIn_3 : decode cX0_isIn 3 = .ok (.ifCond .lt 14, 3) := dk_155 0 14 (dk_at dksX0_isIn_0 3 rfl rfl)
theorem dX0_isIn_6 : decode cX0_isIn 6 = .ok (.lload_n 0, 1) := dk_30 (dk_at dksX0_isIn_0 6 rfl rfl)
theorem dX0_isIn_7 : decode cX0_isIn 7 = .ok (.lload 4, 2) := dk_22 4 (dk_at dksX0_isIn_0 7 rfl rfl)
theorem dX0_isIn_9 : decode cX0_isIn 9 = .ok (.lcmp, 1) := dk_148 (dk_at dksX0_isIn_0 9 rfl rfl)
theorem dX0_isIn_10 : decode cX0_isIn 10 = .ok (.ifCond .gt 7, 3) := dk_157 0 7 (dk_at dksX0_isIn_0 10 rfl rfl)
theorem dX0_isIn_13 : decode cX0_isIn 13 = .ok (.iconst 1, 1) := dk_4 (dk_at dksX0_isIn_0 13 rfl rfl)
theorem dX0_isIn_14 : decode cX0_isIn 14 = .ok (.goto 4, 3) := dk_167 0 4 (dk_at dksX0_isIn_0 14 rfl rfl)
theorem dX0_isIn_17 : decode cX0_isIn 17 = .ok (.iconst 0, 1) := dk_3 (dk_at dksX0_isIn_0 17 rfl rfl)
theorem dX0_isIn_18 : decode cX0_isIn 18 = .ok (.ireturn, 1) := dk_172 (dk_at dksX0_isIn_0 18 rfl rfl)
abbrev cX0_erase : ByteArray := prog_1_method_4_code
def yX0_erase : MethodName := ⟨RX0, "erase", "()I"⟩
def dkwX0_erase_0 : List UInt8 := [42, 180, 0, 113, 60, 42, 3, 181, 0, 113, 27, 172]
abbrev dktX0_erase_0 : List UInt8 := dkwX0_erase_0 ++ []
theorem dksX0_erase_0 : cX0_erase.data.toList.drop 0 = dktX0_erase_0 := by decide +kernel
theorem dX0_erase_0 : decode cX0_erase 0 = .ok (.aload_n 0, 1) := dk_42 (dk_at dksX0_erase_0 0 rfl rfl)
theorem dX0_erase_1 : decode cX0_erase 1 = .ok (.getfield 113, 3) := dk_180 0 113 (dk_at dksX0_erase_0 1 rfl rfl)
theorem dX0_erase_4 : decode cX0_erase 4 = .ok (.istore_n 1, 1) := dk_60 (dk_at dksX0_erase_0 4 rfl rfl)
theorem dX0_erase_5 : decode cX0_erase 5 = .ok (.aload_n 0, 1) := dk_42 (dk_at dksX0_erase_0 5 rfl rfl)
theorem dX0_erase_6 : decode cX0_erase 6 = .ok (.iconst 0, 1) := dk_3 (dk_at dksX0_erase_0 6 rfl rfl)
theorem dX0_erase_7 : decode cX0_erase 7 = .ok (.putfield 113, 3) := dk_181 0 113 (dk_at dksX0_erase_0 7 rfl rfl)
theorem dX0_erase_10 : decode cX0_erase 10 = .ok (.iload_n 1, 1) := dk_27 (dk_at dksX0_erase_0 10 rfl rfl)
theorem dX0_erase_11 : decode cX0_erase 11 = .ok (.ireturn, 1) := dk_172 (dk_at dksX0_erase_0 11 rfl rfl)
abbrev cX0_fault : ByteArray := prog_1_method_5_code
def yX0_fault : MethodName := ⟨RX0, "fault", "()I"⟩
def dkwX0_fault_0 : List UInt8 := [42, 180, 0, 75, 182, 0, 116, 2, 172, 76, 43, 180, 0, 121, 172]
abbrev dktX0_fault_0 : List UInt8 := dkwX0_fault_0 ++ []
theorem dksX0_fault_0 : cX0_fault.data.toList.drop 0 = dktX0_fault_0 := by decide +kernel
theorem dX0_fault_0 : decode cX0_fault 0 = .ok (.aload_n 0, 1) := dk_42 (dk_at dksX0_fault_0 0 rfl rfl)
theorem dX0_fault_1 : decode cX0_fault 1 = .ok (.getfield 75, 3) := dk_180 0 75 (dk_at dksX0_fault_0 1 rfl rfl)
theorem dX0_fault_4 : decode cX0_fault 4 = .ok (.invokevirtual 116, 3) := dk_182 0 116 (dk_at dksX0_fault_0 4 rfl rfl)
theorem dX0_fault_7 : decode cX0_fault 7 = .ok (.iconst (-1), 1) := dk_2 (dk_at dksX0_fault_0 7 rfl rfl)
theorem dX0_fault_8 : decode cX0_fault 8 = .ok (.ireturn, 1) := dk_172 (dk_at dksX0_fault_0 8 rfl rfl)
theorem dX0_fault_9 : decode cX0_fault 9 = .ok (.astore_n 1, 1) := dk_76 (dk_at dksX0_fault_0 9 rfl rfl)
theorem dX0_fault_10 : decode cX0_fault 10 = .ok (.aload_n 1, 1) := dk_43 (dk_at dksX0_fault_0 10 rfl rfl)
theorem dX0_fault_11 : decode cX0_fault 11 = .ok (.getfield 121, 3) := dk_180 0 121 (dk_at dksX0_fault_0 11 rfl rfl)
theorem dX0_fault_14 : decode cX0_fault 14 = .ok (.ireturn, 1) := dk_172 (dk_at dksX0_fault_0 14 rfl rfl)
abbrev cX0_plan : ByteArray := prog_1_method_6_code
def yX0_plan : MethodName := ⟨RX0, "plan", "()I"⟩
def dkwX0_plan_2 : List UInt8 := [180, 0, 40, 182, 0, 103, 42, 3, 181, 0, 140, 42, 3, 181, 0, 113, 42, 180, 0, 75, 180, 0, 128, 172]
abbrev dktX0_plan_2 : List UInt8 := dkwX0_plan_2 ++ []
def dkwX0_plan_1 : List UInt8 := [42, 180, 0, 75, 180, 0, 131, 27, 50, 182, 0, 135, 132, 1, 1, 167, 255, 230, 42, 180, 0, 57, 42]
abbrev dktX0_plan_1 : List UInt8 := dkwX0_plan_1 ++ dktX0_plan_2
def dkwX0_plan_0 : List UInt8 := [42, 182, 0, 124, 2, 159, 0, 6, 16, 252, 172, 3, 60, 27, 42, 180, 0, 75, 180, 0, 128, 162, 0, 21]
abbrev dktX0_plan_0 : List UInt8 := dkwX0_plan_0 ++ dktX0_plan_1
theorem dksX0_plan_0 : cX0_plan.data.toList.drop 0 = dktX0_plan_0 := by decide +kernel
theorem dksX0_plan_1 : cX0_plan.data.toList.drop 24 = dktX0_plan_1 := dk_seg dksX0_plan_0 24 rfl rfl
theorem dksX0_plan_2 : cX0_plan.data.toList.drop 47 = dktX0_plan_2 := dk_seg dksX0_plan_1 23 rfl rfl
theorem dX0_plan_0 : decode cX0_plan 0 = .ok (.aload_n 0, 1) := dk_42 (dk_at dksX0_plan_0 0 rfl rfl)
theorem dX0_plan_1 : decode cX0_plan 1 = .ok (.invokevirtual 124, 3) := dk_182 0 124 (dk_at dksX0_plan_0 1 rfl rfl)
theorem dX0_plan_4 : decode cX0_plan 4 = .ok (.iconst (-1), 1) := dk_2 (dk_at dksX0_plan_0 4 rfl rfl)
theorem dX0_plan_5 : decode cX0_plan 5 = .ok (.if_icmp .eq 6, 3) := dk_159 0 6 (dk_at dksX0_plan_0 5 rfl rfl)
theorem dX0_plan_8 : decode cX0_plan 8 = .ok (.bipush (-4), 2) := dk_16 252 (dk_at dksX0_plan_0 8 rfl rfl)
theorem dX0_plan_10 : decode cX0_plan 10 = .ok (.ireturn, 1) := dk_172 (dk_at dksX0_plan_0 10 rfl rfl)
theorem dX0_plan_11 : decode cX0_plan 11 = .ok (.iconst 0, 1) := dk_3 (dk_at dksX0_plan_0 11 rfl rfl)
theorem dX0_plan_12 : decode cX0_plan 12 = .ok (.istore_n 1, 1) := dk_60 (dk_at dksX0_plan_0 12 rfl rfl)
theorem dX0_plan_13 : decode cX0_plan 13 = .ok (.iload_n 1, 1) := dk_27 (dk_at dksX0_plan_0 13 rfl rfl)
theorem dX0_plan_14 : decode cX0_plan 14 = .ok (.aload_n 0, 1) := dk_42 (dk_at dksX0_plan_0 14 rfl rfl)
theorem dX0_plan_15 : decode cX0_plan 15 = .ok (.getfield 75, 3) := dk_180 0 75 (dk_at dksX0_plan_0 15 rfl rfl)
theorem dX0_plan_18 : decode cX0_plan 18 = .ok (.getfield 128, 3) := dk_180 0 128 (dk_at dksX0_plan_0 18 rfl rfl)
theorem dX0_plan_21 : decode cX0_plan 21 = .ok (.if_icmp .ge 21, 3) := dk_162 0 21 (dk_at dksX0_plan_0 21 rfl rfl)
theorem dX0_plan_24 : decode cX0_plan 24 = .ok (.aload_n 0, 1) := dk_42 (dk_at dksX0_plan_1 0 rfl rfl)
theorem dX0_plan_25 : decode cX0_plan 25 = .ok (.getfield 75, 3) := dk_180 0 75 (dk_at dksX0_plan_1 1 rfl rfl)
theorem dX0_plan_28 : decode cX0_plan 28 = .ok (.getfield 131, 3) := dk_180 0 131 (dk_at dksX0_plan_1 4 rfl rfl)
theorem dX0_plan_31 : decode cX0_plan 31 = .ok (.iload_n 1, 1) := dk_27 (dk_at dksX0_plan_1 7 rfl rfl)
theorem dX0_plan_32 : decode cX0_plan 32 = .ok (.aaload, 1) := dk_50 (dk_at dksX0_plan_1 8 rfl rfl)
theorem dX0_plan_33 : decode cX0_plan 33 = .ok (.invokevirtual 135, 3) := dk_182 0 135 (dk_at dksX0_plan_1 9 rfl rfl)
theorem dX0_plan_36 : decode cX0_plan 36 = .ok (.iinc 1 1, 3) := dk_132 1 1 (dk_at dksX0_plan_1 12 rfl rfl)
theorem dX0_plan_39 : decode cX0_plan 39 = .ok (.goto (-26), 3) := dk_167 255 230 (dk_at dksX0_plan_1 15 rfl rfl)
theorem dX0_plan_42 : decode cX0_plan 42 = .ok (.aload_n 0, 1) := dk_42 (dk_at dksX0_plan_1 18 rfl rfl)
theorem dX0_plan_43 : decode cX0_plan 43 = .ok (.getfield 57, 3) := dk_180 0 57 (dk_at dksX0_plan_1 19 rfl rfl)
theorem dX0_plan_46 : decode cX0_plan 46 = .ok (.aload_n 0, 1) := dk_42 (dk_at dksX0_plan_1 22 rfl rfl)
theorem dX0_plan_47 : decode cX0_plan 47 = .ok (.getfield 40, 3) := dk_180 0 40 (dk_at dksX0_plan_2 0 rfl rfl)
theorem dX0_plan_50 : decode cX0_plan 50 = .ok (.invokevirtual 103, 3) := dk_182 0 103 (dk_at dksX0_plan_2 3 rfl rfl)
theorem dX0_plan_53 : decode cX0_plan 53 = .ok (.aload_n 0, 1) := dk_42 (dk_at dksX0_plan_2 6 rfl rfl)
theorem dX0_plan_54 : decode cX0_plan 54 = .ok (.iconst 0, 1) := dk_3 (dk_at dksX0_plan_2 7 rfl rfl)
theorem dX0_plan_55 : decode cX0_plan 55 = .ok (.putfield 140, 3) := dk_181 0 140 (dk_at dksX0_plan_2 8 rfl rfl)
theorem dX0_plan_58 : decode cX0_plan 58 = .ok (.aload_n 0, 1) := dk_42 (dk_at dksX0_plan_2 11 rfl rfl)
theorem dX0_plan_59 : decode cX0_plan 59 = .ok (.iconst 0, 1) := dk_3 (dk_at dksX0_plan_2 12 rfl rfl)
theorem dX0_plan_60 : decode cX0_plan 60 = .ok (.putfield 113, 3) := dk_181 0 113 (dk_at dksX0_plan_2 13 rfl rfl)
theorem dX0_plan_63 : decode cX0_plan 63 = .ok (.aload_n 0, 1) := dk_42 (dk_at dksX0_plan_2 16 rfl rfl)
theorem dX0_plan_64 : decode cX0_plan 64 = .ok (.getfield 75, 3) := dk_180 0 75 (dk_at dksX0_plan_2 17 rfl rfl)
theorem dX0_plan_67 : decode cX0_plan 67 = .ok (.getfield 128, 3) := dk_180 0 128 (dk_at dksX0_plan_2 20 rfl rfl)
theorem dX0_plan_70 : decode cX0_plan 70 = .ok (.ireturn, 1) := dk_172 (dk_at dksX0_plan_2 23 rfl rfl)
abbrev cX0_stuff : ByteArray := prog_1_method_7_code
def yX0_stuff : MethodName := ⟨RX0, "stuff", "(II)I"⟩
def dkwX0_stuff_1 : List UInt8 := [46, 167, 0, 19, 28, 4, 160, 0, 12, 42, 180, 0, 20, 27, 46, 167, 0, 5, 16, 253, 172]
abbrev dktX0_stuff_1 : List UInt8 := dkwX0_stuff_1 ++ []
def dkwX0_stuff_0 : List UInt8 := [27, 133, 9, 20, 0, 143, 184, 0, 109, 154, 0, 6, 16, 254, 172, 28, 154, 0, 12, 42, 180, 0, 16, 27]
abbrev dktX0_stuff_0 : List UInt8 := dkwX0_stuff_0 ++ dktX0_stuff_1
theorem dksX0_stuff_0 : cX0_stuff.data.toList.drop 0 = dktX0_stuff_0 := by decide +kernel
theorem dksX0_stuff_1 : cX0_stuff.data.toList.drop 24 = dktX0_stuff_1 := dk_seg dksX0_stuff_0 24 rfl rfl
theorem dX0_stuff_0 : decode cX0_stuff 0 = .ok (.iload_n 1, 1) := dk_27 (dk_at dksX0_stuff_0 0 rfl rfl)
theorem dX0_stuff_1 : decode cX0_stuff 1 = .ok (.i2l, 1) := dk_133 (dk_at dksX0_stuff_0 1 rfl rfl)
theorem dX0_stuff_2 : decode cX0_stuff 2 = .ok (.lconst 0, 1) := dk_9 (dk_at dksX0_stuff_0 2 rfl rfl)
theorem dX0_stuff_3 : decode cX0_stuff 3 = .ok (.ldc2_w 143, 3) := dk_20 0 143 (dk_at dksX0_stuff_0 3 rfl rfl)
theorem dX0_stuff_6 : decode cX0_stuff 6 = .ok (.invokestatic 109, 3) := dk_184 0 109 (dk_at dksX0_stuff_0 6 rfl rfl)
theorem dX0_stuff_9 : decode cX0_stuff 9 = .ok (.ifCond .ne 6, 3) := dk_154 0 6 (dk_at dksX0_stuff_0 9 rfl rfl)
theorem dX0_stuff_12 : decode cX0_stuff 12 = .ok (.bipush (-2), 2) := dk_16 254 (dk_at dksX0_stuff_0 12 rfl rfl)
theorem dX0_stuff_14 : decode cX0_stuff 14 = .ok (.ireturn, 1) := dk_172 (dk_at dksX0_stuff_0 14 rfl rfl)
theorem dX0_stuff_15 : decode cX0_stuff 15 = .ok (.iload_n 2, 1) := dk_28 (dk_at dksX0_stuff_0 15 rfl rfl)
theorem dX0_stuff_16 : decode cX0_stuff 16 = .ok (.ifCond .ne 12, 3) := dk_154 0 12 (dk_at dksX0_stuff_0 16 rfl rfl)
theorem dX0_stuff_19 : decode cX0_stuff 19 = .ok (.aload_n 0, 1) := dk_42 (dk_at dksX0_stuff_0 19 rfl rfl)
theorem dX0_stuff_20 : decode cX0_stuff 20 = .ok (.getfield 16, 3) := dk_180 0 16 (dk_at dksX0_stuff_0 20 rfl rfl)
theorem dX0_stuff_23 : decode cX0_stuff 23 = .ok (.iload_n 1, 1) := dk_27 (dk_at dksX0_stuff_0 23 rfl rfl)
theorem dX0_stuff_24 : decode cX0_stuff 24 = .ok (.iaload, 1) := dk_46 (dk_at dksX0_stuff_1 0 rfl rfl)
theorem dX0_stuff_25 : decode cX0_stuff 25 = .ok (.goto 19, 3) := dk_167 0 19 (dk_at dksX0_stuff_1 1 rfl rfl)
theorem dX0_stuff_28 : decode cX0_stuff 28 = .ok (.iload_n 2, 1) := dk_28 (dk_at dksX0_stuff_1 4 rfl rfl)
theorem dX0_stuff_29 : decode cX0_stuff 29 = .ok (.iconst 1, 1) := dk_4 (dk_at dksX0_stuff_1 5 rfl rfl)
theorem dX0_stuff_30 : decode cX0_stuff 30 = .ok (.if_icmp .ne 12, 3) := dk_160 0 12 (dk_at dksX0_stuff_1 6 rfl rfl)
theorem dX0_stuff_33 : decode cX0_stuff 33 = .ok (.aload_n 0, 1) := dk_42 (dk_at dksX0_stuff_1 9 rfl rfl)
theorem dX0_stuff_34 : decode cX0_stuff 34 = .ok (.getfield 20, 3) := dk_180 0 20 (dk_at dksX0_stuff_1 10 rfl rfl)
theorem dX0_stuff_37 : decode cX0_stuff 37 = .ok (.iload_n 1, 1) := dk_27 (dk_at dksX0_stuff_1 13 rfl rfl)
theorem dX0_stuff_38 : decode cX0_stuff 38 = .ok (.iaload, 1) := dk_46 (dk_at dksX0_stuff_1 14 rfl rfl)
theorem dX0_stuff_39 : decode cX0_stuff 39 = .ok (.goto 5, 3) := dk_167 0 5 (dk_at dksX0_stuff_1 15 rfl rfl)
theorem dX0_stuff_42 : decode cX0_stuff 42 = .ok (.bipush (-3), 2) := dk_16 253 (dk_at dksX0_stuff_1 18 rfl rfl)
theorem dX0_stuff_44 : decode cX0_stuff 44 = .ok (.ireturn, 1) := dk_172 (dk_at dksX0_stuff_1 20 rfl rfl)
abbrev cX0_pour : ByteArray := prog_1_method_8_code
def yX0_pour : MethodName := ⟨RX0, "pour", "(II)I"⟩
def dkwX0_pour_1 : List UInt8 := [162, 0, 14, 42, 180, 0, 49, 27, 50, 28, 46, 167, 0, 4, 2, 172]
abbrev dktX0_pour_1 : List UInt8 := dkwX0_pour_1 ++ []
def dkwX0_pour_0 : List UInt8 := [27, 155, 0, 15, 28, 133, 9, 20, 0, 143, 184, 0, 109, 154, 0, 6, 16, 253, 172, 27, 42, 180, 0, 145]
abbrev dktX0_pour_0 : List UInt8 := dkwX0_pour_0 ++ dktX0_pour_1
theorem dksX0_pour_0 : cX0_pour.data.toList.drop 0 = dktX0_pour_0 := by decide +kernel
theorem dksX0_pour_1 : cX0_pour.data.toList.drop 24 = dktX0_pour_1 := dk_seg dksX0_pour_0 24 rfl rfl
theorem dX0_pour_0 : decode cX0_pour 0 = .ok (.iload_n 1, 1) := dk_27 (dk_at dksX0_pour_0 0 rfl rfl)
theorem dX0_pour_1 : decode cX0_pour 1 = .ok (.ifCond .lt 15, 3) := dk_155 0 15 (dk_at dksX0_pour_0 1 rfl rfl)
theorem dX0_pour_4 : decode cX0_pour 4 = .ok (.iload_n 2, 1) := dk_28 (dk_at dksX0_pour_0 4 rfl rfl)
theorem dX0_pour_5 : decode cX0_pour 5 = .ok (.i2l, 1) := dk_133 (dk_at dksX0_pour_0 5 rfl rfl)
theorem dX0_pour_6 : decode cX0_pour 6 = .ok (.lconst 0, 1) := dk_9 (dk_at dksX0_pour_0 6 rfl rfl)
theorem dX0_pour_7 : decode cX0_pour 7 = .ok (.ldc2_w 143, 3) := dk_20 0 143 (dk_at dksX0_pour_0 7 rfl rfl)
theorem dX0_pour_10 : decode cX0_pour 10 = .ok (.invokestatic 109, 3) := dk_184 0 109 (dk_at dksX0_pour_0 10 rfl rfl)
theorem dX0_pour_13 : decode cX0_pour 13 = .ok (.ifCond .ne 6, 3) := dk_154 0 6 (dk_at dksX0_pour_0 13 rfl rfl)
theorem dX0_pour_16 : decode cX0_pour 16 = .ok (.bipush (-3), 2) := dk_16 253 (dk_at dksX0_pour_0 16 rfl rfl)
theorem dX0_pour_18 : decode cX0_pour 18 = .ok (.ireturn, 1) := dk_172 (dk_at dksX0_pour_0 18 rfl rfl)
theorem dX0_pour_19 : decode cX0_pour 19 = .ok (.iload_n 1, 1) := dk_27 (dk_at dksX0_pour_0 19 rfl rfl)
theorem dX0_pour_20 : decode cX0_pour 20 = .ok (.aload_n 0, 1) := dk_42 (dk_at dksX0_pour_0 20 rfl rfl)
theorem dX0_pour_21 : decode cX0_pour 21 = .ok (.getfield 145, 3) := dk_180 0 145 (dk_at dksX0_pour_0 21 rfl rfl)
theorem dX0_pour_24 : decode cX0_pour 24 = .ok (.if_icmp .ge 14, 3) := dk_162 0 14 (dk_at dksX0_pour_1 0 rfl rfl)
theorem dX0_pour_27 : decode cX0_pour 27 = .ok (.aload_n 0, 1) := dk_42 (dk_at dksX0_pour_1 3 rfl rfl)
theorem dX0_pour_28 : decode cX0_pour 28 = .ok (.getfield 49, 3) := dk_180 0 49 (dk_at dksX0_pour_1 4 rfl rfl)
theorem dX0_pour_31 : decode cX0_pour 31 = .ok (.iload_n 1, 1) := dk_27 (dk_at dksX0_pour_1 7 rfl rfl)
theorem dX0_pour_32 : decode cX0_pour 32 = .ok (.aaload, 1) := dk_50 (dk_at dksX0_pour_1 8 rfl rfl)
theorem dX0_pour_33 : decode cX0_pour 33 = .ok (.iload_n 2, 1) := dk_28 (dk_at dksX0_pour_1 9 rfl rfl)
theorem dX0_pour_34 : decode cX0_pour 34 = .ok (.iaload, 1) := dk_46 (dk_at dksX0_pour_1 10 rfl rfl)
theorem dX0_pour_35 : decode cX0_pour 35 = .ok (.goto 4, 3) := dk_167 0 4 (dk_at dksX0_pour_1 11 rfl rfl)
theorem dX0_pour_38 : decode cX0_pour 38 = .ok (.iconst (-1), 1) := dk_2 (dk_at dksX0_pour_1 14 rfl rfl)
theorem dX0_pour_39 : decode cX0_pour 39 = .ok (.ireturn, 1) := dk_172 (dk_at dksX0_pour_1 15 rfl rfl)
abbrev cX0_brew : ByteArray := prog_1_method_9_code
def yX0_brew : MethodName := ⟨RX0, "brew", "(I)I"⟩
def dkwX0_brew_2 : List UInt8 := [180, 0, 37, 182, 0, 153, 132, 2, 1, 167, 255, 219, 28, 172]
abbrev dktX0_brew_2 : List UInt8 := dkwX0_brew_2 ++ []
def dkwX0_brew_1 : List UInt8 := [180, 0, 57, 180, 0, 150, 42, 180, 0, 43, 162, 0, 24, 42, 180, 0, 57, 42, 180, 0, 34, 42]
abbrev dktX0_brew_1 : List UInt8 := dkwX0_brew_1 ++ dktX0_brew_2
def dkwX0_brew_0 : List UInt8 := [27, 133, 10, 20, 0, 148, 184, 0, 109, 154, 0, 6, 16, 253, 172, 3, 61, 28, 27, 162, 0, 38, 42]
abbrev dktX0_brew_0 : List UInt8 := dkwX0_brew_0 ++ dktX0_brew_1
theorem dksX0_brew_0 : cX0_brew.data.toList.drop 0 = dktX0_brew_0 := by decide +kernel
theorem dksX0_brew_1 : cX0_brew.data.toList.drop 23 = dktX0_brew_1 := dk_seg dksX0_brew_0 23 rfl rfl
theorem dksX0_brew_2 : cX0_brew.data.toList.drop 45 = dktX0_brew_2 := dk_seg dksX0_brew_1 22 rfl rfl
theorem dX0_brew_0 : decode cX0_brew 0 = .ok (.iload_n 1, 1) := dk_27 (dk_at dksX0_brew_0 0 rfl rfl)
theorem dX0_brew_1 : decode cX0_brew 1 = .ok (.i2l, 1) := dk_133 (dk_at dksX0_brew_0 1 rfl rfl)
theorem dX0_brew_2 : decode cX0_brew 2 = .ok (.lconst 1, 1) := dk_10 (dk_at dksX0_brew_0 2 rfl rfl)
theorem dX0_brew_3 : decode cX0_brew 3 = .ok (.ldc2_w 148, 3) := dk_20 0 148 (dk_at dksX0_brew_0 3 rfl rfl)
theorem dX0_brew_6 : decode cX0_brew 6 = .ok (.invokestatic 109, 3) := dk_184 0 109 (dk_at dksX0_brew_0 6 rfl rfl)
theorem dX0_brew_9 : decode cX0_brew 9 = .ok (.ifCond .ne 6, 3) := dk_154 0 6 (dk_at dksX0_brew_0 9 rfl rfl)
theorem dX0_brew_12 : decode cX0_brew 12 = .ok (.bipush (-3), 2) := dk_16 253 (dk_at dksX0_brew_0 12 rfl rfl)
theorem dX0_brew_14 : decode cX0_brew 14 = .ok (.ireturn, 1) := dk_172 (dk_at dksX0_brew_0 14 rfl rfl)
theorem dX0_brew_15 : decode cX0_brew 15 = .ok (.iconst 0, 1) := dk_3 (dk_at dksX0_brew_0 15 rfl rfl)
theorem dX0_brew_16 : decode cX0_brew 16 = .ok (.istore_n 2, 1) := dk_61 (dk_at dksX0_brew_0 16 rfl rfl)
theorem dX0_brew_17 : decode cX0_brew 17 = .ok (.iload_n 2, 1) := dk_28 (dk_at dksX0_brew_0 17 rfl rfl)
theorem dX0_brew_18 : decode cX0_brew 18 = .ok (.iload_n 1, 1) := dk_27 (dk_at dksX0_brew_0 18 rfl rfl)
theorem dX0_brew_19 : decode cX0_brew 19 = .ok (.if_icmp .ge 38, 3) := dk_162 0 38 (dk_at dksX0_brew_0 19 rfl rfl)
theorem dX0_brew_22 : decode cX0_brew 22 = .ok (.aload_n 0, 1) := dk_42 (dk_at dksX0_brew_0 22 rfl rfl)
theorem dX0_brew_23 : decode cX0_brew 23 = .ok (.getfield 57, 3) := dk_180 0 57 (dk_at dksX0_brew_1 0 rfl rfl)
theorem dX0_brew_26 : decode cX0_brew 26 = .ok (.getfield 150, 3) := dk_180 0 150 (dk_at dksX0_brew_1 3 rfl rfl)
theorem dX0_brew_29 : decode cX0_brew 29 = .ok (.aload_n 0, 1) := dk_42 (dk_at dksX0_brew_1 6 rfl rfl)
theorem dX0_brew_30 : decode cX0_brew 30 = .ok (.getfield 43, 3) := dk_180 0 43 (dk_at dksX0_brew_1 7 rfl rfl)
theorem dX0_brew_33 : decode cX0_brew 33 = .ok (.if_icmp .ge 24, 3) := dk_162 0 24 (dk_at dksX0_brew_1 10 rfl rfl)
theorem dX0_brew_36 : decode cX0_brew 36 = .ok (.aload_n 0, 1) := dk_42 (dk_at dksX0_brew_1 13 rfl rfl)
theorem dX0_brew_37 : decode cX0_brew 37 = .ok (.getfield 57, 3) := dk_180 0 57 (dk_at dksX0_brew_1 14 rfl rfl)
theorem dX0_brew_40 : decode cX0_brew 40 = .ok (.aload_n 0, 1) := dk_42 (dk_at dksX0_brew_1 17 rfl rfl)
theorem dX0_brew_41 : decode cX0_brew 41 = .ok (.getfield 34, 3) := dk_180 0 34 (dk_at dksX0_brew_1 18 rfl rfl)
theorem dX0_brew_44 : decode cX0_brew 44 = .ok (.aload_n 0, 1) := dk_42 (dk_at dksX0_brew_1 21 rfl rfl)
theorem dX0_brew_45 : decode cX0_brew 45 = .ok (.getfield 37, 3) := dk_180 0 37 (dk_at dksX0_brew_2 0 rfl rfl)
theorem dX0_brew_48 : decode cX0_brew 48 = .ok (.invokevirtual 153, 3) := dk_182 0 153 (dk_at dksX0_brew_2 3 rfl rfl)
theorem dX0_brew_51 : decode cX0_brew 51 = .ok (.iinc 2 1, 3) := dk_132 2 1 (dk_at dksX0_brew_2 6 rfl rfl)
theorem dX0_brew_54 : decode cX0_brew 54 = .ok (.goto (-37), 3) := dk_167 255 219 (dk_at dksX0_brew_2 9 rfl rfl)
theorem dX0_brew_57 : decode cX0_brew 57 = .ok (.iload_n 2, 1) := dk_28 (dk_at dksX0_brew_2 12 rfl rfl)
theorem dX0_brew_58 : decode cX0_brew 58 = .ok (.ireturn, 1) := dk_172 (dk_at dksX0_brew_2 13 rfl rfl)
abbrev cX0_again : ByteArray := prog_1_method_10_code
def yX0_again : MethodName := ⟨RX0, "again", "()I"⟩
def dkwX0_again_0 : List UInt8 := [42, 180, 0, 57, 180, 0, 150, 60, 42, 180, 0, 57, 42, 180, 0, 40, 182, 0, 103, 27, 172]
abbrev dktX0_again_0 : List UInt8 := dkwX0_again_0 ++ []
theorem dksX0_again_0 : cX0_again.data.toList.drop 0 = dktX0_again_0 := by decide +kernel
theorem dX0_again_0 : decode cX0_again 0 = .ok (.aload_n 0, 1) := dk_42 (dk_at dksX0_again_0 0 rfl rfl)
theorem dX0_again_1 : decode cX0_again 1 = .ok (.getfield 57, 3) := dk_180 0 57 (dk_at dksX0_again_0 1 rfl rfl)
theorem dX0_again_4 : decode cX0_again 4 = .ok (.getfield 150, 3) := dk_180 0 150 (dk_at dksX0_again_0 4 rfl rfl)
theorem dX0_again_7 : decode cX0_again 7 = .ok (.istore_n 1, 1) := dk_60 (dk_at dksX0_again_0 7 rfl rfl)
theorem dX0_again_8 : decode cX0_again 8 = .ok (.aload_n 0, 1) := dk_42 (dk_at dksX0_again_0 8 rfl rfl)
theorem dX0_again_9 : decode cX0_again 9 = .ok (.getfield 57, 3) := dk_180 0 57 (dk_at dksX0_again_0 9 rfl rfl)
theorem dX0_again_12 : decode cX0_again 12 = .ok (.aload_n 0, 1) := dk_42 (dk_at dksX0_again_0 12 rfl rfl)
theorem dX0_again_13 : decode cX0_again 13 = .ok (.getfield 40, 3) := dk_180 0 40 (dk_at dksX0_again_0 13 rfl rfl)
theorem dX0_again_16 : decode cX0_again 16 = .ok (.invokevirtual 103, 3) := dk_182 0 103 (dk_at dksX0_again_0 16 rfl rfl)
theorem dX0_again_19 : decode cX0_again 19 = .ok (.iload_n 1, 1) := dk_27 (dk_at dksX0_again_0 19 rfl rfl)
theorem dX0_again_20 : decode cX0_again 20 = .ok (.ireturn, 1) := dk_172 (dk_at dksX0_again_0 20 rfl rfl)
abbrev cX0_cell : ByteArray := prog_1_method_11_code
def yX0_cell : MethodName := ⟨RX0, "cell", "(III)I"⟩
def dkwX0_cell_7 : List UInt8 := [180, 0, 184, 172, 16, 253, 172]
abbrev dktX0_cell_7 : List UInt8 := dkwX0_cell_7 ++ []
def dkwX0_cell_6 : List UInt8 := [25, 4, 180, 0, 177, 172, 42, 180, 0, 57, 27, 28, 42, 180, 0, 34, 4, 182, 0, 180, 172, 25, 4]
abbrev dktX0_cell_6 : List UInt8 := dkwX0_cell_6 ++ dktX0_cell_7
def dkwX0_cell_5 : List UInt8 := [170, 0, 0, 0, 0, 53, 0, 0, 0, 0, 0, 0, 0, 2, 0, 0, 0, 26, 0, 0, 0, 32, 0, 0, 0, 47]
abbrev dktX0_cell_5 : List UInt8 := dkwX0_cell_5 ++ dktX0_cell_6
def dkwX0_cell_4 : List UInt8 := [180, 0, 174, 172, 29]
abbrev dktX0_cell_4 : List UInt8 := dkwX0_cell_4 ++ dktX0_cell_5
def dkwX0_cell_3 : List UInt8 := [180, 0, 163, 29, 6, 100, 50, 180, 0, 169, 167, 0, 16, 25, 4, 180, 0, 163, 29, 16, 6, 100, 50]
abbrev dktX0_cell_3 : List UInt8 := dkwX0_cell_3 ++ dktX0_cell_4
def dkwX0_cell_2 : List UInt8 := [29, 133, 20, 0, 161, 20, 0, 107, 184, 0, 109, 153, 0, 38, 29, 16, 6, 162, 0, 18, 25, 4]
abbrev dktX0_cell_2 : List UInt8 := dkwX0_cell_2 ++ dktX0_cell_3
def dkwX0_cell_1 : List UInt8 := [100, 133, 184, 0, 109, 154, 0, 6, 16, 254, 172, 42, 180, 0, 57, 180, 0, 157, 27, 50, 28, 50, 58, 4]
abbrev dktX0_cell_1 : List UInt8 := dkwX0_cell_1 ++ dktX0_cell_2
def dkwX0_cell_0 : List UInt8 := [27, 133, 9, 42, 180, 0, 7, 4, 100, 133, 184, 0, 109, 153, 0, 19, 28, 133, 9, 42, 180, 0, 13, 4]
abbrev dktX0_cell_0 : List UInt8 := dkwX0_cell_0 ++ dktX0_cell_1
theorem dksX0_cell_0 : cX0_cell.data.toList.drop 0 = dktX0_cell_0 := by decide +kernel
theorem dksX0_cell_1 : cX0_cell.data.toList.drop 24 = dktX0_cell_1 := dk_seg dksX0_cell_0 24 rfl rfl
theorem dksX0_cell_2 : cX0_cell.data.toList.drop 48 = dktX0_cell_2 := dk_seg dksX0_cell_1 24 rfl rfl
theorem dksX0_cell_3 : cX0_cell.data.toList.drop 70 = dktX0_cell_3 := dk_seg dksX0_cell_2 22 rfl rfl
theorem dksX0_cell_4 : cX0_cell.data.toList.drop 93 = dktX0_cell_4 := dk_seg dksX0_cell_3 23 rfl rfl
theorem dksX0_cell_5 : cX0_cell.data.toList.drop 98 = dktX0_cell_5 := dk_seg dksX0_cell_4 5 rfl rfl
theorem dksX0_cell_6 : cX0_cell.data.toList.drop 124 = dktX0_cell_6 := dk_seg dksX0_cell_5 26 rfl rfl
theorem dksX0_cell_7 : cX0_cell.data.toList.drop 147 = dktX0_cell_7 := dk_seg dksX0_cell_6 23 rfl rfl
theorem dX0_cell_0 : decode cX0_cell 0 = .ok (.iload_n 1, 1) := dk_27 (dk_at dksX0_cell_0 0 rfl rfl)
theorem dX0_cell_1 : decode cX0_cell 1 = .ok (.i2l, 1) := dk_133 (dk_at dksX0_cell_0 1 rfl rfl)
theorem dX0_cell_2 : decode cX0_cell 2 = .ok (.lconst 0, 1) := dk_9 (dk_at dksX0_cell_0 2 rfl rfl)
theorem dX0_cell_3 : decode cX0_cell 3 = .ok (.aload_n 0, 1) := dk_42 (dk_at dksX0_cell_0 3 rfl rfl)
theorem dX0_cell_4 : decode cX0_cell 4 = .ok (.getfield 7, 3) := dk_180 0 7 (dk_at dksX0_cell_0 4 rfl rfl)
theorem dX0_cell_7 : decode cX0_cell 7 = .ok (.iconst 1, 1) := dk_4 (dk_at dksX0_cell_0 7 rfl rfl)
theorem dX0_cell_8 : decode cX0_cell 8 = .ok (.isub, 1) := dk_100 (dk_at dksX0_cell_0 8 rfl rfl)
theorem dX0_cell_9 : decode cX0_cell 9 = .ok (.i2l, 1) := dk_133 (dk_at dksX0_cell_0 9 rfl rfl)
theorem dX0_cell_10 : decode cX0_cell 10 = .ok (.invokestatic 109, 3) := dk_184 0 109 (dk_at dksX0_cell_0 10 rfl rfl)
theorem dX0_cell_13 : decode cX0_cell 13 = .ok (.ifCond .eq 19, 3) := dk_153 0 19 (dk_at dksX0_cell_0 13 rfl rfl)
theorem dX0_cell_16 : decode cX0_cell 16 = .ok (.iload_n 2, 1) := dk_28 (dk_at dksX0_cell_0 16 rfl rfl)
theorem dX0_cell_17 : decode cX0_cell 17 = .ok (.i2l, 1) := dk_133 (dk_at dksX0_cell_0 17 rfl rfl)
theorem dX0_cell_18 : decode cX0_cell 18 = .ok (.lconst 0, 1) := dk_9 (dk_at dksX0_cell_0 18 rfl rfl)
theorem dX0_cell_19 : decode cX0_cell 19 = .ok (.aload_n 0, 1) := dk_42 (dk_at dksX0_cell_0 19 rfl rfl)
theorem dX0_cell_20 : decode cX0_cell 20 = .ok (.getfield 13, 3) := dk_180 0 13 (dk_at dksX0_cell_0 20 rfl rfl)
theorem dX0_cell_23 : decode cX0_cell 23 = .ok (.iconst 1, 1) := dk_4 (dk_at dksX0_cell_0 23 rfl rfl)
theorem dX0_cell_24 : decode cX0_cell 24 = .ok (.isub, 1) := dk_100 (dk_at dksX0_cell_1 0 rfl rfl)
theorem dX0_cell_25 : decode cX0_cell 25 = .ok (.i2l, 1) := dk_133 (dk_at dksX0_cell_1 1 rfl rfl)
theorem dX0_cell_26 : decode cX0_cell 26 = .ok (.invokestatic 109, 3) := dk_184 0 109 (dk_at dksX0_cell_1 2 rfl rfl)
theorem dX0_cell_29 : decode cX0_cell 29 = .ok (.ifCond .ne 6, 3) := dk_154 0 6 (dk_at dksX0_cell_1 5 rfl rfl)
theorem dX0_cell_32 : decode cX0_cell 32 = .ok (.bipush (-2), 2) := dk_16 254 (dk_at dksX0_cell_1 8 rfl rfl)
theorem dX0_cell_34 : decode cX0_cell 34 = .ok (.ireturn, 1) := dk_172 (dk_at dksX0_cell_1 10 rfl rfl)
theorem dX0_cell_35 : decode cX0_cell 35 = .ok (.aload_n 0, 1) := dk_42 (dk_at dksX0_cell_1 11 rfl rfl)
theorem dX0_cell_36 : decode cX0_cell 36 = .ok (.getfield 57, 3) := dk_180 0 57 (dk_at dksX0_cell_1 12 rfl rfl)
theorem dX0_cell_39 : decode cX0_cell 39 = .ok (.getfield 157, 3) := dk_180 0 157 (dk_at dksX0_cell_1 15 rfl rfl)
theorem dX0_cell_42 : decode cX0_cell 42 = .ok (.iload_n 1, 1) := dk_27 (dk_at dksX0_cell_1 18 rfl rfl)
theorem dX0_cell_43 : decode cX0_cell 43 = .ok (.aaload, 1) := dk_50 (dk_at dksX0_cell_1 19 rfl rfl)
theorem dX0_cell_44 : decode cX0_cell 44 = .ok (.iload_n 2, 1) := dk_28 (dk_at dksX0_cell_1 20 rfl rfl)
theorem dX0_cell_45 : decode cX0_cell 45 = .ok (.aaload, 1) := dk_50 (dk_at dksX0_cell_1 21 rfl rfl)
theorem dX0_cell_46 : decode cX0_cell 46 = .ok (.astore 4, 2) := dk_58 4 (dk_at dksX0_cell_1 22 rfl rfl)
theorem dX0_cell_48 : decode cX0_cell 48 = .ok (.iload_n 3, 1) := dk_29 (dk_at dksX0_cell_2 0 rfl rfl)
theorem dX0_cell_49 : decode cX0_cell 49 = .ok (.i2l, 1) := dk_133 (dk_at dksX0_cell_2 1 rfl rfl)
theorem dX0_cell_50 : decode cX0_cell 50 = .ok (.ldc2_w 161, 3) := dk_20 0 161 (dk_at dksX0_cell_2 2 rfl rfl)
theorem dX0_cell_53 : decode cX0_cell 53 = .ok (.ldc2_w 107, 3) := dk_20 0 107 (dk_at dksX0_cell_2 5 rfl rfl)
theorem dX0_cell_56 : decode cX0_cell 56 = .ok (.invokestatic 109, 3) := dk_184 0 109 (dk_at dksX0_cell_2 8 rfl rfl)
theorem dX0_cell_59 : decode cX0_cell 59 = .ok (.ifCond .eq 38, 3) := dk_153 0 38 (dk_at dksX0_cell_2 11 rfl rfl)
theorem dX0_cell_62 : decode cX0_cell 62 = .ok (.iload_n 3, 1) := dk_29 (dk_at dksX0_cell_2 14 rfl rfl)
theorem dX0_cell_63 : decode cX0_cell 63 = .ok (.bipush 6, 2) := dk_16 6 (dk_at dksX0_cell_2 15 rfl rfl)
theorem dX0_cell_65 : decode cX0_cell 65 = .ok (.if_icmp .ge 18, 3) := dk_162 0 18 (dk_at dksX0_cell_2 17 rfl rfl)
theorem dX0_cell_68 : decode cX0_cell 68 = .ok (.aload 4, 2) := dk_25 4 (dk_at dksX0_cell_2 20 rfl rfl)
theorem dX0_cell_70 : decode cX0_cell 70 = .ok (.getfield 163, 3) := dk_180 0 163 (dk_at dksX0_cell_3 0 rfl rfl)
theorem dX0_cell_73 : decode cX0_cell 73 = .ok (.iload_n 3, 1) := dk_29 (dk_at dksX0_cell_3 3 rfl rfl)
theorem dX0_cell_74 : decode cX0_cell 74 = .ok (.iconst 3, 1) := dk_6 (dk_at dksX0_cell_3 4 rfl rfl)
theorem dX0_cell_75 : decode cX0_cell 75 = .ok (.isub, 1) := dk_100 (dk_at dksX0_cell_3 5 rfl rfl)
theorem dX0_cell_76 : decode cX0_cell 76 = .ok (.aaload, 1) := dk_50 (dk_at dksX0_cell_3 6 rfl rfl)
theorem dX0_cell_77 : decode cX0_cell 77 = .ok (.getfield 169, 3) := dk_180 0 169 (dk_at dksX0_cell_3 7 rfl rfl)
theorem dX0_cell_80 : decode cX0_cell 80 = .ok (.goto 16, 3) := dk_167 0 16 (dk_at dksX0_cell_3 10 rfl rfl)
theorem dX0_cell_83 : decode cX0_cell 83 = .ok (.aload 4, 2) := dk_25 4 (dk_at dksX0_cell_3 13 rfl rfl)
theorem dX0_cell_85 : decode cX0_cell 85 = .ok (.getfield 163, 3) := dk_180 0 163 (dk_at dksX0_cell_3 15 rfl rfl)
theorem dX0_cell_88 : decode cX0_cell 88 = .ok (.iload_n 3, 1) := dk_29 (dk_at dksX0_cell_3 18 rfl rfl)
theorem dX0_cell_89 : decode cX0_cell 89 = .ok (.bipush 6, 2) := dk_16 6 (dk_at dksX0_cell_3 19 rfl rfl)
theorem dX0_cell_91 : decode cX0_cell 91 = .ok (.isub, 1) := dk_100 (dk_at dksX0_cell_3 21 rfl rfl)
theorem dX0_cell_92 : decode cX0_cell 92 = .ok (.aaload, 1) := dk_50 (dk_at dksX0_cell_3 22 rfl rfl)
theorem dX0_cell_93 : decode cX0_cell 93 = .ok (.getfield 174, 3) := dk_180 0 174 (dk_at dksX0_cell_4 0 rfl rfl)
theorem dX0_cell_96 : decode cX0_cell 96 = .ok (.ireturn, 1) := dk_172 (dk_at dksX0_cell_4 3 rfl rfl)
theorem dX0_cell_97 : decode cX0_cell 97 = .ok (.iload_n 3, 1) := dk_29 (dk_at dksX0_cell_4 4 rfl rfl)
theorem dX0_cell_98 : decode cX0_cell 98 = .ok (.tableswitch 53 0 2 #[26, 32, 47], 26) := by decide +kernel
theorem dX0_cell_124 : decode cX0_cell 124 = .ok (.aload 4, 2) := dk_25 4 (dk_at dksX0_cell_6 0 rfl rfl)
theorem dX0_cell_126 : decode cX0_cell 126 = .ok (.getfield 177, 3) := dk_180 0 177 (dk_at dksX0_cell_6 2 rfl rfl)
theorem dX0_cell_129 : decode cX0_cell 129 = .ok (.ireturn, 1) := dk_172 (dk_at dksX0_cell_6 5 rfl rfl)
theorem dX0_cell_130 : decode cX0_cell 130 = .ok (.aload_n 0, 1) := dk_42 (dk_at dksX0_cell_6 6 rfl rfl)
theorem dX0_cell_131 : decode cX0_cell 131 = .ok (.getfield 57, 3) := dk_180 0 57 (dk_at dksX0_cell_6 7 rfl rfl)
theorem dX0_cell_134 : decode cX0_cell 134 = .ok (.iload_n 1, 1) := dk_27 (dk_at dksX0_cell_6 10 rfl rfl)
theorem dX0_cell_135 : decode cX0_cell 135 = .ok (.iload_n 2, 1) := dk_28 (dk_at dksX0_cell_6 11 rfl rfl)
theorem dX0_cell_136 : decode cX0_cell 136 = .ok (.aload_n 0, 1) := dk_42 (dk_at dksX0_cell_6 12 rfl rfl)
theorem dX0_cell_137 : decode cX0_cell 137 = .ok (.getfield 34, 3) := dk_180 0 34 (dk_at dksX0_cell_6 13 rfl rfl)
theorem dX0_cell_140 : decode cX0_cell 140 = .ok (.iconst 1, 1) := dk_4 (dk_at dksX0_cell_6 16 rfl rfl)
theorem dX0_cell_141 : decode cX0_cell 141 = .ok (.invokevirtual 180, 3) := dk_182 0 180 (dk_at dksX0_cell_6 17 rfl rfl)
theorem dX0_cell_144 : decode cX0_cell 144 = .ok (.ireturn, 1) := dk_172 (dk_at dksX0_cell_6 20 rfl rfl)
theorem dX0_cell_145 : decode cX0_cell 145 = .ok (.aload 4, 2) := dk_25 4 (dk_at dksX0_cell_6 21 rfl rfl)
theorem dX0_cell_147 : decode cX0_cell 147 = .ok (.getfield 184, 3) := dk_180 0 184 (dk_at dksX0_cell_7 0 rfl rfl)
theorem dX0_cell_150 : decode cX0_cell 150 = .ok (.ireturn, 1) := dk_172 (dk_at dksX0_cell_7 3 rfl rfl)
theorem dX0_cell_151 : decode cX0_cell 151 = .ok (.bipush (-3), 2) := dk_16 253 (dk_at dksX0_cell_7 4 rfl rfl)
theorem dX0_cell_153 : decode cX0_cell 153 = .ok (.ireturn, 1) := dk_172 (dk_at dksX0_cell_7 6 rfl rfl)
abbrev cX0_cup : ByteArray := prog_1_method_12_code
def yX0_cup : MethodName := ⟨RX0, "cup", "(I)I"⟩
def dkwX0_cup_4 : List UInt8 := [172, 42, 180, 0, 57, 42, 180, 0, 40, 182, 0, 198, 172, 42, 180, 0, 57, 180, 0, 150, 172, 16, 253, 172]
abbrev dktX0_cup_4 : List UInt8 := dkwX0_cup_4 ++ []
def dkwX0_cup_3 : List UInt8 := [50, 180, 0, 174, 172, 42, 180, 0, 57, 182, 0, 191, 172, 42, 180, 0, 57, 42, 180, 0, 40, 182, 0, 194]
abbrev dktX0_cup_3 : List UInt8 := dkwX0_cup_3 ++ dktX0_cup_4
def dkwX0_cup_2 : List UInt8 := [42, 180, 0, 57, 180, 0, 187, 180, 0, 177, 172, 42, 180, 0, 57, 180, 0, 187, 180, 0, 163, 27, 4, 100]
abbrev dktX0_cup_2 : List UInt8 := dkwX0_cup_2 ++ dktX0_cup_3
def dkwX0_cup_1 : List UInt8 := [170, 0, 0, 0, 0, 0, 116, 0, 0, 0, 0, 0, 0, 0, 7, 0, 0, 0, 47, 0, 0, 0, 58, 0, 0, 0, 58, 0, 0, 0, 58, 0, 0, 0, 76, 0, 0, 0, 84, 0, 0, 0, 96, 0, 0, 0, 108]
abbrev dktX0_cup_1 : List UInt8 := dkwX0_cup_1 ++ dktX0_cup_2
def dkwX0_cup_0 : List UInt8 := [27]
abbrev dktX0_cup_0 : List UInt8 := dkwX0_cup_0 ++ dktX0_cup_1
theorem dksX0_cup_0 : cX0_cup.data.toList.drop 0 = dktX0_cup_0 := by decide +kernel
theorem dksX0_cup_1 : cX0_cup.data.toList.drop 1 = dktX0_cup_1 := dk_seg dksX0_cup_0 1 rfl rfl
theorem dksX0_cup_2 : cX0_cup.data.toList.drop 48 = dktX0_cup_2 := dk_seg dksX0_cup_1 47 rfl rfl
theorem dksX0_cup_3 : cX0_cup.data.toList.drop 72 = dktX0_cup_3 := dk_seg dksX0_cup_2 24 rfl rfl
theorem dksX0_cup_4 : cX0_cup.data.toList.drop 96 = dktX0_cup_4 := dk_seg dksX0_cup_3 24 rfl rfl
theorem dX0_cup_0 : decode cX0_cup 0 = .ok (.iload_n 1, 1) := dk_27 (dk_at dksX0_cup_0 0 rfl rfl)
theorem dX0_cup_1 : decode cX0_cup 1 = .ok (.tableswitch 116 0 7 #[47, 58, 58, 58, 76, 84, 96, 108], 47) := by decide +kernel
theorem dX0_cup_48 : decode cX0_cup 48 = .ok (.aload_n 0, 1) := dk_42 (dk_at dksX0_cup_2 0 rfl rfl)
theorem dX0_cup_49 : decode cX0_cup 49 = .ok (.getfield 57, 3) := dk_180 0 57 (dk_at dksX0_cup_2 1 rfl rfl)
theorem dX0_cup_52 : decode cX0_cup 52 = .ok (.getfield 187, 3) := dk_180 0 187 (dk_at dksX0_cup_2 4 rfl rfl)
theorem dX0_cup_55 : decode cX0_cup 55 = .ok (.getfield 177, 3) := dk_180 0 177 (dk_at dksX0_cup_2 7 rfl rfl)
theorem dX0_cup_58 : decode cX0_cup 58 = .ok (.ireturn, 1) := dk_172 (dk_at dksX0_cup_2 10 rfl rfl)
theorem dX0_cup_59 : decode cX0_cup 59 = .ok (.aload_n 0, 1) := dk_42 (dk_at dksX0_cup_2 11 rfl rfl)
theorem dX0_cup_60 : decode cX0_cup 60 = .ok (.getfield 57, 3) := dk_180 0 57 (dk_at dksX0_cup_2 12 rfl rfl)
theorem dX0_cup_63 : decode cX0_cup 63 = .ok (.getfield 187, 3) := dk_180 0 187 (dk_at dksX0_cup_2 15 rfl rfl)
theorem dX0_cup_66 : decode cX0_cup 66 = .ok (.getfield 163, 3) := dk_180 0 163 (dk_at dksX0_cup_2 18 rfl rfl)
theorem dX0_cup_69 : decode cX0_cup 69 = .ok (.iload_n 1, 1) := dk_27 (dk_at dksX0_cup_2 21 rfl rfl)
theorem dX0_cup_70 : decode cX0_cup 70 = .ok (.iconst 1, 1) := dk_4 (dk_at dksX0_cup_2 22 rfl rfl)
theorem dX0_cup_71 : decode cX0_cup 71 = .ok (.isub, 1) := dk_100 (dk_at dksX0_cup_2 23 rfl rfl)
theorem dX0_cup_72 : decode cX0_cup 72 = .ok (.aaload, 1) := dk_50 (dk_at dksX0_cup_3 0 rfl rfl)
theorem dX0_cup_73 : decode cX0_cup 73 = .ok (.getfield 174, 3) := dk_180 0 174 (dk_at dksX0_cup_3 1 rfl rfl)
theorem dX0_cup_76 : decode cX0_cup 76 = .ok (.ireturn, 1) := dk_172 (dk_at dksX0_cup_3 4 rfl rfl)
theorem dX0_cup_77 : decode cX0_cup 77 = .ok (.aload_n 0, 1) := dk_42 (dk_at dksX0_cup_3 5 rfl rfl)
theorem dX0_cup_78 : decode cX0_cup 78 = .ok (.getfield 57, 3) := dk_180 0 57 (dk_at dksX0_cup_3 6 rfl rfl)
theorem dX0_cup_81 : decode cX0_cup 81 = .ok (.invokevirtual 191, 3) := dk_182 0 191 (dk_at dksX0_cup_3 9 rfl rfl)
theorem dX0_cup_84 : decode cX0_cup 84 = .ok (.ireturn, 1) := dk_172 (dk_at dksX0_cup_3 12 rfl rfl)
theorem dX0_cup_85 : decode cX0_cup 85 = .ok (.aload_n 0, 1) := dk_42 (dk_at dksX0_cup_3 13 rfl rfl)
theorem dX0_cup_86 : decode cX0_cup 86 = .ok (.getfield 57, 3) := dk_180 0 57 (dk_at dksX0_cup_3 14 rfl rfl)
theorem dX0_cup_89 : decode cX0_cup 89 = .ok (.aload_n 0, 1) := dk_42 (dk_at dksX0_cup_3 17 rfl rfl)
theorem dX0_cup_90 : decode cX0_cup 90 = .ok (.getfield 40, 3) := dk_180 0 40 (dk_at dksX0_cup_3 18 rfl rfl)
theorem dX0_cup_93 : decode cX0_cup 93 = .ok (.invokevirtual 194, 3) := dk_182 0 194 (dk_at dksX0_cup_3 21 rfl rfl)
theorem dX0_cup_96 : decode cX0_cup 96 = .ok (.ireturn, 1) := dk_172 (dk_at dksX0_cup_4 0 rfl rfl)
theorem dX0_cup_97 : decode cX0_cup 97 = .ok (.aload_n 0, 1) := dk_42 (dk_at dksX0_cup_4 1 rfl rfl)
theorem dX0_cup_98 : decode cX0_cup 98 = .ok (.getfield 57, 3) := dk_180 0 57 (dk_at dksX0_cup_4 2 rfl rfl)
theorem dX0_cup_101 : decode cX0_cup 101 = .ok (.aload_n 0, 1) := dk_42 (dk_at dksX0_cup_4 5 rfl rfl)
theorem dX0_cup_102 : decode cX0_cup 102 = .ok (.getfield 40, 3) := dk_180 0 40 (dk_at dksX0_cup_4 6 rfl rfl)
theorem dX0_cup_105 : decode cX0_cup 105 = .ok (.invokevirtual 198, 3) := dk_182 0 198 (dk_at dksX0_cup_4 9 rfl rfl)
theorem dX0_cup_108 : decode cX0_cup 108 = .ok (.ireturn, 1) := dk_172 (dk_at dksX0_cup_4 12 rfl rfl)
theorem dX0_cup_109 : decode cX0_cup 109 = .ok (.aload_n 0, 1) := dk_42 (dk_at dksX0_cup_4 13 rfl rfl)
theorem dX0_cup_110 : decode cX0_cup 110 = .ok (.getfield 57, 3) := dk_180 0 57 (dk_at dksX0_cup_4 14 rfl rfl)
theorem dX0_cup_113 : decode cX0_cup 113 = .ok (.getfield 150, 3) := dk_180 0 150 (dk_at dksX0_cup_4 17 rfl rfl)
theorem dX0_cup_116 : decode cX0_cup 116 = .ok (.ireturn, 1) := dk_172 (dk_at dksX0_cup_4 20 rfl rfl)
theorem dX0_cup_117 : decode cX0_cup 117 = .ok (.bipush (-3), 2) := dk_16 253 (dk_at dksX0_cup_4 21 rfl rfl)
theorem dX0_cup_119 : decode cX0_cup 119 = .ok (.ireturn, 1) := dk_172 (dk_at dksX0_cup_4 23 rfl rfl)
abbrev cX0_keep : ByteArray := prog_1_method_13_code
def yX0_keep : MethodName := ⟨RX0, "keep", "(I)I"⟩
def dkwX0_keep_1 : List UInt8 := [182, 0, 201, 42, 89, 180, 0, 140, 4, 27, 120, 128, 181, 0, 140, 42, 180, 0, 57, 180, 0, 150, 172]
abbrev dktX0_keep_1 : List UInt8 := dkwX0_keep_1 ++ []
def dkwX0_keep_0 : List UInt8 := [27, 133, 9, 10, 184, 0, 109, 154, 0, 6, 16, 254, 172, 42, 180, 0, 61, 27, 50, 42, 180, 0, 57]
abbrev dktX0_keep_0 : List UInt8 := dkwX0_keep_0 ++ dktX0_keep_1
theorem dksX0_keep_0 : cX0_keep.data.toList.drop 0 = dktX0_keep_0 := by decide +kernel
theorem dksX0_keep_1 : cX0_keep.data.toList.drop 23 = dktX0_keep_1 := dk_seg dksX0_keep_0 23 rfl rfl
theorem dX0_keep_0 : decode cX0_keep 0 = .ok (.iload_n 1, 1) := dk_27 (dk_at dksX0_keep_0 0 rfl rfl)
theorem dX0_keep_1 : decode cX0_keep 1 = .ok (.i2l, 1) := dk_133 (dk_at dksX0_keep_0 1 rfl rfl)
theorem dX0_keep_2 : decode cX0_keep 2 = .ok (.lconst 0, 1) := dk_9 (dk_at dksX0_keep_0 2 rfl rfl)
theorem dX0_keep_3 : decode cX0_keep 3 = .ok (.lconst 1, 1) := dk_10 (dk_at dksX0_keep_0 3 rfl rfl)
theorem dX0_keep_4 : decode cX0_keep 4 = .ok (.invokestatic 109, 3) := dk_184 0 109 (dk_at dksX0_keep_0 4 rfl rfl)
theorem dX0_keep_7 : decode cX0_keep 7 = .ok (.ifCond .ne 6, 3) := dk_154 0 6 (dk_at dksX0_keep_0 7 rfl rfl)
theorem dX0_keep_10 : decode cX0_keep 10 = .ok (.bipush (-2), 2) := dk_16 254 (dk_at dksX0_keep_0 10 rfl rfl)
theorem dX0_keep_12 : decode cX0_keep 12 = .ok (.ireturn, 1) := dk_172 (dk_at dksX0_keep_0 12 rfl rfl)
theorem dX0_keep_13 : decode cX0_keep 13 = .ok (.aload_n 0, 1) := dk_42 (dk_at dksX0_keep_0 13 rfl rfl)
theorem dX0_keep_14 : decode cX0_keep 14 = .ok (.getfield 61, 3) := dk_180 0 61 (dk_at dksX0_keep_0 14 rfl rfl)
theorem dX0_keep_17 : decode cX0_keep 17 = .ok (.iload_n 1, 1) := dk_27 (dk_at dksX0_keep_0 17 rfl rfl)
theorem dX0_keep_18 : decode cX0_keep 18 = .ok (.aaload, 1) := dk_50 (dk_at dksX0_keep_0 18 rfl rfl)
theorem dX0_keep_19 : decode cX0_keep 19 = .ok (.aload_n 0, 1) := dk_42 (dk_at dksX0_keep_0 19 rfl rfl)
theorem dX0_keep_20 : decode cX0_keep 20 = .ok (.getfield 57, 3) := dk_180 0 57 (dk_at dksX0_keep_0 20 rfl rfl)
theorem dX0_keep_23 : decode cX0_keep 23 = .ok (.invokevirtual 201, 3) := dk_182 0 201 (dk_at dksX0_keep_1 0 rfl rfl)
theorem dX0_keep_26 : decode cX0_keep 26 = .ok (.aload_n 0, 1) := dk_42 (dk_at dksX0_keep_1 3 rfl rfl)
theorem dX0_keep_27 : decode cX0_keep 27 = .ok (.dup, 1) := dk_89 (dk_at dksX0_keep_1 4 rfl rfl)
theorem dX0_keep_28 : decode cX0_keep 28 = .ok (.getfield 140, 3) := dk_180 0 140 (dk_at dksX0_keep_1 5 rfl rfl)
theorem dX0_keep_31 : decode cX0_keep 31 = .ok (.iconst 1, 1) := dk_4 (dk_at dksX0_keep_1 8 rfl rfl)
theorem dX0_keep_32 : decode cX0_keep 32 = .ok (.iload_n 1, 1) := dk_27 (dk_at dksX0_keep_1 9 rfl rfl)
theorem dX0_keep_33 : decode cX0_keep 33 = .ok (.ishl, 1) := dk_120 (dk_at dksX0_keep_1 10 rfl rfl)
theorem dX0_keep_34 : decode cX0_keep 34 = .ok (.ior, 1) := dk_128 (dk_at dksX0_keep_1 11 rfl rfl)
theorem dX0_keep_35 : decode cX0_keep 35 = .ok (.putfield 140, 3) := dk_181 0 140 (dk_at dksX0_keep_1 12 rfl rfl)
theorem dX0_keep_38 : decode cX0_keep 38 = .ok (.aload_n 0, 1) := dk_42 (dk_at dksX0_keep_1 15 rfl rfl)
theorem dX0_keep_39 : decode cX0_keep 39 = .ok (.getfield 57, 3) := dk_180 0 57 (dk_at dksX0_keep_1 16 rfl rfl)
theorem dX0_keep_42 : decode cX0_keep 42 = .ok (.getfield 150, 3) := dk_180 0 150 (dk_at dksX0_keep_1 19 rfl rfl)
theorem dX0_keep_45 : decode cX0_keep 45 = .ok (.ireturn, 1) := dk_172 (dk_at dksX0_keep_1 22 rfl rfl)
abbrev cX0_back : ByteArray := prog_1_method_14_code
def yX0_back : MethodName := ⟨RX0, "back", "(I)I"⟩
def dkwX0_back_1 : List UInt8 := [16, 252, 172, 42, 180, 0, 57, 42, 180, 0, 61, 27, 50, 182, 0, 201, 42, 180, 0, 57, 180, 0, 150, 172]
abbrev dktX0_back_1 : List UInt8 := dkwX0_back_1 ++ []
def dkwX0_back_0 : List UInt8 := [27, 133, 9, 10, 184, 0, 109, 154, 0, 6, 16, 254, 172, 42, 180, 0, 140, 27, 122, 4, 126, 154, 0, 6]
abbrev dktX0_back_0 : List UInt8 := dkwX0_back_0 ++ dktX0_back_1
theorem dksX0_back_0 : cX0_back.data.toList.drop 0 = dktX0_back_0 := by decide +kernel
theorem dksX0_back_1 : cX0_back.data.toList.drop 24 = dktX0_back_1 := dk_seg dksX0_back_0 24 rfl rfl
theorem dX0_back_0 : decode cX0_back 0 = .ok (.iload_n 1, 1) := dk_27 (dk_at dksX0_back_0 0 rfl rfl)
theorem dX0_back_1 : decode cX0_back 1 = .ok (.i2l, 1) := dk_133 (dk_at dksX0_back_0 1 rfl rfl)
theorem dX0_back_2 : decode cX0_back 2 = .ok (.lconst 0, 1) := dk_9 (dk_at dksX0_back_0 2 rfl rfl)
theorem dX0_back_3 : decode cX0_back 3 = .ok (.lconst 1, 1) := dk_10 (dk_at dksX0_back_0 3 rfl rfl)
theorem dX0_back_4 : decode cX0_back 4 = .ok (.invokestatic 109, 3) := dk_184 0 109 (dk_at dksX0_back_0 4 rfl rfl)
theorem dX0_back_7 : decode cX0_back 7 = .ok (.ifCond .ne 6, 3) := dk_154 0 6 (dk_at dksX0_back_0 7 rfl rfl)
theorem dX0_back_10 : decode cX0_back 10 = .ok (.bipush (-2), 2) := dk_16 254 (dk_at dksX0_back_0 10 rfl rfl)
theorem dX0_back_12 : decode cX0_back 12 = .ok (.ireturn, 1) := dk_172 (dk_at dksX0_back_0 12 rfl rfl)
theorem dX0_back_13 : decode cX0_back 13 = .ok (.aload_n 0, 1) := dk_42 (dk_at dksX0_back_0 13 rfl rfl)
theorem dX0_back_14 : decode cX0_back 14 = .ok (.getfield 140, 3) := dk_180 0 140 (dk_at dksX0_back_0 14 rfl rfl)
theorem dX0_back_17 : decode cX0_back 17 = .ok (.iload_n 1, 1) := dk_27 (dk_at dksX0_back_0 17 rfl rfl)
theorem dX0_back_18 : decode cX0_back 18 = .ok (.ishr, 1) := dk_122 (dk_at dksX0_back_0 18 rfl rfl)
theorem dX0_back_19 : decode cX0_back 19 = .ok (.iconst 1, 1) := dk_4 (dk_at dksX0_back_0 19 rfl rfl)
theorem dX0_back_20 : decode cX0_back 20 = .ok (.iand, 1) := dk_126 (dk_at dksX0_back_0 20 rfl rfl)
theorem dX0_back_21 : decode cX0_back 21 = .ok (.ifCond .ne 6, 3) := dk_154 0 6 (dk_at dksX0_back_0 21 rfl rfl)
theorem dX0_back_24 : decode cX0_back 24 = .ok (.bipush (-4), 2) := dk_16 252 (dk_at dksX0_back_1 0 rfl rfl)
theorem dX0_back_26 : decode cX0_back 26 = .ok (.ireturn, 1) := dk_172 (dk_at dksX0_back_1 2 rfl rfl)
theorem dX0_back_27 : decode cX0_back 27 = .ok (.aload_n 0, 1) := dk_42 (dk_at dksX0_back_1 3 rfl rfl)
theorem dX0_back_28 : decode cX0_back 28 = .ok (.getfield 57, 3) := dk_180 0 57 (dk_at dksX0_back_1 4 rfl rfl)
theorem dX0_back_31 : decode cX0_back 31 = .ok (.aload_n 0, 1) := dk_42 (dk_at dksX0_back_1 7 rfl rfl)
theorem dX0_back_32 : decode cX0_back 32 = .ok (.getfield 61, 3) := dk_180 0 61 (dk_at dksX0_back_1 8 rfl rfl)
theorem dX0_back_35 : decode cX0_back 35 = .ok (.iload_n 1, 1) := dk_27 (dk_at dksX0_back_1 11 rfl rfl)
theorem dX0_back_36 : decode cX0_back 36 = .ok (.aaload, 1) := dk_50 (dk_at dksX0_back_1 12 rfl rfl)
theorem dX0_back_37 : decode cX0_back 37 = .ok (.invokevirtual 201, 3) := dk_182 0 201 (dk_at dksX0_back_1 13 rfl rfl)
theorem dX0_back_40 : decode cX0_back 40 = .ok (.aload_n 0, 1) := dk_42 (dk_at dksX0_back_1 16 rfl rfl)
theorem dX0_back_41 : decode cX0_back 41 = .ok (.getfield 57, 3) := dk_180 0 57 (dk_at dksX0_back_1 17 rfl rfl)
theorem dX0_back_44 : decode cX0_back 44 = .ok (.getfield 150, 3) := dk_180 0 150 (dk_at dksX0_back_1 20 rfl rfl)
theorem dX0_back_47 : decode cX0_back 47 = .ok (.ireturn, 1) := dk_172 (dk_at dksX0_back_1 23 rfl rfl)
abbrev cX0_taste : ByteArray := prog_1_method_15_code
def yX0_taste : MethodName := ⟨RX0, "taste", "(I)I"⟩
def dkwX0_taste_3 : List UInt8 := [180, 0, 40, 182, 0, 198, 172]
abbrev dktX0_taste_3 : List UInt8 := dkwX0_taste_3 ++ []
def dkwX0_taste_2 : List UInt8 := [160, 0, 17, 42, 180, 0, 65, 42, 180, 0, 40, 182, 0, 194, 167, 0, 14, 42, 180, 0, 65, 42]
abbrev dktX0_taste_2 : List UInt8 := dkwX0_taste_2 ++ dktX0_taste_3
def dkwX0_taste_1 : List UInt8 := [154, 0, 7, 28, 167, 0, 48, 27, 4, 160, 0, 13, 42, 180, 0, 65, 182, 0, 191, 167, 0, 33, 27, 5]
abbrev dktX0_taste_1 : List UInt8 := dkwX0_taste_1 ++ dktX0_taste_2
def dkwX0_taste_0 : List UInt8 := [27, 133, 9, 20, 0, 161, 184, 0, 109, 154, 0, 6, 16, 253, 172, 42, 180, 0, 82, 182, 0, 205, 61, 27]
abbrev dktX0_taste_0 : List UInt8 := dkwX0_taste_0 ++ dktX0_taste_1
theorem dksX0_taste_0 : cX0_taste.data.toList.drop 0 = dktX0_taste_0 := by decide +kernel
theorem dksX0_taste_1 : cX0_taste.data.toList.drop 24 = dktX0_taste_1 := dk_seg dksX0_taste_0 24 rfl rfl
theorem dksX0_taste_2 : cX0_taste.data.toList.drop 48 = dktX0_taste_2 := dk_seg dksX0_taste_1 24 rfl rfl
theorem dksX0_taste_3 : cX0_taste.data.toList.drop 70 = dktX0_taste_3 := dk_seg dksX0_taste_2 22 rfl rfl
theorem dX0_taste_0 : decode cX0_taste 0 = .ok (.iload_n 1, 1) := dk_27 (dk_at dksX0_taste_0 0 rfl rfl)
theorem dX0_taste_1 : decode cX0_taste 1 = .ok (.i2l, 1) := dk_133 (dk_at dksX0_taste_0 1 rfl rfl)
theorem dX0_taste_2 : decode cX0_taste 2 = .ok (.lconst 0, 1) := dk_9 (dk_at dksX0_taste_0 2 rfl rfl)
theorem dX0_taste_3 : decode cX0_taste 3 = .ok (.ldc2_w 161, 3) := dk_20 0 161 (dk_at dksX0_taste_0 3 rfl rfl)
theorem dX0_taste_6 : decode cX0_taste 6 = .ok (.invokestatic 109, 3) := dk_184 0 109 (dk_at dksX0_taste_0 6 rfl rfl)
theorem dX0_taste_9 : decode cX0_taste 9 = .ok (.ifCond .ne 6, 3) := dk_154 0 6 (dk_at dksX0_taste_0 9 rfl rfl)
theorem dX0_taste_12 : decode cX0_taste 12 = .ok (.bipush (-3), 2) := dk_16 253 (dk_at dksX0_taste_0 12 rfl rfl)
theorem dX0_taste_14 : decode cX0_taste 14 = .ok (.ireturn, 1) := dk_172 (dk_at dksX0_taste_0 14 rfl rfl)
theorem dX0_taste_15 : decode cX0_taste 15 = .ok (.aload_n 0, 1) := dk_42 (dk_at dksX0_taste_0 15 rfl rfl)
theorem dX0_taste_16 : decode cX0_taste 16 = .ok (.getfield 82, 3) := dk_180 0 82 (dk_at dksX0_taste_0 16 rfl rfl)
theorem dX0_taste_19 : decode cX0_taste 19 = .ok (.invokevirtual 205, 3) := dk_182 0 205 (dk_at dksX0_taste_0 19 rfl rfl)
theorem dX0_taste_22 : decode cX0_taste 22 = .ok (.istore_n 2, 1) := dk_61 (dk_at dksX0_taste_0 22 rfl rfl)
theorem dX0_taste_23 : decode cX0_taste 23 = .ok (.iload_n 1, 1) := dk_27 (dk_at dksX0_taste_0 23 rfl rfl)
theorem dX0_taste_24 : decode cX0_taste 24 = .ok (.ifCond .ne 7, 3) := dk_154 0 7 (dk_at dksX0_taste_1 0 rfl rfl)
theorem dX0_taste_27 : decode cX0_taste 27 = .ok (.iload_n 2, 1) := dk_28 (dk_at dksX0_taste_1 3 rfl rfl)
theorem dX0_taste_28 : decode cX0_taste 28 = .ok (.goto 48, 3) := dk_167 0 48 (dk_at dksX0_taste_1 4 rfl rfl)
theorem dX0_taste_31 : decode cX0_taste 31 = .ok (.iload_n 1, 1) := dk_27 (dk_at dksX0_taste_1 7 rfl rfl)
theorem dX0_taste_32 : decode cX0_taste 32 = .ok (.iconst 1, 1) := dk_4 (dk_at dksX0_taste_1 8 rfl rfl)
theorem dX0_taste_33 : decode cX0_taste 33 = .ok (.if_icmp .ne 13, 3) := dk_160 0 13 (dk_at dksX0_taste_1 9 rfl rfl)
theorem dX0_taste_36 : decode cX0_taste 36 = .ok (.aload_n 0, 1) := dk_42 (dk_at dksX0_taste_1 12 rfl rfl)
theorem dX0_taste_37 : decode cX0_taste 37 = .ok (.getfield 65, 3) := dk_180 0 65 (dk_at dksX0_taste_1 13 rfl rfl)
theorem dX0_taste_40 : decode cX0_taste 40 = .ok (.invokevirtual 191, 3) := dk_182 0 191 (dk_at dksX0_taste_1 16 rfl rfl)
theorem dX0_taste_43 : decode cX0_taste 43 = .ok (.goto 33, 3) := dk_167 0 33 (dk_at dksX0_taste_1 19 rfl rfl)
theorem dX0_taste_46 : decode cX0_taste 46 = .ok (.iload_n 1, 1) := dk_27 (dk_at dksX0_taste_1 22 rfl rfl)
theorem dX0_taste_47 : decode cX0_taste 47 = .ok (.iconst 2, 1) := dk_5 (dk_at dksX0_taste_1 23 rfl rfl)
theorem dX0_taste_48 : decode cX0_taste 48 = .ok (.if_icmp .ne 17, 3) := dk_160 0 17 (dk_at dksX0_taste_2 0 rfl rfl)
theorem dX0_taste_51 : decode cX0_taste 51 = .ok (.aload_n 0, 1) := dk_42 (dk_at dksX0_taste_2 3 rfl rfl)
theorem dX0_taste_52 : decode cX0_taste 52 = .ok (.getfield 65, 3) := dk_180 0 65 (dk_at dksX0_taste_2 4 rfl rfl)
theorem dX0_taste_55 : decode cX0_taste 55 = .ok (.aload_n 0, 1) := dk_42 (dk_at dksX0_taste_2 7 rfl rfl)
theorem dX0_taste_56 : decode cX0_taste 56 = .ok (.getfield 40, 3) := dk_180 0 40 (dk_at dksX0_taste_2 8 rfl rfl)
theorem dX0_taste_59 : decode cX0_taste 59 = .ok (.invokevirtual 194, 3) := dk_182 0 194 (dk_at dksX0_taste_2 11 rfl rfl)
theorem dX0_taste_62 : decode cX0_taste 62 = .ok (.goto 14, 3) := dk_167 0 14 (dk_at dksX0_taste_2 14 rfl rfl)
theorem dX0_taste_65 : decode cX0_taste 65 = .ok (.aload_n 0, 1) := dk_42 (dk_at dksX0_taste_2 17 rfl rfl)
theorem dX0_taste_66 : decode cX0_taste 66 = .ok (.getfield 65, 3) := dk_180 0 65 (dk_at dksX0_taste_2 18 rfl rfl)
theorem dX0_taste_69 : decode cX0_taste 69 = .ok (.aload_n 0, 1) := dk_42 (dk_at dksX0_taste_2 21 rfl rfl)
theorem dX0_taste_70 : decode cX0_taste 70 = .ok (.getfield 40, 3) := dk_180 0 40 (dk_at dksX0_taste_3 0 rfl rfl)
theorem dX0_taste_73 : decode cX0_taste 73 = .ok (.invokevirtual 198, 3) := dk_182 0 198 (dk_at dksX0_taste_3 3 rfl rfl)
theorem dX0_taste_76 : decode cX0_taste 76 = .ok (.ireturn, 1) := dk_172 (dk_at dksX0_taste_3 6 rfl rfl)
abbrev cX0_knob : ByteArray := prog_1_method_16_code
def yX0_knob : MethodName := ⟨RX0, "knob", "(I)I"⟩
def dkwX0_knob_1 : List UInt8 := [180, 0, 89, 27, 182, 0, 213, 153, 0, 13, 42, 180, 0, 89, 182, 0, 217, 167, 0, 4, 2, 172]
abbrev dktX0_knob_1 : List UInt8 := dkwX0_knob_1 ++ []
def dkwX0_knob_0 : List UInt8 := [27, 133, 9, 20, 0, 208, 184, 0, 109, 154, 0, 6, 16, 254, 172, 42, 180, 0, 89, 182, 0, 210, 42]
abbrev dktX0_knob_0 : List UInt8 := dkwX0_knob_0 ++ dktX0_knob_1
theorem dksX0_knob_0 : cX0_knob.data.toList.drop 0 = dktX0_knob_0 := by decide +kernel
theorem dksX0_knob_1 : cX0_knob.data.toList.drop 23 = dktX0_knob_1 := dk_seg dksX0_knob_0 23 rfl rfl
theorem dX0_knob_0 : decode cX0_knob 0 = .ok (.iload_n 1, 1) := dk_27 (dk_at dksX0_knob_0 0 rfl rfl)
theorem dX0_knob_1 : decode cX0_knob 1 = .ok (.i2l, 1) := dk_133 (dk_at dksX0_knob_0 1 rfl rfl)
theorem dX0_knob_2 : decode cX0_knob 2 = .ok (.lconst 0, 1) := dk_9 (dk_at dksX0_knob_0 2 rfl rfl)
theorem dX0_knob_3 : decode cX0_knob 3 = .ok (.ldc2_w 208, 3) := dk_20 0 208 (dk_at dksX0_knob_0 3 rfl rfl)
theorem dX0_knob_6 : decode cX0_knob 6 = .ok (.invokestatic 109, 3) := dk_184 0 109 (dk_at dksX0_knob_0 6 rfl rfl)
theorem dX0_knob_9 : decode cX0_knob 9 = .ok (.ifCond .ne 6, 3) := dk_154 0 6 (dk_at dksX0_knob_0 9 rfl rfl)
theorem dX0_knob_12 : decode cX0_knob 12 = .ok (.bipush (-2), 2) := dk_16 254 (dk_at dksX0_knob_0 12 rfl rfl)
theorem dX0_knob_14 : decode cX0_knob 14 = .ok (.ireturn, 1) := dk_172 (dk_at dksX0_knob_0 14 rfl rfl)
theorem dX0_knob_15 : decode cX0_knob 15 = .ok (.aload_n 0, 1) := dk_42 (dk_at dksX0_knob_0 15 rfl rfl)
theorem dX0_knob_16 : decode cX0_knob 16 = .ok (.getfield 89, 3) := dk_180 0 89 (dk_at dksX0_knob_0 16 rfl rfl)
theorem dX0_knob_19 : decode cX0_knob 19 = .ok (.invokevirtual 210, 3) := dk_182 0 210 (dk_at dksX0_knob_0 19 rfl rfl)
theorem dX0_knob_22 : decode cX0_knob 22 = .ok (.aload_n 0, 1) := dk_42 (dk_at dksX0_knob_0 22 rfl rfl)
theorem dX0_knob_23 : decode cX0_knob 23 = .ok (.getfield 89, 3) := dk_180 0 89 (dk_at dksX0_knob_1 0 rfl rfl)
theorem dX0_knob_26 : decode cX0_knob 26 = .ok (.iload_n 1, 1) := dk_27 (dk_at dksX0_knob_1 3 rfl rfl)
theorem dX0_knob_27 : decode cX0_knob 27 = .ok (.invokevirtual 213, 3) := dk_182 0 213 (dk_at dksX0_knob_1 4 rfl rfl)
theorem dX0_knob_30 : decode cX0_knob 30 = .ok (.ifCond .eq 13, 3) := dk_153 0 13 (dk_at dksX0_knob_1 7 rfl rfl)
theorem dX0_knob_33 : decode cX0_knob 33 = .ok (.aload_n 0, 1) := dk_42 (dk_at dksX0_knob_1 10 rfl rfl)
theorem dX0_knob_34 : decode cX0_knob 34 = .ok (.getfield 89, 3) := dk_180 0 89 (dk_at dksX0_knob_1 11 rfl rfl)
theorem dX0_knob_37 : decode cX0_knob 37 = .ok (.invokevirtual 217, 3) := dk_182 0 217 (dk_at dksX0_knob_1 14 rfl rfl)
theorem dX0_knob_40 : decode cX0_knob 40 = .ok (.goto 4, 3) := dk_167 0 4 (dk_at dksX0_knob_1 17 rfl rfl)
theorem dX0_knob_43 : decode cX0_knob 43 = .ok (.iconst (-1), 1) := dk_2 (dk_at dksX0_knob_1 20 rfl rfl)
theorem dX0_knob_44 : decode cX0_knob 44 = .ok (.ireturn, 1) := dk_172 (dk_at dksX0_knob_1 21 rfl rfl)
abbrev cX0_right : ByteArray := prog_1_method_18_code
def yX0_right : MethodName := ⟨RX0, "right", "(I)I"⟩
def dkwX0_right_3 : List UInt8 := [28, 16, 6, 104, 61, 132, 3, 1, 167, 255, 189, 2, 172]
abbrev dktX0_right_3 : List UInt8 := dkwX0_right_3 ++ []
def dkwX0_right_2 : List UInt8 := [162, 0, 16, 21, 4, 29, 4, 100, 27, 100, 184, 0, 228, 167, 0, 4, 2, 172, 132, 4, 1, 167, 255, 208]
abbrev dktX0_right_2 : List UInt8 := dkwX0_right_2 ++ dktX0_right_3
def dkwX0_right_1 : List UInt8 := [162, 0, 48, 42, 21, 4, 29, 182, 0, 224, 153, 0, 32, 27, 2, 160, 0, 7, 29, 167, 0, 22, 27, 29]
abbrev dktX0_right_1 : List UInt8 := dkwX0_right_1 ++ dktX0_right_2
def dkwX0_right_0 : List UInt8 := [27, 2, 162, 0, 6, 16, 253, 172, 4, 61, 3, 62, 29, 6, 163, 0, 68, 3, 54, 4, 21, 4, 28]
abbrev dktX0_right_0 : List UInt8 := dkwX0_right_0 ++ dktX0_right_1
theorem dksX0_right_0 : cX0_right.data.toList.drop 0 = dktX0_right_0 := by decide +kernel
theorem dksX0_right_1 : cX0_right.data.toList.drop 23 = dktX0_right_1 := dk_seg dksX0_right_0 23 rfl rfl
theorem dksX0_right_2 : cX0_right.data.toList.drop 47 = dktX0_right_2 := dk_seg dksX0_right_1 24 rfl rfl
theorem dksX0_right_3 : cX0_right.data.toList.drop 71 = dktX0_right_3 := dk_seg dksX0_right_2 24 rfl rfl
theorem dX0_right_0 : decode cX0_right 0 = .ok (.iload_n 1, 1) := dk_27 (dk_at dksX0_right_0 0 rfl rfl)
theorem dX0_right_1 : decode cX0_right 1 = .ok (.iconst (-1), 1) := dk_2 (dk_at dksX0_right_0 1 rfl rfl)
theorem dX0_right_2 : decode cX0_right 2 = .ok (.if_icmp .ge 6, 3) := dk_162 0 6 (dk_at dksX0_right_0 2 rfl rfl)
theorem dX0_right_5 : decode cX0_right 5 = .ok (.bipush (-3), 2) := dk_16 253 (dk_at dksX0_right_0 5 rfl rfl)
theorem dX0_right_7 : decode cX0_right 7 = .ok (.ireturn, 1) := dk_172 (dk_at dksX0_right_0 7 rfl rfl)
theorem dX0_right_8 : decode cX0_right 8 = .ok (.iconst 1, 1) := dk_4 (dk_at dksX0_right_0 8 rfl rfl)
theorem dX0_right_9 : decode cX0_right 9 = .ok (.istore_n 2, 1) := dk_61 (dk_at dksX0_right_0 9 rfl rfl)
theorem dX0_right_10 : decode cX0_right 10 = .ok (.iconst 0, 1) := dk_3 (dk_at dksX0_right_0 10 rfl rfl)
theorem dX0_right_11 : decode cX0_right 11 = .ok (.istore_n 3, 1) := dk_62 (dk_at dksX0_right_0 11 rfl rfl)
theorem dX0_right_12 : decode cX0_right 12 = .ok (.iload_n 3, 1) := dk_29 (dk_at dksX0_right_0 12 rfl rfl)
theorem dX0_right_13 : decode cX0_right 13 = .ok (.iconst 3, 1) := dk_6 (dk_at dksX0_right_0 13 rfl rfl)
theorem dX0_right_14 : decode cX0_right 14 = .ok (.if_icmp .gt 68, 3) := dk_163 0 68 (dk_at dksX0_right_0 14 rfl rfl)
theorem dX0_right_17 : decode cX0_right 17 = .ok (.iconst 0, 1) := dk_3 (dk_at dksX0_right_0 17 rfl rfl)
theorem dX0_right_18 : decode cX0_right 18 = .ok (.istore 4, 2) := dk_54 4 (dk_at dksX0_right_0 18 rfl rfl)
theorem dX0_right_20 : decode cX0_right 20 = .ok (.iload 4, 2) := dk_21 4 (dk_at dksX0_right_0 20 rfl rfl)
theorem dX0_right_22 : decode cX0_right 22 = .ok (.iload_n 2, 1) := dk_28 (dk_at dksX0_right_0 22 rfl rfl)
theorem dX0_right_23 : decode cX0_right 23 = .ok (.if_icmp .ge 48, 3) := dk_162 0 48 (dk_at dksX0_right_1 0 rfl rfl)
theorem dX0_right_26 : decode cX0_right 26 = .ok (.aload_n 0, 1) := dk_42 (dk_at dksX0_right_1 3 rfl rfl)
theorem dX0_right_27 : decode cX0_right 27 = .ok (.iload 4, 2) := dk_21 4 (dk_at dksX0_right_1 4 rfl rfl)
theorem dX0_right_29 : decode cX0_right 29 = .ok (.iload_n 3, 1) := dk_29 (dk_at dksX0_right_1 6 rfl rfl)
theorem dX0_right_30 : decode cX0_right 30 = .ok (.invokevirtual 224, 3) := dk_182 0 224 (dk_at dksX0_right_1 7 rfl rfl)
theorem dX0_right_33 : decode cX0_right 33 = .ok (.ifCond .eq 32, 3) := dk_153 0 32 (dk_at dksX0_right_1 10 rfl rfl)
theorem dX0_right_36 : decode cX0_right 36 = .ok (.iload_n 1, 1) := dk_27 (dk_at dksX0_right_1 13 rfl rfl)
theorem dX0_right_37 : decode cX0_right 37 = .ok (.iconst (-1), 1) := dk_2 (dk_at dksX0_right_1 14 rfl rfl)
theorem dX0_right_38 : decode cX0_right 38 = .ok (.if_icmp .ne 7, 3) := dk_160 0 7 (dk_at dksX0_right_1 15 rfl rfl)
theorem dX0_right_41 : decode cX0_right 41 = .ok (.iload_n 3, 1) := dk_29 (dk_at dksX0_right_1 18 rfl rfl)
theorem dX0_right_42 : decode cX0_right 42 = .ok (.goto 22, 3) := dk_167 0 22 (dk_at dksX0_right_1 19 rfl rfl)
theorem dX0_right_45 : decode cX0_right 45 = .ok (.iload_n 1, 1) := dk_27 (dk_at dksX0_right_1 22 rfl rfl)
theorem dX0_right_46 : decode cX0_right 46 = .ok (.iload_n 3, 1) := dk_29 (dk_at dksX0_right_1 23 rfl rfl)
theorem dX0_right_47 : decode cX0_right 47 = .ok (.if_icmp .ge 16, 3) := dk_162 0 16 (dk_at dksX0_right_2 0 rfl rfl)
theorem dX0_right_50 : decode cX0_right 50 = .ok (.iload 4, 2) := dk_21 4 (dk_at dksX0_right_2 3 rfl rfl)
theorem dX0_right_52 : decode cX0_right 52 = .ok (.iload_n 3, 1) := dk_29 (dk_at dksX0_right_2 5 rfl rfl)
theorem dX0_right_53 : decode cX0_right 53 = .ok (.iconst 1, 1) := dk_4 (dk_at dksX0_right_2 6 rfl rfl)
theorem dX0_right_54 : decode cX0_right 54 = .ok (.isub, 1) := dk_100 (dk_at dksX0_right_2 7 rfl rfl)
theorem dX0_right_55 : decode cX0_right 55 = .ok (.iload_n 1, 1) := dk_27 (dk_at dksX0_right_2 8 rfl rfl)
theorem dX0_right_56 : decode cX0_right 56 = .ok (.isub, 1) := dk_100 (dk_at dksX0_right_2 9 rfl rfl)
theorem dX0_right_57 : decode cX0_right 57 = .ok (.invokestatic 228, 3) := dk_184 0 228 (dk_at dksX0_right_2 10 rfl rfl)
theorem dX0_right_60 : decode cX0_right 60 = .ok (.goto 4, 3) := dk_167 0 4 (dk_at dksX0_right_2 13 rfl rfl)
theorem dX0_right_63 : decode cX0_right 63 = .ok (.iconst (-1), 1) := dk_2 (dk_at dksX0_right_2 16 rfl rfl)
theorem dX0_right_64 : decode cX0_right 64 = .ok (.ireturn, 1) := dk_172 (dk_at dksX0_right_2 17 rfl rfl)
theorem dX0_right_65 : decode cX0_right 65 = .ok (.iinc 4 1, 3) := dk_132 4 1 (dk_at dksX0_right_2 18 rfl rfl)
theorem dX0_right_68 : decode cX0_right 68 = .ok (.goto (-48), 3) := dk_167 255 208 (dk_at dksX0_right_2 21 rfl rfl)
theorem dX0_right_71 : decode cX0_right 71 = .ok (.iload_n 2, 1) := dk_28 (dk_at dksX0_right_3 0 rfl rfl)
theorem dX0_right_72 : decode cX0_right 72 = .ok (.bipush 6, 2) := dk_16 6 (dk_at dksX0_right_3 1 rfl rfl)
theorem dX0_right_74 : decode cX0_right 74 = .ok (.imul, 1) := dk_104 (dk_at dksX0_right_3 3 rfl rfl)
theorem dX0_right_75 : decode cX0_right 75 = .ok (.istore_n 2, 1) := dk_61 (dk_at dksX0_right_3 4 rfl rfl)
theorem dX0_right_76 : decode cX0_right 76 = .ok (.iinc 3 1, 3) := dk_132 3 1 (dk_at dksX0_right_3 5 rfl rfl)
theorem dX0_right_79 : decode cX0_right 79 = .ok (.goto (-67), 3) := dk_167 255 189 (dk_at dksX0_right_3 8 rfl rfl)
theorem dX0_right_82 : decode cX0_right 82 = .ok (.iconst (-1), 1) := dk_2 (dk_at dksX0_right_3 11 rfl rfl)
theorem dX0_right_83 : decode cX0_right 83 = .ok (.ireturn, 1) := dk_172 (dk_at dksX0_right_3 12 rfl rfl)
abbrev cX0_isRight : ByteArray := prog_1_method_17_code
def yX0_isRight : MethodName := ⟨RX0, "isRight", "(II)Z"⟩
def dkwX0_isRight_4 : List UInt8 := [167, 0, 4, 3, 172]
abbrev dktX0_isRight_4 : List UInt8 := dkwX0_isRight_4 ++ []
def dkwX0_isRight_3 : List UInt8 := [54, 4, 132, 5, 1, 167, 255, 217, 29, 153, 0, 17, 42, 180, 0, 89, 182, 0, 217, 154, 0, 7, 4]
abbrev dktX0_isRight_3 : List UInt8 := dkwX0_isRight_3 ++ dktX0_isRight_4
def dkwX0_isRight_2 : List UInt8 := [42, 180, 0, 89, 27, 21, 4, 108, 16, 6, 112, 182, 0, 213, 62, 4, 21, 4, 16, 6, 108, 184, 0, 218]
abbrev dktX0_isRight_2 : List UInt8 := dkwX0_isRight_2 ++ dktX0_isRight_3
def dkwX0_isRight_1 : List UInt8 := [16, 6, 104, 54, 4, 132, 5, 1, 167, 255, 240, 3, 54, 5, 21, 5, 28, 162, 0, 39, 29, 153, 0, 35]
abbrev dktX0_isRight_1 : List UInt8 := dkwX0_isRight_1 ++ dktX0_isRight_2
def dkwX0_isRight_0 : List UInt8 := [42, 180, 0, 89, 182, 0, 210, 4, 62, 4, 54, 4, 4, 54, 5, 21, 5, 28, 162, 0, 16, 21, 4]
abbrev dktX0_isRight_0 : List UInt8 := dkwX0_isRight_0 ++ dktX0_isRight_1
theorem dksX0_isRight_0 : cX0_isRight.data.toList.drop 0 = dktX0_isRight_0 := by decide +kernel
theorem dksX0_isRight_1 : cX0_isRight.data.toList.drop 23 = dktX0_isRight_1 := dk_seg dksX0_isRight_0 23 rfl rfl
theorem dksX0_isRight_2 : cX0_isRight.data.toList.drop 47 = dktX0_isRight_2 := dk_seg dksX0_isRight_1 24 rfl rfl
theorem dksX0_isRight_3 : cX0_isRight.data.toList.drop 71 = dktX0_isRight_3 := dk_seg dksX0_isRight_2 24 rfl rfl
theorem dksX0_isRight_4 : cX0_isRight.data.toList.drop 94 = dktX0_isRight_4 := dk_seg dksX0_isRight_3 23 rfl rfl
theorem dX0_isRight_0 : decode cX0_isRight 0 = .ok (.aload_n 0, 1) := dk_42 (dk_at dksX0_isRight_0 0 rfl rfl)
theorem dX0_isRight_1 : decode cX0_isRight 1 = .ok (.getfield 89, 3) := dk_180 0 89 (dk_at dksX0_isRight_0 1 rfl rfl)
theorem dX0_isRight_4 : decode cX0_isRight 4 = .ok (.invokevirtual 210, 3) := dk_182 0 210 (dk_at dksX0_isRight_0 4 rfl rfl)
theorem dX0_isRight_7 : decode cX0_isRight 7 = .ok (.iconst 1, 1) := dk_4 (dk_at dksX0_isRight_0 7 rfl rfl)
theorem dX0_isRight_8 : decode cX0_isRight 8 = .ok (.istore_n 3, 1) := dk_62 (dk_at dksX0_isRight_0 8 rfl rfl)
theorem dX0_isRight_9 : decode cX0_isRight 9 = .ok (.iconst 1, 1) := dk_4 (dk_at dksX0_isRight_0 9 rfl rfl)
theorem dX0_isRight_10 : decode cX0_isRight 10 = .ok (.istore 4, 2) := dk_54 4 (dk_at dksX0_isRight_0 10 rfl rfl)
theorem dX0_isRight_12 : decode cX0_isRight 12 = .ok (.iconst 1, 1) := dk_4 (dk_at dksX0_isRight_0 12 rfl rfl)
theorem dX0_isRight_13 : decode cX0_isRight 13 = .ok (.istore 5, 2) := dk_54 5 (dk_at dksX0_isRight_0 13 rfl rfl)
theorem dX0_isRight_15 : decode cX0_isRight 15 = .ok (.iload 5, 2) := dk_21 5 (dk_at dksX0_isRight_0 15 rfl rfl)
theorem dX0_isRight_17 : decode cX0_isRight 17 = .ok (.iload_n 2, 1) := dk_28 (dk_at dksX0_isRight_0 17 rfl rfl)
theorem dX0_isRight_18 : decode cX0_isRight 18 = .ok (.if_icmp .ge 16, 3) := dk_162 0 16 (dk_at dksX0_isRight_0 18 rfl rfl)
theorem dX0_isRight_21 : decode cX0_isRight 21 = .ok (.iload 4, 2) := dk_21 4 (dk_at dksX0_isRight_0 21 rfl rfl)
theorem dX0_isRight_23 : decode cX0_isRight 23 = .ok (.bipush 6, 2) := dk_16 6 (dk_at dksX0_isRight_1 0 rfl rfl)
theorem dX0_isRight_25 : decode cX0_isRight 25 = .ok (.imul, 1) := dk_104 (dk_at dksX0_isRight_1 2 rfl rfl)
theorem dX0_isRight_26 : decode cX0_isRight 26 = .ok (.istore 4, 2) := dk_54 4 (dk_at dksX0_isRight_1 3 rfl rfl)
theorem dX0_isRight_28 : decode cX0_isRight 28 = .ok (.iinc 5 1, 3) := dk_132 5 1 (dk_at dksX0_isRight_1 5 rfl rfl)
theorem dX0_isRight_31 : decode cX0_isRight 31 = .ok (.goto (-16), 3) := dk_167 255 240 (dk_at dksX0_isRight_1 8 rfl rfl)
theorem dX0_isRight_34 : decode cX0_isRight 34 = .ok (.iconst 0, 1) := dk_3 (dk_at dksX0_isRight_1 11 rfl rfl)
theorem dX0_isRight_35 : decode cX0_isRight 35 = .ok (.istore 5, 2) := dk_54 5 (dk_at dksX0_isRight_1 12 rfl rfl)
theorem dX0_isRight_37 : decode cX0_isRight 37 = .ok (.iload 5, 2) := dk_21 5 (dk_at dksX0_isRight_1 14 rfl rfl)
theorem dX0_isRight_39 : decode cX0_isRight 39 = .ok (.iload_n 2, 1) := dk_28 (dk_at dksX0_isRight_1 16 rfl rfl)
theorem dX0_isRight_40 : decode cX0_isRight 40 = .ok (.if_icmp .ge 39, 3) := dk_162 0 39 (dk_at dksX0_isRight_1 17 rfl rfl)
theorem dX0_isRight_43 : decode cX0_isRight 43 = .ok (.iload_n 3, 1) := dk_29 (dk_at dksX0_isRight_1 20 rfl rfl)
theorem dX0_isRight_44 : decode cX0_isRight 44 = .ok (.ifCond .eq 35, 3) := dk_153 0 35 (dk_at dksX0_isRight_1 21 rfl rfl)
theorem dX0_isRight_47 : decode cX0_isRight 47 = .ok (.aload_n 0, 1) := dk_42 (dk_at dksX0_isRight_2 0 rfl rfl)
theorem dX0_isRight_48 : decode cX0_isRight 48 = .ok (.getfield 89, 3) := dk_180 0 89 (dk_at dksX0_isRight_2 1 rfl rfl)
theorem dX0_isRight_51 : decode cX0_isRight 51 = .ok (.iload_n 1, 1) := dk_27 (dk_at dksX0_isRight_2 4 rfl rfl)
theorem dX0_isRight_52 : decode cX0_isRight 52 = .ok (.iload 4, 2) := dk_21 4 (dk_at dksX0_isRight_2 5 rfl rfl)
theorem dX0_isRight_54 : decode cX0_isRight 54 = .ok (.idiv, 1) := dk_108 (dk_at dksX0_isRight_2 7 rfl rfl)
theorem dX0_isRight_55 : decode cX0_isRight 55 = .ok (.bipush 6, 2) := dk_16 6 (dk_at dksX0_isRight_2 8 rfl rfl)
theorem dX0_isRight_57 : decode cX0_isRight 57 = .ok (.irem, 1) := dk_112 (dk_at dksX0_isRight_2 10 rfl rfl)
theorem dX0_isRight_58 : decode cX0_isRight 58 = .ok (.invokevirtual 213, 3) := dk_182 0 213 (dk_at dksX0_isRight_2 11 rfl rfl)
theorem dX0_isRight_61 : decode cX0_isRight 61 = .ok (.istore_n 3, 1) := dk_62 (dk_at dksX0_isRight_2 14 rfl rfl)
theorem dX0_isRight_62 : decode cX0_isRight 62 = .ok (.iconst 1, 1) := dk_4 (dk_at dksX0_isRight_2 15 rfl rfl)
theorem dX0_isRight_63 : decode cX0_isRight 63 = .ok (.iload 4, 2) := dk_21 4 (dk_at dksX0_isRight_2 16 rfl rfl)
theorem dX0_isRight_65 : decode cX0_isRight 65 = .ok (.bipush 6, 2) := dk_16 6 (dk_at dksX0_isRight_2 18 rfl rfl)
theorem dX0_isRight_67 : decode cX0_isRight 67 = .ok (.idiv, 1) := dk_108 (dk_at dksX0_isRight_2 20 rfl rfl)
theorem dX0_isRight_68 : decode cX0_isRight 68 = .ok (.invokestatic 218, 3) := dk_184 0 218 (dk_at dksX0_isRight_2 21 rfl rfl)
theorem dX0_isRight_71 : decode cX0_isRight 71 = .ok (.istore 4, 2) := dk_54 4 (dk_at dksX0_isRight_3 0 rfl rfl)
theorem dX0_isRight_73 : decode cX0_isRight 73 = .ok (.iinc 5 1, 3) := dk_132 5 1 (dk_at dksX0_isRight_3 2 rfl rfl)
theorem dX0_isRight_76 : decode cX0_isRight 76 = .ok (.goto (-39), 3) := dk_167 255 217 (dk_at dksX0_isRight_3 5 rfl rfl)
theorem dX0_isRight_79 : decode cX0_isRight 79 = .ok (.iload_n 3, 1) := dk_29 (dk_at dksX0_isRight_3 8 rfl rfl)
theorem dX0_isRight_80 : decode cX0_isRight 80 = .ok (.ifCond .eq 17, 3) := dk_153 0 17 (dk_at dksX0_isRight_3 9 rfl rfl)
theorem dX0_isRight_83 : decode cX0_isRight 83 = .ok (.aload_n 0, 1) := dk_42 (dk_at dksX0_isRight_3 12 rfl rfl)
theorem dX0_isRight_84 : decode cX0_isRight 84 = .ok (.getfield 89, 3) := dk_180 0 89 (dk_at dksX0_isRight_3 13 rfl rfl)
theorem dX0_isRight_87 : decode cX0_isRight 87 = .ok (.invokevirtual 217, 3) := dk_182 0 217 (dk_at dksX0_isRight_3 16 rfl rfl)
theorem dX0_isRight_90 : decode cX0_isRight 90 = .ok (.ifCond .ne 7, 3) := dk_154 0 7 (dk_at dksX0_isRight_3 19 rfl rfl)
theorem dX0_isRight_93 : decode cX0_isRight 93 = .ok (.iconst 1, 1) := dk_4 (dk_at dksX0_isRight_3 22 rfl rfl)
theorem dX0_isRight_94 : decode cX0_isRight 94 = .ok (.goto 4, 3) := dk_167 0 4 (dk_at dksX0_isRight_4 0 rfl rfl)
theorem dX0_isRight_97 : decode cX0_isRight 97 = .ok (.iconst 0, 1) := dk_3 (dk_at dksX0_isRight_4 3 rfl rfl)
theorem dX0_isRight_98 : decode cX0_isRight 98 = .ok (.ireturn, 1) := dk_172 (dk_at dksX0_isRight_4 4 rfl rfl)
abbrev cX0_figure : ByteArray := prog_1_method_19_code
def yX0_figure : MethodName := ⟨RX0, "figure", "(II)I"⟩
def dkwX0_figure_1 : List UInt8 := [172]
abbrev dktX0_figure_1 : List UInt8 := dkwX0_figure_1 ++ []
def dkwX0_figure_0 : List UInt8 := [26, 61, 3, 62, 29, 27, 162, 0, 14, 28, 16, 6, 108, 61, 132, 3, 1, 167, 255, 243, 28, 16, 6, 112]
abbrev dktX0_figure_0 : List UInt8 := dkwX0_figure_0 ++ dktX0_figure_1
theorem dksX0_figure_0 : cX0_figure.data.toList.drop 0 = dktX0_figure_0 := by decide +kernel
theorem dksX0_figure_1 : cX0_figure.data.toList.drop 24 = dktX0_figure_1 := dk_seg dksX0_figure_0 24 rfl rfl
theorem dX0_figure_0 : decode cX0_figure 0 = .ok (.iload_n 0, 1) := dk_26 (dk_at dksX0_figure_0 0 rfl rfl)
theorem dX0_figure_1 : decode cX0_figure 1 = .ok (.istore_n 2, 1) := dk_61 (dk_at dksX0_figure_0 1 rfl rfl)
theorem dX0_figure_2 : decode cX0_figure 2 = .ok (.iconst 0, 1) := dk_3 (dk_at dksX0_figure_0 2 rfl rfl)
theorem dX0_figure_3 : decode cX0_figure 3 = .ok (.istore_n 3, 1) := dk_62 (dk_at dksX0_figure_0 3 rfl rfl)
theorem dX0_figure_4 : decode cX0_figure 4 = .ok (.iload_n 3, 1) := dk_29 (dk_at dksX0_figure_0 4 rfl rfl)
theorem dX0_figure_5 : decode cX0_figure 5 = .ok (.iload_n 1, 1) := dk_27 (dk_at dksX0_figure_0 5 rfl rfl)
theorem dX0_figure_6 : decode cX0_figure 6 = .ok (.if_icmp .ge 14, 3) := dk_162 0 14 (dk_at dksX0_figure_0 6 rfl rfl)
theorem dX0_figure_9 : decode cX0_figure 9 = .ok (.iload_n 2, 1) := dk_28 (dk_at dksX0_figure_0 9 rfl rfl)
theorem dX0_figure_10 : decode cX0_figure 10 = .ok (.bipush 6, 2) := dk_16 6 (dk_at dksX0_figure_0 10 rfl rfl)
theorem dX0_figure_12 : decode cX0_figure 12 = .ok (.idiv, 1) := dk_108 (dk_at dksX0_figure_0 12 rfl rfl)
theorem dX0_figure_13 : decode cX0_figure 13 = .ok (.istore_n 2, 1) := dk_61 (dk_at dksX0_figure_0 13 rfl rfl)
theorem dX0_figure_14 : decode cX0_figure 14 = .ok (.iinc 3 1, 3) := dk_132 3 1 (dk_at dksX0_figure_0 14 rfl rfl)
theorem dX0_figure_17 : decode cX0_figure 17 = .ok (.goto (-13), 3) := dk_167 255 243 (dk_at dksX0_figure_0 17 rfl rfl)
theorem dX0_figure_20 : decode cX0_figure 20 = .ok (.iload_n 2, 1) := dk_28 (dk_at dksX0_figure_0 20 rfl rfl)
theorem dX0_figure_21 : decode cX0_figure 21 = .ok (.bipush 6, 2) := dk_16 6 (dk_at dksX0_figure_0 21 rfl rfl)
theorem dX0_figure_23 : decode cX0_figure 23 = .ok (.irem, 1) := dk_112 (dk_at dksX0_figure_0 23 rfl rfl)
theorem dX0_figure_24 : decode cX0_figure 24 = .ok (.ireturn, 1) := dk_172 (dk_at dksX0_figure_1 0 rfl rfl)
abbrev cX0_broad : ByteArray := prog_1_method_21_code
def yX0_broad : MethodName := ⟨RX0, "broad", "(I)I"⟩
def dkwX0_broad_7 : List UInt8 := [16, 11, 108, 167, 0, 10, 16, 10, 28, 16, 11, 112, 104, 172]
abbrev dktX0_broad_7 : List UInt8 := dkwX0_broad_7 ++ []
def dkwX0_broad_6 : List UInt8 := [154, 0, 18, 42, 28, 16, 11, 108, 28, 16, 11, 112, 182, 0, 242, 167, 0, 22, 27, 4, 160, 0, 10, 28]
abbrev dktX0_broad_6 : List UInt8 := dkwX0_broad_6 ++ dktX0_broad_7
def dkwX0_broad_5 : List UInt8 := [16, 11, 112, 182, 0, 242, 164, 0, 7, 29, 167, 0, 4, 28, 61, 132, 3, 1, 167, 255, 214, 27]
abbrev dktX0_broad_5 : List UInt8 := dkwX0_broad_5 ++ dktX0_broad_6
def dkwX0_broad_4 : List UInt8 := [16, 121, 162, 0, 42, 42, 29, 16, 11, 108, 29, 16, 11, 112, 182, 0, 242, 42, 28, 16, 11, 108, 28]
abbrev dktX0_broad_4 : List UInt8 := dkwX0_broad_4 ++ dktX0_broad_5
def dkwX0_broad_3 : List UInt8 := [182, 0, 241, 154, 0, 7, 4, 167, 0, 4, 3, 79, 132, 2, 1, 167, 255, 193, 3, 61, 4, 62, 29]
abbrev dktX0_broad_3 : List UInt8 := dkwX0_broad_3 ++ dktX0_broad_4
def dkwX0_broad_2 : List UInt8 := [16, 11, 112, 104, 181, 0, 238, 42, 180, 0, 100, 28, 16, 11, 108, 50, 28, 16, 11, 112, 42, 180, 0, 96]
abbrev dktX0_broad_2 : List UInt8 := dkwX0_broad_2 ++ dktX0_broad_3
def dkwX0_broad_1 : List UInt8 := [28, 16, 121, 162, 0, 63, 42, 180, 0, 96, 28, 16, 11, 108, 181, 0, 235, 42, 180, 0, 96, 16, 10, 28]
abbrev dktX0_broad_1 : List UInt8 := dkwX0_broad_1 ++ dktX0_broad_2
def dkwX0_broad_0 : List UInt8 := [27, 133, 9, 20, 0, 143, 184, 0, 109, 154, 0, 6, 16, 253, 172, 42, 180, 0, 96, 182, 0, 234, 3, 61]
abbrev dktX0_broad_0 : List UInt8 := dkwX0_broad_0 ++ dktX0_broad_1
theorem dksX0_broad_0 : cX0_broad.data.toList.drop 0 = dktX0_broad_0 := by decide +kernel
theorem dksX0_broad_1 : cX0_broad.data.toList.drop 24 = dktX0_broad_1 := dk_seg dksX0_broad_0 24 rfl rfl
theorem dksX0_broad_2 : cX0_broad.data.toList.drop 48 = dktX0_broad_2 := dk_seg dksX0_broad_1 24 rfl rfl
theorem dksX0_broad_3 : cX0_broad.data.toList.drop 72 = dktX0_broad_3 := dk_seg dksX0_broad_2 24 rfl rfl
theorem dksX0_broad_4 : cX0_broad.data.toList.drop 95 = dktX0_broad_4 := dk_seg dksX0_broad_3 23 rfl rfl
theorem dksX0_broad_5 : cX0_broad.data.toList.drop 118 = dktX0_broad_5 := dk_seg dksX0_broad_4 23 rfl rfl
theorem dksX0_broad_6 : cX0_broad.data.toList.drop 140 = dktX0_broad_6 := dk_seg dksX0_broad_5 22 rfl rfl
theorem dksX0_broad_7 : cX0_broad.data.toList.drop 164 = dktX0_broad_7 := dk_seg dksX0_broad_6 24 rfl rfl
theorem dX0_broad_0 : decode cX0_broad 0 = .ok (.iload_n 1, 1) := dk_27 (dk_at dksX0_broad_0 0 rfl rfl)
theorem dX0_broad_1 : decode cX0_broad 1 = .ok (.i2l, 1) := dk_133 (dk_at dksX0_broad_0 1 rfl rfl)
theorem dX0_broad_2 : decode cX0_broad 2 = .ok (.lconst 0, 1) := dk_9 (dk_at dksX0_broad_0 2 rfl rfl)
theorem dX0_broad_3 : decode cX0_broad 3 = .ok (.ldc2_w 143, 3) := dk_20 0 143 (dk_at dksX0_broad_0 3 rfl rfl)
theorem dX0_broad_6 : decode cX0_broad 6 = .ok (.invokestatic 109, 3) := dk_184 0 109 (dk_at dksX0_broad_0 6 rfl rfl)
theorem dX0_broad_9 : decode cX0_broad 9 = .ok (.ifCond .ne 6, 3) := dk_154 0 6 (dk_at dksX0_broad_0 9 rfl rfl)
theorem dX0_broad_12 : decode cX0_broad 12 = .ok (.bipush (-3), 2) := dk_16 253 (dk_at dksX0_broad_0 12 rfl rfl)
theorem dX0_broad_14 : decode cX0_broad 14 = .ok (.ireturn, 1) := dk_172 (dk_at dksX0_broad_0 14 rfl rfl)
theorem dX0_broad_15 : decode cX0_broad 15 = .ok (.aload_n 0, 1) := dk_42 (dk_at dksX0_broad_0 15 rfl rfl)
theorem dX0_broad_16 : decode cX0_broad 16 = .ok (.getfield 96, 3) := dk_180 0 96 (dk_at dksX0_broad_0 16 rfl rfl)
theorem dX0_broad_19 : decode cX0_broad 19 = .ok (.invokevirtual 234, 3) := dk_182 0 234 (dk_at dksX0_broad_0 19 rfl rfl)
theorem dX0_broad_22 : decode cX0_broad 22 = .ok (.iconst 0, 1) := dk_3 (dk_at dksX0_broad_0 22 rfl rfl)
theorem dX0_broad_23 : decode cX0_broad 23 = .ok (.istore_n 2, 1) := dk_61 (dk_at dksX0_broad_0 23 rfl rfl)
theorem dX0_broad_24 : decode cX0_broad 24 = .ok (.iload_n 2, 1) := dk_28 (dk_at dksX0_broad_1 0 rfl rfl)
theorem dX0_broad_25 : decode cX0_broad 25 = .ok (.bipush 121, 2) := dk_16 121 (dk_at dksX0_broad_1 1 rfl rfl)
theorem dX0_broad_27 : decode cX0_broad 27 = .ok (.if_icmp .ge 63, 3) := dk_162 0 63 (dk_at dksX0_broad_1 3 rfl rfl)
theorem dX0_broad_30 : decode cX0_broad 30 = .ok (.aload_n 0, 1) := dk_42 (dk_at dksX0_broad_1 6 rfl rfl)
theorem dX0_broad_31 : decode cX0_broad 31 = .ok (.getfield 96, 3) := dk_180 0 96 (dk_at dksX0_broad_1 7 rfl rfl)
theorem dX0_broad_34 : decode cX0_broad 34 = .ok (.iload_n 2, 1) := dk_28 (dk_at dksX0_broad_1 10 rfl rfl)
theorem dX0_broad_35 : decode cX0_broad 35 = .ok (.bipush 11, 2) := dk_16 11 (dk_at dksX0_broad_1 11 rfl rfl)
theorem dX0_broad_37 : decode cX0_broad 37 = .ok (.idiv, 1) := dk_108 (dk_at dksX0_broad_1 13 rfl rfl)
theorem dX0_broad_38 : decode cX0_broad 38 = .ok (.putfield 235, 3) := dk_181 0 235 (dk_at dksX0_broad_1 14 rfl rfl)
theorem dX0_broad_41 : decode cX0_broad 41 = .ok (.aload_n 0, 1) := dk_42 (dk_at dksX0_broad_1 17 rfl rfl)
theorem dX0_broad_42 : decode cX0_broad 42 = .ok (.getfield 96, 3) := dk_180 0 96 (dk_at dksX0_broad_1 18 rfl rfl)
theorem dX0_broad_45 : decode cX0_broad 45 = .ok (.bipush 10, 2) := dk_16 10 (dk_at dksX0_broad_1 21 rfl rfl)
theorem dX0_broad_47 : decode cX0_broad 47 = .ok (.iload_n 2, 1) := dk_28 (dk_at dksX0_broad_1 23 rfl rfl)
theorem dX0_broad_48 : decode cX0_broad 48 = .ok (.bipush 11, 2) := dk_16 11 (dk_at dksX0_broad_2 0 rfl rfl)
theorem dX0_broad_50 : decode cX0_broad 50 = .ok (.irem, 1) := dk_112 (dk_at dksX0_broad_2 2 rfl rfl)
theorem dX0_broad_51 : decode cX0_broad 51 = .ok (.imul, 1) := dk_104 (dk_at dksX0_broad_2 3 rfl rfl)
theorem dX0_broad_52 : decode cX0_broad 52 = .ok (.putfield 238, 3) := dk_181 0 238 (dk_at dksX0_broad_2 4 rfl rfl)
theorem dX0_broad_55 : decode cX0_broad 55 = .ok (.aload_n 0, 1) := dk_42 (dk_at dksX0_broad_2 7 rfl rfl)
theorem dX0_broad_56 : decode cX0_broad 56 = .ok (.getfield 100, 3) := dk_180 0 100 (dk_at dksX0_broad_2 8 rfl rfl)
theorem dX0_broad_59 : decode cX0_broad 59 = .ok (.iload_n 2, 1) := dk_28 (dk_at dksX0_broad_2 11 rfl rfl)
theorem dX0_broad_60 : decode cX0_broad 60 = .ok (.bipush 11, 2) := dk_16 11 (dk_at dksX0_broad_2 12 rfl rfl)
theorem dX0_broad_62 : decode cX0_broad 62 = .ok (.idiv, 1) := dk_108 (dk_at dksX0_broad_2 14 rfl rfl)
theorem dX0_broad_63 : decode cX0_broad 63 = .ok (.aaload, 1) := dk_50 (dk_at dksX0_broad_2 15 rfl rfl)
theorem dX0_broad_64 : decode cX0_broad 64 = .ok (.iload_n 2, 1) := dk_28 (dk_at dksX0_broad_2 16 rfl rfl)
theorem dX0_broad_65 : decode cX0_broad 65 = .ok (.bipush 11, 2) := dk_16 11 (dk_at dksX0_broad_2 17 rfl rfl)
theorem dX0_broad_67 : decode cX0_broad 67 = .ok (.irem, 1) := dk_112 (dk_at dksX0_broad_2 19 rfl rfl)
theorem dX0_broad_68 : decode cX0_broad 68 = .ok (.aload_n 0, 1) := dk_42 (dk_at dksX0_broad_2 20 rfl rfl)
theorem dX0_broad_69 : decode cX0_broad 69 = .ok (.getfield 96, 3) := dk_180 0 96 (dk_at dksX0_broad_2 21 rfl rfl)
theorem dX0_broad_72 : decode cX0_broad 72 = .ok (.invokevirtual 241, 3) := dk_182 0 241 (dk_at dksX0_broad_3 0 rfl rfl)
theorem dX0_broad_75 : decode cX0_broad 75 = .ok (.ifCond .ne 7, 3) := dk_154 0 7 (dk_at dksX0_broad_3 3 rfl rfl)
theorem dX0_broad_78 : decode cX0_broad 78 = .ok (.iconst 1, 1) := dk_4 (dk_at dksX0_broad_3 6 rfl rfl)
theorem dX0_broad_79 : decode cX0_broad 79 = .ok (.goto 4, 3) := dk_167 0 4 (dk_at dksX0_broad_3 7 rfl rfl)
theorem dX0_broad_82 : decode cX0_broad 82 = .ok (.iconst 0, 1) := dk_3 (dk_at dksX0_broad_3 10 rfl rfl)
theorem dX0_broad_83 : decode cX0_broad 83 = .ok (.iastore, 1) := dk_79 (dk_at dksX0_broad_3 11 rfl rfl)
theorem dX0_broad_84 : decode cX0_broad 84 = .ok (.iinc 2 1, 3) := dk_132 2 1 (dk_at dksX0_broad_3 12 rfl rfl)
theorem dX0_broad_87 : decode cX0_broad 87 = .ok (.goto (-63), 3) := dk_167 255 193 (dk_at dksX0_broad_3 15 rfl rfl)
theorem dX0_broad_90 : decode cX0_broad 90 = .ok (.iconst 0, 1) := dk_3 (dk_at dksX0_broad_3 18 rfl rfl)
theorem dX0_broad_91 : decode cX0_broad 91 = .ok (.istore_n 2, 1) := dk_61 (dk_at dksX0_broad_3 19 rfl rfl)
theorem dX0_broad_92 : decode cX0_broad 92 = .ok (.iconst 1, 1) := dk_4 (dk_at dksX0_broad_3 20 rfl rfl)
theorem dX0_broad_93 : decode cX0_broad 93 = .ok (.istore_n 3, 1) := dk_62 (dk_at dksX0_broad_3 21 rfl rfl)
theorem dX0_broad_94 : decode cX0_broad 94 = .ok (.iload_n 3, 1) := dk_29 (dk_at dksX0_broad_3 22 rfl rfl)
theorem dX0_broad_95 : decode cX0_broad 95 = .ok (.bipush 121, 2) := dk_16 121 (dk_at dksX0_broad_4 0 rfl rfl)
theorem dX0_broad_97 : decode cX0_broad 97 = .ok (.if_icmp .ge 42, 3) := dk_162 0 42 (dk_at dksX0_broad_4 2 rfl rfl)
theorem dX0_broad_100 : decode cX0_broad 100 = .ok (.aload_n 0, 1) := dk_42 (dk_at dksX0_broad_4 5 rfl rfl)
theorem dX0_broad_101 : decode cX0_broad 101 = .ok (.iload_n 3, 1) := dk_29 (dk_at dksX0_broad_4 6 rfl rfl)
theorem dX0_broad_102 : decode cX0_broad 102 = .ok (.bipush 11, 2) := dk_16 11 (dk_at dksX0_broad_4 7 rfl rfl)
theorem dX0_broad_104 : decode cX0_broad 104 = .ok (.idiv, 1) := dk_108 (dk_at dksX0_broad_4 9 rfl rfl)
theorem dX0_broad_105 : decode cX0_broad 105 = .ok (.iload_n 3, 1) := dk_29 (dk_at dksX0_broad_4 10 rfl rfl)
theorem dX0_broad_106 : decode cX0_broad 106 = .ok (.bipush 11, 2) := dk_16 11 (dk_at dksX0_broad_4 11 rfl rfl)
theorem dX0_broad_108 : decode cX0_broad 108 = .ok (.irem, 1) := dk_112 (dk_at dksX0_broad_4 13 rfl rfl)
theorem dX0_broad_109 : decode cX0_broad 109 = .ok (.invokevirtual 242, 3) := dk_182 0 242 (dk_at dksX0_broad_4 14 rfl rfl)
theorem dX0_broad_112 : decode cX0_broad 112 = .ok (.aload_n 0, 1) := dk_42 (dk_at dksX0_broad_4 17 rfl rfl)
theorem dX0_broad_113 : decode cX0_broad 113 = .ok (.iload_n 2, 1) := dk_28 (dk_at dksX0_broad_4 18 rfl rfl)
theorem dX0_broad_114 : decode cX0_broad 114 = .ok (.bipush 11, 2) := dk_16 11 (dk_at dksX0_broad_4 19 rfl rfl)
theorem dX0_broad_116 : decode cX0_broad 116 = .ok (.idiv, 1) := dk_108 (dk_at dksX0_broad_4 21 rfl rfl)
theorem dX0_broad_117 : decode cX0_broad 117 = .ok (.iload_n 2, 1) := dk_28 (dk_at dksX0_broad_4 22 rfl rfl)
theorem dX0_broad_118 : decode cX0_broad 118 = .ok (.bipush 11, 2) := dk_16 11 (dk_at dksX0_broad_5 0 rfl rfl)
theorem dX0_broad_120 : decode cX0_broad 120 = .ok (.irem, 1) := dk_112 (dk_at dksX0_broad_5 2 rfl rfl)
theorem dX0_broad_121 : decode cX0_broad 121 = .ok (.invokevirtual 242, 3) := dk_182 0 242 (dk_at dksX0_broad_5 3 rfl rfl)
theorem dX0_broad_124 : decode cX0_broad 124 = .ok (.if_icmp .le 7, 3) := dk_164 0 7 (dk_at dksX0_broad_5 6 rfl rfl)
theorem dX0_broad_127 : decode cX0_broad 127 = .ok (.iload_n 3, 1) := dk_29 (dk_at dksX0_broad_5 9 rfl rfl)
theorem dX0_broad_128 : decode cX0_broad 128 = .ok (.goto 4, 3) := dk_167 0 4 (dk_at dksX0_broad_5 10 rfl rfl)
theorem dX0_broad_131 : decode cX0_broad 131 = .ok (.iload_n 2, 1) := dk_28 (dk_at dksX0_broad_5 13 rfl rfl)
theorem dX0_broad_132 : decode cX0_broad 132 = .ok (.istore_n 2, 1) := dk_61 (dk_at dksX0_broad_5 14 rfl rfl)
theorem dX0_broad_133 : decode cX0_broad 133 = .ok (.iinc 3 1, 3) := dk_132 3 1 (dk_at dksX0_broad_5 15 rfl rfl)
theorem dX0_broad_136 : decode cX0_broad 136 = .ok (.goto (-42), 3) := dk_167 255 214 (dk_at dksX0_broad_5 18 rfl rfl)
theorem dX0_broad_139 : decode cX0_broad 139 = .ok (.iload_n 1, 1) := dk_27 (dk_at dksX0_broad_5 21 rfl rfl)
theorem dX0_broad_140 : decode cX0_broad 140 = .ok (.ifCond .ne 18, 3) := dk_154 0 18 (dk_at dksX0_broad_6 0 rfl rfl)
theorem dX0_broad_143 : decode cX0_broad 143 = .ok (.aload_n 0, 1) := dk_42 (dk_at dksX0_broad_6 3 rfl rfl)
theorem dX0_broad_144 : decode cX0_broad 144 = .ok (.iload_n 2, 1) := dk_28 (dk_at dksX0_broad_6 4 rfl rfl)
theorem dX0_broad_145 : decode cX0_broad 145 = .ok (.bipush 11, 2) := dk_16 11 (dk_at dksX0_broad_6 5 rfl rfl)
theorem dX0_broad_147 : decode cX0_broad 147 = .ok (.idiv, 1) := dk_108 (dk_at dksX0_broad_6 7 rfl rfl)
theorem dX0_broad_148 : decode cX0_broad 148 = .ok (.iload_n 2, 1) := dk_28 (dk_at dksX0_broad_6 8 rfl rfl)
theorem dX0_broad_149 : decode cX0_broad 149 = .ok (.bipush 11, 2) := dk_16 11 (dk_at dksX0_broad_6 9 rfl rfl)
theorem dX0_broad_151 : decode cX0_broad 151 = .ok (.irem, 1) := dk_112 (dk_at dksX0_broad_6 11 rfl rfl)
theorem dX0_broad_152 : decode cX0_broad 152 = .ok (.invokevirtual 242, 3) := dk_182 0 242 (dk_at dksX0_broad_6 12 rfl rfl)
theorem dX0_broad_155 : decode cX0_broad 155 = .ok (.goto 22, 3) := dk_167 0 22 (dk_at dksX0_broad_6 15 rfl rfl)
theorem dX0_broad_158 : decode cX0_broad 158 = .ok (.iload_n 1, 1) := dk_27 (dk_at dksX0_broad_6 18 rfl rfl)
theorem dX0_broad_159 : decode cX0_broad 159 = .ok (.iconst 1, 1) := dk_4 (dk_at dksX0_broad_6 19 rfl rfl)
theorem dX0_broad_160 : decode cX0_broad 160 = .ok (.if_icmp .ne 10, 3) := dk_160 0 10 (dk_at dksX0_broad_6 20 rfl rfl)
theorem dX0_broad_163 : decode cX0_broad 163 = .ok (.iload_n 2, 1) := dk_28 (dk_at dksX0_broad_6 23 rfl rfl)
theorem dX0_broad_164 : decode cX0_broad 164 = .ok (.bipush 11, 2) := dk_16 11 (dk_at dksX0_broad_7 0 rfl rfl)
theorem dX0_broad_166 : decode cX0_broad 166 = .ok (.idiv, 1) := dk_108 (dk_at dksX0_broad_7 2 rfl rfl)
theorem dX0_broad_167 : decode cX0_broad 167 = .ok (.goto 10, 3) := dk_167 0 10 (dk_at dksX0_broad_7 3 rfl rfl)
theorem dX0_broad_170 : decode cX0_broad 170 = .ok (.bipush 10, 2) := dk_16 10 (dk_at dksX0_broad_7 6 rfl rfl)
theorem dX0_broad_172 : decode cX0_broad 172 = .ok (.iload_n 2, 1) := dk_28 (dk_at dksX0_broad_7 8 rfl rfl)
theorem dX0_broad_173 : decode cX0_broad 173 = .ok (.bipush 11, 2) := dk_16 11 (dk_at dksX0_broad_7 9 rfl rfl)
theorem dX0_broad_175 : decode cX0_broad 175 = .ok (.irem, 1) := dk_112 (dk_at dksX0_broad_7 11 rfl rfl)
theorem dX0_broad_176 : decode cX0_broad 176 = .ok (.imul, 1) := dk_104 (dk_at dksX0_broad_7 12 rfl rfl)
theorem dX0_broad_177 : decode cX0_broad 177 = .ok (.ireturn, 1) := dk_172 (dk_at dksX0_broad_7 13 rfl rfl)
abbrev cX0_rightNear : ByteArray := prog_1_method_20_code
def yX0_rightNear : MethodName := ⟨RX0, "rightNear", "(II)I"⟩
def dkwX0_rightNear_3 : List UInt8 := [172]
abbrev dktX0_rightNear_3 : List UInt8 := dkwX0_rightNear_3 ++ []
def dkwX0_rightNear_2 : List UInt8 := [180, 0, 100, 21, 4, 50, 21, 5, 46, 96, 62, 132, 5, 1, 167, 255, 227, 132, 4, 1, 167, 255, 199, 29]
abbrev dktX0_rightNear_2 : List UInt8 := dkwX0_rightNear_2 ++ dktX0_rightNear_3
def dkwX0_rightNear_1 : List UInt8 := [3, 28, 4, 100, 184, 0, 218, 54, 5, 21, 5, 16, 10, 28, 4, 96, 184, 0, 231, 163, 0, 22, 29, 42]
abbrev dktX0_rightNear_1 : List UInt8 := dkwX0_rightNear_1 ++ dktX0_rightNear_2
def dkwX0_rightNear_0 : List UInt8 := [3, 62, 3, 27, 4, 100, 184, 0, 218, 54, 4, 21, 4, 16, 10, 27, 4, 96, 184, 0, 231, 163, 0, 50]
abbrev dktX0_rightNear_0 : List UInt8 := dkwX0_rightNear_0 ++ dktX0_rightNear_1
theorem dksX0_rightNear_0 : cX0_rightNear.data.toList.drop 0 = dktX0_rightNear_0 := by decide +kernel
theorem dksX0_rightNear_1 : cX0_rightNear.data.toList.drop 24 = dktX0_rightNear_1 := dk_seg dksX0_rightNear_0 24 rfl rfl
theorem dksX0_rightNear_2 : cX0_rightNear.data.toList.drop 48 = dktX0_rightNear_2 := dk_seg dksX0_rightNear_1 24 rfl rfl
theorem dksX0_rightNear_3 : cX0_rightNear.data.toList.drop 72 = dktX0_rightNear_3 := dk_seg dksX0_rightNear_2 24 rfl rfl
theorem dX0_rightNear_0 : decode cX0_rightNear 0 = .ok (.iconst 0, 1) := dk_3 (dk_at dksX0_rightNear_0 0 rfl rfl)
theorem dX0_rightNear_1 : decode cX0_rightNear 1 = .ok (.istore_n 3, 1) := dk_62 (dk_at dksX0_rightNear_0 1 rfl rfl)
theorem dX0_rightNear_2 : decode cX0_rightNear 2 = .ok (.iconst 0, 1) := dk_3 (dk_at dksX0_rightNear_0 2 rfl rfl)
theorem dX0_rightNear_3 : decode cX0_rightNear 3 = .ok (.iload_n 1, 1) := dk_27 (dk_at dksX0_rightNear_0 3 rfl rfl)
theorem dX0_rightNear_4 : decode cX0_rightNear 4 = .ok (.iconst 1, 1) := dk_4 (dk_at dksX0_rightNear_0 4 rfl rfl)
theorem dX0_rightNear_5 : decode cX0_rightNear 5 = .ok (.isub, 1) := dk_100 (dk_at dksX0_rightNear_0 5 rfl rfl)
theorem dX0_rightNear_6 : decode cX0_rightNear 6 = .ok (.invokestatic 218, 3) := dk_184 0 218 (dk_at dksX0_rightNear_0 6 rfl rfl)
theorem dX0_rightNear_9 : decode cX0_rightNear 9 = .ok (.istore 4, 2) := dk_54 4 (dk_at dksX0_rightNear_0 9 rfl rfl)
theorem dX0_rightNear_11 : decode cX0_rightNear 11 = .ok (.iload 4, 2) := dk_21 4 (dk_at dksX0_rightNear_0 11 rfl rfl)
theorem dX0_rightNear_13 : decode cX0_rightNear 13 = .ok (.bipush 10, 2) := dk_16 10 (dk_at dksX0_rightNear_0 13 rfl rfl)
theorem dX0_rightNear_15 : decode cX0_rightNear 15 = .ok (.iload_n 1, 1) := dk_27 (dk_at dksX0_rightNear_0 15 rfl rfl)
theorem dX0_rightNear_16 : decode cX0_rightNear 16 = .ok (.iconst 1, 1) := dk_4 (dk_at dksX0_rightNear_0 16 rfl rfl)
theorem dX0_rightNear_17 : decode cX0_rightNear 17 = .ok (.iadd, 1) := dk_96 (dk_at dksX0_rightNear_0 17 rfl rfl)
theorem dX0_rightNear_18 : decode cX0_rightNear 18 = .ok (.invokestatic 231, 3) := dk_184 0 231 (dk_at dksX0_rightNear_0 18 rfl rfl)
theorem dX0_rightNear_21 : decode cX0_rightNear 21 = .ok (.if_icmp .gt 50, 3) := dk_163 0 50 (dk_at dksX0_rightNear_0 21 rfl rfl)
theorem dX0_rightNear_24 : decode cX0_rightNear 24 = .ok (.iconst 0, 1) := dk_3 (dk_at dksX0_rightNear_1 0 rfl rfl)
theorem dX0_rightNear_25 : decode cX0_rightNear 25 = .ok (.iload_n 2, 1) := dk_28 (dk_at dksX0_rightNear_1 1 rfl rfl)
theorem dX0_rightNear_26 : decode cX0_rightNear 26 = .ok (.iconst 1, 1) := dk_4 (dk_at dksX0_rightNear_1 2 rfl rfl)
theorem dX0_rightNear_27 : decode cX0_rightNear 27 = .ok (.isub, 1) := dk_100 (dk_at dksX0_rightNear_1 3 rfl rfl)
theorem dX0_rightNear_28 : decode cX0_rightNear 28 = .ok (.invokestatic 218, 3) := dk_184 0 218 (dk_at dksX0_rightNear_1 4 rfl rfl)
theorem dX0_rightNear_31 : decode cX0_rightNear 31 = .ok (.istore 5, 2) := dk_54 5 (dk_at dksX0_rightNear_1 7 rfl rfl)
theorem dX0_rightNear_33 : decode cX0_rightNear 33 = .ok (.iload 5, 2) := dk_21 5 (dk_at dksX0_rightNear_1 9 rfl rfl)
theorem dX0_rightNear_35 : decode cX0_rightNear 35 = .ok (.bipush 10, 2) := dk_16 10 (dk_at dksX0_rightNear_1 11 rfl rfl)
theorem dX0_rightNear_37 : decode cX0_rightNear 37 = .ok (.iload_n 2, 1) := dk_28 (dk_at dksX0_rightNear_1 13 rfl rfl)
theorem dX0_rightNear_38 : decode cX0_rightNear 38 = .ok (.iconst 1, 1) := dk_4 (dk_at dksX0_rightNear_1 14 rfl rfl)
theorem dX0_rightNear_39 : decode cX0_rightNear 39 = .ok (.iadd, 1) := dk_96 (dk_at dksX0_rightNear_1 15 rfl rfl)
theorem dX0_rightNear_40 : decode cX0_rightNear 40 = .ok (.invokestatic 231, 3) := dk_184 0 231 (dk_at dksX0_rightNear_1 16 rfl rfl)
theorem dX0_rightNear_43 : decode cX0_rightNear 43 = .ok (.if_icmp .gt 22, 3) := dk_163 0 22 (dk_at dksX0_rightNear_1 19 rfl rfl)
theorem dX0_rightNear_46 : decode cX0_rightNear 46 = .ok (.iload_n 3, 1) := dk_29 (dk_at dksX0_rightNear_1 22 rfl rfl)
theorem dX0_rightNear_47 : decode cX0_rightNear 47 = .ok (.aload_n 0, 1) := dk_42 (dk_at dksX0_rightNear_1 23 rfl rfl)
theorem dX0_rightNear_48 : decode cX0_rightNear 48 = .ok (.getfield 100, 3) := dk_180 0 100 (dk_at dksX0_rightNear_2 0 rfl rfl)
theorem dX0_rightNear_51 : decode cX0_rightNear 51 = .ok (.iload 4, 2) := dk_21 4 (dk_at dksX0_rightNear_2 3 rfl rfl)
theorem dX0_rightNear_53 : decode cX0_rightNear 53 = .ok (.aaload, 1) := dk_50 (dk_at dksX0_rightNear_2 5 rfl rfl)
theorem dX0_rightNear_54 : decode cX0_rightNear 54 = .ok (.iload 5, 2) := dk_21 5 (dk_at dksX0_rightNear_2 6 rfl rfl)
theorem dX0_rightNear_56 : decode cX0_rightNear 56 = .ok (.iaload, 1) := dk_46 (dk_at dksX0_rightNear_2 8 rfl rfl)
theorem dX0_rightNear_57 : decode cX0_rightNear 57 = .ok (.iadd, 1) := dk_96 (dk_at dksX0_rightNear_2 9 rfl rfl)
theorem dX0_rightNear_58 : decode cX0_rightNear 58 = .ok (.istore_n 3, 1) := dk_62 (dk_at dksX0_rightNear_2 10 rfl rfl)
theorem dX0_rightNear_59 : decode cX0_rightNear 59 = .ok (.iinc 5 1, 3) := dk_132 5 1 (dk_at dksX0_rightNear_2 11 rfl rfl)
theorem dX0_rightNear_62 : decode cX0_rightNear 62 = .ok (.goto (-29), 3) := dk_167 255 227 (dk_at dksX0_rightNear_2 14 rfl rfl)
theorem dX0_rightNear_65 : decode cX0_rightNear 65 = .ok (.iinc 4 1, 3) := dk_132 4 1 (dk_at dksX0_rightNear_2 17 rfl rfl)
theorem dX0_rightNear_68 : decode cX0_rightNear 68 = .ok (.goto (-57), 3) := dk_167 255 199 (dk_at dksX0_rightNear_2 20 rfl rfl)
theorem dX0_rightNear_71 : decode cX0_rightNear 71 = .ok (.iload_n 3, 1) := dk_29 (dk_at dksX0_rightNear_2 23 rfl rfl)
theorem dX0_rightNear_72 : decode cX0_rightNear 72 = .ok (.ireturn, 1) := dk_172 (dk_at dksX0_rightNear_3 0 rfl rfl)
abbrev cX0_takes : ByteArray := prog_1_method_22_code
def yX0_takes : MethodName := ⟨RX0, "takes", "(II)I"⟩
def dkwX0_takes_4 : List UInt8 := [167, 0, 10, 42, 180, 0, 65, 180, 0, 150, 172]
abbrev dktX0_takes_4 : List UInt8 := dkwX0_takes_4 ++ []
def dkwX0_takes_3 : List UInt8 := [180, 0, 37, 182, 0, 153, 167, 255, 218, 42, 180, 0, 65, 180, 0, 187, 180, 0, 177, 27, 162, 0, 7, 2]
abbrev dktX0_takes_3 : List UInt8 := dkwX0_takes_3 ++ dktX0_takes_4
def dkwX0_takes_2 : List UInt8 := [162, 0, 32, 42, 180, 0, 65, 180, 0, 187, 180, 0, 177, 27, 162, 0, 18, 42, 180, 0, 65, 28, 42]
abbrev dktX0_takes_2 : List UInt8 := dkwX0_takes_2 ++ dktX0_takes_3
def dkwX0_takes_1 : List UInt8 := [16, 253, 172, 42, 180, 0, 65, 42, 180, 0, 40, 182, 0, 103, 42, 180, 0, 65, 180, 0, 150, 16, 60]
abbrev dktX0_takes_1 : List UInt8 := dkwX0_takes_1 ++ dktX0_takes_2
def dkwX0_takes_0 : List UInt8 := [27, 133, 10, 20, 0, 245, 184, 0, 109, 153, 0, 15, 28, 133, 9, 20, 0, 247, 184, 0, 109, 154, 0, 6]
abbrev dktX0_takes_0 : List UInt8 := dkwX0_takes_0 ++ dktX0_takes_1
theorem dksX0_takes_0 : cX0_takes.data.toList.drop 0 = dktX0_takes_0 := by decide +kernel
theorem dksX0_takes_1 : cX0_takes.data.toList.drop 24 = dktX0_takes_1 := dk_seg dksX0_takes_0 24 rfl rfl
theorem dksX0_takes_2 : cX0_takes.data.toList.drop 47 = dktX0_takes_2 := dk_seg dksX0_takes_1 23 rfl rfl
theorem dksX0_takes_3 : cX0_takes.data.toList.drop 70 = dktX0_takes_3 := dk_seg dksX0_takes_2 23 rfl rfl
theorem dksX0_takes_4 : cX0_takes.data.toList.drop 94 = dktX0_takes_4 := dk_seg dksX0_takes_3 24 rfl rfl
theorem dX0_takes_0 : decode cX0_takes 0 = .ok (.iload_n 1, 1) := dk_27 (dk_at dksX0_takes_0 0 rfl rfl)
theorem dX0_takes_1 : decode cX0_takes 1 = .ok (.i2l, 1) := dk_133 (dk_at dksX0_takes_0 1 rfl rfl)
theorem dX0_takes_2 : decode cX0_takes 2 = .ok (.lconst 1, 1) := dk_10 (dk_at dksX0_takes_0 2 rfl rfl)
theorem dX0_takes_3 : decode cX0_takes 3 = .ok (.ldc2_w 245, 3) := dk_20 0 245 (dk_at dksX0_takes_0 3 rfl rfl)
theorem dX0_takes_6 : decode cX0_takes 6 = .ok (.invokestatic 109, 3) := dk_184 0 109 (dk_at dksX0_takes_0 6 rfl rfl)
theorem dX0_takes_9 : decode cX0_takes 9 = .ok (.ifCond .eq 15, 3) := dk_153 0 15 (dk_at dksX0_takes_0 9 rfl rfl)
theorem dX0_takes_12 : decode cX0_takes 12 = .ok (.iload_n 2, 1) := dk_28 (dk_at dksX0_takes_0 12 rfl rfl)
theorem dX0_takes_13 : decode cX0_takes 13 = .ok (.i2l, 1) := dk_133 (dk_at dksX0_takes_0 13 rfl rfl)
theorem dX0_takes_14 : decode cX0_takes 14 = .ok (.lconst 0, 1) := dk_9 (dk_at dksX0_takes_0 14 rfl rfl)
theorem dX0_takes_15 : decode cX0_takes 15 = .ok (.ldc2_w 247, 3) := dk_20 0 247 (dk_at dksX0_takes_0 15 rfl rfl)
theorem dX0_takes_18 : decode cX0_takes 18 = .ok (.invokestatic 109, 3) := dk_184 0 109 (dk_at dksX0_takes_0 18 rfl rfl)
theorem dX0_takes_21 : decode cX0_takes 21 = .ok (.ifCond .ne 6, 3) := dk_154 0 6 (dk_at dksX0_takes_0 21 rfl rfl)
theorem dX0_takes_24 : decode cX0_takes 24 = .ok (.bipush (-3), 2) := dk_16 253 (dk_at dksX0_takes_1 0 rfl rfl)
theorem dX0_takes_26 : decode cX0_takes 26 = .ok (.ireturn, 1) := dk_172 (dk_at dksX0_takes_1 2 rfl rfl)
theorem dX0_takes_27 : decode cX0_takes 27 = .ok (.aload_n 0, 1) := dk_42 (dk_at dksX0_takes_1 3 rfl rfl)
theorem dX0_takes_28 : decode cX0_takes 28 = .ok (.getfield 65, 3) := dk_180 0 65 (dk_at dksX0_takes_1 4 rfl rfl)
theorem dX0_takes_31 : decode cX0_takes 31 = .ok (.aload_n 0, 1) := dk_42 (dk_at dksX0_takes_1 7 rfl rfl)
theorem dX0_takes_32 : decode cX0_takes 32 = .ok (.getfield 40, 3) := dk_180 0 40 (dk_at dksX0_takes_1 8 rfl rfl)
theorem dX0_takes_35 : decode cX0_takes 35 = .ok (.invokevirtual 103, 3) := dk_182 0 103 (dk_at dksX0_takes_1 11 rfl rfl)
theorem dX0_takes_38 : decode cX0_takes 38 = .ok (.aload_n 0, 1) := dk_42 (dk_at dksX0_takes_1 14 rfl rfl)
theorem dX0_takes_39 : decode cX0_takes 39 = .ok (.getfield 65, 3) := dk_180 0 65 (dk_at dksX0_takes_1 15 rfl rfl)
theorem dX0_takes_42 : decode cX0_takes 42 = .ok (.getfield 150, 3) := dk_180 0 150 (dk_at dksX0_takes_1 18 rfl rfl)
theorem dX0_takes_45 : decode cX0_takes 45 = .ok (.bipush 60, 2) := dk_16 60 (dk_at dksX0_takes_1 21 rfl rfl)
theorem dX0_takes_47 : decode cX0_takes 47 = .ok (.if_icmp .ge 32, 3) := dk_162 0 32 (dk_at dksX0_takes_2 0 rfl rfl)
theorem dX0_takes_50 : decode cX0_takes 50 = .ok (.aload_n 0, 1) := dk_42 (dk_at dksX0_takes_2 3 rfl rfl)
theorem dX0_takes_51 : decode cX0_takes 51 = .ok (.getfield 65, 3) := dk_180 0 65 (dk_at dksX0_takes_2 4 rfl rfl)
theorem dX0_takes_54 : decode cX0_takes 54 = .ok (.getfield 187, 3) := dk_180 0 187 (dk_at dksX0_takes_2 7 rfl rfl)
theorem dX0_takes_57 : decode cX0_takes 57 = .ok (.getfield 177, 3) := dk_180 0 177 (dk_at dksX0_takes_2 10 rfl rfl)
theorem dX0_takes_60 : decode cX0_takes 60 = .ok (.iload_n 1, 1) := dk_27 (dk_at dksX0_takes_2 13 rfl rfl)
theorem dX0_takes_61 : decode cX0_takes 61 = .ok (.if_icmp .ge 18, 3) := dk_162 0 18 (dk_at dksX0_takes_2 14 rfl rfl)
theorem dX0_takes_64 : decode cX0_takes 64 = .ok (.aload_n 0, 1) := dk_42 (dk_at dksX0_takes_2 17 rfl rfl)
theorem dX0_takes_65 : decode cX0_takes 65 = .ok (.getfield 65, 3) := dk_180 0 65 (dk_at dksX0_takes_2 18 rfl rfl)
theorem dX0_takes_68 : decode cX0_takes 68 = .ok (.iload_n 2, 1) := dk_28 (dk_at dksX0_takes_2 21 rfl rfl)
theorem dX0_takes_69 : decode cX0_takes 69 = .ok (.aload_n 0, 1) := dk_42 (dk_at dksX0_takes_2 22 rfl rfl)
theorem dX0_takes_70 : decode cX0_takes 70 = .ok (.getfield 37, 3) := dk_180 0 37 (dk_at dksX0_takes_3 0 rfl rfl)
theorem dX0_takes_73 : decode cX0_takes 73 = .ok (.invokevirtual 153, 3) := dk_182 0 153 (dk_at dksX0_takes_3 3 rfl rfl)
theorem dX0_takes_76 : decode cX0_takes 76 = .ok (.goto (-38), 3) := dk_167 255 218 (dk_at dksX0_takes_3 6 rfl rfl)
theorem dX0_takes_79 : decode cX0_takes 79 = .ok (.aload_n 0, 1) := dk_42 (dk_at dksX0_takes_3 9 rfl rfl)
theorem dX0_takes_80 : decode cX0_takes 80 = .ok (.getfield 65, 3) := dk_180 0 65 (dk_at dksX0_takes_3 10 rfl rfl)
theorem dX0_takes_83 : decode cX0_takes 83 = .ok (.getfield 187, 3) := dk_180 0 187 (dk_at dksX0_takes_3 13 rfl rfl)
theorem dX0_takes_86 : decode cX0_takes 86 = .ok (.getfield 177, 3) := dk_180 0 177 (dk_at dksX0_takes_3 16 rfl rfl)
theorem dX0_takes_89 : decode cX0_takes 89 = .ok (.iload_n 1, 1) := dk_27 (dk_at dksX0_takes_3 19 rfl rfl)
theorem dX0_takes_90 : decode cX0_takes 90 = .ok (.if_icmp .ge 7, 3) := dk_162 0 7 (dk_at dksX0_takes_3 20 rfl rfl)
theorem dX0_takes_93 : decode cX0_takes 93 = .ok (.iconst (-1), 1) := dk_2 (dk_at dksX0_takes_3 23 rfl rfl)
theorem dX0_takes_94 : decode cX0_takes 94 = .ok (.goto 10, 3) := dk_167 0 10 (dk_at dksX0_takes_4 0 rfl rfl)
theorem dX0_takes_97 : decode cX0_takes 97 = .ok (.aload_n 0, 1) := dk_42 (dk_at dksX0_takes_4 3 rfl rfl)
theorem dX0_takes_98 : decode cX0_takes 98 = .ok (.getfield 65, 3) := dk_180 0 65 (dk_at dksX0_takes_4 4 rfl rfl)
theorem dX0_takes_101 : decode cX0_takes 101 = .ok (.getfield 150, 3) := dk_180 0 150 (dk_at dksX0_takes_4 7 rfl rfl)
theorem dX0_takes_104 : decode cX0_takes 104 = .ok (.ireturn, 1) := dk_172 (dk_at dksX0_takes_4 10 rfl rfl)
abbrev cX0_little : ByteArray := prog_1_method_23_code
def yX0_little : MethodName := ⟨RX0, "little", "()I"⟩
def dkwX0_little_2 : List UInt8 := [180, 0, 96, 89, 180, 0, 249, 4, 96, 181, 0, 249, 167, 255, 212, 2, 172]
abbrev dktX0_little_2 : List UInt8 := dkwX0_little_2 ++ []
def dkwX0_little_1 : List UInt8 := [163, 0, 38, 42, 180, 0, 96, 182, 0, 241, 6, 159, 0, 11, 42, 180, 0, 96, 180, 0, 249, 172, 42]
abbrev dktX0_little_1 : List UInt8 := dkwX0_little_1 ++ dktX0_little_2
def dkwX0_little_0 : List UInt8 := [42, 180, 0, 96, 182, 0, 234, 42, 180, 0, 96, 4, 181, 0, 249, 42, 180, 0, 96, 180, 0, 249, 16, 20]
abbrev dktX0_little_0 : List UInt8 := dkwX0_little_0 ++ dktX0_little_1
theorem dksX0_little_0 : cX0_little.data.toList.drop 0 = dktX0_little_0 := by decide +kernel
theorem dksX0_little_1 : cX0_little.data.toList.drop 24 = dktX0_little_1 := dk_seg dksX0_little_0 24 rfl rfl
theorem dksX0_little_2 : cX0_little.data.toList.drop 47 = dktX0_little_2 := dk_seg dksX0_little_1 23 rfl rfl
theorem dX0_little_0 : decode cX0_little 0 = .ok (.aload_n 0, 1) := dk_42 (dk_at dksX0_little_0 0 rfl rfl)
theorem dX0_little_1 : decode cX0_little 1 = .ok (.getfield 96, 3) := dk_180 0 96 (dk_at dksX0_little_0 1 rfl rfl)
theorem dX0_little_4 : decode cX0_little 4 = .ok (.invokevirtual 234, 3) := dk_182 0 234 (dk_at dksX0_little_0 4 rfl rfl)
theorem dX0_little_7 : decode cX0_little 7 = .ok (.aload_n 0, 1) := dk_42 (dk_at dksX0_little_0 7 rfl rfl)
theorem dX0_little_8 : decode cX0_little 8 = .ok (.getfield 96, 3) := dk_180 0 96 (dk_at dksX0_little_0 8 rfl rfl)
theorem dX0_little_11 : decode cX0_little 11 = .ok (.iconst 1, 1) := dk_4 (dk_at dksX0_little_0 11 rfl rfl)
theorem dX0_little_12 : decode cX0_little 12 = .ok (.putfield 249, 3) := dk_181 0 249 (dk_at dksX0_little_0 12 rfl rfl)
theorem dX0_little_15 : decode cX0_little 15 = .ok (.aload_n 0, 1) := dk_42 (dk_at dksX0_little_0 15 rfl rfl)
theorem dX0_little_16 : decode cX0_little 16 = .ok (.getfield 96, 3) := dk_180 0 96 (dk_at dksX0_little_0 16 rfl rfl)
theorem dX0_little_19 : decode cX0_little 19 = .ok (.getfield 249, 3) := dk_180 0 249 (dk_at dksX0_little_0 19 rfl rfl)
theorem dX0_little_22 : decode cX0_little 22 = .ok (.bipush 20, 2) := dk_16 20 (dk_at dksX0_little_0 22 rfl rfl)
theorem dX0_little_24 : decode cX0_little 24 = .ok (.if_icmp .gt 38, 3) := dk_163 0 38 (dk_at dksX0_little_1 0 rfl rfl)
theorem dX0_little_27 : decode cX0_little 27 = .ok (.aload_n 0, 1) := dk_42 (dk_at dksX0_little_1 3 rfl rfl)
theorem dX0_little_28 : decode cX0_little 28 = .ok (.getfield 96, 3) := dk_180 0 96 (dk_at dksX0_little_1 4 rfl rfl)
theorem dX0_little_31 : decode cX0_little 31 = .ok (.invokevirtual 241, 3) := dk_182 0 241 (dk_at dksX0_little_1 7 rfl rfl)
theorem dX0_little_34 : decode cX0_little 34 = .ok (.iconst 3, 1) := dk_6 (dk_at dksX0_little_1 10 rfl rfl)
theorem dX0_little_35 : decode cX0_little 35 = .ok (.if_icmp .eq 11, 3) := dk_159 0 11 (dk_at dksX0_little_1 11 rfl rfl)
theorem dX0_little_38 : decode cX0_little 38 = .ok (.aload_n 0, 1) := dk_42 (dk_at dksX0_little_1 14 rfl rfl)
theorem dX0_little_39 : decode cX0_little 39 = .ok (.getfield 96, 3) := dk_180 0 96 (dk_at dksX0_little_1 15 rfl rfl)
theorem dX0_little_42 : decode cX0_little 42 = .ok (.getfield 249, 3) := dk_180 0 249 (dk_at dksX0_little_1 18 rfl rfl)
theorem dX0_little_45 : decode cX0_little 45 = .ok (.ireturn, 1) := dk_172 (dk_at dksX0_little_1 21 rfl rfl)
theorem dX0_little_46 : decode cX0_little 46 = .ok (.aload_n 0, 1) := dk_42 (dk_at dksX0_little_1 22 rfl rfl)
theorem dX0_little_47 : decode cX0_little 47 = .ok (.getfield 96, 3) := dk_180 0 96 (dk_at dksX0_little_2 0 rfl rfl)
theorem dX0_little_50 : decode cX0_little 50 = .ok (.dup, 1) := dk_89 (dk_at dksX0_little_2 3 rfl rfl)
theorem dX0_little_51 : decode cX0_little 51 = .ok (.getfield 249, 3) := dk_180 0 249 (dk_at dksX0_little_2 4 rfl rfl)
theorem dX0_little_54 : decode cX0_little 54 = .ok (.iconst 1, 1) := dk_4 (dk_at dksX0_little_2 7 rfl rfl)
theorem dX0_little_55 : decode cX0_little 55 = .ok (.iadd, 1) := dk_96 (dk_at dksX0_little_2 8 rfl rfl)
theorem dX0_little_56 : decode cX0_little 56 = .ok (.putfield 249, 3) := dk_181 0 249 (dk_at dksX0_little_2 9 rfl rfl)
theorem dX0_little_59 : decode cX0_little 59 = .ok (.goto (-44), 3) := dk_167 255 212 (dk_at dksX0_little_2 12 rfl rfl)
theorem dX0_little_62 : decode cX0_little 62 = .ok (.iconst (-1), 1) := dk_2 (dk_at dksX0_little_2 15 rfl rfl)
theorem dX0_little_63 : decode cX0_little 63 = .ok (.ireturn, 1) := dk_172 (dk_at dksX0_little_2 16 rfl rfl)
abbrev cX0_ran : ByteArray := prog_1_method_24_code
def yX0_ran : MethodName := ⟨RX0, "ran", "()I"⟩
def dkwX0_ran_2 : List UInt8 := [167, 255, 220, 27, 172]
abbrev dktX0_ran_2 : List UInt8 := dkwX0_ran_2 ++ []
def dkwX0_ran_1 : List UInt8 := [182, 0, 253, 42, 180, 0, 65, 27, 182, 0, 253, 162, 0, 7, 28, 167, 0, 4, 27, 60, 132, 2, 1]
abbrev dktX0_ran_1 : List UInt8 := dkwX0_ran_1 ++ dktX0_ran_2
def dkwX0_ran_0 : List UInt8 := [42, 180, 0, 82, 182, 0, 252, 3, 60, 4, 61, 28, 42, 180, 0, 7, 162, 0, 34, 42, 180, 0, 65, 28]
abbrev dktX0_ran_0 : List UInt8 := dkwX0_ran_0 ++ dktX0_ran_1
theorem dksX0_ran_0 : cX0_ran.data.toList.drop 0 = dktX0_ran_0 := by decide +kernel
theorem dksX0_ran_1 : cX0_ran.data.toList.drop 24 = dktX0_ran_1 := dk_seg dksX0_ran_0 24 rfl rfl
theorem dksX0_ran_2 : cX0_ran.data.toList.drop 47 = dktX0_ran_2 := dk_seg dksX0_ran_1 23 rfl rfl
theorem dX0_ran_0 : decode cX0_ran 0 = .ok (.aload_n 0, 1) := dk_42 (dk_at dksX0_ran_0 0 rfl rfl)
theorem dX0_ran_1 : decode cX0_ran 1 = .ok (.getfield 82, 3) := dk_180 0 82 (dk_at dksX0_ran_0 1 rfl rfl)
theorem dX0_ran_4 : decode cX0_ran 4 = .ok (.invokevirtual 252, 3) := dk_182 0 252 (dk_at dksX0_ran_0 4 rfl rfl)
theorem dX0_ran_7 : decode cX0_ran 7 = .ok (.iconst 0, 1) := dk_3 (dk_at dksX0_ran_0 7 rfl rfl)
theorem dX0_ran_8 : decode cX0_ran 8 = .ok (.istore_n 1, 1) := dk_60 (dk_at dksX0_ran_0 8 rfl rfl)
theorem dX0_ran_9 : decode cX0_ran 9 = .ok (.iconst 1, 1) := dk_4 (dk_at dksX0_ran_0 9 rfl rfl)
theorem dX0_ran_10 : decode cX0_ran 10 = .ok (.istore_n 2, 1) := dk_61 (dk_at dksX0_ran_0 10 rfl rfl)
theorem dX0_ran_11 : decode cX0_ran 11 = .ok (.iload_n 2, 1) := dk_28 (dk_at dksX0_ran_0 11 rfl rfl)
theorem dX0_ran_12 : decode cX0_ran 12 = .ok (.aload_n 0, 1) := dk_42 (dk_at dksX0_ran_0 12 rfl rfl)
theorem dX0_ran_13 : decode cX0_ran 13 = .ok (.getfield 7, 3) := dk_180 0 7 (dk_at dksX0_ran_0 13 rfl rfl)
theorem dX0_ran_16 : decode cX0_ran 16 = .ok (.if_icmp .ge 34, 3) := dk_162 0 34 (dk_at dksX0_ran_0 16 rfl rfl)
theorem dX0_ran_19 : decode cX0_ran 19 = .ok (.aload_n 0, 1) := dk_42 (dk_at dksX0_ran_0 19 rfl rfl)
theorem dX0_ran_20 : decode cX0_ran 20 = .ok (.getfield 65, 3) := dk_180 0 65 (dk_at dksX0_ran_0 20 rfl rfl)
theorem dX0_ran_23 : decode cX0_ran 23 = .ok (.iload_n 2, 1) := dk_28 (dk_at dksX0_ran_0 23 rfl rfl)
theorem dX0_ran_24 : decode cX0_ran 24 = .ok (.invokevirtual 253, 3) := dk_182 0 253 (dk_at dksX0_ran_1 0 rfl rfl)
theorem dX0_ran_27 : decode cX0_ran 27 = .ok (.aload_n 0, 1) := dk_42 (dk_at dksX0_ran_1 3 rfl rfl)
theorem dX0_ran_28 : decode cX0_ran 28 = .ok (.getfield 65, 3) := dk_180 0 65 (dk_at dksX0_ran_1 4 rfl rfl)
theorem dX0_ran_31 : decode cX0_ran 31 = .ok (.iload_n 1, 1) := dk_27 (dk_at dksX0_ran_1 7 rfl rfl)
theorem dX0_ran_32 : decode cX0_ran 32 = .ok (.invokevirtual 253, 3) := dk_182 0 253 (dk_at dksX0_ran_1 8 rfl rfl)
theorem dX0_ran_35 : decode cX0_ran 35 = .ok (.if_icmp .ge 7, 3) := dk_162 0 7 (dk_at dksX0_ran_1 11 rfl rfl)
theorem dX0_ran_38 : decode cX0_ran 38 = .ok (.iload_n 2, 1) := dk_28 (dk_at dksX0_ran_1 14 rfl rfl)
theorem dX0_ran_39 : decode cX0_ran 39 = .ok (.goto 4, 3) := dk_167 0 4 (dk_at dksX0_ran_1 15 rfl rfl)
theorem dX0_ran_42 : decode cX0_ran 42 = .ok (.iload_n 1, 1) := dk_27 (dk_at dksX0_ran_1 18 rfl rfl)
theorem dX0_ran_43 : decode cX0_ran 43 = .ok (.istore_n 1, 1) := dk_60 (dk_at dksX0_ran_1 19 rfl rfl)
theorem dX0_ran_44 : decode cX0_ran 44 = .ok (.iinc 2 1, 3) := dk_132 2 1 (dk_at dksX0_ran_1 20 rfl rfl)
theorem dX0_ran_47 : decode cX0_ran 47 = .ok (.goto (-36), 3) := dk_167 255 220 (dk_at dksX0_ran_2 0 rfl rfl)
theorem dX0_ran_50 : decode cX0_ran 50 = .ok (.iload_n 1, 1) := dk_27 (dk_at dksX0_ran_2 3 rfl rfl)
theorem dX0_ran_51 : decode cX0_ran 51 = .ok (.ireturn, 1) := dk_172 (dk_at dksX0_ran_2 4 rfl rfl)
abbrev cX0_runs : ByteArray := prog_1_method_25_code
def yX0_runs : MethodName := ⟨RX0, "runs", "()I"⟩
def dkwX0_runs_4 : List UInt8 := [60, 132, 3, 1, 167, 255, 181, 132, 2, 1, 167, 255, 165, 27, 172]
abbrev dktX0_runs_4 : List UInt8 := dkwX0_runs_4 ++ []
def dkwX0_runs_3 : List UInt8 := [167, 0, 4, 3, 54, 4, 27, 21, 4, 153, 0, 13, 4, 7, 29, 104, 28, 96, 120, 167, 0, 4, 3, 128]
abbrev dktX0_runs_3 : List UInt8 := dkwX0_runs_3 ++ dktX0_runs_4
def dkwX0_runs_2 : List UInt8 := [160, 0, 26, 42, 180, 0, 65, 28, 29, 42, 180, 0, 34, 3, 182, 0, 180, 16, 95, 162, 0, 7, 4]
abbrev dktX0_runs_2 : List UInt8 := dkwX0_runs_2 ++ dktX0_runs_3
def dkwX0_runs_1 : List UInt8 := [180, 0, 13, 162, 0, 73, 42, 180, 0, 65, 28, 29, 42, 180, 0, 34, 4, 182, 0, 180, 16, 95]
abbrev dktX0_runs_1 : List UInt8 := dkwX0_runs_1 ++ dktX0_runs_2
def dkwX0_runs_0 : List UInt8 := [42, 180, 0, 82, 182, 0, 252, 3, 60, 3, 61, 28, 42, 180, 0, 7, 162, 0, 89, 3, 62, 29, 42]
abbrev dktX0_runs_0 : List UInt8 := dkwX0_runs_0 ++ dktX0_runs_1
theorem dksX0_runs_0 : cX0_runs.data.toList.drop 0 = dktX0_runs_0 := by decide +kernel
theorem dksX0_runs_1 : cX0_runs.data.toList.drop 23 = dktX0_runs_1 := dk_seg dksX0_runs_0 23 rfl rfl
theorem dksX0_runs_2 : cX0_runs.data.toList.drop 45 = dktX0_runs_2 := dk_seg dksX0_runs_1 22 rfl rfl
theorem dksX0_runs_3 : cX0_runs.data.toList.drop 68 = dktX0_runs_3 := dk_seg dksX0_runs_2 23 rfl rfl
theorem dksX0_runs_4 : cX0_runs.data.toList.drop 92 = dktX0_runs_4 := dk_seg dksX0_runs_3 24 rfl rfl
theorem dX0_runs_0 : decode cX0_runs 0 = .ok (.aload_n 0, 1) := dk_42 (dk_at dksX0_runs_0 0 rfl rfl)
theorem dX0_runs_1 : decode cX0_runs 1 = .ok (.getfield 82, 3) := dk_180 0 82 (dk_at dksX0_runs_0 1 rfl rfl)
theorem dX0_runs_4 : decode cX0_runs 4 = .ok (.invokevirtual 252, 3) := dk_182 0 252 (dk_at dksX0_runs_0 4 rfl rfl)
theorem dX0_runs_7 : decode cX0_runs 7 = .ok (.iconst 0, 1) := dk_3 (dk_at dksX0_runs_0 7 rfl rfl)
theorem dX0_runs_8 : decode cX0_runs 8 = .ok (.istore_n 1, 1) := dk_60 (dk_at dksX0_runs_0 8 rfl rfl)
theorem dX0_runs_9 : decode cX0_runs 9 = .ok (.iconst 0, 1) := dk_3 (dk_at dksX0_runs_0 9 rfl rfl)
theorem dX0_runs_10 : decode cX0_runs 10 = .ok (.istore_n 2, 1) := dk_61 (dk_at dksX0_runs_0 10 rfl rfl)
theorem dX0_runs_11 : decode cX0_runs 11 = .ok (.iload_n 2, 1) := dk_28 (dk_at dksX0_runs_0 11 rfl rfl)
theorem dX0_runs_12 : decode cX0_runs 12 = .ok (.aload_n 0, 1) := dk_42 (dk_at dksX0_runs_0 12 rfl rfl)
theorem dX0_runs_13 : decode cX0_runs 13 = .ok (.getfield 7, 3) := dk_180 0 7 (dk_at dksX0_runs_0 13 rfl rfl)
theorem dX0_runs_16 : decode cX0_runs 16 = .ok (.if_icmp .ge 89, 3) := dk_162 0 89 (dk_at dksX0_runs_0 16 rfl rfl)
theorem dX0_runs_19 : decode cX0_runs 19 = .ok (.iconst 0, 1) := dk_3 (dk_at dksX0_runs_0 19 rfl rfl)
theorem dX0_runs_20 : decode cX0_runs 20 = .ok (.istore_n 3, 1) := dk_62 (dk_at dksX0_runs_0 20 rfl rfl)
theorem dX0_runs_21 : decode cX0_runs 21 = .ok (.iload_n 3, 1) := dk_29 (dk_at dksX0_runs_0 21 rfl rfl)
theorem dX0_runs_22 : decode cX0_runs 22 = .ok (.aload_n 0, 1) := dk_42 (dk_at dksX0_runs_0 22 rfl rfl)
theorem dX0_runs_23 : decode cX0_runs 23 = .ok (.getfield 13, 3) := dk_180 0 13 (dk_at dksX0_runs_1 0 rfl rfl)
theorem dX0_runs_26 : decode cX0_runs 26 = .ok (.if_icmp .ge 73, 3) := dk_162 0 73 (dk_at dksX0_runs_1 3 rfl rfl)
theorem dX0_runs_29 : decode cX0_runs 29 = .ok (.aload_n 0, 1) := dk_42 (dk_at dksX0_runs_1 6 rfl rfl)
theorem dX0_runs_30 : decode cX0_runs 30 = .ok (.getfield 65, 3) := dk_180 0 65 (dk_at dksX0_runs_1 7 rfl rfl)
theorem dX0_runs_33 : decode cX0_runs 33 = .ok (.iload_n 2, 1) := dk_28 (dk_at dksX0_runs_1 10 rfl rfl)
theorem dX0_runs_34 : decode cX0_runs 34 = .ok (.iload_n 3, 1) := dk_29 (dk_at dksX0_runs_1 11 rfl rfl)
theorem dX0_runs_35 : decode cX0_runs 35 = .ok (.aload_n 0, 1) := dk_42 (dk_at dksX0_runs_1 12 rfl rfl)
theorem dX0_runs_36 : decode cX0_runs 36 = .ok (.getfield 34, 3) := dk_180 0 34 (dk_at dksX0_runs_1 13 rfl rfl)
theorem dX0_runs_39 : decode cX0_runs 39 = .ok (.iconst 1, 1) := dk_4 (dk_at dksX0_runs_1 16 rfl rfl)
theorem dX0_runs_40 : decode cX0_runs 40 = .ok (.invokevirtual 180, 3) := dk_182 0 180 (dk_at dksX0_runs_1 17 rfl rfl)
theorem dX0_runs_43 : decode cX0_runs 43 = .ok (.bipush 95, 2) := dk_16 95 (dk_at dksX0_runs_1 20 rfl rfl)
theorem dX0_runs_45 : decode cX0_runs 45 = .ok (.if_icmp .ne 26, 3) := dk_160 0 26 (dk_at dksX0_runs_2 0 rfl rfl)
theorem dX0_runs_48 : decode cX0_runs 48 = .ok (.aload_n 0, 1) := dk_42 (dk_at dksX0_runs_2 3 rfl rfl)
theorem dX0_runs_49 : decode cX0_runs 49 = .ok (.getfield 65, 3) := dk_180 0 65 (dk_at dksX0_runs_2 4 rfl rfl)
theorem dX0_runs_52 : decode cX0_runs 52 = .ok (.iload_n 2, 1) := dk_28 (dk_at dksX0_runs_2 7 rfl rfl)
theorem dX0_runs_53 : decode cX0_runs 53 = .ok (.iload_n 3, 1) := dk_29 (dk_at dksX0_runs_2 8 rfl rfl)
theorem dX0_runs_54 : decode cX0_runs 54 = .ok (.aload_n 0, 1) := dk_42 (dk_at dksX0_runs_2 9 rfl rfl)
theorem dX0_runs_55 : decode cX0_runs 55 = .ok (.getfield 34, 3) := dk_180 0 34 (dk_at dksX0_runs_2 10 rfl rfl)
theorem dX0_runs_58 : decode cX0_runs 58 = .ok (.iconst 0, 1) := dk_3 (dk_at dksX0_runs_2 13 rfl rfl)
theorem dX0_runs_59 : decode cX0_runs 59 = .ok (.invokevirtual 180, 3) := dk_182 0 180 (dk_at dksX0_runs_2 14 rfl rfl)
theorem dX0_runs_62 : decode cX0_runs 62 = .ok (.bipush 95, 2) := dk_16 95 (dk_at dksX0_runs_2 17 rfl rfl)
theorem dX0_runs_64 : decode cX0_runs 64 = .ok (.if_icmp .ge 7, 3) := dk_162 0 7 (dk_at dksX0_runs_2 19 rfl rfl)
theorem dX0_runs_67 : decode cX0_runs 67 = .ok (.iconst 1, 1) := dk_4 (dk_at dksX0_runs_2 22 rfl rfl)
theorem dX0_runs_68 : decode cX0_runs 68 = .ok (.goto 4, 3) := dk_167 0 4 (dk_at dksX0_runs_3 0 rfl rfl)
theorem dX0_runs_71 : decode cX0_runs 71 = .ok (.iconst 0, 1) := dk_3 (dk_at dksX0_runs_3 3 rfl rfl)
theorem dX0_runs_72 : decode cX0_runs 72 = .ok (.istore 4, 2) := dk_54 4 (dk_at dksX0_runs_3 4 rfl rfl)
theorem dX0_runs_74 : decode cX0_runs 74 = .ok (.iload_n 1, 1) := dk_27 (dk_at dksX0_runs_3 6 rfl rfl)
theorem dX0_runs_75 : decode cX0_runs 75 = .ok (.iload 4, 2) := dk_21 4 (dk_at dksX0_runs_3 7 rfl rfl)
theorem dX0_runs_77 : decode cX0_runs 77 = .ok (.ifCond .eq 13, 3) := dk_153 0 13 (dk_at dksX0_runs_3 9 rfl rfl)
theorem dX0_runs_80 : decode cX0_runs 80 = .ok (.iconst 1, 1) := dk_4 (dk_at dksX0_runs_3 12 rfl rfl)
theorem dX0_runs_81 : decode cX0_runs 81 = .ok (.iconst 4, 1) := dk_7 (dk_at dksX0_runs_3 13 rfl rfl)
theorem dX0_runs_82 : decode cX0_runs 82 = .ok (.iload_n 3, 1) := dk_29 (dk_at dksX0_runs_3 14 rfl rfl)
theorem dX0_runs_83 : decode cX0_runs 83 = .ok (.imul, 1) := dk_104 (dk_at dksX0_runs_3 15 rfl rfl)
theorem dX0_runs_84 : decode cX0_runs 84 = .ok (.iload_n 2, 1) := dk_28 (dk_at dksX0_runs_3 16 rfl rfl)
theorem dX0_runs_85 : decode cX0_runs 85 = .ok (.iadd, 1) := dk_96 (dk_at dksX0_runs_3 17 rfl rfl)
theorem dX0_runs_86 : decode cX0_runs 86 = .ok (.ishl, 1) := dk_120 (dk_at dksX0_runs_3 18 rfl rfl)
theorem dX0_runs_87 : decode cX0_runs 87 = .ok (.goto 4, 3) := dk_167 0 4 (dk_at dksX0_runs_3 19 rfl rfl)
theorem dX0_runs_90 : decode cX0_runs 90 = .ok (.iconst 0, 1) := dk_3 (dk_at dksX0_runs_3 22 rfl rfl)
theorem dX0_runs_91 : decode cX0_runs 91 = .ok (.ior, 1) := dk_128 (dk_at dksX0_runs_3 23 rfl rfl)
theorem dX0_runs_92 : decode cX0_runs 92 = .ok (.istore_n 1, 1) := dk_60 (dk_at dksX0_runs_4 0 rfl rfl)
theorem dX0_runs_93 : decode cX0_runs 93 = .ok (.iinc 3 1, 3) := dk_132 3 1 (dk_at dksX0_runs_4 1 rfl rfl)
theorem dX0_runs_96 : decode cX0_runs 96 = .ok (.goto (-75), 3) := dk_167 255 181 (dk_at dksX0_runs_4 4 rfl rfl)
theorem dX0_runs_99 : decode cX0_runs 99 = .ok (.iinc 2 1, 3) := dk_132 2 1 (dk_at dksX0_runs_4 7 rfl rfl)
theorem dX0_runs_102 : decode cX0_runs 102 = .ok (.goto (-91), 3) := dk_167 255 165 (dk_at dksX0_runs_4 10 rfl rfl)
theorem dX0_runs_105 : decode cX0_runs 105 = .ok (.iload_n 1, 1) := dk_27 (dk_at dksX0_runs_4 13 rfl rfl)
theorem dX0_runs_106 : decode cX0_runs 106 = .ok (.ireturn, 1) := dk_172 (dk_at dksX0_runs_4 14 rfl rfl)
abbrev cX0_blind : ByteArray := prog_1_method_28_code
def yX0_blind : MethodName := ⟨RX0, "blind", "(IIII)J"⟩
def dkwX0_blind_6 : List UInt8 := [21, 4, 154, 0, 11, 22, 5, 22, 11, 109, 167, 0, 8, 22, 9, 22, 11, 109, 173]
abbrev dktX0_blind_6 : List UInt8 := dkwX0_blind_6 ++ []
def dkwX0_blind_5 : List UInt8 := [132, 9, 1, 167, 255, 195, 16, 10, 27, 184, 1, 6, 55, 9, 22, 5, 22, 9, 184, 1, 0, 55, 11]
abbrev dktX0_blind_5 : List UInt8 := dkwX0_blind_5 ++ dktX0_blind_6
def dkwX0_blind_4 : List UInt8 := [184, 1, 6, 105, 97, 55, 5, 22, 7, 27, 21, 9, 100, 133, 105, 21, 9, 4, 96, 133, 109, 55, 7]
abbrev dktX0_blind_4 : List UInt8 := dkwX0_blind_4 ++ dktX0_blind_5
def dkwX0_blind_3 : List UInt8 := [162, 0, 7, 9, 167, 0, 24, 22, 7, 29, 21, 9, 184, 1, 6, 105, 16, 10, 29, 100, 27, 21, 9, 100]
abbrev dktX0_blind_3 : List UInt8 := dkwX0_blind_3 ++ dktX0_blind_4
def dkwX0_blind_2 : List UInt8 := [20, 1, 4, 173, 9, 55, 5, 10, 55, 7, 3, 54, 9, 21, 9, 27, 163, 0, 61, 22, 5, 21, 9, 28]
abbrev dktX0_blind_2 : List UInt8 := dkwX0_blind_2 ++ dktX0_blind_3
def dkwX0_blind_1 : List UInt8 := [133, 9, 20, 0, 247, 184, 0, 109, 153, 0, 14, 21, 4, 133, 9, 10, 184, 0, 109, 154, 0, 7]
abbrev dktX0_blind_1 : List UInt8 := dkwX0_blind_1 ++ dktX0_blind_2
def dkwX0_blind_0 : List UInt8 := [27, 133, 10, 20, 0, 247, 184, 0, 109, 153, 0, 37, 28, 133, 9, 27, 133, 184, 0, 109, 153, 0, 26, 29]
abbrev dktX0_blind_0 : List UInt8 := dkwX0_blind_0 ++ dktX0_blind_1
theorem dksX0_blind_0 : cX0_blind.data.toList.drop 0 = dktX0_blind_0 := by decide +kernel
theorem dksX0_blind_1 : cX0_blind.data.toList.drop 24 = dktX0_blind_1 := dk_seg dksX0_blind_0 24 rfl rfl
theorem dksX0_blind_2 : cX0_blind.data.toList.drop 46 = dktX0_blind_2 := dk_seg dksX0_blind_1 22 rfl rfl
theorem dksX0_blind_3 : cX0_blind.data.toList.drop 70 = dktX0_blind_3 := dk_seg dksX0_blind_2 24 rfl rfl
theorem dksX0_blind_4 : cX0_blind.data.toList.drop 94 = dktX0_blind_4 := dk_seg dksX0_blind_3 24 rfl rfl
theorem dksX0_blind_5 : cX0_blind.data.toList.drop 117 = dktX0_blind_5 := dk_seg dksX0_blind_4 23 rfl rfl
theorem dksX0_blind_6 : cX0_blind.data.toList.drop 140 = dktX0_blind_6 := dk_seg dksX0_blind_5 23 rfl rfl
theorem dX0_blind_0 : decode cX0_blind 0 = .ok (.iload_n 1, 1) := dk_27 (dk_at dksX0_blind_0 0 rfl rfl)
theorem dX0_blind_1 : decode cX0_blind 1 = .ok (.i2l, 1) := dk_133 (dk_at dksX0_blind_0 1 rfl rfl)
theorem dX0_blind_2 : decode cX0_blind 2 = .ok (.lconst 1, 1) := dk_10 (dk_at dksX0_blind_0 2 rfl rfl)
theorem dX0_blind_3 : decode cX0_blind 3 = .ok (.ldc2_w 247, 3) := dk_20 0 247 (dk_at dksX0_blind_0 3 rfl rfl)
theorem dX0_blind_6 : decode cX0_blind 6 = .ok (.invokestatic 109, 3) := dk_184 0 109 (dk_at dksX0_blind_0 6 rfl rfl)
theorem dX0_blind_9 : decode cX0_blind 9 = .ok (.ifCond .eq 37, 3) := dk_153 0 37 (dk_at dksX0_blind_0 9 rfl rfl)
theorem dX0_blind_12 : decode cX0_blind 12 = .ok (.iload_n 2, 1) := dk_28 (dk_at dksX0_blind_0 12 rfl rfl)
theorem dX0_blind_13 : decode cX0_blind 13 = .ok (.i2l, 1) := dk_133 (dk_at dksX0_blind_0 13 rfl rfl)
theorem dX0_blind_14 : decode cX0_blind 14 = .ok (.lconst 0, 1) := dk_9 (dk_at dksX0_blind_0 14 rfl rfl)
theorem dX0_blind_15 : decode cX0_blind 15 = .ok (.iload_n 1, 1) := dk_27 (dk_at dksX0_blind_0 15 rfl rfl)
theorem dX0_blind_16 : decode cX0_blind 16 = .ok (.i2l, 1) := dk_133 (dk_at dksX0_blind_0 16 rfl rfl)
theorem dX0_blind_17 : decode cX0_blind 17 = .ok (.invokestatic 109, 3) := dk_184 0 109 (dk_at dksX0_blind_0 17 rfl rfl)
theorem dX0_blind_20 : decode cX0_blind 20 = .ok (.ifCond .eq 26, 3) := dk_153 0 26 (dk_at dksX0_blind_0 20 rfl rfl)
theorem dX0_blind_23 : decode cX0_blind 23 = .ok (.iload_n 3, 1) := dk_29 (dk_at dksX0_blind_0 23 rfl rfl)
theorem dX0_blind_24 : decode cX0_blind 24 = .ok (.i2l, 1) := dk_133 (dk_at dksX0_blind_1 0 rfl rfl)
theorem dX0_blind_25 : decode cX0_blind 25 = .ok (.lconst 0, 1) := dk_9 (dk_at dksX0_blind_1 1 rfl rfl)
theorem dX0_blind_26 : decode cX0_blind 26 = .ok (.ldc2_w 247, 3) := dk_20 0 247 (dk_at dksX0_blind_1 2 rfl rfl)
theorem dX0_blind_29 : decode cX0_blind 29 = .ok (.invokestatic 109, 3) := dk_184 0 109 (dk_at dksX0_blind_1 5 rfl rfl)
theorem dX0_blind_32 : decode cX0_blind 32 = .ok (.ifCond .eq 14, 3) := dk_153 0 14 (dk_at dksX0_blind_1 8 rfl rfl)
theorem dX0_blind_35 : decode cX0_blind 35 = .ok (.iload 4, 2) := dk_21 4 (dk_at dksX0_blind_1 11 rfl rfl)
theorem dX0_blind_37 : decode cX0_blind 37 = .ok (.i2l, 1) := dk_133 (dk_at dksX0_blind_1 13 rfl rfl)
theorem dX0_blind_38 : decode cX0_blind 38 = .ok (.lconst 0, 1) := dk_9 (dk_at dksX0_blind_1 14 rfl rfl)
theorem dX0_blind_39 : decode cX0_blind 39 = .ok (.lconst 1, 1) := dk_10 (dk_at dksX0_blind_1 15 rfl rfl)
theorem dX0_blind_40 : decode cX0_blind 40 = .ok (.invokestatic 109, 3) := dk_184 0 109 (dk_at dksX0_blind_1 16 rfl rfl)
theorem dX0_blind_43 : decode cX0_blind 43 = .ok (.ifCond .ne 7, 3) := dk_154 0 7 (dk_at dksX0_blind_1 19 rfl rfl)
theorem dX0_blind_46 : decode cX0_blind 46 = .ok (.ldc2_w 260, 3) := dk_20 1 4 (dk_at dksX0_blind_2 0 rfl rfl)
theorem dX0_blind_49 : decode cX0_blind 49 = .ok (.lreturn, 1) := dk_173 (dk_at dksX0_blind_2 3 rfl rfl)
theorem dX0_blind_50 : decode cX0_blind 50 = .ok (.lconst 0, 1) := dk_9 (dk_at dksX0_blind_2 4 rfl rfl)
theorem dX0_blind_51 : decode cX0_blind 51 = .ok (.lstore 5, 2) := dk_55 5 (dk_at dksX0_blind_2 5 rfl rfl)
theorem dX0_blind_53 : decode cX0_blind 53 = .ok (.lconst 1, 1) := dk_10 (dk_at dksX0_blind_2 7 rfl rfl)
theorem dX0_blind_54 : decode cX0_blind 54 = .ok (.lstore 7, 2) := dk_55 7 (dk_at dksX0_blind_2 8 rfl rfl)
theorem dX0_blind_56 : decode cX0_blind 56 = .ok (.iconst 0, 1) := dk_3 (dk_at dksX0_blind_2 10 rfl rfl)
theorem dX0_blind_57 : decode cX0_blind 57 = .ok (.istore 9, 2) := dk_54 9 (dk_at dksX0_blind_2 11 rfl rfl)
theorem dX0_blind_59 : decode cX0_blind 59 = .ok (.iload 9, 2) := dk_21 9 (dk_at dksX0_blind_2 13 rfl rfl)
theorem dX0_blind_61 : decode cX0_blind 61 = .ok (.iload_n 1, 1) := dk_27 (dk_at dksX0_blind_2 15 rfl rfl)
theorem dX0_blind_62 : decode cX0_blind 62 = .ok (.if_icmp .gt 61, 3) := dk_163 0 61 (dk_at dksX0_blind_2 16 rfl rfl)
theorem dX0_blind_65 : decode cX0_blind 65 = .ok (.lload 5, 2) := dk_22 5 (dk_at dksX0_blind_2 19 rfl rfl)
theorem dX0_blind_67 : decode cX0_blind 67 = .ok (.iload 9, 2) := dk_21 9 (dk_at dksX0_blind_2 21 rfl rfl)
theorem dX0_blind_69 : decode cX0_blind 69 = .ok (.iload_n 2, 1) := dk_28 (dk_at dksX0_blind_2 23 rfl rfl)
theorem dX0_blind_70 : decode cX0_blind 70 = .ok (.if_icmp .ge 7, 3) := dk_162 0 7 (dk_at dksX0_blind_3 0 rfl rfl)
theorem dX0_blind_73 : decode cX0_blind 73 = .ok (.lconst 0, 1) := dk_9 (dk_at dksX0_blind_3 3 rfl rfl)
theorem dX0_blind_74 : decode cX0_blind 74 = .ok (.goto 24, 3) := dk_167 0 24 (dk_at dksX0_blind_3 4 rfl rfl)
theorem dX0_blind_77 : decode cX0_blind 77 = .ok (.lload 7, 2) := dk_22 7 (dk_at dksX0_blind_3 7 rfl rfl)
theorem dX0_blind_79 : decode cX0_blind 79 = .ok (.iload_n 3, 1) := dk_29 (dk_at dksX0_blind_3 9 rfl rfl)
theorem dX0_blind_80 : decode cX0_blind 80 = .ok (.iload 9, 2) := dk_21 9 (dk_at dksX0_blind_3 10 rfl rfl)
theorem dX0_blind_82 : decode cX0_blind 82 = .ok (.invokestatic 262, 3) := dk_184 1 6 (dk_at dksX0_blind_3 12 rfl rfl)
theorem dX0_blind_85 : decode cX0_blind 85 = .ok (.lmul, 1) := dk_105 (dk_at dksX0_blind_3 15 rfl rfl)
theorem dX0_blind_86 : decode cX0_blind 86 = .ok (.bipush 10, 2) := dk_16 10 (dk_at dksX0_blind_3 16 rfl rfl)
theorem dX0_blind_88 : decode cX0_blind 88 = .ok (.iload_n 3, 1) := dk_29 (dk_at dksX0_blind_3 18 rfl rfl)
theorem dX0_blind_89 : decode cX0_blind 89 = .ok (.isub, 1) := dk_100 (dk_at dksX0_blind_3 19 rfl rfl)
theorem dX0_blind_90 : decode cX0_blind 90 = .ok (.iload_n 1, 1) := dk_27 (dk_at dksX0_blind_3 20 rfl rfl)
theorem dX0_blind_91 : decode cX0_blind 91 = .ok (.iload 9, 2) := dk_21 9 (dk_at dksX0_blind_3 21 rfl rfl)
theorem dX0_blind_93 : decode cX0_blind 93 = .ok (.isub, 1) := dk_100 (dk_at dksX0_blind_3 23 rfl rfl)
theorem dX0_blind_94 : decode cX0_blind 94 = .ok (.invokestatic 262, 3) := dk_184 1 6 (dk_at dksX0_blind_4 0 rfl rfl)
theorem dX0_blind_97 : decode cX0_blind 97 = .ok (.lmul, 1) := dk_105 (dk_at dksX0_blind_4 3 rfl rfl)
theorem dX0_blind_98 : decode cX0_blind 98 = .ok (.ladd, 1) := dk_97 (dk_at dksX0_blind_4 4 rfl rfl)
theorem dX0_blind_99 : decode cX0_blind 99 = .ok (.lstore 5, 2) := dk_55 5 (dk_at dksX0_blind_4 5 rfl rfl)
theorem dX0_blind_101 : decode cX0_blind 101 = .ok (.lload 7, 2) := dk_22 7 (dk_at dksX0_blind_4 7 rfl rfl)
theorem dX0_blind_103 : decode cX0_blind 103 = .ok (.iload_n 1, 1) := dk_27 (dk_at dksX0_blind_4 9 rfl rfl)
theorem dX0_blind_104 : decode cX0_blind 104 = .ok (.iload 9, 2) := dk_21 9 (dk_at dksX0_blind_4 10 rfl rfl)
theorem dX0_blind_106 : decode cX0_blind 106 = .ok (.isub, 1) := dk_100 (dk_at dksX0_blind_4 12 rfl rfl)
theorem dX0_blind_107 : decode cX0_blind 107 = .ok (.i2l, 1) := dk_133 (dk_at dksX0_blind_4 13 rfl rfl)
theorem dX0_blind_108 : decode cX0_blind 108 = .ok (.lmul, 1) := dk_105 (dk_at dksX0_blind_4 14 rfl rfl)
theorem dX0_blind_109 : decode cX0_blind 109 = .ok (.iload 9, 2) := dk_21 9 (dk_at dksX0_blind_4 15 rfl rfl)
theorem dX0_blind_111 : decode cX0_blind 111 = .ok (.iconst 1, 1) := dk_4 (dk_at dksX0_blind_4 17 rfl rfl)
theorem dX0_blind_112 : decode cX0_blind 112 = .ok (.iadd, 1) := dk_96 (dk_at dksX0_blind_4 18 rfl rfl)
theorem dX0_blind_113 : decode cX0_blind 113 = .ok (.i2l, 1) := dk_133 (dk_at dksX0_blind_4 19 rfl rfl)
theorem dX0_blind_114 : decode cX0_blind 114 = .ok (.ldiv, 1) := dk_109 (dk_at dksX0_blind_4 20 rfl rfl)
theorem dX0_blind_115 : decode cX0_blind 115 = .ok (.lstore 7, 2) := dk_55 7 (dk_at dksX0_blind_4 21 rfl rfl)
theorem dX0_blind_117 : decode cX0_blind 117 = .ok (.iinc 9 1, 3) := dk_132 9 1 (dk_at dksX0_blind_5 0 rfl rfl)
theorem dX0_blind_120 : decode cX0_blind 120 = .ok (.goto (-61), 3) := dk_167 255 195 (dk_at dksX0_blind_5 3 rfl rfl)
theorem dX0_blind_123 : decode cX0_blind 123 = .ok (.bipush 10, 2) := dk_16 10 (dk_at dksX0_blind_5 6 rfl rfl)
theorem dX0_blind_125 : decode cX0_blind 125 = .ok (.iload_n 1, 1) := dk_27 (dk_at dksX0_blind_5 8 rfl rfl)
theorem dX0_blind_126 : decode cX0_blind 126 = .ok (.invokestatic 262, 3) := dk_184 1 6 (dk_at dksX0_blind_5 9 rfl rfl)
theorem dX0_blind_129 : decode cX0_blind 129 = .ok (.lstore 9, 2) := dk_55 9 (dk_at dksX0_blind_5 12 rfl rfl)
theorem dX0_blind_131 : decode cX0_blind 131 = .ok (.lload 5, 2) := dk_22 5 (dk_at dksX0_blind_5 14 rfl rfl)
theorem dX0_blind_133 : decode cX0_blind 133 = .ok (.lload 9, 2) := dk_22 9 (dk_at dksX0_blind_5 16 rfl rfl)
theorem dX0_blind_135 : decode cX0_blind 135 = .ok (.invokestatic 256, 3) := dk_184 1 0 (dk_at dksX0_blind_5 18 rfl rfl)
theorem dX0_blind_138 : decode cX0_blind 138 = .ok (.lstore 11, 2) := dk_55 11 (dk_at dksX0_blind_5 21 rfl rfl)
theorem dX0_blind_140 : decode cX0_blind 140 = .ok (.iload 4, 2) := dk_21 4 (dk_at dksX0_blind_6 0 rfl rfl)
theorem dX0_blind_142 : decode cX0_blind 142 = .ok (.ifCond .ne 11, 3) := dk_154 0 11 (dk_at dksX0_blind_6 2 rfl rfl)
theorem dX0_blind_145 : decode cX0_blind 145 = .ok (.lload 5, 2) := dk_22 5 (dk_at dksX0_blind_6 5 rfl rfl)
theorem dX0_blind_147 : decode cX0_blind 147 = .ok (.lload 11, 2) := dk_22 11 (dk_at dksX0_blind_6 7 rfl rfl)
theorem dX0_blind_149 : decode cX0_blind 149 = .ok (.ldiv, 1) := dk_109 (dk_at dksX0_blind_6 9 rfl rfl)
theorem dX0_blind_150 : decode cX0_blind 150 = .ok (.goto 8, 3) := dk_167 0 8 (dk_at dksX0_blind_6 10 rfl rfl)
theorem dX0_blind_153 : decode cX0_blind 153 = .ok (.lload 9, 2) := dk_22 9 (dk_at dksX0_blind_6 13 rfl rfl)
theorem dX0_blind_155 : decode cX0_blind 155 = .ok (.lload 11, 2) := dk_22 11 (dk_at dksX0_blind_6 15 rfl rfl)
theorem dX0_blind_157 : decode cX0_blind 157 = .ok (.ldiv, 1) := dk_109 (dk_at dksX0_blind_6 17 rfl rfl)
theorem dX0_blind_158 : decode cX0_blind 158 = .ok (.lreturn, 1) := dk_173 (dk_at dksX0_blind_6 18 rfl rfl)
abbrev cX0_power : ByteArray := prog_1_method_26_code
def yX0_power : MethodName := ⟨RX0, "power", "(II)J"⟩
def dkwX0_power_0 : List UInt8 := [10, 65, 3, 54, 4, 21, 4, 27, 162, 0, 14, 32, 26, 133, 105, 65, 132, 4, 1, 167, 255, 242, 32, 173]
abbrev dktX0_power_0 : List UInt8 := dkwX0_power_0 ++ []
theorem dksX0_power_0 : cX0_power.data.toList.drop 0 = dktX0_power_0 := by decide +kernel
theorem dX0_power_0 : decode cX0_power 0 = .ok (.lconst 1, 1) := dk_10 (dk_at dksX0_power_0 0 rfl rfl)
theorem dX0_power_1 : decode cX0_power 1 = .ok (.lstore_n 2, 1) := dk_65 (dk_at dksX0_power_0 1 rfl rfl)
theorem dX0_power_2 : decode cX0_power 2 = .ok (.iconst 0, 1) := dk_3 (dk_at dksX0_power_0 2 rfl rfl)
theorem dX0_power_3 : decode cX0_power 3 = .ok (.istore 4, 2) := dk_54 4 (dk_at dksX0_power_0 3 rfl rfl)
theorem dX0_power_5 : decode cX0_power 5 = .ok (.iload 4, 2) := dk_21 4 (dk_at dksX0_power_0 5 rfl rfl)
theorem dX0_power_7 : decode cX0_power 7 = .ok (.iload_n 1, 1) := dk_27 (dk_at dksX0_power_0 7 rfl rfl)
theorem dX0_power_8 : decode cX0_power 8 = .ok (.if_icmp .ge 14, 3) := dk_162 0 14 (dk_at dksX0_power_0 8 rfl rfl)
theorem dX0_power_11 : decode cX0_power 11 = .ok (.lload_n 2, 1) := dk_32 (dk_at dksX0_power_0 11 rfl rfl)
theorem dX0_power_12 : decode cX0_power 12 = .ok (.iload_n 0, 1) := dk_26 (dk_at dksX0_power_0 12 rfl rfl)
theorem dX0_power_13 : decode cX0_power 13 = .ok (.i2l, 1) := dk_133 (dk_at dksX0_power_0 13 rfl rfl)
theorem dX0_power_14 : decode cX0_power 14 = .ok (.lmul, 1) := dk_105 (dk_at dksX0_power_0 14 rfl rfl)
theorem dX0_power_15 : decode cX0_power 15 = .ok (.lstore_n 2, 1) := dk_65 (dk_at dksX0_power_0 15 rfl rfl)
theorem dX0_power_16 : decode cX0_power 16 = .ok (.iinc 4 1, 3) := dk_132 4 1 (dk_at dksX0_power_0 16 rfl rfl)
theorem dX0_power_19 : decode cX0_power 19 = .ok (.goto (-14), 3) := dk_167 255 242 (dk_at dksX0_power_0 19 rfl rfl)
theorem dX0_power_22 : decode cX0_power 22 = .ok (.lload_n 2, 1) := dk_32 (dk_at dksX0_power_0 22 rfl rfl)
theorem dX0_power_23 : decode cX0_power 23 = .ok (.lreturn, 1) := dk_173 (dk_at dksX0_power_0 23 rfl rfl)
abbrev cX0_divisor : ByteArray := prog_1_method_27_code
def yX0_divisor : MethodName := ⟨RX0, "divisor", "(JJ)J"⟩
def dkwX0_divisor_0 : List UInt8 := [32, 9, 148, 154, 0, 7, 30, 167, 0, 10, 32, 30, 32, 113, 184, 1, 0, 173]
abbrev dktX0_divisor_0 : List UInt8 := dkwX0_divisor_0 ++ []
theorem dksX0_divisor_0 : cX0_divisor.data.toList.drop 0 = dktX0_divisor_0 := by decide +kernel
theorem dX0_divisor_0 : decode cX0_divisor 0 = .ok (.lload_n 2, 1) := dk_32 (dk_at dksX0_divisor_0 0 rfl rfl)
theorem dX0_divisor_1 : decode cX0_divisor 1 = .ok (.lconst 0, 1) := dk_9 (dk_at dksX0_divisor_0 1 rfl rfl)
theorem dX0_divisor_2 : decode cX0_divisor 2 = .ok (.lcmp, 1) := dk_148 (dk_at dksX0_divisor_0 2 rfl rfl)
theorem dX0_divisor_3 : decode cX0_divisor 3 = .ok (.ifCond .ne 7, 3) := dk_154 0 7 (dk_at dksX0_divisor_0 3 rfl rfl)
theorem dX0_divisor_6 : decode cX0_divisor 6 = .ok (.lload_n 0, 1) := dk_30 (dk_at dksX0_divisor_0 6 rfl rfl)
theorem dX0_divisor_7 : decode cX0_divisor 7 = .ok (.goto 10, 3) := dk_167 0 10 (dk_at dksX0_divisor_0 7 rfl rfl)
theorem dX0_divisor_10 : decode cX0_divisor 10 = .ok (.lload_n 2, 1) := dk_32 (dk_at dksX0_divisor_0 10 rfl rfl)
theorem dX0_divisor_11 : decode cX0_divisor 11 = .ok (.lload_n 0, 1) := dk_30 (dk_at dksX0_divisor_0 11 rfl rfl)
theorem dX0_divisor_12 : decode cX0_divisor 12 = .ok (.lload_n 2, 1) := dk_32 (dk_at dksX0_divisor_0 12 rfl rfl)
theorem dX0_divisor_13 : decode cX0_divisor 13 = .ok (.lrem, 1) := dk_113 (dk_at dksX0_divisor_0 13 rfl rfl)
theorem dX0_divisor_14 : decode cX0_divisor 14 = .ok (.invokestatic 256, 3) := dk_184 1 0 (dk_at dksX0_divisor_0 14 rfl rfl)
theorem dX0_divisor_17 : decode cX0_divisor 17 = .ok (.lreturn, 1) := dk_173 (dk_at dksX0_divisor_0 17 rfl rfl)
abbrev cX0_count : ByteArray := prog_1_method_29_code
def yX0_count : MethodName := ⟨RX0, "count", "(I)I"⟩
def dkwX0_count_4 : List UInt8 := [180, 1, 10, 172, 16, 253, 172]
abbrev dktX0_count_4 : List UInt8 := dkwX0_count_4 ++ []
def dkwX0_count_3 : List UInt8 := [172, 42, 180, 0, 43, 172, 42, 180, 0, 145, 172, 42, 180, 0, 113, 172, 42, 180, 0, 31, 172, 42]
abbrev dktX0_count_3 : List UInt8 := dkwX0_count_3 ++ dktX0_count_4
def dkwX0_count_2 : List UInt8 := [42, 180, 0, 7, 172, 42, 180, 0, 13, 172, 42, 180, 0, 34, 172, 42, 180, 0, 37, 172, 42, 180, 0, 40]
abbrev dktX0_count_2 : List UInt8 := dkwX0_count_2 ++ dktX0_count_3
def dkwX0_count_1 : List UInt8 := [170, 0, 0, 0, 0, 0, 105, 0, 0, 0, 0, 0, 0, 0, 9, 0, 0, 0, 55, 0, 0, 0, 60, 0, 0, 0, 65, 0, 0, 0, 70, 0, 0, 0, 75, 0, 0, 0, 80, 0, 0, 0, 85, 0, 0, 0, 90, 0, 0, 0, 95, 0, 0, 0, 100]
abbrev dktX0_count_1 : List UInt8 := dkwX0_count_1 ++ dktX0_count_2
def dkwX0_count_0 : List UInt8 := [27]
abbrev dktX0_count_0 : List UInt8 := dkwX0_count_0 ++ dktX0_count_1
theorem dksX0_count_0 : cX0_count.data.toList.drop 0 = dktX0_count_0 := by decide +kernel
theorem dksX0_count_1 : cX0_count.data.toList.drop 1 = dktX0_count_1 := dk_seg dksX0_count_0 1 rfl rfl
theorem dksX0_count_2 : cX0_count.data.toList.drop 56 = dktX0_count_2 := dk_seg dksX0_count_1 55 rfl rfl
theorem dksX0_count_3 : cX0_count.data.toList.drop 80 = dktX0_count_3 := dk_seg dksX0_count_2 24 rfl rfl
theorem dksX0_count_4 : cX0_count.data.toList.drop 102 = dktX0_count_4 := dk_seg dksX0_count_3 22 rfl rfl
theorem dX0_count_0 : decode cX0_count 0 = .ok (.iload_n 1, 1) := dk_27 (dk_at dksX0_count_0 0 rfl rfl)
theorem dX0_count_1 : decode cX0_count 1 = .ok (.tableswitch 105 0 9 #[55, 60, 65, 70, 75, 80, 85, 90, 95, 100], 55) := by decide +kernel
theorem dX0_count_56 : decode cX0_count 56 = .ok (.aload_n 0, 1) := dk_42 (dk_at dksX0_count_2 0 rfl rfl)
theorem dX0_count_57 : decode cX0_count 57 = .ok (.getfield 7, 3) := dk_180 0 7 (dk_at dksX0_count_2 1 rfl rfl)
theorem dX0_count_60 : decode cX0_count 60 = .ok (.ireturn, 1) := dk_172 (dk_at dksX0_count_2 4 rfl rfl)
theorem dX0_count_61 : decode cX0_count 61 = .ok (.aload_n 0, 1) := dk_42 (dk_at dksX0_count_2 5 rfl rfl)
theorem dX0_count_62 : decode cX0_count 62 = .ok (.getfield 13, 3) := dk_180 0 13 (dk_at dksX0_count_2 6 rfl rfl)
theorem dX0_count_65 : decode cX0_count 65 = .ok (.ireturn, 1) := dk_172 (dk_at dksX0_count_2 9 rfl rfl)
theorem dX0_count_66 : decode cX0_count 66 = .ok (.aload_n 0, 1) := dk_42 (dk_at dksX0_count_2 10 rfl rfl)
theorem dX0_count_67 : decode cX0_count 67 = .ok (.getfield 34, 3) := dk_180 0 34 (dk_at dksX0_count_2 11 rfl rfl)
theorem dX0_count_70 : decode cX0_count 70 = .ok (.ireturn, 1) := dk_172 (dk_at dksX0_count_2 14 rfl rfl)
theorem dX0_count_71 : decode cX0_count 71 = .ok (.aload_n 0, 1) := dk_42 (dk_at dksX0_count_2 15 rfl rfl)
theorem dX0_count_72 : decode cX0_count 72 = .ok (.getfield 37, 3) := dk_180 0 37 (dk_at dksX0_count_2 16 rfl rfl)
theorem dX0_count_75 : decode cX0_count 75 = .ok (.ireturn, 1) := dk_172 (dk_at dksX0_count_2 19 rfl rfl)
theorem dX0_count_76 : decode cX0_count 76 = .ok (.aload_n 0, 1) := dk_42 (dk_at dksX0_count_2 20 rfl rfl)
theorem dX0_count_77 : decode cX0_count 77 = .ok (.getfield 40, 3) := dk_180 0 40 (dk_at dksX0_count_2 21 rfl rfl)
theorem dX0_count_80 : decode cX0_count 80 = .ok (.ireturn, 1) := dk_172 (dk_at dksX0_count_3 0 rfl rfl)
theorem dX0_count_81 : decode cX0_count 81 = .ok (.aload_n 0, 1) := dk_42 (dk_at dksX0_count_3 1 rfl rfl)
theorem dX0_count_82 : decode cX0_count 82 = .ok (.getfield 43, 3) := dk_180 0 43 (dk_at dksX0_count_3 2 rfl rfl)
theorem dX0_count_85 : decode cX0_count 85 = .ok (.ireturn, 1) := dk_172 (dk_at dksX0_count_3 5 rfl rfl)
theorem dX0_count_86 : decode cX0_count 86 = .ok (.aload_n 0, 1) := dk_42 (dk_at dksX0_count_3 6 rfl rfl)
theorem dX0_count_87 : decode cX0_count 87 = .ok (.getfield 145, 3) := dk_180 0 145 (dk_at dksX0_count_3 7 rfl rfl)
theorem dX0_count_90 : decode cX0_count 90 = .ok (.ireturn, 1) := dk_172 (dk_at dksX0_count_3 10 rfl rfl)
theorem dX0_count_91 : decode cX0_count 91 = .ok (.aload_n 0, 1) := dk_42 (dk_at dksX0_count_3 11 rfl rfl)
theorem dX0_count_92 : decode cX0_count 92 = .ok (.getfield 113, 3) := dk_180 0 113 (dk_at dksX0_count_3 12 rfl rfl)
theorem dX0_count_95 : decode cX0_count 95 = .ok (.ireturn, 1) := dk_172 (dk_at dksX0_count_3 15 rfl rfl)
theorem dX0_count_96 : decode cX0_count 96 = .ok (.aload_n 0, 1) := dk_42 (dk_at dksX0_count_3 16 rfl rfl)
theorem dX0_count_97 : decode cX0_count 97 = .ok (.getfield 31, 3) := dk_180 0 31 (dk_at dksX0_count_3 17 rfl rfl)
theorem dX0_count_100 : decode cX0_count 100 = .ok (.ireturn, 1) := dk_172 (dk_at dksX0_count_3 20 rfl rfl)
theorem dX0_count_101 : decode cX0_count 101 = .ok (.aload_n 0, 1) := dk_42 (dk_at dksX0_count_3 21 rfl rfl)
theorem dX0_count_102 : decode cX0_count 102 = .ok (.getfield 266, 3) := dk_180 1 10 (dk_at dksX0_count_4 0 rfl rfl)
theorem dX0_count_105 : decode cX0_count 105 = .ok (.ireturn, 1) := dk_172 (dk_at dksX0_count_4 3 rfl rfl)
theorem dX0_count_106 : decode cX0_count 106 = .ok (.bipush (-3), 2) := dk_16 253 (dk_at dksX0_count_4 4 rfl rfl)
theorem dX0_count_108 : decode cX0_count 108 = .ok (.ireturn, 1) := dk_172 (dk_at dksX0_count_4 6 rfl rfl)
theorem q55 : (Jvm.Cond.initialized "WaterGrounds") ∈ lw_all := lw_g (lw_at lw_m1 1 rfl) rfl
theorem q81 : (Jvm.Cond.instantiable "WaterGrounds" (26 : Nat)) ∈ lw_all := lw_g (lw_at lw_m1 27 rfl) rfl
theorem q83 : (Jvm.Cond.instanceMethod ({ cls := "WaterGrounds", name := "<init>", desc := "()V" } : Jvm.MethodName)) ∈ lw_all := lw_g (lw_at lw_m1 29 rfl) rfl
theorem q84 : (Jvm.Cond.code ({ cls := "WaterGrounds", name := "<init>", desc := "()V" } : Jvm.MethodName) prog_1_method_2_code (1 : Nat) (Option.none : Option Jvm.ClassFile.FieldType)) ∈ lw_all := lw_g (lw_at lw_m1 30 rfl) rfl
theorem q85 : (Jvm.Cond.methodLink "WaterGrounds" (1 : Nat) ({ cls := "java/lang/Object", name := "<init>", desc := "()V" } : Jvm.MethodName)) ∈ lw_all := lw_g (lw_at lw_m1 31 rfl) rfl
theorem q88 : (Jvm.Cond.classLink "WaterGrounds" (26 : Nat) "[[I") ∈ lw_all := lw_g (lw_at lw_m1 34 rfl) rfl
theorem q90 : (Jvm.Cond.classLink "WaterGrounds" (52 : Nat) "WaterGrounds$Bed") ∈ lw_all := lw_g (lw_at lw_m1 36 rfl) rfl
theorem q92 : (Jvm.Cond.methodLink "WaterGrounds" (54 : Nat) ({ cls := "WaterGrounds$Bed", name := "<init>", desc := "(LWaterGrounds;)V" } : Jvm.MethodName)) ∈ lw_all := lw_g (lw_at lw_m1 38 rfl) rfl
theorem q114 : (Jvm.Cond.fieldLinkNest "WaterGrounds" (169 : Nat) "WaterGrounds$Grain" "left" "I" "WaterGrounds") ∈ lw_tbl := lw_at lw_m1 60 rfl
theorem q117 : (Jvm.Cond.fieldLinkNest "WaterGrounds" (174 : Nat) "WaterGrounds$Grain" "inWater" "I" "WaterGrounds") ∈ lw_tbl := lw_at lw_m1 63 rfl
theorem q126 : (Jvm.Cond.fieldLinkNest "WaterGrounds" (163 : Nat) "WaterGrounds$Ground" "grains" "[LWaterGrounds$Grain;" "WaterGrounds") ∈ lw_tbl := lw_at lw_m1 72 rfl
theorem q129 : (Jvm.Cond.fieldLinkNest "WaterGrounds" (177 : Nat) "WaterGrounds$Ground" "water" "I" "WaterGrounds") ∈ lw_tbl := lw_at lw_m1 75 rfl
theorem q132 : (Jvm.Cond.fieldLinkNest "WaterGrounds" (184 : Nat) "WaterGrounds$Ground" "cracks" "I" "WaterGrounds") ∈ lw_tbl := lw_at lw_m1 78 rfl
theorem q148 : (Jvm.Cond.fieldLinkNest "WaterGrounds" (157 : Nat) "WaterGrounds$Bed" "cells" "[[LWaterGrounds$Ground;" "WaterGrounds") ∈ lw_tbl := lw_at lw_m1 94 rfl
theorem q150 : (Jvm.Cond.fieldLinkNest "WaterGrounds" (187 : Nat) "WaterGrounds$Bed" "cup" "LWaterGrounds$Ground;" "WaterGrounds") ∈ lw_tbl := lw_at lw_m1 96 rfl
theorem q153 : (Jvm.Cond.fieldLinkNest "WaterGrounds" (150 : Nat) "WaterGrounds$Bed" "tick" "I" "WaterGrounds") ∈ lw_tbl := lw_at lw_m1 99 rfl
theorem q168 : (Jvm.Cond.classLink "WaterGrounds" (72 : Nat) "WaterGrounds$Reader") ∈ lw_all := lw_g (lw_at lw_m1 114 rfl) rfl
theorem q170 : (Jvm.Cond.methodLinkNest "WaterGrounds" (74 : Nat) ({ cls := "WaterGrounds$Reader", name := "<init>", desc := "(LWaterGrounds;)V" } : Jvm.MethodName) "WaterGrounds") ∈ lw_tbl := lw_at lw_m1 116 rfl
theorem q177 : (Jvm.Cond.fieldLinkNest "WaterGrounds" (131 : Nat) "WaterGrounds$Reader" "row" "[LWaterGrounds$Line;" "WaterGrounds") ∈ lw_tbl := lw_at lw_m1 123 rfl
theorem q178 : (Jvm.Cond.fieldLinkNest "WaterGrounds" (128 : Nat) "WaterGrounds$Reader" "many" "I" "WaterGrounds") ∈ lw_tbl := lw_at lw_m1 124 rfl
theorem q204 : (Jvm.Cond.classLink "WaterGrounds" (79 : Nat) "WaterGrounds$Brew") ∈ lw_all := lw_g (lw_at lw_m1 150 rfl) rfl
theorem q206 : (Jvm.Cond.methodLinkNest "WaterGrounds" (81 : Nat) ({ cls := "WaterGrounds$Brew", name := "<init>", desc := "(LWaterGrounds;)V" } : Jvm.MethodName) "WaterGrounds") ∈ lw_tbl := lw_at lw_m1 152 rfl
theorem q214 : (Jvm.Cond.classLink "WaterGrounds" (86 : Nat) "WaterGrounds$Turned") ∈ lw_all := lw_g (lw_at lw_m1 160 rfl) rfl
theorem q216 : (Jvm.Cond.methodLinkNest "WaterGrounds" (88 : Nat) ({ cls := "WaterGrounds$Turned", name := "<init>", desc := "(LWaterGrounds;)V" } : Jvm.MethodName) "WaterGrounds") ∈ lw_tbl := lw_at lw_m1 162 rfl
theorem q234 : (Jvm.Cond.classLink "WaterGrounds" (93 : Nat) "WaterGrounds$Tried") ∈ lw_all := lw_g (lw_at lw_m1 180 rfl) rfl
theorem q236 : (Jvm.Cond.methodLinkNest "WaterGrounds" (95 : Nat) ({ cls := "WaterGrounds$Tried", name := "<init>", desc := "(LWaterGrounds;)V" } : Jvm.MethodName) "WaterGrounds") ∈ lw_tbl := lw_at lw_m1 182 rfl
theorem q241 : (Jvm.Cond.fieldLinkNest "WaterGrounds" (235 : Nat) "WaterGrounds$Tried" "step" "I" "WaterGrounds") ∈ lw_tbl := lw_at lw_m1 187 rfl
theorem q243 : (Jvm.Cond.fieldLinkNest "WaterGrounds" (238 : Nat) "WaterGrounds$Tried" "warmth" "I" "WaterGrounds") ∈ lw_tbl := lw_at lw_m1 189 rfl
theorem q245 : (Jvm.Cond.fieldLinkNest "WaterGrounds" (249 : Nat) "WaterGrounds$Tried" "much" "I" "WaterGrounds") ∈ lw_tbl := lw_at lw_m1 191 rfl
theorem q257 : (Jvm.Cond.methodLink "WaterGrounds" (103 : Nat) ({ cls := "WaterGrounds$Bed", name := "begin", desc := "(I)V" } : Jvm.MethodName)) ∈ lw_all := lw_g (lw_at lw_m1 203 rfl) rfl
theorem q265 : (Jvm.Cond.fieldLink "WaterGrounds" (7 : Nat) "WaterGrounds" "rings" "I") ∈ lw_all := lw_g (lw_at lw_m1 211 rfl) rfl
theorem q269 : (Jvm.Cond.fieldLink "WaterGrounds" (13 : Nat) "WaterGrounds" "layers" "I") ∈ lw_all := lw_g (lw_at lw_m1 215 rfl) rfl
theorem q274 : (Jvm.Cond.fieldLink "WaterGrounds" (16 : Nat) "WaterGrounds" "stuffs" "[I") ∈ lw_all := lw_g (lw_at lw_m1 220 rfl) rfl
theorem q277 : (Jvm.Cond.fieldLink "WaterGrounds" (20 : Nat) "WaterGrounds" "rates" "[I") ∈ lw_all := lw_g (lw_at lw_m1 223 rfl) rfl
theorem q279 : (Jvm.Cond.fieldLink "WaterGrounds" (23 : Nat) "WaterGrounds" "loose" "[I") ∈ lw_all := lw_g (lw_at lw_m1 225 rfl) rfl
theorem q284 : (Jvm.Cond.fieldLink "WaterGrounds" (28 : Nat) "WaterGrounds" "looser" "[[I") ∈ lw_all := lw_g (lw_at lw_m1 230 rfl) rfl
theorem q287 : (Jvm.Cond.fieldLink "WaterGrounds" (31 : Nat) "WaterGrounds" "side" "I") ∈ lw_all := lw_g (lw_at lw_m1 233 rfl) rfl
theorem q291 : (Jvm.Cond.fieldLink "WaterGrounds" (266 : Nat) "WaterGrounds" "run" "I") ∈ lw_all := lw_g (lw_at lw_m1 237 rfl) rfl
theorem q295 : (Jvm.Cond.fieldLink "WaterGrounds" (34 : Nat) "WaterGrounds" "mill" "I") ∈ lw_all := lw_g (lw_at lw_m2 1 rfl) rfl
theorem q297 : (Jvm.Cond.fieldLink "WaterGrounds" (37 : Nat) "WaterGrounds" "warm" "I") ∈ lw_all := lw_g (lw_at lw_m2 3 rfl) rfl
theorem q301 : (Jvm.Cond.fieldLink "WaterGrounds" (40 : Nat) "WaterGrounds" "grams" "I") ∈ lw_all := lw_g (lw_at lw_m2 7 rfl) rfl
theorem q304 : (Jvm.Cond.fieldLink "WaterGrounds" (43 : Nat) "WaterGrounds" "ticks" "I") ∈ lw_all := lw_g (lw_at lw_m2 10 rfl) rfl
theorem q308 : (Jvm.Cond.fieldLink "WaterGrounds" (46 : Nat) "WaterGrounds" "chart" "[I") ∈ lw_all := lw_g (lw_at lw_m2 14 rfl) rfl
theorem q311 : (Jvm.Cond.fieldLink "WaterGrounds" (49 : Nat) "WaterGrounds" "pours" "[[I") ∈ lw_all := lw_g (lw_at lw_m2 17 rfl) rfl
theorem q316 : (Jvm.Cond.fieldLink "WaterGrounds" (145 : Nat) "WaterGrounds" "pourMany" "I") ∈ lw_all := lw_g (lw_at lw_m2 22 rfl) rfl
theorem q317 : (Jvm.Cond.fieldLink "WaterGrounds" (57 : Nat) "WaterGrounds" "bed" "LWaterGrounds$Bed;") ∈ lw_all := lw_g (lw_at lw_m2 23 rfl) rfl
theorem q318 : (Jvm.Cond.fieldLink "WaterGrounds" (61 : Nat) "WaterGrounds" "kept" "[LWaterGrounds$Bed;") ∈ lw_all := lw_g (lw_at lw_m2 24 rfl) rfl
theorem q319 : (Jvm.Cond.fieldLink "WaterGrounds" (140 : Nat) "WaterGrounds" "keptSet" "I") ∈ lw_all := lw_g (lw_at lw_m2 25 rfl) rfl
theorem q320 : (Jvm.Cond.fieldLink "WaterGrounds" (65 : Nat) "WaterGrounds" "trial" "LWaterGrounds$Bed;") ∈ lw_all := lw_g (lw_at lw_m2 26 rfl) rfl
theorem q323 : (Jvm.Cond.fieldLink "WaterGrounds" (68 : Nat) "WaterGrounds" "text" "[B") ∈ lw_all := lw_g (lw_at lw_m2 29 rfl) rfl
theorem q325 : (Jvm.Cond.fieldLink "WaterGrounds" (113 : Nat) "WaterGrounds" "length" "I") ∈ lw_all := lw_g (lw_at lw_m2 31 rfl) rfl
theorem q326 : (Jvm.Cond.fieldLink "WaterGrounds" (75 : Nat) "WaterGrounds" "reader" "LWaterGrounds$Reader;") ∈ lw_all := lw_g (lw_at lw_m2 32 rfl) rfl
theorem q327 : (Jvm.Cond.fieldLink "WaterGrounds" (82 : Nat) "WaterGrounds" "plain" "LWaterGrounds$Brew;") ∈ lw_all := lw_g (lw_at lw_m2 33 rfl) rfl
theorem q328 : (Jvm.Cond.fieldLink "WaterGrounds" (89 : Nat) "WaterGrounds" "turned" "LWaterGrounds$Turned;") ∈ lw_all := lw_g (lw_at lw_m2 34 rfl) rfl
theorem q329 : (Jvm.Cond.fieldLink "WaterGrounds" (96 : Nat) "WaterGrounds" "tried" "LWaterGrounds$Tried;") ∈ lw_all := lw_g (lw_at lw_m2 35 rfl) rfl
theorem q330 : (Jvm.Cond.fieldLink "WaterGrounds" (100 : Nat) "WaterGrounds" "rights" "[[I") ∈ lw_all := lw_g (lw_at lw_m2 36 rfl) rfl
theorem q331 : (Jvm.Cond.lays "WaterGrounds" "WaterGrounds" "rings" "I") ∈ lw_all := lw_g (lw_at lw_m2 37 rfl) rfl
theorem q332 : (Jvm.Cond.soleField "WaterGrounds" "rings") ∈ lw_all := lw_g (lw_at lw_m2 38 rfl) rfl
theorem q333 : (Jvm.Cond.lays "WaterGrounds" "WaterGrounds" "layers" "I") ∈ lw_all := lw_g (lw_at lw_m2 39 rfl) rfl
theorem q334 : (Jvm.Cond.soleField "WaterGrounds" "layers") ∈ lw_all := lw_g (lw_at lw_m2 40 rfl) rfl
theorem q335 : (Jvm.Cond.lays "WaterGrounds" "WaterGrounds" "stuffs" "[I") ∈ lw_all := lw_g (lw_at lw_m2 41 rfl) rfl
theorem q336 : (Jvm.Cond.soleField "WaterGrounds" "stuffs") ∈ lw_all := lw_g (lw_at lw_m2 42 rfl) rfl
theorem q337 : (Jvm.Cond.lays "WaterGrounds" "WaterGrounds" "rates" "[I") ∈ lw_all := lw_g (lw_at lw_m2 43 rfl) rfl
theorem q338 : (Jvm.Cond.soleField "WaterGrounds" "rates") ∈ lw_all := lw_g (lw_at lw_m2 44 rfl) rfl
theorem q339 : (Jvm.Cond.lays "WaterGrounds" "WaterGrounds" "loose" "[I") ∈ lw_all := lw_g (lw_at lw_m2 45 rfl) rfl
theorem q340 : (Jvm.Cond.soleField "WaterGrounds" "loose") ∈ lw_all := lw_g (lw_at lw_m2 46 rfl) rfl
theorem q341 : (Jvm.Cond.laysFinal "WaterGrounds" "WaterGrounds" "looser" "[[I") ∈ lw_all := lw_g (lw_at lw_m2 47 rfl) rfl
theorem q342 : (Jvm.Cond.soleField "WaterGrounds" "looser") ∈ lw_all := lw_g (lw_at lw_m2 48 rfl) rfl
theorem q343 : (Jvm.Cond.lays "WaterGrounds" "WaterGrounds" "side" "I") ∈ lw_all := lw_g (lw_at lw_m2 49 rfl) rfl
theorem q344 : (Jvm.Cond.soleField "WaterGrounds" "side") ∈ lw_all := lw_g (lw_at lw_m2 50 rfl) rfl
theorem q345 : (Jvm.Cond.lays "WaterGrounds" "WaterGrounds" "run" "I") ∈ lw_all := lw_g (lw_at lw_m2 51 rfl) rfl
theorem q346 : (Jvm.Cond.soleField "WaterGrounds" "run") ∈ lw_all := lw_g (lw_at lw_m2 52 rfl) rfl
theorem q347 : (Jvm.Cond.lays "WaterGrounds" "WaterGrounds" "mill" "I") ∈ lw_all := lw_g (lw_at lw_m2 53 rfl) rfl
theorem q348 : (Jvm.Cond.soleField "WaterGrounds" "mill") ∈ lw_all := lw_g (lw_at lw_m2 54 rfl) rfl
theorem q349 : (Jvm.Cond.lays "WaterGrounds" "WaterGrounds" "warm" "I") ∈ lw_all := lw_g (lw_at lw_m2 55 rfl) rfl
theorem q350 : (Jvm.Cond.soleField "WaterGrounds" "warm") ∈ lw_all := lw_g (lw_at lw_m2 56 rfl) rfl
theorem q351 : (Jvm.Cond.lays "WaterGrounds" "WaterGrounds" "grams" "I") ∈ lw_all := lw_g (lw_at lw_m2 57 rfl) rfl
theorem q352 : (Jvm.Cond.soleField "WaterGrounds" "grams") ∈ lw_all := lw_g (lw_at lw_m2 58 rfl) rfl
theorem q353 : (Jvm.Cond.lays "WaterGrounds" "WaterGrounds" "ticks" "I") ∈ lw_all := lw_g (lw_at lw_m2 59 rfl) rfl
theorem q354 : (Jvm.Cond.soleField "WaterGrounds" "ticks") ∈ lw_all := lw_g (lw_at lw_m2 60 rfl) rfl
theorem q355 : (Jvm.Cond.lays "WaterGrounds" "WaterGrounds" "chart" "[I") ∈ lw_all := lw_g (lw_at lw_m2 61 rfl) rfl
theorem q356 : (Jvm.Cond.soleField "WaterGrounds" "chart") ∈ lw_all := lw_g (lw_at lw_m2 62 rfl) rfl
theorem q357 : (Jvm.Cond.laysFinal "WaterGrounds" "WaterGrounds" "pours" "[[I") ∈ lw_all := lw_g (lw_at lw_m2 63 rfl) rfl
theorem q358 : (Jvm.Cond.soleField "WaterGrounds" "pours") ∈ lw_all := lw_g (lw_at lw_m2 64 rfl) rfl
theorem q359 : (Jvm.Cond.lays "WaterGrounds" "WaterGrounds" "pourMany" "I") ∈ lw_all := lw_g (lw_at lw_m2 65 rfl) rfl
theorem q360 : (Jvm.Cond.soleField "WaterGrounds" "pourMany") ∈ lw_all := lw_g (lw_at lw_m2 66 rfl) rfl
theorem q361 : (Jvm.Cond.laysFinal "WaterGrounds" "WaterGrounds" "bed" "LWaterGrounds$Bed;") ∈ lw_all := lw_g (lw_at lw_m2 67 rfl) rfl
theorem q362 : (Jvm.Cond.soleField "WaterGrounds" "bed") ∈ lw_all := lw_g (lw_at lw_m2 68 rfl) rfl
theorem q363 : (Jvm.Cond.laysFinal "WaterGrounds" "WaterGrounds" "kept" "[LWaterGrounds$Bed;") ∈ lw_all := lw_g (lw_at lw_m2 69 rfl) rfl
theorem q364 : (Jvm.Cond.soleField "WaterGrounds" "kept") ∈ lw_all := lw_g (lw_at lw_m2 70 rfl) rfl
theorem q365 : (Jvm.Cond.lays "WaterGrounds" "WaterGrounds" "keptSet" "I") ∈ lw_all := lw_g (lw_at lw_m2 71 rfl) rfl
theorem q366 : (Jvm.Cond.soleField "WaterGrounds" "keptSet") ∈ lw_all := lw_g (lw_at lw_m2 72 rfl) rfl
theorem q367 : (Jvm.Cond.laysFinal "WaterGrounds" "WaterGrounds" "trial" "LWaterGrounds$Bed;") ∈ lw_all := lw_g (lw_at lw_m2 73 rfl) rfl
theorem q368 : (Jvm.Cond.soleField "WaterGrounds" "trial") ∈ lw_all := lw_g (lw_at lw_m2 74 rfl) rfl
theorem q369 : (Jvm.Cond.laysFinal "WaterGrounds" "WaterGrounds" "text" "[B") ∈ lw_all := lw_g (lw_at lw_m2 75 rfl) rfl
theorem q370 : (Jvm.Cond.soleField "WaterGrounds" "text") ∈ lw_all := lw_g (lw_at lw_m2 76 rfl) rfl
theorem q371 : (Jvm.Cond.lays "WaterGrounds" "WaterGrounds" "length" "I") ∈ lw_all := lw_g (lw_at lw_m2 77 rfl) rfl
theorem q372 : (Jvm.Cond.soleField "WaterGrounds" "length") ∈ lw_all := lw_g (lw_at lw_m2 78 rfl) rfl
theorem q373 : (Jvm.Cond.laysFinal "WaterGrounds" "WaterGrounds" "reader" "LWaterGrounds$Reader;") ∈ lw_all := lw_g (lw_at lw_m2 79 rfl) rfl
theorem q374 : (Jvm.Cond.soleField "WaterGrounds" "reader") ∈ lw_all := lw_g (lw_at lw_m2 80 rfl) rfl
theorem q375 : (Jvm.Cond.laysFinal "WaterGrounds" "WaterGrounds" "plain" "LWaterGrounds$Brew;") ∈ lw_all := lw_g (lw_at lw_m2 81 rfl) rfl
theorem q376 : (Jvm.Cond.soleField "WaterGrounds" "plain") ∈ lw_all := lw_g (lw_at lw_m2 82 rfl) rfl
theorem q377 : (Jvm.Cond.laysFinal "WaterGrounds" "WaterGrounds" "turned" "LWaterGrounds$Turned;") ∈ lw_all := lw_g (lw_at lw_m2 83 rfl) rfl
theorem q378 : (Jvm.Cond.soleField "WaterGrounds" "turned") ∈ lw_all := lw_g (lw_at lw_m2 84 rfl) rfl
theorem q379 : (Jvm.Cond.laysFinal "WaterGrounds" "WaterGrounds" "tried" "LWaterGrounds$Tried;") ∈ lw_all := lw_g (lw_at lw_m2 85 rfl) rfl
theorem q380 : (Jvm.Cond.soleField "WaterGrounds" "tried") ∈ lw_all := lw_g (lw_at lw_m2 86 rfl) rfl
theorem q381 : (Jvm.Cond.laysFinal "WaterGrounds" "WaterGrounds" "rights" "[[I") ∈ lw_all := lw_g (lw_at lw_m2 87 rfl) rfl
theorem q382 : (Jvm.Cond.soleField "WaterGrounds" "rights") ∈ lw_all := lw_g (lw_at lw_m2 88 rfl) rfl
theorem q383 : (Jvm.Cond.superclass "WaterGrounds" "java/lang/Object") ∈ lw_all := lw_g (lw_at lw_m2 89 rfl) rfl
theorem q385 : (Jvm.Cond.instanceMethod ({ cls := "WaterGrounds", name := "write", desc := "(JI)I" } : Jvm.MethodName)) ∈ lw_all := lw_g (lw_at lw_m2 91 rfl) rfl
theorem q386 : (Jvm.Cond.selects "WaterGrounds" ({ cls := "WaterGrounds", name := "write", desc := "(JI)I" } : Jvm.MethodName) ({ cls := "WaterGrounds", name := "write", desc := "(JI)I" } : Jvm.MethodName)) ∈ lw_all := lw_g (lw_at lw_m2 92 rfl) rfl
theorem q387 : (Jvm.Cond.code ({ cls := "WaterGrounds", name := "write", desc := "(JI)I" } : Jvm.MethodName) prog_1_method_3_code (5 : Nat) (Option.some Jvm.ClassFile.FieldType.int)) ∈ lw_all := lw_g (lw_at lw_m2 93 rfl) rfl
theorem q388 : (Jvm.Cond.constantLong "WaterGrounds" (107 : Nat) (8 : Int64)) ∈ lw_all := lw_g (lw_at lw_m2 94 rfl) rfl
theorem q389 : (Jvm.Cond.methodLink "WaterGrounds" (109 : Nat) ({ cls := "WaterGrounds", name := "isIn", desc := "(JJJ)Z" } : Jvm.MethodName)) ∈ lw_all := lw_g (lw_at lw_m2 95 rfl) rfl
theorem q390 : (Jvm.Cond.static ({ cls := "WaterGrounds", name := "isIn", desc := "(JJJ)Z" } : Jvm.MethodName)) ∈ lw_all := lw_g (lw_at lw_m2 96 rfl) rfl
theorem q391 : (Jvm.Cond.code ({ cls := "WaterGrounds", name := "isIn", desc := "(JJJ)Z" } : Jvm.MethodName) prog_1_method_1_code (6 : Nat) (Option.some Jvm.ClassFile.FieldType.boolean)) ∈ lw_all := lw_g (lw_at lw_m2 97 rfl) rfl
theorem q393 : (Jvm.Cond.instanceMethod ({ cls := "WaterGrounds", name := "erase", desc := "()I" } : Jvm.MethodName)) ∈ lw_all := lw_g (lw_at lw_m2 99 rfl) rfl
theorem q394 : (Jvm.Cond.selects "WaterGrounds" ({ cls := "WaterGrounds", name := "erase", desc := "()I" } : Jvm.MethodName) ({ cls := "WaterGrounds", name := "erase", desc := "()I" } : Jvm.MethodName)) ∈ lw_all := lw_g (lw_at lw_m2 100 rfl) rfl
theorem q395 : (Jvm.Cond.code ({ cls := "WaterGrounds", name := "erase", desc := "()I" } : Jvm.MethodName) prog_1_method_4_code (2 : Nat) (Option.some Jvm.ClassFile.FieldType.int)) ∈ lw_all := lw_g (lw_at lw_m2 101 rfl) rfl
theorem q397 : (Jvm.Cond.instanceMethod ({ cls := "WaterGrounds", name := "fault", desc := "()I" } : Jvm.MethodName)) ∈ lw_all := lw_g (lw_at lw_m2 103 rfl) rfl
theorem q398 : (Jvm.Cond.selects "WaterGrounds" ({ cls := "WaterGrounds", name := "fault", desc := "()I" } : Jvm.MethodName) ({ cls := "WaterGrounds", name := "fault", desc := "()I" } : Jvm.MethodName)) ∈ lw_all := lw_g (lw_at lw_m2 104 rfl) rfl
theorem q399 : (Jvm.Cond.codeWith ({ cls := "WaterGrounds", name := "fault", desc := "()I" } : Jvm.MethodName) prog_1_method_5_code (2 : Nat) (Option.some Jvm.ClassFile.FieldType.int) [((0 : Nat), (8 : Nat), (9 : Nat), (119 : Nat))]) ∈ lw_all := lw_g (lw_at lw_m2 105 rfl) rfl
theorem q400 : (Jvm.Cond.classLink "WaterGrounds" (119 : Nat) "WaterGrounds$Fault") ∈ lw_all := lw_g (lw_at lw_m2 106 rfl) rfl
theorem q401 : (Jvm.Cond.methodLink "WaterGrounds" (116 : Nat) ({ cls := "WaterGrounds$Reader", name := "read", desc := "()V" } : Jvm.MethodName)) ∈ lw_all := lw_g (lw_at lw_m2 107 rfl) rfl
theorem q535 : (Jvm.Cond.fieldLinkNest "WaterGrounds" (121 : Nat) "WaterGrounds$Fault" "place" "I" "WaterGrounds") ∈ lw_tbl := lw_at lw_m3 1 rfl
theorem q584 : (Jvm.Cond.laysStatic "WaterGrounds" "OF_STUFF" "[I") ∈ lw_tbl := lw_at lw_m3 50 rfl
theorem q604 : (Jvm.Cond.laysStatic "WaterGrounds" "OF_RATE" "[I") ∈ lw_tbl := lw_at lw_m3 70 rfl
theorem q607 : (Jvm.Cond.laysStatic "WaterGrounds" "OF_LOOSE" "[I") ∈ lw_tbl := lw_at lw_m3 73 rfl
theorem q648 : (Jvm.Cond.laysStatic "WaterGrounds" "OF_STILL" "[I") ∈ lw_tbl := lw_at lw_m3 114 rfl
theorem q655 : (Jvm.Cond.laysStatic "WaterGrounds" "ONES" "[Ljava/lang/String;") ∈ lw_tbl := lw_at lw_m3 121 rfl
theorem q661 : (Jvm.Cond.laysStatic "WaterGrounds" "LEAST" "[I") ∈ lw_tbl := lw_at lw_m3 127 rfl
theorem q663 : (Jvm.Cond.laysStatic "WaterGrounds" "MOST" "[I") ∈ lw_tbl := lw_at lw_m3 129 rfl
theorem q681 : (Jvm.Cond.instanceMethod ({ cls := "WaterGrounds", name := "plan", desc := "()I" } : Jvm.MethodName)) ∈ lw_all := lw_g (lw_at lw_m3 147 rfl) rfl
theorem q682 : (Jvm.Cond.selects "WaterGrounds" ({ cls := "WaterGrounds", name := "plan", desc := "()I" } : Jvm.MethodName) ({ cls := "WaterGrounds", name := "plan", desc := "()I" } : Jvm.MethodName)) ∈ lw_all := lw_g (lw_at lw_m3 148 rfl) rfl
theorem q683 : (Jvm.Cond.code ({ cls := "WaterGrounds", name := "plan", desc := "()I" } : Jvm.MethodName) prog_1_method_6_code (2 : Nat) (Option.some Jvm.ClassFile.FieldType.int)) ∈ lw_all := lw_g (lw_at lw_m3 149 rfl) rfl
theorem q684 : (Jvm.Cond.methodLink "WaterGrounds" (124 : Nat) ({ cls := "WaterGrounds", name := "fault", desc := "()I" } : Jvm.MethodName)) ∈ lw_all := lw_g (lw_at lw_m3 150 rfl) rfl
theorem q685 : (Jvm.Cond.methodLink "WaterGrounds" (135 : Nat) ({ cls := "WaterGrounds$Line", name := "run", desc := "()V" } : Jvm.MethodName)) ∈ lw_all := lw_g (lw_at lw_m3 151 rfl) rfl
theorem q710 : (Jvm.Cond.instanceMethod ({ cls := "WaterGrounds", name := "stuff", desc := "(II)I" } : Jvm.MethodName)) ∈ lw_all := lw_g (lw_at lw_m3 176 rfl) rfl
theorem q711 : (Jvm.Cond.selects "WaterGrounds" ({ cls := "WaterGrounds", name := "stuff", desc := "(II)I" } : Jvm.MethodName) ({ cls := "WaterGrounds", name := "stuff", desc := "(II)I" } : Jvm.MethodName)) ∈ lw_all := lw_g (lw_at lw_m3 177 rfl) rfl
theorem q712 : (Jvm.Cond.code ({ cls := "WaterGrounds", name := "stuff", desc := "(II)I" } : Jvm.MethodName) prog_1_method_7_code (3 : Nat) (Option.some Jvm.ClassFile.FieldType.int)) ∈ lw_all := lw_g (lw_at lw_m3 178 rfl) rfl
theorem q713 : (Jvm.Cond.constantLong "WaterGrounds" (143 : Nat) (2 : Int64)) ∈ lw_all := lw_g (lw_at lw_m3 179 rfl) rfl
theorem q715 : (Jvm.Cond.instanceMethod ({ cls := "WaterGrounds", name := "pour", desc := "(II)I" } : Jvm.MethodName)) ∈ lw_all := lw_g (lw_at lw_m3 181 rfl) rfl
theorem q716 : (Jvm.Cond.selects "WaterGrounds" ({ cls := "WaterGrounds", name := "pour", desc := "(II)I" } : Jvm.MethodName) ({ cls := "WaterGrounds", name := "pour", desc := "(II)I" } : Jvm.MethodName)) ∈ lw_all := lw_g (lw_at lw_m3 182 rfl) rfl
theorem q717 : (Jvm.Cond.code ({ cls := "WaterGrounds", name := "pour", desc := "(II)I" } : Jvm.MethodName) prog_1_method_8_code (3 : Nat) (Option.some Jvm.ClassFile.FieldType.int)) ∈ lw_all := lw_g (lw_at lw_m3 183 rfl) rfl
theorem q719 : (Jvm.Cond.instanceMethod ({ cls := "WaterGrounds", name := "brew", desc := "(I)I" } : Jvm.MethodName)) ∈ lw_all := lw_g (lw_at lw_m3 185 rfl) rfl
theorem q720 : (Jvm.Cond.selects "WaterGrounds" ({ cls := "WaterGrounds", name := "brew", desc := "(I)I" } : Jvm.MethodName) ({ cls := "WaterGrounds", name := "brew", desc := "(I)I" } : Jvm.MethodName)) ∈ lw_all := lw_g (lw_at lw_m3 186 rfl) rfl
theorem q721 : (Jvm.Cond.code ({ cls := "WaterGrounds", name := "brew", desc := "(I)I" } : Jvm.MethodName) prog_1_method_9_code (3 : Nat) (Option.some Jvm.ClassFile.FieldType.int)) ∈ lw_all := lw_g (lw_at lw_m3 187 rfl) rfl
theorem q722 : (Jvm.Cond.constantLong "WaterGrounds" (148 : Nat) (60 : Int64)) ∈ lw_all := lw_g (lw_at lw_m3 188 rfl) rfl
theorem q723 : (Jvm.Cond.methodLink "WaterGrounds" (153 : Nat) ({ cls := "WaterGrounds$Bed", name := "go", desc := "(II)V" } : Jvm.MethodName)) ∈ lw_all := lw_g (lw_at lw_m3 189 rfl) rfl
theorem q772 : (Jvm.Cond.instanceMethod ({ cls := "WaterGrounds", name := "again", desc := "()I" } : Jvm.MethodName)) ∈ lw_all := lw_g (lw_at lw_m3 238 rfl) rfl
theorem q773 : (Jvm.Cond.selects "WaterGrounds" ({ cls := "WaterGrounds", name := "again", desc := "()I" } : Jvm.MethodName) ({ cls := "WaterGrounds", name := "again", desc := "()I" } : Jvm.MethodName)) ∈ lw_all := lw_g (lw_at lw_m3 239 rfl) rfl
theorem q774 : (Jvm.Cond.code ({ cls := "WaterGrounds", name := "again", desc := "()I" } : Jvm.MethodName) prog_1_method_10_code (2 : Nat) (Option.some Jvm.ClassFile.FieldType.int)) ∈ lw_all := lw_g (lw_at lw_m4 0 rfl) rfl
theorem q776 : (Jvm.Cond.instanceMethod ({ cls := "WaterGrounds", name := "cell", desc := "(III)I" } : Jvm.MethodName)) ∈ lw_all := lw_g (lw_at lw_m4 2 rfl) rfl
theorem q777 : (Jvm.Cond.selects "WaterGrounds" ({ cls := "WaterGrounds", name := "cell", desc := "(III)I" } : Jvm.MethodName) ({ cls := "WaterGrounds", name := "cell", desc := "(III)I" } : Jvm.MethodName)) ∈ lw_all := lw_g (lw_at lw_m4 3 rfl) rfl
theorem q778 : (Jvm.Cond.code ({ cls := "WaterGrounds", name := "cell", desc := "(III)I" } : Jvm.MethodName) prog_1_method_11_code (5 : Nat) (Option.some Jvm.ClassFile.FieldType.int)) ∈ lw_all := lw_g (lw_at lw_m4 4 rfl) rfl
theorem q779 : (Jvm.Cond.constantLong "WaterGrounds" (161 : Nat) (3 : Int64)) ∈ lw_all := lw_g (lw_at lw_m4 5 rfl) rfl
theorem q780 : (Jvm.Cond.methodLink "WaterGrounds" (180 : Nat) ({ cls := "WaterGrounds$Bed", name := "looseOf", desc := "(IIIZ)I" } : Jvm.MethodName)) ∈ lw_all := lw_g (lw_at lw_m4 6 rfl) rfl
theorem q782 : (Jvm.Cond.instanceMethod ({ cls := "WaterGrounds", name := "cup", desc := "(I)I" } : Jvm.MethodName)) ∈ lw_all := lw_g (lw_at lw_m4 8 rfl) rfl
theorem q783 : (Jvm.Cond.selects "WaterGrounds" ({ cls := "WaterGrounds", name := "cup", desc := "(I)I" } : Jvm.MethodName) ({ cls := "WaterGrounds", name := "cup", desc := "(I)I" } : Jvm.MethodName)) ∈ lw_all := lw_g (lw_at lw_m4 9 rfl) rfl
theorem q784 : (Jvm.Cond.code ({ cls := "WaterGrounds", name := "cup", desc := "(I)I" } : Jvm.MethodName) prog_1_method_12_code (2 : Nat) (Option.some Jvm.ClassFile.FieldType.int)) ∈ lw_all := lw_g (lw_at lw_m4 10 rfl) rfl
theorem q785 : (Jvm.Cond.methodLink "WaterGrounds" (191 : Nat) ({ cls := "WaterGrounds$Bed", name := "strong", desc := "()I" } : Jvm.MethodName)) ∈ lw_all := lw_g (lw_at lw_m4 11 rfl) rfl
theorem q793 : (Jvm.Cond.methodLink "WaterGrounds" (194 : Nat) ({ cls := "WaterGrounds$Bed", name := "out", desc := "(I)I" } : Jvm.MethodName)) ∈ lw_all := lw_g (lw_at lw_m4 19 rfl) rfl
theorem q801 : (Jvm.Cond.methodLink "WaterGrounds" (198 : Nat) ({ cls := "WaterGrounds$Bed", name := "uneven", desc := "(I)I" } : Jvm.MethodName)) ∈ lw_all := lw_g (lw_at lw_m4 27 rfl) rfl
theorem q810 : (Jvm.Cond.instanceMethod ({ cls := "WaterGrounds", name := "keep", desc := "(I)I" } : Jvm.MethodName)) ∈ lw_all := lw_g (lw_at lw_m4 36 rfl) rfl
theorem q811 : (Jvm.Cond.selects "WaterGrounds" ({ cls := "WaterGrounds", name := "keep", desc := "(I)I" } : Jvm.MethodName) ({ cls := "WaterGrounds", name := "keep", desc := "(I)I" } : Jvm.MethodName)) ∈ lw_all := lw_g (lw_at lw_m4 37 rfl) rfl
theorem q812 : (Jvm.Cond.code ({ cls := "WaterGrounds", name := "keep", desc := "(I)I" } : Jvm.MethodName) prog_1_method_13_code (2 : Nat) (Option.some Jvm.ClassFile.FieldType.int)) ∈ lw_all := lw_g (lw_at lw_m4 38 rfl) rfl
theorem q813 : (Jvm.Cond.methodLink "WaterGrounds" (201 : Nat) ({ cls := "WaterGrounds$Bed", name := "copy", desc := "(LWaterGrounds$Bed;)V" } : Jvm.MethodName)) ∈ lw_all := lw_g (lw_at lw_m4 39 rfl) rfl
theorem q822 : (Jvm.Cond.instanceMethod ({ cls := "WaterGrounds", name := "back", desc := "(I)I" } : Jvm.MethodName)) ∈ lw_all := lw_g (lw_at lw_m4 48 rfl) rfl
theorem q823 : (Jvm.Cond.selects "WaterGrounds" ({ cls := "WaterGrounds", name := "back", desc := "(I)I" } : Jvm.MethodName) ({ cls := "WaterGrounds", name := "back", desc := "(I)I" } : Jvm.MethodName)) ∈ lw_all := lw_g (lw_at lw_m4 49 rfl) rfl
theorem q824 : (Jvm.Cond.code ({ cls := "WaterGrounds", name := "back", desc := "(I)I" } : Jvm.MethodName) prog_1_method_14_code (2 : Nat) (Option.some Jvm.ClassFile.FieldType.int)) ∈ lw_all := lw_g (lw_at lw_m4 50 rfl) rfl
theorem q826 : (Jvm.Cond.instanceMethod ({ cls := "WaterGrounds", name := "taste", desc := "(I)I" } : Jvm.MethodName)) ∈ lw_all := lw_g (lw_at lw_m4 52 rfl) rfl
theorem q827 : (Jvm.Cond.selects "WaterGrounds" ({ cls := "WaterGrounds", name := "taste", desc := "(I)I" } : Jvm.MethodName) ({ cls := "WaterGrounds", name := "taste", desc := "(I)I" } : Jvm.MethodName)) ∈ lw_all := lw_g (lw_at lw_m4 53 rfl) rfl
theorem q828 : (Jvm.Cond.code ({ cls := "WaterGrounds", name := "taste", desc := "(I)I" } : Jvm.MethodName) prog_1_method_15_code (3 : Nat) (Option.some Jvm.ClassFile.FieldType.int)) ∈ lw_all := lw_g (lw_at lw_m4 54 rfl) rfl
theorem q829 : (Jvm.Cond.methodLink "WaterGrounds" (205 : Nat) ({ cls := "WaterGrounds$Brew", name := "taste", desc := "()I" } : Jvm.MethodName)) ∈ lw_all := lw_g (lw_at lw_m4 55 rfl) rfl
theorem q885 : (Jvm.Cond.instanceMethod ({ cls := "WaterGrounds", name := "knob", desc := "(I)I" } : Jvm.MethodName)) ∈ lw_all := lw_g (lw_at lw_m4 111 rfl) rfl
theorem q886 : (Jvm.Cond.selects "WaterGrounds" ({ cls := "WaterGrounds", name := "knob", desc := "(I)I" } : Jvm.MethodName) ({ cls := "WaterGrounds", name := "knob", desc := "(I)I" } : Jvm.MethodName)) ∈ lw_all := lw_g (lw_at lw_m4 112 rfl) rfl
theorem q887 : (Jvm.Cond.code ({ cls := "WaterGrounds", name := "knob", desc := "(I)I" } : Jvm.MethodName) prog_1_method_16_code (2 : Nat) (Option.some Jvm.ClassFile.FieldType.int)) ∈ lw_all := lw_g (lw_at lw_m4 113 rfl) rfl
theorem q888 : (Jvm.Cond.constantLong "WaterGrounds" (208 : Nat) (5 : Int64)) ∈ lw_all := lw_g (lw_at lw_m4 114 rfl) rfl
theorem q889 : (Jvm.Cond.methodLink "WaterGrounds" (210 : Nat) ({ cls := "WaterGrounds$Turned", name := "lay", desc := "()V" } : Jvm.MethodName)) ∈ lw_all := lw_g (lw_at lw_m4 115 rfl) rfl
theorem q893 : (Jvm.Cond.methodLink "WaterGrounds" (213 : Nat) ({ cls := "WaterGrounds$Turned", name := "turn", desc := "(I)Z" } : Jvm.MethodName)) ∈ lw_all := lw_g (lw_at lw_m4 119 rfl) rfl
theorem q904 : (Jvm.Cond.methodLink "WaterGrounds" (217 : Nat) ({ cls := "WaterGrounds$Turned", name := "taste", desc := "()I" } : Jvm.MethodName)) ∈ lw_all := lw_g (lw_at lw_m4 130 rfl) rfl
theorem q909 : (Jvm.Cond.instanceMethod ({ cls := "WaterGrounds", name := "right", desc := "(I)I" } : Jvm.MethodName)) ∈ lw_all := lw_g (lw_at lw_m4 135 rfl) rfl
theorem q910 : (Jvm.Cond.selects "WaterGrounds" ({ cls := "WaterGrounds", name := "right", desc := "(I)I" } : Jvm.MethodName) ({ cls := "WaterGrounds", name := "right", desc := "(I)I" } : Jvm.MethodName)) ∈ lw_all := lw_g (lw_at lw_m4 136 rfl) rfl
theorem q911 : (Jvm.Cond.code ({ cls := "WaterGrounds", name := "right", desc := "(I)I" } : Jvm.MethodName) prog_1_method_18_code (5 : Nat) (Option.some Jvm.ClassFile.FieldType.int)) ∈ lw_all := lw_g (lw_at lw_m4 137 rfl) rfl
theorem q912 : (Jvm.Cond.methodLink "WaterGrounds" (224 : Nat) ({ cls := "WaterGrounds", name := "isRight", desc := "(II)Z" } : Jvm.MethodName)) ∈ lw_all := lw_g (lw_at lw_m4 138 rfl) rfl
theorem q913 : (Jvm.Cond.privateMethod ({ cls := "WaterGrounds", name := "isRight", desc := "(II)Z" } : Jvm.MethodName)) ∈ lw_tbl := lw_at lw_m4 139 rfl
theorem q914 : (Jvm.Cond.instanceMethod ({ cls := "WaterGrounds", name := "isRight", desc := "(II)Z" } : Jvm.MethodName)) ∈ lw_all := lw_g (lw_at lw_m4 140 rfl) rfl
theorem q915 : (Jvm.Cond.code ({ cls := "WaterGrounds", name := "isRight", desc := "(II)Z" } : Jvm.MethodName) prog_1_method_17_code (6 : Nat) (Option.some Jvm.ClassFile.FieldType.boolean)) ∈ lw_all := lw_g (lw_at lw_m4 141 rfl) rfl
theorem q916 : (Jvm.Cond.methodLink "WaterGrounds" (218 : Nat) ({ cls := "java/lang/Math", name := "max", desc := "(II)I" } : Jvm.MethodName)) ∈ lw_all := lw_g (lw_at lw_m4 142 rfl) rfl
theorem q917 : (Jvm.Cond.methodLink "WaterGrounds" (228 : Nat) ({ cls := "WaterGrounds", name := "figure", desc := "(II)I" } : Jvm.MethodName)) ∈ lw_all := lw_g (lw_at lw_m4 143 rfl) rfl
theorem q918 : (Jvm.Cond.static ({ cls := "WaterGrounds", name := "figure", desc := "(II)I" } : Jvm.MethodName)) ∈ lw_all := lw_g (lw_at lw_m4 144 rfl) rfl
theorem q919 : (Jvm.Cond.code ({ cls := "WaterGrounds", name := "figure", desc := "(II)I" } : Jvm.MethodName) prog_1_method_19_code (4 : Nat) (Option.some Jvm.ClassFile.FieldType.int)) ∈ lw_all := lw_g (lw_at lw_m4 145 rfl) rfl
theorem q921 : (Jvm.Cond.instanceMethod ({ cls := "WaterGrounds", name := "broad", desc := "(I)I" } : Jvm.MethodName)) ∈ lw_all := lw_g (lw_at lw_m4 147 rfl) rfl
theorem q922 : (Jvm.Cond.selects "WaterGrounds" ({ cls := "WaterGrounds", name := "broad", desc := "(I)I" } : Jvm.MethodName) ({ cls := "WaterGrounds", name := "broad", desc := "(I)I" } : Jvm.MethodName)) ∈ lw_all := lw_g (lw_at lw_m4 148 rfl) rfl
theorem q923 : (Jvm.Cond.code ({ cls := "WaterGrounds", name := "broad", desc := "(I)I" } : Jvm.MethodName) prog_1_method_21_code (4 : Nat) (Option.some Jvm.ClassFile.FieldType.int)) ∈ lw_all := lw_g (lw_at lw_m4 149 rfl) rfl
theorem q924 : (Jvm.Cond.methodLink "WaterGrounds" (234 : Nat) ({ cls := "WaterGrounds$Tried", name := "lay", desc := "()V" } : Jvm.MethodName)) ∈ lw_all := lw_g (lw_at lw_m4 150 rfl) rfl
theorem q928 : (Jvm.Cond.methodLink "WaterGrounds" (241 : Nat) ({ cls := "WaterGrounds$Tried", name := "taste", desc := "()I" } : Jvm.MethodName)) ∈ lw_all := lw_g (lw_at lw_m4 154 rfl) rfl
theorem q931 : (Jvm.Cond.methodLink "WaterGrounds" (242 : Nat) ({ cls := "WaterGrounds", name := "rightNear", desc := "(II)I" } : Jvm.MethodName)) ∈ lw_all := lw_g (lw_at lw_m4 157 rfl) rfl
theorem q932 : (Jvm.Cond.privateMethod ({ cls := "WaterGrounds", name := "rightNear", desc := "(II)I" } : Jvm.MethodName)) ∈ lw_tbl := lw_at lw_m4 158 rfl
theorem q933 : (Jvm.Cond.instanceMethod ({ cls := "WaterGrounds", name := "rightNear", desc := "(II)I" } : Jvm.MethodName)) ∈ lw_all := lw_g (lw_at lw_m4 159 rfl) rfl
theorem q934 : (Jvm.Cond.code ({ cls := "WaterGrounds", name := "rightNear", desc := "(II)I" } : Jvm.MethodName) prog_1_method_20_code (6 : Nat) (Option.some Jvm.ClassFile.FieldType.int)) ∈ lw_all := lw_g (lw_at lw_m4 160 rfl) rfl
theorem q935 : (Jvm.Cond.methodLink "WaterGrounds" (231 : Nat) ({ cls := "java/lang/Math", name := "min", desc := "(II)I" } : Jvm.MethodName)) ∈ lw_all := lw_g (lw_at lw_m4 161 rfl) rfl
theorem q937 : (Jvm.Cond.instanceMethod ({ cls := "WaterGrounds", name := "takes", desc := "(II)I" } : Jvm.MethodName)) ∈ lw_all := lw_g (lw_at lw_m4 163 rfl) rfl
theorem q938 : (Jvm.Cond.selects "WaterGrounds" ({ cls := "WaterGrounds", name := "takes", desc := "(II)I" } : Jvm.MethodName) ({ cls := "WaterGrounds", name := "takes", desc := "(II)I" } : Jvm.MethodName)) ∈ lw_all := lw_g (lw_at lw_m4 164 rfl) rfl
theorem q939 : (Jvm.Cond.code ({ cls := "WaterGrounds", name := "takes", desc := "(II)I" } : Jvm.MethodName) prog_1_method_22_code (3 : Nat) (Option.some Jvm.ClassFile.FieldType.int)) ∈ lw_all := lw_g (lw_at lw_m4 165 rfl) rfl
theorem q940 : (Jvm.Cond.constantLong "WaterGrounds" (245 : Nat) (9999 : Int64)) ∈ lw_all := lw_g (lw_at lw_m4 166 rfl) rfl
theorem q941 : (Jvm.Cond.constantLong "WaterGrounds" (247 : Nat) (10 : Int64)) ∈ lw_all := lw_g (lw_at lw_m4 167 rfl) rfl
theorem q943 : (Jvm.Cond.instanceMethod ({ cls := "WaterGrounds", name := "little", desc := "()I" } : Jvm.MethodName)) ∈ lw_all := lw_g (lw_at lw_m4 169 rfl) rfl
theorem q944 : (Jvm.Cond.selects "WaterGrounds" ({ cls := "WaterGrounds", name := "little", desc := "()I" } : Jvm.MethodName) ({ cls := "WaterGrounds", name := "little", desc := "()I" } : Jvm.MethodName)) ∈ lw_all := lw_g (lw_at lw_m4 170 rfl) rfl
theorem q945 : (Jvm.Cond.code ({ cls := "WaterGrounds", name := "little", desc := "()I" } : Jvm.MethodName) prog_1_method_23_code (1 : Nat) (Option.some Jvm.ClassFile.FieldType.int)) ∈ lw_all := lw_g (lw_at lw_m4 171 rfl) rfl
theorem q947 : (Jvm.Cond.instanceMethod ({ cls := "WaterGrounds", name := "ran", desc := "()I" } : Jvm.MethodName)) ∈ lw_all := lw_g (lw_at lw_m4 173 rfl) rfl
theorem q948 : (Jvm.Cond.selects "WaterGrounds" ({ cls := "WaterGrounds", name := "ran", desc := "()I" } : Jvm.MethodName) ({ cls := "WaterGrounds", name := "ran", desc := "()I" } : Jvm.MethodName)) ∈ lw_all := lw_g (lw_at lw_m4 174 rfl) rfl
theorem q949 : (Jvm.Cond.code ({ cls := "WaterGrounds", name := "ran", desc := "()I" } : Jvm.MethodName) prog_1_method_24_code (3 : Nat) (Option.some Jvm.ClassFile.FieldType.int)) ∈ lw_all := lw_g (lw_at lw_m4 175 rfl) rfl
theorem q950 : (Jvm.Cond.methodLink "WaterGrounds" (252 : Nat) ({ cls := "WaterGrounds$Brew", name := "run", desc := "()V" } : Jvm.MethodName)) ∈ lw_all := lw_g (lw_at lw_m4 176 rfl) rfl
theorem q951 : (Jvm.Cond.methodLink "WaterGrounds" (253 : Nat) ({ cls := "WaterGrounds$Bed", name := "leftIn", desc := "(I)I" } : Jvm.MethodName)) ∈ lw_all := lw_g (lw_at lw_m4 177 rfl) rfl
theorem q953 : (Jvm.Cond.instanceMethod ({ cls := "WaterGrounds", name := "runs", desc := "()I" } : Jvm.MethodName)) ∈ lw_all := lw_g (lw_at lw_m4 179 rfl) rfl
theorem q954 : (Jvm.Cond.selects "WaterGrounds" ({ cls := "WaterGrounds", name := "runs", desc := "()I" } : Jvm.MethodName) ({ cls := "WaterGrounds", name := "runs", desc := "()I" } : Jvm.MethodName)) ∈ lw_all := lw_g (lw_at lw_m4 180 rfl) rfl
theorem q955 : (Jvm.Cond.code ({ cls := "WaterGrounds", name := "runs", desc := "()I" } : Jvm.MethodName) prog_1_method_25_code (5 : Nat) (Option.some Jvm.ClassFile.FieldType.int)) ∈ lw_all := lw_g (lw_at lw_m4 181 rfl) rfl
theorem q957 : (Jvm.Cond.instanceMethod ({ cls := "WaterGrounds", name := "blind", desc := "(IIII)J" } : Jvm.MethodName)) ∈ lw_all := lw_g (lw_at lw_m4 183 rfl) rfl
theorem q958 : (Jvm.Cond.selects "WaterGrounds" ({ cls := "WaterGrounds", name := "blind", desc := "(IIII)J" } : Jvm.MethodName) ({ cls := "WaterGrounds", name := "blind", desc := "(IIII)J" } : Jvm.MethodName)) ∈ lw_all := lw_g (lw_at lw_m4 184 rfl) rfl
theorem q959 : (Jvm.Cond.code ({ cls := "WaterGrounds", name := "blind", desc := "(IIII)J" } : Jvm.MethodName) prog_1_method_28_code (13 : Nat) (Option.some Jvm.ClassFile.FieldType.long)) ∈ lw_all := lw_g (lw_at lw_m4 185 rfl) rfl
theorem q960 : (Jvm.Cond.constantLong "WaterGrounds" (260 : Nat) (-3 : Int64)) ∈ lw_all := lw_g (lw_at lw_m4 186 rfl) rfl
theorem q961 : (Jvm.Cond.methodLink "WaterGrounds" (262 : Nat) ({ cls := "WaterGrounds", name := "power", desc := "(II)J" } : Jvm.MethodName)) ∈ lw_all := lw_g (lw_at lw_m4 187 rfl) rfl
theorem q962 : (Jvm.Cond.static ({ cls := "WaterGrounds", name := "power", desc := "(II)J" } : Jvm.MethodName)) ∈ lw_all := lw_g (lw_at lw_m4 188 rfl) rfl
theorem q963 : (Jvm.Cond.code ({ cls := "WaterGrounds", name := "power", desc := "(II)J" } : Jvm.MethodName) prog_1_method_26_code (5 : Nat) (Option.some Jvm.ClassFile.FieldType.long)) ∈ lw_all := lw_g (lw_at lw_m4 189 rfl) rfl
theorem q964 : (Jvm.Cond.methodLink "WaterGrounds" (256 : Nat) ({ cls := "WaterGrounds", name := "divisor", desc := "(JJ)J" } : Jvm.MethodName)) ∈ lw_all := lw_g (lw_at lw_m4 190 rfl) rfl
theorem q965 : (Jvm.Cond.static ({ cls := "WaterGrounds", name := "divisor", desc := "(JJ)J" } : Jvm.MethodName)) ∈ lw_all := lw_g (lw_at lw_m4 191 rfl) rfl
theorem q966 : (Jvm.Cond.code ({ cls := "WaterGrounds", name := "divisor", desc := "(JJ)J" } : Jvm.MethodName) prog_1_method_27_code (4 : Nat) (Option.some Jvm.ClassFile.FieldType.long)) ∈ lw_all := lw_g (lw_at lw_m4 192 rfl) rfl
theorem q968 : (Jvm.Cond.instanceMethod ({ cls := "WaterGrounds", name := "count", desc := "(I)I" } : Jvm.MethodName)) ∈ lw_all := lw_g (lw_at lw_m4 194 rfl) rfl
theorem q969 : (Jvm.Cond.selects "WaterGrounds" ({ cls := "WaterGrounds", name := "count", desc := "(I)I" } : Jvm.MethodName) ({ cls := "WaterGrounds", name := "count", desc := "(I)I" } : Jvm.MethodName)) ∈ lw_all := lw_g (lw_at lw_m4 195 rfl) rfl
theorem q970 : (Jvm.Cond.code ({ cls := "WaterGrounds", name := "count", desc := "(I)I" } : Jvm.MethodName) prog_1_method_29_code (2 : Nat) (Option.some Jvm.ClassFile.FieldType.int)) ∈ lw_all := lw_g (lw_at lw_m4 196 rfl) rfl
theorem q1364 : (Jvm.Cond.stringRef "WaterGrounds" (282 : Nat) "side") ∈ lw_tbl := lw_at lw_m6 110 rfl
theorem q1365 : (Jvm.Cond.stringRef "WaterGrounds" (283 : Nat) "run") ∈ lw_tbl := lw_at lw_m6 111 rfl
theorem q1366 : (Jvm.Cond.stringRef "WaterGrounds" (284 : Nat) "mill") ∈ lw_tbl := lw_at lw_m6 112 rfl
theorem q1367 : (Jvm.Cond.stringRef "WaterGrounds" (285 : Nat) "warm") ∈ lw_tbl := lw_at lw_m6 113 rfl
theorem q1368 : (Jvm.Cond.stringRef "WaterGrounds" (286 : Nat) "grams") ∈ lw_tbl := lw_at lw_m6 114 rfl
theorem q1369 : (Jvm.Cond.stringRef "WaterGrounds" (287 : Nat) "ticks") ∈ lw_tbl := lw_at lw_m6 115 rfl
theorem in_X0 : ∀ w ∈ wsX00, w ∈ lw_all := lw_in wsX00 [331, 333, 335, 337, 339, 341, 343, 345, 347, 349, 351, 353, 355, 357, 359, 361, 363, 365, 367, 369, 371, 373, 375, 377, 379, 381] (by decide +kernel) (by decide +kernel)
/-! WaterGrounds$Bed -/
set_option maxRecDepth 100000
def RX1 : String := "WaterGrounds$Bed"
def TX1 : u_T := fun k => match k with
  | 0 => ("WaterGrounds$Bed", "cells", "[[LWaterGrounds$Ground;", true)
  | 1 => ("WaterGrounds$Bed", "cup", "LWaterGrounds$Ground;", true)
  | 2 => ("WaterGrounds$Bed", "tick", "I", false)
  | 3 => ("WaterGrounds$Bed", "cracking", "[[I", true)
  | _ => ("WaterGrounds$Bed", "this$0", "LWaterGrounds;", true)
def tyX1 : Nat → FieldType := fun k => match k with
  | 0 => .array (.array (.object "WaterGrounds$Ground"))
  | 1 => .object "WaterGrounds$Ground"
  | 2 => .int
  | 3 => .array (.array .int)
  | _ => .object "WaterGrounds"
abbrev wsX10 : List Cond := u_ws RX1 TX1 5
theorem nmX1 : ∀ a, a < 5 → ∀ b, b < 5 → a ≠ b → (TX1 a).2.1 ≠ (TX1 b).2.1 := by decide +kernel
theorem tyX1_ok : ∀ k, k < 5 → parseFieldDescriptor (TX1 k).2.2.1 = some (tyX1 k) := by decide +kernel
abbrev cX1_init : ByteArray := prog_2_method_1_code
def yX1_init : MethodName := ⟨RX1, "<init>", "(LWaterGrounds;)V"⟩
def dkwX1_init_4 : List UInt8 := [177]
abbrev dktX1_init_4 : List UInt8 := dkwX1_init_4 ++ []
def dkwX1_init_3 : List UInt8 := [25, 5, 21, 6, 187, 0, 20, 89, 183, 0, 22, 83, 132, 6, 1, 167, 255, 235, 132, 4, 1, 167, 255, 214]
abbrev dktX1_init_3 : List UInt8 := dkwX1_init_3 ++ dktX1_init_4
def dkwX1_init_2 : List UInt8 := [3, 54, 4, 21, 4, 29, 162, 0, 42, 44, 21, 4, 50, 58, 5, 3, 54, 6, 21, 6, 7, 162, 0, 21]
abbrev dktX1_init_2 : List UInt8 := dkwX1_init_2 ++ dktX1_init_3
def dkwX1_init_1 : List UInt8 := [183, 0, 22, 181, 0, 23, 42, 7, 7, 197, 0, 27, 2, 181, 0, 29, 42, 180, 0, 17, 77, 44, 190, 62]
abbrev dktX1_init_1 : List UInt8 := dkwX1_init_1 ++ dktX1_init_2
def dkwX1_init_0 : List UInt8 := [42, 43, 181, 0, 3, 42, 183, 0, 9, 42, 7, 7, 197, 0, 15, 2, 181, 0, 17, 42, 187, 0, 20, 89]
abbrev dktX1_init_0 : List UInt8 := dkwX1_init_0 ++ dktX1_init_1
theorem dksX1_init_0 : cX1_init.data.toList.drop 0 = dktX1_init_0 := by decide +kernel
theorem dksX1_init_1 : cX1_init.data.toList.drop 24 = dktX1_init_1 := dk_seg dksX1_init_0 24 rfl rfl
theorem dksX1_init_2 : cX1_init.data.toList.drop 48 = dktX1_init_2 := dk_seg dksX1_init_1 24 rfl rfl
theorem dksX1_init_3 : cX1_init.data.toList.drop 72 = dktX1_init_3 := dk_seg dksX1_init_2 24 rfl rfl
theorem dksX1_init_4 : cX1_init.data.toList.drop 96 = dktX1_init_4 := dk_seg dksX1_init_3 24 rfl rfl
theorem dX1_init_0 : decode cX1_init 0 = .ok (.aload_n 0, 1) := dk_42 (dk_at dksX1_init_0 0 rfl rfl)
theorem dX1_init_1 : decode cX1_init 1 = .ok (.aload_n 1, 1) := dk_43 (dk_at dksX1_init_0 1 rfl rfl)
theorem dX1_init_2 : decode cX1_init 2 = .ok (.putfield 3, 3) := dk_181 0 3 (dk_at dksX1_init_0 2 rfl rfl)
theorem dX1_init_5 : decode cX1_init 5 = .ok (.aload_n 0, 1) := dk_42 (dk_at dksX1_init_0 5 rfl rfl)
theorem dX1_init_6 : decode cX1_init 6 = .ok (.invokespecial 9, 3) := dk_183 0 9 (dk_at dksX1_init_0 6 rfl rfl)
theorem dX1_init_9 : decode cX1_init 9 = .ok (.aload_n 0, 1) := dk_42 (dk_at dksX1_init_0 9 rfl rfl)
theorem dX1_init_10 : decode cX1_init 10 = .ok (.iconst 4, 1) := dk_7 (dk_at dksX1_init_0 10 rfl rfl)
theorem dX1_init_11 : decode cX1_init 11 = .ok (.iconst 4, 1) := dk_7 (dk_at dksX1_init_0 11 rfl rfl)
theorem dX1_init_12 : decode cX1_init 12 = .ok (.multianewarray 15 2, 4) := by decide +kernel
theorem dX1_init_16 : decode cX1_init 16 = .ok (.putfield 17, 3) := dk_181 0 17 (dk_at dksX1_init_0 16 rfl rfl)
theorem dX1_init_19 : decode cX1_init 19 = .ok (.aload_n 0, 1) := dk_42 (dk_at dksX1_init_0 19 rfl rfl)
theorem dX1_init_20 : decode cX1_init 20 = .ok (.new 20, 3) := dk_187 0 20 (dk_at dksX1_init_0 20 rfl rfl)
theorem dX1_init_23 : decode cX1_init 23 = .ok (.dup, 1) := dk_89 (dk_at dksX1_init_0 23 rfl rfl)
theorem dX1_init_24 : decode cX1_init 24 = .ok (.invokespecial 22, 3) := dk_183 0 22 (dk_at dksX1_init_1 0 rfl rfl)
theorem dX1_init_27 : decode cX1_init 27 = .ok (.putfield 23, 3) := dk_181 0 23 (dk_at dksX1_init_1 3 rfl rfl)
theorem dX1_init_30 : decode cX1_init 30 = .ok (.aload_n 0, 1) := dk_42 (dk_at dksX1_init_1 6 rfl rfl)
theorem dX1_init_31 : decode cX1_init 31 = .ok (.iconst 4, 1) := dk_7 (dk_at dksX1_init_1 7 rfl rfl)
theorem dX1_init_32 : decode cX1_init 32 = .ok (.iconst 4, 1) := dk_7 (dk_at dksX1_init_1 8 rfl rfl)
theorem dX1_init_33 : decode cX1_init 33 = .ok (.multianewarray 27 2, 4) := by decide +kernel
theorem dX1_init_37 : decode cX1_init 37 = .ok (.putfield 29, 3) := dk_181 0 29 (dk_at dksX1_init_1 13 rfl rfl)
theorem dX1_init_40 : decode cX1_init 40 = .ok (.aload_n 0, 1) := dk_42 (dk_at dksX1_init_1 16 rfl rfl)
theorem dX1_init_41 : decode cX1_init 41 = .ok (.getfield 17, 3) := dk_180 0 17 (dk_at dksX1_init_1 17 rfl rfl)
theorem dX1_init_44 : decode cX1_init 44 = .ok (.astore_n 2, 1) := dk_77 (dk_at dksX1_init_1 20 rfl rfl)
theorem dX1_init_45 : decode cX1_init 45 = .ok (.aload_n 2, 1) := dk_44 (dk_at dksX1_init_1 21 rfl rfl)
theorem dX1_init_46 : decode cX1_init 46 = .ok (.arraylength, 1) := dk_190 (dk_at dksX1_init_1 22 rfl rfl)
theorem dX1_init_47 : decode cX1_init 47 = .ok (.istore_n 3, 1) := dk_62 (dk_at dksX1_init_1 23 rfl rfl)
theorem dX1_init_48 : decode cX1_init 48 = .ok (.iconst 0, 1) := dk_3 (dk_at dksX1_init_2 0 rfl rfl)
theorem dX1_init_49 : decode cX1_init 49 = .ok (.istore 4, 2) := dk_54 4 (dk_at dksX1_init_2 1 rfl rfl)
theorem dX1_init_51 : decode cX1_init 51 = .ok (.iload 4, 2) := dk_21 4 (dk_at dksX1_init_2 3 rfl rfl)
theorem dX1_init_53 : decode cX1_init 53 = .ok (.iload_n 3, 1) := dk_29 (dk_at dksX1_init_2 5 rfl rfl)
theorem dX1_init_54 : decode cX1_init 54 = .ok (.if_icmp .ge 42, 3) := dk_162 0 42 (dk_at dksX1_init_2 6 rfl rfl)
theorem dX1_init_57 : decode cX1_init 57 = .ok (.aload_n 2, 1) := dk_44 (dk_at dksX1_init_2 9 rfl rfl)
theorem dX1_init_58 : decode cX1_init 58 = .ok (.iload 4, 2) := dk_21 4 (dk_at dksX1_init_2 10 rfl rfl)
theorem dX1_init_60 : decode cX1_init 60 = .ok (.aaload, 1) := dk_50 (dk_at dksX1_init_2 12 rfl rfl)
theorem dX1_init_61 : decode cX1_init 61 = .ok (.astore 5, 2) := dk_58 5 (dk_at dksX1_init_2 13 rfl rfl)
theorem dX1_init_63 : decode cX1_init 63 = .ok (.iconst 0, 1) := dk_3 (dk_at dksX1_init_2 15 rfl rfl)
theorem dX1_init_64 : decode cX1_init 64 = .ok (.istore 6, 2) := dk_54 6 (dk_at dksX1_init_2 16 rfl rfl)
theorem dX1_init_66 : decode cX1_init 66 = .ok (.iload 6, 2) := dk_21 6 (dk_at dksX1_init_2 18 rfl rfl)
theorem dX1_init_68 : decode cX1_init 68 = .ok (.iconst 4, 1) := dk_7 (dk_at dksX1_init_2 20 rfl rfl)
theorem dX1_init_69 : decode cX1_init 69 = .ok (.if_icmp .ge 21, 3) := dk_162 0 21 (dk_at dksX1_init_2 21 rfl rfl)
theorem dX1_init_72 : decode cX1_init 72 = .ok (.aload 5, 2) := dk_25 5 (dk_at dksX1_init_3 0 rfl rfl)
theorem dX1_init_74 : decode cX1_init 74 = .ok (.iload 6, 2) := dk_21 6 (dk_at dksX1_init_3 2 rfl rfl)
theorem dX1_init_76 : decode cX1_init 76 = .ok (.new 20, 3) := dk_187 0 20 (dk_at dksX1_init_3 4 rfl rfl)
theorem dX1_init_79 : decode cX1_init 79 = .ok (.dup, 1) := dk_89 (dk_at dksX1_init_3 7 rfl rfl)
theorem dX1_init_80 : decode cX1_init 80 = .ok (.invokespecial 22, 3) := dk_183 0 22 (dk_at dksX1_init_3 8 rfl rfl)
theorem dX1_init_83 : decode cX1_init 83 = .ok (.aastore, 1) := dk_83 (dk_at dksX1_init_3 11 rfl rfl)
theorem dX1_init_84 : decode cX1_init 84 = .ok (.iinc 6 1, 3) := dk_132 6 1 (dk_at dksX1_init_3 12 rfl rfl)
theorem dX1_init_87 : decode cX1_init 87 = .ok (.goto (-21), 3) := dk_167 255 235 (dk_at dksX1_init_3 15 rfl rfl)
theorem dX1_init_90 : decode cX1_init 90 = .ok (.iinc 4 1, 3) := dk_132 4 1 (dk_at dksX1_init_3 18 rfl rfl)
theorem dX1_init_93 : decode cX1_init 93 = .ok (.goto (-42), 3) := dk_167 255 214 (dk_at dksX1_init_3 21 rfl rfl)
theorem dX1_init_96 : decode cX1_init 96 = .ok (.return_, 1) := dk_177 (dk_at dksX1_init_4 0 rfl rfl)
abbrev cX1_begin : ByteArray := prog_2_method_3_code
def yX1_begin : MethodName := ⟨RX1, "begin", "(I)V"⟩
def dkwX1_begin_2 : List UInt8 := [42, 3, 181, 0, 36, 177]
abbrev dktX1_begin_2 : List UInt8 := dkwX1_begin_2 ++ []
def dkwX1_begin_1 : List UInt8 := [182, 0, 40, 132, 3, 1, 167, 255, 235, 132, 2, 1, 167, 255, 222, 42, 42, 180, 0, 23, 3, 182, 0, 40]
abbrev dktX1_begin_1 : List UInt8 := dkwX1_begin_1 ++ dktX1_begin_2
def dkwX1_begin_0 : List UInt8 := [3, 61, 28, 7, 162, 0, 35, 3, 62, 29, 7, 162, 0, 22, 42, 42, 180, 0, 17, 28, 50, 29, 50, 27]
abbrev dktX1_begin_0 : List UInt8 := dkwX1_begin_0 ++ dktX1_begin_1
theorem dksX1_begin_0 : cX1_begin.data.toList.drop 0 = dktX1_begin_0 := by decide +kernel
theorem dksX1_begin_1 : cX1_begin.data.toList.drop 24 = dktX1_begin_1 := dk_seg dksX1_begin_0 24 rfl rfl
theorem dksX1_begin_2 : cX1_begin.data.toList.drop 48 = dktX1_begin_2 := dk_seg dksX1_begin_1 24 rfl rfl
theorem dX1_begin_0 : decode cX1_begin 0 = .ok (.iconst 0, 1) := dk_3 (dk_at dksX1_begin_0 0 rfl rfl)
theorem dX1_begin_1 : decode cX1_begin 1 = .ok (.istore_n 2, 1) := dk_61 (dk_at dksX1_begin_0 1 rfl rfl)
theorem dX1_begin_2 : decode cX1_begin 2 = .ok (.iload_n 2, 1) := dk_28 (dk_at dksX1_begin_0 2 rfl rfl)
theorem dX1_begin_3 : decode cX1_begin 3 = .ok (.iconst 4, 1) := dk_7 (dk_at dksX1_begin_0 3 rfl rfl)
theorem dX1_begin_4 : decode cX1_begin 4 = .ok (.if_icmp .ge 35, 3) := dk_162 0 35 (dk_at dksX1_begin_0 4 rfl rfl)
theorem dX1_begin_7 : decode cX1_begin 7 = .ok (.iconst 0, 1) := dk_3 (dk_at dksX1_begin_0 7 rfl rfl)
theorem dX1_begin_8 : decode cX1_begin 8 = .ok (.istore_n 3, 1) := dk_62 (dk_at dksX1_begin_0 8 rfl rfl)
theorem dX1_begin_9 : decode cX1_begin 9 = .ok (.iload_n 3, 1) := dk_29 (dk_at dksX1_begin_0 9 rfl rfl)
theorem dX1_begin_10 : decode cX1_begin 10 = .ok (.iconst 4, 1) := dk_7 (dk_at dksX1_begin_0 10 rfl rfl)
theorem dX1_begin_11 : decode cX1_begin 11 = .ok (.if_icmp .ge 22, 3) := dk_162 0 22 (dk_at dksX1_begin_0 11 rfl rfl)
theorem dX1_begin_14 : decode cX1_begin 14 = .ok (.aload_n 0, 1) := dk_42 (dk_at dksX1_begin_0 14 rfl rfl)
theorem dX1_begin_15 : decode cX1_begin 15 = .ok (.aload_n 0, 1) := dk_42 (dk_at dksX1_begin_0 15 rfl rfl)
theorem dX1_begin_16 : decode cX1_begin 16 = .ok (.getfield 17, 3) := dk_180 0 17 (dk_at dksX1_begin_0 16 rfl rfl)
theorem dX1_begin_19 : decode cX1_begin 19 = .ok (.iload_n 2, 1) := dk_28 (dk_at dksX1_begin_0 19 rfl rfl)
theorem dX1_begin_20 : decode cX1_begin 20 = .ok (.aaload, 1) := dk_50 (dk_at dksX1_begin_0 20 rfl rfl)
theorem dX1_begin_21 : decode cX1_begin 21 = .ok (.iload_n 3, 1) := dk_29 (dk_at dksX1_begin_0 21 rfl rfl)
theorem dX1_begin_22 : decode cX1_begin 22 = .ok (.aaload, 1) := dk_50 (dk_at dksX1_begin_0 22 rfl rfl)
theorem dX1_begin_23 : decode cX1_begin 23 = .ok (.iload_n 1, 1) := dk_27 (dk_at dksX1_begin_0 23 rfl rfl)
theorem dX1_begin_24 : decode cX1_begin 24 = .ok (.invokevirtual 40, 3) := dk_182 0 40 (dk_at dksX1_begin_1 0 rfl rfl)
theorem dX1_begin_27 : decode cX1_begin 27 = .ok (.iinc 3 1, 3) := dk_132 3 1 (dk_at dksX1_begin_1 3 rfl rfl)
theorem dX1_begin_30 : decode cX1_begin 30 = .ok (.goto (-21), 3) := dk_167 255 235 (dk_at dksX1_begin_1 6 rfl rfl)
theorem dX1_begin_33 : decode cX1_begin 33 = .ok (.iinc 2 1, 3) := dk_132 2 1 (dk_at dksX1_begin_1 9 rfl rfl)
theorem dX1_begin_36 : decode cX1_begin 36 = .ok (.goto (-34), 3) := dk_167 255 222 (dk_at dksX1_begin_1 12 rfl rfl)
theorem dX1_begin_39 : decode cX1_begin 39 = .ok (.aload_n 0, 1) := dk_42 (dk_at dksX1_begin_1 15 rfl rfl)
theorem dX1_begin_40 : decode cX1_begin 40 = .ok (.aload_n 0, 1) := dk_42 (dk_at dksX1_begin_1 16 rfl rfl)
theorem dX1_begin_41 : decode cX1_begin 41 = .ok (.getfield 23, 3) := dk_180 0 23 (dk_at dksX1_begin_1 17 rfl rfl)
theorem dX1_begin_44 : decode cX1_begin 44 = .ok (.iconst 0, 1) := dk_3 (dk_at dksX1_begin_1 20 rfl rfl)
theorem dX1_begin_45 : decode cX1_begin 45 = .ok (.invokevirtual 40, 3) := dk_182 0 40 (dk_at dksX1_begin_1 21 rfl rfl)
theorem dX1_begin_48 : decode cX1_begin 48 = .ok (.aload_n 0, 1) := dk_42 (dk_at dksX1_begin_2 0 rfl rfl)
theorem dX1_begin_49 : decode cX1_begin 49 = .ok (.iconst 0, 1) := dk_3 (dk_at dksX1_begin_2 1 rfl rfl)
theorem dX1_begin_50 : decode cX1_begin 50 = .ok (.putfield 36, 3) := dk_181 0 36 (dk_at dksX1_begin_2 2 rfl rfl)
theorem dX1_begin_53 : decode cX1_begin 53 = .ok (.return_, 1) := dk_177 (dk_at dksX1_begin_2 5 rfl rfl)
abbrev cX1_clear : ByteArray := prog_2_method_4_code
def yX1_clear : MethodName := ⟨RX1, "clear", "(LWaterGrounds$Ground;I)V"⟩
def dkwX1_clear_2 : List UInt8 := [132, 3, 1, 167, 255, 218, 177]
abbrev dktX1_clear_2 : List UInt8 := dkwX1_clear_2 ++ []
def dkwX1_clear_1 : List UInt8 := [180, 0, 3, 180, 0, 54, 29, 46, 28, 104, 181, 0, 58, 43, 180, 0, 50, 29, 50, 3, 181, 0, 63]
abbrev dktX1_clear_1 : List UInt8 := dkwX1_clear_1 ++ dktX1_clear_2
def dkwX1_clear_0 : List UInt8 := [43, 3, 181, 0, 44, 43, 3, 181, 0, 47, 3, 62, 29, 6, 162, 0, 39, 43, 180, 0, 50, 29, 50, 42]
abbrev dktX1_clear_0 : List UInt8 := dkwX1_clear_0 ++ dktX1_clear_1
theorem dksX1_clear_0 : cX1_clear.data.toList.drop 0 = dktX1_clear_0 := by decide +kernel
theorem dksX1_clear_1 : cX1_clear.data.toList.drop 24 = dktX1_clear_1 := dk_seg dksX1_clear_0 24 rfl rfl
theorem dksX1_clear_2 : cX1_clear.data.toList.drop 47 = dktX1_clear_2 := dk_seg dksX1_clear_1 23 rfl rfl
theorem dX1_clear_0 : decode cX1_clear 0 = .ok (.aload_n 1, 1) := dk_43 (dk_at dksX1_clear_0 0 rfl rfl)
theorem dX1_clear_1 : decode cX1_clear 1 = .ok (.iconst 0, 1) := dk_3 (dk_at dksX1_clear_0 1 rfl rfl)
theorem dX1_clear_2 : decode cX1_clear 2 = .ok (.putfield 44, 3) := dk_181 0 44 (dk_at dksX1_clear_0 2 rfl rfl)
theorem dX1_clear_5 : decode cX1_clear 5 = .ok (.aload_n 1, 1) := dk_43 (dk_at dksX1_clear_0 5 rfl rfl)
theorem dX1_clear_6 : decode cX1_clear 6 = .ok (.iconst 0, 1) := dk_3 (dk_at dksX1_clear_0 6 rfl rfl)
theorem dX1_clear_7 : decode cX1_clear 7 = .ok (.putfield 47, 3) := dk_181 0 47 (dk_at dksX1_clear_0 7 rfl rfl)
theorem dX1_clear_10 : decode cX1_clear 10 = .ok (.iconst 0, 1) := dk_3 (dk_at dksX1_clear_0 10 rfl rfl)
theorem dX1_clear_11 : decode cX1_clear 11 = .ok (.istore_n 3, 1) := dk_62 (dk_at dksX1_clear_0 11 rfl rfl)
theorem dX1_clear_12 : decode cX1_clear 12 = .ok (.iload_n 3, 1) := dk_29 (dk_at dksX1_clear_0 12 rfl rfl)
theorem dX1_clear_13 : decode cX1_clear 13 = .ok (.iconst 3, 1) := dk_6 (dk_at dksX1_clear_0 13 rfl rfl)
theorem dX1_clear_14 : decode cX1_clear 14 = .ok (.if_icmp .ge 39, 3) := dk_162 0 39 (dk_at dksX1_clear_0 14 rfl rfl)
theorem dX1_clear_17 : decode cX1_clear 17 = .ok (.aload_n 1, 1) := dk_43 (dk_at dksX1_clear_0 17 rfl rfl)
theorem dX1_clear_18 : decode cX1_clear 18 = .ok (.getfield 50, 3) := dk_180 0 50 (dk_at dksX1_clear_0 18 rfl rfl)
theorem dX1_clear_21 : decode cX1_clear 21 = .ok (.iload_n 3, 1) := dk_29 (dk_at dksX1_clear_0 21 rfl rfl)
theorem dX1_clear_22 : decode cX1_clear 22 = .ok (.aaload, 1) := dk_50 (dk_at dksX1_clear_0 22 rfl rfl)
theorem dX1_clear_23 : decode cX1_clear 23 = .ok (.aload_n 0, 1) := dk_42 (dk_at dksX1_clear_0 23 rfl rfl)
theorem dX1_clear_24 : decode cX1_clear 24 = .ok (.getfield 3, 3) := dk_180 0 3 (dk_at dksX1_clear_1 0 rfl rfl)
theorem dX1_clear_27 : decode cX1_clear 27 = .ok (.getfield 54, 3) := dk_180 0 54 (dk_at dksX1_clear_1 3 rfl rfl)
theorem dX1_clear_30 : decode cX1_clear 30 = .ok (.iload_n 3, 1) := dk_29 (dk_at dksX1_clear_1 6 rfl rfl)
theorem dX1_clear_31 : decode cX1_clear 31 = .ok (.iaload, 1) := dk_46 (dk_at dksX1_clear_1 7 rfl rfl)
theorem dX1_clear_32 : decode cX1_clear 32 = .ok (.iload_n 2, 1) := dk_28 (dk_at dksX1_clear_1 8 rfl rfl)
theorem dX1_clear_33 : decode cX1_clear 33 = .ok (.imul, 1) := dk_104 (dk_at dksX1_clear_1 9 rfl rfl)
theorem dX1_clear_34 : decode cX1_clear 34 = .ok (.putfield 58, 3) := dk_181 0 58 (dk_at dksX1_clear_1 10 rfl rfl)
theorem dX1_clear_37 : decode cX1_clear 37 = .ok (.aload_n 1, 1) := dk_43 (dk_at dksX1_clear_1 13 rfl rfl)
theorem dX1_clear_38 : decode cX1_clear 38 = .ok (.getfield 50, 3) := dk_180 0 50 (dk_at dksX1_clear_1 14 rfl rfl)
theorem dX1_clear_41 : decode cX1_clear 41 = .ok (.iload_n 3, 1) := dk_29 (dk_at dksX1_clear_1 17 rfl rfl)
theorem dX1_clear_42 : decode cX1_clear 42 = .ok (.aaload, 1) := dk_50 (dk_at dksX1_clear_1 18 rfl rfl)
theorem dX1_clear_43 : decode cX1_clear 43 = .ok (.iconst 0, 1) := dk_3 (dk_at dksX1_clear_1 19 rfl rfl)
theorem dX1_clear_44 : decode cX1_clear 44 = .ok (.putfield 63, 3) := dk_181 0 63 (dk_at dksX1_clear_1 20 rfl rfl)
theorem dX1_clear_47 : decode cX1_clear 47 = .ok (.iinc 3 1, 3) := dk_132 3 1 (dk_at dksX1_clear_2 0 rfl rfl)
theorem dX1_clear_50 : decode cX1_clear 50 = .ok (.goto (-38), 3) := dk_167 255 218 (dk_at dksX1_clear_2 3 rfl rfl)
theorem dX1_clear_53 : decode cX1_clear 53 = .ok (.return_, 1) := dk_177 (dk_at dksX1_clear_2 6 rfl rfl)
abbrev cX1_go : ByteArray := prog_2_method_11_code
def yX1_go : MethodName := ⟨RX1, "go", "(II)V"⟩
def dkwX1_go_3 : List UInt8 := [180, 0, 36, 4, 96, 181, 0, 36, 177]
abbrev dktX1_go_3 : List UInt8 := dkwX1_go_3 ++ []
def dkwX1_go_2 : List UInt8 := [132, 4, 1, 167, 255, 227, 132, 3, 1, 167, 255, 207, 42, 182, 0, 128, 42, 27, 182, 0, 131, 42, 89]
abbrev dktX1_go_2 : List UInt8 := dkwX1_go_2 ++ dktX1_go_3
def dkwX1_go_1 : List UInt8 := [180, 0, 3, 180, 0, 95, 162, 0, 23, 42, 42, 180, 0, 17, 29, 50, 21, 4, 50, 28, 182, 0, 125]
abbrev dktX1_go_1 : List UInt8 := dkwX1_go_1 ++ dktX1_go_2
def dkwX1_go_0 : List UInt8 := [42, 182, 0, 122, 3, 62, 29, 42, 180, 0, 3, 180, 0, 92, 162, 0, 44, 3, 54, 4, 21, 4, 42]
abbrev dktX1_go_0 : List UInt8 := dkwX1_go_0 ++ dktX1_go_1
theorem dksX1_go_0 : cX1_go.data.toList.drop 0 = dktX1_go_0 := by decide +kernel
theorem dksX1_go_1 : cX1_go.data.toList.drop 23 = dktX1_go_1 := dk_seg dksX1_go_0 23 rfl rfl
theorem dksX1_go_2 : cX1_go.data.toList.drop 46 = dktX1_go_2 := dk_seg dksX1_go_1 23 rfl rfl
theorem dksX1_go_3 : cX1_go.data.toList.drop 69 = dktX1_go_3 := dk_seg dksX1_go_2 23 rfl rfl
theorem dX1_go_0 : decode cX1_go 0 = .ok (.aload_n 0, 1) := dk_42 (dk_at dksX1_go_0 0 rfl rfl)
theorem dX1_go_1 : decode cX1_go 1 = .ok (.invokevirtual 122, 3) := dk_182 0 122 (dk_at dksX1_go_0 1 rfl rfl)
theorem dX1_go_4 : decode cX1_go 4 = .ok (.iconst 0, 1) := dk_3 (dk_at dksX1_go_0 4 rfl rfl)
theorem dX1_go_5 : decode cX1_go 5 = .ok (.istore_n 3, 1) := dk_62 (dk_at dksX1_go_0 5 rfl rfl)
theorem dX1_go_6 : decode cX1_go 6 = .ok (.iload_n 3, 1) := dk_29 (dk_at dksX1_go_0 6 rfl rfl)
theorem dX1_go_7 : decode cX1_go 7 = .ok (.aload_n 0, 1) := dk_42 (dk_at dksX1_go_0 7 rfl rfl)
theorem dX1_go_8 : decode cX1_go 8 = .ok (.getfield 3, 3) := dk_180 0 3 (dk_at dksX1_go_0 8 rfl rfl)
theorem dX1_go_11 : decode cX1_go 11 = .ok (.getfield 92, 3) := dk_180 0 92 (dk_at dksX1_go_0 11 rfl rfl)
theorem dX1_go_14 : decode cX1_go 14 = .ok (.if_icmp .ge 44, 3) := dk_162 0 44 (dk_at dksX1_go_0 14 rfl rfl)
theorem dX1_go_17 : decode cX1_go 17 = .ok (.iconst 0, 1) := dk_3 (dk_at dksX1_go_0 17 rfl rfl)
theorem dX1_go_18 : decode cX1_go 18 = .ok (.istore 4, 2) := dk_54 4 (dk_at dksX1_go_0 18 rfl rfl)
theorem dX1_go_20 : decode cX1_go 20 = .ok (.iload 4, 2) := dk_21 4 (dk_at dksX1_go_0 20 rfl rfl)
theorem dX1_go_22 : decode cX1_go 22 = .ok (.aload_n 0, 1) := dk_42 (dk_at dksX1_go_0 22 rfl rfl)
theorem dX1_go_23 : decode cX1_go 23 = .ok (.getfield 3, 3) := dk_180 0 3 (dk_at dksX1_go_1 0 rfl rfl)
theorem dX1_go_26 : decode cX1_go 26 = .ok (.getfield 95, 3) := dk_180 0 95 (dk_at dksX1_go_1 3 rfl rfl)
theorem dX1_go_29 : decode cX1_go 29 = .ok (.if_icmp .ge 23, 3) := dk_162 0 23 (dk_at dksX1_go_1 6 rfl rfl)
theorem dX1_go_32 : decode cX1_go 32 = .ok (.aload_n 0, 1) := dk_42 (dk_at dksX1_go_1 9 rfl rfl)
theorem dX1_go_33 : decode cX1_go 33 = .ok (.aload_n 0, 1) := dk_42 (dk_at dksX1_go_1 10 rfl rfl)
theorem dX1_go_34 : decode cX1_go 34 = .ok (.getfield 17, 3) := dk_180 0 17 (dk_at dksX1_go_1 11 rfl rfl)
theorem dX1_go_37 : decode cX1_go 37 = .ok (.iload_n 3, 1) := dk_29 (dk_at dksX1_go_1 14 rfl rfl)
theorem dX1_go_38 : decode cX1_go 38 = .ok (.aaload, 1) := dk_50 (dk_at dksX1_go_1 15 rfl rfl)
theorem dX1_go_39 : decode cX1_go 39 = .ok (.iload 4, 2) := dk_21 4 (dk_at dksX1_go_1 16 rfl rfl)
theorem dX1_go_41 : decode cX1_go 41 = .ok (.aaload, 1) := dk_50 (dk_at dksX1_go_1 18 rfl rfl)
theorem dX1_go_42 : decode cX1_go 42 = .ok (.iload_n 2, 1) := dk_28 (dk_at dksX1_go_1 19 rfl rfl)
theorem dX1_go_43 : decode cX1_go 43 = .ok (.invokevirtual 125, 3) := dk_182 0 125 (dk_at dksX1_go_1 20 rfl rfl)
theorem dX1_go_46 : decode cX1_go 46 = .ok (.iinc 4 1, 3) := dk_132 4 1 (dk_at dksX1_go_2 0 rfl rfl)
theorem dX1_go_49 : decode cX1_go 49 = .ok (.goto (-29), 3) := dk_167 255 227 (dk_at dksX1_go_2 3 rfl rfl)
theorem dX1_go_52 : decode cX1_go 52 = .ok (.iinc 3 1, 3) := dk_132 3 1 (dk_at dksX1_go_2 6 rfl rfl)
theorem dX1_go_55 : decode cX1_go 55 = .ok (.goto (-49), 3) := dk_167 255 207 (dk_at dksX1_go_2 9 rfl rfl)
theorem dX1_go_58 : decode cX1_go 58 = .ok (.aload_n 0, 1) := dk_42 (dk_at dksX1_go_2 12 rfl rfl)
theorem dX1_go_59 : decode cX1_go 59 = .ok (.invokevirtual 128, 3) := dk_182 0 128 (dk_at dksX1_go_2 13 rfl rfl)
theorem dX1_go_62 : decode cX1_go 62 = .ok (.aload_n 0, 1) := dk_42 (dk_at dksX1_go_2 16 rfl rfl)
theorem dX1_go_63 : decode cX1_go 63 = .ok (.iload_n 1, 1) := dk_27 (dk_at dksX1_go_2 17 rfl rfl)
theorem dX1_go_64 : decode cX1_go 64 = .ok (.invokevirtual 131, 3) := dk_182 0 131 (dk_at dksX1_go_2 18 rfl rfl)
theorem dX1_go_67 : decode cX1_go 67 = .ok (.aload_n 0, 1) := dk_42 (dk_at dksX1_go_2 21 rfl rfl)
theorem dX1_go_68 : decode cX1_go 68 = .ok (.dup, 1) := dk_89 (dk_at dksX1_go_2 22 rfl rfl)
theorem dX1_go_69 : decode cX1_go 69 = .ok (.getfield 36, 3) := dk_180 0 36 (dk_at dksX1_go_3 0 rfl rfl)
theorem dX1_go_72 : decode cX1_go 72 = .ok (.iconst 1, 1) := dk_4 (dk_at dksX1_go_3 3 rfl rfl)
theorem dX1_go_73 : decode cX1_go 73 = .ok (.iadd, 1) := dk_96 (dk_at dksX1_go_3 4 rfl rfl)
theorem dX1_go_74 : decode cX1_go 74 = .ok (.putfield 36, 3) := dk_181 0 36 (dk_at dksX1_go_3 5 rfl rfl)
theorem dX1_go_77 : decode cX1_go 77 = .ok (.return_, 1) := dk_177 (dk_at dksX1_go_3 8 rfl rfl)
abbrev cX1_pourAll : ByteArray := prog_2_method_6_code
def yX1_pourAll : MethodName := ⟨RX1, "pourAll", "()V"⟩
def dkwX1_pourAll_3 : List UInt8 := [181, 0, 44, 132, 1, 1, 167, 255, 183, 177]
abbrev dktX1_pourAll_3 : List UInt8 := dkwX1_pourAll_3 ++ []
def dkwX1_pourAll_2 : List UInt8 := [180, 0, 36, 160, 0, 17, 42, 180, 0, 3, 180, 0, 84, 27, 50, 5, 46, 167, 0, 4, 3, 96]
abbrev dktX1_pourAll_2 : List UInt8 := dkwX1_pourAll_2 ++ dktX1_pourAll_3
def dkwX1_pourAll_1 : List UInt8 := [27, 50, 4, 46, 50, 3, 50, 89, 180, 0, 44, 42, 180, 0, 3, 180, 0, 84, 27, 50, 3, 46, 42]
abbrev dktX1_pourAll_1 : List UInt8 := dkwX1_pourAll_1 ++ dktX1_pourAll_2
def dkwX1_pourAll_0 : List UInt8 := [3, 60, 27, 42, 180, 0, 3, 180, 0, 81, 162, 0, 68, 42, 180, 0, 17, 42, 180, 0, 3, 180, 0, 84]
abbrev dktX1_pourAll_0 : List UInt8 := dkwX1_pourAll_0 ++ dktX1_pourAll_1
theorem dksX1_pourAll_0 : cX1_pourAll.data.toList.drop 0 = dktX1_pourAll_0 := by decide +kernel
theorem dksX1_pourAll_1 : cX1_pourAll.data.toList.drop 24 = dktX1_pourAll_1 := dk_seg dksX1_pourAll_0 24 rfl rfl
theorem dksX1_pourAll_2 : cX1_pourAll.data.toList.drop 47 = dktX1_pourAll_2 := dk_seg dksX1_pourAll_1 23 rfl rfl
theorem dksX1_pourAll_3 : cX1_pourAll.data.toList.drop 69 = dktX1_pourAll_3 := dk_seg dksX1_pourAll_2 22 rfl rfl
theorem dX1_pourAll_0 : decode cX1_pourAll 0 = .ok (.iconst 0, 1) := dk_3 (dk_at dksX1_pourAll_0 0 rfl rfl)
theorem dX1_pourAll_1 : decode cX1_pourAll 1 = .ok (.istore_n 1, 1) := dk_60 (dk_at dksX1_pourAll_0 1 rfl rfl)
theorem dX1_pourAll_2 : decode cX1_pourAll 2 = .ok (.iload_n 1, 1) := dk_27 (dk_at dksX1_pourAll_0 2 rfl rfl)
theorem dX1_pourAll_3 : decode cX1_pourAll 3 = .ok (.aload_n 0, 1) := dk_42 (dk_at dksX1_pourAll_0 3 rfl rfl)
theorem dX1_pourAll_4 : decode cX1_pourAll 4 = .ok (.getfield 3, 3) := dk_180 0 3 (dk_at dksX1_pourAll_0 4 rfl rfl)
theorem dX1_pourAll_7 : decode cX1_pourAll 7 = .ok (.getfield 81, 3) := dk_180 0 81 (dk_at dksX1_pourAll_0 7 rfl rfl)
theorem dX1_pourAll_10 : decode cX1_pourAll 10 = .ok (.if_icmp .ge 68, 3) := dk_162 0 68 (dk_at dksX1_pourAll_0 10 rfl rfl)
theorem dX1_pourAll_13 : decode cX1_pourAll 13 = .ok (.aload_n 0, 1) := dk_42 (dk_at dksX1_pourAll_0 13 rfl rfl)
theorem dX1_pourAll_14 : decode cX1_pourAll 14 = .ok (.getfield 17, 3) := dk_180 0 17 (dk_at dksX1_pourAll_0 14 rfl rfl)
theorem dX1_pourAll_17 : decode cX1_pourAll 17 = .ok (.aload_n 0, 1) := dk_42 (dk_at dksX1_pourAll_0 17 rfl rfl)
theorem dX1_pourAll_18 : decode cX1_pourAll 18 = .ok (.getfield 3, 3) := dk_180 0 3 (dk_at dksX1_pourAll_0 18 rfl rfl)
theorem dX1_pourAll_21 : decode cX1_pourAll 21 = .ok (.getfield 84, 3) := dk_180 0 84 (dk_at dksX1_pourAll_0 21 rfl rfl)
theorem dX1_pourAll_24 : decode cX1_pourAll 24 = .ok (.iload_n 1, 1) := dk_27 (dk_at dksX1_pourAll_1 0 rfl rfl)
theorem dX1_pourAll_25 : decode cX1_pourAll 25 = .ok (.aaload, 1) := dk_50 (dk_at dksX1_pourAll_1 1 rfl rfl)
theorem dX1_pourAll_26 : decode cX1_pourAll 26 = .ok (.iconst 1, 1) := dk_4 (dk_at dksX1_pourAll_1 2 rfl rfl)
theorem dX1_pourAll_27 : decode cX1_pourAll 27 = .ok (.iaload, 1) := dk_46 (dk_at dksX1_pourAll_1 3 rfl rfl)
theorem dX1_pourAll_28 : decode cX1_pourAll 28 = .ok (.aaload, 1) := dk_50 (dk_at dksX1_pourAll_1 4 rfl rfl)
theorem dX1_pourAll_29 : decode cX1_pourAll 29 = .ok (.iconst 0, 1) := dk_3 (dk_at dksX1_pourAll_1 5 rfl rfl)
theorem dX1_pourAll_30 : decode cX1_pourAll 30 = .ok (.aaload, 1) := dk_50 (dk_at dksX1_pourAll_1 6 rfl rfl)
theorem dX1_pourAll_31 : decode cX1_pourAll 31 = .ok (.dup, 1) := dk_89 (dk_at dksX1_pourAll_1 7 rfl rfl)
theorem dX1_pourAll_32 : decode cX1_pourAll 32 = .ok (.getfield 44, 3) := dk_180 0 44 (dk_at dksX1_pourAll_1 8 rfl rfl)
theorem dX1_pourAll_35 : decode cX1_pourAll 35 = .ok (.aload_n 0, 1) := dk_42 (dk_at dksX1_pourAll_1 11 rfl rfl)
theorem dX1_pourAll_36 : decode cX1_pourAll 36 = .ok (.getfield 3, 3) := dk_180 0 3 (dk_at dksX1_pourAll_1 12 rfl rfl)
theorem dX1_pourAll_39 : decode cX1_pourAll 39 = .ok (.getfield 84, 3) := dk_180 0 84 (dk_at dksX1_pourAll_1 15 rfl rfl)
theorem dX1_pourAll_42 : decode cX1_pourAll 42 = .ok (.iload_n 1, 1) := dk_27 (dk_at dksX1_pourAll_1 18 rfl rfl)
theorem dX1_pourAll_43 : decode cX1_pourAll 43 = .ok (.aaload, 1) := dk_50 (dk_at dksX1_pourAll_1 19 rfl rfl)
theorem dX1_pourAll_44 : decode cX1_pourAll 44 = .ok (.iconst 0, 1) := dk_3 (dk_at dksX1_pourAll_1 20 rfl rfl)
theorem dX1_pourAll_45 : decode cX1_pourAll 45 = .ok (.iaload, 1) := dk_46 (dk_at dksX1_pourAll_1 21 rfl rfl)
theorem dX1_pourAll_46 : decode cX1_pourAll 46 = .ok (.aload_n 0, 1) := dk_42 (dk_at dksX1_pourAll_1 22 rfl rfl)
theorem dX1_pourAll_47 : decode cX1_pourAll 47 = .ok (.getfield 36, 3) := dk_180 0 36 (dk_at dksX1_pourAll_2 0 rfl rfl)
theorem dX1_pourAll_50 : decode cX1_pourAll 50 = .ok (.if_icmp .ne 17, 3) := dk_160 0 17 (dk_at dksX1_pourAll_2 3 rfl rfl)
theorem dX1_pourAll_53 : decode cX1_pourAll 53 = .ok (.aload_n 0, 1) := dk_42 (dk_at dksX1_pourAll_2 6 rfl rfl)
theorem dX1_pourAll_54 : decode cX1_pourAll 54 = .ok (.getfield 3, 3) := dk_180 0 3 (dk_at dksX1_pourAll_2 7 rfl rfl)
theorem dX1_pourAll_57 : decode cX1_pourAll 57 = .ok (.getfield 84, 3) := dk_180 0 84 (dk_at dksX1_pourAll_2 10 rfl rfl)
theorem dX1_pourAll_60 : decode cX1_pourAll 60 = .ok (.iload_n 1, 1) := dk_27 (dk_at dksX1_pourAll_2 13 rfl rfl)
theorem dX1_pourAll_61 : decode cX1_pourAll 61 = .ok (.aaload, 1) := dk_50 (dk_at dksX1_pourAll_2 14 rfl rfl)
theorem dX1_pourAll_62 : decode cX1_pourAll 62 = .ok (.iconst 2, 1) := dk_5 (dk_at dksX1_pourAll_2 15 rfl rfl)
theorem dX1_pourAll_63 : decode cX1_pourAll 63 = .ok (.iaload, 1) := dk_46 (dk_at dksX1_pourAll_2 16 rfl rfl)
theorem dX1_pourAll_64 : decode cX1_pourAll 64 = .ok (.goto 4, 3) := dk_167 0 4 (dk_at dksX1_pourAll_2 17 rfl rfl)
theorem dX1_pourAll_67 : decode cX1_pourAll 67 = .ok (.iconst 0, 1) := dk_3 (dk_at dksX1_pourAll_2 20 rfl rfl)
theorem dX1_pourAll_68 : decode cX1_pourAll 68 = .ok (.iadd, 1) := dk_96 (dk_at dksX1_pourAll_2 21 rfl rfl)
theorem dX1_pourAll_69 : decode cX1_pourAll 69 = .ok (.putfield 44, 3) := dk_181 0 44 (dk_at dksX1_pourAll_3 0 rfl rfl)
theorem dX1_pourAll_72 : decode cX1_pourAll 72 = .ok (.iinc 1 1, 3) := dk_132 1 1 (dk_at dksX1_pourAll_3 3 rfl rfl)
theorem dX1_pourAll_75 : decode cX1_pourAll 75 = .ok (.goto (-73), 3) := dk_167 255 183 (dk_at dksX1_pourAll_3 6 rfl rfl)
theorem dX1_pourAll_78 : decode cX1_pourAll 78 = .ok (.return_, 1) := dk_177 (dk_at dksX1_pourAll_3 9 rfl rfl)
abbrev cX1_take : ByteArray := prog_2_method_7_code
def yX1_take : MethodName := ⟨RX1, "take", "(LWaterGrounds$Ground;I)V"⟩
def dkwX1_take_3 : List UInt8 := [180, 0, 63, 21, 5, 96, 181, 0, 63, 132, 3, 1, 167, 255, 178, 177]
abbrev dktX1_take_3 : List UInt8 := dkwX1_take_3 ++ []
def dkwX1_take_2 : List UInt8 := [20, 0, 90, 109, 136, 54, 5, 25, 4, 89, 180, 0, 58, 21, 5, 100, 181, 0, 58, 25, 4, 89]
abbrev dktX1_take_2 : List UInt8 := dkwX1_take_2 ++ dktX1_take_3
def dkwX1_take_1 : List UInt8 := [180, 0, 3, 180, 0, 87, 29, 46, 133, 105, 28, 133, 105, 16, 100, 43, 180, 0, 44, 184, 0, 72, 133, 105]
abbrev dktX1_take_1 : List UInt8 := dkwX1_take_1 ++ dktX1_take_2
def dkwX1_take_0 : List UInt8 := [3, 62, 29, 6, 162, 0, 79, 43, 180, 0, 50, 29, 50, 58, 4, 25, 4, 180, 0, 58, 133, 42]
abbrev dktX1_take_0 : List UInt8 := dkwX1_take_0 ++ dktX1_take_1
theorem dksX1_take_0 : cX1_take.data.toList.drop 0 = dktX1_take_0 := by decide +kernel
theorem dksX1_take_1 : cX1_take.data.toList.drop 22 = dktX1_take_1 := dk_seg dksX1_take_0 22 rfl rfl
theorem dksX1_take_2 : cX1_take.data.toList.drop 46 = dktX1_take_2 := dk_seg dksX1_take_1 24 rfl rfl
theorem dksX1_take_3 : cX1_take.data.toList.drop 68 = dktX1_take_3 := dk_seg dksX1_take_2 22 rfl rfl
theorem dX1_take_0 : decode cX1_take 0 = .ok (.iconst 0, 1) := dk_3 (dk_at dksX1_take_0 0 rfl rfl)
theorem dX1_take_1 : decode cX1_take 1 = .ok (.istore_n 3, 1) := dk_62 (dk_at dksX1_take_0 1 rfl rfl)
theorem dX1_take_2 : decode cX1_take 2 = .ok (.iload_n 3, 1) := dk_29 (dk_at dksX1_take_0 2 rfl rfl)
theorem dX1_take_3 : decode cX1_take 3 = .ok (.iconst 3, 1) := dk_6 (dk_at dksX1_take_0 3 rfl rfl)
theorem dX1_take_4 : decode cX1_take 4 = .ok (.if_icmp .ge 79, 3) := dk_162 0 79 (dk_at dksX1_take_0 4 rfl rfl)
theorem dX1_take_7 : decode cX1_take 7 = .ok (.aload_n 1, 1) := dk_43 (dk_at dksX1_take_0 7 rfl rfl)
theorem dX1_take_8 : decode cX1_take 8 = .ok (.getfield 50, 3) := dk_180 0 50 (dk_at dksX1_take_0 8 rfl rfl)
theorem dX1_take_11 : decode cX1_take 11 = .ok (.iload_n 3, 1) := dk_29 (dk_at dksX1_take_0 11 rfl rfl)
theorem dX1_take_12 : decode cX1_take 12 = .ok (.aaload, 1) := dk_50 (dk_at dksX1_take_0 12 rfl rfl)
theorem dX1_take_13 : decode cX1_take 13 = .ok (.astore 4, 2) := dk_58 4 (dk_at dksX1_take_0 13 rfl rfl)
theorem dX1_take_15 : decode cX1_take 15 = .ok (.aload 4, 2) := dk_25 4 (dk_at dksX1_take_0 15 rfl rfl)
theorem dX1_take_17 : decode cX1_take 17 = .ok (.getfield 58, 3) := dk_180 0 58 (dk_at dksX1_take_0 17 rfl rfl)
theorem dX1_take_20 : decode cX1_take 20 = .ok (.i2l, 1) := dk_133 (dk_at dksX1_take_0 20 rfl rfl)
theorem dX1_take_21 : decode cX1_take 21 = .ok (.aload_n 0, 1) := dk_42 (dk_at dksX1_take_0 21 rfl rfl)
theorem dX1_take_22 : decode cX1_take 22 = .ok (.getfield 3, 3) := dk_180 0 3 (dk_at dksX1_take_1 0 rfl rfl)
theorem dX1_take_25 : decode cX1_take 25 = .ok (.getfield 87, 3) := dk_180 0 87 (dk_at dksX1_take_1 3 rfl rfl)
theorem dX1_take_28 : decode cX1_take 28 = .ok (.iload_n 3, 1) := dk_29 (dk_at dksX1_take_1 6 rfl rfl)
theorem dX1_take_29 : decode cX1_take 29 = .ok (.iaload, 1) := dk_46 (dk_at dksX1_take_1 7 rfl rfl)
theorem dX1_take_30 : decode cX1_take 30 = .ok (.i2l, 1) := dk_133 (dk_at dksX1_take_1 8 rfl rfl)
theorem dX1_take_31 : decode cX1_take 31 = .ok (.lmul, 1) := dk_105 (dk_at dksX1_take_1 9 rfl rfl)
theorem dX1_take_32 : decode cX1_take 32 = .ok (.iload_n 2, 1) := dk_28 (dk_at dksX1_take_1 10 rfl rfl)
theorem dX1_take_33 : decode cX1_take 33 = .ok (.i2l, 1) := dk_133 (dk_at dksX1_take_1 11 rfl rfl)
theorem dX1_take_34 : decode cX1_take 34 = .ok (.lmul, 1) := dk_105 (dk_at dksX1_take_1 12 rfl rfl)
theorem dX1_take_35 : decode cX1_take 35 = .ok (.bipush 100, 2) := dk_16 100 (dk_at dksX1_take_1 13 rfl rfl)
theorem dX1_take_37 : decode cX1_take 37 = .ok (.aload_n 1, 1) := dk_43 (dk_at dksX1_take_1 15 rfl rfl)
theorem dX1_take_38 : decode cX1_take 38 = .ok (.getfield 44, 3) := dk_180 0 44 (dk_at dksX1_take_1 16 rfl rfl)
theorem dX1_take_41 : decode cX1_take 41 = .ok (.invokestatic 72, 3) := dk_184 0 72 (dk_at dksX1_take_1 19 rfl rfl)
theorem dX1_take_44 : decode cX1_take 44 = .ok (.i2l, 1) := dk_133 (dk_at dksX1_take_1 22 rfl rfl)
theorem dX1_take_45 : decode cX1_take 45 = .ok (.lmul, 1) := dk_105 (dk_at dksX1_take_1 23 rfl rfl)
theorem dX1_take_46 : decode cX1_take 46 = .ok (.ldc2_w 90, 3) := dk_20 0 90 (dk_at dksX1_take_2 0 rfl rfl)
theorem dX1_take_49 : decode cX1_take 49 = .ok (.ldiv, 1) := dk_109 (dk_at dksX1_take_2 3 rfl rfl)
theorem dX1_take_50 : decode cX1_take 50 = .ok (.l2i, 1) := dk_136 (dk_at dksX1_take_2 4 rfl rfl)
theorem dX1_take_51 : decode cX1_take 51 = .ok (.istore 5, 2) := dk_54 5 (dk_at dksX1_take_2 5 rfl rfl)
theorem dX1_take_53 : decode cX1_take 53 = .ok (.aload 4, 2) := dk_25 4 (dk_at dksX1_take_2 7 rfl rfl)
theorem dX1_take_55 : decode cX1_take 55 = .ok (.dup, 1) := dk_89 (dk_at dksX1_take_2 9 rfl rfl)
theorem dX1_take_56 : decode cX1_take 56 = .ok (.getfield 58, 3) := dk_180 0 58 (dk_at dksX1_take_2 10 rfl rfl)
theorem dX1_take_59 : decode cX1_take 59 = .ok (.iload 5, 2) := dk_21 5 (dk_at dksX1_take_2 13 rfl rfl)
theorem dX1_take_61 : decode cX1_take 61 = .ok (.isub, 1) := dk_100 (dk_at dksX1_take_2 15 rfl rfl)
theorem dX1_take_62 : decode cX1_take 62 = .ok (.putfield 58, 3) := dk_181 0 58 (dk_at dksX1_take_2 16 rfl rfl)
theorem dX1_take_65 : decode cX1_take 65 = .ok (.aload 4, 2) := dk_25 4 (dk_at dksX1_take_2 19 rfl rfl)
theorem dX1_take_67 : decode cX1_take 67 = .ok (.dup, 1) := dk_89 (dk_at dksX1_take_2 21 rfl rfl)
theorem dX1_take_68 : decode cX1_take 68 = .ok (.getfield 63, 3) := dk_180 0 63 (dk_at dksX1_take_3 0 rfl rfl)
theorem dX1_take_71 : decode cX1_take 71 = .ok (.iload 5, 2) := dk_21 5 (dk_at dksX1_take_3 3 rfl rfl)
theorem dX1_take_73 : decode cX1_take 73 = .ok (.iadd, 1) := dk_96 (dk_at dksX1_take_3 5 rfl rfl)
theorem dX1_take_74 : decode cX1_take 74 = .ok (.putfield 63, 3) := dk_181 0 63 (dk_at dksX1_take_3 6 rfl rfl)
theorem dX1_take_77 : decode cX1_take 77 = .ok (.iinc 3 1, 3) := dk_132 3 1 (dk_at dksX1_take_3 9 rfl rfl)
theorem dX1_take_80 : decode cX1_take 80 = .ok (.goto (-78), 3) := dk_167 255 178 (dk_at dksX1_take_3 12 rfl rfl)
theorem dX1_take_83 : decode cX1_take 83 = .ok (.return_, 1) := dk_177 (dk_at dksX1_take_3 15 rfl rfl)
abbrev cX1_goSideways : ByteArray := prog_2_method_8_code
def yX1_goSideways : MethodName := ⟨RX1, "goSideways", "()V"⟩
def dkwX1_goSideways_7 : List UInt8 := [167, 255, 96, 42, 182, 0, 109, 177]
abbrev dktX1_goSideways_7 : List UInt8 := dkwX1_goSideways_7 ++ []
def dkwX1_goSideways_6 : List UInt8 := [25, 4, 21, 5, 2, 182, 0, 105, 132, 3, 2, 167, 255, 136, 132, 2, 1, 167, 255, 115, 132, 1, 1]
abbrev dktX1_goSideways_6 : List UInt8 := dkwX1_goSideways_6 ++ dktX1_goSideways_7
def dkwX1_goSideways_5 : List UInt8 := [16, 100, 108, 54, 5, 42, 180, 0, 17, 29, 50, 28, 50, 25, 4, 21, 5, 4, 182, 0, 105, 25, 4]
abbrev dktX1_goSideways_5 : List UInt8 := dkwX1_goSideways_5 ++ dktX1_goSideways_6
def dkwX1_goSideways_4 : List UInt8 := [180, 0, 44, 42, 180, 0, 17, 29, 50, 28, 50, 180, 0, 44, 100, 42, 180, 0, 3, 180, 0, 102, 104]
abbrev dktX1_goSideways_4 : List UInt8 := dkwX1_goSideways_4 ++ dktX1_goSideways_5
def dkwX1_goSideways_3 : List UInt8 := [27, 50, 28, 50, 180, 0, 44, 162, 0, 69, 42, 180, 0, 17, 27, 50, 28, 50, 58, 4, 25, 4]
abbrev dktX1_goSideways_3 : List UInt8 := dkwX1_goSideways_3 ++ dktX1_goSideways_4
def dkwX1_goSideways_2 : List UInt8 := [4, 100, 133, 184, 0, 98, 153, 0, 94, 42, 180, 0, 17, 29, 50, 28, 50, 180, 0, 44, 42, 180, 0, 17]
abbrev dktX1_goSideways_2 : List UInt8 := dkwX1_goSideways_2 ++ dktX1_goSideways_3
def dkwX1_goSideways_1 : List UInt8 := [162, 0, 136, 27, 4, 100, 62, 29, 27, 4, 96, 163, 0, 119, 29, 133, 9, 42, 180, 0, 3, 180, 0, 92]
abbrev dktX1_goSideways_1 : List UInt8 := dkwX1_goSideways_1 ++ dktX1_goSideways_2
def dkwX1_goSideways_0 : List UInt8 := [3, 60, 27, 42, 180, 0, 3, 180, 0, 92, 162, 0, 155, 3, 61, 28, 42, 180, 0, 3, 180, 0, 95]
abbrev dktX1_goSideways_0 : List UInt8 := dkwX1_goSideways_0 ++ dktX1_goSideways_1
theorem dksX1_goSideways_0 : cX1_goSideways.data.toList.drop 0 = dktX1_goSideways_0 := by decide +kernel
theorem dksX1_goSideways_1 : cX1_goSideways.data.toList.drop 23 = dktX1_goSideways_1 := dk_seg dksX1_goSideways_0 23 rfl rfl
theorem dksX1_goSideways_2 : cX1_goSideways.data.toList.drop 47 = dktX1_goSideways_2 := dk_seg dksX1_goSideways_1 24 rfl rfl
theorem dksX1_goSideways_3 : cX1_goSideways.data.toList.drop 71 = dktX1_goSideways_3 := dk_seg dksX1_goSideways_2 24 rfl rfl
theorem dksX1_goSideways_4 : cX1_goSideways.data.toList.drop 93 = dktX1_goSideways_4 := dk_seg dksX1_goSideways_3 22 rfl rfl
theorem dksX1_goSideways_5 : cX1_goSideways.data.toList.drop 116 = dktX1_goSideways_5 := dk_seg dksX1_goSideways_4 23 rfl rfl
theorem dksX1_goSideways_6 : cX1_goSideways.data.toList.drop 139 = dktX1_goSideways_6 := dk_seg dksX1_goSideways_5 23 rfl rfl
theorem dksX1_goSideways_7 : cX1_goSideways.data.toList.drop 162 = dktX1_goSideways_7 := dk_seg dksX1_goSideways_6 23 rfl rfl
theorem dX1_goSideways_0 : decode cX1_goSideways 0 = .ok (.iconst 0, 1) := dk_3 (dk_at dksX1_goSideways_0 0 rfl rfl)
theorem dX1_goSideways_1 : decode cX1_goSideways 1 = .ok (.istore_n 1, 1) := dk_60 (dk_at dksX1_goSideways_0 1 rfl rfl)
theorem dX1_goSideways_2 : decode cX1_goSideways 2 = .ok (.iload_n 1, 1) := dk_27 (dk_at dksX1_goSideways_0 2 rfl rfl)
theorem dX1_goSideways_3 : decode cX1_goSideways 3 = .ok (.aload_n 0, 1) := dk_42 (dk_at dksX1_goSideways_0 3 rfl rfl)
theorem dX1_goSideways_4 : decode cX1_goSideways 4 = .ok (.getfield 3, 3) := dk_180 0 3 (dk_at dksX1_goSideways_0 4 rfl rfl)
theorem dX1_goSideways_7 : decode cX1_goSideways 7 = .ok (.getfield 92, 3) := dk_180 0 92 (dk_at dksX1_goSideways_0 7 rfl rfl)
theorem dX1_goSideways_10 : decode cX1_goSideways 10 = .ok (.if_icmp .ge 155, 3) := dk_162 0 155 (dk_at dksX1_goSideways_0 10 rfl rfl)
theorem dX1_goSideways_13 : decode cX1_goSideways 13 = .ok (.iconst 0, 1) := dk_3 (dk_at dksX1_goSideways_0 13 rfl rfl)
theorem dX1_goSideways_14 : decode cX1_goSideways 14 = .ok (.istore_n 2, 1) := dk_61 (dk_at dksX1_goSideways_0 14 rfl rfl)
theorem dX1_goSideways_15 : decode cX1_goSideways 15 = .ok (.iload_n 2, 1) := dk_28 (dk_at dksX1_goSideways_0 15 rfl rfl)
theorem dX1_goSideways_16 : decode cX1_goSideways 16 = .ok (.aload_n 0, 1) := dk_42 (dk_at dksX1_goSideways_0 16 rfl rfl)
theorem dX1_goSideways_17 : decode cX1_goSideways 17 = .ok (.getfield 3, 3) := dk_180 0 3 (dk_at dksX1_goSideways_0 17 rfl rfl)
theorem dX1_goSideways_20 : decode cX1_goSideways 20 = .ok (.getfield 95, 3) := dk_180 0 95 (dk_at dksX1_goSideways_0 20 rfl rfl)
theorem dX1_goSideways_23 : decode cX1_goSideways 23 = .ok (.if_icmp .ge 136, 3) := dk_162 0 136 (dk_at dksX1_goSideways_1 0 rfl rfl)
theorem dX1_goSideways_26 : decode cX1_goSideways 26 = .ok (.iload_n 1, 1) := dk_27 (dk_at dksX1_goSideways_1 3 rfl rfl)
theorem dX1_goSideways_27 : decode cX1_goSideways 27 = .ok (.iconst 1, 1) := dk_4 (dk_at dksX1_goSideways_1 4 rfl rfl)
theorem dX1_goSideways_28 : decode cX1_goSideways 28 = .ok (.isub, 1) := dk_100 (dk_at dksX1_goSideways_1 5 rfl rfl)
theorem dX1_goSideways_29 : decode cX1_goSideways 29 = .ok (.istore_n 3, 1) := dk_62 (dk_at dksX1_goSideways_1 6 rfl rfl)
theorem dX1_goSideways_30 : decode cX1_goSideways 30 = .ok (.iload_n 3, 1) := dk_29 (dk_at dksX1_goSideways_1 7 rfl rfl)
theorem dX1_goSideways_31 : decode cX1_goSideways 31 = .ok (.iload_n 1, 1) := dk_27 (dk_at dksX1_goSideways_1 8 rfl rfl)
theorem dX1_goSideways_32 : decode cX1_goSideways 32 = .ok (.iconst 1, 1) := dk_4 (dk_at dksX1_goSideways_1 9 rfl rfl)
theorem dX1_goSideways_33 : decode cX1_goSideways 33 = .ok (.iadd, 1) := dk_96 (dk_at dksX1_goSideways_1 10 rfl rfl)
theorem dX1_goSideways_34 : decode cX1_goSideways 34 = .ok (.if_icmp .gt 119, 3) := dk_163 0 119 (dk_at dksX1_goSideways_1 11 rfl rfl)
theorem dX1_goSideways_37 : decode cX1_goSideways 37 = .ok (.iload_n 3, 1) := dk_29 (dk_at dksX1_goSideways_1 14 rfl rfl)
theorem dX1_goSideways_38 : decode cX1_goSideways 38 = .ok (.i2l, 1) := dk_133 (dk_at dksX1_goSideways_1 15 rfl rfl)
theorem dX1_goSideways_39 : decode cX1_goSideways 39 = .ok (.lconst 0, 1) := dk_9 (dk_at dksX1_goSideways_1 16 rfl rfl)
theorem dX1_goSideways_40 : decode cX1_goSideways 40 = .ok (.aload_n 0, 1) := dk_42 (dk_at dksX1_goSideways_1 17 rfl rfl)
theorem dX1_goSideways_41 : decode cX1_goSideways 41 = .ok (.getfield 3, 3) := dk_180 0 3 (dk_at dksX1_goSideways_1 18 rfl rfl)
theorem dX1_goSideways_44 : decode cX1_goSideways 44 = .ok (.getfield 92, 3) := dk_180 0 92 (dk_at dksX1_goSideways_1 21 rfl rfl)
theorem dX1_goSideways_47 : decode cX1_goSideways 47 = .ok (.iconst 1, 1) := dk_4 (dk_at dksX1_goSideways_2 0 rfl rfl)
theorem dX1_goSideways_48 : decode cX1_goSideways 48 = .ok (.isub, 1) := dk_100 (dk_at dksX1_goSideways_2 1 rfl rfl)
theorem dX1_goSideways_49 : decode cX1_goSideways 49 = .ok (.i2l, 1) := dk_133 (dk_at dksX1_goSideways_2 2 rfl rfl)
theorem dX1_goSideways_50 : decode cX1_goSideways 50 = .ok (.invokestatic 98, 3) := dk_184 0 98 (dk_at dksX1_goSideways_2 3 rfl rfl)
theorem dX1_goSideways_53 : decode cX1_goSideways 53 = .ok (.ifCond .eq 94, 3) := dk_153 0 94 (dk_at dksX1_goSideways_2 6 rfl rfl)
theorem dX1_goSideways_56 : decode cX1_goSideways 56 = .ok (.aload_n 0, 1) := dk_42 (dk_at dksX1_goSideways_2 9 rfl rfl)
theorem dX1_goSideways_57 : decode cX1_goSideways 57 = .ok (.getfield 17, 3) := dk_180 0 17 (dk_at dksX1_goSideways_2 10 rfl rfl)
theorem dX1_goSideways_60 : decode cX1_goSideways 60 = .ok (.iload_n 3, 1) := dk_29 (dk_at dksX1_goSideways_2 13 rfl rfl)
theorem dX1_goSideways_61 : decode cX1_goSideways 61 = .ok (.aaload, 1) := dk_50 (dk_at dksX1_goSideways_2 14 rfl rfl)
theorem dX1_goSideways_62 : decode cX1_goSideways 62 = .ok (.iload_n 2, 1) := dk_28 (dk_at dksX1_goSideways_2 15 rfl rfl)
theorem dX1_goSideways_63 : decode cX1_goSideways 63 = .ok (.aaload, 1) := dk_50 (dk_at dksX1_goSideways_2 16 rfl rfl)
theorem dX1_goSideways_64 : decode cX1_goSideways 64 = .ok (.getfield 44, 3) := dk_180 0 44 (dk_at dksX1_goSideways_2 17 rfl rfl)
theorem dX1_goSideways_67 : decode cX1_goSideways 67 = .ok (.aload_n 0, 1) := dk_42 (dk_at dksX1_goSideways_2 20 rfl rfl)
theorem dX1_goSideways_68 : decode cX1_goSideways 68 = .ok (.getfield 17, 3) := dk_180 0 17 (dk_at dksX1_goSideways_2 21 rfl rfl)
theorem dX1_goSideways_71 : decode cX1_goSideways 71 = .ok (.iload_n 1, 1) := dk_27 (dk_at dksX1_goSideways_3 0 rfl rfl)
theorem dX1_goSideways_72 : decode cX1_goSideways 72 = .ok (.aaload, 1) := dk_50 (dk_at dksX1_goSideways_3 1 rfl rfl)
theorem dX1_goSideways_73 : decode cX1_goSideways 73 = .ok (.iload_n 2, 1) := dk_28 (dk_at dksX1_goSideways_3 2 rfl rfl)
theorem dX1_goSideways_74 : decode cX1_goSideways 74 = .ok (.aaload, 1) := dk_50 (dk_at dksX1_goSideways_3 3 rfl rfl)
theorem dX1_goSideways_75 : decode cX1_goSideways 75 = .ok (.getfield 44, 3) := dk_180 0 44 (dk_at dksX1_goSideways_3 4 rfl rfl)
theorem dX1_goSideways_78 : decode cX1_goSideways 78 = .ok (.if_icmp .ge 69, 3) := dk_162 0 69 (dk_at dksX1_goSideways_3 7 rfl rfl)
theorem dX1_goSideways_81 : decode cX1_goSideways 81 = .ok (.aload_n 0, 1) := dk_42 (dk_at dksX1_goSideways_3 10 rfl rfl)
theorem dX1_goSideways_82 : decode cX1_goSideways 82 = .ok (.getfield 17, 3) := dk_180 0 17 (dk_at dksX1_goSideways_3 11 rfl rfl)
theorem dX1_goSideways_85 : decode cX1_goSideways 85 = .ok (.iload_n 1, 1) := dk_27 (dk_at dksX1_goSideways_3 14 rfl rfl)
theorem dX1_goSideways_86 : decode cX1_goSideways 86 = .ok (.aaload, 1) := dk_50 (dk_at dksX1_goSideways_3 15 rfl rfl)
theorem dX1_goSideways_87 : decode cX1_goSideways 87 = .ok (.iload_n 2, 1) := dk_28 (dk_at dksX1_goSideways_3 16 rfl rfl)
theorem dX1_goSideways_88 : decode cX1_goSideways 88 = .ok (.aaload, 1) := dk_50 (dk_at dksX1_goSideways_3 17 rfl rfl)
theorem dX1_goSideways_89 : decode cX1_goSideways 89 = .ok (.astore 4, 2) := dk_58 4 (dk_at dksX1_goSideways_3 18 rfl rfl)
theorem dX1_goSideways_91 : decode cX1_goSideways 91 = .ok (.aload 4, 2) := dk_25 4 (dk_at dksX1_goSideways_3 20 rfl rfl)
theorem dX1_goSideways_93 : decode cX1_goSideways 93 = .ok (.getfield 44, 3) := dk_180 0 44 (dk_at dksX1_goSideways_4 0 rfl rfl)
theorem dX1_goSideways_96 : decode cX1_goSideways 96 = .ok (.aload_n 0, 1) := dk_42 (dk_at dksX1_goSideways_4 3 rfl rfl)
theorem dX1_goSideways_97 : decode cX1_goSideways 97 = .ok (.getfield 17, 3) := dk_180 0 17 (dk_at dksX1_goSideways_4 4 rfl rfl)
theorem dX1_goSideways_100 : decode cX1_goSideways 100 = .ok (.iload_n 3, 1) := dk_29 (dk_at dksX1_goSideways_4 7 rfl rfl)
theorem dX1_goSideways_101 : decode cX1_goSideways 101 = .ok (.aaload, 1) := dk_50 (dk_at dksX1_goSideways_4 8 rfl rfl)
theorem dX1_goSideways_102 : decode cX1_goSideways 102 = .ok (.iload_n 2, 1) := dk_28 (dk_at dksX1_goSideways_4 9 rfl rfl)
theorem dX1_goSideways_103 : decode cX1_goSideways 103 = .ok (.aaload, 1) := dk_50 (dk_at dksX1_goSideways_4 10 rfl rfl)
theorem dX1_goSideways_104 : decode cX1_goSideways 104 = .ok (.getfield 44, 3) := dk_180 0 44 (dk_at dksX1_goSideways_4 11 rfl rfl)
theorem dX1_goSideways_107 : decode cX1_goSideways 107 = .ok (.isub, 1) := dk_100 (dk_at dksX1_goSideways_4 14 rfl rfl)
theorem dX1_goSideways_108 : decode cX1_goSideways 108 = .ok (.aload_n 0, 1) := dk_42 (dk_at dksX1_goSideways_4 15 rfl rfl)
theorem dX1_goSideways_109 : decode cX1_goSideways 109 = .ok (.getfield 3, 3) := dk_180 0 3 (dk_at dksX1_goSideways_4 16 rfl rfl)
theorem dX1_goSideways_112 : decode cX1_goSideways 112 = .ok (.getfield 102, 3) := dk_180 0 102 (dk_at dksX1_goSideways_4 19 rfl rfl)
theorem dX1_goSideways_115 : decode cX1_goSideways 115 = .ok (.imul, 1) := dk_104 (dk_at dksX1_goSideways_4 22 rfl rfl)
theorem dX1_goSideways_116 : decode cX1_goSideways 116 = .ok (.bipush 100, 2) := dk_16 100 (dk_at dksX1_goSideways_5 0 rfl rfl)
theorem dX1_goSideways_118 : decode cX1_goSideways 118 = .ok (.idiv, 1) := dk_108 (dk_at dksX1_goSideways_5 2 rfl rfl)
theorem dX1_goSideways_119 : decode cX1_goSideways 119 = .ok (.istore 5, 2) := dk_54 5 (dk_at dksX1_goSideways_5 3 rfl rfl)
theorem dX1_goSideways_121 : decode cX1_goSideways 121 = .ok (.aload_n 0, 1) := dk_42 (dk_at dksX1_goSideways_5 5 rfl rfl)
theorem dX1_goSideways_122 : decode cX1_goSideways 122 = .ok (.getfield 17, 3) := dk_180 0 17 (dk_at dksX1_goSideways_5 6 rfl rfl)
theorem dX1_goSideways_125 : decode cX1_goSideways 125 = .ok (.iload_n 3, 1) := dk_29 (dk_at dksX1_goSideways_5 9 rfl rfl)
theorem dX1_goSideways_126 : decode cX1_goSideways 126 = .ok (.aaload, 1) := dk_50 (dk_at dksX1_goSideways_5 10 rfl rfl)
theorem dX1_goSideways_127 : decode cX1_goSideways 127 = .ok (.iload_n 2, 1) := dk_28 (dk_at dksX1_goSideways_5 11 rfl rfl)
theorem dX1_goSideways_128 : decode cX1_goSideways 128 = .ok (.aaload, 1) := dk_50 (dk_at dksX1_goSideways_5 12 rfl rfl)
theorem dX1_goSideways_129 : decode cX1_goSideways 129 = .ok (.aload 4, 2) := dk_25 4 (dk_at dksX1_goSideways_5 13 rfl rfl)
theorem dX1_goSideways_131 : decode cX1_goSideways 131 = .ok (.iload 5, 2) := dk_21 5 (dk_at dksX1_goSideways_5 15 rfl rfl)
theorem dX1_goSideways_133 : decode cX1_goSideways 133 = .ok (.iconst 1, 1) := dk_4 (dk_at dksX1_goSideways_5 17 rfl rfl)
theorem dX1_goSideways_134 : decode cX1_goSideways 134 = .ok (.invokevirtual 105, 3) := dk_182 0 105 (dk_at dksX1_goSideways_5 18 rfl rfl)
theorem dX1_goSideways_137 : decode cX1_goSideways 137 = .ok (.aload 4, 2) := dk_25 4 (dk_at dksX1_goSideways_5 21 rfl rfl)
theorem dX1_goSideways_139 : decode cX1_goSideways 139 = .ok (.aload 4, 2) := dk_25 4 (dk_at dksX1_goSideways_6 0 rfl rfl)
theorem dX1_goSideways_141 : decode cX1_goSideways 141 = .ok (.iload 5, 2) := dk_21 5 (dk_at dksX1_goSideways_6 2 rfl rfl)
theorem dX1_goSideways_143 : decode cX1_goSideways 143 = .ok (.iconst (-1), 1) := dk_2 (dk_at dksX1_goSideways_6 4 rfl rfl)
theorem dX1_goSideways_144 : decode cX1_goSideways 144 = .ok (.invokevirtual 105, 3) := dk_182 0 105 (dk_at dksX1_goSideways_6 5 rfl rfl)
theorem dX1_goSideways_147 : decode cX1_goSideways 147 = .ok (.iinc 3 2, 3) := dk_132 3 2 (dk_at dksX1_goSideways_6 8 rfl rfl)
theorem dX1_goSideways_150 : decode cX1_goSideways 150 = .ok (.goto (-120), 3) := dk_167 255 136 (dk_at dksX1_goSideways_6 11 rfl rfl)
theorem dX1_goSideways_153 : decode cX1_goSideways 153 = .ok (.iinc 2 1, 3) := dk_132 2 1 (dk_at dksX1_goSideways_6 14 rfl rfl)
theorem dX1_goSideways_156 : decode cX1_goSideways 156 = .ok (.goto (-141), 3) := dk_167 255 115 (dk_at dksX1_goSideways_6 17 rfl rfl)
theorem dX1_goSideways_159 : decode cX1_goSideways 159 = .ok (.iinc 1 1, 3) := dk_132 1 1 (dk_at dksX1_goSideways_6 20 rfl rfl)
theorem dX1_goSideways_162 : decode cX1_goSideways 162 = .ok (.goto (-160), 3) := dk_167 255 96 (dk_at dksX1_goSideways_7 0 rfl rfl)
theorem dX1_goSideways_165 : decode cX1_goSideways 165 = .ok (.aload_n 0, 1) := dk_42 (dk_at dksX1_goSideways_7 3 rfl rfl)
theorem dX1_goSideways_166 : decode cX1_goSideways 166 = .ok (.invokevirtual 109, 3) := dk_182 0 109 (dk_at dksX1_goSideways_7 4 rfl rfl)
theorem dX1_goSideways_169 : decode cX1_goSideways 169 = .ok (.return_, 1) := dk_177 (dk_at dksX1_goSideways_7 7 rfl rfl)
abbrev cX1_settleAll : ByteArray := prog_2_method_10_code
def yX1_settleAll : MethodName := ⟨RX1, "settleAll", "()V"⟩
def dkwX1_settleAll_2 : List UInt8 := [167, 255, 212, 42, 180, 0, 23, 182, 0, 119, 177]
abbrev dktX1_settleAll_2 : List UInt8 := dkwX1_settleAll_2 ++ []
def dkwX1_settleAll_1 : List UInt8 := [162, 0, 20, 42, 180, 0, 17, 27, 50, 28, 50, 182, 0, 119, 132, 2, 1, 167, 255, 231, 132, 1, 1]
abbrev dktX1_settleAll_1 : List UInt8 := dkwX1_settleAll_1 ++ dktX1_settleAll_2
def dkwX1_settleAll_0 : List UInt8 := [3, 60, 27, 42, 180, 0, 3, 180, 0, 92, 162, 0, 39, 3, 61, 28, 42, 180, 0, 3, 180, 0, 95]
abbrev dktX1_settleAll_0 : List UInt8 := dkwX1_settleAll_0 ++ dktX1_settleAll_1
theorem dksX1_settleAll_0 : cX1_settleAll.data.toList.drop 0 = dktX1_settleAll_0 := by decide +kernel
theorem dksX1_settleAll_1 : cX1_settleAll.data.toList.drop 23 = dktX1_settleAll_1 := dk_seg dksX1_settleAll_0 23 rfl rfl
theorem dksX1_settleAll_2 : cX1_settleAll.data.toList.drop 46 = dktX1_settleAll_2 := dk_seg dksX1_settleAll_1 23 rfl rfl
theorem dX1_settleAll_0 : decode cX1_settleAll 0 = .ok (.iconst 0, 1) := dk_3 (dk_at dksX1_settleAll_0 0 rfl rfl)
theorem dX1_settleAll_1 : decode cX1_settleAll 1 = .ok (.istore_n 1, 1) := dk_60 (dk_at dksX1_settleAll_0 1 rfl rfl)
theorem dX1_settleAll_2 : decode cX1_settleAll 2 = .ok (.iload_n 1, 1) := dk_27 (dk_at dksX1_settleAll_0 2 rfl rfl)
theorem dX1_settleAll_3 : decode cX1_settleAll 3 = .ok (.aload_n 0, 1) := dk_42 (dk_at dksX1_settleAll_0 3 rfl rfl)
theorem dX1_settleAll_4 : decode cX1_settleAll 4 = .ok (.getfield 3, 3) := dk_180 0 3 (dk_at dksX1_settleAll_0 4 rfl rfl)
theorem dX1_settleAll_7 : decode cX1_settleAll 7 = .ok (.getfield 92, 3) := dk_180 0 92 (dk_at dksX1_settleAll_0 7 rfl rfl)
theorem dX1_settleAll_10 : decode cX1_settleAll 10 = .ok (.if_icmp .ge 39, 3) := dk_162 0 39 (dk_at dksX1_settleAll_0 10 rfl rfl)
theorem dX1_settleAll_13 : decode cX1_settleAll 13 = .ok (.iconst 0, 1) := dk_3 (dk_at dksX1_settleAll_0 13 rfl rfl)
theorem dX1_settleAll_14 : decode cX1_settleAll 14 = .ok (.istore_n 2, 1) := dk_61 (dk_at dksX1_settleAll_0 14 rfl rfl)
theorem dX1_settleAll_15 : decode cX1_settleAll 15 = .ok (.iload_n 2, 1) := dk_28 (dk_at dksX1_settleAll_0 15 rfl rfl)
theorem dX1_settleAll_16 : decode cX1_settleAll 16 = .ok (.aload_n 0, 1) := dk_42 (dk_at dksX1_settleAll_0 16 rfl rfl)
theorem dX1_settleAll_17 : decode cX1_settleAll 17 = .ok (.getfield 3, 3) := dk_180 0 3 (dk_at dksX1_settleAll_0 17 rfl rfl)
theorem dX1_settleAll_20 : decode cX1_settleAll 20 = .ok (.getfield 95, 3) := dk_180 0 95 (dk_at dksX1_settleAll_0 20 rfl rfl)
theorem dX1_settleAll_23 : decode cX1_settleAll 23 = .ok (.if_icmp .ge 20, 3) := dk_162 0 20 (dk_at dksX1_settleAll_1 0 rfl rfl)
theorem dX1_settleAll_26 : decode cX1_settleAll 26 = .ok (.aload_n 0, 1) := dk_42 (dk_at dksX1_settleAll_1 3 rfl rfl)
theorem dX1_settleAll_27 : decode cX1_settleAll 27 = .ok (.getfield 17, 3) := dk_180 0 17 (dk_at dksX1_settleAll_1 4 rfl rfl)
theorem dX1_settleAll_30 : decode cX1_settleAll 30 = .ok (.iload_n 1, 1) := dk_27 (dk_at dksX1_settleAll_1 7 rfl rfl)
theorem dX1_settleAll_31 : decode cX1_settleAll 31 = .ok (.aaload, 1) := dk_50 (dk_at dksX1_settleAll_1 8 rfl rfl)
theorem dX1_settleAll_32 : decode cX1_settleAll 32 = .ok (.iload_n 2, 1) := dk_28 (dk_at dksX1_settleAll_1 9 rfl rfl)
theorem dX1_settleAll_33 : decode cX1_settleAll 33 = .ok (.aaload, 1) := dk_50 (dk_at dksX1_settleAll_1 10 rfl rfl)
theorem dX1_settleAll_34 : decode cX1_settleAll 34 = .ok (.invokevirtual 119, 3) := dk_182 0 119 (dk_at dksX1_settleAll_1 11 rfl rfl)
theorem dX1_settleAll_37 : decode cX1_settleAll 37 = .ok (.iinc 2 1, 3) := dk_132 2 1 (dk_at dksX1_settleAll_1 14 rfl rfl)
theorem dX1_settleAll_40 : decode cX1_settleAll 40 = .ok (.goto (-25), 3) := dk_167 255 231 (dk_at dksX1_settleAll_1 17 rfl rfl)
theorem dX1_settleAll_43 : decode cX1_settleAll 43 = .ok (.iinc 1 1, 3) := dk_132 1 1 (dk_at dksX1_settleAll_1 20 rfl rfl)
theorem dX1_settleAll_46 : decode cX1_settleAll 46 = .ok (.goto (-44), 3) := dk_167 255 212 (dk_at dksX1_settleAll_2 0 rfl rfl)
theorem dX1_settleAll_49 : decode cX1_settleAll 49 = .ok (.aload_n 0, 1) := dk_42 (dk_at dksX1_settleAll_2 3 rfl rfl)
theorem dX1_settleAll_50 : decode cX1_settleAll 50 = .ok (.getfield 23, 3) := dk_180 0 23 (dk_at dksX1_settleAll_2 4 rfl rfl)
theorem dX1_settleAll_53 : decode cX1_settleAll 53 = .ok (.invokevirtual 119, 3) := dk_182 0 119 (dk_at dksX1_settleAll_2 7 rfl rfl)
theorem dX1_settleAll_56 : decode cX1_settleAll 56 = .ok (.return_, 1) := dk_177 (dk_at dksX1_settleAll_2 10 rfl rfl)
abbrev cX1_goDown : ByteArray := prog_2_method_9_code
def yX1_goDown : MethodName := ⟨RX1, "goDown", "(I)V"⟩
def dkwX1_goDown_9 : List UInt8 := [167, 255, 218, 132, 2, 1, 167, 255, 199, 177]
abbrev dktX1_goDown_9 : List UInt8 := dkwX1_goDown_9 ++ []
def dkwX1_goDown_8 : List UInt8 := [50, 29, 50, 89, 180, 0, 47, 42, 180, 0, 29, 28, 50, 29, 46, 96, 181, 0, 47, 132, 3, 1]
abbrev dktX1_goDown_8 : List UInt8 := dkwX1_goDown_8 ++ dktX1_goDown_9
def dkwX1_goDown_7 : List UInt8 := [180, 0, 92, 162, 0, 52, 3, 62, 29, 42, 180, 0, 3, 180, 0, 95, 162, 0, 33, 42, 180, 0, 17, 28]
abbrev dktX1_goDown_7 : List UInt8 := dkwX1_goDown_7 ++ dktX1_goDown_8
def dkwX1_goDown_6 : List UInt8 := [132, 3, 1, 167, 255, 126, 132, 2, 1, 167, 255, 107, 42, 182, 0, 109, 3, 61, 28, 42, 180, 0, 3]
abbrev dktX1_goDown_6 : List UInt8 := dkwX1_goDown_6 ++ dktX1_goDown_7
def dkwX1_goDown_5 : List UInt8 := [180, 0, 116, 158, 0, 19, 21, 6, 42, 180, 0, 3, 180, 0, 116, 164, 0, 7, 4, 167, 0, 4, 3, 79]
abbrev dktX1_goDown_5 : List UInt8 := dkwX1_goDown_5 ++ dktX1_goDown_6
def dkwX1_goDown_4 : List UInt8 := [182, 0, 105, 25, 4, 25, 4, 21, 6, 2, 182, 0, 105, 42, 180, 0, 29, 28, 50, 29, 42, 180, 0, 3]
abbrev dktX1_goDown_4 : List UInt8 := dkwX1_goDown_4 ++ dktX1_goDown_5
def dkwX1_goDown_3 : List UInt8 := [180, 0, 44, 42, 28, 29, 27, 4, 182, 0, 112, 104, 16, 100, 108, 54, 6, 25, 5, 25, 4, 21, 6, 4]
abbrev dktX1_goDown_3 : List UInt8 := dkwX1_goDown_3 ++ dktX1_goDown_4
def dkwX1_goDown_2 : List UInt8 := [160, 0, 10, 42, 180, 0, 23, 167, 0, 13, 42, 180, 0, 17, 28, 50, 29, 4, 96, 50, 58, 5, 25, 4]
abbrev dktX1_goDown_2 : List UInt8 := dkwX1_goDown_2 ++ dktX1_goDown_3
def dkwX1_goDown_1 : List UInt8 := [162, 0, 125, 42, 180, 0, 17, 28, 50, 29, 50, 58, 4, 29, 42, 180, 0, 3, 180, 0, 95, 4, 100]
abbrev dktX1_goDown_1 : List UInt8 := dkwX1_goDown_1 ++ dktX1_goDown_2
def dkwX1_goDown_0 : List UInt8 := [3, 61, 28, 42, 180, 0, 3, 180, 0, 92, 162, 0, 144, 3, 62, 29, 42, 180, 0, 3, 180, 0, 95]
abbrev dktX1_goDown_0 : List UInt8 := dkwX1_goDown_0 ++ dktX1_goDown_1
theorem dksX1_goDown_0 : cX1_goDown.data.toList.drop 0 = dktX1_goDown_0 := by decide +kernel
theorem dksX1_goDown_1 : cX1_goDown.data.toList.drop 23 = dktX1_goDown_1 := dk_seg dksX1_goDown_0 23 rfl rfl
theorem dksX1_goDown_2 : cX1_goDown.data.toList.drop 46 = dktX1_goDown_2 := dk_seg dksX1_goDown_1 23 rfl rfl
theorem dksX1_goDown_3 : cX1_goDown.data.toList.drop 70 = dktX1_goDown_3 := dk_seg dksX1_goDown_2 24 rfl rfl
theorem dksX1_goDown_4 : cX1_goDown.data.toList.drop 94 = dktX1_goDown_4 := dk_seg dksX1_goDown_3 24 rfl rfl
theorem dksX1_goDown_5 : cX1_goDown.data.toList.drop 118 = dktX1_goDown_5 := dk_seg dksX1_goDown_4 24 rfl rfl
theorem dksX1_goDown_6 : cX1_goDown.data.toList.drop 142 = dktX1_goDown_6 := dk_seg dksX1_goDown_5 24 rfl rfl
theorem dksX1_goDown_7 : cX1_goDown.data.toList.drop 165 = dktX1_goDown_7 := dk_seg dksX1_goDown_6 23 rfl rfl
theorem dksX1_goDown_8 : cX1_goDown.data.toList.drop 189 = dktX1_goDown_8 := dk_seg dksX1_goDown_7 24 rfl rfl
theorem dksX1_goDown_9 : cX1_goDown.data.toList.drop 211 = dktX1_goDown_9 := dk_seg dksX1_goDown_8 22 rfl rfl
theorem dX1_goDown_0 : decode cX1_goDown 0 = .ok (.iconst 0, 1) := dk_3 (dk_at dksX1_goDown_0 0 rfl rfl)
theorem dX1_goDown_1 : decode cX1_goDown 1 = .ok (.istore_n 2, 1) := dk_61 (dk_at dksX1_goDown_0 1 rfl rfl)
theorem dX1_goDown_2 : decode cX1_goDown 2 = .ok (.iload_n 2, 1) := dk_28 (dk_at dksX1_goDown_0 2 rfl rfl)
theorem dX1_goDown_3 : decode cX1_goDown 3 = .ok (.aload_n 0, 1) := dk_42 (dk_at dksX1_goDown_0 3 rfl rfl)
theorem dX1_goDown_4 : decode cX1_goDown 4 = .ok (.getfield 3, 3) := dk_180 0 3 (dk_at dksX1_goDown_0 4 rfl rfl)
theorem dX1_goDown_7 : decode cX1_goDown 7 = .ok (.getfield 92, 3) := dk_180 0 92 (dk_at dksX1_goDown_0 7 rfl rfl)
theorem dX1_goDown_10 : decode cX1_goDown 10 = .ok (.if_icmp .ge 144, 3) := dk_162 0 144 (dk_at dksX1_goDown_0 10 rfl rfl)
theorem dX1_goDown_13 : decode cX1_goDown 13 = .ok (.iconst 0, 1) := dk_3 (dk_at dksX1_goDown_0 13 rfl rfl)
theorem dX1_goDown_14 : decode cX1_goDown 14 = .ok (.istore_n 3, 1) := dk_62 (dk_at dksX1_goDown_0 14 rfl rfl)
theorem dX1_goDown_15 : decode cX1_goDown 15 = .ok (.iload_n 3, 1) := dk_29 (dk_at dksX1_goDown_0 15 rfl rfl)
theorem dX1_goDown_16 : decode cX1_goDown 16 = .ok (.aload_n 0, 1) := dk_42 (dk_at dksX1_goDown_0 16 rfl rfl)
theorem dX1_goDown_17 : decode cX1_goDown 17 = .ok (.getfield 3, 3) := dk_180 0 3 (dk_at dksX1_goDown_0 17 rfl rfl)
theorem dX1_goDown_20 : decode cX1_goDown 20 = .ok (.getfield 95, 3) := dk_180 0 95 (dk_at dksX1_goDown_0 20 rfl rfl)
theorem dX1_goDown_23 : decode cX1_goDown 23 = .ok (.if_icmp .ge 125, 3) := dk_162 0 125 (dk_at dksX1_goDown_1 0 rfl rfl)
theorem dX1_goDown_26 : decode cX1_goDown 26 = .ok (.aload_n 0, 1) := dk_42 (dk_at dksX1_goDown_1 3 rfl rfl)
theorem dX1_goDown_27 : decode cX1_goDown 27 = .ok (.getfield 17, 3) := dk_180 0 17 (dk_at dksX1_goDown_1 4 rfl rfl)
theorem dX1_goDown_30 : decode cX1_goDown 30 = .ok (.iload_n 2, 1) := dk_28 (dk_at dksX1_goDown_1 7 rfl rfl)
theorem dX1_goDown_31 : decode cX1_goDown 31 = .ok (.aaload, 1) := dk_50 (dk_at dksX1_goDown_1 8 rfl rfl)
theorem dX1_goDown_32 : decode cX1_goDown 32 = .ok (.iload_n 3, 1) := dk_29 (dk_at dksX1_goDown_1 9 rfl rfl)
theorem dX1_goDown_33 : decode cX1_goDown 33 = .ok (.aaload, 1) := dk_50 (dk_at dksX1_goDown_1 10 rfl rfl)
theorem dX1_goDown_34 : decode cX1_goDown 34 = .ok (.astore 4, 2) := dk_58 4 (dk_at dksX1_goDown_1 11 rfl rfl)
theorem dX1_goDown_36 : decode cX1_goDown 36 = .ok (.iload_n 3, 1) := dk_29 (dk_at dksX1_goDown_1 13 rfl rfl)
theorem dX1_goDown_37 : decode cX1_goDown 37 = .ok (.aload_n 0, 1) := dk_42 (dk_at dksX1_goDown_1 14 rfl rfl)
theorem dX1_goDown_38 : decode cX1_goDown 38 = .ok (.getfield 3, 3) := dk_180 0 3 (dk_at dksX1_goDown_1 15 rfl rfl)
theorem dX1_goDown_41 : decode cX1_goDown 41 = .ok (.getfield 95, 3) := dk_180 0 95 (dk_at dksX1_goDown_1 18 rfl rfl)
theorem dX1_goDown_44 : decode cX1_goDown 44 = .ok (.iconst 1, 1) := dk_4 (dk_at dksX1_goDown_1 21 rfl rfl)
theorem dX1_goDown_45 : decode cX1_goDown 45 = .ok (.isub, 1) := dk_100 (dk_at dksX1_goDown_1 22 rfl rfl)
theorem dX1_goDown_46 : decode cX1_goDown 46 = .ok (.if_icmp .ne 10, 3) := dk_160 0 10 (dk_at dksX1_goDown_2 0 rfl rfl)
theorem dX1_goDown_49 : decode cX1_goDown 49 = .ok (.aload_n 0, 1) := dk_42 (dk_at dksX1_goDown_2 3 rfl rfl)
theorem dX1_goDown_50 : decode cX1_goDown 50 = .ok (.getfield 23, 3) := dk_180 0 23 (dk_at dksX1_goDown_2 4 rfl rfl)
theorem dX1_goDown_53 : decode cX1_goDown 53 = .ok (.goto 13, 3) := dk_167 0 13 (dk_at dksX1_goDown_2 7 rfl rfl)
theorem dX1_goDown_56 : decode cX1_goDown 56 = .ok (.aload_n 0, 1) := dk_42 (dk_at dksX1_goDown_2 10 rfl rfl)
theorem dX1_goDown_57 : decode cX1_goDown 57 = .ok (.getfield 17, 3) := dk_180 0 17 (dk_at dksX1_goDown_2 11 rfl rfl)
theorem dX1_goDown_60 : decode cX1_goDown 60 = .ok (.iload_n 2, 1) := dk_28 (dk_at dksX1_goDown_2 14 rfl rfl)
theorem dX1_goDown_61 : decode cX1_goDown 61 = .ok (.aaload, 1) := dk_50 (dk_at dksX1_goDown_2 15 rfl rfl)
theorem dX1_goDown_62 : decode cX1_goDown 62 = .ok (.iload_n 3, 1) := dk_29 (dk_at dksX1_goDown_2 16 rfl rfl)
theorem dX1_goDown_63 : decode cX1_goDown 63 = .ok (.iconst 1, 1) := dk_4 (dk_at dksX1_goDown_2 17 rfl rfl)
theorem dX1_goDown_64 : decode cX1_goDown 64 = .ok (.iadd, 1) := dk_96 (dk_at dksX1_goDown_2 18 rfl rfl)
theorem dX1_goDown_65 : decode cX1_goDown 65 = .ok (.aaload, 1) := dk_50 (dk_at dksX1_goDown_2 19 rfl rfl)
theorem dX1_goDown_66 : decode cX1_goDown 66 = .ok (.astore 5, 2) := dk_58 5 (dk_at dksX1_goDown_2 20 rfl rfl)
theorem dX1_goDown_68 : decode cX1_goDown 68 = .ok (.aload 4, 2) := dk_25 4 (dk_at dksX1_goDown_2 22 rfl rfl)
theorem dX1_goDown_70 : decode cX1_goDown 70 = .ok (.getfield 44, 3) := dk_180 0 44 (dk_at dksX1_goDown_3 0 rfl rfl)
theorem dX1_goDown_73 : decode cX1_goDown 73 = .ok (.aload_n 0, 1) := dk_42 (dk_at dksX1_goDown_3 3 rfl rfl)
theorem dX1_goDown_74 : decode cX1_goDown 74 = .ok (.iload_n 2, 1) := dk_28 (dk_at dksX1_goDown_3 4 rfl rfl)
theorem dX1_goDown_75 : decode cX1_goDown 75 = .ok (.iload_n 3, 1) := dk_29 (dk_at dksX1_goDown_3 5 rfl rfl)
theorem dX1_goDown_76 : decode cX1_goDown 76 = .ok (.iload_n 1, 1) := dk_27 (dk_at dksX1_goDown_3 6 rfl rfl)
theorem dX1_goDown_77 : decode cX1_goDown 77 = .ok (.iconst 1, 1) := dk_4 (dk_at dksX1_goDown_3 7 rfl rfl)
theorem dX1_goDown_78 : decode cX1_goDown 78 = .ok (.invokevirtual 112, 3) := dk_182 0 112 (dk_at dksX1_goDown_3 8 rfl rfl)
theorem dX1_goDown_81 : decode cX1_goDown 81 = .ok (.imul, 1) := dk_104 (dk_at dksX1_goDown_3 11 rfl rfl)
theorem dX1_goDown_82 : decode cX1_goDown 82 = .ok (.bipush 100, 2) := dk_16 100 (dk_at dksX1_goDown_3 12 rfl rfl)
theorem dX1_goDown_84 : decode cX1_goDown 84 = .ok (.idiv, 1) := dk_108 (dk_at dksX1_goDown_3 14 rfl rfl)
theorem dX1_goDown_85 : decode cX1_goDown 85 = .ok (.istore 6, 2) := dk_54 6 (dk_at dksX1_goDown_3 15 rfl rfl)
theorem dX1_goDown_87 : decode cX1_goDown 87 = .ok (.aload 5, 2) := dk_25 5 (dk_at dksX1_goDown_3 17 rfl rfl)
theorem dX1_goDown_89 : decode cX1_goDown 89 = .ok (.aload 4, 2) := dk_25 4 (dk_at dksX1_goDown_3 19 rfl rfl)
theorem dX1_goDown_91 : decode cX1_goDown 91 = .ok (.iload 6, 2) := dk_21 6 (dk_at dksX1_goDown_3 21 rfl rfl)
theorem dX1_goDown_93 : decode cX1_goDown 93 = .ok (.iconst 1, 1) := dk_4 (dk_at dksX1_goDown_3 23 rfl rfl)
theorem dX1_goDown_94 : decode cX1_goDown 94 = .ok (.invokevirtual 105, 3) := dk_182 0 105 (dk_at dksX1_goDown_4 0 rfl rfl)
theorem dX1_goDown_97 : decode cX1_goDown 97 = .ok (.aload 4, 2) := dk_25 4 (dk_at dksX1_goDown_4 3 rfl rfl)
theorem dX1_goDown_99 : decode cX1_goDown 99 = .ok (.aload 4, 2) := dk_25 4 (dk_at dksX1_goDown_4 5 rfl rfl)
theorem dX1_goDown_101 : decode cX1_goDown 101 = .ok (.iload 6, 2) := dk_21 6 (dk_at dksX1_goDown_4 7 rfl rfl)
theorem dX1_goDown_103 : decode cX1_goDown 103 = .ok (.iconst (-1), 1) := dk_2 (dk_at dksX1_goDown_4 9 rfl rfl)
theorem dX1_goDown_104 : decode cX1_goDown 104 = .ok (.invokevirtual 105, 3) := dk_182 0 105 (dk_at dksX1_goDown_4 10 rfl rfl)
theorem dX1_goDown_107 : decode cX1_goDown 107 = .ok (.aload_n 0, 1) := dk_42 (dk_at dksX1_goDown_4 13 rfl rfl)
theorem dX1_goDown_108 : decode cX1_goDown 108 = .ok (.getfield 29, 3) := dk_180 0 29 (dk_at dksX1_goDown_4 14 rfl rfl)
theorem dX1_goDown_111 : decode cX1_goDown 111 = .ok (.iload_n 2, 1) := dk_28 (dk_at dksX1_goDown_4 17 rfl rfl)
theorem dX1_goDown_112 : decode cX1_goDown 112 = .ok (.aaload, 1) := dk_50 (dk_at dksX1_goDown_4 18 rfl rfl)
theorem dX1_goDown_113 : decode cX1_goDown 113 = .ok (.iload_n 3, 1) := dk_29 (dk_at dksX1_goDown_4 19 rfl rfl)
theorem dX1_goDown_114 : decode cX1_goDown 114 = .ok (.aload_n 0, 1) := dk_42 (dk_at dksX1_goDown_4 20 rfl rfl)
theorem dX1_goDown_115 : decode cX1_goDown 115 = .ok (.getfield 3, 3) := dk_180 0 3 (dk_at dksX1_goDown_4 21 rfl rfl)
theorem dX1_goDown_118 : decode cX1_goDown 118 = .ok (.getfield 116, 3) := dk_180 0 116 (dk_at dksX1_goDown_5 0 rfl rfl)
theorem dX1_goDown_121 : decode cX1_goDown 121 = .ok (.ifCond .le 19, 3) := dk_158 0 19 (dk_at dksX1_goDown_5 3 rfl rfl)
theorem dX1_goDown_124 : decode cX1_goDown 124 = .ok (.iload 6, 2) := dk_21 6 (dk_at dksX1_goDown_5 6 rfl rfl)
theorem dX1_goDown_126 : decode cX1_goDown 126 = .ok (.aload_n 0, 1) := dk_42 (dk_at dksX1_goDown_5 8 rfl rfl)
theorem dX1_goDown_127 : decode cX1_goDown 127 = .ok (.getfield 3, 3) := dk_180 0 3 (dk_at dksX1_goDown_5 9 rfl rfl)
theorem dX1_goDown_130 : decode cX1_goDown 130 = .ok (.getfield 116, 3) := dk_180 0 116 (dk_at dksX1_goDown_5 12 rfl rfl)
theorem dX1_goDown_133 : decode cX1_goDown 133 = .ok (.if_icmp .le 7, 3) := dk_164 0 7 (dk_at dksX1_goDown_5 15 rfl rfl)
theorem dX1_goDown_136 : decode cX1_goDown 136 = .ok (.iconst 1, 1) := dk_4 (dk_at dksX1_goDown_5 18 rfl rfl)
theorem dX1_goDown_137 : decode cX1_goDown 137 = .ok (.goto 4, 3) := dk_167 0 4 (dk_at dksX1_goDown_5 19 rfl rfl)
theorem dX1_goDown_140 : decode cX1_goDown 140 = .ok (.iconst 0, 1) := dk_3 (dk_at dksX1_goDown_5 22 rfl rfl)
theorem dX1_goDown_141 : decode cX1_goDown 141 = .ok (.iastore, 1) := dk_79 (dk_at dksX1_goDown_5 23 rfl rfl)
theorem dX1_goDown_142 : decode cX1_goDown 142 = .ok (.iinc 3 1, 3) := dk_132 3 1 (dk_at dksX1_goDown_6 0 rfl rfl)
theorem dX1_goDown_145 : decode cX1_goDown 145 = .ok (.goto (-130), 3) := dk_167 255 126 (dk_at dksX1_goDown_6 3 rfl rfl)
theorem dX1_goDown_148 : decode cX1_goDown 148 = .ok (.iinc 2 1, 3) := dk_132 2 1 (dk_at dksX1_goDown_6 6 rfl rfl)
theorem dX1_goDown_151 : decode cX1_goDown 151 = .ok (.goto (-149), 3) := dk_167 255 107 (dk_at dksX1_goDown_6 9 rfl rfl)
theorem dX1_goDown_154 : decode cX1_goDown 154 = .ok (.aload_n 0, 1) := dk_42 (dk_at dksX1_goDown_6 12 rfl rfl)
theorem dX1_goDown_155 : decode cX1_goDown 155 = .ok (.invokevirtual 109, 3) := dk_182 0 109 (dk_at dksX1_goDown_6 13 rfl rfl)
theorem dX1_goDown_158 : decode cX1_goDown 158 = .ok (.iconst 0, 1) := dk_3 (dk_at dksX1_goDown_6 16 rfl rfl)
theorem dX1_goDown_159 : decode cX1_goDown 159 = .ok (.istore_n 2, 1) := dk_61 (dk_at dksX1_goDown_6 17 rfl rfl)
theorem dX1_goDown_160 : decode cX1_goDown 160 = .ok (.iload_n 2, 1) := dk_28 (dk_at dksX1_goDown_6 18 rfl rfl)
theorem dX1_goDown_161 : decode cX1_goDown 161 = .ok (.aload_n 0, 1) := dk_42 (dk_at dksX1_goDown_6 19 rfl rfl)
theorem dX1_goDown_162 : decode cX1_goDown 162 = .ok (.getfield 3, 3) := dk_180 0 3 (dk_at dksX1_goDown_6 20 rfl rfl)
theorem dX1_goDown_165 : decode cX1_goDown 165 = .ok (.getfield 92, 3) := dk_180 0 92 (dk_at dksX1_goDown_7 0 rfl rfl)
theorem dX1_goDown_168 : decode cX1_goDown 168 = .ok (.if_icmp .ge 52, 3) := dk_162 0 52 (dk_at dksX1_goDown_7 3 rfl rfl)
theorem dX1_goDown_171 : decode cX1_goDown 171 = .ok (.iconst 0, 1) := dk_3 (dk_at dksX1_goDown_7 6 rfl rfl)
theorem dX1_goDown_172 : decode cX1_goDown 172 = .ok (.istore_n 3, 1) := dk_62 (dk_at dksX1_goDown_7 7 rfl rfl)
theorem dX1_goDown_173 : decode cX1_goDown 173 = .ok (.iload_n 3, 1) := dk_29 (dk_at dksX1_goDown_7 8 rfl rfl)
theorem dX1_goDown_174 : decode cX1_goDown 174 = .ok (.aload_n 0, 1) := dk_42 (dk_at dksX1_goDown_7 9 rfl rfl)
theorem dX1_goDown_175 : decode cX1_goDown 175 = .ok (.getfield 3, 3) := dk_180 0 3 (dk_at dksX1_goDown_7 10 rfl rfl)
theorem dX1_goDown_178 : decode cX1_goDown 178 = .ok (.getfield 95, 3) := dk_180 0 95 (dk_at dksX1_goDown_7 13 rfl rfl)
theorem dX1_goDown_181 : decode cX1_goDown 181 = .ok (.if_icmp .ge 33, 3) := dk_162 0 33 (dk_at dksX1_goDown_7 16 rfl rfl)
theorem dX1_goDown_184 : decode cX1_goDown 184 = .ok (.aload_n 0, 1) := dk_42 (dk_at dksX1_goDown_7 19 rfl rfl)
theorem dX1_goDown_185 : decode cX1_goDown 185 = .ok (.getfield 17, 3) := dk_180 0 17 (dk_at dksX1_goDown_7 20 rfl rfl)
theorem dX1_goDown_188 : decode cX1_goDown 188 = .ok (.iload_n 2, 1) := dk_28 (dk_at dksX1_goDown_7 23 rfl rfl)
theorem dX1_goDown_189 : decode cX1_goDown 189 = .ok (.aaload, 1) := dk_50 (dk_at dksX1_goDown_8 0 rfl rfl)
theorem dX1_goDown_190 : decode cX1_goDown 190 = .ok (.iload_n 3, 1) := dk_29 (dk_at dksX1_goDown_8 1 rfl rfl)
theorem dX1_goDown_191 : decode cX1_goDown 191 = .ok (.aaload, 1) := dk_50 (dk_at dksX1_goDown_8 2 rfl rfl)
theorem dX1_goDown_192 : decode cX1_goDown 192 = .ok (.dup, 1) := dk_89 (dk_at dksX1_goDown_8 3 rfl rfl)
theorem dX1_goDown_193 : decode cX1_goDown 193 = .ok (.getfield 47, 3) := dk_180 0 47 (dk_at dksX1_goDown_8 4 rfl rfl)
theorem dX1_goDown_196 : decode cX1_goDown 196 = .ok (.aload_n 0, 1) := dk_42 (dk_at dksX1_goDown_8 7 rfl rfl)
theorem dX1_goDown_197 : decode cX1_goDown 197 = .ok (.getfield 29, 3) := dk_180 0 29 (dk_at dksX1_goDown_8 8 rfl rfl)
theorem dX1_goDown_200 : decode cX1_goDown 200 = .ok (.iload_n 2, 1) := dk_28 (dk_at dksX1_goDown_8 11 rfl rfl)
theorem dX1_goDown_201 : decode cX1_goDown 201 = .ok (.aaload, 1) := dk_50 (dk_at dksX1_goDown_8 12 rfl rfl)
theorem dX1_goDown_202 : decode cX1_goDown 202 = .ok (.iload_n 3, 1) := dk_29 (dk_at dksX1_goDown_8 13 rfl rfl)
theorem dX1_goDown_203 : decode cX1_goDown 203 = .ok (.iaload, 1) := dk_46 (dk_at dksX1_goDown_8 14 rfl rfl)
theorem dX1_goDown_204 : decode cX1_goDown 204 = .ok (.iadd, 1) := dk_96 (dk_at dksX1_goDown_8 15 rfl rfl)
theorem dX1_goDown_205 : decode cX1_goDown 205 = .ok (.putfield 47, 3) := dk_181 0 47 (dk_at dksX1_goDown_8 16 rfl rfl)
theorem dX1_goDown_208 : decode cX1_goDown 208 = .ok (.iinc 3 1, 3) := dk_132 3 1 (dk_at dksX1_goDown_8 19 rfl rfl)
theorem dX1_goDown_211 : decode cX1_goDown 211 = .ok (.goto (-38), 3) := dk_167 255 218 (dk_at dksX1_goDown_9 0 rfl rfl)
theorem dX1_goDown_214 : decode cX1_goDown 214 = .ok (.iinc 2 1, 3) := dk_132 2 1 (dk_at dksX1_goDown_9 3 rfl rfl)
theorem dX1_goDown_217 : decode cX1_goDown 217 = .ok (.goto (-57), 3) := dk_167 255 199 (dk_at dksX1_goDown_9 6 rfl rfl)
theorem dX1_goDown_220 : decode cX1_goDown 220 = .ok (.return_, 1) := dk_177 (dk_at dksX1_goDown_9 9 rfl rfl)
abbrev cX1_looseOf : ByteArray := prog_2_method_5_code
def yX1_looseOf : MethodName := ⟨RX1, "looseOf", "(IIIZ)I"⟩
def dkwX1_looseOf_2 : List UInt8 := [180, 0, 47, 167, 0, 4, 3, 96, 54, 5, 4, 16, 95, 21, 5, 184, 0, 72, 184, 0, 78, 172]
abbrev dktX1_looseOf_2 : List UInt8 := dkwX1_looseOf_2 ++ []
def dkwX1_looseOf_1 : List UInt8 := [180, 0, 3, 180, 0, 69, 27, 50, 28, 46, 96, 21, 4, 153, 0, 17, 42, 180, 0, 17, 27, 50, 28, 50]
abbrev dktX1_looseOf_1 : List UInt8 := dkwX1_looseOf_1 ++ dktX1_looseOf_2
def dkwX1_looseOf_0 : List UInt8 := [42, 180, 0, 3, 180, 0, 66, 3, 46, 29, 42, 180, 0, 3, 180, 0, 66, 4, 46, 104, 96, 42]
abbrev dktX1_looseOf_0 : List UInt8 := dkwX1_looseOf_0 ++ dktX1_looseOf_1
theorem dksX1_looseOf_0 : cX1_looseOf.data.toList.drop 0 = dktX1_looseOf_0 := by decide +kernel
theorem dksX1_looseOf_1 : cX1_looseOf.data.toList.drop 22 = dktX1_looseOf_1 := dk_seg dksX1_looseOf_0 22 rfl rfl
theorem dksX1_looseOf_2 : cX1_looseOf.data.toList.drop 46 = dktX1_looseOf_2 := dk_seg dksX1_looseOf_1 24 rfl rfl
theorem dX1_looseOf_0 : decode cX1_looseOf 0 = .ok (.aload_n 0, 1) := dk_42 (dk_at dksX1_looseOf_0 0 rfl rfl)
theorem dX1_looseOf_1 : decode cX1_looseOf 1 = .ok (.getfield 3, 3) := dk_180 0 3 (dk_at dksX1_looseOf_0 1 rfl rfl)
theorem dX1_looseOf_4 : decode cX1_looseOf 4 = .ok (.getfield 66, 3) := dk_180 0 66 (dk_at dksX1_looseOf_0 4 rfl rfl)
theorem dX1_looseOf_7 : decode cX1_looseOf 7 = .ok (.iconst 0, 1) := dk_3 (dk_at dksX1_looseOf_0 7 rfl rfl)
theorem dX1_looseOf_8 : decode cX1_looseOf 8 = .ok (.iaload, 1) := dk_46 (dk_at dksX1_looseOf_0 8 rfl rfl)
theorem dX1_looseOf_9 : decode cX1_looseOf 9 = .ok (.iload_n 3, 1) := dk_29 (dk_at dksX1_looseOf_0 9 rfl rfl)
theorem dX1_looseOf_10 : decode cX1_looseOf 10 = .ok (.aload_n 0, 1) := dk_42 (dk_at dksX1_looseOf_0 10 rfl rfl)
theorem dX1_looseOf_11 : decode cX1_looseOf 11 = .ok (.getfield 3, 3) := dk_180 0 3 (dk_at dksX1_looseOf_0 11 rfl rfl)
theorem dX1_looseOf_14 : decode cX1_looseOf 14 = .ok (.getfield 66, 3) := dk_180 0 66 (dk_at dksX1_looseOf_0 14 rfl rfl)
theorem dX1_looseOf_17 : decode cX1_looseOf 17 = .ok (.iconst 1, 1) := dk_4 (dk_at dksX1_looseOf_0 17 rfl rfl)
theorem dX1_looseOf_18 : decode cX1_looseOf 18 = .ok (.iaload, 1) := dk_46 (dk_at dksX1_looseOf_0 18 rfl rfl)
theorem dX1_looseOf_19 : decode cX1_looseOf 19 = .ok (.imul, 1) := dk_104 (dk_at dksX1_looseOf_0 19 rfl rfl)
theorem dX1_looseOf_20 : decode cX1_looseOf 20 = .ok (.iadd, 1) := dk_96 (dk_at dksX1_looseOf_0 20 rfl rfl)
theorem dX1_looseOf_21 : decode cX1_looseOf 21 = .ok (.aload_n 0, 1) := dk_42 (dk_at dksX1_looseOf_0 21 rfl rfl)
theorem dX1_looseOf_22 : decode cX1_looseOf 22 = .ok (.getfield 3, 3) := dk_180 0 3 (dk_at dksX1_looseOf_1 0 rfl rfl)
theorem dX1_looseOf_25 : decode cX1_looseOf 25 = .ok (.getfield 69, 3) := dk_180 0 69 (dk_at dksX1_looseOf_1 3 rfl rfl)
theorem dX1_looseOf_28 : decode cX1_looseOf 28 = .ok (.iload_n 1, 1) := dk_27 (dk_at dksX1_looseOf_1 6 rfl rfl)
theorem dX1_looseOf_29 : decode cX1_looseOf 29 = .ok (.aaload, 1) := dk_50 (dk_at dksX1_looseOf_1 7 rfl rfl)
theorem dX1_looseOf_30 : decode cX1_looseOf 30 = .ok (.iload_n 2, 1) := dk_28 (dk_at dksX1_looseOf_1 8 rfl rfl)
theorem dX1_looseOf_31 : decode cX1_looseOf 31 = .ok (.iaload, 1) := dk_46 (dk_at dksX1_looseOf_1 9 rfl rfl)
theorem dX1_looseOf_32 : decode cX1_looseOf 32 = .ok (.iadd, 1) := dk_96 (dk_at dksX1_looseOf_1 10 rfl rfl)
theorem dX1_looseOf_33 : decode cX1_looseOf 33 = .ok (.iload 4, 2) := dk_21 4 (dk_at dksX1_looseOf_1 11 rfl rfl)
theorem dX1_looseOf_35 : decode cX1_looseOf 35 = .ok (.ifCond .eq 17, 3) := dk_153 0 17 (dk_at dksX1_looseOf_1 13 rfl rfl)
theorem dX1_looseOf_38 : decode cX1_looseOf 38 = .ok (.aload_n 0, 1) := dk_42 (dk_at dksX1_looseOf_1 16 rfl rfl)
theorem dX1_looseOf_39 : decode cX1_looseOf 39 = .ok (.getfield 17, 3) := dk_180 0 17 (dk_at dksX1_looseOf_1 17 rfl rfl)
theorem dX1_looseOf_42 : decode cX1_looseOf 42 = .ok (.iload_n 1, 1) := dk_27 (dk_at dksX1_looseOf_1 20 rfl rfl)
theorem dX1_looseOf_43 : decode cX1_looseOf 43 = .ok (.aaload, 1) := dk_50 (dk_at dksX1_looseOf_1 21 rfl rfl)
theorem dX1_looseOf_44 : decode cX1_looseOf 44 = .ok (.iload_n 2, 1) := dk_28 (dk_at dksX1_looseOf_1 22 rfl rfl)
theorem dX1_looseOf_45 : decode cX1_looseOf 45 = .ok (.aaload, 1) := dk_50 (dk_at dksX1_looseOf_1 23 rfl rfl)
theorem dX1_looseOf_46 : decode cX1_looseOf 46 = .ok (.getfield 47, 3) := dk_180 0 47 (dk_at dksX1_looseOf_2 0 rfl rfl)
theorem dX1_looseOf_49 : decode cX1_looseOf 49 = .ok (.goto 4, 3) := dk_167 0 4 (dk_at dksX1_looseOf_2 3 rfl rfl)
theorem dX1_looseOf_52 : decode cX1_looseOf 52 = .ok (.iconst 0, 1) := dk_3 (dk_at dksX1_looseOf_2 6 rfl rfl)
theorem dX1_looseOf_53 : decode cX1_looseOf 53 = .ok (.iadd, 1) := dk_96 (dk_at dksX1_looseOf_2 7 rfl rfl)
theorem dX1_looseOf_54 : decode cX1_looseOf 54 = .ok (.istore 5, 2) := dk_54 5 (dk_at dksX1_looseOf_2 8 rfl rfl)
theorem dX1_looseOf_56 : decode cX1_looseOf 56 = .ok (.iconst 1, 1) := dk_4 (dk_at dksX1_looseOf_2 10 rfl rfl)
theorem dX1_looseOf_57 : decode cX1_looseOf 57 = .ok (.bipush 95, 2) := dk_16 95 (dk_at dksX1_looseOf_2 11 rfl rfl)
theorem dX1_looseOf_59 : decode cX1_looseOf 59 = .ok (.iload 5, 2) := dk_21 5 (dk_at dksX1_looseOf_2 13 rfl rfl)
theorem dX1_looseOf_61 : decode cX1_looseOf 61 = .ok (.invokestatic 72, 3) := dk_184 0 72 (dk_at dksX1_looseOf_2 15 rfl rfl)
theorem dX1_looseOf_64 : decode cX1_looseOf 64 = .ok (.invokestatic 78, 3) := dk_184 0 78 (dk_at dksX1_looseOf_2 18 rfl rfl)
theorem dX1_looseOf_67 : decode cX1_looseOf 67 = .ok (.ireturn, 1) := dk_172 (dk_at dksX1_looseOf_2 21 rfl rfl)
abbrev cX1_strong : ByteArray := prog_2_method_13_code
def yX1_strong : MethodName := ⟨RX1, "strong", "()I"⟩
def dkwX1_strong_1 : List UInt8 := [42, 182, 0, 135, 104, 27, 108, 172]
abbrev dktX1_strong_1 : List UInt8 := dkwX1_strong_1 ++ []
def dkwX1_strong_0 : List UInt8 := [42, 180, 0, 23, 180, 0, 44, 42, 182, 0, 135, 96, 60, 27, 154, 0, 7, 3, 167, 0, 13, 17, 3, 232]
abbrev dktX1_strong_0 : List UInt8 := dkwX1_strong_0 ++ dktX1_strong_1
theorem dksX1_strong_0 : cX1_strong.data.toList.drop 0 = dktX1_strong_0 := by decide +kernel
theorem dksX1_strong_1 : cX1_strong.data.toList.drop 24 = dktX1_strong_1 := dk_seg dksX1_strong_0 24 rfl rfl
theorem dX1_strong_0 : decode cX1_strong 0 = .ok (.aload_n 0, 1) := dk_42 (dk_at dksX1_strong_0 0 rfl rfl)
theorem dX1_strong_1 : decode cX1_strong 1 = .ok (.getfield 23, 3) := dk_180 0 23 (dk_at dksX1_strong_0 1 rfl rfl)
theorem dX1_strong_4 : decode cX1_strong 4 = .ok (.getfield 44, 3) := dk_180 0 44 (dk_at dksX1_strong_0 4 rfl rfl)
theorem dX1_strong_7 : decode cX1_strong 7 = .ok (.aload_n 0, 1) := dk_42 (dk_at dksX1_strong_0 7 rfl rfl)
theorem dX1_strong_8 : decode cX1_strong 8 = .ok (.invokevirtual 135, 3) := dk_182 0 135 (dk_at dksX1_strong_0 8 rfl rfl)
theorem dX1_strong_11 : decode cX1_strong 11 = .ok (.iadd, 1) := dk_96 (dk_at dksX1_strong_0 11 rfl rfl)
theorem dX1_strong_12 : decode cX1_strong 12 = .ok (.istore_n 1, 1) := dk_60 (dk_at dksX1_strong_0 12 rfl rfl)
theorem dX1_strong_13 : decode cX1_strong 13 = .ok (.iload_n 1, 1) := dk_27 (dk_at dksX1_strong_0 13 rfl rfl)
theorem dX1_strong_14 : decode cX1_strong 14 = .ok (.ifCond .ne 7, 3) := dk_154 0 7 (dk_at dksX1_strong_0 14 rfl rfl)
theorem dX1_strong_17 : decode cX1_strong 17 = .ok (.iconst 0, 1) := dk_3 (dk_at dksX1_strong_0 17 rfl rfl)
theorem dX1_strong_18 : decode cX1_strong 18 = .ok (.goto 13, 3) := dk_167 0 13 (dk_at dksX1_strong_0 18 rfl rfl)
theorem dX1_strong_21 : decode cX1_strong 21 = .ok (.sipush 1000, 3) := dk_17 3 232 (dk_at dksX1_strong_0 21 rfl rfl)
theorem dX1_strong_24 : decode cX1_strong 24 = .ok (.aload_n 0, 1) := dk_42 (dk_at dksX1_strong_1 0 rfl rfl)
theorem dX1_strong_25 : decode cX1_strong 25 = .ok (.invokevirtual 135, 3) := dk_182 0 135 (dk_at dksX1_strong_1 1 rfl rfl)
theorem dX1_strong_28 : decode cX1_strong 28 = .ok (.imul, 1) := dk_104 (dk_at dksX1_strong_1 4 rfl rfl)
theorem dX1_strong_29 : decode cX1_strong 29 = .ok (.iload_n 1, 1) := dk_27 (dk_at dksX1_strong_1 5 rfl rfl)
theorem dX1_strong_30 : decode cX1_strong 30 = .ok (.idiv, 1) := dk_108 (dk_at dksX1_strong_1 6 rfl rfl)
theorem dX1_strong_31 : decode cX1_strong 31 = .ok (.ireturn, 1) := dk_172 (dk_at dksX1_strong_1 7 rfl rfl)
abbrev cX1_inCup : ByteArray := prog_2_method_12_code
def yX1_inCup : MethodName := ⟨RX1, "inCup", "()I"⟩
def dkwX1_inCup_1 : List UInt8 := [96, 42, 180, 0, 23, 180, 0, 50, 5, 50, 180, 0, 63, 96, 172]
abbrev dktX1_inCup_1 : List UInt8 := dkwX1_inCup_1 ++ []
def dkwX1_inCup_0 : List UInt8 := [42, 180, 0, 23, 180, 0, 50, 3, 50, 180, 0, 63, 42, 180, 0, 23, 180, 0, 50, 4, 50, 180, 0, 63]
abbrev dktX1_inCup_0 : List UInt8 := dkwX1_inCup_0 ++ dktX1_inCup_1
theorem dksX1_inCup_0 : cX1_inCup.data.toList.drop 0 = dktX1_inCup_0 := by decide +kernel
theorem dksX1_inCup_1 : cX1_inCup.data.toList.drop 24 = dktX1_inCup_1 := dk_seg dksX1_inCup_0 24 rfl rfl
theorem dX1_inCup_0 : decode cX1_inCup 0 = .ok (.aload_n 0, 1) := dk_42 (dk_at dksX1_inCup_0 0 rfl rfl)
theorem dX1_inCup_1 : decode cX1_inCup 1 = .ok (.getfield 23, 3) := dk_180 0 23 (dk_at dksX1_inCup_0 1 rfl rfl)
theorem dX1_inCup_4 : decode cX1_inCup 4 = .ok (.getfield 50, 3) := dk_180 0 50 (dk_at dksX1_inCup_0 4 rfl rfl)
theorem dX1_inCup_7 : decode cX1_inCup 7 = .ok (.iconst 0, 1) := dk_3 (dk_at dksX1_inCup_0 7 rfl rfl)
theorem dX1_inCup_8 : decode cX1_inCup 8 = .ok (.aaload, 1) := dk_50 (dk_at dksX1_inCup_0 8 rfl rfl)
theorem dX1_inCup_9 : decode cX1_inCup 9 = .ok (.getfield 63, 3) := dk_180 0 63 (dk_at dksX1_inCup_0 9 rfl rfl)
theorem dX1_inCup_12 : decode cX1_inCup 12 = .ok (.aload_n 0, 1) := dk_42 (dk_at dksX1_inCup_0 12 rfl rfl)
theorem dX1_inCup_13 : decode cX1_inCup 13 = .ok (.getfield 23, 3) := dk_180 0 23 (dk_at dksX1_inCup_0 13 rfl rfl)
theorem dX1_inCup_16 : decode cX1_inCup 16 = .ok (.getfield 50, 3) := dk_180 0 50 (dk_at dksX1_inCup_0 16 rfl rfl)
theorem dX1_inCup_19 : decode cX1_inCup 19 = .ok (.iconst 1, 1) := dk_4 (dk_at dksX1_inCup_0 19 rfl rfl)
theorem dX1_inCup_20 : decode cX1_inCup 20 = .ok (.aaload, 1) := dk_50 (dk_at dksX1_inCup_0 20 rfl rfl)
theorem dX1_inCup_21 : decode cX1_inCup 21 = .ok (.getfield 63, 3) := dk_180 0 63 (dk_at dksX1_inCup_0 21 rfl rfl)
theorem dX1_inCup_24 : decode cX1_inCup 24 = .ok (.iadd, 1) := dk_96 (dk_at dksX1_inCup_1 0 rfl rfl)
theorem dX1_inCup_25 : decode cX1_inCup 25 = .ok (.aload_n 0, 1) := dk_42 (dk_at dksX1_inCup_1 1 rfl rfl)
theorem dX1_inCup_26 : decode cX1_inCup 26 = .ok (.getfield 23, 3) := dk_180 0 23 (dk_at dksX1_inCup_1 2 rfl rfl)
theorem dX1_inCup_29 : decode cX1_inCup 29 = .ok (.getfield 50, 3) := dk_180 0 50 (dk_at dksX1_inCup_1 5 rfl rfl)
theorem dX1_inCup_32 : decode cX1_inCup 32 = .ok (.iconst 2, 1) := dk_5 (dk_at dksX1_inCup_1 8 rfl rfl)
theorem dX1_inCup_33 : decode cX1_inCup 33 = .ok (.aaload, 1) := dk_50 (dk_at dksX1_inCup_1 9 rfl rfl)
theorem dX1_inCup_34 : decode cX1_inCup 34 = .ok (.getfield 63, 3) := dk_180 0 63 (dk_at dksX1_inCup_1 10 rfl rfl)
theorem dX1_inCup_37 : decode cX1_inCup 37 = .ok (.iadd, 1) := dk_96 (dk_at dksX1_inCup_1 13 rfl rfl)
theorem dX1_inCup_38 : decode cX1_inCup 38 = .ok (.ireturn, 1) := dk_172 (dk_at dksX1_inCup_1 14 rfl rfl)
abbrev cX1_out : ByteArray := prog_2_method_15_code
def yX1_out : MethodName := ⟨RX1, "out", "(I)I"⟩
def dkwX1_out_1 : List UInt8 := [17, 3, 232, 42, 182, 0, 135, 104, 28, 108, 172]
abbrev dktX1_out_1 : List UInt8 := dkwX1_out_1 ++ []
def dkwX1_out_0 : List UInt8 := [42, 27, 182, 0, 139, 42, 180, 0, 3, 180, 0, 92, 104, 61, 28, 154, 0, 7, 3, 167, 0, 13]
abbrev dktX1_out_0 : List UInt8 := dkwX1_out_0 ++ dktX1_out_1
theorem dksX1_out_0 : cX1_out.data.toList.drop 0 = dktX1_out_0 := by decide +kernel
theorem dksX1_out_1 : cX1_out.data.toList.drop 22 = dktX1_out_1 := dk_seg dksX1_out_0 22 rfl rfl
theorem dX1_out_0 : decode cX1_out 0 = .ok (.aload_n 0, 1) := dk_42 (dk_at dksX1_out_0 0 rfl rfl)
theorem dX1_out_1 : decode cX1_out 1 = .ok (.iload_n 1, 1) := dk_27 (dk_at dksX1_out_0 1 rfl rfl)
theorem dX1_out_2 : decode cX1_out 2 = .ok (.invokevirtual 139, 3) := dk_182 0 139 (dk_at dksX1_out_0 2 rfl rfl)
theorem dX1_out_5 : decode cX1_out 5 = .ok (.aload_n 0, 1) := dk_42 (dk_at dksX1_out_0 5 rfl rfl)
theorem dX1_out_6 : decode cX1_out 6 = .ok (.getfield 3, 3) := dk_180 0 3 (dk_at dksX1_out_0 6 rfl rfl)
theorem dX1_out_9 : decode cX1_out 9 = .ok (.getfield 92, 3) := dk_180 0 92 (dk_at dksX1_out_0 9 rfl rfl)
theorem dX1_out_12 : decode cX1_out 12 = .ok (.imul, 1) := dk_104 (dk_at dksX1_out_0 12 rfl rfl)
theorem dX1_out_13 : decode cX1_out 13 = .ok (.istore_n 2, 1) := dk_61 (dk_at dksX1_out_0 13 rfl rfl)
theorem dX1_out_14 : decode cX1_out 14 = .ok (.iload_n 2, 1) := dk_28 (dk_at dksX1_out_0 14 rfl rfl)
theorem dX1_out_15 : decode cX1_out 15 = .ok (.ifCond .ne 7, 3) := dk_154 0 7 (dk_at dksX1_out_0 15 rfl rfl)
theorem dX1_out_18 : decode cX1_out 18 = .ok (.iconst 0, 1) := dk_3 (dk_at dksX1_out_0 18 rfl rfl)
theorem dX1_out_19 : decode cX1_out 19 = .ok (.goto 13, 3) := dk_167 0 13 (dk_at dksX1_out_0 19 rfl rfl)
theorem dX1_out_22 : decode cX1_out 22 = .ok (.sipush 1000, 3) := dk_17 3 232 (dk_at dksX1_out_1 0 rfl rfl)
theorem dX1_out_25 : decode cX1_out 25 = .ok (.aload_n 0, 1) := dk_42 (dk_at dksX1_out_1 3 rfl rfl)
theorem dX1_out_26 : decode cX1_out 26 = .ok (.invokevirtual 135, 3) := dk_182 0 135 (dk_at dksX1_out_1 4 rfl rfl)
theorem dX1_out_29 : decode cX1_out 29 = .ok (.imul, 1) := dk_104 (dk_at dksX1_out_1 7 rfl rfl)
theorem dX1_out_30 : decode cX1_out 30 = .ok (.iload_n 2, 1) := dk_28 (dk_at dksX1_out_1 8 rfl rfl)
theorem dX1_out_31 : decode cX1_out 31 = .ok (.idiv, 1) := dk_108 (dk_at dksX1_out_1 9 rfl rfl)
theorem dX1_out_32 : decode cX1_out 32 = .ok (.ireturn, 1) := dk_172 (dk_at dksX1_out_1 10 rfl rfl)
abbrev cX1_ofRing : ByteArray := prog_2_method_14_code
def yX1_ofRing : MethodName := ⟨RX1, "ofRing", "(I)I"⟩
def dkwX1_ofRing_1 : List UInt8 := [180, 0, 54, 5, 46, 96, 27, 104, 42, 180, 0, 3, 180, 0, 95, 104, 172]
abbrev dktX1_ofRing_1 : List UInt8 := dkwX1_ofRing_1 ++ []
def dkwX1_ofRing_0 : List UInt8 := [42, 180, 0, 3, 180, 0, 54, 3, 46, 42, 180, 0, 3, 180, 0, 54, 4, 46, 96, 42, 180, 0, 3]
abbrev dktX1_ofRing_0 : List UInt8 := dkwX1_ofRing_0 ++ dktX1_ofRing_1
theorem dksX1_ofRing_0 : cX1_ofRing.data.toList.drop 0 = dktX1_ofRing_0 := by decide +kernel
theorem dksX1_ofRing_1 : cX1_ofRing.data.toList.drop 23 = dktX1_ofRing_1 := dk_seg dksX1_ofRing_0 23 rfl rfl
theorem dX1_ofRing_0 : decode cX1_ofRing 0 = .ok (.aload_n 0, 1) := dk_42 (dk_at dksX1_ofRing_0 0 rfl rfl)
theorem dX1_ofRing_1 : decode cX1_ofRing 1 = .ok (.getfield 3, 3) := dk_180 0 3 (dk_at dksX1_ofRing_0 1 rfl rfl)
theorem dX1_ofRing_4 : decode cX1_ofRing 4 = .ok (.getfield 54, 3) := dk_180 0 54 (dk_at dksX1_ofRing_0 4 rfl rfl)
theorem dX1_ofRing_7 : decode cX1_ofRing 7 = .ok (.iconst 0, 1) := dk_3 (dk_at dksX1_ofRing_0 7 rfl rfl)
theorem dX1_ofRing_8 : decode cX1_ofRing 8 = .ok (.iaload, 1) := dk_46 (dk_at dksX1_ofRing_0 8 rfl rfl)
theorem dX1_ofRing_9 : decode cX1_ofRing 9 = .ok (.aload_n 0, 1) := dk_42 (dk_at dksX1_ofRing_0 9 rfl rfl)
theorem dX1_ofRing_10 : decode cX1_ofRing 10 = .ok (.getfield 3, 3) := dk_180 0 3 (dk_at dksX1_ofRing_0 10 rfl rfl)
theorem dX1_ofRing_13 : decode cX1_ofRing 13 = .ok (.getfield 54, 3) := dk_180 0 54 (dk_at dksX1_ofRing_0 13 rfl rfl)
theorem dX1_ofRing_16 : decode cX1_ofRing 16 = .ok (.iconst 1, 1) := dk_4 (dk_at dksX1_ofRing_0 16 rfl rfl)
theorem dX1_ofRing_17 : decode cX1_ofRing 17 = .ok (.iaload, 1) := dk_46 (dk_at dksX1_ofRing_0 17 rfl rfl)
theorem dX1_ofRing_18 : decode cX1_ofRing 18 = .ok (.iadd, 1) := dk_96 (dk_at dksX1_ofRing_0 18 rfl rfl)
theorem dX1_ofRing_19 : decode cX1_ofRing 19 = .ok (.aload_n 0, 1) := dk_42 (dk_at dksX1_ofRing_0 19 rfl rfl)
theorem dX1_ofRing_20 : decode cX1_ofRing 20 = .ok (.getfield 3, 3) := dk_180 0 3 (dk_at dksX1_ofRing_0 20 rfl rfl)
theorem dX1_ofRing_23 : decode cX1_ofRing 23 = .ok (.getfield 54, 3) := dk_180 0 54 (dk_at dksX1_ofRing_1 0 rfl rfl)
theorem dX1_ofRing_26 : decode cX1_ofRing 26 = .ok (.iconst 2, 1) := dk_5 (dk_at dksX1_ofRing_1 3 rfl rfl)
theorem dX1_ofRing_27 : decode cX1_ofRing 27 = .ok (.iaload, 1) := dk_46 (dk_at dksX1_ofRing_1 4 rfl rfl)
theorem dX1_ofRing_28 : decode cX1_ofRing 28 = .ok (.iadd, 1) := dk_96 (dk_at dksX1_ofRing_1 5 rfl rfl)
theorem dX1_ofRing_29 : decode cX1_ofRing 29 = .ok (.iload_n 1, 1) := dk_27 (dk_at dksX1_ofRing_1 6 rfl rfl)
theorem dX1_ofRing_30 : decode cX1_ofRing 30 = .ok (.imul, 1) := dk_104 (dk_at dksX1_ofRing_1 7 rfl rfl)
theorem dX1_ofRing_31 : decode cX1_ofRing 31 = .ok (.aload_n 0, 1) := dk_42 (dk_at dksX1_ofRing_1 8 rfl rfl)
theorem dX1_ofRing_32 : decode cX1_ofRing 32 = .ok (.getfield 3, 3) := dk_180 0 3 (dk_at dksX1_ofRing_1 9 rfl rfl)
theorem dX1_ofRing_35 : decode cX1_ofRing 35 = .ok (.getfield 95, 3) := dk_180 0 95 (dk_at dksX1_ofRing_1 12 rfl rfl)
theorem dX1_ofRing_38 : decode cX1_ofRing 38 = .ok (.imul, 1) := dk_104 (dk_at dksX1_ofRing_1 15 rfl rfl)
theorem dX1_ofRing_39 : decode cX1_ofRing 39 = .ok (.ireturn, 1) := dk_172 (dk_at dksX1_ofRing_1 16 rfl rfl)
abbrev cX1_uneven : ByteArray := prog_2_method_17_code
def yX1_uneven : MethodName := ⟨RX1, "uneven", "(I)I"⟩
def dkwX1_uneven_3 : List UInt8 := [132, 5, 1, 167, 255, 201, 21, 4, 29, 100, 172]
abbrev dktX1_uneven_3 : List UInt8 := dkwX1_uneven_3 ++ []
def dkwX1_uneven_2 : List UInt8 := [100, 104, 28, 108, 54, 6, 29, 21, 6, 184, 0, 72, 62, 21, 4, 21, 6, 184, 0, 78, 54, 4]
abbrev dktX1_uneven_2 : List UInt8 := dkwX1_uneven_2 ++ dktX1_uneven_3
def dkwX1_uneven_1 : List UInt8 := [180, 0, 92, 162, 0, 49, 28, 154, 0, 7, 3, 167, 0, 17, 17, 3, 232, 28, 42, 21, 5, 182, 0, 143]
abbrev dktX1_uneven_1 : List UInt8 := dkwX1_uneven_1 ++ dktX1_uneven_2
def dkwX1_uneven_0 : List UInt8 := [42, 27, 182, 0, 139, 61, 17, 3, 232, 62, 3, 54, 4, 3, 54, 5, 21, 5, 42, 180, 0, 3]
abbrev dktX1_uneven_0 : List UInt8 := dkwX1_uneven_0 ++ dktX1_uneven_1
theorem dksX1_uneven_0 : cX1_uneven.data.toList.drop 0 = dktX1_uneven_0 := by decide +kernel
theorem dksX1_uneven_1 : cX1_uneven.data.toList.drop 22 = dktX1_uneven_1 := dk_seg dksX1_uneven_0 22 rfl rfl
theorem dksX1_uneven_2 : cX1_uneven.data.toList.drop 46 = dktX1_uneven_2 := dk_seg dksX1_uneven_1 24 rfl rfl
theorem dksX1_uneven_3 : cX1_uneven.data.toList.drop 68 = dktX1_uneven_3 := dk_seg dksX1_uneven_2 22 rfl rfl
theorem dX1_uneven_0 : decode cX1_uneven 0 = .ok (.aload_n 0, 1) := dk_42 (dk_at dksX1_uneven_0 0 rfl rfl)
theorem dX1_uneven_1 : decode cX1_uneven 1 = .ok (.iload_n 1, 1) := dk_27 (dk_at dksX1_uneven_0 1 rfl rfl)
theorem dX1_uneven_2 : decode cX1_uneven 2 = .ok (.invokevirtual 139, 3) := dk_182 0 139 (dk_at dksX1_uneven_0 2 rfl rfl)
theorem dX1_uneven_5 : decode cX1_uneven 5 = .ok (.istore_n 2, 1) := dk_61 (dk_at dksX1_uneven_0 5 rfl rfl)
theorem dX1_uneven_6 : decode cX1_uneven 6 = .ok (.sipush 1000, 3) := dk_17 3 232 (dk_at dksX1_uneven_0 6 rfl rfl)
theorem dX1_uneven_9 : decode cX1_uneven 9 = .ok (.istore_n 3, 1) := dk_62 (dk_at dksX1_uneven_0 9 rfl rfl)
theorem dX1_uneven_10 : decode cX1_uneven 10 = .ok (.iconst 0, 1) := dk_3 (dk_at dksX1_uneven_0 10 rfl rfl)
theorem dX1_uneven_11 : decode cX1_uneven 11 = .ok (.istore 4, 2) := dk_54 4 (dk_at dksX1_uneven_0 11 rfl rfl)
theorem dX1_uneven_13 : decode cX1_uneven 13 = .ok (.iconst 0, 1) := dk_3 (dk_at dksX1_uneven_0 13 rfl rfl)
theorem dX1_uneven_14 : decode cX1_uneven 14 = .ok (.istore 5, 2) := dk_54 5 (dk_at dksX1_uneven_0 14 rfl rfl)
theorem dX1_uneven_16 : decode cX1_uneven 16 = .ok (.iload 5, 2) := dk_21 5 (dk_at dksX1_uneven_0 16 rfl rfl)
theorem dX1_uneven_18 : decode cX1_uneven 18 = .ok (.aload_n 0, 1) := dk_42 (dk_at dksX1_uneven_0 18 rfl rfl)
theorem dX1_uneven_19 : decode cX1_uneven 19 = .ok (.getfield 3, 3) := dk_180 0 3 (dk_at dksX1_uneven_0 19 rfl rfl)
theorem dX1_uneven_22 : decode cX1_uneven 22 = .ok (.getfield 92, 3) := dk_180 0 92 (dk_at dksX1_uneven_1 0 rfl rfl)
theorem dX1_uneven_25 : decode cX1_uneven 25 = .ok (.if_icmp .ge 49, 3) := dk_162 0 49 (dk_at dksX1_uneven_1 3 rfl rfl)
theorem dX1_uneven_28 : decode cX1_uneven 28 = .ok (.iload_n 2, 1) := dk_28 (dk_at dksX1_uneven_1 6 rfl rfl)
theorem dX1_uneven_29 : decode cX1_uneven 29 = .ok (.ifCond .ne 7, 3) := dk_154 0 7 (dk_at dksX1_uneven_1 7 rfl rfl)
theorem dX1_uneven_32 : decode cX1_uneven 32 = .ok (.iconst 0, 1) := dk_3 (dk_at dksX1_uneven_1 10 rfl rfl)
theorem dX1_uneven_33 : decode cX1_uneven 33 = .ok (.goto 17, 3) := dk_167 0 17 (dk_at dksX1_uneven_1 11 rfl rfl)
theorem dX1_uneven_36 : decode cX1_uneven 36 = .ok (.sipush 1000, 3) := dk_17 3 232 (dk_at dksX1_uneven_1 14 rfl rfl)
theorem dX1_uneven_39 : decode cX1_uneven 39 = .ok (.iload_n 2, 1) := dk_28 (dk_at dksX1_uneven_1 17 rfl rfl)
theorem dX1_uneven_40 : decode cX1_uneven 40 = .ok (.aload_n 0, 1) := dk_42 (dk_at dksX1_uneven_1 18 rfl rfl)
theorem dX1_uneven_41 : decode cX1_uneven 41 = .ok (.iload 5, 2) := dk_21 5 (dk_at dksX1_uneven_1 19 rfl rfl)
theorem dX1_uneven_43 : decode cX1_uneven 43 = .ok (.invokevirtual 143, 3) := dk_182 0 143 (dk_at dksX1_uneven_1 21 rfl rfl)
theorem dX1_uneven_46 : decode cX1_uneven 46 = .ok (.isub, 1) := dk_100 (dk_at dksX1_uneven_2 0 rfl rfl)
theorem dX1_uneven_47 : decode cX1_uneven 47 = .ok (.imul, 1) := dk_104 (dk_at dksX1_uneven_2 1 rfl rfl)
theorem dX1_uneven_48 : decode cX1_uneven 48 = .ok (.iload_n 2, 1) := dk_28 (dk_at dksX1_uneven_2 2 rfl rfl)
theorem dX1_uneven_49 : decode cX1_uneven 49 = .ok (.idiv, 1) := dk_108 (dk_at dksX1_uneven_2 3 rfl rfl)
theorem dX1_uneven_50 : decode cX1_uneven 50 = .ok (.istore 6, 2) := dk_54 6 (dk_at dksX1_uneven_2 4 rfl rfl)
theorem dX1_uneven_52 : decode cX1_uneven 52 = .ok (.iload_n 3, 1) := dk_29 (dk_at dksX1_uneven_2 6 rfl rfl)
theorem dX1_uneven_53 : decode cX1_uneven 53 = .ok (.iload 6, 2) := dk_21 6 (dk_at dksX1_uneven_2 7 rfl rfl)
theorem dX1_uneven_55 : decode cX1_uneven 55 = .ok (.invokestatic 72, 3) := dk_184 0 72 (dk_at dksX1_uneven_2 9 rfl rfl)
theorem dX1_uneven_58 : decode cX1_uneven 58 = .ok (.istore_n 3, 1) := dk_62 (dk_at dksX1_uneven_2 12 rfl rfl)
theorem dX1_uneven_59 : decode cX1_uneven 59 = .ok (.iload 4, 2) := dk_21 4 (dk_at dksX1_uneven_2 13 rfl rfl)
theorem dX1_uneven_61 : decode cX1_uneven 61 = .ok (.iload 6, 2) := dk_21 6 (dk_at dksX1_uneven_2 15 rfl rfl)
theorem dX1_uneven_63 : decode cX1_uneven 63 = .ok (.invokestatic 78, 3) := dk_184 0 78 (dk_at dksX1_uneven_2 17 rfl rfl)
theorem dX1_uneven_66 : decode cX1_uneven 66 = .ok (.istore 4, 2) := dk_54 4 (dk_at dksX1_uneven_2 20 rfl rfl)
theorem dX1_uneven_68 : decode cX1_uneven 68 = .ok (.iinc 5 1, 3) := dk_132 5 1 (dk_at dksX1_uneven_3 0 rfl rfl)
theorem dX1_uneven_71 : decode cX1_uneven 71 = .ok (.goto (-55), 3) := dk_167 255 201 (dk_at dksX1_uneven_3 3 rfl rfl)
theorem dX1_uneven_74 : decode cX1_uneven 74 = .ok (.iload 4, 2) := dk_21 4 (dk_at dksX1_uneven_3 6 rfl rfl)
theorem dX1_uneven_76 : decode cX1_uneven 76 = .ok (.iload_n 3, 1) := dk_29 (dk_at dksX1_uneven_3 8 rfl rfl)
theorem dX1_uneven_77 : decode cX1_uneven 77 = .ok (.isub, 1) := dk_100 (dk_at dksX1_uneven_3 9 rfl rfl)
theorem dX1_uneven_78 : decode cX1_uneven 78 = .ok (.ireturn, 1) := dk_172 (dk_at dksX1_uneven_3 10 rfl rfl)
abbrev cX1_leftIn : ByteArray := prog_2_method_16_code
def yX1_leftIn : MethodName := ⟨RX1, "leftIn", "(I)I"⟩
def dkwX1_leftIn_2 : List UInt8 := [167, 255, 227, 132, 3, 1, 167, 255, 207, 28, 172]
abbrev dktX1_leftIn_2 : List UInt8 := dkwX1_leftIn_2 ++ []
def dkwX1_leftIn_1 : List UInt8 := [28, 42, 180, 0, 17, 27, 50, 29, 50, 180, 0, 50, 21, 4, 50, 180, 0, 58, 96, 61, 132, 4, 1]
abbrev dktX1_leftIn_1 : List UInt8 := dkwX1_leftIn_1 ++ dktX1_leftIn_2
def dkwX1_leftIn_0 : List UInt8 := [3, 61, 3, 62, 29, 42, 180, 0, 3, 180, 0, 95, 162, 0, 44, 3, 54, 4, 21, 4, 6, 162, 0, 29]
abbrev dktX1_leftIn_0 : List UInt8 := dkwX1_leftIn_0 ++ dktX1_leftIn_1
theorem dksX1_leftIn_0 : cX1_leftIn.data.toList.drop 0 = dktX1_leftIn_0 := by decide +kernel
theorem dksX1_leftIn_1 : cX1_leftIn.data.toList.drop 24 = dktX1_leftIn_1 := dk_seg dksX1_leftIn_0 24 rfl rfl
theorem dksX1_leftIn_2 : cX1_leftIn.data.toList.drop 47 = dktX1_leftIn_2 := dk_seg dksX1_leftIn_1 23 rfl rfl
theorem dX1_leftIn_0 : decode cX1_leftIn 0 = .ok (.iconst 0, 1) := dk_3 (dk_at dksX1_leftIn_0 0 rfl rfl)
theorem dX1_leftIn_1 : decode cX1_leftIn 1 = .ok (.istore_n 2, 1) := dk_61 (dk_at dksX1_leftIn_0 1 rfl rfl)
theorem dX1_leftIn_2 : decode cX1_leftIn 2 = .ok (.iconst 0, 1) := dk_3 (dk_at dksX1_leftIn_0 2 rfl rfl)
theorem dX1_leftIn_3 : decode cX1_leftIn 3 = .ok (.istore_n 3, 1) := dk_62 (dk_at dksX1_leftIn_0 3 rfl rfl)
theorem dX1_leftIn_4 : decode cX1_leftIn 4 = .ok (.iload_n 3, 1) := dk_29 (dk_at dksX1_leftIn_0 4 rfl rfl)
theorem dX1_leftIn_5 : decode cX1_leftIn 5 = .ok (.aload_n 0, 1) := dk_42 (dk_at dksX1_leftIn_0 5 rfl rfl)
theorem dX1_leftIn_6 : decode cX1_leftIn 6 = .ok (.getfield 3, 3) := dk_180 0 3 (dk_at dksX1_leftIn_0 6 rfl rfl)
theorem dX1_leftIn_9 : decode cX1_leftIn 9 = .ok (.getfield 95, 3) := dk_180 0 95 (dk_at dksX1_leftIn_0 9 rfl rfl)
theorem dX1_leftIn_12 : decode cX1_leftIn 12 = .ok (.if_icmp .ge 44, 3) := dk_162 0 44 (dk_at dksX1_leftIn_0 12 rfl rfl)
theorem dX1_leftIn_15 : decode cX1_leftIn 15 = .ok (.iconst 0, 1) := dk_3 (dk_at dksX1_leftIn_0 15 rfl rfl)
theorem dX1_leftIn_16 : decode cX1_leftIn 16 = .ok (.istore 4, 2) := dk_54 4 (dk_at dksX1_leftIn_0 16 rfl rfl)
theorem dX1_leftIn_18 : decode cX1_leftIn 18 = .ok (.iload 4, 2) := dk_21 4 (dk_at dksX1_leftIn_0 18 rfl rfl)
theorem dX1_leftIn_20 : decode cX1_leftIn 20 = .ok (.iconst 3, 1) := dk_6 (dk_at dksX1_leftIn_0 20 rfl rfl)
theorem dX1_leftIn_21 : decode cX1_leftIn 21 = .ok (.if_icmp .ge 29, 3) := dk_162 0 29 (dk_at dksX1_leftIn_0 21 rfl rfl)
theorem dX1_leftIn_24 : decode cX1_leftIn 24 = .ok (.iload_n 2, 1) := dk_28 (dk_at dksX1_leftIn_1 0 rfl rfl)
theorem dX1_leftIn_25 : decode cX1_leftIn 25 = .ok (.aload_n 0, 1) := dk_42 (dk_at dksX1_leftIn_1 1 rfl rfl)
theorem dX1_leftIn_26 : decode cX1_leftIn 26 = .ok (.getfield 17, 3) := dk_180 0 17 (dk_at dksX1_leftIn_1 2 rfl rfl)
theorem dX1_leftIn_29 : decode cX1_leftIn 29 = .ok (.iload_n 1, 1) := dk_27 (dk_at dksX1_leftIn_1 5 rfl rfl)
theorem dX1_leftIn_30 : decode cX1_leftIn 30 = .ok (.aaload, 1) := dk_50 (dk_at dksX1_leftIn_1 6 rfl rfl)
theorem dX1_leftIn_31 : decode cX1_leftIn 31 = .ok (.iload_n 3, 1) := dk_29 (dk_at dksX1_leftIn_1 7 rfl rfl)
theorem dX1_leftIn_32 : decode cX1_leftIn 32 = .ok (.aaload, 1) := dk_50 (dk_at dksX1_leftIn_1 8 rfl rfl)
theorem dX1_leftIn_33 : decode cX1_leftIn 33 = .ok (.getfield 50, 3) := dk_180 0 50 (dk_at dksX1_leftIn_1 9 rfl rfl)
theorem dX1_leftIn_36 : decode cX1_leftIn 36 = .ok (.iload 4, 2) := dk_21 4 (dk_at dksX1_leftIn_1 12 rfl rfl)
theorem dX1_leftIn_38 : decode cX1_leftIn 38 = .ok (.aaload, 1) := dk_50 (dk_at dksX1_leftIn_1 14 rfl rfl)
theorem dX1_leftIn_39 : decode cX1_leftIn 39 = .ok (.getfield 58, 3) := dk_180 0 58 (dk_at dksX1_leftIn_1 15 rfl rfl)
theorem dX1_leftIn_42 : decode cX1_leftIn 42 = .ok (.iadd, 1) := dk_96 (dk_at dksX1_leftIn_1 18 rfl rfl)
theorem dX1_leftIn_43 : decode cX1_leftIn 43 = .ok (.istore_n 2, 1) := dk_61 (dk_at dksX1_leftIn_1 19 rfl rfl)
theorem dX1_leftIn_44 : decode cX1_leftIn 44 = .ok (.iinc 4 1, 3) := dk_132 4 1 (dk_at dksX1_leftIn_1 20 rfl rfl)
theorem dX1_leftIn_47 : decode cX1_leftIn 47 = .ok (.goto (-29), 3) := dk_167 255 227 (dk_at dksX1_leftIn_2 0 rfl rfl)
theorem dX1_leftIn_50 : decode cX1_leftIn 50 = .ok (.iinc 3 1, 3) := dk_132 3 1 (dk_at dksX1_leftIn_2 3 rfl rfl)
theorem dX1_leftIn_53 : decode cX1_leftIn 53 = .ok (.goto (-49), 3) := dk_167 255 207 (dk_at dksX1_leftIn_2 6 rfl rfl)
theorem dX1_leftIn_56 : decode cX1_leftIn 56 = .ok (.iload_n 2, 1) := dk_28 (dk_at dksX1_leftIn_2 9 rfl rfl)
theorem dX1_leftIn_57 : decode cX1_leftIn 57 = .ok (.ireturn, 1) := dk_172 (dk_at dksX1_leftIn_2 10 rfl rfl)
abbrev cX1_copy : ByteArray := prog_2_method_2_code
def yX1_copy : MethodName := ⟨RX1, "copy", "(LWaterGrounds$Bed;)V"⟩
def dkwX1_copy_2 : List UInt8 := [180, 0, 23, 43, 180, 0, 23, 182, 0, 32, 42, 43, 180, 0, 36, 181, 0, 36, 177]
abbrev dktX1_copy_2 : List UInt8 := dkwX1_copy_2 ++ []
def dkwX1_copy_1 : List UInt8 := [180, 0, 17, 28, 50, 29, 50, 182, 0, 32, 132, 3, 1, 167, 255, 229, 132, 2, 1, 167, 255, 216, 42]
abbrev dktX1_copy_1 : List UInt8 := dkwX1_copy_1 ++ dktX1_copy_2
def dkwX1_copy_0 : List UInt8 := [3, 61, 28, 7, 162, 0, 41, 3, 62, 29, 7, 162, 0, 28, 42, 180, 0, 17, 28, 50, 29, 50, 43]
abbrev dktX1_copy_0 : List UInt8 := dkwX1_copy_0 ++ dktX1_copy_1
theorem dksX1_copy_0 : cX1_copy.data.toList.drop 0 = dktX1_copy_0 := by decide +kernel
theorem dksX1_copy_1 : cX1_copy.data.toList.drop 23 = dktX1_copy_1 := dk_seg dksX1_copy_0 23 rfl rfl
theorem dksX1_copy_2 : cX1_copy.data.toList.drop 46 = dktX1_copy_2 := dk_seg dksX1_copy_1 23 rfl rfl
theorem dX1_copy_0 : decode cX1_copy 0 = .ok (.iconst 0, 1) := dk_3 (dk_at dksX1_copy_0 0 rfl rfl)
theorem dX1_copy_1 : decode cX1_copy 1 = .ok (.istore_n 2, 1) := dk_61 (dk_at dksX1_copy_0 1 rfl rfl)
theorem dX1_copy_2 : decode cX1_copy 2 = .ok (.iload_n 2, 1) := dk_28 (dk_at dksX1_copy_0 2 rfl rfl)
theorem dX1_copy_3 : decode cX1_copy 3 = .ok (.iconst 4, 1) := dk_7 (dk_at dksX1_copy_0 3 rfl rfl)
theorem dX1_copy_4 : decode cX1_copy 4 = .ok (.if_icmp .ge 41, 3) := dk_162 0 41 (dk_at dksX1_copy_0 4 rfl rfl)
theorem dX1_copy_7 : decode cX1_copy 7 = .ok (.iconst 0, 1) := dk_3 (dk_at dksX1_copy_0 7 rfl rfl)
theorem dX1_copy_8 : decode cX1_copy 8 = .ok (.istore_n 3, 1) := dk_62 (dk_at dksX1_copy_0 8 rfl rfl)
theorem dX1_copy_9 : decode cX1_copy 9 = .ok (.iload_n 3, 1) := dk_29 (dk_at dksX1_copy_0 9 rfl rfl)
theorem dX1_copy_10 : decode cX1_copy 10 = .ok (.iconst 4, 1) := dk_7 (dk_at dksX1_copy_0 10 rfl rfl)
theorem dX1_copy_11 : decode cX1_copy 11 = .ok (.if_icmp .ge 28, 3) := dk_162 0 28 (dk_at dksX1_copy_0 11 rfl rfl)
theorem dX1_copy_14 : decode cX1_copy 14 = .ok (.aload_n 0, 1) := dk_42 (dk_at dksX1_copy_0 14 rfl rfl)
theorem dX1_copy_15 : decode cX1_copy 15 = .ok (.getfield 17, 3) := dk_180 0 17 (dk_at dksX1_copy_0 15 rfl rfl)
theorem dX1_copy_18 : decode cX1_copy 18 = .ok (.iload_n 2, 1) := dk_28 (dk_at dksX1_copy_0 18 rfl rfl)
theorem dX1_copy_19 : decode cX1_copy 19 = .ok (.aaload, 1) := dk_50 (dk_at dksX1_copy_0 19 rfl rfl)
theorem dX1_copy_20 : decode cX1_copy 20 = .ok (.iload_n 3, 1) := dk_29 (dk_at dksX1_copy_0 20 rfl rfl)
theorem dX1_copy_21 : decode cX1_copy 21 = .ok (.aaload, 1) := dk_50 (dk_at dksX1_copy_0 21 rfl rfl)
theorem dX1_copy_22 : decode cX1_copy 22 = .ok (.aload_n 1, 1) := dk_43 (dk_at dksX1_copy_0 22 rfl rfl)
theorem dX1_copy_23 : decode cX1_copy 23 = .ok (.getfield 17, 3) := dk_180 0 17 (dk_at dksX1_copy_1 0 rfl rfl)
theorem dX1_copy_26 : decode cX1_copy 26 = .ok (.iload_n 2, 1) := dk_28 (dk_at dksX1_copy_1 3 rfl rfl)
theorem dX1_copy_27 : decode cX1_copy 27 = .ok (.aaload, 1) := dk_50 (dk_at dksX1_copy_1 4 rfl rfl)
theorem dX1_copy_28 : decode cX1_copy 28 = .ok (.iload_n 3, 1) := dk_29 (dk_at dksX1_copy_1 5 rfl rfl)
theorem dX1_copy_29 : decode cX1_copy 29 = .ok (.aaload, 1) := dk_50 (dk_at dksX1_copy_1 6 rfl rfl)
theorem dX1_copy_30 : decode cX1_copy 30 = .ok (.invokevirtual 32, 3) := dk_182 0 32 (dk_at dksX1_copy_1 7 rfl rfl)
theorem dX1_copy_33 : decode cX1_copy 33 = .ok (.iinc 3 1, 3) := dk_132 3 1 (dk_at dksX1_copy_1 10 rfl rfl)
theorem dX1_copy_36 : decode cX1_copy 36 = .ok (.goto (-27), 3) := dk_167 255 229 (dk_at dksX1_copy_1 13 rfl rfl)
theorem dX1_copy_39 : decode cX1_copy 39 = .ok (.iinc 2 1, 3) := dk_132 2 1 (dk_at dksX1_copy_1 16 rfl rfl)
theorem dX1_copy_42 : decode cX1_copy 42 = .ok (.goto (-40), 3) := dk_167 255 216 (dk_at dksX1_copy_1 19 rfl rfl)
theorem dX1_copy_45 : decode cX1_copy 45 = .ok (.aload_n 0, 1) := dk_42 (dk_at dksX1_copy_1 22 rfl rfl)
theorem dX1_copy_46 : decode cX1_copy 46 = .ok (.getfield 23, 3) := dk_180 0 23 (dk_at dksX1_copy_2 0 rfl rfl)
theorem dX1_copy_49 : decode cX1_copy 49 = .ok (.aload_n 1, 1) := dk_43 (dk_at dksX1_copy_2 3 rfl rfl)
theorem dX1_copy_50 : decode cX1_copy 50 = .ok (.getfield 23, 3) := dk_180 0 23 (dk_at dksX1_copy_2 4 rfl rfl)
theorem dX1_copy_53 : decode cX1_copy 53 = .ok (.invokevirtual 32, 3) := dk_182 0 32 (dk_at dksX1_copy_2 7 rfl rfl)
theorem dX1_copy_56 : decode cX1_copy 56 = .ok (.aload_n 0, 1) := dk_42 (dk_at dksX1_copy_2 10 rfl rfl)
theorem dX1_copy_57 : decode cX1_copy 57 = .ok (.aload_n 1, 1) := dk_43 (dk_at dksX1_copy_2 11 rfl rfl)
theorem dX1_copy_58 : decode cX1_copy 58 = .ok (.getfield 36, 3) := dk_180 0 36 (dk_at dksX1_copy_2 12 rfl rfl)
theorem dX1_copy_61 : decode cX1_copy 61 = .ok (.putfield 36, 3) := dk_181 0 36 (dk_at dksX1_copy_2 15 rfl rfl)
theorem dX1_copy_64 : decode cX1_copy 64 = .ok (.return_, 1) := dk_177 (dk_at dksX1_copy_2 18 rfl rfl)
theorem q56 : (Jvm.Cond.initialized "WaterGrounds$Bed") ∈ lw_all := lw_g (lw_at lw_m1 2 rfl) rfl
theorem q91 : (Jvm.Cond.instantiable "WaterGrounds$Bed" (5 : Nat)) ∈ lw_all := lw_g (lw_at lw_m1 37 rfl) rfl
theorem q93 : (Jvm.Cond.instanceMethod ({ cls := "WaterGrounds$Bed", name := "<init>", desc := "(LWaterGrounds;)V" } : Jvm.MethodName)) ∈ lw_all := lw_g (lw_at lw_m1 39 rfl) rfl
theorem q94 : (Jvm.Cond.code ({ cls := "WaterGrounds$Bed", name := "<init>", desc := "(LWaterGrounds;)V" } : Jvm.MethodName) prog_2_method_1_code (7 : Nat) (Option.none : Option Jvm.ClassFile.FieldType)) ∈ lw_all := lw_g (lw_at lw_m1 40 rfl) rfl
theorem q95 : (Jvm.Cond.methodLink "WaterGrounds$Bed" (9 : Nat) ({ cls := "java/lang/Object", name := "<init>", desc := "()V" } : Jvm.MethodName)) ∈ lw_all := lw_g (lw_at lw_m1 41 rfl) rfl
theorem q96 : (Jvm.Cond.classLink "WaterGrounds$Bed" (15 : Nat) "[[LWaterGrounds$Ground;") ∈ lw_all := lw_g (lw_at lw_m1 42 rfl) rfl
theorem q99 : (Jvm.Cond.classLink "WaterGrounds$Bed" (20 : Nat) "WaterGrounds$Ground") ∈ lw_all := lw_g (lw_at lw_m1 45 rfl) rfl
theorem q101 : (Jvm.Cond.methodLinkNest "WaterGrounds$Bed" (22 : Nat) ({ cls := "WaterGrounds$Ground", name := "<init>", desc := "()V" } : Jvm.MethodName) "WaterGrounds") ∈ lw_tbl := lw_at lw_m1 47 rfl
theorem q113 : (Jvm.Cond.fieldLinkNest "WaterGrounds$Bed" (58 : Nat) "WaterGrounds$Grain" "left" "I" "WaterGrounds") ∈ lw_tbl := lw_at lw_m1 59 rfl
theorem q116 : (Jvm.Cond.fieldLinkNest "WaterGrounds$Bed" (63 : Nat) "WaterGrounds$Grain" "inWater" "I" "WaterGrounds") ∈ lw_tbl := lw_at lw_m1 62 rfl
theorem q125 : (Jvm.Cond.fieldLinkNest "WaterGrounds$Bed" (50 : Nat) "WaterGrounds$Ground" "grains" "[LWaterGrounds$Grain;" "WaterGrounds") ∈ lw_tbl := lw_at lw_m1 71 rfl
theorem q128 : (Jvm.Cond.fieldLinkNest "WaterGrounds$Bed" (44 : Nat) "WaterGrounds$Ground" "water" "I" "WaterGrounds") ∈ lw_tbl := lw_at lw_m1 74 rfl
theorem q131 : (Jvm.Cond.fieldLinkNest "WaterGrounds$Bed" (47 : Nat) "WaterGrounds$Ground" "cracks" "I" "WaterGrounds") ∈ lw_tbl := lw_at lw_m1 77 rfl
theorem q146 : (Jvm.Cond.classLink "WaterGrounds$Bed" (27 : Nat) "[[I") ∈ lw_all := lw_g (lw_at lw_m1 92 rfl) rfl
theorem q147 : (Jvm.Cond.fieldLink "WaterGrounds$Bed" (17 : Nat) "WaterGrounds$Bed" "cells" "[[LWaterGrounds$Ground;") ∈ lw_all := lw_g (lw_at lw_m1 93 rfl) rfl
theorem q149 : (Jvm.Cond.fieldLink "WaterGrounds$Bed" (23 : Nat) "WaterGrounds$Bed" "cup" "LWaterGrounds$Ground;") ∈ lw_all := lw_g (lw_at lw_m1 95 rfl) rfl
theorem q151 : (Jvm.Cond.fieldLink "WaterGrounds$Bed" (36 : Nat) "WaterGrounds$Bed" "tick" "I") ∈ lw_all := lw_g (lw_at lw_m1 97 rfl) rfl
theorem q154 : (Jvm.Cond.fieldLink "WaterGrounds$Bed" (29 : Nat) "WaterGrounds$Bed" "cracking" "[[I") ∈ lw_all := lw_g (lw_at lw_m1 100 rfl) rfl
theorem q155 : (Jvm.Cond.fieldLink "WaterGrounds$Bed" (3 : Nat) "WaterGrounds$Bed" "this$0" "LWaterGrounds;") ∈ lw_all := lw_g (lw_at lw_m1 101 rfl) rfl
theorem q156 : (Jvm.Cond.laysFinal "WaterGrounds$Bed" "WaterGrounds$Bed" "cells" "[[LWaterGrounds$Ground;") ∈ lw_all := lw_g (lw_at lw_m1 102 rfl) rfl
theorem q157 : (Jvm.Cond.soleField "WaterGrounds$Bed" "cells") ∈ lw_all := lw_g (lw_at lw_m1 103 rfl) rfl
theorem q158 : (Jvm.Cond.laysFinal "WaterGrounds$Bed" "WaterGrounds$Bed" "cup" "LWaterGrounds$Ground;") ∈ lw_all := lw_g (lw_at lw_m1 104 rfl) rfl
theorem q159 : (Jvm.Cond.soleField "WaterGrounds$Bed" "cup") ∈ lw_all := lw_g (lw_at lw_m1 105 rfl) rfl
theorem q160 : (Jvm.Cond.lays "WaterGrounds$Bed" "WaterGrounds$Bed" "tick" "I") ∈ lw_all := lw_g (lw_at lw_m1 106 rfl) rfl
theorem q161 : (Jvm.Cond.soleField "WaterGrounds$Bed" "tick") ∈ lw_all := lw_g (lw_at lw_m1 107 rfl) rfl
theorem q162 : (Jvm.Cond.laysFinal "WaterGrounds$Bed" "WaterGrounds$Bed" "cracking" "[[I") ∈ lw_all := lw_g (lw_at lw_m1 108 rfl) rfl
theorem q163 : (Jvm.Cond.soleField "WaterGrounds$Bed" "cracking") ∈ lw_all := lw_g (lw_at lw_m1 109 rfl) rfl
theorem q164 : (Jvm.Cond.laysFinal "WaterGrounds$Bed" "WaterGrounds$Bed" "this$0" "LWaterGrounds;") ∈ lw_all := lw_g (lw_at lw_m1 110 rfl) rfl
theorem q165 : (Jvm.Cond.soleField "WaterGrounds$Bed" "this$0") ∈ lw_all := lw_g (lw_at lw_m1 111 rfl) rfl
theorem q166 : (Jvm.Cond.superclass "WaterGrounds$Bed" "java/lang/Object") ∈ lw_all := lw_g (lw_at lw_m1 112 rfl) rfl
theorem q258 : (Jvm.Cond.instanceMethod ({ cls := "WaterGrounds$Bed", name := "begin", desc := "(I)V" } : Jvm.MethodName)) ∈ lw_all := lw_g (lw_at lw_m1 204 rfl) rfl
theorem q259 : (Jvm.Cond.selects "WaterGrounds$Bed" ({ cls := "WaterGrounds$Bed", name := "begin", desc := "(I)V" } : Jvm.MethodName) ({ cls := "WaterGrounds$Bed", name := "begin", desc := "(I)V" } : Jvm.MethodName)) ∈ lw_all := lw_g (lw_at lw_m1 205 rfl) rfl
theorem q260 : (Jvm.Cond.code ({ cls := "WaterGrounds$Bed", name := "begin", desc := "(I)V" } : Jvm.MethodName) prog_2_method_3_code (4 : Nat) (Option.none : Option Jvm.ClassFile.FieldType)) ∈ lw_all := lw_g (lw_at lw_m1 206 rfl) rfl
theorem q261 : (Jvm.Cond.methodLink "WaterGrounds$Bed" (40 : Nat) ({ cls := "WaterGrounds$Bed", name := "clear", desc := "(LWaterGrounds$Ground;I)V" } : Jvm.MethodName)) ∈ lw_all := lw_g (lw_at lw_m1 207 rfl) rfl
theorem q262 : (Jvm.Cond.privateMethod ({ cls := "WaterGrounds$Bed", name := "clear", desc := "(LWaterGrounds$Ground;I)V" } : Jvm.MethodName)) ∈ lw_tbl := lw_at lw_m1 208 rfl
theorem q263 : (Jvm.Cond.instanceMethod ({ cls := "WaterGrounds$Bed", name := "clear", desc := "(LWaterGrounds$Ground;I)V" } : Jvm.MethodName)) ∈ lw_all := lw_g (lw_at lw_m1 209 rfl) rfl
theorem q264 : (Jvm.Cond.code ({ cls := "WaterGrounds$Bed", name := "clear", desc := "(LWaterGrounds$Ground;I)V" } : Jvm.MethodName) prog_2_method_4_code (4 : Nat) (Option.none : Option Jvm.ClassFile.FieldType)) ∈ lw_all := lw_g (lw_at lw_m1 210 rfl) rfl
theorem q267 : (Jvm.Cond.fieldLinkNest "WaterGrounds$Bed" (92 : Nat) "WaterGrounds" "rings" "I" "WaterGrounds") ∈ lw_tbl := lw_at lw_m1 213 rfl
theorem q271 : (Jvm.Cond.fieldLinkNest "WaterGrounds$Bed" (95 : Nat) "WaterGrounds" "layers" "I" "WaterGrounds") ∈ lw_tbl := lw_at lw_m1 217 rfl
theorem q275 : (Jvm.Cond.fieldLinkNest "WaterGrounds$Bed" (54 : Nat) "WaterGrounds" "stuffs" "[I" "WaterGrounds") ∈ lw_tbl := lw_at lw_m1 221 rfl
theorem q278 : (Jvm.Cond.fieldLinkNest "WaterGrounds$Bed" (87 : Nat) "WaterGrounds" "rates" "[I" "WaterGrounds") ∈ lw_tbl := lw_at lw_m1 224 rfl
theorem q281 : (Jvm.Cond.fieldLinkNest "WaterGrounds$Bed" (66 : Nat) "WaterGrounds" "loose" "[I" "WaterGrounds") ∈ lw_tbl := lw_at lw_m1 227 rfl
theorem q285 : (Jvm.Cond.fieldLinkNest "WaterGrounds$Bed" (69 : Nat) "WaterGrounds" "looser" "[[I" "WaterGrounds") ∈ lw_tbl := lw_at lw_m1 231 rfl
theorem q288 : (Jvm.Cond.fieldLinkNest "WaterGrounds$Bed" (102 : Nat) "WaterGrounds" "side" "I" "WaterGrounds") ∈ lw_tbl := lw_at lw_m1 234 rfl
theorem q290 : (Jvm.Cond.fieldLinkNest "WaterGrounds$Bed" (116 : Nat) "WaterGrounds" "run" "I" "WaterGrounds") ∈ lw_tbl := lw_at lw_m1 236 rfl
theorem q312 : (Jvm.Cond.fieldLinkNest "WaterGrounds$Bed" (84 : Nat) "WaterGrounds" "pours" "[[I" "WaterGrounds") ∈ lw_tbl := lw_at lw_m2 18 rfl
theorem q315 : (Jvm.Cond.fieldLinkNest "WaterGrounds$Bed" (81 : Nat) "WaterGrounds" "pourMany" "I" "WaterGrounds") ∈ lw_tbl := lw_at lw_m2 21 rfl
theorem q724 : (Jvm.Cond.instanceMethod ({ cls := "WaterGrounds$Bed", name := "go", desc := "(II)V" } : Jvm.MethodName)) ∈ lw_all := lw_g (lw_at lw_m3 190 rfl) rfl
theorem q725 : (Jvm.Cond.selects "WaterGrounds$Bed" ({ cls := "WaterGrounds$Bed", name := "go", desc := "(II)V" } : Jvm.MethodName) ({ cls := "WaterGrounds$Bed", name := "go", desc := "(II)V" } : Jvm.MethodName)) ∈ lw_all := lw_g (lw_at lw_m3 191 rfl) rfl
theorem q726 : (Jvm.Cond.code ({ cls := "WaterGrounds$Bed", name := "go", desc := "(II)V" } : Jvm.MethodName) prog_2_method_11_code (5 : Nat) (Option.none : Option Jvm.ClassFile.FieldType)) ∈ lw_all := lw_g (lw_at lw_m3 192 rfl) rfl
theorem q727 : (Jvm.Cond.methodLink "WaterGrounds$Bed" (122 : Nat) ({ cls := "WaterGrounds$Bed", name := "pourAll", desc := "()V" } : Jvm.MethodName)) ∈ lw_all := lw_g (lw_at lw_m3 193 rfl) rfl
theorem q728 : (Jvm.Cond.privateMethod ({ cls := "WaterGrounds$Bed", name := "pourAll", desc := "()V" } : Jvm.MethodName)) ∈ lw_tbl := lw_at lw_m3 194 rfl
theorem q729 : (Jvm.Cond.instanceMethod ({ cls := "WaterGrounds$Bed", name := "pourAll", desc := "()V" } : Jvm.MethodName)) ∈ lw_all := lw_g (lw_at lw_m3 195 rfl) rfl
theorem q730 : (Jvm.Cond.code ({ cls := "WaterGrounds$Bed", name := "pourAll", desc := "()V" } : Jvm.MethodName) prog_2_method_6_code (2 : Nat) (Option.none : Option Jvm.ClassFile.FieldType)) ∈ lw_all := lw_g (lw_at lw_m3 196 rfl) rfl
theorem q731 : (Jvm.Cond.methodLink "WaterGrounds$Bed" (125 : Nat) ({ cls := "WaterGrounds$Bed", name := "take", desc := "(LWaterGrounds$Ground;I)V" } : Jvm.MethodName)) ∈ lw_all := lw_g (lw_at lw_m3 197 rfl) rfl
theorem q732 : (Jvm.Cond.privateMethod ({ cls := "WaterGrounds$Bed", name := "take", desc := "(LWaterGrounds$Ground;I)V" } : Jvm.MethodName)) ∈ lw_tbl := lw_at lw_m3 198 rfl
theorem q733 : (Jvm.Cond.instanceMethod ({ cls := "WaterGrounds$Bed", name := "take", desc := "(LWaterGrounds$Ground;I)V" } : Jvm.MethodName)) ∈ lw_all := lw_g (lw_at lw_m3 199 rfl) rfl
theorem q734 : (Jvm.Cond.code ({ cls := "WaterGrounds$Bed", name := "take", desc := "(LWaterGrounds$Ground;I)V" } : Jvm.MethodName) prog_2_method_7_code (6 : Nat) (Option.none : Option Jvm.ClassFile.FieldType)) ∈ lw_all := lw_g (lw_at lw_m3 200 rfl) rfl
theorem q735 : (Jvm.Cond.methodLink "WaterGrounds$Bed" (72 : Nat) ({ cls := "java/lang/Math", name := "min", desc := "(II)I" } : Jvm.MethodName)) ∈ lw_all := lw_g (lw_at lw_m3 201 rfl) rfl
theorem q738 : (Jvm.Cond.constantLong "WaterGrounds$Bed" (90 : Nat) (1000000 : Int64)) ∈ lw_all := lw_g (lw_at lw_m3 204 rfl) rfl
theorem q739 : (Jvm.Cond.methodLink "WaterGrounds$Bed" (128 : Nat) ({ cls := "WaterGrounds$Bed", name := "goSideways", desc := "()V" } : Jvm.MethodName)) ∈ lw_all := lw_g (lw_at lw_m3 205 rfl) rfl
theorem q740 : (Jvm.Cond.privateMethod ({ cls := "WaterGrounds$Bed", name := "goSideways", desc := "()V" } : Jvm.MethodName)) ∈ lw_tbl := lw_at lw_m3 206 rfl
theorem q741 : (Jvm.Cond.instanceMethod ({ cls := "WaterGrounds$Bed", name := "goSideways", desc := "()V" } : Jvm.MethodName)) ∈ lw_all := lw_g (lw_at lw_m3 207 rfl) rfl
theorem q742 : (Jvm.Cond.code ({ cls := "WaterGrounds$Bed", name := "goSideways", desc := "()V" } : Jvm.MethodName) prog_2_method_8_code (6 : Nat) (Option.none : Option Jvm.ClassFile.FieldType)) ∈ lw_all := lw_g (lw_at lw_m3 208 rfl) rfl
theorem q743 : (Jvm.Cond.methodLinkNest "WaterGrounds$Bed" (98 : Nat) ({ cls := "WaterGrounds", name := "isIn", desc := "(JJJ)Z" } : Jvm.MethodName) "WaterGrounds") ∈ lw_tbl := lw_at lw_m3 209 rfl
theorem q744 : (Jvm.Cond.methodLink "WaterGrounds$Bed" (105 : Nat) ({ cls := "WaterGrounds$Ground", name := "note", desc := "(LWaterGrounds$Ground;II)V" } : Jvm.MethodName)) ∈ lw_all := lw_g (lw_at lw_m3 210 rfl) rfl
theorem q752 : (Jvm.Cond.methodLink "WaterGrounds$Bed" (109 : Nat) ({ cls := "WaterGrounds$Bed", name := "settleAll", desc := "()V" } : Jvm.MethodName)) ∈ lw_all := lw_g (lw_at lw_m3 218 rfl) rfl
theorem q753 : (Jvm.Cond.privateMethod ({ cls := "WaterGrounds$Bed", name := "settleAll", desc := "()V" } : Jvm.MethodName)) ∈ lw_tbl := lw_at lw_m3 219 rfl
theorem q754 : (Jvm.Cond.instanceMethod ({ cls := "WaterGrounds$Bed", name := "settleAll", desc := "()V" } : Jvm.MethodName)) ∈ lw_all := lw_g (lw_at lw_m3 220 rfl) rfl
theorem q755 : (Jvm.Cond.code ({ cls := "WaterGrounds$Bed", name := "settleAll", desc := "()V" } : Jvm.MethodName) prog_2_method_10_code (3 : Nat) (Option.none : Option Jvm.ClassFile.FieldType)) ∈ lw_all := lw_g (lw_at lw_m3 221 rfl) rfl
theorem q756 : (Jvm.Cond.methodLink "WaterGrounds$Bed" (119 : Nat) ({ cls := "WaterGrounds$Ground", name := "settle", desc := "()V" } : Jvm.MethodName)) ∈ lw_all := lw_g (lw_at lw_m3 222 rfl) rfl
theorem q760 : (Jvm.Cond.methodLink "WaterGrounds$Bed" (131 : Nat) ({ cls := "WaterGrounds$Bed", name := "goDown", desc := "(I)V" } : Jvm.MethodName)) ∈ lw_all := lw_g (lw_at lw_m3 226 rfl) rfl
theorem q761 : (Jvm.Cond.privateMethod ({ cls := "WaterGrounds$Bed", name := "goDown", desc := "(I)V" } : Jvm.MethodName)) ∈ lw_tbl := lw_at lw_m3 227 rfl
theorem q762 : (Jvm.Cond.instanceMethod ({ cls := "WaterGrounds$Bed", name := "goDown", desc := "(I)V" } : Jvm.MethodName)) ∈ lw_all := lw_g (lw_at lw_m3 228 rfl) rfl
theorem q763 : (Jvm.Cond.code ({ cls := "WaterGrounds$Bed", name := "goDown", desc := "(I)V" } : Jvm.MethodName) prog_2_method_9_code (7 : Nat) (Option.none : Option Jvm.ClassFile.FieldType)) ∈ lw_all := lw_g (lw_at lw_m3 229 rfl) rfl
theorem q764 : (Jvm.Cond.methodLink "WaterGrounds$Bed" (112 : Nat) ({ cls := "WaterGrounds$Bed", name := "looseOf", desc := "(IIIZ)I" } : Jvm.MethodName)) ∈ lw_all := lw_g (lw_at lw_m3 230 rfl) rfl
theorem q765 : (Jvm.Cond.instanceMethod ({ cls := "WaterGrounds$Bed", name := "looseOf", desc := "(IIIZ)I" } : Jvm.MethodName)) ∈ lw_all := lw_g (lw_at lw_m3 231 rfl) rfl
theorem q766 : (Jvm.Cond.selects "WaterGrounds$Bed" ({ cls := "WaterGrounds$Bed", name := "looseOf", desc := "(IIIZ)I" } : Jvm.MethodName) ({ cls := "WaterGrounds$Bed", name := "looseOf", desc := "(IIIZ)I" } : Jvm.MethodName)) ∈ lw_all := lw_g (lw_at lw_m3 232 rfl) rfl
theorem q767 : (Jvm.Cond.code ({ cls := "WaterGrounds$Bed", name := "looseOf", desc := "(IIIZ)I" } : Jvm.MethodName) prog_2_method_5_code (6 : Nat) (Option.some Jvm.ClassFile.FieldType.int)) ∈ lw_all := lw_g (lw_at lw_m3 233 rfl) rfl
theorem q768 : (Jvm.Cond.methodLink "WaterGrounds$Bed" (78 : Nat) ({ cls := "java/lang/Math", name := "max", desc := "(II)I" } : Jvm.MethodName)) ∈ lw_all := lw_g (lw_at lw_m3 234 rfl) rfl
theorem q786 : (Jvm.Cond.instanceMethod ({ cls := "WaterGrounds$Bed", name := "strong", desc := "()I" } : Jvm.MethodName)) ∈ lw_all := lw_g (lw_at lw_m4 12 rfl) rfl
theorem q787 : (Jvm.Cond.selects "WaterGrounds$Bed" ({ cls := "WaterGrounds$Bed", name := "strong", desc := "()I" } : Jvm.MethodName) ({ cls := "WaterGrounds$Bed", name := "strong", desc := "()I" } : Jvm.MethodName)) ∈ lw_all := lw_g (lw_at lw_m4 13 rfl) rfl
theorem q788 : (Jvm.Cond.code ({ cls := "WaterGrounds$Bed", name := "strong", desc := "()I" } : Jvm.MethodName) prog_2_method_13_code (2 : Nat) (Option.some Jvm.ClassFile.FieldType.int)) ∈ lw_all := lw_g (lw_at lw_m4 14 rfl) rfl
theorem q789 : (Jvm.Cond.methodLink "WaterGrounds$Bed" (135 : Nat) ({ cls := "WaterGrounds$Bed", name := "inCup", desc := "()I" } : Jvm.MethodName)) ∈ lw_all := lw_g (lw_at lw_m4 15 rfl) rfl
theorem q790 : (Jvm.Cond.instanceMethod ({ cls := "WaterGrounds$Bed", name := "inCup", desc := "()I" } : Jvm.MethodName)) ∈ lw_all := lw_g (lw_at lw_m4 16 rfl) rfl
theorem q791 : (Jvm.Cond.selects "WaterGrounds$Bed" ({ cls := "WaterGrounds$Bed", name := "inCup", desc := "()I" } : Jvm.MethodName) ({ cls := "WaterGrounds$Bed", name := "inCup", desc := "()I" } : Jvm.MethodName)) ∈ lw_all := lw_g (lw_at lw_m4 17 rfl) rfl
theorem q792 : (Jvm.Cond.code ({ cls := "WaterGrounds$Bed", name := "inCup", desc := "()I" } : Jvm.MethodName) prog_2_method_12_code (1 : Nat) (Option.some Jvm.ClassFile.FieldType.int)) ∈ lw_all := lw_g (lw_at lw_m4 18 rfl) rfl
theorem q794 : (Jvm.Cond.instanceMethod ({ cls := "WaterGrounds$Bed", name := "out", desc := "(I)I" } : Jvm.MethodName)) ∈ lw_all := lw_g (lw_at lw_m4 20 rfl) rfl
theorem q795 : (Jvm.Cond.selects "WaterGrounds$Bed" ({ cls := "WaterGrounds$Bed", name := "out", desc := "(I)I" } : Jvm.MethodName) ({ cls := "WaterGrounds$Bed", name := "out", desc := "(I)I" } : Jvm.MethodName)) ∈ lw_all := lw_g (lw_at lw_m4 21 rfl) rfl
theorem q796 : (Jvm.Cond.code ({ cls := "WaterGrounds$Bed", name := "out", desc := "(I)I" } : Jvm.MethodName) prog_2_method_15_code (3 : Nat) (Option.some Jvm.ClassFile.FieldType.int)) ∈ lw_all := lw_g (lw_at lw_m4 22 rfl) rfl
theorem q797 : (Jvm.Cond.methodLink "WaterGrounds$Bed" (139 : Nat) ({ cls := "WaterGrounds$Bed", name := "ofRing", desc := "(I)I" } : Jvm.MethodName)) ∈ lw_all := lw_g (lw_at lw_m4 23 rfl) rfl
theorem q798 : (Jvm.Cond.privateMethod ({ cls := "WaterGrounds$Bed", name := "ofRing", desc := "(I)I" } : Jvm.MethodName)) ∈ lw_tbl := lw_at lw_m4 24 rfl
theorem q799 : (Jvm.Cond.instanceMethod ({ cls := "WaterGrounds$Bed", name := "ofRing", desc := "(I)I" } : Jvm.MethodName)) ∈ lw_all := lw_g (lw_at lw_m4 25 rfl) rfl
theorem q800 : (Jvm.Cond.code ({ cls := "WaterGrounds$Bed", name := "ofRing", desc := "(I)I" } : Jvm.MethodName) prog_2_method_14_code (2 : Nat) (Option.some Jvm.ClassFile.FieldType.int)) ∈ lw_all := lw_g (lw_at lw_m4 26 rfl) rfl
theorem q802 : (Jvm.Cond.instanceMethod ({ cls := "WaterGrounds$Bed", name := "uneven", desc := "(I)I" } : Jvm.MethodName)) ∈ lw_all := lw_g (lw_at lw_m4 28 rfl) rfl
theorem q803 : (Jvm.Cond.selects "WaterGrounds$Bed" ({ cls := "WaterGrounds$Bed", name := "uneven", desc := "(I)I" } : Jvm.MethodName) ({ cls := "WaterGrounds$Bed", name := "uneven", desc := "(I)I" } : Jvm.MethodName)) ∈ lw_all := lw_g (lw_at lw_m4 29 rfl) rfl
theorem q804 : (Jvm.Cond.code ({ cls := "WaterGrounds$Bed", name := "uneven", desc := "(I)I" } : Jvm.MethodName) prog_2_method_17_code (7 : Nat) (Option.some Jvm.ClassFile.FieldType.int)) ∈ lw_all := lw_g (lw_at lw_m4 30 rfl) rfl
theorem q805 : (Jvm.Cond.methodLink "WaterGrounds$Bed" (143 : Nat) ({ cls := "WaterGrounds$Bed", name := "leftIn", desc := "(I)I" } : Jvm.MethodName)) ∈ lw_all := lw_g (lw_at lw_m4 31 rfl) rfl
theorem q806 : (Jvm.Cond.instanceMethod ({ cls := "WaterGrounds$Bed", name := "leftIn", desc := "(I)I" } : Jvm.MethodName)) ∈ lw_all := lw_g (lw_at lw_m4 32 rfl) rfl
theorem q807 : (Jvm.Cond.selects "WaterGrounds$Bed" ({ cls := "WaterGrounds$Bed", name := "leftIn", desc := "(I)I" } : Jvm.MethodName) ({ cls := "WaterGrounds$Bed", name := "leftIn", desc := "(I)I" } : Jvm.MethodName)) ∈ lw_all := lw_g (lw_at lw_m4 33 rfl) rfl
theorem q808 : (Jvm.Cond.code ({ cls := "WaterGrounds$Bed", name := "leftIn", desc := "(I)I" } : Jvm.MethodName) prog_2_method_16_code (5 : Nat) (Option.some Jvm.ClassFile.FieldType.int)) ∈ lw_all := lw_g (lw_at lw_m4 34 rfl) rfl
theorem q814 : (Jvm.Cond.instanceMethod ({ cls := "WaterGrounds$Bed", name := "copy", desc := "(LWaterGrounds$Bed;)V" } : Jvm.MethodName)) ∈ lw_all := lw_g (lw_at lw_m4 40 rfl) rfl
theorem q815 : (Jvm.Cond.selects "WaterGrounds$Bed" ({ cls := "WaterGrounds$Bed", name := "copy", desc := "(LWaterGrounds$Bed;)V" } : Jvm.MethodName) ({ cls := "WaterGrounds$Bed", name := "copy", desc := "(LWaterGrounds$Bed;)V" } : Jvm.MethodName)) ∈ lw_all := lw_g (lw_at lw_m4 41 rfl) rfl
theorem q816 : (Jvm.Cond.code ({ cls := "WaterGrounds$Bed", name := "copy", desc := "(LWaterGrounds$Bed;)V" } : Jvm.MethodName) prog_2_method_2_code (4 : Nat) (Option.none : Option Jvm.ClassFile.FieldType)) ∈ lw_all := lw_g (lw_at lw_m4 42 rfl) rfl
theorem q817 : (Jvm.Cond.methodLink "WaterGrounds$Bed" (32 : Nat) ({ cls := "WaterGrounds$Ground", name := "copy", desc := "(LWaterGrounds$Ground;)V" } : Jvm.MethodName)) ∈ lw_all := lw_g (lw_at lw_m4 43 rfl) rfl
theorem in_X1 : ∀ w ∈ wsX10, w ∈ lw_all := lw_in wsX10 [156, 158, 160, 162, 164] (by decide +kernel) (by decide +kernel)
/-! WaterGrounds$Ground -/
set_option maxRecDepth 100000
def RX2 : String := "WaterGrounds$Ground"
def TX2 : u_T := fun k => match k with
  | 0 => ("WaterGrounds$Ground", "grains", "[LWaterGrounds$Grain;", true)
  | 1 => ("WaterGrounds$Ground", "water", "I", false)
  | 2 => ("WaterGrounds$Ground", "cracks", "I", false)
  | 3 => ("WaterGrounds$Ground", "comes", "I", false)
  | _ => ("WaterGrounds$Ground", "brings", "[I", true)
def tyX2 : Nat → FieldType := fun k => match k with
  | 0 => .array (.object "WaterGrounds$Grain")
  | 1 => .int
  | 2 => .int
  | 3 => .int
  | _ => .array .int
abbrev wsX20 : List Cond := u_ws RX2 TX2 5
theorem nmX2 : ∀ a, a < 5 → ∀ b, b < 5 → a ≠ b → (TX2 a).2.1 ≠ (TX2 b).2.1 := by decide +kernel
theorem tyX2_ok : ∀ k, k < 5 → parseFieldDescriptor (TX2 k).2.2.1 = some (tyX2 k) := by decide +kernel
abbrev cX2_init : ByteArray := prog_6_method_1_code
def yX2_init : MethodName := ⟨RX2, "<init>", "()V"⟩
def dkwX2_init_2 : List UInt8 := [181, 0, 18, 177]
abbrev dktX2_init_2 : List UInt8 := dkwX2_init_2 ++ []
def dkwX2_init_1 : List UInt8 := [89, 183, 0, 11, 83, 89, 5, 187, 0, 9, 89, 183, 0, 11, 83, 181, 0, 12, 42, 6, 188, 10]
abbrev dktX2_init_1 : List UInt8 := dkwX2_init_1 ++ dktX2_init_2
def dkwX2_init_0 : List UInt8 := [42, 183, 0, 3, 42, 6, 189, 0, 9, 89, 3, 187, 0, 9, 89, 183, 0, 11, 83, 89, 4, 187, 0, 9]
abbrev dktX2_init_0 : List UInt8 := dkwX2_init_0 ++ dktX2_init_1
theorem dksX2_init_0 : cX2_init.data.toList.drop 0 = dktX2_init_0 := by decide +kernel
theorem dksX2_init_1 : cX2_init.data.toList.drop 24 = dktX2_init_1 := dk_seg dksX2_init_0 24 rfl rfl
theorem dksX2_init_2 : cX2_init.data.toList.drop 46 = dktX2_init_2 := dk_seg dksX2_init_1 22 rfl rfl
theorem dX2_init_0 : decode cX2_init 0 = .ok (.aload_n 0, 1) := dk_42 (dk_at dksX2_init_0 0 rfl rfl)
theorem dX2_init_1 : decode cX2_init 1 = .ok (.invokespecial 3, 3) := dk_183 0 3 (dk_at dksX2_init_0 1 rfl rfl)
theorem dX2_init_4 : decode cX2_init 4 = .ok (.aload_n 0, 1) := dk_42 (dk_at dksX2_init_0 4 rfl rfl)
theorem dX2_init_5 : decode cX2_init 5 = .ok (.iconst 3, 1) := dk_6 (dk_at dksX2_init_0 5 rfl rfl)
theorem dX2_init_6 : decode cX2_init 6 = .ok (.anewarray 9, 3) := dk_189 0 9 (dk_at dksX2_init_0 6 rfl rfl)
theorem dX2_init_9 : decode cX2_init 9 = .ok (.dup, 1) := dk_89 (dk_at dksX2_init_0 9 rfl rfl)
theorem dX2_init_10 : decode cX2_init 10 = .ok (.iconst 0, 1) := dk_3 (dk_at dksX2_init_0 10 rfl rfl)
theorem dX2_init_11 : decode cX2_init 11 = .ok (.new 9, 3) := dk_187 0 9 (dk_at dksX2_init_0 11 rfl rfl)
theorem dX2_init_14 : decode cX2_init 14 = .ok (.dup, 1) := dk_89 (dk_at dksX2_init_0 14 rfl rfl)
theorem dX2_init_15 : decode cX2_init 15 = .ok (.invokespecial 11, 3) := dk_183 0 11 (dk_at dksX2_init_0 15 rfl rfl)
theorem dX2_init_18 : decode cX2_init 18 = .ok (.aastore, 1) := dk_83 (dk_at dksX2_init_0 18 rfl rfl)
theorem dX2_init_19 : decode cX2_init 19 = .ok (.dup, 1) := dk_89 (dk_at dksX2_init_0 19 rfl rfl)
theorem dX2_init_20 : decode cX2_init 20 = .ok (.iconst 1, 1) := dk_4 (dk_at dksX2_init_0 20 rfl rfl)
theorem dX2_init_21 : decode cX2_init 21 = .ok (.new 9, 3) := dk_187 0 9 (dk_at dksX2_init_0 21 rfl rfl)
theorem dX2_init_24 : decode cX2_init 24 = .ok (.dup, 1) := dk_89 (dk_at dksX2_init_1 0 rfl rfl)
theorem dX2_init_25 : decode cX2_init 25 = .ok (.invokespecial 11, 3) := dk_183 0 11 (dk_at dksX2_init_1 1 rfl rfl)
theorem dX2_init_28 : decode cX2_init 28 = .ok (.aastore, 1) := dk_83 (dk_at dksX2_init_1 4 rfl rfl)
theorem dX2_init_29 : decode cX2_init 29 = .ok (.dup, 1) := dk_89 (dk_at dksX2_init_1 5 rfl rfl)
theorem dX2_init_30 : decode cX2_init 30 = .ok (.iconst 2, 1) := dk_5 (dk_at dksX2_init_1 6 rfl rfl)
theorem dX2_init_31 : decode cX2_init 31 = .ok (.new 9, 3) := dk_187 0 9 (dk_at dksX2_init_1 7 rfl rfl)
theorem dX2_init_34 : decode cX2_init 34 = .ok (.dup, 1) := dk_89 (dk_at dksX2_init_1 10 rfl rfl)
theorem dX2_init_35 : decode cX2_init 35 = .ok (.invokespecial 11, 3) := dk_183 0 11 (dk_at dksX2_init_1 11 rfl rfl)
theorem dX2_init_38 : decode cX2_init 38 = .ok (.aastore, 1) := dk_83 (dk_at dksX2_init_1 14 rfl rfl)
theorem dX2_init_39 : decode cX2_init 39 = .ok (.putfield 12, 3) := dk_181 0 12 (dk_at dksX2_init_1 15 rfl rfl)
theorem dX2_init_42 : decode cX2_init 42 = .ok (.aload_n 0, 1) := dk_42 (dk_at dksX2_init_1 18 rfl rfl)
theorem dX2_init_43 : decode cX2_init 43 = .ok (.iconst 3, 1) := dk_6 (dk_at dksX2_init_1 19 rfl rfl)
theorem dX2_init_44 : decode cX2_init 44 = .ok (.newarray .int, 2) := dk_188_10 (dk_at dksX2_init_1 20 rfl rfl)
theorem dX2_init_46 : decode cX2_init 46 = .ok (.putfield 18, 3) := dk_181 0 18 (dk_at dksX2_init_2 0 rfl rfl)
theorem dX2_init_49 : decode cX2_init 49 = .ok (.return_, 1) := dk_177 (dk_at dksX2_init_2 3 rfl rfl)
abbrev cX2_note : ByteArray := prog_6_method_4_code
def yX2_note : MethodName := ⟨RX2, "note", "(LWaterGrounds$Ground;II)V"⟩
def dkwX2_note_2 : List UInt8 := [177]
abbrev dktX2_note_2 : List UInt8 := dkwX2_note_2 ++ []
def dkwX2_note_1 : List UInt8 := [180, 0, 18, 21, 4, 92, 46, 29, 43, 28, 21, 4, 182, 0, 38, 104, 96, 79, 132, 4, 1, 167, 255, 228]
abbrev dktX2_note_1 : List UInt8 := dkwX2_note_1 ++ dktX2_note_2
def dkwX2_note_0 : List UInt8 := [42, 89, 180, 0, 35, 29, 28, 104, 96, 181, 0, 35, 3, 54, 4, 21, 4, 6, 162, 0, 28, 42]
abbrev dktX2_note_0 : List UInt8 := dkwX2_note_0 ++ dktX2_note_1
theorem dksX2_note_0 : cX2_note.data.toList.drop 0 = dktX2_note_0 := by decide +kernel
theorem dksX2_note_1 : cX2_note.data.toList.drop 22 = dktX2_note_1 := dk_seg dksX2_note_0 22 rfl rfl
theorem dksX2_note_2 : cX2_note.data.toList.drop 46 = dktX2_note_2 := dk_seg dksX2_note_1 24 rfl rfl
theorem dX2_note_0 : decode cX2_note 0 = .ok (.aload_n 0, 1) := dk_42 (dk_at dksX2_note_0 0 rfl rfl)
theorem dX2_note_1 : decode cX2_note 1 = .ok (.dup, 1) := dk_89 (dk_at dksX2_note_0 1 rfl rfl)
theorem dX2_note_2 : decode cX2_note 2 = .ok (.getfield 35, 3) := dk_180 0 35 (dk_at dksX2_note_0 2 rfl rfl)
theorem dX2_note_5 : decode cX2_note 5 = .ok (.iload_n 3, 1) := dk_29 (dk_at dksX2_note_0 5 rfl rfl)
theorem dX2_note_6 : decode cX2_note 6 = .ok (.iload_n 2, 1) := dk_28 (dk_at dksX2_note_0 6 rfl rfl)
theorem dX2_note_7 : decode cX2_note 7 = .ok (.imul, 1) := dk_104 (dk_at dksX2_note_0 7 rfl rfl)
theorem dX2_note_8 : decode cX2_note 8 = .ok (.iadd, 1) := dk_96 (dk_at dksX2_note_0 8 rfl rfl)
theorem dX2_note_9 : decode cX2_note 9 = .ok (.putfield 35, 3) := dk_181 0 35 (dk_at dksX2_note_0 9 rfl rfl)
theorem dX2_note_12 : decode cX2_note 12 = .ok (.iconst 0, 1) := dk_3 (dk_at dksX2_note_0 12 rfl rfl)
theorem dX2_note_13 : decode cX2_note 13 = .ok (.istore 4, 2) := dk_54 4 (dk_at dksX2_note_0 13 rfl rfl)
theorem dX2_note_15 : decode cX2_note 15 = .ok (.iload 4, 2) := dk_21 4 (dk_at dksX2_note_0 15 rfl rfl)
theorem dX2_note_17 : decode cX2_note 17 = .ok (.iconst 3, 1) := dk_6 (dk_at dksX2_note_0 17 rfl rfl)
theorem dX2_note_18 : decode cX2_note 18 = .ok (.if_icmp .ge 28, 3) := dk_162 0 28 (dk_at dksX2_note_0 18 rfl rfl)
theorem dX2_note_21 : decode cX2_note 21 = .ok (.aload_n 0, 1) := dk_42 (dk_at dksX2_note_0 21 rfl rfl)
theorem dX2_note_22 : decode cX2_note 22 = .ok (.getfield 18, 3) := dk_180 0 18 (dk_at dksX2_note_1 0 rfl rfl)
theorem dX2_note_25 : decode cX2_note 25 = .ok (.iload 4, 2) := dk_21 4 (dk_at dksX2_note_1 3 rfl rfl)
theorem dX2_note_27 : decode cX2_note 27 = .ok (.dup2, 1) := dk_92 (dk_at dksX2_note_1 5 rfl rfl)
theorem dX2_note_28 : decode cX2_note 28 = .ok (.iaload, 1) := dk_46 (dk_at dksX2_note_1 6 rfl rfl)
theorem dX2_note_29 : decode cX2_note 29 = .ok (.iload_n 3, 1) := dk_29 (dk_at dksX2_note_1 7 rfl rfl)
theorem dX2_note_30 : decode cX2_note 30 = .ok (.aload_n 1, 1) := dk_43 (dk_at dksX2_note_1 8 rfl rfl)
theorem dX2_note_31 : decode cX2_note 31 = .ok (.iload_n 2, 1) := dk_28 (dk_at dksX2_note_1 9 rfl rfl)
theorem dX2_note_32 : decode cX2_note 32 = .ok (.iload 4, 2) := dk_21 4 (dk_at dksX2_note_1 10 rfl rfl)
theorem dX2_note_34 : decode cX2_note 34 = .ok (.invokevirtual 38, 3) := dk_182 0 38 (dk_at dksX2_note_1 12 rfl rfl)
theorem dX2_note_37 : decode cX2_note 37 = .ok (.imul, 1) := dk_104 (dk_at dksX2_note_1 15 rfl rfl)
theorem dX2_note_38 : decode cX2_note 38 = .ok (.iadd, 1) := dk_96 (dk_at dksX2_note_1 16 rfl rfl)
theorem dX2_note_39 : decode cX2_note 39 = .ok (.iastore, 1) := dk_79 (dk_at dksX2_note_1 17 rfl rfl)
theorem dX2_note_40 : decode cX2_note 40 = .ok (.iinc 4 1, 3) := dk_132 4 1 (dk_at dksX2_note_1 18 rfl rfl)
theorem dX2_note_43 : decode cX2_note 43 = .ok (.goto (-28), 3) := dk_167 255 228 (dk_at dksX2_note_1 21 rfl rfl)
theorem dX2_note_46 : decode cX2_note 46 = .ok (.return_, 1) := dk_177 (dk_at dksX2_note_2 0 rfl rfl)
abbrev cX2_with : ByteArray := prog_6_method_3_code
def yX2_with : MethodName := ⟨RX2, "with", "(II)I"⟩
def dkwX2_with_1 : List UInt8 := [42, 180, 0, 22, 133, 109, 136, 172]
abbrev dktX2_with_1 : List UInt8 := dkwX2_with_1 ++ []
def dkwX2_with_0 : List UInt8 := [42, 180, 0, 22, 154, 0, 7, 3, 167, 0, 23, 42, 180, 0, 12, 28, 50, 180, 0, 32, 133, 27, 133, 105]
abbrev dktX2_with_0 : List UInt8 := dkwX2_with_0 ++ dktX2_with_1
theorem dksX2_with_0 : cX2_with.data.toList.drop 0 = dktX2_with_0 := by decide +kernel
theorem dksX2_with_1 : cX2_with.data.toList.drop 24 = dktX2_with_1 := dk_seg dksX2_with_0 24 rfl rfl
theorem dX2_with_0 : decode cX2_with 0 = .ok (.aload_n 0, 1) := dk_42 (dk_at dksX2_with_0 0 rfl rfl)
theorem dX2_with_1 : decode cX2_with 1 = .ok (.getfield 22, 3) := dk_180 0 22 (dk_at dksX2_with_0 1 rfl rfl)
theorem dX2_with_4 : decode cX2_with 4 = .ok (.ifCond .ne 7, 3) := dk_154 0 7 (dk_at dksX2_with_0 4 rfl rfl)
theorem dX2_with_7 : decode cX2_with 7 = .ok (.iconst 0, 1) := dk_3 (dk_at dksX2_with_0 7 rfl rfl)
theorem dX2_with_8 : decode cX2_with 8 = .ok (.goto 23, 3) := dk_167 0 23 (dk_at dksX2_with_0 8 rfl rfl)
theorem dX2_with_11 : decode cX2_with 11 = .ok (.aload_n 0, 1) := dk_42 (dk_at dksX2_with_0 11 rfl rfl)
theorem dX2_with_12 : decode cX2_with 12 = .ok (.getfield 12, 3) := dk_180 0 12 (dk_at dksX2_with_0 12 rfl rfl)
theorem dX2_with_15 : decode cX2_with 15 = .ok (.iload_n 2, 1) := dk_28 (dk_at dksX2_with_0 15 rfl rfl)
theorem dX2_with_16 : decode cX2_with 16 = .ok (.aaload, 1) := dk_50 (dk_at dksX2_with_0 16 rfl rfl)
theorem dX2_with_17 : decode cX2_with 17 = .ok (.getfield 32, 3) := dk_180 0 32 (dk_at dksX2_with_0 17 rfl rfl)
theorem dX2_with_20 : decode cX2_with 20 = .ok (.i2l, 1) := dk_133 (dk_at dksX2_with_0 20 rfl rfl)
theorem dX2_with_21 : decode cX2_with 21 = .ok (.iload_n 1, 1) := dk_27 (dk_at dksX2_with_0 21 rfl rfl)
theorem dX2_with_22 : decode cX2_with 22 = .ok (.i2l, 1) := dk_133 (dk_at dksX2_with_0 22 rfl rfl)
theorem dX2_with_23 : decode cX2_with 23 = .ok (.lmul, 1) := dk_105 (dk_at dksX2_with_0 23 rfl rfl)
theorem dX2_with_24 : decode cX2_with 24 = .ok (.aload_n 0, 1) := dk_42 (dk_at dksX2_with_1 0 rfl rfl)
theorem dX2_with_25 : decode cX2_with 25 = .ok (.getfield 22, 3) := dk_180 0 22 (dk_at dksX2_with_1 1 rfl rfl)
theorem dX2_with_28 : decode cX2_with 28 = .ok (.i2l, 1) := dk_133 (dk_at dksX2_with_1 4 rfl rfl)
theorem dX2_with_29 : decode cX2_with 29 = .ok (.ldiv, 1) := dk_109 (dk_at dksX2_with_1 5 rfl rfl)
theorem dX2_with_30 : decode cX2_with 30 = .ok (.l2i, 1) := dk_136 (dk_at dksX2_with_1 6 rfl rfl)
theorem dX2_with_31 : decode cX2_with 31 = .ok (.ireturn, 1) := dk_172 (dk_at dksX2_with_1 7 rfl rfl)
abbrev cX2_settle : ByteArray := prog_6_method_5_code
def yX2_settle : MethodName := ⟨RX2, "settle", "()V"⟩
def dkwX2_settle_2 : List UInt8 := [180, 0, 18, 27, 3, 79, 132, 1, 1, 167, 255, 221, 177]
abbrev dktX2_settle_2 : List UInt8 := dkwX2_settle_2 ++ []
def dkwX2_settle_1 : List UInt8 := [162, 0, 36, 42, 180, 0, 12, 27, 50, 89, 180, 0, 32, 42, 180, 0, 18, 27, 46, 96, 181, 0, 32, 42]
abbrev dktX2_settle_1 : List UInt8 := dkwX2_settle_1 ++ dktX2_settle_2
def dkwX2_settle_0 : List UInt8 := [42, 89, 180, 0, 22, 42, 180, 0, 35, 96, 181, 0, 22, 42, 3, 181, 0, 35, 3, 60, 27, 6]
abbrev dktX2_settle_0 : List UInt8 := dkwX2_settle_0 ++ dktX2_settle_1
theorem dksX2_settle_0 : cX2_settle.data.toList.drop 0 = dktX2_settle_0 := by decide +kernel
theorem dksX2_settle_1 : cX2_settle.data.toList.drop 22 = dktX2_settle_1 := dk_seg dksX2_settle_0 22 rfl rfl
theorem dksX2_settle_2 : cX2_settle.data.toList.drop 46 = dktX2_settle_2 := dk_seg dksX2_settle_1 24 rfl rfl
theorem dX2_settle_0 : decode cX2_settle 0 = .ok (.aload_n 0, 1) := dk_42 (dk_at dksX2_settle_0 0 rfl rfl)
theorem dX2_settle_1 : decode cX2_settle 1 = .ok (.dup, 1) := dk_89 (dk_at dksX2_settle_0 1 rfl rfl)
theorem dX2_settle_2 : decode cX2_settle 2 = .ok (.getfield 22, 3) := dk_180 0 22 (dk_at dksX2_settle_0 2 rfl rfl)
theorem dX2_settle_5 : decode cX2_settle 5 = .ok (.aload_n 0, 1) := dk_42 (dk_at dksX2_settle_0 5 rfl rfl)
theorem dX2_settle_6 : decode cX2_settle 6 = .ok (.getfield 35, 3) := dk_180 0 35 (dk_at dksX2_settle_0 6 rfl rfl)
theorem dX2_settle_9 : decode cX2_settle 9 = .ok (.iadd, 1) := dk_96 (dk_at dksX2_settle_0 9 rfl rfl)
theorem dX2_settle_10 : decode cX2_settle 10 = .ok (.putfield 22, 3) := dk_181 0 22 (dk_at dksX2_settle_0 10 rfl rfl)
theorem dX2_settle_13 : decode cX2_settle 13 = .ok (.aload_n 0, 1) := dk_42 (dk_at dksX2_settle_0 13 rfl rfl)
theorem dX2_settle_14 : decode cX2_settle 14 = .ok (.iconst 0, 1) := dk_3 (dk_at dksX2_settle_0 14 rfl rfl)
theorem dX2_settle_15 : decode cX2_settle 15 = .ok (.putfield 35, 3) := dk_181 0 35 (dk_at dksX2_settle_0 15 rfl rfl)
theorem dX2_settle_18 : decode cX2_settle 18 = .ok (.iconst 0, 1) := dk_3 (dk_at dksX2_settle_0 18 rfl rfl)
theorem dX2_settle_19 : decode cX2_settle 19 = .ok (.istore_n 1, 1) := dk_60 (dk_at dksX2_settle_0 19 rfl rfl)
theorem dX2_settle_20 : decode cX2_settle 20 = .ok (.iload_n 1, 1) := dk_27 (dk_at dksX2_settle_0 20 rfl rfl)
theorem dX2_settle_21 : decode cX2_settle 21 = .ok (.iconst 3, 1) := dk_6 (dk_at dksX2_settle_0 21 rfl rfl)
theorem dX2_settle_22 : decode cX2_settle 22 = .ok (.if_icmp .ge 36, 3) := dk_162 0 36 (dk_at dksX2_settle_1 0 rfl rfl)
theorem dX2_settle_25 : decode cX2_settle 25 = .ok (.aload_n 0, 1) := dk_42 (dk_at dksX2_settle_1 3 rfl rfl)
theorem dX2_settle_26 : decode cX2_settle 26 = .ok (.getfield 12, 3) := dk_180 0 12 (dk_at dksX2_settle_1 4 rfl rfl)
theorem dX2_settle_29 : decode cX2_settle 29 = .ok (.iload_n 1, 1) := dk_27 (dk_at dksX2_settle_1 7 rfl rfl)
theorem dX2_settle_30 : decode cX2_settle 30 = .ok (.aaload, 1) := dk_50 (dk_at dksX2_settle_1 8 rfl rfl)
theorem dX2_settle_31 : decode cX2_settle 31 = .ok (.dup, 1) := dk_89 (dk_at dksX2_settle_1 9 rfl rfl)
theorem dX2_settle_32 : decode cX2_settle 32 = .ok (.getfield 32, 3) := dk_180 0 32 (dk_at dksX2_settle_1 10 rfl rfl)
theorem dX2_settle_35 : decode cX2_settle 35 = .ok (.aload_n 0, 1) := dk_42 (dk_at dksX2_settle_1 13 rfl rfl)
theorem dX2_settle_36 : decode cX2_settle 36 = .ok (.getfield 18, 3) := dk_180 0 18 (dk_at dksX2_settle_1 14 rfl rfl)
theorem dX2_settle_39 : decode cX2_settle 39 = .ok (.iload_n 1, 1) := dk_27 (dk_at dksX2_settle_1 17 rfl rfl)
theorem dX2_settle_40 : decode cX2_settle 40 = .ok (.iaload, 1) := dk_46 (dk_at dksX2_settle_1 18 rfl rfl)
theorem dX2_settle_41 : decode cX2_settle 41 = .ok (.iadd, 1) := dk_96 (dk_at dksX2_settle_1 19 rfl rfl)
theorem dX2_settle_42 : decode cX2_settle 42 = .ok (.putfield 32, 3) := dk_181 0 32 (dk_at dksX2_settle_1 20 rfl rfl)
theorem dX2_settle_45 : decode cX2_settle 45 = .ok (.aload_n 0, 1) := dk_42 (dk_at dksX2_settle_1 23 rfl rfl)
theorem dX2_settle_46 : decode cX2_settle 46 = .ok (.getfield 18, 3) := dk_180 0 18 (dk_at dksX2_settle_2 0 rfl rfl)
theorem dX2_settle_49 : decode cX2_settle 49 = .ok (.iload_n 1, 1) := dk_27 (dk_at dksX2_settle_2 3 rfl rfl)
theorem dX2_settle_50 : decode cX2_settle 50 = .ok (.iconst 0, 1) := dk_3 (dk_at dksX2_settle_2 4 rfl rfl)
theorem dX2_settle_51 : decode cX2_settle 51 = .ok (.iastore, 1) := dk_79 (dk_at dksX2_settle_2 5 rfl rfl)
theorem dX2_settle_52 : decode cX2_settle 52 = .ok (.iinc 1 1, 3) := dk_132 1 1 (dk_at dksX2_settle_2 6 rfl rfl)
theorem dX2_settle_55 : decode cX2_settle 55 = .ok (.goto (-35), 3) := dk_167 255 221 (dk_at dksX2_settle_2 9 rfl rfl)
theorem dX2_settle_58 : decode cX2_settle 58 = .ok (.return_, 1) := dk_177 (dk_at dksX2_settle_2 12 rfl rfl)
abbrev cX2_copy : ByteArray := prog_6_method_2_code
def yX2_copy : MethodName := ⟨RX2, "copy", "(LWaterGrounds$Ground;)V"⟩
def dkwX2_copy_2 : List UInt8 := [180, 0, 12, 28, 50, 180, 0, 32, 181, 0, 32, 132, 2, 1, 167, 255, 212, 177]
abbrev dktX2_copy_2 : List UInt8 := dkwX2_copy_2 ++ []
def dkwX2_copy_1 : List UInt8 := [180, 0, 12, 28, 50, 43, 180, 0, 12, 28, 50, 180, 0, 29, 181, 0, 29, 42, 180, 0, 12, 28, 50, 43]
abbrev dktX2_copy_1 : List UInt8 := dkwX2_copy_1 ++ dktX2_copy_2
def dkwX2_copy_0 : List UInt8 := [42, 43, 180, 0, 22, 181, 0, 22, 42, 43, 180, 0, 26, 181, 0, 26, 3, 61, 28, 6, 162, 0, 45, 42]
abbrev dktX2_copy_0 : List UInt8 := dkwX2_copy_0 ++ dktX2_copy_1
theorem dksX2_copy_0 : cX2_copy.data.toList.drop 0 = dktX2_copy_0 := by decide +kernel
theorem dksX2_copy_1 : cX2_copy.data.toList.drop 24 = dktX2_copy_1 := dk_seg dksX2_copy_0 24 rfl rfl
theorem dksX2_copy_2 : cX2_copy.data.toList.drop 48 = dktX2_copy_2 := dk_seg dksX2_copy_1 24 rfl rfl
theorem dX2_copy_0 : decode cX2_copy 0 = .ok (.aload_n 0, 1) := dk_42 (dk_at dksX2_copy_0 0 rfl rfl)
theorem dX2_copy_1 : decode cX2_copy 1 = .ok (.aload_n 1, 1) := dk_43 (dk_at dksX2_copy_0 1 rfl rfl)
theorem dX2_copy_2 : decode cX2_copy 2 = .ok (.getfield 22, 3) := dk_180 0 22 (dk_at dksX2_copy_0 2 rfl rfl)
theorem dX2_copy_5 : decode cX2_copy 5 = .ok (.putfield 22, 3) := dk_181 0 22 (dk_at dksX2_copy_0 5 rfl rfl)
theorem dX2_copy_8 : decode cX2_copy 8 = .ok (.aload_n 0, 1) := dk_42 (dk_at dksX2_copy_0 8 rfl rfl)
theorem dX2_copy_9 : decode cX2_copy 9 = .ok (.aload_n 1, 1) := dk_43 (dk_at dksX2_copy_0 9 rfl rfl)
theorem dX2_copy_10 : decode cX2_copy 10 = .ok (.getfield 26, 3) := dk_180 0 26 (dk_at dksX2_copy_0 10 rfl rfl)
theorem dX2_copy_13 : decode cX2_copy 13 = .ok (.putfield 26, 3) := dk_181 0 26 (dk_at dksX2_copy_0 13 rfl rfl)
theorem dX2_copy_16 : decode cX2_copy 16 = .ok (.iconst 0, 1) := dk_3 (dk_at dksX2_copy_0 16 rfl rfl)
theorem dX2_copy_17 : decode cX2_copy 17 = .ok (.istore_n 2, 1) := dk_61 (dk_at dksX2_copy_0 17 rfl rfl)
theorem dX2_copy_18 : decode cX2_copy 18 = .ok (.iload_n 2, 1) := dk_28 (dk_at dksX2_copy_0 18 rfl rfl)
theorem dX2_copy_19 : decode cX2_copy 19 = .ok (.iconst 3, 1) := dk_6 (dk_at dksX2_copy_0 19 rfl rfl)
theorem dX2_copy_20 : decode cX2_copy 20 = .ok (.if_icmp .ge 45, 3) := dk_162 0 45 (dk_at dksX2_copy_0 20 rfl rfl)
theorem dX2_copy_23 : decode cX2_copy 23 = .ok (.aload_n 0, 1) := dk_42 (dk_at dksX2_copy_0 23 rfl rfl)
theorem dX2_copy_24 : decode cX2_copy 24 = .ok (.getfield 12, 3) := dk_180 0 12 (dk_at dksX2_copy_1 0 rfl rfl)
theorem dX2_copy_27 : decode cX2_copy 27 = .ok (.iload_n 2, 1) := dk_28 (dk_at dksX2_copy_1 3 rfl rfl)
theorem dX2_copy_28 : decode cX2_copy 28 = .ok (.aaload, 1) := dk_50 (dk_at dksX2_copy_1 4 rfl rfl)
theorem dX2_copy_29 : decode cX2_copy 29 = .ok (.aload_n 1, 1) := dk_43 (dk_at dksX2_copy_1 5 rfl rfl)
theorem dX2_copy_30 : decode cX2_copy 30 = .ok (.getfield 12, 3) := dk_180 0 12 (dk_at dksX2_copy_1 6 rfl rfl)
theorem dX2_copy_33 : decode cX2_copy 33 = .ok (.iload_n 2, 1) := dk_28 (dk_at dksX2_copy_1 9 rfl rfl)
theorem dX2_copy_34 : decode cX2_copy 34 = .ok (.aaload, 1) := dk_50 (dk_at dksX2_copy_1 10 rfl rfl)
theorem dX2_copy_35 : decode cX2_copy 35 = .ok (.getfield 29, 3) := dk_180 0 29 (dk_at dksX2_copy_1 11 rfl rfl)
theorem dX2_copy_38 : decode cX2_copy 38 = .ok (.putfield 29, 3) := dk_181 0 29 (dk_at dksX2_copy_1 14 rfl rfl)
theorem dX2_copy_41 : decode cX2_copy 41 = .ok (.aload_n 0, 1) := dk_42 (dk_at dksX2_copy_1 17 rfl rfl)
theorem dX2_copy_42 : decode cX2_copy 42 = .ok (.getfield 12, 3) := dk_180 0 12 (dk_at dksX2_copy_1 18 rfl rfl)
theorem dX2_copy_45 : decode cX2_copy 45 = .ok (.iload_n 2, 1) := dk_28 (dk_at dksX2_copy_1 21 rfl rfl)
theorem dX2_copy_46 : decode cX2_copy 46 = .ok (.aaload, 1) := dk_50 (dk_at dksX2_copy_1 22 rfl rfl)
theorem dX2_copy_47 : decode cX2_copy 47 = .ok (.aload_n 1, 1) := dk_43 (dk_at dksX2_copy_1 23 rfl rfl)
theorem dX2_copy_48 : decode cX2_copy 48 = .ok (.getfield 12, 3) := dk_180 0 12 (dk_at dksX2_copy_2 0 rfl rfl)
theorem dX2_copy_51 : decode cX2_copy 51 = .ok (.iload_n 2, 1) := dk_28 (dk_at dksX2_copy_2 3 rfl rfl)
theorem dX2_copy_52 : decode cX2_copy 52 = .ok (.aaload, 1) := dk_50 (dk_at dksX2_copy_2 4 rfl rfl)
theorem dX2_copy_53 : decode cX2_copy 53 = .ok (.getfield 32, 3) := dk_180 0 32 (dk_at dksX2_copy_2 5 rfl rfl)
theorem dX2_copy_56 : decode cX2_copy 56 = .ok (.putfield 32, 3) := dk_181 0 32 (dk_at dksX2_copy_2 8 rfl rfl)
theorem dX2_copy_59 : decode cX2_copy 59 = .ok (.iinc 2 1, 3) := dk_132 2 1 (dk_at dksX2_copy_2 11 rfl rfl)
theorem dX2_copy_62 : decode cX2_copy 62 = .ok (.goto (-44), 3) := dk_167 255 212 (dk_at dksX2_copy_2 14 rfl rfl)
theorem dX2_copy_65 : decode cX2_copy 65 = .ok (.return_, 1) := dk_177 (dk_at dksX2_copy_2 17 rfl rfl)
theorem q57 : (Jvm.Cond.initialized "WaterGrounds$Ground") ∈ lw_all := lw_g (lw_at lw_m1 3 rfl) rfl
theorem q100 : (Jvm.Cond.instantiable "WaterGrounds$Ground" (5 : Nat)) ∈ lw_all := lw_g (lw_at lw_m1 46 rfl) rfl
theorem q102 : (Jvm.Cond.instanceMethod ({ cls := "WaterGrounds$Ground", name := "<init>", desc := "()V" } : Jvm.MethodName)) ∈ lw_all := lw_g (lw_at lw_m1 48 rfl) rfl
theorem q103 : (Jvm.Cond.code ({ cls := "WaterGrounds$Ground", name := "<init>", desc := "()V" } : Jvm.MethodName) prog_6_method_1_code (1 : Nat) (Option.none : Option Jvm.ClassFile.FieldType)) ∈ lw_all := lw_g (lw_at lw_m1 49 rfl) rfl
theorem q104 : (Jvm.Cond.methodLink "WaterGrounds$Ground" (3 : Nat) ({ cls := "java/lang/Object", name := "<init>", desc := "()V" } : Jvm.MethodName)) ∈ lw_all := lw_g (lw_at lw_m1 50 rfl) rfl
theorem q105 : (Jvm.Cond.classLink "WaterGrounds$Ground" (9 : Nat) "WaterGrounds$Grain") ∈ lw_all := lw_g (lw_at lw_m1 51 rfl) rfl
theorem q108 : (Jvm.Cond.methodLinkNest "WaterGrounds$Ground" (11 : Nat) ({ cls := "WaterGrounds$Grain", name := "<init>", desc := "()V" } : Jvm.MethodName) "WaterGrounds") ∈ lw_tbl := lw_at lw_m1 54 rfl
theorem q112 : (Jvm.Cond.fieldLinkNest "WaterGrounds$Ground" (29 : Nat) "WaterGrounds$Grain" "left" "I" "WaterGrounds") ∈ lw_tbl := lw_at lw_m1 58 rfl
theorem q115 : (Jvm.Cond.fieldLinkNest "WaterGrounds$Ground" (32 : Nat) "WaterGrounds$Grain" "inWater" "I" "WaterGrounds") ∈ lw_tbl := lw_at lw_m1 61 rfl
theorem q124 : (Jvm.Cond.fieldLink "WaterGrounds$Ground" (12 : Nat) "WaterGrounds$Ground" "grains" "[LWaterGrounds$Grain;") ∈ lw_all := lw_g (lw_at lw_m1 70 rfl) rfl
theorem q127 : (Jvm.Cond.fieldLink "WaterGrounds$Ground" (22 : Nat) "WaterGrounds$Ground" "water" "I") ∈ lw_all := lw_g (lw_at lw_m1 73 rfl) rfl
theorem q130 : (Jvm.Cond.fieldLink "WaterGrounds$Ground" (26 : Nat) "WaterGrounds$Ground" "cracks" "I") ∈ lw_all := lw_g (lw_at lw_m1 76 rfl) rfl
theorem q133 : (Jvm.Cond.fieldLink "WaterGrounds$Ground" (35 : Nat) "WaterGrounds$Ground" "comes" "I") ∈ lw_all := lw_g (lw_at lw_m1 79 rfl) rfl
theorem q134 : (Jvm.Cond.fieldLink "WaterGrounds$Ground" (18 : Nat) "WaterGrounds$Ground" "brings" "[I") ∈ lw_all := lw_g (lw_at lw_m1 80 rfl) rfl
theorem q135 : (Jvm.Cond.laysFinal "WaterGrounds$Ground" "WaterGrounds$Ground" "grains" "[LWaterGrounds$Grain;") ∈ lw_all := lw_g (lw_at lw_m1 81 rfl) rfl
theorem q136 : (Jvm.Cond.soleField "WaterGrounds$Ground" "grains") ∈ lw_all := lw_g (lw_at lw_m1 82 rfl) rfl
theorem q137 : (Jvm.Cond.lays "WaterGrounds$Ground" "WaterGrounds$Ground" "water" "I") ∈ lw_all := lw_g (lw_at lw_m1 83 rfl) rfl
theorem q138 : (Jvm.Cond.soleField "WaterGrounds$Ground" "water") ∈ lw_all := lw_g (lw_at lw_m1 84 rfl) rfl
theorem q139 : (Jvm.Cond.lays "WaterGrounds$Ground" "WaterGrounds$Ground" "cracks" "I") ∈ lw_all := lw_g (lw_at lw_m1 85 rfl) rfl
theorem q140 : (Jvm.Cond.soleField "WaterGrounds$Ground" "cracks") ∈ lw_all := lw_g (lw_at lw_m1 86 rfl) rfl
theorem q141 : (Jvm.Cond.lays "WaterGrounds$Ground" "WaterGrounds$Ground" "comes" "I") ∈ lw_all := lw_g (lw_at lw_m1 87 rfl) rfl
theorem q142 : (Jvm.Cond.soleField "WaterGrounds$Ground" "comes") ∈ lw_all := lw_g (lw_at lw_m1 88 rfl) rfl
theorem q143 : (Jvm.Cond.laysFinal "WaterGrounds$Ground" "WaterGrounds$Ground" "brings" "[I") ∈ lw_all := lw_g (lw_at lw_m1 89 rfl) rfl
theorem q144 : (Jvm.Cond.soleField "WaterGrounds$Ground" "brings") ∈ lw_all := lw_g (lw_at lw_m1 90 rfl) rfl
theorem q145 : (Jvm.Cond.superclass "WaterGrounds$Ground" "java/lang/Object") ∈ lw_all := lw_g (lw_at lw_m1 91 rfl) rfl
theorem q745 : (Jvm.Cond.instanceMethod ({ cls := "WaterGrounds$Ground", name := "note", desc := "(LWaterGrounds$Ground;II)V" } : Jvm.MethodName)) ∈ lw_all := lw_g (lw_at lw_m3 211 rfl) rfl
theorem q746 : (Jvm.Cond.selects "WaterGrounds$Ground" ({ cls := "WaterGrounds$Ground", name := "note", desc := "(LWaterGrounds$Ground;II)V" } : Jvm.MethodName) ({ cls := "WaterGrounds$Ground", name := "note", desc := "(LWaterGrounds$Ground;II)V" } : Jvm.MethodName)) ∈ lw_all := lw_g (lw_at lw_m3 212 rfl) rfl
theorem q747 : (Jvm.Cond.code ({ cls := "WaterGrounds$Ground", name := "note", desc := "(LWaterGrounds$Ground;II)V" } : Jvm.MethodName) prog_6_method_4_code (5 : Nat) (Option.none : Option Jvm.ClassFile.FieldType)) ∈ lw_all := lw_g (lw_at lw_m3 213 rfl) rfl
theorem q748 : (Jvm.Cond.methodLink "WaterGrounds$Ground" (38 : Nat) ({ cls := "WaterGrounds$Ground", name := "with", desc := "(II)I" } : Jvm.MethodName)) ∈ lw_all := lw_g (lw_at lw_m3 214 rfl) rfl
theorem q749 : (Jvm.Cond.instanceMethod ({ cls := "WaterGrounds$Ground", name := "with", desc := "(II)I" } : Jvm.MethodName)) ∈ lw_all := lw_g (lw_at lw_m3 215 rfl) rfl
theorem q750 : (Jvm.Cond.selects "WaterGrounds$Ground" ({ cls := "WaterGrounds$Ground", name := "with", desc := "(II)I" } : Jvm.MethodName) ({ cls := "WaterGrounds$Ground", name := "with", desc := "(II)I" } : Jvm.MethodName)) ∈ lw_all := lw_g (lw_at lw_m3 216 rfl) rfl
theorem q751 : (Jvm.Cond.code ({ cls := "WaterGrounds$Ground", name := "with", desc := "(II)I" } : Jvm.MethodName) prog_6_method_3_code (3 : Nat) (Option.some Jvm.ClassFile.FieldType.int)) ∈ lw_all := lw_g (lw_at lw_m3 217 rfl) rfl
theorem q757 : (Jvm.Cond.instanceMethod ({ cls := "WaterGrounds$Ground", name := "settle", desc := "()V" } : Jvm.MethodName)) ∈ lw_all := lw_g (lw_at lw_m3 223 rfl) rfl
theorem q758 : (Jvm.Cond.selects "WaterGrounds$Ground" ({ cls := "WaterGrounds$Ground", name := "settle", desc := "()V" } : Jvm.MethodName) ({ cls := "WaterGrounds$Ground", name := "settle", desc := "()V" } : Jvm.MethodName)) ∈ lw_all := lw_g (lw_at lw_m3 224 rfl) rfl
theorem q759 : (Jvm.Cond.code ({ cls := "WaterGrounds$Ground", name := "settle", desc := "()V" } : Jvm.MethodName) prog_6_method_5_code (2 : Nat) (Option.none : Option Jvm.ClassFile.FieldType)) ∈ lw_all := lw_g (lw_at lw_m3 225 rfl) rfl
theorem q818 : (Jvm.Cond.instanceMethod ({ cls := "WaterGrounds$Ground", name := "copy", desc := "(LWaterGrounds$Ground;)V" } : Jvm.MethodName)) ∈ lw_all := lw_g (lw_at lw_m4 44 rfl) rfl
theorem q819 : (Jvm.Cond.selects "WaterGrounds$Ground" ({ cls := "WaterGrounds$Ground", name := "copy", desc := "(LWaterGrounds$Ground;)V" } : Jvm.MethodName) ({ cls := "WaterGrounds$Ground", name := "copy", desc := "(LWaterGrounds$Ground;)V" } : Jvm.MethodName)) ∈ lw_all := lw_g (lw_at lw_m4 45 rfl) rfl
theorem q820 : (Jvm.Cond.code ({ cls := "WaterGrounds$Ground", name := "copy", desc := "(LWaterGrounds$Ground;)V" } : Jvm.MethodName) prog_6_method_2_code (3 : Nat) (Option.none : Option Jvm.ClassFile.FieldType)) ∈ lw_all := lw_g (lw_at lw_m4 46 rfl) rfl
theorem in_X2 : ∀ w ∈ wsX20, w ∈ lw_all := lw_in wsX20 [135, 137, 139, 141, 143] (by decide +kernel) (by decide +kernel)
/-! WaterGrounds$Grain -/
set_option maxRecDepth 100000
def RX3 : String := "WaterGrounds$Grain"
def TX3 : u_T := fun k => match k with
  | 0 => ("WaterGrounds$Grain", "left", "I", false)
  | _ => ("WaterGrounds$Grain", "inWater", "I", false)
def tyX3 : Nat → FieldType := fun k => match k with
  | 0 => .int
  | _ => .int
abbrev wsX30 : List Cond := u_ws RX3 TX3 2
theorem nmX3 : ∀ a, a < 2 → ∀ b, b < 2 → a ≠ b → (TX3 a).2.1 ≠ (TX3 b).2.1 := by decide +kernel
theorem tyX3_ok : ∀ k, k < 2 → parseFieldDescriptor (TX3 k).2.2.1 = some (tyX3 k) := by decide +kernel
abbrev cX3_init : ByteArray := prog_5_method_1_code
def yX3_init : MethodName := ⟨RX3, "<init>", "()V"⟩
theorem dX3_init_0 : decode cX3_init 0 = .ok (.aload_n 0, 1) := by decide +kernel
theorem dX3_init_1 : decode cX3_init 1 = .ok (.invokespecial 1, 3) := by decide +kernel
theorem dX3_init_4 : decode cX3_init 4 = .ok (.return_, 1) := by decide +kernel
theorem q58 : (Jvm.Cond.initialized "WaterGrounds$Grain") ∈ lw_all := lw_g (lw_at lw_m1 4 rfl) rfl
theorem q107 : (Jvm.Cond.instantiable "WaterGrounds$Grain" (2 : Nat)) ∈ lw_all := lw_g (lw_at lw_m1 53 rfl) rfl
theorem q109 : (Jvm.Cond.instanceMethod ({ cls := "WaterGrounds$Grain", name := "<init>", desc := "()V" } : Jvm.MethodName)) ∈ lw_all := lw_g (lw_at lw_m1 55 rfl) rfl
theorem q110 : (Jvm.Cond.code ({ cls := "WaterGrounds$Grain", name := "<init>", desc := "()V" } : Jvm.MethodName) prog_5_method_1_code (1 : Nat) (Option.none : Option Jvm.ClassFile.FieldType)) ∈ lw_all := lw_g (lw_at lw_m1 56 rfl) rfl
theorem q111 : (Jvm.Cond.methodLink "WaterGrounds$Grain" (1 : Nat) ({ cls := "java/lang/Object", name := "<init>", desc := "()V" } : Jvm.MethodName)) ∈ lw_all := lw_g (lw_at lw_m1 57 rfl) rfl
theorem q118 : (Jvm.Cond.lays "WaterGrounds$Grain" "WaterGrounds$Grain" "left" "I") ∈ lw_all := lw_g (lw_at lw_m1 64 rfl) rfl
theorem q119 : (Jvm.Cond.soleField "WaterGrounds$Grain" "left") ∈ lw_all := lw_g (lw_at lw_m1 65 rfl) rfl
theorem q120 : (Jvm.Cond.lays "WaterGrounds$Grain" "WaterGrounds$Grain" "inWater" "I") ∈ lw_all := lw_g (lw_at lw_m1 66 rfl) rfl
theorem q121 : (Jvm.Cond.soleField "WaterGrounds$Grain" "inWater") ∈ lw_all := lw_g (lw_at lw_m1 67 rfl) rfl
theorem q122 : (Jvm.Cond.superclass "WaterGrounds$Grain" "java/lang/Object") ∈ lw_all := lw_g (lw_at lw_m1 68 rfl) rfl
theorem in_X3 : ∀ w ∈ wsX30, w ∈ lw_all := lw_in wsX30 [118, 120] (by decide +kernel) (by decide +kernel)
/-! WaterGrounds$Reader -/
set_option maxRecDepth 100000
def RX4 : String := "WaterGrounds$Reader"
def TX4 : u_T := fun k => match k with
  | 0 => ("WaterGrounds$Reader", "row", "[LWaterGrounds$Line;", true)
  | 1 => ("WaterGrounds$Reader", "many", "I", false)
  | 2 => ("WaterGrounds$Reader", "at", "I", false)
  | 3 => ("WaterGrounds$Reader", "place", "I", false)
  | 4 => ("WaterGrounds$Reader", "end", "I", false)
  | 5 => ("WaterGrounds$Reader", "n", "I", false)
  | 6 => ("WaterGrounds$Reader", "m", "I", false)
  | _ => ("WaterGrounds$Reader", "this$0", "LWaterGrounds;", true)
def tyX4 : Nat → FieldType := fun k => match k with
  | 0 => .array (.object "WaterGrounds$Line")
  | 1 => .int
  | 2 => .int
  | 3 => .int
  | 4 => .int
  | 5 => .int
  | 6 => .int
  | _ => .object "WaterGrounds"
abbrev wsX40 : List Cond := u_ws RX4 TX4 8
theorem nmX4 : ∀ a, a < 8 → ∀ b, b < 8 → a ≠ b → (TX4 a).2.1 ≠ (TX4 b).2.1 := by decide +kernel
theorem tyX4_ok : ∀ k, k < 8 → parseFieldDescriptor (TX4 k).2.2.1 = some (tyX4 k) := by decide +kernel
abbrev cX4_init : ByteArray := prog_13_method_1_code
def yX4_init : MethodName := ⟨RX4, "<init>", "(LWaterGrounds;)V"⟩
def dkwX4_init_0 : List UInt8 := [42, 43, 181, 0, 3, 42, 183, 0, 9, 42, 16, 10, 189, 0, 15, 181, 0, 17, 177]
abbrev dktX4_init_0 : List UInt8 := dkwX4_init_0 ++ []
theorem dksX4_init_0 : cX4_init.data.toList.drop 0 = dktX4_init_0 := by decide +kernel
theorem dX4_init_0 : decode cX4_init 0 = .ok (.aload_n 0, 1) := dk_42 (dk_at dksX4_init_0 0 rfl rfl)
theorem dX4_init_1 : decode cX4_init 1 = .ok (.aload_n 1, 1) := dk_43 (dk_at dksX4_init_0 1 rfl rfl)
theorem dX4_init_2 : decode cX4_init 2 = .ok (.putfield 3, 3) := dk_181 0 3 (dk_at dksX4_init_0 2 rfl rfl)
theorem dX4_init_5 : decode cX4_init 5 = .ok (.aload_n 0, 1) := dk_42 (dk_at dksX4_init_0 5 rfl rfl)
theorem dX4_init_6 : decode cX4_init 6 = .ok (.invokespecial 9, 3) := dk_183 0 9 (dk_at dksX4_init_0 6 rfl rfl)
theorem dX4_init_9 : decode cX4_init 9 = .ok (.aload_n 0, 1) := dk_42 (dk_at dksX4_init_0 9 rfl rfl)
theorem dX4_init_10 : decode cX4_init 10 = .ok (.bipush 10, 2) := dk_16 10 (dk_at dksX4_init_0 10 rfl rfl)
theorem dX4_init_12 : decode cX4_init 12 = .ok (.anewarray 15, 3) := dk_189 0 15 (dk_at dksX4_init_0 12 rfl rfl)
theorem dX4_init_15 : decode cX4_init 15 = .ok (.putfield 17, 3) := dk_181 0 17 (dk_at dksX4_init_0 15 rfl rfl)
theorem dX4_init_18 : decode cX4_init 18 = .ok (.return_, 1) := dk_177 (dk_at dksX4_init_0 18 rfl rfl)
abbrev cX4_read : ByteArray := prog_13_method_14_code
def yX4_read : MethodName := ⟨RX4, "read", "()V"⟩
def dkwX4_read_5 : List UInt8 := [42, 89, 180, 0, 171, 4, 96, 181, 0, 171, 167, 255, 192, 177]
abbrev dktX4_read_5 : List UInt8 := dkwX4_read_5 ++ []
def dkwX4_read_4 : List UInt8 := [153, 0, 7, 4, 167, 0, 4, 3, 182, 0, 75, 42, 180, 0, 17, 42, 180, 0, 171, 42, 182, 0, 180, 83]
abbrev dktX4_read_4 : List UInt8 := dkwX4_read_4 ++ dktX4_read_5
def dkwX4_read_3 : List UInt8 := [180, 0, 41, 162, 0, 56, 42, 42, 180, 0, 171, 16, 10, 162, 0, 16, 42, 18, 183, 182, 0, 66]
abbrev dktX4_read_3 : List UInt8 := dkwX4_read_3 ++ dktX4_read_4
def dkwX4_read_2 : List UInt8 := [182, 0, 180, 83, 42, 89, 180, 0, 171, 4, 96, 181, 0, 171, 42, 180, 0, 44, 42, 180, 0, 3]
abbrev dktX4_read_2 : List UInt8 := dkwX4_read_2 ++ dktX4_read_3
def dkwX4_read_1 : List UInt8 := [180, 0, 3, 180, 0, 177, 181, 0, 86, 42, 182, 0, 63, 42, 180, 0, 17, 42, 180, 0, 171, 42]
abbrev dktX4_read_1 : List UInt8 := dkwX4_read_1 ++ dktX4_read_2
def dkwX4_read_0 : List UInt8 := [42, 3, 181, 0, 37, 42, 3, 181, 0, 171, 42, 42, 180, 0, 3, 180, 0, 174, 181, 0, 83, 42, 42]
abbrev dktX4_read_0 : List UInt8 := dkwX4_read_0 ++ dktX4_read_1
theorem dksX4_read_0 : cX4_read.data.toList.drop 0 = dktX4_read_0 := by decide +kernel
theorem dksX4_read_1 : cX4_read.data.toList.drop 23 = dktX4_read_1 := dk_seg dksX4_read_0 23 rfl rfl
theorem dksX4_read_2 : cX4_read.data.toList.drop 45 = dktX4_read_2 := dk_seg dksX4_read_1 22 rfl rfl
theorem dksX4_read_3 : cX4_read.data.toList.drop 67 = dktX4_read_3 := dk_seg dksX4_read_2 22 rfl rfl
theorem dksX4_read_4 : cX4_read.data.toList.drop 89 = dktX4_read_4 := dk_seg dksX4_read_3 22 rfl rfl
theorem dksX4_read_5 : cX4_read.data.toList.drop 113 = dktX4_read_5 := dk_seg dksX4_read_4 24 rfl rfl
theorem dX4_read_0 : decode cX4_read 0 = .ok (.aload_n 0, 1) := dk_42 (dk_at dksX4_read_0 0 rfl rfl)
theorem dX4_read_1 : decode cX4_read 1 = .ok (.iconst 0, 1) := dk_3 (dk_at dksX4_read_0 1 rfl rfl)
theorem dX4_read_2 : decode cX4_read 2 = .ok (.putfield 37, 3) := dk_181 0 37 (dk_at dksX4_read_0 2 rfl rfl)
theorem dX4_read_5 : decode cX4_read 5 = .ok (.aload_n 0, 1) := dk_42 (dk_at dksX4_read_0 5 rfl rfl)
theorem dX4_read_6 : decode cX4_read 6 = .ok (.iconst 0, 1) := dk_3 (dk_at dksX4_read_0 6 rfl rfl)
theorem dX4_read_7 : decode cX4_read 7 = .ok (.putfield 171, 3) := dk_181 0 171 (dk_at dksX4_read_0 7 rfl rfl)
theorem dX4_read_10 : decode cX4_read 10 = .ok (.aload_n 0, 1) := dk_42 (dk_at dksX4_read_0 10 rfl rfl)
theorem dX4_read_11 : decode cX4_read 11 = .ok (.aload_n 0, 1) := dk_42 (dk_at dksX4_read_0 11 rfl rfl)
theorem dX4_read_12 : decode cX4_read 12 = .ok (.getfield 3, 3) := dk_180 0 3 (dk_at dksX4_read_0 12 rfl rfl)
theorem dX4_read_15 : decode cX4_read 15 = .ok (.getfield 174, 3) := dk_180 0 174 (dk_at dksX4_read_0 15 rfl rfl)
theorem dX4_read_18 : decode cX4_read 18 = .ok (.putfield 83, 3) := dk_181 0 83 (dk_at dksX4_read_0 18 rfl rfl)
theorem dX4_read_21 : decode cX4_read 21 = .ok (.aload_n 0, 1) := dk_42 (dk_at dksX4_read_0 21 rfl rfl)
theorem dX4_read_22 : decode cX4_read 22 = .ok (.aload_n 0, 1) := dk_42 (dk_at dksX4_read_0 22 rfl rfl)
theorem dX4_read_23 : decode cX4_read 23 = .ok (.getfield 3, 3) := dk_180 0 3 (dk_at dksX4_read_1 0 rfl rfl)
theorem dX4_read_26 : decode cX4_read 26 = .ok (.getfield 177, 3) := dk_180 0 177 (dk_at dksX4_read_1 3 rfl rfl)
theorem dX4_read_29 : decode cX4_read 29 = .ok (.putfield 86, 3) := dk_181 0 86 (dk_at dksX4_read_1 6 rfl rfl)
theorem dX4_read_32 : decode cX4_read 32 = .ok (.aload_n 0, 1) := dk_42 (dk_at dksX4_read_1 9 rfl rfl)
theorem dX4_read_33 : decode cX4_read 33 = .ok (.invokevirtual 63, 3) := dk_182 0 63 (dk_at dksX4_read_1 10 rfl rfl)
theorem dX4_read_36 : decode cX4_read 36 = .ok (.aload_n 0, 1) := dk_42 (dk_at dksX4_read_1 13 rfl rfl)
theorem dX4_read_37 : decode cX4_read 37 = .ok (.getfield 17, 3) := dk_180 0 17 (dk_at dksX4_read_1 14 rfl rfl)
theorem dX4_read_40 : decode cX4_read 40 = .ok (.aload_n 0, 1) := dk_42 (dk_at dksX4_read_1 17 rfl rfl)
theorem dX4_read_41 : decode cX4_read 41 = .ok (.getfield 171, 3) := dk_180 0 171 (dk_at dksX4_read_1 18 rfl rfl)
theorem dX4_read_44 : decode cX4_read 44 = .ok (.aload_n 0, 1) := dk_42 (dk_at dksX4_read_1 21 rfl rfl)
theorem dX4_read_45 : decode cX4_read 45 = .ok (.invokevirtual 180, 3) := dk_182 0 180 (dk_at dksX4_read_2 0 rfl rfl)
theorem dX4_read_48 : decode cX4_read 48 = .ok (.aastore, 1) := dk_83 (dk_at dksX4_read_2 3 rfl rfl)
theorem dX4_read_49 : decode cX4_read 49 = .ok (.aload_n 0, 1) := dk_42 (dk_at dksX4_read_2 4 rfl rfl)
theorem dX4_read_50 : decode cX4_read 50 = .ok (.dup, 1) := dk_89 (dk_at dksX4_read_2 5 rfl rfl)
theorem dX4_read_51 : decode cX4_read 51 = .ok (.getfield 171, 3) := dk_180 0 171 (dk_at dksX4_read_2 6 rfl rfl)
theorem dX4_read_54 : decode cX4_read 54 = .ok (.iconst 1, 1) := dk_4 (dk_at dksX4_read_2 9 rfl rfl)
theorem dX4_read_55 : decode cX4_read 55 = .ok (.iadd, 1) := dk_96 (dk_at dksX4_read_2 10 rfl rfl)
theorem dX4_read_56 : decode cX4_read 56 = .ok (.putfield 171, 3) := dk_181 0 171 (dk_at dksX4_read_2 11 rfl rfl)
theorem dX4_read_59 : decode cX4_read 59 = .ok (.aload_n 0, 1) := dk_42 (dk_at dksX4_read_2 14 rfl rfl)
theorem dX4_read_60 : decode cX4_read 60 = .ok (.getfield 44, 3) := dk_180 0 44 (dk_at dksX4_read_2 15 rfl rfl)
theorem dX4_read_63 : decode cX4_read 63 = .ok (.aload_n 0, 1) := dk_42 (dk_at dksX4_read_2 18 rfl rfl)
theorem dX4_read_64 : decode cX4_read 64 = .ok (.getfield 3, 3) := dk_180 0 3 (dk_at dksX4_read_2 19 rfl rfl)
theorem dX4_read_67 : decode cX4_read 67 = .ok (.getfield 41, 3) := dk_180 0 41 (dk_at dksX4_read_3 0 rfl rfl)
theorem dX4_read_70 : decode cX4_read 70 = .ok (.if_icmp .ge 56, 3) := dk_162 0 56 (dk_at dksX4_read_3 3 rfl rfl)
theorem dX4_read_73 : decode cX4_read 73 = .ok (.aload_n 0, 1) := dk_42 (dk_at dksX4_read_3 6 rfl rfl)
theorem dX4_read_74 : decode cX4_read 74 = .ok (.aload_n 0, 1) := dk_42 (dk_at dksX4_read_3 7 rfl rfl)
theorem dX4_read_75 : decode cX4_read 75 = .ok (.getfield 171, 3) := dk_180 0 171 (dk_at dksX4_read_3 8 rfl rfl)
theorem dX4_read_78 : decode cX4_read 78 = .ok (.bipush 10, 2) := dk_16 10 (dk_at dksX4_read_3 11 rfl rfl)
theorem dX4_read_80 : decode cX4_read 80 = .ok (.if_icmp .ge 16, 3) := dk_162 0 16 (dk_at dksX4_read_3 13 rfl rfl)
theorem dX4_read_83 : decode cX4_read 83 = .ok (.aload_n 0, 1) := dk_42 (dk_at dksX4_read_3 16 rfl rfl)
theorem dX4_read_84 : decode cX4_read 84 = .ok (.ldc 183, 2) := dk_18 183 (dk_at dksX4_read_3 17 rfl rfl)
theorem dX4_read_86 : decode cX4_read 86 = .ok (.invokevirtual 66, 3) := dk_182 0 66 (dk_at dksX4_read_3 19 rfl rfl)
theorem dX4_read_89 : decode cX4_read 89 = .ok (.ifCond .eq 7, 3) := dk_153 0 7 (dk_at dksX4_read_4 0 rfl rfl)
theorem dX4_read_92 : decode cX4_read 92 = .ok (.iconst 1, 1) := dk_4 (dk_at dksX4_read_4 3 rfl rfl)
theorem dX4_read_93 : decode cX4_read 93 = .ok (.goto 4, 3) := dk_167 0 4 (dk_at dksX4_read_4 4 rfl rfl)
theorem dX4_read_96 : decode cX4_read 96 = .ok (.iconst 0, 1) := dk_3 (dk_at dksX4_read_4 7 rfl rfl)
theorem dX4_read_97 : decode cX4_read 97 = .ok (.invokevirtual 75, 3) := dk_182 0 75 (dk_at dksX4_read_4 8 rfl rfl)
theorem dX4_read_100 : decode cX4_read 100 = .ok (.aload_n 0, 1) := dk_42 (dk_at dksX4_read_4 11 rfl rfl)
theorem dX4_read_101 : decode cX4_read 101 = .ok (.getfield 17, 3) := dk_180 0 17 (dk_at dksX4_read_4 12 rfl rfl)
theorem dX4_read_104 : decode cX4_read 104 = .ok (.aload_n 0, 1) := dk_42 (dk_at dksX4_read_4 15 rfl rfl)
theorem dX4_read_105 : decode cX4_read 105 = .ok (.getfield 171, 3) := dk_180 0 171 (dk_at dksX4_read_4 16 rfl rfl)
theorem dX4_read_108 : decode cX4_read 108 = .ok (.aload_n 0, 1) := dk_42 (dk_at dksX4_read_4 19 rfl rfl)
theorem dX4_read_109 : decode cX4_read 109 = .ok (.invokevirtual 180, 3) := dk_182 0 180 (dk_at dksX4_read_4 20 rfl rfl)
theorem dX4_read_112 : decode cX4_read 112 = .ok (.aastore, 1) := dk_83 (dk_at dksX4_read_4 23 rfl rfl)
theorem dX4_read_113 : decode cX4_read 113 = .ok (.aload_n 0, 1) := dk_42 (dk_at dksX4_read_5 0 rfl rfl)
theorem dX4_read_114 : decode cX4_read 114 = .ok (.dup, 1) := dk_89 (dk_at dksX4_read_5 1 rfl rfl)
theorem dX4_read_115 : decode cX4_read 115 = .ok (.getfield 171, 3) := dk_180 0 171 (dk_at dksX4_read_5 2 rfl rfl)
theorem dX4_read_118 : decode cX4_read 118 = .ok (.iconst 1, 1) := dk_4 (dk_at dksX4_read_5 5 rfl rfl)
theorem dX4_read_119 : decode cX4_read 119 = .ok (.iadd, 1) := dk_96 (dk_at dksX4_read_5 6 rfl rfl)
theorem dX4_read_120 : decode cX4_read 120 = .ok (.putfield 171, 3) := dk_181 0 171 (dk_at dksX4_read_5 7 rfl rfl)
theorem dX4_read_123 : decode cX4_read 123 = .ok (.goto (-64), 3) := dk_167 255 192 (dk_at dksX4_read_5 10 rfl rfl)
theorem dX4_read_126 : decode cX4_read 126 = .ok (.return_, 1) := dk_177 (dk_at dksX4_read_5 13 rfl rfl)
abbrev cX4_token : ByteArray := prog_13_method_3_code
def yX4_token : MethodName := ⟨RX4, "token", "()V"⟩
def dkwX4_token_6 : List UInt8 := [180, 0, 37, 181, 0, 51, 177]
abbrev dktX4_token_6 : List UInt8 := dkwX4_token_6 ++ []
def dkwX4_token_5 : List UInt8 := [180, 0, 44, 182, 0, 47, 160, 0, 16, 42, 89, 180, 0, 37, 4, 96, 181, 0, 37, 167, 255, 202, 42, 42]
abbrev dktX4_token_5 : List UInt8 := dkwX4_token_5 ++ dktX4_token_6
def dkwX4_token_4 : List UInt8 := [162, 0, 46, 42, 42, 180, 0, 44, 182, 0, 47, 158, 0, 35, 42, 42, 180, 0, 37, 182, 0, 47, 42, 42]
abbrev dktX4_token_4 : List UInt8 := dkwX4_token_4 ++ dktX4_token_5
def dkwX4_token_3 : List UInt8 := [162, 0, 7, 4, 167, 0, 4, 3, 96, 181, 0, 37, 42, 180, 0, 37, 42, 180, 0, 3, 180, 0, 41]
abbrev dktX4_token_3 : List UInt8 := dkwX4_token_3 ++ dktX4_token_4
def dkwX4_token_2 : List UInt8 := [180, 0, 37, 181, 0, 44, 42, 89, 180, 0, 37, 42, 180, 0, 37, 42, 180, 0, 3, 180, 0, 41]
abbrev dktX4_token_2 : List UInt8 := dkwX4_token_2 ++ dktX4_token_3
def dkwX4_token_1 : List UInt8 := [180, 0, 37, 51, 16, 32, 160, 0, 16, 42, 89, 180, 0, 37, 4, 96, 181, 0, 37, 167, 255, 215, 42, 42]
abbrev dktX4_token_1 : List UInt8 := dkwX4_token_1 ++ dktX4_token_2
def dkwX4_token_0 : List UInt8 := [42, 180, 0, 37, 42, 180, 0, 3, 180, 0, 41, 162, 0, 33, 42, 180, 0, 3, 180, 0, 21, 42]
abbrev dktX4_token_0 : List UInt8 := dkwX4_token_0 ++ dktX4_token_1
theorem dksX4_token_0 : cX4_token.data.toList.drop 0 = dktX4_token_0 := by decide +kernel
theorem dksX4_token_1 : cX4_token.data.toList.drop 22 = dktX4_token_1 := dk_seg dksX4_token_0 22 rfl rfl
theorem dksX4_token_2 : cX4_token.data.toList.drop 46 = dktX4_token_2 := dk_seg dksX4_token_1 24 rfl rfl
theorem dksX4_token_3 : cX4_token.data.toList.drop 68 = dktX4_token_3 := dk_seg dksX4_token_2 22 rfl rfl
theorem dksX4_token_4 : cX4_token.data.toList.drop 91 = dktX4_token_4 := dk_seg dksX4_token_3 23 rfl rfl
theorem dksX4_token_5 : cX4_token.data.toList.drop 115 = dktX4_token_5 := dk_seg dksX4_token_4 24 rfl rfl
theorem dksX4_token_6 : cX4_token.data.toList.drop 139 = dktX4_token_6 := dk_seg dksX4_token_5 24 rfl rfl
theorem dX4_token_0 : decode cX4_token 0 = .ok (.aload_n 0, 1) := dk_42 (dk_at dksX4_token_0 0 rfl rfl)
theorem dX4_token_1 : decode cX4_token 1 = .ok (.getfield 37, 3) := dk_180 0 37 (dk_at dksX4_token_0 1 rfl rfl)
theorem dX4_token_4 : decode cX4_token 4 = .ok (.aload_n 0, 1) := dk_42 (dk_at dksX4_token_0 4 rfl rfl)
theorem dX4_token_5 : decode cX4_token 5 = .ok (.getfield 3, 3) := dk_180 0 3 (dk_at dksX4_token_0 5 rfl rfl)
theorem dX4_token_8 : decode cX4_token 8 = .ok (.getfield 41, 3) := dk_180 0 41 (dk_at dksX4_token_0 8 rfl rfl)
theorem dX4_token_11 : decode cX4_token 11 = .ok (.if_icmp .ge 33, 3) := dk_162 0 33 (dk_at dksX4_token_0 11 rfl rfl)
theorem dX4_token_14 : decode cX4_token 14 = .ok (.aload_n 0, 1) := dk_42 (dk_at dksX4_token_0 14 rfl rfl)
theorem dX4_token_15 : decode cX4_token 15 = .ok (.getfield 3, 3) := dk_180 0 3 (dk_at dksX4_token_0 15 rfl rfl)
theorem dX4_token_18 : decode cX4_token 18 = .ok (.getfield 21, 3) := dk_180 0 21 (dk_at dksX4_token_0 18 rfl rfl)
theorem dX4_token_21 : decode cX4_token 21 = .ok (.aload_n 0, 1) := dk_42 (dk_at dksX4_token_0 21 rfl rfl)
theorem dX4_token_22 : decode cX4_token 22 = .ok (.getfield 37, 3) := dk_180 0 37 (dk_at dksX4_token_1 0 rfl rfl)
theorem dX4_token_25 : decode cX4_token 25 = .ok (.baload, 1) := dk_51 (dk_at dksX4_token_1 3 rfl rfl)
theorem dX4_token_26 : decode cX4_token 26 = .ok (.bipush 32, 2) := dk_16 32 (dk_at dksX4_token_1 4 rfl rfl)
theorem dX4_token_28 : decode cX4_token 28 = .ok (.if_icmp .ne 16, 3) := dk_160 0 16 (dk_at dksX4_token_1 6 rfl rfl)
theorem dX4_token_31 : decode cX4_token 31 = .ok (.aload_n 0, 1) := dk_42 (dk_at dksX4_token_1 9 rfl rfl)
theorem dX4_token_32 : decode cX4_token 32 = .ok (.dup, 1) := dk_89 (dk_at dksX4_token_1 10 rfl rfl)
theorem dX4_token_33 : decode cX4_token 33 = .ok (.getfield 37, 3) := dk_180 0 37 (dk_at dksX4_token_1 11 rfl rfl)
theorem dX4_token_36 : decode cX4_token 36 = .ok (.iconst 1, 1) := dk_4 (dk_at dksX4_token_1 14 rfl rfl)
theorem dX4_token_37 : decode cX4_token 37 = .ok (.iadd, 1) := dk_96 (dk_at dksX4_token_1 15 rfl rfl)
theorem dX4_token_38 : decode cX4_token 38 = .ok (.putfield 37, 3) := dk_181 0 37 (dk_at dksX4_token_1 16 rfl rfl)
theorem dX4_token_41 : decode cX4_token 41 = .ok (.goto (-41), 3) := dk_167 255 215 (dk_at dksX4_token_1 19 rfl rfl)
theorem dX4_token_44 : decode cX4_token 44 = .ok (.aload_n 0, 1) := dk_42 (dk_at dksX4_token_1 22 rfl rfl)
theorem dX4_token_45 : decode cX4_token 45 = .ok (.aload_n 0, 1) := dk_42 (dk_at dksX4_token_1 23 rfl rfl)
theorem dX4_token_46 : decode cX4_token 46 = .ok (.getfield 37, 3) := dk_180 0 37 (dk_at dksX4_token_2 0 rfl rfl)
theorem dX4_token_49 : decode cX4_token 49 = .ok (.putfield 44, 3) := dk_181 0 44 (dk_at dksX4_token_2 3 rfl rfl)
theorem dX4_token_52 : decode cX4_token 52 = .ok (.aload_n 0, 1) := dk_42 (dk_at dksX4_token_2 6 rfl rfl)
theorem dX4_token_53 : decode cX4_token 53 = .ok (.dup, 1) := dk_89 (dk_at dksX4_token_2 7 rfl rfl)
theorem dX4_token_54 : decode cX4_token 54 = .ok (.getfield 37, 3) := dk_180 0 37 (dk_at dksX4_token_2 8 rfl rfl)
theorem dX4_token_57 : decode cX4_token 57 = .ok (.aload_n 0, 1) := dk_42 (dk_at dksX4_token_2 11 rfl rfl)
theorem dX4_token_58 : decode cX4_token 58 = .ok (.getfield 37, 3) := dk_180 0 37 (dk_at dksX4_token_2 12 rfl rfl)
theorem dX4_token_61 : decode cX4_token 61 = .ok (.aload_n 0, 1) := dk_42 (dk_at dksX4_token_2 15 rfl rfl)
theorem dX4_token_62 : decode cX4_token 62 = .ok (.getfield 3, 3) := dk_180 0 3 (dk_at dksX4_token_2 16 rfl rfl)
theorem dX4_token_65 : decode cX4_token 65 = .ok (.getfield 41, 3) := dk_180 0 41 (dk_at dksX4_token_2 19 rfl rfl)
theorem dX4_token_68 : decode cX4_token 68 = .ok (.if_icmp .ge 7, 3) := dk_162 0 7 (dk_at dksX4_token_3 0 rfl rfl)
theorem dX4_token_71 : decode cX4_token 71 = .ok (.iconst 1, 1) := dk_4 (dk_at dksX4_token_3 3 rfl rfl)
theorem dX4_token_72 : decode cX4_token 72 = .ok (.goto 4, 3) := dk_167 0 4 (dk_at dksX4_token_3 4 rfl rfl)
theorem dX4_token_75 : decode cX4_token 75 = .ok (.iconst 0, 1) := dk_3 (dk_at dksX4_token_3 7 rfl rfl)
theorem dX4_token_76 : decode cX4_token 76 = .ok (.iadd, 1) := dk_96 (dk_at dksX4_token_3 8 rfl rfl)
theorem dX4_token_77 : decode cX4_token 77 = .ok (.putfield 37, 3) := dk_181 0 37 (dk_at dksX4_token_3 9 rfl rfl)
theorem dX4_token_80 : decode cX4_token 80 = .ok (.aload_n 0, 1) := dk_42 (dk_at dksX4_token_3 12 rfl rfl)
theorem dX4_token_81 : decode cX4_token 81 = .ok (.getfield 37, 3) := dk_180 0 37 (dk_at dksX4_token_3 13 rfl rfl)
theorem dX4_token_84 : decode cX4_token 84 = .ok (.aload_n 0, 1) := dk_42 (dk_at dksX4_token_3 16 rfl rfl)
theorem dX4_token_85 : decode cX4_token 85 = .ok (.getfield 3, 3) := dk_180 0 3 (dk_at dksX4_token_3 17 rfl rfl)
theorem dX4_token_88 : decode cX4_token 88 = .ok (.getfield 41, 3) := dk_180 0 41 (dk_at dksX4_token_3 20 rfl rfl)
theorem dX4_token_91 : decode cX4_token 91 = .ok (.if_icmp .ge 46, 3) := dk_162 0 46 (dk_at dksX4_token_4 0 rfl rfl)
theorem dX4_token_94 : decode cX4_token 94 = .ok (.aload_n 0, 1) := dk_42 (dk_at dksX4_token_4 3 rfl rfl)
theorem dX4_token_95 : decode cX4_token 95 = .ok (.aload_n 0, 1) := dk_42 (dk_at dksX4_token_4 4 rfl rfl)
theorem dX4_token_96 : decode cX4_token 96 = .ok (.getfield 44, 3) := dk_180 0 44 (dk_at dksX4_token_4 5 rfl rfl)
theorem dX4_token_99 : decode cX4_token 99 = .ok (.invokevirtual 47, 3) := dk_182 0 47 (dk_at dksX4_token_4 8 rfl rfl)
theorem dX4_token_102 : decode cX4_token 102 = .ok (.ifCond .le 35, 3) := dk_158 0 35 (dk_at dksX4_token_4 11 rfl rfl)
theorem dX4_token_105 : decode cX4_token 105 = .ok (.aload_n 0, 1) := dk_42 (dk_at dksX4_token_4 14 rfl rfl)
theorem dX4_token_106 : decode cX4_token 106 = .ok (.aload_n 0, 1) := dk_42 (dk_at dksX4_token_4 15 rfl rfl)
theorem dX4_token_107 : decode cX4_token 107 = .ok (.getfield 37, 3) := dk_180 0 37 (dk_at dksX4_token_4 16 rfl rfl)
theorem dX4_token_110 : decode cX4_token 110 = .ok (.invokevirtual 47, 3) := dk_182 0 47 (dk_at dksX4_token_4 19 rfl rfl)
theorem dX4_token_113 : decode cX4_token 113 = .ok (.aload_n 0, 1) := dk_42 (dk_at dksX4_token_4 22 rfl rfl)
theorem dX4_token_114 : decode cX4_token 114 = .ok (.aload_n 0, 1) := dk_42 (dk_at dksX4_token_4 23 rfl rfl)
theorem dX4_token_115 : decode cX4_token 115 = .ok (.getfield 44, 3) := dk_180 0 44 (dk_at dksX4_token_5 0 rfl rfl)
theorem dX4_token_118 : decode cX4_token 118 = .ok (.invokevirtual 47, 3) := dk_182 0 47 (dk_at dksX4_token_5 3 rfl rfl)
theorem dX4_token_121 : decode cX4_token 121 = .ok (.if_icmp .ne 16, 3) := dk_160 0 16 (dk_at dksX4_token_5 6 rfl rfl)
theorem dX4_token_124 : decode cX4_token 124 = .ok (.aload_n 0, 1) := dk_42 (dk_at dksX4_token_5 9 rfl rfl)
theorem dX4_token_125 : decode cX4_token 125 = .ok (.dup, 1) := dk_89 (dk_at dksX4_token_5 10 rfl rfl)
theorem dX4_token_126 : decode cX4_token 126 = .ok (.getfield 37, 3) := dk_180 0 37 (dk_at dksX4_token_5 11 rfl rfl)
theorem dX4_token_129 : decode cX4_token 129 = .ok (.iconst 1, 1) := dk_4 (dk_at dksX4_token_5 14 rfl rfl)
theorem dX4_token_130 : decode cX4_token 130 = .ok (.iadd, 1) := dk_96 (dk_at dksX4_token_5 15 rfl rfl)
theorem dX4_token_131 : decode cX4_token 131 = .ok (.putfield 37, 3) := dk_181 0 37 (dk_at dksX4_token_5 16 rfl rfl)
theorem dX4_token_134 : decode cX4_token 134 = .ok (.goto (-54), 3) := dk_167 255 202 (dk_at dksX4_token_5 19 rfl rfl)
theorem dX4_token_137 : decode cX4_token 137 = .ok (.aload_n 0, 1) := dk_42 (dk_at dksX4_token_5 22 rfl rfl)
theorem dX4_token_138 : decode cX4_token 138 = .ok (.aload_n 0, 1) := dk_42 (dk_at dksX4_token_5 23 rfl rfl)
theorem dX4_token_139 : decode cX4_token 139 = .ok (.getfield 37, 3) := dk_180 0 37 (dk_at dksX4_token_6 0 rfl rfl)
theorem dX4_token_142 : decode cX4_token 142 = .ok (.putfield 51, 3) := dk_181 0 51 (dk_at dksX4_token_6 3 rfl rfl)
theorem dX4_token_145 : decode cX4_token 145 = .ok (.return_, 1) := dk_177 (dk_at dksX4_token_6 6 rfl rfl)
abbrev cX4_kindAt : ByteArray := prog_13_method_2_code
def yX4_kindAt : MethodName := ⟨RX4, "kindAt", "(I)I"⟩
def dkwX4_kindAt_2 : List UInt8 := [153, 0, 7, 5, 167, 0, 4, 3, 172]
abbrev dktX4_kindAt_2 : List UInt8 := dkwX4_kindAt_2 ++ []
def dkwX4_kindAt_1 : List UInt8 := [167, 0, 30, 42, 180, 0, 3, 180, 0, 21, 27, 51, 133, 20, 0, 33, 20, 0, 35, 184, 0, 29]
abbrev dktX4_kindAt_1 : List UInt8 := dkwX4_kindAt_1 ++ dktX4_kindAt_2
def dkwX4_kindAt_0 : List UInt8 := [42, 180, 0, 3, 180, 0, 21, 27, 51, 133, 20, 0, 25, 20, 0, 27, 184, 0, 29, 153, 0, 7, 4]
abbrev dktX4_kindAt_0 : List UInt8 := dkwX4_kindAt_0 ++ dktX4_kindAt_1
theorem dksX4_kindAt_0 : cX4_kindAt.data.toList.drop 0 = dktX4_kindAt_0 := by decide +kernel
theorem dksX4_kindAt_1 : cX4_kindAt.data.toList.drop 23 = dktX4_kindAt_1 := dk_seg dksX4_kindAt_0 23 rfl rfl
theorem dksX4_kindAt_2 : cX4_kindAt.data.toList.drop 45 = dktX4_kindAt_2 := dk_seg dksX4_kindAt_1 22 rfl rfl
theorem dX4_kindAt_0 : decode cX4_kindAt 0 = .ok (.aload_n 0, 1) := dk_42 (dk_at dksX4_kindAt_0 0 rfl rfl)
theorem dX4_kindAt_1 : decode cX4_kindAt 1 = .ok (.getfield 3, 3) := dk_180 0 3 (dk_at dksX4_kindAt_0 1 rfl rfl)
theorem dX4_kindAt_4 : decode cX4_kindAt 4 = .ok (.getfield 21, 3) := dk_180 0 21 (dk_at dksX4_kindAt_0 4 rfl rfl)
theorem dX4_kindAt_7 : decode cX4_kindAt 7 = .ok (.iload_n 1, 1) := dk_27 (dk_at dksX4_kindAt_0 7 rfl rfl)
theorem dX4_kindAt_8 : decode cX4_kindAt 8 = .ok (.baload, 1) := dk_51 (dk_at dksX4_kindAt_0 8 rfl rfl)
theorem dX4_kindAt_9 : decode cX4_kindAt 9 = .ok (.i2l, 1) := dk_133 (dk_at dksX4_kindAt_0 9 rfl rfl)
theorem dX4_kindAt_10 : decode cX4_kindAt 10 = .ok (.ldc2_w 25, 3) := dk_20 0 25 (dk_at dksX4_kindAt_0 10 rfl rfl)
theorem dX4_kindAt_13 : decode cX4_kindAt 13 = .ok (.ldc2_w 27, 3) := dk_20 0 27 (dk_at dksX4_kindAt_0 13 rfl rfl)
theorem dX4_kindAt_16 : decode cX4_kindAt 16 = .ok (.invokestatic 29, 3) := dk_184 0 29 (dk_at dksX4_kindAt_0 16 rfl rfl)
theorem dX4_kindAt_19 : decode cX4_kindAt 19 = .ok (.ifCond .eq 7, 3) := dk_153 0 7 (dk_at dksX4_kindAt_0 19 rfl rfl)
theorem dX4_kindAt_22 : decode cX4_kindAt 22 = .ok (.iconst 1, 1) := dk_4 (dk_at dksX4_kindAt_0 22 rfl rfl)
theorem dX4_kindAt_23 : decode cX4_kindAt 23 = .ok (.goto 30, 3) := dk_167 0 30 (dk_at dksX4_kindAt_1 0 rfl rfl)
theorem dX4_kindAt_26 : decode cX4_kindAt 26 = .ok (.aload_n 0, 1) := dk_42 (dk_at dksX4_kindAt_1 3 rfl rfl)
theorem dX4_kindAt_27 : decode cX4_kindAt 27 = .ok (.getfield 3, 3) := dk_180 0 3 (dk_at dksX4_kindAt_1 4 rfl rfl)
theorem dX4_kindAt_30 : decode cX4_kindAt 30 = .ok (.getfield 21, 3) := dk_180 0 21 (dk_at dksX4_kindAt_1 7 rfl rfl)
theorem dX4_kindAt_33 : decode cX4_kindAt 33 = .ok (.iload_n 1, 1) := dk_27 (dk_at dksX4_kindAt_1 10 rfl rfl)
theorem dX4_kindAt_34 : decode cX4_kindAt 34 = .ok (.baload, 1) := dk_51 (dk_at dksX4_kindAt_1 11 rfl rfl)
theorem dX4_kindAt_35 : decode cX4_kindAt 35 = .ok (.i2l, 1) := dk_133 (dk_at dksX4_kindAt_1 12 rfl rfl)
theorem dX4_kindAt_36 : decode cX4_kindAt 36 = .ok (.ldc2_w 33, 3) := dk_20 0 33 (dk_at dksX4_kindAt_1 13 rfl rfl)
theorem dX4_kindAt_39 : decode cX4_kindAt 39 = .ok (.ldc2_w 35, 3) := dk_20 0 35 (dk_at dksX4_kindAt_1 16 rfl rfl)
theorem dX4_kindAt_42 : decode cX4_kindAt 42 = .ok (.invokestatic 29, 3) := dk_184 0 29 (dk_at dksX4_kindAt_1 19 rfl rfl)
theorem dX4_kindAt_45 : decode cX4_kindAt 45 = .ok (.ifCond .eq 7, 3) := dk_153 0 7 (dk_at dksX4_kindAt_2 0 rfl rfl)
theorem dX4_kindAt_48 : decode cX4_kindAt 48 = .ok (.iconst 2, 1) := dk_5 (dk_at dksX4_kindAt_2 3 rfl rfl)
theorem dX4_kindAt_49 : decode cX4_kindAt 49 = .ok (.goto 4, 3) := dk_167 0 4 (dk_at dksX4_kindAt_2 4 rfl rfl)
theorem dX4_kindAt_52 : decode cX4_kindAt 52 = .ok (.iconst 0, 1) := dk_3 (dk_at dksX4_kindAt_2 7 rfl rfl)
theorem dX4_kindAt_53 : decode cX4_kindAt 53 = .ok (.ireturn, 1) := dk_172 (dk_at dksX4_kindAt_2 8 rfl rfl)
abbrev cX4_line : ByteArray := prog_13_method_13_code
def yX4_line : MethodName := ⟨RX4, "line", "()LWaterGrounds$Line;"⟩
def dkwX4_line_10 : List UInt8 := [42, 180, 0, 3, 27, 44, 183, 0, 170, 176]
abbrev dktX4_line_10 : List UInt8 := dkwX4_line_10 ++ []
def dkwX4_line_9 : List UInt8 := [188, 10, 77, 44, 3, 42, 178, 0, 162, 27, 46, 178, 0, 165, 27, 46, 182, 0, 79, 79, 187, 0, 168, 89]
abbrev dktX4_line_9 : List UInt8 := dkwX4_line_9 ++ dktX4_line_10
def dkwX4_line_8 : List UInt8 := [42, 178, 0, 154, 182, 0, 158, 60, 42, 27, 2, 159, 0, 7, 4, 167, 0, 4, 3, 182, 0, 75, 4]
abbrev dktX4_line_8 : List UInt8 := dkwX4_line_8 ++ dktX4_line_9
def dkwX4_line_7 : List UInt8 := [180, 0, 3, 178, 0, 146, 183, 0, 101, 176, 42, 18, 149, 182, 0, 66, 153, 0, 8, 42, 182, 0, 151, 176]
abbrev dktX4_line_7 : List UInt8 := dkwX4_line_7 ++ dktX4_line_8
def dkwX4_line_6 : List UInt8 := [153, 0, 8, 42, 182, 0, 141, 176, 42, 18, 144, 182, 0, 66, 153, 0, 18, 187, 0, 99, 89, 42]
abbrev dktX4_line_6 : List UInt8 := dkwX4_line_6 ++ dktX4_line_7
def dkwX4_line_5 : List UInt8 := [176, 42, 18, 137, 182, 0, 66, 153, 0, 9, 42, 2, 182, 0, 133, 176, 42, 18, 139, 182, 0, 66]
abbrev dktX4_line_5 : List UInt8 := dkwX4_line_5 ++ dktX4_line_6
def dkwX4_line_4 : List UInt8 := [178, 0, 128, 182, 0, 117, 183, 0, 104, 176, 42, 18, 131, 182, 0, 66, 153, 0, 9, 42, 4, 182, 0, 133]
abbrev dktX4_line_4 : List UInt8 := dkwX4_line_4 ++ dktX4_line_5
def dkwX4_line_3 : List UInt8 := [183, 0, 104, 176, 42, 18, 126, 182, 0, 66, 153, 0, 23, 187, 0, 102, 89, 42, 180, 0, 3, 5, 42]
abbrev dktX4_line_3 : List UInt8 := dkwX4_line_3 ++ dktX4_line_4
def dkwX4_line_2 : List UInt8 := [182, 0, 66, 153, 0, 23, 187, 0, 102, 89, 42, 180, 0, 3, 4, 42, 178, 0, 123, 182, 0, 117]
abbrev dktX4_line_2 : List UInt8 := dkwX4_line_2 ++ dktX4_line_3
def dkwX4_line_1 : List UInt8 := [187, 0, 102, 89, 42, 180, 0, 3, 3, 42, 178, 0, 113, 182, 0, 117, 183, 0, 104, 176, 42, 18, 121]
abbrev dktX4_line_1 : List UInt8 := dkwX4_line_1 ++ dktX4_line_2
def dkwX4_line_0 : List UInt8 := [42, 18, 105, 182, 0, 66, 153, 0, 8, 42, 182, 0, 107, 176, 42, 18, 111, 182, 0, 66, 153, 0, 23]
abbrev dktX4_line_0 : List UInt8 := dkwX4_line_0 ++ dktX4_line_1
theorem dksX4_line_0 : cX4_line.data.toList.drop 0 = dktX4_line_0 := by decide +kernel
theorem dksX4_line_1 : cX4_line.data.toList.drop 23 = dktX4_line_1 := dk_seg dksX4_line_0 23 rfl rfl
theorem dksX4_line_2 : cX4_line.data.toList.drop 46 = dktX4_line_2 := dk_seg dksX4_line_1 23 rfl rfl
theorem dksX4_line_3 : cX4_line.data.toList.drop 68 = dktX4_line_3 := dk_seg dksX4_line_2 22 rfl rfl
theorem dksX4_line_4 : cX4_line.data.toList.drop 91 = dktX4_line_4 := dk_seg dksX4_line_3 23 rfl rfl
theorem dksX4_line_5 : cX4_line.data.toList.drop 115 = dktX4_line_5 := dk_seg dksX4_line_4 24 rfl rfl
theorem dksX4_line_6 : cX4_line.data.toList.drop 137 = dktX4_line_6 := dk_seg dksX4_line_5 22 rfl rfl
theorem dksX4_line_7 : cX4_line.data.toList.drop 159 = dktX4_line_7 := dk_seg dksX4_line_6 22 rfl rfl
theorem dksX4_line_8 : cX4_line.data.toList.drop 183 = dktX4_line_8 := dk_seg dksX4_line_7 24 rfl rfl
theorem dksX4_line_9 : cX4_line.data.toList.drop 206 = dktX4_line_9 := dk_seg dksX4_line_8 23 rfl rfl
theorem dksX4_line_10 : cX4_line.data.toList.drop 230 = dktX4_line_10 := dk_seg dksX4_line_9 24 rfl rfl
theorem dX4_line_0 : decode cX4_line 0 = .ok (.aload_n 0, 1) := dk_42 (dk_at dksX4_line_0 0 rfl rfl)
theorem dX4_line_1 : decode cX4_line 1 = .ok (.ldc 105, 2) := dk_18 105 (dk_at dksX4_line_0 1 rfl rfl)
theorem dX4_line_3 : decode cX4_line 3 = .ok (.invokevirtual 66, 3) := dk_182 0 66 (dk_at dksX4_line_0 3 rfl rfl)
theorem dX4_line_6 : decode cX4_line 6 = .ok (.ifCond .eq 8, 3) := dk_153 0 8 (dk_at dksX4_line_0 6 rfl rfl)
theorem dX4_line_9 : decode cX4_line 9 = .ok (.aload_n 0, 1) := dk_42 (dk_at dksX4_line_0 9 rfl rfl)
theorem dX4_line_10 : decode cX4_line 10 = .ok (.invokevirtual 107, 3) := dk_182 0 107 (dk_at dksX4_line_0 10 rfl rfl)
theorem dX4_line_13 : decode cX4_line 13 = .ok (.areturn, 1) := dk_176 (dk_at dksX4_line_0 13 rfl rfl)
theorem dX4_line_14 : decode cX4_line 14 = .ok (.aload_n 0, 1) := dk_42 (dk_at dksX4_line_0 14 rfl rfl)
theorem dX4_line_15 : decode cX4_line 15 = .ok (.ldc 111, 2) := dk_18 111 (dk_at dksX4_line_0 15 rfl rfl)
theorem dX4_line_17 : decode cX4_line 17 = .ok (.invokevirtual 66, 3) := dk_182 0 66 (dk_at dksX4_line_0 17 rfl rfl)
theorem dX4_line_20 : decode cX4_line 20 = .ok (.ifCond .eq 23, 3) := dk_153 0 23 (dk_at dksX4_line_0 20 rfl rfl)
theorem dX4_line_23 : decode cX4_line 23 = .ok (.new 102, 3) := dk_187 0 102 (dk_at dksX4_line_1 0 rfl rfl)
theorem dX4_line_26 : decode cX4_line 26 = .ok (.dup, 1) := dk_89 (dk_at dksX4_line_1 3 rfl rfl)
theorem dX4_line_27 : decode cX4_line 27 = .ok (.aload_n 0, 1) := dk_42 (dk_at dksX4_line_1 4 rfl rfl)
theorem dX4_line_28 : decode cX4_line 28 = .ok (.getfield 3, 3) := dk_180 0 3 (dk_at dksX4_line_1 5 rfl rfl)
theorem dX4_line_31 : decode cX4_line 31 = .ok (.iconst 0, 1) := dk_3 (dk_at dksX4_line_1 8 rfl rfl)
theorem dX4_line_32 : decode cX4_line 32 = .ok (.aload_n 0, 1) := dk_42 (dk_at dksX4_line_1 9 rfl rfl)
theorem dX4_line_33 : decode cX4_line 33 = .ok (.getstatic 113, 3) := dk_178 0 113 (dk_at dksX4_line_1 10 rfl rfl)
theorem dX4_line_36 : decode cX4_line 36 = .ok (.invokevirtual 117, 3) := dk_182 0 117 (dk_at dksX4_line_1 13 rfl rfl)
theorem dX4_line_39 : decode cX4_line 39 = .ok (.invokespecial 104, 3) := dk_183 0 104 (dk_at dksX4_line_1 16 rfl rfl)
theorem dX4_line_42 : decode cX4_line 42 = .ok (.areturn, 1) := dk_176 (dk_at dksX4_line_1 19 rfl rfl)
theorem dX4_line_43 : decode cX4_line 43 = .ok (.aload_n 0, 1) := dk_42 (dk_at dksX4_line_1 20 rfl rfl)
theorem dX4_line_44 : decode cX4_line 44 = .ok (.ldc 121, 2) := dk_18 121 (dk_at dksX4_line_1 21 rfl rfl)
theorem dX4_line_46 : decode cX4_line 46 = .ok (.invokevirtual 66, 3) := dk_182 0 66 (dk_at dksX4_line_2 0 rfl rfl)
theorem dX4_line_49 : decode cX4_line 49 = .ok (.ifCond .eq 23, 3) := dk_153 0 23 (dk_at dksX4_line_2 3 rfl rfl)
theorem dX4_line_52 : decode cX4_line 52 = .ok (.new 102, 3) := dk_187 0 102 (dk_at dksX4_line_2 6 rfl rfl)
theorem dX4_line_55 : decode cX4_line 55 = .ok (.dup, 1) := dk_89 (dk_at dksX4_line_2 9 rfl rfl)
theorem dX4_line_56 : decode cX4_line 56 = .ok (.aload_n 0, 1) := dk_42 (dk_at dksX4_line_2 10 rfl rfl)
theorem dX4_line_57 : decode cX4_line 57 = .ok (.getfield 3, 3) := dk_180 0 3 (dk_at dksX4_line_2 11 rfl rfl)
theorem dX4_line_60 : decode cX4_line 60 = .ok (.iconst 1, 1) := dk_4 (dk_at dksX4_line_2 14 rfl rfl)
theorem dX4_line_61 : decode cX4_line 61 = .ok (.aload_n 0, 1) := dk_42 (dk_at dksX4_line_2 15 rfl rfl)
theorem dX4_line_62 : decode cX4_line 62 = .ok (.getstatic 123, 3) := dk_178 0 123 (dk_at dksX4_line_2 16 rfl rfl)
theorem dX4_line_65 : decode cX4_line 65 = .ok (.invokevirtual 117, 3) := dk_182 0 117 (dk_at dksX4_line_2 19 rfl rfl)
theorem dX4_line_68 : decode cX4_line 68 = .ok (.invokespecial 104, 3) := dk_183 0 104 (dk_at dksX4_line_3 0 rfl rfl)
theorem dX4_line_71 : decode cX4_line 71 = .ok (.areturn, 1) := dk_176 (dk_at dksX4_line_3 3 rfl rfl)
theorem dX4_line_72 : decode cX4_line 72 = .ok (.aload_n 0, 1) := dk_42 (dk_at dksX4_line_3 4 rfl rfl)
theorem dX4_line_73 : decode cX4_line 73 = .ok (.ldc 126, 2) := dk_18 126 (dk_at dksX4_line_3 5 rfl rfl)
theorem dX4_line_75 : decode cX4_line 75 = .ok (.invokevirtual 66, 3) := dk_182 0 66 (dk_at dksX4_line_3 7 rfl rfl)
theorem dX4_line_78 : decode cX4_line 78 = .ok (.ifCond .eq 23, 3) := dk_153 0 23 (dk_at dksX4_line_3 10 rfl rfl)
theorem dX4_line_81 : decode cX4_line 81 = .ok (.new 102, 3) := dk_187 0 102 (dk_at dksX4_line_3 13 rfl rfl)
theorem dX4_line_84 : decode cX4_line 84 = .ok (.dup, 1) := dk_89 (dk_at dksX4_line_3 16 rfl rfl)
theorem dX4_line_85 : decode cX4_line 85 = .ok (.aload_n 0, 1) := dk_42 (dk_at dksX4_line_3 17 rfl rfl)
theorem dX4_line_86 : decode cX4_line 86 = .ok (.getfield 3, 3) := dk_180 0 3 (dk_at dksX4_line_3 18 rfl rfl)
theorem dX4_line_89 : decode cX4_line 89 = .ok (.iconst 2, 1) := dk_5 (dk_at dksX4_line_3 21 rfl rfl)
theorem dX4_line_90 : decode cX4_line 90 = .ok (.aload_n 0, 1) := dk_42 (dk_at dksX4_line_3 22 rfl rfl)
theorem dX4_line_91 : decode cX4_line 91 = .ok (.getstatic 128, 3) := dk_178 0 128 (dk_at dksX4_line_4 0 rfl rfl)
theorem dX4_line_94 : decode cX4_line 94 = .ok (.invokevirtual 117, 3) := dk_182 0 117 (dk_at dksX4_line_4 3 rfl rfl)
theorem dX4_line_97 : decode cX4_line 97 = .ok (.invokespecial 104, 3) := dk_183 0 104 (dk_at dksX4_line_4 6 rfl rfl)
theorem dX4_line_100 : decode cX4_line 100 = .ok (.areturn, 1) := dk_176 (dk_at dksX4_line_4 9 rfl rfl)
theorem dX4_line_101 : decode cX4_line 101 = .ok (.aload_n 0, 1) := dk_42 (dk_at dksX4_line_4 10 rfl rfl)
theorem dX4_line_102 : decode cX4_line 102 = .ok (.ldc 131, 2) := dk_18 131 (dk_at dksX4_line_4 11 rfl rfl)
theorem dX4_line_104 : decode cX4_line 104 = .ok (.invokevirtual 66, 3) := dk_182 0 66 (dk_at dksX4_line_4 13 rfl rfl)
theorem dX4_line_107 : decode cX4_line 107 = .ok (.ifCond .eq 9, 3) := dk_153 0 9 (dk_at dksX4_line_4 16 rfl rfl)
theorem dX4_line_110 : decode cX4_line 110 = .ok (.aload_n 0, 1) := dk_42 (dk_at dksX4_line_4 19 rfl rfl)
theorem dX4_line_111 : decode cX4_line 111 = .ok (.iconst 1, 1) := dk_4 (dk_at dksX4_line_4 20 rfl rfl)
theorem dX4_line_112 : decode cX4_line 112 = .ok (.invokevirtual 133, 3) := dk_182 0 133 (dk_at dksX4_line_4 21 rfl rfl)
theorem dX4_line_115 : decode cX4_line 115 = .ok (.areturn, 1) := dk_176 (dk_at dksX4_line_5 0 rfl rfl)
theorem dX4_line_116 : decode cX4_line 116 = .ok (.aload_n 0, 1) := dk_42 (dk_at dksX4_line_5 1 rfl rfl)
theorem dX4_line_117 : decode cX4_line 117 = .ok (.ldc 137, 2) := dk_18 137 (dk_at dksX4_line_5 2 rfl rfl)
theorem dX4_line_119 : decode cX4_line 119 = .ok (.invokevirtual 66, 3) := dk_182 0 66 (dk_at dksX4_line_5 4 rfl rfl)
theorem dX4_line_122 : decode cX4_line 122 = .ok (.ifCond .eq 9, 3) := dk_153 0 9 (dk_at dksX4_line_5 7 rfl rfl)
theorem dX4_line_125 : decode cX4_line 125 = .ok (.aload_n 0, 1) := dk_42 (dk_at dksX4_line_5 10 rfl rfl)
theorem dX4_line_126 : decode cX4_line 126 = .ok (.iconst (-1), 1) := dk_2 (dk_at dksX4_line_5 11 rfl rfl)
theorem dX4_line_127 : decode cX4_line 127 = .ok (.invokevirtual 133, 3) := dk_182 0 133 (dk_at dksX4_line_5 12 rfl rfl)
theorem dX4_line_130 : decode cX4_line 130 = .ok (.areturn, 1) := dk_176 (dk_at dksX4_line_5 15 rfl rfl)
theorem dX4_line_131 : decode cX4_line 131 = .ok (.aload_n 0, 1) := dk_42 (dk_at dksX4_line_5 16 rfl rfl)
theorem dX4_line_132 : decode cX4_line 132 = .ok (.ldc 139, 2) := dk_18 139 (dk_at dksX4_line_5 17 rfl rfl)
theorem dX4_line_134 : decode cX4_line 134 = .ok (.invokevirtual 66, 3) := dk_182 0 66 (dk_at dksX4_line_5 19 rfl rfl)
theorem dX4_line_137 : decode cX4_line 137 = .ok (.ifCond .eq 8, 3) := dk_153 0 8 (dk_at dksX4_line_6 0 rfl rfl)
theorem dX4_line_140 : decode cX4_line 140 = .ok (.aload_n 0, 1) := dk_42 (dk_at dksX4_line_6 3 rfl rfl)
theorem dX4_line_141 : decode cX4_line 141 = .ok (.invokevirtual 141, 3) := dk_182 0 141 (dk_at dksX4_line_6 4 rfl rfl)
theorem dX4_line_144 : decode cX4_line 144 = .ok (.areturn, 1) := dk_176 (dk_at dksX4_line_6 7 rfl rfl)
theorem dX4_line_145 : decode cX4_line 145 = .ok (.aload_n 0, 1) := dk_42 (dk_at dksX4_line_6 8 rfl rfl)
theorem dX4_line_146 : decode cX4_line 146 = .ok (.ldc 144, 2) := dk_18 144 (dk_at dksX4_line_6 9 rfl rfl)
theorem dX4_line_148 : decode cX4_line 148 = .ok (.invokevirtual 66, 3) := dk_182 0 66 (dk_at dksX4_line_6 11 rfl rfl)
theorem dX4_line_151 : decode cX4_line 151 = .ok (.ifCond .eq 18, 3) := dk_153 0 18 (dk_at dksX4_line_6 14 rfl rfl)
theorem dX4_line_154 : decode cX4_line 154 = .ok (.new 99, 3) := dk_187 0 99 (dk_at dksX4_line_6 17 rfl rfl)
theorem dX4_line_157 : decode cX4_line 157 = .ok (.dup, 1) := dk_89 (dk_at dksX4_line_6 20 rfl rfl)
theorem dX4_line_158 : decode cX4_line 158 = .ok (.aload_n 0, 1) := dk_42 (dk_at dksX4_line_6 21 rfl rfl)
theorem dX4_line_159 : decode cX4_line 159 = .ok (.getfield 3, 3) := dk_180 0 3 (dk_at dksX4_line_7 0 rfl rfl)
theorem dX4_line_162 : decode cX4_line 162 = .ok (.getstatic 146, 3) := dk_178 0 146 (dk_at dksX4_line_7 3 rfl rfl)
theorem dX4_line_165 : decode cX4_line 165 = .ok (.invokespecial 101, 3) := dk_183 0 101 (dk_at dksX4_line_7 6 rfl rfl)
theorem dX4_line_168 : decode cX4_line 168 = .ok (.areturn, 1) := dk_176 (dk_at dksX4_line_7 9 rfl rfl)
theorem dX4_line_169 : decode cX4_line 169 = .ok (.aload_n 0, 1) := dk_42 (dk_at dksX4_line_7 10 rfl rfl)
theorem dX4_line_170 : decode cX4_line 170 = .ok (.ldc 149, 2) := dk_18 149 (dk_at dksX4_line_7 11 rfl rfl)
theorem dX4_line_172 : decode cX4_line 172 = .ok (.invokevirtual 66, 3) := dk_182 0 66 (dk_at dksX4_line_7 13 rfl rfl)
theorem dX4_line_175 : decode cX4_line 175 = .ok (.ifCond .eq 8, 3) := dk_153 0 8 (dk_at dksX4_line_7 16 rfl rfl)
theorem dX4_line_178 : decode cX4_line 178 = .ok (.aload_n 0, 1) := dk_42 (dk_at dksX4_line_7 19 rfl rfl)
theorem dX4_line_179 : decode cX4_line 179 = .ok (.invokevirtual 151, 3) := dk_182 0 151 (dk_at dksX4_line_7 20 rfl rfl)
theorem dX4_line_182 : decode cX4_line 182 = .ok (.areturn, 1) := dk_176 (dk_at dksX4_line_7 23 rfl rfl)
theorem dX4_line_183 : decode cX4_line 183 = .ok (.aload_n 0, 1) := dk_42 (dk_at dksX4_line_8 0 rfl rfl)
theorem dX4_line_184 : decode cX4_line 184 = .ok (.getstatic 154, 3) := dk_178 0 154 (dk_at dksX4_line_8 1 rfl rfl)
theorem dX4_line_187 : decode cX4_line 187 = .ok (.invokevirtual 158, 3) := dk_182 0 158 (dk_at dksX4_line_8 4 rfl rfl)
theorem dX4_line_190 : decode cX4_line 190 = .ok (.istore_n 1, 1) := dk_60 (dk_at dksX4_line_8 7 rfl rfl)
theorem dX4_line_191 : decode cX4_line 191 = .ok (.aload_n 0, 1) := dk_42 (dk_at dksX4_line_8 8 rfl rfl)
theorem dX4_line_192 : decode cX4_line 192 = .ok (.iload_n 1, 1) := dk_27 (dk_at dksX4_line_8 9 rfl rfl)
theorem dX4_line_193 : decode cX4_line 193 = .ok (.iconst (-1), 1) := dk_2 (dk_at dksX4_line_8 10 rfl rfl)
theorem dX4_line_194 : decode cX4_line 194 = .ok (.if_icmp .eq 7, 3) := dk_159 0 7 (dk_at dksX4_line_8 11 rfl rfl)
theorem dX4_line_197 : decode cX4_line 197 = .ok (.iconst 1, 1) := dk_4 (dk_at dksX4_line_8 14 rfl rfl)
theorem dX4_line_198 : decode cX4_line 198 = .ok (.goto 4, 3) := dk_167 0 4 (dk_at dksX4_line_8 15 rfl rfl)
theorem dX4_line_201 : decode cX4_line 201 = .ok (.iconst 0, 1) := dk_3 (dk_at dksX4_line_8 18 rfl rfl)
theorem dX4_line_202 : decode cX4_line 202 = .ok (.invokevirtual 75, 3) := dk_182 0 75 (dk_at dksX4_line_8 19 rfl rfl)
theorem dX4_line_205 : decode cX4_line 205 = .ok (.iconst 1, 1) := dk_4 (dk_at dksX4_line_8 22 rfl rfl)
theorem dX4_line_206 : decode cX4_line 206 = .ok (.newarray .int, 2) := dk_188_10 (dk_at dksX4_line_9 0 rfl rfl)
theorem dX4_line_208 : decode cX4_line 208 = .ok (.astore_n 2, 1) := dk_77 (dk_at dksX4_line_9 2 rfl rfl)
theorem dX4_line_209 : decode cX4_line 209 = .ok (.aload_n 2, 1) := dk_44 (dk_at dksX4_line_9 3 rfl rfl)
theorem dX4_line_210 : decode cX4_line 210 = .ok (.iconst 0, 1) := dk_3 (dk_at dksX4_line_9 4 rfl rfl)
theorem dX4_line_211 : decode cX4_line 211 = .ok (.aload_n 0, 1) := dk_42 (dk_at dksX4_line_9 5 rfl rfl)
theorem dX4_line_212 : decode cX4_line 212 = .ok (.getstatic 162, 3) := dk_178 0 162 (dk_at dksX4_line_9 6 rfl rfl)
theorem dX4_line_215 : decode cX4_line 215 = .ok (.iload_n 1, 1) := dk_27 (dk_at dksX4_line_9 9 rfl rfl)
theorem dX4_line_216 : decode cX4_line 216 = .ok (.iaload, 1) := dk_46 (dk_at dksX4_line_9 10 rfl rfl)
theorem dX4_line_217 : decode cX4_line 217 = .ok (.getstatic 165, 3) := dk_178 0 165 (dk_at dksX4_line_9 11 rfl rfl)
theorem dX4_line_220 : decode cX4_line 220 = .ok (.iload_n 1, 1) := dk_27 (dk_at dksX4_line_9 14 rfl rfl)
theorem dX4_line_221 : decode cX4_line 221 = .ok (.iaload, 1) := dk_46 (dk_at dksX4_line_9 15 rfl rfl)
theorem dX4_line_222 : decode cX4_line 222 = .ok (.invokevirtual 79, 3) := dk_182 0 79 (dk_at dksX4_line_9 16 rfl rfl)
theorem dX4_line_225 : decode cX4_line 225 = .ok (.iastore, 1) := dk_79 (dk_at dksX4_line_9 19 rfl rfl)
theorem dX4_line_226 : decode cX4_line 226 = .ok (.new 168, 3) := dk_187 0 168 (dk_at dksX4_line_9 20 rfl rfl)
theorem dX4_line_229 : decode cX4_line 229 = .ok (.dup, 1) := dk_89 (dk_at dksX4_line_9 23 rfl rfl)
theorem dX4_line_230 : decode cX4_line 230 = .ok (.aload_n 0, 1) := dk_42 (dk_at dksX4_line_10 0 rfl rfl)
theorem dX4_line_231 : decode cX4_line 231 = .ok (.getfield 3, 3) := dk_180 0 3 (dk_at dksX4_line_10 1 rfl rfl)
theorem dX4_line_234 : decode cX4_line 234 = .ok (.iload_n 1, 1) := dk_27 (dk_at dksX4_line_10 4 rfl rfl)
theorem dX4_line_235 : decode cX4_line 235 = .ok (.aload_n 2, 1) := dk_44 (dk_at dksX4_line_10 5 rfl rfl)
theorem dX4_line_236 : decode cX4_line 236 = .ok (.invokespecial 170, 3) := dk_183 0 170 (dk_at dksX4_line_10 6 rfl rfl)
theorem dX4_line_239 : decode cX4_line 239 = .ok (.areturn, 1) := dk_176 (dk_at dksX4_line_10 9 rfl rfl)
abbrev cX4_skips : ByteArray := prog_13_method_4_code
def yX4_skips : MethodName := ⟨RX4, "skips", "(Ljava/lang/String;)Z"⟩
def dkwX4_skips_3 : List UInt8 := [153, 0, 7, 42, 182, 0, 63, 28, 172]
abbrev dktX4_skips_3 : List UInt8 := dkwX4_skips_3 ++ []
def dkwX4_skips_2 : List UInt8 := [96, 51, 43, 29, 182, 0, 59, 160, 0, 7, 4, 167, 0, 4, 3, 61, 132, 3, 1, 167, 255, 213, 28]
abbrev dktX4_skips_2 : List UInt8 := dkwX4_skips_2 ++ dktX4_skips_3
def dkwX4_skips_1 : List UInt8 := [28, 153, 0, 45, 29, 43, 182, 0, 54, 162, 0, 37, 42, 180, 0, 3, 180, 0, 21, 42, 180, 0, 44, 29]
abbrev dktX4_skips_1 : List UInt8 := dkwX4_skips_1 ++ dktX4_skips_2
def dkwX4_skips_0 : List UInt8 := [42, 180, 0, 51, 42, 180, 0, 44, 100, 43, 182, 0, 54, 160, 0, 7, 4, 167, 0, 4, 3, 61, 3, 62]
abbrev dktX4_skips_0 : List UInt8 := dkwX4_skips_0 ++ dktX4_skips_1
theorem dksX4_skips_0 : cX4_skips.data.toList.drop 0 = dktX4_skips_0 := by decide +kernel
theorem dksX4_skips_1 : cX4_skips.data.toList.drop 24 = dktX4_skips_1 := dk_seg dksX4_skips_0 24 rfl rfl
theorem dksX4_skips_2 : cX4_skips.data.toList.drop 48 = dktX4_skips_2 := dk_seg dksX4_skips_1 24 rfl rfl
theorem dksX4_skips_3 : cX4_skips.data.toList.drop 71 = dktX4_skips_3 := dk_seg dksX4_skips_2 23 rfl rfl
theorem dX4_skips_0 : decode cX4_skips 0 = .ok (.aload_n 0, 1) := dk_42 (dk_at dksX4_skips_0 0 rfl rfl)
theorem dX4_skips_1 : decode cX4_skips 1 = .ok (.getfield 51, 3) := dk_180 0 51 (dk_at dksX4_skips_0 1 rfl rfl)
theorem dX4_skips_4 : decode cX4_skips 4 = .ok (.aload_n 0, 1) := dk_42 (dk_at dksX4_skips_0 4 rfl rfl)
theorem dX4_skips_5 : decode cX4_skips 5 = .ok (.getfield 44, 3) := dk_180 0 44 (dk_at dksX4_skips_0 5 rfl rfl)
theorem dX4_skips_8 : decode cX4_skips 8 = .ok (.isub, 1) := dk_100 (dk_at dksX4_skips_0 8 rfl rfl)
theorem dX4_skips_9 : decode cX4_skips 9 = .ok (.aload_n 1, 1) := dk_43 (dk_at dksX4_skips_0 9 rfl rfl)
theorem dX4_skips_10 : decode cX4_skips 10 = .ok (.invokevirtual 54, 3) := dk_182 0 54 (dk_at dksX4_skips_0 10 rfl rfl)
theorem dX4_skips_13 : decode cX4_skips 13 = .ok (.if_icmp .ne 7, 3) := dk_160 0 7 (dk_at dksX4_skips_0 13 rfl rfl)
theorem dX4_skips_16 : decode cX4_skips 16 = .ok (.iconst 1, 1) := dk_4 (dk_at dksX4_skips_0 16 rfl rfl)
theorem dX4_skips_17 : decode cX4_skips 17 = .ok (.goto 4, 3) := dk_167 0 4 (dk_at dksX4_skips_0 17 rfl rfl)
theorem dX4_skips_20 : decode cX4_skips 20 = .ok (.iconst 0, 1) := dk_3 (dk_at dksX4_skips_0 20 rfl rfl)
theorem dX4_skips_21 : decode cX4_skips 21 = .ok (.istore_n 2, 1) := dk_61 (dk_at dksX4_skips_0 21 rfl rfl)
theorem dX4_skips_22 : decode cX4_skips 22 = .ok (.iconst 0, 1) := dk_3 (dk_at dksX4_skips_0 22 rfl rfl)
theorem dX4_skips_23 : decode cX4_skips 23 = .ok (.istore_n 3, 1) := dk_62 (dk_at dksX4_skips_0 23 rfl rfl)
theorem dX4_skips_24 : decode cX4_skips 24 = .ok (.iload_n 2, 1) := dk_28 (dk_at dksX4_skips_1 0 rfl rfl)
theorem dX4_skips_25 : decode cX4_skips 25 = .ok (.ifCond .eq 45, 3) := dk_153 0 45 (dk_at dksX4_skips_1 1 rfl rfl)
theorem dX4_skips_28 : decode cX4_skips 28 = .ok (.iload_n 3, 1) := dk_29 (dk_at dksX4_skips_1 4 rfl rfl)
theorem dX4_skips_29 : decode cX4_skips 29 = .ok (.aload_n 1, 1) := dk_43 (dk_at dksX4_skips_1 5 rfl rfl)
theorem dX4_skips_30 : decode cX4_skips 30 = .ok (.invokevirtual 54, 3) := dk_182 0 54 (dk_at dksX4_skips_1 6 rfl rfl)
theorem dX4_skips_33 : decode cX4_skips 33 = .ok (.if_icmp .ge 37, 3) := dk_162 0 37 (dk_at dksX4_skips_1 9 rfl rfl)
theorem dX4_skips_36 : decode cX4_skips 36 = .ok (.aload_n 0, 1) := dk_42 (dk_at dksX4_skips_1 12 rfl rfl)
theorem dX4_skips_37 : decode cX4_skips 37 = .ok (.getfield 3, 3) := dk_180 0 3 (dk_at dksX4_skips_1 13 rfl rfl)
theorem dX4_skips_40 : decode cX4_skips 40 = .ok (.getfield 21, 3) := dk_180 0 21 (dk_at dksX4_skips_1 16 rfl rfl)
theorem dX4_skips_43 : decode cX4_skips 43 = .ok (.aload_n 0, 1) := dk_42 (dk_at dksX4_skips_1 19 rfl rfl)
theorem dX4_skips_44 : decode cX4_skips 44 = .ok (.getfield 44, 3) := dk_180 0 44 (dk_at dksX4_skips_1 20 rfl rfl)
theorem dX4_skips_47 : decode cX4_skips 47 = .ok (.iload_n 3, 1) := dk_29 (dk_at dksX4_skips_1 23 rfl rfl)
theorem dX4_skips_48 : decode cX4_skips 48 = .ok (.iadd, 1) := dk_96 (dk_at dksX4_skips_2 0 rfl rfl)
theorem dX4_skips_49 : decode cX4_skips 49 = .ok (.baload, 1) := dk_51 (dk_at dksX4_skips_2 1 rfl rfl)
theorem dX4_skips_50 : decode cX4_skips 50 = .ok (.aload_n 1, 1) := dk_43 (dk_at dksX4_skips_2 2 rfl rfl)
theorem dX4_skips_51 : decode cX4_skips 51 = .ok (.iload_n 3, 1) := dk_29 (dk_at dksX4_skips_2 3 rfl rfl)
theorem dX4_skips_52 : decode cX4_skips 52 = .ok (.invokevirtual 59, 3) := dk_182 0 59 (dk_at dksX4_skips_2 4 rfl rfl)
theorem dX4_skips_55 : decode cX4_skips 55 = .ok (.if_icmp .ne 7, 3) := dk_160 0 7 (dk_at dksX4_skips_2 7 rfl rfl)
theorem dX4_skips_58 : decode cX4_skips 58 = .ok (.iconst 1, 1) := dk_4 (dk_at dksX4_skips_2 10 rfl rfl)
theorem dX4_skips_59 : decode cX4_skips 59 = .ok (.goto 4, 3) := dk_167 0 4 (dk_at dksX4_skips_2 11 rfl rfl)
theorem dX4_skips_62 : decode cX4_skips 62 = .ok (.iconst 0, 1) := dk_3 (dk_at dksX4_skips_2 14 rfl rfl)
theorem dX4_skips_63 : decode cX4_skips 63 = .ok (.istore_n 2, 1) := dk_61 (dk_at dksX4_skips_2 15 rfl rfl)
theorem dX4_skips_64 : decode cX4_skips 64 = .ok (.iinc 3 1, 3) := dk_132 3 1 (dk_at dksX4_skips_2 16 rfl rfl)
theorem dX4_skips_67 : decode cX4_skips 67 = .ok (.goto (-43), 3) := dk_167 255 213 (dk_at dksX4_skips_2 19 rfl rfl)
theorem dX4_skips_70 : decode cX4_skips 70 = .ok (.iload_n 2, 1) := dk_28 (dk_at dksX4_skips_2 22 rfl rfl)
theorem dX4_skips_71 : decode cX4_skips 71 = .ok (.ifCond .eq 7, 3) := dk_153 0 7 (dk_at dksX4_skips_3 0 rfl rfl)
theorem dX4_skips_74 : decode cX4_skips 74 = .ok (.aload_n 0, 1) := dk_42 (dk_at dksX4_skips_3 3 rfl rfl)
theorem dX4_skips_75 : decode cX4_skips 75 = .ok (.invokevirtual 63, 3) := dk_182 0 63 (dk_at dksX4_skips_3 4 rfl rfl)
theorem dX4_skips_78 : decode cX4_skips 78 = .ok (.iload_n 2, 1) := dk_28 (dk_at dksX4_skips_3 7 rfl rfl)
theorem dX4_skips_79 : decode cX4_skips 79 = .ok (.ireturn, 1) := dk_172 (dk_at dksX4_skips_3 8 rfl rfl)
abbrev cX4_ofBed : ByteArray := prog_13_method_9_code
def yX4_ofBed : MethodName := ⟨RX4, "ofBed", "()LWaterGrounds$Line;"⟩
def dkwX4_ofBed_2 : List UInt8 := [176]
abbrev dktX4_ofBed_2 : List UInt8 := dkwX4_ofBed_2 ++ []
def dkwX4_ofBed_1 : List UInt8 := [3, 46, 181, 0, 83, 42, 43, 4, 46, 181, 0, 86, 187, 0, 89, 89, 42, 180, 0, 3, 43, 183, 0, 91]
abbrev dktX4_ofBed_1 : List UInt8 := dkwX4_ofBed_1 ++ dktX4_ofBed_2
def dkwX4_ofBed_0 : List UInt8 := [5, 188, 10, 76, 43, 3, 42, 4, 7, 182, 0, 79, 79, 43, 4, 42, 4, 7, 182, 0, 79, 79, 42, 43]
abbrev dktX4_ofBed_0 : List UInt8 := dkwX4_ofBed_0 ++ dktX4_ofBed_1
theorem dksX4_ofBed_0 : cX4_ofBed.data.toList.drop 0 = dktX4_ofBed_0 := by decide +kernel
theorem dksX4_ofBed_1 : cX4_ofBed.data.toList.drop 24 = dktX4_ofBed_1 := dk_seg dksX4_ofBed_0 24 rfl rfl
theorem dksX4_ofBed_2 : cX4_ofBed.data.toList.drop 48 = dktX4_ofBed_2 := dk_seg dksX4_ofBed_1 24 rfl rfl
theorem dX4_ofBed_0 : decode cX4_ofBed 0 = .ok (.iconst 2, 1) := dk_5 (dk_at dksX4_ofBed_0 0 rfl rfl)
theorem dX4_ofBed_1 : decode cX4_ofBed 1 = .ok (.newarray .int, 2) := dk_188_10 (dk_at dksX4_ofBed_0 1 rfl rfl)
theorem dX4_ofBed_3 : decode cX4_ofBed 3 = .ok (.astore_n 1, 1) := dk_76 (dk_at dksX4_ofBed_0 3 rfl rfl)
theorem dX4_ofBed_4 : decode cX4_ofBed 4 = .ok (.aload_n 1, 1) := dk_43 (dk_at dksX4_ofBed_0 4 rfl rfl)
theorem dX4_ofBed_5 : decode cX4_ofBed 5 = .ok (.iconst 0, 1) := dk_3 (dk_at dksX4_ofBed_0 5 rfl rfl)
theorem dX4_ofBed_6 : decode cX4_ofBed 6 = .ok (.aload_n 0, 1) := dk_42 (dk_at dksX4_ofBed_0 6 rfl rfl)
theorem dX4_ofBed_7 : decode cX4_ofBed 7 = .ok (.iconst 1, 1) := dk_4 (dk_at dksX4_ofBed_0 7 rfl rfl)
theorem dX4_ofBed_8 : decode cX4_ofBed 8 = .ok (.iconst 4, 1) := dk_7 (dk_at dksX4_ofBed_0 8 rfl rfl)
theorem dX4_ofBed_9 : decode cX4_ofBed 9 = .ok (.invokevirtual 79, 3) := dk_182 0 79 (dk_at dksX4_ofBed_0 9 rfl rfl)
theorem dX4_ofBed_12 : decode cX4_ofBed 12 = .ok (.iastore, 1) := dk_79 (dk_at dksX4_ofBed_0 12 rfl rfl)
theorem dX4_ofBed_13 : decode cX4_ofBed 13 = .ok (.aload_n 1, 1) := dk_43 (dk_at dksX4_ofBed_0 13 rfl rfl)
theorem dX4_ofBed_14 : decode cX4_ofBed 14 = .ok (.iconst 1, 1) := dk_4 (dk_at dksX4_ofBed_0 14 rfl rfl)
theorem dX4_ofBed_15 : decode cX4_ofBed 15 = .ok (.aload_n 0, 1) := dk_42 (dk_at dksX4_ofBed_0 15 rfl rfl)
theorem dX4_ofBed_16 : decode cX4_ofBed 16 = .ok (.iconst 1, 1) := dk_4 (dk_at dksX4_ofBed_0 16 rfl rfl)
theorem dX4_ofBed_17 : decode cX4_ofBed 17 = .ok (.iconst 4, 1) := dk_7 (dk_at dksX4_ofBed_0 17 rfl rfl)
theorem dX4_ofBed_18 : decode cX4_ofBed 18 = .ok (.invokevirtual 79, 3) := dk_182 0 79 (dk_at dksX4_ofBed_0 18 rfl rfl)
theorem dX4_ofBed_21 : decode cX4_ofBed 21 = .ok (.iastore, 1) := dk_79 (dk_at dksX4_ofBed_0 21 rfl rfl)
theorem dX4_ofBed_22 : decode cX4_ofBed 22 = .ok (.aload_n 0, 1) := dk_42 (dk_at dksX4_ofBed_0 22 rfl rfl)
theorem dX4_ofBed_23 : decode cX4_ofBed 23 = .ok (.aload_n 1, 1) := dk_43 (dk_at dksX4_ofBed_0 23 rfl rfl)
theorem dX4_ofBed_24 : decode cX4_ofBed 24 = .ok (.iconst 0, 1) := dk_3 (dk_at dksX4_ofBed_1 0 rfl rfl)
theorem dX4_ofBed_25 : decode cX4_ofBed 25 = .ok (.iaload, 1) := dk_46 (dk_at dksX4_ofBed_1 1 rfl rfl)
theorem dX4_ofBed_26 : decode cX4_ofBed 26 = .ok (.putfield 83, 3) := dk_181 0 83 (dk_at dksX4_ofBed_1 2 rfl rfl)
theorem dX4_ofBed_29 : decode cX4_ofBed 29 = .ok (.aload_n 0, 1) := dk_42 (dk_at dksX4_ofBed_1 5 rfl rfl)
theorem dX4_ofBed_30 : decode cX4_ofBed 30 = .ok (.aload_n 1, 1) := dk_43 (dk_at dksX4_ofBed_1 6 rfl rfl)
theorem dX4_ofBed_31 : decode cX4_ofBed 31 = .ok (.iconst 1, 1) := dk_4 (dk_at dksX4_ofBed_1 7 rfl rfl)
theorem dX4_ofBed_32 : decode cX4_ofBed 32 = .ok (.iaload, 1) := dk_46 (dk_at dksX4_ofBed_1 8 rfl rfl)
theorem dX4_ofBed_33 : decode cX4_ofBed 33 = .ok (.putfield 86, 3) := dk_181 0 86 (dk_at dksX4_ofBed_1 9 rfl rfl)
theorem dX4_ofBed_36 : decode cX4_ofBed 36 = .ok (.new 89, 3) := dk_187 0 89 (dk_at dksX4_ofBed_1 12 rfl rfl)
theorem dX4_ofBed_39 : decode cX4_ofBed 39 = .ok (.dup, 1) := dk_89 (dk_at dksX4_ofBed_1 15 rfl rfl)
theorem dX4_ofBed_40 : decode cX4_ofBed 40 = .ok (.aload_n 0, 1) := dk_42 (dk_at dksX4_ofBed_1 16 rfl rfl)
theorem dX4_ofBed_41 : decode cX4_ofBed 41 = .ok (.getfield 3, 3) := dk_180 0 3 (dk_at dksX4_ofBed_1 17 rfl rfl)
theorem dX4_ofBed_44 : decode cX4_ofBed 44 = .ok (.aload_n 1, 1) := dk_43 (dk_at dksX4_ofBed_1 20 rfl rfl)
theorem dX4_ofBed_45 : decode cX4_ofBed 45 = .ok (.invokespecial 91, 3) := dk_183 0 91 (dk_at dksX4_ofBed_1 21 rfl rfl)
theorem dX4_ofBed_48 : decode cX4_ofBed 48 = .ok (.areturn, 1) := dk_176 (dk_at dksX4_ofBed_2 0 rfl rfl)
abbrev cX4_number : ByteArray := prog_13_method_7_code
def yX4_number : MethodName := ⟨RX4, "number", "(II)I"⟩
def dkwX4_number_5 : List UInt8 := [167, 0, 4, 3, 182, 0, 75, 42, 182, 0, 63, 21, 4, 172]
abbrev dktX4_number_5 : List UInt8 := dkwX4_number_5 ++ []
def dkwX4_number_4 : List UInt8 := [167, 255, 219, 42, 29, 153, 0, 20, 21, 4, 133, 27, 133, 28, 133, 184, 0, 29, 153, 0, 7, 4]
abbrev dktX4_number_4 : List UInt8 := dkwX4_number_4 ++ dktX4_number_5
def dkwX4_number_3 : List UInt8 := [21, 4, 104, 42, 180, 0, 3, 180, 0, 21, 21, 5, 51, 96, 16, 48, 100, 54, 4, 132, 5, 1]
abbrev dktX4_number_3 : List UInt8 := dkwX4_number_3 ++ dktX4_number_4
def dkwX4_number_2 : List UInt8 := [54, 4, 42, 180, 0, 44, 54, 5, 29, 153, 0, 39, 21, 5, 42, 180, 0, 51, 162, 0, 30, 16, 10]
abbrev dktX4_number_2 : List UInt8 := dkwX4_number_2 ++ dktX4_number_3
def dkwX4_number_1 : List UInt8 := [160, 0, 20, 42, 180, 0, 51, 42, 180, 0, 44, 100, 6, 163, 0, 7, 4, 167, 0, 4, 3, 62, 3]
abbrev dktX4_number_1 : List UInt8 := dkwX4_number_1 ++ dktX4_number_2
def dkwX4_number_0 : List UInt8 := [42, 180, 0, 44, 42, 180, 0, 3, 180, 0, 41, 162, 0, 32, 42, 42, 180, 0, 44, 182, 0, 47, 5]
abbrev dktX4_number_0 : List UInt8 := dkwX4_number_0 ++ dktX4_number_1
theorem dksX4_number_0 : cX4_number.data.toList.drop 0 = dktX4_number_0 := by decide +kernel
theorem dksX4_number_1 : cX4_number.data.toList.drop 23 = dktX4_number_1 := dk_seg dksX4_number_0 23 rfl rfl
theorem dksX4_number_2 : cX4_number.data.toList.drop 46 = dktX4_number_2 := dk_seg dksX4_number_1 23 rfl rfl
theorem dksX4_number_3 : cX4_number.data.toList.drop 69 = dktX4_number_3 := dk_seg dksX4_number_2 23 rfl rfl
theorem dksX4_number_4 : cX4_number.data.toList.drop 91 = dktX4_number_4 := dk_seg dksX4_number_3 22 rfl rfl
theorem dksX4_number_5 : cX4_number.data.toList.drop 113 = dktX4_number_5 := dk_seg dksX4_number_4 22 rfl rfl
theorem dX4_number_0 : decode cX4_number 0 = .ok (.aload_n 0, 1) := dk_42 (dk_at dksX4_number_0 0 rfl rfl)
theorem dX4_number_1 : decode cX4_number 1 = .ok (.getfield 44, 3) := dk_180 0 44 (dk_at dksX4_number_0 1 rfl rfl)
theorem dX4_number_4 : decode cX4_number 4 = .ok (.aload_n 0, 1) := dk_42 (dk_at dksX4_number_0 4 rfl rfl)
theorem dX4_number_5 : decode cX4_number 5 = .ok (.getfield 3, 3) := dk_180 0 3 (dk_at dksX4_number_0 5 rfl rfl)
theorem dX4_number_8 : decode cX4_number 8 = .ok (.getfield 41, 3) := dk_180 0 41 (dk_at dksX4_number_0 8 rfl rfl)
theorem dX4_number_11 : decode cX4_number 11 = .ok (.if_icmp .ge 32, 3) := dk_162 0 32 (dk_at dksX4_number_0 11 rfl rfl)
theorem dX4_number_14 : decode cX4_number 14 = .ok (.aload_n 0, 1) := dk_42 (dk_at dksX4_number_0 14 rfl rfl)
theorem dX4_number_15 : decode cX4_number 15 = .ok (.aload_n 0, 1) := dk_42 (dk_at dksX4_number_0 15 rfl rfl)
theorem dX4_number_16 : decode cX4_number 16 = .ok (.getfield 44, 3) := dk_180 0 44 (dk_at dksX4_number_0 16 rfl rfl)
theorem dX4_number_19 : decode cX4_number 19 = .ok (.invokevirtual 47, 3) := dk_182 0 47 (dk_at dksX4_number_0 19 rfl rfl)
theorem dX4_number_22 : decode cX4_number 22 = .ok (.iconst 2, 1) := dk_5 (dk_at dksX4_number_0 22 rfl rfl)
theorem dX4_number_23 : decode cX4_number 23 = .ok (.if_icmp .ne 20, 3) := dk_160 0 20 (dk_at dksX4_number_1 0 rfl rfl)
theorem dX4_number_26 : decode cX4_number 26 = .ok (.aload_n 0, 1) := dk_42 (dk_at dksX4_number_1 3 rfl rfl)
theorem dX4_number_27 : decode cX4_number 27 = .ok (.getfield 51, 3) := dk_180 0 51 (dk_at dksX4_number_1 4 rfl rfl)
theorem dX4_number_30 : decode cX4_number 30 = .ok (.aload_n 0, 1) := dk_42 (dk_at dksX4_number_1 7 rfl rfl)
theorem dX4_number_31 : decode cX4_number 31 = .ok (.getfield 44, 3) := dk_180 0 44 (dk_at dksX4_number_1 8 rfl rfl)
theorem dX4_number_34 : decode cX4_number 34 = .ok (.isub, 1) := dk_100 (dk_at dksX4_number_1 11 rfl rfl)
theorem dX4_number_35 : decode cX4_number 35 = .ok (.iconst 3, 1) := dk_6 (dk_at dksX4_number_1 12 rfl rfl)
theorem dX4_number_36 : decode cX4_number 36 = .ok (.if_icmp .gt 7, 3) := dk_163 0 7 (dk_at dksX4_number_1 13 rfl rfl)
theorem dX4_number_39 : decode cX4_number 39 = .ok (.iconst 1, 1) := dk_4 (dk_at dksX4_number_1 16 rfl rfl)
theorem dX4_number_40 : decode cX4_number 40 = .ok (.goto 4, 3) := dk_167 0 4 (dk_at dksX4_number_1 17 rfl rfl)
theorem dX4_number_43 : decode cX4_number 43 = .ok (.iconst 0, 1) := dk_3 (dk_at dksX4_number_1 20 rfl rfl)
theorem dX4_number_44 : decode cX4_number 44 = .ok (.istore_n 3, 1) := dk_62 (dk_at dksX4_number_1 21 rfl rfl)
theorem dX4_number_45 : decode cX4_number 45 = .ok (.iconst 0, 1) := dk_3 (dk_at dksX4_number_1 22 rfl rfl)
theorem dX4_number_46 : decode cX4_number 46 = .ok (.istore 4, 2) := dk_54 4 (dk_at dksX4_number_2 0 rfl rfl)
theorem dX4_number_48 : decode cX4_number 48 = .ok (.aload_n 0, 1) := dk_42 (dk_at dksX4_number_2 2 rfl rfl)
theorem dX4_number_49 : decode cX4_number 49 = .ok (.getfield 44, 3) := dk_180 0 44 (dk_at dksX4_number_2 3 rfl rfl)
theorem dX4_number_52 : decode cX4_number 52 = .ok (.istore 5, 2) := dk_54 5 (dk_at dksX4_number_2 6 rfl rfl)
theorem dX4_number_54 : decode cX4_number 54 = .ok (.iload_n 3, 1) := dk_29 (dk_at dksX4_number_2 8 rfl rfl)
theorem dX4_number_55 : decode cX4_number 55 = .ok (.ifCond .eq 39, 3) := dk_153 0 39 (dk_at dksX4_number_2 9 rfl rfl)
theorem dX4_number_58 : decode cX4_number 58 = .ok (.iload 5, 2) := dk_21 5 (dk_at dksX4_number_2 12 rfl rfl)
theorem dX4_number_60 : decode cX4_number 60 = .ok (.aload_n 0, 1) := dk_42 (dk_at dksX4_number_2 14 rfl rfl)
theorem dX4_number_61 : decode cX4_number 61 = .ok (.getfield 51, 3) := dk_180 0 51 (dk_at dksX4_number_2 15 rfl rfl)
theorem dX4_number_64 : decode cX4_number 64 = .ok (.if_icmp .ge 30, 3) := dk_162 0 30 (dk_at dksX4_number_2 18 rfl rfl)
theorem dX4_number_67 : decode cX4_number 67 = .ok (.bipush 10, 2) := dk_16 10 (dk_at dksX4_number_2 21 rfl rfl)
theorem dX4_number_69 : decode cX4_number 69 = .ok (.iload 4, 2) := dk_21 4 (dk_at dksX4_number_3 0 rfl rfl)
theorem dX4_number_71 : decode cX4_number 71 = .ok (.imul, 1) := dk_104 (dk_at dksX4_number_3 2 rfl rfl)
theorem dX4_number_72 : decode cX4_number 72 = .ok (.aload_n 0, 1) := dk_42 (dk_at dksX4_number_3 3 rfl rfl)
theorem dX4_number_73 : decode cX4_number 73 = .ok (.getfield 3, 3) := dk_180 0 3 (dk_at dksX4_number_3 4 rfl rfl)
theorem dX4_number_76 : decode cX4_number 76 = .ok (.getfield 21, 3) := dk_180 0 21 (dk_at dksX4_number_3 7 rfl rfl)
theorem dX4_number_79 : decode cX4_number 79 = .ok (.iload 5, 2) := dk_21 5 (dk_at dksX4_number_3 10 rfl rfl)
theorem dX4_number_81 : decode cX4_number 81 = .ok (.baload, 1) := dk_51 (dk_at dksX4_number_3 12 rfl rfl)
theorem dX4_number_82 : decode cX4_number 82 = .ok (.iadd, 1) := dk_96 (dk_at dksX4_number_3 13 rfl rfl)
theorem dX4_number_83 : decode cX4_number 83 = .ok (.bipush 48, 2) := dk_16 48 (dk_at dksX4_number_3 14 rfl rfl)
theorem dX4_number_85 : decode cX4_number 85 = .ok (.isub, 1) := dk_100 (dk_at dksX4_number_3 16 rfl rfl)
theorem dX4_number_86 : decode cX4_number 86 = .ok (.istore 4, 2) := dk_54 4 (dk_at dksX4_number_3 17 rfl rfl)
theorem dX4_number_88 : decode cX4_number 88 = .ok (.iinc 5 1, 3) := dk_132 5 1 (dk_at dksX4_number_3 19 rfl rfl)
theorem dX4_number_91 : decode cX4_number 91 = .ok (.goto (-37), 3) := dk_167 255 219 (dk_at dksX4_number_4 0 rfl rfl)
theorem dX4_number_94 : decode cX4_number 94 = .ok (.aload_n 0, 1) := dk_42 (dk_at dksX4_number_4 3 rfl rfl)
theorem dX4_number_95 : decode cX4_number 95 = .ok (.iload_n 3, 1) := dk_29 (dk_at dksX4_number_4 4 rfl rfl)
theorem dX4_number_96 : decode cX4_number 96 = .ok (.ifCond .eq 20, 3) := dk_153 0 20 (dk_at dksX4_number_4 5 rfl rfl)
theorem dX4_number_99 : decode cX4_number 99 = .ok (.iload 4, 2) := dk_21 4 (dk_at dksX4_number_4 8 rfl rfl)
theorem dX4_number_101 : decode cX4_number 101 = .ok (.i2l, 1) := dk_133 (dk_at dksX4_number_4 10 rfl rfl)
theorem dX4_number_102 : decode cX4_number 102 = .ok (.iload_n 1, 1) := dk_27 (dk_at dksX4_number_4 11 rfl rfl)
theorem dX4_number_103 : decode cX4_number 103 = .ok (.i2l, 1) := dk_133 (dk_at dksX4_number_4 12 rfl rfl)
theorem dX4_number_104 : decode cX4_number 104 = .ok (.iload_n 2, 1) := dk_28 (dk_at dksX4_number_4 13 rfl rfl)
theorem dX4_number_105 : decode cX4_number 105 = .ok (.i2l, 1) := dk_133 (dk_at dksX4_number_4 14 rfl rfl)
theorem dX4_number_106 : decode cX4_number 106 = .ok (.invokestatic 29, 3) := dk_184 0 29 (dk_at dksX4_number_4 15 rfl rfl)
theorem dX4_number_109 : decode cX4_number 109 = .ok (.ifCond .eq 7, 3) := dk_153 0 7 (dk_at dksX4_number_4 18 rfl rfl)
theorem dX4_number_112 : decode cX4_number 112 = .ok (.iconst 1, 1) := dk_4 (dk_at dksX4_number_4 21 rfl rfl)
theorem dX4_number_113 : decode cX4_number 113 = .ok (.goto 4, 3) := dk_167 0 4 (dk_at dksX4_number_5 0 rfl rfl)
theorem dX4_number_116 : decode cX4_number 116 = .ok (.iconst 0, 1) := dk_3 (dk_at dksX4_number_5 3 rfl rfl)
theorem dX4_number_117 : decode cX4_number 117 = .ok (.invokevirtual 75, 3) := dk_182 0 75 (dk_at dksX4_number_5 4 rfl rfl)
theorem dX4_number_120 : decode cX4_number 120 = .ok (.aload_n 0, 1) := dk_42 (dk_at dksX4_number_5 7 rfl rfl)
theorem dX4_number_121 : decode cX4_number 121 = .ok (.invokevirtual 63, 3) := dk_182 0 63 (dk_at dksX4_number_5 8 rfl rfl)
theorem dX4_number_124 : decode cX4_number 124 = .ok (.iload 4, 2) := dk_21 4 (dk_at dksX4_number_5 11 rfl rfl)
theorem dX4_number_126 : decode cX4_number 126 = .ok (.ireturn, 1) := dk_172 (dk_at dksX4_number_5 13 rfl rfl)
abbrev cX4_need : ByteArray := prog_13_method_6_code
def yX4_need : MethodName := ⟨RX4, "need", "(Z)V"⟩
def dkwX4_need_0 : List UInt8 := [27, 154, 0, 15, 187, 0, 70, 89, 42, 180, 0, 44, 183, 0, 72, 191, 177]
abbrev dktX4_need_0 : List UInt8 := dkwX4_need_0 ++ []
theorem dksX4_need_0 : cX4_need.data.toList.drop 0 = dktX4_need_0 := by decide +kernel
theorem dX4_need_0 : decode cX4_need 0 = .ok (.iload_n 1, 1) := dk_27 (dk_at dksX4_need_0 0 rfl rfl)
theorem dX4_need_1 : decode cX4_need 1 = .ok (.ifCond .ne 15, 3) := dk_154 0 15 (dk_at dksX4_need_0 1 rfl rfl)
theorem dX4_need_4 : decode cX4_need 4 = .ok (.new 70, 3) := dk_187 0 70 (dk_at dksX4_need_0 4 rfl rfl)
theorem dX4_need_7 : decode cX4_need 7 = .ok (.dup, 1) := dk_89 (dk_at dksX4_need_0 7 rfl rfl)
theorem dX4_need_8 : decode cX4_need 8 = .ok (.aload_n 0, 1) := dk_42 (dk_at dksX4_need_0 8 rfl rfl)
theorem dX4_need_9 : decode cX4_need 9 = .ok (.getfield 44, 3) := dk_180 0 44 (dk_at dksX4_need_0 9 rfl rfl)
theorem dX4_need_12 : decode cX4_need 12 = .ok (.invokespecial 72, 3) := dk_183 0 72 (dk_at dksX4_need_0 12 rfl rfl)
theorem dX4_need_15 : decode cX4_need 15 = .ok (.athrow, 1) := dk_191 (dk_at dksX4_need_0 15 rfl rfl)
theorem dX4_need_16 : decode cX4_need 16 = .ok (.return_, 1) := dk_177 (dk_at dksX4_need_0 16 rfl rfl)
abbrev cX4_numbers : ByteArray := prog_13_method_8_code
def yX4_numbers : MethodName := ⟨RX4, "numbers", "([I)[I"⟩
def dkwX4_numbers_1 : List UInt8 := [132, 3, 1, 167, 255, 236, 44, 176]
abbrev dktX4_numbers_1 : List UInt8 := dkwX4_numbers_1 ++ []
def dkwX4_numbers_0 : List UInt8 := [43, 190, 188, 10, 77, 3, 62, 29, 44, 190, 162, 0, 20, 44, 29, 42, 3, 43, 29, 46, 182, 0, 79, 79]
abbrev dktX4_numbers_0 : List UInt8 := dkwX4_numbers_0 ++ dktX4_numbers_1
theorem dksX4_numbers_0 : cX4_numbers.data.toList.drop 0 = dktX4_numbers_0 := by decide +kernel
theorem dksX4_numbers_1 : cX4_numbers.data.toList.drop 24 = dktX4_numbers_1 := dk_seg dksX4_numbers_0 24 rfl rfl
theorem dX4_numbers_0 : decode cX4_numbers 0 = .ok (.aload_n 1, 1) := dk_43 (dk_at dksX4_numbers_0 0 rfl rfl)
theorem dX4_numbers_1 : decode cX4_numbers 1 = .ok (.arraylength, 1) := dk_190 (dk_at dksX4_numbers_0 1 rfl rfl)
theorem dX4_numbers_2 : decode cX4_numbers 2 = .ok (.newarray .int, 2) := dk_188_10 (dk_at dksX4_numbers_0 2 rfl rfl)
theorem dX4_numbers_4 : decode cX4_numbers 4 = .ok (.astore_n 2, 1) := dk_77 (dk_at dksX4_numbers_0 4 rfl rfl)
theorem dX4_numbers_5 : decode cX4_numbers 5 = .ok (.iconst 0, 1) := dk_3 (dk_at dksX4_numbers_0 5 rfl rfl)
theorem dX4_numbers_6 : decode cX4_numbers 6 = .ok (.istore_n 3, 1) := dk_62 (dk_at dksX4_numbers_0 6 rfl rfl)
theorem dX4_numbers_7 : decode cX4_numbers 7 = .ok (.iload_n 3, 1) := dk_29 (dk_at dksX4_numbers_0 7 rfl rfl)
theorem dX4_numbers_8 : decode cX4_numbers 8 = .ok (.aload_n 2, 1) := dk_44 (dk_at dksX4_numbers_0 8 rfl rfl)
theorem dX4_numbers_9 : decode cX4_numbers 9 = .ok (.arraylength, 1) := dk_190 (dk_at dksX4_numbers_0 9 rfl rfl)
theorem dX4_numbers_10 : decode cX4_numbers 10 = .ok (.if_icmp .ge 20, 3) := dk_162 0 20 (dk_at dksX4_numbers_0 10 rfl rfl)
theorem dX4_numbers_13 : decode cX4_numbers 13 = .ok (.aload_n 2, 1) := dk_44 (dk_at dksX4_numbers_0 13 rfl rfl)
theorem dX4_numbers_14 : decode cX4_numbers 14 = .ok (.iload_n 3, 1) := dk_29 (dk_at dksX4_numbers_0 14 rfl rfl)
theorem dX4_numbers_15 : decode cX4_numbers 15 = .ok (.aload_n 0, 1) := dk_42 (dk_at dksX4_numbers_0 15 rfl rfl)
theorem dX4_numbers_16 : decode cX4_numbers 16 = .ok (.iconst 0, 1) := dk_3 (dk_at dksX4_numbers_0 16 rfl rfl)
theorem dX4_numbers_17 : decode cX4_numbers 17 = .ok (.aload_n 1, 1) := dk_43 (dk_at dksX4_numbers_0 17 rfl rfl)
theorem dX4_numbers_18 : decode cX4_numbers 18 = .ok (.iload_n 3, 1) := dk_29 (dk_at dksX4_numbers_0 18 rfl rfl)
theorem dX4_numbers_19 : decode cX4_numbers 19 = .ok (.iaload, 1) := dk_46 (dk_at dksX4_numbers_0 19 rfl rfl)
theorem dX4_numbers_20 : decode cX4_numbers 20 = .ok (.invokevirtual 79, 3) := dk_182 0 79 (dk_at dksX4_numbers_0 20 rfl rfl)
theorem dX4_numbers_23 : decode cX4_numbers 23 = .ok (.iastore, 1) := dk_79 (dk_at dksX4_numbers_0 23 rfl rfl)
theorem dX4_numbers_24 : decode cX4_numbers 24 = .ok (.iinc 3 1, 3) := dk_132 3 1 (dk_at dksX4_numbers_1 0 rfl rfl)
theorem dX4_numbers_27 : decode cX4_numbers 27 = .ok (.goto (-20), 3) := dk_167 255 236 (dk_at dksX4_numbers_1 3 rfl rfl)
theorem dX4_numbers_30 : decode cX4_numbers 30 = .ok (.aload_n 2, 1) := dk_44 (dk_at dksX4_numbers_1 6 rfl rfl)
theorem dX4_numbers_31 : decode cX4_numbers 31 = .ok (.areturn, 1) := dk_176 (dk_at dksX4_numbers_1 7 rfl rfl)
abbrev cX4_ofCell : ByteArray := prog_13_method_10_code
def yX4_ofCell : MethodName := ⟨RX4, "ofCell", "(I)LWaterGrounds$Line;"⟩
def dkwX4_ofCell_2 : List UInt8 := [180, 0, 3, 27, 44, 183, 0, 96, 176]
abbrev dktX4_ofCell_2 : List UInt8 := dkwX4_ofCell_2 ++ []
def dkwX4_ofCell_1 : List UInt8 := [180, 0, 86, 4, 100, 182, 0, 79, 79, 44, 5, 42, 3, 16, 50, 182, 0, 79, 79, 187, 0, 94, 89, 42]
abbrev dktX4_ofCell_1 : List UInt8 := dkwX4_ofCell_1 ++ dktX4_ofCell_2
def dkwX4_ofCell_0 : List UInt8 := [6, 188, 10, 77, 44, 3, 42, 3, 42, 180, 0, 83, 4, 100, 182, 0, 79, 79, 44, 4, 42, 3, 42]
abbrev dktX4_ofCell_0 : List UInt8 := dkwX4_ofCell_0 ++ dktX4_ofCell_1
theorem dksX4_ofCell_0 : cX4_ofCell.data.toList.drop 0 = dktX4_ofCell_0 := by decide +kernel
theorem dksX4_ofCell_1 : cX4_ofCell.data.toList.drop 23 = dktX4_ofCell_1 := dk_seg dksX4_ofCell_0 23 rfl rfl
theorem dksX4_ofCell_2 : cX4_ofCell.data.toList.drop 47 = dktX4_ofCell_2 := dk_seg dksX4_ofCell_1 24 rfl rfl
theorem dX4_ofCell_0 : decode cX4_ofCell 0 = .ok (.iconst 3, 1) := dk_6 (dk_at dksX4_ofCell_0 0 rfl rfl)
theorem dX4_ofCell_1 : decode cX4_ofCell 1 = .ok (.newarray .int, 2) := dk_188_10 (dk_at dksX4_ofCell_0 1 rfl rfl)
theorem dX4_ofCell_3 : decode cX4_ofCell 3 = .ok (.astore_n 2, 1) := dk_77 (dk_at dksX4_ofCell_0 3 rfl rfl)
theorem dX4_ofCell_4 : decode cX4_ofCell 4 = .ok (.aload_n 2, 1) := dk_44 (dk_at dksX4_ofCell_0 4 rfl rfl)
theorem dX4_ofCell_5 : decode cX4_ofCell 5 = .ok (.iconst 0, 1) := dk_3 (dk_at dksX4_ofCell_0 5 rfl rfl)
theorem dX4_ofCell_6 : decode cX4_ofCell 6 = .ok (.aload_n 0, 1) := dk_42 (dk_at dksX4_ofCell_0 6 rfl rfl)
theorem dX4_ofCell_7 : decode cX4_ofCell 7 = .ok (.iconst 0, 1) := dk_3 (dk_at dksX4_ofCell_0 7 rfl rfl)
theorem dX4_ofCell_8 : decode cX4_ofCell 8 = .ok (.aload_n 0, 1) := dk_42 (dk_at dksX4_ofCell_0 8 rfl rfl)
theorem dX4_ofCell_9 : decode cX4_ofCell 9 = .ok (.getfield 83, 3) := dk_180 0 83 (dk_at dksX4_ofCell_0 9 rfl rfl)
theorem dX4_ofCell_12 : decode cX4_ofCell 12 = .ok (.iconst 1, 1) := dk_4 (dk_at dksX4_ofCell_0 12 rfl rfl)
theorem dX4_ofCell_13 : decode cX4_ofCell 13 = .ok (.isub, 1) := dk_100 (dk_at dksX4_ofCell_0 13 rfl rfl)
theorem dX4_ofCell_14 : decode cX4_ofCell 14 = .ok (.invokevirtual 79, 3) := dk_182 0 79 (dk_at dksX4_ofCell_0 14 rfl rfl)
theorem dX4_ofCell_17 : decode cX4_ofCell 17 = .ok (.iastore, 1) := dk_79 (dk_at dksX4_ofCell_0 17 rfl rfl)
theorem dX4_ofCell_18 : decode cX4_ofCell 18 = .ok (.aload_n 2, 1) := dk_44 (dk_at dksX4_ofCell_0 18 rfl rfl)
theorem dX4_ofCell_19 : decode cX4_ofCell 19 = .ok (.iconst 1, 1) := dk_4 (dk_at dksX4_ofCell_0 19 rfl rfl)
theorem dX4_ofCell_20 : decode cX4_ofCell 20 = .ok (.aload_n 0, 1) := dk_42 (dk_at dksX4_ofCell_0 20 rfl rfl)
theorem dX4_ofCell_21 : decode cX4_ofCell 21 = .ok (.iconst 0, 1) := dk_3 (dk_at dksX4_ofCell_0 21 rfl rfl)
theorem dX4_ofCell_22 : decode cX4_ofCell 22 = .ok (.aload_n 0, 1) := dk_42 (dk_at dksX4_ofCell_0 22 rfl rfl)
theorem dX4_ofCell_23 : decode cX4_ofCell 23 = .ok (.getfield 86, 3) := dk_180 0 86 (dk_at dksX4_ofCell_1 0 rfl rfl)
theorem dX4_ofCell_26 : decode cX4_ofCell 26 = .ok (.iconst 1, 1) := dk_4 (dk_at dksX4_ofCell_1 3 rfl rfl)
theorem dX4_ofCell_27 : decode cX4_ofCell 27 = .ok (.isub, 1) := dk_100 (dk_at dksX4_ofCell_1 4 rfl rfl)
theorem dX4_ofCell_28 : decode cX4_ofCell 28 = .ok (.invokevirtual 79, 3) := dk_182 0 79 (dk_at dksX4_ofCell_1 5 rfl rfl)
theorem dX4_ofCell_31 : decode cX4_ofCell 31 = .ok (.iastore, 1) := dk_79 (dk_at dksX4_ofCell_1 8 rfl rfl)
theorem dX4_ofCell_32 : decode cX4_ofCell 32 = .ok (.aload_n 2, 1) := dk_44 (dk_at dksX4_ofCell_1 9 rfl rfl)
theorem dX4_ofCell_33 : decode cX4_ofCell 33 = .ok (.iconst 2, 1) := dk_5 (dk_at dksX4_ofCell_1 10 rfl rfl)
theorem dX4_ofCell_34 : decode cX4_ofCell 34 = .ok (.aload_n 0, 1) := dk_42 (dk_at dksX4_ofCell_1 11 rfl rfl)
theorem dX4_ofCell_35 : decode cX4_ofCell 35 = .ok (.iconst 0, 1) := dk_3 (dk_at dksX4_ofCell_1 12 rfl rfl)
theorem dX4_ofCell_36 : decode cX4_ofCell 36 = .ok (.bipush 50, 2) := dk_16 50 (dk_at dksX4_ofCell_1 13 rfl rfl)
theorem dX4_ofCell_38 : decode cX4_ofCell 38 = .ok (.invokevirtual 79, 3) := dk_182 0 79 (dk_at dksX4_ofCell_1 15 rfl rfl)
theorem dX4_ofCell_41 : decode cX4_ofCell 41 = .ok (.iastore, 1) := dk_79 (dk_at dksX4_ofCell_1 18 rfl rfl)
theorem dX4_ofCell_42 : decode cX4_ofCell 42 = .ok (.new 94, 3) := dk_187 0 94 (dk_at dksX4_ofCell_1 19 rfl rfl)
theorem dX4_ofCell_45 : decode cX4_ofCell 45 = .ok (.dup, 1) := dk_89 (dk_at dksX4_ofCell_1 22 rfl rfl)
theorem dX4_ofCell_46 : decode cX4_ofCell 46 = .ok (.aload_n 0, 1) := dk_42 (dk_at dksX4_ofCell_1 23 rfl rfl)
theorem dX4_ofCell_47 : decode cX4_ofCell 47 = .ok (.getfield 3, 3) := dk_180 0 3 (dk_at dksX4_ofCell_2 0 rfl rfl)
theorem dX4_ofCell_50 : decode cX4_ofCell 50 = .ok (.iload_n 1, 1) := dk_27 (dk_at dksX4_ofCell_2 3 rfl rfl)
theorem dX4_ofCell_51 : decode cX4_ofCell 51 = .ok (.aload_n 2, 1) := dk_44 (dk_at dksX4_ofCell_2 4 rfl rfl)
theorem dX4_ofCell_52 : decode cX4_ofCell 52 = .ok (.invokespecial 96, 3) := dk_183 0 96 (dk_at dksX4_ofCell_2 5 rfl rfl)
theorem dX4_ofCell_55 : decode cX4_ofCell 55 = .ok (.areturn, 1) := dk_176 (dk_at dksX4_ofCell_2 8 rfl rfl)
abbrev cX4_ofPour : ByteArray := prog_13_method_11_code
def yX4_ofPour : MethodName := ⟨RX4, "ofPour", "()LWaterGrounds$Line;"⟩
def dkwX4_ofPour_2 : List UInt8 := [183, 0, 101, 176]
abbrev dktX4_ofPour_2 : List UInt8 := dkwX4_ofPour_2 ++ []
def dkwX4_ofPour_1 : List UInt8 := [182, 0, 79, 79, 43, 5, 42, 4, 17, 1, 244, 182, 0, 79, 79, 187, 0, 99, 89, 42, 180, 0, 3, 43]
abbrev dktX4_ofPour_1 : List UInt8 := dkwX4_ofPour_1 ++ dktX4_ofPour_2
def dkwX4_ofPour_0 : List UInt8 := [6, 188, 10, 76, 43, 3, 42, 3, 16, 59, 182, 0, 79, 79, 43, 4, 42, 3, 42, 180, 0, 83, 4, 100]
abbrev dktX4_ofPour_0 : List UInt8 := dkwX4_ofPour_0 ++ dktX4_ofPour_1
theorem dksX4_ofPour_0 : cX4_ofPour.data.toList.drop 0 = dktX4_ofPour_0 := by decide +kernel
theorem dksX4_ofPour_1 : cX4_ofPour.data.toList.drop 24 = dktX4_ofPour_1 := dk_seg dksX4_ofPour_0 24 rfl rfl
theorem dksX4_ofPour_2 : cX4_ofPour.data.toList.drop 48 = dktX4_ofPour_2 := dk_seg dksX4_ofPour_1 24 rfl rfl
theorem dX4_ofPour_0 : decode cX4_ofPour 0 = .ok (.iconst 3, 1) := dk_6 (dk_at dksX4_ofPour_0 0 rfl rfl)
theorem dX4_ofPour_1 : decode cX4_ofPour 1 = .ok (.newarray .int, 2) := dk_188_10 (dk_at dksX4_ofPour_0 1 rfl rfl)
theorem dX4_ofPour_3 : decode cX4_ofPour 3 = .ok (.astore_n 1, 1) := dk_76 (dk_at dksX4_ofPour_0 3 rfl rfl)
theorem dX4_ofPour_4 : decode cX4_ofPour 4 = .ok (.aload_n 1, 1) := dk_43 (dk_at dksX4_ofPour_0 4 rfl rfl)
theorem dX4_ofPour_5 : decode cX4_ofPour 5 = .ok (.iconst 0, 1) := dk_3 (dk_at dksX4_ofPour_0 5 rfl rfl)
theorem dX4_ofPour_6 : decode cX4_ofPour 6 = .ok (.aload_n 0, 1) := dk_42 (dk_at dksX4_ofPour_0 6 rfl rfl)
theorem dX4_ofPour_7 : decode cX4_ofPour 7 = .ok (.iconst 0, 1) := dk_3 (dk_at dksX4_ofPour_0 7 rfl rfl)
theorem dX4_ofPour_8 : decode cX4_ofPour 8 = .ok (.bipush 59, 2) := dk_16 59 (dk_at dksX4_ofPour_0 8 rfl rfl)
theorem dX4_ofPour_10 : decode cX4_ofPour 10 = .ok (.invokevirtual 79, 3) := dk_182 0 79 (dk_at dksX4_ofPour_0 10 rfl rfl)
theorem dX4_ofPour_13 : decode cX4_ofPour 13 = .ok (.iastore, 1) := dk_79 (dk_at dksX4_ofPour_0 13 rfl rfl)
theorem dX4_ofPour_14 : decode cX4_ofPour 14 = .ok (.aload_n 1, 1) := dk_43 (dk_at dksX4_ofPour_0 14 rfl rfl)
theorem dX4_ofPour_15 : decode cX4_ofPour 15 = .ok (.iconst 1, 1) := dk_4 (dk_at dksX4_ofPour_0 15 rfl rfl)
theorem dX4_ofPour_16 : decode cX4_ofPour 16 = .ok (.aload_n 0, 1) := dk_42 (dk_at dksX4_ofPour_0 16 rfl rfl)
theorem dX4_ofPour_17 : decode cX4_ofPour 17 = .ok (.iconst 0, 1) := dk_3 (dk_at dksX4_ofPour_0 17 rfl rfl)
theorem dX4_ofPour_18 : decode cX4_ofPour 18 = .ok (.aload_n 0, 1) := dk_42 (dk_at dksX4_ofPour_0 18 rfl rfl)
theorem dX4_ofPour_19 : decode cX4_ofPour 19 = .ok (.getfield 83, 3) := dk_180 0 83 (dk_at dksX4_ofPour_0 19 rfl rfl)
theorem dX4_ofPour_22 : decode cX4_ofPour 22 = .ok (.iconst 1, 1) := dk_4 (dk_at dksX4_ofPour_0 22 rfl rfl)
theorem dX4_ofPour_23 : decode cX4_ofPour 23 = .ok (.isub, 1) := dk_100 (dk_at dksX4_ofPour_0 23 rfl rfl)
theorem dX4_ofPour_24 : decode cX4_ofPour 24 = .ok (.invokevirtual 79, 3) := dk_182 0 79 (dk_at dksX4_ofPour_1 0 rfl rfl)
theorem dX4_ofPour_27 : decode cX4_ofPour 27 = .ok (.iastore, 1) := dk_79 (dk_at dksX4_ofPour_1 3 rfl rfl)
theorem dX4_ofPour_28 : decode cX4_ofPour 28 = .ok (.aload_n 1, 1) := dk_43 (dk_at dksX4_ofPour_1 4 rfl rfl)
theorem dX4_ofPour_29 : decode cX4_ofPour 29 = .ok (.iconst 2, 1) := dk_5 (dk_at dksX4_ofPour_1 5 rfl rfl)
theorem dX4_ofPour_30 : decode cX4_ofPour 30 = .ok (.aload_n 0, 1) := dk_42 (dk_at dksX4_ofPour_1 6 rfl rfl)
theorem dX4_ofPour_31 : decode cX4_ofPour 31 = .ok (.iconst 1, 1) := dk_4 (dk_at dksX4_ofPour_1 7 rfl rfl)
theorem dX4_ofPour_32 : decode cX4_ofPour 32 = .ok (.sipush 500, 3) := dk_17 1 244 (dk_at dksX4_ofPour_1 8 rfl rfl)
theorem dX4_ofPour_35 : decode cX4_ofPour 35 = .ok (.invokevirtual 79, 3) := dk_182 0 79 (dk_at dksX4_ofPour_1 11 rfl rfl)
theorem dX4_ofPour_38 : decode cX4_ofPour 38 = .ok (.iastore, 1) := dk_79 (dk_at dksX4_ofPour_1 14 rfl rfl)
theorem dX4_ofPour_39 : decode cX4_ofPour 39 = .ok (.new 99, 3) := dk_187 0 99 (dk_at dksX4_ofPour_1 15 rfl rfl)
theorem dX4_ofPour_42 : decode cX4_ofPour 42 = .ok (.dup, 1) := dk_89 (dk_at dksX4_ofPour_1 18 rfl rfl)
theorem dX4_ofPour_43 : decode cX4_ofPour 43 = .ok (.aload_n 0, 1) := dk_42 (dk_at dksX4_ofPour_1 19 rfl rfl)
theorem dX4_ofPour_44 : decode cX4_ofPour 44 = .ok (.getfield 3, 3) := dk_180 0 3 (dk_at dksX4_ofPour_1 20 rfl rfl)
theorem dX4_ofPour_47 : decode cX4_ofPour 47 = .ok (.aload_n 1, 1) := dk_43 (dk_at dksX4_ofPour_1 23 rfl rfl)
theorem dX4_ofPour_48 : decode cX4_ofPour 48 = .ok (.invokespecial 101, 3) := dk_183 0 101 (dk_at dksX4_ofPour_2 0 rfl rfl)
theorem dX4_ofPour_51 : decode cX4_ofPour 51 = .ok (.areturn, 1) := dk_176 (dk_at dksX4_ofPour_2 3 rfl rfl)
abbrev cX4_ofChart : ByteArray := prog_13_method_12_code
def yX4_ofChart : MethodName := ⟨RX4, "ofChart", "()LWaterGrounds$Line;"⟩
def dkwX4_ofChart_2 : List UInt8 := [187, 0, 102, 89, 42, 180, 0, 3, 6, 43, 183, 0, 104, 176]
abbrev dktX4_ofChart_2 : List UInt8 := dkwX4_ofChart_2 ++ []
def dkwX4_ofChart_1 : List UInt8 := [43, 28, 4, 100, 46, 167, 0, 4, 3, 17, 3, 231, 182, 0, 79, 79, 132, 2, 1, 167, 255, 219]
abbrev dktX4_ofChart_1 : List UInt8 := dkwX4_ofChart_1 ++ dktX4_ofChart_2
def dkwX4_ofChart_0 : List UInt8 := [8, 188, 10, 76, 3, 61, 28, 8, 162, 0, 38, 43, 28, 42, 28, 4, 159, 0, 8, 28, 6, 160, 0, 11]
abbrev dktX4_ofChart_0 : List UInt8 := dkwX4_ofChart_0 ++ dktX4_ofChart_1
theorem dksX4_ofChart_0 : cX4_ofChart.data.toList.drop 0 = dktX4_ofChart_0 := by decide +kernel
theorem dksX4_ofChart_1 : cX4_ofChart.data.toList.drop 24 = dktX4_ofChart_1 := dk_seg dksX4_ofChart_0 24 rfl rfl
theorem dksX4_ofChart_2 : cX4_ofChart.data.toList.drop 46 = dktX4_ofChart_2 := dk_seg dksX4_ofChart_1 22 rfl rfl
theorem dX4_ofChart_0 : decode cX4_ofChart 0 = .ok (.iconst 5, 1) := dk_8 (dk_at dksX4_ofChart_0 0 rfl rfl)
theorem dX4_ofChart_1 : decode cX4_ofChart 1 = .ok (.newarray .int, 2) := dk_188_10 (dk_at dksX4_ofChart_0 1 rfl rfl)
theorem dX4_ofChart_3 : decode cX4_ofChart 3 = .ok (.astore_n 1, 1) := dk_76 (dk_at dksX4_ofChart_0 3 rfl rfl)
theorem dX4_ofChart_4 : decode cX4_ofChart 4 = .ok (.iconst 0, 1) := dk_3 (dk_at dksX4_ofChart_0 4 rfl rfl)
theorem dX4_ofChart_5 : decode cX4_ofChart 5 = .ok (.istore_n 2, 1) := dk_61 (dk_at dksX4_ofChart_0 5 rfl rfl)
theorem dX4_ofChart_6 : decode cX4_ofChart 6 = .ok (.iload_n 2, 1) := dk_28 (dk_at dksX4_ofChart_0 6 rfl rfl)
theorem dX4_ofChart_7 : decode cX4_ofChart 7 = .ok (.iconst 5, 1) := dk_8 (dk_at dksX4_ofChart_0 7 rfl rfl)
theorem dX4_ofChart_8 : decode cX4_ofChart 8 = .ok (.if_icmp .ge 38, 3) := dk_162 0 38 (dk_at dksX4_ofChart_0 8 rfl rfl)
theorem dX4_ofChart_11 : decode cX4_ofChart 11 = .ok (.aload_n 1, 1) := dk_43 (dk_at dksX4_ofChart_0 11 rfl rfl)
theorem dX4_ofChart_12 : decode cX4_ofChart 12 = .ok (.iload_n 2, 1) := dk_28 (dk_at dksX4_ofChart_0 12 rfl rfl)
theorem dX4_ofChart_13 : decode cX4_ofChart 13 = .ok (.aload_n 0, 1) := dk_42 (dk_at dksX4_ofChart_0 13 rfl rfl)
theorem dX4_ofChart_14 : decode cX4_ofChart 14 = .ok (.iload_n 2, 1) := dk_28 (dk_at dksX4_ofChart_0 14 rfl rfl)
theorem dX4_ofChart_15 : decode cX4_ofChart 15 = .ok (.iconst 1, 1) := dk_4 (dk_at dksX4_ofChart_0 15 rfl rfl)
theorem dX4_ofChart_16 : decode cX4_ofChart 16 = .ok (.if_icmp .eq 8, 3) := dk_159 0 8 (dk_at dksX4_ofChart_0 16 rfl rfl)
theorem dX4_ofChart_19 : decode cX4_ofChart 19 = .ok (.iload_n 2, 1) := dk_28 (dk_at dksX4_ofChart_0 19 rfl rfl)
theorem dX4_ofChart_20 : decode cX4_ofChart 20 = .ok (.iconst 3, 1) := dk_6 (dk_at dksX4_ofChart_0 20 rfl rfl)
theorem dX4_ofChart_21 : decode cX4_ofChart 21 = .ok (.if_icmp .ne 11, 3) := dk_160 0 11 (dk_at dksX4_ofChart_0 21 rfl rfl)
theorem dX4_ofChart_24 : decode cX4_ofChart 24 = .ok (.aload_n 1, 1) := dk_43 (dk_at dksX4_ofChart_1 0 rfl rfl)
theorem dX4_ofChart_25 : decode cX4_ofChart 25 = .ok (.iload_n 2, 1) := dk_28 (dk_at dksX4_ofChart_1 1 rfl rfl)
theorem dX4_ofChart_26 : decode cX4_ofChart 26 = .ok (.iconst 1, 1) := dk_4 (dk_at dksX4_ofChart_1 2 rfl rfl)
theorem dX4_ofChart_27 : decode cX4_ofChart 27 = .ok (.isub, 1) := dk_100 (dk_at dksX4_ofChart_1 3 rfl rfl)
theorem dX4_ofChart_28 : decode cX4_ofChart 28 = .ok (.iaload, 1) := dk_46 (dk_at dksX4_ofChart_1 4 rfl rfl)
theorem dX4_ofChart_29 : decode cX4_ofChart 29 = .ok (.goto 4, 3) := dk_167 0 4 (dk_at dksX4_ofChart_1 5 rfl rfl)
theorem dX4_ofChart_32 : decode cX4_ofChart 32 = .ok (.iconst 0, 1) := dk_3 (dk_at dksX4_ofChart_1 8 rfl rfl)
theorem dX4_ofChart_33 : decode cX4_ofChart 33 = .ok (.sipush 999, 3) := dk_17 3 231 (dk_at dksX4_ofChart_1 9 rfl rfl)
theorem dX4_ofChart_36 : decode cX4_ofChart 36 = .ok (.invokevirtual 79, 3) := dk_182 0 79 (dk_at dksX4_ofChart_1 12 rfl rfl)
theorem dX4_ofChart_39 : decode cX4_ofChart 39 = .ok (.iastore, 1) := dk_79 (dk_at dksX4_ofChart_1 15 rfl rfl)
theorem dX4_ofChart_40 : decode cX4_ofChart 40 = .ok (.iinc 2 1, 3) := dk_132 2 1 (dk_at dksX4_ofChart_1 16 rfl rfl)
theorem dX4_ofChart_43 : decode cX4_ofChart 43 = .ok (.goto (-37), 3) := dk_167 255 219 (dk_at dksX4_ofChart_1 19 rfl rfl)
theorem dX4_ofChart_46 : decode cX4_ofChart 46 = .ok (.new 102, 3) := dk_187 0 102 (dk_at dksX4_ofChart_2 0 rfl rfl)
theorem dX4_ofChart_49 : decode cX4_ofChart 49 = .ok (.dup, 1) := dk_89 (dk_at dksX4_ofChart_2 3 rfl rfl)
theorem dX4_ofChart_50 : decode cX4_ofChart 50 = .ok (.aload_n 0, 1) := dk_42 (dk_at dksX4_ofChart_2 4 rfl rfl)
theorem dX4_ofChart_51 : decode cX4_ofChart 51 = .ok (.getfield 3, 3) := dk_180 0 3 (dk_at dksX4_ofChart_2 5 rfl rfl)
theorem dX4_ofChart_54 : decode cX4_ofChart 54 = .ok (.iconst 3, 1) := dk_6 (dk_at dksX4_ofChart_2 8 rfl rfl)
theorem dX4_ofChart_55 : decode cX4_ofChart 55 = .ok (.aload_n 1, 1) := dk_43 (dk_at dksX4_ofChart_2 9 rfl rfl)
theorem dX4_ofChart_56 : decode cX4_ofChart 56 = .ok (.invokespecial 104, 3) := dk_183 0 104 (dk_at dksX4_ofChart_2 10 rfl rfl)
theorem dX4_ofChart_59 : decode cX4_ofChart 59 = .ok (.areturn, 1) := dk_176 (dk_at dksX4_ofChart_2 13 rfl rfl)
abbrev cX4_one : ByteArray := prog_13_method_5_code
def yX4_one : MethodName := ⟨RX4, "one", "([Ljava/lang/String;)I"⟩
def dkwX4_one_1 : List UInt8 := [153, 0, 7, 29, 167, 0, 4, 2, 61, 132, 3, 1, 167, 255, 226, 28, 172]
abbrev dktX4_one_1 : List UInt8 := dkwX4_one_1 ++ []
def dkwX4_one_0 : List UInt8 := [2, 61, 3, 62, 29, 43, 190, 162, 0, 30, 28, 2, 160, 0, 25, 42, 43, 29, 50, 182, 0, 66]
abbrev dktX4_one_0 : List UInt8 := dkwX4_one_0 ++ dktX4_one_1
theorem dksX4_one_0 : cX4_one.data.toList.drop 0 = dktX4_one_0 := by decide +kernel
theorem dksX4_one_1 : cX4_one.data.toList.drop 22 = dktX4_one_1 := dk_seg dksX4_one_0 22 rfl rfl
theorem dX4_one_0 : decode cX4_one 0 = .ok (.iconst (-1), 1) := dk_2 (dk_at dksX4_one_0 0 rfl rfl)
theorem dX4_one_1 : decode cX4_one 1 = .ok (.istore_n 2, 1) := dk_61 (dk_at dksX4_one_0 1 rfl rfl)
theorem dX4_one_2 : decode cX4_one 2 = .ok (.iconst 0, 1) := dk_3 (dk_at dksX4_one_0 2 rfl rfl)
theorem dX4_one_3 : decode cX4_one 3 = .ok (.istore_n 3, 1) := dk_62 (dk_at dksX4_one_0 3 rfl rfl)
theorem dX4_one_4 : decode cX4_one 4 = .ok (.iload_n 3, 1) := dk_29 (dk_at dksX4_one_0 4 rfl rfl)
theorem dX4_one_5 : decode cX4_one 5 = .ok (.aload_n 1, 1) := dk_43 (dk_at dksX4_one_0 5 rfl rfl)
theorem dX4_one_6 : decode cX4_one 6 = .ok (.arraylength, 1) := dk_190 (dk_at dksX4_one_0 6 rfl rfl)
theorem dX4_one_7 : decode cX4_one 7 = .ok (.if_icmp .ge 30, 3) := dk_162 0 30 (dk_at dksX4_one_0 7 rfl rfl)
theorem dX4_one_10 : decode cX4_one 10 = .ok (.iload_n 2, 1) := dk_28 (dk_at dksX4_one_0 10 rfl rfl)
theorem dX4_one_11 : decode cX4_one 11 = .ok (.iconst (-1), 1) := dk_2 (dk_at dksX4_one_0 11 rfl rfl)
theorem dX4_one_12 : decode cX4_one 12 = .ok (.if_icmp .ne 25, 3) := dk_160 0 25 (dk_at dksX4_one_0 12 rfl rfl)
theorem dX4_one_15 : decode cX4_one 15 = .ok (.aload_n 0, 1) := dk_42 (dk_at dksX4_one_0 15 rfl rfl)
theorem dX4_one_16 : decode cX4_one 16 = .ok (.aload_n 1, 1) := dk_43 (dk_at dksX4_one_0 16 rfl rfl)
theorem dX4_one_17 : decode cX4_one 17 = .ok (.iload_n 3, 1) := dk_29 (dk_at dksX4_one_0 17 rfl rfl)
theorem dX4_one_18 : decode cX4_one 18 = .ok (.aaload, 1) := dk_50 (dk_at dksX4_one_0 18 rfl rfl)
theorem dX4_one_19 : decode cX4_one 19 = .ok (.invokevirtual 66, 3) := dk_182 0 66 (dk_at dksX4_one_0 19 rfl rfl)
theorem dX4_one_22 : decode cX4_one 22 = .ok (.ifCond .eq 7, 3) := dk_153 0 7 (dk_at dksX4_one_1 0 rfl rfl)
theorem dX4_one_25 : decode cX4_one 25 = .ok (.iload_n 3, 1) := dk_29 (dk_at dksX4_one_1 3 rfl rfl)
theorem dX4_one_26 : decode cX4_one 26 = .ok (.goto 4, 3) := dk_167 0 4 (dk_at dksX4_one_1 4 rfl rfl)
theorem dX4_one_29 : decode cX4_one 29 = .ok (.iconst (-1), 1) := dk_2 (dk_at dksX4_one_1 7 rfl rfl)
theorem dX4_one_30 : decode cX4_one 30 = .ok (.istore_n 2, 1) := dk_61 (dk_at dksX4_one_1 8 rfl rfl)
theorem dX4_one_31 : decode cX4_one 31 = .ok (.iinc 3 1, 3) := dk_132 3 1 (dk_at dksX4_one_1 9 rfl rfl)
theorem dX4_one_34 : decode cX4_one 34 = .ok (.goto (-30), 3) := dk_167 255 226 (dk_at dksX4_one_1 12 rfl rfl)
theorem dX4_one_37 : decode cX4_one 37 = .ok (.iload_n 2, 1) := dk_28 (dk_at dksX4_one_1 15 rfl rfl)
theorem dX4_one_38 : decode cX4_one 38 = .ok (.ireturn, 1) := dk_172 (dk_at dksX4_one_1 16 rfl rfl)
theorem q59 : (Jvm.Cond.initialized "WaterGrounds$Reader") ∈ lw_all := lw_g (lw_at lw_m1 5 rfl) rfl
theorem q169 : (Jvm.Cond.instantiable "WaterGrounds$Reader" (8 : Nat)) ∈ lw_all := lw_g (lw_at lw_m1 115 rfl) rfl
theorem q171 : (Jvm.Cond.instanceMethod ({ cls := "WaterGrounds$Reader", name := "<init>", desc := "(LWaterGrounds;)V" } : Jvm.MethodName)) ∈ lw_all := lw_g (lw_at lw_m1 117 rfl) rfl
theorem q172 : (Jvm.Cond.code ({ cls := "WaterGrounds$Reader", name := "<init>", desc := "(LWaterGrounds;)V" } : Jvm.MethodName) prog_13_method_1_code (2 : Nat) (Option.none : Option Jvm.ClassFile.FieldType)) ∈ lw_all := lw_g (lw_at lw_m1 118 rfl) rfl
theorem q173 : (Jvm.Cond.methodLink "WaterGrounds$Reader" (9 : Nat) ({ cls := "java/lang/Object", name := "<init>", desc := "()V" } : Jvm.MethodName)) ∈ lw_all := lw_g (lw_at lw_m1 119 rfl) rfl
theorem q174 : (Jvm.Cond.classLink "WaterGrounds$Reader" (15 : Nat) "WaterGrounds$Line") ∈ lw_all := lw_g (lw_at lw_m1 120 rfl) rfl
theorem q176 : (Jvm.Cond.fieldLink "WaterGrounds$Reader" (17 : Nat) "WaterGrounds$Reader" "row" "[LWaterGrounds$Line;") ∈ lw_all := lw_g (lw_at lw_m1 122 rfl) rfl
theorem q179 : (Jvm.Cond.fieldLink "WaterGrounds$Reader" (171 : Nat) "WaterGrounds$Reader" "many" "I") ∈ lw_all := lw_g (lw_at lw_m1 125 rfl) rfl
theorem q180 : (Jvm.Cond.fieldLink "WaterGrounds$Reader" (37 : Nat) "WaterGrounds$Reader" "at" "I") ∈ lw_all := lw_g (lw_at lw_m1 126 rfl) rfl
theorem q181 : (Jvm.Cond.fieldLink "WaterGrounds$Reader" (44 : Nat) "WaterGrounds$Reader" "place" "I") ∈ lw_all := lw_g (lw_at lw_m1 127 rfl) rfl
theorem q182 : (Jvm.Cond.fieldLink "WaterGrounds$Reader" (51 : Nat) "WaterGrounds$Reader" "end" "I") ∈ lw_all := lw_g (lw_at lw_m1 128 rfl) rfl
theorem q183 : (Jvm.Cond.fieldLink "WaterGrounds$Reader" (83 : Nat) "WaterGrounds$Reader" "n" "I") ∈ lw_all := lw_g (lw_at lw_m1 129 rfl) rfl
theorem q184 : (Jvm.Cond.fieldLink "WaterGrounds$Reader" (86 : Nat) "WaterGrounds$Reader" "m" "I") ∈ lw_all := lw_g (lw_at lw_m1 130 rfl) rfl
theorem q185 : (Jvm.Cond.fieldLink "WaterGrounds$Reader" (3 : Nat) "WaterGrounds$Reader" "this$0" "LWaterGrounds;") ∈ lw_all := lw_g (lw_at lw_m1 131 rfl) rfl
theorem q186 : (Jvm.Cond.laysFinal "WaterGrounds$Reader" "WaterGrounds$Reader" "row" "[LWaterGrounds$Line;") ∈ lw_all := lw_g (lw_at lw_m1 132 rfl) rfl
theorem q187 : (Jvm.Cond.soleField "WaterGrounds$Reader" "row") ∈ lw_all := lw_g (lw_at lw_m1 133 rfl) rfl
theorem q188 : (Jvm.Cond.lays "WaterGrounds$Reader" "WaterGrounds$Reader" "many" "I") ∈ lw_all := lw_g (lw_at lw_m1 134 rfl) rfl
theorem q189 : (Jvm.Cond.soleField "WaterGrounds$Reader" "many") ∈ lw_all := lw_g (lw_at lw_m1 135 rfl) rfl
theorem q190 : (Jvm.Cond.lays "WaterGrounds$Reader" "WaterGrounds$Reader" "at" "I") ∈ lw_all := lw_g (lw_at lw_m1 136 rfl) rfl
theorem q191 : (Jvm.Cond.soleField "WaterGrounds$Reader" "at") ∈ lw_all := lw_g (lw_at lw_m1 137 rfl) rfl
theorem q192 : (Jvm.Cond.lays "WaterGrounds$Reader" "WaterGrounds$Reader" "place" "I") ∈ lw_all := lw_g (lw_at lw_m1 138 rfl) rfl
theorem q193 : (Jvm.Cond.soleField "WaterGrounds$Reader" "place") ∈ lw_all := lw_g (lw_at lw_m1 139 rfl) rfl
theorem q194 : (Jvm.Cond.lays "WaterGrounds$Reader" "WaterGrounds$Reader" "end" "I") ∈ lw_all := lw_g (lw_at lw_m1 140 rfl) rfl
theorem q195 : (Jvm.Cond.soleField "WaterGrounds$Reader" "end") ∈ lw_all := lw_g (lw_at lw_m1 141 rfl) rfl
theorem q196 : (Jvm.Cond.lays "WaterGrounds$Reader" "WaterGrounds$Reader" "n" "I") ∈ lw_all := lw_g (lw_at lw_m1 142 rfl) rfl
theorem q197 : (Jvm.Cond.soleField "WaterGrounds$Reader" "n") ∈ lw_all := lw_g (lw_at lw_m1 143 rfl) rfl
theorem q198 : (Jvm.Cond.lays "WaterGrounds$Reader" "WaterGrounds$Reader" "m" "I") ∈ lw_all := lw_g (lw_at lw_m1 144 rfl) rfl
theorem q199 : (Jvm.Cond.soleField "WaterGrounds$Reader" "m") ∈ lw_all := lw_g (lw_at lw_m1 145 rfl) rfl
theorem q200 : (Jvm.Cond.laysFinal "WaterGrounds$Reader" "WaterGrounds$Reader" "this$0" "LWaterGrounds;") ∈ lw_all := lw_g (lw_at lw_m1 146 rfl) rfl
theorem q201 : (Jvm.Cond.soleField "WaterGrounds$Reader" "this$0") ∈ lw_all := lw_g (lw_at lw_m1 147 rfl) rfl
theorem q202 : (Jvm.Cond.superclass "WaterGrounds$Reader" "java/lang/Object") ∈ lw_all := lw_g (lw_at lw_m1 148 rfl) rfl
theorem q268 : (Jvm.Cond.fieldLinkNest "WaterGrounds$Reader" (174 : Nat) "WaterGrounds" "rings" "I" "WaterGrounds") ∈ lw_tbl := lw_at lw_m1 214 rfl
theorem q272 : (Jvm.Cond.fieldLinkNest "WaterGrounds$Reader" (177 : Nat) "WaterGrounds" "layers" "I" "WaterGrounds") ∈ lw_tbl := lw_at lw_m1 218 rfl
theorem q322 : (Jvm.Cond.fieldLinkNest "WaterGrounds$Reader" (21 : Nat) "WaterGrounds" "text" "[B" "WaterGrounds") ∈ lw_tbl := lw_at lw_m2 28 rfl
theorem q324 : (Jvm.Cond.fieldLinkNest "WaterGrounds$Reader" (41 : Nat) "WaterGrounds" "length" "I" "WaterGrounds") ∈ lw_tbl := lw_at lw_m2 30 rfl
theorem q402 : (Jvm.Cond.instanceMethod ({ cls := "WaterGrounds$Reader", name := "read", desc := "()V" } : Jvm.MethodName)) ∈ lw_all := lw_g (lw_at lw_m2 108 rfl) rfl
theorem q403 : (Jvm.Cond.selects "WaterGrounds$Reader" ({ cls := "WaterGrounds$Reader", name := "read", desc := "()V" } : Jvm.MethodName) ({ cls := "WaterGrounds$Reader", name := "read", desc := "()V" } : Jvm.MethodName)) ∈ lw_all := lw_g (lw_at lw_m2 109 rfl) rfl
theorem q404 : (Jvm.Cond.code ({ cls := "WaterGrounds$Reader", name := "read", desc := "()V" } : Jvm.MethodName) prog_13_method_14_code (1 : Nat) (Option.none : Option Jvm.ClassFile.FieldType)) ∈ lw_all := lw_g (lw_at lw_m2 110 rfl) rfl
theorem q405 : (Jvm.Cond.methodLink "WaterGrounds$Reader" (63 : Nat) ({ cls := "WaterGrounds$Reader", name := "token", desc := "()V" } : Jvm.MethodName)) ∈ lw_all := lw_g (lw_at lw_m2 111 rfl) rfl
theorem q406 : (Jvm.Cond.privateMethod ({ cls := "WaterGrounds$Reader", name := "token", desc := "()V" } : Jvm.MethodName)) ∈ lw_tbl := lw_at lw_m2 112 rfl
theorem q407 : (Jvm.Cond.instanceMethod ({ cls := "WaterGrounds$Reader", name := "token", desc := "()V" } : Jvm.MethodName)) ∈ lw_all := lw_g (lw_at lw_m2 113 rfl) rfl
theorem q408 : (Jvm.Cond.code ({ cls := "WaterGrounds$Reader", name := "token", desc := "()V" } : Jvm.MethodName) prog_13_method_3_code (1 : Nat) (Option.none : Option Jvm.ClassFile.FieldType)) ∈ lw_all := lw_g (lw_at lw_m2 114 rfl) rfl
theorem q409 : (Jvm.Cond.methodLink "WaterGrounds$Reader" (47 : Nat) ({ cls := "WaterGrounds$Reader", name := "kindAt", desc := "(I)I" } : Jvm.MethodName)) ∈ lw_all := lw_g (lw_at lw_m2 115 rfl) rfl
theorem q410 : (Jvm.Cond.privateMethod ({ cls := "WaterGrounds$Reader", name := "kindAt", desc := "(I)I" } : Jvm.MethodName)) ∈ lw_tbl := lw_at lw_m2 116 rfl
theorem q411 : (Jvm.Cond.instanceMethod ({ cls := "WaterGrounds$Reader", name := "kindAt", desc := "(I)I" } : Jvm.MethodName)) ∈ lw_all := lw_g (lw_at lw_m2 117 rfl) rfl
theorem q412 : (Jvm.Cond.code ({ cls := "WaterGrounds$Reader", name := "kindAt", desc := "(I)I" } : Jvm.MethodName) prog_13_method_2_code (2 : Nat) (Option.some Jvm.ClassFile.FieldType.int)) ∈ lw_all := lw_g (lw_at lw_m2 118 rfl) rfl
theorem q413 : (Jvm.Cond.constantLong "WaterGrounds$Reader" (25 : Nat) (97 : Int64)) ∈ lw_all := lw_g (lw_at lw_m2 119 rfl) rfl
theorem q414 : (Jvm.Cond.constantLong "WaterGrounds$Reader" (27 : Nat) (122 : Int64)) ∈ lw_all := lw_g (lw_at lw_m2 120 rfl) rfl
theorem q415 : (Jvm.Cond.methodLinkNest "WaterGrounds$Reader" (29 : Nat) ({ cls := "WaterGrounds", name := "isIn", desc := "(JJJ)Z" } : Jvm.MethodName) "WaterGrounds") ∈ lw_tbl := lw_at lw_m2 121 rfl
theorem q416 : (Jvm.Cond.constantLong "WaterGrounds$Reader" (33 : Nat) (48 : Int64)) ∈ lw_all := lw_g (lw_at lw_m2 122 rfl) rfl
theorem q417 : (Jvm.Cond.constantLong "WaterGrounds$Reader" (35 : Nat) (57 : Int64)) ∈ lw_all := lw_g (lw_at lw_m2 123 rfl) rfl
theorem q418 : (Jvm.Cond.methodLink "WaterGrounds$Reader" (180 : Nat) ({ cls := "WaterGrounds$Reader", name := "line", desc := "()LWaterGrounds$Line;" } : Jvm.MethodName)) ∈ lw_all := lw_g (lw_at lw_m2 124 rfl) rfl
theorem q419 : (Jvm.Cond.privateMethod ({ cls := "WaterGrounds$Reader", name := "line", desc := "()LWaterGrounds$Line;" } : Jvm.MethodName)) ∈ lw_tbl := lw_at lw_m2 125 rfl
theorem q420 : (Jvm.Cond.instanceMethod ({ cls := "WaterGrounds$Reader", name := "line", desc := "()LWaterGrounds$Line;" } : Jvm.MethodName)) ∈ lw_all := lw_g (lw_at lw_m2 126 rfl) rfl
theorem q421 : (Jvm.Cond.code ({ cls := "WaterGrounds$Reader", name := "line", desc := "()LWaterGrounds$Line;" } : Jvm.MethodName) prog_13_method_13_code (3 : Nat) (Option.some (Jvm.ClassFile.FieldType.object "WaterGrounds$Line"))) ∈ lw_all := lw_g (lw_at lw_m2 127 rfl) rfl
theorem q422 : (Jvm.Cond.stringRef "WaterGrounds$Reader" (105 : Nat) "bed") ∈ lw_tbl := lw_at lw_m2 128 rfl
theorem q423 : (Jvm.Cond.methodLink "WaterGrounds$Reader" (66 : Nat) ({ cls := "WaterGrounds$Reader", name := "skips", desc := "(Ljava/lang/String;)Z" } : Jvm.MethodName)) ∈ lw_all := lw_g (lw_at lw_m2 129 rfl) rfl
theorem q424 : (Jvm.Cond.privateMethod ({ cls := "WaterGrounds$Reader", name := "skips", desc := "(Ljava/lang/String;)Z" } : Jvm.MethodName)) ∈ lw_tbl := lw_at lw_m2 130 rfl
theorem q425 : (Jvm.Cond.instanceMethod ({ cls := "WaterGrounds$Reader", name := "skips", desc := "(Ljava/lang/String;)Z" } : Jvm.MethodName)) ∈ lw_all := lw_g (lw_at lw_m2 131 rfl) rfl
theorem q426 : (Jvm.Cond.code ({ cls := "WaterGrounds$Reader", name := "skips", desc := "(Ljava/lang/String;)Z" } : Jvm.MethodName) prog_13_method_4_code (4 : Nat) (Option.some Jvm.ClassFile.FieldType.boolean)) ∈ lw_all := lw_g (lw_at lw_m2 132 rfl) rfl
theorem q427 : (Jvm.Cond.methodLink "WaterGrounds$Reader" (54 : Nat) ({ cls := "java/lang/String", name := "length", desc := "()I" } : Jvm.MethodName)) ∈ lw_all := lw_g (lw_at lw_m2 133 rfl) rfl
theorem q437 : (Jvm.Cond.methodLink "WaterGrounds$Reader" (59 : Nat) ({ cls := "java/lang/String", name := "charAt", desc := "(I)C" } : Jvm.MethodName)) ∈ lw_all := lw_g (lw_at lw_m2 143 rfl) rfl
theorem q475 : (Jvm.Cond.methodLink "WaterGrounds$Reader" (107 : Nat) ({ cls := "WaterGrounds$Reader", name := "ofBed", desc := "()LWaterGrounds$Line;" } : Jvm.MethodName)) ∈ lw_all := lw_g (lw_at lw_m2 181 rfl) rfl
theorem q476 : (Jvm.Cond.privateMethod ({ cls := "WaterGrounds$Reader", name := "ofBed", desc := "()LWaterGrounds$Line;" } : Jvm.MethodName)) ∈ lw_tbl := lw_at lw_m2 182 rfl
theorem q477 : (Jvm.Cond.instanceMethod ({ cls := "WaterGrounds$Reader", name := "ofBed", desc := "()LWaterGrounds$Line;" } : Jvm.MethodName)) ∈ lw_all := lw_g (lw_at lw_m2 183 rfl) rfl
theorem q478 : (Jvm.Cond.code ({ cls := "WaterGrounds$Reader", name := "ofBed", desc := "()LWaterGrounds$Line;" } : Jvm.MethodName) prog_13_method_9_code (2 : Nat) (Option.some (Jvm.ClassFile.FieldType.object "WaterGrounds$Line"))) ∈ lw_all := lw_g (lw_at lw_m2 184 rfl) rfl
theorem q479 : (Jvm.Cond.methodLink "WaterGrounds$Reader" (79 : Nat) ({ cls := "WaterGrounds$Reader", name := "number", desc := "(II)I" } : Jvm.MethodName)) ∈ lw_all := lw_g (lw_at lw_m2 185 rfl) rfl
theorem q480 : (Jvm.Cond.privateMethod ({ cls := "WaterGrounds$Reader", name := "number", desc := "(II)I" } : Jvm.MethodName)) ∈ lw_tbl := lw_at lw_m2 186 rfl
theorem q481 : (Jvm.Cond.instanceMethod ({ cls := "WaterGrounds$Reader", name := "number", desc := "(II)I" } : Jvm.MethodName)) ∈ lw_all := lw_g (lw_at lw_m2 187 rfl) rfl
theorem q482 : (Jvm.Cond.code ({ cls := "WaterGrounds$Reader", name := "number", desc := "(II)I" } : Jvm.MethodName) prog_13_method_7_code (6 : Nat) (Option.some Jvm.ClassFile.FieldType.int)) ∈ lw_all := lw_g (lw_at lw_m2 188 rfl) rfl
theorem q483 : (Jvm.Cond.methodLink "WaterGrounds$Reader" (75 : Nat) ({ cls := "WaterGrounds$Reader", name := "need", desc := "(Z)V" } : Jvm.MethodName)) ∈ lw_all := lw_g (lw_at lw_m2 189 rfl) rfl
theorem q484 : (Jvm.Cond.privateMethod ({ cls := "WaterGrounds$Reader", name := "need", desc := "(Z)V" } : Jvm.MethodName)) ∈ lw_tbl := lw_at lw_m2 190 rfl
theorem q485 : (Jvm.Cond.instanceMethod ({ cls := "WaterGrounds$Reader", name := "need", desc := "(Z)V" } : Jvm.MethodName)) ∈ lw_all := lw_g (lw_at lw_m2 191 rfl) rfl
theorem q486 : (Jvm.Cond.code ({ cls := "WaterGrounds$Reader", name := "need", desc := "(Z)V" } : Jvm.MethodName) prog_13_method_6_code (2 : Nat) (Option.none : Option Jvm.ClassFile.FieldType)) ∈ lw_all := lw_g (lw_at lw_m2 192 rfl) rfl
theorem q487 : (Jvm.Cond.classLink "WaterGrounds$Reader" (70 : Nat) "WaterGrounds$Fault") ∈ lw_all := lw_g (lw_at lw_m2 193 rfl) rfl
theorem q524 : (Jvm.Cond.methodLink "WaterGrounds$Reader" (72 : Nat) ({ cls := "WaterGrounds$Fault", name := "<init>", desc := "(I)V" } : Jvm.MethodName)) ∈ lw_all := lw_g (lw_at lw_m2 230 rfl) rfl
theorem q551 : (Jvm.Cond.classLink "WaterGrounds$Reader" (89 : Nat) "WaterGrounds$OfBed") ∈ lw_all := lw_g (lw_at lw_m3 17 rfl) rfl
theorem q553 : (Jvm.Cond.methodLink "WaterGrounds$Reader" (91 : Nat) ({ cls := "WaterGrounds$OfBed", name := "<init>", desc := "(LWaterGrounds;[I)V" } : Jvm.MethodName)) ∈ lw_all := lw_g (lw_at lw_m3 19 rfl) rfl
theorem q580 : (Jvm.Cond.stringRef "WaterGrounds$Reader" (111 : Nat) "stuff") ∈ lw_tbl := lw_at lw_m3 46 rfl
theorem q581 : (Jvm.Cond.classLink "WaterGrounds$Reader" (102 : Nat) "WaterGrounds$OfRow") ∈ lw_all := lw_g (lw_at lw_m3 47 rfl) rfl
theorem q583 : (Jvm.Cond.fieldLinkNest "WaterGrounds$Reader" (113 : Nat) "WaterGrounds" "OF_STUFF" "[I" "WaterGrounds") ∈ lw_tbl := lw_at lw_m3 49 rfl
theorem q585 : (Jvm.Cond.methodLink "WaterGrounds$Reader" (117 : Nat) ({ cls := "WaterGrounds$Reader", name := "numbers", desc := "([I)[I" } : Jvm.MethodName)) ∈ lw_all := lw_g (lw_at lw_m3 51 rfl) rfl
theorem q586 : (Jvm.Cond.privateMethod ({ cls := "WaterGrounds$Reader", name := "numbers", desc := "([I)[I" } : Jvm.MethodName)) ∈ lw_tbl := lw_at lw_m3 52 rfl
theorem q587 : (Jvm.Cond.instanceMethod ({ cls := "WaterGrounds$Reader", name := "numbers", desc := "([I)[I" } : Jvm.MethodName)) ∈ lw_all := lw_g (lw_at lw_m3 53 rfl) rfl
theorem q588 : (Jvm.Cond.code ({ cls := "WaterGrounds$Reader", name := "numbers", desc := "([I)[I" } : Jvm.MethodName) prog_13_method_8_code (4 : Nat) (Option.some (Jvm.ClassFile.FieldType.array Jvm.ClassFile.FieldType.int))) ∈ lw_all := lw_g (lw_at lw_m3 54 rfl) rfl
theorem q589 : (Jvm.Cond.methodLink "WaterGrounds$Reader" (104 : Nat) ({ cls := "WaterGrounds$OfRow", name := "<init>", desc := "(LWaterGrounds;I[I)V" } : Jvm.MethodName)) ∈ lw_all := lw_g (lw_at lw_m3 55 rfl) rfl
theorem q602 : (Jvm.Cond.stringRef "WaterGrounds$Reader" (121 : Nat) "rate") ∈ lw_tbl := lw_at lw_m3 68 rfl
theorem q603 : (Jvm.Cond.fieldLinkNest "WaterGrounds$Reader" (123 : Nat) "WaterGrounds" "OF_RATE" "[I" "WaterGrounds") ∈ lw_tbl := lw_at lw_m3 69 rfl
theorem q605 : (Jvm.Cond.stringRef "WaterGrounds$Reader" (126 : Nat) "loose") ∈ lw_tbl := lw_at lw_m3 71 rfl
theorem q606 : (Jvm.Cond.fieldLinkNest "WaterGrounds$Reader" (128 : Nat) "WaterGrounds" "OF_LOOSE" "[I" "WaterGrounds") ∈ lw_tbl := lw_at lw_m3 72 rfl
theorem q608 : (Jvm.Cond.stringRef "WaterGrounds$Reader" (131 : Nat) "slack") ∈ lw_tbl := lw_at lw_m3 74 rfl
theorem q609 : (Jvm.Cond.methodLink "WaterGrounds$Reader" (133 : Nat) ({ cls := "WaterGrounds$Reader", name := "ofCell", desc := "(I)LWaterGrounds$Line;" } : Jvm.MethodName)) ∈ lw_all := lw_g (lw_at lw_m3 75 rfl) rfl
theorem q610 : (Jvm.Cond.privateMethod ({ cls := "WaterGrounds$Reader", name := "ofCell", desc := "(I)LWaterGrounds$Line;" } : Jvm.MethodName)) ∈ lw_tbl := lw_at lw_m3 76 rfl
theorem q611 : (Jvm.Cond.instanceMethod ({ cls := "WaterGrounds$Reader", name := "ofCell", desc := "(I)LWaterGrounds$Line;" } : Jvm.MethodName)) ∈ lw_all := lw_g (lw_at lw_m3 77 rfl) rfl
theorem q612 : (Jvm.Cond.code ({ cls := "WaterGrounds$Reader", name := "ofCell", desc := "(I)LWaterGrounds$Line;" } : Jvm.MethodName) prog_13_method_10_code (3 : Nat) (Option.some (Jvm.ClassFile.FieldType.object "WaterGrounds$Line"))) ∈ lw_all := lw_g (lw_at lw_m3 78 rfl) rfl
theorem q613 : (Jvm.Cond.classLink "WaterGrounds$Reader" (94 : Nat) "WaterGrounds$OfCell") ∈ lw_all := lw_g (lw_at lw_m3 79 rfl) rfl
theorem q615 : (Jvm.Cond.methodLink "WaterGrounds$Reader" (96 : Nat) ({ cls := "WaterGrounds$OfCell", name := "<init>", desc := "(LWaterGrounds;I[I)V" } : Jvm.MethodName)) ∈ lw_all := lw_g (lw_at lw_m3 81 rfl) rfl
theorem q628 : (Jvm.Cond.stringRef "WaterGrounds$Reader" (137 : Nat) "tight") ∈ lw_tbl := lw_at lw_m3 94 rfl
theorem q629 : (Jvm.Cond.stringRef "WaterGrounds$Reader" (139 : Nat) "pour") ∈ lw_tbl := lw_at lw_m3 95 rfl
theorem q630 : (Jvm.Cond.methodLink "WaterGrounds$Reader" (141 : Nat) ({ cls := "WaterGrounds$Reader", name := "ofPour", desc := "()LWaterGrounds$Line;" } : Jvm.MethodName)) ∈ lw_all := lw_g (lw_at lw_m3 96 rfl) rfl
theorem q631 : (Jvm.Cond.privateMethod ({ cls := "WaterGrounds$Reader", name := "ofPour", desc := "()LWaterGrounds$Line;" } : Jvm.MethodName)) ∈ lw_tbl := lw_at lw_m3 97 rfl
theorem q632 : (Jvm.Cond.instanceMethod ({ cls := "WaterGrounds$Reader", name := "ofPour", desc := "()LWaterGrounds$Line;" } : Jvm.MethodName)) ∈ lw_all := lw_g (lw_at lw_m3 98 rfl) rfl
theorem q633 : (Jvm.Cond.code ({ cls := "WaterGrounds$Reader", name := "ofPour", desc := "()LWaterGrounds$Line;" } : Jvm.MethodName) prog_13_method_11_code (2 : Nat) (Option.some (Jvm.ClassFile.FieldType.object "WaterGrounds$Line"))) ∈ lw_all := lw_g (lw_at lw_m3 99 rfl) rfl
theorem q634 : (Jvm.Cond.classLink "WaterGrounds$Reader" (99 : Nat) "WaterGrounds$OfPour") ∈ lw_all := lw_g (lw_at lw_m3 100 rfl) rfl
theorem q636 : (Jvm.Cond.methodLink "WaterGrounds$Reader" (101 : Nat) ({ cls := "WaterGrounds$OfPour", name := "<init>", desc := "(LWaterGrounds;[I)V" } : Jvm.MethodName)) ∈ lw_all := lw_g (lw_at lw_m3 102 rfl) rfl
theorem q646 : (Jvm.Cond.stringRef "WaterGrounds$Reader" (144 : Nat) "still") ∈ lw_tbl := lw_at lw_m3 112 rfl
theorem q647 : (Jvm.Cond.fieldLinkNest "WaterGrounds$Reader" (146 : Nat) "WaterGrounds" "OF_STILL" "[I" "WaterGrounds") ∈ lw_tbl := lw_at lw_m3 113 rfl
theorem q649 : (Jvm.Cond.stringRef "WaterGrounds$Reader" (149 : Nat) "chart") ∈ lw_tbl := lw_at lw_m3 115 rfl
theorem q650 : (Jvm.Cond.methodLink "WaterGrounds$Reader" (151 : Nat) ({ cls := "WaterGrounds$Reader", name := "ofChart", desc := "()LWaterGrounds$Line;" } : Jvm.MethodName)) ∈ lw_all := lw_g (lw_at lw_m3 116 rfl) rfl
theorem q651 : (Jvm.Cond.privateMethod ({ cls := "WaterGrounds$Reader", name := "ofChart", desc := "()LWaterGrounds$Line;" } : Jvm.MethodName)) ∈ lw_tbl := lw_at lw_m3 117 rfl
theorem q652 : (Jvm.Cond.instanceMethod ({ cls := "WaterGrounds$Reader", name := "ofChart", desc := "()LWaterGrounds$Line;" } : Jvm.MethodName)) ∈ lw_all := lw_g (lw_at lw_m3 118 rfl) rfl
theorem q653 : (Jvm.Cond.code ({ cls := "WaterGrounds$Reader", name := "ofChart", desc := "()LWaterGrounds$Line;" } : Jvm.MethodName) prog_13_method_12_code (3 : Nat) (Option.some (Jvm.ClassFile.FieldType.object "WaterGrounds$Line"))) ∈ lw_all := lw_g (lw_at lw_m3 119 rfl) rfl
theorem q654 : (Jvm.Cond.fieldLinkNest "WaterGrounds$Reader" (154 : Nat) "WaterGrounds" "ONES" "[Ljava/lang/String;" "WaterGrounds") ∈ lw_tbl := lw_at lw_m3 120 rfl
theorem q656 : (Jvm.Cond.methodLink "WaterGrounds$Reader" (158 : Nat) ({ cls := "WaterGrounds$Reader", name := "one", desc := "([Ljava/lang/String;)I" } : Jvm.MethodName)) ∈ lw_all := lw_g (lw_at lw_m3 122 rfl) rfl
theorem q657 : (Jvm.Cond.privateMethod ({ cls := "WaterGrounds$Reader", name := "one", desc := "([Ljava/lang/String;)I" } : Jvm.MethodName)) ∈ lw_tbl := lw_at lw_m3 123 rfl
theorem q658 : (Jvm.Cond.instanceMethod ({ cls := "WaterGrounds$Reader", name := "one", desc := "([Ljava/lang/String;)I" } : Jvm.MethodName)) ∈ lw_all := lw_g (lw_at lw_m3 124 rfl) rfl
theorem q659 : (Jvm.Cond.code ({ cls := "WaterGrounds$Reader", name := "one", desc := "([Ljava/lang/String;)I" } : Jvm.MethodName) prog_13_method_5_code (4 : Nat) (Option.some Jvm.ClassFile.FieldType.int)) ∈ lw_all := lw_g (lw_at lw_m3 125 rfl) rfl
theorem q660 : (Jvm.Cond.fieldLinkNest "WaterGrounds$Reader" (162 : Nat) "WaterGrounds" "LEAST" "[I" "WaterGrounds") ∈ lw_tbl := lw_at lw_m3 126 rfl
theorem q662 : (Jvm.Cond.fieldLinkNest "WaterGrounds$Reader" (165 : Nat) "WaterGrounds" "MOST" "[I" "WaterGrounds") ∈ lw_tbl := lw_at lw_m3 128 rfl
theorem q664 : (Jvm.Cond.classLink "WaterGrounds$Reader" (168 : Nat) "WaterGrounds$OfOne") ∈ lw_all := lw_g (lw_at lw_m3 130 rfl) rfl
theorem q666 : (Jvm.Cond.methodLink "WaterGrounds$Reader" (170 : Nat) ({ cls := "WaterGrounds$OfOne", name := "<init>", desc := "(LWaterGrounds;I[I)V" } : Jvm.MethodName)) ∈ lw_all := lw_g (lw_at lw_m3 132 rfl) rfl
theorem q679 : (Jvm.Cond.stringRef "WaterGrounds$Reader" (183 : Nat) ";") ∈ lw_tbl := lw_at lw_m3 145 rfl
theorem in_X4 : ∀ w ∈ wsX40, w ∈ lw_all := lw_in wsX40 [186, 188, 190, 192, 194, 196, 198, 200] (by decide +kernel) (by decide +kernel)
/-! WaterGrounds$Brew -/
set_option maxRecDepth 100000
def RX5 : String := "WaterGrounds$Brew"
def TX5 : u_T := fun k => match k with
  | _ => ("WaterGrounds$Brew", "this$0", "LWaterGrounds;", true)
def tyX5 : Nat → FieldType := fun k => match k with
  | _ => .object "WaterGrounds"
abbrev wsX50 : List Cond := u_ws RX5 TX5 1
theorem nmX5 : ∀ a, a < 1 → ∀ b, b < 1 → a ≠ b → (TX5 a).2.1 ≠ (TX5 b).2.1 := by decide +kernel
theorem tyX5_ok : ∀ k, k < 1 → parseFieldDescriptor (TX5 k).2.2.1 = some (tyX5 k) := by decide +kernel
abbrev cX5_init : ByteArray := prog_3_method_1_code
def yX5_init : MethodName := ⟨RX5, "<init>", "(LWaterGrounds;)V"⟩
def dkwX5_init_0 : List UInt8 := [42, 43, 181, 0, 1, 42, 183, 0, 7, 177]
abbrev dktX5_init_0 : List UInt8 := dkwX5_init_0 ++ []
theorem dksX5_init_0 : cX5_init.data.toList.drop 0 = dktX5_init_0 := by decide +kernel
theorem dX5_init_0 : decode cX5_init 0 = .ok (.aload_n 0, 1) := dk_42 (dk_at dksX5_init_0 0 rfl rfl)
theorem dX5_init_1 : decode cX5_init 1 = .ok (.aload_n 1, 1) := dk_43 (dk_at dksX5_init_0 1 rfl rfl)
theorem dX5_init_2 : decode cX5_init 2 = .ok (.putfield 1, 3) := dk_181 0 1 (dk_at dksX5_init_0 2 rfl rfl)
theorem dX5_init_5 : decode cX5_init 5 = .ok (.aload_n 0, 1) := dk_42 (dk_at dksX5_init_0 5 rfl rfl)
theorem dX5_init_6 : decode cX5_init 6 = .ok (.invokespecial 7, 3) := dk_183 0 7 (dk_at dksX5_init_0 6 rfl rfl)
theorem dX5_init_9 : decode cX5_init 9 = .ok (.return_, 1) := dk_177 (dk_at dksX5_init_0 9 rfl rfl)
abbrev cX5_taste : ByteArray := prog_3_method_6_code
def yX5_taste : MethodName := ⟨RX5, "taste", "()I"⟩
def dkwX5_taste_5 : List UInt8 := [6, 167, 0, 21, 28, 42, 180, 0, 1, 180, 0, 68, 4, 46, 164, 0, 7, 7, 167, 0, 4, 3, 172]
abbrev dktX5_taste_5 : List UInt8 := dkwX5_taste_5 ++ []
def dkwX5_taste_4 : List UInt8 := [5, 46, 162, 0, 7, 4, 167, 0, 4, 5, 172, 28, 42, 180, 0, 1, 180, 0, 68, 3, 46, 162, 0, 7]
abbrev dktX5_taste_4 : List UInt8 := dkwX5_taste_4 ++ dktX5_taste_5
def dkwX5_taste_3 : List UInt8 := [161, 0, 16, 27, 42, 180, 0, 1, 180, 0, 68, 6, 46, 164, 0, 22, 27, 42, 180, 0, 1, 180, 0, 68]
abbrev dktX5_taste_3 : List UInt8 := dkwX5_taste_3 ++ dktX5_taste_4
def dkwX5_taste_2 : List UInt8 := [180, 0, 1, 180, 0, 68, 7, 46, 164, 0, 5, 8, 172, 27, 42, 180, 0, 1, 180, 0, 68, 5, 46]
abbrev dktX5_taste_2 : List UInt8 := dkwX5_taste_2 ++ dktX5_taste_3
def dkwX5_taste_1 : List UInt8 := [180, 0, 25, 182, 0, 62, 61, 42, 180, 0, 1, 180, 0, 25, 42, 182, 0, 29, 182, 0, 65, 42]
abbrev dktX5_taste_1 : List UInt8 := dkwX5_taste_1 ++ dktX5_taste_2
def dkwX5_taste_0 : List UInt8 := [42, 182, 0, 55, 42, 180, 0, 1, 180, 0, 25, 42, 182, 0, 29, 182, 0, 58, 60, 42, 180, 0, 1]
abbrev dktX5_taste_0 : List UInt8 := dkwX5_taste_0 ++ dktX5_taste_1
theorem dksX5_taste_0 : cX5_taste.data.toList.drop 0 = dktX5_taste_0 := by decide +kernel
theorem dksX5_taste_1 : cX5_taste.data.toList.drop 23 = dktX5_taste_1 := dk_seg dksX5_taste_0 23 rfl rfl
theorem dksX5_taste_2 : cX5_taste.data.toList.drop 45 = dktX5_taste_2 := dk_seg dksX5_taste_1 22 rfl rfl
theorem dksX5_taste_3 : cX5_taste.data.toList.drop 68 = dktX5_taste_3 := dk_seg dksX5_taste_2 23 rfl rfl
theorem dksX5_taste_4 : cX5_taste.data.toList.drop 92 = dktX5_taste_4 := dk_seg dksX5_taste_3 24 rfl rfl
theorem dksX5_taste_5 : cX5_taste.data.toList.drop 116 = dktX5_taste_5 := dk_seg dksX5_taste_4 24 rfl rfl
theorem dX5_taste_0 : decode cX5_taste 0 = .ok (.aload_n 0, 1) := dk_42 (dk_at dksX5_taste_0 0 rfl rfl)
theorem dX5_taste_1 : decode cX5_taste 1 = .ok (.invokevirtual 55, 3) := dk_182 0 55 (dk_at dksX5_taste_0 1 rfl rfl)
theorem dX5_taste_4 : decode cX5_taste 4 = .ok (.aload_n 0, 1) := dk_42 (dk_at dksX5_taste_0 4 rfl rfl)
theorem dX5_taste_5 : decode cX5_taste 5 = .ok (.getfield 1, 3) := dk_180 0 1 (dk_at dksX5_taste_0 5 rfl rfl)
theorem dX5_taste_8 : decode cX5_taste 8 = .ok (.getfield 25, 3) := dk_180 0 25 (dk_at dksX5_taste_0 8 rfl rfl)
theorem dX5_taste_11 : decode cX5_taste 11 = .ok (.aload_n 0, 1) := dk_42 (dk_at dksX5_taste_0 11 rfl rfl)
theorem dX5_taste_12 : decode cX5_taste 12 = .ok (.invokevirtual 29, 3) := dk_182 0 29 (dk_at dksX5_taste_0 12 rfl rfl)
theorem dX5_taste_15 : decode cX5_taste 15 = .ok (.invokevirtual 58, 3) := dk_182 0 58 (dk_at dksX5_taste_0 15 rfl rfl)
theorem dX5_taste_18 : decode cX5_taste 18 = .ok (.istore_n 1, 1) := dk_60 (dk_at dksX5_taste_0 18 rfl rfl)
theorem dX5_taste_19 : decode cX5_taste 19 = .ok (.aload_n 0, 1) := dk_42 (dk_at dksX5_taste_0 19 rfl rfl)
theorem dX5_taste_20 : decode cX5_taste 20 = .ok (.getfield 1, 3) := dk_180 0 1 (dk_at dksX5_taste_0 20 rfl rfl)
theorem dX5_taste_23 : decode cX5_taste 23 = .ok (.getfield 25, 3) := dk_180 0 25 (dk_at dksX5_taste_1 0 rfl rfl)
theorem dX5_taste_26 : decode cX5_taste 26 = .ok (.invokevirtual 62, 3) := dk_182 0 62 (dk_at dksX5_taste_1 3 rfl rfl)
theorem dX5_taste_29 : decode cX5_taste 29 = .ok (.istore_n 2, 1) := dk_61 (dk_at dksX5_taste_1 6 rfl rfl)
theorem dX5_taste_30 : decode cX5_taste 30 = .ok (.aload_n 0, 1) := dk_42 (dk_at dksX5_taste_1 7 rfl rfl)
theorem dX5_taste_31 : decode cX5_taste 31 = .ok (.getfield 1, 3) := dk_180 0 1 (dk_at dksX5_taste_1 8 rfl rfl)
theorem dX5_taste_34 : decode cX5_taste 34 = .ok (.getfield 25, 3) := dk_180 0 25 (dk_at dksX5_taste_1 11 rfl rfl)
theorem dX5_taste_37 : decode cX5_taste 37 = .ok (.aload_n 0, 1) := dk_42 (dk_at dksX5_taste_1 14 rfl rfl)
theorem dX5_taste_38 : decode cX5_taste 38 = .ok (.invokevirtual 29, 3) := dk_182 0 29 (dk_at dksX5_taste_1 15 rfl rfl)
theorem dX5_taste_41 : decode cX5_taste 41 = .ok (.invokevirtual 65, 3) := dk_182 0 65 (dk_at dksX5_taste_1 18 rfl rfl)
theorem dX5_taste_44 : decode cX5_taste 44 = .ok (.aload_n 0, 1) := dk_42 (dk_at dksX5_taste_1 21 rfl rfl)
theorem dX5_taste_45 : decode cX5_taste 45 = .ok (.getfield 1, 3) := dk_180 0 1 (dk_at dksX5_taste_2 0 rfl rfl)
theorem dX5_taste_48 : decode cX5_taste 48 = .ok (.getfield 68, 3) := dk_180 0 68 (dk_at dksX5_taste_2 3 rfl rfl)
theorem dX5_taste_51 : decode cX5_taste 51 = .ok (.iconst 4, 1) := dk_7 (dk_at dksX5_taste_2 6 rfl rfl)
theorem dX5_taste_52 : decode cX5_taste 52 = .ok (.iaload, 1) := dk_46 (dk_at dksX5_taste_2 7 rfl rfl)
theorem dX5_taste_53 : decode cX5_taste 53 = .ok (.if_icmp .le 5, 3) := dk_164 0 5 (dk_at dksX5_taste_2 8 rfl rfl)
theorem dX5_taste_56 : decode cX5_taste 56 = .ok (.iconst 5, 1) := dk_8 (dk_at dksX5_taste_2 11 rfl rfl)
theorem dX5_taste_57 : decode cX5_taste 57 = .ok (.ireturn, 1) := dk_172 (dk_at dksX5_taste_2 12 rfl rfl)
theorem dX5_taste_58 : decode cX5_taste 58 = .ok (.iload_n 1, 1) := dk_27 (dk_at dksX5_taste_2 13 rfl rfl)
theorem dX5_taste_59 : decode cX5_taste 59 = .ok (.aload_n 0, 1) := dk_42 (dk_at dksX5_taste_2 14 rfl rfl)
theorem dX5_taste_60 : decode cX5_taste 60 = .ok (.getfield 1, 3) := dk_180 0 1 (dk_at dksX5_taste_2 15 rfl rfl)
theorem dX5_taste_63 : decode cX5_taste 63 = .ok (.getfield 68, 3) := dk_180 0 68 (dk_at dksX5_taste_2 18 rfl rfl)
theorem dX5_taste_66 : decode cX5_taste 66 = .ok (.iconst 2, 1) := dk_5 (dk_at dksX5_taste_2 21 rfl rfl)
theorem dX5_taste_67 : decode cX5_taste 67 = .ok (.iaload, 1) := dk_46 (dk_at dksX5_taste_2 22 rfl rfl)
theorem dX5_taste_68 : decode cX5_taste 68 = .ok (.if_icmp .lt 16, 3) := dk_161 0 16 (dk_at dksX5_taste_3 0 rfl rfl)
theorem dX5_taste_71 : decode cX5_taste 71 = .ok (.iload_n 1, 1) := dk_27 (dk_at dksX5_taste_3 3 rfl rfl)
theorem dX5_taste_72 : decode cX5_taste 72 = .ok (.aload_n 0, 1) := dk_42 (dk_at dksX5_taste_3 4 rfl rfl)
theorem dX5_taste_73 : decode cX5_taste 73 = .ok (.getfield 1, 3) := dk_180 0 1 (dk_at dksX5_taste_3 5 rfl rfl)
theorem dX5_taste_76 : decode cX5_taste 76 = .ok (.getfield 68, 3) := dk_180 0 68 (dk_at dksX5_taste_3 8 rfl rfl)
theorem dX5_taste_79 : decode cX5_taste 79 = .ok (.iconst 3, 1) := dk_6 (dk_at dksX5_taste_3 11 rfl rfl)
theorem dX5_taste_80 : decode cX5_taste 80 = .ok (.iaload, 1) := dk_46 (dk_at dksX5_taste_3 12 rfl rfl)
theorem dX5_taste_81 : decode cX5_taste 81 = .ok (.if_icmp .le 22, 3) := dk_164 0 22 (dk_at dksX5_taste_3 13 rfl rfl)
theorem dX5_taste_84 : decode cX5_taste 84 = .ok (.iload_n 1, 1) := dk_27 (dk_at dksX5_taste_3 16 rfl rfl)
theorem dX5_taste_85 : decode cX5_taste 85 = .ok (.aload_n 0, 1) := dk_42 (dk_at dksX5_taste_3 17 rfl rfl)
theorem dX5_taste_86 : decode cX5_taste 86 = .ok (.getfield 1, 3) := dk_180 0 1 (dk_at dksX5_taste_3 18 rfl rfl)
theorem dX5_taste_89 : decode cX5_taste 89 = .ok (.getfield 68, 3) := dk_180 0 68 (dk_at dksX5_taste_3 21 rfl rfl)
theorem dX5_taste_92 : decode cX5_taste 92 = .ok (.iconst 2, 1) := dk_5 (dk_at dksX5_taste_4 0 rfl rfl)
theorem dX5_taste_93 : decode cX5_taste 93 = .ok (.iaload, 1) := dk_46 (dk_at dksX5_taste_4 1 rfl rfl)
theorem dX5_taste_94 : decode cX5_taste 94 = .ok (.if_icmp .ge 7, 3) := dk_162 0 7 (dk_at dksX5_taste_4 2 rfl rfl)
theorem dX5_taste_97 : decode cX5_taste 97 = .ok (.iconst 1, 1) := dk_4 (dk_at dksX5_taste_4 5 rfl rfl)
theorem dX5_taste_98 : decode cX5_taste 98 = .ok (.goto 4, 3) := dk_167 0 4 (dk_at dksX5_taste_4 6 rfl rfl)
theorem dX5_taste_101 : decode cX5_taste 101 = .ok (.iconst 2, 1) := dk_5 (dk_at dksX5_taste_4 9 rfl rfl)
theorem dX5_taste_102 : decode cX5_taste 102 = .ok (.ireturn, 1) := dk_172 (dk_at dksX5_taste_4 10 rfl rfl)
theorem dX5_taste_103 : decode cX5_taste 103 = .ok (.iload_n 2, 1) := dk_28 (dk_at dksX5_taste_4 11 rfl rfl)
theorem dX5_taste_104 : decode cX5_taste 104 = .ok (.aload_n 0, 1) := dk_42 (dk_at dksX5_taste_4 12 rfl rfl)
theorem dX5_taste_105 : decode cX5_taste 105 = .ok (.getfield 1, 3) := dk_180 0 1 (dk_at dksX5_taste_4 13 rfl rfl)
theorem dX5_taste_108 : decode cX5_taste 108 = .ok (.getfield 68, 3) := dk_180 0 68 (dk_at dksX5_taste_4 16 rfl rfl)
theorem dX5_taste_111 : decode cX5_taste 111 = .ok (.iconst 0, 1) := dk_3 (dk_at dksX5_taste_4 19 rfl rfl)
theorem dX5_taste_112 : decode cX5_taste 112 = .ok (.iaload, 1) := dk_46 (dk_at dksX5_taste_4 20 rfl rfl)
theorem dX5_taste_113 : decode cX5_taste 113 = .ok (.if_icmp .ge 7, 3) := dk_162 0 7 (dk_at dksX5_taste_4 21 rfl rfl)
theorem dX5_taste_116 : decode cX5_taste 116 = .ok (.iconst 3, 1) := dk_6 (dk_at dksX5_taste_5 0 rfl rfl)
theorem dX5_taste_117 : decode cX5_taste 117 = .ok (.goto 21, 3) := dk_167 0 21 (dk_at dksX5_taste_5 1 rfl rfl)
theorem dX5_taste_120 : decode cX5_taste 120 = .ok (.iload_n 2, 1) := dk_28 (dk_at dksX5_taste_5 4 rfl rfl)
theorem dX5_taste_121 : decode cX5_taste 121 = .ok (.aload_n 0, 1) := dk_42 (dk_at dksX5_taste_5 5 rfl rfl)
theorem dX5_taste_122 : decode cX5_taste 122 = .ok (.getfield 1, 3) := dk_180 0 1 (dk_at dksX5_taste_5 6 rfl rfl)
theorem dX5_taste_125 : decode cX5_taste 125 = .ok (.getfield 68, 3) := dk_180 0 68 (dk_at dksX5_taste_5 9 rfl rfl)
theorem dX5_taste_128 : decode cX5_taste 128 = .ok (.iconst 1, 1) := dk_4 (dk_at dksX5_taste_5 12 rfl rfl)
theorem dX5_taste_129 : decode cX5_taste 129 = .ok (.iaload, 1) := dk_46 (dk_at dksX5_taste_5 13 rfl rfl)
theorem dX5_taste_130 : decode cX5_taste 130 = .ok (.if_icmp .le 7, 3) := dk_164 0 7 (dk_at dksX5_taste_5 14 rfl rfl)
theorem dX5_taste_133 : decode cX5_taste 133 = .ok (.iconst 4, 1) := dk_7 (dk_at dksX5_taste_5 17 rfl rfl)
theorem dX5_taste_134 : decode cX5_taste 134 = .ok (.goto 4, 3) := dk_167 0 4 (dk_at dksX5_taste_5 18 rfl rfl)
theorem dX5_taste_137 : decode cX5_taste 137 = .ok (.iconst 0, 1) := dk_3 (dk_at dksX5_taste_5 21 rfl rfl)
theorem dX5_taste_138 : decode cX5_taste 138 = .ok (.ireturn, 1) := dk_172 (dk_at dksX5_taste_5 22 rfl rfl)
abbrev cX5_run : ByteArray := prog_3_method_5_code
def yX5_run : MethodName := ⟨RX5, "run", "()V"⟩
def dkwX5_run_2 : List UInt8 := [182, 0, 48, 182, 0, 51, 167, 255, 218, 177]
abbrev dktX5_run_2 : List UInt8 := dkwX5_run_2 ++ []
def dkwX5_run_1 : List UInt8 := [42, 180, 0, 1, 180, 0, 42, 162, 0, 24, 42, 180, 0, 1, 180, 0, 25, 42, 182, 0, 45, 42]
abbrev dktX5_run_1 : List UInt8 := dkwX5_run_1 ++ dktX5_run_2
def dkwX5_run_0 : List UInt8 := [42, 180, 0, 1, 180, 0, 25, 42, 182, 0, 29, 182, 0, 33, 42, 180, 0, 1, 180, 0, 25, 180, 0, 39]
abbrev dktX5_run_0 : List UInt8 := dkwX5_run_0 ++ dktX5_run_1
theorem dksX5_run_0 : cX5_run.data.toList.drop 0 = dktX5_run_0 := by decide +kernel
theorem dksX5_run_1 : cX5_run.data.toList.drop 24 = dktX5_run_1 := dk_seg dksX5_run_0 24 rfl rfl
theorem dksX5_run_2 : cX5_run.data.toList.drop 46 = dktX5_run_2 := dk_seg dksX5_run_1 22 rfl rfl
theorem dX5_run_0 : decode cX5_run 0 = .ok (.aload_n 0, 1) := dk_42 (dk_at dksX5_run_0 0 rfl rfl)
theorem dX5_run_1 : decode cX5_run 1 = .ok (.getfield 1, 3) := dk_180 0 1 (dk_at dksX5_run_0 1 rfl rfl)
theorem dX5_run_4 : decode cX5_run 4 = .ok (.getfield 25, 3) := dk_180 0 25 (dk_at dksX5_run_0 4 rfl rfl)
theorem dX5_run_7 : decode cX5_run 7 = .ok (.aload_n 0, 1) := dk_42 (dk_at dksX5_run_0 7 rfl rfl)
theorem dX5_run_8 : decode cX5_run 8 = .ok (.invokevirtual 29, 3) := dk_182 0 29 (dk_at dksX5_run_0 8 rfl rfl)
theorem dX5_run_11 : decode cX5_run 11 = .ok (.invokevirtual 33, 3) := dk_182 0 33 (dk_at dksX5_run_0 11 rfl rfl)
theorem dX5_run_14 : decode cX5_run 14 = .ok (.aload_n 0, 1) := dk_42 (dk_at dksX5_run_0 14 rfl rfl)
theorem dX5_run_15 : decode cX5_run 15 = .ok (.getfield 1, 3) := dk_180 0 1 (dk_at dksX5_run_0 15 rfl rfl)
theorem dX5_run_18 : decode cX5_run 18 = .ok (.getfield 25, 3) := dk_180 0 25 (dk_at dksX5_run_0 18 rfl rfl)
theorem dX5_run_21 : decode cX5_run 21 = .ok (.getfield 39, 3) := dk_180 0 39 (dk_at dksX5_run_0 21 rfl rfl)
theorem dX5_run_24 : decode cX5_run 24 = .ok (.aload_n 0, 1) := dk_42 (dk_at dksX5_run_1 0 rfl rfl)
theorem dX5_run_25 : decode cX5_run 25 = .ok (.getfield 1, 3) := dk_180 0 1 (dk_at dksX5_run_1 1 rfl rfl)
theorem dX5_run_28 : decode cX5_run 28 = .ok (.getfield 42, 3) := dk_180 0 42 (dk_at dksX5_run_1 4 rfl rfl)
theorem dX5_run_31 : decode cX5_run 31 = .ok (.if_icmp .ge 24, 3) := dk_162 0 24 (dk_at dksX5_run_1 7 rfl rfl)
theorem dX5_run_34 : decode cX5_run 34 = .ok (.aload_n 0, 1) := dk_42 (dk_at dksX5_run_1 10 rfl rfl)
theorem dX5_run_35 : decode cX5_run 35 = .ok (.getfield 1, 3) := dk_180 0 1 (dk_at dksX5_run_1 11 rfl rfl)
theorem dX5_run_38 : decode cX5_run 38 = .ok (.getfield 25, 3) := dk_180 0 25 (dk_at dksX5_run_1 14 rfl rfl)
theorem dX5_run_41 : decode cX5_run 41 = .ok (.aload_n 0, 1) := dk_42 (dk_at dksX5_run_1 17 rfl rfl)
theorem dX5_run_42 : decode cX5_run 42 = .ok (.invokevirtual 45, 3) := dk_182 0 45 (dk_at dksX5_run_1 18 rfl rfl)
theorem dX5_run_45 : decode cX5_run 45 = .ok (.aload_n 0, 1) := dk_42 (dk_at dksX5_run_1 21 rfl rfl)
theorem dX5_run_46 : decode cX5_run 46 = .ok (.invokevirtual 48, 3) := dk_182 0 48 (dk_at dksX5_run_2 0 rfl rfl)
theorem dX5_run_49 : decode cX5_run 49 = .ok (.invokevirtual 51, 3) := dk_182 0 51 (dk_at dksX5_run_2 3 rfl rfl)
theorem dX5_run_52 : decode cX5_run 52 = .ok (.goto (-38), 3) := dk_167 255 218 (dk_at dksX5_run_2 6 rfl rfl)
theorem dX5_run_55 : decode cX5_run 55 = .ok (.return_, 1) := dk_177 (dk_at dksX5_run_2 9 rfl rfl)
abbrev cX5_much : ByteArray := prog_3_method_4_code
def yX5_much : MethodName := ⟨RX5, "much", "()I"⟩
def dkwX5_much_0 : List UInt8 := [42, 180, 0, 1, 180, 0, 22, 172]
abbrev dktX5_much_0 : List UInt8 := dkwX5_much_0 ++ []
theorem dksX5_much_0 : cX5_much.data.toList.drop 0 = dktX5_much_0 := by decide +kernel
theorem dX5_much_0 : decode cX5_much 0 = .ok (.aload_n 0, 1) := dk_42 (dk_at dksX5_much_0 0 rfl rfl)
theorem dX5_much_1 : decode cX5_much 1 = .ok (.getfield 1, 3) := dk_180 0 1 (dk_at dksX5_much_0 1 rfl rfl)
theorem dX5_much_4 : decode cX5_much 4 = .ok (.getfield 22, 3) := dk_180 0 22 (dk_at dksX5_much_0 4 rfl rfl)
theorem dX5_much_7 : decode cX5_much 7 = .ok (.ireturn, 1) := dk_172 (dk_at dksX5_much_0 7 rfl rfl)
abbrev cX5_step : ByteArray := prog_3_method_2_code
def yX5_step : MethodName := ⟨RX5, "step", "()I"⟩
def dkwX5_step_0 : List UInt8 := [42, 180, 0, 1, 180, 0, 13, 172]
abbrev dktX5_step_0 : List UInt8 := dkwX5_step_0 ++ []
theorem dksX5_step_0 : cX5_step.data.toList.drop 0 = dktX5_step_0 := by decide +kernel
theorem dX5_step_0 : decode cX5_step 0 = .ok (.aload_n 0, 1) := dk_42 (dk_at dksX5_step_0 0 rfl rfl)
theorem dX5_step_1 : decode cX5_step 1 = .ok (.getfield 1, 3) := dk_180 0 1 (dk_at dksX5_step_0 1 rfl rfl)
theorem dX5_step_4 : decode cX5_step 4 = .ok (.getfield 13, 3) := dk_180 0 13 (dk_at dksX5_step_0 4 rfl rfl)
theorem dX5_step_7 : decode cX5_step 7 = .ok (.ireturn, 1) := dk_172 (dk_at dksX5_step_0 7 rfl rfl)
abbrev cX5_warmth : ByteArray := prog_3_method_3_code
def yX5_warmth : MethodName := ⟨RX5, "warmth", "()I"⟩
def dkwX5_warmth_0 : List UInt8 := [42, 180, 0, 1, 180, 0, 19, 172]
abbrev dktX5_warmth_0 : List UInt8 := dkwX5_warmth_0 ++ []
theorem dksX5_warmth_0 : cX5_warmth.data.toList.drop 0 = dktX5_warmth_0 := by decide +kernel
theorem dX5_warmth_0 : decode cX5_warmth 0 = .ok (.aload_n 0, 1) := dk_42 (dk_at dksX5_warmth_0 0 rfl rfl)
theorem dX5_warmth_1 : decode cX5_warmth 1 = .ok (.getfield 1, 3) := dk_180 0 1 (dk_at dksX5_warmth_0 1 rfl rfl)
theorem dX5_warmth_4 : decode cX5_warmth 4 = .ok (.getfield 19, 3) := dk_180 0 19 (dk_at dksX5_warmth_0 4 rfl rfl)
theorem dX5_warmth_7 : decode cX5_warmth 7 = .ok (.ireturn, 1) := dk_172 (dk_at dksX5_warmth_0 7 rfl rfl)
theorem q60 : (Jvm.Cond.initialized "WaterGrounds$Brew") ∈ lw_all := lw_g (lw_at lw_m1 6 rfl) rfl
theorem q152 : (Jvm.Cond.fieldLinkNest "WaterGrounds$Brew" (39 : Nat) "WaterGrounds$Bed" "tick" "I" "WaterGrounds") ∈ lw_tbl := lw_at lw_m1 98 rfl
theorem q205 : (Jvm.Cond.instantiable "WaterGrounds$Brew" (1 : Nat)) ∈ lw_all := lw_g (lw_at lw_m1 151 rfl) rfl
theorem q207 : (Jvm.Cond.instanceMethod ({ cls := "WaterGrounds$Brew", name := "<init>", desc := "(LWaterGrounds;)V" } : Jvm.MethodName)) ∈ lw_all := lw_g (lw_at lw_m1 153 rfl) rfl
theorem q208 : (Jvm.Cond.code ({ cls := "WaterGrounds$Brew", name := "<init>", desc := "(LWaterGrounds;)V" } : Jvm.MethodName) prog_3_method_1_code (2 : Nat) (Option.none : Option Jvm.ClassFile.FieldType)) ∈ lw_all := lw_g (lw_at lw_m1 154 rfl) rfl
theorem q209 : (Jvm.Cond.methodLink "WaterGrounds$Brew" (7 : Nat) ({ cls := "java/lang/Object", name := "<init>", desc := "()V" } : Jvm.MethodName)) ∈ lw_all := lw_g (lw_at lw_m1 155 rfl) rfl
theorem q210 : (Jvm.Cond.fieldLink "WaterGrounds$Brew" (1 : Nat) "WaterGrounds$Brew" "this$0" "LWaterGrounds;") ∈ lw_all := lw_g (lw_at lw_m1 156 rfl) rfl
theorem q211 : (Jvm.Cond.laysFinal "WaterGrounds$Brew" "WaterGrounds$Brew" "this$0" "LWaterGrounds;") ∈ lw_all := lw_g (lw_at lw_m1 157 rfl) rfl
theorem q212 : (Jvm.Cond.soleField "WaterGrounds$Brew" "this$0") ∈ lw_all := lw_g (lw_at lw_m1 158 rfl) rfl
theorem q213 : (Jvm.Cond.superclass "WaterGrounds$Brew" "java/lang/Object") ∈ lw_all := lw_g (lw_at lw_m1 159 rfl) rfl
theorem q292 : (Jvm.Cond.fieldLinkNest "WaterGrounds$Brew" (13 : Nat) "WaterGrounds" "mill" "I" "WaterGrounds") ∈ lw_tbl := lw_at lw_m1 238 rfl
theorem q299 : (Jvm.Cond.fieldLinkNest "WaterGrounds$Brew" (19 : Nat) "WaterGrounds" "warm" "I" "WaterGrounds") ∈ lw_tbl := lw_at lw_m2 5 rfl
theorem q303 : (Jvm.Cond.fieldLinkNest "WaterGrounds$Brew" (22 : Nat) "WaterGrounds" "grams" "I" "WaterGrounds") ∈ lw_tbl := lw_at lw_m2 9 rfl
theorem q306 : (Jvm.Cond.fieldLinkNest "WaterGrounds$Brew" (42 : Nat) "WaterGrounds" "ticks" "I" "WaterGrounds") ∈ lw_tbl := lw_at lw_m2 12 rfl
theorem q309 : (Jvm.Cond.fieldLinkNest "WaterGrounds$Brew" (68 : Nat) "WaterGrounds" "chart" "[I" "WaterGrounds") ∈ lw_tbl := lw_at lw_m2 15 rfl
theorem q321 : (Jvm.Cond.fieldLinkNest "WaterGrounds$Brew" (25 : Nat) "WaterGrounds" "trial" "LWaterGrounds$Bed;" "WaterGrounds") ∈ lw_tbl := lw_at lw_m2 27 rfl
theorem q830 : (Jvm.Cond.instanceMethod ({ cls := "WaterGrounds$Brew", name := "taste", desc := "()I" } : Jvm.MethodName)) ∈ lw_all := lw_g (lw_at lw_m4 56 rfl) rfl
theorem q831 : (Jvm.Cond.selects "WaterGrounds$Brew" ({ cls := "WaterGrounds$Brew", name := "taste", desc := "()I" } : Jvm.MethodName) ({ cls := "WaterGrounds$Brew", name := "taste", desc := "()I" } : Jvm.MethodName)) ∈ lw_all := lw_g (lw_at lw_m4 57 rfl) rfl
theorem q832 : (Jvm.Cond.sameMethod "WaterGrounds$Brew" "WaterGrounds$Brew" "taste" "()I") ∈ lw_all := lw_g (lw_at lw_m4 58 rfl) rfl
theorem q835 : (Jvm.Cond.code ({ cls := "WaterGrounds$Brew", name := "taste", desc := "()I" } : Jvm.MethodName) prog_3_method_6_code (3 : Nat) (Option.some Jvm.ClassFile.FieldType.int)) ∈ lw_all := lw_g (lw_at lw_m4 61 rfl) rfl
theorem q836 : (Jvm.Cond.methodLink "WaterGrounds$Brew" (55 : Nat) ({ cls := "WaterGrounds$Brew", name := "run", desc := "()V" } : Jvm.MethodName)) ∈ lw_all := lw_g (lw_at lw_m4 62 rfl) rfl
theorem q837 : (Jvm.Cond.instanceMethod ({ cls := "WaterGrounds$Brew", name := "run", desc := "()V" } : Jvm.MethodName)) ∈ lw_all := lw_g (lw_at lw_m4 63 rfl) rfl
theorem q838 : (Jvm.Cond.selects "WaterGrounds$Brew" ({ cls := "WaterGrounds$Brew", name := "run", desc := "()V" } : Jvm.MethodName) ({ cls := "WaterGrounds$Brew", name := "run", desc := "()V" } : Jvm.MethodName)) ∈ lw_all := lw_g (lw_at lw_m4 64 rfl) rfl
theorem q839 : (Jvm.Cond.sameMethod "WaterGrounds$Brew" "WaterGrounds$Brew" "run" "()V") ∈ lw_all := lw_g (lw_at lw_m4 65 rfl) rfl
theorem q842 : (Jvm.Cond.code ({ cls := "WaterGrounds$Brew", name := "run", desc := "()V" } : Jvm.MethodName) prog_3_method_5_code (1 : Nat) (Option.none : Option Jvm.ClassFile.FieldType)) ∈ lw_all := lw_g (lw_at lw_m4 68 rfl) rfl
theorem q843 : (Jvm.Cond.methodLink "WaterGrounds$Brew" (29 : Nat) ({ cls := "WaterGrounds$Brew", name := "much", desc := "()I" } : Jvm.MethodName)) ∈ lw_all := lw_g (lw_at lw_m4 69 rfl) rfl
theorem q844 : (Jvm.Cond.instanceMethod ({ cls := "WaterGrounds$Brew", name := "much", desc := "()I" } : Jvm.MethodName)) ∈ lw_all := lw_g (lw_at lw_m4 70 rfl) rfl
theorem q845 : (Jvm.Cond.selects "WaterGrounds$Brew" ({ cls := "WaterGrounds$Brew", name := "much", desc := "()I" } : Jvm.MethodName) ({ cls := "WaterGrounds$Brew", name := "much", desc := "()I" } : Jvm.MethodName)) ∈ lw_all := lw_g (lw_at lw_m4 71 rfl) rfl
theorem q846 : (Jvm.Cond.sameMethod "WaterGrounds$Brew" "WaterGrounds$Brew" "much" "()I") ∈ lw_all := lw_g (lw_at lw_m4 72 rfl) rfl
theorem q854 : (Jvm.Cond.code ({ cls := "WaterGrounds$Brew", name := "much", desc := "()I" } : Jvm.MethodName) prog_3_method_4_code (1 : Nat) (Option.some Jvm.ClassFile.FieldType.int)) ∈ lw_all := lw_g (lw_at lw_m4 80 rfl) rfl
theorem q855 : (Jvm.Cond.methodLink "WaterGrounds$Brew" (33 : Nat) ({ cls := "WaterGrounds$Bed", name := "begin", desc := "(I)V" } : Jvm.MethodName)) ∈ lw_all := lw_g (lw_at lw_m4 81 rfl) rfl
theorem q856 : (Jvm.Cond.methodLink "WaterGrounds$Brew" (45 : Nat) ({ cls := "WaterGrounds$Brew", name := "step", desc := "()I" } : Jvm.MethodName)) ∈ lw_all := lw_g (lw_at lw_m4 82 rfl) rfl
theorem q857 : (Jvm.Cond.instanceMethod ({ cls := "WaterGrounds$Brew", name := "step", desc := "()I" } : Jvm.MethodName)) ∈ lw_all := lw_g (lw_at lw_m4 83 rfl) rfl
theorem q858 : (Jvm.Cond.selects "WaterGrounds$Brew" ({ cls := "WaterGrounds$Brew", name := "step", desc := "()I" } : Jvm.MethodName) ({ cls := "WaterGrounds$Brew", name := "step", desc := "()I" } : Jvm.MethodName)) ∈ lw_all := lw_g (lw_at lw_m4 84 rfl) rfl
theorem q859 : (Jvm.Cond.sameMethod "WaterGrounds$Brew" "WaterGrounds$Brew" "step" "()I") ∈ lw_all := lw_g (lw_at lw_m4 85 rfl) rfl
theorem q867 : (Jvm.Cond.code ({ cls := "WaterGrounds$Brew", name := "step", desc := "()I" } : Jvm.MethodName) prog_3_method_2_code (1 : Nat) (Option.some Jvm.ClassFile.FieldType.int)) ∈ lw_all := lw_g (lw_at lw_m4 93 rfl) rfl
theorem q868 : (Jvm.Cond.methodLink "WaterGrounds$Brew" (48 : Nat) ({ cls := "WaterGrounds$Brew", name := "warmth", desc := "()I" } : Jvm.MethodName)) ∈ lw_all := lw_g (lw_at lw_m4 94 rfl) rfl
theorem q869 : (Jvm.Cond.instanceMethod ({ cls := "WaterGrounds$Brew", name := "warmth", desc := "()I" } : Jvm.MethodName)) ∈ lw_all := lw_g (lw_at lw_m4 95 rfl) rfl
theorem q870 : (Jvm.Cond.selects "WaterGrounds$Brew" ({ cls := "WaterGrounds$Brew", name := "warmth", desc := "()I" } : Jvm.MethodName) ({ cls := "WaterGrounds$Brew", name := "warmth", desc := "()I" } : Jvm.MethodName)) ∈ lw_all := lw_g (lw_at lw_m4 96 rfl) rfl
theorem q871 : (Jvm.Cond.sameMethod "WaterGrounds$Brew" "WaterGrounds$Brew" "warmth" "()I") ∈ lw_all := lw_g (lw_at lw_m4 97 rfl) rfl
theorem q879 : (Jvm.Cond.code ({ cls := "WaterGrounds$Brew", name := "warmth", desc := "()I" } : Jvm.MethodName) prog_3_method_3_code (1 : Nat) (Option.some Jvm.ClassFile.FieldType.int)) ∈ lw_all := lw_g (lw_at lw_m4 105 rfl) rfl
theorem q880 : (Jvm.Cond.methodLink "WaterGrounds$Brew" (51 : Nat) ({ cls := "WaterGrounds$Bed", name := "go", desc := "(II)V" } : Jvm.MethodName)) ∈ lw_all := lw_g (lw_at lw_m4 106 rfl) rfl
theorem q881 : (Jvm.Cond.methodLink "WaterGrounds$Brew" (58 : Nat) ({ cls := "WaterGrounds$Bed", name := "out", desc := "(I)I" } : Jvm.MethodName)) ∈ lw_all := lw_g (lw_at lw_m4 107 rfl) rfl
theorem q882 : (Jvm.Cond.methodLink "WaterGrounds$Brew" (62 : Nat) ({ cls := "WaterGrounds$Bed", name := "strong", desc := "()I" } : Jvm.MethodName)) ∈ lw_all := lw_g (lw_at lw_m4 108 rfl) rfl
theorem q883 : (Jvm.Cond.methodLink "WaterGrounds$Brew" (65 : Nat) ({ cls := "WaterGrounds$Bed", name := "uneven", desc := "(I)I" } : Jvm.MethodName)) ∈ lw_all := lw_g (lw_at lw_m4 109 rfl) rfl
theorem q906 : (Jvm.Cond.declares ({ cls := "WaterGrounds$Brew", name := "taste", desc := "()I" } : Jvm.MethodName)) ∈ lw_tbl := lw_at lw_m4 132 rfl
theorem in_X5 : ∀ w ∈ wsX50, w ∈ lw_all := lw_in wsX50 [211] (by decide +kernel) (by decide +kernel)
/-! WaterGrounds$Turned -/
set_option maxRecDepth 100000
def RX6 : String := "WaterGrounds$Turned"
def TX6 : u_T := fun k => match k with
  | 0 => ("WaterGrounds$Brew", "this$0", "LWaterGrounds;", true)
  | 1 => ("WaterGrounds$Turned", "steps", "I", false)
  | 2 => ("WaterGrounds$Turned", "warmths", "I", false)
  | 3 => ("WaterGrounds$Turned", "more", "I", false)
  | _ => ("WaterGrounds$Turned", "this$0", "LWaterGrounds;", true)
def tyX6 : Nat → FieldType := fun k => match k with
  | 0 => .object "WaterGrounds"
  | 1 => .int
  | 2 => .int
  | 3 => .int
  | _ => .object "WaterGrounds"
abbrev wsX60 : List Cond := u_ws RX6 TX6 5
-- two fields of one name: no nmX6
theorem tyX6_ok : ∀ k, k < 5 → parseFieldDescriptor (TX6 k).2.2.1 = some (tyX6 k) := by decide +kernel
abbrev cX6_init : ByteArray := prog_15_method_1_code
def yX6_init : MethodName := ⟨RX6, "<init>", "(LWaterGrounds;)V"⟩
def dkwX6_init_0 : List UInt8 := [42, 43, 181, 0, 3, 42, 43, 183, 0, 9, 177]
abbrev dktX6_init_0 : List UInt8 := dkwX6_init_0 ++ []
theorem dksX6_init_0 : cX6_init.data.toList.drop 0 = dktX6_init_0 := by decide +kernel
theorem dX6_init_0 : decode cX6_init 0 = .ok (.aload_n 0, 1) := dk_42 (dk_at dksX6_init_0 0 rfl rfl)
theorem dX6_init_1 : decode cX6_init 1 = .ok (.aload_n 1, 1) := dk_43 (dk_at dksX6_init_0 1 rfl rfl)
theorem dX6_init_2 : decode cX6_init 2 = .ok (.putfield 3, 3) := dk_181 0 3 (dk_at dksX6_init_0 2 rfl rfl)
theorem dX6_init_5 : decode cX6_init 5 = .ok (.aload_n 0, 1) := dk_42 (dk_at dksX6_init_0 5 rfl rfl)
theorem dX6_init_6 : decode cX6_init 6 = .ok (.aload_n 1, 1) := dk_43 (dk_at dksX6_init_0 6 rfl rfl)
theorem dX6_init_7 : decode cX6_init 7 = .ok (.invokespecial 9, 3) := dk_183 0 9 (dk_at dksX6_init_0 7 rfl rfl)
theorem dX6_init_10 : decode cX6_init 10 = .ok (.return_, 1) := dk_177 (dk_at dksX6_init_0 10 rfl rfl)
abbrev cX6_much : ByteArray := prog_15_method_5_code
def yX6_much : MethodName := ⟨RX6, "much", "()I"⟩
def dkwX6_much_0 : List UInt8 := [42, 183, 0, 32, 42, 180, 0, 22, 96, 172]
abbrev dktX6_much_0 : List UInt8 := dkwX6_much_0 ++ []
theorem dksX6_much_0 : cX6_much.data.toList.drop 0 = dktX6_much_0 := by decide +kernel
theorem dX6_much_0 : decode cX6_much 0 = .ok (.aload_n 0, 1) := dk_42 (dk_at dksX6_much_0 0 rfl rfl)
theorem dX6_much_1 : decode cX6_much 1 = .ok (.invokespecial 32, 3) := dk_183 0 32 (dk_at dksX6_much_0 1 rfl rfl)
theorem dX6_much_4 : decode cX6_much 4 = .ok (.aload_n 0, 1) := dk_42 (dk_at dksX6_much_0 4 rfl rfl)
theorem dX6_much_5 : decode cX6_much 5 = .ok (.getfield 22, 3) := dk_180 0 22 (dk_at dksX6_much_0 5 rfl rfl)
theorem dX6_much_8 : decode cX6_much 8 = .ok (.iadd, 1) := dk_96 (dk_at dksX6_much_0 8 rfl rfl)
theorem dX6_much_9 : decode cX6_much 9 = .ok (.ireturn, 1) := dk_172 (dk_at dksX6_much_0 9 rfl rfl)
abbrev cX6_step : ByteArray := prog_15_method_3_code
def yX6_step : MethodName := ⟨RX6, "step", "()I"⟩
def dkwX6_step_0 : List UInt8 := [42, 183, 0, 25, 42, 180, 0, 15, 96, 172]
abbrev dktX6_step_0 : List UInt8 := dkwX6_step_0 ++ []
theorem dksX6_step_0 : cX6_step.data.toList.drop 0 = dktX6_step_0 := by decide +kernel
theorem dX6_step_0 : decode cX6_step 0 = .ok (.aload_n 0, 1) := dk_42 (dk_at dksX6_step_0 0 rfl rfl)
theorem dX6_step_1 : decode cX6_step 1 = .ok (.invokespecial 25, 3) := dk_183 0 25 (dk_at dksX6_step_0 1 rfl rfl)
theorem dX6_step_4 : decode cX6_step 4 = .ok (.aload_n 0, 1) := dk_42 (dk_at dksX6_step_0 4 rfl rfl)
theorem dX6_step_5 : decode cX6_step 5 = .ok (.getfield 15, 3) := dk_180 0 15 (dk_at dksX6_step_0 5 rfl rfl)
theorem dX6_step_8 : decode cX6_step 8 = .ok (.iadd, 1) := dk_96 (dk_at dksX6_step_0 8 rfl rfl)
theorem dX6_step_9 : decode cX6_step 9 = .ok (.ireturn, 1) := dk_172 (dk_at dksX6_step_0 9 rfl rfl)
abbrev cX6_warmth : ByteArray := prog_15_method_4_code
def yX6_warmth : MethodName := ⟨RX6, "warmth", "()I"⟩
def dkwX6_warmth_0 : List UInt8 := [42, 183, 0, 29, 42, 180, 0, 19, 96, 172]
abbrev dktX6_warmth_0 : List UInt8 := dkwX6_warmth_0 ++ []
theorem dksX6_warmth_0 : cX6_warmth.data.toList.drop 0 = dktX6_warmth_0 := by decide +kernel
theorem dX6_warmth_0 : decode cX6_warmth 0 = .ok (.aload_n 0, 1) := dk_42 (dk_at dksX6_warmth_0 0 rfl rfl)
theorem dX6_warmth_1 : decode cX6_warmth 1 = .ok (.invokespecial 29, 3) := dk_183 0 29 (dk_at dksX6_warmth_0 1 rfl rfl)
theorem dX6_warmth_4 : decode cX6_warmth 4 = .ok (.aload_n 0, 1) := dk_42 (dk_at dksX6_warmth_0 4 rfl rfl)
theorem dX6_warmth_5 : decode cX6_warmth 5 = .ok (.getfield 19, 3) := dk_180 0 19 (dk_at dksX6_warmth_0 5 rfl rfl)
theorem dX6_warmth_8 : decode cX6_warmth 8 = .ok (.iadd, 1) := dk_96 (dk_at dksX6_warmth_0 8 rfl rfl)
theorem dX6_warmth_9 : decode cX6_warmth 9 = .ok (.ireturn, 1) := dk_172 (dk_at dksX6_warmth_0 9 rfl rfl)
abbrev cX6_lay : ByteArray := prog_15_method_2_code
def yX6_lay : MethodName := ⟨RX6, "lay", "()V"⟩
def dkwX6_lay_0 : List UInt8 := [42, 3, 181, 0, 15, 42, 3, 181, 0, 19, 42, 3, 181, 0, 22, 177]
abbrev dktX6_lay_0 : List UInt8 := dkwX6_lay_0 ++ []
theorem dksX6_lay_0 : cX6_lay.data.toList.drop 0 = dktX6_lay_0 := by decide +kernel
theorem dX6_lay_0 : decode cX6_lay 0 = .ok (.aload_n 0, 1) := dk_42 (dk_at dksX6_lay_0 0 rfl rfl)
theorem dX6_lay_1 : decode cX6_lay 1 = .ok (.iconst 0, 1) := dk_3 (dk_at dksX6_lay_0 1 rfl rfl)
theorem dX6_lay_2 : decode cX6_lay 2 = .ok (.putfield 15, 3) := dk_181 0 15 (dk_at dksX6_lay_0 2 rfl rfl)
theorem dX6_lay_5 : decode cX6_lay 5 = .ok (.aload_n 0, 1) := dk_42 (dk_at dksX6_lay_0 5 rfl rfl)
theorem dX6_lay_6 : decode cX6_lay 6 = .ok (.iconst 0, 1) := dk_3 (dk_at dksX6_lay_0 6 rfl rfl)
theorem dX6_lay_7 : decode cX6_lay 7 = .ok (.putfield 19, 3) := dk_181 0 19 (dk_at dksX6_lay_0 7 rfl rfl)
theorem dX6_lay_10 : decode cX6_lay 10 = .ok (.aload_n 0, 1) := dk_42 (dk_at dksX6_lay_0 10 rfl rfl)
theorem dX6_lay_11 : decode cX6_lay 11 = .ok (.iconst 0, 1) := dk_3 (dk_at dksX6_lay_0 11 rfl rfl)
theorem dX6_lay_12 : decode cX6_lay 12 = .ok (.putfield 22, 3) := dk_181 0 22 (dk_at dksX6_lay_0 12 rfl rfl)
theorem dX6_lay_15 : decode cX6_lay 15 = .ok (.return_, 1) := dk_177 (dk_at dksX6_lay_0 15 rfl rfl)
abbrev cX6_turn : ByteArray := prog_15_method_6_code
def yX6_turn : MethodName := ⟨RX6, "turn", "(I)Z"⟩
def dkwX6_turn_5 : List UInt8 := [153, 0, 7, 4, 167, 0, 4, 3, 172]
abbrev dktX6_turn_5 : List UInt8 := dkwX6_turn_5 ++ []
def dkwX6_turn_4 : List UInt8 := [133, 9, 20, 0, 43, 184, 0, 38, 153, 0, 22, 42, 182, 0, 45, 133, 10, 20, 0, 46, 184, 0, 38]
abbrev dktX6_turn_4 : List UInt8 := dkwX6_turn_4 ++ dktX6_turn_5
def dkwX6_turn_3 : List UInt8 := [3, 96, 181, 0, 22, 42, 182, 0, 35, 133, 9, 20, 0, 36, 184, 0, 38, 153, 0, 37, 42, 182, 0, 42]
abbrev dktX6_turn_3 : List UInt8 := dkwX6_turn_3 ++ dktX6_turn_4
def dkwX6_turn_2 : List UInt8 := [167, 0, 4, 3, 96, 181, 0, 19, 42, 89, 180, 0, 22, 27, 5, 108, 5, 160, 0, 7, 28, 167, 0, 4]
abbrev dktX6_turn_2 : List UInt8 := dkwX6_turn_2 ++ dktX6_turn_3
def dkwX6_turn_1 : List UInt8 := [167, 0, 4, 3, 96, 181, 0, 15, 42, 89, 180, 0, 19, 27, 5, 108, 4, 160, 0, 10, 16, 10, 28, 104]
abbrev dktX6_turn_1 : List UInt8 := dkwX6_turn_1 ++ dktX6_turn_2
def dkwX6_turn_0 : List UInt8 := [27, 5, 112, 154, 0, 7, 4, 167, 0, 4, 2, 61, 42, 89, 180, 0, 15, 27, 5, 108, 154, 0, 7, 28]
abbrev dktX6_turn_0 : List UInt8 := dkwX6_turn_0 ++ dktX6_turn_1
theorem dksX6_turn_0 : cX6_turn.data.toList.drop 0 = dktX6_turn_0 := by decide +kernel
theorem dksX6_turn_1 : cX6_turn.data.toList.drop 24 = dktX6_turn_1 := dk_seg dksX6_turn_0 24 rfl rfl
theorem dksX6_turn_2 : cX6_turn.data.toList.drop 48 = dktX6_turn_2 := dk_seg dksX6_turn_1 24 rfl rfl
theorem dksX6_turn_3 : cX6_turn.data.toList.drop 72 = dktX6_turn_3 := dk_seg dksX6_turn_2 24 rfl rfl
theorem dksX6_turn_4 : cX6_turn.data.toList.drop 96 = dktX6_turn_4 := dk_seg dksX6_turn_3 24 rfl rfl
theorem dksX6_turn_5 : cX6_turn.data.toList.drop 119 = dktX6_turn_5 := dk_seg dksX6_turn_4 23 rfl rfl
theorem dX6_turn_0 : decode cX6_turn 0 = .ok (.iload_n 1, 1) := dk_27 (dk_at dksX6_turn_0 0 rfl rfl)
theorem dX6_turn_1 : decode cX6_turn 1 = .ok (.iconst 2, 1) := dk_5 (dk_at dksX6_turn_0 1 rfl rfl)
theorem dX6_turn_2 : decode cX6_turn 2 = .ok (.irem, 1) := dk_112 (dk_at dksX6_turn_0 2 rfl rfl)
theorem dX6_turn_3 : decode cX6_turn 3 = .ok (.ifCond .ne 7, 3) := dk_154 0 7 (dk_at dksX6_turn_0 3 rfl rfl)
theorem dX6_turn_6 : decode cX6_turn 6 = .ok (.iconst 1, 1) := dk_4 (dk_at dksX6_turn_0 6 rfl rfl)
theorem dX6_turn_7 : decode cX6_turn 7 = .ok (.goto 4, 3) := dk_167 0 4 (dk_at dksX6_turn_0 7 rfl rfl)
theorem dX6_turn_10 : decode cX6_turn 10 = .ok (.iconst (-1), 1) := dk_2 (dk_at dksX6_turn_0 10 rfl rfl)
theorem dX6_turn_11 : decode cX6_turn 11 = .ok (.istore_n 2, 1) := dk_61 (dk_at dksX6_turn_0 11 rfl rfl)
theorem dX6_turn_12 : decode cX6_turn 12 = .ok (.aload_n 0, 1) := dk_42 (dk_at dksX6_turn_0 12 rfl rfl)
theorem dX6_turn_13 : decode cX6_turn 13 = .ok (.dup, 1) := dk_89 (dk_at dksX6_turn_0 13 rfl rfl)
theorem dX6_turn_14 : decode cX6_turn 14 = .ok (.getfield 15, 3) := dk_180 0 15 (dk_at dksX6_turn_0 14 rfl rfl)
theorem dX6_turn_17 : decode cX6_turn 17 = .ok (.iload_n 1, 1) := dk_27 (dk_at dksX6_turn_0 17 rfl rfl)
theorem dX6_turn_18 : decode cX6_turn 18 = .ok (.iconst 2, 1) := dk_5 (dk_at dksX6_turn_0 18 rfl rfl)
theorem dX6_turn_19 : decode cX6_turn 19 = .ok (.idiv, 1) := dk_108 (dk_at dksX6_turn_0 19 rfl rfl)
theorem dX6_turn_20 : decode cX6_turn 20 = .ok (.ifCond .ne 7, 3) := dk_154 0 7 (dk_at dksX6_turn_0 20 rfl rfl)
theorem dX6_turn_23 : decode cX6_turn 23 = .ok (.iload_n 2, 1) := dk_28 (dk_at dksX6_turn_0 23 rfl rfl)
theorem dX6_turn_24 : decode cX6_turn 24 = .ok (.goto 4, 3) := dk_167 0 4 (dk_at dksX6_turn_1 0 rfl rfl)
theorem dX6_turn_27 : decode cX6_turn 27 = .ok (.iconst 0, 1) := dk_3 (dk_at dksX6_turn_1 3 rfl rfl)
theorem dX6_turn_28 : decode cX6_turn 28 = .ok (.iadd, 1) := dk_96 (dk_at dksX6_turn_1 4 rfl rfl)
theorem dX6_turn_29 : decode cX6_turn 29 = .ok (.putfield 15, 3) := dk_181 0 15 (dk_at dksX6_turn_1 5 rfl rfl)
theorem dX6_turn_32 : decode cX6_turn 32 = .ok (.aload_n 0, 1) := dk_42 (dk_at dksX6_turn_1 8 rfl rfl)
theorem dX6_turn_33 : decode cX6_turn 33 = .ok (.dup, 1) := dk_89 (dk_at dksX6_turn_1 9 rfl rfl)
theorem dX6_turn_34 : decode cX6_turn 34 = .ok (.getfield 19, 3) := dk_180 0 19 (dk_at dksX6_turn_1 10 rfl rfl)
theorem dX6_turn_37 : decode cX6_turn 37 = .ok (.iload_n 1, 1) := dk_27 (dk_at dksX6_turn_1 13 rfl rfl)
theorem dX6_turn_38 : decode cX6_turn 38 = .ok (.iconst 2, 1) := dk_5 (dk_at dksX6_turn_1 14 rfl rfl)
theorem dX6_turn_39 : decode cX6_turn 39 = .ok (.idiv, 1) := dk_108 (dk_at dksX6_turn_1 15 rfl rfl)
theorem dX6_turn_40 : decode cX6_turn 40 = .ok (.iconst 1, 1) := dk_4 (dk_at dksX6_turn_1 16 rfl rfl)
theorem dX6_turn_41 : decode cX6_turn 41 = .ok (.if_icmp .ne 10, 3) := dk_160 0 10 (dk_at dksX6_turn_1 17 rfl rfl)
theorem dX6_turn_44 : decode cX6_turn 44 = .ok (.bipush 10, 2) := dk_16 10 (dk_at dksX6_turn_1 20 rfl rfl)
theorem dX6_turn_46 : decode cX6_turn 46 = .ok (.iload_n 2, 1) := dk_28 (dk_at dksX6_turn_1 22 rfl rfl)
theorem dX6_turn_47 : decode cX6_turn 47 = .ok (.imul, 1) := dk_104 (dk_at dksX6_turn_1 23 rfl rfl)
theorem dX6_turn_48 : decode cX6_turn 48 = .ok (.goto 4, 3) := dk_167 0 4 (dk_at dksX6_turn_2 0 rfl rfl)
theorem dX6_turn_51 : decode cX6_turn 51 = .ok (.iconst 0, 1) := dk_3 (dk_at dksX6_turn_2 3 rfl rfl)
theorem dX6_turn_52 : decode cX6_turn 52 = .ok (.iadd, 1) := dk_96 (dk_at dksX6_turn_2 4 rfl rfl)
theorem dX6_turn_53 : decode cX6_turn 53 = .ok (.putfield 19, 3) := dk_181 0 19 (dk_at dksX6_turn_2 5 rfl rfl)
theorem dX6_turn_56 : decode cX6_turn 56 = .ok (.aload_n 0, 1) := dk_42 (dk_at dksX6_turn_2 8 rfl rfl)
theorem dX6_turn_57 : decode cX6_turn 57 = .ok (.dup, 1) := dk_89 (dk_at dksX6_turn_2 9 rfl rfl)
theorem dX6_turn_58 : decode cX6_turn 58 = .ok (.getfield 22, 3) := dk_180 0 22 (dk_at dksX6_turn_2 10 rfl rfl)
theorem dX6_turn_61 : decode cX6_turn 61 = .ok (.iload_n 1, 1) := dk_27 (dk_at dksX6_turn_2 13 rfl rfl)
theorem dX6_turn_62 : decode cX6_turn 62 = .ok (.iconst 2, 1) := dk_5 (dk_at dksX6_turn_2 14 rfl rfl)
theorem dX6_turn_63 : decode cX6_turn 63 = .ok (.idiv, 1) := dk_108 (dk_at dksX6_turn_2 15 rfl rfl)
theorem dX6_turn_64 : decode cX6_turn 64 = .ok (.iconst 2, 1) := dk_5 (dk_at dksX6_turn_2 16 rfl rfl)
theorem dX6_turn_65 : decode cX6_turn 65 = .ok (.if_icmp .ne 7, 3) := dk_160 0 7 (dk_at dksX6_turn_2 17 rfl rfl)
theorem dX6_turn_68 : decode cX6_turn 68 = .ok (.iload_n 2, 1) := dk_28 (dk_at dksX6_turn_2 20 rfl rfl)
theorem dX6_turn_69 : decode cX6_turn 69 = .ok (.goto 4, 3) := dk_167 0 4 (dk_at dksX6_turn_2 21 rfl rfl)
theorem dX6_turn_72 : decode cX6_turn 72 = .ok (.iconst 0, 1) := dk_3 (dk_at dksX6_turn_3 0 rfl rfl)
theorem dX6_turn_73 : decode cX6_turn 73 = .ok (.iadd, 1) := dk_96 (dk_at dksX6_turn_3 1 rfl rfl)
theorem dX6_turn_74 : decode cX6_turn 74 = .ok (.putfield 22, 3) := dk_181 0 22 (dk_at dksX6_turn_3 2 rfl rfl)
theorem dX6_turn_77 : decode cX6_turn 77 = .ok (.aload_n 0, 1) := dk_42 (dk_at dksX6_turn_3 5 rfl rfl)
theorem dX6_turn_78 : decode cX6_turn 78 = .ok (.invokevirtual 35, 3) := dk_182 0 35 (dk_at dksX6_turn_3 6 rfl rfl)
theorem dX6_turn_81 : decode cX6_turn 81 = .ok (.i2l, 1) := dk_133 (dk_at dksX6_turn_3 9 rfl rfl)
theorem dX6_turn_82 : decode cX6_turn 82 = .ok (.lconst 0, 1) := dk_9 (dk_at dksX6_turn_3 10 rfl rfl)
theorem dX6_turn_83 : decode cX6_turn 83 = .ok (.ldc2_w 36, 3) := dk_20 0 36 (dk_at dksX6_turn_3 11 rfl rfl)
theorem dX6_turn_86 : decode cX6_turn 86 = .ok (.invokestatic 38, 3) := dk_184 0 38 (dk_at dksX6_turn_3 14 rfl rfl)
theorem dX6_turn_89 : decode cX6_turn 89 = .ok (.ifCond .eq 37, 3) := dk_153 0 37 (dk_at dksX6_turn_3 17 rfl rfl)
theorem dX6_turn_92 : decode cX6_turn 92 = .ok (.aload_n 0, 1) := dk_42 (dk_at dksX6_turn_3 20 rfl rfl)
theorem dX6_turn_93 : decode cX6_turn 93 = .ok (.invokevirtual 42, 3) := dk_182 0 42 (dk_at dksX6_turn_3 21 rfl rfl)
theorem dX6_turn_96 : decode cX6_turn 96 = .ok (.i2l, 1) := dk_133 (dk_at dksX6_turn_4 0 rfl rfl)
theorem dX6_turn_97 : decode cX6_turn 97 = .ok (.lconst 0, 1) := dk_9 (dk_at dksX6_turn_4 1 rfl rfl)
theorem dX6_turn_98 : decode cX6_turn 98 = .ok (.ldc2_w 43, 3) := dk_20 0 43 (dk_at dksX6_turn_4 2 rfl rfl)
theorem dX6_turn_101 : decode cX6_turn 101 = .ok (.invokestatic 38, 3) := dk_184 0 38 (dk_at dksX6_turn_4 5 rfl rfl)
theorem dX6_turn_104 : decode cX6_turn 104 = .ok (.ifCond .eq 22, 3) := dk_153 0 22 (dk_at dksX6_turn_4 8 rfl rfl)
theorem dX6_turn_107 : decode cX6_turn 107 = .ok (.aload_n 0, 1) := dk_42 (dk_at dksX6_turn_4 11 rfl rfl)
theorem dX6_turn_108 : decode cX6_turn 108 = .ok (.invokevirtual 45, 3) := dk_182 0 45 (dk_at dksX6_turn_4 12 rfl rfl)
theorem dX6_turn_111 : decode cX6_turn 111 = .ok (.i2l, 1) := dk_133 (dk_at dksX6_turn_4 15 rfl rfl)
theorem dX6_turn_112 : decode cX6_turn 112 = .ok (.lconst 1, 1) := dk_10 (dk_at dksX6_turn_4 16 rfl rfl)
theorem dX6_turn_113 : decode cX6_turn 113 = .ok (.ldc2_w 46, 3) := dk_20 0 46 (dk_at dksX6_turn_4 17 rfl rfl)
theorem dX6_turn_116 : decode cX6_turn 116 = .ok (.invokestatic 38, 3) := dk_184 0 38 (dk_at dksX6_turn_4 20 rfl rfl)
theorem dX6_turn_119 : decode cX6_turn 119 = .ok (.ifCond .eq 7, 3) := dk_153 0 7 (dk_at dksX6_turn_5 0 rfl rfl)
theorem dX6_turn_122 : decode cX6_turn 122 = .ok (.iconst 1, 1) := dk_4 (dk_at dksX6_turn_5 3 rfl rfl)
theorem dX6_turn_123 : decode cX6_turn 123 = .ok (.goto 4, 3) := dk_167 0 4 (dk_at dksX6_turn_5 4 rfl rfl)
theorem dX6_turn_126 : decode cX6_turn 126 = .ok (.iconst 0, 1) := dk_3 (dk_at dksX6_turn_5 7 rfl rfl)
theorem dX6_turn_127 : decode cX6_turn 127 = .ok (.ireturn, 1) := dk_172 (dk_at dksX6_turn_5 8 rfl rfl)
theorem q61 : (Jvm.Cond.initialized "WaterGrounds$Turned") ∈ lw_all := lw_g (lw_at lw_m1 7 rfl) rfl
theorem q215 : (Jvm.Cond.instantiable "WaterGrounds$Turned" (5 : Nat)) ∈ lw_all := lw_g (lw_at lw_m1 161 rfl) rfl
theorem q217 : (Jvm.Cond.instanceMethod ({ cls := "WaterGrounds$Turned", name := "<init>", desc := "(LWaterGrounds;)V" } : Jvm.MethodName)) ∈ lw_all := lw_g (lw_at lw_m1 163 rfl) rfl
theorem q218 : (Jvm.Cond.code ({ cls := "WaterGrounds$Turned", name := "<init>", desc := "(LWaterGrounds;)V" } : Jvm.MethodName) prog_15_method_1_code (2 : Nat) (Option.none : Option Jvm.ClassFile.FieldType)) ∈ lw_all := lw_g (lw_at lw_m1 164 rfl) rfl
theorem q219 : (Jvm.Cond.methodLinkNest "WaterGrounds$Turned" (9 : Nat) ({ cls := "WaterGrounds$Brew", name := "<init>", desc := "(LWaterGrounds;)V" } : Jvm.MethodName) "WaterGrounds") ∈ lw_tbl := lw_at lw_m1 165 rfl
theorem q220 : (Jvm.Cond.fieldLink "WaterGrounds$Turned" (15 : Nat) "WaterGrounds$Turned" "steps" "I") ∈ lw_all := lw_g (lw_at lw_m1 166 rfl) rfl
theorem q221 : (Jvm.Cond.fieldLink "WaterGrounds$Turned" (19 : Nat) "WaterGrounds$Turned" "warmths" "I") ∈ lw_all := lw_g (lw_at lw_m1 167 rfl) rfl
theorem q222 : (Jvm.Cond.fieldLink "WaterGrounds$Turned" (22 : Nat) "WaterGrounds$Turned" "more" "I") ∈ lw_all := lw_g (lw_at lw_m1 168 rfl) rfl
theorem q223 : (Jvm.Cond.fieldLink "WaterGrounds$Turned" (3 : Nat) "WaterGrounds$Turned" "this$0" "LWaterGrounds;") ∈ lw_all := lw_g (lw_at lw_m1 169 rfl) rfl
theorem q224 : (Jvm.Cond.lays "WaterGrounds$Turned" "WaterGrounds$Turned" "steps" "I") ∈ lw_all := lw_g (lw_at lw_m1 170 rfl) rfl
theorem q225 : (Jvm.Cond.soleField "WaterGrounds$Turned" "steps") ∈ lw_all := lw_g (lw_at lw_m1 171 rfl) rfl
theorem q226 : (Jvm.Cond.lays "WaterGrounds$Turned" "WaterGrounds$Turned" "warmths" "I") ∈ lw_all := lw_g (lw_at lw_m1 172 rfl) rfl
theorem q227 : (Jvm.Cond.soleField "WaterGrounds$Turned" "warmths") ∈ lw_all := lw_g (lw_at lw_m1 173 rfl) rfl
theorem q228 : (Jvm.Cond.lays "WaterGrounds$Turned" "WaterGrounds$Turned" "more" "I") ∈ lw_all := lw_g (lw_at lw_m1 174 rfl) rfl
theorem q229 : (Jvm.Cond.soleField "WaterGrounds$Turned" "more") ∈ lw_all := lw_g (lw_at lw_m1 175 rfl) rfl
theorem q230 : (Jvm.Cond.laysFinal "WaterGrounds$Turned" "WaterGrounds$Turned" "this$0" "LWaterGrounds;") ∈ lw_all := lw_g (lw_at lw_m1 176 rfl) rfl
theorem q231 : (Jvm.Cond.soleField "WaterGrounds$Turned" "this$0") ∈ lw_all := lw_g (lw_at lw_m1 177 rfl) rfl
theorem q232 : (Jvm.Cond.laysFinal "WaterGrounds$Turned" "WaterGrounds$Brew" "this$0" "LWaterGrounds;") ∈ lw_all := lw_g (lw_at lw_m1 178 rfl) rfl
theorem q233 : (Jvm.Cond.superclass "WaterGrounds$Turned" "WaterGrounds$Brew") ∈ lw_all := lw_g (lw_at lw_m1 179 rfl) rfl
theorem q834 : (Jvm.Cond.selects "WaterGrounds$Turned" ({ cls := "WaterGrounds$Brew", name := "taste", desc := "()I" } : Jvm.MethodName) ({ cls := "WaterGrounds$Brew", name := "taste", desc := "()I" } : Jvm.MethodName)) ∈ lw_all := lw_g (lw_at lw_m4 60 rfl) rfl
theorem q841 : (Jvm.Cond.selects "WaterGrounds$Turned" ({ cls := "WaterGrounds$Brew", name := "run", desc := "()V" } : Jvm.MethodName) ({ cls := "WaterGrounds$Brew", name := "run", desc := "()V" } : Jvm.MethodName)) ∈ lw_all := lw_g (lw_at lw_m4 67 rfl) rfl
theorem q850 : (Jvm.Cond.selects "WaterGrounds$Turned" ({ cls := "WaterGrounds$Brew", name := "much", desc := "()I" } : Jvm.MethodName) ({ cls := "WaterGrounds$Turned", name := "much", desc := "()I" } : Jvm.MethodName)) ∈ lw_all := lw_g (lw_at lw_m4 76 rfl) rfl
theorem q851 : (Jvm.Cond.instanceMethod ({ cls := "WaterGrounds$Turned", name := "much", desc := "()I" } : Jvm.MethodName)) ∈ lw_all := lw_g (lw_at lw_m4 77 rfl) rfl
theorem q852 : (Jvm.Cond.code ({ cls := "WaterGrounds$Turned", name := "much", desc := "()I" } : Jvm.MethodName) prog_15_method_5_code (1 : Nat) (Option.some Jvm.ClassFile.FieldType.int)) ∈ lw_all := lw_g (lw_at lw_m4 78 rfl) rfl
theorem q853 : (Jvm.Cond.methodLink "WaterGrounds$Turned" (32 : Nat) ({ cls := "WaterGrounds$Brew", name := "much", desc := "()I" } : Jvm.MethodName)) ∈ lw_all := lw_g (lw_at lw_m4 79 rfl) rfl
theorem q863 : (Jvm.Cond.selects "WaterGrounds$Turned" ({ cls := "WaterGrounds$Brew", name := "step", desc := "()I" } : Jvm.MethodName) ({ cls := "WaterGrounds$Turned", name := "step", desc := "()I" } : Jvm.MethodName)) ∈ lw_all := lw_g (lw_at lw_m4 89 rfl) rfl
theorem q864 : (Jvm.Cond.instanceMethod ({ cls := "WaterGrounds$Turned", name := "step", desc := "()I" } : Jvm.MethodName)) ∈ lw_all := lw_g (lw_at lw_m4 90 rfl) rfl
theorem q865 : (Jvm.Cond.code ({ cls := "WaterGrounds$Turned", name := "step", desc := "()I" } : Jvm.MethodName) prog_15_method_3_code (1 : Nat) (Option.some Jvm.ClassFile.FieldType.int)) ∈ lw_all := lw_g (lw_at lw_m4 91 rfl) rfl
theorem q866 : (Jvm.Cond.methodLink "WaterGrounds$Turned" (25 : Nat) ({ cls := "WaterGrounds$Brew", name := "step", desc := "()I" } : Jvm.MethodName)) ∈ lw_all := lw_g (lw_at lw_m4 92 rfl) rfl
theorem q875 : (Jvm.Cond.selects "WaterGrounds$Turned" ({ cls := "WaterGrounds$Brew", name := "warmth", desc := "()I" } : Jvm.MethodName) ({ cls := "WaterGrounds$Turned", name := "warmth", desc := "()I" } : Jvm.MethodName)) ∈ lw_all := lw_g (lw_at lw_m4 101 rfl) rfl
theorem q876 : (Jvm.Cond.instanceMethod ({ cls := "WaterGrounds$Turned", name := "warmth", desc := "()I" } : Jvm.MethodName)) ∈ lw_all := lw_g (lw_at lw_m4 102 rfl) rfl
theorem q877 : (Jvm.Cond.code ({ cls := "WaterGrounds$Turned", name := "warmth", desc := "()I" } : Jvm.MethodName) prog_15_method_4_code (1 : Nat) (Option.some Jvm.ClassFile.FieldType.int)) ∈ lw_all := lw_g (lw_at lw_m4 103 rfl) rfl
theorem q878 : (Jvm.Cond.methodLink "WaterGrounds$Turned" (29 : Nat) ({ cls := "WaterGrounds$Brew", name := "warmth", desc := "()I" } : Jvm.MethodName)) ∈ lw_all := lw_g (lw_at lw_m4 104 rfl) rfl
theorem q890 : (Jvm.Cond.instanceMethod ({ cls := "WaterGrounds$Turned", name := "lay", desc := "()V" } : Jvm.MethodName)) ∈ lw_all := lw_g (lw_at lw_m4 116 rfl) rfl
theorem q891 : (Jvm.Cond.selects "WaterGrounds$Turned" ({ cls := "WaterGrounds$Turned", name := "lay", desc := "()V" } : Jvm.MethodName) ({ cls := "WaterGrounds$Turned", name := "lay", desc := "()V" } : Jvm.MethodName)) ∈ lw_all := lw_g (lw_at lw_m4 117 rfl) rfl
theorem q892 : (Jvm.Cond.code ({ cls := "WaterGrounds$Turned", name := "lay", desc := "()V" } : Jvm.MethodName) prog_15_method_2_code (1 : Nat) (Option.none : Option Jvm.ClassFile.FieldType)) ∈ lw_all := lw_g (lw_at lw_m4 118 rfl) rfl
theorem q894 : (Jvm.Cond.instanceMethod ({ cls := "WaterGrounds$Turned", name := "turn", desc := "(I)Z" } : Jvm.MethodName)) ∈ lw_all := lw_g (lw_at lw_m4 120 rfl) rfl
theorem q895 : (Jvm.Cond.selects "WaterGrounds$Turned" ({ cls := "WaterGrounds$Turned", name := "turn", desc := "(I)Z" } : Jvm.MethodName) ({ cls := "WaterGrounds$Turned", name := "turn", desc := "(I)Z" } : Jvm.MethodName)) ∈ lw_all := lw_g (lw_at lw_m4 121 rfl) rfl
theorem q896 : (Jvm.Cond.code ({ cls := "WaterGrounds$Turned", name := "turn", desc := "(I)Z" } : Jvm.MethodName) prog_15_method_6_code (3 : Nat) (Option.some Jvm.ClassFile.FieldType.boolean)) ∈ lw_all := lw_g (lw_at lw_m4 122 rfl) rfl
theorem q897 : (Jvm.Cond.methodLink "WaterGrounds$Turned" (35 : Nat) ({ cls := "WaterGrounds$Turned", name := "step", desc := "()I" } : Jvm.MethodName)) ∈ lw_all := lw_g (lw_at lw_m4 123 rfl) rfl
theorem q898 : (Jvm.Cond.constantLong "WaterGrounds$Turned" (36 : Nat) (10 : Int64)) ∈ lw_all := lw_g (lw_at lw_m4 124 rfl) rfl
theorem q899 : (Jvm.Cond.methodLinkNest "WaterGrounds$Turned" (38 : Nat) ({ cls := "WaterGrounds", name := "isIn", desc := "(JJJ)Z" } : Jvm.MethodName) "WaterGrounds") ∈ lw_tbl := lw_at lw_m4 125 rfl
theorem q900 : (Jvm.Cond.methodLink "WaterGrounds$Turned" (42 : Nat) ({ cls := "WaterGrounds$Turned", name := "warmth", desc := "()I" } : Jvm.MethodName)) ∈ lw_all := lw_g (lw_at lw_m4 126 rfl) rfl
theorem q901 : (Jvm.Cond.constantLong "WaterGrounds$Turned" (43 : Nat) (100 : Int64)) ∈ lw_all := lw_g (lw_at lw_m4 127 rfl) rfl
theorem q902 : (Jvm.Cond.methodLink "WaterGrounds$Turned" (45 : Nat) ({ cls := "WaterGrounds$Turned", name := "much", desc := "()I" } : Jvm.MethodName)) ∈ lw_all := lw_g (lw_at lw_m4 128 rfl) rfl
theorem q903 : (Jvm.Cond.constantLong "WaterGrounds$Turned" (46 : Nat) (20 : Int64)) ∈ lw_all := lw_g (lw_at lw_m4 129 rfl) rfl
theorem q905 : (Jvm.Cond.sameMethod "WaterGrounds$Turned" "WaterGrounds$Brew" "taste" "()I") ∈ lw_all := lw_g (lw_at lw_m4 131 rfl) rfl
theorem q907 : (Jvm.Cond.selects "WaterGrounds$Turned" ({ cls := "WaterGrounds$Turned", name := "taste", desc := "()I" } : Jvm.MethodName) ({ cls := "WaterGrounds$Brew", name := "taste", desc := "()I" } : Jvm.MethodName)) ∈ lw_all := lw_g (lw_at lw_m4 133 rfl) rfl
theorem q1354 : (Jvm.Cond.selects "WaterGrounds$Turned" ({ cls := "WaterGrounds$Turned", name := "step", desc := "()I" } : Jvm.MethodName) ({ cls := "WaterGrounds$Turned", name := "step", desc := "()I" } : Jvm.MethodName)) ∈ lw_all := lw_g (lw_at lw_m6 100 rfl) rfl
theorem q1355 : (Jvm.Cond.selects "WaterGrounds$Turned" ({ cls := "WaterGrounds$Turned", name := "warmth", desc := "()I" } : Jvm.MethodName) ({ cls := "WaterGrounds$Turned", name := "warmth", desc := "()I" } : Jvm.MethodName)) ∈ lw_all := lw_g (lw_at lw_m6 101 rfl) rfl
theorem q1356 : (Jvm.Cond.selects "WaterGrounds$Turned" ({ cls := "WaterGrounds$Turned", name := "much", desc := "()I" } : Jvm.MethodName) ({ cls := "WaterGrounds$Turned", name := "much", desc := "()I" } : Jvm.MethodName)) ∈ lw_all := lw_g (lw_at lw_m6 102 rfl) rfl
theorem in_X6 : ∀ w ∈ wsX60, w ∈ lw_all := lw_in wsX60 [232, 224, 226, 228, 230] (by decide +kernel) (by decide +kernel)
/-! WaterGrounds$Tried -/
set_option maxRecDepth 100000
def RX7 : String := "WaterGrounds$Tried"
def TX7 : u_T := fun k => match k with
  | 0 => ("WaterGrounds$Brew", "this$0", "LWaterGrounds;", true)
  | 1 => ("WaterGrounds$Tried", "step", "I", false)
  | 2 => ("WaterGrounds$Tried", "warmth", "I", false)
  | 3 => ("WaterGrounds$Tried", "much", "I", false)
  | _ => ("WaterGrounds$Tried", "this$0", "LWaterGrounds;", true)
def tyX7 : Nat → FieldType := fun k => match k with
  | 0 => .object "WaterGrounds"
  | 1 => .int
  | 2 => .int
  | 3 => .int
  | _ => .object "WaterGrounds"
abbrev wsX70 : List Cond := u_ws RX7 TX7 5
-- two fields of one name: no nmX7
theorem tyX7_ok : ∀ k, k < 5 → parseFieldDescriptor (TX7 k).2.2.1 = some (tyX7 k) := by decide +kernel
abbrev cX7_init : ByteArray := prog_14_method_1_code
def yX7_init : MethodName := ⟨RX7, "<init>", "(LWaterGrounds;)V"⟩
def dkwX7_init_0 : List UInt8 := [42, 43, 181, 0, 1, 42, 43, 183, 0, 7, 177]
abbrev dktX7_init_0 : List UInt8 := dkwX7_init_0 ++ []
theorem dksX7_init_0 : cX7_init.data.toList.drop 0 = dktX7_init_0 := by decide +kernel
theorem dX7_init_0 : decode cX7_init 0 = .ok (.aload_n 0, 1) := dk_42 (dk_at dksX7_init_0 0 rfl rfl)
theorem dX7_init_1 : decode cX7_init 1 = .ok (.aload_n 1, 1) := dk_43 (dk_at dksX7_init_0 1 rfl rfl)
theorem dX7_init_2 : decode cX7_init 2 = .ok (.putfield 1, 3) := dk_181 0 1 (dk_at dksX7_init_0 2 rfl rfl)
theorem dX7_init_5 : decode cX7_init 5 = .ok (.aload_n 0, 1) := dk_42 (dk_at dksX7_init_0 5 rfl rfl)
theorem dX7_init_6 : decode cX7_init 6 = .ok (.aload_n 1, 1) := dk_43 (dk_at dksX7_init_0 6 rfl rfl)
theorem dX7_init_7 : decode cX7_init 7 = .ok (.invokespecial 7, 3) := dk_183 0 7 (dk_at dksX7_init_0 7 rfl rfl)
theorem dX7_init_10 : decode cX7_init 10 = .ok (.return_, 1) := dk_177 (dk_at dksX7_init_0 10 rfl rfl)
abbrev cX7_much : ByteArray := prog_14_method_5_code
def yX7_much : MethodName := ⟨RX7, "much", "()I"⟩
theorem dX7_much_0 : decode cX7_much 0 = .ok (.aload_n 0, 1) := by decide +kernel
theorem dX7_much_1 : decode cX7_much 1 = .ok (.getfield 31, 3) := by decide +kernel
theorem dX7_much_4 : decode cX7_much 4 = .ok (.ireturn, 1) := by decide +kernel
abbrev cX7_step : ByteArray := prog_14_method_3_code
def yX7_step : MethodName := ⟨RX7, "step", "()I"⟩
theorem dX7_step_0 : decode cX7_step 0 = .ok (.aload_n 0, 1) := by decide +kernel
theorem dX7_step_1 : decode cX7_step 1 = .ok (.getfield 19, 3) := by decide +kernel
theorem dX7_step_4 : decode cX7_step 4 = .ok (.ireturn, 1) := by decide +kernel
abbrev cX7_warmth : ByteArray := prog_14_method_4_code
def yX7_warmth : MethodName := ⟨RX7, "warmth", "()I"⟩
theorem dX7_warmth_0 : decode cX7_warmth 0 = .ok (.aload_n 0, 1) := by decide +kernel
theorem dX7_warmth_1 : decode cX7_warmth 1 = .ok (.getfield 25, 3) := by decide +kernel
theorem dX7_warmth_4 : decode cX7_warmth 4 = .ok (.ireturn, 1) := by decide +kernel
abbrev cX7_lay : ByteArray := prog_14_method_2_code
def yX7_lay : MethodName := ⟨RX7, "lay", "()V"⟩
def dkwX7_lay_1 : List UInt8 := [180, 0, 1, 180, 0, 28, 181, 0, 31, 177]
abbrev dktX7_lay_1 : List UInt8 := dkwX7_lay_1 ++ []
def dkwX7_lay_0 : List UInt8 := [42, 42, 180, 0, 1, 180, 0, 13, 181, 0, 19, 42, 42, 180, 0, 1, 180, 0, 22, 181, 0, 25, 42, 42]
abbrev dktX7_lay_0 : List UInt8 := dkwX7_lay_0 ++ dktX7_lay_1
theorem dksX7_lay_0 : cX7_lay.data.toList.drop 0 = dktX7_lay_0 := by decide +kernel
theorem dksX7_lay_1 : cX7_lay.data.toList.drop 24 = dktX7_lay_1 := dk_seg dksX7_lay_0 24 rfl rfl
theorem dX7_lay_0 : decode cX7_lay 0 = .ok (.aload_n 0, 1) := dk_42 (dk_at dksX7_lay_0 0 rfl rfl)
theorem dX7_lay_1 : decode cX7_lay 1 = .ok (.aload_n 0, 1) := dk_42 (dk_at dksX7_lay_0 1 rfl rfl)
theorem dX7_lay_2 : decode cX7_lay 2 = .ok (.getfield 1, 3) := dk_180 0 1 (dk_at dksX7_lay_0 2 rfl rfl)
theorem dX7_lay_5 : decode cX7_lay 5 = .ok (.getfield 13, 3) := dk_180 0 13 (dk_at dksX7_lay_0 5 rfl rfl)
theorem dX7_lay_8 : decode cX7_lay 8 = .ok (.putfield 19, 3) := dk_181 0 19 (dk_at dksX7_lay_0 8 rfl rfl)
theorem dX7_lay_11 : decode cX7_lay 11 = .ok (.aload_n 0, 1) := dk_42 (dk_at dksX7_lay_0 11 rfl rfl)
theorem dX7_lay_12 : decode cX7_lay 12 = .ok (.aload_n 0, 1) := dk_42 (dk_at dksX7_lay_0 12 rfl rfl)
theorem dX7_lay_13 : decode cX7_lay 13 = .ok (.getfield 1, 3) := dk_180 0 1 (dk_at dksX7_lay_0 13 rfl rfl)
theorem dX7_lay_16 : decode cX7_lay 16 = .ok (.getfield 22, 3) := dk_180 0 22 (dk_at dksX7_lay_0 16 rfl rfl)
theorem dX7_lay_19 : decode cX7_lay 19 = .ok (.putfield 25, 3) := dk_181 0 25 (dk_at dksX7_lay_0 19 rfl rfl)
theorem dX7_lay_22 : decode cX7_lay 22 = .ok (.aload_n 0, 1) := dk_42 (dk_at dksX7_lay_0 22 rfl rfl)
theorem dX7_lay_23 : decode cX7_lay 23 = .ok (.aload_n 0, 1) := dk_42 (dk_at dksX7_lay_0 23 rfl rfl)
theorem dX7_lay_24 : decode cX7_lay 24 = .ok (.getfield 1, 3) := dk_180 0 1 (dk_at dksX7_lay_1 0 rfl rfl)
theorem dX7_lay_27 : decode cX7_lay 27 = .ok (.getfield 28, 3) := dk_180 0 28 (dk_at dksX7_lay_1 3 rfl rfl)
theorem dX7_lay_30 : decode cX7_lay 30 = .ok (.putfield 31, 3) := dk_181 0 31 (dk_at dksX7_lay_1 6 rfl rfl)
theorem dX7_lay_33 : decode cX7_lay 33 = .ok (.return_, 1) := dk_177 (dk_at dksX7_lay_1 9 rfl rfl)
theorem q62 : (Jvm.Cond.initialized "WaterGrounds$Tried") ∈ lw_all := lw_g (lw_at lw_m1 8 rfl) rfl
theorem q235 : (Jvm.Cond.instantiable "WaterGrounds$Tried" (5 : Nat)) ∈ lw_all := lw_g (lw_at lw_m1 181 rfl) rfl
theorem q237 : (Jvm.Cond.instanceMethod ({ cls := "WaterGrounds$Tried", name := "<init>", desc := "(LWaterGrounds;)V" } : Jvm.MethodName)) ∈ lw_all := lw_g (lw_at lw_m1 183 rfl) rfl
theorem q238 : (Jvm.Cond.code ({ cls := "WaterGrounds$Tried", name := "<init>", desc := "(LWaterGrounds;)V" } : Jvm.MethodName) prog_14_method_1_code (2 : Nat) (Option.none : Option Jvm.ClassFile.FieldType)) ∈ lw_all := lw_g (lw_at lw_m1 184 rfl) rfl
theorem q239 : (Jvm.Cond.methodLinkNest "WaterGrounds$Tried" (7 : Nat) ({ cls := "WaterGrounds$Brew", name := "<init>", desc := "(LWaterGrounds;)V" } : Jvm.MethodName) "WaterGrounds") ∈ lw_tbl := lw_at lw_m1 185 rfl
theorem q240 : (Jvm.Cond.fieldLink "WaterGrounds$Tried" (19 : Nat) "WaterGrounds$Tried" "step" "I") ∈ lw_all := lw_g (lw_at lw_m1 186 rfl) rfl
theorem q242 : (Jvm.Cond.fieldLink "WaterGrounds$Tried" (25 : Nat) "WaterGrounds$Tried" "warmth" "I") ∈ lw_all := lw_g (lw_at lw_m1 188 rfl) rfl
theorem q244 : (Jvm.Cond.fieldLink "WaterGrounds$Tried" (31 : Nat) "WaterGrounds$Tried" "much" "I") ∈ lw_all := lw_g (lw_at lw_m1 190 rfl) rfl
theorem q246 : (Jvm.Cond.fieldLink "WaterGrounds$Tried" (1 : Nat) "WaterGrounds$Tried" "this$0" "LWaterGrounds;") ∈ lw_all := lw_g (lw_at lw_m1 192 rfl) rfl
theorem q247 : (Jvm.Cond.lays "WaterGrounds$Tried" "WaterGrounds$Tried" "step" "I") ∈ lw_all := lw_g (lw_at lw_m1 193 rfl) rfl
theorem q248 : (Jvm.Cond.soleField "WaterGrounds$Tried" "step") ∈ lw_all := lw_g (lw_at lw_m1 194 rfl) rfl
theorem q249 : (Jvm.Cond.lays "WaterGrounds$Tried" "WaterGrounds$Tried" "warmth" "I") ∈ lw_all := lw_g (lw_at lw_m1 195 rfl) rfl
theorem q250 : (Jvm.Cond.soleField "WaterGrounds$Tried" "warmth") ∈ lw_all := lw_g (lw_at lw_m1 196 rfl) rfl
theorem q251 : (Jvm.Cond.lays "WaterGrounds$Tried" "WaterGrounds$Tried" "much" "I") ∈ lw_all := lw_g (lw_at lw_m1 197 rfl) rfl
theorem q252 : (Jvm.Cond.soleField "WaterGrounds$Tried" "much") ∈ lw_all := lw_g (lw_at lw_m1 198 rfl) rfl
theorem q253 : (Jvm.Cond.laysFinal "WaterGrounds$Tried" "WaterGrounds$Tried" "this$0" "LWaterGrounds;") ∈ lw_all := lw_g (lw_at lw_m1 199 rfl) rfl
theorem q254 : (Jvm.Cond.soleField "WaterGrounds$Tried" "this$0") ∈ lw_all := lw_g (lw_at lw_m1 200 rfl) rfl
theorem q255 : (Jvm.Cond.laysFinal "WaterGrounds$Tried" "WaterGrounds$Brew" "this$0" "LWaterGrounds;") ∈ lw_all := lw_g (lw_at lw_m1 201 rfl) rfl
theorem q256 : (Jvm.Cond.superclass "WaterGrounds$Tried" "WaterGrounds$Brew") ∈ lw_all := lw_g (lw_at lw_m1 202 rfl) rfl
theorem q293 : (Jvm.Cond.fieldLinkNest "WaterGrounds$Tried" (13 : Nat) "WaterGrounds" "mill" "I" "WaterGrounds") ∈ lw_tbl := lw_at lw_m1 239 rfl
theorem q296 : (Jvm.Cond.fieldLinkNest "WaterGrounds$Tried" (22 : Nat) "WaterGrounds" "warm" "I" "WaterGrounds") ∈ lw_tbl := lw_at lw_m2 2 rfl
theorem q300 : (Jvm.Cond.fieldLinkNest "WaterGrounds$Tried" (28 : Nat) "WaterGrounds" "grams" "I" "WaterGrounds") ∈ lw_tbl := lw_at lw_m2 6 rfl
theorem q833 : (Jvm.Cond.selects "WaterGrounds$Tried" ({ cls := "WaterGrounds$Brew", name := "taste", desc := "()I" } : Jvm.MethodName) ({ cls := "WaterGrounds$Brew", name := "taste", desc := "()I" } : Jvm.MethodName)) ∈ lw_all := lw_g (lw_at lw_m4 59 rfl) rfl
theorem q840 : (Jvm.Cond.selects "WaterGrounds$Tried" ({ cls := "WaterGrounds$Brew", name := "run", desc := "()V" } : Jvm.MethodName) ({ cls := "WaterGrounds$Brew", name := "run", desc := "()V" } : Jvm.MethodName)) ∈ lw_all := lw_g (lw_at lw_m4 66 rfl) rfl
theorem q847 : (Jvm.Cond.selects "WaterGrounds$Tried" ({ cls := "WaterGrounds$Brew", name := "much", desc := "()I" } : Jvm.MethodName) ({ cls := "WaterGrounds$Tried", name := "much", desc := "()I" } : Jvm.MethodName)) ∈ lw_all := lw_g (lw_at lw_m4 73 rfl) rfl
theorem q848 : (Jvm.Cond.instanceMethod ({ cls := "WaterGrounds$Tried", name := "much", desc := "()I" } : Jvm.MethodName)) ∈ lw_all := lw_g (lw_at lw_m4 74 rfl) rfl
theorem q849 : (Jvm.Cond.code ({ cls := "WaterGrounds$Tried", name := "much", desc := "()I" } : Jvm.MethodName) prog_14_method_5_code (1 : Nat) (Option.some Jvm.ClassFile.FieldType.int)) ∈ lw_all := lw_g (lw_at lw_m4 75 rfl) rfl
theorem q860 : (Jvm.Cond.selects "WaterGrounds$Tried" ({ cls := "WaterGrounds$Brew", name := "step", desc := "()I" } : Jvm.MethodName) ({ cls := "WaterGrounds$Tried", name := "step", desc := "()I" } : Jvm.MethodName)) ∈ lw_all := lw_g (lw_at lw_m4 86 rfl) rfl
theorem q861 : (Jvm.Cond.instanceMethod ({ cls := "WaterGrounds$Tried", name := "step", desc := "()I" } : Jvm.MethodName)) ∈ lw_all := lw_g (lw_at lw_m4 87 rfl) rfl
theorem q862 : (Jvm.Cond.code ({ cls := "WaterGrounds$Tried", name := "step", desc := "()I" } : Jvm.MethodName) prog_14_method_3_code (1 : Nat) (Option.some Jvm.ClassFile.FieldType.int)) ∈ lw_all := lw_g (lw_at lw_m4 88 rfl) rfl
theorem q872 : (Jvm.Cond.selects "WaterGrounds$Tried" ({ cls := "WaterGrounds$Brew", name := "warmth", desc := "()I" } : Jvm.MethodName) ({ cls := "WaterGrounds$Tried", name := "warmth", desc := "()I" } : Jvm.MethodName)) ∈ lw_all := lw_g (lw_at lw_m4 98 rfl) rfl
theorem q873 : (Jvm.Cond.instanceMethod ({ cls := "WaterGrounds$Tried", name := "warmth", desc := "()I" } : Jvm.MethodName)) ∈ lw_all := lw_g (lw_at lw_m4 99 rfl) rfl
theorem q874 : (Jvm.Cond.code ({ cls := "WaterGrounds$Tried", name := "warmth", desc := "()I" } : Jvm.MethodName) prog_14_method_4_code (1 : Nat) (Option.some Jvm.ClassFile.FieldType.int)) ∈ lw_all := lw_g (lw_at lw_m4 100 rfl) rfl
theorem q925 : (Jvm.Cond.instanceMethod ({ cls := "WaterGrounds$Tried", name := "lay", desc := "()V" } : Jvm.MethodName)) ∈ lw_all := lw_g (lw_at lw_m4 151 rfl) rfl
theorem q926 : (Jvm.Cond.selects "WaterGrounds$Tried" ({ cls := "WaterGrounds$Tried", name := "lay", desc := "()V" } : Jvm.MethodName) ({ cls := "WaterGrounds$Tried", name := "lay", desc := "()V" } : Jvm.MethodName)) ∈ lw_all := lw_g (lw_at lw_m4 152 rfl) rfl
theorem q927 : (Jvm.Cond.code ({ cls := "WaterGrounds$Tried", name := "lay", desc := "()V" } : Jvm.MethodName) prog_14_method_2_code (1 : Nat) (Option.none : Option Jvm.ClassFile.FieldType)) ∈ lw_all := lw_g (lw_at lw_m4 153 rfl) rfl
theorem q929 : (Jvm.Cond.sameMethod "WaterGrounds$Tried" "WaterGrounds$Brew" "taste" "()I") ∈ lw_all := lw_g (lw_at lw_m4 155 rfl) rfl
theorem q930 : (Jvm.Cond.selects "WaterGrounds$Tried" ({ cls := "WaterGrounds$Tried", name := "taste", desc := "()I" } : Jvm.MethodName) ({ cls := "WaterGrounds$Brew", name := "taste", desc := "()I" } : Jvm.MethodName)) ∈ lw_all := lw_g (lw_at lw_m4 156 rfl) rfl
theorem in_X7 : ∀ w ∈ wsX70, w ∈ lw_all := lw_in wsX70 [255, 247, 249, 251, 253] (by decide +kernel) (by decide +kernel)
