/-! CoinNotThereModel -/
set_option maxRecDepth 100000
def RX6 : String := "CoinNotThereModel"
def TX6 : u_T := fun k => match k with
  | 0 => ("CoinNotThereModel", "moves", "[I", true)
  | 1 => ("CoinNotThereModel", "slips", "[I", true)
  | 2 => ("CoinNotThereModel", "looks", "[I", true)
  | 3 => ("CoinNotThereModel", "names", "[I", true)
  | 4 => ("CoinNotThereModel", "jokes", "[I", true)
  | 5 => ("CoinNotThereModel", "stands", "I", false)
  | 6 => ("CoinNotThereModel", "laws", "[I", true)
  | 7 => ("CoinNotThereModel", "watchers", "I", false)
  | 8 => ("CoinNotThereModel", "parts", "[I", true)
  | 9 => ("CoinNotThereModel", "tape", "[I", true)
  | 10 => ("CoinNotThereModel", "taped", "I", false)
  | 11 => ("CoinNotThereModel", "at", "I", false)
  | 12 => ("CoinNotThereModel", "wrong", "Z", false)
  | 13 => ("CoinNotThereModel", "read", "[I", true)
  | 14 => ("CoinNotThereModel", "above", "J", false)
  | 15 => ("CoinNotThereModel", "below", "J", false)
  | 16 => ("CoinNotThereModel", "covers", "I", false)
  | 17 => ("CoinNotThereModel", "coverParts", "[I", true)
  | 18 => ("CoinNotThereModel", "kept", "[I", true)
  | 19 => ("CoinNotThereModel", "points", "I", false)
  | 20 => ("CoinNotThereModel", "pointBeat", "[I", true)
  | 21 => ("CoinNotThereModel", "pointPlace", "[I", true)
  | 22 => ("CoinNotThereModel", "image", "[I", true)
  | 23 => ("CoinNotThereModel", "isImage", "Z", false)
  | 24 => ("CoinNotThereModel", "lanes", "[I", true)
  | 25 => ("CoinNotThereModel", "sizes", "[I", true)
  | 26 => ("CoinNotThereModel", "items", "[I", true)
  | _ => ("CoinNotThereModel", "moved", "[I", true)
def tyX6 : Nat → FieldType := fun k => match k with
  | 0 => .array .int
  | 1 => .array .int
  | 2 => .array .int
  | 3 => .array .int
  | 4 => .array .int
  | 5 => .int
  | 6 => .array .int
  | 7 => .int
  | 8 => .array .int
  | 9 => .array .int
  | 10 => .int
  | 11 => .int
  | 12 => .boolean
  | 13 => .array .int
  | 14 => .long
  | 15 => .long
  | 16 => .int
  | 17 => .array .int
  | 18 => .array .int
  | 19 => .int
  | 20 => .array .int
  | 21 => .array .int
  | 22 => .array .int
  | 23 => .boolean
  | 24 => .array .int
  | 25 => .array .int
  | 26 => .array .int
  | _ => .array .int
abbrev wsX60 : List Cond := u_ws RX6 TX6 28
set_option maxRecDepth 100000 in
theorem nmX6 : ∀ a, a < 28 → ∀ b, b < 28 → a ≠ b → (TX6 a).2.1 ≠ (TX6 b).2.1 := by decide +kernel
set_option maxRecDepth 100000 in
theorem tyX6_ok : ∀ k, k < 28 → parseFieldDescriptor (TX6 k).2.2.1 = some (tyX6 k) := by decide +kernel
abbrev cX6_init : ByteArray := prog_11_method_3_code
def yX6_init : MethodName := ⟨RX6, "<init>", "()V"⟩
def dkwX6_init_9 : List UInt8 := [6, 79, 42, 180, 0, 25, 5, 6, 79, 42, 180, 0, 25, 6, 5, 79, 42, 180, 0, 25, 7, 5, 79, 177]
abbrev dktX6_init_9 : List UInt8 := dkwX6_init_9 ++ []
def dkwX6_init_8 : List UInt8 := [79, 132, 1, 1, 167, 255, 233, 42, 4, 181, 0, 64, 42, 180, 0, 25, 3, 7, 79, 42, 180, 0, 25, 4]
abbrev dktX6_init_8 : List UInt8 := dkwX6_init_8 ++ dktX6_init_9
def dkwX6_init_7 : List UInt8 := [167, 255, 241, 3, 60, 27, 16, 16, 162, 0, 23, 42, 180, 0, 16, 27, 2, 79, 42, 180, 0, 19, 27, 2]
abbrev dktX6_init_7 : List UInt8 := dkwX6_init_7 ++ dktX6_init_8
def dkwX6_init_6 : List UInt8 := [188, 10, 181, 0, 61, 3, 60, 27, 7, 162, 0, 16, 42, 180, 0, 52, 27, 2, 79, 132, 1, 1]
abbrev dktX6_init_6 : List UInt8 := dkwX6_init_6 ++ dktX6_init_7
def dkwX6_init_5 : List UInt8 := [188, 10, 181, 0, 52, 42, 7, 188, 10, 181, 0, 55, 42, 16, 64, 188, 10, 181, 0, 58, 42, 16, 16]
abbrev dktX6_init_5 : List UInt8 := dkwX6_init_5 ++ dktX6_init_6
def dkwX6_init_4 : List UInt8 := [188, 10, 181, 0, 43, 42, 16, 24, 188, 10, 181, 0, 46, 42, 17, 0, 200, 188, 10, 181, 0, 49, 42, 7]
abbrev dktX6_init_4 : List UInt8 := dkwX6_init_4 ++ dktX6_init_5
def dkwX6_init_3 : List UInt8 := [188, 10, 181, 0, 34, 42, 16, 32, 188, 10, 181, 0, 37, 42, 16, 64, 188, 10, 181, 0, 40, 42, 16, 24]
abbrev dktX6_init_3 : List UInt8 := dkwX6_init_3 ++ dktX6_init_4
def dkwX6_init_2 : List UInt8 := [188, 10, 181, 0, 25, 42, 16, 24, 188, 10, 181, 0, 28, 42, 16, 100, 188, 10, 181, 0, 31, 42, 16, 48]
abbrev dktX6_init_2 : List UInt8 := dkwX6_init_2 ++ dktX6_init_3
def dkwX6_init_1 : List UInt8 := [188, 10, 181, 0, 16, 42, 16, 16, 188, 10, 181, 0, 19, 42, 16, 16, 188, 10, 181, 0, 22, 42, 8]
abbrev dktX6_init_1 : List UInt8 := dkwX6_init_1 ++ dktX6_init_2
def dkwX6_init_0 : List UInt8 := [42, 183, 0, 1, 42, 16, 16, 188, 10, 181, 0, 7, 42, 16, 16, 188, 10, 181, 0, 13, 42, 16, 16]
abbrev dktX6_init_0 : List UInt8 := dkwX6_init_0 ++ dktX6_init_1
theorem dksX6_init_0 : cX6_init.data.toList.drop 0 = dktX6_init_0 := by decide +kernel
theorem dksX6_init_1 : cX6_init.data.toList.drop 23 = dktX6_init_1 := dk_seg dksX6_init_0 23 rfl rfl
theorem dksX6_init_2 : cX6_init.data.toList.drop 46 = dktX6_init_2 := dk_seg dksX6_init_1 23 rfl rfl
theorem dksX6_init_3 : cX6_init.data.toList.drop 70 = dktX6_init_3 := dk_seg dksX6_init_2 24 rfl rfl
theorem dksX6_init_4 : cX6_init.data.toList.drop 94 = dktX6_init_4 := dk_seg dksX6_init_3 24 rfl rfl
theorem dksX6_init_5 : cX6_init.data.toList.drop 118 = dktX6_init_5 := dk_seg dksX6_init_4 24 rfl rfl
theorem dksX6_init_6 : cX6_init.data.toList.drop 141 = dktX6_init_6 := dk_seg dksX6_init_5 23 rfl rfl
theorem dksX6_init_7 : cX6_init.data.toList.drop 163 = dktX6_init_7 := dk_seg dksX6_init_6 22 rfl rfl
theorem dksX6_init_8 : cX6_init.data.toList.drop 187 = dktX6_init_8 := dk_seg dksX6_init_7 24 rfl rfl
theorem dksX6_init_9 : cX6_init.data.toList.drop 211 = dktX6_init_9 := dk_seg dksX6_init_8 24 rfl rfl
theorem dX6_init_0 : decode cX6_init 0 = .ok (.aload_n 0, 1) := dk_42 (dk_at dksX6_init_0 0 rfl rfl)
theorem dX6_init_1 : decode cX6_init 1 = .ok (.invokespecial 1, 3) := dk_183 0 1 (dk_at dksX6_init_0 1 rfl rfl)
theorem dX6_init_4 : decode cX6_init 4 = .ok (.aload_n 0, 1) := dk_42 (dk_at dksX6_init_0 4 rfl rfl)
theorem dX6_init_5 : decode cX6_init 5 = .ok (.bipush 16, 2) := dk_16 16 (dk_at dksX6_init_0 5 rfl rfl)
theorem dX6_init_7 : decode cX6_init 7 = .ok (.newarray .int, 2) := dk_188_10 (dk_at dksX6_init_0 7 rfl rfl)
theorem dX6_init_9 : decode cX6_init 9 = .ok (.putfield 7, 3) := dk_181 0 7 (dk_at dksX6_init_0 9 rfl rfl)
theorem dX6_init_12 : decode cX6_init 12 = .ok (.aload_n 0, 1) := dk_42 (dk_at dksX6_init_0 12 rfl rfl)
theorem dX6_init_13 : decode cX6_init 13 = .ok (.bipush 16, 2) := dk_16 16 (dk_at dksX6_init_0 13 rfl rfl)
theorem dX6_init_15 : decode cX6_init 15 = .ok (.newarray .int, 2) := dk_188_10 (dk_at dksX6_init_0 15 rfl rfl)
theorem dX6_init_17 : decode cX6_init 17 = .ok (.putfield 13, 3) := dk_181 0 13 (dk_at dksX6_init_0 17 rfl rfl)
theorem dX6_init_20 : decode cX6_init 20 = .ok (.aload_n 0, 1) := dk_42 (dk_at dksX6_init_0 20 rfl rfl)
theorem dX6_init_21 : decode cX6_init 21 = .ok (.bipush 16, 2) := dk_16 16 (dk_at dksX6_init_0 21 rfl rfl)
theorem dX6_init_23 : decode cX6_init 23 = .ok (.newarray .int, 2) := dk_188_10 (dk_at dksX6_init_1 0 rfl rfl)
theorem dX6_init_25 : decode cX6_init 25 = .ok (.putfield 16, 3) := dk_181 0 16 (dk_at dksX6_init_1 2 rfl rfl)
theorem dX6_init_28 : decode cX6_init 28 = .ok (.aload_n 0, 1) := dk_42 (dk_at dksX6_init_1 5 rfl rfl)
theorem dX6_init_29 : decode cX6_init 29 = .ok (.bipush 16, 2) := dk_16 16 (dk_at dksX6_init_1 6 rfl rfl)
theorem dX6_init_31 : decode cX6_init 31 = .ok (.newarray .int, 2) := dk_188_10 (dk_at dksX6_init_1 8 rfl rfl)
theorem dX6_init_33 : decode cX6_init 33 = .ok (.putfield 19, 3) := dk_181 0 19 (dk_at dksX6_init_1 10 rfl rfl)
theorem dX6_init_36 : decode cX6_init 36 = .ok (.aload_n 0, 1) := dk_42 (dk_at dksX6_init_1 13 rfl rfl)
theorem dX6_init_37 : decode cX6_init 37 = .ok (.bipush 16, 2) := dk_16 16 (dk_at dksX6_init_1 14 rfl rfl)
theorem dX6_init_39 : decode cX6_init 39 = .ok (.newarray .int, 2) := dk_188_10 (dk_at dksX6_init_1 16 rfl rfl)
theorem dX6_init_41 : decode cX6_init 41 = .ok (.putfield 22, 3) := dk_181 0 22 (dk_at dksX6_init_1 18 rfl rfl)
theorem dX6_init_44 : decode cX6_init 44 = .ok (.aload_n 0, 1) := dk_42 (dk_at dksX6_init_1 21 rfl rfl)
theorem dX6_init_45 : decode cX6_init 45 = .ok (.iconst 5, 1) := dk_8 (dk_at dksX6_init_1 22 rfl rfl)
theorem dX6_init_46 : decode cX6_init 46 = .ok (.newarray .int, 2) := dk_188_10 (dk_at dksX6_init_2 0 rfl rfl)
theorem dX6_init_48 : decode cX6_init 48 = .ok (.putfield 25, 3) := dk_181 0 25 (dk_at dksX6_init_2 2 rfl rfl)
theorem dX6_init_51 : decode cX6_init 51 = .ok (.aload_n 0, 1) := dk_42 (dk_at dksX6_init_2 5 rfl rfl)
theorem dX6_init_52 : decode cX6_init 52 = .ok (.bipush 24, 2) := dk_16 24 (dk_at dksX6_init_2 6 rfl rfl)
theorem dX6_init_54 : decode cX6_init 54 = .ok (.newarray .int, 2) := dk_188_10 (dk_at dksX6_init_2 8 rfl rfl)
theorem dX6_init_56 : decode cX6_init 56 = .ok (.putfield 28, 3) := dk_181 0 28 (dk_at dksX6_init_2 10 rfl rfl)
theorem dX6_init_59 : decode cX6_init 59 = .ok (.aload_n 0, 1) := dk_42 (dk_at dksX6_init_2 13 rfl rfl)
theorem dX6_init_60 : decode cX6_init 60 = .ok (.bipush 100, 2) := dk_16 100 (dk_at dksX6_init_2 14 rfl rfl)
theorem dX6_init_62 : decode cX6_init 62 = .ok (.newarray .int, 2) := dk_188_10 (dk_at dksX6_init_2 16 rfl rfl)
theorem dX6_init_64 : decode cX6_init 64 = .ok (.putfield 31, 3) := dk_181 0 31 (dk_at dksX6_init_2 18 rfl rfl)
theorem dX6_init_67 : decode cX6_init 67 = .ok (.aload_n 0, 1) := dk_42 (dk_at dksX6_init_2 21 rfl rfl)
theorem dX6_init_68 : decode cX6_init 68 = .ok (.bipush 48, 2) := dk_16 48 (dk_at dksX6_init_2 22 rfl rfl)
theorem dX6_init_70 : decode cX6_init 70 = .ok (.newarray .int, 2) := dk_188_10 (dk_at dksX6_init_3 0 rfl rfl)
theorem dX6_init_72 : decode cX6_init 72 = .ok (.putfield 34, 3) := dk_181 0 34 (dk_at dksX6_init_3 2 rfl rfl)
theorem dX6_init_75 : decode cX6_init 75 = .ok (.aload_n 0, 1) := dk_42 (dk_at dksX6_init_3 5 rfl rfl)
theorem dX6_init_76 : decode cX6_init 76 = .ok (.bipush 32, 2) := dk_16 32 (dk_at dksX6_init_3 6 rfl rfl)
theorem dX6_init_78 : decode cX6_init 78 = .ok (.newarray .int, 2) := dk_188_10 (dk_at dksX6_init_3 8 rfl rfl)
theorem dX6_init_80 : decode cX6_init 80 = .ok (.putfield 37, 3) := dk_181 0 37 (dk_at dksX6_init_3 10 rfl rfl)
theorem dX6_init_83 : decode cX6_init 83 = .ok (.aload_n 0, 1) := dk_42 (dk_at dksX6_init_3 13 rfl rfl)
theorem dX6_init_84 : decode cX6_init 84 = .ok (.bipush 64, 2) := dk_16 64 (dk_at dksX6_init_3 14 rfl rfl)
theorem dX6_init_86 : decode cX6_init 86 = .ok (.newarray .int, 2) := dk_188_10 (dk_at dksX6_init_3 16 rfl rfl)
theorem dX6_init_88 : decode cX6_init 88 = .ok (.putfield 40, 3) := dk_181 0 40 (dk_at dksX6_init_3 18 rfl rfl)
theorem dX6_init_91 : decode cX6_init 91 = .ok (.aload_n 0, 1) := dk_42 (dk_at dksX6_init_3 21 rfl rfl)
theorem dX6_init_92 : decode cX6_init 92 = .ok (.bipush 24, 2) := dk_16 24 (dk_at dksX6_init_3 22 rfl rfl)
theorem dX6_init_94 : decode cX6_init 94 = .ok (.newarray .int, 2) := dk_188_10 (dk_at dksX6_init_4 0 rfl rfl)
theorem dX6_init_96 : decode cX6_init 96 = .ok (.putfield 43, 3) := dk_181 0 43 (dk_at dksX6_init_4 2 rfl rfl)
theorem dX6_init_99 : decode cX6_init 99 = .ok (.aload_n 0, 1) := dk_42 (dk_at dksX6_init_4 5 rfl rfl)
theorem dX6_init_100 : decode cX6_init 100 = .ok (.bipush 24, 2) := dk_16 24 (dk_at dksX6_init_4 6 rfl rfl)
theorem dX6_init_102 : decode cX6_init 102 = .ok (.newarray .int, 2) := dk_188_10 (dk_at dksX6_init_4 8 rfl rfl)
theorem dX6_init_104 : decode cX6_init 104 = .ok (.putfield 46, 3) := dk_181 0 46 (dk_at dksX6_init_4 10 rfl rfl)
theorem dX6_init_107 : decode cX6_init 107 = .ok (.aload_n 0, 1) := dk_42 (dk_at dksX6_init_4 13 rfl rfl)
theorem dX6_init_108 : decode cX6_init 108 = .ok (.sipush 200, 3) := dk_17 0 200 (dk_at dksX6_init_4 14 rfl rfl)
theorem dX6_init_111 : decode cX6_init 111 = .ok (.newarray .int, 2) := dk_188_10 (dk_at dksX6_init_4 17 rfl rfl)
theorem dX6_init_113 : decode cX6_init 113 = .ok (.putfield 49, 3) := dk_181 0 49 (dk_at dksX6_init_4 19 rfl rfl)
theorem dX6_init_116 : decode cX6_init 116 = .ok (.aload_n 0, 1) := dk_42 (dk_at dksX6_init_4 22 rfl rfl)
theorem dX6_init_117 : decode cX6_init 117 = .ok (.iconst 4, 1) := dk_7 (dk_at dksX6_init_4 23 rfl rfl)
theorem dX6_init_118 : decode cX6_init 118 = .ok (.newarray .int, 2) := dk_188_10 (dk_at dksX6_init_5 0 rfl rfl)
theorem dX6_init_120 : decode cX6_init 120 = .ok (.putfield 52, 3) := dk_181 0 52 (dk_at dksX6_init_5 2 rfl rfl)
theorem dX6_init_123 : decode cX6_init 123 = .ok (.aload_n 0, 1) := dk_42 (dk_at dksX6_init_5 5 rfl rfl)
theorem dX6_init_124 : decode cX6_init 124 = .ok (.iconst 4, 1) := dk_7 (dk_at dksX6_init_5 6 rfl rfl)
theorem dX6_init_125 : decode cX6_init 125 = .ok (.newarray .int, 2) := dk_188_10 (dk_at dksX6_init_5 7 rfl rfl)
theorem dX6_init_127 : decode cX6_init 127 = .ok (.putfield 55, 3) := dk_181 0 55 (dk_at dksX6_init_5 9 rfl rfl)
theorem dX6_init_130 : decode cX6_init 130 = .ok (.aload_n 0, 1) := dk_42 (dk_at dksX6_init_5 12 rfl rfl)
theorem dX6_init_131 : decode cX6_init 131 = .ok (.bipush 64, 2) := dk_16 64 (dk_at dksX6_init_5 13 rfl rfl)
theorem dX6_init_133 : decode cX6_init 133 = .ok (.newarray .int, 2) := dk_188_10 (dk_at dksX6_init_5 15 rfl rfl)
theorem dX6_init_135 : decode cX6_init 135 = .ok (.putfield 58, 3) := dk_181 0 58 (dk_at dksX6_init_5 17 rfl rfl)
theorem dX6_init_138 : decode cX6_init 138 = .ok (.aload_n 0, 1) := dk_42 (dk_at dksX6_init_5 20 rfl rfl)
theorem dX6_init_139 : decode cX6_init 139 = .ok (.bipush 16, 2) := dk_16 16 (dk_at dksX6_init_5 21 rfl rfl)
theorem dX6_init_141 : decode cX6_init 141 = .ok (.newarray .int, 2) := dk_188_10 (dk_at dksX6_init_6 0 rfl rfl)
theorem dX6_init_143 : decode cX6_init 143 = .ok (.putfield 61, 3) := dk_181 0 61 (dk_at dksX6_init_6 2 rfl rfl)
theorem dX6_init_146 : decode cX6_init 146 = .ok (.iconst 0, 1) := dk_3 (dk_at dksX6_init_6 5 rfl rfl)
theorem dX6_init_147 : decode cX6_init 147 = .ok (.istore_n 1, 1) := dk_60 (dk_at dksX6_init_6 6 rfl rfl)
theorem dX6_init_148 : decode cX6_init 148 = .ok (.iload_n 1, 1) := dk_27 (dk_at dksX6_init_6 7 rfl rfl)
theorem dX6_init_149 : decode cX6_init 149 = .ok (.iconst 4, 1) := dk_7 (dk_at dksX6_init_6 8 rfl rfl)
theorem dX6_init_150 : decode cX6_init 150 = .ok (.if_icmp .ge 16, 3) := dk_162 0 16 (dk_at dksX6_init_6 9 rfl rfl)
theorem dX6_init_153 : decode cX6_init 153 = .ok (.aload_n 0, 1) := dk_42 (dk_at dksX6_init_6 12 rfl rfl)
theorem dX6_init_154 : decode cX6_init 154 = .ok (.getfield 52, 3) := dk_180 0 52 (dk_at dksX6_init_6 13 rfl rfl)
theorem dX6_init_157 : decode cX6_init 157 = .ok (.iload_n 1, 1) := dk_27 (dk_at dksX6_init_6 16 rfl rfl)
theorem dX6_init_158 : decode cX6_init 158 = .ok (.iconst (-1), 1) := dk_2 (dk_at dksX6_init_6 17 rfl rfl)
theorem dX6_init_159 : decode cX6_init 159 = .ok (.iastore, 1) := dk_79 (dk_at dksX6_init_6 18 rfl rfl)
theorem dX6_init_160 : decode cX6_init 160 = .ok (.iinc 1 1, 3) := dk_132 1 1 (dk_at dksX6_init_6 19 rfl rfl)
theorem dX6_init_163 : decode cX6_init 163 = .ok (.goto (-15), 3) := dk_167 255 241 (dk_at dksX6_init_7 0 rfl rfl)
theorem dX6_init_166 : decode cX6_init 166 = .ok (.iconst 0, 1) := dk_3 (dk_at dksX6_init_7 3 rfl rfl)
theorem dX6_init_167 : decode cX6_init 167 = .ok (.istore_n 1, 1) := dk_60 (dk_at dksX6_init_7 4 rfl rfl)
theorem dX6_init_168 : decode cX6_init 168 = .ok (.iload_n 1, 1) := dk_27 (dk_at dksX6_init_7 5 rfl rfl)
theorem dX6_init_169 : decode cX6_init 169 = .ok (.bipush 16, 2) := dk_16 16 (dk_at dksX6_init_7 6 rfl rfl)
theorem dX6_init_171 : decode cX6_init 171 = .ok (.if_icmp .ge 23, 3) := dk_162 0 23 (dk_at dksX6_init_7 8 rfl rfl)
theorem dX6_init_174 : decode cX6_init 174 = .ok (.aload_n 0, 1) := dk_42 (dk_at dksX6_init_7 11 rfl rfl)
theorem dX6_init_175 : decode cX6_init 175 = .ok (.getfield 16, 3) := dk_180 0 16 (dk_at dksX6_init_7 12 rfl rfl)
theorem dX6_init_178 : decode cX6_init 178 = .ok (.iload_n 1, 1) := dk_27 (dk_at dksX6_init_7 15 rfl rfl)
theorem dX6_init_179 : decode cX6_init 179 = .ok (.iconst (-1), 1) := dk_2 (dk_at dksX6_init_7 16 rfl rfl)
theorem dX6_init_180 : decode cX6_init 180 = .ok (.iastore, 1) := dk_79 (dk_at dksX6_init_7 17 rfl rfl)
theorem dX6_init_181 : decode cX6_init 181 = .ok (.aload_n 0, 1) := dk_42 (dk_at dksX6_init_7 18 rfl rfl)
theorem dX6_init_182 : decode cX6_init 182 = .ok (.getfield 19, 3) := dk_180 0 19 (dk_at dksX6_init_7 19 rfl rfl)
theorem dX6_init_185 : decode cX6_init 185 = .ok (.iload_n 1, 1) := dk_27 (dk_at dksX6_init_7 22 rfl rfl)
theorem dX6_init_186 : decode cX6_init 186 = .ok (.iconst (-1), 1) := dk_2 (dk_at dksX6_init_7 23 rfl rfl)
theorem dX6_init_187 : decode cX6_init 187 = .ok (.iastore, 1) := dk_79 (dk_at dksX6_init_8 0 rfl rfl)
theorem dX6_init_188 : decode cX6_init 188 = .ok (.iinc 1 1, 3) := dk_132 1 1 (dk_at dksX6_init_8 1 rfl rfl)
theorem dX6_init_191 : decode cX6_init 191 = .ok (.goto (-23), 3) := dk_167 255 233 (dk_at dksX6_init_8 4 rfl rfl)
theorem dX6_init_194 : decode cX6_init 194 = .ok (.aload_n 0, 1) := dk_42 (dk_at dksX6_init_8 7 rfl rfl)
theorem dX6_init_195 : decode cX6_init 195 = .ok (.iconst 1, 1) := dk_4 (dk_at dksX6_init_8 8 rfl rfl)
theorem dX6_init_196 : decode cX6_init 196 = .ok (.putfield 64, 3) := dk_181 0 64 (dk_at dksX6_init_8 9 rfl rfl)
theorem dX6_init_199 : decode cX6_init 199 = .ok (.aload_n 0, 1) := dk_42 (dk_at dksX6_init_8 12 rfl rfl)
theorem dX6_init_200 : decode cX6_init 200 = .ok (.getfield 25, 3) := dk_180 0 25 (dk_at dksX6_init_8 13 rfl rfl)
theorem dX6_init_203 : decode cX6_init 203 = .ok (.iconst 0, 1) := dk_3 (dk_at dksX6_init_8 16 rfl rfl)
theorem dX6_init_204 : decode cX6_init 204 = .ok (.iconst 4, 1) := dk_7 (dk_at dksX6_init_8 17 rfl rfl)
theorem dX6_init_205 : decode cX6_init 205 = .ok (.iastore, 1) := dk_79 (dk_at dksX6_init_8 18 rfl rfl)
theorem dX6_init_206 : decode cX6_init 206 = .ok (.aload_n 0, 1) := dk_42 (dk_at dksX6_init_8 19 rfl rfl)
theorem dX6_init_207 : decode cX6_init 207 = .ok (.getfield 25, 3) := dk_180 0 25 (dk_at dksX6_init_8 20 rfl rfl)
theorem dX6_init_210 : decode cX6_init 210 = .ok (.iconst 1, 1) := dk_4 (dk_at dksX6_init_8 23 rfl rfl)
theorem dX6_init_211 : decode cX6_init 211 = .ok (.iconst 3, 1) := dk_6 (dk_at dksX6_init_9 0 rfl rfl)
theorem dX6_init_212 : decode cX6_init 212 = .ok (.iastore, 1) := dk_79 (dk_at dksX6_init_9 1 rfl rfl)
theorem dX6_init_213 : decode cX6_init 213 = .ok (.aload_n 0, 1) := dk_42 (dk_at dksX6_init_9 2 rfl rfl)
theorem dX6_init_214 : decode cX6_init 214 = .ok (.getfield 25, 3) := dk_180 0 25 (dk_at dksX6_init_9 3 rfl rfl)
theorem dX6_init_217 : decode cX6_init 217 = .ok (.iconst 2, 1) := dk_5 (dk_at dksX6_init_9 6 rfl rfl)
theorem dX6_init_218 : decode cX6_init 218 = .ok (.iconst 3, 1) := dk_6 (dk_at dksX6_init_9 7 rfl rfl)
theorem dX6_init_219 : decode cX6_init 219 = .ok (.iastore, 1) := dk_79 (dk_at dksX6_init_9 8 rfl rfl)
theorem dX6_init_220 : decode cX6_init 220 = .ok (.aload_n 0, 1) := dk_42 (dk_at dksX6_init_9 9 rfl rfl)
theorem dX6_init_221 : decode cX6_init 221 = .ok (.getfield 25, 3) := dk_180 0 25 (dk_at dksX6_init_9 10 rfl rfl)
theorem dX6_init_224 : decode cX6_init 224 = .ok (.iconst 3, 1) := dk_6 (dk_at dksX6_init_9 13 rfl rfl)
theorem dX6_init_225 : decode cX6_init 225 = .ok (.iconst 2, 1) := dk_5 (dk_at dksX6_init_9 14 rfl rfl)
theorem dX6_init_226 : decode cX6_init 226 = .ok (.iastore, 1) := dk_79 (dk_at dksX6_init_9 15 rfl rfl)
theorem dX6_init_227 : decode cX6_init 227 = .ok (.aload_n 0, 1) := dk_42 (dk_at dksX6_init_9 16 rfl rfl)
theorem dX6_init_228 : decode cX6_init 228 = .ok (.getfield 25, 3) := dk_180 0 25 (dk_at dksX6_init_9 17 rfl rfl)
theorem dX6_init_231 : decode cX6_init 231 = .ok (.iconst 4, 1) := dk_7 (dk_at dksX6_init_9 20 rfl rfl)
theorem dX6_init_232 : decode cX6_init 232 = .ok (.iconst 2, 1) := dk_5 (dk_at dksX6_init_9 21 rfl rfl)
theorem dX6_init_233 : decode cX6_init 233 = .ok (.iastore, 1) := dk_79 (dk_at dksX6_init_9 22 rfl rfl)
theorem dX6_init_234 : decode cX6_init 234 = .ok (.return_, 1) := dk_177 (dk_at dksX6_init_9 23 rfl rfl)
abbrev cX6_act : ByteArray := prog_11_method_7_code
def yX6_act : MethodName := ⟨RX6, "act", "(IIII)I"⟩
def dkwX6_act_4 : List UInt8 := [180, 0, 13, 27, 21, 5, 79, 21, 6, 172]
abbrev dktX6_act_4 : List UInt8 := dkwX6_act_4 ++ []
def dkwX6_act_3 : List UInt8 := [180, 0, 13, 27, 46, 54, 6, 28, 154, 0, 14, 42, 180, 0, 7, 27, 21, 5, 79, 167, 0, 11, 42]
abbrev dktX6_act_3 : List UInt8 := dkwX6_act_3 ++ dktX6_act_4
def dkwX6_act_2 : List UInt8 := [16, 10, 29, 104, 21, 4, 96, 54, 5, 28, 154, 0, 12, 42, 180, 0, 7, 27, 46, 167, 0, 9, 42]
abbrev dktX6_act_2 : List UInt8 := dkwX6_act_2 ++ dktX6_act_3
def dkwX6_act_1 : List UInt8 := [21, 4, 133, 9, 20, 0, 86, 184, 0, 70, 154, 0, 5, 2, 172, 21, 4, 154, 0, 7, 3, 167, 0, 10]
abbrev dktX6_act_1 : List UInt8 := dkwX6_act_1 ++ dktX6_act_2
def dkwX6_act_0 : List UInt8 := [27, 184, 0, 79, 153, 0, 33, 28, 133, 9, 10, 184, 0, 70, 153, 0, 23, 29, 184, 0, 83, 153, 0, 16]
abbrev dktX6_act_0 : List UInt8 := dkwX6_act_0 ++ dktX6_act_1
theorem dksX6_act_0 : cX6_act.data.toList.drop 0 = dktX6_act_0 := by decide +kernel
theorem dksX6_act_1 : cX6_act.data.toList.drop 24 = dktX6_act_1 := dk_seg dksX6_act_0 24 rfl rfl
theorem dksX6_act_2 : cX6_act.data.toList.drop 48 = dktX6_act_2 := dk_seg dksX6_act_1 24 rfl rfl
theorem dksX6_act_3 : cX6_act.data.toList.drop 71 = dktX6_act_3 := dk_seg dksX6_act_2 23 rfl rfl
theorem dksX6_act_4 : cX6_act.data.toList.drop 94 = dktX6_act_4 := dk_seg dksX6_act_3 23 rfl rfl
theorem dX6_act_0 : decode cX6_act 0 = .ok (.iload_n 1, 1) := dk_27 (dk_at dksX6_act_0 0 rfl rfl)
theorem dX6_act_1 : decode cX6_act 1 = .ok (.invokestatic 79, 3) := dk_184 0 79 (dk_at dksX6_act_0 1 rfl rfl)
theorem dX6_act_4 : decode cX6_act 4 = .ok (.ifCond .eq 33, 3) := dk_153 0 33 (dk_at dksX6_act_0 4 rfl rfl)
theorem dX6_act_7 : decode cX6_act 7 = .ok (.iload_n 2, 1) := dk_28 (dk_at dksX6_act_0 7 rfl rfl)
theorem dX6_act_8 : decode cX6_act 8 = .ok (.i2l, 1) := dk_133 (dk_at dksX6_act_0 8 rfl rfl)
theorem dX6_act_9 : decode cX6_act 9 = .ok (.lconst 0, 1) := dk_9 (dk_at dksX6_act_0 9 rfl rfl)
theorem dX6_act_10 : decode cX6_act 10 = .ok (.lconst 1, 1) := dk_10 (dk_at dksX6_act_0 10 rfl rfl)
theorem dX6_act_11 : decode cX6_act 11 = .ok (.invokestatic 70, 3) := dk_184 0 70 (dk_at dksX6_act_0 11 rfl rfl)
theorem dX6_act_14 : decode cX6_act 14 = .ok (.ifCond .eq 23, 3) := dk_153 0 23 (dk_at dksX6_act_0 14 rfl rfl)
theorem dX6_act_17 : decode cX6_act 17 = .ok (.iload_n 3, 1) := dk_29 (dk_at dksX6_act_0 17 rfl rfl)
theorem dX6_act_18 : decode cX6_act 18 = .ok (.invokestatic 83, 3) := dk_184 0 83 (dk_at dksX6_act_0 18 rfl rfl)
theorem dX6_act_21 : decode cX6_act 21 = .ok (.ifCond .eq 16, 3) := dk_153 0 16 (dk_at dksX6_act_0 21 rfl rfl)
theorem dX6_act_24 : decode cX6_act 24 = .ok (.iload 4, 2) := dk_21 4 (dk_at dksX6_act_1 0 rfl rfl)
theorem dX6_act_26 : decode cX6_act 26 = .ok (.i2l, 1) := dk_133 (dk_at dksX6_act_1 2 rfl rfl)
theorem dX6_act_27 : decode cX6_act 27 = .ok (.lconst 0, 1) := dk_9 (dk_at dksX6_act_1 3 rfl rfl)
theorem dX6_act_28 : decode cX6_act 28 = .ok (.ldc2_w 86, 3) := dk_20 0 86 (dk_at dksX6_act_1 4 rfl rfl)
theorem dX6_act_31 : decode cX6_act 31 = .ok (.invokestatic 70, 3) := dk_184 0 70 (dk_at dksX6_act_1 7 rfl rfl)
theorem dX6_act_34 : decode cX6_act 34 = .ok (.ifCond .ne 5, 3) := dk_154 0 5 (dk_at dksX6_act_1 10 rfl rfl)
theorem dX6_act_37 : decode cX6_act 37 = .ok (.iconst (-1), 1) := dk_2 (dk_at dksX6_act_1 13 rfl rfl)
theorem dX6_act_38 : decode cX6_act 38 = .ok (.ireturn, 1) := dk_172 (dk_at dksX6_act_1 14 rfl rfl)
theorem dX6_act_39 : decode cX6_act 39 = .ok (.iload 4, 2) := dk_21 4 (dk_at dksX6_act_1 15 rfl rfl)
theorem dX6_act_41 : decode cX6_act 41 = .ok (.ifCond .ne 7, 3) := dk_154 0 7 (dk_at dksX6_act_1 17 rfl rfl)
theorem dX6_act_44 : decode cX6_act 44 = .ok (.iconst 0, 1) := dk_3 (dk_at dksX6_act_1 20 rfl rfl)
theorem dX6_act_45 : decode cX6_act 45 = .ok (.goto 10, 3) := dk_167 0 10 (dk_at dksX6_act_1 21 rfl rfl)
theorem dX6_act_48 : decode cX6_act 48 = .ok (.bipush 10, 2) := dk_16 10 (dk_at dksX6_act_2 0 rfl rfl)
theorem dX6_act_50 : decode cX6_act 50 = .ok (.iload_n 3, 1) := dk_29 (dk_at dksX6_act_2 2 rfl rfl)
theorem dX6_act_51 : decode cX6_act 51 = .ok (.imul, 1) := dk_104 (dk_at dksX6_act_2 3 rfl rfl)
theorem dX6_act_52 : decode cX6_act 52 = .ok (.iload 4, 2) := dk_21 4 (dk_at dksX6_act_2 4 rfl rfl)
theorem dX6_act_54 : decode cX6_act 54 = .ok (.iadd, 1) := dk_96 (dk_at dksX6_act_2 6 rfl rfl)
theorem dX6_act_55 : decode cX6_act 55 = .ok (.istore 5, 2) := dk_54 5 (dk_at dksX6_act_2 7 rfl rfl)
theorem dX6_act_57 : decode cX6_act 57 = .ok (.iload_n 2, 1) := dk_28 (dk_at dksX6_act_2 9 rfl rfl)
theorem dX6_act_58 : decode cX6_act 58 = .ok (.ifCond .ne 12, 3) := dk_154 0 12 (dk_at dksX6_act_2 10 rfl rfl)
theorem dX6_act_61 : decode cX6_act 61 = .ok (.aload_n 0, 1) := dk_42 (dk_at dksX6_act_2 13 rfl rfl)
theorem dX6_act_62 : decode cX6_act 62 = .ok (.getfield 7, 3) := dk_180 0 7 (dk_at dksX6_act_2 14 rfl rfl)
theorem dX6_act_65 : decode cX6_act 65 = .ok (.iload_n 1, 1) := dk_27 (dk_at dksX6_act_2 17 rfl rfl)
theorem dX6_act_66 : decode cX6_act 66 = .ok (.iaload, 1) := dk_46 (dk_at dksX6_act_2 18 rfl rfl)
theorem dX6_act_67 : decode cX6_act 67 = .ok (.goto 9, 3) := dk_167 0 9 (dk_at dksX6_act_2 19 rfl rfl)
theorem dX6_act_70 : decode cX6_act 70 = .ok (.aload_n 0, 1) := dk_42 (dk_at dksX6_act_2 22 rfl rfl)
theorem dX6_act_71 : decode cX6_act 71 = .ok (.getfield 13, 3) := dk_180 0 13 (dk_at dksX6_act_3 0 rfl rfl)
theorem dX6_act_74 : decode cX6_act 74 = .ok (.iload_n 1, 1) := dk_27 (dk_at dksX6_act_3 3 rfl rfl)
theorem dX6_act_75 : decode cX6_act 75 = .ok (.iaload, 1) := dk_46 (dk_at dksX6_act_3 4 rfl rfl)
theorem dX6_act_76 : decode cX6_act 76 = .ok (.istore 6, 2) := dk_54 6 (dk_at dksX6_act_3 5 rfl rfl)
theorem dX6_act_78 : decode cX6_act 78 = .ok (.iload_n 2, 1) := dk_28 (dk_at dksX6_act_3 7 rfl rfl)
theorem dX6_act_79 : decode cX6_act 79 = .ok (.ifCond .ne 14, 3) := dk_154 0 14 (dk_at dksX6_act_3 8 rfl rfl)
theorem dX6_act_82 : decode cX6_act 82 = .ok (.aload_n 0, 1) := dk_42 (dk_at dksX6_act_3 11 rfl rfl)
theorem dX6_act_83 : decode cX6_act 83 = .ok (.getfield 7, 3) := dk_180 0 7 (dk_at dksX6_act_3 12 rfl rfl)
theorem dX6_act_86 : decode cX6_act 86 = .ok (.iload_n 1, 1) := dk_27 (dk_at dksX6_act_3 15 rfl rfl)
theorem dX6_act_87 : decode cX6_act 87 = .ok (.iload 5, 2) := dk_21 5 (dk_at dksX6_act_3 16 rfl rfl)
theorem dX6_act_89 : decode cX6_act 89 = .ok (.iastore, 1) := dk_79 (dk_at dksX6_act_3 18 rfl rfl)
theorem dX6_act_90 : decode cX6_act 90 = .ok (.goto 11, 3) := dk_167 0 11 (dk_at dksX6_act_3 19 rfl rfl)
theorem dX6_act_93 : decode cX6_act 93 = .ok (.aload_n 0, 1) := dk_42 (dk_at dksX6_act_3 22 rfl rfl)
theorem dX6_act_94 : decode cX6_act 94 = .ok (.getfield 13, 3) := dk_180 0 13 (dk_at dksX6_act_4 0 rfl rfl)
theorem dX6_act_97 : decode cX6_act 97 = .ok (.iload_n 1, 1) := dk_27 (dk_at dksX6_act_4 3 rfl rfl)
theorem dX6_act_98 : decode cX6_act 98 = .ok (.iload 5, 2) := dk_21 5 (dk_at dksX6_act_4 4 rfl rfl)
theorem dX6_act_100 : decode cX6_act 100 = .ok (.iastore, 1) := dk_79 (dk_at dksX6_act_4 6 rfl rfl)
theorem dX6_act_101 : decode cX6_act 101 = .ok (.iload 6, 2) := dk_21 6 (dk_at dksX6_act_4 7 rfl rfl)
theorem dX6_act_103 : decode cX6_act 103 = .ok (.ireturn, 1) := dk_172 (dk_at dksX6_act_4 9 rfl rfl)
abbrev cX6_isBeat : ByteArray := prog_11_method_4_code
def yX6_isBeat : MethodName := ⟨RX6, "isBeat", "(I)Z"⟩
def dkwX6_isBeat_0 : List UInt8 := [26, 133, 9, 20, 0, 68, 184, 0, 70, 172]
abbrev dktX6_isBeat_0 : List UInt8 := dkwX6_isBeat_0 ++ []
theorem dksX6_isBeat_0 : cX6_isBeat.data.toList.drop 0 = dktX6_isBeat_0 := by decide +kernel
theorem dX6_isBeat_0 : decode cX6_isBeat 0 = .ok (.iload_n 0, 1) := dk_26 (dk_at dksX6_isBeat_0 0 rfl rfl)
theorem dX6_isBeat_1 : decode cX6_isBeat 1 = .ok (.i2l, 1) := dk_133 (dk_at dksX6_isBeat_0 1 rfl rfl)
theorem dX6_isBeat_2 : decode cX6_isBeat 2 = .ok (.lconst 0, 1) := dk_9 (dk_at dksX6_isBeat_0 2 rfl rfl)
theorem dX6_isBeat_3 : decode cX6_isBeat 3 = .ok (.ldc2_w 68, 3) := dk_20 0 68 (dk_at dksX6_isBeat_0 3 rfl rfl)
theorem dX6_isBeat_6 : decode cX6_isBeat 6 = .ok (.invokestatic 70, 3) := dk_184 0 70 (dk_at dksX6_isBeat_0 6 rfl rfl)
theorem dX6_isBeat_9 : decode cX6_isBeat 9 = .ok (.ireturn, 1) := dk_172 (dk_at dksX6_isBeat_0 9 rfl rfl)
abbrev cX6_in : ByteArray := prog_11_method_2_code
def yX6_in : MethodName := ⟨RX6, "in", "(JJJ)Z"⟩
def dkwX6_in_0 : List UInt8 := [30, 32, 148, 155, 0, 14, 30, 22, 4, 148, 157, 0, 7, 4, 167, 0, 4, 3, 172]
abbrev dktX6_in_0 : List UInt8 := dkwX6_in_0 ++ []
theorem dksX6_in_0 : cX6_in.data.toList.drop 0 = dktX6_in_0 := by decide +kernel
theorem dX6_in_0 : decode cX6_in 0 = .ok (.lload_n 0, 1) := dk_30 (dk_at dksX6_in_0 0 rfl rfl)
theorem dX6_in_1 : decode cX6_in 1 = .ok (.lload_n 2, 1) := dk_32 (dk_at dksX6_in_0 1 rfl rfl)
theorem dX6_in_2 : decode cX6_in 2 = .ok (.lcmp, 1) := dk_148 (dk_at dksX6_in_0 2 rfl rfl)
theorem dX6_in_3 : decode cX6_in 3 = .ok (.ifCond .lt 14, 3) := dk_155 0 14 (dk_at dksX6_in_0 3 rfl rfl)
theorem dX6_in_6 : decode cX6_in 6 = .ok (.lload_n 0, 1) := dk_30 (dk_at dksX6_in_0 6 rfl rfl)
theorem dX6_in_7 : decode cX6_in 7 = .ok (.lload 4, 2) := dk_22 4 (dk_at dksX6_in_0 7 rfl rfl)
theorem dX6_in_9 : decode cX6_in 9 = .ok (.lcmp, 1) := dk_148 (dk_at dksX6_in_0 9 rfl rfl)
theorem dX6_in_10 : decode cX6_in 10 = .ok (.ifCond .gt 7, 3) := dk_157 0 7 (dk_at dksX6_in_0 10 rfl rfl)
theorem dX6_in_13 : decode cX6_in 13 = .ok (.iconst 1, 1) := dk_4 (dk_at dksX6_in_0 13 rfl rfl)
theorem dX6_in_14 : decode cX6_in 14 = .ok (.goto 4, 3) := dk_167 0 4 (dk_at dksX6_in_0 14 rfl rfl)
theorem dX6_in_17 : decode cX6_in 17 = .ok (.iconst 0, 1) := dk_3 (dk_at dksX6_in_0 17 rfl rfl)
theorem dX6_in_18 : decode cX6_in 18 = .ok (.ireturn, 1) := dk_172 (dk_at dksX6_in_0 18 rfl rfl)
abbrev cX6_isPlace : ByteArray := prog_11_method_5_code
def yX6_isPlace : MethodName := ⟨RX6, "isPlace", "(I)Z"⟩
def dkwX6_isPlace_0 : List UInt8 := [26, 133, 9, 20, 0, 74, 184, 0, 70, 172]
abbrev dktX6_isPlace_0 : List UInt8 := dkwX6_isPlace_0 ++ []
theorem dksX6_isPlace_0 : cX6_isPlace.data.toList.drop 0 = dktX6_isPlace_0 := by decide +kernel
theorem dX6_isPlace_0 : decode cX6_isPlace 0 = .ok (.iload_n 0, 1) := dk_26 (dk_at dksX6_isPlace_0 0 rfl rfl)
theorem dX6_isPlace_1 : decode cX6_isPlace 1 = .ok (.i2l, 1) := dk_133 (dk_at dksX6_isPlace_0 1 rfl rfl)
theorem dX6_isPlace_2 : decode cX6_isPlace 2 = .ok (.lconst 0, 1) := dk_9 (dk_at dksX6_isPlace_0 2 rfl rfl)
theorem dX6_isPlace_3 : decode cX6_isPlace 3 = .ok (.ldc2_w 74, 3) := dk_20 0 74 (dk_at dksX6_isPlace_0 3 rfl rfl)
theorem dX6_isPlace_6 : decode cX6_isPlace 6 = .ok (.invokestatic 70, 3) := dk_184 0 70 (dk_at dksX6_isPlace_0 6 rfl rfl)
theorem dX6_isPlace_9 : decode cX6_isPlace 9 = .ok (.ireturn, 1) := dk_172 (dk_at dksX6_isPlace_0 9 rfl rfl)
abbrev cX6_cue : ByteArray := prog_11_method_8_code
def yX6_cue : MethodName := ⟨RX6, "cue", "(III)I"⟩
def dkwX6_cue_5 : List UInt8 := [167, 0, 10, 42, 180, 0, 22, 27, 29, 79, 4, 21, 4, 96, 172]
abbrev dktX6_cue_5 : List UInt8 := dkwX6_cue_5 ++ []
def dkwX6_cue_4 : List UInt8 := [42, 180, 0, 16, 27, 29, 79, 167, 0, 25, 28, 4, 160, 0, 13, 42, 180, 0, 19, 27, 29, 79]
abbrev dktX6_cue_4 : List UInt8 := dkwX6_cue_4 ++ dktX6_cue_5
def dkwX6_cue_3 : List UInt8 := [160, 0, 12, 42, 180, 0, 19, 27, 46, 167, 0, 9, 42, 180, 0, 22, 27, 46, 54, 4, 28, 154, 0, 13]
abbrev dktX6_cue_3 : List UInt8 := dkwX6_cue_3 ++ dktX6_cue_4
def dkwX6_cue_2 : List UInt8 := [184, 0, 70, 154, 0, 5, 2, 172, 28, 154, 0, 12, 42, 180, 0, 16, 27, 46, 167, 0, 23, 28, 4]
abbrev dktX6_cue_2 : List UInt8 := dkwX6_cue_2 ++ dktX6_cue_3
def dkwX6_cue_1 : List UInt8 := [160, 0, 7, 9, 167, 0, 6, 20, 0, 90, 28, 5, 160, 0, 7, 10, 167, 0, 6, 20, 0, 74]
abbrev dktX6_cue_1 : List UInt8 := dkwX6_cue_1 ++ dktX6_cue_2
def dkwX6_cue_0 : List UInt8 := [27, 184, 0, 79, 153, 0, 47, 28, 133, 9, 20, 0, 88, 184, 0, 70, 153, 0, 35, 29, 133, 28, 5]
abbrev dktX6_cue_0 : List UInt8 := dkwX6_cue_0 ++ dktX6_cue_1
theorem dksX6_cue_0 : cX6_cue.data.toList.drop 0 = dktX6_cue_0 := by decide +kernel
theorem dksX6_cue_1 : cX6_cue.data.toList.drop 23 = dktX6_cue_1 := dk_seg dksX6_cue_0 23 rfl rfl
theorem dksX6_cue_2 : cX6_cue.data.toList.drop 45 = dktX6_cue_2 := dk_seg dksX6_cue_1 22 rfl rfl
theorem dksX6_cue_3 : cX6_cue.data.toList.drop 68 = dktX6_cue_3 := dk_seg dksX6_cue_2 23 rfl rfl
theorem dksX6_cue_4 : cX6_cue.data.toList.drop 92 = dktX6_cue_4 := dk_seg dksX6_cue_3 24 rfl rfl
theorem dksX6_cue_5 : cX6_cue.data.toList.drop 114 = dktX6_cue_5 := dk_seg dksX6_cue_4 22 rfl rfl
theorem dX6_cue_0 : decode cX6_cue 0 = .ok (.iload_n 1, 1) := dk_27 (dk_at dksX6_cue_0 0 rfl rfl)
theorem dX6_cue_1 : decode cX6_cue 1 = .ok (.invokestatic 79, 3) := dk_184 0 79 (dk_at dksX6_cue_0 1 rfl rfl)
theorem dX6_cue_4 : decode cX6_cue 4 = .ok (.ifCond .eq 47, 3) := dk_153 0 47 (dk_at dksX6_cue_0 4 rfl rfl)
theorem dX6_cue_7 : decode cX6_cue 7 = .ok (.iload_n 2, 1) := dk_28 (dk_at dksX6_cue_0 7 rfl rfl)
theorem dX6_cue_8 : decode cX6_cue 8 = .ok (.i2l, 1) := dk_133 (dk_at dksX6_cue_0 8 rfl rfl)
theorem dX6_cue_9 : decode cX6_cue 9 = .ok (.lconst 0, 1) := dk_9 (dk_at dksX6_cue_0 9 rfl rfl)
theorem dX6_cue_10 : decode cX6_cue 10 = .ok (.ldc2_w 88, 3) := dk_20 0 88 (dk_at dksX6_cue_0 10 rfl rfl)
theorem dX6_cue_13 : decode cX6_cue 13 = .ok (.invokestatic 70, 3) := dk_184 0 70 (dk_at dksX6_cue_0 13 rfl rfl)
theorem dX6_cue_16 : decode cX6_cue 16 = .ok (.ifCond .eq 35, 3) := dk_153 0 35 (dk_at dksX6_cue_0 16 rfl rfl)
theorem dX6_cue_19 : decode cX6_cue 19 = .ok (.iload_n 3, 1) := dk_29 (dk_at dksX6_cue_0 19 rfl rfl)
theorem dX6_cue_20 : decode cX6_cue 20 = .ok (.i2l, 1) := dk_133 (dk_at dksX6_cue_0 20 rfl rfl)
theorem dX6_cue_21 : decode cX6_cue 21 = .ok (.iload_n 2, 1) := dk_28 (dk_at dksX6_cue_0 21 rfl rfl)
theorem dX6_cue_22 : decode cX6_cue 22 = .ok (.iconst 2, 1) := dk_5 (dk_at dksX6_cue_0 22 rfl rfl)
theorem dX6_cue_23 : decode cX6_cue 23 = .ok (.if_icmp .ne 7, 3) := dk_160 0 7 (dk_at dksX6_cue_1 0 rfl rfl)
theorem dX6_cue_26 : decode cX6_cue 26 = .ok (.lconst 0, 1) := dk_9 (dk_at dksX6_cue_1 3 rfl rfl)
theorem dX6_cue_27 : decode cX6_cue 27 = .ok (.goto 6, 3) := dk_167 0 6 (dk_at dksX6_cue_1 4 rfl rfl)
theorem dX6_cue_30 : decode cX6_cue 30 = .ok (.ldc2_w 90, 3) := dk_20 0 90 (dk_at dksX6_cue_1 7 rfl rfl)
theorem dX6_cue_33 : decode cX6_cue 33 = .ok (.iload_n 2, 1) := dk_28 (dk_at dksX6_cue_1 10 rfl rfl)
theorem dX6_cue_34 : decode cX6_cue 34 = .ok (.iconst 2, 1) := dk_5 (dk_at dksX6_cue_1 11 rfl rfl)
theorem dX6_cue_35 : decode cX6_cue 35 = .ok (.if_icmp .ne 7, 3) := dk_160 0 7 (dk_at dksX6_cue_1 12 rfl rfl)
theorem dX6_cue_38 : decode cX6_cue 38 = .ok (.lconst 1, 1) := dk_10 (dk_at dksX6_cue_1 15 rfl rfl)
theorem dX6_cue_39 : decode cX6_cue 39 = .ok (.goto 6, 3) := dk_167 0 6 (dk_at dksX6_cue_1 16 rfl rfl)
theorem dX6_cue_42 : decode cX6_cue 42 = .ok (.ldc2_w 74, 3) := dk_20 0 74 (dk_at dksX6_cue_1 19 rfl rfl)
theorem dX6_cue_45 : decode cX6_cue 45 = .ok (.invokestatic 70, 3) := dk_184 0 70 (dk_at dksX6_cue_2 0 rfl rfl)
theorem dX6_cue_48 : decode cX6_cue 48 = .ok (.ifCond .ne 5, 3) := dk_154 0 5 (dk_at dksX6_cue_2 3 rfl rfl)
theorem dX6_cue_51 : decode cX6_cue 51 = .ok (.iconst (-1), 1) := dk_2 (dk_at dksX6_cue_2 6 rfl rfl)
theorem dX6_cue_52 : decode cX6_cue 52 = .ok (.ireturn, 1) := dk_172 (dk_at dksX6_cue_2 7 rfl rfl)
theorem dX6_cue_53 : decode cX6_cue 53 = .ok (.iload_n 2, 1) := dk_28 (dk_at dksX6_cue_2 8 rfl rfl)
theorem dX6_cue_54 : decode cX6_cue 54 = .ok (.ifCond .ne 12, 3) := dk_154 0 12 (dk_at dksX6_cue_2 9 rfl rfl)
theorem dX6_cue_57 : decode cX6_cue 57 = .ok (.aload_n 0, 1) := dk_42 (dk_at dksX6_cue_2 12 rfl rfl)
theorem dX6_cue_58 : decode cX6_cue 58 = .ok (.getfield 16, 3) := dk_180 0 16 (dk_at dksX6_cue_2 13 rfl rfl)
theorem dX6_cue_61 : decode cX6_cue 61 = .ok (.iload_n 1, 1) := dk_27 (dk_at dksX6_cue_2 16 rfl rfl)
theorem dX6_cue_62 : decode cX6_cue 62 = .ok (.iaload, 1) := dk_46 (dk_at dksX6_cue_2 17 rfl rfl)
theorem dX6_cue_63 : decode cX6_cue 63 = .ok (.goto 23, 3) := dk_167 0 23 (dk_at dksX6_cue_2 18 rfl rfl)
theorem dX6_cue_66 : decode cX6_cue 66 = .ok (.iload_n 2, 1) := dk_28 (dk_at dksX6_cue_2 21 rfl rfl)
theorem dX6_cue_67 : decode cX6_cue 67 = .ok (.iconst 1, 1) := dk_4 (dk_at dksX6_cue_2 22 rfl rfl)
theorem dX6_cue_68 : decode cX6_cue 68 = .ok (.if_icmp .ne 12, 3) := dk_160 0 12 (dk_at dksX6_cue_3 0 rfl rfl)
theorem dX6_cue_71 : decode cX6_cue 71 = .ok (.aload_n 0, 1) := dk_42 (dk_at dksX6_cue_3 3 rfl rfl)
theorem dX6_cue_72 : decode cX6_cue 72 = .ok (.getfield 19, 3) := dk_180 0 19 (dk_at dksX6_cue_3 4 rfl rfl)
theorem dX6_cue_75 : decode cX6_cue 75 = .ok (.iload_n 1, 1) := dk_27 (dk_at dksX6_cue_3 7 rfl rfl)
theorem dX6_cue_76 : decode cX6_cue 76 = .ok (.iaload, 1) := dk_46 (dk_at dksX6_cue_3 8 rfl rfl)
theorem dX6_cue_77 : decode cX6_cue 77 = .ok (.goto 9, 3) := dk_167 0 9 (dk_at dksX6_cue_3 9 rfl rfl)
theorem dX6_cue_80 : decode cX6_cue 80 = .ok (.aload_n 0, 1) := dk_42 (dk_at dksX6_cue_3 12 rfl rfl)
theorem dX6_cue_81 : decode cX6_cue 81 = .ok (.getfield 22, 3) := dk_180 0 22 (dk_at dksX6_cue_3 13 rfl rfl)
theorem dX6_cue_84 : decode cX6_cue 84 = .ok (.iload_n 1, 1) := dk_27 (dk_at dksX6_cue_3 16 rfl rfl)
theorem dX6_cue_85 : decode cX6_cue 85 = .ok (.iaload, 1) := dk_46 (dk_at dksX6_cue_3 17 rfl rfl)
theorem dX6_cue_86 : decode cX6_cue 86 = .ok (.istore 4, 2) := dk_54 4 (dk_at dksX6_cue_3 18 rfl rfl)
theorem dX6_cue_88 : decode cX6_cue 88 = .ok (.iload_n 2, 1) := dk_28 (dk_at dksX6_cue_3 20 rfl rfl)
theorem dX6_cue_89 : decode cX6_cue 89 = .ok (.ifCond .ne 13, 3) := dk_154 0 13 (dk_at dksX6_cue_3 21 rfl rfl)
theorem dX6_cue_92 : decode cX6_cue 92 = .ok (.aload_n 0, 1) := dk_42 (dk_at dksX6_cue_4 0 rfl rfl)
theorem dX6_cue_93 : decode cX6_cue 93 = .ok (.getfield 16, 3) := dk_180 0 16 (dk_at dksX6_cue_4 1 rfl rfl)
theorem dX6_cue_96 : decode cX6_cue 96 = .ok (.iload_n 1, 1) := dk_27 (dk_at dksX6_cue_4 4 rfl rfl)
theorem dX6_cue_97 : decode cX6_cue 97 = .ok (.iload_n 3, 1) := dk_29 (dk_at dksX6_cue_4 5 rfl rfl)
theorem dX6_cue_98 : decode cX6_cue 98 = .ok (.iastore, 1) := dk_79 (dk_at dksX6_cue_4 6 rfl rfl)
theorem dX6_cue_99 : decode cX6_cue 99 = .ok (.goto 25, 3) := dk_167 0 25 (dk_at dksX6_cue_4 7 rfl rfl)
theorem dX6_cue_102 : decode cX6_cue 102 = .ok (.iload_n 2, 1) := dk_28 (dk_at dksX6_cue_4 10 rfl rfl)
theorem dX6_cue_103 : decode cX6_cue 103 = .ok (.iconst 1, 1) := dk_4 (dk_at dksX6_cue_4 11 rfl rfl)
theorem dX6_cue_104 : decode cX6_cue 104 = .ok (.if_icmp .ne 13, 3) := dk_160 0 13 (dk_at dksX6_cue_4 12 rfl rfl)
theorem dX6_cue_107 : decode cX6_cue 107 = .ok (.aload_n 0, 1) := dk_42 (dk_at dksX6_cue_4 15 rfl rfl)
theorem dX6_cue_108 : decode cX6_cue 108 = .ok (.getfield 19, 3) := dk_180 0 19 (dk_at dksX6_cue_4 16 rfl rfl)
theorem dX6_cue_111 : decode cX6_cue 111 = .ok (.iload_n 1, 1) := dk_27 (dk_at dksX6_cue_4 19 rfl rfl)
theorem dX6_cue_112 : decode cX6_cue 112 = .ok (.iload_n 3, 1) := dk_29 (dk_at dksX6_cue_4 20 rfl rfl)
theorem dX6_cue_113 : decode cX6_cue 113 = .ok (.iastore, 1) := dk_79 (dk_at dksX6_cue_4 21 rfl rfl)
theorem dX6_cue_114 : decode cX6_cue 114 = .ok (.goto 10, 3) := dk_167 0 10 (dk_at dksX6_cue_5 0 rfl rfl)
theorem dX6_cue_117 : decode cX6_cue 117 = .ok (.aload_n 0, 1) := dk_42 (dk_at dksX6_cue_5 3 rfl rfl)
theorem dX6_cue_118 : decode cX6_cue 118 = .ok (.getfield 22, 3) := dk_180 0 22 (dk_at dksX6_cue_5 4 rfl rfl)
theorem dX6_cue_121 : decode cX6_cue 121 = .ok (.iload_n 1, 1) := dk_27 (dk_at dksX6_cue_5 7 rfl rfl)
theorem dX6_cue_122 : decode cX6_cue 122 = .ok (.iload_n 3, 1) := dk_29 (dk_at dksX6_cue_5 8 rfl rfl)
theorem dX6_cue_123 : decode cX6_cue 123 = .ok (.iastore, 1) := dk_79 (dk_at dksX6_cue_5 9 rfl rfl)
theorem dX6_cue_124 : decode cX6_cue 124 = .ok (.iconst 1, 1) := dk_4 (dk_at dksX6_cue_5 10 rfl rfl)
theorem dX6_cue_125 : decode cX6_cue 125 = .ok (.iload 4, 2) := dk_21 4 (dk_at dksX6_cue_5 11 rfl rfl)
theorem dX6_cue_127 : decode cX6_cue 127 = .ok (.iadd, 1) := dk_96 (dk_at dksX6_cue_5 13 rfl rfl)
theorem dX6_cue_128 : decode cX6_cue 128 = .ok (.ireturn, 1) := dk_172 (dk_at dksX6_cue_5 14 rfl rfl)
abbrev cX6_stand : ByteArray := prog_11_method_9_code
def yX6_stand : MethodName := ⟨RX6, "stand", "(I)I"⟩
def dkwX6_stand_1 : List UInt8 := [28, 172]
abbrev dktX6_stand_1 : List UInt8 := dkwX6_stand_1 ++ []
def dkwX6_stand_0 : List UInt8 := [27, 133, 9, 20, 0, 74, 184, 0, 70, 154, 0, 5, 2, 172, 42, 180, 0, 64, 61, 42, 27, 181, 0, 64]
abbrev dktX6_stand_0 : List UInt8 := dkwX6_stand_0 ++ dktX6_stand_1
theorem dksX6_stand_0 : cX6_stand.data.toList.drop 0 = dktX6_stand_0 := by decide +kernel
theorem dksX6_stand_1 : cX6_stand.data.toList.drop 24 = dktX6_stand_1 := dk_seg dksX6_stand_0 24 rfl rfl
theorem dX6_stand_0 : decode cX6_stand 0 = .ok (.iload_n 1, 1) := dk_27 (dk_at dksX6_stand_0 0 rfl rfl)
theorem dX6_stand_1 : decode cX6_stand 1 = .ok (.i2l, 1) := dk_133 (dk_at dksX6_stand_0 1 rfl rfl)
theorem dX6_stand_2 : decode cX6_stand 2 = .ok (.lconst 0, 1) := dk_9 (dk_at dksX6_stand_0 2 rfl rfl)
theorem dX6_stand_3 : decode cX6_stand 3 = .ok (.ldc2_w 74, 3) := dk_20 0 74 (dk_at dksX6_stand_0 3 rfl rfl)
theorem dX6_stand_6 : decode cX6_stand 6 = .ok (.invokestatic 70, 3) := dk_184 0 70 (dk_at dksX6_stand_0 6 rfl rfl)
theorem dX6_stand_9 : decode cX6_stand 9 = .ok (.ifCond .ne 5, 3) := dk_154 0 5 (dk_at dksX6_stand_0 9 rfl rfl)
theorem dX6_stand_12 : decode cX6_stand 12 = .ok (.iconst (-1), 1) := dk_2 (dk_at dksX6_stand_0 12 rfl rfl)
theorem dX6_stand_13 : decode cX6_stand 13 = .ok (.ireturn, 1) := dk_172 (dk_at dksX6_stand_0 13 rfl rfl)
theorem dX6_stand_14 : decode cX6_stand 14 = .ok (.aload_n 0, 1) := dk_42 (dk_at dksX6_stand_0 14 rfl rfl)
theorem dX6_stand_15 : decode cX6_stand 15 = .ok (.getfield 64, 3) := dk_180 0 64 (dk_at dksX6_stand_0 15 rfl rfl)
theorem dX6_stand_18 : decode cX6_stand 18 = .ok (.istore_n 2, 1) := dk_61 (dk_at dksX6_stand_0 18 rfl rfl)
theorem dX6_stand_19 : decode cX6_stand 19 = .ok (.aload_n 0, 1) := dk_42 (dk_at dksX6_stand_0 19 rfl rfl)
theorem dX6_stand_20 : decode cX6_stand 20 = .ok (.iload_n 1, 1) := dk_27 (dk_at dksX6_stand_0 20 rfl rfl)
theorem dX6_stand_21 : decode cX6_stand 21 = .ok (.putfield 64, 3) := dk_181 0 64 (dk_at dksX6_stand_0 21 rfl rfl)
theorem dX6_stand_24 : decode cX6_stand 24 = .ok (.iload_n 2, 1) := dk_28 (dk_at dksX6_stand_1 0 rfl rfl)
theorem dX6_stand_25 : decode cX6_stand 25 = .ok (.ireturn, 1) := dk_172 (dk_at dksX6_stand_1 1 rfl rfl)
abbrev cX6_habit : ByteArray := prog_11_method_10_code
def yX6_habit : MethodName := ⟨RX6, "habit", "(II)I"⟩
def dkwX6_habit_2 : List UInt8 := [180, 0, 25, 27, 28, 79, 29, 172]
abbrev dktX6_habit_2 : List UInt8 := dkwX6_habit_2 ++ []
def dkwX6_habit_1 : List UInt8 := [167, 0, 6, 20, 0, 86, 184, 0, 70, 154, 0, 5, 2, 172, 42, 180, 0, 25, 27, 46, 62, 42]
abbrev dktX6_habit_1 : List UInt8 := dkwX6_habit_1 ++ dktX6_habit_2
def dkwX6_habit_0 : List UInt8 := [27, 133, 9, 20, 0, 92, 184, 0, 70, 153, 0, 26, 28, 133, 9, 27, 7, 160, 0, 9, 20, 0, 94]
abbrev dktX6_habit_0 : List UInt8 := dkwX6_habit_0 ++ dktX6_habit_1
theorem dksX6_habit_0 : cX6_habit.data.toList.drop 0 = dktX6_habit_0 := by decide +kernel
theorem dksX6_habit_1 : cX6_habit.data.toList.drop 23 = dktX6_habit_1 := dk_seg dksX6_habit_0 23 rfl rfl
theorem dksX6_habit_2 : cX6_habit.data.toList.drop 45 = dktX6_habit_2 := dk_seg dksX6_habit_1 22 rfl rfl
theorem dX6_habit_0 : decode cX6_habit 0 = .ok (.iload_n 1, 1) := dk_27 (dk_at dksX6_habit_0 0 rfl rfl)
theorem dX6_habit_1 : decode cX6_habit 1 = .ok (.i2l, 1) := dk_133 (dk_at dksX6_habit_0 1 rfl rfl)
theorem dX6_habit_2 : decode cX6_habit 2 = .ok (.lconst 0, 1) := dk_9 (dk_at dksX6_habit_0 2 rfl rfl)
theorem dX6_habit_3 : decode cX6_habit 3 = .ok (.ldc2_w 92, 3) := dk_20 0 92 (dk_at dksX6_habit_0 3 rfl rfl)
theorem dX6_habit_6 : decode cX6_habit 6 = .ok (.invokestatic 70, 3) := dk_184 0 70 (dk_at dksX6_habit_0 6 rfl rfl)
theorem dX6_habit_9 : decode cX6_habit 9 = .ok (.ifCond .eq 26, 3) := dk_153 0 26 (dk_at dksX6_habit_0 9 rfl rfl)
theorem dX6_habit_12 : decode cX6_habit 12 = .ok (.iload_n 2, 1) := dk_28 (dk_at dksX6_habit_0 12 rfl rfl)
theorem dX6_habit_13 : decode cX6_habit 13 = .ok (.i2l, 1) := dk_133 (dk_at dksX6_habit_0 13 rfl rfl)
theorem dX6_habit_14 : decode cX6_habit 14 = .ok (.lconst 0, 1) := dk_9 (dk_at dksX6_habit_0 14 rfl rfl)
theorem dX6_habit_15 : decode cX6_habit 15 = .ok (.iload_n 1, 1) := dk_27 (dk_at dksX6_habit_0 15 rfl rfl)
theorem dX6_habit_16 : decode cX6_habit 16 = .ok (.iconst 4, 1) := dk_7 (dk_at dksX6_habit_0 16 rfl rfl)
theorem dX6_habit_17 : decode cX6_habit 17 = .ok (.if_icmp .ne 9, 3) := dk_160 0 9 (dk_at dksX6_habit_0 17 rfl rfl)
theorem dX6_habit_20 : decode cX6_habit 20 = .ok (.ldc2_w 94, 3) := dk_20 0 94 (dk_at dksX6_habit_0 20 rfl rfl)
theorem dX6_habit_23 : decode cX6_habit 23 = .ok (.goto 6, 3) := dk_167 0 6 (dk_at dksX6_habit_1 0 rfl rfl)
theorem dX6_habit_26 : decode cX6_habit 26 = .ok (.ldc2_w 86, 3) := dk_20 0 86 (dk_at dksX6_habit_1 3 rfl rfl)
theorem dX6_habit_29 : decode cX6_habit 29 = .ok (.invokestatic 70, 3) := dk_184 0 70 (dk_at dksX6_habit_1 6 rfl rfl)
theorem dX6_habit_32 : decode cX6_habit 32 = .ok (.ifCond .ne 5, 3) := dk_154 0 5 (dk_at dksX6_habit_1 9 rfl rfl)
theorem dX6_habit_35 : decode cX6_habit 35 = .ok (.iconst (-1), 1) := dk_2 (dk_at dksX6_habit_1 12 rfl rfl)
theorem dX6_habit_36 : decode cX6_habit 36 = .ok (.ireturn, 1) := dk_172 (dk_at dksX6_habit_1 13 rfl rfl)
theorem dX6_habit_37 : decode cX6_habit 37 = .ok (.aload_n 0, 1) := dk_42 (dk_at dksX6_habit_1 14 rfl rfl)
theorem dX6_habit_38 : decode cX6_habit 38 = .ok (.getfield 25, 3) := dk_180 0 25 (dk_at dksX6_habit_1 15 rfl rfl)
theorem dX6_habit_41 : decode cX6_habit 41 = .ok (.iload_n 1, 1) := dk_27 (dk_at dksX6_habit_1 18 rfl rfl)
theorem dX6_habit_42 : decode cX6_habit 42 = .ok (.iaload, 1) := dk_46 (dk_at dksX6_habit_1 19 rfl rfl)
theorem dX6_habit_43 : decode cX6_habit 43 = .ok (.istore_n 3, 1) := dk_62 (dk_at dksX6_habit_1 20 rfl rfl)
theorem dX6_habit_44 : decode cX6_habit 44 = .ok (.aload_n 0, 1) := dk_42 (dk_at dksX6_habit_1 21 rfl rfl)
theorem dX6_habit_45 : decode cX6_habit 45 = .ok (.getfield 25, 3) := dk_180 0 25 (dk_at dksX6_habit_2 0 rfl rfl)
theorem dX6_habit_48 : decode cX6_habit 48 = .ok (.iload_n 1, 1) := dk_27 (dk_at dksX6_habit_2 3 rfl rfl)
theorem dX6_habit_49 : decode cX6_habit 49 = .ok (.iload_n 2, 1) := dk_28 (dk_at dksX6_habit_2 4 rfl rfl)
theorem dX6_habit_50 : decode cX6_habit 50 = .ok (.iastore, 1) := dk_79 (dk_at dksX6_habit_2 5 rfl rfl)
theorem dX6_habit_51 : decode cX6_habit 51 = .ok (.iload_n 3, 1) := dk_29 (dk_at dksX6_habit_2 6 rfl rfl)
theorem dX6_habit_52 : decode cX6_habit 52 = .ok (.ireturn, 1) := dk_172 (dk_at dksX6_habit_2 7 rfl rfl)
abbrev cX6_watcher : ByteArray := prog_11_method_13_code
def yX6_watcher : MethodName := ⟨RX6, "watcher", "(II)I"⟩
def dkwX6_watcher_2 : List UInt8 := [167, 0, 9, 42, 27, 28, 182, 0, 101, 172]
abbrev dktX6_watcher_2 : List UInt8 := dkwX6_watcher_2 ++ []
def dkwX6_watcher_1 : List UInt8 := [2, 172, 42, 27, 182, 0, 98, 153, 0, 6, 16, 254, 172, 42, 180, 0, 76, 16, 8, 160, 0, 8, 16, 253]
abbrev dktX6_watcher_1 : List UInt8 := dkwX6_watcher_1 ++ dktX6_watcher_2
def dkwX6_watcher_0 : List UInt8 := [27, 133, 9, 20, 0, 96, 184, 0, 70, 153, 0, 15, 28, 133, 9, 20, 0, 74, 184, 0, 70, 154, 0, 5]
abbrev dktX6_watcher_0 : List UInt8 := dkwX6_watcher_0 ++ dktX6_watcher_1
theorem dksX6_watcher_0 : cX6_watcher.data.toList.drop 0 = dktX6_watcher_0 := by decide +kernel
theorem dksX6_watcher_1 : cX6_watcher.data.toList.drop 24 = dktX6_watcher_1 := dk_seg dksX6_watcher_0 24 rfl rfl
theorem dksX6_watcher_2 : cX6_watcher.data.toList.drop 48 = dktX6_watcher_2 := dk_seg dksX6_watcher_1 24 rfl rfl
theorem dX6_watcher_0 : decode cX6_watcher 0 = .ok (.iload_n 1, 1) := dk_27 (dk_at dksX6_watcher_0 0 rfl rfl)
theorem dX6_watcher_1 : decode cX6_watcher 1 = .ok (.i2l, 1) := dk_133 (dk_at dksX6_watcher_0 1 rfl rfl)
theorem dX6_watcher_2 : decode cX6_watcher 2 = .ok (.lconst 0, 1) := dk_9 (dk_at dksX6_watcher_0 2 rfl rfl)
theorem dX6_watcher_3 : decode cX6_watcher 3 = .ok (.ldc2_w 96, 3) := dk_20 0 96 (dk_at dksX6_watcher_0 3 rfl rfl)
theorem dX6_watcher_6 : decode cX6_watcher 6 = .ok (.invokestatic 70, 3) := dk_184 0 70 (dk_at dksX6_watcher_0 6 rfl rfl)
theorem dX6_watcher_9 : decode cX6_watcher 9 = .ok (.ifCond .eq 15, 3) := dk_153 0 15 (dk_at dksX6_watcher_0 9 rfl rfl)
theorem dX6_watcher_12 : decode cX6_watcher 12 = .ok (.iload_n 2, 1) := dk_28 (dk_at dksX6_watcher_0 12 rfl rfl)
theorem dX6_watcher_13 : decode cX6_watcher 13 = .ok (.i2l, 1) := dk_133 (dk_at dksX6_watcher_0 13 rfl rfl)
theorem dX6_watcher_14 : decode cX6_watcher 14 = .ok (.lconst 0, 1) := dk_9 (dk_at dksX6_watcher_0 14 rfl rfl)
theorem dX6_watcher_15 : decode cX6_watcher 15 = .ok (.ldc2_w 74, 3) := dk_20 0 74 (dk_at dksX6_watcher_0 15 rfl rfl)
theorem dX6_watcher_18 : decode cX6_watcher 18 = .ok (.invokestatic 70, 3) := dk_184 0 70 (dk_at dksX6_watcher_0 18 rfl rfl)
theorem dX6_watcher_21 : decode cX6_watcher 21 = .ok (.ifCond .ne 5, 3) := dk_154 0 5 (dk_at dksX6_watcher_0 21 rfl rfl)
theorem dX6_watcher_24 : decode cX6_watcher 24 = .ok (.iconst (-1), 1) := dk_2 (dk_at dksX6_watcher_1 0 rfl rfl)
theorem dX6_watcher_25 : decode cX6_watcher 25 = .ok (.ireturn, 1) := dk_172 (dk_at dksX6_watcher_1 1 rfl rfl)
theorem dX6_watcher_26 : decode cX6_watcher 26 = .ok (.aload_n 0, 1) := dk_42 (dk_at dksX6_watcher_1 2 rfl rfl)
theorem dX6_watcher_27 : decode cX6_watcher 27 = .ok (.iload_n 1, 1) := dk_27 (dk_at dksX6_watcher_1 3 rfl rfl)
theorem dX6_watcher_28 : decode cX6_watcher 28 = .ok (.invokevirtual 98, 3) := dk_182 0 98 (dk_at dksX6_watcher_1 4 rfl rfl)
theorem dX6_watcher_31 : decode cX6_watcher 31 = .ok (.ifCond .eq 6, 3) := dk_153 0 6 (dk_at dksX6_watcher_1 7 rfl rfl)
theorem dX6_watcher_34 : decode cX6_watcher 34 = .ok (.bipush (-2), 2) := dk_16 254 (dk_at dksX6_watcher_1 10 rfl rfl)
theorem dX6_watcher_36 : decode cX6_watcher 36 = .ok (.ireturn, 1) := dk_172 (dk_at dksX6_watcher_1 12 rfl rfl)
theorem dX6_watcher_37 : decode cX6_watcher 37 = .ok (.aload_n 0, 1) := dk_42 (dk_at dksX6_watcher_1 13 rfl rfl)
theorem dX6_watcher_38 : decode cX6_watcher 38 = .ok (.getfield 76, 3) := dk_180 0 76 (dk_at dksX6_watcher_1 14 rfl rfl)
theorem dX6_watcher_41 : decode cX6_watcher 41 = .ok (.bipush 8, 2) := dk_16 8 (dk_at dksX6_watcher_1 17 rfl rfl)
theorem dX6_watcher_43 : decode cX6_watcher 43 = .ok (.if_icmp .ne 8, 3) := dk_160 0 8 (dk_at dksX6_watcher_1 19 rfl rfl)
theorem dX6_watcher_46 : decode cX6_watcher 46 = .ok (.bipush (-3), 2) := dk_16 253 (dk_at dksX6_watcher_1 22 rfl rfl)
theorem dX6_watcher_48 : decode cX6_watcher 48 = .ok (.goto 9, 3) := dk_167 0 9 (dk_at dksX6_watcher_2 0 rfl rfl)
theorem dX6_watcher_51 : decode cX6_watcher 51 = .ok (.aload_n 0, 1) := dk_42 (dk_at dksX6_watcher_2 3 rfl rfl)
theorem dX6_watcher_52 : decode cX6_watcher 52 = .ok (.iload_n 1, 1) := dk_27 (dk_at dksX6_watcher_2 4 rfl rfl)
theorem dX6_watcher_53 : decode cX6_watcher 53 = .ok (.iload_n 2, 1) := dk_28 (dk_at dksX6_watcher_2 5 rfl rfl)
theorem dX6_watcher_54 : decode cX6_watcher 54 = .ok (.invokevirtual 101, 3) := dk_182 0 101 (dk_at dksX6_watcher_2 6 rfl rfl)
theorem dX6_watcher_57 : decode cX6_watcher 57 = .ok (.ireturn, 1) := dk_172 (dk_at dksX6_watcher_2 9 rfl rfl)
abbrev cX6_isTaken : ByteArray := prog_11_method_11_code
def yX6_isTaken : MethodName := ⟨RX6, "isTaken", "(I)Z"⟩
def dkwX6_isTaken_1 : List UInt8 := [27, 160, 0, 7, 4, 167, 0, 4, 3, 61, 132, 3, 1, 167, 255, 223, 28, 172]
abbrev dktX6_isTaken_1 : List UInt8 := dkwX6_isTaken_1 ++ []
def dkwX6_isTaken_0 : List UInt8 := [3, 61, 3, 62, 29, 42, 180, 0, 76, 162, 0, 31, 28, 154, 0, 15, 42, 180, 0, 28, 6, 29, 104, 46]
abbrev dktX6_isTaken_0 : List UInt8 := dkwX6_isTaken_0 ++ dktX6_isTaken_1
theorem dksX6_isTaken_0 : cX6_isTaken.data.toList.drop 0 = dktX6_isTaken_0 := by decide +kernel
theorem dksX6_isTaken_1 : cX6_isTaken.data.toList.drop 24 = dktX6_isTaken_1 := dk_seg dksX6_isTaken_0 24 rfl rfl
theorem dX6_isTaken_0 : decode cX6_isTaken 0 = .ok (.iconst 0, 1) := dk_3 (dk_at dksX6_isTaken_0 0 rfl rfl)
theorem dX6_isTaken_1 : decode cX6_isTaken 1 = .ok (.istore_n 2, 1) := dk_61 (dk_at dksX6_isTaken_0 1 rfl rfl)
theorem dX6_isTaken_2 : decode cX6_isTaken 2 = .ok (.iconst 0, 1) := dk_3 (dk_at dksX6_isTaken_0 2 rfl rfl)
theorem dX6_isTaken_3 : decode cX6_isTaken 3 = .ok (.istore_n 3, 1) := dk_62 (dk_at dksX6_isTaken_0 3 rfl rfl)
theorem dX6_isTaken_4 : decode cX6_isTaken 4 = .ok (.iload_n 3, 1) := dk_29 (dk_at dksX6_isTaken_0 4 rfl rfl)
theorem dX6_isTaken_5 : decode cX6_isTaken 5 = .ok (.aload_n 0, 1) := dk_42 (dk_at dksX6_isTaken_0 5 rfl rfl)
theorem dX6_isTaken_6 : decode cX6_isTaken 6 = .ok (.getfield 76, 3) := dk_180 0 76 (dk_at dksX6_isTaken_0 6 rfl rfl)
theorem dX6_isTaken_9 : decode cX6_isTaken 9 = .ok (.if_icmp .ge 31, 3) := dk_162 0 31 (dk_at dksX6_isTaken_0 9 rfl rfl)
theorem dX6_isTaken_12 : decode cX6_isTaken 12 = .ok (.iload_n 2, 1) := dk_28 (dk_at dksX6_isTaken_0 12 rfl rfl)
theorem dX6_isTaken_13 : decode cX6_isTaken 13 = .ok (.ifCond .ne 15, 3) := dk_154 0 15 (dk_at dksX6_isTaken_0 13 rfl rfl)
theorem dX6_isTaken_16 : decode cX6_isTaken 16 = .ok (.aload_n 0, 1) := dk_42 (dk_at dksX6_isTaken_0 16 rfl rfl)
theorem dX6_isTaken_17 : decode cX6_isTaken 17 = .ok (.getfield 28, 3) := dk_180 0 28 (dk_at dksX6_isTaken_0 17 rfl rfl)
theorem dX6_isTaken_20 : decode cX6_isTaken 20 = .ok (.iconst 3, 1) := dk_6 (dk_at dksX6_isTaken_0 20 rfl rfl)
theorem dX6_isTaken_21 : decode cX6_isTaken 21 = .ok (.iload_n 3, 1) := dk_29 (dk_at dksX6_isTaken_0 21 rfl rfl)
theorem dX6_isTaken_22 : decode cX6_isTaken 22 = .ok (.imul, 1) := dk_104 (dk_at dksX6_isTaken_0 22 rfl rfl)
theorem dX6_isTaken_23 : decode cX6_isTaken 23 = .ok (.iaload, 1) := dk_46 (dk_at dksX6_isTaken_0 23 rfl rfl)
theorem dX6_isTaken_24 : decode cX6_isTaken 24 = .ok (.iload_n 1, 1) := dk_27 (dk_at dksX6_isTaken_1 0 rfl rfl)
theorem dX6_isTaken_25 : decode cX6_isTaken 25 = .ok (.if_icmp .ne 7, 3) := dk_160 0 7 (dk_at dksX6_isTaken_1 1 rfl rfl)
theorem dX6_isTaken_28 : decode cX6_isTaken 28 = .ok (.iconst 1, 1) := dk_4 (dk_at dksX6_isTaken_1 4 rfl rfl)
theorem dX6_isTaken_29 : decode cX6_isTaken 29 = .ok (.goto 4, 3) := dk_167 0 4 (dk_at dksX6_isTaken_1 5 rfl rfl)
theorem dX6_isTaken_32 : decode cX6_isTaken 32 = .ok (.iconst 0, 1) := dk_3 (dk_at dksX6_isTaken_1 8 rfl rfl)
theorem dX6_isTaken_33 : decode cX6_isTaken 33 = .ok (.istore_n 2, 1) := dk_61 (dk_at dksX6_isTaken_1 9 rfl rfl)
theorem dX6_isTaken_34 : decode cX6_isTaken 34 = .ok (.iinc 3 1, 3) := dk_132 3 1 (dk_at dksX6_isTaken_1 10 rfl rfl)
theorem dX6_isTaken_37 : decode cX6_isTaken 37 = .ok (.goto (-33), 3) := dk_167 255 223 (dk_at dksX6_isTaken_1 13 rfl rfl)
theorem dX6_isTaken_40 : decode cX6_isTaken 40 = .ok (.iload_n 2, 1) := dk_28 (dk_at dksX6_isTaken_1 16 rfl rfl)
theorem dX6_isTaken_41 : decode cX6_isTaken 41 = .ok (.ireturn, 1) := dk_172 (dk_at dksX6_isTaken_1 17 rfl rfl)
abbrev cX6_comes : ByteArray := prog_11_method_12_code
def yX6_comes : MethodName := ⟨RX6, "comes", "(II)I"⟩
def dkwX6_comes_2 : List UInt8 := [181, 0, 76, 42, 180, 0, 76, 4, 100, 172]
abbrev dktX6_comes_2 : List UInt8 := dkwX6_comes_2 ++ []
def dkwX6_comes_1 : List UInt8 := [28, 79, 42, 180, 0, 28, 6, 42, 180, 0, 76, 104, 5, 96, 6, 79, 42, 89, 180, 0, 76, 4, 96]
abbrev dktX6_comes_1 : List UInt8 := dkwX6_comes_1 ++ dktX6_comes_2
def dkwX6_comes_0 : List UInt8 := [42, 180, 0, 28, 6, 42, 180, 0, 76, 104, 27, 79, 42, 180, 0, 28, 6, 42, 180, 0, 76, 104, 4, 96]
abbrev dktX6_comes_0 : List UInt8 := dkwX6_comes_0 ++ dktX6_comes_1
theorem dksX6_comes_0 : cX6_comes.data.toList.drop 0 = dktX6_comes_0 := by decide +kernel
theorem dksX6_comes_1 : cX6_comes.data.toList.drop 24 = dktX6_comes_1 := dk_seg dksX6_comes_0 24 rfl rfl
theorem dksX6_comes_2 : cX6_comes.data.toList.drop 47 = dktX6_comes_2 := dk_seg dksX6_comes_1 23 rfl rfl
theorem dX6_comes_0 : decode cX6_comes 0 = .ok (.aload_n 0, 1) := dk_42 (dk_at dksX6_comes_0 0 rfl rfl)
theorem dX6_comes_1 : decode cX6_comes 1 = .ok (.getfield 28, 3) := dk_180 0 28 (dk_at dksX6_comes_0 1 rfl rfl)
theorem dX6_comes_4 : decode cX6_comes 4 = .ok (.iconst 3, 1) := dk_6 (dk_at dksX6_comes_0 4 rfl rfl)
theorem dX6_comes_5 : decode cX6_comes 5 = .ok (.aload_n 0, 1) := dk_42 (dk_at dksX6_comes_0 5 rfl rfl)
theorem dX6_comes_6 : decode cX6_comes 6 = .ok (.getfield 76, 3) := dk_180 0 76 (dk_at dksX6_comes_0 6 rfl rfl)
theorem dX6_comes_9 : decode cX6_comes 9 = .ok (.imul, 1) := dk_104 (dk_at dksX6_comes_0 9 rfl rfl)
theorem dX6_comes_10 : decode cX6_comes 10 = .ok (.iload_n 1, 1) := dk_27 (dk_at dksX6_comes_0 10 rfl rfl)
theorem dX6_comes_11 : decode cX6_comes 11 = .ok (.iastore, 1) := dk_79 (dk_at dksX6_comes_0 11 rfl rfl)
theorem dX6_comes_12 : decode cX6_comes 12 = .ok (.aload_n 0, 1) := dk_42 (dk_at dksX6_comes_0 12 rfl rfl)
theorem dX6_comes_13 : decode cX6_comes 13 = .ok (.getfield 28, 3) := dk_180 0 28 (dk_at dksX6_comes_0 13 rfl rfl)
theorem dX6_comes_16 : decode cX6_comes 16 = .ok (.iconst 3, 1) := dk_6 (dk_at dksX6_comes_0 16 rfl rfl)
theorem dX6_comes_17 : decode cX6_comes 17 = .ok (.aload_n 0, 1) := dk_42 (dk_at dksX6_comes_0 17 rfl rfl)
theorem dX6_comes_18 : decode cX6_comes 18 = .ok (.getfield 76, 3) := dk_180 0 76 (dk_at dksX6_comes_0 18 rfl rfl)
theorem dX6_comes_21 : decode cX6_comes 21 = .ok (.imul, 1) := dk_104 (dk_at dksX6_comes_0 21 rfl rfl)
theorem dX6_comes_22 : decode cX6_comes 22 = .ok (.iconst 1, 1) := dk_4 (dk_at dksX6_comes_0 22 rfl rfl)
theorem dX6_comes_23 : decode cX6_comes 23 = .ok (.iadd, 1) := dk_96 (dk_at dksX6_comes_0 23 rfl rfl)
theorem dX6_comes_24 : decode cX6_comes 24 = .ok (.iload_n 2, 1) := dk_28 (dk_at dksX6_comes_1 0 rfl rfl)
theorem dX6_comes_25 : decode cX6_comes 25 = .ok (.iastore, 1) := dk_79 (dk_at dksX6_comes_1 1 rfl rfl)
theorem dX6_comes_26 : decode cX6_comes 26 = .ok (.aload_n 0, 1) := dk_42 (dk_at dksX6_comes_1 2 rfl rfl)
theorem dX6_comes_27 : decode cX6_comes 27 = .ok (.getfield 28, 3) := dk_180 0 28 (dk_at dksX6_comes_1 3 rfl rfl)
theorem dX6_comes_30 : decode cX6_comes 30 = .ok (.iconst 3, 1) := dk_6 (dk_at dksX6_comes_1 6 rfl rfl)
theorem dX6_comes_31 : decode cX6_comes 31 = .ok (.aload_n 0, 1) := dk_42 (dk_at dksX6_comes_1 7 rfl rfl)
theorem dX6_comes_32 : decode cX6_comes 32 = .ok (.getfield 76, 3) := dk_180 0 76 (dk_at dksX6_comes_1 8 rfl rfl)
theorem dX6_comes_35 : decode cX6_comes 35 = .ok (.imul, 1) := dk_104 (dk_at dksX6_comes_1 11 rfl rfl)
theorem dX6_comes_36 : decode cX6_comes 36 = .ok (.iconst 2, 1) := dk_5 (dk_at dksX6_comes_1 12 rfl rfl)
theorem dX6_comes_37 : decode cX6_comes 37 = .ok (.iadd, 1) := dk_96 (dk_at dksX6_comes_1 13 rfl rfl)
theorem dX6_comes_38 : decode cX6_comes 38 = .ok (.iconst 3, 1) := dk_6 (dk_at dksX6_comes_1 14 rfl rfl)
theorem dX6_comes_39 : decode cX6_comes 39 = .ok (.iastore, 1) := dk_79 (dk_at dksX6_comes_1 15 rfl rfl)
theorem dX6_comes_40 : decode cX6_comes 40 = .ok (.aload_n 0, 1) := dk_42 (dk_at dksX6_comes_1 16 rfl rfl)
theorem dX6_comes_41 : decode cX6_comes 41 = .ok (.dup, 1) := dk_89 (dk_at dksX6_comes_1 17 rfl rfl)
theorem dX6_comes_42 : decode cX6_comes 42 = .ok (.getfield 76, 3) := dk_180 0 76 (dk_at dksX6_comes_1 18 rfl rfl)
theorem dX6_comes_45 : decode cX6_comes 45 = .ok (.iconst 1, 1) := dk_4 (dk_at dksX6_comes_1 21 rfl rfl)
theorem dX6_comes_46 : decode cX6_comes 46 = .ok (.iadd, 1) := dk_96 (dk_at dksX6_comes_1 22 rfl rfl)
theorem dX6_comes_47 : decode cX6_comes 47 = .ok (.putfield 76, 3) := dk_181 0 76 (dk_at dksX6_comes_2 0 rfl rfl)
theorem dX6_comes_50 : decode cX6_comes 50 = .ok (.aload_n 0, 1) := dk_42 (dk_at dksX6_comes_2 3 rfl rfl)
theorem dX6_comes_51 : decode cX6_comes 51 = .ok (.getfield 76, 3) := dk_180 0 76 (dk_at dksX6_comes_2 4 rfl rfl)
theorem dX6_comes_54 : decode cX6_comes 54 = .ok (.iconst 1, 1) := dk_4 (dk_at dksX6_comes_2 7 rfl rfl)
theorem dX6_comes_55 : decode cX6_comes 55 = .ok (.isub, 1) := dk_100 (dk_at dksX6_comes_2 8 rfl rfl)
theorem dX6_comes_56 : decode cX6_comes 56 = .ok (.ireturn, 1) := dk_172 (dk_at dksX6_comes_2 9 rfl rfl)
abbrev cX6_doubt : ByteArray := prog_11_method_14_code
def yX6_doubt : MethodName := ⟨RX6, "doubt", "(II)I"⟩
def dkwX6_doubt_2 : List UInt8 := [96, 46, 62, 42, 180, 0, 28, 6, 27, 104, 5, 96, 28, 79, 29, 172]
abbrev dktX6_doubt_2 : List UInt8 := dkwX6_doubt_2 ++ []
def dkwX6_doubt_1 : List UInt8 := [180, 0, 28, 6, 27, 104, 4, 96, 46, 4, 159, 0, 6, 16, 244, 172, 42, 180, 0, 28, 6, 27, 104, 5]
abbrev dktX6_doubt_1 : List UInt8 := dkwX6_doubt_1 ++ dktX6_doubt_2
def dkwX6_doubt_0 : List UInt8 := [42, 27, 182, 0, 105, 153, 0, 15, 28, 133, 9, 20, 0, 86, 184, 0, 70, 154, 0, 5, 2, 172, 42]
abbrev dktX6_doubt_0 : List UInt8 := dkwX6_doubt_0 ++ dktX6_doubt_1
theorem dksX6_doubt_0 : cX6_doubt.data.toList.drop 0 = dktX6_doubt_0 := by decide +kernel
theorem dksX6_doubt_1 : cX6_doubt.data.toList.drop 23 = dktX6_doubt_1 := dk_seg dksX6_doubt_0 23 rfl rfl
theorem dksX6_doubt_2 : cX6_doubt.data.toList.drop 47 = dktX6_doubt_2 := dk_seg dksX6_doubt_1 24 rfl rfl
theorem dX6_doubt_0 : decode cX6_doubt 0 = .ok (.aload_n 0, 1) := dk_42 (dk_at dksX6_doubt_0 0 rfl rfl)
theorem dX6_doubt_1 : decode cX6_doubt 1 = .ok (.iload_n 1, 1) := dk_27 (dk_at dksX6_doubt_0 1 rfl rfl)
theorem dX6_doubt_2 : decode cX6_doubt 2 = .ok (.invokevirtual 105, 3) := dk_182 0 105 (dk_at dksX6_doubt_0 2 rfl rfl)
theorem dX6_doubt_5 : decode cX6_doubt 5 = .ok (.ifCond .eq 15, 3) := dk_153 0 15 (dk_at dksX6_doubt_0 5 rfl rfl)
theorem dX6_doubt_8 : decode cX6_doubt 8 = .ok (.iload_n 2, 1) := dk_28 (dk_at dksX6_doubt_0 8 rfl rfl)
theorem dX6_doubt_9 : decode cX6_doubt 9 = .ok (.i2l, 1) := dk_133 (dk_at dksX6_doubt_0 9 rfl rfl)
theorem dX6_doubt_10 : decode cX6_doubt 10 = .ok (.lconst 0, 1) := dk_9 (dk_at dksX6_doubt_0 10 rfl rfl)
theorem dX6_doubt_11 : decode cX6_doubt 11 = .ok (.ldc2_w 86, 3) := dk_20 0 86 (dk_at dksX6_doubt_0 11 rfl rfl)
theorem dX6_doubt_14 : decode cX6_doubt 14 = .ok (.invokestatic 70, 3) := dk_184 0 70 (dk_at dksX6_doubt_0 14 rfl rfl)
theorem dX6_doubt_17 : decode cX6_doubt 17 = .ok (.ifCond .ne 5, 3) := dk_154 0 5 (dk_at dksX6_doubt_0 17 rfl rfl)
theorem dX6_doubt_20 : decode cX6_doubt 20 = .ok (.iconst (-1), 1) := dk_2 (dk_at dksX6_doubt_0 20 rfl rfl)
theorem dX6_doubt_21 : decode cX6_doubt 21 = .ok (.ireturn, 1) := dk_172 (dk_at dksX6_doubt_0 21 rfl rfl)
theorem dX6_doubt_22 : decode cX6_doubt 22 = .ok (.aload_n 0, 1) := dk_42 (dk_at dksX6_doubt_0 22 rfl rfl)
theorem dX6_doubt_23 : decode cX6_doubt 23 = .ok (.getfield 28, 3) := dk_180 0 28 (dk_at dksX6_doubt_1 0 rfl rfl)
theorem dX6_doubt_26 : decode cX6_doubt 26 = .ok (.iconst 3, 1) := dk_6 (dk_at dksX6_doubt_1 3 rfl rfl)
theorem dX6_doubt_27 : decode cX6_doubt 27 = .ok (.iload_n 1, 1) := dk_27 (dk_at dksX6_doubt_1 4 rfl rfl)
theorem dX6_doubt_28 : decode cX6_doubt 28 = .ok (.imul, 1) := dk_104 (dk_at dksX6_doubt_1 5 rfl rfl)
theorem dX6_doubt_29 : decode cX6_doubt 29 = .ok (.iconst 1, 1) := dk_4 (dk_at dksX6_doubt_1 6 rfl rfl)
theorem dX6_doubt_30 : decode cX6_doubt 30 = .ok (.iadd, 1) := dk_96 (dk_at dksX6_doubt_1 7 rfl rfl)
theorem dX6_doubt_31 : decode cX6_doubt 31 = .ok (.iaload, 1) := dk_46 (dk_at dksX6_doubt_1 8 rfl rfl)
theorem dX6_doubt_32 : decode cX6_doubt 32 = .ok (.iconst 1, 1) := dk_4 (dk_at dksX6_doubt_1 9 rfl rfl)
theorem dX6_doubt_33 : decode cX6_doubt 33 = .ok (.if_icmp .eq 6, 3) := dk_159 0 6 (dk_at dksX6_doubt_1 10 rfl rfl)
theorem dX6_doubt_36 : decode cX6_doubt 36 = .ok (.bipush (-12), 2) := dk_16 244 (dk_at dksX6_doubt_1 13 rfl rfl)
theorem dX6_doubt_38 : decode cX6_doubt 38 = .ok (.ireturn, 1) := dk_172 (dk_at dksX6_doubt_1 15 rfl rfl)
theorem dX6_doubt_39 : decode cX6_doubt 39 = .ok (.aload_n 0, 1) := dk_42 (dk_at dksX6_doubt_1 16 rfl rfl)
theorem dX6_doubt_40 : decode cX6_doubt 40 = .ok (.getfield 28, 3) := dk_180 0 28 (dk_at dksX6_doubt_1 17 rfl rfl)
theorem dX6_doubt_43 : decode cX6_doubt 43 = .ok (.iconst 3, 1) := dk_6 (dk_at dksX6_doubt_1 20 rfl rfl)
theorem dX6_doubt_44 : decode cX6_doubt 44 = .ok (.iload_n 1, 1) := dk_27 (dk_at dksX6_doubt_1 21 rfl rfl)
theorem dX6_doubt_45 : decode cX6_doubt 45 = .ok (.imul, 1) := dk_104 (dk_at dksX6_doubt_1 22 rfl rfl)
theorem dX6_doubt_46 : decode cX6_doubt 46 = .ok (.iconst 2, 1) := dk_5 (dk_at dksX6_doubt_1 23 rfl rfl)
theorem dX6_doubt_47 : decode cX6_doubt 47 = .ok (.iadd, 1) := dk_96 (dk_at dksX6_doubt_2 0 rfl rfl)
theorem dX6_doubt_48 : decode cX6_doubt 48 = .ok (.iaload, 1) := dk_46 (dk_at dksX6_doubt_2 1 rfl rfl)
theorem dX6_doubt_49 : decode cX6_doubt 49 = .ok (.istore_n 3, 1) := dk_62 (dk_at dksX6_doubt_2 2 rfl rfl)
theorem dX6_doubt_50 : decode cX6_doubt 50 = .ok (.aload_n 0, 1) := dk_42 (dk_at dksX6_doubt_2 3 rfl rfl)
theorem dX6_doubt_51 : decode cX6_doubt 51 = .ok (.getfield 28, 3) := dk_180 0 28 (dk_at dksX6_doubt_2 4 rfl rfl)
theorem dX6_doubt_54 : decode cX6_doubt 54 = .ok (.iconst 3, 1) := dk_6 (dk_at dksX6_doubt_2 7 rfl rfl)
theorem dX6_doubt_55 : decode cX6_doubt 55 = .ok (.iload_n 1, 1) := dk_27 (dk_at dksX6_doubt_2 8 rfl rfl)
theorem dX6_doubt_56 : decode cX6_doubt 56 = .ok (.imul, 1) := dk_104 (dk_at dksX6_doubt_2 9 rfl rfl)
theorem dX6_doubt_57 : decode cX6_doubt 57 = .ok (.iconst 2, 1) := dk_5 (dk_at dksX6_doubt_2 10 rfl rfl)
theorem dX6_doubt_58 : decode cX6_doubt 58 = .ok (.iadd, 1) := dk_96 (dk_at dksX6_doubt_2 11 rfl rfl)
theorem dX6_doubt_59 : decode cX6_doubt 59 = .ok (.iload_n 2, 1) := dk_28 (dk_at dksX6_doubt_2 12 rfl rfl)
theorem dX6_doubt_60 : decode cX6_doubt 60 = .ok (.iastore, 1) := dk_79 (dk_at dksX6_doubt_2 13 rfl rfl)
theorem dX6_doubt_61 : decode cX6_doubt 61 = .ok (.iload_n 3, 1) := dk_29 (dk_at dksX6_doubt_2 14 rfl rfl)
theorem dX6_doubt_62 : decode cX6_doubt 62 = .ok (.ireturn, 1) := dk_172 (dk_at dksX6_doubt_2 15 rfl rfl)
abbrev cX6_isOne : ByteArray := prog_11_method_6_code
def yX6_isOne : MethodName := ⟨RX6, "isOne", "(I)Z"⟩
def dkwX6_isOne_0 : List UInt8 := [27, 133, 9, 42, 180, 0, 76, 4, 100, 133, 184, 0, 70, 172]
abbrev dktX6_isOne_0 : List UInt8 := dkwX6_isOne_0 ++ []
theorem dksX6_isOne_0 : cX6_isOne.data.toList.drop 0 = dktX6_isOne_0 := by decide +kernel
theorem dX6_isOne_0 : decode cX6_isOne 0 = .ok (.iload_n 1, 1) := dk_27 (dk_at dksX6_isOne_0 0 rfl rfl)
theorem dX6_isOne_1 : decode cX6_isOne 1 = .ok (.i2l, 1) := dk_133 (dk_at dksX6_isOne_0 1 rfl rfl)
theorem dX6_isOne_2 : decode cX6_isOne 2 = .ok (.lconst 0, 1) := dk_9 (dk_at dksX6_isOne_0 2 rfl rfl)
theorem dX6_isOne_3 : decode cX6_isOne 3 = .ok (.aload_n 0, 1) := dk_42 (dk_at dksX6_isOne_0 3 rfl rfl)
theorem dX6_isOne_4 : decode cX6_isOne 4 = .ok (.getfield 76, 3) := dk_180 0 76 (dk_at dksX6_isOne_0 4 rfl rfl)
theorem dX6_isOne_7 : decode cX6_isOne 7 = .ok (.iconst 1, 1) := dk_4 (dk_at dksX6_isOne_0 7 rfl rfl)
theorem dX6_isOne_8 : decode cX6_isOne 8 = .ok (.isub, 1) := dk_100 (dk_at dksX6_isOne_0 8 rfl rfl)
theorem dX6_isOne_9 : decode cX6_isOne 9 = .ok (.i2l, 1) := dk_133 (dk_at dksX6_isOne_0 9 rfl rfl)
theorem dX6_isOne_10 : decode cX6_isOne 10 = .ok (.invokestatic 70, 3) := dk_184 0 70 (dk_at dksX6_isOne_0 10 rfl rfl)
theorem dX6_isOne_13 : decode cX6_isOne 13 = .ok (.ireturn, 1) := dk_172 (dk_at dksX6_isOne_0 13 rfl rfl)
abbrev cX6_told : ByteArray := prog_11_method_15_code
def yX6_told : MethodName := ⟨RX6, "told", "(II)I"⟩
def dkwX6_told_1 : List UInt8 := [162, 0, 16, 42, 180, 0, 28, 6, 27, 104, 28, 96, 46, 167, 0, 10, 42, 27, 16, 15, 182, 0, 108, 172]
abbrev dktX6_told_1 : List UInt8 := dkwX6_told_1 ++ []
def dkwX6_told_0 : List UInt8 := [42, 27, 182, 0, 105, 153, 0, 15, 28, 133, 9, 20, 0, 88, 184, 0, 70, 154, 0, 5, 2, 172, 28, 5]
abbrev dktX6_told_0 : List UInt8 := dkwX6_told_0 ++ dktX6_told_1
theorem dksX6_told_0 : cX6_told.data.toList.drop 0 = dktX6_told_0 := by decide +kernel
theorem dksX6_told_1 : cX6_told.data.toList.drop 24 = dktX6_told_1 := dk_seg dksX6_told_0 24 rfl rfl
theorem dX6_told_0 : decode cX6_told 0 = .ok (.aload_n 0, 1) := dk_42 (dk_at dksX6_told_0 0 rfl rfl)
theorem dX6_told_1 : decode cX6_told 1 = .ok (.iload_n 1, 1) := dk_27 (dk_at dksX6_told_0 1 rfl rfl)
theorem dX6_told_2 : decode cX6_told 2 = .ok (.invokevirtual 105, 3) := dk_182 0 105 (dk_at dksX6_told_0 2 rfl rfl)
theorem dX6_told_5 : decode cX6_told 5 = .ok (.ifCond .eq 15, 3) := dk_153 0 15 (dk_at dksX6_told_0 5 rfl rfl)
theorem dX6_told_8 : decode cX6_told 8 = .ok (.iload_n 2, 1) := dk_28 (dk_at dksX6_told_0 8 rfl rfl)
theorem dX6_told_9 : decode cX6_told 9 = .ok (.i2l, 1) := dk_133 (dk_at dksX6_told_0 9 rfl rfl)
theorem dX6_told_10 : decode cX6_told 10 = .ok (.lconst 0, 1) := dk_9 (dk_at dksX6_told_0 10 rfl rfl)
theorem dX6_told_11 : decode cX6_told 11 = .ok (.ldc2_w 88, 3) := dk_20 0 88 (dk_at dksX6_told_0 11 rfl rfl)
theorem dX6_told_14 : decode cX6_told 14 = .ok (.invokestatic 70, 3) := dk_184 0 70 (dk_at dksX6_told_0 14 rfl rfl)
theorem dX6_told_17 : decode cX6_told 17 = .ok (.ifCond .ne 5, 3) := dk_154 0 5 (dk_at dksX6_told_0 17 rfl rfl)
theorem dX6_told_20 : decode cX6_told 20 = .ok (.iconst (-1), 1) := dk_2 (dk_at dksX6_told_0 20 rfl rfl)
theorem dX6_told_21 : decode cX6_told 21 = .ok (.ireturn, 1) := dk_172 (dk_at dksX6_told_0 21 rfl rfl)
theorem dX6_told_22 : decode cX6_told 22 = .ok (.iload_n 2, 1) := dk_28 (dk_at dksX6_told_0 22 rfl rfl)
theorem dX6_told_23 : decode cX6_told 23 = .ok (.iconst 2, 1) := dk_5 (dk_at dksX6_told_0 23 rfl rfl)
theorem dX6_told_24 : decode cX6_told 24 = .ok (.if_icmp .ge 16, 3) := dk_162 0 16 (dk_at dksX6_told_1 0 rfl rfl)
theorem dX6_told_27 : decode cX6_told 27 = .ok (.aload_n 0, 1) := dk_42 (dk_at dksX6_told_1 3 rfl rfl)
theorem dX6_told_28 : decode cX6_told 28 = .ok (.getfield 28, 3) := dk_180 0 28 (dk_at dksX6_told_1 4 rfl rfl)
theorem dX6_told_31 : decode cX6_told 31 = .ok (.iconst 3, 1) := dk_6 (dk_at dksX6_told_1 7 rfl rfl)
theorem dX6_told_32 : decode cX6_told 32 = .ok (.iload_n 1, 1) := dk_27 (dk_at dksX6_told_1 8 rfl rfl)
theorem dX6_told_33 : decode cX6_told 33 = .ok (.imul, 1) := dk_104 (dk_at dksX6_told_1 9 rfl rfl)
theorem dX6_told_34 : decode cX6_told 34 = .ok (.iload_n 2, 1) := dk_28 (dk_at dksX6_told_1 10 rfl rfl)
theorem dX6_told_35 : decode cX6_told 35 = .ok (.iadd, 1) := dk_96 (dk_at dksX6_told_1 11 rfl rfl)
theorem dX6_told_36 : decode cX6_told 36 = .ok (.iaload, 1) := dk_46 (dk_at dksX6_told_1 12 rfl rfl)
theorem dX6_told_37 : decode cX6_told 37 = .ok (.goto 10, 3) := dk_167 0 10 (dk_at dksX6_told_1 13 rfl rfl)
theorem dX6_told_40 : decode cX6_told 40 = .ok (.aload_n 0, 1) := dk_42 (dk_at dksX6_told_1 16 rfl rfl)
theorem dX6_told_41 : decode cX6_told 41 = .ok (.iload_n 1, 1) := dk_27 (dk_at dksX6_told_1 17 rfl rfl)
theorem dX6_told_42 : decode cX6_told 42 = .ok (.bipush 15, 2) := dk_16 15 (dk_at dksX6_told_1 18 rfl rfl)
theorem dX6_told_44 : decode cX6_told 44 = .ok (.invokevirtual 108, 3) := dk_182 0 108 (dk_at dksX6_told_1 20 rfl rfl)
theorem dX6_told_47 : decode cX6_told 47 = .ok (.ireturn, 1) := dk_172 (dk_at dksX6_told_1 23 rfl rfl)
abbrev cX6_heedOf : ByteArray := prog_11_method_31_code
def yX6_heedOf : MethodName := ⟨RX6, "heedOf", "(II)I"⟩
def dkwX6_heedOf_4 : List UInt8 := [167, 255, 168, 29, 172]
abbrev dktX6_heedOf_4 : List UInt8 := dkwX6_heedOf_4 ++ []
def dkwX6_heedOf_3 : List UInt8 := [62, 29, 155, 0, 13, 42, 180, 0, 22, 21, 4, 46, 158, 0, 7, 3, 167, 0, 4, 29, 62, 132, 4, 1]
abbrev dktX6_heedOf_3 : List UInt8 := dkwX6_heedOf_3 ++ dktX6_heedOf_4
def dkwX6_heedOf_2 : List UInt8 := [46, 155, 0, 21, 42, 180, 0, 28, 6, 27, 104, 4, 96, 46, 5, 159, 0, 7, 5, 167, 0, 4, 3, 100]
abbrev dktX6_heedOf_2 : List UInt8 := dkwX6_heedOf_2 ++ dktX6_heedOf_3
def dkwX6_heedOf_1 : List UInt8 := [164, 0, 8, 16, 9, 167, 0, 11, 29, 42, 180, 0, 25, 5, 46, 96, 62, 29, 42, 180, 0, 19, 21, 4]
abbrev dktX6_heedOf_1 : List UInt8 := dkwX6_heedOf_1 ++ dktX6_heedOf_2
def dkwX6_heedOf_0 : List UInt8 := [16, 9, 62, 3, 54, 4, 21, 4, 28, 163, 0, 88, 29, 42, 180, 0, 25, 5, 46, 96, 16, 9]
abbrev dktX6_heedOf_0 : List UInt8 := dkwX6_heedOf_0 ++ dktX6_heedOf_1
theorem dksX6_heedOf_0 : cX6_heedOf.data.toList.drop 0 = dktX6_heedOf_0 := by decide +kernel
theorem dksX6_heedOf_1 : cX6_heedOf.data.toList.drop 22 = dktX6_heedOf_1 := dk_seg dksX6_heedOf_0 22 rfl rfl
theorem dksX6_heedOf_2 : cX6_heedOf.data.toList.drop 46 = dktX6_heedOf_2 := dk_seg dksX6_heedOf_1 24 rfl rfl
theorem dksX6_heedOf_3 : cX6_heedOf.data.toList.drop 70 = dktX6_heedOf_3 := dk_seg dksX6_heedOf_2 24 rfl rfl
theorem dksX6_heedOf_4 : cX6_heedOf.data.toList.drop 94 = dktX6_heedOf_4 := dk_seg dksX6_heedOf_3 24 rfl rfl
theorem dX6_heedOf_0 : decode cX6_heedOf 0 = .ok (.bipush 9, 2) := dk_16 9 (dk_at dksX6_heedOf_0 0 rfl rfl)
theorem dX6_heedOf_2 : decode cX6_heedOf 2 = .ok (.istore_n 3, 1) := dk_62 (dk_at dksX6_heedOf_0 2 rfl rfl)
theorem dX6_heedOf_3 : decode cX6_heedOf 3 = .ok (.iconst 0, 1) := dk_3 (dk_at dksX6_heedOf_0 3 rfl rfl)
theorem dX6_heedOf_4 : decode cX6_heedOf 4 = .ok (.istore 4, 2) := dk_54 4 (dk_at dksX6_heedOf_0 4 rfl rfl)
theorem dX6_heedOf_6 : decode cX6_heedOf 6 = .ok (.iload 4, 2) := dk_21 4 (dk_at dksX6_heedOf_0 6 rfl rfl)
theorem dX6_heedOf_8 : decode cX6_heedOf 8 = .ok (.iload_n 2, 1) := dk_28 (dk_at dksX6_heedOf_0 8 rfl rfl)
theorem dX6_heedOf_9 : decode cX6_heedOf 9 = .ok (.if_icmp .gt 88, 3) := dk_163 0 88 (dk_at dksX6_heedOf_0 9 rfl rfl)
theorem dX6_heedOf_12 : decode cX6_heedOf 12 = .ok (.iload_n 3, 1) := dk_29 (dk_at dksX6_heedOf_0 12 rfl rfl)
theorem dX6_heedOf_13 : decode cX6_heedOf 13 = .ok (.aload_n 0, 1) := dk_42 (dk_at dksX6_heedOf_0 13 rfl rfl)
theorem dX6_heedOf_14 : decode cX6_heedOf 14 = .ok (.getfield 25, 3) := dk_180 0 25 (dk_at dksX6_heedOf_0 14 rfl rfl)
theorem dX6_heedOf_17 : decode cX6_heedOf 17 = .ok (.iconst 2, 1) := dk_5 (dk_at dksX6_heedOf_0 17 rfl rfl)
theorem dX6_heedOf_18 : decode cX6_heedOf 18 = .ok (.iaload, 1) := dk_46 (dk_at dksX6_heedOf_0 18 rfl rfl)
theorem dX6_heedOf_19 : decode cX6_heedOf 19 = .ok (.iadd, 1) := dk_96 (dk_at dksX6_heedOf_0 19 rfl rfl)
theorem dX6_heedOf_20 : decode cX6_heedOf 20 = .ok (.bipush 9, 2) := dk_16 9 (dk_at dksX6_heedOf_0 20 rfl rfl)
theorem dX6_heedOf_22 : decode cX6_heedOf 22 = .ok (.if_icmp .le 8, 3) := dk_164 0 8 (dk_at dksX6_heedOf_1 0 rfl rfl)
theorem dX6_heedOf_25 : decode cX6_heedOf 25 = .ok (.bipush 9, 2) := dk_16 9 (dk_at dksX6_heedOf_1 3 rfl rfl)
theorem dX6_heedOf_27 : decode cX6_heedOf 27 = .ok (.goto 11, 3) := dk_167 0 11 (dk_at dksX6_heedOf_1 5 rfl rfl)
theorem dX6_heedOf_30 : decode cX6_heedOf 30 = .ok (.iload_n 3, 1) := dk_29 (dk_at dksX6_heedOf_1 8 rfl rfl)
theorem dX6_heedOf_31 : decode cX6_heedOf 31 = .ok (.aload_n 0, 1) := dk_42 (dk_at dksX6_heedOf_1 9 rfl rfl)
theorem dX6_heedOf_32 : decode cX6_heedOf 32 = .ok (.getfield 25, 3) := dk_180 0 25 (dk_at dksX6_heedOf_1 10 rfl rfl)
theorem dX6_heedOf_35 : decode cX6_heedOf 35 = .ok (.iconst 2, 1) := dk_5 (dk_at dksX6_heedOf_1 13 rfl rfl)
theorem dX6_heedOf_36 : decode cX6_heedOf 36 = .ok (.iaload, 1) := dk_46 (dk_at dksX6_heedOf_1 14 rfl rfl)
theorem dX6_heedOf_37 : decode cX6_heedOf 37 = .ok (.iadd, 1) := dk_96 (dk_at dksX6_heedOf_1 15 rfl rfl)
theorem dX6_heedOf_38 : decode cX6_heedOf 38 = .ok (.istore_n 3, 1) := dk_62 (dk_at dksX6_heedOf_1 16 rfl rfl)
theorem dX6_heedOf_39 : decode cX6_heedOf 39 = .ok (.iload_n 3, 1) := dk_29 (dk_at dksX6_heedOf_1 17 rfl rfl)
theorem dX6_heedOf_40 : decode cX6_heedOf 40 = .ok (.aload_n 0, 1) := dk_42 (dk_at dksX6_heedOf_1 18 rfl rfl)
theorem dX6_heedOf_41 : decode cX6_heedOf 41 = .ok (.getfield 19, 3) := dk_180 0 19 (dk_at dksX6_heedOf_1 19 rfl rfl)
theorem dX6_heedOf_44 : decode cX6_heedOf 44 = .ok (.iload 4, 2) := dk_21 4 (dk_at dksX6_heedOf_1 22 rfl rfl)
theorem dX6_heedOf_46 : decode cX6_heedOf 46 = .ok (.iaload, 1) := dk_46 (dk_at dksX6_heedOf_2 0 rfl rfl)
theorem dX6_heedOf_47 : decode cX6_heedOf 47 = .ok (.ifCond .lt 21, 3) := dk_155 0 21 (dk_at dksX6_heedOf_2 1 rfl rfl)
theorem dX6_heedOf_50 : decode cX6_heedOf 50 = .ok (.aload_n 0, 1) := dk_42 (dk_at dksX6_heedOf_2 4 rfl rfl)
theorem dX6_heedOf_51 : decode cX6_heedOf 51 = .ok (.getfield 28, 3) := dk_180 0 28 (dk_at dksX6_heedOf_2 5 rfl rfl)
theorem dX6_heedOf_54 : decode cX6_heedOf 54 = .ok (.iconst 3, 1) := dk_6 (dk_at dksX6_heedOf_2 8 rfl rfl)
theorem dX6_heedOf_55 : decode cX6_heedOf 55 = .ok (.iload_n 1, 1) := dk_27 (dk_at dksX6_heedOf_2 9 rfl rfl)
theorem dX6_heedOf_56 : decode cX6_heedOf 56 = .ok (.imul, 1) := dk_104 (dk_at dksX6_heedOf_2 10 rfl rfl)
theorem dX6_heedOf_57 : decode cX6_heedOf 57 = .ok (.iconst 1, 1) := dk_4 (dk_at dksX6_heedOf_2 11 rfl rfl)
theorem dX6_heedOf_58 : decode cX6_heedOf 58 = .ok (.iadd, 1) := dk_96 (dk_at dksX6_heedOf_2 12 rfl rfl)
theorem dX6_heedOf_59 : decode cX6_heedOf 59 = .ok (.iaload, 1) := dk_46 (dk_at dksX6_heedOf_2 13 rfl rfl)
theorem dX6_heedOf_60 : decode cX6_heedOf 60 = .ok (.iconst 2, 1) := dk_5 (dk_at dksX6_heedOf_2 14 rfl rfl)
theorem dX6_heedOf_61 : decode cX6_heedOf 61 = .ok (.if_icmp .eq 7, 3) := dk_159 0 7 (dk_at dksX6_heedOf_2 15 rfl rfl)
theorem dX6_heedOf_64 : decode cX6_heedOf 64 = .ok (.iconst 2, 1) := dk_5 (dk_at dksX6_heedOf_2 18 rfl rfl)
theorem dX6_heedOf_65 : decode cX6_heedOf 65 = .ok (.goto 4, 3) := dk_167 0 4 (dk_at dksX6_heedOf_2 19 rfl rfl)
theorem dX6_heedOf_68 : decode cX6_heedOf 68 = .ok (.iconst 0, 1) := dk_3 (dk_at dksX6_heedOf_2 22 rfl rfl)
theorem dX6_heedOf_69 : decode cX6_heedOf 69 = .ok (.isub, 1) := dk_100 (dk_at dksX6_heedOf_2 23 rfl rfl)
theorem dX6_heedOf_70 : decode cX6_heedOf 70 = .ok (.istore_n 3, 1) := dk_62 (dk_at dksX6_heedOf_3 0 rfl rfl)
theorem dX6_heedOf_71 : decode cX6_heedOf 71 = .ok (.iload_n 3, 1) := dk_29 (dk_at dksX6_heedOf_3 1 rfl rfl)
theorem dX6_heedOf_72 : decode cX6_heedOf 72 = .ok (.ifCond .lt 13, 3) := dk_155 0 13 (dk_at dksX6_heedOf_3 2 rfl rfl)
theorem dX6_heedOf_75 : decode cX6_heedOf 75 = .ok (.aload_n 0, 1) := dk_42 (dk_at dksX6_heedOf_3 5 rfl rfl)
theorem dX6_heedOf_76 : decode cX6_heedOf 76 = .ok (.getfield 22, 3) := dk_180 0 22 (dk_at dksX6_heedOf_3 6 rfl rfl)
theorem dX6_heedOf_79 : decode cX6_heedOf 79 = .ok (.iload 4, 2) := dk_21 4 (dk_at dksX6_heedOf_3 9 rfl rfl)
theorem dX6_heedOf_81 : decode cX6_heedOf 81 = .ok (.iaload, 1) := dk_46 (dk_at dksX6_heedOf_3 11 rfl rfl)
theorem dX6_heedOf_82 : decode cX6_heedOf 82 = .ok (.ifCond .le 7, 3) := dk_158 0 7 (dk_at dksX6_heedOf_3 12 rfl rfl)
theorem dX6_heedOf_85 : decode cX6_heedOf 85 = .ok (.iconst 0, 1) := dk_3 (dk_at dksX6_heedOf_3 15 rfl rfl)
theorem dX6_heedOf_86 : decode cX6_heedOf 86 = .ok (.goto 4, 3) := dk_167 0 4 (dk_at dksX6_heedOf_3 16 rfl rfl)
theorem dX6_heedOf_89 : decode cX6_heedOf 89 = .ok (.iload_n 3, 1) := dk_29 (dk_at dksX6_heedOf_3 19 rfl rfl)
theorem dX6_heedOf_90 : decode cX6_heedOf 90 = .ok (.istore_n 3, 1) := dk_62 (dk_at dksX6_heedOf_3 20 rfl rfl)
theorem dX6_heedOf_91 : decode cX6_heedOf 91 = .ok (.iinc 4 1, 3) := dk_132 4 1 (dk_at dksX6_heedOf_3 21 rfl rfl)
theorem dX6_heedOf_94 : decode cX6_heedOf 94 = .ok (.goto (-88), 3) := dk_167 255 168 (dk_at dksX6_heedOf_4 0 rfl rfl)
theorem dX6_heedOf_97 : decode cX6_heedOf 97 = .ok (.iload_n 3, 1) := dk_29 (dk_at dksX6_heedOf_4 3 rfl rfl)
theorem dX6_heedOf_98 : decode cX6_heedOf 98 = .ok (.ireturn, 1) := dk_172 (dk_at dksX6_heedOf_4 4 rfl rfl)
abbrev cX6_leave : ByteArray := prog_11_method_16_code
def yX6_leave : MethodName := ⟨RX6, "leave", "(I)I"⟩
def dkwX6_leave_2 : List UInt8 := [132, 2, 1, 167, 255, 229, 42, 180, 0, 76, 172]
abbrev dktX6_leave_2 : List UInt8 := dkwX6_leave_2 ++ []
def dkwX6_leave_1 : List UInt8 := [28, 6, 42, 180, 0, 76, 104, 162, 0, 23, 42, 180, 0, 28, 28, 42, 180, 0, 28, 28, 6, 96, 46, 79]
abbrev dktX6_leave_1 : List UInt8 := dkwX6_leave_1 ++ dktX6_leave_2
def dkwX6_leave_0 : List UInt8 := [42, 27, 182, 0, 105, 154, 0, 5, 2, 172, 42, 89, 180, 0, 76, 4, 100, 181, 0, 76, 6, 27, 104, 61]
abbrev dktX6_leave_0 : List UInt8 := dkwX6_leave_0 ++ dktX6_leave_1
theorem dksX6_leave_0 : cX6_leave.data.toList.drop 0 = dktX6_leave_0 := by decide +kernel
theorem dksX6_leave_1 : cX6_leave.data.toList.drop 24 = dktX6_leave_1 := dk_seg dksX6_leave_0 24 rfl rfl
theorem dksX6_leave_2 : cX6_leave.data.toList.drop 48 = dktX6_leave_2 := dk_seg dksX6_leave_1 24 rfl rfl
theorem dX6_leave_0 : decode cX6_leave 0 = .ok (.aload_n 0, 1) := dk_42 (dk_at dksX6_leave_0 0 rfl rfl)
theorem dX6_leave_1 : decode cX6_leave 1 = .ok (.iload_n 1, 1) := dk_27 (dk_at dksX6_leave_0 1 rfl rfl)
theorem dX6_leave_2 : decode cX6_leave 2 = .ok (.invokevirtual 105, 3) := dk_182 0 105 (dk_at dksX6_leave_0 2 rfl rfl)
theorem dX6_leave_5 : decode cX6_leave 5 = .ok (.ifCond .ne 5, 3) := dk_154 0 5 (dk_at dksX6_leave_0 5 rfl rfl)
theorem dX6_leave_8 : decode cX6_leave 8 = .ok (.iconst (-1), 1) := dk_2 (dk_at dksX6_leave_0 8 rfl rfl)
theorem dX6_leave_9 : decode cX6_leave 9 = .ok (.ireturn, 1) := dk_172 (dk_at dksX6_leave_0 9 rfl rfl)
theorem dX6_leave_10 : decode cX6_leave 10 = .ok (.aload_n 0, 1) := dk_42 (dk_at dksX6_leave_0 10 rfl rfl)
theorem dX6_leave_11 : decode cX6_leave 11 = .ok (.dup, 1) := dk_89 (dk_at dksX6_leave_0 11 rfl rfl)
theorem dX6_leave_12 : decode cX6_leave 12 = .ok (.getfield 76, 3) := dk_180 0 76 (dk_at dksX6_leave_0 12 rfl rfl)
theorem dX6_leave_15 : decode cX6_leave 15 = .ok (.iconst 1, 1) := dk_4 (dk_at dksX6_leave_0 15 rfl rfl)
theorem dX6_leave_16 : decode cX6_leave 16 = .ok (.isub, 1) := dk_100 (dk_at dksX6_leave_0 16 rfl rfl)
theorem dX6_leave_17 : decode cX6_leave 17 = .ok (.putfield 76, 3) := dk_181 0 76 (dk_at dksX6_leave_0 17 rfl rfl)
theorem dX6_leave_20 : decode cX6_leave 20 = .ok (.iconst 3, 1) := dk_6 (dk_at dksX6_leave_0 20 rfl rfl)
theorem dX6_leave_21 : decode cX6_leave 21 = .ok (.iload_n 1, 1) := dk_27 (dk_at dksX6_leave_0 21 rfl rfl)
theorem dX6_leave_22 : decode cX6_leave 22 = .ok (.imul, 1) := dk_104 (dk_at dksX6_leave_0 22 rfl rfl)
theorem dX6_leave_23 : decode cX6_leave 23 = .ok (.istore_n 2, 1) := dk_61 (dk_at dksX6_leave_0 23 rfl rfl)
theorem dX6_leave_24 : decode cX6_leave 24 = .ok (.iload_n 2, 1) := dk_28 (dk_at dksX6_leave_1 0 rfl rfl)
theorem dX6_leave_25 : decode cX6_leave 25 = .ok (.iconst 3, 1) := dk_6 (dk_at dksX6_leave_1 1 rfl rfl)
theorem dX6_leave_26 : decode cX6_leave 26 = .ok (.aload_n 0, 1) := dk_42 (dk_at dksX6_leave_1 2 rfl rfl)
theorem dX6_leave_27 : decode cX6_leave 27 = .ok (.getfield 76, 3) := dk_180 0 76 (dk_at dksX6_leave_1 3 rfl rfl)
theorem dX6_leave_30 : decode cX6_leave 30 = .ok (.imul, 1) := dk_104 (dk_at dksX6_leave_1 6 rfl rfl)
theorem dX6_leave_31 : decode cX6_leave 31 = .ok (.if_icmp .ge 23, 3) := dk_162 0 23 (dk_at dksX6_leave_1 7 rfl rfl)
theorem dX6_leave_34 : decode cX6_leave 34 = .ok (.aload_n 0, 1) := dk_42 (dk_at dksX6_leave_1 10 rfl rfl)
theorem dX6_leave_35 : decode cX6_leave 35 = .ok (.getfield 28, 3) := dk_180 0 28 (dk_at dksX6_leave_1 11 rfl rfl)
theorem dX6_leave_38 : decode cX6_leave 38 = .ok (.iload_n 2, 1) := dk_28 (dk_at dksX6_leave_1 14 rfl rfl)
theorem dX6_leave_39 : decode cX6_leave 39 = .ok (.aload_n 0, 1) := dk_42 (dk_at dksX6_leave_1 15 rfl rfl)
theorem dX6_leave_40 : decode cX6_leave 40 = .ok (.getfield 28, 3) := dk_180 0 28 (dk_at dksX6_leave_1 16 rfl rfl)
theorem dX6_leave_43 : decode cX6_leave 43 = .ok (.iload_n 2, 1) := dk_28 (dk_at dksX6_leave_1 19 rfl rfl)
theorem dX6_leave_44 : decode cX6_leave 44 = .ok (.iconst 3, 1) := dk_6 (dk_at dksX6_leave_1 20 rfl rfl)
theorem dX6_leave_45 : decode cX6_leave 45 = .ok (.iadd, 1) := dk_96 (dk_at dksX6_leave_1 21 rfl rfl)
theorem dX6_leave_46 : decode cX6_leave 46 = .ok (.iaload, 1) := dk_46 (dk_at dksX6_leave_1 22 rfl rfl)
theorem dX6_leave_47 : decode cX6_leave 47 = .ok (.iastore, 1) := dk_79 (dk_at dksX6_leave_1 23 rfl rfl)
theorem dX6_leave_48 : decode cX6_leave 48 = .ok (.iinc 2 1, 3) := dk_132 2 1 (dk_at dksX6_leave_2 0 rfl rfl)
theorem dX6_leave_51 : decode cX6_leave 51 = .ok (.goto (-27), 3) := dk_167 255 229 (dk_at dksX6_leave_2 3 rfl rfl)
theorem dX6_leave_54 : decode cX6_leave 54 = .ok (.aload_n 0, 1) := dk_42 (dk_at dksX6_leave_2 6 rfl rfl)
theorem dX6_leave_55 : decode cX6_leave 55 = .ok (.getfield 76, 3) := dk_180 0 76 (dk_at dksX6_leave_2 7 rfl rfl)
theorem dX6_leave_58 : decode cX6_leave 58 = .ok (.ireturn, 1) := dk_172 (dk_at dksX6_leave_2 10 rfl rfl)
abbrev cX6_type : ByteArray := prog_11_method_17_code
def yX6_type : MethodName := ⟨RX6, "type", "(JI)I"⟩
def dkwX6_type_5 : List UInt8 := [180, 0, 119, 172]
abbrev dktX6_type_5 : List UInt8 := dkwX6_type_5 ++ []
def dkwX6_type_4 : List UInt8 := [20, 0, 113, 127, 136, 79, 42, 89, 180, 0, 119, 4, 96, 181, 0, 119, 132, 4, 255, 167, 255, 217, 42]
abbrev dktX6_type_4 : List UInt8 := dkwX6_type_4 ++ dktX6_type_5
def dkwX6_type_3 : List UInt8 := [54, 4, 21, 4, 155, 0, 40, 42, 180, 0, 31, 42, 180, 0, 119, 31, 16, 8, 21, 4, 104, 123]
abbrev dktX6_type_3 : List UInt8 := dkwX6_type_3 ++ dktX6_type_4
def dkwX6_type_2 : List UInt8 := [132, 4, 1, 167, 255, 222, 42, 180, 0, 119, 29, 96, 16, 100, 164, 0, 6, 16, 253, 172, 29, 4, 100]
abbrev dktX6_type_2 : List UInt8 := dkwX6_type_2 ++ dktX6_type_3
def dkwX6_type_1 : List UInt8 := [16, 8, 21, 4, 104, 123, 20, 0, 113, 127, 20, 0, 115, 20, 0, 117, 184, 0, 70, 154, 0, 5, 2, 172]
abbrev dktX6_type_1 : List UInt8 := dkwX6_type_1 ++ dktX6_type_2
def dkwX6_type_0 : List UInt8 := [29, 133, 10, 20, 0, 111, 184, 0, 70, 154, 0, 5, 2, 172, 3, 54, 4, 21, 4, 29, 162, 0, 34, 31]
abbrev dktX6_type_0 : List UInt8 := dkwX6_type_0 ++ dktX6_type_1
theorem dksX6_type_0 : cX6_type.data.toList.drop 0 = dktX6_type_0 := by decide +kernel
theorem dksX6_type_1 : cX6_type.data.toList.drop 24 = dktX6_type_1 := dk_seg dksX6_type_0 24 rfl rfl
theorem dksX6_type_2 : cX6_type.data.toList.drop 48 = dktX6_type_2 := dk_seg dksX6_type_1 24 rfl rfl
theorem dksX6_type_3 : cX6_type.data.toList.drop 71 = dktX6_type_3 := dk_seg dksX6_type_2 23 rfl rfl
theorem dksX6_type_4 : cX6_type.data.toList.drop 93 = dktX6_type_4 := dk_seg dksX6_type_3 22 rfl rfl
theorem dksX6_type_5 : cX6_type.data.toList.drop 116 = dktX6_type_5 := dk_seg dksX6_type_4 23 rfl rfl
theorem dX6_type_0 : decode cX6_type 0 = .ok (.iload_n 3, 1) := dk_29 (dk_at dksX6_type_0 0 rfl rfl)
theorem dX6_type_1 : decode cX6_type 1 = .ok (.i2l, 1) := dk_133 (dk_at dksX6_type_0 1 rfl rfl)
theorem dX6_type_2 : decode cX6_type 2 = .ok (.lconst 1, 1) := dk_10 (dk_at dksX6_type_0 2 rfl rfl)
theorem dX6_type_3 : decode cX6_type 3 = .ok (.ldc2_w 111, 3) := dk_20 0 111 (dk_at dksX6_type_0 3 rfl rfl)
theorem dX6_type_6 : decode cX6_type 6 = .ok (.invokestatic 70, 3) := dk_184 0 70 (dk_at dksX6_type_0 6 rfl rfl)
theorem dX6_type_9 : decode cX6_type 9 = .ok (.ifCond .ne 5, 3) := dk_154 0 5 (dk_at dksX6_type_0 9 rfl rfl)
theorem dX6_type_12 : decode cX6_type 12 = .ok (.iconst (-1), 1) := dk_2 (dk_at dksX6_type_0 12 rfl rfl)
theorem dX6_type_13 : decode cX6_type 13 = .ok (.ireturn, 1) := dk_172 (dk_at dksX6_type_0 13 rfl rfl)
theorem dX6_type_14 : decode cX6_type 14 = .ok (.iconst 0, 1) := dk_3 (dk_at dksX6_type_0 14 rfl rfl)
theorem dX6_type_15 : decode cX6_type 15 = .ok (.istore 4, 2) := dk_54 4 (dk_at dksX6_type_0 15 rfl rfl)
theorem dX6_type_17 : decode cX6_type 17 = .ok (.iload 4, 2) := dk_21 4 (dk_at dksX6_type_0 17 rfl rfl)
theorem dX6_type_19 : decode cX6_type 19 = .ok (.iload_n 3, 1) := dk_29 (dk_at dksX6_type_0 19 rfl rfl)
theorem dX6_type_20 : decode cX6_type 20 = .ok (.if_icmp .ge 34, 3) := dk_162 0 34 (dk_at dksX6_type_0 20 rfl rfl)
theorem dX6_type_23 : decode cX6_type 23 = .ok (.lload_n 1, 1) := dk_31 (dk_at dksX6_type_0 23 rfl rfl)
theorem dX6_type_24 : decode cX6_type 24 = .ok (.bipush 8, 2) := dk_16 8 (dk_at dksX6_type_1 0 rfl rfl)
theorem dX6_type_26 : decode cX6_type 26 = .ok (.iload 4, 2) := dk_21 4 (dk_at dksX6_type_1 2 rfl rfl)
theorem dX6_type_28 : decode cX6_type 28 = .ok (.imul, 1) := dk_104 (dk_at dksX6_type_1 4 rfl rfl)
theorem dX6_type_29 : decode cX6_type 29 = .ok (.lshr, 1) := dk_123 (dk_at dksX6_type_1 5 rfl rfl)
theorem dX6_type_30 : decode cX6_type 30 = .ok (.ldc2_w 113, 3) := dk_20 0 113 (dk_at dksX6_type_1 6 rfl rfl)
theorem dX6_type_33 : decode cX6_type 33 = .ok (.land, 1) := dk_127 (dk_at dksX6_type_1 9 rfl rfl)
theorem dX6_type_34 : decode cX6_type 34 = .ok (.ldc2_w 115, 3) := dk_20 0 115 (dk_at dksX6_type_1 10 rfl rfl)
theorem dX6_type_37 : decode cX6_type 37 = .ok (.ldc2_w 117, 3) := dk_20 0 117 (dk_at dksX6_type_1 13 rfl rfl)
theorem dX6_type_40 : decode cX6_type 40 = .ok (.invokestatic 70, 3) := dk_184 0 70 (dk_at dksX6_type_1 16 rfl rfl)
theorem dX6_type_43 : decode cX6_type 43 = .ok (.ifCond .ne 5, 3) := dk_154 0 5 (dk_at dksX6_type_1 19 rfl rfl)
theorem dX6_type_46 : decode cX6_type 46 = .ok (.iconst (-1), 1) := dk_2 (dk_at dksX6_type_1 22 rfl rfl)
theorem dX6_type_47 : decode cX6_type 47 = .ok (.ireturn, 1) := dk_172 (dk_at dksX6_type_1 23 rfl rfl)
theorem dX6_type_48 : decode cX6_type 48 = .ok (.iinc 4 1, 3) := dk_132 4 1 (dk_at dksX6_type_2 0 rfl rfl)
theorem dX6_type_51 : decode cX6_type 51 = .ok (.goto (-34), 3) := dk_167 255 222 (dk_at dksX6_type_2 3 rfl rfl)
theorem dX6_type_54 : decode cX6_type 54 = .ok (.aload_n 0, 1) := dk_42 (dk_at dksX6_type_2 6 rfl rfl)
theorem dX6_type_55 : decode cX6_type 55 = .ok (.getfield 119, 3) := dk_180 0 119 (dk_at dksX6_type_2 7 rfl rfl)
theorem dX6_type_58 : decode cX6_type 58 = .ok (.iload_n 3, 1) := dk_29 (dk_at dksX6_type_2 10 rfl rfl)
theorem dX6_type_59 : decode cX6_type 59 = .ok (.iadd, 1) := dk_96 (dk_at dksX6_type_2 11 rfl rfl)
theorem dX6_type_60 : decode cX6_type 60 = .ok (.bipush 100, 2) := dk_16 100 (dk_at dksX6_type_2 12 rfl rfl)
theorem dX6_type_62 : decode cX6_type 62 = .ok (.if_icmp .le 6, 3) := dk_164 0 6 (dk_at dksX6_type_2 14 rfl rfl)
theorem dX6_type_65 : decode cX6_type 65 = .ok (.bipush (-3), 2) := dk_16 253 (dk_at dksX6_type_2 17 rfl rfl)
theorem dX6_type_67 : decode cX6_type 67 = .ok (.ireturn, 1) := dk_172 (dk_at dksX6_type_2 19 rfl rfl)
theorem dX6_type_68 : decode cX6_type 68 = .ok (.iload_n 3, 1) := dk_29 (dk_at dksX6_type_2 20 rfl rfl)
theorem dX6_type_69 : decode cX6_type 69 = .ok (.iconst 1, 1) := dk_4 (dk_at dksX6_type_2 21 rfl rfl)
theorem dX6_type_70 : decode cX6_type 70 = .ok (.isub, 1) := dk_100 (dk_at dksX6_type_2 22 rfl rfl)
theorem dX6_type_71 : decode cX6_type 71 = .ok (.istore 4, 2) := dk_54 4 (dk_at dksX6_type_3 0 rfl rfl)
theorem dX6_type_73 : decode cX6_type 73 = .ok (.iload 4, 2) := dk_21 4 (dk_at dksX6_type_3 2 rfl rfl)
theorem dX6_type_75 : decode cX6_type 75 = .ok (.ifCond .lt 40, 3) := dk_155 0 40 (dk_at dksX6_type_3 4 rfl rfl)
theorem dX6_type_78 : decode cX6_type 78 = .ok (.aload_n 0, 1) := dk_42 (dk_at dksX6_type_3 7 rfl rfl)
theorem dX6_type_79 : decode cX6_type 79 = .ok (.getfield 31, 3) := dk_180 0 31 (dk_at dksX6_type_3 8 rfl rfl)
theorem dX6_type_82 : decode cX6_type 82 = .ok (.aload_n 0, 1) := dk_42 (dk_at dksX6_type_3 11 rfl rfl)
theorem dX6_type_83 : decode cX6_type 83 = .ok (.getfield 119, 3) := dk_180 0 119 (dk_at dksX6_type_3 12 rfl rfl)
theorem dX6_type_86 : decode cX6_type 86 = .ok (.lload_n 1, 1) := dk_31 (dk_at dksX6_type_3 15 rfl rfl)
theorem dX6_type_87 : decode cX6_type 87 = .ok (.bipush 8, 2) := dk_16 8 (dk_at dksX6_type_3 16 rfl rfl)
theorem dX6_type_89 : decode cX6_type 89 = .ok (.iload 4, 2) := dk_21 4 (dk_at dksX6_type_3 18 rfl rfl)
theorem dX6_type_91 : decode cX6_type 91 = .ok (.imul, 1) := dk_104 (dk_at dksX6_type_3 20 rfl rfl)
theorem dX6_type_92 : decode cX6_type 92 = .ok (.lshr, 1) := dk_123 (dk_at dksX6_type_3 21 rfl rfl)
theorem dX6_type_93 : decode cX6_type 93 = .ok (.ldc2_w 113, 3) := dk_20 0 113 (dk_at dksX6_type_4 0 rfl rfl)
theorem dX6_type_96 : decode cX6_type 96 = .ok (.land, 1) := dk_127 (dk_at dksX6_type_4 3 rfl rfl)
theorem dX6_type_97 : decode cX6_type 97 = .ok (.l2i, 1) := dk_136 (dk_at dksX6_type_4 4 rfl rfl)
theorem dX6_type_98 : decode cX6_type 98 = .ok (.iastore, 1) := dk_79 (dk_at dksX6_type_4 5 rfl rfl)
theorem dX6_type_99 : decode cX6_type 99 = .ok (.aload_n 0, 1) := dk_42 (dk_at dksX6_type_4 6 rfl rfl)
theorem dX6_type_100 : decode cX6_type 100 = .ok (.dup, 1) := dk_89 (dk_at dksX6_type_4 7 rfl rfl)
theorem dX6_type_101 : decode cX6_type 101 = .ok (.getfield 119, 3) := dk_180 0 119 (dk_at dksX6_type_4 8 rfl rfl)
theorem dX6_type_104 : decode cX6_type 104 = .ok (.iconst 1, 1) := dk_4 (dk_at dksX6_type_4 11 rfl rfl)
theorem dX6_type_105 : decode cX6_type 105 = .ok (.iadd, 1) := dk_96 (dk_at dksX6_type_4 12 rfl rfl)
theorem dX6_type_106 : decode cX6_type 106 = .ok (.putfield 119, 3) := dk_181 0 119 (dk_at dksX6_type_4 13 rfl rfl)
theorem dX6_type_109 : decode cX6_type 109 = .ok (.iinc 4 (-1), 3) := dk_132 4 255 (dk_at dksX6_type_4 16 rfl rfl)
theorem dX6_type_112 : decode cX6_type 112 = .ok (.goto (-39), 3) := dk_167 255 217 (dk_at dksX6_type_4 19 rfl rfl)
theorem dX6_type_115 : decode cX6_type 115 = .ok (.aload_n 0, 1) := dk_42 (dk_at dksX6_type_4 22 rfl rfl)
theorem dX6_type_116 : decode cX6_type 116 = .ok (.getfield 119, 3) := dk_180 0 119 (dk_at dksX6_type_5 0 rfl rfl)
theorem dX6_type_119 : decode cX6_type 119 = .ok (.ireturn, 1) := dk_172 (dk_at dksX6_type_5 3 rfl rfl)
abbrev cX6_routine : ByteArray := prog_11_method_26_code
def yX6_routine : MethodName := ⟨RX6, "routine", "()I"⟩
def dkwX6_routine_5 : List UInt8 := [27, 172]
abbrev dktX6_routine_5 : List UInt8 := dkwX6_routine_5 ++ []
def dkwX6_routine_4 : List UInt8 := [180, 0, 13, 42, 180, 0, 34, 28, 46, 42, 180, 0, 34, 28, 8, 96, 46, 79, 132, 2, 6, 167, 255, 150]
abbrev dktX6_routine_4 : List UInt8 := dkwX6_routine_4 ++ dktX6_routine_5
def dkwX6_routine_3 : List UInt8 := [96, 46, 79, 42, 180, 0, 22, 42, 180, 0, 34, 28, 46, 42, 180, 0, 34, 28, 7, 96, 46, 79, 42]
abbrev dktX6_routine_3 : List UInt8 := dkwX6_routine_3 ++ dktX6_routine_4
def dkwX6_routine_2 : List UInt8 := [180, 0, 34, 28, 5, 96, 46, 79, 42, 180, 0, 19, 42, 180, 0, 34, 28, 46, 42, 180, 0, 34, 28, 6]
abbrev dktX6_routine_2 : List UInt8 := dkwX6_routine_2 ++ dktX6_routine_3
def dkwX6_routine_1 : List UInt8 := [28, 46, 42, 180, 0, 34, 28, 4, 96, 46, 79, 42, 180, 0, 16, 42, 180, 0, 34, 28, 46, 42]
abbrev dktX6_routine_1 : List UInt8 := dkwX6_routine_1 ++ dktX6_routine_2
def dkwX6_routine_0 : List UInt8 := [42, 4, 182, 0, 157, 60, 3, 61, 28, 16, 6, 27, 104, 162, 0, 104, 42, 180, 0, 7, 42, 180, 0, 34]
abbrev dktX6_routine_0 : List UInt8 := dkwX6_routine_0 ++ dktX6_routine_1
theorem dksX6_routine_0 : cX6_routine.data.toList.drop 0 = dktX6_routine_0 := by decide +kernel
theorem dksX6_routine_1 : cX6_routine.data.toList.drop 24 = dktX6_routine_1 := dk_seg dksX6_routine_0 24 rfl rfl
theorem dksX6_routine_2 : cX6_routine.data.toList.drop 46 = dktX6_routine_2 := dk_seg dksX6_routine_1 22 rfl rfl
theorem dksX6_routine_3 : cX6_routine.data.toList.drop 70 = dktX6_routine_3 := dk_seg dksX6_routine_2 24 rfl rfl
theorem dksX6_routine_4 : cX6_routine.data.toList.drop 93 = dktX6_routine_4 := dk_seg dksX6_routine_3 23 rfl rfl
theorem dksX6_routine_5 : cX6_routine.data.toList.drop 117 = dktX6_routine_5 := dk_seg dksX6_routine_4 24 rfl rfl
theorem dX6_routine_0 : decode cX6_routine 0 = .ok (.aload_n 0, 1) := dk_42 (dk_at dksX6_routine_0 0 rfl rfl)
theorem dX6_routine_1 : decode cX6_routine 1 = .ok (.iconst 1, 1) := dk_4 (dk_at dksX6_routine_0 1 rfl rfl)
theorem dX6_routine_2 : decode cX6_routine 2 = .ok (.invokevirtual 157, 3) := dk_182 0 157 (dk_at dksX6_routine_0 2 rfl rfl)
theorem dX6_routine_5 : decode cX6_routine 5 = .ok (.istore_n 1, 1) := dk_60 (dk_at dksX6_routine_0 5 rfl rfl)
theorem dX6_routine_6 : decode cX6_routine 6 = .ok (.iconst 0, 1) := dk_3 (dk_at dksX6_routine_0 6 rfl rfl)
theorem dX6_routine_7 : decode cX6_routine 7 = .ok (.istore_n 2, 1) := dk_61 (dk_at dksX6_routine_0 7 rfl rfl)
theorem dX6_routine_8 : decode cX6_routine 8 = .ok (.iload_n 2, 1) := dk_28 (dk_at dksX6_routine_0 8 rfl rfl)
theorem dX6_routine_9 : decode cX6_routine 9 = .ok (.bipush 6, 2) := dk_16 6 (dk_at dksX6_routine_0 9 rfl rfl)
theorem dX6_routine_11 : decode cX6_routine 11 = .ok (.iload_n 1, 1) := dk_27 (dk_at dksX6_routine_0 11 rfl rfl)
theorem dX6_routine_12 : decode cX6_routine 12 = .ok (.imul, 1) := dk_104 (dk_at dksX6_routine_0 12 rfl rfl)
theorem dX6_routine_13 : decode cX6_routine 13 = .ok (.if_icmp .ge 104, 3) := dk_162 0 104 (dk_at dksX6_routine_0 13 rfl rfl)
theorem dX6_routine_16 : decode cX6_routine 16 = .ok (.aload_n 0, 1) := dk_42 (dk_at dksX6_routine_0 16 rfl rfl)
theorem dX6_routine_17 : decode cX6_routine 17 = .ok (.getfield 7, 3) := dk_180 0 7 (dk_at dksX6_routine_0 17 rfl rfl)
theorem dX6_routine_20 : decode cX6_routine 20 = .ok (.aload_n 0, 1) := dk_42 (dk_at dksX6_routine_0 20 rfl rfl)
theorem dX6_routine_21 : decode cX6_routine 21 = .ok (.getfield 34, 3) := dk_180 0 34 (dk_at dksX6_routine_0 21 rfl rfl)
theorem dX6_routine_24 : decode cX6_routine 24 = .ok (.iload_n 2, 1) := dk_28 (dk_at dksX6_routine_1 0 rfl rfl)
theorem dX6_routine_25 : decode cX6_routine 25 = .ok (.iaload, 1) := dk_46 (dk_at dksX6_routine_1 1 rfl rfl)
theorem dX6_routine_26 : decode cX6_routine 26 = .ok (.aload_n 0, 1) := dk_42 (dk_at dksX6_routine_1 2 rfl rfl)
theorem dX6_routine_27 : decode cX6_routine 27 = .ok (.getfield 34, 3) := dk_180 0 34 (dk_at dksX6_routine_1 3 rfl rfl)
theorem dX6_routine_30 : decode cX6_routine 30 = .ok (.iload_n 2, 1) := dk_28 (dk_at dksX6_routine_1 6 rfl rfl)
theorem dX6_routine_31 : decode cX6_routine 31 = .ok (.iconst 1, 1) := dk_4 (dk_at dksX6_routine_1 7 rfl rfl)
theorem dX6_routine_32 : decode cX6_routine 32 = .ok (.iadd, 1) := dk_96 (dk_at dksX6_routine_1 8 rfl rfl)
theorem dX6_routine_33 : decode cX6_routine 33 = .ok (.iaload, 1) := dk_46 (dk_at dksX6_routine_1 9 rfl rfl)
theorem dX6_routine_34 : decode cX6_routine 34 = .ok (.iastore, 1) := dk_79 (dk_at dksX6_routine_1 10 rfl rfl)
theorem dX6_routine_35 : decode cX6_routine 35 = .ok (.aload_n 0, 1) := dk_42 (dk_at dksX6_routine_1 11 rfl rfl)
theorem dX6_routine_36 : decode cX6_routine 36 = .ok (.getfield 16, 3) := dk_180 0 16 (dk_at dksX6_routine_1 12 rfl rfl)
theorem dX6_routine_39 : decode cX6_routine 39 = .ok (.aload_n 0, 1) := dk_42 (dk_at dksX6_routine_1 15 rfl rfl)
theorem dX6_routine_40 : decode cX6_routine 40 = .ok (.getfield 34, 3) := dk_180 0 34 (dk_at dksX6_routine_1 16 rfl rfl)
theorem dX6_routine_43 : decode cX6_routine 43 = .ok (.iload_n 2, 1) := dk_28 (dk_at dksX6_routine_1 19 rfl rfl)
theorem dX6_routine_44 : decode cX6_routine 44 = .ok (.iaload, 1) := dk_46 (dk_at dksX6_routine_1 20 rfl rfl)
theorem dX6_routine_45 : decode cX6_routine 45 = .ok (.aload_n 0, 1) := dk_42 (dk_at dksX6_routine_1 21 rfl rfl)
theorem dX6_routine_46 : decode cX6_routine 46 = .ok (.getfield 34, 3) := dk_180 0 34 (dk_at dksX6_routine_2 0 rfl rfl)
theorem dX6_routine_49 : decode cX6_routine 49 = .ok (.iload_n 2, 1) := dk_28 (dk_at dksX6_routine_2 3 rfl rfl)
theorem dX6_routine_50 : decode cX6_routine 50 = .ok (.iconst 2, 1) := dk_5 (dk_at dksX6_routine_2 4 rfl rfl)
theorem dX6_routine_51 : decode cX6_routine 51 = .ok (.iadd, 1) := dk_96 (dk_at dksX6_routine_2 5 rfl rfl)
theorem dX6_routine_52 : decode cX6_routine 52 = .ok (.iaload, 1) := dk_46 (dk_at dksX6_routine_2 6 rfl rfl)
theorem dX6_routine_53 : decode cX6_routine 53 = .ok (.iastore, 1) := dk_79 (dk_at dksX6_routine_2 7 rfl rfl)
theorem dX6_routine_54 : decode cX6_routine 54 = .ok (.aload_n 0, 1) := dk_42 (dk_at dksX6_routine_2 8 rfl rfl)
theorem dX6_routine_55 : decode cX6_routine 55 = .ok (.getfield 19, 3) := dk_180 0 19 (dk_at dksX6_routine_2 9 rfl rfl)
theorem dX6_routine_58 : decode cX6_routine 58 = .ok (.aload_n 0, 1) := dk_42 (dk_at dksX6_routine_2 12 rfl rfl)
theorem dX6_routine_59 : decode cX6_routine 59 = .ok (.getfield 34, 3) := dk_180 0 34 (dk_at dksX6_routine_2 13 rfl rfl)
theorem dX6_routine_62 : decode cX6_routine 62 = .ok (.iload_n 2, 1) := dk_28 (dk_at dksX6_routine_2 16 rfl rfl)
theorem dX6_routine_63 : decode cX6_routine 63 = .ok (.iaload, 1) := dk_46 (dk_at dksX6_routine_2 17 rfl rfl)
theorem dX6_routine_64 : decode cX6_routine 64 = .ok (.aload_n 0, 1) := dk_42 (dk_at dksX6_routine_2 18 rfl rfl)
theorem dX6_routine_65 : decode cX6_routine 65 = .ok (.getfield 34, 3) := dk_180 0 34 (dk_at dksX6_routine_2 19 rfl rfl)
theorem dX6_routine_68 : decode cX6_routine 68 = .ok (.iload_n 2, 1) := dk_28 (dk_at dksX6_routine_2 22 rfl rfl)
theorem dX6_routine_69 : decode cX6_routine 69 = .ok (.iconst 3, 1) := dk_6 (dk_at dksX6_routine_2 23 rfl rfl)
theorem dX6_routine_70 : decode cX6_routine 70 = .ok (.iadd, 1) := dk_96 (dk_at dksX6_routine_3 0 rfl rfl)
theorem dX6_routine_71 : decode cX6_routine 71 = .ok (.iaload, 1) := dk_46 (dk_at dksX6_routine_3 1 rfl rfl)
theorem dX6_routine_72 : decode cX6_routine 72 = .ok (.iastore, 1) := dk_79 (dk_at dksX6_routine_3 2 rfl rfl)
theorem dX6_routine_73 : decode cX6_routine 73 = .ok (.aload_n 0, 1) := dk_42 (dk_at dksX6_routine_3 3 rfl rfl)
theorem dX6_routine_74 : decode cX6_routine 74 = .ok (.getfield 22, 3) := dk_180 0 22 (dk_at dksX6_routine_3 4 rfl rfl)
theorem dX6_routine_77 : decode cX6_routine 77 = .ok (.aload_n 0, 1) := dk_42 (dk_at dksX6_routine_3 7 rfl rfl)
theorem dX6_routine_78 : decode cX6_routine 78 = .ok (.getfield 34, 3) := dk_180 0 34 (dk_at dksX6_routine_3 8 rfl rfl)
theorem dX6_routine_81 : decode cX6_routine 81 = .ok (.iload_n 2, 1) := dk_28 (dk_at dksX6_routine_3 11 rfl rfl)
theorem dX6_routine_82 : decode cX6_routine 82 = .ok (.iaload, 1) := dk_46 (dk_at dksX6_routine_3 12 rfl rfl)
theorem dX6_routine_83 : decode cX6_routine 83 = .ok (.aload_n 0, 1) := dk_42 (dk_at dksX6_routine_3 13 rfl rfl)
theorem dX6_routine_84 : decode cX6_routine 84 = .ok (.getfield 34, 3) := dk_180 0 34 (dk_at dksX6_routine_3 14 rfl rfl)
theorem dX6_routine_87 : decode cX6_routine 87 = .ok (.iload_n 2, 1) := dk_28 (dk_at dksX6_routine_3 17 rfl rfl)
theorem dX6_routine_88 : decode cX6_routine 88 = .ok (.iconst 4, 1) := dk_7 (dk_at dksX6_routine_3 18 rfl rfl)
theorem dX6_routine_89 : decode cX6_routine 89 = .ok (.iadd, 1) := dk_96 (dk_at dksX6_routine_3 19 rfl rfl)
theorem dX6_routine_90 : decode cX6_routine 90 = .ok (.iaload, 1) := dk_46 (dk_at dksX6_routine_3 20 rfl rfl)
theorem dX6_routine_91 : decode cX6_routine 91 = .ok (.iastore, 1) := dk_79 (dk_at dksX6_routine_3 21 rfl rfl)
theorem dX6_routine_92 : decode cX6_routine 92 = .ok (.aload_n 0, 1) := dk_42 (dk_at dksX6_routine_3 22 rfl rfl)
theorem dX6_routine_93 : decode cX6_routine 93 = .ok (.getfield 13, 3) := dk_180 0 13 (dk_at dksX6_routine_4 0 rfl rfl)
theorem dX6_routine_96 : decode cX6_routine 96 = .ok (.aload_n 0, 1) := dk_42 (dk_at dksX6_routine_4 3 rfl rfl)
theorem dX6_routine_97 : decode cX6_routine 97 = .ok (.getfield 34, 3) := dk_180 0 34 (dk_at dksX6_routine_4 4 rfl rfl)
theorem dX6_routine_100 : decode cX6_routine 100 = .ok (.iload_n 2, 1) := dk_28 (dk_at dksX6_routine_4 7 rfl rfl)
theorem dX6_routine_101 : decode cX6_routine 101 = .ok (.iaload, 1) := dk_46 (dk_at dksX6_routine_4 8 rfl rfl)
theorem dX6_routine_102 : decode cX6_routine 102 = .ok (.aload_n 0, 1) := dk_42 (dk_at dksX6_routine_4 9 rfl rfl)
theorem dX6_routine_103 : decode cX6_routine 103 = .ok (.getfield 34, 3) := dk_180 0 34 (dk_at dksX6_routine_4 10 rfl rfl)
theorem dX6_routine_106 : decode cX6_routine 106 = .ok (.iload_n 2, 1) := dk_28 (dk_at dksX6_routine_4 13 rfl rfl)
theorem dX6_routine_107 : decode cX6_routine 107 = .ok (.iconst 5, 1) := dk_8 (dk_at dksX6_routine_4 14 rfl rfl)
theorem dX6_routine_108 : decode cX6_routine 108 = .ok (.iadd, 1) := dk_96 (dk_at dksX6_routine_4 15 rfl rfl)
theorem dX6_routine_109 : decode cX6_routine 109 = .ok (.iaload, 1) := dk_46 (dk_at dksX6_routine_4 16 rfl rfl)
theorem dX6_routine_110 : decode cX6_routine 110 = .ok (.iastore, 1) := dk_79 (dk_at dksX6_routine_4 17 rfl rfl)
theorem dX6_routine_111 : decode cX6_routine 111 = .ok (.iinc 2 6, 3) := dk_132 2 6 (dk_at dksX6_routine_4 18 rfl rfl)
theorem dX6_routine_114 : decode cX6_routine 114 = .ok (.goto (-106), 3) := dk_167 255 150 (dk_at dksX6_routine_4 21 rfl rfl)
theorem dX6_routine_117 : decode cX6_routine 117 = .ok (.iload_n 1, 1) := dk_27 (dk_at dksX6_routine_5 0 rfl rfl)
theorem dX6_routine_118 : decode cX6_routine 118 = .ok (.ireturn, 1) := dk_172 (dk_at dksX6_routine_5 1 rfl rfl)
abbrev cX6_readAll : ByteArray := prog_11_method_25_code
def yX6_readAll : MethodName := ⟨RX6, "readAll", "(Z)I"⟩
def dkwX6_readAll_4 : List UInt8 := [181, 0, 119, 42, 180, 0, 125, 153, 0, 13, 16, 236, 42, 180, 0, 122, 100, 167, 0, 4, 28, 172]
abbrev dktX6_readAll_4 : List UInt8 := dkwX6_readAll_4 ++ []
def dkwX6_readAll_3 : List UInt8 := [180, 0, 125, 154, 0, 10, 42, 182, 0, 129, 153, 0, 7, 4, 167, 0, 4, 3, 181, 0, 125, 42, 3]
abbrev dktX6_readAll_3 : List UInt8 := dkwX6_readAll_3 ++ dktX6_readAll_4
def dkwX6_readAll_2 : List UInt8 := [162, 0, 16, 42, 16, 59, 182, 0, 144, 153, 0, 7, 4, 167, 0, 4, 3, 62, 167, 255, 205, 42, 42]
abbrev dktX6_readAll_2 : List UInt8 := dkwX6_readAll_2 ++ dktX6_readAll_3
def dkwX6_readAll_1 : List UInt8 := [16, 6, 28, 104, 182, 0, 150, 167, 0, 11, 42, 16, 6, 28, 104, 182, 0, 154, 132, 2, 1, 28, 16, 8]
abbrev dktX6_readAll_1 : List UInt8 := dkwX6_readAll_1 ++ dktX6_readAll_2
def dkwX6_readAll_0 : List UInt8 := [42, 3, 181, 0, 122, 42, 3, 181, 0, 125, 3, 61, 4, 62, 29, 153, 0, 53, 27, 153, 0, 14, 42]
abbrev dktX6_readAll_0 : List UInt8 := dkwX6_readAll_0 ++ dktX6_readAll_1
theorem dksX6_readAll_0 : cX6_readAll.data.toList.drop 0 = dktX6_readAll_0 := by decide +kernel
theorem dksX6_readAll_1 : cX6_readAll.data.toList.drop 23 = dktX6_readAll_1 := dk_seg dksX6_readAll_0 23 rfl rfl
theorem dksX6_readAll_2 : cX6_readAll.data.toList.drop 47 = dktX6_readAll_2 := dk_seg dksX6_readAll_1 24 rfl rfl
theorem dksX6_readAll_3 : cX6_readAll.data.toList.drop 70 = dktX6_readAll_3 := dk_seg dksX6_readAll_2 23 rfl rfl
theorem dksX6_readAll_4 : cX6_readAll.data.toList.drop 93 = dktX6_readAll_4 := dk_seg dksX6_readAll_3 23 rfl rfl
theorem dX6_readAll_0 : decode cX6_readAll 0 = .ok (.aload_n 0, 1) := dk_42 (dk_at dksX6_readAll_0 0 rfl rfl)
theorem dX6_readAll_1 : decode cX6_readAll 1 = .ok (.iconst 0, 1) := dk_3 (dk_at dksX6_readAll_0 1 rfl rfl)
theorem dX6_readAll_2 : decode cX6_readAll 2 = .ok (.putfield 122, 3) := dk_181 0 122 (dk_at dksX6_readAll_0 2 rfl rfl)
theorem dX6_readAll_5 : decode cX6_readAll 5 = .ok (.aload_n 0, 1) := dk_42 (dk_at dksX6_readAll_0 5 rfl rfl)
theorem dX6_readAll_6 : decode cX6_readAll 6 = .ok (.iconst 0, 1) := dk_3 (dk_at dksX6_readAll_0 6 rfl rfl)
theorem dX6_readAll_7 : decode cX6_readAll 7 = .ok (.putfield 125, 3) := dk_181 0 125 (dk_at dksX6_readAll_0 7 rfl rfl)
theorem dX6_readAll_10 : decode cX6_readAll 10 = .ok (.iconst 0, 1) := dk_3 (dk_at dksX6_readAll_0 10 rfl rfl)
theorem dX6_readAll_11 : decode cX6_readAll 11 = .ok (.istore_n 2, 1) := dk_61 (dk_at dksX6_readAll_0 11 rfl rfl)
theorem dX6_readAll_12 : decode cX6_readAll 12 = .ok (.iconst 1, 1) := dk_4 (dk_at dksX6_readAll_0 12 rfl rfl)
theorem dX6_readAll_13 : decode cX6_readAll 13 = .ok (.istore_n 3, 1) := dk_62 (dk_at dksX6_readAll_0 13 rfl rfl)
theorem dX6_readAll_14 : decode cX6_readAll 14 = .ok (.iload_n 3, 1) := dk_29 (dk_at dksX6_readAll_0 14 rfl rfl)
theorem dX6_readAll_15 : decode cX6_readAll 15 = .ok (.ifCond .eq 53, 3) := dk_153 0 53 (dk_at dksX6_readAll_0 15 rfl rfl)
theorem dX6_readAll_18 : decode cX6_readAll 18 = .ok (.iload_n 1, 1) := dk_27 (dk_at dksX6_readAll_0 18 rfl rfl)
theorem dX6_readAll_19 : decode cX6_readAll 19 = .ok (.ifCond .eq 14, 3) := dk_153 0 14 (dk_at dksX6_readAll_0 19 rfl rfl)
theorem dX6_readAll_22 : decode cX6_readAll 22 = .ok (.aload_n 0, 1) := dk_42 (dk_at dksX6_readAll_0 22 rfl rfl)
theorem dX6_readAll_23 : decode cX6_readAll 23 = .ok (.bipush 6, 2) := dk_16 6 (dk_at dksX6_readAll_1 0 rfl rfl)
theorem dX6_readAll_25 : decode cX6_readAll 25 = .ok (.iload_n 2, 1) := dk_28 (dk_at dksX6_readAll_1 2 rfl rfl)
theorem dX6_readAll_26 : decode cX6_readAll 26 = .ok (.imul, 1) := dk_104 (dk_at dksX6_readAll_1 3 rfl rfl)
theorem dX6_readAll_27 : decode cX6_readAll 27 = .ok (.invokevirtual 150, 3) := dk_182 0 150 (dk_at dksX6_readAll_1 4 rfl rfl)
theorem dX6_readAll_30 : decode cX6_readAll 30 = .ok (.goto 11, 3) := dk_167 0 11 (dk_at dksX6_readAll_1 7 rfl rfl)
theorem dX6_readAll_33 : decode cX6_readAll 33 = .ok (.aload_n 0, 1) := dk_42 (dk_at dksX6_readAll_1 10 rfl rfl)
theorem dX6_readAll_34 : decode cX6_readAll 34 = .ok (.bipush 6, 2) := dk_16 6 (dk_at dksX6_readAll_1 11 rfl rfl)
theorem dX6_readAll_36 : decode cX6_readAll 36 = .ok (.iload_n 2, 1) := dk_28 (dk_at dksX6_readAll_1 13 rfl rfl)
theorem dX6_readAll_37 : decode cX6_readAll 37 = .ok (.imul, 1) := dk_104 (dk_at dksX6_readAll_1 14 rfl rfl)
theorem dX6_readAll_38 : decode cX6_readAll 38 = .ok (.invokevirtual 154, 3) := dk_182 0 154 (dk_at dksX6_readAll_1 15 rfl rfl)
theorem dX6_readAll_41 : decode cX6_readAll 41 = .ok (.iinc 2 1, 3) := dk_132 2 1 (dk_at dksX6_readAll_1 18 rfl rfl)
theorem dX6_readAll_44 : decode cX6_readAll 44 = .ok (.iload_n 2, 1) := dk_28 (dk_at dksX6_readAll_1 21 rfl rfl)
theorem dX6_readAll_45 : decode cX6_readAll 45 = .ok (.bipush 8, 2) := dk_16 8 (dk_at dksX6_readAll_1 22 rfl rfl)
theorem dX6_readAll_47 : decode cX6_readAll 47 = .ok (.if_icmp .ge 16, 3) := dk_162 0 16 (dk_at dksX6_readAll_2 0 rfl rfl)
theorem dX6_readAll_50 : decode cX6_readAll 50 = .ok (.aload_n 0, 1) := dk_42 (dk_at dksX6_readAll_2 3 rfl rfl)
theorem dX6_readAll_51 : decode cX6_readAll 51 = .ok (.bipush 59, 2) := dk_16 59 (dk_at dksX6_readAll_2 4 rfl rfl)
theorem dX6_readAll_53 : decode cX6_readAll 53 = .ok (.invokevirtual 144, 3) := dk_182 0 144 (dk_at dksX6_readAll_2 6 rfl rfl)
theorem dX6_readAll_56 : decode cX6_readAll 56 = .ok (.ifCond .eq 7, 3) := dk_153 0 7 (dk_at dksX6_readAll_2 9 rfl rfl)
theorem dX6_readAll_59 : decode cX6_readAll 59 = .ok (.iconst 1, 1) := dk_4 (dk_at dksX6_readAll_2 12 rfl rfl)
theorem dX6_readAll_60 : decode cX6_readAll 60 = .ok (.goto 4, 3) := dk_167 0 4 (dk_at dksX6_readAll_2 13 rfl rfl)
theorem dX6_readAll_63 : decode cX6_readAll 63 = .ok (.iconst 0, 1) := dk_3 (dk_at dksX6_readAll_2 16 rfl rfl)
theorem dX6_readAll_64 : decode cX6_readAll 64 = .ok (.istore_n 3, 1) := dk_62 (dk_at dksX6_readAll_2 17 rfl rfl)
theorem dX6_readAll_65 : decode cX6_readAll 65 = .ok (.goto (-51), 3) := dk_167 255 205 (dk_at dksX6_readAll_2 18 rfl rfl)
theorem dX6_readAll_68 : decode cX6_readAll 68 = .ok (.aload_n 0, 1) := dk_42 (dk_at dksX6_readAll_2 21 rfl rfl)
theorem dX6_readAll_69 : decode cX6_readAll 69 = .ok (.aload_n 0, 1) := dk_42 (dk_at dksX6_readAll_2 22 rfl rfl)
theorem dX6_readAll_70 : decode cX6_readAll 70 = .ok (.getfield 125, 3) := dk_180 0 125 (dk_at dksX6_readAll_3 0 rfl rfl)
theorem dX6_readAll_73 : decode cX6_readAll 73 = .ok (.ifCond .ne 10, 3) := dk_154 0 10 (dk_at dksX6_readAll_3 3 rfl rfl)
theorem dX6_readAll_76 : decode cX6_readAll 76 = .ok (.aload_n 0, 1) := dk_42 (dk_at dksX6_readAll_3 6 rfl rfl)
theorem dX6_readAll_77 : decode cX6_readAll 77 = .ok (.invokevirtual 129, 3) := dk_182 0 129 (dk_at dksX6_readAll_3 7 rfl rfl)
theorem dX6_readAll_80 : decode cX6_readAll 80 = .ok (.ifCond .eq 7, 3) := dk_153 0 7 (dk_at dksX6_readAll_3 10 rfl rfl)
theorem dX6_readAll_83 : decode cX6_readAll 83 = .ok (.iconst 1, 1) := dk_4 (dk_at dksX6_readAll_3 13 rfl rfl)
theorem dX6_readAll_84 : decode cX6_readAll 84 = .ok (.goto 4, 3) := dk_167 0 4 (dk_at dksX6_readAll_3 14 rfl rfl)
theorem dX6_readAll_87 : decode cX6_readAll 87 = .ok (.iconst 0, 1) := dk_3 (dk_at dksX6_readAll_3 17 rfl rfl)
theorem dX6_readAll_88 : decode cX6_readAll 88 = .ok (.putfield 125, 3) := dk_181 0 125 (dk_at dksX6_readAll_3 18 rfl rfl)
theorem dX6_readAll_91 : decode cX6_readAll 91 = .ok (.aload_n 0, 1) := dk_42 (dk_at dksX6_readAll_3 21 rfl rfl)
theorem dX6_readAll_92 : decode cX6_readAll 92 = .ok (.iconst 0, 1) := dk_3 (dk_at dksX6_readAll_3 22 rfl rfl)
theorem dX6_readAll_93 : decode cX6_readAll 93 = .ok (.putfield 119, 3) := dk_181 0 119 (dk_at dksX6_readAll_4 0 rfl rfl)
theorem dX6_readAll_96 : decode cX6_readAll 96 = .ok (.aload_n 0, 1) := dk_42 (dk_at dksX6_readAll_4 3 rfl rfl)
theorem dX6_readAll_97 : decode cX6_readAll 97 = .ok (.getfield 125, 3) := dk_180 0 125 (dk_at dksX6_readAll_4 4 rfl rfl)
theorem dX6_readAll_100 : decode cX6_readAll 100 = .ok (.ifCond .eq 13, 3) := dk_153 0 13 (dk_at dksX6_readAll_4 7 rfl rfl)
theorem dX6_readAll_103 : decode cX6_readAll 103 = .ok (.bipush (-20), 2) := dk_16 236 (dk_at dksX6_readAll_4 10 rfl rfl)
theorem dX6_readAll_105 : decode cX6_readAll 105 = .ok (.aload_n 0, 1) := dk_42 (dk_at dksX6_readAll_4 12 rfl rfl)
theorem dX6_readAll_106 : decode cX6_readAll 106 = .ok (.getfield 122, 3) := dk_180 0 122 (dk_at dksX6_readAll_4 13 rfl rfl)
theorem dX6_readAll_109 : decode cX6_readAll 109 = .ok (.isub, 1) := dk_100 (dk_at dksX6_readAll_4 16 rfl rfl)
theorem dX6_readAll_110 : decode cX6_readAll 110 = .ok (.goto 4, 3) := dk_167 0 4 (dk_at dksX6_readAll_4 17 rfl rfl)
theorem dX6_readAll_113 : decode cX6_readAll 113 = .ok (.iload_n 2, 1) := dk_28 (dk_at dksX6_readAll_4 20 rfl rfl)
theorem dX6_readAll_114 : decode cX6_readAll 114 = .ok (.ireturn, 1) := dk_172 (dk_at dksX6_readAll_4 21 rfl rfl)
abbrev cX6_beatClause : ByteArray := prog_11_method_23_code
def yX6_beatClause : MethodName := ⟨RX6, "beatClause", "(I)V"⟩
def dkwX6_beatClause_6 : List UInt8 := [182, 0, 144, 153, 0, 10, 42, 182, 0, 147, 167, 0, 4, 3, 79, 177]
abbrev dktX6_beatClause_6 : List UInt8 := dkwX6_beatClause_6 ++ []
def dkwX6_beatClause_5 : List UInt8 := [182, 0, 144, 153, 0, 7, 4, 167, 0, 4, 3, 79, 42, 180, 0, 34, 27, 8, 96, 42, 16, 120]
abbrev dktX6_beatClause_5 : List UInt8 := dkwX6_beatClause_5 ++ dktX6_beatClause_6
def dkwX6_beatClause_4 : List UInt8 := [153, 0, 12, 42, 3, 6, 182, 0, 137, 167, 0, 4, 2, 79, 42, 180, 0, 34, 27, 7, 96, 42, 16, 106]
abbrev dktX6_beatClause_4 : List UInt8 := dkwX6_beatClause_4 ++ dktX6_beatClause_5
def dkwX6_beatClause_3 : List UInt8 := [42, 3, 6, 182, 0, 137, 167, 0, 4, 2, 79, 42, 180, 0, 34, 27, 6, 96, 42, 16, 110, 182, 0, 144]
abbrev dktX6_beatClause_3 : List UInt8 := dkwX6_beatClause_3 ++ dktX6_beatClause_4
def dkwX6_beatClause_2 : List UInt8 := [182, 0, 147, 167, 0, 4, 3, 79, 42, 180, 0, 34, 27, 5, 96, 42, 16, 108, 182, 0, 144, 153, 0, 12]
abbrev dktX6_beatClause_2 : List UInt8 := dkwX6_beatClause_2 ++ dktX6_beatClause_3
def dkwX6_beatClause_1 : List UInt8 := [167, 0, 4, 3, 181, 0, 125, 42, 180, 0, 34, 27, 4, 96, 42, 16, 109, 182, 0, 144, 153, 0, 10, 42]
abbrev dktX6_beatClause_1 : List UInt8 := dkwX6_beatClause_1 ++ dktX6_beatClause_2
def dkwX6_beatClause_0 : List UInt8 := [42, 180, 0, 34, 27, 42, 16, 15, 182, 0, 140, 79, 42, 42, 16, 58, 182, 0, 144, 154, 0, 7, 4]
abbrev dktX6_beatClause_0 : List UInt8 := dkwX6_beatClause_0 ++ dktX6_beatClause_1
theorem dksX6_beatClause_0 : cX6_beatClause.data.toList.drop 0 = dktX6_beatClause_0 := by decide +kernel
theorem dksX6_beatClause_1 : cX6_beatClause.data.toList.drop 23 = dktX6_beatClause_1 := dk_seg dksX6_beatClause_0 23 rfl rfl
theorem dksX6_beatClause_2 : cX6_beatClause.data.toList.drop 47 = dktX6_beatClause_2 := dk_seg dksX6_beatClause_1 24 rfl rfl
theorem dksX6_beatClause_3 : cX6_beatClause.data.toList.drop 71 = dktX6_beatClause_3 := dk_seg dksX6_beatClause_2 24 rfl rfl
theorem dksX6_beatClause_4 : cX6_beatClause.data.toList.drop 95 = dktX6_beatClause_4 := dk_seg dksX6_beatClause_3 24 rfl rfl
theorem dksX6_beatClause_5 : cX6_beatClause.data.toList.drop 119 = dktX6_beatClause_5 := dk_seg dksX6_beatClause_4 24 rfl rfl
theorem dksX6_beatClause_6 : cX6_beatClause.data.toList.drop 141 = dktX6_beatClause_6 := dk_seg dksX6_beatClause_5 22 rfl rfl
theorem dX6_beatClause_0 : decode cX6_beatClause 0 = .ok (.aload_n 0, 1) := dk_42 (dk_at dksX6_beatClause_0 0 rfl rfl)
theorem dX6_beatClause_1 : decode cX6_beatClause 1 = .ok (.getfield 34, 3) := dk_180 0 34 (dk_at dksX6_beatClause_0 1 rfl rfl)
theorem dX6_beatClause_4 : decode cX6_beatClause 4 = .ok (.iload_n 1, 1) := dk_27 (dk_at dksX6_beatClause_0 4 rfl rfl)
theorem dX6_beatClause_5 : decode cX6_beatClause 5 = .ok (.aload_n 0, 1) := dk_42 (dk_at dksX6_beatClause_0 5 rfl rfl)
theorem dX6_beatClause_6 : decode cX6_beatClause 6 = .ok (.bipush 15, 2) := dk_16 15 (dk_at dksX6_beatClause_0 6 rfl rfl)
theorem dX6_beatClause_8 : decode cX6_beatClause 8 = .ok (.invokevirtual 140, 3) := dk_182 0 140 (dk_at dksX6_beatClause_0 8 rfl rfl)
theorem dX6_beatClause_11 : decode cX6_beatClause 11 = .ok (.iastore, 1) := dk_79 (dk_at dksX6_beatClause_0 11 rfl rfl)
theorem dX6_beatClause_12 : decode cX6_beatClause 12 = .ok (.aload_n 0, 1) := dk_42 (dk_at dksX6_beatClause_0 12 rfl rfl)
theorem dX6_beatClause_13 : decode cX6_beatClause 13 = .ok (.aload_n 0, 1) := dk_42 (dk_at dksX6_beatClause_0 13 rfl rfl)
theorem dX6_beatClause_14 : decode cX6_beatClause 14 = .ok (.bipush 58, 2) := dk_16 58 (dk_at dksX6_beatClause_0 14 rfl rfl)
theorem dX6_beatClause_16 : decode cX6_beatClause 16 = .ok (.invokevirtual 144, 3) := dk_182 0 144 (dk_at dksX6_beatClause_0 16 rfl rfl)
theorem dX6_beatClause_19 : decode cX6_beatClause 19 = .ok (.ifCond .ne 7, 3) := dk_154 0 7 (dk_at dksX6_beatClause_0 19 rfl rfl)
theorem dX6_beatClause_22 : decode cX6_beatClause 22 = .ok (.iconst 1, 1) := dk_4 (dk_at dksX6_beatClause_0 22 rfl rfl)
theorem dX6_beatClause_23 : decode cX6_beatClause 23 = .ok (.goto 4, 3) := dk_167 0 4 (dk_at dksX6_beatClause_1 0 rfl rfl)
theorem dX6_beatClause_26 : decode cX6_beatClause 26 = .ok (.iconst 0, 1) := dk_3 (dk_at dksX6_beatClause_1 3 rfl rfl)
theorem dX6_beatClause_27 : decode cX6_beatClause 27 = .ok (.putfield 125, 3) := dk_181 0 125 (dk_at dksX6_beatClause_1 4 rfl rfl)
theorem dX6_beatClause_30 : decode cX6_beatClause 30 = .ok (.aload_n 0, 1) := dk_42 (dk_at dksX6_beatClause_1 7 rfl rfl)
theorem dX6_beatClause_31 : decode cX6_beatClause 31 = .ok (.getfield 34, 3) := dk_180 0 34 (dk_at dksX6_beatClause_1 8 rfl rfl)
theorem dX6_beatClause_34 : decode cX6_beatClause 34 = .ok (.iload_n 1, 1) := dk_27 (dk_at dksX6_beatClause_1 11 rfl rfl)
theorem dX6_beatClause_35 : decode cX6_beatClause 35 = .ok (.iconst 1, 1) := dk_4 (dk_at dksX6_beatClause_1 12 rfl rfl)
theorem dX6_beatClause_36 : decode cX6_beatClause 36 = .ok (.iadd, 1) := dk_96 (dk_at dksX6_beatClause_1 13 rfl rfl)
theorem dX6_beatClause_37 : decode cX6_beatClause 37 = .ok (.aload_n 0, 1) := dk_42 (dk_at dksX6_beatClause_1 14 rfl rfl)
theorem dX6_beatClause_38 : decode cX6_beatClause 38 = .ok (.bipush 109, 2) := dk_16 109 (dk_at dksX6_beatClause_1 15 rfl rfl)
theorem dX6_beatClause_40 : decode cX6_beatClause 40 = .ok (.invokevirtual 144, 3) := dk_182 0 144 (dk_at dksX6_beatClause_1 17 rfl rfl)
theorem dX6_beatClause_43 : decode cX6_beatClause 43 = .ok (.ifCond .eq 10, 3) := dk_153 0 10 (dk_at dksX6_beatClause_1 20 rfl rfl)
theorem dX6_beatClause_46 : decode cX6_beatClause 46 = .ok (.aload_n 0, 1) := dk_42 (dk_at dksX6_beatClause_1 23 rfl rfl)
theorem dX6_beatClause_47 : decode cX6_beatClause 47 = .ok (.invokevirtual 147, 3) := dk_182 0 147 (dk_at dksX6_beatClause_2 0 rfl rfl)
theorem dX6_beatClause_50 : decode cX6_beatClause 50 = .ok (.goto 4, 3) := dk_167 0 4 (dk_at dksX6_beatClause_2 3 rfl rfl)
theorem dX6_beatClause_53 : decode cX6_beatClause 53 = .ok (.iconst 0, 1) := dk_3 (dk_at dksX6_beatClause_2 6 rfl rfl)
theorem dX6_beatClause_54 : decode cX6_beatClause 54 = .ok (.iastore, 1) := dk_79 (dk_at dksX6_beatClause_2 7 rfl rfl)
theorem dX6_beatClause_55 : decode cX6_beatClause 55 = .ok (.aload_n 0, 1) := dk_42 (dk_at dksX6_beatClause_2 8 rfl rfl)
theorem dX6_beatClause_56 : decode cX6_beatClause 56 = .ok (.getfield 34, 3) := dk_180 0 34 (dk_at dksX6_beatClause_2 9 rfl rfl)
theorem dX6_beatClause_59 : decode cX6_beatClause 59 = .ok (.iload_n 1, 1) := dk_27 (dk_at dksX6_beatClause_2 12 rfl rfl)
theorem dX6_beatClause_60 : decode cX6_beatClause 60 = .ok (.iconst 2, 1) := dk_5 (dk_at dksX6_beatClause_2 13 rfl rfl)
theorem dX6_beatClause_61 : decode cX6_beatClause 61 = .ok (.iadd, 1) := dk_96 (dk_at dksX6_beatClause_2 14 rfl rfl)
theorem dX6_beatClause_62 : decode cX6_beatClause 62 = .ok (.aload_n 0, 1) := dk_42 (dk_at dksX6_beatClause_2 15 rfl rfl)
theorem dX6_beatClause_63 : decode cX6_beatClause 63 = .ok (.bipush 108, 2) := dk_16 108 (dk_at dksX6_beatClause_2 16 rfl rfl)
theorem dX6_beatClause_65 : decode cX6_beatClause 65 = .ok (.invokevirtual 144, 3) := dk_182 0 144 (dk_at dksX6_beatClause_2 18 rfl rfl)
theorem dX6_beatClause_68 : decode cX6_beatClause 68 = .ok (.ifCond .eq 12, 3) := dk_153 0 12 (dk_at dksX6_beatClause_2 21 rfl rfl)
theorem dX6_beatClause_71 : decode cX6_beatClause 71 = .ok (.aload_n 0, 1) := dk_42 (dk_at dksX6_beatClause_3 0 rfl rfl)
theorem dX6_beatClause_72 : decode cX6_beatClause 72 = .ok (.iconst 0, 1) := dk_3 (dk_at dksX6_beatClause_3 1 rfl rfl)
theorem dX6_beatClause_73 : decode cX6_beatClause 73 = .ok (.iconst 3, 1) := dk_6 (dk_at dksX6_beatClause_3 2 rfl rfl)
theorem dX6_beatClause_74 : decode cX6_beatClause 74 = .ok (.invokevirtual 137, 3) := dk_182 0 137 (dk_at dksX6_beatClause_3 3 rfl rfl)
theorem dX6_beatClause_77 : decode cX6_beatClause 77 = .ok (.goto 4, 3) := dk_167 0 4 (dk_at dksX6_beatClause_3 6 rfl rfl)
theorem dX6_beatClause_80 : decode cX6_beatClause 80 = .ok (.iconst (-1), 1) := dk_2 (dk_at dksX6_beatClause_3 9 rfl rfl)
theorem dX6_beatClause_81 : decode cX6_beatClause 81 = .ok (.iastore, 1) := dk_79 (dk_at dksX6_beatClause_3 10 rfl rfl)
theorem dX6_beatClause_82 : decode cX6_beatClause 82 = .ok (.aload_n 0, 1) := dk_42 (dk_at dksX6_beatClause_3 11 rfl rfl)
theorem dX6_beatClause_83 : decode cX6_beatClause 83 = .ok (.getfield 34, 3) := dk_180 0 34 (dk_at dksX6_beatClause_3 12 rfl rfl)
theorem dX6_beatClause_86 : decode cX6_beatClause 86 = .ok (.iload_n 1, 1) := dk_27 (dk_at dksX6_beatClause_3 15 rfl rfl)
theorem dX6_beatClause_87 : decode cX6_beatClause 87 = .ok (.iconst 3, 1) := dk_6 (dk_at dksX6_beatClause_3 16 rfl rfl)
theorem dX6_beatClause_88 : decode cX6_beatClause 88 = .ok (.iadd, 1) := dk_96 (dk_at dksX6_beatClause_3 17 rfl rfl)
theorem dX6_beatClause_89 : decode cX6_beatClause 89 = .ok (.aload_n 0, 1) := dk_42 (dk_at dksX6_beatClause_3 18 rfl rfl)
theorem dX6_beatClause_90 : decode cX6_beatClause 90 = .ok (.bipush 110, 2) := dk_16 110 (dk_at dksX6_beatClause_3 19 rfl rfl)
theorem dX6_beatClause_92 : decode cX6_beatClause 92 = .ok (.invokevirtual 144, 3) := dk_182 0 144 (dk_at dksX6_beatClause_3 21 rfl rfl)
theorem dX6_beatClause_95 : decode cX6_beatClause 95 = .ok (.ifCond .eq 12, 3) := dk_153 0 12 (dk_at dksX6_beatClause_4 0 rfl rfl)
theorem dX6_beatClause_98 : decode cX6_beatClause 98 = .ok (.aload_n 0, 1) := dk_42 (dk_at dksX6_beatClause_4 3 rfl rfl)
theorem dX6_beatClause_99 : decode cX6_beatClause 99 = .ok (.iconst 0, 1) := dk_3 (dk_at dksX6_beatClause_4 4 rfl rfl)
theorem dX6_beatClause_100 : decode cX6_beatClause 100 = .ok (.iconst 3, 1) := dk_6 (dk_at dksX6_beatClause_4 5 rfl rfl)
theorem dX6_beatClause_101 : decode cX6_beatClause 101 = .ok (.invokevirtual 137, 3) := dk_182 0 137 (dk_at dksX6_beatClause_4 6 rfl rfl)
theorem dX6_beatClause_104 : decode cX6_beatClause 104 = .ok (.goto 4, 3) := dk_167 0 4 (dk_at dksX6_beatClause_4 9 rfl rfl)
theorem dX6_beatClause_107 : decode cX6_beatClause 107 = .ok (.iconst (-1), 1) := dk_2 (dk_at dksX6_beatClause_4 12 rfl rfl)
theorem dX6_beatClause_108 : decode cX6_beatClause 108 = .ok (.iastore, 1) := dk_79 (dk_at dksX6_beatClause_4 13 rfl rfl)
theorem dX6_beatClause_109 : decode cX6_beatClause 109 = .ok (.aload_n 0, 1) := dk_42 (dk_at dksX6_beatClause_4 14 rfl rfl)
theorem dX6_beatClause_110 : decode cX6_beatClause 110 = .ok (.getfield 34, 3) := dk_180 0 34 (dk_at dksX6_beatClause_4 15 rfl rfl)
theorem dX6_beatClause_113 : decode cX6_beatClause 113 = .ok (.iload_n 1, 1) := dk_27 (dk_at dksX6_beatClause_4 18 rfl rfl)
theorem dX6_beatClause_114 : decode cX6_beatClause 114 = .ok (.iconst 4, 1) := dk_7 (dk_at dksX6_beatClause_4 19 rfl rfl)
theorem dX6_beatClause_115 : decode cX6_beatClause 115 = .ok (.iadd, 1) := dk_96 (dk_at dksX6_beatClause_4 20 rfl rfl)
theorem dX6_beatClause_116 : decode cX6_beatClause 116 = .ok (.aload_n 0, 1) := dk_42 (dk_at dksX6_beatClause_4 21 rfl rfl)
theorem dX6_beatClause_117 : decode cX6_beatClause 117 = .ok (.bipush 106, 2) := dk_16 106 (dk_at dksX6_beatClause_4 22 rfl rfl)
theorem dX6_beatClause_119 : decode cX6_beatClause 119 = .ok (.invokevirtual 144, 3) := dk_182 0 144 (dk_at dksX6_beatClause_5 0 rfl rfl)
theorem dX6_beatClause_122 : decode cX6_beatClause 122 = .ok (.ifCond .eq 7, 3) := dk_153 0 7 (dk_at dksX6_beatClause_5 3 rfl rfl)
theorem dX6_beatClause_125 : decode cX6_beatClause 125 = .ok (.iconst 1, 1) := dk_4 (dk_at dksX6_beatClause_5 6 rfl rfl)
theorem dX6_beatClause_126 : decode cX6_beatClause 126 = .ok (.goto 4, 3) := dk_167 0 4 (dk_at dksX6_beatClause_5 7 rfl rfl)
theorem dX6_beatClause_129 : decode cX6_beatClause 129 = .ok (.iconst 0, 1) := dk_3 (dk_at dksX6_beatClause_5 10 rfl rfl)
theorem dX6_beatClause_130 : decode cX6_beatClause 130 = .ok (.iastore, 1) := dk_79 (dk_at dksX6_beatClause_5 11 rfl rfl)
theorem dX6_beatClause_131 : decode cX6_beatClause 131 = .ok (.aload_n 0, 1) := dk_42 (dk_at dksX6_beatClause_5 12 rfl rfl)
theorem dX6_beatClause_132 : decode cX6_beatClause 132 = .ok (.getfield 34, 3) := dk_180 0 34 (dk_at dksX6_beatClause_5 13 rfl rfl)
theorem dX6_beatClause_135 : decode cX6_beatClause 135 = .ok (.iload_n 1, 1) := dk_27 (dk_at dksX6_beatClause_5 16 rfl rfl)
theorem dX6_beatClause_136 : decode cX6_beatClause 136 = .ok (.iconst 5, 1) := dk_8 (dk_at dksX6_beatClause_5 17 rfl rfl)
theorem dX6_beatClause_137 : decode cX6_beatClause 137 = .ok (.iadd, 1) := dk_96 (dk_at dksX6_beatClause_5 18 rfl rfl)
theorem dX6_beatClause_138 : decode cX6_beatClause 138 = .ok (.aload_n 0, 1) := dk_42 (dk_at dksX6_beatClause_5 19 rfl rfl)
theorem dX6_beatClause_139 : decode cX6_beatClause 139 = .ok (.bipush 120, 2) := dk_16 120 (dk_at dksX6_beatClause_5 20 rfl rfl)
theorem dX6_beatClause_141 : decode cX6_beatClause 141 = .ok (.invokevirtual 144, 3) := dk_182 0 144 (dk_at dksX6_beatClause_6 0 rfl rfl)
theorem dX6_beatClause_144 : decode cX6_beatClause 144 = .ok (.ifCond .eq 10, 3) := dk_153 0 10 (dk_at dksX6_beatClause_6 3 rfl rfl)
theorem dX6_beatClause_147 : decode cX6_beatClause 147 = .ok (.aload_n 0, 1) := dk_42 (dk_at dksX6_beatClause_6 6 rfl rfl)
theorem dX6_beatClause_148 : decode cX6_beatClause 148 = .ok (.invokevirtual 147, 3) := dk_182 0 147 (dk_at dksX6_beatClause_6 7 rfl rfl)
theorem dX6_beatClause_151 : decode cX6_beatClause 151 = .ok (.goto 4, 3) := dk_167 0 4 (dk_at dksX6_beatClause_6 10 rfl rfl)
theorem dX6_beatClause_154 : decode cX6_beatClause 154 = .ok (.iconst 0, 1) := dk_3 (dk_at dksX6_beatClause_6 13 rfl rfl)
theorem dX6_beatClause_155 : decode cX6_beatClause 155 = .ok (.iastore, 1) := dk_79 (dk_at dksX6_beatClause_6 14 rfl rfl)
theorem dX6_beatClause_156 : decode cX6_beatClause 156 = .ok (.return_, 1) := dk_177 (dk_at dksX6_beatClause_6 15 rfl rfl)
abbrev cX6_number : ByteArray := prog_11_method_20_code
def yX6_number : MethodName := ⟨RX6, "number", "(I)I"⟩
def dkwX6_number_6 : List UInt8 := [42, 180, 0, 122, 181, 0, 122, 29, 172]
abbrev dktX6_number_6 : List UInt8 := dkwX6_number_6 ++ []
def dkwX6_number_5 : List UInt8 := [27, 164, 0, 7, 4, 167, 0, 4, 3, 181, 0, 125, 42, 42, 180, 0, 125, 153, 0, 7, 28, 167, 0, 7]
abbrev dktX6_number_5 : List UInt8 := dkwX6_number_5 ++ dktX6_number_6
def dkwX6_number_4 : List UInt8 := [180, 0, 122, 46, 96, 16, 48, 100, 62, 42, 89, 180, 0, 122, 4, 96, 181, 0, 122, 167, 255, 184, 42, 29]
abbrev dktX6_number_4 : List UInt8 := dkwX6_number_4 ++ dktX6_number_5
def dkwX6_number_3 : List UInt8 := [153, 0, 45, 29, 17, 3, 231, 164, 0, 7, 29, 167, 0, 20, 16, 10, 29, 104, 42, 180, 0, 31, 42]
abbrev dktX6_number_3 : List UInt8 := dkwX6_number_3 ++ dktX6_number_4
def dkwX6_number_2 : List UInt8 := [162, 0, 67, 42, 180, 0, 31, 42, 180, 0, 122, 46, 133, 20, 0, 133, 20, 0, 135, 184, 0, 70]
abbrev dktX6_number_2 : List UInt8 := dkwX6_number_2 ++ dktX6_number_3
def dkwX6_number_1 : List UInt8 := [42, 4, 181, 0, 125, 3, 172, 42, 180, 0, 122, 61, 3, 62, 42, 180, 0, 122, 42, 180, 0, 119]
abbrev dktX6_number_1 : List UInt8 := dkwX6_number_1 ++ dktX6_number_2
def dkwX6_number_0 : List UInt8 := [42, 180, 0, 125, 154, 0, 20, 42, 182, 0, 129, 133, 20, 0, 133, 20, 0, 135, 184, 0, 70, 154, 0, 10]
abbrev dktX6_number_0 : List UInt8 := dkwX6_number_0 ++ dktX6_number_1
theorem dksX6_number_0 : cX6_number.data.toList.drop 0 = dktX6_number_0 := by decide +kernel
theorem dksX6_number_1 : cX6_number.data.toList.drop 24 = dktX6_number_1 := dk_seg dksX6_number_0 24 rfl rfl
theorem dksX6_number_2 : cX6_number.data.toList.drop 46 = dktX6_number_2 := dk_seg dksX6_number_1 22 rfl rfl
theorem dksX6_number_3 : cX6_number.data.toList.drop 68 = dktX6_number_3 := dk_seg dksX6_number_2 22 rfl rfl
theorem dksX6_number_4 : cX6_number.data.toList.drop 91 = dktX6_number_4 := dk_seg dksX6_number_3 23 rfl rfl
theorem dksX6_number_5 : cX6_number.data.toList.drop 115 = dktX6_number_5 := dk_seg dksX6_number_4 24 rfl rfl
theorem dksX6_number_6 : cX6_number.data.toList.drop 139 = dktX6_number_6 := dk_seg dksX6_number_5 24 rfl rfl
theorem dX6_number_0 : decode cX6_number 0 = .ok (.aload_n 0, 1) := dk_42 (dk_at dksX6_number_0 0 rfl rfl)
theorem dX6_number_1 : decode cX6_number 1 = .ok (.getfield 125, 3) := dk_180 0 125 (dk_at dksX6_number_0 1 rfl rfl)
theorem dX6_number_4 : decode cX6_number 4 = .ok (.ifCond .ne 20, 3) := dk_154 0 20 (dk_at dksX6_number_0 4 rfl rfl)
theorem dX6_number_7 : decode cX6_number 7 = .ok (.aload_n 0, 1) := dk_42 (dk_at dksX6_number_0 7 rfl rfl)
theorem dX6_number_8 : decode cX6_number 8 = .ok (.invokevirtual 129, 3) := dk_182 0 129 (dk_at dksX6_number_0 8 rfl rfl)
theorem dX6_number_11 : decode cX6_number 11 = .ok (.i2l, 1) := dk_133 (dk_at dksX6_number_0 11 rfl rfl)
theorem dX6_number_12 : decode cX6_number 12 = .ok (.ldc2_w 133, 3) := dk_20 0 133 (dk_at dksX6_number_0 12 rfl rfl)
theorem dX6_number_15 : decode cX6_number 15 = .ok (.ldc2_w 135, 3) := dk_20 0 135 (dk_at dksX6_number_0 15 rfl rfl)
theorem dX6_number_18 : decode cX6_number 18 = .ok (.invokestatic 70, 3) := dk_184 0 70 (dk_at dksX6_number_0 18 rfl rfl)
theorem dX6_number_21 : decode cX6_number 21 = .ok (.ifCond .ne 10, 3) := dk_154 0 10 (dk_at dksX6_number_0 21 rfl rfl)
theorem dX6_number_24 : decode cX6_number 24 = .ok (.aload_n 0, 1) := dk_42 (dk_at dksX6_number_1 0 rfl rfl)
theorem dX6_number_25 : decode cX6_number 25 = .ok (.iconst 1, 1) := dk_4 (dk_at dksX6_number_1 1 rfl rfl)
theorem dX6_number_26 : decode cX6_number 26 = .ok (.putfield 125, 3) := dk_181 0 125 (dk_at dksX6_number_1 2 rfl rfl)
theorem dX6_number_29 : decode cX6_number 29 = .ok (.iconst 0, 1) := dk_3 (dk_at dksX6_number_1 5 rfl rfl)
theorem dX6_number_30 : decode cX6_number 30 = .ok (.ireturn, 1) := dk_172 (dk_at dksX6_number_1 6 rfl rfl)
theorem dX6_number_31 : decode cX6_number 31 = .ok (.aload_n 0, 1) := dk_42 (dk_at dksX6_number_1 7 rfl rfl)
theorem dX6_number_32 : decode cX6_number 32 = .ok (.getfield 122, 3) := dk_180 0 122 (dk_at dksX6_number_1 8 rfl rfl)
theorem dX6_number_35 : decode cX6_number 35 = .ok (.istore_n 2, 1) := dk_61 (dk_at dksX6_number_1 11 rfl rfl)
theorem dX6_number_36 : decode cX6_number 36 = .ok (.iconst 0, 1) := dk_3 (dk_at dksX6_number_1 12 rfl rfl)
theorem dX6_number_37 : decode cX6_number 37 = .ok (.istore_n 3, 1) := dk_62 (dk_at dksX6_number_1 13 rfl rfl)
theorem dX6_number_38 : decode cX6_number 38 = .ok (.aload_n 0, 1) := dk_42 (dk_at dksX6_number_1 14 rfl rfl)
theorem dX6_number_39 : decode cX6_number 39 = .ok (.getfield 122, 3) := dk_180 0 122 (dk_at dksX6_number_1 15 rfl rfl)
theorem dX6_number_42 : decode cX6_number 42 = .ok (.aload_n 0, 1) := dk_42 (dk_at dksX6_number_1 18 rfl rfl)
theorem dX6_number_43 : decode cX6_number 43 = .ok (.getfield 119, 3) := dk_180 0 119 (dk_at dksX6_number_1 19 rfl rfl)
theorem dX6_number_46 : decode cX6_number 46 = .ok (.if_icmp .ge 67, 3) := dk_162 0 67 (dk_at dksX6_number_2 0 rfl rfl)
theorem dX6_number_49 : decode cX6_number 49 = .ok (.aload_n 0, 1) := dk_42 (dk_at dksX6_number_2 3 rfl rfl)
theorem dX6_number_50 : decode cX6_number 50 = .ok (.getfield 31, 3) := dk_180 0 31 (dk_at dksX6_number_2 4 rfl rfl)
theorem dX6_number_53 : decode cX6_number 53 = .ok (.aload_n 0, 1) := dk_42 (dk_at dksX6_number_2 7 rfl rfl)
theorem dX6_number_54 : decode cX6_number 54 = .ok (.getfield 122, 3) := dk_180 0 122 (dk_at dksX6_number_2 8 rfl rfl)
theorem dX6_number_57 : decode cX6_number 57 = .ok (.iaload, 1) := dk_46 (dk_at dksX6_number_2 11 rfl rfl)
theorem dX6_number_58 : decode cX6_number 58 = .ok (.i2l, 1) := dk_133 (dk_at dksX6_number_2 12 rfl rfl)
theorem dX6_number_59 : decode cX6_number 59 = .ok (.ldc2_w 133, 3) := dk_20 0 133 (dk_at dksX6_number_2 13 rfl rfl)
theorem dX6_number_62 : decode cX6_number 62 = .ok (.ldc2_w 135, 3) := dk_20 0 135 (dk_at dksX6_number_2 16 rfl rfl)
theorem dX6_number_65 : decode cX6_number 65 = .ok (.invokestatic 70, 3) := dk_184 0 70 (dk_at dksX6_number_2 19 rfl rfl)
theorem dX6_number_68 : decode cX6_number 68 = .ok (.ifCond .eq 45, 3) := dk_153 0 45 (dk_at dksX6_number_3 0 rfl rfl)
theorem dX6_number_71 : decode cX6_number 71 = .ok (.iload_n 3, 1) := dk_29 (dk_at dksX6_number_3 3 rfl rfl)
theorem dX6_number_72 : decode cX6_number 72 = .ok (.sipush 999, 3) := dk_17 3 231 (dk_at dksX6_number_3 4 rfl rfl)
theorem dX6_number_75 : decode cX6_number 75 = .ok (.if_icmp .le 7, 3) := dk_164 0 7 (dk_at dksX6_number_3 7 rfl rfl)
theorem dX6_number_78 : decode cX6_number 78 = .ok (.iload_n 3, 1) := dk_29 (dk_at dksX6_number_3 10 rfl rfl)
theorem dX6_number_79 : decode cX6_number 79 = .ok (.goto 20, 3) := dk_167 0 20 (dk_at dksX6_number_3 11 rfl rfl)
theorem dX6_number_82 : decode cX6_number 82 = .ok (.bipush 10, 2) := dk_16 10 (dk_at dksX6_number_3 14 rfl rfl)
theorem dX6_number_84 : decode cX6_number 84 = .ok (.iload_n 3, 1) := dk_29 (dk_at dksX6_number_3 16 rfl rfl)
theorem dX6_number_85 : decode cX6_number 85 = .ok (.imul, 1) := dk_104 (dk_at dksX6_number_3 17 rfl rfl)
theorem dX6_number_86 : decode cX6_number 86 = .ok (.aload_n 0, 1) := dk_42 (dk_at dksX6_number_3 18 rfl rfl)
theorem dX6_number_87 : decode cX6_number 87 = .ok (.getfield 31, 3) := dk_180 0 31 (dk_at dksX6_number_3 19 rfl rfl)
theorem dX6_number_90 : decode cX6_number 90 = .ok (.aload_n 0, 1) := dk_42 (dk_at dksX6_number_3 22 rfl rfl)
theorem dX6_number_91 : decode cX6_number 91 = .ok (.getfield 122, 3) := dk_180 0 122 (dk_at dksX6_number_4 0 rfl rfl)
theorem dX6_number_94 : decode cX6_number 94 = .ok (.iaload, 1) := dk_46 (dk_at dksX6_number_4 3 rfl rfl)
theorem dX6_number_95 : decode cX6_number 95 = .ok (.iadd, 1) := dk_96 (dk_at dksX6_number_4 4 rfl rfl)
theorem dX6_number_96 : decode cX6_number 96 = .ok (.bipush 48, 2) := dk_16 48 (dk_at dksX6_number_4 5 rfl rfl)
theorem dX6_number_98 : decode cX6_number 98 = .ok (.isub, 1) := dk_100 (dk_at dksX6_number_4 7 rfl rfl)
theorem dX6_number_99 : decode cX6_number 99 = .ok (.istore_n 3, 1) := dk_62 (dk_at dksX6_number_4 8 rfl rfl)
theorem dX6_number_100 : decode cX6_number 100 = .ok (.aload_n 0, 1) := dk_42 (dk_at dksX6_number_4 9 rfl rfl)
theorem dX6_number_101 : decode cX6_number 101 = .ok (.dup, 1) := dk_89 (dk_at dksX6_number_4 10 rfl rfl)
theorem dX6_number_102 : decode cX6_number 102 = .ok (.getfield 122, 3) := dk_180 0 122 (dk_at dksX6_number_4 11 rfl rfl)
theorem dX6_number_105 : decode cX6_number 105 = .ok (.iconst 1, 1) := dk_4 (dk_at dksX6_number_4 14 rfl rfl)
theorem dX6_number_106 : decode cX6_number 106 = .ok (.iadd, 1) := dk_96 (dk_at dksX6_number_4 15 rfl rfl)
theorem dX6_number_107 : decode cX6_number 107 = .ok (.putfield 122, 3) := dk_181 0 122 (dk_at dksX6_number_4 16 rfl rfl)
theorem dX6_number_110 : decode cX6_number 110 = .ok (.goto (-72), 3) := dk_167 255 184 (dk_at dksX6_number_4 19 rfl rfl)
theorem dX6_number_113 : decode cX6_number 113 = .ok (.aload_n 0, 1) := dk_42 (dk_at dksX6_number_4 22 rfl rfl)
theorem dX6_number_114 : decode cX6_number 114 = .ok (.iload_n 3, 1) := dk_29 (dk_at dksX6_number_4 23 rfl rfl)
theorem dX6_number_115 : decode cX6_number 115 = .ok (.iload_n 1, 1) := dk_27 (dk_at dksX6_number_5 0 rfl rfl)
theorem dX6_number_116 : decode cX6_number 116 = .ok (.if_icmp .le 7, 3) := dk_164 0 7 (dk_at dksX6_number_5 1 rfl rfl)
theorem dX6_number_119 : decode cX6_number 119 = .ok (.iconst 1, 1) := dk_4 (dk_at dksX6_number_5 4 rfl rfl)
theorem dX6_number_120 : decode cX6_number 120 = .ok (.goto 4, 3) := dk_167 0 4 (dk_at dksX6_number_5 5 rfl rfl)
theorem dX6_number_123 : decode cX6_number 123 = .ok (.iconst 0, 1) := dk_3 (dk_at dksX6_number_5 8 rfl rfl)
theorem dX6_number_124 : decode cX6_number 124 = .ok (.putfield 125, 3) := dk_181 0 125 (dk_at dksX6_number_5 9 rfl rfl)
theorem dX6_number_127 : decode cX6_number 127 = .ok (.aload_n 0, 1) := dk_42 (dk_at dksX6_number_5 12 rfl rfl)
theorem dX6_number_128 : decode cX6_number 128 = .ok (.aload_n 0, 1) := dk_42 (dk_at dksX6_number_5 13 rfl rfl)
theorem dX6_number_129 : decode cX6_number 129 = .ok (.getfield 125, 3) := dk_180 0 125 (dk_at dksX6_number_5 14 rfl rfl)
theorem dX6_number_132 : decode cX6_number 132 = .ok (.ifCond .eq 7, 3) := dk_153 0 7 (dk_at dksX6_number_5 17 rfl rfl)
theorem dX6_number_135 : decode cX6_number 135 = .ok (.iload_n 2, 1) := dk_28 (dk_at dksX6_number_5 20 rfl rfl)
theorem dX6_number_136 : decode cX6_number 136 = .ok (.goto 7, 3) := dk_167 0 7 (dk_at dksX6_number_5 21 rfl rfl)
theorem dX6_number_139 : decode cX6_number 139 = .ok (.aload_n 0, 1) := dk_42 (dk_at dksX6_number_6 0 rfl rfl)
theorem dX6_number_140 : decode cX6_number 140 = .ok (.getfield 122, 3) := dk_180 0 122 (dk_at dksX6_number_6 1 rfl rfl)
theorem dX6_number_143 : decode cX6_number 143 = .ok (.putfield 122, 3) := dk_181 0 122 (dk_at dksX6_number_6 4 rfl rfl)
theorem dX6_number_146 : decode cX6_number 146 = .ok (.iload_n 3, 1) := dk_29 (dk_at dksX6_number_6 7 rfl rfl)
theorem dX6_number_147 : decode cX6_number 147 = .ok (.ireturn, 1) := dk_172 (dk_at dksX6_number_6 8 rfl rfl)
abbrev cX6_here : ByteArray := prog_11_method_18_code
def yX6_here : MethodName := ⟨RX6, "here", "()I"⟩
def dkwX6_here_2 : List UInt8 := [162, 0, 15, 42, 180, 0, 31, 42, 180, 0, 122, 46, 167, 0, 4, 3, 172]
abbrev dktX6_here_2 : List UInt8 := dkwX6_here_2 ++ []
def dkwX6_here_1 : List UInt8 := [160, 0, 16, 42, 89, 180, 0, 122, 4, 96, 181, 0, 122, 167, 255, 221, 42, 180, 0, 122, 42, 180, 0, 119]
abbrev dktX6_here_1 : List UInt8 := dkwX6_here_1 ++ dktX6_here_2
def dkwX6_here_0 : List UInt8 := [42, 180, 0, 122, 42, 180, 0, 119, 162, 0, 30, 42, 180, 0, 31, 42, 180, 0, 122, 46, 16, 32]
abbrev dktX6_here_0 : List UInt8 := dkwX6_here_0 ++ dktX6_here_1
theorem dksX6_here_0 : cX6_here.data.toList.drop 0 = dktX6_here_0 := by decide +kernel
theorem dksX6_here_1 : cX6_here.data.toList.drop 22 = dktX6_here_1 := dk_seg dksX6_here_0 22 rfl rfl
theorem dksX6_here_2 : cX6_here.data.toList.drop 46 = dktX6_here_2 := dk_seg dksX6_here_1 24 rfl rfl
theorem dX6_here_0 : decode cX6_here 0 = .ok (.aload_n 0, 1) := dk_42 (dk_at dksX6_here_0 0 rfl rfl)
theorem dX6_here_1 : decode cX6_here 1 = .ok (.getfield 122, 3) := dk_180 0 122 (dk_at dksX6_here_0 1 rfl rfl)
theorem dX6_here_4 : decode cX6_here 4 = .ok (.aload_n 0, 1) := dk_42 (dk_at dksX6_here_0 4 rfl rfl)
theorem dX6_here_5 : decode cX6_here 5 = .ok (.getfield 119, 3) := dk_180 0 119 (dk_at dksX6_here_0 5 rfl rfl)
theorem dX6_here_8 : decode cX6_here 8 = .ok (.if_icmp .ge 30, 3) := dk_162 0 30 (dk_at dksX6_here_0 8 rfl rfl)
theorem dX6_here_11 : decode cX6_here 11 = .ok (.aload_n 0, 1) := dk_42 (dk_at dksX6_here_0 11 rfl rfl)
theorem dX6_here_12 : decode cX6_here 12 = .ok (.getfield 31, 3) := dk_180 0 31 (dk_at dksX6_here_0 12 rfl rfl)
theorem dX6_here_15 : decode cX6_here 15 = .ok (.aload_n 0, 1) := dk_42 (dk_at dksX6_here_0 15 rfl rfl)
theorem dX6_here_16 : decode cX6_here 16 = .ok (.getfield 122, 3) := dk_180 0 122 (dk_at dksX6_here_0 16 rfl rfl)
theorem dX6_here_19 : decode cX6_here 19 = .ok (.iaload, 1) := dk_46 (dk_at dksX6_here_0 19 rfl rfl)
theorem dX6_here_20 : decode cX6_here 20 = .ok (.bipush 32, 2) := dk_16 32 (dk_at dksX6_here_0 20 rfl rfl)
theorem dX6_here_22 : decode cX6_here 22 = .ok (.if_icmp .ne 16, 3) := dk_160 0 16 (dk_at dksX6_here_1 0 rfl rfl)
theorem dX6_here_25 : decode cX6_here 25 = .ok (.aload_n 0, 1) := dk_42 (dk_at dksX6_here_1 3 rfl rfl)
theorem dX6_here_26 : decode cX6_here 26 = .ok (.dup, 1) := dk_89 (dk_at dksX6_here_1 4 rfl rfl)
theorem dX6_here_27 : decode cX6_here 27 = .ok (.getfield 122, 3) := dk_180 0 122 (dk_at dksX6_here_1 5 rfl rfl)
theorem dX6_here_30 : decode cX6_here 30 = .ok (.iconst 1, 1) := dk_4 (dk_at dksX6_here_1 8 rfl rfl)
theorem dX6_here_31 : decode cX6_here 31 = .ok (.iadd, 1) := dk_96 (dk_at dksX6_here_1 9 rfl rfl)
theorem dX6_here_32 : decode cX6_here 32 = .ok (.putfield 122, 3) := dk_181 0 122 (dk_at dksX6_here_1 10 rfl rfl)
theorem dX6_here_35 : decode cX6_here 35 = .ok (.goto (-35), 3) := dk_167 255 221 (dk_at dksX6_here_1 13 rfl rfl)
theorem dX6_here_38 : decode cX6_here 38 = .ok (.aload_n 0, 1) := dk_42 (dk_at dksX6_here_1 16 rfl rfl)
theorem dX6_here_39 : decode cX6_here 39 = .ok (.getfield 122, 3) := dk_180 0 122 (dk_at dksX6_here_1 17 rfl rfl)
theorem dX6_here_42 : decode cX6_here 42 = .ok (.aload_n 0, 1) := dk_42 (dk_at dksX6_here_1 20 rfl rfl)
theorem dX6_here_43 : decode cX6_here 43 = .ok (.getfield 119, 3) := dk_180 0 119 (dk_at dksX6_here_1 21 rfl rfl)
theorem dX6_here_46 : decode cX6_here 46 = .ok (.if_icmp .ge 15, 3) := dk_162 0 15 (dk_at dksX6_here_2 0 rfl rfl)
theorem dX6_here_49 : decode cX6_here 49 = .ok (.aload_n 0, 1) := dk_42 (dk_at dksX6_here_2 3 rfl rfl)
theorem dX6_here_50 : decode cX6_here 50 = .ok (.getfield 31, 3) := dk_180 0 31 (dk_at dksX6_here_2 4 rfl rfl)
theorem dX6_here_53 : decode cX6_here 53 = .ok (.aload_n 0, 1) := dk_42 (dk_at dksX6_here_2 7 rfl rfl)
theorem dX6_here_54 : decode cX6_here 54 = .ok (.getfield 122, 3) := dk_180 0 122 (dk_at dksX6_here_2 8 rfl rfl)
theorem dX6_here_57 : decode cX6_here 57 = .ok (.iaload, 1) := dk_46 (dk_at dksX6_here_2 11 rfl rfl)
theorem dX6_here_58 : decode cX6_here 58 = .ok (.goto 4, 3) := dk_167 0 4 (dk_at dksX6_here_2 12 rfl rfl)
theorem dX6_here_61 : decode cX6_here 61 = .ok (.iconst 0, 1) := dk_3 (dk_at dksX6_here_2 15 rfl rfl)
theorem dX6_here_62 : decode cX6_here 62 = .ok (.ireturn, 1) := dk_172 (dk_at dksX6_here_2 16 rfl rfl)
abbrev cX6_has : ByteArray := prog_11_method_19_code
def yX6_has : MethodName := ⟨RX6, "has", "(I)Z"⟩
def dkwX6_has_1 : List UInt8 := [180, 0, 122, 28, 153, 0, 7, 4, 167, 0, 4, 3, 96, 181, 0, 122, 28, 172]
abbrev dktX6_has_1 : List UInt8 := dkwX6_has_1 ++ []
def dkwX6_has_0 : List UInt8 := [42, 180, 0, 125, 154, 0, 15, 42, 182, 0, 129, 27, 160, 0, 7, 4, 167, 0, 4, 3, 61, 42, 89]
abbrev dktX6_has_0 : List UInt8 := dkwX6_has_0 ++ dktX6_has_1
theorem dksX6_has_0 : cX6_has.data.toList.drop 0 = dktX6_has_0 := by decide +kernel
theorem dksX6_has_1 : cX6_has.data.toList.drop 23 = dktX6_has_1 := dk_seg dksX6_has_0 23 rfl rfl
theorem dX6_has_0 : decode cX6_has 0 = .ok (.aload_n 0, 1) := dk_42 (dk_at dksX6_has_0 0 rfl rfl)
theorem dX6_has_1 : decode cX6_has 1 = .ok (.getfield 125, 3) := dk_180 0 125 (dk_at dksX6_has_0 1 rfl rfl)
theorem dX6_has_4 : decode cX6_has 4 = .ok (.ifCond .ne 15, 3) := dk_154 0 15 (dk_at dksX6_has_0 4 rfl rfl)
theorem dX6_has_7 : decode cX6_has 7 = .ok (.aload_n 0, 1) := dk_42 (dk_at dksX6_has_0 7 rfl rfl)
theorem dX6_has_8 : decode cX6_has 8 = .ok (.invokevirtual 129, 3) := dk_182 0 129 (dk_at dksX6_has_0 8 rfl rfl)
theorem dX6_has_11 : decode cX6_has 11 = .ok (.iload_n 1, 1) := dk_27 (dk_at dksX6_has_0 11 rfl rfl)
theorem dX6_has_12 : decode cX6_has 12 = .ok (.if_icmp .ne 7, 3) := dk_160 0 7 (dk_at dksX6_has_0 12 rfl rfl)
theorem dX6_has_15 : decode cX6_has 15 = .ok (.iconst 1, 1) := dk_4 (dk_at dksX6_has_0 15 rfl rfl)
theorem dX6_has_16 : decode cX6_has 16 = .ok (.goto 4, 3) := dk_167 0 4 (dk_at dksX6_has_0 16 rfl rfl)
theorem dX6_has_19 : decode cX6_has 19 = .ok (.iconst 0, 1) := dk_3 (dk_at dksX6_has_0 19 rfl rfl)
theorem dX6_has_20 : decode cX6_has 20 = .ok (.istore_n 2, 1) := dk_61 (dk_at dksX6_has_0 20 rfl rfl)
theorem dX6_has_21 : decode cX6_has 21 = .ok (.aload_n 0, 1) := dk_42 (dk_at dksX6_has_0 21 rfl rfl)
theorem dX6_has_22 : decode cX6_has 22 = .ok (.dup, 1) := dk_89 (dk_at dksX6_has_0 22 rfl rfl)
theorem dX6_has_23 : decode cX6_has 23 = .ok (.getfield 122, 3) := dk_180 0 122 (dk_at dksX6_has_1 0 rfl rfl)
theorem dX6_has_26 : decode cX6_has 26 = .ok (.iload_n 2, 1) := dk_28 (dk_at dksX6_has_1 3 rfl rfl)
theorem dX6_has_27 : decode cX6_has 27 = .ok (.ifCond .eq 7, 3) := dk_153 0 7 (dk_at dksX6_has_1 4 rfl rfl)
theorem dX6_has_30 : decode cX6_has 30 = .ok (.iconst 1, 1) := dk_4 (dk_at dksX6_has_1 7 rfl rfl)
theorem dX6_has_31 : decode cX6_has 31 = .ok (.goto 4, 3) := dk_167 0 4 (dk_at dksX6_has_1 8 rfl rfl)
theorem dX6_has_34 : decode cX6_has 34 = .ok (.iconst 0, 1) := dk_3 (dk_at dksX6_has_1 11 rfl rfl)
theorem dX6_has_35 : decode cX6_has 35 = .ok (.iadd, 1) := dk_96 (dk_at dksX6_has_1 12 rfl rfl)
theorem dX6_has_36 : decode cX6_has 36 = .ok (.putfield 122, 3) := dk_181 0 122 (dk_at dksX6_has_1 13 rfl rfl)
theorem dX6_has_39 : decode cX6_has 39 = .ok (.iload_n 2, 1) := dk_28 (dk_at dksX6_has_1 16 rfl rfl)
theorem dX6_has_40 : decode cX6_has 40 = .ok (.ireturn, 1) := dk_172 (dk_at dksX6_has_1 17 rfl rfl)
abbrev cX6_both : ByteArray := prog_11_method_22_code
def yX6_both : MethodName := ⟨RX6, "both", "()I"⟩
def dkwX6_both_0 : List UInt8 := [42, 3, 6, 182, 0, 137, 60, 16, 10, 27, 104, 42, 4, 16, 9, 182, 0, 137, 96, 172]
abbrev dktX6_both_0 : List UInt8 := dkwX6_both_0 ++ []
theorem dksX6_both_0 : cX6_both.data.toList.drop 0 = dktX6_both_0 := by decide +kernel
theorem dX6_both_0 : decode cX6_both 0 = .ok (.aload_n 0, 1) := dk_42 (dk_at dksX6_both_0 0 rfl rfl)
theorem dX6_both_1 : decode cX6_both 1 = .ok (.iconst 0, 1) := dk_3 (dk_at dksX6_both_0 1 rfl rfl)
theorem dX6_both_2 : decode cX6_both 2 = .ok (.iconst 3, 1) := dk_6 (dk_at dksX6_both_0 2 rfl rfl)
theorem dX6_both_3 : decode cX6_both 3 = .ok (.invokevirtual 137, 3) := dk_182 0 137 (dk_at dksX6_both_0 3 rfl rfl)
theorem dX6_both_6 : decode cX6_both 6 = .ok (.istore_n 1, 1) := dk_60 (dk_at dksX6_both_0 6 rfl rfl)
theorem dX6_both_7 : decode cX6_both 7 = .ok (.bipush 10, 2) := dk_16 10 (dk_at dksX6_both_0 7 rfl rfl)
theorem dX6_both_9 : decode cX6_both 9 = .ok (.iload_n 1, 1) := dk_27 (dk_at dksX6_both_0 9 rfl rfl)
theorem dX6_both_10 : decode cX6_both 10 = .ok (.imul, 1) := dk_104 (dk_at dksX6_both_0 10 rfl rfl)
theorem dX6_both_11 : decode cX6_both 11 = .ok (.aload_n 0, 1) := dk_42 (dk_at dksX6_both_0 11 rfl rfl)
theorem dX6_both_12 : decode cX6_both 12 = .ok (.iconst 1, 1) := dk_4 (dk_at dksX6_both_0 12 rfl rfl)
theorem dX6_both_13 : decode cX6_both 13 = .ok (.bipush 9, 2) := dk_16 9 (dk_at dksX6_both_0 13 rfl rfl)
theorem dX6_both_15 : decode cX6_both 15 = .ok (.invokevirtual 137, 3) := dk_182 0 137 (dk_at dksX6_both_0 15 rfl rfl)
theorem dX6_both_18 : decode cX6_both 18 = .ok (.iadd, 1) := dk_96 (dk_at dksX6_both_0 18 rfl rfl)
theorem dX6_both_19 : decode cX6_both 19 = .ok (.ireturn, 1) := dk_172 (dk_at dksX6_both_0 19 rfl rfl)
abbrev cX6_digit : ByteArray := prog_11_method_21_code
def yX6_digit : MethodName := ⟨RX6, "digit", "(II)I"⟩
def dkwX6_digit_3 : List UInt8 := [167, 0, 4, 4, 96, 181, 0, 122, 29, 172]
abbrev dktX6_digit_3 : List UInt8 := dkwX6_digit_3 ++ []
def dkwX6_digit_2 : List UInt8 := [167, 0, 10, 42, 182, 0, 129, 16, 48, 100, 62, 42, 89, 180, 0, 122, 42, 180, 0, 125, 153, 0, 7, 3]
abbrev dktX6_digit_2 : List UInt8 := dkwX6_digit_2 ++ dktX6_digit_3
def dkwX6_digit_1 : List UInt8 := [184, 0, 70, 154, 0, 7, 4, 167, 0, 4, 3, 181, 0, 125, 42, 180, 0, 125, 153, 0, 7, 3]
abbrev dktX6_digit_1 : List UInt8 := dkwX6_digit_1 ++ dktX6_digit_2
def dkwX6_digit_0 : List UInt8 := [42, 42, 180, 0, 125, 154, 0, 24, 42, 182, 0, 129, 133, 16, 48, 27, 96, 133, 16, 48, 28, 96, 133]
abbrev dktX6_digit_0 : List UInt8 := dkwX6_digit_0 ++ dktX6_digit_1
theorem dksX6_digit_0 : cX6_digit.data.toList.drop 0 = dktX6_digit_0 := by decide +kernel
theorem dksX6_digit_1 : cX6_digit.data.toList.drop 23 = dktX6_digit_1 := dk_seg dksX6_digit_0 23 rfl rfl
theorem dksX6_digit_2 : cX6_digit.data.toList.drop 45 = dktX6_digit_2 := dk_seg dksX6_digit_1 22 rfl rfl
theorem dksX6_digit_3 : cX6_digit.data.toList.drop 69 = dktX6_digit_3 := dk_seg dksX6_digit_2 24 rfl rfl
theorem dX6_digit_0 : decode cX6_digit 0 = .ok (.aload_n 0, 1) := dk_42 (dk_at dksX6_digit_0 0 rfl rfl)
theorem dX6_digit_1 : decode cX6_digit 1 = .ok (.aload_n 0, 1) := dk_42 (dk_at dksX6_digit_0 1 rfl rfl)
theorem dX6_digit_2 : decode cX6_digit 2 = .ok (.getfield 125, 3) := dk_180 0 125 (dk_at dksX6_digit_0 2 rfl rfl)
theorem dX6_digit_5 : decode cX6_digit 5 = .ok (.ifCond .ne 24, 3) := dk_154 0 24 (dk_at dksX6_digit_0 5 rfl rfl)
theorem dX6_digit_8 : decode cX6_digit 8 = .ok (.aload_n 0, 1) := dk_42 (dk_at dksX6_digit_0 8 rfl rfl)
theorem dX6_digit_9 : decode cX6_digit 9 = .ok (.invokevirtual 129, 3) := dk_182 0 129 (dk_at dksX6_digit_0 9 rfl rfl)
theorem dX6_digit_12 : decode cX6_digit 12 = .ok (.i2l, 1) := dk_133 (dk_at dksX6_digit_0 12 rfl rfl)
theorem dX6_digit_13 : decode cX6_digit 13 = .ok (.bipush 48, 2) := dk_16 48 (dk_at dksX6_digit_0 13 rfl rfl)
theorem dX6_digit_15 : decode cX6_digit 15 = .ok (.iload_n 1, 1) := dk_27 (dk_at dksX6_digit_0 15 rfl rfl)
theorem dX6_digit_16 : decode cX6_digit 16 = .ok (.iadd, 1) := dk_96 (dk_at dksX6_digit_0 16 rfl rfl)
theorem dX6_digit_17 : decode cX6_digit 17 = .ok (.i2l, 1) := dk_133 (dk_at dksX6_digit_0 17 rfl rfl)
theorem dX6_digit_18 : decode cX6_digit 18 = .ok (.bipush 48, 2) := dk_16 48 (dk_at dksX6_digit_0 18 rfl rfl)
theorem dX6_digit_20 : decode cX6_digit 20 = .ok (.iload_n 2, 1) := dk_28 (dk_at dksX6_digit_0 20 rfl rfl)
theorem dX6_digit_21 : decode cX6_digit 21 = .ok (.iadd, 1) := dk_96 (dk_at dksX6_digit_0 21 rfl rfl)
theorem dX6_digit_22 : decode cX6_digit 22 = .ok (.i2l, 1) := dk_133 (dk_at dksX6_digit_0 22 rfl rfl)
theorem dX6_digit_23 : decode cX6_digit 23 = .ok (.invokestatic 70, 3) := dk_184 0 70 (dk_at dksX6_digit_1 0 rfl rfl)
theorem dX6_digit_26 : decode cX6_digit 26 = .ok (.ifCond .ne 7, 3) := dk_154 0 7 (dk_at dksX6_digit_1 3 rfl rfl)
theorem dX6_digit_29 : decode cX6_digit 29 = .ok (.iconst 1, 1) := dk_4 (dk_at dksX6_digit_1 6 rfl rfl)
theorem dX6_digit_30 : decode cX6_digit 30 = .ok (.goto 4, 3) := dk_167 0 4 (dk_at dksX6_digit_1 7 rfl rfl)
theorem dX6_digit_33 : decode cX6_digit 33 = .ok (.iconst 0, 1) := dk_3 (dk_at dksX6_digit_1 10 rfl rfl)
theorem dX6_digit_34 : decode cX6_digit 34 = .ok (.putfield 125, 3) := dk_181 0 125 (dk_at dksX6_digit_1 11 rfl rfl)
theorem dX6_digit_37 : decode cX6_digit 37 = .ok (.aload_n 0, 1) := dk_42 (dk_at dksX6_digit_1 14 rfl rfl)
theorem dX6_digit_38 : decode cX6_digit 38 = .ok (.getfield 125, 3) := dk_180 0 125 (dk_at dksX6_digit_1 15 rfl rfl)
theorem dX6_digit_41 : decode cX6_digit 41 = .ok (.ifCond .eq 7, 3) := dk_153 0 7 (dk_at dksX6_digit_1 18 rfl rfl)
theorem dX6_digit_44 : decode cX6_digit 44 = .ok (.iconst 0, 1) := dk_3 (dk_at dksX6_digit_1 21 rfl rfl)
theorem dX6_digit_45 : decode cX6_digit 45 = .ok (.goto 10, 3) := dk_167 0 10 (dk_at dksX6_digit_2 0 rfl rfl)
theorem dX6_digit_48 : decode cX6_digit 48 = .ok (.aload_n 0, 1) := dk_42 (dk_at dksX6_digit_2 3 rfl rfl)
theorem dX6_digit_49 : decode cX6_digit 49 = .ok (.invokevirtual 129, 3) := dk_182 0 129 (dk_at dksX6_digit_2 4 rfl rfl)
theorem dX6_digit_52 : decode cX6_digit 52 = .ok (.bipush 48, 2) := dk_16 48 (dk_at dksX6_digit_2 7 rfl rfl)
theorem dX6_digit_54 : decode cX6_digit 54 = .ok (.isub, 1) := dk_100 (dk_at dksX6_digit_2 9 rfl rfl)
theorem dX6_digit_55 : decode cX6_digit 55 = .ok (.istore_n 3, 1) := dk_62 (dk_at dksX6_digit_2 10 rfl rfl)
theorem dX6_digit_56 : decode cX6_digit 56 = .ok (.aload_n 0, 1) := dk_42 (dk_at dksX6_digit_2 11 rfl rfl)
theorem dX6_digit_57 : decode cX6_digit 57 = .ok (.dup, 1) := dk_89 (dk_at dksX6_digit_2 12 rfl rfl)
theorem dX6_digit_58 : decode cX6_digit 58 = .ok (.getfield 122, 3) := dk_180 0 122 (dk_at dksX6_digit_2 13 rfl rfl)
theorem dX6_digit_61 : decode cX6_digit 61 = .ok (.aload_n 0, 1) := dk_42 (dk_at dksX6_digit_2 16 rfl rfl)
theorem dX6_digit_62 : decode cX6_digit 62 = .ok (.getfield 125, 3) := dk_180 0 125 (dk_at dksX6_digit_2 17 rfl rfl)
theorem dX6_digit_65 : decode cX6_digit 65 = .ok (.ifCond .eq 7, 3) := dk_153 0 7 (dk_at dksX6_digit_2 20 rfl rfl)
theorem dX6_digit_68 : decode cX6_digit 68 = .ok (.iconst 0, 1) := dk_3 (dk_at dksX6_digit_2 23 rfl rfl)
theorem dX6_digit_69 : decode cX6_digit 69 = .ok (.goto 4, 3) := dk_167 0 4 (dk_at dksX6_digit_3 0 rfl rfl)
theorem dX6_digit_72 : decode cX6_digit 72 = .ok (.iconst 1, 1) := dk_4 (dk_at dksX6_digit_3 3 rfl rfl)
theorem dX6_digit_73 : decode cX6_digit 73 = .ok (.iadd, 1) := dk_96 (dk_at dksX6_digit_3 4 rfl rfl)
theorem dX6_digit_74 : decode cX6_digit 74 = .ok (.putfield 122, 3) := dk_181 0 122 (dk_at dksX6_digit_3 5 rfl rfl)
theorem dX6_digit_77 : decode cX6_digit 77 = .ok (.iload_n 3, 1) := dk_29 (dk_at dksX6_digit_3 8 rfl rfl)
theorem dX6_digit_78 : decode cX6_digit 78 = .ok (.ireturn, 1) := dk_172 (dk_at dksX6_digit_3 9 rfl rfl)
abbrev cX6_seatClause : ByteArray := prog_11_method_24_code
def yX6_seatClause : MethodName := ⟨RX6, "seatClause", "(I)V"⟩
def dkwX6_seatClause_9 : List UInt8 := [177]
abbrev dktX6_seatClause_9 : List UInt8 := dkwX6_seatClause_9 ++ []
def dkwX6_seatClause_8 : List UInt8 := [181, 0, 125, 42, 89, 180, 0, 122, 42, 180, 0, 125, 153, 0, 7, 3, 167, 0, 4, 4, 96, 181, 0, 122]
abbrev dktX6_seatClause_8 : List UInt8 := dkwX6_seatClause_8 ++ dktX6_seatClause_9
def dkwX6_seatClause_7 : List UInt8 := [42, 180, 0, 125, 154, 0, 14, 42, 180, 0, 34, 27, 4, 96, 46, 156, 0, 7, 4, 167, 0, 4, 3]
abbrev dktX6_seatClause_7 : List UInt8 := dkwX6_seatClause_7 ++ dktX6_seatClause_8
def dkwX6_seatClause_6 : List UInt8 := [16, 99, 160, 0, 7, 5, 167, 0, 16, 21, 4, 16, 120, 160, 0, 7, 6, 167, 0, 5, 16, 252, 79, 42]
abbrev dktX6_seatClause_6 : List UInt8 := dkwX6_seatClause_6 ++ dktX6_seatClause_7
def dkwX6_seatClause_5 : List UInt8 := [21, 4, 16, 112, 160, 0, 7, 3, 167, 0, 38, 21, 4, 16, 119, 160, 0, 7, 4, 167, 0, 27, 21, 4]
abbrev dktX6_seatClause_5 : List UInt8 := dkwX6_seatClause_5 ++ dktX6_seatClause_6
def dkwX6_seatClause_4 : List UInt8 := [42, 180, 0, 125, 153, 0, 7, 3, 167, 0, 7, 42, 182, 0, 129, 54, 4, 42, 180, 0, 34, 27, 4, 96]
abbrev dktX6_seatClause_4 : List UInt8 := dkwX6_seatClause_4 ++ dktX6_seatClause_5
def dkwX6_seatClause_3 : List UInt8 := [167, 255, 221, 42, 180, 0, 125, 154, 0, 17, 29, 153, 0, 13, 42, 4, 181, 0, 125, 42, 28, 181, 0, 122]
abbrev dktX6_seatClause_3 : List UInt8 := dkwX6_seatClause_3 ++ dktX6_seatClause_4
def dkwX6_seatClause_2 : List UInt8 := [180, 0, 34, 21, 4, 46, 42, 180, 0, 34, 27, 46, 160, 0, 7, 4, 167, 0, 4, 3, 62, 132, 4, 6]
abbrev dktX6_seatClause_2 : List UInt8 := dkwX6_seatClause_2 ++ dktX6_seatClause_3
def dkwX6_seatClause_1 : List UInt8 := [180, 0, 34, 27, 46, 182, 0, 98, 62, 3, 54, 4, 21, 4, 27, 162, 0, 35, 29, 154, 0, 19, 42]
abbrev dktX6_seatClause_1 : List UInt8 := dkwX6_seatClause_1 ++ dktX6_seatClause_2
def dkwX6_seatClause_0 : List UInt8 := [42, 182, 0, 129, 87, 42, 180, 0, 122, 61, 42, 180, 0, 34, 27, 42, 16, 11, 182, 0, 140, 79, 42, 42]
abbrev dktX6_seatClause_0 : List UInt8 := dkwX6_seatClause_0 ++ dktX6_seatClause_1
theorem dksX6_seatClause_0 : cX6_seatClause.data.toList.drop 0 = dktX6_seatClause_0 := by decide +kernel
theorem dksX6_seatClause_1 : cX6_seatClause.data.toList.drop 24 = dktX6_seatClause_1 := dk_seg dksX6_seatClause_0 24 rfl rfl
theorem dksX6_seatClause_2 : cX6_seatClause.data.toList.drop 47 = dktX6_seatClause_2 := dk_seg dksX6_seatClause_1 23 rfl rfl
theorem dksX6_seatClause_3 : cX6_seatClause.data.toList.drop 71 = dktX6_seatClause_3 := dk_seg dksX6_seatClause_2 24 rfl rfl
theorem dksX6_seatClause_4 : cX6_seatClause.data.toList.drop 95 = dktX6_seatClause_4 := dk_seg dksX6_seatClause_3 24 rfl rfl
theorem dksX6_seatClause_5 : cX6_seatClause.data.toList.drop 119 = dktX6_seatClause_5 := dk_seg dksX6_seatClause_4 24 rfl rfl
theorem dksX6_seatClause_6 : cX6_seatClause.data.toList.drop 143 = dktX6_seatClause_6 := dk_seg dksX6_seatClause_5 24 rfl rfl
theorem dksX6_seatClause_7 : cX6_seatClause.data.toList.drop 167 = dktX6_seatClause_7 := dk_seg dksX6_seatClause_6 24 rfl rfl
theorem dksX6_seatClause_8 : cX6_seatClause.data.toList.drop 190 = dktX6_seatClause_8 := dk_seg dksX6_seatClause_7 23 rfl rfl
theorem dksX6_seatClause_9 : cX6_seatClause.data.toList.drop 214 = dktX6_seatClause_9 := dk_seg dksX6_seatClause_8 24 rfl rfl
theorem dX6_seatClause_0 : decode cX6_seatClause 0 = .ok (.aload_n 0, 1) := dk_42 (dk_at dksX6_seatClause_0 0 rfl rfl)
theorem dX6_seatClause_1 : decode cX6_seatClause 1 = .ok (.invokevirtual 129, 3) := dk_182 0 129 (dk_at dksX6_seatClause_0 1 rfl rfl)
theorem dX6_seatClause_4 : decode cX6_seatClause 4 = .ok (.pop, 1) := dk_87 (dk_at dksX6_seatClause_0 4 rfl rfl)
theorem dX6_seatClause_5 : decode cX6_seatClause 5 = .ok (.aload_n 0, 1) := dk_42 (dk_at dksX6_seatClause_0 5 rfl rfl)
theorem dX6_seatClause_6 : decode cX6_seatClause 6 = .ok (.getfield 122, 3) := dk_180 0 122 (dk_at dksX6_seatClause_0 6 rfl rfl)
theorem dX6_seatClause_9 : decode cX6_seatClause 9 = .ok (.istore_n 2, 1) := dk_61 (dk_at dksX6_seatClause_0 9 rfl rfl)
theorem dX6_seatClause_10 : decode cX6_seatClause 10 = .ok (.aload_n 0, 1) := dk_42 (dk_at dksX6_seatClause_0 10 rfl rfl)
theorem dX6_seatClause_11 : decode cX6_seatClause 11 = .ok (.getfield 34, 3) := dk_180 0 34 (dk_at dksX6_seatClause_0 11 rfl rfl)
theorem dX6_seatClause_14 : decode cX6_seatClause 14 = .ok (.iload_n 1, 1) := dk_27 (dk_at dksX6_seatClause_0 14 rfl rfl)
theorem dX6_seatClause_15 : decode cX6_seatClause 15 = .ok (.aload_n 0, 1) := dk_42 (dk_at dksX6_seatClause_0 15 rfl rfl)
theorem dX6_seatClause_16 : decode cX6_seatClause 16 = .ok (.bipush 11, 2) := dk_16 11 (dk_at dksX6_seatClause_0 16 rfl rfl)
theorem dX6_seatClause_18 : decode cX6_seatClause 18 = .ok (.invokevirtual 140, 3) := dk_182 0 140 (dk_at dksX6_seatClause_0 18 rfl rfl)
theorem dX6_seatClause_21 : decode cX6_seatClause 21 = .ok (.iastore, 1) := dk_79 (dk_at dksX6_seatClause_0 21 rfl rfl)
theorem dX6_seatClause_22 : decode cX6_seatClause 22 = .ok (.aload_n 0, 1) := dk_42 (dk_at dksX6_seatClause_0 22 rfl rfl)
theorem dX6_seatClause_23 : decode cX6_seatClause 23 = .ok (.aload_n 0, 1) := dk_42 (dk_at dksX6_seatClause_0 23 rfl rfl)
theorem dX6_seatClause_24 : decode cX6_seatClause 24 = .ok (.getfield 34, 3) := dk_180 0 34 (dk_at dksX6_seatClause_1 0 rfl rfl)
theorem dX6_seatClause_27 : decode cX6_seatClause 27 = .ok (.iload_n 1, 1) := dk_27 (dk_at dksX6_seatClause_1 3 rfl rfl)
theorem dX6_seatClause_28 : decode cX6_seatClause 28 = .ok (.iaload, 1) := dk_46 (dk_at dksX6_seatClause_1 4 rfl rfl)
theorem dX6_seatClause_29 : decode cX6_seatClause 29 = .ok (.invokevirtual 98, 3) := dk_182 0 98 (dk_at dksX6_seatClause_1 5 rfl rfl)
theorem dX6_seatClause_32 : decode cX6_seatClause 32 = .ok (.istore_n 3, 1) := dk_62 (dk_at dksX6_seatClause_1 8 rfl rfl)
theorem dX6_seatClause_33 : decode cX6_seatClause 33 = .ok (.iconst 0, 1) := dk_3 (dk_at dksX6_seatClause_1 9 rfl rfl)
theorem dX6_seatClause_34 : decode cX6_seatClause 34 = .ok (.istore 4, 2) := dk_54 4 (dk_at dksX6_seatClause_1 10 rfl rfl)
theorem dX6_seatClause_36 : decode cX6_seatClause 36 = .ok (.iload 4, 2) := dk_21 4 (dk_at dksX6_seatClause_1 12 rfl rfl)
theorem dX6_seatClause_38 : decode cX6_seatClause 38 = .ok (.iload_n 1, 1) := dk_27 (dk_at dksX6_seatClause_1 14 rfl rfl)
theorem dX6_seatClause_39 : decode cX6_seatClause 39 = .ok (.if_icmp .ge 35, 3) := dk_162 0 35 (dk_at dksX6_seatClause_1 15 rfl rfl)
theorem dX6_seatClause_42 : decode cX6_seatClause 42 = .ok (.iload_n 3, 1) := dk_29 (dk_at dksX6_seatClause_1 18 rfl rfl)
theorem dX6_seatClause_43 : decode cX6_seatClause 43 = .ok (.ifCond .ne 19, 3) := dk_154 0 19 (dk_at dksX6_seatClause_1 19 rfl rfl)
theorem dX6_seatClause_46 : decode cX6_seatClause 46 = .ok (.aload_n 0, 1) := dk_42 (dk_at dksX6_seatClause_1 22 rfl rfl)
theorem dX6_seatClause_47 : decode cX6_seatClause 47 = .ok (.getfield 34, 3) := dk_180 0 34 (dk_at dksX6_seatClause_2 0 rfl rfl)
theorem dX6_seatClause_50 : decode cX6_seatClause 50 = .ok (.iload 4, 2) := dk_21 4 (dk_at dksX6_seatClause_2 3 rfl rfl)
theorem dX6_seatClause_52 : decode cX6_seatClause 52 = .ok (.iaload, 1) := dk_46 (dk_at dksX6_seatClause_2 5 rfl rfl)
theorem dX6_seatClause_53 : decode cX6_seatClause 53 = .ok (.aload_n 0, 1) := dk_42 (dk_at dksX6_seatClause_2 6 rfl rfl)
theorem dX6_seatClause_54 : decode cX6_seatClause 54 = .ok (.getfield 34, 3) := dk_180 0 34 (dk_at dksX6_seatClause_2 7 rfl rfl)
theorem dX6_seatClause_57 : decode cX6_seatClause 57 = .ok (.iload_n 1, 1) := dk_27 (dk_at dksX6_seatClause_2 10 rfl rfl)
theorem dX6_seatClause_58 : decode cX6_seatClause 58 = .ok (.iaload, 1) := dk_46 (dk_at dksX6_seatClause_2 11 rfl rfl)
theorem dX6_seatClause_59 : decode cX6_seatClause 59 = .ok (.if_icmp .ne 7, 3) := dk_160 0 7 (dk_at dksX6_seatClause_2 12 rfl rfl)
theorem dX6_seatClause_62 : decode cX6_seatClause 62 = .ok (.iconst 1, 1) := dk_4 (dk_at dksX6_seatClause_2 15 rfl rfl)
theorem dX6_seatClause_63 : decode cX6_seatClause 63 = .ok (.goto 4, 3) := dk_167 0 4 (dk_at dksX6_seatClause_2 16 rfl rfl)
theorem dX6_seatClause_66 : decode cX6_seatClause 66 = .ok (.iconst 0, 1) := dk_3 (dk_at dksX6_seatClause_2 19 rfl rfl)
theorem dX6_seatClause_67 : decode cX6_seatClause 67 = .ok (.istore_n 3, 1) := dk_62 (dk_at dksX6_seatClause_2 20 rfl rfl)
theorem dX6_seatClause_68 : decode cX6_seatClause 68 = .ok (.iinc 4 6, 3) := dk_132 4 6 (dk_at dksX6_seatClause_2 21 rfl rfl)
theorem dX6_seatClause_71 : decode cX6_seatClause 71 = .ok (.goto (-35), 3) := dk_167 255 221 (dk_at dksX6_seatClause_3 0 rfl rfl)
theorem dX6_seatClause_74 : decode cX6_seatClause 74 = .ok (.aload_n 0, 1) := dk_42 (dk_at dksX6_seatClause_3 3 rfl rfl)
theorem dX6_seatClause_75 : decode cX6_seatClause 75 = .ok (.getfield 125, 3) := dk_180 0 125 (dk_at dksX6_seatClause_3 4 rfl rfl)
theorem dX6_seatClause_78 : decode cX6_seatClause 78 = .ok (.ifCond .ne 17, 3) := dk_154 0 17 (dk_at dksX6_seatClause_3 7 rfl rfl)
theorem dX6_seatClause_81 : decode cX6_seatClause 81 = .ok (.iload_n 3, 1) := dk_29 (dk_at dksX6_seatClause_3 10 rfl rfl)
theorem dX6_seatClause_82 : decode cX6_seatClause 82 = .ok (.ifCond .eq 13, 3) := dk_153 0 13 (dk_at dksX6_seatClause_3 11 rfl rfl)
theorem dX6_seatClause_85 : decode cX6_seatClause 85 = .ok (.aload_n 0, 1) := dk_42 (dk_at dksX6_seatClause_3 14 rfl rfl)
theorem dX6_seatClause_86 : decode cX6_seatClause 86 = .ok (.iconst 1, 1) := dk_4 (dk_at dksX6_seatClause_3 15 rfl rfl)
theorem dX6_seatClause_87 : decode cX6_seatClause 87 = .ok (.putfield 125, 3) := dk_181 0 125 (dk_at dksX6_seatClause_3 16 rfl rfl)
theorem dX6_seatClause_90 : decode cX6_seatClause 90 = .ok (.aload_n 0, 1) := dk_42 (dk_at dksX6_seatClause_3 19 rfl rfl)
theorem dX6_seatClause_91 : decode cX6_seatClause 91 = .ok (.iload_n 2, 1) := dk_28 (dk_at dksX6_seatClause_3 20 rfl rfl)
theorem dX6_seatClause_92 : decode cX6_seatClause 92 = .ok (.putfield 122, 3) := dk_181 0 122 (dk_at dksX6_seatClause_3 21 rfl rfl)
theorem dX6_seatClause_95 : decode cX6_seatClause 95 = .ok (.aload_n 0, 1) := dk_42 (dk_at dksX6_seatClause_4 0 rfl rfl)
theorem dX6_seatClause_96 : decode cX6_seatClause 96 = .ok (.getfield 125, 3) := dk_180 0 125 (dk_at dksX6_seatClause_4 1 rfl rfl)
theorem dX6_seatClause_99 : decode cX6_seatClause 99 = .ok (.ifCond .eq 7, 3) := dk_153 0 7 (dk_at dksX6_seatClause_4 4 rfl rfl)
theorem dX6_seatClause_102 : decode cX6_seatClause 102 = .ok (.iconst 0, 1) := dk_3 (dk_at dksX6_seatClause_4 7 rfl rfl)
theorem dX6_seatClause_103 : decode cX6_seatClause 103 = .ok (.goto 7, 3) := dk_167 0 7 (dk_at dksX6_seatClause_4 8 rfl rfl)
theorem dX6_seatClause_106 : decode cX6_seatClause 106 = .ok (.aload_n 0, 1) := dk_42 (dk_at dksX6_seatClause_4 11 rfl rfl)
theorem dX6_seatClause_107 : decode cX6_seatClause 107 = .ok (.invokevirtual 129, 3) := dk_182 0 129 (dk_at dksX6_seatClause_4 12 rfl rfl)
theorem dX6_seatClause_110 : decode cX6_seatClause 110 = .ok (.istore 4, 2) := dk_54 4 (dk_at dksX6_seatClause_4 15 rfl rfl)
theorem dX6_seatClause_112 : decode cX6_seatClause 112 = .ok (.aload_n 0, 1) := dk_42 (dk_at dksX6_seatClause_4 17 rfl rfl)
theorem dX6_seatClause_113 : decode cX6_seatClause 113 = .ok (.getfield 34, 3) := dk_180 0 34 (dk_at dksX6_seatClause_4 18 rfl rfl)
theorem dX6_seatClause_116 : decode cX6_seatClause 116 = .ok (.iload_n 1, 1) := dk_27 (dk_at dksX6_seatClause_4 21 rfl rfl)
theorem dX6_seatClause_117 : decode cX6_seatClause 117 = .ok (.iconst 1, 1) := dk_4 (dk_at dksX6_seatClause_4 22 rfl rfl)
theorem dX6_seatClause_118 : decode cX6_seatClause 118 = .ok (.iadd, 1) := dk_96 (dk_at dksX6_seatClause_4 23 rfl rfl)
theorem dX6_seatClause_119 : decode cX6_seatClause 119 = .ok (.iload 4, 2) := dk_21 4 (dk_at dksX6_seatClause_5 0 rfl rfl)
theorem dX6_seatClause_121 : decode cX6_seatClause 121 = .ok (.bipush 112, 2) := dk_16 112 (dk_at dksX6_seatClause_5 2 rfl rfl)
theorem dX6_seatClause_123 : decode cX6_seatClause 123 = .ok (.if_icmp .ne 7, 3) := dk_160 0 7 (dk_at dksX6_seatClause_5 4 rfl rfl)
theorem dX6_seatClause_126 : decode cX6_seatClause 126 = .ok (.iconst 0, 1) := dk_3 (dk_at dksX6_seatClause_5 7 rfl rfl)
theorem dX6_seatClause_127 : decode cX6_seatClause 127 = .ok (.goto 38, 3) := dk_167 0 38 (dk_at dksX6_seatClause_5 8 rfl rfl)
theorem dX6_seatClause_130 : decode cX6_seatClause 130 = .ok (.iload 4, 2) := dk_21 4 (dk_at dksX6_seatClause_5 11 rfl rfl)
theorem dX6_seatClause_132 : decode cX6_seatClause 132 = .ok (.bipush 119, 2) := dk_16 119 (dk_at dksX6_seatClause_5 13 rfl rfl)
theorem dX6_seatClause_134 : decode cX6_seatClause 134 = .ok (.if_icmp .ne 7, 3) := dk_160 0 7 (dk_at dksX6_seatClause_5 15 rfl rfl)
theorem dX6_seatClause_137 : decode cX6_seatClause 137 = .ok (.iconst 1, 1) := dk_4 (dk_at dksX6_seatClause_5 18 rfl rfl)
theorem dX6_seatClause_138 : decode cX6_seatClause 138 = .ok (.goto 27, 3) := dk_167 0 27 (dk_at dksX6_seatClause_5 19 rfl rfl)
theorem dX6_seatClause_141 : decode cX6_seatClause 141 = .ok (.iload 4, 2) := dk_21 4 (dk_at dksX6_seatClause_5 22 rfl rfl)
theorem dX6_seatClause_143 : decode cX6_seatClause 143 = .ok (.bipush 99, 2) := dk_16 99 (dk_at dksX6_seatClause_6 0 rfl rfl)
theorem dX6_seatClause_145 : decode cX6_seatClause 145 = .ok (.if_icmp .ne 7, 3) := dk_160 0 7 (dk_at dksX6_seatClause_6 2 rfl rfl)
theorem dX6_seatClause_148 : decode cX6_seatClause 148 = .ok (.iconst 2, 1) := dk_5 (dk_at dksX6_seatClause_6 5 rfl rfl)
theorem dX6_seatClause_149 : decode cX6_seatClause 149 = .ok (.goto 16, 3) := dk_167 0 16 (dk_at dksX6_seatClause_6 6 rfl rfl)
theorem dX6_seatClause_152 : decode cX6_seatClause 152 = .ok (.iload 4, 2) := dk_21 4 (dk_at dksX6_seatClause_6 9 rfl rfl)
theorem dX6_seatClause_154 : decode cX6_seatClause 154 = .ok (.bipush 120, 2) := dk_16 120 (dk_at dksX6_seatClause_6 11 rfl rfl)
theorem dX6_seatClause_156 : decode cX6_seatClause 156 = .ok (.if_icmp .ne 7, 3) := dk_160 0 7 (dk_at dksX6_seatClause_6 13 rfl rfl)
theorem dX6_seatClause_159 : decode cX6_seatClause 159 = .ok (.iconst 3, 1) := dk_6 (dk_at dksX6_seatClause_6 16 rfl rfl)
theorem dX6_seatClause_160 : decode cX6_seatClause 160 = .ok (.goto 5, 3) := dk_167 0 5 (dk_at dksX6_seatClause_6 17 rfl rfl)
theorem dX6_seatClause_163 : decode cX6_seatClause 163 = .ok (.bipush (-4), 2) := dk_16 252 (dk_at dksX6_seatClause_6 20 rfl rfl)
theorem dX6_seatClause_165 : decode cX6_seatClause 165 = .ok (.iastore, 1) := dk_79 (dk_at dksX6_seatClause_6 22 rfl rfl)
theorem dX6_seatClause_166 : decode cX6_seatClause 166 = .ok (.aload_n 0, 1) := dk_42 (dk_at dksX6_seatClause_6 23 rfl rfl)
theorem dX6_seatClause_167 : decode cX6_seatClause 167 = .ok (.aload_n 0, 1) := dk_42 (dk_at dksX6_seatClause_7 0 rfl rfl)
theorem dX6_seatClause_168 : decode cX6_seatClause 168 = .ok (.getfield 125, 3) := dk_180 0 125 (dk_at dksX6_seatClause_7 1 rfl rfl)
theorem dX6_seatClause_171 : decode cX6_seatClause 171 = .ok (.ifCond .ne 14, 3) := dk_154 0 14 (dk_at dksX6_seatClause_7 4 rfl rfl)
theorem dX6_seatClause_174 : decode cX6_seatClause 174 = .ok (.aload_n 0, 1) := dk_42 (dk_at dksX6_seatClause_7 7 rfl rfl)
theorem dX6_seatClause_175 : decode cX6_seatClause 175 = .ok (.getfield 34, 3) := dk_180 0 34 (dk_at dksX6_seatClause_7 8 rfl rfl)
theorem dX6_seatClause_178 : decode cX6_seatClause 178 = .ok (.iload_n 1, 1) := dk_27 (dk_at dksX6_seatClause_7 11 rfl rfl)
theorem dX6_seatClause_179 : decode cX6_seatClause 179 = .ok (.iconst 1, 1) := dk_4 (dk_at dksX6_seatClause_7 12 rfl rfl)
theorem dX6_seatClause_180 : decode cX6_seatClause 180 = .ok (.iadd, 1) := dk_96 (dk_at dksX6_seatClause_7 13 rfl rfl)
theorem dX6_seatClause_181 : decode cX6_seatClause 181 = .ok (.iaload, 1) := dk_46 (dk_at dksX6_seatClause_7 14 rfl rfl)
theorem dX6_seatClause_182 : decode cX6_seatClause 182 = .ok (.ifCond .ge 7, 3) := dk_156 0 7 (dk_at dksX6_seatClause_7 15 rfl rfl)
theorem dX6_seatClause_185 : decode cX6_seatClause 185 = .ok (.iconst 1, 1) := dk_4 (dk_at dksX6_seatClause_7 18 rfl rfl)
theorem dX6_seatClause_186 : decode cX6_seatClause 186 = .ok (.goto 4, 3) := dk_167 0 4 (dk_at dksX6_seatClause_7 19 rfl rfl)
theorem dX6_seatClause_189 : decode cX6_seatClause 189 = .ok (.iconst 0, 1) := dk_3 (dk_at dksX6_seatClause_7 22 rfl rfl)
theorem dX6_seatClause_190 : decode cX6_seatClause 190 = .ok (.putfield 125, 3) := dk_181 0 125 (dk_at dksX6_seatClause_8 0 rfl rfl)
theorem dX6_seatClause_193 : decode cX6_seatClause 193 = .ok (.aload_n 0, 1) := dk_42 (dk_at dksX6_seatClause_8 3 rfl rfl)
theorem dX6_seatClause_194 : decode cX6_seatClause 194 = .ok (.dup, 1) := dk_89 (dk_at dksX6_seatClause_8 4 rfl rfl)
theorem dX6_seatClause_195 : decode cX6_seatClause 195 = .ok (.getfield 122, 3) := dk_180 0 122 (dk_at dksX6_seatClause_8 5 rfl rfl)
theorem dX6_seatClause_198 : decode cX6_seatClause 198 = .ok (.aload_n 0, 1) := dk_42 (dk_at dksX6_seatClause_8 8 rfl rfl)
theorem dX6_seatClause_199 : decode cX6_seatClause 199 = .ok (.getfield 125, 3) := dk_180 0 125 (dk_at dksX6_seatClause_8 9 rfl rfl)
theorem dX6_seatClause_202 : decode cX6_seatClause 202 = .ok (.ifCond .eq 7, 3) := dk_153 0 7 (dk_at dksX6_seatClause_8 12 rfl rfl)
theorem dX6_seatClause_205 : decode cX6_seatClause 205 = .ok (.iconst 0, 1) := dk_3 (dk_at dksX6_seatClause_8 15 rfl rfl)
theorem dX6_seatClause_206 : decode cX6_seatClause 206 = .ok (.goto 4, 3) := dk_167 0 4 (dk_at dksX6_seatClause_8 16 rfl rfl)
theorem dX6_seatClause_209 : decode cX6_seatClause 209 = .ok (.iconst 1, 1) := dk_4 (dk_at dksX6_seatClause_8 19 rfl rfl)
theorem dX6_seatClause_210 : decode cX6_seatClause 210 = .ok (.iadd, 1) := dk_96 (dk_at dksX6_seatClause_8 20 rfl rfl)
theorem dX6_seatClause_211 : decode cX6_seatClause 211 = .ok (.putfield 122, 3) := dk_181 0 122 (dk_at dksX6_seatClause_8 21 rfl rfl)
theorem dX6_seatClause_214 : decode cX6_seatClause 214 = .ok (.return_, 1) := dk_177 (dk_at dksX6_seatClause_9 0 rfl rfl)
abbrev cX6_house : ByteArray := prog_11_method_27_code
def yX6_house : MethodName := ⟨RX6, "house", "()I"⟩
def dkwX6_house_2 : List UInt8 := [46, 182, 0, 101, 87, 132, 2, 6, 167, 255, 226, 27, 172]
abbrev dktX6_house_2 : List UInt8 := dkwX6_house_2 ++ []
def dkwX6_house_1 : List UInt8 := [3, 61, 28, 16, 6, 27, 104, 162, 0, 28, 42, 42, 180, 0, 34, 28, 46, 42, 180, 0, 34, 28, 4, 96]
abbrev dktX6_house_1 : List UInt8 := dkwX6_house_1 ++ dktX6_house_2
def dkwX6_house_0 : List UInt8 := [42, 3, 182, 0, 157, 60, 27, 158, 0, 17, 42, 180, 0, 76, 27, 96, 16, 8, 164, 0, 6, 16, 253, 172]
abbrev dktX6_house_0 : List UInt8 := dkwX6_house_0 ++ dktX6_house_1
theorem dksX6_house_0 : cX6_house.data.toList.drop 0 = dktX6_house_0 := by decide +kernel
theorem dksX6_house_1 : cX6_house.data.toList.drop 24 = dktX6_house_1 := dk_seg dksX6_house_0 24 rfl rfl
theorem dksX6_house_2 : cX6_house.data.toList.drop 48 = dktX6_house_2 := dk_seg dksX6_house_1 24 rfl rfl
theorem dX6_house_0 : decode cX6_house 0 = .ok (.aload_n 0, 1) := dk_42 (dk_at dksX6_house_0 0 rfl rfl)
theorem dX6_house_1 : decode cX6_house 1 = .ok (.iconst 0, 1) := dk_3 (dk_at dksX6_house_0 1 rfl rfl)
theorem dX6_house_2 : decode cX6_house 2 = .ok (.invokevirtual 157, 3) := dk_182 0 157 (dk_at dksX6_house_0 2 rfl rfl)
theorem dX6_house_5 : decode cX6_house 5 = .ok (.istore_n 1, 1) := dk_60 (dk_at dksX6_house_0 5 rfl rfl)
theorem dX6_house_6 : decode cX6_house 6 = .ok (.iload_n 1, 1) := dk_27 (dk_at dksX6_house_0 6 rfl rfl)
theorem dX6_house_7 : decode cX6_house 7 = .ok (.ifCond .le 17, 3) := dk_158 0 17 (dk_at dksX6_house_0 7 rfl rfl)
theorem dX6_house_10 : decode cX6_house 10 = .ok (.aload_n 0, 1) := dk_42 (dk_at dksX6_house_0 10 rfl rfl)
theorem dX6_house_11 : decode cX6_house 11 = .ok (.getfield 76, 3) := dk_180 0 76 (dk_at dksX6_house_0 11 rfl rfl)
theorem dX6_house_14 : decode cX6_house 14 = .ok (.iload_n 1, 1) := dk_27 (dk_at dksX6_house_0 14 rfl rfl)
theorem dX6_house_15 : decode cX6_house 15 = .ok (.iadd, 1) := dk_96 (dk_at dksX6_house_0 15 rfl rfl)
theorem dX6_house_16 : decode cX6_house 16 = .ok (.bipush 8, 2) := dk_16 8 (dk_at dksX6_house_0 16 rfl rfl)
theorem dX6_house_18 : decode cX6_house 18 = .ok (.if_icmp .le 6, 3) := dk_164 0 6 (dk_at dksX6_house_0 18 rfl rfl)
theorem dX6_house_21 : decode cX6_house 21 = .ok (.bipush (-3), 2) := dk_16 253 (dk_at dksX6_house_0 21 rfl rfl)
theorem dX6_house_23 : decode cX6_house 23 = .ok (.ireturn, 1) := dk_172 (dk_at dksX6_house_0 23 rfl rfl)
theorem dX6_house_24 : decode cX6_house 24 = .ok (.iconst 0, 1) := dk_3 (dk_at dksX6_house_1 0 rfl rfl)
theorem dX6_house_25 : decode cX6_house 25 = .ok (.istore_n 2, 1) := dk_61 (dk_at dksX6_house_1 1 rfl rfl)
theorem dX6_house_26 : decode cX6_house 26 = .ok (.iload_n 2, 1) := dk_28 (dk_at dksX6_house_1 2 rfl rfl)
theorem dX6_house_27 : decode cX6_house 27 = .ok (.bipush 6, 2) := dk_16 6 (dk_at dksX6_house_1 3 rfl rfl)
theorem dX6_house_29 : decode cX6_house 29 = .ok (.iload_n 1, 1) := dk_27 (dk_at dksX6_house_1 5 rfl rfl)
theorem dX6_house_30 : decode cX6_house 30 = .ok (.imul, 1) := dk_104 (dk_at dksX6_house_1 6 rfl rfl)
theorem dX6_house_31 : decode cX6_house 31 = .ok (.if_icmp .ge 28, 3) := dk_162 0 28 (dk_at dksX6_house_1 7 rfl rfl)
theorem dX6_house_34 : decode cX6_house 34 = .ok (.aload_n 0, 1) := dk_42 (dk_at dksX6_house_1 10 rfl rfl)
theorem dX6_house_35 : decode cX6_house 35 = .ok (.aload_n 0, 1) := dk_42 (dk_at dksX6_house_1 11 rfl rfl)
theorem dX6_house_36 : decode cX6_house 36 = .ok (.getfield 34, 3) := dk_180 0 34 (dk_at dksX6_house_1 12 rfl rfl)
theorem dX6_house_39 : decode cX6_house 39 = .ok (.iload_n 2, 1) := dk_28 (dk_at dksX6_house_1 15 rfl rfl)
theorem dX6_house_40 : decode cX6_house 40 = .ok (.iaload, 1) := dk_46 (dk_at dksX6_house_1 16 rfl rfl)
theorem dX6_house_41 : decode cX6_house 41 = .ok (.aload_n 0, 1) := dk_42 (dk_at dksX6_house_1 17 rfl rfl)
theorem dX6_house_42 : decode cX6_house 42 = .ok (.getfield 34, 3) := dk_180 0 34 (dk_at dksX6_house_1 18 rfl rfl)
theorem dX6_house_45 : decode cX6_house 45 = .ok (.iload_n 2, 1) := dk_28 (dk_at dksX6_house_1 21 rfl rfl)
theorem dX6_house_46 : decode cX6_house 46 = .ok (.iconst 1, 1) := dk_4 (dk_at dksX6_house_1 22 rfl rfl)
theorem dX6_house_47 : decode cX6_house 47 = .ok (.iadd, 1) := dk_96 (dk_at dksX6_house_1 23 rfl rfl)
theorem dX6_house_48 : decode cX6_house 48 = .ok (.iaload, 1) := dk_46 (dk_at dksX6_house_2 0 rfl rfl)
theorem dX6_house_49 : decode cX6_house 49 = .ok (.invokevirtual 101, 3) := dk_182 0 101 (dk_at dksX6_house_2 1 rfl rfl)
theorem dX6_house_52 : decode cX6_house 52 = .ok (.pop, 1) := dk_87 (dk_at dksX6_house_2 4 rfl rfl)
theorem dX6_house_53 : decode cX6_house 53 = .ok (.iinc 2 6, 3) := dk_132 2 6 (dk_at dksX6_house_2 5 rfl rfl)
theorem dX6_house_56 : decode cX6_house 56 = .ok (.goto (-30), 3) := dk_167 255 226 (dk_at dksX6_house_2 8 rfl rfl)
theorem dX6_house_59 : decode cX6_house 59 = .ok (.iload_n 1, 1) := dk_27 (dk_at dksX6_house_2 11 rfl rfl)
theorem dX6_house_60 : decode cX6_house 60 = .ok (.ireturn, 1) := dk_172 (dk_at dksX6_house_2 12 rfl rfl)
abbrev cX6_count : ByteArray := prog_11_method_28_code
def yX6_count : MethodName := ⟨RX6, "count", "(I)I"⟩
def dkwX6_count_5 : List UInt8 := [28, 172]
abbrev dktX6_count_5 : List UInt8 := dkwX6_count_5 ++ []
def dkwX6_count_4 : List UInt8 := [27, 7, 160, 0, 10, 42, 180, 0, 163, 167, 0, 16, 27, 8, 160, 0, 10, 42, 180, 0, 166, 167, 0, 4]
abbrev dktX6_count_4 : List UInt8 := dkwX6_count_4 ++ dktX6_count_5
def dkwX6_count_3 : List UInt8 := [20, 0, 161, 184, 0, 70, 154, 0, 7, 2, 167, 0, 39, 27, 154, 0, 10, 42, 180, 0, 76, 167, 0, 28]
abbrev dktX6_count_3 : List UInt8 := dkwX6_count_3 ++ dktX6_count_4
def dkwX6_count_2 : List UInt8 := [180, 0, 22, 29, 46, 158, 0, 7, 4, 167, 0, 4, 3, 96, 61, 132, 3, 1, 167, 255, 197, 27, 133, 9]
abbrev dktX6_count_2 : List UInt8 := dkwX6_count_2 ++ dktX6_count_3
def dkwX6_count_1 : List UInt8 := [157, 0, 31, 27, 5, 160, 0, 12, 42, 180, 0, 7, 29, 46, 157, 0, 17, 27, 6, 160, 0, 16, 42]
abbrev dktX6_count_1 : List UInt8 := dkwX6_count_1 ++ dktX6_count_2
def dkwX6_count_0 : List UInt8 := [3, 61, 3, 62, 29, 16, 16, 162, 0, 59, 28, 27, 4, 160, 0, 12, 42, 180, 0, 13, 29, 46]
abbrev dktX6_count_0 : List UInt8 := dkwX6_count_0 ++ dktX6_count_1
theorem dksX6_count_0 : cX6_count.data.toList.drop 0 = dktX6_count_0 := by decide +kernel
theorem dksX6_count_1 : cX6_count.data.toList.drop 22 = dktX6_count_1 := dk_seg dksX6_count_0 22 rfl rfl
theorem dksX6_count_2 : cX6_count.data.toList.drop 45 = dktX6_count_2 := dk_seg dksX6_count_1 23 rfl rfl
theorem dksX6_count_3 : cX6_count.data.toList.drop 69 = dktX6_count_3 := dk_seg dksX6_count_2 24 rfl rfl
theorem dksX6_count_4 : cX6_count.data.toList.drop 93 = dktX6_count_4 := dk_seg dksX6_count_3 24 rfl rfl
theorem dksX6_count_5 : cX6_count.data.toList.drop 117 = dktX6_count_5 := dk_seg dksX6_count_4 24 rfl rfl
theorem dX6_count_0 : decode cX6_count 0 = .ok (.iconst 0, 1) := dk_3 (dk_at dksX6_count_0 0 rfl rfl)
theorem dX6_count_1 : decode cX6_count 1 = .ok (.istore_n 2, 1) := dk_61 (dk_at dksX6_count_0 1 rfl rfl)
theorem dX6_count_2 : decode cX6_count 2 = .ok (.iconst 0, 1) := dk_3 (dk_at dksX6_count_0 2 rfl rfl)
theorem dX6_count_3 : decode cX6_count 3 = .ok (.istore_n 3, 1) := dk_62 (dk_at dksX6_count_0 3 rfl rfl)
theorem dX6_count_4 : decode cX6_count 4 = .ok (.iload_n 3, 1) := dk_29 (dk_at dksX6_count_0 4 rfl rfl)
theorem dX6_count_5 : decode cX6_count 5 = .ok (.bipush 16, 2) := dk_16 16 (dk_at dksX6_count_0 5 rfl rfl)
theorem dX6_count_7 : decode cX6_count 7 = .ok (.if_icmp .ge 59, 3) := dk_162 0 59 (dk_at dksX6_count_0 7 rfl rfl)
theorem dX6_count_10 : decode cX6_count 10 = .ok (.iload_n 2, 1) := dk_28 (dk_at dksX6_count_0 10 rfl rfl)
theorem dX6_count_11 : decode cX6_count 11 = .ok (.iload_n 1, 1) := dk_27 (dk_at dksX6_count_0 11 rfl rfl)
theorem dX6_count_12 : decode cX6_count 12 = .ok (.iconst 1, 1) := dk_4 (dk_at dksX6_count_0 12 rfl rfl)
theorem dX6_count_13 : decode cX6_count 13 = .ok (.if_icmp .ne 12, 3) := dk_160 0 12 (dk_at dksX6_count_0 13 rfl rfl)
theorem dX6_count_16 : decode cX6_count 16 = .ok (.aload_n 0, 1) := dk_42 (dk_at dksX6_count_0 16 rfl rfl)
theorem dX6_count_17 : decode cX6_count 17 = .ok (.getfield 13, 3) := dk_180 0 13 (dk_at dksX6_count_0 17 rfl rfl)
theorem dX6_count_20 : decode cX6_count 20 = .ok (.iload_n 3, 1) := dk_29 (dk_at dksX6_count_0 20 rfl rfl)
theorem dX6_count_21 : decode cX6_count 21 = .ok (.iaload, 1) := dk_46 (dk_at dksX6_count_0 21 rfl rfl)
theorem dX6_count_22 : decode cX6_count 22 = .ok (.ifCond .gt 31, 3) := dk_157 0 31 (dk_at dksX6_count_1 0 rfl rfl)
theorem dX6_count_25 : decode cX6_count 25 = .ok (.iload_n 1, 1) := dk_27 (dk_at dksX6_count_1 3 rfl rfl)
theorem dX6_count_26 : decode cX6_count 26 = .ok (.iconst 2, 1) := dk_5 (dk_at dksX6_count_1 4 rfl rfl)
theorem dX6_count_27 : decode cX6_count 27 = .ok (.if_icmp .ne 12, 3) := dk_160 0 12 (dk_at dksX6_count_1 5 rfl rfl)
theorem dX6_count_30 : decode cX6_count 30 = .ok (.aload_n 0, 1) := dk_42 (dk_at dksX6_count_1 8 rfl rfl)
theorem dX6_count_31 : decode cX6_count 31 = .ok (.getfield 7, 3) := dk_180 0 7 (dk_at dksX6_count_1 9 rfl rfl)
theorem dX6_count_34 : decode cX6_count 34 = .ok (.iload_n 3, 1) := dk_29 (dk_at dksX6_count_1 12 rfl rfl)
theorem dX6_count_35 : decode cX6_count 35 = .ok (.iaload, 1) := dk_46 (dk_at dksX6_count_1 13 rfl rfl)
theorem dX6_count_36 : decode cX6_count 36 = .ok (.ifCond .gt 17, 3) := dk_157 0 17 (dk_at dksX6_count_1 14 rfl rfl)
theorem dX6_count_39 : decode cX6_count 39 = .ok (.iload_n 1, 1) := dk_27 (dk_at dksX6_count_1 17 rfl rfl)
theorem dX6_count_40 : decode cX6_count 40 = .ok (.iconst 3, 1) := dk_6 (dk_at dksX6_count_1 18 rfl rfl)
theorem dX6_count_41 : decode cX6_count 41 = .ok (.if_icmp .ne 16, 3) := dk_160 0 16 (dk_at dksX6_count_1 19 rfl rfl)
theorem dX6_count_44 : decode cX6_count 44 = .ok (.aload_n 0, 1) := dk_42 (dk_at dksX6_count_1 22 rfl rfl)
theorem dX6_count_45 : decode cX6_count 45 = .ok (.getfield 22, 3) := dk_180 0 22 (dk_at dksX6_count_2 0 rfl rfl)
theorem dX6_count_48 : decode cX6_count 48 = .ok (.iload_n 3, 1) := dk_29 (dk_at dksX6_count_2 3 rfl rfl)
theorem dX6_count_49 : decode cX6_count 49 = .ok (.iaload, 1) := dk_46 (dk_at dksX6_count_2 4 rfl rfl)
theorem dX6_count_50 : decode cX6_count 50 = .ok (.ifCond .le 7, 3) := dk_158 0 7 (dk_at dksX6_count_2 5 rfl rfl)
theorem dX6_count_53 : decode cX6_count 53 = .ok (.iconst 1, 1) := dk_4 (dk_at dksX6_count_2 8 rfl rfl)
theorem dX6_count_54 : decode cX6_count 54 = .ok (.goto 4, 3) := dk_167 0 4 (dk_at dksX6_count_2 9 rfl rfl)
theorem dX6_count_57 : decode cX6_count 57 = .ok (.iconst 0, 1) := dk_3 (dk_at dksX6_count_2 12 rfl rfl)
theorem dX6_count_58 : decode cX6_count 58 = .ok (.iadd, 1) := dk_96 (dk_at dksX6_count_2 13 rfl rfl)
theorem dX6_count_59 : decode cX6_count 59 = .ok (.istore_n 2, 1) := dk_61 (dk_at dksX6_count_2 14 rfl rfl)
theorem dX6_count_60 : decode cX6_count 60 = .ok (.iinc 3 1, 3) := dk_132 3 1 (dk_at dksX6_count_2 15 rfl rfl)
theorem dX6_count_63 : decode cX6_count 63 = .ok (.goto (-59), 3) := dk_167 255 197 (dk_at dksX6_count_2 18 rfl rfl)
theorem dX6_count_66 : decode cX6_count 66 = .ok (.iload_n 1, 1) := dk_27 (dk_at dksX6_count_2 21 rfl rfl)
theorem dX6_count_67 : decode cX6_count 67 = .ok (.i2l, 1) := dk_133 (dk_at dksX6_count_2 22 rfl rfl)
theorem dX6_count_68 : decode cX6_count 68 = .ok (.lconst 0, 1) := dk_9 (dk_at dksX6_count_2 23 rfl rfl)
theorem dX6_count_69 : decode cX6_count 69 = .ok (.ldc2_w 161, 3) := dk_20 0 161 (dk_at dksX6_count_3 0 rfl rfl)
theorem dX6_count_72 : decode cX6_count 72 = .ok (.invokestatic 70, 3) := dk_184 0 70 (dk_at dksX6_count_3 3 rfl rfl)
theorem dX6_count_75 : decode cX6_count 75 = .ok (.ifCond .ne 7, 3) := dk_154 0 7 (dk_at dksX6_count_3 6 rfl rfl)
theorem dX6_count_78 : decode cX6_count 78 = .ok (.iconst (-1), 1) := dk_2 (dk_at dksX6_count_3 9 rfl rfl)
theorem dX6_count_79 : decode cX6_count 79 = .ok (.goto 39, 3) := dk_167 0 39 (dk_at dksX6_count_3 10 rfl rfl)
theorem dX6_count_82 : decode cX6_count 82 = .ok (.iload_n 1, 1) := dk_27 (dk_at dksX6_count_3 13 rfl rfl)
theorem dX6_count_83 : decode cX6_count 83 = .ok (.ifCond .ne 10, 3) := dk_154 0 10 (dk_at dksX6_count_3 14 rfl rfl)
theorem dX6_count_86 : decode cX6_count 86 = .ok (.aload_n 0, 1) := dk_42 (dk_at dksX6_count_3 17 rfl rfl)
theorem dX6_count_87 : decode cX6_count 87 = .ok (.getfield 76, 3) := dk_180 0 76 (dk_at dksX6_count_3 18 rfl rfl)
theorem dX6_count_90 : decode cX6_count 90 = .ok (.goto 28, 3) := dk_167 0 28 (dk_at dksX6_count_3 21 rfl rfl)
theorem dX6_count_93 : decode cX6_count 93 = .ok (.iload_n 1, 1) := dk_27 (dk_at dksX6_count_4 0 rfl rfl)
theorem dX6_count_94 : decode cX6_count 94 = .ok (.iconst 4, 1) := dk_7 (dk_at dksX6_count_4 1 rfl rfl)
theorem dX6_count_95 : decode cX6_count 95 = .ok (.if_icmp .ne 10, 3) := dk_160 0 10 (dk_at dksX6_count_4 2 rfl rfl)
theorem dX6_count_98 : decode cX6_count 98 = .ok (.aload_n 0, 1) := dk_42 (dk_at dksX6_count_4 5 rfl rfl)
theorem dX6_count_99 : decode cX6_count 99 = .ok (.getfield 163, 3) := dk_180 0 163 (dk_at dksX6_count_4 6 rfl rfl)
theorem dX6_count_102 : decode cX6_count 102 = .ok (.goto 16, 3) := dk_167 0 16 (dk_at dksX6_count_4 9 rfl rfl)
theorem dX6_count_105 : decode cX6_count 105 = .ok (.iload_n 1, 1) := dk_27 (dk_at dksX6_count_4 12 rfl rfl)
theorem dX6_count_106 : decode cX6_count 106 = .ok (.iconst 5, 1) := dk_8 (dk_at dksX6_count_4 13 rfl rfl)
theorem dX6_count_107 : decode cX6_count 107 = .ok (.if_icmp .ne 10, 3) := dk_160 0 10 (dk_at dksX6_count_4 14 rfl rfl)
theorem dX6_count_110 : decode cX6_count 110 = .ok (.aload_n 0, 1) := dk_42 (dk_at dksX6_count_4 17 rfl rfl)
theorem dX6_count_111 : decode cX6_count 111 = .ok (.getfield 166, 3) := dk_180 0 166 (dk_at dksX6_count_4 18 rfl rfl)
theorem dX6_count_114 : decode cX6_count 114 = .ok (.goto 4, 3) := dk_167 0 4 (dk_at dksX6_count_4 21 rfl rfl)
theorem dX6_count_117 : decode cX6_count 117 = .ok (.iload_n 2, 1) := dk_28 (dk_at dksX6_count_5 0 rfl rfl)
theorem dX6_count_118 : decode cX6_count 118 = .ok (.ireturn, 1) := dk_172 (dk_at dksX6_count_5 1 rfl rfl)
abbrev cX6_pull : ByteArray := prog_11_method_30_code
def yX6_pull : MethodName := ⟨RX6, "pull", "(IIII)I"⟩
def dkwX6_pull_2 : List UInt8 := [42, 180, 0, 28, 6, 27, 104, 5, 96, 46, 28, 29, 21, 4, 182, 0, 169, 172]
abbrev dktX6_pull_2 : List UInt8 := dkwX6_pull_2 ++ []
def dkwX6_pull_1 : List UInt8 := [133, 10, 20, 0, 86, 184, 0, 70, 154, 0, 5, 2, 172, 42, 42, 180, 0, 28, 6, 27, 104, 4, 96, 46]
abbrev dktX6_pull_1 : List UInt8 := dkwX6_pull_1 ++ dktX6_pull_2
def dkwX6_pull_0 : List UInt8 := [42, 27, 182, 0, 105, 153, 0, 30, 28, 184, 0, 79, 153, 0, 23, 29, 184, 0, 83, 153, 0, 16, 21, 4]
abbrev dktX6_pull_0 : List UInt8 := dkwX6_pull_0 ++ dktX6_pull_1
theorem dksX6_pull_0 : cX6_pull.data.toList.drop 0 = dktX6_pull_0 := by decide +kernel
theorem dksX6_pull_1 : cX6_pull.data.toList.drop 24 = dktX6_pull_1 := dk_seg dksX6_pull_0 24 rfl rfl
theorem dksX6_pull_2 : cX6_pull.data.toList.drop 48 = dktX6_pull_2 := dk_seg dksX6_pull_1 24 rfl rfl
theorem dX6_pull_0 : decode cX6_pull 0 = .ok (.aload_n 0, 1) := dk_42 (dk_at dksX6_pull_0 0 rfl rfl)
theorem dX6_pull_1 : decode cX6_pull 1 = .ok (.iload_n 1, 1) := dk_27 (dk_at dksX6_pull_0 1 rfl rfl)
theorem dX6_pull_2 : decode cX6_pull 2 = .ok (.invokevirtual 105, 3) := dk_182 0 105 (dk_at dksX6_pull_0 2 rfl rfl)
theorem dX6_pull_5 : decode cX6_pull 5 = .ok (.ifCond .eq 30, 3) := dk_153 0 30 (dk_at dksX6_pull_0 5 rfl rfl)
theorem dX6_pull_8 : decode cX6_pull 8 = .ok (.iload_n 2, 1) := dk_28 (dk_at dksX6_pull_0 8 rfl rfl)
theorem dX6_pull_9 : decode cX6_pull 9 = .ok (.invokestatic 79, 3) := dk_184 0 79 (dk_at dksX6_pull_0 9 rfl rfl)
theorem dX6_pull_12 : decode cX6_pull 12 = .ok (.ifCond .eq 23, 3) := dk_153 0 23 (dk_at dksX6_pull_0 12 rfl rfl)
theorem dX6_pull_15 : decode cX6_pull 15 = .ok (.iload_n 3, 1) := dk_29 (dk_at dksX6_pull_0 15 rfl rfl)
theorem dX6_pull_16 : decode cX6_pull 16 = .ok (.invokestatic 83, 3) := dk_184 0 83 (dk_at dksX6_pull_0 16 rfl rfl)
theorem dX6_pull_19 : decode cX6_pull 19 = .ok (.ifCond .eq 16, 3) := dk_153 0 16 (dk_at dksX6_pull_0 19 rfl rfl)
theorem dX6_pull_22 : decode cX6_pull 22 = .ok (.iload 4, 2) := dk_21 4 (dk_at dksX6_pull_0 22 rfl rfl)
theorem dX6_pull_24 : decode cX6_pull 24 = .ok (.i2l, 1) := dk_133 (dk_at dksX6_pull_1 0 rfl rfl)
theorem dX6_pull_25 : decode cX6_pull 25 = .ok (.lconst 1, 1) := dk_10 (dk_at dksX6_pull_1 1 rfl rfl)
theorem dX6_pull_26 : decode cX6_pull 26 = .ok (.ldc2_w 86, 3) := dk_20 0 86 (dk_at dksX6_pull_1 2 rfl rfl)
theorem dX6_pull_29 : decode cX6_pull 29 = .ok (.invokestatic 70, 3) := dk_184 0 70 (dk_at dksX6_pull_1 5 rfl rfl)
theorem dX6_pull_32 : decode cX6_pull 32 = .ok (.ifCond .ne 5, 3) := dk_154 0 5 (dk_at dksX6_pull_1 8 rfl rfl)
theorem dX6_pull_35 : decode cX6_pull 35 = .ok (.iconst (-1), 1) := dk_2 (dk_at dksX6_pull_1 11 rfl rfl)
theorem dX6_pull_36 : decode cX6_pull 36 = .ok (.ireturn, 1) := dk_172 (dk_at dksX6_pull_1 12 rfl rfl)
theorem dX6_pull_37 : decode cX6_pull 37 = .ok (.aload_n 0, 1) := dk_42 (dk_at dksX6_pull_1 13 rfl rfl)
theorem dX6_pull_38 : decode cX6_pull 38 = .ok (.aload_n 0, 1) := dk_42 (dk_at dksX6_pull_1 14 rfl rfl)
theorem dX6_pull_39 : decode cX6_pull 39 = .ok (.getfield 28, 3) := dk_180 0 28 (dk_at dksX6_pull_1 15 rfl rfl)
theorem dX6_pull_42 : decode cX6_pull 42 = .ok (.iconst 3, 1) := dk_6 (dk_at dksX6_pull_1 18 rfl rfl)
theorem dX6_pull_43 : decode cX6_pull 43 = .ok (.iload_n 1, 1) := dk_27 (dk_at dksX6_pull_1 19 rfl rfl)
theorem dX6_pull_44 : decode cX6_pull 44 = .ok (.imul, 1) := dk_104 (dk_at dksX6_pull_1 20 rfl rfl)
theorem dX6_pull_45 : decode cX6_pull 45 = .ok (.iconst 1, 1) := dk_4 (dk_at dksX6_pull_1 21 rfl rfl)
theorem dX6_pull_46 : decode cX6_pull 46 = .ok (.iadd, 1) := dk_96 (dk_at dksX6_pull_1 22 rfl rfl)
theorem dX6_pull_47 : decode cX6_pull 47 = .ok (.iaload, 1) := dk_46 (dk_at dksX6_pull_1 23 rfl rfl)
theorem dX6_pull_48 : decode cX6_pull 48 = .ok (.aload_n 0, 1) := dk_42 (dk_at dksX6_pull_2 0 rfl rfl)
theorem dX6_pull_49 : decode cX6_pull 49 = .ok (.getfield 28, 3) := dk_180 0 28 (dk_at dksX6_pull_2 1 rfl rfl)
theorem dX6_pull_52 : decode cX6_pull 52 = .ok (.iconst 3, 1) := dk_6 (dk_at dksX6_pull_2 4 rfl rfl)
theorem dX6_pull_53 : decode cX6_pull 53 = .ok (.iload_n 1, 1) := dk_27 (dk_at dksX6_pull_2 5 rfl rfl)
theorem dX6_pull_54 : decode cX6_pull 54 = .ok (.imul, 1) := dk_104 (dk_at dksX6_pull_2 6 rfl rfl)
theorem dX6_pull_55 : decode cX6_pull 55 = .ok (.iconst 2, 1) := dk_5 (dk_at dksX6_pull_2 7 rfl rfl)
theorem dX6_pull_56 : decode cX6_pull 56 = .ok (.iadd, 1) := dk_96 (dk_at dksX6_pull_2 8 rfl rfl)
theorem dX6_pull_57 : decode cX6_pull 57 = .ok (.iaload, 1) := dk_46 (dk_at dksX6_pull_2 9 rfl rfl)
theorem dX6_pull_58 : decode cX6_pull 58 = .ok (.iload_n 2, 1) := dk_28 (dk_at dksX6_pull_2 10 rfl rfl)
theorem dX6_pull_59 : decode cX6_pull 59 = .ok (.iload_n 3, 1) := dk_29 (dk_at dksX6_pull_2 11 rfl rfl)
theorem dX6_pull_60 : decode cX6_pull 60 = .ok (.iload 4, 2) := dk_21 4 (dk_at dksX6_pull_2 12 rfl rfl)
theorem dX6_pull_62 : decode cX6_pull 62 = .ok (.invokevirtual 169, 3) := dk_182 0 169 (dk_at dksX6_pull_2 14 rfl rfl)
theorem dX6_pull_65 : decode cX6_pull 65 = .ok (.ireturn, 1) := dk_172 (dk_at dksX6_pull_2 17 rfl rfl)
abbrev cX6_pullOn : ByteArray := prog_11_method_29_code
def yX6_pullOn : MethodName := ⟨RX6, "pullOn", "(IIIII)I"⟩
def dkwX6_pullOn_8 : List UInt8 := [21, 5, 4, 100, 104, 167, 0, 4, 3, 96, 54, 7, 21, 7, 172]
abbrev dktX6_pullOn_8 : List UInt8 := dkwX6_pullOn_8 ++ []
def dkwX6_pullOn_7 : List UInt8 := [158, 0, 31, 42, 180, 0, 13, 29, 46, 16, 10, 108, 21, 4, 160, 0, 17, 42, 180, 0, 25, 6, 46]
abbrev dktX6_pullOn_7 : List UInt8 := dkwX6_pullOn_7 ++ dktX6_pullOn_8
def dkwX6_pullOn_6 : List UInt8 := [29, 46, 21, 6, 159, 0, 7, 28, 167, 0, 4, 3, 96, 54, 7, 21, 7, 42, 180, 0, 13, 29, 46]
abbrev dktX6_pullOn_6 : List UInt8 := dkwX6_pullOn_6 ++ dktX6_pullOn_7
def dkwX6_pullOn_5 : List UInt8 := [167, 0, 4, 3, 96, 54, 7, 21, 7, 27, 4, 160, 0, 24, 21, 6, 5, 162, 0, 18, 42, 180, 0, 16]
abbrev dktX6_pullOn_5 : List UInt8 := dkwX6_pullOn_5 ++ dktX6_pullOn_6
def dkwX6_pullOn_4 : List UInt8 := [21, 7, 42, 180, 0, 19, 29, 46, 21, 6, 160, 0, 17, 27, 5, 159, 0, 12, 42, 180, 0, 25, 4, 46]
abbrev dktX6_pullOn_4 : List UInt8 := dkwX6_pullOn_4 ++ dktX6_pullOn_5
def dkwX6_pullOn_3 : List UInt8 := [180, 0, 16, 29, 46, 21, 6, 160, 0, 12, 42, 180, 0, 25, 3, 46, 167, 0, 4, 3, 96, 54, 7]
abbrev dktX6_pullOn_3 : List UInt8 := dkwX6_pullOn_3 ++ dktX6_pullOn_4
def dkwX6_pullOn_2 : List UInt8 := [160, 0, 15, 42, 180, 0, 7, 29, 46, 16, 10, 112, 167, 0, 4, 3, 96, 54, 7, 21, 7, 42]
abbrev dktX6_pullOn_2 : List UInt8 := dkwX6_pullOn_2 ++ dktX6_pullOn_3
def dkwX6_pullOn_1 : List UInt8 := [54, 7, 21, 7, 42, 180, 0, 7, 29, 46, 158, 0, 29, 42, 180, 0, 7, 29, 46, 16, 10, 108, 21, 6]
abbrev dktX6_pullOn_1 : List UInt8 := dkwX6_pullOn_1 ++ dktX6_pullOn_2
def dkwX6_pullOn_0 : List UInt8 := [27, 6, 160, 0, 16, 21, 4, 5, 162, 0, 10, 4, 21, 4, 100, 167, 0, 5, 21, 4, 54, 6, 4]
abbrev dktX6_pullOn_0 : List UInt8 := dkwX6_pullOn_0 ++ dktX6_pullOn_1
theorem dksX6_pullOn_0 : cX6_pullOn.data.toList.drop 0 = dktX6_pullOn_0 := by decide +kernel
theorem dksX6_pullOn_1 : cX6_pullOn.data.toList.drop 23 = dktX6_pullOn_1 := dk_seg dksX6_pullOn_0 23 rfl rfl
theorem dksX6_pullOn_2 : cX6_pullOn.data.toList.drop 47 = dktX6_pullOn_2 := dk_seg dksX6_pullOn_1 24 rfl rfl
theorem dksX6_pullOn_3 : cX6_pullOn.data.toList.drop 69 = dktX6_pullOn_3 := dk_seg dksX6_pullOn_2 22 rfl rfl
theorem dksX6_pullOn_4 : cX6_pullOn.data.toList.drop 92 = dktX6_pullOn_4 := dk_seg dksX6_pullOn_3 23 rfl rfl
theorem dksX6_pullOn_5 : cX6_pullOn.data.toList.drop 116 = dktX6_pullOn_5 := dk_seg dksX6_pullOn_4 24 rfl rfl
theorem dksX6_pullOn_6 : cX6_pullOn.data.toList.drop 140 = dktX6_pullOn_6 := dk_seg dksX6_pullOn_5 24 rfl rfl
theorem dksX6_pullOn_7 : cX6_pullOn.data.toList.drop 163 = dktX6_pullOn_7 := dk_seg dksX6_pullOn_6 23 rfl rfl
theorem dksX6_pullOn_8 : cX6_pullOn.data.toList.drop 186 = dktX6_pullOn_8 := dk_seg dksX6_pullOn_7 23 rfl rfl
theorem dX6_pullOn_0 : decode cX6_pullOn 0 = .ok (.iload_n 1, 1) := dk_27 (dk_at dksX6_pullOn_0 0 rfl rfl)
theorem dX6_pullOn_1 : decode cX6_pullOn 1 = .ok (.iconst 3, 1) := dk_6 (dk_at dksX6_pullOn_0 1 rfl rfl)
theorem dX6_pullOn_2 : decode cX6_pullOn 2 = .ok (.if_icmp .ne 16, 3) := dk_160 0 16 (dk_at dksX6_pullOn_0 2 rfl rfl)
theorem dX6_pullOn_5 : decode cX6_pullOn 5 = .ok (.iload 4, 2) := dk_21 4 (dk_at dksX6_pullOn_0 5 rfl rfl)
theorem dX6_pullOn_7 : decode cX6_pullOn 7 = .ok (.iconst 2, 1) := dk_5 (dk_at dksX6_pullOn_0 7 rfl rfl)
theorem dX6_pullOn_8 : decode cX6_pullOn 8 = .ok (.if_icmp .ge 10, 3) := dk_162 0 10 (dk_at dksX6_pullOn_0 8 rfl rfl)
theorem dX6_pullOn_11 : decode cX6_pullOn 11 = .ok (.iconst 1, 1) := dk_4 (dk_at dksX6_pullOn_0 11 rfl rfl)
theorem dX6_pullOn_12 : decode cX6_pullOn 12 = .ok (.iload 4, 2) := dk_21 4 (dk_at dksX6_pullOn_0 12 rfl rfl)
theorem dX6_pullOn_14 : decode cX6_pullOn 14 = .ok (.isub, 1) := dk_100 (dk_at dksX6_pullOn_0 14 rfl rfl)
theorem dX6_pullOn_15 : decode cX6_pullOn 15 = .ok (.goto 5, 3) := dk_167 0 5 (dk_at dksX6_pullOn_0 15 rfl rfl)
theorem dX6_pullOn_18 : decode cX6_pullOn 18 = .ok (.iload 4, 2) := dk_21 4 (dk_at dksX6_pullOn_0 18 rfl rfl)
theorem dX6_pullOn_20 : decode cX6_pullOn 20 = .ok (.istore 6, 2) := dk_54 6 (dk_at dksX6_pullOn_0 20 rfl rfl)
theorem dX6_pullOn_22 : decode cX6_pullOn 22 = .ok (.iconst 1, 1) := dk_4 (dk_at dksX6_pullOn_0 22 rfl rfl)
theorem dX6_pullOn_23 : decode cX6_pullOn 23 = .ok (.istore 7, 2) := dk_54 7 (dk_at dksX6_pullOn_1 0 rfl rfl)
theorem dX6_pullOn_25 : decode cX6_pullOn 25 = .ok (.iload 7, 2) := dk_21 7 (dk_at dksX6_pullOn_1 2 rfl rfl)
theorem dX6_pullOn_27 : decode cX6_pullOn 27 = .ok (.aload_n 0, 1) := dk_42 (dk_at dksX6_pullOn_1 4 rfl rfl)
theorem dX6_pullOn_28 : decode cX6_pullOn 28 = .ok (.getfield 7, 3) := dk_180 0 7 (dk_at dksX6_pullOn_1 5 rfl rfl)
theorem dX6_pullOn_31 : decode cX6_pullOn 31 = .ok (.iload_n 3, 1) := dk_29 (dk_at dksX6_pullOn_1 8 rfl rfl)
theorem dX6_pullOn_32 : decode cX6_pullOn 32 = .ok (.iaload, 1) := dk_46 (dk_at dksX6_pullOn_1 9 rfl rfl)
theorem dX6_pullOn_33 : decode cX6_pullOn 33 = .ok (.ifCond .le 29, 3) := dk_158 0 29 (dk_at dksX6_pullOn_1 10 rfl rfl)
theorem dX6_pullOn_36 : decode cX6_pullOn 36 = .ok (.aload_n 0, 1) := dk_42 (dk_at dksX6_pullOn_1 13 rfl rfl)
theorem dX6_pullOn_37 : decode cX6_pullOn 37 = .ok (.getfield 7, 3) := dk_180 0 7 (dk_at dksX6_pullOn_1 14 rfl rfl)
theorem dX6_pullOn_40 : decode cX6_pullOn 40 = .ok (.iload_n 3, 1) := dk_29 (dk_at dksX6_pullOn_1 17 rfl rfl)
theorem dX6_pullOn_41 : decode cX6_pullOn 41 = .ok (.iaload, 1) := dk_46 (dk_at dksX6_pullOn_1 18 rfl rfl)
theorem dX6_pullOn_42 : decode cX6_pullOn 42 = .ok (.bipush 10, 2) := dk_16 10 (dk_at dksX6_pullOn_1 19 rfl rfl)
theorem dX6_pullOn_44 : decode cX6_pullOn 44 = .ok (.idiv, 1) := dk_108 (dk_at dksX6_pullOn_1 21 rfl rfl)
theorem dX6_pullOn_45 : decode cX6_pullOn 45 = .ok (.iload 6, 2) := dk_21 6 (dk_at dksX6_pullOn_1 22 rfl rfl)
theorem dX6_pullOn_47 : decode cX6_pullOn 47 = .ok (.if_icmp .ne 15, 3) := dk_160 0 15 (dk_at dksX6_pullOn_2 0 rfl rfl)
theorem dX6_pullOn_50 : decode cX6_pullOn 50 = .ok (.aload_n 0, 1) := dk_42 (dk_at dksX6_pullOn_2 3 rfl rfl)
theorem dX6_pullOn_51 : decode cX6_pullOn 51 = .ok (.getfield 7, 3) := dk_180 0 7 (dk_at dksX6_pullOn_2 4 rfl rfl)
theorem dX6_pullOn_54 : decode cX6_pullOn 54 = .ok (.iload_n 3, 1) := dk_29 (dk_at dksX6_pullOn_2 7 rfl rfl)
theorem dX6_pullOn_55 : decode cX6_pullOn 55 = .ok (.iaload, 1) := dk_46 (dk_at dksX6_pullOn_2 8 rfl rfl)
theorem dX6_pullOn_56 : decode cX6_pullOn 56 = .ok (.bipush 10, 2) := dk_16 10 (dk_at dksX6_pullOn_2 9 rfl rfl)
theorem dX6_pullOn_58 : decode cX6_pullOn 58 = .ok (.irem, 1) := dk_112 (dk_at dksX6_pullOn_2 11 rfl rfl)
theorem dX6_pullOn_59 : decode cX6_pullOn 59 = .ok (.goto 4, 3) := dk_167 0 4 (dk_at dksX6_pullOn_2 12 rfl rfl)
theorem dX6_pullOn_62 : decode cX6_pullOn 62 = .ok (.iconst 0, 1) := dk_3 (dk_at dksX6_pullOn_2 15 rfl rfl)
theorem dX6_pullOn_63 : decode cX6_pullOn 63 = .ok (.iadd, 1) := dk_96 (dk_at dksX6_pullOn_2 16 rfl rfl)
theorem dX6_pullOn_64 : decode cX6_pullOn 64 = .ok (.istore 7, 2) := dk_54 7 (dk_at dksX6_pullOn_2 17 rfl rfl)
theorem dX6_pullOn_66 : decode cX6_pullOn 66 = .ok (.iload 7, 2) := dk_21 7 (dk_at dksX6_pullOn_2 19 rfl rfl)
theorem dX6_pullOn_68 : decode cX6_pullOn 68 = .ok (.aload_n 0, 1) := dk_42 (dk_at dksX6_pullOn_2 21 rfl rfl)
theorem dX6_pullOn_69 : decode cX6_pullOn 69 = .ok (.getfield 16, 3) := dk_180 0 16 (dk_at dksX6_pullOn_3 0 rfl rfl)
theorem dX6_pullOn_72 : decode cX6_pullOn 72 = .ok (.iload_n 3, 1) := dk_29 (dk_at dksX6_pullOn_3 3 rfl rfl)
theorem dX6_pullOn_73 : decode cX6_pullOn 73 = .ok (.iaload, 1) := dk_46 (dk_at dksX6_pullOn_3 4 rfl rfl)
theorem dX6_pullOn_74 : decode cX6_pullOn 74 = .ok (.iload 6, 2) := dk_21 6 (dk_at dksX6_pullOn_3 5 rfl rfl)
theorem dX6_pullOn_76 : decode cX6_pullOn 76 = .ok (.if_icmp .ne 12, 3) := dk_160 0 12 (dk_at dksX6_pullOn_3 7 rfl rfl)
theorem dX6_pullOn_79 : decode cX6_pullOn 79 = .ok (.aload_n 0, 1) := dk_42 (dk_at dksX6_pullOn_3 10 rfl rfl)
theorem dX6_pullOn_80 : decode cX6_pullOn 80 = .ok (.getfield 25, 3) := dk_180 0 25 (dk_at dksX6_pullOn_3 11 rfl rfl)
theorem dX6_pullOn_83 : decode cX6_pullOn 83 = .ok (.iconst 0, 1) := dk_3 (dk_at dksX6_pullOn_3 14 rfl rfl)
theorem dX6_pullOn_84 : decode cX6_pullOn 84 = .ok (.iaload, 1) := dk_46 (dk_at dksX6_pullOn_3 15 rfl rfl)
theorem dX6_pullOn_85 : decode cX6_pullOn 85 = .ok (.goto 4, 3) := dk_167 0 4 (dk_at dksX6_pullOn_3 16 rfl rfl)
theorem dX6_pullOn_88 : decode cX6_pullOn 88 = .ok (.iconst 0, 1) := dk_3 (dk_at dksX6_pullOn_3 19 rfl rfl)
theorem dX6_pullOn_89 : decode cX6_pullOn 89 = .ok (.iadd, 1) := dk_96 (dk_at dksX6_pullOn_3 20 rfl rfl)
theorem dX6_pullOn_90 : decode cX6_pullOn 90 = .ok (.istore 7, 2) := dk_54 7 (dk_at dksX6_pullOn_3 21 rfl rfl)
theorem dX6_pullOn_92 : decode cX6_pullOn 92 = .ok (.iload 7, 2) := dk_21 7 (dk_at dksX6_pullOn_4 0 rfl rfl)
theorem dX6_pullOn_94 : decode cX6_pullOn 94 = .ok (.aload_n 0, 1) := dk_42 (dk_at dksX6_pullOn_4 2 rfl rfl)
theorem dX6_pullOn_95 : decode cX6_pullOn 95 = .ok (.getfield 19, 3) := dk_180 0 19 (dk_at dksX6_pullOn_4 3 rfl rfl)
theorem dX6_pullOn_98 : decode cX6_pullOn 98 = .ok (.iload_n 3, 1) := dk_29 (dk_at dksX6_pullOn_4 6 rfl rfl)
theorem dX6_pullOn_99 : decode cX6_pullOn 99 = .ok (.iaload, 1) := dk_46 (dk_at dksX6_pullOn_4 7 rfl rfl)
theorem dX6_pullOn_100 : decode cX6_pullOn 100 = .ok (.iload 6, 2) := dk_21 6 (dk_at dksX6_pullOn_4 8 rfl rfl)
theorem dX6_pullOn_102 : decode cX6_pullOn 102 = .ok (.if_icmp .ne 17, 3) := dk_160 0 17 (dk_at dksX6_pullOn_4 10 rfl rfl)
theorem dX6_pullOn_105 : decode cX6_pullOn 105 = .ok (.iload_n 1, 1) := dk_27 (dk_at dksX6_pullOn_4 13 rfl rfl)
theorem dX6_pullOn_106 : decode cX6_pullOn 106 = .ok (.iconst 2, 1) := dk_5 (dk_at dksX6_pullOn_4 14 rfl rfl)
theorem dX6_pullOn_107 : decode cX6_pullOn 107 = .ok (.if_icmp .eq 12, 3) := dk_159 0 12 (dk_at dksX6_pullOn_4 15 rfl rfl)
theorem dX6_pullOn_110 : decode cX6_pullOn 110 = .ok (.aload_n 0, 1) := dk_42 (dk_at dksX6_pullOn_4 18 rfl rfl)
theorem dX6_pullOn_111 : decode cX6_pullOn 111 = .ok (.getfield 25, 3) := dk_180 0 25 (dk_at dksX6_pullOn_4 19 rfl rfl)
theorem dX6_pullOn_114 : decode cX6_pullOn 114 = .ok (.iconst 1, 1) := dk_4 (dk_at dksX6_pullOn_4 22 rfl rfl)
theorem dX6_pullOn_115 : decode cX6_pullOn 115 = .ok (.iaload, 1) := dk_46 (dk_at dksX6_pullOn_4 23 rfl rfl)
theorem dX6_pullOn_116 : decode cX6_pullOn 116 = .ok (.goto 4, 3) := dk_167 0 4 (dk_at dksX6_pullOn_5 0 rfl rfl)
theorem dX6_pullOn_119 : decode cX6_pullOn 119 = .ok (.iconst 0, 1) := dk_3 (dk_at dksX6_pullOn_5 3 rfl rfl)
theorem dX6_pullOn_120 : decode cX6_pullOn 120 = .ok (.iadd, 1) := dk_96 (dk_at dksX6_pullOn_5 4 rfl rfl)
theorem dX6_pullOn_121 : decode cX6_pullOn 121 = .ok (.istore 7, 2) := dk_54 7 (dk_at dksX6_pullOn_5 5 rfl rfl)
theorem dX6_pullOn_123 : decode cX6_pullOn 123 = .ok (.iload 7, 2) := dk_21 7 (dk_at dksX6_pullOn_5 7 rfl rfl)
theorem dX6_pullOn_125 : decode cX6_pullOn 125 = .ok (.iload_n 1, 1) := dk_27 (dk_at dksX6_pullOn_5 9 rfl rfl)
theorem dX6_pullOn_126 : decode cX6_pullOn 126 = .ok (.iconst 1, 1) := dk_4 (dk_at dksX6_pullOn_5 10 rfl rfl)
theorem dX6_pullOn_127 : decode cX6_pullOn 127 = .ok (.if_icmp .ne 24, 3) := dk_160 0 24 (dk_at dksX6_pullOn_5 11 rfl rfl)
theorem dX6_pullOn_130 : decode cX6_pullOn 130 = .ok (.iload 6, 2) := dk_21 6 (dk_at dksX6_pullOn_5 14 rfl rfl)
theorem dX6_pullOn_132 : decode cX6_pullOn 132 = .ok (.iconst 2, 1) := dk_5 (dk_at dksX6_pullOn_5 16 rfl rfl)
theorem dX6_pullOn_133 : decode cX6_pullOn 133 = .ok (.if_icmp .ge 18, 3) := dk_162 0 18 (dk_at dksX6_pullOn_5 17 rfl rfl)
theorem dX6_pullOn_136 : decode cX6_pullOn 136 = .ok (.aload_n 0, 1) := dk_42 (dk_at dksX6_pullOn_5 20 rfl rfl)
theorem dX6_pullOn_137 : decode cX6_pullOn 137 = .ok (.getfield 16, 3) := dk_180 0 16 (dk_at dksX6_pullOn_5 21 rfl rfl)
theorem dX6_pullOn_140 : decode cX6_pullOn 140 = .ok (.iload_n 3, 1) := dk_29 (dk_at dksX6_pullOn_6 0 rfl rfl)
theorem dX6_pullOn_141 : decode cX6_pullOn 141 = .ok (.iaload, 1) := dk_46 (dk_at dksX6_pullOn_6 1 rfl rfl)
theorem dX6_pullOn_142 : decode cX6_pullOn 142 = .ok (.iload 6, 2) := dk_21 6 (dk_at dksX6_pullOn_6 2 rfl rfl)
theorem dX6_pullOn_144 : decode cX6_pullOn 144 = .ok (.if_icmp .eq 7, 3) := dk_159 0 7 (dk_at dksX6_pullOn_6 4 rfl rfl)
theorem dX6_pullOn_147 : decode cX6_pullOn 147 = .ok (.iload_n 2, 1) := dk_28 (dk_at dksX6_pullOn_6 7 rfl rfl)
theorem dX6_pullOn_148 : decode cX6_pullOn 148 = .ok (.goto 4, 3) := dk_167 0 4 (dk_at dksX6_pullOn_6 8 rfl rfl)
theorem dX6_pullOn_151 : decode cX6_pullOn 151 = .ok (.iconst 0, 1) := dk_3 (dk_at dksX6_pullOn_6 11 rfl rfl)
theorem dX6_pullOn_152 : decode cX6_pullOn 152 = .ok (.iadd, 1) := dk_96 (dk_at dksX6_pullOn_6 12 rfl rfl)
theorem dX6_pullOn_153 : decode cX6_pullOn 153 = .ok (.istore 7, 2) := dk_54 7 (dk_at dksX6_pullOn_6 13 rfl rfl)
theorem dX6_pullOn_155 : decode cX6_pullOn 155 = .ok (.iload 7, 2) := dk_21 7 (dk_at dksX6_pullOn_6 15 rfl rfl)
theorem dX6_pullOn_157 : decode cX6_pullOn 157 = .ok (.aload_n 0, 1) := dk_42 (dk_at dksX6_pullOn_6 17 rfl rfl)
theorem dX6_pullOn_158 : decode cX6_pullOn 158 = .ok (.getfield 13, 3) := dk_180 0 13 (dk_at dksX6_pullOn_6 18 rfl rfl)
theorem dX6_pullOn_161 : decode cX6_pullOn 161 = .ok (.iload_n 3, 1) := dk_29 (dk_at dksX6_pullOn_6 21 rfl rfl)
theorem dX6_pullOn_162 : decode cX6_pullOn 162 = .ok (.iaload, 1) := dk_46 (dk_at dksX6_pullOn_6 22 rfl rfl)
theorem dX6_pullOn_163 : decode cX6_pullOn 163 = .ok (.ifCond .le 31, 3) := dk_158 0 31 (dk_at dksX6_pullOn_7 0 rfl rfl)
theorem dX6_pullOn_166 : decode cX6_pullOn 166 = .ok (.aload_n 0, 1) := dk_42 (dk_at dksX6_pullOn_7 3 rfl rfl)
theorem dX6_pullOn_167 : decode cX6_pullOn 167 = .ok (.getfield 13, 3) := dk_180 0 13 (dk_at dksX6_pullOn_7 4 rfl rfl)
theorem dX6_pullOn_170 : decode cX6_pullOn 170 = .ok (.iload_n 3, 1) := dk_29 (dk_at dksX6_pullOn_7 7 rfl rfl)
theorem dX6_pullOn_171 : decode cX6_pullOn 171 = .ok (.iaload, 1) := dk_46 (dk_at dksX6_pullOn_7 8 rfl rfl)
theorem dX6_pullOn_172 : decode cX6_pullOn 172 = .ok (.bipush 10, 2) := dk_16 10 (dk_at dksX6_pullOn_7 9 rfl rfl)
theorem dX6_pullOn_174 : decode cX6_pullOn 174 = .ok (.idiv, 1) := dk_108 (dk_at dksX6_pullOn_7 11 rfl rfl)
theorem dX6_pullOn_175 : decode cX6_pullOn 175 = .ok (.iload 4, 2) := dk_21 4 (dk_at dksX6_pullOn_7 12 rfl rfl)
theorem dX6_pullOn_177 : decode cX6_pullOn 177 = .ok (.if_icmp .ne 17, 3) := dk_160 0 17 (dk_at dksX6_pullOn_7 14 rfl rfl)
theorem dX6_pullOn_180 : decode cX6_pullOn 180 = .ok (.aload_n 0, 1) := dk_42 (dk_at dksX6_pullOn_7 17 rfl rfl)
theorem dX6_pullOn_181 : decode cX6_pullOn 181 = .ok (.getfield 25, 3) := dk_180 0 25 (dk_at dksX6_pullOn_7 18 rfl rfl)
theorem dX6_pullOn_184 : decode cX6_pullOn 184 = .ok (.iconst 3, 1) := dk_6 (dk_at dksX6_pullOn_7 21 rfl rfl)
theorem dX6_pullOn_185 : decode cX6_pullOn 185 = .ok (.iaload, 1) := dk_46 (dk_at dksX6_pullOn_7 22 rfl rfl)
theorem dX6_pullOn_186 : decode cX6_pullOn 186 = .ok (.iload 5, 2) := dk_21 5 (dk_at dksX6_pullOn_8 0 rfl rfl)
theorem dX6_pullOn_188 : decode cX6_pullOn 188 = .ok (.iconst 1, 1) := dk_4 (dk_at dksX6_pullOn_8 2 rfl rfl)
theorem dX6_pullOn_189 : decode cX6_pullOn 189 = .ok (.isub, 1) := dk_100 (dk_at dksX6_pullOn_8 3 rfl rfl)
theorem dX6_pullOn_190 : decode cX6_pullOn 190 = .ok (.imul, 1) := dk_104 (dk_at dksX6_pullOn_8 4 rfl rfl)
theorem dX6_pullOn_191 : decode cX6_pullOn 191 = .ok (.goto 4, 3) := dk_167 0 4 (dk_at dksX6_pullOn_8 5 rfl rfl)
theorem dX6_pullOn_194 : decode cX6_pullOn 194 = .ok (.iconst 0, 1) := dk_3 (dk_at dksX6_pullOn_8 8 rfl rfl)
theorem dX6_pullOn_195 : decode cX6_pullOn 195 = .ok (.iadd, 1) := dk_96 (dk_at dksX6_pullOn_8 9 rfl rfl)
theorem dX6_pullOn_196 : decode cX6_pullOn 196 = .ok (.istore 7, 2) := dk_54 7 (dk_at dksX6_pullOn_8 10 rfl rfl)
theorem dX6_pullOn_198 : decode cX6_pullOn 198 = .ok (.iload 7, 2) := dk_21 7 (dk_at dksX6_pullOn_8 12 rfl rfl)
theorem dX6_pullOn_200 : decode cX6_pullOn 200 = .ok (.ireturn, 1) := dk_172 (dk_at dksX6_pullOn_8 14 rfl rfl)
abbrev cX6_heed : ByteArray := prog_11_method_32_code
def yX6_heed : MethodName := ⟨RX6, "heed", "(II)I"⟩
def dkwX6_heed_1 : List UInt8 := [2, 172]
abbrev dktX6_heed_1 : List UInt8 := dkwX6_heed_1 ++ []
def dkwX6_heed_0 : List UInt8 := [42, 27, 182, 0, 105, 153, 0, 19, 28, 184, 0, 79, 153, 0, 12, 42, 27, 28, 182, 0, 108, 167, 0, 4]
abbrev dktX6_heed_0 : List UInt8 := dkwX6_heed_0 ++ dktX6_heed_1
theorem dksX6_heed_0 : cX6_heed.data.toList.drop 0 = dktX6_heed_0 := by decide +kernel
theorem dksX6_heed_1 : cX6_heed.data.toList.drop 24 = dktX6_heed_1 := dk_seg dksX6_heed_0 24 rfl rfl
theorem dX6_heed_0 : decode cX6_heed 0 = .ok (.aload_n 0, 1) := dk_42 (dk_at dksX6_heed_0 0 rfl rfl)
theorem dX6_heed_1 : decode cX6_heed 1 = .ok (.iload_n 1, 1) := dk_27 (dk_at dksX6_heed_0 1 rfl rfl)
theorem dX6_heed_2 : decode cX6_heed 2 = .ok (.invokevirtual 105, 3) := dk_182 0 105 (dk_at dksX6_heed_0 2 rfl rfl)
theorem dX6_heed_5 : decode cX6_heed 5 = .ok (.ifCond .eq 19, 3) := dk_153 0 19 (dk_at dksX6_heed_0 5 rfl rfl)
theorem dX6_heed_8 : decode cX6_heed 8 = .ok (.iload_n 2, 1) := dk_28 (dk_at dksX6_heed_0 8 rfl rfl)
theorem dX6_heed_9 : decode cX6_heed 9 = .ok (.invokestatic 79, 3) := dk_184 0 79 (dk_at dksX6_heed_0 9 rfl rfl)
theorem dX6_heed_12 : decode cX6_heed 12 = .ok (.ifCond .eq 12, 3) := dk_153 0 12 (dk_at dksX6_heed_0 12 rfl rfl)
theorem dX6_heed_15 : decode cX6_heed 15 = .ok (.aload_n 0, 1) := dk_42 (dk_at dksX6_heed_0 15 rfl rfl)
theorem dX6_heed_16 : decode cX6_heed 16 = .ok (.iload_n 1, 1) := dk_27 (dk_at dksX6_heed_0 16 rfl rfl)
theorem dX6_heed_17 : decode cX6_heed 17 = .ok (.iload_n 2, 1) := dk_28 (dk_at dksX6_heed_0 17 rfl rfl)
theorem dX6_heed_18 : decode cX6_heed 18 = .ok (.invokevirtual 108, 3) := dk_182 0 108 (dk_at dksX6_heed_0 18 rfl rfl)
theorem dX6_heed_21 : decode cX6_heed 21 = .ok (.goto 4, 3) := dk_167 0 4 (dk_at dksX6_heed_0 21 rfl rfl)
theorem dX6_heed_24 : decode cX6_heed 24 = .ok (.iconst (-1), 1) := dk_2 (dk_at dksX6_heed_1 0 rfl rfl)
theorem dX6_heed_25 : decode cX6_heed 25 = .ok (.ireturn, 1) := dk_172 (dk_at dksX6_heed_1 1 rfl rfl)
abbrev cX6_can : ByteArray := prog_11_method_34_code
def yX6_can : MethodName := ⟨RX6, "can", "(II)I"⟩
def dkwX6_can_1 : List UInt8 := [42, 180, 0, 64, 182, 0, 173, 153, 0, 7, 4, 167, 0, 4, 3, 172]
abbrev dktX6_can_1 : List UInt8 := dkwX6_can_1 ++ []
def dkwX6_can_0 : List UInt8 := [27, 133, 9, 20, 0, 96, 184, 0, 70, 153, 0, 10, 28, 184, 0, 83, 154, 0, 5, 2, 172, 42, 27, 28]
abbrev dktX6_can_0 : List UInt8 := dkwX6_can_0 ++ dktX6_can_1
theorem dksX6_can_0 : cX6_can.data.toList.drop 0 = dktX6_can_0 := by decide +kernel
theorem dksX6_can_1 : cX6_can.data.toList.drop 24 = dktX6_can_1 := dk_seg dksX6_can_0 24 rfl rfl
theorem dX6_can_0 : decode cX6_can 0 = .ok (.iload_n 1, 1) := dk_27 (dk_at dksX6_can_0 0 rfl rfl)
theorem dX6_can_1 : decode cX6_can 1 = .ok (.i2l, 1) := dk_133 (dk_at dksX6_can_0 1 rfl rfl)
theorem dX6_can_2 : decode cX6_can 2 = .ok (.lconst 0, 1) := dk_9 (dk_at dksX6_can_0 2 rfl rfl)
theorem dX6_can_3 : decode cX6_can 3 = .ok (.ldc2_w 96, 3) := dk_20 0 96 (dk_at dksX6_can_0 3 rfl rfl)
theorem dX6_can_6 : decode cX6_can 6 = .ok (.invokestatic 70, 3) := dk_184 0 70 (dk_at dksX6_can_0 6 rfl rfl)
theorem dX6_can_9 : decode cX6_can 9 = .ok (.ifCond .eq 10, 3) := dk_153 0 10 (dk_at dksX6_can_0 9 rfl rfl)
theorem dX6_can_12 : decode cX6_can 12 = .ok (.iload_n 2, 1) := dk_28 (dk_at dksX6_can_0 12 rfl rfl)
theorem dX6_can_13 : decode cX6_can 13 = .ok (.invokestatic 83, 3) := dk_184 0 83 (dk_at dksX6_can_0 13 rfl rfl)
theorem dX6_can_16 : decode cX6_can 16 = .ok (.ifCond .ne 5, 3) := dk_154 0 5 (dk_at dksX6_can_0 16 rfl rfl)
theorem dX6_can_19 : decode cX6_can 19 = .ok (.iconst (-1), 1) := dk_2 (dk_at dksX6_can_0 19 rfl rfl)
theorem dX6_can_20 : decode cX6_can 20 = .ok (.ireturn, 1) := dk_172 (dk_at dksX6_can_0 20 rfl rfl)
theorem dX6_can_21 : decode cX6_can 21 = .ok (.aload_n 0, 1) := dk_42 (dk_at dksX6_can_0 21 rfl rfl)
theorem dX6_can_22 : decode cX6_can 22 = .ok (.iload_n 1, 1) := dk_27 (dk_at dksX6_can_0 22 rfl rfl)
theorem dX6_can_23 : decode cX6_can 23 = .ok (.iload_n 2, 1) := dk_28 (dk_at dksX6_can_0 23 rfl rfl)
theorem dX6_can_24 : decode cX6_can 24 = .ok (.aload_n 0, 1) := dk_42 (dk_at dksX6_can_1 0 rfl rfl)
theorem dX6_can_25 : decode cX6_can 25 = .ok (.getfield 64, 3) := dk_180 0 64 (dk_at dksX6_can_1 1 rfl rfl)
theorem dX6_can_28 : decode cX6_can 28 = .ok (.invokevirtual 173, 3) := dk_182 0 173 (dk_at dksX6_can_1 4 rfl rfl)
theorem dX6_can_31 : decode cX6_can 31 = .ok (.ifCond .eq 7, 3) := dk_153 0 7 (dk_at dksX6_can_1 7 rfl rfl)
theorem dX6_can_34 : decode cX6_can 34 = .ok (.iconst 1, 1) := dk_4 (dk_at dksX6_can_1 10 rfl rfl)
theorem dX6_can_35 : decode cX6_can 35 = .ok (.goto 4, 3) := dk_167 0 4 (dk_at dksX6_can_1 11 rfl rfl)
theorem dX6_can_38 : decode cX6_can 38 = .ok (.iconst 0, 1) := dk_3 (dk_at dksX6_can_1 14 rfl rfl)
theorem dX6_can_39 : decode cX6_can 39 = .ok (.ireturn, 1) := dk_172 (dk_at dksX6_can_1 15 rfl rfl)
abbrev cX6_sight : ByteArray := prog_11_method_33_code
def yX6_sight : MethodName := ⟨RX6, "sight", "(III)Z"⟩
def dkwX6_sight_1 : List UInt8 := [4, 163, 0, 7, 4, 167, 0, 4, 3, 172]
abbrev dktX6_sight_1 : List UInt8 := dkwX6_sight_1 ++ []
def dkwX6_sight_0 : List UInt8 := [27, 7, 112, 29, 100, 54, 4, 28, 4, 160, 0, 9, 21, 4, 2, 161, 0, 17, 28, 154, 0, 9, 21, 4]
abbrev dktX6_sight_0 : List UInt8 := dkwX6_sight_0 ++ dktX6_sight_1
theorem dksX6_sight_0 : cX6_sight.data.toList.drop 0 = dktX6_sight_0 := by decide +kernel
theorem dksX6_sight_1 : cX6_sight.data.toList.drop 24 = dktX6_sight_1 := dk_seg dksX6_sight_0 24 rfl rfl
theorem dX6_sight_0 : decode cX6_sight 0 = .ok (.iload_n 1, 1) := dk_27 (dk_at dksX6_sight_0 0 rfl rfl)
theorem dX6_sight_1 : decode cX6_sight 1 = .ok (.iconst 4, 1) := dk_7 (dk_at dksX6_sight_0 1 rfl rfl)
theorem dX6_sight_2 : decode cX6_sight 2 = .ok (.irem, 1) := dk_112 (dk_at dksX6_sight_0 2 rfl rfl)
theorem dX6_sight_3 : decode cX6_sight 3 = .ok (.iload_n 3, 1) := dk_29 (dk_at dksX6_sight_0 3 rfl rfl)
theorem dX6_sight_4 : decode cX6_sight 4 = .ok (.isub, 1) := dk_100 (dk_at dksX6_sight_0 4 rfl rfl)
theorem dX6_sight_5 : decode cX6_sight 5 = .ok (.istore 4, 2) := dk_54 4 (dk_at dksX6_sight_0 5 rfl rfl)
theorem dX6_sight_7 : decode cX6_sight 7 = .ok (.iload_n 2, 1) := dk_28 (dk_at dksX6_sight_0 7 rfl rfl)
theorem dX6_sight_8 : decode cX6_sight 8 = .ok (.iconst 1, 1) := dk_4 (dk_at dksX6_sight_0 8 rfl rfl)
theorem dX6_sight_9 : decode cX6_sight 9 = .ok (.if_icmp .ne 9, 3) := dk_160 0 9 (dk_at dksX6_sight_0 9 rfl rfl)
theorem dX6_sight_12 : decode cX6_sight 12 = .ok (.iload 4, 2) := dk_21 4 (dk_at dksX6_sight_0 12 rfl rfl)
theorem dX6_sight_14 : decode cX6_sight 14 = .ok (.iconst (-1), 1) := dk_2 (dk_at dksX6_sight_0 14 rfl rfl)
theorem dX6_sight_15 : decode cX6_sight 15 = .ok (.if_icmp .lt 17, 3) := dk_161 0 17 (dk_at dksX6_sight_0 15 rfl rfl)
theorem dX6_sight_18 : decode cX6_sight 18 = .ok (.iload_n 2, 1) := dk_28 (dk_at dksX6_sight_0 18 rfl rfl)
theorem dX6_sight_19 : decode cX6_sight 19 = .ok (.ifCond .ne 9, 3) := dk_154 0 9 (dk_at dksX6_sight_0 19 rfl rfl)
theorem dX6_sight_22 : decode cX6_sight 22 = .ok (.iload 4, 2) := dk_21 4 (dk_at dksX6_sight_0 22 rfl rfl)
theorem dX6_sight_24 : decode cX6_sight 24 = .ok (.iconst 1, 1) := dk_4 (dk_at dksX6_sight_1 0 rfl rfl)
theorem dX6_sight_25 : decode cX6_sight 25 = .ok (.if_icmp .gt 7, 3) := dk_163 0 7 (dk_at dksX6_sight_1 1 rfl rfl)
theorem dX6_sight_28 : decode cX6_sight 28 = .ok (.iconst 1, 1) := dk_4 (dk_at dksX6_sight_1 4 rfl rfl)
theorem dX6_sight_29 : decode cX6_sight 29 = .ok (.goto 4, 3) := dk_167 0 4 (dk_at dksX6_sight_1 5 rfl rfl)
theorem dX6_sight_32 : decode cX6_sight 32 = .ok (.iconst 0, 1) := dk_3 (dk_at dksX6_sight_1 8 rfl rfl)
theorem dX6_sight_33 : decode cX6_sight 33 = .ok (.ireturn, 1) := dk_172 (dk_at dksX6_sight_1 9 rfl rfl)
abbrev cX6_odds : ByteArray := prog_11_method_36_code
def yX6_odds : MethodName := ⟨RX6, "odds", "(IIII)I"⟩
def dkwX6_odds_4 : List UInt8 := [167, 255, 234, 21, 4, 154, 0, 10, 42, 180, 0, 177, 167, 0, 7, 42, 180, 0, 183, 22, 5, 109, 136, 172]
abbrev dktX6_odds_4 : List UInt8 := dkwX6_odds_4 ++ []
def dkwX6_odds_3 : List UInt8 := [55, 7, 22, 7, 9, 148, 153, 0, 21, 22, 5, 22, 7, 113, 55, 9, 22, 7, 55, 5, 22, 9, 55, 7]
abbrev dktX6_odds_3 : List UInt8 := dkwX6_odds_3 ++ dktX6_odds_4
def dkwX6_odds_2 : List UInt8 := [154, 0, 6, 16, 254, 172, 42, 27, 28, 29, 182, 0, 186, 42, 180, 0, 177, 55, 5, 42, 180, 0, 183]
abbrev dktX6_odds_2 : List UInt8 := dkwX6_odds_2 ++ dktX6_odds_3
def dkwX6_odds_1 : List UInt8 := [153, 0, 14, 21, 4, 133, 9, 10, 184, 0, 70, 154, 0, 5, 2, 172, 42, 180, 0, 13, 28, 46]
abbrev dktX6_odds_1 : List UInt8 := dkwX6_odds_1 ++ dktX6_odds_2
def dkwX6_odds_0 : List UInt8 := [42, 27, 182, 0, 105, 153, 0, 33, 28, 184, 0, 79, 153, 0, 26, 29, 133, 10, 20, 0, 86, 184, 0, 70]
abbrev dktX6_odds_0 : List UInt8 := dkwX6_odds_0 ++ dktX6_odds_1
theorem dksX6_odds_0 : cX6_odds.data.toList.drop 0 = dktX6_odds_0 := by decide +kernel
theorem dksX6_odds_1 : cX6_odds.data.toList.drop 24 = dktX6_odds_1 := dk_seg dksX6_odds_0 24 rfl rfl
theorem dksX6_odds_2 : cX6_odds.data.toList.drop 46 = dktX6_odds_2 := dk_seg dksX6_odds_1 22 rfl rfl
theorem dksX6_odds_3 : cX6_odds.data.toList.drop 69 = dktX6_odds_3 := dk_seg dksX6_odds_2 23 rfl rfl
theorem dksX6_odds_4 : cX6_odds.data.toList.drop 93 = dktX6_odds_4 := dk_seg dksX6_odds_3 24 rfl rfl
theorem dX6_odds_0 : decode cX6_odds 0 = .ok (.aload_n 0, 1) := dk_42 (dk_at dksX6_odds_0 0 rfl rfl)
theorem dX6_odds_1 : decode cX6_odds 1 = .ok (.iload_n 1, 1) := dk_27 (dk_at dksX6_odds_0 1 rfl rfl)
theorem dX6_odds_2 : decode cX6_odds 2 = .ok (.invokevirtual 105, 3) := dk_182 0 105 (dk_at dksX6_odds_0 2 rfl rfl)
theorem dX6_odds_5 : decode cX6_odds 5 = .ok (.ifCond .eq 33, 3) := dk_153 0 33 (dk_at dksX6_odds_0 5 rfl rfl)
theorem dX6_odds_8 : decode cX6_odds 8 = .ok (.iload_n 2, 1) := dk_28 (dk_at dksX6_odds_0 8 rfl rfl)
theorem dX6_odds_9 : decode cX6_odds 9 = .ok (.invokestatic 79, 3) := dk_184 0 79 (dk_at dksX6_odds_0 9 rfl rfl)
theorem dX6_odds_12 : decode cX6_odds 12 = .ok (.ifCond .eq 26, 3) := dk_153 0 26 (dk_at dksX6_odds_0 12 rfl rfl)
theorem dX6_odds_15 : decode cX6_odds 15 = .ok (.iload_n 3, 1) := dk_29 (dk_at dksX6_odds_0 15 rfl rfl)
theorem dX6_odds_16 : decode cX6_odds 16 = .ok (.i2l, 1) := dk_133 (dk_at dksX6_odds_0 16 rfl rfl)
theorem dX6_odds_17 : decode cX6_odds 17 = .ok (.lconst 1, 1) := dk_10 (dk_at dksX6_odds_0 17 rfl rfl)
theorem dX6_odds_18 : decode cX6_odds 18 = .ok (.ldc2_w 86, 3) := dk_20 0 86 (dk_at dksX6_odds_0 18 rfl rfl)
theorem dX6_odds_21 : decode cX6_odds 21 = .ok (.invokestatic 70, 3) := dk_184 0 70 (dk_at dksX6_odds_0 21 rfl rfl)
theorem dX6_odds_24 : decode cX6_odds 24 = .ok (.ifCond .eq 14, 3) := dk_153 0 14 (dk_at dksX6_odds_1 0 rfl rfl)
theorem dX6_odds_27 : decode cX6_odds 27 = .ok (.iload 4, 2) := dk_21 4 (dk_at dksX6_odds_1 3 rfl rfl)
theorem dX6_odds_29 : decode cX6_odds 29 = .ok (.i2l, 1) := dk_133 (dk_at dksX6_odds_1 5 rfl rfl)
theorem dX6_odds_30 : decode cX6_odds 30 = .ok (.lconst 0, 1) := dk_9 (dk_at dksX6_odds_1 6 rfl rfl)
theorem dX6_odds_31 : decode cX6_odds 31 = .ok (.lconst 1, 1) := dk_10 (dk_at dksX6_odds_1 7 rfl rfl)
theorem dX6_odds_32 : decode cX6_odds 32 = .ok (.invokestatic 70, 3) := dk_184 0 70 (dk_at dksX6_odds_1 8 rfl rfl)
theorem dX6_odds_35 : decode cX6_odds 35 = .ok (.ifCond .ne 5, 3) := dk_154 0 5 (dk_at dksX6_odds_1 11 rfl rfl)
theorem dX6_odds_38 : decode cX6_odds 38 = .ok (.iconst (-1), 1) := dk_2 (dk_at dksX6_odds_1 14 rfl rfl)
theorem dX6_odds_39 : decode cX6_odds 39 = .ok (.ireturn, 1) := dk_172 (dk_at dksX6_odds_1 15 rfl rfl)
theorem dX6_odds_40 : decode cX6_odds 40 = .ok (.aload_n 0, 1) := dk_42 (dk_at dksX6_odds_1 16 rfl rfl)
theorem dX6_odds_41 : decode cX6_odds 41 = .ok (.getfield 13, 3) := dk_180 0 13 (dk_at dksX6_odds_1 17 rfl rfl)
theorem dX6_odds_44 : decode cX6_odds 44 = .ok (.iload_n 2, 1) := dk_28 (dk_at dksX6_odds_1 20 rfl rfl)
theorem dX6_odds_45 : decode cX6_odds 45 = .ok (.iaload, 1) := dk_46 (dk_at dksX6_odds_1 21 rfl rfl)
theorem dX6_odds_46 : decode cX6_odds 46 = .ok (.ifCond .ne 6, 3) := dk_154 0 6 (dk_at dksX6_odds_2 0 rfl rfl)
theorem dX6_odds_49 : decode cX6_odds 49 = .ok (.bipush (-2), 2) := dk_16 254 (dk_at dksX6_odds_2 3 rfl rfl)
theorem dX6_odds_51 : decode cX6_odds 51 = .ok (.ireturn, 1) := dk_172 (dk_at dksX6_odds_2 5 rfl rfl)
theorem dX6_odds_52 : decode cX6_odds 52 = .ok (.aload_n 0, 1) := dk_42 (dk_at dksX6_odds_2 6 rfl rfl)
theorem dX6_odds_53 : decode cX6_odds 53 = .ok (.iload_n 1, 1) := dk_27 (dk_at dksX6_odds_2 7 rfl rfl)
theorem dX6_odds_54 : decode cX6_odds 54 = .ok (.iload_n 2, 1) := dk_28 (dk_at dksX6_odds_2 8 rfl rfl)
theorem dX6_odds_55 : decode cX6_odds 55 = .ok (.iload_n 3, 1) := dk_29 (dk_at dksX6_odds_2 9 rfl rfl)
theorem dX6_odds_56 : decode cX6_odds 56 = .ok (.invokevirtual 186, 3) := dk_182 0 186 (dk_at dksX6_odds_2 10 rfl rfl)
theorem dX6_odds_59 : decode cX6_odds 59 = .ok (.aload_n 0, 1) := dk_42 (dk_at dksX6_odds_2 13 rfl rfl)
theorem dX6_odds_60 : decode cX6_odds 60 = .ok (.getfield 177, 3) := dk_180 0 177 (dk_at dksX6_odds_2 14 rfl rfl)
theorem dX6_odds_63 : decode cX6_odds 63 = .ok (.lstore 5, 2) := dk_55 5 (dk_at dksX6_odds_2 17 rfl rfl)
theorem dX6_odds_65 : decode cX6_odds 65 = .ok (.aload_n 0, 1) := dk_42 (dk_at dksX6_odds_2 19 rfl rfl)
theorem dX6_odds_66 : decode cX6_odds 66 = .ok (.getfield 183, 3) := dk_180 0 183 (dk_at dksX6_odds_2 20 rfl rfl)
theorem dX6_odds_69 : decode cX6_odds 69 = .ok (.lstore 7, 2) := dk_55 7 (dk_at dksX6_odds_3 0 rfl rfl)
theorem dX6_odds_71 : decode cX6_odds 71 = .ok (.lload 7, 2) := dk_22 7 (dk_at dksX6_odds_3 2 rfl rfl)
theorem dX6_odds_73 : decode cX6_odds 73 = .ok (.lconst 0, 1) := dk_9 (dk_at dksX6_odds_3 4 rfl rfl)
theorem dX6_odds_74 : decode cX6_odds 74 = .ok (.lcmp, 1) := dk_148 (dk_at dksX6_odds_3 5 rfl rfl)
theorem dX6_odds_75 : decode cX6_odds 75 = .ok (.ifCond .eq 21, 3) := dk_153 0 21 (dk_at dksX6_odds_3 6 rfl rfl)
theorem dX6_odds_78 : decode cX6_odds 78 = .ok (.lload 5, 2) := dk_22 5 (dk_at dksX6_odds_3 9 rfl rfl)
theorem dX6_odds_80 : decode cX6_odds 80 = .ok (.lload 7, 2) := dk_22 7 (dk_at dksX6_odds_3 11 rfl rfl)
theorem dX6_odds_82 : decode cX6_odds 82 = .ok (.lrem, 1) := dk_113 (dk_at dksX6_odds_3 13 rfl rfl)
theorem dX6_odds_83 : decode cX6_odds 83 = .ok (.lstore 9, 2) := dk_55 9 (dk_at dksX6_odds_3 14 rfl rfl)
theorem dX6_odds_85 : decode cX6_odds 85 = .ok (.lload 7, 2) := dk_22 7 (dk_at dksX6_odds_3 16 rfl rfl)
theorem dX6_odds_87 : decode cX6_odds 87 = .ok (.lstore 5, 2) := dk_55 5 (dk_at dksX6_odds_3 18 rfl rfl)
theorem dX6_odds_89 : decode cX6_odds 89 = .ok (.lload 9, 2) := dk_22 9 (dk_at dksX6_odds_3 20 rfl rfl)
theorem dX6_odds_91 : decode cX6_odds 91 = .ok (.lstore 7, 2) := dk_55 7 (dk_at dksX6_odds_3 22 rfl rfl)
theorem dX6_odds_93 : decode cX6_odds 93 = .ok (.goto (-22), 3) := dk_167 255 234 (dk_at dksX6_odds_4 0 rfl rfl)
theorem dX6_odds_96 : decode cX6_odds 96 = .ok (.iload 4, 2) := dk_21 4 (dk_at dksX6_odds_4 3 rfl rfl)
theorem dX6_odds_98 : decode cX6_odds 98 = .ok (.ifCond .ne 10, 3) := dk_154 0 10 (dk_at dksX6_odds_4 5 rfl rfl)
theorem dX6_odds_101 : decode cX6_odds 101 = .ok (.aload_n 0, 1) := dk_42 (dk_at dksX6_odds_4 8 rfl rfl)
theorem dX6_odds_102 : decode cX6_odds 102 = .ok (.getfield 177, 3) := dk_180 0 177 (dk_at dksX6_odds_4 9 rfl rfl)
theorem dX6_odds_105 : decode cX6_odds 105 = .ok (.goto 7, 3) := dk_167 0 7 (dk_at dksX6_odds_4 12 rfl rfl)
theorem dX6_odds_108 : decode cX6_odds 108 = .ok (.aload_n 0, 1) := dk_42 (dk_at dksX6_odds_4 15 rfl rfl)
theorem dX6_odds_109 : decode cX6_odds 109 = .ok (.getfield 183, 3) := dk_180 0 183 (dk_at dksX6_odds_4 16 rfl rfl)
theorem dX6_odds_112 : decode cX6_odds 112 = .ok (.lload 5, 2) := dk_22 5 (dk_at dksX6_odds_4 19 rfl rfl)
theorem dX6_odds_114 : decode cX6_odds 114 = .ok (.ldiv, 1) := dk_109 (dk_at dksX6_odds_4 21 rfl rfl)
theorem dX6_odds_115 : decode cX6_odds 115 = .ok (.l2i, 1) := dk_136 (dk_at dksX6_odds_4 22 rfl rfl)
theorem dX6_odds_116 : decode cX6_odds 116 = .ok (.ireturn, 1) := dk_172 (dk_at dksX6_odds_4 23 rfl rfl)
abbrev cX6_oddsOf : ByteArray := prog_11_method_35_code
def yX6_oddsOf : MethodName := ⟨RX6, "oddsOf", "(III)V"⟩
def dkwX6_oddsOf_9 : List UInt8 := [20, 0, 181, 22, 8, 105, 181, 0, 183, 177]
abbrev dktX6_oddsOf_9 : List UInt8 := dkwX6_oddsOf_9 ++ []
def dkwX6_oddsOf_8 : List UInt8 := [21, 5, 42, 180, 0, 64, 182, 0, 173, 153, 0, 10, 42, 180, 0, 177, 167, 0, 4, 9, 181, 0, 177, 42]
abbrev dktX6_oddsOf_8 : List UInt8 := dkwX6_oddsOf_8 ++ dktX6_oddsOf_9
def dkwX6_oddsOf_7 : List UInt8 := [101, 21, 7, 133, 105, 21, 6, 16, 6, 100, 133, 105, 167, 0, 4, 9, 97, 181, 0, 177, 42, 42, 21, 4]
abbrev dktX6_oddsOf_7 : List UInt8 := dkwX6_oddsOf_7 ++ dktX6_oddsOf_8
def dkwX6_oddsOf_6 : List UInt8 := [55, 10, 42, 22, 10, 21, 7, 133, 105, 21, 6, 133, 105, 21, 6, 16, 6, 164, 0, 22, 22, 8, 22, 10]
abbrev dktX6_oddsOf_6 : List UInt8 := dkwX6_oddsOf_6 ++ dktX6_oddsOf_7
def dkwX6_oddsOf_5 : List UInt8 := [6, 27, 104, 4, 96, 46, 42, 180, 0, 28, 6, 27, 104, 5, 96, 46, 28, 21, 5, 29, 182, 0, 169, 133]
abbrev dktX6_oddsOf_5 : List UInt8 := dkwX6_oddsOf_5 ++ dktX6_oddsOf_6
def dkwX6_oddsOf_4 : List UInt8 := [96, 46, 28, 21, 10, 29, 182, 0, 169, 133, 97, 55, 8, 132, 10, 1, 167, 255, 213, 42, 42, 180, 0, 28]
abbrev dktX6_oddsOf_4 : List UInt8 := dkwX6_oddsOf_4 ++ dktX6_oddsOf_5
def dkwX6_oddsOf_3 : List UInt8 := [162, 0, 43, 22, 8, 42, 42, 180, 0, 28, 6, 27, 104, 4, 96, 46, 42, 180, 0, 28, 6, 27, 104, 5]
abbrev dktX6_oddsOf_3 : List UInt8 := dkwX6_oddsOf_3 ++ dktX6_oddsOf_4
def dkwX6_oddsOf_2 : List UInt8 := [167, 0, 5, 21, 6, 54, 6, 42, 27, 28, 182, 0, 108, 54, 7, 9, 55, 8, 3, 54, 10, 21, 10, 7]
abbrev dktX6_oddsOf_2 : List UInt8 := dkwX6_oddsOf_2 ++ dktX6_oddsOf_3
def dkwX6_oddsOf_1 : List UInt8 := [180, 0, 13, 28, 46, 16, 10, 112, 21, 4, 7, 108, 100, 54, 6, 21, 6, 4, 162, 0, 7, 4]
abbrev dktX6_oddsOf_1 : List UInt8 := dkwX6_oddsOf_1 ++ dktX6_oddsOf_2
def dkwX6_oddsOf_0 : List UInt8 := [42, 180, 0, 28, 6, 27, 104, 46, 54, 4, 42, 180, 0, 13, 28, 46, 16, 10, 108, 54, 5, 42]
abbrev dktX6_oddsOf_0 : List UInt8 := dkwX6_oddsOf_0 ++ dktX6_oddsOf_1
theorem dksX6_oddsOf_0 : cX6_oddsOf.data.toList.drop 0 = dktX6_oddsOf_0 := by decide +kernel
theorem dksX6_oddsOf_1 : cX6_oddsOf.data.toList.drop 22 = dktX6_oddsOf_1 := dk_seg dksX6_oddsOf_0 22 rfl rfl
theorem dksX6_oddsOf_2 : cX6_oddsOf.data.toList.drop 44 = dktX6_oddsOf_2 := dk_seg dksX6_oddsOf_1 22 rfl rfl
theorem dksX6_oddsOf_3 : cX6_oddsOf.data.toList.drop 68 = dktX6_oddsOf_3 := dk_seg dksX6_oddsOf_2 24 rfl rfl
theorem dksX6_oddsOf_4 : cX6_oddsOf.data.toList.drop 92 = dktX6_oddsOf_4 := dk_seg dksX6_oddsOf_3 24 rfl rfl
theorem dksX6_oddsOf_5 : cX6_oddsOf.data.toList.drop 116 = dktX6_oddsOf_5 := dk_seg dksX6_oddsOf_4 24 rfl rfl
theorem dksX6_oddsOf_6 : cX6_oddsOf.data.toList.drop 140 = dktX6_oddsOf_6 := dk_seg dksX6_oddsOf_5 24 rfl rfl
theorem dksX6_oddsOf_7 : cX6_oddsOf.data.toList.drop 164 = dktX6_oddsOf_7 := dk_seg dksX6_oddsOf_6 24 rfl rfl
theorem dksX6_oddsOf_8 : cX6_oddsOf.data.toList.drop 188 = dktX6_oddsOf_8 := dk_seg dksX6_oddsOf_7 24 rfl rfl
theorem dksX6_oddsOf_9 : cX6_oddsOf.data.toList.drop 212 = dktX6_oddsOf_9 := dk_seg dksX6_oddsOf_8 24 rfl rfl
theorem dX6_oddsOf_0 : decode cX6_oddsOf 0 = .ok (.aload_n 0, 1) := dk_42 (dk_at dksX6_oddsOf_0 0 rfl rfl)
theorem dX6_oddsOf_1 : decode cX6_oddsOf 1 = .ok (.getfield 28, 3) := dk_180 0 28 (dk_at dksX6_oddsOf_0 1 rfl rfl)
theorem dX6_oddsOf_4 : decode cX6_oddsOf 4 = .ok (.iconst 3, 1) := dk_6 (dk_at dksX6_oddsOf_0 4 rfl rfl)
theorem dX6_oddsOf_5 : decode cX6_oddsOf 5 = .ok (.iload_n 1, 1) := dk_27 (dk_at dksX6_oddsOf_0 5 rfl rfl)
theorem dX6_oddsOf_6 : decode cX6_oddsOf 6 = .ok (.imul, 1) := dk_104 (dk_at dksX6_oddsOf_0 6 rfl rfl)
theorem dX6_oddsOf_7 : decode cX6_oddsOf 7 = .ok (.iaload, 1) := dk_46 (dk_at dksX6_oddsOf_0 7 rfl rfl)
theorem dX6_oddsOf_8 : decode cX6_oddsOf 8 = .ok (.istore 4, 2) := dk_54 4 (dk_at dksX6_oddsOf_0 8 rfl rfl)
theorem dX6_oddsOf_10 : decode cX6_oddsOf 10 = .ok (.aload_n 0, 1) := dk_42 (dk_at dksX6_oddsOf_0 10 rfl rfl)
theorem dX6_oddsOf_11 : decode cX6_oddsOf 11 = .ok (.getfield 13, 3) := dk_180 0 13 (dk_at dksX6_oddsOf_0 11 rfl rfl)
theorem dX6_oddsOf_14 : decode cX6_oddsOf 14 = .ok (.iload_n 2, 1) := dk_28 (dk_at dksX6_oddsOf_0 14 rfl rfl)
theorem dX6_oddsOf_15 : decode cX6_oddsOf 15 = .ok (.iaload, 1) := dk_46 (dk_at dksX6_oddsOf_0 15 rfl rfl)
theorem dX6_oddsOf_16 : decode cX6_oddsOf 16 = .ok (.bipush 10, 2) := dk_16 10 (dk_at dksX6_oddsOf_0 16 rfl rfl)
theorem dX6_oddsOf_18 : decode cX6_oddsOf 18 = .ok (.idiv, 1) := dk_108 (dk_at dksX6_oddsOf_0 18 rfl rfl)
theorem dX6_oddsOf_19 : decode cX6_oddsOf 19 = .ok (.istore 5, 2) := dk_54 5 (dk_at dksX6_oddsOf_0 19 rfl rfl)
theorem dX6_oddsOf_21 : decode cX6_oddsOf 21 = .ok (.aload_n 0, 1) := dk_42 (dk_at dksX6_oddsOf_0 21 rfl rfl)
theorem dX6_oddsOf_22 : decode cX6_oddsOf 22 = .ok (.getfield 13, 3) := dk_180 0 13 (dk_at dksX6_oddsOf_1 0 rfl rfl)
theorem dX6_oddsOf_25 : decode cX6_oddsOf 25 = .ok (.iload_n 2, 1) := dk_28 (dk_at dksX6_oddsOf_1 3 rfl rfl)
theorem dX6_oddsOf_26 : decode cX6_oddsOf 26 = .ok (.iaload, 1) := dk_46 (dk_at dksX6_oddsOf_1 4 rfl rfl)
theorem dX6_oddsOf_27 : decode cX6_oddsOf 27 = .ok (.bipush 10, 2) := dk_16 10 (dk_at dksX6_oddsOf_1 5 rfl rfl)
theorem dX6_oddsOf_29 : decode cX6_oddsOf 29 = .ok (.irem, 1) := dk_112 (dk_at dksX6_oddsOf_1 7 rfl rfl)
theorem dX6_oddsOf_30 : decode cX6_oddsOf 30 = .ok (.iload 4, 2) := dk_21 4 (dk_at dksX6_oddsOf_1 8 rfl rfl)
theorem dX6_oddsOf_32 : decode cX6_oddsOf 32 = .ok (.iconst 4, 1) := dk_7 (dk_at dksX6_oddsOf_1 10 rfl rfl)
theorem dX6_oddsOf_33 : decode cX6_oddsOf 33 = .ok (.idiv, 1) := dk_108 (dk_at dksX6_oddsOf_1 11 rfl rfl)
theorem dX6_oddsOf_34 : decode cX6_oddsOf 34 = .ok (.isub, 1) := dk_100 (dk_at dksX6_oddsOf_1 12 rfl rfl)
theorem dX6_oddsOf_35 : decode cX6_oddsOf 35 = .ok (.istore 6, 2) := dk_54 6 (dk_at dksX6_oddsOf_1 13 rfl rfl)
theorem dX6_oddsOf_37 : decode cX6_oddsOf 37 = .ok (.iload 6, 2) := dk_21 6 (dk_at dksX6_oddsOf_1 15 rfl rfl)
theorem dX6_oddsOf_39 : decode cX6_oddsOf 39 = .ok (.iconst 1, 1) := dk_4 (dk_at dksX6_oddsOf_1 17 rfl rfl)
theorem dX6_oddsOf_40 : decode cX6_oddsOf 40 = .ok (.if_icmp .ge 7, 3) := dk_162 0 7 (dk_at dksX6_oddsOf_1 18 rfl rfl)
theorem dX6_oddsOf_43 : decode cX6_oddsOf 43 = .ok (.iconst 1, 1) := dk_4 (dk_at dksX6_oddsOf_1 21 rfl rfl)
theorem dX6_oddsOf_44 : decode cX6_oddsOf 44 = .ok (.goto 5, 3) := dk_167 0 5 (dk_at dksX6_oddsOf_2 0 rfl rfl)
theorem dX6_oddsOf_47 : decode cX6_oddsOf 47 = .ok (.iload 6, 2) := dk_21 6 (dk_at dksX6_oddsOf_2 3 rfl rfl)
theorem dX6_oddsOf_49 : decode cX6_oddsOf 49 = .ok (.istore 6, 2) := dk_54 6 (dk_at dksX6_oddsOf_2 5 rfl rfl)
theorem dX6_oddsOf_51 : decode cX6_oddsOf 51 = .ok (.aload_n 0, 1) := dk_42 (dk_at dksX6_oddsOf_2 7 rfl rfl)
theorem dX6_oddsOf_52 : decode cX6_oddsOf 52 = .ok (.iload_n 1, 1) := dk_27 (dk_at dksX6_oddsOf_2 8 rfl rfl)
theorem dX6_oddsOf_53 : decode cX6_oddsOf 53 = .ok (.iload_n 2, 1) := dk_28 (dk_at dksX6_oddsOf_2 9 rfl rfl)
theorem dX6_oddsOf_54 : decode cX6_oddsOf 54 = .ok (.invokevirtual 108, 3) := dk_182 0 108 (dk_at dksX6_oddsOf_2 10 rfl rfl)
theorem dX6_oddsOf_57 : decode cX6_oddsOf 57 = .ok (.istore 7, 2) := dk_54 7 (dk_at dksX6_oddsOf_2 13 rfl rfl)
theorem dX6_oddsOf_59 : decode cX6_oddsOf 59 = .ok (.lconst 0, 1) := dk_9 (dk_at dksX6_oddsOf_2 15 rfl rfl)
theorem dX6_oddsOf_60 : decode cX6_oddsOf 60 = .ok (.lstore 8, 2) := dk_55 8 (dk_at dksX6_oddsOf_2 16 rfl rfl)
theorem dX6_oddsOf_62 : decode cX6_oddsOf 62 = .ok (.iconst 0, 1) := dk_3 (dk_at dksX6_oddsOf_2 18 rfl rfl)
theorem dX6_oddsOf_63 : decode cX6_oddsOf 63 = .ok (.istore 10, 2) := dk_54 10 (dk_at dksX6_oddsOf_2 19 rfl rfl)
theorem dX6_oddsOf_65 : decode cX6_oddsOf 65 = .ok (.iload 10, 2) := dk_21 10 (dk_at dksX6_oddsOf_2 21 rfl rfl)
theorem dX6_oddsOf_67 : decode cX6_oddsOf 67 = .ok (.iconst 4, 1) := dk_7 (dk_at dksX6_oddsOf_2 23 rfl rfl)
theorem dX6_oddsOf_68 : decode cX6_oddsOf 68 = .ok (.if_icmp .ge 43, 3) := dk_162 0 43 (dk_at dksX6_oddsOf_3 0 rfl rfl)
theorem dX6_oddsOf_71 : decode cX6_oddsOf 71 = .ok (.lload 8, 2) := dk_22 8 (dk_at dksX6_oddsOf_3 3 rfl rfl)
theorem dX6_oddsOf_73 : decode cX6_oddsOf 73 = .ok (.aload_n 0, 1) := dk_42 (dk_at dksX6_oddsOf_3 5 rfl rfl)
theorem dX6_oddsOf_74 : decode cX6_oddsOf 74 = .ok (.aload_n 0, 1) := dk_42 (dk_at dksX6_oddsOf_3 6 rfl rfl)
theorem dX6_oddsOf_75 : decode cX6_oddsOf 75 = .ok (.getfield 28, 3) := dk_180 0 28 (dk_at dksX6_oddsOf_3 7 rfl rfl)
theorem dX6_oddsOf_78 : decode cX6_oddsOf 78 = .ok (.iconst 3, 1) := dk_6 (dk_at dksX6_oddsOf_3 10 rfl rfl)
theorem dX6_oddsOf_79 : decode cX6_oddsOf 79 = .ok (.iload_n 1, 1) := dk_27 (dk_at dksX6_oddsOf_3 11 rfl rfl)
theorem dX6_oddsOf_80 : decode cX6_oddsOf 80 = .ok (.imul, 1) := dk_104 (dk_at dksX6_oddsOf_3 12 rfl rfl)
theorem dX6_oddsOf_81 : decode cX6_oddsOf 81 = .ok (.iconst 1, 1) := dk_4 (dk_at dksX6_oddsOf_3 13 rfl rfl)
theorem dX6_oddsOf_82 : decode cX6_oddsOf 82 = .ok (.iadd, 1) := dk_96 (dk_at dksX6_oddsOf_3 14 rfl rfl)
theorem dX6_oddsOf_83 : decode cX6_oddsOf 83 = .ok (.iaload, 1) := dk_46 (dk_at dksX6_oddsOf_3 15 rfl rfl)
theorem dX6_oddsOf_84 : decode cX6_oddsOf 84 = .ok (.aload_n 0, 1) := dk_42 (dk_at dksX6_oddsOf_3 16 rfl rfl)
theorem dX6_oddsOf_85 : decode cX6_oddsOf 85 = .ok (.getfield 28, 3) := dk_180 0 28 (dk_at dksX6_oddsOf_3 17 rfl rfl)
theorem dX6_oddsOf_88 : decode cX6_oddsOf 88 = .ok (.iconst 3, 1) := dk_6 (dk_at dksX6_oddsOf_3 20 rfl rfl)
theorem dX6_oddsOf_89 : decode cX6_oddsOf 89 = .ok (.iload_n 1, 1) := dk_27 (dk_at dksX6_oddsOf_3 21 rfl rfl)
theorem dX6_oddsOf_90 : decode cX6_oddsOf 90 = .ok (.imul, 1) := dk_104 (dk_at dksX6_oddsOf_3 22 rfl rfl)
theorem dX6_oddsOf_91 : decode cX6_oddsOf 91 = .ok (.iconst 2, 1) := dk_5 (dk_at dksX6_oddsOf_3 23 rfl rfl)
theorem dX6_oddsOf_92 : decode cX6_oddsOf 92 = .ok (.iadd, 1) := dk_96 (dk_at dksX6_oddsOf_4 0 rfl rfl)
theorem dX6_oddsOf_93 : decode cX6_oddsOf 93 = .ok (.iaload, 1) := dk_46 (dk_at dksX6_oddsOf_4 1 rfl rfl)
theorem dX6_oddsOf_94 : decode cX6_oddsOf 94 = .ok (.iload_n 2, 1) := dk_28 (dk_at dksX6_oddsOf_4 2 rfl rfl)
theorem dX6_oddsOf_95 : decode cX6_oddsOf 95 = .ok (.iload 10, 2) := dk_21 10 (dk_at dksX6_oddsOf_4 3 rfl rfl)
theorem dX6_oddsOf_97 : decode cX6_oddsOf 97 = .ok (.iload_n 3, 1) := dk_29 (dk_at dksX6_oddsOf_4 5 rfl rfl)
theorem dX6_oddsOf_98 : decode cX6_oddsOf 98 = .ok (.invokevirtual 169, 3) := dk_182 0 169 (dk_at dksX6_oddsOf_4 6 rfl rfl)
theorem dX6_oddsOf_101 : decode cX6_oddsOf 101 = .ok (.i2l, 1) := dk_133 (dk_at dksX6_oddsOf_4 9 rfl rfl)
theorem dX6_oddsOf_102 : decode cX6_oddsOf 102 = .ok (.ladd, 1) := dk_97 (dk_at dksX6_oddsOf_4 10 rfl rfl)
theorem dX6_oddsOf_103 : decode cX6_oddsOf 103 = .ok (.lstore 8, 2) := dk_55 8 (dk_at dksX6_oddsOf_4 11 rfl rfl)
theorem dX6_oddsOf_105 : decode cX6_oddsOf 105 = .ok (.iinc 10 1, 3) := dk_132 10 1 (dk_at dksX6_oddsOf_4 13 rfl rfl)
theorem dX6_oddsOf_108 : decode cX6_oddsOf 108 = .ok (.goto (-43), 3) := dk_167 255 213 (dk_at dksX6_oddsOf_4 16 rfl rfl)
theorem dX6_oddsOf_111 : decode cX6_oddsOf 111 = .ok (.aload_n 0, 1) := dk_42 (dk_at dksX6_oddsOf_4 19 rfl rfl)
theorem dX6_oddsOf_112 : decode cX6_oddsOf 112 = .ok (.aload_n 0, 1) := dk_42 (dk_at dksX6_oddsOf_4 20 rfl rfl)
theorem dX6_oddsOf_113 : decode cX6_oddsOf 113 = .ok (.getfield 28, 3) := dk_180 0 28 (dk_at dksX6_oddsOf_4 21 rfl rfl)
theorem dX6_oddsOf_116 : decode cX6_oddsOf 116 = .ok (.iconst 3, 1) := dk_6 (dk_at dksX6_oddsOf_5 0 rfl rfl)
theorem dX6_oddsOf_117 : decode cX6_oddsOf 117 = .ok (.iload_n 1, 1) := dk_27 (dk_at dksX6_oddsOf_5 1 rfl rfl)
theorem dX6_oddsOf_118 : decode cX6_oddsOf 118 = .ok (.imul, 1) := dk_104 (dk_at dksX6_oddsOf_5 2 rfl rfl)
theorem dX6_oddsOf_119 : decode cX6_oddsOf 119 = .ok (.iconst 1, 1) := dk_4 (dk_at dksX6_oddsOf_5 3 rfl rfl)
theorem dX6_oddsOf_120 : decode cX6_oddsOf 120 = .ok (.iadd, 1) := dk_96 (dk_at dksX6_oddsOf_5 4 rfl rfl)
theorem dX6_oddsOf_121 : decode cX6_oddsOf 121 = .ok (.iaload, 1) := dk_46 (dk_at dksX6_oddsOf_5 5 rfl rfl)
theorem dX6_oddsOf_122 : decode cX6_oddsOf 122 = .ok (.aload_n 0, 1) := dk_42 (dk_at dksX6_oddsOf_5 6 rfl rfl)
theorem dX6_oddsOf_123 : decode cX6_oddsOf 123 = .ok (.getfield 28, 3) := dk_180 0 28 (dk_at dksX6_oddsOf_5 7 rfl rfl)
theorem dX6_oddsOf_126 : decode cX6_oddsOf 126 = .ok (.iconst 3, 1) := dk_6 (dk_at dksX6_oddsOf_5 10 rfl rfl)
theorem dX6_oddsOf_127 : decode cX6_oddsOf 127 = .ok (.iload_n 1, 1) := dk_27 (dk_at dksX6_oddsOf_5 11 rfl rfl)
theorem dX6_oddsOf_128 : decode cX6_oddsOf 128 = .ok (.imul, 1) := dk_104 (dk_at dksX6_oddsOf_5 12 rfl rfl)
theorem dX6_oddsOf_129 : decode cX6_oddsOf 129 = .ok (.iconst 2, 1) := dk_5 (dk_at dksX6_oddsOf_5 13 rfl rfl)
theorem dX6_oddsOf_130 : decode cX6_oddsOf 130 = .ok (.iadd, 1) := dk_96 (dk_at dksX6_oddsOf_5 14 rfl rfl)
theorem dX6_oddsOf_131 : decode cX6_oddsOf 131 = .ok (.iaload, 1) := dk_46 (dk_at dksX6_oddsOf_5 15 rfl rfl)
theorem dX6_oddsOf_132 : decode cX6_oddsOf 132 = .ok (.iload_n 2, 1) := dk_28 (dk_at dksX6_oddsOf_5 16 rfl rfl)
theorem dX6_oddsOf_133 : decode cX6_oddsOf 133 = .ok (.iload 5, 2) := dk_21 5 (dk_at dksX6_oddsOf_5 17 rfl rfl)
theorem dX6_oddsOf_135 : decode cX6_oddsOf 135 = .ok (.iload_n 3, 1) := dk_29 (dk_at dksX6_oddsOf_5 19 rfl rfl)
theorem dX6_oddsOf_136 : decode cX6_oddsOf 136 = .ok (.invokevirtual 169, 3) := dk_182 0 169 (dk_at dksX6_oddsOf_5 20 rfl rfl)
theorem dX6_oddsOf_139 : decode cX6_oddsOf 139 = .ok (.i2l, 1) := dk_133 (dk_at dksX6_oddsOf_5 23 rfl rfl)
theorem dX6_oddsOf_140 : decode cX6_oddsOf 140 = .ok (.lstore 10, 2) := dk_55 10 (dk_at dksX6_oddsOf_6 0 rfl rfl)
theorem dX6_oddsOf_142 : decode cX6_oddsOf 142 = .ok (.aload_n 0, 1) := dk_42 (dk_at dksX6_oddsOf_6 2 rfl rfl)
theorem dX6_oddsOf_143 : decode cX6_oddsOf 143 = .ok (.lload 10, 2) := dk_22 10 (dk_at dksX6_oddsOf_6 3 rfl rfl)
theorem dX6_oddsOf_145 : decode cX6_oddsOf 145 = .ok (.iload 7, 2) := dk_21 7 (dk_at dksX6_oddsOf_6 5 rfl rfl)
theorem dX6_oddsOf_147 : decode cX6_oddsOf 147 = .ok (.i2l, 1) := dk_133 (dk_at dksX6_oddsOf_6 7 rfl rfl)
theorem dX6_oddsOf_148 : decode cX6_oddsOf 148 = .ok (.lmul, 1) := dk_105 (dk_at dksX6_oddsOf_6 8 rfl rfl)
theorem dX6_oddsOf_149 : decode cX6_oddsOf 149 = .ok (.iload 6, 2) := dk_21 6 (dk_at dksX6_oddsOf_6 9 rfl rfl)
theorem dX6_oddsOf_151 : decode cX6_oddsOf 151 = .ok (.i2l, 1) := dk_133 (dk_at dksX6_oddsOf_6 11 rfl rfl)
theorem dX6_oddsOf_152 : decode cX6_oddsOf 152 = .ok (.lmul, 1) := dk_105 (dk_at dksX6_oddsOf_6 12 rfl rfl)
theorem dX6_oddsOf_153 : decode cX6_oddsOf 153 = .ok (.iload 6, 2) := dk_21 6 (dk_at dksX6_oddsOf_6 13 rfl rfl)
theorem dX6_oddsOf_155 : decode cX6_oddsOf 155 = .ok (.bipush 6, 2) := dk_16 6 (dk_at dksX6_oddsOf_6 15 rfl rfl)
theorem dX6_oddsOf_157 : decode cX6_oddsOf 157 = .ok (.if_icmp .le 22, 3) := dk_164 0 22 (dk_at dksX6_oddsOf_6 17 rfl rfl)
theorem dX6_oddsOf_160 : decode cX6_oddsOf 160 = .ok (.lload 8, 2) := dk_22 8 (dk_at dksX6_oddsOf_6 20 rfl rfl)
theorem dX6_oddsOf_162 : decode cX6_oddsOf 162 = .ok (.lload 10, 2) := dk_22 10 (dk_at dksX6_oddsOf_6 22 rfl rfl)
theorem dX6_oddsOf_164 : decode cX6_oddsOf 164 = .ok (.lsub, 1) := dk_101 (dk_at dksX6_oddsOf_7 0 rfl rfl)
theorem dX6_oddsOf_165 : decode cX6_oddsOf 165 = .ok (.iload 7, 2) := dk_21 7 (dk_at dksX6_oddsOf_7 1 rfl rfl)
theorem dX6_oddsOf_167 : decode cX6_oddsOf 167 = .ok (.i2l, 1) := dk_133 (dk_at dksX6_oddsOf_7 3 rfl rfl)
theorem dX6_oddsOf_168 : decode cX6_oddsOf 168 = .ok (.lmul, 1) := dk_105 (dk_at dksX6_oddsOf_7 4 rfl rfl)
theorem dX6_oddsOf_169 : decode cX6_oddsOf 169 = .ok (.iload 6, 2) := dk_21 6 (dk_at dksX6_oddsOf_7 5 rfl rfl)
theorem dX6_oddsOf_171 : decode cX6_oddsOf 171 = .ok (.bipush 6, 2) := dk_16 6 (dk_at dksX6_oddsOf_7 7 rfl rfl)
theorem dX6_oddsOf_173 : decode cX6_oddsOf 173 = .ok (.isub, 1) := dk_100 (dk_at dksX6_oddsOf_7 9 rfl rfl)
theorem dX6_oddsOf_174 : decode cX6_oddsOf 174 = .ok (.i2l, 1) := dk_133 (dk_at dksX6_oddsOf_7 10 rfl rfl)
theorem dX6_oddsOf_175 : decode cX6_oddsOf 175 = .ok (.lmul, 1) := dk_105 (dk_at dksX6_oddsOf_7 11 rfl rfl)
theorem dX6_oddsOf_176 : decode cX6_oddsOf 176 = .ok (.goto 4, 3) := dk_167 0 4 (dk_at dksX6_oddsOf_7 12 rfl rfl)
theorem dX6_oddsOf_179 : decode cX6_oddsOf 179 = .ok (.lconst 0, 1) := dk_9 (dk_at dksX6_oddsOf_7 15 rfl rfl)
theorem dX6_oddsOf_180 : decode cX6_oddsOf 180 = .ok (.ladd, 1) := dk_97 (dk_at dksX6_oddsOf_7 16 rfl rfl)
theorem dX6_oddsOf_181 : decode cX6_oddsOf 181 = .ok (.putfield 177, 3) := dk_181 0 177 (dk_at dksX6_oddsOf_7 17 rfl rfl)
theorem dX6_oddsOf_184 : decode cX6_oddsOf 184 = .ok (.aload_n 0, 1) := dk_42 (dk_at dksX6_oddsOf_7 20 rfl rfl)
theorem dX6_oddsOf_185 : decode cX6_oddsOf 185 = .ok (.aload_n 0, 1) := dk_42 (dk_at dksX6_oddsOf_7 21 rfl rfl)
theorem dX6_oddsOf_186 : decode cX6_oddsOf 186 = .ok (.iload 4, 2) := dk_21 4 (dk_at dksX6_oddsOf_7 22 rfl rfl)
theorem dX6_oddsOf_188 : decode cX6_oddsOf 188 = .ok (.iload 5, 2) := dk_21 5 (dk_at dksX6_oddsOf_8 0 rfl rfl)
theorem dX6_oddsOf_190 : decode cX6_oddsOf 190 = .ok (.aload_n 0, 1) := dk_42 (dk_at dksX6_oddsOf_8 2 rfl rfl)
theorem dX6_oddsOf_191 : decode cX6_oddsOf 191 = .ok (.getfield 64, 3) := dk_180 0 64 (dk_at dksX6_oddsOf_8 3 rfl rfl)
theorem dX6_oddsOf_194 : decode cX6_oddsOf 194 = .ok (.invokevirtual 173, 3) := dk_182 0 173 (dk_at dksX6_oddsOf_8 6 rfl rfl)
theorem dX6_oddsOf_197 : decode cX6_oddsOf 197 = .ok (.ifCond .eq 10, 3) := dk_153 0 10 (dk_at dksX6_oddsOf_8 9 rfl rfl)
theorem dX6_oddsOf_200 : decode cX6_oddsOf 200 = .ok (.aload_n 0, 1) := dk_42 (dk_at dksX6_oddsOf_8 12 rfl rfl)
theorem dX6_oddsOf_201 : decode cX6_oddsOf 201 = .ok (.getfield 177, 3) := dk_180 0 177 (dk_at dksX6_oddsOf_8 13 rfl rfl)
theorem dX6_oddsOf_204 : decode cX6_oddsOf 204 = .ok (.goto 4, 3) := dk_167 0 4 (dk_at dksX6_oddsOf_8 16 rfl rfl)
theorem dX6_oddsOf_207 : decode cX6_oddsOf 207 = .ok (.lconst 0, 1) := dk_9 (dk_at dksX6_oddsOf_8 19 rfl rfl)
theorem dX6_oddsOf_208 : decode cX6_oddsOf 208 = .ok (.putfield 177, 3) := dk_181 0 177 (dk_at dksX6_oddsOf_8 20 rfl rfl)
theorem dX6_oddsOf_211 : decode cX6_oddsOf 211 = .ok (.aload_n 0, 1) := dk_42 (dk_at dksX6_oddsOf_8 23 rfl rfl)
theorem dX6_oddsOf_212 : decode cX6_oddsOf 212 = .ok (.ldc2_w 181, 3) := dk_20 0 181 (dk_at dksX6_oddsOf_9 0 rfl rfl)
theorem dX6_oddsOf_215 : decode cX6_oddsOf 215 = .ok (.lload 8, 2) := dk_22 8 (dk_at dksX6_oddsOf_9 3 rfl rfl)
theorem dX6_oddsOf_217 : decode cX6_oddsOf 217 = .ok (.lmul, 1) := dk_105 (dk_at dksX6_oddsOf_9 5 rfl rfl)
theorem dX6_oddsOf_218 : decode cX6_oddsOf 218 = .ok (.putfield 183, 3) := dk_181 0 183 (dk_at dksX6_oddsOf_9 6 rfl rfl)
theorem dX6_oddsOf_221 : decode cX6_oddsOf 221 = .ok (.return_, 1) := dk_177 (dk_at dksX6_oddsOf_9 9 rfl rfl)
abbrev cX6_sees : ByteArray := prog_11_method_39_code
def yX6_sees : MethodName := ⟨RX6, "sees", "(II)I"⟩
def dkwX6_sees_2 : List UInt8 := [154, 0, 8, 16, 254, 167, 0, 9, 42, 27, 28, 182, 0, 192, 172]
abbrev dktX6_sees_2 : List UInt8 := dkwX6_sees_2 ++ []
def dkwX6_sees_1 : List UInt8 := [154, 0, 5, 2, 172, 27, 156, 0, 11, 42, 28, 182, 0, 195, 167, 0, 23, 42, 180, 0, 13, 27, 46]
abbrev dktX6_sees_1 : List UInt8 := dkwX6_sees_1 ++ dktX6_sees_2
def dkwX6_sees_0 : List UInt8 := [27, 133, 20, 0, 90, 20, 0, 68, 184, 0, 70, 153, 0, 15, 28, 133, 10, 20, 0, 86, 184, 0, 70]
abbrev dktX6_sees_0 : List UInt8 := dkwX6_sees_0 ++ dktX6_sees_1
theorem dksX6_sees_0 : cX6_sees.data.toList.drop 0 = dktX6_sees_0 := by decide +kernel
theorem dksX6_sees_1 : cX6_sees.data.toList.drop 23 = dktX6_sees_1 := dk_seg dksX6_sees_0 23 rfl rfl
theorem dksX6_sees_2 : cX6_sees.data.toList.drop 46 = dktX6_sees_2 := dk_seg dksX6_sees_1 23 rfl rfl
theorem dX6_sees_0 : decode cX6_sees 0 = .ok (.iload_n 1, 1) := dk_27 (dk_at dksX6_sees_0 0 rfl rfl)
theorem dX6_sees_1 : decode cX6_sees 1 = .ok (.i2l, 1) := dk_133 (dk_at dksX6_sees_0 1 rfl rfl)
theorem dX6_sees_2 : decode cX6_sees 2 = .ok (.ldc2_w 90, 3) := dk_20 0 90 (dk_at dksX6_sees_0 2 rfl rfl)
theorem dX6_sees_5 : decode cX6_sees 5 = .ok (.ldc2_w 68, 3) := dk_20 0 68 (dk_at dksX6_sees_0 5 rfl rfl)
theorem dX6_sees_8 : decode cX6_sees 8 = .ok (.invokestatic 70, 3) := dk_184 0 70 (dk_at dksX6_sees_0 8 rfl rfl)
theorem dX6_sees_11 : decode cX6_sees 11 = .ok (.ifCond .eq 15, 3) := dk_153 0 15 (dk_at dksX6_sees_0 11 rfl rfl)
theorem dX6_sees_14 : decode cX6_sees 14 = .ok (.iload_n 2, 1) := dk_28 (dk_at dksX6_sees_0 14 rfl rfl)
theorem dX6_sees_15 : decode cX6_sees 15 = .ok (.i2l, 1) := dk_133 (dk_at dksX6_sees_0 15 rfl rfl)
theorem dX6_sees_16 : decode cX6_sees 16 = .ok (.lconst 1, 1) := dk_10 (dk_at dksX6_sees_0 16 rfl rfl)
theorem dX6_sees_17 : decode cX6_sees 17 = .ok (.ldc2_w 86, 3) := dk_20 0 86 (dk_at dksX6_sees_0 17 rfl rfl)
theorem dX6_sees_20 : decode cX6_sees 20 = .ok (.invokestatic 70, 3) := dk_184 0 70 (dk_at dksX6_sees_0 20 rfl rfl)
theorem dX6_sees_23 : decode cX6_sees 23 = .ok (.ifCond .ne 5, 3) := dk_154 0 5 (dk_at dksX6_sees_1 0 rfl rfl)
theorem dX6_sees_26 : decode cX6_sees 26 = .ok (.iconst (-1), 1) := dk_2 (dk_at dksX6_sees_1 3 rfl rfl)
theorem dX6_sees_27 : decode cX6_sees 27 = .ok (.ireturn, 1) := dk_172 (dk_at dksX6_sees_1 4 rfl rfl)
theorem dX6_sees_28 : decode cX6_sees 28 = .ok (.iload_n 1, 1) := dk_27 (dk_at dksX6_sees_1 5 rfl rfl)
theorem dX6_sees_29 : decode cX6_sees 29 = .ok (.ifCond .ge 11, 3) := dk_156 0 11 (dk_at dksX6_sees_1 6 rfl rfl)
theorem dX6_sees_32 : decode cX6_sees 32 = .ok (.aload_n 0, 1) := dk_42 (dk_at dksX6_sees_1 9 rfl rfl)
theorem dX6_sees_33 : decode cX6_sees 33 = .ok (.iload_n 2, 1) := dk_28 (dk_at dksX6_sees_1 10 rfl rfl)
theorem dX6_sees_34 : decode cX6_sees 34 = .ok (.invokevirtual 195, 3) := dk_182 0 195 (dk_at dksX6_sees_1 11 rfl rfl)
theorem dX6_sees_37 : decode cX6_sees 37 = .ok (.goto 23, 3) := dk_167 0 23 (dk_at dksX6_sees_1 14 rfl rfl)
theorem dX6_sees_40 : decode cX6_sees 40 = .ok (.aload_n 0, 1) := dk_42 (dk_at dksX6_sees_1 17 rfl rfl)
theorem dX6_sees_41 : decode cX6_sees 41 = .ok (.getfield 13, 3) := dk_180 0 13 (dk_at dksX6_sees_1 18 rfl rfl)
theorem dX6_sees_44 : decode cX6_sees 44 = .ok (.iload_n 1, 1) := dk_27 (dk_at dksX6_sees_1 21 rfl rfl)
theorem dX6_sees_45 : decode cX6_sees 45 = .ok (.iaload, 1) := dk_46 (dk_at dksX6_sees_1 22 rfl rfl)
theorem dX6_sees_46 : decode cX6_sees 46 = .ok (.ifCond .ne 8, 3) := dk_154 0 8 (dk_at dksX6_sees_2 0 rfl rfl)
theorem dX6_sees_49 : decode cX6_sees 49 = .ok (.bipush (-2), 2) := dk_16 254 (dk_at dksX6_sees_2 3 rfl rfl)
theorem dX6_sees_51 : decode cX6_sees 51 = .ok (.goto 9, 3) := dk_167 0 9 (dk_at dksX6_sees_2 5 rfl rfl)
theorem dX6_sees_54 : decode cX6_sees 54 = .ok (.aload_n 0, 1) := dk_42 (dk_at dksX6_sees_2 8 rfl rfl)
theorem dX6_sees_55 : decode cX6_sees 55 = .ok (.iload_n 1, 1) := dk_27 (dk_at dksX6_sees_2 9 rfl rfl)
theorem dX6_sees_56 : decode cX6_sees 56 = .ok (.iload_n 2, 1) := dk_28 (dk_at dksX6_sees_2 10 rfl rfl)
theorem dX6_sees_57 : decode cX6_sees 57 = .ok (.invokevirtual 192, 3) := dk_182 0 192 (dk_at dksX6_sees_2 11 rfl rfl)
theorem dX6_sees_60 : decode cX6_sees 60 = .ok (.ireturn, 1) := dk_172 (dk_at dksX6_sees_2 14 rfl rfl)
abbrev cX6_seesAll : ByteArray := prog_11_method_38_code
def yX6_seesAll : MethodName := ⟨RX6, "seesAll", "(I)I"⟩
def dkwX6_seesAll_1 : List UInt8 := [167, 255, 238, 28, 172]
abbrev dktX6_seesAll_1 : List UInt8 := dkwX6_seesAll_1 ++ []
def dkwX6_seesAll_0 : List UInt8 := [3, 61, 3, 62, 29, 16, 16, 162, 0, 18, 28, 42, 29, 27, 182, 0, 192, 96, 61, 132, 3, 1]
abbrev dktX6_seesAll_0 : List UInt8 := dkwX6_seesAll_0 ++ dktX6_seesAll_1
theorem dksX6_seesAll_0 : cX6_seesAll.data.toList.drop 0 = dktX6_seesAll_0 := by decide +kernel
theorem dksX6_seesAll_1 : cX6_seesAll.data.toList.drop 22 = dktX6_seesAll_1 := dk_seg dksX6_seesAll_0 22 rfl rfl
theorem dX6_seesAll_0 : decode cX6_seesAll 0 = .ok (.iconst 0, 1) := dk_3 (dk_at dksX6_seesAll_0 0 rfl rfl)
theorem dX6_seesAll_1 : decode cX6_seesAll 1 = .ok (.istore_n 2, 1) := dk_61 (dk_at dksX6_seesAll_0 1 rfl rfl)
theorem dX6_seesAll_2 : decode cX6_seesAll 2 = .ok (.iconst 0, 1) := dk_3 (dk_at dksX6_seesAll_0 2 rfl rfl)
theorem dX6_seesAll_3 : decode cX6_seesAll 3 = .ok (.istore_n 3, 1) := dk_62 (dk_at dksX6_seesAll_0 3 rfl rfl)
theorem dX6_seesAll_4 : decode cX6_seesAll 4 = .ok (.iload_n 3, 1) := dk_29 (dk_at dksX6_seesAll_0 4 rfl rfl)
theorem dX6_seesAll_5 : decode cX6_seesAll 5 = .ok (.bipush 16, 2) := dk_16 16 (dk_at dksX6_seesAll_0 5 rfl rfl)
theorem dX6_seesAll_7 : decode cX6_seesAll 7 = .ok (.if_icmp .ge 18, 3) := dk_162 0 18 (dk_at dksX6_seesAll_0 7 rfl rfl)
theorem dX6_seesAll_10 : decode cX6_seesAll 10 = .ok (.iload_n 2, 1) := dk_28 (dk_at dksX6_seesAll_0 10 rfl rfl)
theorem dX6_seesAll_11 : decode cX6_seesAll 11 = .ok (.aload_n 0, 1) := dk_42 (dk_at dksX6_seesAll_0 11 rfl rfl)
theorem dX6_seesAll_12 : decode cX6_seesAll 12 = .ok (.iload_n 3, 1) := dk_29 (dk_at dksX6_seesAll_0 12 rfl rfl)
theorem dX6_seesAll_13 : decode cX6_seesAll 13 = .ok (.iload_n 1, 1) := dk_27 (dk_at dksX6_seesAll_0 13 rfl rfl)
theorem dX6_seesAll_14 : decode cX6_seesAll 14 = .ok (.invokevirtual 192, 3) := dk_182 0 192 (dk_at dksX6_seesAll_0 14 rfl rfl)
theorem dX6_seesAll_17 : decode cX6_seesAll 17 = .ok (.iadd, 1) := dk_96 (dk_at dksX6_seesAll_0 17 rfl rfl)
theorem dX6_seesAll_18 : decode cX6_seesAll 18 = .ok (.istore_n 2, 1) := dk_61 (dk_at dksX6_seesAll_0 18 rfl rfl)
theorem dX6_seesAll_19 : decode cX6_seesAll 19 = .ok (.iinc 3 1, 3) := dk_132 3 1 (dk_at dksX6_seesAll_0 19 rfl rfl)
theorem dX6_seesAll_22 : decode cX6_seesAll 22 = .ok (.goto (-18), 3) := dk_167 255 238 (dk_at dksX6_seesAll_1 0 rfl rfl)
theorem dX6_seesAll_25 : decode cX6_seesAll 25 = .ok (.iload_n 2, 1) := dk_28 (dk_at dksX6_seesAll_1 3 rfl rfl)
theorem dX6_seesAll_26 : decode cX6_seesAll 26 = .ok (.ireturn, 1) := dk_172 (dk_at dksX6_seesAll_1 4 rfl rfl)
abbrev cX6_seesAt : ByteArray := prog_11_method_37_code
def yX6_seesAt : MethodName := ⟨RX6, "seesAt", "(II)I"⟩
def dkwX6_seesAt_2 : List UInt8 := [132, 4, 1, 167, 255, 210, 29, 172]
abbrev dktX6_seesAt_2 : List UInt8 := dkwX6_seesAt_2 ++ []
def dkwX6_seesAt_1 : List UInt8 := [21, 4, 27, 28, 182, 0, 186, 29, 42, 180, 0, 177, 20, 0, 190, 105, 42, 180, 0, 183, 109, 136, 96, 62]
abbrev dktX6_seesAt_1 : List UInt8 := dkwX6_seesAt_1 ++ dktX6_seesAt_2
def dkwX6_seesAt_0 : List UInt8 := [3, 62, 3, 54, 4, 21, 4, 42, 180, 0, 76, 162, 0, 43, 42, 180, 0, 13, 27, 46, 158, 0, 34, 42]
abbrev dktX6_seesAt_0 : List UInt8 := dkwX6_seesAt_0 ++ dktX6_seesAt_1
theorem dksX6_seesAt_0 : cX6_seesAt.data.toList.drop 0 = dktX6_seesAt_0 := by decide +kernel
theorem dksX6_seesAt_1 : cX6_seesAt.data.toList.drop 24 = dktX6_seesAt_1 := dk_seg dksX6_seesAt_0 24 rfl rfl
theorem dksX6_seesAt_2 : cX6_seesAt.data.toList.drop 48 = dktX6_seesAt_2 := dk_seg dksX6_seesAt_1 24 rfl rfl
theorem dX6_seesAt_0 : decode cX6_seesAt 0 = .ok (.iconst 0, 1) := dk_3 (dk_at dksX6_seesAt_0 0 rfl rfl)
theorem dX6_seesAt_1 : decode cX6_seesAt 1 = .ok (.istore_n 3, 1) := dk_62 (dk_at dksX6_seesAt_0 1 rfl rfl)
theorem dX6_seesAt_2 : decode cX6_seesAt 2 = .ok (.iconst 0, 1) := dk_3 (dk_at dksX6_seesAt_0 2 rfl rfl)
theorem dX6_seesAt_3 : decode cX6_seesAt 3 = .ok (.istore 4, 2) := dk_54 4 (dk_at dksX6_seesAt_0 3 rfl rfl)
theorem dX6_seesAt_5 : decode cX6_seesAt 5 = .ok (.iload 4, 2) := dk_21 4 (dk_at dksX6_seesAt_0 5 rfl rfl)
theorem dX6_seesAt_7 : decode cX6_seesAt 7 = .ok (.aload_n 0, 1) := dk_42 (dk_at dksX6_seesAt_0 7 rfl rfl)
theorem dX6_seesAt_8 : decode cX6_seesAt 8 = .ok (.getfield 76, 3) := dk_180 0 76 (dk_at dksX6_seesAt_0 8 rfl rfl)
theorem dX6_seesAt_11 : decode cX6_seesAt 11 = .ok (.if_icmp .ge 43, 3) := dk_162 0 43 (dk_at dksX6_seesAt_0 11 rfl rfl)
theorem dX6_seesAt_14 : decode cX6_seesAt 14 = .ok (.aload_n 0, 1) := dk_42 (dk_at dksX6_seesAt_0 14 rfl rfl)
theorem dX6_seesAt_15 : decode cX6_seesAt 15 = .ok (.getfield 13, 3) := dk_180 0 13 (dk_at dksX6_seesAt_0 15 rfl rfl)
theorem dX6_seesAt_18 : decode cX6_seesAt 18 = .ok (.iload_n 1, 1) := dk_27 (dk_at dksX6_seesAt_0 18 rfl rfl)
theorem dX6_seesAt_19 : decode cX6_seesAt 19 = .ok (.iaload, 1) := dk_46 (dk_at dksX6_seesAt_0 19 rfl rfl)
theorem dX6_seesAt_20 : decode cX6_seesAt 20 = .ok (.ifCond .le 34, 3) := dk_158 0 34 (dk_at dksX6_seesAt_0 20 rfl rfl)
theorem dX6_seesAt_23 : decode cX6_seesAt 23 = .ok (.aload_n 0, 1) := dk_42 (dk_at dksX6_seesAt_0 23 rfl rfl)
theorem dX6_seesAt_24 : decode cX6_seesAt 24 = .ok (.iload 4, 2) := dk_21 4 (dk_at dksX6_seesAt_1 0 rfl rfl)
theorem dX6_seesAt_26 : decode cX6_seesAt 26 = .ok (.iload_n 1, 1) := dk_27 (dk_at dksX6_seesAt_1 2 rfl rfl)
theorem dX6_seesAt_27 : decode cX6_seesAt 27 = .ok (.iload_n 2, 1) := dk_28 (dk_at dksX6_seesAt_1 3 rfl rfl)
theorem dX6_seesAt_28 : decode cX6_seesAt 28 = .ok (.invokevirtual 186, 3) := dk_182 0 186 (dk_at dksX6_seesAt_1 4 rfl rfl)
theorem dX6_seesAt_31 : decode cX6_seesAt 31 = .ok (.iload_n 3, 1) := dk_29 (dk_at dksX6_seesAt_1 7 rfl rfl)
theorem dX6_seesAt_32 : decode cX6_seesAt 32 = .ok (.aload_n 0, 1) := dk_42 (dk_at dksX6_seesAt_1 8 rfl rfl)
theorem dX6_seesAt_33 : decode cX6_seesAt 33 = .ok (.getfield 177, 3) := dk_180 0 177 (dk_at dksX6_seesAt_1 9 rfl rfl)
theorem dX6_seesAt_36 : decode cX6_seesAt 36 = .ok (.ldc2_w 190, 3) := dk_20 0 190 (dk_at dksX6_seesAt_1 12 rfl rfl)
theorem dX6_seesAt_39 : decode cX6_seesAt 39 = .ok (.lmul, 1) := dk_105 (dk_at dksX6_seesAt_1 15 rfl rfl)
theorem dX6_seesAt_40 : decode cX6_seesAt 40 = .ok (.aload_n 0, 1) := dk_42 (dk_at dksX6_seesAt_1 16 rfl rfl)
theorem dX6_seesAt_41 : decode cX6_seesAt 41 = .ok (.getfield 183, 3) := dk_180 0 183 (dk_at dksX6_seesAt_1 17 rfl rfl)
theorem dX6_seesAt_44 : decode cX6_seesAt 44 = .ok (.ldiv, 1) := dk_109 (dk_at dksX6_seesAt_1 20 rfl rfl)
theorem dX6_seesAt_45 : decode cX6_seesAt 45 = .ok (.l2i, 1) := dk_136 (dk_at dksX6_seesAt_1 21 rfl rfl)
theorem dX6_seesAt_46 : decode cX6_seesAt 46 = .ok (.iadd, 1) := dk_96 (dk_at dksX6_seesAt_1 22 rfl rfl)
theorem dX6_seesAt_47 : decode cX6_seesAt 47 = .ok (.istore_n 3, 1) := dk_62 (dk_at dksX6_seesAt_1 23 rfl rfl)
theorem dX6_seesAt_48 : decode cX6_seesAt 48 = .ok (.iinc 4 1, 3) := dk_132 4 1 (dk_at dksX6_seesAt_2 0 rfl rfl)
theorem dX6_seesAt_51 : decode cX6_seesAt 51 = .ok (.goto (-46), 3) := dk_167 255 210 (dk_at dksX6_seesAt_2 3 rfl rfl)
theorem dX6_seesAt_54 : decode cX6_seesAt 54 = .ok (.iload_n 3, 1) := dk_29 (dk_at dksX6_seesAt_2 6 rfl rfl)
theorem dX6_seesAt_55 : decode cX6_seesAt 55 = .ok (.ireturn, 1) := dk_172 (dk_at dksX6_seesAt_2 7 rfl rfl)
abbrev cX6_quiet : ByteArray := prog_11_method_40_code
def yX6_quiet : MethodName := ⟨RX6, "quiet", "(II)I"⟩
def dkwX6_quiet_6 : List UInt8 := [167, 255, 164, 42, 180, 0, 13, 27, 29, 79, 28, 154, 0, 8, 21, 4, 167, 0, 5, 21, 5, 172]
abbrev dktX6_quiet_6 : List UInt8 := dkwX6_quiet_6 ++ []
def dkwX6_quiet_5 : List UInt8 := [167, 0, 5, 21, 4, 54, 4, 21, 8, 153, 0, 8, 21, 7, 167, 0, 5, 21, 5, 54, 5, 132, 6, 1]
abbrev dktX6_quiet_5 : List UInt8 := dkwX6_quiet_5 ++ dktX6_quiet_6
def dkwX6_quiet_4 : List UInt8 := [155, 0, 10, 21, 7, 21, 5, 162, 0, 7, 4, 167, 0, 4, 3, 54, 8, 21, 8, 153, 0, 8, 21, 6]
abbrev dktX6_quiet_4 : List UInt8 := dkwX6_quiet_4 ++ dktX6_quiet_5
def dkwX6_quiet_3 : List UInt8 := [21, 6, 29, 79, 42, 21, 6, 4, 182, 0, 192, 54, 7, 42, 180, 0, 13, 21, 6, 3, 79, 21, 4]
abbrev dktX6_quiet_3 : List UInt8 := dkwX6_quiet_3 ++ dktX6_quiet_4
def dkwX6_quiet_2 : List UInt8 := [54, 6, 21, 6, 16, 16, 162, 0, 91, 42, 180, 0, 13, 21, 6, 46, 154, 0, 75, 42, 180, 0, 13]
abbrev dktX6_quiet_2 : List UInt8 := dkwX6_quiet_2 ++ dktX6_quiet_3
def dkwX6_quiet_1 : List UInt8 := [46, 62, 29, 154, 0, 6, 16, 254, 172, 16, 252, 54, 4, 3, 54, 5, 42, 180, 0, 13, 27, 3, 79, 3]
abbrev dktX6_quiet_1 : List UInt8 := dkwX6_quiet_1 ++ dktX6_quiet_2
def dkwX6_quiet_0 : List UInt8 := [27, 184, 0, 79, 153, 0, 13, 28, 133, 9, 10, 184, 0, 70, 154, 0, 5, 2, 172, 42, 180, 0, 13, 27]
abbrev dktX6_quiet_0 : List UInt8 := dkwX6_quiet_0 ++ dktX6_quiet_1
theorem dksX6_quiet_0 : cX6_quiet.data.toList.drop 0 = dktX6_quiet_0 := by decide +kernel
theorem dksX6_quiet_1 : cX6_quiet.data.toList.drop 24 = dktX6_quiet_1 := dk_seg dksX6_quiet_0 24 rfl rfl
theorem dksX6_quiet_2 : cX6_quiet.data.toList.drop 48 = dktX6_quiet_2 := dk_seg dksX6_quiet_1 24 rfl rfl
theorem dksX6_quiet_3 : cX6_quiet.data.toList.drop 71 = dktX6_quiet_3 := dk_seg dksX6_quiet_2 23 rfl rfl
theorem dksX6_quiet_4 : cX6_quiet.data.toList.drop 94 = dktX6_quiet_4 := dk_seg dksX6_quiet_3 23 rfl rfl
theorem dksX6_quiet_5 : cX6_quiet.data.toList.drop 118 = dktX6_quiet_5 := dk_seg dksX6_quiet_4 24 rfl rfl
theorem dksX6_quiet_6 : cX6_quiet.data.toList.drop 142 = dktX6_quiet_6 := dk_seg dksX6_quiet_5 24 rfl rfl
theorem dX6_quiet_0 : decode cX6_quiet 0 = .ok (.iload_n 1, 1) := dk_27 (dk_at dksX6_quiet_0 0 rfl rfl)
theorem dX6_quiet_1 : decode cX6_quiet 1 = .ok (.invokestatic 79, 3) := dk_184 0 79 (dk_at dksX6_quiet_0 1 rfl rfl)
theorem dX6_quiet_4 : decode cX6_quiet 4 = .ok (.ifCond .eq 13, 3) := dk_153 0 13 (dk_at dksX6_quiet_0 4 rfl rfl)
theorem dX6_quiet_7 : decode cX6_quiet 7 = .ok (.iload_n 2, 1) := dk_28 (dk_at dksX6_quiet_0 7 rfl rfl)
theorem dX6_quiet_8 : decode cX6_quiet 8 = .ok (.i2l, 1) := dk_133 (dk_at dksX6_quiet_0 8 rfl rfl)
theorem dX6_quiet_9 : decode cX6_quiet 9 = .ok (.lconst 0, 1) := dk_9 (dk_at dksX6_quiet_0 9 rfl rfl)
theorem dX6_quiet_10 : decode cX6_quiet 10 = .ok (.lconst 1, 1) := dk_10 (dk_at dksX6_quiet_0 10 rfl rfl)
theorem dX6_quiet_11 : decode cX6_quiet 11 = .ok (.invokestatic 70, 3) := dk_184 0 70 (dk_at dksX6_quiet_0 11 rfl rfl)
theorem dX6_quiet_14 : decode cX6_quiet 14 = .ok (.ifCond .ne 5, 3) := dk_154 0 5 (dk_at dksX6_quiet_0 14 rfl rfl)
theorem dX6_quiet_17 : decode cX6_quiet 17 = .ok (.iconst (-1), 1) := dk_2 (dk_at dksX6_quiet_0 17 rfl rfl)
theorem dX6_quiet_18 : decode cX6_quiet 18 = .ok (.ireturn, 1) := dk_172 (dk_at dksX6_quiet_0 18 rfl rfl)
theorem dX6_quiet_19 : decode cX6_quiet 19 = .ok (.aload_n 0, 1) := dk_42 (dk_at dksX6_quiet_0 19 rfl rfl)
theorem dX6_quiet_20 : decode cX6_quiet 20 = .ok (.getfield 13, 3) := dk_180 0 13 (dk_at dksX6_quiet_0 20 rfl rfl)
theorem dX6_quiet_23 : decode cX6_quiet 23 = .ok (.iload_n 1, 1) := dk_27 (dk_at dksX6_quiet_0 23 rfl rfl)
theorem dX6_quiet_24 : decode cX6_quiet 24 = .ok (.iaload, 1) := dk_46 (dk_at dksX6_quiet_1 0 rfl rfl)
theorem dX6_quiet_25 : decode cX6_quiet 25 = .ok (.istore_n 3, 1) := dk_62 (dk_at dksX6_quiet_1 1 rfl rfl)
theorem dX6_quiet_26 : decode cX6_quiet 26 = .ok (.iload_n 3, 1) := dk_29 (dk_at dksX6_quiet_1 2 rfl rfl)
theorem dX6_quiet_27 : decode cX6_quiet 27 = .ok (.ifCond .ne 6, 3) := dk_154 0 6 (dk_at dksX6_quiet_1 3 rfl rfl)
theorem dX6_quiet_30 : decode cX6_quiet 30 = .ok (.bipush (-2), 2) := dk_16 254 (dk_at dksX6_quiet_1 6 rfl rfl)
theorem dX6_quiet_32 : decode cX6_quiet 32 = .ok (.ireturn, 1) := dk_172 (dk_at dksX6_quiet_1 8 rfl rfl)
theorem dX6_quiet_33 : decode cX6_quiet 33 = .ok (.bipush (-4), 2) := dk_16 252 (dk_at dksX6_quiet_1 9 rfl rfl)
theorem dX6_quiet_35 : decode cX6_quiet 35 = .ok (.istore 4, 2) := dk_54 4 (dk_at dksX6_quiet_1 11 rfl rfl)
theorem dX6_quiet_37 : decode cX6_quiet 37 = .ok (.iconst 0, 1) := dk_3 (dk_at dksX6_quiet_1 13 rfl rfl)
theorem dX6_quiet_38 : decode cX6_quiet 38 = .ok (.istore 5, 2) := dk_54 5 (dk_at dksX6_quiet_1 14 rfl rfl)
theorem dX6_quiet_40 : decode cX6_quiet 40 = .ok (.aload_n 0, 1) := dk_42 (dk_at dksX6_quiet_1 16 rfl rfl)
theorem dX6_quiet_41 : decode cX6_quiet 41 = .ok (.getfield 13, 3) := dk_180 0 13 (dk_at dksX6_quiet_1 17 rfl rfl)
theorem dX6_quiet_44 : decode cX6_quiet 44 = .ok (.iload_n 1, 1) := dk_27 (dk_at dksX6_quiet_1 20 rfl rfl)
theorem dX6_quiet_45 : decode cX6_quiet 45 = .ok (.iconst 0, 1) := dk_3 (dk_at dksX6_quiet_1 21 rfl rfl)
theorem dX6_quiet_46 : decode cX6_quiet 46 = .ok (.iastore, 1) := dk_79 (dk_at dksX6_quiet_1 22 rfl rfl)
theorem dX6_quiet_47 : decode cX6_quiet 47 = .ok (.iconst 0, 1) := dk_3 (dk_at dksX6_quiet_1 23 rfl rfl)
theorem dX6_quiet_48 : decode cX6_quiet 48 = .ok (.istore 6, 2) := dk_54 6 (dk_at dksX6_quiet_2 0 rfl rfl)
theorem dX6_quiet_50 : decode cX6_quiet 50 = .ok (.iload 6, 2) := dk_21 6 (dk_at dksX6_quiet_2 2 rfl rfl)
theorem dX6_quiet_52 : decode cX6_quiet 52 = .ok (.bipush 16, 2) := dk_16 16 (dk_at dksX6_quiet_2 4 rfl rfl)
theorem dX6_quiet_54 : decode cX6_quiet 54 = .ok (.if_icmp .ge 91, 3) := dk_162 0 91 (dk_at dksX6_quiet_2 6 rfl rfl)
theorem dX6_quiet_57 : decode cX6_quiet 57 = .ok (.aload_n 0, 1) := dk_42 (dk_at dksX6_quiet_2 9 rfl rfl)
theorem dX6_quiet_58 : decode cX6_quiet 58 = .ok (.getfield 13, 3) := dk_180 0 13 (dk_at dksX6_quiet_2 10 rfl rfl)
theorem dX6_quiet_61 : decode cX6_quiet 61 = .ok (.iload 6, 2) := dk_21 6 (dk_at dksX6_quiet_2 13 rfl rfl)
theorem dX6_quiet_63 : decode cX6_quiet 63 = .ok (.iaload, 1) := dk_46 (dk_at dksX6_quiet_2 15 rfl rfl)
theorem dX6_quiet_64 : decode cX6_quiet 64 = .ok (.ifCond .ne 75, 3) := dk_154 0 75 (dk_at dksX6_quiet_2 16 rfl rfl)
theorem dX6_quiet_67 : decode cX6_quiet 67 = .ok (.aload_n 0, 1) := dk_42 (dk_at dksX6_quiet_2 19 rfl rfl)
theorem dX6_quiet_68 : decode cX6_quiet 68 = .ok (.getfield 13, 3) := dk_180 0 13 (dk_at dksX6_quiet_2 20 rfl rfl)
theorem dX6_quiet_71 : decode cX6_quiet 71 = .ok (.iload 6, 2) := dk_21 6 (dk_at dksX6_quiet_3 0 rfl rfl)
theorem dX6_quiet_73 : decode cX6_quiet 73 = .ok (.iload_n 3, 1) := dk_29 (dk_at dksX6_quiet_3 2 rfl rfl)
theorem dX6_quiet_74 : decode cX6_quiet 74 = .ok (.iastore, 1) := dk_79 (dk_at dksX6_quiet_3 3 rfl rfl)
theorem dX6_quiet_75 : decode cX6_quiet 75 = .ok (.aload_n 0, 1) := dk_42 (dk_at dksX6_quiet_3 4 rfl rfl)
theorem dX6_quiet_76 : decode cX6_quiet 76 = .ok (.iload 6, 2) := dk_21 6 (dk_at dksX6_quiet_3 5 rfl rfl)
theorem dX6_quiet_78 : decode cX6_quiet 78 = .ok (.iconst 1, 1) := dk_4 (dk_at dksX6_quiet_3 7 rfl rfl)
theorem dX6_quiet_79 : decode cX6_quiet 79 = .ok (.invokevirtual 192, 3) := dk_182 0 192 (dk_at dksX6_quiet_3 8 rfl rfl)
theorem dX6_quiet_82 : decode cX6_quiet 82 = .ok (.istore 7, 2) := dk_54 7 (dk_at dksX6_quiet_3 11 rfl rfl)
theorem dX6_quiet_84 : decode cX6_quiet 84 = .ok (.aload_n 0, 1) := dk_42 (dk_at dksX6_quiet_3 13 rfl rfl)
theorem dX6_quiet_85 : decode cX6_quiet 85 = .ok (.getfield 13, 3) := dk_180 0 13 (dk_at dksX6_quiet_3 14 rfl rfl)
theorem dX6_quiet_88 : decode cX6_quiet 88 = .ok (.iload 6, 2) := dk_21 6 (dk_at dksX6_quiet_3 17 rfl rfl)
theorem dX6_quiet_90 : decode cX6_quiet 90 = .ok (.iconst 0, 1) := dk_3 (dk_at dksX6_quiet_3 19 rfl rfl)
theorem dX6_quiet_91 : decode cX6_quiet 91 = .ok (.iastore, 1) := dk_79 (dk_at dksX6_quiet_3 20 rfl rfl)
theorem dX6_quiet_92 : decode cX6_quiet 92 = .ok (.iload 4, 2) := dk_21 4 (dk_at dksX6_quiet_3 21 rfl rfl)
theorem dX6_quiet_94 : decode cX6_quiet 94 = .ok (.ifCond .lt 10, 3) := dk_155 0 10 (dk_at dksX6_quiet_4 0 rfl rfl)
theorem dX6_quiet_97 : decode cX6_quiet 97 = .ok (.iload 7, 2) := dk_21 7 (dk_at dksX6_quiet_4 3 rfl rfl)
theorem dX6_quiet_99 : decode cX6_quiet 99 = .ok (.iload 5, 2) := dk_21 5 (dk_at dksX6_quiet_4 5 rfl rfl)
theorem dX6_quiet_101 : decode cX6_quiet 101 = .ok (.if_icmp .ge 7, 3) := dk_162 0 7 (dk_at dksX6_quiet_4 7 rfl rfl)
theorem dX6_quiet_104 : decode cX6_quiet 104 = .ok (.iconst 1, 1) := dk_4 (dk_at dksX6_quiet_4 10 rfl rfl)
theorem dX6_quiet_105 : decode cX6_quiet 105 = .ok (.goto 4, 3) := dk_167 0 4 (dk_at dksX6_quiet_4 11 rfl rfl)
theorem dX6_quiet_108 : decode cX6_quiet 108 = .ok (.iconst 0, 1) := dk_3 (dk_at dksX6_quiet_4 14 rfl rfl)
theorem dX6_quiet_109 : decode cX6_quiet 109 = .ok (.istore 8, 2) := dk_54 8 (dk_at dksX6_quiet_4 15 rfl rfl)
theorem dX6_quiet_111 : decode cX6_quiet 111 = .ok (.iload 8, 2) := dk_21 8 (dk_at dksX6_quiet_4 17 rfl rfl)
theorem dX6_quiet_113 : decode cX6_quiet 113 = .ok (.ifCond .eq 8, 3) := dk_153 0 8 (dk_at dksX6_quiet_4 19 rfl rfl)
theorem dX6_quiet_116 : decode cX6_quiet 116 = .ok (.iload 6, 2) := dk_21 6 (dk_at dksX6_quiet_4 22 rfl rfl)
theorem dX6_quiet_118 : decode cX6_quiet 118 = .ok (.goto 5, 3) := dk_167 0 5 (dk_at dksX6_quiet_5 0 rfl rfl)
theorem dX6_quiet_121 : decode cX6_quiet 121 = .ok (.iload 4, 2) := dk_21 4 (dk_at dksX6_quiet_5 3 rfl rfl)
theorem dX6_quiet_123 : decode cX6_quiet 123 = .ok (.istore 4, 2) := dk_54 4 (dk_at dksX6_quiet_5 5 rfl rfl)
theorem dX6_quiet_125 : decode cX6_quiet 125 = .ok (.iload 8, 2) := dk_21 8 (dk_at dksX6_quiet_5 7 rfl rfl)
theorem dX6_quiet_127 : decode cX6_quiet 127 = .ok (.ifCond .eq 8, 3) := dk_153 0 8 (dk_at dksX6_quiet_5 9 rfl rfl)
theorem dX6_quiet_130 : decode cX6_quiet 130 = .ok (.iload 7, 2) := dk_21 7 (dk_at dksX6_quiet_5 12 rfl rfl)
theorem dX6_quiet_132 : decode cX6_quiet 132 = .ok (.goto 5, 3) := dk_167 0 5 (dk_at dksX6_quiet_5 14 rfl rfl)
theorem dX6_quiet_135 : decode cX6_quiet 135 = .ok (.iload 5, 2) := dk_21 5 (dk_at dksX6_quiet_5 17 rfl rfl)
theorem dX6_quiet_137 : decode cX6_quiet 137 = .ok (.istore 5, 2) := dk_54 5 (dk_at dksX6_quiet_5 19 rfl rfl)
theorem dX6_quiet_139 : decode cX6_quiet 139 = .ok (.iinc 6 1, 3) := dk_132 6 1 (dk_at dksX6_quiet_5 21 rfl rfl)
theorem dX6_quiet_142 : decode cX6_quiet 142 = .ok (.goto (-92), 3) := dk_167 255 164 (dk_at dksX6_quiet_6 0 rfl rfl)
theorem dX6_quiet_145 : decode cX6_quiet 145 = .ok (.aload_n 0, 1) := dk_42 (dk_at dksX6_quiet_6 3 rfl rfl)
theorem dX6_quiet_146 : decode cX6_quiet 146 = .ok (.getfield 13, 3) := dk_180 0 13 (dk_at dksX6_quiet_6 4 rfl rfl)
theorem dX6_quiet_149 : decode cX6_quiet 149 = .ok (.iload_n 1, 1) := dk_27 (dk_at dksX6_quiet_6 7 rfl rfl)
theorem dX6_quiet_150 : decode cX6_quiet 150 = .ok (.iload_n 3, 1) := dk_29 (dk_at dksX6_quiet_6 8 rfl rfl)
theorem dX6_quiet_151 : decode cX6_quiet 151 = .ok (.iastore, 1) := dk_79 (dk_at dksX6_quiet_6 9 rfl rfl)
theorem dX6_quiet_152 : decode cX6_quiet 152 = .ok (.iload_n 2, 1) := dk_28 (dk_at dksX6_quiet_6 10 rfl rfl)
theorem dX6_quiet_153 : decode cX6_quiet 153 = .ok (.ifCond .ne 8, 3) := dk_154 0 8 (dk_at dksX6_quiet_6 11 rfl rfl)
theorem dX6_quiet_156 : decode cX6_quiet 156 = .ok (.iload 4, 2) := dk_21 4 (dk_at dksX6_quiet_6 14 rfl rfl)
theorem dX6_quiet_158 : decode cX6_quiet 158 = .ok (.goto 5, 3) := dk_167 0 5 (dk_at dksX6_quiet_6 16 rfl rfl)
theorem dX6_quiet_161 : decode cX6_quiet 161 = .ok (.iload 5, 2) := dk_21 5 (dk_at dksX6_quiet_6 19 rfl rfl)
theorem dX6_quiet_163 : decode cX6_quiet 163 = .ok (.ireturn, 1) := dk_172 (dk_at dksX6_quiet_6 21 rfl rfl)
abbrev cX6_cover : ByteArray := prog_11_method_41_code
def yX6_cover : MethodName := ⟨RX6, "cover", "(IIII)I"⟩
def dkwX6_cover_5 : List UInt8 := [79, 42, 89, 180, 0, 163, 4, 96, 181, 0, 163, 42, 180, 0, 163, 4, 100, 172]
abbrev dktX6_cover_5 : List UInt8 := dkwX6_cover_5 ++ []
def dkwX6_cover_4 : List UInt8 := [7, 42, 180, 0, 163, 104, 5, 96, 29, 79, 42, 180, 0, 37, 7, 42, 180, 0, 163, 104, 6, 96, 21, 4]
abbrev dktX6_cover_4 : List UInt8 := dkwX6_cover_4 ++ dktX6_cover_5
def dkwX6_cover_3 : List UInt8 := [180, 0, 163, 104, 27, 79, 42, 180, 0, 37, 7, 42, 180, 0, 163, 104, 4, 96, 28, 79, 42, 180, 0, 37]
abbrev dktX6_cover_3 : List UInt8 := dkwX6_cover_3 ++ dktX6_cover_4
def dkwX6_cover_2 : List UInt8 := [154, 0, 5, 2, 172, 42, 180, 0, 163, 16, 8, 160, 0, 6, 16, 253, 172, 42, 180, 0, 37, 7, 42]
abbrev dktX6_cover_2 : List UInt8 := dkwX6_cover_2 ++ dktX6_cover_3
def dkwX6_cover_1 : List UInt8 := [153, 0, 25, 28, 6, 160, 0, 7, 29, 157, 0, 16, 21, 4, 133, 9, 20, 0, 198, 184, 0, 70]
abbrev dktX6_cover_1 : List UInt8 := dkwX6_cover_1 ++ dktX6_cover_2
def dkwX6_cover_0 : List UInt8 := [27, 184, 0, 79, 153, 0, 44, 28, 133, 9, 20, 0, 74, 184, 0, 70, 153, 0, 32, 29, 184, 0, 83]
abbrev dktX6_cover_0 : List UInt8 := dkwX6_cover_0 ++ dktX6_cover_1
theorem dksX6_cover_0 : cX6_cover.data.toList.drop 0 = dktX6_cover_0 := by decide +kernel
theorem dksX6_cover_1 : cX6_cover.data.toList.drop 23 = dktX6_cover_1 := dk_seg dksX6_cover_0 23 rfl rfl
theorem dksX6_cover_2 : cX6_cover.data.toList.drop 45 = dktX6_cover_2 := dk_seg dksX6_cover_1 22 rfl rfl
theorem dksX6_cover_3 : cX6_cover.data.toList.drop 68 = dktX6_cover_3 := dk_seg dksX6_cover_2 23 rfl rfl
theorem dksX6_cover_4 : cX6_cover.data.toList.drop 92 = dktX6_cover_4 := dk_seg dksX6_cover_3 24 rfl rfl
theorem dksX6_cover_5 : cX6_cover.data.toList.drop 116 = dktX6_cover_5 := dk_seg dksX6_cover_4 24 rfl rfl
theorem dX6_cover_0 : decode cX6_cover 0 = .ok (.iload_n 1, 1) := dk_27 (dk_at dksX6_cover_0 0 rfl rfl)
theorem dX6_cover_1 : decode cX6_cover 1 = .ok (.invokestatic 79, 3) := dk_184 0 79 (dk_at dksX6_cover_0 1 rfl rfl)
theorem dX6_cover_4 : decode cX6_cover 4 = .ok (.ifCond .eq 44, 3) := dk_153 0 44 (dk_at dksX6_cover_0 4 rfl rfl)
theorem dX6_cover_7 : decode cX6_cover 7 = .ok (.iload_n 2, 1) := dk_28 (dk_at dksX6_cover_0 7 rfl rfl)
theorem dX6_cover_8 : decode cX6_cover 8 = .ok (.i2l, 1) := dk_133 (dk_at dksX6_cover_0 8 rfl rfl)
theorem dX6_cover_9 : decode cX6_cover 9 = .ok (.lconst 0, 1) := dk_9 (dk_at dksX6_cover_0 9 rfl rfl)
theorem dX6_cover_10 : decode cX6_cover 10 = .ok (.ldc2_w 74, 3) := dk_20 0 74 (dk_at dksX6_cover_0 10 rfl rfl)
theorem dX6_cover_13 : decode cX6_cover 13 = .ok (.invokestatic 70, 3) := dk_184 0 70 (dk_at dksX6_cover_0 13 rfl rfl)
theorem dX6_cover_16 : decode cX6_cover 16 = .ok (.ifCond .eq 32, 3) := dk_153 0 32 (dk_at dksX6_cover_0 16 rfl rfl)
theorem dX6_cover_19 : decode cX6_cover 19 = .ok (.iload_n 3, 1) := dk_29 (dk_at dksX6_cover_0 19 rfl rfl)
theorem dX6_cover_20 : decode cX6_cover 20 = .ok (.invokestatic 83, 3) := dk_184 0 83 (dk_at dksX6_cover_0 20 rfl rfl)
theorem dX6_cover_23 : decode cX6_cover 23 = .ok (.ifCond .eq 25, 3) := dk_153 0 25 (dk_at dksX6_cover_1 0 rfl rfl)
theorem dX6_cover_26 : decode cX6_cover 26 = .ok (.iload_n 2, 1) := dk_28 (dk_at dksX6_cover_1 3 rfl rfl)
theorem dX6_cover_27 : decode cX6_cover 27 = .ok (.iconst 3, 1) := dk_6 (dk_at dksX6_cover_1 4 rfl rfl)
theorem dX6_cover_28 : decode cX6_cover 28 = .ok (.if_icmp .ne 7, 3) := dk_160 0 7 (dk_at dksX6_cover_1 5 rfl rfl)
theorem dX6_cover_31 : decode cX6_cover 31 = .ok (.iload_n 3, 1) := dk_29 (dk_at dksX6_cover_1 8 rfl rfl)
theorem dX6_cover_32 : decode cX6_cover 32 = .ok (.ifCond .gt 16, 3) := dk_157 0 16 (dk_at dksX6_cover_1 9 rfl rfl)
theorem dX6_cover_35 : decode cX6_cover 35 = .ok (.iload 4, 2) := dk_21 4 (dk_at dksX6_cover_1 12 rfl rfl)
theorem dX6_cover_37 : decode cX6_cover 37 = .ok (.i2l, 1) := dk_133 (dk_at dksX6_cover_1 14 rfl rfl)
theorem dX6_cover_38 : decode cX6_cover 38 = .ok (.lconst 0, 1) := dk_9 (dk_at dksX6_cover_1 15 rfl rfl)
theorem dX6_cover_39 : decode cX6_cover 39 = .ok (.ldc2_w 198, 3) := dk_20 0 198 (dk_at dksX6_cover_1 16 rfl rfl)
theorem dX6_cover_42 : decode cX6_cover 42 = .ok (.invokestatic 70, 3) := dk_184 0 70 (dk_at dksX6_cover_1 19 rfl rfl)
theorem dX6_cover_45 : decode cX6_cover 45 = .ok (.ifCond .ne 5, 3) := dk_154 0 5 (dk_at dksX6_cover_2 0 rfl rfl)
theorem dX6_cover_48 : decode cX6_cover 48 = .ok (.iconst (-1), 1) := dk_2 (dk_at dksX6_cover_2 3 rfl rfl)
theorem dX6_cover_49 : decode cX6_cover 49 = .ok (.ireturn, 1) := dk_172 (dk_at dksX6_cover_2 4 rfl rfl)
theorem dX6_cover_50 : decode cX6_cover 50 = .ok (.aload_n 0, 1) := dk_42 (dk_at dksX6_cover_2 5 rfl rfl)
theorem dX6_cover_51 : decode cX6_cover 51 = .ok (.getfield 163, 3) := dk_180 0 163 (dk_at dksX6_cover_2 6 rfl rfl)
theorem dX6_cover_54 : decode cX6_cover 54 = .ok (.bipush 8, 2) := dk_16 8 (dk_at dksX6_cover_2 9 rfl rfl)
theorem dX6_cover_56 : decode cX6_cover 56 = .ok (.if_icmp .ne 6, 3) := dk_160 0 6 (dk_at dksX6_cover_2 11 rfl rfl)
theorem dX6_cover_59 : decode cX6_cover 59 = .ok (.bipush (-3), 2) := dk_16 253 (dk_at dksX6_cover_2 14 rfl rfl)
theorem dX6_cover_61 : decode cX6_cover 61 = .ok (.ireturn, 1) := dk_172 (dk_at dksX6_cover_2 16 rfl rfl)
theorem dX6_cover_62 : decode cX6_cover 62 = .ok (.aload_n 0, 1) := dk_42 (dk_at dksX6_cover_2 17 rfl rfl)
theorem dX6_cover_63 : decode cX6_cover 63 = .ok (.getfield 37, 3) := dk_180 0 37 (dk_at dksX6_cover_2 18 rfl rfl)
theorem dX6_cover_66 : decode cX6_cover 66 = .ok (.iconst 4, 1) := dk_7 (dk_at dksX6_cover_2 21 rfl rfl)
theorem dX6_cover_67 : decode cX6_cover 67 = .ok (.aload_n 0, 1) := dk_42 (dk_at dksX6_cover_2 22 rfl rfl)
theorem dX6_cover_68 : decode cX6_cover 68 = .ok (.getfield 163, 3) := dk_180 0 163 (dk_at dksX6_cover_3 0 rfl rfl)
theorem dX6_cover_71 : decode cX6_cover 71 = .ok (.imul, 1) := dk_104 (dk_at dksX6_cover_3 3 rfl rfl)
theorem dX6_cover_72 : decode cX6_cover 72 = .ok (.iload_n 1, 1) := dk_27 (dk_at dksX6_cover_3 4 rfl rfl)
theorem dX6_cover_73 : decode cX6_cover 73 = .ok (.iastore, 1) := dk_79 (dk_at dksX6_cover_3 5 rfl rfl)
theorem dX6_cover_74 : decode cX6_cover 74 = .ok (.aload_n 0, 1) := dk_42 (dk_at dksX6_cover_3 6 rfl rfl)
theorem dX6_cover_75 : decode cX6_cover 75 = .ok (.getfield 37, 3) := dk_180 0 37 (dk_at dksX6_cover_3 7 rfl rfl)
theorem dX6_cover_78 : decode cX6_cover 78 = .ok (.iconst 4, 1) := dk_7 (dk_at dksX6_cover_3 10 rfl rfl)
theorem dX6_cover_79 : decode cX6_cover 79 = .ok (.aload_n 0, 1) := dk_42 (dk_at dksX6_cover_3 11 rfl rfl)
theorem dX6_cover_80 : decode cX6_cover 80 = .ok (.getfield 163, 3) := dk_180 0 163 (dk_at dksX6_cover_3 12 rfl rfl)
theorem dX6_cover_83 : decode cX6_cover 83 = .ok (.imul, 1) := dk_104 (dk_at dksX6_cover_3 15 rfl rfl)
theorem dX6_cover_84 : decode cX6_cover 84 = .ok (.iconst 1, 1) := dk_4 (dk_at dksX6_cover_3 16 rfl rfl)
theorem dX6_cover_85 : decode cX6_cover 85 = .ok (.iadd, 1) := dk_96 (dk_at dksX6_cover_3 17 rfl rfl)
theorem dX6_cover_86 : decode cX6_cover 86 = .ok (.iload_n 2, 1) := dk_28 (dk_at dksX6_cover_3 18 rfl rfl)
theorem dX6_cover_87 : decode cX6_cover 87 = .ok (.iastore, 1) := dk_79 (dk_at dksX6_cover_3 19 rfl rfl)
theorem dX6_cover_88 : decode cX6_cover 88 = .ok (.aload_n 0, 1) := dk_42 (dk_at dksX6_cover_3 20 rfl rfl)
theorem dX6_cover_89 : decode cX6_cover 89 = .ok (.getfield 37, 3) := dk_180 0 37 (dk_at dksX6_cover_3 21 rfl rfl)
theorem dX6_cover_92 : decode cX6_cover 92 = .ok (.iconst 4, 1) := dk_7 (dk_at dksX6_cover_4 0 rfl rfl)
theorem dX6_cover_93 : decode cX6_cover 93 = .ok (.aload_n 0, 1) := dk_42 (dk_at dksX6_cover_4 1 rfl rfl)
theorem dX6_cover_94 : decode cX6_cover 94 = .ok (.getfield 163, 3) := dk_180 0 163 (dk_at dksX6_cover_4 2 rfl rfl)
theorem dX6_cover_97 : decode cX6_cover 97 = .ok (.imul, 1) := dk_104 (dk_at dksX6_cover_4 5 rfl rfl)
theorem dX6_cover_98 : decode cX6_cover 98 = .ok (.iconst 2, 1) := dk_5 (dk_at dksX6_cover_4 6 rfl rfl)
theorem dX6_cover_99 : decode cX6_cover 99 = .ok (.iadd, 1) := dk_96 (dk_at dksX6_cover_4 7 rfl rfl)
theorem dX6_cover_100 : decode cX6_cover 100 = .ok (.iload_n 3, 1) := dk_29 (dk_at dksX6_cover_4 8 rfl rfl)
theorem dX6_cover_101 : decode cX6_cover 101 = .ok (.iastore, 1) := dk_79 (dk_at dksX6_cover_4 9 rfl rfl)
theorem dX6_cover_102 : decode cX6_cover 102 = .ok (.aload_n 0, 1) := dk_42 (dk_at dksX6_cover_4 10 rfl rfl)
theorem dX6_cover_103 : decode cX6_cover 103 = .ok (.getfield 37, 3) := dk_180 0 37 (dk_at dksX6_cover_4 11 rfl rfl)
theorem dX6_cover_106 : decode cX6_cover 106 = .ok (.iconst 4, 1) := dk_7 (dk_at dksX6_cover_4 14 rfl rfl)
theorem dX6_cover_107 : decode cX6_cover 107 = .ok (.aload_n 0, 1) := dk_42 (dk_at dksX6_cover_4 15 rfl rfl)
theorem dX6_cover_108 : decode cX6_cover 108 = .ok (.getfield 163, 3) := dk_180 0 163 (dk_at dksX6_cover_4 16 rfl rfl)
theorem dX6_cover_111 : decode cX6_cover 111 = .ok (.imul, 1) := dk_104 (dk_at dksX6_cover_4 19 rfl rfl)
theorem dX6_cover_112 : decode cX6_cover 112 = .ok (.iconst 3, 1) := dk_6 (dk_at dksX6_cover_4 20 rfl rfl)
theorem dX6_cover_113 : decode cX6_cover 113 = .ok (.iadd, 1) := dk_96 (dk_at dksX6_cover_4 21 rfl rfl)
theorem dX6_cover_114 : decode cX6_cover 114 = .ok (.iload 4, 2) := dk_21 4 (dk_at dksX6_cover_4 22 rfl rfl)
theorem dX6_cover_116 : decode cX6_cover 116 = .ok (.iastore, 1) := dk_79 (dk_at dksX6_cover_5 0 rfl rfl)
theorem dX6_cover_117 : decode cX6_cover 117 = .ok (.aload_n 0, 1) := dk_42 (dk_at dksX6_cover_5 1 rfl rfl)
theorem dX6_cover_118 : decode cX6_cover 118 = .ok (.dup, 1) := dk_89 (dk_at dksX6_cover_5 2 rfl rfl)
theorem dX6_cover_119 : decode cX6_cover 119 = .ok (.getfield 163, 3) := dk_180 0 163 (dk_at dksX6_cover_5 3 rfl rfl)
theorem dX6_cover_122 : decode cX6_cover 122 = .ok (.iconst 1, 1) := dk_4 (dk_at dksX6_cover_5 6 rfl rfl)
theorem dX6_cover_123 : decode cX6_cover 123 = .ok (.iadd, 1) := dk_96 (dk_at dksX6_cover_5 7 rfl rfl)
theorem dX6_cover_124 : decode cX6_cover 124 = .ok (.putfield 163, 3) := dk_181 0 163 (dk_at dksX6_cover_5 8 rfl rfl)
theorem dX6_cover_127 : decode cX6_cover 127 = .ok (.aload_n 0, 1) := dk_42 (dk_at dksX6_cover_5 11 rfl rfl)
theorem dX6_cover_128 : decode cX6_cover 128 = .ok (.getfield 163, 3) := dk_180 0 163 (dk_at dksX6_cover_5 12 rfl rfl)
theorem dX6_cover_131 : decode cX6_cover 131 = .ok (.iconst 1, 1) := dk_4 (dk_at dksX6_cover_5 15 rfl rfl)
theorem dX6_cover_132 : decode cX6_cover 132 = .ok (.isub, 1) := dk_100 (dk_at dksX6_cover_5 16 rfl rfl)
theorem dX6_cover_133 : decode cX6_cover 133 = .ok (.ireturn, 1) := dk_172 (dk_at dksX6_cover_5 17 rfl rfl)
abbrev cX6_does : ByteArray := prog_11_method_43_code
def yX6_does : MethodName := ⟨RX6, "does", "(II)I"⟩
def dkwX6_does_3 : List UInt8 := [182, 0, 201, 42, 29, 182, 0, 201, 100, 172]
abbrev dktX6_does_3 : List UInt8 := dkwX6_does_3 ++ []
def dkwX6_does_2 : List UInt8 := [42, 3, 182, 0, 201, 42, 21, 4, 182, 0, 201, 100, 167, 0, 19, 42, 29, 21, 4, 2, 130, 126]
abbrev dktX6_does_2 : List UInt8 := dkwX6_does_2 ++ dktX6_does_3
def dkwX6_does_1 : List UInt8 := [154, 0, 6, 18, 200, 172, 4, 42, 180, 0, 163, 120, 4, 100, 62, 4, 27, 120, 54, 4, 28, 154, 0, 18]
abbrev dktX6_does_1 : List UInt8 := dkwX6_does_1 ++ dktX6_does_2
def dkwX6_does_0 : List UInt8 := [27, 133, 9, 42, 180, 0, 163, 4, 100, 133, 184, 0, 70, 153, 0, 13, 28, 133, 9, 10, 184, 0, 70]
abbrev dktX6_does_0 : List UInt8 := dkwX6_does_0 ++ dktX6_does_1
theorem dksX6_does_0 : cX6_does.data.toList.drop 0 = dktX6_does_0 := by decide +kernel
theorem dksX6_does_1 : cX6_does.data.toList.drop 23 = dktX6_does_1 := dk_seg dksX6_does_0 23 rfl rfl
theorem dksX6_does_2 : cX6_does.data.toList.drop 47 = dktX6_does_2 := dk_seg dksX6_does_1 24 rfl rfl
theorem dksX6_does_3 : cX6_does.data.toList.drop 69 = dktX6_does_3 := dk_seg dksX6_does_2 22 rfl rfl
theorem dX6_does_0 : decode cX6_does 0 = .ok (.iload_n 1, 1) := dk_27 (dk_at dksX6_does_0 0 rfl rfl)
theorem dX6_does_1 : decode cX6_does 1 = .ok (.i2l, 1) := dk_133 (dk_at dksX6_does_0 1 rfl rfl)
theorem dX6_does_2 : decode cX6_does 2 = .ok (.lconst 0, 1) := dk_9 (dk_at dksX6_does_0 2 rfl rfl)
theorem dX6_does_3 : decode cX6_does 3 = .ok (.aload_n 0, 1) := dk_42 (dk_at dksX6_does_0 3 rfl rfl)
theorem dX6_does_4 : decode cX6_does 4 = .ok (.getfield 163, 3) := dk_180 0 163 (dk_at dksX6_does_0 4 rfl rfl)
theorem dX6_does_7 : decode cX6_does 7 = .ok (.iconst 1, 1) := dk_4 (dk_at dksX6_does_0 7 rfl rfl)
theorem dX6_does_8 : decode cX6_does 8 = .ok (.isub, 1) := dk_100 (dk_at dksX6_does_0 8 rfl rfl)
theorem dX6_does_9 : decode cX6_does 9 = .ok (.i2l, 1) := dk_133 (dk_at dksX6_does_0 9 rfl rfl)
theorem dX6_does_10 : decode cX6_does 10 = .ok (.invokestatic 70, 3) := dk_184 0 70 (dk_at dksX6_does_0 10 rfl rfl)
theorem dX6_does_13 : decode cX6_does 13 = .ok (.ifCond .eq 13, 3) := dk_153 0 13 (dk_at dksX6_does_0 13 rfl rfl)
theorem dX6_does_16 : decode cX6_does 16 = .ok (.iload_n 2, 1) := dk_28 (dk_at dksX6_does_0 16 rfl rfl)
theorem dX6_does_17 : decode cX6_does 17 = .ok (.i2l, 1) := dk_133 (dk_at dksX6_does_0 17 rfl rfl)
theorem dX6_does_18 : decode cX6_does 18 = .ok (.lconst 0, 1) := dk_9 (dk_at dksX6_does_0 18 rfl rfl)
theorem dX6_does_19 : decode cX6_does 19 = .ok (.lconst 1, 1) := dk_10 (dk_at dksX6_does_0 19 rfl rfl)
theorem dX6_does_20 : decode cX6_does 20 = .ok (.invokestatic 70, 3) := dk_184 0 70 (dk_at dksX6_does_0 20 rfl rfl)
theorem dX6_does_23 : decode cX6_does 23 = .ok (.ifCond .ne 6, 3) := dk_154 0 6 (dk_at dksX6_does_1 0 rfl rfl)
theorem dX6_does_26 : decode cX6_does 26 = .ok (.ldc 200, 2) := dk_18 200 (dk_at dksX6_does_1 3 rfl rfl)
theorem dX6_does_28 : decode cX6_does 28 = .ok (.ireturn, 1) := dk_172 (dk_at dksX6_does_1 5 rfl rfl)
theorem dX6_does_29 : decode cX6_does 29 = .ok (.iconst 1, 1) := dk_4 (dk_at dksX6_does_1 6 rfl rfl)
theorem dX6_does_30 : decode cX6_does 30 = .ok (.aload_n 0, 1) := dk_42 (dk_at dksX6_does_1 7 rfl rfl)
theorem dX6_does_31 : decode cX6_does 31 = .ok (.getfield 163, 3) := dk_180 0 163 (dk_at dksX6_does_1 8 rfl rfl)
theorem dX6_does_34 : decode cX6_does 34 = .ok (.ishl, 1) := dk_120 (dk_at dksX6_does_1 11 rfl rfl)
theorem dX6_does_35 : decode cX6_does 35 = .ok (.iconst 1, 1) := dk_4 (dk_at dksX6_does_1 12 rfl rfl)
theorem dX6_does_36 : decode cX6_does 36 = .ok (.isub, 1) := dk_100 (dk_at dksX6_does_1 13 rfl rfl)
theorem dX6_does_37 : decode cX6_does 37 = .ok (.istore_n 3, 1) := dk_62 (dk_at dksX6_does_1 14 rfl rfl)
theorem dX6_does_38 : decode cX6_does 38 = .ok (.iconst 1, 1) := dk_4 (dk_at dksX6_does_1 15 rfl rfl)
theorem dX6_does_39 : decode cX6_does 39 = .ok (.iload_n 1, 1) := dk_27 (dk_at dksX6_does_1 16 rfl rfl)
theorem dX6_does_40 : decode cX6_does 40 = .ok (.ishl, 1) := dk_120 (dk_at dksX6_does_1 17 rfl rfl)
theorem dX6_does_41 : decode cX6_does 41 = .ok (.istore 4, 2) := dk_54 4 (dk_at dksX6_does_1 18 rfl rfl)
theorem dX6_does_43 : decode cX6_does 43 = .ok (.iload_n 2, 1) := dk_28 (dk_at dksX6_does_1 20 rfl rfl)
theorem dX6_does_44 : decode cX6_does 44 = .ok (.ifCond .ne 18, 3) := dk_154 0 18 (dk_at dksX6_does_1 21 rfl rfl)
theorem dX6_does_47 : decode cX6_does 47 = .ok (.aload_n 0, 1) := dk_42 (dk_at dksX6_does_2 0 rfl rfl)
theorem dX6_does_48 : decode cX6_does 48 = .ok (.iconst 0, 1) := dk_3 (dk_at dksX6_does_2 1 rfl rfl)
theorem dX6_does_49 : decode cX6_does 49 = .ok (.invokevirtual 201, 3) := dk_182 0 201 (dk_at dksX6_does_2 2 rfl rfl)
theorem dX6_does_52 : decode cX6_does 52 = .ok (.aload_n 0, 1) := dk_42 (dk_at dksX6_does_2 5 rfl rfl)
theorem dX6_does_53 : decode cX6_does 53 = .ok (.iload 4, 2) := dk_21 4 (dk_at dksX6_does_2 6 rfl rfl)
theorem dX6_does_55 : decode cX6_does 55 = .ok (.invokevirtual 201, 3) := dk_182 0 201 (dk_at dksX6_does_2 8 rfl rfl)
theorem dX6_does_58 : decode cX6_does 58 = .ok (.isub, 1) := dk_100 (dk_at dksX6_does_2 11 rfl rfl)
theorem dX6_does_59 : decode cX6_does 59 = .ok (.goto 19, 3) := dk_167 0 19 (dk_at dksX6_does_2 12 rfl rfl)
theorem dX6_does_62 : decode cX6_does 62 = .ok (.aload_n 0, 1) := dk_42 (dk_at dksX6_does_2 15 rfl rfl)
theorem dX6_does_63 : decode cX6_does 63 = .ok (.iload_n 3, 1) := dk_29 (dk_at dksX6_does_2 16 rfl rfl)
theorem dX6_does_64 : decode cX6_does 64 = .ok (.iload 4, 2) := dk_21 4 (dk_at dksX6_does_2 17 rfl rfl)
theorem dX6_does_66 : decode cX6_does 66 = .ok (.iconst (-1), 1) := dk_2 (dk_at dksX6_does_2 19 rfl rfl)
theorem dX6_does_67 : decode cX6_does 67 = .ok (.ixor, 1) := dk_130 (dk_at dksX6_does_2 20 rfl rfl)
theorem dX6_does_68 : decode cX6_does 68 = .ok (.iand, 1) := dk_126 (dk_at dksX6_does_2 21 rfl rfl)
theorem dX6_does_69 : decode cX6_does 69 = .ok (.invokevirtual 201, 3) := dk_182 0 201 (dk_at dksX6_does_3 0 rfl rfl)
theorem dX6_does_72 : decode cX6_does 72 = .ok (.aload_n 0, 1) := dk_42 (dk_at dksX6_does_3 3 rfl rfl)
theorem dX6_does_73 : decode cX6_does 73 = .ok (.iload_n 3, 1) := dk_29 (dk_at dksX6_does_3 4 rfl rfl)
theorem dX6_does_74 : decode cX6_does 74 = .ok (.invokevirtual 201, 3) := dk_182 0 201 (dk_at dksX6_does_3 5 rfl rfl)
theorem dX6_does_77 : decode cX6_does 77 = .ok (.isub, 1) := dk_100 (dk_at dksX6_does_3 8 rfl rfl)
theorem dX6_does_78 : decode cX6_does 78 = .ok (.ireturn, 1) := dk_172 (dk_at dksX6_does_3 9 rfl rfl)
abbrev cX6_seesWith : ByteArray := prog_11_method_42_code
def yX6_seesWith : MethodName := ⟨RX6, "seesWith", "(I)I"⟩
def dkwX6_seesWith_12 : List UInt8 := [42, 180, 0, 22, 29, 42, 180, 0, 40, 16, 48, 29, 96, 46, 79, 132, 3, 1, 167, 255, 190, 28, 172]
abbrev dktX6_seesWith_12 : List UInt8 := dkwX6_seesWith_12 ++ []
def dkwX6_seesWith_11 : List UInt8 := [180, 0, 40, 16, 16, 29, 96, 46, 79, 42, 180, 0, 19, 29, 42, 180, 0, 40, 16, 32, 29, 96, 46, 79]
abbrev dktX6_seesWith_11 : List UInt8 := dkwX6_seesWith_11 ++ dktX6_seesWith_12
def dkwX6_seesWith_10 : List UInt8 := [29, 16, 16, 162, 0, 66, 42, 180, 0, 7, 29, 42, 180, 0, 40, 29, 46, 79, 42, 180, 0, 16, 29, 42]
abbrev dktX6_seesWith_10 : List UInt8 := dkwX6_seesWith_10 ++ dktX6_seesWith_11
def dkwX6_seesWith_9 : List UInt8 := [167, 0, 9, 42, 180, 0, 22, 29, 46, 79, 132, 2, 1, 167, 255, 102, 42, 4, 182, 0, 195, 61, 3, 62]
abbrev dktX6_seesWith_9 : List UInt8 := dkwX6_seesWith_9 ++ dktX6_seesWith_10
def dkwX6_seesWith_8 : List UInt8 := [21, 5, 167, 0, 9, 42, 180, 0, 19, 29, 46, 79, 42, 180, 0, 22, 29, 21, 4, 6, 160, 0, 7, 4]
abbrev dktX6_seesWith_8 : List UInt8 := dkwX6_seesWith_8 ++ dktX6_seesWith_9
def dkwX6_seesWith_7 : List UInt8 := [21, 5, 167, 0, 9, 42, 180, 0, 16, 29, 46, 79, 42, 180, 0, 19, 29, 21, 4, 5, 160, 0, 8]
abbrev dktX6_seesWith_7 : List UInt8 := dkwX6_seesWith_7 ++ dktX6_seesWith_8
def dkwX6_seesWith_6 : List UInt8 := [16, 6, 96, 167, 0, 9, 42, 180, 0, 7, 29, 46, 79, 42, 180, 0, 16, 29, 21, 4, 4, 160, 0, 8]
abbrev dktX6_seesWith_6 : List UInt8 := dkwX6_seesWith_6 ++ dktX6_seesWith_7
def dkwX6_seesWith_5 : List UInt8 := [7, 28, 104, 5, 96, 46, 54, 5, 42, 180, 0, 7, 29, 21, 4, 154, 0, 14, 16, 10, 21, 5, 104]
abbrev dktX6_seesWith_5 : List UInt8 := dkwX6_seesWith_5 ++ dktX6_seesWith_6
def dkwX6_seesWith_4 : List UInt8 := [160, 0, 16, 42, 180, 0, 37, 7, 28, 104, 4, 96, 46, 167, 0, 5, 16, 252, 54, 4, 42, 180, 0, 37]
abbrev dktX6_seesWith_4 : List UInt8 := dkwX6_seesWith_4 ++ dktX6_seesWith_5
def dkwX6_seesWith_3 : List UInt8 := [61, 28, 42, 180, 0, 163, 162, 0, 152, 42, 180, 0, 37, 7, 28, 104, 46, 62, 27, 28, 122, 4, 126, 4]
abbrev dktX6_seesWith_3 : List UInt8 := dkwX6_seesWith_3 ++ dktX6_seesWith_4
def dkwX6_seesWith_2 : List UInt8 := [46, 79, 42, 180, 0, 40, 16, 48, 28, 96, 42, 180, 0, 22, 28, 46, 79, 132, 2, 1, 167, 255, 190, 3]
abbrev dktX6_seesWith_2 : List UInt8 := dkwX6_seesWith_2 ++ dktX6_seesWith_3
def dkwX6_seesWith_1 : List UInt8 := [16, 16, 28, 96, 42, 180, 0, 16, 28, 46, 79, 42, 180, 0, 40, 16, 32, 28, 96, 42, 180, 0, 19, 28]
abbrev dktX6_seesWith_1 : List UInt8 := dkwX6_seesWith_1 ++ dktX6_seesWith_2
def dkwX6_seesWith_0 : List UInt8 := [3, 61, 28, 16, 16, 162, 0, 66, 42, 180, 0, 40, 28, 42, 180, 0, 7, 28, 46, 79, 42, 180, 0, 40]
abbrev dktX6_seesWith_0 : List UInt8 := dkwX6_seesWith_0 ++ dktX6_seesWith_1
theorem dksX6_seesWith_0 : cX6_seesWith.data.toList.drop 0 = dktX6_seesWith_0 := by decide +kernel
theorem dksX6_seesWith_1 : cX6_seesWith.data.toList.drop 24 = dktX6_seesWith_1 := dk_seg dksX6_seesWith_0 24 rfl rfl
theorem dksX6_seesWith_2 : cX6_seesWith.data.toList.drop 48 = dktX6_seesWith_2 := dk_seg dksX6_seesWith_1 24 rfl rfl
theorem dksX6_seesWith_3 : cX6_seesWith.data.toList.drop 72 = dktX6_seesWith_3 := dk_seg dksX6_seesWith_2 24 rfl rfl
theorem dksX6_seesWith_4 : cX6_seesWith.data.toList.drop 96 = dktX6_seesWith_4 := dk_seg dksX6_seesWith_3 24 rfl rfl
theorem dksX6_seesWith_5 : cX6_seesWith.data.toList.drop 120 = dktX6_seesWith_5 := dk_seg dksX6_seesWith_4 24 rfl rfl
theorem dksX6_seesWith_6 : cX6_seesWith.data.toList.drop 143 = dktX6_seesWith_6 := dk_seg dksX6_seesWith_5 23 rfl rfl
theorem dksX6_seesWith_7 : cX6_seesWith.data.toList.drop 167 = dktX6_seesWith_7 := dk_seg dksX6_seesWith_6 24 rfl rfl
theorem dksX6_seesWith_8 : cX6_seesWith.data.toList.drop 190 = dktX6_seesWith_8 := dk_seg dksX6_seesWith_7 23 rfl rfl
theorem dksX6_seesWith_9 : cX6_seesWith.data.toList.drop 214 = dktX6_seesWith_9 := dk_seg dksX6_seesWith_8 24 rfl rfl
theorem dksX6_seesWith_10 : cX6_seesWith.data.toList.drop 238 = dktX6_seesWith_10 := dk_seg dksX6_seesWith_9 24 rfl rfl
theorem dksX6_seesWith_11 : cX6_seesWith.data.toList.drop 262 = dktX6_seesWith_11 := dk_seg dksX6_seesWith_10 24 rfl rfl
theorem dksX6_seesWith_12 : cX6_seesWith.data.toList.drop 286 = dktX6_seesWith_12 := dk_seg dksX6_seesWith_11 24 rfl rfl
theorem dX6_seesWith_0 : decode cX6_seesWith 0 = .ok (.iconst 0, 1) := dk_3 (dk_at dksX6_seesWith_0 0 rfl rfl)
theorem dX6_seesWith_1 : decode cX6_seesWith 1 = .ok (.istore_n 2, 1) := dk_61 (dk_at dksX6_seesWith_0 1 rfl rfl)
theorem dX6_seesWith_2 : decode cX6_seesWith 2 = .ok (.iload_n 2, 1) := dk_28 (dk_at dksX6_seesWith_0 2 rfl rfl)
theorem dX6_seesWith_3 : decode cX6_seesWith 3 = .ok (.bipush 16, 2) := dk_16 16 (dk_at dksX6_seesWith_0 3 rfl rfl)
theorem dX6_seesWith_5 : decode cX6_seesWith 5 = .ok (.if_icmp .ge 66, 3) := dk_162 0 66 (dk_at dksX6_seesWith_0 5 rfl rfl)
theorem dX6_seesWith_8 : decode cX6_seesWith 8 = .ok (.aload_n 0, 1) := dk_42 (dk_at dksX6_seesWith_0 8 rfl rfl)
theorem dX6_seesWith_9 : decode cX6_seesWith 9 = .ok (.getfield 40, 3) := dk_180 0 40 (dk_at dksX6_seesWith_0 9 rfl rfl)
theorem dX6_seesWith_12 : decode cX6_seesWith 12 = .ok (.iload_n 2, 1) := dk_28 (dk_at dksX6_seesWith_0 12 rfl rfl)
theorem dX6_seesWith_13 : decode cX6_seesWith 13 = .ok (.aload_n 0, 1) := dk_42 (dk_at dksX6_seesWith_0 13 rfl rfl)
theorem dX6_seesWith_14 : decode cX6_seesWith 14 = .ok (.getfield 7, 3) := dk_180 0 7 (dk_at dksX6_seesWith_0 14 rfl rfl)
theorem dX6_seesWith_17 : decode cX6_seesWith 17 = .ok (.iload_n 2, 1) := dk_28 (dk_at dksX6_seesWith_0 17 rfl rfl)
theorem dX6_seesWith_18 : decode cX6_seesWith 18 = .ok (.iaload, 1) := dk_46 (dk_at dksX6_seesWith_0 18 rfl rfl)
theorem dX6_seesWith_19 : decode cX6_seesWith 19 = .ok (.iastore, 1) := dk_79 (dk_at dksX6_seesWith_0 19 rfl rfl)
theorem dX6_seesWith_20 : decode cX6_seesWith 20 = .ok (.aload_n 0, 1) := dk_42 (dk_at dksX6_seesWith_0 20 rfl rfl)
theorem dX6_seesWith_21 : decode cX6_seesWith 21 = .ok (.getfield 40, 3) := dk_180 0 40 (dk_at dksX6_seesWith_0 21 rfl rfl)
theorem dX6_seesWith_24 : decode cX6_seesWith 24 = .ok (.bipush 16, 2) := dk_16 16 (dk_at dksX6_seesWith_1 0 rfl rfl)
theorem dX6_seesWith_26 : decode cX6_seesWith 26 = .ok (.iload_n 2, 1) := dk_28 (dk_at dksX6_seesWith_1 2 rfl rfl)
theorem dX6_seesWith_27 : decode cX6_seesWith 27 = .ok (.iadd, 1) := dk_96 (dk_at dksX6_seesWith_1 3 rfl rfl)
theorem dX6_seesWith_28 : decode cX6_seesWith 28 = .ok (.aload_n 0, 1) := dk_42 (dk_at dksX6_seesWith_1 4 rfl rfl)
theorem dX6_seesWith_29 : decode cX6_seesWith 29 = .ok (.getfield 16, 3) := dk_180 0 16 (dk_at dksX6_seesWith_1 5 rfl rfl)
theorem dX6_seesWith_32 : decode cX6_seesWith 32 = .ok (.iload_n 2, 1) := dk_28 (dk_at dksX6_seesWith_1 8 rfl rfl)
theorem dX6_seesWith_33 : decode cX6_seesWith 33 = .ok (.iaload, 1) := dk_46 (dk_at dksX6_seesWith_1 9 rfl rfl)
theorem dX6_seesWith_34 : decode cX6_seesWith 34 = .ok (.iastore, 1) := dk_79 (dk_at dksX6_seesWith_1 10 rfl rfl)
theorem dX6_seesWith_35 : decode cX6_seesWith 35 = .ok (.aload_n 0, 1) := dk_42 (dk_at dksX6_seesWith_1 11 rfl rfl)
theorem dX6_seesWith_36 : decode cX6_seesWith 36 = .ok (.getfield 40, 3) := dk_180 0 40 (dk_at dksX6_seesWith_1 12 rfl rfl)
theorem dX6_seesWith_39 : decode cX6_seesWith 39 = .ok (.bipush 32, 2) := dk_16 32 (dk_at dksX6_seesWith_1 15 rfl rfl)
theorem dX6_seesWith_41 : decode cX6_seesWith 41 = .ok (.iload_n 2, 1) := dk_28 (dk_at dksX6_seesWith_1 17 rfl rfl)
theorem dX6_seesWith_42 : decode cX6_seesWith 42 = .ok (.iadd, 1) := dk_96 (dk_at dksX6_seesWith_1 18 rfl rfl)
theorem dX6_seesWith_43 : decode cX6_seesWith 43 = .ok (.aload_n 0, 1) := dk_42 (dk_at dksX6_seesWith_1 19 rfl rfl)
theorem dX6_seesWith_44 : decode cX6_seesWith 44 = .ok (.getfield 19, 3) := dk_180 0 19 (dk_at dksX6_seesWith_1 20 rfl rfl)
theorem dX6_seesWith_47 : decode cX6_seesWith 47 = .ok (.iload_n 2, 1) := dk_28 (dk_at dksX6_seesWith_1 23 rfl rfl)
theorem dX6_seesWith_48 : decode cX6_seesWith 48 = .ok (.iaload, 1) := dk_46 (dk_at dksX6_seesWith_2 0 rfl rfl)
theorem dX6_seesWith_49 : decode cX6_seesWith 49 = .ok (.iastore, 1) := dk_79 (dk_at dksX6_seesWith_2 1 rfl rfl)
theorem dX6_seesWith_50 : decode cX6_seesWith 50 = .ok (.aload_n 0, 1) := dk_42 (dk_at dksX6_seesWith_2 2 rfl rfl)
theorem dX6_seesWith_51 : decode cX6_seesWith 51 = .ok (.getfield 40, 3) := dk_180 0 40 (dk_at dksX6_seesWith_2 3 rfl rfl)
theorem dX6_seesWith_54 : decode cX6_seesWith 54 = .ok (.bipush 48, 2) := dk_16 48 (dk_at dksX6_seesWith_2 6 rfl rfl)
theorem dX6_seesWith_56 : decode cX6_seesWith 56 = .ok (.iload_n 2, 1) := dk_28 (dk_at dksX6_seesWith_2 8 rfl rfl)
theorem dX6_seesWith_57 : decode cX6_seesWith 57 = .ok (.iadd, 1) := dk_96 (dk_at dksX6_seesWith_2 9 rfl rfl)
theorem dX6_seesWith_58 : decode cX6_seesWith 58 = .ok (.aload_n 0, 1) := dk_42 (dk_at dksX6_seesWith_2 10 rfl rfl)
theorem dX6_seesWith_59 : decode cX6_seesWith 59 = .ok (.getfield 22, 3) := dk_180 0 22 (dk_at dksX6_seesWith_2 11 rfl rfl)
theorem dX6_seesWith_62 : decode cX6_seesWith 62 = .ok (.iload_n 2, 1) := dk_28 (dk_at dksX6_seesWith_2 14 rfl rfl)
theorem dX6_seesWith_63 : decode cX6_seesWith 63 = .ok (.iaload, 1) := dk_46 (dk_at dksX6_seesWith_2 15 rfl rfl)
theorem dX6_seesWith_64 : decode cX6_seesWith 64 = .ok (.iastore, 1) := dk_79 (dk_at dksX6_seesWith_2 16 rfl rfl)
theorem dX6_seesWith_65 : decode cX6_seesWith 65 = .ok (.iinc 2 1, 3) := dk_132 2 1 (dk_at dksX6_seesWith_2 17 rfl rfl)
theorem dX6_seesWith_68 : decode cX6_seesWith 68 = .ok (.goto (-66), 3) := dk_167 255 190 (dk_at dksX6_seesWith_2 20 rfl rfl)
theorem dX6_seesWith_71 : decode cX6_seesWith 71 = .ok (.iconst 0, 1) := dk_3 (dk_at dksX6_seesWith_2 23 rfl rfl)
theorem dX6_seesWith_72 : decode cX6_seesWith 72 = .ok (.istore_n 2, 1) := dk_61 (dk_at dksX6_seesWith_3 0 rfl rfl)
theorem dX6_seesWith_73 : decode cX6_seesWith 73 = .ok (.iload_n 2, 1) := dk_28 (dk_at dksX6_seesWith_3 1 rfl rfl)
theorem dX6_seesWith_74 : decode cX6_seesWith 74 = .ok (.aload_n 0, 1) := dk_42 (dk_at dksX6_seesWith_3 2 rfl rfl)
theorem dX6_seesWith_75 : decode cX6_seesWith 75 = .ok (.getfield 163, 3) := dk_180 0 163 (dk_at dksX6_seesWith_3 3 rfl rfl)
theorem dX6_seesWith_78 : decode cX6_seesWith 78 = .ok (.if_icmp .ge 152, 3) := dk_162 0 152 (dk_at dksX6_seesWith_3 6 rfl rfl)
theorem dX6_seesWith_81 : decode cX6_seesWith 81 = .ok (.aload_n 0, 1) := dk_42 (dk_at dksX6_seesWith_3 9 rfl rfl)
theorem dX6_seesWith_82 : decode cX6_seesWith 82 = .ok (.getfield 37, 3) := dk_180 0 37 (dk_at dksX6_seesWith_3 10 rfl rfl)
theorem dX6_seesWith_85 : decode cX6_seesWith 85 = .ok (.iconst 4, 1) := dk_7 (dk_at dksX6_seesWith_3 13 rfl rfl)
theorem dX6_seesWith_86 : decode cX6_seesWith 86 = .ok (.iload_n 2, 1) := dk_28 (dk_at dksX6_seesWith_3 14 rfl rfl)
theorem dX6_seesWith_87 : decode cX6_seesWith 87 = .ok (.imul, 1) := dk_104 (dk_at dksX6_seesWith_3 15 rfl rfl)
theorem dX6_seesWith_88 : decode cX6_seesWith 88 = .ok (.iaload, 1) := dk_46 (dk_at dksX6_seesWith_3 16 rfl rfl)
theorem dX6_seesWith_89 : decode cX6_seesWith 89 = .ok (.istore_n 3, 1) := dk_62 (dk_at dksX6_seesWith_3 17 rfl rfl)
theorem dX6_seesWith_90 : decode cX6_seesWith 90 = .ok (.iload_n 1, 1) := dk_27 (dk_at dksX6_seesWith_3 18 rfl rfl)
theorem dX6_seesWith_91 : decode cX6_seesWith 91 = .ok (.iload_n 2, 1) := dk_28 (dk_at dksX6_seesWith_3 19 rfl rfl)
theorem dX6_seesWith_92 : decode cX6_seesWith 92 = .ok (.ishr, 1) := dk_122 (dk_at dksX6_seesWith_3 20 rfl rfl)
theorem dX6_seesWith_93 : decode cX6_seesWith 93 = .ok (.iconst 1, 1) := dk_4 (dk_at dksX6_seesWith_3 21 rfl rfl)
theorem dX6_seesWith_94 : decode cX6_seesWith 94 = .ok (.iand, 1) := dk_126 (dk_at dksX6_seesWith_3 22 rfl rfl)
theorem dX6_seesWith_95 : decode cX6_seesWith 95 = .ok (.iconst 1, 1) := dk_4 (dk_at dksX6_seesWith_3 23 rfl rfl)
theorem dX6_seesWith_96 : decode cX6_seesWith 96 = .ok (.if_icmp .ne 16, 3) := dk_160 0 16 (dk_at dksX6_seesWith_4 0 rfl rfl)
theorem dX6_seesWith_99 : decode cX6_seesWith 99 = .ok (.aload_n 0, 1) := dk_42 (dk_at dksX6_seesWith_4 3 rfl rfl)
theorem dX6_seesWith_100 : decode cX6_seesWith 100 = .ok (.getfield 37, 3) := dk_180 0 37 (dk_at dksX6_seesWith_4 4 rfl rfl)
theorem dX6_seesWith_103 : decode cX6_seesWith 103 = .ok (.iconst 4, 1) := dk_7 (dk_at dksX6_seesWith_4 7 rfl rfl)
theorem dX6_seesWith_104 : decode cX6_seesWith 104 = .ok (.iload_n 2, 1) := dk_28 (dk_at dksX6_seesWith_4 8 rfl rfl)
theorem dX6_seesWith_105 : decode cX6_seesWith 105 = .ok (.imul, 1) := dk_104 (dk_at dksX6_seesWith_4 9 rfl rfl)
theorem dX6_seesWith_106 : decode cX6_seesWith 106 = .ok (.iconst 1, 1) := dk_4 (dk_at dksX6_seesWith_4 10 rfl rfl)
theorem dX6_seesWith_107 : decode cX6_seesWith 107 = .ok (.iadd, 1) := dk_96 (dk_at dksX6_seesWith_4 11 rfl rfl)
theorem dX6_seesWith_108 : decode cX6_seesWith 108 = .ok (.iaload, 1) := dk_46 (dk_at dksX6_seesWith_4 12 rfl rfl)
theorem dX6_seesWith_109 : decode cX6_seesWith 109 = .ok (.goto 5, 3) := dk_167 0 5 (dk_at dksX6_seesWith_4 13 rfl rfl)
theorem dX6_seesWith_112 : decode cX6_seesWith 112 = .ok (.bipush (-4), 2) := dk_16 252 (dk_at dksX6_seesWith_4 16 rfl rfl)
theorem dX6_seesWith_114 : decode cX6_seesWith 114 = .ok (.istore 4, 2) := dk_54 4 (dk_at dksX6_seesWith_4 18 rfl rfl)
theorem dX6_seesWith_116 : decode cX6_seesWith 116 = .ok (.aload_n 0, 1) := dk_42 (dk_at dksX6_seesWith_4 20 rfl rfl)
theorem dX6_seesWith_117 : decode cX6_seesWith 117 = .ok (.getfield 37, 3) := dk_180 0 37 (dk_at dksX6_seesWith_4 21 rfl rfl)
theorem dX6_seesWith_120 : decode cX6_seesWith 120 = .ok (.iconst 4, 1) := dk_7 (dk_at dksX6_seesWith_5 0 rfl rfl)
theorem dX6_seesWith_121 : decode cX6_seesWith 121 = .ok (.iload_n 2, 1) := dk_28 (dk_at dksX6_seesWith_5 1 rfl rfl)
theorem dX6_seesWith_122 : decode cX6_seesWith 122 = .ok (.imul, 1) := dk_104 (dk_at dksX6_seesWith_5 2 rfl rfl)
theorem dX6_seesWith_123 : decode cX6_seesWith 123 = .ok (.iconst 2, 1) := dk_5 (dk_at dksX6_seesWith_5 3 rfl rfl)
theorem dX6_seesWith_124 : decode cX6_seesWith 124 = .ok (.iadd, 1) := dk_96 (dk_at dksX6_seesWith_5 4 rfl rfl)
theorem dX6_seesWith_125 : decode cX6_seesWith 125 = .ok (.iaload, 1) := dk_46 (dk_at dksX6_seesWith_5 5 rfl rfl)
theorem dX6_seesWith_126 : decode cX6_seesWith 126 = .ok (.istore 5, 2) := dk_54 5 (dk_at dksX6_seesWith_5 6 rfl rfl)
theorem dX6_seesWith_128 : decode cX6_seesWith 128 = .ok (.aload_n 0, 1) := dk_42 (dk_at dksX6_seesWith_5 8 rfl rfl)
theorem dX6_seesWith_129 : decode cX6_seesWith 129 = .ok (.getfield 7, 3) := dk_180 0 7 (dk_at dksX6_seesWith_5 9 rfl rfl)
theorem dX6_seesWith_132 : decode cX6_seesWith 132 = .ok (.iload_n 3, 1) := dk_29 (dk_at dksX6_seesWith_5 12 rfl rfl)
theorem dX6_seesWith_133 : decode cX6_seesWith 133 = .ok (.iload 4, 2) := dk_21 4 (dk_at dksX6_seesWith_5 13 rfl rfl)
theorem dX6_seesWith_135 : decode cX6_seesWith 135 = .ok (.ifCond .ne 14, 3) := dk_154 0 14 (dk_at dksX6_seesWith_5 15 rfl rfl)
theorem dX6_seesWith_138 : decode cX6_seesWith 138 = .ok (.bipush 10, 2) := dk_16 10 (dk_at dksX6_seesWith_5 18 rfl rfl)
theorem dX6_seesWith_140 : decode cX6_seesWith 140 = .ok (.iload 5, 2) := dk_21 5 (dk_at dksX6_seesWith_5 20 rfl rfl)
theorem dX6_seesWith_142 : decode cX6_seesWith 142 = .ok (.imul, 1) := dk_104 (dk_at dksX6_seesWith_5 22 rfl rfl)
theorem dX6_seesWith_143 : decode cX6_seesWith 143 = .ok (.bipush 6, 2) := dk_16 6 (dk_at dksX6_seesWith_6 0 rfl rfl)
theorem dX6_seesWith_145 : decode cX6_seesWith 145 = .ok (.iadd, 1) := dk_96 (dk_at dksX6_seesWith_6 2 rfl rfl)
theorem dX6_seesWith_146 : decode cX6_seesWith 146 = .ok (.goto 9, 3) := dk_167 0 9 (dk_at dksX6_seesWith_6 3 rfl rfl)
theorem dX6_seesWith_149 : decode cX6_seesWith 149 = .ok (.aload_n 0, 1) := dk_42 (dk_at dksX6_seesWith_6 6 rfl rfl)
theorem dX6_seesWith_150 : decode cX6_seesWith 150 = .ok (.getfield 7, 3) := dk_180 0 7 (dk_at dksX6_seesWith_6 7 rfl rfl)
theorem dX6_seesWith_153 : decode cX6_seesWith 153 = .ok (.iload_n 3, 1) := dk_29 (dk_at dksX6_seesWith_6 10 rfl rfl)
theorem dX6_seesWith_154 : decode cX6_seesWith 154 = .ok (.iaload, 1) := dk_46 (dk_at dksX6_seesWith_6 11 rfl rfl)
theorem dX6_seesWith_155 : decode cX6_seesWith 155 = .ok (.iastore, 1) := dk_79 (dk_at dksX6_seesWith_6 12 rfl rfl)
theorem dX6_seesWith_156 : decode cX6_seesWith 156 = .ok (.aload_n 0, 1) := dk_42 (dk_at dksX6_seesWith_6 13 rfl rfl)
theorem dX6_seesWith_157 : decode cX6_seesWith 157 = .ok (.getfield 16, 3) := dk_180 0 16 (dk_at dksX6_seesWith_6 14 rfl rfl)
theorem dX6_seesWith_160 : decode cX6_seesWith 160 = .ok (.iload_n 3, 1) := dk_29 (dk_at dksX6_seesWith_6 17 rfl rfl)
theorem dX6_seesWith_161 : decode cX6_seesWith 161 = .ok (.iload 4, 2) := dk_21 4 (dk_at dksX6_seesWith_6 18 rfl rfl)
theorem dX6_seesWith_163 : decode cX6_seesWith 163 = .ok (.iconst 1, 1) := dk_4 (dk_at dksX6_seesWith_6 20 rfl rfl)
theorem dX6_seesWith_164 : decode cX6_seesWith 164 = .ok (.if_icmp .ne 8, 3) := dk_160 0 8 (dk_at dksX6_seesWith_6 21 rfl rfl)
theorem dX6_seesWith_167 : decode cX6_seesWith 167 = .ok (.iload 5, 2) := dk_21 5 (dk_at dksX6_seesWith_7 0 rfl rfl)
theorem dX6_seesWith_169 : decode cX6_seesWith 169 = .ok (.goto 9, 3) := dk_167 0 9 (dk_at dksX6_seesWith_7 2 rfl rfl)
theorem dX6_seesWith_172 : decode cX6_seesWith 172 = .ok (.aload_n 0, 1) := dk_42 (dk_at dksX6_seesWith_7 5 rfl rfl)
theorem dX6_seesWith_173 : decode cX6_seesWith 173 = .ok (.getfield 16, 3) := dk_180 0 16 (dk_at dksX6_seesWith_7 6 rfl rfl)
theorem dX6_seesWith_176 : decode cX6_seesWith 176 = .ok (.iload_n 3, 1) := dk_29 (dk_at dksX6_seesWith_7 9 rfl rfl)
theorem dX6_seesWith_177 : decode cX6_seesWith 177 = .ok (.iaload, 1) := dk_46 (dk_at dksX6_seesWith_7 10 rfl rfl)
theorem dX6_seesWith_178 : decode cX6_seesWith 178 = .ok (.iastore, 1) := dk_79 (dk_at dksX6_seesWith_7 11 rfl rfl)
theorem dX6_seesWith_179 : decode cX6_seesWith 179 = .ok (.aload_n 0, 1) := dk_42 (dk_at dksX6_seesWith_7 12 rfl rfl)
theorem dX6_seesWith_180 : decode cX6_seesWith 180 = .ok (.getfield 19, 3) := dk_180 0 19 (dk_at dksX6_seesWith_7 13 rfl rfl)
theorem dX6_seesWith_183 : decode cX6_seesWith 183 = .ok (.iload_n 3, 1) := dk_29 (dk_at dksX6_seesWith_7 16 rfl rfl)
theorem dX6_seesWith_184 : decode cX6_seesWith 184 = .ok (.iload 4, 2) := dk_21 4 (dk_at dksX6_seesWith_7 17 rfl rfl)
theorem dX6_seesWith_186 : decode cX6_seesWith 186 = .ok (.iconst 2, 1) := dk_5 (dk_at dksX6_seesWith_7 19 rfl rfl)
theorem dX6_seesWith_187 : decode cX6_seesWith 187 = .ok (.if_icmp .ne 8, 3) := dk_160 0 8 (dk_at dksX6_seesWith_7 20 rfl rfl)
theorem dX6_seesWith_190 : decode cX6_seesWith 190 = .ok (.iload 5, 2) := dk_21 5 (dk_at dksX6_seesWith_8 0 rfl rfl)
theorem dX6_seesWith_192 : decode cX6_seesWith 192 = .ok (.goto 9, 3) := dk_167 0 9 (dk_at dksX6_seesWith_8 2 rfl rfl)
theorem dX6_seesWith_195 : decode cX6_seesWith 195 = .ok (.aload_n 0, 1) := dk_42 (dk_at dksX6_seesWith_8 5 rfl rfl)
theorem dX6_seesWith_196 : decode cX6_seesWith 196 = .ok (.getfield 19, 3) := dk_180 0 19 (dk_at dksX6_seesWith_8 6 rfl rfl)
theorem dX6_seesWith_199 : decode cX6_seesWith 199 = .ok (.iload_n 3, 1) := dk_29 (dk_at dksX6_seesWith_8 9 rfl rfl)
theorem dX6_seesWith_200 : decode cX6_seesWith 200 = .ok (.iaload, 1) := dk_46 (dk_at dksX6_seesWith_8 10 rfl rfl)
theorem dX6_seesWith_201 : decode cX6_seesWith 201 = .ok (.iastore, 1) := dk_79 (dk_at dksX6_seesWith_8 11 rfl rfl)
theorem dX6_seesWith_202 : decode cX6_seesWith 202 = .ok (.aload_n 0, 1) := dk_42 (dk_at dksX6_seesWith_8 12 rfl rfl)
theorem dX6_seesWith_203 : decode cX6_seesWith 203 = .ok (.getfield 22, 3) := dk_180 0 22 (dk_at dksX6_seesWith_8 13 rfl rfl)
theorem dX6_seesWith_206 : decode cX6_seesWith 206 = .ok (.iload_n 3, 1) := dk_29 (dk_at dksX6_seesWith_8 16 rfl rfl)
theorem dX6_seesWith_207 : decode cX6_seesWith 207 = .ok (.iload 4, 2) := dk_21 4 (dk_at dksX6_seesWith_8 17 rfl rfl)
theorem dX6_seesWith_209 : decode cX6_seesWith 209 = .ok (.iconst 3, 1) := dk_6 (dk_at dksX6_seesWith_8 19 rfl rfl)
theorem dX6_seesWith_210 : decode cX6_seesWith 210 = .ok (.if_icmp .ne 7, 3) := dk_160 0 7 (dk_at dksX6_seesWith_8 20 rfl rfl)
theorem dX6_seesWith_213 : decode cX6_seesWith 213 = .ok (.iconst 1, 1) := dk_4 (dk_at dksX6_seesWith_8 23 rfl rfl)
theorem dX6_seesWith_214 : decode cX6_seesWith 214 = .ok (.goto 9, 3) := dk_167 0 9 (dk_at dksX6_seesWith_9 0 rfl rfl)
theorem dX6_seesWith_217 : decode cX6_seesWith 217 = .ok (.aload_n 0, 1) := dk_42 (dk_at dksX6_seesWith_9 3 rfl rfl)
theorem dX6_seesWith_218 : decode cX6_seesWith 218 = .ok (.getfield 22, 3) := dk_180 0 22 (dk_at dksX6_seesWith_9 4 rfl rfl)
theorem dX6_seesWith_221 : decode cX6_seesWith 221 = .ok (.iload_n 3, 1) := dk_29 (dk_at dksX6_seesWith_9 7 rfl rfl)
theorem dX6_seesWith_222 : decode cX6_seesWith 222 = .ok (.iaload, 1) := dk_46 (dk_at dksX6_seesWith_9 8 rfl rfl)
theorem dX6_seesWith_223 : decode cX6_seesWith 223 = .ok (.iastore, 1) := dk_79 (dk_at dksX6_seesWith_9 9 rfl rfl)
theorem dX6_seesWith_224 : decode cX6_seesWith 224 = .ok (.iinc 2 1, 3) := dk_132 2 1 (dk_at dksX6_seesWith_9 10 rfl rfl)
theorem dX6_seesWith_227 : decode cX6_seesWith 227 = .ok (.goto (-154), 3) := dk_167 255 102 (dk_at dksX6_seesWith_9 13 rfl rfl)
theorem dX6_seesWith_230 : decode cX6_seesWith 230 = .ok (.aload_n 0, 1) := dk_42 (dk_at dksX6_seesWith_9 16 rfl rfl)
theorem dX6_seesWith_231 : decode cX6_seesWith 231 = .ok (.iconst 1, 1) := dk_4 (dk_at dksX6_seesWith_9 17 rfl rfl)
theorem dX6_seesWith_232 : decode cX6_seesWith 232 = .ok (.invokevirtual 195, 3) := dk_182 0 195 (dk_at dksX6_seesWith_9 18 rfl rfl)
theorem dX6_seesWith_235 : decode cX6_seesWith 235 = .ok (.istore_n 2, 1) := dk_61 (dk_at dksX6_seesWith_9 21 rfl rfl)
theorem dX6_seesWith_236 : decode cX6_seesWith 236 = .ok (.iconst 0, 1) := dk_3 (dk_at dksX6_seesWith_9 22 rfl rfl)
theorem dX6_seesWith_237 : decode cX6_seesWith 237 = .ok (.istore_n 3, 1) := dk_62 (dk_at dksX6_seesWith_9 23 rfl rfl)
theorem dX6_seesWith_238 : decode cX6_seesWith 238 = .ok (.iload_n 3, 1) := dk_29 (dk_at dksX6_seesWith_10 0 rfl rfl)
theorem dX6_seesWith_239 : decode cX6_seesWith 239 = .ok (.bipush 16, 2) := dk_16 16 (dk_at dksX6_seesWith_10 1 rfl rfl)
theorem dX6_seesWith_241 : decode cX6_seesWith 241 = .ok (.if_icmp .ge 66, 3) := dk_162 0 66 (dk_at dksX6_seesWith_10 3 rfl rfl)
theorem dX6_seesWith_244 : decode cX6_seesWith 244 = .ok (.aload_n 0, 1) := dk_42 (dk_at dksX6_seesWith_10 6 rfl rfl)
theorem dX6_seesWith_245 : decode cX6_seesWith 245 = .ok (.getfield 7, 3) := dk_180 0 7 (dk_at dksX6_seesWith_10 7 rfl rfl)
theorem dX6_seesWith_248 : decode cX6_seesWith 248 = .ok (.iload_n 3, 1) := dk_29 (dk_at dksX6_seesWith_10 10 rfl rfl)
theorem dX6_seesWith_249 : decode cX6_seesWith 249 = .ok (.aload_n 0, 1) := dk_42 (dk_at dksX6_seesWith_10 11 rfl rfl)
theorem dX6_seesWith_250 : decode cX6_seesWith 250 = .ok (.getfield 40, 3) := dk_180 0 40 (dk_at dksX6_seesWith_10 12 rfl rfl)
theorem dX6_seesWith_253 : decode cX6_seesWith 253 = .ok (.iload_n 3, 1) := dk_29 (dk_at dksX6_seesWith_10 15 rfl rfl)
theorem dX6_seesWith_254 : decode cX6_seesWith 254 = .ok (.iaload, 1) := dk_46 (dk_at dksX6_seesWith_10 16 rfl rfl)
theorem dX6_seesWith_255 : decode cX6_seesWith 255 = .ok (.iastore, 1) := dk_79 (dk_at dksX6_seesWith_10 17 rfl rfl)
theorem dX6_seesWith_256 : decode cX6_seesWith 256 = .ok (.aload_n 0, 1) := dk_42 (dk_at dksX6_seesWith_10 18 rfl rfl)
theorem dX6_seesWith_257 : decode cX6_seesWith 257 = .ok (.getfield 16, 3) := dk_180 0 16 (dk_at dksX6_seesWith_10 19 rfl rfl)
theorem dX6_seesWith_260 : decode cX6_seesWith 260 = .ok (.iload_n 3, 1) := dk_29 (dk_at dksX6_seesWith_10 22 rfl rfl)
theorem dX6_seesWith_261 : decode cX6_seesWith 261 = .ok (.aload_n 0, 1) := dk_42 (dk_at dksX6_seesWith_10 23 rfl rfl)
theorem dX6_seesWith_262 : decode cX6_seesWith 262 = .ok (.getfield 40, 3) := dk_180 0 40 (dk_at dksX6_seesWith_11 0 rfl rfl)
theorem dX6_seesWith_265 : decode cX6_seesWith 265 = .ok (.bipush 16, 2) := dk_16 16 (dk_at dksX6_seesWith_11 3 rfl rfl)
theorem dX6_seesWith_267 : decode cX6_seesWith 267 = .ok (.iload_n 3, 1) := dk_29 (dk_at dksX6_seesWith_11 5 rfl rfl)
theorem dX6_seesWith_268 : decode cX6_seesWith 268 = .ok (.iadd, 1) := dk_96 (dk_at dksX6_seesWith_11 6 rfl rfl)
theorem dX6_seesWith_269 : decode cX6_seesWith 269 = .ok (.iaload, 1) := dk_46 (dk_at dksX6_seesWith_11 7 rfl rfl)
theorem dX6_seesWith_270 : decode cX6_seesWith 270 = .ok (.iastore, 1) := dk_79 (dk_at dksX6_seesWith_11 8 rfl rfl)
theorem dX6_seesWith_271 : decode cX6_seesWith 271 = .ok (.aload_n 0, 1) := dk_42 (dk_at dksX6_seesWith_11 9 rfl rfl)
theorem dX6_seesWith_272 : decode cX6_seesWith 272 = .ok (.getfield 19, 3) := dk_180 0 19 (dk_at dksX6_seesWith_11 10 rfl rfl)
theorem dX6_seesWith_275 : decode cX6_seesWith 275 = .ok (.iload_n 3, 1) := dk_29 (dk_at dksX6_seesWith_11 13 rfl rfl)
theorem dX6_seesWith_276 : decode cX6_seesWith 276 = .ok (.aload_n 0, 1) := dk_42 (dk_at dksX6_seesWith_11 14 rfl rfl)
theorem dX6_seesWith_277 : decode cX6_seesWith 277 = .ok (.getfield 40, 3) := dk_180 0 40 (dk_at dksX6_seesWith_11 15 rfl rfl)
theorem dX6_seesWith_280 : decode cX6_seesWith 280 = .ok (.bipush 32, 2) := dk_16 32 (dk_at dksX6_seesWith_11 18 rfl rfl)
theorem dX6_seesWith_282 : decode cX6_seesWith 282 = .ok (.iload_n 3, 1) := dk_29 (dk_at dksX6_seesWith_11 20 rfl rfl)
theorem dX6_seesWith_283 : decode cX6_seesWith 283 = .ok (.iadd, 1) := dk_96 (dk_at dksX6_seesWith_11 21 rfl rfl)
theorem dX6_seesWith_284 : decode cX6_seesWith 284 = .ok (.iaload, 1) := dk_46 (dk_at dksX6_seesWith_11 22 rfl rfl)
theorem dX6_seesWith_285 : decode cX6_seesWith 285 = .ok (.iastore, 1) := dk_79 (dk_at dksX6_seesWith_11 23 rfl rfl)
theorem dX6_seesWith_286 : decode cX6_seesWith 286 = .ok (.aload_n 0, 1) := dk_42 (dk_at dksX6_seesWith_12 0 rfl rfl)
theorem dX6_seesWith_287 : decode cX6_seesWith 287 = .ok (.getfield 22, 3) := dk_180 0 22 (dk_at dksX6_seesWith_12 1 rfl rfl)
theorem dX6_seesWith_290 : decode cX6_seesWith 290 = .ok (.iload_n 3, 1) := dk_29 (dk_at dksX6_seesWith_12 4 rfl rfl)
theorem dX6_seesWith_291 : decode cX6_seesWith 291 = .ok (.aload_n 0, 1) := dk_42 (dk_at dksX6_seesWith_12 5 rfl rfl)
theorem dX6_seesWith_292 : decode cX6_seesWith 292 = .ok (.getfield 40, 3) := dk_180 0 40 (dk_at dksX6_seesWith_12 6 rfl rfl)
theorem dX6_seesWith_295 : decode cX6_seesWith 295 = .ok (.bipush 48, 2) := dk_16 48 (dk_at dksX6_seesWith_12 9 rfl rfl)
theorem dX6_seesWith_297 : decode cX6_seesWith 297 = .ok (.iload_n 3, 1) := dk_29 (dk_at dksX6_seesWith_12 11 rfl rfl)
theorem dX6_seesWith_298 : decode cX6_seesWith 298 = .ok (.iadd, 1) := dk_96 (dk_at dksX6_seesWith_12 12 rfl rfl)
theorem dX6_seesWith_299 : decode cX6_seesWith 299 = .ok (.iaload, 1) := dk_46 (dk_at dksX6_seesWith_12 13 rfl rfl)
theorem dX6_seesWith_300 : decode cX6_seesWith 300 = .ok (.iastore, 1) := dk_79 (dk_at dksX6_seesWith_12 14 rfl rfl)
theorem dX6_seesWith_301 : decode cX6_seesWith 301 = .ok (.iinc 3 1, 3) := dk_132 3 1 (dk_at dksX6_seesWith_12 15 rfl rfl)
theorem dX6_seesWith_304 : decode cX6_seesWith 304 = .ok (.goto (-66), 3) := dk_167 255 190 (dk_at dksX6_seesWith_12 18 rfl rfl)
theorem dX6_seesWith_307 : decode cX6_seesWith 307 = .ok (.iload_n 2, 1) := dk_28 (dk_at dksX6_seesWith_12 21 rfl rfl)
theorem dX6_seesWith_308 : decode cX6_seesWith 308 = .ok (.ireturn, 1) := dk_172 (dk_at dksX6_seesWith_12 22 rfl rfl)
abbrev cX6_bought : ByteArray := prog_11_method_44_code
def yX6_bought : MethodName := ⟨RX6, "bought", "(II)I"⟩
def dkwX6_bought_7 : List UInt8 := [167, 255, 129, 28, 154, 0, 7, 29, 167, 0, 15, 28, 4, 160, 0, 8, 21, 4, 167, 0, 5, 21, 5, 172]
abbrev dktX6_bought_7 : List UInt8 := dkwX6_bought_7 ++ []
def dkwX6_bought_6 : List UInt8 := [160, 0, 21, 21, 7, 21, 5, 162, 0, 14, 21, 6, 62, 21, 8, 54, 4, 21, 7, 54, 5, 132, 6, 1]
abbrev dktX6_bought_6 : List UInt8 := dkwX6_bought_6 ++ dktX6_bought_7
def dkwX6_bought_5 : List UInt8 := [21, 7, 27, 163, 0, 40, 21, 6, 153, 0, 24, 21, 8, 21, 4, 161, 0, 17, 21, 8, 21, 4]
abbrev dktX6_bought_5 : List UInt8 := dkwX6_bought_5 ++ dktX6_bought_6
def dkwX6_bought_4 : List UInt8 := [132, 8, 1, 167, 255, 213, 21, 7, 27, 164, 0, 7, 3, 167, 0, 9, 42, 21, 6, 182, 0, 201, 54, 8]
abbrev dktX6_bought_4 : List UInt8 := dkwX6_bought_4 ++ dktX6_bought_5
def dkwX6_bought_3 : List UInt8 := [4, 160, 0, 17, 42, 180, 0, 37, 7, 21, 8, 104, 6, 96, 46, 167, 0, 4, 3, 96, 54, 7]
abbrev dktX6_bought_3 : List UInt8 := dkwX6_bought_3 ++ dktX6_bought_4
def dkwX6_bought_2 : List UInt8 := [3, 54, 7, 3, 54, 8, 21, 8, 42, 180, 0, 163, 162, 0, 40, 21, 7, 21, 6, 21, 8, 122, 4, 126]
abbrev dktX6_bought_2 : List UInt8 := dkwX6_bought_2 ++ dktX6_bought_3
def dkwX6_bought_1 : List UInt8 := [2, 172, 3, 62, 3, 54, 4, 3, 54, 5, 3, 54, 6, 21, 6, 4, 42, 180, 0, 163, 120, 162, 0, 122]
abbrev dktX6_bought_1 : List UInt8 := dkwX6_bought_1 ++ dktX6_bought_2
def dkwX6_bought_0 : List UInt8 := [27, 133, 9, 20, 0, 204, 184, 0, 70, 153, 0, 15, 28, 133, 9, 20, 0, 88, 184, 0, 70, 154, 0, 5]
abbrev dktX6_bought_0 : List UInt8 := dkwX6_bought_0 ++ dktX6_bought_1
theorem dksX6_bought_0 : cX6_bought.data.toList.drop 0 = dktX6_bought_0 := by decide +kernel
theorem dksX6_bought_1 : cX6_bought.data.toList.drop 24 = dktX6_bought_1 := dk_seg dksX6_bought_0 24 rfl rfl
theorem dksX6_bought_2 : cX6_bought.data.toList.drop 48 = dktX6_bought_2 := dk_seg dksX6_bought_1 24 rfl rfl
theorem dksX6_bought_3 : cX6_bought.data.toList.drop 72 = dktX6_bought_3 := dk_seg dksX6_bought_2 24 rfl rfl
theorem dksX6_bought_4 : cX6_bought.data.toList.drop 94 = dktX6_bought_4 := dk_seg dksX6_bought_3 22 rfl rfl
theorem dksX6_bought_5 : cX6_bought.data.toList.drop 118 = dktX6_bought_5 := dk_seg dksX6_bought_4 24 rfl rfl
theorem dksX6_bought_6 : cX6_bought.data.toList.drop 140 = dktX6_bought_6 := dk_seg dksX6_bought_5 22 rfl rfl
theorem dksX6_bought_7 : cX6_bought.data.toList.drop 164 = dktX6_bought_7 := dk_seg dksX6_bought_6 24 rfl rfl
theorem dX6_bought_0 : decode cX6_bought 0 = .ok (.iload_n 1, 1) := dk_27 (dk_at dksX6_bought_0 0 rfl rfl)
theorem dX6_bought_1 : decode cX6_bought 1 = .ok (.i2l, 1) := dk_133 (dk_at dksX6_bought_0 1 rfl rfl)
theorem dX6_bought_2 : decode cX6_bought 2 = .ok (.lconst 0, 1) := dk_9 (dk_at dksX6_bought_0 2 rfl rfl)
theorem dX6_bought_3 : decode cX6_bought 3 = .ok (.ldc2_w 204, 3) := dk_20 0 204 (dk_at dksX6_bought_0 3 rfl rfl)
theorem dX6_bought_6 : decode cX6_bought 6 = .ok (.invokestatic 70, 3) := dk_184 0 70 (dk_at dksX6_bought_0 6 rfl rfl)
theorem dX6_bought_9 : decode cX6_bought 9 = .ok (.ifCond .eq 15, 3) := dk_153 0 15 (dk_at dksX6_bought_0 9 rfl rfl)
theorem dX6_bought_12 : decode cX6_bought 12 = .ok (.iload_n 2, 1) := dk_28 (dk_at dksX6_bought_0 12 rfl rfl)
theorem dX6_bought_13 : decode cX6_bought 13 = .ok (.i2l, 1) := dk_133 (dk_at dksX6_bought_0 13 rfl rfl)
theorem dX6_bought_14 : decode cX6_bought 14 = .ok (.lconst 0, 1) := dk_9 (dk_at dksX6_bought_0 14 rfl rfl)
theorem dX6_bought_15 : decode cX6_bought 15 = .ok (.ldc2_w 88, 3) := dk_20 0 88 (dk_at dksX6_bought_0 15 rfl rfl)
theorem dX6_bought_18 : decode cX6_bought 18 = .ok (.invokestatic 70, 3) := dk_184 0 70 (dk_at dksX6_bought_0 18 rfl rfl)
theorem dX6_bought_21 : decode cX6_bought 21 = .ok (.ifCond .ne 5, 3) := dk_154 0 5 (dk_at dksX6_bought_0 21 rfl rfl)
theorem dX6_bought_24 : decode cX6_bought 24 = .ok (.iconst (-1), 1) := dk_2 (dk_at dksX6_bought_1 0 rfl rfl)
theorem dX6_bought_25 : decode cX6_bought 25 = .ok (.ireturn, 1) := dk_172 (dk_at dksX6_bought_1 1 rfl rfl)
theorem dX6_bought_26 : decode cX6_bought 26 = .ok (.iconst 0, 1) := dk_3 (dk_at dksX6_bought_1 2 rfl rfl)
theorem dX6_bought_27 : decode cX6_bought 27 = .ok (.istore_n 3, 1) := dk_62 (dk_at dksX6_bought_1 3 rfl rfl)
theorem dX6_bought_28 : decode cX6_bought 28 = .ok (.iconst 0, 1) := dk_3 (dk_at dksX6_bought_1 4 rfl rfl)
theorem dX6_bought_29 : decode cX6_bought 29 = .ok (.istore 4, 2) := dk_54 4 (dk_at dksX6_bought_1 5 rfl rfl)
theorem dX6_bought_31 : decode cX6_bought 31 = .ok (.iconst 0, 1) := dk_3 (dk_at dksX6_bought_1 7 rfl rfl)
theorem dX6_bought_32 : decode cX6_bought 32 = .ok (.istore 5, 2) := dk_54 5 (dk_at dksX6_bought_1 8 rfl rfl)
theorem dX6_bought_34 : decode cX6_bought 34 = .ok (.iconst 0, 1) := dk_3 (dk_at dksX6_bought_1 10 rfl rfl)
theorem dX6_bought_35 : decode cX6_bought 35 = .ok (.istore 6, 2) := dk_54 6 (dk_at dksX6_bought_1 11 rfl rfl)
theorem dX6_bought_37 : decode cX6_bought 37 = .ok (.iload 6, 2) := dk_21 6 (dk_at dksX6_bought_1 13 rfl rfl)
theorem dX6_bought_39 : decode cX6_bought 39 = .ok (.iconst 1, 1) := dk_4 (dk_at dksX6_bought_1 15 rfl rfl)
theorem dX6_bought_40 : decode cX6_bought 40 = .ok (.aload_n 0, 1) := dk_42 (dk_at dksX6_bought_1 16 rfl rfl)
theorem dX6_bought_41 : decode cX6_bought 41 = .ok (.getfield 163, 3) := dk_180 0 163 (dk_at dksX6_bought_1 17 rfl rfl)
theorem dX6_bought_44 : decode cX6_bought 44 = .ok (.ishl, 1) := dk_120 (dk_at dksX6_bought_1 20 rfl rfl)
theorem dX6_bought_45 : decode cX6_bought 45 = .ok (.if_icmp .ge 122, 3) := dk_162 0 122 (dk_at dksX6_bought_1 21 rfl rfl)
theorem dX6_bought_48 : decode cX6_bought 48 = .ok (.iconst 0, 1) := dk_3 (dk_at dksX6_bought_2 0 rfl rfl)
theorem dX6_bought_49 : decode cX6_bought 49 = .ok (.istore 7, 2) := dk_54 7 (dk_at dksX6_bought_2 1 rfl rfl)
theorem dX6_bought_51 : decode cX6_bought 51 = .ok (.iconst 0, 1) := dk_3 (dk_at dksX6_bought_2 3 rfl rfl)
theorem dX6_bought_52 : decode cX6_bought 52 = .ok (.istore 8, 2) := dk_54 8 (dk_at dksX6_bought_2 4 rfl rfl)
theorem dX6_bought_54 : decode cX6_bought 54 = .ok (.iload 8, 2) := dk_21 8 (dk_at dksX6_bought_2 6 rfl rfl)
theorem dX6_bought_56 : decode cX6_bought 56 = .ok (.aload_n 0, 1) := dk_42 (dk_at dksX6_bought_2 8 rfl rfl)
theorem dX6_bought_57 : decode cX6_bought 57 = .ok (.getfield 163, 3) := dk_180 0 163 (dk_at dksX6_bought_2 9 rfl rfl)
theorem dX6_bought_60 : decode cX6_bought 60 = .ok (.if_icmp .ge 40, 3) := dk_162 0 40 (dk_at dksX6_bought_2 12 rfl rfl)
theorem dX6_bought_63 : decode cX6_bought 63 = .ok (.iload 7, 2) := dk_21 7 (dk_at dksX6_bought_2 15 rfl rfl)
theorem dX6_bought_65 : decode cX6_bought 65 = .ok (.iload 6, 2) := dk_21 6 (dk_at dksX6_bought_2 17 rfl rfl)
theorem dX6_bought_67 : decode cX6_bought 67 = .ok (.iload 8, 2) := dk_21 8 (dk_at dksX6_bought_2 19 rfl rfl)
theorem dX6_bought_69 : decode cX6_bought 69 = .ok (.ishr, 1) := dk_122 (dk_at dksX6_bought_2 21 rfl rfl)
theorem dX6_bought_70 : decode cX6_bought 70 = .ok (.iconst 1, 1) := dk_4 (dk_at dksX6_bought_2 22 rfl rfl)
theorem dX6_bought_71 : decode cX6_bought 71 = .ok (.iand, 1) := dk_126 (dk_at dksX6_bought_2 23 rfl rfl)
theorem dX6_bought_72 : decode cX6_bought 72 = .ok (.iconst 1, 1) := dk_4 (dk_at dksX6_bought_3 0 rfl rfl)
theorem dX6_bought_73 : decode cX6_bought 73 = .ok (.if_icmp .ne 17, 3) := dk_160 0 17 (dk_at dksX6_bought_3 1 rfl rfl)
theorem dX6_bought_76 : decode cX6_bought 76 = .ok (.aload_n 0, 1) := dk_42 (dk_at dksX6_bought_3 4 rfl rfl)
theorem dX6_bought_77 : decode cX6_bought 77 = .ok (.getfield 37, 3) := dk_180 0 37 (dk_at dksX6_bought_3 5 rfl rfl)
theorem dX6_bought_80 : decode cX6_bought 80 = .ok (.iconst 4, 1) := dk_7 (dk_at dksX6_bought_3 8 rfl rfl)
theorem dX6_bought_81 : decode cX6_bought 81 = .ok (.iload 8, 2) := dk_21 8 (dk_at dksX6_bought_3 9 rfl rfl)
theorem dX6_bought_83 : decode cX6_bought 83 = .ok (.imul, 1) := dk_104 (dk_at dksX6_bought_3 11 rfl rfl)
theorem dX6_bought_84 : decode cX6_bought 84 = .ok (.iconst 3, 1) := dk_6 (dk_at dksX6_bought_3 12 rfl rfl)
theorem dX6_bought_85 : decode cX6_bought 85 = .ok (.iadd, 1) := dk_96 (dk_at dksX6_bought_3 13 rfl rfl)
theorem dX6_bought_86 : decode cX6_bought 86 = .ok (.iaload, 1) := dk_46 (dk_at dksX6_bought_3 14 rfl rfl)
theorem dX6_bought_87 : decode cX6_bought 87 = .ok (.goto 4, 3) := dk_167 0 4 (dk_at dksX6_bought_3 15 rfl rfl)
theorem dX6_bought_90 : decode cX6_bought 90 = .ok (.iconst 0, 1) := dk_3 (dk_at dksX6_bought_3 18 rfl rfl)
theorem dX6_bought_91 : decode cX6_bought 91 = .ok (.iadd, 1) := dk_96 (dk_at dksX6_bought_3 19 rfl rfl)
theorem dX6_bought_92 : decode cX6_bought 92 = .ok (.istore 7, 2) := dk_54 7 (dk_at dksX6_bought_3 20 rfl rfl)
theorem dX6_bought_94 : decode cX6_bought 94 = .ok (.iinc 8 1, 3) := dk_132 8 1 (dk_at dksX6_bought_4 0 rfl rfl)
theorem dX6_bought_97 : decode cX6_bought 97 = .ok (.goto (-43), 3) := dk_167 255 213 (dk_at dksX6_bought_4 3 rfl rfl)
theorem dX6_bought_100 : decode cX6_bought 100 = .ok (.iload 7, 2) := dk_21 7 (dk_at dksX6_bought_4 6 rfl rfl)
theorem dX6_bought_102 : decode cX6_bought 102 = .ok (.iload_n 1, 1) := dk_27 (dk_at dksX6_bought_4 8 rfl rfl)
theorem dX6_bought_103 : decode cX6_bought 103 = .ok (.if_icmp .le 7, 3) := dk_164 0 7 (dk_at dksX6_bought_4 9 rfl rfl)
theorem dX6_bought_106 : decode cX6_bought 106 = .ok (.iconst 0, 1) := dk_3 (dk_at dksX6_bought_4 12 rfl rfl)
theorem dX6_bought_107 : decode cX6_bought 107 = .ok (.goto 9, 3) := dk_167 0 9 (dk_at dksX6_bought_4 13 rfl rfl)
theorem dX6_bought_110 : decode cX6_bought 110 = .ok (.aload_n 0, 1) := dk_42 (dk_at dksX6_bought_4 16 rfl rfl)
theorem dX6_bought_111 : decode cX6_bought 111 = .ok (.iload 6, 2) := dk_21 6 (dk_at dksX6_bought_4 17 rfl rfl)
theorem dX6_bought_113 : decode cX6_bought 113 = .ok (.invokevirtual 201, 3) := dk_182 0 201 (dk_at dksX6_bought_4 19 rfl rfl)
theorem dX6_bought_116 : decode cX6_bought 116 = .ok (.istore 8, 2) := dk_54 8 (dk_at dksX6_bought_4 22 rfl rfl)
theorem dX6_bought_118 : decode cX6_bought 118 = .ok (.iload 7, 2) := dk_21 7 (dk_at dksX6_bought_5 0 rfl rfl)
theorem dX6_bought_120 : decode cX6_bought 120 = .ok (.iload_n 1, 1) := dk_27 (dk_at dksX6_bought_5 2 rfl rfl)
theorem dX6_bought_121 : decode cX6_bought 121 = .ok (.if_icmp .gt 40, 3) := dk_163 0 40 (dk_at dksX6_bought_5 3 rfl rfl)
theorem dX6_bought_124 : decode cX6_bought 124 = .ok (.iload 6, 2) := dk_21 6 (dk_at dksX6_bought_5 6 rfl rfl)
theorem dX6_bought_126 : decode cX6_bought 126 = .ok (.ifCond .eq 24, 3) := dk_153 0 24 (dk_at dksX6_bought_5 8 rfl rfl)
theorem dX6_bought_129 : decode cX6_bought 129 = .ok (.iload 8, 2) := dk_21 8 (dk_at dksX6_bought_5 11 rfl rfl)
theorem dX6_bought_131 : decode cX6_bought 131 = .ok (.iload 4, 2) := dk_21 4 (dk_at dksX6_bought_5 13 rfl rfl)
theorem dX6_bought_133 : decode cX6_bought 133 = .ok (.if_icmp .lt 17, 3) := dk_161 0 17 (dk_at dksX6_bought_5 15 rfl rfl)
theorem dX6_bought_136 : decode cX6_bought 136 = .ok (.iload 8, 2) := dk_21 8 (dk_at dksX6_bought_5 18 rfl rfl)
theorem dX6_bought_138 : decode cX6_bought 138 = .ok (.iload 4, 2) := dk_21 4 (dk_at dksX6_bought_5 20 rfl rfl)
theorem dX6_bought_140 : decode cX6_bought 140 = .ok (.if_icmp .ne 21, 3) := dk_160 0 21 (dk_at dksX6_bought_6 0 rfl rfl)
theorem dX6_bought_143 : decode cX6_bought 143 = .ok (.iload 7, 2) := dk_21 7 (dk_at dksX6_bought_6 3 rfl rfl)
theorem dX6_bought_145 : decode cX6_bought 145 = .ok (.iload 5, 2) := dk_21 5 (dk_at dksX6_bought_6 5 rfl rfl)
theorem dX6_bought_147 : decode cX6_bought 147 = .ok (.if_icmp .ge 14, 3) := dk_162 0 14 (dk_at dksX6_bought_6 7 rfl rfl)
theorem dX6_bought_150 : decode cX6_bought 150 = .ok (.iload 6, 2) := dk_21 6 (dk_at dksX6_bought_6 10 rfl rfl)
theorem dX6_bought_152 : decode cX6_bought 152 = .ok (.istore_n 3, 1) := dk_62 (dk_at dksX6_bought_6 12 rfl rfl)
theorem dX6_bought_153 : decode cX6_bought 153 = .ok (.iload 8, 2) := dk_21 8 (dk_at dksX6_bought_6 13 rfl rfl)
theorem dX6_bought_155 : decode cX6_bought 155 = .ok (.istore 4, 2) := dk_54 4 (dk_at dksX6_bought_6 15 rfl rfl)
theorem dX6_bought_157 : decode cX6_bought 157 = .ok (.iload 7, 2) := dk_21 7 (dk_at dksX6_bought_6 17 rfl rfl)
theorem dX6_bought_159 : decode cX6_bought 159 = .ok (.istore 5, 2) := dk_54 5 (dk_at dksX6_bought_6 19 rfl rfl)
theorem dX6_bought_161 : decode cX6_bought 161 = .ok (.iinc 6 1, 3) := dk_132 6 1 (dk_at dksX6_bought_6 21 rfl rfl)
theorem dX6_bought_164 : decode cX6_bought 164 = .ok (.goto (-127), 3) := dk_167 255 129 (dk_at dksX6_bought_7 0 rfl rfl)
theorem dX6_bought_167 : decode cX6_bought 167 = .ok (.iload_n 2, 1) := dk_28 (dk_at dksX6_bought_7 3 rfl rfl)
theorem dX6_bought_168 : decode cX6_bought 168 = .ok (.ifCond .ne 7, 3) := dk_154 0 7 (dk_at dksX6_bought_7 4 rfl rfl)
theorem dX6_bought_171 : decode cX6_bought 171 = .ok (.iload_n 3, 1) := dk_29 (dk_at dksX6_bought_7 7 rfl rfl)
theorem dX6_bought_172 : decode cX6_bought 172 = .ok (.goto 15, 3) := dk_167 0 15 (dk_at dksX6_bought_7 8 rfl rfl)
theorem dX6_bought_175 : decode cX6_bought 175 = .ok (.iload_n 2, 1) := dk_28 (dk_at dksX6_bought_7 11 rfl rfl)
theorem dX6_bought_176 : decode cX6_bought 176 = .ok (.iconst 1, 1) := dk_4 (dk_at dksX6_bought_7 12 rfl rfl)
theorem dX6_bought_177 : decode cX6_bought 177 = .ok (.if_icmp .ne 8, 3) := dk_160 0 8 (dk_at dksX6_bought_7 13 rfl rfl)
theorem dX6_bought_180 : decode cX6_bought 180 = .ok (.iload 4, 2) := dk_21 4 (dk_at dksX6_bought_7 16 rfl rfl)
theorem dX6_bought_182 : decode cX6_bought 182 = .ok (.goto 5, 3) := dk_167 0 5 (dk_at dksX6_bought_7 18 rfl rfl)
theorem dX6_bought_185 : decode cX6_bought 185 = .ok (.iload 5, 2) := dk_21 5 (dk_at dksX6_bought_7 21 rfl rfl)
theorem dX6_bought_187 : decode cX6_bought 187 = .ok (.ireturn, 1) := dk_172 (dk_at dksX6_bought_7 23 rfl rfl)
abbrev cX6_stances : ByteArray := prog_11_method_45_code
def yX6_stances : MethodName := ⟨RX6, "stances", "()I"⟩
def dkwX6_stances_4 : List UInt8 := [153, 0, 9, 4, 28, 120, 167, 0, 4, 3, 128, 60, 132, 2, 1, 167, 255, 151, 27, 172]
abbrev dktX6_stances_4 : List UInt8 := dkwX6_stances_4 ++ []
def dkwX6_stances_3 : List UInt8 := [154, 0, 7, 4, 167, 0, 4, 3, 62, 132, 5, 1, 167, 255, 197, 132, 4, 1, 167, 255, 181, 27, 29]
abbrev dktX6_stances_3 : List UInt8 := dkwX6_stances_3 ++ dktX6_stances_4
def dkwX6_stances_2 : List UInt8 := [42, 180, 0, 28, 6, 21, 5, 104, 46, 42, 180, 0, 13, 21, 4, 46, 16, 10, 108, 28, 182, 0, 173]
abbrev dktX6_stances_2 : List UInt8 := dkwX6_stances_2 ++ dktX6_stances_3
def dkwX6_stances_1 : List UInt8 := [21, 5, 42, 180, 0, 76, 162, 0, 56, 29, 153, 0, 44, 42, 180, 0, 13, 21, 4, 46, 153, 0, 30, 42]
abbrev dktX6_stances_1 : List UInt8 := dkwX6_stances_1 ++ dktX6_stances_2
def dkwX6_stances_0 : List UInt8 := [3, 60, 3, 61, 28, 7, 162, 0, 106, 4, 62, 3, 54, 4, 21, 4, 16, 16, 162, 0, 74, 3, 54, 5]
abbrev dktX6_stances_0 : List UInt8 := dkwX6_stances_0 ++ dktX6_stances_1
theorem dksX6_stances_0 : cX6_stances.data.toList.drop 0 = dktX6_stances_0 := by decide +kernel
theorem dksX6_stances_1 : cX6_stances.data.toList.drop 24 = dktX6_stances_1 := dk_seg dksX6_stances_0 24 rfl rfl
theorem dksX6_stances_2 : cX6_stances.data.toList.drop 48 = dktX6_stances_2 := dk_seg dksX6_stances_1 24 rfl rfl
theorem dksX6_stances_3 : cX6_stances.data.toList.drop 71 = dktX6_stances_3 := dk_seg dksX6_stances_2 23 rfl rfl
theorem dksX6_stances_4 : cX6_stances.data.toList.drop 94 = dktX6_stances_4 := dk_seg dksX6_stances_3 23 rfl rfl
theorem dX6_stances_0 : decode cX6_stances 0 = .ok (.iconst 0, 1) := dk_3 (dk_at dksX6_stances_0 0 rfl rfl)
theorem dX6_stances_1 : decode cX6_stances 1 = .ok (.istore_n 1, 1) := dk_60 (dk_at dksX6_stances_0 1 rfl rfl)
theorem dX6_stances_2 : decode cX6_stances 2 = .ok (.iconst 0, 1) := dk_3 (dk_at dksX6_stances_0 2 rfl rfl)
theorem dX6_stances_3 : decode cX6_stances 3 = .ok (.istore_n 2, 1) := dk_61 (dk_at dksX6_stances_0 3 rfl rfl)
theorem dX6_stances_4 : decode cX6_stances 4 = .ok (.iload_n 2, 1) := dk_28 (dk_at dksX6_stances_0 4 rfl rfl)
theorem dX6_stances_5 : decode cX6_stances 5 = .ok (.iconst 4, 1) := dk_7 (dk_at dksX6_stances_0 5 rfl rfl)
theorem dX6_stances_6 : decode cX6_stances 6 = .ok (.if_icmp .ge 106, 3) := dk_162 0 106 (dk_at dksX6_stances_0 6 rfl rfl)
theorem dX6_stances_9 : decode cX6_stances 9 = .ok (.iconst 1, 1) := dk_4 (dk_at dksX6_stances_0 9 rfl rfl)
theorem dX6_stances_10 : decode cX6_stances 10 = .ok (.istore_n 3, 1) := dk_62 (dk_at dksX6_stances_0 10 rfl rfl)
theorem dX6_stances_11 : decode cX6_stances 11 = .ok (.iconst 0, 1) := dk_3 (dk_at dksX6_stances_0 11 rfl rfl)
theorem dX6_stances_12 : decode cX6_stances 12 = .ok (.istore 4, 2) := dk_54 4 (dk_at dksX6_stances_0 12 rfl rfl)
theorem dX6_stances_14 : decode cX6_stances 14 = .ok (.iload 4, 2) := dk_21 4 (dk_at dksX6_stances_0 14 rfl rfl)
theorem dX6_stances_16 : decode cX6_stances 16 = .ok (.bipush 16, 2) := dk_16 16 (dk_at dksX6_stances_0 16 rfl rfl)
theorem dX6_stances_18 : decode cX6_stances 18 = .ok (.if_icmp .ge 74, 3) := dk_162 0 74 (dk_at dksX6_stances_0 18 rfl rfl)
theorem dX6_stances_21 : decode cX6_stances 21 = .ok (.iconst 0, 1) := dk_3 (dk_at dksX6_stances_0 21 rfl rfl)
theorem dX6_stances_22 : decode cX6_stances 22 = .ok (.istore 5, 2) := dk_54 5 (dk_at dksX6_stances_0 22 rfl rfl)
theorem dX6_stances_24 : decode cX6_stances 24 = .ok (.iload 5, 2) := dk_21 5 (dk_at dksX6_stances_1 0 rfl rfl)
theorem dX6_stances_26 : decode cX6_stances 26 = .ok (.aload_n 0, 1) := dk_42 (dk_at dksX6_stances_1 2 rfl rfl)
theorem dX6_stances_27 : decode cX6_stances 27 = .ok (.getfield 76, 3) := dk_180 0 76 (dk_at dksX6_stances_1 3 rfl rfl)
theorem dX6_stances_30 : decode cX6_stances 30 = .ok (.if_icmp .ge 56, 3) := dk_162 0 56 (dk_at dksX6_stances_1 6 rfl rfl)
theorem dX6_stances_33 : decode cX6_stances 33 = .ok (.iload_n 3, 1) := dk_29 (dk_at dksX6_stances_1 9 rfl rfl)
theorem dX6_stances_34 : decode cX6_stances 34 = .ok (.ifCond .eq 44, 3) := dk_153 0 44 (dk_at dksX6_stances_1 10 rfl rfl)
theorem dX6_stances_37 : decode cX6_stances 37 = .ok (.aload_n 0, 1) := dk_42 (dk_at dksX6_stances_1 13 rfl rfl)
theorem dX6_stances_38 : decode cX6_stances 38 = .ok (.getfield 13, 3) := dk_180 0 13 (dk_at dksX6_stances_1 14 rfl rfl)
theorem dX6_stances_41 : decode cX6_stances 41 = .ok (.iload 4, 2) := dk_21 4 (dk_at dksX6_stances_1 17 rfl rfl)
theorem dX6_stances_43 : decode cX6_stances 43 = .ok (.iaload, 1) := dk_46 (dk_at dksX6_stances_1 19 rfl rfl)
theorem dX6_stances_44 : decode cX6_stances 44 = .ok (.ifCond .eq 30, 3) := dk_153 0 30 (dk_at dksX6_stances_1 20 rfl rfl)
theorem dX6_stances_47 : decode cX6_stances 47 = .ok (.aload_n 0, 1) := dk_42 (dk_at dksX6_stances_1 23 rfl rfl)
theorem dX6_stances_48 : decode cX6_stances 48 = .ok (.aload_n 0, 1) := dk_42 (dk_at dksX6_stances_2 0 rfl rfl)
theorem dX6_stances_49 : decode cX6_stances 49 = .ok (.getfield 28, 3) := dk_180 0 28 (dk_at dksX6_stances_2 1 rfl rfl)
theorem dX6_stances_52 : decode cX6_stances 52 = .ok (.iconst 3, 1) := dk_6 (dk_at dksX6_stances_2 4 rfl rfl)
theorem dX6_stances_53 : decode cX6_stances 53 = .ok (.iload 5, 2) := dk_21 5 (dk_at dksX6_stances_2 5 rfl rfl)
theorem dX6_stances_55 : decode cX6_stances 55 = .ok (.imul, 1) := dk_104 (dk_at dksX6_stances_2 7 rfl rfl)
theorem dX6_stances_56 : decode cX6_stances 56 = .ok (.iaload, 1) := dk_46 (dk_at dksX6_stances_2 8 rfl rfl)
theorem dX6_stances_57 : decode cX6_stances 57 = .ok (.aload_n 0, 1) := dk_42 (dk_at dksX6_stances_2 9 rfl rfl)
theorem dX6_stances_58 : decode cX6_stances 58 = .ok (.getfield 13, 3) := dk_180 0 13 (dk_at dksX6_stances_2 10 rfl rfl)
theorem dX6_stances_61 : decode cX6_stances 61 = .ok (.iload 4, 2) := dk_21 4 (dk_at dksX6_stances_2 13 rfl rfl)
theorem dX6_stances_63 : decode cX6_stances 63 = .ok (.iaload, 1) := dk_46 (dk_at dksX6_stances_2 15 rfl rfl)
theorem dX6_stances_64 : decode cX6_stances 64 = .ok (.bipush 10, 2) := dk_16 10 (dk_at dksX6_stances_2 16 rfl rfl)
theorem dX6_stances_66 : decode cX6_stances 66 = .ok (.idiv, 1) := dk_108 (dk_at dksX6_stances_2 18 rfl rfl)
theorem dX6_stances_67 : decode cX6_stances 67 = .ok (.iload_n 2, 1) := dk_28 (dk_at dksX6_stances_2 19 rfl rfl)
theorem dX6_stances_68 : decode cX6_stances 68 = .ok (.invokevirtual 173, 3) := dk_182 0 173 (dk_at dksX6_stances_2 20 rfl rfl)
theorem dX6_stances_71 : decode cX6_stances 71 = .ok (.ifCond .ne 7, 3) := dk_154 0 7 (dk_at dksX6_stances_3 0 rfl rfl)
theorem dX6_stances_74 : decode cX6_stances 74 = .ok (.iconst 1, 1) := dk_4 (dk_at dksX6_stances_3 3 rfl rfl)
theorem dX6_stances_75 : decode cX6_stances 75 = .ok (.goto 4, 3) := dk_167 0 4 (dk_at dksX6_stances_3 4 rfl rfl)
theorem dX6_stances_78 : decode cX6_stances 78 = .ok (.iconst 0, 1) := dk_3 (dk_at dksX6_stances_3 7 rfl rfl)
theorem dX6_stances_79 : decode cX6_stances 79 = .ok (.istore_n 3, 1) := dk_62 (dk_at dksX6_stances_3 8 rfl rfl)
theorem dX6_stances_80 : decode cX6_stances 80 = .ok (.iinc 5 1, 3) := dk_132 5 1 (dk_at dksX6_stances_3 9 rfl rfl)
theorem dX6_stances_83 : decode cX6_stances 83 = .ok (.goto (-59), 3) := dk_167 255 197 (dk_at dksX6_stances_3 12 rfl rfl)
theorem dX6_stances_86 : decode cX6_stances 86 = .ok (.iinc 4 1, 3) := dk_132 4 1 (dk_at dksX6_stances_3 15 rfl rfl)
theorem dX6_stances_89 : decode cX6_stances 89 = .ok (.goto (-75), 3) := dk_167 255 181 (dk_at dksX6_stances_3 18 rfl rfl)
theorem dX6_stances_92 : decode cX6_stances 92 = .ok (.iload_n 1, 1) := dk_27 (dk_at dksX6_stances_3 21 rfl rfl)
theorem dX6_stances_93 : decode cX6_stances 93 = .ok (.iload_n 3, 1) := dk_29 (dk_at dksX6_stances_3 22 rfl rfl)
theorem dX6_stances_94 : decode cX6_stances 94 = .ok (.ifCond .eq 9, 3) := dk_153 0 9 (dk_at dksX6_stances_4 0 rfl rfl)
theorem dX6_stances_97 : decode cX6_stances 97 = .ok (.iconst 1, 1) := dk_4 (dk_at dksX6_stances_4 3 rfl rfl)
theorem dX6_stances_98 : decode cX6_stances 98 = .ok (.iload_n 2, 1) := dk_28 (dk_at dksX6_stances_4 4 rfl rfl)
theorem dX6_stances_99 : decode cX6_stances 99 = .ok (.ishl, 1) := dk_120 (dk_at dksX6_stances_4 5 rfl rfl)
theorem dX6_stances_100 : decode cX6_stances 100 = .ok (.goto 4, 3) := dk_167 0 4 (dk_at dksX6_stances_4 6 rfl rfl)
theorem dX6_stances_103 : decode cX6_stances 103 = .ok (.iconst 0, 1) := dk_3 (dk_at dksX6_stances_4 9 rfl rfl)
theorem dX6_stances_104 : decode cX6_stances 104 = .ok (.ior, 1) := dk_128 (dk_at dksX6_stances_4 10 rfl rfl)
theorem dX6_stances_105 : decode cX6_stances 105 = .ok (.istore_n 1, 1) := dk_60 (dk_at dksX6_stances_4 11 rfl rfl)
theorem dX6_stances_106 : decode cX6_stances 106 = .ok (.iinc 2 1, 3) := dk_132 2 1 (dk_at dksX6_stances_4 12 rfl rfl)
theorem dX6_stances_109 : decode cX6_stances 109 = .ok (.goto (-105), 3) := dk_167 255 151 (dk_at dksX6_stances_4 15 rfl rfl)
theorem dX6_stances_112 : decode cX6_stances 112 = .ok (.iload_n 1, 1) := dk_27 (dk_at dksX6_stances_4 18 rfl rfl)
theorem dX6_stances_113 : decode cX6_stances 113 = .ok (.ireturn, 1) := dk_172 (dk_at dksX6_stances_4 19 rfl rfl)
abbrev cX6_often : ByteArray := prog_11_method_46_code
def yX6_often : MethodName := ⟨RX6, "often", "(I)I"⟩
def dkwX6_often_1 : List UInt8 := [182, 0, 195, 27, 164, 0, 9, 132, 2, 255, 167, 255, 240, 28, 172]
abbrev dktX6_often_1 : List UInt8 := dkwX6_often_1 ++ []
def dkwX6_often_0 : List UInt8 := [27, 133, 9, 20, 0, 206, 184, 0, 70, 154, 0, 5, 2, 172, 16, 9, 61, 28, 158, 0, 18, 42, 28]
abbrev dktX6_often_0 : List UInt8 := dkwX6_often_0 ++ dktX6_often_1
theorem dksX6_often_0 : cX6_often.data.toList.drop 0 = dktX6_often_0 := by decide +kernel
theorem dksX6_often_1 : cX6_often.data.toList.drop 23 = dktX6_often_1 := dk_seg dksX6_often_0 23 rfl rfl
theorem dX6_often_0 : decode cX6_often 0 = .ok (.iload_n 1, 1) := dk_27 (dk_at dksX6_often_0 0 rfl rfl)
theorem dX6_often_1 : decode cX6_often 1 = .ok (.i2l, 1) := dk_133 (dk_at dksX6_often_0 1 rfl rfl)
theorem dX6_often_2 : decode cX6_often 2 = .ok (.lconst 0, 1) := dk_9 (dk_at dksX6_often_0 2 rfl rfl)
theorem dX6_often_3 : decode cX6_often 3 = .ok (.ldc2_w 206, 3) := dk_20 0 206 (dk_at dksX6_often_0 3 rfl rfl)
theorem dX6_often_6 : decode cX6_often 6 = .ok (.invokestatic 70, 3) := dk_184 0 70 (dk_at dksX6_often_0 6 rfl rfl)
theorem dX6_often_9 : decode cX6_often 9 = .ok (.ifCond .ne 5, 3) := dk_154 0 5 (dk_at dksX6_often_0 9 rfl rfl)
theorem dX6_often_12 : decode cX6_often 12 = .ok (.iconst (-1), 1) := dk_2 (dk_at dksX6_often_0 12 rfl rfl)
theorem dX6_often_13 : decode cX6_often 13 = .ok (.ireturn, 1) := dk_172 (dk_at dksX6_often_0 13 rfl rfl)
theorem dX6_often_14 : decode cX6_often 14 = .ok (.bipush 9, 2) := dk_16 9 (dk_at dksX6_often_0 14 rfl rfl)
theorem dX6_often_16 : decode cX6_often 16 = .ok (.istore_n 2, 1) := dk_61 (dk_at dksX6_often_0 16 rfl rfl)
theorem dX6_often_17 : decode cX6_often 17 = .ok (.iload_n 2, 1) := dk_28 (dk_at dksX6_often_0 17 rfl rfl)
theorem dX6_often_18 : decode cX6_often 18 = .ok (.ifCond .le 18, 3) := dk_158 0 18 (dk_at dksX6_often_0 18 rfl rfl)
theorem dX6_often_21 : decode cX6_often 21 = .ok (.aload_n 0, 1) := dk_42 (dk_at dksX6_often_0 21 rfl rfl)
theorem dX6_often_22 : decode cX6_often 22 = .ok (.iload_n 2, 1) := dk_28 (dk_at dksX6_often_0 22 rfl rfl)
theorem dX6_often_23 : decode cX6_often 23 = .ok (.invokevirtual 195, 3) := dk_182 0 195 (dk_at dksX6_often_1 0 rfl rfl)
theorem dX6_often_26 : decode cX6_often 26 = .ok (.iload_n 1, 1) := dk_27 (dk_at dksX6_often_1 3 rfl rfl)
theorem dX6_often_27 : decode cX6_often 27 = .ok (.if_icmp .le 9, 3) := dk_164 0 9 (dk_at dksX6_often_1 4 rfl rfl)
theorem dX6_often_30 : decode cX6_often 30 = .ok (.iinc 2 (-1), 3) := dk_132 2 255 (dk_at dksX6_often_1 7 rfl rfl)
theorem dX6_often_33 : decode cX6_often 33 = .ok (.goto (-16), 3) := dk_167 255 240 (dk_at dksX6_often_1 10 rfl rfl)
theorem dX6_often_36 : decode cX6_often 36 = .ok (.iload_n 2, 1) := dk_28 (dk_at dksX6_often_1 13 rfl rfl)
theorem dX6_often_37 : decode cX6_often 37 = .ok (.ireturn, 1) := dk_172 (dk_at dksX6_often_1 14 rfl rfl)
abbrev cX6_warning : ByteArray := prog_11_method_47_code
def yX6_warning : MethodName := ⟨RX6, "warning", "()I"⟩
def dkwX6_warning_4 : List UInt8 := [42, 180, 0, 28, 6, 21, 4, 104, 4, 96, 46, 79, 132, 4, 1, 167, 255, 208, 29, 27, 100, 172]
abbrev dktX6_warning_4 : List UInt8 := dkwX6_warning_4 ++ []
def dkwX6_warning_3 : List UInt8 := [42, 180, 0, 28, 6, 21, 4, 104, 4, 96, 28, 21, 4, 122, 4, 126, 4, 160, 0, 7, 3, 167, 0, 14]
abbrev dktX6_warning_3 : List UInt8 := dkwX6_warning_3 ++ dktX6_warning_4
def dkwX6_warning_2 : List UInt8 := [132, 3, 1, 167, 255, 215, 42, 4, 182, 0, 195, 62, 3, 54, 4, 21, 4, 42, 180, 0, 76, 162, 0, 45]
abbrev dktX6_warning_2 : List UInt8 := dkwX6_warning_2 ++ dktX6_warning_3
def dkwX6_warning_1 : List UInt8 := [104, 4, 96, 46, 154, 0, 20, 42, 180, 0, 28, 6, 29, 104, 4, 96, 4, 79, 28, 4, 29, 120, 128, 61]
abbrev dktX6_warning_1 : List UInt8 := dkwX6_warning_1 ++ dktX6_warning_2
def dkwX6_warning_0 : List UInt8 := [42, 4, 182, 0, 195, 60, 3, 61, 3, 62, 29, 42, 180, 0, 76, 162, 0, 39, 42, 180, 0, 28, 6, 29]
abbrev dktX6_warning_0 : List UInt8 := dkwX6_warning_0 ++ dktX6_warning_1
theorem dksX6_warning_0 : cX6_warning.data.toList.drop 0 = dktX6_warning_0 := by decide +kernel
theorem dksX6_warning_1 : cX6_warning.data.toList.drop 24 = dktX6_warning_1 := dk_seg dksX6_warning_0 24 rfl rfl
theorem dksX6_warning_2 : cX6_warning.data.toList.drop 48 = dktX6_warning_2 := dk_seg dksX6_warning_1 24 rfl rfl
theorem dksX6_warning_3 : cX6_warning.data.toList.drop 72 = dktX6_warning_3 := dk_seg dksX6_warning_2 24 rfl rfl
theorem dksX6_warning_4 : cX6_warning.data.toList.drop 96 = dktX6_warning_4 := dk_seg dksX6_warning_3 24 rfl rfl
theorem dX6_warning_0 : decode cX6_warning 0 = .ok (.aload_n 0, 1) := dk_42 (dk_at dksX6_warning_0 0 rfl rfl)
theorem dX6_warning_1 : decode cX6_warning 1 = .ok (.iconst 1, 1) := dk_4 (dk_at dksX6_warning_0 1 rfl rfl)
theorem dX6_warning_2 : decode cX6_warning 2 = .ok (.invokevirtual 195, 3) := dk_182 0 195 (dk_at dksX6_warning_0 2 rfl rfl)
theorem dX6_warning_5 : decode cX6_warning 5 = .ok (.istore_n 1, 1) := dk_60 (dk_at dksX6_warning_0 5 rfl rfl)
theorem dX6_warning_6 : decode cX6_warning 6 = .ok (.iconst 0, 1) := dk_3 (dk_at dksX6_warning_0 6 rfl rfl)
theorem dX6_warning_7 : decode cX6_warning 7 = .ok (.istore_n 2, 1) := dk_61 (dk_at dksX6_warning_0 7 rfl rfl)
theorem dX6_warning_8 : decode cX6_warning 8 = .ok (.iconst 0, 1) := dk_3 (dk_at dksX6_warning_0 8 rfl rfl)
theorem dX6_warning_9 : decode cX6_warning 9 = .ok (.istore_n 3, 1) := dk_62 (dk_at dksX6_warning_0 9 rfl rfl)
theorem dX6_warning_10 : decode cX6_warning 10 = .ok (.iload_n 3, 1) := dk_29 (dk_at dksX6_warning_0 10 rfl rfl)
theorem dX6_warning_11 : decode cX6_warning 11 = .ok (.aload_n 0, 1) := dk_42 (dk_at dksX6_warning_0 11 rfl rfl)
theorem dX6_warning_12 : decode cX6_warning 12 = .ok (.getfield 76, 3) := dk_180 0 76 (dk_at dksX6_warning_0 12 rfl rfl)
theorem dX6_warning_15 : decode cX6_warning 15 = .ok (.if_icmp .ge 39, 3) := dk_162 0 39 (dk_at dksX6_warning_0 15 rfl rfl)
theorem dX6_warning_18 : decode cX6_warning 18 = .ok (.aload_n 0, 1) := dk_42 (dk_at dksX6_warning_0 18 rfl rfl)
theorem dX6_warning_19 : decode cX6_warning 19 = .ok (.getfield 28, 3) := dk_180 0 28 (dk_at dksX6_warning_0 19 rfl rfl)
theorem dX6_warning_22 : decode cX6_warning 22 = .ok (.iconst 3, 1) := dk_6 (dk_at dksX6_warning_0 22 rfl rfl)
theorem dX6_warning_23 : decode cX6_warning 23 = .ok (.iload_n 3, 1) := dk_29 (dk_at dksX6_warning_0 23 rfl rfl)
theorem dX6_warning_24 : decode cX6_warning 24 = .ok (.imul, 1) := dk_104 (dk_at dksX6_warning_1 0 rfl rfl)
theorem dX6_warning_25 : decode cX6_warning 25 = .ok (.iconst 1, 1) := dk_4 (dk_at dksX6_warning_1 1 rfl rfl)
theorem dX6_warning_26 : decode cX6_warning 26 = .ok (.iadd, 1) := dk_96 (dk_at dksX6_warning_1 2 rfl rfl)
theorem dX6_warning_27 : decode cX6_warning 27 = .ok (.iaload, 1) := dk_46 (dk_at dksX6_warning_1 3 rfl rfl)
theorem dX6_warning_28 : decode cX6_warning 28 = .ok (.ifCond .ne 20, 3) := dk_154 0 20 (dk_at dksX6_warning_1 4 rfl rfl)
theorem dX6_warning_31 : decode cX6_warning 31 = .ok (.aload_n 0, 1) := dk_42 (dk_at dksX6_warning_1 7 rfl rfl)
theorem dX6_warning_32 : decode cX6_warning 32 = .ok (.getfield 28, 3) := dk_180 0 28 (dk_at dksX6_warning_1 8 rfl rfl)
theorem dX6_warning_35 : decode cX6_warning 35 = .ok (.iconst 3, 1) := dk_6 (dk_at dksX6_warning_1 11 rfl rfl)
theorem dX6_warning_36 : decode cX6_warning 36 = .ok (.iload_n 3, 1) := dk_29 (dk_at dksX6_warning_1 12 rfl rfl)
theorem dX6_warning_37 : decode cX6_warning 37 = .ok (.imul, 1) := dk_104 (dk_at dksX6_warning_1 13 rfl rfl)
theorem dX6_warning_38 : decode cX6_warning 38 = .ok (.iconst 1, 1) := dk_4 (dk_at dksX6_warning_1 14 rfl rfl)
theorem dX6_warning_39 : decode cX6_warning 39 = .ok (.iadd, 1) := dk_96 (dk_at dksX6_warning_1 15 rfl rfl)
theorem dX6_warning_40 : decode cX6_warning 40 = .ok (.iconst 1, 1) := dk_4 (dk_at dksX6_warning_1 16 rfl rfl)
theorem dX6_warning_41 : decode cX6_warning 41 = .ok (.iastore, 1) := dk_79 (dk_at dksX6_warning_1 17 rfl rfl)
theorem dX6_warning_42 : decode cX6_warning 42 = .ok (.iload_n 2, 1) := dk_28 (dk_at dksX6_warning_1 18 rfl rfl)
theorem dX6_warning_43 : decode cX6_warning 43 = .ok (.iconst 1, 1) := dk_4 (dk_at dksX6_warning_1 19 rfl rfl)
theorem dX6_warning_44 : decode cX6_warning 44 = .ok (.iload_n 3, 1) := dk_29 (dk_at dksX6_warning_1 20 rfl rfl)
theorem dX6_warning_45 : decode cX6_warning 45 = .ok (.ishl, 1) := dk_120 (dk_at dksX6_warning_1 21 rfl rfl)
theorem dX6_warning_46 : decode cX6_warning 46 = .ok (.ior, 1) := dk_128 (dk_at dksX6_warning_1 22 rfl rfl)
theorem dX6_warning_47 : decode cX6_warning 47 = .ok (.istore_n 2, 1) := dk_61 (dk_at dksX6_warning_1 23 rfl rfl)
theorem dX6_warning_48 : decode cX6_warning 48 = .ok (.iinc 3 1, 3) := dk_132 3 1 (dk_at dksX6_warning_2 0 rfl rfl)
theorem dX6_warning_51 : decode cX6_warning 51 = .ok (.goto (-41), 3) := dk_167 255 215 (dk_at dksX6_warning_2 3 rfl rfl)
theorem dX6_warning_54 : decode cX6_warning 54 = .ok (.aload_n 0, 1) := dk_42 (dk_at dksX6_warning_2 6 rfl rfl)
theorem dX6_warning_55 : decode cX6_warning 55 = .ok (.iconst 1, 1) := dk_4 (dk_at dksX6_warning_2 7 rfl rfl)
theorem dX6_warning_56 : decode cX6_warning 56 = .ok (.invokevirtual 195, 3) := dk_182 0 195 (dk_at dksX6_warning_2 8 rfl rfl)
theorem dX6_warning_59 : decode cX6_warning 59 = .ok (.istore_n 3, 1) := dk_62 (dk_at dksX6_warning_2 11 rfl rfl)
theorem dX6_warning_60 : decode cX6_warning 60 = .ok (.iconst 0, 1) := dk_3 (dk_at dksX6_warning_2 12 rfl rfl)
theorem dX6_warning_61 : decode cX6_warning 61 = .ok (.istore 4, 2) := dk_54 4 (dk_at dksX6_warning_2 13 rfl rfl)
theorem dX6_warning_63 : decode cX6_warning 63 = .ok (.iload 4, 2) := dk_21 4 (dk_at dksX6_warning_2 15 rfl rfl)
theorem dX6_warning_65 : decode cX6_warning 65 = .ok (.aload_n 0, 1) := dk_42 (dk_at dksX6_warning_2 17 rfl rfl)
theorem dX6_warning_66 : decode cX6_warning 66 = .ok (.getfield 76, 3) := dk_180 0 76 (dk_at dksX6_warning_2 18 rfl rfl)
theorem dX6_warning_69 : decode cX6_warning 69 = .ok (.if_icmp .ge 45, 3) := dk_162 0 45 (dk_at dksX6_warning_2 21 rfl rfl)
theorem dX6_warning_72 : decode cX6_warning 72 = .ok (.aload_n 0, 1) := dk_42 (dk_at dksX6_warning_3 0 rfl rfl)
theorem dX6_warning_73 : decode cX6_warning 73 = .ok (.getfield 28, 3) := dk_180 0 28 (dk_at dksX6_warning_3 1 rfl rfl)
theorem dX6_warning_76 : decode cX6_warning 76 = .ok (.iconst 3, 1) := dk_6 (dk_at dksX6_warning_3 4 rfl rfl)
theorem dX6_warning_77 : decode cX6_warning 77 = .ok (.iload 4, 2) := dk_21 4 (dk_at dksX6_warning_3 5 rfl rfl)
theorem dX6_warning_79 : decode cX6_warning 79 = .ok (.imul, 1) := dk_104 (dk_at dksX6_warning_3 7 rfl rfl)
theorem dX6_warning_80 : decode cX6_warning 80 = .ok (.iconst 1, 1) := dk_4 (dk_at dksX6_warning_3 8 rfl rfl)
theorem dX6_warning_81 : decode cX6_warning 81 = .ok (.iadd, 1) := dk_96 (dk_at dksX6_warning_3 9 rfl rfl)
theorem dX6_warning_82 : decode cX6_warning 82 = .ok (.iload_n 2, 1) := dk_28 (dk_at dksX6_warning_3 10 rfl rfl)
theorem dX6_warning_83 : decode cX6_warning 83 = .ok (.iload 4, 2) := dk_21 4 (dk_at dksX6_warning_3 11 rfl rfl)
theorem dX6_warning_85 : decode cX6_warning 85 = .ok (.ishr, 1) := dk_122 (dk_at dksX6_warning_3 13 rfl rfl)
theorem dX6_warning_86 : decode cX6_warning 86 = .ok (.iconst 1, 1) := dk_4 (dk_at dksX6_warning_3 14 rfl rfl)
theorem dX6_warning_87 : decode cX6_warning 87 = .ok (.iand, 1) := dk_126 (dk_at dksX6_warning_3 15 rfl rfl)
theorem dX6_warning_88 : decode cX6_warning 88 = .ok (.iconst 1, 1) := dk_4 (dk_at dksX6_warning_3 16 rfl rfl)
theorem dX6_warning_89 : decode cX6_warning 89 = .ok (.if_icmp .ne 7, 3) := dk_160 0 7 (dk_at dksX6_warning_3 17 rfl rfl)
theorem dX6_warning_92 : decode cX6_warning 92 = .ok (.iconst 0, 1) := dk_3 (dk_at dksX6_warning_3 20 rfl rfl)
theorem dX6_warning_93 : decode cX6_warning 93 = .ok (.goto 14, 3) := dk_167 0 14 (dk_at dksX6_warning_3 21 rfl rfl)
theorem dX6_warning_96 : decode cX6_warning 96 = .ok (.aload_n 0, 1) := dk_42 (dk_at dksX6_warning_4 0 rfl rfl)
theorem dX6_warning_97 : decode cX6_warning 97 = .ok (.getfield 28, 3) := dk_180 0 28 (dk_at dksX6_warning_4 1 rfl rfl)
theorem dX6_warning_100 : decode cX6_warning 100 = .ok (.iconst 3, 1) := dk_6 (dk_at dksX6_warning_4 4 rfl rfl)
theorem dX6_warning_101 : decode cX6_warning 101 = .ok (.iload 4, 2) := dk_21 4 (dk_at dksX6_warning_4 5 rfl rfl)
theorem dX6_warning_103 : decode cX6_warning 103 = .ok (.imul, 1) := dk_104 (dk_at dksX6_warning_4 7 rfl rfl)
theorem dX6_warning_104 : decode cX6_warning 104 = .ok (.iconst 1, 1) := dk_4 (dk_at dksX6_warning_4 8 rfl rfl)
theorem dX6_warning_105 : decode cX6_warning 105 = .ok (.iadd, 1) := dk_96 (dk_at dksX6_warning_4 9 rfl rfl)
theorem dX6_warning_106 : decode cX6_warning 106 = .ok (.iaload, 1) := dk_46 (dk_at dksX6_warning_4 10 rfl rfl)
theorem dX6_warning_107 : decode cX6_warning 107 = .ok (.iastore, 1) := dk_79 (dk_at dksX6_warning_4 11 rfl rfl)
theorem dX6_warning_108 : decode cX6_warning 108 = .ok (.iinc 4 1, 3) := dk_132 4 1 (dk_at dksX6_warning_4 12 rfl rfl)
theorem dX6_warning_111 : decode cX6_warning 111 = .ok (.goto (-48), 3) := dk_167 255 208 (dk_at dksX6_warning_4 15 rfl rfl)
theorem dX6_warning_114 : decode cX6_warning 114 = .ok (.iload_n 3, 1) := dk_29 (dk_at dksX6_warning_4 18 rfl rfl)
theorem dX6_warning_115 : decode cX6_warning 115 = .ok (.iload_n 1, 1) := dk_27 (dk_at dksX6_warning_4 19 rfl rfl)
theorem dX6_warning_116 : decode cX6_warning 116 = .ok (.isub, 1) := dk_100 (dk_at dksX6_warning_4 20 rfl rfl)
theorem dX6_warning_117 : decode cX6_warning 117 = .ok (.ireturn, 1) := dk_172 (dk_at dksX6_warning_4 21 rfl rfl)
abbrev cX6_shown : ByteArray := prog_11_method_49_code
def yX6_shown : MethodName := ⟨RX6, "shown", "(I)I"⟩
def dkwX6_shown_5 : List UInt8 := [29, 62, 21, 7, 153, 0, 8, 21, 6, 167, 0, 5, 21, 4, 54, 4, 132, 5, 1, 167, 255, 190, 29, 172]
abbrev dktX6_shown_5 : List UInt8 := dkwX6_shown_5 ++ []
def dkwX6_shown_4 : List UInt8 := [21, 6, 21, 4, 162, 0, 7, 4, 167, 0, 4, 3, 54, 7, 21, 7, 153, 0, 8, 21, 5, 167, 0, 4]
abbrev dktX6_shown_4 : List UInt8 := dkwX6_shown_4 ++ dktX6_shown_5
def dkwX6_shown_3 : List UInt8 := [21, 5, 16, 16, 162, 0, 65, 28, 155, 0, 61, 42, 21, 5, 182, 0, 208, 54, 6, 29, 155, 0, 10]
abbrev dktX6_shown_3 : List UInt8 := dkwX6_shown_3 ++ dktX6_shown_4
def dkwX6_shown_2 : List UInt8 := [29, 167, 0, 4, 28, 61, 132, 3, 1, 167, 255, 232, 16, 252, 62, 3, 54, 4, 28, 4, 96, 54, 5]
abbrev dktX6_shown_2 : List UInt8 := dkwX6_shown_2 ++ dktX6_shown_3
def dkwX6_shown_1 : List UInt8 := [182, 0, 208, 172, 16, 252, 61, 3, 62, 29, 16, 16, 162, 0, 24, 42, 180, 0, 13, 29, 46, 158, 0, 7]
abbrev dktX6_shown_1 : List UInt8 := dkwX6_shown_1 ++ dktX6_shown_2
def dkwX6_shown_0 : List UInt8 := [27, 133, 20, 0, 90, 20, 0, 68, 184, 0, 70, 154, 0, 5, 2, 172, 27, 155, 0, 9, 42, 27]
abbrev dktX6_shown_0 : List UInt8 := dkwX6_shown_0 ++ dktX6_shown_1
theorem dksX6_shown_0 : cX6_shown.data.toList.drop 0 = dktX6_shown_0 := by decide +kernel
theorem dksX6_shown_1 : cX6_shown.data.toList.drop 22 = dktX6_shown_1 := dk_seg dksX6_shown_0 22 rfl rfl
theorem dksX6_shown_2 : cX6_shown.data.toList.drop 46 = dktX6_shown_2 := dk_seg dksX6_shown_1 24 rfl rfl
theorem dksX6_shown_3 : cX6_shown.data.toList.drop 69 = dktX6_shown_3 := dk_seg dksX6_shown_2 23 rfl rfl
theorem dksX6_shown_4 : cX6_shown.data.toList.drop 92 = dktX6_shown_4 := dk_seg dksX6_shown_3 23 rfl rfl
theorem dksX6_shown_5 : cX6_shown.data.toList.drop 116 = dktX6_shown_5 := dk_seg dksX6_shown_4 24 rfl rfl
theorem dX6_shown_0 : decode cX6_shown 0 = .ok (.iload_n 1, 1) := dk_27 (dk_at dksX6_shown_0 0 rfl rfl)
theorem dX6_shown_1 : decode cX6_shown 1 = .ok (.i2l, 1) := dk_133 (dk_at dksX6_shown_0 1 rfl rfl)
theorem dX6_shown_2 : decode cX6_shown 2 = .ok (.ldc2_w 90, 3) := dk_20 0 90 (dk_at dksX6_shown_0 2 rfl rfl)
theorem dX6_shown_5 : decode cX6_shown 5 = .ok (.ldc2_w 68, 3) := dk_20 0 68 (dk_at dksX6_shown_0 5 rfl rfl)
theorem dX6_shown_8 : decode cX6_shown 8 = .ok (.invokestatic 70, 3) := dk_184 0 70 (dk_at dksX6_shown_0 8 rfl rfl)
theorem dX6_shown_11 : decode cX6_shown 11 = .ok (.ifCond .ne 5, 3) := dk_154 0 5 (dk_at dksX6_shown_0 11 rfl rfl)
theorem dX6_shown_14 : decode cX6_shown 14 = .ok (.iconst (-1), 1) := dk_2 (dk_at dksX6_shown_0 14 rfl rfl)
theorem dX6_shown_15 : decode cX6_shown 15 = .ok (.ireturn, 1) := dk_172 (dk_at dksX6_shown_0 15 rfl rfl)
theorem dX6_shown_16 : decode cX6_shown 16 = .ok (.iload_n 1, 1) := dk_27 (dk_at dksX6_shown_0 16 rfl rfl)
theorem dX6_shown_17 : decode cX6_shown 17 = .ok (.ifCond .lt 9, 3) := dk_155 0 9 (dk_at dksX6_shown_0 17 rfl rfl)
theorem dX6_shown_20 : decode cX6_shown 20 = .ok (.aload_n 0, 1) := dk_42 (dk_at dksX6_shown_0 20 rfl rfl)
theorem dX6_shown_21 : decode cX6_shown 21 = .ok (.iload_n 1, 1) := dk_27 (dk_at dksX6_shown_0 21 rfl rfl)
theorem dX6_shown_22 : decode cX6_shown 22 = .ok (.invokevirtual 208, 3) := dk_182 0 208 (dk_at dksX6_shown_1 0 rfl rfl)
theorem dX6_shown_25 : decode cX6_shown 25 = .ok (.ireturn, 1) := dk_172 (dk_at dksX6_shown_1 3 rfl rfl)
theorem dX6_shown_26 : decode cX6_shown 26 = .ok (.bipush (-4), 2) := dk_16 252 (dk_at dksX6_shown_1 4 rfl rfl)
theorem dX6_shown_28 : decode cX6_shown 28 = .ok (.istore_n 2, 1) := dk_61 (dk_at dksX6_shown_1 6 rfl rfl)
theorem dX6_shown_29 : decode cX6_shown 29 = .ok (.iconst 0, 1) := dk_3 (dk_at dksX6_shown_1 7 rfl rfl)
theorem dX6_shown_30 : decode cX6_shown 30 = .ok (.istore_n 3, 1) := dk_62 (dk_at dksX6_shown_1 8 rfl rfl)
theorem dX6_shown_31 : decode cX6_shown 31 = .ok (.iload_n 3, 1) := dk_29 (dk_at dksX6_shown_1 9 rfl rfl)
theorem dX6_shown_32 : decode cX6_shown 32 = .ok (.bipush 16, 2) := dk_16 16 (dk_at dksX6_shown_1 10 rfl rfl)
theorem dX6_shown_34 : decode cX6_shown 34 = .ok (.if_icmp .ge 24, 3) := dk_162 0 24 (dk_at dksX6_shown_1 12 rfl rfl)
theorem dX6_shown_37 : decode cX6_shown 37 = .ok (.aload_n 0, 1) := dk_42 (dk_at dksX6_shown_1 15 rfl rfl)
theorem dX6_shown_38 : decode cX6_shown 38 = .ok (.getfield 13, 3) := dk_180 0 13 (dk_at dksX6_shown_1 16 rfl rfl)
theorem dX6_shown_41 : decode cX6_shown 41 = .ok (.iload_n 3, 1) := dk_29 (dk_at dksX6_shown_1 19 rfl rfl)
theorem dX6_shown_42 : decode cX6_shown 42 = .ok (.iaload, 1) := dk_46 (dk_at dksX6_shown_1 20 rfl rfl)
theorem dX6_shown_43 : decode cX6_shown 43 = .ok (.ifCond .le 7, 3) := dk_158 0 7 (dk_at dksX6_shown_1 21 rfl rfl)
theorem dX6_shown_46 : decode cX6_shown 46 = .ok (.iload_n 3, 1) := dk_29 (dk_at dksX6_shown_2 0 rfl rfl)
theorem dX6_shown_47 : decode cX6_shown 47 = .ok (.goto 4, 3) := dk_167 0 4 (dk_at dksX6_shown_2 1 rfl rfl)
theorem dX6_shown_50 : decode cX6_shown 50 = .ok (.iload_n 2, 1) := dk_28 (dk_at dksX6_shown_2 4 rfl rfl)
theorem dX6_shown_51 : decode cX6_shown 51 = .ok (.istore_n 2, 1) := dk_61 (dk_at dksX6_shown_2 5 rfl rfl)
theorem dX6_shown_52 : decode cX6_shown 52 = .ok (.iinc 3 1, 3) := dk_132 3 1 (dk_at dksX6_shown_2 6 rfl rfl)
theorem dX6_shown_55 : decode cX6_shown 55 = .ok (.goto (-24), 3) := dk_167 255 232 (dk_at dksX6_shown_2 9 rfl rfl)
theorem dX6_shown_58 : decode cX6_shown 58 = .ok (.bipush (-4), 2) := dk_16 252 (dk_at dksX6_shown_2 12 rfl rfl)
theorem dX6_shown_60 : decode cX6_shown 60 = .ok (.istore_n 3, 1) := dk_62 (dk_at dksX6_shown_2 14 rfl rfl)
theorem dX6_shown_61 : decode cX6_shown 61 = .ok (.iconst 0, 1) := dk_3 (dk_at dksX6_shown_2 15 rfl rfl)
theorem dX6_shown_62 : decode cX6_shown 62 = .ok (.istore 4, 2) := dk_54 4 (dk_at dksX6_shown_2 16 rfl rfl)
theorem dX6_shown_64 : decode cX6_shown 64 = .ok (.iload_n 2, 1) := dk_28 (dk_at dksX6_shown_2 18 rfl rfl)
theorem dX6_shown_65 : decode cX6_shown 65 = .ok (.iconst 1, 1) := dk_4 (dk_at dksX6_shown_2 19 rfl rfl)
theorem dX6_shown_66 : decode cX6_shown 66 = .ok (.iadd, 1) := dk_96 (dk_at dksX6_shown_2 20 rfl rfl)
theorem dX6_shown_67 : decode cX6_shown 67 = .ok (.istore 5, 2) := dk_54 5 (dk_at dksX6_shown_2 21 rfl rfl)
theorem dX6_shown_69 : decode cX6_shown 69 = .ok (.iload 5, 2) := dk_21 5 (dk_at dksX6_shown_3 0 rfl rfl)
theorem dX6_shown_71 : decode cX6_shown 71 = .ok (.bipush 16, 2) := dk_16 16 (dk_at dksX6_shown_3 2 rfl rfl)
theorem dX6_shown_73 : decode cX6_shown 73 = .ok (.if_icmp .ge 65, 3) := dk_162 0 65 (dk_at dksX6_shown_3 4 rfl rfl)
theorem dX6_shown_76 : decode cX6_shown 76 = .ok (.iload_n 2, 1) := dk_28 (dk_at dksX6_shown_3 7 rfl rfl)
theorem dX6_shown_77 : decode cX6_shown 77 = .ok (.ifCond .lt 61, 3) := dk_155 0 61 (dk_at dksX6_shown_3 8 rfl rfl)
theorem dX6_shown_80 : decode cX6_shown 80 = .ok (.aload_n 0, 1) := dk_42 (dk_at dksX6_shown_3 11 rfl rfl)
theorem dX6_shown_81 : decode cX6_shown 81 = .ok (.iload 5, 2) := dk_21 5 (dk_at dksX6_shown_3 12 rfl rfl)
theorem dX6_shown_83 : decode cX6_shown 83 = .ok (.invokevirtual 208, 3) := dk_182 0 208 (dk_at dksX6_shown_3 14 rfl rfl)
theorem dX6_shown_86 : decode cX6_shown 86 = .ok (.istore 6, 2) := dk_54 6 (dk_at dksX6_shown_3 17 rfl rfl)
theorem dX6_shown_88 : decode cX6_shown 88 = .ok (.iload_n 3, 1) := dk_29 (dk_at dksX6_shown_3 19 rfl rfl)
theorem dX6_shown_89 : decode cX6_shown 89 = .ok (.ifCond .lt 10, 3) := dk_155 0 10 (dk_at dksX6_shown_3 20 rfl rfl)
theorem dX6_shown_92 : decode cX6_shown 92 = .ok (.iload 6, 2) := dk_21 6 (dk_at dksX6_shown_4 0 rfl rfl)
theorem dX6_shown_94 : decode cX6_shown 94 = .ok (.iload 4, 2) := dk_21 4 (dk_at dksX6_shown_4 2 rfl rfl)
theorem dX6_shown_96 : decode cX6_shown 96 = .ok (.if_icmp .ge 7, 3) := dk_162 0 7 (dk_at dksX6_shown_4 4 rfl rfl)
theorem dX6_shown_99 : decode cX6_shown 99 = .ok (.iconst 1, 1) := dk_4 (dk_at dksX6_shown_4 7 rfl rfl)
theorem dX6_shown_100 : decode cX6_shown 100 = .ok (.goto 4, 3) := dk_167 0 4 (dk_at dksX6_shown_4 8 rfl rfl)
theorem dX6_shown_103 : decode cX6_shown 103 = .ok (.iconst 0, 1) := dk_3 (dk_at dksX6_shown_4 11 rfl rfl)
theorem dX6_shown_104 : decode cX6_shown 104 = .ok (.istore 7, 2) := dk_54 7 (dk_at dksX6_shown_4 12 rfl rfl)
theorem dX6_shown_106 : decode cX6_shown 106 = .ok (.iload 7, 2) := dk_21 7 (dk_at dksX6_shown_4 14 rfl rfl)
theorem dX6_shown_108 : decode cX6_shown 108 = .ok (.ifCond .eq 8, 3) := dk_153 0 8 (dk_at dksX6_shown_4 16 rfl rfl)
theorem dX6_shown_111 : decode cX6_shown 111 = .ok (.iload 5, 2) := dk_21 5 (dk_at dksX6_shown_4 19 rfl rfl)
theorem dX6_shown_113 : decode cX6_shown 113 = .ok (.goto 4, 3) := dk_167 0 4 (dk_at dksX6_shown_4 21 rfl rfl)
theorem dX6_shown_116 : decode cX6_shown 116 = .ok (.iload_n 3, 1) := dk_29 (dk_at dksX6_shown_5 0 rfl rfl)
theorem dX6_shown_117 : decode cX6_shown 117 = .ok (.istore_n 3, 1) := dk_62 (dk_at dksX6_shown_5 1 rfl rfl)
theorem dX6_shown_118 : decode cX6_shown 118 = .ok (.iload 7, 2) := dk_21 7 (dk_at dksX6_shown_5 2 rfl rfl)
theorem dX6_shown_120 : decode cX6_shown 120 = .ok (.ifCond .eq 8, 3) := dk_153 0 8 (dk_at dksX6_shown_5 4 rfl rfl)
theorem dX6_shown_123 : decode cX6_shown 123 = .ok (.iload 6, 2) := dk_21 6 (dk_at dksX6_shown_5 7 rfl rfl)
theorem dX6_shown_125 : decode cX6_shown 125 = .ok (.goto 5, 3) := dk_167 0 5 (dk_at dksX6_shown_5 9 rfl rfl)
theorem dX6_shown_128 : decode cX6_shown 128 = .ok (.iload 4, 2) := dk_21 4 (dk_at dksX6_shown_5 12 rfl rfl)
theorem dX6_shown_130 : decode cX6_shown 130 = .ok (.istore 4, 2) := dk_54 4 (dk_at dksX6_shown_5 14 rfl rfl)
theorem dX6_shown_132 : decode cX6_shown 132 = .ok (.iinc 5 1, 3) := dk_132 5 1 (dk_at dksX6_shown_5 16 rfl rfl)
theorem dX6_shown_135 : decode cX6_shown 135 = .ok (.goto (-66), 3) := dk_167 255 190 (dk_at dksX6_shown_5 19 rfl rfl)
theorem dX6_shown_138 : decode cX6_shown 138 = .ok (.iload_n 3, 1) := dk_29 (dk_at dksX6_shown_5 22 rfl rfl)
theorem dX6_shown_139 : decode cX6_shown 139 = .ok (.ireturn, 1) := dk_172 (dk_at dksX6_shown_5 23 rfl rfl)
abbrev cX6_shownAt : ByteArray := prog_11_method_48_code
def yX6_shownAt : MethodName := ⟨RX6, "shownAt", "(I)I"⟩
def dkwX6_shownAt_2 : List UInt8 := [132, 3, 1, 167, 255, 209, 28, 172]
abbrev dktX6_shownAt_2 : List UInt8 := dkwX6_shownAt_2 ++ []
def dkwX6_shownAt_1 : List UInt8 := [28, 21, 4, 158, 0, 18, 42, 29, 4, 182, 0, 192, 21, 4, 104, 16, 10, 108, 167, 0, 4, 3, 96, 61]
abbrev dktX6_shownAt_1 : List UInt8 := dkwX6_shownAt_1 ++ dktX6_shownAt_2
def dkwX6_shownAt_0 : List UInt8 := [3, 61, 3, 62, 29, 27, 162, 0, 48, 16, 10, 42, 180, 0, 25, 7, 46, 27, 29, 100, 104, 100, 54, 4]
abbrev dktX6_shownAt_0 : List UInt8 := dkwX6_shownAt_0 ++ dktX6_shownAt_1
theorem dksX6_shownAt_0 : cX6_shownAt.data.toList.drop 0 = dktX6_shownAt_0 := by decide +kernel
theorem dksX6_shownAt_1 : cX6_shownAt.data.toList.drop 24 = dktX6_shownAt_1 := dk_seg dksX6_shownAt_0 24 rfl rfl
theorem dksX6_shownAt_2 : cX6_shownAt.data.toList.drop 48 = dktX6_shownAt_2 := dk_seg dksX6_shownAt_1 24 rfl rfl
theorem dX6_shownAt_0 : decode cX6_shownAt 0 = .ok (.iconst 0, 1) := dk_3 (dk_at dksX6_shownAt_0 0 rfl rfl)
theorem dX6_shownAt_1 : decode cX6_shownAt 1 = .ok (.istore_n 2, 1) := dk_61 (dk_at dksX6_shownAt_0 1 rfl rfl)
theorem dX6_shownAt_2 : decode cX6_shownAt 2 = .ok (.iconst 0, 1) := dk_3 (dk_at dksX6_shownAt_0 2 rfl rfl)
theorem dX6_shownAt_3 : decode cX6_shownAt 3 = .ok (.istore_n 3, 1) := dk_62 (dk_at dksX6_shownAt_0 3 rfl rfl)
theorem dX6_shownAt_4 : decode cX6_shownAt 4 = .ok (.iload_n 3, 1) := dk_29 (dk_at dksX6_shownAt_0 4 rfl rfl)
theorem dX6_shownAt_5 : decode cX6_shownAt 5 = .ok (.iload_n 1, 1) := dk_27 (dk_at dksX6_shownAt_0 5 rfl rfl)
theorem dX6_shownAt_6 : decode cX6_shownAt 6 = .ok (.if_icmp .ge 48, 3) := dk_162 0 48 (dk_at dksX6_shownAt_0 6 rfl rfl)
theorem dX6_shownAt_9 : decode cX6_shownAt 9 = .ok (.bipush 10, 2) := dk_16 10 (dk_at dksX6_shownAt_0 9 rfl rfl)
theorem dX6_shownAt_11 : decode cX6_shownAt 11 = .ok (.aload_n 0, 1) := dk_42 (dk_at dksX6_shownAt_0 11 rfl rfl)
theorem dX6_shownAt_12 : decode cX6_shownAt 12 = .ok (.getfield 25, 3) := dk_180 0 25 (dk_at dksX6_shownAt_0 12 rfl rfl)
theorem dX6_shownAt_15 : decode cX6_shownAt 15 = .ok (.iconst 4, 1) := dk_7 (dk_at dksX6_shownAt_0 15 rfl rfl)
theorem dX6_shownAt_16 : decode cX6_shownAt 16 = .ok (.iaload, 1) := dk_46 (dk_at dksX6_shownAt_0 16 rfl rfl)
theorem dX6_shownAt_17 : decode cX6_shownAt 17 = .ok (.iload_n 1, 1) := dk_27 (dk_at dksX6_shownAt_0 17 rfl rfl)
theorem dX6_shownAt_18 : decode cX6_shownAt 18 = .ok (.iload_n 3, 1) := dk_29 (dk_at dksX6_shownAt_0 18 rfl rfl)
theorem dX6_shownAt_19 : decode cX6_shownAt 19 = .ok (.isub, 1) := dk_100 (dk_at dksX6_shownAt_0 19 rfl rfl)
theorem dX6_shownAt_20 : decode cX6_shownAt 20 = .ok (.imul, 1) := dk_104 (dk_at dksX6_shownAt_0 20 rfl rfl)
theorem dX6_shownAt_21 : decode cX6_shownAt 21 = .ok (.isub, 1) := dk_100 (dk_at dksX6_shownAt_0 21 rfl rfl)
theorem dX6_shownAt_22 : decode cX6_shownAt 22 = .ok (.istore 4, 2) := dk_54 4 (dk_at dksX6_shownAt_0 22 rfl rfl)
theorem dX6_shownAt_24 : decode cX6_shownAt 24 = .ok (.iload_n 2, 1) := dk_28 (dk_at dksX6_shownAt_1 0 rfl rfl)
theorem dX6_shownAt_25 : decode cX6_shownAt 25 = .ok (.iload 4, 2) := dk_21 4 (dk_at dksX6_shownAt_1 1 rfl rfl)
theorem dX6_shownAt_27 : decode cX6_shownAt 27 = .ok (.ifCond .le 18, 3) := dk_158 0 18 (dk_at dksX6_shownAt_1 3 rfl rfl)
theorem dX6_shownAt_30 : decode cX6_shownAt 30 = .ok (.aload_n 0, 1) := dk_42 (dk_at dksX6_shownAt_1 6 rfl rfl)
theorem dX6_shownAt_31 : decode cX6_shownAt 31 = .ok (.iload_n 3, 1) := dk_29 (dk_at dksX6_shownAt_1 7 rfl rfl)
theorem dX6_shownAt_32 : decode cX6_shownAt 32 = .ok (.iconst 1, 1) := dk_4 (dk_at dksX6_shownAt_1 8 rfl rfl)
theorem dX6_shownAt_33 : decode cX6_shownAt 33 = .ok (.invokevirtual 192, 3) := dk_182 0 192 (dk_at dksX6_shownAt_1 9 rfl rfl)
theorem dX6_shownAt_36 : decode cX6_shownAt 36 = .ok (.iload 4, 2) := dk_21 4 (dk_at dksX6_shownAt_1 12 rfl rfl)
theorem dX6_shownAt_38 : decode cX6_shownAt 38 = .ok (.imul, 1) := dk_104 (dk_at dksX6_shownAt_1 14 rfl rfl)
theorem dX6_shownAt_39 : decode cX6_shownAt 39 = .ok (.bipush 10, 2) := dk_16 10 (dk_at dksX6_shownAt_1 15 rfl rfl)
theorem dX6_shownAt_41 : decode cX6_shownAt 41 = .ok (.idiv, 1) := dk_108 (dk_at dksX6_shownAt_1 17 rfl rfl)
theorem dX6_shownAt_42 : decode cX6_shownAt 42 = .ok (.goto 4, 3) := dk_167 0 4 (dk_at dksX6_shownAt_1 18 rfl rfl)
theorem dX6_shownAt_45 : decode cX6_shownAt 45 = .ok (.iconst 0, 1) := dk_3 (dk_at dksX6_shownAt_1 21 rfl rfl)
theorem dX6_shownAt_46 : decode cX6_shownAt 46 = .ok (.iadd, 1) := dk_96 (dk_at dksX6_shownAt_1 22 rfl rfl)
theorem dX6_shownAt_47 : decode cX6_shownAt 47 = .ok (.istore_n 2, 1) := dk_61 (dk_at dksX6_shownAt_1 23 rfl rfl)
theorem dX6_shownAt_48 : decode cX6_shownAt 48 = .ok (.iinc 3 1, 3) := dk_132 3 1 (dk_at dksX6_shownAt_2 0 rfl rfl)
theorem dX6_shownAt_51 : decode cX6_shownAt 51 = .ok (.goto (-47), 3) := dk_167 255 209 (dk_at dksX6_shownAt_2 3 rfl rfl)
theorem dX6_shownAt_54 : decode cX6_shownAt 54 = .ok (.iload_n 2, 1) := dk_28 (dk_at dksX6_shownAt_2 6 rfl rfl)
theorem dX6_shownAt_55 : decode cX6_shownAt 55 = .ok (.ireturn, 1) := dk_172 (dk_at dksX6_shownAt_2 7 rfl rfl)
abbrev cX6_point : ByteArray := prog_11_method_51_code
def yX6_point : MethodName := ⟨RX6, "point", "(II)I"⟩
def dkwX6_point_1 : List UInt8 := [160, 0, 6, 16, 253, 172, 42, 27, 28, 182, 0, 211, 42, 180, 0, 166, 172]
abbrev dktX6_point_1 : List UInt8 := dkwX6_point_1 ++ []
def dkwX6_point_0 : List UInt8 := [27, 184, 0, 79, 153, 0, 10, 28, 184, 0, 83, 154, 0, 5, 2, 172, 42, 180, 0, 166, 16, 24]
abbrev dktX6_point_0 : List UInt8 := dkwX6_point_0 ++ dktX6_point_1
theorem dksX6_point_0 : cX6_point.data.toList.drop 0 = dktX6_point_0 := by decide +kernel
theorem dksX6_point_1 : cX6_point.data.toList.drop 22 = dktX6_point_1 := dk_seg dksX6_point_0 22 rfl rfl
theorem dX6_point_0 : decode cX6_point 0 = .ok (.iload_n 1, 1) := dk_27 (dk_at dksX6_point_0 0 rfl rfl)
theorem dX6_point_1 : decode cX6_point 1 = .ok (.invokestatic 79, 3) := dk_184 0 79 (dk_at dksX6_point_0 1 rfl rfl)
theorem dX6_point_4 : decode cX6_point 4 = .ok (.ifCond .eq 10, 3) := dk_153 0 10 (dk_at dksX6_point_0 4 rfl rfl)
theorem dX6_point_7 : decode cX6_point 7 = .ok (.iload_n 2, 1) := dk_28 (dk_at dksX6_point_0 7 rfl rfl)
theorem dX6_point_8 : decode cX6_point 8 = .ok (.invokestatic 83, 3) := dk_184 0 83 (dk_at dksX6_point_0 8 rfl rfl)
theorem dX6_point_11 : decode cX6_point 11 = .ok (.ifCond .ne 5, 3) := dk_154 0 5 (dk_at dksX6_point_0 11 rfl rfl)
theorem dX6_point_14 : decode cX6_point 14 = .ok (.iconst (-1), 1) := dk_2 (dk_at dksX6_point_0 14 rfl rfl)
theorem dX6_point_15 : decode cX6_point 15 = .ok (.ireturn, 1) := dk_172 (dk_at dksX6_point_0 15 rfl rfl)
theorem dX6_point_16 : decode cX6_point 16 = .ok (.aload_n 0, 1) := dk_42 (dk_at dksX6_point_0 16 rfl rfl)
theorem dX6_point_17 : decode cX6_point 17 = .ok (.getfield 166, 3) := dk_180 0 166 (dk_at dksX6_point_0 17 rfl rfl)
theorem dX6_point_20 : decode cX6_point 20 = .ok (.bipush 24, 2) := dk_16 24 (dk_at dksX6_point_0 20 rfl rfl)
theorem dX6_point_22 : decode cX6_point 22 = .ok (.if_icmp .ne 6, 3) := dk_160 0 6 (dk_at dksX6_point_1 0 rfl rfl)
theorem dX6_point_25 : decode cX6_point 25 = .ok (.bipush (-3), 2) := dk_16 253 (dk_at dksX6_point_1 3 rfl rfl)
theorem dX6_point_27 : decode cX6_point 27 = .ok (.ireturn, 1) := dk_172 (dk_at dksX6_point_1 5 rfl rfl)
theorem dX6_point_28 : decode cX6_point 28 = .ok (.aload_n 0, 1) := dk_42 (dk_at dksX6_point_1 6 rfl rfl)
theorem dX6_point_29 : decode cX6_point 29 = .ok (.iload_n 1, 1) := dk_27 (dk_at dksX6_point_1 7 rfl rfl)
theorem dX6_point_30 : decode cX6_point 30 = .ok (.iload_n 2, 1) := dk_28 (dk_at dksX6_point_1 8 rfl rfl)
theorem dX6_point_31 : decode cX6_point 31 = .ok (.invokevirtual 211, 3) := dk_182 0 211 (dk_at dksX6_point_1 9 rfl rfl)
theorem dX6_point_34 : decode cX6_point 34 = .ok (.aload_n 0, 1) := dk_42 (dk_at dksX6_point_1 12 rfl rfl)
theorem dX6_point_35 : decode cX6_point 35 = .ok (.getfield 166, 3) := dk_180 0 166 (dk_at dksX6_point_1 13 rfl rfl)
theorem dX6_point_38 : decode cX6_point 38 = .ok (.ireturn, 1) := dk_172 (dk_at dksX6_point_1 16 rfl rfl)
abbrev cX6_pointed : ByteArray := prog_11_method_50_code
def yX6_pointed : MethodName := ⟨RX6, "pointed", "(II)V"⟩
def dkwX6_pointed_1 : List UInt8 := [180, 0, 166, 4, 96, 181, 0, 166, 177]
abbrev dktX6_pointed_1 : List UInt8 := dkwX6_pointed_1 ++ []
def dkwX6_pointed_0 : List UInt8 := [42, 180, 0, 43, 42, 180, 0, 166, 27, 79, 42, 180, 0, 46, 42, 180, 0, 166, 28, 79, 42, 89]
abbrev dktX6_pointed_0 : List UInt8 := dkwX6_pointed_0 ++ dktX6_pointed_1
theorem dksX6_pointed_0 : cX6_pointed.data.toList.drop 0 = dktX6_pointed_0 := by decide +kernel
theorem dksX6_pointed_1 : cX6_pointed.data.toList.drop 22 = dktX6_pointed_1 := dk_seg dksX6_pointed_0 22 rfl rfl
theorem dX6_pointed_0 : decode cX6_pointed 0 = .ok (.aload_n 0, 1) := dk_42 (dk_at dksX6_pointed_0 0 rfl rfl)
theorem dX6_pointed_1 : decode cX6_pointed 1 = .ok (.getfield 43, 3) := dk_180 0 43 (dk_at dksX6_pointed_0 1 rfl rfl)
theorem dX6_pointed_4 : decode cX6_pointed 4 = .ok (.aload_n 0, 1) := dk_42 (dk_at dksX6_pointed_0 4 rfl rfl)
theorem dX6_pointed_5 : decode cX6_pointed 5 = .ok (.getfield 166, 3) := dk_180 0 166 (dk_at dksX6_pointed_0 5 rfl rfl)
theorem dX6_pointed_8 : decode cX6_pointed 8 = .ok (.iload_n 1, 1) := dk_27 (dk_at dksX6_pointed_0 8 rfl rfl)
theorem dX6_pointed_9 : decode cX6_pointed 9 = .ok (.iastore, 1) := dk_79 (dk_at dksX6_pointed_0 9 rfl rfl)
theorem dX6_pointed_10 : decode cX6_pointed 10 = .ok (.aload_n 0, 1) := dk_42 (dk_at dksX6_pointed_0 10 rfl rfl)
theorem dX6_pointed_11 : decode cX6_pointed 11 = .ok (.getfield 46, 3) := dk_180 0 46 (dk_at dksX6_pointed_0 11 rfl rfl)
theorem dX6_pointed_14 : decode cX6_pointed 14 = .ok (.aload_n 0, 1) := dk_42 (dk_at dksX6_pointed_0 14 rfl rfl)
theorem dX6_pointed_15 : decode cX6_pointed 15 = .ok (.getfield 166, 3) := dk_180 0 166 (dk_at dksX6_pointed_0 15 rfl rfl)
theorem dX6_pointed_18 : decode cX6_pointed 18 = .ok (.iload_n 2, 1) := dk_28 (dk_at dksX6_pointed_0 18 rfl rfl)
theorem dX6_pointed_19 : decode cX6_pointed 19 = .ok (.iastore, 1) := dk_79 (dk_at dksX6_pointed_0 19 rfl rfl)
theorem dX6_pointed_20 : decode cX6_pointed 20 = .ok (.aload_n 0, 1) := dk_42 (dk_at dksX6_pointed_0 20 rfl rfl)
theorem dX6_pointed_21 : decode cX6_pointed 21 = .ok (.dup, 1) := dk_89 (dk_at dksX6_pointed_0 21 rfl rfl)
theorem dX6_pointed_22 : decode cX6_pointed 22 = .ok (.getfield 166, 3) := dk_180 0 166 (dk_at dksX6_pointed_1 0 rfl rfl)
theorem dX6_pointed_25 : decode cX6_pointed 25 = .ok (.iconst 1, 1) := dk_4 (dk_at dksX6_pointed_1 3 rfl rfl)
theorem dX6_pointed_26 : decode cX6_pointed 26 = .ok (.iadd, 1) := dk_96 (dk_at dksX6_pointed_1 4 rfl rfl)
theorem dX6_pointed_27 : decode cX6_pointed 27 = .ok (.putfield 166, 3) := dk_181 0 166 (dk_at dksX6_pointed_1 5 rfl rfl)
theorem dX6_pointed_30 : decode cX6_pointed 30 = .ok (.return_, 1) := dk_177 (dk_at dksX6_pointed_1 8 rfl rfl)
abbrev cX6_fits : ByteArray := prog_11_method_52_code
def yX6_fits : MethodName := ⟨RX6, "fits", "(I)I"⟩
def dkwX6_fits_9 : List UInt8 := [29, 167, 0, 5, 21, 4, 172]
abbrev dktX6_fits_9 : List UInt8 := dkwX6_fits_9 ++ []
def dkwX6_fits_8 : List UInt8 := [167, 0, 5, 21, 4, 54, 4, 132, 5, 1, 167, 255, 98, 42, 180, 0, 25, 3, 28, 79, 27, 154, 0, 7]
abbrev dktX6_fits_8 : List UInt8 := dkwX6_fits_8 ++ dktX6_fits_9
def dkwX6_fits_7 : List UInt8 := [21, 6, 21, 4, 164, 0, 8, 21, 5, 167, 0, 4, 29, 62, 21, 6, 21, 4, 164, 0, 8, 21, 6]
abbrev dktX6_fits_7 : List UInt8 := dkwX6_fits_7 ++ dktX6_fits_8
def dkwX6_fits_6 : List UInt8 := [167, 255, 214, 21, 6, 21, 8, 153, 0, 7, 4, 167, 0, 4, 3, 96, 54, 6, 132, 7, 1, 167, 255, 155]
abbrev dktX6_fits_6 : List UInt8 := dkwX6_fits_6 ++ dktX6_fits_7
def dkwX6_fits_5 : List UInt8 := [21, 7, 46, 21, 10, 4, 182, 0, 169, 21, 9, 163, 0, 7, 4, 167, 0, 4, 3, 54, 8, 132, 10, 1]
abbrev dktX6_fits_5 : List UInt8 := dkwX6_fits_5 ++ dktX6_fits_6
def dkwX6_fits_4 : List UInt8 := [54, 9, 3, 54, 10, 21, 10, 7, 162, 0, 42, 21, 8, 153, 0, 28, 42, 3, 3, 42, 180, 0, 43]
abbrev dktX6_fits_4 : List UInt8 := dkwX6_fits_4 ++ dktX6_fits_5
def dkwX6_fits_3 : List UInt8 := [54, 8, 42, 3, 3, 42, 180, 0, 43, 21, 7, 46, 42, 180, 0, 46, 21, 7, 46, 4, 182, 0, 169]
abbrev dktX6_fits_3 : List UInt8 := dkwX6_fits_3 ++ dktX6_fits_4
def dkwX6_fits_2 : List UInt8 := [180, 0, 25, 3, 21, 5, 79, 3, 54, 6, 3, 54, 7, 21, 7, 42, 180, 0, 166, 162, 0, 98, 4]
abbrev dktX6_fits_2 : List UInt8 := dkwX6_fits_2 ++ dktX6_fits_3
def dkwX6_fits_1 : List UInt8 := [180, 0, 25, 3, 46, 61, 3, 62, 2, 54, 4, 3, 54, 5, 21, 5, 16, 10, 162, 0, 157, 42]
abbrev dktX6_fits_1 : List UInt8 := dkwX6_fits_1 ++ dktX6_fits_2
def dkwX6_fits_0 : List UInt8 := [27, 133, 9, 10, 184, 0, 70, 154, 0, 5, 2, 172, 42, 180, 0, 166, 154, 0, 6, 16, 254, 172, 42]
abbrev dktX6_fits_0 : List UInt8 := dkwX6_fits_0 ++ dktX6_fits_1
theorem dksX6_fits_0 : cX6_fits.data.toList.drop 0 = dktX6_fits_0 := by decide +kernel
theorem dksX6_fits_1 : cX6_fits.data.toList.drop 23 = dktX6_fits_1 := dk_seg dksX6_fits_0 23 rfl rfl
theorem dksX6_fits_2 : cX6_fits.data.toList.drop 45 = dktX6_fits_2 := dk_seg dksX6_fits_1 22 rfl rfl
theorem dksX6_fits_3 : cX6_fits.data.toList.drop 68 = dktX6_fits_3 := dk_seg dksX6_fits_2 23 rfl rfl
theorem dksX6_fits_4 : cX6_fits.data.toList.drop 91 = dktX6_fits_4 := dk_seg dksX6_fits_3 23 rfl rfl
theorem dksX6_fits_5 : cX6_fits.data.toList.drop 114 = dktX6_fits_5 := dk_seg dksX6_fits_4 23 rfl rfl
theorem dksX6_fits_6 : cX6_fits.data.toList.drop 138 = dktX6_fits_6 := dk_seg dksX6_fits_5 24 rfl rfl
theorem dksX6_fits_7 : cX6_fits.data.toList.drop 162 = dktX6_fits_7 := dk_seg dksX6_fits_6 24 rfl rfl
theorem dksX6_fits_8 : cX6_fits.data.toList.drop 185 = dktX6_fits_8 := dk_seg dksX6_fits_7 23 rfl rfl
theorem dksX6_fits_9 : cX6_fits.data.toList.drop 209 = dktX6_fits_9 := dk_seg dksX6_fits_8 24 rfl rfl
theorem dX6_fits_0 : decode cX6_fits 0 = .ok (.iload_n 1, 1) := dk_27 (dk_at dksX6_fits_0 0 rfl rfl)
theorem dX6_fits_1 : decode cX6_fits 1 = .ok (.i2l, 1) := dk_133 (dk_at dksX6_fits_0 1 rfl rfl)
theorem dX6_fits_2 : decode cX6_fits 2 = .ok (.lconst 0, 1) := dk_9 (dk_at dksX6_fits_0 2 rfl rfl)
theorem dX6_fits_3 : decode cX6_fits 3 = .ok (.lconst 1, 1) := dk_10 (dk_at dksX6_fits_0 3 rfl rfl)
theorem dX6_fits_4 : decode cX6_fits 4 = .ok (.invokestatic 70, 3) := dk_184 0 70 (dk_at dksX6_fits_0 4 rfl rfl)
theorem dX6_fits_7 : decode cX6_fits 7 = .ok (.ifCond .ne 5, 3) := dk_154 0 5 (dk_at dksX6_fits_0 7 rfl rfl)
theorem dX6_fits_10 : decode cX6_fits 10 = .ok (.iconst (-1), 1) := dk_2 (dk_at dksX6_fits_0 10 rfl rfl)
theorem dX6_fits_11 : decode cX6_fits 11 = .ok (.ireturn, 1) := dk_172 (dk_at dksX6_fits_0 11 rfl rfl)
theorem dX6_fits_12 : decode cX6_fits 12 = .ok (.aload_n 0, 1) := dk_42 (dk_at dksX6_fits_0 12 rfl rfl)
theorem dX6_fits_13 : decode cX6_fits 13 = .ok (.getfield 166, 3) := dk_180 0 166 (dk_at dksX6_fits_0 13 rfl rfl)
theorem dX6_fits_16 : decode cX6_fits 16 = .ok (.ifCond .ne 6, 3) := dk_154 0 6 (dk_at dksX6_fits_0 16 rfl rfl)
theorem dX6_fits_19 : decode cX6_fits 19 = .ok (.bipush (-2), 2) := dk_16 254 (dk_at dksX6_fits_0 19 rfl rfl)
theorem dX6_fits_21 : decode cX6_fits 21 = .ok (.ireturn, 1) := dk_172 (dk_at dksX6_fits_0 21 rfl rfl)
theorem dX6_fits_22 : decode cX6_fits 22 = .ok (.aload_n 0, 1) := dk_42 (dk_at dksX6_fits_0 22 rfl rfl)
theorem dX6_fits_23 : decode cX6_fits 23 = .ok (.getfield 25, 3) := dk_180 0 25 (dk_at dksX6_fits_1 0 rfl rfl)
theorem dX6_fits_26 : decode cX6_fits 26 = .ok (.iconst 0, 1) := dk_3 (dk_at dksX6_fits_1 3 rfl rfl)
theorem dX6_fits_27 : decode cX6_fits 27 = .ok (.iaload, 1) := dk_46 (dk_at dksX6_fits_1 4 rfl rfl)
theorem dX6_fits_28 : decode cX6_fits 28 = .ok (.istore_n 2, 1) := dk_61 (dk_at dksX6_fits_1 5 rfl rfl)
theorem dX6_fits_29 : decode cX6_fits 29 = .ok (.iconst 0, 1) := dk_3 (dk_at dksX6_fits_1 6 rfl rfl)
theorem dX6_fits_30 : decode cX6_fits 30 = .ok (.istore_n 3, 1) := dk_62 (dk_at dksX6_fits_1 7 rfl rfl)
theorem dX6_fits_31 : decode cX6_fits 31 = .ok (.iconst (-1), 1) := dk_2 (dk_at dksX6_fits_1 8 rfl rfl)
theorem dX6_fits_32 : decode cX6_fits 32 = .ok (.istore 4, 2) := dk_54 4 (dk_at dksX6_fits_1 9 rfl rfl)
theorem dX6_fits_34 : decode cX6_fits 34 = .ok (.iconst 0, 1) := dk_3 (dk_at dksX6_fits_1 11 rfl rfl)
theorem dX6_fits_35 : decode cX6_fits 35 = .ok (.istore 5, 2) := dk_54 5 (dk_at dksX6_fits_1 12 rfl rfl)
theorem dX6_fits_37 : decode cX6_fits 37 = .ok (.iload 5, 2) := dk_21 5 (dk_at dksX6_fits_1 14 rfl rfl)
theorem dX6_fits_39 : decode cX6_fits 39 = .ok (.bipush 10, 2) := dk_16 10 (dk_at dksX6_fits_1 16 rfl rfl)
theorem dX6_fits_41 : decode cX6_fits 41 = .ok (.if_icmp .ge 157, 3) := dk_162 0 157 (dk_at dksX6_fits_1 18 rfl rfl)
theorem dX6_fits_44 : decode cX6_fits 44 = .ok (.aload_n 0, 1) := dk_42 (dk_at dksX6_fits_1 21 rfl rfl)
theorem dX6_fits_45 : decode cX6_fits 45 = .ok (.getfield 25, 3) := dk_180 0 25 (dk_at dksX6_fits_2 0 rfl rfl)
theorem dX6_fits_48 : decode cX6_fits 48 = .ok (.iconst 0, 1) := dk_3 (dk_at dksX6_fits_2 3 rfl rfl)
theorem dX6_fits_49 : decode cX6_fits 49 = .ok (.iload 5, 2) := dk_21 5 (dk_at dksX6_fits_2 4 rfl rfl)
theorem dX6_fits_51 : decode cX6_fits 51 = .ok (.iastore, 1) := dk_79 (dk_at dksX6_fits_2 6 rfl rfl)
theorem dX6_fits_52 : decode cX6_fits 52 = .ok (.iconst 0, 1) := dk_3 (dk_at dksX6_fits_2 7 rfl rfl)
theorem dX6_fits_53 : decode cX6_fits 53 = .ok (.istore 6, 2) := dk_54 6 (dk_at dksX6_fits_2 8 rfl rfl)
theorem dX6_fits_55 : decode cX6_fits 55 = .ok (.iconst 0, 1) := dk_3 (dk_at dksX6_fits_2 10 rfl rfl)
theorem dX6_fits_56 : decode cX6_fits 56 = .ok (.istore 7, 2) := dk_54 7 (dk_at dksX6_fits_2 11 rfl rfl)
theorem dX6_fits_58 : decode cX6_fits 58 = .ok (.iload 7, 2) := dk_21 7 (dk_at dksX6_fits_2 13 rfl rfl)
theorem dX6_fits_60 : decode cX6_fits 60 = .ok (.aload_n 0, 1) := dk_42 (dk_at dksX6_fits_2 15 rfl rfl)
theorem dX6_fits_61 : decode cX6_fits 61 = .ok (.getfield 166, 3) := dk_180 0 166 (dk_at dksX6_fits_2 16 rfl rfl)
theorem dX6_fits_64 : decode cX6_fits 64 = .ok (.if_icmp .ge 98, 3) := dk_162 0 98 (dk_at dksX6_fits_2 19 rfl rfl)
theorem dX6_fits_67 : decode cX6_fits 67 = .ok (.iconst 1, 1) := dk_4 (dk_at dksX6_fits_2 22 rfl rfl)
theorem dX6_fits_68 : decode cX6_fits 68 = .ok (.istore 8, 2) := dk_54 8 (dk_at dksX6_fits_3 0 rfl rfl)
theorem dX6_fits_70 : decode cX6_fits 70 = .ok (.aload_n 0, 1) := dk_42 (dk_at dksX6_fits_3 2 rfl rfl)
theorem dX6_fits_71 : decode cX6_fits 71 = .ok (.iconst 0, 1) := dk_3 (dk_at dksX6_fits_3 3 rfl rfl)
theorem dX6_fits_72 : decode cX6_fits 72 = .ok (.iconst 0, 1) := dk_3 (dk_at dksX6_fits_3 4 rfl rfl)
theorem dX6_fits_73 : decode cX6_fits 73 = .ok (.aload_n 0, 1) := dk_42 (dk_at dksX6_fits_3 5 rfl rfl)
theorem dX6_fits_74 : decode cX6_fits 74 = .ok (.getfield 43, 3) := dk_180 0 43 (dk_at dksX6_fits_3 6 rfl rfl)
theorem dX6_fits_77 : decode cX6_fits 77 = .ok (.iload 7, 2) := dk_21 7 (dk_at dksX6_fits_3 9 rfl rfl)
theorem dX6_fits_79 : decode cX6_fits 79 = .ok (.iaload, 1) := dk_46 (dk_at dksX6_fits_3 11 rfl rfl)
theorem dX6_fits_80 : decode cX6_fits 80 = .ok (.aload_n 0, 1) := dk_42 (dk_at dksX6_fits_3 12 rfl rfl)
theorem dX6_fits_81 : decode cX6_fits 81 = .ok (.getfield 46, 3) := dk_180 0 46 (dk_at dksX6_fits_3 13 rfl rfl)
theorem dX6_fits_84 : decode cX6_fits 84 = .ok (.iload 7, 2) := dk_21 7 (dk_at dksX6_fits_3 16 rfl rfl)
theorem dX6_fits_86 : decode cX6_fits 86 = .ok (.iaload, 1) := dk_46 (dk_at dksX6_fits_3 18 rfl rfl)
theorem dX6_fits_87 : decode cX6_fits 87 = .ok (.iconst 1, 1) := dk_4 (dk_at dksX6_fits_3 19 rfl rfl)
theorem dX6_fits_88 : decode cX6_fits 88 = .ok (.invokevirtual 169, 3) := dk_182 0 169 (dk_at dksX6_fits_3 20 rfl rfl)
theorem dX6_fits_91 : decode cX6_fits 91 = .ok (.istore 9, 2) := dk_54 9 (dk_at dksX6_fits_4 0 rfl rfl)
theorem dX6_fits_93 : decode cX6_fits 93 = .ok (.iconst 0, 1) := dk_3 (dk_at dksX6_fits_4 2 rfl rfl)
theorem dX6_fits_94 : decode cX6_fits 94 = .ok (.istore 10, 2) := dk_54 10 (dk_at dksX6_fits_4 3 rfl rfl)
theorem dX6_fits_96 : decode cX6_fits 96 = .ok (.iload 10, 2) := dk_21 10 (dk_at dksX6_fits_4 5 rfl rfl)
theorem dX6_fits_98 : decode cX6_fits 98 = .ok (.iconst 4, 1) := dk_7 (dk_at dksX6_fits_4 7 rfl rfl)
theorem dX6_fits_99 : decode cX6_fits 99 = .ok (.if_icmp .ge 42, 3) := dk_162 0 42 (dk_at dksX6_fits_4 8 rfl rfl)
theorem dX6_fits_102 : decode cX6_fits 102 = .ok (.iload 8, 2) := dk_21 8 (dk_at dksX6_fits_4 11 rfl rfl)
theorem dX6_fits_104 : decode cX6_fits 104 = .ok (.ifCond .eq 28, 3) := dk_153 0 28 (dk_at dksX6_fits_4 13 rfl rfl)
theorem dX6_fits_107 : decode cX6_fits 107 = .ok (.aload_n 0, 1) := dk_42 (dk_at dksX6_fits_4 16 rfl rfl)
theorem dX6_fits_108 : decode cX6_fits 108 = .ok (.iconst 0, 1) := dk_3 (dk_at dksX6_fits_4 17 rfl rfl)
theorem dX6_fits_109 : decode cX6_fits 109 = .ok (.iconst 0, 1) := dk_3 (dk_at dksX6_fits_4 18 rfl rfl)
theorem dX6_fits_110 : decode cX6_fits 110 = .ok (.aload_n 0, 1) := dk_42 (dk_at dksX6_fits_4 19 rfl rfl)
theorem dX6_fits_111 : decode cX6_fits 111 = .ok (.getfield 43, 3) := dk_180 0 43 (dk_at dksX6_fits_4 20 rfl rfl)
theorem dX6_fits_114 : decode cX6_fits 114 = .ok (.iload 7, 2) := dk_21 7 (dk_at dksX6_fits_5 0 rfl rfl)
theorem dX6_fits_116 : decode cX6_fits 116 = .ok (.iaload, 1) := dk_46 (dk_at dksX6_fits_5 2 rfl rfl)
theorem dX6_fits_117 : decode cX6_fits 117 = .ok (.iload 10, 2) := dk_21 10 (dk_at dksX6_fits_5 3 rfl rfl)
theorem dX6_fits_119 : decode cX6_fits 119 = .ok (.iconst 1, 1) := dk_4 (dk_at dksX6_fits_5 5 rfl rfl)
theorem dX6_fits_120 : decode cX6_fits 120 = .ok (.invokevirtual 169, 3) := dk_182 0 169 (dk_at dksX6_fits_5 6 rfl rfl)
theorem dX6_fits_123 : decode cX6_fits 123 = .ok (.iload 9, 2) := dk_21 9 (dk_at dksX6_fits_5 9 rfl rfl)
theorem dX6_fits_125 : decode cX6_fits 125 = .ok (.if_icmp .gt 7, 3) := dk_163 0 7 (dk_at dksX6_fits_5 11 rfl rfl)
theorem dX6_fits_128 : decode cX6_fits 128 = .ok (.iconst 1, 1) := dk_4 (dk_at dksX6_fits_5 14 rfl rfl)
theorem dX6_fits_129 : decode cX6_fits 129 = .ok (.goto 4, 3) := dk_167 0 4 (dk_at dksX6_fits_5 15 rfl rfl)
theorem dX6_fits_132 : decode cX6_fits 132 = .ok (.iconst 0, 1) := dk_3 (dk_at dksX6_fits_5 18 rfl rfl)
theorem dX6_fits_133 : decode cX6_fits 133 = .ok (.istore 8, 2) := dk_54 8 (dk_at dksX6_fits_5 19 rfl rfl)
theorem dX6_fits_135 : decode cX6_fits 135 = .ok (.iinc 10 1, 3) := dk_132 10 1 (dk_at dksX6_fits_5 21 rfl rfl)
theorem dX6_fits_138 : decode cX6_fits 138 = .ok (.goto (-42), 3) := dk_167 255 214 (dk_at dksX6_fits_6 0 rfl rfl)
theorem dX6_fits_141 : decode cX6_fits 141 = .ok (.iload 6, 2) := dk_21 6 (dk_at dksX6_fits_6 3 rfl rfl)
theorem dX6_fits_143 : decode cX6_fits 143 = .ok (.iload 8, 2) := dk_21 8 (dk_at dksX6_fits_6 5 rfl rfl)
theorem dX6_fits_145 : decode cX6_fits 145 = .ok (.ifCond .eq 7, 3) := dk_153 0 7 (dk_at dksX6_fits_6 7 rfl rfl)
theorem dX6_fits_148 : decode cX6_fits 148 = .ok (.iconst 1, 1) := dk_4 (dk_at dksX6_fits_6 10 rfl rfl)
theorem dX6_fits_149 : decode cX6_fits 149 = .ok (.goto 4, 3) := dk_167 0 4 (dk_at dksX6_fits_6 11 rfl rfl)
theorem dX6_fits_152 : decode cX6_fits 152 = .ok (.iconst 0, 1) := dk_3 (dk_at dksX6_fits_6 14 rfl rfl)
theorem dX6_fits_153 : decode cX6_fits 153 = .ok (.iadd, 1) := dk_96 (dk_at dksX6_fits_6 15 rfl rfl)
theorem dX6_fits_154 : decode cX6_fits 154 = .ok (.istore 6, 2) := dk_54 6 (dk_at dksX6_fits_6 16 rfl rfl)
theorem dX6_fits_156 : decode cX6_fits 156 = .ok (.iinc 7 1, 3) := dk_132 7 1 (dk_at dksX6_fits_6 18 rfl rfl)
theorem dX6_fits_159 : decode cX6_fits 159 = .ok (.goto (-101), 3) := dk_167 255 155 (dk_at dksX6_fits_6 21 rfl rfl)
theorem dX6_fits_162 : decode cX6_fits 162 = .ok (.iload 6, 2) := dk_21 6 (dk_at dksX6_fits_7 0 rfl rfl)
theorem dX6_fits_164 : decode cX6_fits 164 = .ok (.iload 4, 2) := dk_21 4 (dk_at dksX6_fits_7 2 rfl rfl)
theorem dX6_fits_166 : decode cX6_fits 166 = .ok (.if_icmp .le 8, 3) := dk_164 0 8 (dk_at dksX6_fits_7 4 rfl rfl)
theorem dX6_fits_169 : decode cX6_fits 169 = .ok (.iload 5, 2) := dk_21 5 (dk_at dksX6_fits_7 7 rfl rfl)
theorem dX6_fits_171 : decode cX6_fits 171 = .ok (.goto 4, 3) := dk_167 0 4 (dk_at dksX6_fits_7 9 rfl rfl)
theorem dX6_fits_174 : decode cX6_fits 174 = .ok (.iload_n 3, 1) := dk_29 (dk_at dksX6_fits_7 12 rfl rfl)
theorem dX6_fits_175 : decode cX6_fits 175 = .ok (.istore_n 3, 1) := dk_62 (dk_at dksX6_fits_7 13 rfl rfl)
theorem dX6_fits_176 : decode cX6_fits 176 = .ok (.iload 6, 2) := dk_21 6 (dk_at dksX6_fits_7 14 rfl rfl)
theorem dX6_fits_178 : decode cX6_fits 178 = .ok (.iload 4, 2) := dk_21 4 (dk_at dksX6_fits_7 16 rfl rfl)
theorem dX6_fits_180 : decode cX6_fits 180 = .ok (.if_icmp .le 8, 3) := dk_164 0 8 (dk_at dksX6_fits_7 18 rfl rfl)
theorem dX6_fits_183 : decode cX6_fits 183 = .ok (.iload 6, 2) := dk_21 6 (dk_at dksX6_fits_7 21 rfl rfl)
theorem dX6_fits_185 : decode cX6_fits 185 = .ok (.goto 5, 3) := dk_167 0 5 (dk_at dksX6_fits_8 0 rfl rfl)
theorem dX6_fits_188 : decode cX6_fits 188 = .ok (.iload 4, 2) := dk_21 4 (dk_at dksX6_fits_8 3 rfl rfl)
theorem dX6_fits_190 : decode cX6_fits 190 = .ok (.istore 4, 2) := dk_54 4 (dk_at dksX6_fits_8 5 rfl rfl)
theorem dX6_fits_192 : decode cX6_fits 192 = .ok (.iinc 5 1, 3) := dk_132 5 1 (dk_at dksX6_fits_8 7 rfl rfl)
theorem dX6_fits_195 : decode cX6_fits 195 = .ok (.goto (-158), 3) := dk_167 255 98 (dk_at dksX6_fits_8 10 rfl rfl)
theorem dX6_fits_198 : decode cX6_fits 198 = .ok (.aload_n 0, 1) := dk_42 (dk_at dksX6_fits_8 13 rfl rfl)
theorem dX6_fits_199 : decode cX6_fits 199 = .ok (.getfield 25, 3) := dk_180 0 25 (dk_at dksX6_fits_8 14 rfl rfl)
theorem dX6_fits_202 : decode cX6_fits 202 = .ok (.iconst 0, 1) := dk_3 (dk_at dksX6_fits_8 17 rfl rfl)
theorem dX6_fits_203 : decode cX6_fits 203 = .ok (.iload_n 2, 1) := dk_28 (dk_at dksX6_fits_8 18 rfl rfl)
theorem dX6_fits_204 : decode cX6_fits 204 = .ok (.iastore, 1) := dk_79 (dk_at dksX6_fits_8 19 rfl rfl)
theorem dX6_fits_205 : decode cX6_fits 205 = .ok (.iload_n 1, 1) := dk_27 (dk_at dksX6_fits_8 20 rfl rfl)
theorem dX6_fits_206 : decode cX6_fits 206 = .ok (.ifCond .ne 7, 3) := dk_154 0 7 (dk_at dksX6_fits_8 21 rfl rfl)
theorem dX6_fits_209 : decode cX6_fits 209 = .ok (.iload_n 3, 1) := dk_29 (dk_at dksX6_fits_9 0 rfl rfl)
theorem dX6_fits_210 : decode cX6_fits 210 = .ok (.goto 5, 3) := dk_167 0 5 (dk_at dksX6_fits_9 1 rfl rfl)
theorem dX6_fits_213 : decode cX6_fits 213 = .ok (.iload 4, 2) := dk_21 4 (dk_at dksX6_fits_9 4 rfl rfl)
theorem dX6_fits_215 : decode cX6_fits 215 = .ok (.ireturn, 1) := dk_172 (dk_at dksX6_fits_9 6 rfl rfl)
abbrev cX6_apart : ByteArray := prog_11_method_54_code
def yX6_apart : MethodName := ⟨RX6, "apart", "(IIII)I"⟩
def dkwX6_apart_2 : List UInt8 := [154, 0, 6, 18, 200, 172, 27, 28, 184, 0, 215, 29, 21, 4, 184, 0, 215, 100, 172]
abbrev dktX6_apart_2 : List UInt8 := dkwX6_apart_2 ++ []
def dkwX6_apart_1 : List UInt8 := [29, 133, 9, 20, 0, 204, 184, 0, 70, 153, 0, 16, 21, 4, 133, 9, 20, 0, 204, 184, 0, 70]
abbrev dktX6_apart_1 : List UInt8 := dkwX6_apart_1 ++ dktX6_apart_2
def dkwX6_apart_0 : List UInt8 := [27, 133, 9, 20, 0, 204, 184, 0, 70, 153, 0, 40, 28, 133, 9, 20, 0, 204, 184, 0, 70, 153, 0, 28]
abbrev dktX6_apart_0 : List UInt8 := dkwX6_apart_0 ++ dktX6_apart_1
theorem dksX6_apart_0 : cX6_apart.data.toList.drop 0 = dktX6_apart_0 := by decide +kernel
theorem dksX6_apart_1 : cX6_apart.data.toList.drop 24 = dktX6_apart_1 := dk_seg dksX6_apart_0 24 rfl rfl
theorem dksX6_apart_2 : cX6_apart.data.toList.drop 46 = dktX6_apart_2 := dk_seg dksX6_apart_1 22 rfl rfl
theorem dX6_apart_0 : decode cX6_apart 0 = .ok (.iload_n 1, 1) := dk_27 (dk_at dksX6_apart_0 0 rfl rfl)
theorem dX6_apart_1 : decode cX6_apart 1 = .ok (.i2l, 1) := dk_133 (dk_at dksX6_apart_0 1 rfl rfl)
theorem dX6_apart_2 : decode cX6_apart 2 = .ok (.lconst 0, 1) := dk_9 (dk_at dksX6_apart_0 2 rfl rfl)
theorem dX6_apart_3 : decode cX6_apart 3 = .ok (.ldc2_w 204, 3) := dk_20 0 204 (dk_at dksX6_apart_0 3 rfl rfl)
theorem dX6_apart_6 : decode cX6_apart 6 = .ok (.invokestatic 70, 3) := dk_184 0 70 (dk_at dksX6_apart_0 6 rfl rfl)
theorem dX6_apart_9 : decode cX6_apart 9 = .ok (.ifCond .eq 40, 3) := dk_153 0 40 (dk_at dksX6_apart_0 9 rfl rfl)
theorem dX6_apart_12 : decode cX6_apart 12 = .ok (.iload_n 2, 1) := dk_28 (dk_at dksX6_apart_0 12 rfl rfl)
theorem dX6_apart_13 : decode cX6_apart 13 = .ok (.i2l, 1) := dk_133 (dk_at dksX6_apart_0 13 rfl rfl)
theorem dX6_apart_14 : decode cX6_apart 14 = .ok (.lconst 0, 1) := dk_9 (dk_at dksX6_apart_0 14 rfl rfl)
theorem dX6_apart_15 : decode cX6_apart 15 = .ok (.ldc2_w 204, 3) := dk_20 0 204 (dk_at dksX6_apart_0 15 rfl rfl)
theorem dX6_apart_18 : decode cX6_apart 18 = .ok (.invokestatic 70, 3) := dk_184 0 70 (dk_at dksX6_apart_0 18 rfl rfl)
theorem dX6_apart_21 : decode cX6_apart 21 = .ok (.ifCond .eq 28, 3) := dk_153 0 28 (dk_at dksX6_apart_0 21 rfl rfl)
theorem dX6_apart_24 : decode cX6_apart 24 = .ok (.iload_n 3, 1) := dk_29 (dk_at dksX6_apart_1 0 rfl rfl)
theorem dX6_apart_25 : decode cX6_apart 25 = .ok (.i2l, 1) := dk_133 (dk_at dksX6_apart_1 1 rfl rfl)
theorem dX6_apart_26 : decode cX6_apart 26 = .ok (.lconst 0, 1) := dk_9 (dk_at dksX6_apart_1 2 rfl rfl)
theorem dX6_apart_27 : decode cX6_apart 27 = .ok (.ldc2_w 204, 3) := dk_20 0 204 (dk_at dksX6_apart_1 3 rfl rfl)
theorem dX6_apart_30 : decode cX6_apart 30 = .ok (.invokestatic 70, 3) := dk_184 0 70 (dk_at dksX6_apart_1 6 rfl rfl)
theorem dX6_apart_33 : decode cX6_apart 33 = .ok (.ifCond .eq 16, 3) := dk_153 0 16 (dk_at dksX6_apart_1 9 rfl rfl)
theorem dX6_apart_36 : decode cX6_apart 36 = .ok (.iload 4, 2) := dk_21 4 (dk_at dksX6_apart_1 12 rfl rfl)
theorem dX6_apart_38 : decode cX6_apart 38 = .ok (.i2l, 1) := dk_133 (dk_at dksX6_apart_1 14 rfl rfl)
theorem dX6_apart_39 : decode cX6_apart 39 = .ok (.lconst 0, 1) := dk_9 (dk_at dksX6_apart_1 15 rfl rfl)
theorem dX6_apart_40 : decode cX6_apart 40 = .ok (.ldc2_w 204, 3) := dk_20 0 204 (dk_at dksX6_apart_1 16 rfl rfl)
theorem dX6_apart_43 : decode cX6_apart 43 = .ok (.invokestatic 70, 3) := dk_184 0 70 (dk_at dksX6_apart_1 19 rfl rfl)
theorem dX6_apart_46 : decode cX6_apart 46 = .ok (.ifCond .ne 6, 3) := dk_154 0 6 (dk_at dksX6_apart_2 0 rfl rfl)
theorem dX6_apart_49 : decode cX6_apart 49 = .ok (.ldc 200, 2) := dk_18 200 (dk_at dksX6_apart_2 3 rfl rfl)
theorem dX6_apart_51 : decode cX6_apart 51 = .ok (.ireturn, 1) := dk_172 (dk_at dksX6_apart_2 5 rfl rfl)
theorem dX6_apart_52 : decode cX6_apart 52 = .ok (.iload_n 1, 1) := dk_27 (dk_at dksX6_apart_2 6 rfl rfl)
theorem dX6_apart_53 : decode cX6_apart 53 = .ok (.iload_n 2, 1) := dk_28 (dk_at dksX6_apart_2 7 rfl rfl)
theorem dX6_apart_54 : decode cX6_apart 54 = .ok (.invokestatic 215, 3) := dk_184 0 215 (dk_at dksX6_apart_2 8 rfl rfl)
theorem dX6_apart_57 : decode cX6_apart 57 = .ok (.iload_n 3, 1) := dk_29 (dk_at dksX6_apart_2 11 rfl rfl)
theorem dX6_apart_58 : decode cX6_apart 58 = .ok (.iload 4, 2) := dk_21 4 (dk_at dksX6_apart_2 12 rfl rfl)
theorem dX6_apart_60 : decode cX6_apart 60 = .ok (.invokestatic 215, 3) := dk_184 0 215 (dk_at dksX6_apart_2 14 rfl rfl)
theorem dX6_apart_63 : decode cX6_apart 63 = .ok (.isub, 1) := dk_100 (dk_at dksX6_apart_2 17 rfl rfl)
theorem dX6_apart_64 : decode cX6_apart 64 = .ok (.ireturn, 1) := dk_172 (dk_at dksX6_apart_2 18 rfl rfl)
abbrev cX6_share : ByteArray := prog_11_method_53_code
def yX6_share : MethodName := ⟨RX6, "share", "(II)I"⟩
def dkwX6_share_0 : List UInt8 := [26, 27, 96, 154, 0, 7, 3, 167, 0, 12, 17, 3, 232, 26, 104, 26, 27, 96, 108, 172]
abbrev dktX6_share_0 : List UInt8 := dkwX6_share_0 ++ []
theorem dksX6_share_0 : cX6_share.data.toList.drop 0 = dktX6_share_0 := by decide +kernel
theorem dX6_share_0 : decode cX6_share 0 = .ok (.iload_n 0, 1) := dk_26 (dk_at dksX6_share_0 0 rfl rfl)
theorem dX6_share_1 : decode cX6_share 1 = .ok (.iload_n 1, 1) := dk_27 (dk_at dksX6_share_0 1 rfl rfl)
theorem dX6_share_2 : decode cX6_share 2 = .ok (.iadd, 1) := dk_96 (dk_at dksX6_share_0 2 rfl rfl)
theorem dX6_share_3 : decode cX6_share 3 = .ok (.ifCond .ne 7, 3) := dk_154 0 7 (dk_at dksX6_share_0 3 rfl rfl)
theorem dX6_share_6 : decode cX6_share 6 = .ok (.iconst 0, 1) := dk_3 (dk_at dksX6_share_0 6 rfl rfl)
theorem dX6_share_7 : decode cX6_share 7 = .ok (.goto 12, 3) := dk_167 0 12 (dk_at dksX6_share_0 7 rfl rfl)
theorem dX6_share_10 : decode cX6_share 10 = .ok (.sipush 1000, 3) := dk_17 3 232 (dk_at dksX6_share_0 10 rfl rfl)
theorem dX6_share_13 : decode cX6_share 13 = .ok (.iload_n 0, 1) := dk_26 (dk_at dksX6_share_0 13 rfl rfl)
theorem dX6_share_14 : decode cX6_share 14 = .ok (.imul, 1) := dk_104 (dk_at dksX6_share_0 14 rfl rfl)
theorem dX6_share_15 : decode cX6_share 15 = .ok (.iload_n 0, 1) := dk_26 (dk_at dksX6_share_0 15 rfl rfl)
theorem dX6_share_16 : decode cX6_share 16 = .ok (.iload_n 1, 1) := dk_27 (dk_at dksX6_share_0 16 rfl rfl)
theorem dX6_share_17 : decode cX6_share 17 = .ok (.iadd, 1) := dk_96 (dk_at dksX6_share_0 17 rfl rfl)
theorem dX6_share_18 : decode cX6_share 18 = .ok (.idiv, 1) := dk_108 (dk_at dksX6_share_0 18 rfl rfl)
theorem dX6_share_19 : decode cX6_share 19 = .ok (.ireturn, 1) := dk_172 (dk_at dksX6_share_0 19 rfl rfl)
abbrev cX6_clear : ByteArray := prog_11_method_55_code
def yX6_clear : MethodName := ⟨RX6, "clear", "()I"⟩
def dkwX6_clear_0 : List UInt8 := [42, 180, 0, 163, 42, 180, 0, 166, 96, 60, 42, 3, 181, 0, 163, 42, 3, 181, 0, 166, 27, 172]
abbrev dktX6_clear_0 : List UInt8 := dkwX6_clear_0 ++ []
theorem dksX6_clear_0 : cX6_clear.data.toList.drop 0 = dktX6_clear_0 := by decide +kernel
theorem dX6_clear_0 : decode cX6_clear 0 = .ok (.aload_n 0, 1) := dk_42 (dk_at dksX6_clear_0 0 rfl rfl)
theorem dX6_clear_1 : decode cX6_clear 1 = .ok (.getfield 163, 3) := dk_180 0 163 (dk_at dksX6_clear_0 1 rfl rfl)
theorem dX6_clear_4 : decode cX6_clear 4 = .ok (.aload_n 0, 1) := dk_42 (dk_at dksX6_clear_0 4 rfl rfl)
theorem dX6_clear_5 : decode cX6_clear 5 = .ok (.getfield 166, 3) := dk_180 0 166 (dk_at dksX6_clear_0 5 rfl rfl)
theorem dX6_clear_8 : decode cX6_clear 8 = .ok (.iadd, 1) := dk_96 (dk_at dksX6_clear_0 8 rfl rfl)
theorem dX6_clear_9 : decode cX6_clear 9 = .ok (.istore_n 1, 1) := dk_60 (dk_at dksX6_clear_0 9 rfl rfl)
theorem dX6_clear_10 : decode cX6_clear 10 = .ok (.aload_n 0, 1) := dk_42 (dk_at dksX6_clear_0 10 rfl rfl)
theorem dX6_clear_11 : decode cX6_clear 11 = .ok (.iconst 0, 1) := dk_3 (dk_at dksX6_clear_0 11 rfl rfl)
theorem dX6_clear_12 : decode cX6_clear 12 = .ok (.putfield 163, 3) := dk_181 0 163 (dk_at dksX6_clear_0 12 rfl rfl)
theorem dX6_clear_15 : decode cX6_clear 15 = .ok (.aload_n 0, 1) := dk_42 (dk_at dksX6_clear_0 15 rfl rfl)
theorem dX6_clear_16 : decode cX6_clear 16 = .ok (.iconst 0, 1) := dk_3 (dk_at dksX6_clear_0 16 rfl rfl)
theorem dX6_clear_17 : decode cX6_clear 17 = .ok (.putfield 166, 3) := dk_181 0 166 (dk_at dksX6_clear_0 17 rfl rfl)
theorem dX6_clear_20 : decode cX6_clear 20 = .ok (.iload_n 1, 1) := dk_27 (dk_at dksX6_clear_0 20 rfl rfl)
theorem dX6_clear_21 : decode cX6_clear 21 = .ok (.ireturn, 1) := dk_172 (dk_at dksX6_clear_0 21 rfl rfl)
abbrev cX6_image : ByteArray := prog_11_method_58_code
def yX6_image : MethodName := ⟨RX6, "image", "()I"⟩
def dkwX6_image_7 : List UInt8 := [180, 0, 163, 79, 42, 180, 0, 49, 27, 6, 96, 42, 180, 0, 166, 79, 42, 4, 181, 0, 222, 4, 172]
abbrev dktX6_image_7 : List UInt8 := dkwX6_image_7 ++ []
def dkwX6_image_6 : List UInt8 := [180, 0, 64, 79, 42, 180, 0, 49, 27, 4, 96, 42, 180, 0, 76, 79, 42, 180, 0, 49, 27, 5, 96, 42]
abbrev dktX6_image_6 : List UInt8 := dkwX6_image_6 ++ dktX6_image_7
def dkwX6_image_5 : List UInt8 := [184, 0, 218, 60, 42, 180, 0, 46, 42, 180, 0, 49, 27, 184, 0, 218, 60, 42, 180, 0, 49, 27, 42]
abbrev dktX6_image_5 : List UInt8 := dkwX6_image_5 ++ dktX6_image_6
def dkwX6_image_4 : List UInt8 := [60, 42, 180, 0, 37, 42, 180, 0, 49, 27, 184, 0, 218, 60, 42, 180, 0, 43, 42, 180, 0, 49, 27]
abbrev dktX6_image_4 : List UInt8 := dkwX6_image_4 ++ dktX6_image_5
def dkwX6_image_3 : List UInt8 := [180, 0, 25, 42, 180, 0, 49, 27, 184, 0, 218, 60, 42, 180, 0, 28, 42, 180, 0, 49, 27, 184, 0, 218]
abbrev dktX6_image_3 : List UInt8 := dkwX6_image_3 ++ dktX6_image_4
def dkwX6_image_2 : List UInt8 := [180, 0, 49, 27, 184, 0, 218, 60, 42, 180, 0, 22, 42, 180, 0, 49, 27, 184, 0, 218, 60, 42]
abbrev dktX6_image_2 : List UInt8 := dkwX6_image_2 ++ dktX6_image_3
def dkwX6_image_1 : List UInt8 := [184, 0, 218, 60, 42, 180, 0, 16, 42, 180, 0, 49, 27, 184, 0, 218, 60, 42, 180, 0, 19, 42]
abbrev dktX6_image_1 : List UInt8 := dkwX6_image_1 ++ dktX6_image_2
def dkwX6_image_0 : List UInt8 := [42, 180, 0, 7, 42, 180, 0, 49, 3, 184, 0, 218, 60, 42, 180, 0, 13, 42, 180, 0, 49, 27]
abbrev dktX6_image_0 : List UInt8 := dkwX6_image_0 ++ dktX6_image_1
theorem dksX6_image_0 : cX6_image.data.toList.drop 0 = dktX6_image_0 := by decide +kernel
theorem dksX6_image_1 : cX6_image.data.toList.drop 22 = dktX6_image_1 := dk_seg dksX6_image_0 22 rfl rfl
theorem dksX6_image_2 : cX6_image.data.toList.drop 44 = dktX6_image_2 := dk_seg dksX6_image_1 22 rfl rfl
theorem dksX6_image_3 : cX6_image.data.toList.drop 66 = dktX6_image_3 := dk_seg dksX6_image_2 22 rfl rfl
theorem dksX6_image_4 : cX6_image.data.toList.drop 90 = dktX6_image_4 := dk_seg dksX6_image_3 24 rfl rfl
theorem dksX6_image_5 : cX6_image.data.toList.drop 113 = dktX6_image_5 := dk_seg dksX6_image_4 23 rfl rfl
theorem dksX6_image_6 : cX6_image.data.toList.drop 136 = dktX6_image_6 := dk_seg dksX6_image_5 23 rfl rfl
theorem dksX6_image_7 : cX6_image.data.toList.drop 160 = dktX6_image_7 := dk_seg dksX6_image_6 24 rfl rfl
theorem dX6_image_0 : decode cX6_image 0 = .ok (.aload_n 0, 1) := dk_42 (dk_at dksX6_image_0 0 rfl rfl)
theorem dX6_image_1 : decode cX6_image 1 = .ok (.getfield 7, 3) := dk_180 0 7 (dk_at dksX6_image_0 1 rfl rfl)
theorem dX6_image_4 : decode cX6_image 4 = .ok (.aload_n 0, 1) := dk_42 (dk_at dksX6_image_0 4 rfl rfl)
theorem dX6_image_5 : decode cX6_image 5 = .ok (.getfield 49, 3) := dk_180 0 49 (dk_at dksX6_image_0 5 rfl rfl)
theorem dX6_image_8 : decode cX6_image 8 = .ok (.iconst 0, 1) := dk_3 (dk_at dksX6_image_0 8 rfl rfl)
theorem dX6_image_9 : decode cX6_image 9 = .ok (.invokestatic 218, 3) := dk_184 0 218 (dk_at dksX6_image_0 9 rfl rfl)
theorem dX6_image_12 : decode cX6_image 12 = .ok (.istore_n 1, 1) := dk_60 (dk_at dksX6_image_0 12 rfl rfl)
theorem dX6_image_13 : decode cX6_image 13 = .ok (.aload_n 0, 1) := dk_42 (dk_at dksX6_image_0 13 rfl rfl)
theorem dX6_image_14 : decode cX6_image 14 = .ok (.getfield 13, 3) := dk_180 0 13 (dk_at dksX6_image_0 14 rfl rfl)
theorem dX6_image_17 : decode cX6_image 17 = .ok (.aload_n 0, 1) := dk_42 (dk_at dksX6_image_0 17 rfl rfl)
theorem dX6_image_18 : decode cX6_image 18 = .ok (.getfield 49, 3) := dk_180 0 49 (dk_at dksX6_image_0 18 rfl rfl)
theorem dX6_image_21 : decode cX6_image 21 = .ok (.iload_n 1, 1) := dk_27 (dk_at dksX6_image_0 21 rfl rfl)
theorem dX6_image_22 : decode cX6_image 22 = .ok (.invokestatic 218, 3) := dk_184 0 218 (dk_at dksX6_image_1 0 rfl rfl)
theorem dX6_image_25 : decode cX6_image 25 = .ok (.istore_n 1, 1) := dk_60 (dk_at dksX6_image_1 3 rfl rfl)
theorem dX6_image_26 : decode cX6_image 26 = .ok (.aload_n 0, 1) := dk_42 (dk_at dksX6_image_1 4 rfl rfl)
theorem dX6_image_27 : decode cX6_image 27 = .ok (.getfield 16, 3) := dk_180 0 16 (dk_at dksX6_image_1 5 rfl rfl)
theorem dX6_image_30 : decode cX6_image 30 = .ok (.aload_n 0, 1) := dk_42 (dk_at dksX6_image_1 8 rfl rfl)
theorem dX6_image_31 : decode cX6_image 31 = .ok (.getfield 49, 3) := dk_180 0 49 (dk_at dksX6_image_1 9 rfl rfl)
theorem dX6_image_34 : decode cX6_image 34 = .ok (.iload_n 1, 1) := dk_27 (dk_at dksX6_image_1 12 rfl rfl)
theorem dX6_image_35 : decode cX6_image 35 = .ok (.invokestatic 218, 3) := dk_184 0 218 (dk_at dksX6_image_1 13 rfl rfl)
theorem dX6_image_38 : decode cX6_image 38 = .ok (.istore_n 1, 1) := dk_60 (dk_at dksX6_image_1 16 rfl rfl)
theorem dX6_image_39 : decode cX6_image 39 = .ok (.aload_n 0, 1) := dk_42 (dk_at dksX6_image_1 17 rfl rfl)
theorem dX6_image_40 : decode cX6_image 40 = .ok (.getfield 19, 3) := dk_180 0 19 (dk_at dksX6_image_1 18 rfl rfl)
theorem dX6_image_43 : decode cX6_image 43 = .ok (.aload_n 0, 1) := dk_42 (dk_at dksX6_image_1 21 rfl rfl)
theorem dX6_image_44 : decode cX6_image 44 = .ok (.getfield 49, 3) := dk_180 0 49 (dk_at dksX6_image_2 0 rfl rfl)
theorem dX6_image_47 : decode cX6_image 47 = .ok (.iload_n 1, 1) := dk_27 (dk_at dksX6_image_2 3 rfl rfl)
theorem dX6_image_48 : decode cX6_image 48 = .ok (.invokestatic 218, 3) := dk_184 0 218 (dk_at dksX6_image_2 4 rfl rfl)
theorem dX6_image_51 : decode cX6_image 51 = .ok (.istore_n 1, 1) := dk_60 (dk_at dksX6_image_2 7 rfl rfl)
theorem dX6_image_52 : decode cX6_image 52 = .ok (.aload_n 0, 1) := dk_42 (dk_at dksX6_image_2 8 rfl rfl)
theorem dX6_image_53 : decode cX6_image 53 = .ok (.getfield 22, 3) := dk_180 0 22 (dk_at dksX6_image_2 9 rfl rfl)
theorem dX6_image_56 : decode cX6_image 56 = .ok (.aload_n 0, 1) := dk_42 (dk_at dksX6_image_2 12 rfl rfl)
theorem dX6_image_57 : decode cX6_image 57 = .ok (.getfield 49, 3) := dk_180 0 49 (dk_at dksX6_image_2 13 rfl rfl)
theorem dX6_image_60 : decode cX6_image 60 = .ok (.iload_n 1, 1) := dk_27 (dk_at dksX6_image_2 16 rfl rfl)
theorem dX6_image_61 : decode cX6_image 61 = .ok (.invokestatic 218, 3) := dk_184 0 218 (dk_at dksX6_image_2 17 rfl rfl)
theorem dX6_image_64 : decode cX6_image 64 = .ok (.istore_n 1, 1) := dk_60 (dk_at dksX6_image_2 20 rfl rfl)
theorem dX6_image_65 : decode cX6_image 65 = .ok (.aload_n 0, 1) := dk_42 (dk_at dksX6_image_2 21 rfl rfl)
theorem dX6_image_66 : decode cX6_image 66 = .ok (.getfield 25, 3) := dk_180 0 25 (dk_at dksX6_image_3 0 rfl rfl)
theorem dX6_image_69 : decode cX6_image 69 = .ok (.aload_n 0, 1) := dk_42 (dk_at dksX6_image_3 3 rfl rfl)
theorem dX6_image_70 : decode cX6_image 70 = .ok (.getfield 49, 3) := dk_180 0 49 (dk_at dksX6_image_3 4 rfl rfl)
theorem dX6_image_73 : decode cX6_image 73 = .ok (.iload_n 1, 1) := dk_27 (dk_at dksX6_image_3 7 rfl rfl)
theorem dX6_image_74 : decode cX6_image 74 = .ok (.invokestatic 218, 3) := dk_184 0 218 (dk_at dksX6_image_3 8 rfl rfl)
theorem dX6_image_77 : decode cX6_image 77 = .ok (.istore_n 1, 1) := dk_60 (dk_at dksX6_image_3 11 rfl rfl)
theorem dX6_image_78 : decode cX6_image 78 = .ok (.aload_n 0, 1) := dk_42 (dk_at dksX6_image_3 12 rfl rfl)
theorem dX6_image_79 : decode cX6_image 79 = .ok (.getfield 28, 3) := dk_180 0 28 (dk_at dksX6_image_3 13 rfl rfl)
theorem dX6_image_82 : decode cX6_image 82 = .ok (.aload_n 0, 1) := dk_42 (dk_at dksX6_image_3 16 rfl rfl)
theorem dX6_image_83 : decode cX6_image 83 = .ok (.getfield 49, 3) := dk_180 0 49 (dk_at dksX6_image_3 17 rfl rfl)
theorem dX6_image_86 : decode cX6_image 86 = .ok (.iload_n 1, 1) := dk_27 (dk_at dksX6_image_3 20 rfl rfl)
theorem dX6_image_87 : decode cX6_image 87 = .ok (.invokestatic 218, 3) := dk_184 0 218 (dk_at dksX6_image_3 21 rfl rfl)
theorem dX6_image_90 : decode cX6_image 90 = .ok (.istore_n 1, 1) := dk_60 (dk_at dksX6_image_4 0 rfl rfl)
theorem dX6_image_91 : decode cX6_image 91 = .ok (.aload_n 0, 1) := dk_42 (dk_at dksX6_image_4 1 rfl rfl)
theorem dX6_image_92 : decode cX6_image 92 = .ok (.getfield 37, 3) := dk_180 0 37 (dk_at dksX6_image_4 2 rfl rfl)
theorem dX6_image_95 : decode cX6_image 95 = .ok (.aload_n 0, 1) := dk_42 (dk_at dksX6_image_4 5 rfl rfl)
theorem dX6_image_96 : decode cX6_image 96 = .ok (.getfield 49, 3) := dk_180 0 49 (dk_at dksX6_image_4 6 rfl rfl)
theorem dX6_image_99 : decode cX6_image 99 = .ok (.iload_n 1, 1) := dk_27 (dk_at dksX6_image_4 9 rfl rfl)
theorem dX6_image_100 : decode cX6_image 100 = .ok (.invokestatic 218, 3) := dk_184 0 218 (dk_at dksX6_image_4 10 rfl rfl)
theorem dX6_image_103 : decode cX6_image 103 = .ok (.istore_n 1, 1) := dk_60 (dk_at dksX6_image_4 13 rfl rfl)
theorem dX6_image_104 : decode cX6_image 104 = .ok (.aload_n 0, 1) := dk_42 (dk_at dksX6_image_4 14 rfl rfl)
theorem dX6_image_105 : decode cX6_image 105 = .ok (.getfield 43, 3) := dk_180 0 43 (dk_at dksX6_image_4 15 rfl rfl)
theorem dX6_image_108 : decode cX6_image 108 = .ok (.aload_n 0, 1) := dk_42 (dk_at dksX6_image_4 18 rfl rfl)
theorem dX6_image_109 : decode cX6_image 109 = .ok (.getfield 49, 3) := dk_180 0 49 (dk_at dksX6_image_4 19 rfl rfl)
theorem dX6_image_112 : decode cX6_image 112 = .ok (.iload_n 1, 1) := dk_27 (dk_at dksX6_image_4 22 rfl rfl)
theorem dX6_image_113 : decode cX6_image 113 = .ok (.invokestatic 218, 3) := dk_184 0 218 (dk_at dksX6_image_5 0 rfl rfl)
theorem dX6_image_116 : decode cX6_image 116 = .ok (.istore_n 1, 1) := dk_60 (dk_at dksX6_image_5 3 rfl rfl)
theorem dX6_image_117 : decode cX6_image 117 = .ok (.aload_n 0, 1) := dk_42 (dk_at dksX6_image_5 4 rfl rfl)
theorem dX6_image_118 : decode cX6_image 118 = .ok (.getfield 46, 3) := dk_180 0 46 (dk_at dksX6_image_5 5 rfl rfl)
theorem dX6_image_121 : decode cX6_image 121 = .ok (.aload_n 0, 1) := dk_42 (dk_at dksX6_image_5 8 rfl rfl)
theorem dX6_image_122 : decode cX6_image 122 = .ok (.getfield 49, 3) := dk_180 0 49 (dk_at dksX6_image_5 9 rfl rfl)
theorem dX6_image_125 : decode cX6_image 125 = .ok (.iload_n 1, 1) := dk_27 (dk_at dksX6_image_5 12 rfl rfl)
theorem dX6_image_126 : decode cX6_image 126 = .ok (.invokestatic 218, 3) := dk_184 0 218 (dk_at dksX6_image_5 13 rfl rfl)
theorem dX6_image_129 : decode cX6_image 129 = .ok (.istore_n 1, 1) := dk_60 (dk_at dksX6_image_5 16 rfl rfl)
theorem dX6_image_130 : decode cX6_image 130 = .ok (.aload_n 0, 1) := dk_42 (dk_at dksX6_image_5 17 rfl rfl)
theorem dX6_image_131 : decode cX6_image 131 = .ok (.getfield 49, 3) := dk_180 0 49 (dk_at dksX6_image_5 18 rfl rfl)
theorem dX6_image_134 : decode cX6_image 134 = .ok (.iload_n 1, 1) := dk_27 (dk_at dksX6_image_5 21 rfl rfl)
theorem dX6_image_135 : decode cX6_image 135 = .ok (.aload_n 0, 1) := dk_42 (dk_at dksX6_image_5 22 rfl rfl)
theorem dX6_image_136 : decode cX6_image 136 = .ok (.getfield 64, 3) := dk_180 0 64 (dk_at dksX6_image_6 0 rfl rfl)
theorem dX6_image_139 : decode cX6_image 139 = .ok (.iastore, 1) := dk_79 (dk_at dksX6_image_6 3 rfl rfl)
theorem dX6_image_140 : decode cX6_image 140 = .ok (.aload_n 0, 1) := dk_42 (dk_at dksX6_image_6 4 rfl rfl)
theorem dX6_image_141 : decode cX6_image 141 = .ok (.getfield 49, 3) := dk_180 0 49 (dk_at dksX6_image_6 5 rfl rfl)
theorem dX6_image_144 : decode cX6_image 144 = .ok (.iload_n 1, 1) := dk_27 (dk_at dksX6_image_6 8 rfl rfl)
theorem dX6_image_145 : decode cX6_image 145 = .ok (.iconst 1, 1) := dk_4 (dk_at dksX6_image_6 9 rfl rfl)
theorem dX6_image_146 : decode cX6_image 146 = .ok (.iadd, 1) := dk_96 (dk_at dksX6_image_6 10 rfl rfl)
theorem dX6_image_147 : decode cX6_image 147 = .ok (.aload_n 0, 1) := dk_42 (dk_at dksX6_image_6 11 rfl rfl)
theorem dX6_image_148 : decode cX6_image 148 = .ok (.getfield 76, 3) := dk_180 0 76 (dk_at dksX6_image_6 12 rfl rfl)
theorem dX6_image_151 : decode cX6_image 151 = .ok (.iastore, 1) := dk_79 (dk_at dksX6_image_6 15 rfl rfl)
theorem dX6_image_152 : decode cX6_image 152 = .ok (.aload_n 0, 1) := dk_42 (dk_at dksX6_image_6 16 rfl rfl)
theorem dX6_image_153 : decode cX6_image 153 = .ok (.getfield 49, 3) := dk_180 0 49 (dk_at dksX6_image_6 17 rfl rfl)
theorem dX6_image_156 : decode cX6_image 156 = .ok (.iload_n 1, 1) := dk_27 (dk_at dksX6_image_6 20 rfl rfl)
theorem dX6_image_157 : decode cX6_image 157 = .ok (.iconst 2, 1) := dk_5 (dk_at dksX6_image_6 21 rfl rfl)
theorem dX6_image_158 : decode cX6_image 158 = .ok (.iadd, 1) := dk_96 (dk_at dksX6_image_6 22 rfl rfl)
theorem dX6_image_159 : decode cX6_image 159 = .ok (.aload_n 0, 1) := dk_42 (dk_at dksX6_image_6 23 rfl rfl)
theorem dX6_image_160 : decode cX6_image 160 = .ok (.getfield 163, 3) := dk_180 0 163 (dk_at dksX6_image_7 0 rfl rfl)
theorem dX6_image_163 : decode cX6_image 163 = .ok (.iastore, 1) := dk_79 (dk_at dksX6_image_7 3 rfl rfl)
theorem dX6_image_164 : decode cX6_image 164 = .ok (.aload_n 0, 1) := dk_42 (dk_at dksX6_image_7 4 rfl rfl)
theorem dX6_image_165 : decode cX6_image 165 = .ok (.getfield 49, 3) := dk_180 0 49 (dk_at dksX6_image_7 5 rfl rfl)
theorem dX6_image_168 : decode cX6_image 168 = .ok (.iload_n 1, 1) := dk_27 (dk_at dksX6_image_7 8 rfl rfl)
theorem dX6_image_169 : decode cX6_image 169 = .ok (.iconst 3, 1) := dk_6 (dk_at dksX6_image_7 9 rfl rfl)
theorem dX6_image_170 : decode cX6_image 170 = .ok (.iadd, 1) := dk_96 (dk_at dksX6_image_7 10 rfl rfl)
theorem dX6_image_171 : decode cX6_image 171 = .ok (.aload_n 0, 1) := dk_42 (dk_at dksX6_image_7 11 rfl rfl)
theorem dX6_image_172 : decode cX6_image 172 = .ok (.getfield 166, 3) := dk_180 0 166 (dk_at dksX6_image_7 12 rfl rfl)
theorem dX6_image_175 : decode cX6_image 175 = .ok (.iastore, 1) := dk_79 (dk_at dksX6_image_7 15 rfl rfl)
theorem dX6_image_176 : decode cX6_image 176 = .ok (.aload_n 0, 1) := dk_42 (dk_at dksX6_image_7 16 rfl rfl)
theorem dX6_image_177 : decode cX6_image 177 = .ok (.iconst 1, 1) := dk_4 (dk_at dksX6_image_7 17 rfl rfl)
theorem dX6_image_178 : decode cX6_image 178 = .ok (.putfield 222, 3) := dk_181 0 222 (dk_at dksX6_image_7 18 rfl rfl)
theorem dX6_image_181 : decode cX6_image 181 = .ok (.iconst 1, 1) := dk_4 (dk_at dksX6_image_7 21 rfl rfl)
theorem dX6_image_182 : decode cX6_image 182 = .ok (.ireturn, 1) := dk_172 (dk_at dksX6_image_7 22 rfl rfl)
abbrev cX6_saves : ByteArray := prog_11_method_56_code
def yX6_saves : MethodName := ⟨RX6, "saves", "([I[II)I"⟩
def dkwX6_saves_1 : List UInt8 := [190, 96, 172]
abbrev dktX6_saves_1 : List UInt8 := dkwX6_saves_1 ++ []
def dkwX6_saves_0 : List UInt8 := [3, 62, 29, 42, 190, 162, 0, 17, 43, 28, 29, 96, 42, 29, 46, 79, 132, 3, 1, 167, 255, 239, 28, 42]
abbrev dktX6_saves_0 : List UInt8 := dkwX6_saves_0 ++ dktX6_saves_1
theorem dksX6_saves_0 : cX6_saves.data.toList.drop 0 = dktX6_saves_0 := by decide +kernel
theorem dksX6_saves_1 : cX6_saves.data.toList.drop 24 = dktX6_saves_1 := dk_seg dksX6_saves_0 24 rfl rfl
theorem dX6_saves_0 : decode cX6_saves 0 = .ok (.iconst 0, 1) := dk_3 (dk_at dksX6_saves_0 0 rfl rfl)
theorem dX6_saves_1 : decode cX6_saves 1 = .ok (.istore_n 3, 1) := dk_62 (dk_at dksX6_saves_0 1 rfl rfl)
theorem dX6_saves_2 : decode cX6_saves 2 = .ok (.iload_n 3, 1) := dk_29 (dk_at dksX6_saves_0 2 rfl rfl)
theorem dX6_saves_3 : decode cX6_saves 3 = .ok (.aload_n 0, 1) := dk_42 (dk_at dksX6_saves_0 3 rfl rfl)
theorem dX6_saves_4 : decode cX6_saves 4 = .ok (.arraylength, 1) := dk_190 (dk_at dksX6_saves_0 4 rfl rfl)
theorem dX6_saves_5 : decode cX6_saves 5 = .ok (.if_icmp .ge 17, 3) := dk_162 0 17 (dk_at dksX6_saves_0 5 rfl rfl)
theorem dX6_saves_8 : decode cX6_saves 8 = .ok (.aload_n 1, 1) := dk_43 (dk_at dksX6_saves_0 8 rfl rfl)
theorem dX6_saves_9 : decode cX6_saves 9 = .ok (.iload_n 2, 1) := dk_28 (dk_at dksX6_saves_0 9 rfl rfl)
theorem dX6_saves_10 : decode cX6_saves 10 = .ok (.iload_n 3, 1) := dk_29 (dk_at dksX6_saves_0 10 rfl rfl)
theorem dX6_saves_11 : decode cX6_saves 11 = .ok (.iadd, 1) := dk_96 (dk_at dksX6_saves_0 11 rfl rfl)
theorem dX6_saves_12 : decode cX6_saves 12 = .ok (.aload_n 0, 1) := dk_42 (dk_at dksX6_saves_0 12 rfl rfl)
theorem dX6_saves_13 : decode cX6_saves 13 = .ok (.iload_n 3, 1) := dk_29 (dk_at dksX6_saves_0 13 rfl rfl)
theorem dX6_saves_14 : decode cX6_saves 14 = .ok (.iaload, 1) := dk_46 (dk_at dksX6_saves_0 14 rfl rfl)
theorem dX6_saves_15 : decode cX6_saves 15 = .ok (.iastore, 1) := dk_79 (dk_at dksX6_saves_0 15 rfl rfl)
theorem dX6_saves_16 : decode cX6_saves 16 = .ok (.iinc 3 1, 3) := dk_132 3 1 (dk_at dksX6_saves_0 16 rfl rfl)
theorem dX6_saves_19 : decode cX6_saves 19 = .ok (.goto (-17), 3) := dk_167 255 239 (dk_at dksX6_saves_0 19 rfl rfl)
theorem dX6_saves_22 : decode cX6_saves 22 = .ok (.iload_n 2, 1) := dk_28 (dk_at dksX6_saves_0 22 rfl rfl)
theorem dX6_saves_23 : decode cX6_saves 23 = .ok (.aload_n 0, 1) := dk_42 (dk_at dksX6_saves_0 23 rfl rfl)
theorem dX6_saves_24 : decode cX6_saves 24 = .ok (.arraylength, 1) := dk_190 (dk_at dksX6_saves_1 0 rfl rfl)
theorem dX6_saves_25 : decode cX6_saves 25 = .ok (.iadd, 1) := dk_96 (dk_at dksX6_saves_1 1 rfl rfl)
theorem dX6_saves_26 : decode cX6_saves 26 = .ok (.ireturn, 1) := dk_172 (dk_at dksX6_saves_1 2 rfl rfl)
abbrev cX6_restore : ByteArray := prog_11_method_59_code
def yX6_restore : MethodName := ⟨RX6, "restore", "()I"⟩
def dkwX6_restore_7 : List UInt8 := [180, 0, 49, 27, 5, 96, 46, 181, 0, 163, 42, 42, 180, 0, 49, 27, 6, 96, 46, 181, 0, 166, 4, 172]
abbrev dktX6_restore_7 : List UInt8 := dkwX6_restore_7 ++ []
def dkwX6_restore_6 : List UInt8 := [180, 0, 49, 27, 46, 181, 0, 64, 42, 42, 180, 0, 49, 27, 4, 96, 46, 181, 0, 76, 42, 42]
abbrev dktX6_restore_6 : List UInt8 := dkwX6_restore_6 ++ dktX6_restore_7
def dkwX6_restore_5 : List UInt8 := [27, 42, 180, 0, 43, 184, 0, 225, 60, 42, 180, 0, 49, 27, 42, 180, 0, 46, 184, 0, 225, 60, 42, 42]
abbrev dktX6_restore_5 : List UInt8 := dkwX6_restore_5 ++ dktX6_restore_6
def dkwX6_restore_4 : List UInt8 := [180, 0, 28, 184, 0, 225, 60, 42, 180, 0, 49, 27, 42, 180, 0, 37, 184, 0, 225, 60, 42, 180, 0, 49]
abbrev dktX6_restore_4 : List UInt8 := dkwX6_restore_4 ++ dktX6_restore_5
def dkwX6_restore_3 : List UInt8 := [184, 0, 225, 60, 42, 180, 0, 49, 27, 42, 180, 0, 25, 184, 0, 225, 60, 42, 180, 0, 49, 27, 42]
abbrev dktX6_restore_3 : List UInt8 := dkwX6_restore_3 ++ dktX6_restore_4
def dkwX6_restore_2 : List UInt8 := [60, 42, 180, 0, 49, 27, 42, 180, 0, 19, 184, 0, 225, 60, 42, 180, 0, 49, 27, 42, 180, 0, 22]
abbrev dktX6_restore_2 : List UInt8 := dkwX6_restore_2 ++ dktX6_restore_3
def dkwX6_restore_1 : List UInt8 := [180, 0, 49, 27, 42, 180, 0, 13, 184, 0, 225, 60, 42, 180, 0, 49, 27, 42, 180, 0, 16, 184, 0, 225]
abbrev dktX6_restore_1 : List UInt8 := dkwX6_restore_1 ++ dktX6_restore_2
def dkwX6_restore_0 : List UInt8 := [42, 180, 0, 222, 154, 0, 6, 16, 252, 172, 42, 180, 0, 49, 3, 42, 180, 0, 7, 184, 0, 225, 60, 42]
abbrev dktX6_restore_0 : List UInt8 := dkwX6_restore_0 ++ dktX6_restore_1
theorem dksX6_restore_0 : cX6_restore.data.toList.drop 0 = dktX6_restore_0 := by decide +kernel
theorem dksX6_restore_1 : cX6_restore.data.toList.drop 24 = dktX6_restore_1 := dk_seg dksX6_restore_0 24 rfl rfl
theorem dksX6_restore_2 : cX6_restore.data.toList.drop 48 = dktX6_restore_2 := dk_seg dksX6_restore_1 24 rfl rfl
theorem dksX6_restore_3 : cX6_restore.data.toList.drop 71 = dktX6_restore_3 := dk_seg dksX6_restore_2 23 rfl rfl
theorem dksX6_restore_4 : cX6_restore.data.toList.drop 94 = dktX6_restore_4 := dk_seg dksX6_restore_3 23 rfl rfl
theorem dksX6_restore_5 : cX6_restore.data.toList.drop 118 = dktX6_restore_5 := dk_seg dksX6_restore_4 24 rfl rfl
theorem dksX6_restore_6 : cX6_restore.data.toList.drop 142 = dktX6_restore_6 := dk_seg dksX6_restore_5 24 rfl rfl
theorem dksX6_restore_7 : cX6_restore.data.toList.drop 164 = dktX6_restore_7 := dk_seg dksX6_restore_6 22 rfl rfl
theorem dX6_restore_0 : decode cX6_restore 0 = .ok (.aload_n 0, 1) := dk_42 (dk_at dksX6_restore_0 0 rfl rfl)
theorem dX6_restore_1 : decode cX6_restore 1 = .ok (.getfield 222, 3) := dk_180 0 222 (dk_at dksX6_restore_0 1 rfl rfl)
theorem dX6_restore_4 : decode cX6_restore 4 = .ok (.ifCond .ne 6, 3) := dk_154 0 6 (dk_at dksX6_restore_0 4 rfl rfl)
theorem dX6_restore_7 : decode cX6_restore 7 = .ok (.bipush (-4), 2) := dk_16 252 (dk_at dksX6_restore_0 7 rfl rfl)
theorem dX6_restore_9 : decode cX6_restore 9 = .ok (.ireturn, 1) := dk_172 (dk_at dksX6_restore_0 9 rfl rfl)
theorem dX6_restore_10 : decode cX6_restore 10 = .ok (.aload_n 0, 1) := dk_42 (dk_at dksX6_restore_0 10 rfl rfl)
theorem dX6_restore_11 : decode cX6_restore 11 = .ok (.getfield 49, 3) := dk_180 0 49 (dk_at dksX6_restore_0 11 rfl rfl)
theorem dX6_restore_14 : decode cX6_restore 14 = .ok (.iconst 0, 1) := dk_3 (dk_at dksX6_restore_0 14 rfl rfl)
theorem dX6_restore_15 : decode cX6_restore 15 = .ok (.aload_n 0, 1) := dk_42 (dk_at dksX6_restore_0 15 rfl rfl)
theorem dX6_restore_16 : decode cX6_restore 16 = .ok (.getfield 7, 3) := dk_180 0 7 (dk_at dksX6_restore_0 16 rfl rfl)
theorem dX6_restore_19 : decode cX6_restore 19 = .ok (.invokestatic 225, 3) := dk_184 0 225 (dk_at dksX6_restore_0 19 rfl rfl)
theorem dX6_restore_22 : decode cX6_restore 22 = .ok (.istore_n 1, 1) := dk_60 (dk_at dksX6_restore_0 22 rfl rfl)
theorem dX6_restore_23 : decode cX6_restore 23 = .ok (.aload_n 0, 1) := dk_42 (dk_at dksX6_restore_0 23 rfl rfl)
theorem dX6_restore_24 : decode cX6_restore 24 = .ok (.getfield 49, 3) := dk_180 0 49 (dk_at dksX6_restore_1 0 rfl rfl)
theorem dX6_restore_27 : decode cX6_restore 27 = .ok (.iload_n 1, 1) := dk_27 (dk_at dksX6_restore_1 3 rfl rfl)
theorem dX6_restore_28 : decode cX6_restore 28 = .ok (.aload_n 0, 1) := dk_42 (dk_at dksX6_restore_1 4 rfl rfl)
theorem dX6_restore_29 : decode cX6_restore 29 = .ok (.getfield 13, 3) := dk_180 0 13 (dk_at dksX6_restore_1 5 rfl rfl)
theorem dX6_restore_32 : decode cX6_restore 32 = .ok (.invokestatic 225, 3) := dk_184 0 225 (dk_at dksX6_restore_1 8 rfl rfl)
theorem dX6_restore_35 : decode cX6_restore 35 = .ok (.istore_n 1, 1) := dk_60 (dk_at dksX6_restore_1 11 rfl rfl)
theorem dX6_restore_36 : decode cX6_restore 36 = .ok (.aload_n 0, 1) := dk_42 (dk_at dksX6_restore_1 12 rfl rfl)
theorem dX6_restore_37 : decode cX6_restore 37 = .ok (.getfield 49, 3) := dk_180 0 49 (dk_at dksX6_restore_1 13 rfl rfl)
theorem dX6_restore_40 : decode cX6_restore 40 = .ok (.iload_n 1, 1) := dk_27 (dk_at dksX6_restore_1 16 rfl rfl)
theorem dX6_restore_41 : decode cX6_restore 41 = .ok (.aload_n 0, 1) := dk_42 (dk_at dksX6_restore_1 17 rfl rfl)
theorem dX6_restore_42 : decode cX6_restore 42 = .ok (.getfield 16, 3) := dk_180 0 16 (dk_at dksX6_restore_1 18 rfl rfl)
theorem dX6_restore_45 : decode cX6_restore 45 = .ok (.invokestatic 225, 3) := dk_184 0 225 (dk_at dksX6_restore_1 21 rfl rfl)
theorem dX6_restore_48 : decode cX6_restore 48 = .ok (.istore_n 1, 1) := dk_60 (dk_at dksX6_restore_2 0 rfl rfl)
theorem dX6_restore_49 : decode cX6_restore 49 = .ok (.aload_n 0, 1) := dk_42 (dk_at dksX6_restore_2 1 rfl rfl)
theorem dX6_restore_50 : decode cX6_restore 50 = .ok (.getfield 49, 3) := dk_180 0 49 (dk_at dksX6_restore_2 2 rfl rfl)
theorem dX6_restore_53 : decode cX6_restore 53 = .ok (.iload_n 1, 1) := dk_27 (dk_at dksX6_restore_2 5 rfl rfl)
theorem dX6_restore_54 : decode cX6_restore 54 = .ok (.aload_n 0, 1) := dk_42 (dk_at dksX6_restore_2 6 rfl rfl)
theorem dX6_restore_55 : decode cX6_restore 55 = .ok (.getfield 19, 3) := dk_180 0 19 (dk_at dksX6_restore_2 7 rfl rfl)
theorem dX6_restore_58 : decode cX6_restore 58 = .ok (.invokestatic 225, 3) := dk_184 0 225 (dk_at dksX6_restore_2 10 rfl rfl)
theorem dX6_restore_61 : decode cX6_restore 61 = .ok (.istore_n 1, 1) := dk_60 (dk_at dksX6_restore_2 13 rfl rfl)
theorem dX6_restore_62 : decode cX6_restore 62 = .ok (.aload_n 0, 1) := dk_42 (dk_at dksX6_restore_2 14 rfl rfl)
theorem dX6_restore_63 : decode cX6_restore 63 = .ok (.getfield 49, 3) := dk_180 0 49 (dk_at dksX6_restore_2 15 rfl rfl)
theorem dX6_restore_66 : decode cX6_restore 66 = .ok (.iload_n 1, 1) := dk_27 (dk_at dksX6_restore_2 18 rfl rfl)
theorem dX6_restore_67 : decode cX6_restore 67 = .ok (.aload_n 0, 1) := dk_42 (dk_at dksX6_restore_2 19 rfl rfl)
theorem dX6_restore_68 : decode cX6_restore 68 = .ok (.getfield 22, 3) := dk_180 0 22 (dk_at dksX6_restore_2 20 rfl rfl)
theorem dX6_restore_71 : decode cX6_restore 71 = .ok (.invokestatic 225, 3) := dk_184 0 225 (dk_at dksX6_restore_3 0 rfl rfl)
theorem dX6_restore_74 : decode cX6_restore 74 = .ok (.istore_n 1, 1) := dk_60 (dk_at dksX6_restore_3 3 rfl rfl)
theorem dX6_restore_75 : decode cX6_restore 75 = .ok (.aload_n 0, 1) := dk_42 (dk_at dksX6_restore_3 4 rfl rfl)
theorem dX6_restore_76 : decode cX6_restore 76 = .ok (.getfield 49, 3) := dk_180 0 49 (dk_at dksX6_restore_3 5 rfl rfl)
theorem dX6_restore_79 : decode cX6_restore 79 = .ok (.iload_n 1, 1) := dk_27 (dk_at dksX6_restore_3 8 rfl rfl)
theorem dX6_restore_80 : decode cX6_restore 80 = .ok (.aload_n 0, 1) := dk_42 (dk_at dksX6_restore_3 9 rfl rfl)
theorem dX6_restore_81 : decode cX6_restore 81 = .ok (.getfield 25, 3) := dk_180 0 25 (dk_at dksX6_restore_3 10 rfl rfl)
theorem dX6_restore_84 : decode cX6_restore 84 = .ok (.invokestatic 225, 3) := dk_184 0 225 (dk_at dksX6_restore_3 13 rfl rfl)
theorem dX6_restore_87 : decode cX6_restore 87 = .ok (.istore_n 1, 1) := dk_60 (dk_at dksX6_restore_3 16 rfl rfl)
theorem dX6_restore_88 : decode cX6_restore 88 = .ok (.aload_n 0, 1) := dk_42 (dk_at dksX6_restore_3 17 rfl rfl)
theorem dX6_restore_89 : decode cX6_restore 89 = .ok (.getfield 49, 3) := dk_180 0 49 (dk_at dksX6_restore_3 18 rfl rfl)
theorem dX6_restore_92 : decode cX6_restore 92 = .ok (.iload_n 1, 1) := dk_27 (dk_at dksX6_restore_3 21 rfl rfl)
theorem dX6_restore_93 : decode cX6_restore 93 = .ok (.aload_n 0, 1) := dk_42 (dk_at dksX6_restore_3 22 rfl rfl)
theorem dX6_restore_94 : decode cX6_restore 94 = .ok (.getfield 28, 3) := dk_180 0 28 (dk_at dksX6_restore_4 0 rfl rfl)
theorem dX6_restore_97 : decode cX6_restore 97 = .ok (.invokestatic 225, 3) := dk_184 0 225 (dk_at dksX6_restore_4 3 rfl rfl)
theorem dX6_restore_100 : decode cX6_restore 100 = .ok (.istore_n 1, 1) := dk_60 (dk_at dksX6_restore_4 6 rfl rfl)
theorem dX6_restore_101 : decode cX6_restore 101 = .ok (.aload_n 0, 1) := dk_42 (dk_at dksX6_restore_4 7 rfl rfl)
theorem dX6_restore_102 : decode cX6_restore 102 = .ok (.getfield 49, 3) := dk_180 0 49 (dk_at dksX6_restore_4 8 rfl rfl)
theorem dX6_restore_105 : decode cX6_restore 105 = .ok (.iload_n 1, 1) := dk_27 (dk_at dksX6_restore_4 11 rfl rfl)
theorem dX6_restore_106 : decode cX6_restore 106 = .ok (.aload_n 0, 1) := dk_42 (dk_at dksX6_restore_4 12 rfl rfl)
theorem dX6_restore_107 : decode cX6_restore 107 = .ok (.getfield 37, 3) := dk_180 0 37 (dk_at dksX6_restore_4 13 rfl rfl)
theorem dX6_restore_110 : decode cX6_restore 110 = .ok (.invokestatic 225, 3) := dk_184 0 225 (dk_at dksX6_restore_4 16 rfl rfl)
theorem dX6_restore_113 : decode cX6_restore 113 = .ok (.istore_n 1, 1) := dk_60 (dk_at dksX6_restore_4 19 rfl rfl)
theorem dX6_restore_114 : decode cX6_restore 114 = .ok (.aload_n 0, 1) := dk_42 (dk_at dksX6_restore_4 20 rfl rfl)
theorem dX6_restore_115 : decode cX6_restore 115 = .ok (.getfield 49, 3) := dk_180 0 49 (dk_at dksX6_restore_4 21 rfl rfl)
theorem dX6_restore_118 : decode cX6_restore 118 = .ok (.iload_n 1, 1) := dk_27 (dk_at dksX6_restore_5 0 rfl rfl)
theorem dX6_restore_119 : decode cX6_restore 119 = .ok (.aload_n 0, 1) := dk_42 (dk_at dksX6_restore_5 1 rfl rfl)
theorem dX6_restore_120 : decode cX6_restore 120 = .ok (.getfield 43, 3) := dk_180 0 43 (dk_at dksX6_restore_5 2 rfl rfl)
theorem dX6_restore_123 : decode cX6_restore 123 = .ok (.invokestatic 225, 3) := dk_184 0 225 (dk_at dksX6_restore_5 5 rfl rfl)
theorem dX6_restore_126 : decode cX6_restore 126 = .ok (.istore_n 1, 1) := dk_60 (dk_at dksX6_restore_5 8 rfl rfl)
theorem dX6_restore_127 : decode cX6_restore 127 = .ok (.aload_n 0, 1) := dk_42 (dk_at dksX6_restore_5 9 rfl rfl)
theorem dX6_restore_128 : decode cX6_restore 128 = .ok (.getfield 49, 3) := dk_180 0 49 (dk_at dksX6_restore_5 10 rfl rfl)
theorem dX6_restore_131 : decode cX6_restore 131 = .ok (.iload_n 1, 1) := dk_27 (dk_at dksX6_restore_5 13 rfl rfl)
theorem dX6_restore_132 : decode cX6_restore 132 = .ok (.aload_n 0, 1) := dk_42 (dk_at dksX6_restore_5 14 rfl rfl)
theorem dX6_restore_133 : decode cX6_restore 133 = .ok (.getfield 46, 3) := dk_180 0 46 (dk_at dksX6_restore_5 15 rfl rfl)
theorem dX6_restore_136 : decode cX6_restore 136 = .ok (.invokestatic 225, 3) := dk_184 0 225 (dk_at dksX6_restore_5 18 rfl rfl)
theorem dX6_restore_139 : decode cX6_restore 139 = .ok (.istore_n 1, 1) := dk_60 (dk_at dksX6_restore_5 21 rfl rfl)
theorem dX6_restore_140 : decode cX6_restore 140 = .ok (.aload_n 0, 1) := dk_42 (dk_at dksX6_restore_5 22 rfl rfl)
theorem dX6_restore_141 : decode cX6_restore 141 = .ok (.aload_n 0, 1) := dk_42 (dk_at dksX6_restore_5 23 rfl rfl)
theorem dX6_restore_142 : decode cX6_restore 142 = .ok (.getfield 49, 3) := dk_180 0 49 (dk_at dksX6_restore_6 0 rfl rfl)
theorem dX6_restore_145 : decode cX6_restore 145 = .ok (.iload_n 1, 1) := dk_27 (dk_at dksX6_restore_6 3 rfl rfl)
theorem dX6_restore_146 : decode cX6_restore 146 = .ok (.iaload, 1) := dk_46 (dk_at dksX6_restore_6 4 rfl rfl)
theorem dX6_restore_147 : decode cX6_restore 147 = .ok (.putfield 64, 3) := dk_181 0 64 (dk_at dksX6_restore_6 5 rfl rfl)
theorem dX6_restore_150 : decode cX6_restore 150 = .ok (.aload_n 0, 1) := dk_42 (dk_at dksX6_restore_6 8 rfl rfl)
theorem dX6_restore_151 : decode cX6_restore 151 = .ok (.aload_n 0, 1) := dk_42 (dk_at dksX6_restore_6 9 rfl rfl)
theorem dX6_restore_152 : decode cX6_restore 152 = .ok (.getfield 49, 3) := dk_180 0 49 (dk_at dksX6_restore_6 10 rfl rfl)
theorem dX6_restore_155 : decode cX6_restore 155 = .ok (.iload_n 1, 1) := dk_27 (dk_at dksX6_restore_6 13 rfl rfl)
theorem dX6_restore_156 : decode cX6_restore 156 = .ok (.iconst 1, 1) := dk_4 (dk_at dksX6_restore_6 14 rfl rfl)
theorem dX6_restore_157 : decode cX6_restore 157 = .ok (.iadd, 1) := dk_96 (dk_at dksX6_restore_6 15 rfl rfl)
theorem dX6_restore_158 : decode cX6_restore 158 = .ok (.iaload, 1) := dk_46 (dk_at dksX6_restore_6 16 rfl rfl)
theorem dX6_restore_159 : decode cX6_restore 159 = .ok (.putfield 76, 3) := dk_181 0 76 (dk_at dksX6_restore_6 17 rfl rfl)
theorem dX6_restore_162 : decode cX6_restore 162 = .ok (.aload_n 0, 1) := dk_42 (dk_at dksX6_restore_6 20 rfl rfl)
theorem dX6_restore_163 : decode cX6_restore 163 = .ok (.aload_n 0, 1) := dk_42 (dk_at dksX6_restore_6 21 rfl rfl)
theorem dX6_restore_164 : decode cX6_restore 164 = .ok (.getfield 49, 3) := dk_180 0 49 (dk_at dksX6_restore_7 0 rfl rfl)
theorem dX6_restore_167 : decode cX6_restore 167 = .ok (.iload_n 1, 1) := dk_27 (dk_at dksX6_restore_7 3 rfl rfl)
theorem dX6_restore_168 : decode cX6_restore 168 = .ok (.iconst 2, 1) := dk_5 (dk_at dksX6_restore_7 4 rfl rfl)
theorem dX6_restore_169 : decode cX6_restore 169 = .ok (.iadd, 1) := dk_96 (dk_at dksX6_restore_7 5 rfl rfl)
theorem dX6_restore_170 : decode cX6_restore 170 = .ok (.iaload, 1) := dk_46 (dk_at dksX6_restore_7 6 rfl rfl)
theorem dX6_restore_171 : decode cX6_restore 171 = .ok (.putfield 163, 3) := dk_181 0 163 (dk_at dksX6_restore_7 7 rfl rfl)
theorem dX6_restore_174 : decode cX6_restore 174 = .ok (.aload_n 0, 1) := dk_42 (dk_at dksX6_restore_7 10 rfl rfl)
theorem dX6_restore_175 : decode cX6_restore 175 = .ok (.aload_n 0, 1) := dk_42 (dk_at dksX6_restore_7 11 rfl rfl)
theorem dX6_restore_176 : decode cX6_restore 176 = .ok (.getfield 49, 3) := dk_180 0 49 (dk_at dksX6_restore_7 12 rfl rfl)
theorem dX6_restore_179 : decode cX6_restore 179 = .ok (.iload_n 1, 1) := dk_27 (dk_at dksX6_restore_7 15 rfl rfl)
theorem dX6_restore_180 : decode cX6_restore 180 = .ok (.iconst 3, 1) := dk_6 (dk_at dksX6_restore_7 16 rfl rfl)
theorem dX6_restore_181 : decode cX6_restore 181 = .ok (.iadd, 1) := dk_96 (dk_at dksX6_restore_7 17 rfl rfl)
theorem dX6_restore_182 : decode cX6_restore 182 = .ok (.iaload, 1) := dk_46 (dk_at dksX6_restore_7 18 rfl rfl)
theorem dX6_restore_183 : decode cX6_restore 183 = .ok (.putfield 166, 3) := dk_181 0 166 (dk_at dksX6_restore_7 19 rfl rfl)
theorem dX6_restore_186 : decode cX6_restore 186 = .ok (.iconst 1, 1) := dk_4 (dk_at dksX6_restore_7 22 rfl rfl)
theorem dX6_restore_187 : decode cX6_restore 187 = .ok (.ireturn, 1) := dk_172 (dk_at dksX6_restore_7 23 rfl rfl)
abbrev cX6_gives : ByteArray := prog_11_method_57_code
def yX6_gives : MethodName := ⟨RX6, "gives", "([II[I)I"⟩
def dkwX6_gives_1 : List UInt8 := [190, 96, 172]
abbrev dktX6_gives_1 : List UInt8 := dkwX6_gives_1 ++ []
def dkwX6_gives_0 : List UInt8 := [3, 62, 29, 44, 190, 162, 0, 17, 44, 29, 42, 27, 29, 96, 46, 79, 132, 3, 1, 167, 255, 239, 27, 44]
abbrev dktX6_gives_0 : List UInt8 := dkwX6_gives_0 ++ dktX6_gives_1
theorem dksX6_gives_0 : cX6_gives.data.toList.drop 0 = dktX6_gives_0 := by decide +kernel
theorem dksX6_gives_1 : cX6_gives.data.toList.drop 24 = dktX6_gives_1 := dk_seg dksX6_gives_0 24 rfl rfl
theorem dX6_gives_0 : decode cX6_gives 0 = .ok (.iconst 0, 1) := dk_3 (dk_at dksX6_gives_0 0 rfl rfl)
theorem dX6_gives_1 : decode cX6_gives 1 = .ok (.istore_n 3, 1) := dk_62 (dk_at dksX6_gives_0 1 rfl rfl)
theorem dX6_gives_2 : decode cX6_gives 2 = .ok (.iload_n 3, 1) := dk_29 (dk_at dksX6_gives_0 2 rfl rfl)
theorem dX6_gives_3 : decode cX6_gives 3 = .ok (.aload_n 2, 1) := dk_44 (dk_at dksX6_gives_0 3 rfl rfl)
theorem dX6_gives_4 : decode cX6_gives 4 = .ok (.arraylength, 1) := dk_190 (dk_at dksX6_gives_0 4 rfl rfl)
theorem dX6_gives_5 : decode cX6_gives 5 = .ok (.if_icmp .ge 17, 3) := dk_162 0 17 (dk_at dksX6_gives_0 5 rfl rfl)
theorem dX6_gives_8 : decode cX6_gives 8 = .ok (.aload_n 2, 1) := dk_44 (dk_at dksX6_gives_0 8 rfl rfl)
theorem dX6_gives_9 : decode cX6_gives 9 = .ok (.iload_n 3, 1) := dk_29 (dk_at dksX6_gives_0 9 rfl rfl)
theorem dX6_gives_10 : decode cX6_gives 10 = .ok (.aload_n 0, 1) := dk_42 (dk_at dksX6_gives_0 10 rfl rfl)
theorem dX6_gives_11 : decode cX6_gives 11 = .ok (.iload_n 1, 1) := dk_27 (dk_at dksX6_gives_0 11 rfl rfl)
theorem dX6_gives_12 : decode cX6_gives 12 = .ok (.iload_n 3, 1) := dk_29 (dk_at dksX6_gives_0 12 rfl rfl)
theorem dX6_gives_13 : decode cX6_gives 13 = .ok (.iadd, 1) := dk_96 (dk_at dksX6_gives_0 13 rfl rfl)
theorem dX6_gives_14 : decode cX6_gives 14 = .ok (.iaload, 1) := dk_46 (dk_at dksX6_gives_0 14 rfl rfl)
theorem dX6_gives_15 : decode cX6_gives 15 = .ok (.iastore, 1) := dk_79 (dk_at dksX6_gives_0 15 rfl rfl)
theorem dX6_gives_16 : decode cX6_gives 16 = .ok (.iinc 3 1, 3) := dk_132 3 1 (dk_at dksX6_gives_0 16 rfl rfl)
theorem dX6_gives_19 : decode cX6_gives 19 = .ok (.goto (-17), 3) := dk_167 255 239 (dk_at dksX6_gives_0 19 rfl rfl)
theorem dX6_gives_22 : decode cX6_gives 22 = .ok (.iload_n 1, 1) := dk_27 (dk_at dksX6_gives_0 22 rfl rfl)
theorem dX6_gives_23 : decode cX6_gives 23 = .ok (.aload_n 2, 1) := dk_44 (dk_at dksX6_gives_0 23 rfl rfl)
theorem dX6_gives_24 : decode cX6_gives 24 = .ok (.arraylength, 1) := dk_190 (dk_at dksX6_gives_1 0 rfl rfl)
theorem dX6_gives_25 : decode cX6_gives 25 = .ok (.iadd, 1) := dk_96 (dk_at dksX6_gives_1 1 rfl rfl)
theorem dX6_gives_26 : decode cX6_gives 26 = .ok (.ireturn, 1) := dk_172 (dk_at dksX6_gives_1 2 rfl rfl)
abbrev cX6_eyes : ByteArray := prog_11_method_63_code
def yX6_eyes : MethodName := ⟨RX6, "eyes", "(IIIII)I"⟩
def dkwX6_eyes_8 : List UInt8 := [104, 21, 4, 96, 21, 8, 96, 46, 182, 0, 211, 132, 8, 1, 167, 255, 205, 21, 7, 172]
abbrev dktX6_eyes_8 : List UInt8 := dkwX6_eyes_8 ++ []
def dkwX6_eyes_7 : List UInt8 := [28, 104, 21, 4, 96, 21, 8, 96, 46, 155, 0, 26, 42, 27, 21, 8, 96, 42, 180, 0, 58, 16, 16, 28]
abbrev dktX6_eyes_7 : List UInt8 := dkwX6_eyes_7 ++ dktX6_eyes_8
def dkwX6_eyes_6 : List UInt8 := [16, 24, 164, 0, 6, 16, 253, 172, 3, 54, 8, 21, 8, 21, 5, 162, 0, 50, 42, 180, 0, 58, 16, 16]
abbrev dktX6_eyes_6 : List UInt8 := dkwX6_eyes_6 ++ dktX6_eyes_7
def dkwX6_eyes_5 : List UInt8 := [155, 0, 7, 4, 167, 0, 4, 3, 96, 54, 7, 132, 8, 1, 167, 255, 196, 42, 180, 0, 166, 21, 7, 96]
abbrev dktX6_eyes_5 : List UInt8 := dkwX6_eyes_5 ++ dktX6_eyes_6
def dkwX6_eyes_4 : List UInt8 := [21, 9, 133, 20, 0, 90, 20, 0, 74, 184, 0, 70, 154, 0, 6, 16, 254, 172, 21, 7, 21, 9]
abbrev dktX6_eyes_4 : List UInt8 := dkwX6_eyes_4 ++ dktX6_eyes_5
def dkwX6_eyes_3 : List UInt8 := [21, 8, 21, 5, 162, 0, 59, 42, 180, 0, 58, 16, 16, 28, 104, 21, 4, 96, 21, 8, 96, 46, 54, 9]
abbrev dktX6_eyes_3 : List UInt8 := dkwX6_eyes_3 ++ dktX6_eyes_4
def dkwX6_eyes_2 : List UInt8 := [21, 4, 21, 5, 182, 0, 237, 54, 6, 21, 6, 156, 0, 6, 21, 6, 172, 3, 54, 7, 3, 54, 8]
abbrev dktX6_eyes_2 : List UInt8 := dkwX6_eyes_2 ++ dktX6_eyes_3
def dkwX6_eyes_1 : List UInt8 := [10, 20, 0, 235, 184, 0, 70, 153, 0, 12, 27, 21, 5, 96, 16, 16, 164, 0, 5, 2, 172, 42, 28, 29]
abbrev dktX6_eyes_1 : List UInt8 := dkwX6_eyes_1 ++ dktX6_eyes_2
def dkwX6_eyes_0 : List UInt8 := [27, 184, 0, 79, 153, 0, 39, 28, 184, 0, 229, 153, 0, 32, 29, 184, 0, 232, 153, 0, 25, 21, 5, 133]
abbrev dktX6_eyes_0 : List UInt8 := dkwX6_eyes_0 ++ dktX6_eyes_1
theorem dksX6_eyes_0 : cX6_eyes.data.toList.drop 0 = dktX6_eyes_0 := by decide +kernel
theorem dksX6_eyes_1 : cX6_eyes.data.toList.drop 24 = dktX6_eyes_1 := dk_seg dksX6_eyes_0 24 rfl rfl
theorem dksX6_eyes_2 : cX6_eyes.data.toList.drop 48 = dktX6_eyes_2 := dk_seg dksX6_eyes_1 24 rfl rfl
theorem dksX6_eyes_3 : cX6_eyes.data.toList.drop 71 = dktX6_eyes_3 := dk_seg dksX6_eyes_2 23 rfl rfl
theorem dksX6_eyes_4 : cX6_eyes.data.toList.drop 95 = dktX6_eyes_4 := dk_seg dksX6_eyes_3 24 rfl rfl
theorem dksX6_eyes_5 : cX6_eyes.data.toList.drop 117 = dktX6_eyes_5 := dk_seg dksX6_eyes_4 22 rfl rfl
theorem dksX6_eyes_6 : cX6_eyes.data.toList.drop 141 = dktX6_eyes_6 := dk_seg dksX6_eyes_5 24 rfl rfl
theorem dksX6_eyes_7 : cX6_eyes.data.toList.drop 165 = dktX6_eyes_7 := dk_seg dksX6_eyes_6 24 rfl rfl
theorem dksX6_eyes_8 : cX6_eyes.data.toList.drop 189 = dktX6_eyes_8 := dk_seg dksX6_eyes_7 24 rfl rfl
theorem dX6_eyes_0 : decode cX6_eyes 0 = .ok (.iload_n 1, 1) := dk_27 (dk_at dksX6_eyes_0 0 rfl rfl)
theorem dX6_eyes_1 : decode cX6_eyes 1 = .ok (.invokestatic 79, 3) := dk_184 0 79 (dk_at dksX6_eyes_0 1 rfl rfl)
theorem dX6_eyes_4 : decode cX6_eyes 4 = .ok (.ifCond .eq 39, 3) := dk_153 0 39 (dk_at dksX6_eyes_0 4 rfl rfl)
theorem dX6_eyes_7 : decode cX6_eyes 7 = .ok (.iload_n 2, 1) := dk_28 (dk_at dksX6_eyes_0 7 rfl rfl)
theorem dX6_eyes_8 : decode cX6_eyes 8 = .ok (.invokestatic 229, 3) := dk_184 0 229 (dk_at dksX6_eyes_0 8 rfl rfl)
theorem dX6_eyes_11 : decode cX6_eyes 11 = .ok (.ifCond .eq 32, 3) := dk_153 0 32 (dk_at dksX6_eyes_0 11 rfl rfl)
theorem dX6_eyes_14 : decode cX6_eyes 14 = .ok (.iload_n 3, 1) := dk_29 (dk_at dksX6_eyes_0 14 rfl rfl)
theorem dX6_eyes_15 : decode cX6_eyes 15 = .ok (.invokestatic 232, 3) := dk_184 0 232 (dk_at dksX6_eyes_0 15 rfl rfl)
theorem dX6_eyes_18 : decode cX6_eyes 18 = .ok (.ifCond .eq 25, 3) := dk_153 0 25 (dk_at dksX6_eyes_0 18 rfl rfl)
theorem dX6_eyes_21 : decode cX6_eyes 21 = .ok (.iload 5, 2) := dk_21 5 (dk_at dksX6_eyes_0 21 rfl rfl)
theorem dX6_eyes_23 : decode cX6_eyes 23 = .ok (.i2l, 1) := dk_133 (dk_at dksX6_eyes_0 23 rfl rfl)
theorem dX6_eyes_24 : decode cX6_eyes 24 = .ok (.lconst 1, 1) := dk_10 (dk_at dksX6_eyes_1 0 rfl rfl)
theorem dX6_eyes_25 : decode cX6_eyes 25 = .ok (.ldc2_w 235, 3) := dk_20 0 235 (dk_at dksX6_eyes_1 1 rfl rfl)
theorem dX6_eyes_28 : decode cX6_eyes 28 = .ok (.invokestatic 70, 3) := dk_184 0 70 (dk_at dksX6_eyes_1 4 rfl rfl)
theorem dX6_eyes_31 : decode cX6_eyes 31 = .ok (.ifCond .eq 12, 3) := dk_153 0 12 (dk_at dksX6_eyes_1 7 rfl rfl)
theorem dX6_eyes_34 : decode cX6_eyes 34 = .ok (.iload_n 1, 1) := dk_27 (dk_at dksX6_eyes_1 10 rfl rfl)
theorem dX6_eyes_35 : decode cX6_eyes 35 = .ok (.iload 5, 2) := dk_21 5 (dk_at dksX6_eyes_1 11 rfl rfl)
theorem dX6_eyes_37 : decode cX6_eyes 37 = .ok (.iadd, 1) := dk_96 (dk_at dksX6_eyes_1 13 rfl rfl)
theorem dX6_eyes_38 : decode cX6_eyes 38 = .ok (.bipush 16, 2) := dk_16 16 (dk_at dksX6_eyes_1 14 rfl rfl)
theorem dX6_eyes_40 : decode cX6_eyes 40 = .ok (.if_icmp .le 5, 3) := dk_164 0 5 (dk_at dksX6_eyes_1 16 rfl rfl)
theorem dX6_eyes_43 : decode cX6_eyes 43 = .ok (.iconst (-1), 1) := dk_2 (dk_at dksX6_eyes_1 19 rfl rfl)
theorem dX6_eyes_44 : decode cX6_eyes 44 = .ok (.ireturn, 1) := dk_172 (dk_at dksX6_eyes_1 20 rfl rfl)
theorem dX6_eyes_45 : decode cX6_eyes 45 = .ok (.aload_n 0, 1) := dk_42 (dk_at dksX6_eyes_1 21 rfl rfl)
theorem dX6_eyes_46 : decode cX6_eyes 46 = .ok (.iload_n 2, 1) := dk_28 (dk_at dksX6_eyes_1 22 rfl rfl)
theorem dX6_eyes_47 : decode cX6_eyes 47 = .ok (.iload_n 3, 1) := dk_29 (dk_at dksX6_eyes_1 23 rfl rfl)
theorem dX6_eyes_48 : decode cX6_eyes 48 = .ok (.iload 4, 2) := dk_21 4 (dk_at dksX6_eyes_2 0 rfl rfl)
theorem dX6_eyes_50 : decode cX6_eyes 50 = .ok (.iload 5, 2) := dk_21 5 (dk_at dksX6_eyes_2 2 rfl rfl)
theorem dX6_eyes_52 : decode cX6_eyes 52 = .ok (.invokevirtual 237, 3) := dk_182 0 237 (dk_at dksX6_eyes_2 4 rfl rfl)
theorem dX6_eyes_55 : decode cX6_eyes 55 = .ok (.istore 6, 2) := dk_54 6 (dk_at dksX6_eyes_2 7 rfl rfl)
theorem dX6_eyes_57 : decode cX6_eyes 57 = .ok (.iload 6, 2) := dk_21 6 (dk_at dksX6_eyes_2 9 rfl rfl)
theorem dX6_eyes_59 : decode cX6_eyes 59 = .ok (.ifCond .ge 6, 3) := dk_156 0 6 (dk_at dksX6_eyes_2 11 rfl rfl)
theorem dX6_eyes_62 : decode cX6_eyes 62 = .ok (.iload 6, 2) := dk_21 6 (dk_at dksX6_eyes_2 14 rfl rfl)
theorem dX6_eyes_64 : decode cX6_eyes 64 = .ok (.ireturn, 1) := dk_172 (dk_at dksX6_eyes_2 16 rfl rfl)
theorem dX6_eyes_65 : decode cX6_eyes 65 = .ok (.iconst 0, 1) := dk_3 (dk_at dksX6_eyes_2 17 rfl rfl)
theorem dX6_eyes_66 : decode cX6_eyes 66 = .ok (.istore 7, 2) := dk_54 7 (dk_at dksX6_eyes_2 18 rfl rfl)
theorem dX6_eyes_68 : decode cX6_eyes 68 = .ok (.iconst 0, 1) := dk_3 (dk_at dksX6_eyes_2 20 rfl rfl)
theorem dX6_eyes_69 : decode cX6_eyes 69 = .ok (.istore 8, 2) := dk_54 8 (dk_at dksX6_eyes_2 21 rfl rfl)
theorem dX6_eyes_71 : decode cX6_eyes 71 = .ok (.iload 8, 2) := dk_21 8 (dk_at dksX6_eyes_3 0 rfl rfl)
theorem dX6_eyes_73 : decode cX6_eyes 73 = .ok (.iload 5, 2) := dk_21 5 (dk_at dksX6_eyes_3 2 rfl rfl)
theorem dX6_eyes_75 : decode cX6_eyes 75 = .ok (.if_icmp .ge 59, 3) := dk_162 0 59 (dk_at dksX6_eyes_3 4 rfl rfl)
theorem dX6_eyes_78 : decode cX6_eyes 78 = .ok (.aload_n 0, 1) := dk_42 (dk_at dksX6_eyes_3 7 rfl rfl)
theorem dX6_eyes_79 : decode cX6_eyes 79 = .ok (.getfield 58, 3) := dk_180 0 58 (dk_at dksX6_eyes_3 8 rfl rfl)
theorem dX6_eyes_82 : decode cX6_eyes 82 = .ok (.bipush 16, 2) := dk_16 16 (dk_at dksX6_eyes_3 11 rfl rfl)
theorem dX6_eyes_84 : decode cX6_eyes 84 = .ok (.iload_n 2, 1) := dk_28 (dk_at dksX6_eyes_3 13 rfl rfl)
theorem dX6_eyes_85 : decode cX6_eyes 85 = .ok (.imul, 1) := dk_104 (dk_at dksX6_eyes_3 14 rfl rfl)
theorem dX6_eyes_86 : decode cX6_eyes 86 = .ok (.iload 4, 2) := dk_21 4 (dk_at dksX6_eyes_3 15 rfl rfl)
theorem dX6_eyes_88 : decode cX6_eyes 88 = .ok (.iadd, 1) := dk_96 (dk_at dksX6_eyes_3 17 rfl rfl)
theorem dX6_eyes_89 : decode cX6_eyes 89 = .ok (.iload 8, 2) := dk_21 8 (dk_at dksX6_eyes_3 18 rfl rfl)
theorem dX6_eyes_91 : decode cX6_eyes 91 = .ok (.iadd, 1) := dk_96 (dk_at dksX6_eyes_3 20 rfl rfl)
theorem dX6_eyes_92 : decode cX6_eyes 92 = .ok (.iaload, 1) := dk_46 (dk_at dksX6_eyes_3 21 rfl rfl)
theorem dX6_eyes_93 : decode cX6_eyes 93 = .ok (.istore 9, 2) := dk_54 9 (dk_at dksX6_eyes_3 22 rfl rfl)
theorem dX6_eyes_95 : decode cX6_eyes 95 = .ok (.iload 9, 2) := dk_21 9 (dk_at dksX6_eyes_4 0 rfl rfl)
theorem dX6_eyes_97 : decode cX6_eyes 97 = .ok (.i2l, 1) := dk_133 (dk_at dksX6_eyes_4 2 rfl rfl)
theorem dX6_eyes_98 : decode cX6_eyes 98 = .ok (.ldc2_w 90, 3) := dk_20 0 90 (dk_at dksX6_eyes_4 3 rfl rfl)
theorem dX6_eyes_101 : decode cX6_eyes 101 = .ok (.ldc2_w 74, 3) := dk_20 0 74 (dk_at dksX6_eyes_4 6 rfl rfl)
theorem dX6_eyes_104 : decode cX6_eyes 104 = .ok (.invokestatic 70, 3) := dk_184 0 70 (dk_at dksX6_eyes_4 9 rfl rfl)
theorem dX6_eyes_107 : decode cX6_eyes 107 = .ok (.ifCond .ne 6, 3) := dk_154 0 6 (dk_at dksX6_eyes_4 12 rfl rfl)
theorem dX6_eyes_110 : decode cX6_eyes 110 = .ok (.bipush (-2), 2) := dk_16 254 (dk_at dksX6_eyes_4 15 rfl rfl)
theorem dX6_eyes_112 : decode cX6_eyes 112 = .ok (.ireturn, 1) := dk_172 (dk_at dksX6_eyes_4 17 rfl rfl)
theorem dX6_eyes_113 : decode cX6_eyes 113 = .ok (.iload 7, 2) := dk_21 7 (dk_at dksX6_eyes_4 18 rfl rfl)
theorem dX6_eyes_115 : decode cX6_eyes 115 = .ok (.iload 9, 2) := dk_21 9 (dk_at dksX6_eyes_4 20 rfl rfl)
theorem dX6_eyes_117 : decode cX6_eyes 117 = .ok (.ifCond .lt 7, 3) := dk_155 0 7 (dk_at dksX6_eyes_5 0 rfl rfl)
theorem dX6_eyes_120 : decode cX6_eyes 120 = .ok (.iconst 1, 1) := dk_4 (dk_at dksX6_eyes_5 3 rfl rfl)
theorem dX6_eyes_121 : decode cX6_eyes 121 = .ok (.goto 4, 3) := dk_167 0 4 (dk_at dksX6_eyes_5 4 rfl rfl)
theorem dX6_eyes_124 : decode cX6_eyes 124 = .ok (.iconst 0, 1) := dk_3 (dk_at dksX6_eyes_5 7 rfl rfl)
theorem dX6_eyes_125 : decode cX6_eyes 125 = .ok (.iadd, 1) := dk_96 (dk_at dksX6_eyes_5 8 rfl rfl)
theorem dX6_eyes_126 : decode cX6_eyes 126 = .ok (.istore 7, 2) := dk_54 7 (dk_at dksX6_eyes_5 9 rfl rfl)
theorem dX6_eyes_128 : decode cX6_eyes 128 = .ok (.iinc 8 1, 3) := dk_132 8 1 (dk_at dksX6_eyes_5 11 rfl rfl)
theorem dX6_eyes_131 : decode cX6_eyes 131 = .ok (.goto (-60), 3) := dk_167 255 196 (dk_at dksX6_eyes_5 14 rfl rfl)
theorem dX6_eyes_134 : decode cX6_eyes 134 = .ok (.aload_n 0, 1) := dk_42 (dk_at dksX6_eyes_5 17 rfl rfl)
theorem dX6_eyes_135 : decode cX6_eyes 135 = .ok (.getfield 166, 3) := dk_180 0 166 (dk_at dksX6_eyes_5 18 rfl rfl)
theorem dX6_eyes_138 : decode cX6_eyes 138 = .ok (.iload 7, 2) := dk_21 7 (dk_at dksX6_eyes_5 21 rfl rfl)
theorem dX6_eyes_140 : decode cX6_eyes 140 = .ok (.iadd, 1) := dk_96 (dk_at dksX6_eyes_5 23 rfl rfl)
theorem dX6_eyes_141 : decode cX6_eyes 141 = .ok (.bipush 24, 2) := dk_16 24 (dk_at dksX6_eyes_6 0 rfl rfl)
theorem dX6_eyes_143 : decode cX6_eyes 143 = .ok (.if_icmp .le 6, 3) := dk_164 0 6 (dk_at dksX6_eyes_6 2 rfl rfl)
theorem dX6_eyes_146 : decode cX6_eyes 146 = .ok (.bipush (-3), 2) := dk_16 253 (dk_at dksX6_eyes_6 5 rfl rfl)
theorem dX6_eyes_148 : decode cX6_eyes 148 = .ok (.ireturn, 1) := dk_172 (dk_at dksX6_eyes_6 7 rfl rfl)
theorem dX6_eyes_149 : decode cX6_eyes 149 = .ok (.iconst 0, 1) := dk_3 (dk_at dksX6_eyes_6 8 rfl rfl)
theorem dX6_eyes_150 : decode cX6_eyes 150 = .ok (.istore 8, 2) := dk_54 8 (dk_at dksX6_eyes_6 9 rfl rfl)
theorem dX6_eyes_152 : decode cX6_eyes 152 = .ok (.iload 8, 2) := dk_21 8 (dk_at dksX6_eyes_6 11 rfl rfl)
theorem dX6_eyes_154 : decode cX6_eyes 154 = .ok (.iload 5, 2) := dk_21 5 (dk_at dksX6_eyes_6 13 rfl rfl)
theorem dX6_eyes_156 : decode cX6_eyes 156 = .ok (.if_icmp .ge 50, 3) := dk_162 0 50 (dk_at dksX6_eyes_6 15 rfl rfl)
theorem dX6_eyes_159 : decode cX6_eyes 159 = .ok (.aload_n 0, 1) := dk_42 (dk_at dksX6_eyes_6 18 rfl rfl)
theorem dX6_eyes_160 : decode cX6_eyes 160 = .ok (.getfield 58, 3) := dk_180 0 58 (dk_at dksX6_eyes_6 19 rfl rfl)
theorem dX6_eyes_163 : decode cX6_eyes 163 = .ok (.bipush 16, 2) := dk_16 16 (dk_at dksX6_eyes_6 22 rfl rfl)
theorem dX6_eyes_165 : decode cX6_eyes 165 = .ok (.iload_n 2, 1) := dk_28 (dk_at dksX6_eyes_7 0 rfl rfl)
theorem dX6_eyes_166 : decode cX6_eyes 166 = .ok (.imul, 1) := dk_104 (dk_at dksX6_eyes_7 1 rfl rfl)
theorem dX6_eyes_167 : decode cX6_eyes 167 = .ok (.iload 4, 2) := dk_21 4 (dk_at dksX6_eyes_7 2 rfl rfl)
theorem dX6_eyes_169 : decode cX6_eyes 169 = .ok (.iadd, 1) := dk_96 (dk_at dksX6_eyes_7 4 rfl rfl)
theorem dX6_eyes_170 : decode cX6_eyes 170 = .ok (.iload 8, 2) := dk_21 8 (dk_at dksX6_eyes_7 5 rfl rfl)
theorem dX6_eyes_172 : decode cX6_eyes 172 = .ok (.iadd, 1) := dk_96 (dk_at dksX6_eyes_7 7 rfl rfl)
theorem dX6_eyes_173 : decode cX6_eyes 173 = .ok (.iaload, 1) := dk_46 (dk_at dksX6_eyes_7 8 rfl rfl)
theorem dX6_eyes_174 : decode cX6_eyes 174 = .ok (.ifCond .lt 26, 3) := dk_155 0 26 (dk_at dksX6_eyes_7 9 rfl rfl)
theorem dX6_eyes_177 : decode cX6_eyes 177 = .ok (.aload_n 0, 1) := dk_42 (dk_at dksX6_eyes_7 12 rfl rfl)
theorem dX6_eyes_178 : decode cX6_eyes 178 = .ok (.iload_n 1, 1) := dk_27 (dk_at dksX6_eyes_7 13 rfl rfl)
theorem dX6_eyes_179 : decode cX6_eyes 179 = .ok (.iload 8, 2) := dk_21 8 (dk_at dksX6_eyes_7 14 rfl rfl)
theorem dX6_eyes_181 : decode cX6_eyes 181 = .ok (.iadd, 1) := dk_96 (dk_at dksX6_eyes_7 16 rfl rfl)
theorem dX6_eyes_182 : decode cX6_eyes 182 = .ok (.aload_n 0, 1) := dk_42 (dk_at dksX6_eyes_7 17 rfl rfl)
theorem dX6_eyes_183 : decode cX6_eyes 183 = .ok (.getfield 58, 3) := dk_180 0 58 (dk_at dksX6_eyes_7 18 rfl rfl)
theorem dX6_eyes_186 : decode cX6_eyes 186 = .ok (.bipush 16, 2) := dk_16 16 (dk_at dksX6_eyes_7 21 rfl rfl)
theorem dX6_eyes_188 : decode cX6_eyes 188 = .ok (.iload_n 2, 1) := dk_28 (dk_at dksX6_eyes_7 23 rfl rfl)
theorem dX6_eyes_189 : decode cX6_eyes 189 = .ok (.imul, 1) := dk_104 (dk_at dksX6_eyes_8 0 rfl rfl)
theorem dX6_eyes_190 : decode cX6_eyes 190 = .ok (.iload 4, 2) := dk_21 4 (dk_at dksX6_eyes_8 1 rfl rfl)
theorem dX6_eyes_192 : decode cX6_eyes 192 = .ok (.iadd, 1) := dk_96 (dk_at dksX6_eyes_8 3 rfl rfl)
theorem dX6_eyes_193 : decode cX6_eyes 193 = .ok (.iload 8, 2) := dk_21 8 (dk_at dksX6_eyes_8 4 rfl rfl)
theorem dX6_eyes_195 : decode cX6_eyes 195 = .ok (.iadd, 1) := dk_96 (dk_at dksX6_eyes_8 6 rfl rfl)
theorem dX6_eyes_196 : decode cX6_eyes 196 = .ok (.iaload, 1) := dk_46 (dk_at dksX6_eyes_8 7 rfl rfl)
theorem dX6_eyes_197 : decode cX6_eyes 197 = .ok (.invokevirtual 211, 3) := dk_182 0 211 (dk_at dksX6_eyes_8 8 rfl rfl)
theorem dX6_eyes_200 : decode cX6_eyes 200 = .ok (.iinc 8 1, 3) := dk_132 8 1 (dk_at dksX6_eyes_8 11 rfl rfl)
theorem dX6_eyes_203 : decode cX6_eyes 203 = .ok (.goto (-51), 3) := dk_167 255 205 (dk_at dksX6_eyes_8 14 rfl rfl)
theorem dX6_eyes_206 : decode cX6_eyes 206 = .ok (.iload 7, 2) := dk_21 7 (dk_at dksX6_eyes_8 17 rfl rfl)
theorem dX6_eyes_208 : decode cX6_eyes 208 = .ok (.ireturn, 1) := dk_172 (dk_at dksX6_eyes_8 19 rfl rfl)
abbrev cX6_isSheet : ByteArray := prog_11_method_60_code
def yX6_isSheet : MethodName := ⟨RX6, "isSheet", "(I)Z"⟩
def dkwX6_isSheet_0 : List UInt8 := [26, 133, 9, 20, 0, 74, 184, 0, 70, 172]
abbrev dktX6_isSheet_0 : List UInt8 := dkwX6_isSheet_0 ++ []
theorem dksX6_isSheet_0 : cX6_isSheet.data.toList.drop 0 = dktX6_isSheet_0 := by decide +kernel
theorem dX6_isSheet_0 : decode cX6_isSheet 0 = .ok (.iload_n 0, 1) := dk_26 (dk_at dksX6_isSheet_0 0 rfl rfl)
theorem dX6_isSheet_1 : decode cX6_isSheet 1 = .ok (.i2l, 1) := dk_133 (dk_at dksX6_isSheet_0 1 rfl rfl)
theorem dX6_isSheet_2 : decode cX6_isSheet 2 = .ok (.lconst 0, 1) := dk_9 (dk_at dksX6_isSheet_0 2 rfl rfl)
theorem dX6_isSheet_3 : decode cX6_isSheet 3 = .ok (.ldc2_w 74, 3) := dk_20 0 74 (dk_at dksX6_isSheet_0 3 rfl rfl)
theorem dX6_isSheet_6 : decode cX6_isSheet 6 = .ok (.invokestatic 70, 3) := dk_184 0 70 (dk_at dksX6_isSheet_0 6 rfl rfl)
theorem dX6_isSheet_9 : decode cX6_isSheet 9 = .ok (.ireturn, 1) := dk_172 (dk_at dksX6_isSheet_0 9 rfl rfl)
abbrev cX6_isLane : ByteArray := prog_11_method_61_code
def yX6_isLane : MethodName := ⟨RX6, "isLane", "(I)Z"⟩
def dkwX6_isLane_0 : List UInt8 := [26, 133, 9, 20, 0, 88, 184, 0, 70, 172]
abbrev dktX6_isLane_0 : List UInt8 := dkwX6_isLane_0 ++ []
theorem dksX6_isLane_0 : cX6_isLane.data.toList.drop 0 = dktX6_isLane_0 := by decide +kernel
theorem dX6_isLane_0 : decode cX6_isLane 0 = .ok (.iload_n 0, 1) := dk_26 (dk_at dksX6_isLane_0 0 rfl rfl)
theorem dX6_isLane_1 : decode cX6_isLane 1 = .ok (.i2l, 1) := dk_133 (dk_at dksX6_isLane_0 1 rfl rfl)
theorem dX6_isLane_2 : decode cX6_isLane 2 = .ok (.lconst 0, 1) := dk_9 (dk_at dksX6_isLane_0 2 rfl rfl)
theorem dX6_isLane_3 : decode cX6_isLane 3 = .ok (.ldc2_w 88, 3) := dk_20 0 88 (dk_at dksX6_isLane_0 3 rfl rfl)
theorem dX6_isLane_6 : decode cX6_isLane 6 = .ok (.invokestatic 70, 3) := dk_184 0 70 (dk_at dksX6_isLane_0 6 rfl rfl)
theorem dX6_isLane_9 : decode cX6_isLane 9 = .ok (.ireturn, 1) := dk_172 (dk_at dksX6_isLane_0 9 rfl rfl)
abbrev cX6_finds : ByteArray := prog_11_method_62_code
def yX6_finds : MethodName := ⟨RX6, "finds", "(IIII)I"⟩
def dkwX6_finds_2 : List UInt8 := [167, 0, 4, 3, 172]
abbrev dktX6_finds_2 : List UInt8 := dkwX6_finds_2 ++ []
def dkwX6_finds_1 : List UInt8 := [172, 29, 155, 0, 20, 29, 133, 21, 4, 133, 97, 42, 180, 0, 55, 27, 46, 133, 148, 158, 0, 8, 16, 243]
abbrev dktX6_finds_1 : List UInt8 := dkwX6_finds_1 ++ dktX6_finds_2
def dkwX6_finds_0 : List UInt8 := [42, 180, 0, 52, 27, 46, 156, 0, 6, 16, 245, 172, 42, 180, 0, 52, 27, 46, 28, 159, 0, 6, 16, 244]
abbrev dktX6_finds_0 : List UInt8 := dkwX6_finds_0 ++ dktX6_finds_1
theorem dksX6_finds_0 : cX6_finds.data.toList.drop 0 = dktX6_finds_0 := by decide +kernel
theorem dksX6_finds_1 : cX6_finds.data.toList.drop 24 = dktX6_finds_1 := dk_seg dksX6_finds_0 24 rfl rfl
theorem dksX6_finds_2 : cX6_finds.data.toList.drop 48 = dktX6_finds_2 := dk_seg dksX6_finds_1 24 rfl rfl
theorem dX6_finds_0 : decode cX6_finds 0 = .ok (.aload_n 0, 1) := dk_42 (dk_at dksX6_finds_0 0 rfl rfl)
theorem dX6_finds_1 : decode cX6_finds 1 = .ok (.getfield 52, 3) := dk_180 0 52 (dk_at dksX6_finds_0 1 rfl rfl)
theorem dX6_finds_4 : decode cX6_finds 4 = .ok (.iload_n 1, 1) := dk_27 (dk_at dksX6_finds_0 4 rfl rfl)
theorem dX6_finds_5 : decode cX6_finds 5 = .ok (.iaload, 1) := dk_46 (dk_at dksX6_finds_0 5 rfl rfl)
theorem dX6_finds_6 : decode cX6_finds 6 = .ok (.ifCond .ge 6, 3) := dk_156 0 6 (dk_at dksX6_finds_0 6 rfl rfl)
theorem dX6_finds_9 : decode cX6_finds 9 = .ok (.bipush (-11), 2) := dk_16 245 (dk_at dksX6_finds_0 9 rfl rfl)
theorem dX6_finds_11 : decode cX6_finds 11 = .ok (.ireturn, 1) := dk_172 (dk_at dksX6_finds_0 11 rfl rfl)
theorem dX6_finds_12 : decode cX6_finds 12 = .ok (.aload_n 0, 1) := dk_42 (dk_at dksX6_finds_0 12 rfl rfl)
theorem dX6_finds_13 : decode cX6_finds 13 = .ok (.getfield 52, 3) := dk_180 0 52 (dk_at dksX6_finds_0 13 rfl rfl)
theorem dX6_finds_16 : decode cX6_finds 16 = .ok (.iload_n 1, 1) := dk_27 (dk_at dksX6_finds_0 16 rfl rfl)
theorem dX6_finds_17 : decode cX6_finds 17 = .ok (.iaload, 1) := dk_46 (dk_at dksX6_finds_0 17 rfl rfl)
theorem dX6_finds_18 : decode cX6_finds 18 = .ok (.iload_n 2, 1) := dk_28 (dk_at dksX6_finds_0 18 rfl rfl)
theorem dX6_finds_19 : decode cX6_finds 19 = .ok (.if_icmp .eq 6, 3) := dk_159 0 6 (dk_at dksX6_finds_0 19 rfl rfl)
theorem dX6_finds_22 : decode cX6_finds 22 = .ok (.bipush (-12), 2) := dk_16 244 (dk_at dksX6_finds_0 22 rfl rfl)
theorem dX6_finds_24 : decode cX6_finds 24 = .ok (.ireturn, 1) := dk_172 (dk_at dksX6_finds_1 0 rfl rfl)
theorem dX6_finds_25 : decode cX6_finds 25 = .ok (.iload_n 3, 1) := dk_29 (dk_at dksX6_finds_1 1 rfl rfl)
theorem dX6_finds_26 : decode cX6_finds 26 = .ok (.ifCond .lt 20, 3) := dk_155 0 20 (dk_at dksX6_finds_1 2 rfl rfl)
theorem dX6_finds_29 : decode cX6_finds 29 = .ok (.iload_n 3, 1) := dk_29 (dk_at dksX6_finds_1 5 rfl rfl)
theorem dX6_finds_30 : decode cX6_finds 30 = .ok (.i2l, 1) := dk_133 (dk_at dksX6_finds_1 6 rfl rfl)
theorem dX6_finds_31 : decode cX6_finds 31 = .ok (.iload 4, 2) := dk_21 4 (dk_at dksX6_finds_1 7 rfl rfl)
theorem dX6_finds_33 : decode cX6_finds 33 = .ok (.i2l, 1) := dk_133 (dk_at dksX6_finds_1 9 rfl rfl)
theorem dX6_finds_34 : decode cX6_finds 34 = .ok (.ladd, 1) := dk_97 (dk_at dksX6_finds_1 10 rfl rfl)
theorem dX6_finds_35 : decode cX6_finds 35 = .ok (.aload_n 0, 1) := dk_42 (dk_at dksX6_finds_1 11 rfl rfl)
theorem dX6_finds_36 : decode cX6_finds 36 = .ok (.getfield 55, 3) := dk_180 0 55 (dk_at dksX6_finds_1 12 rfl rfl)
theorem dX6_finds_39 : decode cX6_finds 39 = .ok (.iload_n 1, 1) := dk_27 (dk_at dksX6_finds_1 15 rfl rfl)
theorem dX6_finds_40 : decode cX6_finds 40 = .ok (.iaload, 1) := dk_46 (dk_at dksX6_finds_1 16 rfl rfl)
theorem dX6_finds_41 : decode cX6_finds 41 = .ok (.i2l, 1) := dk_133 (dk_at dksX6_finds_1 17 rfl rfl)
theorem dX6_finds_42 : decode cX6_finds 42 = .ok (.lcmp, 1) := dk_148 (dk_at dksX6_finds_1 18 rfl rfl)
theorem dX6_finds_43 : decode cX6_finds 43 = .ok (.ifCond .le 8, 3) := dk_158 0 8 (dk_at dksX6_finds_1 19 rfl rfl)
theorem dX6_finds_46 : decode cX6_finds 46 = .ok (.bipush (-13), 2) := dk_16 243 (dk_at dksX6_finds_1 22 rfl rfl)
theorem dX6_finds_48 : decode cX6_finds 48 = .ok (.goto 4, 3) := dk_167 0 4 (dk_at dksX6_finds_2 0 rfl rfl)
theorem dX6_finds_51 : decode cX6_finds 51 = .ok (.iconst 0, 1) := dk_3 (dk_at dksX6_finds_2 3 rfl rfl)
theorem dX6_finds_52 : decode cX6_finds 52 = .ok (.ireturn, 1) := dk_172 (dk_at dksX6_finds_2 4 rfl rfl)
abbrev cX6_sheet : ByteArray := prog_11_method_64_code
def yX6_sheet : MethodName := ⟨RX6, "sheet", "(III)I"⟩
def dkwX6_sheet_3 : List UInt8 := [167, 255, 233, 29, 172]
abbrev dktX6_sheet_3 : List UInt8 := dkwX6_sheet_3 ++ []
def dkwX6_sheet_2 : List UInt8 := [21, 4, 16, 16, 162, 0, 22, 42, 180, 0, 58, 16, 16, 27, 104, 21, 4, 96, 3, 79, 132, 4, 1]
abbrev dktX6_sheet_2 : List UInt8 := dkwX6_sheet_2 ++ dktX6_sheet_3
def dkwX6_sheet_1 : List UInt8 := [156, 0, 6, 16, 242, 172, 42, 180, 0, 52, 27, 28, 79, 42, 180, 0, 55, 27, 29, 79, 3, 54, 4]
abbrev dktX6_sheet_1 : List UInt8 := dkwX6_sheet_1 ++ dktX6_sheet_2
def dkwX6_sheet_0 : List UInt8 := [27, 184, 0, 229, 153, 0, 16, 28, 184, 0, 232, 153, 0, 9, 29, 16, 16, 164, 0, 5, 2, 172, 29]
abbrev dktX6_sheet_0 : List UInt8 := dkwX6_sheet_0 ++ dktX6_sheet_1
theorem dksX6_sheet_0 : cX6_sheet.data.toList.drop 0 = dktX6_sheet_0 := by decide +kernel
theorem dksX6_sheet_1 : cX6_sheet.data.toList.drop 23 = dktX6_sheet_1 := dk_seg dksX6_sheet_0 23 rfl rfl
theorem dksX6_sheet_2 : cX6_sheet.data.toList.drop 46 = dktX6_sheet_2 := dk_seg dksX6_sheet_1 23 rfl rfl
theorem dksX6_sheet_3 : cX6_sheet.data.toList.drop 69 = dktX6_sheet_3 := dk_seg dksX6_sheet_2 23 rfl rfl
theorem dX6_sheet_0 : decode cX6_sheet 0 = .ok (.iload_n 1, 1) := dk_27 (dk_at dksX6_sheet_0 0 rfl rfl)
theorem dX6_sheet_1 : decode cX6_sheet 1 = .ok (.invokestatic 229, 3) := dk_184 0 229 (dk_at dksX6_sheet_0 1 rfl rfl)
theorem dX6_sheet_4 : decode cX6_sheet 4 = .ok (.ifCond .eq 16, 3) := dk_153 0 16 (dk_at dksX6_sheet_0 4 rfl rfl)
theorem dX6_sheet_7 : decode cX6_sheet 7 = .ok (.iload_n 2, 1) := dk_28 (dk_at dksX6_sheet_0 7 rfl rfl)
theorem dX6_sheet_8 : decode cX6_sheet 8 = .ok (.invokestatic 232, 3) := dk_184 0 232 (dk_at dksX6_sheet_0 8 rfl rfl)
theorem dX6_sheet_11 : decode cX6_sheet 11 = .ok (.ifCond .eq 9, 3) := dk_153 0 9 (dk_at dksX6_sheet_0 11 rfl rfl)
theorem dX6_sheet_14 : decode cX6_sheet 14 = .ok (.iload_n 3, 1) := dk_29 (dk_at dksX6_sheet_0 14 rfl rfl)
theorem dX6_sheet_15 : decode cX6_sheet 15 = .ok (.bipush 16, 2) := dk_16 16 (dk_at dksX6_sheet_0 15 rfl rfl)
theorem dX6_sheet_17 : decode cX6_sheet 17 = .ok (.if_icmp .le 5, 3) := dk_164 0 5 (dk_at dksX6_sheet_0 17 rfl rfl)
theorem dX6_sheet_20 : decode cX6_sheet 20 = .ok (.iconst (-1), 1) := dk_2 (dk_at dksX6_sheet_0 20 rfl rfl)
theorem dX6_sheet_21 : decode cX6_sheet 21 = .ok (.ireturn, 1) := dk_172 (dk_at dksX6_sheet_0 21 rfl rfl)
theorem dX6_sheet_22 : decode cX6_sheet 22 = .ok (.iload_n 3, 1) := dk_29 (dk_at dksX6_sheet_0 22 rfl rfl)
theorem dX6_sheet_23 : decode cX6_sheet 23 = .ok (.ifCond .ge 6, 3) := dk_156 0 6 (dk_at dksX6_sheet_1 0 rfl rfl)
theorem dX6_sheet_26 : decode cX6_sheet 26 = .ok (.bipush (-14), 2) := dk_16 242 (dk_at dksX6_sheet_1 3 rfl rfl)
theorem dX6_sheet_28 : decode cX6_sheet 28 = .ok (.ireturn, 1) := dk_172 (dk_at dksX6_sheet_1 5 rfl rfl)
theorem dX6_sheet_29 : decode cX6_sheet 29 = .ok (.aload_n 0, 1) := dk_42 (dk_at dksX6_sheet_1 6 rfl rfl)
theorem dX6_sheet_30 : decode cX6_sheet 30 = .ok (.getfield 52, 3) := dk_180 0 52 (dk_at dksX6_sheet_1 7 rfl rfl)
theorem dX6_sheet_33 : decode cX6_sheet 33 = .ok (.iload_n 1, 1) := dk_27 (dk_at dksX6_sheet_1 10 rfl rfl)
theorem dX6_sheet_34 : decode cX6_sheet 34 = .ok (.iload_n 2, 1) := dk_28 (dk_at dksX6_sheet_1 11 rfl rfl)
theorem dX6_sheet_35 : decode cX6_sheet 35 = .ok (.iastore, 1) := dk_79 (dk_at dksX6_sheet_1 12 rfl rfl)
theorem dX6_sheet_36 : decode cX6_sheet 36 = .ok (.aload_n 0, 1) := dk_42 (dk_at dksX6_sheet_1 13 rfl rfl)
theorem dX6_sheet_37 : decode cX6_sheet 37 = .ok (.getfield 55, 3) := dk_180 0 55 (dk_at dksX6_sheet_1 14 rfl rfl)
theorem dX6_sheet_40 : decode cX6_sheet 40 = .ok (.iload_n 1, 1) := dk_27 (dk_at dksX6_sheet_1 17 rfl rfl)
theorem dX6_sheet_41 : decode cX6_sheet 41 = .ok (.iload_n 3, 1) := dk_29 (dk_at dksX6_sheet_1 18 rfl rfl)
theorem dX6_sheet_42 : decode cX6_sheet 42 = .ok (.iastore, 1) := dk_79 (dk_at dksX6_sheet_1 19 rfl rfl)
theorem dX6_sheet_43 : decode cX6_sheet 43 = .ok (.iconst 0, 1) := dk_3 (dk_at dksX6_sheet_1 20 rfl rfl)
theorem dX6_sheet_44 : decode cX6_sheet 44 = .ok (.istore 4, 2) := dk_54 4 (dk_at dksX6_sheet_1 21 rfl rfl)
theorem dX6_sheet_46 : decode cX6_sheet 46 = .ok (.iload 4, 2) := dk_21 4 (dk_at dksX6_sheet_2 0 rfl rfl)
theorem dX6_sheet_48 : decode cX6_sheet 48 = .ok (.bipush 16, 2) := dk_16 16 (dk_at dksX6_sheet_2 2 rfl rfl)
theorem dX6_sheet_50 : decode cX6_sheet 50 = .ok (.if_icmp .ge 22, 3) := dk_162 0 22 (dk_at dksX6_sheet_2 4 rfl rfl)
theorem dX6_sheet_53 : decode cX6_sheet 53 = .ok (.aload_n 0, 1) := dk_42 (dk_at dksX6_sheet_2 7 rfl rfl)
theorem dX6_sheet_54 : decode cX6_sheet 54 = .ok (.getfield 58, 3) := dk_180 0 58 (dk_at dksX6_sheet_2 8 rfl rfl)
theorem dX6_sheet_57 : decode cX6_sheet 57 = .ok (.bipush 16, 2) := dk_16 16 (dk_at dksX6_sheet_2 11 rfl rfl)
theorem dX6_sheet_59 : decode cX6_sheet 59 = .ok (.iload_n 1, 1) := dk_27 (dk_at dksX6_sheet_2 13 rfl rfl)
theorem dX6_sheet_60 : decode cX6_sheet 60 = .ok (.imul, 1) := dk_104 (dk_at dksX6_sheet_2 14 rfl rfl)
theorem dX6_sheet_61 : decode cX6_sheet 61 = .ok (.iload 4, 2) := dk_21 4 (dk_at dksX6_sheet_2 15 rfl rfl)
theorem dX6_sheet_63 : decode cX6_sheet 63 = .ok (.iadd, 1) := dk_96 (dk_at dksX6_sheet_2 17 rfl rfl)
theorem dX6_sheet_64 : decode cX6_sheet 64 = .ok (.iconst 0, 1) := dk_3 (dk_at dksX6_sheet_2 18 rfl rfl)
theorem dX6_sheet_65 : decode cX6_sheet 65 = .ok (.iastore, 1) := dk_79 (dk_at dksX6_sheet_2 19 rfl rfl)
theorem dX6_sheet_66 : decode cX6_sheet 66 = .ok (.iinc 4 1, 3) := dk_132 4 1 (dk_at dksX6_sheet_2 20 rfl rfl)
theorem dX6_sheet_69 : decode cX6_sheet 69 = .ok (.goto (-23), 3) := dk_167 255 233 (dk_at dksX6_sheet_3 0 rfl rfl)
theorem dX6_sheet_72 : decode cX6_sheet 72 = .ok (.iload_n 3, 1) := dk_29 (dk_at dksX6_sheet_3 3 rfl rfl)
theorem dX6_sheet_73 : decode cX6_sheet 73 = .ok (.ireturn, 1) := dk_172 (dk_at dksX6_sheet_3 4 rfl rfl)
abbrev cX6_drop : ByteArray := prog_11_method_65_code
def yX6_drop : MethodName := ⟨RX6, "drop", "(I)I"⟩
def dkwX6_drop_1 : List UInt8 := [180, 0, 52, 27, 2, 79, 42, 180, 0, 55, 27, 46, 172]
abbrev dktX6_drop_1 : List UInt8 := dkwX6_drop_1 ++ []
def dkwX6_drop_0 : List UInt8 := [27, 184, 0, 229, 154, 0, 5, 2, 172, 42, 180, 0, 52, 27, 46, 156, 0, 6, 16, 245, 172, 42]
abbrev dktX6_drop_0 : List UInt8 := dkwX6_drop_0 ++ dktX6_drop_1
theorem dksX6_drop_0 : cX6_drop.data.toList.drop 0 = dktX6_drop_0 := by decide +kernel
theorem dksX6_drop_1 : cX6_drop.data.toList.drop 22 = dktX6_drop_1 := dk_seg dksX6_drop_0 22 rfl rfl
theorem dX6_drop_0 : decode cX6_drop 0 = .ok (.iload_n 1, 1) := dk_27 (dk_at dksX6_drop_0 0 rfl rfl)
theorem dX6_drop_1 : decode cX6_drop 1 = .ok (.invokestatic 229, 3) := dk_184 0 229 (dk_at dksX6_drop_0 1 rfl rfl)
theorem dX6_drop_4 : decode cX6_drop 4 = .ok (.ifCond .ne 5, 3) := dk_154 0 5 (dk_at dksX6_drop_0 4 rfl rfl)
theorem dX6_drop_7 : decode cX6_drop 7 = .ok (.iconst (-1), 1) := dk_2 (dk_at dksX6_drop_0 7 rfl rfl)
theorem dX6_drop_8 : decode cX6_drop 8 = .ok (.ireturn, 1) := dk_172 (dk_at dksX6_drop_0 8 rfl rfl)
theorem dX6_drop_9 : decode cX6_drop 9 = .ok (.aload_n 0, 1) := dk_42 (dk_at dksX6_drop_0 9 rfl rfl)
theorem dX6_drop_10 : decode cX6_drop 10 = .ok (.getfield 52, 3) := dk_180 0 52 (dk_at dksX6_drop_0 10 rfl rfl)
theorem dX6_drop_13 : decode cX6_drop 13 = .ok (.iload_n 1, 1) := dk_27 (dk_at dksX6_drop_0 13 rfl rfl)
theorem dX6_drop_14 : decode cX6_drop 14 = .ok (.iaload, 1) := dk_46 (dk_at dksX6_drop_0 14 rfl rfl)
theorem dX6_drop_15 : decode cX6_drop 15 = .ok (.ifCond .ge 6, 3) := dk_156 0 6 (dk_at dksX6_drop_0 15 rfl rfl)
theorem dX6_drop_18 : decode cX6_drop 18 = .ok (.bipush (-11), 2) := dk_16 245 (dk_at dksX6_drop_0 18 rfl rfl)
theorem dX6_drop_20 : decode cX6_drop 20 = .ok (.ireturn, 1) := dk_172 (dk_at dksX6_drop_0 20 rfl rfl)
theorem dX6_drop_21 : decode cX6_drop 21 = .ok (.aload_n 0, 1) := dk_42 (dk_at dksX6_drop_0 21 rfl rfl)
theorem dX6_drop_22 : decode cX6_drop 22 = .ok (.getfield 52, 3) := dk_180 0 52 (dk_at dksX6_drop_1 0 rfl rfl)
theorem dX6_drop_25 : decode cX6_drop 25 = .ok (.iload_n 1, 1) := dk_27 (dk_at dksX6_drop_1 3 rfl rfl)
theorem dX6_drop_26 : decode cX6_drop 26 = .ok (.iconst (-1), 1) := dk_2 (dk_at dksX6_drop_1 4 rfl rfl)
theorem dX6_drop_27 : decode cX6_drop 27 = .ok (.iastore, 1) := dk_79 (dk_at dksX6_drop_1 5 rfl rfl)
theorem dX6_drop_28 : decode cX6_drop 28 = .ok (.aload_n 0, 1) := dk_42 (dk_at dksX6_drop_1 6 rfl rfl)
theorem dX6_drop_29 : decode cX6_drop 29 = .ok (.getfield 55, 3) := dk_180 0 55 (dk_at dksX6_drop_1 7 rfl rfl)
theorem dX6_drop_32 : decode cX6_drop 32 = .ok (.iload_n 1, 1) := dk_27 (dk_at dksX6_drop_1 10 rfl rfl)
theorem dX6_drop_33 : decode cX6_drop 33 = .ok (.iaload, 1) := dk_46 (dk_at dksX6_drop_1 11 rfl rfl)
theorem dX6_drop_34 : decode cX6_drop 34 = .ok (.ireturn, 1) := dk_172 (dk_at dksX6_drop_1 12 rfl rfl)
abbrev cX6_item : ByteArray := prog_11_method_66_code
def yX6_item : MethodName := ⟨RX6, "item", "(IIII)I"⟩
def dkwX6_item_2 : List UInt8 := [21, 4, 145, 167, 0, 16, 28, 4, 160, 0, 9, 21, 4, 147, 167, 0, 5, 21, 4, 79, 4, 172]
abbrev dktX6_item_2 : List UInt8 := dkwX6_item_2 ++ []
def dkwX6_item_1 : List UInt8 := [54, 5, 21, 5, 156, 0, 6, 21, 5, 172, 42, 180, 0, 58, 16, 16, 27, 104, 29, 96, 28, 154, 0, 9]
abbrev dktX6_item_1 : List UInt8 := dkwX6_item_1 ++ dktX6_item_2
def dkwX6_item_0 : List UInt8 := [27, 184, 0, 229, 153, 0, 10, 28, 184, 0, 232, 154, 0, 5, 2, 172, 42, 27, 28, 29, 4, 182, 0, 237]
abbrev dktX6_item_0 : List UInt8 := dkwX6_item_0 ++ dktX6_item_1
theorem dksX6_item_0 : cX6_item.data.toList.drop 0 = dktX6_item_0 := by decide +kernel
theorem dksX6_item_1 : cX6_item.data.toList.drop 24 = dktX6_item_1 := dk_seg dksX6_item_0 24 rfl rfl
theorem dksX6_item_2 : cX6_item.data.toList.drop 48 = dktX6_item_2 := dk_seg dksX6_item_1 24 rfl rfl
theorem dX6_item_0 : decode cX6_item 0 = .ok (.iload_n 1, 1) := dk_27 (dk_at dksX6_item_0 0 rfl rfl)
theorem dX6_item_1 : decode cX6_item 1 = .ok (.invokestatic 229, 3) := dk_184 0 229 (dk_at dksX6_item_0 1 rfl rfl)
theorem dX6_item_4 : decode cX6_item 4 = .ok (.ifCond .eq 10, 3) := dk_153 0 10 (dk_at dksX6_item_0 4 rfl rfl)
theorem dX6_item_7 : decode cX6_item 7 = .ok (.iload_n 2, 1) := dk_28 (dk_at dksX6_item_0 7 rfl rfl)
theorem dX6_item_8 : decode cX6_item 8 = .ok (.invokestatic 232, 3) := dk_184 0 232 (dk_at dksX6_item_0 8 rfl rfl)
theorem dX6_item_11 : decode cX6_item 11 = .ok (.ifCond .ne 5, 3) := dk_154 0 5 (dk_at dksX6_item_0 11 rfl rfl)
theorem dX6_item_14 : decode cX6_item 14 = .ok (.iconst (-1), 1) := dk_2 (dk_at dksX6_item_0 14 rfl rfl)
theorem dX6_item_15 : decode cX6_item 15 = .ok (.ireturn, 1) := dk_172 (dk_at dksX6_item_0 15 rfl rfl)
theorem dX6_item_16 : decode cX6_item 16 = .ok (.aload_n 0, 1) := dk_42 (dk_at dksX6_item_0 16 rfl rfl)
theorem dX6_item_17 : decode cX6_item 17 = .ok (.iload_n 1, 1) := dk_27 (dk_at dksX6_item_0 17 rfl rfl)
theorem dX6_item_18 : decode cX6_item 18 = .ok (.iload_n 2, 1) := dk_28 (dk_at dksX6_item_0 18 rfl rfl)
theorem dX6_item_19 : decode cX6_item 19 = .ok (.iload_n 3, 1) := dk_29 (dk_at dksX6_item_0 19 rfl rfl)
theorem dX6_item_20 : decode cX6_item 20 = .ok (.iconst 1, 1) := dk_4 (dk_at dksX6_item_0 20 rfl rfl)
theorem dX6_item_21 : decode cX6_item 21 = .ok (.invokevirtual 237, 3) := dk_182 0 237 (dk_at dksX6_item_0 21 rfl rfl)
theorem dX6_item_24 : decode cX6_item 24 = .ok (.istore 5, 2) := dk_54 5 (dk_at dksX6_item_1 0 rfl rfl)
theorem dX6_item_26 : decode cX6_item 26 = .ok (.iload 5, 2) := dk_21 5 (dk_at dksX6_item_1 2 rfl rfl)
theorem dX6_item_28 : decode cX6_item 28 = .ok (.ifCond .ge 6, 3) := dk_156 0 6 (dk_at dksX6_item_1 4 rfl rfl)
theorem dX6_item_31 : decode cX6_item 31 = .ok (.iload 5, 2) := dk_21 5 (dk_at dksX6_item_1 7 rfl rfl)
theorem dX6_item_33 : decode cX6_item 33 = .ok (.ireturn, 1) := dk_172 (dk_at dksX6_item_1 9 rfl rfl)
theorem dX6_item_34 : decode cX6_item 34 = .ok (.aload_n 0, 1) := dk_42 (dk_at dksX6_item_1 10 rfl rfl)
theorem dX6_item_35 : decode cX6_item 35 = .ok (.getfield 58, 3) := dk_180 0 58 (dk_at dksX6_item_1 11 rfl rfl)
theorem dX6_item_38 : decode cX6_item 38 = .ok (.bipush 16, 2) := dk_16 16 (dk_at dksX6_item_1 14 rfl rfl)
theorem dX6_item_40 : decode cX6_item 40 = .ok (.iload_n 1, 1) := dk_27 (dk_at dksX6_item_1 16 rfl rfl)
theorem dX6_item_41 : decode cX6_item 41 = .ok (.imul, 1) := dk_104 (dk_at dksX6_item_1 17 rfl rfl)
theorem dX6_item_42 : decode cX6_item 42 = .ok (.iload_n 3, 1) := dk_29 (dk_at dksX6_item_1 18 rfl rfl)
theorem dX6_item_43 : decode cX6_item 43 = .ok (.iadd, 1) := dk_96 (dk_at dksX6_item_1 19 rfl rfl)
theorem dX6_item_44 : decode cX6_item 44 = .ok (.iload_n 2, 1) := dk_28 (dk_at dksX6_item_1 20 rfl rfl)
theorem dX6_item_45 : decode cX6_item 45 = .ok (.ifCond .ne 9, 3) := dk_154 0 9 (dk_at dksX6_item_1 21 rfl rfl)
theorem dX6_item_48 : decode cX6_item 48 = .ok (.iload 4, 2) := dk_21 4 (dk_at dksX6_item_2 0 rfl rfl)
theorem dX6_item_50 : decode cX6_item 50 = .ok (.i2b, 1) := dk_145 (dk_at dksX6_item_2 2 rfl rfl)
theorem dX6_item_51 : decode cX6_item 51 = .ok (.goto 16, 3) := dk_167 0 16 (dk_at dksX6_item_2 3 rfl rfl)
theorem dX6_item_54 : decode cX6_item 54 = .ok (.iload_n 2, 1) := dk_28 (dk_at dksX6_item_2 6 rfl rfl)
theorem dX6_item_55 : decode cX6_item 55 = .ok (.iconst 1, 1) := dk_4 (dk_at dksX6_item_2 7 rfl rfl)
theorem dX6_item_56 : decode cX6_item 56 = .ok (.if_icmp .ne 9, 3) := dk_160 0 9 (dk_at dksX6_item_2 8 rfl rfl)
theorem dX6_item_59 : decode cX6_item 59 = .ok (.iload 4, 2) := dk_21 4 (dk_at dksX6_item_2 11 rfl rfl)
theorem dX6_item_61 : decode cX6_item 61 = .ok (.i2s, 1) := dk_147 (dk_at dksX6_item_2 13 rfl rfl)
theorem dX6_item_62 : decode cX6_item 62 = .ok (.goto 5, 3) := dk_167 0 5 (dk_at dksX6_item_2 14 rfl rfl)
theorem dX6_item_65 : decode cX6_item 65 = .ok (.iload 4, 2) := dk_21 4 (dk_at dksX6_item_2 17 rfl rfl)
theorem dX6_item_67 : decode cX6_item 67 = .ok (.iastore, 1) := dk_79 (dk_at dksX6_item_2 19 rfl rfl)
theorem dX6_item_68 : decode cX6_item 68 = .ok (.iconst 1, 1) := dk_4 (dk_at dksX6_item_2 20 rfl rfl)
theorem dX6_item_69 : decode cX6_item 69 = .ok (.ireturn, 1) := dk_172 (dk_at dksX6_item_2 21 rfl rfl)
abbrev cX6_copy : ByteArray := prog_11_method_67_code
def yX6_copy : MethodName := ⟨RX6, "copy", "(IIIII)I"⟩
def dkwX6_copy_7 : List UInt8 := [180, 0, 61, 21, 6, 46, 79, 132, 6, 1, 167, 255, 224, 21, 5, 172]
abbrev dktX6_copy_7 : List UInt8 := dkwX6_copy_7 ++ []
def dkwX6_copy_6 : List UInt8 := [21, 6, 21, 5, 162, 0, 31, 42, 180, 0, 58, 16, 16, 29, 104, 21, 4, 96, 21, 6, 96, 42]
abbrev dktX6_copy_6 : List UInt8 := dkwX6_copy_6 ++ dktX6_copy_7
def dkwX6_copy_5 : List UInt8 := [180, 0, 58, 16, 16, 27, 104, 28, 96, 21, 6, 96, 46, 79, 132, 6, 1, 167, 255, 225, 3, 54, 6]
abbrev dktX6_copy_5 : List UInt8 := dkwX6_copy_5 ++ dktX6_copy_6
def dkwX6_copy_4 : List UInt8 := [156, 0, 6, 16, 243, 172, 3, 54, 6, 21, 6, 21, 5, 162, 0, 30, 42, 180, 0, 61, 21, 6, 42]
abbrev dktX6_copy_4 : List UInt8 := dkwX6_copy_4 ++ dktX6_copy_5
def dkwX6_copy_3 : List UInt8 := [28, 21, 5, 182, 0, 237, 155, 0, 21, 42, 29, 42, 180, 0, 52, 29, 46, 21, 4, 21, 5, 182, 0, 237]
abbrev dktX6_copy_3 : List UInt8 := dkwX6_copy_3 ++ dktX6_copy_4
def dkwX6_copy_2 : List UInt8 := [180, 0, 52, 29, 46, 159, 0, 6, 16, 244, 172, 21, 5, 155, 0, 38, 42, 27, 42, 180, 0, 52, 27, 46]
abbrev dktX6_copy_2 : List UInt8 := dkwX6_copy_2 ++ dktX6_copy_3
def dkwX6_copy_1 : List UInt8 := [155, 0, 12, 42, 180, 0, 52, 29, 46, 156, 0, 6, 16, 245, 172, 42, 180, 0, 52, 27, 46, 42]
abbrev dktX6_copy_1 : List UInt8 := dkwX6_copy_1 ++ dktX6_copy_2
def dkwX6_copy_0 : List UInt8 := [27, 184, 0, 229, 153, 0, 10, 29, 184, 0, 229, 154, 0, 5, 2, 172, 42, 180, 0, 52, 27, 46]
abbrev dktX6_copy_0 : List UInt8 := dkwX6_copy_0 ++ dktX6_copy_1
theorem dksX6_copy_0 : cX6_copy.data.toList.drop 0 = dktX6_copy_0 := by decide +kernel
theorem dksX6_copy_1 : cX6_copy.data.toList.drop 22 = dktX6_copy_1 := dk_seg dksX6_copy_0 22 rfl rfl
theorem dksX6_copy_2 : cX6_copy.data.toList.drop 44 = dktX6_copy_2 := dk_seg dksX6_copy_1 22 rfl rfl
theorem dksX6_copy_3 : cX6_copy.data.toList.drop 68 = dktX6_copy_3 := dk_seg dksX6_copy_2 24 rfl rfl
theorem dksX6_copy_4 : cX6_copy.data.toList.drop 92 = dktX6_copy_4 := dk_seg dksX6_copy_3 24 rfl rfl
theorem dksX6_copy_5 : cX6_copy.data.toList.drop 115 = dktX6_copy_5 := dk_seg dksX6_copy_4 23 rfl rfl
theorem dksX6_copy_6 : cX6_copy.data.toList.drop 138 = dktX6_copy_6 := dk_seg dksX6_copy_5 23 rfl rfl
theorem dksX6_copy_7 : cX6_copy.data.toList.drop 160 = dktX6_copy_7 := dk_seg dksX6_copy_6 22 rfl rfl
theorem dX6_copy_0 : decode cX6_copy 0 = .ok (.iload_n 1, 1) := dk_27 (dk_at dksX6_copy_0 0 rfl rfl)
theorem dX6_copy_1 : decode cX6_copy 1 = .ok (.invokestatic 229, 3) := dk_184 0 229 (dk_at dksX6_copy_0 1 rfl rfl)
theorem dX6_copy_4 : decode cX6_copy 4 = .ok (.ifCond .eq 10, 3) := dk_153 0 10 (dk_at dksX6_copy_0 4 rfl rfl)
theorem dX6_copy_7 : decode cX6_copy 7 = .ok (.iload_n 3, 1) := dk_29 (dk_at dksX6_copy_0 7 rfl rfl)
theorem dX6_copy_8 : decode cX6_copy 8 = .ok (.invokestatic 229, 3) := dk_184 0 229 (dk_at dksX6_copy_0 8 rfl rfl)
theorem dX6_copy_11 : decode cX6_copy 11 = .ok (.ifCond .ne 5, 3) := dk_154 0 5 (dk_at dksX6_copy_0 11 rfl rfl)
theorem dX6_copy_14 : decode cX6_copy 14 = .ok (.iconst (-1), 1) := dk_2 (dk_at dksX6_copy_0 14 rfl rfl)
theorem dX6_copy_15 : decode cX6_copy 15 = .ok (.ireturn, 1) := dk_172 (dk_at dksX6_copy_0 15 rfl rfl)
theorem dX6_copy_16 : decode cX6_copy 16 = .ok (.aload_n 0, 1) := dk_42 (dk_at dksX6_copy_0 16 rfl rfl)
theorem dX6_copy_17 : decode cX6_copy 17 = .ok (.getfield 52, 3) := dk_180 0 52 (dk_at dksX6_copy_0 17 rfl rfl)
theorem dX6_copy_20 : decode cX6_copy 20 = .ok (.iload_n 1, 1) := dk_27 (dk_at dksX6_copy_0 20 rfl rfl)
theorem dX6_copy_21 : decode cX6_copy 21 = .ok (.iaload, 1) := dk_46 (dk_at dksX6_copy_0 21 rfl rfl)
theorem dX6_copy_22 : decode cX6_copy 22 = .ok (.ifCond .lt 12, 3) := dk_155 0 12 (dk_at dksX6_copy_1 0 rfl rfl)
theorem dX6_copy_25 : decode cX6_copy 25 = .ok (.aload_n 0, 1) := dk_42 (dk_at dksX6_copy_1 3 rfl rfl)
theorem dX6_copy_26 : decode cX6_copy 26 = .ok (.getfield 52, 3) := dk_180 0 52 (dk_at dksX6_copy_1 4 rfl rfl)
theorem dX6_copy_29 : decode cX6_copy 29 = .ok (.iload_n 3, 1) := dk_29 (dk_at dksX6_copy_1 7 rfl rfl)
theorem dX6_copy_30 : decode cX6_copy 30 = .ok (.iaload, 1) := dk_46 (dk_at dksX6_copy_1 8 rfl rfl)
theorem dX6_copy_31 : decode cX6_copy 31 = .ok (.ifCond .ge 6, 3) := dk_156 0 6 (dk_at dksX6_copy_1 9 rfl rfl)
theorem dX6_copy_34 : decode cX6_copy 34 = .ok (.bipush (-11), 2) := dk_16 245 (dk_at dksX6_copy_1 12 rfl rfl)
theorem dX6_copy_36 : decode cX6_copy 36 = .ok (.ireturn, 1) := dk_172 (dk_at dksX6_copy_1 14 rfl rfl)
theorem dX6_copy_37 : decode cX6_copy 37 = .ok (.aload_n 0, 1) := dk_42 (dk_at dksX6_copy_1 15 rfl rfl)
theorem dX6_copy_38 : decode cX6_copy 38 = .ok (.getfield 52, 3) := dk_180 0 52 (dk_at dksX6_copy_1 16 rfl rfl)
theorem dX6_copy_41 : decode cX6_copy 41 = .ok (.iload_n 1, 1) := dk_27 (dk_at dksX6_copy_1 19 rfl rfl)
theorem dX6_copy_42 : decode cX6_copy 42 = .ok (.iaload, 1) := dk_46 (dk_at dksX6_copy_1 20 rfl rfl)
theorem dX6_copy_43 : decode cX6_copy 43 = .ok (.aload_n 0, 1) := dk_42 (dk_at dksX6_copy_1 21 rfl rfl)
theorem dX6_copy_44 : decode cX6_copy 44 = .ok (.getfield 52, 3) := dk_180 0 52 (dk_at dksX6_copy_2 0 rfl rfl)
theorem dX6_copy_47 : decode cX6_copy 47 = .ok (.iload_n 3, 1) := dk_29 (dk_at dksX6_copy_2 3 rfl rfl)
theorem dX6_copy_48 : decode cX6_copy 48 = .ok (.iaload, 1) := dk_46 (dk_at dksX6_copy_2 4 rfl rfl)
theorem dX6_copy_49 : decode cX6_copy 49 = .ok (.if_icmp .eq 6, 3) := dk_159 0 6 (dk_at dksX6_copy_2 5 rfl rfl)
theorem dX6_copy_52 : decode cX6_copy 52 = .ok (.bipush (-12), 2) := dk_16 244 (dk_at dksX6_copy_2 8 rfl rfl)
theorem dX6_copy_54 : decode cX6_copy 54 = .ok (.ireturn, 1) := dk_172 (dk_at dksX6_copy_2 10 rfl rfl)
theorem dX6_copy_55 : decode cX6_copy 55 = .ok (.iload 5, 2) := dk_21 5 (dk_at dksX6_copy_2 11 rfl rfl)
theorem dX6_copy_57 : decode cX6_copy 57 = .ok (.ifCond .lt 38, 3) := dk_155 0 38 (dk_at dksX6_copy_2 13 rfl rfl)
theorem dX6_copy_60 : decode cX6_copy 60 = .ok (.aload_n 0, 1) := dk_42 (dk_at dksX6_copy_2 16 rfl rfl)
theorem dX6_copy_61 : decode cX6_copy 61 = .ok (.iload_n 1, 1) := dk_27 (dk_at dksX6_copy_2 17 rfl rfl)
theorem dX6_copy_62 : decode cX6_copy 62 = .ok (.aload_n 0, 1) := dk_42 (dk_at dksX6_copy_2 18 rfl rfl)
theorem dX6_copy_63 : decode cX6_copy 63 = .ok (.getfield 52, 3) := dk_180 0 52 (dk_at dksX6_copy_2 19 rfl rfl)
theorem dX6_copy_66 : decode cX6_copy 66 = .ok (.iload_n 1, 1) := dk_27 (dk_at dksX6_copy_2 22 rfl rfl)
theorem dX6_copy_67 : decode cX6_copy 67 = .ok (.iaload, 1) := dk_46 (dk_at dksX6_copy_2 23 rfl rfl)
theorem dX6_copy_68 : decode cX6_copy 68 = .ok (.iload_n 2, 1) := dk_28 (dk_at dksX6_copy_3 0 rfl rfl)
theorem dX6_copy_69 : decode cX6_copy 69 = .ok (.iload 5, 2) := dk_21 5 (dk_at dksX6_copy_3 1 rfl rfl)
theorem dX6_copy_71 : decode cX6_copy 71 = .ok (.invokevirtual 237, 3) := dk_182 0 237 (dk_at dksX6_copy_3 3 rfl rfl)
theorem dX6_copy_74 : decode cX6_copy 74 = .ok (.ifCond .lt 21, 3) := dk_155 0 21 (dk_at dksX6_copy_3 6 rfl rfl)
theorem dX6_copy_77 : decode cX6_copy 77 = .ok (.aload_n 0, 1) := dk_42 (dk_at dksX6_copy_3 9 rfl rfl)
theorem dX6_copy_78 : decode cX6_copy 78 = .ok (.iload_n 3, 1) := dk_29 (dk_at dksX6_copy_3 10 rfl rfl)
theorem dX6_copy_79 : decode cX6_copy 79 = .ok (.aload_n 0, 1) := dk_42 (dk_at dksX6_copy_3 11 rfl rfl)
theorem dX6_copy_80 : decode cX6_copy 80 = .ok (.getfield 52, 3) := dk_180 0 52 (dk_at dksX6_copy_3 12 rfl rfl)
theorem dX6_copy_83 : decode cX6_copy 83 = .ok (.iload_n 3, 1) := dk_29 (dk_at dksX6_copy_3 15 rfl rfl)
theorem dX6_copy_84 : decode cX6_copy 84 = .ok (.iaload, 1) := dk_46 (dk_at dksX6_copy_3 16 rfl rfl)
theorem dX6_copy_85 : decode cX6_copy 85 = .ok (.iload 4, 2) := dk_21 4 (dk_at dksX6_copy_3 17 rfl rfl)
theorem dX6_copy_87 : decode cX6_copy 87 = .ok (.iload 5, 2) := dk_21 5 (dk_at dksX6_copy_3 19 rfl rfl)
theorem dX6_copy_89 : decode cX6_copy 89 = .ok (.invokevirtual 237, 3) := dk_182 0 237 (dk_at dksX6_copy_3 21 rfl rfl)
theorem dX6_copy_92 : decode cX6_copy 92 = .ok (.ifCond .ge 6, 3) := dk_156 0 6 (dk_at dksX6_copy_4 0 rfl rfl)
theorem dX6_copy_95 : decode cX6_copy 95 = .ok (.bipush (-13), 2) := dk_16 243 (dk_at dksX6_copy_4 3 rfl rfl)
theorem dX6_copy_97 : decode cX6_copy 97 = .ok (.ireturn, 1) := dk_172 (dk_at dksX6_copy_4 5 rfl rfl)
theorem dX6_copy_98 : decode cX6_copy 98 = .ok (.iconst 0, 1) := dk_3 (dk_at dksX6_copy_4 6 rfl rfl)
theorem dX6_copy_99 : decode cX6_copy 99 = .ok (.istore 6, 2) := dk_54 6 (dk_at dksX6_copy_4 7 rfl rfl)
theorem dX6_copy_101 : decode cX6_copy 101 = .ok (.iload 6, 2) := dk_21 6 (dk_at dksX6_copy_4 9 rfl rfl)
theorem dX6_copy_103 : decode cX6_copy 103 = .ok (.iload 5, 2) := dk_21 5 (dk_at dksX6_copy_4 11 rfl rfl)
theorem dX6_copy_105 : decode cX6_copy 105 = .ok (.if_icmp .ge 30, 3) := dk_162 0 30 (dk_at dksX6_copy_4 13 rfl rfl)
theorem dX6_copy_108 : decode cX6_copy 108 = .ok (.aload_n 0, 1) := dk_42 (dk_at dksX6_copy_4 16 rfl rfl)
theorem dX6_copy_109 : decode cX6_copy 109 = .ok (.getfield 61, 3) := dk_180 0 61 (dk_at dksX6_copy_4 17 rfl rfl)
theorem dX6_copy_112 : decode cX6_copy 112 = .ok (.iload 6, 2) := dk_21 6 (dk_at dksX6_copy_4 20 rfl rfl)
theorem dX6_copy_114 : decode cX6_copy 114 = .ok (.aload_n 0, 1) := dk_42 (dk_at dksX6_copy_4 22 rfl rfl)
theorem dX6_copy_115 : decode cX6_copy 115 = .ok (.getfield 58, 3) := dk_180 0 58 (dk_at dksX6_copy_5 0 rfl rfl)
theorem dX6_copy_118 : decode cX6_copy 118 = .ok (.bipush 16, 2) := dk_16 16 (dk_at dksX6_copy_5 3 rfl rfl)
theorem dX6_copy_120 : decode cX6_copy 120 = .ok (.iload_n 1, 1) := dk_27 (dk_at dksX6_copy_5 5 rfl rfl)
theorem dX6_copy_121 : decode cX6_copy 121 = .ok (.imul, 1) := dk_104 (dk_at dksX6_copy_5 6 rfl rfl)
theorem dX6_copy_122 : decode cX6_copy 122 = .ok (.iload_n 2, 1) := dk_28 (dk_at dksX6_copy_5 7 rfl rfl)
theorem dX6_copy_123 : decode cX6_copy 123 = .ok (.iadd, 1) := dk_96 (dk_at dksX6_copy_5 8 rfl rfl)
theorem dX6_copy_124 : decode cX6_copy 124 = .ok (.iload 6, 2) := dk_21 6 (dk_at dksX6_copy_5 9 rfl rfl)
theorem dX6_copy_126 : decode cX6_copy 126 = .ok (.iadd, 1) := dk_96 (dk_at dksX6_copy_5 11 rfl rfl)
theorem dX6_copy_127 : decode cX6_copy 127 = .ok (.iaload, 1) := dk_46 (dk_at dksX6_copy_5 12 rfl rfl)
theorem dX6_copy_128 : decode cX6_copy 128 = .ok (.iastore, 1) := dk_79 (dk_at dksX6_copy_5 13 rfl rfl)
theorem dX6_copy_129 : decode cX6_copy 129 = .ok (.iinc 6 1, 3) := dk_132 6 1 (dk_at dksX6_copy_5 14 rfl rfl)
theorem dX6_copy_132 : decode cX6_copy 132 = .ok (.goto (-31), 3) := dk_167 255 225 (dk_at dksX6_copy_5 17 rfl rfl)
theorem dX6_copy_135 : decode cX6_copy 135 = .ok (.iconst 0, 1) := dk_3 (dk_at dksX6_copy_5 20 rfl rfl)
theorem dX6_copy_136 : decode cX6_copy 136 = .ok (.istore 6, 2) := dk_54 6 (dk_at dksX6_copy_5 21 rfl rfl)
theorem dX6_copy_138 : decode cX6_copy 138 = .ok (.iload 6, 2) := dk_21 6 (dk_at dksX6_copy_6 0 rfl rfl)
theorem dX6_copy_140 : decode cX6_copy 140 = .ok (.iload 5, 2) := dk_21 5 (dk_at dksX6_copy_6 2 rfl rfl)
theorem dX6_copy_142 : decode cX6_copy 142 = .ok (.if_icmp .ge 31, 3) := dk_162 0 31 (dk_at dksX6_copy_6 4 rfl rfl)
theorem dX6_copy_145 : decode cX6_copy 145 = .ok (.aload_n 0, 1) := dk_42 (dk_at dksX6_copy_6 7 rfl rfl)
theorem dX6_copy_146 : decode cX6_copy 146 = .ok (.getfield 58, 3) := dk_180 0 58 (dk_at dksX6_copy_6 8 rfl rfl)
theorem dX6_copy_149 : decode cX6_copy 149 = .ok (.bipush 16, 2) := dk_16 16 (dk_at dksX6_copy_6 11 rfl rfl)
theorem dX6_copy_151 : decode cX6_copy 151 = .ok (.iload_n 3, 1) := dk_29 (dk_at dksX6_copy_6 13 rfl rfl)
theorem dX6_copy_152 : decode cX6_copy 152 = .ok (.imul, 1) := dk_104 (dk_at dksX6_copy_6 14 rfl rfl)
theorem dX6_copy_153 : decode cX6_copy 153 = .ok (.iload 4, 2) := dk_21 4 (dk_at dksX6_copy_6 15 rfl rfl)
theorem dX6_copy_155 : decode cX6_copy 155 = .ok (.iadd, 1) := dk_96 (dk_at dksX6_copy_6 17 rfl rfl)
theorem dX6_copy_156 : decode cX6_copy 156 = .ok (.iload 6, 2) := dk_21 6 (dk_at dksX6_copy_6 18 rfl rfl)
theorem dX6_copy_158 : decode cX6_copy 158 = .ok (.iadd, 1) := dk_96 (dk_at dksX6_copy_6 20 rfl rfl)
theorem dX6_copy_159 : decode cX6_copy 159 = .ok (.aload_n 0, 1) := dk_42 (dk_at dksX6_copy_6 21 rfl rfl)
theorem dX6_copy_160 : decode cX6_copy 160 = .ok (.getfield 61, 3) := dk_180 0 61 (dk_at dksX6_copy_7 0 rfl rfl)
theorem dX6_copy_163 : decode cX6_copy 163 = .ok (.iload 6, 2) := dk_21 6 (dk_at dksX6_copy_7 3 rfl rfl)
theorem dX6_copy_165 : decode cX6_copy 165 = .ok (.iaload, 1) := dk_46 (dk_at dksX6_copy_7 5 rfl rfl)
theorem dX6_copy_166 : decode cX6_copy 166 = .ok (.iastore, 1) := dk_79 (dk_at dksX6_copy_7 6 rfl rfl)
theorem dX6_copy_167 : decode cX6_copy 167 = .ok (.iinc 6 1, 3) := dk_132 6 1 (dk_at dksX6_copy_7 7 rfl rfl)
theorem dX6_copy_170 : decode cX6_copy 170 = .ok (.goto (-32), 3) := dk_167 255 224 (dk_at dksX6_copy_7 10 rfl rfl)
theorem dX6_copy_173 : decode cX6_copy 173 = .ok (.iload 5, 2) := dk_21 5 (dk_at dksX6_copy_7 13 rfl rfl)
theorem dX6_copy_175 : decode cX6_copy 175 = .ok (.ireturn, 1) := dk_172 (dk_at dksX6_copy_7 15 rfl rfl)
theorem q60 : (Jvm.Cond.initialized "CoinNotThereModel") ∈ lw_all := lw_g (lw_at lw_m1 12 rfl) rfl
theorem q487 : (Jvm.Cond.selects "CoinNotThereModel" ({ cls := "java/lang/Object", name := "getClass", desc := "()Ljava/lang/Class;" } : Jvm.MethodName) ({ cls := "java/lang/Object", name := "getClass", desc := "()Ljava/lang/Class;" } : Jvm.MethodName)) ∈ lw_all := lw_g (lw_at lw_m2 199 rfl) rfl
theorem q1013 : (Jvm.Cond.instantiable "CoinNotThereModel" (28 : Nat)) ∈ lw_all := lw_g (lw_at lw_m5 5 rfl) rfl
theorem q1015 : (Jvm.Cond.instanceMethod ({ cls := "CoinNotThereModel", name := "<init>", desc := "()V" } : Jvm.MethodName)) ∈ lw_all := lw_g (lw_at lw_m5 7 rfl) rfl
theorem q1016 : (Jvm.Cond.code ({ cls := "CoinNotThereModel", name := "<init>", desc := "()V" } : Jvm.MethodName) prog_11_method_3_code (2 : Nat) (Option.none : Option Jvm.ClassFile.FieldType)) ∈ lw_all := lw_g (lw_at lw_m5 8 rfl) rfl
theorem q1017 : (Jvm.Cond.methodLink "CoinNotThereModel" (1 : Nat) ({ cls := "java/lang/Object", name := "<init>", desc := "()V" } : Jvm.MethodName)) ∈ lw_all := lw_g (lw_at lw_m5 9 rfl) rfl
theorem q1018 : (Jvm.Cond.fieldLink "CoinNotThereModel" (7 : Nat) "CoinNotThereModel" "moves" "[I") ∈ lw_all := lw_g (lw_at lw_m5 10 rfl) rfl
theorem q1019 : (Jvm.Cond.fieldLink "CoinNotThereModel" (13 : Nat) "CoinNotThereModel" "slips" "[I") ∈ lw_all := lw_g (lw_at lw_m5 11 rfl) rfl
theorem q1020 : (Jvm.Cond.fieldLink "CoinNotThereModel" (16 : Nat) "CoinNotThereModel" "looks" "[I") ∈ lw_all := lw_g (lw_at lw_m5 12 rfl) rfl
theorem q1021 : (Jvm.Cond.fieldLink "CoinNotThereModel" (19 : Nat) "CoinNotThereModel" "names" "[I") ∈ lw_all := lw_g (lw_at lw_m5 13 rfl) rfl
theorem q1022 : (Jvm.Cond.fieldLink "CoinNotThereModel" (22 : Nat) "CoinNotThereModel" "jokes" "[I") ∈ lw_all := lw_g (lw_at lw_m5 14 rfl) rfl
theorem q1023 : (Jvm.Cond.fieldLink "CoinNotThereModel" (64 : Nat) "CoinNotThereModel" "stands" "I") ∈ lw_all := lw_g (lw_at lw_m5 15 rfl) rfl
theorem q1024 : (Jvm.Cond.fieldLink "CoinNotThereModel" (25 : Nat) "CoinNotThereModel" "laws" "[I") ∈ lw_all := lw_g (lw_at lw_m5 16 rfl) rfl
theorem q1025 : (Jvm.Cond.fieldLink "CoinNotThereModel" (76 : Nat) "CoinNotThereModel" "watchers" "I") ∈ lw_all := lw_g (lw_at lw_m5 17 rfl) rfl
theorem q1026 : (Jvm.Cond.fieldLink "CoinNotThereModel" (28 : Nat) "CoinNotThereModel" "parts" "[I") ∈ lw_all := lw_g (lw_at lw_m5 18 rfl) rfl
theorem q1027 : (Jvm.Cond.fieldLink "CoinNotThereModel" (31 : Nat) "CoinNotThereModel" "tape" "[I") ∈ lw_all := lw_g (lw_at lw_m5 19 rfl) rfl
theorem q1028 : (Jvm.Cond.fieldLink "CoinNotThereModel" (119 : Nat) "CoinNotThereModel" "taped" "I") ∈ lw_all := lw_g (lw_at lw_m5 20 rfl) rfl
theorem q1029 : (Jvm.Cond.fieldLink "CoinNotThereModel" (122 : Nat) "CoinNotThereModel" "at" "I") ∈ lw_all := lw_g (lw_at lw_m5 21 rfl) rfl
theorem q1030 : (Jvm.Cond.fieldLink "CoinNotThereModel" (125 : Nat) "CoinNotThereModel" "wrong" "Z") ∈ lw_all := lw_g (lw_at lw_m5 22 rfl) rfl
theorem q1031 : (Jvm.Cond.fieldLink "CoinNotThereModel" (34 : Nat) "CoinNotThereModel" "read" "[I") ∈ lw_all := lw_g (lw_at lw_m5 23 rfl) rfl
theorem q1032 : (Jvm.Cond.fieldLink "CoinNotThereModel" (177 : Nat) "CoinNotThereModel" "above" "J") ∈ lw_all := lw_g (lw_at lw_m5 24 rfl) rfl
theorem q1033 : (Jvm.Cond.fieldLink "CoinNotThereModel" (183 : Nat) "CoinNotThereModel" "below" "J") ∈ lw_all := lw_g (lw_at lw_m5 25 rfl) rfl
theorem q1034 : (Jvm.Cond.fieldLink "CoinNotThereModel" (163 : Nat) "CoinNotThereModel" "covers" "I") ∈ lw_all := lw_g (lw_at lw_m5 26 rfl) rfl
theorem q1035 : (Jvm.Cond.fieldLink "CoinNotThereModel" (37 : Nat) "CoinNotThereModel" "coverParts" "[I") ∈ lw_all := lw_g (lw_at lw_m5 27 rfl) rfl
theorem q1036 : (Jvm.Cond.fieldLink "CoinNotThereModel" (40 : Nat) "CoinNotThereModel" "kept" "[I") ∈ lw_all := lw_g (lw_at lw_m5 28 rfl) rfl
theorem q1037 : (Jvm.Cond.fieldLink "CoinNotThereModel" (166 : Nat) "CoinNotThereModel" "points" "I") ∈ lw_all := lw_g (lw_at lw_m5 29 rfl) rfl
theorem q1038 : (Jvm.Cond.fieldLink "CoinNotThereModel" (43 : Nat) "CoinNotThereModel" "pointBeat" "[I") ∈ lw_all := lw_g (lw_at lw_m5 30 rfl) rfl
theorem q1039 : (Jvm.Cond.fieldLink "CoinNotThereModel" (46 : Nat) "CoinNotThereModel" "pointPlace" "[I") ∈ lw_all := lw_g (lw_at lw_m5 31 rfl) rfl
theorem q1040 : (Jvm.Cond.fieldLink "CoinNotThereModel" (49 : Nat) "CoinNotThereModel" "image" "[I") ∈ lw_all := lw_g (lw_at lw_m5 32 rfl) rfl
theorem q1041 : (Jvm.Cond.fieldLink "CoinNotThereModel" (222 : Nat) "CoinNotThereModel" "isImage" "Z") ∈ lw_all := lw_g (lw_at lw_m5 33 rfl) rfl
theorem q1042 : (Jvm.Cond.fieldLink "CoinNotThereModel" (52 : Nat) "CoinNotThereModel" "lanes" "[I") ∈ lw_all := lw_g (lw_at lw_m5 34 rfl) rfl
theorem q1043 : (Jvm.Cond.fieldLink "CoinNotThereModel" (55 : Nat) "CoinNotThereModel" "sizes" "[I") ∈ lw_all := lw_g (lw_at lw_m5 35 rfl) rfl
theorem q1044 : (Jvm.Cond.fieldLink "CoinNotThereModel" (58 : Nat) "CoinNotThereModel" "items" "[I") ∈ lw_all := lw_g (lw_at lw_m5 36 rfl) rfl
theorem q1045 : (Jvm.Cond.fieldLink "CoinNotThereModel" (61 : Nat) "CoinNotThereModel" "moved" "[I") ∈ lw_all := lw_g (lw_at lw_m5 37 rfl) rfl
theorem q1046 : (Jvm.Cond.laysFinal "CoinNotThereModel" "CoinNotThereModel" "moves" "[I") ∈ lw_all := lw_g (lw_at lw_m5 38 rfl) rfl
theorem q1047 : (Jvm.Cond.soleField "CoinNotThereModel" "moves") ∈ lw_all := lw_g (lw_at lw_m5 39 rfl) rfl
theorem q1048 : (Jvm.Cond.laysFinal "CoinNotThereModel" "CoinNotThereModel" "slips" "[I") ∈ lw_all := lw_g (lw_at lw_m5 40 rfl) rfl
theorem q1049 : (Jvm.Cond.soleField "CoinNotThereModel" "slips") ∈ lw_all := lw_g (lw_at lw_m5 41 rfl) rfl
theorem q1050 : (Jvm.Cond.laysFinal "CoinNotThereModel" "CoinNotThereModel" "looks" "[I") ∈ lw_all := lw_g (lw_at lw_m5 42 rfl) rfl
theorem q1051 : (Jvm.Cond.soleField "CoinNotThereModel" "looks") ∈ lw_all := lw_g (lw_at lw_m5 43 rfl) rfl
theorem q1052 : (Jvm.Cond.laysFinal "CoinNotThereModel" "CoinNotThereModel" "names" "[I") ∈ lw_all := lw_g (lw_at lw_m5 44 rfl) rfl
theorem q1053 : (Jvm.Cond.soleField "CoinNotThereModel" "names") ∈ lw_all := lw_g (lw_at lw_m5 45 rfl) rfl
theorem q1054 : (Jvm.Cond.laysFinal "CoinNotThereModel" "CoinNotThereModel" "jokes" "[I") ∈ lw_all := lw_g (lw_at lw_m5 46 rfl) rfl
theorem q1055 : (Jvm.Cond.soleField "CoinNotThereModel" "jokes") ∈ lw_all := lw_g (lw_at lw_m5 47 rfl) rfl
theorem q1056 : (Jvm.Cond.lays "CoinNotThereModel" "CoinNotThereModel" "stands" "I") ∈ lw_all := lw_g (lw_at lw_m5 48 rfl) rfl
theorem q1057 : (Jvm.Cond.soleField "CoinNotThereModel" "stands") ∈ lw_all := lw_g (lw_at lw_m5 49 rfl) rfl
theorem q1058 : (Jvm.Cond.laysFinal "CoinNotThereModel" "CoinNotThereModel" "laws" "[I") ∈ lw_all := lw_g (lw_at lw_m5 50 rfl) rfl
theorem q1059 : (Jvm.Cond.soleField "CoinNotThereModel" "laws") ∈ lw_all := lw_g (lw_at lw_m5 51 rfl) rfl
theorem q1060 : (Jvm.Cond.lays "CoinNotThereModel" "CoinNotThereModel" "watchers" "I") ∈ lw_all := lw_g (lw_at lw_m5 52 rfl) rfl
theorem q1061 : (Jvm.Cond.soleField "CoinNotThereModel" "watchers") ∈ lw_all := lw_g (lw_at lw_m5 53 rfl) rfl
theorem q1062 : (Jvm.Cond.laysFinal "CoinNotThereModel" "CoinNotThereModel" "parts" "[I") ∈ lw_all := lw_g (lw_at lw_m5 54 rfl) rfl
theorem q1063 : (Jvm.Cond.soleField "CoinNotThereModel" "parts") ∈ lw_all := lw_g (lw_at lw_m5 55 rfl) rfl
theorem q1064 : (Jvm.Cond.laysFinal "CoinNotThereModel" "CoinNotThereModel" "tape" "[I") ∈ lw_all := lw_g (lw_at lw_m5 56 rfl) rfl
theorem q1065 : (Jvm.Cond.soleField "CoinNotThereModel" "tape") ∈ lw_all := lw_g (lw_at lw_m5 57 rfl) rfl
theorem q1066 : (Jvm.Cond.lays "CoinNotThereModel" "CoinNotThereModel" "taped" "I") ∈ lw_all := lw_g (lw_at lw_m5 58 rfl) rfl
theorem q1067 : (Jvm.Cond.soleField "CoinNotThereModel" "taped") ∈ lw_all := lw_g (lw_at lw_m5 59 rfl) rfl
theorem q1068 : (Jvm.Cond.lays "CoinNotThereModel" "CoinNotThereModel" "at" "I") ∈ lw_all := lw_g (lw_at lw_m5 60 rfl) rfl
theorem q1069 : (Jvm.Cond.soleField "CoinNotThereModel" "at") ∈ lw_all := lw_g (lw_at lw_m5 61 rfl) rfl
theorem q1070 : (Jvm.Cond.lays "CoinNotThereModel" "CoinNotThereModel" "wrong" "Z") ∈ lw_all := lw_g (lw_at lw_m5 62 rfl) rfl
theorem q1071 : (Jvm.Cond.soleField "CoinNotThereModel" "wrong") ∈ lw_all := lw_g (lw_at lw_m5 63 rfl) rfl
theorem q1072 : (Jvm.Cond.laysFinal "CoinNotThereModel" "CoinNotThereModel" "read" "[I") ∈ lw_all := lw_g (lw_at lw_m5 64 rfl) rfl
theorem q1073 : (Jvm.Cond.soleField "CoinNotThereModel" "read") ∈ lw_all := lw_g (lw_at lw_m5 65 rfl) rfl
theorem q1074 : (Jvm.Cond.lays "CoinNotThereModel" "CoinNotThereModel" "above" "J") ∈ lw_all := lw_g (lw_at lw_m5 66 rfl) rfl
theorem q1075 : (Jvm.Cond.soleField "CoinNotThereModel" "above") ∈ lw_all := lw_g (lw_at lw_m5 67 rfl) rfl
theorem q1076 : (Jvm.Cond.lays "CoinNotThereModel" "CoinNotThereModel" "below" "J") ∈ lw_all := lw_g (lw_at lw_m5 68 rfl) rfl
theorem q1077 : (Jvm.Cond.soleField "CoinNotThereModel" "below") ∈ lw_all := lw_g (lw_at lw_m5 69 rfl) rfl
theorem q1078 : (Jvm.Cond.lays "CoinNotThereModel" "CoinNotThereModel" "covers" "I") ∈ lw_all := lw_g (lw_at lw_m5 70 rfl) rfl
theorem q1079 : (Jvm.Cond.soleField "CoinNotThereModel" "covers") ∈ lw_all := lw_g (lw_at lw_m5 71 rfl) rfl
theorem q1080 : (Jvm.Cond.laysFinal "CoinNotThereModel" "CoinNotThereModel" "coverParts" "[I") ∈ lw_all := lw_g (lw_at lw_m5 72 rfl) rfl
theorem q1081 : (Jvm.Cond.soleField "CoinNotThereModel" "coverParts") ∈ lw_all := lw_g (lw_at lw_m5 73 rfl) rfl
theorem q1082 : (Jvm.Cond.laysFinal "CoinNotThereModel" "CoinNotThereModel" "kept" "[I") ∈ lw_all := lw_g (lw_at lw_m5 74 rfl) rfl
theorem q1083 : (Jvm.Cond.soleField "CoinNotThereModel" "kept") ∈ lw_all := lw_g (lw_at lw_m5 75 rfl) rfl
theorem q1084 : (Jvm.Cond.lays "CoinNotThereModel" "CoinNotThereModel" "points" "I") ∈ lw_all := lw_g (lw_at lw_m5 76 rfl) rfl
theorem q1085 : (Jvm.Cond.soleField "CoinNotThereModel" "points") ∈ lw_all := lw_g (lw_at lw_m5 77 rfl) rfl
theorem q1086 : (Jvm.Cond.laysFinal "CoinNotThereModel" "CoinNotThereModel" "pointBeat" "[I") ∈ lw_all := lw_g (lw_at lw_m5 78 rfl) rfl
theorem q1087 : (Jvm.Cond.soleField "CoinNotThereModel" "pointBeat") ∈ lw_all := lw_g (lw_at lw_m5 79 rfl) rfl
theorem q1088 : (Jvm.Cond.laysFinal "CoinNotThereModel" "CoinNotThereModel" "pointPlace" "[I") ∈ lw_all := lw_g (lw_at lw_m5 80 rfl) rfl
theorem q1089 : (Jvm.Cond.soleField "CoinNotThereModel" "pointPlace") ∈ lw_all := lw_g (lw_at lw_m5 81 rfl) rfl
theorem q1090 : (Jvm.Cond.laysFinal "CoinNotThereModel" "CoinNotThereModel" "image" "[I") ∈ lw_all := lw_g (lw_at lw_m5 82 rfl) rfl
theorem q1091 : (Jvm.Cond.soleField "CoinNotThereModel" "image") ∈ lw_all := lw_g (lw_at lw_m5 83 rfl) rfl
theorem q1092 : (Jvm.Cond.lays "CoinNotThereModel" "CoinNotThereModel" "isImage" "Z") ∈ lw_all := lw_g (lw_at lw_m5 84 rfl) rfl
theorem q1093 : (Jvm.Cond.soleField "CoinNotThereModel" "isImage") ∈ lw_all := lw_g (lw_at lw_m5 85 rfl) rfl
theorem q1094 : (Jvm.Cond.laysFinal "CoinNotThereModel" "CoinNotThereModel" "lanes" "[I") ∈ lw_all := lw_g (lw_at lw_m5 86 rfl) rfl
theorem q1095 : (Jvm.Cond.soleField "CoinNotThereModel" "lanes") ∈ lw_all := lw_g (lw_at lw_m5 87 rfl) rfl
theorem q1096 : (Jvm.Cond.laysFinal "CoinNotThereModel" "CoinNotThereModel" "sizes" "[I") ∈ lw_all := lw_g (lw_at lw_m5 88 rfl) rfl
theorem q1097 : (Jvm.Cond.soleField "CoinNotThereModel" "sizes") ∈ lw_all := lw_g (lw_at lw_m5 89 rfl) rfl
theorem q1098 : (Jvm.Cond.laysFinal "CoinNotThereModel" "CoinNotThereModel" "items" "[I") ∈ lw_all := lw_g (lw_at lw_m5 90 rfl) rfl
theorem q1099 : (Jvm.Cond.soleField "CoinNotThereModel" "items") ∈ lw_all := lw_g (lw_at lw_m5 91 rfl) rfl
theorem q1100 : (Jvm.Cond.laysFinal "CoinNotThereModel" "CoinNotThereModel" "moved" "[I") ∈ lw_all := lw_g (lw_at lw_m5 92 rfl) rfl
theorem q1101 : (Jvm.Cond.soleField "CoinNotThereModel" "moved") ∈ lw_all := lw_g (lw_at lw_m5 93 rfl) rfl
theorem q1102 : (Jvm.Cond.superclass "CoinNotThereModel" "java/lang/Object") ∈ lw_all := lw_g (lw_at lw_m5 94 rfl) rfl
theorem q1104 : (Jvm.Cond.instanceMethod ({ cls := "CoinNotThereModel", name := "act", desc := "(IIII)I" } : Jvm.MethodName)) ∈ lw_all := lw_g (lw_at lw_m5 96 rfl) rfl
theorem q1105 : (Jvm.Cond.selects "CoinNotThereModel" ({ cls := "CoinNotThereModel", name := "act", desc := "(IIII)I" } : Jvm.MethodName) ({ cls := "CoinNotThereModel", name := "act", desc := "(IIII)I" } : Jvm.MethodName)) ∈ lw_all := lw_g (lw_at lw_m5 97 rfl) rfl
theorem q1106 : (Jvm.Cond.code ({ cls := "CoinNotThereModel", name := "act", desc := "(IIII)I" } : Jvm.MethodName) prog_11_method_7_code (7 : Nat) (Option.some Jvm.ClassFile.FieldType.int)) ∈ lw_all := lw_g (lw_at lw_m5 98 rfl) rfl
theorem q1107 : (Jvm.Cond.methodLink "CoinNotThereModel" (79 : Nat) ({ cls := "CoinNotThereModel", name := "isBeat", desc := "(I)Z" } : Jvm.MethodName)) ∈ lw_all := lw_g (lw_at lw_m5 99 rfl) rfl
theorem q1108 : (Jvm.Cond.static ({ cls := "CoinNotThereModel", name := "isBeat", desc := "(I)Z" } : Jvm.MethodName)) ∈ lw_all := lw_g (lw_at lw_m5 100 rfl) rfl
theorem q1109 : (Jvm.Cond.code ({ cls := "CoinNotThereModel", name := "isBeat", desc := "(I)Z" } : Jvm.MethodName) prog_11_method_4_code (1 : Nat) (Option.some Jvm.ClassFile.FieldType.boolean)) ∈ lw_all := lw_g (lw_at lw_m5 101 rfl) rfl
theorem q1110 : (Jvm.Cond.constantLong "CoinNotThereModel" (68 : Nat) (15 : Int64)) ∈ lw_all := lw_g (lw_at lw_m5 102 rfl) rfl
theorem q1111 : (Jvm.Cond.methodLink "CoinNotThereModel" (70 : Nat) ({ cls := "CoinNotThereModel", name := "in", desc := "(JJJ)Z" } : Jvm.MethodName)) ∈ lw_all := lw_g (lw_at lw_m5 103 rfl) rfl
theorem q1112 : (Jvm.Cond.static ({ cls := "CoinNotThereModel", name := "in", desc := "(JJJ)Z" } : Jvm.MethodName)) ∈ lw_all := lw_g (lw_at lw_m5 104 rfl) rfl
theorem q1113 : (Jvm.Cond.code ({ cls := "CoinNotThereModel", name := "in", desc := "(JJJ)Z" } : Jvm.MethodName) prog_11_method_2_code (6 : Nat) (Option.some Jvm.ClassFile.FieldType.boolean)) ∈ lw_all := lw_g (lw_at lw_m5 105 rfl) rfl
theorem q1114 : (Jvm.Cond.methodLink "CoinNotThereModel" (83 : Nat) ({ cls := "CoinNotThereModel", name := "isPlace", desc := "(I)Z" } : Jvm.MethodName)) ∈ lw_all := lw_g (lw_at lw_m5 106 rfl) rfl
theorem q1115 : (Jvm.Cond.static ({ cls := "CoinNotThereModel", name := "isPlace", desc := "(I)Z" } : Jvm.MethodName)) ∈ lw_all := lw_g (lw_at lw_m5 107 rfl) rfl
theorem q1116 : (Jvm.Cond.code ({ cls := "CoinNotThereModel", name := "isPlace", desc := "(I)Z" } : Jvm.MethodName) prog_11_method_5_code (1 : Nat) (Option.some Jvm.ClassFile.FieldType.boolean)) ∈ lw_all := lw_g (lw_at lw_m5 108 rfl) rfl
theorem q1117 : (Jvm.Cond.constantLong "CoinNotThereModel" (74 : Nat) (3 : Int64)) ∈ lw_all := lw_g (lw_at lw_m5 109 rfl) rfl
theorem q1118 : (Jvm.Cond.constantLong "CoinNotThereModel" (86 : Nat) (9 : Int64)) ∈ lw_all := lw_g (lw_at lw_m5 110 rfl) rfl
theorem q1120 : (Jvm.Cond.instanceMethod ({ cls := "CoinNotThereModel", name := "cue", desc := "(III)I" } : Jvm.MethodName)) ∈ lw_all := lw_g (lw_at lw_m5 112 rfl) rfl
theorem q1121 : (Jvm.Cond.selects "CoinNotThereModel" ({ cls := "CoinNotThereModel", name := "cue", desc := "(III)I" } : Jvm.MethodName) ({ cls := "CoinNotThereModel", name := "cue", desc := "(III)I" } : Jvm.MethodName)) ∈ lw_all := lw_g (lw_at lw_m5 113 rfl) rfl
theorem q1122 : (Jvm.Cond.code ({ cls := "CoinNotThereModel", name := "cue", desc := "(III)I" } : Jvm.MethodName) prog_11_method_8_code (5 : Nat) (Option.some Jvm.ClassFile.FieldType.int)) ∈ lw_all := lw_g (lw_at lw_m5 114 rfl) rfl
theorem q1123 : (Jvm.Cond.constantLong "CoinNotThereModel" (88 : Nat) (2 : Int64)) ∈ lw_all := lw_g (lw_at lw_m5 115 rfl) rfl
theorem q1124 : (Jvm.Cond.constantLong "CoinNotThereModel" (90 : Nat) (-1 : Int64)) ∈ lw_all := lw_g (lw_at lw_m5 116 rfl) rfl
theorem q1126 : (Jvm.Cond.instanceMethod ({ cls := "CoinNotThereModel", name := "stand", desc := "(I)I" } : Jvm.MethodName)) ∈ lw_all := lw_g (lw_at lw_m5 118 rfl) rfl
theorem q1127 : (Jvm.Cond.selects "CoinNotThereModel" ({ cls := "CoinNotThereModel", name := "stand", desc := "(I)I" } : Jvm.MethodName) ({ cls := "CoinNotThereModel", name := "stand", desc := "(I)I" } : Jvm.MethodName)) ∈ lw_all := lw_g (lw_at lw_m5 119 rfl) rfl
theorem q1128 : (Jvm.Cond.code ({ cls := "CoinNotThereModel", name := "stand", desc := "(I)I" } : Jvm.MethodName) prog_11_method_9_code (3 : Nat) (Option.some Jvm.ClassFile.FieldType.int)) ∈ lw_all := lw_g (lw_at lw_m5 120 rfl) rfl
theorem q1130 : (Jvm.Cond.instanceMethod ({ cls := "CoinNotThereModel", name := "habit", desc := "(II)I" } : Jvm.MethodName)) ∈ lw_all := lw_g (lw_at lw_m5 122 rfl) rfl
theorem q1131 : (Jvm.Cond.selects "CoinNotThereModel" ({ cls := "CoinNotThereModel", name := "habit", desc := "(II)I" } : Jvm.MethodName) ({ cls := "CoinNotThereModel", name := "habit", desc := "(II)I" } : Jvm.MethodName)) ∈ lw_all := lw_g (lw_at lw_m5 123 rfl) rfl
theorem q1132 : (Jvm.Cond.code ({ cls := "CoinNotThereModel", name := "habit", desc := "(II)I" } : Jvm.MethodName) prog_11_method_10_code (4 : Nat) (Option.some Jvm.ClassFile.FieldType.int)) ∈ lw_all := lw_g (lw_at lw_m5 124 rfl) rfl
theorem q1133 : (Jvm.Cond.constantLong "CoinNotThereModel" (92 : Nat) (4 : Int64)) ∈ lw_all := lw_g (lw_at lw_m5 125 rfl) rfl
theorem q1134 : (Jvm.Cond.constantLong "CoinNotThereModel" (94 : Nat) (10 : Int64)) ∈ lw_all := lw_g (lw_at lw_m5 126 rfl) rfl
theorem q1136 : (Jvm.Cond.instanceMethod ({ cls := "CoinNotThereModel", name := "watcher", desc := "(II)I" } : Jvm.MethodName)) ∈ lw_all := lw_g (lw_at lw_m5 128 rfl) rfl
theorem q1137 : (Jvm.Cond.selects "CoinNotThereModel" ({ cls := "CoinNotThereModel", name := "watcher", desc := "(II)I" } : Jvm.MethodName) ({ cls := "CoinNotThereModel", name := "watcher", desc := "(II)I" } : Jvm.MethodName)) ∈ lw_all := lw_g (lw_at lw_m5 129 rfl) rfl
theorem q1138 : (Jvm.Cond.code ({ cls := "CoinNotThereModel", name := "watcher", desc := "(II)I" } : Jvm.MethodName) prog_11_method_13_code (3 : Nat) (Option.some Jvm.ClassFile.FieldType.int)) ∈ lw_all := lw_g (lw_at lw_m5 130 rfl) rfl
theorem q1139 : (Jvm.Cond.constantLong "CoinNotThereModel" (96 : Nat) (11 : Int64)) ∈ lw_all := lw_g (lw_at lw_m5 131 rfl) rfl
theorem q1140 : (Jvm.Cond.methodLink "CoinNotThereModel" (98 : Nat) ({ cls := "CoinNotThereModel", name := "isTaken", desc := "(I)Z" } : Jvm.MethodName)) ∈ lw_all := lw_g (lw_at lw_m5 132 rfl) rfl
theorem q1141 : (Jvm.Cond.privateMethod ({ cls := "CoinNotThereModel", name := "isTaken", desc := "(I)Z" } : Jvm.MethodName)) ∈ lw_tbl := lw_at lw_m5 133 rfl
theorem q1142 : (Jvm.Cond.instanceMethod ({ cls := "CoinNotThereModel", name := "isTaken", desc := "(I)Z" } : Jvm.MethodName)) ∈ lw_all := lw_g (lw_at lw_m5 134 rfl) rfl
theorem q1143 : (Jvm.Cond.code ({ cls := "CoinNotThereModel", name := "isTaken", desc := "(I)Z" } : Jvm.MethodName) prog_11_method_11_code (4 : Nat) (Option.some Jvm.ClassFile.FieldType.boolean)) ∈ lw_all := lw_g (lw_at lw_m5 135 rfl) rfl
theorem q1144 : (Jvm.Cond.methodLink "CoinNotThereModel" (101 : Nat) ({ cls := "CoinNotThereModel", name := "comes", desc := "(II)I" } : Jvm.MethodName)) ∈ lw_all := lw_g (lw_at lw_m5 136 rfl) rfl
theorem q1145 : (Jvm.Cond.privateMethod ({ cls := "CoinNotThereModel", name := "comes", desc := "(II)I" } : Jvm.MethodName)) ∈ lw_tbl := lw_at lw_m5 137 rfl
theorem q1146 : (Jvm.Cond.instanceMethod ({ cls := "CoinNotThereModel", name := "comes", desc := "(II)I" } : Jvm.MethodName)) ∈ lw_all := lw_g (lw_at lw_m5 138 rfl) rfl
theorem q1147 : (Jvm.Cond.code ({ cls := "CoinNotThereModel", name := "comes", desc := "(II)I" } : Jvm.MethodName) prog_11_method_12_code (3 : Nat) (Option.some Jvm.ClassFile.FieldType.int)) ∈ lw_all := lw_g (lw_at lw_m5 139 rfl) rfl
theorem q1149 : (Jvm.Cond.instanceMethod ({ cls := "CoinNotThereModel", name := "doubt", desc := "(II)I" } : Jvm.MethodName)) ∈ lw_all := lw_g (lw_at lw_m5 141 rfl) rfl
theorem q1150 : (Jvm.Cond.selects "CoinNotThereModel" ({ cls := "CoinNotThereModel", name := "doubt", desc := "(II)I" } : Jvm.MethodName) ({ cls := "CoinNotThereModel", name := "doubt", desc := "(II)I" } : Jvm.MethodName)) ∈ lw_all := lw_g (lw_at lw_m5 142 rfl) rfl
theorem q1151 : (Jvm.Cond.code ({ cls := "CoinNotThereModel", name := "doubt", desc := "(II)I" } : Jvm.MethodName) prog_11_method_14_code (4 : Nat) (Option.some Jvm.ClassFile.FieldType.int)) ∈ lw_all := lw_g (lw_at lw_m5 143 rfl) rfl
theorem q1152 : (Jvm.Cond.methodLink "CoinNotThereModel" (105 : Nat) ({ cls := "CoinNotThereModel", name := "isOne", desc := "(I)Z" } : Jvm.MethodName)) ∈ lw_all := lw_g (lw_at lw_m5 144 rfl) rfl
theorem q1153 : (Jvm.Cond.privateMethod ({ cls := "CoinNotThereModel", name := "isOne", desc := "(I)Z" } : Jvm.MethodName)) ∈ lw_tbl := lw_at lw_m5 145 rfl
theorem q1154 : (Jvm.Cond.instanceMethod ({ cls := "CoinNotThereModel", name := "isOne", desc := "(I)Z" } : Jvm.MethodName)) ∈ lw_all := lw_g (lw_at lw_m5 146 rfl) rfl
theorem q1155 : (Jvm.Cond.code ({ cls := "CoinNotThereModel", name := "isOne", desc := "(I)Z" } : Jvm.MethodName) prog_11_method_6_code (2 : Nat) (Option.some Jvm.ClassFile.FieldType.boolean)) ∈ lw_all := lw_g (lw_at lw_m5 147 rfl) rfl
theorem q1157 : (Jvm.Cond.instanceMethod ({ cls := "CoinNotThereModel", name := "told", desc := "(II)I" } : Jvm.MethodName)) ∈ lw_all := lw_g (lw_at lw_m5 149 rfl) rfl
theorem q1158 : (Jvm.Cond.selects "CoinNotThereModel" ({ cls := "CoinNotThereModel", name := "told", desc := "(II)I" } : Jvm.MethodName) ({ cls := "CoinNotThereModel", name := "told", desc := "(II)I" } : Jvm.MethodName)) ∈ lw_all := lw_g (lw_at lw_m5 150 rfl) rfl
theorem q1159 : (Jvm.Cond.code ({ cls := "CoinNotThereModel", name := "told", desc := "(II)I" } : Jvm.MethodName) prog_11_method_15_code (3 : Nat) (Option.some Jvm.ClassFile.FieldType.int)) ∈ lw_all := lw_g (lw_at lw_m5 151 rfl) rfl
theorem q1160 : (Jvm.Cond.methodLink "CoinNotThereModel" (108 : Nat) ({ cls := "CoinNotThereModel", name := "heedOf", desc := "(II)I" } : Jvm.MethodName)) ∈ lw_all := lw_g (lw_at lw_m5 152 rfl) rfl
theorem q1161 : (Jvm.Cond.privateMethod ({ cls := "CoinNotThereModel", name := "heedOf", desc := "(II)I" } : Jvm.MethodName)) ∈ lw_tbl := lw_at lw_m5 153 rfl
theorem q1162 : (Jvm.Cond.instanceMethod ({ cls := "CoinNotThereModel", name := "heedOf", desc := "(II)I" } : Jvm.MethodName)) ∈ lw_all := lw_g (lw_at lw_m5 154 rfl) rfl
theorem q1163 : (Jvm.Cond.code ({ cls := "CoinNotThereModel", name := "heedOf", desc := "(II)I" } : Jvm.MethodName) prog_11_method_31_code (5 : Nat) (Option.some Jvm.ClassFile.FieldType.int)) ∈ lw_all := lw_g (lw_at lw_m5 155 rfl) rfl
theorem q1165 : (Jvm.Cond.instanceMethod ({ cls := "CoinNotThereModel", name := "leave", desc := "(I)I" } : Jvm.MethodName)) ∈ lw_all := lw_g (lw_at lw_m5 157 rfl) rfl
theorem q1166 : (Jvm.Cond.selects "CoinNotThereModel" ({ cls := "CoinNotThereModel", name := "leave", desc := "(I)I" } : Jvm.MethodName) ({ cls := "CoinNotThereModel", name := "leave", desc := "(I)I" } : Jvm.MethodName)) ∈ lw_all := lw_g (lw_at lw_m5 158 rfl) rfl
theorem q1167 : (Jvm.Cond.code ({ cls := "CoinNotThereModel", name := "leave", desc := "(I)I" } : Jvm.MethodName) prog_11_method_16_code (3 : Nat) (Option.some Jvm.ClassFile.FieldType.int)) ∈ lw_all := lw_g (lw_at lw_m5 159 rfl) rfl
theorem q1169 : (Jvm.Cond.instanceMethod ({ cls := "CoinNotThereModel", name := "type", desc := "(JI)I" } : Jvm.MethodName)) ∈ lw_all := lw_g (lw_at lw_m5 161 rfl) rfl
theorem q1170 : (Jvm.Cond.selects "CoinNotThereModel" ({ cls := "CoinNotThereModel", name := "type", desc := "(JI)I" } : Jvm.MethodName) ({ cls := "CoinNotThereModel", name := "type", desc := "(JI)I" } : Jvm.MethodName)) ∈ lw_all := lw_g (lw_at lw_m5 162 rfl) rfl
theorem q1171 : (Jvm.Cond.code ({ cls := "CoinNotThereModel", name := "type", desc := "(JI)I" } : Jvm.MethodName) prog_11_method_17_code (5 : Nat) (Option.some Jvm.ClassFile.FieldType.int)) ∈ lw_all := lw_g (lw_at lw_m5 163 rfl) rfl
theorem q1172 : (Jvm.Cond.constantLong "CoinNotThereModel" (111 : Nat) (8 : Int64)) ∈ lw_all := lw_g (lw_at lw_m5 164 rfl) rfl
theorem q1173 : (Jvm.Cond.constantLong "CoinNotThereModel" (113 : Nat) (255 : Int64)) ∈ lw_all := lw_g (lw_at lw_m5 165 rfl) rfl
theorem q1174 : (Jvm.Cond.constantLong "CoinNotThereModel" (115 : Nat) (32 : Int64)) ∈ lw_all := lw_g (lw_at lw_m5 166 rfl) rfl
theorem q1175 : (Jvm.Cond.constantLong "CoinNotThereModel" (117 : Nat) (126 : Int64)) ∈ lw_all := lw_g (lw_at lw_m5 167 rfl) rfl
theorem q1177 : (Jvm.Cond.instanceMethod ({ cls := "CoinNotThereModel", name := "routine", desc := "()I" } : Jvm.MethodName)) ∈ lw_all := lw_g (lw_at lw_m5 169 rfl) rfl
theorem q1178 : (Jvm.Cond.selects "CoinNotThereModel" ({ cls := "CoinNotThereModel", name := "routine", desc := "()I" } : Jvm.MethodName) ({ cls := "CoinNotThereModel", name := "routine", desc := "()I" } : Jvm.MethodName)) ∈ lw_all := lw_g (lw_at lw_m5 170 rfl) rfl
theorem q1179 : (Jvm.Cond.code ({ cls := "CoinNotThereModel", name := "routine", desc := "()I" } : Jvm.MethodName) prog_11_method_26_code (3 : Nat) (Option.some Jvm.ClassFile.FieldType.int)) ∈ lw_all := lw_g (lw_at lw_m5 171 rfl) rfl
theorem q1180 : (Jvm.Cond.methodLink "CoinNotThereModel" (157 : Nat) ({ cls := "CoinNotThereModel", name := "readAll", desc := "(Z)I" } : Jvm.MethodName)) ∈ lw_all := lw_g (lw_at lw_m5 172 rfl) rfl
theorem q1181 : (Jvm.Cond.privateMethod ({ cls := "CoinNotThereModel", name := "readAll", desc := "(Z)I" } : Jvm.MethodName)) ∈ lw_tbl := lw_at lw_m5 173 rfl
theorem q1182 : (Jvm.Cond.instanceMethod ({ cls := "CoinNotThereModel", name := "readAll", desc := "(Z)I" } : Jvm.MethodName)) ∈ lw_all := lw_g (lw_at lw_m5 174 rfl) rfl
theorem q1183 : (Jvm.Cond.code ({ cls := "CoinNotThereModel", name := "readAll", desc := "(Z)I" } : Jvm.MethodName) prog_11_method_25_code (4 : Nat) (Option.some Jvm.ClassFile.FieldType.int)) ∈ lw_all := lw_g (lw_at lw_m5 175 rfl) rfl
theorem q1184 : (Jvm.Cond.methodLink "CoinNotThereModel" (150 : Nat) ({ cls := "CoinNotThereModel", name := "beatClause", desc := "(I)V" } : Jvm.MethodName)) ∈ lw_all := lw_g (lw_at lw_m5 176 rfl) rfl
theorem q1185 : (Jvm.Cond.privateMethod ({ cls := "CoinNotThereModel", name := "beatClause", desc := "(I)V" } : Jvm.MethodName)) ∈ lw_tbl := lw_at lw_m5 177 rfl
theorem q1186 : (Jvm.Cond.instanceMethod ({ cls := "CoinNotThereModel", name := "beatClause", desc := "(I)V" } : Jvm.MethodName)) ∈ lw_all := lw_g (lw_at lw_m5 178 rfl) rfl
theorem q1187 : (Jvm.Cond.code ({ cls := "CoinNotThereModel", name := "beatClause", desc := "(I)V" } : Jvm.MethodName) prog_11_method_23_code (2 : Nat) (Option.none : Option Jvm.ClassFile.FieldType)) ∈ lw_all := lw_g (lw_at lw_m5 179 rfl) rfl
theorem q1188 : (Jvm.Cond.methodLink "CoinNotThereModel" (140 : Nat) ({ cls := "CoinNotThereModel", name := "number", desc := "(I)I" } : Jvm.MethodName)) ∈ lw_all := lw_g (lw_at lw_m5 180 rfl) rfl
theorem q1189 : (Jvm.Cond.privateMethod ({ cls := "CoinNotThereModel", name := "number", desc := "(I)I" } : Jvm.MethodName)) ∈ lw_tbl := lw_at lw_m5 181 rfl
theorem q1190 : (Jvm.Cond.instanceMethod ({ cls := "CoinNotThereModel", name := "number", desc := "(I)I" } : Jvm.MethodName)) ∈ lw_all := lw_g (lw_at lw_m5 182 rfl) rfl
theorem q1191 : (Jvm.Cond.code ({ cls := "CoinNotThereModel", name := "number", desc := "(I)I" } : Jvm.MethodName) prog_11_method_20_code (4 : Nat) (Option.some Jvm.ClassFile.FieldType.int)) ∈ lw_all := lw_g (lw_at lw_m5 183 rfl) rfl
theorem q1192 : (Jvm.Cond.methodLink "CoinNotThereModel" (129 : Nat) ({ cls := "CoinNotThereModel", name := "here", desc := "()I" } : Jvm.MethodName)) ∈ lw_all := lw_g (lw_at lw_m5 184 rfl) rfl
theorem q1193 : (Jvm.Cond.privateMethod ({ cls := "CoinNotThereModel", name := "here", desc := "()I" } : Jvm.MethodName)) ∈ lw_tbl := lw_at lw_m5 185 rfl
theorem q1194 : (Jvm.Cond.instanceMethod ({ cls := "CoinNotThereModel", name := "here", desc := "()I" } : Jvm.MethodName)) ∈ lw_all := lw_g (lw_at lw_m5 186 rfl) rfl
theorem q1195 : (Jvm.Cond.code ({ cls := "CoinNotThereModel", name := "here", desc := "()I" } : Jvm.MethodName) prog_11_method_18_code (1 : Nat) (Option.some Jvm.ClassFile.FieldType.int)) ∈ lw_all := lw_g (lw_at lw_m5 187 rfl) rfl
theorem q1196 : (Jvm.Cond.constantLong "CoinNotThereModel" (133 : Nat) (48 : Int64)) ∈ lw_all := lw_g (lw_at lw_m5 188 rfl) rfl
theorem q1197 : (Jvm.Cond.constantLong "CoinNotThereModel" (135 : Nat) (57 : Int64)) ∈ lw_all := lw_g (lw_at lw_m5 189 rfl) rfl
theorem q1198 : (Jvm.Cond.methodLink "CoinNotThereModel" (144 : Nat) ({ cls := "CoinNotThereModel", name := "has", desc := "(I)Z" } : Jvm.MethodName)) ∈ lw_all := lw_g (lw_at lw_m5 190 rfl) rfl
theorem q1199 : (Jvm.Cond.privateMethod ({ cls := "CoinNotThereModel", name := "has", desc := "(I)Z" } : Jvm.MethodName)) ∈ lw_tbl := lw_at lw_m5 191 rfl
theorem q1200 : (Jvm.Cond.instanceMethod ({ cls := "CoinNotThereModel", name := "has", desc := "(I)Z" } : Jvm.MethodName)) ∈ lw_all := lw_g (lw_at lw_m5 192 rfl) rfl
theorem q1201 : (Jvm.Cond.code ({ cls := "CoinNotThereModel", name := "has", desc := "(I)Z" } : Jvm.MethodName) prog_11_method_19_code (3 : Nat) (Option.some Jvm.ClassFile.FieldType.boolean)) ∈ lw_all := lw_g (lw_at lw_m5 193 rfl) rfl
theorem q1202 : (Jvm.Cond.methodLink "CoinNotThereModel" (147 : Nat) ({ cls := "CoinNotThereModel", name := "both", desc := "()I" } : Jvm.MethodName)) ∈ lw_all := lw_g (lw_at lw_m5 194 rfl) rfl
theorem q1203 : (Jvm.Cond.privateMethod ({ cls := "CoinNotThereModel", name := "both", desc := "()I" } : Jvm.MethodName)) ∈ lw_tbl := lw_at lw_m5 195 rfl
theorem q1204 : (Jvm.Cond.instanceMethod ({ cls := "CoinNotThereModel", name := "both", desc := "()I" } : Jvm.MethodName)) ∈ lw_all := lw_g (lw_at lw_m5 196 rfl) rfl
theorem q1205 : (Jvm.Cond.code ({ cls := "CoinNotThereModel", name := "both", desc := "()I" } : Jvm.MethodName) prog_11_method_22_code (2 : Nat) (Option.some Jvm.ClassFile.FieldType.int)) ∈ lw_all := lw_g (lw_at lw_m5 197 rfl) rfl
theorem q1206 : (Jvm.Cond.methodLink "CoinNotThereModel" (137 : Nat) ({ cls := "CoinNotThereModel", name := "digit", desc := "(II)I" } : Jvm.MethodName)) ∈ lw_all := lw_g (lw_at lw_m5 198 rfl) rfl
theorem q1207 : (Jvm.Cond.privateMethod ({ cls := "CoinNotThereModel", name := "digit", desc := "(II)I" } : Jvm.MethodName)) ∈ lw_tbl := lw_at lw_m5 199 rfl
theorem q1208 : (Jvm.Cond.instanceMethod ({ cls := "CoinNotThereModel", name := "digit", desc := "(II)I" } : Jvm.MethodName)) ∈ lw_all := lw_g (lw_at lw_m5 200 rfl) rfl
theorem q1209 : (Jvm.Cond.code ({ cls := "CoinNotThereModel", name := "digit", desc := "(II)I" } : Jvm.MethodName) prog_11_method_21_code (4 : Nat) (Option.some Jvm.ClassFile.FieldType.int)) ∈ lw_all := lw_g (lw_at lw_m5 201 rfl) rfl
theorem q1210 : (Jvm.Cond.methodLink "CoinNotThereModel" (154 : Nat) ({ cls := "CoinNotThereModel", name := "seatClause", desc := "(I)V" } : Jvm.MethodName)) ∈ lw_all := lw_g (lw_at lw_m5 202 rfl) rfl
theorem q1211 : (Jvm.Cond.privateMethod ({ cls := "CoinNotThereModel", name := "seatClause", desc := "(I)V" } : Jvm.MethodName)) ∈ lw_tbl := lw_at lw_m5 203 rfl
theorem q1212 : (Jvm.Cond.instanceMethod ({ cls := "CoinNotThereModel", name := "seatClause", desc := "(I)V" } : Jvm.MethodName)) ∈ lw_all := lw_g (lw_at lw_m5 204 rfl) rfl
theorem q1213 : (Jvm.Cond.code ({ cls := "CoinNotThereModel", name := "seatClause", desc := "(I)V" } : Jvm.MethodName) prog_11_method_24_code (5 : Nat) (Option.none : Option Jvm.ClassFile.FieldType)) ∈ lw_all := lw_g (lw_at lw_m5 205 rfl) rfl
theorem q1215 : (Jvm.Cond.instanceMethod ({ cls := "CoinNotThereModel", name := "house", desc := "()I" } : Jvm.MethodName)) ∈ lw_all := lw_g (lw_at lw_m5 207 rfl) rfl
theorem q1216 : (Jvm.Cond.selects "CoinNotThereModel" ({ cls := "CoinNotThereModel", name := "house", desc := "()I" } : Jvm.MethodName) ({ cls := "CoinNotThereModel", name := "house", desc := "()I" } : Jvm.MethodName)) ∈ lw_all := lw_g (lw_at lw_m5 208 rfl) rfl
theorem q1217 : (Jvm.Cond.code ({ cls := "CoinNotThereModel", name := "house", desc := "()I" } : Jvm.MethodName) prog_11_method_27_code (3 : Nat) (Option.some Jvm.ClassFile.FieldType.int)) ∈ lw_all := lw_g (lw_at lw_m5 209 rfl) rfl
theorem q1219 : (Jvm.Cond.instanceMethod ({ cls := "CoinNotThereModel", name := "count", desc := "(I)I" } : Jvm.MethodName)) ∈ lw_all := lw_g (lw_at lw_m5 211 rfl) rfl
theorem q1220 : (Jvm.Cond.selects "CoinNotThereModel" ({ cls := "CoinNotThereModel", name := "count", desc := "(I)I" } : Jvm.MethodName) ({ cls := "CoinNotThereModel", name := "count", desc := "(I)I" } : Jvm.MethodName)) ∈ lw_all := lw_g (lw_at lw_m5 212 rfl) rfl
theorem q1221 : (Jvm.Cond.code ({ cls := "CoinNotThereModel", name := "count", desc := "(I)I" } : Jvm.MethodName) prog_11_method_28_code (4 : Nat) (Option.some Jvm.ClassFile.FieldType.int)) ∈ lw_all := lw_g (lw_at lw_m5 213 rfl) rfl
theorem q1222 : (Jvm.Cond.constantLong "CoinNotThereModel" (161 : Nat) (5 : Int64)) ∈ lw_all := lw_g (lw_at lw_m5 214 rfl) rfl
theorem q1224 : (Jvm.Cond.instanceMethod ({ cls := "CoinNotThereModel", name := "pull", desc := "(IIII)I" } : Jvm.MethodName)) ∈ lw_all := lw_g (lw_at lw_m5 216 rfl) rfl
theorem q1225 : (Jvm.Cond.selects "CoinNotThereModel" ({ cls := "CoinNotThereModel", name := "pull", desc := "(IIII)I" } : Jvm.MethodName) ({ cls := "CoinNotThereModel", name := "pull", desc := "(IIII)I" } : Jvm.MethodName)) ∈ lw_all := lw_g (lw_at lw_m5 217 rfl) rfl
theorem q1226 : (Jvm.Cond.code ({ cls := "CoinNotThereModel", name := "pull", desc := "(IIII)I" } : Jvm.MethodName) prog_11_method_30_code (5 : Nat) (Option.some Jvm.ClassFile.FieldType.int)) ∈ lw_all := lw_g (lw_at lw_m5 218 rfl) rfl
theorem q1227 : (Jvm.Cond.methodLink "CoinNotThereModel" (169 : Nat) ({ cls := "CoinNotThereModel", name := "pullOn", desc := "(IIIII)I" } : Jvm.MethodName)) ∈ lw_all := lw_g (lw_at lw_m5 219 rfl) rfl
theorem q1228 : (Jvm.Cond.privateMethod ({ cls := "CoinNotThereModel", name := "pullOn", desc := "(IIIII)I" } : Jvm.MethodName)) ∈ lw_tbl := lw_at lw_m5 220 rfl
theorem q1229 : (Jvm.Cond.instanceMethod ({ cls := "CoinNotThereModel", name := "pullOn", desc := "(IIIII)I" } : Jvm.MethodName)) ∈ lw_all := lw_g (lw_at lw_m5 221 rfl) rfl
theorem q1230 : (Jvm.Cond.code ({ cls := "CoinNotThereModel", name := "pullOn", desc := "(IIIII)I" } : Jvm.MethodName) prog_11_method_29_code (8 : Nat) (Option.some Jvm.ClassFile.FieldType.int)) ∈ lw_all := lw_g (lw_at lw_m5 222 rfl) rfl
theorem q1232 : (Jvm.Cond.instanceMethod ({ cls := "CoinNotThereModel", name := "heed", desc := "(II)I" } : Jvm.MethodName)) ∈ lw_all := lw_g (lw_at lw_m5 224 rfl) rfl
theorem q1233 : (Jvm.Cond.selects "CoinNotThereModel" ({ cls := "CoinNotThereModel", name := "heed", desc := "(II)I" } : Jvm.MethodName) ({ cls := "CoinNotThereModel", name := "heed", desc := "(II)I" } : Jvm.MethodName)) ∈ lw_all := lw_g (lw_at lw_m5 225 rfl) rfl
theorem q1234 : (Jvm.Cond.code ({ cls := "CoinNotThereModel", name := "heed", desc := "(II)I" } : Jvm.MethodName) prog_11_method_32_code (3 : Nat) (Option.some Jvm.ClassFile.FieldType.int)) ∈ lw_all := lw_g (lw_at lw_m5 226 rfl) rfl
theorem q1236 : (Jvm.Cond.instanceMethod ({ cls := "CoinNotThereModel", name := "can", desc := "(II)I" } : Jvm.MethodName)) ∈ lw_all := lw_g (lw_at lw_m5 228 rfl) rfl
theorem q1237 : (Jvm.Cond.selects "CoinNotThereModel" ({ cls := "CoinNotThereModel", name := "can", desc := "(II)I" } : Jvm.MethodName) ({ cls := "CoinNotThereModel", name := "can", desc := "(II)I" } : Jvm.MethodName)) ∈ lw_all := lw_g (lw_at lw_m5 229 rfl) rfl
theorem q1238 : (Jvm.Cond.code ({ cls := "CoinNotThereModel", name := "can", desc := "(II)I" } : Jvm.MethodName) prog_11_method_34_code (3 : Nat) (Option.some Jvm.ClassFile.FieldType.int)) ∈ lw_all := lw_g (lw_at lw_m5 230 rfl) rfl
theorem q1239 : (Jvm.Cond.methodLink "CoinNotThereModel" (173 : Nat) ({ cls := "CoinNotThereModel", name := "sight", desc := "(III)Z" } : Jvm.MethodName)) ∈ lw_all := lw_g (lw_at lw_m5 231 rfl) rfl
theorem q1240 : (Jvm.Cond.privateMethod ({ cls := "CoinNotThereModel", name := "sight", desc := "(III)Z" } : Jvm.MethodName)) ∈ lw_tbl := lw_at lw_m5 232 rfl
theorem q1241 : (Jvm.Cond.instanceMethod ({ cls := "CoinNotThereModel", name := "sight", desc := "(III)Z" } : Jvm.MethodName)) ∈ lw_all := lw_g (lw_at lw_m5 233 rfl) rfl
theorem q1242 : (Jvm.Cond.code ({ cls := "CoinNotThereModel", name := "sight", desc := "(III)Z" } : Jvm.MethodName) prog_11_method_33_code (5 : Nat) (Option.some Jvm.ClassFile.FieldType.boolean)) ∈ lw_all := lw_g (lw_at lw_m5 234 rfl) rfl
theorem q1244 : (Jvm.Cond.instanceMethod ({ cls := "CoinNotThereModel", name := "odds", desc := "(IIII)I" } : Jvm.MethodName)) ∈ lw_all := lw_g (lw_at lw_m5 236 rfl) rfl
theorem q1245 : (Jvm.Cond.selects "CoinNotThereModel" ({ cls := "CoinNotThereModel", name := "odds", desc := "(IIII)I" } : Jvm.MethodName) ({ cls := "CoinNotThereModel", name := "odds", desc := "(IIII)I" } : Jvm.MethodName)) ∈ lw_all := lw_g (lw_at lw_m5 237 rfl) rfl
theorem q1246 : (Jvm.Cond.code ({ cls := "CoinNotThereModel", name := "odds", desc := "(IIII)I" } : Jvm.MethodName) prog_11_method_36_code (11 : Nat) (Option.some Jvm.ClassFile.FieldType.int)) ∈ lw_all := lw_g (lw_at lw_m5 238 rfl) rfl
theorem q1247 : (Jvm.Cond.methodLink "CoinNotThereModel" (186 : Nat) ({ cls := "CoinNotThereModel", name := "oddsOf", desc := "(III)V" } : Jvm.MethodName)) ∈ lw_all := lw_g (lw_at lw_m5 239 rfl) rfl
theorem q1248 : (Jvm.Cond.privateMethod ({ cls := "CoinNotThereModel", name := "oddsOf", desc := "(III)V" } : Jvm.MethodName)) ∈ lw_tbl := lw_at lw_m6 0 rfl
theorem q1249 : (Jvm.Cond.instanceMethod ({ cls := "CoinNotThereModel", name := "oddsOf", desc := "(III)V" } : Jvm.MethodName)) ∈ lw_all := lw_g (lw_at lw_m6 1 rfl) rfl
theorem q1250 : (Jvm.Cond.code ({ cls := "CoinNotThereModel", name := "oddsOf", desc := "(III)V" } : Jvm.MethodName) prog_11_method_35_code (12 : Nat) (Option.none : Option Jvm.ClassFile.FieldType)) ∈ lw_all := lw_g (lw_at lw_m6 2 rfl) rfl
theorem q1251 : (Jvm.Cond.constantLong "CoinNotThereModel" (181 : Nat) (81 : Int64)) ∈ lw_all := lw_g (lw_at lw_m6 3 rfl) rfl
theorem q1253 : (Jvm.Cond.instanceMethod ({ cls := "CoinNotThereModel", name := "sees", desc := "(II)I" } : Jvm.MethodName)) ∈ lw_all := lw_g (lw_at lw_m6 5 rfl) rfl
theorem q1254 : (Jvm.Cond.selects "CoinNotThereModel" ({ cls := "CoinNotThereModel", name := "sees", desc := "(II)I" } : Jvm.MethodName) ({ cls := "CoinNotThereModel", name := "sees", desc := "(II)I" } : Jvm.MethodName)) ∈ lw_all := lw_g (lw_at lw_m6 6 rfl) rfl
theorem q1255 : (Jvm.Cond.code ({ cls := "CoinNotThereModel", name := "sees", desc := "(II)I" } : Jvm.MethodName) prog_11_method_39_code (3 : Nat) (Option.some Jvm.ClassFile.FieldType.int)) ∈ lw_all := lw_g (lw_at lw_m6 7 rfl) rfl
theorem q1256 : (Jvm.Cond.methodLink "CoinNotThereModel" (195 : Nat) ({ cls := "CoinNotThereModel", name := "seesAll", desc := "(I)I" } : Jvm.MethodName)) ∈ lw_all := lw_g (lw_at lw_m6 8 rfl) rfl
theorem q1257 : (Jvm.Cond.privateMethod ({ cls := "CoinNotThereModel", name := "seesAll", desc := "(I)I" } : Jvm.MethodName)) ∈ lw_tbl := lw_at lw_m6 9 rfl
theorem q1258 : (Jvm.Cond.instanceMethod ({ cls := "CoinNotThereModel", name := "seesAll", desc := "(I)I" } : Jvm.MethodName)) ∈ lw_all := lw_g (lw_at lw_m6 10 rfl) rfl
theorem q1259 : (Jvm.Cond.code ({ cls := "CoinNotThereModel", name := "seesAll", desc := "(I)I" } : Jvm.MethodName) prog_11_method_38_code (4 : Nat) (Option.some Jvm.ClassFile.FieldType.int)) ∈ lw_all := lw_g (lw_at lw_m6 11 rfl) rfl
theorem q1260 : (Jvm.Cond.methodLink "CoinNotThereModel" (192 : Nat) ({ cls := "CoinNotThereModel", name := "seesAt", desc := "(II)I" } : Jvm.MethodName)) ∈ lw_all := lw_g (lw_at lw_m6 12 rfl) rfl
theorem q1261 : (Jvm.Cond.privateMethod ({ cls := "CoinNotThereModel", name := "seesAt", desc := "(II)I" } : Jvm.MethodName)) ∈ lw_tbl := lw_at lw_m6 13 rfl
theorem q1262 : (Jvm.Cond.instanceMethod ({ cls := "CoinNotThereModel", name := "seesAt", desc := "(II)I" } : Jvm.MethodName)) ∈ lw_all := lw_g (lw_at lw_m6 14 rfl) rfl
theorem q1263 : (Jvm.Cond.code ({ cls := "CoinNotThereModel", name := "seesAt", desc := "(II)I" } : Jvm.MethodName) prog_11_method_37_code (5 : Nat) (Option.some Jvm.ClassFile.FieldType.int)) ∈ lw_all := lw_g (lw_at lw_m6 15 rfl) rfl
theorem q1264 : (Jvm.Cond.constantLong "CoinNotThereModel" (190 : Nat) (1000 : Int64)) ∈ lw_all := lw_g (lw_at lw_m6 16 rfl) rfl
theorem q1266 : (Jvm.Cond.instanceMethod ({ cls := "CoinNotThereModel", name := "quiet", desc := "(II)I" } : Jvm.MethodName)) ∈ lw_all := lw_g (lw_at lw_m6 18 rfl) rfl
theorem q1267 : (Jvm.Cond.selects "CoinNotThereModel" ({ cls := "CoinNotThereModel", name := "quiet", desc := "(II)I" } : Jvm.MethodName) ({ cls := "CoinNotThereModel", name := "quiet", desc := "(II)I" } : Jvm.MethodName)) ∈ lw_all := lw_g (lw_at lw_m6 19 rfl) rfl
theorem q1268 : (Jvm.Cond.code ({ cls := "CoinNotThereModel", name := "quiet", desc := "(II)I" } : Jvm.MethodName) prog_11_method_40_code (9 : Nat) (Option.some Jvm.ClassFile.FieldType.int)) ∈ lw_all := lw_g (lw_at lw_m6 20 rfl) rfl
theorem q1270 : (Jvm.Cond.instanceMethod ({ cls := "CoinNotThereModel", name := "cover", desc := "(IIII)I" } : Jvm.MethodName)) ∈ lw_all := lw_g (lw_at lw_m6 22 rfl) rfl
theorem q1271 : (Jvm.Cond.selects "CoinNotThereModel" ({ cls := "CoinNotThereModel", name := "cover", desc := "(IIII)I" } : Jvm.MethodName) ({ cls := "CoinNotThereModel", name := "cover", desc := "(IIII)I" } : Jvm.MethodName)) ∈ lw_all := lw_g (lw_at lw_m6 23 rfl) rfl
theorem q1272 : (Jvm.Cond.code ({ cls := "CoinNotThereModel", name := "cover", desc := "(IIII)I" } : Jvm.MethodName) prog_11_method_41_code (5 : Nat) (Option.some Jvm.ClassFile.FieldType.int)) ∈ lw_all := lw_g (lw_at lw_m6 24 rfl) rfl
theorem q1273 : (Jvm.Cond.constantLong "CoinNotThereModel" (198 : Nat) (99 : Int64)) ∈ lw_all := lw_g (lw_at lw_m6 25 rfl) rfl
theorem q1275 : (Jvm.Cond.instanceMethod ({ cls := "CoinNotThereModel", name := "does", desc := "(II)I" } : Jvm.MethodName)) ∈ lw_all := lw_g (lw_at lw_m6 27 rfl) rfl
theorem q1276 : (Jvm.Cond.selects "CoinNotThereModel" ({ cls := "CoinNotThereModel", name := "does", desc := "(II)I" } : Jvm.MethodName) ({ cls := "CoinNotThereModel", name := "does", desc := "(II)I" } : Jvm.MethodName)) ∈ lw_all := lw_g (lw_at lw_m6 28 rfl) rfl
theorem q1277 : (Jvm.Cond.code ({ cls := "CoinNotThereModel", name := "does", desc := "(II)I" } : Jvm.MethodName) prog_11_method_43_code (5 : Nat) (Option.some Jvm.ClassFile.FieldType.int)) ∈ lw_all := lw_g (lw_at lw_m6 29 rfl) rfl
theorem q1278 : (Jvm.Cond.constant "CoinNotThereModel" (200 : Nat) (-100001 : Int32)) ∈ lw_all := lw_g (lw_at lw_m6 30 rfl) rfl
theorem q1279 : (Jvm.Cond.methodLink "CoinNotThereModel" (201 : Nat) ({ cls := "CoinNotThereModel", name := "seesWith", desc := "(I)I" } : Jvm.MethodName)) ∈ lw_all := lw_g (lw_at lw_m6 31 rfl) rfl
theorem q1280 : (Jvm.Cond.privateMethod ({ cls := "CoinNotThereModel", name := "seesWith", desc := "(I)I" } : Jvm.MethodName)) ∈ lw_tbl := lw_at lw_m6 32 rfl
theorem q1281 : (Jvm.Cond.instanceMethod ({ cls := "CoinNotThereModel", name := "seesWith", desc := "(I)I" } : Jvm.MethodName)) ∈ lw_all := lw_g (lw_at lw_m6 33 rfl) rfl
theorem q1282 : (Jvm.Cond.code ({ cls := "CoinNotThereModel", name := "seesWith", desc := "(I)I" } : Jvm.MethodName) prog_11_method_42_code (6 : Nat) (Option.some Jvm.ClassFile.FieldType.int)) ∈ lw_all := lw_g (lw_at lw_m6 34 rfl) rfl
theorem q1284 : (Jvm.Cond.instanceMethod ({ cls := "CoinNotThereModel", name := "bought", desc := "(II)I" } : Jvm.MethodName)) ∈ lw_all := lw_g (lw_at lw_m6 36 rfl) rfl
theorem q1285 : (Jvm.Cond.selects "CoinNotThereModel" ({ cls := "CoinNotThereModel", name := "bought", desc := "(II)I" } : Jvm.MethodName) ({ cls := "CoinNotThereModel", name := "bought", desc := "(II)I" } : Jvm.MethodName)) ∈ lw_all := lw_g (lw_at lw_m6 37 rfl) rfl
theorem q1286 : (Jvm.Cond.code ({ cls := "CoinNotThereModel", name := "bought", desc := "(II)I" } : Jvm.MethodName) prog_11_method_44_code (9 : Nat) (Option.some Jvm.ClassFile.FieldType.int)) ∈ lw_all := lw_g (lw_at lw_m6 38 rfl) rfl
theorem q1287 : (Jvm.Cond.constantLong "CoinNotThereModel" (204 : Nat) (999 : Int64)) ∈ lw_all := lw_g (lw_at lw_m6 39 rfl) rfl
theorem q1289 : (Jvm.Cond.instanceMethod ({ cls := "CoinNotThereModel", name := "stances", desc := "()I" } : Jvm.MethodName)) ∈ lw_all := lw_g (lw_at lw_m6 41 rfl) rfl
theorem q1290 : (Jvm.Cond.selects "CoinNotThereModel" ({ cls := "CoinNotThereModel", name := "stances", desc := "()I" } : Jvm.MethodName) ({ cls := "CoinNotThereModel", name := "stances", desc := "()I" } : Jvm.MethodName)) ∈ lw_all := lw_g (lw_at lw_m6 42 rfl) rfl
theorem q1291 : (Jvm.Cond.code ({ cls := "CoinNotThereModel", name := "stances", desc := "()I" } : Jvm.MethodName) prog_11_method_45_code (6 : Nat) (Option.some Jvm.ClassFile.FieldType.int)) ∈ lw_all := lw_g (lw_at lw_m6 43 rfl) rfl
theorem q1293 : (Jvm.Cond.instanceMethod ({ cls := "CoinNotThereModel", name := "often", desc := "(I)I" } : Jvm.MethodName)) ∈ lw_all := lw_g (lw_at lw_m6 45 rfl) rfl
theorem q1294 : (Jvm.Cond.selects "CoinNotThereModel" ({ cls := "CoinNotThereModel", name := "often", desc := "(I)I" } : Jvm.MethodName) ({ cls := "CoinNotThereModel", name := "often", desc := "(I)I" } : Jvm.MethodName)) ∈ lw_all := lw_g (lw_at lw_m6 46 rfl) rfl
theorem q1295 : (Jvm.Cond.code ({ cls := "CoinNotThereModel", name := "often", desc := "(I)I" } : Jvm.MethodName) prog_11_method_46_code (3 : Nat) (Option.some Jvm.ClassFile.FieldType.int)) ∈ lw_all := lw_g (lw_at lw_m6 47 rfl) rfl
theorem q1296 : (Jvm.Cond.constantLong "CoinNotThereModel" (206 : Nat) (99999 : Int64)) ∈ lw_all := lw_g (lw_at lw_m6 48 rfl) rfl
theorem q1298 : (Jvm.Cond.instanceMethod ({ cls := "CoinNotThereModel", name := "warning", desc := "()I" } : Jvm.MethodName)) ∈ lw_all := lw_g (lw_at lw_m6 50 rfl) rfl
theorem q1299 : (Jvm.Cond.selects "CoinNotThereModel" ({ cls := "CoinNotThereModel", name := "warning", desc := "()I" } : Jvm.MethodName) ({ cls := "CoinNotThereModel", name := "warning", desc := "()I" } : Jvm.MethodName)) ∈ lw_all := lw_g (lw_at lw_m6 51 rfl) rfl
theorem q1300 : (Jvm.Cond.code ({ cls := "CoinNotThereModel", name := "warning", desc := "()I" } : Jvm.MethodName) prog_11_method_47_code (5 : Nat) (Option.some Jvm.ClassFile.FieldType.int)) ∈ lw_all := lw_g (lw_at lw_m6 52 rfl) rfl
theorem q1302 : (Jvm.Cond.instanceMethod ({ cls := "CoinNotThereModel", name := "shown", desc := "(I)I" } : Jvm.MethodName)) ∈ lw_all := lw_g (lw_at lw_m6 54 rfl) rfl
theorem q1303 : (Jvm.Cond.selects "CoinNotThereModel" ({ cls := "CoinNotThereModel", name := "shown", desc := "(I)I" } : Jvm.MethodName) ({ cls := "CoinNotThereModel", name := "shown", desc := "(I)I" } : Jvm.MethodName)) ∈ lw_all := lw_g (lw_at lw_m6 55 rfl) rfl
theorem q1304 : (Jvm.Cond.code ({ cls := "CoinNotThereModel", name := "shown", desc := "(I)I" } : Jvm.MethodName) prog_11_method_49_code (8 : Nat) (Option.some Jvm.ClassFile.FieldType.int)) ∈ lw_all := lw_g (lw_at lw_m6 56 rfl) rfl
theorem q1305 : (Jvm.Cond.methodLink "CoinNotThereModel" (208 : Nat) ({ cls := "CoinNotThereModel", name := "shownAt", desc := "(I)I" } : Jvm.MethodName)) ∈ lw_all := lw_g (lw_at lw_m6 57 rfl) rfl
theorem q1306 : (Jvm.Cond.privateMethod ({ cls := "CoinNotThereModel", name := "shownAt", desc := "(I)I" } : Jvm.MethodName)) ∈ lw_tbl := lw_at lw_m6 58 rfl
theorem q1307 : (Jvm.Cond.instanceMethod ({ cls := "CoinNotThereModel", name := "shownAt", desc := "(I)I" } : Jvm.MethodName)) ∈ lw_all := lw_g (lw_at lw_m6 59 rfl) rfl
theorem q1308 : (Jvm.Cond.code ({ cls := "CoinNotThereModel", name := "shownAt", desc := "(I)I" } : Jvm.MethodName) prog_11_method_48_code (5 : Nat) (Option.some Jvm.ClassFile.FieldType.int)) ∈ lw_all := lw_g (lw_at lw_m6 60 rfl) rfl
theorem q1310 : (Jvm.Cond.instanceMethod ({ cls := "CoinNotThereModel", name := "point", desc := "(II)I" } : Jvm.MethodName)) ∈ lw_all := lw_g (lw_at lw_m6 62 rfl) rfl
theorem q1311 : (Jvm.Cond.selects "CoinNotThereModel" ({ cls := "CoinNotThereModel", name := "point", desc := "(II)I" } : Jvm.MethodName) ({ cls := "CoinNotThereModel", name := "point", desc := "(II)I" } : Jvm.MethodName)) ∈ lw_all := lw_g (lw_at lw_m6 63 rfl) rfl
theorem q1312 : (Jvm.Cond.code ({ cls := "CoinNotThereModel", name := "point", desc := "(II)I" } : Jvm.MethodName) prog_11_method_51_code (3 : Nat) (Option.some Jvm.ClassFile.FieldType.int)) ∈ lw_all := lw_g (lw_at lw_m6 64 rfl) rfl
theorem q1313 : (Jvm.Cond.methodLink "CoinNotThereModel" (211 : Nat) ({ cls := "CoinNotThereModel", name := "pointed", desc := "(II)V" } : Jvm.MethodName)) ∈ lw_all := lw_g (lw_at lw_m6 65 rfl) rfl
theorem q1314 : (Jvm.Cond.privateMethod ({ cls := "CoinNotThereModel", name := "pointed", desc := "(II)V" } : Jvm.MethodName)) ∈ lw_tbl := lw_at lw_m6 66 rfl
theorem q1315 : (Jvm.Cond.instanceMethod ({ cls := "CoinNotThereModel", name := "pointed", desc := "(II)V" } : Jvm.MethodName)) ∈ lw_all := lw_g (lw_at lw_m6 67 rfl) rfl
theorem q1316 : (Jvm.Cond.code ({ cls := "CoinNotThereModel", name := "pointed", desc := "(II)V" } : Jvm.MethodName) prog_11_method_50_code (3 : Nat) (Option.none : Option Jvm.ClassFile.FieldType)) ∈ lw_all := lw_g (lw_at lw_m6 68 rfl) rfl
theorem q1318 : (Jvm.Cond.instanceMethod ({ cls := "CoinNotThereModel", name := "fits", desc := "(I)I" } : Jvm.MethodName)) ∈ lw_all := lw_g (lw_at lw_m6 70 rfl) rfl
theorem q1319 : (Jvm.Cond.selects "CoinNotThereModel" ({ cls := "CoinNotThereModel", name := "fits", desc := "(I)I" } : Jvm.MethodName) ({ cls := "CoinNotThereModel", name := "fits", desc := "(I)I" } : Jvm.MethodName)) ∈ lw_all := lw_g (lw_at lw_m6 71 rfl) rfl
theorem q1320 : (Jvm.Cond.code ({ cls := "CoinNotThereModel", name := "fits", desc := "(I)I" } : Jvm.MethodName) prog_11_method_52_code (11 : Nat) (Option.some Jvm.ClassFile.FieldType.int)) ∈ lw_all := lw_g (lw_at lw_m6 72 rfl) rfl
theorem q1322 : (Jvm.Cond.instanceMethod ({ cls := "CoinNotThereModel", name := "apart", desc := "(IIII)I" } : Jvm.MethodName)) ∈ lw_all := lw_g (lw_at lw_m6 74 rfl) rfl
theorem q1323 : (Jvm.Cond.selects "CoinNotThereModel" ({ cls := "CoinNotThereModel", name := "apart", desc := "(IIII)I" } : Jvm.MethodName) ({ cls := "CoinNotThereModel", name := "apart", desc := "(IIII)I" } : Jvm.MethodName)) ∈ lw_all := lw_g (lw_at lw_m6 75 rfl) rfl
theorem q1324 : (Jvm.Cond.code ({ cls := "CoinNotThereModel", name := "apart", desc := "(IIII)I" } : Jvm.MethodName) prog_11_method_54_code (5 : Nat) (Option.some Jvm.ClassFile.FieldType.int)) ∈ lw_all := lw_g (lw_at lw_m6 76 rfl) rfl
theorem q1325 : (Jvm.Cond.methodLink "CoinNotThereModel" (215 : Nat) ({ cls := "CoinNotThereModel", name := "share", desc := "(II)I" } : Jvm.MethodName)) ∈ lw_all := lw_g (lw_at lw_m6 77 rfl) rfl
theorem q1326 : (Jvm.Cond.static ({ cls := "CoinNotThereModel", name := "share", desc := "(II)I" } : Jvm.MethodName)) ∈ lw_all := lw_g (lw_at lw_m6 78 rfl) rfl
theorem q1327 : (Jvm.Cond.code ({ cls := "CoinNotThereModel", name := "share", desc := "(II)I" } : Jvm.MethodName) prog_11_method_53_code (2 : Nat) (Option.some Jvm.ClassFile.FieldType.int)) ∈ lw_all := lw_g (lw_at lw_m6 79 rfl) rfl
theorem q1329 : (Jvm.Cond.instanceMethod ({ cls := "CoinNotThereModel", name := "clear", desc := "()I" } : Jvm.MethodName)) ∈ lw_all := lw_g (lw_at lw_m6 81 rfl) rfl
theorem q1330 : (Jvm.Cond.selects "CoinNotThereModel" ({ cls := "CoinNotThereModel", name := "clear", desc := "()I" } : Jvm.MethodName) ({ cls := "CoinNotThereModel", name := "clear", desc := "()I" } : Jvm.MethodName)) ∈ lw_all := lw_g (lw_at lw_m6 82 rfl) rfl
theorem q1331 : (Jvm.Cond.code ({ cls := "CoinNotThereModel", name := "clear", desc := "()I" } : Jvm.MethodName) prog_11_method_55_code (2 : Nat) (Option.some Jvm.ClassFile.FieldType.int)) ∈ lw_all := lw_g (lw_at lw_m6 83 rfl) rfl
theorem q1333 : (Jvm.Cond.instanceMethod ({ cls := "CoinNotThereModel", name := "image", desc := "()I" } : Jvm.MethodName)) ∈ lw_all := lw_g (lw_at lw_m6 85 rfl) rfl
theorem q1334 : (Jvm.Cond.selects "CoinNotThereModel" ({ cls := "CoinNotThereModel", name := "image", desc := "()I" } : Jvm.MethodName) ({ cls := "CoinNotThereModel", name := "image", desc := "()I" } : Jvm.MethodName)) ∈ lw_all := lw_g (lw_at lw_m6 86 rfl) rfl
theorem q1335 : (Jvm.Cond.code ({ cls := "CoinNotThereModel", name := "image", desc := "()I" } : Jvm.MethodName) prog_11_method_58_code (2 : Nat) (Option.some Jvm.ClassFile.FieldType.int)) ∈ lw_all := lw_g (lw_at lw_m6 87 rfl) rfl
theorem q1336 : (Jvm.Cond.methodLink "CoinNotThereModel" (218 : Nat) ({ cls := "CoinNotThereModel", name := "saves", desc := "([I[II)I" } : Jvm.MethodName)) ∈ lw_all := lw_g (lw_at lw_m6 88 rfl) rfl
theorem q1337 : (Jvm.Cond.static ({ cls := "CoinNotThereModel", name := "saves", desc := "([I[II)I" } : Jvm.MethodName)) ∈ lw_all := lw_g (lw_at lw_m6 89 rfl) rfl
theorem q1338 : (Jvm.Cond.code ({ cls := "CoinNotThereModel", name := "saves", desc := "([I[II)I" } : Jvm.MethodName) prog_11_method_56_code (4 : Nat) (Option.some Jvm.ClassFile.FieldType.int)) ∈ lw_all := lw_g (lw_at lw_m6 90 rfl) rfl
theorem q1340 : (Jvm.Cond.instanceMethod ({ cls := "CoinNotThereModel", name := "restore", desc := "()I" } : Jvm.MethodName)) ∈ lw_all := lw_g (lw_at lw_m6 92 rfl) rfl
theorem q1341 : (Jvm.Cond.selects "CoinNotThereModel" ({ cls := "CoinNotThereModel", name := "restore", desc := "()I" } : Jvm.MethodName) ({ cls := "CoinNotThereModel", name := "restore", desc := "()I" } : Jvm.MethodName)) ∈ lw_all := lw_g (lw_at lw_m6 93 rfl) rfl
theorem q1342 : (Jvm.Cond.code ({ cls := "CoinNotThereModel", name := "restore", desc := "()I" } : Jvm.MethodName) prog_11_method_59_code (2 : Nat) (Option.some Jvm.ClassFile.FieldType.int)) ∈ lw_all := lw_g (lw_at lw_m6 94 rfl) rfl
theorem q1343 : (Jvm.Cond.methodLink "CoinNotThereModel" (225 : Nat) ({ cls := "CoinNotThereModel", name := "gives", desc := "([II[I)I" } : Jvm.MethodName)) ∈ lw_all := lw_g (lw_at lw_m6 95 rfl) rfl
theorem q1344 : (Jvm.Cond.static ({ cls := "CoinNotThereModel", name := "gives", desc := "([II[I)I" } : Jvm.MethodName)) ∈ lw_all := lw_g (lw_at lw_m6 96 rfl) rfl
theorem q1345 : (Jvm.Cond.code ({ cls := "CoinNotThereModel", name := "gives", desc := "([II[I)I" } : Jvm.MethodName) prog_11_method_57_code (4 : Nat) (Option.some Jvm.ClassFile.FieldType.int)) ∈ lw_all := lw_g (lw_at lw_m6 97 rfl) rfl
theorem q1347 : (Jvm.Cond.instanceMethod ({ cls := "CoinNotThereModel", name := "eyes", desc := "(IIIII)I" } : Jvm.MethodName)) ∈ lw_all := lw_g (lw_at lw_m6 99 rfl) rfl
theorem q1348 : (Jvm.Cond.selects "CoinNotThereModel" ({ cls := "CoinNotThereModel", name := "eyes", desc := "(IIIII)I" } : Jvm.MethodName) ({ cls := "CoinNotThereModel", name := "eyes", desc := "(IIIII)I" } : Jvm.MethodName)) ∈ lw_all := lw_g (lw_at lw_m6 100 rfl) rfl
theorem q1349 : (Jvm.Cond.code ({ cls := "CoinNotThereModel", name := "eyes", desc := "(IIIII)I" } : Jvm.MethodName) prog_11_method_63_code (10 : Nat) (Option.some Jvm.ClassFile.FieldType.int)) ∈ lw_all := lw_g (lw_at lw_m6 101 rfl) rfl
theorem q1350 : (Jvm.Cond.methodLink "CoinNotThereModel" (229 : Nat) ({ cls := "CoinNotThereModel", name := "isSheet", desc := "(I)Z" } : Jvm.MethodName)) ∈ lw_all := lw_g (lw_at lw_m6 102 rfl) rfl
theorem q1351 : (Jvm.Cond.static ({ cls := "CoinNotThereModel", name := "isSheet", desc := "(I)Z" } : Jvm.MethodName)) ∈ lw_all := lw_g (lw_at lw_m6 103 rfl) rfl
theorem q1352 : (Jvm.Cond.code ({ cls := "CoinNotThereModel", name := "isSheet", desc := "(I)Z" } : Jvm.MethodName) prog_11_method_60_code (1 : Nat) (Option.some Jvm.ClassFile.FieldType.boolean)) ∈ lw_all := lw_g (lw_at lw_m6 104 rfl) rfl
theorem q1353 : (Jvm.Cond.methodLink "CoinNotThereModel" (232 : Nat) ({ cls := "CoinNotThereModel", name := "isLane", desc := "(I)Z" } : Jvm.MethodName)) ∈ lw_all := lw_g (lw_at lw_m6 105 rfl) rfl
theorem q1354 : (Jvm.Cond.static ({ cls := "CoinNotThereModel", name := "isLane", desc := "(I)Z" } : Jvm.MethodName)) ∈ lw_all := lw_g (lw_at lw_m6 106 rfl) rfl
theorem q1355 : (Jvm.Cond.code ({ cls := "CoinNotThereModel", name := "isLane", desc := "(I)Z" } : Jvm.MethodName) prog_11_method_61_code (1 : Nat) (Option.some Jvm.ClassFile.FieldType.boolean)) ∈ lw_all := lw_g (lw_at lw_m6 107 rfl) rfl
theorem q1356 : (Jvm.Cond.constantLong "CoinNotThereModel" (235 : Nat) (16 : Int64)) ∈ lw_all := lw_g (lw_at lw_m6 108 rfl) rfl
theorem q1357 : (Jvm.Cond.methodLink "CoinNotThereModel" (237 : Nat) ({ cls := "CoinNotThereModel", name := "finds", desc := "(IIII)I" } : Jvm.MethodName)) ∈ lw_all := lw_g (lw_at lw_m6 109 rfl) rfl
theorem q1358 : (Jvm.Cond.privateMethod ({ cls := "CoinNotThereModel", name := "finds", desc := "(IIII)I" } : Jvm.MethodName)) ∈ lw_tbl := lw_at lw_m6 110 rfl
theorem q1359 : (Jvm.Cond.instanceMethod ({ cls := "CoinNotThereModel", name := "finds", desc := "(IIII)I" } : Jvm.MethodName)) ∈ lw_all := lw_g (lw_at lw_m6 111 rfl) rfl
theorem q1360 : (Jvm.Cond.code ({ cls := "CoinNotThereModel", name := "finds", desc := "(IIII)I" } : Jvm.MethodName) prog_11_method_62_code (5 : Nat) (Option.some Jvm.ClassFile.FieldType.int)) ∈ lw_all := lw_g (lw_at lw_m6 112 rfl) rfl
theorem q1362 : (Jvm.Cond.instanceMethod ({ cls := "CoinNotThereModel", name := "sheet", desc := "(III)I" } : Jvm.MethodName)) ∈ lw_all := lw_g (lw_at lw_m6 114 rfl) rfl
theorem q1363 : (Jvm.Cond.selects "CoinNotThereModel" ({ cls := "CoinNotThereModel", name := "sheet", desc := "(III)I" } : Jvm.MethodName) ({ cls := "CoinNotThereModel", name := "sheet", desc := "(III)I" } : Jvm.MethodName)) ∈ lw_all := lw_g (lw_at lw_m6 115 rfl) rfl
theorem q1364 : (Jvm.Cond.code ({ cls := "CoinNotThereModel", name := "sheet", desc := "(III)I" } : Jvm.MethodName) prog_11_method_64_code (5 : Nat) (Option.some Jvm.ClassFile.FieldType.int)) ∈ lw_all := lw_g (lw_at lw_m6 116 rfl) rfl
theorem q1366 : (Jvm.Cond.instanceMethod ({ cls := "CoinNotThereModel", name := "drop", desc := "(I)I" } : Jvm.MethodName)) ∈ lw_all := lw_g (lw_at lw_m6 118 rfl) rfl
theorem q1367 : (Jvm.Cond.selects "CoinNotThereModel" ({ cls := "CoinNotThereModel", name := "drop", desc := "(I)I" } : Jvm.MethodName) ({ cls := "CoinNotThereModel", name := "drop", desc := "(I)I" } : Jvm.MethodName)) ∈ lw_all := lw_g (lw_at lw_m6 119 rfl) rfl
theorem q1368 : (Jvm.Cond.code ({ cls := "CoinNotThereModel", name := "drop", desc := "(I)I" } : Jvm.MethodName) prog_11_method_65_code (2 : Nat) (Option.some Jvm.ClassFile.FieldType.int)) ∈ lw_all := lw_g (lw_at lw_m6 120 rfl) rfl
theorem q1370 : (Jvm.Cond.instanceMethod ({ cls := "CoinNotThereModel", name := "item", desc := "(IIII)I" } : Jvm.MethodName)) ∈ lw_all := lw_g (lw_at lw_m6 122 rfl) rfl
theorem q1371 : (Jvm.Cond.selects "CoinNotThereModel" ({ cls := "CoinNotThereModel", name := "item", desc := "(IIII)I" } : Jvm.MethodName) ({ cls := "CoinNotThereModel", name := "item", desc := "(IIII)I" } : Jvm.MethodName)) ∈ lw_all := lw_g (lw_at lw_m6 123 rfl) rfl
theorem q1372 : (Jvm.Cond.code ({ cls := "CoinNotThereModel", name := "item", desc := "(IIII)I" } : Jvm.MethodName) prog_11_method_66_code (6 : Nat) (Option.some Jvm.ClassFile.FieldType.int)) ∈ lw_all := lw_g (lw_at lw_m6 124 rfl) rfl
theorem q1374 : (Jvm.Cond.instanceMethod ({ cls := "CoinNotThereModel", name := "copy", desc := "(IIIII)I" } : Jvm.MethodName)) ∈ lw_all := lw_g (lw_at lw_m6 126 rfl) rfl
theorem q1375 : (Jvm.Cond.selects "CoinNotThereModel" ({ cls := "CoinNotThereModel", name := "copy", desc := "(IIIII)I" } : Jvm.MethodName) ({ cls := "CoinNotThereModel", name := "copy", desc := "(IIIII)I" } : Jvm.MethodName)) ∈ lw_all := lw_g (lw_at lw_m6 127 rfl) rfl
theorem q1376 : (Jvm.Cond.code ({ cls := "CoinNotThereModel", name := "copy", desc := "(IIIII)I" } : Jvm.MethodName) prog_11_method_67_code (7 : Nat) (Option.some Jvm.ClassFile.FieldType.int)) ∈ lw_all := lw_g (lw_at lw_m6 128 rfl) rfl
theorem q1391 : (Jvm.Cond.castable "CoinNotThereModel" "java/lang/Object") ∈ lw_tbl := lw_at lw_m6 143 rfl
theorem in_X6 : ∀ w ∈ wsX60, w ∈ lw_all := lw_in wsX60 [1046, 1048, 1050, 1052, 1054, 1056, 1058, 1060, 1062, 1064, 1066, 1068, 1070, 1072, 1074, 1076, 1078, 1080, 1082, 1084, 1086, 1088, 1090, 1092, 1094, 1096, 1098, 1100] (by decide +kernel) (by decide +kernel)
