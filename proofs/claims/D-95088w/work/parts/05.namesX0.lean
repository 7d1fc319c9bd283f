/-! CoinNotThere -/
set_option maxRecDepth 100000
def RX0 : String := "CoinNotThere"
def TX0 : u_T := fun k => match k with
  | 0 => ("CoinNotThere", "told", "LCoinNotThere$Routine;", true)
  | 1 => ("CoinNotThere", "then", "LCoinNotThere$Routine;", true)
  | 2 => ("CoinNotThere", "watchers", "Ljava/util/List;", true)
  | 3 => ("CoinNotThere", "fault", "LCoinNotThere$Fault;", true)
  | 4 => ("CoinNotThere", "tape", "[B", true)
  | 5 => ("CoinNotThere", "taped", "I", false)
  | 6 => ("CoinNotThere", "at", "I", false)
  | 7 => ("CoinNotThere", "got", "Ljava/util/List;", true)
  | 8 => ("CoinNotThere", "above", "I", false)
  | 9 => ("CoinNotThere", "below", "I", false)
  | 10 => ("CoinNotThere", "covers", "[I", true)
  | 11 => ("CoinNotThere", "coverMany", "I", false)
  | 12 => ("CoinNotThere", "points", "[I", true)
  | 13 => ("CoinNotThere", "pointMany", "I", false)
  | 14 => ("CoinNotThere", "plain", "LCoinNotThere$Watcher;", true)
  | 15 => ("CoinNotThere", "isKept", "Z", false)
  | 16 => ("CoinNotThere", "kept", "LCoinNotThere$Routine;", true)
  | 17 => ("CoinNotThere", "keptWatchers", "Ljava/util/List;", true)
  | 18 => ("CoinNotThere", "keptCovers", "[I", true)
  | 19 => ("CoinNotThere", "keptPoints", "[I", true)
  | 20 => ("CoinNotThere", "keptCoverMany", "I", false)
  | 21 => ("CoinNotThere", "keptPointMany", "I", false)
  | _ => ("CoinNotThere", "sheets", "[LCoinNotThere$Sheet;", true)
def tyX0 : Nat → FieldType := fun k => match k with
  | 0 => .object "CoinNotThere$Routine"
  | 1 => .object "CoinNotThere$Routine"
  | 2 => .object "java/util/List"
  | 3 => .object "CoinNotThere$Fault"
  | 4 => .array .byte
  | 5 => .int
  | 6 => .int
  | 7 => .object "java/util/List"
  | 8 => .int
  | 9 => .int
  | 10 => .array .int
  | 11 => .int
  | 12 => .array .int
  | 13 => .int
  | 14 => .object "CoinNotThere$Watcher"
  | 15 => .boolean
  | 16 => .object "CoinNotThere$Routine"
  | 17 => .object "java/util/List"
  | 18 => .array .int
  | 19 => .array .int
  | 20 => .int
  | 21 => .int
  | _ => .array (.object "CoinNotThere$Sheet")
abbrev wsX00 : List Cond := u_ws RX0 TX0 23
set_option maxRecDepth 100000 in
theorem nmX0 : ∀ a, a < 23 → ∀ b, b < 23 → a ≠ b → (TX0 a).2.1 ≠ (TX0 b).2.1 := by decide +kernel
set_option maxRecDepth 100000 in
theorem tyX0_ok : ∀ k, k < 23 → parseFieldDescriptor (TX0 k).2.2.1 = some (tyX0 k) := by decide +kernel
abbrev cX0_init : ByteArray := prog_1_method_5_code
def yX0_init : MethodName := ⟨RX0, "<init>", "()V"⟩
def dkwX0_init_7 : List UInt8 := [132, 1, 1, 167, 255, 235, 177]
abbrev dktX0_init_7 : List UInt8 := dkwX0_init_7 ++ []
def dkwX0_init_6 : List UInt8 := [181, 0, 74, 3, 60, 27, 7, 162, 0, 22, 42, 180, 0, 74, 27, 187, 0, 72, 89, 183, 0, 78, 83]
abbrev dktX0_init_6 : List UInt8 := dkwX0_init_6 ++ dktX0_init_7
def dkwX0_init_5 : List UInt8 := [181, 0, 63, 42, 16, 32, 188, 10, 181, 0, 66, 42, 16, 48, 188, 10, 181, 0, 69, 42, 7, 189, 0, 72]
abbrev dktX0_init_5 : List UInt8 := dkwX0_init_5 ++ dktX0_init_6
def dkwX0_init_4 : List UInt8 := [181, 0, 56, 42, 187, 0, 13, 89, 183, 0, 15, 181, 0, 60, 42, 187, 0, 23, 89, 183, 0, 25]
abbrev dktX0_init_4 : List UInt8 := dkwX0_init_4 ++ dktX0_init_5
def dkwX0_init_3 : List UInt8 := [16, 32, 188, 10, 181, 0, 44, 42, 16, 48, 188, 10, 181, 0, 48, 42, 187, 0, 51, 89, 3, 183, 0, 53]
abbrev dktX0_init_3 : List UInt8 := dkwX0_init_3 ++ dktX0_init_4
def dkwX0_init_2 : List UInt8 := [181, 0, 33, 42, 16, 100, 188, 8, 181, 0, 37, 42, 187, 0, 23, 89, 183, 0, 25, 181, 0, 41, 42]
abbrev dktX0_init_2 : List UInt8 := dkwX0_init_2 ++ dktX0_init_3
def dkwX0_init_1 : List UInt8 := [181, 0, 20, 42, 187, 0, 23, 89, 183, 0, 25, 181, 0, 26, 42, 187, 0, 30, 89, 183, 0, 32]
abbrev dktX0_init_1 : List UInt8 := dkwX0_init_1 ++ dktX0_init_2
def dkwX0_init_0 : List UInt8 := [42, 183, 0, 7, 42, 187, 0, 13, 89, 183, 0, 15, 181, 0, 16, 42, 187, 0, 13, 89, 183, 0, 15]
abbrev dktX0_init_0 : List UInt8 := dkwX0_init_0 ++ dktX0_init_1
theorem dksX0_init_0 : cX0_init.data.toList.drop 0 = dktX0_init_0 := by decide +kernel
theorem dksX0_init_1 : cX0_init.data.toList.drop 23 = dktX0_init_1 := dk_seg dksX0_init_0 23 rfl rfl
theorem dksX0_init_2 : cX0_init.data.toList.drop 45 = dktX0_init_2 := dk_seg dksX0_init_1 22 rfl rfl
theorem dksX0_init_3 : cX0_init.data.toList.drop 68 = dktX0_init_3 := dk_seg dksX0_init_2 23 rfl rfl
theorem dksX0_init_4 : cX0_init.data.toList.drop 92 = dktX0_init_4 := dk_seg dksX0_init_3 24 rfl rfl
theorem dksX0_init_5 : cX0_init.data.toList.drop 114 = dktX0_init_5 := dk_seg dksX0_init_4 22 rfl rfl
theorem dksX0_init_6 : cX0_init.data.toList.drop 138 = dktX0_init_6 := dk_seg dksX0_init_5 24 rfl rfl
theorem dksX0_init_7 : cX0_init.data.toList.drop 161 = dktX0_init_7 := dk_seg dksX0_init_6 23 rfl rfl
theorem dX0_init_0 : decode cX0_init 0 = .ok (.aload_n 0, 1) := dk_42 (dk_at dksX0_init_0 0 rfl rfl)
theorem dX0_init_1 : decode cX0_init 1 = .ok (.invokespecial 7, 3) := dk_183 0 7 (dk_at dksX0_init_0 1 rfl rfl)
theorem dX0_init_4 : decode cX0_init 4 = .ok (.aload_n 0, 1) := dk_42 (dk_at dksX0_init_0 4 rfl rfl)
theorem dX0_init_5 : decode cX0_init 5 = .ok (.new 13, 3) := dk_187 0 13 (dk_at dksX0_init_0 5 rfl rfl)
theorem dX0_init_8 : decode cX0_init 8 = .ok (.dup, 1) := dk_89 (dk_at dksX0_init_0 8 rfl rfl)
theorem dX0_init_9 : decode cX0_init 9 = .ok (.invokespecial 15, 3) := dk_183 0 15 (dk_at dksX0_init_0 9 rfl rfl)
theorem dX0_init_12 : decode cX0_init 12 = .ok (.putfield 16, 3) := dk_181 0 16 (dk_at dksX0_init_0 12 rfl rfl)
theorem dX0_init_15 : decode cX0_init 15 = .ok (.aload_n 0, 1) := dk_42 (dk_at dksX0_init_0 15 rfl rfl)
theorem dX0_init_16 : decode cX0_init 16 = .ok (.new 13, 3) := dk_187 0 13 (dk_at dksX0_init_0 16 rfl rfl)
theorem dX0_init_19 : decode cX0_init 19 = .ok (.dup, 1) := dk_89 (dk_at dksX0_init_0 19 rfl rfl)
theorem dX0_init_20 : decode cX0_init 20 = .ok (.invokespecial 15, 3) := dk_183 0 15 (dk_at dksX0_init_0 20 rfl rfl)
theorem dX0_init_23 : decode cX0_init 23 = .ok (.putfield 20, 3) := dk_181 0 20 (dk_at dksX0_init_1 0 rfl rfl)
theorem dX0_init_26 : decode cX0_init 26 = .ok (.aload_n 0, 1) := dk_42 (dk_at dksX0_init_1 3 rfl rfl)
theorem dX0_init_27 : decode cX0_init 27 = .ok (.new 23, 3) := dk_187 0 23 (dk_at dksX0_init_1 4 rfl rfl)
theorem dX0_init_30 : decode cX0_init 30 = .ok (.dup, 1) := dk_89 (dk_at dksX0_init_1 7 rfl rfl)
theorem dX0_init_31 : decode cX0_init 31 = .ok (.invokespecial 25, 3) := dk_183 0 25 (dk_at dksX0_init_1 8 rfl rfl)
theorem dX0_init_34 : decode cX0_init 34 = .ok (.putfield 26, 3) := dk_181 0 26 (dk_at dksX0_init_1 11 rfl rfl)
theorem dX0_init_37 : decode cX0_init 37 = .ok (.aload_n 0, 1) := dk_42 (dk_at dksX0_init_1 14 rfl rfl)
theorem dX0_init_38 : decode cX0_init 38 = .ok (.new 30, 3) := dk_187 0 30 (dk_at dksX0_init_1 15 rfl rfl)
theorem dX0_init_41 : decode cX0_init 41 = .ok (.dup, 1) := dk_89 (dk_at dksX0_init_1 18 rfl rfl)
theorem dX0_init_42 : decode cX0_init 42 = .ok (.invokespecial 32, 3) := dk_183 0 32 (dk_at dksX0_init_1 19 rfl rfl)
theorem dX0_init_45 : decode cX0_init 45 = .ok (.putfield 33, 3) := dk_181 0 33 (dk_at dksX0_init_2 0 rfl rfl)
theorem dX0_init_48 : decode cX0_init 48 = .ok (.aload_n 0, 1) := dk_42 (dk_at dksX0_init_2 3 rfl rfl)
theorem dX0_init_49 : decode cX0_init 49 = .ok (.bipush 100, 2) := dk_16 100 (dk_at dksX0_init_2 4 rfl rfl)
theorem dX0_init_51 : decode cX0_init 51 = .ok (.newarray .byte, 2) := dk_188_8 (dk_at dksX0_init_2 6 rfl rfl)
theorem dX0_init_53 : decode cX0_init 53 = .ok (.putfield 37, 3) := dk_181 0 37 (dk_at dksX0_init_2 8 rfl rfl)
theorem dX0_init_56 : decode cX0_init 56 = .ok (.aload_n 0, 1) := dk_42 (dk_at dksX0_init_2 11 rfl rfl)
theorem dX0_init_57 : decode cX0_init 57 = .ok (.new 23, 3) := dk_187 0 23 (dk_at dksX0_init_2 12 rfl rfl)
theorem dX0_init_60 : decode cX0_init 60 = .ok (.dup, 1) := dk_89 (dk_at dksX0_init_2 15 rfl rfl)
theorem dX0_init_61 : decode cX0_init 61 = .ok (.invokespecial 25, 3) := dk_183 0 25 (dk_at dksX0_init_2 16 rfl rfl)
theorem dX0_init_64 : decode cX0_init 64 = .ok (.putfield 41, 3) := dk_181 0 41 (dk_at dksX0_init_2 19 rfl rfl)
theorem dX0_init_67 : decode cX0_init 67 = .ok (.aload_n 0, 1) := dk_42 (dk_at dksX0_init_2 22 rfl rfl)
theorem dX0_init_68 : decode cX0_init 68 = .ok (.bipush 32, 2) := dk_16 32 (dk_at dksX0_init_3 0 rfl rfl)
theorem dX0_init_70 : decode cX0_init 70 = .ok (.newarray .int, 2) := dk_188_10 (dk_at dksX0_init_3 2 rfl rfl)
theorem dX0_init_72 : decode cX0_init 72 = .ok (.putfield 44, 3) := dk_181 0 44 (dk_at dksX0_init_3 4 rfl rfl)
theorem dX0_init_75 : decode cX0_init 75 = .ok (.aload_n 0, 1) := dk_42 (dk_at dksX0_init_3 7 rfl rfl)
theorem dX0_init_76 : decode cX0_init 76 = .ok (.bipush 48, 2) := dk_16 48 (dk_at dksX0_init_3 8 rfl rfl)
theorem dX0_init_78 : decode cX0_init 78 = .ok (.newarray .int, 2) := dk_188_10 (dk_at dksX0_init_3 10 rfl rfl)
theorem dX0_init_80 : decode cX0_init 80 = .ok (.putfield 48, 3) := dk_181 0 48 (dk_at dksX0_init_3 12 rfl rfl)
theorem dX0_init_83 : decode cX0_init 83 = .ok (.aload_n 0, 1) := dk_42 (dk_at dksX0_init_3 15 rfl rfl)
theorem dX0_init_84 : decode cX0_init 84 = .ok (.new 51, 3) := dk_187 0 51 (dk_at dksX0_init_3 16 rfl rfl)
theorem dX0_init_87 : decode cX0_init 87 = .ok (.dup, 1) := dk_89 (dk_at dksX0_init_3 19 rfl rfl)
theorem dX0_init_88 : decode cX0_init 88 = .ok (.iconst 0, 1) := dk_3 (dk_at dksX0_init_3 20 rfl rfl)
theorem dX0_init_89 : decode cX0_init 89 = .ok (.invokespecial 53, 3) := dk_183 0 53 (dk_at dksX0_init_3 21 rfl rfl)
theorem dX0_init_92 : decode cX0_init 92 = .ok (.putfield 56, 3) := dk_181 0 56 (dk_at dksX0_init_4 0 rfl rfl)
theorem dX0_init_95 : decode cX0_init 95 = .ok (.aload_n 0, 1) := dk_42 (dk_at dksX0_init_4 3 rfl rfl)
theorem dX0_init_96 : decode cX0_init 96 = .ok (.new 13, 3) := dk_187 0 13 (dk_at dksX0_init_4 4 rfl rfl)
theorem dX0_init_99 : decode cX0_init 99 = .ok (.dup, 1) := dk_89 (dk_at dksX0_init_4 7 rfl rfl)
theorem dX0_init_100 : decode cX0_init 100 = .ok (.invokespecial 15, 3) := dk_183 0 15 (dk_at dksX0_init_4 8 rfl rfl)
theorem dX0_init_103 : decode cX0_init 103 = .ok (.putfield 60, 3) := dk_181 0 60 (dk_at dksX0_init_4 11 rfl rfl)
theorem dX0_init_106 : decode cX0_init 106 = .ok (.aload_n 0, 1) := dk_42 (dk_at dksX0_init_4 14 rfl rfl)
theorem dX0_init_107 : decode cX0_init 107 = .ok (.new 23, 3) := dk_187 0 23 (dk_at dksX0_init_4 15 rfl rfl)
theorem dX0_init_110 : decode cX0_init 110 = .ok (.dup, 1) := dk_89 (dk_at dksX0_init_4 18 rfl rfl)
theorem dX0_init_111 : decode cX0_init 111 = .ok (.invokespecial 25, 3) := dk_183 0 25 (dk_at dksX0_init_4 19 rfl rfl)
theorem dX0_init_114 : decode cX0_init 114 = .ok (.putfield 63, 3) := dk_181 0 63 (dk_at dksX0_init_5 0 rfl rfl)
theorem dX0_init_117 : decode cX0_init 117 = .ok (.aload_n 0, 1) := dk_42 (dk_at dksX0_init_5 3 rfl rfl)
theorem dX0_init_118 : decode cX0_init 118 = .ok (.bipush 32, 2) := dk_16 32 (dk_at dksX0_init_5 4 rfl rfl)
theorem dX0_init_120 : decode cX0_init 120 = .ok (.newarray .int, 2) := dk_188_10 (dk_at dksX0_init_5 6 rfl rfl)
theorem dX0_init_122 : decode cX0_init 122 = .ok (.putfield 66, 3) := dk_181 0 66 (dk_at dksX0_init_5 8 rfl rfl)
theorem dX0_init_125 : decode cX0_init 125 = .ok (.aload_n 0, 1) := dk_42 (dk_at dksX0_init_5 11 rfl rfl)
theorem dX0_init_126 : decode cX0_init 126 = .ok (.bipush 48, 2) := dk_16 48 (dk_at dksX0_init_5 12 rfl rfl)
theorem dX0_init_128 : decode cX0_init 128 = .ok (.newarray .int, 2) := dk_188_10 (dk_at dksX0_init_5 14 rfl rfl)
theorem dX0_init_130 : decode cX0_init 130 = .ok (.putfield 69, 3) := dk_181 0 69 (dk_at dksX0_init_5 16 rfl rfl)
theorem dX0_init_133 : decode cX0_init 133 = .ok (.aload_n 0, 1) := dk_42 (dk_at dksX0_init_5 19 rfl rfl)
theorem dX0_init_134 : decode cX0_init 134 = .ok (.iconst 4, 1) := dk_7 (dk_at dksX0_init_5 20 rfl rfl)
theorem dX0_init_135 : decode cX0_init 135 = .ok (.anewarray 72, 3) := dk_189 0 72 (dk_at dksX0_init_5 21 rfl rfl)
theorem dX0_init_138 : decode cX0_init 138 = .ok (.putfield 74, 3) := dk_181 0 74 (dk_at dksX0_init_6 0 rfl rfl)
theorem dX0_init_141 : decode cX0_init 141 = .ok (.iconst 0, 1) := dk_3 (dk_at dksX0_init_6 3 rfl rfl)
theorem dX0_init_142 : decode cX0_init 142 = .ok (.istore_n 1, 1) := dk_60 (dk_at dksX0_init_6 4 rfl rfl)
theorem dX0_init_143 : decode cX0_init 143 = .ok (.iload_n 1, 1) := dk_27 (dk_at dksX0_init_6 5 rfl rfl)
theorem dX0_init_144 : decode cX0_init 144 = .ok (.iconst 4, 1) := dk_7 (dk_at dksX0_init_6 6 rfl rfl)
theorem dX0_init_145 : decode cX0_init 145 = .ok (.if_icmp .ge 22, 3) := dk_162 0 22 (dk_at dksX0_init_6 7 rfl rfl)
theorem dX0_init_148 : decode cX0_init 148 = .ok (.aload_n 0, 1) := dk_42 (dk_at dksX0_init_6 10 rfl rfl)
theorem dX0_init_149 : decode cX0_init 149 = .ok (.getfield 74, 3) := dk_180 0 74 (dk_at dksX0_init_6 11 rfl rfl)
theorem dX0_init_152 : decode cX0_init 152 = .ok (.iload_n 1, 1) := dk_27 (dk_at dksX0_init_6 14 rfl rfl)
theorem dX0_init_153 : decode cX0_init 153 = .ok (.new 72, 3) := dk_187 0 72 (dk_at dksX0_init_6 15 rfl rfl)
theorem dX0_init_156 : decode cX0_init 156 = .ok (.dup, 1) := dk_89 (dk_at dksX0_init_6 18 rfl rfl)
theorem dX0_init_157 : decode cX0_init 157 = .ok (.invokespecial 78, 3) := dk_183 0 78 (dk_at dksX0_init_6 19 rfl rfl)
theorem dX0_init_160 : decode cX0_init 160 = .ok (.aastore, 1) := dk_83 (dk_at dksX0_init_6 22 rfl rfl)
theorem dX0_init_161 : decode cX0_init 161 = .ok (.iinc 1 1, 3) := dk_132 1 1 (dk_at dksX0_init_7 0 rfl rfl)
theorem dX0_init_164 : decode cX0_init 164 = .ok (.goto (-21), 3) := dk_167 255 235 (dk_at dksX0_init_7 3 rfl rfl)
theorem dX0_init_167 : decode cX0_init 167 = .ok (.return_, 1) := dk_177 (dk_at dksX0_init_7 6 rfl rfl)
abbrev cX0_act : ByteArray := prog_1_method_8_code
def yX0_act : MethodName := ⟨RX0, "act", "(IIII)I"⟩
def dkwX0_act_5 : List UInt8 := [180, 0, 111, 181, 0, 111, 21, 6, 172]
abbrev dktX0_act_5 : List UInt8 := dkwX0_act_5 ++ []
def dkwX0_act_4 : List UInt8 := [25, 5, 180, 0, 105, 181, 0, 105, 25, 5, 28, 4, 160, 0, 8, 21, 7, 167, 0, 8, 25, 5]
abbrev dktX0_act_4 : List UInt8 := dkwX0_act_4 ++ dktX0_act_5
def dkwX0_act_3 : List UInt8 := [3, 167, 0, 10, 16, 10, 29, 104, 21, 4, 96, 54, 7, 25, 5, 28, 154, 0, 8, 21, 7, 167, 0, 8]
abbrev dktX0_act_3 : List UInt8 := dkwX0_act_3 ++ dktX0_act_4
def dkwX0_act_2 : List UInt8 := [28, 154, 0, 11, 25, 5, 180, 0, 105, 167, 0, 8, 25, 5, 180, 0, 111, 54, 6, 21, 4, 154, 0, 7]
abbrev dktX0_act_2 : List UInt8 := dkwX0_act_2 ++ dktX0_act_3
def dkwX0_act_1 : List UInt8 := [21, 4, 3, 16, 9, 184, 0, 3, 154, 0, 5, 2, 172, 42, 180, 0, 16, 180, 0, 101, 27, 50, 58, 5]
abbrev dktX0_act_1 : List UInt8 := dkwX0_act_1 ++ dktX0_act_2
def dkwX0_act_0 : List UInt8 := [27, 184, 0, 94, 153, 0, 30, 28, 3, 4, 184, 0, 3, 153, 0, 21, 29, 184, 0, 98, 153, 0, 14]
abbrev dktX0_act_0 : List UInt8 := dkwX0_act_0 ++ dktX0_act_1
theorem dksX0_act_0 : cX0_act.data.toList.drop 0 = dktX0_act_0 := by decide +kernel
theorem dksX0_act_1 : cX0_act.data.toList.drop 23 = dktX0_act_1 := dk_seg dksX0_act_0 23 rfl rfl
theorem dksX0_act_2 : cX0_act.data.toList.drop 47 = dktX0_act_2 := dk_seg dksX0_act_1 24 rfl rfl
theorem dksX0_act_3 : cX0_act.data.toList.drop 71 = dktX0_act_3 := dk_seg dksX0_act_2 24 rfl rfl
theorem dksX0_act_4 : cX0_act.data.toList.drop 95 = dktX0_act_4 := dk_seg dksX0_act_3 24 rfl rfl
theorem dksX0_act_5 : cX0_act.data.toList.drop 117 = dktX0_act_5 := dk_seg dksX0_act_4 22 rfl rfl
theorem dX0_act_0 : decode cX0_act 0 = .ok (.iload_n 1, 1) := dk_27 (dk_at dksX0_act_0 0 rfl rfl)
theorem dX0_act_1 : decode cX0_act 1 = .ok (.invokestatic 94, 3) := dk_184 0 94 (dk_at dksX0_act_0 1 rfl rfl)
theorem dX0_act_4 : decode cX0_act 4 = .ok (.ifCond .eq 30, 3) := dk_153 0 30 (dk_at dksX0_act_0 4 rfl rfl)
theorem dX0_act_7 : decode cX0_act 7 = .ok (.iload_n 2, 1) := dk_28 (dk_at dksX0_act_0 7 rfl rfl)
theorem dX0_act_8 : decode cX0_act 8 = .ok (.iconst 0, 1) := dk_3 (dk_at dksX0_act_0 8 rfl rfl)
theorem dX0_act_9 : decode cX0_act 9 = .ok (.iconst 1, 1) := dk_4 (dk_at dksX0_act_0 9 rfl rfl)
theorem dX0_act_10 : decode cX0_act 10 = .ok (.invokestatic 3, 3) := dk_184 0 3 (dk_at dksX0_act_0 10 rfl rfl)
theorem dX0_act_13 : decode cX0_act 13 = .ok (.ifCond .eq 21, 3) := dk_153 0 21 (dk_at dksX0_act_0 13 rfl rfl)
theorem dX0_act_16 : decode cX0_act 16 = .ok (.iload_n 3, 1) := dk_29 (dk_at dksX0_act_0 16 rfl rfl)
theorem dX0_act_17 : decode cX0_act 17 = .ok (.invokestatic 98, 3) := dk_184 0 98 (dk_at dksX0_act_0 17 rfl rfl)
theorem dX0_act_20 : decode cX0_act 20 = .ok (.ifCond .eq 14, 3) := dk_153 0 14 (dk_at dksX0_act_0 20 rfl rfl)
theorem dX0_act_23 : decode cX0_act 23 = .ok (.iload 4, 2) := dk_21 4 (dk_at dksX0_act_1 0 rfl rfl)
theorem dX0_act_25 : decode cX0_act 25 = .ok (.iconst 0, 1) := dk_3 (dk_at dksX0_act_1 2 rfl rfl)
theorem dX0_act_26 : decode cX0_act 26 = .ok (.bipush 9, 2) := dk_16 9 (dk_at dksX0_act_1 3 rfl rfl)
theorem dX0_act_28 : decode cX0_act 28 = .ok (.invokestatic 3, 3) := dk_184 0 3 (dk_at dksX0_act_1 5 rfl rfl)
theorem dX0_act_31 : decode cX0_act 31 = .ok (.ifCond .ne 5, 3) := dk_154 0 5 (dk_at dksX0_act_1 8 rfl rfl)
theorem dX0_act_34 : decode cX0_act 34 = .ok (.iconst (-1), 1) := dk_2 (dk_at dksX0_act_1 11 rfl rfl)
theorem dX0_act_35 : decode cX0_act 35 = .ok (.ireturn, 1) := dk_172 (dk_at dksX0_act_1 12 rfl rfl)
theorem dX0_act_36 : decode cX0_act 36 = .ok (.aload_n 0, 1) := dk_42 (dk_at dksX0_act_1 13 rfl rfl)
theorem dX0_act_37 : decode cX0_act 37 = .ok (.getfield 16, 3) := dk_180 0 16 (dk_at dksX0_act_1 14 rfl rfl)
theorem dX0_act_40 : decode cX0_act 40 = .ok (.getfield 101, 3) := dk_180 0 101 (dk_at dksX0_act_1 17 rfl rfl)
theorem dX0_act_43 : decode cX0_act 43 = .ok (.iload_n 1, 1) := dk_27 (dk_at dksX0_act_1 20 rfl rfl)
theorem dX0_act_44 : decode cX0_act 44 = .ok (.aaload, 1) := dk_50 (dk_at dksX0_act_1 21 rfl rfl)
theorem dX0_act_45 : decode cX0_act 45 = .ok (.astore 5, 2) := dk_58 5 (dk_at dksX0_act_1 22 rfl rfl)
theorem dX0_act_47 : decode cX0_act 47 = .ok (.iload_n 2, 1) := dk_28 (dk_at dksX0_act_2 0 rfl rfl)
theorem dX0_act_48 : decode cX0_act 48 = .ok (.ifCond .ne 11, 3) := dk_154 0 11 (dk_at dksX0_act_2 1 rfl rfl)
theorem dX0_act_51 : decode cX0_act 51 = .ok (.aload 5, 2) := dk_25 5 (dk_at dksX0_act_2 4 rfl rfl)
theorem dX0_act_53 : decode cX0_act 53 = .ok (.getfield 105, 3) := dk_180 0 105 (dk_at dksX0_act_2 6 rfl rfl)
theorem dX0_act_56 : decode cX0_act 56 = .ok (.goto 8, 3) := dk_167 0 8 (dk_at dksX0_act_2 9 rfl rfl)
theorem dX0_act_59 : decode cX0_act 59 = .ok (.aload 5, 2) := dk_25 5 (dk_at dksX0_act_2 12 rfl rfl)
theorem dX0_act_61 : decode cX0_act 61 = .ok (.getfield 111, 3) := dk_180 0 111 (dk_at dksX0_act_2 14 rfl rfl)
theorem dX0_act_64 : decode cX0_act 64 = .ok (.istore 6, 2) := dk_54 6 (dk_at dksX0_act_2 17 rfl rfl)
theorem dX0_act_66 : decode cX0_act 66 = .ok (.iload 4, 2) := dk_21 4 (dk_at dksX0_act_2 19 rfl rfl)
theorem dX0_act_68 : decode cX0_act 68 = .ok (.ifCond .ne 7, 3) := dk_154 0 7 (dk_at dksX0_act_2 21 rfl rfl)
theorem dX0_act_71 : decode cX0_act 71 = .ok (.iconst 0, 1) := dk_3 (dk_at dksX0_act_3 0 rfl rfl)
theorem dX0_act_72 : decode cX0_act 72 = .ok (.goto 10, 3) := dk_167 0 10 (dk_at dksX0_act_3 1 rfl rfl)
theorem dX0_act_75 : decode cX0_act 75 = .ok (.bipush 10, 2) := dk_16 10 (dk_at dksX0_act_3 4 rfl rfl)
theorem dX0_act_77 : decode cX0_act 77 = .ok (.iload_n 3, 1) := dk_29 (dk_at dksX0_act_3 6 rfl rfl)
theorem dX0_act_78 : decode cX0_act 78 = .ok (.imul, 1) := dk_104 (dk_at dksX0_act_3 7 rfl rfl)
theorem dX0_act_79 : decode cX0_act 79 = .ok (.iload 4, 2) := dk_21 4 (dk_at dksX0_act_3 8 rfl rfl)
theorem dX0_act_81 : decode cX0_act 81 = .ok (.iadd, 1) := dk_96 (dk_at dksX0_act_3 10 rfl rfl)
theorem dX0_act_82 : decode cX0_act 82 = .ok (.istore 7, 2) := dk_54 7 (dk_at dksX0_act_3 11 rfl rfl)
theorem dX0_act_84 : decode cX0_act 84 = .ok (.aload 5, 2) := dk_25 5 (dk_at dksX0_act_3 13 rfl rfl)
theorem dX0_act_86 : decode cX0_act 86 = .ok (.iload_n 2, 1) := dk_28 (dk_at dksX0_act_3 15 rfl rfl)
theorem dX0_act_87 : decode cX0_act 87 = .ok (.ifCond .ne 8, 3) := dk_154 0 8 (dk_at dksX0_act_3 16 rfl rfl)
theorem dX0_act_90 : decode cX0_act 90 = .ok (.iload 7, 2) := dk_21 7 (dk_at dksX0_act_3 19 rfl rfl)
theorem dX0_act_92 : decode cX0_act 92 = .ok (.goto 8, 3) := dk_167 0 8 (dk_at dksX0_act_3 21 rfl rfl)
theorem dX0_act_95 : decode cX0_act 95 = .ok (.aload 5, 2) := dk_25 5 (dk_at dksX0_act_4 0 rfl rfl)
theorem dX0_act_97 : decode cX0_act 97 = .ok (.getfield 105, 3) := dk_180 0 105 (dk_at dksX0_act_4 2 rfl rfl)
theorem dX0_act_100 : decode cX0_act 100 = .ok (.putfield 105, 3) := dk_181 0 105 (dk_at dksX0_act_4 5 rfl rfl)
theorem dX0_act_103 : decode cX0_act 103 = .ok (.aload 5, 2) := dk_25 5 (dk_at dksX0_act_4 8 rfl rfl)
theorem dX0_act_105 : decode cX0_act 105 = .ok (.iload_n 2, 1) := dk_28 (dk_at dksX0_act_4 10 rfl rfl)
theorem dX0_act_106 : decode cX0_act 106 = .ok (.iconst 1, 1) := dk_4 (dk_at dksX0_act_4 11 rfl rfl)
theorem dX0_act_107 : decode cX0_act 107 = .ok (.if_icmp .ne 8, 3) := dk_160 0 8 (dk_at dksX0_act_4 12 rfl rfl)
theorem dX0_act_110 : decode cX0_act 110 = .ok (.iload 7, 2) := dk_21 7 (dk_at dksX0_act_4 15 rfl rfl)
theorem dX0_act_112 : decode cX0_act 112 = .ok (.goto 8, 3) := dk_167 0 8 (dk_at dksX0_act_4 17 rfl rfl)
theorem dX0_act_115 : decode cX0_act 115 = .ok (.aload 5, 2) := dk_25 5 (dk_at dksX0_act_4 20 rfl rfl)
theorem dX0_act_117 : decode cX0_act 117 = .ok (.getfield 111, 3) := dk_180 0 111 (dk_at dksX0_act_5 0 rfl rfl)
theorem dX0_act_120 : decode cX0_act 120 = .ok (.putfield 111, 3) := dk_181 0 111 (dk_at dksX0_act_5 3 rfl rfl)
theorem dX0_act_123 : decode cX0_act 123 = .ok (.iload 6, 2) := dk_21 6 (dk_at dksX0_act_5 6 rfl rfl)
theorem dX0_act_125 : decode cX0_act 125 = .ok (.ireturn, 1) := dk_172 (dk_at dksX0_act_5 8 rfl rfl)
abbrev cX0_isBeat : ByteArray := prog_1_method_2_code
def yX0_isBeat : MethodName := ⟨RX0, "isBeat", "(I)Z"⟩
def dkwX0_isBeat_0 : List UInt8 := [26, 3, 16, 15, 184, 0, 3, 172]
abbrev dktX0_isBeat_0 : List UInt8 := dkwX0_isBeat_0 ++ []
theorem dksX0_isBeat_0 : cX0_isBeat.data.toList.drop 0 = dktX0_isBeat_0 := by decide +kernel
theorem dX0_isBeat_0 : decode cX0_isBeat 0 = .ok (.iload_n 0, 1) := dk_26 (dk_at dksX0_isBeat_0 0 rfl rfl)
theorem dX0_isBeat_1 : decode cX0_isBeat 1 = .ok (.iconst 0, 1) := dk_3 (dk_at dksX0_isBeat_0 1 rfl rfl)
theorem dX0_isBeat_2 : decode cX0_isBeat 2 = .ok (.bipush 15, 2) := dk_16 15 (dk_at dksX0_isBeat_0 2 rfl rfl)
theorem dX0_isBeat_4 : decode cX0_isBeat 4 = .ok (.invokestatic 3, 3) := dk_184 0 3 (dk_at dksX0_isBeat_0 4 rfl rfl)
theorem dX0_isBeat_7 : decode cX0_isBeat 7 = .ok (.ireturn, 1) := dk_172 (dk_at dksX0_isBeat_0 7 rfl rfl)
abbrev cX0_isIn : ByteArray := prog_1_method_1_code
def yX0_isIn : MethodName := ⟨RX0, "isIn", "(III)Z"⟩
def dkwX0_isIn_0 : List UInt8 := [26, 27, 161, 0, 12, 26, 28, 163, 0, 7, 4, 167, 0, 4, 3, 172]
abbrev dktX0_isIn_0 : List UInt8 := dkwX0_isIn_0 ++ []
theorem dksX0_isIn_0 : cX0_isIn.data.toList.drop 0 = dktX0_isIn_0 := by decide +kernel
theorem dX0_isIn_0 : decode cX0_isIn 0 = .ok (.iload_n 0, 1) := dk_26 (dk_at dksX0_isIn_0 0 rfl rfl)
theorem dX0_isIn_1 : decode cX0_isIn 1 = .ok (.iload_n 1, 1) := dk_27 (dk_at dksX0_isIn_0 1 rfl rfl)
theorem dX0_isIn_2 : decode cX0_isIn 2 = .ok (.if_icmp .lt 12, 3) := dk_161 0 12 (dk_at dksX0_isIn_0 2 rfl rfl)
theorem dX0_isIn_5 : decode cX0_isIn 5 = .ok (.iload_n 0, 1) := dk_26 (dk_at dksX0_isIn_0 5 rfl rfl)
theorem dX0_isIn_6 : decode cX0_isIn 6 = .ok (.iload_n 2, 1) := dk_28 (dk_at dksX0_isIn_0 6 rfl rfl)
theorem dX0_isIn_7 : decode cX0_isIn 7 = .ok (.if_icmp .gt 7, 3) := dk_163 0 7 (dk_at dksX0_isIn_0 7 rfl rfl)
theorem dX0_isIn_10 : decode cX0_isIn 10 = .ok (.iconst 1, 1) := dk_4 (dk_at dksX0_isIn_0 10 rfl rfl)
theorem dX0_isIn_11 : decode cX0_isIn 11 = .ok (.goto 4, 3) := dk_167 0 4 (dk_at dksX0_isIn_0 11 rfl rfl)
theorem dX0_isIn_14 : decode cX0_isIn 14 = .ok (.iconst 0, 1) := dk_3 (dk_at dksX0_isIn_0 14 rfl rfl)
theorem dX0_isIn_15 : decode cX0_isIn 15 = .ok (.ireturn, 1) := dk_172 (dk_at dksX0_isIn_0 15 rfl rfl)
abbrev cX0_isPlace : ByteArray := prog_1_method_3_code
def yX0_isPlace : MethodName := ⟨RX0, "isPlace", "(I)Z"⟩
def dkwX0_isPlace_0 : List UInt8 := [26, 3, 6, 184, 0, 3, 172]
abbrev dktX0_isPlace_0 : List UInt8 := dkwX0_isPlace_0 ++ []
theorem dksX0_isPlace_0 : cX0_isPlace.data.toList.drop 0 = dktX0_isPlace_0 := by decide +kernel
theorem dX0_isPlace_0 : decode cX0_isPlace 0 = .ok (.iload_n 0, 1) := dk_26 (dk_at dksX0_isPlace_0 0 rfl rfl)
theorem dX0_isPlace_1 : decode cX0_isPlace 1 = .ok (.iconst 0, 1) := dk_3 (dk_at dksX0_isPlace_0 1 rfl rfl)
theorem dX0_isPlace_2 : decode cX0_isPlace 2 = .ok (.iconst 3, 1) := dk_6 (dk_at dksX0_isPlace_0 2 rfl rfl)
theorem dX0_isPlace_3 : decode cX0_isPlace 3 = .ok (.invokestatic 3, 3) := dk_184 0 3 (dk_at dksX0_isPlace_0 3 rfl rfl)
theorem dX0_isPlace_6 : decode cX0_isPlace 6 = .ok (.ireturn, 1) := dk_172 (dk_at dksX0_isPlace_0 6 rfl rfl)
abbrev cX0_cue : ByteArray := prog_1_method_9_code
def yX0_cue : MethodName := ⟨RX0, "cue", "(III)I"⟩
def dkwX0_cue_8 : List UInt8 := [96, 172]
abbrev dktX0_cue_8 : List UInt8 := dkwX0_cue_8 ++ []
def dkwX0_cue_7 : List UInt8 := [3, 167, 0, 8, 25, 4, 180, 0, 120, 181, 0, 120, 21, 6, 156, 0, 7, 3, 167, 0, 7, 4, 21, 6]
abbrev dktX0_cue_7 : List UInt8 := dkwX0_cue_7 ++ dktX0_cue_8
def dkwX0_cue_6 : List UInt8 := [25, 4, 180, 0, 117, 181, 0, 117, 25, 4, 28, 5, 160, 0, 16, 29, 4, 160, 0, 7, 4, 167, 0, 12]
abbrev dktX0_cue_6 : List UInt8 := dkwX0_cue_6 ++ dktX0_cue_7
def dkwX0_cue_5 : List UInt8 := [167, 0, 8, 25, 4, 180, 0, 114, 181, 0, 114, 25, 4, 28, 4, 160, 0, 8, 21, 5, 167, 0, 8]
abbrev dktX0_cue_5 : List UInt8 := dkwX0_cue_5 ++ dktX0_cue_6
def dkwX0_cue_4 : List UInt8 := [25, 4, 180, 0, 120, 153, 0, 7, 4, 167, 0, 4, 3, 54, 6, 25, 4, 28, 154, 0, 8, 21, 5]
abbrev dktX0_cue_4 : List UInt8 := dkwX0_cue_4 ++ dktX0_cue_5
def dkwX0_cue_3 : List UInt8 := [154, 0, 11, 25, 4, 180, 0, 114, 167, 0, 29, 28, 4, 160, 0, 11, 25, 4, 180, 0, 117, 167, 0, 16]
abbrev dktX0_cue_3 : List UInt8 := dkwX0_cue_3 ++ dktX0_cue_4
def dkwX0_cue_2 : List UInt8 := [180, 0, 16, 180, 0, 101, 27, 50, 58, 4, 29, 156, 0, 8, 16, 252, 167, 0, 4, 29, 54, 5, 28]
abbrev dktX0_cue_2 : List UInt8 := dkwX0_cue_2 ++ dktX0_cue_3
def dkwX0_cue_1 : List UInt8 := [184, 0, 3, 154, 0, 20, 167, 0, 15, 29, 2, 159, 0, 12, 29, 184, 0, 98, 154, 0, 5, 2, 172, 42]
abbrev dktX0_cue_1 : List UInt8 := dkwX0_cue_1 ++ dktX0_cue_2
def dkwX0_cue_0 : List UInt8 := [27, 184, 0, 94, 153, 0, 41, 28, 3, 5, 184, 0, 3, 153, 0, 32, 28, 5, 160, 0, 15, 29, 3, 4]
abbrev dktX0_cue_0 : List UInt8 := dkwX0_cue_0 ++ dktX0_cue_1
theorem dksX0_cue_0 : cX0_cue.data.toList.drop 0 = dktX0_cue_0 := by decide +kernel
theorem dksX0_cue_1 : cX0_cue.data.toList.drop 24 = dktX0_cue_1 := dk_seg dksX0_cue_0 24 rfl rfl
theorem dksX0_cue_2 : cX0_cue.data.toList.drop 48 = dktX0_cue_2 := dk_seg dksX0_cue_1 24 rfl rfl
theorem dksX0_cue_3 : cX0_cue.data.toList.drop 71 = dktX0_cue_3 := dk_seg dksX0_cue_2 23 rfl rfl
theorem dksX0_cue_4 : cX0_cue.data.toList.drop 95 = dktX0_cue_4 := dk_seg dksX0_cue_3 24 rfl rfl
theorem dksX0_cue_5 : cX0_cue.data.toList.drop 118 = dktX0_cue_5 := dk_seg dksX0_cue_4 23 rfl rfl
theorem dksX0_cue_6 : cX0_cue.data.toList.drop 141 = dktX0_cue_6 := dk_seg dksX0_cue_5 23 rfl rfl
theorem dksX0_cue_7 : cX0_cue.data.toList.drop 165 = dktX0_cue_7 := dk_seg dksX0_cue_6 24 rfl rfl
theorem dksX0_cue_8 : cX0_cue.data.toList.drop 189 = dktX0_cue_8 := dk_seg dksX0_cue_7 24 rfl rfl
theorem dX0_cue_0 : decode cX0_cue 0 = .ok (.iload_n 1, 1) := dk_27 (dk_at dksX0_cue_0 0 rfl rfl)
theorem dX0_cue_1 : decode cX0_cue 1 = .ok (.invokestatic 94, 3) := dk_184 0 94 (dk_at dksX0_cue_0 1 rfl rfl)
theorem dX0_cue_4 : decode cX0_cue 4 = .ok (.ifCond .eq 41, 3) := dk_153 0 41 (dk_at dksX0_cue_0 4 rfl rfl)
theorem dX0_cue_7 : decode cX0_cue 7 = .ok (.iload_n 2, 1) := dk_28 (dk_at dksX0_cue_0 7 rfl rfl)
theorem dX0_cue_8 : decode cX0_cue 8 = .ok (.iconst 0, 1) := dk_3 (dk_at dksX0_cue_0 8 rfl rfl)
theorem dX0_cue_9 : decode cX0_cue 9 = .ok (.iconst 2, 1) := dk_5 (dk_at dksX0_cue_0 9 rfl rfl)
theorem dX0_cue_10 : decode cX0_cue 10 = .ok (.invokestatic 3, 3) := dk_184 0 3 (dk_at dksX0_cue_0 10 rfl rfl)
theorem dX0_cue_13 : decode cX0_cue 13 = .ok (.ifCond .eq 32, 3) := dk_153 0 32 (dk_at dksX0_cue_0 13 rfl rfl)
theorem dX0_cue_16 : decode cX0_cue 16 = .ok (.iload_n 2, 1) := dk_28 (dk_at dksX0_cue_0 16 rfl rfl)
theorem dX0_cue_17 : decode cX0_cue 17 = .ok (.iconst 2, 1) := dk_5 (dk_at dksX0_cue_0 17 rfl rfl)
theorem dX0_cue_18 : decode cX0_cue 18 = .ok (.if_icmp .ne 15, 3) := dk_160 0 15 (dk_at dksX0_cue_0 18 rfl rfl)
theorem dX0_cue_21 : decode cX0_cue 21 = .ok (.iload_n 3, 1) := dk_29 (dk_at dksX0_cue_0 21 rfl rfl)
theorem dX0_cue_22 : decode cX0_cue 22 = .ok (.iconst 0, 1) := dk_3 (dk_at dksX0_cue_0 22 rfl rfl)
theorem dX0_cue_23 : decode cX0_cue 23 = .ok (.iconst 1, 1) := dk_4 (dk_at dksX0_cue_0 23 rfl rfl)
theorem dX0_cue_24 : decode cX0_cue 24 = .ok (.invokestatic 3, 3) := dk_184 0 3 (dk_at dksX0_cue_1 0 rfl rfl)
theorem dX0_cue_27 : decode cX0_cue 27 = .ok (.ifCond .ne 20, 3) := dk_154 0 20 (dk_at dksX0_cue_1 3 rfl rfl)
theorem dX0_cue_30 : decode cX0_cue 30 = .ok (.goto 15, 3) := dk_167 0 15 (dk_at dksX0_cue_1 6 rfl rfl)
theorem dX0_cue_33 : decode cX0_cue 33 = .ok (.iload_n 3, 1) := dk_29 (dk_at dksX0_cue_1 9 rfl rfl)
theorem dX0_cue_34 : decode cX0_cue 34 = .ok (.iconst (-1), 1) := dk_2 (dk_at dksX0_cue_1 10 rfl rfl)
theorem dX0_cue_35 : decode cX0_cue 35 = .ok (.if_icmp .eq 12, 3) := dk_159 0 12 (dk_at dksX0_cue_1 11 rfl rfl)
theorem dX0_cue_38 : decode cX0_cue 38 = .ok (.iload_n 3, 1) := dk_29 (dk_at dksX0_cue_1 14 rfl rfl)
theorem dX0_cue_39 : decode cX0_cue 39 = .ok (.invokestatic 98, 3) := dk_184 0 98 (dk_at dksX0_cue_1 15 rfl rfl)
theorem dX0_cue_42 : decode cX0_cue 42 = .ok (.ifCond .ne 5, 3) := dk_154 0 5 (dk_at dksX0_cue_1 18 rfl rfl)
theorem dX0_cue_45 : decode cX0_cue 45 = .ok (.iconst (-1), 1) := dk_2 (dk_at dksX0_cue_1 21 rfl rfl)
theorem dX0_cue_46 : decode cX0_cue 46 = .ok (.ireturn, 1) := dk_172 (dk_at dksX0_cue_1 22 rfl rfl)
theorem dX0_cue_47 : decode cX0_cue 47 = .ok (.aload_n 0, 1) := dk_42 (dk_at dksX0_cue_1 23 rfl rfl)
theorem dX0_cue_48 : decode cX0_cue 48 = .ok (.getfield 16, 3) := dk_180 0 16 (dk_at dksX0_cue_2 0 rfl rfl)
theorem dX0_cue_51 : decode cX0_cue 51 = .ok (.getfield 101, 3) := dk_180 0 101 (dk_at dksX0_cue_2 3 rfl rfl)
theorem dX0_cue_54 : decode cX0_cue 54 = .ok (.iload_n 1, 1) := dk_27 (dk_at dksX0_cue_2 6 rfl rfl)
theorem dX0_cue_55 : decode cX0_cue 55 = .ok (.aaload, 1) := dk_50 (dk_at dksX0_cue_2 7 rfl rfl)
theorem dX0_cue_56 : decode cX0_cue 56 = .ok (.astore 4, 2) := dk_58 4 (dk_at dksX0_cue_2 8 rfl rfl)
theorem dX0_cue_58 : decode cX0_cue 58 = .ok (.iload_n 3, 1) := dk_29 (dk_at dksX0_cue_2 10 rfl rfl)
theorem dX0_cue_59 : decode cX0_cue 59 = .ok (.ifCond .ge 8, 3) := dk_156 0 8 (dk_at dksX0_cue_2 11 rfl rfl)
theorem dX0_cue_62 : decode cX0_cue 62 = .ok (.bipush (-4), 2) := dk_16 252 (dk_at dksX0_cue_2 14 rfl rfl)
theorem dX0_cue_64 : decode cX0_cue 64 = .ok (.goto 4, 3) := dk_167 0 4 (dk_at dksX0_cue_2 16 rfl rfl)
theorem dX0_cue_67 : decode cX0_cue 67 = .ok (.iload_n 3, 1) := dk_29 (dk_at dksX0_cue_2 19 rfl rfl)
theorem dX0_cue_68 : decode cX0_cue 68 = .ok (.istore 5, 2) := dk_54 5 (dk_at dksX0_cue_2 20 rfl rfl)
theorem dX0_cue_70 : decode cX0_cue 70 = .ok (.iload_n 2, 1) := dk_28 (dk_at dksX0_cue_2 22 rfl rfl)
theorem dX0_cue_71 : decode cX0_cue 71 = .ok (.ifCond .ne 11, 3) := dk_154 0 11 (dk_at dksX0_cue_3 0 rfl rfl)
theorem dX0_cue_74 : decode cX0_cue 74 = .ok (.aload 4, 2) := dk_25 4 (dk_at dksX0_cue_3 3 rfl rfl)
theorem dX0_cue_76 : decode cX0_cue 76 = .ok (.getfield 114, 3) := dk_180 0 114 (dk_at dksX0_cue_3 5 rfl rfl)
theorem dX0_cue_79 : decode cX0_cue 79 = .ok (.goto 29, 3) := dk_167 0 29 (dk_at dksX0_cue_3 8 rfl rfl)
theorem dX0_cue_82 : decode cX0_cue 82 = .ok (.iload_n 2, 1) := dk_28 (dk_at dksX0_cue_3 11 rfl rfl)
theorem dX0_cue_83 : decode cX0_cue 83 = .ok (.iconst 1, 1) := dk_4 (dk_at dksX0_cue_3 12 rfl rfl)
theorem dX0_cue_84 : decode cX0_cue 84 = .ok (.if_icmp .ne 11, 3) := dk_160 0 11 (dk_at dksX0_cue_3 13 rfl rfl)
theorem dX0_cue_87 : decode cX0_cue 87 = .ok (.aload 4, 2) := dk_25 4 (dk_at dksX0_cue_3 16 rfl rfl)
theorem dX0_cue_89 : decode cX0_cue 89 = .ok (.getfield 117, 3) := dk_180 0 117 (dk_at dksX0_cue_3 18 rfl rfl)
theorem dX0_cue_92 : decode cX0_cue 92 = .ok (.goto 16, 3) := dk_167 0 16 (dk_at dksX0_cue_3 21 rfl rfl)
theorem dX0_cue_95 : decode cX0_cue 95 = .ok (.aload 4, 2) := dk_25 4 (dk_at dksX0_cue_4 0 rfl rfl)
theorem dX0_cue_97 : decode cX0_cue 97 = .ok (.getfield 120, 3) := dk_180 0 120 (dk_at dksX0_cue_4 2 rfl rfl)
theorem dX0_cue_100 : decode cX0_cue 100 = .ok (.ifCond .eq 7, 3) := dk_153 0 7 (dk_at dksX0_cue_4 5 rfl rfl)
theorem dX0_cue_103 : decode cX0_cue 103 = .ok (.iconst 1, 1) := dk_4 (dk_at dksX0_cue_4 8 rfl rfl)
theorem dX0_cue_104 : decode cX0_cue 104 = .ok (.goto 4, 3) := dk_167 0 4 (dk_at dksX0_cue_4 9 rfl rfl)
theorem dX0_cue_107 : decode cX0_cue 107 = .ok (.iconst 0, 1) := dk_3 (dk_at dksX0_cue_4 12 rfl rfl)
theorem dX0_cue_108 : decode cX0_cue 108 = .ok (.istore 6, 2) := dk_54 6 (dk_at dksX0_cue_4 13 rfl rfl)
theorem dX0_cue_110 : decode cX0_cue 110 = .ok (.aload 4, 2) := dk_25 4 (dk_at dksX0_cue_4 15 rfl rfl)
theorem dX0_cue_112 : decode cX0_cue 112 = .ok (.iload_n 2, 1) := dk_28 (dk_at dksX0_cue_4 17 rfl rfl)
theorem dX0_cue_113 : decode cX0_cue 113 = .ok (.ifCond .ne 8, 3) := dk_154 0 8 (dk_at dksX0_cue_4 18 rfl rfl)
theorem dX0_cue_116 : decode cX0_cue 116 = .ok (.iload 5, 2) := dk_21 5 (dk_at dksX0_cue_4 21 rfl rfl)
theorem dX0_cue_118 : decode cX0_cue 118 = .ok (.goto 8, 3) := dk_167 0 8 (dk_at dksX0_cue_5 0 rfl rfl)
theorem dX0_cue_121 : decode cX0_cue 121 = .ok (.aload 4, 2) := dk_25 4 (dk_at dksX0_cue_5 3 rfl rfl)
theorem dX0_cue_123 : decode cX0_cue 123 = .ok (.getfield 114, 3) := dk_180 0 114 (dk_at dksX0_cue_5 5 rfl rfl)
theorem dX0_cue_126 : decode cX0_cue 126 = .ok (.putfield 114, 3) := dk_181 0 114 (dk_at dksX0_cue_5 8 rfl rfl)
theorem dX0_cue_129 : decode cX0_cue 129 = .ok (.aload 4, 2) := dk_25 4 (dk_at dksX0_cue_5 11 rfl rfl)
theorem dX0_cue_131 : decode cX0_cue 131 = .ok (.iload_n 2, 1) := dk_28 (dk_at dksX0_cue_5 13 rfl rfl)
theorem dX0_cue_132 : decode cX0_cue 132 = .ok (.iconst 1, 1) := dk_4 (dk_at dksX0_cue_5 14 rfl rfl)
theorem dX0_cue_133 : decode cX0_cue 133 = .ok (.if_icmp .ne 8, 3) := dk_160 0 8 (dk_at dksX0_cue_5 15 rfl rfl)
theorem dX0_cue_136 : decode cX0_cue 136 = .ok (.iload 5, 2) := dk_21 5 (dk_at dksX0_cue_5 18 rfl rfl)
theorem dX0_cue_138 : decode cX0_cue 138 = .ok (.goto 8, 3) := dk_167 0 8 (dk_at dksX0_cue_5 20 rfl rfl)
theorem dX0_cue_141 : decode cX0_cue 141 = .ok (.aload 4, 2) := dk_25 4 (dk_at dksX0_cue_6 0 rfl rfl)
theorem dX0_cue_143 : decode cX0_cue 143 = .ok (.getfield 117, 3) := dk_180 0 117 (dk_at dksX0_cue_6 2 rfl rfl)
theorem dX0_cue_146 : decode cX0_cue 146 = .ok (.putfield 117, 3) := dk_181 0 117 (dk_at dksX0_cue_6 5 rfl rfl)
theorem dX0_cue_149 : decode cX0_cue 149 = .ok (.aload 4, 2) := dk_25 4 (dk_at dksX0_cue_6 8 rfl rfl)
theorem dX0_cue_151 : decode cX0_cue 151 = .ok (.iload_n 2, 1) := dk_28 (dk_at dksX0_cue_6 10 rfl rfl)
theorem dX0_cue_152 : decode cX0_cue 152 = .ok (.iconst 2, 1) := dk_5 (dk_at dksX0_cue_6 11 rfl rfl)
theorem dX0_cue_153 : decode cX0_cue 153 = .ok (.if_icmp .ne 16, 3) := dk_160 0 16 (dk_at dksX0_cue_6 12 rfl rfl)
theorem dX0_cue_156 : decode cX0_cue 156 = .ok (.iload_n 3, 1) := dk_29 (dk_at dksX0_cue_6 15 rfl rfl)
theorem dX0_cue_157 : decode cX0_cue 157 = .ok (.iconst 1, 1) := dk_4 (dk_at dksX0_cue_6 16 rfl rfl)
theorem dX0_cue_158 : decode cX0_cue 158 = .ok (.if_icmp .ne 7, 3) := dk_160 0 7 (dk_at dksX0_cue_6 17 rfl rfl)
theorem dX0_cue_161 : decode cX0_cue 161 = .ok (.iconst 1, 1) := dk_4 (dk_at dksX0_cue_6 20 rfl rfl)
theorem dX0_cue_162 : decode cX0_cue 162 = .ok (.goto 12, 3) := dk_167 0 12 (dk_at dksX0_cue_6 21 rfl rfl)
theorem dX0_cue_165 : decode cX0_cue 165 = .ok (.iconst 0, 1) := dk_3 (dk_at dksX0_cue_7 0 rfl rfl)
theorem dX0_cue_166 : decode cX0_cue 166 = .ok (.goto 8, 3) := dk_167 0 8 (dk_at dksX0_cue_7 1 rfl rfl)
theorem dX0_cue_169 : decode cX0_cue 169 = .ok (.aload 4, 2) := dk_25 4 (dk_at dksX0_cue_7 4 rfl rfl)
theorem dX0_cue_171 : decode cX0_cue 171 = .ok (.getfield 120, 3) := dk_180 0 120 (dk_at dksX0_cue_7 6 rfl rfl)
theorem dX0_cue_174 : decode cX0_cue 174 = .ok (.putfield 120, 3) := dk_181 0 120 (dk_at dksX0_cue_7 9 rfl rfl)
theorem dX0_cue_177 : decode cX0_cue 177 = .ok (.iload 6, 2) := dk_21 6 (dk_at dksX0_cue_7 12 rfl rfl)
theorem dX0_cue_179 : decode cX0_cue 179 = .ok (.ifCond .ge 7, 3) := dk_156 0 7 (dk_at dksX0_cue_7 14 rfl rfl)
theorem dX0_cue_182 : decode cX0_cue 182 = .ok (.iconst 0, 1) := dk_3 (dk_at dksX0_cue_7 17 rfl rfl)
theorem dX0_cue_183 : decode cX0_cue 183 = .ok (.goto 7, 3) := dk_167 0 7 (dk_at dksX0_cue_7 18 rfl rfl)
theorem dX0_cue_186 : decode cX0_cue 186 = .ok (.iconst 1, 1) := dk_4 (dk_at dksX0_cue_7 21 rfl rfl)
theorem dX0_cue_187 : decode cX0_cue 187 = .ok (.iload 6, 2) := dk_21 6 (dk_at dksX0_cue_7 22 rfl rfl)
theorem dX0_cue_189 : decode cX0_cue 189 = .ok (.iadd, 1) := dk_96 (dk_at dksX0_cue_8 0 rfl rfl)
theorem dX0_cue_190 : decode cX0_cue 190 = .ok (.ireturn, 1) := dk_172 (dk_at dksX0_cue_8 1 rfl rfl)
abbrev cX0_stand : ByteArray := prog_1_method_10_code
def yX0_stand : MethodName := ⟨RX0, "stand", "(I)I"⟩
def dkwX0_stand_1 : List UInt8 := [181, 0, 124, 28, 172]
abbrev dktX0_stand_1 : List UInt8 := dkwX0_stand_1 ++ []
def dkwX0_stand_0 : List UInt8 := [27, 3, 6, 184, 0, 3, 154, 0, 5, 2, 172, 42, 180, 0, 16, 180, 0, 124, 61, 42, 180, 0, 16, 27]
abbrev dktX0_stand_0 : List UInt8 := dkwX0_stand_0 ++ dktX0_stand_1
theorem dksX0_stand_0 : cX0_stand.data.toList.drop 0 = dktX0_stand_0 := by decide +kernel
theorem dksX0_stand_1 : cX0_stand.data.toList.drop 24 = dktX0_stand_1 := dk_seg dksX0_stand_0 24 rfl rfl
theorem dX0_stand_0 : decode cX0_stand 0 = .ok (.iload_n 1, 1) := dk_27 (dk_at dksX0_stand_0 0 rfl rfl)
theorem dX0_stand_1 : decode cX0_stand 1 = .ok (.iconst 0, 1) := dk_3 (dk_at dksX0_stand_0 1 rfl rfl)
theorem dX0_stand_2 : decode cX0_stand 2 = .ok (.iconst 3, 1) := dk_6 (dk_at dksX0_stand_0 2 rfl rfl)
theorem dX0_stand_3 : decode cX0_stand 3 = .ok (.invokestatic 3, 3) := dk_184 0 3 (dk_at dksX0_stand_0 3 rfl rfl)
theorem dX0_stand_6 : decode cX0_stand 6 = .ok (.ifCond .ne 5, 3) := dk_154 0 5 (dk_at dksX0_stand_0 6 rfl rfl)
theorem dX0_stand_9 : decode cX0_stand 9 = .ok (.iconst (-1), 1) := dk_2 (dk_at dksX0_stand_0 9 rfl rfl)
theorem dX0_stand_10 : decode cX0_stand 10 = .ok (.ireturn, 1) := dk_172 (dk_at dksX0_stand_0 10 rfl rfl)
theorem dX0_stand_11 : decode cX0_stand 11 = .ok (.aload_n 0, 1) := dk_42 (dk_at dksX0_stand_0 11 rfl rfl)
theorem dX0_stand_12 : decode cX0_stand 12 = .ok (.getfield 16, 3) := dk_180 0 16 (dk_at dksX0_stand_0 12 rfl rfl)
theorem dX0_stand_15 : decode cX0_stand 15 = .ok (.getfield 124, 3) := dk_180 0 124 (dk_at dksX0_stand_0 15 rfl rfl)
theorem dX0_stand_18 : decode cX0_stand 18 = .ok (.istore_n 2, 1) := dk_61 (dk_at dksX0_stand_0 18 rfl rfl)
theorem dX0_stand_19 : decode cX0_stand 19 = .ok (.aload_n 0, 1) := dk_42 (dk_at dksX0_stand_0 19 rfl rfl)
theorem dX0_stand_20 : decode cX0_stand 20 = .ok (.getfield 16, 3) := dk_180 0 16 (dk_at dksX0_stand_0 20 rfl rfl)
theorem dX0_stand_23 : decode cX0_stand 23 = .ok (.iload_n 1, 1) := dk_27 (dk_at dksX0_stand_0 23 rfl rfl)
theorem dX0_stand_24 : decode cX0_stand 24 = .ok (.putfield 124, 3) := dk_181 0 124 (dk_at dksX0_stand_1 0 rfl rfl)
theorem dX0_stand_27 : decode cX0_stand 27 = .ok (.iload_n 2, 1) := dk_28 (dk_at dksX0_stand_1 3 rfl rfl)
theorem dX0_stand_28 : decode cX0_stand 28 = .ok (.ireturn, 1) := dk_172 (dk_at dksX0_stand_1 4 rfl rfl)
abbrev cX0_habit : ByteArray := prog_1_method_11_code
def yX0_habit : MethodName := ⟨RX0, "habit", "(II)I"⟩
def dkwX0_habit_2 : List UInt8 := [180, 0, 127, 27, 28, 79, 29, 172]
abbrev dktX0_habit_2 : List UInt8 := dkwX0_habit_2 ++ []
def dkwX0_habit_1 : List UInt8 := [184, 0, 3, 154, 0, 5, 2, 172, 42, 180, 0, 16, 180, 0, 127, 27, 46, 62, 42, 180, 0, 16]
abbrev dktX0_habit_1 : List UInt8 := dkwX0_habit_1 ++ dktX0_habit_2
def dkwX0_habit_0 : List UInt8 := [27, 3, 7, 184, 0, 3, 153, 0, 23, 28, 3, 27, 7, 160, 0, 8, 16, 10, 167, 0, 5, 16, 9]
abbrev dktX0_habit_0 : List UInt8 := dkwX0_habit_0 ++ dktX0_habit_1
theorem dksX0_habit_0 : cX0_habit.data.toList.drop 0 = dktX0_habit_0 := by decide +kernel
theorem dksX0_habit_1 : cX0_habit.data.toList.drop 23 = dktX0_habit_1 := dk_seg dksX0_habit_0 23 rfl rfl
theorem dksX0_habit_2 : cX0_habit.data.toList.drop 45 = dktX0_habit_2 := dk_seg dksX0_habit_1 22 rfl rfl
theorem dX0_habit_0 : decode cX0_habit 0 = .ok (.iload_n 1, 1) := dk_27 (dk_at dksX0_habit_0 0 rfl rfl)
theorem dX0_habit_1 : decode cX0_habit 1 = .ok (.iconst 0, 1) := dk_3 (dk_at dksX0_habit_0 1 rfl rfl)
theorem dX0_habit_2 : decode cX0_habit 2 = .ok (.iconst 4, 1) := dk_7 (dk_at dksX0_habit_0 2 rfl rfl)
theorem dX0_habit_3 : decode cX0_habit 3 = .ok (.invokestatic 3, 3) := dk_184 0 3 (dk_at dksX0_habit_0 3 rfl rfl)
theorem dX0_habit_6 : decode cX0_habit 6 = .ok (.ifCond .eq 23, 3) := dk_153 0 23 (dk_at dksX0_habit_0 6 rfl rfl)
theorem dX0_habit_9 : decode cX0_habit 9 = .ok (.iload_n 2, 1) := dk_28 (dk_at dksX0_habit_0 9 rfl rfl)
theorem dX0_habit_10 : decode cX0_habit 10 = .ok (.iconst 0, 1) := dk_3 (dk_at dksX0_habit_0 10 rfl rfl)
theorem dX0_habit_11 : decode cX0_habit 11 = .ok (.iload_n 1, 1) := dk_27 (dk_at dksX0_habit_0 11 rfl rfl)
theorem dX0_habit_12 : decode cX0_habit 12 = .ok (.iconst 4, 1) := dk_7 (dk_at dksX0_habit_0 12 rfl rfl)
theorem dX0_habit_13 : decode cX0_habit 13 = .ok (.if_icmp .ne 8, 3) := dk_160 0 8 (dk_at dksX0_habit_0 13 rfl rfl)
theorem dX0_habit_16 : decode cX0_habit 16 = .ok (.bipush 10, 2) := dk_16 10 (dk_at dksX0_habit_0 16 rfl rfl)
theorem dX0_habit_18 : decode cX0_habit 18 = .ok (.goto 5, 3) := dk_167 0 5 (dk_at dksX0_habit_0 18 rfl rfl)
theorem dX0_habit_21 : decode cX0_habit 21 = .ok (.bipush 9, 2) := dk_16 9 (dk_at dksX0_habit_0 21 rfl rfl)
theorem dX0_habit_23 : decode cX0_habit 23 = .ok (.invokestatic 3, 3) := dk_184 0 3 (dk_at dksX0_habit_1 0 rfl rfl)
theorem dX0_habit_26 : decode cX0_habit 26 = .ok (.ifCond .ne 5, 3) := dk_154 0 5 (dk_at dksX0_habit_1 3 rfl rfl)
theorem dX0_habit_29 : decode cX0_habit 29 = .ok (.iconst (-1), 1) := dk_2 (dk_at dksX0_habit_1 6 rfl rfl)
theorem dX0_habit_30 : decode cX0_habit 30 = .ok (.ireturn, 1) := dk_172 (dk_at dksX0_habit_1 7 rfl rfl)
theorem dX0_habit_31 : decode cX0_habit 31 = .ok (.aload_n 0, 1) := dk_42 (dk_at dksX0_habit_1 8 rfl rfl)
theorem dX0_habit_32 : decode cX0_habit 32 = .ok (.getfield 16, 3) := dk_180 0 16 (dk_at dksX0_habit_1 9 rfl rfl)
theorem dX0_habit_35 : decode cX0_habit 35 = .ok (.getfield 127, 3) := dk_180 0 127 (dk_at dksX0_habit_1 12 rfl rfl)
theorem dX0_habit_38 : decode cX0_habit 38 = .ok (.iload_n 1, 1) := dk_27 (dk_at dksX0_habit_1 15 rfl rfl)
theorem dX0_habit_39 : decode cX0_habit 39 = .ok (.iaload, 1) := dk_46 (dk_at dksX0_habit_1 16 rfl rfl)
theorem dX0_habit_40 : decode cX0_habit 40 = .ok (.istore_n 3, 1) := dk_62 (dk_at dksX0_habit_1 17 rfl rfl)
theorem dX0_habit_41 : decode cX0_habit 41 = .ok (.aload_n 0, 1) := dk_42 (dk_at dksX0_habit_1 18 rfl rfl)
theorem dX0_habit_42 : decode cX0_habit 42 = .ok (.getfield 16, 3) := dk_180 0 16 (dk_at dksX0_habit_1 19 rfl rfl)
theorem dX0_habit_45 : decode cX0_habit 45 = .ok (.getfield 127, 3) := dk_180 0 127 (dk_at dksX0_habit_2 0 rfl rfl)
theorem dX0_habit_48 : decode cX0_habit 48 = .ok (.iload_n 1, 1) := dk_27 (dk_at dksX0_habit_2 3 rfl rfl)
theorem dX0_habit_49 : decode cX0_habit 49 = .ok (.iload_n 2, 1) := dk_28 (dk_at dksX0_habit_2 4 rfl rfl)
theorem dX0_habit_50 : decode cX0_habit 50 = .ok (.iastore, 1) := dk_79 (dk_at dksX0_habit_2 5 rfl rfl)
theorem dX0_habit_51 : decode cX0_habit 51 = .ok (.iload_n 3, 1) := dk_29 (dk_at dksX0_habit_2 6 rfl rfl)
theorem dX0_habit_52 : decode cX0_habit 52 = .ok (.ireturn, 1) := dk_172 (dk_at dksX0_habit_2 7 rfl rfl)
abbrev cX0_watcher : ByteArray := prog_1_method_13_code
def yX0_watcher : MethodName := ⟨RX0, "watcher", "(II)I"⟩
def dkwX0_watcher_3 : List UInt8 := [185, 0, 88, 1, 0, 4, 100, 172]
abbrev dktX0_watcher_3 : List UInt8 := dkwX0_watcher_3 ++ []
def dkwX0_watcher_2 : List UInt8 := [16, 253, 172, 42, 180, 0, 26, 27, 28, 184, 0, 140, 185, 0, 144, 2, 0, 87, 42, 180, 0, 26]
abbrev dktX0_watcher_2 : List UInt8 := dkwX0_watcher_2 ++ dktX0_watcher_3
def dkwX0_watcher_1 : List UInt8 := [182, 0, 137, 153, 0, 6, 16, 254, 172, 42, 180, 0, 26, 185, 0, 88, 1, 0, 16, 8, 160, 0, 6]
abbrev dktX0_watcher_1 : List UInt8 := dkwX0_watcher_1 ++ dktX0_watcher_2
def dkwX0_watcher_0 : List UInt8 := [27, 3, 16, 11, 184, 0, 3, 153, 0, 12, 28, 3, 6, 184, 0, 3, 154, 0, 5, 2, 172, 42, 27]
abbrev dktX0_watcher_0 : List UInt8 := dkwX0_watcher_0 ++ dktX0_watcher_1
theorem dksX0_watcher_0 : cX0_watcher.data.toList.drop 0 = dktX0_watcher_0 := by decide +kernel
theorem dksX0_watcher_1 : cX0_watcher.data.toList.drop 23 = dktX0_watcher_1 := dk_seg dksX0_watcher_0 23 rfl rfl
theorem dksX0_watcher_2 : cX0_watcher.data.toList.drop 46 = dktX0_watcher_2 := dk_seg dksX0_watcher_1 23 rfl rfl
theorem dksX0_watcher_3 : cX0_watcher.data.toList.drop 68 = dktX0_watcher_3 := dk_seg dksX0_watcher_2 22 rfl rfl
theorem dX0_watcher_0 : decode cX0_watcher 0 = .ok (.iload_n 1, 1) := dk_27 (dk_at dksX0_watcher_0 0 rfl rfl)
theorem dX0_watcher_1 : decode cX0_watcher 1 = .ok (.iconst 0, 1) := dk_3 (dk_at dksX0_watcher_0 1 rfl rfl)
theorem dX0_watcher_2 : decode cX0_watcher 2 = .ok (.bipush 11, 2) := dk_16 11 (dk_at dksX0_watcher_0 2 rfl rfl)
theorem dX0_watcher_4 : decode cX0_watcher 4 = .ok (.invokestatic 3, 3) := dk_184 0 3 (dk_at dksX0_watcher_0 4 rfl rfl)
theorem dX0_watcher_7 : decode cX0_watcher 7 = .ok (.ifCond .eq 12, 3) := dk_153 0 12 (dk_at dksX0_watcher_0 7 rfl rfl)
theorem dX0_watcher_10 : decode cX0_watcher 10 = .ok (.iload_n 2, 1) := dk_28 (dk_at dksX0_watcher_0 10 rfl rfl)
theorem dX0_watcher_11 : decode cX0_watcher 11 = .ok (.iconst 0, 1) := dk_3 (dk_at dksX0_watcher_0 11 rfl rfl)
theorem dX0_watcher_12 : decode cX0_watcher 12 = .ok (.iconst 3, 1) := dk_6 (dk_at dksX0_watcher_0 12 rfl rfl)
theorem dX0_watcher_13 : decode cX0_watcher 13 = .ok (.invokestatic 3, 3) := dk_184 0 3 (dk_at dksX0_watcher_0 13 rfl rfl)
theorem dX0_watcher_16 : decode cX0_watcher 16 = .ok (.ifCond .ne 5, 3) := dk_154 0 5 (dk_at dksX0_watcher_0 16 rfl rfl)
theorem dX0_watcher_19 : decode cX0_watcher 19 = .ok (.iconst (-1), 1) := dk_2 (dk_at dksX0_watcher_0 19 rfl rfl)
theorem dX0_watcher_20 : decode cX0_watcher 20 = .ok (.ireturn, 1) := dk_172 (dk_at dksX0_watcher_0 20 rfl rfl)
theorem dX0_watcher_21 : decode cX0_watcher 21 = .ok (.aload_n 0, 1) := dk_42 (dk_at dksX0_watcher_0 21 rfl rfl)
theorem dX0_watcher_22 : decode cX0_watcher 22 = .ok (.iload_n 1, 1) := dk_27 (dk_at dksX0_watcher_0 22 rfl rfl)
theorem dX0_watcher_23 : decode cX0_watcher 23 = .ok (.invokevirtual 137, 3) := dk_182 0 137 (dk_at dksX0_watcher_1 0 rfl rfl)
theorem dX0_watcher_26 : decode cX0_watcher 26 = .ok (.ifCond .eq 6, 3) := dk_153 0 6 (dk_at dksX0_watcher_1 3 rfl rfl)
theorem dX0_watcher_29 : decode cX0_watcher 29 = .ok (.bipush (-2), 2) := dk_16 254 (dk_at dksX0_watcher_1 6 rfl rfl)
theorem dX0_watcher_31 : decode cX0_watcher 31 = .ok (.ireturn, 1) := dk_172 (dk_at dksX0_watcher_1 8 rfl rfl)
theorem dX0_watcher_32 : decode cX0_watcher 32 = .ok (.aload_n 0, 1) := dk_42 (dk_at dksX0_watcher_1 9 rfl rfl)
theorem dX0_watcher_33 : decode cX0_watcher 33 = .ok (.getfield 26, 3) := dk_180 0 26 (dk_at dksX0_watcher_1 10 rfl rfl)
theorem dX0_watcher_36 : decode cX0_watcher 36 = .ok (.invokeinterface 88 1, 5) := by decide +kernel
theorem dX0_watcher_41 : decode cX0_watcher 41 = .ok (.bipush 8, 2) := dk_16 8 (dk_at dksX0_watcher_1 18 rfl rfl)
theorem dX0_watcher_43 : decode cX0_watcher 43 = .ok (.if_icmp .ne 6, 3) := dk_160 0 6 (dk_at dksX0_watcher_1 20 rfl rfl)
theorem dX0_watcher_46 : decode cX0_watcher 46 = .ok (.bipush (-3), 2) := dk_16 253 (dk_at dksX0_watcher_2 0 rfl rfl)
theorem dX0_watcher_48 : decode cX0_watcher 48 = .ok (.ireturn, 1) := dk_172 (dk_at dksX0_watcher_2 2 rfl rfl)
theorem dX0_watcher_49 : decode cX0_watcher 49 = .ok (.aload_n 0, 1) := dk_42 (dk_at dksX0_watcher_2 3 rfl rfl)
theorem dX0_watcher_50 : decode cX0_watcher 50 = .ok (.getfield 26, 3) := dk_180 0 26 (dk_at dksX0_watcher_2 4 rfl rfl)
theorem dX0_watcher_53 : decode cX0_watcher 53 = .ok (.iload_n 1, 1) := dk_27 (dk_at dksX0_watcher_2 7 rfl rfl)
theorem dX0_watcher_54 : decode cX0_watcher 54 = .ok (.iload_n 2, 1) := dk_28 (dk_at dksX0_watcher_2 8 rfl rfl)
theorem dX0_watcher_55 : decode cX0_watcher 55 = .ok (.invokestatic 140, 3) := dk_184 0 140 (dk_at dksX0_watcher_2 9 rfl rfl)
theorem dX0_watcher_58 : decode cX0_watcher 58 = .ok (.invokeinterface 144 2, 5) := by decide +kernel
theorem dX0_watcher_63 : decode cX0_watcher 63 = .ok (.pop, 1) := dk_87 (dk_at dksX0_watcher_2 17 rfl rfl)
theorem dX0_watcher_64 : decode cX0_watcher 64 = .ok (.aload_n 0, 1) := dk_42 (dk_at dksX0_watcher_2 18 rfl rfl)
theorem dX0_watcher_65 : decode cX0_watcher 65 = .ok (.getfield 26, 3) := dk_180 0 26 (dk_at dksX0_watcher_2 19 rfl rfl)
theorem dX0_watcher_68 : decode cX0_watcher 68 = .ok (.invokeinterface 88 1, 5) := by decide +kernel
theorem dX0_watcher_73 : decode cX0_watcher 73 = .ok (.iconst 1, 1) := dk_4 (dk_at dksX0_watcher_3 5 rfl rfl)
theorem dX0_watcher_74 : decode cX0_watcher 74 = .ok (.isub, 1) := dk_100 (dk_at dksX0_watcher_3 6 rfl rfl)
theorem dX0_watcher_75 : decode cX0_watcher 75 = .ok (.ireturn, 1) := dk_172 (dk_at dksX0_watcher_3 7 rfl rfl)
abbrev cX0_isTaken : ByteArray := prog_1_method_12_code
def yX0_isTaken : MethodName := ⟨RX0, "isTaken", "(I)Z"⟩
def dkwX0_isTaken_2 : List UInt8 := [132, 3, 1, 167, 255, 212, 28, 172]
abbrev dktX0_isTaken_2 : List UInt8 := dkwX0_isTaken_2 ++ []
def dkwX0_isTaken_1 : List UInt8 := [185, 0, 130, 2, 0, 192, 0, 51, 180, 0, 134, 27, 160, 0, 7, 4, 167, 0, 4, 3, 128, 61]
abbrev dktX0_isTaken_1 : List UInt8 := dkwX0_isTaken_1 ++ dktX0_isTaken_2
def dkwX0_isTaken_0 : List UInt8 := [3, 61, 3, 62, 29, 42, 180, 0, 26, 185, 0, 88, 1, 0, 162, 0, 37, 28, 42, 180, 0, 26, 29]
abbrev dktX0_isTaken_0 : List UInt8 := dkwX0_isTaken_0 ++ dktX0_isTaken_1
theorem dksX0_isTaken_0 : cX0_isTaken.data.toList.drop 0 = dktX0_isTaken_0 := by decide +kernel
theorem dksX0_isTaken_1 : cX0_isTaken.data.toList.drop 23 = dktX0_isTaken_1 := dk_seg dksX0_isTaken_0 23 rfl rfl
theorem dksX0_isTaken_2 : cX0_isTaken.data.toList.drop 45 = dktX0_isTaken_2 := dk_seg dksX0_isTaken_1 22 rfl rfl
theorem dX0_isTaken_0 : decode cX0_isTaken 0 = .ok (.iconst 0, 1) := dk_3 (dk_at dksX0_isTaken_0 0 rfl rfl)
theorem dX0_isTaken_1 : decode cX0_isTaken 1 = .ok (.istore_n 2, 1) := dk_61 (dk_at dksX0_isTaken_0 1 rfl rfl)
theorem dX0_isTaken_2 : decode cX0_isTaken 2 = .ok (.iconst 0, 1) := dk_3 (dk_at dksX0_isTaken_0 2 rfl rfl)
theorem dX0_isTaken_3 : decode cX0_isTaken 3 = .ok (.istore_n 3, 1) := dk_62 (dk_at dksX0_isTaken_0 3 rfl rfl)
theorem dX0_isTaken_4 : decode cX0_isTaken 4 = .ok (.iload_n 3, 1) := dk_29 (dk_at dksX0_isTaken_0 4 rfl rfl)
theorem dX0_isTaken_5 : decode cX0_isTaken 5 = .ok (.aload_n 0, 1) := dk_42 (dk_at dksX0_isTaken_0 5 rfl rfl)
theorem dX0_isTaken_6 : decode cX0_isTaken 6 = .ok (.getfield 26, 3) := dk_180 0 26 (dk_at dksX0_isTaken_0 6 rfl rfl)
theorem dX0_isTaken_9 : decode cX0_isTaken 9 = .ok (.invokeinterface 88 1, 5) := by decide +kernel
theorem dX0_isTaken_14 : decode cX0_isTaken 14 = .ok (.if_icmp .ge 37, 3) := dk_162 0 37 (dk_at dksX0_isTaken_0 14 rfl rfl)
theorem dX0_isTaken_17 : decode cX0_isTaken 17 = .ok (.iload_n 2, 1) := dk_28 (dk_at dksX0_isTaken_0 17 rfl rfl)
theorem dX0_isTaken_18 : decode cX0_isTaken 18 = .ok (.aload_n 0, 1) := dk_42 (dk_at dksX0_isTaken_0 18 rfl rfl)
theorem dX0_isTaken_19 : decode cX0_isTaken 19 = .ok (.getfield 26, 3) := dk_180 0 26 (dk_at dksX0_isTaken_0 19 rfl rfl)
theorem dX0_isTaken_22 : decode cX0_isTaken 22 = .ok (.iload_n 3, 1) := dk_29 (dk_at dksX0_isTaken_0 22 rfl rfl)
theorem dX0_isTaken_23 : decode cX0_isTaken 23 = .ok (.invokeinterface 130 2, 5) := by decide +kernel
theorem dX0_isTaken_28 : decode cX0_isTaken 28 = .ok (.checkcast 51, 3) := dk_192 0 51 (dk_at dksX0_isTaken_1 5 rfl rfl)
theorem dX0_isTaken_31 : decode cX0_isTaken 31 = .ok (.getfield 134, 3) := dk_180 0 134 (dk_at dksX0_isTaken_1 8 rfl rfl)
theorem dX0_isTaken_34 : decode cX0_isTaken 34 = .ok (.iload_n 1, 1) := dk_27 (dk_at dksX0_isTaken_1 11 rfl rfl)
theorem dX0_isTaken_35 : decode cX0_isTaken 35 = .ok (.if_icmp .ne 7, 3) := dk_160 0 7 (dk_at dksX0_isTaken_1 12 rfl rfl)
theorem dX0_isTaken_38 : decode cX0_isTaken 38 = .ok (.iconst 1, 1) := dk_4 (dk_at dksX0_isTaken_1 15 rfl rfl)
theorem dX0_isTaken_39 : decode cX0_isTaken 39 = .ok (.goto 4, 3) := dk_167 0 4 (dk_at dksX0_isTaken_1 16 rfl rfl)
theorem dX0_isTaken_42 : decode cX0_isTaken 42 = .ok (.iconst 0, 1) := dk_3 (dk_at dksX0_isTaken_1 19 rfl rfl)
theorem dX0_isTaken_43 : decode cX0_isTaken 43 = .ok (.ior, 1) := dk_128 (dk_at dksX0_isTaken_1 20 rfl rfl)
theorem dX0_isTaken_44 : decode cX0_isTaken 44 = .ok (.istore_n 2, 1) := dk_61 (dk_at dksX0_isTaken_1 21 rfl rfl)
theorem dX0_isTaken_45 : decode cX0_isTaken 45 = .ok (.iinc 3 1, 3) := dk_132 3 1 (dk_at dksX0_isTaken_2 0 rfl rfl)
theorem dX0_isTaken_48 : decode cX0_isTaken 48 = .ok (.goto (-44), 3) := dk_167 255 212 (dk_at dksX0_isTaken_2 3 rfl rfl)
theorem dX0_isTaken_51 : decode cX0_isTaken 51 = .ok (.iload_n 2, 1) := dk_28 (dk_at dksX0_isTaken_2 6 rfl rfl)
theorem dX0_isTaken_52 : decode cX0_isTaken 52 = .ok (.ireturn, 1) := dk_172 (dk_at dksX0_isTaken_2 7 rfl rfl)
abbrev cX0_watcherOf : ByteArray := prog_1_method_6_code
def yX0_watcherOf : MethodName := ⟨RX0, "watcherOf", "(II)LCoinNotThere$Watcher;"⟩
def dkwX0_watcherOf_2 : List UInt8 := [187, 0, 85, 89, 26, 183, 0, 87, 176]
abbrev dktX0_watcherOf_2 : List UInt8 := dkwX0_watcherOf_2 ++ []
def dkwX0_watcherOf_1 : List UInt8 := [26, 183, 0, 81, 167, 0, 27, 27, 5, 160, 0, 14, 187, 0, 82, 89, 26, 183, 0, 84, 167, 0, 11]
abbrev dktX0_watcherOf_1 : List UInt8 := dkwX0_watcherOf_1 ++ dktX0_watcherOf_2
def dkwX0_watcherOf_0 : List UInt8 := [27, 154, 0, 14, 187, 0, 51, 89, 26, 183, 0, 53, 167, 0, 43, 27, 4, 160, 0, 14, 187, 0, 79, 89]
abbrev dktX0_watcherOf_0 : List UInt8 := dkwX0_watcherOf_0 ++ dktX0_watcherOf_1
theorem dksX0_watcherOf_0 : cX0_watcherOf.data.toList.drop 0 = dktX0_watcherOf_0 := by decide +kernel
theorem dksX0_watcherOf_1 : cX0_watcherOf.data.toList.drop 24 = dktX0_watcherOf_1 := dk_seg dksX0_watcherOf_0 24 rfl rfl
theorem dksX0_watcherOf_2 : cX0_watcherOf.data.toList.drop 47 = dktX0_watcherOf_2 := dk_seg dksX0_watcherOf_1 23 rfl rfl
theorem dX0_watcherOf_0 : decode cX0_watcherOf 0 = .ok (.iload_n 1, 1) := dk_27 (dk_at dksX0_watcherOf_0 0 rfl rfl)
theorem dX0_watcherOf_1 : decode cX0_watcherOf 1 = .ok (.ifCond .ne 14, 3) := dk_154 0 14 (dk_at dksX0_watcherOf_0 1 rfl rfl)
theorem dX0_watcherOf_4 : decode cX0_watcherOf 4 = .ok (.new 51, 3) := dk_187 0 51 (dk_at dksX0_watcherOf_0 4 rfl rfl)
theorem dX0_watcherOf_7 : decode cX0_watcherOf 7 = .ok (.dup, 1) := dk_89 (dk_at dksX0_watcherOf_0 7 rfl rfl)
theorem dX0_watcherOf_8 : decode cX0_watcherOf 8 = .ok (.iload_n 0, 1) := dk_26 (dk_at dksX0_watcherOf_0 8 rfl rfl)
theorem dX0_watcherOf_9 : decode cX0_watcherOf 9 = .ok (.invokespecial 53, 3) := dk_183 0 53 (dk_at dksX0_watcherOf_0 9 rfl rfl)
theorem dX0_watcherOf_12 : decode cX0_watcherOf 12 = .ok (.goto 43, 3) := dk_167 0 43 (dk_at dksX0_watcherOf_0 12 rfl rfl)
theorem dX0_watcherOf_15 : decode cX0_watcherOf 15 = .ok (.iload_n 1, 1) := dk_27 (dk_at dksX0_watcherOf_0 15 rfl rfl)
theorem dX0_watcherOf_16 : decode cX0_watcherOf 16 = .ok (.iconst 1, 1) := dk_4 (dk_at dksX0_watcherOf_0 16 rfl rfl)
theorem dX0_watcherOf_17 : decode cX0_watcherOf 17 = .ok (.if_icmp .ne 14, 3) := dk_160 0 14 (dk_at dksX0_watcherOf_0 17 rfl rfl)
theorem dX0_watcherOf_20 : decode cX0_watcherOf 20 = .ok (.new 79, 3) := dk_187 0 79 (dk_at dksX0_watcherOf_0 20 rfl rfl)
theorem dX0_watcherOf_23 : decode cX0_watcherOf 23 = .ok (.dup, 1) := dk_89 (dk_at dksX0_watcherOf_0 23 rfl rfl)
theorem dX0_watcherOf_24 : decode cX0_watcherOf 24 = .ok (.iload_n 0, 1) := dk_26 (dk_at dksX0_watcherOf_1 0 rfl rfl)
theorem dX0_watcherOf_25 : decode cX0_watcherOf 25 = .ok (.invokespecial 81, 3) := dk_183 0 81 (dk_at dksX0_watcherOf_1 1 rfl rfl)
theorem dX0_watcherOf_28 : decode cX0_watcherOf 28 = .ok (.goto 27, 3) := dk_167 0 27 (dk_at dksX0_watcherOf_1 4 rfl rfl)
theorem dX0_watcherOf_31 : decode cX0_watcherOf 31 = .ok (.iload_n 1, 1) := dk_27 (dk_at dksX0_watcherOf_1 7 rfl rfl)
theorem dX0_watcherOf_32 : decode cX0_watcherOf 32 = .ok (.iconst 2, 1) := dk_5 (dk_at dksX0_watcherOf_1 8 rfl rfl)
theorem dX0_watcherOf_33 : decode cX0_watcherOf 33 = .ok (.if_icmp .ne 14, 3) := dk_160 0 14 (dk_at dksX0_watcherOf_1 9 rfl rfl)
theorem dX0_watcherOf_36 : decode cX0_watcherOf 36 = .ok (.new 82, 3) := dk_187 0 82 (dk_at dksX0_watcherOf_1 12 rfl rfl)
theorem dX0_watcherOf_39 : decode cX0_watcherOf 39 = .ok (.dup, 1) := dk_89 (dk_at dksX0_watcherOf_1 15 rfl rfl)
theorem dX0_watcherOf_40 : decode cX0_watcherOf 40 = .ok (.iload_n 0, 1) := dk_26 (dk_at dksX0_watcherOf_1 16 rfl rfl)
theorem dX0_watcherOf_41 : decode cX0_watcherOf 41 = .ok (.invokespecial 84, 3) := dk_183 0 84 (dk_at dksX0_watcherOf_1 17 rfl rfl)
theorem dX0_watcherOf_44 : decode cX0_watcherOf 44 = .ok (.goto 11, 3) := dk_167 0 11 (dk_at dksX0_watcherOf_1 20 rfl rfl)
theorem dX0_watcherOf_47 : decode cX0_watcherOf 47 = .ok (.new 85, 3) := dk_187 0 85 (dk_at dksX0_watcherOf_2 0 rfl rfl)
theorem dX0_watcherOf_50 : decode cX0_watcherOf 50 = .ok (.dup, 1) := dk_89 (dk_at dksX0_watcherOf_2 3 rfl rfl)
theorem dX0_watcherOf_51 : decode cX0_watcherOf 51 = .ok (.iload_n 0, 1) := dk_26 (dk_at dksX0_watcherOf_2 4 rfl rfl)
theorem dX0_watcherOf_52 : decode cX0_watcherOf 52 = .ok (.invokespecial 87, 3) := dk_183 0 87 (dk_at dksX0_watcherOf_2 5 rfl rfl)
theorem dX0_watcherOf_55 : decode cX0_watcherOf 55 = .ok (.areturn, 1) := dk_176 (dk_at dksX0_watcherOf_2 8 rfl rfl)
abbrev cX0_doubt : ByteArray := prog_1_method_14_code
def yX0_doubt : MethodName := ⟨RX0, "doubt", "(II)I"⟩
def dkwX0_doubt_2 : List UInt8 := [78, 16, 244, 172]
abbrev dktX0_doubt_2 : List UInt8 := dkwX0_doubt_2 ++ []
def dkwX0_doubt_1 : List UInt8 := [27, 185, 0, 130, 2, 0, 192, 0, 79, 78, 45, 180, 0, 151, 54, 4, 45, 28, 181, 0, 151, 21, 4, 172]
abbrev dktX0_doubt_1 : List UInt8 := dkwX0_doubt_1 ++ dktX0_doubt_2
def dkwX0_doubt_0 : List UInt8 := [42, 27, 182, 0, 148, 153, 0, 13, 28, 3, 16, 9, 184, 0, 3, 154, 0, 5, 2, 172, 42, 180, 0, 26]
abbrev dktX0_doubt_0 : List UInt8 := dkwX0_doubt_0 ++ dktX0_doubt_1
theorem dksX0_doubt_0 : cX0_doubt.data.toList.drop 0 = dktX0_doubt_0 := by decide +kernel
theorem dksX0_doubt_1 : cX0_doubt.data.toList.drop 24 = dktX0_doubt_1 := dk_seg dksX0_doubt_0 24 rfl rfl
theorem dksX0_doubt_2 : cX0_doubt.data.toList.drop 48 = dktX0_doubt_2 := dk_seg dksX0_doubt_1 24 rfl rfl
theorem dX0_doubt_0 : decode cX0_doubt 0 = .ok (.aload_n 0, 1) := dk_42 (dk_at dksX0_doubt_0 0 rfl rfl)
theorem dX0_doubt_1 : decode cX0_doubt 1 = .ok (.iload_n 1, 1) := dk_27 (dk_at dksX0_doubt_0 1 rfl rfl)
theorem dX0_doubt_2 : decode cX0_doubt 2 = .ok (.invokevirtual 148, 3) := dk_182 0 148 (dk_at dksX0_doubt_0 2 rfl rfl)
theorem dX0_doubt_5 : decode cX0_doubt 5 = .ok (.ifCond .eq 13, 3) := dk_153 0 13 (dk_at dksX0_doubt_0 5 rfl rfl)
theorem dX0_doubt_8 : decode cX0_doubt 8 = .ok (.iload_n 2, 1) := dk_28 (dk_at dksX0_doubt_0 8 rfl rfl)
theorem dX0_doubt_9 : decode cX0_doubt 9 = .ok (.iconst 0, 1) := dk_3 (dk_at dksX0_doubt_0 9 rfl rfl)
theorem dX0_doubt_10 : decode cX0_doubt 10 = .ok (.bipush 9, 2) := dk_16 9 (dk_at dksX0_doubt_0 10 rfl rfl)
theorem dX0_doubt_12 : decode cX0_doubt 12 = .ok (.invokestatic 3, 3) := dk_184 0 3 (dk_at dksX0_doubt_0 12 rfl rfl)
theorem dX0_doubt_15 : decode cX0_doubt 15 = .ok (.ifCond .ne 5, 3) := dk_154 0 5 (dk_at dksX0_doubt_0 15 rfl rfl)
theorem dX0_doubt_18 : decode cX0_doubt 18 = .ok (.iconst (-1), 1) := dk_2 (dk_at dksX0_doubt_0 18 rfl rfl)
theorem dX0_doubt_19 : decode cX0_doubt 19 = .ok (.ireturn, 1) := dk_172 (dk_at dksX0_doubt_0 19 rfl rfl)
theorem dX0_doubt_20 : decode cX0_doubt 20 = .ok (.aload_n 0, 1) := dk_42 (dk_at dksX0_doubt_0 20 rfl rfl)
theorem dX0_doubt_21 : decode cX0_doubt 21 = .ok (.getfield 26, 3) := dk_180 0 26 (dk_at dksX0_doubt_0 21 rfl rfl)
theorem dX0_doubt_24 : decode cX0_doubt 24 = .ok (.iload_n 1, 1) := dk_27 (dk_at dksX0_doubt_1 0 rfl rfl)
theorem dX0_doubt_25 : decode cX0_doubt 25 = .ok (.invokeinterface 130 2, 5) := by decide +kernel
theorem dX0_doubt_30 : decode cX0_doubt 30 = .ok (.checkcast 79, 3) := dk_192 0 79 (dk_at dksX0_doubt_1 6 rfl rfl)
theorem dX0_doubt_33 : decode cX0_doubt 33 = .ok (.astore_n 3, 1) := dk_78 (dk_at dksX0_doubt_1 9 rfl rfl)
theorem dX0_doubt_34 : decode cX0_doubt 34 = .ok (.aload_n 3, 1) := dk_45 (dk_at dksX0_doubt_1 10 rfl rfl)
theorem dX0_doubt_35 : decode cX0_doubt 35 = .ok (.getfield 151, 3) := dk_180 0 151 (dk_at dksX0_doubt_1 11 rfl rfl)
theorem dX0_doubt_38 : decode cX0_doubt 38 = .ok (.istore 4, 2) := dk_54 4 (dk_at dksX0_doubt_1 14 rfl rfl)
theorem dX0_doubt_40 : decode cX0_doubt 40 = .ok (.aload_n 3, 1) := dk_45 (dk_at dksX0_doubt_1 16 rfl rfl)
theorem dX0_doubt_41 : decode cX0_doubt 41 = .ok (.iload_n 2, 1) := dk_28 (dk_at dksX0_doubt_1 17 rfl rfl)
theorem dX0_doubt_42 : decode cX0_doubt 42 = .ok (.putfield 151, 3) := dk_181 0 151 (dk_at dksX0_doubt_1 18 rfl rfl)
theorem dX0_doubt_45 : decode cX0_doubt 45 = .ok (.iload 4, 2) := dk_21 4 (dk_at dksX0_doubt_1 21 rfl rfl)
theorem dX0_doubt_47 : decode cX0_doubt 47 = .ok (.ireturn, 1) := dk_172 (dk_at dksX0_doubt_1 23 rfl rfl)
theorem dX0_doubt_48 : decode cX0_doubt 48 = .ok (.astore_n 3, 1) := dk_78 (dk_at dksX0_doubt_2 0 rfl rfl)
theorem dX0_doubt_49 : decode cX0_doubt 49 = .ok (.bipush (-12), 2) := dk_16 244 (dk_at dksX0_doubt_2 1 rfl rfl)
theorem dX0_doubt_51 : decode cX0_doubt 51 = .ok (.ireturn, 1) := dk_172 (dk_at dksX0_doubt_2 3 rfl rfl)
abbrev cX0_isWatcher : ByteArray := prog_1_method_7_code
def yX0_isWatcher : MethodName := ⟨RX0, "isWatcher", "(I)Z"⟩
def dkwX0_isWatcher_0 : List UInt8 := [27, 3, 42, 180, 0, 26, 185, 0, 88, 1, 0, 4, 100, 184, 0, 3, 172]
abbrev dktX0_isWatcher_0 : List UInt8 := dkwX0_isWatcher_0 ++ []
theorem dksX0_isWatcher_0 : cX0_isWatcher.data.toList.drop 0 = dktX0_isWatcher_0 := by decide +kernel
theorem dX0_isWatcher_0 : decode cX0_isWatcher 0 = .ok (.iload_n 1, 1) := dk_27 (dk_at dksX0_isWatcher_0 0 rfl rfl)
theorem dX0_isWatcher_1 : decode cX0_isWatcher 1 = .ok (.iconst 0, 1) := dk_3 (dk_at dksX0_isWatcher_0 1 rfl rfl)
theorem dX0_isWatcher_2 : decode cX0_isWatcher 2 = .ok (.aload_n 0, 1) := dk_42 (dk_at dksX0_isWatcher_0 2 rfl rfl)
theorem dX0_isWatcher_3 : decode cX0_isWatcher 3 = .ok (.getfield 26, 3) := dk_180 0 26 (dk_at dksX0_isWatcher_0 3 rfl rfl)
theorem dX0_isWatcher_6 : decode cX0_isWatcher 6 = .ok (.invokeinterface 88 1, 5) := by decide +kernel
theorem dX0_isWatcher_11 : decode cX0_isWatcher 11 = .ok (.iconst 1, 1) := dk_4 (dk_at dksX0_isWatcher_0 11 rfl rfl)
theorem dX0_isWatcher_12 : decode cX0_isWatcher 12 = .ok (.isub, 1) := dk_100 (dk_at dksX0_isWatcher_0 12 rfl rfl)
theorem dX0_isWatcher_13 : decode cX0_isWatcher 13 = .ok (.invokestatic 3, 3) := dk_184 0 3 (dk_at dksX0_isWatcher_0 13 rfl rfl)
theorem dX0_isWatcher_16 : decode cX0_isWatcher 16 = .ok (.ireturn, 1) := dk_172 (dk_at dksX0_isWatcher_0 16 rfl rfl)
abbrev cX0_told : ByteArray := prog_1_method_15_code
def yX0_told : MethodName := ⟨RX0, "told", "(II)I"⟩
def dkwX0_told_2 : List UInt8 := [160, 0, 10, 45, 182, 0, 156, 167, 0, 13, 45, 42, 180, 0, 16, 16, 15, 182, 0, 159, 172]
abbrev dktX0_told_2 : List UInt8 := dkwX0_told_2 ++ []
def dkwX0_told_1 : List UInt8 := [185, 0, 130, 2, 0, 192, 0, 51, 78, 28, 154, 0, 10, 45, 180, 0, 134, 167, 0, 25, 28, 4]
abbrev dktX0_told_1 : List UInt8 := dkwX0_told_1 ++ dktX0_told_2
def dkwX0_told_0 : List UInt8 := [42, 27, 182, 0, 148, 153, 0, 12, 28, 3, 5, 184, 0, 3, 154, 0, 5, 2, 172, 42, 180, 0, 26, 27]
abbrev dktX0_told_0 : List UInt8 := dkwX0_told_0 ++ dktX0_told_1
theorem dksX0_told_0 : cX0_told.data.toList.drop 0 = dktX0_told_0 := by decide +kernel
theorem dksX0_told_1 : cX0_told.data.toList.drop 24 = dktX0_told_1 := dk_seg dksX0_told_0 24 rfl rfl
theorem dksX0_told_2 : cX0_told.data.toList.drop 46 = dktX0_told_2 := dk_seg dksX0_told_1 22 rfl rfl
theorem dX0_told_0 : decode cX0_told 0 = .ok (.aload_n 0, 1) := dk_42 (dk_at dksX0_told_0 0 rfl rfl)
theorem dX0_told_1 : decode cX0_told 1 = .ok (.iload_n 1, 1) := dk_27 (dk_at dksX0_told_0 1 rfl rfl)
theorem dX0_told_2 : decode cX0_told 2 = .ok (.invokevirtual 148, 3) := dk_182 0 148 (dk_at dksX0_told_0 2 rfl rfl)
theorem dX0_told_5 : decode cX0_told 5 = .ok (.ifCond .eq 12, 3) := dk_153 0 12 (dk_at dksX0_told_0 5 rfl rfl)
theorem dX0_told_8 : decode cX0_told 8 = .ok (.iload_n 2, 1) := dk_28 (dk_at dksX0_told_0 8 rfl rfl)
theorem dX0_told_9 : decode cX0_told 9 = .ok (.iconst 0, 1) := dk_3 (dk_at dksX0_told_0 9 rfl rfl)
theorem dX0_told_10 : decode cX0_told 10 = .ok (.iconst 2, 1) := dk_5 (dk_at dksX0_told_0 10 rfl rfl)
theorem dX0_told_11 : decode cX0_told 11 = .ok (.invokestatic 3, 3) := dk_184 0 3 (dk_at dksX0_told_0 11 rfl rfl)
theorem dX0_told_14 : decode cX0_told 14 = .ok (.ifCond .ne 5, 3) := dk_154 0 5 (dk_at dksX0_told_0 14 rfl rfl)
theorem dX0_told_17 : decode cX0_told 17 = .ok (.iconst (-1), 1) := dk_2 (dk_at dksX0_told_0 17 rfl rfl)
theorem dX0_told_18 : decode cX0_told 18 = .ok (.ireturn, 1) := dk_172 (dk_at dksX0_told_0 18 rfl rfl)
theorem dX0_told_19 : decode cX0_told 19 = .ok (.aload_n 0, 1) := dk_42 (dk_at dksX0_told_0 19 rfl rfl)
theorem dX0_told_20 : decode cX0_told 20 = .ok (.getfield 26, 3) := dk_180 0 26 (dk_at dksX0_told_0 20 rfl rfl)
theorem dX0_told_23 : decode cX0_told 23 = .ok (.iload_n 1, 1) := dk_27 (dk_at dksX0_told_0 23 rfl rfl)
theorem dX0_told_24 : decode cX0_told 24 = .ok (.invokeinterface 130 2, 5) := by decide +kernel
theorem dX0_told_29 : decode cX0_told 29 = .ok (.checkcast 51, 3) := dk_192 0 51 (dk_at dksX0_told_1 5 rfl rfl)
theorem dX0_told_32 : decode cX0_told 32 = .ok (.astore_n 3, 1) := dk_78 (dk_at dksX0_told_1 8 rfl rfl)
theorem dX0_told_33 : decode cX0_told 33 = .ok (.iload_n 2, 1) := dk_28 (dk_at dksX0_told_1 9 rfl rfl)
theorem dX0_told_34 : decode cX0_told 34 = .ok (.ifCond .ne 10, 3) := dk_154 0 10 (dk_at dksX0_told_1 10 rfl rfl)
theorem dX0_told_37 : decode cX0_told 37 = .ok (.aload_n 3, 1) := dk_45 (dk_at dksX0_told_1 13 rfl rfl)
theorem dX0_told_38 : decode cX0_told 38 = .ok (.getfield 134, 3) := dk_180 0 134 (dk_at dksX0_told_1 14 rfl rfl)
theorem dX0_told_41 : decode cX0_told 41 = .ok (.goto 25, 3) := dk_167 0 25 (dk_at dksX0_told_1 17 rfl rfl)
theorem dX0_told_44 : decode cX0_told 44 = .ok (.iload_n 2, 1) := dk_28 (dk_at dksX0_told_1 20 rfl rfl)
theorem dX0_told_45 : decode cX0_told 45 = .ok (.iconst 1, 1) := dk_4 (dk_at dksX0_told_1 21 rfl rfl)
theorem dX0_told_46 : decode cX0_told 46 = .ok (.if_icmp .ne 10, 3) := dk_160 0 10 (dk_at dksX0_told_2 0 rfl rfl)
theorem dX0_told_49 : decode cX0_told 49 = .ok (.aload_n 3, 1) := dk_45 (dk_at dksX0_told_2 3 rfl rfl)
theorem dX0_told_50 : decode cX0_told 50 = .ok (.invokevirtual 156, 3) := dk_182 0 156 (dk_at dksX0_told_2 4 rfl rfl)
theorem dX0_told_53 : decode cX0_told 53 = .ok (.goto 13, 3) := dk_167 0 13 (dk_at dksX0_told_2 7 rfl rfl)
theorem dX0_told_56 : decode cX0_told 56 = .ok (.aload_n 3, 1) := dk_45 (dk_at dksX0_told_2 10 rfl rfl)
theorem dX0_told_57 : decode cX0_told 57 = .ok (.aload_n 0, 1) := dk_42 (dk_at dksX0_told_2 11 rfl rfl)
theorem dX0_told_58 : decode cX0_told 58 = .ok (.getfield 16, 3) := dk_180 0 16 (dk_at dksX0_told_2 12 rfl rfl)
theorem dX0_told_61 : decode cX0_told 61 = .ok (.bipush 15, 2) := dk_16 15 (dk_at dksX0_told_2 15 rfl rfl)
theorem dX0_told_63 : decode cX0_told 63 = .ok (.invokevirtual 159, 3) := dk_182 0 159 (dk_at dksX0_told_2 17 rfl rfl)
theorem dX0_told_66 : decode cX0_told 66 = .ok (.ireturn, 1) := dk_172 (dk_at dksX0_told_2 20 rfl rfl)
abbrev cX0_leave : ByteArray := prog_1_method_16_code
def yX0_leave : MethodName := ⟨RX0, "leave", "(I)I"⟩
def dkwX0_leave_1 : List UInt8 := [180, 0, 26, 185, 0, 88, 1, 0, 172]
abbrev dktX0_leave_1 : List UInt8 := dkwX0_leave_1 ++ []
def dkwX0_leave_0 : List UInt8 := [42, 27, 182, 0, 148, 154, 0, 5, 2, 172, 42, 180, 0, 26, 27, 185, 0, 163, 2, 0, 87, 42]
abbrev dktX0_leave_0 : List UInt8 := dkwX0_leave_0 ++ dktX0_leave_1
theorem dksX0_leave_0 : cX0_leave.data.toList.drop 0 = dktX0_leave_0 := by decide +kernel
theorem dksX0_leave_1 : cX0_leave.data.toList.drop 22 = dktX0_leave_1 := dk_seg dksX0_leave_0 22 rfl rfl
theorem dX0_leave_0 : decode cX0_leave 0 = .ok (.aload_n 0, 1) := dk_42 (dk_at dksX0_leave_0 0 rfl rfl)
theorem dX0_leave_1 : decode cX0_leave 1 = .ok (.iload_n 1, 1) := dk_27 (dk_at dksX0_leave_0 1 rfl rfl)
theorem dX0_leave_2 : decode cX0_leave 2 = .ok (.invokevirtual 148, 3) := dk_182 0 148 (dk_at dksX0_leave_0 2 rfl rfl)
theorem dX0_leave_5 : decode cX0_leave 5 = .ok (.ifCond .ne 5, 3) := dk_154 0 5 (dk_at dksX0_leave_0 5 rfl rfl)
theorem dX0_leave_8 : decode cX0_leave 8 = .ok (.iconst (-1), 1) := dk_2 (dk_at dksX0_leave_0 8 rfl rfl)
theorem dX0_leave_9 : decode cX0_leave 9 = .ok (.ireturn, 1) := dk_172 (dk_at dksX0_leave_0 9 rfl rfl)
theorem dX0_leave_10 : decode cX0_leave 10 = .ok (.aload_n 0, 1) := dk_42 (dk_at dksX0_leave_0 10 rfl rfl)
theorem dX0_leave_11 : decode cX0_leave 11 = .ok (.getfield 26, 3) := dk_180 0 26 (dk_at dksX0_leave_0 11 rfl rfl)
theorem dX0_leave_14 : decode cX0_leave 14 = .ok (.iload_n 1, 1) := dk_27 (dk_at dksX0_leave_0 14 rfl rfl)
theorem dX0_leave_15 : decode cX0_leave 15 = .ok (.invokeinterface 163 2, 5) := by decide +kernel
theorem dX0_leave_20 : decode cX0_leave 20 = .ok (.pop, 1) := dk_87 (dk_at dksX0_leave_0 20 rfl rfl)
theorem dX0_leave_21 : decode cX0_leave 21 = .ok (.aload_n 0, 1) := dk_42 (dk_at dksX0_leave_0 21 rfl rfl)
theorem dX0_leave_22 : decode cX0_leave 22 = .ok (.getfield 26, 3) := dk_180 0 26 (dk_at dksX0_leave_1 0 rfl rfl)
theorem dX0_leave_25 : decode cX0_leave 25 = .ok (.invokeinterface 88 1, 5) := by decide +kernel
theorem dX0_leave_30 : decode cX0_leave 30 = .ok (.ireturn, 1) := dk_172 (dk_at dksX0_leave_1 8 rfl rfl)
abbrev cX0_count : ByteArray := prog_1_method_17_code
def yX0_count : MethodName := ⟨RX0, "count", "(I)I"⟩
def dkwX0_count_7 : List UInt8 := [180, 0, 169, 172, 2, 172]
abbrev dktX0_count_7 : List UInt8 := dkwX0_count_7 ++ []
def dkwX0_count_6 : List UInt8 := [42, 180, 0, 26, 185, 0, 88, 1, 0, 172, 28, 172, 29, 172, 21, 4, 172, 42, 180, 0, 166, 172, 42]
abbrev dktX0_count_6 : List UInt8 := dkwX0_count_6 ++ dktX0_count_7
def dkwX0_count_5 : List UInt8 := [170, 0, 0, 0, 0, 65, 0, 0, 0, 0, 0, 0, 0, 5, 0, 0, 0, 38, 0, 0, 0, 48, 0, 0, 0, 50, 0, 0, 0, 52, 0, 0, 0, 55, 0, 0, 0, 60]
abbrev dktX0_count_5 : List UInt8 := dkwX0_count_5 ++ dktX0_count_6
def dkwX0_count_4 : List UInt8 := [132, 5, 1, 167, 255, 172, 27]
abbrev dktX0_count_4 : List UInt8 := dkwX0_count_4 ++ dktX0_count_5
def dkwX0_count_3 : List UInt8 := [180, 0, 16, 180, 0, 101, 21, 5, 50, 180, 0, 120, 153, 0, 7, 4, 167, 0, 4, 3, 96, 54, 4]
abbrev dktX0_count_3 : List UInt8 := dkwX0_count_3 ++ dktX0_count_4
def dkwX0_count_2 : List UInt8 := [180, 0, 101, 21, 5, 50, 180, 0, 105, 158, 0, 7, 4, 167, 0, 4, 3, 96, 62, 21, 4, 42]
abbrev dktX0_count_2 : List UInt8 := dkwX0_count_2 ++ dktX0_count_3
def dkwX0_count_1 : List UInt8 := [180, 0, 101, 21, 5, 50, 180, 0, 111, 158, 0, 7, 4, 167, 0, 4, 3, 96, 61, 29, 42, 180, 0, 16]
abbrev dktX0_count_1 : List UInt8 := dkwX0_count_1 ++ dktX0_count_2
def dkwX0_count_0 : List UInt8 := [3, 61, 3, 62, 3, 54, 4, 3, 54, 5, 21, 5, 16, 16, 162, 0, 83, 28, 42, 180, 0, 16]
abbrev dktX0_count_0 : List UInt8 := dkwX0_count_0 ++ dktX0_count_1
theorem dksX0_count_0 : cX0_count.data.toList.drop 0 = dktX0_count_0 := by decide +kernel
theorem dksX0_count_1 : cX0_count.data.toList.drop 22 = dktX0_count_1 := dk_seg dksX0_count_0 22 rfl rfl
theorem dksX0_count_2 : cX0_count.data.toList.drop 46 = dktX0_count_2 := dk_seg dksX0_count_1 24 rfl rfl
theorem dksX0_count_3 : cX0_count.data.toList.drop 68 = dktX0_count_3 := dk_seg dksX0_count_2 22 rfl rfl
theorem dksX0_count_4 : cX0_count.data.toList.drop 91 = dktX0_count_4 := dk_seg dksX0_count_3 23 rfl rfl
theorem dksX0_count_5 : cX0_count.data.toList.drop 98 = dktX0_count_5 := dk_seg dksX0_count_4 7 rfl rfl
theorem dksX0_count_6 : cX0_count.data.toList.drop 136 = dktX0_count_6 := dk_seg dksX0_count_5 38 rfl rfl
theorem dksX0_count_7 : cX0_count.data.toList.drop 159 = dktX0_count_7 := dk_seg dksX0_count_6 23 rfl rfl
theorem dX0_count_0 : decode cX0_count 0 = .ok (.iconst 0, 1) := dk_3 (dk_at dksX0_count_0 0 rfl rfl)
theorem dX0_count_1 : decode cX0_count 1 = .ok (.istore_n 2, 1) := dk_61 (dk_at dksX0_count_0 1 rfl rfl)
theorem dX0_count_2 : decode cX0_count 2 = .ok (.iconst 0, 1) := dk_3 (dk_at dksX0_count_0 2 rfl rfl)
theorem dX0_count_3 : decode cX0_count 3 = .ok (.istore_n 3, 1) := dk_62 (dk_at dksX0_count_0 3 rfl rfl)
theorem dX0_count_4 : decode cX0_count 4 = .ok (.iconst 0, 1) := dk_3 (dk_at dksX0_count_0 4 rfl rfl)
theorem dX0_count_5 : decode cX0_count 5 = .ok (.istore 4, 2) := dk_54 4 (dk_at dksX0_count_0 5 rfl rfl)
theorem dX0_count_7 : decode cX0_count 7 = .ok (.iconst 0, 1) := dk_3 (dk_at dksX0_count_0 7 rfl rfl)
theorem dX0_count_8 : decode cX0_count 8 = .ok (.istore 5, 2) := dk_54 5 (dk_at dksX0_count_0 8 rfl rfl)
theorem dX0_count_10 : decode cX0_count 10 = .ok (.iload 5, 2) := dk_21 5 (dk_at dksX0_count_0 10 rfl rfl)
theorem dX0_count_12 : decode cX0_count 12 = .ok (.bipush 16, 2) := dk_16 16 (dk_at dksX0_count_0 12 rfl rfl)
theorem dX0_count_14 : decode cX0_count 14 = .ok (.if_icmp .ge 83, 3) := dk_162 0 83 (dk_at dksX0_count_0 14 rfl rfl)
theorem dX0_count_17 : decode cX0_count 17 = .ok (.iload_n 2, 1) := dk_28 (dk_at dksX0_count_0 17 rfl rfl)
theorem dX0_count_18 : decode cX0_count 18 = .ok (.aload_n 0, 1) := dk_42 (dk_at dksX0_count_0 18 rfl rfl)
theorem dX0_count_19 : decode cX0_count 19 = .ok (.getfield 16, 3) := dk_180 0 16 (dk_at dksX0_count_0 19 rfl rfl)
theorem dX0_count_22 : decode cX0_count 22 = .ok (.getfield 101, 3) := dk_180 0 101 (dk_at dksX0_count_1 0 rfl rfl)
theorem dX0_count_25 : decode cX0_count 25 = .ok (.iload 5, 2) := dk_21 5 (dk_at dksX0_count_1 3 rfl rfl)
theorem dX0_count_27 : decode cX0_count 27 = .ok (.aaload, 1) := dk_50 (dk_at dksX0_count_1 5 rfl rfl)
theorem dX0_count_28 : decode cX0_count 28 = .ok (.getfield 111, 3) := dk_180 0 111 (dk_at dksX0_count_1 6 rfl rfl)
theorem dX0_count_31 : decode cX0_count 31 = .ok (.ifCond .le 7, 3) := dk_158 0 7 (dk_at dksX0_count_1 9 rfl rfl)
theorem dX0_count_34 : decode cX0_count 34 = .ok (.iconst 1, 1) := dk_4 (dk_at dksX0_count_1 12 rfl rfl)
theorem dX0_count_35 : decode cX0_count 35 = .ok (.goto 4, 3) := dk_167 0 4 (dk_at dksX0_count_1 13 rfl rfl)
theorem dX0_count_38 : decode cX0_count 38 = .ok (.iconst 0, 1) := dk_3 (dk_at dksX0_count_1 16 rfl rfl)
theorem dX0_count_39 : decode cX0_count 39 = .ok (.iadd, 1) := dk_96 (dk_at dksX0_count_1 17 rfl rfl)
theorem dX0_count_40 : decode cX0_count 40 = .ok (.istore_n 2, 1) := dk_61 (dk_at dksX0_count_1 18 rfl rfl)
theorem dX0_count_41 : decode cX0_count 41 = .ok (.iload_n 3, 1) := dk_29 (dk_at dksX0_count_1 19 rfl rfl)
theorem dX0_count_42 : decode cX0_count 42 = .ok (.aload_n 0, 1) := dk_42 (dk_at dksX0_count_1 20 rfl rfl)
theorem dX0_count_43 : decode cX0_count 43 = .ok (.getfield 16, 3) := dk_180 0 16 (dk_at dksX0_count_1 21 rfl rfl)
theorem dX0_count_46 : decode cX0_count 46 = .ok (.getfield 101, 3) := dk_180 0 101 (dk_at dksX0_count_2 0 rfl rfl)
theorem dX0_count_49 : decode cX0_count 49 = .ok (.iload 5, 2) := dk_21 5 (dk_at dksX0_count_2 3 rfl rfl)
theorem dX0_count_51 : decode cX0_count 51 = .ok (.aaload, 1) := dk_50 (dk_at dksX0_count_2 5 rfl rfl)
theorem dX0_count_52 : decode cX0_count 52 = .ok (.getfield 105, 3) := dk_180 0 105 (dk_at dksX0_count_2 6 rfl rfl)
theorem dX0_count_55 : decode cX0_count 55 = .ok (.ifCond .le 7, 3) := dk_158 0 7 (dk_at dksX0_count_2 9 rfl rfl)
theorem dX0_count_58 : decode cX0_count 58 = .ok (.iconst 1, 1) := dk_4 (dk_at dksX0_count_2 12 rfl rfl)
theorem dX0_count_59 : decode cX0_count 59 = .ok (.goto 4, 3) := dk_167 0 4 (dk_at dksX0_count_2 13 rfl rfl)
theorem dX0_count_62 : decode cX0_count 62 = .ok (.iconst 0, 1) := dk_3 (dk_at dksX0_count_2 16 rfl rfl)
theorem dX0_count_63 : decode cX0_count 63 = .ok (.iadd, 1) := dk_96 (dk_at dksX0_count_2 17 rfl rfl)
theorem dX0_count_64 : decode cX0_count 64 = .ok (.istore_n 3, 1) := dk_62 (dk_at dksX0_count_2 18 rfl rfl)
theorem dX0_count_65 : decode cX0_count 65 = .ok (.iload 4, 2) := dk_21 4 (dk_at dksX0_count_2 19 rfl rfl)
theorem dX0_count_67 : decode cX0_count 67 = .ok (.aload_n 0, 1) := dk_42 (dk_at dksX0_count_2 21 rfl rfl)
theorem dX0_count_68 : decode cX0_count 68 = .ok (.getfield 16, 3) := dk_180 0 16 (dk_at dksX0_count_3 0 rfl rfl)
theorem dX0_count_71 : decode cX0_count 71 = .ok (.getfield 101, 3) := dk_180 0 101 (dk_at dksX0_count_3 3 rfl rfl)
theorem dX0_count_74 : decode cX0_count 74 = .ok (.iload 5, 2) := dk_21 5 (dk_at dksX0_count_3 6 rfl rfl)
theorem dX0_count_76 : decode cX0_count 76 = .ok (.aaload, 1) := dk_50 (dk_at dksX0_count_3 8 rfl rfl)
theorem dX0_count_77 : decode cX0_count 77 = .ok (.getfield 120, 3) := dk_180 0 120 (dk_at dksX0_count_3 9 rfl rfl)
theorem dX0_count_80 : decode cX0_count 80 = .ok (.ifCond .eq 7, 3) := dk_153 0 7 (dk_at dksX0_count_3 12 rfl rfl)
theorem dX0_count_83 : decode cX0_count 83 = .ok (.iconst 1, 1) := dk_4 (dk_at dksX0_count_3 15 rfl rfl)
theorem dX0_count_84 : decode cX0_count 84 = .ok (.goto 4, 3) := dk_167 0 4 (dk_at dksX0_count_3 16 rfl rfl)
theorem dX0_count_87 : decode cX0_count 87 = .ok (.iconst 0, 1) := dk_3 (dk_at dksX0_count_3 19 rfl rfl)
theorem dX0_count_88 : decode cX0_count 88 = .ok (.iadd, 1) := dk_96 (dk_at dksX0_count_3 20 rfl rfl)
theorem dX0_count_89 : decode cX0_count 89 = .ok (.istore 4, 2) := dk_54 4 (dk_at dksX0_count_3 21 rfl rfl)
theorem dX0_count_91 : decode cX0_count 91 = .ok (.iinc 5 1, 3) := dk_132 5 1 (dk_at dksX0_count_4 0 rfl rfl)
theorem dX0_count_94 : decode cX0_count 94 = .ok (.goto (-84), 3) := dk_167 255 172 (dk_at dksX0_count_4 3 rfl rfl)
theorem dX0_count_97 : decode cX0_count 97 = .ok (.iload_n 1, 1) := dk_27 (dk_at dksX0_count_4 6 rfl rfl)
theorem dX0_count_98 : decode cX0_count 98 = .ok (.tableswitch 65 0 5 #[38, 48, 50, 52, 55, 60], 38) := by decide +kernel
theorem dX0_count_136 : decode cX0_count 136 = .ok (.aload_n 0, 1) := dk_42 (dk_at dksX0_count_6 0 rfl rfl)
theorem dX0_count_137 : decode cX0_count 137 = .ok (.getfield 26, 3) := dk_180 0 26 (dk_at dksX0_count_6 1 rfl rfl)
theorem dX0_count_140 : decode cX0_count 140 = .ok (.invokeinterface 88 1, 5) := by decide +kernel
theorem dX0_count_145 : decode cX0_count 145 = .ok (.ireturn, 1) := dk_172 (dk_at dksX0_count_6 9 rfl rfl)
theorem dX0_count_146 : decode cX0_count 146 = .ok (.iload_n 2, 1) := dk_28 (dk_at dksX0_count_6 10 rfl rfl)
theorem dX0_count_147 : decode cX0_count 147 = .ok (.ireturn, 1) := dk_172 (dk_at dksX0_count_6 11 rfl rfl)
theorem dX0_count_148 : decode cX0_count 148 = .ok (.iload_n 3, 1) := dk_29 (dk_at dksX0_count_6 12 rfl rfl)
theorem dX0_count_149 : decode cX0_count 149 = .ok (.ireturn, 1) := dk_172 (dk_at dksX0_count_6 13 rfl rfl)
theorem dX0_count_150 : decode cX0_count 150 = .ok (.iload 4, 2) := dk_21 4 (dk_at dksX0_count_6 14 rfl rfl)
theorem dX0_count_152 : decode cX0_count 152 = .ok (.ireturn, 1) := dk_172 (dk_at dksX0_count_6 16 rfl rfl)
theorem dX0_count_153 : decode cX0_count 153 = .ok (.aload_n 0, 1) := dk_42 (dk_at dksX0_count_6 17 rfl rfl)
theorem dX0_count_154 : decode cX0_count 154 = .ok (.getfield 166, 3) := dk_180 0 166 (dk_at dksX0_count_6 18 rfl rfl)
theorem dX0_count_157 : decode cX0_count 157 = .ok (.ireturn, 1) := dk_172 (dk_at dksX0_count_6 21 rfl rfl)
theorem dX0_count_158 : decode cX0_count 158 = .ok (.aload_n 0, 1) := dk_42 (dk_at dksX0_count_6 22 rfl rfl)
theorem dX0_count_159 : decode cX0_count 159 = .ok (.getfield 169, 3) := dk_180 0 169 (dk_at dksX0_count_7 0 rfl rfl)
theorem dX0_count_162 : decode cX0_count 162 = .ok (.ireturn, 1) := dk_172 (dk_at dksX0_count_7 3 rfl rfl)
theorem dX0_count_163 : decode cX0_count 163 = .ok (.iconst (-1), 1) := dk_2 (dk_at dksX0_count_7 4 rfl rfl)
theorem dX0_count_164 : decode cX0_count 164 = .ok (.ireturn, 1) := dk_172 (dk_at dksX0_count_7 5 rfl rfl)
abbrev cX0_type : ByteArray := prog_1_method_18_code
def yX0_type : MethodName := ⟨RX0, "type", "(JI)I"⟩
def dkwX0_type_4 : List UInt8 := [84, 42, 89, 180, 0, 174, 4, 96, 181, 0, 174, 132, 4, 255, 167, 255, 220, 42, 180, 0, 174, 172]
abbrev dktX0_type_4 : List UInt8 := dkwX0_type_4 ++ []
def dkwX0_type_3 : List UInt8 := [54, 4, 21, 4, 155, 0, 37, 42, 180, 0, 37, 42, 180, 0, 174, 31, 16, 8, 21, 4, 104, 123, 136, 145]
abbrev dktX0_type_3 : List UInt8 := dkwX0_type_3 ++ dktX0_type_4
def dkwX0_type_2 : List UInt8 := [132, 4, 255, 167, 255, 224, 42, 180, 0, 174, 29, 96, 16, 100, 164, 0, 6, 16, 253, 172, 29, 4, 100]
abbrev dktX0_type_2 : List UInt8 := dkwX0_type_2 ++ dktX0_type_3
def dkwX0_type_1 : List UInt8 := [16, 8, 21, 4, 104, 123, 20, 0, 172, 127, 136, 16, 32, 16, 126, 184, 0, 3, 154, 0, 5, 2, 172]
abbrev dktX0_type_1 : List UInt8 := dkwX0_type_1 ++ dktX0_type_2
def dkwX0_type_0 : List UInt8 := [29, 4, 16, 8, 184, 0, 3, 154, 0, 5, 2, 172, 29, 4, 100, 54, 4, 21, 4, 155, 0, 33, 31]
abbrev dktX0_type_0 : List UInt8 := dkwX0_type_0 ++ dktX0_type_1
theorem dksX0_type_0 : cX0_type.data.toList.drop 0 = dktX0_type_0 := by decide +kernel
theorem dksX0_type_1 : cX0_type.data.toList.drop 23 = dktX0_type_1 := dk_seg dksX0_type_0 23 rfl rfl
theorem dksX0_type_2 : cX0_type.data.toList.drop 46 = dktX0_type_2 := dk_seg dksX0_type_1 23 rfl rfl
theorem dksX0_type_3 : cX0_type.data.toList.drop 69 = dktX0_type_3 := dk_seg dksX0_type_2 23 rfl rfl
theorem dksX0_type_4 : cX0_type.data.toList.drop 93 = dktX0_type_4 := dk_seg dksX0_type_3 24 rfl rfl
theorem dX0_type_0 : decode cX0_type 0 = .ok (.iload_n 3, 1) := dk_29 (dk_at dksX0_type_0 0 rfl rfl)
theorem dX0_type_1 : decode cX0_type 1 = .ok (.iconst 1, 1) := dk_4 (dk_at dksX0_type_0 1 rfl rfl)
theorem dX0_type_2 : decode cX0_type 2 = .ok (.bipush 8, 2) := dk_16 8 (dk_at dksX0_type_0 2 rfl rfl)
theorem dX0_type_4 : decode cX0_type 4 = .ok (.invokestatic 3, 3) := dk_184 0 3 (dk_at dksX0_type_0 4 rfl rfl)
theorem dX0_type_7 : decode cX0_type 7 = .ok (.ifCond .ne 5, 3) := dk_154 0 5 (dk_at dksX0_type_0 7 rfl rfl)
theorem dX0_type_10 : decode cX0_type 10 = .ok (.iconst (-1), 1) := dk_2 (dk_at dksX0_type_0 10 rfl rfl)
theorem dX0_type_11 : decode cX0_type 11 = .ok (.ireturn, 1) := dk_172 (dk_at dksX0_type_0 11 rfl rfl)
theorem dX0_type_12 : decode cX0_type 12 = .ok (.iload_n 3, 1) := dk_29 (dk_at dksX0_type_0 12 rfl rfl)
theorem dX0_type_13 : decode cX0_type 13 = .ok (.iconst 1, 1) := dk_4 (dk_at dksX0_type_0 13 rfl rfl)
theorem dX0_type_14 : decode cX0_type 14 = .ok (.isub, 1) := dk_100 (dk_at dksX0_type_0 14 rfl rfl)
theorem dX0_type_15 : decode cX0_type 15 = .ok (.istore 4, 2) := dk_54 4 (dk_at dksX0_type_0 15 rfl rfl)
theorem dX0_type_17 : decode cX0_type 17 = .ok (.iload 4, 2) := dk_21 4 (dk_at dksX0_type_0 17 rfl rfl)
theorem dX0_type_19 : decode cX0_type 19 = .ok (.ifCond .lt 33, 3) := dk_155 0 33 (dk_at dksX0_type_0 19 rfl rfl)
theorem dX0_type_22 : decode cX0_type 22 = .ok (.lload_n 1, 1) := dk_31 (dk_at dksX0_type_0 22 rfl rfl)
theorem dX0_type_23 : decode cX0_type 23 = .ok (.bipush 8, 2) := dk_16 8 (dk_at dksX0_type_1 0 rfl rfl)
theorem dX0_type_25 : decode cX0_type 25 = .ok (.iload 4, 2) := dk_21 4 (dk_at dksX0_type_1 2 rfl rfl)
theorem dX0_type_27 : decode cX0_type 27 = .ok (.imul, 1) := dk_104 (dk_at dksX0_type_1 4 rfl rfl)
theorem dX0_type_28 : decode cX0_type 28 = .ok (.lshr, 1) := dk_123 (dk_at dksX0_type_1 5 rfl rfl)
theorem dX0_type_29 : decode cX0_type 29 = .ok (.ldc2_w 172, 3) := dk_20 0 172 (dk_at dksX0_type_1 6 rfl rfl)
theorem dX0_type_32 : decode cX0_type 32 = .ok (.land, 1) := dk_127 (dk_at dksX0_type_1 9 rfl rfl)
theorem dX0_type_33 : decode cX0_type 33 = .ok (.l2i, 1) := dk_136 (dk_at dksX0_type_1 10 rfl rfl)
theorem dX0_type_34 : decode cX0_type 34 = .ok (.bipush 32, 2) := dk_16 32 (dk_at dksX0_type_1 11 rfl rfl)
theorem dX0_type_36 : decode cX0_type 36 = .ok (.bipush 126, 2) := dk_16 126 (dk_at dksX0_type_1 13 rfl rfl)
theorem dX0_type_38 : decode cX0_type 38 = .ok (.invokestatic 3, 3) := dk_184 0 3 (dk_at dksX0_type_1 15 rfl rfl)
theorem dX0_type_41 : decode cX0_type 41 = .ok (.ifCond .ne 5, 3) := dk_154 0 5 (dk_at dksX0_type_1 18 rfl rfl)
theorem dX0_type_44 : decode cX0_type 44 = .ok (.iconst (-1), 1) := dk_2 (dk_at dksX0_type_1 21 rfl rfl)
theorem dX0_type_45 : decode cX0_type 45 = .ok (.ireturn, 1) := dk_172 (dk_at dksX0_type_1 22 rfl rfl)
theorem dX0_type_46 : decode cX0_type 46 = .ok (.iinc 4 (-1), 3) := dk_132 4 255 (dk_at dksX0_type_2 0 rfl rfl)
theorem dX0_type_49 : decode cX0_type 49 = .ok (.goto (-32), 3) := dk_167 255 224 (dk_at dksX0_type_2 3 rfl rfl)
theorem dX0_type_52 : decode cX0_type 52 = .ok (.aload_n 0, 1) := dk_42 (dk_at dksX0_type_2 6 rfl rfl)
theorem dX0_type_53 : decode cX0_type 53 = .ok (.getfield 174, 3) := dk_180 0 174 (dk_at dksX0_type_2 7 rfl rfl)
theorem dX0_type_56 : decode cX0_type 56 = .ok (.iload_n 3, 1) := dk_29 (dk_at dksX0_type_2 10 rfl rfl)
theorem dX0_type_57 : decode cX0_type 57 = .ok (.iadd, 1) := dk_96 (dk_at dksX0_type_2 11 rfl rfl)
theorem dX0_type_58 : decode cX0_type 58 = .ok (.bipush 100, 2) := dk_16 100 (dk_at dksX0_type_2 12 rfl rfl)
theorem dX0_type_60 : decode cX0_type 60 = .ok (.if_icmp .le 6, 3) := dk_164 0 6 (dk_at dksX0_type_2 14 rfl rfl)
theorem dX0_type_63 : decode cX0_type 63 = .ok (.bipush (-3), 2) := dk_16 253 (dk_at dksX0_type_2 17 rfl rfl)
theorem dX0_type_65 : decode cX0_type 65 = .ok (.ireturn, 1) := dk_172 (dk_at dksX0_type_2 19 rfl rfl)
theorem dX0_type_66 : decode cX0_type 66 = .ok (.iload_n 3, 1) := dk_29 (dk_at dksX0_type_2 20 rfl rfl)
theorem dX0_type_67 : decode cX0_type 67 = .ok (.iconst 1, 1) := dk_4 (dk_at dksX0_type_2 21 rfl rfl)
theorem dX0_type_68 : decode cX0_type 68 = .ok (.isub, 1) := dk_100 (dk_at dksX0_type_2 22 rfl rfl)
theorem dX0_type_69 : decode cX0_type 69 = .ok (.istore 4, 2) := dk_54 4 (dk_at dksX0_type_3 0 rfl rfl)
theorem dX0_type_71 : decode cX0_type 71 = .ok (.iload 4, 2) := dk_21 4 (dk_at dksX0_type_3 2 rfl rfl)
theorem dX0_type_73 : decode cX0_type 73 = .ok (.ifCond .lt 37, 3) := dk_155 0 37 (dk_at dksX0_type_3 4 rfl rfl)
theorem dX0_type_76 : decode cX0_type 76 = .ok (.aload_n 0, 1) := dk_42 (dk_at dksX0_type_3 7 rfl rfl)
theorem dX0_type_77 : decode cX0_type 77 = .ok (.getfield 37, 3) := dk_180 0 37 (dk_at dksX0_type_3 8 rfl rfl)
theorem dX0_type_80 : decode cX0_type 80 = .ok (.aload_n 0, 1) := dk_42 (dk_at dksX0_type_3 11 rfl rfl)
theorem dX0_type_81 : decode cX0_type 81 = .ok (.getfield 174, 3) := dk_180 0 174 (dk_at dksX0_type_3 12 rfl rfl)
theorem dX0_type_84 : decode cX0_type 84 = .ok (.lload_n 1, 1) := dk_31 (dk_at dksX0_type_3 15 rfl rfl)
theorem dX0_type_85 : decode cX0_type 85 = .ok (.bipush 8, 2) := dk_16 8 (dk_at dksX0_type_3 16 rfl rfl)
theorem dX0_type_87 : decode cX0_type 87 = .ok (.iload 4, 2) := dk_21 4 (dk_at dksX0_type_3 18 rfl rfl)
theorem dX0_type_89 : decode cX0_type 89 = .ok (.imul, 1) := dk_104 (dk_at dksX0_type_3 20 rfl rfl)
theorem dX0_type_90 : decode cX0_type 90 = .ok (.lshr, 1) := dk_123 (dk_at dksX0_type_3 21 rfl rfl)
theorem dX0_type_91 : decode cX0_type 91 = .ok (.l2i, 1) := dk_136 (dk_at dksX0_type_3 22 rfl rfl)
theorem dX0_type_92 : decode cX0_type 92 = .ok (.i2b, 1) := dk_145 (dk_at dksX0_type_3 23 rfl rfl)
theorem dX0_type_93 : decode cX0_type 93 = .ok (.bastore, 1) := dk_84 (dk_at dksX0_type_4 0 rfl rfl)
theorem dX0_type_94 : decode cX0_type 94 = .ok (.aload_n 0, 1) := dk_42 (dk_at dksX0_type_4 1 rfl rfl)
theorem dX0_type_95 : decode cX0_type 95 = .ok (.dup, 1) := dk_89 (dk_at dksX0_type_4 2 rfl rfl)
theorem dX0_type_96 : decode cX0_type 96 = .ok (.getfield 174, 3) := dk_180 0 174 (dk_at dksX0_type_4 3 rfl rfl)
theorem dX0_type_99 : decode cX0_type 99 = .ok (.iconst 1, 1) := dk_4 (dk_at dksX0_type_4 6 rfl rfl)
theorem dX0_type_100 : decode cX0_type 100 = .ok (.iadd, 1) := dk_96 (dk_at dksX0_type_4 7 rfl rfl)
theorem dX0_type_101 : decode cX0_type 101 = .ok (.putfield 174, 3) := dk_181 0 174 (dk_at dksX0_type_4 8 rfl rfl)
theorem dX0_type_104 : decode cX0_type 104 = .ok (.iinc 4 (-1), 3) := dk_132 4 255 (dk_at dksX0_type_4 11 rfl rfl)
theorem dX0_type_107 : decode cX0_type 107 = .ok (.goto (-36), 3) := dk_167 255 220 (dk_at dksX0_type_4 14 rfl rfl)
theorem dX0_type_110 : decode cX0_type 110 = .ok (.aload_n 0, 1) := dk_42 (dk_at dksX0_type_4 17 rfl rfl)
theorem dX0_type_111 : decode cX0_type 111 = .ok (.getfield 174, 3) := dk_180 0 174 (dk_at dksX0_type_4 18 rfl rfl)
theorem dX0_type_114 : decode cX0_type 114 = .ok (.ireturn, 1) := dk_172 (dk_at dksX0_type_4 21 rfl rfl)
abbrev cX0_routine : ByteArray := prog_1_method_27_code
def yX0_routine : MethodName := ⟨RX0, "routine", "()I"⟩
def dkwX0_routine_2 : List UInt8 := [182, 0, 213, 27, 172]
abbrev dktX0_routine_2 : List UInt8 := dkwX0_routine_2 ++ []
def dkwX0_routine_1 : List UInt8 := [181, 0, 174, 16, 236, 44, 180, 0, 180, 100, 172, 42, 3, 181, 0, 174, 42, 180, 0, 16, 42, 180, 0, 20]
abbrev dktX0_routine_1 : List UInt8 := dkwX0_routine_1 ++ dktX0_routine_2
def dkwX0_routine_0 : List UInt8 := [42, 180, 0, 20, 42, 180, 0, 16, 182, 0, 213, 42, 182, 0, 217, 60, 167, 0, 17, 77, 42, 3]
abbrev dktX0_routine_0 : List UInt8 := dkwX0_routine_0 ++ dktX0_routine_1
theorem dksX0_routine_0 : cX0_routine.data.toList.drop 0 = dktX0_routine_0 := by decide +kernel
theorem dksX0_routine_1 : cX0_routine.data.toList.drop 22 = dktX0_routine_1 := dk_seg dksX0_routine_0 22 rfl rfl
theorem dksX0_routine_2 : cX0_routine.data.toList.drop 46 = dktX0_routine_2 := dk_seg dksX0_routine_1 24 rfl rfl
theorem dX0_routine_0 : decode cX0_routine 0 = .ok (.aload_n 0, 1) := dk_42 (dk_at dksX0_routine_0 0 rfl rfl)
theorem dX0_routine_1 : decode cX0_routine 1 = .ok (.getfield 20, 3) := dk_180 0 20 (dk_at dksX0_routine_0 1 rfl rfl)
theorem dX0_routine_4 : decode cX0_routine 4 = .ok (.aload_n 0, 1) := dk_42 (dk_at dksX0_routine_0 4 rfl rfl)
theorem dX0_routine_5 : decode cX0_routine 5 = .ok (.getfield 16, 3) := dk_180 0 16 (dk_at dksX0_routine_0 5 rfl rfl)
theorem dX0_routine_8 : decode cX0_routine 8 = .ok (.invokevirtual 213, 3) := dk_182 0 213 (dk_at dksX0_routine_0 8 rfl rfl)
theorem dX0_routine_11 : decode cX0_routine 11 = .ok (.aload_n 0, 1) := dk_42 (dk_at dksX0_routine_0 11 rfl rfl)
theorem dX0_routine_12 : decode cX0_routine 12 = .ok (.invokevirtual 217, 3) := dk_182 0 217 (dk_at dksX0_routine_0 12 rfl rfl)
theorem dX0_routine_15 : decode cX0_routine 15 = .ok (.istore_n 1, 1) := dk_60 (dk_at dksX0_routine_0 15 rfl rfl)
theorem dX0_routine_16 : decode cX0_routine 16 = .ok (.goto 17, 3) := dk_167 0 17 (dk_at dksX0_routine_0 16 rfl rfl)
theorem dX0_routine_19 : decode cX0_routine 19 = .ok (.astore_n 2, 1) := dk_77 (dk_at dksX0_routine_0 19 rfl rfl)
theorem dX0_routine_20 : decode cX0_routine 20 = .ok (.aload_n 0, 1) := dk_42 (dk_at dksX0_routine_0 20 rfl rfl)
theorem dX0_routine_21 : decode cX0_routine 21 = .ok (.iconst 0, 1) := dk_3 (dk_at dksX0_routine_0 21 rfl rfl)
theorem dX0_routine_22 : decode cX0_routine 22 = .ok (.putfield 174, 3) := dk_181 0 174 (dk_at dksX0_routine_1 0 rfl rfl)
theorem dX0_routine_25 : decode cX0_routine 25 = .ok (.bipush (-20), 2) := dk_16 236 (dk_at dksX0_routine_1 3 rfl rfl)
theorem dX0_routine_27 : decode cX0_routine 27 = .ok (.aload_n 2, 1) := dk_44 (dk_at dksX0_routine_1 5 rfl rfl)
theorem dX0_routine_28 : decode cX0_routine 28 = .ok (.getfield 180, 3) := dk_180 0 180 (dk_at dksX0_routine_1 6 rfl rfl)
theorem dX0_routine_31 : decode cX0_routine 31 = .ok (.isub, 1) := dk_100 (dk_at dksX0_routine_1 9 rfl rfl)
theorem dX0_routine_32 : decode cX0_routine 32 = .ok (.ireturn, 1) := dk_172 (dk_at dksX0_routine_1 10 rfl rfl)
theorem dX0_routine_33 : decode cX0_routine 33 = .ok (.aload_n 0, 1) := dk_42 (dk_at dksX0_routine_1 11 rfl rfl)
theorem dX0_routine_34 : decode cX0_routine 34 = .ok (.iconst 0, 1) := dk_3 (dk_at dksX0_routine_1 12 rfl rfl)
theorem dX0_routine_35 : decode cX0_routine 35 = .ok (.putfield 174, 3) := dk_181 0 174 (dk_at dksX0_routine_1 13 rfl rfl)
theorem dX0_routine_38 : decode cX0_routine 38 = .ok (.aload_n 0, 1) := dk_42 (dk_at dksX0_routine_1 16 rfl rfl)
theorem dX0_routine_39 : decode cX0_routine 39 = .ok (.getfield 16, 3) := dk_180 0 16 (dk_at dksX0_routine_1 17 rfl rfl)
theorem dX0_routine_42 : decode cX0_routine 42 = .ok (.aload_n 0, 1) := dk_42 (dk_at dksX0_routine_1 20 rfl rfl)
theorem dX0_routine_43 : decode cX0_routine 43 = .ok (.getfield 20, 3) := dk_180 0 20 (dk_at dksX0_routine_1 21 rfl rfl)
theorem dX0_routine_46 : decode cX0_routine 46 = .ok (.invokevirtual 213, 3) := dk_182 0 213 (dk_at dksX0_routine_2 0 rfl rfl)
theorem dX0_routine_49 : decode cX0_routine 49 = .ok (.iload_n 1, 1) := dk_27 (dk_at dksX0_routine_2 3 rfl rfl)
theorem dX0_routine_50 : decode cX0_routine 50 = .ok (.ireturn, 1) := dk_172 (dk_at dksX0_routine_2 4 rfl rfl)
abbrev cX0_readRoutine : ByteArray := prog_1_method_26_code
def yX0_readRoutine : MethodName := ⟨RX0, "readRoutine", "()I"⟩
def dkwX0_readRoutine_3 : List UInt8 := [167, 255, 194, 42, 182, 0, 183, 155, 0, 8, 42, 182, 0, 192, 191, 27, 172]
abbrev dktX0_readRoutine_3 : List UInt8 := dkwX0_readRoutine_3 ++ []
def dkwX0_readRoutine_2 : List UInt8 := [132, 1, 1, 27, 16, 8, 162, 0, 16, 42, 16, 59, 182, 0, 199, 153, 0, 7, 4, 167, 0, 4, 3, 61]
abbrev dktX0_readRoutine_2 : List UInt8 := dkwX0_readRoutine_2 ++ dktX0_readRoutine_3
def dkwX0_readRoutine_1 : List UInt8 := [182, 0, 199, 154, 0, 8, 42, 182, 0, 192, 191, 42, 42, 180, 0, 20, 180, 0, 101, 29, 50, 182, 0, 209]
abbrev dktX0_readRoutine_1 : List UInt8 := dkwX0_readRoutine_1 ++ dktX0_readRoutine_2
def dkwX0_readRoutine_0 : List UInt8 := [3, 60, 42, 3, 181, 0, 177, 4, 61, 28, 153, 0, 64, 42, 16, 15, 182, 0, 205, 62, 42, 16, 58]
abbrev dktX0_readRoutine_0 : List UInt8 := dkwX0_readRoutine_0 ++ dktX0_readRoutine_1
theorem dksX0_readRoutine_0 : cX0_readRoutine.data.toList.drop 0 = dktX0_readRoutine_0 := by decide +kernel
theorem dksX0_readRoutine_1 : cX0_readRoutine.data.toList.drop 23 = dktX0_readRoutine_1 := dk_seg dksX0_readRoutine_0 23 rfl rfl
theorem dksX0_readRoutine_2 : cX0_readRoutine.data.toList.drop 47 = dktX0_readRoutine_2 := dk_seg dksX0_readRoutine_1 24 rfl rfl
theorem dksX0_readRoutine_3 : cX0_readRoutine.data.toList.drop 71 = dktX0_readRoutine_3 := dk_seg dksX0_readRoutine_2 24 rfl rfl
theorem dX0_readRoutine_0 : decode cX0_readRoutine 0 = .ok (.iconst 0, 1) := dk_3 (dk_at dksX0_readRoutine_0 0 rfl rfl)
theorem dX0_readRoutine_1 : decode cX0_readRoutine 1 = .ok (.istore_n 1, 1) := dk_60 (dk_at dksX0_readRoutine_0 1 rfl rfl)
theorem dX0_readRoutine_2 : decode cX0_readRoutine 2 = .ok (.aload_n 0, 1) := dk_42 (dk_at dksX0_readRoutine_0 2 rfl rfl)
theorem dX0_readRoutine_3 : decode cX0_readRoutine 3 = .ok (.iconst 0, 1) := dk_3 (dk_at dksX0_readRoutine_0 3 rfl rfl)
theorem dX0_readRoutine_4 : decode cX0_readRoutine 4 = .ok (.putfield 177, 3) := dk_181 0 177 (dk_at dksX0_readRoutine_0 4 rfl rfl)
theorem dX0_readRoutine_7 : decode cX0_readRoutine 7 = .ok (.iconst 1, 1) := dk_4 (dk_at dksX0_readRoutine_0 7 rfl rfl)
theorem dX0_readRoutine_8 : decode cX0_readRoutine 8 = .ok (.istore_n 2, 1) := dk_61 (dk_at dksX0_readRoutine_0 8 rfl rfl)
theorem dX0_readRoutine_9 : decode cX0_readRoutine 9 = .ok (.iload_n 2, 1) := dk_28 (dk_at dksX0_readRoutine_0 9 rfl rfl)
theorem dX0_readRoutine_10 : decode cX0_readRoutine 10 = .ok (.ifCond .eq 64, 3) := dk_153 0 64 (dk_at dksX0_readRoutine_0 10 rfl rfl)
theorem dX0_readRoutine_13 : decode cX0_readRoutine 13 = .ok (.aload_n 0, 1) := dk_42 (dk_at dksX0_readRoutine_0 13 rfl rfl)
theorem dX0_readRoutine_14 : decode cX0_readRoutine 14 = .ok (.bipush 15, 2) := dk_16 15 (dk_at dksX0_readRoutine_0 14 rfl rfl)
theorem dX0_readRoutine_16 : decode cX0_readRoutine 16 = .ok (.invokevirtual 205, 3) := dk_182 0 205 (dk_at dksX0_readRoutine_0 16 rfl rfl)
theorem dX0_readRoutine_19 : decode cX0_readRoutine 19 = .ok (.istore_n 3, 1) := dk_62 (dk_at dksX0_readRoutine_0 19 rfl rfl)
theorem dX0_readRoutine_20 : decode cX0_readRoutine 20 = .ok (.aload_n 0, 1) := dk_42 (dk_at dksX0_readRoutine_0 20 rfl rfl)
theorem dX0_readRoutine_21 : decode cX0_readRoutine 21 = .ok (.bipush 58, 2) := dk_16 58 (dk_at dksX0_readRoutine_0 21 rfl rfl)
theorem dX0_readRoutine_23 : decode cX0_readRoutine 23 = .ok (.invokevirtual 199, 3) := dk_182 0 199 (dk_at dksX0_readRoutine_1 0 rfl rfl)
theorem dX0_readRoutine_26 : decode cX0_readRoutine 26 = .ok (.ifCond .ne 8, 3) := dk_154 0 8 (dk_at dksX0_readRoutine_1 3 rfl rfl)
theorem dX0_readRoutine_29 : decode cX0_readRoutine 29 = .ok (.aload_n 0, 1) := dk_42 (dk_at dksX0_readRoutine_1 6 rfl rfl)
theorem dX0_readRoutine_30 : decode cX0_readRoutine 30 = .ok (.invokevirtual 192, 3) := dk_182 0 192 (dk_at dksX0_readRoutine_1 7 rfl rfl)
theorem dX0_readRoutine_33 : decode cX0_readRoutine 33 = .ok (.athrow, 1) := dk_191 (dk_at dksX0_readRoutine_1 10 rfl rfl)
theorem dX0_readRoutine_34 : decode cX0_readRoutine 34 = .ok (.aload_n 0, 1) := dk_42 (dk_at dksX0_readRoutine_1 11 rfl rfl)
theorem dX0_readRoutine_35 : decode cX0_readRoutine 35 = .ok (.aload_n 0, 1) := dk_42 (dk_at dksX0_readRoutine_1 12 rfl rfl)
theorem dX0_readRoutine_36 : decode cX0_readRoutine 36 = .ok (.getfield 20, 3) := dk_180 0 20 (dk_at dksX0_readRoutine_1 13 rfl rfl)
theorem dX0_readRoutine_39 : decode cX0_readRoutine 39 = .ok (.getfield 101, 3) := dk_180 0 101 (dk_at dksX0_readRoutine_1 16 rfl rfl)
theorem dX0_readRoutine_42 : decode cX0_readRoutine 42 = .ok (.iload_n 3, 1) := dk_29 (dk_at dksX0_readRoutine_1 19 rfl rfl)
theorem dX0_readRoutine_43 : decode cX0_readRoutine 43 = .ok (.aaload, 1) := dk_50 (dk_at dksX0_readRoutine_1 20 rfl rfl)
theorem dX0_readRoutine_44 : decode cX0_readRoutine 44 = .ok (.invokevirtual 209, 3) := dk_182 0 209 (dk_at dksX0_readRoutine_1 21 rfl rfl)
theorem dX0_readRoutine_47 : decode cX0_readRoutine 47 = .ok (.iinc 1 1, 3) := dk_132 1 1 (dk_at dksX0_readRoutine_2 0 rfl rfl)
theorem dX0_readRoutine_50 : decode cX0_readRoutine 50 = .ok (.iload_n 1, 1) := dk_27 (dk_at dksX0_readRoutine_2 3 rfl rfl)
theorem dX0_readRoutine_51 : decode cX0_readRoutine 51 = .ok (.bipush 8, 2) := dk_16 8 (dk_at dksX0_readRoutine_2 4 rfl rfl)
theorem dX0_readRoutine_53 : decode cX0_readRoutine 53 = .ok (.if_icmp .ge 16, 3) := dk_162 0 16 (dk_at dksX0_readRoutine_2 6 rfl rfl)
theorem dX0_readRoutine_56 : decode cX0_readRoutine 56 = .ok (.aload_n 0, 1) := dk_42 (dk_at dksX0_readRoutine_2 9 rfl rfl)
theorem dX0_readRoutine_57 : decode cX0_readRoutine 57 = .ok (.bipush 59, 2) := dk_16 59 (dk_at dksX0_readRoutine_2 10 rfl rfl)
theorem dX0_readRoutine_59 : decode cX0_readRoutine 59 = .ok (.invokevirtual 199, 3) := dk_182 0 199 (dk_at dksX0_readRoutine_2 12 rfl rfl)
theorem dX0_readRoutine_62 : decode cX0_readRoutine 62 = .ok (.ifCond .eq 7, 3) := dk_153 0 7 (dk_at dksX0_readRoutine_2 15 rfl rfl)
theorem dX0_readRoutine_65 : decode cX0_readRoutine 65 = .ok (.iconst 1, 1) := dk_4 (dk_at dksX0_readRoutine_2 18 rfl rfl)
theorem dX0_readRoutine_66 : decode cX0_readRoutine 66 = .ok (.goto 4, 3) := dk_167 0 4 (dk_at dksX0_readRoutine_2 19 rfl rfl)
theorem dX0_readRoutine_69 : decode cX0_readRoutine 69 = .ok (.iconst 0, 1) := dk_3 (dk_at dksX0_readRoutine_2 22 rfl rfl)
theorem dX0_readRoutine_70 : decode cX0_readRoutine 70 = .ok (.istore_n 2, 1) := dk_61 (dk_at dksX0_readRoutine_2 23 rfl rfl)
theorem dX0_readRoutine_71 : decode cX0_readRoutine 71 = .ok (.goto (-62), 3) := dk_167 255 194 (dk_at dksX0_readRoutine_3 0 rfl rfl)
theorem dX0_readRoutine_74 : decode cX0_readRoutine 74 = .ok (.aload_n 0, 1) := dk_42 (dk_at dksX0_readRoutine_3 3 rfl rfl)
theorem dX0_readRoutine_75 : decode cX0_readRoutine 75 = .ok (.invokevirtual 183, 3) := dk_182 0 183 (dk_at dksX0_readRoutine_3 4 rfl rfl)
theorem dX0_readRoutine_78 : decode cX0_readRoutine 78 = .ok (.ifCond .lt 8, 3) := dk_155 0 8 (dk_at dksX0_readRoutine_3 7 rfl rfl)
theorem dX0_readRoutine_81 : decode cX0_readRoutine 81 = .ok (.aload_n 0, 1) := dk_42 (dk_at dksX0_readRoutine_3 10 rfl rfl)
theorem dX0_readRoutine_82 : decode cX0_readRoutine 82 = .ok (.invokevirtual 192, 3) := dk_182 0 192 (dk_at dksX0_readRoutine_3 11 rfl rfl)
theorem dX0_readRoutine_85 : decode cX0_readRoutine 85 = .ok (.athrow, 1) := dk_191 (dk_at dksX0_readRoutine_3 14 rfl rfl)
theorem dX0_readRoutine_86 : decode cX0_readRoutine 86 = .ok (.iload_n 1, 1) := dk_27 (dk_at dksX0_readRoutine_3 15 rfl rfl)
theorem dX0_readRoutine_87 : decode cX0_readRoutine 87 = .ok (.ireturn, 1) := dk_172 (dk_at dksX0_readRoutine_3 16 rfl rfl)
abbrev cX0_readNumber : ByteArray := prog_1_method_22_code
def yX0_readNumber : MethodName := ⟨RX0, "readNumber", "(I)I"⟩
def dkwX0_readNumber_4 : List UInt8 := [181, 0, 177, 42, 182, 0, 192, 191, 29, 172]
abbrev dktX0_readNumber_4 : List UInt8 := dkwX0_readNumber_4 ++ []
def dkwX0_readNumber_3 : List UInt8 := [96, 181, 0, 177, 167, 255, 192, 42, 180, 0, 177, 28, 159, 0, 8, 29, 27, 164, 0, 13, 42, 28]
abbrev dktX0_readNumber_3 : List UInt8 := dkwX0_readNumber_3 ++ dktX0_readNumber_4
def dkwX0_readNumber_2 : List UInt8 := [104, 42, 180, 0, 37, 42, 180, 0, 177, 51, 96, 16, 48, 100, 184, 0, 186, 62, 42, 89, 180, 0, 177, 4]
abbrev dktX0_readNumber_2 : List UInt8 := dkwX0_readNumber_2 ++ dktX0_readNumber_3
def dkwX0_readNumber_1 : List UInt8 := [180, 0, 37, 42, 180, 0, 177, 51, 16, 48, 16, 57, 184, 0, 3, 153, 0, 40, 17, 3, 231, 16, 10, 29]
abbrev dktX0_readNumber_1 : List UInt8 := dkwX0_readNumber_1 ++ dktX0_readNumber_2
def dkwX0_readNumber_0 : List UInt8 := [42, 182, 0, 183, 87, 42, 180, 0, 177, 61, 3, 62, 42, 180, 0, 177, 42, 180, 0, 174, 162, 0, 59, 42]
abbrev dktX0_readNumber_0 : List UInt8 := dkwX0_readNumber_0 ++ dktX0_readNumber_1
theorem dksX0_readNumber_0 : cX0_readNumber.data.toList.drop 0 = dktX0_readNumber_0 := by decide +kernel
theorem dksX0_readNumber_1 : cX0_readNumber.data.toList.drop 24 = dktX0_readNumber_1 := dk_seg dksX0_readNumber_0 24 rfl rfl
theorem dksX0_readNumber_2 : cX0_readNumber.data.toList.drop 48 = dktX0_readNumber_2 := dk_seg dksX0_readNumber_1 24 rfl rfl
theorem dksX0_readNumber_3 : cX0_readNumber.data.toList.drop 72 = dktX0_readNumber_3 := dk_seg dksX0_readNumber_2 24 rfl rfl
theorem dksX0_readNumber_4 : cX0_readNumber.data.toList.drop 94 = dktX0_readNumber_4 := dk_seg dksX0_readNumber_3 22 rfl rfl
theorem dX0_readNumber_0 : decode cX0_readNumber 0 = .ok (.aload_n 0, 1) := dk_42 (dk_at dksX0_readNumber_0 0 rfl rfl)
theorem dX0_readNumber_1 : decode cX0_readNumber 1 = .ok (.invokevirtual 183, 3) := dk_182 0 183 (dk_at dksX0_readNumber_0 1 rfl rfl)
theorem dX0_readNumber_4 : decode cX0_readNumber 4 = .ok (.pop, 1) := dk_87 (dk_at dksX0_readNumber_0 4 rfl rfl)
theorem dX0_readNumber_5 : decode cX0_readNumber 5 = .ok (.aload_n 0, 1) := dk_42 (dk_at dksX0_readNumber_0 5 rfl rfl)
theorem dX0_readNumber_6 : decode cX0_readNumber 6 = .ok (.getfield 177, 3) := dk_180 0 177 (dk_at dksX0_readNumber_0 6 rfl rfl)
theorem dX0_readNumber_9 : decode cX0_readNumber 9 = .ok (.istore_n 2, 1) := dk_61 (dk_at dksX0_readNumber_0 9 rfl rfl)
theorem dX0_readNumber_10 : decode cX0_readNumber 10 = .ok (.iconst 0, 1) := dk_3 (dk_at dksX0_readNumber_0 10 rfl rfl)
theorem dX0_readNumber_11 : decode cX0_readNumber 11 = .ok (.istore_n 3, 1) := dk_62 (dk_at dksX0_readNumber_0 11 rfl rfl)
theorem dX0_readNumber_12 : decode cX0_readNumber 12 = .ok (.aload_n 0, 1) := dk_42 (dk_at dksX0_readNumber_0 12 rfl rfl)
theorem dX0_readNumber_13 : decode cX0_readNumber 13 = .ok (.getfield 177, 3) := dk_180 0 177 (dk_at dksX0_readNumber_0 13 rfl rfl)
theorem dX0_readNumber_16 : decode cX0_readNumber 16 = .ok (.aload_n 0, 1) := dk_42 (dk_at dksX0_readNumber_0 16 rfl rfl)
theorem dX0_readNumber_17 : decode cX0_readNumber 17 = .ok (.getfield 174, 3) := dk_180 0 174 (dk_at dksX0_readNumber_0 17 rfl rfl)
theorem dX0_readNumber_20 : decode cX0_readNumber 20 = .ok (.if_icmp .ge 59, 3) := dk_162 0 59 (dk_at dksX0_readNumber_0 20 rfl rfl)
theorem dX0_readNumber_23 : decode cX0_readNumber 23 = .ok (.aload_n 0, 1) := dk_42 (dk_at dksX0_readNumber_0 23 rfl rfl)
theorem dX0_readNumber_24 : decode cX0_readNumber 24 = .ok (.getfield 37, 3) := dk_180 0 37 (dk_at dksX0_readNumber_1 0 rfl rfl)
theorem dX0_readNumber_27 : decode cX0_readNumber 27 = .ok (.aload_n 0, 1) := dk_42 (dk_at dksX0_readNumber_1 3 rfl rfl)
theorem dX0_readNumber_28 : decode cX0_readNumber 28 = .ok (.getfield 177, 3) := dk_180 0 177 (dk_at dksX0_readNumber_1 4 rfl rfl)
theorem dX0_readNumber_31 : decode cX0_readNumber 31 = .ok (.baload, 1) := dk_51 (dk_at dksX0_readNumber_1 7 rfl rfl)
theorem dX0_readNumber_32 : decode cX0_readNumber 32 = .ok (.bipush 48, 2) := dk_16 48 (dk_at dksX0_readNumber_1 8 rfl rfl)
theorem dX0_readNumber_34 : decode cX0_readNumber 34 = .ok (.bipush 57, 2) := dk_16 57 (dk_at dksX0_readNumber_1 10 rfl rfl)
theorem dX0_readNumber_36 : decode cX0_readNumber 36 = .ok (.invokestatic 3, 3) := dk_184 0 3 (dk_at dksX0_readNumber_1 12 rfl rfl)
theorem dX0_readNumber_39 : decode cX0_readNumber 39 = .ok (.ifCond .eq 40, 3) := dk_153 0 40 (dk_at dksX0_readNumber_1 15 rfl rfl)
theorem dX0_readNumber_42 : decode cX0_readNumber 42 = .ok (.sipush 999, 3) := dk_17 3 231 (dk_at dksX0_readNumber_1 18 rfl rfl)
theorem dX0_readNumber_45 : decode cX0_readNumber 45 = .ok (.bipush 10, 2) := dk_16 10 (dk_at dksX0_readNumber_1 21 rfl rfl)
theorem dX0_readNumber_47 : decode cX0_readNumber 47 = .ok (.iload_n 3, 1) := dk_29 (dk_at dksX0_readNumber_1 23 rfl rfl)
theorem dX0_readNumber_48 : decode cX0_readNumber 48 = .ok (.imul, 1) := dk_104 (dk_at dksX0_readNumber_2 0 rfl rfl)
theorem dX0_readNumber_49 : decode cX0_readNumber 49 = .ok (.aload_n 0, 1) := dk_42 (dk_at dksX0_readNumber_2 1 rfl rfl)
theorem dX0_readNumber_50 : decode cX0_readNumber 50 = .ok (.getfield 37, 3) := dk_180 0 37 (dk_at dksX0_readNumber_2 2 rfl rfl)
theorem dX0_readNumber_53 : decode cX0_readNumber 53 = .ok (.aload_n 0, 1) := dk_42 (dk_at dksX0_readNumber_2 5 rfl rfl)
theorem dX0_readNumber_54 : decode cX0_readNumber 54 = .ok (.getfield 177, 3) := dk_180 0 177 (dk_at dksX0_readNumber_2 6 rfl rfl)
theorem dX0_readNumber_57 : decode cX0_readNumber 57 = .ok (.baload, 1) := dk_51 (dk_at dksX0_readNumber_2 9 rfl rfl)
theorem dX0_readNumber_58 : decode cX0_readNumber 58 = .ok (.iadd, 1) := dk_96 (dk_at dksX0_readNumber_2 10 rfl rfl)
theorem dX0_readNumber_59 : decode cX0_readNumber 59 = .ok (.bipush 48, 2) := dk_16 48 (dk_at dksX0_readNumber_2 11 rfl rfl)
theorem dX0_readNumber_61 : decode cX0_readNumber 61 = .ok (.isub, 1) := dk_100 (dk_at dksX0_readNumber_2 13 rfl rfl)
theorem dX0_readNumber_62 : decode cX0_readNumber 62 = .ok (.invokestatic 186, 3) := dk_184 0 186 (dk_at dksX0_readNumber_2 14 rfl rfl)
theorem dX0_readNumber_65 : decode cX0_readNumber 65 = .ok (.istore_n 3, 1) := dk_62 (dk_at dksX0_readNumber_2 17 rfl rfl)
theorem dX0_readNumber_66 : decode cX0_readNumber 66 = .ok (.aload_n 0, 1) := dk_42 (dk_at dksX0_readNumber_2 18 rfl rfl)
theorem dX0_readNumber_67 : decode cX0_readNumber 67 = .ok (.dup, 1) := dk_89 (dk_at dksX0_readNumber_2 19 rfl rfl)
theorem dX0_readNumber_68 : decode cX0_readNumber 68 = .ok (.getfield 177, 3) := dk_180 0 177 (dk_at dksX0_readNumber_2 20 rfl rfl)
theorem dX0_readNumber_71 : decode cX0_readNumber 71 = .ok (.iconst 1, 1) := dk_4 (dk_at dksX0_readNumber_2 23 rfl rfl)
theorem dX0_readNumber_72 : decode cX0_readNumber 72 = .ok (.iadd, 1) := dk_96 (dk_at dksX0_readNumber_3 0 rfl rfl)
theorem dX0_readNumber_73 : decode cX0_readNumber 73 = .ok (.putfield 177, 3) := dk_181 0 177 (dk_at dksX0_readNumber_3 1 rfl rfl)
theorem dX0_readNumber_76 : decode cX0_readNumber 76 = .ok (.goto (-64), 3) := dk_167 255 192 (dk_at dksX0_readNumber_3 4 rfl rfl)
theorem dX0_readNumber_79 : decode cX0_readNumber 79 = .ok (.aload_n 0, 1) := dk_42 (dk_at dksX0_readNumber_3 7 rfl rfl)
theorem dX0_readNumber_80 : decode cX0_readNumber 80 = .ok (.getfield 177, 3) := dk_180 0 177 (dk_at dksX0_readNumber_3 8 rfl rfl)
theorem dX0_readNumber_83 : decode cX0_readNumber 83 = .ok (.iload_n 2, 1) := dk_28 (dk_at dksX0_readNumber_3 11 rfl rfl)
theorem dX0_readNumber_84 : decode cX0_readNumber 84 = .ok (.if_icmp .eq 8, 3) := dk_159 0 8 (dk_at dksX0_readNumber_3 12 rfl rfl)
theorem dX0_readNumber_87 : decode cX0_readNumber 87 = .ok (.iload_n 3, 1) := dk_29 (dk_at dksX0_readNumber_3 15 rfl rfl)
theorem dX0_readNumber_88 : decode cX0_readNumber 88 = .ok (.iload_n 1, 1) := dk_27 (dk_at dksX0_readNumber_3 16 rfl rfl)
theorem dX0_readNumber_89 : decode cX0_readNumber 89 = .ok (.if_icmp .le 13, 3) := dk_164 0 13 (dk_at dksX0_readNumber_3 17 rfl rfl)
theorem dX0_readNumber_92 : decode cX0_readNumber 92 = .ok (.aload_n 0, 1) := dk_42 (dk_at dksX0_readNumber_3 20 rfl rfl)
theorem dX0_readNumber_93 : decode cX0_readNumber 93 = .ok (.iload_n 2, 1) := dk_28 (dk_at dksX0_readNumber_3 21 rfl rfl)
theorem dX0_readNumber_94 : decode cX0_readNumber 94 = .ok (.putfield 177, 3) := dk_181 0 177 (dk_at dksX0_readNumber_4 0 rfl rfl)
theorem dX0_readNumber_97 : decode cX0_readNumber 97 = .ok (.aload_n 0, 1) := dk_42 (dk_at dksX0_readNumber_4 3 rfl rfl)
theorem dX0_readNumber_98 : decode cX0_readNumber 98 = .ok (.invokevirtual 192, 3) := dk_182 0 192 (dk_at dksX0_readNumber_4 4 rfl rfl)
theorem dX0_readNumber_101 : decode cX0_readNumber 101 = .ok (.athrow, 1) := dk_191 (dk_at dksX0_readNumber_4 7 rfl rfl)
theorem dX0_readNumber_102 : decode cX0_readNumber 102 = .ok (.iload_n 3, 1) := dk_29 (dk_at dksX0_readNumber_4 8 rfl rfl)
theorem dX0_readNumber_103 : decode cX0_readNumber 103 = .ok (.ireturn, 1) := dk_172 (dk_at dksX0_readNumber_4 9 rfl rfl)
abbrev cX0_nextByte : ByteArray := prog_1_method_19_code
def yX0_nextByte : MethodName := ⟨RX0, "nextByte", "()I"⟩
def dkwX0_nextByte_2 : List UInt8 := [162, 0, 15, 42, 180, 0, 37, 42, 180, 0, 177, 51, 167, 0, 4, 2, 172]
abbrev dktX0_nextByte_2 : List UInt8 := dkwX0_nextByte_2 ++ []
def dkwX0_nextByte_1 : List UInt8 := [160, 0, 16, 42, 89, 180, 0, 177, 4, 96, 181, 0, 177, 167, 255, 221, 42, 180, 0, 177, 42, 180, 0, 174]
abbrev dktX0_nextByte_1 : List UInt8 := dkwX0_nextByte_1 ++ dktX0_nextByte_2
def dkwX0_nextByte_0 : List UInt8 := [42, 180, 0, 177, 42, 180, 0, 174, 162, 0, 30, 42, 180, 0, 37, 42, 180, 0, 177, 51, 16, 32]
abbrev dktX0_nextByte_0 : List UInt8 := dkwX0_nextByte_0 ++ dktX0_nextByte_1
theorem dksX0_nextByte_0 : cX0_nextByte.data.toList.drop 0 = dktX0_nextByte_0 := by decide +kernel
theorem dksX0_nextByte_1 : cX0_nextByte.data.toList.drop 22 = dktX0_nextByte_1 := dk_seg dksX0_nextByte_0 22 rfl rfl
theorem dksX0_nextByte_2 : cX0_nextByte.data.toList.drop 46 = dktX0_nextByte_2 := dk_seg dksX0_nextByte_1 24 rfl rfl
theorem dX0_nextByte_0 : decode cX0_nextByte 0 = .ok (.aload_n 0, 1) := dk_42 (dk_at dksX0_nextByte_0 0 rfl rfl)
theorem dX0_nextByte_1 : decode cX0_nextByte 1 = .ok (.getfield 177, 3) := dk_180 0 177 (dk_at dksX0_nextByte_0 1 rfl rfl)
theorem dX0_nextByte_4 : decode cX0_nextByte 4 = .ok (.aload_n 0, 1) := dk_42 (dk_at dksX0_nextByte_0 4 rfl rfl)
theorem dX0_nextByte_5 : decode cX0_nextByte 5 = .ok (.getfield 174, 3) := dk_180 0 174 (dk_at dksX0_nextByte_0 5 rfl rfl)
theorem dX0_nextByte_8 : decode cX0_nextByte 8 = .ok (.if_icmp .ge 30, 3) := dk_162 0 30 (dk_at dksX0_nextByte_0 8 rfl rfl)
theorem dX0_nextByte_11 : decode cX0_nextByte 11 = .ok (.aload_n 0, 1) := dk_42 (dk_at dksX0_nextByte_0 11 rfl rfl)
theorem dX0_nextByte_12 : decode cX0_nextByte 12 = .ok (.getfield 37, 3) := dk_180 0 37 (dk_at dksX0_nextByte_0 12 rfl rfl)
theorem dX0_nextByte_15 : decode cX0_nextByte 15 = .ok (.aload_n 0, 1) := dk_42 (dk_at dksX0_nextByte_0 15 rfl rfl)
theorem dX0_nextByte_16 : decode cX0_nextByte 16 = .ok (.getfield 177, 3) := dk_180 0 177 (dk_at dksX0_nextByte_0 16 rfl rfl)
theorem dX0_nextByte_19 : decode cX0_nextByte 19 = .ok (.baload, 1) := dk_51 (dk_at dksX0_nextByte_0 19 rfl rfl)
theorem dX0_nextByte_20 : decode cX0_nextByte 20 = .ok (.bipush 32, 2) := dk_16 32 (dk_at dksX0_nextByte_0 20 rfl rfl)
theorem dX0_nextByte_22 : decode cX0_nextByte 22 = .ok (.if_icmp .ne 16, 3) := dk_160 0 16 (dk_at dksX0_nextByte_1 0 rfl rfl)
theorem dX0_nextByte_25 : decode cX0_nextByte 25 = .ok (.aload_n 0, 1) := dk_42 (dk_at dksX0_nextByte_1 3 rfl rfl)
theorem dX0_nextByte_26 : decode cX0_nextByte 26 = .ok (.dup, 1) := dk_89 (dk_at dksX0_nextByte_1 4 rfl rfl)
theorem dX0_nextByte_27 : decode cX0_nextByte 27 = .ok (.getfield 177, 3) := dk_180 0 177 (dk_at dksX0_nextByte_1 5 rfl rfl)
theorem dX0_nextByte_30 : decode cX0_nextByte 30 = .ok (.iconst 1, 1) := dk_4 (dk_at dksX0_nextByte_1 8 rfl rfl)
theorem dX0_nextByte_31 : decode cX0_nextByte 31 = .ok (.iadd, 1) := dk_96 (dk_at dksX0_nextByte_1 9 rfl rfl)
theorem dX0_nextByte_32 : decode cX0_nextByte 32 = .ok (.putfield 177, 3) := dk_181 0 177 (dk_at dksX0_nextByte_1 10 rfl rfl)
theorem dX0_nextByte_35 : decode cX0_nextByte 35 = .ok (.goto (-35), 3) := dk_167 255 221 (dk_at dksX0_nextByte_1 13 rfl rfl)
theorem dX0_nextByte_38 : decode cX0_nextByte 38 = .ok (.aload_n 0, 1) := dk_42 (dk_at dksX0_nextByte_1 16 rfl rfl)
theorem dX0_nextByte_39 : decode cX0_nextByte 39 = .ok (.getfield 177, 3) := dk_180 0 177 (dk_at dksX0_nextByte_1 17 rfl rfl)
theorem dX0_nextByte_42 : decode cX0_nextByte 42 = .ok (.aload_n 0, 1) := dk_42 (dk_at dksX0_nextByte_1 20 rfl rfl)
theorem dX0_nextByte_43 : decode cX0_nextByte 43 = .ok (.getfield 174, 3) := dk_180 0 174 (dk_at dksX0_nextByte_1 21 rfl rfl)
theorem dX0_nextByte_46 : decode cX0_nextByte 46 = .ok (.if_icmp .ge 15, 3) := dk_162 0 15 (dk_at dksX0_nextByte_2 0 rfl rfl)
theorem dX0_nextByte_49 : decode cX0_nextByte 49 = .ok (.aload_n 0, 1) := dk_42 (dk_at dksX0_nextByte_2 3 rfl rfl)
theorem dX0_nextByte_50 : decode cX0_nextByte 50 = .ok (.getfield 37, 3) := dk_180 0 37 (dk_at dksX0_nextByte_2 4 rfl rfl)
theorem dX0_nextByte_53 : decode cX0_nextByte 53 = .ok (.aload_n 0, 1) := dk_42 (dk_at dksX0_nextByte_2 7 rfl rfl)
theorem dX0_nextByte_54 : decode cX0_nextByte 54 = .ok (.getfield 177, 3) := dk_180 0 177 (dk_at dksX0_nextByte_2 8 rfl rfl)
theorem dX0_nextByte_57 : decode cX0_nextByte 57 = .ok (.baload, 1) := dk_51 (dk_at dksX0_nextByte_2 11 rfl rfl)
theorem dX0_nextByte_58 : decode cX0_nextByte 58 = .ok (.goto 4, 3) := dk_167 0 4 (dk_at dksX0_nextByte_2 12 rfl rfl)
theorem dX0_nextByte_61 : decode cX0_nextByte 61 = .ok (.iconst (-1), 1) := dk_2 (dk_at dksX0_nextByte_2 15 rfl rfl)
theorem dX0_nextByte_62 : decode cX0_nextByte 62 = .ok (.ireturn, 1) := dk_172 (dk_at dksX0_nextByte_2 16 rfl rfl)
abbrev cX0_wrong : ByteArray := prog_1_method_20_code
def yX0_wrong : MethodName := ⟨RX0, "wrong", "()LCoinNotThere$Fault;"⟩
def dkwX0_wrong_0 : List UInt8 := [42, 180, 0, 33, 42, 180, 0, 177, 181, 0, 180, 42, 180, 0, 33, 176]
abbrev dktX0_wrong_0 : List UInt8 := dkwX0_wrong_0 ++ []
theorem dksX0_wrong_0 : cX0_wrong.data.toList.drop 0 = dktX0_wrong_0 := by decide +kernel
theorem dX0_wrong_0 : decode cX0_wrong 0 = .ok (.aload_n 0, 1) := dk_42 (dk_at dksX0_wrong_0 0 rfl rfl)
theorem dX0_wrong_1 : decode cX0_wrong 1 = .ok (.getfield 33, 3) := dk_180 0 33 (dk_at dksX0_wrong_0 1 rfl rfl)
theorem dX0_wrong_4 : decode cX0_wrong 4 = .ok (.aload_n 0, 1) := dk_42 (dk_at dksX0_wrong_0 4 rfl rfl)
theorem dX0_wrong_5 : decode cX0_wrong 5 = .ok (.getfield 177, 3) := dk_180 0 177 (dk_at dksX0_wrong_0 5 rfl rfl)
theorem dX0_wrong_8 : decode cX0_wrong 8 = .ok (.putfield 180, 3) := dk_181 0 180 (dk_at dksX0_wrong_0 8 rfl rfl)
theorem dX0_wrong_11 : decode cX0_wrong 11 = .ok (.aload_n 0, 1) := dk_42 (dk_at dksX0_wrong_0 11 rfl rfl)
theorem dX0_wrong_12 : decode cX0_wrong 12 = .ok (.getfield 33, 3) := dk_180 0 33 (dk_at dksX0_wrong_0 12 rfl rfl)
theorem dX0_wrong_15 : decode cX0_wrong 15 = .ok (.areturn, 1) := dk_176 (dk_at dksX0_wrong_0 15 rfl rfl)
abbrev cX0_takes : ByteArray := prog_1_method_21_code
def yX0_takes : MethodName := ⟨RX0, "takes", "(I)Z"⟩
def dkwX0_takes_1 : List UInt8 := [167, 0, 4, 3, 96, 181, 0, 177, 28, 172]
abbrev dktX0_takes_1 : List UInt8 := dkwX0_takes_1 ++ []
def dkwX0_takes_0 : List UInt8 := [42, 182, 0, 183, 27, 160, 0, 7, 4, 167, 0, 4, 3, 61, 42, 89, 180, 0, 177, 28, 153, 0, 7, 4]
abbrev dktX0_takes_0 : List UInt8 := dkwX0_takes_0 ++ dktX0_takes_1
theorem dksX0_takes_0 : cX0_takes.data.toList.drop 0 = dktX0_takes_0 := by decide +kernel
theorem dksX0_takes_1 : cX0_takes.data.toList.drop 24 = dktX0_takes_1 := dk_seg dksX0_takes_0 24 rfl rfl
theorem dX0_takes_0 : decode cX0_takes 0 = .ok (.aload_n 0, 1) := dk_42 (dk_at dksX0_takes_0 0 rfl rfl)
theorem dX0_takes_1 : decode cX0_takes 1 = .ok (.invokevirtual 183, 3) := dk_182 0 183 (dk_at dksX0_takes_0 1 rfl rfl)
theorem dX0_takes_4 : decode cX0_takes 4 = .ok (.iload_n 1, 1) := dk_27 (dk_at dksX0_takes_0 4 rfl rfl)
theorem dX0_takes_5 : decode cX0_takes 5 = .ok (.if_icmp .ne 7, 3) := dk_160 0 7 (dk_at dksX0_takes_0 5 rfl rfl)
theorem dX0_takes_8 : decode cX0_takes 8 = .ok (.iconst 1, 1) := dk_4 (dk_at dksX0_takes_0 8 rfl rfl)
theorem dX0_takes_9 : decode cX0_takes 9 = .ok (.goto 4, 3) := dk_167 0 4 (dk_at dksX0_takes_0 9 rfl rfl)
theorem dX0_takes_12 : decode cX0_takes 12 = .ok (.iconst 0, 1) := dk_3 (dk_at dksX0_takes_0 12 rfl rfl)
theorem dX0_takes_13 : decode cX0_takes 13 = .ok (.istore_n 2, 1) := dk_61 (dk_at dksX0_takes_0 13 rfl rfl)
theorem dX0_takes_14 : decode cX0_takes 14 = .ok (.aload_n 0, 1) := dk_42 (dk_at dksX0_takes_0 14 rfl rfl)
theorem dX0_takes_15 : decode cX0_takes 15 = .ok (.dup, 1) := dk_89 (dk_at dksX0_takes_0 15 rfl rfl)
theorem dX0_takes_16 : decode cX0_takes 16 = .ok (.getfield 177, 3) := dk_180 0 177 (dk_at dksX0_takes_0 16 rfl rfl)
theorem dX0_takes_19 : decode cX0_takes 19 = .ok (.iload_n 2, 1) := dk_28 (dk_at dksX0_takes_0 19 rfl rfl)
theorem dX0_takes_20 : decode cX0_takes 20 = .ok (.ifCond .eq 7, 3) := dk_153 0 7 (dk_at dksX0_takes_0 20 rfl rfl)
theorem dX0_takes_23 : decode cX0_takes 23 = .ok (.iconst 1, 1) := dk_4 (dk_at dksX0_takes_0 23 rfl rfl)
theorem dX0_takes_24 : decode cX0_takes 24 = .ok (.goto 4, 3) := dk_167 0 4 (dk_at dksX0_takes_1 0 rfl rfl)
theorem dX0_takes_27 : decode cX0_takes 27 = .ok (.iconst 0, 1) := dk_3 (dk_at dksX0_takes_1 3 rfl rfl)
theorem dX0_takes_28 : decode cX0_takes 28 = .ok (.iadd, 1) := dk_96 (dk_at dksX0_takes_1 4 rfl rfl)
theorem dX0_takes_29 : decode cX0_takes 29 = .ok (.putfield 177, 3) := dk_181 0 177 (dk_at dksX0_takes_1 5 rfl rfl)
theorem dX0_takes_32 : decode cX0_takes 32 = .ok (.iload_n 2, 1) := dk_28 (dk_at dksX0_takes_1 8 rfl rfl)
theorem dX0_takes_33 : decode cX0_takes 33 = .ok (.ireturn, 1) := dk_172 (dk_at dksX0_takes_1 9 rfl rfl)
abbrev cX0_readBeat : ByteArray := prog_1_method_25_code
def yX0_readBeat : MethodName := ⟨RX0, "readBeat", "(LCoinNotThere$Beat;)V"⟩
def dkwX0_readBeat_4 : List UInt8 := [167, 0, 4, 3, 181, 0, 111, 177]
abbrev dktX0_readBeat_4 : List UInt8 := dkwX0_readBeat_4 ++ []
def dkwX0_readBeat_3 : List UInt8 := [16, 106, 182, 0, 199, 181, 0, 120, 43, 42, 16, 120, 182, 0, 199, 153, 0, 10, 42, 182, 0, 202]
abbrev dktX0_readBeat_3 : List UInt8 := dkwX0_readBeat_3 ++ dktX0_readBeat_4
def dkwX0_readBeat_2 : List UInt8 := [16, 110, 182, 0, 199, 153, 0, 12, 42, 3, 6, 182, 0, 196, 167, 0, 5, 16, 252, 181, 0, 117, 43, 42]
abbrev dktX0_readBeat_2 : List UInt8 := dkwX0_readBeat_2 ++ dktX0_readBeat_3
def dkwX0_readBeat_1 : List UInt8 := [16, 108, 182, 0, 199, 153, 0, 12, 42, 3, 6, 182, 0, 196, 167, 0, 5, 16, 252, 181, 0, 114, 43, 42]
abbrev dktX0_readBeat_1 : List UInt8 := dkwX0_readBeat_1 ++ dktX0_readBeat_2
def dkwX0_readBeat_0 : List UInt8 := [43, 42, 16, 109, 182, 0, 199, 153, 0, 10, 42, 182, 0, 202, 167, 0, 4, 3, 181, 0, 105, 43, 42]
abbrev dktX0_readBeat_0 : List UInt8 := dkwX0_readBeat_0 ++ dktX0_readBeat_1
theorem dksX0_readBeat_0 : cX0_readBeat.data.toList.drop 0 = dktX0_readBeat_0 := by decide +kernel
theorem dksX0_readBeat_1 : cX0_readBeat.data.toList.drop 23 = dktX0_readBeat_1 := dk_seg dksX0_readBeat_0 23 rfl rfl
theorem dksX0_readBeat_2 : cX0_readBeat.data.toList.drop 47 = dktX0_readBeat_2 := dk_seg dksX0_readBeat_1 24 rfl rfl
theorem dksX0_readBeat_3 : cX0_readBeat.data.toList.drop 71 = dktX0_readBeat_3 := dk_seg dksX0_readBeat_2 24 rfl rfl
theorem dksX0_readBeat_4 : cX0_readBeat.data.toList.drop 93 = dktX0_readBeat_4 := dk_seg dksX0_readBeat_3 22 rfl rfl
theorem dX0_readBeat_0 : decode cX0_readBeat 0 = .ok (.aload_n 1, 1) := dk_43 (dk_at dksX0_readBeat_0 0 rfl rfl)
theorem dX0_readBeat_1 : decode cX0_readBeat 1 = .ok (.aload_n 0, 1) := dk_42 (dk_at dksX0_readBeat_0 1 rfl rfl)
theorem dX0_readBeat_2 : decode cX0_readBeat 2 = .ok (.bipush 109, 2) := dk_16 109 (dk_at dksX0_readBeat_0 2 rfl rfl)
theorem dX0_readBeat_4 : decode cX0_readBeat 4 = .ok (.invokevirtual 199, 3) := dk_182 0 199 (dk_at dksX0_readBeat_0 4 rfl rfl)
theorem dX0_readBeat_7 : decode cX0_readBeat 7 = .ok (.ifCond .eq 10, 3) := dk_153 0 10 (dk_at dksX0_readBeat_0 7 rfl rfl)
theorem dX0_readBeat_10 : decode cX0_readBeat 10 = .ok (.aload_n 0, 1) := dk_42 (dk_at dksX0_readBeat_0 10 rfl rfl)
theorem dX0_readBeat_11 : decode cX0_readBeat 11 = .ok (.invokevirtual 202, 3) := dk_182 0 202 (dk_at dksX0_readBeat_0 11 rfl rfl)
theorem dX0_readBeat_14 : decode cX0_readBeat 14 = .ok (.goto 4, 3) := dk_167 0 4 (dk_at dksX0_readBeat_0 14 rfl rfl)
theorem dX0_readBeat_17 : decode cX0_readBeat 17 = .ok (.iconst 0, 1) := dk_3 (dk_at dksX0_readBeat_0 17 rfl rfl)
theorem dX0_readBeat_18 : decode cX0_readBeat 18 = .ok (.putfield 105, 3) := dk_181 0 105 (dk_at dksX0_readBeat_0 18 rfl rfl)
theorem dX0_readBeat_21 : decode cX0_readBeat 21 = .ok (.aload_n 1, 1) := dk_43 (dk_at dksX0_readBeat_0 21 rfl rfl)
theorem dX0_readBeat_22 : decode cX0_readBeat 22 = .ok (.aload_n 0, 1) := dk_42 (dk_at dksX0_readBeat_0 22 rfl rfl)
theorem dX0_readBeat_23 : decode cX0_readBeat 23 = .ok (.bipush 108, 2) := dk_16 108 (dk_at dksX0_readBeat_1 0 rfl rfl)
theorem dX0_readBeat_25 : decode cX0_readBeat 25 = .ok (.invokevirtual 199, 3) := dk_182 0 199 (dk_at dksX0_readBeat_1 2 rfl rfl)
theorem dX0_readBeat_28 : decode cX0_readBeat 28 = .ok (.ifCond .eq 12, 3) := dk_153 0 12 (dk_at dksX0_readBeat_1 5 rfl rfl)
theorem dX0_readBeat_31 : decode cX0_readBeat 31 = .ok (.aload_n 0, 1) := dk_42 (dk_at dksX0_readBeat_1 8 rfl rfl)
theorem dX0_readBeat_32 : decode cX0_readBeat 32 = .ok (.iconst 0, 1) := dk_3 (dk_at dksX0_readBeat_1 9 rfl rfl)
theorem dX0_readBeat_33 : decode cX0_readBeat 33 = .ok (.iconst 3, 1) := dk_6 (dk_at dksX0_readBeat_1 10 rfl rfl)
theorem dX0_readBeat_34 : decode cX0_readBeat 34 = .ok (.invokevirtual 196, 3) := dk_182 0 196 (dk_at dksX0_readBeat_1 11 rfl rfl)
theorem dX0_readBeat_37 : decode cX0_readBeat 37 = .ok (.goto 5, 3) := dk_167 0 5 (dk_at dksX0_readBeat_1 14 rfl rfl)
theorem dX0_readBeat_40 : decode cX0_readBeat 40 = .ok (.bipush (-4), 2) := dk_16 252 (dk_at dksX0_readBeat_1 17 rfl rfl)
theorem dX0_readBeat_42 : decode cX0_readBeat 42 = .ok (.putfield 114, 3) := dk_181 0 114 (dk_at dksX0_readBeat_1 19 rfl rfl)
theorem dX0_readBeat_45 : decode cX0_readBeat 45 = .ok (.aload_n 1, 1) := dk_43 (dk_at dksX0_readBeat_1 22 rfl rfl)
theorem dX0_readBeat_46 : decode cX0_readBeat 46 = .ok (.aload_n 0, 1) := dk_42 (dk_at dksX0_readBeat_1 23 rfl rfl)
theorem dX0_readBeat_47 : decode cX0_readBeat 47 = .ok (.bipush 110, 2) := dk_16 110 (dk_at dksX0_readBeat_2 0 rfl rfl)
theorem dX0_readBeat_49 : decode cX0_readBeat 49 = .ok (.invokevirtual 199, 3) := dk_182 0 199 (dk_at dksX0_readBeat_2 2 rfl rfl)
theorem dX0_readBeat_52 : decode cX0_readBeat 52 = .ok (.ifCond .eq 12, 3) := dk_153 0 12 (dk_at dksX0_readBeat_2 5 rfl rfl)
theorem dX0_readBeat_55 : decode cX0_readBeat 55 = .ok (.aload_n 0, 1) := dk_42 (dk_at dksX0_readBeat_2 8 rfl rfl)
theorem dX0_readBeat_56 : decode cX0_readBeat 56 = .ok (.iconst 0, 1) := dk_3 (dk_at dksX0_readBeat_2 9 rfl rfl)
theorem dX0_readBeat_57 : decode cX0_readBeat 57 = .ok (.iconst 3, 1) := dk_6 (dk_at dksX0_readBeat_2 10 rfl rfl)
theorem dX0_readBeat_58 : decode cX0_readBeat 58 = .ok (.invokevirtual 196, 3) := dk_182 0 196 (dk_at dksX0_readBeat_2 11 rfl rfl)
theorem dX0_readBeat_61 : decode cX0_readBeat 61 = .ok (.goto 5, 3) := dk_167 0 5 (dk_at dksX0_readBeat_2 14 rfl rfl)
theorem dX0_readBeat_64 : decode cX0_readBeat 64 = .ok (.bipush (-4), 2) := dk_16 252 (dk_at dksX0_readBeat_2 17 rfl rfl)
theorem dX0_readBeat_66 : decode cX0_readBeat 66 = .ok (.putfield 117, 3) := dk_181 0 117 (dk_at dksX0_readBeat_2 19 rfl rfl)
theorem dX0_readBeat_69 : decode cX0_readBeat 69 = .ok (.aload_n 1, 1) := dk_43 (dk_at dksX0_readBeat_2 22 rfl rfl)
theorem dX0_readBeat_70 : decode cX0_readBeat 70 = .ok (.aload_n 0, 1) := dk_42 (dk_at dksX0_readBeat_2 23 rfl rfl)
theorem dX0_readBeat_71 : decode cX0_readBeat 71 = .ok (.bipush 106, 2) := dk_16 106 (dk_at dksX0_readBeat_3 0 rfl rfl)
theorem dX0_readBeat_73 : decode cX0_readBeat 73 = .ok (.invokevirtual 199, 3) := dk_182 0 199 (dk_at dksX0_readBeat_3 2 rfl rfl)
theorem dX0_readBeat_76 : decode cX0_readBeat 76 = .ok (.putfield 120, 3) := dk_181 0 120 (dk_at dksX0_readBeat_3 5 rfl rfl)
theorem dX0_readBeat_79 : decode cX0_readBeat 79 = .ok (.aload_n 1, 1) := dk_43 (dk_at dksX0_readBeat_3 8 rfl rfl)
theorem dX0_readBeat_80 : decode cX0_readBeat 80 = .ok (.aload_n 0, 1) := dk_42 (dk_at dksX0_readBeat_3 9 rfl rfl)
theorem dX0_readBeat_81 : decode cX0_readBeat 81 = .ok (.bipush 120, 2) := dk_16 120 (dk_at dksX0_readBeat_3 10 rfl rfl)
theorem dX0_readBeat_83 : decode cX0_readBeat 83 = .ok (.invokevirtual 199, 3) := dk_182 0 199 (dk_at dksX0_readBeat_3 12 rfl rfl)
theorem dX0_readBeat_86 : decode cX0_readBeat 86 = .ok (.ifCond .eq 10, 3) := dk_153 0 10 (dk_at dksX0_readBeat_3 15 rfl rfl)
theorem dX0_readBeat_89 : decode cX0_readBeat 89 = .ok (.aload_n 0, 1) := dk_42 (dk_at dksX0_readBeat_3 18 rfl rfl)
theorem dX0_readBeat_90 : decode cX0_readBeat 90 = .ok (.invokevirtual 202, 3) := dk_182 0 202 (dk_at dksX0_readBeat_3 19 rfl rfl)
theorem dX0_readBeat_93 : decode cX0_readBeat 93 = .ok (.goto 4, 3) := dk_167 0 4 (dk_at dksX0_readBeat_4 0 rfl rfl)
theorem dX0_readBeat_96 : decode cX0_readBeat 96 = .ok (.iconst 0, 1) := dk_3 (dk_at dksX0_readBeat_4 3 rfl rfl)
theorem dX0_readBeat_97 : decode cX0_readBeat 97 = .ok (.putfield 111, 3) := dk_181 0 111 (dk_at dksX0_readBeat_4 4 rfl rfl)
theorem dX0_readBeat_100 : decode cX0_readBeat 100 = .ok (.return_, 1) := dk_177 (dk_at dksX0_readBeat_4 7 rfl rfl)
abbrev cX0_readAct : ByteArray := prog_1_method_24_code
def yX0_readAct : MethodName := ⟨RX0, "readAct", "()I"⟩
def dkwX0_readAct_0 : List UInt8 := [42, 3, 6, 182, 0, 196, 60, 16, 10, 27, 104, 42, 4, 16, 9, 182, 0, 196, 96, 172]
abbrev dktX0_readAct_0 : List UInt8 := dkwX0_readAct_0 ++ []
theorem dksX0_readAct_0 : cX0_readAct.data.toList.drop 0 = dktX0_readAct_0 := by decide +kernel
theorem dX0_readAct_0 : decode cX0_readAct 0 = .ok (.aload_n 0, 1) := dk_42 (dk_at dksX0_readAct_0 0 rfl rfl)
theorem dX0_readAct_1 : decode cX0_readAct 1 = .ok (.iconst 0, 1) := dk_3 (dk_at dksX0_readAct_0 1 rfl rfl)
theorem dX0_readAct_2 : decode cX0_readAct 2 = .ok (.iconst 3, 1) := dk_6 (dk_at dksX0_readAct_0 2 rfl rfl)
theorem dX0_readAct_3 : decode cX0_readAct 3 = .ok (.invokevirtual 196, 3) := dk_182 0 196 (dk_at dksX0_readAct_0 3 rfl rfl)
theorem dX0_readAct_6 : decode cX0_readAct 6 = .ok (.istore_n 1, 1) := dk_60 (dk_at dksX0_readAct_0 6 rfl rfl)
theorem dX0_readAct_7 : decode cX0_readAct 7 = .ok (.bipush 10, 2) := dk_16 10 (dk_at dksX0_readAct_0 7 rfl rfl)
theorem dX0_readAct_9 : decode cX0_readAct 9 = .ok (.iload_n 1, 1) := dk_27 (dk_at dksX0_readAct_0 9 rfl rfl)
theorem dX0_readAct_10 : decode cX0_readAct 10 = .ok (.imul, 1) := dk_104 (dk_at dksX0_readAct_0 10 rfl rfl)
theorem dX0_readAct_11 : decode cX0_readAct 11 = .ok (.aload_n 0, 1) := dk_42 (dk_at dksX0_readAct_0 11 rfl rfl)
theorem dX0_readAct_12 : decode cX0_readAct 12 = .ok (.iconst 1, 1) := dk_4 (dk_at dksX0_readAct_0 12 rfl rfl)
theorem dX0_readAct_13 : decode cX0_readAct 13 = .ok (.bipush 9, 2) := dk_16 9 (dk_at dksX0_readAct_0 13 rfl rfl)
theorem dX0_readAct_15 : decode cX0_readAct 15 = .ok (.invokevirtual 196, 3) := dk_182 0 196 (dk_at dksX0_readAct_0 15 rfl rfl)
theorem dX0_readAct_18 : decode cX0_readAct 18 = .ok (.iadd, 1) := dk_96 (dk_at dksX0_readAct_0 18 rfl rfl)
theorem dX0_readAct_19 : decode cX0_readAct 19 = .ok (.ireturn, 1) := dk_172 (dk_at dksX0_readAct_0 19 rfl rfl)
abbrev cX0_readDigit : ByteArray := prog_1_method_23_code
def yX0_readDigit : MethodName := ⟨RX0, "readDigit", "(II)I"⟩
def dkwX0_readDigit_1 : List UInt8 := [180, 0, 177, 4, 96, 181, 0, 177, 29, 172]
abbrev dktX0_readDigit_1 : List UInt8 := dkwX0_readDigit_1 ++ []
def dkwX0_readDigit_0 : List UInt8 := [42, 182, 0, 183, 16, 48, 100, 62, 29, 27, 28, 184, 0, 3, 154, 0, 8, 42, 182, 0, 192, 191, 42, 89]
abbrev dktX0_readDigit_0 : List UInt8 := dkwX0_readDigit_0 ++ dktX0_readDigit_1
theorem dksX0_readDigit_0 : cX0_readDigit.data.toList.drop 0 = dktX0_readDigit_0 := by decide +kernel
theorem dksX0_readDigit_1 : cX0_readDigit.data.toList.drop 24 = dktX0_readDigit_1 := dk_seg dksX0_readDigit_0 24 rfl rfl
theorem dX0_readDigit_0 : decode cX0_readDigit 0 = .ok (.aload_n 0, 1) := dk_42 (dk_at dksX0_readDigit_0 0 rfl rfl)
theorem dX0_readDigit_1 : decode cX0_readDigit 1 = .ok (.invokevirtual 183, 3) := dk_182 0 183 (dk_at dksX0_readDigit_0 1 rfl rfl)
theorem dX0_readDigit_4 : decode cX0_readDigit 4 = .ok (.bipush 48, 2) := dk_16 48 (dk_at dksX0_readDigit_0 4 rfl rfl)
theorem dX0_readDigit_6 : decode cX0_readDigit 6 = .ok (.isub, 1) := dk_100 (dk_at dksX0_readDigit_0 6 rfl rfl)
theorem dX0_readDigit_7 : decode cX0_readDigit 7 = .ok (.istore_n 3, 1) := dk_62 (dk_at dksX0_readDigit_0 7 rfl rfl)
theorem dX0_readDigit_8 : decode cX0_readDigit 8 = .ok (.iload_n 3, 1) := dk_29 (dk_at dksX0_readDigit_0 8 rfl rfl)
theorem dX0_readDigit_9 : decode cX0_readDigit 9 = .ok (.iload_n 1, 1) := dk_27 (dk_at dksX0_readDigit_0 9 rfl rfl)
theorem dX0_readDigit_10 : decode cX0_readDigit 10 = .ok (.iload_n 2, 1) := dk_28 (dk_at dksX0_readDigit_0 10 rfl rfl)
theorem dX0_readDigit_11 : decode cX0_readDigit 11 = .ok (.invokestatic 3, 3) := dk_184 0 3 (dk_at dksX0_readDigit_0 11 rfl rfl)
theorem dX0_readDigit_14 : decode cX0_readDigit 14 = .ok (.ifCond .ne 8, 3) := dk_154 0 8 (dk_at dksX0_readDigit_0 14 rfl rfl)
theorem dX0_readDigit_17 : decode cX0_readDigit 17 = .ok (.aload_n 0, 1) := dk_42 (dk_at dksX0_readDigit_0 17 rfl rfl)
theorem dX0_readDigit_18 : decode cX0_readDigit 18 = .ok (.invokevirtual 192, 3) := dk_182 0 192 (dk_at dksX0_readDigit_0 18 rfl rfl)
theorem dX0_readDigit_21 : decode cX0_readDigit 21 = .ok (.athrow, 1) := dk_191 (dk_at dksX0_readDigit_0 21 rfl rfl)
theorem dX0_readDigit_22 : decode cX0_readDigit 22 = .ok (.aload_n 0, 1) := dk_42 (dk_at dksX0_readDigit_0 22 rfl rfl)
theorem dX0_readDigit_23 : decode cX0_readDigit 23 = .ok (.dup, 1) := dk_89 (dk_at dksX0_readDigit_0 23 rfl rfl)
theorem dX0_readDigit_24 : decode cX0_readDigit 24 = .ok (.getfield 177, 3) := dk_180 0 177 (dk_at dksX0_readDigit_1 0 rfl rfl)
theorem dX0_readDigit_27 : decode cX0_readDigit 27 = .ok (.iconst 1, 1) := dk_4 (dk_at dksX0_readDigit_1 3 rfl rfl)
theorem dX0_readDigit_28 : decode cX0_readDigit 28 = .ok (.iadd, 1) := dk_96 (dk_at dksX0_readDigit_1 4 rfl rfl)
theorem dX0_readDigit_29 : decode cX0_readDigit 29 = .ok (.putfield 177, 3) := dk_181 0 177 (dk_at dksX0_readDigit_1 5 rfl rfl)
theorem dX0_readDigit_32 : decode cX0_readDigit 32 = .ok (.iload_n 3, 1) := dk_29 (dk_at dksX0_readDigit_1 8 rfl rfl)
theorem dX0_readDigit_33 : decode cX0_readDigit 33 = .ok (.ireturn, 1) := dk_172 (dk_at dksX0_readDigit_1 9 rfl rfl)
abbrev cX0_house : ByteArray := prog_1_method_31_code
def yX0_house : MethodName := ⟨RX0, "house", "()I"⟩
def dkwX0_house_3 : List UInt8 := [185, 0, 88, 1, 0, 172]
abbrev dktX0_house_3 : List UInt8 := dkwX0_house_3 ++ []
def dkwX0_house_2 : List UInt8 := [164, 0, 6, 16, 253, 172, 42, 180, 0, 26, 42, 180, 0, 41, 185, 0, 233, 2, 0, 87, 42, 180, 0, 41]
abbrev dktX0_house_2 : List UInt8 := dkwX0_house_2 ++ dktX0_house_3
def dkwX0_house_1 : List UInt8 := [181, 0, 174, 42, 180, 0, 26, 185, 0, 88, 1, 0, 42, 180, 0, 41, 185, 0, 88, 1, 0, 96, 16, 8]
abbrev dktX0_house_1 : List UInt8 := dkwX0_house_1 ++ dktX0_house_2
def dkwX0_house_0 : List UInt8 := [42, 182, 0, 230, 167, 0, 17, 76, 42, 3, 181, 0, 174, 16, 236, 43, 180, 0, 180, 100, 172, 42, 3]
abbrev dktX0_house_0 : List UInt8 := dkwX0_house_0 ++ dktX0_house_1
theorem dksX0_house_0 : cX0_house.data.toList.drop 0 = dktX0_house_0 := by decide +kernel
theorem dksX0_house_1 : cX0_house.data.toList.drop 23 = dktX0_house_1 := dk_seg dksX0_house_0 23 rfl rfl
theorem dksX0_house_2 : cX0_house.data.toList.drop 47 = dktX0_house_2 := dk_seg dksX0_house_1 24 rfl rfl
theorem dksX0_house_3 : cX0_house.data.toList.drop 71 = dktX0_house_3 := dk_seg dksX0_house_2 24 rfl rfl
theorem dX0_house_0 : decode cX0_house 0 = .ok (.aload_n 0, 1) := dk_42 (dk_at dksX0_house_0 0 rfl rfl)
theorem dX0_house_1 : decode cX0_house 1 = .ok (.invokevirtual 230, 3) := dk_182 0 230 (dk_at dksX0_house_0 1 rfl rfl)
theorem dX0_house_4 : decode cX0_house 4 = .ok (.goto 17, 3) := dk_167 0 17 (dk_at dksX0_house_0 4 rfl rfl)
theorem dX0_house_7 : decode cX0_house 7 = .ok (.astore_n 1, 1) := dk_76 (dk_at dksX0_house_0 7 rfl rfl)
theorem dX0_house_8 : decode cX0_house 8 = .ok (.aload_n 0, 1) := dk_42 (dk_at dksX0_house_0 8 rfl rfl)
theorem dX0_house_9 : decode cX0_house 9 = .ok (.iconst 0, 1) := dk_3 (dk_at dksX0_house_0 9 rfl rfl)
theorem dX0_house_10 : decode cX0_house 10 = .ok (.putfield 174, 3) := dk_181 0 174 (dk_at dksX0_house_0 10 rfl rfl)
theorem dX0_house_13 : decode cX0_house 13 = .ok (.bipush (-20), 2) := dk_16 236 (dk_at dksX0_house_0 13 rfl rfl)
theorem dX0_house_15 : decode cX0_house 15 = .ok (.aload_n 1, 1) := dk_43 (dk_at dksX0_house_0 15 rfl rfl)
theorem dX0_house_16 : decode cX0_house 16 = .ok (.getfield 180, 3) := dk_180 0 180 (dk_at dksX0_house_0 16 rfl rfl)
theorem dX0_house_19 : decode cX0_house 19 = .ok (.isub, 1) := dk_100 (dk_at dksX0_house_0 19 rfl rfl)
theorem dX0_house_20 : decode cX0_house 20 = .ok (.ireturn, 1) := dk_172 (dk_at dksX0_house_0 20 rfl rfl)
theorem dX0_house_21 : decode cX0_house 21 = .ok (.aload_n 0, 1) := dk_42 (dk_at dksX0_house_0 21 rfl rfl)
theorem dX0_house_22 : decode cX0_house 22 = .ok (.iconst 0, 1) := dk_3 (dk_at dksX0_house_0 22 rfl rfl)
theorem dX0_house_23 : decode cX0_house 23 = .ok (.putfield 174, 3) := dk_181 0 174 (dk_at dksX0_house_1 0 rfl rfl)
theorem dX0_house_26 : decode cX0_house 26 = .ok (.aload_n 0, 1) := dk_42 (dk_at dksX0_house_1 3 rfl rfl)
theorem dX0_house_27 : decode cX0_house 27 = .ok (.getfield 26, 3) := dk_180 0 26 (dk_at dksX0_house_1 4 rfl rfl)
theorem dX0_house_30 : decode cX0_house 30 = .ok (.invokeinterface 88 1, 5) := by decide +kernel
theorem dX0_house_35 : decode cX0_house 35 = .ok (.aload_n 0, 1) := dk_42 (dk_at dksX0_house_1 12 rfl rfl)
theorem dX0_house_36 : decode cX0_house 36 = .ok (.getfield 41, 3) := dk_180 0 41 (dk_at dksX0_house_1 13 rfl rfl)
theorem dX0_house_39 : decode cX0_house 39 = .ok (.invokeinterface 88 1, 5) := by decide +kernel
theorem dX0_house_44 : decode cX0_house 44 = .ok (.iadd, 1) := dk_96 (dk_at dksX0_house_1 21 rfl rfl)
theorem dX0_house_45 : decode cX0_house 45 = .ok (.bipush 8, 2) := dk_16 8 (dk_at dksX0_house_1 22 rfl rfl)
theorem dX0_house_47 : decode cX0_house 47 = .ok (.if_icmp .le 6, 3) := dk_164 0 6 (dk_at dksX0_house_2 0 rfl rfl)
theorem dX0_house_50 : decode cX0_house 50 = .ok (.bipush (-3), 2) := dk_16 253 (dk_at dksX0_house_2 3 rfl rfl)
theorem dX0_house_52 : decode cX0_house 52 = .ok (.ireturn, 1) := dk_172 (dk_at dksX0_house_2 5 rfl rfl)
theorem dX0_house_53 : decode cX0_house 53 = .ok (.aload_n 0, 1) := dk_42 (dk_at dksX0_house_2 6 rfl rfl)
theorem dX0_house_54 : decode cX0_house 54 = .ok (.getfield 26, 3) := dk_180 0 26 (dk_at dksX0_house_2 7 rfl rfl)
theorem dX0_house_57 : decode cX0_house 57 = .ok (.aload_n 0, 1) := dk_42 (dk_at dksX0_house_2 10 rfl rfl)
theorem dX0_house_58 : decode cX0_house 58 = .ok (.getfield 41, 3) := dk_180 0 41 (dk_at dksX0_house_2 11 rfl rfl)
theorem dX0_house_61 : decode cX0_house 61 = .ok (.invokeinterface 233 2, 5) := by decide +kernel
theorem dX0_house_66 : decode cX0_house 66 = .ok (.pop, 1) := dk_87 (dk_at dksX0_house_2 19 rfl rfl)
theorem dX0_house_67 : decode cX0_house 67 = .ok (.aload_n 0, 1) := dk_42 (dk_at dksX0_house_2 20 rfl rfl)
theorem dX0_house_68 : decode cX0_house 68 = .ok (.getfield 41, 3) := dk_180 0 41 (dk_at dksX0_house_2 21 rfl rfl)
theorem dX0_house_71 : decode cX0_house 71 = .ok (.invokeinterface 88 1, 5) := by decide +kernel
theorem dX0_house_76 : decode cX0_house 76 = .ok (.ireturn, 1) := dk_172 (dk_at dksX0_house_3 5 rfl rfl)
abbrev cX0_readHouse : ByteArray := prog_1_method_30_code
def yX0_readHouse : MethodName := ⟨RX0, "readHouse", "()V"⟩
def dkwX0_readHouse_3 : List UInt8 := [155, 0, 8, 42, 182, 0, 192, 191, 177]
abbrev dktX0_readHouse_3 : List UInt8 := dkwX0_readHouse_3 ++ []
def dkwX0_readHouse_2 : List UInt8 := [42, 16, 59, 182, 0, 199, 153, 0, 7, 4, 167, 0, 4, 3, 60, 167, 255, 209, 42, 182, 0, 183]
abbrev dktX0_readHouse_2 : List UInt8 := dkwX0_readHouse_2 ++ dktX0_readHouse_3
def dkwX0_readHouse_1 : List UInt8 := [42, 182, 0, 226, 185, 0, 144, 2, 0, 87, 42, 180, 0, 41, 185, 0, 88, 1, 0, 16, 8, 162, 0, 16]
abbrev dktX0_readHouse_1 : List UInt8 := dkwX0_readHouse_1 ++ dktX0_readHouse_2
def dkwX0_readHouse_0 : List UInt8 := [42, 180, 0, 41, 185, 0, 223, 1, 0, 42, 3, 181, 0, 177, 4, 60, 27, 153, 0, 49, 42, 180, 0, 41]
abbrev dktX0_readHouse_0 : List UInt8 := dkwX0_readHouse_0 ++ dktX0_readHouse_1
theorem dksX0_readHouse_0 : cX0_readHouse.data.toList.drop 0 = dktX0_readHouse_0 := by decide +kernel
theorem dksX0_readHouse_1 : cX0_readHouse.data.toList.drop 24 = dktX0_readHouse_1 := dk_seg dksX0_readHouse_0 24 rfl rfl
theorem dksX0_readHouse_2 : cX0_readHouse.data.toList.drop 48 = dktX0_readHouse_2 := dk_seg dksX0_readHouse_1 24 rfl rfl
theorem dksX0_readHouse_3 : cX0_readHouse.data.toList.drop 70 = dktX0_readHouse_3 := dk_seg dksX0_readHouse_2 22 rfl rfl
theorem dX0_readHouse_0 : decode cX0_readHouse 0 = .ok (.aload_n 0, 1) := dk_42 (dk_at dksX0_readHouse_0 0 rfl rfl)
theorem dX0_readHouse_1 : decode cX0_readHouse 1 = .ok (.getfield 41, 3) := dk_180 0 41 (dk_at dksX0_readHouse_0 1 rfl rfl)
theorem dX0_readHouse_4 : decode cX0_readHouse 4 = .ok (.invokeinterface 223 1, 5) := by decide +kernel
theorem dX0_readHouse_9 : decode cX0_readHouse 9 = .ok (.aload_n 0, 1) := dk_42 (dk_at dksX0_readHouse_0 9 rfl rfl)
theorem dX0_readHouse_10 : decode cX0_readHouse 10 = .ok (.iconst 0, 1) := dk_3 (dk_at dksX0_readHouse_0 10 rfl rfl)
theorem dX0_readHouse_11 : decode cX0_readHouse 11 = .ok (.putfield 177, 3) := dk_181 0 177 (dk_at dksX0_readHouse_0 11 rfl rfl)
theorem dX0_readHouse_14 : decode cX0_readHouse 14 = .ok (.iconst 1, 1) := dk_4 (dk_at dksX0_readHouse_0 14 rfl rfl)
theorem dX0_readHouse_15 : decode cX0_readHouse 15 = .ok (.istore_n 1, 1) := dk_60 (dk_at dksX0_readHouse_0 15 rfl rfl)
theorem dX0_readHouse_16 : decode cX0_readHouse 16 = .ok (.iload_n 1, 1) := dk_27 (dk_at dksX0_readHouse_0 16 rfl rfl)
theorem dX0_readHouse_17 : decode cX0_readHouse 17 = .ok (.ifCond .eq 49, 3) := dk_153 0 49 (dk_at dksX0_readHouse_0 17 rfl rfl)
theorem dX0_readHouse_20 : decode cX0_readHouse 20 = .ok (.aload_n 0, 1) := dk_42 (dk_at dksX0_readHouse_0 20 rfl rfl)
theorem dX0_readHouse_21 : decode cX0_readHouse 21 = .ok (.getfield 41, 3) := dk_180 0 41 (dk_at dksX0_readHouse_0 21 rfl rfl)
theorem dX0_readHouse_24 : decode cX0_readHouse 24 = .ok (.aload_n 0, 1) := dk_42 (dk_at dksX0_readHouse_1 0 rfl rfl)
theorem dX0_readHouse_25 : decode cX0_readHouse 25 = .ok (.invokevirtual 226, 3) := dk_182 0 226 (dk_at dksX0_readHouse_1 1 rfl rfl)
theorem dX0_readHouse_28 : decode cX0_readHouse 28 = .ok (.invokeinterface 144 2, 5) := by decide +kernel
theorem dX0_readHouse_33 : decode cX0_readHouse 33 = .ok (.pop, 1) := dk_87 (dk_at dksX0_readHouse_1 9 rfl rfl)
theorem dX0_readHouse_34 : decode cX0_readHouse 34 = .ok (.aload_n 0, 1) := dk_42 (dk_at dksX0_readHouse_1 10 rfl rfl)
theorem dX0_readHouse_35 : decode cX0_readHouse 35 = .ok (.getfield 41, 3) := dk_180 0 41 (dk_at dksX0_readHouse_1 11 rfl rfl)
theorem dX0_readHouse_38 : decode cX0_readHouse 38 = .ok (.invokeinterface 88 1, 5) := by decide +kernel
theorem dX0_readHouse_43 : decode cX0_readHouse 43 = .ok (.bipush 8, 2) := dk_16 8 (dk_at dksX0_readHouse_1 19 rfl rfl)
theorem dX0_readHouse_45 : decode cX0_readHouse 45 = .ok (.if_icmp .ge 16, 3) := dk_162 0 16 (dk_at dksX0_readHouse_1 21 rfl rfl)
theorem dX0_readHouse_48 : decode cX0_readHouse 48 = .ok (.aload_n 0, 1) := dk_42 (dk_at dksX0_readHouse_2 0 rfl rfl)
theorem dX0_readHouse_49 : decode cX0_readHouse 49 = .ok (.bipush 59, 2) := dk_16 59 (dk_at dksX0_readHouse_2 1 rfl rfl)
theorem dX0_readHouse_51 : decode cX0_readHouse 51 = .ok (.invokevirtual 199, 3) := dk_182 0 199 (dk_at dksX0_readHouse_2 3 rfl rfl)
theorem dX0_readHouse_54 : decode cX0_readHouse 54 = .ok (.ifCond .eq 7, 3) := dk_153 0 7 (dk_at dksX0_readHouse_2 6 rfl rfl)
theorem dX0_readHouse_57 : decode cX0_readHouse 57 = .ok (.iconst 1, 1) := dk_4 (dk_at dksX0_readHouse_2 9 rfl rfl)
theorem dX0_readHouse_58 : decode cX0_readHouse 58 = .ok (.goto 4, 3) := dk_167 0 4 (dk_at dksX0_readHouse_2 10 rfl rfl)
theorem dX0_readHouse_61 : decode cX0_readHouse 61 = .ok (.iconst 0, 1) := dk_3 (dk_at dksX0_readHouse_2 13 rfl rfl)
theorem dX0_readHouse_62 : decode cX0_readHouse 62 = .ok (.istore_n 1, 1) := dk_60 (dk_at dksX0_readHouse_2 14 rfl rfl)
theorem dX0_readHouse_63 : decode cX0_readHouse 63 = .ok (.goto (-47), 3) := dk_167 255 209 (dk_at dksX0_readHouse_2 15 rfl rfl)
theorem dX0_readHouse_66 : decode cX0_readHouse 66 = .ok (.aload_n 0, 1) := dk_42 (dk_at dksX0_readHouse_2 18 rfl rfl)
theorem dX0_readHouse_67 : decode cX0_readHouse 67 = .ok (.invokevirtual 183, 3) := dk_182 0 183 (dk_at dksX0_readHouse_2 19 rfl rfl)
theorem dX0_readHouse_70 : decode cX0_readHouse 70 = .ok (.ifCond .lt 8, 3) := dk_155 0 8 (dk_at dksX0_readHouse_3 0 rfl rfl)
theorem dX0_readHouse_73 : decode cX0_readHouse 73 = .ok (.aload_n 0, 1) := dk_42 (dk_at dksX0_readHouse_3 3 rfl rfl)
theorem dX0_readHouse_74 : decode cX0_readHouse 74 = .ok (.invokevirtual 192, 3) := dk_182 0 192 (dk_at dksX0_readHouse_3 4 rfl rfl)
theorem dX0_readHouse_77 : decode cX0_readHouse 77 = .ok (.athrow, 1) := dk_191 (dk_at dksX0_readHouse_3 7 rfl rfl)
theorem dX0_readHouse_78 : decode cX0_readHouse 78 = .ok (.return_, 1) := dk_177 (dk_at dksX0_readHouse_3 8 rfl rfl)
abbrev cX0_readWatcher : ByteArray := prog_1_method_29_code
def yX0_readWatcher : MethodName := ⟨RX0, "readWatcher", "()LCoinNotThere$Watcher;"⟩
def dkwX0_readWatcher_4 : List UInt8 := [42, 89, 180, 0, 177, 4, 96, 181, 0, 177, 28, 21, 4, 184, 0, 140, 176]
abbrev dktX0_readWatcher_4 : List UInt8 := dkwX0_readWatcher_4 ++ []
def dkwX0_readWatcher_3 : List UInt8 := [29, 16, 120, 160, 0, 7, 6, 167, 0, 5, 16, 252, 54, 4, 21, 4, 156, 0, 8, 42, 182, 0, 192, 191]
abbrev dktX0_readWatcher_3 : List UInt8 := dkwX0_readWatcher_3 ++ dktX0_readWatcher_4
def dkwX0_readWatcher_2 : List UInt8 := [3, 167, 0, 35, 29, 16, 119, 160, 0, 7, 4, 167, 0, 25, 29, 16, 99, 160, 0, 7, 5, 167, 0, 15]
abbrev dktX0_readWatcher_2 : List UInt8 := dkwX0_readWatcher_2 ++ dktX0_readWatcher_3
def dkwX0_readWatcher_1 : List UInt8 := [153, 0, 13, 42, 27, 181, 0, 177, 42, 182, 0, 192, 191, 42, 182, 0, 183, 62, 29, 16, 112, 160, 0, 7]
abbrev dktX0_readWatcher_1 : List UInt8 := dkwX0_readWatcher_1 ++ dktX0_readWatcher_2
def dkwX0_readWatcher_0 : List UInt8 := [42, 182, 0, 183, 87, 42, 180, 0, 177, 60, 42, 16, 11, 182, 0, 205, 61, 42, 28, 182, 0, 220]
abbrev dktX0_readWatcher_0 : List UInt8 := dkwX0_readWatcher_0 ++ dktX0_readWatcher_1
theorem dksX0_readWatcher_0 : cX0_readWatcher.data.toList.drop 0 = dktX0_readWatcher_0 := by decide +kernel
theorem dksX0_readWatcher_1 : cX0_readWatcher.data.toList.drop 22 = dktX0_readWatcher_1 := dk_seg dksX0_readWatcher_0 22 rfl rfl
theorem dksX0_readWatcher_2 : cX0_readWatcher.data.toList.drop 46 = dktX0_readWatcher_2 := dk_seg dksX0_readWatcher_1 24 rfl rfl
theorem dksX0_readWatcher_3 : cX0_readWatcher.data.toList.drop 70 = dktX0_readWatcher_3 := dk_seg dksX0_readWatcher_2 24 rfl rfl
theorem dksX0_readWatcher_4 : cX0_readWatcher.data.toList.drop 94 = dktX0_readWatcher_4 := dk_seg dksX0_readWatcher_3 24 rfl rfl
theorem dX0_readWatcher_0 : decode cX0_readWatcher 0 = .ok (.aload_n 0, 1) := dk_42 (dk_at dksX0_readWatcher_0 0 rfl rfl)
theorem dX0_readWatcher_1 : decode cX0_readWatcher 1 = .ok (.invokevirtual 183, 3) := dk_182 0 183 (dk_at dksX0_readWatcher_0 1 rfl rfl)
theorem dX0_readWatcher_4 : decode cX0_readWatcher 4 = .ok (.pop, 1) := dk_87 (dk_at dksX0_readWatcher_0 4 rfl rfl)
theorem dX0_readWatcher_5 : decode cX0_readWatcher 5 = .ok (.aload_n 0, 1) := dk_42 (dk_at dksX0_readWatcher_0 5 rfl rfl)
theorem dX0_readWatcher_6 : decode cX0_readWatcher 6 = .ok (.getfield 177, 3) := dk_180 0 177 (dk_at dksX0_readWatcher_0 6 rfl rfl)
theorem dX0_readWatcher_9 : decode cX0_readWatcher 9 = .ok (.istore_n 1, 1) := dk_60 (dk_at dksX0_readWatcher_0 9 rfl rfl)
theorem dX0_readWatcher_10 : decode cX0_readWatcher 10 = .ok (.aload_n 0, 1) := dk_42 (dk_at dksX0_readWatcher_0 10 rfl rfl)
theorem dX0_readWatcher_11 : decode cX0_readWatcher 11 = .ok (.bipush 11, 2) := dk_16 11 (dk_at dksX0_readWatcher_0 11 rfl rfl)
theorem dX0_readWatcher_13 : decode cX0_readWatcher 13 = .ok (.invokevirtual 205, 3) := dk_182 0 205 (dk_at dksX0_readWatcher_0 13 rfl rfl)
theorem dX0_readWatcher_16 : decode cX0_readWatcher 16 = .ok (.istore_n 2, 1) := dk_61 (dk_at dksX0_readWatcher_0 16 rfl rfl)
theorem dX0_readWatcher_17 : decode cX0_readWatcher 17 = .ok (.aload_n 0, 1) := dk_42 (dk_at dksX0_readWatcher_0 17 rfl rfl)
theorem dX0_readWatcher_18 : decode cX0_readWatcher 18 = .ok (.iload_n 2, 1) := dk_28 (dk_at dksX0_readWatcher_0 18 rfl rfl)
theorem dX0_readWatcher_19 : decode cX0_readWatcher 19 = .ok (.invokevirtual 220, 3) := dk_182 0 220 (dk_at dksX0_readWatcher_0 19 rfl rfl)
theorem dX0_readWatcher_22 : decode cX0_readWatcher 22 = .ok (.ifCond .eq 13, 3) := dk_153 0 13 (dk_at dksX0_readWatcher_1 0 rfl rfl)
theorem dX0_readWatcher_25 : decode cX0_readWatcher 25 = .ok (.aload_n 0, 1) := dk_42 (dk_at dksX0_readWatcher_1 3 rfl rfl)
theorem dX0_readWatcher_26 : decode cX0_readWatcher 26 = .ok (.iload_n 1, 1) := dk_27 (dk_at dksX0_readWatcher_1 4 rfl rfl)
theorem dX0_readWatcher_27 : decode cX0_readWatcher 27 = .ok (.putfield 177, 3) := dk_181 0 177 (dk_at dksX0_readWatcher_1 5 rfl rfl)
theorem dX0_readWatcher_30 : decode cX0_readWatcher 30 = .ok (.aload_n 0, 1) := dk_42 (dk_at dksX0_readWatcher_1 8 rfl rfl)
theorem dX0_readWatcher_31 : decode cX0_readWatcher 31 = .ok (.invokevirtual 192, 3) := dk_182 0 192 (dk_at dksX0_readWatcher_1 9 rfl rfl)
theorem dX0_readWatcher_34 : decode cX0_readWatcher 34 = .ok (.athrow, 1) := dk_191 (dk_at dksX0_readWatcher_1 12 rfl rfl)
theorem dX0_readWatcher_35 : decode cX0_readWatcher 35 = .ok (.aload_n 0, 1) := dk_42 (dk_at dksX0_readWatcher_1 13 rfl rfl)
theorem dX0_readWatcher_36 : decode cX0_readWatcher 36 = .ok (.invokevirtual 183, 3) := dk_182 0 183 (dk_at dksX0_readWatcher_1 14 rfl rfl)
theorem dX0_readWatcher_39 : decode cX0_readWatcher 39 = .ok (.istore_n 3, 1) := dk_62 (dk_at dksX0_readWatcher_1 17 rfl rfl)
theorem dX0_readWatcher_40 : decode cX0_readWatcher 40 = .ok (.iload_n 3, 1) := dk_29 (dk_at dksX0_readWatcher_1 18 rfl rfl)
theorem dX0_readWatcher_41 : decode cX0_readWatcher 41 = .ok (.bipush 112, 2) := dk_16 112 (dk_at dksX0_readWatcher_1 19 rfl rfl)
theorem dX0_readWatcher_43 : decode cX0_readWatcher 43 = .ok (.if_icmp .ne 7, 3) := dk_160 0 7 (dk_at dksX0_readWatcher_1 21 rfl rfl)
theorem dX0_readWatcher_46 : decode cX0_readWatcher 46 = .ok (.iconst 0, 1) := dk_3 (dk_at dksX0_readWatcher_2 0 rfl rfl)
theorem dX0_readWatcher_47 : decode cX0_readWatcher 47 = .ok (.goto 35, 3) := dk_167 0 35 (dk_at dksX0_readWatcher_2 1 rfl rfl)
theorem dX0_readWatcher_50 : decode cX0_readWatcher 50 = .ok (.iload_n 3, 1) := dk_29 (dk_at dksX0_readWatcher_2 4 rfl rfl)
theorem dX0_readWatcher_51 : decode cX0_readWatcher 51 = .ok (.bipush 119, 2) := dk_16 119 (dk_at dksX0_readWatcher_2 5 rfl rfl)
theorem dX0_readWatcher_53 : decode cX0_readWatcher 53 = .ok (.if_icmp .ne 7, 3) := dk_160 0 7 (dk_at dksX0_readWatcher_2 7 rfl rfl)
theorem dX0_readWatcher_56 : decode cX0_readWatcher 56 = .ok (.iconst 1, 1) := dk_4 (dk_at dksX0_readWatcher_2 10 rfl rfl)
theorem dX0_readWatcher_57 : decode cX0_readWatcher 57 = .ok (.goto 25, 3) := dk_167 0 25 (dk_at dksX0_readWatcher_2 11 rfl rfl)
theorem dX0_readWatcher_60 : decode cX0_readWatcher 60 = .ok (.iload_n 3, 1) := dk_29 (dk_at dksX0_readWatcher_2 14 rfl rfl)
theorem dX0_readWatcher_61 : decode cX0_readWatcher 61 = .ok (.bipush 99, 2) := dk_16 99 (dk_at dksX0_readWatcher_2 15 rfl rfl)
theorem dX0_readWatcher_63 : decode cX0_readWatcher 63 = .ok (.if_icmp .ne 7, 3) := dk_160 0 7 (dk_at dksX0_readWatcher_2 17 rfl rfl)
theorem dX0_readWatcher_66 : decode cX0_readWatcher 66 = .ok (.iconst 2, 1) := dk_5 (dk_at dksX0_readWatcher_2 20 rfl rfl)
theorem dX0_readWatcher_67 : decode cX0_readWatcher 67 = .ok (.goto 15, 3) := dk_167 0 15 (dk_at dksX0_readWatcher_2 21 rfl rfl)
theorem dX0_readWatcher_70 : decode cX0_readWatcher 70 = .ok (.iload_n 3, 1) := dk_29 (dk_at dksX0_readWatcher_3 0 rfl rfl)
theorem dX0_readWatcher_71 : decode cX0_readWatcher 71 = .ok (.bipush 120, 2) := dk_16 120 (dk_at dksX0_readWatcher_3 1 rfl rfl)
theorem dX0_readWatcher_73 : decode cX0_readWatcher 73 = .ok (.if_icmp .ne 7, 3) := dk_160 0 7 (dk_at dksX0_readWatcher_3 3 rfl rfl)
theorem dX0_readWatcher_76 : decode cX0_readWatcher 76 = .ok (.iconst 3, 1) := dk_6 (dk_at dksX0_readWatcher_3 6 rfl rfl)
theorem dX0_readWatcher_77 : decode cX0_readWatcher 77 = .ok (.goto 5, 3) := dk_167 0 5 (dk_at dksX0_readWatcher_3 7 rfl rfl)
theorem dX0_readWatcher_80 : decode cX0_readWatcher 80 = .ok (.bipush (-4), 2) := dk_16 252 (dk_at dksX0_readWatcher_3 10 rfl rfl)
theorem dX0_readWatcher_82 : decode cX0_readWatcher 82 = .ok (.istore 4, 2) := dk_54 4 (dk_at dksX0_readWatcher_3 12 rfl rfl)
theorem dX0_readWatcher_84 : decode cX0_readWatcher 84 = .ok (.iload 4, 2) := dk_21 4 (dk_at dksX0_readWatcher_3 14 rfl rfl)
theorem dX0_readWatcher_86 : decode cX0_readWatcher 86 = .ok (.ifCond .ge 8, 3) := dk_156 0 8 (dk_at dksX0_readWatcher_3 16 rfl rfl)
theorem dX0_readWatcher_89 : decode cX0_readWatcher 89 = .ok (.aload_n 0, 1) := dk_42 (dk_at dksX0_readWatcher_3 19 rfl rfl)
theorem dX0_readWatcher_90 : decode cX0_readWatcher 90 = .ok (.invokevirtual 192, 3) := dk_182 0 192 (dk_at dksX0_readWatcher_3 20 rfl rfl)
theorem dX0_readWatcher_93 : decode cX0_readWatcher 93 = .ok (.athrow, 1) := dk_191 (dk_at dksX0_readWatcher_3 23 rfl rfl)
theorem dX0_readWatcher_94 : decode cX0_readWatcher 94 = .ok (.aload_n 0, 1) := dk_42 (dk_at dksX0_readWatcher_4 0 rfl rfl)
theorem dX0_readWatcher_95 : decode cX0_readWatcher 95 = .ok (.dup, 1) := dk_89 (dk_at dksX0_readWatcher_4 1 rfl rfl)
theorem dX0_readWatcher_96 : decode cX0_readWatcher 96 = .ok (.getfield 177, 3) := dk_180 0 177 (dk_at dksX0_readWatcher_4 2 rfl rfl)
theorem dX0_readWatcher_99 : decode cX0_readWatcher 99 = .ok (.iconst 1, 1) := dk_4 (dk_at dksX0_readWatcher_4 5 rfl rfl)
theorem dX0_readWatcher_100 : decode cX0_readWatcher 100 = .ok (.iadd, 1) := dk_96 (dk_at dksX0_readWatcher_4 6 rfl rfl)
theorem dX0_readWatcher_101 : decode cX0_readWatcher 101 = .ok (.putfield 177, 3) := dk_181 0 177 (dk_at dksX0_readWatcher_4 7 rfl rfl)
theorem dX0_readWatcher_104 : decode cX0_readWatcher 104 = .ok (.iload_n 2, 1) := dk_28 (dk_at dksX0_readWatcher_4 10 rfl rfl)
theorem dX0_readWatcher_105 : decode cX0_readWatcher 105 = .ok (.iload 4, 2) := dk_21 4 (dk_at dksX0_readWatcher_4 11 rfl rfl)
theorem dX0_readWatcher_107 : decode cX0_readWatcher 107 = .ok (.invokestatic 140, 3) := dk_184 0 140 (dk_at dksX0_readWatcher_4 13 rfl rfl)
theorem dX0_readWatcher_110 : decode cX0_readWatcher 110 = .ok (.areturn, 1) := dk_176 (dk_at dksX0_readWatcher_4 16 rfl rfl)
abbrev cX0_isGot : ByteArray := prog_1_method_28_code
def yX0_isGot : MethodName := ⟨RX0, "isGot", "(I)Z"⟩
def dkwX0_isGot_2 : List UInt8 := [128, 61, 132, 3, 1, 167, 255, 212, 28, 172]
abbrev dktX0_isGot_2 : List UInt8 := dkwX0_isGot_2 ++ []
def dkwX0_isGot_1 : List UInt8 := [180, 0, 41, 29, 185, 0, 130, 2, 0, 192, 0, 51, 180, 0, 134, 27, 160, 0, 7, 4, 167, 0, 4, 3]
abbrev dktX0_isGot_1 : List UInt8 := dkwX0_isGot_1 ++ dktX0_isGot_2
def dkwX0_isGot_0 : List UInt8 := [42, 27, 182, 0, 137, 61, 3, 62, 29, 42, 180, 0, 41, 185, 0, 88, 1, 0, 162, 0, 37, 28, 42]
abbrev dktX0_isGot_0 : List UInt8 := dkwX0_isGot_0 ++ dktX0_isGot_1
theorem dksX0_isGot_0 : cX0_isGot.data.toList.drop 0 = dktX0_isGot_0 := by decide +kernel
theorem dksX0_isGot_1 : cX0_isGot.data.toList.drop 23 = dktX0_isGot_1 := dk_seg dksX0_isGot_0 23 rfl rfl
theorem dksX0_isGot_2 : cX0_isGot.data.toList.drop 47 = dktX0_isGot_2 := dk_seg dksX0_isGot_1 24 rfl rfl
theorem dX0_isGot_0 : decode cX0_isGot 0 = .ok (.aload_n 0, 1) := dk_42 (dk_at dksX0_isGot_0 0 rfl rfl)
theorem dX0_isGot_1 : decode cX0_isGot 1 = .ok (.iload_n 1, 1) := dk_27 (dk_at dksX0_isGot_0 1 rfl rfl)
theorem dX0_isGot_2 : decode cX0_isGot 2 = .ok (.invokevirtual 137, 3) := dk_182 0 137 (dk_at dksX0_isGot_0 2 rfl rfl)
theorem dX0_isGot_5 : decode cX0_isGot 5 = .ok (.istore_n 2, 1) := dk_61 (dk_at dksX0_isGot_0 5 rfl rfl)
theorem dX0_isGot_6 : decode cX0_isGot 6 = .ok (.iconst 0, 1) := dk_3 (dk_at dksX0_isGot_0 6 rfl rfl)
theorem dX0_isGot_7 : decode cX0_isGot 7 = .ok (.istore_n 3, 1) := dk_62 (dk_at dksX0_isGot_0 7 rfl rfl)
theorem dX0_isGot_8 : decode cX0_isGot 8 = .ok (.iload_n 3, 1) := dk_29 (dk_at dksX0_isGot_0 8 rfl rfl)
theorem dX0_isGot_9 : decode cX0_isGot 9 = .ok (.aload_n 0, 1) := dk_42 (dk_at dksX0_isGot_0 9 rfl rfl)
theorem dX0_isGot_10 : decode cX0_isGot 10 = .ok (.getfield 41, 3) := dk_180 0 41 (dk_at dksX0_isGot_0 10 rfl rfl)
theorem dX0_isGot_13 : decode cX0_isGot 13 = .ok (.invokeinterface 88 1, 5) := by decide +kernel
theorem dX0_isGot_18 : decode cX0_isGot 18 = .ok (.if_icmp .ge 37, 3) := dk_162 0 37 (dk_at dksX0_isGot_0 18 rfl rfl)
theorem dX0_isGot_21 : decode cX0_isGot 21 = .ok (.iload_n 2, 1) := dk_28 (dk_at dksX0_isGot_0 21 rfl rfl)
theorem dX0_isGot_22 : decode cX0_isGot 22 = .ok (.aload_n 0, 1) := dk_42 (dk_at dksX0_isGot_0 22 rfl rfl)
theorem dX0_isGot_23 : decode cX0_isGot 23 = .ok (.getfield 41, 3) := dk_180 0 41 (dk_at dksX0_isGot_1 0 rfl rfl)
theorem dX0_isGot_26 : decode cX0_isGot 26 = .ok (.iload_n 3, 1) := dk_29 (dk_at dksX0_isGot_1 3 rfl rfl)
theorem dX0_isGot_27 : decode cX0_isGot 27 = .ok (.invokeinterface 130 2, 5) := by decide +kernel
theorem dX0_isGot_32 : decode cX0_isGot 32 = .ok (.checkcast 51, 3) := dk_192 0 51 (dk_at dksX0_isGot_1 9 rfl rfl)
theorem dX0_isGot_35 : decode cX0_isGot 35 = .ok (.getfield 134, 3) := dk_180 0 134 (dk_at dksX0_isGot_1 12 rfl rfl)
theorem dX0_isGot_38 : decode cX0_isGot 38 = .ok (.iload_n 1, 1) := dk_27 (dk_at dksX0_isGot_1 15 rfl rfl)
theorem dX0_isGot_39 : decode cX0_isGot 39 = .ok (.if_icmp .ne 7, 3) := dk_160 0 7 (dk_at dksX0_isGot_1 16 rfl rfl)
theorem dX0_isGot_42 : decode cX0_isGot 42 = .ok (.iconst 1, 1) := dk_4 (dk_at dksX0_isGot_1 19 rfl rfl)
theorem dX0_isGot_43 : decode cX0_isGot 43 = .ok (.goto 4, 3) := dk_167 0 4 (dk_at dksX0_isGot_1 20 rfl rfl)
theorem dX0_isGot_46 : decode cX0_isGot 46 = .ok (.iconst 0, 1) := dk_3 (dk_at dksX0_isGot_1 23 rfl rfl)
theorem dX0_isGot_47 : decode cX0_isGot 47 = .ok (.ior, 1) := dk_128 (dk_at dksX0_isGot_2 0 rfl rfl)
theorem dX0_isGot_48 : decode cX0_isGot 48 = .ok (.istore_n 2, 1) := dk_61 (dk_at dksX0_isGot_2 1 rfl rfl)
theorem dX0_isGot_49 : decode cX0_isGot 49 = .ok (.iinc 3 1, 3) := dk_132 3 1 (dk_at dksX0_isGot_2 2 rfl rfl)
theorem dX0_isGot_52 : decode cX0_isGot 52 = .ok (.goto (-44), 3) := dk_167 255 212 (dk_at dksX0_isGot_2 5 rfl rfl)
theorem dX0_isGot_55 : decode cX0_isGot 55 = .ok (.iload_n 2, 1) := dk_28 (dk_at dksX0_isGot_2 8 rfl rfl)
theorem dX0_isGot_56 : decode cX0_isGot 56 = .ok (.ireturn, 1) := dk_172 (dk_at dksX0_isGot_2 9 rfl rfl)
abbrev cX0_pull : ByteArray := prog_1_method_33_code
def yX0_pull : MethodName := ⟨RX0, "pull", "(IIII)I"⟩
def dkwX0_pull_2 : List UInt8 := [29, 21, 4, 182, 0, 240, 167, 0, 4, 2, 172]
abbrev dktX0_pull_2 : List UInt8 := dkwX0_pull_2 ++ []
def dkwX0_pull_1 : List UInt8 := [184, 0, 237, 153, 0, 30, 42, 180, 0, 26, 27, 185, 0, 130, 2, 0, 192, 0, 51, 42, 180, 0, 16, 28]
abbrev dktX0_pull_1 : List UInt8 := dkwX0_pull_1 ++ dktX0_pull_2
def dkwX0_pull_0 : List UInt8 := [42, 27, 182, 0, 148, 153, 0, 52, 28, 184, 0, 94, 153, 0, 45, 29, 184, 0, 98, 153, 0, 38, 21, 4]
abbrev dktX0_pull_0 : List UInt8 := dkwX0_pull_0 ++ dktX0_pull_1
theorem dksX0_pull_0 : cX0_pull.data.toList.drop 0 = dktX0_pull_0 := by decide +kernel
theorem dksX0_pull_1 : cX0_pull.data.toList.drop 24 = dktX0_pull_1 := dk_seg dksX0_pull_0 24 rfl rfl
theorem dksX0_pull_2 : cX0_pull.data.toList.drop 48 = dktX0_pull_2 := dk_seg dksX0_pull_1 24 rfl rfl
theorem dX0_pull_0 : decode cX0_pull 0 = .ok (.aload_n 0, 1) := dk_42 (dk_at dksX0_pull_0 0 rfl rfl)
theorem dX0_pull_1 : decode cX0_pull 1 = .ok (.iload_n 1, 1) := dk_27 (dk_at dksX0_pull_0 1 rfl rfl)
theorem dX0_pull_2 : decode cX0_pull 2 = .ok (.invokevirtual 148, 3) := dk_182 0 148 (dk_at dksX0_pull_0 2 rfl rfl)
theorem dX0_pull_5 : decode cX0_pull 5 = .ok (.ifCond .eq 52, 3) := dk_153 0 52 (dk_at dksX0_pull_0 5 rfl rfl)
theorem dX0_pull_8 : decode cX0_pull 8 = .ok (.iload_n 2, 1) := dk_28 (dk_at dksX0_pull_0 8 rfl rfl)
theorem dX0_pull_9 : decode cX0_pull 9 = .ok (.invokestatic 94, 3) := dk_184 0 94 (dk_at dksX0_pull_0 9 rfl rfl)
theorem dX0_pull_12 : decode cX0_pull 12 = .ok (.ifCond .eq 45, 3) := dk_153 0 45 (dk_at dksX0_pull_0 12 rfl rfl)
theorem dX0_pull_15 : decode cX0_pull 15 = .ok (.iload_n 3, 1) := dk_29 (dk_at dksX0_pull_0 15 rfl rfl)
theorem dX0_pull_16 : decode cX0_pull 16 = .ok (.invokestatic 98, 3) := dk_184 0 98 (dk_at dksX0_pull_0 16 rfl rfl)
theorem dX0_pull_19 : decode cX0_pull 19 = .ok (.ifCond .eq 38, 3) := dk_153 0 38 (dk_at dksX0_pull_0 19 rfl rfl)
theorem dX0_pull_22 : decode cX0_pull 22 = .ok (.iload 4, 2) := dk_21 4 (dk_at dksX0_pull_0 22 rfl rfl)
theorem dX0_pull_24 : decode cX0_pull 24 = .ok (.invokestatic 237, 3) := dk_184 0 237 (dk_at dksX0_pull_1 0 rfl rfl)
theorem dX0_pull_27 : decode cX0_pull 27 = .ok (.ifCond .eq 30, 3) := dk_153 0 30 (dk_at dksX0_pull_1 3 rfl rfl)
theorem dX0_pull_30 : decode cX0_pull 30 = .ok (.aload_n 0, 1) := dk_42 (dk_at dksX0_pull_1 6 rfl rfl)
theorem dX0_pull_31 : decode cX0_pull 31 = .ok (.getfield 26, 3) := dk_180 0 26 (dk_at dksX0_pull_1 7 rfl rfl)
theorem dX0_pull_34 : decode cX0_pull 34 = .ok (.iload_n 1, 1) := dk_27 (dk_at dksX0_pull_1 10 rfl rfl)
theorem dX0_pull_35 : decode cX0_pull 35 = .ok (.invokeinterface 130 2, 5) := by decide +kernel
theorem dX0_pull_40 : decode cX0_pull 40 = .ok (.checkcast 51, 3) := dk_192 0 51 (dk_at dksX0_pull_1 16 rfl rfl)
theorem dX0_pull_43 : decode cX0_pull 43 = .ok (.aload_n 0, 1) := dk_42 (dk_at dksX0_pull_1 19 rfl rfl)
theorem dX0_pull_44 : decode cX0_pull 44 = .ok (.getfield 16, 3) := dk_180 0 16 (dk_at dksX0_pull_1 20 rfl rfl)
theorem dX0_pull_47 : decode cX0_pull 47 = .ok (.iload_n 2, 1) := dk_28 (dk_at dksX0_pull_1 23 rfl rfl)
theorem dX0_pull_48 : decode cX0_pull 48 = .ok (.iload_n 3, 1) := dk_29 (dk_at dksX0_pull_2 0 rfl rfl)
theorem dX0_pull_49 : decode cX0_pull 49 = .ok (.iload 4, 2) := dk_21 4 (dk_at dksX0_pull_2 1 rfl rfl)
theorem dX0_pull_51 : decode cX0_pull 51 = .ok (.invokevirtual 240, 3) := dk_182 0 240 (dk_at dksX0_pull_2 3 rfl rfl)
theorem dX0_pull_54 : decode cX0_pull 54 = .ok (.goto 4, 3) := dk_167 0 4 (dk_at dksX0_pull_2 6 rfl rfl)
theorem dX0_pull_57 : decode cX0_pull 57 = .ok (.iconst (-1), 1) := dk_2 (dk_at dksX0_pull_2 9 rfl rfl)
theorem dX0_pull_58 : decode cX0_pull 58 = .ok (.ireturn, 1) := dk_172 (dk_at dksX0_pull_2 10 rfl rfl)
abbrev cX0_isTime : ByteArray := prog_1_method_32_code
def yX0_isTime : MethodName := ⟨RX0, "isTime", "(I)Z"⟩
def dkwX0_isTime_0 : List UInt8 := [26, 4, 16, 9, 184, 0, 3, 172]
abbrev dktX0_isTime_0 : List UInt8 := dkwX0_isTime_0 ++ []
theorem dksX0_isTime_0 : cX0_isTime.data.toList.drop 0 = dktX0_isTime_0 := by decide +kernel
theorem dX0_isTime_0 : decode cX0_isTime 0 = .ok (.iload_n 0, 1) := dk_26 (dk_at dksX0_isTime_0 0 rfl rfl)
theorem dX0_isTime_1 : decode cX0_isTime 1 = .ok (.iconst 1, 1) := dk_4 (dk_at dksX0_isTime_0 1 rfl rfl)
theorem dX0_isTime_2 : decode cX0_isTime 2 = .ok (.bipush 9, 2) := dk_16 9 (dk_at dksX0_isTime_0 2 rfl rfl)
theorem dX0_isTime_4 : decode cX0_isTime 4 = .ok (.invokestatic 3, 3) := dk_184 0 3 (dk_at dksX0_isTime_0 4 rfl rfl)
theorem dX0_isTime_7 : decode cX0_isTime 7 = .ok (.ireturn, 1) := dk_172 (dk_at dksX0_isTime_0 7 rfl rfl)
abbrev cX0_heed : ByteArray := prog_1_method_34_code
def yX0_heed : MethodName := ⟨RX0, "heed", "(II)I"⟩
def dkwX0_heed_1 : List UInt8 := [185, 0, 130, 2, 0, 192, 0, 51, 42, 180, 0, 16, 28, 182, 0, 159, 167, 0, 4, 2, 172]
abbrev dktX0_heed_1 : List UInt8 := dkwX0_heed_1 ++ []
def dkwX0_heed_0 : List UInt8 := [42, 27, 182, 0, 148, 153, 0, 34, 28, 184, 0, 94, 153, 0, 27, 42, 180, 0, 26, 27]
abbrev dktX0_heed_0 : List UInt8 := dkwX0_heed_0 ++ dktX0_heed_1
theorem dksX0_heed_0 : cX0_heed.data.toList.drop 0 = dktX0_heed_0 := by decide +kernel
theorem dksX0_heed_1 : cX0_heed.data.toList.drop 20 = dktX0_heed_1 := dk_seg dksX0_heed_0 20 rfl rfl
theorem dX0_heed_0 : decode cX0_heed 0 = .ok (.aload_n 0, 1) := dk_42 (dk_at dksX0_heed_0 0 rfl rfl)
theorem dX0_heed_1 : decode cX0_heed 1 = .ok (.iload_n 1, 1) := dk_27 (dk_at dksX0_heed_0 1 rfl rfl)
theorem dX0_heed_2 : decode cX0_heed 2 = .ok (.invokevirtual 148, 3) := dk_182 0 148 (dk_at dksX0_heed_0 2 rfl rfl)
theorem dX0_heed_5 : decode cX0_heed 5 = .ok (.ifCond .eq 34, 3) := dk_153 0 34 (dk_at dksX0_heed_0 5 rfl rfl)
theorem dX0_heed_8 : decode cX0_heed 8 = .ok (.iload_n 2, 1) := dk_28 (dk_at dksX0_heed_0 8 rfl rfl)
theorem dX0_heed_9 : decode cX0_heed 9 = .ok (.invokestatic 94, 3) := dk_184 0 94 (dk_at dksX0_heed_0 9 rfl rfl)
theorem dX0_heed_12 : decode cX0_heed 12 = .ok (.ifCond .eq 27, 3) := dk_153 0 27 (dk_at dksX0_heed_0 12 rfl rfl)
theorem dX0_heed_15 : decode cX0_heed 15 = .ok (.aload_n 0, 1) := dk_42 (dk_at dksX0_heed_0 15 rfl rfl)
theorem dX0_heed_16 : decode cX0_heed 16 = .ok (.getfield 26, 3) := dk_180 0 26 (dk_at dksX0_heed_0 16 rfl rfl)
theorem dX0_heed_19 : decode cX0_heed 19 = .ok (.iload_n 1, 1) := dk_27 (dk_at dksX0_heed_0 19 rfl rfl)
theorem dX0_heed_20 : decode cX0_heed 20 = .ok (.invokeinterface 130 2, 5) := by decide +kernel
theorem dX0_heed_25 : decode cX0_heed 25 = .ok (.checkcast 51, 3) := dk_192 0 51 (dk_at dksX0_heed_1 5 rfl rfl)
theorem dX0_heed_28 : decode cX0_heed 28 = .ok (.aload_n 0, 1) := dk_42 (dk_at dksX0_heed_1 8 rfl rfl)
theorem dX0_heed_29 : decode cX0_heed 29 = .ok (.getfield 16, 3) := dk_180 0 16 (dk_at dksX0_heed_1 9 rfl rfl)
theorem dX0_heed_32 : decode cX0_heed 32 = .ok (.iload_n 2, 1) := dk_28 (dk_at dksX0_heed_1 12 rfl rfl)
theorem dX0_heed_33 : decode cX0_heed 33 = .ok (.invokevirtual 159, 3) := dk_182 0 159 (dk_at dksX0_heed_1 13 rfl rfl)
theorem dX0_heed_36 : decode cX0_heed 36 = .ok (.goto 4, 3) := dk_167 0 4 (dk_at dksX0_heed_1 16 rfl rfl)
theorem dX0_heed_39 : decode cX0_heed 39 = .ok (.iconst (-1), 1) := dk_2 (dk_at dksX0_heed_1 19 rfl rfl)
theorem dX0_heed_40 : decode cX0_heed 40 = .ok (.ireturn, 1) := dk_172 (dk_at dksX0_heed_1 20 rfl rfl)
abbrev cX0_can : ByteArray := prog_1_method_35_code
def yX0_can : MethodName := ⟨RX0, "can", "(II)I"⟩
def dkwX0_can_1 : List UInt8 := [180, 0, 16, 27, 28, 42, 180, 0, 16, 180, 0, 124, 182, 0, 244, 153, 0, 7, 4, 167, 0, 4, 3, 172]
abbrev dktX0_can_1 : List UInt8 := dkwX0_can_1 ++ []
def dkwX0_can_0 : List UInt8 := [27, 3, 16, 11, 184, 0, 3, 153, 0, 10, 28, 184, 0, 98, 154, 0, 7, 2, 167, 0, 27, 42]
abbrev dktX0_can_0 : List UInt8 := dkwX0_can_0 ++ dktX0_can_1
theorem dksX0_can_0 : cX0_can.data.toList.drop 0 = dktX0_can_0 := by decide +kernel
theorem dksX0_can_1 : cX0_can.data.toList.drop 22 = dktX0_can_1 := dk_seg dksX0_can_0 22 rfl rfl
theorem dX0_can_0 : decode cX0_can 0 = .ok (.iload_n 1, 1) := dk_27 (dk_at dksX0_can_0 0 rfl rfl)
theorem dX0_can_1 : decode cX0_can 1 = .ok (.iconst 0, 1) := dk_3 (dk_at dksX0_can_0 1 rfl rfl)
theorem dX0_can_2 : decode cX0_can 2 = .ok (.bipush 11, 2) := dk_16 11 (dk_at dksX0_can_0 2 rfl rfl)
theorem dX0_can_4 : decode cX0_can 4 = .ok (.invokestatic 3, 3) := dk_184 0 3 (dk_at dksX0_can_0 4 rfl rfl)
theorem dX0_can_7 : decode cX0_can 7 = .ok (.ifCond .eq 10, 3) := dk_153 0 10 (dk_at dksX0_can_0 7 rfl rfl)
theorem dX0_can_10 : decode cX0_can 10 = .ok (.iload_n 2, 1) := dk_28 (dk_at dksX0_can_0 10 rfl rfl)
theorem dX0_can_11 : decode cX0_can 11 = .ok (.invokestatic 98, 3) := dk_184 0 98 (dk_at dksX0_can_0 11 rfl rfl)
theorem dX0_can_14 : decode cX0_can 14 = .ok (.ifCond .ne 7, 3) := dk_154 0 7 (dk_at dksX0_can_0 14 rfl rfl)
theorem dX0_can_17 : decode cX0_can 17 = .ok (.iconst (-1), 1) := dk_2 (dk_at dksX0_can_0 17 rfl rfl)
theorem dX0_can_18 : decode cX0_can 18 = .ok (.goto 27, 3) := dk_167 0 27 (dk_at dksX0_can_0 18 rfl rfl)
theorem dX0_can_21 : decode cX0_can 21 = .ok (.aload_n 0, 1) := dk_42 (dk_at dksX0_can_0 21 rfl rfl)
theorem dX0_can_22 : decode cX0_can 22 = .ok (.getfield 16, 3) := dk_180 0 16 (dk_at dksX0_can_1 0 rfl rfl)
theorem dX0_can_25 : decode cX0_can 25 = .ok (.iload_n 1, 1) := dk_27 (dk_at dksX0_can_1 3 rfl rfl)
theorem dX0_can_26 : decode cX0_can 26 = .ok (.iload_n 2, 1) := dk_28 (dk_at dksX0_can_1 4 rfl rfl)
theorem dX0_can_27 : decode cX0_can 27 = .ok (.aload_n 0, 1) := dk_42 (dk_at dksX0_can_1 5 rfl rfl)
theorem dX0_can_28 : decode cX0_can 28 = .ok (.getfield 16, 3) := dk_180 0 16 (dk_at dksX0_can_1 6 rfl rfl)
theorem dX0_can_31 : decode cX0_can 31 = .ok (.getfield 124, 3) := dk_180 0 124 (dk_at dksX0_can_1 9 rfl rfl)
theorem dX0_can_34 : decode cX0_can 34 = .ok (.invokevirtual 244, 3) := dk_182 0 244 (dk_at dksX0_can_1 12 rfl rfl)
theorem dX0_can_37 : decode cX0_can 37 = .ok (.ifCond .eq 7, 3) := dk_153 0 7 (dk_at dksX0_can_1 15 rfl rfl)
theorem dX0_can_40 : decode cX0_can 40 = .ok (.iconst 1, 1) := dk_4 (dk_at dksX0_can_1 18 rfl rfl)
theorem dX0_can_41 : decode cX0_can 41 = .ok (.goto 4, 3) := dk_167 0 4 (dk_at dksX0_can_1 19 rfl rfl)
theorem dX0_can_44 : decode cX0_can 44 = .ok (.iconst 0, 1) := dk_3 (dk_at dksX0_can_1 22 rfl rfl)
theorem dX0_can_45 : decode cX0_can 45 = .ok (.ireturn, 1) := dk_172 (dk_at dksX0_can_1 23 rfl rfl)
abbrev cX0_odds : ByteArray := prog_1_method_38_code
def yX0_odds : MethodName := ⟨RX0, "odds", "(IIII)I"⟩
def dkwX0_odds_4 : List UInt8 := [180, 0, 250, 42, 180, 0, 253, 184, 1, 4, 108, 172]
abbrev dktX0_odds_4 : List UInt8 := dkwX0_odds_4 ++ []
def dkwX0_odds_3 : List UInt8 := [28, 29, 182, 1, 0, 21, 4, 154, 0, 10, 42, 180, 0, 250, 167, 0, 7, 42, 180, 0, 253, 42]
abbrev dktX0_odds_3 : List UInt8 := dkwX0_odds_3 ++ dktX0_odds_4
def dkwX0_odds_2 : List UInt8 := [154, 0, 6, 16, 254, 172, 42, 42, 180, 0, 26, 27, 185, 0, 130, 2, 0, 192, 0, 51, 42, 180, 0, 16]
abbrev dktX0_odds_2 : List UInt8 := dkwX0_odds_2 ++ dktX0_odds_3
def dkwX0_odds_1 : List UInt8 := [3, 4, 184, 0, 3, 154, 0, 5, 2, 172, 42, 180, 0, 16, 180, 0, 101, 28, 50, 180, 0, 111]
abbrev dktX0_odds_1 : List UInt8 := dkwX0_odds_1 ++ dktX0_odds_2
def dkwX0_odds_0 : List UInt8 := [42, 27, 182, 0, 148, 153, 0, 27, 28, 184, 0, 94, 153, 0, 20, 29, 184, 0, 237, 153, 0, 13, 21, 4]
abbrev dktX0_odds_0 : List UInt8 := dkwX0_odds_0 ++ dktX0_odds_1
theorem dksX0_odds_0 : cX0_odds.data.toList.drop 0 = dktX0_odds_0 := by decide +kernel
theorem dksX0_odds_1 : cX0_odds.data.toList.drop 24 = dktX0_odds_1 := dk_seg dksX0_odds_0 24 rfl rfl
theorem dksX0_odds_2 : cX0_odds.data.toList.drop 46 = dktX0_odds_2 := dk_seg dksX0_odds_1 22 rfl rfl
theorem dksX0_odds_3 : cX0_odds.data.toList.drop 70 = dktX0_odds_3 := dk_seg dksX0_odds_2 24 rfl rfl
theorem dksX0_odds_4 : cX0_odds.data.toList.drop 92 = dktX0_odds_4 := dk_seg dksX0_odds_3 22 rfl rfl
theorem dX0_odds_0 : decode cX0_odds 0 = .ok (.aload_n 0, 1) := dk_42 (dk_at dksX0_odds_0 0 rfl rfl)
theorem dX0_odds_1 : decode cX0_odds 1 = .ok (.iload_n 1, 1) := dk_27 (dk_at dksX0_odds_0 1 rfl rfl)
theorem dX0_odds_2 : decode cX0_odds 2 = .ok (.invokevirtual 148, 3) := dk_182 0 148 (dk_at dksX0_odds_0 2 rfl rfl)
theorem dX0_odds_5 : decode cX0_odds 5 = .ok (.ifCond .eq 27, 3) := dk_153 0 27 (dk_at dksX0_odds_0 5 rfl rfl)
theorem dX0_odds_8 : decode cX0_odds 8 = .ok (.iload_n 2, 1) := dk_28 (dk_at dksX0_odds_0 8 rfl rfl)
theorem dX0_odds_9 : decode cX0_odds 9 = .ok (.invokestatic 94, 3) := dk_184 0 94 (dk_at dksX0_odds_0 9 rfl rfl)
theorem dX0_odds_12 : decode cX0_odds 12 = .ok (.ifCond .eq 20, 3) := dk_153 0 20 (dk_at dksX0_odds_0 12 rfl rfl)
theorem dX0_odds_15 : decode cX0_odds 15 = .ok (.iload_n 3, 1) := dk_29 (dk_at dksX0_odds_0 15 rfl rfl)
theorem dX0_odds_16 : decode cX0_odds 16 = .ok (.invokestatic 237, 3) := dk_184 0 237 (dk_at dksX0_odds_0 16 rfl rfl)
theorem dX0_odds_19 : decode cX0_odds 19 = .ok (.ifCond .eq 13, 3) := dk_153 0 13 (dk_at dksX0_odds_0 19 rfl rfl)
theorem dX0_odds_22 : decode cX0_odds 22 = .ok (.iload 4, 2) := dk_21 4 (dk_at dksX0_odds_0 22 rfl rfl)
theorem dX0_odds_24 : decode cX0_odds 24 = .ok (.iconst 0, 1) := dk_3 (dk_at dksX0_odds_1 0 rfl rfl)
theorem dX0_odds_25 : decode cX0_odds 25 = .ok (.iconst 1, 1) := dk_4 (dk_at dksX0_odds_1 1 rfl rfl)
theorem dX0_odds_26 : decode cX0_odds 26 = .ok (.invokestatic 3, 3) := dk_184 0 3 (dk_at dksX0_odds_1 2 rfl rfl)
theorem dX0_odds_29 : decode cX0_odds 29 = .ok (.ifCond .ne 5, 3) := dk_154 0 5 (dk_at dksX0_odds_1 5 rfl rfl)
theorem dX0_odds_32 : decode cX0_odds 32 = .ok (.iconst (-1), 1) := dk_2 (dk_at dksX0_odds_1 8 rfl rfl)
theorem dX0_odds_33 : decode cX0_odds 33 = .ok (.ireturn, 1) := dk_172 (dk_at dksX0_odds_1 9 rfl rfl)
theorem dX0_odds_34 : decode cX0_odds 34 = .ok (.aload_n 0, 1) := dk_42 (dk_at dksX0_odds_1 10 rfl rfl)
theorem dX0_odds_35 : decode cX0_odds 35 = .ok (.getfield 16, 3) := dk_180 0 16 (dk_at dksX0_odds_1 11 rfl rfl)
theorem dX0_odds_38 : decode cX0_odds 38 = .ok (.getfield 101, 3) := dk_180 0 101 (dk_at dksX0_odds_1 14 rfl rfl)
theorem dX0_odds_41 : decode cX0_odds 41 = .ok (.iload_n 2, 1) := dk_28 (dk_at dksX0_odds_1 17 rfl rfl)
theorem dX0_odds_42 : decode cX0_odds 42 = .ok (.aaload, 1) := dk_50 (dk_at dksX0_odds_1 18 rfl rfl)
theorem dX0_odds_43 : decode cX0_odds 43 = .ok (.getfield 111, 3) := dk_180 0 111 (dk_at dksX0_odds_1 19 rfl rfl)
theorem dX0_odds_46 : decode cX0_odds 46 = .ok (.ifCond .ne 6, 3) := dk_154 0 6 (dk_at dksX0_odds_2 0 rfl rfl)
theorem dX0_odds_49 : decode cX0_odds 49 = .ok (.bipush (-2), 2) := dk_16 254 (dk_at dksX0_odds_2 3 rfl rfl)
theorem dX0_odds_51 : decode cX0_odds 51 = .ok (.ireturn, 1) := dk_172 (dk_at dksX0_odds_2 5 rfl rfl)
theorem dX0_odds_52 : decode cX0_odds 52 = .ok (.aload_n 0, 1) := dk_42 (dk_at dksX0_odds_2 6 rfl rfl)
theorem dX0_odds_53 : decode cX0_odds 53 = .ok (.aload_n 0, 1) := dk_42 (dk_at dksX0_odds_2 7 rfl rfl)
theorem dX0_odds_54 : decode cX0_odds 54 = .ok (.getfield 26, 3) := dk_180 0 26 (dk_at dksX0_odds_2 8 rfl rfl)
theorem dX0_odds_57 : decode cX0_odds 57 = .ok (.iload_n 1, 1) := dk_27 (dk_at dksX0_odds_2 11 rfl rfl)
theorem dX0_odds_58 : decode cX0_odds 58 = .ok (.invokeinterface 130 2, 5) := by decide +kernel
theorem dX0_odds_63 : decode cX0_odds 63 = .ok (.checkcast 51, 3) := dk_192 0 51 (dk_at dksX0_odds_2 17 rfl rfl)
theorem dX0_odds_66 : decode cX0_odds 66 = .ok (.aload_n 0, 1) := dk_42 (dk_at dksX0_odds_2 20 rfl rfl)
theorem dX0_odds_67 : decode cX0_odds 67 = .ok (.getfield 16, 3) := dk_180 0 16 (dk_at dksX0_odds_2 21 rfl rfl)
theorem dX0_odds_70 : decode cX0_odds 70 = .ok (.iload_n 2, 1) := dk_28 (dk_at dksX0_odds_3 0 rfl rfl)
theorem dX0_odds_71 : decode cX0_odds 71 = .ok (.iload_n 3, 1) := dk_29 (dk_at dksX0_odds_3 1 rfl rfl)
theorem dX0_odds_72 : decode cX0_odds 72 = .ok (.invokevirtual 256, 3) := dk_182 1 0 (dk_at dksX0_odds_3 2 rfl rfl)
theorem dX0_odds_75 : decode cX0_odds 75 = .ok (.iload 4, 2) := dk_21 4 (dk_at dksX0_odds_3 5 rfl rfl)
theorem dX0_odds_77 : decode cX0_odds 77 = .ok (.ifCond .ne 10, 3) := dk_154 0 10 (dk_at dksX0_odds_3 7 rfl rfl)
theorem dX0_odds_80 : decode cX0_odds 80 = .ok (.aload_n 0, 1) := dk_42 (dk_at dksX0_odds_3 10 rfl rfl)
theorem dX0_odds_81 : decode cX0_odds 81 = .ok (.getfield 250, 3) := dk_180 0 250 (dk_at dksX0_odds_3 11 rfl rfl)
theorem dX0_odds_84 : decode cX0_odds 84 = .ok (.goto 7, 3) := dk_167 0 7 (dk_at dksX0_odds_3 14 rfl rfl)
theorem dX0_odds_87 : decode cX0_odds 87 = .ok (.aload_n 0, 1) := dk_42 (dk_at dksX0_odds_3 17 rfl rfl)
theorem dX0_odds_88 : decode cX0_odds 88 = .ok (.getfield 253, 3) := dk_180 0 253 (dk_at dksX0_odds_3 18 rfl rfl)
theorem dX0_odds_91 : decode cX0_odds 91 = .ok (.aload_n 0, 1) := dk_42 (dk_at dksX0_odds_3 21 rfl rfl)
theorem dX0_odds_92 : decode cX0_odds 92 = .ok (.getfield 250, 3) := dk_180 0 250 (dk_at dksX0_odds_4 0 rfl rfl)
theorem dX0_odds_95 : decode cX0_odds 95 = .ok (.aload_n 0, 1) := dk_42 (dk_at dksX0_odds_4 3 rfl rfl)
theorem dX0_odds_96 : decode cX0_odds 96 = .ok (.getfield 253, 3) := dk_180 0 253 (dk_at dksX0_odds_4 4 rfl rfl)
theorem dX0_odds_99 : decode cX0_odds 99 = .ok (.invokestatic 260, 3) := dk_184 1 4 (dk_at dksX0_odds_4 7 rfl rfl)
theorem dX0_odds_102 : decode cX0_odds 102 = .ok (.idiv, 1) := dk_108 (dk_at dksX0_odds_4 10 rfl rfl)
theorem dX0_odds_103 : decode cX0_odds 103 = .ok (.ireturn, 1) := dk_172 (dk_at dksX0_odds_4 11 rfl rfl)
abbrev cX0_findOdds : ByteArray := prog_1_method_36_code
def yX0_findOdds : MethodName := ⟨RX0, "findOdds", "(LCoinNotThere$Watcher;LCoinNotThere$Routine;II)V"⟩
def dkwX0_findOdds_6 : List UInt8 := [104, 181, 0, 253, 177]
abbrev dktX0_findOdds_6 : List UInt8 := dkwX0_findOdds_6 ++ []
def dkwX0_findOdds_5 : List UInt8 := [153, 0, 15, 43, 44, 29, 182, 0, 159, 21, 10, 104, 167, 0, 4, 3, 181, 0, 250, 42, 16, 81, 21, 8]
abbrev dktX0_findOdds_5 : List UInt8 := dkwX0_findOdds_5 ++ dktX0_findOdds_6
def dkwX0_findOdds_4 : List UInt8 := [100, 184, 0, 247, 104, 96, 54, 10, 42, 44, 43, 180, 0, 134, 21, 6, 44, 180, 0, 124, 182, 0, 244]
abbrev dktX0_findOdds_4 : List UInt8 := dkwX0_findOdds_4 ++ dktX0_findOdds_5
def dkwX0_findOdds_3 : List UInt8 := [21, 6, 21, 4, 182, 0, 240, 54, 9, 21, 9, 21, 7, 104, 21, 8, 21, 9, 100, 3, 21, 7, 16, 6]
abbrev dktX0_findOdds_3 : List UInt8 := dkwX0_findOdds_3 ++ dktX0_findOdds_4
def dkwX0_findOdds_2 : List UInt8 := [21, 8, 43, 44, 29, 21, 9, 21, 4, 182, 0, 240, 96, 54, 8, 132, 9, 1, 167, 255, 232, 43, 44, 29]
abbrev dktX0_findOdds_2 : List UInt8 := dkwX0_findOdds_2 ++ dktX0_findOdds_3
def dkwX0_findOdds_1 : List UInt8 := [43, 180, 0, 134, 7, 108, 100, 184, 0, 247, 54, 7, 3, 54, 8, 3, 54, 9, 21, 9, 7, 162, 0, 24]
abbrev dktX0_findOdds_1 : List UInt8 := dkwX0_findOdds_1 ++ dktX0_findOdds_2
def dkwX0_findOdds_0 : List UInt8 := [44, 180, 0, 101, 29, 50, 180, 0, 111, 54, 5, 21, 5, 16, 10, 108, 54, 6, 4, 21, 5, 16, 10, 112]
abbrev dktX0_findOdds_0 : List UInt8 := dkwX0_findOdds_0 ++ dktX0_findOdds_1
theorem dksX0_findOdds_0 : cX0_findOdds.data.toList.drop 0 = dktX0_findOdds_0 := by decide +kernel
theorem dksX0_findOdds_1 : cX0_findOdds.data.toList.drop 24 = dktX0_findOdds_1 := dk_seg dksX0_findOdds_0 24 rfl rfl
theorem dksX0_findOdds_2 : cX0_findOdds.data.toList.drop 48 = dktX0_findOdds_2 := dk_seg dksX0_findOdds_1 24 rfl rfl
theorem dksX0_findOdds_3 : cX0_findOdds.data.toList.drop 72 = dktX0_findOdds_3 := dk_seg dksX0_findOdds_2 24 rfl rfl
theorem dksX0_findOdds_4 : cX0_findOdds.data.toList.drop 96 = dktX0_findOdds_4 := dk_seg dksX0_findOdds_3 24 rfl rfl
theorem dksX0_findOdds_5 : cX0_findOdds.data.toList.drop 119 = dktX0_findOdds_5 := dk_seg dksX0_findOdds_4 23 rfl rfl
theorem dksX0_findOdds_6 : cX0_findOdds.data.toList.drop 143 = dktX0_findOdds_6 := dk_seg dksX0_findOdds_5 24 rfl rfl
theorem dX0_findOdds_0 : decode cX0_findOdds 0 = .ok (.aload_n 2, 1) := dk_44 (dk_at dksX0_findOdds_0 0 rfl rfl)
theorem dX0_findOdds_1 : decode cX0_findOdds 1 = .ok (.getfield 101, 3) := dk_180 0 101 (dk_at dksX0_findOdds_0 1 rfl rfl)
theorem dX0_findOdds_4 : decode cX0_findOdds 4 = .ok (.iload_n 3, 1) := dk_29 (dk_at dksX0_findOdds_0 4 rfl rfl)
theorem dX0_findOdds_5 : decode cX0_findOdds 5 = .ok (.aaload, 1) := dk_50 (dk_at dksX0_findOdds_0 5 rfl rfl)
theorem dX0_findOdds_6 : decode cX0_findOdds 6 = .ok (.getfield 111, 3) := dk_180 0 111 (dk_at dksX0_findOdds_0 6 rfl rfl)
theorem dX0_findOdds_9 : decode cX0_findOdds 9 = .ok (.istore 5, 2) := dk_54 5 (dk_at dksX0_findOdds_0 9 rfl rfl)
theorem dX0_findOdds_11 : decode cX0_findOdds 11 = .ok (.iload 5, 2) := dk_21 5 (dk_at dksX0_findOdds_0 11 rfl rfl)
theorem dX0_findOdds_13 : decode cX0_findOdds 13 = .ok (.bipush 10, 2) := dk_16 10 (dk_at dksX0_findOdds_0 13 rfl rfl)
theorem dX0_findOdds_15 : decode cX0_findOdds 15 = .ok (.idiv, 1) := dk_108 (dk_at dksX0_findOdds_0 15 rfl rfl)
theorem dX0_findOdds_16 : decode cX0_findOdds 16 = .ok (.istore 6, 2) := dk_54 6 (dk_at dksX0_findOdds_0 16 rfl rfl)
theorem dX0_findOdds_18 : decode cX0_findOdds 18 = .ok (.iconst 1, 1) := dk_4 (dk_at dksX0_findOdds_0 18 rfl rfl)
theorem dX0_findOdds_19 : decode cX0_findOdds 19 = .ok (.iload 5, 2) := dk_21 5 (dk_at dksX0_findOdds_0 19 rfl rfl)
theorem dX0_findOdds_21 : decode cX0_findOdds 21 = .ok (.bipush 10, 2) := dk_16 10 (dk_at dksX0_findOdds_0 21 rfl rfl)
theorem dX0_findOdds_23 : decode cX0_findOdds 23 = .ok (.irem, 1) := dk_112 (dk_at dksX0_findOdds_0 23 rfl rfl)
theorem dX0_findOdds_24 : decode cX0_findOdds 24 = .ok (.aload_n 1, 1) := dk_43 (dk_at dksX0_findOdds_1 0 rfl rfl)
theorem dX0_findOdds_25 : decode cX0_findOdds 25 = .ok (.getfield 134, 3) := dk_180 0 134 (dk_at dksX0_findOdds_1 1 rfl rfl)
theorem dX0_findOdds_28 : decode cX0_findOdds 28 = .ok (.iconst 4, 1) := dk_7 (dk_at dksX0_findOdds_1 4 rfl rfl)
theorem dX0_findOdds_29 : decode cX0_findOdds 29 = .ok (.idiv, 1) := dk_108 (dk_at dksX0_findOdds_1 5 rfl rfl)
theorem dX0_findOdds_30 : decode cX0_findOdds 30 = .ok (.isub, 1) := dk_100 (dk_at dksX0_findOdds_1 6 rfl rfl)
theorem dX0_findOdds_31 : decode cX0_findOdds 31 = .ok (.invokestatic 247, 3) := dk_184 0 247 (dk_at dksX0_findOdds_1 7 rfl rfl)
theorem dX0_findOdds_34 : decode cX0_findOdds 34 = .ok (.istore 7, 2) := dk_54 7 (dk_at dksX0_findOdds_1 10 rfl rfl)
theorem dX0_findOdds_36 : decode cX0_findOdds 36 = .ok (.iconst 0, 1) := dk_3 (dk_at dksX0_findOdds_1 12 rfl rfl)
theorem dX0_findOdds_37 : decode cX0_findOdds 37 = .ok (.istore 8, 2) := dk_54 8 (dk_at dksX0_findOdds_1 13 rfl rfl)
theorem dX0_findOdds_39 : decode cX0_findOdds 39 = .ok (.iconst 0, 1) := dk_3 (dk_at dksX0_findOdds_1 15 rfl rfl)
theorem dX0_findOdds_40 : decode cX0_findOdds 40 = .ok (.istore 9, 2) := dk_54 9 (dk_at dksX0_findOdds_1 16 rfl rfl)
theorem dX0_findOdds_42 : decode cX0_findOdds 42 = .ok (.iload 9, 2) := dk_21 9 (dk_at dksX0_findOdds_1 18 rfl rfl)
theorem dX0_findOdds_44 : decode cX0_findOdds 44 = .ok (.iconst 4, 1) := dk_7 (dk_at dksX0_findOdds_1 20 rfl rfl)
theorem dX0_findOdds_45 : decode cX0_findOdds 45 = .ok (.if_icmp .ge 24, 3) := dk_162 0 24 (dk_at dksX0_findOdds_1 21 rfl rfl)
theorem dX0_findOdds_48 : decode cX0_findOdds 48 = .ok (.iload 8, 2) := dk_21 8 (dk_at dksX0_findOdds_2 0 rfl rfl)
theorem dX0_findOdds_50 : decode cX0_findOdds 50 = .ok (.aload_n 1, 1) := dk_43 (dk_at dksX0_findOdds_2 2 rfl rfl)
theorem dX0_findOdds_51 : decode cX0_findOdds 51 = .ok (.aload_n 2, 1) := dk_44 (dk_at dksX0_findOdds_2 3 rfl rfl)
theorem dX0_findOdds_52 : decode cX0_findOdds 52 = .ok (.iload_n 3, 1) := dk_29 (dk_at dksX0_findOdds_2 4 rfl rfl)
theorem dX0_findOdds_53 : decode cX0_findOdds 53 = .ok (.iload 9, 2) := dk_21 9 (dk_at dksX0_findOdds_2 5 rfl rfl)
theorem dX0_findOdds_55 : decode cX0_findOdds 55 = .ok (.iload 4, 2) := dk_21 4 (dk_at dksX0_findOdds_2 7 rfl rfl)
theorem dX0_findOdds_57 : decode cX0_findOdds 57 = .ok (.invokevirtual 240, 3) := dk_182 0 240 (dk_at dksX0_findOdds_2 9 rfl rfl)
theorem dX0_findOdds_60 : decode cX0_findOdds 60 = .ok (.iadd, 1) := dk_96 (dk_at dksX0_findOdds_2 12 rfl rfl)
theorem dX0_findOdds_61 : decode cX0_findOdds 61 = .ok (.istore 8, 2) := dk_54 8 (dk_at dksX0_findOdds_2 13 rfl rfl)
theorem dX0_findOdds_63 : decode cX0_findOdds 63 = .ok (.iinc 9 1, 3) := dk_132 9 1 (dk_at dksX0_findOdds_2 15 rfl rfl)
theorem dX0_findOdds_66 : decode cX0_findOdds 66 = .ok (.goto (-24), 3) := dk_167 255 232 (dk_at dksX0_findOdds_2 18 rfl rfl)
theorem dX0_findOdds_69 : decode cX0_findOdds 69 = .ok (.aload_n 1, 1) := dk_43 (dk_at dksX0_findOdds_2 21 rfl rfl)
theorem dX0_findOdds_70 : decode cX0_findOdds 70 = .ok (.aload_n 2, 1) := dk_44 (dk_at dksX0_findOdds_2 22 rfl rfl)
theorem dX0_findOdds_71 : decode cX0_findOdds 71 = .ok (.iload_n 3, 1) := dk_29 (dk_at dksX0_findOdds_2 23 rfl rfl)
theorem dX0_findOdds_72 : decode cX0_findOdds 72 = .ok (.iload 6, 2) := dk_21 6 (dk_at dksX0_findOdds_3 0 rfl rfl)
theorem dX0_findOdds_74 : decode cX0_findOdds 74 = .ok (.iload 4, 2) := dk_21 4 (dk_at dksX0_findOdds_3 2 rfl rfl)
theorem dX0_findOdds_76 : decode cX0_findOdds 76 = .ok (.invokevirtual 240, 3) := dk_182 0 240 (dk_at dksX0_findOdds_3 4 rfl rfl)
theorem dX0_findOdds_79 : decode cX0_findOdds 79 = .ok (.istore 9, 2) := dk_54 9 (dk_at dksX0_findOdds_3 7 rfl rfl)
theorem dX0_findOdds_81 : decode cX0_findOdds 81 = .ok (.iload 9, 2) := dk_21 9 (dk_at dksX0_findOdds_3 9 rfl rfl)
theorem dX0_findOdds_83 : decode cX0_findOdds 83 = .ok (.iload 7, 2) := dk_21 7 (dk_at dksX0_findOdds_3 11 rfl rfl)
theorem dX0_findOdds_85 : decode cX0_findOdds 85 = .ok (.imul, 1) := dk_104 (dk_at dksX0_findOdds_3 13 rfl rfl)
theorem dX0_findOdds_86 : decode cX0_findOdds 86 = .ok (.iload 8, 2) := dk_21 8 (dk_at dksX0_findOdds_3 14 rfl rfl)
theorem dX0_findOdds_88 : decode cX0_findOdds 88 = .ok (.iload 9, 2) := dk_21 9 (dk_at dksX0_findOdds_3 16 rfl rfl)
theorem dX0_findOdds_90 : decode cX0_findOdds 90 = .ok (.isub, 1) := dk_100 (dk_at dksX0_findOdds_3 18 rfl rfl)
theorem dX0_findOdds_91 : decode cX0_findOdds 91 = .ok (.iconst 0, 1) := dk_3 (dk_at dksX0_findOdds_3 19 rfl rfl)
theorem dX0_findOdds_92 : decode cX0_findOdds 92 = .ok (.iload 7, 2) := dk_21 7 (dk_at dksX0_findOdds_3 20 rfl rfl)
theorem dX0_findOdds_94 : decode cX0_findOdds 94 = .ok (.bipush 6, 2) := dk_16 6 (dk_at dksX0_findOdds_3 22 rfl rfl)
theorem dX0_findOdds_96 : decode cX0_findOdds 96 = .ok (.isub, 1) := dk_100 (dk_at dksX0_findOdds_4 0 rfl rfl)
theorem dX0_findOdds_97 : decode cX0_findOdds 97 = .ok (.invokestatic 247, 3) := dk_184 0 247 (dk_at dksX0_findOdds_4 1 rfl rfl)
theorem dX0_findOdds_100 : decode cX0_findOdds 100 = .ok (.imul, 1) := dk_104 (dk_at dksX0_findOdds_4 4 rfl rfl)
theorem dX0_findOdds_101 : decode cX0_findOdds 101 = .ok (.iadd, 1) := dk_96 (dk_at dksX0_findOdds_4 5 rfl rfl)
theorem dX0_findOdds_102 : decode cX0_findOdds 102 = .ok (.istore 10, 2) := dk_54 10 (dk_at dksX0_findOdds_4 6 rfl rfl)
theorem dX0_findOdds_104 : decode cX0_findOdds 104 = .ok (.aload_n 0, 1) := dk_42 (dk_at dksX0_findOdds_4 8 rfl rfl)
theorem dX0_findOdds_105 : decode cX0_findOdds 105 = .ok (.aload_n 2, 1) := dk_44 (dk_at dksX0_findOdds_4 9 rfl rfl)
theorem dX0_findOdds_106 : decode cX0_findOdds 106 = .ok (.aload_n 1, 1) := dk_43 (dk_at dksX0_findOdds_4 10 rfl rfl)
theorem dX0_findOdds_107 : decode cX0_findOdds 107 = .ok (.getfield 134, 3) := dk_180 0 134 (dk_at dksX0_findOdds_4 11 rfl rfl)
theorem dX0_findOdds_110 : decode cX0_findOdds 110 = .ok (.iload 6, 2) := dk_21 6 (dk_at dksX0_findOdds_4 14 rfl rfl)
theorem dX0_findOdds_112 : decode cX0_findOdds 112 = .ok (.aload_n 2, 1) := dk_44 (dk_at dksX0_findOdds_4 16 rfl rfl)
theorem dX0_findOdds_113 : decode cX0_findOdds 113 = .ok (.getfield 124, 3) := dk_180 0 124 (dk_at dksX0_findOdds_4 17 rfl rfl)
theorem dX0_findOdds_116 : decode cX0_findOdds 116 = .ok (.invokevirtual 244, 3) := dk_182 0 244 (dk_at dksX0_findOdds_4 20 rfl rfl)
theorem dX0_findOdds_119 : decode cX0_findOdds 119 = .ok (.ifCond .eq 15, 3) := dk_153 0 15 (dk_at dksX0_findOdds_5 0 rfl rfl)
theorem dX0_findOdds_122 : decode cX0_findOdds 122 = .ok (.aload_n 1, 1) := dk_43 (dk_at dksX0_findOdds_5 3 rfl rfl)
theorem dX0_findOdds_123 : decode cX0_findOdds 123 = .ok (.aload_n 2, 1) := dk_44 (dk_at dksX0_findOdds_5 4 rfl rfl)
theorem dX0_findOdds_124 : decode cX0_findOdds 124 = .ok (.iload_n 3, 1) := dk_29 (dk_at dksX0_findOdds_5 5 rfl rfl)
theorem dX0_findOdds_125 : decode cX0_findOdds 125 = .ok (.invokevirtual 159, 3) := dk_182 0 159 (dk_at dksX0_findOdds_5 6 rfl rfl)
theorem dX0_findOdds_128 : decode cX0_findOdds 128 = .ok (.iload 10, 2) := dk_21 10 (dk_at dksX0_findOdds_5 9 rfl rfl)
theorem dX0_findOdds_130 : decode cX0_findOdds 130 = .ok (.imul, 1) := dk_104 (dk_at dksX0_findOdds_5 11 rfl rfl)
theorem dX0_findOdds_131 : decode cX0_findOdds 131 = .ok (.goto 4, 3) := dk_167 0 4 (dk_at dksX0_findOdds_5 12 rfl rfl)
theorem dX0_findOdds_134 : decode cX0_findOdds 134 = .ok (.iconst 0, 1) := dk_3 (dk_at dksX0_findOdds_5 15 rfl rfl)
theorem dX0_findOdds_135 : decode cX0_findOdds 135 = .ok (.putfield 250, 3) := dk_181 0 250 (dk_at dksX0_findOdds_5 16 rfl rfl)
theorem dX0_findOdds_138 : decode cX0_findOdds 138 = .ok (.aload_n 0, 1) := dk_42 (dk_at dksX0_findOdds_5 19 rfl rfl)
theorem dX0_findOdds_139 : decode cX0_findOdds 139 = .ok (.bipush 81, 2) := dk_16 81 (dk_at dksX0_findOdds_5 20 rfl rfl)
theorem dX0_findOdds_141 : decode cX0_findOdds 141 = .ok (.iload 8, 2) := dk_21 8 (dk_at dksX0_findOdds_5 22 rfl rfl)
theorem dX0_findOdds_143 : decode cX0_findOdds 143 = .ok (.imul, 1) := dk_104 (dk_at dksX0_findOdds_6 0 rfl rfl)
theorem dX0_findOdds_144 : decode cX0_findOdds 144 = .ok (.putfield 253, 3) := dk_181 0 253 (dk_at dksX0_findOdds_6 1 rfl rfl)
theorem dX0_findOdds_147 : decode cX0_findOdds 147 = .ok (.return_, 1) := dk_177 (dk_at dksX0_findOdds_6 4 rfl rfl)
abbrev cX0_common : ByteArray := prog_1_method_37_code
def yX0_common : MethodName := ⟨RX0, "common", "(II)I"⟩
def dkwX0_common_0 : List UInt8 := [26, 61, 27, 62, 29, 153, 0, 16, 28, 29, 112, 54, 4, 29, 61, 21, 4, 62, 167, 255, 242, 28, 172]
abbrev dktX0_common_0 : List UInt8 := dkwX0_common_0 ++ []
theorem dksX0_common_0 : cX0_common.data.toList.drop 0 = dktX0_common_0 := by decide +kernel
theorem dX0_common_0 : decode cX0_common 0 = .ok (.iload_n 0, 1) := dk_26 (dk_at dksX0_common_0 0 rfl rfl)
theorem dX0_common_1 : decode cX0_common 1 = .ok (.istore_n 2, 1) := dk_61 (dk_at dksX0_common_0 1 rfl rfl)
theorem dX0_common_2 : decode cX0_common 2 = .ok (.iload_n 1, 1) := dk_27 (dk_at dksX0_common_0 2 rfl rfl)
theorem dX0_common_3 : decode cX0_common 3 = .ok (.istore_n 3, 1) := dk_62 (dk_at dksX0_common_0 3 rfl rfl)
theorem dX0_common_4 : decode cX0_common 4 = .ok (.iload_n 3, 1) := dk_29 (dk_at dksX0_common_0 4 rfl rfl)
theorem dX0_common_5 : decode cX0_common 5 = .ok (.ifCond .eq 16, 3) := dk_153 0 16 (dk_at dksX0_common_0 5 rfl rfl)
theorem dX0_common_8 : decode cX0_common 8 = .ok (.iload_n 2, 1) := dk_28 (dk_at dksX0_common_0 8 rfl rfl)
theorem dX0_common_9 : decode cX0_common 9 = .ok (.iload_n 3, 1) := dk_29 (dk_at dksX0_common_0 9 rfl rfl)
theorem dX0_common_10 : decode cX0_common 10 = .ok (.irem, 1) := dk_112 (dk_at dksX0_common_0 10 rfl rfl)
theorem dX0_common_11 : decode cX0_common 11 = .ok (.istore 4, 2) := dk_54 4 (dk_at dksX0_common_0 11 rfl rfl)
theorem dX0_common_13 : decode cX0_common 13 = .ok (.iload_n 3, 1) := dk_29 (dk_at dksX0_common_0 13 rfl rfl)
theorem dX0_common_14 : decode cX0_common 14 = .ok (.istore_n 2, 1) := dk_61 (dk_at dksX0_common_0 14 rfl rfl)
theorem dX0_common_15 : decode cX0_common 15 = .ok (.iload 4, 2) := dk_21 4 (dk_at dksX0_common_0 15 rfl rfl)
theorem dX0_common_17 : decode cX0_common 17 = .ok (.istore_n 3, 1) := dk_62 (dk_at dksX0_common_0 17 rfl rfl)
theorem dX0_common_18 : decode cX0_common 18 = .ok (.goto (-14), 3) := dk_167 255 242 (dk_at dksX0_common_0 18 rfl rfl)
theorem dX0_common_21 : decode cX0_common 21 = .ok (.iload_n 2, 1) := dk_28 (dk_at dksX0_common_0 21 rfl rfl)
theorem dX0_common_22 : decode cX0_common 22 = .ok (.ireturn, 1) := dk_172 (dk_at dksX0_common_0 22 rfl rfl)
abbrev cX0_sees : ByteArray := prog_1_method_41_code
def yX0_sees : MethodName := ⟨RX0, "sees", "(II)I"⟩
def dkwX0_sees_3 : List UInt8 := [182, 1, 9, 172]
abbrev dktX0_sees_3 : List UInt8 := dkwX0_sees_3 ++ []
def dkwX0_sees_2 : List UInt8 := [27, 50, 180, 0, 111, 154, 0, 8, 16, 254, 167, 0, 17, 42, 42, 180, 0, 16, 42, 180, 0, 26, 27, 28]
abbrev dktX0_sees_2 : List UInt8 := dkwX0_sees_2 ++ dktX0_sees_3
def dkwX0_sees_1 : List UInt8 := [156, 0, 17, 42, 42, 180, 0, 16, 42, 180, 0, 26, 28, 182, 1, 13, 172, 42, 180, 0, 16, 180, 0, 101]
abbrev dktX0_sees_1 : List UInt8 := dkwX0_sees_1 ++ dktX0_sees_2
def dkwX0_sees_0 : List UInt8 := [27, 2, 159, 0, 10, 27, 184, 0, 94, 153, 0, 10, 28, 184, 0, 237, 154, 0, 5, 2, 172, 27]
abbrev dktX0_sees_0 : List UInt8 := dkwX0_sees_0 ++ dktX0_sees_1
theorem dksX0_sees_0 : cX0_sees.data.toList.drop 0 = dktX0_sees_0 := by decide +kernel
theorem dksX0_sees_1 : cX0_sees.data.toList.drop 22 = dktX0_sees_1 := dk_seg dksX0_sees_0 22 rfl rfl
theorem dksX0_sees_2 : cX0_sees.data.toList.drop 46 = dktX0_sees_2 := dk_seg dksX0_sees_1 24 rfl rfl
theorem dksX0_sees_3 : cX0_sees.data.toList.drop 70 = dktX0_sees_3 := dk_seg dksX0_sees_2 24 rfl rfl
theorem dX0_sees_0 : decode cX0_sees 0 = .ok (.iload_n 1, 1) := dk_27 (dk_at dksX0_sees_0 0 rfl rfl)
theorem dX0_sees_1 : decode cX0_sees 1 = .ok (.iconst (-1), 1) := dk_2 (dk_at dksX0_sees_0 1 rfl rfl)
theorem dX0_sees_2 : decode cX0_sees 2 = .ok (.if_icmp .eq 10, 3) := dk_159 0 10 (dk_at dksX0_sees_0 2 rfl rfl)
theorem dX0_sees_5 : decode cX0_sees 5 = .ok (.iload_n 1, 1) := dk_27 (dk_at dksX0_sees_0 5 rfl rfl)
theorem dX0_sees_6 : decode cX0_sees 6 = .ok (.invokestatic 94, 3) := dk_184 0 94 (dk_at dksX0_sees_0 6 rfl rfl)
theorem dX0_sees_9 : decode cX0_sees 9 = .ok (.ifCond .eq 10, 3) := dk_153 0 10 (dk_at dksX0_sees_0 9 rfl rfl)
theorem dX0_sees_12 : decode cX0_sees 12 = .ok (.iload_n 2, 1) := dk_28 (dk_at dksX0_sees_0 12 rfl rfl)
theorem dX0_sees_13 : decode cX0_sees 13 = .ok (.invokestatic 237, 3) := dk_184 0 237 (dk_at dksX0_sees_0 13 rfl rfl)
theorem dX0_sees_16 : decode cX0_sees 16 = .ok (.ifCond .ne 5, 3) := dk_154 0 5 (dk_at dksX0_sees_0 16 rfl rfl)
theorem dX0_sees_19 : decode cX0_sees 19 = .ok (.iconst (-1), 1) := dk_2 (dk_at dksX0_sees_0 19 rfl rfl)
theorem dX0_sees_20 : decode cX0_sees 20 = .ok (.ireturn, 1) := dk_172 (dk_at dksX0_sees_0 20 rfl rfl)
theorem dX0_sees_21 : decode cX0_sees 21 = .ok (.iload_n 1, 1) := dk_27 (dk_at dksX0_sees_0 21 rfl rfl)
theorem dX0_sees_22 : decode cX0_sees 22 = .ok (.ifCond .ge 17, 3) := dk_156 0 17 (dk_at dksX0_sees_1 0 rfl rfl)
theorem dX0_sees_25 : decode cX0_sees 25 = .ok (.aload_n 0, 1) := dk_42 (dk_at dksX0_sees_1 3 rfl rfl)
theorem dX0_sees_26 : decode cX0_sees 26 = .ok (.aload_n 0, 1) := dk_42 (dk_at dksX0_sees_1 4 rfl rfl)
theorem dX0_sees_27 : decode cX0_sees 27 = .ok (.getfield 16, 3) := dk_180 0 16 (dk_at dksX0_sees_1 5 rfl rfl)
theorem dX0_sees_30 : decode cX0_sees 30 = .ok (.aload_n 0, 1) := dk_42 (dk_at dksX0_sees_1 8 rfl rfl)
theorem dX0_sees_31 : decode cX0_sees 31 = .ok (.getfield 26, 3) := dk_180 0 26 (dk_at dksX0_sees_1 9 rfl rfl)
theorem dX0_sees_34 : decode cX0_sees 34 = .ok (.iload_n 2, 1) := dk_28 (dk_at dksX0_sees_1 12 rfl rfl)
theorem dX0_sees_35 : decode cX0_sees 35 = .ok (.invokevirtual 269, 3) := dk_182 1 13 (dk_at dksX0_sees_1 13 rfl rfl)
theorem dX0_sees_38 : decode cX0_sees 38 = .ok (.ireturn, 1) := dk_172 (dk_at dksX0_sees_1 16 rfl rfl)
theorem dX0_sees_39 : decode cX0_sees 39 = .ok (.aload_n 0, 1) := dk_42 (dk_at dksX0_sees_1 17 rfl rfl)
theorem dX0_sees_40 : decode cX0_sees 40 = .ok (.getfield 16, 3) := dk_180 0 16 (dk_at dksX0_sees_1 18 rfl rfl)
theorem dX0_sees_43 : decode cX0_sees 43 = .ok (.getfield 101, 3) := dk_180 0 101 (dk_at dksX0_sees_1 21 rfl rfl)
theorem dX0_sees_46 : decode cX0_sees 46 = .ok (.iload_n 1, 1) := dk_27 (dk_at dksX0_sees_2 0 rfl rfl)
theorem dX0_sees_47 : decode cX0_sees 47 = .ok (.aaload, 1) := dk_50 (dk_at dksX0_sees_2 1 rfl rfl)
theorem dX0_sees_48 : decode cX0_sees 48 = .ok (.getfield 111, 3) := dk_180 0 111 (dk_at dksX0_sees_2 2 rfl rfl)
theorem dX0_sees_51 : decode cX0_sees 51 = .ok (.ifCond .ne 8, 3) := dk_154 0 8 (dk_at dksX0_sees_2 5 rfl rfl)
theorem dX0_sees_54 : decode cX0_sees 54 = .ok (.bipush (-2), 2) := dk_16 254 (dk_at dksX0_sees_2 8 rfl rfl)
theorem dX0_sees_56 : decode cX0_sees 56 = .ok (.goto 17, 3) := dk_167 0 17 (dk_at dksX0_sees_2 10 rfl rfl)
theorem dX0_sees_59 : decode cX0_sees 59 = .ok (.aload_n 0, 1) := dk_42 (dk_at dksX0_sees_2 13 rfl rfl)
theorem dX0_sees_60 : decode cX0_sees 60 = .ok (.aload_n 0, 1) := dk_42 (dk_at dksX0_sees_2 14 rfl rfl)
theorem dX0_sees_61 : decode cX0_sees 61 = .ok (.getfield 16, 3) := dk_180 0 16 (dk_at dksX0_sees_2 15 rfl rfl)
theorem dX0_sees_64 : decode cX0_sees 64 = .ok (.aload_n 0, 1) := dk_42 (dk_at dksX0_sees_2 18 rfl rfl)
theorem dX0_sees_65 : decode cX0_sees 65 = .ok (.getfield 26, 3) := dk_180 0 26 (dk_at dksX0_sees_2 19 rfl rfl)
theorem dX0_sees_68 : decode cX0_sees 68 = .ok (.iload_n 1, 1) := dk_27 (dk_at dksX0_sees_2 22 rfl rfl)
theorem dX0_sees_69 : decode cX0_sees 69 = .ok (.iload_n 2, 1) := dk_28 (dk_at dksX0_sees_2 23 rfl rfl)
theorem dX0_sees_70 : decode cX0_sees 70 = .ok (.invokevirtual 265, 3) := dk_182 1 9 (dk_at dksX0_sees_3 0 rfl rfl)
theorem dX0_sees_73 : decode cX0_sees 73 = .ok (.ireturn, 1) := dk_172 (dk_at dksX0_sees_3 3 rfl rfl)
abbrev cX0_seesAll : ByteArray := prog_1_method_40_code
def yX0_seesAll : MethodName := ⟨RX0, "seesAll", "(LCoinNotThere$Routine;Ljava/util/List;I)I"⟩
def dkwX0_seesAll_1 : List UInt8 := [96, 54, 4, 132, 5, 1, 167, 255, 232, 21, 4, 172]
abbrev dktX0_seesAll_1 : List UInt8 := dkwX0_seesAll_1 ++ []
def dkwX0_seesAll_0 : List UInt8 := [3, 54, 4, 3, 54, 5, 21, 5, 16, 16, 162, 0, 23, 21, 4, 42, 43, 44, 21, 5, 29, 182, 1, 9]
abbrev dktX0_seesAll_0 : List UInt8 := dkwX0_seesAll_0 ++ dktX0_seesAll_1
theorem dksX0_seesAll_0 : cX0_seesAll.data.toList.drop 0 = dktX0_seesAll_0 := by decide +kernel
theorem dksX0_seesAll_1 : cX0_seesAll.data.toList.drop 24 = dktX0_seesAll_1 := dk_seg dksX0_seesAll_0 24 rfl rfl
theorem dX0_seesAll_0 : decode cX0_seesAll 0 = .ok (.iconst 0, 1) := dk_3 (dk_at dksX0_seesAll_0 0 rfl rfl)
theorem dX0_seesAll_1 : decode cX0_seesAll 1 = .ok (.istore 4, 2) := dk_54 4 (dk_at dksX0_seesAll_0 1 rfl rfl)
theorem dX0_seesAll_3 : decode cX0_seesAll 3 = .ok (.iconst 0, 1) := dk_3 (dk_at dksX0_seesAll_0 3 rfl rfl)
theorem dX0_seesAll_4 : decode cX0_seesAll 4 = .ok (.istore 5, 2) := dk_54 5 (dk_at dksX0_seesAll_0 4 rfl rfl)
theorem dX0_seesAll_6 : decode cX0_seesAll 6 = .ok (.iload 5, 2) := dk_21 5 (dk_at dksX0_seesAll_0 6 rfl rfl)
theorem dX0_seesAll_8 : decode cX0_seesAll 8 = .ok (.bipush 16, 2) := dk_16 16 (dk_at dksX0_seesAll_0 8 rfl rfl)
theorem dX0_seesAll_10 : decode cX0_seesAll 10 = .ok (.if_icmp .ge 23, 3) := dk_162 0 23 (dk_at dksX0_seesAll_0 10 rfl rfl)
theorem dX0_seesAll_13 : decode cX0_seesAll 13 = .ok (.iload 4, 2) := dk_21 4 (dk_at dksX0_seesAll_0 13 rfl rfl)
theorem dX0_seesAll_15 : decode cX0_seesAll 15 = .ok (.aload_n 0, 1) := dk_42 (dk_at dksX0_seesAll_0 15 rfl rfl)
theorem dX0_seesAll_16 : decode cX0_seesAll 16 = .ok (.aload_n 1, 1) := dk_43 (dk_at dksX0_seesAll_0 16 rfl rfl)
theorem dX0_seesAll_17 : decode cX0_seesAll 17 = .ok (.aload_n 2, 1) := dk_44 (dk_at dksX0_seesAll_0 17 rfl rfl)
theorem dX0_seesAll_18 : decode cX0_seesAll 18 = .ok (.iload 5, 2) := dk_21 5 (dk_at dksX0_seesAll_0 18 rfl rfl)
theorem dX0_seesAll_20 : decode cX0_seesAll 20 = .ok (.iload_n 3, 1) := dk_29 (dk_at dksX0_seesAll_0 20 rfl rfl)
theorem dX0_seesAll_21 : decode cX0_seesAll 21 = .ok (.invokevirtual 265, 3) := dk_182 1 9 (dk_at dksX0_seesAll_0 21 rfl rfl)
theorem dX0_seesAll_24 : decode cX0_seesAll 24 = .ok (.iadd, 1) := dk_96 (dk_at dksX0_seesAll_1 0 rfl rfl)
theorem dX0_seesAll_25 : decode cX0_seesAll 25 = .ok (.istore 4, 2) := dk_54 4 (dk_at dksX0_seesAll_1 1 rfl rfl)
theorem dX0_seesAll_27 : decode cX0_seesAll 27 = .ok (.iinc 5 1, 3) := dk_132 5 1 (dk_at dksX0_seesAll_1 3 rfl rfl)
theorem dX0_seesAll_30 : decode cX0_seesAll 30 = .ok (.goto (-24), 3) := dk_167 255 232 (dk_at dksX0_seesAll_1 6 rfl rfl)
theorem dX0_seesAll_33 : decode cX0_seesAll 33 = .ok (.iload 4, 2) := dk_21 4 (dk_at dksX0_seesAll_1 9 rfl rfl)
theorem dX0_seesAll_35 : decode cX0_seesAll 35 = .ok (.ireturn, 1) := dk_172 (dk_at dksX0_seesAll_1 11 rfl rfl)
abbrev cX0_seesOf : ByteArray := prog_1_method_39_code
def yX0_seesOf : MethodName := ⟨RX0, "seesOf", "(LCoinNotThere$Routine;Ljava/util/List;II)I"⟩
def dkwX0_seesOf_3 : List UInt8 := [132, 6, 1, 167, 255, 190, 21, 5, 172]
abbrev dktX0_seesOf_3 : List UInt8 := dkwX0_seesOf_3 ++ []
def dkwX0_seesOf_2 : List UInt8 := [182, 1, 0, 21, 5, 20, 1, 7, 42, 180, 0, 250, 133, 105, 42, 180, 0, 253, 133, 109, 136, 96, 54, 5]
abbrev dktX0_seesOf_2 : List UInt8 := dkwX0_seesOf_2 ++ dktX0_seesOf_3
def dkwX0_seesOf_1 : List UInt8 := [180, 0, 111, 158, 0, 49, 42, 44, 21, 6, 185, 0, 130, 2, 0, 192, 0, 51, 43, 29, 21, 4]
abbrev dktX0_seesOf_1 : List UInt8 := dkwX0_seesOf_1 ++ dktX0_seesOf_2
def dkwX0_seesOf_0 : List UInt8 := [3, 54, 5, 3, 54, 6, 21, 6, 44, 185, 0, 88, 1, 0, 162, 0, 61, 43, 180, 0, 101, 29, 50]
abbrev dktX0_seesOf_0 : List UInt8 := dkwX0_seesOf_0 ++ dktX0_seesOf_1
theorem dksX0_seesOf_0 : cX0_seesOf.data.toList.drop 0 = dktX0_seesOf_0 := by decide +kernel
theorem dksX0_seesOf_1 : cX0_seesOf.data.toList.drop 23 = dktX0_seesOf_1 := dk_seg dksX0_seesOf_0 23 rfl rfl
theorem dksX0_seesOf_2 : cX0_seesOf.data.toList.drop 45 = dktX0_seesOf_2 := dk_seg dksX0_seesOf_1 22 rfl rfl
theorem dksX0_seesOf_3 : cX0_seesOf.data.toList.drop 69 = dktX0_seesOf_3 := dk_seg dksX0_seesOf_2 24 rfl rfl
theorem dX0_seesOf_0 : decode cX0_seesOf 0 = .ok (.iconst 0, 1) := dk_3 (dk_at dksX0_seesOf_0 0 rfl rfl)
theorem dX0_seesOf_1 : decode cX0_seesOf 1 = .ok (.istore 5, 2) := dk_54 5 (dk_at dksX0_seesOf_0 1 rfl rfl)
theorem dX0_seesOf_3 : decode cX0_seesOf 3 = .ok (.iconst 0, 1) := dk_3 (dk_at dksX0_seesOf_0 3 rfl rfl)
theorem dX0_seesOf_4 : decode cX0_seesOf 4 = .ok (.istore 6, 2) := dk_54 6 (dk_at dksX0_seesOf_0 4 rfl rfl)
theorem dX0_seesOf_6 : decode cX0_seesOf 6 = .ok (.iload 6, 2) := dk_21 6 (dk_at dksX0_seesOf_0 6 rfl rfl)
theorem dX0_seesOf_8 : decode cX0_seesOf 8 = .ok (.aload_n 2, 1) := dk_44 (dk_at dksX0_seesOf_0 8 rfl rfl)
theorem dX0_seesOf_9 : decode cX0_seesOf 9 = .ok (.invokeinterface 88 1, 5) := by decide +kernel
theorem dX0_seesOf_14 : decode cX0_seesOf 14 = .ok (.if_icmp .ge 61, 3) := dk_162 0 61 (dk_at dksX0_seesOf_0 14 rfl rfl)
theorem dX0_seesOf_17 : decode cX0_seesOf 17 = .ok (.aload_n 1, 1) := dk_43 (dk_at dksX0_seesOf_0 17 rfl rfl)
theorem dX0_seesOf_18 : decode cX0_seesOf 18 = .ok (.getfield 101, 3) := dk_180 0 101 (dk_at dksX0_seesOf_0 18 rfl rfl)
theorem dX0_seesOf_21 : decode cX0_seesOf 21 = .ok (.iload_n 3, 1) := dk_29 (dk_at dksX0_seesOf_0 21 rfl rfl)
theorem dX0_seesOf_22 : decode cX0_seesOf 22 = .ok (.aaload, 1) := dk_50 (dk_at dksX0_seesOf_0 22 rfl rfl)
theorem dX0_seesOf_23 : decode cX0_seesOf 23 = .ok (.getfield 111, 3) := dk_180 0 111 (dk_at dksX0_seesOf_1 0 rfl rfl)
theorem dX0_seesOf_26 : decode cX0_seesOf 26 = .ok (.ifCond .le 49, 3) := dk_158 0 49 (dk_at dksX0_seesOf_1 3 rfl rfl)
theorem dX0_seesOf_29 : decode cX0_seesOf 29 = .ok (.aload_n 0, 1) := dk_42 (dk_at dksX0_seesOf_1 6 rfl rfl)
theorem dX0_seesOf_30 : decode cX0_seesOf 30 = .ok (.aload_n 2, 1) := dk_44 (dk_at dksX0_seesOf_1 7 rfl rfl)
theorem dX0_seesOf_31 : decode cX0_seesOf 31 = .ok (.iload 6, 2) := dk_21 6 (dk_at dksX0_seesOf_1 8 rfl rfl)
theorem dX0_seesOf_33 : decode cX0_seesOf 33 = .ok (.invokeinterface 130 2, 5) := by decide +kernel
theorem dX0_seesOf_38 : decode cX0_seesOf 38 = .ok (.checkcast 51, 3) := dk_192 0 51 (dk_at dksX0_seesOf_1 15 rfl rfl)
theorem dX0_seesOf_41 : decode cX0_seesOf 41 = .ok (.aload_n 1, 1) := dk_43 (dk_at dksX0_seesOf_1 18 rfl rfl)
theorem dX0_seesOf_42 : decode cX0_seesOf 42 = .ok (.iload_n 3, 1) := dk_29 (dk_at dksX0_seesOf_1 19 rfl rfl)
theorem dX0_seesOf_43 : decode cX0_seesOf 43 = .ok (.iload 4, 2) := dk_21 4 (dk_at dksX0_seesOf_1 20 rfl rfl)
theorem dX0_seesOf_45 : decode cX0_seesOf 45 = .ok (.invokevirtual 256, 3) := dk_182 1 0 (dk_at dksX0_seesOf_2 0 rfl rfl)
theorem dX0_seesOf_48 : decode cX0_seesOf 48 = .ok (.iload 5, 2) := dk_21 5 (dk_at dksX0_seesOf_2 3 rfl rfl)
theorem dX0_seesOf_50 : decode cX0_seesOf 50 = .ok (.ldc2_w 263, 3) := dk_20 1 7 (dk_at dksX0_seesOf_2 5 rfl rfl)
theorem dX0_seesOf_53 : decode cX0_seesOf 53 = .ok (.aload_n 0, 1) := dk_42 (dk_at dksX0_seesOf_2 8 rfl rfl)
theorem dX0_seesOf_54 : decode cX0_seesOf 54 = .ok (.getfield 250, 3) := dk_180 0 250 (dk_at dksX0_seesOf_2 9 rfl rfl)
theorem dX0_seesOf_57 : decode cX0_seesOf 57 = .ok (.i2l, 1) := dk_133 (dk_at dksX0_seesOf_2 12 rfl rfl)
theorem dX0_seesOf_58 : decode cX0_seesOf 58 = .ok (.lmul, 1) := dk_105 (dk_at dksX0_seesOf_2 13 rfl rfl)
theorem dX0_seesOf_59 : decode cX0_seesOf 59 = .ok (.aload_n 0, 1) := dk_42 (dk_at dksX0_seesOf_2 14 rfl rfl)
theorem dX0_seesOf_60 : decode cX0_seesOf 60 = .ok (.getfield 253, 3) := dk_180 0 253 (dk_at dksX0_seesOf_2 15 rfl rfl)
theorem dX0_seesOf_63 : decode cX0_seesOf 63 = .ok (.i2l, 1) := dk_133 (dk_at dksX0_seesOf_2 18 rfl rfl)
theorem dX0_seesOf_64 : decode cX0_seesOf 64 = .ok (.ldiv, 1) := dk_109 (dk_at dksX0_seesOf_2 19 rfl rfl)
theorem dX0_seesOf_65 : decode cX0_seesOf 65 = .ok (.l2i, 1) := dk_136 (dk_at dksX0_seesOf_2 20 rfl rfl)
theorem dX0_seesOf_66 : decode cX0_seesOf 66 = .ok (.iadd, 1) := dk_96 (dk_at dksX0_seesOf_2 21 rfl rfl)
theorem dX0_seesOf_67 : decode cX0_seesOf 67 = .ok (.istore 5, 2) := dk_54 5 (dk_at dksX0_seesOf_2 22 rfl rfl)
theorem dX0_seesOf_69 : decode cX0_seesOf 69 = .ok (.iinc 6 1, 3) := dk_132 6 1 (dk_at dksX0_seesOf_3 0 rfl rfl)
theorem dX0_seesOf_72 : decode cX0_seesOf 72 = .ok (.goto (-66), 3) := dk_167 255 190 (dk_at dksX0_seesOf_3 3 rfl rfl)
theorem dX0_seesOf_75 : decode cX0_seesOf 75 = .ok (.iload 5, 2) := dk_21 5 (dk_at dksX0_seesOf_3 6 rfl rfl)
theorem dX0_seesOf_77 : decode cX0_seesOf 77 = .ok (.ireturn, 1) := dk_172 (dk_at dksX0_seesOf_3 8 rfl rfl)
abbrev cX0_quiet : ByteArray := prog_1_method_42_code
def yX0_quiet : MethodName := ⟨RX0, "quiet", "(II)I"⟩
def dkwX0_quiet_7 : List UInt8 := [21, 4, 167, 0, 5, 21, 5, 172]
abbrev dktX0_quiet_7 : List UInt8 := dkwX0_quiet_7 ++ []
def dkwX0_quiet_6 : List UInt8 := [21, 5, 162, 0, 11, 21, 6, 54, 4, 21, 7, 54, 5, 132, 6, 1, 167, 255, 149, 28, 154, 0, 8]
abbrev dktX0_quiet_6 : List UInt8 := dkwX0_quiet_6 ++ dktX0_quiet_7
def dkwX0_quiet_5 : List UInt8 := [42, 180, 0, 20, 42, 180, 0, 26, 21, 6, 4, 182, 1, 9, 54, 7, 21, 4, 155, 0, 10, 21, 7]
abbrev dktX0_quiet_5 : List UInt8 := dkwX0_quiet_5 ++ dktX0_quiet_6
def dkwX0_quiet_4 : List UInt8 := [180, 0, 101, 27, 50, 3, 181, 0, 111, 42, 180, 0, 20, 180, 0, 101, 21, 6, 50, 29, 181, 0, 111, 42]
abbrev dktX0_quiet_4 : List UInt8 := dkwX0_quiet_4 ++ dktX0_quiet_5
def dkwX0_quiet_3 : List UInt8 := [50, 180, 0, 111, 154, 0, 78, 42, 180, 0, 20, 42, 180, 0, 16, 182, 0, 213, 42, 180, 0, 20]
abbrev dktX0_quiet_3 : List UInt8 := dkwX0_quiet_3 ++ dktX0_quiet_4
def dkwX0_quiet_2 : List UInt8 := [54, 6, 21, 6, 16, 16, 162, 0, 106, 21, 6, 27, 159, 0, 19, 42, 180, 0, 16, 180, 0, 101, 21, 6]
abbrev dktX0_quiet_2 : List UInt8 := dkwX0_quiet_2 ++ dktX0_quiet_3
def dkwX0_quiet_1 : List UInt8 := [180, 0, 101, 27, 50, 180, 0, 111, 62, 29, 154, 0, 6, 16, 254, 172, 16, 252, 54, 4, 3, 54, 5, 3]
abbrev dktX0_quiet_1 : List UInt8 := dkwX0_quiet_1 ++ dktX0_quiet_2
def dkwX0_quiet_0 : List UInt8 := [27, 184, 0, 94, 153, 0, 12, 28, 3, 4, 184, 0, 3, 154, 0, 5, 2, 172, 42, 180, 0, 16]
abbrev dktX0_quiet_0 : List UInt8 := dkwX0_quiet_0 ++ dktX0_quiet_1
theorem dksX0_quiet_0 : cX0_quiet.data.toList.drop 0 = dktX0_quiet_0 := by decide +kernel
theorem dksX0_quiet_1 : cX0_quiet.data.toList.drop 22 = dktX0_quiet_1 := dk_seg dksX0_quiet_0 22 rfl rfl
theorem dksX0_quiet_2 : cX0_quiet.data.toList.drop 46 = dktX0_quiet_2 := dk_seg dksX0_quiet_1 24 rfl rfl
theorem dksX0_quiet_3 : cX0_quiet.data.toList.drop 70 = dktX0_quiet_3 := dk_seg dksX0_quiet_2 24 rfl rfl
theorem dksX0_quiet_4 : cX0_quiet.data.toList.drop 92 = dktX0_quiet_4 := dk_seg dksX0_quiet_3 22 rfl rfl
theorem dksX0_quiet_5 : cX0_quiet.data.toList.drop 116 = dktX0_quiet_5 := dk_seg dksX0_quiet_4 24 rfl rfl
theorem dksX0_quiet_6 : cX0_quiet.data.toList.drop 139 = dktX0_quiet_6 := dk_seg dksX0_quiet_5 23 rfl rfl
theorem dksX0_quiet_7 : cX0_quiet.data.toList.drop 162 = dktX0_quiet_7 := dk_seg dksX0_quiet_6 23 rfl rfl
theorem dX0_quiet_0 : decode cX0_quiet 0 = .ok (.iload_n 1, 1) := dk_27 (dk_at dksX0_quiet_0 0 rfl rfl)
theorem dX0_quiet_1 : decode cX0_quiet 1 = .ok (.invokestatic 94, 3) := dk_184 0 94 (dk_at dksX0_quiet_0 1 rfl rfl)
theorem dX0_quiet_4 : decode cX0_quiet 4 = .ok (.ifCond .eq 12, 3) := dk_153 0 12 (dk_at dksX0_quiet_0 4 rfl rfl)
theorem dX0_quiet_7 : decode cX0_quiet 7 = .ok (.iload_n 2, 1) := dk_28 (dk_at dksX0_quiet_0 7 rfl rfl)
theorem dX0_quiet_8 : decode cX0_quiet 8 = .ok (.iconst 0, 1) := dk_3 (dk_at dksX0_quiet_0 8 rfl rfl)
theorem dX0_quiet_9 : decode cX0_quiet 9 = .ok (.iconst 1, 1) := dk_4 (dk_at dksX0_quiet_0 9 rfl rfl)
theorem dX0_quiet_10 : decode cX0_quiet 10 = .ok (.invokestatic 3, 3) := dk_184 0 3 (dk_at dksX0_quiet_0 10 rfl rfl)
theorem dX0_quiet_13 : decode cX0_quiet 13 = .ok (.ifCond .ne 5, 3) := dk_154 0 5 (dk_at dksX0_quiet_0 13 rfl rfl)
theorem dX0_quiet_16 : decode cX0_quiet 16 = .ok (.iconst (-1), 1) := dk_2 (dk_at dksX0_quiet_0 16 rfl rfl)
theorem dX0_quiet_17 : decode cX0_quiet 17 = .ok (.ireturn, 1) := dk_172 (dk_at dksX0_quiet_0 17 rfl rfl)
theorem dX0_quiet_18 : decode cX0_quiet 18 = .ok (.aload_n 0, 1) := dk_42 (dk_at dksX0_quiet_0 18 rfl rfl)
theorem dX0_quiet_19 : decode cX0_quiet 19 = .ok (.getfield 16, 3) := dk_180 0 16 (dk_at dksX0_quiet_0 19 rfl rfl)
theorem dX0_quiet_22 : decode cX0_quiet 22 = .ok (.getfield 101, 3) := dk_180 0 101 (dk_at dksX0_quiet_1 0 rfl rfl)
theorem dX0_quiet_25 : decode cX0_quiet 25 = .ok (.iload_n 1, 1) := dk_27 (dk_at dksX0_quiet_1 3 rfl rfl)
theorem dX0_quiet_26 : decode cX0_quiet 26 = .ok (.aaload, 1) := dk_50 (dk_at dksX0_quiet_1 4 rfl rfl)
theorem dX0_quiet_27 : decode cX0_quiet 27 = .ok (.getfield 111, 3) := dk_180 0 111 (dk_at dksX0_quiet_1 5 rfl rfl)
theorem dX0_quiet_30 : decode cX0_quiet 30 = .ok (.istore_n 3, 1) := dk_62 (dk_at dksX0_quiet_1 8 rfl rfl)
theorem dX0_quiet_31 : decode cX0_quiet 31 = .ok (.iload_n 3, 1) := dk_29 (dk_at dksX0_quiet_1 9 rfl rfl)
theorem dX0_quiet_32 : decode cX0_quiet 32 = .ok (.ifCond .ne 6, 3) := dk_154 0 6 (dk_at dksX0_quiet_1 10 rfl rfl)
theorem dX0_quiet_35 : decode cX0_quiet 35 = .ok (.bipush (-2), 2) := dk_16 254 (dk_at dksX0_quiet_1 13 rfl rfl)
theorem dX0_quiet_37 : decode cX0_quiet 37 = .ok (.ireturn, 1) := dk_172 (dk_at dksX0_quiet_1 15 rfl rfl)
theorem dX0_quiet_38 : decode cX0_quiet 38 = .ok (.bipush (-4), 2) := dk_16 252 (dk_at dksX0_quiet_1 16 rfl rfl)
theorem dX0_quiet_40 : decode cX0_quiet 40 = .ok (.istore 4, 2) := dk_54 4 (dk_at dksX0_quiet_1 18 rfl rfl)
theorem dX0_quiet_42 : decode cX0_quiet 42 = .ok (.iconst 0, 1) := dk_3 (dk_at dksX0_quiet_1 20 rfl rfl)
theorem dX0_quiet_43 : decode cX0_quiet 43 = .ok (.istore 5, 2) := dk_54 5 (dk_at dksX0_quiet_1 21 rfl rfl)
theorem dX0_quiet_45 : decode cX0_quiet 45 = .ok (.iconst 0, 1) := dk_3 (dk_at dksX0_quiet_1 23 rfl rfl)
theorem dX0_quiet_46 : decode cX0_quiet 46 = .ok (.istore 6, 2) := dk_54 6 (dk_at dksX0_quiet_2 0 rfl rfl)
theorem dX0_quiet_48 : decode cX0_quiet 48 = .ok (.iload 6, 2) := dk_21 6 (dk_at dksX0_quiet_2 2 rfl rfl)
theorem dX0_quiet_50 : decode cX0_quiet 50 = .ok (.bipush 16, 2) := dk_16 16 (dk_at dksX0_quiet_2 4 rfl rfl)
theorem dX0_quiet_52 : decode cX0_quiet 52 = .ok (.if_icmp .ge 106, 3) := dk_162 0 106 (dk_at dksX0_quiet_2 6 rfl rfl)
theorem dX0_quiet_55 : decode cX0_quiet 55 = .ok (.iload 6, 2) := dk_21 6 (dk_at dksX0_quiet_2 9 rfl rfl)
theorem dX0_quiet_57 : decode cX0_quiet 57 = .ok (.iload_n 1, 1) := dk_27 (dk_at dksX0_quiet_2 11 rfl rfl)
theorem dX0_quiet_58 : decode cX0_quiet 58 = .ok (.if_icmp .eq 19, 3) := dk_159 0 19 (dk_at dksX0_quiet_2 12 rfl rfl)
theorem dX0_quiet_61 : decode cX0_quiet 61 = .ok (.aload_n 0, 1) := dk_42 (dk_at dksX0_quiet_2 15 rfl rfl)
theorem dX0_quiet_62 : decode cX0_quiet 62 = .ok (.getfield 16, 3) := dk_180 0 16 (dk_at dksX0_quiet_2 16 rfl rfl)
theorem dX0_quiet_65 : decode cX0_quiet 65 = .ok (.getfield 101, 3) := dk_180 0 101 (dk_at dksX0_quiet_2 19 rfl rfl)
theorem dX0_quiet_68 : decode cX0_quiet 68 = .ok (.iload 6, 2) := dk_21 6 (dk_at dksX0_quiet_2 22 rfl rfl)
theorem dX0_quiet_70 : decode cX0_quiet 70 = .ok (.aaload, 1) := dk_50 (dk_at dksX0_quiet_3 0 rfl rfl)
theorem dX0_quiet_71 : decode cX0_quiet 71 = .ok (.getfield 111, 3) := dk_180 0 111 (dk_at dksX0_quiet_3 1 rfl rfl)
theorem dX0_quiet_74 : decode cX0_quiet 74 = .ok (.ifCond .ne 78, 3) := dk_154 0 78 (dk_at dksX0_quiet_3 4 rfl rfl)
theorem dX0_quiet_77 : decode cX0_quiet 77 = .ok (.aload_n 0, 1) := dk_42 (dk_at dksX0_quiet_3 7 rfl rfl)
theorem dX0_quiet_78 : decode cX0_quiet 78 = .ok (.getfield 20, 3) := dk_180 0 20 (dk_at dksX0_quiet_3 8 rfl rfl)
theorem dX0_quiet_81 : decode cX0_quiet 81 = .ok (.aload_n 0, 1) := dk_42 (dk_at dksX0_quiet_3 11 rfl rfl)
theorem dX0_quiet_82 : decode cX0_quiet 82 = .ok (.getfield 16, 3) := dk_180 0 16 (dk_at dksX0_quiet_3 12 rfl rfl)
theorem dX0_quiet_85 : decode cX0_quiet 85 = .ok (.invokevirtual 213, 3) := dk_182 0 213 (dk_at dksX0_quiet_3 15 rfl rfl)
theorem dX0_quiet_88 : decode cX0_quiet 88 = .ok (.aload_n 0, 1) := dk_42 (dk_at dksX0_quiet_3 18 rfl rfl)
theorem dX0_quiet_89 : decode cX0_quiet 89 = .ok (.getfield 20, 3) := dk_180 0 20 (dk_at dksX0_quiet_3 19 rfl rfl)
theorem dX0_quiet_92 : decode cX0_quiet 92 = .ok (.getfield 101, 3) := dk_180 0 101 (dk_at dksX0_quiet_4 0 rfl rfl)
theorem dX0_quiet_95 : decode cX0_quiet 95 = .ok (.iload_n 1, 1) := dk_27 (dk_at dksX0_quiet_4 3 rfl rfl)
theorem dX0_quiet_96 : decode cX0_quiet 96 = .ok (.aaload, 1) := dk_50 (dk_at dksX0_quiet_4 4 rfl rfl)
theorem dX0_quiet_97 : decode cX0_quiet 97 = .ok (.iconst 0, 1) := dk_3 (dk_at dksX0_quiet_4 5 rfl rfl)
theorem dX0_quiet_98 : decode cX0_quiet 98 = .ok (.putfield 111, 3) := dk_181 0 111 (dk_at dksX0_quiet_4 6 rfl rfl)
theorem dX0_quiet_101 : decode cX0_quiet 101 = .ok (.aload_n 0, 1) := dk_42 (dk_at dksX0_quiet_4 9 rfl rfl)
theorem dX0_quiet_102 : decode cX0_quiet 102 = .ok (.getfield 20, 3) := dk_180 0 20 (dk_at dksX0_quiet_4 10 rfl rfl)
theorem dX0_quiet_105 : decode cX0_quiet 105 = .ok (.getfield 101, 3) := dk_180 0 101 (dk_at dksX0_quiet_4 13 rfl rfl)
theorem dX0_quiet_108 : decode cX0_quiet 108 = .ok (.iload 6, 2) := dk_21 6 (dk_at dksX0_quiet_4 16 rfl rfl)
theorem dX0_quiet_110 : decode cX0_quiet 110 = .ok (.aaload, 1) := dk_50 (dk_at dksX0_quiet_4 18 rfl rfl)
theorem dX0_quiet_111 : decode cX0_quiet 111 = .ok (.iload_n 3, 1) := dk_29 (dk_at dksX0_quiet_4 19 rfl rfl)
theorem dX0_quiet_112 : decode cX0_quiet 112 = .ok (.putfield 111, 3) := dk_181 0 111 (dk_at dksX0_quiet_4 20 rfl rfl)
theorem dX0_quiet_115 : decode cX0_quiet 115 = .ok (.aload_n 0, 1) := dk_42 (dk_at dksX0_quiet_4 23 rfl rfl)
theorem dX0_quiet_116 : decode cX0_quiet 116 = .ok (.aload_n 0, 1) := dk_42 (dk_at dksX0_quiet_5 0 rfl rfl)
theorem dX0_quiet_117 : decode cX0_quiet 117 = .ok (.getfield 20, 3) := dk_180 0 20 (dk_at dksX0_quiet_5 1 rfl rfl)
theorem dX0_quiet_120 : decode cX0_quiet 120 = .ok (.aload_n 0, 1) := dk_42 (dk_at dksX0_quiet_5 4 rfl rfl)
theorem dX0_quiet_121 : decode cX0_quiet 121 = .ok (.getfield 26, 3) := dk_180 0 26 (dk_at dksX0_quiet_5 5 rfl rfl)
theorem dX0_quiet_124 : decode cX0_quiet 124 = .ok (.iload 6, 2) := dk_21 6 (dk_at dksX0_quiet_5 8 rfl rfl)
theorem dX0_quiet_126 : decode cX0_quiet 126 = .ok (.iconst 1, 1) := dk_4 (dk_at dksX0_quiet_5 10 rfl rfl)
theorem dX0_quiet_127 : decode cX0_quiet 127 = .ok (.invokevirtual 265, 3) := dk_182 1 9 (dk_at dksX0_quiet_5 11 rfl rfl)
theorem dX0_quiet_130 : decode cX0_quiet 130 = .ok (.istore 7, 2) := dk_54 7 (dk_at dksX0_quiet_5 14 rfl rfl)
theorem dX0_quiet_132 : decode cX0_quiet 132 = .ok (.iload 4, 2) := dk_21 4 (dk_at dksX0_quiet_5 16 rfl rfl)
theorem dX0_quiet_134 : decode cX0_quiet 134 = .ok (.ifCond .lt 10, 3) := dk_155 0 10 (dk_at dksX0_quiet_5 18 rfl rfl)
theorem dX0_quiet_137 : decode cX0_quiet 137 = .ok (.iload 7, 2) := dk_21 7 (dk_at dksX0_quiet_5 21 rfl rfl)
theorem dX0_quiet_139 : decode cX0_quiet 139 = .ok (.iload 5, 2) := dk_21 5 (dk_at dksX0_quiet_6 0 rfl rfl)
theorem dX0_quiet_141 : decode cX0_quiet 141 = .ok (.if_icmp .ge 11, 3) := dk_162 0 11 (dk_at dksX0_quiet_6 2 rfl rfl)
theorem dX0_quiet_144 : decode cX0_quiet 144 = .ok (.iload 6, 2) := dk_21 6 (dk_at dksX0_quiet_6 5 rfl rfl)
theorem dX0_quiet_146 : decode cX0_quiet 146 = .ok (.istore 4, 2) := dk_54 4 (dk_at dksX0_quiet_6 7 rfl rfl)
theorem dX0_quiet_148 : decode cX0_quiet 148 = .ok (.iload 7, 2) := dk_21 7 (dk_at dksX0_quiet_6 9 rfl rfl)
theorem dX0_quiet_150 : decode cX0_quiet 150 = .ok (.istore 5, 2) := dk_54 5 (dk_at dksX0_quiet_6 11 rfl rfl)
theorem dX0_quiet_152 : decode cX0_quiet 152 = .ok (.iinc 6 1, 3) := dk_132 6 1 (dk_at dksX0_quiet_6 13 rfl rfl)
theorem dX0_quiet_155 : decode cX0_quiet 155 = .ok (.goto (-107), 3) := dk_167 255 149 (dk_at dksX0_quiet_6 16 rfl rfl)
theorem dX0_quiet_158 : decode cX0_quiet 158 = .ok (.iload_n 2, 1) := dk_28 (dk_at dksX0_quiet_6 19 rfl rfl)
theorem dX0_quiet_159 : decode cX0_quiet 159 = .ok (.ifCond .ne 8, 3) := dk_154 0 8 (dk_at dksX0_quiet_6 20 rfl rfl)
theorem dX0_quiet_162 : decode cX0_quiet 162 = .ok (.iload 4, 2) := dk_21 4 (dk_at dksX0_quiet_7 0 rfl rfl)
theorem dX0_quiet_164 : decode cX0_quiet 164 = .ok (.goto 5, 3) := dk_167 0 5 (dk_at dksX0_quiet_7 2 rfl rfl)
theorem dX0_quiet_167 : decode cX0_quiet 167 = .ok (.iload 5, 2) := dk_21 5 (dk_at dksX0_quiet_7 5 rfl rfl)
theorem dX0_quiet_169 : decode cX0_quiet 169 = .ok (.ireturn, 1) := dk_172 (dk_at dksX0_quiet_7 7 rfl rfl)
abbrev cX0_cover : ByteArray := prog_1_method_43_code
def yX0_cover : MethodName := ⟨RX0, "cover", "(IIII)I"⟩
def dkwX0_cover_5 : List UInt8 := [96, 181, 0, 166, 42, 180, 0, 166, 4, 100, 172]
abbrev dktX0_cover_5 : List UInt8 := dkwX0_cover_5 ++ []
def dkwX0_cover_4 : List UInt8 := [96, 29, 79, 42, 180, 0, 44, 7, 42, 180, 0, 166, 104, 6, 96, 21, 4, 79, 42, 89, 180, 0, 166, 4]
abbrev dktX0_cover_4 : List UInt8 := dkwX0_cover_4 ++ dktX0_cover_5
def dkwX0_cover_3 : List UInt8 := [180, 0, 44, 7, 42, 180, 0, 166, 104, 4, 96, 28, 79, 42, 180, 0, 44, 7, 42, 180, 0, 166, 104, 5]
abbrev dktX0_cover_3 : List UInt8 := dkwX0_cover_3 ++ dktX0_cover_4
def dkwX0_cover_2 : List UInt8 := [180, 0, 166, 16, 8, 160, 0, 6, 16, 253, 172, 42, 180, 0, 44, 7, 42, 180, 0, 166, 104, 27, 79, 42]
abbrev dktX0_cover_2 : List UInt8 := dkwX0_cover_2 ++ dktX0_cover_3
def dkwX0_cover_1 : List UInt8 := [6, 160, 0, 7, 29, 154, 0, 14, 21, 4, 3, 16, 99, 184, 0, 3, 154, 0, 5, 2, 172, 42]
abbrev dktX0_cover_1 : List UInt8 := dkwX0_cover_1 ++ dktX0_cover_2
def dkwX0_cover_0 : List UInt8 := [27, 184, 0, 94, 153, 0, 39, 28, 3, 6, 184, 0, 3, 153, 0, 30, 29, 184, 0, 98, 153, 0, 23, 28]
abbrev dktX0_cover_0 : List UInt8 := dkwX0_cover_0 ++ dktX0_cover_1
theorem dksX0_cover_0 : cX0_cover.data.toList.drop 0 = dktX0_cover_0 := by decide +kernel
theorem dksX0_cover_1 : cX0_cover.data.toList.drop 24 = dktX0_cover_1 := dk_seg dksX0_cover_0 24 rfl rfl
theorem dksX0_cover_2 : cX0_cover.data.toList.drop 46 = dktX0_cover_2 := dk_seg dksX0_cover_1 22 rfl rfl
theorem dksX0_cover_3 : cX0_cover.data.toList.drop 70 = dktX0_cover_3 := dk_seg dksX0_cover_2 24 rfl rfl
theorem dksX0_cover_4 : cX0_cover.data.toList.drop 94 = dktX0_cover_4 := dk_seg dksX0_cover_3 24 rfl rfl
theorem dksX0_cover_5 : cX0_cover.data.toList.drop 118 = dktX0_cover_5 := dk_seg dksX0_cover_4 24 rfl rfl
theorem dX0_cover_0 : decode cX0_cover 0 = .ok (.iload_n 1, 1) := dk_27 (dk_at dksX0_cover_0 0 rfl rfl)
theorem dX0_cover_1 : decode cX0_cover 1 = .ok (.invokestatic 94, 3) := dk_184 0 94 (dk_at dksX0_cover_0 1 rfl rfl)
theorem dX0_cover_4 : decode cX0_cover 4 = .ok (.ifCond .eq 39, 3) := dk_153 0 39 (dk_at dksX0_cover_0 4 rfl rfl)
theorem dX0_cover_7 : decode cX0_cover 7 = .ok (.iload_n 2, 1) := dk_28 (dk_at dksX0_cover_0 7 rfl rfl)
theorem dX0_cover_8 : decode cX0_cover 8 = .ok (.iconst 0, 1) := dk_3 (dk_at dksX0_cover_0 8 rfl rfl)
theorem dX0_cover_9 : decode cX0_cover 9 = .ok (.iconst 3, 1) := dk_6 (dk_at dksX0_cover_0 9 rfl rfl)
theorem dX0_cover_10 : decode cX0_cover 10 = .ok (.invokestatic 3, 3) := dk_184 0 3 (dk_at dksX0_cover_0 10 rfl rfl)
theorem dX0_cover_13 : decode cX0_cover 13 = .ok (.ifCond .eq 30, 3) := dk_153 0 30 (dk_at dksX0_cover_0 13 rfl rfl)
theorem dX0_cover_16 : decode cX0_cover 16 = .ok (.iload_n 3, 1) := dk_29 (dk_at dksX0_cover_0 16 rfl rfl)
theorem dX0_cover_17 : decode cX0_cover 17 = .ok (.invokestatic 98, 3) := dk_184 0 98 (dk_at dksX0_cover_0 17 rfl rfl)
theorem dX0_cover_20 : decode cX0_cover 20 = .ok (.ifCond .eq 23, 3) := dk_153 0 23 (dk_at dksX0_cover_0 20 rfl rfl)
theorem dX0_cover_23 : decode cX0_cover 23 = .ok (.iload_n 2, 1) := dk_28 (dk_at dksX0_cover_0 23 rfl rfl)
theorem dX0_cover_24 : decode cX0_cover 24 = .ok (.iconst 3, 1) := dk_6 (dk_at dksX0_cover_1 0 rfl rfl)
theorem dX0_cover_25 : decode cX0_cover 25 = .ok (.if_icmp .ne 7, 3) := dk_160 0 7 (dk_at dksX0_cover_1 1 rfl rfl)
theorem dX0_cover_28 : decode cX0_cover 28 = .ok (.iload_n 3, 1) := dk_29 (dk_at dksX0_cover_1 4 rfl rfl)
theorem dX0_cover_29 : decode cX0_cover 29 = .ok (.ifCond .ne 14, 3) := dk_154 0 14 (dk_at dksX0_cover_1 5 rfl rfl)
theorem dX0_cover_32 : decode cX0_cover 32 = .ok (.iload 4, 2) := dk_21 4 (dk_at dksX0_cover_1 8 rfl rfl)
theorem dX0_cover_34 : decode cX0_cover 34 = .ok (.iconst 0, 1) := dk_3 (dk_at dksX0_cover_1 10 rfl rfl)
theorem dX0_cover_35 : decode cX0_cover 35 = .ok (.bipush 99, 2) := dk_16 99 (dk_at dksX0_cover_1 11 rfl rfl)
theorem dX0_cover_37 : decode cX0_cover 37 = .ok (.invokestatic 3, 3) := dk_184 0 3 (dk_at dksX0_cover_1 13 rfl rfl)
theorem dX0_cover_40 : decode cX0_cover 40 = .ok (.ifCond .ne 5, 3) := dk_154 0 5 (dk_at dksX0_cover_1 16 rfl rfl)
theorem dX0_cover_43 : decode cX0_cover 43 = .ok (.iconst (-1), 1) := dk_2 (dk_at dksX0_cover_1 19 rfl rfl)
theorem dX0_cover_44 : decode cX0_cover 44 = .ok (.ireturn, 1) := dk_172 (dk_at dksX0_cover_1 20 rfl rfl)
theorem dX0_cover_45 : decode cX0_cover 45 = .ok (.aload_n 0, 1) := dk_42 (dk_at dksX0_cover_1 21 rfl rfl)
theorem dX0_cover_46 : decode cX0_cover 46 = .ok (.getfield 166, 3) := dk_180 0 166 (dk_at dksX0_cover_2 0 rfl rfl)
theorem dX0_cover_49 : decode cX0_cover 49 = .ok (.bipush 8, 2) := dk_16 8 (dk_at dksX0_cover_2 3 rfl rfl)
theorem dX0_cover_51 : decode cX0_cover 51 = .ok (.if_icmp .ne 6, 3) := dk_160 0 6 (dk_at dksX0_cover_2 5 rfl rfl)
theorem dX0_cover_54 : decode cX0_cover 54 = .ok (.bipush (-3), 2) := dk_16 253 (dk_at dksX0_cover_2 8 rfl rfl)
theorem dX0_cover_56 : decode cX0_cover 56 = .ok (.ireturn, 1) := dk_172 (dk_at dksX0_cover_2 10 rfl rfl)
theorem dX0_cover_57 : decode cX0_cover 57 = .ok (.aload_n 0, 1) := dk_42 (dk_at dksX0_cover_2 11 rfl rfl)
theorem dX0_cover_58 : decode cX0_cover 58 = .ok (.getfield 44, 3) := dk_180 0 44 (dk_at dksX0_cover_2 12 rfl rfl)
theorem dX0_cover_61 : decode cX0_cover 61 = .ok (.iconst 4, 1) := dk_7 (dk_at dksX0_cover_2 15 rfl rfl)
theorem dX0_cover_62 : decode cX0_cover 62 = .ok (.aload_n 0, 1) := dk_42 (dk_at dksX0_cover_2 16 rfl rfl)
theorem dX0_cover_63 : decode cX0_cover 63 = .ok (.getfield 166, 3) := dk_180 0 166 (dk_at dksX0_cover_2 17 rfl rfl)
theorem dX0_cover_66 : decode cX0_cover 66 = .ok (.imul, 1) := dk_104 (dk_at dksX0_cover_2 20 rfl rfl)
theorem dX0_cover_67 : decode cX0_cover 67 = .ok (.iload_n 1, 1) := dk_27 (dk_at dksX0_cover_2 21 rfl rfl)
theorem dX0_cover_68 : decode cX0_cover 68 = .ok (.iastore, 1) := dk_79 (dk_at dksX0_cover_2 22 rfl rfl)
theorem dX0_cover_69 : decode cX0_cover 69 = .ok (.aload_n 0, 1) := dk_42 (dk_at dksX0_cover_2 23 rfl rfl)
theorem dX0_cover_70 : decode cX0_cover 70 = .ok (.getfield 44, 3) := dk_180 0 44 (dk_at dksX0_cover_3 0 rfl rfl)
theorem dX0_cover_73 : decode cX0_cover 73 = .ok (.iconst 4, 1) := dk_7 (dk_at dksX0_cover_3 3 rfl rfl)
theorem dX0_cover_74 : decode cX0_cover 74 = .ok (.aload_n 0, 1) := dk_42 (dk_at dksX0_cover_3 4 rfl rfl)
theorem dX0_cover_75 : decode cX0_cover 75 = .ok (.getfield 166, 3) := dk_180 0 166 (dk_at dksX0_cover_3 5 rfl rfl)
theorem dX0_cover_78 : decode cX0_cover 78 = .ok (.imul, 1) := dk_104 (dk_at dksX0_cover_3 8 rfl rfl)
theorem dX0_cover_79 : decode cX0_cover 79 = .ok (.iconst 1, 1) := dk_4 (dk_at dksX0_cover_3 9 rfl rfl)
theorem dX0_cover_80 : decode cX0_cover 80 = .ok (.iadd, 1) := dk_96 (dk_at dksX0_cover_3 10 rfl rfl)
theorem dX0_cover_81 : decode cX0_cover 81 = .ok (.iload_n 2, 1) := dk_28 (dk_at dksX0_cover_3 11 rfl rfl)
theorem dX0_cover_82 : decode cX0_cover 82 = .ok (.iastore, 1) := dk_79 (dk_at dksX0_cover_3 12 rfl rfl)
theorem dX0_cover_83 : decode cX0_cover 83 = .ok (.aload_n 0, 1) := dk_42 (dk_at dksX0_cover_3 13 rfl rfl)
theorem dX0_cover_84 : decode cX0_cover 84 = .ok (.getfield 44, 3) := dk_180 0 44 (dk_at dksX0_cover_3 14 rfl rfl)
theorem dX0_cover_87 : decode cX0_cover 87 = .ok (.iconst 4, 1) := dk_7 (dk_at dksX0_cover_3 17 rfl rfl)
theorem dX0_cover_88 : decode cX0_cover 88 = .ok (.aload_n 0, 1) := dk_42 (dk_at dksX0_cover_3 18 rfl rfl)
theorem dX0_cover_89 : decode cX0_cover 89 = .ok (.getfield 166, 3) := dk_180 0 166 (dk_at dksX0_cover_3 19 rfl rfl)
theorem dX0_cover_92 : decode cX0_cover 92 = .ok (.imul, 1) := dk_104 (dk_at dksX0_cover_3 22 rfl rfl)
theorem dX0_cover_93 : decode cX0_cover 93 = .ok (.iconst 2, 1) := dk_5 (dk_at dksX0_cover_3 23 rfl rfl)
theorem dX0_cover_94 : decode cX0_cover 94 = .ok (.iadd, 1) := dk_96 (dk_at dksX0_cover_4 0 rfl rfl)
theorem dX0_cover_95 : decode cX0_cover 95 = .ok (.iload_n 3, 1) := dk_29 (dk_at dksX0_cover_4 1 rfl rfl)
theorem dX0_cover_96 : decode cX0_cover 96 = .ok (.iastore, 1) := dk_79 (dk_at dksX0_cover_4 2 rfl rfl)
theorem dX0_cover_97 : decode cX0_cover 97 = .ok (.aload_n 0, 1) := dk_42 (dk_at dksX0_cover_4 3 rfl rfl)
theorem dX0_cover_98 : decode cX0_cover 98 = .ok (.getfield 44, 3) := dk_180 0 44 (dk_at dksX0_cover_4 4 rfl rfl)
theorem dX0_cover_101 : decode cX0_cover 101 = .ok (.iconst 4, 1) := dk_7 (dk_at dksX0_cover_4 7 rfl rfl)
theorem dX0_cover_102 : decode cX0_cover 102 = .ok (.aload_n 0, 1) := dk_42 (dk_at dksX0_cover_4 8 rfl rfl)
theorem dX0_cover_103 : decode cX0_cover 103 = .ok (.getfield 166, 3) := dk_180 0 166 (dk_at dksX0_cover_4 9 rfl rfl)
theorem dX0_cover_106 : decode cX0_cover 106 = .ok (.imul, 1) := dk_104 (dk_at dksX0_cover_4 12 rfl rfl)
theorem dX0_cover_107 : decode cX0_cover 107 = .ok (.iconst 3, 1) := dk_6 (dk_at dksX0_cover_4 13 rfl rfl)
theorem dX0_cover_108 : decode cX0_cover 108 = .ok (.iadd, 1) := dk_96 (dk_at dksX0_cover_4 14 rfl rfl)
theorem dX0_cover_109 : decode cX0_cover 109 = .ok (.iload 4, 2) := dk_21 4 (dk_at dksX0_cover_4 15 rfl rfl)
theorem dX0_cover_111 : decode cX0_cover 111 = .ok (.iastore, 1) := dk_79 (dk_at dksX0_cover_4 17 rfl rfl)
theorem dX0_cover_112 : decode cX0_cover 112 = .ok (.aload_n 0, 1) := dk_42 (dk_at dksX0_cover_4 18 rfl rfl)
theorem dX0_cover_113 : decode cX0_cover 113 = .ok (.dup, 1) := dk_89 (dk_at dksX0_cover_4 19 rfl rfl)
theorem dX0_cover_114 : decode cX0_cover 114 = .ok (.getfield 166, 3) := dk_180 0 166 (dk_at dksX0_cover_4 20 rfl rfl)
theorem dX0_cover_117 : decode cX0_cover 117 = .ok (.iconst 1, 1) := dk_4 (dk_at dksX0_cover_4 23 rfl rfl)
theorem dX0_cover_118 : decode cX0_cover 118 = .ok (.iadd, 1) := dk_96 (dk_at dksX0_cover_5 0 rfl rfl)
theorem dX0_cover_119 : decode cX0_cover 119 = .ok (.putfield 166, 3) := dk_181 0 166 (dk_at dksX0_cover_5 1 rfl rfl)
theorem dX0_cover_122 : decode cX0_cover 122 = .ok (.aload_n 0, 1) := dk_42 (dk_at dksX0_cover_5 4 rfl rfl)
theorem dX0_cover_123 : decode cX0_cover 123 = .ok (.getfield 166, 3) := dk_180 0 166 (dk_at dksX0_cover_5 5 rfl rfl)
theorem dX0_cover_126 : decode cX0_cover 126 = .ok (.iconst 1, 1) := dk_4 (dk_at dksX0_cover_5 8 rfl rfl)
theorem dX0_cover_127 : decode cX0_cover 127 = .ok (.isub, 1) := dk_100 (dk_at dksX0_cover_5 9 rfl rfl)
theorem dX0_cover_128 : decode cX0_cover 128 = .ok (.ireturn, 1) := dk_172 (dk_at dksX0_cover_5 10 rfl rfl)
abbrev cX0_does : ByteArray := prog_1_method_45_code
def yX0_does : MethodName := ⟨RX0, "does", "(II)I"⟩
def dkwX0_does_3 : List UInt8 := [182, 1, 22, 100, 172]
abbrev dktX0_does_3 : List UInt8 := dkwX0_does_3 ++ []
def dkwX0_does_2 : List UInt8 := [27, 120, 182, 1, 22, 100, 167, 0, 20, 42, 29, 4, 27, 120, 2, 130, 126, 182, 1, 22, 42, 29]
abbrev dktX0_does_2 : List UInt8 := dkwX0_does_2 ++ dktX0_does_3
def dkwX0_does_1 : List UInt8 := [19, 1, 21, 172, 4, 42, 180, 0, 166, 120, 4, 100, 62, 28, 154, 0, 19, 42, 3, 182, 1, 22, 42, 4]
abbrev dktX0_does_1 : List UInt8 := dkwX0_does_1 ++ dktX0_does_2
def dkwX0_does_0 : List UInt8 := [27, 3, 42, 180, 0, 166, 4, 100, 184, 0, 3, 153, 0, 12, 28, 3, 4, 184, 0, 3, 154, 0, 7]
abbrev dktX0_does_0 : List UInt8 := dkwX0_does_0 ++ dktX0_does_1
theorem dksX0_does_0 : cX0_does.data.toList.drop 0 = dktX0_does_0 := by decide +kernel
theorem dksX0_does_1 : cX0_does.data.toList.drop 23 = dktX0_does_1 := dk_seg dksX0_does_0 23 rfl rfl
theorem dksX0_does_2 : cX0_does.data.toList.drop 47 = dktX0_does_2 := dk_seg dksX0_does_1 24 rfl rfl
theorem dksX0_does_3 : cX0_does.data.toList.drop 69 = dktX0_does_3 := dk_seg dksX0_does_2 22 rfl rfl
theorem dX0_does_0 : decode cX0_does 0 = .ok (.iload_n 1, 1) := dk_27 (dk_at dksX0_does_0 0 rfl rfl)
theorem dX0_does_1 : decode cX0_does 1 = .ok (.iconst 0, 1) := dk_3 (dk_at dksX0_does_0 1 rfl rfl)
theorem dX0_does_2 : decode cX0_does 2 = .ok (.aload_n 0, 1) := dk_42 (dk_at dksX0_does_0 2 rfl rfl)
theorem dX0_does_3 : decode cX0_does 3 = .ok (.getfield 166, 3) := dk_180 0 166 (dk_at dksX0_does_0 3 rfl rfl)
theorem dX0_does_6 : decode cX0_does 6 = .ok (.iconst 1, 1) := dk_4 (dk_at dksX0_does_0 6 rfl rfl)
theorem dX0_does_7 : decode cX0_does 7 = .ok (.isub, 1) := dk_100 (dk_at dksX0_does_0 7 rfl rfl)
theorem dX0_does_8 : decode cX0_does 8 = .ok (.invokestatic 3, 3) := dk_184 0 3 (dk_at dksX0_does_0 8 rfl rfl)
theorem dX0_does_11 : decode cX0_does 11 = .ok (.ifCond .eq 12, 3) := dk_153 0 12 (dk_at dksX0_does_0 11 rfl rfl)
theorem dX0_does_14 : decode cX0_does 14 = .ok (.iload_n 2, 1) := dk_28 (dk_at dksX0_does_0 14 rfl rfl)
theorem dX0_does_15 : decode cX0_does 15 = .ok (.iconst 0, 1) := dk_3 (dk_at dksX0_does_0 15 rfl rfl)
theorem dX0_does_16 : decode cX0_does 16 = .ok (.iconst 1, 1) := dk_4 (dk_at dksX0_does_0 16 rfl rfl)
theorem dX0_does_17 : decode cX0_does 17 = .ok (.invokestatic 3, 3) := dk_184 0 3 (dk_at dksX0_does_0 17 rfl rfl)
theorem dX0_does_20 : decode cX0_does 20 = .ok (.ifCond .ne 7, 3) := dk_154 0 7 (dk_at dksX0_does_0 20 rfl rfl)
theorem dX0_does_23 : decode cX0_does 23 = .ok (.ldc_w 277, 3) := dk_19 1 21 (dk_at dksX0_does_1 0 rfl rfl)
theorem dX0_does_26 : decode cX0_does 26 = .ok (.ireturn, 1) := dk_172 (dk_at dksX0_does_1 3 rfl rfl)
theorem dX0_does_27 : decode cX0_does 27 = .ok (.iconst 1, 1) := dk_4 (dk_at dksX0_does_1 4 rfl rfl)
theorem dX0_does_28 : decode cX0_does 28 = .ok (.aload_n 0, 1) := dk_42 (dk_at dksX0_does_1 5 rfl rfl)
theorem dX0_does_29 : decode cX0_does 29 = .ok (.getfield 166, 3) := dk_180 0 166 (dk_at dksX0_does_1 6 rfl rfl)
theorem dX0_does_32 : decode cX0_does 32 = .ok (.ishl, 1) := dk_120 (dk_at dksX0_does_1 9 rfl rfl)
theorem dX0_does_33 : decode cX0_does 33 = .ok (.iconst 1, 1) := dk_4 (dk_at dksX0_does_1 10 rfl rfl)
theorem dX0_does_34 : decode cX0_does 34 = .ok (.isub, 1) := dk_100 (dk_at dksX0_does_1 11 rfl rfl)
theorem dX0_does_35 : decode cX0_does 35 = .ok (.istore_n 3, 1) := dk_62 (dk_at dksX0_does_1 12 rfl rfl)
theorem dX0_does_36 : decode cX0_does 36 = .ok (.iload_n 2, 1) := dk_28 (dk_at dksX0_does_1 13 rfl rfl)
theorem dX0_does_37 : decode cX0_does 37 = .ok (.ifCond .ne 19, 3) := dk_154 0 19 (dk_at dksX0_does_1 14 rfl rfl)
theorem dX0_does_40 : decode cX0_does 40 = .ok (.aload_n 0, 1) := dk_42 (dk_at dksX0_does_1 17 rfl rfl)
theorem dX0_does_41 : decode cX0_does 41 = .ok (.iconst 0, 1) := dk_3 (dk_at dksX0_does_1 18 rfl rfl)
theorem dX0_does_42 : decode cX0_does 42 = .ok (.invokevirtual 278, 3) := dk_182 1 22 (dk_at dksX0_does_1 19 rfl rfl)
theorem dX0_does_45 : decode cX0_does 45 = .ok (.aload_n 0, 1) := dk_42 (dk_at dksX0_does_1 22 rfl rfl)
theorem dX0_does_46 : decode cX0_does 46 = .ok (.iconst 1, 1) := dk_4 (dk_at dksX0_does_1 23 rfl rfl)
theorem dX0_does_47 : decode cX0_does 47 = .ok (.iload_n 1, 1) := dk_27 (dk_at dksX0_does_2 0 rfl rfl)
theorem dX0_does_48 : decode cX0_does 48 = .ok (.ishl, 1) := dk_120 (dk_at dksX0_does_2 1 rfl rfl)
theorem dX0_does_49 : decode cX0_does 49 = .ok (.invokevirtual 278, 3) := dk_182 1 22 (dk_at dksX0_does_2 2 rfl rfl)
theorem dX0_does_52 : decode cX0_does 52 = .ok (.isub, 1) := dk_100 (dk_at dksX0_does_2 5 rfl rfl)
theorem dX0_does_53 : decode cX0_does 53 = .ok (.goto 20, 3) := dk_167 0 20 (dk_at dksX0_does_2 6 rfl rfl)
theorem dX0_does_56 : decode cX0_does 56 = .ok (.aload_n 0, 1) := dk_42 (dk_at dksX0_does_2 9 rfl rfl)
theorem dX0_does_57 : decode cX0_does 57 = .ok (.iload_n 3, 1) := dk_29 (dk_at dksX0_does_2 10 rfl rfl)
theorem dX0_does_58 : decode cX0_does 58 = .ok (.iconst 1, 1) := dk_4 (dk_at dksX0_does_2 11 rfl rfl)
theorem dX0_does_59 : decode cX0_does 59 = .ok (.iload_n 1, 1) := dk_27 (dk_at dksX0_does_2 12 rfl rfl)
theorem dX0_does_60 : decode cX0_does 60 = .ok (.ishl, 1) := dk_120 (dk_at dksX0_does_2 13 rfl rfl)
theorem dX0_does_61 : decode cX0_does 61 = .ok (.iconst (-1), 1) := dk_2 (dk_at dksX0_does_2 14 rfl rfl)
theorem dX0_does_62 : decode cX0_does 62 = .ok (.ixor, 1) := dk_130 (dk_at dksX0_does_2 15 rfl rfl)
theorem dX0_does_63 : decode cX0_does 63 = .ok (.iand, 1) := dk_126 (dk_at dksX0_does_2 16 rfl rfl)
theorem dX0_does_64 : decode cX0_does 64 = .ok (.invokevirtual 278, 3) := dk_182 1 22 (dk_at dksX0_does_2 17 rfl rfl)
theorem dX0_does_67 : decode cX0_does 67 = .ok (.aload_n 0, 1) := dk_42 (dk_at dksX0_does_2 20 rfl rfl)
theorem dX0_does_68 : decode cX0_does 68 = .ok (.iload_n 3, 1) := dk_29 (dk_at dksX0_does_2 21 rfl rfl)
theorem dX0_does_69 : decode cX0_does 69 = .ok (.invokevirtual 278, 3) := dk_182 1 22 (dk_at dksX0_does_3 0 rfl rfl)
theorem dX0_does_72 : decode cX0_does 72 = .ok (.isub, 1) := dk_100 (dk_at dksX0_does_3 3 rfl rfl)
theorem dX0_does_73 : decode cX0_does 73 = .ok (.ireturn, 1) := dk_172 (dk_at dksX0_does_3 4 rfl rfl)
abbrev cX0_seesWith : ByteArray := prog_1_method_44_code
def yX0_seesWith : MethodName := ⟨RX0, "seesWith", "(I)I"⟩
def dkwX0_seesWith_7 : List UInt8 := [180, 0, 26, 4, 182, 1, 13, 172]
abbrev dktX0_seesWith_7 : List UInt8 := dkwX0_seesWith_7 ++ []
def dkwX0_seesWith_6 : List UInt8 := [160, 0, 7, 4, 167, 0, 4, 3, 128, 181, 0, 120, 132, 2, 1, 167, 255, 114, 42, 42, 180, 0, 20, 42]
abbrev dktX0_seesWith_6 : List UInt8 := dkwX0_seesWith_6 ++ dktX0_seesWith_7
def dkwX0_seesWith_5 : List UInt8 := [160, 0, 8, 21, 5, 167, 0, 7, 45, 180, 0, 117, 181, 0, 117, 45, 89, 180, 0, 120, 21, 4, 6]
abbrev dktX0_seesWith_5 : List UInt8 := dkwX0_seesWith_5 ++ dktX0_seesWith_6
def dkwX0_seesWith_4 : List UInt8 := [21, 4, 4, 160, 0, 8, 21, 5, 167, 0, 7, 45, 180, 0, 114, 181, 0, 114, 45, 21, 4, 5]
abbrev dktX0_seesWith_4 : List UInt8 := dkwX0_seesWith_4 ++ dktX0_seesWith_5
def dkwX0_seesWith_3 : List UInt8 := [21, 4, 154, 0, 14, 16, 10, 21, 5, 104, 16, 6, 96, 167, 0, 7, 45, 180, 0, 105, 181, 0, 105, 45]
abbrev dktX0_seesWith_3 : List UInt8 := dkwX0_seesWith_3 ++ dktX0_seesWith_4
def dkwX0_seesWith_2 : List UInt8 := [180, 0, 44, 7, 28, 104, 4, 96, 46, 54, 4, 42, 180, 0, 44, 7, 28, 104, 5, 96, 46, 54, 5, 45]
abbrev dktX0_seesWith_2 : List UInt8 := dkwX0_seesWith_2 ++ dktX0_seesWith_3
def dkwX0_seesWith_1 : List UInt8 := [184, 1, 17, 153, 0, 126, 42, 180, 0, 20, 180, 0, 101, 42, 180, 0, 44, 7, 28, 104, 46, 50, 78, 42]
abbrev dktX0_seesWith_1 : List UInt8 := dkwX0_seesWith_1 ++ dktX0_seesWith_2
def dkwX0_seesWith_0 : List UInt8 := [42, 180, 0, 20, 42, 180, 0, 16, 182, 0, 213, 3, 61, 28, 42, 180, 0, 166, 162, 0, 140, 27, 28]
abbrev dktX0_seesWith_0 : List UInt8 := dkwX0_seesWith_0 ++ dktX0_seesWith_1
theorem dksX0_seesWith_0 : cX0_seesWith.data.toList.drop 0 = dktX0_seesWith_0 := by decide +kernel
theorem dksX0_seesWith_1 : cX0_seesWith.data.toList.drop 23 = dktX0_seesWith_1 := dk_seg dksX0_seesWith_0 23 rfl rfl
theorem dksX0_seesWith_2 : cX0_seesWith.data.toList.drop 47 = dktX0_seesWith_2 := dk_seg dksX0_seesWith_1 24 rfl rfl
theorem dksX0_seesWith_3 : cX0_seesWith.data.toList.drop 71 = dktX0_seesWith_3 := dk_seg dksX0_seesWith_2 24 rfl rfl
theorem dksX0_seesWith_4 : cX0_seesWith.data.toList.drop 95 = dktX0_seesWith_4 := dk_seg dksX0_seesWith_3 24 rfl rfl
theorem dksX0_seesWith_5 : cX0_seesWith.data.toList.drop 117 = dktX0_seesWith_5 := dk_seg dksX0_seesWith_4 22 rfl rfl
theorem dksX0_seesWith_6 : cX0_seesWith.data.toList.drop 140 = dktX0_seesWith_6 := dk_seg dksX0_seesWith_5 23 rfl rfl
theorem dksX0_seesWith_7 : cX0_seesWith.data.toList.drop 164 = dktX0_seesWith_7 := dk_seg dksX0_seesWith_6 24 rfl rfl
theorem dX0_seesWith_0 : decode cX0_seesWith 0 = .ok (.aload_n 0, 1) := dk_42 (dk_at dksX0_seesWith_0 0 rfl rfl)
theorem dX0_seesWith_1 : decode cX0_seesWith 1 = .ok (.getfield 20, 3) := dk_180 0 20 (dk_at dksX0_seesWith_0 1 rfl rfl)
theorem dX0_seesWith_4 : decode cX0_seesWith 4 = .ok (.aload_n 0, 1) := dk_42 (dk_at dksX0_seesWith_0 4 rfl rfl)
theorem dX0_seesWith_5 : decode cX0_seesWith 5 = .ok (.getfield 16, 3) := dk_180 0 16 (dk_at dksX0_seesWith_0 5 rfl rfl)
theorem dX0_seesWith_8 : decode cX0_seesWith 8 = .ok (.invokevirtual 213, 3) := dk_182 0 213 (dk_at dksX0_seesWith_0 8 rfl rfl)
theorem dX0_seesWith_11 : decode cX0_seesWith 11 = .ok (.iconst 0, 1) := dk_3 (dk_at dksX0_seesWith_0 11 rfl rfl)
theorem dX0_seesWith_12 : decode cX0_seesWith 12 = .ok (.istore_n 2, 1) := dk_61 (dk_at dksX0_seesWith_0 12 rfl rfl)
theorem dX0_seesWith_13 : decode cX0_seesWith 13 = .ok (.iload_n 2, 1) := dk_28 (dk_at dksX0_seesWith_0 13 rfl rfl)
theorem dX0_seesWith_14 : decode cX0_seesWith 14 = .ok (.aload_n 0, 1) := dk_42 (dk_at dksX0_seesWith_0 14 rfl rfl)
theorem dX0_seesWith_15 : decode cX0_seesWith 15 = .ok (.getfield 166, 3) := dk_180 0 166 (dk_at dksX0_seesWith_0 15 rfl rfl)
theorem dX0_seesWith_18 : decode cX0_seesWith 18 = .ok (.if_icmp .ge 140, 3) := dk_162 0 140 (dk_at dksX0_seesWith_0 18 rfl rfl)
theorem dX0_seesWith_21 : decode cX0_seesWith 21 = .ok (.iload_n 1, 1) := dk_27 (dk_at dksX0_seesWith_0 21 rfl rfl)
theorem dX0_seesWith_22 : decode cX0_seesWith 22 = .ok (.iload_n 2, 1) := dk_28 (dk_at dksX0_seesWith_0 22 rfl rfl)
theorem dX0_seesWith_23 : decode cX0_seesWith 23 = .ok (.invokestatic 273, 3) := dk_184 1 17 (dk_at dksX0_seesWith_1 0 rfl rfl)
theorem dX0_seesWith_26 : decode cX0_seesWith 26 = .ok (.ifCond .eq 126, 3) := dk_153 0 126 (dk_at dksX0_seesWith_1 3 rfl rfl)
theorem dX0_seesWith_29 : decode cX0_seesWith 29 = .ok (.aload_n 0, 1) := dk_42 (dk_at dksX0_seesWith_1 6 rfl rfl)
theorem dX0_seesWith_30 : decode cX0_seesWith 30 = .ok (.getfield 20, 3) := dk_180 0 20 (dk_at dksX0_seesWith_1 7 rfl rfl)
theorem dX0_seesWith_33 : decode cX0_seesWith 33 = .ok (.getfield 101, 3) := dk_180 0 101 (dk_at dksX0_seesWith_1 10 rfl rfl)
theorem dX0_seesWith_36 : decode cX0_seesWith 36 = .ok (.aload_n 0, 1) := dk_42 (dk_at dksX0_seesWith_1 13 rfl rfl)
theorem dX0_seesWith_37 : decode cX0_seesWith 37 = .ok (.getfield 44, 3) := dk_180 0 44 (dk_at dksX0_seesWith_1 14 rfl rfl)
theorem dX0_seesWith_40 : decode cX0_seesWith 40 = .ok (.iconst 4, 1) := dk_7 (dk_at dksX0_seesWith_1 17 rfl rfl)
theorem dX0_seesWith_41 : decode cX0_seesWith 41 = .ok (.iload_n 2, 1) := dk_28 (dk_at dksX0_seesWith_1 18 rfl rfl)
theorem dX0_seesWith_42 : decode cX0_seesWith 42 = .ok (.imul, 1) := dk_104 (dk_at dksX0_seesWith_1 19 rfl rfl)
theorem dX0_seesWith_43 : decode cX0_seesWith 43 = .ok (.iaload, 1) := dk_46 (dk_at dksX0_seesWith_1 20 rfl rfl)
theorem dX0_seesWith_44 : decode cX0_seesWith 44 = .ok (.aaload, 1) := dk_50 (dk_at dksX0_seesWith_1 21 rfl rfl)
theorem dX0_seesWith_45 : decode cX0_seesWith 45 = .ok (.astore_n 3, 1) := dk_78 (dk_at dksX0_seesWith_1 22 rfl rfl)
theorem dX0_seesWith_46 : decode cX0_seesWith 46 = .ok (.aload_n 0, 1) := dk_42 (dk_at dksX0_seesWith_1 23 rfl rfl)
theorem dX0_seesWith_47 : decode cX0_seesWith 47 = .ok (.getfield 44, 3) := dk_180 0 44 (dk_at dksX0_seesWith_2 0 rfl rfl)
theorem dX0_seesWith_50 : decode cX0_seesWith 50 = .ok (.iconst 4, 1) := dk_7 (dk_at dksX0_seesWith_2 3 rfl rfl)
theorem dX0_seesWith_51 : decode cX0_seesWith 51 = .ok (.iload_n 2, 1) := dk_28 (dk_at dksX0_seesWith_2 4 rfl rfl)
theorem dX0_seesWith_52 : decode cX0_seesWith 52 = .ok (.imul, 1) := dk_104 (dk_at dksX0_seesWith_2 5 rfl rfl)
theorem dX0_seesWith_53 : decode cX0_seesWith 53 = .ok (.iconst 1, 1) := dk_4 (dk_at dksX0_seesWith_2 6 rfl rfl)
theorem dX0_seesWith_54 : decode cX0_seesWith 54 = .ok (.iadd, 1) := dk_96 (dk_at dksX0_seesWith_2 7 rfl rfl)
theorem dX0_seesWith_55 : decode cX0_seesWith 55 = .ok (.iaload, 1) := dk_46 (dk_at dksX0_seesWith_2 8 rfl rfl)
theorem dX0_seesWith_56 : decode cX0_seesWith 56 = .ok (.istore 4, 2) := dk_54 4 (dk_at dksX0_seesWith_2 9 rfl rfl)
theorem dX0_seesWith_58 : decode cX0_seesWith 58 = .ok (.aload_n 0, 1) := dk_42 (dk_at dksX0_seesWith_2 11 rfl rfl)
theorem dX0_seesWith_59 : decode cX0_seesWith 59 = .ok (.getfield 44, 3) := dk_180 0 44 (dk_at dksX0_seesWith_2 12 rfl rfl)
theorem dX0_seesWith_62 : decode cX0_seesWith 62 = .ok (.iconst 4, 1) := dk_7 (dk_at dksX0_seesWith_2 15 rfl rfl)
theorem dX0_seesWith_63 : decode cX0_seesWith 63 = .ok (.iload_n 2, 1) := dk_28 (dk_at dksX0_seesWith_2 16 rfl rfl)
theorem dX0_seesWith_64 : decode cX0_seesWith 64 = .ok (.imul, 1) := dk_104 (dk_at dksX0_seesWith_2 17 rfl rfl)
theorem dX0_seesWith_65 : decode cX0_seesWith 65 = .ok (.iconst 2, 1) := dk_5 (dk_at dksX0_seesWith_2 18 rfl rfl)
theorem dX0_seesWith_66 : decode cX0_seesWith 66 = .ok (.iadd, 1) := dk_96 (dk_at dksX0_seesWith_2 19 rfl rfl)
theorem dX0_seesWith_67 : decode cX0_seesWith 67 = .ok (.iaload, 1) := dk_46 (dk_at dksX0_seesWith_2 20 rfl rfl)
theorem dX0_seesWith_68 : decode cX0_seesWith 68 = .ok (.istore 5, 2) := dk_54 5 (dk_at dksX0_seesWith_2 21 rfl rfl)
theorem dX0_seesWith_70 : decode cX0_seesWith 70 = .ok (.aload_n 3, 1) := dk_45 (dk_at dksX0_seesWith_2 23 rfl rfl)
theorem dX0_seesWith_71 : decode cX0_seesWith 71 = .ok (.iload 4, 2) := dk_21 4 (dk_at dksX0_seesWith_3 0 rfl rfl)
theorem dX0_seesWith_73 : decode cX0_seesWith 73 = .ok (.ifCond .ne 14, 3) := dk_154 0 14 (dk_at dksX0_seesWith_3 2 rfl rfl)
theorem dX0_seesWith_76 : decode cX0_seesWith 76 = .ok (.bipush 10, 2) := dk_16 10 (dk_at dksX0_seesWith_3 5 rfl rfl)
theorem dX0_seesWith_78 : decode cX0_seesWith 78 = .ok (.iload 5, 2) := dk_21 5 (dk_at dksX0_seesWith_3 7 rfl rfl)
theorem dX0_seesWith_80 : decode cX0_seesWith 80 = .ok (.imul, 1) := dk_104 (dk_at dksX0_seesWith_3 9 rfl rfl)
theorem dX0_seesWith_81 : decode cX0_seesWith 81 = .ok (.bipush 6, 2) := dk_16 6 (dk_at dksX0_seesWith_3 10 rfl rfl)
theorem dX0_seesWith_83 : decode cX0_seesWith 83 = .ok (.iadd, 1) := dk_96 (dk_at dksX0_seesWith_3 12 rfl rfl)
theorem dX0_seesWith_84 : decode cX0_seesWith 84 = .ok (.goto 7, 3) := dk_167 0 7 (dk_at dksX0_seesWith_3 13 rfl rfl)
theorem dX0_seesWith_87 : decode cX0_seesWith 87 = .ok (.aload_n 3, 1) := dk_45 (dk_at dksX0_seesWith_3 16 rfl rfl)
theorem dX0_seesWith_88 : decode cX0_seesWith 88 = .ok (.getfield 105, 3) := dk_180 0 105 (dk_at dksX0_seesWith_3 17 rfl rfl)
theorem dX0_seesWith_91 : decode cX0_seesWith 91 = .ok (.putfield 105, 3) := dk_181 0 105 (dk_at dksX0_seesWith_3 20 rfl rfl)
theorem dX0_seesWith_94 : decode cX0_seesWith 94 = .ok (.aload_n 3, 1) := dk_45 (dk_at dksX0_seesWith_3 23 rfl rfl)
theorem dX0_seesWith_95 : decode cX0_seesWith 95 = .ok (.iload 4, 2) := dk_21 4 (dk_at dksX0_seesWith_4 0 rfl rfl)
theorem dX0_seesWith_97 : decode cX0_seesWith 97 = .ok (.iconst 1, 1) := dk_4 (dk_at dksX0_seesWith_4 2 rfl rfl)
theorem dX0_seesWith_98 : decode cX0_seesWith 98 = .ok (.if_icmp .ne 8, 3) := dk_160 0 8 (dk_at dksX0_seesWith_4 3 rfl rfl)
theorem dX0_seesWith_101 : decode cX0_seesWith 101 = .ok (.iload 5, 2) := dk_21 5 (dk_at dksX0_seesWith_4 6 rfl rfl)
theorem dX0_seesWith_103 : decode cX0_seesWith 103 = .ok (.goto 7, 3) := dk_167 0 7 (dk_at dksX0_seesWith_4 8 rfl rfl)
theorem dX0_seesWith_106 : decode cX0_seesWith 106 = .ok (.aload_n 3, 1) := dk_45 (dk_at dksX0_seesWith_4 11 rfl rfl)
theorem dX0_seesWith_107 : decode cX0_seesWith 107 = .ok (.getfield 114, 3) := dk_180 0 114 (dk_at dksX0_seesWith_4 12 rfl rfl)
theorem dX0_seesWith_110 : decode cX0_seesWith 110 = .ok (.putfield 114, 3) := dk_181 0 114 (dk_at dksX0_seesWith_4 15 rfl rfl)
theorem dX0_seesWith_113 : decode cX0_seesWith 113 = .ok (.aload_n 3, 1) := dk_45 (dk_at dksX0_seesWith_4 18 rfl rfl)
theorem dX0_seesWith_114 : decode cX0_seesWith 114 = .ok (.iload 4, 2) := dk_21 4 (dk_at dksX0_seesWith_4 19 rfl rfl)
theorem dX0_seesWith_116 : decode cX0_seesWith 116 = .ok (.iconst 2, 1) := dk_5 (dk_at dksX0_seesWith_4 21 rfl rfl)
theorem dX0_seesWith_117 : decode cX0_seesWith 117 = .ok (.if_icmp .ne 8, 3) := dk_160 0 8 (dk_at dksX0_seesWith_5 0 rfl rfl)
theorem dX0_seesWith_120 : decode cX0_seesWith 120 = .ok (.iload 5, 2) := dk_21 5 (dk_at dksX0_seesWith_5 3 rfl rfl)
theorem dX0_seesWith_122 : decode cX0_seesWith 122 = .ok (.goto 7, 3) := dk_167 0 7 (dk_at dksX0_seesWith_5 5 rfl rfl)
theorem dX0_seesWith_125 : decode cX0_seesWith 125 = .ok (.aload_n 3, 1) := dk_45 (dk_at dksX0_seesWith_5 8 rfl rfl)
theorem dX0_seesWith_126 : decode cX0_seesWith 126 = .ok (.getfield 117, 3) := dk_180 0 117 (dk_at dksX0_seesWith_5 9 rfl rfl)
theorem dX0_seesWith_129 : decode cX0_seesWith 129 = .ok (.putfield 117, 3) := dk_181 0 117 (dk_at dksX0_seesWith_5 12 rfl rfl)
theorem dX0_seesWith_132 : decode cX0_seesWith 132 = .ok (.aload_n 3, 1) := dk_45 (dk_at dksX0_seesWith_5 15 rfl rfl)
theorem dX0_seesWith_133 : decode cX0_seesWith 133 = .ok (.dup, 1) := dk_89 (dk_at dksX0_seesWith_5 16 rfl rfl)
theorem dX0_seesWith_134 : decode cX0_seesWith 134 = .ok (.getfield 120, 3) := dk_180 0 120 (dk_at dksX0_seesWith_5 17 rfl rfl)
theorem dX0_seesWith_137 : decode cX0_seesWith 137 = .ok (.iload 4, 2) := dk_21 4 (dk_at dksX0_seesWith_5 20 rfl rfl)
theorem dX0_seesWith_139 : decode cX0_seesWith 139 = .ok (.iconst 3, 1) := dk_6 (dk_at dksX0_seesWith_5 22 rfl rfl)
theorem dX0_seesWith_140 : decode cX0_seesWith 140 = .ok (.if_icmp .ne 7, 3) := dk_160 0 7 (dk_at dksX0_seesWith_6 0 rfl rfl)
theorem dX0_seesWith_143 : decode cX0_seesWith 143 = .ok (.iconst 1, 1) := dk_4 (dk_at dksX0_seesWith_6 3 rfl rfl)
theorem dX0_seesWith_144 : decode cX0_seesWith 144 = .ok (.goto 4, 3) := dk_167 0 4 (dk_at dksX0_seesWith_6 4 rfl rfl)
theorem dX0_seesWith_147 : decode cX0_seesWith 147 = .ok (.iconst 0, 1) := dk_3 (dk_at dksX0_seesWith_6 7 rfl rfl)
theorem dX0_seesWith_148 : decode cX0_seesWith 148 = .ok (.ior, 1) := dk_128 (dk_at dksX0_seesWith_6 8 rfl rfl)
theorem dX0_seesWith_149 : decode cX0_seesWith 149 = .ok (.putfield 120, 3) := dk_181 0 120 (dk_at dksX0_seesWith_6 9 rfl rfl)
theorem dX0_seesWith_152 : decode cX0_seesWith 152 = .ok (.iinc 2 1, 3) := dk_132 2 1 (dk_at dksX0_seesWith_6 12 rfl rfl)
theorem dX0_seesWith_155 : decode cX0_seesWith 155 = .ok (.goto (-142), 3) := dk_167 255 114 (dk_at dksX0_seesWith_6 15 rfl rfl)
theorem dX0_seesWith_158 : decode cX0_seesWith 158 = .ok (.aload_n 0, 1) := dk_42 (dk_at dksX0_seesWith_6 18 rfl rfl)
theorem dX0_seesWith_159 : decode cX0_seesWith 159 = .ok (.aload_n 0, 1) := dk_42 (dk_at dksX0_seesWith_6 19 rfl rfl)
theorem dX0_seesWith_160 : decode cX0_seesWith 160 = .ok (.getfield 20, 3) := dk_180 0 20 (dk_at dksX0_seesWith_6 20 rfl rfl)
theorem dX0_seesWith_163 : decode cX0_seesWith 163 = .ok (.aload_n 0, 1) := dk_42 (dk_at dksX0_seesWith_6 23 rfl rfl)
theorem dX0_seesWith_164 : decode cX0_seesWith 164 = .ok (.getfield 26, 3) := dk_180 0 26 (dk_at dksX0_seesWith_7 0 rfl rfl)
theorem dX0_seesWith_167 : decode cX0_seesWith 167 = .ok (.iconst 1, 1) := dk_4 (dk_at dksX0_seesWith_7 3 rfl rfl)
theorem dX0_seesWith_168 : decode cX0_seesWith 168 = .ok (.invokevirtual 269, 3) := dk_182 1 13 (dk_at dksX0_seesWith_7 4 rfl rfl)
theorem dX0_seesWith_171 : decode cX0_seesWith 171 = .ok (.ireturn, 1) := dk_172 (dk_at dksX0_seesWith_7 7 rfl rfl)
abbrev cX0_has : ByteArray := prog_1_method_4_code
def yX0_has : MethodName := ⟨RX0, "has", "(II)Z"⟩
def dkwX0_has_0 : List UInt8 := [26, 27, 122, 4, 126, 4, 160, 0, 7, 4, 167, 0, 4, 3, 172]
abbrev dktX0_has_0 : List UInt8 := dkwX0_has_0 ++ []
theorem dksX0_has_0 : cX0_has.data.toList.drop 0 = dktX0_has_0 := by decide +kernel
theorem dX0_has_0 : decode cX0_has 0 = .ok (.iload_n 0, 1) := dk_26 (dk_at dksX0_has_0 0 rfl rfl)
theorem dX0_has_1 : decode cX0_has 1 = .ok (.iload_n 1, 1) := dk_27 (dk_at dksX0_has_0 1 rfl rfl)
theorem dX0_has_2 : decode cX0_has 2 = .ok (.ishr, 1) := dk_122 (dk_at dksX0_has_0 2 rfl rfl)
theorem dX0_has_3 : decode cX0_has 3 = .ok (.iconst 1, 1) := dk_4 (dk_at dksX0_has_0 3 rfl rfl)
theorem dX0_has_4 : decode cX0_has 4 = .ok (.iand, 1) := dk_126 (dk_at dksX0_has_0 4 rfl rfl)
theorem dX0_has_5 : decode cX0_has 5 = .ok (.iconst 1, 1) := dk_4 (dk_at dksX0_has_0 5 rfl rfl)
theorem dX0_has_6 : decode cX0_has 6 = .ok (.if_icmp .ne 7, 3) := dk_160 0 7 (dk_at dksX0_has_0 6 rfl rfl)
theorem dX0_has_9 : decode cX0_has 9 = .ok (.iconst 1, 1) := dk_4 (dk_at dksX0_has_0 9 rfl rfl)
theorem dX0_has_10 : decode cX0_has 10 = .ok (.goto 4, 3) := dk_167 0 4 (dk_at dksX0_has_0 10 rfl rfl)
theorem dX0_has_13 : decode cX0_has 13 = .ok (.iconst 0, 1) := dk_3 (dk_at dksX0_has_0 13 rfl rfl)
theorem dX0_has_14 : decode cX0_has 14 = .ok (.ireturn, 1) := dk_172 (dk_at dksX0_has_0 14 rfl rfl)
abbrev cX0_bought : ByteArray := prog_1_method_47_code
def yX0_bought : MethodName := ⟨RX0, "bought", "(II)I"⟩
def dkwX0_bought_5 : List UInt8 := [21, 4, 167, 0, 8, 42, 29, 182, 1, 25, 172]
abbrev dktX0_bought_5 : List UInt8 := dkwX0_bought_5 ++ []
def dkwX0_bought_4 : List UInt8 := [21, 7, 54, 4, 132, 5, 1, 167, 255, 189, 28, 154, 0, 7, 29, 167, 0, 18, 28, 4, 160, 0, 8]
abbrev dktX0_bought_4 : List UInt8 := dkwX0_bought_4 ++ dktX0_bought_5
def dkwX0_bought_3 : List UInt8 := [161, 0, 20, 21, 7, 21, 4, 160, 0, 20, 21, 6, 42, 29, 182, 1, 25, 162, 0, 10, 21, 5, 62]
abbrev dktX0_bought_3 : List UInt8 := dkwX0_bought_3 ++ dktX0_bought_4
def dkwX0_bought_2 : List UInt8 := [182, 1, 25, 54, 6, 21, 6, 27, 163, 0, 42, 42, 21, 5, 182, 1, 22, 54, 7, 21, 7, 21, 4]
abbrev dktX0_bought_2 : List UInt8 := dkwX0_bought_2 ++ dktX0_bought_3
def dkwX0_bought_1 : List UInt8 := [42, 3, 182, 1, 22, 54, 4, 4, 54, 5, 21, 5, 4, 42, 180, 0, 166, 120, 162, 0, 62, 42, 21, 5]
abbrev dktX0_bought_1 : List UInt8 := dkwX0_bought_1 ++ dktX0_bought_2
def dkwX0_bought_0 : List UInt8 := [27, 3, 17, 3, 231, 184, 0, 3, 153, 0, 12, 28, 3, 5, 184, 0, 3, 154, 0, 5, 2, 172, 3, 62]
abbrev dktX0_bought_0 : List UInt8 := dkwX0_bought_0 ++ dktX0_bought_1
theorem dksX0_bought_0 : cX0_bought.data.toList.drop 0 = dktX0_bought_0 := by decide +kernel
theorem dksX0_bought_1 : cX0_bought.data.toList.drop 24 = dktX0_bought_1 := dk_seg dksX0_bought_0 24 rfl rfl
theorem dksX0_bought_2 : cX0_bought.data.toList.drop 48 = dktX0_bought_2 := dk_seg dksX0_bought_1 24 rfl rfl
theorem dksX0_bought_3 : cX0_bought.data.toList.drop 71 = dktX0_bought_3 := dk_seg dksX0_bought_2 23 rfl rfl
theorem dksX0_bought_4 : cX0_bought.data.toList.drop 94 = dktX0_bought_4 := dk_seg dksX0_bought_3 23 rfl rfl
theorem dksX0_bought_5 : cX0_bought.data.toList.drop 117 = dktX0_bought_5 := dk_seg dksX0_bought_4 23 rfl rfl
theorem dX0_bought_0 : decode cX0_bought 0 = .ok (.iload_n 1, 1) := dk_27 (dk_at dksX0_bought_0 0 rfl rfl)
theorem dX0_bought_1 : decode cX0_bought 1 = .ok (.iconst 0, 1) := dk_3 (dk_at dksX0_bought_0 1 rfl rfl)
theorem dX0_bought_2 : decode cX0_bought 2 = .ok (.sipush 999, 3) := dk_17 3 231 (dk_at dksX0_bought_0 2 rfl rfl)
theorem dX0_bought_5 : decode cX0_bought 5 = .ok (.invokestatic 3, 3) := dk_184 0 3 (dk_at dksX0_bought_0 5 rfl rfl)
theorem dX0_bought_8 : decode cX0_bought 8 = .ok (.ifCond .eq 12, 3) := dk_153 0 12 (dk_at dksX0_bought_0 8 rfl rfl)
theorem dX0_bought_11 : decode cX0_bought 11 = .ok (.iload_n 2, 1) := dk_28 (dk_at dksX0_bought_0 11 rfl rfl)
theorem dX0_bought_12 : decode cX0_bought 12 = .ok (.iconst 0, 1) := dk_3 (dk_at dksX0_bought_0 12 rfl rfl)
theorem dX0_bought_13 : decode cX0_bought 13 = .ok (.iconst 2, 1) := dk_5 (dk_at dksX0_bought_0 13 rfl rfl)
theorem dX0_bought_14 : decode cX0_bought 14 = .ok (.invokestatic 3, 3) := dk_184 0 3 (dk_at dksX0_bought_0 14 rfl rfl)
theorem dX0_bought_17 : decode cX0_bought 17 = .ok (.ifCond .ne 5, 3) := dk_154 0 5 (dk_at dksX0_bought_0 17 rfl rfl)
theorem dX0_bought_20 : decode cX0_bought 20 = .ok (.iconst (-1), 1) := dk_2 (dk_at dksX0_bought_0 20 rfl rfl)
theorem dX0_bought_21 : decode cX0_bought 21 = .ok (.ireturn, 1) := dk_172 (dk_at dksX0_bought_0 21 rfl rfl)
theorem dX0_bought_22 : decode cX0_bought 22 = .ok (.iconst 0, 1) := dk_3 (dk_at dksX0_bought_0 22 rfl rfl)
theorem dX0_bought_23 : decode cX0_bought 23 = .ok (.istore_n 3, 1) := dk_62 (dk_at dksX0_bought_0 23 rfl rfl)
theorem dX0_bought_24 : decode cX0_bought 24 = .ok (.aload_n 0, 1) := dk_42 (dk_at dksX0_bought_1 0 rfl rfl)
theorem dX0_bought_25 : decode cX0_bought 25 = .ok (.iconst 0, 1) := dk_3 (dk_at dksX0_bought_1 1 rfl rfl)
theorem dX0_bought_26 : decode cX0_bought 26 = .ok (.invokevirtual 278, 3) := dk_182 1 22 (dk_at dksX0_bought_1 2 rfl rfl)
theorem dX0_bought_29 : decode cX0_bought 29 = .ok (.istore 4, 2) := dk_54 4 (dk_at dksX0_bought_1 5 rfl rfl)
theorem dX0_bought_31 : decode cX0_bought 31 = .ok (.iconst 1, 1) := dk_4 (dk_at dksX0_bought_1 7 rfl rfl)
theorem dX0_bought_32 : decode cX0_bought 32 = .ok (.istore 5, 2) := dk_54 5 (dk_at dksX0_bought_1 8 rfl rfl)
theorem dX0_bought_34 : decode cX0_bought 34 = .ok (.iload 5, 2) := dk_21 5 (dk_at dksX0_bought_1 10 rfl rfl)
theorem dX0_bought_36 : decode cX0_bought 36 = .ok (.iconst 1, 1) := dk_4 (dk_at dksX0_bought_1 12 rfl rfl)
theorem dX0_bought_37 : decode cX0_bought 37 = .ok (.aload_n 0, 1) := dk_42 (dk_at dksX0_bought_1 13 rfl rfl)
theorem dX0_bought_38 : decode cX0_bought 38 = .ok (.getfield 166, 3) := dk_180 0 166 (dk_at dksX0_bought_1 14 rfl rfl)
theorem dX0_bought_41 : decode cX0_bought 41 = .ok (.ishl, 1) := dk_120 (dk_at dksX0_bought_1 17 rfl rfl)
theorem dX0_bought_42 : decode cX0_bought 42 = .ok (.if_icmp .ge 62, 3) := dk_162 0 62 (dk_at dksX0_bought_1 18 rfl rfl)
theorem dX0_bought_45 : decode cX0_bought 45 = .ok (.aload_n 0, 1) := dk_42 (dk_at dksX0_bought_1 21 rfl rfl)
theorem dX0_bought_46 : decode cX0_bought 46 = .ok (.iload 5, 2) := dk_21 5 (dk_at dksX0_bought_1 22 rfl rfl)
theorem dX0_bought_48 : decode cX0_bought 48 = .ok (.invokevirtual 281, 3) := dk_182 1 25 (dk_at dksX0_bought_2 0 rfl rfl)
theorem dX0_bought_51 : decode cX0_bought 51 = .ok (.istore 6, 2) := dk_54 6 (dk_at dksX0_bought_2 3 rfl rfl)
theorem dX0_bought_53 : decode cX0_bought 53 = .ok (.iload 6, 2) := dk_21 6 (dk_at dksX0_bought_2 5 rfl rfl)
theorem dX0_bought_55 : decode cX0_bought 55 = .ok (.iload_n 1, 1) := dk_27 (dk_at dksX0_bought_2 7 rfl rfl)
theorem dX0_bought_56 : decode cX0_bought 56 = .ok (.if_icmp .gt 42, 3) := dk_163 0 42 (dk_at dksX0_bought_2 8 rfl rfl)
theorem dX0_bought_59 : decode cX0_bought 59 = .ok (.aload_n 0, 1) := dk_42 (dk_at dksX0_bought_2 11 rfl rfl)
theorem dX0_bought_60 : decode cX0_bought 60 = .ok (.iload 5, 2) := dk_21 5 (dk_at dksX0_bought_2 12 rfl rfl)
theorem dX0_bought_62 : decode cX0_bought 62 = .ok (.invokevirtual 278, 3) := dk_182 1 22 (dk_at dksX0_bought_2 14 rfl rfl)
theorem dX0_bought_65 : decode cX0_bought 65 = .ok (.istore 7, 2) := dk_54 7 (dk_at dksX0_bought_2 17 rfl rfl)
theorem dX0_bought_67 : decode cX0_bought 67 = .ok (.iload 7, 2) := dk_21 7 (dk_at dksX0_bought_2 19 rfl rfl)
theorem dX0_bought_69 : decode cX0_bought 69 = .ok (.iload 4, 2) := dk_21 4 (dk_at dksX0_bought_2 21 rfl rfl)
theorem dX0_bought_71 : decode cX0_bought 71 = .ok (.if_icmp .lt 20, 3) := dk_161 0 20 (dk_at dksX0_bought_3 0 rfl rfl)
theorem dX0_bought_74 : decode cX0_bought 74 = .ok (.iload 7, 2) := dk_21 7 (dk_at dksX0_bought_3 3 rfl rfl)
theorem dX0_bought_76 : decode cX0_bought 76 = .ok (.iload 4, 2) := dk_21 4 (dk_at dksX0_bought_3 5 rfl rfl)
theorem dX0_bought_78 : decode cX0_bought 78 = .ok (.if_icmp .ne 20, 3) := dk_160 0 20 (dk_at dksX0_bought_3 7 rfl rfl)
theorem dX0_bought_81 : decode cX0_bought 81 = .ok (.iload 6, 2) := dk_21 6 (dk_at dksX0_bought_3 10 rfl rfl)
theorem dX0_bought_83 : decode cX0_bought 83 = .ok (.aload_n 0, 1) := dk_42 (dk_at dksX0_bought_3 12 rfl rfl)
theorem dX0_bought_84 : decode cX0_bought 84 = .ok (.iload_n 3, 1) := dk_29 (dk_at dksX0_bought_3 13 rfl rfl)
theorem dX0_bought_85 : decode cX0_bought 85 = .ok (.invokevirtual 281, 3) := dk_182 1 25 (dk_at dksX0_bought_3 14 rfl rfl)
theorem dX0_bought_88 : decode cX0_bought 88 = .ok (.if_icmp .ge 10, 3) := dk_162 0 10 (dk_at dksX0_bought_3 17 rfl rfl)
theorem dX0_bought_91 : decode cX0_bought 91 = .ok (.iload 5, 2) := dk_21 5 (dk_at dksX0_bought_3 20 rfl rfl)
theorem dX0_bought_93 : decode cX0_bought 93 = .ok (.istore_n 3, 1) := dk_62 (dk_at dksX0_bought_3 22 rfl rfl)
theorem dX0_bought_94 : decode cX0_bought 94 = .ok (.iload 7, 2) := dk_21 7 (dk_at dksX0_bought_4 0 rfl rfl)
theorem dX0_bought_96 : decode cX0_bought 96 = .ok (.istore 4, 2) := dk_54 4 (dk_at dksX0_bought_4 2 rfl rfl)
theorem dX0_bought_98 : decode cX0_bought 98 = .ok (.iinc 5 1, 3) := dk_132 5 1 (dk_at dksX0_bought_4 4 rfl rfl)
theorem dX0_bought_101 : decode cX0_bought 101 = .ok (.goto (-67), 3) := dk_167 255 189 (dk_at dksX0_bought_4 7 rfl rfl)
theorem dX0_bought_104 : decode cX0_bought 104 = .ok (.iload_n 2, 1) := dk_28 (dk_at dksX0_bought_4 10 rfl rfl)
theorem dX0_bought_105 : decode cX0_bought 105 = .ok (.ifCond .ne 7, 3) := dk_154 0 7 (dk_at dksX0_bought_4 11 rfl rfl)
theorem dX0_bought_108 : decode cX0_bought 108 = .ok (.iload_n 3, 1) := dk_29 (dk_at dksX0_bought_4 14 rfl rfl)
theorem dX0_bought_109 : decode cX0_bought 109 = .ok (.goto 18, 3) := dk_167 0 18 (dk_at dksX0_bought_4 15 rfl rfl)
theorem dX0_bought_112 : decode cX0_bought 112 = .ok (.iload_n 2, 1) := dk_28 (dk_at dksX0_bought_4 18 rfl rfl)
theorem dX0_bought_113 : decode cX0_bought 113 = .ok (.iconst 1, 1) := dk_4 (dk_at dksX0_bought_4 19 rfl rfl)
theorem dX0_bought_114 : decode cX0_bought 114 = .ok (.if_icmp .ne 8, 3) := dk_160 0 8 (dk_at dksX0_bought_4 20 rfl rfl)
theorem dX0_bought_117 : decode cX0_bought 117 = .ok (.iload 4, 2) := dk_21 4 (dk_at dksX0_bought_5 0 rfl rfl)
theorem dX0_bought_119 : decode cX0_bought 119 = .ok (.goto 8, 3) := dk_167 0 8 (dk_at dksX0_bought_5 2 rfl rfl)
theorem dX0_bought_122 : decode cX0_bought 122 = .ok (.aload_n 0, 1) := dk_42 (dk_at dksX0_bought_5 5 rfl rfl)
theorem dX0_bought_123 : decode cX0_bought 123 = .ok (.iload_n 3, 1) := dk_29 (dk_at dksX0_bought_5 6 rfl rfl)
theorem dX0_bought_124 : decode cX0_bought 124 = .ok (.invokevirtual 281, 3) := dk_182 1 25 (dk_at dksX0_bought_5 7 rfl rfl)
theorem dX0_bought_127 : decode cX0_bought 127 = .ok (.ireturn, 1) := dk_172 (dk_at dksX0_bought_5 10 rfl rfl)
abbrev cX0_costOf : ByteArray := prog_1_method_46_code
def yX0_costOf : MethodName := ⟨RX0, "costOf", "(I)I"⟩
def dkwX0_costOf_1 : List UInt8 := [180, 0, 44, 7, 29, 104, 6, 96, 46, 167, 0, 4, 3, 96, 61, 132, 3, 1, 167, 255, 220, 28, 172]
abbrev dktX0_costOf_1 : List UInt8 := dkwX0_costOf_1 ++ []
def dkwX0_costOf_0 : List UInt8 := [3, 61, 3, 62, 29, 42, 180, 0, 166, 162, 0, 34, 28, 27, 29, 184, 1, 17, 153, 0, 16, 42]
abbrev dktX0_costOf_0 : List UInt8 := dkwX0_costOf_0 ++ dktX0_costOf_1
theorem dksX0_costOf_0 : cX0_costOf.data.toList.drop 0 = dktX0_costOf_0 := by decide +kernel
theorem dksX0_costOf_1 : cX0_costOf.data.toList.drop 22 = dktX0_costOf_1 := dk_seg dksX0_costOf_0 22 rfl rfl
theorem dX0_costOf_0 : decode cX0_costOf 0 = .ok (.iconst 0, 1) := dk_3 (dk_at dksX0_costOf_0 0 rfl rfl)
theorem dX0_costOf_1 : decode cX0_costOf 1 = .ok (.istore_n 2, 1) := dk_61 (dk_at dksX0_costOf_0 1 rfl rfl)
theorem dX0_costOf_2 : decode cX0_costOf 2 = .ok (.iconst 0, 1) := dk_3 (dk_at dksX0_costOf_0 2 rfl rfl)
theorem dX0_costOf_3 : decode cX0_costOf 3 = .ok (.istore_n 3, 1) := dk_62 (dk_at dksX0_costOf_0 3 rfl rfl)
theorem dX0_costOf_4 : decode cX0_costOf 4 = .ok (.iload_n 3, 1) := dk_29 (dk_at dksX0_costOf_0 4 rfl rfl)
theorem dX0_costOf_5 : decode cX0_costOf 5 = .ok (.aload_n 0, 1) := dk_42 (dk_at dksX0_costOf_0 5 rfl rfl)
theorem dX0_costOf_6 : decode cX0_costOf 6 = .ok (.getfield 166, 3) := dk_180 0 166 (dk_at dksX0_costOf_0 6 rfl rfl)
theorem dX0_costOf_9 : decode cX0_costOf 9 = .ok (.if_icmp .ge 34, 3) := dk_162 0 34 (dk_at dksX0_costOf_0 9 rfl rfl)
theorem dX0_costOf_12 : decode cX0_costOf 12 = .ok (.iload_n 2, 1) := dk_28 (dk_at dksX0_costOf_0 12 rfl rfl)
theorem dX0_costOf_13 : decode cX0_costOf 13 = .ok (.iload_n 1, 1) := dk_27 (dk_at dksX0_costOf_0 13 rfl rfl)
theorem dX0_costOf_14 : decode cX0_costOf 14 = .ok (.iload_n 3, 1) := dk_29 (dk_at dksX0_costOf_0 14 rfl rfl)
theorem dX0_costOf_15 : decode cX0_costOf 15 = .ok (.invokestatic 273, 3) := dk_184 1 17 (dk_at dksX0_costOf_0 15 rfl rfl)
theorem dX0_costOf_18 : decode cX0_costOf 18 = .ok (.ifCond .eq 16, 3) := dk_153 0 16 (dk_at dksX0_costOf_0 18 rfl rfl)
theorem dX0_costOf_21 : decode cX0_costOf 21 = .ok (.aload_n 0, 1) := dk_42 (dk_at dksX0_costOf_0 21 rfl rfl)
theorem dX0_costOf_22 : decode cX0_costOf 22 = .ok (.getfield 44, 3) := dk_180 0 44 (dk_at dksX0_costOf_1 0 rfl rfl)
theorem dX0_costOf_25 : decode cX0_costOf 25 = .ok (.iconst 4, 1) := dk_7 (dk_at dksX0_costOf_1 3 rfl rfl)
theorem dX0_costOf_26 : decode cX0_costOf 26 = .ok (.iload_n 3, 1) := dk_29 (dk_at dksX0_costOf_1 4 rfl rfl)
theorem dX0_costOf_27 : decode cX0_costOf 27 = .ok (.imul, 1) := dk_104 (dk_at dksX0_costOf_1 5 rfl rfl)
theorem dX0_costOf_28 : decode cX0_costOf 28 = .ok (.iconst 3, 1) := dk_6 (dk_at dksX0_costOf_1 6 rfl rfl)
theorem dX0_costOf_29 : decode cX0_costOf 29 = .ok (.iadd, 1) := dk_96 (dk_at dksX0_costOf_1 7 rfl rfl)
theorem dX0_costOf_30 : decode cX0_costOf 30 = .ok (.iaload, 1) := dk_46 (dk_at dksX0_costOf_1 8 rfl rfl)
theorem dX0_costOf_31 : decode cX0_costOf 31 = .ok (.goto 4, 3) := dk_167 0 4 (dk_at dksX0_costOf_1 9 rfl rfl)
theorem dX0_costOf_34 : decode cX0_costOf 34 = .ok (.iconst 0, 1) := dk_3 (dk_at dksX0_costOf_1 12 rfl rfl)
theorem dX0_costOf_35 : decode cX0_costOf 35 = .ok (.iadd, 1) := dk_96 (dk_at dksX0_costOf_1 13 rfl rfl)
theorem dX0_costOf_36 : decode cX0_costOf 36 = .ok (.istore_n 2, 1) := dk_61 (dk_at dksX0_costOf_1 14 rfl rfl)
theorem dX0_costOf_37 : decode cX0_costOf 37 = .ok (.iinc 3 1, 3) := dk_132 3 1 (dk_at dksX0_costOf_1 15 rfl rfl)
theorem dX0_costOf_40 : decode cX0_costOf 40 = .ok (.goto (-36), 3) := dk_167 255 220 (dk_at dksX0_costOf_1 18 rfl rfl)
theorem dX0_costOf_43 : decode cX0_costOf 43 = .ok (.iload_n 2, 1) := dk_28 (dk_at dksX0_costOf_1 21 rfl rfl)
theorem dX0_costOf_44 : decode cX0_costOf 44 = .ok (.ireturn, 1) := dk_172 (dk_at dksX0_costOf_1 22 rfl rfl)
abbrev cX0_stances : ByteArray := prog_1_method_49_code
def yX0_stances : MethodName := ⟨RX0, "stances", "()I"⟩
def dkwX0_stances_1 : List UInt8 := [3, 128, 60, 132, 2, 1, 167, 255, 230, 27, 172]
abbrev dktX0_stances_1 : List UInt8 := dkwX0_stances_1 ++ []
def dkwX0_stances_0 : List UInt8 := [3, 60, 3, 61, 28, 7, 162, 0, 27, 27, 42, 28, 182, 1, 28, 153, 0, 9, 4, 28, 120, 167, 0, 4]
abbrev dktX0_stances_0 : List UInt8 := dkwX0_stances_0 ++ dktX0_stances_1
theorem dksX0_stances_0 : cX0_stances.data.toList.drop 0 = dktX0_stances_0 := by decide +kernel
theorem dksX0_stances_1 : cX0_stances.data.toList.drop 24 = dktX0_stances_1 := dk_seg dksX0_stances_0 24 rfl rfl
theorem dX0_stances_0 : decode cX0_stances 0 = .ok (.iconst 0, 1) := dk_3 (dk_at dksX0_stances_0 0 rfl rfl)
theorem dX0_stances_1 : decode cX0_stances 1 = .ok (.istore_n 1, 1) := dk_60 (dk_at dksX0_stances_0 1 rfl rfl)
theorem dX0_stances_2 : decode cX0_stances 2 = .ok (.iconst 0, 1) := dk_3 (dk_at dksX0_stances_0 2 rfl rfl)
theorem dX0_stances_3 : decode cX0_stances 3 = .ok (.istore_n 2, 1) := dk_61 (dk_at dksX0_stances_0 3 rfl rfl)
theorem dX0_stances_4 : decode cX0_stances 4 = .ok (.iload_n 2, 1) := dk_28 (dk_at dksX0_stances_0 4 rfl rfl)
theorem dX0_stances_5 : decode cX0_stances 5 = .ok (.iconst 4, 1) := dk_7 (dk_at dksX0_stances_0 5 rfl rfl)
theorem dX0_stances_6 : decode cX0_stances 6 = .ok (.if_icmp .ge 27, 3) := dk_162 0 27 (dk_at dksX0_stances_0 6 rfl rfl)
theorem dX0_stances_9 : decode cX0_stances 9 = .ok (.iload_n 1, 1) := dk_27 (dk_at dksX0_stances_0 9 rfl rfl)
theorem dX0_stances_10 : decode cX0_stances 10 = .ok (.aload_n 0, 1) := dk_42 (dk_at dksX0_stances_0 10 rfl rfl)
theorem dX0_stances_11 : decode cX0_stances 11 = .ok (.iload_n 2, 1) := dk_28 (dk_at dksX0_stances_0 11 rfl rfl)
theorem dX0_stances_12 : decode cX0_stances 12 = .ok (.invokevirtual 284, 3) := dk_182 1 28 (dk_at dksX0_stances_0 12 rfl rfl)
theorem dX0_stances_15 : decode cX0_stances 15 = .ok (.ifCond .eq 9, 3) := dk_153 0 9 (dk_at dksX0_stances_0 15 rfl rfl)
theorem dX0_stances_18 : decode cX0_stances 18 = .ok (.iconst 1, 1) := dk_4 (dk_at dksX0_stances_0 18 rfl rfl)
theorem dX0_stances_19 : decode cX0_stances 19 = .ok (.iload_n 2, 1) := dk_28 (dk_at dksX0_stances_0 19 rfl rfl)
theorem dX0_stances_20 : decode cX0_stances 20 = .ok (.ishl, 1) := dk_120 (dk_at dksX0_stances_0 20 rfl rfl)
theorem dX0_stances_21 : decode cX0_stances 21 = .ok (.goto 4, 3) := dk_167 0 4 (dk_at dksX0_stances_0 21 rfl rfl)
theorem dX0_stances_24 : decode cX0_stances 24 = .ok (.iconst 0, 1) := dk_3 (dk_at dksX0_stances_1 0 rfl rfl)
theorem dX0_stances_25 : decode cX0_stances 25 = .ok (.ior, 1) := dk_128 (dk_at dksX0_stances_1 1 rfl rfl)
theorem dX0_stances_26 : decode cX0_stances 26 = .ok (.istore_n 1, 1) := dk_60 (dk_at dksX0_stances_1 2 rfl rfl)
theorem dX0_stances_27 : decode cX0_stances 27 = .ok (.iinc 2 1, 3) := dk_132 2 1 (dk_at dksX0_stances_1 3 rfl rfl)
theorem dX0_stances_30 : decode cX0_stances 30 = .ok (.goto (-26), 3) := dk_167 255 230 (dk_at dksX0_stances_1 6 rfl rfl)
theorem dX0_stances_33 : decode cX0_stances 33 = .ok (.iload_n 1, 1) := dk_27 (dk_at dksX0_stances_1 9 rfl rfl)
theorem dX0_stances_34 : decode cX0_stances 34 = .ok (.ireturn, 1) := dk_172 (dk_at dksX0_stances_1 10 rfl rfl)
abbrev cX0_isHidden : ByteArray := prog_1_method_48_code
def yX0_isHidden : MethodName := ⟨RX0, "isHidden", "(I)Z"⟩
def dkwX0_isHidden_4 : List UInt8 := [167, 255, 173, 132, 3, 1, 167, 255, 158, 28, 172]
abbrev dktX0_isHidden_4 : List UInt8 := dkwX0_isHidden_4 ++ []
def dkwX0_isHidden_3 : List UInt8 := [50, 180, 0, 111, 16, 10, 108, 27, 182, 0, 244, 154, 0, 7, 4, 167, 0, 4, 3, 126, 61, 132, 4, 1]
abbrev dktX0_isHidden_3 : List UInt8 := dkwX0_isHidden_3 ++ dktX0_isHidden_4
def dkwX0_isHidden_2 : List UInt8 := [180, 0, 26, 21, 4, 185, 0, 130, 2, 0, 192, 0, 51, 180, 0, 134, 42, 180, 0, 16, 180, 0, 101, 29]
abbrev dktX0_isHidden_2 : List UInt8 := dkwX0_isHidden_2 ++ dktX0_isHidden_3
def dkwX0_isHidden_1 : List UInt8 := [162, 0, 75, 42, 180, 0, 16, 180, 0, 101, 29, 50, 180, 0, 111, 158, 0, 60, 28, 42, 180, 0, 16, 42]
abbrev dktX0_isHidden_1 : List UInt8 := dkwX0_isHidden_1 ++ dktX0_isHidden_2
def dkwX0_isHidden_0 : List UInt8 := [4, 61, 3, 62, 29, 16, 16, 162, 0, 98, 3, 54, 4, 21, 4, 42, 180, 0, 26, 185, 0, 88, 1, 0]
abbrev dktX0_isHidden_0 : List UInt8 := dkwX0_isHidden_0 ++ dktX0_isHidden_1
theorem dksX0_isHidden_0 : cX0_isHidden.data.toList.drop 0 = dktX0_isHidden_0 := by decide +kernel
theorem dksX0_isHidden_1 : cX0_isHidden.data.toList.drop 24 = dktX0_isHidden_1 := dk_seg dksX0_isHidden_0 24 rfl rfl
theorem dksX0_isHidden_2 : cX0_isHidden.data.toList.drop 48 = dktX0_isHidden_2 := dk_seg dksX0_isHidden_1 24 rfl rfl
theorem dksX0_isHidden_3 : cX0_isHidden.data.toList.drop 72 = dktX0_isHidden_3 := dk_seg dksX0_isHidden_2 24 rfl rfl
theorem dksX0_isHidden_4 : cX0_isHidden.data.toList.drop 96 = dktX0_isHidden_4 := dk_seg dksX0_isHidden_3 24 rfl rfl
theorem dX0_isHidden_0 : decode cX0_isHidden 0 = .ok (.iconst 1, 1) := dk_4 (dk_at dksX0_isHidden_0 0 rfl rfl)
theorem dX0_isHidden_1 : decode cX0_isHidden 1 = .ok (.istore_n 2, 1) := dk_61 (dk_at dksX0_isHidden_0 1 rfl rfl)
theorem dX0_isHidden_2 : decode cX0_isHidden 2 = .ok (.iconst 0, 1) := dk_3 (dk_at dksX0_isHidden_0 2 rfl rfl)
theorem dX0_isHidden_3 : decode cX0_isHidden 3 = .ok (.istore_n 3, 1) := dk_62 (dk_at dksX0_isHidden_0 3 rfl rfl)
theorem dX0_isHidden_4 : decode cX0_isHidden 4 = .ok (.iload_n 3, 1) := dk_29 (dk_at dksX0_isHidden_0 4 rfl rfl)
theorem dX0_isHidden_5 : decode cX0_isHidden 5 = .ok (.bipush 16, 2) := dk_16 16 (dk_at dksX0_isHidden_0 5 rfl rfl)
theorem dX0_isHidden_7 : decode cX0_isHidden 7 = .ok (.if_icmp .ge 98, 3) := dk_162 0 98 (dk_at dksX0_isHidden_0 7 rfl rfl)
theorem dX0_isHidden_10 : decode cX0_isHidden 10 = .ok (.iconst 0, 1) := dk_3 (dk_at dksX0_isHidden_0 10 rfl rfl)
theorem dX0_isHidden_11 : decode cX0_isHidden 11 = .ok (.istore 4, 2) := dk_54 4 (dk_at dksX0_isHidden_0 11 rfl rfl)
theorem dX0_isHidden_13 : decode cX0_isHidden 13 = .ok (.iload 4, 2) := dk_21 4 (dk_at dksX0_isHidden_0 13 rfl rfl)
theorem dX0_isHidden_15 : decode cX0_isHidden 15 = .ok (.aload_n 0, 1) := dk_42 (dk_at dksX0_isHidden_0 15 rfl rfl)
theorem dX0_isHidden_16 : decode cX0_isHidden 16 = .ok (.getfield 26, 3) := dk_180 0 26 (dk_at dksX0_isHidden_0 16 rfl rfl)
theorem dX0_isHidden_19 : decode cX0_isHidden 19 = .ok (.invokeinterface 88 1, 5) := by decide +kernel
theorem dX0_isHidden_24 : decode cX0_isHidden 24 = .ok (.if_icmp .ge 75, 3) := dk_162 0 75 (dk_at dksX0_isHidden_1 0 rfl rfl)
theorem dX0_isHidden_27 : decode cX0_isHidden 27 = .ok (.aload_n 0, 1) := dk_42 (dk_at dksX0_isHidden_1 3 rfl rfl)
theorem dX0_isHidden_28 : decode cX0_isHidden 28 = .ok (.getfield 16, 3) := dk_180 0 16 (dk_at dksX0_isHidden_1 4 rfl rfl)
theorem dX0_isHidden_31 : decode cX0_isHidden 31 = .ok (.getfield 101, 3) := dk_180 0 101 (dk_at dksX0_isHidden_1 7 rfl rfl)
theorem dX0_isHidden_34 : decode cX0_isHidden 34 = .ok (.iload_n 3, 1) := dk_29 (dk_at dksX0_isHidden_1 10 rfl rfl)
theorem dX0_isHidden_35 : decode cX0_isHidden 35 = .ok (.aaload, 1) := dk_50 (dk_at dksX0_isHidden_1 11 rfl rfl)
theorem dX0_isHidden_36 : decode cX0_isHidden 36 = .ok (.getfield 111, 3) := dk_180 0 111 (dk_at dksX0_isHidden_1 12 rfl rfl)
theorem dX0_isHidden_39 : decode cX0_isHidden 39 = .ok (.ifCond .le 60, 3) := dk_158 0 60 (dk_at dksX0_isHidden_1 15 rfl rfl)
theorem dX0_isHidden_42 : decode cX0_isHidden 42 = .ok (.iload_n 2, 1) := dk_28 (dk_at dksX0_isHidden_1 18 rfl rfl)
theorem dX0_isHidden_43 : decode cX0_isHidden 43 = .ok (.aload_n 0, 1) := dk_42 (dk_at dksX0_isHidden_1 19 rfl rfl)
theorem dX0_isHidden_44 : decode cX0_isHidden 44 = .ok (.getfield 16, 3) := dk_180 0 16 (dk_at dksX0_isHidden_1 20 rfl rfl)
theorem dX0_isHidden_47 : decode cX0_isHidden 47 = .ok (.aload_n 0, 1) := dk_42 (dk_at dksX0_isHidden_1 23 rfl rfl)
theorem dX0_isHidden_48 : decode cX0_isHidden 48 = .ok (.getfield 26, 3) := dk_180 0 26 (dk_at dksX0_isHidden_2 0 rfl rfl)
theorem dX0_isHidden_51 : decode cX0_isHidden 51 = .ok (.iload 4, 2) := dk_21 4 (dk_at dksX0_isHidden_2 3 rfl rfl)
theorem dX0_isHidden_53 : decode cX0_isHidden 53 = .ok (.invokeinterface 130 2, 5) := by decide +kernel
theorem dX0_isHidden_58 : decode cX0_isHidden 58 = .ok (.checkcast 51, 3) := dk_192 0 51 (dk_at dksX0_isHidden_2 10 rfl rfl)
theorem dX0_isHidden_61 : decode cX0_isHidden 61 = .ok (.getfield 134, 3) := dk_180 0 134 (dk_at dksX0_isHidden_2 13 rfl rfl)
theorem dX0_isHidden_64 : decode cX0_isHidden 64 = .ok (.aload_n 0, 1) := dk_42 (dk_at dksX0_isHidden_2 16 rfl rfl)
theorem dX0_isHidden_65 : decode cX0_isHidden 65 = .ok (.getfield 16, 3) := dk_180 0 16 (dk_at dksX0_isHidden_2 17 rfl rfl)
theorem dX0_isHidden_68 : decode cX0_isHidden 68 = .ok (.getfield 101, 3) := dk_180 0 101 (dk_at dksX0_isHidden_2 20 rfl rfl)
theorem dX0_isHidden_71 : decode cX0_isHidden 71 = .ok (.iload_n 3, 1) := dk_29 (dk_at dksX0_isHidden_2 23 rfl rfl)
theorem dX0_isHidden_72 : decode cX0_isHidden 72 = .ok (.aaload, 1) := dk_50 (dk_at dksX0_isHidden_3 0 rfl rfl)
theorem dX0_isHidden_73 : decode cX0_isHidden 73 = .ok (.getfield 111, 3) := dk_180 0 111 (dk_at dksX0_isHidden_3 1 rfl rfl)
theorem dX0_isHidden_76 : decode cX0_isHidden 76 = .ok (.bipush 10, 2) := dk_16 10 (dk_at dksX0_isHidden_3 4 rfl rfl)
theorem dX0_isHidden_78 : decode cX0_isHidden 78 = .ok (.idiv, 1) := dk_108 (dk_at dksX0_isHidden_3 6 rfl rfl)
theorem dX0_isHidden_79 : decode cX0_isHidden 79 = .ok (.iload_n 1, 1) := dk_27 (dk_at dksX0_isHidden_3 7 rfl rfl)
theorem dX0_isHidden_80 : decode cX0_isHidden 80 = .ok (.invokevirtual 244, 3) := dk_182 0 244 (dk_at dksX0_isHidden_3 8 rfl rfl)
theorem dX0_isHidden_83 : decode cX0_isHidden 83 = .ok (.ifCond .ne 7, 3) := dk_154 0 7 (dk_at dksX0_isHidden_3 11 rfl rfl)
theorem dX0_isHidden_86 : decode cX0_isHidden 86 = .ok (.iconst 1, 1) := dk_4 (dk_at dksX0_isHidden_3 14 rfl rfl)
theorem dX0_isHidden_87 : decode cX0_isHidden 87 = .ok (.goto 4, 3) := dk_167 0 4 (dk_at dksX0_isHidden_3 15 rfl rfl)
theorem dX0_isHidden_90 : decode cX0_isHidden 90 = .ok (.iconst 0, 1) := dk_3 (dk_at dksX0_isHidden_3 18 rfl rfl)
theorem dX0_isHidden_91 : decode cX0_isHidden 91 = .ok (.iand, 1) := dk_126 (dk_at dksX0_isHidden_3 19 rfl rfl)
theorem dX0_isHidden_92 : decode cX0_isHidden 92 = .ok (.istore_n 2, 1) := dk_61 (dk_at dksX0_isHidden_3 20 rfl rfl)
theorem dX0_isHidden_93 : decode cX0_isHidden 93 = .ok (.iinc 4 1, 3) := dk_132 4 1 (dk_at dksX0_isHidden_3 21 rfl rfl)
theorem dX0_isHidden_96 : decode cX0_isHidden 96 = .ok (.goto (-83), 3) := dk_167 255 173 (dk_at dksX0_isHidden_4 0 rfl rfl)
theorem dX0_isHidden_99 : decode cX0_isHidden 99 = .ok (.iinc 3 1, 3) := dk_132 3 1 (dk_at dksX0_isHidden_4 3 rfl rfl)
theorem dX0_isHidden_102 : decode cX0_isHidden 102 = .ok (.goto (-98), 3) := dk_167 255 158 (dk_at dksX0_isHidden_4 6 rfl rfl)
theorem dX0_isHidden_105 : decode cX0_isHidden 105 = .ok (.iload_n 2, 1) := dk_28 (dk_at dksX0_isHidden_4 9 rfl rfl)
theorem dX0_isHidden_106 : decode cX0_isHidden 106 = .ok (.ireturn, 1) := dk_172 (dk_at dksX0_isHidden_4 10 rfl rfl)
abbrev cX0_often : ByteArray := prog_1_method_50_code
def yX0_often : MethodName := ⟨RX0, "often", "(I)I"⟩
def dkwX0_often_1 : List UInt8 := [180, 0, 16, 42, 180, 0, 26, 28, 182, 1, 13, 27, 164, 0, 9, 132, 2, 255, 167, 255, 232, 28, 172]
abbrev dktX0_often_1 : List UInt8 := dkwX0_often_1 ++ []
def dkwX0_often_0 : List UInt8 := [27, 3, 19, 1, 31, 184, 0, 3, 154, 0, 5, 2, 172, 16, 9, 61, 28, 158, 0, 26, 42, 42]
abbrev dktX0_often_0 : List UInt8 := dkwX0_often_0 ++ dktX0_often_1
theorem dksX0_often_0 : cX0_often.data.toList.drop 0 = dktX0_often_0 := by decide +kernel
theorem dksX0_often_1 : cX0_often.data.toList.drop 22 = dktX0_often_1 := dk_seg dksX0_often_0 22 rfl rfl
theorem dX0_often_0 : decode cX0_often 0 = .ok (.iload_n 1, 1) := dk_27 (dk_at dksX0_often_0 0 rfl rfl)
theorem dX0_often_1 : decode cX0_often 1 = .ok (.iconst 0, 1) := dk_3 (dk_at dksX0_often_0 1 rfl rfl)
theorem dX0_often_2 : decode cX0_often 2 = .ok (.ldc_w 287, 3) := dk_19 1 31 (dk_at dksX0_often_0 2 rfl rfl)
theorem dX0_often_5 : decode cX0_often 5 = .ok (.invokestatic 3, 3) := dk_184 0 3 (dk_at dksX0_often_0 5 rfl rfl)
theorem dX0_often_8 : decode cX0_often 8 = .ok (.ifCond .ne 5, 3) := dk_154 0 5 (dk_at dksX0_often_0 8 rfl rfl)
theorem dX0_often_11 : decode cX0_often 11 = .ok (.iconst (-1), 1) := dk_2 (dk_at dksX0_often_0 11 rfl rfl)
theorem dX0_often_12 : decode cX0_often 12 = .ok (.ireturn, 1) := dk_172 (dk_at dksX0_often_0 12 rfl rfl)
theorem dX0_often_13 : decode cX0_often 13 = .ok (.bipush 9, 2) := dk_16 9 (dk_at dksX0_often_0 13 rfl rfl)
theorem dX0_often_15 : decode cX0_often 15 = .ok (.istore_n 2, 1) := dk_61 (dk_at dksX0_often_0 15 rfl rfl)
theorem dX0_often_16 : decode cX0_often 16 = .ok (.iload_n 2, 1) := dk_28 (dk_at dksX0_often_0 16 rfl rfl)
theorem dX0_often_17 : decode cX0_often 17 = .ok (.ifCond .le 26, 3) := dk_158 0 26 (dk_at dksX0_often_0 17 rfl rfl)
theorem dX0_often_20 : decode cX0_often 20 = .ok (.aload_n 0, 1) := dk_42 (dk_at dksX0_often_0 20 rfl rfl)
theorem dX0_often_21 : decode cX0_often 21 = .ok (.aload_n 0, 1) := dk_42 (dk_at dksX0_often_0 21 rfl rfl)
theorem dX0_often_22 : decode cX0_often 22 = .ok (.getfield 16, 3) := dk_180 0 16 (dk_at dksX0_often_1 0 rfl rfl)
theorem dX0_often_25 : decode cX0_often 25 = .ok (.aload_n 0, 1) := dk_42 (dk_at dksX0_often_1 3 rfl rfl)
theorem dX0_often_26 : decode cX0_often 26 = .ok (.getfield 26, 3) := dk_180 0 26 (dk_at dksX0_often_1 4 rfl rfl)
theorem dX0_often_29 : decode cX0_often 29 = .ok (.iload_n 2, 1) := dk_28 (dk_at dksX0_often_1 7 rfl rfl)
theorem dX0_often_30 : decode cX0_often 30 = .ok (.invokevirtual 269, 3) := dk_182 1 13 (dk_at dksX0_often_1 8 rfl rfl)
theorem dX0_often_33 : decode cX0_often 33 = .ok (.iload_n 1, 1) := dk_27 (dk_at dksX0_often_1 11 rfl rfl)
theorem dX0_often_34 : decode cX0_often 34 = .ok (.if_icmp .le 9, 3) := dk_164 0 9 (dk_at dksX0_often_1 12 rfl rfl)
theorem dX0_often_37 : decode cX0_often 37 = .ok (.iinc 2 (-1), 3) := dk_132 2 255 (dk_at dksX0_often_1 15 rfl rfl)
theorem dX0_often_40 : decode cX0_often 40 = .ok (.goto (-24), 3) := dk_167 255 232 (dk_at dksX0_often_1 18 rfl rfl)
theorem dX0_often_43 : decode cX0_often 43 = .ok (.iload_n 2, 1) := dk_28 (dk_at dksX0_often_1 21 rfl rfl)
theorem dX0_often_44 : decode cX0_often 44 = .ok (.ireturn, 1) := dk_172 (dk_at dksX0_often_1 22 rfl rfl)
abbrev cX0_warning : ByteArray := prog_1_method_51_code
def yX0_warning : MethodName := ⟨RX0, "warning", "()I"⟩
def dkwX0_warning_3 : List UInt8 := [182, 1, 13, 42, 42, 180, 0, 16, 42, 180, 0, 26, 4, 182, 1, 13, 100, 172]
abbrev dktX0_warning_3 : List UInt8 := dkwX0_warning_3 ++ []
def dkwX0_warning_2 : List UInt8 := [185, 0, 144, 2, 0, 87, 132, 1, 1, 167, 255, 214, 42, 42, 180, 0, 16, 42, 180, 0, 41, 4]
abbrev dktX0_warning_2 : List UInt8 := dkwX0_warning_2 ++ dktX0_warning_3
def dkwX0_warning_1 : List UInt8 := [42, 180, 0, 41, 42, 180, 0, 26, 27, 185, 0, 130, 2, 0, 192, 0, 51, 182, 1, 32]
abbrev dktX0_warning_1 : List UInt8 := dkwX0_warning_1 ++ dktX0_warning_2
def dkwX0_warning_0 : List UInt8 := [42, 180, 0, 41, 185, 0, 223, 1, 0, 3, 60, 27, 42, 180, 0, 26, 185, 0, 88, 1, 0, 162, 0, 35]
abbrev dktX0_warning_0 : List UInt8 := dkwX0_warning_0 ++ dktX0_warning_1
theorem dksX0_warning_0 : cX0_warning.data.toList.drop 0 = dktX0_warning_0 := by decide +kernel
theorem dksX0_warning_1 : cX0_warning.data.toList.drop 24 = dktX0_warning_1 := dk_seg dksX0_warning_0 24 rfl rfl
theorem dksX0_warning_2 : cX0_warning.data.toList.drop 44 = dktX0_warning_2 := dk_seg dksX0_warning_1 20 rfl rfl
theorem dksX0_warning_3 : cX0_warning.data.toList.drop 66 = dktX0_warning_3 := dk_seg dksX0_warning_2 22 rfl rfl
theorem dX0_warning_0 : decode cX0_warning 0 = .ok (.aload_n 0, 1) := dk_42 (dk_at dksX0_warning_0 0 rfl rfl)
theorem dX0_warning_1 : decode cX0_warning 1 = .ok (.getfield 41, 3) := dk_180 0 41 (dk_at dksX0_warning_0 1 rfl rfl)
theorem dX0_warning_4 : decode cX0_warning 4 = .ok (.invokeinterface 223 1, 5) := by decide +kernel
theorem dX0_warning_9 : decode cX0_warning 9 = .ok (.iconst 0, 1) := dk_3 (dk_at dksX0_warning_0 9 rfl rfl)
theorem dX0_warning_10 : decode cX0_warning 10 = .ok (.istore_n 1, 1) := dk_60 (dk_at dksX0_warning_0 10 rfl rfl)
theorem dX0_warning_11 : decode cX0_warning 11 = .ok (.iload_n 1, 1) := dk_27 (dk_at dksX0_warning_0 11 rfl rfl)
theorem dX0_warning_12 : decode cX0_warning 12 = .ok (.aload_n 0, 1) := dk_42 (dk_at dksX0_warning_0 12 rfl rfl)
theorem dX0_warning_13 : decode cX0_warning 13 = .ok (.getfield 26, 3) := dk_180 0 26 (dk_at dksX0_warning_0 13 rfl rfl)
theorem dX0_warning_16 : decode cX0_warning 16 = .ok (.invokeinterface 88 1, 5) := by decide +kernel
theorem dX0_warning_21 : decode cX0_warning 21 = .ok (.if_icmp .ge 35, 3) := dk_162 0 35 (dk_at dksX0_warning_0 21 rfl rfl)
theorem dX0_warning_24 : decode cX0_warning 24 = .ok (.aload_n 0, 1) := dk_42 (dk_at dksX0_warning_1 0 rfl rfl)
theorem dX0_warning_25 : decode cX0_warning 25 = .ok (.getfield 41, 3) := dk_180 0 41 (dk_at dksX0_warning_1 1 rfl rfl)
theorem dX0_warning_28 : decode cX0_warning 28 = .ok (.aload_n 0, 1) := dk_42 (dk_at dksX0_warning_1 4 rfl rfl)
theorem dX0_warning_29 : decode cX0_warning 29 = .ok (.getfield 26, 3) := dk_180 0 26 (dk_at dksX0_warning_1 5 rfl rfl)
theorem dX0_warning_32 : decode cX0_warning 32 = .ok (.iload_n 1, 1) := dk_27 (dk_at dksX0_warning_1 8 rfl rfl)
theorem dX0_warning_33 : decode cX0_warning 33 = .ok (.invokeinterface 130 2, 5) := by decide +kernel
theorem dX0_warning_38 : decode cX0_warning 38 = .ok (.checkcast 51, 3) := dk_192 0 51 (dk_at dksX0_warning_1 14 rfl rfl)
theorem dX0_warning_41 : decode cX0_warning 41 = .ok (.invokevirtual 288, 3) := dk_182 1 32 (dk_at dksX0_warning_1 17 rfl rfl)
theorem dX0_warning_44 : decode cX0_warning 44 = .ok (.invokeinterface 144 2, 5) := by decide +kernel
theorem dX0_warning_49 : decode cX0_warning 49 = .ok (.pop, 1) := dk_87 (dk_at dksX0_warning_2 5 rfl rfl)
theorem dX0_warning_50 : decode cX0_warning 50 = .ok (.iinc 1 1, 3) := dk_132 1 1 (dk_at dksX0_warning_2 6 rfl rfl)
theorem dX0_warning_53 : decode cX0_warning 53 = .ok (.goto (-42), 3) := dk_167 255 214 (dk_at dksX0_warning_2 9 rfl rfl)
theorem dX0_warning_56 : decode cX0_warning 56 = .ok (.aload_n 0, 1) := dk_42 (dk_at dksX0_warning_2 12 rfl rfl)
theorem dX0_warning_57 : decode cX0_warning 57 = .ok (.aload_n 0, 1) := dk_42 (dk_at dksX0_warning_2 13 rfl rfl)
theorem dX0_warning_58 : decode cX0_warning 58 = .ok (.getfield 16, 3) := dk_180 0 16 (dk_at dksX0_warning_2 14 rfl rfl)
theorem dX0_warning_61 : decode cX0_warning 61 = .ok (.aload_n 0, 1) := dk_42 (dk_at dksX0_warning_2 17 rfl rfl)
theorem dX0_warning_62 : decode cX0_warning 62 = .ok (.getfield 41, 3) := dk_180 0 41 (dk_at dksX0_warning_2 18 rfl rfl)
theorem dX0_warning_65 : decode cX0_warning 65 = .ok (.iconst 1, 1) := dk_4 (dk_at dksX0_warning_2 21 rfl rfl)
theorem dX0_warning_66 : decode cX0_warning 66 = .ok (.invokevirtual 269, 3) := dk_182 1 13 (dk_at dksX0_warning_3 0 rfl rfl)
theorem dX0_warning_69 : decode cX0_warning 69 = .ok (.aload_n 0, 1) := dk_42 (dk_at dksX0_warning_3 3 rfl rfl)
theorem dX0_warning_70 : decode cX0_warning 70 = .ok (.aload_n 0, 1) := dk_42 (dk_at dksX0_warning_3 4 rfl rfl)
theorem dX0_warning_71 : decode cX0_warning 71 = .ok (.getfield 16, 3) := dk_180 0 16 (dk_at dksX0_warning_3 5 rfl rfl)
theorem dX0_warning_74 : decode cX0_warning 74 = .ok (.aload_n 0, 1) := dk_42 (dk_at dksX0_warning_3 8 rfl rfl)
theorem dX0_warning_75 : decode cX0_warning 75 = .ok (.getfield 26, 3) := dk_180 0 26 (dk_at dksX0_warning_3 9 rfl rfl)
theorem dX0_warning_78 : decode cX0_warning 78 = .ok (.iconst 1, 1) := dk_4 (dk_at dksX0_warning_3 12 rfl rfl)
theorem dX0_warning_79 : decode cX0_warning 79 = .ok (.invokevirtual 269, 3) := dk_182 1 13 (dk_at dksX0_warning_3 13 rfl rfl)
theorem dX0_warning_82 : decode cX0_warning 82 = .ok (.isub, 1) := dk_100 (dk_at dksX0_warning_3 16 rfl rfl)
theorem dX0_warning_83 : decode cX0_warning 83 = .ok (.ireturn, 1) := dk_172 (dk_at dksX0_warning_3 17 rfl rfl)
abbrev cX0_shown : ByteArray := prog_1_method_53_code
def yX0_shown : MethodName := ⟨RX0, "shown", "(I)I"⟩
def dkwX0_shown_4 : List UInt8 := [21, 4, 162, 0, 10, 21, 5, 62, 21, 6, 54, 4, 132, 5, 1, 167, 255, 220, 29, 172]
abbrev dktX0_shown_4 : List UInt8 := dkwX0_shown_4 ++ []
def dkwX0_shown_3 : List UInt8 := [54, 5, 21, 5, 16, 16, 162, 0, 35, 42, 21, 5, 182, 1, 35, 54, 6, 29, 155, 0, 10, 21, 6]
abbrev dktX0_shown_3 : List UInt8 := dkwX0_shown_3 ++ dktX0_shown_4
def dkwX0_shown_2 : List UInt8 := [158, 0, 7, 29, 167, 0, 4, 28, 61, 132, 3, 1, 167, 255, 226, 16, 252, 62, 3, 54, 4, 28, 4, 96]
abbrev dktX0_shown_2 : List UInt8 := dkwX0_shown_2 ++ dktX0_shown_3
def dkwX0_shown_1 : List UInt8 := [16, 16, 61, 3, 62, 29, 16, 16, 162, 0, 30, 42, 180, 0, 16, 180, 0, 101, 29, 50, 180, 0, 111]
abbrev dktX0_shown_1 : List UInt8 := dkwX0_shown_1 ++ dktX0_shown_2
def dkwX0_shown_0 : List UInt8 := [27, 2, 159, 0, 12, 27, 184, 0, 94, 154, 0, 5, 2, 172, 27, 155, 0, 9, 42, 27, 182, 1, 35, 172]
abbrev dktX0_shown_0 : List UInt8 := dkwX0_shown_0 ++ dktX0_shown_1
theorem dksX0_shown_0 : cX0_shown.data.toList.drop 0 = dktX0_shown_0 := by decide +kernel
theorem dksX0_shown_1 : cX0_shown.data.toList.drop 24 = dktX0_shown_1 := dk_seg dksX0_shown_0 24 rfl rfl
theorem dksX0_shown_2 : cX0_shown.data.toList.drop 47 = dktX0_shown_2 := dk_seg dksX0_shown_1 23 rfl rfl
theorem dksX0_shown_3 : cX0_shown.data.toList.drop 71 = dktX0_shown_3 := dk_seg dksX0_shown_2 24 rfl rfl
theorem dksX0_shown_4 : cX0_shown.data.toList.drop 94 = dktX0_shown_4 := dk_seg dksX0_shown_3 23 rfl rfl
theorem dX0_shown_0 : decode cX0_shown 0 = .ok (.iload_n 1, 1) := dk_27 (dk_at dksX0_shown_0 0 rfl rfl)
theorem dX0_shown_1 : decode cX0_shown 1 = .ok (.iconst (-1), 1) := dk_2 (dk_at dksX0_shown_0 1 rfl rfl)
theorem dX0_shown_2 : decode cX0_shown 2 = .ok (.if_icmp .eq 12, 3) := dk_159 0 12 (dk_at dksX0_shown_0 2 rfl rfl)
theorem dX0_shown_5 : decode cX0_shown 5 = .ok (.iload_n 1, 1) := dk_27 (dk_at dksX0_shown_0 5 rfl rfl)
theorem dX0_shown_6 : decode cX0_shown 6 = .ok (.invokestatic 94, 3) := dk_184 0 94 (dk_at dksX0_shown_0 6 rfl rfl)
theorem dX0_shown_9 : decode cX0_shown 9 = .ok (.ifCond .ne 5, 3) := dk_154 0 5 (dk_at dksX0_shown_0 9 rfl rfl)
theorem dX0_shown_12 : decode cX0_shown 12 = .ok (.iconst (-1), 1) := dk_2 (dk_at dksX0_shown_0 12 rfl rfl)
theorem dX0_shown_13 : decode cX0_shown 13 = .ok (.ireturn, 1) := dk_172 (dk_at dksX0_shown_0 13 rfl rfl)
theorem dX0_shown_14 : decode cX0_shown 14 = .ok (.iload_n 1, 1) := dk_27 (dk_at dksX0_shown_0 14 rfl rfl)
theorem dX0_shown_15 : decode cX0_shown 15 = .ok (.ifCond .lt 9, 3) := dk_155 0 9 (dk_at dksX0_shown_0 15 rfl rfl)
theorem dX0_shown_18 : decode cX0_shown 18 = .ok (.aload_n 0, 1) := dk_42 (dk_at dksX0_shown_0 18 rfl rfl)
theorem dX0_shown_19 : decode cX0_shown 19 = .ok (.iload_n 1, 1) := dk_27 (dk_at dksX0_shown_0 19 rfl rfl)
theorem dX0_shown_20 : decode cX0_shown 20 = .ok (.invokevirtual 291, 3) := dk_182 1 35 (dk_at dksX0_shown_0 20 rfl rfl)
theorem dX0_shown_23 : decode cX0_shown 23 = .ok (.ireturn, 1) := dk_172 (dk_at dksX0_shown_0 23 rfl rfl)
theorem dX0_shown_24 : decode cX0_shown 24 = .ok (.bipush 16, 2) := dk_16 16 (dk_at dksX0_shown_1 0 rfl rfl)
theorem dX0_shown_26 : decode cX0_shown 26 = .ok (.istore_n 2, 1) := dk_61 (dk_at dksX0_shown_1 2 rfl rfl)
theorem dX0_shown_27 : decode cX0_shown 27 = .ok (.iconst 0, 1) := dk_3 (dk_at dksX0_shown_1 3 rfl rfl)
theorem dX0_shown_28 : decode cX0_shown 28 = .ok (.istore_n 3, 1) := dk_62 (dk_at dksX0_shown_1 4 rfl rfl)
theorem dX0_shown_29 : decode cX0_shown 29 = .ok (.iload_n 3, 1) := dk_29 (dk_at dksX0_shown_1 5 rfl rfl)
theorem dX0_shown_30 : decode cX0_shown 30 = .ok (.bipush 16, 2) := dk_16 16 (dk_at dksX0_shown_1 6 rfl rfl)
theorem dX0_shown_32 : decode cX0_shown 32 = .ok (.if_icmp .ge 30, 3) := dk_162 0 30 (dk_at dksX0_shown_1 8 rfl rfl)
theorem dX0_shown_35 : decode cX0_shown 35 = .ok (.aload_n 0, 1) := dk_42 (dk_at dksX0_shown_1 11 rfl rfl)
theorem dX0_shown_36 : decode cX0_shown 36 = .ok (.getfield 16, 3) := dk_180 0 16 (dk_at dksX0_shown_1 12 rfl rfl)
theorem dX0_shown_39 : decode cX0_shown 39 = .ok (.getfield 101, 3) := dk_180 0 101 (dk_at dksX0_shown_1 15 rfl rfl)
theorem dX0_shown_42 : decode cX0_shown 42 = .ok (.iload_n 3, 1) := dk_29 (dk_at dksX0_shown_1 18 rfl rfl)
theorem dX0_shown_43 : decode cX0_shown 43 = .ok (.aaload, 1) := dk_50 (dk_at dksX0_shown_1 19 rfl rfl)
theorem dX0_shown_44 : decode cX0_shown 44 = .ok (.getfield 111, 3) := dk_180 0 111 (dk_at dksX0_shown_1 20 rfl rfl)
theorem dX0_shown_47 : decode cX0_shown 47 = .ok (.ifCond .le 7, 3) := dk_158 0 7 (dk_at dksX0_shown_2 0 rfl rfl)
theorem dX0_shown_50 : decode cX0_shown 50 = .ok (.iload_n 3, 1) := dk_29 (dk_at dksX0_shown_2 3 rfl rfl)
theorem dX0_shown_51 : decode cX0_shown 51 = .ok (.goto 4, 3) := dk_167 0 4 (dk_at dksX0_shown_2 4 rfl rfl)
theorem dX0_shown_54 : decode cX0_shown 54 = .ok (.iload_n 2, 1) := dk_28 (dk_at dksX0_shown_2 7 rfl rfl)
theorem dX0_shown_55 : decode cX0_shown 55 = .ok (.istore_n 2, 1) := dk_61 (dk_at dksX0_shown_2 8 rfl rfl)
theorem dX0_shown_56 : decode cX0_shown 56 = .ok (.iinc 3 1, 3) := dk_132 3 1 (dk_at dksX0_shown_2 9 rfl rfl)
theorem dX0_shown_59 : decode cX0_shown 59 = .ok (.goto (-30), 3) := dk_167 255 226 (dk_at dksX0_shown_2 12 rfl rfl)
theorem dX0_shown_62 : decode cX0_shown 62 = .ok (.bipush (-4), 2) := dk_16 252 (dk_at dksX0_shown_2 15 rfl rfl)
theorem dX0_shown_64 : decode cX0_shown 64 = .ok (.istore_n 3, 1) := dk_62 (dk_at dksX0_shown_2 17 rfl rfl)
theorem dX0_shown_65 : decode cX0_shown 65 = .ok (.iconst 0, 1) := dk_3 (dk_at dksX0_shown_2 18 rfl rfl)
theorem dX0_shown_66 : decode cX0_shown 66 = .ok (.istore 4, 2) := dk_54 4 (dk_at dksX0_shown_2 19 rfl rfl)
theorem dX0_shown_68 : decode cX0_shown 68 = .ok (.iload_n 2, 1) := dk_28 (dk_at dksX0_shown_2 21 rfl rfl)
theorem dX0_shown_69 : decode cX0_shown 69 = .ok (.iconst 1, 1) := dk_4 (dk_at dksX0_shown_2 22 rfl rfl)
theorem dX0_shown_70 : decode cX0_shown 70 = .ok (.iadd, 1) := dk_96 (dk_at dksX0_shown_2 23 rfl rfl)
theorem dX0_shown_71 : decode cX0_shown 71 = .ok (.istore 5, 2) := dk_54 5 (dk_at dksX0_shown_3 0 rfl rfl)
theorem dX0_shown_73 : decode cX0_shown 73 = .ok (.iload 5, 2) := dk_21 5 (dk_at dksX0_shown_3 2 rfl rfl)
theorem dX0_shown_75 : decode cX0_shown 75 = .ok (.bipush 16, 2) := dk_16 16 (dk_at dksX0_shown_3 4 rfl rfl)
theorem dX0_shown_77 : decode cX0_shown 77 = .ok (.if_icmp .ge 35, 3) := dk_162 0 35 (dk_at dksX0_shown_3 6 rfl rfl)
theorem dX0_shown_80 : decode cX0_shown 80 = .ok (.aload_n 0, 1) := dk_42 (dk_at dksX0_shown_3 9 rfl rfl)
theorem dX0_shown_81 : decode cX0_shown 81 = .ok (.iload 5, 2) := dk_21 5 (dk_at dksX0_shown_3 10 rfl rfl)
theorem dX0_shown_83 : decode cX0_shown 83 = .ok (.invokevirtual 291, 3) := dk_182 1 35 (dk_at dksX0_shown_3 12 rfl rfl)
theorem dX0_shown_86 : decode cX0_shown 86 = .ok (.istore 6, 2) := dk_54 6 (dk_at dksX0_shown_3 15 rfl rfl)
theorem dX0_shown_88 : decode cX0_shown 88 = .ok (.iload_n 3, 1) := dk_29 (dk_at dksX0_shown_3 17 rfl rfl)
theorem dX0_shown_89 : decode cX0_shown 89 = .ok (.ifCond .lt 10, 3) := dk_155 0 10 (dk_at dksX0_shown_3 18 rfl rfl)
theorem dX0_shown_92 : decode cX0_shown 92 = .ok (.iload 6, 2) := dk_21 6 (dk_at dksX0_shown_3 21 rfl rfl)
theorem dX0_shown_94 : decode cX0_shown 94 = .ok (.iload 4, 2) := dk_21 4 (dk_at dksX0_shown_4 0 rfl rfl)
theorem dX0_shown_96 : decode cX0_shown 96 = .ok (.if_icmp .ge 10, 3) := dk_162 0 10 (dk_at dksX0_shown_4 2 rfl rfl)
theorem dX0_shown_99 : decode cX0_shown 99 = .ok (.iload 5, 2) := dk_21 5 (dk_at dksX0_shown_4 5 rfl rfl)
theorem dX0_shown_101 : decode cX0_shown 101 = .ok (.istore_n 3, 1) := dk_62 (dk_at dksX0_shown_4 7 rfl rfl)
theorem dX0_shown_102 : decode cX0_shown 102 = .ok (.iload 6, 2) := dk_21 6 (dk_at dksX0_shown_4 8 rfl rfl)
theorem dX0_shown_104 : decode cX0_shown 104 = .ok (.istore 4, 2) := dk_54 4 (dk_at dksX0_shown_4 10 rfl rfl)
theorem dX0_shown_106 : decode cX0_shown 106 = .ok (.iinc 5 1, 3) := dk_132 5 1 (dk_at dksX0_shown_4 12 rfl rfl)
theorem dX0_shown_109 : decode cX0_shown 109 = .ok (.goto (-36), 3) := dk_167 255 220 (dk_at dksX0_shown_4 15 rfl rfl)
theorem dX0_shown_112 : decode cX0_shown 112 = .ok (.iload_n 3, 1) := dk_29 (dk_at dksX0_shown_4 18 rfl rfl)
theorem dX0_shown_113 : decode cX0_shown 113 = .ok (.ireturn, 1) := dk_172 (dk_at dksX0_shown_4 19 rfl rfl)
abbrev cX0_shownAt : ByteArray := prog_1_method_52_code
def yX0_shownAt : MethodName := ⟨RX0, "shownAt", "(I)I"⟩
def dkwX0_shownAt_2 : List UInt8 := [96, 61, 132, 3, 1, 167, 255, 207, 28, 172]
abbrev dktX0_shownAt_2 : List UInt8 := dkwX0_shownAt_2 ++ []
def dkwX0_shownAt_1 : List UInt8 := [3, 16, 10, 42, 180, 0, 16, 180, 0, 127, 7, 46, 27, 29, 100, 104, 100, 184, 0, 247, 104, 16, 10, 108]
abbrev dktX0_shownAt_1 : List UInt8 := dkwX0_shownAt_1 ++ dktX0_shownAt_2
def dkwX0_shownAt_0 : List UInt8 := [3, 61, 3, 62, 29, 27, 162, 0, 50, 28, 42, 42, 180, 0, 16, 42, 180, 0, 26, 29, 4, 182, 1, 9]
abbrev dktX0_shownAt_0 : List UInt8 := dkwX0_shownAt_0 ++ dktX0_shownAt_1
theorem dksX0_shownAt_0 : cX0_shownAt.data.toList.drop 0 = dktX0_shownAt_0 := by decide +kernel
theorem dksX0_shownAt_1 : cX0_shownAt.data.toList.drop 24 = dktX0_shownAt_1 := dk_seg dksX0_shownAt_0 24 rfl rfl
theorem dksX0_shownAt_2 : cX0_shownAt.data.toList.drop 48 = dktX0_shownAt_2 := dk_seg dksX0_shownAt_1 24 rfl rfl
theorem dX0_shownAt_0 : decode cX0_shownAt 0 = .ok (.iconst 0, 1) := dk_3 (dk_at dksX0_shownAt_0 0 rfl rfl)
theorem dX0_shownAt_1 : decode cX0_shownAt 1 = .ok (.istore_n 2, 1) := dk_61 (dk_at dksX0_shownAt_0 1 rfl rfl)
theorem dX0_shownAt_2 : decode cX0_shownAt 2 = .ok (.iconst 0, 1) := dk_3 (dk_at dksX0_shownAt_0 2 rfl rfl)
theorem dX0_shownAt_3 : decode cX0_shownAt 3 = .ok (.istore_n 3, 1) := dk_62 (dk_at dksX0_shownAt_0 3 rfl rfl)
theorem dX0_shownAt_4 : decode cX0_shownAt 4 = .ok (.iload_n 3, 1) := dk_29 (dk_at dksX0_shownAt_0 4 rfl rfl)
theorem dX0_shownAt_5 : decode cX0_shownAt 5 = .ok (.iload_n 1, 1) := dk_27 (dk_at dksX0_shownAt_0 5 rfl rfl)
theorem dX0_shownAt_6 : decode cX0_shownAt 6 = .ok (.if_icmp .ge 50, 3) := dk_162 0 50 (dk_at dksX0_shownAt_0 6 rfl rfl)
theorem dX0_shownAt_9 : decode cX0_shownAt 9 = .ok (.iload_n 2, 1) := dk_28 (dk_at dksX0_shownAt_0 9 rfl rfl)
theorem dX0_shownAt_10 : decode cX0_shownAt 10 = .ok (.aload_n 0, 1) := dk_42 (dk_at dksX0_shownAt_0 10 rfl rfl)
theorem dX0_shownAt_11 : decode cX0_shownAt 11 = .ok (.aload_n 0, 1) := dk_42 (dk_at dksX0_shownAt_0 11 rfl rfl)
theorem dX0_shownAt_12 : decode cX0_shownAt 12 = .ok (.getfield 16, 3) := dk_180 0 16 (dk_at dksX0_shownAt_0 12 rfl rfl)
theorem dX0_shownAt_15 : decode cX0_shownAt 15 = .ok (.aload_n 0, 1) := dk_42 (dk_at dksX0_shownAt_0 15 rfl rfl)
theorem dX0_shownAt_16 : decode cX0_shownAt 16 = .ok (.getfield 26, 3) := dk_180 0 26 (dk_at dksX0_shownAt_0 16 rfl rfl)
theorem dX0_shownAt_19 : decode cX0_shownAt 19 = .ok (.iload_n 3, 1) := dk_29 (dk_at dksX0_shownAt_0 19 rfl rfl)
theorem dX0_shownAt_20 : decode cX0_shownAt 20 = .ok (.iconst 1, 1) := dk_4 (dk_at dksX0_shownAt_0 20 rfl rfl)
theorem dX0_shownAt_21 : decode cX0_shownAt 21 = .ok (.invokevirtual 265, 3) := dk_182 1 9 (dk_at dksX0_shownAt_0 21 rfl rfl)
theorem dX0_shownAt_24 : decode cX0_shownAt 24 = .ok (.iconst 0, 1) := dk_3 (dk_at dksX0_shownAt_1 0 rfl rfl)
theorem dX0_shownAt_25 : decode cX0_shownAt 25 = .ok (.bipush 10, 2) := dk_16 10 (dk_at dksX0_shownAt_1 1 rfl rfl)
theorem dX0_shownAt_27 : decode cX0_shownAt 27 = .ok (.aload_n 0, 1) := dk_42 (dk_at dksX0_shownAt_1 3 rfl rfl)
theorem dX0_shownAt_28 : decode cX0_shownAt 28 = .ok (.getfield 16, 3) := dk_180 0 16 (dk_at dksX0_shownAt_1 4 rfl rfl)
theorem dX0_shownAt_31 : decode cX0_shownAt 31 = .ok (.getfield 127, 3) := dk_180 0 127 (dk_at dksX0_shownAt_1 7 rfl rfl)
theorem dX0_shownAt_34 : decode cX0_shownAt 34 = .ok (.iconst 4, 1) := dk_7 (dk_at dksX0_shownAt_1 10 rfl rfl)
theorem dX0_shownAt_35 : decode cX0_shownAt 35 = .ok (.iaload, 1) := dk_46 (dk_at dksX0_shownAt_1 11 rfl rfl)
theorem dX0_shownAt_36 : decode cX0_shownAt 36 = .ok (.iload_n 1, 1) := dk_27 (dk_at dksX0_shownAt_1 12 rfl rfl)
theorem dX0_shownAt_37 : decode cX0_shownAt 37 = .ok (.iload_n 3, 1) := dk_29 (dk_at dksX0_shownAt_1 13 rfl rfl)
theorem dX0_shownAt_38 : decode cX0_shownAt 38 = .ok (.isub, 1) := dk_100 (dk_at dksX0_shownAt_1 14 rfl rfl)
theorem dX0_shownAt_39 : decode cX0_shownAt 39 = .ok (.imul, 1) := dk_104 (dk_at dksX0_shownAt_1 15 rfl rfl)
theorem dX0_shownAt_40 : decode cX0_shownAt 40 = .ok (.isub, 1) := dk_100 (dk_at dksX0_shownAt_1 16 rfl rfl)
theorem dX0_shownAt_41 : decode cX0_shownAt 41 = .ok (.invokestatic 247, 3) := dk_184 0 247 (dk_at dksX0_shownAt_1 17 rfl rfl)
theorem dX0_shownAt_44 : decode cX0_shownAt 44 = .ok (.imul, 1) := dk_104 (dk_at dksX0_shownAt_1 20 rfl rfl)
theorem dX0_shownAt_45 : decode cX0_shownAt 45 = .ok (.bipush 10, 2) := dk_16 10 (dk_at dksX0_shownAt_1 21 rfl rfl)
theorem dX0_shownAt_47 : decode cX0_shownAt 47 = .ok (.idiv, 1) := dk_108 (dk_at dksX0_shownAt_1 23 rfl rfl)
theorem dX0_shownAt_48 : decode cX0_shownAt 48 = .ok (.iadd, 1) := dk_96 (dk_at dksX0_shownAt_2 0 rfl rfl)
theorem dX0_shownAt_49 : decode cX0_shownAt 49 = .ok (.istore_n 2, 1) := dk_61 (dk_at dksX0_shownAt_2 1 rfl rfl)
theorem dX0_shownAt_50 : decode cX0_shownAt 50 = .ok (.iinc 3 1, 3) := dk_132 3 1 (dk_at dksX0_shownAt_2 2 rfl rfl)
theorem dX0_shownAt_53 : decode cX0_shownAt 53 = .ok (.goto (-49), 3) := dk_167 255 207 (dk_at dksX0_shownAt_2 5 rfl rfl)
theorem dX0_shownAt_56 : decode cX0_shownAt 56 = .ok (.iload_n 2, 1) := dk_28 (dk_at dksX0_shownAt_2 8 rfl rfl)
theorem dX0_shownAt_57 : decode cX0_shownAt 57 = .ok (.ireturn, 1) := dk_172 (dk_at dksX0_shownAt_2 9 rfl rfl)
abbrev cX0_point : ByteArray := prog_1_method_54_code
def yX0_point : MethodName := ⟨RX0, "point", "(II)I"⟩
def dkwX0_point_2 : List UInt8 := [180, 0, 169, 104, 4, 96, 28, 79, 42, 89, 180, 0, 169, 4, 96, 181, 0, 169, 42, 180, 0, 169, 172]
abbrev dktX0_point_2 : List UInt8 := dkwX0_point_2 ++ []
def dkwX0_point_1 : List UInt8 := [160, 0, 6, 16, 253, 172, 42, 180, 0, 48, 5, 42, 180, 0, 169, 104, 27, 79, 42, 180, 0, 48, 5, 42]
abbrev dktX0_point_1 : List UInt8 := dkwX0_point_1 ++ dktX0_point_2
def dkwX0_point_0 : List UInt8 := [27, 184, 0, 94, 153, 0, 10, 28, 184, 0, 98, 154, 0, 5, 2, 172, 42, 180, 0, 169, 16, 24]
abbrev dktX0_point_0 : List UInt8 := dkwX0_point_0 ++ dktX0_point_1
theorem dksX0_point_0 : cX0_point.data.toList.drop 0 = dktX0_point_0 := by decide +kernel
theorem dksX0_point_1 : cX0_point.data.toList.drop 22 = dktX0_point_1 := dk_seg dksX0_point_0 22 rfl rfl
theorem dksX0_point_2 : cX0_point.data.toList.drop 46 = dktX0_point_2 := dk_seg dksX0_point_1 24 rfl rfl
theorem dX0_point_0 : decode cX0_point 0 = .ok (.iload_n 1, 1) := dk_27 (dk_at dksX0_point_0 0 rfl rfl)
theorem dX0_point_1 : decode cX0_point 1 = .ok (.invokestatic 94, 3) := dk_184 0 94 (dk_at dksX0_point_0 1 rfl rfl)
theorem dX0_point_4 : decode cX0_point 4 = .ok (.ifCond .eq 10, 3) := dk_153 0 10 (dk_at dksX0_point_0 4 rfl rfl)
theorem dX0_point_7 : decode cX0_point 7 = .ok (.iload_n 2, 1) := dk_28 (dk_at dksX0_point_0 7 rfl rfl)
theorem dX0_point_8 : decode cX0_point 8 = .ok (.invokestatic 98, 3) := dk_184 0 98 (dk_at dksX0_point_0 8 rfl rfl)
theorem dX0_point_11 : decode cX0_point 11 = .ok (.ifCond .ne 5, 3) := dk_154 0 5 (dk_at dksX0_point_0 11 rfl rfl)
theorem dX0_point_14 : decode cX0_point 14 = .ok (.iconst (-1), 1) := dk_2 (dk_at dksX0_point_0 14 rfl rfl)
theorem dX0_point_15 : decode cX0_point 15 = .ok (.ireturn, 1) := dk_172 (dk_at dksX0_point_0 15 rfl rfl)
theorem dX0_point_16 : decode cX0_point 16 = .ok (.aload_n 0, 1) := dk_42 (dk_at dksX0_point_0 16 rfl rfl)
theorem dX0_point_17 : decode cX0_point 17 = .ok (.getfield 169, 3) := dk_180 0 169 (dk_at dksX0_point_0 17 rfl rfl)
theorem dX0_point_20 : decode cX0_point 20 = .ok (.bipush 24, 2) := dk_16 24 (dk_at dksX0_point_0 20 rfl rfl)
theorem dX0_point_22 : decode cX0_point 22 = .ok (.if_icmp .ne 6, 3) := dk_160 0 6 (dk_at dksX0_point_1 0 rfl rfl)
theorem dX0_point_25 : decode cX0_point 25 = .ok (.bipush (-3), 2) := dk_16 253 (dk_at dksX0_point_1 3 rfl rfl)
theorem dX0_point_27 : decode cX0_point 27 = .ok (.ireturn, 1) := dk_172 (dk_at dksX0_point_1 5 rfl rfl)
theorem dX0_point_28 : decode cX0_point 28 = .ok (.aload_n 0, 1) := dk_42 (dk_at dksX0_point_1 6 rfl rfl)
theorem dX0_point_29 : decode cX0_point 29 = .ok (.getfield 48, 3) := dk_180 0 48 (dk_at dksX0_point_1 7 rfl rfl)
theorem dX0_point_32 : decode cX0_point 32 = .ok (.iconst 2, 1) := dk_5 (dk_at dksX0_point_1 10 rfl rfl)
theorem dX0_point_33 : decode cX0_point 33 = .ok (.aload_n 0, 1) := dk_42 (dk_at dksX0_point_1 11 rfl rfl)
theorem dX0_point_34 : decode cX0_point 34 = .ok (.getfield 169, 3) := dk_180 0 169 (dk_at dksX0_point_1 12 rfl rfl)
theorem dX0_point_37 : decode cX0_point 37 = .ok (.imul, 1) := dk_104 (dk_at dksX0_point_1 15 rfl rfl)
theorem dX0_point_38 : decode cX0_point 38 = .ok (.iload_n 1, 1) := dk_27 (dk_at dksX0_point_1 16 rfl rfl)
theorem dX0_point_39 : decode cX0_point 39 = .ok (.iastore, 1) := dk_79 (dk_at dksX0_point_1 17 rfl rfl)
theorem dX0_point_40 : decode cX0_point 40 = .ok (.aload_n 0, 1) := dk_42 (dk_at dksX0_point_1 18 rfl rfl)
theorem dX0_point_41 : decode cX0_point 41 = .ok (.getfield 48, 3) := dk_180 0 48 (dk_at dksX0_point_1 19 rfl rfl)
theorem dX0_point_44 : decode cX0_point 44 = .ok (.iconst 2, 1) := dk_5 (dk_at dksX0_point_1 22 rfl rfl)
theorem dX0_point_45 : decode cX0_point 45 = .ok (.aload_n 0, 1) := dk_42 (dk_at dksX0_point_1 23 rfl rfl)
theorem dX0_point_46 : decode cX0_point 46 = .ok (.getfield 169, 3) := dk_180 0 169 (dk_at dksX0_point_2 0 rfl rfl)
theorem dX0_point_49 : decode cX0_point 49 = .ok (.imul, 1) := dk_104 (dk_at dksX0_point_2 3 rfl rfl)
theorem dX0_point_50 : decode cX0_point 50 = .ok (.iconst 1, 1) := dk_4 (dk_at dksX0_point_2 4 rfl rfl)
theorem dX0_point_51 : decode cX0_point 51 = .ok (.iadd, 1) := dk_96 (dk_at dksX0_point_2 5 rfl rfl)
theorem dX0_point_52 : decode cX0_point 52 = .ok (.iload_n 2, 1) := dk_28 (dk_at dksX0_point_2 6 rfl rfl)
theorem dX0_point_53 : decode cX0_point 53 = .ok (.iastore, 1) := dk_79 (dk_at dksX0_point_2 7 rfl rfl)
theorem dX0_point_54 : decode cX0_point 54 = .ok (.aload_n 0, 1) := dk_42 (dk_at dksX0_point_2 8 rfl rfl)
theorem dX0_point_55 : decode cX0_point 55 = .ok (.dup, 1) := dk_89 (dk_at dksX0_point_2 9 rfl rfl)
theorem dX0_point_56 : decode cX0_point 56 = .ok (.getfield 169, 3) := dk_180 0 169 (dk_at dksX0_point_2 10 rfl rfl)
theorem dX0_point_59 : decode cX0_point 59 = .ok (.iconst 1, 1) := dk_4 (dk_at dksX0_point_2 13 rfl rfl)
theorem dX0_point_60 : decode cX0_point 60 = .ok (.iadd, 1) := dk_96 (dk_at dksX0_point_2 14 rfl rfl)
theorem dX0_point_61 : decode cX0_point 61 = .ok (.putfield 169, 3) := dk_181 0 169 (dk_at dksX0_point_2 15 rfl rfl)
theorem dX0_point_64 : decode cX0_point 64 = .ok (.aload_n 0, 1) := dk_42 (dk_at dksX0_point_2 18 rfl rfl)
theorem dX0_point_65 : decode cX0_point 65 = .ok (.getfield 169, 3) := dk_180 0 169 (dk_at dksX0_point_2 19 rfl rfl)
theorem dX0_point_68 : decode cX0_point 68 = .ok (.ireturn, 1) := dk_172 (dk_at dksX0_point_2 22 rfl rfl)
abbrev cX0_fits : ByteArray := prog_1_method_56_code
def yX0_fits : MethodName := ⟨RX0, "fits", "(I)I"⟩
def dkwX0_fits_3 : List UInt8 := [154, 0, 7, 28, 167, 0, 4, 29, 172]
abbrev dktX0_fits_3 : List UInt8 := dkwX0_fits_3 ++ []
def dkwX0_fits_2 : List UInt8 := [164, 0, 8, 21, 4, 167, 0, 4, 28, 61, 29, 21, 5, 184, 0, 247, 62, 132, 4, 1, 167, 255, 218, 27]
abbrev dktX0_fits_2 : List UInt8 := dkwX0_fits_2 ++ dktX0_fits_3
def dkwX0_fits_1 : List UInt8 := [62, 3, 54, 4, 21, 4, 16, 9, 163, 0, 37, 42, 21, 4, 182, 1, 38, 54, 5, 21, 5, 29]
abbrev dktX0_fits_1 : List UInt8 := dkwX0_fits_1 ++ dktX0_fits_2
def dkwX0_fits_0 : List UInt8 := [27, 3, 4, 184, 0, 3, 154, 0, 5, 2, 172, 42, 180, 0, 169, 154, 0, 6, 16, 254, 172, 3, 61, 2]
abbrev dktX0_fits_0 : List UInt8 := dkwX0_fits_0 ++ dktX0_fits_1
theorem dksX0_fits_0 : cX0_fits.data.toList.drop 0 = dktX0_fits_0 := by decide +kernel
theorem dksX0_fits_1 : cX0_fits.data.toList.drop 24 = dktX0_fits_1 := dk_seg dksX0_fits_0 24 rfl rfl
theorem dksX0_fits_2 : cX0_fits.data.toList.drop 46 = dktX0_fits_2 := dk_seg dksX0_fits_1 22 rfl rfl
theorem dksX0_fits_3 : cX0_fits.data.toList.drop 70 = dktX0_fits_3 := dk_seg dksX0_fits_2 24 rfl rfl
theorem dX0_fits_0 : decode cX0_fits 0 = .ok (.iload_n 1, 1) := dk_27 (dk_at dksX0_fits_0 0 rfl rfl)
theorem dX0_fits_1 : decode cX0_fits 1 = .ok (.iconst 0, 1) := dk_3 (dk_at dksX0_fits_0 1 rfl rfl)
theorem dX0_fits_2 : decode cX0_fits 2 = .ok (.iconst 1, 1) := dk_4 (dk_at dksX0_fits_0 2 rfl rfl)
theorem dX0_fits_3 : decode cX0_fits 3 = .ok (.invokestatic 3, 3) := dk_184 0 3 (dk_at dksX0_fits_0 3 rfl rfl)
theorem dX0_fits_6 : decode cX0_fits 6 = .ok (.ifCond .ne 5, 3) := dk_154 0 5 (dk_at dksX0_fits_0 6 rfl rfl)
theorem dX0_fits_9 : decode cX0_fits 9 = .ok (.iconst (-1), 1) := dk_2 (dk_at dksX0_fits_0 9 rfl rfl)
theorem dX0_fits_10 : decode cX0_fits 10 = .ok (.ireturn, 1) := dk_172 (dk_at dksX0_fits_0 10 rfl rfl)
theorem dX0_fits_11 : decode cX0_fits 11 = .ok (.aload_n 0, 1) := dk_42 (dk_at dksX0_fits_0 11 rfl rfl)
theorem dX0_fits_12 : decode cX0_fits 12 = .ok (.getfield 169, 3) := dk_180 0 169 (dk_at dksX0_fits_0 12 rfl rfl)
theorem dX0_fits_15 : decode cX0_fits 15 = .ok (.ifCond .ne 6, 3) := dk_154 0 6 (dk_at dksX0_fits_0 15 rfl rfl)
theorem dX0_fits_18 : decode cX0_fits 18 = .ok (.bipush (-2), 2) := dk_16 254 (dk_at dksX0_fits_0 18 rfl rfl)
theorem dX0_fits_20 : decode cX0_fits 20 = .ok (.ireturn, 1) := dk_172 (dk_at dksX0_fits_0 20 rfl rfl)
theorem dX0_fits_21 : decode cX0_fits 21 = .ok (.iconst 0, 1) := dk_3 (dk_at dksX0_fits_0 21 rfl rfl)
theorem dX0_fits_22 : decode cX0_fits 22 = .ok (.istore_n 2, 1) := dk_61 (dk_at dksX0_fits_0 22 rfl rfl)
theorem dX0_fits_23 : decode cX0_fits 23 = .ok (.iconst (-1), 1) := dk_2 (dk_at dksX0_fits_0 23 rfl rfl)
theorem dX0_fits_24 : decode cX0_fits 24 = .ok (.istore_n 3, 1) := dk_62 (dk_at dksX0_fits_1 0 rfl rfl)
theorem dX0_fits_25 : decode cX0_fits 25 = .ok (.iconst 0, 1) := dk_3 (dk_at dksX0_fits_1 1 rfl rfl)
theorem dX0_fits_26 : decode cX0_fits 26 = .ok (.istore 4, 2) := dk_54 4 (dk_at dksX0_fits_1 2 rfl rfl)
theorem dX0_fits_28 : decode cX0_fits 28 = .ok (.iload 4, 2) := dk_21 4 (dk_at dksX0_fits_1 4 rfl rfl)
theorem dX0_fits_30 : decode cX0_fits 30 = .ok (.bipush 9, 2) := dk_16 9 (dk_at dksX0_fits_1 6 rfl rfl)
theorem dX0_fits_32 : decode cX0_fits 32 = .ok (.if_icmp .gt 37, 3) := dk_163 0 37 (dk_at dksX0_fits_1 8 rfl rfl)
theorem dX0_fits_35 : decode cX0_fits 35 = .ok (.aload_n 0, 1) := dk_42 (dk_at dksX0_fits_1 11 rfl rfl)
theorem dX0_fits_36 : decode cX0_fits 36 = .ok (.iload 4, 2) := dk_21 4 (dk_at dksX0_fits_1 12 rfl rfl)
theorem dX0_fits_38 : decode cX0_fits 38 = .ok (.invokevirtual 294, 3) := dk_182 1 38 (dk_at dksX0_fits_1 14 rfl rfl)
theorem dX0_fits_41 : decode cX0_fits 41 = .ok (.istore 5, 2) := dk_54 5 (dk_at dksX0_fits_1 17 rfl rfl)
theorem dX0_fits_43 : decode cX0_fits 43 = .ok (.iload 5, 2) := dk_21 5 (dk_at dksX0_fits_1 19 rfl rfl)
theorem dX0_fits_45 : decode cX0_fits 45 = .ok (.iload_n 3, 1) := dk_29 (dk_at dksX0_fits_1 21 rfl rfl)
theorem dX0_fits_46 : decode cX0_fits 46 = .ok (.if_icmp .le 8, 3) := dk_164 0 8 (dk_at dksX0_fits_2 0 rfl rfl)
theorem dX0_fits_49 : decode cX0_fits 49 = .ok (.iload 4, 2) := dk_21 4 (dk_at dksX0_fits_2 3 rfl rfl)
theorem dX0_fits_51 : decode cX0_fits 51 = .ok (.goto 4, 3) := dk_167 0 4 (dk_at dksX0_fits_2 5 rfl rfl)
theorem dX0_fits_54 : decode cX0_fits 54 = .ok (.iload_n 2, 1) := dk_28 (dk_at dksX0_fits_2 8 rfl rfl)
theorem dX0_fits_55 : decode cX0_fits 55 = .ok (.istore_n 2, 1) := dk_61 (dk_at dksX0_fits_2 9 rfl rfl)
theorem dX0_fits_56 : decode cX0_fits 56 = .ok (.iload_n 3, 1) := dk_29 (dk_at dksX0_fits_2 10 rfl rfl)
theorem dX0_fits_57 : decode cX0_fits 57 = .ok (.iload 5, 2) := dk_21 5 (dk_at dksX0_fits_2 11 rfl rfl)
theorem dX0_fits_59 : decode cX0_fits 59 = .ok (.invokestatic 247, 3) := dk_184 0 247 (dk_at dksX0_fits_2 13 rfl rfl)
theorem dX0_fits_62 : decode cX0_fits 62 = .ok (.istore_n 3, 1) := dk_62 (dk_at dksX0_fits_2 16 rfl rfl)
theorem dX0_fits_63 : decode cX0_fits 63 = .ok (.iinc 4 1, 3) := dk_132 4 1 (dk_at dksX0_fits_2 17 rfl rfl)
theorem dX0_fits_66 : decode cX0_fits 66 = .ok (.goto (-38), 3) := dk_167 255 218 (dk_at dksX0_fits_2 20 rfl rfl)
theorem dX0_fits_69 : decode cX0_fits 69 = .ok (.iload_n 1, 1) := dk_27 (dk_at dksX0_fits_2 23 rfl rfl)
theorem dX0_fits_70 : decode cX0_fits 70 = .ok (.ifCond .ne 7, 3) := dk_154 0 7 (dk_at dksX0_fits_3 0 rfl rfl)
theorem dX0_fits_73 : decode cX0_fits 73 = .ok (.iload_n 2, 1) := dk_28 (dk_at dksX0_fits_3 3 rfl rfl)
theorem dX0_fits_74 : decode cX0_fits 74 = .ok (.goto 4, 3) := dk_167 0 4 (dk_at dksX0_fits_3 4 rfl rfl)
theorem dX0_fits_77 : decode cX0_fits 77 = .ok (.iload_n 3, 1) := dk_29 (dk_at dksX0_fits_3 7 rfl rfl)
theorem dX0_fits_78 : decode cX0_fits 78 = .ok (.ireturn, 1) := dk_172 (dk_at dksX0_fits_3 8 rfl rfl)
abbrev cX0_fitsBy : ByteArray := prog_1_method_55_code
def yX0_fitsBy : MethodName := ⟨RX0, "fitsBy", "(I)I"⟩
def dkwX0_fitsBy_5 : List UInt8 := [3, 96, 61, 132, 3, 1, 167, 255, 155, 28, 172]
abbrev dktX0_fitsBy_5 : List UInt8 := dkwX0_fitsBy_5 ++ []
def dkwX0_fitsBy_4 : List UInt8 := [46, 42, 180, 0, 48, 5, 29, 104, 4, 96, 46, 4, 182, 0, 240, 21, 4, 160, 0, 7, 4, 167, 0, 4]
abbrev dktX0_fitsBy_4 : List UInt8 := dkwX0_fitsBy_4 ++ dktX0_fitsBy_5
def dkwX0_fitsBy_3 : List UInt8 := [54, 4, 132, 5, 1, 167, 255, 218, 28, 42, 180, 0, 56, 42, 180, 0, 20, 42, 180, 0, 48, 5, 29, 104]
abbrev dktX0_fitsBy_3 : List UInt8 := dkwX0_fitsBy_3 ++ dktX0_fitsBy_4
def dkwX0_fitsBy_2 : List UInt8 := [180, 0, 56, 42, 180, 0, 20, 42, 180, 0, 48, 5, 29, 104, 46, 21, 5, 4, 182, 0, 240, 184, 0, 247]
abbrev dktX0_fitsBy_2 : List UInt8 := dkwX0_fitsBy_2 ++ dktX0_fitsBy_3
def dkwX0_fitsBy_1 : List UInt8 := [62, 29, 42, 180, 0, 169, 162, 0, 99, 3, 54, 4, 3, 54, 5, 21, 5, 7, 162, 0, 38, 21, 4, 42]
abbrev dktX0_fitsBy_1 : List UInt8 := dkwX0_fitsBy_1 ++ dktX0_fitsBy_2
def dkwX0_fitsBy_0 : List UInt8 := [42, 180, 0, 20, 42, 180, 0, 16, 182, 0, 213, 42, 180, 0, 20, 180, 0, 127, 3, 27, 79, 3, 61, 3]
abbrev dktX0_fitsBy_0 : List UInt8 := dkwX0_fitsBy_0 ++ dktX0_fitsBy_1
theorem dksX0_fitsBy_0 : cX0_fitsBy.data.toList.drop 0 = dktX0_fitsBy_0 := by decide +kernel
theorem dksX0_fitsBy_1 : cX0_fitsBy.data.toList.drop 24 = dktX0_fitsBy_1 := dk_seg dksX0_fitsBy_0 24 rfl rfl
theorem dksX0_fitsBy_2 : cX0_fitsBy.data.toList.drop 48 = dktX0_fitsBy_2 := dk_seg dksX0_fitsBy_1 24 rfl rfl
theorem dksX0_fitsBy_3 : cX0_fitsBy.data.toList.drop 72 = dktX0_fitsBy_3 := dk_seg dksX0_fitsBy_2 24 rfl rfl
theorem dksX0_fitsBy_4 : cX0_fitsBy.data.toList.drop 96 = dktX0_fitsBy_4 := dk_seg dksX0_fitsBy_3 24 rfl rfl
theorem dksX0_fitsBy_5 : cX0_fitsBy.data.toList.drop 120 = dktX0_fitsBy_5 := dk_seg dksX0_fitsBy_4 24 rfl rfl
theorem dX0_fitsBy_0 : decode cX0_fitsBy 0 = .ok (.aload_n 0, 1) := dk_42 (dk_at dksX0_fitsBy_0 0 rfl rfl)
theorem dX0_fitsBy_1 : decode cX0_fitsBy 1 = .ok (.getfield 20, 3) := dk_180 0 20 (dk_at dksX0_fitsBy_0 1 rfl rfl)
theorem dX0_fitsBy_4 : decode cX0_fitsBy 4 = .ok (.aload_n 0, 1) := dk_42 (dk_at dksX0_fitsBy_0 4 rfl rfl)
theorem dX0_fitsBy_5 : decode cX0_fitsBy 5 = .ok (.getfield 16, 3) := dk_180 0 16 (dk_at dksX0_fitsBy_0 5 rfl rfl)
theorem dX0_fitsBy_8 : decode cX0_fitsBy 8 = .ok (.invokevirtual 213, 3) := dk_182 0 213 (dk_at dksX0_fitsBy_0 8 rfl rfl)
theorem dX0_fitsBy_11 : decode cX0_fitsBy 11 = .ok (.aload_n 0, 1) := dk_42 (dk_at dksX0_fitsBy_0 11 rfl rfl)
theorem dX0_fitsBy_12 : decode cX0_fitsBy 12 = .ok (.getfield 20, 3) := dk_180 0 20 (dk_at dksX0_fitsBy_0 12 rfl rfl)
theorem dX0_fitsBy_15 : decode cX0_fitsBy 15 = .ok (.getfield 127, 3) := dk_180 0 127 (dk_at dksX0_fitsBy_0 15 rfl rfl)
theorem dX0_fitsBy_18 : decode cX0_fitsBy 18 = .ok (.iconst 0, 1) := dk_3 (dk_at dksX0_fitsBy_0 18 rfl rfl)
theorem dX0_fitsBy_19 : decode cX0_fitsBy 19 = .ok (.iload_n 1, 1) := dk_27 (dk_at dksX0_fitsBy_0 19 rfl rfl)
theorem dX0_fitsBy_20 : decode cX0_fitsBy 20 = .ok (.iastore, 1) := dk_79 (dk_at dksX0_fitsBy_0 20 rfl rfl)
theorem dX0_fitsBy_21 : decode cX0_fitsBy 21 = .ok (.iconst 0, 1) := dk_3 (dk_at dksX0_fitsBy_0 21 rfl rfl)
theorem dX0_fitsBy_22 : decode cX0_fitsBy 22 = .ok (.istore_n 2, 1) := dk_61 (dk_at dksX0_fitsBy_0 22 rfl rfl)
theorem dX0_fitsBy_23 : decode cX0_fitsBy 23 = .ok (.iconst 0, 1) := dk_3 (dk_at dksX0_fitsBy_0 23 rfl rfl)
theorem dX0_fitsBy_24 : decode cX0_fitsBy 24 = .ok (.istore_n 3, 1) := dk_62 (dk_at dksX0_fitsBy_1 0 rfl rfl)
theorem dX0_fitsBy_25 : decode cX0_fitsBy 25 = .ok (.iload_n 3, 1) := dk_29 (dk_at dksX0_fitsBy_1 1 rfl rfl)
theorem dX0_fitsBy_26 : decode cX0_fitsBy 26 = .ok (.aload_n 0, 1) := dk_42 (dk_at dksX0_fitsBy_1 2 rfl rfl)
theorem dX0_fitsBy_27 : decode cX0_fitsBy 27 = .ok (.getfield 169, 3) := dk_180 0 169 (dk_at dksX0_fitsBy_1 3 rfl rfl)
theorem dX0_fitsBy_30 : decode cX0_fitsBy 30 = .ok (.if_icmp .ge 99, 3) := dk_162 0 99 (dk_at dksX0_fitsBy_1 6 rfl rfl)
theorem dX0_fitsBy_33 : decode cX0_fitsBy 33 = .ok (.iconst 0, 1) := dk_3 (dk_at dksX0_fitsBy_1 9 rfl rfl)
theorem dX0_fitsBy_34 : decode cX0_fitsBy 34 = .ok (.istore 4, 2) := dk_54 4 (dk_at dksX0_fitsBy_1 10 rfl rfl)
theorem dX0_fitsBy_36 : decode cX0_fitsBy 36 = .ok (.iconst 0, 1) := dk_3 (dk_at dksX0_fitsBy_1 12 rfl rfl)
theorem dX0_fitsBy_37 : decode cX0_fitsBy 37 = .ok (.istore 5, 2) := dk_54 5 (dk_at dksX0_fitsBy_1 13 rfl rfl)
theorem dX0_fitsBy_39 : decode cX0_fitsBy 39 = .ok (.iload 5, 2) := dk_21 5 (dk_at dksX0_fitsBy_1 15 rfl rfl)
theorem dX0_fitsBy_41 : decode cX0_fitsBy 41 = .ok (.iconst 4, 1) := dk_7 (dk_at dksX0_fitsBy_1 17 rfl rfl)
theorem dX0_fitsBy_42 : decode cX0_fitsBy 42 = .ok (.if_icmp .ge 38, 3) := dk_162 0 38 (dk_at dksX0_fitsBy_1 18 rfl rfl)
theorem dX0_fitsBy_45 : decode cX0_fitsBy 45 = .ok (.iload 4, 2) := dk_21 4 (dk_at dksX0_fitsBy_1 21 rfl rfl)
theorem dX0_fitsBy_47 : decode cX0_fitsBy 47 = .ok (.aload_n 0, 1) := dk_42 (dk_at dksX0_fitsBy_1 23 rfl rfl)
theorem dX0_fitsBy_48 : decode cX0_fitsBy 48 = .ok (.getfield 56, 3) := dk_180 0 56 (dk_at dksX0_fitsBy_2 0 rfl rfl)
theorem dX0_fitsBy_51 : decode cX0_fitsBy 51 = .ok (.aload_n 0, 1) := dk_42 (dk_at dksX0_fitsBy_2 3 rfl rfl)
theorem dX0_fitsBy_52 : decode cX0_fitsBy 52 = .ok (.getfield 20, 3) := dk_180 0 20 (dk_at dksX0_fitsBy_2 4 rfl rfl)
theorem dX0_fitsBy_55 : decode cX0_fitsBy 55 = .ok (.aload_n 0, 1) := dk_42 (dk_at dksX0_fitsBy_2 7 rfl rfl)
theorem dX0_fitsBy_56 : decode cX0_fitsBy 56 = .ok (.getfield 48, 3) := dk_180 0 48 (dk_at dksX0_fitsBy_2 8 rfl rfl)
theorem dX0_fitsBy_59 : decode cX0_fitsBy 59 = .ok (.iconst 2, 1) := dk_5 (dk_at dksX0_fitsBy_2 11 rfl rfl)
theorem dX0_fitsBy_60 : decode cX0_fitsBy 60 = .ok (.iload_n 3, 1) := dk_29 (dk_at dksX0_fitsBy_2 12 rfl rfl)
theorem dX0_fitsBy_61 : decode cX0_fitsBy 61 = .ok (.imul, 1) := dk_104 (dk_at dksX0_fitsBy_2 13 rfl rfl)
theorem dX0_fitsBy_62 : decode cX0_fitsBy 62 = .ok (.iaload, 1) := dk_46 (dk_at dksX0_fitsBy_2 14 rfl rfl)
theorem dX0_fitsBy_63 : decode cX0_fitsBy 63 = .ok (.iload 5, 2) := dk_21 5 (dk_at dksX0_fitsBy_2 15 rfl rfl)
theorem dX0_fitsBy_65 : decode cX0_fitsBy 65 = .ok (.iconst 1, 1) := dk_4 (dk_at dksX0_fitsBy_2 17 rfl rfl)
theorem dX0_fitsBy_66 : decode cX0_fitsBy 66 = .ok (.invokevirtual 240, 3) := dk_182 0 240 (dk_at dksX0_fitsBy_2 18 rfl rfl)
theorem dX0_fitsBy_69 : decode cX0_fitsBy 69 = .ok (.invokestatic 247, 3) := dk_184 0 247 (dk_at dksX0_fitsBy_2 21 rfl rfl)
theorem dX0_fitsBy_72 : decode cX0_fitsBy 72 = .ok (.istore 4, 2) := dk_54 4 (dk_at dksX0_fitsBy_3 0 rfl rfl)
theorem dX0_fitsBy_74 : decode cX0_fitsBy 74 = .ok (.iinc 5 1, 3) := dk_132 5 1 (dk_at dksX0_fitsBy_3 2 rfl rfl)
theorem dX0_fitsBy_77 : decode cX0_fitsBy 77 = .ok (.goto (-38), 3) := dk_167 255 218 (dk_at dksX0_fitsBy_3 5 rfl rfl)
theorem dX0_fitsBy_80 : decode cX0_fitsBy 80 = .ok (.iload_n 2, 1) := dk_28 (dk_at dksX0_fitsBy_3 8 rfl rfl)
theorem dX0_fitsBy_81 : decode cX0_fitsBy 81 = .ok (.aload_n 0, 1) := dk_42 (dk_at dksX0_fitsBy_3 9 rfl rfl)
theorem dX0_fitsBy_82 : decode cX0_fitsBy 82 = .ok (.getfield 56, 3) := dk_180 0 56 (dk_at dksX0_fitsBy_3 10 rfl rfl)
theorem dX0_fitsBy_85 : decode cX0_fitsBy 85 = .ok (.aload_n 0, 1) := dk_42 (dk_at dksX0_fitsBy_3 13 rfl rfl)
theorem dX0_fitsBy_86 : decode cX0_fitsBy 86 = .ok (.getfield 20, 3) := dk_180 0 20 (dk_at dksX0_fitsBy_3 14 rfl rfl)
theorem dX0_fitsBy_89 : decode cX0_fitsBy 89 = .ok (.aload_n 0, 1) := dk_42 (dk_at dksX0_fitsBy_3 17 rfl rfl)
theorem dX0_fitsBy_90 : decode cX0_fitsBy 90 = .ok (.getfield 48, 3) := dk_180 0 48 (dk_at dksX0_fitsBy_3 18 rfl rfl)
theorem dX0_fitsBy_93 : decode cX0_fitsBy 93 = .ok (.iconst 2, 1) := dk_5 (dk_at dksX0_fitsBy_3 21 rfl rfl)
theorem dX0_fitsBy_94 : decode cX0_fitsBy 94 = .ok (.iload_n 3, 1) := dk_29 (dk_at dksX0_fitsBy_3 22 rfl rfl)
theorem dX0_fitsBy_95 : decode cX0_fitsBy 95 = .ok (.imul, 1) := dk_104 (dk_at dksX0_fitsBy_3 23 rfl rfl)
theorem dX0_fitsBy_96 : decode cX0_fitsBy 96 = .ok (.iaload, 1) := dk_46 (dk_at dksX0_fitsBy_4 0 rfl rfl)
theorem dX0_fitsBy_97 : decode cX0_fitsBy 97 = .ok (.aload_n 0, 1) := dk_42 (dk_at dksX0_fitsBy_4 1 rfl rfl)
theorem dX0_fitsBy_98 : decode cX0_fitsBy 98 = .ok (.getfield 48, 3) := dk_180 0 48 (dk_at dksX0_fitsBy_4 2 rfl rfl)
theorem dX0_fitsBy_101 : decode cX0_fitsBy 101 = .ok (.iconst 2, 1) := dk_5 (dk_at dksX0_fitsBy_4 5 rfl rfl)
theorem dX0_fitsBy_102 : decode cX0_fitsBy 102 = .ok (.iload_n 3, 1) := dk_29 (dk_at dksX0_fitsBy_4 6 rfl rfl)
theorem dX0_fitsBy_103 : decode cX0_fitsBy 103 = .ok (.imul, 1) := dk_104 (dk_at dksX0_fitsBy_4 7 rfl rfl)
theorem dX0_fitsBy_104 : decode cX0_fitsBy 104 = .ok (.iconst 1, 1) := dk_4 (dk_at dksX0_fitsBy_4 8 rfl rfl)
theorem dX0_fitsBy_105 : decode cX0_fitsBy 105 = .ok (.iadd, 1) := dk_96 (dk_at dksX0_fitsBy_4 9 rfl rfl)
theorem dX0_fitsBy_106 : decode cX0_fitsBy 106 = .ok (.iaload, 1) := dk_46 (dk_at dksX0_fitsBy_4 10 rfl rfl)
theorem dX0_fitsBy_107 : decode cX0_fitsBy 107 = .ok (.iconst 1, 1) := dk_4 (dk_at dksX0_fitsBy_4 11 rfl rfl)
theorem dX0_fitsBy_108 : decode cX0_fitsBy 108 = .ok (.invokevirtual 240, 3) := dk_182 0 240 (dk_at dksX0_fitsBy_4 12 rfl rfl)
theorem dX0_fitsBy_111 : decode cX0_fitsBy 111 = .ok (.iload 4, 2) := dk_21 4 (dk_at dksX0_fitsBy_4 15 rfl rfl)
theorem dX0_fitsBy_113 : decode cX0_fitsBy 113 = .ok (.if_icmp .ne 7, 3) := dk_160 0 7 (dk_at dksX0_fitsBy_4 17 rfl rfl)
theorem dX0_fitsBy_116 : decode cX0_fitsBy 116 = .ok (.iconst 1, 1) := dk_4 (dk_at dksX0_fitsBy_4 20 rfl rfl)
theorem dX0_fitsBy_117 : decode cX0_fitsBy 117 = .ok (.goto 4, 3) := dk_167 0 4 (dk_at dksX0_fitsBy_4 21 rfl rfl)
theorem dX0_fitsBy_120 : decode cX0_fitsBy 120 = .ok (.iconst 0, 1) := dk_3 (dk_at dksX0_fitsBy_5 0 rfl rfl)
theorem dX0_fitsBy_121 : decode cX0_fitsBy 121 = .ok (.iadd, 1) := dk_96 (dk_at dksX0_fitsBy_5 1 rfl rfl)
theorem dX0_fitsBy_122 : decode cX0_fitsBy 122 = .ok (.istore_n 2, 1) := dk_61 (dk_at dksX0_fitsBy_5 2 rfl rfl)
theorem dX0_fitsBy_123 : decode cX0_fitsBy 123 = .ok (.iinc 3 1, 3) := dk_132 3 1 (dk_at dksX0_fitsBy_5 3 rfl rfl)
theorem dX0_fitsBy_126 : decode cX0_fitsBy 126 = .ok (.goto (-101), 3) := dk_167 255 155 (dk_at dksX0_fitsBy_5 6 rfl rfl)
theorem dX0_fitsBy_129 : decode cX0_fitsBy 129 = .ok (.iload_n 2, 1) := dk_28 (dk_at dksX0_fitsBy_5 9 rfl rfl)
theorem dX0_fitsBy_130 : decode cX0_fitsBy 130 = .ok (.ireturn, 1) := dk_172 (dk_at dksX0_fitsBy_5 10 rfl rfl)
abbrev cX0_apart : ByteArray := prog_1_method_58_code
def yX0_apart : MethodName := ⟨RX0, "apart", "(IIII)I"⟩
def dkwX0_apart_2 : List UInt8 := [172, 27, 28, 184, 1, 41, 29, 21, 4, 184, 1, 41, 100, 172]
abbrev dktX0_apart_2 : List UInt8 := dkwX0_apart_2 ++ []
def dkwX0_apart_1 : List UInt8 := [17, 3, 231, 184, 0, 3, 153, 0, 15, 21, 4, 3, 17, 3, 231, 184, 0, 3, 154, 0, 7, 19, 1, 21]
abbrev dktX0_apart_1 : List UInt8 := dkwX0_apart_1 ++ dktX0_apart_2
def dkwX0_apart_0 : List UInt8 := [27, 3, 17, 3, 231, 184, 0, 3, 153, 0, 37, 28, 3, 17, 3, 231, 184, 0, 3, 153, 0, 26, 29, 3]
abbrev dktX0_apart_0 : List UInt8 := dkwX0_apart_0 ++ dktX0_apart_1
theorem dksX0_apart_0 : cX0_apart.data.toList.drop 0 = dktX0_apart_0 := by decide +kernel
theorem dksX0_apart_1 : cX0_apart.data.toList.drop 24 = dktX0_apart_1 := dk_seg dksX0_apart_0 24 rfl rfl
theorem dksX0_apart_2 : cX0_apart.data.toList.drop 48 = dktX0_apart_2 := dk_seg dksX0_apart_1 24 rfl rfl
theorem dX0_apart_0 : decode cX0_apart 0 = .ok (.iload_n 1, 1) := dk_27 (dk_at dksX0_apart_0 0 rfl rfl)
theorem dX0_apart_1 : decode cX0_apart 1 = .ok (.iconst 0, 1) := dk_3 (dk_at dksX0_apart_0 1 rfl rfl)
theorem dX0_apart_2 : decode cX0_apart 2 = .ok (.sipush 999, 3) := dk_17 3 231 (dk_at dksX0_apart_0 2 rfl rfl)
theorem dX0_apart_5 : decode cX0_apart 5 = .ok (.invokestatic 3, 3) := dk_184 0 3 (dk_at dksX0_apart_0 5 rfl rfl)
theorem dX0_apart_8 : decode cX0_apart 8 = .ok (.ifCond .eq 37, 3) := dk_153 0 37 (dk_at dksX0_apart_0 8 rfl rfl)
theorem dX0_apart_11 : decode cX0_apart 11 = .ok (.iload_n 2, 1) := dk_28 (dk_at dksX0_apart_0 11 rfl rfl)
theorem dX0_apart_12 : decode cX0_apart 12 = .ok (.iconst 0, 1) := dk_3 (dk_at dksX0_apart_0 12 rfl rfl)
theorem dX0_apart_13 : decode cX0_apart 13 = .ok (.sipush 999, 3) := dk_17 3 231 (dk_at dksX0_apart_0 13 rfl rfl)
theorem dX0_apart_16 : decode cX0_apart 16 = .ok (.invokestatic 3, 3) := dk_184 0 3 (dk_at dksX0_apart_0 16 rfl rfl)
theorem dX0_apart_19 : decode cX0_apart 19 = .ok (.ifCond .eq 26, 3) := dk_153 0 26 (dk_at dksX0_apart_0 19 rfl rfl)
theorem dX0_apart_22 : decode cX0_apart 22 = .ok (.iload_n 3, 1) := dk_29 (dk_at dksX0_apart_0 22 rfl rfl)
theorem dX0_apart_23 : decode cX0_apart 23 = .ok (.iconst 0, 1) := dk_3 (dk_at dksX0_apart_0 23 rfl rfl)
theorem dX0_apart_24 : decode cX0_apart 24 = .ok (.sipush 999, 3) := dk_17 3 231 (dk_at dksX0_apart_1 0 rfl rfl)
theorem dX0_apart_27 : decode cX0_apart 27 = .ok (.invokestatic 3, 3) := dk_184 0 3 (dk_at dksX0_apart_1 3 rfl rfl)
theorem dX0_apart_30 : decode cX0_apart 30 = .ok (.ifCond .eq 15, 3) := dk_153 0 15 (dk_at dksX0_apart_1 6 rfl rfl)
theorem dX0_apart_33 : decode cX0_apart 33 = .ok (.iload 4, 2) := dk_21 4 (dk_at dksX0_apart_1 9 rfl rfl)
theorem dX0_apart_35 : decode cX0_apart 35 = .ok (.iconst 0, 1) := dk_3 (dk_at dksX0_apart_1 11 rfl rfl)
theorem dX0_apart_36 : decode cX0_apart 36 = .ok (.sipush 999, 3) := dk_17 3 231 (dk_at dksX0_apart_1 12 rfl rfl)
theorem dX0_apart_39 : decode cX0_apart 39 = .ok (.invokestatic 3, 3) := dk_184 0 3 (dk_at dksX0_apart_1 15 rfl rfl)
theorem dX0_apart_42 : decode cX0_apart 42 = .ok (.ifCond .ne 7, 3) := dk_154 0 7 (dk_at dksX0_apart_1 18 rfl rfl)
theorem dX0_apart_45 : decode cX0_apart 45 = .ok (.ldc_w 277, 3) := dk_19 1 21 (dk_at dksX0_apart_1 21 rfl rfl)
theorem dX0_apart_48 : decode cX0_apart 48 = .ok (.ireturn, 1) := dk_172 (dk_at dksX0_apart_2 0 rfl rfl)
theorem dX0_apart_49 : decode cX0_apart 49 = .ok (.iload_n 1, 1) := dk_27 (dk_at dksX0_apart_2 1 rfl rfl)
theorem dX0_apart_50 : decode cX0_apart 50 = .ok (.iload_n 2, 1) := dk_28 (dk_at dksX0_apart_2 2 rfl rfl)
theorem dX0_apart_51 : decode cX0_apart 51 = .ok (.invokestatic 297, 3) := dk_184 1 41 (dk_at dksX0_apart_2 3 rfl rfl)
theorem dX0_apart_54 : decode cX0_apart 54 = .ok (.iload_n 3, 1) := dk_29 (dk_at dksX0_apart_2 6 rfl rfl)
theorem dX0_apart_55 : decode cX0_apart 55 = .ok (.iload 4, 2) := dk_21 4 (dk_at dksX0_apart_2 7 rfl rfl)
theorem dX0_apart_57 : decode cX0_apart 57 = .ok (.invokestatic 297, 3) := dk_184 1 41 (dk_at dksX0_apart_2 9 rfl rfl)
theorem dX0_apart_60 : decode cX0_apart 60 = .ok (.isub, 1) := dk_100 (dk_at dksX0_apart_2 12 rfl rfl)
theorem dX0_apart_61 : decode cX0_apart 61 = .ok (.ireturn, 1) := dk_172 (dk_at dksX0_apart_2 13 rfl rfl)
abbrev cX0_share : ByteArray := prog_1_method_57_code
def yX0_share : MethodName := ⟨RX0, "share", "(II)I"⟩
def dkwX0_share_0 : List UInt8 := [26, 27, 96, 154, 0, 7, 3, 167, 0, 12, 17, 3, 232, 26, 104, 26, 27, 96, 108, 172]
abbrev dktX0_share_0 : List UInt8 := dkwX0_share_0 ++ []
theorem dksX0_share_0 : cX0_share.data.toList.drop 0 = dktX0_share_0 := by decide +kernel
theorem dX0_share_0 : decode cX0_share 0 = .ok (.iload_n 0, 1) := dk_26 (dk_at dksX0_share_0 0 rfl rfl)
theorem dX0_share_1 : decode cX0_share 1 = .ok (.iload_n 1, 1) := dk_27 (dk_at dksX0_share_0 1 rfl rfl)
theorem dX0_share_2 : decode cX0_share 2 = .ok (.iadd, 1) := dk_96 (dk_at dksX0_share_0 2 rfl rfl)
theorem dX0_share_3 : decode cX0_share 3 = .ok (.ifCond .ne 7, 3) := dk_154 0 7 (dk_at dksX0_share_0 3 rfl rfl)
theorem dX0_share_6 : decode cX0_share 6 = .ok (.iconst 0, 1) := dk_3 (dk_at dksX0_share_0 6 rfl rfl)
theorem dX0_share_7 : decode cX0_share 7 = .ok (.goto 12, 3) := dk_167 0 12 (dk_at dksX0_share_0 7 rfl rfl)
theorem dX0_share_10 : decode cX0_share 10 = .ok (.sipush 1000, 3) := dk_17 3 232 (dk_at dksX0_share_0 10 rfl rfl)
theorem dX0_share_13 : decode cX0_share 13 = .ok (.iload_n 0, 1) := dk_26 (dk_at dksX0_share_0 13 rfl rfl)
theorem dX0_share_14 : decode cX0_share 14 = .ok (.imul, 1) := dk_104 (dk_at dksX0_share_0 14 rfl rfl)
theorem dX0_share_15 : decode cX0_share 15 = .ok (.iload_n 0, 1) := dk_26 (dk_at dksX0_share_0 15 rfl rfl)
theorem dX0_share_16 : decode cX0_share 16 = .ok (.iload_n 1, 1) := dk_27 (dk_at dksX0_share_0 16 rfl rfl)
theorem dX0_share_17 : decode cX0_share 17 = .ok (.iadd, 1) := dk_96 (dk_at dksX0_share_0 17 rfl rfl)
theorem dX0_share_18 : decode cX0_share 18 = .ok (.idiv, 1) := dk_108 (dk_at dksX0_share_0 18 rfl rfl)
theorem dX0_share_19 : decode cX0_share 19 = .ok (.ireturn, 1) := dk_172 (dk_at dksX0_share_0 19 rfl rfl)
abbrev cX0_clear : ByteArray := prog_1_method_59_code
def yX0_clear : MethodName := ⟨RX0, "clear", "()I"⟩
def dkwX0_clear_0 : List UInt8 := [42, 180, 0, 166, 42, 180, 0, 169, 96, 60, 42, 3, 181, 0, 166, 42, 3, 181, 0, 169, 27, 172]
abbrev dktX0_clear_0 : List UInt8 := dkwX0_clear_0 ++ []
theorem dksX0_clear_0 : cX0_clear.data.toList.drop 0 = dktX0_clear_0 := by decide +kernel
theorem dX0_clear_0 : decode cX0_clear 0 = .ok (.aload_n 0, 1) := dk_42 (dk_at dksX0_clear_0 0 rfl rfl)
theorem dX0_clear_1 : decode cX0_clear 1 = .ok (.getfield 166, 3) := dk_180 0 166 (dk_at dksX0_clear_0 1 rfl rfl)
theorem dX0_clear_4 : decode cX0_clear 4 = .ok (.aload_n 0, 1) := dk_42 (dk_at dksX0_clear_0 4 rfl rfl)
theorem dX0_clear_5 : decode cX0_clear 5 = .ok (.getfield 169, 3) := dk_180 0 169 (dk_at dksX0_clear_0 5 rfl rfl)
theorem dX0_clear_8 : decode cX0_clear 8 = .ok (.iadd, 1) := dk_96 (dk_at dksX0_clear_0 8 rfl rfl)
theorem dX0_clear_9 : decode cX0_clear 9 = .ok (.istore_n 1, 1) := dk_60 (dk_at dksX0_clear_0 9 rfl rfl)
theorem dX0_clear_10 : decode cX0_clear 10 = .ok (.aload_n 0, 1) := dk_42 (dk_at dksX0_clear_0 10 rfl rfl)
theorem dX0_clear_11 : decode cX0_clear 11 = .ok (.iconst 0, 1) := dk_3 (dk_at dksX0_clear_0 11 rfl rfl)
theorem dX0_clear_12 : decode cX0_clear 12 = .ok (.putfield 166, 3) := dk_181 0 166 (dk_at dksX0_clear_0 12 rfl rfl)
theorem dX0_clear_15 : decode cX0_clear 15 = .ok (.aload_n 0, 1) := dk_42 (dk_at dksX0_clear_0 15 rfl rfl)
theorem dX0_clear_16 : decode cX0_clear 16 = .ok (.iconst 0, 1) := dk_3 (dk_at dksX0_clear_0 16 rfl rfl)
theorem dX0_clear_17 : decode cX0_clear 17 = .ok (.putfield 169, 3) := dk_181 0 169 (dk_at dksX0_clear_0 17 rfl rfl)
theorem dX0_clear_20 : decode cX0_clear 20 = .ok (.iload_n 1, 1) := dk_27 (dk_at dksX0_clear_0 20 rfl rfl)
theorem dX0_clear_21 : decode cX0_clear 21 = .ok (.ireturn, 1) := dk_172 (dk_at dksX0_clear_0 21 rfl rfl)
abbrev cX0_image : ByteArray := prog_1_method_61_code
def yX0_image : MethodName := ⟨RX0, "image", "()I"⟩
def dkwX0_image_3 : List UInt8 := [181, 1, 63, 4, 172]
abbrev dktX0_image_3 : List UInt8 := dkwX0_image_3 ++ []
def dkwX0_image_2 : List UInt8 := [16, 48, 184, 1, 51, 42, 42, 180, 0, 166, 181, 1, 57, 42, 42, 180, 0, 169, 181, 1, 60, 42, 4]
abbrev dktX0_image_2 : List UInt8 := dkwX0_image_2 ++ dktX0_image_3
def dkwX0_image_1 : List UInt8 := [180, 0, 44, 3, 42, 180, 0, 66, 3, 16, 32, 184, 1, 51, 42, 180, 0, 48, 3, 42, 180, 0, 69, 3]
abbrev dktX0_image_1 : List UInt8 := dkwX0_image_1 ++ dktX0_image_2
def dkwX0_image_0 : List UInt8 := [42, 180, 0, 60, 42, 180, 0, 16, 182, 0, 213, 42, 180, 0, 26, 42, 180, 0, 63, 184, 1, 47, 42]
abbrev dktX0_image_0 : List UInt8 := dkwX0_image_0 ++ dktX0_image_1
theorem dksX0_image_0 : cX0_image.data.toList.drop 0 = dktX0_image_0 := by decide +kernel
theorem dksX0_image_1 : cX0_image.data.toList.drop 23 = dktX0_image_1 := dk_seg dksX0_image_0 23 rfl rfl
theorem dksX0_image_2 : cX0_image.data.toList.drop 47 = dktX0_image_2 := dk_seg dksX0_image_1 24 rfl rfl
theorem dksX0_image_3 : cX0_image.data.toList.drop 70 = dktX0_image_3 := dk_seg dksX0_image_2 23 rfl rfl
theorem dX0_image_0 : decode cX0_image 0 = .ok (.aload_n 0, 1) := dk_42 (dk_at dksX0_image_0 0 rfl rfl)
theorem dX0_image_1 : decode cX0_image 1 = .ok (.getfield 60, 3) := dk_180 0 60 (dk_at dksX0_image_0 1 rfl rfl)
theorem dX0_image_4 : decode cX0_image 4 = .ok (.aload_n 0, 1) := dk_42 (dk_at dksX0_image_0 4 rfl rfl)
theorem dX0_image_5 : decode cX0_image 5 = .ok (.getfield 16, 3) := dk_180 0 16 (dk_at dksX0_image_0 5 rfl rfl)
theorem dX0_image_8 : decode cX0_image 8 = .ok (.invokevirtual 213, 3) := dk_182 0 213 (dk_at dksX0_image_0 8 rfl rfl)
theorem dX0_image_11 : decode cX0_image 11 = .ok (.aload_n 0, 1) := dk_42 (dk_at dksX0_image_0 11 rfl rfl)
theorem dX0_image_12 : decode cX0_image 12 = .ok (.getfield 26, 3) := dk_180 0 26 (dk_at dksX0_image_0 12 rfl rfl)
theorem dX0_image_15 : decode cX0_image 15 = .ok (.aload_n 0, 1) := dk_42 (dk_at dksX0_image_0 15 rfl rfl)
theorem dX0_image_16 : decode cX0_image 16 = .ok (.getfield 63, 3) := dk_180 0 63 (dk_at dksX0_image_0 16 rfl rfl)
theorem dX0_image_19 : decode cX0_image 19 = .ok (.invokestatic 303, 3) := dk_184 1 47 (dk_at dksX0_image_0 19 rfl rfl)
theorem dX0_image_22 : decode cX0_image 22 = .ok (.aload_n 0, 1) := dk_42 (dk_at dksX0_image_0 22 rfl rfl)
theorem dX0_image_23 : decode cX0_image 23 = .ok (.getfield 44, 3) := dk_180 0 44 (dk_at dksX0_image_1 0 rfl rfl)
theorem dX0_image_26 : decode cX0_image 26 = .ok (.iconst 0, 1) := dk_3 (dk_at dksX0_image_1 3 rfl rfl)
theorem dX0_image_27 : decode cX0_image 27 = .ok (.aload_n 0, 1) := dk_42 (dk_at dksX0_image_1 4 rfl rfl)
theorem dX0_image_28 : decode cX0_image 28 = .ok (.getfield 66, 3) := dk_180 0 66 (dk_at dksX0_image_1 5 rfl rfl)
theorem dX0_image_31 : decode cX0_image 31 = .ok (.iconst 0, 1) := dk_3 (dk_at dksX0_image_1 8 rfl rfl)
theorem dX0_image_32 : decode cX0_image 32 = .ok (.bipush 32, 2) := dk_16 32 (dk_at dksX0_image_1 9 rfl rfl)
theorem dX0_image_34 : decode cX0_image 34 = .ok (.invokestatic 307, 3) := dk_184 1 51 (dk_at dksX0_image_1 11 rfl rfl)
theorem dX0_image_37 : decode cX0_image 37 = .ok (.aload_n 0, 1) := dk_42 (dk_at dksX0_image_1 14 rfl rfl)
theorem dX0_image_38 : decode cX0_image 38 = .ok (.getfield 48, 3) := dk_180 0 48 (dk_at dksX0_image_1 15 rfl rfl)
theorem dX0_image_41 : decode cX0_image 41 = .ok (.iconst 0, 1) := dk_3 (dk_at dksX0_image_1 18 rfl rfl)
theorem dX0_image_42 : decode cX0_image 42 = .ok (.aload_n 0, 1) := dk_42 (dk_at dksX0_image_1 19 rfl rfl)
theorem dX0_image_43 : decode cX0_image 43 = .ok (.getfield 69, 3) := dk_180 0 69 (dk_at dksX0_image_1 20 rfl rfl)
theorem dX0_image_46 : decode cX0_image 46 = .ok (.iconst 0, 1) := dk_3 (dk_at dksX0_image_1 23 rfl rfl)
theorem dX0_image_47 : decode cX0_image 47 = .ok (.bipush 48, 2) := dk_16 48 (dk_at dksX0_image_2 0 rfl rfl)
theorem dX0_image_49 : decode cX0_image 49 = .ok (.invokestatic 307, 3) := dk_184 1 51 (dk_at dksX0_image_2 2 rfl rfl)
theorem dX0_image_52 : decode cX0_image 52 = .ok (.aload_n 0, 1) := dk_42 (dk_at dksX0_image_2 5 rfl rfl)
theorem dX0_image_53 : decode cX0_image 53 = .ok (.aload_n 0, 1) := dk_42 (dk_at dksX0_image_2 6 rfl rfl)
theorem dX0_image_54 : decode cX0_image 54 = .ok (.getfield 166, 3) := dk_180 0 166 (dk_at dksX0_image_2 7 rfl rfl)
theorem dX0_image_57 : decode cX0_image 57 = .ok (.putfield 313, 3) := dk_181 1 57 (dk_at dksX0_image_2 10 rfl rfl)
theorem dX0_image_60 : decode cX0_image 60 = .ok (.aload_n 0, 1) := dk_42 (dk_at dksX0_image_2 13 rfl rfl)
theorem dX0_image_61 : decode cX0_image 61 = .ok (.aload_n 0, 1) := dk_42 (dk_at dksX0_image_2 14 rfl rfl)
theorem dX0_image_62 : decode cX0_image 62 = .ok (.getfield 169, 3) := dk_180 0 169 (dk_at dksX0_image_2 15 rfl rfl)
theorem dX0_image_65 : decode cX0_image 65 = .ok (.putfield 316, 3) := dk_181 1 60 (dk_at dksX0_image_2 18 rfl rfl)
theorem dX0_image_68 : decode cX0_image 68 = .ok (.aload_n 0, 1) := dk_42 (dk_at dksX0_image_2 21 rfl rfl)
theorem dX0_image_69 : decode cX0_image 69 = .ok (.iconst 1, 1) := dk_4 (dk_at dksX0_image_2 22 rfl rfl)
theorem dX0_image_70 : decode cX0_image 70 = .ok (.putfield 319, 3) := dk_181 1 63 (dk_at dksX0_image_3 0 rfl rfl)
theorem dX0_image_73 : decode cX0_image 73 = .ok (.iconst 1, 1) := dk_4 (dk_at dksX0_image_3 3 rfl rfl)
theorem dX0_image_74 : decode cX0_image 74 = .ok (.ireturn, 1) := dk_172 (dk_at dksX0_image_3 4 rfl rfl)
abbrev cX0_carry : ByteArray := prog_1_method_60_code
def yX0_carry : MethodName := ⟨RX0, "carry", "(Ljava/util/List;Ljava/util/List;)V"⟩
def dkwX0_carry_1 : List UInt8 := [185, 0, 130, 2, 0, 192, 0, 51, 182, 1, 44, 185, 0, 144, 2, 0, 87, 132, 2, 1, 167, 255, 223, 177]
abbrev dktX0_carry_1 : List UInt8 := dkwX0_carry_1 ++ []
def dkwX0_carry_0 : List UInt8 := [43, 185, 0, 223, 1, 0, 3, 61, 28, 42, 185, 0, 88, 1, 0, 162, 0, 29, 43, 42, 28]
abbrev dktX0_carry_0 : List UInt8 := dkwX0_carry_0 ++ dktX0_carry_1
theorem dksX0_carry_0 : cX0_carry.data.toList.drop 0 = dktX0_carry_0 := by decide +kernel
theorem dksX0_carry_1 : cX0_carry.data.toList.drop 21 = dktX0_carry_1 := dk_seg dksX0_carry_0 21 rfl rfl
theorem dX0_carry_0 : decode cX0_carry 0 = .ok (.aload_n 1, 1) := dk_43 (dk_at dksX0_carry_0 0 rfl rfl)
theorem dX0_carry_1 : decode cX0_carry 1 = .ok (.invokeinterface 223 1, 5) := by decide +kernel
theorem dX0_carry_6 : decode cX0_carry 6 = .ok (.iconst 0, 1) := dk_3 (dk_at dksX0_carry_0 6 rfl rfl)
theorem dX0_carry_7 : decode cX0_carry 7 = .ok (.istore_n 2, 1) := dk_61 (dk_at dksX0_carry_0 7 rfl rfl)
theorem dX0_carry_8 : decode cX0_carry 8 = .ok (.iload_n 2, 1) := dk_28 (dk_at dksX0_carry_0 8 rfl rfl)
theorem dX0_carry_9 : decode cX0_carry 9 = .ok (.aload_n 0, 1) := dk_42 (dk_at dksX0_carry_0 9 rfl rfl)
theorem dX0_carry_10 : decode cX0_carry 10 = .ok (.invokeinterface 88 1, 5) := by decide +kernel
theorem dX0_carry_15 : decode cX0_carry 15 = .ok (.if_icmp .ge 29, 3) := dk_162 0 29 (dk_at dksX0_carry_0 15 rfl rfl)
theorem dX0_carry_18 : decode cX0_carry 18 = .ok (.aload_n 1, 1) := dk_43 (dk_at dksX0_carry_0 18 rfl rfl)
theorem dX0_carry_19 : decode cX0_carry 19 = .ok (.aload_n 0, 1) := dk_42 (dk_at dksX0_carry_0 19 rfl rfl)
theorem dX0_carry_20 : decode cX0_carry 20 = .ok (.iload_n 2, 1) := dk_28 (dk_at dksX0_carry_0 20 rfl rfl)
theorem dX0_carry_21 : decode cX0_carry 21 = .ok (.invokeinterface 130 2, 5) := by decide +kernel
theorem dX0_carry_26 : decode cX0_carry 26 = .ok (.checkcast 51, 3) := dk_192 0 51 (dk_at dksX0_carry_1 5 rfl rfl)
theorem dX0_carry_29 : decode cX0_carry 29 = .ok (.invokevirtual 300, 3) := dk_182 1 44 (dk_at dksX0_carry_1 8 rfl rfl)
theorem dX0_carry_32 : decode cX0_carry 32 = .ok (.invokeinterface 144 2, 5) := by decide +kernel
theorem dX0_carry_37 : decode cX0_carry 37 = .ok (.pop, 1) := dk_87 (dk_at dksX0_carry_1 16 rfl rfl)
theorem dX0_carry_38 : decode cX0_carry 38 = .ok (.iinc 2 1, 3) := dk_132 2 1 (dk_at dksX0_carry_1 17 rfl rfl)
theorem dX0_carry_41 : decode cX0_carry 41 = .ok (.goto (-33), 3) := dk_167 255 223 (dk_at dksX0_carry_1 20 rfl rfl)
theorem dX0_carry_44 : decode cX0_carry 44 = .ok (.return_, 1) := dk_177 (dk_at dksX0_carry_1 23 rfl rfl)
abbrev cX0_restore : ByteArray := prog_1_method_62_code
def yX0_restore : MethodName := ⟨RX0, "restore", "()I"⟩
def dkwX0_restore_3 : List UInt8 := [181, 0, 166, 42, 42, 180, 1, 60, 181, 0, 169, 4, 172]
abbrev dktX0_restore_3 : List UInt8 := dkwX0_restore_3 ++ []
def dkwX0_restore_2 : List UInt8 := [184, 1, 51, 42, 180, 0, 69, 3, 42, 180, 0, 48, 3, 16, 48, 184, 1, 51, 42, 42, 180, 1, 57]
abbrev dktX0_restore_2 : List UInt8 := dkwX0_restore_2 ++ dktX0_restore_3
def dkwX0_restore_1 : List UInt8 := [180, 0, 63, 42, 180, 0, 26, 184, 1, 47, 42, 180, 0, 66, 3, 42, 180, 0, 44, 3, 16, 32]
abbrev dktX0_restore_1 : List UInt8 := dkwX0_restore_1 ++ dktX0_restore_2
def dkwX0_restore_0 : List UInt8 := [42, 180, 1, 63, 154, 0, 6, 16, 252, 172, 42, 180, 0, 16, 42, 180, 0, 60, 182, 0, 213, 42]
abbrev dktX0_restore_0 : List UInt8 := dkwX0_restore_0 ++ dktX0_restore_1
theorem dksX0_restore_0 : cX0_restore.data.toList.drop 0 = dktX0_restore_0 := by decide +kernel
theorem dksX0_restore_1 : cX0_restore.data.toList.drop 22 = dktX0_restore_1 := dk_seg dksX0_restore_0 22 rfl rfl
theorem dksX0_restore_2 : cX0_restore.data.toList.drop 44 = dktX0_restore_2 := dk_seg dksX0_restore_1 22 rfl rfl
theorem dksX0_restore_3 : cX0_restore.data.toList.drop 67 = dktX0_restore_3 := dk_seg dksX0_restore_2 23 rfl rfl
theorem dX0_restore_0 : decode cX0_restore 0 = .ok (.aload_n 0, 1) := dk_42 (dk_at dksX0_restore_0 0 rfl rfl)
theorem dX0_restore_1 : decode cX0_restore 1 = .ok (.getfield 319, 3) := dk_180 1 63 (dk_at dksX0_restore_0 1 rfl rfl)
theorem dX0_restore_4 : decode cX0_restore 4 = .ok (.ifCond .ne 6, 3) := dk_154 0 6 (dk_at dksX0_restore_0 4 rfl rfl)
theorem dX0_restore_7 : decode cX0_restore 7 = .ok (.bipush (-4), 2) := dk_16 252 (dk_at dksX0_restore_0 7 rfl rfl)
theorem dX0_restore_9 : decode cX0_restore 9 = .ok (.ireturn, 1) := dk_172 (dk_at dksX0_restore_0 9 rfl rfl)
theorem dX0_restore_10 : decode cX0_restore 10 = .ok (.aload_n 0, 1) := dk_42 (dk_at dksX0_restore_0 10 rfl rfl)
theorem dX0_restore_11 : decode cX0_restore 11 = .ok (.getfield 16, 3) := dk_180 0 16 (dk_at dksX0_restore_0 11 rfl rfl)
theorem dX0_restore_14 : decode cX0_restore 14 = .ok (.aload_n 0, 1) := dk_42 (dk_at dksX0_restore_0 14 rfl rfl)
theorem dX0_restore_15 : decode cX0_restore 15 = .ok (.getfield 60, 3) := dk_180 0 60 (dk_at dksX0_restore_0 15 rfl rfl)
theorem dX0_restore_18 : decode cX0_restore 18 = .ok (.invokevirtual 213, 3) := dk_182 0 213 (dk_at dksX0_restore_0 18 rfl rfl)
theorem dX0_restore_21 : decode cX0_restore 21 = .ok (.aload_n 0, 1) := dk_42 (dk_at dksX0_restore_0 21 rfl rfl)
theorem dX0_restore_22 : decode cX0_restore 22 = .ok (.getfield 63, 3) := dk_180 0 63 (dk_at dksX0_restore_1 0 rfl rfl)
theorem dX0_restore_25 : decode cX0_restore 25 = .ok (.aload_n 0, 1) := dk_42 (dk_at dksX0_restore_1 3 rfl rfl)
theorem dX0_restore_26 : decode cX0_restore 26 = .ok (.getfield 26, 3) := dk_180 0 26 (dk_at dksX0_restore_1 4 rfl rfl)
theorem dX0_restore_29 : decode cX0_restore 29 = .ok (.invokestatic 303, 3) := dk_184 1 47 (dk_at dksX0_restore_1 7 rfl rfl)
theorem dX0_restore_32 : decode cX0_restore 32 = .ok (.aload_n 0, 1) := dk_42 (dk_at dksX0_restore_1 10 rfl rfl)
theorem dX0_restore_33 : decode cX0_restore 33 = .ok (.getfield 66, 3) := dk_180 0 66 (dk_at dksX0_restore_1 11 rfl rfl)
theorem dX0_restore_36 : decode cX0_restore 36 = .ok (.iconst 0, 1) := dk_3 (dk_at dksX0_restore_1 14 rfl rfl)
theorem dX0_restore_37 : decode cX0_restore 37 = .ok (.aload_n 0, 1) := dk_42 (dk_at dksX0_restore_1 15 rfl rfl)
theorem dX0_restore_38 : decode cX0_restore 38 = .ok (.getfield 44, 3) := dk_180 0 44 (dk_at dksX0_restore_1 16 rfl rfl)
theorem dX0_restore_41 : decode cX0_restore 41 = .ok (.iconst 0, 1) := dk_3 (dk_at dksX0_restore_1 19 rfl rfl)
theorem dX0_restore_42 : decode cX0_restore 42 = .ok (.bipush 32, 2) := dk_16 32 (dk_at dksX0_restore_1 20 rfl rfl)
theorem dX0_restore_44 : decode cX0_restore 44 = .ok (.invokestatic 307, 3) := dk_184 1 51 (dk_at dksX0_restore_2 0 rfl rfl)
theorem dX0_restore_47 : decode cX0_restore 47 = .ok (.aload_n 0, 1) := dk_42 (dk_at dksX0_restore_2 3 rfl rfl)
theorem dX0_restore_48 : decode cX0_restore 48 = .ok (.getfield 69, 3) := dk_180 0 69 (dk_at dksX0_restore_2 4 rfl rfl)
theorem dX0_restore_51 : decode cX0_restore 51 = .ok (.iconst 0, 1) := dk_3 (dk_at dksX0_restore_2 7 rfl rfl)
theorem dX0_restore_52 : decode cX0_restore 52 = .ok (.aload_n 0, 1) := dk_42 (dk_at dksX0_restore_2 8 rfl rfl)
theorem dX0_restore_53 : decode cX0_restore 53 = .ok (.getfield 48, 3) := dk_180 0 48 (dk_at dksX0_restore_2 9 rfl rfl)
theorem dX0_restore_56 : decode cX0_restore 56 = .ok (.iconst 0, 1) := dk_3 (dk_at dksX0_restore_2 12 rfl rfl)
theorem dX0_restore_57 : decode cX0_restore 57 = .ok (.bipush 48, 2) := dk_16 48 (dk_at dksX0_restore_2 13 rfl rfl)
theorem dX0_restore_59 : decode cX0_restore 59 = .ok (.invokestatic 307, 3) := dk_184 1 51 (dk_at dksX0_restore_2 15 rfl rfl)
theorem dX0_restore_62 : decode cX0_restore 62 = .ok (.aload_n 0, 1) := dk_42 (dk_at dksX0_restore_2 18 rfl rfl)
theorem dX0_restore_63 : decode cX0_restore 63 = .ok (.aload_n 0, 1) := dk_42 (dk_at dksX0_restore_2 19 rfl rfl)
theorem dX0_restore_64 : decode cX0_restore 64 = .ok (.getfield 313, 3) := dk_180 1 57 (dk_at dksX0_restore_2 20 rfl rfl)
theorem dX0_restore_67 : decode cX0_restore 67 = .ok (.putfield 166, 3) := dk_181 0 166 (dk_at dksX0_restore_3 0 rfl rfl)
theorem dX0_restore_70 : decode cX0_restore 70 = .ok (.aload_n 0, 1) := dk_42 (dk_at dksX0_restore_3 3 rfl rfl)
theorem dX0_restore_71 : decode cX0_restore 71 = .ok (.aload_n 0, 1) := dk_42 (dk_at dksX0_restore_3 4 rfl rfl)
theorem dX0_restore_72 : decode cX0_restore 72 = .ok (.getfield 316, 3) := dk_180 1 60 (dk_at dksX0_restore_3 5 rfl rfl)
theorem dX0_restore_75 : decode cX0_restore 75 = .ok (.putfield 169, 3) := dk_181 0 169 (dk_at dksX0_restore_3 8 rfl rfl)
theorem dX0_restore_78 : decode cX0_restore 78 = .ok (.iconst 1, 1) := dk_4 (dk_at dksX0_restore_3 11 rfl rfl)
theorem dX0_restore_79 : decode cX0_restore 79 = .ok (.ireturn, 1) := dk_172 (dk_at dksX0_restore_3 12 rfl rfl)
abbrev cX0_eyes : ByteArray := prog_1_method_65_code
def yX0_eyes : MethodName := ⟨RX0, "eyes", "(IIIII)I"⟩
def dkwX0_eyes_9 : List UInt8 := [87, 132, 8, 1, 167, 255, 214, 21, 7, 172]
abbrev dktX0_eyes_9 : List UInt8 := dkwX0_eyes_9 ++ []
def dkwX0_eyes_8 : List UInt8 := [182, 1, 80, 155, 0, 22, 42, 27, 21, 8, 96, 25, 6, 21, 4, 21, 8, 96, 182, 1, 80, 182, 1, 82]
abbrev dktX0_eyes_8 : List UInt8 := dkwX0_eyes_8 ++ dktX0_eyes_9
def dkwX0_eyes_7 : List UInt8 := [164, 0, 6, 16, 253, 172, 3, 54, 8, 21, 8, 21, 5, 162, 0, 41, 25, 6, 21, 4, 21, 8, 96]
abbrev dktX0_eyes_7 : List UInt8 := dkwX0_eyes_7 ++ dktX0_eyes_8
def dkwX0_eyes_6 : List UInt8 := [167, 0, 4, 3, 96, 54, 7, 132, 8, 1, 167, 255, 202, 42, 180, 0, 169, 21, 7, 96, 16, 24]
abbrev dktX0_eyes_6 : List UInt8 := dkwX0_eyes_6 ++ dktX0_eyes_7
def dkwX0_eyes_5 : List UInt8 := [154, 0, 6, 16, 254, 172, 21, 7, 25, 6, 21, 4, 21, 8, 96, 182, 1, 80, 155, 0, 7, 4]
abbrev dktX0_eyes_5 : List UInt8 := dkwX0_eyes_5 ++ dktX0_eyes_6
def dkwX0_eyes_4 : List UInt8 := [54, 8, 21, 8, 21, 5, 162, 0, 53, 25, 6, 21, 4, 21, 8, 96, 182, 1, 80, 2, 6, 184, 0, 3]
abbrev dktX0_eyes_4 : List UInt8 := dkwX0_eyes_4 ++ dktX0_eyes_5
def dkwX0_eyes_3 : List UInt8 := [155, 0, 16, 21, 4, 25, 6, 182, 1, 79, 21, 5, 100, 164, 0, 6, 16, 243, 172, 3, 54, 7, 3]
abbrev dktX0_eyes_3 : List UInt8 := dkwX0_eyes_3 ++ dktX0_eyes_4
def dkwX0_eyes_2 : List UInt8 := [180, 1, 72, 199, 0, 6, 16, 245, 172, 25, 6, 182, 1, 76, 29, 159, 0, 6, 16, 244, 172, 21, 4]
abbrev dktX0_eyes_2 : List UInt8 := dkwX0_eyes_2 ++ dktX0_eyes_3
def dkwX0_eyes_1 : List UInt8 := [16, 16, 27, 100, 184, 0, 3, 154, 0, 5, 2, 172, 42, 180, 0, 74, 28, 50, 58, 6, 25, 6]
abbrev dktX0_eyes_1 : List UInt8 := dkwX0_eyes_1 ++ dktX0_eyes_2
def dkwX0_eyes_0 : List UInt8 := [27, 184, 0, 94, 153, 0, 30, 28, 184, 1, 66, 153, 0, 23, 29, 184, 1, 69, 153, 0, 16, 21, 5, 4]
abbrev dktX0_eyes_0 : List UInt8 := dkwX0_eyes_0 ++ dktX0_eyes_1
theorem dksX0_eyes_0 : cX0_eyes.data.toList.drop 0 = dktX0_eyes_0 := by decide +kernel
theorem dksX0_eyes_1 : cX0_eyes.data.toList.drop 24 = dktX0_eyes_1 := dk_seg dksX0_eyes_0 24 rfl rfl
theorem dksX0_eyes_2 : cX0_eyes.data.toList.drop 46 = dktX0_eyes_2 := dk_seg dksX0_eyes_1 22 rfl rfl
theorem dksX0_eyes_3 : cX0_eyes.data.toList.drop 69 = dktX0_eyes_3 := dk_seg dksX0_eyes_2 23 rfl rfl
theorem dksX0_eyes_4 : cX0_eyes.data.toList.drop 92 = dktX0_eyes_4 := dk_seg dksX0_eyes_3 23 rfl rfl
theorem dksX0_eyes_5 : cX0_eyes.data.toList.drop 116 = dktX0_eyes_5 := dk_seg dksX0_eyes_4 24 rfl rfl
theorem dksX0_eyes_6 : cX0_eyes.data.toList.drop 138 = dktX0_eyes_6 := dk_seg dksX0_eyes_5 22 rfl rfl
theorem dksX0_eyes_7 : cX0_eyes.data.toList.drop 160 = dktX0_eyes_7 := dk_seg dksX0_eyes_6 22 rfl rfl
theorem dksX0_eyes_8 : cX0_eyes.data.toList.drop 183 = dktX0_eyes_8 := dk_seg dksX0_eyes_7 23 rfl rfl
theorem dksX0_eyes_9 : cX0_eyes.data.toList.drop 207 = dktX0_eyes_9 := dk_seg dksX0_eyes_8 24 rfl rfl
theorem dX0_eyes_0 : decode cX0_eyes 0 = .ok (.iload_n 1, 1) := dk_27 (dk_at dksX0_eyes_0 0 rfl rfl)
theorem dX0_eyes_1 : decode cX0_eyes 1 = .ok (.invokestatic 94, 3) := dk_184 0 94 (dk_at dksX0_eyes_0 1 rfl rfl)
theorem dX0_eyes_4 : decode cX0_eyes 4 = .ok (.ifCond .eq 30, 3) := dk_153 0 30 (dk_at dksX0_eyes_0 4 rfl rfl)
theorem dX0_eyes_7 : decode cX0_eyes 7 = .ok (.iload_n 2, 1) := dk_28 (dk_at dksX0_eyes_0 7 rfl rfl)
theorem dX0_eyes_8 : decode cX0_eyes 8 = .ok (.invokestatic 322, 3) := dk_184 1 66 (dk_at dksX0_eyes_0 8 rfl rfl)
theorem dX0_eyes_11 : decode cX0_eyes 11 = .ok (.ifCond .eq 23, 3) := dk_153 0 23 (dk_at dksX0_eyes_0 11 rfl rfl)
theorem dX0_eyes_14 : decode cX0_eyes 14 = .ok (.iload_n 3, 1) := dk_29 (dk_at dksX0_eyes_0 14 rfl rfl)
theorem dX0_eyes_15 : decode cX0_eyes 15 = .ok (.invokestatic 325, 3) := dk_184 1 69 (dk_at dksX0_eyes_0 15 rfl rfl)
theorem dX0_eyes_18 : decode cX0_eyes 18 = .ok (.ifCond .eq 16, 3) := dk_153 0 16 (dk_at dksX0_eyes_0 18 rfl rfl)
theorem dX0_eyes_21 : decode cX0_eyes 21 = .ok (.iload 5, 2) := dk_21 5 (dk_at dksX0_eyes_0 21 rfl rfl)
theorem dX0_eyes_23 : decode cX0_eyes 23 = .ok (.iconst 1, 1) := dk_4 (dk_at dksX0_eyes_0 23 rfl rfl)
theorem dX0_eyes_24 : decode cX0_eyes 24 = .ok (.bipush 16, 2) := dk_16 16 (dk_at dksX0_eyes_1 0 rfl rfl)
theorem dX0_eyes_26 : decode cX0_eyes 26 = .ok (.iload_n 1, 1) := dk_27 (dk_at dksX0_eyes_1 2 rfl rfl)
theorem dX0_eyes_27 : decode cX0_eyes 27 = .ok (.isub, 1) := dk_100 (dk_at dksX0_eyes_1 3 rfl rfl)
theorem dX0_eyes_28 : decode cX0_eyes 28 = .ok (.invokestatic 3, 3) := dk_184 0 3 (dk_at dksX0_eyes_1 4 rfl rfl)
theorem dX0_eyes_31 : decode cX0_eyes 31 = .ok (.ifCond .ne 5, 3) := dk_154 0 5 (dk_at dksX0_eyes_1 7 rfl rfl)
theorem dX0_eyes_34 : decode cX0_eyes 34 = .ok (.iconst (-1), 1) := dk_2 (dk_at dksX0_eyes_1 10 rfl rfl)
theorem dX0_eyes_35 : decode cX0_eyes 35 = .ok (.ireturn, 1) := dk_172 (dk_at dksX0_eyes_1 11 rfl rfl)
theorem dX0_eyes_36 : decode cX0_eyes 36 = .ok (.aload_n 0, 1) := dk_42 (dk_at dksX0_eyes_1 12 rfl rfl)
theorem dX0_eyes_37 : decode cX0_eyes 37 = .ok (.getfield 74, 3) := dk_180 0 74 (dk_at dksX0_eyes_1 13 rfl rfl)
theorem dX0_eyes_40 : decode cX0_eyes 40 = .ok (.iload_n 2, 1) := dk_28 (dk_at dksX0_eyes_1 16 rfl rfl)
theorem dX0_eyes_41 : decode cX0_eyes 41 = .ok (.aaload, 1) := dk_50 (dk_at dksX0_eyes_1 17 rfl rfl)
theorem dX0_eyes_42 : decode cX0_eyes 42 = .ok (.astore 6, 2) := dk_58 6 (dk_at dksX0_eyes_1 18 rfl rfl)
theorem dX0_eyes_44 : decode cX0_eyes 44 = .ok (.aload 6, 2) := dk_25 6 (dk_at dksX0_eyes_1 20 rfl rfl)
theorem dX0_eyes_46 : decode cX0_eyes 46 = .ok (.getfield 328, 3) := dk_180 1 72 (dk_at dksX0_eyes_2 0 rfl rfl)
theorem dX0_eyes_49 : decode cX0_eyes 49 = .ok (.ifnonnull 6, 3) := dk_199 0 6 (dk_at dksX0_eyes_2 3 rfl rfl)
theorem dX0_eyes_52 : decode cX0_eyes 52 = .ok (.bipush (-11), 2) := dk_16 245 (dk_at dksX0_eyes_2 6 rfl rfl)
theorem dX0_eyes_54 : decode cX0_eyes 54 = .ok (.ireturn, 1) := dk_172 (dk_at dksX0_eyes_2 8 rfl rfl)
theorem dX0_eyes_55 : decode cX0_eyes 55 = .ok (.aload 6, 2) := dk_25 6 (dk_at dksX0_eyes_2 9 rfl rfl)
theorem dX0_eyes_57 : decode cX0_eyes 57 = .ok (.invokevirtual 332, 3) := dk_182 1 76 (dk_at dksX0_eyes_2 11 rfl rfl)
theorem dX0_eyes_60 : decode cX0_eyes 60 = .ok (.iload_n 3, 1) := dk_29 (dk_at dksX0_eyes_2 14 rfl rfl)
theorem dX0_eyes_61 : decode cX0_eyes 61 = .ok (.if_icmp .eq 6, 3) := dk_159 0 6 (dk_at dksX0_eyes_2 15 rfl rfl)
theorem dX0_eyes_64 : decode cX0_eyes 64 = .ok (.bipush (-12), 2) := dk_16 244 (dk_at dksX0_eyes_2 18 rfl rfl)
theorem dX0_eyes_66 : decode cX0_eyes 66 = .ok (.ireturn, 1) := dk_172 (dk_at dksX0_eyes_2 20 rfl rfl)
theorem dX0_eyes_67 : decode cX0_eyes 67 = .ok (.iload 4, 2) := dk_21 4 (dk_at dksX0_eyes_2 21 rfl rfl)
theorem dX0_eyes_69 : decode cX0_eyes 69 = .ok (.ifCond .lt 16, 3) := dk_155 0 16 (dk_at dksX0_eyes_3 0 rfl rfl)
theorem dX0_eyes_72 : decode cX0_eyes 72 = .ok (.iload 4, 2) := dk_21 4 (dk_at dksX0_eyes_3 3 rfl rfl)
theorem dX0_eyes_74 : decode cX0_eyes 74 = .ok (.aload 6, 2) := dk_25 6 (dk_at dksX0_eyes_3 5 rfl rfl)
theorem dX0_eyes_76 : decode cX0_eyes 76 = .ok (.invokevirtual 335, 3) := dk_182 1 79 (dk_at dksX0_eyes_3 7 rfl rfl)
theorem dX0_eyes_79 : decode cX0_eyes 79 = .ok (.iload 5, 2) := dk_21 5 (dk_at dksX0_eyes_3 10 rfl rfl)
theorem dX0_eyes_81 : decode cX0_eyes 81 = .ok (.isub, 1) := dk_100 (dk_at dksX0_eyes_3 12 rfl rfl)
theorem dX0_eyes_82 : decode cX0_eyes 82 = .ok (.if_icmp .le 6, 3) := dk_164 0 6 (dk_at dksX0_eyes_3 13 rfl rfl)
theorem dX0_eyes_85 : decode cX0_eyes 85 = .ok (.bipush (-13), 2) := dk_16 243 (dk_at dksX0_eyes_3 16 rfl rfl)
theorem dX0_eyes_87 : decode cX0_eyes 87 = .ok (.ireturn, 1) := dk_172 (dk_at dksX0_eyes_3 18 rfl rfl)
theorem dX0_eyes_88 : decode cX0_eyes 88 = .ok (.iconst 0, 1) := dk_3 (dk_at dksX0_eyes_3 19 rfl rfl)
theorem dX0_eyes_89 : decode cX0_eyes 89 = .ok (.istore 7, 2) := dk_54 7 (dk_at dksX0_eyes_3 20 rfl rfl)
theorem dX0_eyes_91 : decode cX0_eyes 91 = .ok (.iconst 0, 1) := dk_3 (dk_at dksX0_eyes_3 22 rfl rfl)
theorem dX0_eyes_92 : decode cX0_eyes 92 = .ok (.istore 8, 2) := dk_54 8 (dk_at dksX0_eyes_4 0 rfl rfl)
theorem dX0_eyes_94 : decode cX0_eyes 94 = .ok (.iload 8, 2) := dk_21 8 (dk_at dksX0_eyes_4 2 rfl rfl)
theorem dX0_eyes_96 : decode cX0_eyes 96 = .ok (.iload 5, 2) := dk_21 5 (dk_at dksX0_eyes_4 4 rfl rfl)
theorem dX0_eyes_98 : decode cX0_eyes 98 = .ok (.if_icmp .ge 53, 3) := dk_162 0 53 (dk_at dksX0_eyes_4 6 rfl rfl)
theorem dX0_eyes_101 : decode cX0_eyes 101 = .ok (.aload 6, 2) := dk_25 6 (dk_at dksX0_eyes_4 9 rfl rfl)
theorem dX0_eyes_103 : decode cX0_eyes 103 = .ok (.iload 4, 2) := dk_21 4 (dk_at dksX0_eyes_4 11 rfl rfl)
theorem dX0_eyes_105 : decode cX0_eyes 105 = .ok (.iload 8, 2) := dk_21 8 (dk_at dksX0_eyes_4 13 rfl rfl)
theorem dX0_eyes_107 : decode cX0_eyes 107 = .ok (.iadd, 1) := dk_96 (dk_at dksX0_eyes_4 15 rfl rfl)
theorem dX0_eyes_108 : decode cX0_eyes 108 = .ok (.invokevirtual 336, 3) := dk_182 1 80 (dk_at dksX0_eyes_4 16 rfl rfl)
theorem dX0_eyes_111 : decode cX0_eyes 111 = .ok (.iconst (-1), 1) := dk_2 (dk_at dksX0_eyes_4 19 rfl rfl)
theorem dX0_eyes_112 : decode cX0_eyes 112 = .ok (.iconst 3, 1) := dk_6 (dk_at dksX0_eyes_4 20 rfl rfl)
theorem dX0_eyes_113 : decode cX0_eyes 113 = .ok (.invokestatic 3, 3) := dk_184 0 3 (dk_at dksX0_eyes_4 21 rfl rfl)
theorem dX0_eyes_116 : decode cX0_eyes 116 = .ok (.ifCond .ne 6, 3) := dk_154 0 6 (dk_at dksX0_eyes_5 0 rfl rfl)
theorem dX0_eyes_119 : decode cX0_eyes 119 = .ok (.bipush (-2), 2) := dk_16 254 (dk_at dksX0_eyes_5 3 rfl rfl)
theorem dX0_eyes_121 : decode cX0_eyes 121 = .ok (.ireturn, 1) := dk_172 (dk_at dksX0_eyes_5 5 rfl rfl)
theorem dX0_eyes_122 : decode cX0_eyes 122 = .ok (.iload 7, 2) := dk_21 7 (dk_at dksX0_eyes_5 6 rfl rfl)
theorem dX0_eyes_124 : decode cX0_eyes 124 = .ok (.aload 6, 2) := dk_25 6 (dk_at dksX0_eyes_5 8 rfl rfl)
theorem dX0_eyes_126 : decode cX0_eyes 126 = .ok (.iload 4, 2) := dk_21 4 (dk_at dksX0_eyes_5 10 rfl rfl)
theorem dX0_eyes_128 : decode cX0_eyes 128 = .ok (.iload 8, 2) := dk_21 8 (dk_at dksX0_eyes_5 12 rfl rfl)
theorem dX0_eyes_130 : decode cX0_eyes 130 = .ok (.iadd, 1) := dk_96 (dk_at dksX0_eyes_5 14 rfl rfl)
theorem dX0_eyes_131 : decode cX0_eyes 131 = .ok (.invokevirtual 336, 3) := dk_182 1 80 (dk_at dksX0_eyes_5 15 rfl rfl)
theorem dX0_eyes_134 : decode cX0_eyes 134 = .ok (.ifCond .lt 7, 3) := dk_155 0 7 (dk_at dksX0_eyes_5 18 rfl rfl)
theorem dX0_eyes_137 : decode cX0_eyes 137 = .ok (.iconst 1, 1) := dk_4 (dk_at dksX0_eyes_5 21 rfl rfl)
theorem dX0_eyes_138 : decode cX0_eyes 138 = .ok (.goto 4, 3) := dk_167 0 4 (dk_at dksX0_eyes_6 0 rfl rfl)
theorem dX0_eyes_141 : decode cX0_eyes 141 = .ok (.iconst 0, 1) := dk_3 (dk_at dksX0_eyes_6 3 rfl rfl)
theorem dX0_eyes_142 : decode cX0_eyes 142 = .ok (.iadd, 1) := dk_96 (dk_at dksX0_eyes_6 4 rfl rfl)
theorem dX0_eyes_143 : decode cX0_eyes 143 = .ok (.istore 7, 2) := dk_54 7 (dk_at dksX0_eyes_6 5 rfl rfl)
theorem dX0_eyes_145 : decode cX0_eyes 145 = .ok (.iinc 8 1, 3) := dk_132 8 1 (dk_at dksX0_eyes_6 7 rfl rfl)
theorem dX0_eyes_148 : decode cX0_eyes 148 = .ok (.goto (-54), 3) := dk_167 255 202 (dk_at dksX0_eyes_6 10 rfl rfl)
theorem dX0_eyes_151 : decode cX0_eyes 151 = .ok (.aload_n 0, 1) := dk_42 (dk_at dksX0_eyes_6 13 rfl rfl)
theorem dX0_eyes_152 : decode cX0_eyes 152 = .ok (.getfield 169, 3) := dk_180 0 169 (dk_at dksX0_eyes_6 14 rfl rfl)
theorem dX0_eyes_155 : decode cX0_eyes 155 = .ok (.iload 7, 2) := dk_21 7 (dk_at dksX0_eyes_6 17 rfl rfl)
theorem dX0_eyes_157 : decode cX0_eyes 157 = .ok (.iadd, 1) := dk_96 (dk_at dksX0_eyes_6 19 rfl rfl)
theorem dX0_eyes_158 : decode cX0_eyes 158 = .ok (.bipush 24, 2) := dk_16 24 (dk_at dksX0_eyes_6 20 rfl rfl)
theorem dX0_eyes_160 : decode cX0_eyes 160 = .ok (.if_icmp .le 6, 3) := dk_164 0 6 (dk_at dksX0_eyes_7 0 rfl rfl)
theorem dX0_eyes_163 : decode cX0_eyes 163 = .ok (.bipush (-3), 2) := dk_16 253 (dk_at dksX0_eyes_7 3 rfl rfl)
theorem dX0_eyes_165 : decode cX0_eyes 165 = .ok (.ireturn, 1) := dk_172 (dk_at dksX0_eyes_7 5 rfl rfl)
theorem dX0_eyes_166 : decode cX0_eyes 166 = .ok (.iconst 0, 1) := dk_3 (dk_at dksX0_eyes_7 6 rfl rfl)
theorem dX0_eyes_167 : decode cX0_eyes 167 = .ok (.istore 8, 2) := dk_54 8 (dk_at dksX0_eyes_7 7 rfl rfl)
theorem dX0_eyes_169 : decode cX0_eyes 169 = .ok (.iload 8, 2) := dk_21 8 (dk_at dksX0_eyes_7 9 rfl rfl)
theorem dX0_eyes_171 : decode cX0_eyes 171 = .ok (.iload 5, 2) := dk_21 5 (dk_at dksX0_eyes_7 11 rfl rfl)
theorem dX0_eyes_173 : decode cX0_eyes 173 = .ok (.if_icmp .ge 41, 3) := dk_162 0 41 (dk_at dksX0_eyes_7 13 rfl rfl)
theorem dX0_eyes_176 : decode cX0_eyes 176 = .ok (.aload 6, 2) := dk_25 6 (dk_at dksX0_eyes_7 16 rfl rfl)
theorem dX0_eyes_178 : decode cX0_eyes 178 = .ok (.iload 4, 2) := dk_21 4 (dk_at dksX0_eyes_7 18 rfl rfl)
theorem dX0_eyes_180 : decode cX0_eyes 180 = .ok (.iload 8, 2) := dk_21 8 (dk_at dksX0_eyes_7 20 rfl rfl)
theorem dX0_eyes_182 : decode cX0_eyes 182 = .ok (.iadd, 1) := dk_96 (dk_at dksX0_eyes_7 22 rfl rfl)
theorem dX0_eyes_183 : decode cX0_eyes 183 = .ok (.invokevirtual 336, 3) := dk_182 1 80 (dk_at dksX0_eyes_8 0 rfl rfl)
theorem dX0_eyes_186 : decode cX0_eyes 186 = .ok (.ifCond .lt 22, 3) := dk_155 0 22 (dk_at dksX0_eyes_8 3 rfl rfl)
theorem dX0_eyes_189 : decode cX0_eyes 189 = .ok (.aload_n 0, 1) := dk_42 (dk_at dksX0_eyes_8 6 rfl rfl)
theorem dX0_eyes_190 : decode cX0_eyes 190 = .ok (.iload_n 1, 1) := dk_27 (dk_at dksX0_eyes_8 7 rfl rfl)
theorem dX0_eyes_191 : decode cX0_eyes 191 = .ok (.iload 8, 2) := dk_21 8 (dk_at dksX0_eyes_8 8 rfl rfl)
theorem dX0_eyes_193 : decode cX0_eyes 193 = .ok (.iadd, 1) := dk_96 (dk_at dksX0_eyes_8 10 rfl rfl)
theorem dX0_eyes_194 : decode cX0_eyes 194 = .ok (.aload 6, 2) := dk_25 6 (dk_at dksX0_eyes_8 11 rfl rfl)
theorem dX0_eyes_196 : decode cX0_eyes 196 = .ok (.iload 4, 2) := dk_21 4 (dk_at dksX0_eyes_8 13 rfl rfl)
theorem dX0_eyes_198 : decode cX0_eyes 198 = .ok (.iload 8, 2) := dk_21 8 (dk_at dksX0_eyes_8 15 rfl rfl)
theorem dX0_eyes_200 : decode cX0_eyes 200 = .ok (.iadd, 1) := dk_96 (dk_at dksX0_eyes_8 17 rfl rfl)
theorem dX0_eyes_201 : decode cX0_eyes 201 = .ok (.invokevirtual 336, 3) := dk_182 1 80 (dk_at dksX0_eyes_8 18 rfl rfl)
theorem dX0_eyes_204 : decode cX0_eyes 204 = .ok (.invokevirtual 338, 3) := dk_182 1 82 (dk_at dksX0_eyes_8 21 rfl rfl)
theorem dX0_eyes_207 : decode cX0_eyes 207 = .ok (.pop, 1) := dk_87 (dk_at dksX0_eyes_9 0 rfl rfl)
theorem dX0_eyes_208 : decode cX0_eyes 208 = .ok (.iinc 8 1, 3) := dk_132 8 1 (dk_at dksX0_eyes_9 1 rfl rfl)
theorem dX0_eyes_211 : decode cX0_eyes 211 = .ok (.goto (-42), 3) := dk_167 255 214 (dk_at dksX0_eyes_9 4 rfl rfl)
theorem dX0_eyes_214 : decode cX0_eyes 214 = .ok (.iload 7, 2) := dk_21 7 (dk_at dksX0_eyes_9 7 rfl rfl)
theorem dX0_eyes_216 : decode cX0_eyes 216 = .ok (.ireturn, 1) := dk_172 (dk_at dksX0_eyes_9 9 rfl rfl)
abbrev cX0_isSheet : ByteArray := prog_1_method_63_code
def yX0_isSheet : MethodName := ⟨RX0, "isSheet", "(I)Z"⟩
def dkwX0_isSheet_0 : List UInt8 := [26, 3, 6, 184, 0, 3, 172]
abbrev dktX0_isSheet_0 : List UInt8 := dkwX0_isSheet_0 ++ []
theorem dksX0_isSheet_0 : cX0_isSheet.data.toList.drop 0 = dktX0_isSheet_0 := by decide +kernel
theorem dX0_isSheet_0 : decode cX0_isSheet 0 = .ok (.iload_n 0, 1) := dk_26 (dk_at dksX0_isSheet_0 0 rfl rfl)
theorem dX0_isSheet_1 : decode cX0_isSheet 1 = .ok (.iconst 0, 1) := dk_3 (dk_at dksX0_isSheet_0 1 rfl rfl)
theorem dX0_isSheet_2 : decode cX0_isSheet 2 = .ok (.iconst 3, 1) := dk_6 (dk_at dksX0_isSheet_0 2 rfl rfl)
theorem dX0_isSheet_3 : decode cX0_isSheet 3 = .ok (.invokestatic 3, 3) := dk_184 0 3 (dk_at dksX0_isSheet_0 3 rfl rfl)
theorem dX0_isSheet_6 : decode cX0_isSheet 6 = .ok (.ireturn, 1) := dk_172 (dk_at dksX0_isSheet_0 6 rfl rfl)
abbrev cX0_isLane : ByteArray := prog_1_method_64_code
def yX0_isLane : MethodName := ⟨RX0, "isLane", "(I)Z"⟩
def dkwX0_isLane_0 : List UInt8 := [26, 3, 5, 184, 0, 3, 172]
abbrev dktX0_isLane_0 : List UInt8 := dkwX0_isLane_0 ++ []
theorem dksX0_isLane_0 : cX0_isLane.data.toList.drop 0 = dktX0_isLane_0 := by decide +kernel
theorem dX0_isLane_0 : decode cX0_isLane 0 = .ok (.iload_n 0, 1) := dk_26 (dk_at dksX0_isLane_0 0 rfl rfl)
theorem dX0_isLane_1 : decode cX0_isLane 1 = .ok (.iconst 0, 1) := dk_3 (dk_at dksX0_isLane_0 1 rfl rfl)
theorem dX0_isLane_2 : decode cX0_isLane 2 = .ok (.iconst 2, 1) := dk_5 (dk_at dksX0_isLane_0 2 rfl rfl)
theorem dX0_isLane_3 : decode cX0_isLane 3 = .ok (.invokestatic 3, 3) := dk_184 0 3 (dk_at dksX0_isLane_0 3 rfl rfl)
theorem dX0_isLane_6 : decode cX0_isLane 6 = .ok (.ireturn, 1) := dk_172 (dk_at dksX0_isLane_0 6 rfl rfl)
abbrev cX0_sheet : ByteArray := prog_1_method_66_code
def yX0_sheet : MethodName := ⟨RX0, "sheet", "(III)I"⟩
def dkwX0_sheet_2 : List UInt8 := [167, 0, 6, 29, 188, 10, 181, 1, 72, 167, 0, 8, 58, 4, 16, 242, 172, 29, 172]
abbrev dktX0_sheet_2 : List UInt8 := dkwX0_sheet_2 ++ []
def dkwX0_sheet_1 : List UInt8 := [180, 0, 74, 27, 50, 28, 154, 0, 9, 29, 188, 8, 167, 0, 17, 28, 4, 160, 0, 9, 29, 188, 9]
abbrev dktX0_sheet_1 : List UInt8 := dkwX0_sheet_1 ++ dktX0_sheet_2
def dkwX0_sheet_0 : List UInt8 := [27, 184, 1, 66, 153, 0, 16, 28, 184, 1, 69, 153, 0, 9, 29, 16, 16, 164, 0, 5, 2, 172, 42]
abbrev dktX0_sheet_0 : List UInt8 := dkwX0_sheet_0 ++ dktX0_sheet_1
theorem dksX0_sheet_0 : cX0_sheet.data.toList.drop 0 = dktX0_sheet_0 := by decide +kernel
theorem dksX0_sheet_1 : cX0_sheet.data.toList.drop 23 = dktX0_sheet_1 := dk_seg dksX0_sheet_0 23 rfl rfl
theorem dksX0_sheet_2 : cX0_sheet.data.toList.drop 46 = dktX0_sheet_2 := dk_seg dksX0_sheet_1 23 rfl rfl
theorem dX0_sheet_0 : decode cX0_sheet 0 = .ok (.iload_n 1, 1) := dk_27 (dk_at dksX0_sheet_0 0 rfl rfl)
theorem dX0_sheet_1 : decode cX0_sheet 1 = .ok (.invokestatic 322, 3) := dk_184 1 66 (dk_at dksX0_sheet_0 1 rfl rfl)
theorem dX0_sheet_4 : decode cX0_sheet 4 = .ok (.ifCond .eq 16, 3) := dk_153 0 16 (dk_at dksX0_sheet_0 4 rfl rfl)
theorem dX0_sheet_7 : decode cX0_sheet 7 = .ok (.iload_n 2, 1) := dk_28 (dk_at dksX0_sheet_0 7 rfl rfl)
theorem dX0_sheet_8 : decode cX0_sheet 8 = .ok (.invokestatic 325, 3) := dk_184 1 69 (dk_at dksX0_sheet_0 8 rfl rfl)
theorem dX0_sheet_11 : decode cX0_sheet 11 = .ok (.ifCond .eq 9, 3) := dk_153 0 9 (dk_at dksX0_sheet_0 11 rfl rfl)
theorem dX0_sheet_14 : decode cX0_sheet 14 = .ok (.iload_n 3, 1) := dk_29 (dk_at dksX0_sheet_0 14 rfl rfl)
theorem dX0_sheet_15 : decode cX0_sheet 15 = .ok (.bipush 16, 2) := dk_16 16 (dk_at dksX0_sheet_0 15 rfl rfl)
theorem dX0_sheet_17 : decode cX0_sheet 17 = .ok (.if_icmp .le 5, 3) := dk_164 0 5 (dk_at dksX0_sheet_0 17 rfl rfl)
theorem dX0_sheet_20 : decode cX0_sheet 20 = .ok (.iconst (-1), 1) := dk_2 (dk_at dksX0_sheet_0 20 rfl rfl)
theorem dX0_sheet_21 : decode cX0_sheet 21 = .ok (.ireturn, 1) := dk_172 (dk_at dksX0_sheet_0 21 rfl rfl)
theorem dX0_sheet_22 : decode cX0_sheet 22 = .ok (.aload_n 0, 1) := dk_42 (dk_at dksX0_sheet_0 22 rfl rfl)
theorem dX0_sheet_23 : decode cX0_sheet 23 = .ok (.getfield 74, 3) := dk_180 0 74 (dk_at dksX0_sheet_1 0 rfl rfl)
theorem dX0_sheet_26 : decode cX0_sheet 26 = .ok (.iload_n 1, 1) := dk_27 (dk_at dksX0_sheet_1 3 rfl rfl)
theorem dX0_sheet_27 : decode cX0_sheet 27 = .ok (.aaload, 1) := dk_50 (dk_at dksX0_sheet_1 4 rfl rfl)
theorem dX0_sheet_28 : decode cX0_sheet 28 = .ok (.iload_n 2, 1) := dk_28 (dk_at dksX0_sheet_1 5 rfl rfl)
theorem dX0_sheet_29 : decode cX0_sheet 29 = .ok (.ifCond .ne 9, 3) := dk_154 0 9 (dk_at dksX0_sheet_1 6 rfl rfl)
theorem dX0_sheet_32 : decode cX0_sheet 32 = .ok (.iload_n 3, 1) := dk_29 (dk_at dksX0_sheet_1 9 rfl rfl)
theorem dX0_sheet_33 : decode cX0_sheet 33 = .ok (.newarray .byte, 2) := dk_188_8 (dk_at dksX0_sheet_1 10 rfl rfl)
theorem dX0_sheet_35 : decode cX0_sheet 35 = .ok (.goto 17, 3) := dk_167 0 17 (dk_at dksX0_sheet_1 12 rfl rfl)
theorem dX0_sheet_38 : decode cX0_sheet 38 = .ok (.iload_n 2, 1) := dk_28 (dk_at dksX0_sheet_1 15 rfl rfl)
theorem dX0_sheet_39 : decode cX0_sheet 39 = .ok (.iconst 1, 1) := dk_4 (dk_at dksX0_sheet_1 16 rfl rfl)
theorem dX0_sheet_40 : decode cX0_sheet 40 = .ok (.if_icmp .ne 9, 3) := dk_160 0 9 (dk_at dksX0_sheet_1 17 rfl rfl)
theorem dX0_sheet_43 : decode cX0_sheet 43 = .ok (.iload_n 3, 1) := dk_29 (dk_at dksX0_sheet_1 20 rfl rfl)
theorem dX0_sheet_44 : decode cX0_sheet 44 = .ok (.newarray .short, 2) := dk_188_9 (dk_at dksX0_sheet_1 21 rfl rfl)
theorem dX0_sheet_46 : decode cX0_sheet 46 = .ok (.goto 6, 3) := dk_167 0 6 (dk_at dksX0_sheet_2 0 rfl rfl)
theorem dX0_sheet_49 : decode cX0_sheet 49 = .ok (.iload_n 3, 1) := dk_29 (dk_at dksX0_sheet_2 3 rfl rfl)
theorem dX0_sheet_50 : decode cX0_sheet 50 = .ok (.newarray .int, 2) := dk_188_10 (dk_at dksX0_sheet_2 4 rfl rfl)
theorem dX0_sheet_52 : decode cX0_sheet 52 = .ok (.putfield 328, 3) := dk_181 1 72 (dk_at dksX0_sheet_2 6 rfl rfl)
theorem dX0_sheet_55 : decode cX0_sheet 55 = .ok (.goto 8, 3) := dk_167 0 8 (dk_at dksX0_sheet_2 9 rfl rfl)
theorem dX0_sheet_58 : decode cX0_sheet 58 = .ok (.astore 4, 2) := dk_58 4 (dk_at dksX0_sheet_2 12 rfl rfl)
theorem dX0_sheet_60 : decode cX0_sheet 60 = .ok (.bipush (-14), 2) := dk_16 242 (dk_at dksX0_sheet_2 14 rfl rfl)
theorem dX0_sheet_62 : decode cX0_sheet 62 = .ok (.ireturn, 1) := dk_172 (dk_at dksX0_sheet_2 16 rfl rfl)
theorem dX0_sheet_63 : decode cX0_sheet 63 = .ok (.iload_n 3, 1) := dk_29 (dk_at dksX0_sheet_2 17 rfl rfl)
theorem dX0_sheet_64 : decode cX0_sheet 64 = .ok (.ireturn, 1) := dk_172 (dk_at dksX0_sheet_2 18 rfl rfl)
abbrev cX0_drop : ByteArray := prog_1_method_67_code
def yX0_drop : MethodName := ⟨RX0, "drop", "(I)I"⟩
def dkwX0_drop_1 : List UInt8 := [42, 180, 0, 74, 27, 50, 182, 1, 79, 61, 42, 180, 0, 74, 27, 50, 1, 181, 1, 72, 28, 172]
abbrev dktX0_drop_1 : List UInt8 := dkwX0_drop_1 ++ []
def dkwX0_drop_0 : List UInt8 := [27, 184, 1, 66, 154, 0, 5, 2, 172, 42, 180, 0, 74, 27, 50, 180, 1, 72, 199, 0, 6, 16, 245, 172]
abbrev dktX0_drop_0 : List UInt8 := dkwX0_drop_0 ++ dktX0_drop_1
theorem dksX0_drop_0 : cX0_drop.data.toList.drop 0 = dktX0_drop_0 := by decide +kernel
theorem dksX0_drop_1 : cX0_drop.data.toList.drop 24 = dktX0_drop_1 := dk_seg dksX0_drop_0 24 rfl rfl
theorem dX0_drop_0 : decode cX0_drop 0 = .ok (.iload_n 1, 1) := dk_27 (dk_at dksX0_drop_0 0 rfl rfl)
theorem dX0_drop_1 : decode cX0_drop 1 = .ok (.invokestatic 322, 3) := dk_184 1 66 (dk_at dksX0_drop_0 1 rfl rfl)
theorem dX0_drop_4 : decode cX0_drop 4 = .ok (.ifCond .ne 5, 3) := dk_154 0 5 (dk_at dksX0_drop_0 4 rfl rfl)
theorem dX0_drop_7 : decode cX0_drop 7 = .ok (.iconst (-1), 1) := dk_2 (dk_at dksX0_drop_0 7 rfl rfl)
theorem dX0_drop_8 : decode cX0_drop 8 = .ok (.ireturn, 1) := dk_172 (dk_at dksX0_drop_0 8 rfl rfl)
theorem dX0_drop_9 : decode cX0_drop 9 = .ok (.aload_n 0, 1) := dk_42 (dk_at dksX0_drop_0 9 rfl rfl)
theorem dX0_drop_10 : decode cX0_drop 10 = .ok (.getfield 74, 3) := dk_180 0 74 (dk_at dksX0_drop_0 10 rfl rfl)
theorem dX0_drop_13 : decode cX0_drop 13 = .ok (.iload_n 1, 1) := dk_27 (dk_at dksX0_drop_0 13 rfl rfl)
theorem dX0_drop_14 : decode cX0_drop 14 = .ok (.aaload, 1) := dk_50 (dk_at dksX0_drop_0 14 rfl rfl)
theorem dX0_drop_15 : decode cX0_drop 15 = .ok (.getfield 328, 3) := dk_180 1 72 (dk_at dksX0_drop_0 15 rfl rfl)
theorem dX0_drop_18 : decode cX0_drop 18 = .ok (.ifnonnull 6, 3) := dk_199 0 6 (dk_at dksX0_drop_0 18 rfl rfl)
theorem dX0_drop_21 : decode cX0_drop 21 = .ok (.bipush (-11), 2) := dk_16 245 (dk_at dksX0_drop_0 21 rfl rfl)
theorem dX0_drop_23 : decode cX0_drop 23 = .ok (.ireturn, 1) := dk_172 (dk_at dksX0_drop_0 23 rfl rfl)
theorem dX0_drop_24 : decode cX0_drop 24 = .ok (.aload_n 0, 1) := dk_42 (dk_at dksX0_drop_1 0 rfl rfl)
theorem dX0_drop_25 : decode cX0_drop 25 = .ok (.getfield 74, 3) := dk_180 0 74 (dk_at dksX0_drop_1 1 rfl rfl)
theorem dX0_drop_28 : decode cX0_drop 28 = .ok (.iload_n 1, 1) := dk_27 (dk_at dksX0_drop_1 4 rfl rfl)
theorem dX0_drop_29 : decode cX0_drop 29 = .ok (.aaload, 1) := dk_50 (dk_at dksX0_drop_1 5 rfl rfl)
theorem dX0_drop_30 : decode cX0_drop 30 = .ok (.invokevirtual 335, 3) := dk_182 1 79 (dk_at dksX0_drop_1 6 rfl rfl)
theorem dX0_drop_33 : decode cX0_drop 33 = .ok (.istore_n 2, 1) := dk_61 (dk_at dksX0_drop_1 9 rfl rfl)
theorem dX0_drop_34 : decode cX0_drop 34 = .ok (.aload_n 0, 1) := dk_42 (dk_at dksX0_drop_1 10 rfl rfl)
theorem dX0_drop_35 : decode cX0_drop 35 = .ok (.getfield 74, 3) := dk_180 0 74 (dk_at dksX0_drop_1 11 rfl rfl)
theorem dX0_drop_38 : decode cX0_drop 38 = .ok (.iload_n 1, 1) := dk_27 (dk_at dksX0_drop_1 14 rfl rfl)
theorem dX0_drop_39 : decode cX0_drop 39 = .ok (.aaload, 1) := dk_50 (dk_at dksX0_drop_1 15 rfl rfl)
theorem dX0_drop_40 : decode cX0_drop 40 = .ok (.aconst_null, 1) := dk_1 (dk_at dksX0_drop_1 16 rfl rfl)
theorem dX0_drop_41 : decode cX0_drop 41 = .ok (.putfield 328, 3) := dk_181 1 72 (dk_at dksX0_drop_1 17 rfl rfl)
theorem dX0_drop_44 : decode cX0_drop 44 = .ok (.iload_n 2, 1) := dk_28 (dk_at dksX0_drop_1 20 rfl rfl)
theorem dX0_drop_45 : decode cX0_drop 45 = .ok (.ireturn, 1) := dk_172 (dk_at dksX0_drop_1 21 rfl rfl)
abbrev cX0_item : ByteArray := prog_1_method_68_code
def yX0_item : MethodName := ⟨RX0, "item", "(IIII)I"⟩
def dkwX0_item_5 : List UInt8 := [58, 5, 16, 243, 172, 4, 172]
abbrev dktX0_item_5 : List UInt8 := dkwX0_item_5 ++ []
def dkwX0_item_4 : List UInt8 := [180, 1, 72, 192, 1, 90, 29, 21, 4, 79, 167, 0, 18, 58, 5, 16, 245, 172, 58, 5, 16, 244, 172]
abbrev dktX0_item_4 : List UInt8 := dkwX0_item_4 ++ dktX0_item_5
def dkwX0_item_3 : List UInt8 := [27, 50, 180, 1, 72, 192, 1, 88, 29, 21, 4, 147, 86, 167, 0, 19, 42, 180, 0, 74, 27, 50]
abbrev dktX0_item_3 : List UInt8 := dkwX0_item_3 ++ dktX0_item_4
def dkwX0_item_2 : List UInt8 := [42, 180, 0, 74, 27, 50, 180, 1, 72, 192, 1, 87, 29, 21, 4, 145, 84, 167, 0, 39, 42, 180, 0, 74]
abbrev dktX0_item_2 : List UInt8 := dkwX0_item_2 ++ dktX0_item_3
def dkwX0_item_1 : List UInt8 := [171, 0, 0, 0, 0, 0, 67, 0, 0, 0, 2, 0, 0, 0, 0, 0, 0, 0, 27, 0, 0, 0, 1, 0, 0, 0, 47]
abbrev dktX0_item_1 : List UInt8 := dkwX0_item_1 ++ dktX0_item_2
def dkwX0_item_0 : List UInt8 := [27, 184, 1, 66, 153, 0, 10, 28, 184, 1, 69, 154, 0, 5, 2, 172, 28]
abbrev dktX0_item_0 : List UInt8 := dkwX0_item_0 ++ dktX0_item_1
theorem dksX0_item_0 : cX0_item.data.toList.drop 0 = dktX0_item_0 := by decide +kernel
theorem dksX0_item_1 : cX0_item.data.toList.drop 17 = dktX0_item_1 := dk_seg dksX0_item_0 17 rfl rfl
theorem dksX0_item_2 : cX0_item.data.toList.drop 44 = dktX0_item_2 := dk_seg dksX0_item_1 27 rfl rfl
theorem dksX0_item_3 : cX0_item.data.toList.drop 68 = dktX0_item_3 := dk_seg dksX0_item_2 24 rfl rfl
theorem dksX0_item_4 : cX0_item.data.toList.drop 90 = dktX0_item_4 := dk_seg dksX0_item_3 22 rfl rfl
theorem dksX0_item_5 : cX0_item.data.toList.drop 113 = dktX0_item_5 := dk_seg dksX0_item_4 23 rfl rfl
theorem dX0_item_0 : decode cX0_item 0 = .ok (.iload_n 1, 1) := dk_27 (dk_at dksX0_item_0 0 rfl rfl)
theorem dX0_item_1 : decode cX0_item 1 = .ok (.invokestatic 322, 3) := dk_184 1 66 (dk_at dksX0_item_0 1 rfl rfl)
theorem dX0_item_4 : decode cX0_item 4 = .ok (.ifCond .eq 10, 3) := dk_153 0 10 (dk_at dksX0_item_0 4 rfl rfl)
theorem dX0_item_7 : decode cX0_item 7 = .ok (.iload_n 2, 1) := dk_28 (dk_at dksX0_item_0 7 rfl rfl)
theorem dX0_item_8 : decode cX0_item 8 = .ok (.invokestatic 325, 3) := dk_184 1 69 (dk_at dksX0_item_0 8 rfl rfl)
theorem dX0_item_11 : decode cX0_item 11 = .ok (.ifCond .ne 5, 3) := dk_154 0 5 (dk_at dksX0_item_0 11 rfl rfl)
theorem dX0_item_14 : decode cX0_item 14 = .ok (.iconst (-1), 1) := dk_2 (dk_at dksX0_item_0 14 rfl rfl)
theorem dX0_item_15 : decode cX0_item 15 = .ok (.ireturn, 1) := dk_172 (dk_at dksX0_item_0 15 rfl rfl)
theorem dX0_item_16 : decode cX0_item 16 = .ok (.iload_n 2, 1) := dk_28 (dk_at dksX0_item_0 16 rfl rfl)
theorem dX0_item_17 : decode cX0_item 17 = .ok (.lookupswitch 67 #[(0, 27), (1, 47)], 27) := by decide +kernel
theorem dX0_item_44 : decode cX0_item 44 = .ok (.aload_n 0, 1) := dk_42 (dk_at dksX0_item_2 0 rfl rfl)
theorem dX0_item_45 : decode cX0_item 45 = .ok (.getfield 74, 3) := dk_180 0 74 (dk_at dksX0_item_2 1 rfl rfl)
theorem dX0_item_48 : decode cX0_item 48 = .ok (.iload_n 1, 1) := dk_27 (dk_at dksX0_item_2 4 rfl rfl)
theorem dX0_item_49 : decode cX0_item 49 = .ok (.aaload, 1) := dk_50 (dk_at dksX0_item_2 5 rfl rfl)
theorem dX0_item_50 : decode cX0_item 50 = .ok (.getfield 328, 3) := dk_180 1 72 (dk_at dksX0_item_2 6 rfl rfl)
theorem dX0_item_53 : decode cX0_item 53 = .ok (.checkcast 343, 3) := dk_192 1 87 (dk_at dksX0_item_2 9 rfl rfl)
theorem dX0_item_56 : decode cX0_item 56 = .ok (.iload_n 3, 1) := dk_29 (dk_at dksX0_item_2 12 rfl rfl)
theorem dX0_item_57 : decode cX0_item 57 = .ok (.iload 4, 2) := dk_21 4 (dk_at dksX0_item_2 13 rfl rfl)
theorem dX0_item_59 : decode cX0_item 59 = .ok (.i2b, 1) := dk_145 (dk_at dksX0_item_2 15 rfl rfl)
theorem dX0_item_60 : decode cX0_item 60 = .ok (.bastore, 1) := dk_84 (dk_at dksX0_item_2 16 rfl rfl)
theorem dX0_item_61 : decode cX0_item 61 = .ok (.goto 39, 3) := dk_167 0 39 (dk_at dksX0_item_2 17 rfl rfl)
theorem dX0_item_64 : decode cX0_item 64 = .ok (.aload_n 0, 1) := dk_42 (dk_at dksX0_item_2 20 rfl rfl)
theorem dX0_item_65 : decode cX0_item 65 = .ok (.getfield 74, 3) := dk_180 0 74 (dk_at dksX0_item_2 21 rfl rfl)
theorem dX0_item_68 : decode cX0_item 68 = .ok (.iload_n 1, 1) := dk_27 (dk_at dksX0_item_3 0 rfl rfl)
theorem dX0_item_69 : decode cX0_item 69 = .ok (.aaload, 1) := dk_50 (dk_at dksX0_item_3 1 rfl rfl)
theorem dX0_item_70 : decode cX0_item 70 = .ok (.getfield 328, 3) := dk_180 1 72 (dk_at dksX0_item_3 2 rfl rfl)
theorem dX0_item_73 : decode cX0_item 73 = .ok (.checkcast 344, 3) := dk_192 1 88 (dk_at dksX0_item_3 5 rfl rfl)
theorem dX0_item_76 : decode cX0_item 76 = .ok (.iload_n 3, 1) := dk_29 (dk_at dksX0_item_3 8 rfl rfl)
theorem dX0_item_77 : decode cX0_item 77 = .ok (.iload 4, 2) := dk_21 4 (dk_at dksX0_item_3 9 rfl rfl)
theorem dX0_item_79 : decode cX0_item 79 = .ok (.i2s, 1) := dk_147 (dk_at dksX0_item_3 11 rfl rfl)
theorem dX0_item_80 : decode cX0_item 80 = .ok (.sastore, 1) := dk_86 (dk_at dksX0_item_3 12 rfl rfl)
theorem dX0_item_81 : decode cX0_item 81 = .ok (.goto 19, 3) := dk_167 0 19 (dk_at dksX0_item_3 13 rfl rfl)
theorem dX0_item_84 : decode cX0_item 84 = .ok (.aload_n 0, 1) := dk_42 (dk_at dksX0_item_3 16 rfl rfl)
theorem dX0_item_85 : decode cX0_item 85 = .ok (.getfield 74, 3) := dk_180 0 74 (dk_at dksX0_item_3 17 rfl rfl)
theorem dX0_item_88 : decode cX0_item 88 = .ok (.iload_n 1, 1) := dk_27 (dk_at dksX0_item_3 20 rfl rfl)
theorem dX0_item_89 : decode cX0_item 89 = .ok (.aaload, 1) := dk_50 (dk_at dksX0_item_3 21 rfl rfl)
theorem dX0_item_90 : decode cX0_item 90 = .ok (.getfield 328, 3) := dk_180 1 72 (dk_at dksX0_item_4 0 rfl rfl)
theorem dX0_item_93 : decode cX0_item 93 = .ok (.checkcast 346, 3) := dk_192 1 90 (dk_at dksX0_item_4 3 rfl rfl)
theorem dX0_item_96 : decode cX0_item 96 = .ok (.iload_n 3, 1) := dk_29 (dk_at dksX0_item_4 6 rfl rfl)
theorem dX0_item_97 : decode cX0_item 97 = .ok (.iload 4, 2) := dk_21 4 (dk_at dksX0_item_4 7 rfl rfl)
theorem dX0_item_99 : decode cX0_item 99 = .ok (.iastore, 1) := dk_79 (dk_at dksX0_item_4 9 rfl rfl)
theorem dX0_item_100 : decode cX0_item 100 = .ok (.goto 18, 3) := dk_167 0 18 (dk_at dksX0_item_4 10 rfl rfl)
theorem dX0_item_103 : decode cX0_item 103 = .ok (.astore 5, 2) := dk_58 5 (dk_at dksX0_item_4 13 rfl rfl)
theorem dX0_item_105 : decode cX0_item 105 = .ok (.bipush (-11), 2) := dk_16 245 (dk_at dksX0_item_4 15 rfl rfl)
theorem dX0_item_107 : decode cX0_item 107 = .ok (.ireturn, 1) := dk_172 (dk_at dksX0_item_4 17 rfl rfl)
theorem dX0_item_108 : decode cX0_item 108 = .ok (.astore 5, 2) := dk_58 5 (dk_at dksX0_item_4 18 rfl rfl)
theorem dX0_item_110 : decode cX0_item 110 = .ok (.bipush (-12), 2) := dk_16 244 (dk_at dksX0_item_4 20 rfl rfl)
theorem dX0_item_112 : decode cX0_item 112 = .ok (.ireturn, 1) := dk_172 (dk_at dksX0_item_4 22 rfl rfl)
theorem dX0_item_113 : decode cX0_item 113 = .ok (.astore 5, 2) := dk_58 5 (dk_at dksX0_item_5 0 rfl rfl)
theorem dX0_item_115 : decode cX0_item 115 = .ok (.bipush (-13), 2) := dk_16 243 (dk_at dksX0_item_5 2 rfl rfl)
theorem dX0_item_117 : decode cX0_item 117 = .ok (.ireturn, 1) := dk_172 (dk_at dksX0_item_5 4 rfl rfl)
theorem dX0_item_118 : decode cX0_item 118 = .ok (.iconst 1, 1) := dk_4 (dk_at dksX0_item_5 5 rfl rfl)
theorem dX0_item_119 : decode cX0_item 119 = .ok (.ireturn, 1) := dk_172 (dk_at dksX0_item_5 6 rfl rfl)
abbrev cX0_copy : ByteArray := prog_1_method_69_code
def yX0_copy : MethodName := ⟨RX0, "copy", "(IIIII)I"⟩
def dkwX0_copy_2 : List UInt8 := [58, 6, 16, 245, 172, 58, 6, 16, 244, 172, 58, 6, 16, 243, 172, 21, 5, 172]
abbrev dktX0_copy_2 : List UInt8 := dkwX0_copy_2 ++ []
def dkwX0_copy_1 : List UInt8 := [180, 1, 72, 28, 42, 180, 0, 74, 29, 50, 180, 1, 72, 21, 4, 21, 5, 184, 1, 51, 167, 0, 18]
abbrev dktX0_copy_1 : List UInt8 := dkwX0_copy_1 ++ dktX0_copy_2
def dkwX0_copy_0 : List UInt8 := [27, 184, 1, 66, 153, 0, 10, 29, 184, 1, 66, 154, 0, 5, 2, 172, 42, 180, 0, 74, 27, 50]
abbrev dktX0_copy_0 : List UInt8 := dkwX0_copy_0 ++ dktX0_copy_1
theorem dksX0_copy_0 : cX0_copy.data.toList.drop 0 = dktX0_copy_0 := by decide +kernel
theorem dksX0_copy_1 : cX0_copy.data.toList.drop 22 = dktX0_copy_1 := dk_seg dksX0_copy_0 22 rfl rfl
theorem dksX0_copy_2 : cX0_copy.data.toList.drop 45 = dktX0_copy_2 := dk_seg dksX0_copy_1 23 rfl rfl
theorem dX0_copy_0 : decode cX0_copy 0 = .ok (.iload_n 1, 1) := dk_27 (dk_at dksX0_copy_0 0 rfl rfl)
theorem dX0_copy_1 : decode cX0_copy 1 = .ok (.invokestatic 322, 3) := dk_184 1 66 (dk_at dksX0_copy_0 1 rfl rfl)
theorem dX0_copy_4 : decode cX0_copy 4 = .ok (.ifCond .eq 10, 3) := dk_153 0 10 (dk_at dksX0_copy_0 4 rfl rfl)
theorem dX0_copy_7 : decode cX0_copy 7 = .ok (.iload_n 3, 1) := dk_29 (dk_at dksX0_copy_0 7 rfl rfl)
theorem dX0_copy_8 : decode cX0_copy 8 = .ok (.invokestatic 322, 3) := dk_184 1 66 (dk_at dksX0_copy_0 8 rfl rfl)
theorem dX0_copy_11 : decode cX0_copy 11 = .ok (.ifCond .ne 5, 3) := dk_154 0 5 (dk_at dksX0_copy_0 11 rfl rfl)
theorem dX0_copy_14 : decode cX0_copy 14 = .ok (.iconst (-1), 1) := dk_2 (dk_at dksX0_copy_0 14 rfl rfl)
theorem dX0_copy_15 : decode cX0_copy 15 = .ok (.ireturn, 1) := dk_172 (dk_at dksX0_copy_0 15 rfl rfl)
theorem dX0_copy_16 : decode cX0_copy 16 = .ok (.aload_n 0, 1) := dk_42 (dk_at dksX0_copy_0 16 rfl rfl)
theorem dX0_copy_17 : decode cX0_copy 17 = .ok (.getfield 74, 3) := dk_180 0 74 (dk_at dksX0_copy_0 17 rfl rfl)
theorem dX0_copy_20 : decode cX0_copy 20 = .ok (.iload_n 1, 1) := dk_27 (dk_at dksX0_copy_0 20 rfl rfl)
theorem dX0_copy_21 : decode cX0_copy 21 = .ok (.aaload, 1) := dk_50 (dk_at dksX0_copy_0 21 rfl rfl)
theorem dX0_copy_22 : decode cX0_copy 22 = .ok (.getfield 328, 3) := dk_180 1 72 (dk_at dksX0_copy_1 0 rfl rfl)
theorem dX0_copy_25 : decode cX0_copy 25 = .ok (.iload_n 2, 1) := dk_28 (dk_at dksX0_copy_1 3 rfl rfl)
theorem dX0_copy_26 : decode cX0_copy 26 = .ok (.aload_n 0, 1) := dk_42 (dk_at dksX0_copy_1 4 rfl rfl)
theorem dX0_copy_27 : decode cX0_copy 27 = .ok (.getfield 74, 3) := dk_180 0 74 (dk_at dksX0_copy_1 5 rfl rfl)
theorem dX0_copy_30 : decode cX0_copy 30 = .ok (.iload_n 3, 1) := dk_29 (dk_at dksX0_copy_1 8 rfl rfl)
theorem dX0_copy_31 : decode cX0_copy 31 = .ok (.aaload, 1) := dk_50 (dk_at dksX0_copy_1 9 rfl rfl)
theorem dX0_copy_32 : decode cX0_copy 32 = .ok (.getfield 328, 3) := dk_180 1 72 (dk_at dksX0_copy_1 10 rfl rfl)
theorem dX0_copy_35 : decode cX0_copy 35 = .ok (.iload 4, 2) := dk_21 4 (dk_at dksX0_copy_1 13 rfl rfl)
theorem dX0_copy_37 : decode cX0_copy 37 = .ok (.iload 5, 2) := dk_21 5 (dk_at dksX0_copy_1 15 rfl rfl)
theorem dX0_copy_39 : decode cX0_copy 39 = .ok (.invokestatic 307, 3) := dk_184 1 51 (dk_at dksX0_copy_1 17 rfl rfl)
theorem dX0_copy_42 : decode cX0_copy 42 = .ok (.goto 18, 3) := dk_167 0 18 (dk_at dksX0_copy_1 20 rfl rfl)
theorem dX0_copy_45 : decode cX0_copy 45 = .ok (.astore 6, 2) := dk_58 6 (dk_at dksX0_copy_2 0 rfl rfl)
theorem dX0_copy_47 : decode cX0_copy 47 = .ok (.bipush (-11), 2) := dk_16 245 (dk_at dksX0_copy_2 2 rfl rfl)
theorem dX0_copy_49 : decode cX0_copy 49 = .ok (.ireturn, 1) := dk_172 (dk_at dksX0_copy_2 4 rfl rfl)
theorem dX0_copy_50 : decode cX0_copy 50 = .ok (.astore 6, 2) := dk_58 6 (dk_at dksX0_copy_2 5 rfl rfl)
theorem dX0_copy_52 : decode cX0_copy 52 = .ok (.bipush (-12), 2) := dk_16 244 (dk_at dksX0_copy_2 7 rfl rfl)
theorem dX0_copy_54 : decode cX0_copy 54 = .ok (.ireturn, 1) := dk_172 (dk_at dksX0_copy_2 9 rfl rfl)
theorem dX0_copy_55 : decode cX0_copy 55 = .ok (.astore 6, 2) := dk_58 6 (dk_at dksX0_copy_2 10 rfl rfl)
theorem dX0_copy_57 : decode cX0_copy 57 = .ok (.bipush (-13), 2) := dk_16 243 (dk_at dksX0_copy_2 12 rfl rfl)
theorem dX0_copy_59 : decode cX0_copy 59 = .ok (.ireturn, 1) := dk_172 (dk_at dksX0_copy_2 14 rfl rfl)
theorem dX0_copy_60 : decode cX0_copy 60 = .ok (.iload 5, 2) := dk_21 5 (dk_at dksX0_copy_2 15 rfl rfl)
theorem dX0_copy_62 : decode cX0_copy 62 = .ok (.ireturn, 1) := dk_172 (dk_at dksX0_copy_2 17 rfl rfl)
theorem q49 : (Jvm.Cond.initialized "CoinNotThere") ∈ lw_all := lw_g (lw_at lw_m1 1 rfl) rfl
theorem q79 : (Jvm.Cond.instantiable "CoinNotThere" (23 : Nat)) ∈ lw_all := lw_g (lw_at lw_m1 31 rfl) rfl
theorem q81 : (Jvm.Cond.instanceMethod ({ cls := "CoinNotThere", name := "<init>", desc := "()V" } : Jvm.MethodName)) ∈ lw_all := lw_g (lw_at lw_m1 33 rfl) rfl
theorem q82 : (Jvm.Cond.code ({ cls := "CoinNotThere", name := "<init>", desc := "()V" } : Jvm.MethodName) prog_1_method_5_code (2 : Nat) (Option.none : Option Jvm.ClassFile.FieldType)) ∈ lw_all := lw_g (lw_at lw_m1 34 rfl) rfl
theorem q83 : (Jvm.Cond.methodLink "CoinNotThere" (7 : Nat) ({ cls := "java/lang/Object", name := "<init>", desc := "()V" } : Jvm.MethodName)) ∈ lw_all := lw_g (lw_at lw_m1 35 rfl) rfl
theorem q86 : (Jvm.Cond.classLink "CoinNotThere" (13 : Nat) "CoinNotThere$Routine") ∈ lw_all := lw_g (lw_at lw_m1 38 rfl) rfl
theorem q88 : (Jvm.Cond.methodLink "CoinNotThere" (15 : Nat) ({ cls := "CoinNotThere$Routine", name := "<init>", desc := "()V" } : Jvm.MethodName)) ∈ lw_all := lw_g (lw_at lw_m1 40 rfl) rfl
theorem q101 : (Jvm.Cond.fieldLinkNest "CoinNotThere" (105 : Nat) "CoinNotThere$Beat" "move" "I" "CoinNotThere") ∈ lw_tbl := lw_at lw_m1 53 rfl
theorem q104 : (Jvm.Cond.fieldLinkNest "CoinNotThere" (111 : Nat) "CoinNotThere$Beat" "slip" "I" "CoinNotThere") ∈ lw_tbl := lw_at lw_m1 56 rfl
theorem q108 : (Jvm.Cond.fieldLinkNest "CoinNotThere" (114 : Nat) "CoinNotThere$Beat" "looks" "I" "CoinNotThere") ∈ lw_tbl := lw_at lw_m1 60 rfl
theorem q111 : (Jvm.Cond.fieldLinkNest "CoinNotThere" (117 : Nat) "CoinNotThere$Beat" "names" "I" "CoinNotThere") ∈ lw_tbl := lw_at lw_m1 63 rfl
theorem q114 : (Jvm.Cond.fieldLinkNest "CoinNotThere" (120 : Nat) "CoinNotThere$Beat" "joke" "Z" "CoinNotThere") ∈ lw_tbl := lw_at lw_m1 66 rfl
theorem q129 : (Jvm.Cond.fieldLinkNest "CoinNotThere" (101 : Nat) "CoinNotThere$Routine" "beats" "[LCoinNotThere$Beat;" "CoinNotThere") ∈ lw_tbl := lw_at lw_m1 81 rfl
theorem q131 : (Jvm.Cond.fieldLinkNest "CoinNotThere" (124 : Nat) "CoinNotThere$Routine" "stands" "I" "CoinNotThere") ∈ lw_tbl := lw_at lw_m1 83 rfl
theorem q134 : (Jvm.Cond.fieldLinkNest "CoinNotThere" (127 : Nat) "CoinNotThere$Routine" "laws" "[I" "CoinNotThere") ∈ lw_tbl := lw_at lw_m1 86 rfl
theorem q142 : (Jvm.Cond.classLink "CoinNotThere" (23 : Nat) "java/util/ArrayList") ∈ lw_all := lw_g (lw_at lw_m1 94 rfl) rfl
theorem q144 : (Jvm.Cond.methodLink "CoinNotThere" (25 : Nat) ({ cls := "java/util/ArrayList", name := "<init>", desc := "()V" } : Jvm.MethodName)) ∈ lw_all := lw_g (lw_at lw_m1 96 rfl) rfl
theorem q168 : (Jvm.Cond.classLink "CoinNotThere" (30 : Nat) "CoinNotThere$Fault") ∈ lw_all := lw_g (lw_at lw_m1 120 rfl) rfl
theorem q223 : (Jvm.Cond.methodLink "CoinNotThere" (32 : Nat) ({ cls := "CoinNotThere$Fault", name := "<init>", desc := "()V" } : Jvm.MethodName)) ∈ lw_all := lw_g (lw_at lw_m1 175 rfl) rfl
theorem q232 : (Jvm.Cond.fieldLinkNest "CoinNotThere" (180 : Nat) "CoinNotThere$Fault" "place" "I" "CoinNotThere") ∈ lw_tbl := lw_at lw_m1 184 rfl
theorem q248 : (Jvm.Cond.classLink "CoinNotThere" (51 : Nat) "CoinNotThere$Watcher") ∈ lw_all := lw_g (lw_at lw_m1 200 rfl) rfl
theorem q250 : (Jvm.Cond.methodLink "CoinNotThere" (53 : Nat) ({ cls := "CoinNotThere$Watcher", name := "<init>", desc := "(I)V" } : Jvm.MethodName)) ∈ lw_all := lw_g (lw_at lw_m1 202 rfl) rfl
theorem q261 : (Jvm.Cond.fieldLink "CoinNotThere" (134 : Nat) "CoinNotThere$Watcher" "seat" "I") ∈ lw_all := lw_g (lw_at lw_m1 213 rfl) rfl
theorem q266 : (Jvm.Cond.classLink "CoinNotThere" (72 : Nat) "CoinNotThere$Sheet") ∈ lw_all := lw_g (lw_at lw_m1 218 rfl) rfl
theorem q269 : (Jvm.Cond.methodLinkNest "CoinNotThere" (78 : Nat) ({ cls := "CoinNotThere$Sheet", name := "<init>", desc := "()V" } : Jvm.MethodName) "CoinNotThere") ∈ lw_tbl := lw_at lw_m1 221 rfl
theorem q274 : (Jvm.Cond.fieldLinkNest "CoinNotThere" (328 : Nat) "CoinNotThere$Sheet" "row" "Ljava/lang/Object;" "CoinNotThere") ∈ lw_tbl := lw_at lw_m1 226 rfl
theorem q278 : (Jvm.Cond.fieldLink "CoinNotThere" (16 : Nat) "CoinNotThere" "told" "LCoinNotThere$Routine;") ∈ lw_all := lw_g (lw_at lw_m1 230 rfl) rfl
theorem q279 : (Jvm.Cond.fieldLink "CoinNotThere" (20 : Nat) "CoinNotThere" "then" "LCoinNotThere$Routine;") ∈ lw_all := lw_g (lw_at lw_m1 231 rfl) rfl
theorem q280 : (Jvm.Cond.fieldLink "CoinNotThere" (26 : Nat) "CoinNotThere" "watchers" "Ljava/util/List;") ∈ lw_all := lw_g (lw_at lw_m1 232 rfl) rfl
theorem q281 : (Jvm.Cond.fieldLink "CoinNotThere" (33 : Nat) "CoinNotThere" "fault" "LCoinNotThere$Fault;") ∈ lw_all := lw_g (lw_at lw_m1 233 rfl) rfl
theorem q282 : (Jvm.Cond.fieldLink "CoinNotThere" (37 : Nat) "CoinNotThere" "tape" "[B") ∈ lw_all := lw_g (lw_at lw_m1 234 rfl) rfl
theorem q283 : (Jvm.Cond.fieldLink "CoinNotThere" (174 : Nat) "CoinNotThere" "taped" "I") ∈ lw_all := lw_g (lw_at lw_m1 235 rfl) rfl
theorem q284 : (Jvm.Cond.fieldLink "CoinNotThere" (177 : Nat) "CoinNotThere" "at" "I") ∈ lw_all := lw_g (lw_at lw_m1 236 rfl) rfl
theorem q285 : (Jvm.Cond.fieldLink "CoinNotThere" (41 : Nat) "CoinNotThere" "got" "Ljava/util/List;") ∈ lw_all := lw_g (lw_at lw_m1 237 rfl) rfl
theorem q286 : (Jvm.Cond.fieldLink "CoinNotThere" (250 : Nat) "CoinNotThere" "above" "I") ∈ lw_all := lw_g (lw_at lw_m1 238 rfl) rfl
theorem q287 : (Jvm.Cond.fieldLink "CoinNotThere" (253 : Nat) "CoinNotThere" "below" "I") ∈ lw_all := lw_g (lw_at lw_m1 239 rfl) rfl
theorem q288 : (Jvm.Cond.fieldLink "CoinNotThere" (44 : Nat) "CoinNotThere" "covers" "[I") ∈ lw_all := lw_g (lw_at lw_m2 0 rfl) rfl
theorem q289 : (Jvm.Cond.fieldLink "CoinNotThere" (166 : Nat) "CoinNotThere" "coverMany" "I") ∈ lw_all := lw_g (lw_at lw_m2 1 rfl) rfl
theorem q290 : (Jvm.Cond.fieldLink "CoinNotThere" (48 : Nat) "CoinNotThere" "points" "[I") ∈ lw_all := lw_g (lw_at lw_m2 2 rfl) rfl
theorem q291 : (Jvm.Cond.fieldLink "CoinNotThere" (169 : Nat) "CoinNotThere" "pointMany" "I") ∈ lw_all := lw_g (lw_at lw_m2 3 rfl) rfl
theorem q292 : (Jvm.Cond.fieldLink "CoinNotThere" (56 : Nat) "CoinNotThere" "plain" "LCoinNotThere$Watcher;") ∈ lw_all := lw_g (lw_at lw_m2 4 rfl) rfl
theorem q293 : (Jvm.Cond.fieldLink "CoinNotThere" (319 : Nat) "CoinNotThere" "isKept" "Z") ∈ lw_all := lw_g (lw_at lw_m2 5 rfl) rfl
theorem q294 : (Jvm.Cond.fieldLink "CoinNotThere" (60 : Nat) "CoinNotThere" "kept" "LCoinNotThere$Routine;") ∈ lw_all := lw_g (lw_at lw_m2 6 rfl) rfl
theorem q295 : (Jvm.Cond.fieldLink "CoinNotThere" (63 : Nat) "CoinNotThere" "keptWatchers" "Ljava/util/List;") ∈ lw_all := lw_g (lw_at lw_m2 7 rfl) rfl
theorem q296 : (Jvm.Cond.fieldLink "CoinNotThere" (66 : Nat) "CoinNotThere" "keptCovers" "[I") ∈ lw_all := lw_g (lw_at lw_m2 8 rfl) rfl
theorem q297 : (Jvm.Cond.fieldLink "CoinNotThere" (69 : Nat) "CoinNotThere" "keptPoints" "[I") ∈ lw_all := lw_g (lw_at lw_m2 9 rfl) rfl
theorem q298 : (Jvm.Cond.fieldLink "CoinNotThere" (313 : Nat) "CoinNotThere" "keptCoverMany" "I") ∈ lw_all := lw_g (lw_at lw_m2 10 rfl) rfl
theorem q299 : (Jvm.Cond.fieldLink "CoinNotThere" (316 : Nat) "CoinNotThere" "keptPointMany" "I") ∈ lw_all := lw_g (lw_at lw_m2 11 rfl) rfl
theorem q300 : (Jvm.Cond.fieldLink "CoinNotThere" (74 : Nat) "CoinNotThere" "sheets" "[LCoinNotThere$Sheet;") ∈ lw_all := lw_g (lw_at lw_m2 12 rfl) rfl
theorem q301 : (Jvm.Cond.laysFinal "CoinNotThere" "CoinNotThere" "told" "LCoinNotThere$Routine;") ∈ lw_all := lw_g (lw_at lw_m2 13 rfl) rfl
theorem q302 : (Jvm.Cond.soleField "CoinNotThere" "told") ∈ lw_all := lw_g (lw_at lw_m2 14 rfl) rfl
theorem q303 : (Jvm.Cond.laysFinal "CoinNotThere" "CoinNotThere" "then" "LCoinNotThere$Routine;") ∈ lw_all := lw_g (lw_at lw_m2 15 rfl) rfl
theorem q304 : (Jvm.Cond.soleField "CoinNotThere" "then") ∈ lw_all := lw_g (lw_at lw_m2 16 rfl) rfl
theorem q305 : (Jvm.Cond.laysFinal "CoinNotThere" "CoinNotThere" "watchers" "Ljava/util/List;") ∈ lw_all := lw_g (lw_at lw_m2 17 rfl) rfl
theorem q306 : (Jvm.Cond.soleField "CoinNotThere" "watchers") ∈ lw_all := lw_g (lw_at lw_m2 18 rfl) rfl
theorem q307 : (Jvm.Cond.laysFinal "CoinNotThere" "CoinNotThere" "fault" "LCoinNotThere$Fault;") ∈ lw_all := lw_g (lw_at lw_m2 19 rfl) rfl
theorem q308 : (Jvm.Cond.soleField "CoinNotThere" "fault") ∈ lw_all := lw_g (lw_at lw_m2 20 rfl) rfl
theorem q309 : (Jvm.Cond.laysFinal "CoinNotThere" "CoinNotThere" "tape" "[B") ∈ lw_all := lw_g (lw_at lw_m2 21 rfl) rfl
theorem q310 : (Jvm.Cond.soleField "CoinNotThere" "tape") ∈ lw_all := lw_g (lw_at lw_m2 22 rfl) rfl
theorem q311 : (Jvm.Cond.lays "CoinNotThere" "CoinNotThere" "taped" "I") ∈ lw_all := lw_g (lw_at lw_m2 23 rfl) rfl
theorem q312 : (Jvm.Cond.soleField "CoinNotThere" "taped") ∈ lw_all := lw_g (lw_at lw_m2 24 rfl) rfl
theorem q313 : (Jvm.Cond.lays "CoinNotThere" "CoinNotThere" "at" "I") ∈ lw_all := lw_g (lw_at lw_m2 25 rfl) rfl
theorem q314 : (Jvm.Cond.soleField "CoinNotThere" "at") ∈ lw_all := lw_g (lw_at lw_m2 26 rfl) rfl
theorem q315 : (Jvm.Cond.laysFinal "CoinNotThere" "CoinNotThere" "got" "Ljava/util/List;") ∈ lw_all := lw_g (lw_at lw_m2 27 rfl) rfl
theorem q316 : (Jvm.Cond.soleField "CoinNotThere" "got") ∈ lw_all := lw_g (lw_at lw_m2 28 rfl) rfl
theorem q317 : (Jvm.Cond.lays "CoinNotThere" "CoinNotThere" "above" "I") ∈ lw_all := lw_g (lw_at lw_m2 29 rfl) rfl
theorem q318 : (Jvm.Cond.soleField "CoinNotThere" "above") ∈ lw_all := lw_g (lw_at lw_m2 30 rfl) rfl
theorem q319 : (Jvm.Cond.lays "CoinNotThere" "CoinNotThere" "below" "I") ∈ lw_all := lw_g (lw_at lw_m2 31 rfl) rfl
theorem q320 : (Jvm.Cond.soleField "CoinNotThere" "below") ∈ lw_all := lw_g (lw_at lw_m2 32 rfl) rfl
theorem q321 : (Jvm.Cond.laysFinal "CoinNotThere" "CoinNotThere" "covers" "[I") ∈ lw_all := lw_g (lw_at lw_m2 33 rfl) rfl
theorem q322 : (Jvm.Cond.soleField "CoinNotThere" "covers") ∈ lw_all := lw_g (lw_at lw_m2 34 rfl) rfl
theorem q323 : (Jvm.Cond.lays "CoinNotThere" "CoinNotThere" "coverMany" "I") ∈ lw_all := lw_g (lw_at lw_m2 35 rfl) rfl
theorem q324 : (Jvm.Cond.soleField "CoinNotThere" "coverMany") ∈ lw_all := lw_g (lw_at lw_m2 36 rfl) rfl
theorem q325 : (Jvm.Cond.laysFinal "CoinNotThere" "CoinNotThere" "points" "[I") ∈ lw_all := lw_g (lw_at lw_m2 37 rfl) rfl
theorem q326 : (Jvm.Cond.soleField "CoinNotThere" "points") ∈ lw_all := lw_g (lw_at lw_m2 38 rfl) rfl
theorem q327 : (Jvm.Cond.lays "CoinNotThere" "CoinNotThere" "pointMany" "I") ∈ lw_all := lw_g (lw_at lw_m2 39 rfl) rfl
theorem q328 : (Jvm.Cond.soleField "CoinNotThere" "pointMany") ∈ lw_all := lw_g (lw_at lw_m2 40 rfl) rfl
theorem q329 : (Jvm.Cond.laysFinal "CoinNotThere" "CoinNotThere" "plain" "LCoinNotThere$Watcher;") ∈ lw_all := lw_g (lw_at lw_m2 41 rfl) rfl
theorem q330 : (Jvm.Cond.soleField "CoinNotThere" "plain") ∈ lw_all := lw_g (lw_at lw_m2 42 rfl) rfl
theorem q331 : (Jvm.Cond.lays "CoinNotThere" "CoinNotThere" "isKept" "Z") ∈ lw_all := lw_g (lw_at lw_m2 43 rfl) rfl
theorem q332 : (Jvm.Cond.soleField "CoinNotThere" "isKept") ∈ lw_all := lw_g (lw_at lw_m2 44 rfl) rfl
theorem q333 : (Jvm.Cond.laysFinal "CoinNotThere" "CoinNotThere" "kept" "LCoinNotThere$Routine;") ∈ lw_all := lw_g (lw_at lw_m2 45 rfl) rfl
theorem q334 : (Jvm.Cond.soleField "CoinNotThere" "kept") ∈ lw_all := lw_g (lw_at lw_m2 46 rfl) rfl
theorem q335 : (Jvm.Cond.laysFinal "CoinNotThere" "CoinNotThere" "keptWatchers" "Ljava/util/List;") ∈ lw_all := lw_g (lw_at lw_m2 47 rfl) rfl
theorem q336 : (Jvm.Cond.soleField "CoinNotThere" "keptWatchers") ∈ lw_all := lw_g (lw_at lw_m2 48 rfl) rfl
theorem q337 : (Jvm.Cond.laysFinal "CoinNotThere" "CoinNotThere" "keptCovers" "[I") ∈ lw_all := lw_g (lw_at lw_m2 49 rfl) rfl
theorem q338 : (Jvm.Cond.soleField "CoinNotThere" "keptCovers") ∈ lw_all := lw_g (lw_at lw_m2 50 rfl) rfl
theorem q339 : (Jvm.Cond.laysFinal "CoinNotThere" "CoinNotThere" "keptPoints" "[I") ∈ lw_all := lw_g (lw_at lw_m2 51 rfl) rfl
theorem q340 : (Jvm.Cond.soleField "CoinNotThere" "keptPoints") ∈ lw_all := lw_g (lw_at lw_m2 52 rfl) rfl
theorem q341 : (Jvm.Cond.lays "CoinNotThere" "CoinNotThere" "keptCoverMany" "I") ∈ lw_all := lw_g (lw_at lw_m2 53 rfl) rfl
theorem q342 : (Jvm.Cond.soleField "CoinNotThere" "keptCoverMany") ∈ lw_all := lw_g (lw_at lw_m2 54 rfl) rfl
theorem q343 : (Jvm.Cond.lays "CoinNotThere" "CoinNotThere" "keptPointMany" "I") ∈ lw_all := lw_g (lw_at lw_m2 55 rfl) rfl
theorem q344 : (Jvm.Cond.soleField "CoinNotThere" "keptPointMany") ∈ lw_all := lw_g (lw_at lw_m2 56 rfl) rfl
theorem q345 : (Jvm.Cond.laysFinal "CoinNotThere" "CoinNotThere" "sheets" "[LCoinNotThere$Sheet;") ∈ lw_all := lw_g (lw_at lw_m2 57 rfl) rfl
theorem q346 : (Jvm.Cond.soleField "CoinNotThere" "sheets") ∈ lw_all := lw_g (lw_at lw_m2 58 rfl) rfl
theorem q347 : (Jvm.Cond.superclass "CoinNotThere" "java/lang/Object") ∈ lw_all := lw_g (lw_at lw_m2 59 rfl) rfl
theorem q349 : (Jvm.Cond.instanceMethod ({ cls := "CoinNotThere", name := "act", desc := "(IIII)I" } : Jvm.MethodName)) ∈ lw_all := lw_g (lw_at lw_m2 61 rfl) rfl
theorem q350 : (Jvm.Cond.selects "CoinNotThere" ({ cls := "CoinNotThere", name := "act", desc := "(IIII)I" } : Jvm.MethodName) ({ cls := "CoinNotThere", name := "act", desc := "(IIII)I" } : Jvm.MethodName)) ∈ lw_all := lw_g (lw_at lw_m2 62 rfl) rfl
theorem q351 : (Jvm.Cond.code ({ cls := "CoinNotThere", name := "act", desc := "(IIII)I" } : Jvm.MethodName) prog_1_method_8_code (8 : Nat) (Option.some Jvm.ClassFile.FieldType.int)) ∈ lw_all := lw_g (lw_at lw_m2 63 rfl) rfl
theorem q352 : (Jvm.Cond.methodLink "CoinNotThere" (94 : Nat) ({ cls := "CoinNotThere", name := "isBeat", desc := "(I)Z" } : Jvm.MethodName)) ∈ lw_all := lw_g (lw_at lw_m2 64 rfl) rfl
theorem q353 : (Jvm.Cond.static ({ cls := "CoinNotThere", name := "isBeat", desc := "(I)Z" } : Jvm.MethodName)) ∈ lw_all := lw_g (lw_at lw_m2 65 rfl) rfl
theorem q354 : (Jvm.Cond.code ({ cls := "CoinNotThere", name := "isBeat", desc := "(I)Z" } : Jvm.MethodName) prog_1_method_2_code (1 : Nat) (Option.some Jvm.ClassFile.FieldType.boolean)) ∈ lw_all := lw_g (lw_at lw_m2 66 rfl) rfl
theorem q355 : (Jvm.Cond.methodLink "CoinNotThere" (3 : Nat) ({ cls := "CoinNotThere", name := "isIn", desc := "(III)Z" } : Jvm.MethodName)) ∈ lw_all := lw_g (lw_at lw_m2 67 rfl) rfl
theorem q356 : (Jvm.Cond.static ({ cls := "CoinNotThere", name := "isIn", desc := "(III)Z" } : Jvm.MethodName)) ∈ lw_all := lw_g (lw_at lw_m2 68 rfl) rfl
theorem q357 : (Jvm.Cond.code ({ cls := "CoinNotThere", name := "isIn", desc := "(III)Z" } : Jvm.MethodName) prog_1_method_1_code (3 : Nat) (Option.some Jvm.ClassFile.FieldType.boolean)) ∈ lw_all := lw_g (lw_at lw_m2 69 rfl) rfl
theorem q358 : (Jvm.Cond.methodLink "CoinNotThere" (98 : Nat) ({ cls := "CoinNotThere", name := "isPlace", desc := "(I)Z" } : Jvm.MethodName)) ∈ lw_all := lw_g (lw_at lw_m2 70 rfl) rfl
theorem q359 : (Jvm.Cond.static ({ cls := "CoinNotThere", name := "isPlace", desc := "(I)Z" } : Jvm.MethodName)) ∈ lw_all := lw_g (lw_at lw_m2 71 rfl) rfl
theorem q360 : (Jvm.Cond.code ({ cls := "CoinNotThere", name := "isPlace", desc := "(I)Z" } : Jvm.MethodName) prog_1_method_3_code (1 : Nat) (Option.some Jvm.ClassFile.FieldType.boolean)) ∈ lw_all := lw_g (lw_at lw_m2 72 rfl) rfl
theorem q362 : (Jvm.Cond.instanceMethod ({ cls := "CoinNotThere", name := "cue", desc := "(III)I" } : Jvm.MethodName)) ∈ lw_all := lw_g (lw_at lw_m2 74 rfl) rfl
theorem q363 : (Jvm.Cond.selects "CoinNotThere" ({ cls := "CoinNotThere", name := "cue", desc := "(III)I" } : Jvm.MethodName) ({ cls := "CoinNotThere", name := "cue", desc := "(III)I" } : Jvm.MethodName)) ∈ lw_all := lw_g (lw_at lw_m2 75 rfl) rfl
theorem q364 : (Jvm.Cond.code ({ cls := "CoinNotThere", name := "cue", desc := "(III)I" } : Jvm.MethodName) prog_1_method_9_code (7 : Nat) (Option.some Jvm.ClassFile.FieldType.int)) ∈ lw_all := lw_g (lw_at lw_m2 76 rfl) rfl
theorem q366 : (Jvm.Cond.instanceMethod ({ cls := "CoinNotThere", name := "stand", desc := "(I)I" } : Jvm.MethodName)) ∈ lw_all := lw_g (lw_at lw_m2 78 rfl) rfl
theorem q367 : (Jvm.Cond.selects "CoinNotThere" ({ cls := "CoinNotThere", name := "stand", desc := "(I)I" } : Jvm.MethodName) ({ cls := "CoinNotThere", name := "stand", desc := "(I)I" } : Jvm.MethodName)) ∈ lw_all := lw_g (lw_at lw_m2 79 rfl) rfl
theorem q368 : (Jvm.Cond.code ({ cls := "CoinNotThere", name := "stand", desc := "(I)I" } : Jvm.MethodName) prog_1_method_10_code (3 : Nat) (Option.some Jvm.ClassFile.FieldType.int)) ∈ lw_all := lw_g (lw_at lw_m2 80 rfl) rfl
theorem q370 : (Jvm.Cond.instanceMethod ({ cls := "CoinNotThere", name := "habit", desc := "(II)I" } : Jvm.MethodName)) ∈ lw_all := lw_g (lw_at lw_m2 82 rfl) rfl
theorem q371 : (Jvm.Cond.selects "CoinNotThere" ({ cls := "CoinNotThere", name := "habit", desc := "(II)I" } : Jvm.MethodName) ({ cls := "CoinNotThere", name := "habit", desc := "(II)I" } : Jvm.MethodName)) ∈ lw_all := lw_g (lw_at lw_m2 83 rfl) rfl
theorem q372 : (Jvm.Cond.code ({ cls := "CoinNotThere", name := "habit", desc := "(II)I" } : Jvm.MethodName) prog_1_method_11_code (4 : Nat) (Option.some Jvm.ClassFile.FieldType.int)) ∈ lw_all := lw_g (lw_at lw_m2 84 rfl) rfl
theorem q374 : (Jvm.Cond.instanceMethod ({ cls := "CoinNotThere", name := "watcher", desc := "(II)I" } : Jvm.MethodName)) ∈ lw_all := lw_g (lw_at lw_m2 86 rfl) rfl
theorem q375 : (Jvm.Cond.selects "CoinNotThere" ({ cls := "CoinNotThere", name := "watcher", desc := "(II)I" } : Jvm.MethodName) ({ cls := "CoinNotThere", name := "watcher", desc := "(II)I" } : Jvm.MethodName)) ∈ lw_all := lw_g (lw_at lw_m2 87 rfl) rfl
theorem q376 : (Jvm.Cond.code ({ cls := "CoinNotThere", name := "watcher", desc := "(II)I" } : Jvm.MethodName) prog_1_method_13_code (3 : Nat) (Option.some Jvm.ClassFile.FieldType.int)) ∈ lw_all := lw_g (lw_at lw_m2 88 rfl) rfl
theorem q377 : (Jvm.Cond.methodLink "CoinNotThere" (137 : Nat) ({ cls := "CoinNotThere", name := "isTaken", desc := "(I)Z" } : Jvm.MethodName)) ∈ lw_all := lw_g (lw_at lw_m2 89 rfl) rfl
theorem q378 : (Jvm.Cond.privateMethod ({ cls := "CoinNotThere", name := "isTaken", desc := "(I)Z" } : Jvm.MethodName)) ∈ lw_tbl := lw_at lw_m2 90 rfl
theorem q379 : (Jvm.Cond.instanceMethod ({ cls := "CoinNotThere", name := "isTaken", desc := "(I)Z" } : Jvm.MethodName)) ∈ lw_all := lw_g (lw_at lw_m2 91 rfl) rfl
theorem q380 : (Jvm.Cond.code ({ cls := "CoinNotThere", name := "isTaken", desc := "(I)Z" } : Jvm.MethodName) prog_1_method_12_code (4 : Nat) (Option.some Jvm.ClassFile.FieldType.boolean)) ∈ lw_all := lw_g (lw_at lw_m2 92 rfl) rfl
theorem q381 : (Jvm.Cond.interfaceEntry "CoinNotThere" (88 : Nat)) ∈ lw_tbl := lw_at lw_m2 93 rfl
theorem q382 : (Jvm.Cond.methodLink "CoinNotThere" (88 : Nat) ({ cls := "java/util/List", name := "size", desc := "()I" } : Jvm.MethodName)) ∈ lw_all := lw_g (lw_at lw_m2 94 rfl) rfl
theorem q391 : (Jvm.Cond.interfaceEntry "CoinNotThere" (130 : Nat)) ∈ lw_tbl := lw_at lw_m2 103 rfl
theorem q392 : (Jvm.Cond.methodLink "CoinNotThere" (130 : Nat) ({ cls := "java/util/List", name := "get", desc := "(I)Ljava/lang/Object;" } : Jvm.MethodName)) ∈ lw_all := lw_g (lw_at lw_m2 104 rfl) rfl
theorem q410 : (Jvm.Cond.methodLink "CoinNotThere" (140 : Nat) ({ cls := "CoinNotThere", name := "watcherOf", desc := "(II)LCoinNotThere$Watcher;" } : Jvm.MethodName)) ∈ lw_all := lw_g (lw_at lw_m2 122 rfl) rfl
theorem q411 : (Jvm.Cond.static ({ cls := "CoinNotThere", name := "watcherOf", desc := "(II)LCoinNotThere$Watcher;" } : Jvm.MethodName)) ∈ lw_all := lw_g (lw_at lw_m2 123 rfl) rfl
theorem q412 : (Jvm.Cond.code ({ cls := "CoinNotThere", name := "watcherOf", desc := "(II)LCoinNotThere$Watcher;" } : Jvm.MethodName) prog_1_method_6_code (2 : Nat) (Option.some (Jvm.ClassFile.FieldType.object "CoinNotThere$Watcher"))) ∈ lw_all := lw_g (lw_at lw_m2 124 rfl) rfl
theorem q413 : (Jvm.Cond.classLink "CoinNotThere" (79 : Nat) "CoinNotThere$Warned") ∈ lw_all := lw_g (lw_at lw_m2 125 rfl) rfl
theorem q415 : (Jvm.Cond.methodLink "CoinNotThere" (81 : Nat) ({ cls := "CoinNotThere$Warned", name := "<init>", desc := "(I)V" } : Jvm.MethodName)) ∈ lw_all := lw_g (lw_at lw_m2 127 rfl) rfl
theorem q420 : (Jvm.Cond.fieldLinkNest "CoinNotThere" (151 : Nat) "CoinNotThere$Warned" "doubt" "I" "CoinNotThere") ∈ lw_tbl := lw_at lw_m2 132 rfl
theorem q425 : (Jvm.Cond.classLink "CoinNotThere" (82 : Nat) "CoinNotThere$Child") ∈ lw_all := lw_g (lw_at lw_m2 137 rfl) rfl
theorem q427 : (Jvm.Cond.methodLink "CoinNotThere" (84 : Nat) ({ cls := "CoinNotThere$Child", name := "<init>", desc := "(I)V" } : Jvm.MethodName)) ∈ lw_all := lw_g (lw_at lw_m2 139 rfl) rfl
theorem q433 : (Jvm.Cond.classLink "CoinNotThere" (85 : Nat) "CoinNotThere$Crossed") ∈ lw_all := lw_g (lw_at lw_m2 145 rfl) rfl
theorem q435 : (Jvm.Cond.methodLink "CoinNotThere" (87 : Nat) ({ cls := "CoinNotThere$Crossed", name := "<init>", desc := "(I)V" } : Jvm.MethodName)) ∈ lw_all := lw_g (lw_at lw_m2 147 rfl) rfl
theorem q441 : (Jvm.Cond.interfaceEntry "CoinNotThere" (144 : Nat)) ∈ lw_tbl := lw_at lw_m2 153 rfl
theorem q442 : (Jvm.Cond.methodLink "CoinNotThere" (144 : Nat) ({ cls := "java/util/List", name := "add", desc := "(Ljava/lang/Object;)Z" } : Jvm.MethodName)) ∈ lw_all := lw_g (lw_at lw_m2 154 rfl) rfl
theorem q478 : (Jvm.Cond.selects "CoinNotThere" ({ cls := "java/lang/Object", name := "getClass", desc := "()Ljava/lang/Class;" } : Jvm.MethodName) ({ cls := "java/lang/Object", name := "getClass", desc := "()Ljava/lang/Class;" } : Jvm.MethodName)) ∈ lw_all := lw_g (lw_at lw_m2 190 rfl) rfl
theorem q510 : (Jvm.Cond.instanceMethod ({ cls := "CoinNotThere", name := "doubt", desc := "(II)I" } : Jvm.MethodName)) ∈ lw_all := lw_g (lw_at lw_m2 222 rfl) rfl
theorem q511 : (Jvm.Cond.selects "CoinNotThere" ({ cls := "CoinNotThere", name := "doubt", desc := "(II)I" } : Jvm.MethodName) ({ cls := "CoinNotThere", name := "doubt", desc := "(II)I" } : Jvm.MethodName)) ∈ lw_all := lw_g (lw_at lw_m2 223 rfl) rfl
theorem q512 : (Jvm.Cond.codeWith ({ cls := "CoinNotThere", name := "doubt", desc := "(II)I" } : Jvm.MethodName) prog_1_method_14_code (5 : Nat) (Option.some Jvm.ClassFile.FieldType.int) [((20 : Nat), (47 : Nat), (48 : Nat), (154 : Nat))]) ∈ lw_all := lw_g (lw_at lw_m2 224 rfl) rfl
theorem q513 : (Jvm.Cond.classLink "CoinNotThere" (154 : Nat) "java/lang/ClassCastException") ∈ lw_all := lw_g (lw_at lw_m2 225 rfl) rfl
theorem q542 : (Jvm.Cond.methodLink "CoinNotThere" (148 : Nat) ({ cls := "CoinNotThere", name := "isWatcher", desc := "(I)Z" } : Jvm.MethodName)) ∈ lw_all := lw_g (lw_at lw_m3 14 rfl) rfl
theorem q543 : (Jvm.Cond.privateMethod ({ cls := "CoinNotThere", name := "isWatcher", desc := "(I)Z" } : Jvm.MethodName)) ∈ lw_tbl := lw_at lw_m3 15 rfl
theorem q544 : (Jvm.Cond.instanceMethod ({ cls := "CoinNotThere", name := "isWatcher", desc := "(I)Z" } : Jvm.MethodName)) ∈ lw_all := lw_g (lw_at lw_m3 16 rfl) rfl
theorem q545 : (Jvm.Cond.code ({ cls := "CoinNotThere", name := "isWatcher", desc := "(I)Z" } : Jvm.MethodName) prog_1_method_7_code (2 : Nat) (Option.some Jvm.ClassFile.FieldType.boolean)) ∈ lw_all := lw_g (lw_at lw_m3 17 rfl) rfl
theorem q547 : (Jvm.Cond.instanceMethod ({ cls := "CoinNotThere", name := "told", desc := "(II)I" } : Jvm.MethodName)) ∈ lw_all := lw_g (lw_at lw_m3 19 rfl) rfl
theorem q548 : (Jvm.Cond.selects "CoinNotThere" ({ cls := "CoinNotThere", name := "told", desc := "(II)I" } : Jvm.MethodName) ({ cls := "CoinNotThere", name := "told", desc := "(II)I" } : Jvm.MethodName)) ∈ lw_all := lw_g (lw_at lw_m3 20 rfl) rfl
theorem q549 : (Jvm.Cond.code ({ cls := "CoinNotThere", name := "told", desc := "(II)I" } : Jvm.MethodName) prog_1_method_15_code (4 : Nat) (Option.some Jvm.ClassFile.FieldType.int)) ∈ lw_all := lw_g (lw_at lw_m3 21 rfl) rfl
theorem q550 : (Jvm.Cond.methodLink "CoinNotThere" (156 : Nat) ({ cls := "CoinNotThere$Watcher", name := "kind", desc := "()I" } : Jvm.MethodName)) ∈ lw_all := lw_g (lw_at lw_m3 22 rfl) rfl
theorem q564 : (Jvm.Cond.methodLink "CoinNotThere" (159 : Nat) ({ cls := "CoinNotThere$Watcher", name := "heed", desc := "(LCoinNotThere$Routine;I)I" } : Jvm.MethodName)) ∈ lw_all := lw_g (lw_at lw_m3 36 rfl) rfl
theorem q585 : (Jvm.Cond.instanceMethod ({ cls := "CoinNotThere", name := "leave", desc := "(I)I" } : Jvm.MethodName)) ∈ lw_all := lw_g (lw_at lw_m3 57 rfl) rfl
theorem q586 : (Jvm.Cond.selects "CoinNotThere" ({ cls := "CoinNotThere", name := "leave", desc := "(I)I" } : Jvm.MethodName) ({ cls := "CoinNotThere", name := "leave", desc := "(I)I" } : Jvm.MethodName)) ∈ lw_all := lw_g (lw_at lw_m3 58 rfl) rfl
theorem q587 : (Jvm.Cond.code ({ cls := "CoinNotThere", name := "leave", desc := "(I)I" } : Jvm.MethodName) prog_1_method_16_code (2 : Nat) (Option.some Jvm.ClassFile.FieldType.int)) ∈ lw_all := lw_g (lw_at lw_m3 59 rfl) rfl
theorem q588 : (Jvm.Cond.interfaceEntry "CoinNotThere" (163 : Nat)) ∈ lw_tbl := lw_at lw_m3 60 rfl
theorem q589 : (Jvm.Cond.methodLink "CoinNotThere" (163 : Nat) ({ cls := "java/util/List", name := "remove", desc := "(I)Ljava/lang/Object;" } : Jvm.MethodName)) ∈ lw_all := lw_g (lw_at lw_m3 61 rfl) rfl
theorem q603 : (Jvm.Cond.instanceMethod ({ cls := "CoinNotThere", name := "count", desc := "(I)I" } : Jvm.MethodName)) ∈ lw_all := lw_g (lw_at lw_m3 75 rfl) rfl
theorem q604 : (Jvm.Cond.selects "CoinNotThere" ({ cls := "CoinNotThere", name := "count", desc := "(I)I" } : Jvm.MethodName) ({ cls := "CoinNotThere", name := "count", desc := "(I)I" } : Jvm.MethodName)) ∈ lw_all := lw_g (lw_at lw_m3 76 rfl) rfl
theorem q605 : (Jvm.Cond.code ({ cls := "CoinNotThere", name := "count", desc := "(I)I" } : Jvm.MethodName) prog_1_method_17_code (6 : Nat) (Option.some Jvm.ClassFile.FieldType.int)) ∈ lw_all := lw_g (lw_at lw_m3 77 rfl) rfl
theorem q607 : (Jvm.Cond.instanceMethod ({ cls := "CoinNotThere", name := "type", desc := "(JI)I" } : Jvm.MethodName)) ∈ lw_all := lw_g (lw_at lw_m3 79 rfl) rfl
theorem q608 : (Jvm.Cond.selects "CoinNotThere" ({ cls := "CoinNotThere", name := "type", desc := "(JI)I" } : Jvm.MethodName) ({ cls := "CoinNotThere", name := "type", desc := "(JI)I" } : Jvm.MethodName)) ∈ lw_all := lw_g (lw_at lw_m3 80 rfl) rfl
theorem q609 : (Jvm.Cond.code ({ cls := "CoinNotThere", name := "type", desc := "(JI)I" } : Jvm.MethodName) prog_1_method_18_code (5 : Nat) (Option.some Jvm.ClassFile.FieldType.int)) ∈ lw_all := lw_g (lw_at lw_m3 81 rfl) rfl
theorem q610 : (Jvm.Cond.constantLong "CoinNotThere" (172 : Nat) (255 : Int64)) ∈ lw_all := lw_g (lw_at lw_m3 82 rfl) rfl
theorem q612 : (Jvm.Cond.instanceMethod ({ cls := "CoinNotThere", name := "routine", desc := "()I" } : Jvm.MethodName)) ∈ lw_all := lw_g (lw_at lw_m3 84 rfl) rfl
theorem q613 : (Jvm.Cond.selects "CoinNotThere" ({ cls := "CoinNotThere", name := "routine", desc := "()I" } : Jvm.MethodName) ({ cls := "CoinNotThere", name := "routine", desc := "()I" } : Jvm.MethodName)) ∈ lw_all := lw_g (lw_at lw_m3 85 rfl) rfl
theorem q614 : (Jvm.Cond.codeWith ({ cls := "CoinNotThere", name := "routine", desc := "()I" } : Jvm.MethodName) prog_1_method_27_code (3 : Nat) (Option.some Jvm.ClassFile.FieldType.int) [((11 : Nat), (16 : Nat), (19 : Nat), (30 : Nat))]) ∈ lw_all := lw_g (lw_at lw_m3 86 rfl) rfl
theorem q615 : (Jvm.Cond.methodLink "CoinNotThere" (213 : Nat) ({ cls := "CoinNotThere$Routine", name := "takeFrom", desc := "(LCoinNotThere$Routine;)V" } : Jvm.MethodName)) ∈ lw_all := lw_g (lw_at lw_m3 87 rfl) rfl
theorem q624 : (Jvm.Cond.methodLink "CoinNotThere" (217 : Nat) ({ cls := "CoinNotThere", name := "readRoutine", desc := "()I" } : Jvm.MethodName)) ∈ lw_all := lw_g (lw_at lw_m3 96 rfl) rfl
theorem q625 : (Jvm.Cond.privateMethod ({ cls := "CoinNotThere", name := "readRoutine", desc := "()I" } : Jvm.MethodName)) ∈ lw_tbl := lw_at lw_m3 97 rfl
theorem q626 : (Jvm.Cond.instanceMethod ({ cls := "CoinNotThere", name := "readRoutine", desc := "()I" } : Jvm.MethodName)) ∈ lw_all := lw_g (lw_at lw_m3 98 rfl) rfl
theorem q627 : (Jvm.Cond.code ({ cls := "CoinNotThere", name := "readRoutine", desc := "()I" } : Jvm.MethodName) prog_1_method_26_code (4 : Nat) (Option.some Jvm.ClassFile.FieldType.int)) ∈ lw_all := lw_g (lw_at lw_m3 99 rfl) rfl
theorem q628 : (Jvm.Cond.methodLink "CoinNotThere" (205 : Nat) ({ cls := "CoinNotThere", name := "readNumber", desc := "(I)I" } : Jvm.MethodName)) ∈ lw_all := lw_g (lw_at lw_m3 100 rfl) rfl
theorem q629 : (Jvm.Cond.privateMethod ({ cls := "CoinNotThere", name := "readNumber", desc := "(I)I" } : Jvm.MethodName)) ∈ lw_tbl := lw_at lw_m3 101 rfl
theorem q630 : (Jvm.Cond.instanceMethod ({ cls := "CoinNotThere", name := "readNumber", desc := "(I)I" } : Jvm.MethodName)) ∈ lw_all := lw_g (lw_at lw_m3 102 rfl) rfl
theorem q631 : (Jvm.Cond.code ({ cls := "CoinNotThere", name := "readNumber", desc := "(I)I" } : Jvm.MethodName) prog_1_method_22_code (4 : Nat) (Option.some Jvm.ClassFile.FieldType.int)) ∈ lw_all := lw_g (lw_at lw_m3 103 rfl) rfl
theorem q632 : (Jvm.Cond.methodLink "CoinNotThere" (183 : Nat) ({ cls := "CoinNotThere", name := "nextByte", desc := "()I" } : Jvm.MethodName)) ∈ lw_all := lw_g (lw_at lw_m3 104 rfl) rfl
theorem q633 : (Jvm.Cond.privateMethod ({ cls := "CoinNotThere", name := "nextByte", desc := "()I" } : Jvm.MethodName)) ∈ lw_tbl := lw_at lw_m3 105 rfl
theorem q634 : (Jvm.Cond.instanceMethod ({ cls := "CoinNotThere", name := "nextByte", desc := "()I" } : Jvm.MethodName)) ∈ lw_all := lw_g (lw_at lw_m3 106 rfl) rfl
theorem q635 : (Jvm.Cond.code ({ cls := "CoinNotThere", name := "nextByte", desc := "()I" } : Jvm.MethodName) prog_1_method_19_code (1 : Nat) (Option.some Jvm.ClassFile.FieldType.int)) ∈ lw_all := lw_g (lw_at lw_m3 107 rfl) rfl
theorem q636 : (Jvm.Cond.methodLink "CoinNotThere" (186 : Nat) ({ cls := "java/lang/Math", name := "min", desc := "(II)I" } : Jvm.MethodName)) ∈ lw_all := lw_g (lw_at lw_m3 108 rfl) rfl
theorem q637 : (Jvm.Cond.methodLink "CoinNotThere" (192 : Nat) ({ cls := "CoinNotThere", name := "wrong", desc := "()LCoinNotThere$Fault;" } : Jvm.MethodName)) ∈ lw_all := lw_g (lw_at lw_m3 109 rfl) rfl
theorem q638 : (Jvm.Cond.privateMethod ({ cls := "CoinNotThere", name := "wrong", desc := "()LCoinNotThere$Fault;" } : Jvm.MethodName)) ∈ lw_tbl := lw_at lw_m3 110 rfl
theorem q639 : (Jvm.Cond.instanceMethod ({ cls := "CoinNotThere", name := "wrong", desc := "()LCoinNotThere$Fault;" } : Jvm.MethodName)) ∈ lw_all := lw_g (lw_at lw_m3 111 rfl) rfl
theorem q640 : (Jvm.Cond.code ({ cls := "CoinNotThere", name := "wrong", desc := "()LCoinNotThere$Fault;" } : Jvm.MethodName) prog_1_method_20_code (1 : Nat) (Option.some (Jvm.ClassFile.FieldType.object "CoinNotThere$Fault"))) ∈ lw_all := lw_g (lw_at lw_m3 112 rfl) rfl
theorem q641 : (Jvm.Cond.methodLink "CoinNotThere" (199 : Nat) ({ cls := "CoinNotThere", name := "takes", desc := "(I)Z" } : Jvm.MethodName)) ∈ lw_all := lw_g (lw_at lw_m3 113 rfl) rfl
theorem q642 : (Jvm.Cond.privateMethod ({ cls := "CoinNotThere", name := "takes", desc := "(I)Z" } : Jvm.MethodName)) ∈ lw_tbl := lw_at lw_m3 114 rfl
theorem q643 : (Jvm.Cond.instanceMethod ({ cls := "CoinNotThere", name := "takes", desc := "(I)Z" } : Jvm.MethodName)) ∈ lw_all := lw_g (lw_at lw_m3 115 rfl) rfl
theorem q644 : (Jvm.Cond.code ({ cls := "CoinNotThere", name := "takes", desc := "(I)Z" } : Jvm.MethodName) prog_1_method_21_code (3 : Nat) (Option.some Jvm.ClassFile.FieldType.boolean)) ∈ lw_all := lw_g (lw_at lw_m3 116 rfl) rfl
theorem q645 : (Jvm.Cond.methodLink "CoinNotThere" (209 : Nat) ({ cls := "CoinNotThere", name := "readBeat", desc := "(LCoinNotThere$Beat;)V" } : Jvm.MethodName)) ∈ lw_all := lw_g (lw_at lw_m3 117 rfl) rfl
theorem q646 : (Jvm.Cond.privateMethod ({ cls := "CoinNotThere", name := "readBeat", desc := "(LCoinNotThere$Beat;)V" } : Jvm.MethodName)) ∈ lw_tbl := lw_at lw_m3 118 rfl
theorem q647 : (Jvm.Cond.instanceMethod ({ cls := "CoinNotThere", name := "readBeat", desc := "(LCoinNotThere$Beat;)V" } : Jvm.MethodName)) ∈ lw_all := lw_g (lw_at lw_m3 119 rfl) rfl
theorem q648 : (Jvm.Cond.code ({ cls := "CoinNotThere", name := "readBeat", desc := "(LCoinNotThere$Beat;)V" } : Jvm.MethodName) prog_1_method_25_code (2 : Nat) (Option.none : Option Jvm.ClassFile.FieldType)) ∈ lw_all := lw_g (lw_at lw_m3 120 rfl) rfl
theorem q649 : (Jvm.Cond.methodLink "CoinNotThere" (202 : Nat) ({ cls := "CoinNotThere", name := "readAct", desc := "()I" } : Jvm.MethodName)) ∈ lw_all := lw_g (lw_at lw_m3 121 rfl) rfl
theorem q650 : (Jvm.Cond.privateMethod ({ cls := "CoinNotThere", name := "readAct", desc := "()I" } : Jvm.MethodName)) ∈ lw_tbl := lw_at lw_m3 122 rfl
theorem q651 : (Jvm.Cond.instanceMethod ({ cls := "CoinNotThere", name := "readAct", desc := "()I" } : Jvm.MethodName)) ∈ lw_all := lw_g (lw_at lw_m3 123 rfl) rfl
theorem q652 : (Jvm.Cond.code ({ cls := "CoinNotThere", name := "readAct", desc := "()I" } : Jvm.MethodName) prog_1_method_24_code (2 : Nat) (Option.some Jvm.ClassFile.FieldType.int)) ∈ lw_all := lw_g (lw_at lw_m3 124 rfl) rfl
theorem q653 : (Jvm.Cond.methodLink "CoinNotThere" (196 : Nat) ({ cls := "CoinNotThere", name := "readDigit", desc := "(II)I" } : Jvm.MethodName)) ∈ lw_all := lw_g (lw_at lw_m3 125 rfl) rfl
theorem q654 : (Jvm.Cond.privateMethod ({ cls := "CoinNotThere", name := "readDigit", desc := "(II)I" } : Jvm.MethodName)) ∈ lw_tbl := lw_at lw_m3 126 rfl
theorem q655 : (Jvm.Cond.instanceMethod ({ cls := "CoinNotThere", name := "readDigit", desc := "(II)I" } : Jvm.MethodName)) ∈ lw_all := lw_g (lw_at lw_m3 127 rfl) rfl
theorem q656 : (Jvm.Cond.code ({ cls := "CoinNotThere", name := "readDigit", desc := "(II)I" } : Jvm.MethodName) prog_1_method_23_code (4 : Nat) (Option.some Jvm.ClassFile.FieldType.int)) ∈ lw_all := lw_g (lw_at lw_m3 128 rfl) rfl
theorem q658 : (Jvm.Cond.instanceMethod ({ cls := "CoinNotThere", name := "house", desc := "()I" } : Jvm.MethodName)) ∈ lw_all := lw_g (lw_at lw_m3 130 rfl) rfl
theorem q659 : (Jvm.Cond.selects "CoinNotThere" ({ cls := "CoinNotThere", name := "house", desc := "()I" } : Jvm.MethodName) ({ cls := "CoinNotThere", name := "house", desc := "()I" } : Jvm.MethodName)) ∈ lw_all := lw_g (lw_at lw_m3 131 rfl) rfl
theorem q660 : (Jvm.Cond.codeWith ({ cls := "CoinNotThere", name := "house", desc := "()I" } : Jvm.MethodName) prog_1_method_31_code (2 : Nat) (Option.some Jvm.ClassFile.FieldType.int) [((0 : Nat), (4 : Nat), (7 : Nat), (30 : Nat))]) ∈ lw_all := lw_g (lw_at lw_m3 132 rfl) rfl
theorem q661 : (Jvm.Cond.methodLink "CoinNotThere" (230 : Nat) ({ cls := "CoinNotThere", name := "readHouse", desc := "()V" } : Jvm.MethodName)) ∈ lw_all := lw_g (lw_at lw_m3 133 rfl) rfl
theorem q662 : (Jvm.Cond.privateMethod ({ cls := "CoinNotThere", name := "readHouse", desc := "()V" } : Jvm.MethodName)) ∈ lw_tbl := lw_at lw_m3 134 rfl
theorem q663 : (Jvm.Cond.instanceMethod ({ cls := "CoinNotThere", name := "readHouse", desc := "()V" } : Jvm.MethodName)) ∈ lw_all := lw_g (lw_at lw_m3 135 rfl) rfl
theorem q664 : (Jvm.Cond.code ({ cls := "CoinNotThere", name := "readHouse", desc := "()V" } : Jvm.MethodName) prog_1_method_30_code (2 : Nat) (Option.none : Option Jvm.ClassFile.FieldType)) ∈ lw_all := lw_g (lw_at lw_m3 136 rfl) rfl
theorem q665 : (Jvm.Cond.interfaceEntry "CoinNotThere" (223 : Nat)) ∈ lw_tbl := lw_at lw_m3 137 rfl
theorem q666 : (Jvm.Cond.methodLink "CoinNotThere" (223 : Nat) ({ cls := "java/util/List", name := "clear", desc := "()V" } : Jvm.MethodName)) ∈ lw_all := lw_g (lw_at lw_m3 138 rfl) rfl
theorem q674 : (Jvm.Cond.methodLink "CoinNotThere" (226 : Nat) ({ cls := "CoinNotThere", name := "readWatcher", desc := "()LCoinNotThere$Watcher;" } : Jvm.MethodName)) ∈ lw_all := lw_g (lw_at lw_m3 146 rfl) rfl
theorem q675 : (Jvm.Cond.privateMethod ({ cls := "CoinNotThere", name := "readWatcher", desc := "()LCoinNotThere$Watcher;" } : Jvm.MethodName)) ∈ lw_tbl := lw_at lw_m3 147 rfl
theorem q676 : (Jvm.Cond.instanceMethod ({ cls := "CoinNotThere", name := "readWatcher", desc := "()LCoinNotThere$Watcher;" } : Jvm.MethodName)) ∈ lw_all := lw_g (lw_at lw_m3 148 rfl) rfl
theorem q677 : (Jvm.Cond.code ({ cls := "CoinNotThere", name := "readWatcher", desc := "()LCoinNotThere$Watcher;" } : Jvm.MethodName) prog_1_method_29_code (5 : Nat) (Option.some (Jvm.ClassFile.FieldType.object "CoinNotThere$Watcher"))) ∈ lw_all := lw_g (lw_at lw_m3 149 rfl) rfl
theorem q678 : (Jvm.Cond.methodLink "CoinNotThere" (220 : Nat) ({ cls := "CoinNotThere", name := "isGot", desc := "(I)Z" } : Jvm.MethodName)) ∈ lw_all := lw_g (lw_at lw_m3 150 rfl) rfl
theorem q679 : (Jvm.Cond.privateMethod ({ cls := "CoinNotThere", name := "isGot", desc := "(I)Z" } : Jvm.MethodName)) ∈ lw_tbl := lw_at lw_m3 151 rfl
theorem q680 : (Jvm.Cond.instanceMethod ({ cls := "CoinNotThere", name := "isGot", desc := "(I)Z" } : Jvm.MethodName)) ∈ lw_all := lw_g (lw_at lw_m3 152 rfl) rfl
theorem q681 : (Jvm.Cond.code ({ cls := "CoinNotThere", name := "isGot", desc := "(I)Z" } : Jvm.MethodName) prog_1_method_28_code (4 : Nat) (Option.some Jvm.ClassFile.FieldType.boolean)) ∈ lw_all := lw_g (lw_at lw_m3 153 rfl) rfl
theorem q682 : (Jvm.Cond.interfaceEntry "CoinNotThere" (233 : Nat)) ∈ lw_tbl := lw_at lw_m3 154 rfl
theorem q683 : (Jvm.Cond.methodLink "CoinNotThere" (233 : Nat) ({ cls := "java/util/List", name := "addAll", desc := "(Ljava/util/Collection;)Z" } : Jvm.MethodName)) ∈ lw_all := lw_g (lw_at lw_m3 155 rfl) rfl
theorem q702 : (Jvm.Cond.instanceMethod ({ cls := "CoinNotThere", name := "pull", desc := "(IIII)I" } : Jvm.MethodName)) ∈ lw_all := lw_g (lw_at lw_m3 174 rfl) rfl
theorem q703 : (Jvm.Cond.selects "CoinNotThere" ({ cls := "CoinNotThere", name := "pull", desc := "(IIII)I" } : Jvm.MethodName) ({ cls := "CoinNotThere", name := "pull", desc := "(IIII)I" } : Jvm.MethodName)) ∈ lw_all := lw_g (lw_at lw_m3 175 rfl) rfl
theorem q704 : (Jvm.Cond.code ({ cls := "CoinNotThere", name := "pull", desc := "(IIII)I" } : Jvm.MethodName) prog_1_method_33_code (5 : Nat) (Option.some Jvm.ClassFile.FieldType.int)) ∈ lw_all := lw_g (lw_at lw_m3 176 rfl) rfl
theorem q705 : (Jvm.Cond.methodLink "CoinNotThere" (237 : Nat) ({ cls := "CoinNotThere", name := "isTime", desc := "(I)Z" } : Jvm.MethodName)) ∈ lw_all := lw_g (lw_at lw_m3 177 rfl) rfl
theorem q706 : (Jvm.Cond.static ({ cls := "CoinNotThere", name := "isTime", desc := "(I)Z" } : Jvm.MethodName)) ∈ lw_all := lw_g (lw_at lw_m3 178 rfl) rfl
theorem q707 : (Jvm.Cond.code ({ cls := "CoinNotThere", name := "isTime", desc := "(I)Z" } : Jvm.MethodName) prog_1_method_32_code (1 : Nat) (Option.some Jvm.ClassFile.FieldType.boolean)) ∈ lw_all := lw_g (lw_at lw_m3 179 rfl) rfl
theorem q708 : (Jvm.Cond.methodLink "CoinNotThere" (240 : Nat) ({ cls := "CoinNotThere$Watcher", name := "pull", desc := "(LCoinNotThere$Routine;III)I" } : Jvm.MethodName)) ∈ lw_all := lw_g (lw_at lw_m3 180 rfl) rfl
theorem q731 : (Jvm.Cond.instanceMethod ({ cls := "CoinNotThere", name := "heed", desc := "(II)I" } : Jvm.MethodName)) ∈ lw_all := lw_g (lw_at lw_m3 203 rfl) rfl
theorem q732 : (Jvm.Cond.selects "CoinNotThere" ({ cls := "CoinNotThere", name := "heed", desc := "(II)I" } : Jvm.MethodName) ({ cls := "CoinNotThere", name := "heed", desc := "(II)I" } : Jvm.MethodName)) ∈ lw_all := lw_g (lw_at lw_m3 204 rfl) rfl
theorem q733 : (Jvm.Cond.code ({ cls := "CoinNotThere", name := "heed", desc := "(II)I" } : Jvm.MethodName) prog_1_method_34_code (3 : Nat) (Option.some Jvm.ClassFile.FieldType.int)) ∈ lw_all := lw_g (lw_at lw_m3 205 rfl) rfl
theorem q735 : (Jvm.Cond.instanceMethod ({ cls := "CoinNotThere", name := "can", desc := "(II)I" } : Jvm.MethodName)) ∈ lw_all := lw_g (lw_at lw_m3 207 rfl) rfl
theorem q736 : (Jvm.Cond.selects "CoinNotThere" ({ cls := "CoinNotThere", name := "can", desc := "(II)I" } : Jvm.MethodName) ({ cls := "CoinNotThere", name := "can", desc := "(II)I" } : Jvm.MethodName)) ∈ lw_all := lw_g (lw_at lw_m3 208 rfl) rfl
theorem q737 : (Jvm.Cond.code ({ cls := "CoinNotThere", name := "can", desc := "(II)I" } : Jvm.MethodName) prog_1_method_35_code (3 : Nat) (Option.some Jvm.ClassFile.FieldType.int)) ∈ lw_all := lw_g (lw_at lw_m3 209 rfl) rfl
theorem q738 : (Jvm.Cond.methodLink "CoinNotThere" (244 : Nat) ({ cls := "CoinNotThere$Routine", name := "canSee", desc := "(III)Z" } : Jvm.MethodName)) ∈ lw_all := lw_g (lw_at lw_m3 210 rfl) rfl
theorem q743 : (Jvm.Cond.instanceMethod ({ cls := "CoinNotThere", name := "odds", desc := "(IIII)I" } : Jvm.MethodName)) ∈ lw_all := lw_g (lw_at lw_m3 215 rfl) rfl
theorem q744 : (Jvm.Cond.selects "CoinNotThere" ({ cls := "CoinNotThere", name := "odds", desc := "(IIII)I" } : Jvm.MethodName) ({ cls := "CoinNotThere", name := "odds", desc := "(IIII)I" } : Jvm.MethodName)) ∈ lw_all := lw_g (lw_at lw_m3 216 rfl) rfl
theorem q745 : (Jvm.Cond.code ({ cls := "CoinNotThere", name := "odds", desc := "(IIII)I" } : Jvm.MethodName) prog_1_method_38_code (5 : Nat) (Option.some Jvm.ClassFile.FieldType.int)) ∈ lw_all := lw_g (lw_at lw_m3 217 rfl) rfl
theorem q746 : (Jvm.Cond.methodLink "CoinNotThere" (256 : Nat) ({ cls := "CoinNotThere", name := "findOdds", desc := "(LCoinNotThere$Watcher;LCoinNotThere$Routine;II)V" } : Jvm.MethodName)) ∈ lw_all := lw_g (lw_at lw_m3 218 rfl) rfl
theorem q747 : (Jvm.Cond.privateMethod ({ cls := "CoinNotThere", name := "findOdds", desc := "(LCoinNotThere$Watcher;LCoinNotThere$Routine;II)V" } : Jvm.MethodName)) ∈ lw_tbl := lw_at lw_m3 219 rfl
theorem q748 : (Jvm.Cond.instanceMethod ({ cls := "CoinNotThere", name := "findOdds", desc := "(LCoinNotThere$Watcher;LCoinNotThere$Routine;II)V" } : Jvm.MethodName)) ∈ lw_all := lw_g (lw_at lw_m3 220 rfl) rfl
theorem q749 : (Jvm.Cond.code ({ cls := "CoinNotThere", name := "findOdds", desc := "(LCoinNotThere$Watcher;LCoinNotThere$Routine;II)V" } : Jvm.MethodName) prog_1_method_36_code (11 : Nat) (Option.none : Option Jvm.ClassFile.FieldType)) ∈ lw_all := lw_g (lw_at lw_m3 221 rfl) rfl
theorem q750 : (Jvm.Cond.methodLink "CoinNotThere" (247 : Nat) ({ cls := "java/lang/Math", name := "max", desc := "(II)I" } : Jvm.MethodName)) ∈ lw_all := lw_g (lw_at lw_m3 222 rfl) rfl
theorem q751 : (Jvm.Cond.methodLink "CoinNotThere" (260 : Nat) ({ cls := "CoinNotThere", name := "common", desc := "(II)I" } : Jvm.MethodName)) ∈ lw_all := lw_g (lw_at lw_m3 223 rfl) rfl
theorem q752 : (Jvm.Cond.static ({ cls := "CoinNotThere", name := "common", desc := "(II)I" } : Jvm.MethodName)) ∈ lw_all := lw_g (lw_at lw_m3 224 rfl) rfl
theorem q753 : (Jvm.Cond.code ({ cls := "CoinNotThere", name := "common", desc := "(II)I" } : Jvm.MethodName) prog_1_method_37_code (5 : Nat) (Option.some Jvm.ClassFile.FieldType.int)) ∈ lw_all := lw_g (lw_at lw_m3 225 rfl) rfl
theorem q755 : (Jvm.Cond.instanceMethod ({ cls := "CoinNotThere", name := "sees", desc := "(II)I" } : Jvm.MethodName)) ∈ lw_all := lw_g (lw_at lw_m3 227 rfl) rfl
theorem q756 : (Jvm.Cond.selects "CoinNotThere" ({ cls := "CoinNotThere", name := "sees", desc := "(II)I" } : Jvm.MethodName) ({ cls := "CoinNotThere", name := "sees", desc := "(II)I" } : Jvm.MethodName)) ∈ lw_all := lw_g (lw_at lw_m3 228 rfl) rfl
theorem q757 : (Jvm.Cond.code ({ cls := "CoinNotThere", name := "sees", desc := "(II)I" } : Jvm.MethodName) prog_1_method_41_code (3 : Nat) (Option.some Jvm.ClassFile.FieldType.int)) ∈ lw_all := lw_g (lw_at lw_m3 229 rfl) rfl
theorem q758 : (Jvm.Cond.methodLink "CoinNotThere" (269 : Nat) ({ cls := "CoinNotThere", name := "seesAll", desc := "(LCoinNotThere$Routine;Ljava/util/List;I)I" } : Jvm.MethodName)) ∈ lw_all := lw_g (lw_at lw_m3 230 rfl) rfl
theorem q759 : (Jvm.Cond.privateMethod ({ cls := "CoinNotThere", name := "seesAll", desc := "(LCoinNotThere$Routine;Ljava/util/List;I)I" } : Jvm.MethodName)) ∈ lw_tbl := lw_at lw_m3 231 rfl
theorem q760 : (Jvm.Cond.instanceMethod ({ cls := "CoinNotThere", name := "seesAll", desc := "(LCoinNotThere$Routine;Ljava/util/List;I)I" } : Jvm.MethodName)) ∈ lw_all := lw_g (lw_at lw_m3 232 rfl) rfl
theorem q761 : (Jvm.Cond.code ({ cls := "CoinNotThere", name := "seesAll", desc := "(LCoinNotThere$Routine;Ljava/util/List;I)I" } : Jvm.MethodName) prog_1_method_40_code (6 : Nat) (Option.some Jvm.ClassFile.FieldType.int)) ∈ lw_all := lw_g (lw_at lw_m3 233 rfl) rfl
theorem q762 : (Jvm.Cond.methodLink "CoinNotThere" (265 : Nat) ({ cls := "CoinNotThere", name := "seesOf", desc := "(LCoinNotThere$Routine;Ljava/util/List;II)I" } : Jvm.MethodName)) ∈ lw_all := lw_g (lw_at lw_m3 234 rfl) rfl
theorem q763 : (Jvm.Cond.privateMethod ({ cls := "CoinNotThere", name := "seesOf", desc := "(LCoinNotThere$Routine;Ljava/util/List;II)I" } : Jvm.MethodName)) ∈ lw_tbl := lw_at lw_m3 235 rfl
theorem q764 : (Jvm.Cond.instanceMethod ({ cls := "CoinNotThere", name := "seesOf", desc := "(LCoinNotThere$Routine;Ljava/util/List;II)I" } : Jvm.MethodName)) ∈ lw_all := lw_g (lw_at lw_m3 236 rfl) rfl
theorem q765 : (Jvm.Cond.code ({ cls := "CoinNotThere", name := "seesOf", desc := "(LCoinNotThere$Routine;Ljava/util/List;II)I" } : Jvm.MethodName) prog_1_method_39_code (7 : Nat) (Option.some Jvm.ClassFile.FieldType.int)) ∈ lw_all := lw_g (lw_at lw_m3 237 rfl) rfl
theorem q766 : (Jvm.Cond.constantLong "CoinNotThere" (263 : Nat) (1000 : Int64)) ∈ lw_all := lw_g (lw_at lw_m3 238 rfl) rfl
theorem q768 : (Jvm.Cond.instanceMethod ({ cls := "CoinNotThere", name := "quiet", desc := "(II)I" } : Jvm.MethodName)) ∈ lw_all := lw_g (lw_at lw_m4 0 rfl) rfl
theorem q769 : (Jvm.Cond.selects "CoinNotThere" ({ cls := "CoinNotThere", name := "quiet", desc := "(II)I" } : Jvm.MethodName) ({ cls := "CoinNotThere", name := "quiet", desc := "(II)I" } : Jvm.MethodName)) ∈ lw_all := lw_g (lw_at lw_m4 1 rfl) rfl
theorem q770 : (Jvm.Cond.code ({ cls := "CoinNotThere", name := "quiet", desc := "(II)I" } : Jvm.MethodName) prog_1_method_42_code (8 : Nat) (Option.some Jvm.ClassFile.FieldType.int)) ∈ lw_all := lw_g (lw_at lw_m4 2 rfl) rfl
theorem q772 : (Jvm.Cond.instanceMethod ({ cls := "CoinNotThere", name := "cover", desc := "(IIII)I" } : Jvm.MethodName)) ∈ lw_all := lw_g (lw_at lw_m4 4 rfl) rfl
theorem q773 : (Jvm.Cond.selects "CoinNotThere" ({ cls := "CoinNotThere", name := "cover", desc := "(IIII)I" } : Jvm.MethodName) ({ cls := "CoinNotThere", name := "cover", desc := "(IIII)I" } : Jvm.MethodName)) ∈ lw_all := lw_g (lw_at lw_m4 5 rfl) rfl
theorem q774 : (Jvm.Cond.code ({ cls := "CoinNotThere", name := "cover", desc := "(IIII)I" } : Jvm.MethodName) prog_1_method_43_code (5 : Nat) (Option.some Jvm.ClassFile.FieldType.int)) ∈ lw_all := lw_g (lw_at lw_m4 6 rfl) rfl
theorem q776 : (Jvm.Cond.instanceMethod ({ cls := "CoinNotThere", name := "does", desc := "(II)I" } : Jvm.MethodName)) ∈ lw_all := lw_g (lw_at lw_m4 8 rfl) rfl
theorem q777 : (Jvm.Cond.selects "CoinNotThere" ({ cls := "CoinNotThere", name := "does", desc := "(II)I" } : Jvm.MethodName) ({ cls := "CoinNotThere", name := "does", desc := "(II)I" } : Jvm.MethodName)) ∈ lw_all := lw_g (lw_at lw_m4 9 rfl) rfl
theorem q778 : (Jvm.Cond.code ({ cls := "CoinNotThere", name := "does", desc := "(II)I" } : Jvm.MethodName) prog_1_method_45_code (4 : Nat) (Option.some Jvm.ClassFile.FieldType.int)) ∈ lw_all := lw_g (lw_at lw_m4 10 rfl) rfl
theorem q779 : (Jvm.Cond.constant "CoinNotThere" (277 : Nat) (-100001 : Int32)) ∈ lw_all := lw_g (lw_at lw_m4 11 rfl) rfl
theorem q780 : (Jvm.Cond.methodLink "CoinNotThere" (278 : Nat) ({ cls := "CoinNotThere", name := "seesWith", desc := "(I)I" } : Jvm.MethodName)) ∈ lw_all := lw_g (lw_at lw_m4 12 rfl) rfl
theorem q781 : (Jvm.Cond.privateMethod ({ cls := "CoinNotThere", name := "seesWith", desc := "(I)I" } : Jvm.MethodName)) ∈ lw_tbl := lw_at lw_m4 13 rfl
theorem q782 : (Jvm.Cond.instanceMethod ({ cls := "CoinNotThere", name := "seesWith", desc := "(I)I" } : Jvm.MethodName)) ∈ lw_all := lw_g (lw_at lw_m4 14 rfl) rfl
theorem q783 : (Jvm.Cond.code ({ cls := "CoinNotThere", name := "seesWith", desc := "(I)I" } : Jvm.MethodName) prog_1_method_44_code (6 : Nat) (Option.some Jvm.ClassFile.FieldType.int)) ∈ lw_all := lw_g (lw_at lw_m4 15 rfl) rfl
theorem q784 : (Jvm.Cond.methodLink "CoinNotThere" (273 : Nat) ({ cls := "CoinNotThere", name := "has", desc := "(II)Z" } : Jvm.MethodName)) ∈ lw_all := lw_g (lw_at lw_m4 16 rfl) rfl
theorem q785 : (Jvm.Cond.static ({ cls := "CoinNotThere", name := "has", desc := "(II)Z" } : Jvm.MethodName)) ∈ lw_all := lw_g (lw_at lw_m4 17 rfl) rfl
theorem q786 : (Jvm.Cond.code ({ cls := "CoinNotThere", name := "has", desc := "(II)Z" } : Jvm.MethodName) prog_1_method_4_code (2 : Nat) (Option.some Jvm.ClassFile.FieldType.boolean)) ∈ lw_all := lw_g (lw_at lw_m4 18 rfl) rfl
theorem q788 : (Jvm.Cond.instanceMethod ({ cls := "CoinNotThere", name := "bought", desc := "(II)I" } : Jvm.MethodName)) ∈ lw_all := lw_g (lw_at lw_m4 20 rfl) rfl
theorem q789 : (Jvm.Cond.selects "CoinNotThere" ({ cls := "CoinNotThere", name := "bought", desc := "(II)I" } : Jvm.MethodName) ({ cls := "CoinNotThere", name := "bought", desc := "(II)I" } : Jvm.MethodName)) ∈ lw_all := lw_g (lw_at lw_m4 21 rfl) rfl
theorem q790 : (Jvm.Cond.code ({ cls := "CoinNotThere", name := "bought", desc := "(II)I" } : Jvm.MethodName) prog_1_method_47_code (8 : Nat) (Option.some Jvm.ClassFile.FieldType.int)) ∈ lw_all := lw_g (lw_at lw_m4 22 rfl) rfl
theorem q791 : (Jvm.Cond.methodLink "CoinNotThere" (281 : Nat) ({ cls := "CoinNotThere", name := "costOf", desc := "(I)I" } : Jvm.MethodName)) ∈ lw_all := lw_g (lw_at lw_m4 23 rfl) rfl
theorem q792 : (Jvm.Cond.privateMethod ({ cls := "CoinNotThere", name := "costOf", desc := "(I)I" } : Jvm.MethodName)) ∈ lw_tbl := lw_at lw_m4 24 rfl
theorem q793 : (Jvm.Cond.instanceMethod ({ cls := "CoinNotThere", name := "costOf", desc := "(I)I" } : Jvm.MethodName)) ∈ lw_all := lw_g (lw_at lw_m4 25 rfl) rfl
theorem q794 : (Jvm.Cond.code ({ cls := "CoinNotThere", name := "costOf", desc := "(I)I" } : Jvm.MethodName) prog_1_method_46_code (4 : Nat) (Option.some Jvm.ClassFile.FieldType.int)) ∈ lw_all := lw_g (lw_at lw_m4 26 rfl) rfl
theorem q796 : (Jvm.Cond.instanceMethod ({ cls := "CoinNotThere", name := "stances", desc := "()I" } : Jvm.MethodName)) ∈ lw_all := lw_g (lw_at lw_m4 28 rfl) rfl
theorem q797 : (Jvm.Cond.selects "CoinNotThere" ({ cls := "CoinNotThere", name := "stances", desc := "()I" } : Jvm.MethodName) ({ cls := "CoinNotThere", name := "stances", desc := "()I" } : Jvm.MethodName)) ∈ lw_all := lw_g (lw_at lw_m4 29 rfl) rfl
theorem q798 : (Jvm.Cond.code ({ cls := "CoinNotThere", name := "stances", desc := "()I" } : Jvm.MethodName) prog_1_method_49_code (3 : Nat) (Option.some Jvm.ClassFile.FieldType.int)) ∈ lw_all := lw_g (lw_at lw_m4 30 rfl) rfl
theorem q799 : (Jvm.Cond.methodLink "CoinNotThere" (284 : Nat) ({ cls := "CoinNotThere", name := "isHidden", desc := "(I)Z" } : Jvm.MethodName)) ∈ lw_all := lw_g (lw_at lw_m4 31 rfl) rfl
theorem q800 : (Jvm.Cond.privateMethod ({ cls := "CoinNotThere", name := "isHidden", desc := "(I)Z" } : Jvm.MethodName)) ∈ lw_tbl := lw_at lw_m4 32 rfl
theorem q801 : (Jvm.Cond.instanceMethod ({ cls := "CoinNotThere", name := "isHidden", desc := "(I)Z" } : Jvm.MethodName)) ∈ lw_all := lw_g (lw_at lw_m4 33 rfl) rfl
theorem q802 : (Jvm.Cond.code ({ cls := "CoinNotThere", name := "isHidden", desc := "(I)Z" } : Jvm.MethodName) prog_1_method_48_code (5 : Nat) (Option.some Jvm.ClassFile.FieldType.boolean)) ∈ lw_all := lw_g (lw_at lw_m4 34 rfl) rfl
theorem q804 : (Jvm.Cond.instanceMethod ({ cls := "CoinNotThere", name := "often", desc := "(I)I" } : Jvm.MethodName)) ∈ lw_all := lw_g (lw_at lw_m4 36 rfl) rfl
theorem q805 : (Jvm.Cond.selects "CoinNotThere" ({ cls := "CoinNotThere", name := "often", desc := "(I)I" } : Jvm.MethodName) ({ cls := "CoinNotThere", name := "often", desc := "(I)I" } : Jvm.MethodName)) ∈ lw_all := lw_g (lw_at lw_m4 37 rfl) rfl
theorem q806 : (Jvm.Cond.code ({ cls := "CoinNotThere", name := "often", desc := "(I)I" } : Jvm.MethodName) prog_1_method_50_code (3 : Nat) (Option.some Jvm.ClassFile.FieldType.int)) ∈ lw_all := lw_g (lw_at lw_m4 38 rfl) rfl
theorem q807 : (Jvm.Cond.constant "CoinNotThere" (287 : Nat) (99999 : Int32)) ∈ lw_all := lw_g (lw_at lw_m4 39 rfl) rfl
theorem q809 : (Jvm.Cond.instanceMethod ({ cls := "CoinNotThere", name := "warning", desc := "()I" } : Jvm.MethodName)) ∈ lw_all := lw_g (lw_at lw_m4 41 rfl) rfl
theorem q810 : (Jvm.Cond.selects "CoinNotThere" ({ cls := "CoinNotThere", name := "warning", desc := "()I" } : Jvm.MethodName) ({ cls := "CoinNotThere", name := "warning", desc := "()I" } : Jvm.MethodName)) ∈ lw_all := lw_g (lw_at lw_m4 42 rfl) rfl
theorem q811 : (Jvm.Cond.code ({ cls := "CoinNotThere", name := "warning", desc := "()I" } : Jvm.MethodName) prog_1_method_51_code (2 : Nat) (Option.some Jvm.ClassFile.FieldType.int)) ∈ lw_all := lw_g (lw_at lw_m4 43 rfl) rfl
theorem q812 : (Jvm.Cond.methodLink "CoinNotThere" (288 : Nat) ({ cls := "CoinNotThere$Watcher", name := "warned", desc := "()LCoinNotThere$Watcher;" } : Jvm.MethodName)) ∈ lw_all := lw_g (lw_at lw_m4 44 rfl) rfl
theorem q829 : (Jvm.Cond.instanceMethod ({ cls := "CoinNotThere", name := "shown", desc := "(I)I" } : Jvm.MethodName)) ∈ lw_all := lw_g (lw_at lw_m4 61 rfl) rfl
theorem q830 : (Jvm.Cond.selects "CoinNotThere" ({ cls := "CoinNotThere", name := "shown", desc := "(I)I" } : Jvm.MethodName) ({ cls := "CoinNotThere", name := "shown", desc := "(I)I" } : Jvm.MethodName)) ∈ lw_all := lw_g (lw_at lw_m4 62 rfl) rfl
theorem q831 : (Jvm.Cond.code ({ cls := "CoinNotThere", name := "shown", desc := "(I)I" } : Jvm.MethodName) prog_1_method_53_code (7 : Nat) (Option.some Jvm.ClassFile.FieldType.int)) ∈ lw_all := lw_g (lw_at lw_m4 63 rfl) rfl
theorem q832 : (Jvm.Cond.methodLink "CoinNotThere" (291 : Nat) ({ cls := "CoinNotThere", name := "shownAt", desc := "(I)I" } : Jvm.MethodName)) ∈ lw_all := lw_g (lw_at lw_m4 64 rfl) rfl
theorem q833 : (Jvm.Cond.privateMethod ({ cls := "CoinNotThere", name := "shownAt", desc := "(I)I" } : Jvm.MethodName)) ∈ lw_tbl := lw_at lw_m4 65 rfl
theorem q834 : (Jvm.Cond.instanceMethod ({ cls := "CoinNotThere", name := "shownAt", desc := "(I)I" } : Jvm.MethodName)) ∈ lw_all := lw_g (lw_at lw_m4 66 rfl) rfl
theorem q835 : (Jvm.Cond.code ({ cls := "CoinNotThere", name := "shownAt", desc := "(I)I" } : Jvm.MethodName) prog_1_method_52_code (4 : Nat) (Option.some Jvm.ClassFile.FieldType.int)) ∈ lw_all := lw_g (lw_at lw_m4 67 rfl) rfl
theorem q837 : (Jvm.Cond.instanceMethod ({ cls := "CoinNotThere", name := "point", desc := "(II)I" } : Jvm.MethodName)) ∈ lw_all := lw_g (lw_at lw_m4 69 rfl) rfl
theorem q838 : (Jvm.Cond.selects "CoinNotThere" ({ cls := "CoinNotThere", name := "point", desc := "(II)I" } : Jvm.MethodName) ({ cls := "CoinNotThere", name := "point", desc := "(II)I" } : Jvm.MethodName)) ∈ lw_all := lw_g (lw_at lw_m4 70 rfl) rfl
theorem q839 : (Jvm.Cond.code ({ cls := "CoinNotThere", name := "point", desc := "(II)I" } : Jvm.MethodName) prog_1_method_54_code (3 : Nat) (Option.some Jvm.ClassFile.FieldType.int)) ∈ lw_all := lw_g (lw_at lw_m4 71 rfl) rfl
theorem q841 : (Jvm.Cond.instanceMethod ({ cls := "CoinNotThere", name := "fits", desc := "(I)I" } : Jvm.MethodName)) ∈ lw_all := lw_g (lw_at lw_m4 73 rfl) rfl
theorem q842 : (Jvm.Cond.selects "CoinNotThere" ({ cls := "CoinNotThere", name := "fits", desc := "(I)I" } : Jvm.MethodName) ({ cls := "CoinNotThere", name := "fits", desc := "(I)I" } : Jvm.MethodName)) ∈ lw_all := lw_g (lw_at lw_m4 74 rfl) rfl
theorem q843 : (Jvm.Cond.code ({ cls := "CoinNotThere", name := "fits", desc := "(I)I" } : Jvm.MethodName) prog_1_method_56_code (6 : Nat) (Option.some Jvm.ClassFile.FieldType.int)) ∈ lw_all := lw_g (lw_at lw_m4 75 rfl) rfl
theorem q844 : (Jvm.Cond.methodLink "CoinNotThere" (294 : Nat) ({ cls := "CoinNotThere", name := "fitsBy", desc := "(I)I" } : Jvm.MethodName)) ∈ lw_all := lw_g (lw_at lw_m4 76 rfl) rfl
theorem q845 : (Jvm.Cond.privateMethod ({ cls := "CoinNotThere", name := "fitsBy", desc := "(I)I" } : Jvm.MethodName)) ∈ lw_tbl := lw_at lw_m4 77 rfl
theorem q846 : (Jvm.Cond.instanceMethod ({ cls := "CoinNotThere", name := "fitsBy", desc := "(I)I" } : Jvm.MethodName)) ∈ lw_all := lw_g (lw_at lw_m4 78 rfl) rfl
theorem q847 : (Jvm.Cond.code ({ cls := "CoinNotThere", name := "fitsBy", desc := "(I)I" } : Jvm.MethodName) prog_1_method_55_code (6 : Nat) (Option.some Jvm.ClassFile.FieldType.int)) ∈ lw_all := lw_g (lw_at lw_m4 79 rfl) rfl
theorem q849 : (Jvm.Cond.instanceMethod ({ cls := "CoinNotThere", name := "apart", desc := "(IIII)I" } : Jvm.MethodName)) ∈ lw_all := lw_g (lw_at lw_m4 81 rfl) rfl
theorem q850 : (Jvm.Cond.selects "CoinNotThere" ({ cls := "CoinNotThere", name := "apart", desc := "(IIII)I" } : Jvm.MethodName) ({ cls := "CoinNotThere", name := "apart", desc := "(IIII)I" } : Jvm.MethodName)) ∈ lw_all := lw_g (lw_at lw_m4 82 rfl) rfl
theorem q851 : (Jvm.Cond.code ({ cls := "CoinNotThere", name := "apart", desc := "(IIII)I" } : Jvm.MethodName) prog_1_method_58_code (5 : Nat) (Option.some Jvm.ClassFile.FieldType.int)) ∈ lw_all := lw_g (lw_at lw_m4 83 rfl) rfl
theorem q852 : (Jvm.Cond.methodLink "CoinNotThere" (297 : Nat) ({ cls := "CoinNotThere", name := "share", desc := "(II)I" } : Jvm.MethodName)) ∈ lw_all := lw_g (lw_at lw_m4 84 rfl) rfl
theorem q853 : (Jvm.Cond.static ({ cls := "CoinNotThere", name := "share", desc := "(II)I" } : Jvm.MethodName)) ∈ lw_all := lw_g (lw_at lw_m4 85 rfl) rfl
theorem q854 : (Jvm.Cond.code ({ cls := "CoinNotThere", name := "share", desc := "(II)I" } : Jvm.MethodName) prog_1_method_57_code (2 : Nat) (Option.some Jvm.ClassFile.FieldType.int)) ∈ lw_all := lw_g (lw_at lw_m4 86 rfl) rfl
theorem q856 : (Jvm.Cond.instanceMethod ({ cls := "CoinNotThere", name := "clear", desc := "()I" } : Jvm.MethodName)) ∈ lw_all := lw_g (lw_at lw_m4 88 rfl) rfl
theorem q857 : (Jvm.Cond.selects "CoinNotThere" ({ cls := "CoinNotThere", name := "clear", desc := "()I" } : Jvm.MethodName) ({ cls := "CoinNotThere", name := "clear", desc := "()I" } : Jvm.MethodName)) ∈ lw_all := lw_g (lw_at lw_m4 89 rfl) rfl
theorem q858 : (Jvm.Cond.code ({ cls := "CoinNotThere", name := "clear", desc := "()I" } : Jvm.MethodName) prog_1_method_59_code (2 : Nat) (Option.some Jvm.ClassFile.FieldType.int)) ∈ lw_all := lw_g (lw_at lw_m4 90 rfl) rfl
theorem q860 : (Jvm.Cond.instanceMethod ({ cls := "CoinNotThere", name := "image", desc := "()I" } : Jvm.MethodName)) ∈ lw_all := lw_g (lw_at lw_m4 92 rfl) rfl
theorem q861 : (Jvm.Cond.selects "CoinNotThere" ({ cls := "CoinNotThere", name := "image", desc := "()I" } : Jvm.MethodName) ({ cls := "CoinNotThere", name := "image", desc := "()I" } : Jvm.MethodName)) ∈ lw_all := lw_g (lw_at lw_m4 93 rfl) rfl
theorem q862 : (Jvm.Cond.code ({ cls := "CoinNotThere", name := "image", desc := "()I" } : Jvm.MethodName) prog_1_method_61_code (1 : Nat) (Option.some Jvm.ClassFile.FieldType.int)) ∈ lw_all := lw_g (lw_at lw_m4 94 rfl) rfl
theorem q863 : (Jvm.Cond.methodLink "CoinNotThere" (303 : Nat) ({ cls := "CoinNotThere", name := "carry", desc := "(Ljava/util/List;Ljava/util/List;)V" } : Jvm.MethodName)) ∈ lw_all := lw_g (lw_at lw_m4 95 rfl) rfl
theorem q864 : (Jvm.Cond.static ({ cls := "CoinNotThere", name := "carry", desc := "(Ljava/util/List;Ljava/util/List;)V" } : Jvm.MethodName)) ∈ lw_all := lw_g (lw_at lw_m4 96 rfl) rfl
theorem q865 : (Jvm.Cond.code ({ cls := "CoinNotThere", name := "carry", desc := "(Ljava/util/List;Ljava/util/List;)V" } : Jvm.MethodName) prog_1_method_60_code (3 : Nat) (Option.none : Option Jvm.ClassFile.FieldType)) ∈ lw_all := lw_g (lw_at lw_m4 97 rfl) rfl
theorem q866 : (Jvm.Cond.methodLink "CoinNotThere" (300 : Nat) ({ cls := "CoinNotThere$Watcher", name := "same", desc := "()LCoinNotThere$Watcher;" } : Jvm.MethodName)) ∈ lw_all := lw_g (lw_at lw_m4 98 rfl) rfl
theorem q888 : (Jvm.Cond.methodLink "CoinNotThere" (307 : Nat) ({ cls := "java/lang/System", name := "arraycopy", desc := "(Ljava/lang/Object;ILjava/lang/Object;II)V" } : Jvm.MethodName)) ∈ lw_all := lw_g (lw_at lw_m4 120 rfl) rfl
theorem q890 : (Jvm.Cond.instanceMethod ({ cls := "CoinNotThere", name := "restore", desc := "()I" } : Jvm.MethodName)) ∈ lw_all := lw_g (lw_at lw_m4 122 rfl) rfl
theorem q891 : (Jvm.Cond.selects "CoinNotThere" ({ cls := "CoinNotThere", name := "restore", desc := "()I" } : Jvm.MethodName) ({ cls := "CoinNotThere", name := "restore", desc := "()I" } : Jvm.MethodName)) ∈ lw_all := lw_g (lw_at lw_m4 123 rfl) rfl
theorem q892 : (Jvm.Cond.code ({ cls := "CoinNotThere", name := "restore", desc := "()I" } : Jvm.MethodName) prog_1_method_62_code (1 : Nat) (Option.some Jvm.ClassFile.FieldType.int)) ∈ lw_all := lw_g (lw_at lw_m4 124 rfl) rfl
theorem q894 : (Jvm.Cond.instanceMethod ({ cls := "CoinNotThere", name := "eyes", desc := "(IIIII)I" } : Jvm.MethodName)) ∈ lw_all := lw_g (lw_at lw_m4 126 rfl) rfl
theorem q895 : (Jvm.Cond.selects "CoinNotThere" ({ cls := "CoinNotThere", name := "eyes", desc := "(IIIII)I" } : Jvm.MethodName) ({ cls := "CoinNotThere", name := "eyes", desc := "(IIIII)I" } : Jvm.MethodName)) ∈ lw_all := lw_g (lw_at lw_m4 127 rfl) rfl
theorem q896 : (Jvm.Cond.code ({ cls := "CoinNotThere", name := "eyes", desc := "(IIIII)I" } : Jvm.MethodName) prog_1_method_65_code (9 : Nat) (Option.some Jvm.ClassFile.FieldType.int)) ∈ lw_all := lw_g (lw_at lw_m4 128 rfl) rfl
theorem q897 : (Jvm.Cond.methodLink "CoinNotThere" (322 : Nat) ({ cls := "CoinNotThere", name := "isSheet", desc := "(I)Z" } : Jvm.MethodName)) ∈ lw_all := lw_g (lw_at lw_m4 129 rfl) rfl
theorem q898 : (Jvm.Cond.static ({ cls := "CoinNotThere", name := "isSheet", desc := "(I)Z" } : Jvm.MethodName)) ∈ lw_all := lw_g (lw_at lw_m4 130 rfl) rfl
theorem q899 : (Jvm.Cond.code ({ cls := "CoinNotThere", name := "isSheet", desc := "(I)Z" } : Jvm.MethodName) prog_1_method_63_code (1 : Nat) (Option.some Jvm.ClassFile.FieldType.boolean)) ∈ lw_all := lw_g (lw_at lw_m4 131 rfl) rfl
theorem q900 : (Jvm.Cond.methodLink "CoinNotThere" (325 : Nat) ({ cls := "CoinNotThere", name := "isLane", desc := "(I)Z" } : Jvm.MethodName)) ∈ lw_all := lw_g (lw_at lw_m4 132 rfl) rfl
theorem q901 : (Jvm.Cond.static ({ cls := "CoinNotThere", name := "isLane", desc := "(I)Z" } : Jvm.MethodName)) ∈ lw_all := lw_g (lw_at lw_m4 133 rfl) rfl
theorem q902 : (Jvm.Cond.code ({ cls := "CoinNotThere", name := "isLane", desc := "(I)Z" } : Jvm.MethodName) prog_1_method_64_code (1 : Nat) (Option.some Jvm.ClassFile.FieldType.boolean)) ∈ lw_all := lw_g (lw_at lw_m4 134 rfl) rfl
theorem q903 : (Jvm.Cond.methodLink "CoinNotThere" (332 : Nat) ({ cls := "CoinNotThere$Sheet", name := "lane", desc := "()I" } : Jvm.MethodName)) ∈ lw_all := lw_g (lw_at lw_m4 135 rfl) rfl
theorem q909 : (Jvm.Cond.methodLink "CoinNotThere" (335 : Nat) ({ cls := "CoinNotThere$Sheet", name := "size", desc := "()I" } : Jvm.MethodName)) ∈ lw_all := lw_g (lw_at lw_m4 141 rfl) rfl
theorem q914 : (Jvm.Cond.methodLink "CoinNotThere" (336 : Nat) ({ cls := "CoinNotThere$Sheet", name := "get", desc := "(I)I" } : Jvm.MethodName)) ∈ lw_all := lw_g (lw_at lw_m4 146 rfl) rfl
theorem q918 : (Jvm.Cond.methodLink "CoinNotThere" (338 : Nat) ({ cls := "CoinNotThere", name := "point", desc := "(II)I" } : Jvm.MethodName)) ∈ lw_all := lw_g (lw_at lw_m4 150 rfl) rfl
theorem q920 : (Jvm.Cond.instanceMethod ({ cls := "CoinNotThere", name := "sheet", desc := "(III)I" } : Jvm.MethodName)) ∈ lw_all := lw_g (lw_at lw_m4 152 rfl) rfl
theorem q921 : (Jvm.Cond.selects "CoinNotThere" ({ cls := "CoinNotThere", name := "sheet", desc := "(III)I" } : Jvm.MethodName) ({ cls := "CoinNotThere", name := "sheet", desc := "(III)I" } : Jvm.MethodName)) ∈ lw_all := lw_g (lw_at lw_m4 153 rfl) rfl
theorem q922 : (Jvm.Cond.codeWith ({ cls := "CoinNotThere", name := "sheet", desc := "(III)I" } : Jvm.MethodName) prog_1_method_66_code (5 : Nat) (Option.some Jvm.ClassFile.FieldType.int) [((22 : Nat), (55 : Nat), (58 : Nat), (341 : Nat))]) ∈ lw_all := lw_g (lw_at lw_m4 154 rfl) rfl
theorem q923 : (Jvm.Cond.classLink "CoinNotThere" (341 : Nat) "java/lang/NegativeArraySizeException") ∈ lw_all := lw_g (lw_at lw_m4 155 rfl) rfl
theorem q939 : (Jvm.Cond.instanceMethod ({ cls := "CoinNotThere", name := "drop", desc := "(I)I" } : Jvm.MethodName)) ∈ lw_all := lw_g (lw_at lw_m4 171 rfl) rfl
theorem q940 : (Jvm.Cond.selects "CoinNotThere" ({ cls := "CoinNotThere", name := "drop", desc := "(I)I" } : Jvm.MethodName) ({ cls := "CoinNotThere", name := "drop", desc := "(I)I" } : Jvm.MethodName)) ∈ lw_all := lw_g (lw_at lw_m4 172 rfl) rfl
theorem q941 : (Jvm.Cond.code ({ cls := "CoinNotThere", name := "drop", desc := "(I)I" } : Jvm.MethodName) prog_1_method_67_code (3 : Nat) (Option.some Jvm.ClassFile.FieldType.int)) ∈ lw_all := lw_g (lw_at lw_m4 173 rfl) rfl
theorem q943 : (Jvm.Cond.instanceMethod ({ cls := "CoinNotThere", name := "item", desc := "(IIII)I" } : Jvm.MethodName)) ∈ lw_all := lw_g (lw_at lw_m4 175 rfl) rfl
theorem q944 : (Jvm.Cond.selects "CoinNotThere" ({ cls := "CoinNotThere", name := "item", desc := "(IIII)I" } : Jvm.MethodName) ({ cls := "CoinNotThere", name := "item", desc := "(IIII)I" } : Jvm.MethodName)) ∈ lw_all := lw_g (lw_at lw_m4 176 rfl) rfl
theorem q945 : (Jvm.Cond.codeWith ({ cls := "CoinNotThere", name := "item", desc := "(IIII)I" } : Jvm.MethodName) prog_1_method_68_code (6 : Nat) (Option.some Jvm.ClassFile.FieldType.int) [((16 : Nat), (100 : Nat), (103 : Nat), (347 : Nat)), ((16 : Nat), (100 : Nat), (108 : Nat), (154 : Nat)), ((16 : Nat), (100 : Nat), (113 : Nat), (349 : Nat))]) ∈ lw_all := lw_g (lw_at lw_m4 177 rfl) rfl
theorem q946 : (Jvm.Cond.classLink "CoinNotThere" (347 : Nat) "java/lang/NullPointerException") ∈ lw_all := lw_g (lw_at lw_m4 178 rfl) rfl
theorem q971 : (Jvm.Cond.classLink "CoinNotThere" (349 : Nat) "java/lang/ArrayIndexOutOfBoundsException") ∈ lw_all := lw_g (lw_at lw_m4 203 rfl) rfl
theorem q990 : (Jvm.Cond.classLink "CoinNotThere" (343 : Nat) "[B") ∈ lw_all := lw_g (lw_at lw_m4 222 rfl) rfl
theorem q991 : (Jvm.Cond.classLink "CoinNotThere" (344 : Nat) "[S") ∈ lw_all := lw_g (lw_at lw_m4 223 rfl) rfl
theorem q992 : (Jvm.Cond.classLink "CoinNotThere" (346 : Nat) "[I") ∈ lw_all := lw_g (lw_at lw_m4 224 rfl) rfl
theorem q994 : (Jvm.Cond.instanceMethod ({ cls := "CoinNotThere", name := "copy", desc := "(IIIII)I" } : Jvm.MethodName)) ∈ lw_all := lw_g (lw_at lw_m4 226 rfl) rfl
theorem q995 : (Jvm.Cond.selects "CoinNotThere" ({ cls := "CoinNotThere", name := "copy", desc := "(IIIII)I" } : Jvm.MethodName) ({ cls := "CoinNotThere", name := "copy", desc := "(IIIII)I" } : Jvm.MethodName)) ∈ lw_all := lw_g (lw_at lw_m4 227 rfl) rfl
theorem q996 : (Jvm.Cond.codeWith ({ cls := "CoinNotThere", name := "copy", desc := "(IIIII)I" } : Jvm.MethodName) prog_1_method_69_code (7 : Nat) (Option.some Jvm.ClassFile.FieldType.int) [((16 : Nat), (42 : Nat), (45 : Nat), (347 : Nat)), ((16 : Nat), (42 : Nat), (50 : Nat), (351 : Nat)), ((16 : Nat), (42 : Nat), (55 : Nat), (353 : Nat))]) ∈ lw_all := lw_g (lw_at lw_m4 228 rfl) rfl
theorem q997 : (Jvm.Cond.classLink "CoinNotThere" (351 : Nat) "java/lang/ArrayStoreException") ∈ lw_all := lw_g (lw_at lw_m4 229 rfl) rfl
theorem q1011 : (Jvm.Cond.classLink "CoinNotThere" (353 : Nat) "java/lang/IndexOutOfBoundsException") ∈ lw_all := lw_g (lw_at lw_m5 3 rfl) rfl
theorem q1386 : (Jvm.Cond.castable "CoinNotThere" "java/lang/Object") ∈ lw_tbl := lw_at lw_m6 138 rfl
theorem in_X0 : ∀ w ∈ wsX00, w ∈ lw_all := lw_in wsX00 [301, 303, 305, 307, 309, 311, 313, 315, 317, 319, 321, 323, 325, 327, 329, 331, 333, 335, 337, 339, 341, 343, 345] (by decide +kernel) (by decide +kernel)
