/-! ReadingStages -/
set_option maxRecDepth 100000
def RX0 : String := "ReadingStages"
def TX0 : u_T := fun k => match k with
  | 0 => ("ReadingStages", "now", "LReadingStages$House;", true)
  | 1 => ("ReadingStages", "rules", "[LReadingStages$Rule;", true)
  | 2 => ("ReadingStages", "strengths", "[B", true)
  | 3 => ("ReadingStages", "lasts", "[B", true)
  | 4 => ("ReadingStages", "fresh", "[I", true)
  | 5 => ("ReadingStages", "again", "[I", true)
  | 6 => ("ReadingStages", "lost", "[I", true)
  | 7 => ("ReadingStages", "kept", "[I", true)
  | 8 => ("ReadingStages", "mind", "LReadingStages$Board;", true)
  | 9 => ("ReadingStages", "best", "LReadingStages$Board;", true)
  | 10 => ("ReadingStages", "bestPeak", "I", false)
  | 11 => ("ReadingStages", "bestLoss", "I", false)
  | 12 => ("ReadingStages", "counted", "I", false)
  | 13 => ("ReadingStages", "fitting", "I", false)
  | 14 => ("ReadingStages", "past", "[LReadingStages$House;", true)
  | 15 => ("ReadingStages", "undoMany", "I", false)
  | 16 => ("ReadingStages", "fault", "LReadingStages$Fault;", true)
  | 17 => ("ReadingStages", "tape", "LReadingStages$Letters;", true)
  | 18 => ("ReadingStages", "reads", "I", false)
  | 19 => ("ReadingStages", "got", "LReadingStages$House;", true)
  | 20 => ("ReadingStages", "keptHouse", "LReadingStages$House;", true)
  | 21 => ("ReadingStages", "keptPast", "[LReadingStages$House;", true)
  | 22 => ("ReadingStages", "keptMany", "I", false)
  | 23 => ("ReadingStages", "isKept", "Z", false)
  | _ => ("ReadingStages", "sheets", "[LReadingStages$Sheet;", true)
def tyX0 : Nat → FieldType := fun k => match k with
  | 0 => .object "ReadingStages$House"
  | 1 => .array (.object "ReadingStages$Rule")
  | 2 => .array .byte
  | 3 => .array .byte
  | 4 => .array .int
  | 5 => .array .int
  | 6 => .array .int
  | 7 => .array .int
  | 8 => .object "ReadingStages$Board"
  | 9 => .object "ReadingStages$Board"
  | 10 => .int
  | 11 => .int
  | 12 => .int
  | 13 => .int
  | 14 => .array (.object "ReadingStages$House")
  | 15 => .int
  | 16 => .object "ReadingStages$Fault"
  | 17 => .object "ReadingStages$Letters"
  | 18 => .int
  | 19 => .object "ReadingStages$House"
  | 20 => .object "ReadingStages$House"
  | 21 => .array (.object "ReadingStages$House")
  | 22 => .int
  | 23 => .boolean
  | _ => .array (.object "ReadingStages$Sheet")
abbrev wsX00 : List Cond := u_ws RX0 TX0 25
set_option maxRecDepth 100000 in
theorem nmX0 : ∀ a, a < 25 → ∀ b, b < 25 → a ≠ b → (TX0 a).2.1 ≠ (TX0 b).2.1 := by decide +kernel
set_option maxRecDepth 100000 in
theorem tyX0_ok : ∀ k, k < 25 → parseFieldDescriptor (TX0 k).2.2.1 = some (tyX0 k) := by decide +kernel
abbrev cX0_init : ByteArray := prog_1_method_4_code
def yX0_init : MethodName := ⟨RX0, "<init>", "()V"⟩
def dkwX0_init_11 : List UInt8 := [42, 186, 0, 96, 0, 0, 83, 177]
abbrev dktX0_init_11 : List UInt8 := dkwX0_init_11 ++ []
def dkwX0_init_10 : List UInt8 := [42, 186, 0, 92, 0, 0, 83, 42, 180, 0, 24, 4, 42, 186, 0, 95, 0, 0, 83, 42, 180, 0, 24, 5]
abbrev dktX0_init_10 : List UInt8 := dkwX0_init_10 ++ dktX0_init_11
def dkwX0_init_9 : List UInt8 := [42, 180, 0, 82, 27, 187, 0, 15, 89, 183, 0, 17, 83, 132, 1, 1, 167, 255, 221, 42, 180, 0, 24, 3]
abbrev dktX0_init_9 : List UInt8 := dkwX0_init_9 ++ dktX0_init_10
def dkwX0_init_8 : List UInt8 := [167, 255, 235, 3, 60, 27, 16, 6, 162, 0, 35, 42, 180, 0, 58, 27, 187, 0, 15, 89, 183, 0, 17, 83]
abbrev dktX0_init_8 : List UInt8 := dkwX0_init_8 ++ dktX0_init_9
def dkwX0_init_7 : List UInt8 := [60, 27, 7, 162, 0, 22, 42, 180, 0, 87, 27, 187, 0, 85, 89, 183, 0, 91, 83, 132, 1, 1]
abbrev dktX0_init_7 : List UInt8 := dkwX0_init_7 ++ dktX0_init_8
def dkwX0_init_6 : List UInt8 := [183, 0, 17, 181, 0, 79, 42, 16, 6, 189, 0, 15, 181, 0, 82, 42, 7, 189, 0, 85, 181, 0, 87, 3]
abbrev dktX0_init_6 : List UInt8 := dkwX0_init_6 ++ dktX0_init_7
def dkwX0_init_5 : List UInt8 := [183, 0, 71, 181, 0, 72, 42, 187, 0, 15, 89, 183, 0, 17, 181, 0, 76, 42, 187, 0, 15, 89]
abbrev dktX0_init_5 : List UInt8 := dkwX0_init_5 ++ dktX0_init_6
def dkwX0_init_4 : List UInt8 := [189, 0, 15, 181, 0, 58, 42, 187, 0, 62, 89, 183, 0, 64, 181, 0, 65, 42, 187, 0, 69, 89]
abbrev dktX0_init_4 : List UInt8 := dkwX0_init_4 ++ dktX0_init_5
def dkwX0_init_3 : List UInt8 := [187, 0, 48, 89, 183, 0, 50, 181, 0, 51, 42, 187, 0, 48, 89, 183, 0, 50, 181, 0, 55, 42, 16, 6]
abbrev dktX0_init_3 : List UInt8 := dkwX0_init_3 ++ dktX0_init_4
def dkwX0_init_2 : List UInt8 := [16, 7, 188, 10, 181, 0, 39, 42, 16, 7, 188, 10, 181, 0, 42, 42, 16, 7, 188, 10, 181, 0, 45, 42]
abbrev dktX0_init_2 : List UInt8 := dkwX0_init_2 ++ dktX0_init_3
def dkwX0_init_1 : List UInt8 := [16, 20, 188, 8, 181, 0, 28, 42, 16, 20, 188, 8, 181, 0, 32, 42, 16, 7, 188, 10, 181, 0, 35, 42]
abbrev dktX0_init_1 : List UInt8 := dkwX0_init_1 ++ dktX0_init_2
def dkwX0_init_0 : List UInt8 := [42, 183, 0, 9, 42, 187, 0, 15, 89, 183, 0, 17, 181, 0, 18, 42, 6, 189, 0, 22, 181, 0, 24, 42]
abbrev dktX0_init_0 : List UInt8 := dkwX0_init_0 ++ dktX0_init_1
theorem dksX0_init_0 : cX0_init.data.toList.drop 0 = dktX0_init_0 := by decide +kernel
theorem dksX0_init_1 : cX0_init.data.toList.drop 24 = dktX0_init_1 := dk_seg dksX0_init_0 24 rfl rfl
theorem dksX0_init_2 : cX0_init.data.toList.drop 48 = dktX0_init_2 := dk_seg dksX0_init_1 24 rfl rfl
theorem dksX0_init_3 : cX0_init.data.toList.drop 72 = dktX0_init_3 := dk_seg dksX0_init_2 24 rfl rfl
theorem dksX0_init_4 : cX0_init.data.toList.drop 96 = dktX0_init_4 := dk_seg dksX0_init_3 24 rfl rfl
theorem dksX0_init_5 : cX0_init.data.toList.drop 118 = dktX0_init_5 := dk_seg dksX0_init_4 22 rfl rfl
theorem dksX0_init_6 : cX0_init.data.toList.drop 140 = dktX0_init_6 := dk_seg dksX0_init_5 22 rfl rfl
theorem dksX0_init_7 : cX0_init.data.toList.drop 164 = dktX0_init_7 := dk_seg dksX0_init_6 24 rfl rfl
theorem dksX0_init_8 : cX0_init.data.toList.drop 186 = dktX0_init_8 := dk_seg dksX0_init_7 22 rfl rfl
theorem dksX0_init_9 : cX0_init.data.toList.drop 210 = dktX0_init_9 := dk_seg dksX0_init_8 24 rfl rfl
theorem dksX0_init_10 : cX0_init.data.toList.drop 234 = dktX0_init_10 := dk_seg dksX0_init_9 24 rfl rfl
theorem dksX0_init_11 : cX0_init.data.toList.drop 258 = dktX0_init_11 := dk_seg dksX0_init_10 24 rfl rfl
theorem dX0_init_0 : decode cX0_init 0 = .ok (.aload_n 0, 1) := dk_42 (dk_at dksX0_init_0 0 rfl rfl)
theorem dX0_init_1 : decode cX0_init 1 = .ok (.invokespecial 9, 3) := dk_183 0 9 (dk_at dksX0_init_0 1 rfl rfl)
theorem dX0_init_4 : decode cX0_init 4 = .ok (.aload_n 0, 1) := dk_42 (dk_at dksX0_init_0 4 rfl rfl)
theorem dX0_init_5 : decode cX0_init 5 = .ok (.new 15, 3) := dk_187 0 15 (dk_at dksX0_init_0 5 rfl rfl)
theorem dX0_init_8 : decode cX0_init 8 = .ok (.dup, 1) := dk_89 (dk_at dksX0_init_0 8 rfl rfl)
theorem dX0_init_9 : decode cX0_init 9 = .ok (.invokespecial 17, 3) := dk_183 0 17 (dk_at dksX0_init_0 9 rfl rfl)
theorem dX0_init_12 : decode cX0_init 12 = .ok (.putfield 18, 3) := dk_181 0 18 (dk_at dksX0_init_0 12 rfl rfl)
theorem dX0_init_15 : decode cX0_init 15 = .ok (.aload_n 0, 1) := dk_42 (dk_at dksX0_init_0 15 rfl rfl)
theorem dX0_init_16 : decode cX0_init 16 = .ok (.iconst 3, 1) := dk_6 (dk_at dksX0_init_0 16 rfl rfl)
theorem dX0_init_17 : decode cX0_init 17 = .ok (.anewarray 22, 3) := dk_189 0 22 (dk_at dksX0_init_0 17 rfl rfl)
theorem dX0_init_20 : decode cX0_init 20 = .ok (.putfield 24, 3) := dk_181 0 24 (dk_at dksX0_init_0 20 rfl rfl)
theorem dX0_init_23 : decode cX0_init 23 = .ok (.aload_n 0, 1) := dk_42 (dk_at dksX0_init_0 23 rfl rfl)
theorem dX0_init_24 : decode cX0_init 24 = .ok (.bipush 20, 2) := dk_16 20 (dk_at dksX0_init_1 0 rfl rfl)
theorem dX0_init_26 : decode cX0_init 26 = .ok (.newarray .byte, 2) := dk_188_8 (dk_at dksX0_init_1 2 rfl rfl)
theorem dX0_init_28 : decode cX0_init 28 = .ok (.putfield 28, 3) := dk_181 0 28 (dk_at dksX0_init_1 4 rfl rfl)
theorem dX0_init_31 : decode cX0_init 31 = .ok (.aload_n 0, 1) := dk_42 (dk_at dksX0_init_1 7 rfl rfl)
theorem dX0_init_32 : decode cX0_init 32 = .ok (.bipush 20, 2) := dk_16 20 (dk_at dksX0_init_1 8 rfl rfl)
theorem dX0_init_34 : decode cX0_init 34 = .ok (.newarray .byte, 2) := dk_188_8 (dk_at dksX0_init_1 10 rfl rfl)
theorem dX0_init_36 : decode cX0_init 36 = .ok (.putfield 32, 3) := dk_181 0 32 (dk_at dksX0_init_1 12 rfl rfl)
theorem dX0_init_39 : decode cX0_init 39 = .ok (.aload_n 0, 1) := dk_42 (dk_at dksX0_init_1 15 rfl rfl)
theorem dX0_init_40 : decode cX0_init 40 = .ok (.bipush 7, 2) := dk_16 7 (dk_at dksX0_init_1 16 rfl rfl)
theorem dX0_init_42 : decode cX0_init 42 = .ok (.newarray .int, 2) := dk_188_10 (dk_at dksX0_init_1 18 rfl rfl)
theorem dX0_init_44 : decode cX0_init 44 = .ok (.putfield 35, 3) := dk_181 0 35 (dk_at dksX0_init_1 20 rfl rfl)
theorem dX0_init_47 : decode cX0_init 47 = .ok (.aload_n 0, 1) := dk_42 (dk_at dksX0_init_1 23 rfl rfl)
theorem dX0_init_48 : decode cX0_init 48 = .ok (.bipush 7, 2) := dk_16 7 (dk_at dksX0_init_2 0 rfl rfl)
theorem dX0_init_50 : decode cX0_init 50 = .ok (.newarray .int, 2) := dk_188_10 (dk_at dksX0_init_2 2 rfl rfl)
theorem dX0_init_52 : decode cX0_init 52 = .ok (.putfield 39, 3) := dk_181 0 39 (dk_at dksX0_init_2 4 rfl rfl)
theorem dX0_init_55 : decode cX0_init 55 = .ok (.aload_n 0, 1) := dk_42 (dk_at dksX0_init_2 7 rfl rfl)
theorem dX0_init_56 : decode cX0_init 56 = .ok (.bipush 7, 2) := dk_16 7 (dk_at dksX0_init_2 8 rfl rfl)
theorem dX0_init_58 : decode cX0_init 58 = .ok (.newarray .int, 2) := dk_188_10 (dk_at dksX0_init_2 10 rfl rfl)
theorem dX0_init_60 : decode cX0_init 60 = .ok (.putfield 42, 3) := dk_181 0 42 (dk_at dksX0_init_2 12 rfl rfl)
theorem dX0_init_63 : decode cX0_init 63 = .ok (.aload_n 0, 1) := dk_42 (dk_at dksX0_init_2 15 rfl rfl)
theorem dX0_init_64 : decode cX0_init 64 = .ok (.bipush 7, 2) := dk_16 7 (dk_at dksX0_init_2 16 rfl rfl)
theorem dX0_init_66 : decode cX0_init 66 = .ok (.newarray .int, 2) := dk_188_10 (dk_at dksX0_init_2 18 rfl rfl)
theorem dX0_init_68 : decode cX0_init 68 = .ok (.putfield 45, 3) := dk_181 0 45 (dk_at dksX0_init_2 20 rfl rfl)
theorem dX0_init_71 : decode cX0_init 71 = .ok (.aload_n 0, 1) := dk_42 (dk_at dksX0_init_2 23 rfl rfl)
theorem dX0_init_72 : decode cX0_init 72 = .ok (.new 48, 3) := dk_187 0 48 (dk_at dksX0_init_3 0 rfl rfl)
theorem dX0_init_75 : decode cX0_init 75 = .ok (.dup, 1) := dk_89 (dk_at dksX0_init_3 3 rfl rfl)
theorem dX0_init_76 : decode cX0_init 76 = .ok (.invokespecial 50, 3) := dk_183 0 50 (dk_at dksX0_init_3 4 rfl rfl)
theorem dX0_init_79 : decode cX0_init 79 = .ok (.putfield 51, 3) := dk_181 0 51 (dk_at dksX0_init_3 7 rfl rfl)
theorem dX0_init_82 : decode cX0_init 82 = .ok (.aload_n 0, 1) := dk_42 (dk_at dksX0_init_3 10 rfl rfl)
theorem dX0_init_83 : decode cX0_init 83 = .ok (.new 48, 3) := dk_187 0 48 (dk_at dksX0_init_3 11 rfl rfl)
theorem dX0_init_86 : decode cX0_init 86 = .ok (.dup, 1) := dk_89 (dk_at dksX0_init_3 14 rfl rfl)
theorem dX0_init_87 : decode cX0_init 87 = .ok (.invokespecial 50, 3) := dk_183 0 50 (dk_at dksX0_init_3 15 rfl rfl)
theorem dX0_init_90 : decode cX0_init 90 = .ok (.putfield 55, 3) := dk_181 0 55 (dk_at dksX0_init_3 18 rfl rfl)
theorem dX0_init_93 : decode cX0_init 93 = .ok (.aload_n 0, 1) := dk_42 (dk_at dksX0_init_3 21 rfl rfl)
theorem dX0_init_94 : decode cX0_init 94 = .ok (.bipush 6, 2) := dk_16 6 (dk_at dksX0_init_3 22 rfl rfl)
theorem dX0_init_96 : decode cX0_init 96 = .ok (.anewarray 15, 3) := dk_189 0 15 (dk_at dksX0_init_4 0 rfl rfl)
theorem dX0_init_99 : decode cX0_init 99 = .ok (.putfield 58, 3) := dk_181 0 58 (dk_at dksX0_init_4 3 rfl rfl)
theorem dX0_init_102 : decode cX0_init 102 = .ok (.aload_n 0, 1) := dk_42 (dk_at dksX0_init_4 6 rfl rfl)
theorem dX0_init_103 : decode cX0_init 103 = .ok (.new 62, 3) := dk_187 0 62 (dk_at dksX0_init_4 7 rfl rfl)
theorem dX0_init_106 : decode cX0_init 106 = .ok (.dup, 1) := dk_89 (dk_at dksX0_init_4 10 rfl rfl)
theorem dX0_init_107 : decode cX0_init 107 = .ok (.invokespecial 64, 3) := dk_183 0 64 (dk_at dksX0_init_4 11 rfl rfl)
theorem dX0_init_110 : decode cX0_init 110 = .ok (.putfield 65, 3) := dk_181 0 65 (dk_at dksX0_init_4 14 rfl rfl)
theorem dX0_init_113 : decode cX0_init 113 = .ok (.aload_n 0, 1) := dk_42 (dk_at dksX0_init_4 17 rfl rfl)
theorem dX0_init_114 : decode cX0_init 114 = .ok (.new 69, 3) := dk_187 0 69 (dk_at dksX0_init_4 18 rfl rfl)
theorem dX0_init_117 : decode cX0_init 117 = .ok (.dup, 1) := dk_89 (dk_at dksX0_init_4 21 rfl rfl)
theorem dX0_init_118 : decode cX0_init 118 = .ok (.invokespecial 71, 3) := dk_183 0 71 (dk_at dksX0_init_5 0 rfl rfl)
theorem dX0_init_121 : decode cX0_init 121 = .ok (.putfield 72, 3) := dk_181 0 72 (dk_at dksX0_init_5 3 rfl rfl)
theorem dX0_init_124 : decode cX0_init 124 = .ok (.aload_n 0, 1) := dk_42 (dk_at dksX0_init_5 6 rfl rfl)
theorem dX0_init_125 : decode cX0_init 125 = .ok (.new 15, 3) := dk_187 0 15 (dk_at dksX0_init_5 7 rfl rfl)
theorem dX0_init_128 : decode cX0_init 128 = .ok (.dup, 1) := dk_89 (dk_at dksX0_init_5 10 rfl rfl)
theorem dX0_init_129 : decode cX0_init 129 = .ok (.invokespecial 17, 3) := dk_183 0 17 (dk_at dksX0_init_5 11 rfl rfl)
theorem dX0_init_132 : decode cX0_init 132 = .ok (.putfield 76, 3) := dk_181 0 76 (dk_at dksX0_init_5 14 rfl rfl)
theorem dX0_init_135 : decode cX0_init 135 = .ok (.aload_n 0, 1) := dk_42 (dk_at dksX0_init_5 17 rfl rfl)
theorem dX0_init_136 : decode cX0_init 136 = .ok (.new 15, 3) := dk_187 0 15 (dk_at dksX0_init_5 18 rfl rfl)
theorem dX0_init_139 : decode cX0_init 139 = .ok (.dup, 1) := dk_89 (dk_at dksX0_init_5 21 rfl rfl)
theorem dX0_init_140 : decode cX0_init 140 = .ok (.invokespecial 17, 3) := dk_183 0 17 (dk_at dksX0_init_6 0 rfl rfl)
theorem dX0_init_143 : decode cX0_init 143 = .ok (.putfield 79, 3) := dk_181 0 79 (dk_at dksX0_init_6 3 rfl rfl)
theorem dX0_init_146 : decode cX0_init 146 = .ok (.aload_n 0, 1) := dk_42 (dk_at dksX0_init_6 6 rfl rfl)
theorem dX0_init_147 : decode cX0_init 147 = .ok (.bipush 6, 2) := dk_16 6 (dk_at dksX0_init_6 7 rfl rfl)
theorem dX0_init_149 : decode cX0_init 149 = .ok (.anewarray 15, 3) := dk_189 0 15 (dk_at dksX0_init_6 9 rfl rfl)
theorem dX0_init_152 : decode cX0_init 152 = .ok (.putfield 82, 3) := dk_181 0 82 (dk_at dksX0_init_6 12 rfl rfl)
theorem dX0_init_155 : decode cX0_init 155 = .ok (.aload_n 0, 1) := dk_42 (dk_at dksX0_init_6 15 rfl rfl)
theorem dX0_init_156 : decode cX0_init 156 = .ok (.iconst 4, 1) := dk_7 (dk_at dksX0_init_6 16 rfl rfl)
theorem dX0_init_157 : decode cX0_init 157 = .ok (.anewarray 85, 3) := dk_189 0 85 (dk_at dksX0_init_6 17 rfl rfl)
theorem dX0_init_160 : decode cX0_init 160 = .ok (.putfield 87, 3) := dk_181 0 87 (dk_at dksX0_init_6 20 rfl rfl)
theorem dX0_init_163 : decode cX0_init 163 = .ok (.iconst 0, 1) := dk_3 (dk_at dksX0_init_6 23 rfl rfl)
theorem dX0_init_164 : decode cX0_init 164 = .ok (.istore_n 1, 1) := dk_60 (dk_at dksX0_init_7 0 rfl rfl)
theorem dX0_init_165 : decode cX0_init 165 = .ok (.iload_n 1, 1) := dk_27 (dk_at dksX0_init_7 1 rfl rfl)
theorem dX0_init_166 : decode cX0_init 166 = .ok (.iconst 4, 1) := dk_7 (dk_at dksX0_init_7 2 rfl rfl)
theorem dX0_init_167 : decode cX0_init 167 = .ok (.if_icmp .ge 22, 3) := dk_162 0 22 (dk_at dksX0_init_7 3 rfl rfl)
theorem dX0_init_170 : decode cX0_init 170 = .ok (.aload_n 0, 1) := dk_42 (dk_at dksX0_init_7 6 rfl rfl)
theorem dX0_init_171 : decode cX0_init 171 = .ok (.getfield 87, 3) := dk_180 0 87 (dk_at dksX0_init_7 7 rfl rfl)
theorem dX0_init_174 : decode cX0_init 174 = .ok (.iload_n 1, 1) := dk_27 (dk_at dksX0_init_7 10 rfl rfl)
theorem dX0_init_175 : decode cX0_init 175 = .ok (.new 85, 3) := dk_187 0 85 (dk_at dksX0_init_7 11 rfl rfl)
theorem dX0_init_178 : decode cX0_init 178 = .ok (.dup, 1) := dk_89 (dk_at dksX0_init_7 14 rfl rfl)
theorem dX0_init_179 : decode cX0_init 179 = .ok (.invokespecial 91, 3) := dk_183 0 91 (dk_at dksX0_init_7 15 rfl rfl)
theorem dX0_init_182 : decode cX0_init 182 = .ok (.aastore, 1) := dk_83 (dk_at dksX0_init_7 18 rfl rfl)
theorem dX0_init_183 : decode cX0_init 183 = .ok (.iinc 1 1, 3) := dk_132 1 1 (dk_at dksX0_init_7 19 rfl rfl)
theorem dX0_init_186 : decode cX0_init 186 = .ok (.goto (-21), 3) := dk_167 255 235 (dk_at dksX0_init_8 0 rfl rfl)
theorem dX0_init_189 : decode cX0_init 189 = .ok (.iconst 0, 1) := dk_3 (dk_at dksX0_init_8 3 rfl rfl)
theorem dX0_init_190 : decode cX0_init 190 = .ok (.istore_n 1, 1) := dk_60 (dk_at dksX0_init_8 4 rfl rfl)
theorem dX0_init_191 : decode cX0_init 191 = .ok (.iload_n 1, 1) := dk_27 (dk_at dksX0_init_8 5 rfl rfl)
theorem dX0_init_192 : decode cX0_init 192 = .ok (.bipush 6, 2) := dk_16 6 (dk_at dksX0_init_8 6 rfl rfl)
theorem dX0_init_194 : decode cX0_init 194 = .ok (.if_icmp .ge 35, 3) := dk_162 0 35 (dk_at dksX0_init_8 8 rfl rfl)
theorem dX0_init_197 : decode cX0_init 197 = .ok (.aload_n 0, 1) := dk_42 (dk_at dksX0_init_8 11 rfl rfl)
theorem dX0_init_198 : decode cX0_init 198 = .ok (.getfield 58, 3) := dk_180 0 58 (dk_at dksX0_init_8 12 rfl rfl)
theorem dX0_init_201 : decode cX0_init 201 = .ok (.iload_n 1, 1) := dk_27 (dk_at dksX0_init_8 15 rfl rfl)
theorem dX0_init_202 : decode cX0_init 202 = .ok (.new 15, 3) := dk_187 0 15 (dk_at dksX0_init_8 16 rfl rfl)
theorem dX0_init_205 : decode cX0_init 205 = .ok (.dup, 1) := dk_89 (dk_at dksX0_init_8 19 rfl rfl)
theorem dX0_init_206 : decode cX0_init 206 = .ok (.invokespecial 17, 3) := dk_183 0 17 (dk_at dksX0_init_8 20 rfl rfl)
theorem dX0_init_209 : decode cX0_init 209 = .ok (.aastore, 1) := dk_83 (dk_at dksX0_init_8 23 rfl rfl)
theorem dX0_init_210 : decode cX0_init 210 = .ok (.aload_n 0, 1) := dk_42 (dk_at dksX0_init_9 0 rfl rfl)
theorem dX0_init_211 : decode cX0_init 211 = .ok (.getfield 82, 3) := dk_180 0 82 (dk_at dksX0_init_9 1 rfl rfl)
theorem dX0_init_214 : decode cX0_init 214 = .ok (.iload_n 1, 1) := dk_27 (dk_at dksX0_init_9 4 rfl rfl)
theorem dX0_init_215 : decode cX0_init 215 = .ok (.new 15, 3) := dk_187 0 15 (dk_at dksX0_init_9 5 rfl rfl)
theorem dX0_init_218 : decode cX0_init 218 = .ok (.dup, 1) := dk_89 (dk_at dksX0_init_9 8 rfl rfl)
theorem dX0_init_219 : decode cX0_init 219 = .ok (.invokespecial 17, 3) := dk_183 0 17 (dk_at dksX0_init_9 9 rfl rfl)
theorem dX0_init_222 : decode cX0_init 222 = .ok (.aastore, 1) := dk_83 (dk_at dksX0_init_9 12 rfl rfl)
theorem dX0_init_223 : decode cX0_init 223 = .ok (.iinc 1 1, 3) := dk_132 1 1 (dk_at dksX0_init_9 13 rfl rfl)
theorem dX0_init_226 : decode cX0_init 226 = .ok (.goto (-35), 3) := dk_167 255 221 (dk_at dksX0_init_9 16 rfl rfl)
theorem dX0_init_229 : decode cX0_init 229 = .ok (.aload_n 0, 1) := dk_42 (dk_at dksX0_init_9 19 rfl rfl)
theorem dX0_init_230 : decode cX0_init 230 = .ok (.getfield 24, 3) := dk_180 0 24 (dk_at dksX0_init_9 20 rfl rfl)
theorem dX0_init_233 : decode cX0_init 233 = .ok (.iconst 0, 1) := dk_3 (dk_at dksX0_init_9 23 rfl rfl)
theorem dX0_init_234 : decode cX0_init 234 = .ok (.aload_n 0, 1) := dk_42 (dk_at dksX0_init_10 0 rfl rfl)
theorem dX0_init_235 : decode cX0_init 235 = .ok (.invokedynamic 92, 5) := by decide +kernel
theorem dX0_init_240 : decode cX0_init 240 = .ok (.aastore, 1) := dk_83 (dk_at dksX0_init_10 6 rfl rfl)
theorem dX0_init_241 : decode cX0_init 241 = .ok (.aload_n 0, 1) := dk_42 (dk_at dksX0_init_10 7 rfl rfl)
theorem dX0_init_242 : decode cX0_init 242 = .ok (.getfield 24, 3) := dk_180 0 24 (dk_at dksX0_init_10 8 rfl rfl)
theorem dX0_init_245 : decode cX0_init 245 = .ok (.iconst 1, 1) := dk_4 (dk_at dksX0_init_10 11 rfl rfl)
theorem dX0_init_246 : decode cX0_init 246 = .ok (.aload_n 0, 1) := dk_42 (dk_at dksX0_init_10 12 rfl rfl)
theorem dX0_init_247 : decode cX0_init 247 = .ok (.invokedynamic 95, 5) := by decide +kernel
theorem dX0_init_252 : decode cX0_init 252 = .ok (.aastore, 1) := dk_83 (dk_at dksX0_init_10 18 rfl rfl)
theorem dX0_init_253 : decode cX0_init 253 = .ok (.aload_n 0, 1) := dk_42 (dk_at dksX0_init_10 19 rfl rfl)
theorem dX0_init_254 : decode cX0_init 254 = .ok (.getfield 24, 3) := dk_180 0 24 (dk_at dksX0_init_10 20 rfl rfl)
theorem dX0_init_257 : decode cX0_init 257 = .ok (.iconst 2, 1) := dk_5 (dk_at dksX0_init_10 23 rfl rfl)
theorem dX0_init_258 : decode cX0_init 258 = .ok (.aload_n 0, 1) := dk_42 (dk_at dksX0_init_11 0 rfl rfl)
theorem dX0_init_259 : decode cX0_init 259 = .ok (.invokedynamic 96, 5) := by decide +kernel
theorem dX0_init_264 : decode cX0_init 264 = .ok (.aastore, 1) := dk_83 (dk_at dksX0_init_11 6 rfl rfl)
theorem dX0_init_265 : decode cX0_init 265 = .ok (.return_, 1) := dk_177 (dk_at dksX0_init_11 7 rfl rfl)
abbrev cX0_lambda_new_0 : ByteArray := prog_1_method_74_code
def yX0_lambda_new_0 : MethodName := ⟨RX0, "lambda$new$0", "(I)I"⟩
def dkwX0_lambda_new_0_0 : List UInt8 := [42, 180, 0, 18, 180, 0, 251, 172]
abbrev dktX0_lambda_new_0_0 : List UInt8 := dkwX0_lambda_new_0_0 ++ []
theorem dksX0_lambda_new_0_0 : cX0_lambda_new_0.data.toList.drop 0 = dktX0_lambda_new_0_0 := by decide +kernel
theorem dX0_lambda_new_0_0 : decode cX0_lambda_new_0 0 = .ok (.aload_n 0, 1) := dk_42 (dk_at dksX0_lambda_new_0_0 0 rfl rfl)
theorem dX0_lambda_new_0_1 : decode cX0_lambda_new_0 1 = .ok (.getfield 18, 3) := dk_180 0 18 (dk_at dksX0_lambda_new_0_0 1 rfl rfl)
theorem dX0_lambda_new_0_4 : decode cX0_lambda_new_0 4 = .ok (.getfield 251, 3) := dk_180 0 251 (dk_at dksX0_lambda_new_0_0 4 rfl rfl)
theorem dX0_lambda_new_0_7 : decode cX0_lambda_new_0 7 = .ok (.ireturn, 1) := dk_172 (dk_at dksX0_lambda_new_0_0 7 rfl rfl)
abbrev cX0_lambda_new_1 : ByteArray := prog_1_method_73_code
def yX0_lambda_new_1 : MethodName := ⟨RX0, "lambda$new$1", "(I)I"⟩
def dkwX0_lambda_new_1_0 : List UInt8 := [27, 42, 180, 0, 18, 180, 0, 251, 104, 172]
abbrev dktX0_lambda_new_1_0 : List UInt8 := dkwX0_lambda_new_1_0 ++ []
theorem dksX0_lambda_new_1_0 : cX0_lambda_new_1.data.toList.drop 0 = dktX0_lambda_new_1_0 := by decide +kernel
theorem dX0_lambda_new_1_0 : decode cX0_lambda_new_1 0 = .ok (.iload_n 1, 1) := dk_27 (dk_at dksX0_lambda_new_1_0 0 rfl rfl)
theorem dX0_lambda_new_1_1 : decode cX0_lambda_new_1 1 = .ok (.aload_n 0, 1) := dk_42 (dk_at dksX0_lambda_new_1_0 1 rfl rfl)
theorem dX0_lambda_new_1_2 : decode cX0_lambda_new_1 2 = .ok (.getfield 18, 3) := dk_180 0 18 (dk_at dksX0_lambda_new_1_0 2 rfl rfl)
theorem dX0_lambda_new_1_5 : decode cX0_lambda_new_1 5 = .ok (.getfield 251, 3) := dk_180 0 251 (dk_at dksX0_lambda_new_1_0 5 rfl rfl)
theorem dX0_lambda_new_1_8 : decode cX0_lambda_new_1 8 = .ok (.imul, 1) := dk_104 (dk_at dksX0_lambda_new_1_0 8 rfl rfl)
theorem dX0_lambda_new_1_9 : decode cX0_lambda_new_1 9 = .ok (.ireturn, 1) := dk_172 (dk_at dksX0_lambda_new_1_0 9 rfl rfl)
abbrev cX0_lambda_new_2 : ByteArray := prog_1_method_72_code
def yX0_lambda_new_2 : MethodName := ⟨RX0, "lambda$new$2", "(I)I"⟩
def dkwX0_lambda_new_2_0 : List UInt8 := [42, 180, 0, 18, 180, 0, 251, 27, 4, 100, 120, 172]
abbrev dktX0_lambda_new_2_0 : List UInt8 := dkwX0_lambda_new_2_0 ++ []
theorem dksX0_lambda_new_2_0 : cX0_lambda_new_2.data.toList.drop 0 = dktX0_lambda_new_2_0 := by decide +kernel
theorem dX0_lambda_new_2_0 : decode cX0_lambda_new_2 0 = .ok (.aload_n 0, 1) := dk_42 (dk_at dksX0_lambda_new_2_0 0 rfl rfl)
theorem dX0_lambda_new_2_1 : decode cX0_lambda_new_2 1 = .ok (.getfield 18, 3) := dk_180 0 18 (dk_at dksX0_lambda_new_2_0 1 rfl rfl)
theorem dX0_lambda_new_2_4 : decode cX0_lambda_new_2 4 = .ok (.getfield 251, 3) := dk_180 0 251 (dk_at dksX0_lambda_new_2_0 4 rfl rfl)
theorem dX0_lambda_new_2_7 : decode cX0_lambda_new_2 7 = .ok (.iload_n 1, 1) := dk_27 (dk_at dksX0_lambda_new_2_0 7 rfl rfl)
theorem dX0_lambda_new_2_8 : decode cX0_lambda_new_2 8 = .ok (.iconst 1, 1) := dk_4 (dk_at dksX0_lambda_new_2_0 8 rfl rfl)
theorem dX0_lambda_new_2_9 : decode cX0_lambda_new_2 9 = .ok (.isub, 1) := dk_100 (dk_at dksX0_lambda_new_2_0 9 rfl rfl)
theorem dX0_lambda_new_2_10 : decode cX0_lambda_new_2 10 = .ok (.ishl, 1) := dk_120 (dk_at dksX0_lambda_new_2_0 10 rfl rfl)
theorem dX0_lambda_new_2_11 : decode cX0_lambda_new_2 11 = .ok (.ireturn, 1) := dk_172 (dk_at dksX0_lambda_new_2_0 11 rfl rfl)
abbrev cX0_best : ByteArray := prog_1_method_18_code
def yX0_best : MethodName := ⟨RX0, "best", "(I)I"⟩
def dkwX0_best_2 : List UInt8 := [6, 112, 4, 160, 0, 10, 42, 180, 0, 189, 167, 0, 7, 42, 180, 0, 192, 172]
abbrev dktX0_best_2 : List UInt8 := dkwX0_best_2 ++ []
def dkwX0_best_1 : List UInt8 := [167, 0, 7, 42, 182, 0, 217, 27, 6, 112, 154, 0, 13, 42, 180, 0, 55, 182, 0, 220, 167, 0, 21, 27]
abbrev dktX0_best_1 : List UInt8 := dkwX0_best_1 ++ dktX0_best_2
def dkwX0_best_0 : List UInt8 := [27, 133, 9, 20, 0, 212, 184, 0, 5, 154, 0, 5, 2, 172, 27, 6, 162, 0, 10, 42, 182, 0, 214]
abbrev dktX0_best_0 : List UInt8 := dkwX0_best_0 ++ dktX0_best_1
theorem dksX0_best_0 : cX0_best.data.toList.drop 0 = dktX0_best_0 := by decide +kernel
theorem dksX0_best_1 : cX0_best.data.toList.drop 23 = dktX0_best_1 := dk_seg dksX0_best_0 23 rfl rfl
theorem dksX0_best_2 : cX0_best.data.toList.drop 47 = dktX0_best_2 := dk_seg dksX0_best_1 24 rfl rfl
theorem dX0_best_0 : decode cX0_best 0 = .ok (.iload_n 1, 1) := dk_27 (dk_at dksX0_best_0 0 rfl rfl)
theorem dX0_best_1 : decode cX0_best 1 = .ok (.i2l, 1) := dk_133 (dk_at dksX0_best_0 1 rfl rfl)
theorem dX0_best_2 : decode cX0_best 2 = .ok (.lconst 0, 1) := dk_9 (dk_at dksX0_best_0 2 rfl rfl)
theorem dX0_best_3 : decode cX0_best 3 = .ok (.ldc2_w 212, 3) := dk_20 0 212 (dk_at dksX0_best_0 3 rfl rfl)
theorem dX0_best_6 : decode cX0_best 6 = .ok (.invokestatic 5, 3) := dk_184 0 5 (dk_at dksX0_best_0 6 rfl rfl)
theorem dX0_best_9 : decode cX0_best 9 = .ok (.ifCond .ne 5, 3) := dk_154 0 5 (dk_at dksX0_best_0 9 rfl rfl)
theorem dX0_best_12 : decode cX0_best 12 = .ok (.iconst (-1), 1) := dk_2 (dk_at dksX0_best_0 12 rfl rfl)
theorem dX0_best_13 : decode cX0_best 13 = .ok (.ireturn, 1) := dk_172 (dk_at dksX0_best_0 13 rfl rfl)
theorem dX0_best_14 : decode cX0_best 14 = .ok (.iload_n 1, 1) := dk_27 (dk_at dksX0_best_0 14 rfl rfl)
theorem dX0_best_15 : decode cX0_best 15 = .ok (.iconst 3, 1) := dk_6 (dk_at dksX0_best_0 15 rfl rfl)
theorem dX0_best_16 : decode cX0_best 16 = .ok (.if_icmp .ge 10, 3) := dk_162 0 10 (dk_at dksX0_best_0 16 rfl rfl)
theorem dX0_best_19 : decode cX0_best 19 = .ok (.aload_n 0, 1) := dk_42 (dk_at dksX0_best_0 19 rfl rfl)
theorem dX0_best_20 : decode cX0_best 20 = .ok (.invokevirtual 214, 3) := dk_182 0 214 (dk_at dksX0_best_0 20 rfl rfl)
theorem dX0_best_23 : decode cX0_best 23 = .ok (.goto 7, 3) := dk_167 0 7 (dk_at dksX0_best_1 0 rfl rfl)
theorem dX0_best_26 : decode cX0_best 26 = .ok (.aload_n 0, 1) := dk_42 (dk_at dksX0_best_1 3 rfl rfl)
theorem dX0_best_27 : decode cX0_best 27 = .ok (.invokevirtual 217, 3) := dk_182 0 217 (dk_at dksX0_best_1 4 rfl rfl)
theorem dX0_best_30 : decode cX0_best 30 = .ok (.iload_n 1, 1) := dk_27 (dk_at dksX0_best_1 7 rfl rfl)
theorem dX0_best_31 : decode cX0_best 31 = .ok (.iconst 3, 1) := dk_6 (dk_at dksX0_best_1 8 rfl rfl)
theorem dX0_best_32 : decode cX0_best 32 = .ok (.irem, 1) := dk_112 (dk_at dksX0_best_1 9 rfl rfl)
theorem dX0_best_33 : decode cX0_best 33 = .ok (.ifCond .ne 13, 3) := dk_154 0 13 (dk_at dksX0_best_1 10 rfl rfl)
theorem dX0_best_36 : decode cX0_best 36 = .ok (.aload_n 0, 1) := dk_42 (dk_at dksX0_best_1 13 rfl rfl)
theorem dX0_best_37 : decode cX0_best 37 = .ok (.getfield 55, 3) := dk_180 0 55 (dk_at dksX0_best_1 14 rfl rfl)
theorem dX0_best_40 : decode cX0_best 40 = .ok (.invokevirtual 220, 3) := dk_182 0 220 (dk_at dksX0_best_1 17 rfl rfl)
theorem dX0_best_43 : decode cX0_best 43 = .ok (.goto 21, 3) := dk_167 0 21 (dk_at dksX0_best_1 20 rfl rfl)
theorem dX0_best_46 : decode cX0_best 46 = .ok (.iload_n 1, 1) := dk_27 (dk_at dksX0_best_1 23 rfl rfl)
theorem dX0_best_47 : decode cX0_best 47 = .ok (.iconst 3, 1) := dk_6 (dk_at dksX0_best_2 0 rfl rfl)
theorem dX0_best_48 : decode cX0_best 48 = .ok (.irem, 1) := dk_112 (dk_at dksX0_best_2 1 rfl rfl)
theorem dX0_best_49 : decode cX0_best 49 = .ok (.iconst 1, 1) := dk_4 (dk_at dksX0_best_2 2 rfl rfl)
theorem dX0_best_50 : decode cX0_best 50 = .ok (.if_icmp .ne 10, 3) := dk_160 0 10 (dk_at dksX0_best_2 3 rfl rfl)
theorem dX0_best_53 : decode cX0_best 53 = .ok (.aload_n 0, 1) := dk_42 (dk_at dksX0_best_2 6 rfl rfl)
theorem dX0_best_54 : decode cX0_best 54 = .ok (.getfield 189, 3) := dk_180 0 189 (dk_at dksX0_best_2 7 rfl rfl)
theorem dX0_best_57 : decode cX0_best 57 = .ok (.goto 7, 3) := dk_167 0 7 (dk_at dksX0_best_2 10 rfl rfl)
theorem dX0_best_60 : decode cX0_best 60 = .ok (.aload_n 0, 1) := dk_42 (dk_at dksX0_best_2 13 rfl rfl)
theorem dX0_best_61 : decode cX0_best 61 = .ok (.getfield 192, 3) := dk_180 0 192 (dk_at dksX0_best_2 14 rfl rfl)
theorem dX0_best_64 : decode cX0_best 64 = .ok (.ireturn, 1) := dk_172 (dk_at dksX0_best_2 17 rfl rfl)
abbrev cX0_isIn : ByteArray := prog_1_method_1_code
def yX0_isIn : MethodName := ⟨RX0, "isIn", "(JJJ)Z"⟩
def dkwX0_isIn_0 : List UInt8 := [30, 32, 148, 155, 0, 14, 30, 22, 4, 148, 157, 0, 7, 4, 167, 0, 4, 3, 172]
abbrev dktX0_isIn_0 : List UInt8 := dkwX0_isIn_0 ++ []
theorem dksX0_isIn_0 : cX0_isIn.data.toList.drop 0 = dktX0_isIn_0 := by decide +kernel
theorem dX0_isIn_0 : decode cX0_isIn 0 = .ok (.lload_n 0, 1) := dk_30 (dk_at dksX0_isIn_0 0 rfl rfl)
theorem dX0_isIn_1 : decode cX0_isIn 1 = .ok (.lload_n 2, 1) := dk_32 (dk_at dksX0_isIn_0 1 rfl rfl)
theorem dX0_isIn_2 : decode cX0_isIn 2 = .ok (.lcmp, 1) := dk_148 (dk_at dksX0_isIn_0 2 rfl rfl)
theorem dX0_isIn_3 : decode cX0_isIn 3 = .ok (.ifCond .lt 14, 3) := dk_155 0 14 (dk_at dksX0_isIn_0 3 rfl rfl)
theorem dX0_isIn_6 : decode cX0_isIn 6 = .ok (.lload_n 0, 1) := dk_30 (dk_at dksX0_isIn_0 6 rfl rfl)
theorem dX0_isIn_7 : decode cX0_isIn 7 = .ok (.lload 4, 2) := dk_22 4 (dk_at dksX0_isIn_0 7 rfl rfl)
theorem dX0_isIn_9 : decode cX0_isIn 9 = .ok (.lcmp, 1) := dk_148 (dk_at dksX0_isIn_0 9 rfl rfl)
theorem dX0_isIn_10 : decode cX0_isIn 10 = .ok (.ifCond .gt 7, 3) := dk_157 0 7 (dk_at dksX0_isIn_0 10 rfl rfl)
theorem dX0_isIn_13 : decode cX0_isIn 13 = .ok (.iconst 1, 1) := dk_4 (dk_at dksX0_isIn_0 13 rfl rfl)
theorem dX0_isIn_14 : decode cX0_isIn 14 = .ok (.goto 4, 3) := dk_167 0 4 (dk_at dksX0_isIn_0 14 rfl rfl)
theorem dX0_isIn_17 : decode cX0_isIn 17 = .ok (.iconst 0, 1) := dk_3 (dk_at dksX0_isIn_0 17 rfl rfl)
theorem dX0_isIn_18 : decode cX0_isIn 18 = .ok (.ireturn, 1) := dk_172 (dk_at dksX0_isIn_0 18 rfl rfl)
abbrev cX0_layBest : ByteArray := prog_1_method_15_code
def yX0_layBest : MethodName := ⟨RX0, "layBest", "()V"⟩
def dkwX0_layBest_1 : List UInt8 := [186, 0, 195, 0, 0, 182, 0, 198, 177]
abbrev dktX0_layBest_1 : List UInt8 := dkwX0_layBest_1 ++ []
def dkwX0_layBest_0 : List UInt8 := [42, 180, 0, 55, 182, 0, 166, 42, 16, 21, 181, 0, 189, 42, 3, 181, 0, 192, 42, 42]
abbrev dktX0_layBest_0 : List UInt8 := dkwX0_layBest_0 ++ dktX0_layBest_1
theorem dksX0_layBest_0 : cX0_layBest.data.toList.drop 0 = dktX0_layBest_0 := by decide +kernel
theorem dksX0_layBest_1 : cX0_layBest.data.toList.drop 20 = dktX0_layBest_1 := dk_seg dksX0_layBest_0 20 rfl rfl
theorem dX0_layBest_0 : decode cX0_layBest 0 = .ok (.aload_n 0, 1) := dk_42 (dk_at dksX0_layBest_0 0 rfl rfl)
theorem dX0_layBest_1 : decode cX0_layBest 1 = .ok (.getfield 55, 3) := dk_180 0 55 (dk_at dksX0_layBest_0 1 rfl rfl)
theorem dX0_layBest_4 : decode cX0_layBest 4 = .ok (.invokevirtual 166, 3) := dk_182 0 166 (dk_at dksX0_layBest_0 4 rfl rfl)
theorem dX0_layBest_7 : decode cX0_layBest 7 = .ok (.aload_n 0, 1) := dk_42 (dk_at dksX0_layBest_0 7 rfl rfl)
theorem dX0_layBest_8 : decode cX0_layBest 8 = .ok (.bipush 21, 2) := dk_16 21 (dk_at dksX0_layBest_0 8 rfl rfl)
theorem dX0_layBest_10 : decode cX0_layBest 10 = .ok (.putfield 189, 3) := dk_181 0 189 (dk_at dksX0_layBest_0 10 rfl rfl)
theorem dX0_layBest_13 : decode cX0_layBest 13 = .ok (.aload_n 0, 1) := dk_42 (dk_at dksX0_layBest_0 13 rfl rfl)
theorem dX0_layBest_14 : decode cX0_layBest 14 = .ok (.iconst 0, 1) := dk_3 (dk_at dksX0_layBest_0 14 rfl rfl)
theorem dX0_layBest_15 : decode cX0_layBest 15 = .ok (.putfield 192, 3) := dk_181 0 192 (dk_at dksX0_layBest_0 15 rfl rfl)
theorem dX0_layBest_18 : decode cX0_layBest 18 = .ok (.aload_n 0, 1) := dk_42 (dk_at dksX0_layBest_0 18 rfl rfl)
theorem dX0_layBest_19 : decode cX0_layBest 19 = .ok (.aload_n 0, 1) := dk_42 (dk_at dksX0_layBest_0 19 rfl rfl)
theorem dX0_layBest_20 : decode cX0_layBest 20 = .ok (.invokedynamic 195, 5) := by decide +kernel
theorem dX0_layBest_25 : decode cX0_layBest 25 = .ok (.invokevirtual 198, 3) := dk_182 0 198 (dk_at dksX0_layBest_1 5 rfl rfl)
theorem dX0_layBest_28 : decode cX0_layBest 28 = .ok (.return_, 1) := dk_177 (dk_at dksX0_layBest_1 8 rfl rfl)
abbrev cX0_lambda_layBest_3 : ByteArray := prog_1_method_71_code
def yX0_lambda_layBest_3 : MethodName := ⟨RX0, "lambda$layBest$3", "(LReadingStages$Shelf;)Z"⟩
def dkwX0_lambda_layBest_3_3 : List UInt8 := [181, 0, 189, 42, 29, 181, 0, 192, 42, 180, 0, 55, 42, 180, 0, 51, 182, 1, 87, 4, 172]
abbrev dktX0_lambda_layBest_3_3 : List UInt8 := dkwX0_lambda_layBest_3_3 ++ []
def dkwX0_lambda_layBest_3_2 : List UInt8 := [180, 0, 189, 161, 0, 19, 28, 42, 180, 0, 189, 160, 0, 32, 29, 42, 180, 0, 192, 162, 0, 24, 42, 28]
abbrev dktX0_lambda_layBest_3_2 : List UInt8 := dkwX0_lambda_layBest_3_2 ++ dktX0_lambda_layBest_3_3
def dkwX0_lambda_layBest_3_1 : List UInt8 := [185, 0, 121, 1, 0, 182, 0, 183, 61, 42, 43, 185, 0, 121, 1, 0, 182, 0, 209, 62, 28, 42]
abbrev dktX0_lambda_layBest_3_1 : List UInt8 := dkwX0_lambda_layBest_3_1 ++ dktX0_lambda_layBest_3_2
def dkwX0_lambda_layBest_3_0 : List UInt8 := [43, 42, 180, 0, 18, 180, 0, 172, 185, 0, 175, 2, 0, 153, 0, 76, 42, 43, 3, 182, 0, 179, 42, 43]
abbrev dktX0_lambda_layBest_3_0 : List UInt8 := dkwX0_lambda_layBest_3_0 ++ dktX0_lambda_layBest_3_1
theorem dksX0_lambda_layBest_3_0 : cX0_lambda_layBest_3.data.toList.drop 0 = dktX0_lambda_layBest_3_0 := by decide +kernel
theorem dksX0_lambda_layBest_3_1 : cX0_lambda_layBest_3.data.toList.drop 24 = dktX0_lambda_layBest_3_1 := dk_seg dksX0_lambda_layBest_3_0 24 rfl rfl
theorem dksX0_lambda_layBest_3_2 : cX0_lambda_layBest_3.data.toList.drop 46 = dktX0_lambda_layBest_3_2 := dk_seg dksX0_lambda_layBest_3_1 22 rfl rfl
theorem dksX0_lambda_layBest_3_3 : cX0_lambda_layBest_3.data.toList.drop 70 = dktX0_lambda_layBest_3_3 := dk_seg dksX0_lambda_layBest_3_2 24 rfl rfl
theorem dX0_lambda_layBest_3_0 : decode cX0_lambda_layBest_3 0 = .ok (.aload_n 1, 1) := dk_43 (dk_at dksX0_lambda_layBest_3_0 0 rfl rfl)
theorem dX0_lambda_layBest_3_1 : decode cX0_lambda_layBest_3 1 = .ok (.aload_n 0, 1) := dk_42 (dk_at dksX0_lambda_layBest_3_0 1 rfl rfl)
theorem dX0_lambda_layBest_3_2 : decode cX0_lambda_layBest_3 2 = .ok (.getfield 18, 3) := dk_180 0 18 (dk_at dksX0_lambda_layBest_3_0 2 rfl rfl)
theorem dX0_lambda_layBest_3_5 : decode cX0_lambda_layBest_3 5 = .ok (.getfield 172, 3) := dk_180 0 172 (dk_at dksX0_lambda_layBest_3_0 5 rfl rfl)
theorem dX0_lambda_layBest_3_8 : decode cX0_lambda_layBest_3 8 = .ok (.invokeinterface 175 2, 5) := by decide +kernel
theorem dX0_lambda_layBest_3_13 : decode cX0_lambda_layBest_3 13 = .ok (.ifCond .eq 76, 3) := dk_153 0 76 (dk_at dksX0_lambda_layBest_3_0 13 rfl rfl)
theorem dX0_lambda_layBest_3_16 : decode cX0_lambda_layBest_3 16 = .ok (.aload_n 0, 1) := dk_42 (dk_at dksX0_lambda_layBest_3_0 16 rfl rfl)
theorem dX0_lambda_layBest_3_17 : decode cX0_lambda_layBest_3 17 = .ok (.aload_n 1, 1) := dk_43 (dk_at dksX0_lambda_layBest_3_0 17 rfl rfl)
theorem dX0_lambda_layBest_3_18 : decode cX0_lambda_layBest_3 18 = .ok (.iconst 0, 1) := dk_3 (dk_at dksX0_lambda_layBest_3_0 18 rfl rfl)
theorem dX0_lambda_layBest_3_19 : decode cX0_lambda_layBest_3 19 = .ok (.invokevirtual 179, 3) := dk_182 0 179 (dk_at dksX0_lambda_layBest_3_0 19 rfl rfl)
theorem dX0_lambda_layBest_3_22 : decode cX0_lambda_layBest_3 22 = .ok (.aload_n 0, 1) := dk_42 (dk_at dksX0_lambda_layBest_3_0 22 rfl rfl)
theorem dX0_lambda_layBest_3_23 : decode cX0_lambda_layBest_3 23 = .ok (.aload_n 1, 1) := dk_43 (dk_at dksX0_lambda_layBest_3_0 23 rfl rfl)
theorem dX0_lambda_layBest_3_24 : decode cX0_lambda_layBest_3 24 = .ok (.invokeinterface 121 1, 5) := by decide +kernel
theorem dX0_lambda_layBest_3_29 : decode cX0_lambda_layBest_3 29 = .ok (.invokevirtual 183, 3) := dk_182 0 183 (dk_at dksX0_lambda_layBest_3_1 5 rfl rfl)
theorem dX0_lambda_layBest_3_32 : decode cX0_lambda_layBest_3 32 = .ok (.istore_n 2, 1) := dk_61 (dk_at dksX0_lambda_layBest_3_1 8 rfl rfl)
theorem dX0_lambda_layBest_3_33 : decode cX0_lambda_layBest_3 33 = .ok (.aload_n 0, 1) := dk_42 (dk_at dksX0_lambda_layBest_3_1 9 rfl rfl)
theorem dX0_lambda_layBest_3_34 : decode cX0_lambda_layBest_3 34 = .ok (.aload_n 1, 1) := dk_43 (dk_at dksX0_lambda_layBest_3_1 10 rfl rfl)
theorem dX0_lambda_layBest_3_35 : decode cX0_lambda_layBest_3 35 = .ok (.invokeinterface 121 1, 5) := by decide +kernel
theorem dX0_lambda_layBest_3_40 : decode cX0_lambda_layBest_3 40 = .ok (.invokevirtual 209, 3) := dk_182 0 209 (dk_at dksX0_lambda_layBest_3_1 16 rfl rfl)
theorem dX0_lambda_layBest_3_43 : decode cX0_lambda_layBest_3 43 = .ok (.istore_n 3, 1) := dk_62 (dk_at dksX0_lambda_layBest_3_1 19 rfl rfl)
theorem dX0_lambda_layBest_3_44 : decode cX0_lambda_layBest_3 44 = .ok (.iload_n 2, 1) := dk_28 (dk_at dksX0_lambda_layBest_3_1 20 rfl rfl)
theorem dX0_lambda_layBest_3_45 : decode cX0_lambda_layBest_3 45 = .ok (.aload_n 0, 1) := dk_42 (dk_at dksX0_lambda_layBest_3_1 21 rfl rfl)
theorem dX0_lambda_layBest_3_46 : decode cX0_lambda_layBest_3 46 = .ok (.getfield 189, 3) := dk_180 0 189 (dk_at dksX0_lambda_layBest_3_2 0 rfl rfl)
theorem dX0_lambda_layBest_3_49 : decode cX0_lambda_layBest_3 49 = .ok (.if_icmp .lt 19, 3) := dk_161 0 19 (dk_at dksX0_lambda_layBest_3_2 3 rfl rfl)
theorem dX0_lambda_layBest_3_52 : decode cX0_lambda_layBest_3 52 = .ok (.iload_n 2, 1) := dk_28 (dk_at dksX0_lambda_layBest_3_2 6 rfl rfl)
theorem dX0_lambda_layBest_3_53 : decode cX0_lambda_layBest_3 53 = .ok (.aload_n 0, 1) := dk_42 (dk_at dksX0_lambda_layBest_3_2 7 rfl rfl)
theorem dX0_lambda_layBest_3_54 : decode cX0_lambda_layBest_3 54 = .ok (.getfield 189, 3) := dk_180 0 189 (dk_at dksX0_lambda_layBest_3_2 8 rfl rfl)
theorem dX0_lambda_layBest_3_57 : decode cX0_lambda_layBest_3 57 = .ok (.if_icmp .ne 32, 3) := dk_160 0 32 (dk_at dksX0_lambda_layBest_3_2 11 rfl rfl)
theorem dX0_lambda_layBest_3_60 : decode cX0_lambda_layBest_3 60 = .ok (.iload_n 3, 1) := dk_29 (dk_at dksX0_lambda_layBest_3_2 14 rfl rfl)
theorem dX0_lambda_layBest_3_61 : decode cX0_lambda_layBest_3 61 = .ok (.aload_n 0, 1) := dk_42 (dk_at dksX0_lambda_layBest_3_2 15 rfl rfl)
theorem dX0_lambda_layBest_3_62 : decode cX0_lambda_layBest_3 62 = .ok (.getfield 192, 3) := dk_180 0 192 (dk_at dksX0_lambda_layBest_3_2 16 rfl rfl)
theorem dX0_lambda_layBest_3_65 : decode cX0_lambda_layBest_3 65 = .ok (.if_icmp .ge 24, 3) := dk_162 0 24 (dk_at dksX0_lambda_layBest_3_2 19 rfl rfl)
theorem dX0_lambda_layBest_3_68 : decode cX0_lambda_layBest_3 68 = .ok (.aload_n 0, 1) := dk_42 (dk_at dksX0_lambda_layBest_3_2 22 rfl rfl)
theorem dX0_lambda_layBest_3_69 : decode cX0_lambda_layBest_3 69 = .ok (.iload_n 2, 1) := dk_28 (dk_at dksX0_lambda_layBest_3_2 23 rfl rfl)
theorem dX0_lambda_layBest_3_70 : decode cX0_lambda_layBest_3 70 = .ok (.putfield 189, 3) := dk_181 0 189 (dk_at dksX0_lambda_layBest_3_3 0 rfl rfl)
theorem dX0_lambda_layBest_3_73 : decode cX0_lambda_layBest_3 73 = .ok (.aload_n 0, 1) := dk_42 (dk_at dksX0_lambda_layBest_3_3 3 rfl rfl)
theorem dX0_lambda_layBest_3_74 : decode cX0_lambda_layBest_3 74 = .ok (.iload_n 3, 1) := dk_29 (dk_at dksX0_lambda_layBest_3_3 4 rfl rfl)
theorem dX0_lambda_layBest_3_75 : decode cX0_lambda_layBest_3 75 = .ok (.putfield 192, 3) := dk_181 0 192 (dk_at dksX0_lambda_layBest_3_3 5 rfl rfl)
theorem dX0_lambda_layBest_3_78 : decode cX0_lambda_layBest_3 78 = .ok (.aload_n 0, 1) := dk_42 (dk_at dksX0_lambda_layBest_3_3 8 rfl rfl)
theorem dX0_lambda_layBest_3_79 : decode cX0_lambda_layBest_3 79 = .ok (.getfield 55, 3) := dk_180 0 55 (dk_at dksX0_lambda_layBest_3_3 9 rfl rfl)
theorem dX0_lambda_layBest_3_82 : decode cX0_lambda_layBest_3 82 = .ok (.aload_n 0, 1) := dk_42 (dk_at dksX0_lambda_layBest_3_3 12 rfl rfl)
theorem dX0_lambda_layBest_3_83 : decode cX0_lambda_layBest_3 83 = .ok (.getfield 51, 3) := dk_180 0 51 (dk_at dksX0_lambda_layBest_3_3 13 rfl rfl)
theorem dX0_lambda_layBest_3_86 : decode cX0_lambda_layBest_3 86 = .ok (.invokevirtual 343, 3) := dk_182 1 87 (dk_at dksX0_lambda_layBest_3_3 16 rfl rfl)
theorem dX0_lambda_layBest_3_89 : decode cX0_lambda_layBest_3 89 = .ok (.iconst 1, 1) := dk_4 (dk_at dksX0_lambda_layBest_3_3 19 rfl rfl)
theorem dX0_lambda_layBest_3_90 : decode cX0_lambda_layBest_3 90 = .ok (.ireturn, 1) := dk_172 (dk_at dksX0_lambda_layBest_3_3 20 rfl rfl)
abbrev cX0_go : ByteArray := prog_1_method_9_code
def yX0_go : MethodName := ⟨RX0, "go", "(LReadingStages$Shelf;I)V"⟩
def dkwX0_go_2 : List UInt8 := [185, 0, 126, 2, 0, 46, 182, 0, 132, 132, 3, 1, 167, 255, 205, 177]
abbrev dktX0_go_2 : List UInt8 := dkwX0_go_2 ++ []
def dkwX0_go_1 : List UInt8 := [185, 0, 126, 2, 0, 184, 0, 108, 153, 0, 7, 3, 167, 0, 18, 42, 180, 0, 18, 180, 0, 129, 43, 29]
abbrev dktX0_go_1 : List UInt8 := dkwX0_go_1 ++ dktX0_go_2
def dkwX0_go_0 : List UInt8 := [42, 182, 0, 118, 3, 62, 29, 43, 185, 0, 121, 1, 0, 162, 0, 47, 42, 29, 28, 43, 29]
abbrev dktX0_go_0 : List UInt8 := dkwX0_go_0 ++ dktX0_go_1
theorem dksX0_go_0 : cX0_go.data.toList.drop 0 = dktX0_go_0 := by decide +kernel
theorem dksX0_go_1 : cX0_go.data.toList.drop 21 = dktX0_go_1 := dk_seg dksX0_go_0 21 rfl rfl
theorem dksX0_go_2 : cX0_go.data.toList.drop 45 = dktX0_go_2 := dk_seg dksX0_go_1 24 rfl rfl
theorem dX0_go_0 : decode cX0_go 0 = .ok (.aload_n 0, 1) := dk_42 (dk_at dksX0_go_0 0 rfl rfl)
theorem dX0_go_1 : decode cX0_go 1 = .ok (.invokevirtual 118, 3) := dk_182 0 118 (dk_at dksX0_go_0 1 rfl rfl)
theorem dX0_go_4 : decode cX0_go 4 = .ok (.iconst 0, 1) := dk_3 (dk_at dksX0_go_0 4 rfl rfl)
theorem dX0_go_5 : decode cX0_go 5 = .ok (.istore_n 3, 1) := dk_62 (dk_at dksX0_go_0 5 rfl rfl)
theorem dX0_go_6 : decode cX0_go 6 = .ok (.iload_n 3, 1) := dk_29 (dk_at dksX0_go_0 6 rfl rfl)
theorem dX0_go_7 : decode cX0_go 7 = .ok (.aload_n 1, 1) := dk_43 (dk_at dksX0_go_0 7 rfl rfl)
theorem dX0_go_8 : decode cX0_go 8 = .ok (.invokeinterface 121 1, 5) := by decide +kernel
theorem dX0_go_13 : decode cX0_go 13 = .ok (.if_icmp .ge 47, 3) := dk_162 0 47 (dk_at dksX0_go_0 13 rfl rfl)
theorem dX0_go_16 : decode cX0_go 16 = .ok (.aload_n 0, 1) := dk_42 (dk_at dksX0_go_0 16 rfl rfl)
theorem dX0_go_17 : decode cX0_go 17 = .ok (.iload_n 3, 1) := dk_29 (dk_at dksX0_go_0 17 rfl rfl)
theorem dX0_go_18 : decode cX0_go 18 = .ok (.iload_n 2, 1) := dk_28 (dk_at dksX0_go_0 18 rfl rfl)
theorem dX0_go_19 : decode cX0_go 19 = .ok (.aload_n 1, 1) := dk_43 (dk_at dksX0_go_0 19 rfl rfl)
theorem dX0_go_20 : decode cX0_go 20 = .ok (.iload_n 3, 1) := dk_29 (dk_at dksX0_go_0 20 rfl rfl)
theorem dX0_go_21 : decode cX0_go 21 = .ok (.invokeinterface 126 2, 5) := by decide +kernel
theorem dX0_go_26 : decode cX0_go 26 = .ok (.invokestatic 108, 3) := dk_184 0 108 (dk_at dksX0_go_1 5 rfl rfl)
theorem dX0_go_29 : decode cX0_go 29 = .ok (.ifCond .eq 7, 3) := dk_153 0 7 (dk_at dksX0_go_1 8 rfl rfl)
theorem dX0_go_32 : decode cX0_go 32 = .ok (.iconst 0, 1) := dk_3 (dk_at dksX0_go_1 11 rfl rfl)
theorem dX0_go_33 : decode cX0_go 33 = .ok (.goto 18, 3) := dk_167 0 18 (dk_at dksX0_go_1 12 rfl rfl)
theorem dX0_go_36 : decode cX0_go 36 = .ok (.aload_n 0, 1) := dk_42 (dk_at dksX0_go_1 15 rfl rfl)
theorem dX0_go_37 : decode cX0_go 37 = .ok (.getfield 18, 3) := dk_180 0 18 (dk_at dksX0_go_1 16 rfl rfl)
theorem dX0_go_40 : decode cX0_go 40 = .ok (.getfield 129, 3) := dk_180 0 129 (dk_at dksX0_go_1 19 rfl rfl)
theorem dX0_go_43 : decode cX0_go 43 = .ok (.aload_n 1, 1) := dk_43 (dk_at dksX0_go_1 22 rfl rfl)
theorem dX0_go_44 : decode cX0_go 44 = .ok (.iload_n 3, 1) := dk_29 (dk_at dksX0_go_1 23 rfl rfl)
theorem dX0_go_45 : decode cX0_go 45 = .ok (.invokeinterface 126 2, 5) := by decide +kernel
theorem dX0_go_50 : decode cX0_go 50 = .ok (.iaload, 1) := dk_46 (dk_at dksX0_go_2 5 rfl rfl)
theorem dX0_go_51 : decode cX0_go 51 = .ok (.invokevirtual 132, 3) := dk_182 0 132 (dk_at dksX0_go_2 6 rfl rfl)
theorem dX0_go_54 : decode cX0_go 54 = .ok (.iinc 3 1, 3) := dk_132 3 1 (dk_at dksX0_go_2 9 rfl rfl)
theorem dX0_go_57 : decode cX0_go 57 = .ok (.goto (-51), 3) := dk_167 255 205 (dk_at dksX0_go_2 12 rfl rfl)
theorem dX0_go_60 : decode cX0_go 60 = .ok (.return_, 1) := dk_177 (dk_at dksX0_go_2 15 rfl rfl)
abbrev cX0_forget : ByteArray := prog_1_method_6_code
def yX0_forget : MethodName := ⟨RX0, "forget", "()V"⟩
def dkwX0_forget_0 : List UInt8 := [3, 60, 27, 16, 20, 162, 0, 16, 42, 180, 0, 28, 27, 3, 84, 132, 1, 1, 167, 255, 240, 177]
abbrev dktX0_forget_0 : List UInt8 := dkwX0_forget_0 ++ []
theorem dksX0_forget_0 : cX0_forget.data.toList.drop 0 = dktX0_forget_0 := by decide +kernel
theorem dX0_forget_0 : decode cX0_forget 0 = .ok (.iconst 0, 1) := dk_3 (dk_at dksX0_forget_0 0 rfl rfl)
theorem dX0_forget_1 : decode cX0_forget 1 = .ok (.istore_n 1, 1) := dk_60 (dk_at dksX0_forget_0 1 rfl rfl)
theorem dX0_forget_2 : decode cX0_forget 2 = .ok (.iload_n 1, 1) := dk_27 (dk_at dksX0_forget_0 2 rfl rfl)
theorem dX0_forget_3 : decode cX0_forget 3 = .ok (.bipush 20, 2) := dk_16 20 (dk_at dksX0_forget_0 3 rfl rfl)
theorem dX0_forget_5 : decode cX0_forget 5 = .ok (.if_icmp .ge 16, 3) := dk_162 0 16 (dk_at dksX0_forget_0 5 rfl rfl)
theorem dX0_forget_8 : decode cX0_forget 8 = .ok (.aload_n 0, 1) := dk_42 (dk_at dksX0_forget_0 8 rfl rfl)
theorem dX0_forget_9 : decode cX0_forget 9 = .ok (.getfield 28, 3) := dk_180 0 28 (dk_at dksX0_forget_0 9 rfl rfl)
theorem dX0_forget_12 : decode cX0_forget 12 = .ok (.iload_n 1, 1) := dk_27 (dk_at dksX0_forget_0 12 rfl rfl)
theorem dX0_forget_13 : decode cX0_forget 13 = .ok (.iconst 0, 1) := dk_3 (dk_at dksX0_forget_0 13 rfl rfl)
theorem dX0_forget_14 : decode cX0_forget 14 = .ok (.bastore, 1) := dk_84 (dk_at dksX0_forget_0 14 rfl rfl)
theorem dX0_forget_15 : decode cX0_forget 15 = .ok (.iinc 1 1, 3) := dk_132 1 1 (dk_at dksX0_forget_0 15 rfl rfl)
theorem dX0_forget_18 : decode cX0_forget 18 = .ok (.goto (-16), 3) := dk_167 255 240 (dk_at dksX0_forget_0 18 rfl rfl)
theorem dX0_forget_21 : decode cX0_forget 21 = .ok (.return_, 1) := dk_177 (dk_at dksX0_forget_0 21 rfl rfl)
abbrev cX0_has : ByteArray := prog_1_method_2_code
def yX0_has : MethodName := ⟨RX0, "has", "(II)Z"⟩
def dkwX0_has_0 : List UInt8 := [26, 27, 122, 4, 126, 4, 160, 0, 7, 4, 167, 0, 4, 3, 172]
abbrev dktX0_has_0 : List UInt8 := dkwX0_has_0 ++ []
theorem dksX0_has_0 : cX0_has.data.toList.drop 0 = dktX0_has_0 := by decide +kernel
theorem dX0_has_0 : decode cX0_has 0 = .ok (.iload_n 0, 1) := dk_26 (dk_at dksX0_has_0 0 rfl rfl)
theorem dX0_has_1 : decode cX0_has 1 = .ok (.iload_n 1, 1) := dk_27 (dk_at dksX0_has_0 1 rfl rfl)
theorem dX0_has_2 : decode cX0_has 2 = .ok (.ishr, 1) := dk_122 (dk_at dksX0_has_0 2 rfl rfl)
theorem dX0_has_3 : decode cX0_has 3 = .ok (.iconst 1, 1) := dk_4 (dk_at dksX0_has_0 3 rfl rfl)
theorem dX0_has_4 : decode cX0_has 4 = .ok (.iand, 1) := dk_126 (dk_at dksX0_has_0 4 rfl rfl)
theorem dX0_has_5 : decode cX0_has 5 = .ok (.iconst 1, 1) := dk_4 (dk_at dksX0_has_0 5 rfl rfl)
theorem dX0_has_6 : decode cX0_has 6 = .ok (.if_icmp .ne 7, 3) := dk_160 0 7 (dk_at dksX0_has_0 6 rfl rfl)
theorem dX0_has_9 : decode cX0_has 9 = .ok (.iconst 1, 1) := dk_4 (dk_at dksX0_has_0 9 rfl rfl)
theorem dX0_has_10 : decode cX0_has 10 = .ok (.goto 4, 3) := dk_167 0 4 (dk_at dksX0_has_0 10 rfl rfl)
theorem dX0_has_13 : decode cX0_has 13 = .ok (.iconst 0, 1) := dk_3 (dk_at dksX0_has_0 13 rfl rfl)
theorem dX0_has_14 : decode cX0_has 14 = .ok (.ireturn, 1) := dk_172 (dk_at dksX0_has_0 14 rfl rfl)
abbrev cX0_step : ByteArray := prog_1_method_8_code
def yX0_step : MethodName := ⟨RX0, "step", "(II)V"⟩
def dkwX0_step_7 : List UInt8 := [21, 5, 120, 128, 79, 132, 5, 1, 167, 255, 133, 42, 180, 0, 45, 27, 42, 182, 0, 105, 79, 177]
abbrev dktX0_step_7 : List UInt8 := dkwX0_step_7 ++ []
def dkwX0_step_6 : List UInt8 := [185, 0, 115, 2, 0, 161, 0, 24, 42, 180, 0, 28, 21, 5, 3, 84, 42, 180, 0, 42, 27, 92, 46, 4]
abbrev dktX0_step_6 : List UInt8 := dkwX0_step_6 ++ dktX0_step_7
def dkwX0_step_5 : List UInt8 := [21, 5, 51, 100, 42, 180, 0, 24, 42, 180, 0, 18, 180, 0, 112, 50, 42, 180, 0, 28, 21, 5, 51]
abbrev dktX0_step_5 : List UInt8 := dkwX0_step_5 ++ dktX0_step_6
def dkwX0_step_4 : List UInt8 := [180, 0, 32, 21, 5, 27, 145, 84, 42, 180, 0, 28, 21, 5, 51, 158, 0, 60, 27, 42, 180, 0, 32]
abbrev dktX0_step_4 : List UInt8 := dkwX0_step_4 ++ dktX0_step_5
def dkwX0_step_3 : List UInt8 := [92, 51, 42, 180, 0, 28, 21, 5, 51, 16, 9, 162, 0, 7, 4, 167, 0, 4, 3, 96, 145, 84, 42]
abbrev dktX0_step_3 : List UInt8 := dkwX0_step_3 ++ dktX0_step_4
def dkwX0_step_2 : List UInt8 := [54, 5, 21, 5, 16, 20, 162, 0, 122, 29, 21, 5, 184, 0, 108, 153, 0, 40, 42, 180, 0, 28, 21, 5]
abbrev dktX0_step_2 : List UInt8 := dkwX0_step_2 ++ dktX0_step_3
def dkwX0_step_1 : List UInt8 := [21, 4, 2, 130, 126, 79, 42, 180, 0, 39, 27, 29, 21, 4, 126, 79, 42, 180, 0, 42, 27, 3, 79, 3]
abbrev dktX0_step_1 : List UInt8 := dkwX0_step_1 ++ dktX0_step_2
def dkwX0_step_0 : List UInt8 := [28, 42, 180, 0, 18, 180, 0, 101, 2, 130, 126, 62, 42, 182, 0, 105, 54, 4, 42, 180, 0, 35, 27, 29]
abbrev dktX0_step_0 : List UInt8 := dkwX0_step_0 ++ dktX0_step_1
theorem dksX0_step_0 : cX0_step.data.toList.drop 0 = dktX0_step_0 := by decide +kernel
theorem dksX0_step_1 : cX0_step.data.toList.drop 24 = dktX0_step_1 := dk_seg dksX0_step_0 24 rfl rfl
theorem dksX0_step_2 : cX0_step.data.toList.drop 48 = dktX0_step_2 := dk_seg dksX0_step_1 24 rfl rfl
theorem dksX0_step_3 : cX0_step.data.toList.drop 72 = dktX0_step_3 := dk_seg dksX0_step_2 24 rfl rfl
theorem dksX0_step_4 : cX0_step.data.toList.drop 95 = dktX0_step_4 := dk_seg dksX0_step_3 23 rfl rfl
theorem dksX0_step_5 : cX0_step.data.toList.drop 118 = dktX0_step_5 := dk_seg dksX0_step_4 23 rfl rfl
theorem dksX0_step_6 : cX0_step.data.toList.drop 141 = dktX0_step_6 := dk_seg dksX0_step_5 23 rfl rfl
theorem dksX0_step_7 : cX0_step.data.toList.drop 165 = dktX0_step_7 := dk_seg dksX0_step_6 24 rfl rfl
theorem dX0_step_0 : decode cX0_step 0 = .ok (.iload_n 2, 1) := dk_28 (dk_at dksX0_step_0 0 rfl rfl)
theorem dX0_step_1 : decode cX0_step 1 = .ok (.aload_n 0, 1) := dk_42 (dk_at dksX0_step_0 1 rfl rfl)
theorem dX0_step_2 : decode cX0_step 2 = .ok (.getfield 18, 3) := dk_180 0 18 (dk_at dksX0_step_0 2 rfl rfl)
theorem dX0_step_5 : decode cX0_step 5 = .ok (.getfield 101, 3) := dk_180 0 101 (dk_at dksX0_step_0 5 rfl rfl)
theorem dX0_step_8 : decode cX0_step 8 = .ok (.iconst (-1), 1) := dk_2 (dk_at dksX0_step_0 8 rfl rfl)
theorem dX0_step_9 : decode cX0_step 9 = .ok (.ixor, 1) := dk_130 (dk_at dksX0_step_0 9 rfl rfl)
theorem dX0_step_10 : decode cX0_step 10 = .ok (.iand, 1) := dk_126 (dk_at dksX0_step_0 10 rfl rfl)
theorem dX0_step_11 : decode cX0_step 11 = .ok (.istore_n 3, 1) := dk_62 (dk_at dksX0_step_0 11 rfl rfl)
theorem dX0_step_12 : decode cX0_step 12 = .ok (.aload_n 0, 1) := dk_42 (dk_at dksX0_step_0 12 rfl rfl)
theorem dX0_step_13 : decode cX0_step 13 = .ok (.invokevirtual 105, 3) := dk_182 0 105 (dk_at dksX0_step_0 13 rfl rfl)
theorem dX0_step_16 : decode cX0_step 16 = .ok (.istore 4, 2) := dk_54 4 (dk_at dksX0_step_0 16 rfl rfl)
theorem dX0_step_18 : decode cX0_step 18 = .ok (.aload_n 0, 1) := dk_42 (dk_at dksX0_step_0 18 rfl rfl)
theorem dX0_step_19 : decode cX0_step 19 = .ok (.getfield 35, 3) := dk_180 0 35 (dk_at dksX0_step_0 19 rfl rfl)
theorem dX0_step_22 : decode cX0_step 22 = .ok (.iload_n 1, 1) := dk_27 (dk_at dksX0_step_0 22 rfl rfl)
theorem dX0_step_23 : decode cX0_step 23 = .ok (.iload_n 3, 1) := dk_29 (dk_at dksX0_step_0 23 rfl rfl)
theorem dX0_step_24 : decode cX0_step 24 = .ok (.iload 4, 2) := dk_21 4 (dk_at dksX0_step_1 0 rfl rfl)
theorem dX0_step_26 : decode cX0_step 26 = .ok (.iconst (-1), 1) := dk_2 (dk_at dksX0_step_1 2 rfl rfl)
theorem dX0_step_27 : decode cX0_step 27 = .ok (.ixor, 1) := dk_130 (dk_at dksX0_step_1 3 rfl rfl)
theorem dX0_step_28 : decode cX0_step 28 = .ok (.iand, 1) := dk_126 (dk_at dksX0_step_1 4 rfl rfl)
theorem dX0_step_29 : decode cX0_step 29 = .ok (.iastore, 1) := dk_79 (dk_at dksX0_step_1 5 rfl rfl)
theorem dX0_step_30 : decode cX0_step 30 = .ok (.aload_n 0, 1) := dk_42 (dk_at dksX0_step_1 6 rfl rfl)
theorem dX0_step_31 : decode cX0_step 31 = .ok (.getfield 39, 3) := dk_180 0 39 (dk_at dksX0_step_1 7 rfl rfl)
theorem dX0_step_34 : decode cX0_step 34 = .ok (.iload_n 1, 1) := dk_27 (dk_at dksX0_step_1 10 rfl rfl)
theorem dX0_step_35 : decode cX0_step 35 = .ok (.iload_n 3, 1) := dk_29 (dk_at dksX0_step_1 11 rfl rfl)
theorem dX0_step_36 : decode cX0_step 36 = .ok (.iload 4, 2) := dk_21 4 (dk_at dksX0_step_1 12 rfl rfl)
theorem dX0_step_38 : decode cX0_step 38 = .ok (.iand, 1) := dk_126 (dk_at dksX0_step_1 14 rfl rfl)
theorem dX0_step_39 : decode cX0_step 39 = .ok (.iastore, 1) := dk_79 (dk_at dksX0_step_1 15 rfl rfl)
theorem dX0_step_40 : decode cX0_step 40 = .ok (.aload_n 0, 1) := dk_42 (dk_at dksX0_step_1 16 rfl rfl)
theorem dX0_step_41 : decode cX0_step 41 = .ok (.getfield 42, 3) := dk_180 0 42 (dk_at dksX0_step_1 17 rfl rfl)
theorem dX0_step_44 : decode cX0_step 44 = .ok (.iload_n 1, 1) := dk_27 (dk_at dksX0_step_1 20 rfl rfl)
theorem dX0_step_45 : decode cX0_step 45 = .ok (.iconst 0, 1) := dk_3 (dk_at dksX0_step_1 21 rfl rfl)
theorem dX0_step_46 : decode cX0_step 46 = .ok (.iastore, 1) := dk_79 (dk_at dksX0_step_1 22 rfl rfl)
theorem dX0_step_47 : decode cX0_step 47 = .ok (.iconst 0, 1) := dk_3 (dk_at dksX0_step_1 23 rfl rfl)
theorem dX0_step_48 : decode cX0_step 48 = .ok (.istore 5, 2) := dk_54 5 (dk_at dksX0_step_2 0 rfl rfl)
theorem dX0_step_50 : decode cX0_step 50 = .ok (.iload 5, 2) := dk_21 5 (dk_at dksX0_step_2 2 rfl rfl)
theorem dX0_step_52 : decode cX0_step 52 = .ok (.bipush 20, 2) := dk_16 20 (dk_at dksX0_step_2 4 rfl rfl)
theorem dX0_step_54 : decode cX0_step 54 = .ok (.if_icmp .ge 122, 3) := dk_162 0 122 (dk_at dksX0_step_2 6 rfl rfl)
theorem dX0_step_57 : decode cX0_step 57 = .ok (.iload_n 3, 1) := dk_29 (dk_at dksX0_step_2 9 rfl rfl)
theorem dX0_step_58 : decode cX0_step 58 = .ok (.iload 5, 2) := dk_21 5 (dk_at dksX0_step_2 10 rfl rfl)
theorem dX0_step_60 : decode cX0_step 60 = .ok (.invokestatic 108, 3) := dk_184 0 108 (dk_at dksX0_step_2 12 rfl rfl)
theorem dX0_step_63 : decode cX0_step 63 = .ok (.ifCond .eq 40, 3) := dk_153 0 40 (dk_at dksX0_step_2 15 rfl rfl)
theorem dX0_step_66 : decode cX0_step 66 = .ok (.aload_n 0, 1) := dk_42 (dk_at dksX0_step_2 18 rfl rfl)
theorem dX0_step_67 : decode cX0_step 67 = .ok (.getfield 28, 3) := dk_180 0 28 (dk_at dksX0_step_2 19 rfl rfl)
theorem dX0_step_70 : decode cX0_step 70 = .ok (.iload 5, 2) := dk_21 5 (dk_at dksX0_step_2 22 rfl rfl)
theorem dX0_step_72 : decode cX0_step 72 = .ok (.dup2, 1) := dk_92 (dk_at dksX0_step_3 0 rfl rfl)
theorem dX0_step_73 : decode cX0_step 73 = .ok (.baload, 1) := dk_51 (dk_at dksX0_step_3 1 rfl rfl)
theorem dX0_step_74 : decode cX0_step 74 = .ok (.aload_n 0, 1) := dk_42 (dk_at dksX0_step_3 2 rfl rfl)
theorem dX0_step_75 : decode cX0_step 75 = .ok (.getfield 28, 3) := dk_180 0 28 (dk_at dksX0_step_3 3 rfl rfl)
theorem dX0_step_78 : decode cX0_step 78 = .ok (.iload 5, 2) := dk_21 5 (dk_at dksX0_step_3 6 rfl rfl)
theorem dX0_step_80 : decode cX0_step 80 = .ok (.baload, 1) := dk_51 (dk_at dksX0_step_3 8 rfl rfl)
theorem dX0_step_81 : decode cX0_step 81 = .ok (.bipush 9, 2) := dk_16 9 (dk_at dksX0_step_3 9 rfl rfl)
theorem dX0_step_83 : decode cX0_step 83 = .ok (.if_icmp .ge 7, 3) := dk_162 0 7 (dk_at dksX0_step_3 11 rfl rfl)
theorem dX0_step_86 : decode cX0_step 86 = .ok (.iconst 1, 1) := dk_4 (dk_at dksX0_step_3 14 rfl rfl)
theorem dX0_step_87 : decode cX0_step 87 = .ok (.goto 4, 3) := dk_167 0 4 (dk_at dksX0_step_3 15 rfl rfl)
theorem dX0_step_90 : decode cX0_step 90 = .ok (.iconst 0, 1) := dk_3 (dk_at dksX0_step_3 18 rfl rfl)
theorem dX0_step_91 : decode cX0_step 91 = .ok (.iadd, 1) := dk_96 (dk_at dksX0_step_3 19 rfl rfl)
theorem dX0_step_92 : decode cX0_step 92 = .ok (.i2b, 1) := dk_145 (dk_at dksX0_step_3 20 rfl rfl)
theorem dX0_step_93 : decode cX0_step 93 = .ok (.bastore, 1) := dk_84 (dk_at dksX0_step_3 21 rfl rfl)
theorem dX0_step_94 : decode cX0_step 94 = .ok (.aload_n 0, 1) := dk_42 (dk_at dksX0_step_3 22 rfl rfl)
theorem dX0_step_95 : decode cX0_step 95 = .ok (.getfield 32, 3) := dk_180 0 32 (dk_at dksX0_step_4 0 rfl rfl)
theorem dX0_step_98 : decode cX0_step 98 = .ok (.iload 5, 2) := dk_21 5 (dk_at dksX0_step_4 3 rfl rfl)
theorem dX0_step_100 : decode cX0_step 100 = .ok (.iload_n 1, 1) := dk_27 (dk_at dksX0_step_4 5 rfl rfl)
theorem dX0_step_101 : decode cX0_step 101 = .ok (.i2b, 1) := dk_145 (dk_at dksX0_step_4 6 rfl rfl)
theorem dX0_step_102 : decode cX0_step 102 = .ok (.bastore, 1) := dk_84 (dk_at dksX0_step_4 7 rfl rfl)
theorem dX0_step_103 : decode cX0_step 103 = .ok (.aload_n 0, 1) := dk_42 (dk_at dksX0_step_4 8 rfl rfl)
theorem dX0_step_104 : decode cX0_step 104 = .ok (.getfield 28, 3) := dk_180 0 28 (dk_at dksX0_step_4 9 rfl rfl)
theorem dX0_step_107 : decode cX0_step 107 = .ok (.iload 5, 2) := dk_21 5 (dk_at dksX0_step_4 12 rfl rfl)
theorem dX0_step_109 : decode cX0_step 109 = .ok (.baload, 1) := dk_51 (dk_at dksX0_step_4 14 rfl rfl)
theorem dX0_step_110 : decode cX0_step 110 = .ok (.ifCond .le 60, 3) := dk_158 0 60 (dk_at dksX0_step_4 15 rfl rfl)
theorem dX0_step_113 : decode cX0_step 113 = .ok (.iload_n 1, 1) := dk_27 (dk_at dksX0_step_4 18 rfl rfl)
theorem dX0_step_114 : decode cX0_step 114 = .ok (.aload_n 0, 1) := dk_42 (dk_at dksX0_step_4 19 rfl rfl)
theorem dX0_step_115 : decode cX0_step 115 = .ok (.getfield 32, 3) := dk_180 0 32 (dk_at dksX0_step_4 20 rfl rfl)
theorem dX0_step_118 : decode cX0_step 118 = .ok (.iload 5, 2) := dk_21 5 (dk_at dksX0_step_5 0 rfl rfl)
theorem dX0_step_120 : decode cX0_step 120 = .ok (.baload, 1) := dk_51 (dk_at dksX0_step_5 2 rfl rfl)
theorem dX0_step_121 : decode cX0_step 121 = .ok (.isub, 1) := dk_100 (dk_at dksX0_step_5 3 rfl rfl)
theorem dX0_step_122 : decode cX0_step 122 = .ok (.aload_n 0, 1) := dk_42 (dk_at dksX0_step_5 4 rfl rfl)
theorem dX0_step_123 : decode cX0_step 123 = .ok (.getfield 24, 3) := dk_180 0 24 (dk_at dksX0_step_5 5 rfl rfl)
theorem dX0_step_126 : decode cX0_step 126 = .ok (.aload_n 0, 1) := dk_42 (dk_at dksX0_step_5 8 rfl rfl)
theorem dX0_step_127 : decode cX0_step 127 = .ok (.getfield 18, 3) := dk_180 0 18 (dk_at dksX0_step_5 9 rfl rfl)
theorem dX0_step_130 : decode cX0_step 130 = .ok (.getfield 112, 3) := dk_180 0 112 (dk_at dksX0_step_5 12 rfl rfl)
theorem dX0_step_133 : decode cX0_step 133 = .ok (.aaload, 1) := dk_50 (dk_at dksX0_step_5 15 rfl rfl)
theorem dX0_step_134 : decode cX0_step 134 = .ok (.aload_n 0, 1) := dk_42 (dk_at dksX0_step_5 16 rfl rfl)
theorem dX0_step_135 : decode cX0_step 135 = .ok (.getfield 28, 3) := dk_180 0 28 (dk_at dksX0_step_5 17 rfl rfl)
theorem dX0_step_138 : decode cX0_step 138 = .ok (.iload 5, 2) := dk_21 5 (dk_at dksX0_step_5 20 rfl rfl)
theorem dX0_step_140 : decode cX0_step 140 = .ok (.baload, 1) := dk_51 (dk_at dksX0_step_5 22 rfl rfl)
theorem dX0_step_141 : decode cX0_step 141 = .ok (.invokeinterface 115 2, 5) := by decide +kernel
theorem dX0_step_146 : decode cX0_step 146 = .ok (.if_icmp .lt 24, 3) := dk_161 0 24 (dk_at dksX0_step_6 5 rfl rfl)
theorem dX0_step_149 : decode cX0_step 149 = .ok (.aload_n 0, 1) := dk_42 (dk_at dksX0_step_6 8 rfl rfl)
theorem dX0_step_150 : decode cX0_step 150 = .ok (.getfield 28, 3) := dk_180 0 28 (dk_at dksX0_step_6 9 rfl rfl)
theorem dX0_step_153 : decode cX0_step 153 = .ok (.iload 5, 2) := dk_21 5 (dk_at dksX0_step_6 12 rfl rfl)
theorem dX0_step_155 : decode cX0_step 155 = .ok (.iconst 0, 1) := dk_3 (dk_at dksX0_step_6 14 rfl rfl)
theorem dX0_step_156 : decode cX0_step 156 = .ok (.bastore, 1) := dk_84 (dk_at dksX0_step_6 15 rfl rfl)
theorem dX0_step_157 : decode cX0_step 157 = .ok (.aload_n 0, 1) := dk_42 (dk_at dksX0_step_6 16 rfl rfl)
theorem dX0_step_158 : decode cX0_step 158 = .ok (.getfield 42, 3) := dk_180 0 42 (dk_at dksX0_step_6 17 rfl rfl)
theorem dX0_step_161 : decode cX0_step 161 = .ok (.iload_n 1, 1) := dk_27 (dk_at dksX0_step_6 20 rfl rfl)
theorem dX0_step_162 : decode cX0_step 162 = .ok (.dup2, 1) := dk_92 (dk_at dksX0_step_6 21 rfl rfl)
theorem dX0_step_163 : decode cX0_step 163 = .ok (.iaload, 1) := dk_46 (dk_at dksX0_step_6 22 rfl rfl)
theorem dX0_step_164 : decode cX0_step 164 = .ok (.iconst 1, 1) := dk_4 (dk_at dksX0_step_6 23 rfl rfl)
theorem dX0_step_165 : decode cX0_step 165 = .ok (.iload 5, 2) := dk_21 5 (dk_at dksX0_step_7 0 rfl rfl)
theorem dX0_step_167 : decode cX0_step 167 = .ok (.ishl, 1) := dk_120 (dk_at dksX0_step_7 2 rfl rfl)
theorem dX0_step_168 : decode cX0_step 168 = .ok (.ior, 1) := dk_128 (dk_at dksX0_step_7 3 rfl rfl)
theorem dX0_step_169 : decode cX0_step 169 = .ok (.iastore, 1) := dk_79 (dk_at dksX0_step_7 4 rfl rfl)
theorem dX0_step_170 : decode cX0_step 170 = .ok (.iinc 5 1, 3) := dk_132 5 1 (dk_at dksX0_step_7 5 rfl rfl)
theorem dX0_step_173 : decode cX0_step 173 = .ok (.goto (-123), 3) := dk_167 255 133 (dk_at dksX0_step_7 8 rfl rfl)
theorem dX0_step_176 : decode cX0_step 176 = .ok (.aload_n 0, 1) := dk_42 (dk_at dksX0_step_7 11 rfl rfl)
theorem dX0_step_177 : decode cX0_step 177 = .ok (.getfield 45, 3) := dk_180 0 45 (dk_at dksX0_step_7 12 rfl rfl)
theorem dX0_step_180 : decode cX0_step 180 = .ok (.iload_n 1, 1) := dk_27 (dk_at dksX0_step_7 15 rfl rfl)
theorem dX0_step_181 : decode cX0_step 181 = .ok (.aload_n 0, 1) := dk_42 (dk_at dksX0_step_7 16 rfl rfl)
theorem dX0_step_182 : decode cX0_step 182 = .ok (.invokevirtual 105, 3) := dk_182 0 105 (dk_at dksX0_step_7 17 rfl rfl)
theorem dX0_step_185 : decode cX0_step 185 = .ok (.iastore, 1) := dk_79 (dk_at dksX0_step_7 20 rfl rfl)
theorem dX0_step_186 : decode cX0_step 186 = .ok (.return_, 1) := dk_177 (dk_at dksX0_step_7 21 rfl rfl)
abbrev cX0_strong : ByteArray := prog_1_method_7_code
def yX0_strong : MethodName := ⟨RX0, "strong", "()I"⟩
def dkwX0_strong_1 : List UInt8 := [167, 0, 4, 3, 128, 60, 132, 2, 1, 167, 255, 228, 27, 172]
abbrev dktX0_strong_1 : List UInt8 := dkwX0_strong_1 ++ []
def dkwX0_strong_0 : List UInt8 := [3, 60, 3, 61, 28, 16, 20, 162, 0, 28, 27, 42, 180, 0, 28, 28, 51, 158, 0, 9, 4, 28, 120]
abbrev dktX0_strong_0 : List UInt8 := dkwX0_strong_0 ++ dktX0_strong_1
theorem dksX0_strong_0 : cX0_strong.data.toList.drop 0 = dktX0_strong_0 := by decide +kernel
theorem dksX0_strong_1 : cX0_strong.data.toList.drop 23 = dktX0_strong_1 := dk_seg dksX0_strong_0 23 rfl rfl
theorem dX0_strong_0 : decode cX0_strong 0 = .ok (.iconst 0, 1) := dk_3 (dk_at dksX0_strong_0 0 rfl rfl)
theorem dX0_strong_1 : decode cX0_strong 1 = .ok (.istore_n 1, 1) := dk_60 (dk_at dksX0_strong_0 1 rfl rfl)
theorem dX0_strong_2 : decode cX0_strong 2 = .ok (.iconst 0, 1) := dk_3 (dk_at dksX0_strong_0 2 rfl rfl)
theorem dX0_strong_3 : decode cX0_strong 3 = .ok (.istore_n 2, 1) := dk_61 (dk_at dksX0_strong_0 3 rfl rfl)
theorem dX0_strong_4 : decode cX0_strong 4 = .ok (.iload_n 2, 1) := dk_28 (dk_at dksX0_strong_0 4 rfl rfl)
theorem dX0_strong_5 : decode cX0_strong 5 = .ok (.bipush 20, 2) := dk_16 20 (dk_at dksX0_strong_0 5 rfl rfl)
theorem dX0_strong_7 : decode cX0_strong 7 = .ok (.if_icmp .ge 28, 3) := dk_162 0 28 (dk_at dksX0_strong_0 7 rfl rfl)
theorem dX0_strong_10 : decode cX0_strong 10 = .ok (.iload_n 1, 1) := dk_27 (dk_at dksX0_strong_0 10 rfl rfl)
theorem dX0_strong_11 : decode cX0_strong 11 = .ok (.aload_n 0, 1) := dk_42 (dk_at dksX0_strong_0 11 rfl rfl)
theorem dX0_strong_12 : decode cX0_strong 12 = .ok (.getfield 28, 3) := dk_180 0 28 (dk_at dksX0_strong_0 12 rfl rfl)
theorem dX0_strong_15 : decode cX0_strong 15 = .ok (.iload_n 2, 1) := dk_28 (dk_at dksX0_strong_0 15 rfl rfl)
theorem dX0_strong_16 : decode cX0_strong 16 = .ok (.baload, 1) := dk_51 (dk_at dksX0_strong_0 16 rfl rfl)
theorem dX0_strong_17 : decode cX0_strong 17 = .ok (.ifCond .le 9, 3) := dk_158 0 9 (dk_at dksX0_strong_0 17 rfl rfl)
theorem dX0_strong_20 : decode cX0_strong 20 = .ok (.iconst 1, 1) := dk_4 (dk_at dksX0_strong_0 20 rfl rfl)
theorem dX0_strong_21 : decode cX0_strong 21 = .ok (.iload_n 2, 1) := dk_28 (dk_at dksX0_strong_0 21 rfl rfl)
theorem dX0_strong_22 : decode cX0_strong 22 = .ok (.ishl, 1) := dk_120 (dk_at dksX0_strong_0 22 rfl rfl)
theorem dX0_strong_23 : decode cX0_strong 23 = .ok (.goto 4, 3) := dk_167 0 4 (dk_at dksX0_strong_1 0 rfl rfl)
theorem dX0_strong_26 : decode cX0_strong 26 = .ok (.iconst 0, 1) := dk_3 (dk_at dksX0_strong_1 3 rfl rfl)
theorem dX0_strong_27 : decode cX0_strong 27 = .ok (.ior, 1) := dk_128 (dk_at dksX0_strong_1 4 rfl rfl)
theorem dX0_strong_28 : decode cX0_strong 28 = .ok (.istore_n 1, 1) := dk_60 (dk_at dksX0_strong_1 5 rfl rfl)
theorem dX0_strong_29 : decode cX0_strong 29 = .ok (.iinc 2 1, 3) := dk_132 2 1 (dk_at dksX0_strong_1 6 rfl rfl)
theorem dX0_strong_32 : decode cX0_strong 32 = .ok (.goto (-28), 3) := dk_167 255 228 (dk_at dksX0_strong_1 9 rfl rfl)
theorem dX0_strong_35 : decode cX0_strong 35 = .ok (.iload_n 1, 1) := dk_27 (dk_at dksX0_strong_1 12 rfl rfl)
theorem dX0_strong_36 : decode cX0_strong 36 = .ok (.ireturn, 1) := dk_172 (dk_at dksX0_strong_1 13 rfl rfl)
abbrev cX0_peak : ByteArray := prog_1_method_10_code
def yX0_peak : MethodName := ⟨RX0, "peak", "(I)I"⟩
def dkwX0_peak_1 : List UInt8 := [132, 3, 1, 167, 255, 234, 28, 172]
abbrev dktX0_peak_1 : List UInt8 := dkwX0_peak_1 ++ []
def dkwX0_peak_0 : List UInt8 := [3, 61, 3, 62, 29, 27, 162, 0, 23, 28, 42, 180, 0, 35, 29, 46, 184, 0, 136, 184, 0, 141, 61]
abbrev dktX0_peak_0 : List UInt8 := dkwX0_peak_0 ++ dktX0_peak_1
theorem dksX0_peak_0 : cX0_peak.data.toList.drop 0 = dktX0_peak_0 := by decide +kernel
theorem dksX0_peak_1 : cX0_peak.data.toList.drop 23 = dktX0_peak_1 := dk_seg dksX0_peak_0 23 rfl rfl
theorem dX0_peak_0 : decode cX0_peak 0 = .ok (.iconst 0, 1) := dk_3 (dk_at dksX0_peak_0 0 rfl rfl)
theorem dX0_peak_1 : decode cX0_peak 1 = .ok (.istore_n 2, 1) := dk_61 (dk_at dksX0_peak_0 1 rfl rfl)
theorem dX0_peak_2 : decode cX0_peak 2 = .ok (.iconst 0, 1) := dk_3 (dk_at dksX0_peak_0 2 rfl rfl)
theorem dX0_peak_3 : decode cX0_peak 3 = .ok (.istore_n 3, 1) := dk_62 (dk_at dksX0_peak_0 3 rfl rfl)
theorem dX0_peak_4 : decode cX0_peak 4 = .ok (.iload_n 3, 1) := dk_29 (dk_at dksX0_peak_0 4 rfl rfl)
theorem dX0_peak_5 : decode cX0_peak 5 = .ok (.iload_n 1, 1) := dk_27 (dk_at dksX0_peak_0 5 rfl rfl)
theorem dX0_peak_6 : decode cX0_peak 6 = .ok (.if_icmp .ge 23, 3) := dk_162 0 23 (dk_at dksX0_peak_0 6 rfl rfl)
theorem dX0_peak_9 : decode cX0_peak 9 = .ok (.iload_n 2, 1) := dk_28 (dk_at dksX0_peak_0 9 rfl rfl)
theorem dX0_peak_10 : decode cX0_peak 10 = .ok (.aload_n 0, 1) := dk_42 (dk_at dksX0_peak_0 10 rfl rfl)
theorem dX0_peak_11 : decode cX0_peak 11 = .ok (.getfield 35, 3) := dk_180 0 35 (dk_at dksX0_peak_0 11 rfl rfl)
theorem dX0_peak_14 : decode cX0_peak 14 = .ok (.iload_n 3, 1) := dk_29 (dk_at dksX0_peak_0 14 rfl rfl)
theorem dX0_peak_15 : decode cX0_peak 15 = .ok (.iaload, 1) := dk_46 (dk_at dksX0_peak_0 15 rfl rfl)
theorem dX0_peak_16 : decode cX0_peak 16 = .ok (.invokestatic 136, 3) := dk_184 0 136 (dk_at dksX0_peak_0 16 rfl rfl)
theorem dX0_peak_19 : decode cX0_peak 19 = .ok (.invokestatic 141, 3) := dk_184 0 141 (dk_at dksX0_peak_0 19 rfl rfl)
theorem dX0_peak_22 : decode cX0_peak 22 = .ok (.istore_n 2, 1) := dk_61 (dk_at dksX0_peak_0 22 rfl rfl)
theorem dX0_peak_23 : decode cX0_peak 23 = .ok (.iinc 3 1, 3) := dk_132 3 1 (dk_at dksX0_peak_1 0 rfl rfl)
theorem dX0_peak_26 : decode cX0_peak 26 = .ok (.goto (-22), 3) := dk_167 255 234 (dk_at dksX0_peak_1 3 rfl rfl)
theorem dX0_peak_29 : decode cX0_peak 29 = .ok (.iload_n 2, 1) := dk_28 (dk_at dksX0_peak_1 6 rfl rfl)
theorem dX0_peak_30 : decode cX0_peak 30 = .ok (.ireturn, 1) := dk_172 (dk_at dksX0_peak_1 7 rfl rfl)
abbrev cX0_loss : ByteArray := prog_1_method_11_code
def yX0_loss : MethodName := ⟨RX0, "loss", "(I)I"⟩
def dkwX0_loss_1 : List UInt8 := [167, 255, 236, 28, 172]
abbrev dktX0_loss_1 : List UInt8 := dkwX0_loss_1 ++ []
def dkwX0_loss_0 : List UInt8 := [3, 61, 3, 62, 29, 27, 162, 0, 21, 28, 42, 180, 0, 42, 29, 46, 184, 0, 136, 96, 61, 132, 3, 1]
abbrev dktX0_loss_0 : List UInt8 := dkwX0_loss_0 ++ dktX0_loss_1
theorem dksX0_loss_0 : cX0_loss.data.toList.drop 0 = dktX0_loss_0 := by decide +kernel
theorem dksX0_loss_1 : cX0_loss.data.toList.drop 24 = dktX0_loss_1 := dk_seg dksX0_loss_0 24 rfl rfl
theorem dX0_loss_0 : decode cX0_loss 0 = .ok (.iconst 0, 1) := dk_3 (dk_at dksX0_loss_0 0 rfl rfl)
theorem dX0_loss_1 : decode cX0_loss 1 = .ok (.istore_n 2, 1) := dk_61 (dk_at dksX0_loss_0 1 rfl rfl)
theorem dX0_loss_2 : decode cX0_loss 2 = .ok (.iconst 0, 1) := dk_3 (dk_at dksX0_loss_0 2 rfl rfl)
theorem dX0_loss_3 : decode cX0_loss 3 = .ok (.istore_n 3, 1) := dk_62 (dk_at dksX0_loss_0 3 rfl rfl)
theorem dX0_loss_4 : decode cX0_loss 4 = .ok (.iload_n 3, 1) := dk_29 (dk_at dksX0_loss_0 4 rfl rfl)
theorem dX0_loss_5 : decode cX0_loss 5 = .ok (.iload_n 1, 1) := dk_27 (dk_at dksX0_loss_0 5 rfl rfl)
theorem dX0_loss_6 : decode cX0_loss 6 = .ok (.if_icmp .ge 21, 3) := dk_162 0 21 (dk_at dksX0_loss_0 6 rfl rfl)
theorem dX0_loss_9 : decode cX0_loss 9 = .ok (.iload_n 2, 1) := dk_28 (dk_at dksX0_loss_0 9 rfl rfl)
theorem dX0_loss_10 : decode cX0_loss 10 = .ok (.aload_n 0, 1) := dk_42 (dk_at dksX0_loss_0 10 rfl rfl)
theorem dX0_loss_11 : decode cX0_loss 11 = .ok (.getfield 42, 3) := dk_180 0 42 (dk_at dksX0_loss_0 11 rfl rfl)
theorem dX0_loss_14 : decode cX0_loss 14 = .ok (.iload_n 3, 1) := dk_29 (dk_at dksX0_loss_0 14 rfl rfl)
theorem dX0_loss_15 : decode cX0_loss 15 = .ok (.iaload, 1) := dk_46 (dk_at dksX0_loss_0 15 rfl rfl)
theorem dX0_loss_16 : decode cX0_loss 16 = .ok (.invokestatic 136, 3) := dk_184 0 136 (dk_at dksX0_loss_0 16 rfl rfl)
theorem dX0_loss_19 : decode cX0_loss 19 = .ok (.iadd, 1) := dk_96 (dk_at dksX0_loss_0 19 rfl rfl)
theorem dX0_loss_20 : decode cX0_loss 20 = .ok (.istore_n 2, 1) := dk_61 (dk_at dksX0_loss_0 20 rfl rfl)
theorem dX0_loss_21 : decode cX0_loss 21 = .ok (.iinc 3 1, 3) := dk_132 3 1 (dk_at dksX0_loss_0 21 rfl rfl)
theorem dX0_loss_24 : decode cX0_loss 24 = .ok (.goto (-20), 3) := dk_167 255 236 (dk_at dksX0_loss_1 0 rfl rfl)
theorem dX0_loss_27 : decode cX0_loss 27 = .ok (.iload_n 2, 1) := dk_28 (dk_at dksX0_loss_1 3 rfl rfl)
theorem dX0_loss_28 : decode cX0_loss 28 = .ok (.ireturn, 1) := dk_172 (dk_at dksX0_loss_1 4 rfl rfl)
abbrev cX0_askAll : ByteArray := prog_1_method_13_code
def yX0_askAll : MethodName := ⟨RX0, "askAll", "(LReadingStages$Ask;)V"⟩
def dkwX0_askAll_1 : List UInt8 := [43, 182, 0, 158, 87, 177]
abbrev dktX0_askAll_1 : List UInt8 := dkwX0_askAll_1 ++ []
def dkwX0_askAll_0 : List UInt8 := [42, 180, 0, 51, 182, 0, 166, 42, 3, 181, 0, 169, 42, 4, 42, 180, 0, 18, 182, 0, 97, 120, 4, 100]
abbrev dktX0_askAll_0 : List UInt8 := dkwX0_askAll_0 ++ dktX0_askAll_1
theorem dksX0_askAll_0 : cX0_askAll.data.toList.drop 0 = dktX0_askAll_0 := by decide +kernel
theorem dksX0_askAll_1 : cX0_askAll.data.toList.drop 24 = dktX0_askAll_1 := dk_seg dksX0_askAll_0 24 rfl rfl
theorem dX0_askAll_0 : decode cX0_askAll 0 = .ok (.aload_n 0, 1) := dk_42 (dk_at dksX0_askAll_0 0 rfl rfl)
theorem dX0_askAll_1 : decode cX0_askAll 1 = .ok (.getfield 51, 3) := dk_180 0 51 (dk_at dksX0_askAll_0 1 rfl rfl)
theorem dX0_askAll_4 : decode cX0_askAll 4 = .ok (.invokevirtual 166, 3) := dk_182 0 166 (dk_at dksX0_askAll_0 4 rfl rfl)
theorem dX0_askAll_7 : decode cX0_askAll 7 = .ok (.aload_n 0, 1) := dk_42 (dk_at dksX0_askAll_0 7 rfl rfl)
theorem dX0_askAll_8 : decode cX0_askAll 8 = .ok (.iconst 0, 1) := dk_3 (dk_at dksX0_askAll_0 8 rfl rfl)
theorem dX0_askAll_9 : decode cX0_askAll 9 = .ok (.putfield 169, 3) := dk_181 0 169 (dk_at dksX0_askAll_0 9 rfl rfl)
theorem dX0_askAll_12 : decode cX0_askAll 12 = .ok (.aload_n 0, 1) := dk_42 (dk_at dksX0_askAll_0 12 rfl rfl)
theorem dX0_askAll_13 : decode cX0_askAll 13 = .ok (.iconst 1, 1) := dk_4 (dk_at dksX0_askAll_0 13 rfl rfl)
theorem dX0_askAll_14 : decode cX0_askAll 14 = .ok (.aload_n 0, 1) := dk_42 (dk_at dksX0_askAll_0 14 rfl rfl)
theorem dX0_askAll_15 : decode cX0_askAll 15 = .ok (.getfield 18, 3) := dk_180 0 18 (dk_at dksX0_askAll_0 15 rfl rfl)
theorem dX0_askAll_18 : decode cX0_askAll 18 = .ok (.invokevirtual 97, 3) := dk_182 0 97 (dk_at dksX0_askAll_0 18 rfl rfl)
theorem dX0_askAll_21 : decode cX0_askAll 21 = .ok (.ishl, 1) := dk_120 (dk_at dksX0_askAll_0 21 rfl rfl)
theorem dX0_askAll_22 : decode cX0_askAll 22 = .ok (.iconst 1, 1) := dk_4 (dk_at dksX0_askAll_0 22 rfl rfl)
theorem dX0_askAll_23 : decode cX0_askAll 23 = .ok (.isub, 1) := dk_100 (dk_at dksX0_askAll_0 23 rfl rfl)
theorem dX0_askAll_24 : decode cX0_askAll 24 = .ok (.aload_n 1, 1) := dk_43 (dk_at dksX0_askAll_1 0 rfl rfl)
theorem dX0_askAll_25 : decode cX0_askAll 25 = .ok (.invokevirtual 158, 3) := dk_182 0 158 (dk_at dksX0_askAll_1 1 rfl rfl)
theorem dX0_askAll_28 : decode cX0_askAll 28 = .ok (.pop, 1) := dk_87 (dk_at dksX0_askAll_1 4 rfl rfl)
theorem dX0_askAll_29 : decode cX0_askAll 29 = .ok (.return_, 1) := dk_177 (dk_at dksX0_askAll_1 5 rfl rfl)
abbrev cX0_eachOrder : ByteArray := prog_1_method_12_code
def yX0_eachOrder : MethodName := ⟨RX0, "eachOrder", "(ILReadingStages$Ask;)Z"⟩
def dkwX0_eachOrder_4 : List UInt8 := [167, 255, 182, 29, 172]
abbrev dktX0_eachOrder_4 : List UInt8 := dkwX0_eachOrder_4 ++ []
def dkwX0_eachOrder_3 : List UInt8 := [44, 182, 0, 158, 62, 42, 180, 0, 51, 42, 180, 0, 51, 180, 0, 153, 4, 100, 182, 0, 162, 132, 4, 1]
abbrev dktX0_eachOrder_3 : List UInt8 := dkwX0_eachOrder_3 ++ dktX0_eachOrder_4
def dkwX0_eachOrder_2 : List UInt8 := [180, 0, 51, 42, 180, 0, 51, 180, 0, 153, 21, 4, 182, 0, 155, 42, 27, 4, 21, 4, 120, 2, 130, 126]
abbrev dktX0_eachOrder_2 : List UInt8 := dkwX0_eachOrder_2 ++ dktX0_eachOrder_3
def dkwX0_eachOrder_1 : List UInt8 := [180, 0, 18, 182, 0, 97, 162, 0, 68, 29, 153, 0, 64, 27, 21, 4, 184, 0, 108, 153, 0, 49, 42]
abbrev dktX0_eachOrder_1 : List UInt8 := dkwX0_eachOrder_1 ++ dktX0_eachOrder_2
def dkwX0_eachOrder_0 : List UInt8 := [27, 154, 0, 14, 44, 42, 180, 0, 51, 185, 0, 147, 2, 0, 172, 4, 62, 3, 54, 4, 21, 4, 42]
abbrev dktX0_eachOrder_0 : List UInt8 := dkwX0_eachOrder_0 ++ dktX0_eachOrder_1
theorem dksX0_eachOrder_0 : cX0_eachOrder.data.toList.drop 0 = dktX0_eachOrder_0 := by decide +kernel
theorem dksX0_eachOrder_1 : cX0_eachOrder.data.toList.drop 23 = dktX0_eachOrder_1 := dk_seg dksX0_eachOrder_0 23 rfl rfl
theorem dksX0_eachOrder_2 : cX0_eachOrder.data.toList.drop 46 = dktX0_eachOrder_2 := dk_seg dksX0_eachOrder_1 23 rfl rfl
theorem dksX0_eachOrder_3 : cX0_eachOrder.data.toList.drop 70 = dktX0_eachOrder_3 := dk_seg dksX0_eachOrder_2 24 rfl rfl
theorem dksX0_eachOrder_4 : cX0_eachOrder.data.toList.drop 94 = dktX0_eachOrder_4 := dk_seg dksX0_eachOrder_3 24 rfl rfl
theorem dX0_eachOrder_0 : decode cX0_eachOrder 0 = .ok (.iload_n 1, 1) := dk_27 (dk_at dksX0_eachOrder_0 0 rfl rfl)
theorem dX0_eachOrder_1 : decode cX0_eachOrder 1 = .ok (.ifCond .ne 14, 3) := dk_154 0 14 (dk_at dksX0_eachOrder_0 1 rfl rfl)
theorem dX0_eachOrder_4 : decode cX0_eachOrder 4 = .ok (.aload_n 2, 1) := dk_44 (dk_at dksX0_eachOrder_0 4 rfl rfl)
theorem dX0_eachOrder_5 : decode cX0_eachOrder 5 = .ok (.aload_n 0, 1) := dk_42 (dk_at dksX0_eachOrder_0 5 rfl rfl)
theorem dX0_eachOrder_6 : decode cX0_eachOrder 6 = .ok (.getfield 51, 3) := dk_180 0 51 (dk_at dksX0_eachOrder_0 6 rfl rfl)
theorem dX0_eachOrder_9 : decode cX0_eachOrder 9 = .ok (.invokeinterface 147 2, 5) := by decide +kernel
theorem dX0_eachOrder_14 : decode cX0_eachOrder 14 = .ok (.ireturn, 1) := dk_172 (dk_at dksX0_eachOrder_0 14 rfl rfl)
theorem dX0_eachOrder_15 : decode cX0_eachOrder 15 = .ok (.iconst 1, 1) := dk_4 (dk_at dksX0_eachOrder_0 15 rfl rfl)
theorem dX0_eachOrder_16 : decode cX0_eachOrder 16 = .ok (.istore_n 3, 1) := dk_62 (dk_at dksX0_eachOrder_0 16 rfl rfl)
theorem dX0_eachOrder_17 : decode cX0_eachOrder 17 = .ok (.iconst 0, 1) := dk_3 (dk_at dksX0_eachOrder_0 17 rfl rfl)
theorem dX0_eachOrder_18 : decode cX0_eachOrder 18 = .ok (.istore 4, 2) := dk_54 4 (dk_at dksX0_eachOrder_0 18 rfl rfl)
theorem dX0_eachOrder_20 : decode cX0_eachOrder 20 = .ok (.iload 4, 2) := dk_21 4 (dk_at dksX0_eachOrder_0 20 rfl rfl)
theorem dX0_eachOrder_22 : decode cX0_eachOrder 22 = .ok (.aload_n 0, 1) := dk_42 (dk_at dksX0_eachOrder_0 22 rfl rfl)
theorem dX0_eachOrder_23 : decode cX0_eachOrder 23 = .ok (.getfield 18, 3) := dk_180 0 18 (dk_at dksX0_eachOrder_1 0 rfl rfl)
theorem dX0_eachOrder_26 : decode cX0_eachOrder 26 = .ok (.invokevirtual 97, 3) := dk_182 0 97 (dk_at dksX0_eachOrder_1 3 rfl rfl)
theorem dX0_eachOrder_29 : decode cX0_eachOrder 29 = .ok (.if_icmp .ge 68, 3) := dk_162 0 68 (dk_at dksX0_eachOrder_1 6 rfl rfl)
theorem dX0_eachOrder_32 : decode cX0_eachOrder 32 = .ok (.iload_n 3, 1) := dk_29 (dk_at dksX0_eachOrder_1 9 rfl rfl)
theorem dX0_eachOrder_33 : decode cX0_eachOrder 33 = .ok (.ifCond .eq 64, 3) := dk_153 0 64 (dk_at dksX0_eachOrder_1 10 rfl rfl)
theorem dX0_eachOrder_36 : decode cX0_eachOrder 36 = .ok (.iload_n 1, 1) := dk_27 (dk_at dksX0_eachOrder_1 13 rfl rfl)
theorem dX0_eachOrder_37 : decode cX0_eachOrder 37 = .ok (.iload 4, 2) := dk_21 4 (dk_at dksX0_eachOrder_1 14 rfl rfl)
theorem dX0_eachOrder_39 : decode cX0_eachOrder 39 = .ok (.invokestatic 108, 3) := dk_184 0 108 (dk_at dksX0_eachOrder_1 16 rfl rfl)
theorem dX0_eachOrder_42 : decode cX0_eachOrder 42 = .ok (.ifCond .eq 49, 3) := dk_153 0 49 (dk_at dksX0_eachOrder_1 19 rfl rfl)
theorem dX0_eachOrder_45 : decode cX0_eachOrder 45 = .ok (.aload_n 0, 1) := dk_42 (dk_at dksX0_eachOrder_1 22 rfl rfl)
theorem dX0_eachOrder_46 : decode cX0_eachOrder 46 = .ok (.getfield 51, 3) := dk_180 0 51 (dk_at dksX0_eachOrder_2 0 rfl rfl)
theorem dX0_eachOrder_49 : decode cX0_eachOrder 49 = .ok (.aload_n 0, 1) := dk_42 (dk_at dksX0_eachOrder_2 3 rfl rfl)
theorem dX0_eachOrder_50 : decode cX0_eachOrder 50 = .ok (.getfield 51, 3) := dk_180 0 51 (dk_at dksX0_eachOrder_2 4 rfl rfl)
theorem dX0_eachOrder_53 : decode cX0_eachOrder 53 = .ok (.getfield 153, 3) := dk_180 0 153 (dk_at dksX0_eachOrder_2 7 rfl rfl)
theorem dX0_eachOrder_56 : decode cX0_eachOrder 56 = .ok (.iload 4, 2) := dk_21 4 (dk_at dksX0_eachOrder_2 10 rfl rfl)
theorem dX0_eachOrder_58 : decode cX0_eachOrder 58 = .ok (.invokevirtual 155, 3) := dk_182 0 155 (dk_at dksX0_eachOrder_2 12 rfl rfl)
theorem dX0_eachOrder_61 : decode cX0_eachOrder 61 = .ok (.aload_n 0, 1) := dk_42 (dk_at dksX0_eachOrder_2 15 rfl rfl)
theorem dX0_eachOrder_62 : decode cX0_eachOrder 62 = .ok (.iload_n 1, 1) := dk_27 (dk_at dksX0_eachOrder_2 16 rfl rfl)
theorem dX0_eachOrder_63 : decode cX0_eachOrder 63 = .ok (.iconst 1, 1) := dk_4 (dk_at dksX0_eachOrder_2 17 rfl rfl)
theorem dX0_eachOrder_64 : decode cX0_eachOrder 64 = .ok (.iload 4, 2) := dk_21 4 (dk_at dksX0_eachOrder_2 18 rfl rfl)
theorem dX0_eachOrder_66 : decode cX0_eachOrder 66 = .ok (.ishl, 1) := dk_120 (dk_at dksX0_eachOrder_2 20 rfl rfl)
theorem dX0_eachOrder_67 : decode cX0_eachOrder 67 = .ok (.iconst (-1), 1) := dk_2 (dk_at dksX0_eachOrder_2 21 rfl rfl)
theorem dX0_eachOrder_68 : decode cX0_eachOrder 68 = .ok (.ixor, 1) := dk_130 (dk_at dksX0_eachOrder_2 22 rfl rfl)
theorem dX0_eachOrder_69 : decode cX0_eachOrder 69 = .ok (.iand, 1) := dk_126 (dk_at dksX0_eachOrder_2 23 rfl rfl)
theorem dX0_eachOrder_70 : decode cX0_eachOrder 70 = .ok (.aload_n 2, 1) := dk_44 (dk_at dksX0_eachOrder_3 0 rfl rfl)
theorem dX0_eachOrder_71 : decode cX0_eachOrder 71 = .ok (.invokevirtual 158, 3) := dk_182 0 158 (dk_at dksX0_eachOrder_3 1 rfl rfl)
theorem dX0_eachOrder_74 : decode cX0_eachOrder 74 = .ok (.istore_n 3, 1) := dk_62 (dk_at dksX0_eachOrder_3 4 rfl rfl)
theorem dX0_eachOrder_75 : decode cX0_eachOrder 75 = .ok (.aload_n 0, 1) := dk_42 (dk_at dksX0_eachOrder_3 5 rfl rfl)
theorem dX0_eachOrder_76 : decode cX0_eachOrder 76 = .ok (.getfield 51, 3) := dk_180 0 51 (dk_at dksX0_eachOrder_3 6 rfl rfl)
theorem dX0_eachOrder_79 : decode cX0_eachOrder 79 = .ok (.aload_n 0, 1) := dk_42 (dk_at dksX0_eachOrder_3 9 rfl rfl)
theorem dX0_eachOrder_80 : decode cX0_eachOrder 80 = .ok (.getfield 51, 3) := dk_180 0 51 (dk_at dksX0_eachOrder_3 10 rfl rfl)
theorem dX0_eachOrder_83 : decode cX0_eachOrder 83 = .ok (.getfield 153, 3) := dk_180 0 153 (dk_at dksX0_eachOrder_3 13 rfl rfl)
theorem dX0_eachOrder_86 : decode cX0_eachOrder 86 = .ok (.iconst 1, 1) := dk_4 (dk_at dksX0_eachOrder_3 16 rfl rfl)
theorem dX0_eachOrder_87 : decode cX0_eachOrder 87 = .ok (.isub, 1) := dk_100 (dk_at dksX0_eachOrder_3 17 rfl rfl)
theorem dX0_eachOrder_88 : decode cX0_eachOrder 88 = .ok (.invokevirtual 162, 3) := dk_182 0 162 (dk_at dksX0_eachOrder_3 18 rfl rfl)
theorem dX0_eachOrder_91 : decode cX0_eachOrder 91 = .ok (.iinc 4 1, 3) := dk_132 4 1 (dk_at dksX0_eachOrder_3 21 rfl rfl)
theorem dX0_eachOrder_94 : decode cX0_eachOrder 94 = .ok (.goto (-74), 3) := dk_167 255 182 (dk_at dksX0_eachOrder_4 0 rfl rfl)
theorem dX0_eachOrder_97 : decode cX0_eachOrder 97 = .ok (.iload_n 3, 1) := dk_29 (dk_at dksX0_eachOrder_4 3 rfl rfl)
theorem dX0_eachOrder_98 : decode cX0_eachOrder 98 = .ok (.ireturn, 1) := dk_172 (dk_at dksX0_eachOrder_4 4 rfl rfl)
abbrev cX0_layGrown : ByteArray := prog_1_method_17_code
def yX0_layGrown : MethodName := ⟨RX0, "layGrown", "()V"⟩
def dkwX0_layGrown_7 : List UInt8 := [181, 0, 189, 42, 42, 42, 180, 0, 55, 180, 0, 153, 182, 0, 209, 181, 0, 192, 177]
abbrev dktX0_layGrown_7 : List UInt8 := dkwX0_layGrown_7 ++ []
def dkwX0_layGrown_6 : List UInt8 := [182, 0, 208, 120, 2, 130, 126, 60, 167, 255, 132, 42, 42, 42, 180, 0, 55, 180, 0, 153, 182, 0, 183]
abbrev dktX0_layGrown_6 : List UInt8 := dkwX0_layGrown_6 ++ dktX0_layGrown_7
def dkwX0_layGrown_5 : List UInt8 := [180, 0, 153, 28, 182, 0, 155, 27, 4, 42, 180, 0, 55, 42, 180, 0, 55, 180, 0, 153, 4, 100]
abbrev dktX0_layGrown_5 : List UInt8 := dkwX0_layGrown_5 ++ dktX0_layGrown_6
def dkwX0_layGrown_4 : List UInt8 := [180, 0, 153, 42, 180, 0, 18, 180, 0, 129, 28, 46, 182, 0, 132, 42, 180, 0, 55, 42, 180, 0, 55]
abbrev dktX0_layGrown_4 : List UInt8 := dkwX0_layGrown_4 ++ dktX0_layGrown_5
def dkwX0_layGrown_3 : List UInt8 := [182, 0, 205, 153, 0, 7, 29, 167, 0, 4, 28, 61, 132, 3, 1, 167, 255, 202, 42, 42, 180, 0, 55]
abbrev dktX0_layGrown_3 : List UInt8 := dkwX0_layGrown_3 ++ dktX0_layGrown_4
def dkwX0_layGrown_2 : List UInt8 := [153, 0, 35, 42, 180, 0, 18, 29, 182, 0, 202, 27, 126, 154, 0, 22, 28, 155, 0, 12, 42, 29, 28]
abbrev dktX0_layGrown_2 : List UInt8 := dkwX0_layGrown_2 ++ dktX0_layGrown_3
def dkwX0_layGrown_1 : List UInt8 := [153, 0, 126, 16, 252, 61, 3, 62, 29, 42, 180, 0, 18, 182, 0, 97, 162, 0, 49, 27, 29, 184, 0, 108]
abbrev dktX0_layGrown_1 : List UInt8 := dkwX0_layGrown_1 ++ dktX0_layGrown_2
def dkwX0_layGrown_0 : List UInt8 := [42, 180, 0, 55, 182, 0, 166, 42, 182, 0, 118, 4, 42, 180, 0, 18, 182, 0, 97, 120, 4, 100, 60, 27]
abbrev dktX0_layGrown_0 : List UInt8 := dkwX0_layGrown_0 ++ dktX0_layGrown_1
theorem dksX0_layGrown_0 : cX0_layGrown.data.toList.drop 0 = dktX0_layGrown_0 := by decide +kernel
theorem dksX0_layGrown_1 : cX0_layGrown.data.toList.drop 24 = dktX0_layGrown_1 := dk_seg dksX0_layGrown_0 24 rfl rfl
theorem dksX0_layGrown_2 : cX0_layGrown.data.toList.drop 48 = dktX0_layGrown_2 := dk_seg dksX0_layGrown_1 24 rfl rfl
theorem dksX0_layGrown_3 : cX0_layGrown.data.toList.drop 71 = dktX0_layGrown_3 := dk_seg dksX0_layGrown_2 23 rfl rfl
theorem dksX0_layGrown_4 : cX0_layGrown.data.toList.drop 94 = dktX0_layGrown_4 := dk_seg dksX0_layGrown_3 23 rfl rfl
theorem dksX0_layGrown_5 : cX0_layGrown.data.toList.drop 117 = dktX0_layGrown_5 := dk_seg dksX0_layGrown_4 23 rfl rfl
theorem dksX0_layGrown_6 : cX0_layGrown.data.toList.drop 139 = dktX0_layGrown_6 := dk_seg dksX0_layGrown_5 22 rfl rfl
theorem dksX0_layGrown_7 : cX0_layGrown.data.toList.drop 162 = dktX0_layGrown_7 := dk_seg dksX0_layGrown_6 23 rfl rfl
theorem dX0_layGrown_0 : decode cX0_layGrown 0 = .ok (.aload_n 0, 1) := dk_42 (dk_at dksX0_layGrown_0 0 rfl rfl)
theorem dX0_layGrown_1 : decode cX0_layGrown 1 = .ok (.getfield 55, 3) := dk_180 0 55 (dk_at dksX0_layGrown_0 1 rfl rfl)
theorem dX0_layGrown_4 : decode cX0_layGrown 4 = .ok (.invokevirtual 166, 3) := dk_182 0 166 (dk_at dksX0_layGrown_0 4 rfl rfl)
theorem dX0_layGrown_7 : decode cX0_layGrown 7 = .ok (.aload_n 0, 1) := dk_42 (dk_at dksX0_layGrown_0 7 rfl rfl)
theorem dX0_layGrown_8 : decode cX0_layGrown 8 = .ok (.invokevirtual 118, 3) := dk_182 0 118 (dk_at dksX0_layGrown_0 8 rfl rfl)
theorem dX0_layGrown_11 : decode cX0_layGrown 11 = .ok (.iconst 1, 1) := dk_4 (dk_at dksX0_layGrown_0 11 rfl rfl)
theorem dX0_layGrown_12 : decode cX0_layGrown 12 = .ok (.aload_n 0, 1) := dk_42 (dk_at dksX0_layGrown_0 12 rfl rfl)
theorem dX0_layGrown_13 : decode cX0_layGrown 13 = .ok (.getfield 18, 3) := dk_180 0 18 (dk_at dksX0_layGrown_0 13 rfl rfl)
theorem dX0_layGrown_16 : decode cX0_layGrown 16 = .ok (.invokevirtual 97, 3) := dk_182 0 97 (dk_at dksX0_layGrown_0 16 rfl rfl)
theorem dX0_layGrown_19 : decode cX0_layGrown 19 = .ok (.ishl, 1) := dk_120 (dk_at dksX0_layGrown_0 19 rfl rfl)
theorem dX0_layGrown_20 : decode cX0_layGrown 20 = .ok (.iconst 1, 1) := dk_4 (dk_at dksX0_layGrown_0 20 rfl rfl)
theorem dX0_layGrown_21 : decode cX0_layGrown 21 = .ok (.isub, 1) := dk_100 (dk_at dksX0_layGrown_0 21 rfl rfl)
theorem dX0_layGrown_22 : decode cX0_layGrown 22 = .ok (.istore_n 1, 1) := dk_60 (dk_at dksX0_layGrown_0 22 rfl rfl)
theorem dX0_layGrown_23 : decode cX0_layGrown 23 = .ok (.iload_n 1, 1) := dk_27 (dk_at dksX0_layGrown_0 23 rfl rfl)
theorem dX0_layGrown_24 : decode cX0_layGrown 24 = .ok (.ifCond .eq 126, 3) := dk_153 0 126 (dk_at dksX0_layGrown_1 0 rfl rfl)
theorem dX0_layGrown_27 : decode cX0_layGrown 27 = .ok (.bipush (-4), 2) := dk_16 252 (dk_at dksX0_layGrown_1 3 rfl rfl)
theorem dX0_layGrown_29 : decode cX0_layGrown 29 = .ok (.istore_n 2, 1) := dk_61 (dk_at dksX0_layGrown_1 5 rfl rfl)
theorem dX0_layGrown_30 : decode cX0_layGrown 30 = .ok (.iconst 0, 1) := dk_3 (dk_at dksX0_layGrown_1 6 rfl rfl)
theorem dX0_layGrown_31 : decode cX0_layGrown 31 = .ok (.istore_n 3, 1) := dk_62 (dk_at dksX0_layGrown_1 7 rfl rfl)
theorem dX0_layGrown_32 : decode cX0_layGrown 32 = .ok (.iload_n 3, 1) := dk_29 (dk_at dksX0_layGrown_1 8 rfl rfl)
theorem dX0_layGrown_33 : decode cX0_layGrown 33 = .ok (.aload_n 0, 1) := dk_42 (dk_at dksX0_layGrown_1 9 rfl rfl)
theorem dX0_layGrown_34 : decode cX0_layGrown 34 = .ok (.getfield 18, 3) := dk_180 0 18 (dk_at dksX0_layGrown_1 10 rfl rfl)
theorem dX0_layGrown_37 : decode cX0_layGrown 37 = .ok (.invokevirtual 97, 3) := dk_182 0 97 (dk_at dksX0_layGrown_1 13 rfl rfl)
theorem dX0_layGrown_40 : decode cX0_layGrown 40 = .ok (.if_icmp .ge 49, 3) := dk_162 0 49 (dk_at dksX0_layGrown_1 16 rfl rfl)
theorem dX0_layGrown_43 : decode cX0_layGrown 43 = .ok (.iload_n 1, 1) := dk_27 (dk_at dksX0_layGrown_1 19 rfl rfl)
theorem dX0_layGrown_44 : decode cX0_layGrown 44 = .ok (.iload_n 3, 1) := dk_29 (dk_at dksX0_layGrown_1 20 rfl rfl)
theorem dX0_layGrown_45 : decode cX0_layGrown 45 = .ok (.invokestatic 108, 3) := dk_184 0 108 (dk_at dksX0_layGrown_1 21 rfl rfl)
theorem dX0_layGrown_48 : decode cX0_layGrown 48 = .ok (.ifCond .eq 35, 3) := dk_153 0 35 (dk_at dksX0_layGrown_2 0 rfl rfl)
theorem dX0_layGrown_51 : decode cX0_layGrown 51 = .ok (.aload_n 0, 1) := dk_42 (dk_at dksX0_layGrown_2 3 rfl rfl)
theorem dX0_layGrown_52 : decode cX0_layGrown 52 = .ok (.getfield 18, 3) := dk_180 0 18 (dk_at dksX0_layGrown_2 4 rfl rfl)
theorem dX0_layGrown_55 : decode cX0_layGrown 55 = .ok (.iload_n 3, 1) := dk_29 (dk_at dksX0_layGrown_2 7 rfl rfl)
theorem dX0_layGrown_56 : decode cX0_layGrown 56 = .ok (.invokevirtual 202, 3) := dk_182 0 202 (dk_at dksX0_layGrown_2 8 rfl rfl)
theorem dX0_layGrown_59 : decode cX0_layGrown 59 = .ok (.iload_n 1, 1) := dk_27 (dk_at dksX0_layGrown_2 11 rfl rfl)
theorem dX0_layGrown_60 : decode cX0_layGrown 60 = .ok (.iand, 1) := dk_126 (dk_at dksX0_layGrown_2 12 rfl rfl)
theorem dX0_layGrown_61 : decode cX0_layGrown 61 = .ok (.ifCond .ne 22, 3) := dk_154 0 22 (dk_at dksX0_layGrown_2 13 rfl rfl)
theorem dX0_layGrown_64 : decode cX0_layGrown 64 = .ok (.iload_n 2, 1) := dk_28 (dk_at dksX0_layGrown_2 16 rfl rfl)
theorem dX0_layGrown_65 : decode cX0_layGrown 65 = .ok (.ifCond .lt 12, 3) := dk_155 0 12 (dk_at dksX0_layGrown_2 17 rfl rfl)
theorem dX0_layGrown_68 : decode cX0_layGrown 68 = .ok (.aload_n 0, 1) := dk_42 (dk_at dksX0_layGrown_2 20 rfl rfl)
theorem dX0_layGrown_69 : decode cX0_layGrown 69 = .ok (.iload_n 3, 1) := dk_29 (dk_at dksX0_layGrown_2 21 rfl rfl)
theorem dX0_layGrown_70 : decode cX0_layGrown 70 = .ok (.iload_n 2, 1) := dk_28 (dk_at dksX0_layGrown_2 22 rfl rfl)
theorem dX0_layGrown_71 : decode cX0_layGrown 71 = .ok (.invokevirtual 205, 3) := dk_182 0 205 (dk_at dksX0_layGrown_3 0 rfl rfl)
theorem dX0_layGrown_74 : decode cX0_layGrown 74 = .ok (.ifCond .eq 7, 3) := dk_153 0 7 (dk_at dksX0_layGrown_3 3 rfl rfl)
theorem dX0_layGrown_77 : decode cX0_layGrown 77 = .ok (.iload_n 3, 1) := dk_29 (dk_at dksX0_layGrown_3 6 rfl rfl)
theorem dX0_layGrown_78 : decode cX0_layGrown 78 = .ok (.goto 4, 3) := dk_167 0 4 (dk_at dksX0_layGrown_3 7 rfl rfl)
theorem dX0_layGrown_81 : decode cX0_layGrown 81 = .ok (.iload_n 2, 1) := dk_28 (dk_at dksX0_layGrown_3 10 rfl rfl)
theorem dX0_layGrown_82 : decode cX0_layGrown 82 = .ok (.istore_n 2, 1) := dk_61 (dk_at dksX0_layGrown_3 11 rfl rfl)
theorem dX0_layGrown_83 : decode cX0_layGrown 83 = .ok (.iinc 3 1, 3) := dk_132 3 1 (dk_at dksX0_layGrown_3 12 rfl rfl)
theorem dX0_layGrown_86 : decode cX0_layGrown 86 = .ok (.goto (-54), 3) := dk_167 255 202 (dk_at dksX0_layGrown_3 15 rfl rfl)
theorem dX0_layGrown_89 : decode cX0_layGrown 89 = .ok (.aload_n 0, 1) := dk_42 (dk_at dksX0_layGrown_3 18 rfl rfl)
theorem dX0_layGrown_90 : decode cX0_layGrown 90 = .ok (.aload_n 0, 1) := dk_42 (dk_at dksX0_layGrown_3 19 rfl rfl)
theorem dX0_layGrown_91 : decode cX0_layGrown 91 = .ok (.getfield 55, 3) := dk_180 0 55 (dk_at dksX0_layGrown_3 20 rfl rfl)
theorem dX0_layGrown_94 : decode cX0_layGrown 94 = .ok (.getfield 153, 3) := dk_180 0 153 (dk_at dksX0_layGrown_4 0 rfl rfl)
theorem dX0_layGrown_97 : decode cX0_layGrown 97 = .ok (.aload_n 0, 1) := dk_42 (dk_at dksX0_layGrown_4 3 rfl rfl)
theorem dX0_layGrown_98 : decode cX0_layGrown 98 = .ok (.getfield 18, 3) := dk_180 0 18 (dk_at dksX0_layGrown_4 4 rfl rfl)
theorem dX0_layGrown_101 : decode cX0_layGrown 101 = .ok (.getfield 129, 3) := dk_180 0 129 (dk_at dksX0_layGrown_4 7 rfl rfl)
theorem dX0_layGrown_104 : decode cX0_layGrown 104 = .ok (.iload_n 2, 1) := dk_28 (dk_at dksX0_layGrown_4 10 rfl rfl)
theorem dX0_layGrown_105 : decode cX0_layGrown 105 = .ok (.iaload, 1) := dk_46 (dk_at dksX0_layGrown_4 11 rfl rfl)
theorem dX0_layGrown_106 : decode cX0_layGrown 106 = .ok (.invokevirtual 132, 3) := dk_182 0 132 (dk_at dksX0_layGrown_4 12 rfl rfl)
theorem dX0_layGrown_109 : decode cX0_layGrown 109 = .ok (.aload_n 0, 1) := dk_42 (dk_at dksX0_layGrown_4 15 rfl rfl)
theorem dX0_layGrown_110 : decode cX0_layGrown 110 = .ok (.getfield 55, 3) := dk_180 0 55 (dk_at dksX0_layGrown_4 16 rfl rfl)
theorem dX0_layGrown_113 : decode cX0_layGrown 113 = .ok (.aload_n 0, 1) := dk_42 (dk_at dksX0_layGrown_4 19 rfl rfl)
theorem dX0_layGrown_114 : decode cX0_layGrown 114 = .ok (.getfield 55, 3) := dk_180 0 55 (dk_at dksX0_layGrown_4 20 rfl rfl)
theorem dX0_layGrown_117 : decode cX0_layGrown 117 = .ok (.getfield 153, 3) := dk_180 0 153 (dk_at dksX0_layGrown_5 0 rfl rfl)
theorem dX0_layGrown_120 : decode cX0_layGrown 120 = .ok (.iload_n 2, 1) := dk_28 (dk_at dksX0_layGrown_5 3 rfl rfl)
theorem dX0_layGrown_121 : decode cX0_layGrown 121 = .ok (.invokevirtual 155, 3) := dk_182 0 155 (dk_at dksX0_layGrown_5 4 rfl rfl)
theorem dX0_layGrown_124 : decode cX0_layGrown 124 = .ok (.iload_n 1, 1) := dk_27 (dk_at dksX0_layGrown_5 7 rfl rfl)
theorem dX0_layGrown_125 : decode cX0_layGrown 125 = .ok (.iconst 1, 1) := dk_4 (dk_at dksX0_layGrown_5 8 rfl rfl)
theorem dX0_layGrown_126 : decode cX0_layGrown 126 = .ok (.aload_n 0, 1) := dk_42 (dk_at dksX0_layGrown_5 9 rfl rfl)
theorem dX0_layGrown_127 : decode cX0_layGrown 127 = .ok (.getfield 55, 3) := dk_180 0 55 (dk_at dksX0_layGrown_5 10 rfl rfl)
theorem dX0_layGrown_130 : decode cX0_layGrown 130 = .ok (.aload_n 0, 1) := dk_42 (dk_at dksX0_layGrown_5 13 rfl rfl)
theorem dX0_layGrown_131 : decode cX0_layGrown 131 = .ok (.getfield 55, 3) := dk_180 0 55 (dk_at dksX0_layGrown_5 14 rfl rfl)
theorem dX0_layGrown_134 : decode cX0_layGrown 134 = .ok (.getfield 153, 3) := dk_180 0 153 (dk_at dksX0_layGrown_5 17 rfl rfl)
theorem dX0_layGrown_137 : decode cX0_layGrown 137 = .ok (.iconst 1, 1) := dk_4 (dk_at dksX0_layGrown_5 20 rfl rfl)
theorem dX0_layGrown_138 : decode cX0_layGrown 138 = .ok (.isub, 1) := dk_100 (dk_at dksX0_layGrown_5 21 rfl rfl)
theorem dX0_layGrown_139 : decode cX0_layGrown 139 = .ok (.invokevirtual 208, 3) := dk_182 0 208 (dk_at dksX0_layGrown_6 0 rfl rfl)
theorem dX0_layGrown_142 : decode cX0_layGrown 142 = .ok (.ishl, 1) := dk_120 (dk_at dksX0_layGrown_6 3 rfl rfl)
theorem dX0_layGrown_143 : decode cX0_layGrown 143 = .ok (.iconst (-1), 1) := dk_2 (dk_at dksX0_layGrown_6 4 rfl rfl)
theorem dX0_layGrown_144 : decode cX0_layGrown 144 = .ok (.ixor, 1) := dk_130 (dk_at dksX0_layGrown_6 5 rfl rfl)
theorem dX0_layGrown_145 : decode cX0_layGrown 145 = .ok (.iand, 1) := dk_126 (dk_at dksX0_layGrown_6 6 rfl rfl)
theorem dX0_layGrown_146 : decode cX0_layGrown 146 = .ok (.istore_n 1, 1) := dk_60 (dk_at dksX0_layGrown_6 7 rfl rfl)
theorem dX0_layGrown_147 : decode cX0_layGrown 147 = .ok (.goto (-124), 3) := dk_167 255 132 (dk_at dksX0_layGrown_6 8 rfl rfl)
theorem dX0_layGrown_150 : decode cX0_layGrown 150 = .ok (.aload_n 0, 1) := dk_42 (dk_at dksX0_layGrown_6 11 rfl rfl)
theorem dX0_layGrown_151 : decode cX0_layGrown 151 = .ok (.aload_n 0, 1) := dk_42 (dk_at dksX0_layGrown_6 12 rfl rfl)
theorem dX0_layGrown_152 : decode cX0_layGrown 152 = .ok (.aload_n 0, 1) := dk_42 (dk_at dksX0_layGrown_6 13 rfl rfl)
theorem dX0_layGrown_153 : decode cX0_layGrown 153 = .ok (.getfield 55, 3) := dk_180 0 55 (dk_at dksX0_layGrown_6 14 rfl rfl)
theorem dX0_layGrown_156 : decode cX0_layGrown 156 = .ok (.getfield 153, 3) := dk_180 0 153 (dk_at dksX0_layGrown_6 17 rfl rfl)
theorem dX0_layGrown_159 : decode cX0_layGrown 159 = .ok (.invokevirtual 183, 3) := dk_182 0 183 (dk_at dksX0_layGrown_6 20 rfl rfl)
theorem dX0_layGrown_162 : decode cX0_layGrown 162 = .ok (.putfield 189, 3) := dk_181 0 189 (dk_at dksX0_layGrown_7 0 rfl rfl)
theorem dX0_layGrown_165 : decode cX0_layGrown 165 = .ok (.aload_n 0, 1) := dk_42 (dk_at dksX0_layGrown_7 3 rfl rfl)
theorem dX0_layGrown_166 : decode cX0_layGrown 166 = .ok (.aload_n 0, 1) := dk_42 (dk_at dksX0_layGrown_7 4 rfl rfl)
theorem dX0_layGrown_167 : decode cX0_layGrown 167 = .ok (.aload_n 0, 1) := dk_42 (dk_at dksX0_layGrown_7 5 rfl rfl)
theorem dX0_layGrown_168 : decode cX0_layGrown 168 = .ok (.getfield 55, 3) := dk_180 0 55 (dk_at dksX0_layGrown_7 6 rfl rfl)
theorem dX0_layGrown_171 : decode cX0_layGrown 171 = .ok (.getfield 153, 3) := dk_180 0 153 (dk_at dksX0_layGrown_7 9 rfl rfl)
theorem dX0_layGrown_174 : decode cX0_layGrown 174 = .ok (.invokevirtual 209, 3) := dk_182 0 209 (dk_at dksX0_layGrown_7 12 rfl rfl)
theorem dX0_layGrown_177 : decode cX0_layGrown 177 = .ok (.putfield 192, 3) := dk_181 0 192 (dk_at dksX0_layGrown_7 15 rfl rfl)
theorem dX0_layGrown_180 : decode cX0_layGrown 180 = .ok (.return_, 1) := dk_177 (dk_at dksX0_layGrown_7 18 rfl rfl)
abbrev cX0_isEasier : ByteArray := prog_1_method_16_code
def yX0_isEasier : MethodName := ⟨RX0, "isEasier", "(II)Z"⟩
def dkwX0_isEasier_5 : List UInt8 := [180, 0, 18, 180, 0, 101, 2, 130, 126, 29, 126, 184, 0, 136, 164, 0, 7, 4, 167, 0, 4, 3, 172]
abbrev dktX0_isEasier_5 : List UInt8 := dkwX0_isEasier_5 ++ []
def dkwX0_isEasier_4 : List UInt8 := [180, 0, 18, 180, 0, 101, 2, 130, 126, 29, 126, 184, 0, 136, 42, 180, 0, 18, 180, 0, 129, 28, 46, 42]
abbrev dktX0_isEasier_4 : List UInt8 := dkwX0_isEasier_4 ++ dktX0_isEasier_5
def dkwX0_isEasier_3 : List UInt8 := [21, 5, 162, 0, 7, 4, 167, 0, 63, 3, 167, 0, 59, 42, 180, 0, 18, 180, 0, 129, 27, 46, 42]
abbrev dktX0_isEasier_3 : List UInt8 := dkwX0_isEasier_3 ++ dktX0_isEasier_4
def dkwX0_isEasier_2 : List UInt8 := [180, 0, 101, 2, 130, 126, 29, 2, 130, 126, 184, 0, 136, 54, 5, 21, 4, 21, 5, 159, 0, 18, 21, 4]
abbrev dktX0_isEasier_2 : List UInt8 := dkwX0_isEasier_2 ++ dktX0_isEasier_3
def dkwX0_isEasier_1 : List UInt8 := [29, 2, 130, 126, 184, 0, 136, 54, 4, 42, 180, 0, 18, 180, 0, 129, 28, 46, 42, 180, 0, 18]
abbrev dktX0_isEasier_1 : List UInt8 := dkwX0_isEasier_1 ++ dktX0_isEasier_2
def dkwX0_isEasier_0 : List UInt8 := [42, 182, 0, 105, 62, 42, 180, 0, 18, 180, 0, 129, 27, 46, 42, 180, 0, 18, 180, 0, 101, 2, 130, 126]
abbrev dktX0_isEasier_0 : List UInt8 := dkwX0_isEasier_0 ++ dktX0_isEasier_1
theorem dksX0_isEasier_0 : cX0_isEasier.data.toList.drop 0 = dktX0_isEasier_0 := by decide +kernel
theorem dksX0_isEasier_1 : cX0_isEasier.data.toList.drop 24 = dktX0_isEasier_1 := dk_seg dksX0_isEasier_0 24 rfl rfl
theorem dksX0_isEasier_2 : cX0_isEasier.data.toList.drop 46 = dktX0_isEasier_2 := dk_seg dksX0_isEasier_1 22 rfl rfl
theorem dksX0_isEasier_3 : cX0_isEasier.data.toList.drop 70 = dktX0_isEasier_3 := dk_seg dksX0_isEasier_2 24 rfl rfl
theorem dksX0_isEasier_4 : cX0_isEasier.data.toList.drop 93 = dktX0_isEasier_4 := dk_seg dksX0_isEasier_3 23 rfl rfl
theorem dksX0_isEasier_5 : cX0_isEasier.data.toList.drop 117 = dktX0_isEasier_5 := dk_seg dksX0_isEasier_4 24 rfl rfl
theorem dX0_isEasier_0 : decode cX0_isEasier 0 = .ok (.aload_n 0, 1) := dk_42 (dk_at dksX0_isEasier_0 0 rfl rfl)
theorem dX0_isEasier_1 : decode cX0_isEasier 1 = .ok (.invokevirtual 105, 3) := dk_182 0 105 (dk_at dksX0_isEasier_0 1 rfl rfl)
theorem dX0_isEasier_4 : decode cX0_isEasier 4 = .ok (.istore_n 3, 1) := dk_62 (dk_at dksX0_isEasier_0 4 rfl rfl)
theorem dX0_isEasier_5 : decode cX0_isEasier 5 = .ok (.aload_n 0, 1) := dk_42 (dk_at dksX0_isEasier_0 5 rfl rfl)
theorem dX0_isEasier_6 : decode cX0_isEasier 6 = .ok (.getfield 18, 3) := dk_180 0 18 (dk_at dksX0_isEasier_0 6 rfl rfl)
theorem dX0_isEasier_9 : decode cX0_isEasier 9 = .ok (.getfield 129, 3) := dk_180 0 129 (dk_at dksX0_isEasier_0 9 rfl rfl)
theorem dX0_isEasier_12 : decode cX0_isEasier 12 = .ok (.iload_n 1, 1) := dk_27 (dk_at dksX0_isEasier_0 12 rfl rfl)
theorem dX0_isEasier_13 : decode cX0_isEasier 13 = .ok (.iaload, 1) := dk_46 (dk_at dksX0_isEasier_0 13 rfl rfl)
theorem dX0_isEasier_14 : decode cX0_isEasier 14 = .ok (.aload_n 0, 1) := dk_42 (dk_at dksX0_isEasier_0 14 rfl rfl)
theorem dX0_isEasier_15 : decode cX0_isEasier 15 = .ok (.getfield 18, 3) := dk_180 0 18 (dk_at dksX0_isEasier_0 15 rfl rfl)
theorem dX0_isEasier_18 : decode cX0_isEasier 18 = .ok (.getfield 101, 3) := dk_180 0 101 (dk_at dksX0_isEasier_0 18 rfl rfl)
theorem dX0_isEasier_21 : decode cX0_isEasier 21 = .ok (.iconst (-1), 1) := dk_2 (dk_at dksX0_isEasier_0 21 rfl rfl)
theorem dX0_isEasier_22 : decode cX0_isEasier 22 = .ok (.ixor, 1) := dk_130 (dk_at dksX0_isEasier_0 22 rfl rfl)
theorem dX0_isEasier_23 : decode cX0_isEasier 23 = .ok (.iand, 1) := dk_126 (dk_at dksX0_isEasier_0 23 rfl rfl)
theorem dX0_isEasier_24 : decode cX0_isEasier 24 = .ok (.iload_n 3, 1) := dk_29 (dk_at dksX0_isEasier_1 0 rfl rfl)
theorem dX0_isEasier_25 : decode cX0_isEasier 25 = .ok (.iconst (-1), 1) := dk_2 (dk_at dksX0_isEasier_1 1 rfl rfl)
theorem dX0_isEasier_26 : decode cX0_isEasier 26 = .ok (.ixor, 1) := dk_130 (dk_at dksX0_isEasier_1 2 rfl rfl)
theorem dX0_isEasier_27 : decode cX0_isEasier 27 = .ok (.iand, 1) := dk_126 (dk_at dksX0_isEasier_1 3 rfl rfl)
theorem dX0_isEasier_28 : decode cX0_isEasier 28 = .ok (.invokestatic 136, 3) := dk_184 0 136 (dk_at dksX0_isEasier_1 4 rfl rfl)
theorem dX0_isEasier_31 : decode cX0_isEasier 31 = .ok (.istore 4, 2) := dk_54 4 (dk_at dksX0_isEasier_1 7 rfl rfl)
theorem dX0_isEasier_33 : decode cX0_isEasier 33 = .ok (.aload_n 0, 1) := dk_42 (dk_at dksX0_isEasier_1 9 rfl rfl)
theorem dX0_isEasier_34 : decode cX0_isEasier 34 = .ok (.getfield 18, 3) := dk_180 0 18 (dk_at dksX0_isEasier_1 10 rfl rfl)
theorem dX0_isEasier_37 : decode cX0_isEasier 37 = .ok (.getfield 129, 3) := dk_180 0 129 (dk_at dksX0_isEasier_1 13 rfl rfl)
theorem dX0_isEasier_40 : decode cX0_isEasier 40 = .ok (.iload_n 2, 1) := dk_28 (dk_at dksX0_isEasier_1 16 rfl rfl)
theorem dX0_isEasier_41 : decode cX0_isEasier 41 = .ok (.iaload, 1) := dk_46 (dk_at dksX0_isEasier_1 17 rfl rfl)
theorem dX0_isEasier_42 : decode cX0_isEasier 42 = .ok (.aload_n 0, 1) := dk_42 (dk_at dksX0_isEasier_1 18 rfl rfl)
theorem dX0_isEasier_43 : decode cX0_isEasier 43 = .ok (.getfield 18, 3) := dk_180 0 18 (dk_at dksX0_isEasier_1 19 rfl rfl)
theorem dX0_isEasier_46 : decode cX0_isEasier 46 = .ok (.getfield 101, 3) := dk_180 0 101 (dk_at dksX0_isEasier_2 0 rfl rfl)
theorem dX0_isEasier_49 : decode cX0_isEasier 49 = .ok (.iconst (-1), 1) := dk_2 (dk_at dksX0_isEasier_2 3 rfl rfl)
theorem dX0_isEasier_50 : decode cX0_isEasier 50 = .ok (.ixor, 1) := dk_130 (dk_at dksX0_isEasier_2 4 rfl rfl)
theorem dX0_isEasier_51 : decode cX0_isEasier 51 = .ok (.iand, 1) := dk_126 (dk_at dksX0_isEasier_2 5 rfl rfl)
theorem dX0_isEasier_52 : decode cX0_isEasier 52 = .ok (.iload_n 3, 1) := dk_29 (dk_at dksX0_isEasier_2 6 rfl rfl)
theorem dX0_isEasier_53 : decode cX0_isEasier 53 = .ok (.iconst (-1), 1) := dk_2 (dk_at dksX0_isEasier_2 7 rfl rfl)
theorem dX0_isEasier_54 : decode cX0_isEasier 54 = .ok (.ixor, 1) := dk_130 (dk_at dksX0_isEasier_2 8 rfl rfl)
theorem dX0_isEasier_55 : decode cX0_isEasier 55 = .ok (.iand, 1) := dk_126 (dk_at dksX0_isEasier_2 9 rfl rfl)
theorem dX0_isEasier_56 : decode cX0_isEasier 56 = .ok (.invokestatic 136, 3) := dk_184 0 136 (dk_at dksX0_isEasier_2 10 rfl rfl)
theorem dX0_isEasier_59 : decode cX0_isEasier 59 = .ok (.istore 5, 2) := dk_54 5 (dk_at dksX0_isEasier_2 13 rfl rfl)
theorem dX0_isEasier_61 : decode cX0_isEasier 61 = .ok (.iload 4, 2) := dk_21 4 (dk_at dksX0_isEasier_2 15 rfl rfl)
theorem dX0_isEasier_63 : decode cX0_isEasier 63 = .ok (.iload 5, 2) := dk_21 5 (dk_at dksX0_isEasier_2 17 rfl rfl)
theorem dX0_isEasier_65 : decode cX0_isEasier 65 = .ok (.if_icmp .eq 18, 3) := dk_159 0 18 (dk_at dksX0_isEasier_2 19 rfl rfl)
theorem dX0_isEasier_68 : decode cX0_isEasier 68 = .ok (.iload 4, 2) := dk_21 4 (dk_at dksX0_isEasier_2 22 rfl rfl)
theorem dX0_isEasier_70 : decode cX0_isEasier 70 = .ok (.iload 5, 2) := dk_21 5 (dk_at dksX0_isEasier_3 0 rfl rfl)
theorem dX0_isEasier_72 : decode cX0_isEasier 72 = .ok (.if_icmp .ge 7, 3) := dk_162 0 7 (dk_at dksX0_isEasier_3 2 rfl rfl)
theorem dX0_isEasier_75 : decode cX0_isEasier 75 = .ok (.iconst 1, 1) := dk_4 (dk_at dksX0_isEasier_3 5 rfl rfl)
theorem dX0_isEasier_76 : decode cX0_isEasier 76 = .ok (.goto 63, 3) := dk_167 0 63 (dk_at dksX0_isEasier_3 6 rfl rfl)
theorem dX0_isEasier_79 : decode cX0_isEasier 79 = .ok (.iconst 0, 1) := dk_3 (dk_at dksX0_isEasier_3 9 rfl rfl)
theorem dX0_isEasier_80 : decode cX0_isEasier 80 = .ok (.goto 59, 3) := dk_167 0 59 (dk_at dksX0_isEasier_3 10 rfl rfl)
theorem dX0_isEasier_83 : decode cX0_isEasier 83 = .ok (.aload_n 0, 1) := dk_42 (dk_at dksX0_isEasier_3 13 rfl rfl)
theorem dX0_isEasier_84 : decode cX0_isEasier 84 = .ok (.getfield 18, 3) := dk_180 0 18 (dk_at dksX0_isEasier_3 14 rfl rfl)
theorem dX0_isEasier_87 : decode cX0_isEasier 87 = .ok (.getfield 129, 3) := dk_180 0 129 (dk_at dksX0_isEasier_3 17 rfl rfl)
theorem dX0_isEasier_90 : decode cX0_isEasier 90 = .ok (.iload_n 1, 1) := dk_27 (dk_at dksX0_isEasier_3 20 rfl rfl)
theorem dX0_isEasier_91 : decode cX0_isEasier 91 = .ok (.iaload, 1) := dk_46 (dk_at dksX0_isEasier_3 21 rfl rfl)
theorem dX0_isEasier_92 : decode cX0_isEasier 92 = .ok (.aload_n 0, 1) := dk_42 (dk_at dksX0_isEasier_3 22 rfl rfl)
theorem dX0_isEasier_93 : decode cX0_isEasier 93 = .ok (.getfield 18, 3) := dk_180 0 18 (dk_at dksX0_isEasier_4 0 rfl rfl)
theorem dX0_isEasier_96 : decode cX0_isEasier 96 = .ok (.getfield 101, 3) := dk_180 0 101 (dk_at dksX0_isEasier_4 3 rfl rfl)
theorem dX0_isEasier_99 : decode cX0_isEasier 99 = .ok (.iconst (-1), 1) := dk_2 (dk_at dksX0_isEasier_4 6 rfl rfl)
theorem dX0_isEasier_100 : decode cX0_isEasier 100 = .ok (.ixor, 1) := dk_130 (dk_at dksX0_isEasier_4 7 rfl rfl)
theorem dX0_isEasier_101 : decode cX0_isEasier 101 = .ok (.iand, 1) := dk_126 (dk_at dksX0_isEasier_4 8 rfl rfl)
theorem dX0_isEasier_102 : decode cX0_isEasier 102 = .ok (.iload_n 3, 1) := dk_29 (dk_at dksX0_isEasier_4 9 rfl rfl)
theorem dX0_isEasier_103 : decode cX0_isEasier 103 = .ok (.iand, 1) := dk_126 (dk_at dksX0_isEasier_4 10 rfl rfl)
theorem dX0_isEasier_104 : decode cX0_isEasier 104 = .ok (.invokestatic 136, 3) := dk_184 0 136 (dk_at dksX0_isEasier_4 11 rfl rfl)
theorem dX0_isEasier_107 : decode cX0_isEasier 107 = .ok (.aload_n 0, 1) := dk_42 (dk_at dksX0_isEasier_4 14 rfl rfl)
theorem dX0_isEasier_108 : decode cX0_isEasier 108 = .ok (.getfield 18, 3) := dk_180 0 18 (dk_at dksX0_isEasier_4 15 rfl rfl)
theorem dX0_isEasier_111 : decode cX0_isEasier 111 = .ok (.getfield 129, 3) := dk_180 0 129 (dk_at dksX0_isEasier_4 18 rfl rfl)
theorem dX0_isEasier_114 : decode cX0_isEasier 114 = .ok (.iload_n 2, 1) := dk_28 (dk_at dksX0_isEasier_4 21 rfl rfl)
theorem dX0_isEasier_115 : decode cX0_isEasier 115 = .ok (.iaload, 1) := dk_46 (dk_at dksX0_isEasier_4 22 rfl rfl)
theorem dX0_isEasier_116 : decode cX0_isEasier 116 = .ok (.aload_n 0, 1) := dk_42 (dk_at dksX0_isEasier_4 23 rfl rfl)
theorem dX0_isEasier_117 : decode cX0_isEasier 117 = .ok (.getfield 18, 3) := dk_180 0 18 (dk_at dksX0_isEasier_5 0 rfl rfl)
theorem dX0_isEasier_120 : decode cX0_isEasier 120 = .ok (.getfield 101, 3) := dk_180 0 101 (dk_at dksX0_isEasier_5 3 rfl rfl)
theorem dX0_isEasier_123 : decode cX0_isEasier 123 = .ok (.iconst (-1), 1) := dk_2 (dk_at dksX0_isEasier_5 6 rfl rfl)
theorem dX0_isEasier_124 : decode cX0_isEasier 124 = .ok (.ixor, 1) := dk_130 (dk_at dksX0_isEasier_5 7 rfl rfl)
theorem dX0_isEasier_125 : decode cX0_isEasier 125 = .ok (.iand, 1) := dk_126 (dk_at dksX0_isEasier_5 8 rfl rfl)
theorem dX0_isEasier_126 : decode cX0_isEasier 126 = .ok (.iload_n 3, 1) := dk_29 (dk_at dksX0_isEasier_5 9 rfl rfl)
theorem dX0_isEasier_127 : decode cX0_isEasier 127 = .ok (.iand, 1) := dk_126 (dk_at dksX0_isEasier_5 10 rfl rfl)
theorem dX0_isEasier_128 : decode cX0_isEasier 128 = .ok (.invokestatic 136, 3) := dk_184 0 136 (dk_at dksX0_isEasier_5 11 rfl rfl)
theorem dX0_isEasier_131 : decode cX0_isEasier 131 = .ok (.if_icmp .le 7, 3) := dk_164 0 7 (dk_at dksX0_isEasier_5 14 rfl rfl)
theorem dX0_isEasier_134 : decode cX0_isEasier 134 = .ok (.iconst 1, 1) := dk_4 (dk_at dksX0_isEasier_5 17 rfl rfl)
theorem dX0_isEasier_135 : decode cX0_isEasier 135 = .ok (.goto 4, 3) := dk_167 0 4 (dk_at dksX0_isEasier_5 18 rfl rfl)
theorem dX0_isEasier_138 : decode cX0_isEasier 138 = .ok (.iconst 0, 1) := dk_3 (dk_at dksX0_isEasier_5 21 rfl rfl)
theorem dX0_isEasier_139 : decode cX0_isEasier 139 = .ok (.ireturn, 1) := dk_172 (dk_at dksX0_isEasier_5 22 rfl rfl)
abbrev cX0_many : ByteArray := prog_1_method_19_code
def yX0_many : MethodName := ⟨RX0, "many", "(I)I"⟩
def dkwX0_many_1 : List UInt8 := [180, 0, 169, 172]
abbrev dktX0_many_1 : List UInt8 := dkwX0_many_1 ++ []
def dkwX0_many_0 : List UInt8 := [27, 133, 9, 10, 184, 0, 5, 154, 0, 5, 2, 172, 42, 42, 27, 186, 0, 223, 0, 0, 182, 0, 198, 42]
abbrev dktX0_many_0 : List UInt8 := dkwX0_many_0 ++ dktX0_many_1
theorem dksX0_many_0 : cX0_many.data.toList.drop 0 = dktX0_many_0 := by decide +kernel
theorem dksX0_many_1 : cX0_many.data.toList.drop 24 = dktX0_many_1 := dk_seg dksX0_many_0 24 rfl rfl
theorem dX0_many_0 : decode cX0_many 0 = .ok (.iload_n 1, 1) := dk_27 (dk_at dksX0_many_0 0 rfl rfl)
theorem dX0_many_1 : decode cX0_many 1 = .ok (.i2l, 1) := dk_133 (dk_at dksX0_many_0 1 rfl rfl)
theorem dX0_many_2 : decode cX0_many 2 = .ok (.lconst 0, 1) := dk_9 (dk_at dksX0_many_0 2 rfl rfl)
theorem dX0_many_3 : decode cX0_many 3 = .ok (.lconst 1, 1) := dk_10 (dk_at dksX0_many_0 3 rfl rfl)
theorem dX0_many_4 : decode cX0_many 4 = .ok (.invokestatic 5, 3) := dk_184 0 5 (dk_at dksX0_many_0 4 rfl rfl)
theorem dX0_many_7 : decode cX0_many 7 = .ok (.ifCond .ne 5, 3) := dk_154 0 5 (dk_at dksX0_many_0 7 rfl rfl)
theorem dX0_many_10 : decode cX0_many 10 = .ok (.iconst (-1), 1) := dk_2 (dk_at dksX0_many_0 10 rfl rfl)
theorem dX0_many_11 : decode cX0_many 11 = .ok (.ireturn, 1) := dk_172 (dk_at dksX0_many_0 11 rfl rfl)
theorem dX0_many_12 : decode cX0_many 12 = .ok (.aload_n 0, 1) := dk_42 (dk_at dksX0_many_0 12 rfl rfl)
theorem dX0_many_13 : decode cX0_many 13 = .ok (.aload_n 0, 1) := dk_42 (dk_at dksX0_many_0 13 rfl rfl)
theorem dX0_many_14 : decode cX0_many 14 = .ok (.iload_n 1, 1) := dk_27 (dk_at dksX0_many_0 14 rfl rfl)
theorem dX0_many_15 : decode cX0_many 15 = .ok (.invokedynamic 223, 5) := by decide +kernel
theorem dX0_many_20 : decode cX0_many 20 = .ok (.invokevirtual 198, 3) := dk_182 0 198 (dk_at dksX0_many_0 20 rfl rfl)
theorem dX0_many_23 : decode cX0_many 23 = .ok (.aload_n 0, 1) := dk_42 (dk_at dksX0_many_0 23 rfl rfl)
theorem dX0_many_24 : decode cX0_many 24 = .ok (.getfield 169, 3) := dk_180 0 169 (dk_at dksX0_many_1 0 rfl rfl)
theorem dX0_many_27 : decode cX0_many 27 = .ok (.ireturn, 1) := dk_172 (dk_at dksX0_many_1 3 rfl rfl)
abbrev cX0_lambda_many_4 : ByteArray := prog_1_method_70_code
def yX0_lambda_many_4 : MethodName := ⟨RX0, "lambda$many$4", "(ILReadingStages$Shelf;)Z"⟩
def dkwX0_lambda_many_4_2 : List UInt8 := [181, 0, 169, 4, 172]
abbrev dktX0_lambda_many_4_2 : List UInt8 := dkwX0_lambda_many_4_2 ++ []
def dkwX0_lambda_many_4_1 : List UInt8 := [154, 0, 16, 27, 4, 160, 0, 15, 42, 44, 182, 0, 255, 153, 0, 7, 4, 167, 0, 4, 3, 96]
abbrev dktX0_lambda_many_4_1 : List UInt8 := dkwX0_lambda_many_4_1 ++ dktX0_lambda_many_4_2
def dkwX0_lambda_many_4_0 : List UInt8 := [42, 89, 180, 0, 169, 27, 154, 0, 19, 44, 42, 180, 0, 18, 180, 0, 172, 185, 0, 175, 2, 0]
abbrev dktX0_lambda_many_4_0 : List UInt8 := dkwX0_lambda_many_4_0 ++ dktX0_lambda_many_4_1
theorem dksX0_lambda_many_4_0 : cX0_lambda_many_4.data.toList.drop 0 = dktX0_lambda_many_4_0 := by decide +kernel
theorem dksX0_lambda_many_4_1 : cX0_lambda_many_4.data.toList.drop 22 = dktX0_lambda_many_4_1 := dk_seg dksX0_lambda_many_4_0 22 rfl rfl
theorem dksX0_lambda_many_4_2 : cX0_lambda_many_4.data.toList.drop 44 = dktX0_lambda_many_4_2 := dk_seg dksX0_lambda_many_4_1 22 rfl rfl
theorem dX0_lambda_many_4_0 : decode cX0_lambda_many_4 0 = .ok (.aload_n 0, 1) := dk_42 (dk_at dksX0_lambda_many_4_0 0 rfl rfl)
theorem dX0_lambda_many_4_1 : decode cX0_lambda_many_4 1 = .ok (.dup, 1) := dk_89 (dk_at dksX0_lambda_many_4_0 1 rfl rfl)
theorem dX0_lambda_many_4_2 : decode cX0_lambda_many_4 2 = .ok (.getfield 169, 3) := dk_180 0 169 (dk_at dksX0_lambda_many_4_0 2 rfl rfl)
theorem dX0_lambda_many_4_5 : decode cX0_lambda_many_4 5 = .ok (.iload_n 1, 1) := dk_27 (dk_at dksX0_lambda_many_4_0 5 rfl rfl)
theorem dX0_lambda_many_4_6 : decode cX0_lambda_many_4 6 = .ok (.ifCond .ne 19, 3) := dk_154 0 19 (dk_at dksX0_lambda_many_4_0 6 rfl rfl)
theorem dX0_lambda_many_4_9 : decode cX0_lambda_many_4 9 = .ok (.aload_n 2, 1) := dk_44 (dk_at dksX0_lambda_many_4_0 9 rfl rfl)
theorem dX0_lambda_many_4_10 : decode cX0_lambda_many_4 10 = .ok (.aload_n 0, 1) := dk_42 (dk_at dksX0_lambda_many_4_0 10 rfl rfl)
theorem dX0_lambda_many_4_11 : decode cX0_lambda_many_4 11 = .ok (.getfield 18, 3) := dk_180 0 18 (dk_at dksX0_lambda_many_4_0 11 rfl rfl)
theorem dX0_lambda_many_4_14 : decode cX0_lambda_many_4 14 = .ok (.getfield 172, 3) := dk_180 0 172 (dk_at dksX0_lambda_many_4_0 14 rfl rfl)
theorem dX0_lambda_many_4_17 : decode cX0_lambda_many_4 17 = .ok (.invokeinterface 175 2, 5) := by decide +kernel
theorem dX0_lambda_many_4_22 : decode cX0_lambda_many_4 22 = .ok (.ifCond .ne 16, 3) := dk_154 0 16 (dk_at dksX0_lambda_many_4_1 0 rfl rfl)
theorem dX0_lambda_many_4_25 : decode cX0_lambda_many_4 25 = .ok (.iload_n 1, 1) := dk_27 (dk_at dksX0_lambda_many_4_1 3 rfl rfl)
theorem dX0_lambda_many_4_26 : decode cX0_lambda_many_4 26 = .ok (.iconst 1, 1) := dk_4 (dk_at dksX0_lambda_many_4_1 4 rfl rfl)
theorem dX0_lambda_many_4_27 : decode cX0_lambda_many_4 27 = .ok (.if_icmp .ne 15, 3) := dk_160 0 15 (dk_at dksX0_lambda_many_4_1 5 rfl rfl)
theorem dX0_lambda_many_4_30 : decode cX0_lambda_many_4 30 = .ok (.aload_n 0, 1) := dk_42 (dk_at dksX0_lambda_many_4_1 8 rfl rfl)
theorem dX0_lambda_many_4_31 : decode cX0_lambda_many_4 31 = .ok (.aload_n 2, 1) := dk_44 (dk_at dksX0_lambda_many_4_1 9 rfl rfl)
theorem dX0_lambda_many_4_32 : decode cX0_lambda_many_4 32 = .ok (.invokevirtual 255, 3) := dk_182 0 255 (dk_at dksX0_lambda_many_4_1 10 rfl rfl)
theorem dX0_lambda_many_4_35 : decode cX0_lambda_many_4 35 = .ok (.ifCond .eq 7, 3) := dk_153 0 7 (dk_at dksX0_lambda_many_4_1 13 rfl rfl)
theorem dX0_lambda_many_4_38 : decode cX0_lambda_many_4 38 = .ok (.iconst 1, 1) := dk_4 (dk_at dksX0_lambda_many_4_1 16 rfl rfl)
theorem dX0_lambda_many_4_39 : decode cX0_lambda_many_4 39 = .ok (.goto 4, 3) := dk_167 0 4 (dk_at dksX0_lambda_many_4_1 17 rfl rfl)
theorem dX0_lambda_many_4_42 : decode cX0_lambda_many_4 42 = .ok (.iconst 0, 1) := dk_3 (dk_at dksX0_lambda_many_4_1 20 rfl rfl)
theorem dX0_lambda_many_4_43 : decode cX0_lambda_many_4 43 = .ok (.iadd, 1) := dk_96 (dk_at dksX0_lambda_many_4_1 21 rfl rfl)
theorem dX0_lambda_many_4_44 : decode cX0_lambda_many_4 44 = .ok (.putfield 169, 3) := dk_181 0 169 (dk_at dksX0_lambda_many_4_2 0 rfl rfl)
theorem dX0_lambda_many_4_47 : decode cX0_lambda_many_4 47 = .ok (.iconst 1, 1) := dk_4 (dk_at dksX0_lambda_many_4_2 3 rfl rfl)
theorem dX0_lambda_many_4_48 : decode cX0_lambda_many_4 48 = .ok (.ireturn, 1) := dk_172 (dk_at dksX0_lambda_many_4_2 4 rfl rfl)
abbrev cX0_doesFit : ByteArray := prog_1_method_14_code
def yX0_doesFit : MethodName := ⟨RX0, "doesFit", "(LReadingStages$Shelf;)Z"⟩
def dkwX0_doesFit_2 : List UInt8 := [3, 172]
abbrev dktX0_doesFit_2 : List UInt8 := dkwX0_doesFit_2 ++ []
def dkwX0_doesFit_1 : List UInt8 := [42, 43, 185, 0, 121, 1, 0, 182, 0, 183, 42, 180, 0, 18, 180, 0, 186, 163, 0, 7, 4, 167, 0, 4]
abbrev dktX0_doesFit_1 : List UInt8 := dkwX0_doesFit_1 ++ dktX0_doesFit_2
def dkwX0_doesFit_0 : List UInt8 := [43, 42, 180, 0, 18, 180, 0, 172, 185, 0, 175, 2, 0, 154, 0, 5, 3, 172, 42, 43, 3, 182, 0, 179]
abbrev dktX0_doesFit_0 : List UInt8 := dkwX0_doesFit_0 ++ dktX0_doesFit_1
theorem dksX0_doesFit_0 : cX0_doesFit.data.toList.drop 0 = dktX0_doesFit_0 := by decide +kernel
theorem dksX0_doesFit_1 : cX0_doesFit.data.toList.drop 24 = dktX0_doesFit_1 := dk_seg dksX0_doesFit_0 24 rfl rfl
theorem dksX0_doesFit_2 : cX0_doesFit.data.toList.drop 48 = dktX0_doesFit_2 := dk_seg dksX0_doesFit_1 24 rfl rfl
theorem dX0_doesFit_0 : decode cX0_doesFit 0 = .ok (.aload_n 1, 1) := dk_43 (dk_at dksX0_doesFit_0 0 rfl rfl)
theorem dX0_doesFit_1 : decode cX0_doesFit 1 = .ok (.aload_n 0, 1) := dk_42 (dk_at dksX0_doesFit_0 1 rfl rfl)
theorem dX0_doesFit_2 : decode cX0_doesFit 2 = .ok (.getfield 18, 3) := dk_180 0 18 (dk_at dksX0_doesFit_0 2 rfl rfl)
theorem dX0_doesFit_5 : decode cX0_doesFit 5 = .ok (.getfield 172, 3) := dk_180 0 172 (dk_at dksX0_doesFit_0 5 rfl rfl)
theorem dX0_doesFit_8 : decode cX0_doesFit 8 = .ok (.invokeinterface 175 2, 5) := by decide +kernel
theorem dX0_doesFit_13 : decode cX0_doesFit 13 = .ok (.ifCond .ne 5, 3) := dk_154 0 5 (dk_at dksX0_doesFit_0 13 rfl rfl)
theorem dX0_doesFit_16 : decode cX0_doesFit 16 = .ok (.iconst 0, 1) := dk_3 (dk_at dksX0_doesFit_0 16 rfl rfl)
theorem dX0_doesFit_17 : decode cX0_doesFit 17 = .ok (.ireturn, 1) := dk_172 (dk_at dksX0_doesFit_0 17 rfl rfl)
theorem dX0_doesFit_18 : decode cX0_doesFit 18 = .ok (.aload_n 0, 1) := dk_42 (dk_at dksX0_doesFit_0 18 rfl rfl)
theorem dX0_doesFit_19 : decode cX0_doesFit 19 = .ok (.aload_n 1, 1) := dk_43 (dk_at dksX0_doesFit_0 19 rfl rfl)
theorem dX0_doesFit_20 : decode cX0_doesFit 20 = .ok (.iconst 0, 1) := dk_3 (dk_at dksX0_doesFit_0 20 rfl rfl)
theorem dX0_doesFit_21 : decode cX0_doesFit 21 = .ok (.invokevirtual 179, 3) := dk_182 0 179 (dk_at dksX0_doesFit_0 21 rfl rfl)
theorem dX0_doesFit_24 : decode cX0_doesFit 24 = .ok (.aload_n 0, 1) := dk_42 (dk_at dksX0_doesFit_1 0 rfl rfl)
theorem dX0_doesFit_25 : decode cX0_doesFit 25 = .ok (.aload_n 1, 1) := dk_43 (dk_at dksX0_doesFit_1 1 rfl rfl)
theorem dX0_doesFit_26 : decode cX0_doesFit 26 = .ok (.invokeinterface 121 1, 5) := by decide +kernel
theorem dX0_doesFit_31 : decode cX0_doesFit 31 = .ok (.invokevirtual 183, 3) := dk_182 0 183 (dk_at dksX0_doesFit_1 7 rfl rfl)
theorem dX0_doesFit_34 : decode cX0_doesFit 34 = .ok (.aload_n 0, 1) := dk_42 (dk_at dksX0_doesFit_1 10 rfl rfl)
theorem dX0_doesFit_35 : decode cX0_doesFit 35 = .ok (.getfield 18, 3) := dk_180 0 18 (dk_at dksX0_doesFit_1 11 rfl rfl)
theorem dX0_doesFit_38 : decode cX0_doesFit 38 = .ok (.getfield 186, 3) := dk_180 0 186 (dk_at dksX0_doesFit_1 14 rfl rfl)
theorem dX0_doesFit_41 : decode cX0_doesFit 41 = .ok (.if_icmp .gt 7, 3) := dk_163 0 7 (dk_at dksX0_doesFit_1 17 rfl rfl)
theorem dX0_doesFit_44 : decode cX0_doesFit 44 = .ok (.iconst 1, 1) := dk_4 (dk_at dksX0_doesFit_1 20 rfl rfl)
theorem dX0_doesFit_45 : decode cX0_doesFit 45 = .ok (.goto 4, 3) := dk_167 0 4 (dk_at dksX0_doesFit_1 21 rfl rfl)
theorem dX0_doesFit_48 : decode cX0_doesFit 48 = .ok (.iconst 0, 1) := dk_3 (dk_at dksX0_doesFit_2 0 rfl rfl)
theorem dX0_doesFit_49 : decode cX0_doesFit 49 = .ok (.ireturn, 1) := dk_172 (dk_at dksX0_doesFit_2 1 rfl rfl)
abbrev cX0_fit : ByteArray := prog_1_method_20_code
def yX0_fit : MethodName := ⟨RX0, "fit", "(I)I"⟩
def dkwX0_fit_1 : List UInt8 := [180, 0, 226, 172]
abbrev dktX0_fit_1 : List UInt8 := dkwX0_fit_1 ++ []
def dkwX0_fit_0 : List UInt8 := [27, 156, 0, 5, 2, 172, 42, 16, 252, 181, 0, 226, 42, 42, 27, 186, 0, 229, 0, 0, 182, 0, 198, 42]
abbrev dktX0_fit_0 : List UInt8 := dkwX0_fit_0 ++ dktX0_fit_1
theorem dksX0_fit_0 : cX0_fit.data.toList.drop 0 = dktX0_fit_0 := by decide +kernel
theorem dksX0_fit_1 : cX0_fit.data.toList.drop 24 = dktX0_fit_1 := dk_seg dksX0_fit_0 24 rfl rfl
theorem dX0_fit_0 : decode cX0_fit 0 = .ok (.iload_n 1, 1) := dk_27 (dk_at dksX0_fit_0 0 rfl rfl)
theorem dX0_fit_1 : decode cX0_fit 1 = .ok (.ifCond .ge 5, 3) := dk_156 0 5 (dk_at dksX0_fit_0 1 rfl rfl)
theorem dX0_fit_4 : decode cX0_fit 4 = .ok (.iconst (-1), 1) := dk_2 (dk_at dksX0_fit_0 4 rfl rfl)
theorem dX0_fit_5 : decode cX0_fit 5 = .ok (.ireturn, 1) := dk_172 (dk_at dksX0_fit_0 5 rfl rfl)
theorem dX0_fit_6 : decode cX0_fit 6 = .ok (.aload_n 0, 1) := dk_42 (dk_at dksX0_fit_0 6 rfl rfl)
theorem dX0_fit_7 : decode cX0_fit 7 = .ok (.bipush (-4), 2) := dk_16 252 (dk_at dksX0_fit_0 7 rfl rfl)
theorem dX0_fit_9 : decode cX0_fit 9 = .ok (.putfield 226, 3) := dk_181 0 226 (dk_at dksX0_fit_0 9 rfl rfl)
theorem dX0_fit_12 : decode cX0_fit 12 = .ok (.aload_n 0, 1) := dk_42 (dk_at dksX0_fit_0 12 rfl rfl)
theorem dX0_fit_13 : decode cX0_fit 13 = .ok (.aload_n 0, 1) := dk_42 (dk_at dksX0_fit_0 13 rfl rfl)
theorem dX0_fit_14 : decode cX0_fit 14 = .ok (.iload_n 1, 1) := dk_27 (dk_at dksX0_fit_0 14 rfl rfl)
theorem dX0_fit_15 : decode cX0_fit 15 = .ok (.invokedynamic 229, 5) := by decide +kernel
theorem dX0_fit_20 : decode cX0_fit 20 = .ok (.invokevirtual 198, 3) := dk_182 0 198 (dk_at dksX0_fit_0 20 rfl rfl)
theorem dX0_fit_23 : decode cX0_fit 23 = .ok (.aload_n 0, 1) := dk_42 (dk_at dksX0_fit_0 23 rfl rfl)
theorem dX0_fit_24 : decode cX0_fit 24 = .ok (.getfield 226, 3) := dk_180 0 226 (dk_at dksX0_fit_1 0 rfl rfl)
theorem dX0_fit_27 : decode cX0_fit 27 = .ok (.ireturn, 1) := dk_172 (dk_at dksX0_fit_1 3 rfl rfl)
abbrev cX0_lambda_fit_5 : ByteArray := prog_1_method_69_code
def yX0_lambda_fit_5 : MethodName := ⟨RX0, "lambda$fit$5", "(ILReadingStages$Shelf;)Z"⟩
def dkwX0_lambda_fit_5_2 : List UInt8 := [156, 0, 7, 4, 167, 0, 4, 3, 172]
abbrev dktX0_lambda_fit_5_2 : List UInt8 := dkwX0_lambda_fit_5_2 ++ []
def dkwX0_lambda_fit_5_1 : List UInt8 := [167, 0, 7, 42, 180, 0, 226, 181, 0, 226, 42, 89, 180, 0, 169, 4, 96, 181, 0, 169, 42, 180, 0, 226]
abbrev dktX0_lambda_fit_5_1 : List UInt8 := dkwX0_lambda_fit_5_1 ++ dktX0_lambda_fit_5_2
def dkwX0_lambda_fit_5_0 : List UInt8 := [42, 44, 182, 0, 255, 153, 0, 38, 42, 42, 180, 0, 169, 27, 160, 0, 12, 44, 185, 1, 223, 1, 0]
abbrev dktX0_lambda_fit_5_0 : List UInt8 := dkwX0_lambda_fit_5_0 ++ dktX0_lambda_fit_5_1
theorem dksX0_lambda_fit_5_0 : cX0_lambda_fit_5.data.toList.drop 0 = dktX0_lambda_fit_5_0 := by decide +kernel
theorem dksX0_lambda_fit_5_1 : cX0_lambda_fit_5.data.toList.drop 23 = dktX0_lambda_fit_5_1 := dk_seg dksX0_lambda_fit_5_0 23 rfl rfl
theorem dksX0_lambda_fit_5_2 : cX0_lambda_fit_5.data.toList.drop 47 = dktX0_lambda_fit_5_2 := dk_seg dksX0_lambda_fit_5_1 24 rfl rfl
theorem dX0_lambda_fit_5_0 : decode cX0_lambda_fit_5 0 = .ok (.aload_n 0, 1) := dk_42 (dk_at dksX0_lambda_fit_5_0 0 rfl rfl)
theorem dX0_lambda_fit_5_1 : decode cX0_lambda_fit_5 1 = .ok (.aload_n 2, 1) := dk_44 (dk_at dksX0_lambda_fit_5_0 1 rfl rfl)
theorem dX0_lambda_fit_5_2 : decode cX0_lambda_fit_5 2 = .ok (.invokevirtual 255, 3) := dk_182 0 255 (dk_at dksX0_lambda_fit_5_0 2 rfl rfl)
theorem dX0_lambda_fit_5_5 : decode cX0_lambda_fit_5 5 = .ok (.ifCond .eq 38, 3) := dk_153 0 38 (dk_at dksX0_lambda_fit_5_0 5 rfl rfl)
theorem dX0_lambda_fit_5_8 : decode cX0_lambda_fit_5 8 = .ok (.aload_n 0, 1) := dk_42 (dk_at dksX0_lambda_fit_5_0 8 rfl rfl)
theorem dX0_lambda_fit_5_9 : decode cX0_lambda_fit_5 9 = .ok (.aload_n 0, 1) := dk_42 (dk_at dksX0_lambda_fit_5_0 9 rfl rfl)
theorem dX0_lambda_fit_5_10 : decode cX0_lambda_fit_5 10 = .ok (.getfield 169, 3) := dk_180 0 169 (dk_at dksX0_lambda_fit_5_0 10 rfl rfl)
theorem dX0_lambda_fit_5_13 : decode cX0_lambda_fit_5 13 = .ok (.iload_n 1, 1) := dk_27 (dk_at dksX0_lambda_fit_5_0 13 rfl rfl)
theorem dX0_lambda_fit_5_14 : decode cX0_lambda_fit_5 14 = .ok (.if_icmp .ne 12, 3) := dk_160 0 12 (dk_at dksX0_lambda_fit_5_0 14 rfl rfl)
theorem dX0_lambda_fit_5_17 : decode cX0_lambda_fit_5 17 = .ok (.aload_n 2, 1) := dk_44 (dk_at dksX0_lambda_fit_5_0 17 rfl rfl)
theorem dX0_lambda_fit_5_18 : decode cX0_lambda_fit_5 18 = .ok (.invokeinterface 479 1, 5) := by decide +kernel
theorem dX0_lambda_fit_5_23 : decode cX0_lambda_fit_5 23 = .ok (.goto 7, 3) := dk_167 0 7 (dk_at dksX0_lambda_fit_5_1 0 rfl rfl)
theorem dX0_lambda_fit_5_26 : decode cX0_lambda_fit_5 26 = .ok (.aload_n 0, 1) := dk_42 (dk_at dksX0_lambda_fit_5_1 3 rfl rfl)
theorem dX0_lambda_fit_5_27 : decode cX0_lambda_fit_5 27 = .ok (.getfield 226, 3) := dk_180 0 226 (dk_at dksX0_lambda_fit_5_1 4 rfl rfl)
theorem dX0_lambda_fit_5_30 : decode cX0_lambda_fit_5 30 = .ok (.putfield 226, 3) := dk_181 0 226 (dk_at dksX0_lambda_fit_5_1 7 rfl rfl)
theorem dX0_lambda_fit_5_33 : decode cX0_lambda_fit_5 33 = .ok (.aload_n 0, 1) := dk_42 (dk_at dksX0_lambda_fit_5_1 10 rfl rfl)
theorem dX0_lambda_fit_5_34 : decode cX0_lambda_fit_5 34 = .ok (.dup, 1) := dk_89 (dk_at dksX0_lambda_fit_5_1 11 rfl rfl)
theorem dX0_lambda_fit_5_35 : decode cX0_lambda_fit_5 35 = .ok (.getfield 169, 3) := dk_180 0 169 (dk_at dksX0_lambda_fit_5_1 12 rfl rfl)
theorem dX0_lambda_fit_5_38 : decode cX0_lambda_fit_5 38 = .ok (.iconst 1, 1) := dk_4 (dk_at dksX0_lambda_fit_5_1 15 rfl rfl)
theorem dX0_lambda_fit_5_39 : decode cX0_lambda_fit_5 39 = .ok (.iadd, 1) := dk_96 (dk_at dksX0_lambda_fit_5_1 16 rfl rfl)
theorem dX0_lambda_fit_5_40 : decode cX0_lambda_fit_5 40 = .ok (.putfield 169, 3) := dk_181 0 169 (dk_at dksX0_lambda_fit_5_1 17 rfl rfl)
theorem dX0_lambda_fit_5_43 : decode cX0_lambda_fit_5 43 = .ok (.aload_n 0, 1) := dk_42 (dk_at dksX0_lambda_fit_5_1 20 rfl rfl)
theorem dX0_lambda_fit_5_44 : decode cX0_lambda_fit_5 44 = .ok (.getfield 226, 3) := dk_180 0 226 (dk_at dksX0_lambda_fit_5_1 21 rfl rfl)
theorem dX0_lambda_fit_5_47 : decode cX0_lambda_fit_5 47 = .ok (.ifCond .ge 7, 3) := dk_156 0 7 (dk_at dksX0_lambda_fit_5_2 0 rfl rfl)
theorem dX0_lambda_fit_5_50 : decode cX0_lambda_fit_5 50 = .ok (.iconst 1, 1) := dk_4 (dk_at dksX0_lambda_fit_5_2 3 rfl rfl)
theorem dX0_lambda_fit_5_51 : decode cX0_lambda_fit_5 51 = .ok (.goto 4, 3) := dk_167 0 4 (dk_at dksX0_lambda_fit_5_2 4 rfl rfl)
theorem dX0_lambda_fit_5_54 : decode cX0_lambda_fit_5 54 = .ok (.iconst 0, 1) := dk_3 (dk_at dksX0_lambda_fit_5_2 7 rfl rfl)
theorem dX0_lambda_fit_5_55 : decode cX0_lambda_fit_5 55 = .ok (.ireturn, 1) := dk_172 (dk_at dksX0_lambda_fit_5_2 8 rfl rfl)
abbrev cX0_kept : ByteArray := prog_1_method_21_code
def yX0_kept : MethodName := ⟨RX0, "kept", "(III)I"⟩
def dkwX0_kept_9 : List UInt8 := [21, 6, 21, 7, 108, 172]
abbrev dktX0_kept_9 : List UInt8 := dkwX0_kept_9 ++ []
def dkwX0_kept_8 : List UInt8 := [21, 8, 54, 7, 21, 9, 54, 8, 167, 255, 236, 29, 154, 0, 11, 21, 5, 21, 7, 108, 167, 0, 8]
abbrev dktX0_kept_8 : List UInt8 := dkwX0_kept_8 ++ dktX0_kept_9
def dkwX0_kept_7 : List UInt8 := [167, 255, 169, 21, 5, 54, 7, 21, 6, 54, 8, 21, 8, 153, 0, 21, 21, 7, 21, 8, 112, 54, 9]
abbrev dktX0_kept_7 : List UInt8 := dkwX0_kept_7 ++ dktX0_kept_8
def dkwX0_kept_6 : List UInt8 := [16, 10, 28, 100, 104, 54, 8, 132, 9, 1, 167, 255, 223, 21, 5, 21, 8, 96, 54, 5, 132, 7, 1]
abbrev dktX0_kept_6 : List UInt8 := dkwX0_kept_6 ++ dktX0_kept_7
def dkwX0_kept_5 : List UInt8 := [21, 9, 21, 4, 162, 0, 32, 21, 8, 21, 7, 21, 9, 184, 0, 108, 153, 0, 7, 28, 167, 0, 7]
abbrev dktX0_kept_5 : List UInt8 := dkwX0_kept_5 ++ dktX0_kept_6
def dkwX0_kept_4 : List UInt8 := [21, 7, 182, 0, 179, 42, 180, 0, 28, 27, 51, 158, 0, 7, 4, 167, 0, 4, 3, 54, 8, 3, 54, 9]
abbrev dktX0_kept_4 : List UInt8 := dkwX0_kept_4 ++ dktX0_kept_5
def dkwX0_kept_3 : List UInt8 := [167, 255, 239, 3, 54, 7, 21, 7, 4, 21, 4, 120, 162, 0, 84, 42, 42, 180, 0, 18, 180, 0, 234]
abbrev dktX0_kept_3 : List UInt8 := dkwX0_kept_3 ++ dktX0_kept_4
def dkwX0_kept_2 : List UInt8 := [4, 54, 6, 3, 54, 7, 21, 7, 21, 4, 162, 0, 16, 21, 6, 16, 10, 104, 54, 6, 132, 7, 1]
abbrev dktX0_kept_2 : List UInt8 := dkwX0_kept_2 ++ dktX0_kept_3
def dkwX0_kept_1 : List UInt8 := [29, 133, 9, 10, 184, 0, 5, 154, 0, 5, 2, 172, 42, 180, 0, 18, 182, 0, 97, 54, 4, 3, 54, 5]
abbrev dktX0_kept_1 : List UInt8 := dkwX0_kept_1 ++ dktX0_kept_2
def dkwX0_kept_0 : List UInt8 := [27, 133, 9, 20, 0, 230, 184, 0, 5, 153, 0, 25, 28, 133, 9, 20, 0, 232, 184, 0, 5, 153, 0, 13]
abbrev dktX0_kept_0 : List UInt8 := dkwX0_kept_0 ++ dktX0_kept_1
theorem dksX0_kept_0 : cX0_kept.data.toList.drop 0 = dktX0_kept_0 := by decide +kernel
theorem dksX0_kept_1 : cX0_kept.data.toList.drop 24 = dktX0_kept_1 := dk_seg dksX0_kept_0 24 rfl rfl
theorem dksX0_kept_2 : cX0_kept.data.toList.drop 48 = dktX0_kept_2 := dk_seg dksX0_kept_1 24 rfl rfl
theorem dksX0_kept_3 : cX0_kept.data.toList.drop 71 = dktX0_kept_3 := dk_seg dksX0_kept_2 23 rfl rfl
theorem dksX0_kept_4 : cX0_kept.data.toList.drop 94 = dktX0_kept_4 := dk_seg dksX0_kept_3 23 rfl rfl
theorem dksX0_kept_5 : cX0_kept.data.toList.drop 118 = dktX0_kept_5 := dk_seg dksX0_kept_4 24 rfl rfl
theorem dksX0_kept_6 : cX0_kept.data.toList.drop 141 = dktX0_kept_6 := dk_seg dksX0_kept_5 23 rfl rfl
theorem dksX0_kept_7 : cX0_kept.data.toList.drop 164 = dktX0_kept_7 := dk_seg dksX0_kept_6 23 rfl rfl
theorem dksX0_kept_8 : cX0_kept.data.toList.drop 187 = dktX0_kept_8 := dk_seg dksX0_kept_7 23 rfl rfl
theorem dksX0_kept_9 : cX0_kept.data.toList.drop 210 = dktX0_kept_9 := dk_seg dksX0_kept_8 23 rfl rfl
theorem dX0_kept_0 : decode cX0_kept 0 = .ok (.iload_n 1, 1) := dk_27 (dk_at dksX0_kept_0 0 rfl rfl)
theorem dX0_kept_1 : decode cX0_kept 1 = .ok (.i2l, 1) := dk_133 (dk_at dksX0_kept_0 1 rfl rfl)
theorem dX0_kept_2 : decode cX0_kept 2 = .ok (.lconst 0, 1) := dk_9 (dk_at dksX0_kept_0 2 rfl rfl)
theorem dX0_kept_3 : decode cX0_kept 3 = .ok (.ldc2_w 230, 3) := dk_20 0 230 (dk_at dksX0_kept_0 3 rfl rfl)
theorem dX0_kept_6 : decode cX0_kept 6 = .ok (.invokestatic 5, 3) := dk_184 0 5 (dk_at dksX0_kept_0 6 rfl rfl)
theorem dX0_kept_9 : decode cX0_kept 9 = .ok (.ifCond .eq 25, 3) := dk_153 0 25 (dk_at dksX0_kept_0 9 rfl rfl)
theorem dX0_kept_12 : decode cX0_kept 12 = .ok (.iload_n 2, 1) := dk_28 (dk_at dksX0_kept_0 12 rfl rfl)
theorem dX0_kept_13 : decode cX0_kept 13 = .ok (.i2l, 1) := dk_133 (dk_at dksX0_kept_0 13 rfl rfl)
theorem dX0_kept_14 : decode cX0_kept 14 = .ok (.lconst 0, 1) := dk_9 (dk_at dksX0_kept_0 14 rfl rfl)
theorem dX0_kept_15 : decode cX0_kept 15 = .ok (.ldc2_w 232, 3) := dk_20 0 232 (dk_at dksX0_kept_0 15 rfl rfl)
theorem dX0_kept_18 : decode cX0_kept 18 = .ok (.invokestatic 5, 3) := dk_184 0 5 (dk_at dksX0_kept_0 18 rfl rfl)
theorem dX0_kept_21 : decode cX0_kept 21 = .ok (.ifCond .eq 13, 3) := dk_153 0 13 (dk_at dksX0_kept_0 21 rfl rfl)
theorem dX0_kept_24 : decode cX0_kept 24 = .ok (.iload_n 3, 1) := dk_29 (dk_at dksX0_kept_1 0 rfl rfl)
theorem dX0_kept_25 : decode cX0_kept 25 = .ok (.i2l, 1) := dk_133 (dk_at dksX0_kept_1 1 rfl rfl)
theorem dX0_kept_26 : decode cX0_kept 26 = .ok (.lconst 0, 1) := dk_9 (dk_at dksX0_kept_1 2 rfl rfl)
theorem dX0_kept_27 : decode cX0_kept 27 = .ok (.lconst 1, 1) := dk_10 (dk_at dksX0_kept_1 3 rfl rfl)
theorem dX0_kept_28 : decode cX0_kept 28 = .ok (.invokestatic 5, 3) := dk_184 0 5 (dk_at dksX0_kept_1 4 rfl rfl)
theorem dX0_kept_31 : decode cX0_kept 31 = .ok (.ifCond .ne 5, 3) := dk_154 0 5 (dk_at dksX0_kept_1 7 rfl rfl)
theorem dX0_kept_34 : decode cX0_kept 34 = .ok (.iconst (-1), 1) := dk_2 (dk_at dksX0_kept_1 10 rfl rfl)
theorem dX0_kept_35 : decode cX0_kept 35 = .ok (.ireturn, 1) := dk_172 (dk_at dksX0_kept_1 11 rfl rfl)
theorem dX0_kept_36 : decode cX0_kept 36 = .ok (.aload_n 0, 1) := dk_42 (dk_at dksX0_kept_1 12 rfl rfl)
theorem dX0_kept_37 : decode cX0_kept 37 = .ok (.getfield 18, 3) := dk_180 0 18 (dk_at dksX0_kept_1 13 rfl rfl)
theorem dX0_kept_40 : decode cX0_kept 40 = .ok (.invokevirtual 97, 3) := dk_182 0 97 (dk_at dksX0_kept_1 16 rfl rfl)
theorem dX0_kept_43 : decode cX0_kept 43 = .ok (.istore 4, 2) := dk_54 4 (dk_at dksX0_kept_1 19 rfl rfl)
theorem dX0_kept_45 : decode cX0_kept 45 = .ok (.iconst 0, 1) := dk_3 (dk_at dksX0_kept_1 21 rfl rfl)
theorem dX0_kept_46 : decode cX0_kept 46 = .ok (.istore 5, 2) := dk_54 5 (dk_at dksX0_kept_1 22 rfl rfl)
theorem dX0_kept_48 : decode cX0_kept 48 = .ok (.iconst 1, 1) := dk_4 (dk_at dksX0_kept_2 0 rfl rfl)
theorem dX0_kept_49 : decode cX0_kept 49 = .ok (.istore 6, 2) := dk_54 6 (dk_at dksX0_kept_2 1 rfl rfl)
theorem dX0_kept_51 : decode cX0_kept 51 = .ok (.iconst 0, 1) := dk_3 (dk_at dksX0_kept_2 3 rfl rfl)
theorem dX0_kept_52 : decode cX0_kept 52 = .ok (.istore 7, 2) := dk_54 7 (dk_at dksX0_kept_2 4 rfl rfl)
theorem dX0_kept_54 : decode cX0_kept 54 = .ok (.iload 7, 2) := dk_21 7 (dk_at dksX0_kept_2 6 rfl rfl)
theorem dX0_kept_56 : decode cX0_kept 56 = .ok (.iload 4, 2) := dk_21 4 (dk_at dksX0_kept_2 8 rfl rfl)
theorem dX0_kept_58 : decode cX0_kept 58 = .ok (.if_icmp .ge 16, 3) := dk_162 0 16 (dk_at dksX0_kept_2 10 rfl rfl)
theorem dX0_kept_61 : decode cX0_kept 61 = .ok (.iload 6, 2) := dk_21 6 (dk_at dksX0_kept_2 13 rfl rfl)
theorem dX0_kept_63 : decode cX0_kept 63 = .ok (.bipush 10, 2) := dk_16 10 (dk_at dksX0_kept_2 15 rfl rfl)
theorem dX0_kept_65 : decode cX0_kept 65 = .ok (.imul, 1) := dk_104 (dk_at dksX0_kept_2 17 rfl rfl)
theorem dX0_kept_66 : decode cX0_kept 66 = .ok (.istore 6, 2) := dk_54 6 (dk_at dksX0_kept_2 18 rfl rfl)
theorem dX0_kept_68 : decode cX0_kept 68 = .ok (.iinc 7 1, 3) := dk_132 7 1 (dk_at dksX0_kept_2 20 rfl rfl)
theorem dX0_kept_71 : decode cX0_kept 71 = .ok (.goto (-17), 3) := dk_167 255 239 (dk_at dksX0_kept_3 0 rfl rfl)
theorem dX0_kept_74 : decode cX0_kept 74 = .ok (.iconst 0, 1) := dk_3 (dk_at dksX0_kept_3 3 rfl rfl)
theorem dX0_kept_75 : decode cX0_kept 75 = .ok (.istore 7, 2) := dk_54 7 (dk_at dksX0_kept_3 4 rfl rfl)
theorem dX0_kept_77 : decode cX0_kept 77 = .ok (.iload 7, 2) := dk_21 7 (dk_at dksX0_kept_3 6 rfl rfl)
theorem dX0_kept_79 : decode cX0_kept 79 = .ok (.iconst 1, 1) := dk_4 (dk_at dksX0_kept_3 8 rfl rfl)
theorem dX0_kept_80 : decode cX0_kept 80 = .ok (.iload 4, 2) := dk_21 4 (dk_at dksX0_kept_3 9 rfl rfl)
theorem dX0_kept_82 : decode cX0_kept 82 = .ok (.ishl, 1) := dk_120 (dk_at dksX0_kept_3 11 rfl rfl)
theorem dX0_kept_83 : decode cX0_kept 83 = .ok (.if_icmp .ge 84, 3) := dk_162 0 84 (dk_at dksX0_kept_3 12 rfl rfl)
theorem dX0_kept_86 : decode cX0_kept 86 = .ok (.aload_n 0, 1) := dk_42 (dk_at dksX0_kept_3 15 rfl rfl)
theorem dX0_kept_87 : decode cX0_kept 87 = .ok (.aload_n 0, 1) := dk_42 (dk_at dksX0_kept_3 16 rfl rfl)
theorem dX0_kept_88 : decode cX0_kept 88 = .ok (.getfield 18, 3) := dk_180 0 18 (dk_at dksX0_kept_3 17 rfl rfl)
theorem dX0_kept_91 : decode cX0_kept 91 = .ok (.getfield 234, 3) := dk_180 0 234 (dk_at dksX0_kept_3 20 rfl rfl)
theorem dX0_kept_94 : decode cX0_kept 94 = .ok (.iload 7, 2) := dk_21 7 (dk_at dksX0_kept_4 0 rfl rfl)
theorem dX0_kept_96 : decode cX0_kept 96 = .ok (.invokevirtual 179, 3) := dk_182 0 179 (dk_at dksX0_kept_4 2 rfl rfl)
theorem dX0_kept_99 : decode cX0_kept 99 = .ok (.aload_n 0, 1) := dk_42 (dk_at dksX0_kept_4 5 rfl rfl)
theorem dX0_kept_100 : decode cX0_kept 100 = .ok (.getfield 28, 3) := dk_180 0 28 (dk_at dksX0_kept_4 6 rfl rfl)
theorem dX0_kept_103 : decode cX0_kept 103 = .ok (.iload_n 1, 1) := dk_27 (dk_at dksX0_kept_4 9 rfl rfl)
theorem dX0_kept_104 : decode cX0_kept 104 = .ok (.baload, 1) := dk_51 (dk_at dksX0_kept_4 10 rfl rfl)
theorem dX0_kept_105 : decode cX0_kept 105 = .ok (.ifCond .le 7, 3) := dk_158 0 7 (dk_at dksX0_kept_4 11 rfl rfl)
theorem dX0_kept_108 : decode cX0_kept 108 = .ok (.iconst 1, 1) := dk_4 (dk_at dksX0_kept_4 14 rfl rfl)
theorem dX0_kept_109 : decode cX0_kept 109 = .ok (.goto 4, 3) := dk_167 0 4 (dk_at dksX0_kept_4 15 rfl rfl)
theorem dX0_kept_112 : decode cX0_kept 112 = .ok (.iconst 0, 1) := dk_3 (dk_at dksX0_kept_4 18 rfl rfl)
theorem dX0_kept_113 : decode cX0_kept 113 = .ok (.istore 8, 2) := dk_54 8 (dk_at dksX0_kept_4 19 rfl rfl)
theorem dX0_kept_115 : decode cX0_kept 115 = .ok (.iconst 0, 1) := dk_3 (dk_at dksX0_kept_4 21 rfl rfl)
theorem dX0_kept_116 : decode cX0_kept 116 = .ok (.istore 9, 2) := dk_54 9 (dk_at dksX0_kept_4 22 rfl rfl)
theorem dX0_kept_118 : decode cX0_kept 118 = .ok (.iload 9, 2) := dk_21 9 (dk_at dksX0_kept_5 0 rfl rfl)
theorem dX0_kept_120 : decode cX0_kept 120 = .ok (.iload 4, 2) := dk_21 4 (dk_at dksX0_kept_5 2 rfl rfl)
theorem dX0_kept_122 : decode cX0_kept 122 = .ok (.if_icmp .ge 32, 3) := dk_162 0 32 (dk_at dksX0_kept_5 4 rfl rfl)
theorem dX0_kept_125 : decode cX0_kept 125 = .ok (.iload 8, 2) := dk_21 8 (dk_at dksX0_kept_5 7 rfl rfl)
theorem dX0_kept_127 : decode cX0_kept 127 = .ok (.iload 7, 2) := dk_21 7 (dk_at dksX0_kept_5 9 rfl rfl)
theorem dX0_kept_129 : decode cX0_kept 129 = .ok (.iload 9, 2) := dk_21 9 (dk_at dksX0_kept_5 11 rfl rfl)
theorem dX0_kept_131 : decode cX0_kept 131 = .ok (.invokestatic 108, 3) := dk_184 0 108 (dk_at dksX0_kept_5 13 rfl rfl)
theorem dX0_kept_134 : decode cX0_kept 134 = .ok (.ifCond .eq 7, 3) := dk_153 0 7 (dk_at dksX0_kept_5 16 rfl rfl)
theorem dX0_kept_137 : decode cX0_kept 137 = .ok (.iload_n 2, 1) := dk_28 (dk_at dksX0_kept_5 19 rfl rfl)
theorem dX0_kept_138 : decode cX0_kept 138 = .ok (.goto 7, 3) := dk_167 0 7 (dk_at dksX0_kept_5 20 rfl rfl)
theorem dX0_kept_141 : decode cX0_kept 141 = .ok (.bipush 10, 2) := dk_16 10 (dk_at dksX0_kept_6 0 rfl rfl)
theorem dX0_kept_143 : decode cX0_kept 143 = .ok (.iload_n 2, 1) := dk_28 (dk_at dksX0_kept_6 2 rfl rfl)
theorem dX0_kept_144 : decode cX0_kept 144 = .ok (.isub, 1) := dk_100 (dk_at dksX0_kept_6 3 rfl rfl)
theorem dX0_kept_145 : decode cX0_kept 145 = .ok (.imul, 1) := dk_104 (dk_at dksX0_kept_6 4 rfl rfl)
theorem dX0_kept_146 : decode cX0_kept 146 = .ok (.istore 8, 2) := dk_54 8 (dk_at dksX0_kept_6 5 rfl rfl)
theorem dX0_kept_148 : decode cX0_kept 148 = .ok (.iinc 9 1, 3) := dk_132 9 1 (dk_at dksX0_kept_6 7 rfl rfl)
theorem dX0_kept_151 : decode cX0_kept 151 = .ok (.goto (-33), 3) := dk_167 255 223 (dk_at dksX0_kept_6 10 rfl rfl)
theorem dX0_kept_154 : decode cX0_kept 154 = .ok (.iload 5, 2) := dk_21 5 (dk_at dksX0_kept_6 13 rfl rfl)
theorem dX0_kept_156 : decode cX0_kept 156 = .ok (.iload 8, 2) := dk_21 8 (dk_at dksX0_kept_6 15 rfl rfl)
theorem dX0_kept_158 : decode cX0_kept 158 = .ok (.iadd, 1) := dk_96 (dk_at dksX0_kept_6 17 rfl rfl)
theorem dX0_kept_159 : decode cX0_kept 159 = .ok (.istore 5, 2) := dk_54 5 (dk_at dksX0_kept_6 18 rfl rfl)
theorem dX0_kept_161 : decode cX0_kept 161 = .ok (.iinc 7 1, 3) := dk_132 7 1 (dk_at dksX0_kept_6 20 rfl rfl)
theorem dX0_kept_164 : decode cX0_kept 164 = .ok (.goto (-87), 3) := dk_167 255 169 (dk_at dksX0_kept_7 0 rfl rfl)
theorem dX0_kept_167 : decode cX0_kept 167 = .ok (.iload 5, 2) := dk_21 5 (dk_at dksX0_kept_7 3 rfl rfl)
theorem dX0_kept_169 : decode cX0_kept 169 = .ok (.istore 7, 2) := dk_54 7 (dk_at dksX0_kept_7 5 rfl rfl)
theorem dX0_kept_171 : decode cX0_kept 171 = .ok (.iload 6, 2) := dk_21 6 (dk_at dksX0_kept_7 7 rfl rfl)
theorem dX0_kept_173 : decode cX0_kept 173 = .ok (.istore 8, 2) := dk_54 8 (dk_at dksX0_kept_7 9 rfl rfl)
theorem dX0_kept_175 : decode cX0_kept 175 = .ok (.iload 8, 2) := dk_21 8 (dk_at dksX0_kept_7 11 rfl rfl)
theorem dX0_kept_177 : decode cX0_kept 177 = .ok (.ifCond .eq 21, 3) := dk_153 0 21 (dk_at dksX0_kept_7 13 rfl rfl)
theorem dX0_kept_180 : decode cX0_kept 180 = .ok (.iload 7, 2) := dk_21 7 (dk_at dksX0_kept_7 16 rfl rfl)
theorem dX0_kept_182 : decode cX0_kept 182 = .ok (.iload 8, 2) := dk_21 8 (dk_at dksX0_kept_7 18 rfl rfl)
theorem dX0_kept_184 : decode cX0_kept 184 = .ok (.irem, 1) := dk_112 (dk_at dksX0_kept_7 20 rfl rfl)
theorem dX0_kept_185 : decode cX0_kept 185 = .ok (.istore 9, 2) := dk_54 9 (dk_at dksX0_kept_7 21 rfl rfl)
theorem dX0_kept_187 : decode cX0_kept 187 = .ok (.iload 8, 2) := dk_21 8 (dk_at dksX0_kept_8 0 rfl rfl)
theorem dX0_kept_189 : decode cX0_kept 189 = .ok (.istore 7, 2) := dk_54 7 (dk_at dksX0_kept_8 2 rfl rfl)
theorem dX0_kept_191 : decode cX0_kept 191 = .ok (.iload 9, 2) := dk_21 9 (dk_at dksX0_kept_8 4 rfl rfl)
theorem dX0_kept_193 : decode cX0_kept 193 = .ok (.istore 8, 2) := dk_54 8 (dk_at dksX0_kept_8 6 rfl rfl)
theorem dX0_kept_195 : decode cX0_kept 195 = .ok (.goto (-20), 3) := dk_167 255 236 (dk_at dksX0_kept_8 8 rfl rfl)
theorem dX0_kept_198 : decode cX0_kept 198 = .ok (.iload_n 3, 1) := dk_29 (dk_at dksX0_kept_8 11 rfl rfl)
theorem dX0_kept_199 : decode cX0_kept 199 = .ok (.ifCond .ne 11, 3) := dk_154 0 11 (dk_at dksX0_kept_8 12 rfl rfl)
theorem dX0_kept_202 : decode cX0_kept 202 = .ok (.iload 5, 2) := dk_21 5 (dk_at dksX0_kept_8 15 rfl rfl)
theorem dX0_kept_204 : decode cX0_kept 204 = .ok (.iload 7, 2) := dk_21 7 (dk_at dksX0_kept_8 17 rfl rfl)
theorem dX0_kept_206 : decode cX0_kept 206 = .ok (.idiv, 1) := dk_108 (dk_at dksX0_kept_8 19 rfl rfl)
theorem dX0_kept_207 : decode cX0_kept 207 = .ok (.goto 8, 3) := dk_167 0 8 (dk_at dksX0_kept_8 20 rfl rfl)
theorem dX0_kept_210 : decode cX0_kept 210 = .ok (.iload 6, 2) := dk_21 6 (dk_at dksX0_kept_9 0 rfl rfl)
theorem dX0_kept_212 : decode cX0_kept 212 = .ok (.iload 7, 2) := dk_21 7 (dk_at dksX0_kept_9 2 rfl rfl)
theorem dX0_kept_214 : decode cX0_kept 214 = .ok (.idiv, 1) := dk_108 (dk_at dksX0_kept_9 4 rfl rfl)
theorem dX0_kept_215 : decode cX0_kept 215 = .ok (.ireturn, 1) := dk_172 (dk_at dksX0_kept_9 5 rfl rfl)
abbrev cX0_place : ByteArray := prog_1_method_22_code
def yX0_place : MethodName := ⟨RX0, "place", "(II)I"⟩
def dkwX0_place_4 : List UInt8 := [46, 172, 42, 180, 0, 42, 27, 46, 172, 42, 180, 0, 45, 27, 46, 172, 2, 172]
abbrev dktX0_place_4 : List UInt8 := dkwX0_place_4 ++ []
def dkwX0_place_3 : List UInt8 := [180, 0, 39, 27, 46, 184, 0, 136, 172, 42, 180, 0, 42, 27, 46, 184, 0, 136, 172, 42, 180, 0, 35, 27]
abbrev dktX0_place_3 : List UInt8 := dkwX0_place_3 ++ dktX0_place_4
def dkwX0_place_2 : List UInt8 := [42, 180, 0, 18, 180, 0, 234, 27, 182, 0, 208, 172, 42, 180, 0, 35, 27, 46, 184, 0, 136, 172, 42]
abbrev dktX0_place_2 : List UInt8 := dkwX0_place_2 ++ dktX0_place_3
def dkwX0_place_1 : List UInt8 := [170, 0, 0, 0, 0, 0, 0, 107, 0, 0, 0, 0, 0, 0, 0, 6, 0, 0, 0, 44, 0, 0, 0, 56, 0, 0, 0, 66, 0, 0, 0, 76, 0, 0, 0, 86, 0, 0, 0, 93, 0, 0, 0, 100]
abbrev dktX0_place_1 : List UInt8 := dkwX0_place_1 ++ dktX0_place_2
def dkwX0_place_0 : List UInt8 := [42, 27, 133, 182, 0, 237, 154, 0, 5, 2, 172, 42, 42, 180, 0, 18, 180, 0, 234, 3, 182, 0, 179, 28]
abbrev dktX0_place_0 : List UInt8 := dkwX0_place_0 ++ dktX0_place_1
theorem dksX0_place_0 : cX0_place.data.toList.drop 0 = dktX0_place_0 := by decide +kernel
theorem dksX0_place_1 : cX0_place.data.toList.drop 24 = dktX0_place_1 := dk_seg dksX0_place_0 24 rfl rfl
theorem dksX0_place_2 : cX0_place.data.toList.drop 68 = dktX0_place_2 := dk_seg dksX0_place_1 44 rfl rfl
theorem dksX0_place_3 : cX0_place.data.toList.drop 91 = dktX0_place_3 := dk_seg dksX0_place_2 23 rfl rfl
theorem dksX0_place_4 : cX0_place.data.toList.drop 115 = dktX0_place_4 := dk_seg dksX0_place_3 24 rfl rfl
theorem dX0_place_0 : decode cX0_place 0 = .ok (.aload_n 0, 1) := dk_42 (dk_at dksX0_place_0 0 rfl rfl)
theorem dX0_place_1 : decode cX0_place 1 = .ok (.iload_n 1, 1) := dk_27 (dk_at dksX0_place_0 1 rfl rfl)
theorem dX0_place_2 : decode cX0_place 2 = .ok (.i2l, 1) := dk_133 (dk_at dksX0_place_0 2 rfl rfl)
theorem dX0_place_3 : decode cX0_place 3 = .ok (.invokevirtual 237, 3) := dk_182 0 237 (dk_at dksX0_place_0 3 rfl rfl)
theorem dX0_place_6 : decode cX0_place 6 = .ok (.ifCond .ne 5, 3) := dk_154 0 5 (dk_at dksX0_place_0 6 rfl rfl)
theorem dX0_place_9 : decode cX0_place 9 = .ok (.iconst (-1), 1) := dk_2 (dk_at dksX0_place_0 9 rfl rfl)
theorem dX0_place_10 : decode cX0_place 10 = .ok (.ireturn, 1) := dk_172 (dk_at dksX0_place_0 10 rfl rfl)
theorem dX0_place_11 : decode cX0_place 11 = .ok (.aload_n 0, 1) := dk_42 (dk_at dksX0_place_0 11 rfl rfl)
theorem dX0_place_12 : decode cX0_place 12 = .ok (.aload_n 0, 1) := dk_42 (dk_at dksX0_place_0 12 rfl rfl)
theorem dX0_place_13 : decode cX0_place 13 = .ok (.getfield 18, 3) := dk_180 0 18 (dk_at dksX0_place_0 13 rfl rfl)
theorem dX0_place_16 : decode cX0_place 16 = .ok (.getfield 234, 3) := dk_180 0 234 (dk_at dksX0_place_0 16 rfl rfl)
theorem dX0_place_19 : decode cX0_place 19 = .ok (.iconst 0, 1) := dk_3 (dk_at dksX0_place_0 19 rfl rfl)
theorem dX0_place_20 : decode cX0_place 20 = .ok (.invokevirtual 179, 3) := dk_182 0 179 (dk_at dksX0_place_0 20 rfl rfl)
theorem dX0_place_23 : decode cX0_place 23 = .ok (.iload_n 2, 1) := dk_28 (dk_at dksX0_place_0 23 rfl rfl)
theorem dX0_place_24 : decode cX0_place 24 = .ok (.tableswitch 107 0 6 #[44, 56, 66, 76, 86, 93, 100], 44) := by decide +kernel
theorem dX0_place_68 : decode cX0_place 68 = .ok (.aload_n 0, 1) := dk_42 (dk_at dksX0_place_2 0 rfl rfl)
theorem dX0_place_69 : decode cX0_place 69 = .ok (.getfield 18, 3) := dk_180 0 18 (dk_at dksX0_place_2 1 rfl rfl)
theorem dX0_place_72 : decode cX0_place 72 = .ok (.getfield 234, 3) := dk_180 0 234 (dk_at dksX0_place_2 4 rfl rfl)
theorem dX0_place_75 : decode cX0_place 75 = .ok (.iload_n 1, 1) := dk_27 (dk_at dksX0_place_2 7 rfl rfl)
theorem dX0_place_76 : decode cX0_place 76 = .ok (.invokevirtual 208, 3) := dk_182 0 208 (dk_at dksX0_place_2 8 rfl rfl)
theorem dX0_place_79 : decode cX0_place 79 = .ok (.ireturn, 1) := dk_172 (dk_at dksX0_place_2 11 rfl rfl)
theorem dX0_place_80 : decode cX0_place 80 = .ok (.aload_n 0, 1) := dk_42 (dk_at dksX0_place_2 12 rfl rfl)
theorem dX0_place_81 : decode cX0_place 81 = .ok (.getfield 35, 3) := dk_180 0 35 (dk_at dksX0_place_2 13 rfl rfl)
theorem dX0_place_84 : decode cX0_place 84 = .ok (.iload_n 1, 1) := dk_27 (dk_at dksX0_place_2 16 rfl rfl)
theorem dX0_place_85 : decode cX0_place 85 = .ok (.iaload, 1) := dk_46 (dk_at dksX0_place_2 17 rfl rfl)
theorem dX0_place_86 : decode cX0_place 86 = .ok (.invokestatic 136, 3) := dk_184 0 136 (dk_at dksX0_place_2 18 rfl rfl)
theorem dX0_place_89 : decode cX0_place 89 = .ok (.ireturn, 1) := dk_172 (dk_at dksX0_place_2 21 rfl rfl)
theorem dX0_place_90 : decode cX0_place 90 = .ok (.aload_n 0, 1) := dk_42 (dk_at dksX0_place_2 22 rfl rfl)
theorem dX0_place_91 : decode cX0_place 91 = .ok (.getfield 39, 3) := dk_180 0 39 (dk_at dksX0_place_3 0 rfl rfl)
theorem dX0_place_94 : decode cX0_place 94 = .ok (.iload_n 1, 1) := dk_27 (dk_at dksX0_place_3 3 rfl rfl)
theorem dX0_place_95 : decode cX0_place 95 = .ok (.iaload, 1) := dk_46 (dk_at dksX0_place_3 4 rfl rfl)
theorem dX0_place_96 : decode cX0_place 96 = .ok (.invokestatic 136, 3) := dk_184 0 136 (dk_at dksX0_place_3 5 rfl rfl)
theorem dX0_place_99 : decode cX0_place 99 = .ok (.ireturn, 1) := dk_172 (dk_at dksX0_place_3 8 rfl rfl)
theorem dX0_place_100 : decode cX0_place 100 = .ok (.aload_n 0, 1) := dk_42 (dk_at dksX0_place_3 9 rfl rfl)
theorem dX0_place_101 : decode cX0_place 101 = .ok (.getfield 42, 3) := dk_180 0 42 (dk_at dksX0_place_3 10 rfl rfl)
theorem dX0_place_104 : decode cX0_place 104 = .ok (.iload_n 1, 1) := dk_27 (dk_at dksX0_place_3 13 rfl rfl)
theorem dX0_place_105 : decode cX0_place 105 = .ok (.iaload, 1) := dk_46 (dk_at dksX0_place_3 14 rfl rfl)
theorem dX0_place_106 : decode cX0_place 106 = .ok (.invokestatic 136, 3) := dk_184 0 136 (dk_at dksX0_place_3 15 rfl rfl)
theorem dX0_place_109 : decode cX0_place 109 = .ok (.ireturn, 1) := dk_172 (dk_at dksX0_place_3 18 rfl rfl)
theorem dX0_place_110 : decode cX0_place 110 = .ok (.aload_n 0, 1) := dk_42 (dk_at dksX0_place_3 19 rfl rfl)
theorem dX0_place_111 : decode cX0_place 111 = .ok (.getfield 35, 3) := dk_180 0 35 (dk_at dksX0_place_3 20 rfl rfl)
theorem dX0_place_114 : decode cX0_place 114 = .ok (.iload_n 1, 1) := dk_27 (dk_at dksX0_place_3 23 rfl rfl)
theorem dX0_place_115 : decode cX0_place 115 = .ok (.iaload, 1) := dk_46 (dk_at dksX0_place_4 0 rfl rfl)
theorem dX0_place_116 : decode cX0_place 116 = .ok (.ireturn, 1) := dk_172 (dk_at dksX0_place_4 1 rfl rfl)
theorem dX0_place_117 : decode cX0_place 117 = .ok (.aload_n 0, 1) := dk_42 (dk_at dksX0_place_4 2 rfl rfl)
theorem dX0_place_118 : decode cX0_place 118 = .ok (.getfield 42, 3) := dk_180 0 42 (dk_at dksX0_place_4 3 rfl rfl)
theorem dX0_place_121 : decode cX0_place 121 = .ok (.iload_n 1, 1) := dk_27 (dk_at dksX0_place_4 6 rfl rfl)
theorem dX0_place_122 : decode cX0_place 122 = .ok (.iaload, 1) := dk_46 (dk_at dksX0_place_4 7 rfl rfl)
theorem dX0_place_123 : decode cX0_place 123 = .ok (.ireturn, 1) := dk_172 (dk_at dksX0_place_4 8 rfl rfl)
theorem dX0_place_124 : decode cX0_place 124 = .ok (.aload_n 0, 1) := dk_42 (dk_at dksX0_place_4 9 rfl rfl)
theorem dX0_place_125 : decode cX0_place 125 = .ok (.getfield 45, 3) := dk_180 0 45 (dk_at dksX0_place_4 10 rfl rfl)
theorem dX0_place_128 : decode cX0_place 128 = .ok (.iload_n 1, 1) := dk_27 (dk_at dksX0_place_4 13 rfl rfl)
theorem dX0_place_129 : decode cX0_place 129 = .ok (.iaload, 1) := dk_46 (dk_at dksX0_place_4 14 rfl rfl)
theorem dX0_place_130 : decode cX0_place 130 = .ok (.ireturn, 1) := dk_172 (dk_at dksX0_place_4 15 rfl rfl)
theorem dX0_place_131 : decode cX0_place 131 = .ok (.iconst (-1), 1) := dk_2 (dk_at dksX0_place_4 16 rfl rfl)
theorem dX0_place_132 : decode cX0_place 132 = .ok (.ireturn, 1) := dk_172 (dk_at dksX0_place_4 17 rfl rfl)
abbrev cX0_isBook : ByteArray := prog_1_method_5_code
def yX0_isBook : MethodName := ⟨RX0, "isBook", "(J)Z"⟩
def dkwX0_isBook_0 : List UInt8 := [31, 9, 42, 180, 0, 18, 182, 0, 97, 4, 100, 133, 184, 0, 5, 172]
abbrev dktX0_isBook_0 : List UInt8 := dkwX0_isBook_0 ++ []
theorem dksX0_isBook_0 : cX0_isBook.data.toList.drop 0 = dktX0_isBook_0 := by decide +kernel
theorem dX0_isBook_0 : decode cX0_isBook 0 = .ok (.lload_n 1, 1) := dk_31 (dk_at dksX0_isBook_0 0 rfl rfl)
theorem dX0_isBook_1 : decode cX0_isBook 1 = .ok (.lconst 0, 1) := dk_9 (dk_at dksX0_isBook_0 1 rfl rfl)
theorem dX0_isBook_2 : decode cX0_isBook 2 = .ok (.aload_n 0, 1) := dk_42 (dk_at dksX0_isBook_0 2 rfl rfl)
theorem dX0_isBook_3 : decode cX0_isBook 3 = .ok (.getfield 18, 3) := dk_180 0 18 (dk_at dksX0_isBook_0 3 rfl rfl)
theorem dX0_isBook_6 : decode cX0_isBook 6 = .ok (.invokevirtual 97, 3) := dk_182 0 97 (dk_at dksX0_isBook_0 6 rfl rfl)
theorem dX0_isBook_9 : decode cX0_isBook 9 = .ok (.iconst 1, 1) := dk_4 (dk_at dksX0_isBook_0 9 rfl rfl)
theorem dX0_isBook_10 : decode cX0_isBook 10 = .ok (.isub, 1) := dk_100 (dk_at dksX0_isBook_0 10 rfl rfl)
theorem dX0_isBook_11 : decode cX0_isBook 11 = .ok (.i2l, 1) := dk_133 (dk_at dksX0_isBook_0 11 rfl rfl)
theorem dX0_isBook_12 : decode cX0_isBook 12 = .ok (.invokestatic 5, 3) := dk_184 0 5 (dk_at dksX0_isBook_0 12 rfl rfl)
theorem dX0_isBook_15 : decode cX0_isBook 15 = .ok (.ireturn, 1) := dk_172 (dk_at dksX0_isBook_0 15 rfl rfl)
abbrev cX0_word : ByteArray := prog_1_method_25_code
def yX0_word : MethodName := ⟨RX0, "word", "(II)I"⟩
def dkwX0_word_4 : List UInt8 := [42, 180, 0, 42, 27, 182, 0, 244, 172, 42, 42, 180, 0, 18, 180, 0, 129, 27, 182, 0, 244, 172, 2, 172]
abbrev dktX0_word_4 : List UInt8 := dkwX0_word_4 ++ []
def dkwX0_word_3 : List UInt8 := [42, 27, 182, 0, 241, 172, 42, 180, 0, 28, 27, 51, 172, 42, 42, 180, 0, 35, 27, 182, 0, 244, 172, 42]
abbrev dktX0_word_3 : List UInt8 := dkwX0_word_3 ++ dktX0_word_4
def dkwX0_word_2 : List UInt8 := [170, 0, 0, 0, 79, 0, 0, 0, 0, 0, 0, 0, 4, 0, 0, 0, 33, 0, 0, 0, 39, 0, 0, 0, 46, 0, 0, 0, 56, 0, 0, 0, 66]
abbrev dktX0_word_2 : List UInt8 := dkwX0_word_2 ++ dktX0_word_3
def dkwX0_word_1 : List UInt8 := [182, 0, 179, 28]
abbrev dktX0_word_1 : List UInt8 := dkwX0_word_1 ++ dktX0_word_2
def dkwX0_word_0 : List UInt8 := [27, 133, 9, 20, 0, 230, 184, 0, 5, 154, 0, 5, 2, 172, 42, 42, 180, 0, 18, 180, 0, 234, 3]
abbrev dktX0_word_0 : List UInt8 := dkwX0_word_0 ++ dktX0_word_1
theorem dksX0_word_0 : cX0_word.data.toList.drop 0 = dktX0_word_0 := by decide +kernel
theorem dksX0_word_1 : cX0_word.data.toList.drop 23 = dktX0_word_1 := dk_seg dksX0_word_0 23 rfl rfl
theorem dksX0_word_2 : cX0_word.data.toList.drop 27 = dktX0_word_2 := dk_seg dksX0_word_1 4 rfl rfl
theorem dksX0_word_3 : cX0_word.data.toList.drop 60 = dktX0_word_3 := dk_seg dksX0_word_2 33 rfl rfl
theorem dksX0_word_4 : cX0_word.data.toList.drop 84 = dktX0_word_4 := dk_seg dksX0_word_3 24 rfl rfl
theorem dX0_word_0 : decode cX0_word 0 = .ok (.iload_n 1, 1) := dk_27 (dk_at dksX0_word_0 0 rfl rfl)
theorem dX0_word_1 : decode cX0_word 1 = .ok (.i2l, 1) := dk_133 (dk_at dksX0_word_0 1 rfl rfl)
theorem dX0_word_2 : decode cX0_word 2 = .ok (.lconst 0, 1) := dk_9 (dk_at dksX0_word_0 2 rfl rfl)
theorem dX0_word_3 : decode cX0_word 3 = .ok (.ldc2_w 230, 3) := dk_20 0 230 (dk_at dksX0_word_0 3 rfl rfl)
theorem dX0_word_6 : decode cX0_word 6 = .ok (.invokestatic 5, 3) := dk_184 0 5 (dk_at dksX0_word_0 6 rfl rfl)
theorem dX0_word_9 : decode cX0_word 9 = .ok (.ifCond .ne 5, 3) := dk_154 0 5 (dk_at dksX0_word_0 9 rfl rfl)
theorem dX0_word_12 : decode cX0_word 12 = .ok (.iconst (-1), 1) := dk_2 (dk_at dksX0_word_0 12 rfl rfl)
theorem dX0_word_13 : decode cX0_word 13 = .ok (.ireturn, 1) := dk_172 (dk_at dksX0_word_0 13 rfl rfl)
theorem dX0_word_14 : decode cX0_word 14 = .ok (.aload_n 0, 1) := dk_42 (dk_at dksX0_word_0 14 rfl rfl)
theorem dX0_word_15 : decode cX0_word 15 = .ok (.aload_n 0, 1) := dk_42 (dk_at dksX0_word_0 15 rfl rfl)
theorem dX0_word_16 : decode cX0_word 16 = .ok (.getfield 18, 3) := dk_180 0 18 (dk_at dksX0_word_0 16 rfl rfl)
theorem dX0_word_19 : decode cX0_word 19 = .ok (.getfield 234, 3) := dk_180 0 234 (dk_at dksX0_word_0 19 rfl rfl)
theorem dX0_word_22 : decode cX0_word 22 = .ok (.iconst 0, 1) := dk_3 (dk_at dksX0_word_0 22 rfl rfl)
theorem dX0_word_23 : decode cX0_word 23 = .ok (.invokevirtual 179, 3) := dk_182 0 179 (dk_at dksX0_word_1 0 rfl rfl)
theorem dX0_word_26 : decode cX0_word 26 = .ok (.iload_n 2, 1) := dk_28 (dk_at dksX0_word_1 3 rfl rfl)
theorem dX0_word_27 : decode cX0_word 27 = .ok (.tableswitch 79 0 4 #[33, 39, 46, 56, 66], 33) := by decide +kernel
theorem dX0_word_60 : decode cX0_word 60 = .ok (.aload_n 0, 1) := dk_42 (dk_at dksX0_word_3 0 rfl rfl)
theorem dX0_word_61 : decode cX0_word 61 = .ok (.iload_n 1, 1) := dk_27 (dk_at dksX0_word_3 1 rfl rfl)
theorem dX0_word_62 : decode cX0_word 62 = .ok (.invokevirtual 241, 3) := dk_182 0 241 (dk_at dksX0_word_3 2 rfl rfl)
theorem dX0_word_65 : decode cX0_word 65 = .ok (.ireturn, 1) := dk_172 (dk_at dksX0_word_3 5 rfl rfl)
theorem dX0_word_66 : decode cX0_word 66 = .ok (.aload_n 0, 1) := dk_42 (dk_at dksX0_word_3 6 rfl rfl)
theorem dX0_word_67 : decode cX0_word 67 = .ok (.getfield 28, 3) := dk_180 0 28 (dk_at dksX0_word_3 7 rfl rfl)
theorem dX0_word_70 : decode cX0_word 70 = .ok (.iload_n 1, 1) := dk_27 (dk_at dksX0_word_3 10 rfl rfl)
theorem dX0_word_71 : decode cX0_word 71 = .ok (.baload, 1) := dk_51 (dk_at dksX0_word_3 11 rfl rfl)
theorem dX0_word_72 : decode cX0_word 72 = .ok (.ireturn, 1) := dk_172 (dk_at dksX0_word_3 12 rfl rfl)
theorem dX0_word_73 : decode cX0_word 73 = .ok (.aload_n 0, 1) := dk_42 (dk_at dksX0_word_3 13 rfl rfl)
theorem dX0_word_74 : decode cX0_word 74 = .ok (.aload_n 0, 1) := dk_42 (dk_at dksX0_word_3 14 rfl rfl)
theorem dX0_word_75 : decode cX0_word 75 = .ok (.getfield 35, 3) := dk_180 0 35 (dk_at dksX0_word_3 15 rfl rfl)
theorem dX0_word_78 : decode cX0_word 78 = .ok (.iload_n 1, 1) := dk_27 (dk_at dksX0_word_3 18 rfl rfl)
theorem dX0_word_79 : decode cX0_word 79 = .ok (.invokevirtual 244, 3) := dk_182 0 244 (dk_at dksX0_word_3 19 rfl rfl)
theorem dX0_word_82 : decode cX0_word 82 = .ok (.ireturn, 1) := dk_172 (dk_at dksX0_word_3 22 rfl rfl)
theorem dX0_word_83 : decode cX0_word 83 = .ok (.aload_n 0, 1) := dk_42 (dk_at dksX0_word_3 23 rfl rfl)
theorem dX0_word_84 : decode cX0_word 84 = .ok (.aload_n 0, 1) := dk_42 (dk_at dksX0_word_4 0 rfl rfl)
theorem dX0_word_85 : decode cX0_word 85 = .ok (.getfield 42, 3) := dk_180 0 42 (dk_at dksX0_word_4 1 rfl rfl)
theorem dX0_word_88 : decode cX0_word 88 = .ok (.iload_n 1, 1) := dk_27 (dk_at dksX0_word_4 4 rfl rfl)
theorem dX0_word_89 : decode cX0_word 89 = .ok (.invokevirtual 244, 3) := dk_182 0 244 (dk_at dksX0_word_4 5 rfl rfl)
theorem dX0_word_92 : decode cX0_word 92 = .ok (.ireturn, 1) := dk_172 (dk_at dksX0_word_4 8 rfl rfl)
theorem dX0_word_93 : decode cX0_word 93 = .ok (.aload_n 0, 1) := dk_42 (dk_at dksX0_word_4 9 rfl rfl)
theorem dX0_word_94 : decode cX0_word 94 = .ok (.aload_n 0, 1) := dk_42 (dk_at dksX0_word_4 10 rfl rfl)
theorem dX0_word_95 : decode cX0_word 95 = .ok (.getfield 18, 3) := dk_180 0 18 (dk_at dksX0_word_4 11 rfl rfl)
theorem dX0_word_98 : decode cX0_word 98 = .ok (.getfield 129, 3) := dk_180 0 129 (dk_at dksX0_word_4 14 rfl rfl)
theorem dX0_word_101 : decode cX0_word 101 = .ok (.iload_n 1, 1) := dk_27 (dk_at dksX0_word_4 17 rfl rfl)
theorem dX0_word_102 : decode cX0_word 102 = .ok (.invokevirtual 244, 3) := dk_182 0 244 (dk_at dksX0_word_4 18 rfl rfl)
theorem dX0_word_105 : decode cX0_word 105 = .ok (.ireturn, 1) := dk_172 (dk_at dksX0_word_4 21 rfl rfl)
theorem dX0_word_106 : decode cX0_word 106 = .ok (.iconst (-1), 1) := dk_2 (dk_at dksX0_word_4 22 rfl rfl)
theorem dX0_word_107 : decode cX0_word 107 = .ok (.ireturn, 1) := dk_172 (dk_at dksX0_word_4 23 rfl rfl)
abbrev cX0_firstOf : ByteArray := prog_1_method_24_code
def yX0_firstOf : MethodName := ⟨RX0, "firstOf", "(I)I"⟩
def dkwX0_firstOf_1 : List UInt8 := [184, 0, 108, 153, 0, 7, 29, 167, 0, 4, 28, 61, 132, 3, 255, 167, 255, 230, 28, 172]
abbrev dktX0_firstOf_1 : List UInt8 := dkwX0_firstOf_1 ++ []
def dkwX0_firstOf_0 : List UInt8 := [16, 252, 61, 42, 180, 0, 18, 182, 0, 97, 4, 100, 62, 29, 155, 0, 28, 42, 180, 0, 35, 29, 46, 27]
abbrev dktX0_firstOf_0 : List UInt8 := dkwX0_firstOf_0 ++ dktX0_firstOf_1
theorem dksX0_firstOf_0 : cX0_firstOf.data.toList.drop 0 = dktX0_firstOf_0 := by decide +kernel
theorem dksX0_firstOf_1 : cX0_firstOf.data.toList.drop 24 = dktX0_firstOf_1 := dk_seg dksX0_firstOf_0 24 rfl rfl
theorem dX0_firstOf_0 : decode cX0_firstOf 0 = .ok (.bipush (-4), 2) := dk_16 252 (dk_at dksX0_firstOf_0 0 rfl rfl)
theorem dX0_firstOf_2 : decode cX0_firstOf 2 = .ok (.istore_n 2, 1) := dk_61 (dk_at dksX0_firstOf_0 2 rfl rfl)
theorem dX0_firstOf_3 : decode cX0_firstOf 3 = .ok (.aload_n 0, 1) := dk_42 (dk_at dksX0_firstOf_0 3 rfl rfl)
theorem dX0_firstOf_4 : decode cX0_firstOf 4 = .ok (.getfield 18, 3) := dk_180 0 18 (dk_at dksX0_firstOf_0 4 rfl rfl)
theorem dX0_firstOf_7 : decode cX0_firstOf 7 = .ok (.invokevirtual 97, 3) := dk_182 0 97 (dk_at dksX0_firstOf_0 7 rfl rfl)
theorem dX0_firstOf_10 : decode cX0_firstOf 10 = .ok (.iconst 1, 1) := dk_4 (dk_at dksX0_firstOf_0 10 rfl rfl)
theorem dX0_firstOf_11 : decode cX0_firstOf 11 = .ok (.isub, 1) := dk_100 (dk_at dksX0_firstOf_0 11 rfl rfl)
theorem dX0_firstOf_12 : decode cX0_firstOf 12 = .ok (.istore_n 3, 1) := dk_62 (dk_at dksX0_firstOf_0 12 rfl rfl)
theorem dX0_firstOf_13 : decode cX0_firstOf 13 = .ok (.iload_n 3, 1) := dk_29 (dk_at dksX0_firstOf_0 13 rfl rfl)
theorem dX0_firstOf_14 : decode cX0_firstOf 14 = .ok (.ifCond .lt 28, 3) := dk_155 0 28 (dk_at dksX0_firstOf_0 14 rfl rfl)
theorem dX0_firstOf_17 : decode cX0_firstOf 17 = .ok (.aload_n 0, 1) := dk_42 (dk_at dksX0_firstOf_0 17 rfl rfl)
theorem dX0_firstOf_18 : decode cX0_firstOf 18 = .ok (.getfield 35, 3) := dk_180 0 35 (dk_at dksX0_firstOf_0 18 rfl rfl)
theorem dX0_firstOf_21 : decode cX0_firstOf 21 = .ok (.iload_n 3, 1) := dk_29 (dk_at dksX0_firstOf_0 21 rfl rfl)
theorem dX0_firstOf_22 : decode cX0_firstOf 22 = .ok (.iaload, 1) := dk_46 (dk_at dksX0_firstOf_0 22 rfl rfl)
theorem dX0_firstOf_23 : decode cX0_firstOf 23 = .ok (.iload_n 1, 1) := dk_27 (dk_at dksX0_firstOf_0 23 rfl rfl)
theorem dX0_firstOf_24 : decode cX0_firstOf 24 = .ok (.invokestatic 108, 3) := dk_184 0 108 (dk_at dksX0_firstOf_1 0 rfl rfl)
theorem dX0_firstOf_27 : decode cX0_firstOf 27 = .ok (.ifCond .eq 7, 3) := dk_153 0 7 (dk_at dksX0_firstOf_1 3 rfl rfl)
theorem dX0_firstOf_30 : decode cX0_firstOf 30 = .ok (.iload_n 3, 1) := dk_29 (dk_at dksX0_firstOf_1 6 rfl rfl)
theorem dX0_firstOf_31 : decode cX0_firstOf 31 = .ok (.goto 4, 3) := dk_167 0 4 (dk_at dksX0_firstOf_1 7 rfl rfl)
theorem dX0_firstOf_34 : decode cX0_firstOf 34 = .ok (.iload_n 2, 1) := dk_28 (dk_at dksX0_firstOf_1 10 rfl rfl)
theorem dX0_firstOf_35 : decode cX0_firstOf 35 = .ok (.istore_n 2, 1) := dk_61 (dk_at dksX0_firstOf_1 11 rfl rfl)
theorem dX0_firstOf_36 : decode cX0_firstOf 36 = .ok (.iinc 3 (-1), 3) := dk_132 3 255 (dk_at dksX0_firstOf_1 12 rfl rfl)
theorem dX0_firstOf_39 : decode cX0_firstOf 39 = .ok (.goto (-26), 3) := dk_167 255 230 (dk_at dksX0_firstOf_1 15 rfl rfl)
theorem dX0_firstOf_42 : decode cX0_firstOf 42 = .ok (.iload_n 2, 1) := dk_28 (dk_at dksX0_firstOf_1 18 rfl rfl)
theorem dX0_firstOf_43 : decode cX0_firstOf 43 = .ok (.ireturn, 1) := dk_172 (dk_at dksX0_firstOf_1 19 rfl rfl)
abbrev cX0_times : ByteArray := prog_1_method_23_code
def yX0_times : MethodName := ⟨RX0, "times", "([II)I"⟩
def dkwX0_times_1 : List UInt8 := [184, 0, 108, 153, 0, 7, 4, 167, 0, 4, 3, 96, 62, 132, 4, 1, 167, 255, 222, 29, 172]
abbrev dktX0_times_1 : List UInt8 := dkwX0_times_1 ++ []
def dkwX0_times_0 : List UInt8 := [3, 62, 3, 54, 4, 21, 4, 42, 180, 0, 18, 182, 0, 97, 162, 0, 28, 29, 43, 21, 4, 46, 28]
abbrev dktX0_times_0 : List UInt8 := dkwX0_times_0 ++ dktX0_times_1
theorem dksX0_times_0 : cX0_times.data.toList.drop 0 = dktX0_times_0 := by decide +kernel
theorem dksX0_times_1 : cX0_times.data.toList.drop 23 = dktX0_times_1 := dk_seg dksX0_times_0 23 rfl rfl
theorem dX0_times_0 : decode cX0_times 0 = .ok (.iconst 0, 1) := dk_3 (dk_at dksX0_times_0 0 rfl rfl)
theorem dX0_times_1 : decode cX0_times 1 = .ok (.istore_n 3, 1) := dk_62 (dk_at dksX0_times_0 1 rfl rfl)
theorem dX0_times_2 : decode cX0_times 2 = .ok (.iconst 0, 1) := dk_3 (dk_at dksX0_times_0 2 rfl rfl)
theorem dX0_times_3 : decode cX0_times 3 = .ok (.istore 4, 2) := dk_54 4 (dk_at dksX0_times_0 3 rfl rfl)
theorem dX0_times_5 : decode cX0_times 5 = .ok (.iload 4, 2) := dk_21 4 (dk_at dksX0_times_0 5 rfl rfl)
theorem dX0_times_7 : decode cX0_times 7 = .ok (.aload_n 0, 1) := dk_42 (dk_at dksX0_times_0 7 rfl rfl)
theorem dX0_times_8 : decode cX0_times 8 = .ok (.getfield 18, 3) := dk_180 0 18 (dk_at dksX0_times_0 8 rfl rfl)
theorem dX0_times_11 : decode cX0_times 11 = .ok (.invokevirtual 97, 3) := dk_182 0 97 (dk_at dksX0_times_0 11 rfl rfl)
theorem dX0_times_14 : decode cX0_times 14 = .ok (.if_icmp .ge 28, 3) := dk_162 0 28 (dk_at dksX0_times_0 14 rfl rfl)
theorem dX0_times_17 : decode cX0_times 17 = .ok (.iload_n 3, 1) := dk_29 (dk_at dksX0_times_0 17 rfl rfl)
theorem dX0_times_18 : decode cX0_times 18 = .ok (.aload_n 1, 1) := dk_43 (dk_at dksX0_times_0 18 rfl rfl)
theorem dX0_times_19 : decode cX0_times 19 = .ok (.iload 4, 2) := dk_21 4 (dk_at dksX0_times_0 19 rfl rfl)
theorem dX0_times_21 : decode cX0_times 21 = .ok (.iaload, 1) := dk_46 (dk_at dksX0_times_0 21 rfl rfl)
theorem dX0_times_22 : decode cX0_times 22 = .ok (.iload_n 2, 1) := dk_28 (dk_at dksX0_times_0 22 rfl rfl)
theorem dX0_times_23 : decode cX0_times 23 = .ok (.invokestatic 108, 3) := dk_184 0 108 (dk_at dksX0_times_1 0 rfl rfl)
theorem dX0_times_26 : decode cX0_times 26 = .ok (.ifCond .eq 7, 3) := dk_153 0 7 (dk_at dksX0_times_1 3 rfl rfl)
theorem dX0_times_29 : decode cX0_times 29 = .ok (.iconst 1, 1) := dk_4 (dk_at dksX0_times_1 6 rfl rfl)
theorem dX0_times_30 : decode cX0_times 30 = .ok (.goto 4, 3) := dk_167 0 4 (dk_at dksX0_times_1 7 rfl rfl)
theorem dX0_times_33 : decode cX0_times 33 = .ok (.iconst 0, 1) := dk_3 (dk_at dksX0_times_1 10 rfl rfl)
theorem dX0_times_34 : decode cX0_times 34 = .ok (.iadd, 1) := dk_96 (dk_at dksX0_times_1 11 rfl rfl)
theorem dX0_times_35 : decode cX0_times 35 = .ok (.istore_n 3, 1) := dk_62 (dk_at dksX0_times_1 12 rfl rfl)
theorem dX0_times_36 : decode cX0_times 36 = .ok (.iinc 4 1, 3) := dk_132 4 1 (dk_at dksX0_times_1 13 rfl rfl)
theorem dX0_times_39 : decode cX0_times 39 = .ok (.goto (-34), 3) := dk_167 255 222 (dk_at dksX0_times_1 16 rfl rfl)
theorem dX0_times_42 : decode cX0_times 42 = .ok (.iload_n 3, 1) := dk_29 (dk_at dksX0_times_1 19 rfl rfl)
theorem dX0_times_43 : decode cX0_times 43 = .ok (.ireturn, 1) := dk_172 (dk_at dksX0_times_1 20 rfl rfl)
abbrev cX0_told : ByteArray := prog_1_method_26_code
def yX0_told : MethodName := ⟨RX0, "told", "(II)I"⟩
def dkwX0_told_3 : List UInt8 := [27, 182, 0, 202, 172, 42, 180, 0, 18, 180, 0, 234, 27, 182, 0, 248, 172, 2, 172]
abbrev dktX0_told_3 : List UInt8 := dkwX0_told_3 ++ []
def dkwX0_told_2 : List UInt8 := [42, 180, 0, 18, 180, 0, 129, 27, 46, 172, 42, 180, 0, 18, 180, 0, 172, 27, 51, 172, 42, 180, 0, 18]
abbrev dktX0_told_2 : List UInt8 := dkwX0_told_2 ++ dktX0_told_3
def dkwX0_told_1 : List UInt8 := [170, 0, 0, 0, 0, 0, 0, 73, 0, 0, 0, 0, 0, 0, 0, 3, 0, 0, 0, 32, 0, 0, 0, 42, 0, 0, 0, 52, 0, 0, 0, 61]
abbrev dktX0_told_1 : List UInt8 := dkwX0_told_1 ++ dktX0_told_2
def dkwX0_told_0 : List UInt8 := [42, 27, 133, 182, 0, 237, 154, 0, 5, 2, 172, 28]
abbrev dktX0_told_0 : List UInt8 := dkwX0_told_0 ++ dktX0_told_1
theorem dksX0_told_0 : cX0_told.data.toList.drop 0 = dktX0_told_0 := by decide +kernel
theorem dksX0_told_1 : cX0_told.data.toList.drop 12 = dktX0_told_1 := dk_seg dksX0_told_0 12 rfl rfl
theorem dksX0_told_2 : cX0_told.data.toList.drop 44 = dktX0_told_2 := dk_seg dksX0_told_1 32 rfl rfl
theorem dksX0_told_3 : cX0_told.data.toList.drop 68 = dktX0_told_3 := dk_seg dksX0_told_2 24 rfl rfl
theorem dX0_told_0 : decode cX0_told 0 = .ok (.aload_n 0, 1) := dk_42 (dk_at dksX0_told_0 0 rfl rfl)
theorem dX0_told_1 : decode cX0_told 1 = .ok (.iload_n 1, 1) := dk_27 (dk_at dksX0_told_0 1 rfl rfl)
theorem dX0_told_2 : decode cX0_told 2 = .ok (.i2l, 1) := dk_133 (dk_at dksX0_told_0 2 rfl rfl)
theorem dX0_told_3 : decode cX0_told 3 = .ok (.invokevirtual 237, 3) := dk_182 0 237 (dk_at dksX0_told_0 3 rfl rfl)
theorem dX0_told_6 : decode cX0_told 6 = .ok (.ifCond .ne 5, 3) := dk_154 0 5 (dk_at dksX0_told_0 6 rfl rfl)
theorem dX0_told_9 : decode cX0_told 9 = .ok (.iconst (-1), 1) := dk_2 (dk_at dksX0_told_0 9 rfl rfl)
theorem dX0_told_10 : decode cX0_told 10 = .ok (.ireturn, 1) := dk_172 (dk_at dksX0_told_0 10 rfl rfl)
theorem dX0_told_11 : decode cX0_told 11 = .ok (.iload_n 2, 1) := dk_28 (dk_at dksX0_told_0 11 rfl rfl)
theorem dX0_told_12 : decode cX0_told 12 = .ok (.tableswitch 73 0 3 #[32, 42, 52, 61], 32) := by decide +kernel
theorem dX0_told_44 : decode cX0_told 44 = .ok (.aload_n 0, 1) := dk_42 (dk_at dksX0_told_2 0 rfl rfl)
theorem dX0_told_45 : decode cX0_told 45 = .ok (.getfield 18, 3) := dk_180 0 18 (dk_at dksX0_told_2 1 rfl rfl)
theorem dX0_told_48 : decode cX0_told 48 = .ok (.getfield 129, 3) := dk_180 0 129 (dk_at dksX0_told_2 4 rfl rfl)
theorem dX0_told_51 : decode cX0_told 51 = .ok (.iload_n 1, 1) := dk_27 (dk_at dksX0_told_2 7 rfl rfl)
theorem dX0_told_52 : decode cX0_told 52 = .ok (.iaload, 1) := dk_46 (dk_at dksX0_told_2 8 rfl rfl)
theorem dX0_told_53 : decode cX0_told 53 = .ok (.ireturn, 1) := dk_172 (dk_at dksX0_told_2 9 rfl rfl)
theorem dX0_told_54 : decode cX0_told 54 = .ok (.aload_n 0, 1) := dk_42 (dk_at dksX0_told_2 10 rfl rfl)
theorem dX0_told_55 : decode cX0_told 55 = .ok (.getfield 18, 3) := dk_180 0 18 (dk_at dksX0_told_2 11 rfl rfl)
theorem dX0_told_58 : decode cX0_told 58 = .ok (.getfield 172, 3) := dk_180 0 172 (dk_at dksX0_told_2 14 rfl rfl)
theorem dX0_told_61 : decode cX0_told 61 = .ok (.iload_n 1, 1) := dk_27 (dk_at dksX0_told_2 17 rfl rfl)
theorem dX0_told_62 : decode cX0_told 62 = .ok (.baload, 1) := dk_51 (dk_at dksX0_told_2 18 rfl rfl)
theorem dX0_told_63 : decode cX0_told 63 = .ok (.ireturn, 1) := dk_172 (dk_at dksX0_told_2 19 rfl rfl)
theorem dX0_told_64 : decode cX0_told 64 = .ok (.aload_n 0, 1) := dk_42 (dk_at dksX0_told_2 20 rfl rfl)
theorem dX0_told_65 : decode cX0_told 65 = .ok (.getfield 18, 3) := dk_180 0 18 (dk_at dksX0_told_2 21 rfl rfl)
theorem dX0_told_68 : decode cX0_told 68 = .ok (.iload_n 1, 1) := dk_27 (dk_at dksX0_told_3 0 rfl rfl)
theorem dX0_told_69 : decode cX0_told 69 = .ok (.invokevirtual 202, 3) := dk_182 0 202 (dk_at dksX0_told_3 1 rfl rfl)
theorem dX0_told_72 : decode cX0_told 72 = .ok (.ireturn, 1) := dk_172 (dk_at dksX0_told_3 4 rfl rfl)
theorem dX0_told_73 : decode cX0_told 73 = .ok (.aload_n 0, 1) := dk_42 (dk_at dksX0_told_3 5 rfl rfl)
theorem dX0_told_74 : decode cX0_told 74 = .ok (.getfield 18, 3) := dk_180 0 18 (dk_at dksX0_told_3 6 rfl rfl)
theorem dX0_told_77 : decode cX0_told 77 = .ok (.getfield 234, 3) := dk_180 0 234 (dk_at dksX0_told_3 9 rfl rfl)
theorem dX0_told_80 : decode cX0_told 80 = .ok (.iload_n 1, 1) := dk_27 (dk_at dksX0_told_3 12 rfl rfl)
theorem dX0_told_81 : decode cX0_told 81 = .ok (.invokevirtual 248, 3) := dk_182 0 248 (dk_at dksX0_told_3 13 rfl rfl)
theorem dX0_told_84 : decode cX0_told 84 = .ok (.ireturn, 1) := dk_172 (dk_at dksX0_told_3 16 rfl rfl)
theorem dX0_told_85 : decode cX0_told 85 = .ok (.iconst (-1), 1) := dk_2 (dk_at dksX0_told_3 17 rfl rfl)
theorem dX0_told_86 : decode cX0_told 86 = .ok (.ireturn, 1) := dk_172 (dk_at dksX0_told_3 18 rfl rfl)
abbrev cX0_count : ByteArray := prog_1_method_27_code
def yX0_count : MethodName := ⟨RX0, "count", "(I)I"⟩
def dkwX0_count_7 : List UInt8 := [3, 172, 42, 180, 1, 2, 172, 2, 172]
abbrev dktX0_count_7 : List UInt8 := dkwX0_count_7 ++ []
def dkwX0_count_6 : List UInt8 := [4, 167, 0, 4, 3, 172, 42, 42, 180, 0, 18, 180, 0, 234, 182, 0, 255, 153, 0, 7, 4, 167, 0, 4]
abbrev dktX0_count_6 : List UInt8 := dkwX0_count_6 ++ dktX0_count_7
def dkwX0_count_5 : List UInt8 := [182, 0, 209, 172, 42, 180, 0, 18, 180, 0, 234, 42, 180, 0, 18, 180, 0, 172, 182, 0, 254, 153, 0, 7]
abbrev dktX0_count_5 : List UInt8 := dkwX0_count_5 ++ dktX0_count_6
def dkwX0_count_4 : List UInt8 := [182, 0, 220, 172, 42, 42, 180, 0, 18, 182, 0, 97, 182, 0, 183, 172, 42, 42, 180, 0, 18, 182, 0, 97]
abbrev dktX0_count_4 : List UInt8 := dkwX0_count_4 ++ dktX0_count_5
def dkwX0_count_3 : List UInt8 := [42, 180, 0, 18, 180, 0, 186, 172, 42, 180, 0, 18, 180, 0, 112, 172, 42, 180, 0, 18, 180, 0, 234]
abbrev dktX0_count_3 : List UInt8 := dkwX0_count_3 ++ dktX0_count_4
def dkwX0_count_2 : List UInt8 := [42, 180, 0, 18, 182, 0, 97, 172, 42, 180, 0, 18, 180, 0, 101, 172, 42, 180, 0, 18, 180, 0, 251, 172]
abbrev dktX0_count_2 : List UInt8 := dkwX0_count_2 ++ dktX0_count_3
def dkwX0_count_1 : List UInt8 := [170, 0, 0, 0, 0, 0, 185, 0, 0, 0, 0, 0, 0, 0, 10, 0, 0, 0, 59, 0, 0, 0, 67, 0, 0, 0, 75, 0, 0, 0, 83, 0, 0, 0, 91, 0, 0, 0, 99, 0, 0, 0, 110, 0, 0, 0, 122, 0, 0, 0, 134, 0, 0, 0, 160, 0, 0, 0, 180]
abbrev dktX0_count_1 : List UInt8 := dkwX0_count_1 ++ dktX0_count_2
def dkwX0_count_0 : List UInt8 := [42, 42, 180, 0, 18, 180, 0, 234, 3, 182, 0, 179, 27]
abbrev dktX0_count_0 : List UInt8 := dkwX0_count_0 ++ dktX0_count_1
theorem dksX0_count_0 : cX0_count.data.toList.drop 0 = dktX0_count_0 := by decide +kernel
theorem dksX0_count_1 : cX0_count.data.toList.drop 13 = dktX0_count_1 := dk_seg dksX0_count_0 13 rfl rfl
theorem dksX0_count_2 : cX0_count.data.toList.drop 72 = dktX0_count_2 := dk_seg dksX0_count_1 59 rfl rfl
theorem dksX0_count_3 : cX0_count.data.toList.drop 96 = dktX0_count_3 := dk_seg dksX0_count_2 24 rfl rfl
theorem dksX0_count_4 : cX0_count.data.toList.drop 119 = dktX0_count_4 := dk_seg dksX0_count_3 23 rfl rfl
theorem dksX0_count_5 : cX0_count.data.toList.drop 143 = dktX0_count_5 := dk_seg dksX0_count_4 24 rfl rfl
theorem dksX0_count_6 : cX0_count.data.toList.drop 167 = dktX0_count_6 := dk_seg dksX0_count_5 24 rfl rfl
theorem dksX0_count_7 : cX0_count.data.toList.drop 191 = dktX0_count_7 := dk_seg dksX0_count_6 24 rfl rfl
theorem dX0_count_0 : decode cX0_count 0 = .ok (.aload_n 0, 1) := dk_42 (dk_at dksX0_count_0 0 rfl rfl)
theorem dX0_count_1 : decode cX0_count 1 = .ok (.aload_n 0, 1) := dk_42 (dk_at dksX0_count_0 1 rfl rfl)
theorem dX0_count_2 : decode cX0_count 2 = .ok (.getfield 18, 3) := dk_180 0 18 (dk_at dksX0_count_0 2 rfl rfl)
theorem dX0_count_5 : decode cX0_count 5 = .ok (.getfield 234, 3) := dk_180 0 234 (dk_at dksX0_count_0 5 rfl rfl)
theorem dX0_count_8 : decode cX0_count 8 = .ok (.iconst 0, 1) := dk_3 (dk_at dksX0_count_0 8 rfl rfl)
theorem dX0_count_9 : decode cX0_count 9 = .ok (.invokevirtual 179, 3) := dk_182 0 179 (dk_at dksX0_count_0 9 rfl rfl)
theorem dX0_count_12 : decode cX0_count 12 = .ok (.iload_n 1, 1) := dk_27 (dk_at dksX0_count_0 12 rfl rfl)
theorem dX0_count_13 : decode cX0_count 13 = .ok (.tableswitch 185 0 10 #[59, 67, 75, 83, 91, 99, 110, 122, 134, 160, 180], 59) := by decide +kernel
theorem dX0_count_72 : decode cX0_count 72 = .ok (.aload_n 0, 1) := dk_42 (dk_at dksX0_count_2 0 rfl rfl)
theorem dX0_count_73 : decode cX0_count 73 = .ok (.getfield 18, 3) := dk_180 0 18 (dk_at dksX0_count_2 1 rfl rfl)
theorem dX0_count_76 : decode cX0_count 76 = .ok (.invokevirtual 97, 3) := dk_182 0 97 (dk_at dksX0_count_2 4 rfl rfl)
theorem dX0_count_79 : decode cX0_count 79 = .ok (.ireturn, 1) := dk_172 (dk_at dksX0_count_2 7 rfl rfl)
theorem dX0_count_80 : decode cX0_count 80 = .ok (.aload_n 0, 1) := dk_42 (dk_at dksX0_count_2 8 rfl rfl)
theorem dX0_count_81 : decode cX0_count 81 = .ok (.getfield 18, 3) := dk_180 0 18 (dk_at dksX0_count_2 9 rfl rfl)
theorem dX0_count_84 : decode cX0_count 84 = .ok (.getfield 101, 3) := dk_180 0 101 (dk_at dksX0_count_2 12 rfl rfl)
theorem dX0_count_87 : decode cX0_count 87 = .ok (.ireturn, 1) := dk_172 (dk_at dksX0_count_2 15 rfl rfl)
theorem dX0_count_88 : decode cX0_count 88 = .ok (.aload_n 0, 1) := dk_42 (dk_at dksX0_count_2 16 rfl rfl)
theorem dX0_count_89 : decode cX0_count 89 = .ok (.getfield 18, 3) := dk_180 0 18 (dk_at dksX0_count_2 17 rfl rfl)
theorem dX0_count_92 : decode cX0_count 92 = .ok (.getfield 251, 3) := dk_180 0 251 (dk_at dksX0_count_2 20 rfl rfl)
theorem dX0_count_95 : decode cX0_count 95 = .ok (.ireturn, 1) := dk_172 (dk_at dksX0_count_2 23 rfl rfl)
theorem dX0_count_96 : decode cX0_count 96 = .ok (.aload_n 0, 1) := dk_42 (dk_at dksX0_count_3 0 rfl rfl)
theorem dX0_count_97 : decode cX0_count 97 = .ok (.getfield 18, 3) := dk_180 0 18 (dk_at dksX0_count_3 1 rfl rfl)
theorem dX0_count_100 : decode cX0_count 100 = .ok (.getfield 186, 3) := dk_180 0 186 (dk_at dksX0_count_3 4 rfl rfl)
theorem dX0_count_103 : decode cX0_count 103 = .ok (.ireturn, 1) := dk_172 (dk_at dksX0_count_3 7 rfl rfl)
theorem dX0_count_104 : decode cX0_count 104 = .ok (.aload_n 0, 1) := dk_42 (dk_at dksX0_count_3 8 rfl rfl)
theorem dX0_count_105 : decode cX0_count 105 = .ok (.getfield 18, 3) := dk_180 0 18 (dk_at dksX0_count_3 9 rfl rfl)
theorem dX0_count_108 : decode cX0_count 108 = .ok (.getfield 112, 3) := dk_180 0 112 (dk_at dksX0_count_3 12 rfl rfl)
theorem dX0_count_111 : decode cX0_count 111 = .ok (.ireturn, 1) := dk_172 (dk_at dksX0_count_3 15 rfl rfl)
theorem dX0_count_112 : decode cX0_count 112 = .ok (.aload_n 0, 1) := dk_42 (dk_at dksX0_count_3 16 rfl rfl)
theorem dX0_count_113 : decode cX0_count 113 = .ok (.getfield 18, 3) := dk_180 0 18 (dk_at dksX0_count_3 17 rfl rfl)
theorem dX0_count_116 : decode cX0_count 116 = .ok (.getfield 234, 3) := dk_180 0 234 (dk_at dksX0_count_3 20 rfl rfl)
theorem dX0_count_119 : decode cX0_count 119 = .ok (.invokevirtual 220, 3) := dk_182 0 220 (dk_at dksX0_count_4 0 rfl rfl)
theorem dX0_count_122 : decode cX0_count 122 = .ok (.ireturn, 1) := dk_172 (dk_at dksX0_count_4 3 rfl rfl)
theorem dX0_count_123 : decode cX0_count 123 = .ok (.aload_n 0, 1) := dk_42 (dk_at dksX0_count_4 4 rfl rfl)
theorem dX0_count_124 : decode cX0_count 124 = .ok (.aload_n 0, 1) := dk_42 (dk_at dksX0_count_4 5 rfl rfl)
theorem dX0_count_125 : decode cX0_count 125 = .ok (.getfield 18, 3) := dk_180 0 18 (dk_at dksX0_count_4 6 rfl rfl)
theorem dX0_count_128 : decode cX0_count 128 = .ok (.invokevirtual 97, 3) := dk_182 0 97 (dk_at dksX0_count_4 9 rfl rfl)
theorem dX0_count_131 : decode cX0_count 131 = .ok (.invokevirtual 183, 3) := dk_182 0 183 (dk_at dksX0_count_4 12 rfl rfl)
theorem dX0_count_134 : decode cX0_count 134 = .ok (.ireturn, 1) := dk_172 (dk_at dksX0_count_4 15 rfl rfl)
theorem dX0_count_135 : decode cX0_count 135 = .ok (.aload_n 0, 1) := dk_42 (dk_at dksX0_count_4 16 rfl rfl)
theorem dX0_count_136 : decode cX0_count 136 = .ok (.aload_n 0, 1) := dk_42 (dk_at dksX0_count_4 17 rfl rfl)
theorem dX0_count_137 : decode cX0_count 137 = .ok (.getfield 18, 3) := dk_180 0 18 (dk_at dksX0_count_4 18 rfl rfl)
theorem dX0_count_140 : decode cX0_count 140 = .ok (.invokevirtual 97, 3) := dk_182 0 97 (dk_at dksX0_count_4 21 rfl rfl)
theorem dX0_count_143 : decode cX0_count 143 = .ok (.invokevirtual 209, 3) := dk_182 0 209 (dk_at dksX0_count_5 0 rfl rfl)
theorem dX0_count_146 : decode cX0_count 146 = .ok (.ireturn, 1) := dk_172 (dk_at dksX0_count_5 3 rfl rfl)
theorem dX0_count_147 : decode cX0_count 147 = .ok (.aload_n 0, 1) := dk_42 (dk_at dksX0_count_5 4 rfl rfl)
theorem dX0_count_148 : decode cX0_count 148 = .ok (.getfield 18, 3) := dk_180 0 18 (dk_at dksX0_count_5 5 rfl rfl)
theorem dX0_count_151 : decode cX0_count 151 = .ok (.getfield 234, 3) := dk_180 0 234 (dk_at dksX0_count_5 8 rfl rfl)
theorem dX0_count_154 : decode cX0_count 154 = .ok (.aload_n 0, 1) := dk_42 (dk_at dksX0_count_5 11 rfl rfl)
theorem dX0_count_155 : decode cX0_count 155 = .ok (.getfield 18, 3) := dk_180 0 18 (dk_at dksX0_count_5 12 rfl rfl)
theorem dX0_count_158 : decode cX0_count 158 = .ok (.getfield 172, 3) := dk_180 0 172 (dk_at dksX0_count_5 15 rfl rfl)
theorem dX0_count_161 : decode cX0_count 161 = .ok (.invokevirtual 254, 3) := dk_182 0 254 (dk_at dksX0_count_5 18 rfl rfl)
theorem dX0_count_164 : decode cX0_count 164 = .ok (.ifCond .eq 7, 3) := dk_153 0 7 (dk_at dksX0_count_5 21 rfl rfl)
theorem dX0_count_167 : decode cX0_count 167 = .ok (.iconst 1, 1) := dk_4 (dk_at dksX0_count_6 0 rfl rfl)
theorem dX0_count_168 : decode cX0_count 168 = .ok (.goto 4, 3) := dk_167 0 4 (dk_at dksX0_count_6 1 rfl rfl)
theorem dX0_count_171 : decode cX0_count 171 = .ok (.iconst 0, 1) := dk_3 (dk_at dksX0_count_6 4 rfl rfl)
theorem dX0_count_172 : decode cX0_count 172 = .ok (.ireturn, 1) := dk_172 (dk_at dksX0_count_6 5 rfl rfl)
theorem dX0_count_173 : decode cX0_count 173 = .ok (.aload_n 0, 1) := dk_42 (dk_at dksX0_count_6 6 rfl rfl)
theorem dX0_count_174 : decode cX0_count 174 = .ok (.aload_n 0, 1) := dk_42 (dk_at dksX0_count_6 7 rfl rfl)
theorem dX0_count_175 : decode cX0_count 175 = .ok (.getfield 18, 3) := dk_180 0 18 (dk_at dksX0_count_6 8 rfl rfl)
theorem dX0_count_178 : decode cX0_count 178 = .ok (.getfield 234, 3) := dk_180 0 234 (dk_at dksX0_count_6 11 rfl rfl)
theorem dX0_count_181 : decode cX0_count 181 = .ok (.invokevirtual 255, 3) := dk_182 0 255 (dk_at dksX0_count_6 14 rfl rfl)
theorem dX0_count_184 : decode cX0_count 184 = .ok (.ifCond .eq 7, 3) := dk_153 0 7 (dk_at dksX0_count_6 17 rfl rfl)
theorem dX0_count_187 : decode cX0_count 187 = .ok (.iconst 1, 1) := dk_4 (dk_at dksX0_count_6 20 rfl rfl)
theorem dX0_count_188 : decode cX0_count 188 = .ok (.goto 4, 3) := dk_167 0 4 (dk_at dksX0_count_6 21 rfl rfl)
theorem dX0_count_191 : decode cX0_count 191 = .ok (.iconst 0, 1) := dk_3 (dk_at dksX0_count_7 0 rfl rfl)
theorem dX0_count_192 : decode cX0_count 192 = .ok (.ireturn, 1) := dk_172 (dk_at dksX0_count_7 1 rfl rfl)
theorem dX0_count_193 : decode cX0_count 193 = .ok (.aload_n 0, 1) := dk_42 (dk_at dksX0_count_7 2 rfl rfl)
theorem dX0_count_194 : decode cX0_count 194 = .ok (.getfield 258, 3) := dk_180 1 2 (dk_at dksX0_count_7 3 rfl rfl)
theorem dX0_count_197 : decode cX0_count 197 = .ok (.ireturn, 1) := dk_172 (dk_at dksX0_count_7 6 rfl rfl)
theorem dX0_count_198 : decode cX0_count 198 = .ok (.iconst (-1), 1) := dk_2 (dk_at dksX0_count_7 7 rfl rfl)
theorem dX0_count_199 : decode cX0_count 199 = .ok (.ireturn, 1) := dk_172 (dk_at dksX0_count_7 8 rfl rfl)
abbrev cX0_letter : ByteArray := prog_1_method_29_code
def yX0_letter : MethodName := ⟨RX0, "letter", "(I)I"⟩
def dkwX0_letter_4 : List UInt8 := [27, 45, 182, 1, 33, 162, 0, 11, 45, 27, 182, 1, 38, 167, 0, 5, 16, 252, 172]
abbrev dktX0_letter_4 : List UInt8 := dkwX0_letter_4 ++ []
def dkwX0_letter_3 : List UInt8 := [167, 255, 216, 42, 180, 0, 18, 182, 0, 97, 154, 0, 9, 19, 1, 31, 167, 0, 7, 44, 182, 1, 17, 78]
abbrev dktX0_letter_3 : List UInt8 := dkwX0_letter_3 ++ dktX0_letter_4
def dkwX0_letter_2 : List UInt8 := [19, 1, 23, 167, 0, 6, 19, 1, 25, 182, 1, 14, 42, 29, 182, 1, 27, 182, 1, 14, 87, 132, 3, 1]
abbrev dktX0_letter_2 : List UInt8 := dkwX0_letter_2 ++ dktX0_letter_3
def dkwX0_letter_1 : List UInt8 := [183, 1, 7, 77, 3, 62, 29, 42, 180, 0, 18, 182, 0, 97, 162, 0, 35, 44, 29, 154, 0, 9]
abbrev dktX0_letter_1 : List UInt8 := dkwX0_letter_1 ++ dktX0_letter_2
def dkwX0_letter_0 : List UInt8 := [27, 156, 0, 5, 2, 172, 42, 42, 180, 0, 18, 180, 0, 234, 3, 182, 0, 179, 187, 1, 5, 89]
abbrev dktX0_letter_0 : List UInt8 := dkwX0_letter_0 ++ dktX0_letter_1
theorem dksX0_letter_0 : cX0_letter.data.toList.drop 0 = dktX0_letter_0 := by decide +kernel
theorem dksX0_letter_1 : cX0_letter.data.toList.drop 22 = dktX0_letter_1 := dk_seg dksX0_letter_0 22 rfl rfl
theorem dksX0_letter_2 : cX0_letter.data.toList.drop 44 = dktX0_letter_2 := dk_seg dksX0_letter_1 22 rfl rfl
theorem dksX0_letter_3 : cX0_letter.data.toList.drop 68 = dktX0_letter_3 := dk_seg dksX0_letter_2 24 rfl rfl
theorem dksX0_letter_4 : cX0_letter.data.toList.drop 92 = dktX0_letter_4 := dk_seg dksX0_letter_3 24 rfl rfl
theorem dX0_letter_0 : decode cX0_letter 0 = .ok (.iload_n 1, 1) := dk_27 (dk_at dksX0_letter_0 0 rfl rfl)
theorem dX0_letter_1 : decode cX0_letter 1 = .ok (.ifCond .ge 5, 3) := dk_156 0 5 (dk_at dksX0_letter_0 1 rfl rfl)
theorem dX0_letter_4 : decode cX0_letter 4 = .ok (.iconst (-1), 1) := dk_2 (dk_at dksX0_letter_0 4 rfl rfl)
theorem dX0_letter_5 : decode cX0_letter 5 = .ok (.ireturn, 1) := dk_172 (dk_at dksX0_letter_0 5 rfl rfl)
theorem dX0_letter_6 : decode cX0_letter 6 = .ok (.aload_n 0, 1) := dk_42 (dk_at dksX0_letter_0 6 rfl rfl)
theorem dX0_letter_7 : decode cX0_letter 7 = .ok (.aload_n 0, 1) := dk_42 (dk_at dksX0_letter_0 7 rfl rfl)
theorem dX0_letter_8 : decode cX0_letter 8 = .ok (.getfield 18, 3) := dk_180 0 18 (dk_at dksX0_letter_0 8 rfl rfl)
theorem dX0_letter_11 : decode cX0_letter 11 = .ok (.getfield 234, 3) := dk_180 0 234 (dk_at dksX0_letter_0 11 rfl rfl)
theorem dX0_letter_14 : decode cX0_letter 14 = .ok (.iconst 0, 1) := dk_3 (dk_at dksX0_letter_0 14 rfl rfl)
theorem dX0_letter_15 : decode cX0_letter 15 = .ok (.invokevirtual 179, 3) := dk_182 0 179 (dk_at dksX0_letter_0 15 rfl rfl)
theorem dX0_letter_18 : decode cX0_letter 18 = .ok (.new 261, 3) := dk_187 1 5 (dk_at dksX0_letter_0 18 rfl rfl)
theorem dX0_letter_21 : decode cX0_letter 21 = .ok (.dup, 1) := dk_89 (dk_at dksX0_letter_0 21 rfl rfl)
theorem dX0_letter_22 : decode cX0_letter 22 = .ok (.invokespecial 263, 3) := dk_183 1 7 (dk_at dksX0_letter_1 0 rfl rfl)
theorem dX0_letter_25 : decode cX0_letter 25 = .ok (.astore_n 2, 1) := dk_77 (dk_at dksX0_letter_1 3 rfl rfl)
theorem dX0_letter_26 : decode cX0_letter 26 = .ok (.iconst 0, 1) := dk_3 (dk_at dksX0_letter_1 4 rfl rfl)
theorem dX0_letter_27 : decode cX0_letter 27 = .ok (.istore_n 3, 1) := dk_62 (dk_at dksX0_letter_1 5 rfl rfl)
theorem dX0_letter_28 : decode cX0_letter 28 = .ok (.iload_n 3, 1) := dk_29 (dk_at dksX0_letter_1 6 rfl rfl)
theorem dX0_letter_29 : decode cX0_letter 29 = .ok (.aload_n 0, 1) := dk_42 (dk_at dksX0_letter_1 7 rfl rfl)
theorem dX0_letter_30 : decode cX0_letter 30 = .ok (.getfield 18, 3) := dk_180 0 18 (dk_at dksX0_letter_1 8 rfl rfl)
theorem dX0_letter_33 : decode cX0_letter 33 = .ok (.invokevirtual 97, 3) := dk_182 0 97 (dk_at dksX0_letter_1 11 rfl rfl)
theorem dX0_letter_36 : decode cX0_letter 36 = .ok (.if_icmp .ge 35, 3) := dk_162 0 35 (dk_at dksX0_letter_1 14 rfl rfl)
theorem dX0_letter_39 : decode cX0_letter 39 = .ok (.aload_n 2, 1) := dk_44 (dk_at dksX0_letter_1 17 rfl rfl)
theorem dX0_letter_40 : decode cX0_letter 40 = .ok (.iload_n 3, 1) := dk_29 (dk_at dksX0_letter_1 18 rfl rfl)
theorem dX0_letter_41 : decode cX0_letter 41 = .ok (.ifCond .ne 9, 3) := dk_154 0 9 (dk_at dksX0_letter_1 19 rfl rfl)
theorem dX0_letter_44 : decode cX0_letter 44 = .ok (.ldc_w 279, 3) := dk_19 1 23 (dk_at dksX0_letter_2 0 rfl rfl)
theorem dX0_letter_47 : decode cX0_letter 47 = .ok (.goto 6, 3) := dk_167 0 6 (dk_at dksX0_letter_2 3 rfl rfl)
theorem dX0_letter_50 : decode cX0_letter 50 = .ok (.ldc_w 281, 3) := dk_19 1 25 (dk_at dksX0_letter_2 6 rfl rfl)
theorem dX0_letter_53 : decode cX0_letter 53 = .ok (.invokevirtual 270, 3) := dk_182 1 14 (dk_at dksX0_letter_2 9 rfl rfl)
theorem dX0_letter_56 : decode cX0_letter 56 = .ok (.aload_n 0, 1) := dk_42 (dk_at dksX0_letter_2 12 rfl rfl)
theorem dX0_letter_57 : decode cX0_letter 57 = .ok (.iload_n 3, 1) := dk_29 (dk_at dksX0_letter_2 13 rfl rfl)
theorem dX0_letter_58 : decode cX0_letter 58 = .ok (.invokevirtual 283, 3) := dk_182 1 27 (dk_at dksX0_letter_2 14 rfl rfl)
theorem dX0_letter_61 : decode cX0_letter 61 = .ok (.invokevirtual 270, 3) := dk_182 1 14 (dk_at dksX0_letter_2 17 rfl rfl)
theorem dX0_letter_64 : decode cX0_letter 64 = .ok (.pop, 1) := dk_87 (dk_at dksX0_letter_2 20 rfl rfl)
theorem dX0_letter_65 : decode cX0_letter 65 = .ok (.iinc 3 1, 3) := dk_132 3 1 (dk_at dksX0_letter_2 21 rfl rfl)
theorem dX0_letter_68 : decode cX0_letter 68 = .ok (.goto (-40), 3) := dk_167 255 216 (dk_at dksX0_letter_3 0 rfl rfl)
theorem dX0_letter_71 : decode cX0_letter 71 = .ok (.aload_n 0, 1) := dk_42 (dk_at dksX0_letter_3 3 rfl rfl)
theorem dX0_letter_72 : decode cX0_letter 72 = .ok (.getfield 18, 3) := dk_180 0 18 (dk_at dksX0_letter_3 4 rfl rfl)
theorem dX0_letter_75 : decode cX0_letter 75 = .ok (.invokevirtual 97, 3) := dk_182 0 97 (dk_at dksX0_letter_3 7 rfl rfl)
theorem dX0_letter_78 : decode cX0_letter 78 = .ok (.ifCond .ne 9, 3) := dk_154 0 9 (dk_at dksX0_letter_3 10 rfl rfl)
theorem dX0_letter_81 : decode cX0_letter 81 = .ok (.ldc_w 287, 3) := dk_19 1 31 (dk_at dksX0_letter_3 13 rfl rfl)
theorem dX0_letter_84 : decode cX0_letter 84 = .ok (.goto 7, 3) := dk_167 0 7 (dk_at dksX0_letter_3 16 rfl rfl)
theorem dX0_letter_87 : decode cX0_letter 87 = .ok (.aload_n 2, 1) := dk_44 (dk_at dksX0_letter_3 19 rfl rfl)
theorem dX0_letter_88 : decode cX0_letter 88 = .ok (.invokevirtual 273, 3) := dk_182 1 17 (dk_at dksX0_letter_3 20 rfl rfl)
theorem dX0_letter_91 : decode cX0_letter 91 = .ok (.astore_n 3, 1) := dk_78 (dk_at dksX0_letter_3 23 rfl rfl)
theorem dX0_letter_92 : decode cX0_letter 92 = .ok (.iload_n 1, 1) := dk_27 (dk_at dksX0_letter_4 0 rfl rfl)
theorem dX0_letter_93 : decode cX0_letter 93 = .ok (.aload_n 3, 1) := dk_45 (dk_at dksX0_letter_4 1 rfl rfl)
theorem dX0_letter_94 : decode cX0_letter 94 = .ok (.invokevirtual 289, 3) := dk_182 1 33 (dk_at dksX0_letter_4 2 rfl rfl)
theorem dX0_letter_97 : decode cX0_letter 97 = .ok (.if_icmp .ge 11, 3) := dk_162 0 11 (dk_at dksX0_letter_4 5 rfl rfl)
theorem dX0_letter_100 : decode cX0_letter 100 = .ok (.aload_n 3, 1) := dk_45 (dk_at dksX0_letter_4 8 rfl rfl)
theorem dX0_letter_101 : decode cX0_letter 101 = .ok (.iload_n 1, 1) := dk_27 (dk_at dksX0_letter_4 9 rfl rfl)
theorem dX0_letter_102 : decode cX0_letter 102 = .ok (.invokevirtual 294, 3) := dk_182 1 38 (dk_at dksX0_letter_4 10 rfl rfl)
theorem dX0_letter_105 : decode cX0_letter 105 = .ok (.goto 5, 3) := dk_167 0 5 (dk_at dksX0_letter_4 13 rfl rfl)
theorem dX0_letter_108 : decode cX0_letter 108 = .ok (.bipush (-4), 2) := dk_16 252 (dk_at dksX0_letter_4 16 rfl rfl)
theorem dX0_letter_110 : decode cX0_letter 110 = .ok (.ireturn, 1) := dk_172 (dk_at dksX0_letter_4 18 rfl rfl)
abbrev cX0_noteOf : ByteArray := prog_1_method_28_code
def yX0_noteOf : MethodName := ⟨RX0, "noteOf", "(I)Ljava/lang/String;"⟩
def dkwX0_noteOf_3 : List UInt8 := [182, 1, 14, 42, 180, 0, 42, 27, 46, 184, 0, 136, 182, 1, 8, 182, 1, 17, 176]
abbrev dktX0_noteOf_3 : List UInt8 := dkwX0_noteOf_3 ++ []
def dkwX0_noteOf_2 : List UInt8 := [46, 154, 0, 7, 44, 167, 0, 35, 187, 1, 5, 89, 183, 1, 7, 44, 182, 1, 14, 19, 1, 21]
abbrev dktX0_noteOf_2 : List UInt8 := dkwX0_noteOf_2 ++ dktX0_noteOf_3
def dkwX0_noteOf_1 : List UInt8 := [182, 1, 14, 42, 180, 0, 35, 27, 46, 184, 0, 136, 182, 1, 8, 182, 1, 17, 77, 42, 180, 0, 42, 27]
abbrev dktX0_noteOf_1 : List UInt8 := dkwX0_noteOf_1 ++ dktX0_noteOf_2
def dkwX0_noteOf_0 : List UInt8 := [187, 1, 5, 89, 183, 1, 7, 42, 180, 0, 18, 180, 0, 234, 27, 182, 0, 208, 182, 1, 8, 19, 1, 12]
abbrev dktX0_noteOf_0 : List UInt8 := dkwX0_noteOf_0 ++ dktX0_noteOf_1
theorem dksX0_noteOf_0 : cX0_noteOf.data.toList.drop 0 = dktX0_noteOf_0 := by decide +kernel
theorem dksX0_noteOf_1 : cX0_noteOf.data.toList.drop 24 = dktX0_noteOf_1 := dk_seg dksX0_noteOf_0 24 rfl rfl
theorem dksX0_noteOf_2 : cX0_noteOf.data.toList.drop 48 = dktX0_noteOf_2 := dk_seg dksX0_noteOf_1 24 rfl rfl
theorem dksX0_noteOf_3 : cX0_noteOf.data.toList.drop 70 = dktX0_noteOf_3 := dk_seg dksX0_noteOf_2 22 rfl rfl
theorem dX0_noteOf_0 : decode cX0_noteOf 0 = .ok (.new 261, 3) := dk_187 1 5 (dk_at dksX0_noteOf_0 0 rfl rfl)
theorem dX0_noteOf_3 : decode cX0_noteOf 3 = .ok (.dup, 1) := dk_89 (dk_at dksX0_noteOf_0 3 rfl rfl)
theorem dX0_noteOf_4 : decode cX0_noteOf 4 = .ok (.invokespecial 263, 3) := dk_183 1 7 (dk_at dksX0_noteOf_0 4 rfl rfl)
theorem dX0_noteOf_7 : decode cX0_noteOf 7 = .ok (.aload_n 0, 1) := dk_42 (dk_at dksX0_noteOf_0 7 rfl rfl)
theorem dX0_noteOf_8 : decode cX0_noteOf 8 = .ok (.getfield 18, 3) := dk_180 0 18 (dk_at dksX0_noteOf_0 8 rfl rfl)
theorem dX0_noteOf_11 : decode cX0_noteOf 11 = .ok (.getfield 234, 3) := dk_180 0 234 (dk_at dksX0_noteOf_0 11 rfl rfl)
theorem dX0_noteOf_14 : decode cX0_noteOf 14 = .ok (.iload_n 1, 1) := dk_27 (dk_at dksX0_noteOf_0 14 rfl rfl)
theorem dX0_noteOf_15 : decode cX0_noteOf 15 = .ok (.invokevirtual 208, 3) := dk_182 0 208 (dk_at dksX0_noteOf_0 15 rfl rfl)
theorem dX0_noteOf_18 : decode cX0_noteOf 18 = .ok (.invokevirtual 264, 3) := dk_182 1 8 (dk_at dksX0_noteOf_0 18 rfl rfl)
theorem dX0_noteOf_21 : decode cX0_noteOf 21 = .ok (.ldc_w 268, 3) := dk_19 1 12 (dk_at dksX0_noteOf_0 21 rfl rfl)
theorem dX0_noteOf_24 : decode cX0_noteOf 24 = .ok (.invokevirtual 270, 3) := dk_182 1 14 (dk_at dksX0_noteOf_1 0 rfl rfl)
theorem dX0_noteOf_27 : decode cX0_noteOf 27 = .ok (.aload_n 0, 1) := dk_42 (dk_at dksX0_noteOf_1 3 rfl rfl)
theorem dX0_noteOf_28 : decode cX0_noteOf 28 = .ok (.getfield 35, 3) := dk_180 0 35 (dk_at dksX0_noteOf_1 4 rfl rfl)
theorem dX0_noteOf_31 : decode cX0_noteOf 31 = .ok (.iload_n 1, 1) := dk_27 (dk_at dksX0_noteOf_1 7 rfl rfl)
theorem dX0_noteOf_32 : decode cX0_noteOf 32 = .ok (.iaload, 1) := dk_46 (dk_at dksX0_noteOf_1 8 rfl rfl)
theorem dX0_noteOf_33 : decode cX0_noteOf 33 = .ok (.invokestatic 136, 3) := dk_184 0 136 (dk_at dksX0_noteOf_1 9 rfl rfl)
theorem dX0_noteOf_36 : decode cX0_noteOf 36 = .ok (.invokevirtual 264, 3) := dk_182 1 8 (dk_at dksX0_noteOf_1 12 rfl rfl)
theorem dX0_noteOf_39 : decode cX0_noteOf 39 = .ok (.invokevirtual 273, 3) := dk_182 1 17 (dk_at dksX0_noteOf_1 15 rfl rfl)
theorem dX0_noteOf_42 : decode cX0_noteOf 42 = .ok (.astore_n 2, 1) := dk_77 (dk_at dksX0_noteOf_1 18 rfl rfl)
theorem dX0_noteOf_43 : decode cX0_noteOf 43 = .ok (.aload_n 0, 1) := dk_42 (dk_at dksX0_noteOf_1 19 rfl rfl)
theorem dX0_noteOf_44 : decode cX0_noteOf 44 = .ok (.getfield 42, 3) := dk_180 0 42 (dk_at dksX0_noteOf_1 20 rfl rfl)
theorem dX0_noteOf_47 : decode cX0_noteOf 47 = .ok (.iload_n 1, 1) := dk_27 (dk_at dksX0_noteOf_1 23 rfl rfl)
theorem dX0_noteOf_48 : decode cX0_noteOf 48 = .ok (.iaload, 1) := dk_46 (dk_at dksX0_noteOf_2 0 rfl rfl)
theorem dX0_noteOf_49 : decode cX0_noteOf 49 = .ok (.ifCond .ne 7, 3) := dk_154 0 7 (dk_at dksX0_noteOf_2 1 rfl rfl)
theorem dX0_noteOf_52 : decode cX0_noteOf 52 = .ok (.aload_n 2, 1) := dk_44 (dk_at dksX0_noteOf_2 4 rfl rfl)
theorem dX0_noteOf_53 : decode cX0_noteOf 53 = .ok (.goto 35, 3) := dk_167 0 35 (dk_at dksX0_noteOf_2 5 rfl rfl)
theorem dX0_noteOf_56 : decode cX0_noteOf 56 = .ok (.new 261, 3) := dk_187 1 5 (dk_at dksX0_noteOf_2 8 rfl rfl)
theorem dX0_noteOf_59 : decode cX0_noteOf 59 = .ok (.dup, 1) := dk_89 (dk_at dksX0_noteOf_2 11 rfl rfl)
theorem dX0_noteOf_60 : decode cX0_noteOf 60 = .ok (.invokespecial 263, 3) := dk_183 1 7 (dk_at dksX0_noteOf_2 12 rfl rfl)
theorem dX0_noteOf_63 : decode cX0_noteOf 63 = .ok (.aload_n 2, 1) := dk_44 (dk_at dksX0_noteOf_2 15 rfl rfl)
theorem dX0_noteOf_64 : decode cX0_noteOf 64 = .ok (.invokevirtual 270, 3) := dk_182 1 14 (dk_at dksX0_noteOf_2 16 rfl rfl)
theorem dX0_noteOf_67 : decode cX0_noteOf 67 = .ok (.ldc_w 277, 3) := dk_19 1 21 (dk_at dksX0_noteOf_2 19 rfl rfl)
theorem dX0_noteOf_70 : decode cX0_noteOf 70 = .ok (.invokevirtual 270, 3) := dk_182 1 14 (dk_at dksX0_noteOf_3 0 rfl rfl)
theorem dX0_noteOf_73 : decode cX0_noteOf 73 = .ok (.aload_n 0, 1) := dk_42 (dk_at dksX0_noteOf_3 3 rfl rfl)
theorem dX0_noteOf_74 : decode cX0_noteOf 74 = .ok (.getfield 42, 3) := dk_180 0 42 (dk_at dksX0_noteOf_3 4 rfl rfl)
theorem dX0_noteOf_77 : decode cX0_noteOf 77 = .ok (.iload_n 1, 1) := dk_27 (dk_at dksX0_noteOf_3 7 rfl rfl)
theorem dX0_noteOf_78 : decode cX0_noteOf 78 = .ok (.iaload, 1) := dk_46 (dk_at dksX0_noteOf_3 8 rfl rfl)
theorem dX0_noteOf_79 : decode cX0_noteOf 79 = .ok (.invokestatic 136, 3) := dk_184 0 136 (dk_at dksX0_noteOf_3 9 rfl rfl)
theorem dX0_noteOf_82 : decode cX0_noteOf 82 = .ok (.invokevirtual 264, 3) := dk_182 1 8 (dk_at dksX0_noteOf_3 12 rfl rfl)
theorem dX0_noteOf_85 : decode cX0_noteOf 85 = .ok (.invokevirtual 273, 3) := dk_182 1 17 (dk_at dksX0_noteOf_3 15 rfl rfl)
theorem dX0_noteOf_88 : decode cX0_noteOf 88 = .ok (.areturn, 1) := dk_176 (dk_at dksX0_noteOf_3 18 rfl rfl)
abbrev cX0_book : ByteArray := prog_1_method_31_code
def yX0_book : MethodName := ⟨RX0, "book", "(I)I"⟩
def dkwX0_book_1 : List UInt8 := [172, 42, 182, 1, 55, 42, 180, 0, 18, 27, 182, 1, 58, 42, 180, 0, 18, 182, 0, 97, 4, 100, 172]
abbrev dktX0_book_1 : List UInt8 := dkwX0_book_1 ++ []
def dkwX0_book_0 : List UInt8 := [27, 4, 184, 1, 52, 154, 0, 5, 2, 172, 42, 180, 0, 18, 182, 0, 97, 16, 7, 160, 0, 6, 16, 253]
abbrev dktX0_book_0 : List UInt8 := dkwX0_book_0 ++ dktX0_book_1
theorem dksX0_book_0 : cX0_book.data.toList.drop 0 = dktX0_book_0 := by decide +kernel
theorem dksX0_book_1 : cX0_book.data.toList.drop 24 = dktX0_book_1 := dk_seg dksX0_book_0 24 rfl rfl
theorem dX0_book_0 : decode cX0_book 0 = .ok (.iload_n 1, 1) := dk_27 (dk_at dksX0_book_0 0 rfl rfl)
theorem dX0_book_1 : decode cX0_book 1 = .ok (.iconst 1, 1) := dk_4 (dk_at dksX0_book_0 1 rfl rfl)
theorem dX0_book_2 : decode cX0_book 2 = .ok (.invokestatic 308, 3) := dk_184 1 52 (dk_at dksX0_book_0 2 rfl rfl)
theorem dX0_book_5 : decode cX0_book 5 = .ok (.ifCond .ne 5, 3) := dk_154 0 5 (dk_at dksX0_book_0 5 rfl rfl)
theorem dX0_book_8 : decode cX0_book 8 = .ok (.iconst (-1), 1) := dk_2 (dk_at dksX0_book_0 8 rfl rfl)
theorem dX0_book_9 : decode cX0_book 9 = .ok (.ireturn, 1) := dk_172 (dk_at dksX0_book_0 9 rfl rfl)
theorem dX0_book_10 : decode cX0_book 10 = .ok (.aload_n 0, 1) := dk_42 (dk_at dksX0_book_0 10 rfl rfl)
theorem dX0_book_11 : decode cX0_book 11 = .ok (.getfield 18, 3) := dk_180 0 18 (dk_at dksX0_book_0 11 rfl rfl)
theorem dX0_book_14 : decode cX0_book 14 = .ok (.invokevirtual 97, 3) := dk_182 0 97 (dk_at dksX0_book_0 14 rfl rfl)
theorem dX0_book_17 : decode cX0_book 17 = .ok (.bipush 7, 2) := dk_16 7 (dk_at dksX0_book_0 17 rfl rfl)
theorem dX0_book_19 : decode cX0_book 19 = .ok (.if_icmp .ne 6, 3) := dk_160 0 6 (dk_at dksX0_book_0 19 rfl rfl)
theorem dX0_book_22 : decode cX0_book 22 = .ok (.bipush (-3), 2) := dk_16 253 (dk_at dksX0_book_0 22 rfl rfl)
theorem dX0_book_24 : decode cX0_book 24 = .ok (.ireturn, 1) := dk_172 (dk_at dksX0_book_1 0 rfl rfl)
theorem dX0_book_25 : decode cX0_book 25 = .ok (.aload_n 0, 1) := dk_42 (dk_at dksX0_book_1 1 rfl rfl)
theorem dX0_book_26 : decode cX0_book 26 = .ok (.invokevirtual 311, 3) := dk_182 1 55 (dk_at dksX0_book_1 2 rfl rfl)
theorem dX0_book_29 : decode cX0_book 29 = .ok (.aload_n 0, 1) := dk_42 (dk_at dksX0_book_1 5 rfl rfl)
theorem dX0_book_30 : decode cX0_book 30 = .ok (.getfield 18, 3) := dk_180 0 18 (dk_at dksX0_book_1 6 rfl rfl)
theorem dX0_book_33 : decode cX0_book 33 = .ok (.iload_n 1, 1) := dk_27 (dk_at dksX0_book_1 9 rfl rfl)
theorem dX0_book_34 : decode cX0_book 34 = .ok (.invokevirtual 314, 3) := dk_182 1 58 (dk_at dksX0_book_1 10 rfl rfl)
theorem dX0_book_37 : decode cX0_book 37 = .ok (.aload_n 0, 1) := dk_42 (dk_at dksX0_book_1 13 rfl rfl)
theorem dX0_book_38 : decode cX0_book 38 = .ok (.getfield 18, 3) := dk_180 0 18 (dk_at dksX0_book_1 14 rfl rfl)
theorem dX0_book_41 : decode cX0_book 41 = .ok (.invokevirtual 97, 3) := dk_182 0 97 (dk_at dksX0_book_1 17 rfl rfl)
theorem dX0_book_44 : decode cX0_book 44 = .ok (.iconst 1, 1) := dk_4 (dk_at dksX0_book_1 20 rfl rfl)
theorem dX0_book_45 : decode cX0_book 45 = .ok (.isub, 1) := dk_100 (dk_at dksX0_book_1 21 rfl rfl)
theorem dX0_book_46 : decode cX0_book 46 = .ok (.ireturn, 1) := dk_172 (dk_at dksX0_book_1 22 rfl rfl)
abbrev cX0_isSet : ByteArray := prog_1_method_3_code
def yX0_isSet : MethodName := ⟨RX0, "isSet", "(II)Z"⟩
def dkwX0_isSet_0 : List UInt8 := [26, 133, 27, 133, 20, 0, 3, 184, 0, 5, 172]
abbrev dktX0_isSet_0 : List UInt8 := dkwX0_isSet_0 ++ []
theorem dksX0_isSet_0 : cX0_isSet.data.toList.drop 0 = dktX0_isSet_0 := by decide +kernel
theorem dX0_isSet_0 : decode cX0_isSet 0 = .ok (.iload_n 0, 1) := dk_26 (dk_at dksX0_isSet_0 0 rfl rfl)
theorem dX0_isSet_1 : decode cX0_isSet 1 = .ok (.i2l, 1) := dk_133 (dk_at dksX0_isSet_0 1 rfl rfl)
theorem dX0_isSet_2 : decode cX0_isSet 2 = .ok (.iload_n 1, 1) := dk_27 (dk_at dksX0_isSet_0 2 rfl rfl)
theorem dX0_isSet_3 : decode cX0_isSet 3 = .ok (.i2l, 1) := dk_133 (dk_at dksX0_isSet_0 3 rfl rfl)
theorem dX0_isSet_4 : decode cX0_isSet 4 = .ok (.ldc2_w 3, 3) := dk_20 0 3 (dk_at dksX0_isSet_0 4 rfl rfl)
theorem dX0_isSet_7 : decode cX0_isSet 7 = .ok (.invokestatic 5, 3) := dk_184 0 5 (dk_at dksX0_isSet_0 7 rfl rfl)
theorem dX0_isSet_10 : decode cX0_isSet 10 = .ok (.ireturn, 1) := dk_172 (dk_at dksX0_isSet_0 10 rfl rfl)
abbrev cX0_note : ByteArray := prog_1_method_30_code
def yX0_note : MethodName := ⟨RX0, "note", "()V"⟩
def dkwX0_note_3 : List UInt8 := [4, 96, 181, 1, 2, 177]
abbrev dktX0_note_3 : List UInt8 := dkwX0_note_3 ++ []
def dkwX0_note_2 : List UInt8 := [181, 1, 2, 42, 180, 0, 58, 42, 180, 1, 2, 50, 42, 180, 0, 18, 182, 1, 48, 42, 89, 180, 1, 2]
abbrev dktX0_note_2 : List UInt8 := dkwX0_note_2 ++ dktX0_note_3
def dkwX0_note_1 : List UInt8 := [180, 0, 58, 3, 8, 184, 1, 42, 42, 180, 0, 58, 8, 43, 83, 42, 89, 180, 1, 2, 4, 100]
abbrev dktX0_note_1 : List UInt8 := dkwX0_note_1 ++ dktX0_note_2
def dkwX0_note_0 : List UInt8 := [42, 180, 1, 2, 16, 6, 160, 0, 41, 42, 180, 0, 58, 3, 50, 76, 42, 180, 0, 58, 4, 42]
abbrev dktX0_note_0 : List UInt8 := dkwX0_note_0 ++ dktX0_note_1
theorem dksX0_note_0 : cX0_note.data.toList.drop 0 = dktX0_note_0 := by decide +kernel
theorem dksX0_note_1 : cX0_note.data.toList.drop 22 = dktX0_note_1 := dk_seg dksX0_note_0 22 rfl rfl
theorem dksX0_note_2 : cX0_note.data.toList.drop 44 = dktX0_note_2 := dk_seg dksX0_note_1 22 rfl rfl
theorem dksX0_note_3 : cX0_note.data.toList.drop 68 = dktX0_note_3 := dk_seg dksX0_note_2 24 rfl rfl
theorem dX0_note_0 : decode cX0_note 0 = .ok (.aload_n 0, 1) := dk_42 (dk_at dksX0_note_0 0 rfl rfl)
theorem dX0_note_1 : decode cX0_note 1 = .ok (.getfield 258, 3) := dk_180 1 2 (dk_at dksX0_note_0 1 rfl rfl)
theorem dX0_note_4 : decode cX0_note 4 = .ok (.bipush 6, 2) := dk_16 6 (dk_at dksX0_note_0 4 rfl rfl)
theorem dX0_note_6 : decode cX0_note 6 = .ok (.if_icmp .ne 41, 3) := dk_160 0 41 (dk_at dksX0_note_0 6 rfl rfl)
theorem dX0_note_9 : decode cX0_note 9 = .ok (.aload_n 0, 1) := dk_42 (dk_at dksX0_note_0 9 rfl rfl)
theorem dX0_note_10 : decode cX0_note 10 = .ok (.getfield 58, 3) := dk_180 0 58 (dk_at dksX0_note_0 10 rfl rfl)
theorem dX0_note_13 : decode cX0_note 13 = .ok (.iconst 0, 1) := dk_3 (dk_at dksX0_note_0 13 rfl rfl)
theorem dX0_note_14 : decode cX0_note 14 = .ok (.aaload, 1) := dk_50 (dk_at dksX0_note_0 14 rfl rfl)
theorem dX0_note_15 : decode cX0_note 15 = .ok (.astore_n 1, 1) := dk_76 (dk_at dksX0_note_0 15 rfl rfl)
theorem dX0_note_16 : decode cX0_note 16 = .ok (.aload_n 0, 1) := dk_42 (dk_at dksX0_note_0 16 rfl rfl)
theorem dX0_note_17 : decode cX0_note 17 = .ok (.getfield 58, 3) := dk_180 0 58 (dk_at dksX0_note_0 17 rfl rfl)
theorem dX0_note_20 : decode cX0_note 20 = .ok (.iconst 1, 1) := dk_4 (dk_at dksX0_note_0 20 rfl rfl)
theorem dX0_note_21 : decode cX0_note 21 = .ok (.aload_n 0, 1) := dk_42 (dk_at dksX0_note_0 21 rfl rfl)
theorem dX0_note_22 : decode cX0_note 22 = .ok (.getfield 58, 3) := dk_180 0 58 (dk_at dksX0_note_1 0 rfl rfl)
theorem dX0_note_25 : decode cX0_note 25 = .ok (.iconst 0, 1) := dk_3 (dk_at dksX0_note_1 3 rfl rfl)
theorem dX0_note_26 : decode cX0_note 26 = .ok (.iconst 5, 1) := dk_8 (dk_at dksX0_note_1 4 rfl rfl)
theorem dX0_note_27 : decode cX0_note 27 = .ok (.invokestatic 298, 3) := dk_184 1 42 (dk_at dksX0_note_1 5 rfl rfl)
theorem dX0_note_30 : decode cX0_note 30 = .ok (.aload_n 0, 1) := dk_42 (dk_at dksX0_note_1 8 rfl rfl)
theorem dX0_note_31 : decode cX0_note 31 = .ok (.getfield 58, 3) := dk_180 0 58 (dk_at dksX0_note_1 9 rfl rfl)
theorem dX0_note_34 : decode cX0_note 34 = .ok (.iconst 5, 1) := dk_8 (dk_at dksX0_note_1 12 rfl rfl)
theorem dX0_note_35 : decode cX0_note 35 = .ok (.aload_n 1, 1) := dk_43 (dk_at dksX0_note_1 13 rfl rfl)
theorem dX0_note_36 : decode cX0_note 36 = .ok (.aastore, 1) := dk_83 (dk_at dksX0_note_1 14 rfl rfl)
theorem dX0_note_37 : decode cX0_note 37 = .ok (.aload_n 0, 1) := dk_42 (dk_at dksX0_note_1 15 rfl rfl)
theorem dX0_note_38 : decode cX0_note 38 = .ok (.dup, 1) := dk_89 (dk_at dksX0_note_1 16 rfl rfl)
theorem dX0_note_39 : decode cX0_note 39 = .ok (.getfield 258, 3) := dk_180 1 2 (dk_at dksX0_note_1 17 rfl rfl)
theorem dX0_note_42 : decode cX0_note 42 = .ok (.iconst 1, 1) := dk_4 (dk_at dksX0_note_1 20 rfl rfl)
theorem dX0_note_43 : decode cX0_note 43 = .ok (.isub, 1) := dk_100 (dk_at dksX0_note_1 21 rfl rfl)
theorem dX0_note_44 : decode cX0_note 44 = .ok (.putfield 258, 3) := dk_181 1 2 (dk_at dksX0_note_2 0 rfl rfl)
theorem dX0_note_47 : decode cX0_note 47 = .ok (.aload_n 0, 1) := dk_42 (dk_at dksX0_note_2 3 rfl rfl)
theorem dX0_note_48 : decode cX0_note 48 = .ok (.getfield 58, 3) := dk_180 0 58 (dk_at dksX0_note_2 4 rfl rfl)
theorem dX0_note_51 : decode cX0_note 51 = .ok (.aload_n 0, 1) := dk_42 (dk_at dksX0_note_2 7 rfl rfl)
theorem dX0_note_52 : decode cX0_note 52 = .ok (.getfield 258, 3) := dk_180 1 2 (dk_at dksX0_note_2 8 rfl rfl)
theorem dX0_note_55 : decode cX0_note 55 = .ok (.aaload, 1) := dk_50 (dk_at dksX0_note_2 11 rfl rfl)
theorem dX0_note_56 : decode cX0_note 56 = .ok (.aload_n 0, 1) := dk_42 (dk_at dksX0_note_2 12 rfl rfl)
theorem dX0_note_57 : decode cX0_note 57 = .ok (.getfield 18, 3) := dk_180 0 18 (dk_at dksX0_note_2 13 rfl rfl)
theorem dX0_note_60 : decode cX0_note 60 = .ok (.invokevirtual 304, 3) := dk_182 1 48 (dk_at dksX0_note_2 16 rfl rfl)
theorem dX0_note_63 : decode cX0_note 63 = .ok (.aload_n 0, 1) := dk_42 (dk_at dksX0_note_2 19 rfl rfl)
theorem dX0_note_64 : decode cX0_note 64 = .ok (.dup, 1) := dk_89 (dk_at dksX0_note_2 20 rfl rfl)
theorem dX0_note_65 : decode cX0_note 65 = .ok (.getfield 258, 3) := dk_180 1 2 (dk_at dksX0_note_2 21 rfl rfl)
theorem dX0_note_68 : decode cX0_note 68 = .ok (.iconst 1, 1) := dk_4 (dk_at dksX0_note_3 0 rfl rfl)
theorem dX0_note_69 : decode cX0_note 69 = .ok (.iadd, 1) := dk_96 (dk_at dksX0_note_3 1 rfl rfl)
theorem dX0_note_70 : decode cX0_note 70 = .ok (.putfield 258, 3) := dk_181 1 2 (dk_at dksX0_note_3 2 rfl rfl)
theorem dX0_note_73 : decode cX0_note 73 = .ok (.return_, 1) := dk_177 (dk_at dksX0_note_3 5 rfl rfl)
abbrev cX0_words : ByteArray := prog_1_method_32_code
def yX0_words : MethodName := ⟨RX0, "words", "(II)I"⟩
def dkwX0_words_2 : List UInt8 := [180, 0, 129, 27, 28, 79, 29, 172]
abbrev dktX0_words_2 : List UInt8 := dkwX0_words_2 ++ []
def dkwX0_words_1 : List UInt8 := [180, 0, 129, 27, 46, 62, 29, 28, 160, 0, 6, 16, 254, 172, 42, 182, 1, 55, 42, 180, 0, 18]
abbrev dktX0_words_1 : List UInt8 := dkwX0_words_1 ++ dktX0_words_2
def dkwX0_words_0 : List UInt8 := [42, 27, 133, 182, 0, 237, 153, 0, 11, 28, 4, 184, 1, 52, 154, 0, 5, 2, 172, 42, 180, 0, 18]
abbrev dktX0_words_0 : List UInt8 := dkwX0_words_0 ++ dktX0_words_1
theorem dksX0_words_0 : cX0_words.data.toList.drop 0 = dktX0_words_0 := by decide +kernel
theorem dksX0_words_1 : cX0_words.data.toList.drop 23 = dktX0_words_1 := dk_seg dksX0_words_0 23 rfl rfl
theorem dksX0_words_2 : cX0_words.data.toList.drop 45 = dktX0_words_2 := dk_seg dksX0_words_1 22 rfl rfl
theorem dX0_words_0 : decode cX0_words 0 = .ok (.aload_n 0, 1) := dk_42 (dk_at dksX0_words_0 0 rfl rfl)
theorem dX0_words_1 : decode cX0_words 1 = .ok (.iload_n 1, 1) := dk_27 (dk_at dksX0_words_0 1 rfl rfl)
theorem dX0_words_2 : decode cX0_words 2 = .ok (.i2l, 1) := dk_133 (dk_at dksX0_words_0 2 rfl rfl)
theorem dX0_words_3 : decode cX0_words 3 = .ok (.invokevirtual 237, 3) := dk_182 0 237 (dk_at dksX0_words_0 3 rfl rfl)
theorem dX0_words_6 : decode cX0_words 6 = .ok (.ifCond .eq 11, 3) := dk_153 0 11 (dk_at dksX0_words_0 6 rfl rfl)
theorem dX0_words_9 : decode cX0_words 9 = .ok (.iload_n 2, 1) := dk_28 (dk_at dksX0_words_0 9 rfl rfl)
theorem dX0_words_10 : decode cX0_words 10 = .ok (.iconst 1, 1) := dk_4 (dk_at dksX0_words_0 10 rfl rfl)
theorem dX0_words_11 : decode cX0_words 11 = .ok (.invokestatic 308, 3) := dk_184 1 52 (dk_at dksX0_words_0 11 rfl rfl)
theorem dX0_words_14 : decode cX0_words 14 = .ok (.ifCond .ne 5, 3) := dk_154 0 5 (dk_at dksX0_words_0 14 rfl rfl)
theorem dX0_words_17 : decode cX0_words 17 = .ok (.iconst (-1), 1) := dk_2 (dk_at dksX0_words_0 17 rfl rfl)
theorem dX0_words_18 : decode cX0_words 18 = .ok (.ireturn, 1) := dk_172 (dk_at dksX0_words_0 18 rfl rfl)
theorem dX0_words_19 : decode cX0_words 19 = .ok (.aload_n 0, 1) := dk_42 (dk_at dksX0_words_0 19 rfl rfl)
theorem dX0_words_20 : decode cX0_words 20 = .ok (.getfield 18, 3) := dk_180 0 18 (dk_at dksX0_words_0 20 rfl rfl)
theorem dX0_words_23 : decode cX0_words 23 = .ok (.getfield 129, 3) := dk_180 0 129 (dk_at dksX0_words_1 0 rfl rfl)
theorem dX0_words_26 : decode cX0_words 26 = .ok (.iload_n 1, 1) := dk_27 (dk_at dksX0_words_1 3 rfl rfl)
theorem dX0_words_27 : decode cX0_words 27 = .ok (.iaload, 1) := dk_46 (dk_at dksX0_words_1 4 rfl rfl)
theorem dX0_words_28 : decode cX0_words 28 = .ok (.istore_n 3, 1) := dk_62 (dk_at dksX0_words_1 5 rfl rfl)
theorem dX0_words_29 : decode cX0_words 29 = .ok (.iload_n 3, 1) := dk_29 (dk_at dksX0_words_1 6 rfl rfl)
theorem dX0_words_30 : decode cX0_words 30 = .ok (.iload_n 2, 1) := dk_28 (dk_at dksX0_words_1 7 rfl rfl)
theorem dX0_words_31 : decode cX0_words 31 = .ok (.if_icmp .ne 6, 3) := dk_160 0 6 (dk_at dksX0_words_1 8 rfl rfl)
theorem dX0_words_34 : decode cX0_words 34 = .ok (.bipush (-2), 2) := dk_16 254 (dk_at dksX0_words_1 11 rfl rfl)
theorem dX0_words_36 : decode cX0_words 36 = .ok (.ireturn, 1) := dk_172 (dk_at dksX0_words_1 13 rfl rfl)
theorem dX0_words_37 : decode cX0_words 37 = .ok (.aload_n 0, 1) := dk_42 (dk_at dksX0_words_1 14 rfl rfl)
theorem dX0_words_38 : decode cX0_words 38 = .ok (.invokevirtual 311, 3) := dk_182 1 55 (dk_at dksX0_words_1 15 rfl rfl)
theorem dX0_words_41 : decode cX0_words 41 = .ok (.aload_n 0, 1) := dk_42 (dk_at dksX0_words_1 18 rfl rfl)
theorem dX0_words_42 : decode cX0_words 42 = .ok (.getfield 18, 3) := dk_180 0 18 (dk_at dksX0_words_1 19 rfl rfl)
theorem dX0_words_45 : decode cX0_words 45 = .ok (.getfield 129, 3) := dk_180 0 129 (dk_at dksX0_words_2 0 rfl rfl)
theorem dX0_words_48 : decode cX0_words 48 = .ok (.iload_n 1, 1) := dk_27 (dk_at dksX0_words_2 3 rfl rfl)
theorem dX0_words_49 : decode cX0_words 49 = .ok (.iload_n 2, 1) := dk_28 (dk_at dksX0_words_2 4 rfl rfl)
theorem dX0_words_50 : decode cX0_words 50 = .ok (.iastore, 1) := dk_79 (dk_at dksX0_words_2 5 rfl rfl)
theorem dX0_words_51 : decode cX0_words 51 = .ok (.iload_n 3, 1) := dk_29 (dk_at dksX0_words_2 6 rfl rfl)
theorem dX0_words_52 : decode cX0_words 52 = .ok (.ireturn, 1) := dk_172 (dk_at dksX0_words_2 7 rfl rfl)
abbrev cX0_lose : ByteArray := prog_1_method_33_code
def yX0_lose : MethodName := ⟨RX0, "lose", "(I)I"⟩
def dkwX0_lose_1 : List UInt8 := [180, 0, 18, 182, 0, 97, 172]
abbrev dktX0_lose_1 : List UInt8 := dkwX0_lose_1 ++ []
def dkwX0_lose_0 : List UInt8 := [42, 27, 133, 182, 0, 237, 154, 0, 5, 2, 172, 42, 182, 1, 55, 42, 180, 0, 18, 27, 182, 1, 61, 42]
abbrev dktX0_lose_0 : List UInt8 := dkwX0_lose_0 ++ dktX0_lose_1
theorem dksX0_lose_0 : cX0_lose.data.toList.drop 0 = dktX0_lose_0 := by decide +kernel
theorem dksX0_lose_1 : cX0_lose.data.toList.drop 24 = dktX0_lose_1 := dk_seg dksX0_lose_0 24 rfl rfl
theorem dX0_lose_0 : decode cX0_lose 0 = .ok (.aload_n 0, 1) := dk_42 (dk_at dksX0_lose_0 0 rfl rfl)
theorem dX0_lose_1 : decode cX0_lose 1 = .ok (.iload_n 1, 1) := dk_27 (dk_at dksX0_lose_0 1 rfl rfl)
theorem dX0_lose_2 : decode cX0_lose 2 = .ok (.i2l, 1) := dk_133 (dk_at dksX0_lose_0 2 rfl rfl)
theorem dX0_lose_3 : decode cX0_lose 3 = .ok (.invokevirtual 237, 3) := dk_182 0 237 (dk_at dksX0_lose_0 3 rfl rfl)
theorem dX0_lose_6 : decode cX0_lose 6 = .ok (.ifCond .ne 5, 3) := dk_154 0 5 (dk_at dksX0_lose_0 6 rfl rfl)
theorem dX0_lose_9 : decode cX0_lose 9 = .ok (.iconst (-1), 1) := dk_2 (dk_at dksX0_lose_0 9 rfl rfl)
theorem dX0_lose_10 : decode cX0_lose 10 = .ok (.ireturn, 1) := dk_172 (dk_at dksX0_lose_0 10 rfl rfl)
theorem dX0_lose_11 : decode cX0_lose 11 = .ok (.aload_n 0, 1) := dk_42 (dk_at dksX0_lose_0 11 rfl rfl)
theorem dX0_lose_12 : decode cX0_lose 12 = .ok (.invokevirtual 311, 3) := dk_182 1 55 (dk_at dksX0_lose_0 12 rfl rfl)
theorem dX0_lose_15 : decode cX0_lose 15 = .ok (.aload_n 0, 1) := dk_42 (dk_at dksX0_lose_0 15 rfl rfl)
theorem dX0_lose_16 : decode cX0_lose 16 = .ok (.getfield 18, 3) := dk_180 0 18 (dk_at dksX0_lose_0 16 rfl rfl)
theorem dX0_lose_19 : decode cX0_lose 19 = .ok (.iload_n 1, 1) := dk_27 (dk_at dksX0_lose_0 19 rfl rfl)
theorem dX0_lose_20 : decode cX0_lose 20 = .ok (.invokevirtual 317, 3) := dk_182 1 61 (dk_at dksX0_lose_0 20 rfl rfl)
theorem dX0_lose_23 : decode cX0_lose 23 = .ok (.aload_n 0, 1) := dk_42 (dk_at dksX0_lose_0 23 rfl rfl)
theorem dX0_lose_24 : decode cX0_lose 24 = .ok (.getfield 18, 3) := dk_180 0 18 (dk_at dksX0_lose_1 0 rfl rfl)
theorem dX0_lose_27 : decode cX0_lose 27 = .ok (.invokevirtual 97, 3) := dk_182 0 97 (dk_at dksX0_lose_1 3 rfl rfl)
theorem dX0_lose_30 : decode cX0_lose 30 = .ok (.ireturn, 1) := dk_172 (dk_at dksX0_lose_1 6 rfl rfl)
abbrev cX0_ahead : ByteArray := prog_1_method_34_code
def yX0_ahead : MethodName := ⟨RX0, "ahead", "(II)I"⟩
def dkwX0_ahead_4 : List UInt8 := [167, 0, 4, 3, 172]
abbrev dktX0_ahead_4 : List UInt8 := dkwX0_ahead_4 ++ []
def dkwX0_ahead_3 : List UInt8 := [28, 120, 130, 145, 84, 42, 180, 0, 18, 180, 0, 172, 27, 51, 28, 184, 0, 108, 153, 0, 7, 4]
abbrev dktX0_ahead_3 : List UInt8 := dkwX0_ahead_3 ++ dktX0_ahead_4
def dkwX0_ahead_2 : List UInt8 := [182, 1, 64, 154, 0, 6, 16, 254, 172, 42, 182, 1, 55, 42, 180, 0, 18, 180, 0, 172, 27, 92, 51, 4]
abbrev dktX0_ahead_2 : List UInt8 := dkwX0_ahead_2 ++ dktX0_ahead_3
def dkwX0_ahead_1 : List UInt8 := [172, 42, 180, 0, 18, 180, 0, 172, 27, 51, 28, 184, 0, 108, 154, 0, 18, 42, 180, 0, 18, 27, 28]
abbrev dktX0_ahead_1 : List UInt8 := dkwX0_ahead_1 ++ dktX0_ahead_2
def dkwX0_ahead_0 : List UInt8 := [42, 27, 133, 182, 0, 237, 153, 0, 17, 42, 28, 133, 182, 0, 237, 153, 0, 8, 27, 28, 160, 0, 5, 2]
abbrev dktX0_ahead_0 : List UInt8 := dkwX0_ahead_0 ++ dktX0_ahead_1
theorem dksX0_ahead_0 : cX0_ahead.data.toList.drop 0 = dktX0_ahead_0 := by decide +kernel
theorem dksX0_ahead_1 : cX0_ahead.data.toList.drop 24 = dktX0_ahead_1 := dk_seg dksX0_ahead_0 24 rfl rfl
theorem dksX0_ahead_2 : cX0_ahead.data.toList.drop 47 = dktX0_ahead_2 := dk_seg dksX0_ahead_1 23 rfl rfl
theorem dksX0_ahead_3 : cX0_ahead.data.toList.drop 71 = dktX0_ahead_3 := dk_seg dksX0_ahead_2 24 rfl rfl
theorem dksX0_ahead_4 : cX0_ahead.data.toList.drop 93 = dktX0_ahead_4 := dk_seg dksX0_ahead_3 22 rfl rfl
theorem dX0_ahead_0 : decode cX0_ahead 0 = .ok (.aload_n 0, 1) := dk_42 (dk_at dksX0_ahead_0 0 rfl rfl)
theorem dX0_ahead_1 : decode cX0_ahead 1 = .ok (.iload_n 1, 1) := dk_27 (dk_at dksX0_ahead_0 1 rfl rfl)
theorem dX0_ahead_2 : decode cX0_ahead 2 = .ok (.i2l, 1) := dk_133 (dk_at dksX0_ahead_0 2 rfl rfl)
theorem dX0_ahead_3 : decode cX0_ahead 3 = .ok (.invokevirtual 237, 3) := dk_182 0 237 (dk_at dksX0_ahead_0 3 rfl rfl)
theorem dX0_ahead_6 : decode cX0_ahead 6 = .ok (.ifCond .eq 17, 3) := dk_153 0 17 (dk_at dksX0_ahead_0 6 rfl rfl)
theorem dX0_ahead_9 : decode cX0_ahead 9 = .ok (.aload_n 0, 1) := dk_42 (dk_at dksX0_ahead_0 9 rfl rfl)
theorem dX0_ahead_10 : decode cX0_ahead 10 = .ok (.iload_n 2, 1) := dk_28 (dk_at dksX0_ahead_0 10 rfl rfl)
theorem dX0_ahead_11 : decode cX0_ahead 11 = .ok (.i2l, 1) := dk_133 (dk_at dksX0_ahead_0 11 rfl rfl)
theorem dX0_ahead_12 : decode cX0_ahead 12 = .ok (.invokevirtual 237, 3) := dk_182 0 237 (dk_at dksX0_ahead_0 12 rfl rfl)
theorem dX0_ahead_15 : decode cX0_ahead 15 = .ok (.ifCond .eq 8, 3) := dk_153 0 8 (dk_at dksX0_ahead_0 15 rfl rfl)
theorem dX0_ahead_18 : decode cX0_ahead 18 = .ok (.iload_n 1, 1) := dk_27 (dk_at dksX0_ahead_0 18 rfl rfl)
theorem dX0_ahead_19 : decode cX0_ahead 19 = .ok (.iload_n 2, 1) := dk_28 (dk_at dksX0_ahead_0 19 rfl rfl)
theorem dX0_ahead_20 : decode cX0_ahead 20 = .ok (.if_icmp .ne 5, 3) := dk_160 0 5 (dk_at dksX0_ahead_0 20 rfl rfl)
theorem dX0_ahead_23 : decode cX0_ahead 23 = .ok (.iconst (-1), 1) := dk_2 (dk_at dksX0_ahead_0 23 rfl rfl)
theorem dX0_ahead_24 : decode cX0_ahead 24 = .ok (.ireturn, 1) := dk_172 (dk_at dksX0_ahead_1 0 rfl rfl)
theorem dX0_ahead_25 : decode cX0_ahead 25 = .ok (.aload_n 0, 1) := dk_42 (dk_at dksX0_ahead_1 1 rfl rfl)
theorem dX0_ahead_26 : decode cX0_ahead 26 = .ok (.getfield 18, 3) := dk_180 0 18 (dk_at dksX0_ahead_1 2 rfl rfl)
theorem dX0_ahead_29 : decode cX0_ahead 29 = .ok (.getfield 172, 3) := dk_180 0 172 (dk_at dksX0_ahead_1 5 rfl rfl)
theorem dX0_ahead_32 : decode cX0_ahead 32 = .ok (.iload_n 1, 1) := dk_27 (dk_at dksX0_ahead_1 8 rfl rfl)
theorem dX0_ahead_33 : decode cX0_ahead 33 = .ok (.baload, 1) := dk_51 (dk_at dksX0_ahead_1 9 rfl rfl)
theorem dX0_ahead_34 : decode cX0_ahead 34 = .ok (.iload_n 2, 1) := dk_28 (dk_at dksX0_ahead_1 10 rfl rfl)
theorem dX0_ahead_35 : decode cX0_ahead 35 = .ok (.invokestatic 108, 3) := dk_184 0 108 (dk_at dksX0_ahead_1 11 rfl rfl)
theorem dX0_ahead_38 : decode cX0_ahead 38 = .ok (.ifCond .ne 18, 3) := dk_154 0 18 (dk_at dksX0_ahead_1 14 rfl rfl)
theorem dX0_ahead_41 : decode cX0_ahead 41 = .ok (.aload_n 0, 1) := dk_42 (dk_at dksX0_ahead_1 17 rfl rfl)
theorem dX0_ahead_42 : decode cX0_ahead 42 = .ok (.getfield 18, 3) := dk_180 0 18 (dk_at dksX0_ahead_1 18 rfl rfl)
theorem dX0_ahead_45 : decode cX0_ahead 45 = .ok (.iload_n 1, 1) := dk_27 (dk_at dksX0_ahead_1 21 rfl rfl)
theorem dX0_ahead_46 : decode cX0_ahead 46 = .ok (.iload_n 2, 1) := dk_28 (dk_at dksX0_ahead_1 22 rfl rfl)
theorem dX0_ahead_47 : decode cX0_ahead 47 = .ok (.invokevirtual 320, 3) := dk_182 1 64 (dk_at dksX0_ahead_2 0 rfl rfl)
theorem dX0_ahead_50 : decode cX0_ahead 50 = .ok (.ifCond .ne 6, 3) := dk_154 0 6 (dk_at dksX0_ahead_2 3 rfl rfl)
theorem dX0_ahead_53 : decode cX0_ahead 53 = .ok (.bipush (-2), 2) := dk_16 254 (dk_at dksX0_ahead_2 6 rfl rfl)
theorem dX0_ahead_55 : decode cX0_ahead 55 = .ok (.ireturn, 1) := dk_172 (dk_at dksX0_ahead_2 8 rfl rfl)
theorem dX0_ahead_56 : decode cX0_ahead 56 = .ok (.aload_n 0, 1) := dk_42 (dk_at dksX0_ahead_2 9 rfl rfl)
theorem dX0_ahead_57 : decode cX0_ahead 57 = .ok (.invokevirtual 311, 3) := dk_182 1 55 (dk_at dksX0_ahead_2 10 rfl rfl)
theorem dX0_ahead_60 : decode cX0_ahead 60 = .ok (.aload_n 0, 1) := dk_42 (dk_at dksX0_ahead_2 13 rfl rfl)
theorem dX0_ahead_61 : decode cX0_ahead 61 = .ok (.getfield 18, 3) := dk_180 0 18 (dk_at dksX0_ahead_2 14 rfl rfl)
theorem dX0_ahead_64 : decode cX0_ahead 64 = .ok (.getfield 172, 3) := dk_180 0 172 (dk_at dksX0_ahead_2 17 rfl rfl)
theorem dX0_ahead_67 : decode cX0_ahead 67 = .ok (.iload_n 1, 1) := dk_27 (dk_at dksX0_ahead_2 20 rfl rfl)
theorem dX0_ahead_68 : decode cX0_ahead 68 = .ok (.dup2, 1) := dk_92 (dk_at dksX0_ahead_2 21 rfl rfl)
theorem dX0_ahead_69 : decode cX0_ahead 69 = .ok (.baload, 1) := dk_51 (dk_at dksX0_ahead_2 22 rfl rfl)
theorem dX0_ahead_70 : decode cX0_ahead 70 = .ok (.iconst 1, 1) := dk_4 (dk_at dksX0_ahead_2 23 rfl rfl)
theorem dX0_ahead_71 : decode cX0_ahead 71 = .ok (.iload_n 2, 1) := dk_28 (dk_at dksX0_ahead_3 0 rfl rfl)
theorem dX0_ahead_72 : decode cX0_ahead 72 = .ok (.ishl, 1) := dk_120 (dk_at dksX0_ahead_3 1 rfl rfl)
theorem dX0_ahead_73 : decode cX0_ahead 73 = .ok (.ixor, 1) := dk_130 (dk_at dksX0_ahead_3 2 rfl rfl)
theorem dX0_ahead_74 : decode cX0_ahead 74 = .ok (.i2b, 1) := dk_145 (dk_at dksX0_ahead_3 3 rfl rfl)
theorem dX0_ahead_75 : decode cX0_ahead 75 = .ok (.bastore, 1) := dk_84 (dk_at dksX0_ahead_3 4 rfl rfl)
theorem dX0_ahead_76 : decode cX0_ahead 76 = .ok (.aload_n 0, 1) := dk_42 (dk_at dksX0_ahead_3 5 rfl rfl)
theorem dX0_ahead_77 : decode cX0_ahead 77 = .ok (.getfield 18, 3) := dk_180 0 18 (dk_at dksX0_ahead_3 6 rfl rfl)
theorem dX0_ahead_80 : decode cX0_ahead 80 = .ok (.getfield 172, 3) := dk_180 0 172 (dk_at dksX0_ahead_3 9 rfl rfl)
theorem dX0_ahead_83 : decode cX0_ahead 83 = .ok (.iload_n 1, 1) := dk_27 (dk_at dksX0_ahead_3 12 rfl rfl)
theorem dX0_ahead_84 : decode cX0_ahead 84 = .ok (.baload, 1) := dk_51 (dk_at dksX0_ahead_3 13 rfl rfl)
theorem dX0_ahead_85 : decode cX0_ahead 85 = .ok (.iload_n 2, 1) := dk_28 (dk_at dksX0_ahead_3 14 rfl rfl)
theorem dX0_ahead_86 : decode cX0_ahead 86 = .ok (.invokestatic 108, 3) := dk_184 0 108 (dk_at dksX0_ahead_3 15 rfl rfl)
theorem dX0_ahead_89 : decode cX0_ahead 89 = .ok (.ifCond .eq 7, 3) := dk_153 0 7 (dk_at dksX0_ahead_3 18 rfl rfl)
theorem dX0_ahead_92 : decode cX0_ahead 92 = .ok (.iconst 1, 1) := dk_4 (dk_at dksX0_ahead_3 21 rfl rfl)
theorem dX0_ahead_93 : decode cX0_ahead 93 = .ok (.goto 4, 3) := dk_167 0 4 (dk_at dksX0_ahead_4 0 rfl rfl)
theorem dX0_ahead_96 : decode cX0_ahead 96 = .ok (.iconst 0, 1) := dk_3 (dk_at dksX0_ahead_4 3 rfl rfl)
theorem dX0_ahead_97 : decode cX0_ahead 97 = .ok (.ireturn, 1) := dk_172 (dk_at dksX0_ahead_4 4 rfl rfl)
abbrev cX0_prior : ByteArray := prog_1_method_35_code
def yX0_prior : MethodName := ⟨RX0, "prior", "(I)I"⟩
def dkwX0_prior_1 : List UInt8 := [16, 254, 172, 42, 182, 1, 55, 42, 180, 0, 18, 27, 181, 0, 101, 28, 172]
abbrev dktX0_prior_1 : List UInt8 := dkwX0_prior_1 ++ []
def dkwX0_prior_0 : List UInt8 := [27, 3, 184, 1, 52, 154, 0, 5, 2, 172, 42, 180, 0, 18, 180, 0, 101, 61, 28, 27, 160, 0, 6]
abbrev dktX0_prior_0 : List UInt8 := dkwX0_prior_0 ++ dktX0_prior_1
theorem dksX0_prior_0 : cX0_prior.data.toList.drop 0 = dktX0_prior_0 := by decide +kernel
theorem dksX0_prior_1 : cX0_prior.data.toList.drop 23 = dktX0_prior_1 := dk_seg dksX0_prior_0 23 rfl rfl
theorem dX0_prior_0 : decode cX0_prior 0 = .ok (.iload_n 1, 1) := dk_27 (dk_at dksX0_prior_0 0 rfl rfl)
theorem dX0_prior_1 : decode cX0_prior 1 = .ok (.iconst 0, 1) := dk_3 (dk_at dksX0_prior_0 1 rfl rfl)
theorem dX0_prior_2 : decode cX0_prior 2 = .ok (.invokestatic 308, 3) := dk_184 1 52 (dk_at dksX0_prior_0 2 rfl rfl)
theorem dX0_prior_5 : decode cX0_prior 5 = .ok (.ifCond .ne 5, 3) := dk_154 0 5 (dk_at dksX0_prior_0 5 rfl rfl)
theorem dX0_prior_8 : decode cX0_prior 8 = .ok (.iconst (-1), 1) := dk_2 (dk_at dksX0_prior_0 8 rfl rfl)
theorem dX0_prior_9 : decode cX0_prior 9 = .ok (.ireturn, 1) := dk_172 (dk_at dksX0_prior_0 9 rfl rfl)
theorem dX0_prior_10 : decode cX0_prior 10 = .ok (.aload_n 0, 1) := dk_42 (dk_at dksX0_prior_0 10 rfl rfl)
theorem dX0_prior_11 : decode cX0_prior 11 = .ok (.getfield 18, 3) := dk_180 0 18 (dk_at dksX0_prior_0 11 rfl rfl)
theorem dX0_prior_14 : decode cX0_prior 14 = .ok (.getfield 101, 3) := dk_180 0 101 (dk_at dksX0_prior_0 14 rfl rfl)
theorem dX0_prior_17 : decode cX0_prior 17 = .ok (.istore_n 2, 1) := dk_61 (dk_at dksX0_prior_0 17 rfl rfl)
theorem dX0_prior_18 : decode cX0_prior 18 = .ok (.iload_n 2, 1) := dk_28 (dk_at dksX0_prior_0 18 rfl rfl)
theorem dX0_prior_19 : decode cX0_prior 19 = .ok (.iload_n 1, 1) := dk_27 (dk_at dksX0_prior_0 19 rfl rfl)
theorem dX0_prior_20 : decode cX0_prior 20 = .ok (.if_icmp .ne 6, 3) := dk_160 0 6 (dk_at dksX0_prior_0 20 rfl rfl)
theorem dX0_prior_23 : decode cX0_prior 23 = .ok (.bipush (-2), 2) := dk_16 254 (dk_at dksX0_prior_1 0 rfl rfl)
theorem dX0_prior_25 : decode cX0_prior 25 = .ok (.ireturn, 1) := dk_172 (dk_at dksX0_prior_1 2 rfl rfl)
theorem dX0_prior_26 : decode cX0_prior 26 = .ok (.aload_n 0, 1) := dk_42 (dk_at dksX0_prior_1 3 rfl rfl)
theorem dX0_prior_27 : decode cX0_prior 27 = .ok (.invokevirtual 311, 3) := dk_182 1 55 (dk_at dksX0_prior_1 4 rfl rfl)
theorem dX0_prior_30 : decode cX0_prior 30 = .ok (.aload_n 0, 1) := dk_42 (dk_at dksX0_prior_1 7 rfl rfl)
theorem dX0_prior_31 : decode cX0_prior 31 = .ok (.getfield 18, 3) := dk_180 0 18 (dk_at dksX0_prior_1 8 rfl rfl)
theorem dX0_prior_34 : decode cX0_prior 34 = .ok (.iload_n 1, 1) := dk_27 (dk_at dksX0_prior_1 11 rfl rfl)
theorem dX0_prior_35 : decode cX0_prior 35 = .ok (.putfield 101, 3) := dk_181 0 101 (dk_at dksX0_prior_1 12 rfl rfl)
theorem dX0_prior_38 : decode cX0_prior 38 = .ok (.iload_n 2, 1) := dk_28 (dk_at dksX0_prior_1 15 rfl rfl)
theorem dX0_prior_39 : decode cX0_prior 39 = .ok (.ireturn, 1) := dk_172 (dk_at dksX0_prior_1 16 rfl rfl)
abbrev cX0_tell : ByteArray := prog_1_method_37_code
def yX0_tell : MethodName := ⟨RX0, "tell", "(II)I"⟩
def dkwX0_tell_1 : List UInt8 := [16, 254, 172, 42, 182, 1, 55, 42, 27, 28, 182, 1, 79, 29, 172]
abbrev dktX0_tell_1 : List UInt8 := dkwX0_tell_1 ++ []
def dkwX0_tell_0 : List UInt8 := [27, 28, 184, 1, 73, 154, 0, 5, 2, 172, 42, 5, 27, 96, 182, 1, 76, 62, 29, 28, 160, 0, 6]
abbrev dktX0_tell_0 : List UInt8 := dkwX0_tell_0 ++ dktX0_tell_1
theorem dksX0_tell_0 : cX0_tell.data.toList.drop 0 = dktX0_tell_0 := by decide +kernel
theorem dksX0_tell_1 : cX0_tell.data.toList.drop 23 = dktX0_tell_1 := dk_seg dksX0_tell_0 23 rfl rfl
theorem dX0_tell_0 : decode cX0_tell 0 = .ok (.iload_n 1, 1) := dk_27 (dk_at dksX0_tell_0 0 rfl rfl)
theorem dX0_tell_1 : decode cX0_tell 1 = .ok (.iload_n 2, 1) := dk_28 (dk_at dksX0_tell_0 1 rfl rfl)
theorem dX0_tell_2 : decode cX0_tell 2 = .ok (.invokestatic 329, 3) := dk_184 1 73 (dk_at dksX0_tell_0 2 rfl rfl)
theorem dX0_tell_5 : decode cX0_tell 5 = .ok (.ifCond .ne 5, 3) := dk_154 0 5 (dk_at dksX0_tell_0 5 rfl rfl)
theorem dX0_tell_8 : decode cX0_tell 8 = .ok (.iconst (-1), 1) := dk_2 (dk_at dksX0_tell_0 8 rfl rfl)
theorem dX0_tell_9 : decode cX0_tell 9 = .ok (.ireturn, 1) := dk_172 (dk_at dksX0_tell_0 9 rfl rfl)
theorem dX0_tell_10 : decode cX0_tell 10 = .ok (.aload_n 0, 1) := dk_42 (dk_at dksX0_tell_0 10 rfl rfl)
theorem dX0_tell_11 : decode cX0_tell 11 = .ok (.iconst 2, 1) := dk_5 (dk_at dksX0_tell_0 11 rfl rfl)
theorem dX0_tell_12 : decode cX0_tell 12 = .ok (.iload_n 1, 1) := dk_27 (dk_at dksX0_tell_0 12 rfl rfl)
theorem dX0_tell_13 : decode cX0_tell 13 = .ok (.iadd, 1) := dk_96 (dk_at dksX0_tell_0 13 rfl rfl)
theorem dX0_tell_14 : decode cX0_tell 14 = .ok (.invokevirtual 332, 3) := dk_182 1 76 (dk_at dksX0_tell_0 14 rfl rfl)
theorem dX0_tell_17 : decode cX0_tell 17 = .ok (.istore_n 3, 1) := dk_62 (dk_at dksX0_tell_0 17 rfl rfl)
theorem dX0_tell_18 : decode cX0_tell 18 = .ok (.iload_n 3, 1) := dk_29 (dk_at dksX0_tell_0 18 rfl rfl)
theorem dX0_tell_19 : decode cX0_tell 19 = .ok (.iload_n 2, 1) := dk_28 (dk_at dksX0_tell_0 19 rfl rfl)
theorem dX0_tell_20 : decode cX0_tell 20 = .ok (.if_icmp .ne 6, 3) := dk_160 0 6 (dk_at dksX0_tell_0 20 rfl rfl)
theorem dX0_tell_23 : decode cX0_tell 23 = .ok (.bipush (-2), 2) := dk_16 254 (dk_at dksX0_tell_1 0 rfl rfl)
theorem dX0_tell_25 : decode cX0_tell 25 = .ok (.ireturn, 1) := dk_172 (dk_at dksX0_tell_1 2 rfl rfl)
theorem dX0_tell_26 : decode cX0_tell 26 = .ok (.aload_n 0, 1) := dk_42 (dk_at dksX0_tell_1 3 rfl rfl)
theorem dX0_tell_27 : decode cX0_tell 27 = .ok (.invokevirtual 311, 3) := dk_182 1 55 (dk_at dksX0_tell_1 4 rfl rfl)
theorem dX0_tell_30 : decode cX0_tell 30 = .ok (.aload_n 0, 1) := dk_42 (dk_at dksX0_tell_1 7 rfl rfl)
theorem dX0_tell_31 : decode cX0_tell 31 = .ok (.iload_n 1, 1) := dk_27 (dk_at dksX0_tell_1 8 rfl rfl)
theorem dX0_tell_32 : decode cX0_tell 32 = .ok (.iload_n 2, 1) := dk_28 (dk_at dksX0_tell_1 9 rfl rfl)
theorem dX0_tell_33 : decode cX0_tell 33 = .ok (.invokevirtual 335, 3) := dk_182 1 79 (dk_at dksX0_tell_1 10 rfl rfl)
theorem dX0_tell_36 : decode cX0_tell 36 = .ok (.iload_n 3, 1) := dk_29 (dk_at dksX0_tell_1 13 rfl rfl)
theorem dX0_tell_37 : decode cX0_tell 37 = .ok (.ireturn, 1) := dk_172 (dk_at dksX0_tell_1 14 rfl rfl)
abbrev cX0_mayBe : ByteArray := prog_1_method_36_code
def yX0_mayBe : MethodName := ⟨RX0, "mayBe", "(II)Z"⟩
def dkwX0_mayBe_2 : List UInt8 := [153, 0, 7, 4, 167, 0, 4, 3, 172]
abbrev dktX0_mayBe_2 : List UInt8 := dkwX0_mayBe_2 ++ []
def dkwX0_mayBe_1 : List UInt8 := [20, 1, 69, 184, 0, 5, 167, 0, 25, 26, 5, 160, 0, 19, 27, 133, 9, 20, 1, 71, 184, 0, 5]
abbrev dktX0_mayBe_1 : List UInt8 := dkwX0_mayBe_1 ++ dktX0_mayBe_2
def dkwX0_mayBe_0 : List UInt8 := [26, 154, 0, 15, 27, 133, 10, 20, 1, 67, 184, 0, 5, 167, 0, 42, 26, 4, 160, 0, 15, 27, 133, 9]
abbrev dktX0_mayBe_0 : List UInt8 := dkwX0_mayBe_0 ++ dktX0_mayBe_1
theorem dksX0_mayBe_0 : cX0_mayBe.data.toList.drop 0 = dktX0_mayBe_0 := by decide +kernel
theorem dksX0_mayBe_1 : cX0_mayBe.data.toList.drop 24 = dktX0_mayBe_1 := dk_seg dksX0_mayBe_0 24 rfl rfl
theorem dksX0_mayBe_2 : cX0_mayBe.data.toList.drop 47 = dktX0_mayBe_2 := dk_seg dksX0_mayBe_1 23 rfl rfl
theorem dX0_mayBe_0 : decode cX0_mayBe 0 = .ok (.iload_n 0, 1) := dk_26 (dk_at dksX0_mayBe_0 0 rfl rfl)
theorem dX0_mayBe_1 : decode cX0_mayBe 1 = .ok (.ifCond .ne 15, 3) := dk_154 0 15 (dk_at dksX0_mayBe_0 1 rfl rfl)
theorem dX0_mayBe_4 : decode cX0_mayBe 4 = .ok (.iload_n 1, 1) := dk_27 (dk_at dksX0_mayBe_0 4 rfl rfl)
theorem dX0_mayBe_5 : decode cX0_mayBe 5 = .ok (.i2l, 1) := dk_133 (dk_at dksX0_mayBe_0 5 rfl rfl)
theorem dX0_mayBe_6 : decode cX0_mayBe 6 = .ok (.lconst 1, 1) := dk_10 (dk_at dksX0_mayBe_0 6 rfl rfl)
theorem dX0_mayBe_7 : decode cX0_mayBe 7 = .ok (.ldc2_w 323, 3) := dk_20 1 67 (dk_at dksX0_mayBe_0 7 rfl rfl)
theorem dX0_mayBe_10 : decode cX0_mayBe 10 = .ok (.invokestatic 5, 3) := dk_184 0 5 (dk_at dksX0_mayBe_0 10 rfl rfl)
theorem dX0_mayBe_13 : decode cX0_mayBe 13 = .ok (.goto 42, 3) := dk_167 0 42 (dk_at dksX0_mayBe_0 13 rfl rfl)
theorem dX0_mayBe_16 : decode cX0_mayBe 16 = .ok (.iload_n 0, 1) := dk_26 (dk_at dksX0_mayBe_0 16 rfl rfl)
theorem dX0_mayBe_17 : decode cX0_mayBe 17 = .ok (.iconst 1, 1) := dk_4 (dk_at dksX0_mayBe_0 17 rfl rfl)
theorem dX0_mayBe_18 : decode cX0_mayBe 18 = .ok (.if_icmp .ne 15, 3) := dk_160 0 15 (dk_at dksX0_mayBe_0 18 rfl rfl)
theorem dX0_mayBe_21 : decode cX0_mayBe 21 = .ok (.iload_n 1, 1) := dk_27 (dk_at dksX0_mayBe_0 21 rfl rfl)
theorem dX0_mayBe_22 : decode cX0_mayBe 22 = .ok (.i2l, 1) := dk_133 (dk_at dksX0_mayBe_0 22 rfl rfl)
theorem dX0_mayBe_23 : decode cX0_mayBe 23 = .ok (.lconst 0, 1) := dk_9 (dk_at dksX0_mayBe_0 23 rfl rfl)
theorem dX0_mayBe_24 : decode cX0_mayBe 24 = .ok (.ldc2_w 325, 3) := dk_20 1 69 (dk_at dksX0_mayBe_1 0 rfl rfl)
theorem dX0_mayBe_27 : decode cX0_mayBe 27 = .ok (.invokestatic 5, 3) := dk_184 0 5 (dk_at dksX0_mayBe_1 3 rfl rfl)
theorem dX0_mayBe_30 : decode cX0_mayBe 30 = .ok (.goto 25, 3) := dk_167 0 25 (dk_at dksX0_mayBe_1 6 rfl rfl)
theorem dX0_mayBe_33 : decode cX0_mayBe 33 = .ok (.iload_n 0, 1) := dk_26 (dk_at dksX0_mayBe_1 9 rfl rfl)
theorem dX0_mayBe_34 : decode cX0_mayBe 34 = .ok (.iconst 2, 1) := dk_5 (dk_at dksX0_mayBe_1 10 rfl rfl)
theorem dX0_mayBe_35 : decode cX0_mayBe 35 = .ok (.if_icmp .ne 19, 3) := dk_160 0 19 (dk_at dksX0_mayBe_1 11 rfl rfl)
theorem dX0_mayBe_38 : decode cX0_mayBe 38 = .ok (.iload_n 1, 1) := dk_27 (dk_at dksX0_mayBe_1 14 rfl rfl)
theorem dX0_mayBe_39 : decode cX0_mayBe 39 = .ok (.i2l, 1) := dk_133 (dk_at dksX0_mayBe_1 15 rfl rfl)
theorem dX0_mayBe_40 : decode cX0_mayBe 40 = .ok (.lconst 0, 1) := dk_9 (dk_at dksX0_mayBe_1 16 rfl rfl)
theorem dX0_mayBe_41 : decode cX0_mayBe 41 = .ok (.ldc2_w 327, 3) := dk_20 1 71 (dk_at dksX0_mayBe_1 17 rfl rfl)
theorem dX0_mayBe_44 : decode cX0_mayBe 44 = .ok (.invokestatic 5, 3) := dk_184 0 5 (dk_at dksX0_mayBe_1 20 rfl rfl)
theorem dX0_mayBe_47 : decode cX0_mayBe 47 = .ok (.ifCond .eq 7, 3) := dk_153 0 7 (dk_at dksX0_mayBe_2 0 rfl rfl)
theorem dX0_mayBe_50 : decode cX0_mayBe 50 = .ok (.iconst 1, 1) := dk_4 (dk_at dksX0_mayBe_2 3 rfl rfl)
theorem dX0_mayBe_51 : decode cX0_mayBe 51 = .ok (.goto 4, 3) := dk_167 0 4 (dk_at dksX0_mayBe_2 4 rfl rfl)
theorem dX0_mayBe_54 : decode cX0_mayBe 54 = .ok (.iconst 0, 1) := dk_3 (dk_at dksX0_mayBe_2 7 rfl rfl)
theorem dX0_mayBe_55 : decode cX0_mayBe 55 = .ok (.ireturn, 1) := dk_172 (dk_at dksX0_mayBe_2 8 rfl rfl)
abbrev cX0_put : ByteArray := prog_1_method_38_code
def yX0_put : MethodName := ⟨RX0, "put", "(II)V"⟩
def dkwX0_put_2 : List UInt8 := [180, 0, 18, 27, 5, 160, 0, 7, 28, 167, 0, 10, 42, 180, 0, 18, 180, 0, 112, 181, 0, 112, 177]
abbrev dktX0_put_2 : List UInt8 := dkwX0_put_2 ++ []
def dkwX0_put_1 : List UInt8 := [180, 0, 18, 27, 4, 160, 0, 7, 28, 167, 0, 10, 42, 180, 0, 18, 180, 0, 186, 181, 0, 186, 42]
abbrev dktX0_put_1 : List UInt8 := dkwX0_put_1 ++ dktX0_put_2
def dkwX0_put_0 : List UInt8 := [42, 180, 0, 18, 27, 154, 0, 7, 28, 167, 0, 10, 42, 180, 0, 18, 180, 0, 251, 181, 0, 251, 42]
abbrev dktX0_put_0 : List UInt8 := dkwX0_put_0 ++ dktX0_put_1
theorem dksX0_put_0 : cX0_put.data.toList.drop 0 = dktX0_put_0 := by decide +kernel
theorem dksX0_put_1 : cX0_put.data.toList.drop 23 = dktX0_put_1 := dk_seg dksX0_put_0 23 rfl rfl
theorem dksX0_put_2 : cX0_put.data.toList.drop 46 = dktX0_put_2 := dk_seg dksX0_put_1 23 rfl rfl
theorem dX0_put_0 : decode cX0_put 0 = .ok (.aload_n 0, 1) := dk_42 (dk_at dksX0_put_0 0 rfl rfl)
theorem dX0_put_1 : decode cX0_put 1 = .ok (.getfield 18, 3) := dk_180 0 18 (dk_at dksX0_put_0 1 rfl rfl)
theorem dX0_put_4 : decode cX0_put 4 = .ok (.iload_n 1, 1) := dk_27 (dk_at dksX0_put_0 4 rfl rfl)
theorem dX0_put_5 : decode cX0_put 5 = .ok (.ifCond .ne 7, 3) := dk_154 0 7 (dk_at dksX0_put_0 5 rfl rfl)
theorem dX0_put_8 : decode cX0_put 8 = .ok (.iload_n 2, 1) := dk_28 (dk_at dksX0_put_0 8 rfl rfl)
theorem dX0_put_9 : decode cX0_put 9 = .ok (.goto 10, 3) := dk_167 0 10 (dk_at dksX0_put_0 9 rfl rfl)
theorem dX0_put_12 : decode cX0_put 12 = .ok (.aload_n 0, 1) := dk_42 (dk_at dksX0_put_0 12 rfl rfl)
theorem dX0_put_13 : decode cX0_put 13 = .ok (.getfield 18, 3) := dk_180 0 18 (dk_at dksX0_put_0 13 rfl rfl)
theorem dX0_put_16 : decode cX0_put 16 = .ok (.getfield 251, 3) := dk_180 0 251 (dk_at dksX0_put_0 16 rfl rfl)
theorem dX0_put_19 : decode cX0_put 19 = .ok (.putfield 251, 3) := dk_181 0 251 (dk_at dksX0_put_0 19 rfl rfl)
theorem dX0_put_22 : decode cX0_put 22 = .ok (.aload_n 0, 1) := dk_42 (dk_at dksX0_put_0 22 rfl rfl)
theorem dX0_put_23 : decode cX0_put 23 = .ok (.getfield 18, 3) := dk_180 0 18 (dk_at dksX0_put_1 0 rfl rfl)
theorem dX0_put_26 : decode cX0_put 26 = .ok (.iload_n 1, 1) := dk_27 (dk_at dksX0_put_1 3 rfl rfl)
theorem dX0_put_27 : decode cX0_put 27 = .ok (.iconst 1, 1) := dk_4 (dk_at dksX0_put_1 4 rfl rfl)
theorem dX0_put_28 : decode cX0_put 28 = .ok (.if_icmp .ne 7, 3) := dk_160 0 7 (dk_at dksX0_put_1 5 rfl rfl)
theorem dX0_put_31 : decode cX0_put 31 = .ok (.iload_n 2, 1) := dk_28 (dk_at dksX0_put_1 8 rfl rfl)
theorem dX0_put_32 : decode cX0_put 32 = .ok (.goto 10, 3) := dk_167 0 10 (dk_at dksX0_put_1 9 rfl rfl)
theorem dX0_put_35 : decode cX0_put 35 = .ok (.aload_n 0, 1) := dk_42 (dk_at dksX0_put_1 12 rfl rfl)
theorem dX0_put_36 : decode cX0_put 36 = .ok (.getfield 18, 3) := dk_180 0 18 (dk_at dksX0_put_1 13 rfl rfl)
theorem dX0_put_39 : decode cX0_put 39 = .ok (.getfield 186, 3) := dk_180 0 186 (dk_at dksX0_put_1 16 rfl rfl)
theorem dX0_put_42 : decode cX0_put 42 = .ok (.putfield 186, 3) := dk_181 0 186 (dk_at dksX0_put_1 19 rfl rfl)
theorem dX0_put_45 : decode cX0_put 45 = .ok (.aload_n 0, 1) := dk_42 (dk_at dksX0_put_1 22 rfl rfl)
theorem dX0_put_46 : decode cX0_put 46 = .ok (.getfield 18, 3) := dk_180 0 18 (dk_at dksX0_put_2 0 rfl rfl)
theorem dX0_put_49 : decode cX0_put 49 = .ok (.iload_n 1, 1) := dk_27 (dk_at dksX0_put_2 3 rfl rfl)
theorem dX0_put_50 : decode cX0_put 50 = .ok (.iconst 2, 1) := dk_5 (dk_at dksX0_put_2 4 rfl rfl)
theorem dX0_put_51 : decode cX0_put 51 = .ok (.if_icmp .ne 7, 3) := dk_160 0 7 (dk_at dksX0_put_2 5 rfl rfl)
theorem dX0_put_54 : decode cX0_put 54 = .ok (.iload_n 2, 1) := dk_28 (dk_at dksX0_put_2 8 rfl rfl)
theorem dX0_put_55 : decode cX0_put 55 = .ok (.goto 10, 3) := dk_167 0 10 (dk_at dksX0_put_2 9 rfl rfl)
theorem dX0_put_58 : decode cX0_put 58 = .ok (.aload_n 0, 1) := dk_42 (dk_at dksX0_put_2 12 rfl rfl)
theorem dX0_put_59 : decode cX0_put 59 = .ok (.getfield 18, 3) := dk_180 0 18 (dk_at dksX0_put_2 13 rfl rfl)
theorem dX0_put_62 : decode cX0_put 62 = .ok (.getfield 112, 3) := dk_180 0 112 (dk_at dksX0_put_2 16 rfl rfl)
theorem dX0_put_65 : decode cX0_put 65 = .ok (.putfield 112, 3) := dk_181 0 112 (dk_at dksX0_put_2 19 rfl rfl)
theorem dX0_put_68 : decode cX0_put 68 = .ok (.return_, 1) := dk_177 (dk_at dksX0_put_2 22 rfl rfl)
abbrev cX0_move : ByteArray := prog_1_method_40_code
def yX0_move : MethodName := ⟨RX0, "move", "(II)I"⟩
def dkwX0_move_1 : List UInt8 := [160, 0, 6, 16, 254, 172, 42, 182, 1, 55, 42, 27, 28, 182, 1, 80, 172]
abbrev dktX0_move_1 : List UInt8 := dkwX0_move_1 ++ []
def dkwX0_move_0 : List UInt8 := [42, 27, 133, 182, 0, 237, 153, 0, 12, 42, 28, 133, 182, 0, 237, 154, 0, 5, 2, 172, 27, 28]
abbrev dktX0_move_0 : List UInt8 := dkwX0_move_0 ++ dktX0_move_1
theorem dksX0_move_0 : cX0_move.data.toList.drop 0 = dktX0_move_0 := by decide +kernel
theorem dksX0_move_1 : cX0_move.data.toList.drop 22 = dktX0_move_1 := dk_seg dksX0_move_0 22 rfl rfl
theorem dX0_move_0 : decode cX0_move 0 = .ok (.aload_n 0, 1) := dk_42 (dk_at dksX0_move_0 0 rfl rfl)
theorem dX0_move_1 : decode cX0_move 1 = .ok (.iload_n 1, 1) := dk_27 (dk_at dksX0_move_0 1 rfl rfl)
theorem dX0_move_2 : decode cX0_move 2 = .ok (.i2l, 1) := dk_133 (dk_at dksX0_move_0 2 rfl rfl)
theorem dX0_move_3 : decode cX0_move 3 = .ok (.invokevirtual 237, 3) := dk_182 0 237 (dk_at dksX0_move_0 3 rfl rfl)
theorem dX0_move_6 : decode cX0_move 6 = .ok (.ifCond .eq 12, 3) := dk_153 0 12 (dk_at dksX0_move_0 6 rfl rfl)
theorem dX0_move_9 : decode cX0_move 9 = .ok (.aload_n 0, 1) := dk_42 (dk_at dksX0_move_0 9 rfl rfl)
theorem dX0_move_10 : decode cX0_move 10 = .ok (.iload_n 2, 1) := dk_28 (dk_at dksX0_move_0 10 rfl rfl)
theorem dX0_move_11 : decode cX0_move 11 = .ok (.i2l, 1) := dk_133 (dk_at dksX0_move_0 11 rfl rfl)
theorem dX0_move_12 : decode cX0_move 12 = .ok (.invokevirtual 237, 3) := dk_182 0 237 (dk_at dksX0_move_0 12 rfl rfl)
theorem dX0_move_15 : decode cX0_move 15 = .ok (.ifCond .ne 5, 3) := dk_154 0 5 (dk_at dksX0_move_0 15 rfl rfl)
theorem dX0_move_18 : decode cX0_move 18 = .ok (.iconst (-1), 1) := dk_2 (dk_at dksX0_move_0 18 rfl rfl)
theorem dX0_move_19 : decode cX0_move 19 = .ok (.ireturn, 1) := dk_172 (dk_at dksX0_move_0 19 rfl rfl)
theorem dX0_move_20 : decode cX0_move 20 = .ok (.iload_n 1, 1) := dk_27 (dk_at dksX0_move_0 20 rfl rfl)
theorem dX0_move_21 : decode cX0_move 21 = .ok (.iload_n 2, 1) := dk_28 (dk_at dksX0_move_0 21 rfl rfl)
theorem dX0_move_22 : decode cX0_move 22 = .ok (.if_icmp .ne 6, 3) := dk_160 0 6 (dk_at dksX0_move_1 0 rfl rfl)
theorem dX0_move_25 : decode cX0_move 25 = .ok (.bipush (-2), 2) := dk_16 254 (dk_at dksX0_move_1 3 rfl rfl)
theorem dX0_move_27 : decode cX0_move 27 = .ok (.ireturn, 1) := dk_172 (dk_at dksX0_move_1 5 rfl rfl)
theorem dX0_move_28 : decode cX0_move 28 = .ok (.aload_n 0, 1) := dk_42 (dk_at dksX0_move_1 6 rfl rfl)
theorem dX0_move_29 : decode cX0_move 29 = .ok (.invokevirtual 311, 3) := dk_182 1 55 (dk_at dksX0_move_1 7 rfl rfl)
theorem dX0_move_32 : decode cX0_move 32 = .ok (.aload_n 0, 1) := dk_42 (dk_at dksX0_move_1 10 rfl rfl)
theorem dX0_move_33 : decode cX0_move 33 = .ok (.iload_n 1, 1) := dk_27 (dk_at dksX0_move_1 11 rfl rfl)
theorem dX0_move_34 : decode cX0_move 34 = .ok (.iload_n 2, 1) := dk_28 (dk_at dksX0_move_1 12 rfl rfl)
theorem dX0_move_35 : decode cX0_move 35 = .ok (.invokevirtual 336, 3) := dk_182 1 80 (dk_at dksX0_move_1 13 rfl rfl)
theorem dX0_move_38 : decode cX0_move 38 = .ok (.ireturn, 1) := dk_172 (dk_at dksX0_move_1 16 rfl rfl)
abbrev cX0_shift : ByteArray := prog_1_method_39_code
def yX0_shift : MethodName := ⟨RX0, "shift", "(II)I"⟩
def dkwX0_shift_1 : List UInt8 := [180, 0, 18, 180, 0, 234, 28, 29, 182, 0, 155, 29, 172]
abbrev dktX0_shift_1 : List UInt8 := dkwX0_shift_1 ++ []
def dkwX0_shift_0 : List UInt8 := [42, 180, 0, 18, 180, 0, 234, 27, 182, 0, 208, 62, 42, 180, 0, 18, 180, 0, 234, 27, 182, 0, 162, 42]
abbrev dktX0_shift_0 : List UInt8 := dkwX0_shift_0 ++ dktX0_shift_1
theorem dksX0_shift_0 : cX0_shift.data.toList.drop 0 = dktX0_shift_0 := by decide +kernel
theorem dksX0_shift_1 : cX0_shift.data.toList.drop 24 = dktX0_shift_1 := dk_seg dksX0_shift_0 24 rfl rfl
theorem dX0_shift_0 : decode cX0_shift 0 = .ok (.aload_n 0, 1) := dk_42 (dk_at dksX0_shift_0 0 rfl rfl)
theorem dX0_shift_1 : decode cX0_shift 1 = .ok (.getfield 18, 3) := dk_180 0 18 (dk_at dksX0_shift_0 1 rfl rfl)
theorem dX0_shift_4 : decode cX0_shift 4 = .ok (.getfield 234, 3) := dk_180 0 234 (dk_at dksX0_shift_0 4 rfl rfl)
theorem dX0_shift_7 : decode cX0_shift 7 = .ok (.iload_n 1, 1) := dk_27 (dk_at dksX0_shift_0 7 rfl rfl)
theorem dX0_shift_8 : decode cX0_shift 8 = .ok (.invokevirtual 208, 3) := dk_182 0 208 (dk_at dksX0_shift_0 8 rfl rfl)
theorem dX0_shift_11 : decode cX0_shift 11 = .ok (.istore_n 3, 1) := dk_62 (dk_at dksX0_shift_0 11 rfl rfl)
theorem dX0_shift_12 : decode cX0_shift 12 = .ok (.aload_n 0, 1) := dk_42 (dk_at dksX0_shift_0 12 rfl rfl)
theorem dX0_shift_13 : decode cX0_shift 13 = .ok (.getfield 18, 3) := dk_180 0 18 (dk_at dksX0_shift_0 13 rfl rfl)
theorem dX0_shift_16 : decode cX0_shift 16 = .ok (.getfield 234, 3) := dk_180 0 234 (dk_at dksX0_shift_0 16 rfl rfl)
theorem dX0_shift_19 : decode cX0_shift 19 = .ok (.iload_n 1, 1) := dk_27 (dk_at dksX0_shift_0 19 rfl rfl)
theorem dX0_shift_20 : decode cX0_shift 20 = .ok (.invokevirtual 162, 3) := dk_182 0 162 (dk_at dksX0_shift_0 20 rfl rfl)
theorem dX0_shift_23 : decode cX0_shift 23 = .ok (.aload_n 0, 1) := dk_42 (dk_at dksX0_shift_0 23 rfl rfl)
theorem dX0_shift_24 : decode cX0_shift 24 = .ok (.getfield 18, 3) := dk_180 0 18 (dk_at dksX0_shift_1 0 rfl rfl)
theorem dX0_shift_27 : decode cX0_shift 27 = .ok (.getfield 234, 3) := dk_180 0 234 (dk_at dksX0_shift_1 3 rfl rfl)
theorem dX0_shift_30 : decode cX0_shift 30 = .ok (.iload_n 2, 1) := dk_28 (dk_at dksX0_shift_1 6 rfl rfl)
theorem dX0_shift_31 : decode cX0_shift 31 = .ok (.iload_n 3, 1) := dk_29 (dk_at dksX0_shift_1 7 rfl rfl)
theorem dX0_shift_32 : decode cX0_shift 32 = .ok (.invokevirtual 155, 3) := dk_182 0 155 (dk_at dksX0_shift_1 8 rfl rfl)
theorem dX0_shift_35 : decode cX0_shift 35 = .ok (.iload_n 3, 1) := dk_29 (dk_at dksX0_shift_1 11 rfl rfl)
theorem dX0_shift_36 : decode cX0_shift 36 = .ok (.ireturn, 1) := dk_172 (dk_at dksX0_shift_1 12 rfl rfl)
abbrev cX0_settle : ByteArray := prog_1_method_41_code
def yX0_settle : MethodName := ⟨RX0, "settle", "(I)I"⟩
def dkwX0_settle_3 : List UInt8 := [182, 1, 87, 42, 180, 0, 55, 182, 0, 220, 172]
abbrev dktX0_settle_3 : List UInt8 := dkwX0_settle_3 ++ []
def dkwX0_settle_2 : List UInt8 := [184, 1, 83, 153, 0, 6, 16, 254, 172, 42, 182, 1, 55, 42, 180, 0, 18, 180, 0, 234, 42, 180, 0, 55]
abbrev dktX0_settle_2 : List UInt8 := dkwX0_settle_2 ++ dktX0_settle_3
def dkwX0_settle_1 : List UInt8 := [182, 0, 217, 42, 180, 0, 18, 182, 0, 97, 153, 0, 20, 42, 180, 0, 55, 42, 180, 0, 18, 180, 0, 234]
abbrev dktX0_settle_1 : List UInt8 := dkwX0_settle_1 ++ dktX0_settle_2
def dkwX0_settle_0 : List UInt8 := [27, 133, 9, 10, 184, 0, 5, 154, 0, 5, 2, 172, 27, 154, 0, 10, 42, 182, 0, 214, 167, 0, 7, 42]
abbrev dktX0_settle_0 : List UInt8 := dkwX0_settle_0 ++ dktX0_settle_1
theorem dksX0_settle_0 : cX0_settle.data.toList.drop 0 = dktX0_settle_0 := by decide +kernel
theorem dksX0_settle_1 : cX0_settle.data.toList.drop 24 = dktX0_settle_1 := dk_seg dksX0_settle_0 24 rfl rfl
theorem dksX0_settle_2 : cX0_settle.data.toList.drop 48 = dktX0_settle_2 := dk_seg dksX0_settle_1 24 rfl rfl
theorem dksX0_settle_3 : cX0_settle.data.toList.drop 72 = dktX0_settle_3 := dk_seg dksX0_settle_2 24 rfl rfl
theorem dX0_settle_0 : decode cX0_settle 0 = .ok (.iload_n 1, 1) := dk_27 (dk_at dksX0_settle_0 0 rfl rfl)
theorem dX0_settle_1 : decode cX0_settle 1 = .ok (.i2l, 1) := dk_133 (dk_at dksX0_settle_0 1 rfl rfl)
theorem dX0_settle_2 : decode cX0_settle 2 = .ok (.lconst 0, 1) := dk_9 (dk_at dksX0_settle_0 2 rfl rfl)
theorem dX0_settle_3 : decode cX0_settle 3 = .ok (.lconst 1, 1) := dk_10 (dk_at dksX0_settle_0 3 rfl rfl)
theorem dX0_settle_4 : decode cX0_settle 4 = .ok (.invokestatic 5, 3) := dk_184 0 5 (dk_at dksX0_settle_0 4 rfl rfl)
theorem dX0_settle_7 : decode cX0_settle 7 = .ok (.ifCond .ne 5, 3) := dk_154 0 5 (dk_at dksX0_settle_0 7 rfl rfl)
theorem dX0_settle_10 : decode cX0_settle 10 = .ok (.iconst (-1), 1) := dk_2 (dk_at dksX0_settle_0 10 rfl rfl)
theorem dX0_settle_11 : decode cX0_settle 11 = .ok (.ireturn, 1) := dk_172 (dk_at dksX0_settle_0 11 rfl rfl)
theorem dX0_settle_12 : decode cX0_settle 12 = .ok (.iload_n 1, 1) := dk_27 (dk_at dksX0_settle_0 12 rfl rfl)
theorem dX0_settle_13 : decode cX0_settle 13 = .ok (.ifCond .ne 10, 3) := dk_154 0 10 (dk_at dksX0_settle_0 13 rfl rfl)
theorem dX0_settle_16 : decode cX0_settle 16 = .ok (.aload_n 0, 1) := dk_42 (dk_at dksX0_settle_0 16 rfl rfl)
theorem dX0_settle_17 : decode cX0_settle 17 = .ok (.invokevirtual 214, 3) := dk_182 0 214 (dk_at dksX0_settle_0 17 rfl rfl)
theorem dX0_settle_20 : decode cX0_settle 20 = .ok (.goto 7, 3) := dk_167 0 7 (dk_at dksX0_settle_0 20 rfl rfl)
theorem dX0_settle_23 : decode cX0_settle 23 = .ok (.aload_n 0, 1) := dk_42 (dk_at dksX0_settle_0 23 rfl rfl)
theorem dX0_settle_24 : decode cX0_settle 24 = .ok (.invokevirtual 217, 3) := dk_182 0 217 (dk_at dksX0_settle_1 0 rfl rfl)
theorem dX0_settle_27 : decode cX0_settle 27 = .ok (.aload_n 0, 1) := dk_42 (dk_at dksX0_settle_1 3 rfl rfl)
theorem dX0_settle_28 : decode cX0_settle 28 = .ok (.getfield 18, 3) := dk_180 0 18 (dk_at dksX0_settle_1 4 rfl rfl)
theorem dX0_settle_31 : decode cX0_settle 31 = .ok (.invokevirtual 97, 3) := dk_182 0 97 (dk_at dksX0_settle_1 7 rfl rfl)
theorem dX0_settle_34 : decode cX0_settle 34 = .ok (.ifCond .eq 20, 3) := dk_153 0 20 (dk_at dksX0_settle_1 10 rfl rfl)
theorem dX0_settle_37 : decode cX0_settle 37 = .ok (.aload_n 0, 1) := dk_42 (dk_at dksX0_settle_1 13 rfl rfl)
theorem dX0_settle_38 : decode cX0_settle 38 = .ok (.getfield 55, 3) := dk_180 0 55 (dk_at dksX0_settle_1 14 rfl rfl)
theorem dX0_settle_41 : decode cX0_settle 41 = .ok (.aload_n 0, 1) := dk_42 (dk_at dksX0_settle_1 17 rfl rfl)
theorem dX0_settle_42 : decode cX0_settle 42 = .ok (.getfield 18, 3) := dk_180 0 18 (dk_at dksX0_settle_1 18 rfl rfl)
theorem dX0_settle_45 : decode cX0_settle 45 = .ok (.getfield 234, 3) := dk_180 0 234 (dk_at dksX0_settle_1 21 rfl rfl)
theorem dX0_settle_48 : decode cX0_settle 48 = .ok (.invokestatic 339, 3) := dk_184 1 83 (dk_at dksX0_settle_2 0 rfl rfl)
theorem dX0_settle_51 : decode cX0_settle 51 = .ok (.ifCond .eq 6, 3) := dk_153 0 6 (dk_at dksX0_settle_2 3 rfl rfl)
theorem dX0_settle_54 : decode cX0_settle 54 = .ok (.bipush (-2), 2) := dk_16 254 (dk_at dksX0_settle_2 6 rfl rfl)
theorem dX0_settle_56 : decode cX0_settle 56 = .ok (.ireturn, 1) := dk_172 (dk_at dksX0_settle_2 8 rfl rfl)
theorem dX0_settle_57 : decode cX0_settle 57 = .ok (.aload_n 0, 1) := dk_42 (dk_at dksX0_settle_2 9 rfl rfl)
theorem dX0_settle_58 : decode cX0_settle 58 = .ok (.invokevirtual 311, 3) := dk_182 1 55 (dk_at dksX0_settle_2 10 rfl rfl)
theorem dX0_settle_61 : decode cX0_settle 61 = .ok (.aload_n 0, 1) := dk_42 (dk_at dksX0_settle_2 13 rfl rfl)
theorem dX0_settle_62 : decode cX0_settle 62 = .ok (.getfield 18, 3) := dk_180 0 18 (dk_at dksX0_settle_2 14 rfl rfl)
theorem dX0_settle_65 : decode cX0_settle 65 = .ok (.getfield 234, 3) := dk_180 0 234 (dk_at dksX0_settle_2 17 rfl rfl)
theorem dX0_settle_68 : decode cX0_settle 68 = .ok (.aload_n 0, 1) := dk_42 (dk_at dksX0_settle_2 20 rfl rfl)
theorem dX0_settle_69 : decode cX0_settle 69 = .ok (.getfield 55, 3) := dk_180 0 55 (dk_at dksX0_settle_2 21 rfl rfl)
theorem dX0_settle_72 : decode cX0_settle 72 = .ok (.invokevirtual 343, 3) := dk_182 1 87 (dk_at dksX0_settle_3 0 rfl rfl)
theorem dX0_settle_75 : decode cX0_settle 75 = .ok (.aload_n 0, 1) := dk_42 (dk_at dksX0_settle_3 3 rfl rfl)
theorem dX0_settle_76 : decode cX0_settle 76 = .ok (.getfield 55, 3) := dk_180 0 55 (dk_at dksX0_settle_3 4 rfl rfl)
theorem dX0_settle_79 : decode cX0_settle 79 = .ok (.invokevirtual 220, 3) := dk_182 0 220 (dk_at dksX0_settle_3 7 rfl rfl)
theorem dX0_settle_82 : decode cX0_settle 82 = .ok (.ireturn, 1) := dk_172 (dk_at dksX0_settle_3 10 rfl rfl)
abbrev cX0_drift : ByteArray := prog_1_method_44_code
def yX0_drift : MethodName := ⟨RX0, "drift", "(I)I"⟩
def dkwX0_drift_3 : List UInt8 := [167, 255, 204, 42, 180, 0, 18, 182, 0, 97, 172]
abbrev dktX0_drift_3 : List UInt8 := dkwX0_drift_3 ++ []
def dkwX0_drift_2 : List UInt8 := [29, 42, 180, 0, 18, 180, 1, 90, 17, 8, 0, 108, 19, 1, 105, 112, 182, 1, 106, 132, 2, 1]
abbrev dktX0_drift_2 : List UInt8 := dkwX0_drift_2 ++ dktX0_drift_3
def dkwX0_drift_1 : List UInt8 := [182, 1, 55, 42, 182, 1, 101, 42, 180, 0, 18, 180, 1, 90, 19, 1, 104, 108, 62, 42, 182, 1, 101, 42]
abbrev dktX0_drift_1 : List UInt8 := dkwX0_drift_1 ++ dktX0_drift_2
def dkwX0_drift_0 : List UInt8 := [27, 133, 10, 20, 1, 99, 184, 0, 5, 154, 0, 5, 2, 172, 3, 61, 28, 27, 162, 0, 53, 42]
abbrev dktX0_drift_0 : List UInt8 := dkwX0_drift_0 ++ dktX0_drift_1
theorem dksX0_drift_0 : cX0_drift.data.toList.drop 0 = dktX0_drift_0 := by decide +kernel
theorem dksX0_drift_1 : cX0_drift.data.toList.drop 22 = dktX0_drift_1 := dk_seg dksX0_drift_0 22 rfl rfl
theorem dksX0_drift_2 : cX0_drift.data.toList.drop 46 = dktX0_drift_2 := dk_seg dksX0_drift_1 24 rfl rfl
theorem dksX0_drift_3 : cX0_drift.data.toList.drop 68 = dktX0_drift_3 := dk_seg dksX0_drift_2 22 rfl rfl
theorem dX0_drift_0 : decode cX0_drift 0 = .ok (.iload_n 1, 1) := dk_27 (dk_at dksX0_drift_0 0 rfl rfl)
theorem dX0_drift_1 : decode cX0_drift 1 = .ok (.i2l, 1) := dk_133 (dk_at dksX0_drift_0 1 rfl rfl)
theorem dX0_drift_2 : decode cX0_drift 2 = .ok (.lconst 1, 1) := dk_10 (dk_at dksX0_drift_0 2 rfl rfl)
theorem dX0_drift_3 : decode cX0_drift 3 = .ok (.ldc2_w 355, 3) := dk_20 1 99 (dk_at dksX0_drift_0 3 rfl rfl)
theorem dX0_drift_6 : decode cX0_drift 6 = .ok (.invokestatic 5, 3) := dk_184 0 5 (dk_at dksX0_drift_0 6 rfl rfl)
theorem dX0_drift_9 : decode cX0_drift 9 = .ok (.ifCond .ne 5, 3) := dk_154 0 5 (dk_at dksX0_drift_0 9 rfl rfl)
theorem dX0_drift_12 : decode cX0_drift 12 = .ok (.iconst (-1), 1) := dk_2 (dk_at dksX0_drift_0 12 rfl rfl)
theorem dX0_drift_13 : decode cX0_drift 13 = .ok (.ireturn, 1) := dk_172 (dk_at dksX0_drift_0 13 rfl rfl)
theorem dX0_drift_14 : decode cX0_drift 14 = .ok (.iconst 0, 1) := dk_3 (dk_at dksX0_drift_0 14 rfl rfl)
theorem dX0_drift_15 : decode cX0_drift 15 = .ok (.istore_n 2, 1) := dk_61 (dk_at dksX0_drift_0 15 rfl rfl)
theorem dX0_drift_16 : decode cX0_drift 16 = .ok (.iload_n 2, 1) := dk_28 (dk_at dksX0_drift_0 16 rfl rfl)
theorem dX0_drift_17 : decode cX0_drift 17 = .ok (.iload_n 1, 1) := dk_27 (dk_at dksX0_drift_0 17 rfl rfl)
theorem dX0_drift_18 : decode cX0_drift 18 = .ok (.if_icmp .ge 53, 3) := dk_162 0 53 (dk_at dksX0_drift_0 18 rfl rfl)
theorem dX0_drift_21 : decode cX0_drift 21 = .ok (.aload_n 0, 1) := dk_42 (dk_at dksX0_drift_0 21 rfl rfl)
theorem dX0_drift_22 : decode cX0_drift 22 = .ok (.invokevirtual 311, 3) := dk_182 1 55 (dk_at dksX0_drift_1 0 rfl rfl)
theorem dX0_drift_25 : decode cX0_drift 25 = .ok (.aload_n 0, 1) := dk_42 (dk_at dksX0_drift_1 3 rfl rfl)
theorem dX0_drift_26 : decode cX0_drift 26 = .ok (.invokevirtual 357, 3) := dk_182 1 101 (dk_at dksX0_drift_1 4 rfl rfl)
theorem dX0_drift_29 : decode cX0_drift 29 = .ok (.aload_n 0, 1) := dk_42 (dk_at dksX0_drift_1 7 rfl rfl)
theorem dX0_drift_30 : decode cX0_drift 30 = .ok (.getfield 18, 3) := dk_180 0 18 (dk_at dksX0_drift_1 8 rfl rfl)
theorem dX0_drift_33 : decode cX0_drift 33 = .ok (.getfield 346, 3) := dk_180 1 90 (dk_at dksX0_drift_1 11 rfl rfl)
theorem dX0_drift_36 : decode cX0_drift 36 = .ok (.ldc_w 360, 3) := dk_19 1 104 (dk_at dksX0_drift_1 14 rfl rfl)
theorem dX0_drift_39 : decode cX0_drift 39 = .ok (.idiv, 1) := dk_108 (dk_at dksX0_drift_1 17 rfl rfl)
theorem dX0_drift_40 : decode cX0_drift 40 = .ok (.istore_n 3, 1) := dk_62 (dk_at dksX0_drift_1 18 rfl rfl)
theorem dX0_drift_41 : decode cX0_drift 41 = .ok (.aload_n 0, 1) := dk_42 (dk_at dksX0_drift_1 19 rfl rfl)
theorem dX0_drift_42 : decode cX0_drift 42 = .ok (.invokevirtual 357, 3) := dk_182 1 101 (dk_at dksX0_drift_1 20 rfl rfl)
theorem dX0_drift_45 : decode cX0_drift 45 = .ok (.aload_n 0, 1) := dk_42 (dk_at dksX0_drift_1 23 rfl rfl)
theorem dX0_drift_46 : decode cX0_drift 46 = .ok (.iload_n 3, 1) := dk_29 (dk_at dksX0_drift_2 0 rfl rfl)
theorem dX0_drift_47 : decode cX0_drift 47 = .ok (.aload_n 0, 1) := dk_42 (dk_at dksX0_drift_2 1 rfl rfl)
theorem dX0_drift_48 : decode cX0_drift 48 = .ok (.getfield 18, 3) := dk_180 0 18 (dk_at dksX0_drift_2 2 rfl rfl)
theorem dX0_drift_51 : decode cX0_drift 51 = .ok (.getfield 346, 3) := dk_180 1 90 (dk_at dksX0_drift_2 5 rfl rfl)
theorem dX0_drift_54 : decode cX0_drift 54 = .ok (.sipush 2048, 3) := dk_17 8 0 (dk_at dksX0_drift_2 8 rfl rfl)
theorem dX0_drift_57 : decode cX0_drift 57 = .ok (.idiv, 1) := dk_108 (dk_at dksX0_drift_2 11 rfl rfl)
theorem dX0_drift_58 : decode cX0_drift 58 = .ok (.ldc_w 361, 3) := dk_19 1 105 (dk_at dksX0_drift_2 12 rfl rfl)
theorem dX0_drift_61 : decode cX0_drift 61 = .ok (.irem, 1) := dk_112 (dk_at dksX0_drift_2 15 rfl rfl)
theorem dX0_drift_62 : decode cX0_drift 62 = .ok (.invokevirtual 362, 3) := dk_182 1 106 (dk_at dksX0_drift_2 16 rfl rfl)
theorem dX0_drift_65 : decode cX0_drift 65 = .ok (.iinc 2 1, 3) := dk_132 2 1 (dk_at dksX0_drift_2 19 rfl rfl)
theorem dX0_drift_68 : decode cX0_drift 68 = .ok (.goto (-52), 3) := dk_167 255 204 (dk_at dksX0_drift_3 0 rfl rfl)
theorem dX0_drift_71 : decode cX0_drift 71 = .ok (.aload_n 0, 1) := dk_42 (dk_at dksX0_drift_3 3 rfl rfl)
theorem dX0_drift_72 : decode cX0_drift 72 = .ok (.getfield 18, 3) := dk_180 0 18 (dk_at dksX0_drift_3 4 rfl rfl)
theorem dX0_drift_75 : decode cX0_drift 75 = .ok (.invokevirtual 97, 3) := dk_182 0 97 (dk_at dksX0_drift_3 7 rfl rfl)
theorem dX0_drift_78 : decode cX0_drift 78 = .ok (.ireturn, 1) := dk_172 (dk_at dksX0_drift_3 10 rfl rfl)
abbrev cX0_goOn : ByteArray := prog_1_method_42_code
def yX0_goOn : MethodName := ⟨RX0, "goOn", "()V"⟩
def dkwX0_goOn_1 : List UInt8 := [136, 181, 1, 90, 177]
abbrev dktX0_goOn_1 : List UInt8 := dkwX0_goOn_1 ++ []
def dkwX0_goOn_0 : List UInt8 := [42, 180, 0, 18, 42, 180, 0, 18, 180, 1, 90, 133, 20, 1, 93, 105, 20, 1, 95, 97, 20, 1, 97, 127]
abbrev dktX0_goOn_0 : List UInt8 := dkwX0_goOn_0 ++ dktX0_goOn_1
theorem dksX0_goOn_0 : cX0_goOn.data.toList.drop 0 = dktX0_goOn_0 := by decide +kernel
theorem dksX0_goOn_1 : cX0_goOn.data.toList.drop 24 = dktX0_goOn_1 := dk_seg dksX0_goOn_0 24 rfl rfl
theorem dX0_goOn_0 : decode cX0_goOn 0 = .ok (.aload_n 0, 1) := dk_42 (dk_at dksX0_goOn_0 0 rfl rfl)
theorem dX0_goOn_1 : decode cX0_goOn 1 = .ok (.getfield 18, 3) := dk_180 0 18 (dk_at dksX0_goOn_0 1 rfl rfl)
theorem dX0_goOn_4 : decode cX0_goOn 4 = .ok (.aload_n 0, 1) := dk_42 (dk_at dksX0_goOn_0 4 rfl rfl)
theorem dX0_goOn_5 : decode cX0_goOn 5 = .ok (.getfield 18, 3) := dk_180 0 18 (dk_at dksX0_goOn_0 5 rfl rfl)
theorem dX0_goOn_8 : decode cX0_goOn 8 = .ok (.getfield 346, 3) := dk_180 1 90 (dk_at dksX0_goOn_0 8 rfl rfl)
theorem dX0_goOn_11 : decode cX0_goOn 11 = .ok (.i2l, 1) := dk_133 (dk_at dksX0_goOn_0 11 rfl rfl)
theorem dX0_goOn_12 : decode cX0_goOn 12 = .ok (.ldc2_w 349, 3) := dk_20 1 93 (dk_at dksX0_goOn_0 12 rfl rfl)
theorem dX0_goOn_15 : decode cX0_goOn 15 = .ok (.lmul, 1) := dk_105 (dk_at dksX0_goOn_0 15 rfl rfl)
theorem dX0_goOn_16 : decode cX0_goOn 16 = .ok (.ldc2_w 351, 3) := dk_20 1 95 (dk_at dksX0_goOn_0 16 rfl rfl)
theorem dX0_goOn_19 : decode cX0_goOn 19 = .ok (.ladd, 1) := dk_97 (dk_at dksX0_goOn_0 19 rfl rfl)
theorem dX0_goOn_20 : decode cX0_goOn 20 = .ok (.ldc2_w 353, 3) := dk_20 1 97 (dk_at dksX0_goOn_0 20 rfl rfl)
theorem dX0_goOn_23 : decode cX0_goOn 23 = .ok (.land, 1) := dk_127 (dk_at dksX0_goOn_0 23 rfl rfl)
theorem dX0_goOn_24 : decode cX0_goOn 24 = .ok (.l2i, 1) := dk_136 (dk_at dksX0_goOn_1 0 rfl rfl)
theorem dX0_goOn_25 : decode cX0_goOn 25 = .ok (.putfield 346, 3) := dk_181 1 90 (dk_at dksX0_goOn_1 1 rfl rfl)
theorem dX0_goOn_28 : decode cX0_goOn 28 = .ok (.return_, 1) := dk_177 (dk_at dksX0_goOn_1 4 rfl rfl)
abbrev cX0_happen : ByteArray := prog_1_method_43_code
def yX0_happen : MethodName := ⟨RX0, "happen", "(II)V"⟩
def dkwX0_happen_9 : List UInt8 := [158, 0, 23, 42, 180, 0, 18, 182, 0, 97, 16, 7, 162, 0, 11, 42, 180, 0, 18, 28, 182, 1, 58, 177]
abbrev dktX0_happen_9 : List UInt8 := dkwX0_happen_9 ++ []
def dkwX0_happen_8 : List UInt8 := [167, 0, 45, 42, 5, 27, 16, 8, 108, 42, 180, 0, 24, 190, 112, 182, 1, 79, 167, 0, 27, 28]
abbrev dktX0_happen_8 : List UInt8 := dkwX0_happen_8 ++ dktX0_happen_9
def dkwX0_happen_7 : List UInt8 := [21, 4, 182, 1, 80, 87, 167, 0, 61, 42, 3, 27, 16, 8, 108, 7, 112, 4, 96, 182, 1, 79]
abbrev dktX0_happen_7 : List UInt8 := dkwX0_happen_7 ++ dktX0_happen_8
def dkwX0_happen_6 : List UInt8 := [167, 0, 91, 42, 29, 133, 182, 0, 237, 153, 0, 82, 42, 21, 4, 133, 182, 0, 237, 153, 0, 72, 42, 29]
abbrev dktX0_happen_6 : List UInt8 := dkwX0_happen_6 ++ dktX0_happen_7
def dkwX0_happen_5 : List UInt8 := [182, 1, 64, 153, 0, 111, 42, 180, 0, 18, 180, 0, 172, 29, 92, 51, 4, 21, 4, 120, 130, 145, 84]
abbrev dktX0_happen_5 : List UInt8 := dkwX0_happen_5 ++ dktX0_happen_6
def dkwX0_happen_4 : List UInt8 := [180, 0, 18, 180, 0, 172, 29, 51, 21, 4, 184, 0, 108, 154, 0, 16, 42, 180, 0, 18, 29, 21, 4]
abbrev dktX0_happen_4 : List UInt8 := dkwX0_happen_4 ++ dktX0_happen_5
def dkwX0_happen_3 : List UInt8 := [167, 0, 160, 42, 29, 133, 182, 0, 237, 153, 0, 151, 42, 21, 4, 133, 182, 0, 237, 153, 0, 141, 42]
abbrev dktX0_happen_3 : List UInt8 := dkwX0_happen_3 ++ dktX0_happen_4
def dkwX0_happen_2 : List UInt8 := [42, 29, 133, 182, 0, 237, 153, 0, 177, 28, 158, 0, 173, 42, 180, 0, 18, 180, 0, 129, 29, 28, 79]
abbrev dktX0_happen_2 : List UInt8 := dkwX0_happen_2 ++ dktX0_happen_3
def dkwX0_happen_1 : List UInt8 := [170, 0, 0, 0, 0, 0, 198, 0, 0, 0, 2, 0, 0, 0, 7, 0, 0, 0, 39, 0, 0, 0, 65, 0, 0, 0, 134, 0, 0, 0, 134, 0, 0, 0, 164, 0, 0, 0, 180]
abbrev dktX0_happen_1 : List UInt8 := dkwX0_happen_1 ++ dktX0_happen_2
def dkwX0_happen_0 : List UInt8 := [27, 16, 8, 108, 16, 7, 112, 62, 27, 16, 64, 108, 16, 7, 112, 54, 4, 27, 16, 8, 112]
abbrev dktX0_happen_0 : List UInt8 := dkwX0_happen_0 ++ dktX0_happen_1
theorem dksX0_happen_0 : cX0_happen.data.toList.drop 0 = dktX0_happen_0 := by decide +kernel
theorem dksX0_happen_1 : cX0_happen.data.toList.drop 21 = dktX0_happen_1 := dk_seg dksX0_happen_0 21 rfl rfl
theorem dksX0_happen_2 : cX0_happen.data.toList.drop 60 = dktX0_happen_2 := dk_seg dksX0_happen_1 39 rfl rfl
theorem dksX0_happen_3 : cX0_happen.data.toList.drop 83 = dktX0_happen_3 := dk_seg dksX0_happen_2 23 rfl rfl
theorem dksX0_happen_4 : cX0_happen.data.toList.drop 106 = dktX0_happen_4 := dk_seg dksX0_happen_3 23 rfl rfl
theorem dksX0_happen_5 : cX0_happen.data.toList.drop 129 = dktX0_happen_5 := dk_seg dksX0_happen_4 23 rfl rfl
theorem dksX0_happen_6 : cX0_happen.data.toList.drop 152 = dktX0_happen_6 := dk_seg dksX0_happen_5 23 rfl rfl
theorem dksX0_happen_7 : cX0_happen.data.toList.drop 176 = dktX0_happen_7 := dk_seg dksX0_happen_6 24 rfl rfl
theorem dksX0_happen_8 : cX0_happen.data.toList.drop 198 = dktX0_happen_8 := dk_seg dksX0_happen_7 22 rfl rfl
theorem dksX0_happen_9 : cX0_happen.data.toList.drop 220 = dktX0_happen_9 := dk_seg dksX0_happen_8 22 rfl rfl
theorem dX0_happen_0 : decode cX0_happen 0 = .ok (.iload_n 1, 1) := dk_27 (dk_at dksX0_happen_0 0 rfl rfl)
theorem dX0_happen_1 : decode cX0_happen 1 = .ok (.bipush 8, 2) := dk_16 8 (dk_at dksX0_happen_0 1 rfl rfl)
theorem dX0_happen_3 : decode cX0_happen 3 = .ok (.idiv, 1) := dk_108 (dk_at dksX0_happen_0 3 rfl rfl)
theorem dX0_happen_4 : decode cX0_happen 4 = .ok (.bipush 7, 2) := dk_16 7 (dk_at dksX0_happen_0 4 rfl rfl)
theorem dX0_happen_6 : decode cX0_happen 6 = .ok (.irem, 1) := dk_112 (dk_at dksX0_happen_0 6 rfl rfl)
theorem dX0_happen_7 : decode cX0_happen 7 = .ok (.istore_n 3, 1) := dk_62 (dk_at dksX0_happen_0 7 rfl rfl)
theorem dX0_happen_8 : decode cX0_happen 8 = .ok (.iload_n 1, 1) := dk_27 (dk_at dksX0_happen_0 8 rfl rfl)
theorem dX0_happen_9 : decode cX0_happen 9 = .ok (.bipush 64, 2) := dk_16 64 (dk_at dksX0_happen_0 9 rfl rfl)
theorem dX0_happen_11 : decode cX0_happen 11 = .ok (.idiv, 1) := dk_108 (dk_at dksX0_happen_0 11 rfl rfl)
theorem dX0_happen_12 : decode cX0_happen 12 = .ok (.bipush 7, 2) := dk_16 7 (dk_at dksX0_happen_0 12 rfl rfl)
theorem dX0_happen_14 : decode cX0_happen 14 = .ok (.irem, 1) := dk_112 (dk_at dksX0_happen_0 14 rfl rfl)
theorem dX0_happen_15 : decode cX0_happen 15 = .ok (.istore 4, 2) := dk_54 4 (dk_at dksX0_happen_0 15 rfl rfl)
theorem dX0_happen_17 : decode cX0_happen 17 = .ok (.iload_n 1, 1) := dk_27 (dk_at dksX0_happen_0 17 rfl rfl)
theorem dX0_happen_18 : decode cX0_happen 18 = .ok (.bipush 8, 2) := dk_16 8 (dk_at dksX0_happen_0 18 rfl rfl)
theorem dX0_happen_20 : decode cX0_happen 20 = .ok (.irem, 1) := dk_112 (dk_at dksX0_happen_0 20 rfl rfl)
theorem dX0_happen_21 : decode cX0_happen 21 = .ok (.tableswitch 198 2 7 #[39, 65, 134, 134, 164, 180], 39) := by decide +kernel
theorem dX0_happen_60 : decode cX0_happen 60 = .ok (.aload_n 0, 1) := dk_42 (dk_at dksX0_happen_2 0 rfl rfl)
theorem dX0_happen_61 : decode cX0_happen 61 = .ok (.iload_n 3, 1) := dk_29 (dk_at dksX0_happen_2 1 rfl rfl)
theorem dX0_happen_62 : decode cX0_happen 62 = .ok (.i2l, 1) := dk_133 (dk_at dksX0_happen_2 2 rfl rfl)
theorem dX0_happen_63 : decode cX0_happen 63 = .ok (.invokevirtual 237, 3) := dk_182 0 237 (dk_at dksX0_happen_2 3 rfl rfl)
theorem dX0_happen_66 : decode cX0_happen 66 = .ok (.ifCond .eq 177, 3) := dk_153 0 177 (dk_at dksX0_happen_2 6 rfl rfl)
theorem dX0_happen_69 : decode cX0_happen 69 = .ok (.iload_n 2, 1) := dk_28 (dk_at dksX0_happen_2 9 rfl rfl)
theorem dX0_happen_70 : decode cX0_happen 70 = .ok (.ifCond .le 173, 3) := dk_158 0 173 (dk_at dksX0_happen_2 10 rfl rfl)
theorem dX0_happen_73 : decode cX0_happen 73 = .ok (.aload_n 0, 1) := dk_42 (dk_at dksX0_happen_2 13 rfl rfl)
theorem dX0_happen_74 : decode cX0_happen 74 = .ok (.getfield 18, 3) := dk_180 0 18 (dk_at dksX0_happen_2 14 rfl rfl)
theorem dX0_happen_77 : decode cX0_happen 77 = .ok (.getfield 129, 3) := dk_180 0 129 (dk_at dksX0_happen_2 17 rfl rfl)
theorem dX0_happen_80 : decode cX0_happen 80 = .ok (.iload_n 3, 1) := dk_29 (dk_at dksX0_happen_2 20 rfl rfl)
theorem dX0_happen_81 : decode cX0_happen 81 = .ok (.iload_n 2, 1) := dk_28 (dk_at dksX0_happen_2 21 rfl rfl)
theorem dX0_happen_82 : decode cX0_happen 82 = .ok (.iastore, 1) := dk_79 (dk_at dksX0_happen_2 22 rfl rfl)
theorem dX0_happen_83 : decode cX0_happen 83 = .ok (.goto 160, 3) := dk_167 0 160 (dk_at dksX0_happen_3 0 rfl rfl)
theorem dX0_happen_86 : decode cX0_happen 86 = .ok (.aload_n 0, 1) := dk_42 (dk_at dksX0_happen_3 3 rfl rfl)
theorem dX0_happen_87 : decode cX0_happen 87 = .ok (.iload_n 3, 1) := dk_29 (dk_at dksX0_happen_3 4 rfl rfl)
theorem dX0_happen_88 : decode cX0_happen 88 = .ok (.i2l, 1) := dk_133 (dk_at dksX0_happen_3 5 rfl rfl)
theorem dX0_happen_89 : decode cX0_happen 89 = .ok (.invokevirtual 237, 3) := dk_182 0 237 (dk_at dksX0_happen_3 6 rfl rfl)
theorem dX0_happen_92 : decode cX0_happen 92 = .ok (.ifCond .eq 151, 3) := dk_153 0 151 (dk_at dksX0_happen_3 9 rfl rfl)
theorem dX0_happen_95 : decode cX0_happen 95 = .ok (.aload_n 0, 1) := dk_42 (dk_at dksX0_happen_3 12 rfl rfl)
theorem dX0_happen_96 : decode cX0_happen 96 = .ok (.iload 4, 2) := dk_21 4 (dk_at dksX0_happen_3 13 rfl rfl)
theorem dX0_happen_98 : decode cX0_happen 98 = .ok (.i2l, 1) := dk_133 (dk_at dksX0_happen_3 15 rfl rfl)
theorem dX0_happen_99 : decode cX0_happen 99 = .ok (.invokevirtual 237, 3) := dk_182 0 237 (dk_at dksX0_happen_3 16 rfl rfl)
theorem dX0_happen_102 : decode cX0_happen 102 = .ok (.ifCond .eq 141, 3) := dk_153 0 141 (dk_at dksX0_happen_3 19 rfl rfl)
theorem dX0_happen_105 : decode cX0_happen 105 = .ok (.aload_n 0, 1) := dk_42 (dk_at dksX0_happen_3 22 rfl rfl)
theorem dX0_happen_106 : decode cX0_happen 106 = .ok (.getfield 18, 3) := dk_180 0 18 (dk_at dksX0_happen_4 0 rfl rfl)
theorem dX0_happen_109 : decode cX0_happen 109 = .ok (.getfield 172, 3) := dk_180 0 172 (dk_at dksX0_happen_4 3 rfl rfl)
theorem dX0_happen_112 : decode cX0_happen 112 = .ok (.iload_n 3, 1) := dk_29 (dk_at dksX0_happen_4 6 rfl rfl)
theorem dX0_happen_113 : decode cX0_happen 113 = .ok (.baload, 1) := dk_51 (dk_at dksX0_happen_4 7 rfl rfl)
theorem dX0_happen_114 : decode cX0_happen 114 = .ok (.iload 4, 2) := dk_21 4 (dk_at dksX0_happen_4 8 rfl rfl)
theorem dX0_happen_116 : decode cX0_happen 116 = .ok (.invokestatic 108, 3) := dk_184 0 108 (dk_at dksX0_happen_4 10 rfl rfl)
theorem dX0_happen_119 : decode cX0_happen 119 = .ok (.ifCond .ne 16, 3) := dk_154 0 16 (dk_at dksX0_happen_4 13 rfl rfl)
theorem dX0_happen_122 : decode cX0_happen 122 = .ok (.aload_n 0, 1) := dk_42 (dk_at dksX0_happen_4 16 rfl rfl)
theorem dX0_happen_123 : decode cX0_happen 123 = .ok (.getfield 18, 3) := dk_180 0 18 (dk_at dksX0_happen_4 17 rfl rfl)
theorem dX0_happen_126 : decode cX0_happen 126 = .ok (.iload_n 3, 1) := dk_29 (dk_at dksX0_happen_4 20 rfl rfl)
theorem dX0_happen_127 : decode cX0_happen 127 = .ok (.iload 4, 2) := dk_21 4 (dk_at dksX0_happen_4 21 rfl rfl)
theorem dX0_happen_129 : decode cX0_happen 129 = .ok (.invokevirtual 320, 3) := dk_182 1 64 (dk_at dksX0_happen_5 0 rfl rfl)
theorem dX0_happen_132 : decode cX0_happen 132 = .ok (.ifCond .eq 111, 3) := dk_153 0 111 (dk_at dksX0_happen_5 3 rfl rfl)
theorem dX0_happen_135 : decode cX0_happen 135 = .ok (.aload_n 0, 1) := dk_42 (dk_at dksX0_happen_5 6 rfl rfl)
theorem dX0_happen_136 : decode cX0_happen 136 = .ok (.getfield 18, 3) := dk_180 0 18 (dk_at dksX0_happen_5 7 rfl rfl)
theorem dX0_happen_139 : decode cX0_happen 139 = .ok (.getfield 172, 3) := dk_180 0 172 (dk_at dksX0_happen_5 10 rfl rfl)
theorem dX0_happen_142 : decode cX0_happen 142 = .ok (.iload_n 3, 1) := dk_29 (dk_at dksX0_happen_5 13 rfl rfl)
theorem dX0_happen_143 : decode cX0_happen 143 = .ok (.dup2, 1) := dk_92 (dk_at dksX0_happen_5 14 rfl rfl)
theorem dX0_happen_144 : decode cX0_happen 144 = .ok (.baload, 1) := dk_51 (dk_at dksX0_happen_5 15 rfl rfl)
theorem dX0_happen_145 : decode cX0_happen 145 = .ok (.iconst 1, 1) := dk_4 (dk_at dksX0_happen_5 16 rfl rfl)
theorem dX0_happen_146 : decode cX0_happen 146 = .ok (.iload 4, 2) := dk_21 4 (dk_at dksX0_happen_5 17 rfl rfl)
theorem dX0_happen_148 : decode cX0_happen 148 = .ok (.ishl, 1) := dk_120 (dk_at dksX0_happen_5 19 rfl rfl)
theorem dX0_happen_149 : decode cX0_happen 149 = .ok (.ixor, 1) := dk_130 (dk_at dksX0_happen_5 20 rfl rfl)
theorem dX0_happen_150 : decode cX0_happen 150 = .ok (.i2b, 1) := dk_145 (dk_at dksX0_happen_5 21 rfl rfl)
theorem dX0_happen_151 : decode cX0_happen 151 = .ok (.bastore, 1) := dk_84 (dk_at dksX0_happen_5 22 rfl rfl)
theorem dX0_happen_152 : decode cX0_happen 152 = .ok (.goto 91, 3) := dk_167 0 91 (dk_at dksX0_happen_6 0 rfl rfl)
theorem dX0_happen_155 : decode cX0_happen 155 = .ok (.aload_n 0, 1) := dk_42 (dk_at dksX0_happen_6 3 rfl rfl)
theorem dX0_happen_156 : decode cX0_happen 156 = .ok (.iload_n 3, 1) := dk_29 (dk_at dksX0_happen_6 4 rfl rfl)
theorem dX0_happen_157 : decode cX0_happen 157 = .ok (.i2l, 1) := dk_133 (dk_at dksX0_happen_6 5 rfl rfl)
theorem dX0_happen_158 : decode cX0_happen 158 = .ok (.invokevirtual 237, 3) := dk_182 0 237 (dk_at dksX0_happen_6 6 rfl rfl)
theorem dX0_happen_161 : decode cX0_happen 161 = .ok (.ifCond .eq 82, 3) := dk_153 0 82 (dk_at dksX0_happen_6 9 rfl rfl)
theorem dX0_happen_164 : decode cX0_happen 164 = .ok (.aload_n 0, 1) := dk_42 (dk_at dksX0_happen_6 12 rfl rfl)
theorem dX0_happen_165 : decode cX0_happen 165 = .ok (.iload 4, 2) := dk_21 4 (dk_at dksX0_happen_6 13 rfl rfl)
theorem dX0_happen_167 : decode cX0_happen 167 = .ok (.i2l, 1) := dk_133 (dk_at dksX0_happen_6 15 rfl rfl)
theorem dX0_happen_168 : decode cX0_happen 168 = .ok (.invokevirtual 237, 3) := dk_182 0 237 (dk_at dksX0_happen_6 16 rfl rfl)
theorem dX0_happen_171 : decode cX0_happen 171 = .ok (.ifCond .eq 72, 3) := dk_153 0 72 (dk_at dksX0_happen_6 19 rfl rfl)
theorem dX0_happen_174 : decode cX0_happen 174 = .ok (.aload_n 0, 1) := dk_42 (dk_at dksX0_happen_6 22 rfl rfl)
theorem dX0_happen_175 : decode cX0_happen 175 = .ok (.iload_n 3, 1) := dk_29 (dk_at dksX0_happen_6 23 rfl rfl)
theorem dX0_happen_176 : decode cX0_happen 176 = .ok (.iload 4, 2) := dk_21 4 (dk_at dksX0_happen_7 0 rfl rfl)
theorem dX0_happen_178 : decode cX0_happen 178 = .ok (.invokevirtual 336, 3) := dk_182 1 80 (dk_at dksX0_happen_7 2 rfl rfl)
theorem dX0_happen_181 : decode cX0_happen 181 = .ok (.pop, 1) := dk_87 (dk_at dksX0_happen_7 5 rfl rfl)
theorem dX0_happen_182 : decode cX0_happen 182 = .ok (.goto 61, 3) := dk_167 0 61 (dk_at dksX0_happen_7 6 rfl rfl)
theorem dX0_happen_185 : decode cX0_happen 185 = .ok (.aload_n 0, 1) := dk_42 (dk_at dksX0_happen_7 9 rfl rfl)
theorem dX0_happen_186 : decode cX0_happen 186 = .ok (.iconst 0, 1) := dk_3 (dk_at dksX0_happen_7 10 rfl rfl)
theorem dX0_happen_187 : decode cX0_happen 187 = .ok (.iload_n 1, 1) := dk_27 (dk_at dksX0_happen_7 11 rfl rfl)
theorem dX0_happen_188 : decode cX0_happen 188 = .ok (.bipush 8, 2) := dk_16 8 (dk_at dksX0_happen_7 12 rfl rfl)
theorem dX0_happen_190 : decode cX0_happen 190 = .ok (.idiv, 1) := dk_108 (dk_at dksX0_happen_7 14 rfl rfl)
theorem dX0_happen_191 : decode cX0_happen 191 = .ok (.iconst 4, 1) := dk_7 (dk_at dksX0_happen_7 15 rfl rfl)
theorem dX0_happen_192 : decode cX0_happen 192 = .ok (.irem, 1) := dk_112 (dk_at dksX0_happen_7 16 rfl rfl)
theorem dX0_happen_193 : decode cX0_happen 193 = .ok (.iconst 1, 1) := dk_4 (dk_at dksX0_happen_7 17 rfl rfl)
theorem dX0_happen_194 : decode cX0_happen 194 = .ok (.iadd, 1) := dk_96 (dk_at dksX0_happen_7 18 rfl rfl)
theorem dX0_happen_195 : decode cX0_happen 195 = .ok (.invokevirtual 335, 3) := dk_182 1 79 (dk_at dksX0_happen_7 19 rfl rfl)
theorem dX0_happen_198 : decode cX0_happen 198 = .ok (.goto 45, 3) := dk_167 0 45 (dk_at dksX0_happen_8 0 rfl rfl)
theorem dX0_happen_201 : decode cX0_happen 201 = .ok (.aload_n 0, 1) := dk_42 (dk_at dksX0_happen_8 3 rfl rfl)
theorem dX0_happen_202 : decode cX0_happen 202 = .ok (.iconst 2, 1) := dk_5 (dk_at dksX0_happen_8 4 rfl rfl)
theorem dX0_happen_203 : decode cX0_happen 203 = .ok (.iload_n 1, 1) := dk_27 (dk_at dksX0_happen_8 5 rfl rfl)
theorem dX0_happen_204 : decode cX0_happen 204 = .ok (.bipush 8, 2) := dk_16 8 (dk_at dksX0_happen_8 6 rfl rfl)
theorem dX0_happen_206 : decode cX0_happen 206 = .ok (.idiv, 1) := dk_108 (dk_at dksX0_happen_8 8 rfl rfl)
theorem dX0_happen_207 : decode cX0_happen 207 = .ok (.aload_n 0, 1) := dk_42 (dk_at dksX0_happen_8 9 rfl rfl)
theorem dX0_happen_208 : decode cX0_happen 208 = .ok (.getfield 24, 3) := dk_180 0 24 (dk_at dksX0_happen_8 10 rfl rfl)
theorem dX0_happen_211 : decode cX0_happen 211 = .ok (.arraylength, 1) := dk_190 (dk_at dksX0_happen_8 13 rfl rfl)
theorem dX0_happen_212 : decode cX0_happen 212 = .ok (.irem, 1) := dk_112 (dk_at dksX0_happen_8 14 rfl rfl)
theorem dX0_happen_213 : decode cX0_happen 213 = .ok (.invokevirtual 335, 3) := dk_182 1 79 (dk_at dksX0_happen_8 15 rfl rfl)
theorem dX0_happen_216 : decode cX0_happen 216 = .ok (.goto 27, 3) := dk_167 0 27 (dk_at dksX0_happen_8 18 rfl rfl)
theorem dX0_happen_219 : decode cX0_happen 219 = .ok (.iload_n 2, 1) := dk_28 (dk_at dksX0_happen_8 21 rfl rfl)
theorem dX0_happen_220 : decode cX0_happen 220 = .ok (.ifCond .le 23, 3) := dk_158 0 23 (dk_at dksX0_happen_9 0 rfl rfl)
theorem dX0_happen_223 : decode cX0_happen 223 = .ok (.aload_n 0, 1) := dk_42 (dk_at dksX0_happen_9 3 rfl rfl)
theorem dX0_happen_224 : decode cX0_happen 224 = .ok (.getfield 18, 3) := dk_180 0 18 (dk_at dksX0_happen_9 4 rfl rfl)
theorem dX0_happen_227 : decode cX0_happen 227 = .ok (.invokevirtual 97, 3) := dk_182 0 97 (dk_at dksX0_happen_9 7 rfl rfl)
theorem dX0_happen_230 : decode cX0_happen 230 = .ok (.bipush 7, 2) := dk_16 7 (dk_at dksX0_happen_9 10 rfl rfl)
theorem dX0_happen_232 : decode cX0_happen 232 = .ok (.if_icmp .ge 11, 3) := dk_162 0 11 (dk_at dksX0_happen_9 12 rfl rfl)
theorem dX0_happen_235 : decode cX0_happen 235 = .ok (.aload_n 0, 1) := dk_42 (dk_at dksX0_happen_9 15 rfl rfl)
theorem dX0_happen_236 : decode cX0_happen 236 = .ok (.getfield 18, 3) := dk_180 0 18 (dk_at dksX0_happen_9 16 rfl rfl)
theorem dX0_happen_239 : decode cX0_happen 239 = .ok (.iload_n 2, 1) := dk_28 (dk_at dksX0_happen_9 19 rfl rfl)
theorem dX0_happen_240 : decode cX0_happen 240 = .ok (.invokevirtual 314, 3) := dk_182 1 58 (dk_at dksX0_happen_9 20 rfl rfl)
theorem dX0_happen_243 : decode cX0_happen 243 = .ok (.return_, 1) := dk_177 (dk_at dksX0_happen_9 23 rfl rfl)
abbrev cX0_undo : ByteArray := prog_1_method_45_code
def yX0_undo : MethodName := ⟨RX0, "undo", "()I"⟩
def dkwX0_undo_1 : List UInt8 := [42, 180, 0, 58, 42, 180, 1, 2, 50, 182, 1, 48, 42, 180, 1, 2, 172]
abbrev dktX0_undo_1 : List UInt8 := dkwX0_undo_1 ++ []
def dkwX0_undo_0 : List UInt8 := [42, 180, 1, 2, 154, 0, 6, 16, 252, 172, 42, 89, 180, 1, 2, 4, 100, 181, 1, 2, 42, 180, 0, 18]
abbrev dktX0_undo_0 : List UInt8 := dkwX0_undo_0 ++ dktX0_undo_1
theorem dksX0_undo_0 : cX0_undo.data.toList.drop 0 = dktX0_undo_0 := by decide +kernel
theorem dksX0_undo_1 : cX0_undo.data.toList.drop 24 = dktX0_undo_1 := dk_seg dksX0_undo_0 24 rfl rfl
theorem dX0_undo_0 : decode cX0_undo 0 = .ok (.aload_n 0, 1) := dk_42 (dk_at dksX0_undo_0 0 rfl rfl)
theorem dX0_undo_1 : decode cX0_undo 1 = .ok (.getfield 258, 3) := dk_180 1 2 (dk_at dksX0_undo_0 1 rfl rfl)
theorem dX0_undo_4 : decode cX0_undo 4 = .ok (.ifCond .ne 6, 3) := dk_154 0 6 (dk_at dksX0_undo_0 4 rfl rfl)
theorem dX0_undo_7 : decode cX0_undo 7 = .ok (.bipush (-4), 2) := dk_16 252 (dk_at dksX0_undo_0 7 rfl rfl)
theorem dX0_undo_9 : decode cX0_undo 9 = .ok (.ireturn, 1) := dk_172 (dk_at dksX0_undo_0 9 rfl rfl)
theorem dX0_undo_10 : decode cX0_undo 10 = .ok (.aload_n 0, 1) := dk_42 (dk_at dksX0_undo_0 10 rfl rfl)
theorem dX0_undo_11 : decode cX0_undo 11 = .ok (.dup, 1) := dk_89 (dk_at dksX0_undo_0 11 rfl rfl)
theorem dX0_undo_12 : decode cX0_undo 12 = .ok (.getfield 258, 3) := dk_180 1 2 (dk_at dksX0_undo_0 12 rfl rfl)
theorem dX0_undo_15 : decode cX0_undo 15 = .ok (.iconst 1, 1) := dk_4 (dk_at dksX0_undo_0 15 rfl rfl)
theorem dX0_undo_16 : decode cX0_undo 16 = .ok (.isub, 1) := dk_100 (dk_at dksX0_undo_0 16 rfl rfl)
theorem dX0_undo_17 : decode cX0_undo 17 = .ok (.putfield 258, 3) := dk_181 1 2 (dk_at dksX0_undo_0 17 rfl rfl)
theorem dX0_undo_20 : decode cX0_undo 20 = .ok (.aload_n 0, 1) := dk_42 (dk_at dksX0_undo_0 20 rfl rfl)
theorem dX0_undo_21 : decode cX0_undo 21 = .ok (.getfield 18, 3) := dk_180 0 18 (dk_at dksX0_undo_0 21 rfl rfl)
theorem dX0_undo_24 : decode cX0_undo 24 = .ok (.aload_n 0, 1) := dk_42 (dk_at dksX0_undo_1 0 rfl rfl)
theorem dX0_undo_25 : decode cX0_undo 25 = .ok (.getfield 58, 3) := dk_180 0 58 (dk_at dksX0_undo_1 1 rfl rfl)
theorem dX0_undo_28 : decode cX0_undo 28 = .ok (.aload_n 0, 1) := dk_42 (dk_at dksX0_undo_1 4 rfl rfl)
theorem dX0_undo_29 : decode cX0_undo 29 = .ok (.getfield 258, 3) := dk_180 1 2 (dk_at dksX0_undo_1 5 rfl rfl)
theorem dX0_undo_32 : decode cX0_undo 32 = .ok (.aaload, 1) := dk_50 (dk_at dksX0_undo_1 8 rfl rfl)
theorem dX0_undo_33 : decode cX0_undo 33 = .ok (.invokevirtual 304, 3) := dk_182 1 48 (dk_at dksX0_undo_1 9 rfl rfl)
theorem dX0_undo_36 : decode cX0_undo 36 = .ok (.aload_n 0, 1) := dk_42 (dk_at dksX0_undo_1 12 rfl rfl)
theorem dX0_undo_37 : decode cX0_undo 37 = .ok (.getfield 258, 3) := dk_180 1 2 (dk_at dksX0_undo_1 13 rfl rfl)
theorem dX0_undo_40 : decode cX0_undo 40 = .ok (.ireturn, 1) := dk_172 (dk_at dksX0_undo_1 16 rfl rfl)
abbrev cX0_seed : ByteArray := prog_1_method_46_code
def yX0_seed : MethodName := ⟨RX0, "seed", "(I)I"⟩
def dkwX0_seed_0 : List UInt8 := [27, 156, 0, 5, 2, 172, 42, 180, 0, 18, 180, 1, 90, 61, 42, 180, 0, 18, 27, 181, 1, 90, 28, 172]
abbrev dktX0_seed_0 : List UInt8 := dkwX0_seed_0 ++ []
theorem dksX0_seed_0 : cX0_seed.data.toList.drop 0 = dktX0_seed_0 := by decide +kernel
theorem dX0_seed_0 : decode cX0_seed 0 = .ok (.iload_n 1, 1) := dk_27 (dk_at dksX0_seed_0 0 rfl rfl)
theorem dX0_seed_1 : decode cX0_seed 1 = .ok (.ifCond .ge 5, 3) := dk_156 0 5 (dk_at dksX0_seed_0 1 rfl rfl)
theorem dX0_seed_4 : decode cX0_seed 4 = .ok (.iconst (-1), 1) := dk_2 (dk_at dksX0_seed_0 4 rfl rfl)
theorem dX0_seed_5 : decode cX0_seed 5 = .ok (.ireturn, 1) := dk_172 (dk_at dksX0_seed_0 5 rfl rfl)
theorem dX0_seed_6 : decode cX0_seed 6 = .ok (.aload_n 0, 1) := dk_42 (dk_at dksX0_seed_0 6 rfl rfl)
theorem dX0_seed_7 : decode cX0_seed 7 = .ok (.getfield 18, 3) := dk_180 0 18 (dk_at dksX0_seed_0 7 rfl rfl)
theorem dX0_seed_10 : decode cX0_seed 10 = .ok (.getfield 346, 3) := dk_180 1 90 (dk_at dksX0_seed_0 10 rfl rfl)
theorem dX0_seed_13 : decode cX0_seed 13 = .ok (.istore_n 2, 1) := dk_61 (dk_at dksX0_seed_0 13 rfl rfl)
theorem dX0_seed_14 : decode cX0_seed 14 = .ok (.aload_n 0, 1) := dk_42 (dk_at dksX0_seed_0 14 rfl rfl)
theorem dX0_seed_15 : decode cX0_seed 15 = .ok (.getfield 18, 3) := dk_180 0 18 (dk_at dksX0_seed_0 15 rfl rfl)
theorem dX0_seed_18 : decode cX0_seed 18 = .ok (.iload_n 1, 1) := dk_27 (dk_at dksX0_seed_0 18 rfl rfl)
theorem dX0_seed_19 : decode cX0_seed 19 = .ok (.putfield 346, 3) := dk_181 1 90 (dk_at dksX0_seed_0 19 rfl rfl)
theorem dX0_seed_22 : decode cX0_seed 22 = .ok (.iload_n 2, 1) := dk_28 (dk_at dksX0_seed_0 22 rfl rfl)
theorem dX0_seed_23 : decode cX0_seed 23 = .ok (.ireturn, 1) := dk_172 (dk_at dksX0_seed_0 23 rfl rfl)
abbrev cX0_type : ByteArray := prog_1_method_47_code
def yX0_type : MethodName := ⟨RX0, "type", "(I)I"⟩
def dkwX0_type_2 : List UInt8 := [85, 42, 180, 0, 72, 89, 180, 1, 113, 4, 96, 181, 1, 113, 42, 180, 0, 72, 180, 1, 113, 172]
abbrev dktX0_type_2 : List UInt8 := dkwX0_type_2 ++ []
def dkwX0_type_1 : List UInt8 := [16, 90, 160, 0, 6, 16, 253, 172, 42, 180, 0, 72, 180, 1, 114, 42, 180, 0, 72, 180, 1, 113, 27, 146]
abbrev dktX0_type_1 : List UInt8 := dkwX0_type_1 ++ dktX0_type_2
def dkwX0_type_0 : List UInt8 := [27, 133, 20, 1, 109, 20, 1, 111, 184, 0, 5, 154, 0, 5, 2, 172, 42, 180, 0, 72, 180, 1, 113]
abbrev dktX0_type_0 : List UInt8 := dkwX0_type_0 ++ dktX0_type_1
theorem dksX0_type_0 : cX0_type.data.toList.drop 0 = dktX0_type_0 := by decide +kernel
theorem dksX0_type_1 : cX0_type.data.toList.drop 23 = dktX0_type_1 := dk_seg dksX0_type_0 23 rfl rfl
theorem dksX0_type_2 : cX0_type.data.toList.drop 47 = dktX0_type_2 := dk_seg dksX0_type_1 24 rfl rfl
theorem dX0_type_0 : decode cX0_type 0 = .ok (.iload_n 1, 1) := dk_27 (dk_at dksX0_type_0 0 rfl rfl)
theorem dX0_type_1 : decode cX0_type 1 = .ok (.i2l, 1) := dk_133 (dk_at dksX0_type_0 1 rfl rfl)
theorem dX0_type_2 : decode cX0_type 2 = .ok (.ldc2_w 365, 3) := dk_20 1 109 (dk_at dksX0_type_0 2 rfl rfl)
theorem dX0_type_5 : decode cX0_type 5 = .ok (.ldc2_w 367, 3) := dk_20 1 111 (dk_at dksX0_type_0 5 rfl rfl)
theorem dX0_type_8 : decode cX0_type 8 = .ok (.invokestatic 5, 3) := dk_184 0 5 (dk_at dksX0_type_0 8 rfl rfl)
theorem dX0_type_11 : decode cX0_type 11 = .ok (.ifCond .ne 5, 3) := dk_154 0 5 (dk_at dksX0_type_0 11 rfl rfl)
theorem dX0_type_14 : decode cX0_type 14 = .ok (.iconst (-1), 1) := dk_2 (dk_at dksX0_type_0 14 rfl rfl)
theorem dX0_type_15 : decode cX0_type 15 = .ok (.ireturn, 1) := dk_172 (dk_at dksX0_type_0 15 rfl rfl)
theorem dX0_type_16 : decode cX0_type 16 = .ok (.aload_n 0, 1) := dk_42 (dk_at dksX0_type_0 16 rfl rfl)
theorem dX0_type_17 : decode cX0_type 17 = .ok (.getfield 72, 3) := dk_180 0 72 (dk_at dksX0_type_0 17 rfl rfl)
theorem dX0_type_20 : decode cX0_type 20 = .ok (.getfield 369, 3) := dk_180 1 113 (dk_at dksX0_type_0 20 rfl rfl)
theorem dX0_type_23 : decode cX0_type 23 = .ok (.bipush 90, 2) := dk_16 90 (dk_at dksX0_type_1 0 rfl rfl)
theorem dX0_type_25 : decode cX0_type 25 = .ok (.if_icmp .ne 6, 3) := dk_160 0 6 (dk_at dksX0_type_1 2 rfl rfl)
theorem dX0_type_28 : decode cX0_type 28 = .ok (.bipush (-3), 2) := dk_16 253 (dk_at dksX0_type_1 5 rfl rfl)
theorem dX0_type_30 : decode cX0_type 30 = .ok (.ireturn, 1) := dk_172 (dk_at dksX0_type_1 7 rfl rfl)
theorem dX0_type_31 : decode cX0_type 31 = .ok (.aload_n 0, 1) := dk_42 (dk_at dksX0_type_1 8 rfl rfl)
theorem dX0_type_32 : decode cX0_type 32 = .ok (.getfield 72, 3) := dk_180 0 72 (dk_at dksX0_type_1 9 rfl rfl)
theorem dX0_type_35 : decode cX0_type 35 = .ok (.getfield 370, 3) := dk_180 1 114 (dk_at dksX0_type_1 12 rfl rfl)
theorem dX0_type_38 : decode cX0_type 38 = .ok (.aload_n 0, 1) := dk_42 (dk_at dksX0_type_1 15 rfl rfl)
theorem dX0_type_39 : decode cX0_type 39 = .ok (.getfield 72, 3) := dk_180 0 72 (dk_at dksX0_type_1 16 rfl rfl)
theorem dX0_type_42 : decode cX0_type 42 = .ok (.getfield 369, 3) := dk_180 1 113 (dk_at dksX0_type_1 19 rfl rfl)
theorem dX0_type_45 : decode cX0_type 45 = .ok (.iload_n 1, 1) := dk_27 (dk_at dksX0_type_1 22 rfl rfl)
theorem dX0_type_46 : decode cX0_type 46 = .ok (.i2c, 1) := dk_146 (dk_at dksX0_type_1 23 rfl rfl)
theorem dX0_type_47 : decode cX0_type 47 = .ok (.castore, 1) := dk_85 (dk_at dksX0_type_2 0 rfl rfl)
theorem dX0_type_48 : decode cX0_type 48 = .ok (.aload_n 0, 1) := dk_42 (dk_at dksX0_type_2 1 rfl rfl)
theorem dX0_type_49 : decode cX0_type 49 = .ok (.getfield 72, 3) := dk_180 0 72 (dk_at dksX0_type_2 2 rfl rfl)
theorem dX0_type_52 : decode cX0_type 52 = .ok (.dup, 1) := dk_89 (dk_at dksX0_type_2 5 rfl rfl)
theorem dX0_type_53 : decode cX0_type 53 = .ok (.getfield 369, 3) := dk_180 1 113 (dk_at dksX0_type_2 6 rfl rfl)
theorem dX0_type_56 : decode cX0_type 56 = .ok (.iconst 1, 1) := dk_4 (dk_at dksX0_type_2 9 rfl rfl)
theorem dX0_type_57 : decode cX0_type 57 = .ok (.iadd, 1) := dk_96 (dk_at dksX0_type_2 10 rfl rfl)
theorem dX0_type_58 : decode cX0_type 58 = .ok (.putfield 369, 3) := dk_181 1 113 (dk_at dksX0_type_2 11 rfl rfl)
theorem dX0_type_61 : decode cX0_type 61 = .ok (.aload_n 0, 1) := dk_42 (dk_at dksX0_type_2 14 rfl rfl)
theorem dX0_type_62 : decode cX0_type 62 = .ok (.getfield 72, 3) := dk_180 0 72 (dk_at dksX0_type_2 15 rfl rfl)
theorem dX0_type_65 : decode cX0_type 65 = .ok (.getfield 369, 3) := dk_180 1 113 (dk_at dksX0_type_2 18 rfl rfl)
theorem dX0_type_68 : decode cX0_type 68 = .ok (.ireturn, 1) := dk_172 (dk_at dksX0_type_2 21 rfl rfl)
abbrev cX0_read : ByteArray := prog_1_method_57_code
def yX0_read : MethodName := ⟨RX0, "read", "()I"⟩
def dkwX0_read_2 : List UInt8 := [180, 0, 18, 182, 0, 97, 172]
abbrev dktX0_read_2 : List UInt8 := dkwX0_read_2 ++ []
def dkwX0_read_1 : List UInt8 := [42, 180, 0, 72, 3, 181, 1, 113, 42, 182, 1, 55, 42, 180, 0, 18, 42, 180, 0, 76, 182, 1, 48, 42]
abbrev dktX0_read_1 : List UInt8 := dkwX0_read_1 ++ dktX0_read_2
def dkwX0_read_0 : List UInt8 := [42, 182, 1, 173, 167, 0, 20, 76, 42, 180, 0, 72, 3, 181, 1, 113, 16, 236, 43, 180, 1, 126, 100, 172]
abbrev dktX0_read_0 : List UInt8 := dkwX0_read_0 ++ dktX0_read_1
theorem dksX0_read_0 : cX0_read.data.toList.drop 0 = dktX0_read_0 := by decide +kernel
theorem dksX0_read_1 : cX0_read.data.toList.drop 24 = dktX0_read_1 := dk_seg dksX0_read_0 24 rfl rfl
theorem dksX0_read_2 : cX0_read.data.toList.drop 48 = dktX0_read_2 := dk_seg dksX0_read_1 24 rfl rfl
theorem dX0_read_0 : decode cX0_read 0 = .ok (.aload_n 0, 1) := dk_42 (dk_at dksX0_read_0 0 rfl rfl)
theorem dX0_read_1 : decode cX0_read 1 = .ok (.invokevirtual 429, 3) := dk_182 1 173 (dk_at dksX0_read_0 1 rfl rfl)
theorem dX0_read_4 : decode cX0_read 4 = .ok (.goto 20, 3) := dk_167 0 20 (dk_at dksX0_read_0 4 rfl rfl)
theorem dX0_read_7 : decode cX0_read 7 = .ok (.astore_n 1, 1) := dk_76 (dk_at dksX0_read_0 7 rfl rfl)
theorem dX0_read_8 : decode cX0_read 8 = .ok (.aload_n 0, 1) := dk_42 (dk_at dksX0_read_0 8 rfl rfl)
theorem dX0_read_9 : decode cX0_read 9 = .ok (.getfield 72, 3) := dk_180 0 72 (dk_at dksX0_read_0 9 rfl rfl)
theorem dX0_read_12 : decode cX0_read 12 = .ok (.iconst 0, 1) := dk_3 (dk_at dksX0_read_0 12 rfl rfl)
theorem dX0_read_13 : decode cX0_read 13 = .ok (.putfield 369, 3) := dk_181 1 113 (dk_at dksX0_read_0 13 rfl rfl)
theorem dX0_read_16 : decode cX0_read 16 = .ok (.bipush (-20), 2) := dk_16 236 (dk_at dksX0_read_0 16 rfl rfl)
theorem dX0_read_18 : decode cX0_read 18 = .ok (.aload_n 1, 1) := dk_43 (dk_at dksX0_read_0 18 rfl rfl)
theorem dX0_read_19 : decode cX0_read 19 = .ok (.getfield 382, 3) := dk_180 1 126 (dk_at dksX0_read_0 19 rfl rfl)
theorem dX0_read_22 : decode cX0_read 22 = .ok (.isub, 1) := dk_100 (dk_at dksX0_read_0 22 rfl rfl)
theorem dX0_read_23 : decode cX0_read 23 = .ok (.ireturn, 1) := dk_172 (dk_at dksX0_read_0 23 rfl rfl)
theorem dX0_read_24 : decode cX0_read 24 = .ok (.aload_n 0, 1) := dk_42 (dk_at dksX0_read_1 0 rfl rfl)
theorem dX0_read_25 : decode cX0_read 25 = .ok (.getfield 72, 3) := dk_180 0 72 (dk_at dksX0_read_1 1 rfl rfl)
theorem dX0_read_28 : decode cX0_read 28 = .ok (.iconst 0, 1) := dk_3 (dk_at dksX0_read_1 4 rfl rfl)
theorem dX0_read_29 : decode cX0_read 29 = .ok (.putfield 369, 3) := dk_181 1 113 (dk_at dksX0_read_1 5 rfl rfl)
theorem dX0_read_32 : decode cX0_read 32 = .ok (.aload_n 0, 1) := dk_42 (dk_at dksX0_read_1 8 rfl rfl)
theorem dX0_read_33 : decode cX0_read 33 = .ok (.invokevirtual 311, 3) := dk_182 1 55 (dk_at dksX0_read_1 9 rfl rfl)
theorem dX0_read_36 : decode cX0_read 36 = .ok (.aload_n 0, 1) := dk_42 (dk_at dksX0_read_1 12 rfl rfl)
theorem dX0_read_37 : decode cX0_read 37 = .ok (.getfield 18, 3) := dk_180 0 18 (dk_at dksX0_read_1 13 rfl rfl)
theorem dX0_read_40 : decode cX0_read 40 = .ok (.aload_n 0, 1) := dk_42 (dk_at dksX0_read_1 16 rfl rfl)
theorem dX0_read_41 : decode cX0_read 41 = .ok (.getfield 76, 3) := dk_180 0 76 (dk_at dksX0_read_1 17 rfl rfl)
theorem dX0_read_44 : decode cX0_read 44 = .ok (.invokevirtual 304, 3) := dk_182 1 48 (dk_at dksX0_read_1 20 rfl rfl)
theorem dX0_read_47 : decode cX0_read 47 = .ok (.aload_n 0, 1) := dk_42 (dk_at dksX0_read_1 23 rfl rfl)
theorem dX0_read_48 : decode cX0_read 48 = .ok (.getfield 18, 3) := dk_180 0 18 (dk_at dksX0_read_2 0 rfl rfl)
theorem dX0_read_51 : decode cX0_read 51 = .ok (.invokevirtual 97, 3) := dk_182 0 97 (dk_at dksX0_read_2 3 rfl rfl)
theorem dX0_read_54 : decode cX0_read 54 = .ok (.ireturn, 1) := dk_172 (dk_at dksX0_read_2 6 rfl rfl)
abbrev cX0_readAll : ByteArray := prog_1_method_56_code
def yX0_readAll : MethodName := ⟨RX0, "readAll", "()V"⟩
def dkwX0_readAll_4 : List UInt8 := [182, 1, 163, 154, 255, 246, 42, 182, 1, 123, 155, 0, 8, 42, 182, 1, 129, 191, 177]
abbrev dktX0_readAll_4 : List UInt8 := dkwX0_readAll_4 ++ []
def dkwX0_readAll_3 : List UInt8 := [182, 1, 163, 154, 255, 246, 42, 16, 59, 182, 1, 163, 153, 0, 16, 42, 182, 1, 170, 42, 16, 44]
abbrev dktX0_readAll_3 : List UInt8 := dkwX0_readAll_3 ++ dktX0_readAll_4
def dkwX0_readAll_2 : List UInt8 := [181, 0, 251, 42, 16, 58, 182, 1, 163, 154, 0, 8, 42, 182, 1, 129, 191, 42, 182, 1, 167, 42, 16, 44]
abbrev dktX0_readAll_2 : List UInt8 := dkwX0_readAll_2 ++ dktX0_readAll_3
def dkwX0_readAll_1 : List UInt8 := [182, 0, 166, 42, 180, 0, 76, 42, 182, 1, 160, 181, 0, 112, 42, 180, 0, 76, 42, 4, 7, 182, 1, 157]
abbrev dktX0_readAll_1 : List UInt8 := dkwX0_readAll_1 ++ dktX0_readAll_2
def dkwX0_readAll_0 : List UInt8 := [42, 3, 181, 1, 118, 42, 180, 0, 76, 42, 180, 0, 18, 182, 1, 48, 42, 180, 0, 76, 180, 0, 234]
abbrev dktX0_readAll_0 : List UInt8 := dkwX0_readAll_0 ++ dktX0_readAll_1
theorem dksX0_readAll_0 : cX0_readAll.data.toList.drop 0 = dktX0_readAll_0 := by decide +kernel
theorem dksX0_readAll_1 : cX0_readAll.data.toList.drop 23 = dktX0_readAll_1 := dk_seg dksX0_readAll_0 23 rfl rfl
theorem dksX0_readAll_2 : cX0_readAll.data.toList.drop 47 = dktX0_readAll_2 := dk_seg dksX0_readAll_1 24 rfl rfl
theorem dksX0_readAll_3 : cX0_readAll.data.toList.drop 71 = dktX0_readAll_3 := dk_seg dksX0_readAll_2 24 rfl rfl
theorem dksX0_readAll_4 : cX0_readAll.data.toList.drop 93 = dktX0_readAll_4 := dk_seg dksX0_readAll_3 22 rfl rfl
theorem dX0_readAll_0 : decode cX0_readAll 0 = .ok (.aload_n 0, 1) := dk_42 (dk_at dksX0_readAll_0 0 rfl rfl)
theorem dX0_readAll_1 : decode cX0_readAll 1 = .ok (.iconst 0, 1) := dk_3 (dk_at dksX0_readAll_0 1 rfl rfl)
theorem dX0_readAll_2 : decode cX0_readAll 2 = .ok (.putfield 374, 3) := dk_181 1 118 (dk_at dksX0_readAll_0 2 rfl rfl)
theorem dX0_readAll_5 : decode cX0_readAll 5 = .ok (.aload_n 0, 1) := dk_42 (dk_at dksX0_readAll_0 5 rfl rfl)
theorem dX0_readAll_6 : decode cX0_readAll 6 = .ok (.getfield 76, 3) := dk_180 0 76 (dk_at dksX0_readAll_0 6 rfl rfl)
theorem dX0_readAll_9 : decode cX0_readAll 9 = .ok (.aload_n 0, 1) := dk_42 (dk_at dksX0_readAll_0 9 rfl rfl)
theorem dX0_readAll_10 : decode cX0_readAll 10 = .ok (.getfield 18, 3) := dk_180 0 18 (dk_at dksX0_readAll_0 10 rfl rfl)
theorem dX0_readAll_13 : decode cX0_readAll 13 = .ok (.invokevirtual 304, 3) := dk_182 1 48 (dk_at dksX0_readAll_0 13 rfl rfl)
theorem dX0_readAll_16 : decode cX0_readAll 16 = .ok (.aload_n 0, 1) := dk_42 (dk_at dksX0_readAll_0 16 rfl rfl)
theorem dX0_readAll_17 : decode cX0_readAll 17 = .ok (.getfield 76, 3) := dk_180 0 76 (dk_at dksX0_readAll_0 17 rfl rfl)
theorem dX0_readAll_20 : decode cX0_readAll 20 = .ok (.getfield 234, 3) := dk_180 0 234 (dk_at dksX0_readAll_0 20 rfl rfl)
theorem dX0_readAll_23 : decode cX0_readAll 23 = .ok (.invokevirtual 166, 3) := dk_182 0 166 (dk_at dksX0_readAll_1 0 rfl rfl)
theorem dX0_readAll_26 : decode cX0_readAll 26 = .ok (.aload_n 0, 1) := dk_42 (dk_at dksX0_readAll_1 3 rfl rfl)
theorem dX0_readAll_27 : decode cX0_readAll 27 = .ok (.getfield 76, 3) := dk_180 0 76 (dk_at dksX0_readAll_1 4 rfl rfl)
theorem dX0_readAll_30 : decode cX0_readAll 30 = .ok (.aload_n 0, 1) := dk_42 (dk_at dksX0_readAll_1 7 rfl rfl)
theorem dX0_readAll_31 : decode cX0_readAll 31 = .ok (.invokevirtual 416, 3) := dk_182 1 160 (dk_at dksX0_readAll_1 8 rfl rfl)
theorem dX0_readAll_34 : decode cX0_readAll 34 = .ok (.putfield 112, 3) := dk_181 0 112 (dk_at dksX0_readAll_1 11 rfl rfl)
theorem dX0_readAll_37 : decode cX0_readAll 37 = .ok (.aload_n 0, 1) := dk_42 (dk_at dksX0_readAll_1 14 rfl rfl)
theorem dX0_readAll_38 : decode cX0_readAll 38 = .ok (.getfield 76, 3) := dk_180 0 76 (dk_at dksX0_readAll_1 15 rfl rfl)
theorem dX0_readAll_41 : decode cX0_readAll 41 = .ok (.aload_n 0, 1) := dk_42 (dk_at dksX0_readAll_1 18 rfl rfl)
theorem dX0_readAll_42 : decode cX0_readAll 42 = .ok (.iconst 1, 1) := dk_4 (dk_at dksX0_readAll_1 19 rfl rfl)
theorem dX0_readAll_43 : decode cX0_readAll 43 = .ok (.iconst 4, 1) := dk_7 (dk_at dksX0_readAll_1 20 rfl rfl)
theorem dX0_readAll_44 : decode cX0_readAll 44 = .ok (.invokevirtual 413, 3) := dk_182 1 157 (dk_at dksX0_readAll_1 21 rfl rfl)
theorem dX0_readAll_47 : decode cX0_readAll 47 = .ok (.putfield 251, 3) := dk_181 0 251 (dk_at dksX0_readAll_2 0 rfl rfl)
theorem dX0_readAll_50 : decode cX0_readAll 50 = .ok (.aload_n 0, 1) := dk_42 (dk_at dksX0_readAll_2 3 rfl rfl)
theorem dX0_readAll_51 : decode cX0_readAll 51 = .ok (.bipush 58, 2) := dk_16 58 (dk_at dksX0_readAll_2 4 rfl rfl)
theorem dX0_readAll_53 : decode cX0_readAll 53 = .ok (.invokevirtual 419, 3) := dk_182 1 163 (dk_at dksX0_readAll_2 6 rfl rfl)
theorem dX0_readAll_56 : decode cX0_readAll 56 = .ok (.ifCond .ne 8, 3) := dk_154 0 8 (dk_at dksX0_readAll_2 9 rfl rfl)
theorem dX0_readAll_59 : decode cX0_readAll 59 = .ok (.aload_n 0, 1) := dk_42 (dk_at dksX0_readAll_2 12 rfl rfl)
theorem dX0_readAll_60 : decode cX0_readAll 60 = .ok (.invokevirtual 385, 3) := dk_182 1 129 (dk_at dksX0_readAll_2 13 rfl rfl)
theorem dX0_readAll_63 : decode cX0_readAll 63 = .ok (.athrow, 1) := dk_191 (dk_at dksX0_readAll_2 16 rfl rfl)
theorem dX0_readAll_64 : decode cX0_readAll 64 = .ok (.aload_n 0, 1) := dk_42 (dk_at dksX0_readAll_2 17 rfl rfl)
theorem dX0_readAll_65 : decode cX0_readAll 65 = .ok (.invokevirtual 423, 3) := dk_182 1 167 (dk_at dksX0_readAll_2 18 rfl rfl)
theorem dX0_readAll_68 : decode cX0_readAll 68 = .ok (.aload_n 0, 1) := dk_42 (dk_at dksX0_readAll_2 21 rfl rfl)
theorem dX0_readAll_69 : decode cX0_readAll 69 = .ok (.bipush 44, 2) := dk_16 44 (dk_at dksX0_readAll_2 22 rfl rfl)
theorem dX0_readAll_71 : decode cX0_readAll 71 = .ok (.invokevirtual 419, 3) := dk_182 1 163 (dk_at dksX0_readAll_3 0 rfl rfl)
theorem dX0_readAll_74 : decode cX0_readAll 74 = .ok (.ifCond .ne (-10), 3) := dk_154 255 246 (dk_at dksX0_readAll_3 3 rfl rfl)
theorem dX0_readAll_77 : decode cX0_readAll 77 = .ok (.aload_n 0, 1) := dk_42 (dk_at dksX0_readAll_3 6 rfl rfl)
theorem dX0_readAll_78 : decode cX0_readAll 78 = .ok (.bipush 59, 2) := dk_16 59 (dk_at dksX0_readAll_3 7 rfl rfl)
theorem dX0_readAll_80 : decode cX0_readAll 80 = .ok (.invokevirtual 419, 3) := dk_182 1 163 (dk_at dksX0_readAll_3 9 rfl rfl)
theorem dX0_readAll_83 : decode cX0_readAll 83 = .ok (.ifCond .eq 16, 3) := dk_153 0 16 (dk_at dksX0_readAll_3 12 rfl rfl)
theorem dX0_readAll_86 : decode cX0_readAll 86 = .ok (.aload_n 0, 1) := dk_42 (dk_at dksX0_readAll_3 15 rfl rfl)
theorem dX0_readAll_87 : decode cX0_readAll 87 = .ok (.invokevirtual 426, 3) := dk_182 1 170 (dk_at dksX0_readAll_3 16 rfl rfl)
theorem dX0_readAll_90 : decode cX0_readAll 90 = .ok (.aload_n 0, 1) := dk_42 (dk_at dksX0_readAll_3 19 rfl rfl)
theorem dX0_readAll_91 : decode cX0_readAll 91 = .ok (.bipush 44, 2) := dk_16 44 (dk_at dksX0_readAll_3 20 rfl rfl)
theorem dX0_readAll_93 : decode cX0_readAll 93 = .ok (.invokevirtual 419, 3) := dk_182 1 163 (dk_at dksX0_readAll_4 0 rfl rfl)
theorem dX0_readAll_96 : decode cX0_readAll 96 = .ok (.ifCond .ne (-10), 3) := dk_154 255 246 (dk_at dksX0_readAll_4 3 rfl rfl)
theorem dX0_readAll_99 : decode cX0_readAll 99 = .ok (.aload_n 0, 1) := dk_42 (dk_at dksX0_readAll_4 6 rfl rfl)
theorem dX0_readAll_100 : decode cX0_readAll 100 = .ok (.invokevirtual 379, 3) := dk_182 1 123 (dk_at dksX0_readAll_4 7 rfl rfl)
theorem dX0_readAll_103 : decode cX0_readAll 103 = .ok (.ifCond .lt 8, 3) := dk_155 0 8 (dk_at dksX0_readAll_4 10 rfl rfl)
theorem dX0_readAll_106 : decode cX0_readAll 106 = .ok (.aload_n 0, 1) := dk_42 (dk_at dksX0_readAll_4 13 rfl rfl)
theorem dX0_readAll_107 : decode cX0_readAll 107 = .ok (.invokevirtual 385, 3) := dk_182 1 129 (dk_at dksX0_readAll_4 14 rfl rfl)
theorem dX0_readAll_110 : decode cX0_readAll 110 = .ok (.athrow, 1) := dk_191 (dk_at dksX0_readAll_4 17 rfl rfl)
theorem dX0_readAll_111 : decode cX0_readAll 111 = .ok (.return_, 1) := dk_177 (dk_at dksX0_readAll_4 18 rfl rfl)
abbrev cX0_readRule : ByteArray := prog_1_method_53_code
def yX0_readRule : MethodName := ⟨RX0, "readRule", "()I"⟩
def dkwX0_readRule_7 : List UInt8 := [3, 172, 4, 172, 5, 172, 42, 27, 181, 1, 118, 42, 182, 1, 129, 191]
abbrev dktX0_readRule_7 : List UInt8 := dkwX0_readRule_7 ++ []
def dkwX0_readRule_6 : List UInt8 := [170, 0, 0, 0, 31, 0, 0, 0, 0, 0, 0, 0, 2, 0, 0, 0, 25, 0, 0, 0, 27, 0, 0, 0, 29]
abbrev dktX0_readRule_6 : List UInt8 := dkwX0_readRule_6 ++ dktX0_readRule_7
def dkwX0_readRule_5 : List UInt8 := [153, 0, 22, 4, 54, 4, 167, 0, 16, 45, 19, 1, 155, 182, 1, 149, 153, 0, 6, 5, 54, 4, 21, 4]
abbrev dktX0_readRule_5 : List UInt8 := dkwX0_readRule_5 ++ dktX0_readRule_6
def dkwX0_readRule_4 : List UInt8 := [45, 19, 1, 147, 182, 1, 149, 153, 0, 38, 3, 54, 4, 167, 0, 32, 45, 19, 1, 153, 182, 1, 149]
abbrev dktX0_readRule_4 : List UInt8 := dkwX0_readRule_4 ++ dktX0_readRule_5
def dkwX0_readRule_3 : List UInt8 := [171, 0, 0, 0, 0, 0, 80, 0, 0, 0, 3, 202, 207, 88, 18, 0, 0, 0, 35, 17, 126, 46, 239, 0, 0, 0, 51, 81, 7, 232, 78, 0, 0, 0, 67]
abbrev dktX0_readRule_3 : List UInt8 := dkwX0_readRule_3 ++ dktX0_readRule_4
def dkwX0_readRule_2 : List UInt8 := [44, 185, 1, 141, 1, 0, 78, 2, 54, 4, 45, 182, 1, 144]
abbrev dktX0_readRule_2 : List UInt8 := dkwX0_readRule_2 ++ dktX0_readRule_3
def dkwX0_readRule_1 : List UInt8 := [180, 1, 118, 4, 96, 181, 1, 118, 167, 255, 235, 42, 180, 0, 72, 27, 42, 180, 1, 118, 182, 1, 137, 77]
abbrev dktX0_readRule_1 : List UInt8 := dkwX0_readRule_1 ++ dktX0_readRule_2
def dkwX0_readRule_0 : List UInt8 := [42, 182, 1, 123, 87, 42, 180, 1, 118, 60, 42, 16, 97, 16, 122, 182, 1, 133, 153, 0, 16, 42, 89]
abbrev dktX0_readRule_0 : List UInt8 := dkwX0_readRule_0 ++ dktX0_readRule_1
theorem dksX0_readRule_0 : cX0_readRule.data.toList.drop 0 = dktX0_readRule_0 := by decide +kernel
theorem dksX0_readRule_1 : cX0_readRule.data.toList.drop 23 = dktX0_readRule_1 := dk_seg dksX0_readRule_0 23 rfl rfl
theorem dksX0_readRule_2 : cX0_readRule.data.toList.drop 47 = dktX0_readRule_2 := dk_seg dksX0_readRule_1 24 rfl rfl
theorem dksX0_readRule_3 : cX0_readRule.data.toList.drop 61 = dktX0_readRule_3 := dk_seg dksX0_readRule_2 14 rfl rfl
theorem dksX0_readRule_4 : cX0_readRule.data.toList.drop 96 = dktX0_readRule_4 := dk_seg dksX0_readRule_3 35 rfl rfl
theorem dksX0_readRule_5 : cX0_readRule.data.toList.drop 119 = dktX0_readRule_5 := dk_seg dksX0_readRule_4 23 rfl rfl
theorem dksX0_readRule_6 : cX0_readRule.data.toList.drop 143 = dktX0_readRule_6 := dk_seg dksX0_readRule_5 24 rfl rfl
theorem dksX0_readRule_7 : cX0_readRule.data.toList.drop 168 = dktX0_readRule_7 := dk_seg dksX0_readRule_6 25 rfl rfl
theorem dX0_readRule_0 : decode cX0_readRule 0 = .ok (.aload_n 0, 1) := dk_42 (dk_at dksX0_readRule_0 0 rfl rfl)
theorem dX0_readRule_1 : decode cX0_readRule 1 = .ok (.invokevirtual 379, 3) := dk_182 1 123 (dk_at dksX0_readRule_0 1 rfl rfl)
theorem dX0_readRule_4 : decode cX0_readRule 4 = .ok (.pop, 1) := dk_87 (dk_at dksX0_readRule_0 4 rfl rfl)
theorem dX0_readRule_5 : decode cX0_readRule 5 = .ok (.aload_n 0, 1) := dk_42 (dk_at dksX0_readRule_0 5 rfl rfl)
theorem dX0_readRule_6 : decode cX0_readRule 6 = .ok (.getfield 374, 3) := dk_180 1 118 (dk_at dksX0_readRule_0 6 rfl rfl)
theorem dX0_readRule_9 : decode cX0_readRule 9 = .ok (.istore_n 1, 1) := dk_60 (dk_at dksX0_readRule_0 9 rfl rfl)
theorem dX0_readRule_10 : decode cX0_readRule 10 = .ok (.aload_n 0, 1) := dk_42 (dk_at dksX0_readRule_0 10 rfl rfl)
theorem dX0_readRule_11 : decode cX0_readRule 11 = .ok (.bipush 97, 2) := dk_16 97 (dk_at dksX0_readRule_0 11 rfl rfl)
theorem dX0_readRule_13 : decode cX0_readRule 13 = .ok (.bipush 122, 2) := dk_16 122 (dk_at dksX0_readRule_0 13 rfl rfl)
theorem dX0_readRule_15 : decode cX0_readRule 15 = .ok (.invokevirtual 389, 3) := dk_182 1 133 (dk_at dksX0_readRule_0 15 rfl rfl)
theorem dX0_readRule_18 : decode cX0_readRule 18 = .ok (.ifCond .eq 16, 3) := dk_153 0 16 (dk_at dksX0_readRule_0 18 rfl rfl)
theorem dX0_readRule_21 : decode cX0_readRule 21 = .ok (.aload_n 0, 1) := dk_42 (dk_at dksX0_readRule_0 21 rfl rfl)
theorem dX0_readRule_22 : decode cX0_readRule 22 = .ok (.dup, 1) := dk_89 (dk_at dksX0_readRule_0 22 rfl rfl)
theorem dX0_readRule_23 : decode cX0_readRule 23 = .ok (.getfield 374, 3) := dk_180 1 118 (dk_at dksX0_readRule_1 0 rfl rfl)
theorem dX0_readRule_26 : decode cX0_readRule 26 = .ok (.iconst 1, 1) := dk_4 (dk_at dksX0_readRule_1 3 rfl rfl)
theorem dX0_readRule_27 : decode cX0_readRule 27 = .ok (.iadd, 1) := dk_96 (dk_at dksX0_readRule_1 4 rfl rfl)
theorem dX0_readRule_28 : decode cX0_readRule 28 = .ok (.putfield 374, 3) := dk_181 1 118 (dk_at dksX0_readRule_1 5 rfl rfl)
theorem dX0_readRule_31 : decode cX0_readRule 31 = .ok (.goto (-21), 3) := dk_167 255 235 (dk_at dksX0_readRule_1 8 rfl rfl)
theorem dX0_readRule_34 : decode cX0_readRule 34 = .ok (.aload_n 0, 1) := dk_42 (dk_at dksX0_readRule_1 11 rfl rfl)
theorem dX0_readRule_35 : decode cX0_readRule 35 = .ok (.getfield 72, 3) := dk_180 0 72 (dk_at dksX0_readRule_1 12 rfl rfl)
theorem dX0_readRule_38 : decode cX0_readRule 38 = .ok (.iload_n 1, 1) := dk_27 (dk_at dksX0_readRule_1 15 rfl rfl)
theorem dX0_readRule_39 : decode cX0_readRule 39 = .ok (.aload_n 0, 1) := dk_42 (dk_at dksX0_readRule_1 16 rfl rfl)
theorem dX0_readRule_40 : decode cX0_readRule 40 = .ok (.getfield 374, 3) := dk_180 1 118 (dk_at dksX0_readRule_1 17 rfl rfl)
theorem dX0_readRule_43 : decode cX0_readRule 43 = .ok (.invokevirtual 393, 3) := dk_182 1 137 (dk_at dksX0_readRule_1 20 rfl rfl)
theorem dX0_readRule_46 : decode cX0_readRule 46 = .ok (.astore_n 2, 1) := dk_77 (dk_at dksX0_readRule_1 23 rfl rfl)
theorem dX0_readRule_47 : decode cX0_readRule 47 = .ok (.aload_n 2, 1) := dk_44 (dk_at dksX0_readRule_2 0 rfl rfl)
theorem dX0_readRule_48 : decode cX0_readRule 48 = .ok (.invokeinterface 397 1, 5) := by decide +kernel
theorem dX0_readRule_53 : decode cX0_readRule 53 = .ok (.astore_n 3, 1) := dk_78 (dk_at dksX0_readRule_2 6 rfl rfl)
theorem dX0_readRule_54 : decode cX0_readRule 54 = .ok (.iconst (-1), 1) := dk_2 (dk_at dksX0_readRule_2 7 rfl rfl)
theorem dX0_readRule_55 : decode cX0_readRule 55 = .ok (.istore 4, 2) := dk_54 4 (dk_at dksX0_readRule_2 8 rfl rfl)
theorem dX0_readRule_57 : decode cX0_readRule 57 = .ok (.aload_n 3, 1) := dk_45 (dk_at dksX0_readRule_2 10 rfl rfl)
theorem dX0_readRule_58 : decode cX0_readRule 58 = .ok (.invokevirtual 400, 3) := dk_182 1 144 (dk_at dksX0_readRule_2 11 rfl rfl)
theorem dX0_readRule_61 : decode cX0_readRule 61 = .ok (.lookupswitch 80 #[(-892381166, 35), (293482223, 51), (1359472718, 67)], 35) := by decide +kernel
theorem dX0_readRule_96 : decode cX0_readRule 96 = .ok (.aload_n 3, 1) := dk_45 (dk_at dksX0_readRule_4 0 rfl rfl)
theorem dX0_readRule_97 : decode cX0_readRule 97 = .ok (.ldc_w 403, 3) := dk_19 1 147 (dk_at dksX0_readRule_4 1 rfl rfl)
theorem dX0_readRule_100 : decode cX0_readRule 100 = .ok (.invokevirtual 405, 3) := dk_182 1 149 (dk_at dksX0_readRule_4 4 rfl rfl)
theorem dX0_readRule_103 : decode cX0_readRule 103 = .ok (.ifCond .eq 38, 3) := dk_153 0 38 (dk_at dksX0_readRule_4 7 rfl rfl)
theorem dX0_readRule_106 : decode cX0_readRule 106 = .ok (.iconst 0, 1) := dk_3 (dk_at dksX0_readRule_4 10 rfl rfl)
theorem dX0_readRule_107 : decode cX0_readRule 107 = .ok (.istore 4, 2) := dk_54 4 (dk_at dksX0_readRule_4 11 rfl rfl)
theorem dX0_readRule_109 : decode cX0_readRule 109 = .ok (.goto 32, 3) := dk_167 0 32 (dk_at dksX0_readRule_4 13 rfl rfl)
theorem dX0_readRule_112 : decode cX0_readRule 112 = .ok (.aload_n 3, 1) := dk_45 (dk_at dksX0_readRule_4 16 rfl rfl)
theorem dX0_readRule_113 : decode cX0_readRule 113 = .ok (.ldc_w 409, 3) := dk_19 1 153 (dk_at dksX0_readRule_4 17 rfl rfl)
theorem dX0_readRule_116 : decode cX0_readRule 116 = .ok (.invokevirtual 405, 3) := dk_182 1 149 (dk_at dksX0_readRule_4 20 rfl rfl)
theorem dX0_readRule_119 : decode cX0_readRule 119 = .ok (.ifCond .eq 22, 3) := dk_153 0 22 (dk_at dksX0_readRule_5 0 rfl rfl)
theorem dX0_readRule_122 : decode cX0_readRule 122 = .ok (.iconst 1, 1) := dk_4 (dk_at dksX0_readRule_5 3 rfl rfl)
theorem dX0_readRule_123 : decode cX0_readRule 123 = .ok (.istore 4, 2) := dk_54 4 (dk_at dksX0_readRule_5 4 rfl rfl)
theorem dX0_readRule_125 : decode cX0_readRule 125 = .ok (.goto 16, 3) := dk_167 0 16 (dk_at dksX0_readRule_5 6 rfl rfl)
theorem dX0_readRule_128 : decode cX0_readRule 128 = .ok (.aload_n 3, 1) := dk_45 (dk_at dksX0_readRule_5 9 rfl rfl)
theorem dX0_readRule_129 : decode cX0_readRule 129 = .ok (.ldc_w 411, 3) := dk_19 1 155 (dk_at dksX0_readRule_5 10 rfl rfl)
theorem dX0_readRule_132 : decode cX0_readRule 132 = .ok (.invokevirtual 405, 3) := dk_182 1 149 (dk_at dksX0_readRule_5 13 rfl rfl)
theorem dX0_readRule_135 : decode cX0_readRule 135 = .ok (.ifCond .eq 6, 3) := dk_153 0 6 (dk_at dksX0_readRule_5 16 rfl rfl)
theorem dX0_readRule_138 : decode cX0_readRule 138 = .ok (.iconst 2, 1) := dk_5 (dk_at dksX0_readRule_5 19 rfl rfl)
theorem dX0_readRule_139 : decode cX0_readRule 139 = .ok (.istore 4, 2) := dk_54 4 (dk_at dksX0_readRule_5 20 rfl rfl)
theorem dX0_readRule_141 : decode cX0_readRule 141 = .ok (.iload 4, 2) := dk_21 4 (dk_at dksX0_readRule_5 22 rfl rfl)
theorem dX0_readRule_143 : decode cX0_readRule 143 = .ok (.tableswitch 31 0 2 #[25, 27, 29], 25) := by decide +kernel
theorem dX0_readRule_168 : decode cX0_readRule 168 = .ok (.iconst 0, 1) := dk_3 (dk_at dksX0_readRule_7 0 rfl rfl)
theorem dX0_readRule_169 : decode cX0_readRule 169 = .ok (.ireturn, 1) := dk_172 (dk_at dksX0_readRule_7 1 rfl rfl)
theorem dX0_readRule_170 : decode cX0_readRule 170 = .ok (.iconst 1, 1) := dk_4 (dk_at dksX0_readRule_7 2 rfl rfl)
theorem dX0_readRule_171 : decode cX0_readRule 171 = .ok (.ireturn, 1) := dk_172 (dk_at dksX0_readRule_7 3 rfl rfl)
theorem dX0_readRule_172 : decode cX0_readRule 172 = .ok (.iconst 2, 1) := dk_5 (dk_at dksX0_readRule_7 4 rfl rfl)
theorem dX0_readRule_173 : decode cX0_readRule 173 = .ok (.ireturn, 1) := dk_172 (dk_at dksX0_readRule_7 5 rfl rfl)
theorem dX0_readRule_174 : decode cX0_readRule 174 = .ok (.aload_n 0, 1) := dk_42 (dk_at dksX0_readRule_7 6 rfl rfl)
theorem dX0_readRule_175 : decode cX0_readRule 175 = .ok (.iload_n 1, 1) := dk_27 (dk_at dksX0_readRule_7 7 rfl rfl)
theorem dX0_readRule_176 : decode cX0_readRule 176 = .ok (.putfield 374, 3) := dk_181 1 118 (dk_at dksX0_readRule_7 8 rfl rfl)
theorem dX0_readRule_179 : decode cX0_readRule 179 = .ok (.aload_n 0, 1) := dk_42 (dk_at dksX0_readRule_7 11 rfl rfl)
theorem dX0_readRule_180 : decode cX0_readRule 180 = .ok (.invokevirtual 385, 3) := dk_182 1 129 (dk_at dksX0_readRule_7 12 rfl rfl)
theorem dX0_readRule_183 : decode cX0_readRule 183 = .ok (.athrow, 1) := dk_191 (dk_at dksX0_readRule_7 15 rfl rfl)
abbrev cX0_nextLetter : ByteArray := prog_1_method_48_code
def yX0_nextLetter : MethodName := ⟨RX0, "nextLetter", "()I"⟩
def dkwX0_nextLetter_3 : List UInt8 := [167, 0, 5, 16, 252, 172]
abbrev dktX0_nextLetter_3 : List UInt8 := dkwX0_nextLetter_3 ++ []
def dkwX0_nextLetter_2 : List UInt8 := [180, 1, 118, 42, 180, 0, 72, 182, 1, 121, 162, 0, 17, 42, 180, 0, 72, 42, 180, 1, 118, 182, 1, 122]
abbrev dktX0_nextLetter_2 : List UInt8 := dkwX0_nextLetter_2 ++ dktX0_nextLetter_3
def dkwX0_nextLetter_1 : List UInt8 := [182, 1, 122, 16, 32, 160, 0, 16, 42, 89, 180, 1, 118, 4, 96, 181, 1, 118, 167, 255, 216, 42]
abbrev dktX0_nextLetter_1 : List UInt8 := dkwX0_nextLetter_1 ++ dktX0_nextLetter_2
def dkwX0_nextLetter_0 : List UInt8 := [42, 180, 1, 118, 42, 180, 0, 72, 182, 1, 121, 162, 0, 32, 42, 180, 0, 72, 42, 180, 1, 118]
abbrev dktX0_nextLetter_0 : List UInt8 := dkwX0_nextLetter_0 ++ dktX0_nextLetter_1
theorem dksX0_nextLetter_0 : cX0_nextLetter.data.toList.drop 0 = dktX0_nextLetter_0 := by decide +kernel
theorem dksX0_nextLetter_1 : cX0_nextLetter.data.toList.drop 22 = dktX0_nextLetter_1 := dk_seg dksX0_nextLetter_0 22 rfl rfl
theorem dksX0_nextLetter_2 : cX0_nextLetter.data.toList.drop 44 = dktX0_nextLetter_2 := dk_seg dksX0_nextLetter_1 22 rfl rfl
theorem dksX0_nextLetter_3 : cX0_nextLetter.data.toList.drop 68 = dktX0_nextLetter_3 := dk_seg dksX0_nextLetter_2 24 rfl rfl
theorem dX0_nextLetter_0 : decode cX0_nextLetter 0 = .ok (.aload_n 0, 1) := dk_42 (dk_at dksX0_nextLetter_0 0 rfl rfl)
theorem dX0_nextLetter_1 : decode cX0_nextLetter 1 = .ok (.getfield 374, 3) := dk_180 1 118 (dk_at dksX0_nextLetter_0 1 rfl rfl)
theorem dX0_nextLetter_4 : decode cX0_nextLetter 4 = .ok (.aload_n 0, 1) := dk_42 (dk_at dksX0_nextLetter_0 4 rfl rfl)
theorem dX0_nextLetter_5 : decode cX0_nextLetter 5 = .ok (.getfield 72, 3) := dk_180 0 72 (dk_at dksX0_nextLetter_0 5 rfl rfl)
theorem dX0_nextLetter_8 : decode cX0_nextLetter 8 = .ok (.invokevirtual 377, 3) := dk_182 1 121 (dk_at dksX0_nextLetter_0 8 rfl rfl)
theorem dX0_nextLetter_11 : decode cX0_nextLetter 11 = .ok (.if_icmp .ge 32, 3) := dk_162 0 32 (dk_at dksX0_nextLetter_0 11 rfl rfl)
theorem dX0_nextLetter_14 : decode cX0_nextLetter 14 = .ok (.aload_n 0, 1) := dk_42 (dk_at dksX0_nextLetter_0 14 rfl rfl)
theorem dX0_nextLetter_15 : decode cX0_nextLetter 15 = .ok (.getfield 72, 3) := dk_180 0 72 (dk_at dksX0_nextLetter_0 15 rfl rfl)
theorem dX0_nextLetter_18 : decode cX0_nextLetter 18 = .ok (.aload_n 0, 1) := dk_42 (dk_at dksX0_nextLetter_0 18 rfl rfl)
theorem dX0_nextLetter_19 : decode cX0_nextLetter 19 = .ok (.getfield 374, 3) := dk_180 1 118 (dk_at dksX0_nextLetter_0 19 rfl rfl)
theorem dX0_nextLetter_22 : decode cX0_nextLetter 22 = .ok (.invokevirtual 378, 3) := dk_182 1 122 (dk_at dksX0_nextLetter_1 0 rfl rfl)
theorem dX0_nextLetter_25 : decode cX0_nextLetter 25 = .ok (.bipush 32, 2) := dk_16 32 (dk_at dksX0_nextLetter_1 3 rfl rfl)
theorem dX0_nextLetter_27 : decode cX0_nextLetter 27 = .ok (.if_icmp .ne 16, 3) := dk_160 0 16 (dk_at dksX0_nextLetter_1 5 rfl rfl)
theorem dX0_nextLetter_30 : decode cX0_nextLetter 30 = .ok (.aload_n 0, 1) := dk_42 (dk_at dksX0_nextLetter_1 8 rfl rfl)
theorem dX0_nextLetter_31 : decode cX0_nextLetter 31 = .ok (.dup, 1) := dk_89 (dk_at dksX0_nextLetter_1 9 rfl rfl)
theorem dX0_nextLetter_32 : decode cX0_nextLetter 32 = .ok (.getfield 374, 3) := dk_180 1 118 (dk_at dksX0_nextLetter_1 10 rfl rfl)
theorem dX0_nextLetter_35 : decode cX0_nextLetter 35 = .ok (.iconst 1, 1) := dk_4 (dk_at dksX0_nextLetter_1 13 rfl rfl)
theorem dX0_nextLetter_36 : decode cX0_nextLetter 36 = .ok (.iadd, 1) := dk_96 (dk_at dksX0_nextLetter_1 14 rfl rfl)
theorem dX0_nextLetter_37 : decode cX0_nextLetter 37 = .ok (.putfield 374, 3) := dk_181 1 118 (dk_at dksX0_nextLetter_1 15 rfl rfl)
theorem dX0_nextLetter_40 : decode cX0_nextLetter 40 = .ok (.goto (-40), 3) := dk_167 255 216 (dk_at dksX0_nextLetter_1 18 rfl rfl)
theorem dX0_nextLetter_43 : decode cX0_nextLetter 43 = .ok (.aload_n 0, 1) := dk_42 (dk_at dksX0_nextLetter_1 21 rfl rfl)
theorem dX0_nextLetter_44 : decode cX0_nextLetter 44 = .ok (.getfield 374, 3) := dk_180 1 118 (dk_at dksX0_nextLetter_2 0 rfl rfl)
theorem dX0_nextLetter_47 : decode cX0_nextLetter 47 = .ok (.aload_n 0, 1) := dk_42 (dk_at dksX0_nextLetter_2 3 rfl rfl)
theorem dX0_nextLetter_48 : decode cX0_nextLetter 48 = .ok (.getfield 72, 3) := dk_180 0 72 (dk_at dksX0_nextLetter_2 4 rfl rfl)
theorem dX0_nextLetter_51 : decode cX0_nextLetter 51 = .ok (.invokevirtual 377, 3) := dk_182 1 121 (dk_at dksX0_nextLetter_2 7 rfl rfl)
theorem dX0_nextLetter_54 : decode cX0_nextLetter 54 = .ok (.if_icmp .ge 17, 3) := dk_162 0 17 (dk_at dksX0_nextLetter_2 10 rfl rfl)
theorem dX0_nextLetter_57 : decode cX0_nextLetter 57 = .ok (.aload_n 0, 1) := dk_42 (dk_at dksX0_nextLetter_2 13 rfl rfl)
theorem dX0_nextLetter_58 : decode cX0_nextLetter 58 = .ok (.getfield 72, 3) := dk_180 0 72 (dk_at dksX0_nextLetter_2 14 rfl rfl)
theorem dX0_nextLetter_61 : decode cX0_nextLetter 61 = .ok (.aload_n 0, 1) := dk_42 (dk_at dksX0_nextLetter_2 17 rfl rfl)
theorem dX0_nextLetter_62 : decode cX0_nextLetter 62 = .ok (.getfield 374, 3) := dk_180 1 118 (dk_at dksX0_nextLetter_2 18 rfl rfl)
theorem dX0_nextLetter_65 : decode cX0_nextLetter 65 = .ok (.invokevirtual 378, 3) := dk_182 1 122 (dk_at dksX0_nextLetter_2 21 rfl rfl)
theorem dX0_nextLetter_68 : decode cX0_nextLetter 68 = .ok (.goto 5, 3) := dk_167 0 5 (dk_at dksX0_nextLetter_3 0 rfl rfl)
theorem dX0_nextLetter_71 : decode cX0_nextLetter 71 = .ok (.bipush (-4), 2) := dk_16 252 (dk_at dksX0_nextLetter_3 3 rfl rfl)
theorem dX0_nextLetter_73 : decode cX0_nextLetter 73 = .ok (.ireturn, 1) := dk_172 (dk_at dksX0_nextLetter_3 5 rfl rfl)
abbrev cX0_isLetter : ByteArray := prog_1_method_51_code
def yX0_isLetter : MethodName := ⟨RX0, "isLetter", "(CC)Z"⟩
def dkwX0_isLetter_1 : List UInt8 := [182, 1, 122, 133, 27, 133, 28, 133, 184, 0, 5, 153, 0, 7, 4, 167, 0, 4, 3, 172]
abbrev dktX0_isLetter_1 : List UInt8 := dkwX0_isLetter_1 ++ []
def dkwX0_isLetter_0 : List UInt8 := [42, 180, 1, 118, 42, 180, 0, 72, 182, 1, 121, 162, 0, 29, 42, 180, 0, 72, 42, 180, 1, 118]
abbrev dktX0_isLetter_0 : List UInt8 := dkwX0_isLetter_0 ++ dktX0_isLetter_1
theorem dksX0_isLetter_0 : cX0_isLetter.data.toList.drop 0 = dktX0_isLetter_0 := by decide +kernel
theorem dksX0_isLetter_1 : cX0_isLetter.data.toList.drop 22 = dktX0_isLetter_1 := dk_seg dksX0_isLetter_0 22 rfl rfl
theorem dX0_isLetter_0 : decode cX0_isLetter 0 = .ok (.aload_n 0, 1) := dk_42 (dk_at dksX0_isLetter_0 0 rfl rfl)
theorem dX0_isLetter_1 : decode cX0_isLetter 1 = .ok (.getfield 374, 3) := dk_180 1 118 (dk_at dksX0_isLetter_0 1 rfl rfl)
theorem dX0_isLetter_4 : decode cX0_isLetter 4 = .ok (.aload_n 0, 1) := dk_42 (dk_at dksX0_isLetter_0 4 rfl rfl)
theorem dX0_isLetter_5 : decode cX0_isLetter 5 = .ok (.getfield 72, 3) := dk_180 0 72 (dk_at dksX0_isLetter_0 5 rfl rfl)
theorem dX0_isLetter_8 : decode cX0_isLetter 8 = .ok (.invokevirtual 377, 3) := dk_182 1 121 (dk_at dksX0_isLetter_0 8 rfl rfl)
theorem dX0_isLetter_11 : decode cX0_isLetter 11 = .ok (.if_icmp .ge 29, 3) := dk_162 0 29 (dk_at dksX0_isLetter_0 11 rfl rfl)
theorem dX0_isLetter_14 : decode cX0_isLetter 14 = .ok (.aload_n 0, 1) := dk_42 (dk_at dksX0_isLetter_0 14 rfl rfl)
theorem dX0_isLetter_15 : decode cX0_isLetter 15 = .ok (.getfield 72, 3) := dk_180 0 72 (dk_at dksX0_isLetter_0 15 rfl rfl)
theorem dX0_isLetter_18 : decode cX0_isLetter 18 = .ok (.aload_n 0, 1) := dk_42 (dk_at dksX0_isLetter_0 18 rfl rfl)
theorem dX0_isLetter_19 : decode cX0_isLetter 19 = .ok (.getfield 374, 3) := dk_180 1 118 (dk_at dksX0_isLetter_0 19 rfl rfl)
theorem dX0_isLetter_22 : decode cX0_isLetter 22 = .ok (.invokevirtual 378, 3) := dk_182 1 122 (dk_at dksX0_isLetter_1 0 rfl rfl)
theorem dX0_isLetter_25 : decode cX0_isLetter 25 = .ok (.i2l, 1) := dk_133 (dk_at dksX0_isLetter_1 3 rfl rfl)
theorem dX0_isLetter_26 : decode cX0_isLetter 26 = .ok (.iload_n 1, 1) := dk_27 (dk_at dksX0_isLetter_1 4 rfl rfl)
theorem dX0_isLetter_27 : decode cX0_isLetter 27 = .ok (.i2l, 1) := dk_133 (dk_at dksX0_isLetter_1 5 rfl rfl)
theorem dX0_isLetter_28 : decode cX0_isLetter 28 = .ok (.iload_n 2, 1) := dk_28 (dk_at dksX0_isLetter_1 6 rfl rfl)
theorem dX0_isLetter_29 : decode cX0_isLetter 29 = .ok (.i2l, 1) := dk_133 (dk_at dksX0_isLetter_1 7 rfl rfl)
theorem dX0_isLetter_30 : decode cX0_isLetter 30 = .ok (.invokestatic 5, 3) := dk_184 0 5 (dk_at dksX0_isLetter_1 8 rfl rfl)
theorem dX0_isLetter_33 : decode cX0_isLetter 33 = .ok (.ifCond .eq 7, 3) := dk_153 0 7 (dk_at dksX0_isLetter_1 11 rfl rfl)
theorem dX0_isLetter_36 : decode cX0_isLetter 36 = .ok (.iconst 1, 1) := dk_4 (dk_at dksX0_isLetter_1 14 rfl rfl)
theorem dX0_isLetter_37 : decode cX0_isLetter 37 = .ok (.goto 4, 3) := dk_167 0 4 (dk_at dksX0_isLetter_1 15 rfl rfl)
theorem dX0_isLetter_40 : decode cX0_isLetter 40 = .ok (.iconst 0, 1) := dk_3 (dk_at dksX0_isLetter_1 18 rfl rfl)
theorem dX0_isLetter_41 : decode cX0_isLetter 41 = .ok (.ireturn, 1) := dk_172 (dk_at dksX0_isLetter_1 19 rfl rfl)
abbrev cX0_faulty : ByteArray := prog_1_method_49_code
def yX0_faulty : MethodName := ⟨RX0, "faulty", "()LReadingStages$Fault;"⟩
def dkwX0_faulty_0 : List UInt8 := [42, 182, 1, 123, 87, 42, 180, 0, 65, 42, 180, 1, 118, 181, 1, 126, 42, 180, 0, 65, 176]
abbrev dktX0_faulty_0 : List UInt8 := dkwX0_faulty_0 ++ []
theorem dksX0_faulty_0 : cX0_faulty.data.toList.drop 0 = dktX0_faulty_0 := by decide +kernel
theorem dX0_faulty_0 : decode cX0_faulty 0 = .ok (.aload_n 0, 1) := dk_42 (dk_at dksX0_faulty_0 0 rfl rfl)
theorem dX0_faulty_1 : decode cX0_faulty 1 = .ok (.invokevirtual 379, 3) := dk_182 1 123 (dk_at dksX0_faulty_0 1 rfl rfl)
theorem dX0_faulty_4 : decode cX0_faulty 4 = .ok (.pop, 1) := dk_87 (dk_at dksX0_faulty_0 4 rfl rfl)
theorem dX0_faulty_5 : decode cX0_faulty 5 = .ok (.aload_n 0, 1) := dk_42 (dk_at dksX0_faulty_0 5 rfl rfl)
theorem dX0_faulty_6 : decode cX0_faulty 6 = .ok (.getfield 65, 3) := dk_180 0 65 (dk_at dksX0_faulty_0 6 rfl rfl)
theorem dX0_faulty_9 : decode cX0_faulty 9 = .ok (.aload_n 0, 1) := dk_42 (dk_at dksX0_faulty_0 9 rfl rfl)
theorem dX0_faulty_10 : decode cX0_faulty 10 = .ok (.getfield 374, 3) := dk_180 1 118 (dk_at dksX0_faulty_0 10 rfl rfl)
theorem dX0_faulty_13 : decode cX0_faulty 13 = .ok (.putfield 382, 3) := dk_181 1 126 (dk_at dksX0_faulty_0 13 rfl rfl)
theorem dX0_faulty_16 : decode cX0_faulty 16 = .ok (.aload_n 0, 1) := dk_42 (dk_at dksX0_faulty_0 16 rfl rfl)
theorem dX0_faulty_17 : decode cX0_faulty 17 = .ok (.getfield 65, 3) := dk_180 0 65 (dk_at dksX0_faulty_0 17 rfl rfl)
theorem dX0_faulty_20 : decode cX0_faulty 20 = .ok (.areturn, 1) := dk_176 (dk_at dksX0_faulty_0 20 rfl rfl)
abbrev cX0_readFigure : ByteArray := prog_1_method_52_code
def yX0_readFigure : MethodName := ⟨RX0, "readFigure", "(II)I"⟩
def dkwX0_readFigure_1 : List UInt8 := [191, 42, 89, 180, 1, 118, 4, 96, 181, 1, 118, 29, 172]
abbrev dktX0_readFigure_1 : List UInt8 := dkwX0_readFigure_1 ++ []
def dkwX0_readFigure_0 : List UInt8 := [42, 182, 1, 123, 16, 48, 100, 62, 29, 133, 27, 133, 28, 133, 184, 0, 5, 154, 0, 8, 42, 182, 1, 129]
abbrev dktX0_readFigure_0 : List UInt8 := dkwX0_readFigure_0 ++ dktX0_readFigure_1
theorem dksX0_readFigure_0 : cX0_readFigure.data.toList.drop 0 = dktX0_readFigure_0 := by decide +kernel
theorem dksX0_readFigure_1 : cX0_readFigure.data.toList.drop 24 = dktX0_readFigure_1 := dk_seg dksX0_readFigure_0 24 rfl rfl
theorem dX0_readFigure_0 : decode cX0_readFigure 0 = .ok (.aload_n 0, 1) := dk_42 (dk_at dksX0_readFigure_0 0 rfl rfl)
theorem dX0_readFigure_1 : decode cX0_readFigure 1 = .ok (.invokevirtual 379, 3) := dk_182 1 123 (dk_at dksX0_readFigure_0 1 rfl rfl)
theorem dX0_readFigure_4 : decode cX0_readFigure 4 = .ok (.bipush 48, 2) := dk_16 48 (dk_at dksX0_readFigure_0 4 rfl rfl)
theorem dX0_readFigure_6 : decode cX0_readFigure 6 = .ok (.isub, 1) := dk_100 (dk_at dksX0_readFigure_0 6 rfl rfl)
theorem dX0_readFigure_7 : decode cX0_readFigure 7 = .ok (.istore_n 3, 1) := dk_62 (dk_at dksX0_readFigure_0 7 rfl rfl)
theorem dX0_readFigure_8 : decode cX0_readFigure 8 = .ok (.iload_n 3, 1) := dk_29 (dk_at dksX0_readFigure_0 8 rfl rfl)
theorem dX0_readFigure_9 : decode cX0_readFigure 9 = .ok (.i2l, 1) := dk_133 (dk_at dksX0_readFigure_0 9 rfl rfl)
theorem dX0_readFigure_10 : decode cX0_readFigure 10 = .ok (.iload_n 1, 1) := dk_27 (dk_at dksX0_readFigure_0 10 rfl rfl)
theorem dX0_readFigure_11 : decode cX0_readFigure 11 = .ok (.i2l, 1) := dk_133 (dk_at dksX0_readFigure_0 11 rfl rfl)
theorem dX0_readFigure_12 : decode cX0_readFigure 12 = .ok (.iload_n 2, 1) := dk_28 (dk_at dksX0_readFigure_0 12 rfl rfl)
theorem dX0_readFigure_13 : decode cX0_readFigure 13 = .ok (.i2l, 1) := dk_133 (dk_at dksX0_readFigure_0 13 rfl rfl)
theorem dX0_readFigure_14 : decode cX0_readFigure 14 = .ok (.invokestatic 5, 3) := dk_184 0 5 (dk_at dksX0_readFigure_0 14 rfl rfl)
theorem dX0_readFigure_17 : decode cX0_readFigure 17 = .ok (.ifCond .ne 8, 3) := dk_154 0 8 (dk_at dksX0_readFigure_0 17 rfl rfl)
theorem dX0_readFigure_20 : decode cX0_readFigure 20 = .ok (.aload_n 0, 1) := dk_42 (dk_at dksX0_readFigure_0 20 rfl rfl)
theorem dX0_readFigure_21 : decode cX0_readFigure 21 = .ok (.invokevirtual 385, 3) := dk_182 1 129 (dk_at dksX0_readFigure_0 21 rfl rfl)
theorem dX0_readFigure_24 : decode cX0_readFigure 24 = .ok (.athrow, 1) := dk_191 (dk_at dksX0_readFigure_1 0 rfl rfl)
theorem dX0_readFigure_25 : decode cX0_readFigure 25 = .ok (.aload_n 0, 1) := dk_42 (dk_at dksX0_readFigure_1 1 rfl rfl)
theorem dX0_readFigure_26 : decode cX0_readFigure 26 = .ok (.dup, 1) := dk_89 (dk_at dksX0_readFigure_1 2 rfl rfl)
theorem dX0_readFigure_27 : decode cX0_readFigure 27 = .ok (.getfield 374, 3) := dk_180 1 118 (dk_at dksX0_readFigure_1 3 rfl rfl)
theorem dX0_readFigure_30 : decode cX0_readFigure 30 = .ok (.iconst 1, 1) := dk_4 (dk_at dksX0_readFigure_1 6 rfl rfl)
theorem dX0_readFigure_31 : decode cX0_readFigure 31 = .ok (.iadd, 1) := dk_96 (dk_at dksX0_readFigure_1 7 rfl rfl)
theorem dX0_readFigure_32 : decode cX0_readFigure 32 = .ok (.putfield 374, 3) := dk_181 1 118 (dk_at dksX0_readFigure_1 8 rfl rfl)
theorem dX0_readFigure_35 : decode cX0_readFigure 35 = .ok (.iload_n 3, 1) := dk_29 (dk_at dksX0_readFigure_1 11 rfl rfl)
theorem dX0_readFigure_36 : decode cX0_readFigure 36 = .ok (.ireturn, 1) := dk_172 (dk_at dksX0_readFigure_1 12 rfl rfl)
abbrev cX0_isSign : ByteArray := prog_1_method_50_code
def yX0_isSign : MethodName := ⟨RX0, "isSign", "(I)Z"⟩
def dkwX0_isSign_0 : List UInt8 := [42, 182, 1, 123, 27, 159, 0, 5, 3, 172, 42, 89, 180, 1, 118, 4, 96, 181, 1, 118, 4, 172]
abbrev dktX0_isSign_0 : List UInt8 := dkwX0_isSign_0 ++ []
theorem dksX0_isSign_0 : cX0_isSign.data.toList.drop 0 = dktX0_isSign_0 := by decide +kernel
theorem dX0_isSign_0 : decode cX0_isSign 0 = .ok (.aload_n 0, 1) := dk_42 (dk_at dksX0_isSign_0 0 rfl rfl)
theorem dX0_isSign_1 : decode cX0_isSign 1 = .ok (.invokevirtual 379, 3) := dk_182 1 123 (dk_at dksX0_isSign_0 1 rfl rfl)
theorem dX0_isSign_4 : decode cX0_isSign 4 = .ok (.iload_n 1, 1) := dk_27 (dk_at dksX0_isSign_0 4 rfl rfl)
theorem dX0_isSign_5 : decode cX0_isSign 5 = .ok (.if_icmp .eq 5, 3) := dk_159 0 5 (dk_at dksX0_isSign_0 5 rfl rfl)
theorem dX0_isSign_8 : decode cX0_isSign 8 = .ok (.iconst 0, 1) := dk_3 (dk_at dksX0_isSign_0 8 rfl rfl)
theorem dX0_isSign_9 : decode cX0_isSign 9 = .ok (.ireturn, 1) := dk_172 (dk_at dksX0_isSign_0 9 rfl rfl)
theorem dX0_isSign_10 : decode cX0_isSign 10 = .ok (.aload_n 0, 1) := dk_42 (dk_at dksX0_isSign_0 10 rfl rfl)
theorem dX0_isSign_11 : decode cX0_isSign 11 = .ok (.dup, 1) := dk_89 (dk_at dksX0_isSign_0 11 rfl rfl)
theorem dX0_isSign_12 : decode cX0_isSign 12 = .ok (.getfield 374, 3) := dk_180 1 118 (dk_at dksX0_isSign_0 12 rfl rfl)
theorem dX0_isSign_15 : decode cX0_isSign 15 = .ok (.iconst 1, 1) := dk_4 (dk_at dksX0_isSign_0 15 rfl rfl)
theorem dX0_isSign_16 : decode cX0_isSign 16 = .ok (.iadd, 1) := dk_96 (dk_at dksX0_isSign_0 16 rfl rfl)
theorem dX0_isSign_17 : decode cX0_isSign 17 = .ok (.putfield 374, 3) := dk_181 1 118 (dk_at dksX0_isSign_0 17 rfl rfl)
theorem dX0_isSign_20 : decode cX0_isSign 20 = .ok (.iconst 1, 1) := dk_4 (dk_at dksX0_isSign_0 20 rfl rfl)
theorem dX0_isSign_21 : decode cX0_isSign 21 = .ok (.ireturn, 1) := dk_172 (dk_at dksX0_isSign_0 21 rfl rfl)
abbrev cX0_readBook : ByteArray := prog_1_method_54_code
def yX0_readBook : MethodName := ⟨RX0, "readBook", "()V"⟩
def dkwX0_readBook_3 : List UInt8 := [154, 255, 191, 42, 180, 0, 76, 27, 182, 1, 58, 177]
abbrev dktX0_readBook_3 : List UInt8 := dkwX0_readBook_3 ++ []
def dkwX0_readBook_2 : List UInt8 := [16, 97, 100, 120, 128, 60, 42, 89, 180, 1, 118, 4, 96, 181, 1, 118, 42, 16, 97, 16, 122, 182, 1, 133]
abbrev dktX0_readBook_2 : List UInt8 := dkwX0_readBook_2 ++ dktX0_readBook_3
def dkwX0_readBook_1 : List UInt8 := [182, 1, 133, 154, 0, 8, 42, 182, 1, 129, 191, 27, 4, 42, 180, 0, 72, 42, 180, 1, 118, 182, 1, 122]
abbrev dktX0_readBook_1 : List UInt8 := dkwX0_readBook_1 ++ dktX0_readBook_2
def dkwX0_readBook_0 : List UInt8 := [42, 182, 1, 123, 87, 3, 60, 42, 180, 0, 76, 182, 0, 97, 16, 7, 159, 0, 14, 42, 16, 97, 16, 116]
abbrev dktX0_readBook_0 : List UInt8 := dkwX0_readBook_0 ++ dktX0_readBook_1
theorem dksX0_readBook_0 : cX0_readBook.data.toList.drop 0 = dktX0_readBook_0 := by decide +kernel
theorem dksX0_readBook_1 : cX0_readBook.data.toList.drop 24 = dktX0_readBook_1 := dk_seg dksX0_readBook_0 24 rfl rfl
theorem dksX0_readBook_2 : cX0_readBook.data.toList.drop 48 = dktX0_readBook_2 := dk_seg dksX0_readBook_1 24 rfl rfl
theorem dksX0_readBook_3 : cX0_readBook.data.toList.drop 72 = dktX0_readBook_3 := dk_seg dksX0_readBook_2 24 rfl rfl
theorem dX0_readBook_0 : decode cX0_readBook 0 = .ok (.aload_n 0, 1) := dk_42 (dk_at dksX0_readBook_0 0 rfl rfl)
theorem dX0_readBook_1 : decode cX0_readBook 1 = .ok (.invokevirtual 379, 3) := dk_182 1 123 (dk_at dksX0_readBook_0 1 rfl rfl)
theorem dX0_readBook_4 : decode cX0_readBook 4 = .ok (.pop, 1) := dk_87 (dk_at dksX0_readBook_0 4 rfl rfl)
theorem dX0_readBook_5 : decode cX0_readBook 5 = .ok (.iconst 0, 1) := dk_3 (dk_at dksX0_readBook_0 5 rfl rfl)
theorem dX0_readBook_6 : decode cX0_readBook 6 = .ok (.istore_n 1, 1) := dk_60 (dk_at dksX0_readBook_0 6 rfl rfl)
theorem dX0_readBook_7 : decode cX0_readBook 7 = .ok (.aload_n 0, 1) := dk_42 (dk_at dksX0_readBook_0 7 rfl rfl)
theorem dX0_readBook_8 : decode cX0_readBook 8 = .ok (.getfield 76, 3) := dk_180 0 76 (dk_at dksX0_readBook_0 8 rfl rfl)
theorem dX0_readBook_11 : decode cX0_readBook 11 = .ok (.invokevirtual 97, 3) := dk_182 0 97 (dk_at dksX0_readBook_0 11 rfl rfl)
theorem dX0_readBook_14 : decode cX0_readBook 14 = .ok (.bipush 7, 2) := dk_16 7 (dk_at dksX0_readBook_0 14 rfl rfl)
theorem dX0_readBook_16 : decode cX0_readBook 16 = .ok (.if_icmp .eq 14, 3) := dk_159 0 14 (dk_at dksX0_readBook_0 16 rfl rfl)
theorem dX0_readBook_19 : decode cX0_readBook 19 = .ok (.aload_n 0, 1) := dk_42 (dk_at dksX0_readBook_0 19 rfl rfl)
theorem dX0_readBook_20 : decode cX0_readBook 20 = .ok (.bipush 97, 2) := dk_16 97 (dk_at dksX0_readBook_0 20 rfl rfl)
theorem dX0_readBook_22 : decode cX0_readBook 22 = .ok (.bipush 116, 2) := dk_16 116 (dk_at dksX0_readBook_0 22 rfl rfl)
theorem dX0_readBook_24 : decode cX0_readBook 24 = .ok (.invokevirtual 389, 3) := dk_182 1 133 (dk_at dksX0_readBook_1 0 rfl rfl)
theorem dX0_readBook_27 : decode cX0_readBook 27 = .ok (.ifCond .ne 8, 3) := dk_154 0 8 (dk_at dksX0_readBook_1 3 rfl rfl)
theorem dX0_readBook_30 : decode cX0_readBook 30 = .ok (.aload_n 0, 1) := dk_42 (dk_at dksX0_readBook_1 6 rfl rfl)
theorem dX0_readBook_31 : decode cX0_readBook 31 = .ok (.invokevirtual 385, 3) := dk_182 1 129 (dk_at dksX0_readBook_1 7 rfl rfl)
theorem dX0_readBook_34 : decode cX0_readBook 34 = .ok (.athrow, 1) := dk_191 (dk_at dksX0_readBook_1 10 rfl rfl)
theorem dX0_readBook_35 : decode cX0_readBook 35 = .ok (.iload_n 1, 1) := dk_27 (dk_at dksX0_readBook_1 11 rfl rfl)
theorem dX0_readBook_36 : decode cX0_readBook 36 = .ok (.iconst 1, 1) := dk_4 (dk_at dksX0_readBook_1 12 rfl rfl)
theorem dX0_readBook_37 : decode cX0_readBook 37 = .ok (.aload_n 0, 1) := dk_42 (dk_at dksX0_readBook_1 13 rfl rfl)
theorem dX0_readBook_38 : decode cX0_readBook 38 = .ok (.getfield 72, 3) := dk_180 0 72 (dk_at dksX0_readBook_1 14 rfl rfl)
theorem dX0_readBook_41 : decode cX0_readBook 41 = .ok (.aload_n 0, 1) := dk_42 (dk_at dksX0_readBook_1 17 rfl rfl)
theorem dX0_readBook_42 : decode cX0_readBook 42 = .ok (.getfield 374, 3) := dk_180 1 118 (dk_at dksX0_readBook_1 18 rfl rfl)
theorem dX0_readBook_45 : decode cX0_readBook 45 = .ok (.invokevirtual 378, 3) := dk_182 1 122 (dk_at dksX0_readBook_1 21 rfl rfl)
theorem dX0_readBook_48 : decode cX0_readBook 48 = .ok (.bipush 97, 2) := dk_16 97 (dk_at dksX0_readBook_2 0 rfl rfl)
theorem dX0_readBook_50 : decode cX0_readBook 50 = .ok (.isub, 1) := dk_100 (dk_at dksX0_readBook_2 2 rfl rfl)
theorem dX0_readBook_51 : decode cX0_readBook 51 = .ok (.ishl, 1) := dk_120 (dk_at dksX0_readBook_2 3 rfl rfl)
theorem dX0_readBook_52 : decode cX0_readBook 52 = .ok (.ior, 1) := dk_128 (dk_at dksX0_readBook_2 4 rfl rfl)
theorem dX0_readBook_53 : decode cX0_readBook 53 = .ok (.istore_n 1, 1) := dk_60 (dk_at dksX0_readBook_2 5 rfl rfl)
theorem dX0_readBook_54 : decode cX0_readBook 54 = .ok (.aload_n 0, 1) := dk_42 (dk_at dksX0_readBook_2 6 rfl rfl)
theorem dX0_readBook_55 : decode cX0_readBook 55 = .ok (.dup, 1) := dk_89 (dk_at dksX0_readBook_2 7 rfl rfl)
theorem dX0_readBook_56 : decode cX0_readBook 56 = .ok (.getfield 374, 3) := dk_180 1 118 (dk_at dksX0_readBook_2 8 rfl rfl)
theorem dX0_readBook_59 : decode cX0_readBook 59 = .ok (.iconst 1, 1) := dk_4 (dk_at dksX0_readBook_2 11 rfl rfl)
theorem dX0_readBook_60 : decode cX0_readBook 60 = .ok (.iadd, 1) := dk_96 (dk_at dksX0_readBook_2 12 rfl rfl)
theorem dX0_readBook_61 : decode cX0_readBook 61 = .ok (.putfield 374, 3) := dk_181 1 118 (dk_at dksX0_readBook_2 13 rfl rfl)
theorem dX0_readBook_64 : decode cX0_readBook 64 = .ok (.aload_n 0, 1) := dk_42 (dk_at dksX0_readBook_2 16 rfl rfl)
theorem dX0_readBook_65 : decode cX0_readBook 65 = .ok (.bipush 97, 2) := dk_16 97 (dk_at dksX0_readBook_2 17 rfl rfl)
theorem dX0_readBook_67 : decode cX0_readBook 67 = .ok (.bipush 122, 2) := dk_16 122 (dk_at dksX0_readBook_2 19 rfl rfl)
theorem dX0_readBook_69 : decode cX0_readBook 69 = .ok (.invokevirtual 389, 3) := dk_182 1 133 (dk_at dksX0_readBook_2 21 rfl rfl)
theorem dX0_readBook_72 : decode cX0_readBook 72 = .ok (.ifCond .ne (-65), 3) := dk_154 255 191 (dk_at dksX0_readBook_3 0 rfl rfl)
theorem dX0_readBook_75 : decode cX0_readBook 75 = .ok (.aload_n 0, 1) := dk_42 (dk_at dksX0_readBook_3 3 rfl rfl)
theorem dX0_readBook_76 : decode cX0_readBook 76 = .ok (.getfield 76, 3) := dk_180 0 76 (dk_at dksX0_readBook_3 4 rfl rfl)
theorem dX0_readBook_79 : decode cX0_readBook 79 = .ok (.iload_n 1, 1) := dk_27 (dk_at dksX0_readBook_3 7 rfl rfl)
theorem dX0_readBook_80 : decode cX0_readBook 80 = .ok (.invokevirtual 314, 3) := dk_182 1 58 (dk_at dksX0_readBook_3 8 rfl rfl)
theorem dX0_readBook_83 : decode cX0_readBook 83 = .ok (.return_, 1) := dk_177 (dk_at dksX0_readBook_3 11 rfl rfl)
abbrev cX0_readAhead : ByteArray := prog_1_method_55_code
def yX0_readAhead : MethodName := ⟨RX0, "readAhead", "()V"⟩
def dkwX0_readAhead_4 : List UInt8 := [51, 4, 28, 120, 128, 145, 84, 177]
abbrev dktX0_readAhead_4 : List UInt8 := dkwX0_readAhead_4 ++ []
def dkwX0_readAhead_3 : List UInt8 := [42, 182, 1, 129, 191, 42, 89, 180, 1, 118, 4, 96, 181, 1, 118, 42, 180, 0, 76, 180, 0, 172, 27, 92]
abbrev dktX0_readAhead_3 : List UInt8 := dkwX0_readAhead_3 ++ dktX0_readAhead_4
def dkwX0_readAhead_2 : List UInt8 := [180, 0, 172, 27, 51, 28, 184, 0, 108, 154, 0, 15, 42, 180, 0, 76, 27, 28, 182, 1, 64, 154, 0, 8]
abbrev dktX0_readAhead_2 : List UInt8 := dkwX0_readAhead_2 ++ dktX0_readAhead_3
def dkwX0_readAhead_1 : List UInt8 := [133, 9, 42, 180, 0, 76, 182, 0, 97, 4, 100, 133, 184, 0, 5, 153, 0, 31, 42, 180, 0, 76]
abbrev dktX0_readAhead_1 : List UInt8 := dkwX0_readAhead_1 ++ dktX0_readAhead_2
def dkwX0_readAhead_0 : List UInt8 := [42, 3, 42, 180, 0, 76, 182, 0, 97, 4, 100, 182, 1, 157, 60, 42, 182, 1, 123, 16, 48, 100, 61, 28]
abbrev dktX0_readAhead_0 : List UInt8 := dkwX0_readAhead_0 ++ dktX0_readAhead_1
theorem dksX0_readAhead_0 : cX0_readAhead.data.toList.drop 0 = dktX0_readAhead_0 := by decide +kernel
theorem dksX0_readAhead_1 : cX0_readAhead.data.toList.drop 24 = dktX0_readAhead_1 := dk_seg dksX0_readAhead_0 24 rfl rfl
theorem dksX0_readAhead_2 : cX0_readAhead.data.toList.drop 46 = dktX0_readAhead_2 := dk_seg dksX0_readAhead_1 22 rfl rfl
theorem dksX0_readAhead_3 : cX0_readAhead.data.toList.drop 70 = dktX0_readAhead_3 := dk_seg dksX0_readAhead_2 24 rfl rfl
theorem dksX0_readAhead_4 : cX0_readAhead.data.toList.drop 94 = dktX0_readAhead_4 := dk_seg dksX0_readAhead_3 24 rfl rfl
theorem dX0_readAhead_0 : decode cX0_readAhead 0 = .ok (.aload_n 0, 1) := dk_42 (dk_at dksX0_readAhead_0 0 rfl rfl)
theorem dX0_readAhead_1 : decode cX0_readAhead 1 = .ok (.iconst 0, 1) := dk_3 (dk_at dksX0_readAhead_0 1 rfl rfl)
theorem dX0_readAhead_2 : decode cX0_readAhead 2 = .ok (.aload_n 0, 1) := dk_42 (dk_at dksX0_readAhead_0 2 rfl rfl)
theorem dX0_readAhead_3 : decode cX0_readAhead 3 = .ok (.getfield 76, 3) := dk_180 0 76 (dk_at dksX0_readAhead_0 3 rfl rfl)
theorem dX0_readAhead_6 : decode cX0_readAhead 6 = .ok (.invokevirtual 97, 3) := dk_182 0 97 (dk_at dksX0_readAhead_0 6 rfl rfl)
theorem dX0_readAhead_9 : decode cX0_readAhead 9 = .ok (.iconst 1, 1) := dk_4 (dk_at dksX0_readAhead_0 9 rfl rfl)
theorem dX0_readAhead_10 : decode cX0_readAhead 10 = .ok (.isub, 1) := dk_100 (dk_at dksX0_readAhead_0 10 rfl rfl)
theorem dX0_readAhead_11 : decode cX0_readAhead 11 = .ok (.invokevirtual 413, 3) := dk_182 1 157 (dk_at dksX0_readAhead_0 11 rfl rfl)
theorem dX0_readAhead_14 : decode cX0_readAhead 14 = .ok (.istore_n 1, 1) := dk_60 (dk_at dksX0_readAhead_0 14 rfl rfl)
theorem dX0_readAhead_15 : decode cX0_readAhead 15 = .ok (.aload_n 0, 1) := dk_42 (dk_at dksX0_readAhead_0 15 rfl rfl)
theorem dX0_readAhead_16 : decode cX0_readAhead 16 = .ok (.invokevirtual 379, 3) := dk_182 1 123 (dk_at dksX0_readAhead_0 16 rfl rfl)
theorem dX0_readAhead_19 : decode cX0_readAhead 19 = .ok (.bipush 48, 2) := dk_16 48 (dk_at dksX0_readAhead_0 19 rfl rfl)
theorem dX0_readAhead_21 : decode cX0_readAhead 21 = .ok (.isub, 1) := dk_100 (dk_at dksX0_readAhead_0 21 rfl rfl)
theorem dX0_readAhead_22 : decode cX0_readAhead 22 = .ok (.istore_n 2, 1) := dk_61 (dk_at dksX0_readAhead_0 22 rfl rfl)
theorem dX0_readAhead_23 : decode cX0_readAhead 23 = .ok (.iload_n 2, 1) := dk_28 (dk_at dksX0_readAhead_0 23 rfl rfl)
theorem dX0_readAhead_24 : decode cX0_readAhead 24 = .ok (.i2l, 1) := dk_133 (dk_at dksX0_readAhead_1 0 rfl rfl)
theorem dX0_readAhead_25 : decode cX0_readAhead 25 = .ok (.lconst 0, 1) := dk_9 (dk_at dksX0_readAhead_1 1 rfl rfl)
theorem dX0_readAhead_26 : decode cX0_readAhead 26 = .ok (.aload_n 0, 1) := dk_42 (dk_at dksX0_readAhead_1 2 rfl rfl)
theorem dX0_readAhead_27 : decode cX0_readAhead 27 = .ok (.getfield 76, 3) := dk_180 0 76 (dk_at dksX0_readAhead_1 3 rfl rfl)
theorem dX0_readAhead_30 : decode cX0_readAhead 30 = .ok (.invokevirtual 97, 3) := dk_182 0 97 (dk_at dksX0_readAhead_1 6 rfl rfl)
theorem dX0_readAhead_33 : decode cX0_readAhead 33 = .ok (.iconst 1, 1) := dk_4 (dk_at dksX0_readAhead_1 9 rfl rfl)
theorem dX0_readAhead_34 : decode cX0_readAhead 34 = .ok (.isub, 1) := dk_100 (dk_at dksX0_readAhead_1 10 rfl rfl)
theorem dX0_readAhead_35 : decode cX0_readAhead 35 = .ok (.i2l, 1) := dk_133 (dk_at dksX0_readAhead_1 11 rfl rfl)
theorem dX0_readAhead_36 : decode cX0_readAhead 36 = .ok (.invokestatic 5, 3) := dk_184 0 5 (dk_at dksX0_readAhead_1 12 rfl rfl)
theorem dX0_readAhead_39 : decode cX0_readAhead 39 = .ok (.ifCond .eq 31, 3) := dk_153 0 31 (dk_at dksX0_readAhead_1 15 rfl rfl)
theorem dX0_readAhead_42 : decode cX0_readAhead 42 = .ok (.aload_n 0, 1) := dk_42 (dk_at dksX0_readAhead_1 18 rfl rfl)
theorem dX0_readAhead_43 : decode cX0_readAhead 43 = .ok (.getfield 76, 3) := dk_180 0 76 (dk_at dksX0_readAhead_1 19 rfl rfl)
theorem dX0_readAhead_46 : decode cX0_readAhead 46 = .ok (.getfield 172, 3) := dk_180 0 172 (dk_at dksX0_readAhead_2 0 rfl rfl)
theorem dX0_readAhead_49 : decode cX0_readAhead 49 = .ok (.iload_n 1, 1) := dk_27 (dk_at dksX0_readAhead_2 3 rfl rfl)
theorem dX0_readAhead_50 : decode cX0_readAhead 50 = .ok (.baload, 1) := dk_51 (dk_at dksX0_readAhead_2 4 rfl rfl)
theorem dX0_readAhead_51 : decode cX0_readAhead 51 = .ok (.iload_n 2, 1) := dk_28 (dk_at dksX0_readAhead_2 5 rfl rfl)
theorem dX0_readAhead_52 : decode cX0_readAhead 52 = .ok (.invokestatic 108, 3) := dk_184 0 108 (dk_at dksX0_readAhead_2 6 rfl rfl)
theorem dX0_readAhead_55 : decode cX0_readAhead 55 = .ok (.ifCond .ne 15, 3) := dk_154 0 15 (dk_at dksX0_readAhead_2 9 rfl rfl)
theorem dX0_readAhead_58 : decode cX0_readAhead 58 = .ok (.aload_n 0, 1) := dk_42 (dk_at dksX0_readAhead_2 12 rfl rfl)
theorem dX0_readAhead_59 : decode cX0_readAhead 59 = .ok (.getfield 76, 3) := dk_180 0 76 (dk_at dksX0_readAhead_2 13 rfl rfl)
theorem dX0_readAhead_62 : decode cX0_readAhead 62 = .ok (.iload_n 1, 1) := dk_27 (dk_at dksX0_readAhead_2 16 rfl rfl)
theorem dX0_readAhead_63 : decode cX0_readAhead 63 = .ok (.iload_n 2, 1) := dk_28 (dk_at dksX0_readAhead_2 17 rfl rfl)
theorem dX0_readAhead_64 : decode cX0_readAhead 64 = .ok (.invokevirtual 320, 3) := dk_182 1 64 (dk_at dksX0_readAhead_2 18 rfl rfl)
theorem dX0_readAhead_67 : decode cX0_readAhead 67 = .ok (.ifCond .ne 8, 3) := dk_154 0 8 (dk_at dksX0_readAhead_2 21 rfl rfl)
theorem dX0_readAhead_70 : decode cX0_readAhead 70 = .ok (.aload_n 0, 1) := dk_42 (dk_at dksX0_readAhead_3 0 rfl rfl)
theorem dX0_readAhead_71 : decode cX0_readAhead 71 = .ok (.invokevirtual 385, 3) := dk_182 1 129 (dk_at dksX0_readAhead_3 1 rfl rfl)
theorem dX0_readAhead_74 : decode cX0_readAhead 74 = .ok (.athrow, 1) := dk_191 (dk_at dksX0_readAhead_3 4 rfl rfl)
theorem dX0_readAhead_75 : decode cX0_readAhead 75 = .ok (.aload_n 0, 1) := dk_42 (dk_at dksX0_readAhead_3 5 rfl rfl)
theorem dX0_readAhead_76 : decode cX0_readAhead 76 = .ok (.dup, 1) := dk_89 (dk_at dksX0_readAhead_3 6 rfl rfl)
theorem dX0_readAhead_77 : decode cX0_readAhead 77 = .ok (.getfield 374, 3) := dk_180 1 118 (dk_at dksX0_readAhead_3 7 rfl rfl)
theorem dX0_readAhead_80 : decode cX0_readAhead 80 = .ok (.iconst 1, 1) := dk_4 (dk_at dksX0_readAhead_3 10 rfl rfl)
theorem dX0_readAhead_81 : decode cX0_readAhead 81 = .ok (.iadd, 1) := dk_96 (dk_at dksX0_readAhead_3 11 rfl rfl)
theorem dX0_readAhead_82 : decode cX0_readAhead 82 = .ok (.putfield 374, 3) := dk_181 1 118 (dk_at dksX0_readAhead_3 12 rfl rfl)
theorem dX0_readAhead_85 : decode cX0_readAhead 85 = .ok (.aload_n 0, 1) := dk_42 (dk_at dksX0_readAhead_3 15 rfl rfl)
theorem dX0_readAhead_86 : decode cX0_readAhead 86 = .ok (.getfield 76, 3) := dk_180 0 76 (dk_at dksX0_readAhead_3 16 rfl rfl)
theorem dX0_readAhead_89 : decode cX0_readAhead 89 = .ok (.getfield 172, 3) := dk_180 0 172 (dk_at dksX0_readAhead_3 19 rfl rfl)
theorem dX0_readAhead_92 : decode cX0_readAhead 92 = .ok (.iload_n 1, 1) := dk_27 (dk_at dksX0_readAhead_3 22 rfl rfl)
theorem dX0_readAhead_93 : decode cX0_readAhead 93 = .ok (.dup2, 1) := dk_92 (dk_at dksX0_readAhead_3 23 rfl rfl)
theorem dX0_readAhead_94 : decode cX0_readAhead 94 = .ok (.baload, 1) := dk_51 (dk_at dksX0_readAhead_4 0 rfl rfl)
theorem dX0_readAhead_95 : decode cX0_readAhead 95 = .ok (.iconst 1, 1) := dk_4 (dk_at dksX0_readAhead_4 1 rfl rfl)
theorem dX0_readAhead_96 : decode cX0_readAhead 96 = .ok (.iload_n 2, 1) := dk_28 (dk_at dksX0_readAhead_4 2 rfl rfl)
theorem dX0_readAhead_97 : decode cX0_readAhead 97 = .ok (.ishl, 1) := dk_120 (dk_at dksX0_readAhead_4 3 rfl rfl)
theorem dX0_readAhead_98 : decode cX0_readAhead 98 = .ok (.ior, 1) := dk_128 (dk_at dksX0_readAhead_4 4 rfl rfl)
theorem dX0_readAhead_99 : decode cX0_readAhead 99 = .ok (.i2b, 1) := dk_145 (dk_at dksX0_readAhead_4 5 rfl rfl)
theorem dX0_readAhead_100 : decode cX0_readAhead 100 = .ok (.bastore, 1) := dk_84 (dk_at dksX0_readAhead_4 6 rfl rfl)
theorem dX0_readAhead_101 : decode cX0_readAhead 101 = .ok (.return_, 1) := dk_177 (dk_at dksX0_readAhead_4 7 rfl rfl)
abbrev cX0_image : ByteArray := prog_1_method_58_code
def yX0_image : MethodName := ⟨RX0, "image", "()I"⟩
def dkwX0_image_2 : List UInt8 := [180, 1, 2, 181, 1, 176, 42, 4, 181, 1, 179, 4, 172]
abbrev dktX0_image_2 : List UInt8 := dkwX0_image_2 ++ []
def dkwX0_image_1 : List UInt8 := [180, 0, 82, 27, 50, 42, 180, 0, 58, 27, 50, 182, 1, 48, 132, 1, 1, 167, 255, 230, 42, 42]
abbrev dktX0_image_1 : List UInt8 := dkwX0_image_1 ++ dktX0_image_2
def dkwX0_image_0 : List UInt8 := [42, 180, 0, 79, 42, 180, 0, 18, 182, 1, 48, 3, 60, 27, 42, 180, 1, 2, 162, 0, 24, 42]
abbrev dktX0_image_0 : List UInt8 := dkwX0_image_0 ++ dktX0_image_1
theorem dksX0_image_0 : cX0_image.data.toList.drop 0 = dktX0_image_0 := by decide +kernel
theorem dksX0_image_1 : cX0_image.data.toList.drop 22 = dktX0_image_1 := dk_seg dksX0_image_0 22 rfl rfl
theorem dksX0_image_2 : cX0_image.data.toList.drop 44 = dktX0_image_2 := dk_seg dksX0_image_1 22 rfl rfl
theorem dX0_image_0 : decode cX0_image 0 = .ok (.aload_n 0, 1) := dk_42 (dk_at dksX0_image_0 0 rfl rfl)
theorem dX0_image_1 : decode cX0_image 1 = .ok (.getfield 79, 3) := dk_180 0 79 (dk_at dksX0_image_0 1 rfl rfl)
theorem dX0_image_4 : decode cX0_image 4 = .ok (.aload_n 0, 1) := dk_42 (dk_at dksX0_image_0 4 rfl rfl)
theorem dX0_image_5 : decode cX0_image 5 = .ok (.getfield 18, 3) := dk_180 0 18 (dk_at dksX0_image_0 5 rfl rfl)
theorem dX0_image_8 : decode cX0_image 8 = .ok (.invokevirtual 304, 3) := dk_182 1 48 (dk_at dksX0_image_0 8 rfl rfl)
theorem dX0_image_11 : decode cX0_image 11 = .ok (.iconst 0, 1) := dk_3 (dk_at dksX0_image_0 11 rfl rfl)
theorem dX0_image_12 : decode cX0_image 12 = .ok (.istore_n 1, 1) := dk_60 (dk_at dksX0_image_0 12 rfl rfl)
theorem dX0_image_13 : decode cX0_image 13 = .ok (.iload_n 1, 1) := dk_27 (dk_at dksX0_image_0 13 rfl rfl)
theorem dX0_image_14 : decode cX0_image 14 = .ok (.aload_n 0, 1) := dk_42 (dk_at dksX0_image_0 14 rfl rfl)
theorem dX0_image_15 : decode cX0_image 15 = .ok (.getfield 258, 3) := dk_180 1 2 (dk_at dksX0_image_0 15 rfl rfl)
theorem dX0_image_18 : decode cX0_image 18 = .ok (.if_icmp .ge 24, 3) := dk_162 0 24 (dk_at dksX0_image_0 18 rfl rfl)
theorem dX0_image_21 : decode cX0_image 21 = .ok (.aload_n 0, 1) := dk_42 (dk_at dksX0_image_0 21 rfl rfl)
theorem dX0_image_22 : decode cX0_image 22 = .ok (.getfield 82, 3) := dk_180 0 82 (dk_at dksX0_image_1 0 rfl rfl)
theorem dX0_image_25 : decode cX0_image 25 = .ok (.iload_n 1, 1) := dk_27 (dk_at dksX0_image_1 3 rfl rfl)
theorem dX0_image_26 : decode cX0_image 26 = .ok (.aaload, 1) := dk_50 (dk_at dksX0_image_1 4 rfl rfl)
theorem dX0_image_27 : decode cX0_image 27 = .ok (.aload_n 0, 1) := dk_42 (dk_at dksX0_image_1 5 rfl rfl)
theorem dX0_image_28 : decode cX0_image 28 = .ok (.getfield 58, 3) := dk_180 0 58 (dk_at dksX0_image_1 6 rfl rfl)
theorem dX0_image_31 : decode cX0_image 31 = .ok (.iload_n 1, 1) := dk_27 (dk_at dksX0_image_1 9 rfl rfl)
theorem dX0_image_32 : decode cX0_image 32 = .ok (.aaload, 1) := dk_50 (dk_at dksX0_image_1 10 rfl rfl)
theorem dX0_image_33 : decode cX0_image 33 = .ok (.invokevirtual 304, 3) := dk_182 1 48 (dk_at dksX0_image_1 11 rfl rfl)
theorem dX0_image_36 : decode cX0_image 36 = .ok (.iinc 1 1, 3) := dk_132 1 1 (dk_at dksX0_image_1 14 rfl rfl)
theorem dX0_image_39 : decode cX0_image 39 = .ok (.goto (-26), 3) := dk_167 255 230 (dk_at dksX0_image_1 17 rfl rfl)
theorem dX0_image_42 : decode cX0_image 42 = .ok (.aload_n 0, 1) := dk_42 (dk_at dksX0_image_1 20 rfl rfl)
theorem dX0_image_43 : decode cX0_image 43 = .ok (.aload_n 0, 1) := dk_42 (dk_at dksX0_image_1 21 rfl rfl)
theorem dX0_image_44 : decode cX0_image 44 = .ok (.getfield 258, 3) := dk_180 1 2 (dk_at dksX0_image_2 0 rfl rfl)
theorem dX0_image_47 : decode cX0_image 47 = .ok (.putfield 432, 3) := dk_181 1 176 (dk_at dksX0_image_2 3 rfl rfl)
theorem dX0_image_50 : decode cX0_image 50 = .ok (.aload_n 0, 1) := dk_42 (dk_at dksX0_image_2 6 rfl rfl)
theorem dX0_image_51 : decode cX0_image 51 = .ok (.iconst 1, 1) := dk_4 (dk_at dksX0_image_2 7 rfl rfl)
theorem dX0_image_52 : decode cX0_image 52 = .ok (.putfield 435, 3) := dk_181 1 179 (dk_at dksX0_image_2 8 rfl rfl)
theorem dX0_image_55 : decode cX0_image 55 = .ok (.iconst 1, 1) := dk_4 (dk_at dksX0_image_2 11 rfl rfl)
theorem dX0_image_56 : decode cX0_image 56 = .ok (.ireturn, 1) := dk_172 (dk_at dksX0_image_2 12 rfl rfl)
abbrev cX0_restore : ByteArray := prog_1_method_59_code
def yX0_restore : MethodName := ⟨RX0, "restore", "()I"⟩
def dkwX0_restore_2 : List UInt8 := [132, 1, 1, 167, 255, 230, 42, 42, 180, 1, 176, 181, 1, 2, 4, 172]
abbrev dktX0_restore_2 : List UInt8 := dkwX0_restore_2 ++ []
def dkwX0_restore_1 : List UInt8 := [42, 180, 1, 176, 162, 0, 24, 42, 180, 0, 58, 27, 50, 42, 180, 0, 82, 27, 50, 182, 1, 48]
abbrev dktX0_restore_1 : List UInt8 := dkwX0_restore_1 ++ dktX0_restore_2
def dkwX0_restore_0 : List UInt8 := [42, 180, 1, 179, 154, 0, 6, 16, 252, 172, 42, 180, 0, 18, 42, 180, 0, 79, 182, 1, 48, 3, 60, 27]
abbrev dktX0_restore_0 : List UInt8 := dkwX0_restore_0 ++ dktX0_restore_1
theorem dksX0_restore_0 : cX0_restore.data.toList.drop 0 = dktX0_restore_0 := by decide +kernel
theorem dksX0_restore_1 : cX0_restore.data.toList.drop 24 = dktX0_restore_1 := dk_seg dksX0_restore_0 24 rfl rfl
theorem dksX0_restore_2 : cX0_restore.data.toList.drop 46 = dktX0_restore_2 := dk_seg dksX0_restore_1 22 rfl rfl
theorem dX0_restore_0 : decode cX0_restore 0 = .ok (.aload_n 0, 1) := dk_42 (dk_at dksX0_restore_0 0 rfl rfl)
theorem dX0_restore_1 : decode cX0_restore 1 = .ok (.getfield 435, 3) := dk_180 1 179 (dk_at dksX0_restore_0 1 rfl rfl)
theorem dX0_restore_4 : decode cX0_restore 4 = .ok (.ifCond .ne 6, 3) := dk_154 0 6 (dk_at dksX0_restore_0 4 rfl rfl)
theorem dX0_restore_7 : decode cX0_restore 7 = .ok (.bipush (-4), 2) := dk_16 252 (dk_at dksX0_restore_0 7 rfl rfl)
theorem dX0_restore_9 : decode cX0_restore 9 = .ok (.ireturn, 1) := dk_172 (dk_at dksX0_restore_0 9 rfl rfl)
theorem dX0_restore_10 : decode cX0_restore 10 = .ok (.aload_n 0, 1) := dk_42 (dk_at dksX0_restore_0 10 rfl rfl)
theorem dX0_restore_11 : decode cX0_restore 11 = .ok (.getfield 18, 3) := dk_180 0 18 (dk_at dksX0_restore_0 11 rfl rfl)
theorem dX0_restore_14 : decode cX0_restore 14 = .ok (.aload_n 0, 1) := dk_42 (dk_at dksX0_restore_0 14 rfl rfl)
theorem dX0_restore_15 : decode cX0_restore 15 = .ok (.getfield 79, 3) := dk_180 0 79 (dk_at dksX0_restore_0 15 rfl rfl)
theorem dX0_restore_18 : decode cX0_restore 18 = .ok (.invokevirtual 304, 3) := dk_182 1 48 (dk_at dksX0_restore_0 18 rfl rfl)
theorem dX0_restore_21 : decode cX0_restore 21 = .ok (.iconst 0, 1) := dk_3 (dk_at dksX0_restore_0 21 rfl rfl)
theorem dX0_restore_22 : decode cX0_restore 22 = .ok (.istore_n 1, 1) := dk_60 (dk_at dksX0_restore_0 22 rfl rfl)
theorem dX0_restore_23 : decode cX0_restore 23 = .ok (.iload_n 1, 1) := dk_27 (dk_at dksX0_restore_0 23 rfl rfl)
theorem dX0_restore_24 : decode cX0_restore 24 = .ok (.aload_n 0, 1) := dk_42 (dk_at dksX0_restore_1 0 rfl rfl)
theorem dX0_restore_25 : decode cX0_restore 25 = .ok (.getfield 432, 3) := dk_180 1 176 (dk_at dksX0_restore_1 1 rfl rfl)
theorem dX0_restore_28 : decode cX0_restore 28 = .ok (.if_icmp .ge 24, 3) := dk_162 0 24 (dk_at dksX0_restore_1 4 rfl rfl)
theorem dX0_restore_31 : decode cX0_restore 31 = .ok (.aload_n 0, 1) := dk_42 (dk_at dksX0_restore_1 7 rfl rfl)
theorem dX0_restore_32 : decode cX0_restore 32 = .ok (.getfield 58, 3) := dk_180 0 58 (dk_at dksX0_restore_1 8 rfl rfl)
theorem dX0_restore_35 : decode cX0_restore 35 = .ok (.iload_n 1, 1) := dk_27 (dk_at dksX0_restore_1 11 rfl rfl)
theorem dX0_restore_36 : decode cX0_restore 36 = .ok (.aaload, 1) := dk_50 (dk_at dksX0_restore_1 12 rfl rfl)
theorem dX0_restore_37 : decode cX0_restore 37 = .ok (.aload_n 0, 1) := dk_42 (dk_at dksX0_restore_1 13 rfl rfl)
theorem dX0_restore_38 : decode cX0_restore 38 = .ok (.getfield 82, 3) := dk_180 0 82 (dk_at dksX0_restore_1 14 rfl rfl)
theorem dX0_restore_41 : decode cX0_restore 41 = .ok (.iload_n 1, 1) := dk_27 (dk_at dksX0_restore_1 17 rfl rfl)
theorem dX0_restore_42 : decode cX0_restore 42 = .ok (.aaload, 1) := dk_50 (dk_at dksX0_restore_1 18 rfl rfl)
theorem dX0_restore_43 : decode cX0_restore 43 = .ok (.invokevirtual 304, 3) := dk_182 1 48 (dk_at dksX0_restore_1 19 rfl rfl)
theorem dX0_restore_46 : decode cX0_restore 46 = .ok (.iinc 1 1, 3) := dk_132 1 1 (dk_at dksX0_restore_2 0 rfl rfl)
theorem dX0_restore_49 : decode cX0_restore 49 = .ok (.goto (-26), 3) := dk_167 255 230 (dk_at dksX0_restore_2 3 rfl rfl)
theorem dX0_restore_52 : decode cX0_restore 52 = .ok (.aload_n 0, 1) := dk_42 (dk_at dksX0_restore_2 6 rfl rfl)
theorem dX0_restore_53 : decode cX0_restore 53 = .ok (.aload_n 0, 1) := dk_42 (dk_at dksX0_restore_2 7 rfl rfl)
theorem dX0_restore_54 : decode cX0_restore 54 = .ok (.getfield 432, 3) := dk_180 1 176 (dk_at dksX0_restore_2 8 rfl rfl)
theorem dX0_restore_57 : decode cX0_restore 57 = .ok (.putfield 258, 3) := dk_181 1 2 (dk_at dksX0_restore_2 11 rfl rfl)
theorem dX0_restore_60 : decode cX0_restore 60 = .ok (.iconst 1, 1) := dk_4 (dk_at dksX0_restore_2 14 rfl rfl)
theorem dX0_restore_61 : decode cX0_restore 61 = .ok (.ireturn, 1) := dk_172 (dk_at dksX0_restore_2 15 rfl rfl)
abbrev cX0_seen : ByteArray := prog_1_method_62_code
def yX0_seen : MethodName := ⟨RX0, "seen", "(III)I"⟩
def dkwX0_seen_4 : List UInt8 := [42, 25, 6, 29, 186, 1, 204, 0, 0, 182, 0, 198, 42, 180, 0, 169, 172]
abbrev dktX0_seen_4 : List UInt8 := dkwX0_seen_4 ++ []
def dkwX0_seen_3 : List UInt8 := [184, 0, 5, 154, 0, 6, 16, 254, 172, 132, 7, 1, 167, 255, 224, 21, 4, 154, 0, 6, 16, 254, 172, 42]
abbrev dktX0_seen_3 : List UInt8 := dkwX0_seen_3 ++ dktX0_seen_4
def dkwX0_seen_2 : List UInt8 := [54, 7, 21, 7, 21, 4, 162, 0, 31, 25, 6, 29, 21, 7, 96, 182, 1, 200, 9, 20, 1, 69]
abbrev dktX0_seen_2 : List UInt8 := dkwX0_seen_2 ++ dktX0_seen_3
def dkwX0_seen_1 : List UInt8 := [21, 4, 182, 1, 196, 54, 5, 21, 5, 156, 0, 6, 21, 5, 172, 42, 180, 0, 87, 27, 50, 58, 6, 3]
abbrev dktX0_seen_1 : List UInt8 := dkwX0_seen_1 ++ dktX0_seen_2
def dkwX0_seen_0 : List UInt8 := [27, 28, 184, 1, 193, 154, 0, 5, 2, 172, 42, 180, 0, 18, 182, 0, 97, 54, 4, 42, 27, 28, 29]
abbrev dktX0_seen_0 : List UInt8 := dkwX0_seen_0 ++ dktX0_seen_1
theorem dksX0_seen_0 : cX0_seen.data.toList.drop 0 = dktX0_seen_0 := by decide +kernel
theorem dksX0_seen_1 : cX0_seen.data.toList.drop 23 = dktX0_seen_1 := dk_seg dksX0_seen_0 23 rfl rfl
theorem dksX0_seen_2 : cX0_seen.data.toList.drop 47 = dktX0_seen_2 := dk_seg dksX0_seen_1 24 rfl rfl
theorem dksX0_seen_3 : cX0_seen.data.toList.drop 69 = dktX0_seen_3 := dk_seg dksX0_seen_2 22 rfl rfl
theorem dksX0_seen_4 : cX0_seen.data.toList.drop 93 = dktX0_seen_4 := dk_seg dksX0_seen_3 24 rfl rfl
theorem dX0_seen_0 : decode cX0_seen 0 = .ok (.iload_n 1, 1) := dk_27 (dk_at dksX0_seen_0 0 rfl rfl)
theorem dX0_seen_1 : decode cX0_seen 1 = .ok (.iload_n 2, 1) := dk_28 (dk_at dksX0_seen_0 1 rfl rfl)
theorem dX0_seen_2 : decode cX0_seen 2 = .ok (.invokestatic 449, 3) := dk_184 1 193 (dk_at dksX0_seen_0 2 rfl rfl)
theorem dX0_seen_5 : decode cX0_seen 5 = .ok (.ifCond .ne 5, 3) := dk_154 0 5 (dk_at dksX0_seen_0 5 rfl rfl)
theorem dX0_seen_8 : decode cX0_seen 8 = .ok (.iconst (-1), 1) := dk_2 (dk_at dksX0_seen_0 8 rfl rfl)
theorem dX0_seen_9 : decode cX0_seen 9 = .ok (.ireturn, 1) := dk_172 (dk_at dksX0_seen_0 9 rfl rfl)
theorem dX0_seen_10 : decode cX0_seen 10 = .ok (.aload_n 0, 1) := dk_42 (dk_at dksX0_seen_0 10 rfl rfl)
theorem dX0_seen_11 : decode cX0_seen 11 = .ok (.getfield 18, 3) := dk_180 0 18 (dk_at dksX0_seen_0 11 rfl rfl)
theorem dX0_seen_14 : decode cX0_seen 14 = .ok (.invokevirtual 97, 3) := dk_182 0 97 (dk_at dksX0_seen_0 14 rfl rfl)
theorem dX0_seen_17 : decode cX0_seen 17 = .ok (.istore 4, 2) := dk_54 4 (dk_at dksX0_seen_0 17 rfl rfl)
theorem dX0_seen_19 : decode cX0_seen 19 = .ok (.aload_n 0, 1) := dk_42 (dk_at dksX0_seen_0 19 rfl rfl)
theorem dX0_seen_20 : decode cX0_seen 20 = .ok (.iload_n 1, 1) := dk_27 (dk_at dksX0_seen_0 20 rfl rfl)
theorem dX0_seen_21 : decode cX0_seen 21 = .ok (.iload_n 2, 1) := dk_28 (dk_at dksX0_seen_0 21 rfl rfl)
theorem dX0_seen_22 : decode cX0_seen 22 = .ok (.iload_n 3, 1) := dk_29 (dk_at dksX0_seen_0 22 rfl rfl)
theorem dX0_seen_23 : decode cX0_seen 23 = .ok (.iload 4, 2) := dk_21 4 (dk_at dksX0_seen_1 0 rfl rfl)
theorem dX0_seen_25 : decode cX0_seen 25 = .ok (.invokevirtual 452, 3) := dk_182 1 196 (dk_at dksX0_seen_1 2 rfl rfl)
theorem dX0_seen_28 : decode cX0_seen 28 = .ok (.istore 5, 2) := dk_54 5 (dk_at dksX0_seen_1 5 rfl rfl)
theorem dX0_seen_30 : decode cX0_seen 30 = .ok (.iload 5, 2) := dk_21 5 (dk_at dksX0_seen_1 7 rfl rfl)
theorem dX0_seen_32 : decode cX0_seen 32 = .ok (.ifCond .ge 6, 3) := dk_156 0 6 (dk_at dksX0_seen_1 9 rfl rfl)
theorem dX0_seen_35 : decode cX0_seen 35 = .ok (.iload 5, 2) := dk_21 5 (dk_at dksX0_seen_1 12 rfl rfl)
theorem dX0_seen_37 : decode cX0_seen 37 = .ok (.ireturn, 1) := dk_172 (dk_at dksX0_seen_1 14 rfl rfl)
theorem dX0_seen_38 : decode cX0_seen 38 = .ok (.aload_n 0, 1) := dk_42 (dk_at dksX0_seen_1 15 rfl rfl)
theorem dX0_seen_39 : decode cX0_seen 39 = .ok (.getfield 87, 3) := dk_180 0 87 (dk_at dksX0_seen_1 16 rfl rfl)
theorem dX0_seen_42 : decode cX0_seen 42 = .ok (.iload_n 1, 1) := dk_27 (dk_at dksX0_seen_1 19 rfl rfl)
theorem dX0_seen_43 : decode cX0_seen 43 = .ok (.aaload, 1) := dk_50 (dk_at dksX0_seen_1 20 rfl rfl)
theorem dX0_seen_44 : decode cX0_seen 44 = .ok (.astore 6, 2) := dk_58 6 (dk_at dksX0_seen_1 21 rfl rfl)
theorem dX0_seen_46 : decode cX0_seen 46 = .ok (.iconst 0, 1) := dk_3 (dk_at dksX0_seen_1 23 rfl rfl)
theorem dX0_seen_47 : decode cX0_seen 47 = .ok (.istore 7, 2) := dk_54 7 (dk_at dksX0_seen_2 0 rfl rfl)
theorem dX0_seen_49 : decode cX0_seen 49 = .ok (.iload 7, 2) := dk_21 7 (dk_at dksX0_seen_2 2 rfl rfl)
theorem dX0_seen_51 : decode cX0_seen 51 = .ok (.iload 4, 2) := dk_21 4 (dk_at dksX0_seen_2 4 rfl rfl)
theorem dX0_seen_53 : decode cX0_seen 53 = .ok (.if_icmp .ge 31, 3) := dk_162 0 31 (dk_at dksX0_seen_2 6 rfl rfl)
theorem dX0_seen_56 : decode cX0_seen 56 = .ok (.aload 6, 2) := dk_25 6 (dk_at dksX0_seen_2 9 rfl rfl)
theorem dX0_seen_58 : decode cX0_seen 58 = .ok (.iload_n 3, 1) := dk_29 (dk_at dksX0_seen_2 11 rfl rfl)
theorem dX0_seen_59 : decode cX0_seen 59 = .ok (.iload 7, 2) := dk_21 7 (dk_at dksX0_seen_2 12 rfl rfl)
theorem dX0_seen_61 : decode cX0_seen 61 = .ok (.iadd, 1) := dk_96 (dk_at dksX0_seen_2 14 rfl rfl)
theorem dX0_seen_62 : decode cX0_seen 62 = .ok (.invokevirtual 456, 3) := dk_182 1 200 (dk_at dksX0_seen_2 15 rfl rfl)
theorem dX0_seen_65 : decode cX0_seen 65 = .ok (.lconst 0, 1) := dk_9 (dk_at dksX0_seen_2 18 rfl rfl)
theorem dX0_seen_66 : decode cX0_seen 66 = .ok (.ldc2_w 325, 3) := dk_20 1 69 (dk_at dksX0_seen_2 19 rfl rfl)
theorem dX0_seen_69 : decode cX0_seen 69 = .ok (.invokestatic 5, 3) := dk_184 0 5 (dk_at dksX0_seen_3 0 rfl rfl)
theorem dX0_seen_72 : decode cX0_seen 72 = .ok (.ifCond .ne 6, 3) := dk_154 0 6 (dk_at dksX0_seen_3 3 rfl rfl)
theorem dX0_seen_75 : decode cX0_seen 75 = .ok (.bipush (-2), 2) := dk_16 254 (dk_at dksX0_seen_3 6 rfl rfl)
theorem dX0_seen_77 : decode cX0_seen 77 = .ok (.ireturn, 1) := dk_172 (dk_at dksX0_seen_3 8 rfl rfl)
theorem dX0_seen_78 : decode cX0_seen 78 = .ok (.iinc 7 1, 3) := dk_132 7 1 (dk_at dksX0_seen_3 9 rfl rfl)
theorem dX0_seen_81 : decode cX0_seen 81 = .ok (.goto (-32), 3) := dk_167 255 224 (dk_at dksX0_seen_3 12 rfl rfl)
theorem dX0_seen_84 : decode cX0_seen 84 = .ok (.iload 4, 2) := dk_21 4 (dk_at dksX0_seen_3 15 rfl rfl)
theorem dX0_seen_86 : decode cX0_seen 86 = .ok (.ifCond .ne 6, 3) := dk_154 0 6 (dk_at dksX0_seen_3 17 rfl rfl)
theorem dX0_seen_89 : decode cX0_seen 89 = .ok (.bipush (-2), 2) := dk_16 254 (dk_at dksX0_seen_3 20 rfl rfl)
theorem dX0_seen_91 : decode cX0_seen 91 = .ok (.ireturn, 1) := dk_172 (dk_at dksX0_seen_3 22 rfl rfl)
theorem dX0_seen_92 : decode cX0_seen 92 = .ok (.aload_n 0, 1) := dk_42 (dk_at dksX0_seen_3 23 rfl rfl)
theorem dX0_seen_93 : decode cX0_seen 93 = .ok (.aload_n 0, 1) := dk_42 (dk_at dksX0_seen_4 0 rfl rfl)
theorem dX0_seen_94 : decode cX0_seen 94 = .ok (.aload 6, 2) := dk_25 6 (dk_at dksX0_seen_4 1 rfl rfl)
theorem dX0_seen_96 : decode cX0_seen 96 = .ok (.iload_n 3, 1) := dk_29 (dk_at dksX0_seen_4 3 rfl rfl)
theorem dX0_seen_97 : decode cX0_seen 97 = .ok (.invokedynamic 460, 5) := by decide +kernel
theorem dX0_seen_102 : decode cX0_seen 102 = .ok (.invokevirtual 198, 3) := dk_182 0 198 (dk_at dksX0_seen_4 9 rfl rfl)
theorem dX0_seen_105 : decode cX0_seen 105 = .ok (.aload_n 0, 1) := dk_42 (dk_at dksX0_seen_4 12 rfl rfl)
theorem dX0_seen_106 : decode cX0_seen 106 = .ok (.getfield 169, 3) := dk_180 0 169 (dk_at dksX0_seen_4 13 rfl rfl)
theorem dX0_seen_109 : decode cX0_seen 109 = .ok (.ireturn, 1) := dk_172 (dk_at dksX0_seen_4 16 rfl rfl)
abbrev cX0_isSheet : ByteArray := prog_1_method_60_code
def yX0_isSheet : MethodName := ⟨RX0, "isSheet", "(II)Z"⟩
def dkwX0_isSheet_1 : List UInt8 := [4, 167, 0, 4, 3, 172]
abbrev dktX0_isSheet_1 : List UInt8 := dkwX0_isSheet_1 ++ []
def dkwX0_isSheet_0 : List UInt8 := [26, 133, 9, 20, 1, 183, 184, 0, 5, 153, 0, 19, 27, 133, 9, 20, 1, 183, 184, 0, 5, 153, 0, 7]
abbrev dktX0_isSheet_0 : List UInt8 := dkwX0_isSheet_0 ++ dktX0_isSheet_1
theorem dksX0_isSheet_0 : cX0_isSheet.data.toList.drop 0 = dktX0_isSheet_0 := by decide +kernel
theorem dksX0_isSheet_1 : cX0_isSheet.data.toList.drop 24 = dktX0_isSheet_1 := dk_seg dksX0_isSheet_0 24 rfl rfl
theorem dX0_isSheet_0 : decode cX0_isSheet 0 = .ok (.iload_n 0, 1) := dk_26 (dk_at dksX0_isSheet_0 0 rfl rfl)
theorem dX0_isSheet_1 : decode cX0_isSheet 1 = .ok (.i2l, 1) := dk_133 (dk_at dksX0_isSheet_0 1 rfl rfl)
theorem dX0_isSheet_2 : decode cX0_isSheet 2 = .ok (.lconst 0, 1) := dk_9 (dk_at dksX0_isSheet_0 2 rfl rfl)
theorem dX0_isSheet_3 : decode cX0_isSheet 3 = .ok (.ldc2_w 439, 3) := dk_20 1 183 (dk_at dksX0_isSheet_0 3 rfl rfl)
theorem dX0_isSheet_6 : decode cX0_isSheet 6 = .ok (.invokestatic 5, 3) := dk_184 0 5 (dk_at dksX0_isSheet_0 6 rfl rfl)
theorem dX0_isSheet_9 : decode cX0_isSheet 9 = .ok (.ifCond .eq 19, 3) := dk_153 0 19 (dk_at dksX0_isSheet_0 9 rfl rfl)
theorem dX0_isSheet_12 : decode cX0_isSheet 12 = .ok (.iload_n 1, 1) := dk_27 (dk_at dksX0_isSheet_0 12 rfl rfl)
theorem dX0_isSheet_13 : decode cX0_isSheet 13 = .ok (.i2l, 1) := dk_133 (dk_at dksX0_isSheet_0 13 rfl rfl)
theorem dX0_isSheet_14 : decode cX0_isSheet 14 = .ok (.lconst 0, 1) := dk_9 (dk_at dksX0_isSheet_0 14 rfl rfl)
theorem dX0_isSheet_15 : decode cX0_isSheet 15 = .ok (.ldc2_w 439, 3) := dk_20 1 183 (dk_at dksX0_isSheet_0 15 rfl rfl)
theorem dX0_isSheet_18 : decode cX0_isSheet 18 = .ok (.invokestatic 5, 3) := dk_184 0 5 (dk_at dksX0_isSheet_0 18 rfl rfl)
theorem dX0_isSheet_21 : decode cX0_isSheet 21 = .ok (.ifCond .eq 7, 3) := dk_153 0 7 (dk_at dksX0_isSheet_0 21 rfl rfl)
theorem dX0_isSheet_24 : decode cX0_isSheet 24 = .ok (.iconst 1, 1) := dk_4 (dk_at dksX0_isSheet_1 0 rfl rfl)
theorem dX0_isSheet_25 : decode cX0_isSheet 25 = .ok (.goto 4, 3) := dk_167 0 4 (dk_at dksX0_isSheet_1 1 rfl rfl)
theorem dX0_isSheet_28 : decode cX0_isSheet 28 = .ok (.iconst 0, 1) := dk_3 (dk_at dksX0_isSheet_1 4 rfl rfl)
theorem dX0_isSheet_29 : decode cX0_isSheet 29 = .ok (.ireturn, 1) := dk_172 (dk_at dksX0_isSheet_1 5 rfl rfl)
abbrev cX0_lacks : ByteArray := prog_1_method_61_code
def yX0_lacks : MethodName := ⟨RX0, "lacks", "(IIII)I"⟩
def dkwX0_lacks_2 : List UInt8 := [16, 243, 167, 0, 4, 3, 172]
abbrev dktX0_lacks_2 : List UInt8 := dkwX0_lacks_2 ++ []
def dkwX0_lacks_1 : List UInt8 := [28, 159, 0, 6, 16, 244, 172, 29, 155, 0, 15, 29, 25, 5, 182, 1, 192, 21, 4, 100, 164, 0, 8]
abbrev dktX0_lacks_1 : List UInt8 := dkwX0_lacks_1 ++ dktX0_lacks_2
def dkwX0_lacks_0 : List UInt8 := [42, 180, 0, 87, 27, 50, 58, 5, 25, 5, 180, 1, 185, 199, 0, 6, 16, 245, 172, 25, 5, 182, 1, 189]
abbrev dktX0_lacks_0 : List UInt8 := dkwX0_lacks_0 ++ dktX0_lacks_1
theorem dksX0_lacks_0 : cX0_lacks.data.toList.drop 0 = dktX0_lacks_0 := by decide +kernel
theorem dksX0_lacks_1 : cX0_lacks.data.toList.drop 24 = dktX0_lacks_1 := dk_seg dksX0_lacks_0 24 rfl rfl
theorem dksX0_lacks_2 : cX0_lacks.data.toList.drop 47 = dktX0_lacks_2 := dk_seg dksX0_lacks_1 23 rfl rfl
theorem dX0_lacks_0 : decode cX0_lacks 0 = .ok (.aload_n 0, 1) := dk_42 (dk_at dksX0_lacks_0 0 rfl rfl)
theorem dX0_lacks_1 : decode cX0_lacks 1 = .ok (.getfield 87, 3) := dk_180 0 87 (dk_at dksX0_lacks_0 1 rfl rfl)
theorem dX0_lacks_4 : decode cX0_lacks 4 = .ok (.iload_n 1, 1) := dk_27 (dk_at dksX0_lacks_0 4 rfl rfl)
theorem dX0_lacks_5 : decode cX0_lacks 5 = .ok (.aaload, 1) := dk_50 (dk_at dksX0_lacks_0 5 rfl rfl)
theorem dX0_lacks_6 : decode cX0_lacks 6 = .ok (.astore 5, 2) := dk_58 5 (dk_at dksX0_lacks_0 6 rfl rfl)
theorem dX0_lacks_8 : decode cX0_lacks 8 = .ok (.aload 5, 2) := dk_25 5 (dk_at dksX0_lacks_0 8 rfl rfl)
theorem dX0_lacks_10 : decode cX0_lacks 10 = .ok (.getfield 441, 3) := dk_180 1 185 (dk_at dksX0_lacks_0 10 rfl rfl)
theorem dX0_lacks_13 : decode cX0_lacks 13 = .ok (.ifnonnull 6, 3) := dk_199 0 6 (dk_at dksX0_lacks_0 13 rfl rfl)
theorem dX0_lacks_16 : decode cX0_lacks 16 = .ok (.bipush (-11), 2) := dk_16 245 (dk_at dksX0_lacks_0 16 rfl rfl)
theorem dX0_lacks_18 : decode cX0_lacks 18 = .ok (.ireturn, 1) := dk_172 (dk_at dksX0_lacks_0 18 rfl rfl)
theorem dX0_lacks_19 : decode cX0_lacks 19 = .ok (.aload 5, 2) := dk_25 5 (dk_at dksX0_lacks_0 19 rfl rfl)
theorem dX0_lacks_21 : decode cX0_lacks 21 = .ok (.invokevirtual 445, 3) := dk_182 1 189 (dk_at dksX0_lacks_0 21 rfl rfl)
theorem dX0_lacks_24 : decode cX0_lacks 24 = .ok (.iload_n 2, 1) := dk_28 (dk_at dksX0_lacks_1 0 rfl rfl)
theorem dX0_lacks_25 : decode cX0_lacks 25 = .ok (.if_icmp .eq 6, 3) := dk_159 0 6 (dk_at dksX0_lacks_1 1 rfl rfl)
theorem dX0_lacks_28 : decode cX0_lacks 28 = .ok (.bipush (-12), 2) := dk_16 244 (dk_at dksX0_lacks_1 4 rfl rfl)
theorem dX0_lacks_30 : decode cX0_lacks 30 = .ok (.ireturn, 1) := dk_172 (dk_at dksX0_lacks_1 6 rfl rfl)
theorem dX0_lacks_31 : decode cX0_lacks 31 = .ok (.iload_n 3, 1) := dk_29 (dk_at dksX0_lacks_1 7 rfl rfl)
theorem dX0_lacks_32 : decode cX0_lacks 32 = .ok (.ifCond .lt 15, 3) := dk_155 0 15 (dk_at dksX0_lacks_1 8 rfl rfl)
theorem dX0_lacks_35 : decode cX0_lacks 35 = .ok (.iload_n 3, 1) := dk_29 (dk_at dksX0_lacks_1 11 rfl rfl)
theorem dX0_lacks_36 : decode cX0_lacks 36 = .ok (.aload 5, 2) := dk_25 5 (dk_at dksX0_lacks_1 12 rfl rfl)
theorem dX0_lacks_38 : decode cX0_lacks 38 = .ok (.invokevirtual 448, 3) := dk_182 1 192 (dk_at dksX0_lacks_1 14 rfl rfl)
theorem dX0_lacks_41 : decode cX0_lacks 41 = .ok (.iload 4, 2) := dk_21 4 (dk_at dksX0_lacks_1 17 rfl rfl)
theorem dX0_lacks_43 : decode cX0_lacks 43 = .ok (.isub, 1) := dk_100 (dk_at dksX0_lacks_1 19 rfl rfl)
theorem dX0_lacks_44 : decode cX0_lacks 44 = .ok (.if_icmp .le 8, 3) := dk_164 0 8 (dk_at dksX0_lacks_1 20 rfl rfl)
theorem dX0_lacks_47 : decode cX0_lacks 47 = .ok (.bipush (-13), 2) := dk_16 243 (dk_at dksX0_lacks_2 0 rfl rfl)
theorem dX0_lacks_49 : decode cX0_lacks 49 = .ok (.goto 4, 3) := dk_167 0 4 (dk_at dksX0_lacks_2 2 rfl rfl)
theorem dX0_lacks_52 : decode cX0_lacks 52 = .ok (.iconst 0, 1) := dk_3 (dk_at dksX0_lacks_2 5 rfl rfl)
theorem dX0_lacks_53 : decode cX0_lacks 53 = .ok (.ireturn, 1) := dk_172 (dk_at dksX0_lacks_2 6 rfl rfl)
abbrev cX0_lambda_seen_6 : ByteArray := prog_1_method_68_code
def yX0_lambda_seen_6 : MethodName := ⟨RX0, "lambda$seen$6", "(LReadingStages$Sheet;ILReadingStages$Shelf;)Z"⟩
def dkwX0_lambda_seen_6_3 : List UInt8 := [153, 0, 7, 4, 167, 0, 4, 3, 96, 181, 0, 169, 4, 172]
abbrev dktX0_lambda_seen_6_3 : List UInt8 := dkwX0_lambda_seen_6_3 ++ []
def dkwX0_lambda_seen_6_2 : List UInt8 := [148, 154, 0, 7, 4, 167, 0, 4, 3, 54, 4, 132, 5, 1, 167, 255, 207, 42, 89, 180, 0, 169, 21, 4]
abbrev dktX0_lambda_seen_6_2 : List UInt8 := dkwX0_lambda_seen_6_2 ++ dktX0_lambda_seen_6_3
def dkwX0_lambda_seen_6_1 : List UInt8 := [21, 4, 153, 0, 30, 42, 180, 0, 35, 21, 5, 46, 184, 0, 136, 133, 43, 28, 21, 5, 96, 182, 1, 200]
abbrev dktX0_lambda_seen_6_1 : List UInt8 := dkwX0_lambda_seen_6_1 ++ dktX0_lambda_seen_6_2
def dkwX0_lambda_seen_6_0 : List UInt8 := [42, 45, 3, 182, 0, 179, 4, 54, 4, 3, 54, 5, 21, 5, 45, 185, 0, 121, 1, 0, 162, 0, 44]
abbrev dktX0_lambda_seen_6_0 : List UInt8 := dkwX0_lambda_seen_6_0 ++ dktX0_lambda_seen_6_1
theorem dksX0_lambda_seen_6_0 : cX0_lambda_seen_6.data.toList.drop 0 = dktX0_lambda_seen_6_0 := by decide +kernel
theorem dksX0_lambda_seen_6_1 : cX0_lambda_seen_6.data.toList.drop 23 = dktX0_lambda_seen_6_1 := dk_seg dksX0_lambda_seen_6_0 23 rfl rfl
theorem dksX0_lambda_seen_6_2 : cX0_lambda_seen_6.data.toList.drop 47 = dktX0_lambda_seen_6_2 := dk_seg dksX0_lambda_seen_6_1 24 rfl rfl
theorem dksX0_lambda_seen_6_3 : cX0_lambda_seen_6.data.toList.drop 71 = dktX0_lambda_seen_6_3 := dk_seg dksX0_lambda_seen_6_2 24 rfl rfl
theorem dX0_lambda_seen_6_0 : decode cX0_lambda_seen_6 0 = .ok (.aload_n 0, 1) := dk_42 (dk_at dksX0_lambda_seen_6_0 0 rfl rfl)
theorem dX0_lambda_seen_6_1 : decode cX0_lambda_seen_6 1 = .ok (.aload_n 3, 1) := dk_45 (dk_at dksX0_lambda_seen_6_0 1 rfl rfl)
theorem dX0_lambda_seen_6_2 : decode cX0_lambda_seen_6 2 = .ok (.iconst 0, 1) := dk_3 (dk_at dksX0_lambda_seen_6_0 2 rfl rfl)
theorem dX0_lambda_seen_6_3 : decode cX0_lambda_seen_6 3 = .ok (.invokevirtual 179, 3) := dk_182 0 179 (dk_at dksX0_lambda_seen_6_0 3 rfl rfl)
theorem dX0_lambda_seen_6_6 : decode cX0_lambda_seen_6 6 = .ok (.iconst 1, 1) := dk_4 (dk_at dksX0_lambda_seen_6_0 6 rfl rfl)
theorem dX0_lambda_seen_6_7 : decode cX0_lambda_seen_6 7 = .ok (.istore 4, 2) := dk_54 4 (dk_at dksX0_lambda_seen_6_0 7 rfl rfl)
theorem dX0_lambda_seen_6_9 : decode cX0_lambda_seen_6 9 = .ok (.iconst 0, 1) := dk_3 (dk_at dksX0_lambda_seen_6_0 9 rfl rfl)
theorem dX0_lambda_seen_6_10 : decode cX0_lambda_seen_6 10 = .ok (.istore 5, 2) := dk_54 5 (dk_at dksX0_lambda_seen_6_0 10 rfl rfl)
theorem dX0_lambda_seen_6_12 : decode cX0_lambda_seen_6 12 = .ok (.iload 5, 2) := dk_21 5 (dk_at dksX0_lambda_seen_6_0 12 rfl rfl)
theorem dX0_lambda_seen_6_14 : decode cX0_lambda_seen_6 14 = .ok (.aload_n 3, 1) := dk_45 (dk_at dksX0_lambda_seen_6_0 14 rfl rfl)
theorem dX0_lambda_seen_6_15 : decode cX0_lambda_seen_6 15 = .ok (.invokeinterface 121 1, 5) := by decide +kernel
theorem dX0_lambda_seen_6_20 : decode cX0_lambda_seen_6 20 = .ok (.if_icmp .ge 44, 3) := dk_162 0 44 (dk_at dksX0_lambda_seen_6_0 20 rfl rfl)
theorem dX0_lambda_seen_6_23 : decode cX0_lambda_seen_6 23 = .ok (.iload 4, 2) := dk_21 4 (dk_at dksX0_lambda_seen_6_1 0 rfl rfl)
theorem dX0_lambda_seen_6_25 : decode cX0_lambda_seen_6 25 = .ok (.ifCond .eq 30, 3) := dk_153 0 30 (dk_at dksX0_lambda_seen_6_1 2 rfl rfl)
theorem dX0_lambda_seen_6_28 : decode cX0_lambda_seen_6 28 = .ok (.aload_n 0, 1) := dk_42 (dk_at dksX0_lambda_seen_6_1 5 rfl rfl)
theorem dX0_lambda_seen_6_29 : decode cX0_lambda_seen_6 29 = .ok (.getfield 35, 3) := dk_180 0 35 (dk_at dksX0_lambda_seen_6_1 6 rfl rfl)
theorem dX0_lambda_seen_6_32 : decode cX0_lambda_seen_6 32 = .ok (.iload 5, 2) := dk_21 5 (dk_at dksX0_lambda_seen_6_1 9 rfl rfl)
theorem dX0_lambda_seen_6_34 : decode cX0_lambda_seen_6 34 = .ok (.iaload, 1) := dk_46 (dk_at dksX0_lambda_seen_6_1 11 rfl rfl)
theorem dX0_lambda_seen_6_35 : decode cX0_lambda_seen_6 35 = .ok (.invokestatic 136, 3) := dk_184 0 136 (dk_at dksX0_lambda_seen_6_1 12 rfl rfl)
theorem dX0_lambda_seen_6_38 : decode cX0_lambda_seen_6 38 = .ok (.i2l, 1) := dk_133 (dk_at dksX0_lambda_seen_6_1 15 rfl rfl)
theorem dX0_lambda_seen_6_39 : decode cX0_lambda_seen_6 39 = .ok (.aload_n 1, 1) := dk_43 (dk_at dksX0_lambda_seen_6_1 16 rfl rfl)
theorem dX0_lambda_seen_6_40 : decode cX0_lambda_seen_6 40 = .ok (.iload_n 2, 1) := dk_28 (dk_at dksX0_lambda_seen_6_1 17 rfl rfl)
theorem dX0_lambda_seen_6_41 : decode cX0_lambda_seen_6 41 = .ok (.iload 5, 2) := dk_21 5 (dk_at dksX0_lambda_seen_6_1 18 rfl rfl)
theorem dX0_lambda_seen_6_43 : decode cX0_lambda_seen_6 43 = .ok (.iadd, 1) := dk_96 (dk_at dksX0_lambda_seen_6_1 20 rfl rfl)
theorem dX0_lambda_seen_6_44 : decode cX0_lambda_seen_6 44 = .ok (.invokevirtual 456, 3) := dk_182 1 200 (dk_at dksX0_lambda_seen_6_1 21 rfl rfl)
theorem dX0_lambda_seen_6_47 : decode cX0_lambda_seen_6 47 = .ok (.lcmp, 1) := dk_148 (dk_at dksX0_lambda_seen_6_2 0 rfl rfl)
theorem dX0_lambda_seen_6_48 : decode cX0_lambda_seen_6 48 = .ok (.ifCond .ne 7, 3) := dk_154 0 7 (dk_at dksX0_lambda_seen_6_2 1 rfl rfl)
theorem dX0_lambda_seen_6_51 : decode cX0_lambda_seen_6 51 = .ok (.iconst 1, 1) := dk_4 (dk_at dksX0_lambda_seen_6_2 4 rfl rfl)
theorem dX0_lambda_seen_6_52 : decode cX0_lambda_seen_6 52 = .ok (.goto 4, 3) := dk_167 0 4 (dk_at dksX0_lambda_seen_6_2 5 rfl rfl)
theorem dX0_lambda_seen_6_55 : decode cX0_lambda_seen_6 55 = .ok (.iconst 0, 1) := dk_3 (dk_at dksX0_lambda_seen_6_2 8 rfl rfl)
theorem dX0_lambda_seen_6_56 : decode cX0_lambda_seen_6 56 = .ok (.istore 4, 2) := dk_54 4 (dk_at dksX0_lambda_seen_6_2 9 rfl rfl)
theorem dX0_lambda_seen_6_58 : decode cX0_lambda_seen_6 58 = .ok (.iinc 5 1, 3) := dk_132 5 1 (dk_at dksX0_lambda_seen_6_2 11 rfl rfl)
theorem dX0_lambda_seen_6_61 : decode cX0_lambda_seen_6 61 = .ok (.goto (-49), 3) := dk_167 255 207 (dk_at dksX0_lambda_seen_6_2 14 rfl rfl)
theorem dX0_lambda_seen_6_64 : decode cX0_lambda_seen_6 64 = .ok (.aload_n 0, 1) := dk_42 (dk_at dksX0_lambda_seen_6_2 17 rfl rfl)
theorem dX0_lambda_seen_6_65 : decode cX0_lambda_seen_6 65 = .ok (.dup, 1) := dk_89 (dk_at dksX0_lambda_seen_6_2 18 rfl rfl)
theorem dX0_lambda_seen_6_66 : decode cX0_lambda_seen_6 66 = .ok (.getfield 169, 3) := dk_180 0 169 (dk_at dksX0_lambda_seen_6_2 19 rfl rfl)
theorem dX0_lambda_seen_6_69 : decode cX0_lambda_seen_6 69 = .ok (.iload 4, 2) := dk_21 4 (dk_at dksX0_lambda_seen_6_2 22 rfl rfl)
theorem dX0_lambda_seen_6_71 : decode cX0_lambda_seen_6 71 = .ok (.ifCond .eq 7, 3) := dk_153 0 7 (dk_at dksX0_lambda_seen_6_3 0 rfl rfl)
theorem dX0_lambda_seen_6_74 : decode cX0_lambda_seen_6 74 = .ok (.iconst 1, 1) := dk_4 (dk_at dksX0_lambda_seen_6_3 3 rfl rfl)
theorem dX0_lambda_seen_6_75 : decode cX0_lambda_seen_6 75 = .ok (.goto 4, 3) := dk_167 0 4 (dk_at dksX0_lambda_seen_6_3 4 rfl rfl)
theorem dX0_lambda_seen_6_78 : decode cX0_lambda_seen_6 78 = .ok (.iconst 0, 1) := dk_3 (dk_at dksX0_lambda_seen_6_3 7 rfl rfl)
theorem dX0_lambda_seen_6_79 : decode cX0_lambda_seen_6 79 = .ok (.iadd, 1) := dk_96 (dk_at dksX0_lambda_seen_6_3 8 rfl rfl)
theorem dX0_lambda_seen_6_80 : decode cX0_lambda_seen_6 80 = .ok (.putfield 169, 3) := dk_181 0 169 (dk_at dksX0_lambda_seen_6_3 9 rfl rfl)
theorem dX0_lambda_seen_6_83 : decode cX0_lambda_seen_6 83 = .ok (.iconst 1, 1) := dk_4 (dk_at dksX0_lambda_seen_6_3 12 rfl rfl)
theorem dX0_lambda_seen_6_84 : decode cX0_lambda_seen_6 84 = .ok (.ireturn, 1) := dk_172 (dk_at dksX0_lambda_seen_6_3 13 rfl rfl)
abbrev cX0_film : ByteArray := prog_1_method_63_code
def yX0_film : MethodName := ⟨RX0, "film", "(III)I"⟩
def dkwX0_film_4 : List UInt8 := [180, 0, 18, 182, 0, 97, 172]
abbrev dktX0_film_4 : List UInt8 := dkwX0_film_4 ++ []
def dkwX0_film_3 : List UInt8 := [96, 42, 180, 0, 35, 21, 5, 46, 184, 0, 136, 133, 182, 1, 207, 132, 5, 1, 167, 255, 216, 42]
abbrev dktX0_film_3 : List UInt8 := dkwX0_film_3 ++ dktX0_film_4
def dkwX0_film_2 : List UInt8 := [54, 5, 21, 5, 42, 180, 0, 18, 182, 0, 97, 162, 0, 34, 42, 180, 0, 87, 27, 50, 28, 29, 21, 5]
abbrev dktX0_film_2 : List UInt8 := dkwX0_film_2 ++ dktX0_film_3
def dkwX0_film_1 : List UInt8 := [54, 4, 21, 4, 156, 0, 6, 21, 4, 172, 42, 42, 180, 0, 18, 180, 0, 234, 3, 182, 0, 179, 3]
abbrev dktX0_film_1 : List UInt8 := dkwX0_film_1 ++ dktX0_film_2
def dkwX0_film_0 : List UInt8 := [27, 28, 184, 1, 193, 154, 0, 5, 2, 172, 42, 27, 28, 29, 42, 180, 0, 18, 182, 0, 97, 182, 1, 196]
abbrev dktX0_film_0 : List UInt8 := dkwX0_film_0 ++ dktX0_film_1
theorem dksX0_film_0 : cX0_film.data.toList.drop 0 = dktX0_film_0 := by decide +kernel
theorem dksX0_film_1 : cX0_film.data.toList.drop 24 = dktX0_film_1 := dk_seg dksX0_film_0 24 rfl rfl
theorem dksX0_film_2 : cX0_film.data.toList.drop 47 = dktX0_film_2 := dk_seg dksX0_film_1 23 rfl rfl
theorem dksX0_film_3 : cX0_film.data.toList.drop 71 = dktX0_film_3 := dk_seg dksX0_film_2 24 rfl rfl
theorem dksX0_film_4 : cX0_film.data.toList.drop 93 = dktX0_film_4 := dk_seg dksX0_film_3 22 rfl rfl
theorem dX0_film_0 : decode cX0_film 0 = .ok (.iload_n 1, 1) := dk_27 (dk_at dksX0_film_0 0 rfl rfl)
theorem dX0_film_1 : decode cX0_film 1 = .ok (.iload_n 2, 1) := dk_28 (dk_at dksX0_film_0 1 rfl rfl)
theorem dX0_film_2 : decode cX0_film 2 = .ok (.invokestatic 449, 3) := dk_184 1 193 (dk_at dksX0_film_0 2 rfl rfl)
theorem dX0_film_5 : decode cX0_film 5 = .ok (.ifCond .ne 5, 3) := dk_154 0 5 (dk_at dksX0_film_0 5 rfl rfl)
theorem dX0_film_8 : decode cX0_film 8 = .ok (.iconst (-1), 1) := dk_2 (dk_at dksX0_film_0 8 rfl rfl)
theorem dX0_film_9 : decode cX0_film 9 = .ok (.ireturn, 1) := dk_172 (dk_at dksX0_film_0 9 rfl rfl)
theorem dX0_film_10 : decode cX0_film 10 = .ok (.aload_n 0, 1) := dk_42 (dk_at dksX0_film_0 10 rfl rfl)
theorem dX0_film_11 : decode cX0_film 11 = .ok (.iload_n 1, 1) := dk_27 (dk_at dksX0_film_0 11 rfl rfl)
theorem dX0_film_12 : decode cX0_film 12 = .ok (.iload_n 2, 1) := dk_28 (dk_at dksX0_film_0 12 rfl rfl)
theorem dX0_film_13 : decode cX0_film 13 = .ok (.iload_n 3, 1) := dk_29 (dk_at dksX0_film_0 13 rfl rfl)
theorem dX0_film_14 : decode cX0_film 14 = .ok (.aload_n 0, 1) := dk_42 (dk_at dksX0_film_0 14 rfl rfl)
theorem dX0_film_15 : decode cX0_film 15 = .ok (.getfield 18, 3) := dk_180 0 18 (dk_at dksX0_film_0 15 rfl rfl)
theorem dX0_film_18 : decode cX0_film 18 = .ok (.invokevirtual 97, 3) := dk_182 0 97 (dk_at dksX0_film_0 18 rfl rfl)
theorem dX0_film_21 : decode cX0_film 21 = .ok (.invokevirtual 452, 3) := dk_182 1 196 (dk_at dksX0_film_0 21 rfl rfl)
theorem dX0_film_24 : decode cX0_film 24 = .ok (.istore 4, 2) := dk_54 4 (dk_at dksX0_film_1 0 rfl rfl)
theorem dX0_film_26 : decode cX0_film 26 = .ok (.iload 4, 2) := dk_21 4 (dk_at dksX0_film_1 2 rfl rfl)
theorem dX0_film_28 : decode cX0_film 28 = .ok (.ifCond .ge 6, 3) := dk_156 0 6 (dk_at dksX0_film_1 4 rfl rfl)
theorem dX0_film_31 : decode cX0_film 31 = .ok (.iload 4, 2) := dk_21 4 (dk_at dksX0_film_1 7 rfl rfl)
theorem dX0_film_33 : decode cX0_film 33 = .ok (.ireturn, 1) := dk_172 (dk_at dksX0_film_1 9 rfl rfl)
theorem dX0_film_34 : decode cX0_film 34 = .ok (.aload_n 0, 1) := dk_42 (dk_at dksX0_film_1 10 rfl rfl)
theorem dX0_film_35 : decode cX0_film 35 = .ok (.aload_n 0, 1) := dk_42 (dk_at dksX0_film_1 11 rfl rfl)
theorem dX0_film_36 : decode cX0_film 36 = .ok (.getfield 18, 3) := dk_180 0 18 (dk_at dksX0_film_1 12 rfl rfl)
theorem dX0_film_39 : decode cX0_film 39 = .ok (.getfield 234, 3) := dk_180 0 234 (dk_at dksX0_film_1 15 rfl rfl)
theorem dX0_film_42 : decode cX0_film 42 = .ok (.iconst 0, 1) := dk_3 (dk_at dksX0_film_1 18 rfl rfl)
theorem dX0_film_43 : decode cX0_film 43 = .ok (.invokevirtual 179, 3) := dk_182 0 179 (dk_at dksX0_film_1 19 rfl rfl)
theorem dX0_film_46 : decode cX0_film 46 = .ok (.iconst 0, 1) := dk_3 (dk_at dksX0_film_1 22 rfl rfl)
theorem dX0_film_47 : decode cX0_film 47 = .ok (.istore 5, 2) := dk_54 5 (dk_at dksX0_film_2 0 rfl rfl)
theorem dX0_film_49 : decode cX0_film 49 = .ok (.iload 5, 2) := dk_21 5 (dk_at dksX0_film_2 2 rfl rfl)
theorem dX0_film_51 : decode cX0_film 51 = .ok (.aload_n 0, 1) := dk_42 (dk_at dksX0_film_2 4 rfl rfl)
theorem dX0_film_52 : decode cX0_film 52 = .ok (.getfield 18, 3) := dk_180 0 18 (dk_at dksX0_film_2 5 rfl rfl)
theorem dX0_film_55 : decode cX0_film 55 = .ok (.invokevirtual 97, 3) := dk_182 0 97 (dk_at dksX0_film_2 8 rfl rfl)
theorem dX0_film_58 : decode cX0_film 58 = .ok (.if_icmp .ge 34, 3) := dk_162 0 34 (dk_at dksX0_film_2 11 rfl rfl)
theorem dX0_film_61 : decode cX0_film 61 = .ok (.aload_n 0, 1) := dk_42 (dk_at dksX0_film_2 14 rfl rfl)
theorem dX0_film_62 : decode cX0_film 62 = .ok (.getfield 87, 3) := dk_180 0 87 (dk_at dksX0_film_2 15 rfl rfl)
theorem dX0_film_65 : decode cX0_film 65 = .ok (.iload_n 1, 1) := dk_27 (dk_at dksX0_film_2 18 rfl rfl)
theorem dX0_film_66 : decode cX0_film 66 = .ok (.aaload, 1) := dk_50 (dk_at dksX0_film_2 19 rfl rfl)
theorem dX0_film_67 : decode cX0_film 67 = .ok (.iload_n 2, 1) := dk_28 (dk_at dksX0_film_2 20 rfl rfl)
theorem dX0_film_68 : decode cX0_film 68 = .ok (.iload_n 3, 1) := dk_29 (dk_at dksX0_film_2 21 rfl rfl)
theorem dX0_film_69 : decode cX0_film 69 = .ok (.iload 5, 2) := dk_21 5 (dk_at dksX0_film_2 22 rfl rfl)
theorem dX0_film_71 : decode cX0_film 71 = .ok (.iadd, 1) := dk_96 (dk_at dksX0_film_3 0 rfl rfl)
theorem dX0_film_72 : decode cX0_film 72 = .ok (.aload_n 0, 1) := dk_42 (dk_at dksX0_film_3 1 rfl rfl)
theorem dX0_film_73 : decode cX0_film 73 = .ok (.getfield 35, 3) := dk_180 0 35 (dk_at dksX0_film_3 2 rfl rfl)
theorem dX0_film_76 : decode cX0_film 76 = .ok (.iload 5, 2) := dk_21 5 (dk_at dksX0_film_3 5 rfl rfl)
theorem dX0_film_78 : decode cX0_film 78 = .ok (.iaload, 1) := dk_46 (dk_at dksX0_film_3 7 rfl rfl)
theorem dX0_film_79 : decode cX0_film 79 = .ok (.invokestatic 136, 3) := dk_184 0 136 (dk_at dksX0_film_3 8 rfl rfl)
theorem dX0_film_82 : decode cX0_film 82 = .ok (.i2l, 1) := dk_133 (dk_at dksX0_film_3 11 rfl rfl)
theorem dX0_film_83 : decode cX0_film 83 = .ok (.invokevirtual 463, 3) := dk_182 1 207 (dk_at dksX0_film_3 12 rfl rfl)
theorem dX0_film_86 : decode cX0_film 86 = .ok (.iinc 5 1, 3) := dk_132 5 1 (dk_at dksX0_film_3 15 rfl rfl)
theorem dX0_film_89 : decode cX0_film 89 = .ok (.goto (-40), 3) := dk_167 255 216 (dk_at dksX0_film_3 18 rfl rfl)
theorem dX0_film_92 : decode cX0_film 92 = .ok (.aload_n 0, 1) := dk_42 (dk_at dksX0_film_3 21 rfl rfl)
theorem dX0_film_93 : decode cX0_film 93 = .ok (.getfield 18, 3) := dk_180 0 18 (dk_at dksX0_film_4 0 rfl rfl)
theorem dX0_film_96 : decode cX0_film 96 = .ok (.invokevirtual 97, 3) := dk_182 0 97 (dk_at dksX0_film_4 3 rfl rfl)
theorem dX0_film_99 : decode cX0_film 99 = .ok (.ireturn, 1) := dk_172 (dk_at dksX0_film_4 6 rfl rfl)
abbrev cX0_sheet : ByteArray := prog_1_method_64_code
def yX0_sheet : MethodName := ⟨RX0, "sheet", "(III)I"⟩
def dkwX0_sheet_3 : List UInt8 := [172]
abbrev dktX0_sheet_3 : List UInt8 := dkwX0_sheet_3 ++ []
def dkwX0_sheet_2 : List UInt8 := [160, 0, 9, 29, 188, 10, 167, 0, 6, 29, 188, 11, 181, 1, 185, 167, 0, 8, 58, 4, 16, 242, 172, 29]
abbrev dktX0_sheet_2 : List UInt8 := dkwX0_sheet_2 ++ dktX0_sheet_3
def dkwX0_sheet_1 : List UInt8 := [154, 0, 9, 29, 188, 8, 167, 0, 28, 28, 4, 160, 0, 9, 29, 188, 9, 167, 0, 17, 28, 5]
abbrev dktX0_sheet_1 : List UInt8 := dkwX0_sheet_1 ++ dktX0_sheet_2
def dkwX0_sheet_0 : List UInt8 := [27, 28, 184, 1, 193, 153, 0, 9, 29, 16, 24, 164, 0, 5, 2, 172, 42, 180, 0, 87, 27, 50, 28]
abbrev dktX0_sheet_0 : List UInt8 := dkwX0_sheet_0 ++ dktX0_sheet_1
theorem dksX0_sheet_0 : cX0_sheet.data.toList.drop 0 = dktX0_sheet_0 := by decide +kernel
theorem dksX0_sheet_1 : cX0_sheet.data.toList.drop 23 = dktX0_sheet_1 := dk_seg dksX0_sheet_0 23 rfl rfl
theorem dksX0_sheet_2 : cX0_sheet.data.toList.drop 45 = dktX0_sheet_2 := dk_seg dksX0_sheet_1 22 rfl rfl
theorem dksX0_sheet_3 : cX0_sheet.data.toList.drop 69 = dktX0_sheet_3 := dk_seg dksX0_sheet_2 24 rfl rfl
theorem dX0_sheet_0 : decode cX0_sheet 0 = .ok (.iload_n 1, 1) := dk_27 (dk_at dksX0_sheet_0 0 rfl rfl)
theorem dX0_sheet_1 : decode cX0_sheet 1 = .ok (.iload_n 2, 1) := dk_28 (dk_at dksX0_sheet_0 1 rfl rfl)
theorem dX0_sheet_2 : decode cX0_sheet 2 = .ok (.invokestatic 449, 3) := dk_184 1 193 (dk_at dksX0_sheet_0 2 rfl rfl)
theorem dX0_sheet_5 : decode cX0_sheet 5 = .ok (.ifCond .eq 9, 3) := dk_153 0 9 (dk_at dksX0_sheet_0 5 rfl rfl)
theorem dX0_sheet_8 : decode cX0_sheet 8 = .ok (.iload_n 3, 1) := dk_29 (dk_at dksX0_sheet_0 8 rfl rfl)
theorem dX0_sheet_9 : decode cX0_sheet 9 = .ok (.bipush 24, 2) := dk_16 24 (dk_at dksX0_sheet_0 9 rfl rfl)
theorem dX0_sheet_11 : decode cX0_sheet 11 = .ok (.if_icmp .le 5, 3) := dk_164 0 5 (dk_at dksX0_sheet_0 11 rfl rfl)
theorem dX0_sheet_14 : decode cX0_sheet 14 = .ok (.iconst (-1), 1) := dk_2 (dk_at dksX0_sheet_0 14 rfl rfl)
theorem dX0_sheet_15 : decode cX0_sheet 15 = .ok (.ireturn, 1) := dk_172 (dk_at dksX0_sheet_0 15 rfl rfl)
theorem dX0_sheet_16 : decode cX0_sheet 16 = .ok (.aload_n 0, 1) := dk_42 (dk_at dksX0_sheet_0 16 rfl rfl)
theorem dX0_sheet_17 : decode cX0_sheet 17 = .ok (.getfield 87, 3) := dk_180 0 87 (dk_at dksX0_sheet_0 17 rfl rfl)
theorem dX0_sheet_20 : decode cX0_sheet 20 = .ok (.iload_n 1, 1) := dk_27 (dk_at dksX0_sheet_0 20 rfl rfl)
theorem dX0_sheet_21 : decode cX0_sheet 21 = .ok (.aaload, 1) := dk_50 (dk_at dksX0_sheet_0 21 rfl rfl)
theorem dX0_sheet_22 : decode cX0_sheet 22 = .ok (.iload_n 2, 1) := dk_28 (dk_at dksX0_sheet_0 22 rfl rfl)
theorem dX0_sheet_23 : decode cX0_sheet 23 = .ok (.ifCond .ne 9, 3) := dk_154 0 9 (dk_at dksX0_sheet_1 0 rfl rfl)
theorem dX0_sheet_26 : decode cX0_sheet 26 = .ok (.iload_n 3, 1) := dk_29 (dk_at dksX0_sheet_1 3 rfl rfl)
theorem dX0_sheet_27 : decode cX0_sheet 27 = .ok (.newarray .byte, 2) := dk_188_8 (dk_at dksX0_sheet_1 4 rfl rfl)
theorem dX0_sheet_29 : decode cX0_sheet 29 = .ok (.goto 28, 3) := dk_167 0 28 (dk_at dksX0_sheet_1 6 rfl rfl)
theorem dX0_sheet_32 : decode cX0_sheet 32 = .ok (.iload_n 2, 1) := dk_28 (dk_at dksX0_sheet_1 9 rfl rfl)
theorem dX0_sheet_33 : decode cX0_sheet 33 = .ok (.iconst 1, 1) := dk_4 (dk_at dksX0_sheet_1 10 rfl rfl)
theorem dX0_sheet_34 : decode cX0_sheet 34 = .ok (.if_icmp .ne 9, 3) := dk_160 0 9 (dk_at dksX0_sheet_1 11 rfl rfl)
theorem dX0_sheet_37 : decode cX0_sheet 37 = .ok (.iload_n 3, 1) := dk_29 (dk_at dksX0_sheet_1 14 rfl rfl)
theorem dX0_sheet_38 : decode cX0_sheet 38 = .ok (.newarray .short, 2) := dk_188_9 (dk_at dksX0_sheet_1 15 rfl rfl)
theorem dX0_sheet_40 : decode cX0_sheet 40 = .ok (.goto 17, 3) := dk_167 0 17 (dk_at dksX0_sheet_1 17 rfl rfl)
theorem dX0_sheet_43 : decode cX0_sheet 43 = .ok (.iload_n 2, 1) := dk_28 (dk_at dksX0_sheet_1 20 rfl rfl)
theorem dX0_sheet_44 : decode cX0_sheet 44 = .ok (.iconst 2, 1) := dk_5 (dk_at dksX0_sheet_1 21 rfl rfl)
theorem dX0_sheet_45 : decode cX0_sheet 45 = .ok (.if_icmp .ne 9, 3) := dk_160 0 9 (dk_at dksX0_sheet_2 0 rfl rfl)
theorem dX0_sheet_48 : decode cX0_sheet 48 = .ok (.iload_n 3, 1) := dk_29 (dk_at dksX0_sheet_2 3 rfl rfl)
theorem dX0_sheet_49 : decode cX0_sheet 49 = .ok (.newarray .int, 2) := dk_188_10 (dk_at dksX0_sheet_2 4 rfl rfl)
theorem dX0_sheet_51 : decode cX0_sheet 51 = .ok (.goto 6, 3) := dk_167 0 6 (dk_at dksX0_sheet_2 6 rfl rfl)
theorem dX0_sheet_54 : decode cX0_sheet 54 = .ok (.iload_n 3, 1) := dk_29 (dk_at dksX0_sheet_2 9 rfl rfl)
theorem dX0_sheet_55 : decode cX0_sheet 55 = .ok (.newarray .long, 2) := dk_188_11 (dk_at dksX0_sheet_2 10 rfl rfl)
theorem dX0_sheet_57 : decode cX0_sheet 57 = .ok (.putfield 441, 3) := dk_181 1 185 (dk_at dksX0_sheet_2 12 rfl rfl)
theorem dX0_sheet_60 : decode cX0_sheet 60 = .ok (.goto 8, 3) := dk_167 0 8 (dk_at dksX0_sheet_2 15 rfl rfl)
theorem dX0_sheet_63 : decode cX0_sheet 63 = .ok (.astore 4, 2) := dk_58 4 (dk_at dksX0_sheet_2 18 rfl rfl)
theorem dX0_sheet_65 : decode cX0_sheet 65 = .ok (.bipush (-14), 2) := dk_16 242 (dk_at dksX0_sheet_2 20 rfl rfl)
theorem dX0_sheet_67 : decode cX0_sheet 67 = .ok (.ireturn, 1) := dk_172 (dk_at dksX0_sheet_2 22 rfl rfl)
theorem dX0_sheet_68 : decode cX0_sheet 68 = .ok (.iload_n 3, 1) := dk_29 (dk_at dksX0_sheet_2 23 rfl rfl)
theorem dX0_sheet_69 : decode cX0_sheet 69 = .ok (.ireturn, 1) := dk_172 (dk_at dksX0_sheet_3 0 rfl rfl)
abbrev cX0_drop : ByteArray := prog_1_method_65_code
def yX0_drop : MethodName := ⟨RX0, "drop", "(I)I"⟩
def dkwX0_drop_1 : List UInt8 := [172, 42, 180, 0, 87, 27, 50, 182, 1, 192, 61, 42, 180, 0, 87, 27, 50, 1, 181, 1, 185, 28, 172]
abbrev dktX0_drop_1 : List UInt8 := dkwX0_drop_1 ++ []
def dkwX0_drop_0 : List UInt8 := [27, 3, 184, 1, 193, 154, 0, 5, 2, 172, 42, 180, 0, 87, 27, 50, 180, 1, 185, 199, 0, 6, 16, 245]
abbrev dktX0_drop_0 : List UInt8 := dkwX0_drop_0 ++ dktX0_drop_1
theorem dksX0_drop_0 : cX0_drop.data.toList.drop 0 = dktX0_drop_0 := by decide +kernel
theorem dksX0_drop_1 : cX0_drop.data.toList.drop 24 = dktX0_drop_1 := dk_seg dksX0_drop_0 24 rfl rfl
theorem dX0_drop_0 : decode cX0_drop 0 = .ok (.iload_n 1, 1) := dk_27 (dk_at dksX0_drop_0 0 rfl rfl)
theorem dX0_drop_1 : decode cX0_drop 1 = .ok (.iconst 0, 1) := dk_3 (dk_at dksX0_drop_0 1 rfl rfl)
theorem dX0_drop_2 : decode cX0_drop 2 = .ok (.invokestatic 449, 3) := dk_184 1 193 (dk_at dksX0_drop_0 2 rfl rfl)
theorem dX0_drop_5 : decode cX0_drop 5 = .ok (.ifCond .ne 5, 3) := dk_154 0 5 (dk_at dksX0_drop_0 5 rfl rfl)
theorem dX0_drop_8 : decode cX0_drop 8 = .ok (.iconst (-1), 1) := dk_2 (dk_at dksX0_drop_0 8 rfl rfl)
theorem dX0_drop_9 : decode cX0_drop 9 = .ok (.ireturn, 1) := dk_172 (dk_at dksX0_drop_0 9 rfl rfl)
theorem dX0_drop_10 : decode cX0_drop 10 = .ok (.aload_n 0, 1) := dk_42 (dk_at dksX0_drop_0 10 rfl rfl)
theorem dX0_drop_11 : decode cX0_drop 11 = .ok (.getfield 87, 3) := dk_180 0 87 (dk_at dksX0_drop_0 11 rfl rfl)
theorem dX0_drop_14 : decode cX0_drop 14 = .ok (.iload_n 1, 1) := dk_27 (dk_at dksX0_drop_0 14 rfl rfl)
theorem dX0_drop_15 : decode cX0_drop 15 = .ok (.aaload, 1) := dk_50 (dk_at dksX0_drop_0 15 rfl rfl)
theorem dX0_drop_16 : decode cX0_drop 16 = .ok (.getfield 441, 3) := dk_180 1 185 (dk_at dksX0_drop_0 16 rfl rfl)
theorem dX0_drop_19 : decode cX0_drop 19 = .ok (.ifnonnull 6, 3) := dk_199 0 6 (dk_at dksX0_drop_0 19 rfl rfl)
theorem dX0_drop_22 : decode cX0_drop 22 = .ok (.bipush (-11), 2) := dk_16 245 (dk_at dksX0_drop_0 22 rfl rfl)
theorem dX0_drop_24 : decode cX0_drop 24 = .ok (.ireturn, 1) := dk_172 (dk_at dksX0_drop_1 0 rfl rfl)
theorem dX0_drop_25 : decode cX0_drop 25 = .ok (.aload_n 0, 1) := dk_42 (dk_at dksX0_drop_1 1 rfl rfl)
theorem dX0_drop_26 : decode cX0_drop 26 = .ok (.getfield 87, 3) := dk_180 0 87 (dk_at dksX0_drop_1 2 rfl rfl)
theorem dX0_drop_29 : decode cX0_drop 29 = .ok (.iload_n 1, 1) := dk_27 (dk_at dksX0_drop_1 5 rfl rfl)
theorem dX0_drop_30 : decode cX0_drop 30 = .ok (.aaload, 1) := dk_50 (dk_at dksX0_drop_1 6 rfl rfl)
theorem dX0_drop_31 : decode cX0_drop 31 = .ok (.invokevirtual 448, 3) := dk_182 1 192 (dk_at dksX0_drop_1 7 rfl rfl)
theorem dX0_drop_34 : decode cX0_drop 34 = .ok (.istore_n 2, 1) := dk_61 (dk_at dksX0_drop_1 10 rfl rfl)
theorem dX0_drop_35 : decode cX0_drop 35 = .ok (.aload_n 0, 1) := dk_42 (dk_at dksX0_drop_1 11 rfl rfl)
theorem dX0_drop_36 : decode cX0_drop 36 = .ok (.getfield 87, 3) := dk_180 0 87 (dk_at dksX0_drop_1 12 rfl rfl)
theorem dX0_drop_39 : decode cX0_drop 39 = .ok (.iload_n 1, 1) := dk_27 (dk_at dksX0_drop_1 15 rfl rfl)
theorem dX0_drop_40 : decode cX0_drop 40 = .ok (.aaload, 1) := dk_50 (dk_at dksX0_drop_1 16 rfl rfl)
theorem dX0_drop_41 : decode cX0_drop 41 = .ok (.aconst_null, 1) := dk_1 (dk_at dksX0_drop_1 17 rfl rfl)
theorem dX0_drop_42 : decode cX0_drop 42 = .ok (.putfield 441, 3) := dk_181 1 185 (dk_at dksX0_drop_1 18 rfl rfl)
theorem dX0_drop_45 : decode cX0_drop 45 = .ok (.iload_n 2, 1) := dk_28 (dk_at dksX0_drop_1 21 rfl rfl)
theorem dX0_drop_46 : decode cX0_drop 46 = .ok (.ireturn, 1) := dk_172 (dk_at dksX0_drop_1 22 rfl rfl)
abbrev cX0_item : ByteArray := prog_1_method_66_code
def yX0_item : MethodName := ⟨RX0, "item", "(IIIJ)I"⟩
def dkwX0_item_1 : List UInt8 := [167, 0, 18, 58, 6, 16, 245, 172, 58, 6, 16, 244, 172, 58, 6, 16, 243, 172, 4, 172]
abbrev dktX0_item_1 : List UInt8 := dkwX0_item_1 ++ []
def dkwX0_item_0 : List UInt8 := [27, 28, 184, 1, 193, 154, 0, 5, 2, 172, 42, 180, 0, 87, 27, 50, 28, 29, 22, 4, 182, 1, 207]
abbrev dktX0_item_0 : List UInt8 := dkwX0_item_0 ++ dktX0_item_1
theorem dksX0_item_0 : cX0_item.data.toList.drop 0 = dktX0_item_0 := by decide +kernel
theorem dksX0_item_1 : cX0_item.data.toList.drop 23 = dktX0_item_1 := dk_seg dksX0_item_0 23 rfl rfl
theorem dX0_item_0 : decode cX0_item 0 = .ok (.iload_n 1, 1) := dk_27 (dk_at dksX0_item_0 0 rfl rfl)
theorem dX0_item_1 : decode cX0_item 1 = .ok (.iload_n 2, 1) := dk_28 (dk_at dksX0_item_0 1 rfl rfl)
theorem dX0_item_2 : decode cX0_item 2 = .ok (.invokestatic 449, 3) := dk_184 1 193 (dk_at dksX0_item_0 2 rfl rfl)
theorem dX0_item_5 : decode cX0_item 5 = .ok (.ifCond .ne 5, 3) := dk_154 0 5 (dk_at dksX0_item_0 5 rfl rfl)
theorem dX0_item_8 : decode cX0_item 8 = .ok (.iconst (-1), 1) := dk_2 (dk_at dksX0_item_0 8 rfl rfl)
theorem dX0_item_9 : decode cX0_item 9 = .ok (.ireturn, 1) := dk_172 (dk_at dksX0_item_0 9 rfl rfl)
theorem dX0_item_10 : decode cX0_item 10 = .ok (.aload_n 0, 1) := dk_42 (dk_at dksX0_item_0 10 rfl rfl)
theorem dX0_item_11 : decode cX0_item 11 = .ok (.getfield 87, 3) := dk_180 0 87 (dk_at dksX0_item_0 11 rfl rfl)
theorem dX0_item_14 : decode cX0_item 14 = .ok (.iload_n 1, 1) := dk_27 (dk_at dksX0_item_0 14 rfl rfl)
theorem dX0_item_15 : decode cX0_item 15 = .ok (.aaload, 1) := dk_50 (dk_at dksX0_item_0 15 rfl rfl)
theorem dX0_item_16 : decode cX0_item 16 = .ok (.iload_n 2, 1) := dk_28 (dk_at dksX0_item_0 16 rfl rfl)
theorem dX0_item_17 : decode cX0_item 17 = .ok (.iload_n 3, 1) := dk_29 (dk_at dksX0_item_0 17 rfl rfl)
theorem dX0_item_18 : decode cX0_item 18 = .ok (.lload 4, 2) := dk_22 4 (dk_at dksX0_item_0 18 rfl rfl)
theorem dX0_item_20 : decode cX0_item 20 = .ok (.invokevirtual 463, 3) := dk_182 1 207 (dk_at dksX0_item_0 20 rfl rfl)
theorem dX0_item_23 : decode cX0_item 23 = .ok (.goto 18, 3) := dk_167 0 18 (dk_at dksX0_item_1 0 rfl rfl)
theorem dX0_item_26 : decode cX0_item 26 = .ok (.astore 6, 2) := dk_58 6 (dk_at dksX0_item_1 3 rfl rfl)
theorem dX0_item_28 : decode cX0_item 28 = .ok (.bipush (-11), 2) := dk_16 245 (dk_at dksX0_item_1 5 rfl rfl)
theorem dX0_item_30 : decode cX0_item 30 = .ok (.ireturn, 1) := dk_172 (dk_at dksX0_item_1 7 rfl rfl)
theorem dX0_item_31 : decode cX0_item 31 = .ok (.astore 6, 2) := dk_58 6 (dk_at dksX0_item_1 8 rfl rfl)
theorem dX0_item_33 : decode cX0_item 33 = .ok (.bipush (-12), 2) := dk_16 244 (dk_at dksX0_item_1 10 rfl rfl)
theorem dX0_item_35 : decode cX0_item 35 = .ok (.ireturn, 1) := dk_172 (dk_at dksX0_item_1 12 rfl rfl)
theorem dX0_item_36 : decode cX0_item 36 = .ok (.astore 6, 2) := dk_58 6 (dk_at dksX0_item_1 13 rfl rfl)
theorem dX0_item_38 : decode cX0_item 38 = .ok (.bipush (-13), 2) := dk_16 243 (dk_at dksX0_item_1 15 rfl rfl)
theorem dX0_item_40 : decode cX0_item 40 = .ok (.ireturn, 1) := dk_172 (dk_at dksX0_item_1 17 rfl rfl)
theorem dX0_item_41 : decode cX0_item 41 = .ok (.iconst 1, 1) := dk_4 (dk_at dksX0_item_1 18 rfl rfl)
theorem dX0_item_42 : decode cX0_item 42 = .ok (.ireturn, 1) := dk_172 (dk_at dksX0_item_1 19 rfl rfl)
abbrev cX0_copy : ByteArray := prog_1_method_67_code
def yX0_copy : MethodName := ⟨RX0, "copy", "(IIIII)I"⟩
def dkwX0_copy_2 : List UInt8 := [58, 6, 16, 245, 172, 58, 6, 16, 244, 172, 58, 6, 16, 243, 172, 21, 5, 172]
abbrev dktX0_copy_2 : List UInt8 := dkwX0_copy_2 ++ []
def dkwX0_copy_1 : List UInt8 := [180, 1, 185, 28, 42, 180, 0, 87, 29, 50, 180, 1, 185, 21, 4, 21, 5, 184, 1, 42, 167, 0, 18]
abbrev dktX0_copy_1 : List UInt8 := dkwX0_copy_1 ++ dktX0_copy_2
def dkwX0_copy_0 : List UInt8 := [27, 3, 184, 1, 193, 153, 0, 11, 29, 3, 184, 1, 193, 154, 0, 5, 2, 172, 42, 180, 0, 87, 27, 50]
abbrev dktX0_copy_0 : List UInt8 := dkwX0_copy_0 ++ dktX0_copy_1
theorem dksX0_copy_0 : cX0_copy.data.toList.drop 0 = dktX0_copy_0 := by decide +kernel
theorem dksX0_copy_1 : cX0_copy.data.toList.drop 24 = dktX0_copy_1 := dk_seg dksX0_copy_0 24 rfl rfl
theorem dksX0_copy_2 : cX0_copy.data.toList.drop 47 = dktX0_copy_2 := dk_seg dksX0_copy_1 23 rfl rfl
theorem dX0_copy_0 : decode cX0_copy 0 = .ok (.iload_n 1, 1) := dk_27 (dk_at dksX0_copy_0 0 rfl rfl)
theorem dX0_copy_1 : decode cX0_copy 1 = .ok (.iconst 0, 1) := dk_3 (dk_at dksX0_copy_0 1 rfl rfl)
theorem dX0_copy_2 : decode cX0_copy 2 = .ok (.invokestatic 449, 3) := dk_184 1 193 (dk_at dksX0_copy_0 2 rfl rfl)
theorem dX0_copy_5 : decode cX0_copy 5 = .ok (.ifCond .eq 11, 3) := dk_153 0 11 (dk_at dksX0_copy_0 5 rfl rfl)
theorem dX0_copy_8 : decode cX0_copy 8 = .ok (.iload_n 3, 1) := dk_29 (dk_at dksX0_copy_0 8 rfl rfl)
theorem dX0_copy_9 : decode cX0_copy 9 = .ok (.iconst 0, 1) := dk_3 (dk_at dksX0_copy_0 9 rfl rfl)
theorem dX0_copy_10 : decode cX0_copy 10 = .ok (.invokestatic 449, 3) := dk_184 1 193 (dk_at dksX0_copy_0 10 rfl rfl)
theorem dX0_copy_13 : decode cX0_copy 13 = .ok (.ifCond .ne 5, 3) := dk_154 0 5 (dk_at dksX0_copy_0 13 rfl rfl)
theorem dX0_copy_16 : decode cX0_copy 16 = .ok (.iconst (-1), 1) := dk_2 (dk_at dksX0_copy_0 16 rfl rfl)
theorem dX0_copy_17 : decode cX0_copy 17 = .ok (.ireturn, 1) := dk_172 (dk_at dksX0_copy_0 17 rfl rfl)
theorem dX0_copy_18 : decode cX0_copy 18 = .ok (.aload_n 0, 1) := dk_42 (dk_at dksX0_copy_0 18 rfl rfl)
theorem dX0_copy_19 : decode cX0_copy 19 = .ok (.getfield 87, 3) := dk_180 0 87 (dk_at dksX0_copy_0 19 rfl rfl)
theorem dX0_copy_22 : decode cX0_copy 22 = .ok (.iload_n 1, 1) := dk_27 (dk_at dksX0_copy_0 22 rfl rfl)
theorem dX0_copy_23 : decode cX0_copy 23 = .ok (.aaload, 1) := dk_50 (dk_at dksX0_copy_0 23 rfl rfl)
theorem dX0_copy_24 : decode cX0_copy 24 = .ok (.getfield 441, 3) := dk_180 1 185 (dk_at dksX0_copy_1 0 rfl rfl)
theorem dX0_copy_27 : decode cX0_copy 27 = .ok (.iload_n 2, 1) := dk_28 (dk_at dksX0_copy_1 3 rfl rfl)
theorem dX0_copy_28 : decode cX0_copy 28 = .ok (.aload_n 0, 1) := dk_42 (dk_at dksX0_copy_1 4 rfl rfl)
theorem dX0_copy_29 : decode cX0_copy 29 = .ok (.getfield 87, 3) := dk_180 0 87 (dk_at dksX0_copy_1 5 rfl rfl)
theorem dX0_copy_32 : decode cX0_copy 32 = .ok (.iload_n 3, 1) := dk_29 (dk_at dksX0_copy_1 8 rfl rfl)
theorem dX0_copy_33 : decode cX0_copy 33 = .ok (.aaload, 1) := dk_50 (dk_at dksX0_copy_1 9 rfl rfl)
theorem dX0_copy_34 : decode cX0_copy 34 = .ok (.getfield 441, 3) := dk_180 1 185 (dk_at dksX0_copy_1 10 rfl rfl)
theorem dX0_copy_37 : decode cX0_copy 37 = .ok (.iload 4, 2) := dk_21 4 (dk_at dksX0_copy_1 13 rfl rfl)
theorem dX0_copy_39 : decode cX0_copy 39 = .ok (.iload 5, 2) := dk_21 5 (dk_at dksX0_copy_1 15 rfl rfl)
theorem dX0_copy_41 : decode cX0_copy 41 = .ok (.invokestatic 298, 3) := dk_184 1 42 (dk_at dksX0_copy_1 17 rfl rfl)
theorem dX0_copy_44 : decode cX0_copy 44 = .ok (.goto 18, 3) := dk_167 0 18 (dk_at dksX0_copy_1 20 rfl rfl)
theorem dX0_copy_47 : decode cX0_copy 47 = .ok (.astore 6, 2) := dk_58 6 (dk_at dksX0_copy_2 0 rfl rfl)
theorem dX0_copy_49 : decode cX0_copy 49 = .ok (.bipush (-11), 2) := dk_16 245 (dk_at dksX0_copy_2 2 rfl rfl)
theorem dX0_copy_51 : decode cX0_copy 51 = .ok (.ireturn, 1) := dk_172 (dk_at dksX0_copy_2 4 rfl rfl)
theorem dX0_copy_52 : decode cX0_copy 52 = .ok (.astore 6, 2) := dk_58 6 (dk_at dksX0_copy_2 5 rfl rfl)
theorem dX0_copy_54 : decode cX0_copy 54 = .ok (.bipush (-12), 2) := dk_16 244 (dk_at dksX0_copy_2 7 rfl rfl)
theorem dX0_copy_56 : decode cX0_copy 56 = .ok (.ireturn, 1) := dk_172 (dk_at dksX0_copy_2 9 rfl rfl)
theorem dX0_copy_57 : decode cX0_copy 57 = .ok (.astore 6, 2) := dk_58 6 (dk_at dksX0_copy_2 10 rfl rfl)
theorem dX0_copy_59 : decode cX0_copy 59 = .ok (.bipush (-13), 2) := dk_16 243 (dk_at dksX0_copy_2 12 rfl rfl)
theorem dX0_copy_61 : decode cX0_copy 61 = .ok (.ireturn, 1) := dk_172 (dk_at dksX0_copy_2 14 rfl rfl)
theorem dX0_copy_62 : decode cX0_copy 62 = .ok (.iload 5, 2) := dk_21 5 (dk_at dksX0_copy_2 15 rfl rfl)
theorem dX0_copy_64 : decode cX0_copy 64 = .ok (.ireturn, 1) := dk_172 (dk_at dksX0_copy_2 17 rfl rfl)
theorem q86 : (Jvm.Cond.initialized "ReadingStages") ∈ lw_all := lw_g (lw_at lw_m1 1 rfl) rfl
theorem q116 : (Jvm.Cond.instantiable "ReadingStages" (25 : Nat)) ∈ lw_all := lw_g (lw_at lw_m1 31 rfl) rfl
theorem q118 : (Jvm.Cond.instanceMethod ({ cls := "ReadingStages", name := "<init>", desc := "()V" } : Jvm.MethodName)) ∈ lw_all := lw_g (lw_at lw_m1 33 rfl) rfl
theorem q119 : (Jvm.Cond.code ({ cls := "ReadingStages", name := "<init>", desc := "()V" } : Jvm.MethodName) prog_1_method_4_code (2 : Nat) (Option.none : Option Jvm.ClassFile.FieldType)) ∈ lw_all := lw_g (lw_at lw_m1 34 rfl) rfl
theorem q120 : (Jvm.Cond.methodLink "ReadingStages" (9 : Nat) ({ cls := "java/lang/Object", name := "<init>", desc := "()V" } : Jvm.MethodName)) ∈ lw_all := lw_g (lw_at lw_m1 35 rfl) rfl
theorem q123 : (Jvm.Cond.classLink "ReadingStages" (15 : Nat) "ReadingStages$House") ∈ lw_all := lw_g (lw_at lw_m1 38 rfl) rfl
theorem q125 : (Jvm.Cond.methodLinkNest "ReadingStages" (17 : Nat) ({ cls := "ReadingStages$House", name := "<init>", desc := "()V" } : Jvm.MethodName) "ReadingStages") ∈ lw_tbl := lw_at lw_m1 40 rfl
theorem q138 : (Jvm.Cond.fieldLinkNest "ReadingStages" (153 : Nat) "ReadingStages$Board" "many" "I" "ReadingStages") ∈ lw_tbl := lw_at lw_m1 53 rfl
theorem q147 : (Jvm.Cond.fieldLinkNest "ReadingStages" (129 : Nat) "ReadingStages$House" "sets" "[I" "ReadingStages") ∈ lw_tbl := lw_at lw_m1 62 rfl
theorem q149 : (Jvm.Cond.fieldLinkNest "ReadingStages" (172 : Nat) "ReadingStages$House" "ahead" "[B" "ReadingStages") ∈ lw_tbl := lw_at lw_m1 64 rfl
theorem q151 : (Jvm.Cond.fieldLinkNest "ReadingStages" (234 : Nat) "ReadingStages$House" "order" "LReadingStages$Board;" "ReadingStages") ∈ lw_tbl := lw_at lw_m1 66 rfl
theorem q153 : (Jvm.Cond.fieldLinkNest "ReadingStages" (101 : Nat) "ReadingStages$House" "prior" "I" "ReadingStages") ∈ lw_tbl := lw_at lw_m1 68 rfl
theorem q155 : (Jvm.Cond.fieldLinkNest "ReadingStages" (251 : Nat) "ReadingStages$House" "span" "I" "ReadingStages") ∈ lw_tbl := lw_at lw_m1 70 rfl
theorem q157 : (Jvm.Cond.fieldLinkNest "ReadingStages" (186 : Nat) "ReadingStages$House" "bound" "I" "ReadingStages") ∈ lw_tbl := lw_at lw_m1 72 rfl
theorem q159 : (Jvm.Cond.fieldLinkNest "ReadingStages" (112 : Nat) "ReadingStages$House" "rule" "I" "ReadingStages") ∈ lw_tbl := lw_at lw_m1 74 rfl
theorem q161 : (Jvm.Cond.fieldLinkNest "ReadingStages" (346 : Nat) "ReadingStages$House" "draw" "I" "ReadingStages") ∈ lw_tbl := lw_at lw_m1 76 rfl
theorem q179 : (Jvm.Cond.classLink "ReadingStages" (22 : Nat) "ReadingStages$Rule") ∈ lw_all := lw_g (lw_at lw_m1 94 rfl) rfl
theorem q181 : (Jvm.Cond.classLink "ReadingStages" (48 : Nat) "ReadingStages$Board") ∈ lw_all := lw_g (lw_at lw_m1 96 rfl) rfl
theorem q182 : (Jvm.Cond.methodLinkNest "ReadingStages" (50 : Nat) ({ cls := "ReadingStages$Board", name := "<init>", desc := "()V" } : Jvm.MethodName) "ReadingStages") ∈ lw_tbl := lw_at lw_m1 97 rfl
theorem q184 : (Jvm.Cond.classLink "ReadingStages" (62 : Nat) "ReadingStages$Fault") ∈ lw_all := lw_g (lw_at lw_m1 99 rfl) rfl
theorem q239 : (Jvm.Cond.methodLink "ReadingStages" (64 : Nat) ({ cls := "ReadingStages$Fault", name := "<init>", desc := "()V" } : Jvm.MethodName)) ∈ lw_all := lw_g (lw_at lw_m1 154 rfl) rfl
theorem q248 : (Jvm.Cond.fieldLinkNest "ReadingStages" (382 : Nat) "ReadingStages$Fault" "place" "I" "ReadingStages") ∈ lw_tbl := lw_at lw_m1 163 rfl
theorem q264 : (Jvm.Cond.classLink "ReadingStages" (69 : Nat) "ReadingStages$Letters") ∈ lw_all := lw_g (lw_at lw_m1 179 rfl) rfl
theorem q266 : (Jvm.Cond.methodLinkNest "ReadingStages" (71 : Nat) ({ cls := "ReadingStages$Letters", name := "<init>", desc := "()V" } : Jvm.MethodName) "ReadingStages") ∈ lw_tbl := lw_at lw_m1 181 rfl
theorem q271 : (Jvm.Cond.fieldLinkNest "ReadingStages" (370 : Nat) "ReadingStages$Letters" "letters" "[C" "ReadingStages") ∈ lw_tbl := lw_at lw_m1 186 rfl
theorem q273 : (Jvm.Cond.fieldLinkNest "ReadingStages" (369 : Nat) "ReadingStages$Letters" "many" "I" "ReadingStages") ∈ lw_tbl := lw_at lw_m1 188 rfl
theorem q280 : (Jvm.Cond.classLink "ReadingStages" (85 : Nat) "ReadingStages$Sheet") ∈ lw_all := lw_g (lw_at lw_m1 195 rfl) rfl
theorem q283 : (Jvm.Cond.methodLinkNest "ReadingStages" (91 : Nat) ({ cls := "ReadingStages$Sheet", name := "<init>", desc := "()V" } : Jvm.MethodName) "ReadingStages") ∈ lw_tbl := lw_at lw_m1 198 rfl
theorem q288 : (Jvm.Cond.fieldLinkNest "ReadingStages" (441 : Nat) "ReadingStages$Sheet" "row" "Ljava/lang/Object;" "ReadingStages") ∈ lw_tbl := lw_at lw_m1 203 rfl
theorem q292 : (Jvm.Cond.privateMethod ({ cls := "ReadingStages", name := "lambda$new$0", desc := "(I)I" } : Jvm.MethodName)) ∈ lw_tbl := lw_at lw_m1 207 rfl
theorem q293 : (Jvm.Cond.instanceMethod ({ cls := "ReadingStages", name := "lambda$new$0", desc := "(I)I" } : Jvm.MethodName)) ∈ lw_all := lw_g (lw_at lw_m1 208 rfl) rfl
theorem q294 : (Jvm.Cond.code ({ cls := "ReadingStages", name := "lambda$new$0", desc := "(I)I" } : Jvm.MethodName) prog_1_method_74_code (2 : Nat) (Option.some Jvm.ClassFile.FieldType.int)) ∈ lw_all := lw_g (lw_at lw_m1 209 rfl) rfl
theorem q295 : (Jvm.Cond.privateMethod ({ cls := "ReadingStages", name := "lambda$new$1", desc := "(I)I" } : Jvm.MethodName)) ∈ lw_tbl := lw_at lw_m1 210 rfl
theorem q296 : (Jvm.Cond.instanceMethod ({ cls := "ReadingStages", name := "lambda$new$1", desc := "(I)I" } : Jvm.MethodName)) ∈ lw_all := lw_g (lw_at lw_m1 211 rfl) rfl
theorem q297 : (Jvm.Cond.code ({ cls := "ReadingStages", name := "lambda$new$1", desc := "(I)I" } : Jvm.MethodName) prog_1_method_73_code (2 : Nat) (Option.some Jvm.ClassFile.FieldType.int)) ∈ lw_all := lw_g (lw_at lw_m1 212 rfl) rfl
theorem q298 : (Jvm.Cond.privateMethod ({ cls := "ReadingStages", name := "lambda$new$2", desc := "(I)I" } : Jvm.MethodName)) ∈ lw_tbl := lw_at lw_m1 213 rfl
theorem q299 : (Jvm.Cond.instanceMethod ({ cls := "ReadingStages", name := "lambda$new$2", desc := "(I)I" } : Jvm.MethodName)) ∈ lw_all := lw_g (lw_at lw_m1 214 rfl) rfl
theorem q300 : (Jvm.Cond.code ({ cls := "ReadingStages", name := "lambda$new$2", desc := "(I)I" } : Jvm.MethodName) prog_1_method_72_code (2 : Nat) (Option.some Jvm.ClassFile.FieldType.int)) ∈ lw_all := lw_g (lw_at lw_m1 215 rfl) rfl
theorem q301 : (Jvm.Cond.fieldLink "ReadingStages" (18 : Nat) "ReadingStages" "now" "LReadingStages$House;") ∈ lw_all := lw_g (lw_at lw_m1 216 rfl) rfl
theorem q302 : (Jvm.Cond.fieldLink "ReadingStages" (24 : Nat) "ReadingStages" "rules" "[LReadingStages$Rule;") ∈ lw_all := lw_g (lw_at lw_m1 217 rfl) rfl
theorem q303 : (Jvm.Cond.fieldLink "ReadingStages" (28 : Nat) "ReadingStages" "strengths" "[B") ∈ lw_all := lw_g (lw_at lw_m1 218 rfl) rfl
theorem q304 : (Jvm.Cond.fieldLink "ReadingStages" (32 : Nat) "ReadingStages" "lasts" "[B") ∈ lw_all := lw_g (lw_at lw_m1 219 rfl) rfl
theorem q305 : (Jvm.Cond.fieldLink "ReadingStages" (35 : Nat) "ReadingStages" "fresh" "[I") ∈ lw_all := lw_g (lw_at lw_m1 220 rfl) rfl
theorem q306 : (Jvm.Cond.fieldLink "ReadingStages" (39 : Nat) "ReadingStages" "again" "[I") ∈ lw_all := lw_g (lw_at lw_m1 221 rfl) rfl
theorem q307 : (Jvm.Cond.fieldLink "ReadingStages" (42 : Nat) "ReadingStages" "lost" "[I") ∈ lw_all := lw_g (lw_at lw_m1 222 rfl) rfl
theorem q308 : (Jvm.Cond.fieldLink "ReadingStages" (45 : Nat) "ReadingStages" "kept" "[I") ∈ lw_all := lw_g (lw_at lw_m1 223 rfl) rfl
theorem q309 : (Jvm.Cond.fieldLink "ReadingStages" (51 : Nat) "ReadingStages" "mind" "LReadingStages$Board;") ∈ lw_all := lw_g (lw_at lw_m1 224 rfl) rfl
theorem q310 : (Jvm.Cond.fieldLink "ReadingStages" (55 : Nat) "ReadingStages" "best" "LReadingStages$Board;") ∈ lw_all := lw_g (lw_at lw_m1 225 rfl) rfl
theorem q311 : (Jvm.Cond.fieldLink "ReadingStages" (189 : Nat) "ReadingStages" "bestPeak" "I") ∈ lw_all := lw_g (lw_at lw_m1 226 rfl) rfl
theorem q312 : (Jvm.Cond.fieldLink "ReadingStages" (192 : Nat) "ReadingStages" "bestLoss" "I") ∈ lw_all := lw_g (lw_at lw_m1 227 rfl) rfl
theorem q313 : (Jvm.Cond.fieldLink "ReadingStages" (169 : Nat) "ReadingStages" "counted" "I") ∈ lw_all := lw_g (lw_at lw_m1 228 rfl) rfl
theorem q314 : (Jvm.Cond.fieldLink "ReadingStages" (226 : Nat) "ReadingStages" "fitting" "I") ∈ lw_all := lw_g (lw_at lw_m1 229 rfl) rfl
theorem q315 : (Jvm.Cond.fieldLink "ReadingStages" (58 : Nat) "ReadingStages" "past" "[LReadingStages$House;") ∈ lw_all := lw_g (lw_at lw_m1 230 rfl) rfl
theorem q316 : (Jvm.Cond.fieldLink "ReadingStages" (258 : Nat) "ReadingStages" "undoMany" "I") ∈ lw_all := lw_g (lw_at lw_m1 231 rfl) rfl
theorem q317 : (Jvm.Cond.fieldLink "ReadingStages" (65 : Nat) "ReadingStages" "fault" "LReadingStages$Fault;") ∈ lw_all := lw_g (lw_at lw_m1 232 rfl) rfl
theorem q318 : (Jvm.Cond.fieldLink "ReadingStages" (72 : Nat) "ReadingStages" "tape" "LReadingStages$Letters;") ∈ lw_all := lw_g (lw_at lw_m1 233 rfl) rfl
theorem q319 : (Jvm.Cond.fieldLink "ReadingStages" (374 : Nat) "ReadingStages" "reads" "I") ∈ lw_all := lw_g (lw_at lw_m1 234 rfl) rfl
theorem q320 : (Jvm.Cond.fieldLink "ReadingStages" (76 : Nat) "ReadingStages" "got" "LReadingStages$House;") ∈ lw_all := lw_g (lw_at lw_m1 235 rfl) rfl
theorem q321 : (Jvm.Cond.fieldLink "ReadingStages" (79 : Nat) "ReadingStages" "keptHouse" "LReadingStages$House;") ∈ lw_all := lw_g (lw_at lw_m1 236 rfl) rfl
theorem q322 : (Jvm.Cond.fieldLink "ReadingStages" (82 : Nat) "ReadingStages" "keptPast" "[LReadingStages$House;") ∈ lw_all := lw_g (lw_at lw_m1 237 rfl) rfl
theorem q323 : (Jvm.Cond.fieldLink "ReadingStages" (432 : Nat) "ReadingStages" "keptMany" "I") ∈ lw_all := lw_g (lw_at lw_m1 238 rfl) rfl
theorem q324 : (Jvm.Cond.fieldLink "ReadingStages" (435 : Nat) "ReadingStages" "isKept" "Z") ∈ lw_all := lw_g (lw_at lw_m1 239 rfl) rfl
theorem q325 : (Jvm.Cond.fieldLink "ReadingStages" (87 : Nat) "ReadingStages" "sheets" "[LReadingStages$Sheet;") ∈ lw_all := lw_g (lw_at lw_m2 0 rfl) rfl
theorem q326 : (Jvm.Cond.laysFinal "ReadingStages" "ReadingStages" "now" "LReadingStages$House;") ∈ lw_all := lw_g (lw_at lw_m2 1 rfl) rfl
theorem q327 : (Jvm.Cond.soleField "ReadingStages" "now") ∈ lw_all := lw_g (lw_at lw_m2 2 rfl) rfl
theorem q328 : (Jvm.Cond.laysFinal "ReadingStages" "ReadingStages" "rules" "[LReadingStages$Rule;") ∈ lw_all := lw_g (lw_at lw_m2 3 rfl) rfl
theorem q329 : (Jvm.Cond.soleField "ReadingStages" "rules") ∈ lw_all := lw_g (lw_at lw_m2 4 rfl) rfl
theorem q330 : (Jvm.Cond.laysFinal "ReadingStages" "ReadingStages" "strengths" "[B") ∈ lw_all := lw_g (lw_at lw_m2 5 rfl) rfl
theorem q331 : (Jvm.Cond.soleField "ReadingStages" "strengths") ∈ lw_all := lw_g (lw_at lw_m2 6 rfl) rfl
theorem q332 : (Jvm.Cond.laysFinal "ReadingStages" "ReadingStages" "lasts" "[B") ∈ lw_all := lw_g (lw_at lw_m2 7 rfl) rfl
theorem q333 : (Jvm.Cond.soleField "ReadingStages" "lasts") ∈ lw_all := lw_g (lw_at lw_m2 8 rfl) rfl
theorem q334 : (Jvm.Cond.laysFinal "ReadingStages" "ReadingStages" "fresh" "[I") ∈ lw_all := lw_g (lw_at lw_m2 9 rfl) rfl
theorem q335 : (Jvm.Cond.soleField "ReadingStages" "fresh") ∈ lw_all := lw_g (lw_at lw_m2 10 rfl) rfl
theorem q336 : (Jvm.Cond.laysFinal "ReadingStages" "ReadingStages" "again" "[I") ∈ lw_all := lw_g (lw_at lw_m2 11 rfl) rfl
theorem q337 : (Jvm.Cond.soleField "ReadingStages" "again") ∈ lw_all := lw_g (lw_at lw_m2 12 rfl) rfl
theorem q338 : (Jvm.Cond.laysFinal "ReadingStages" "ReadingStages" "lost" "[I") ∈ lw_all := lw_g (lw_at lw_m2 13 rfl) rfl
theorem q339 : (Jvm.Cond.soleField "ReadingStages" "lost") ∈ lw_all := lw_g (lw_at lw_m2 14 rfl) rfl
theorem q340 : (Jvm.Cond.laysFinal "ReadingStages" "ReadingStages" "kept" "[I") ∈ lw_all := lw_g (lw_at lw_m2 15 rfl) rfl
theorem q341 : (Jvm.Cond.soleField "ReadingStages" "kept") ∈ lw_all := lw_g (lw_at lw_m2 16 rfl) rfl
theorem q342 : (Jvm.Cond.laysFinal "ReadingStages" "ReadingStages" "mind" "LReadingStages$Board;") ∈ lw_all := lw_g (lw_at lw_m2 17 rfl) rfl
theorem q343 : (Jvm.Cond.soleField "ReadingStages" "mind") ∈ lw_all := lw_g (lw_at lw_m2 18 rfl) rfl
theorem q344 : (Jvm.Cond.laysFinal "ReadingStages" "ReadingStages" "best" "LReadingStages$Board;") ∈ lw_all := lw_g (lw_at lw_m2 19 rfl) rfl
theorem q345 : (Jvm.Cond.soleField "ReadingStages" "best") ∈ lw_all := lw_g (lw_at lw_m2 20 rfl) rfl
theorem q346 : (Jvm.Cond.lays "ReadingStages" "ReadingStages" "bestPeak" "I") ∈ lw_all := lw_g (lw_at lw_m2 21 rfl) rfl
theorem q347 : (Jvm.Cond.soleField "ReadingStages" "bestPeak") ∈ lw_all := lw_g (lw_at lw_m2 22 rfl) rfl
theorem q348 : (Jvm.Cond.lays "ReadingStages" "ReadingStages" "bestLoss" "I") ∈ lw_all := lw_g (lw_at lw_m2 23 rfl) rfl
theorem q349 : (Jvm.Cond.soleField "ReadingStages" "bestLoss") ∈ lw_all := lw_g (lw_at lw_m2 24 rfl) rfl
theorem q350 : (Jvm.Cond.lays "ReadingStages" "ReadingStages" "counted" "I") ∈ lw_all := lw_g (lw_at lw_m2 25 rfl) rfl
theorem q351 : (Jvm.Cond.soleField "ReadingStages" "counted") ∈ lw_all := lw_g (lw_at lw_m2 26 rfl) rfl
theorem q352 : (Jvm.Cond.lays "ReadingStages" "ReadingStages" "fitting" "I") ∈ lw_all := lw_g (lw_at lw_m2 27 rfl) rfl
theorem q353 : (Jvm.Cond.soleField "ReadingStages" "fitting") ∈ lw_all := lw_g (lw_at lw_m2 28 rfl) rfl
theorem q354 : (Jvm.Cond.laysFinal "ReadingStages" "ReadingStages" "past" "[LReadingStages$House;") ∈ lw_all := lw_g (lw_at lw_m2 29 rfl) rfl
theorem q355 : (Jvm.Cond.soleField "ReadingStages" "past") ∈ lw_all := lw_g (lw_at lw_m2 30 rfl) rfl
theorem q356 : (Jvm.Cond.lays "ReadingStages" "ReadingStages" "undoMany" "I") ∈ lw_all := lw_g (lw_at lw_m2 31 rfl) rfl
theorem q357 : (Jvm.Cond.soleField "ReadingStages" "undoMany") ∈ lw_all := lw_g (lw_at lw_m2 32 rfl) rfl
theorem q358 : (Jvm.Cond.laysFinal "ReadingStages" "ReadingStages" "fault" "LReadingStages$Fault;") ∈ lw_all := lw_g (lw_at lw_m2 33 rfl) rfl
theorem q359 : (Jvm.Cond.soleField "ReadingStages" "fault") ∈ lw_all := lw_g (lw_at lw_m2 34 rfl) rfl
theorem q360 : (Jvm.Cond.laysFinal "ReadingStages" "ReadingStages" "tape" "LReadingStages$Letters;") ∈ lw_all := lw_g (lw_at lw_m2 35 rfl) rfl
theorem q361 : (Jvm.Cond.soleField "ReadingStages" "tape") ∈ lw_all := lw_g (lw_at lw_m2 36 rfl) rfl
theorem q362 : (Jvm.Cond.lays "ReadingStages" "ReadingStages" "reads" "I") ∈ lw_all := lw_g (lw_at lw_m2 37 rfl) rfl
theorem q363 : (Jvm.Cond.soleField "ReadingStages" "reads") ∈ lw_all := lw_g (lw_at lw_m2 38 rfl) rfl
theorem q364 : (Jvm.Cond.laysFinal "ReadingStages" "ReadingStages" "got" "LReadingStages$House;") ∈ lw_all := lw_g (lw_at lw_m2 39 rfl) rfl
theorem q365 : (Jvm.Cond.soleField "ReadingStages" "got") ∈ lw_all := lw_g (lw_at lw_m2 40 rfl) rfl
theorem q366 : (Jvm.Cond.laysFinal "ReadingStages" "ReadingStages" "keptHouse" "LReadingStages$House;") ∈ lw_all := lw_g (lw_at lw_m2 41 rfl) rfl
theorem q367 : (Jvm.Cond.soleField "ReadingStages" "keptHouse") ∈ lw_all := lw_g (lw_at lw_m2 42 rfl) rfl
theorem q368 : (Jvm.Cond.laysFinal "ReadingStages" "ReadingStages" "keptPast" "[LReadingStages$House;") ∈ lw_all := lw_g (lw_at lw_m2 43 rfl) rfl
theorem q369 : (Jvm.Cond.soleField "ReadingStages" "keptPast") ∈ lw_all := lw_g (lw_at lw_m2 44 rfl) rfl
theorem q370 : (Jvm.Cond.lays "ReadingStages" "ReadingStages" "keptMany" "I") ∈ lw_all := lw_g (lw_at lw_m2 45 rfl) rfl
theorem q371 : (Jvm.Cond.soleField "ReadingStages" "keptMany") ∈ lw_all := lw_g (lw_at lw_m2 46 rfl) rfl
theorem q372 : (Jvm.Cond.lays "ReadingStages" "ReadingStages" "isKept" "Z") ∈ lw_all := lw_g (lw_at lw_m2 47 rfl) rfl
theorem q373 : (Jvm.Cond.soleField "ReadingStages" "isKept") ∈ lw_all := lw_g (lw_at lw_m2 48 rfl) rfl
theorem q374 : (Jvm.Cond.laysFinal "ReadingStages" "ReadingStages" "sheets" "[LReadingStages$Sheet;") ∈ lw_all := lw_g (lw_at lw_m2 49 rfl) rfl
theorem q375 : (Jvm.Cond.soleField "ReadingStages" "sheets") ∈ lw_all := lw_g (lw_at lw_m2 50 rfl) rfl
theorem q376 : (Jvm.Cond.superclass "ReadingStages" "java/lang/Object") ∈ lw_all := lw_g (lw_at lw_m2 51 rfl) rfl
theorem q378 : (Jvm.Cond.instanceMethod ({ cls := "ReadingStages", name := "best", desc := "(I)I" } : Jvm.MethodName)) ∈ lw_all := lw_g (lw_at lw_m2 53 rfl) rfl
theorem q379 : (Jvm.Cond.selects "ReadingStages" ({ cls := "ReadingStages", name := "best", desc := "(I)I" } : Jvm.MethodName) ({ cls := "ReadingStages", name := "best", desc := "(I)I" } : Jvm.MethodName)) ∈ lw_all := lw_g (lw_at lw_m2 54 rfl) rfl
theorem q380 : (Jvm.Cond.code ({ cls := "ReadingStages", name := "best", desc := "(I)I" } : Jvm.MethodName) prog_1_method_18_code (2 : Nat) (Option.some Jvm.ClassFile.FieldType.int)) ∈ lw_all := lw_g (lw_at lw_m2 55 rfl) rfl
theorem q381 : (Jvm.Cond.constantLong "ReadingStages" (212 : Nat) (5 : Int64)) ∈ lw_all := lw_g (lw_at lw_m2 56 rfl) rfl
theorem q382 : (Jvm.Cond.methodLink "ReadingStages" (5 : Nat) ({ cls := "ReadingStages", name := "isIn", desc := "(JJJ)Z" } : Jvm.MethodName)) ∈ lw_all := lw_g (lw_at lw_m2 57 rfl) rfl
theorem q383 : (Jvm.Cond.static ({ cls := "ReadingStages", name := "isIn", desc := "(JJJ)Z" } : Jvm.MethodName)) ∈ lw_all := lw_g (lw_at lw_m2 58 rfl) rfl
theorem q384 : (Jvm.Cond.code ({ cls := "ReadingStages", name := "isIn", desc := "(JJJ)Z" } : Jvm.MethodName) prog_1_method_1_code (6 : Nat) (Option.some Jvm.ClassFile.FieldType.boolean)) ∈ lw_all := lw_g (lw_at lw_m2 59 rfl) rfl
theorem q385 : (Jvm.Cond.methodLink "ReadingStages" (214 : Nat) ({ cls := "ReadingStages", name := "layBest", desc := "()V" } : Jvm.MethodName)) ∈ lw_all := lw_g (lw_at lw_m2 60 rfl) rfl
theorem q386 : (Jvm.Cond.privateMethod ({ cls := "ReadingStages", name := "layBest", desc := "()V" } : Jvm.MethodName)) ∈ lw_tbl := lw_at lw_m2 61 rfl
theorem q387 : (Jvm.Cond.instanceMethod ({ cls := "ReadingStages", name := "layBest", desc := "()V" } : Jvm.MethodName)) ∈ lw_all := lw_g (lw_at lw_m2 62 rfl) rfl
theorem q388 : (Jvm.Cond.code ({ cls := "ReadingStages", name := "layBest", desc := "()V" } : Jvm.MethodName) prog_1_method_15_code (1 : Nat) (Option.none : Option Jvm.ClassFile.FieldType)) ∈ lw_all := lw_g (lw_at lw_m2 63 rfl) rfl
theorem q389 : (Jvm.Cond.methodLink "ReadingStages" (166 : Nat) ({ cls := "ReadingStages$Board", name := "clear", desc := "()V" } : Jvm.MethodName)) ∈ lw_all := lw_g (lw_at lw_m2 64 rfl) rfl
theorem q393 : (Jvm.Cond.privateMethod ({ cls := "ReadingStages", name := "lambda$layBest$3", desc := "(LReadingStages$Shelf;)Z" } : Jvm.MethodName)) ∈ lw_tbl := lw_at lw_m2 68 rfl
theorem q394 : (Jvm.Cond.instanceMethod ({ cls := "ReadingStages", name := "lambda$layBest$3", desc := "(LReadingStages$Shelf;)Z" } : Jvm.MethodName)) ∈ lw_all := lw_g (lw_at lw_m2 69 rfl) rfl
theorem q395 : (Jvm.Cond.code ({ cls := "ReadingStages", name := "lambda$layBest$3", desc := "(LReadingStages$Shelf;)Z" } : Jvm.MethodName) prog_1_method_71_code (4 : Nat) (Option.some Jvm.ClassFile.FieldType.boolean)) ∈ lw_all := lw_g (lw_at lw_m2 70 rfl) rfl
theorem q396 : (Jvm.Cond.interfaceEntry "ReadingStages" (175 : Nat)) ∈ lw_tbl := lw_at lw_m2 71 rfl
theorem q397 : (Jvm.Cond.methodLink "ReadingStages" (175 : Nat) ({ cls := "ReadingStages$Shelf", name := "holds", desc := "([B)Z" } : Jvm.MethodName)) ∈ lw_all := lw_g (lw_at lw_m2 72 rfl) rfl
theorem q423 : (Jvm.Cond.methodLink "ReadingStages" (179 : Nat) ({ cls := "ReadingStages", name := "go", desc := "(LReadingStages$Shelf;I)V" } : Jvm.MethodName)) ∈ lw_all := lw_g (lw_at lw_m2 98 rfl) rfl
theorem q424 : (Jvm.Cond.privateMethod ({ cls := "ReadingStages", name := "go", desc := "(LReadingStages$Shelf;I)V" } : Jvm.MethodName)) ∈ lw_tbl := lw_at lw_m2 99 rfl
theorem q425 : (Jvm.Cond.instanceMethod ({ cls := "ReadingStages", name := "go", desc := "(LReadingStages$Shelf;I)V" } : Jvm.MethodName)) ∈ lw_all := lw_g (lw_at lw_m2 100 rfl) rfl
theorem q426 : (Jvm.Cond.code ({ cls := "ReadingStages", name := "go", desc := "(LReadingStages$Shelf;I)V" } : Jvm.MethodName) prog_1_method_9_code (4 : Nat) (Option.none : Option Jvm.ClassFile.FieldType)) ∈ lw_all := lw_g (lw_at lw_m2 101 rfl) rfl
theorem q427 : (Jvm.Cond.methodLink "ReadingStages" (118 : Nat) ({ cls := "ReadingStages", name := "forget", desc := "()V" } : Jvm.MethodName)) ∈ lw_all := lw_g (lw_at lw_m2 102 rfl) rfl
theorem q428 : (Jvm.Cond.privateMethod ({ cls := "ReadingStages", name := "forget", desc := "()V" } : Jvm.MethodName)) ∈ lw_tbl := lw_at lw_m2 103 rfl
theorem q429 : (Jvm.Cond.instanceMethod ({ cls := "ReadingStages", name := "forget", desc := "()V" } : Jvm.MethodName)) ∈ lw_all := lw_g (lw_at lw_m2 104 rfl) rfl
theorem q430 : (Jvm.Cond.code ({ cls := "ReadingStages", name := "forget", desc := "()V" } : Jvm.MethodName) prog_1_method_6_code (2 : Nat) (Option.none : Option Jvm.ClassFile.FieldType)) ∈ lw_all := lw_g (lw_at lw_m2 105 rfl) rfl
theorem q431 : (Jvm.Cond.interfaceEntry "ReadingStages" (121 : Nat)) ∈ lw_tbl := lw_at lw_m2 106 rfl
theorem q432 : (Jvm.Cond.methodLink "ReadingStages" (121 : Nat) ({ cls := "ReadingStages$Shelf", name := "size", desc := "()I" } : Jvm.MethodName)) ∈ lw_all := lw_g (lw_at lw_m2 107 rfl) rfl
theorem q433 : (Jvm.Cond.interfaceEntry "ReadingStages" (126 : Nat)) ∈ lw_tbl := lw_at lw_m2 108 rfl
theorem q434 : (Jvm.Cond.methodLink "ReadingStages" (126 : Nat) ({ cls := "ReadingStages$Shelf", name := "at", desc := "(I)I" } : Jvm.MethodName)) ∈ lw_all := lw_g (lw_at lw_m2 109 rfl) rfl
theorem q435 : (Jvm.Cond.methodLink "ReadingStages" (108 : Nat) ({ cls := "ReadingStages", name := "has", desc := "(II)Z" } : Jvm.MethodName)) ∈ lw_all := lw_g (lw_at lw_m2 110 rfl) rfl
theorem q436 : (Jvm.Cond.static ({ cls := "ReadingStages", name := "has", desc := "(II)Z" } : Jvm.MethodName)) ∈ lw_all := lw_g (lw_at lw_m2 111 rfl) rfl
theorem q437 : (Jvm.Cond.code ({ cls := "ReadingStages", name := "has", desc := "(II)Z" } : Jvm.MethodName) prog_1_method_2_code (2 : Nat) (Option.some Jvm.ClassFile.FieldType.boolean)) ∈ lw_all := lw_g (lw_at lw_m2 112 rfl) rfl
theorem q438 : (Jvm.Cond.methodLink "ReadingStages" (132 : Nat) ({ cls := "ReadingStages", name := "step", desc := "(II)V" } : Jvm.MethodName)) ∈ lw_all := lw_g (lw_at lw_m2 113 rfl) rfl
theorem q439 : (Jvm.Cond.privateMethod ({ cls := "ReadingStages", name := "step", desc := "(II)V" } : Jvm.MethodName)) ∈ lw_tbl := lw_at lw_m2 114 rfl
theorem q440 : (Jvm.Cond.instanceMethod ({ cls := "ReadingStages", name := "step", desc := "(II)V" } : Jvm.MethodName)) ∈ lw_all := lw_g (lw_at lw_m2 115 rfl) rfl
theorem q441 : (Jvm.Cond.code ({ cls := "ReadingStages", name := "step", desc := "(II)V" } : Jvm.MethodName) prog_1_method_8_code (6 : Nat) (Option.none : Option Jvm.ClassFile.FieldType)) ∈ lw_all := lw_g (lw_at lw_m2 116 rfl) rfl
theorem q442 : (Jvm.Cond.methodLink "ReadingStages" (105 : Nat) ({ cls := "ReadingStages", name := "strong", desc := "()I" } : Jvm.MethodName)) ∈ lw_all := lw_g (lw_at lw_m2 117 rfl) rfl
theorem q443 : (Jvm.Cond.privateMethod ({ cls := "ReadingStages", name := "strong", desc := "()I" } : Jvm.MethodName)) ∈ lw_tbl := lw_at lw_m2 118 rfl
theorem q444 : (Jvm.Cond.instanceMethod ({ cls := "ReadingStages", name := "strong", desc := "()I" } : Jvm.MethodName)) ∈ lw_all := lw_g (lw_at lw_m2 119 rfl) rfl
theorem q445 : (Jvm.Cond.code ({ cls := "ReadingStages", name := "strong", desc := "()I" } : Jvm.MethodName) prog_1_method_7_code (3 : Nat) (Option.some Jvm.ClassFile.FieldType.int)) ∈ lw_all := lw_g (lw_at lw_m2 120 rfl) rfl
theorem q446 : (Jvm.Cond.interfaceEntry "ReadingStages" (115 : Nat)) ∈ lw_tbl := lw_at lw_m2 121 rfl
theorem q447 : (Jvm.Cond.methodLink "ReadingStages" (115 : Nat) ({ cls := "ReadingStages$Rule", name := "lasts", desc := "(I)I" } : Jvm.MethodName)) ∈ lw_all := lw_g (lw_at lw_m2 122 rfl) rfl
theorem q450 : (Jvm.Cond.methodLink "ReadingStages" (183 : Nat) ({ cls := "ReadingStages", name := "peak", desc := "(I)I" } : Jvm.MethodName)) ∈ lw_all := lw_g (lw_at lw_m2 125 rfl) rfl
theorem q451 : (Jvm.Cond.privateMethod ({ cls := "ReadingStages", name := "peak", desc := "(I)I" } : Jvm.MethodName)) ∈ lw_tbl := lw_at lw_m2 126 rfl
theorem q452 : (Jvm.Cond.instanceMethod ({ cls := "ReadingStages", name := "peak", desc := "(I)I" } : Jvm.MethodName)) ∈ lw_all := lw_g (lw_at lw_m2 127 rfl) rfl
theorem q453 : (Jvm.Cond.code ({ cls := "ReadingStages", name := "peak", desc := "(I)I" } : Jvm.MethodName) prog_1_method_10_code (4 : Nat) (Option.some Jvm.ClassFile.FieldType.int)) ∈ lw_all := lw_g (lw_at lw_m2 128 rfl) rfl
theorem q454 : (Jvm.Cond.methodLink "ReadingStages" (136 : Nat) ({ cls := "java/lang/Integer", name := "bitCount", desc := "(I)I" } : Jvm.MethodName)) ∈ lw_all := lw_g (lw_at lw_m2 129 rfl) rfl
theorem q460 : (Jvm.Cond.methodLink "ReadingStages" (141 : Nat) ({ cls := "java/lang/Math", name := "max", desc := "(II)I" } : Jvm.MethodName)) ∈ lw_all := lw_g (lw_at lw_m2 135 rfl) rfl
theorem q463 : (Jvm.Cond.methodLink "ReadingStages" (209 : Nat) ({ cls := "ReadingStages", name := "loss", desc := "(I)I" } : Jvm.MethodName)) ∈ lw_all := lw_g (lw_at lw_m2 138 rfl) rfl
theorem q464 : (Jvm.Cond.privateMethod ({ cls := "ReadingStages", name := "loss", desc := "(I)I" } : Jvm.MethodName)) ∈ lw_tbl := lw_at lw_m2 139 rfl
theorem q465 : (Jvm.Cond.instanceMethod ({ cls := "ReadingStages", name := "loss", desc := "(I)I" } : Jvm.MethodName)) ∈ lw_all := lw_g (lw_at lw_m2 140 rfl) rfl
theorem q466 : (Jvm.Cond.code ({ cls := "ReadingStages", name := "loss", desc := "(I)I" } : Jvm.MethodName) prog_1_method_11_code (4 : Nat) (Option.some Jvm.ClassFile.FieldType.int)) ∈ lw_all := lw_g (lw_at lw_m2 141 rfl) rfl
theorem q467 : (Jvm.Cond.methodLink "ReadingStages" (343 : Nat) ({ cls := "ReadingStages$Board", name := "takeFrom", desc := "(LReadingStages$Board;)V" } : Jvm.MethodName)) ∈ lw_all := lw_g (lw_at lw_m2 142 rfl) rfl
theorem q474 : (Jvm.Cond.methodLink "ReadingStages" (198 : Nat) ({ cls := "ReadingStages", name := "askAll", desc := "(LReadingStages$Ask;)V" } : Jvm.MethodName)) ∈ lw_all := lw_g (lw_at lw_m2 149 rfl) rfl
theorem q475 : (Jvm.Cond.privateMethod ({ cls := "ReadingStages", name := "askAll", desc := "(LReadingStages$Ask;)V" } : Jvm.MethodName)) ∈ lw_tbl := lw_at lw_m2 150 rfl
theorem q476 : (Jvm.Cond.instanceMethod ({ cls := "ReadingStages", name := "askAll", desc := "(LReadingStages$Ask;)V" } : Jvm.MethodName)) ∈ lw_all := lw_g (lw_at lw_m2 151 rfl) rfl
theorem q477 : (Jvm.Cond.code ({ cls := "ReadingStages", name := "askAll", desc := "(LReadingStages$Ask;)V" } : Jvm.MethodName) prog_1_method_13_code (2 : Nat) (Option.none : Option Jvm.ClassFile.FieldType)) ∈ lw_all := lw_g (lw_at lw_m2 152 rfl) rfl
theorem q478 : (Jvm.Cond.methodLink "ReadingStages" (97 : Nat) ({ cls := "ReadingStages$House", name := "many", desc := "()I" } : Jvm.MethodName)) ∈ lw_all := lw_g (lw_at lw_m2 153 rfl) rfl
theorem q482 : (Jvm.Cond.methodLink "ReadingStages" (158 : Nat) ({ cls := "ReadingStages", name := "eachOrder", desc := "(ILReadingStages$Ask;)Z" } : Jvm.MethodName)) ∈ lw_all := lw_g (lw_at lw_m2 157 rfl) rfl
theorem q483 : (Jvm.Cond.privateMethod ({ cls := "ReadingStages", name := "eachOrder", desc := "(ILReadingStages$Ask;)Z" } : Jvm.MethodName)) ∈ lw_tbl := lw_at lw_m2 158 rfl
theorem q484 : (Jvm.Cond.instanceMethod ({ cls := "ReadingStages", name := "eachOrder", desc := "(ILReadingStages$Ask;)Z" } : Jvm.MethodName)) ∈ lw_all := lw_g (lw_at lw_m2 159 rfl) rfl
theorem q485 : (Jvm.Cond.code ({ cls := "ReadingStages", name := "eachOrder", desc := "(ILReadingStages$Ask;)Z" } : Jvm.MethodName) prog_1_method_12_code (5 : Nat) (Option.some Jvm.ClassFile.FieldType.boolean)) ∈ lw_all := lw_g (lw_at lw_m2 160 rfl) rfl
theorem q486 : (Jvm.Cond.interfaceEntry "ReadingStages" (147 : Nat)) ∈ lw_tbl := lw_at lw_m2 161 rfl
theorem q487 : (Jvm.Cond.methodLink "ReadingStages" (147 : Nat) ({ cls := "ReadingStages$Ask", name := "goesOn", desc := "(LReadingStages$Shelf;)Z" } : Jvm.MethodName)) ∈ lw_all := lw_g (lw_at lw_m2 162 rfl) rfl
theorem q490 : (Jvm.Cond.methodLink "ReadingStages" (155 : Nat) ({ cls := "ReadingStages$Board", name := "put", desc := "(II)V" } : Jvm.MethodName)) ∈ lw_all := lw_g (lw_at lw_m2 165 rfl) rfl
theorem q494 : (Jvm.Cond.methodLink "ReadingStages" (162 : Nat) ({ cls := "ReadingStages$Board", name := "take", desc := "(I)V" } : Jvm.MethodName)) ∈ lw_all := lw_g (lw_at lw_m2 169 rfl) rfl
theorem q498 : (Jvm.Cond.methodLink "ReadingStages" (217 : Nat) ({ cls := "ReadingStages", name := "layGrown", desc := "()V" } : Jvm.MethodName)) ∈ lw_all := lw_g (lw_at lw_m2 173 rfl) rfl
theorem q499 : (Jvm.Cond.privateMethod ({ cls := "ReadingStages", name := "layGrown", desc := "()V" } : Jvm.MethodName)) ∈ lw_tbl := lw_at lw_m2 174 rfl
theorem q500 : (Jvm.Cond.instanceMethod ({ cls := "ReadingStages", name := "layGrown", desc := "()V" } : Jvm.MethodName)) ∈ lw_all := lw_g (lw_at lw_m2 175 rfl) rfl
theorem q501 : (Jvm.Cond.code ({ cls := "ReadingStages", name := "layGrown", desc := "()V" } : Jvm.MethodName) prog_1_method_17_code (4 : Nat) (Option.none : Option Jvm.ClassFile.FieldType)) ∈ lw_all := lw_g (lw_at lw_m2 176 rfl) rfl
theorem q502 : (Jvm.Cond.methodLink "ReadingStages" (202 : Nat) ({ cls := "ReadingStages$House", name := "aheadOf", desc := "(I)I" } : Jvm.MethodName)) ∈ lw_all := lw_g (lw_at lw_m2 177 rfl) rfl
theorem q508 : (Jvm.Cond.methodLink "ReadingStages" (205 : Nat) ({ cls := "ReadingStages", name := "isEasier", desc := "(II)Z" } : Jvm.MethodName)) ∈ lw_all := lw_g (lw_at lw_m2 183 rfl) rfl
theorem q509 : (Jvm.Cond.privateMethod ({ cls := "ReadingStages", name := "isEasier", desc := "(II)Z" } : Jvm.MethodName)) ∈ lw_tbl := lw_at lw_m2 184 rfl
theorem q510 : (Jvm.Cond.instanceMethod ({ cls := "ReadingStages", name := "isEasier", desc := "(II)Z" } : Jvm.MethodName)) ∈ lw_all := lw_g (lw_at lw_m2 185 rfl) rfl
theorem q511 : (Jvm.Cond.code ({ cls := "ReadingStages", name := "isEasier", desc := "(II)Z" } : Jvm.MethodName) prog_1_method_16_code (6 : Nat) (Option.some Jvm.ClassFile.FieldType.boolean)) ∈ lw_all := lw_g (lw_at lw_m2 186 rfl) rfl
theorem q512 : (Jvm.Cond.methodLink "ReadingStages" (208 : Nat) ({ cls := "ReadingStages$Board", name := "at", desc := "(I)I" } : Jvm.MethodName)) ∈ lw_all := lw_g (lw_at lw_m2 187 rfl) rfl
theorem q519 : (Jvm.Cond.instanceMethod ({ cls := "ReadingStages", name := "many", desc := "(I)I" } : Jvm.MethodName)) ∈ lw_all := lw_g (lw_at lw_m2 194 rfl) rfl
theorem q520 : (Jvm.Cond.selects "ReadingStages" ({ cls := "ReadingStages", name := "many", desc := "(I)I" } : Jvm.MethodName) ({ cls := "ReadingStages", name := "many", desc := "(I)I" } : Jvm.MethodName)) ∈ lw_all := lw_g (lw_at lw_m2 195 rfl) rfl
theorem q521 : (Jvm.Cond.code ({ cls := "ReadingStages", name := "many", desc := "(I)I" } : Jvm.MethodName) prog_1_method_19_code (2 : Nat) (Option.some Jvm.ClassFile.FieldType.int)) ∈ lw_all := lw_g (lw_at lw_m2 196 rfl) rfl
theorem q522 : (Jvm.Cond.privateMethod ({ cls := "ReadingStages", name := "lambda$many$4", desc := "(ILReadingStages$Shelf;)Z" } : Jvm.MethodName)) ∈ lw_tbl := lw_at lw_m2 197 rfl
theorem q523 : (Jvm.Cond.instanceMethod ({ cls := "ReadingStages", name := "lambda$many$4", desc := "(ILReadingStages$Shelf;)Z" } : Jvm.MethodName)) ∈ lw_all := lw_g (lw_at lw_m2 198 rfl) rfl
theorem q524 : (Jvm.Cond.code ({ cls := "ReadingStages", name := "lambda$many$4", desc := "(ILReadingStages$Shelf;)Z" } : Jvm.MethodName) prog_1_method_70_code (3 : Nat) (Option.some Jvm.ClassFile.FieldType.boolean)) ∈ lw_all := lw_g (lw_at lw_m2 199 rfl) rfl
theorem q525 : (Jvm.Cond.methodLink "ReadingStages" (255 : Nat) ({ cls := "ReadingStages", name := "doesFit", desc := "(LReadingStages$Shelf;)Z" } : Jvm.MethodName)) ∈ lw_all := lw_g (lw_at lw_m2 200 rfl) rfl
theorem q526 : (Jvm.Cond.privateMethod ({ cls := "ReadingStages", name := "doesFit", desc := "(LReadingStages$Shelf;)Z" } : Jvm.MethodName)) ∈ lw_tbl := lw_at lw_m2 201 rfl
theorem q527 : (Jvm.Cond.instanceMethod ({ cls := "ReadingStages", name := "doesFit", desc := "(LReadingStages$Shelf;)Z" } : Jvm.MethodName)) ∈ lw_all := lw_g (lw_at lw_m2 202 rfl) rfl
theorem q528 : (Jvm.Cond.code ({ cls := "ReadingStages", name := "doesFit", desc := "(LReadingStages$Shelf;)Z" } : Jvm.MethodName) prog_1_method_14_code (2 : Nat) (Option.some Jvm.ClassFile.FieldType.boolean)) ∈ lw_all := lw_g (lw_at lw_m2 203 rfl) rfl
theorem q530 : (Jvm.Cond.instanceMethod ({ cls := "ReadingStages", name := "fit", desc := "(I)I" } : Jvm.MethodName)) ∈ lw_all := lw_g (lw_at lw_m2 205 rfl) rfl
theorem q531 : (Jvm.Cond.selects "ReadingStages" ({ cls := "ReadingStages", name := "fit", desc := "(I)I" } : Jvm.MethodName) ({ cls := "ReadingStages", name := "fit", desc := "(I)I" } : Jvm.MethodName)) ∈ lw_all := lw_g (lw_at lw_m2 206 rfl) rfl
theorem q532 : (Jvm.Cond.code ({ cls := "ReadingStages", name := "fit", desc := "(I)I" } : Jvm.MethodName) prog_1_method_20_code (2 : Nat) (Option.some Jvm.ClassFile.FieldType.int)) ∈ lw_all := lw_g (lw_at lw_m2 207 rfl) rfl
theorem q533 : (Jvm.Cond.privateMethod ({ cls := "ReadingStages", name := "lambda$fit$5", desc := "(ILReadingStages$Shelf;)Z" } : Jvm.MethodName)) ∈ lw_tbl := lw_at lw_m2 208 rfl
theorem q534 : (Jvm.Cond.instanceMethod ({ cls := "ReadingStages", name := "lambda$fit$5", desc := "(ILReadingStages$Shelf;)Z" } : Jvm.MethodName)) ∈ lw_all := lw_g (lw_at lw_m2 209 rfl) rfl
theorem q535 : (Jvm.Cond.code ({ cls := "ReadingStages", name := "lambda$fit$5", desc := "(ILReadingStages$Shelf;)Z" } : Jvm.MethodName) prog_1_method_69_code (3 : Nat) (Option.some Jvm.ClassFile.FieldType.boolean)) ∈ lw_all := lw_g (lw_at lw_m2 210 rfl) rfl
theorem q536 : (Jvm.Cond.interfaceEntry "ReadingStages" (479 : Nat)) ∈ lw_tbl := lw_at lw_m2 211 rfl
theorem q537 : (Jvm.Cond.methodLink "ReadingStages" (479 : Nat) ({ cls := "ReadingStages$Shelf", name := "number", desc := "()I" } : Jvm.MethodName)) ∈ lw_all := lw_g (lw_at lw_m2 212 rfl) rfl
theorem q540 : (Jvm.Cond.instanceMethod ({ cls := "ReadingStages", name := "kept", desc := "(III)I" } : Jvm.MethodName)) ∈ lw_all := lw_g (lw_at lw_m2 215 rfl) rfl
theorem q541 : (Jvm.Cond.selects "ReadingStages" ({ cls := "ReadingStages", name := "kept", desc := "(III)I" } : Jvm.MethodName) ({ cls := "ReadingStages", name := "kept", desc := "(III)I" } : Jvm.MethodName)) ∈ lw_all := lw_g (lw_at lw_m2 216 rfl) rfl
theorem q542 : (Jvm.Cond.code ({ cls := "ReadingStages", name := "kept", desc := "(III)I" } : Jvm.MethodName) prog_1_method_21_code (10 : Nat) (Option.some Jvm.ClassFile.FieldType.int)) ∈ lw_all := lw_g (lw_at lw_m2 217 rfl) rfl
theorem q543 : (Jvm.Cond.constantLong "ReadingStages" (230 : Nat) (19 : Int64)) ∈ lw_all := lw_g (lw_at lw_m2 218 rfl) rfl
theorem q544 : (Jvm.Cond.constantLong "ReadingStages" (232 : Nat) (10 : Int64)) ∈ lw_all := lw_g (lw_at lw_m2 219 rfl) rfl
theorem q546 : (Jvm.Cond.instanceMethod ({ cls := "ReadingStages", name := "place", desc := "(II)I" } : Jvm.MethodName)) ∈ lw_all := lw_g (lw_at lw_m2 221 rfl) rfl
theorem q547 : (Jvm.Cond.selects "ReadingStages" ({ cls := "ReadingStages", name := "place", desc := "(II)I" } : Jvm.MethodName) ({ cls := "ReadingStages", name := "place", desc := "(II)I" } : Jvm.MethodName)) ∈ lw_all := lw_g (lw_at lw_m2 222 rfl) rfl
theorem q548 : (Jvm.Cond.code ({ cls := "ReadingStages", name := "place", desc := "(II)I" } : Jvm.MethodName) prog_1_method_22_code (3 : Nat) (Option.some Jvm.ClassFile.FieldType.int)) ∈ lw_all := lw_g (lw_at lw_m2 223 rfl) rfl
theorem q549 : (Jvm.Cond.methodLink "ReadingStages" (237 : Nat) ({ cls := "ReadingStages", name := "isBook", desc := "(J)Z" } : Jvm.MethodName)) ∈ lw_all := lw_g (lw_at lw_m2 224 rfl) rfl
theorem q550 : (Jvm.Cond.privateMethod ({ cls := "ReadingStages", name := "isBook", desc := "(J)Z" } : Jvm.MethodName)) ∈ lw_tbl := lw_at lw_m2 225 rfl
theorem q551 : (Jvm.Cond.instanceMethod ({ cls := "ReadingStages", name := "isBook", desc := "(J)Z" } : Jvm.MethodName)) ∈ lw_all := lw_g (lw_at lw_m2 226 rfl) rfl
theorem q552 : (Jvm.Cond.code ({ cls := "ReadingStages", name := "isBook", desc := "(J)Z" } : Jvm.MethodName) prog_1_method_5_code (3 : Nat) (Option.some Jvm.ClassFile.FieldType.boolean)) ∈ lw_all := lw_g (lw_at lw_m2 227 rfl) rfl
theorem q554 : (Jvm.Cond.instanceMethod ({ cls := "ReadingStages", name := "word", desc := "(II)I" } : Jvm.MethodName)) ∈ lw_all := lw_g (lw_at lw_m2 229 rfl) rfl
theorem q555 : (Jvm.Cond.selects "ReadingStages" ({ cls := "ReadingStages", name := "word", desc := "(II)I" } : Jvm.MethodName) ({ cls := "ReadingStages", name := "word", desc := "(II)I" } : Jvm.MethodName)) ∈ lw_all := lw_g (lw_at lw_m2 230 rfl) rfl
theorem q556 : (Jvm.Cond.code ({ cls := "ReadingStages", name := "word", desc := "(II)I" } : Jvm.MethodName) prog_1_method_25_code (3 : Nat) (Option.some Jvm.ClassFile.FieldType.int)) ∈ lw_all := lw_g (lw_at lw_m2 231 rfl) rfl
theorem q557 : (Jvm.Cond.methodLink "ReadingStages" (241 : Nat) ({ cls := "ReadingStages", name := "firstOf", desc := "(I)I" } : Jvm.MethodName)) ∈ lw_all := lw_g (lw_at lw_m2 232 rfl) rfl
theorem q558 : (Jvm.Cond.privateMethod ({ cls := "ReadingStages", name := "firstOf", desc := "(I)I" } : Jvm.MethodName)) ∈ lw_tbl := lw_at lw_m2 233 rfl
theorem q559 : (Jvm.Cond.instanceMethod ({ cls := "ReadingStages", name := "firstOf", desc := "(I)I" } : Jvm.MethodName)) ∈ lw_all := lw_g (lw_at lw_m2 234 rfl) rfl
theorem q560 : (Jvm.Cond.code ({ cls := "ReadingStages", name := "firstOf", desc := "(I)I" } : Jvm.MethodName) prog_1_method_24_code (4 : Nat) (Option.some Jvm.ClassFile.FieldType.int)) ∈ lw_all := lw_g (lw_at lw_m2 235 rfl) rfl
theorem q561 : (Jvm.Cond.methodLink "ReadingStages" (244 : Nat) ({ cls := "ReadingStages", name := "times", desc := "([II)I" } : Jvm.MethodName)) ∈ lw_all := lw_g (lw_at lw_m2 236 rfl) rfl
theorem q562 : (Jvm.Cond.privateMethod ({ cls := "ReadingStages", name := "times", desc := "([II)I" } : Jvm.MethodName)) ∈ lw_tbl := lw_at lw_m2 237 rfl
theorem q563 : (Jvm.Cond.instanceMethod ({ cls := "ReadingStages", name := "times", desc := "([II)I" } : Jvm.MethodName)) ∈ lw_all := lw_g (lw_at lw_m2 238 rfl) rfl
theorem q564 : (Jvm.Cond.code ({ cls := "ReadingStages", name := "times", desc := "([II)I" } : Jvm.MethodName) prog_1_method_23_code (5 : Nat) (Option.some Jvm.ClassFile.FieldType.int)) ∈ lw_all := lw_g (lw_at lw_m2 239 rfl) rfl
theorem q566 : (Jvm.Cond.instanceMethod ({ cls := "ReadingStages", name := "told", desc := "(II)I" } : Jvm.MethodName)) ∈ lw_all := lw_g (lw_at lw_m3 1 rfl) rfl
theorem q567 : (Jvm.Cond.selects "ReadingStages" ({ cls := "ReadingStages", name := "told", desc := "(II)I" } : Jvm.MethodName) ({ cls := "ReadingStages", name := "told", desc := "(II)I" } : Jvm.MethodName)) ∈ lw_all := lw_g (lw_at lw_m3 2 rfl) rfl
theorem q568 : (Jvm.Cond.code ({ cls := "ReadingStages", name := "told", desc := "(II)I" } : Jvm.MethodName) prog_1_method_26_code (3 : Nat) (Option.some Jvm.ClassFile.FieldType.int)) ∈ lw_all := lw_g (lw_at lw_m3 3 rfl) rfl
theorem q575 : (Jvm.Cond.instanceMethod ({ cls := "ReadingStages", name := "count", desc := "(I)I" } : Jvm.MethodName)) ∈ lw_all := lw_g (lw_at lw_m3 10 rfl) rfl
theorem q576 : (Jvm.Cond.selects "ReadingStages" ({ cls := "ReadingStages", name := "count", desc := "(I)I" } : Jvm.MethodName) ({ cls := "ReadingStages", name := "count", desc := "(I)I" } : Jvm.MethodName)) ∈ lw_all := lw_g (lw_at lw_m3 11 rfl) rfl
theorem q577 : (Jvm.Cond.code ({ cls := "ReadingStages", name := "count", desc := "(I)I" } : Jvm.MethodName) prog_1_method_27_code (2 : Nat) (Option.some Jvm.ClassFile.FieldType.int)) ∈ lw_all := lw_g (lw_at lw_m3 12 rfl) rfl
theorem q579 : (Jvm.Cond.instanceMethod ({ cls := "ReadingStages", name := "letter", desc := "(I)I" } : Jvm.MethodName)) ∈ lw_all := lw_g (lw_at lw_m3 14 rfl) rfl
theorem q580 : (Jvm.Cond.selects "ReadingStages" ({ cls := "ReadingStages", name := "letter", desc := "(I)I" } : Jvm.MethodName) ({ cls := "ReadingStages", name := "letter", desc := "(I)I" } : Jvm.MethodName)) ∈ lw_all := lw_g (lw_at lw_m3 15 rfl) rfl
theorem q581 : (Jvm.Cond.code ({ cls := "ReadingStages", name := "letter", desc := "(I)I" } : Jvm.MethodName) prog_1_method_29_code (4 : Nat) (Option.some Jvm.ClassFile.FieldType.int)) ∈ lw_all := lw_g (lw_at lw_m3 16 rfl) rfl
theorem q582 : (Jvm.Cond.classLink "ReadingStages" (261 : Nat) "java/lang/StringBuilder") ∈ lw_all := lw_g (lw_at lw_m3 17 rfl) rfl
theorem q584 : (Jvm.Cond.methodLink "ReadingStages" (263 : Nat) ({ cls := "java/lang/StringBuilder", name := "<init>", desc := "()V" } : Jvm.MethodName)) ∈ lw_all := lw_g (lw_at lw_m3 19 rfl) rfl
theorem q636 : (Jvm.Cond.stringRef "ReadingStages" (279 : Nat) "") ∈ lw_tbl := lw_at lw_m3 71 rfl
theorem q637 : (Jvm.Cond.stringRef "ReadingStages" (281 : Nat) " ") ∈ lw_tbl := lw_at lw_m3 72 rfl
theorem q638 : (Jvm.Cond.methodLink "ReadingStages" (270 : Nat) ({ cls := "java/lang/StringBuilder", name := "append", desc := "(Ljava/lang/String;)Ljava/lang/StringBuilder;" } : Jvm.MethodName)) ∈ lw_all := lw_g (lw_at lw_m3 73 rfl) rfl
theorem q754 : (Jvm.Cond.methodLink "ReadingStages" (283 : Nat) ({ cls := "ReadingStages", name := "noteOf", desc := "(I)Ljava/lang/String;" } : Jvm.MethodName)) ∈ lw_all := lw_g (lw_at lw_m3 189 rfl) rfl
theorem q755 : (Jvm.Cond.privateMethod ({ cls := "ReadingStages", name := "noteOf", desc := "(I)Ljava/lang/String;" } : Jvm.MethodName)) ∈ lw_tbl := lw_at lw_m3 190 rfl
theorem q756 : (Jvm.Cond.instanceMethod ({ cls := "ReadingStages", name := "noteOf", desc := "(I)Ljava/lang/String;" } : Jvm.MethodName)) ∈ lw_all := lw_g (lw_at lw_m3 191 rfl) rfl
theorem q757 : (Jvm.Cond.code ({ cls := "ReadingStages", name := "noteOf", desc := "(I)Ljava/lang/String;" } : Jvm.MethodName) prog_1_method_28_code (3 : Nat) (Option.some (Jvm.ClassFile.FieldType.object "java/lang/String"))) ∈ lw_all := lw_g (lw_at lw_m3 192 rfl) rfl
theorem q758 : (Jvm.Cond.methodLink "ReadingStages" (264 : Nat) ({ cls := "java/lang/StringBuilder", name := "append", desc := "(I)Ljava/lang/StringBuilder;" } : Jvm.MethodName)) ∈ lw_all := lw_g (lw_at lw_m3 193 rfl) rfl
theorem q783 : (Jvm.Cond.stringRef "ReadingStages" (268 : Nat) "+") ∈ lw_tbl := lw_at lw_m3 218 rfl
theorem q784 : (Jvm.Cond.methodLink "ReadingStages" (273 : Nat) ({ cls := "java/lang/StringBuilder", name := "toString", desc := "()Ljava/lang/String;" } : Jvm.MethodName)) ∈ lw_all := lw_g (lw_at lw_m3 219 rfl) rfl
theorem q846 : (Jvm.Cond.stringRef "ReadingStages" (277 : Nat) "-") ∈ lw_tbl := lw_at lw_m4 41 rfl
theorem q847 : (Jvm.Cond.stringRef "ReadingStages" (287 : Nat) "none") ∈ lw_tbl := lw_at lw_m4 42 rfl
theorem q848 : (Jvm.Cond.methodLink "ReadingStages" (289 : Nat) ({ cls := "java/lang/String", name := "length", desc := "()I" } : Jvm.MethodName)) ∈ lw_all := lw_g (lw_at lw_m4 43 rfl) rfl
theorem q849 : (Jvm.Cond.methodLink "ReadingStages" (294 : Nat) ({ cls := "java/lang/String", name := "charAt", desc := "(I)C" } : Jvm.MethodName)) ∈ lw_all := lw_g (lw_at lw_m4 44 rfl) rfl
theorem q874 : (Jvm.Cond.instanceMethod ({ cls := "ReadingStages", name := "book", desc := "(I)I" } : Jvm.MethodName)) ∈ lw_all := lw_g (lw_at lw_m4 69 rfl) rfl
theorem q875 : (Jvm.Cond.selects "ReadingStages" ({ cls := "ReadingStages", name := "book", desc := "(I)I" } : Jvm.MethodName) ({ cls := "ReadingStages", name := "book", desc := "(I)I" } : Jvm.MethodName)) ∈ lw_all := lw_g (lw_at lw_m4 70 rfl) rfl
theorem q876 : (Jvm.Cond.code ({ cls := "ReadingStages", name := "book", desc := "(I)I" } : Jvm.MethodName) prog_1_method_31_code (2 : Nat) (Option.some Jvm.ClassFile.FieldType.int)) ∈ lw_all := lw_g (lw_at lw_m4 71 rfl) rfl
theorem q877 : (Jvm.Cond.methodLink "ReadingStages" (308 : Nat) ({ cls := "ReadingStages", name := "isSet", desc := "(II)Z" } : Jvm.MethodName)) ∈ lw_all := lw_g (lw_at lw_m4 72 rfl) rfl
theorem q878 : (Jvm.Cond.static ({ cls := "ReadingStages", name := "isSet", desc := "(II)Z" } : Jvm.MethodName)) ∈ lw_all := lw_g (lw_at lw_m4 73 rfl) rfl
theorem q879 : (Jvm.Cond.code ({ cls := "ReadingStages", name := "isSet", desc := "(II)Z" } : Jvm.MethodName) prog_1_method_3_code (2 : Nat) (Option.some Jvm.ClassFile.FieldType.boolean)) ∈ lw_all := lw_g (lw_at lw_m4 74 rfl) rfl
theorem q880 : (Jvm.Cond.constantLong "ReadingStages" (3 : Nat) (1048575 : Int64)) ∈ lw_all := lw_g (lw_at lw_m4 75 rfl) rfl
theorem q881 : (Jvm.Cond.methodLink "ReadingStages" (311 : Nat) ({ cls := "ReadingStages", name := "note", desc := "()V" } : Jvm.MethodName)) ∈ lw_all := lw_g (lw_at lw_m4 76 rfl) rfl
theorem q882 : (Jvm.Cond.privateMethod ({ cls := "ReadingStages", name := "note", desc := "()V" } : Jvm.MethodName)) ∈ lw_tbl := lw_at lw_m4 77 rfl
theorem q883 : (Jvm.Cond.instanceMethod ({ cls := "ReadingStages", name := "note", desc := "()V" } : Jvm.MethodName)) ∈ lw_all := lw_g (lw_at lw_m4 78 rfl) rfl
theorem q884 : (Jvm.Cond.code ({ cls := "ReadingStages", name := "note", desc := "()V" } : Jvm.MethodName) prog_1_method_30_code (2 : Nat) (Option.none : Option Jvm.ClassFile.FieldType)) ∈ lw_all := lw_g (lw_at lw_m4 79 rfl) rfl
theorem q885 : (Jvm.Cond.methodLink "ReadingStages" (298 : Nat) ({ cls := "java/lang/System", name := "arraycopy", desc := "(Ljava/lang/Object;ILjava/lang/Object;II)V" } : Jvm.MethodName)) ∈ lw_all := lw_g (lw_at lw_m4 80 rfl) rfl
theorem q886 : (Jvm.Cond.methodLink "ReadingStages" (304 : Nat) ({ cls := "ReadingStages$House", name := "takeFrom", desc := "(LReadingStages$House;)V" } : Jvm.MethodName)) ∈ lw_all := lw_g (lw_at lw_m4 81 rfl) rfl
theorem q892 : (Jvm.Cond.methodLink "ReadingStages" (314 : Nat) ({ cls := "ReadingStages$House", name := "add", desc := "(I)V" } : Jvm.MethodName)) ∈ lw_all := lw_g (lw_at lw_m4 87 rfl) rfl
theorem q898 : (Jvm.Cond.instanceMethod ({ cls := "ReadingStages", name := "words", desc := "(II)I" } : Jvm.MethodName)) ∈ lw_all := lw_g (lw_at lw_m4 93 rfl) rfl
theorem q899 : (Jvm.Cond.selects "ReadingStages" ({ cls := "ReadingStages", name := "words", desc := "(II)I" } : Jvm.MethodName) ({ cls := "ReadingStages", name := "words", desc := "(II)I" } : Jvm.MethodName)) ∈ lw_all := lw_g (lw_at lw_m4 94 rfl) rfl
theorem q900 : (Jvm.Cond.code ({ cls := "ReadingStages", name := "words", desc := "(II)I" } : Jvm.MethodName) prog_1_method_32_code (4 : Nat) (Option.some Jvm.ClassFile.FieldType.int)) ∈ lw_all := lw_g (lw_at lw_m4 95 rfl) rfl
theorem q902 : (Jvm.Cond.instanceMethod ({ cls := "ReadingStages", name := "lose", desc := "(I)I" } : Jvm.MethodName)) ∈ lw_all := lw_g (lw_at lw_m4 97 rfl) rfl
theorem q903 : (Jvm.Cond.selects "ReadingStages" ({ cls := "ReadingStages", name := "lose", desc := "(I)I" } : Jvm.MethodName) ({ cls := "ReadingStages", name := "lose", desc := "(I)I" } : Jvm.MethodName)) ∈ lw_all := lw_g (lw_at lw_m4 98 rfl) rfl
theorem q904 : (Jvm.Cond.code ({ cls := "ReadingStages", name := "lose", desc := "(I)I" } : Jvm.MethodName) prog_1_method_33_code (2 : Nat) (Option.some Jvm.ClassFile.FieldType.int)) ∈ lw_all := lw_g (lw_at lw_m4 99 rfl) rfl
theorem q905 : (Jvm.Cond.methodLink "ReadingStages" (317 : Nat) ({ cls := "ReadingStages$House", name := "lose", desc := "(I)V" } : Jvm.MethodName)) ∈ lw_all := lw_g (lw_at lw_m4 100 rfl) rfl
theorem q915 : (Jvm.Cond.instanceMethod ({ cls := "ReadingStages", name := "ahead", desc := "(II)I" } : Jvm.MethodName)) ∈ lw_all := lw_g (lw_at lw_m4 110 rfl) rfl
theorem q916 : (Jvm.Cond.selects "ReadingStages" ({ cls := "ReadingStages", name := "ahead", desc := "(II)I" } : Jvm.MethodName) ({ cls := "ReadingStages", name := "ahead", desc := "(II)I" } : Jvm.MethodName)) ∈ lw_all := lw_g (lw_at lw_m4 111 rfl) rfl
theorem q917 : (Jvm.Cond.code ({ cls := "ReadingStages", name := "ahead", desc := "(II)I" } : Jvm.MethodName) prog_1_method_34_code (3 : Nat) (Option.some Jvm.ClassFile.FieldType.int)) ∈ lw_all := lw_g (lw_at lw_m4 112 rfl) rfl
theorem q918 : (Jvm.Cond.methodLink "ReadingStages" (320 : Nat) ({ cls := "ReadingStages$House", name := "mayBeAhead", desc := "(II)Z" } : Jvm.MethodName)) ∈ lw_all := lw_g (lw_at lw_m4 113 rfl) rfl
theorem q927 : (Jvm.Cond.instanceMethod ({ cls := "ReadingStages", name := "prior", desc := "(I)I" } : Jvm.MethodName)) ∈ lw_all := lw_g (lw_at lw_m4 122 rfl) rfl
theorem q928 : (Jvm.Cond.selects "ReadingStages" ({ cls := "ReadingStages", name := "prior", desc := "(I)I" } : Jvm.MethodName) ({ cls := "ReadingStages", name := "prior", desc := "(I)I" } : Jvm.MethodName)) ∈ lw_all := lw_g (lw_at lw_m4 123 rfl) rfl
theorem q929 : (Jvm.Cond.code ({ cls := "ReadingStages", name := "prior", desc := "(I)I" } : Jvm.MethodName) prog_1_method_35_code (3 : Nat) (Option.some Jvm.ClassFile.FieldType.int)) ∈ lw_all := lw_g (lw_at lw_m4 124 rfl) rfl
theorem q931 : (Jvm.Cond.instanceMethod ({ cls := "ReadingStages", name := "tell", desc := "(II)I" } : Jvm.MethodName)) ∈ lw_all := lw_g (lw_at lw_m4 126 rfl) rfl
theorem q932 : (Jvm.Cond.selects "ReadingStages" ({ cls := "ReadingStages", name := "tell", desc := "(II)I" } : Jvm.MethodName) ({ cls := "ReadingStages", name := "tell", desc := "(II)I" } : Jvm.MethodName)) ∈ lw_all := lw_g (lw_at lw_m4 127 rfl) rfl
theorem q933 : (Jvm.Cond.code ({ cls := "ReadingStages", name := "tell", desc := "(II)I" } : Jvm.MethodName) prog_1_method_37_code (4 : Nat) (Option.some Jvm.ClassFile.FieldType.int)) ∈ lw_all := lw_g (lw_at lw_m4 128 rfl) rfl
theorem q934 : (Jvm.Cond.methodLink "ReadingStages" (329 : Nat) ({ cls := "ReadingStages", name := "mayBe", desc := "(II)Z" } : Jvm.MethodName)) ∈ lw_all := lw_g (lw_at lw_m4 129 rfl) rfl
theorem q935 : (Jvm.Cond.static ({ cls := "ReadingStages", name := "mayBe", desc := "(II)Z" } : Jvm.MethodName)) ∈ lw_all := lw_g (lw_at lw_m4 130 rfl) rfl
theorem q936 : (Jvm.Cond.code ({ cls := "ReadingStages", name := "mayBe", desc := "(II)Z" } : Jvm.MethodName) prog_1_method_36_code (2 : Nat) (Option.some Jvm.ClassFile.FieldType.boolean)) ∈ lw_all := lw_g (lw_at lw_m4 131 rfl) rfl
theorem q937 : (Jvm.Cond.constantLong "ReadingStages" (323 : Nat) (4 : Int64)) ∈ lw_all := lw_g (lw_at lw_m4 132 rfl) rfl
theorem q938 : (Jvm.Cond.constantLong "ReadingStages" (325 : Nat) (20 : Int64)) ∈ lw_all := lw_g (lw_at lw_m4 133 rfl) rfl
theorem q939 : (Jvm.Cond.constantLong "ReadingStages" (327 : Nat) (2 : Int64)) ∈ lw_all := lw_g (lw_at lw_m4 134 rfl) rfl
theorem q940 : (Jvm.Cond.methodLink "ReadingStages" (332 : Nat) ({ cls := "ReadingStages", name := "count", desc := "(I)I" } : Jvm.MethodName)) ∈ lw_all := lw_g (lw_at lw_m4 135 rfl) rfl
theorem q941 : (Jvm.Cond.methodLink "ReadingStages" (335 : Nat) ({ cls := "ReadingStages", name := "put", desc := "(II)V" } : Jvm.MethodName)) ∈ lw_all := lw_g (lw_at lw_m4 136 rfl) rfl
theorem q942 : (Jvm.Cond.privateMethod ({ cls := "ReadingStages", name := "put", desc := "(II)V" } : Jvm.MethodName)) ∈ lw_tbl := lw_at lw_m4 137 rfl
theorem q943 : (Jvm.Cond.instanceMethod ({ cls := "ReadingStages", name := "put", desc := "(II)V" } : Jvm.MethodName)) ∈ lw_all := lw_g (lw_at lw_m4 138 rfl) rfl
theorem q944 : (Jvm.Cond.code ({ cls := "ReadingStages", name := "put", desc := "(II)V" } : Jvm.MethodName) prog_1_method_38_code (3 : Nat) (Option.none : Option Jvm.ClassFile.FieldType)) ∈ lw_all := lw_g (lw_at lw_m4 139 rfl) rfl
theorem q946 : (Jvm.Cond.instanceMethod ({ cls := "ReadingStages", name := "move", desc := "(II)I" } : Jvm.MethodName)) ∈ lw_all := lw_g (lw_at lw_m4 141 rfl) rfl
theorem q947 : (Jvm.Cond.selects "ReadingStages" ({ cls := "ReadingStages", name := "move", desc := "(II)I" } : Jvm.MethodName) ({ cls := "ReadingStages", name := "move", desc := "(II)I" } : Jvm.MethodName)) ∈ lw_all := lw_g (lw_at lw_m4 142 rfl) rfl
theorem q948 : (Jvm.Cond.code ({ cls := "ReadingStages", name := "move", desc := "(II)I" } : Jvm.MethodName) prog_1_method_40_code (3 : Nat) (Option.some Jvm.ClassFile.FieldType.int)) ∈ lw_all := lw_g (lw_at lw_m4 143 rfl) rfl
theorem q949 : (Jvm.Cond.methodLink "ReadingStages" (336 : Nat) ({ cls := "ReadingStages", name := "shift", desc := "(II)I" } : Jvm.MethodName)) ∈ lw_all := lw_g (lw_at lw_m4 144 rfl) rfl
theorem q950 : (Jvm.Cond.privateMethod ({ cls := "ReadingStages", name := "shift", desc := "(II)I" } : Jvm.MethodName)) ∈ lw_tbl := lw_at lw_m4 145 rfl
theorem q951 : (Jvm.Cond.instanceMethod ({ cls := "ReadingStages", name := "shift", desc := "(II)I" } : Jvm.MethodName)) ∈ lw_all := lw_g (lw_at lw_m4 146 rfl) rfl
theorem q952 : (Jvm.Cond.code ({ cls := "ReadingStages", name := "shift", desc := "(II)I" } : Jvm.MethodName) prog_1_method_39_code (4 : Nat) (Option.some Jvm.ClassFile.FieldType.int)) ∈ lw_all := lw_g (lw_at lw_m4 147 rfl) rfl
theorem q954 : (Jvm.Cond.instanceMethod ({ cls := "ReadingStages", name := "settle", desc := "(I)I" } : Jvm.MethodName)) ∈ lw_all := lw_g (lw_at lw_m4 149 rfl) rfl
theorem q955 : (Jvm.Cond.selects "ReadingStages" ({ cls := "ReadingStages", name := "settle", desc := "(I)I" } : Jvm.MethodName) ({ cls := "ReadingStages", name := "settle", desc := "(I)I" } : Jvm.MethodName)) ∈ lw_all := lw_g (lw_at lw_m4 150 rfl) rfl
theorem q956 : (Jvm.Cond.code ({ cls := "ReadingStages", name := "settle", desc := "(I)I" } : Jvm.MethodName) prog_1_method_41_code (2 : Nat) (Option.some Jvm.ClassFile.FieldType.int)) ∈ lw_all := lw_g (lw_at lw_m4 151 rfl) rfl
theorem q957 : (Jvm.Cond.methodLink "ReadingStages" (339 : Nat) ({ cls := "ReadingStages$Shelf", name := "areAlike", desc := "(LReadingStages$Shelf;LReadingStages$Shelf;)Z" } : Jvm.MethodName)) ∈ lw_all := lw_g (lw_at lw_m4 152 rfl) rfl
theorem q963 : (Jvm.Cond.instanceMethod ({ cls := "ReadingStages", name := "drift", desc := "(I)I" } : Jvm.MethodName)) ∈ lw_all := lw_g (lw_at lw_m4 158 rfl) rfl
theorem q964 : (Jvm.Cond.selects "ReadingStages" ({ cls := "ReadingStages", name := "drift", desc := "(I)I" } : Jvm.MethodName) ({ cls := "ReadingStages", name := "drift", desc := "(I)I" } : Jvm.MethodName)) ∈ lw_all := lw_g (lw_at lw_m4 159 rfl) rfl
theorem q965 : (Jvm.Cond.code ({ cls := "ReadingStages", name := "drift", desc := "(I)I" } : Jvm.MethodName) prog_1_method_44_code (4 : Nat) (Option.some Jvm.ClassFile.FieldType.int)) ∈ lw_all := lw_g (lw_at lw_m4 160 rfl) rfl
theorem q966 : (Jvm.Cond.constantLong "ReadingStages" (355 : Nat) (40 : Int64)) ∈ lw_all := lw_g (lw_at lw_m4 161 rfl) rfl
theorem q967 : (Jvm.Cond.methodLink "ReadingStages" (357 : Nat) ({ cls := "ReadingStages", name := "goOn", desc := "()V" } : Jvm.MethodName)) ∈ lw_all := lw_g (lw_at lw_m4 162 rfl) rfl
theorem q968 : (Jvm.Cond.privateMethod ({ cls := "ReadingStages", name := "goOn", desc := "()V" } : Jvm.MethodName)) ∈ lw_tbl := lw_at lw_m4 163 rfl
theorem q969 : (Jvm.Cond.instanceMethod ({ cls := "ReadingStages", name := "goOn", desc := "()V" } : Jvm.MethodName)) ∈ lw_all := lw_g (lw_at lw_m4 164 rfl) rfl
theorem q970 : (Jvm.Cond.code ({ cls := "ReadingStages", name := "goOn", desc := "()V" } : Jvm.MethodName) prog_1_method_42_code (1 : Nat) (Option.none : Option Jvm.ClassFile.FieldType)) ∈ lw_all := lw_g (lw_at lw_m4 165 rfl) rfl
theorem q971 : (Jvm.Cond.constantLong "ReadingStages" (349 : Nat) (1103515245 : Int64)) ∈ lw_all := lw_g (lw_at lw_m4 166 rfl) rfl
theorem q972 : (Jvm.Cond.constantLong "ReadingStages" (351 : Nat) (12345 : Int64)) ∈ lw_all := lw_g (lw_at lw_m4 167 rfl) rfl
theorem q973 : (Jvm.Cond.constantLong "ReadingStages" (353 : Nat) (2147483647 : Int64)) ∈ lw_all := lw_g (lw_at lw_m4 168 rfl) rfl
theorem q974 : (Jvm.Cond.constant "ReadingStages" (360 : Nat) (65536 : Int32)) ∈ lw_all := lw_g (lw_at lw_m4 169 rfl) rfl
theorem q975 : (Jvm.Cond.constant "ReadingStages" (361 : Nat) (1048576 : Int32)) ∈ lw_all := lw_g (lw_at lw_m4 170 rfl) rfl
theorem q976 : (Jvm.Cond.methodLink "ReadingStages" (362 : Nat) ({ cls := "ReadingStages", name := "happen", desc := "(II)V" } : Jvm.MethodName)) ∈ lw_all := lw_g (lw_at lw_m4 171 rfl) rfl
theorem q977 : (Jvm.Cond.privateMethod ({ cls := "ReadingStages", name := "happen", desc := "(II)V" } : Jvm.MethodName)) ∈ lw_tbl := lw_at lw_m4 172 rfl
theorem q978 : (Jvm.Cond.instanceMethod ({ cls := "ReadingStages", name := "happen", desc := "(II)V" } : Jvm.MethodName)) ∈ lw_all := lw_g (lw_at lw_m4 173 rfl) rfl
theorem q979 : (Jvm.Cond.code ({ cls := "ReadingStages", name := "happen", desc := "(II)V" } : Jvm.MethodName) prog_1_method_43_code (5 : Nat) (Option.none : Option Jvm.ClassFile.FieldType)) ∈ lw_all := lw_g (lw_at lw_m4 174 rfl) rfl
theorem q981 : (Jvm.Cond.instanceMethod ({ cls := "ReadingStages", name := "undo", desc := "()I" } : Jvm.MethodName)) ∈ lw_all := lw_g (lw_at lw_m4 176 rfl) rfl
theorem q982 : (Jvm.Cond.selects "ReadingStages" ({ cls := "ReadingStages", name := "undo", desc := "()I" } : Jvm.MethodName) ({ cls := "ReadingStages", name := "undo", desc := "()I" } : Jvm.MethodName)) ∈ lw_all := lw_g (lw_at lw_m4 177 rfl) rfl
theorem q983 : (Jvm.Cond.code ({ cls := "ReadingStages", name := "undo", desc := "()I" } : Jvm.MethodName) prog_1_method_45_code (1 : Nat) (Option.some Jvm.ClassFile.FieldType.int)) ∈ lw_all := lw_g (lw_at lw_m4 178 rfl) rfl
theorem q985 : (Jvm.Cond.instanceMethod ({ cls := "ReadingStages", name := "seed", desc := "(I)I" } : Jvm.MethodName)) ∈ lw_all := lw_g (lw_at lw_m4 180 rfl) rfl
theorem q986 : (Jvm.Cond.selects "ReadingStages" ({ cls := "ReadingStages", name := "seed", desc := "(I)I" } : Jvm.MethodName) ({ cls := "ReadingStages", name := "seed", desc := "(I)I" } : Jvm.MethodName)) ∈ lw_all := lw_g (lw_at lw_m4 181 rfl) rfl
theorem q987 : (Jvm.Cond.code ({ cls := "ReadingStages", name := "seed", desc := "(I)I" } : Jvm.MethodName) prog_1_method_46_code (3 : Nat) (Option.some Jvm.ClassFile.FieldType.int)) ∈ lw_all := lw_g (lw_at lw_m4 182 rfl) rfl
theorem q989 : (Jvm.Cond.instanceMethod ({ cls := "ReadingStages", name := "type", desc := "(I)I" } : Jvm.MethodName)) ∈ lw_all := lw_g (lw_at lw_m4 184 rfl) rfl
theorem q990 : (Jvm.Cond.selects "ReadingStages" ({ cls := "ReadingStages", name := "type", desc := "(I)I" } : Jvm.MethodName) ({ cls := "ReadingStages", name := "type", desc := "(I)I" } : Jvm.MethodName)) ∈ lw_all := lw_g (lw_at lw_m4 185 rfl) rfl
theorem q991 : (Jvm.Cond.code ({ cls := "ReadingStages", name := "type", desc := "(I)I" } : Jvm.MethodName) prog_1_method_47_code (2 : Nat) (Option.some Jvm.ClassFile.FieldType.int)) ∈ lw_all := lw_g (lw_at lw_m4 186 rfl) rfl
theorem q992 : (Jvm.Cond.constantLong "ReadingStages" (365 : Nat) (32 : Int64)) ∈ lw_all := lw_g (lw_at lw_m4 187 rfl) rfl
theorem q993 : (Jvm.Cond.constantLong "ReadingStages" (367 : Nat) (126 : Int64)) ∈ lw_all := lw_g (lw_at lw_m4 188 rfl) rfl
theorem q995 : (Jvm.Cond.instanceMethod ({ cls := "ReadingStages", name := "read", desc := "()I" } : Jvm.MethodName)) ∈ lw_all := lw_g (lw_at lw_m4 190 rfl) rfl
theorem q996 : (Jvm.Cond.selects "ReadingStages" ({ cls := "ReadingStages", name := "read", desc := "()I" } : Jvm.MethodName) ({ cls := "ReadingStages", name := "read", desc := "()I" } : Jvm.MethodName)) ∈ lw_all := lw_g (lw_at lw_m4 191 rfl) rfl
theorem q997 : (Jvm.Cond.codeWith ({ cls := "ReadingStages", name := "read", desc := "()I" } : Jvm.MethodName) prog_1_method_57_code (2 : Nat) (Option.some Jvm.ClassFile.FieldType.int) [((0 : Nat), (4 : Nat), (7 : Nat), (62 : Nat))]) ∈ lw_all := lw_g (lw_at lw_m4 192 rfl) rfl
theorem q998 : (Jvm.Cond.methodLink "ReadingStages" (429 : Nat) ({ cls := "ReadingStages", name := "readAll", desc := "()V" } : Jvm.MethodName)) ∈ lw_all := lw_g (lw_at lw_m4 193 rfl) rfl
theorem q999 : (Jvm.Cond.privateMethod ({ cls := "ReadingStages", name := "readAll", desc := "()V" } : Jvm.MethodName)) ∈ lw_tbl := lw_at lw_m4 194 rfl
theorem q1000 : (Jvm.Cond.instanceMethod ({ cls := "ReadingStages", name := "readAll", desc := "()V" } : Jvm.MethodName)) ∈ lw_all := lw_g (lw_at lw_m4 195 rfl) rfl
theorem q1001 : (Jvm.Cond.code ({ cls := "ReadingStages", name := "readAll", desc := "()V" } : Jvm.MethodName) prog_1_method_56_code (1 : Nat) (Option.none : Option Jvm.ClassFile.FieldType)) ∈ lw_all := lw_g (lw_at lw_m4 196 rfl) rfl
theorem q1002 : (Jvm.Cond.methodLink "ReadingStages" (416 : Nat) ({ cls := "ReadingStages", name := "readRule", desc := "()I" } : Jvm.MethodName)) ∈ lw_all := lw_g (lw_at lw_m4 197 rfl) rfl
theorem q1003 : (Jvm.Cond.privateMethod ({ cls := "ReadingStages", name := "readRule", desc := "()I" } : Jvm.MethodName)) ∈ lw_tbl := lw_at lw_m4 198 rfl
theorem q1004 : (Jvm.Cond.instanceMethod ({ cls := "ReadingStages", name := "readRule", desc := "()I" } : Jvm.MethodName)) ∈ lw_all := lw_g (lw_at lw_m4 199 rfl) rfl
theorem q1005 : (Jvm.Cond.code ({ cls := "ReadingStages", name := "readRule", desc := "()I" } : Jvm.MethodName) prog_1_method_53_code (5 : Nat) (Option.some Jvm.ClassFile.FieldType.int)) ∈ lw_all := lw_g (lw_at lw_m4 200 rfl) rfl
theorem q1006 : (Jvm.Cond.methodLink "ReadingStages" (379 : Nat) ({ cls := "ReadingStages", name := "nextLetter", desc := "()I" } : Jvm.MethodName)) ∈ lw_all := lw_g (lw_at lw_m4 201 rfl) rfl
theorem q1007 : (Jvm.Cond.privateMethod ({ cls := "ReadingStages", name := "nextLetter", desc := "()I" } : Jvm.MethodName)) ∈ lw_tbl := lw_at lw_m4 202 rfl
theorem q1008 : (Jvm.Cond.instanceMethod ({ cls := "ReadingStages", name := "nextLetter", desc := "()I" } : Jvm.MethodName)) ∈ lw_all := lw_g (lw_at lw_m4 203 rfl) rfl
theorem q1009 : (Jvm.Cond.code ({ cls := "ReadingStages", name := "nextLetter", desc := "()I" } : Jvm.MethodName) prog_1_method_48_code (1 : Nat) (Option.some Jvm.ClassFile.FieldType.int)) ∈ lw_all := lw_g (lw_at lw_m4 204 rfl) rfl
theorem q1010 : (Jvm.Cond.methodLink "ReadingStages" (377 : Nat) ({ cls := "ReadingStages$Letters", name := "length", desc := "()I" } : Jvm.MethodName)) ∈ lw_all := lw_g (lw_at lw_m4 205 rfl) rfl
theorem q1014 : (Jvm.Cond.methodLink "ReadingStages" (378 : Nat) ({ cls := "ReadingStages$Letters", name := "charAt", desc := "(I)C" } : Jvm.MethodName)) ∈ lw_all := lw_g (lw_at lw_m4 209 rfl) rfl
theorem q1018 : (Jvm.Cond.methodLink "ReadingStages" (389 : Nat) ({ cls := "ReadingStages", name := "isLetter", desc := "(CC)Z" } : Jvm.MethodName)) ∈ lw_all := lw_g (lw_at lw_m4 213 rfl) rfl
theorem q1019 : (Jvm.Cond.privateMethod ({ cls := "ReadingStages", name := "isLetter", desc := "(CC)Z" } : Jvm.MethodName)) ∈ lw_tbl := lw_at lw_m4 214 rfl
theorem q1020 : (Jvm.Cond.instanceMethod ({ cls := "ReadingStages", name := "isLetter", desc := "(CC)Z" } : Jvm.MethodName)) ∈ lw_all := lw_g (lw_at lw_m4 215 rfl) rfl
theorem q1021 : (Jvm.Cond.code ({ cls := "ReadingStages", name := "isLetter", desc := "(CC)Z" } : Jvm.MethodName) prog_1_method_51_code (3 : Nat) (Option.some Jvm.ClassFile.FieldType.boolean)) ∈ lw_all := lw_g (lw_at lw_m4 216 rfl) rfl
theorem q1022 : (Jvm.Cond.methodLink "ReadingStages" (393 : Nat) ({ cls := "ReadingStages$Letters", name := "subSequence", desc := "(II)Ljava/lang/CharSequence;" } : Jvm.MethodName)) ∈ lw_all := lw_g (lw_at lw_m4 217 rfl) rfl
theorem q1042 : (Jvm.Cond.interfaceEntry "ReadingStages" (397 : Nat)) ∈ lw_tbl := lw_at lw_m4 237 rfl
theorem q1043 : (Jvm.Cond.methodLink "ReadingStages" (397 : Nat) ({ cls := "java/lang/CharSequence", name := "toString", desc := "()Ljava/lang/String;" } : Jvm.MethodName)) ∈ lw_all := lw_g (lw_at lw_m4 238 rfl) rfl
theorem q1065 : (Jvm.Cond.methodLink "ReadingStages" (400 : Nat) ({ cls := "java/lang/String", name := "hashCode", desc := "()I" } : Jvm.MethodName)) ∈ lw_all := lw_g (lw_at lw_m5 20 rfl) rfl
theorem q1114 : (Jvm.Cond.stringRef "ReadingStages" (403 : Nat) "steady") ∈ lw_tbl := lw_at lw_m5 69 rfl
theorem q1115 : (Jvm.Cond.methodLink "ReadingStages" (405 : Nat) ({ cls := "java/lang/String", name := "equals", desc := "(Ljava/lang/Object;)Z" } : Jvm.MethodName)) ∈ lw_all := lw_g (lw_at lw_m5 70 rfl) rfl
theorem q1123 : (Jvm.Cond.stringRef "ReadingStages" (409 : Nat) "growing") ∈ lw_tbl := lw_at lw_m5 78 rfl
theorem q1124 : (Jvm.Cond.stringRef "ReadingStages" (411 : Nat) "doubling") ∈ lw_tbl := lw_at lw_m5 79 rfl
theorem q1125 : (Jvm.Cond.methodLink "ReadingStages" (385 : Nat) ({ cls := "ReadingStages", name := "faulty", desc := "()LReadingStages$Fault;" } : Jvm.MethodName)) ∈ lw_all := lw_g (lw_at lw_m5 80 rfl) rfl
theorem q1126 : (Jvm.Cond.privateMethod ({ cls := "ReadingStages", name := "faulty", desc := "()LReadingStages$Fault;" } : Jvm.MethodName)) ∈ lw_tbl := lw_at lw_m5 81 rfl
theorem q1127 : (Jvm.Cond.instanceMethod ({ cls := "ReadingStages", name := "faulty", desc := "()LReadingStages$Fault;" } : Jvm.MethodName)) ∈ lw_all := lw_g (lw_at lw_m5 82 rfl) rfl
theorem q1128 : (Jvm.Cond.code ({ cls := "ReadingStages", name := "faulty", desc := "()LReadingStages$Fault;" } : Jvm.MethodName) prog_1_method_49_code (1 : Nat) (Option.some (Jvm.ClassFile.FieldType.object "ReadingStages$Fault"))) ∈ lw_all := lw_g (lw_at lw_m5 83 rfl) rfl
theorem q1129 : (Jvm.Cond.methodLink "ReadingStages" (413 : Nat) ({ cls := "ReadingStages", name := "readFigure", desc := "(II)I" } : Jvm.MethodName)) ∈ lw_all := lw_g (lw_at lw_m5 84 rfl) rfl
theorem q1130 : (Jvm.Cond.privateMethod ({ cls := "ReadingStages", name := "readFigure", desc := "(II)I" } : Jvm.MethodName)) ∈ lw_tbl := lw_at lw_m5 85 rfl
theorem q1131 : (Jvm.Cond.instanceMethod ({ cls := "ReadingStages", name := "readFigure", desc := "(II)I" } : Jvm.MethodName)) ∈ lw_all := lw_g (lw_at lw_m5 86 rfl) rfl
theorem q1132 : (Jvm.Cond.code ({ cls := "ReadingStages", name := "readFigure", desc := "(II)I" } : Jvm.MethodName) prog_1_method_52_code (4 : Nat) (Option.some Jvm.ClassFile.FieldType.int)) ∈ lw_all := lw_g (lw_at lw_m5 87 rfl) rfl
theorem q1133 : (Jvm.Cond.methodLink "ReadingStages" (419 : Nat) ({ cls := "ReadingStages", name := "isSign", desc := "(I)Z" } : Jvm.MethodName)) ∈ lw_all := lw_g (lw_at lw_m5 88 rfl) rfl
theorem q1134 : (Jvm.Cond.privateMethod ({ cls := "ReadingStages", name := "isSign", desc := "(I)Z" } : Jvm.MethodName)) ∈ lw_tbl := lw_at lw_m5 89 rfl
theorem q1135 : (Jvm.Cond.instanceMethod ({ cls := "ReadingStages", name := "isSign", desc := "(I)Z" } : Jvm.MethodName)) ∈ lw_all := lw_g (lw_at lw_m5 90 rfl) rfl
theorem q1136 : (Jvm.Cond.code ({ cls := "ReadingStages", name := "isSign", desc := "(I)Z" } : Jvm.MethodName) prog_1_method_50_code (2 : Nat) (Option.some Jvm.ClassFile.FieldType.boolean)) ∈ lw_all := lw_g (lw_at lw_m5 91 rfl) rfl
theorem q1137 : (Jvm.Cond.methodLink "ReadingStages" (423 : Nat) ({ cls := "ReadingStages", name := "readBook", desc := "()V" } : Jvm.MethodName)) ∈ lw_all := lw_g (lw_at lw_m5 92 rfl) rfl
theorem q1138 : (Jvm.Cond.privateMethod ({ cls := "ReadingStages", name := "readBook", desc := "()V" } : Jvm.MethodName)) ∈ lw_tbl := lw_at lw_m5 93 rfl
theorem q1139 : (Jvm.Cond.instanceMethod ({ cls := "ReadingStages", name := "readBook", desc := "()V" } : Jvm.MethodName)) ∈ lw_all := lw_g (lw_at lw_m5 94 rfl) rfl
theorem q1140 : (Jvm.Cond.code ({ cls := "ReadingStages", name := "readBook", desc := "()V" } : Jvm.MethodName) prog_1_method_54_code (2 : Nat) (Option.none : Option Jvm.ClassFile.FieldType)) ∈ lw_all := lw_g (lw_at lw_m5 95 rfl) rfl
theorem q1141 : (Jvm.Cond.methodLink "ReadingStages" (426 : Nat) ({ cls := "ReadingStages", name := "readAhead", desc := "()V" } : Jvm.MethodName)) ∈ lw_all := lw_g (lw_at lw_m5 96 rfl) rfl
theorem q1142 : (Jvm.Cond.privateMethod ({ cls := "ReadingStages", name := "readAhead", desc := "()V" } : Jvm.MethodName)) ∈ lw_tbl := lw_at lw_m5 97 rfl
theorem q1143 : (Jvm.Cond.instanceMethod ({ cls := "ReadingStages", name := "readAhead", desc := "()V" } : Jvm.MethodName)) ∈ lw_all := lw_g (lw_at lw_m5 98 rfl) rfl
theorem q1144 : (Jvm.Cond.code ({ cls := "ReadingStages", name := "readAhead", desc := "()V" } : Jvm.MethodName) prog_1_method_55_code (3 : Nat) (Option.none : Option Jvm.ClassFile.FieldType)) ∈ lw_all := lw_g (lw_at lw_m5 99 rfl) rfl
theorem q1146 : (Jvm.Cond.instanceMethod ({ cls := "ReadingStages", name := "image", desc := "()I" } : Jvm.MethodName)) ∈ lw_all := lw_g (lw_at lw_m5 101 rfl) rfl
theorem q1147 : (Jvm.Cond.selects "ReadingStages" ({ cls := "ReadingStages", name := "image", desc := "()I" } : Jvm.MethodName) ({ cls := "ReadingStages", name := "image", desc := "()I" } : Jvm.MethodName)) ∈ lw_all := lw_g (lw_at lw_m5 102 rfl) rfl
theorem q1148 : (Jvm.Cond.code ({ cls := "ReadingStages", name := "image", desc := "()I" } : Jvm.MethodName) prog_1_method_58_code (2 : Nat) (Option.some Jvm.ClassFile.FieldType.int)) ∈ lw_all := lw_g (lw_at lw_m5 103 rfl) rfl
theorem q1150 : (Jvm.Cond.instanceMethod ({ cls := "ReadingStages", name := "restore", desc := "()I" } : Jvm.MethodName)) ∈ lw_all := lw_g (lw_at lw_m5 105 rfl) rfl
theorem q1151 : (Jvm.Cond.selects "ReadingStages" ({ cls := "ReadingStages", name := "restore", desc := "()I" } : Jvm.MethodName) ({ cls := "ReadingStages", name := "restore", desc := "()I" } : Jvm.MethodName)) ∈ lw_all := lw_g (lw_at lw_m5 106 rfl) rfl
theorem q1152 : (Jvm.Cond.code ({ cls := "ReadingStages", name := "restore", desc := "()I" } : Jvm.MethodName) prog_1_method_59_code (2 : Nat) (Option.some Jvm.ClassFile.FieldType.int)) ∈ lw_all := lw_g (lw_at lw_m5 107 rfl) rfl
theorem q1154 : (Jvm.Cond.instanceMethod ({ cls := "ReadingStages", name := "seen", desc := "(III)I" } : Jvm.MethodName)) ∈ lw_all := lw_g (lw_at lw_m5 109 rfl) rfl
theorem q1155 : (Jvm.Cond.selects "ReadingStages" ({ cls := "ReadingStages", name := "seen", desc := "(III)I" } : Jvm.MethodName) ({ cls := "ReadingStages", name := "seen", desc := "(III)I" } : Jvm.MethodName)) ∈ lw_all := lw_g (lw_at lw_m5 110 rfl) rfl
theorem q1156 : (Jvm.Cond.code ({ cls := "ReadingStages", name := "seen", desc := "(III)I" } : Jvm.MethodName) prog_1_method_62_code (8 : Nat) (Option.some Jvm.ClassFile.FieldType.int)) ∈ lw_all := lw_g (lw_at lw_m5 111 rfl) rfl
theorem q1157 : (Jvm.Cond.methodLink "ReadingStages" (449 : Nat) ({ cls := "ReadingStages", name := "isSheet", desc := "(II)Z" } : Jvm.MethodName)) ∈ lw_all := lw_g (lw_at lw_m5 112 rfl) rfl
theorem q1158 : (Jvm.Cond.static ({ cls := "ReadingStages", name := "isSheet", desc := "(II)Z" } : Jvm.MethodName)) ∈ lw_all := lw_g (lw_at lw_m5 113 rfl) rfl
theorem q1159 : (Jvm.Cond.code ({ cls := "ReadingStages", name := "isSheet", desc := "(II)Z" } : Jvm.MethodName) prog_1_method_60_code (2 : Nat) (Option.some Jvm.ClassFile.FieldType.boolean)) ∈ lw_all := lw_g (lw_at lw_m5 114 rfl) rfl
theorem q1160 : (Jvm.Cond.constantLong "ReadingStages" (439 : Nat) (3 : Int64)) ∈ lw_all := lw_g (lw_at lw_m5 115 rfl) rfl
theorem q1161 : (Jvm.Cond.methodLink "ReadingStages" (452 : Nat) ({ cls := "ReadingStages", name := "lacks", desc := "(IIII)I" } : Jvm.MethodName)) ∈ lw_all := lw_g (lw_at lw_m5 116 rfl) rfl
theorem q1162 : (Jvm.Cond.privateMethod ({ cls := "ReadingStages", name := "lacks", desc := "(IIII)I" } : Jvm.MethodName)) ∈ lw_tbl := lw_at lw_m5 117 rfl
theorem q1163 : (Jvm.Cond.instanceMethod ({ cls := "ReadingStages", name := "lacks", desc := "(IIII)I" } : Jvm.MethodName)) ∈ lw_all := lw_g (lw_at lw_m5 118 rfl) rfl
theorem q1164 : (Jvm.Cond.code ({ cls := "ReadingStages", name := "lacks", desc := "(IIII)I" } : Jvm.MethodName) prog_1_method_61_code (6 : Nat) (Option.some Jvm.ClassFile.FieldType.int)) ∈ lw_all := lw_g (lw_at lw_m5 119 rfl) rfl
theorem q1165 : (Jvm.Cond.methodLink "ReadingStages" (445 : Nat) ({ cls := "ReadingStages$Sheet", name := "lane", desc := "()I" } : Jvm.MethodName)) ∈ lw_all := lw_g (lw_at lw_m5 120 rfl) rfl
theorem q1172 : (Jvm.Cond.methodLink "ReadingStages" (448 : Nat) ({ cls := "ReadingStages$Sheet", name := "size", desc := "()I" } : Jvm.MethodName)) ∈ lw_all := lw_g (lw_at lw_m5 127 rfl) rfl
theorem q1177 : (Jvm.Cond.methodLink "ReadingStages" (456 : Nat) ({ cls := "ReadingStages$Sheet", name := "get", desc := "(I)J" } : Jvm.MethodName)) ∈ lw_all := lw_g (lw_at lw_m5 132 rfl) rfl
theorem q1181 : (Jvm.Cond.privateMethod ({ cls := "ReadingStages", name := "lambda$seen$6", desc := "(LReadingStages$Sheet;ILReadingStages$Shelf;)Z" } : Jvm.MethodName)) ∈ lw_tbl := lw_at lw_m5 136 rfl
theorem q1182 : (Jvm.Cond.instanceMethod ({ cls := "ReadingStages", name := "lambda$seen$6", desc := "(LReadingStages$Sheet;ILReadingStages$Shelf;)Z" } : Jvm.MethodName)) ∈ lw_all := lw_g (lw_at lw_m5 137 rfl) rfl
theorem q1183 : (Jvm.Cond.code ({ cls := "ReadingStages", name := "lambda$seen$6", desc := "(LReadingStages$Sheet;ILReadingStages$Shelf;)Z" } : Jvm.MethodName) prog_1_method_68_code (6 : Nat) (Option.some Jvm.ClassFile.FieldType.boolean)) ∈ lw_all := lw_g (lw_at lw_m5 138 rfl) rfl
theorem q1185 : (Jvm.Cond.instanceMethod ({ cls := "ReadingStages", name := "film", desc := "(III)I" } : Jvm.MethodName)) ∈ lw_all := lw_g (lw_at lw_m5 140 rfl) rfl
theorem q1186 : (Jvm.Cond.selects "ReadingStages" ({ cls := "ReadingStages", name := "film", desc := "(III)I" } : Jvm.MethodName) ({ cls := "ReadingStages", name := "film", desc := "(III)I" } : Jvm.MethodName)) ∈ lw_all := lw_g (lw_at lw_m5 141 rfl) rfl
theorem q1187 : (Jvm.Cond.code ({ cls := "ReadingStages", name := "film", desc := "(III)I" } : Jvm.MethodName) prog_1_method_63_code (6 : Nat) (Option.some Jvm.ClassFile.FieldType.int)) ∈ lw_all := lw_g (lw_at lw_m5 142 rfl) rfl
theorem q1188 : (Jvm.Cond.methodLink "ReadingStages" (463 : Nat) ({ cls := "ReadingStages$Sheet", name := "lay", desc := "(IIJ)V" } : Jvm.MethodName)) ∈ lw_all := lw_g (lw_at lw_m5 143 rfl) rfl
theorem q1193 : (Jvm.Cond.instanceMethod ({ cls := "ReadingStages", name := "sheet", desc := "(III)I" } : Jvm.MethodName)) ∈ lw_all := lw_g (lw_at lw_m5 148 rfl) rfl
theorem q1194 : (Jvm.Cond.selects "ReadingStages" ({ cls := "ReadingStages", name := "sheet", desc := "(III)I" } : Jvm.MethodName) ({ cls := "ReadingStages", name := "sheet", desc := "(III)I" } : Jvm.MethodName)) ∈ lw_all := lw_g (lw_at lw_m5 149 rfl) rfl
theorem q1195 : (Jvm.Cond.codeWith ({ cls := "ReadingStages", name := "sheet", desc := "(III)I" } : Jvm.MethodName) prog_1_method_64_code (5 : Nat) (Option.some Jvm.ClassFile.FieldType.int) [((16 : Nat), (60 : Nat), (63 : Nat), (467 : Nat))]) ∈ lw_all := lw_g (lw_at lw_m5 150 rfl) rfl
theorem q1196 : (Jvm.Cond.classLink "ReadingStages" (467 : Nat) "java/lang/NegativeArraySizeException") ∈ lw_all := lw_g (lw_at lw_m5 151 rfl) rfl
theorem q1211 : (Jvm.Cond.instanceMethod ({ cls := "ReadingStages", name := "drop", desc := "(I)I" } : Jvm.MethodName)) ∈ lw_all := lw_g (lw_at lw_m5 166 rfl) rfl
theorem q1212 : (Jvm.Cond.selects "ReadingStages" ({ cls := "ReadingStages", name := "drop", desc := "(I)I" } : Jvm.MethodName) ({ cls := "ReadingStages", name := "drop", desc := "(I)I" } : Jvm.MethodName)) ∈ lw_all := lw_g (lw_at lw_m5 167 rfl) rfl
theorem q1213 : (Jvm.Cond.code ({ cls := "ReadingStages", name := "drop", desc := "(I)I" } : Jvm.MethodName) prog_1_method_65_code (3 : Nat) (Option.some Jvm.ClassFile.FieldType.int)) ∈ lw_all := lw_g (lw_at lw_m5 168 rfl) rfl
theorem q1215 : (Jvm.Cond.instanceMethod ({ cls := "ReadingStages", name := "item", desc := "(IIIJ)I" } : Jvm.MethodName)) ∈ lw_all := lw_g (lw_at lw_m5 170 rfl) rfl
theorem q1216 : (Jvm.Cond.selects "ReadingStages" ({ cls := "ReadingStages", name := "item", desc := "(IIIJ)I" } : Jvm.MethodName) ({ cls := "ReadingStages", name := "item", desc := "(IIIJ)I" } : Jvm.MethodName)) ∈ lw_all := lw_g (lw_at lw_m5 171 rfl) rfl
theorem q1217 : (Jvm.Cond.codeWith ({ cls := "ReadingStages", name := "item", desc := "(IIIJ)I" } : Jvm.MethodName) prog_1_method_66_code (7 : Nat) (Option.some Jvm.ClassFile.FieldType.int) [((10 : Nat), (23 : Nat), (26 : Nat), (469 : Nat)), ((10 : Nat), (23 : Nat), (31 : Nat), (471 : Nat)), ((10 : Nat), (23 : Nat), (36 : Nat), (473 : Nat))]) ∈ lw_all := lw_g (lw_at lw_m5 172 rfl) rfl
theorem q1218 : (Jvm.Cond.classLink "ReadingStages" (469 : Nat) "java/lang/NullPointerException") ∈ lw_all := lw_g (lw_at lw_m5 173 rfl) rfl
theorem q1237 : (Jvm.Cond.classLink "ReadingStages" (471 : Nat) "java/lang/ClassCastException") ∈ lw_all := lw_g (lw_at lw_m5 192 rfl) rfl
theorem q1251 : (Jvm.Cond.classLink "ReadingStages" (473 : Nat) "java/lang/ArrayIndexOutOfBoundsException") ∈ lw_all := lw_g (lw_at lw_m5 206 rfl) rfl
theorem q1271 : (Jvm.Cond.instanceMethod ({ cls := "ReadingStages", name := "copy", desc := "(IIIII)I" } : Jvm.MethodName)) ∈ lw_all := lw_g (lw_at lw_m5 226 rfl) rfl
theorem q1272 : (Jvm.Cond.selects "ReadingStages" ({ cls := "ReadingStages", name := "copy", desc := "(IIIII)I" } : Jvm.MethodName) ({ cls := "ReadingStages", name := "copy", desc := "(IIIII)I" } : Jvm.MethodName)) ∈ lw_all := lw_g (lw_at lw_m5 227 rfl) rfl
theorem q1273 : (Jvm.Cond.codeWith ({ cls := "ReadingStages", name := "copy", desc := "(IIIII)I" } : Jvm.MethodName) prog_1_method_67_code (7 : Nat) (Option.some Jvm.ClassFile.FieldType.int) [((18 : Nat), (44 : Nat), (47 : Nat), (469 : Nat)), ((18 : Nat), (44 : Nat), (52 : Nat), (475 : Nat)), ((18 : Nat), (44 : Nat), (57 : Nat), (477 : Nat))]) ∈ lw_all := lw_g (lw_at lw_m5 228 rfl) rfl
theorem q1274 : (Jvm.Cond.classLink "ReadingStages" (475 : Nat) "java/lang/ArrayStoreException") ∈ lw_all := lw_g (lw_at lw_m5 229 rfl) rfl
theorem q1288 : (Jvm.Cond.classLink "ReadingStages" (477 : Nat) "java/lang/IndexOutOfBoundsException") ∈ lw_all := lw_g (lw_at lw_m6 3 rfl) rfl
theorem in_X0 : ∀ w ∈ wsX00, w ∈ lw_all := lw_in wsX00 [326, 328, 330, 332, 334, 336, 338, 340, 342, 344, 346, 348, 350, 352, 354, 356, 358, 360, 362, 364, 366, 368, 370, 372, 374] (by decide +kernel) (by decide +kernel)
