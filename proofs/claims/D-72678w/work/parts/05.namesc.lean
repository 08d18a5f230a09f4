/-! ReadingStagesModel -/
set_option maxRecDepth 100000
def RX6 : String := "ReadingStagesModel"
def TX6 : u_T := fun k => match k with
  | 0 => ("ReadingStagesModel", "now", "[I", true)
  | 1 => ("ReadingStagesModel", "past", "[I", true)
  | 2 => ("ReadingStagesModel", "acts", "I", false)
  | 3 => ("ReadingStagesModel", "image", "[I", true)
  | 4 => ("ReadingStagesModel", "imagePast", "[I", true)
  | 5 => ("ReadingStagesModel", "imageActs", "I", false)
  | 6 => ("ReadingStagesModel", "tape", "[I", true)
  | 7 => ("ReadingStagesModel", "typed", "I", false)
  | 8 => ("ReadingStagesModel", "lanes", "[I", true)
  | 9 => ("ReadingStagesModel", "sizes", "[I", true)
  | 10 => ("ReadingStagesModel", "items", "[J", true)
  | 11 => ("ReadingStagesModel", "moved", "[J", true)
  | 12 => ("ReadingStagesModel", "order", "[I", true)
  | 13 => ("ReadingStagesModel", "strength", "[I", true)
  | 14 => ("ReadingStagesModel", "last", "[I", true)
  | 15 => ("ReadingStagesModel", "news", "[I", true)
  | 16 => ("ReadingStagesModel", "agains", "[I", true)
  | 17 => ("ReadingStagesModel", "losts", "[I", true)
  | 18 => ("ReadingStagesModel", "lives", "[I", true)
  | 19 => ("ReadingStagesModel", "bestNumber", "I", false)
  | 20 => ("ReadingStagesModel", "bestPeak", "I", false)
  | 21 => ("ReadingStagesModel", "bestLoss", "I", false)
  | 22 => ("ReadingStagesModel", "note", "[I", true)
  | 23 => ("ReadingStagesModel", "noted", "I", false)
  | 24 => ("ReadingStagesModel", "first", "[I", true)
  | 25 => ("ReadingStagesModel", "place", "I", false)
  | _ => ("ReadingStagesModel", "lastTold", "I", false)
def tyX6 : Nat → FieldType := fun k => match k with
  | 0 => .array .int
  | 1 => .array .int
  | 2 => .int
  | 3 => .array .int
  | 4 => .array .int
  | 5 => .int
  | 6 => .array .int
  | 7 => .int
  | 8 => .array .int
  | 9 => .array .int
  | 10 => .array .long
  | 11 => .array .long
  | 12 => .array .int
  | 13 => .array .int
  | 14 => .array .int
  | 15 => .array .int
  | 16 => .array .int
  | 17 => .array .int
  | 18 => .array .int
  | 19 => .int
  | 20 => .int
  | 21 => .int
  | 22 => .array .int
  | 23 => .int
  | 24 => .array .int
  | 25 => .int
  | _ => .int
abbrev wsX60 : List Cond := u_ws RX6 TX6 27
set_option maxRecDepth 100000 in
theorem nmX6 : ∀ a, a < 27 → ∀ b, b < 27 → a ≠ b → (TX6 a).2.1 ≠ (TX6 b).2.1 := by decide +kernel
set_option maxRecDepth 100000 in
theorem tyX6_ok : ∀ k, k < 27 → parseFieldDescriptor (TX6 k).2.2.1 = some (tyX6 k) := by decide +kernel
abbrev cX6_init : ByteArray := prog_11_method_1_code
def yX6_init : MethodName := ⟨RX6, "<init>", "()V"⟩
def dkwX6_init_8 : List UInt8 := [132, 1, 1, 167, 255, 241, 177]
abbrev dktX6_init_8 : List UInt8 := dkwX6_init_8 ++ []
def dkwX6_init_7 : List UInt8 := [79, 42, 180, 0, 7, 8, 4, 79, 3, 60, 27, 7, 162, 0, 16, 42, 180, 0, 29, 27, 2, 79]
abbrev dktX6_init_7 : List UInt8 := dkwX6_init_7 ++ dktX6_init_8
def dkwX6_init_6 : List UInt8 := [181, 0, 63, 42, 16, 27, 188, 10, 181, 0, 66, 42, 180, 0, 7, 5, 5, 79, 42, 180, 0, 7, 6, 8]
abbrev dktX6_init_6 : List UInt8 := dkwX6_init_6 ++ dktX6_init_7
def dkwX6_init_5 : List UInt8 := [181, 0, 54, 42, 16, 7, 188, 10, 181, 0, 57, 42, 16, 7, 188, 10, 181, 0, 60, 42, 16, 64, 188, 10]
abbrev dktX6_init_5 : List UInt8 := dkwX6_init_5 ++ dktX6_init_6
def dkwX6_init_4 : List UInt8 := [181, 0, 45, 42, 16, 20, 188, 10, 181, 0, 48, 42, 16, 7, 188, 10, 181, 0, 51, 42, 16, 7, 188, 10]
abbrev dktX6_init_4 : List UInt8 := dkwX6_init_4 ++ dktX6_init_5
def dkwX6_init_3 : List UInt8 := [181, 0, 35, 42, 16, 24, 188, 11, 181, 0, 39, 42, 16, 7, 188, 10, 181, 0, 42, 42, 16, 20, 188, 10]
abbrev dktX6_init_3 : List UInt8 := dkwX6_init_3 ++ dktX6_init_4
def dkwX6_init_2 : List UInt8 := [181, 0, 26, 42, 7, 188, 10, 181, 0, 29, 42, 7, 188, 10, 181, 0, 32, 42, 16, 96, 188, 11]
abbrev dktX6_init_2 : List UInt8 := dkwX6_init_2 ++ dktX6_init_3
def dkwX6_init_1 : List UInt8 := [188, 10, 181, 0, 16, 42, 17, 0, 162, 188, 10, 181, 0, 19, 42, 2, 181, 0, 22, 42, 16, 90, 188, 10]
abbrev dktX6_init_1 : List UInt8 := dkwX6_init_1 ++ dktX6_init_2
def dkwX6_init_0 : List UInt8 := [42, 183, 0, 1, 42, 16, 27, 188, 10, 181, 0, 7, 42, 17, 0, 162, 188, 10, 181, 0, 13, 42, 16, 27]
abbrev dktX6_init_0 : List UInt8 := dkwX6_init_0 ++ dktX6_init_1
theorem dksX6_init_0 : cX6_init.data.toList.drop 0 = dktX6_init_0 := by decide +kernel
theorem dksX6_init_1 : cX6_init.data.toList.drop 24 = dktX6_init_1 := dk_seg dksX6_init_0 24 rfl rfl
theorem dksX6_init_2 : cX6_init.data.toList.drop 48 = dktX6_init_2 := dk_seg dksX6_init_1 24 rfl rfl
theorem dksX6_init_3 : cX6_init.data.toList.drop 70 = dktX6_init_3 := dk_seg dksX6_init_2 22 rfl rfl
theorem dksX6_init_4 : cX6_init.data.toList.drop 94 = dktX6_init_4 := dk_seg dksX6_init_3 24 rfl rfl
theorem dksX6_init_5 : cX6_init.data.toList.drop 118 = dktX6_init_5 := dk_seg dksX6_init_4 24 rfl rfl
theorem dksX6_init_6 : cX6_init.data.toList.drop 142 = dktX6_init_6 := dk_seg dksX6_init_5 24 rfl rfl
theorem dksX6_init_7 : cX6_init.data.toList.drop 166 = dktX6_init_7 := dk_seg dksX6_init_6 24 rfl rfl
theorem dksX6_init_8 : cX6_init.data.toList.drop 188 = dktX6_init_8 := dk_seg dksX6_init_7 22 rfl rfl
theorem dX6_init_0 : decode cX6_init 0 = .ok (.aload_n 0, 1) := dk_42 (dk_at dksX6_init_0 0 rfl rfl)
theorem dX6_init_1 : decode cX6_init 1 = .ok (.invokespecial 1, 3) := dk_183 0 1 (dk_at dksX6_init_0 1 rfl rfl)
theorem dX6_init_4 : decode cX6_init 4 = .ok (.aload_n 0, 1) := dk_42 (dk_at dksX6_init_0 4 rfl rfl)
theorem dX6_init_5 : decode cX6_init 5 = .ok (.bipush 27, 2) := dk_16 27 (dk_at dksX6_init_0 5 rfl rfl)
theorem dX6_init_7 : decode cX6_init 7 = .ok (.newarray .int, 2) := dk_188_10 (dk_at dksX6_init_0 7 rfl rfl)
theorem dX6_init_9 : decode cX6_init 9 = .ok (.putfield 7, 3) := dk_181 0 7 (dk_at dksX6_init_0 9 rfl rfl)
theorem dX6_init_12 : decode cX6_init 12 = .ok (.aload_n 0, 1) := dk_42 (dk_at dksX6_init_0 12 rfl rfl)
theorem dX6_init_13 : decode cX6_init 13 = .ok (.sipush 162, 3) := dk_17 0 162 (dk_at dksX6_init_0 13 rfl rfl)
theorem dX6_init_16 : decode cX6_init 16 = .ok (.newarray .int, 2) := dk_188_10 (dk_at dksX6_init_0 16 rfl rfl)
theorem dX6_init_18 : decode cX6_init 18 = .ok (.putfield 13, 3) := dk_181 0 13 (dk_at dksX6_init_0 18 rfl rfl)
theorem dX6_init_21 : decode cX6_init 21 = .ok (.aload_n 0, 1) := dk_42 (dk_at dksX6_init_0 21 rfl rfl)
theorem dX6_init_22 : decode cX6_init 22 = .ok (.bipush 27, 2) := dk_16 27 (dk_at dksX6_init_0 22 rfl rfl)
theorem dX6_init_24 : decode cX6_init 24 = .ok (.newarray .int, 2) := dk_188_10 (dk_at dksX6_init_1 0 rfl rfl)
theorem dX6_init_26 : decode cX6_init 26 = .ok (.putfield 16, 3) := dk_181 0 16 (dk_at dksX6_init_1 2 rfl rfl)
theorem dX6_init_29 : decode cX6_init 29 = .ok (.aload_n 0, 1) := dk_42 (dk_at dksX6_init_1 5 rfl rfl)
theorem dX6_init_30 : decode cX6_init 30 = .ok (.sipush 162, 3) := dk_17 0 162 (dk_at dksX6_init_1 6 rfl rfl)
theorem dX6_init_33 : decode cX6_init 33 = .ok (.newarray .int, 2) := dk_188_10 (dk_at dksX6_init_1 9 rfl rfl)
theorem dX6_init_35 : decode cX6_init 35 = .ok (.putfield 19, 3) := dk_181 0 19 (dk_at dksX6_init_1 11 rfl rfl)
theorem dX6_init_38 : decode cX6_init 38 = .ok (.aload_n 0, 1) := dk_42 (dk_at dksX6_init_1 14 rfl rfl)
theorem dX6_init_39 : decode cX6_init 39 = .ok (.iconst (-1), 1) := dk_2 (dk_at dksX6_init_1 15 rfl rfl)
theorem dX6_init_40 : decode cX6_init 40 = .ok (.putfield 22, 3) := dk_181 0 22 (dk_at dksX6_init_1 16 rfl rfl)
theorem dX6_init_43 : decode cX6_init 43 = .ok (.aload_n 0, 1) := dk_42 (dk_at dksX6_init_1 19 rfl rfl)
theorem dX6_init_44 : decode cX6_init 44 = .ok (.bipush 90, 2) := dk_16 90 (dk_at dksX6_init_1 20 rfl rfl)
theorem dX6_init_46 : decode cX6_init 46 = .ok (.newarray .int, 2) := dk_188_10 (dk_at dksX6_init_1 22 rfl rfl)
theorem dX6_init_48 : decode cX6_init 48 = .ok (.putfield 26, 3) := dk_181 0 26 (dk_at dksX6_init_2 0 rfl rfl)
theorem dX6_init_51 : decode cX6_init 51 = .ok (.aload_n 0, 1) := dk_42 (dk_at dksX6_init_2 3 rfl rfl)
theorem dX6_init_52 : decode cX6_init 52 = .ok (.iconst 4, 1) := dk_7 (dk_at dksX6_init_2 4 rfl rfl)
theorem dX6_init_53 : decode cX6_init 53 = .ok (.newarray .int, 2) := dk_188_10 (dk_at dksX6_init_2 5 rfl rfl)
theorem dX6_init_55 : decode cX6_init 55 = .ok (.putfield 29, 3) := dk_181 0 29 (dk_at dksX6_init_2 7 rfl rfl)
theorem dX6_init_58 : decode cX6_init 58 = .ok (.aload_n 0, 1) := dk_42 (dk_at dksX6_init_2 10 rfl rfl)
theorem dX6_init_59 : decode cX6_init 59 = .ok (.iconst 4, 1) := dk_7 (dk_at dksX6_init_2 11 rfl rfl)
theorem dX6_init_60 : decode cX6_init 60 = .ok (.newarray .int, 2) := dk_188_10 (dk_at dksX6_init_2 12 rfl rfl)
theorem dX6_init_62 : decode cX6_init 62 = .ok (.putfield 32, 3) := dk_181 0 32 (dk_at dksX6_init_2 14 rfl rfl)
theorem dX6_init_65 : decode cX6_init 65 = .ok (.aload_n 0, 1) := dk_42 (dk_at dksX6_init_2 17 rfl rfl)
theorem dX6_init_66 : decode cX6_init 66 = .ok (.bipush 96, 2) := dk_16 96 (dk_at dksX6_init_2 18 rfl rfl)
theorem dX6_init_68 : decode cX6_init 68 = .ok (.newarray .long, 2) := dk_188_11 (dk_at dksX6_init_2 20 rfl rfl)
theorem dX6_init_70 : decode cX6_init 70 = .ok (.putfield 35, 3) := dk_181 0 35 (dk_at dksX6_init_3 0 rfl rfl)
theorem dX6_init_73 : decode cX6_init 73 = .ok (.aload_n 0, 1) := dk_42 (dk_at dksX6_init_3 3 rfl rfl)
theorem dX6_init_74 : decode cX6_init 74 = .ok (.bipush 24, 2) := dk_16 24 (dk_at dksX6_init_3 4 rfl rfl)
theorem dX6_init_76 : decode cX6_init 76 = .ok (.newarray .long, 2) := dk_188_11 (dk_at dksX6_init_3 6 rfl rfl)
theorem dX6_init_78 : decode cX6_init 78 = .ok (.putfield 39, 3) := dk_181 0 39 (dk_at dksX6_init_3 8 rfl rfl)
theorem dX6_init_81 : decode cX6_init 81 = .ok (.aload_n 0, 1) := dk_42 (dk_at dksX6_init_3 11 rfl rfl)
theorem dX6_init_82 : decode cX6_init 82 = .ok (.bipush 7, 2) := dk_16 7 (dk_at dksX6_init_3 12 rfl rfl)
theorem dX6_init_84 : decode cX6_init 84 = .ok (.newarray .int, 2) := dk_188_10 (dk_at dksX6_init_3 14 rfl rfl)
theorem dX6_init_86 : decode cX6_init 86 = .ok (.putfield 42, 3) := dk_181 0 42 (dk_at dksX6_init_3 16 rfl rfl)
theorem dX6_init_89 : decode cX6_init 89 = .ok (.aload_n 0, 1) := dk_42 (dk_at dksX6_init_3 19 rfl rfl)
theorem dX6_init_90 : decode cX6_init 90 = .ok (.bipush 20, 2) := dk_16 20 (dk_at dksX6_init_3 20 rfl rfl)
theorem dX6_init_92 : decode cX6_init 92 = .ok (.newarray .int, 2) := dk_188_10 (dk_at dksX6_init_3 22 rfl rfl)
theorem dX6_init_94 : decode cX6_init 94 = .ok (.putfield 45, 3) := dk_181 0 45 (dk_at dksX6_init_4 0 rfl rfl)
theorem dX6_init_97 : decode cX6_init 97 = .ok (.aload_n 0, 1) := dk_42 (dk_at dksX6_init_4 3 rfl rfl)
theorem dX6_init_98 : decode cX6_init 98 = .ok (.bipush 20, 2) := dk_16 20 (dk_at dksX6_init_4 4 rfl rfl)
theorem dX6_init_100 : decode cX6_init 100 = .ok (.newarray .int, 2) := dk_188_10 (dk_at dksX6_init_4 6 rfl rfl)
theorem dX6_init_102 : decode cX6_init 102 = .ok (.putfield 48, 3) := dk_181 0 48 (dk_at dksX6_init_4 8 rfl rfl)
theorem dX6_init_105 : decode cX6_init 105 = .ok (.aload_n 0, 1) := dk_42 (dk_at dksX6_init_4 11 rfl rfl)
theorem dX6_init_106 : decode cX6_init 106 = .ok (.bipush 7, 2) := dk_16 7 (dk_at dksX6_init_4 12 rfl rfl)
theorem dX6_init_108 : decode cX6_init 108 = .ok (.newarray .int, 2) := dk_188_10 (dk_at dksX6_init_4 14 rfl rfl)
theorem dX6_init_110 : decode cX6_init 110 = .ok (.putfield 51, 3) := dk_181 0 51 (dk_at dksX6_init_4 16 rfl rfl)
theorem dX6_init_113 : decode cX6_init 113 = .ok (.aload_n 0, 1) := dk_42 (dk_at dksX6_init_4 19 rfl rfl)
theorem dX6_init_114 : decode cX6_init 114 = .ok (.bipush 7, 2) := dk_16 7 (dk_at dksX6_init_4 20 rfl rfl)
theorem dX6_init_116 : decode cX6_init 116 = .ok (.newarray .int, 2) := dk_188_10 (dk_at dksX6_init_4 22 rfl rfl)
theorem dX6_init_118 : decode cX6_init 118 = .ok (.putfield 54, 3) := dk_181 0 54 (dk_at dksX6_init_5 0 rfl rfl)
theorem dX6_init_121 : decode cX6_init 121 = .ok (.aload_n 0, 1) := dk_42 (dk_at dksX6_init_5 3 rfl rfl)
theorem dX6_init_122 : decode cX6_init 122 = .ok (.bipush 7, 2) := dk_16 7 (dk_at dksX6_init_5 4 rfl rfl)
theorem dX6_init_124 : decode cX6_init 124 = .ok (.newarray .int, 2) := dk_188_10 (dk_at dksX6_init_5 6 rfl rfl)
theorem dX6_init_126 : decode cX6_init 126 = .ok (.putfield 57, 3) := dk_181 0 57 (dk_at dksX6_init_5 8 rfl rfl)
theorem dX6_init_129 : decode cX6_init 129 = .ok (.aload_n 0, 1) := dk_42 (dk_at dksX6_init_5 11 rfl rfl)
theorem dX6_init_130 : decode cX6_init 130 = .ok (.bipush 7, 2) := dk_16 7 (dk_at dksX6_init_5 12 rfl rfl)
theorem dX6_init_132 : decode cX6_init 132 = .ok (.newarray .int, 2) := dk_188_10 (dk_at dksX6_init_5 14 rfl rfl)
theorem dX6_init_134 : decode cX6_init 134 = .ok (.putfield 60, 3) := dk_181 0 60 (dk_at dksX6_init_5 16 rfl rfl)
theorem dX6_init_137 : decode cX6_init 137 = .ok (.aload_n 0, 1) := dk_42 (dk_at dksX6_init_5 19 rfl rfl)
theorem dX6_init_138 : decode cX6_init 138 = .ok (.bipush 64, 2) := dk_16 64 (dk_at dksX6_init_5 20 rfl rfl)
theorem dX6_init_140 : decode cX6_init 140 = .ok (.newarray .int, 2) := dk_188_10 (dk_at dksX6_init_5 22 rfl rfl)
theorem dX6_init_142 : decode cX6_init 142 = .ok (.putfield 63, 3) := dk_181 0 63 (dk_at dksX6_init_6 0 rfl rfl)
theorem dX6_init_145 : decode cX6_init 145 = .ok (.aload_n 0, 1) := dk_42 (dk_at dksX6_init_6 3 rfl rfl)
theorem dX6_init_146 : decode cX6_init 146 = .ok (.bipush 27, 2) := dk_16 27 (dk_at dksX6_init_6 4 rfl rfl)
theorem dX6_init_148 : decode cX6_init 148 = .ok (.newarray .int, 2) := dk_188_10 (dk_at dksX6_init_6 6 rfl rfl)
theorem dX6_init_150 : decode cX6_init 150 = .ok (.putfield 66, 3) := dk_181 0 66 (dk_at dksX6_init_6 8 rfl rfl)
theorem dX6_init_153 : decode cX6_init 153 = .ok (.aload_n 0, 1) := dk_42 (dk_at dksX6_init_6 11 rfl rfl)
theorem dX6_init_154 : decode cX6_init 154 = .ok (.getfield 7, 3) := dk_180 0 7 (dk_at dksX6_init_6 12 rfl rfl)
theorem dX6_init_157 : decode cX6_init 157 = .ok (.iconst 2, 1) := dk_5 (dk_at dksX6_init_6 15 rfl rfl)
theorem dX6_init_158 : decode cX6_init 158 = .ok (.iconst 2, 1) := dk_5 (dk_at dksX6_init_6 16 rfl rfl)
theorem dX6_init_159 : decode cX6_init 159 = .ok (.iastore, 1) := dk_79 (dk_at dksX6_init_6 17 rfl rfl)
theorem dX6_init_160 : decode cX6_init 160 = .ok (.aload_n 0, 1) := dk_42 (dk_at dksX6_init_6 18 rfl rfl)
theorem dX6_init_161 : decode cX6_init 161 = .ok (.getfield 7, 3) := dk_180 0 7 (dk_at dksX6_init_6 19 rfl rfl)
theorem dX6_init_164 : decode cX6_init 164 = .ok (.iconst 3, 1) := dk_6 (dk_at dksX6_init_6 22 rfl rfl)
theorem dX6_init_165 : decode cX6_init 165 = .ok (.iconst 5, 1) := dk_8 (dk_at dksX6_init_6 23 rfl rfl)
theorem dX6_init_166 : decode cX6_init 166 = .ok (.iastore, 1) := dk_79 (dk_at dksX6_init_7 0 rfl rfl)
theorem dX6_init_167 : decode cX6_init 167 = .ok (.aload_n 0, 1) := dk_42 (dk_at dksX6_init_7 1 rfl rfl)
theorem dX6_init_168 : decode cX6_init 168 = .ok (.getfield 7, 3) := dk_180 0 7 (dk_at dksX6_init_7 2 rfl rfl)
theorem dX6_init_171 : decode cX6_init 171 = .ok (.iconst 5, 1) := dk_8 (dk_at dksX6_init_7 5 rfl rfl)
theorem dX6_init_172 : decode cX6_init 172 = .ok (.iconst 1, 1) := dk_4 (dk_at dksX6_init_7 6 rfl rfl)
theorem dX6_init_173 : decode cX6_init 173 = .ok (.iastore, 1) := dk_79 (dk_at dksX6_init_7 7 rfl rfl)
theorem dX6_init_174 : decode cX6_init 174 = .ok (.iconst 0, 1) := dk_3 (dk_at dksX6_init_7 8 rfl rfl)
theorem dX6_init_175 : decode cX6_init 175 = .ok (.istore_n 1, 1) := dk_60 (dk_at dksX6_init_7 9 rfl rfl)
theorem dX6_init_176 : decode cX6_init 176 = .ok (.iload_n 1, 1) := dk_27 (dk_at dksX6_init_7 10 rfl rfl)
theorem dX6_init_177 : decode cX6_init 177 = .ok (.iconst 4, 1) := dk_7 (dk_at dksX6_init_7 11 rfl rfl)
theorem dX6_init_178 : decode cX6_init 178 = .ok (.if_icmp .ge 16, 3) := dk_162 0 16 (dk_at dksX6_init_7 12 rfl rfl)
theorem dX6_init_181 : decode cX6_init 181 = .ok (.aload_n 0, 1) := dk_42 (dk_at dksX6_init_7 15 rfl rfl)
theorem dX6_init_182 : decode cX6_init 182 = .ok (.getfield 29, 3) := dk_180 0 29 (dk_at dksX6_init_7 16 rfl rfl)
theorem dX6_init_185 : decode cX6_init 185 = .ok (.iload_n 1, 1) := dk_27 (dk_at dksX6_init_7 19 rfl rfl)
theorem dX6_init_186 : decode cX6_init 186 = .ok (.iconst (-1), 1) := dk_2 (dk_at dksX6_init_7 20 rfl rfl)
theorem dX6_init_187 : decode cX6_init 187 = .ok (.iastore, 1) := dk_79 (dk_at dksX6_init_7 21 rfl rfl)
theorem dX6_init_188 : decode cX6_init 188 = .ok (.iinc 1 1, 3) := dk_132 1 1 (dk_at dksX6_init_8 0 rfl rfl)
theorem dX6_init_191 : decode cX6_init 191 = .ok (.goto (-15), 3) := dk_167 255 241 (dk_at dksX6_init_8 3 rfl rfl)
theorem dX6_init_194 : decode cX6_init 194 = .ok (.return_, 1) := dk_177 (dk_at dksX6_init_8 6 rfl rfl)
abbrev cX6_place : ByteArray := prog_11_method_19_code
def yX6_place : MethodName := ⟨RX6, "place", "(II)I"⟩
def dkwX6_place_5 : List UInt8 := [180, 0, 57, 27, 46, 172, 42, 180, 0, 60, 27, 46, 172, 2, 172]
abbrev dktX6_place_5 : List UInt8 := dkwX6_place_5 ++ []
def dkwX6_place_4 : List UInt8 := [184, 0, 93, 172, 42, 180, 0, 57, 27, 46, 184, 0, 93, 172, 42, 180, 0, 51, 27, 46, 172, 42]
abbrev dktX6_place_4 : List UInt8 := dkwX6_place_4 ++ dktX6_place_5
def dkwX6_place_3 : List UInt8 := [42, 180, 0, 42, 27, 46, 172, 42, 180, 0, 51, 27, 46, 184, 0, 93, 172, 42, 180, 0, 54, 27, 46]
abbrev dktX6_place_3 : List UInt8 := dkwX6_place_3 ++ dktX6_place_4
def dkwX6_place_2 : List UInt8 := [170, 0, 0, 0, 0, 0, 101, 0, 0, 0, 0, 0, 0, 0, 6, 0, 0, 0, 43, 0, 0, 0, 50, 0, 0, 0, 60, 0, 0, 0, 70, 0, 0, 0, 80, 0, 0, 0, 87, 0, 0, 0, 94]
abbrev dktX6_place_2 : List UInt8 := dkwX6_place_2 ++ dktX6_place_3
def dkwX6_place_1 : List UInt8 := [42, 182, 0, 99, 28]
abbrev dktX6_place_1 : List UInt8 := dkwX6_place_1 ++ dktX6_place_2
def dkwX6_place_0 : List UInt8 := [27, 133, 9, 42, 180, 0, 7, 3, 46, 4, 100, 133, 184, 0, 71, 154, 0, 5, 2, 172, 42, 182, 0, 96]
abbrev dktX6_place_0 : List UInt8 := dkwX6_place_0 ++ dktX6_place_1
theorem dksX6_place_0 : cX6_place.data.toList.drop 0 = dktX6_place_0 := by decide +kernel
theorem dksX6_place_1 : cX6_place.data.toList.drop 24 = dktX6_place_1 := dk_seg dksX6_place_0 24 rfl rfl
theorem dksX6_place_2 : cX6_place.data.toList.drop 29 = dktX6_place_2 := dk_seg dksX6_place_1 5 rfl rfl
theorem dksX6_place_3 : cX6_place.data.toList.drop 72 = dktX6_place_3 := dk_seg dksX6_place_2 43 rfl rfl
theorem dksX6_place_4 : cX6_place.data.toList.drop 95 = dktX6_place_4 := dk_seg dksX6_place_3 23 rfl rfl
theorem dksX6_place_5 : cX6_place.data.toList.drop 117 = dktX6_place_5 := dk_seg dksX6_place_4 22 rfl rfl
theorem dX6_place_0 : decode cX6_place 0 = .ok (.iload_n 1, 1) := dk_27 (dk_at dksX6_place_0 0 rfl rfl)
theorem dX6_place_1 : decode cX6_place 1 = .ok (.i2l, 1) := dk_133 (dk_at dksX6_place_0 1 rfl rfl)
theorem dX6_place_2 : decode cX6_place 2 = .ok (.lconst 0, 1) := dk_9 (dk_at dksX6_place_0 2 rfl rfl)
theorem dX6_place_3 : decode cX6_place 3 = .ok (.aload_n 0, 1) := dk_42 (dk_at dksX6_place_0 3 rfl rfl)
theorem dX6_place_4 : decode cX6_place 4 = .ok (.getfield 7, 3) := dk_180 0 7 (dk_at dksX6_place_0 4 rfl rfl)
theorem dX6_place_7 : decode cX6_place 7 = .ok (.iconst 0, 1) := dk_3 (dk_at dksX6_place_0 7 rfl rfl)
theorem dX6_place_8 : decode cX6_place 8 = .ok (.iaload, 1) := dk_46 (dk_at dksX6_place_0 8 rfl rfl)
theorem dX6_place_9 : decode cX6_place 9 = .ok (.iconst 1, 1) := dk_4 (dk_at dksX6_place_0 9 rfl rfl)
theorem dX6_place_10 : decode cX6_place 10 = .ok (.isub, 1) := dk_100 (dk_at dksX6_place_0 10 rfl rfl)
theorem dX6_place_11 : decode cX6_place 11 = .ok (.i2l, 1) := dk_133 (dk_at dksX6_place_0 11 rfl rfl)
theorem dX6_place_12 : decode cX6_place 12 = .ok (.invokestatic 71, 3) := dk_184 0 71 (dk_at dksX6_place_0 12 rfl rfl)
theorem dX6_place_15 : decode cX6_place 15 = .ok (.ifCond .ne 5, 3) := dk_154 0 5 (dk_at dksX6_place_0 15 rfl rfl)
theorem dX6_place_18 : decode cX6_place 18 = .ok (.iconst (-1), 1) := dk_2 (dk_at dksX6_place_0 18 rfl rfl)
theorem dX6_place_19 : decode cX6_place 19 = .ok (.ireturn, 1) := dk_172 (dk_at dksX6_place_0 19 rfl rfl)
theorem dX6_place_20 : decode cX6_place 20 = .ok (.aload_n 0, 1) := dk_42 (dk_at dksX6_place_0 20 rfl rfl)
theorem dX6_place_21 : decode cX6_place 21 = .ok (.invokevirtual 96, 3) := dk_182 0 96 (dk_at dksX6_place_0 21 rfl rfl)
theorem dX6_place_24 : decode cX6_place 24 = .ok (.aload_n 0, 1) := dk_42 (dk_at dksX6_place_1 0 rfl rfl)
theorem dX6_place_25 : decode cX6_place 25 = .ok (.invokevirtual 99, 3) := dk_182 0 99 (dk_at dksX6_place_1 1 rfl rfl)
theorem dX6_place_28 : decode cX6_place 28 = .ok (.iload_n 2, 1) := dk_28 (dk_at dksX6_place_1 4 rfl rfl)
theorem dX6_place_29 : decode cX6_place 29 = .ok (.tableswitch 101 0 6 #[43, 50, 60, 70, 80, 87, 94], 43) := by decide +kernel
theorem dX6_place_72 : decode cX6_place 72 = .ok (.aload_n 0, 1) := dk_42 (dk_at dksX6_place_3 0 rfl rfl)
theorem dX6_place_73 : decode cX6_place 73 = .ok (.getfield 42, 3) := dk_180 0 42 (dk_at dksX6_place_3 1 rfl rfl)
theorem dX6_place_76 : decode cX6_place 76 = .ok (.iload_n 1, 1) := dk_27 (dk_at dksX6_place_3 4 rfl rfl)
theorem dX6_place_77 : decode cX6_place 77 = .ok (.iaload, 1) := dk_46 (dk_at dksX6_place_3 5 rfl rfl)
theorem dX6_place_78 : decode cX6_place 78 = .ok (.ireturn, 1) := dk_172 (dk_at dksX6_place_3 6 rfl rfl)
theorem dX6_place_79 : decode cX6_place 79 = .ok (.aload_n 0, 1) := dk_42 (dk_at dksX6_place_3 7 rfl rfl)
theorem dX6_place_80 : decode cX6_place 80 = .ok (.getfield 51, 3) := dk_180 0 51 (dk_at dksX6_place_3 8 rfl rfl)
theorem dX6_place_83 : decode cX6_place 83 = .ok (.iload_n 1, 1) := dk_27 (dk_at dksX6_place_3 11 rfl rfl)
theorem dX6_place_84 : decode cX6_place 84 = .ok (.iaload, 1) := dk_46 (dk_at dksX6_place_3 12 rfl rfl)
theorem dX6_place_85 : decode cX6_place 85 = .ok (.invokestatic 93, 3) := dk_184 0 93 (dk_at dksX6_place_3 13 rfl rfl)
theorem dX6_place_88 : decode cX6_place 88 = .ok (.ireturn, 1) := dk_172 (dk_at dksX6_place_3 16 rfl rfl)
theorem dX6_place_89 : decode cX6_place 89 = .ok (.aload_n 0, 1) := dk_42 (dk_at dksX6_place_3 17 rfl rfl)
theorem dX6_place_90 : decode cX6_place 90 = .ok (.getfield 54, 3) := dk_180 0 54 (dk_at dksX6_place_3 18 rfl rfl)
theorem dX6_place_93 : decode cX6_place 93 = .ok (.iload_n 1, 1) := dk_27 (dk_at dksX6_place_3 21 rfl rfl)
theorem dX6_place_94 : decode cX6_place 94 = .ok (.iaload, 1) := dk_46 (dk_at dksX6_place_3 22 rfl rfl)
theorem dX6_place_95 : decode cX6_place 95 = .ok (.invokestatic 93, 3) := dk_184 0 93 (dk_at dksX6_place_4 0 rfl rfl)
theorem dX6_place_98 : decode cX6_place 98 = .ok (.ireturn, 1) := dk_172 (dk_at dksX6_place_4 3 rfl rfl)
theorem dX6_place_99 : decode cX6_place 99 = .ok (.aload_n 0, 1) := dk_42 (dk_at dksX6_place_4 4 rfl rfl)
theorem dX6_place_100 : decode cX6_place 100 = .ok (.getfield 57, 3) := dk_180 0 57 (dk_at dksX6_place_4 5 rfl rfl)
theorem dX6_place_103 : decode cX6_place 103 = .ok (.iload_n 1, 1) := dk_27 (dk_at dksX6_place_4 8 rfl rfl)
theorem dX6_place_104 : decode cX6_place 104 = .ok (.iaload, 1) := dk_46 (dk_at dksX6_place_4 9 rfl rfl)
theorem dX6_place_105 : decode cX6_place 105 = .ok (.invokestatic 93, 3) := dk_184 0 93 (dk_at dksX6_place_4 10 rfl rfl)
theorem dX6_place_108 : decode cX6_place 108 = .ok (.ireturn, 1) := dk_172 (dk_at dksX6_place_4 13 rfl rfl)
theorem dX6_place_109 : decode cX6_place 109 = .ok (.aload_n 0, 1) := dk_42 (dk_at dksX6_place_4 14 rfl rfl)
theorem dX6_place_110 : decode cX6_place 110 = .ok (.getfield 51, 3) := dk_180 0 51 (dk_at dksX6_place_4 15 rfl rfl)
theorem dX6_place_113 : decode cX6_place 113 = .ok (.iload_n 1, 1) := dk_27 (dk_at dksX6_place_4 18 rfl rfl)
theorem dX6_place_114 : decode cX6_place 114 = .ok (.iaload, 1) := dk_46 (dk_at dksX6_place_4 19 rfl rfl)
theorem dX6_place_115 : decode cX6_place 115 = .ok (.ireturn, 1) := dk_172 (dk_at dksX6_place_4 20 rfl rfl)
theorem dX6_place_116 : decode cX6_place 116 = .ok (.aload_n 0, 1) := dk_42 (dk_at dksX6_place_4 21 rfl rfl)
theorem dX6_place_117 : decode cX6_place 117 = .ok (.getfield 57, 3) := dk_180 0 57 (dk_at dksX6_place_5 0 rfl rfl)
theorem dX6_place_120 : decode cX6_place 120 = .ok (.iload_n 1, 1) := dk_27 (dk_at dksX6_place_5 3 rfl rfl)
theorem dX6_place_121 : decode cX6_place 121 = .ok (.iaload, 1) := dk_46 (dk_at dksX6_place_5 4 rfl rfl)
theorem dX6_place_122 : decode cX6_place 122 = .ok (.ireturn, 1) := dk_172 (dk_at dksX6_place_5 5 rfl rfl)
theorem dX6_place_123 : decode cX6_place 123 = .ok (.aload_n 0, 1) := dk_42 (dk_at dksX6_place_5 6 rfl rfl)
theorem dX6_place_124 : decode cX6_place 124 = .ok (.getfield 60, 3) := dk_180 0 60 (dk_at dksX6_place_5 7 rfl rfl)
theorem dX6_place_127 : decode cX6_place 127 = .ok (.iload_n 1, 1) := dk_27 (dk_at dksX6_place_5 10 rfl rfl)
theorem dX6_place_128 : decode cX6_place 128 = .ok (.iaload, 1) := dk_46 (dk_at dksX6_place_5 11 rfl rfl)
theorem dX6_place_129 : decode cX6_place 129 = .ok (.ireturn, 1) := dk_172 (dk_at dksX6_place_5 12 rfl rfl)
theorem dX6_place_130 : decode cX6_place 130 = .ok (.iconst (-1), 1) := dk_2 (dk_at dksX6_place_5 13 rfl rfl)
theorem dX6_place_131 : decode cX6_place 131 = .ok (.ireturn, 1) := dk_172 (dk_at dksX6_place_5 14 rfl rfl)
abbrev cX6_in : ByteArray := prog_11_method_2_code
def yX6_in : MethodName := ⟨RX6, "in", "(JJJ)Z"⟩
def dkwX6_in_0 : List UInt8 := [30, 32, 148, 155, 0, 14, 30, 22, 4, 148, 157, 0, 7, 4, 167, 0, 4, 3, 172]
abbrev dktX6_in_0 : List UInt8 := dkwX6_in_0 ++ []
theorem dksX6_in_0 : cX6_in.data.toList.drop 0 = dktX6_in_0 := by decide +kernel
theorem dX6_in_0 : decode cX6_in 0 = .ok (.lload_n 0, 1) := dk_30 (dk_at dksX6_in_0 0 rfl rfl)
theorem dX6_in_1 : decode cX6_in 1 = .ok (.lload_n 2, 1) := dk_32 (dk_at dksX6_in_0 1 rfl rfl)
theorem dX6_in_2 : decode cX6_in 2 = .ok (.lcmp, 1) := dk_148 (dk_at dksX6_in_0 2 rfl rfl)
theorem dX6_in_3 : decode cX6_in 3 = .ok (.ifCond .lt 14, 3) := dk_155 0 14 (dk_at dksX6_in_0 3 rfl rfl)
theorem dX6_in_6 : decode cX6_in 6 = .ok (.lload_n 0, 1) := dk_30 (dk_at dksX6_in_0 6 rfl rfl)
theorem dX6_in_7 : decode cX6_in 7 = .ok (.lload 4, 2) := dk_22 4 (dk_at dksX6_in_0 7 rfl rfl)
theorem dX6_in_9 : decode cX6_in 9 = .ok (.lcmp, 1) := dk_148 (dk_at dksX6_in_0 9 rfl rfl)
theorem dX6_in_10 : decode cX6_in 10 = .ok (.ifCond .gt 7, 3) := dk_157 0 7 (dk_at dksX6_in_0 10 rfl rfl)
theorem dX6_in_13 : decode cX6_in 13 = .ok (.iconst 1, 1) := dk_4 (dk_at dksX6_in_0 13 rfl rfl)
theorem dX6_in_14 : decode cX6_in 14 = .ok (.goto 4, 3) := dk_167 0 4 (dk_at dksX6_in_0 14 rfl rfl)
theorem dX6_in_17 : decode cX6_in 17 = .ok (.iconst 0, 1) := dk_3 (dk_at dksX6_in_0 17 rfl rfl)
theorem dX6_in_18 : decode cX6_in 18 = .ok (.ireturn, 1) := dk_172 (dk_at dksX6_in_0 18 rfl rfl)
abbrev cX6_takesOrder : ByteArray := prog_11_method_16_code
def yX6_takesOrder : MethodName := ⟨RX6, "takesOrder", "()V"⟩
def dkwX6_takesOrder_1 : List UInt8 := [132, 1, 1, 167, 255, 232, 177]
abbrev dktX6_takesOrder_1 : List UInt8 := dkwX6_takesOrder_1 ++ []
def dkwX6_takesOrder_0 : List UInt8 := [3, 60, 27, 16, 7, 162, 0, 24, 42, 180, 0, 42, 27, 42, 180, 0, 7, 16, 6, 27, 96, 46, 79]
abbrev dktX6_takesOrder_0 : List UInt8 := dkwX6_takesOrder_0 ++ dktX6_takesOrder_1
theorem dksX6_takesOrder_0 : cX6_takesOrder.data.toList.drop 0 = dktX6_takesOrder_0 := by decide +kernel
theorem dksX6_takesOrder_1 : cX6_takesOrder.data.toList.drop 23 = dktX6_takesOrder_1 := dk_seg dksX6_takesOrder_0 23 rfl rfl
theorem dX6_takesOrder_0 : decode cX6_takesOrder 0 = .ok (.iconst 0, 1) := dk_3 (dk_at dksX6_takesOrder_0 0 rfl rfl)
theorem dX6_takesOrder_1 : decode cX6_takesOrder 1 = .ok (.istore_n 1, 1) := dk_60 (dk_at dksX6_takesOrder_0 1 rfl rfl)
theorem dX6_takesOrder_2 : decode cX6_takesOrder 2 = .ok (.iload_n 1, 1) := dk_27 (dk_at dksX6_takesOrder_0 2 rfl rfl)
theorem dX6_takesOrder_3 : decode cX6_takesOrder 3 = .ok (.bipush 7, 2) := dk_16 7 (dk_at dksX6_takesOrder_0 3 rfl rfl)
theorem dX6_takesOrder_5 : decode cX6_takesOrder 5 = .ok (.if_icmp .ge 24, 3) := dk_162 0 24 (dk_at dksX6_takesOrder_0 5 rfl rfl)
theorem dX6_takesOrder_8 : decode cX6_takesOrder 8 = .ok (.aload_n 0, 1) := dk_42 (dk_at dksX6_takesOrder_0 8 rfl rfl)
theorem dX6_takesOrder_9 : decode cX6_takesOrder 9 = .ok (.getfield 42, 3) := dk_180 0 42 (dk_at dksX6_takesOrder_0 9 rfl rfl)
theorem dX6_takesOrder_12 : decode cX6_takesOrder 12 = .ok (.iload_n 1, 1) := dk_27 (dk_at dksX6_takesOrder_0 12 rfl rfl)
theorem dX6_takesOrder_13 : decode cX6_takesOrder 13 = .ok (.aload_n 0, 1) := dk_42 (dk_at dksX6_takesOrder_0 13 rfl rfl)
theorem dX6_takesOrder_14 : decode cX6_takesOrder 14 = .ok (.getfield 7, 3) := dk_180 0 7 (dk_at dksX6_takesOrder_0 14 rfl rfl)
theorem dX6_takesOrder_17 : decode cX6_takesOrder 17 = .ok (.bipush 6, 2) := dk_16 6 (dk_at dksX6_takesOrder_0 17 rfl rfl)
theorem dX6_takesOrder_19 : decode cX6_takesOrder 19 = .ok (.iload_n 1, 1) := dk_27 (dk_at dksX6_takesOrder_0 19 rfl rfl)
theorem dX6_takesOrder_20 : decode cX6_takesOrder 20 = .ok (.iadd, 1) := dk_96 (dk_at dksX6_takesOrder_0 20 rfl rfl)
theorem dX6_takesOrder_21 : decode cX6_takesOrder 21 = .ok (.iaload, 1) := dk_46 (dk_at dksX6_takesOrder_0 21 rfl rfl)
theorem dX6_takesOrder_22 : decode cX6_takesOrder 22 = .ok (.iastore, 1) := dk_79 (dk_at dksX6_takesOrder_0 22 rfl rfl)
theorem dX6_takesOrder_23 : decode cX6_takesOrder 23 = .ok (.iinc 1 1, 3) := dk_132 1 1 (dk_at dksX6_takesOrder_1 0 rfl rfl)
theorem dX6_takesOrder_26 : decode cX6_takesOrder 26 = .ok (.goto (-24), 3) := dk_167 255 232 (dk_at dksX6_takesOrder_1 3 rfl rfl)
theorem dX6_takesOrder_29 : decode cX6_takesOrder 29 = .ok (.return_, 1) := dk_177 (dk_at dksX6_takesOrder_1 6 rfl rfl)
abbrev cX6_readsOrder : ByteArray := prog_11_method_11_code
def yX6_readsOrder : MethodName := ⟨RX6, "readsOrder", "()V"⟩
def dkwX6_readsOrder_1 : List UInt8 := [182, 0, 89, 132, 1, 1, 167, 255, 233, 177]
abbrev dktX6_readsOrder_1 : List UInt8 := dkwX6_readsOrder_1 ++ []
def dkwX6_readsOrder_0 : List UInt8 := [42, 182, 0, 83, 3, 60, 27, 42, 180, 0, 7, 3, 46, 162, 0, 19, 42, 27, 42, 27, 182, 0, 86]
abbrev dktX6_readsOrder_0 : List UInt8 := dkwX6_readsOrder_0 ++ dktX6_readsOrder_1
theorem dksX6_readsOrder_0 : cX6_readsOrder.data.toList.drop 0 = dktX6_readsOrder_0 := by decide +kernel
theorem dksX6_readsOrder_1 : cX6_readsOrder.data.toList.drop 23 = dktX6_readsOrder_1 := dk_seg dksX6_readsOrder_0 23 rfl rfl
theorem dX6_readsOrder_0 : decode cX6_readsOrder 0 = .ok (.aload_n 0, 1) := dk_42 (dk_at dksX6_readsOrder_0 0 rfl rfl)
theorem dX6_readsOrder_1 : decode cX6_readsOrder 1 = .ok (.invokevirtual 83, 3) := dk_182 0 83 (dk_at dksX6_readsOrder_0 1 rfl rfl)
theorem dX6_readsOrder_4 : decode cX6_readsOrder 4 = .ok (.iconst 0, 1) := dk_3 (dk_at dksX6_readsOrder_0 4 rfl rfl)
theorem dX6_readsOrder_5 : decode cX6_readsOrder 5 = .ok (.istore_n 1, 1) := dk_60 (dk_at dksX6_readsOrder_0 5 rfl rfl)
theorem dX6_readsOrder_6 : decode cX6_readsOrder 6 = .ok (.iload_n 1, 1) := dk_27 (dk_at dksX6_readsOrder_0 6 rfl rfl)
theorem dX6_readsOrder_7 : decode cX6_readsOrder 7 = .ok (.aload_n 0, 1) := dk_42 (dk_at dksX6_readsOrder_0 7 rfl rfl)
theorem dX6_readsOrder_8 : decode cX6_readsOrder 8 = .ok (.getfield 7, 3) := dk_180 0 7 (dk_at dksX6_readsOrder_0 8 rfl rfl)
theorem dX6_readsOrder_11 : decode cX6_readsOrder 11 = .ok (.iconst 0, 1) := dk_3 (dk_at dksX6_readsOrder_0 11 rfl rfl)
theorem dX6_readsOrder_12 : decode cX6_readsOrder 12 = .ok (.iaload, 1) := dk_46 (dk_at dksX6_readsOrder_0 12 rfl rfl)
theorem dX6_readsOrder_13 : decode cX6_readsOrder 13 = .ok (.if_icmp .ge 19, 3) := dk_162 0 19 (dk_at dksX6_readsOrder_0 13 rfl rfl)
theorem dX6_readsOrder_16 : decode cX6_readsOrder 16 = .ok (.aload_n 0, 1) := dk_42 (dk_at dksX6_readsOrder_0 16 rfl rfl)
theorem dX6_readsOrder_17 : decode cX6_readsOrder 17 = .ok (.iload_n 1, 1) := dk_27 (dk_at dksX6_readsOrder_0 17 rfl rfl)
theorem dX6_readsOrder_18 : decode cX6_readsOrder 18 = .ok (.aload_n 0, 1) := dk_42 (dk_at dksX6_readsOrder_0 18 rfl rfl)
theorem dX6_readsOrder_19 : decode cX6_readsOrder 19 = .ok (.iload_n 1, 1) := dk_27 (dk_at dksX6_readsOrder_0 19 rfl rfl)
theorem dX6_readsOrder_20 : decode cX6_readsOrder 20 = .ok (.invokevirtual 86, 3) := dk_182 0 86 (dk_at dksX6_readsOrder_0 20 rfl rfl)
theorem dX6_readsOrder_23 : decode cX6_readsOrder 23 = .ok (.invokevirtual 89, 3) := dk_182 0 89 (dk_at dksX6_readsOrder_1 0 rfl rfl)
theorem dX6_readsOrder_26 : decode cX6_readsOrder 26 = .ok (.iinc 1 1, 3) := dk_132 1 1 (dk_at dksX6_readsOrder_1 3 rfl rfl)
theorem dX6_readsOrder_29 : decode cX6_readsOrder 29 = .ok (.goto (-23), 3) := dk_167 255 233 (dk_at dksX6_readsOrder_1 6 rfl rfl)
theorem dX6_readsOrder_32 : decode cX6_readsOrder 32 = .ok (.return_, 1) := dk_177 (dk_at dksX6_readsOrder_1 9 rfl rfl)
abbrev cX6_begins : ByteArray := prog_11_method_8_code
def yX6_begins : MethodName := ⟨RX6, "begins", "()V"⟩
def dkwX6_begins_0 : List UInt8 := [3, 60, 27, 16, 20, 162, 0, 16, 42, 180, 0, 45, 27, 3, 79, 132, 1, 1, 167, 255, 240, 177]
abbrev dktX6_begins_0 : List UInt8 := dkwX6_begins_0 ++ []
theorem dksX6_begins_0 : cX6_begins.data.toList.drop 0 = dktX6_begins_0 := by decide +kernel
theorem dX6_begins_0 : decode cX6_begins 0 = .ok (.iconst 0, 1) := dk_3 (dk_at dksX6_begins_0 0 rfl rfl)
theorem dX6_begins_1 : decode cX6_begins 1 = .ok (.istore_n 1, 1) := dk_60 (dk_at dksX6_begins_0 1 rfl rfl)
theorem dX6_begins_2 : decode cX6_begins 2 = .ok (.iload_n 1, 1) := dk_27 (dk_at dksX6_begins_0 2 rfl rfl)
theorem dX6_begins_3 : decode cX6_begins 3 = .ok (.bipush 20, 2) := dk_16 20 (dk_at dksX6_begins_0 3 rfl rfl)
theorem dX6_begins_5 : decode cX6_begins 5 = .ok (.if_icmp .ge 16, 3) := dk_162 0 16 (dk_at dksX6_begins_0 5 rfl rfl)
theorem dX6_begins_8 : decode cX6_begins 8 = .ok (.aload_n 0, 1) := dk_42 (dk_at dksX6_begins_0 8 rfl rfl)
theorem dX6_begins_9 : decode cX6_begins 9 = .ok (.getfield 45, 3) := dk_180 0 45 (dk_at dksX6_begins_0 9 rfl rfl)
theorem dX6_begins_12 : decode cX6_begins 12 = .ok (.iload_n 1, 1) := dk_27 (dk_at dksX6_begins_0 12 rfl rfl)
theorem dX6_begins_13 : decode cX6_begins 13 = .ok (.iconst 0, 1) := dk_3 (dk_at dksX6_begins_0 13 rfl rfl)
theorem dX6_begins_14 : decode cX6_begins 14 = .ok (.iastore, 1) := dk_79 (dk_at dksX6_begins_0 14 rfl rfl)
theorem dX6_begins_15 : decode cX6_begins 15 = .ok (.iinc 1 1, 3) := dk_132 1 1 (dk_at dksX6_begins_0 15 rfl rfl)
theorem dX6_begins_18 : decode cX6_begins 18 = .ok (.goto (-16), 3) := dk_167 255 240 (dk_at dksX6_begins_0 18 rfl rfl)
theorem dX6_begins_21 : decode cX6_begins 21 = .ok (.return_, 1) := dk_177 (dk_at dksX6_begins_0 21 rfl rfl)
abbrev cX6_wordsAt : ByteArray := prog_11_method_10_code
def yX6_wordsAt : MethodName := ⟨RX6, "wordsAt", "(I)I"⟩
def dkwX6_wordsAt_0 : List UInt8 := [42, 180, 0, 7, 16, 13, 42, 180, 0, 42, 27, 46, 96, 46, 172]
abbrev dktX6_wordsAt_0 : List UInt8 := dkwX6_wordsAt_0 ++ []
theorem dksX6_wordsAt_0 : cX6_wordsAt.data.toList.drop 0 = dktX6_wordsAt_0 := by decide +kernel
theorem dX6_wordsAt_0 : decode cX6_wordsAt 0 = .ok (.aload_n 0, 1) := dk_42 (dk_at dksX6_wordsAt_0 0 rfl rfl)
theorem dX6_wordsAt_1 : decode cX6_wordsAt 1 = .ok (.getfield 7, 3) := dk_180 0 7 (dk_at dksX6_wordsAt_0 1 rfl rfl)
theorem dX6_wordsAt_4 : decode cX6_wordsAt 4 = .ok (.bipush 13, 2) := dk_16 13 (dk_at dksX6_wordsAt_0 4 rfl rfl)
theorem dX6_wordsAt_6 : decode cX6_wordsAt 6 = .ok (.aload_n 0, 1) := dk_42 (dk_at dksX6_wordsAt_0 6 rfl rfl)
theorem dX6_wordsAt_7 : decode cX6_wordsAt 7 = .ok (.getfield 42, 3) := dk_180 0 42 (dk_at dksX6_wordsAt_0 7 rfl rfl)
theorem dX6_wordsAt_10 : decode cX6_wordsAt 10 = .ok (.iload_n 1, 1) := dk_27 (dk_at dksX6_wordsAt_0 10 rfl rfl)
theorem dX6_wordsAt_11 : decode cX6_wordsAt 11 = .ok (.iaload, 1) := dk_46 (dk_at dksX6_wordsAt_0 11 rfl rfl)
theorem dX6_wordsAt_12 : decode cX6_wordsAt 12 = .ok (.iadd, 1) := dk_96 (dk_at dksX6_wordsAt_0 12 rfl rfl)
theorem dX6_wordsAt_13 : decode cX6_wordsAt 13 = .ok (.iaload, 1) := dk_46 (dk_at dksX6_wordsAt_0 13 rfl rfl)
theorem dX6_wordsAt_14 : decode cX6_wordsAt 14 = .ok (.ireturn, 1) := dk_172 (dk_at dksX6_wordsAt_0 14 rfl rfl)
abbrev cX6_reads : ByteArray := prog_11_method_9_code
def yX6_reads : MethodName := ⟨RX6, "reads", "(II)V"⟩
def dkwX6_reads_9 : List UInt8 := [128, 79, 132, 3, 1, 167, 255, 69, 177]
abbrev dktX6_reads_9 : List UInt8 := dkwX6_reads_9 ++ []
def dkwX6_reads_8 : List UInt8 := [79, 42, 180, 0, 60, 27, 92, 46, 42, 180, 0, 45, 29, 46, 158, 0, 9, 4, 29, 120, 167, 0, 4, 3]
abbrev dktX6_reads_8 : List UInt8 := dkwX6_reads_8 ++ dktX6_reads_9
def dkwX6_reads_7 : List UInt8 := [182, 0, 79, 161, 0, 22, 42, 180, 0, 57, 27, 92, 46, 4, 29, 120, 128, 79, 42, 180, 0, 45, 29, 3]
abbrev dktX6_reads_7 : List UInt8 := dkwX6_reads_7 ++ dktX6_reads_8
def dkwX6_reads_6 : List UInt8 := [42, 180, 0, 45, 29, 46, 158, 0, 43, 27, 42, 180, 0, 48, 29, 46, 100, 42, 42, 180, 0, 45, 29, 46]
abbrev dktX6_reads_6 : List UInt8 := dkwX6_reads_6 ++ dktX6_reads_7
def dkwX6_reads_5 : List UInt8 := [160, 0, 8, 16, 9, 167, 0, 11, 42, 180, 0, 45, 29, 46, 4, 96, 79, 42, 180, 0, 48, 29, 27, 79]
abbrev dktX6_reads_5 : List UInt8 := dkwX6_reads_5 ++ dktX6_reads_6
def dkwX6_reads_4 : List UInt8 := [4, 29, 120, 167, 0, 4, 3, 128, 79, 42, 180, 0, 45, 29, 42, 180, 0, 45, 29, 46, 16, 9]
abbrev dktX6_reads_4 : List UInt8 := dkwX6_reads_4 ++ dktX6_reads_5
def dkwX6_reads_3 : List UInt8 := [29, 120, 167, 0, 4, 3, 128, 79, 42, 180, 0, 54, 27, 92, 46, 42, 180, 0, 45, 29, 46, 158, 0, 9]
abbrev dktX6_reads_3 : List UInt8 := dkwX6_reads_3 ++ dktX6_reads_4
def dkwX6_reads_2 : List UInt8 := [29, 184, 0, 75, 153, 0, 90, 42, 180, 0, 51, 27, 92, 46, 42, 180, 0, 45, 29, 46, 154, 0, 9, 4]
abbrev dktX6_reads_2 : List UInt8 := dkwX6_reads_2 ++ dktX6_reads_3
def dkwX6_reads_1 : List UInt8 := [180, 0, 60, 27, 3, 79, 3, 62, 29, 16, 20, 162, 0, 187, 28, 42, 180, 0, 7, 4, 46, 2, 130, 126]
abbrev dktX6_reads_1 : List UInt8 := dkwX6_reads_1 ++ dktX6_reads_2
def dkwX6_reads_0 : List UInt8 := [42, 180, 0, 51, 27, 3, 79, 42, 180, 0, 54, 27, 3, 79, 42, 180, 0, 57, 27, 3, 79, 42]
abbrev dktX6_reads_0 : List UInt8 := dkwX6_reads_0 ++ dktX6_reads_1
theorem dksX6_reads_0 : cX6_reads.data.toList.drop 0 = dktX6_reads_0 := by decide +kernel
theorem dksX6_reads_1 : cX6_reads.data.toList.drop 22 = dktX6_reads_1 := dk_seg dksX6_reads_0 22 rfl rfl
theorem dksX6_reads_2 : cX6_reads.data.toList.drop 46 = dktX6_reads_2 := dk_seg dksX6_reads_1 24 rfl rfl
theorem dksX6_reads_3 : cX6_reads.data.toList.drop 70 = dktX6_reads_3 := dk_seg dksX6_reads_2 24 rfl rfl
theorem dksX6_reads_4 : cX6_reads.data.toList.drop 94 = dktX6_reads_4 := dk_seg dksX6_reads_3 24 rfl rfl
theorem dksX6_reads_5 : cX6_reads.data.toList.drop 116 = dktX6_reads_5 := dk_seg dksX6_reads_4 22 rfl rfl
theorem dksX6_reads_6 : cX6_reads.data.toList.drop 140 = dktX6_reads_6 := dk_seg dksX6_reads_5 24 rfl rfl
theorem dksX6_reads_7 : cX6_reads.data.toList.drop 164 = dktX6_reads_7 := dk_seg dksX6_reads_6 24 rfl rfl
theorem dksX6_reads_8 : cX6_reads.data.toList.drop 188 = dktX6_reads_8 := dk_seg dksX6_reads_7 24 rfl rfl
theorem dksX6_reads_9 : cX6_reads.data.toList.drop 212 = dktX6_reads_9 := dk_seg dksX6_reads_8 24 rfl rfl
theorem dX6_reads_0 : decode cX6_reads 0 = .ok (.aload_n 0, 1) := dk_42 (dk_at dksX6_reads_0 0 rfl rfl)
theorem dX6_reads_1 : decode cX6_reads 1 = .ok (.getfield 51, 3) := dk_180 0 51 (dk_at dksX6_reads_0 1 rfl rfl)
theorem dX6_reads_4 : decode cX6_reads 4 = .ok (.iload_n 1, 1) := dk_27 (dk_at dksX6_reads_0 4 rfl rfl)
theorem dX6_reads_5 : decode cX6_reads 5 = .ok (.iconst 0, 1) := dk_3 (dk_at dksX6_reads_0 5 rfl rfl)
theorem dX6_reads_6 : decode cX6_reads 6 = .ok (.iastore, 1) := dk_79 (dk_at dksX6_reads_0 6 rfl rfl)
theorem dX6_reads_7 : decode cX6_reads 7 = .ok (.aload_n 0, 1) := dk_42 (dk_at dksX6_reads_0 7 rfl rfl)
theorem dX6_reads_8 : decode cX6_reads 8 = .ok (.getfield 54, 3) := dk_180 0 54 (dk_at dksX6_reads_0 8 rfl rfl)
theorem dX6_reads_11 : decode cX6_reads 11 = .ok (.iload_n 1, 1) := dk_27 (dk_at dksX6_reads_0 11 rfl rfl)
theorem dX6_reads_12 : decode cX6_reads 12 = .ok (.iconst 0, 1) := dk_3 (dk_at dksX6_reads_0 12 rfl rfl)
theorem dX6_reads_13 : decode cX6_reads 13 = .ok (.iastore, 1) := dk_79 (dk_at dksX6_reads_0 13 rfl rfl)
theorem dX6_reads_14 : decode cX6_reads 14 = .ok (.aload_n 0, 1) := dk_42 (dk_at dksX6_reads_0 14 rfl rfl)
theorem dX6_reads_15 : decode cX6_reads 15 = .ok (.getfield 57, 3) := dk_180 0 57 (dk_at dksX6_reads_0 15 rfl rfl)
theorem dX6_reads_18 : decode cX6_reads 18 = .ok (.iload_n 1, 1) := dk_27 (dk_at dksX6_reads_0 18 rfl rfl)
theorem dX6_reads_19 : decode cX6_reads 19 = .ok (.iconst 0, 1) := dk_3 (dk_at dksX6_reads_0 19 rfl rfl)
theorem dX6_reads_20 : decode cX6_reads 20 = .ok (.iastore, 1) := dk_79 (dk_at dksX6_reads_0 20 rfl rfl)
theorem dX6_reads_21 : decode cX6_reads 21 = .ok (.aload_n 0, 1) := dk_42 (dk_at dksX6_reads_0 21 rfl rfl)
theorem dX6_reads_22 : decode cX6_reads 22 = .ok (.getfield 60, 3) := dk_180 0 60 (dk_at dksX6_reads_1 0 rfl rfl)
theorem dX6_reads_25 : decode cX6_reads 25 = .ok (.iload_n 1, 1) := dk_27 (dk_at dksX6_reads_1 3 rfl rfl)
theorem dX6_reads_26 : decode cX6_reads 26 = .ok (.iconst 0, 1) := dk_3 (dk_at dksX6_reads_1 4 rfl rfl)
theorem dX6_reads_27 : decode cX6_reads 27 = .ok (.iastore, 1) := dk_79 (dk_at dksX6_reads_1 5 rfl rfl)
theorem dX6_reads_28 : decode cX6_reads 28 = .ok (.iconst 0, 1) := dk_3 (dk_at dksX6_reads_1 6 rfl rfl)
theorem dX6_reads_29 : decode cX6_reads 29 = .ok (.istore_n 3, 1) := dk_62 (dk_at dksX6_reads_1 7 rfl rfl)
theorem dX6_reads_30 : decode cX6_reads 30 = .ok (.iload_n 3, 1) := dk_29 (dk_at dksX6_reads_1 8 rfl rfl)
theorem dX6_reads_31 : decode cX6_reads 31 = .ok (.bipush 20, 2) := dk_16 20 (dk_at dksX6_reads_1 9 rfl rfl)
theorem dX6_reads_33 : decode cX6_reads 33 = .ok (.if_icmp .ge 187, 3) := dk_162 0 187 (dk_at dksX6_reads_1 11 rfl rfl)
theorem dX6_reads_36 : decode cX6_reads 36 = .ok (.iload_n 2, 1) := dk_28 (dk_at dksX6_reads_1 14 rfl rfl)
theorem dX6_reads_37 : decode cX6_reads 37 = .ok (.aload_n 0, 1) := dk_42 (dk_at dksX6_reads_1 15 rfl rfl)
theorem dX6_reads_38 : decode cX6_reads 38 = .ok (.getfield 7, 3) := dk_180 0 7 (dk_at dksX6_reads_1 16 rfl rfl)
theorem dX6_reads_41 : decode cX6_reads 41 = .ok (.iconst 1, 1) := dk_4 (dk_at dksX6_reads_1 19 rfl rfl)
theorem dX6_reads_42 : decode cX6_reads 42 = .ok (.iaload, 1) := dk_46 (dk_at dksX6_reads_1 20 rfl rfl)
theorem dX6_reads_43 : decode cX6_reads 43 = .ok (.iconst (-1), 1) := dk_2 (dk_at dksX6_reads_1 21 rfl rfl)
theorem dX6_reads_44 : decode cX6_reads 44 = .ok (.ixor, 1) := dk_130 (dk_at dksX6_reads_1 22 rfl rfl)
theorem dX6_reads_45 : decode cX6_reads 45 = .ok (.iand, 1) := dk_126 (dk_at dksX6_reads_1 23 rfl rfl)
theorem dX6_reads_46 : decode cX6_reads 46 = .ok (.iload_n 3, 1) := dk_29 (dk_at dksX6_reads_2 0 rfl rfl)
theorem dX6_reads_47 : decode cX6_reads 47 = .ok (.invokestatic 75, 3) := dk_184 0 75 (dk_at dksX6_reads_2 1 rfl rfl)
theorem dX6_reads_50 : decode cX6_reads 50 = .ok (.ifCond .eq 90, 3) := dk_153 0 90 (dk_at dksX6_reads_2 4 rfl rfl)
theorem dX6_reads_53 : decode cX6_reads 53 = .ok (.aload_n 0, 1) := dk_42 (dk_at dksX6_reads_2 7 rfl rfl)
theorem dX6_reads_54 : decode cX6_reads 54 = .ok (.getfield 51, 3) := dk_180 0 51 (dk_at dksX6_reads_2 8 rfl rfl)
theorem dX6_reads_57 : decode cX6_reads 57 = .ok (.iload_n 1, 1) := dk_27 (dk_at dksX6_reads_2 11 rfl rfl)
theorem dX6_reads_58 : decode cX6_reads 58 = .ok (.dup2, 1) := dk_92 (dk_at dksX6_reads_2 12 rfl rfl)
theorem dX6_reads_59 : decode cX6_reads 59 = .ok (.iaload, 1) := dk_46 (dk_at dksX6_reads_2 13 rfl rfl)
theorem dX6_reads_60 : decode cX6_reads 60 = .ok (.aload_n 0, 1) := dk_42 (dk_at dksX6_reads_2 14 rfl rfl)
theorem dX6_reads_61 : decode cX6_reads 61 = .ok (.getfield 45, 3) := dk_180 0 45 (dk_at dksX6_reads_2 15 rfl rfl)
theorem dX6_reads_64 : decode cX6_reads 64 = .ok (.iload_n 3, 1) := dk_29 (dk_at dksX6_reads_2 18 rfl rfl)
theorem dX6_reads_65 : decode cX6_reads 65 = .ok (.iaload, 1) := dk_46 (dk_at dksX6_reads_2 19 rfl rfl)
theorem dX6_reads_66 : decode cX6_reads 66 = .ok (.ifCond .ne 9, 3) := dk_154 0 9 (dk_at dksX6_reads_2 20 rfl rfl)
theorem dX6_reads_69 : decode cX6_reads 69 = .ok (.iconst 1, 1) := dk_4 (dk_at dksX6_reads_2 23 rfl rfl)
theorem dX6_reads_70 : decode cX6_reads 70 = .ok (.iload_n 3, 1) := dk_29 (dk_at dksX6_reads_3 0 rfl rfl)
theorem dX6_reads_71 : decode cX6_reads 71 = .ok (.ishl, 1) := dk_120 (dk_at dksX6_reads_3 1 rfl rfl)
theorem dX6_reads_72 : decode cX6_reads 72 = .ok (.goto 4, 3) := dk_167 0 4 (dk_at dksX6_reads_3 2 rfl rfl)
theorem dX6_reads_75 : decode cX6_reads 75 = .ok (.iconst 0, 1) := dk_3 (dk_at dksX6_reads_3 5 rfl rfl)
theorem dX6_reads_76 : decode cX6_reads 76 = .ok (.ior, 1) := dk_128 (dk_at dksX6_reads_3 6 rfl rfl)
theorem dX6_reads_77 : decode cX6_reads 77 = .ok (.iastore, 1) := dk_79 (dk_at dksX6_reads_3 7 rfl rfl)
theorem dX6_reads_78 : decode cX6_reads 78 = .ok (.aload_n 0, 1) := dk_42 (dk_at dksX6_reads_3 8 rfl rfl)
theorem dX6_reads_79 : decode cX6_reads 79 = .ok (.getfield 54, 3) := dk_180 0 54 (dk_at dksX6_reads_3 9 rfl rfl)
theorem dX6_reads_82 : decode cX6_reads 82 = .ok (.iload_n 1, 1) := dk_27 (dk_at dksX6_reads_3 12 rfl rfl)
theorem dX6_reads_83 : decode cX6_reads 83 = .ok (.dup2, 1) := dk_92 (dk_at dksX6_reads_3 13 rfl rfl)
theorem dX6_reads_84 : decode cX6_reads 84 = .ok (.iaload, 1) := dk_46 (dk_at dksX6_reads_3 14 rfl rfl)
theorem dX6_reads_85 : decode cX6_reads 85 = .ok (.aload_n 0, 1) := dk_42 (dk_at dksX6_reads_3 15 rfl rfl)
theorem dX6_reads_86 : decode cX6_reads 86 = .ok (.getfield 45, 3) := dk_180 0 45 (dk_at dksX6_reads_3 16 rfl rfl)
theorem dX6_reads_89 : decode cX6_reads 89 = .ok (.iload_n 3, 1) := dk_29 (dk_at dksX6_reads_3 19 rfl rfl)
theorem dX6_reads_90 : decode cX6_reads 90 = .ok (.iaload, 1) := dk_46 (dk_at dksX6_reads_3 20 rfl rfl)
theorem dX6_reads_91 : decode cX6_reads 91 = .ok (.ifCond .le 9, 3) := dk_158 0 9 (dk_at dksX6_reads_3 21 rfl rfl)
theorem dX6_reads_94 : decode cX6_reads 94 = .ok (.iconst 1, 1) := dk_4 (dk_at dksX6_reads_4 0 rfl rfl)
theorem dX6_reads_95 : decode cX6_reads 95 = .ok (.iload_n 3, 1) := dk_29 (dk_at dksX6_reads_4 1 rfl rfl)
theorem dX6_reads_96 : decode cX6_reads 96 = .ok (.ishl, 1) := dk_120 (dk_at dksX6_reads_4 2 rfl rfl)
theorem dX6_reads_97 : decode cX6_reads 97 = .ok (.goto 4, 3) := dk_167 0 4 (dk_at dksX6_reads_4 3 rfl rfl)
theorem dX6_reads_100 : decode cX6_reads 100 = .ok (.iconst 0, 1) := dk_3 (dk_at dksX6_reads_4 6 rfl rfl)
theorem dX6_reads_101 : decode cX6_reads 101 = .ok (.ior, 1) := dk_128 (dk_at dksX6_reads_4 7 rfl rfl)
theorem dX6_reads_102 : decode cX6_reads 102 = .ok (.iastore, 1) := dk_79 (dk_at dksX6_reads_4 8 rfl rfl)
theorem dX6_reads_103 : decode cX6_reads 103 = .ok (.aload_n 0, 1) := dk_42 (dk_at dksX6_reads_4 9 rfl rfl)
theorem dX6_reads_104 : decode cX6_reads 104 = .ok (.getfield 45, 3) := dk_180 0 45 (dk_at dksX6_reads_4 10 rfl rfl)
theorem dX6_reads_107 : decode cX6_reads 107 = .ok (.iload_n 3, 1) := dk_29 (dk_at dksX6_reads_4 13 rfl rfl)
theorem dX6_reads_108 : decode cX6_reads 108 = .ok (.aload_n 0, 1) := dk_42 (dk_at dksX6_reads_4 14 rfl rfl)
theorem dX6_reads_109 : decode cX6_reads 109 = .ok (.getfield 45, 3) := dk_180 0 45 (dk_at dksX6_reads_4 15 rfl rfl)
theorem dX6_reads_112 : decode cX6_reads 112 = .ok (.iload_n 3, 1) := dk_29 (dk_at dksX6_reads_4 18 rfl rfl)
theorem dX6_reads_113 : decode cX6_reads 113 = .ok (.iaload, 1) := dk_46 (dk_at dksX6_reads_4 19 rfl rfl)
theorem dX6_reads_114 : decode cX6_reads 114 = .ok (.bipush 9, 2) := dk_16 9 (dk_at dksX6_reads_4 20 rfl rfl)
theorem dX6_reads_116 : decode cX6_reads 116 = .ok (.if_icmp .ne 8, 3) := dk_160 0 8 (dk_at dksX6_reads_5 0 rfl rfl)
theorem dX6_reads_119 : decode cX6_reads 119 = .ok (.bipush 9, 2) := dk_16 9 (dk_at dksX6_reads_5 3 rfl rfl)
theorem dX6_reads_121 : decode cX6_reads 121 = .ok (.goto 11, 3) := dk_167 0 11 (dk_at dksX6_reads_5 5 rfl rfl)
theorem dX6_reads_124 : decode cX6_reads 124 = .ok (.aload_n 0, 1) := dk_42 (dk_at dksX6_reads_5 8 rfl rfl)
theorem dX6_reads_125 : decode cX6_reads 125 = .ok (.getfield 45, 3) := dk_180 0 45 (dk_at dksX6_reads_5 9 rfl rfl)
theorem dX6_reads_128 : decode cX6_reads 128 = .ok (.iload_n 3, 1) := dk_29 (dk_at dksX6_reads_5 12 rfl rfl)
theorem dX6_reads_129 : decode cX6_reads 129 = .ok (.iaload, 1) := dk_46 (dk_at dksX6_reads_5 13 rfl rfl)
theorem dX6_reads_130 : decode cX6_reads 130 = .ok (.iconst 1, 1) := dk_4 (dk_at dksX6_reads_5 14 rfl rfl)
theorem dX6_reads_131 : decode cX6_reads 131 = .ok (.iadd, 1) := dk_96 (dk_at dksX6_reads_5 15 rfl rfl)
theorem dX6_reads_132 : decode cX6_reads 132 = .ok (.iastore, 1) := dk_79 (dk_at dksX6_reads_5 16 rfl rfl)
theorem dX6_reads_133 : decode cX6_reads 133 = .ok (.aload_n 0, 1) := dk_42 (dk_at dksX6_reads_5 17 rfl rfl)
theorem dX6_reads_134 : decode cX6_reads 134 = .ok (.getfield 48, 3) := dk_180 0 48 (dk_at dksX6_reads_5 18 rfl rfl)
theorem dX6_reads_137 : decode cX6_reads 137 = .ok (.iload_n 3, 1) := dk_29 (dk_at dksX6_reads_5 21 rfl rfl)
theorem dX6_reads_138 : decode cX6_reads 138 = .ok (.iload_n 1, 1) := dk_27 (dk_at dksX6_reads_5 22 rfl rfl)
theorem dX6_reads_139 : decode cX6_reads 139 = .ok (.iastore, 1) := dk_79 (dk_at dksX6_reads_5 23 rfl rfl)
theorem dX6_reads_140 : decode cX6_reads 140 = .ok (.aload_n 0, 1) := dk_42 (dk_at dksX6_reads_6 0 rfl rfl)
theorem dX6_reads_141 : decode cX6_reads 141 = .ok (.getfield 45, 3) := dk_180 0 45 (dk_at dksX6_reads_6 1 rfl rfl)
theorem dX6_reads_144 : decode cX6_reads 144 = .ok (.iload_n 3, 1) := dk_29 (dk_at dksX6_reads_6 4 rfl rfl)
theorem dX6_reads_145 : decode cX6_reads 145 = .ok (.iaload, 1) := dk_46 (dk_at dksX6_reads_6 5 rfl rfl)
theorem dX6_reads_146 : decode cX6_reads 146 = .ok (.ifCond .le 43, 3) := dk_158 0 43 (dk_at dksX6_reads_6 6 rfl rfl)
theorem dX6_reads_149 : decode cX6_reads 149 = .ok (.iload_n 1, 1) := dk_27 (dk_at dksX6_reads_6 9 rfl rfl)
theorem dX6_reads_150 : decode cX6_reads 150 = .ok (.aload_n 0, 1) := dk_42 (dk_at dksX6_reads_6 10 rfl rfl)
theorem dX6_reads_151 : decode cX6_reads 151 = .ok (.getfield 48, 3) := dk_180 0 48 (dk_at dksX6_reads_6 11 rfl rfl)
theorem dX6_reads_154 : decode cX6_reads 154 = .ok (.iload_n 3, 1) := dk_29 (dk_at dksX6_reads_6 14 rfl rfl)
theorem dX6_reads_155 : decode cX6_reads 155 = .ok (.iaload, 1) := dk_46 (dk_at dksX6_reads_6 15 rfl rfl)
theorem dX6_reads_156 : decode cX6_reads 156 = .ok (.isub, 1) := dk_100 (dk_at dksX6_reads_6 16 rfl rfl)
theorem dX6_reads_157 : decode cX6_reads 157 = .ok (.aload_n 0, 1) := dk_42 (dk_at dksX6_reads_6 17 rfl rfl)
theorem dX6_reads_158 : decode cX6_reads 158 = .ok (.aload_n 0, 1) := dk_42 (dk_at dksX6_reads_6 18 rfl rfl)
theorem dX6_reads_159 : decode cX6_reads 159 = .ok (.getfield 45, 3) := dk_180 0 45 (dk_at dksX6_reads_6 19 rfl rfl)
theorem dX6_reads_162 : decode cX6_reads 162 = .ok (.iload_n 3, 1) := dk_29 (dk_at dksX6_reads_6 22 rfl rfl)
theorem dX6_reads_163 : decode cX6_reads 163 = .ok (.iaload, 1) := dk_46 (dk_at dksX6_reads_6 23 rfl rfl)
theorem dX6_reads_164 : decode cX6_reads 164 = .ok (.invokevirtual 79, 3) := dk_182 0 79 (dk_at dksX6_reads_7 0 rfl rfl)
theorem dX6_reads_167 : decode cX6_reads 167 = .ok (.if_icmp .lt 22, 3) := dk_161 0 22 (dk_at dksX6_reads_7 3 rfl rfl)
theorem dX6_reads_170 : decode cX6_reads 170 = .ok (.aload_n 0, 1) := dk_42 (dk_at dksX6_reads_7 6 rfl rfl)
theorem dX6_reads_171 : decode cX6_reads 171 = .ok (.getfield 57, 3) := dk_180 0 57 (dk_at dksX6_reads_7 7 rfl rfl)
theorem dX6_reads_174 : decode cX6_reads 174 = .ok (.iload_n 1, 1) := dk_27 (dk_at dksX6_reads_7 10 rfl rfl)
theorem dX6_reads_175 : decode cX6_reads 175 = .ok (.dup2, 1) := dk_92 (dk_at dksX6_reads_7 11 rfl rfl)
theorem dX6_reads_176 : decode cX6_reads 176 = .ok (.iaload, 1) := dk_46 (dk_at dksX6_reads_7 12 rfl rfl)
theorem dX6_reads_177 : decode cX6_reads 177 = .ok (.iconst 1, 1) := dk_4 (dk_at dksX6_reads_7 13 rfl rfl)
theorem dX6_reads_178 : decode cX6_reads 178 = .ok (.iload_n 3, 1) := dk_29 (dk_at dksX6_reads_7 14 rfl rfl)
theorem dX6_reads_179 : decode cX6_reads 179 = .ok (.ishl, 1) := dk_120 (dk_at dksX6_reads_7 15 rfl rfl)
theorem dX6_reads_180 : decode cX6_reads 180 = .ok (.ior, 1) := dk_128 (dk_at dksX6_reads_7 16 rfl rfl)
theorem dX6_reads_181 : decode cX6_reads 181 = .ok (.iastore, 1) := dk_79 (dk_at dksX6_reads_7 17 rfl rfl)
theorem dX6_reads_182 : decode cX6_reads 182 = .ok (.aload_n 0, 1) := dk_42 (dk_at dksX6_reads_7 18 rfl rfl)
theorem dX6_reads_183 : decode cX6_reads 183 = .ok (.getfield 45, 3) := dk_180 0 45 (dk_at dksX6_reads_7 19 rfl rfl)
theorem dX6_reads_186 : decode cX6_reads 186 = .ok (.iload_n 3, 1) := dk_29 (dk_at dksX6_reads_7 22 rfl rfl)
theorem dX6_reads_187 : decode cX6_reads 187 = .ok (.iconst 0, 1) := dk_3 (dk_at dksX6_reads_7 23 rfl rfl)
theorem dX6_reads_188 : decode cX6_reads 188 = .ok (.iastore, 1) := dk_79 (dk_at dksX6_reads_8 0 rfl rfl)
theorem dX6_reads_189 : decode cX6_reads 189 = .ok (.aload_n 0, 1) := dk_42 (dk_at dksX6_reads_8 1 rfl rfl)
theorem dX6_reads_190 : decode cX6_reads 190 = .ok (.getfield 60, 3) := dk_180 0 60 (dk_at dksX6_reads_8 2 rfl rfl)
theorem dX6_reads_193 : decode cX6_reads 193 = .ok (.iload_n 1, 1) := dk_27 (dk_at dksX6_reads_8 5 rfl rfl)
theorem dX6_reads_194 : decode cX6_reads 194 = .ok (.dup2, 1) := dk_92 (dk_at dksX6_reads_8 6 rfl rfl)
theorem dX6_reads_195 : decode cX6_reads 195 = .ok (.iaload, 1) := dk_46 (dk_at dksX6_reads_8 7 rfl rfl)
theorem dX6_reads_196 : decode cX6_reads 196 = .ok (.aload_n 0, 1) := dk_42 (dk_at dksX6_reads_8 8 rfl rfl)
theorem dX6_reads_197 : decode cX6_reads 197 = .ok (.getfield 45, 3) := dk_180 0 45 (dk_at dksX6_reads_8 9 rfl rfl)
theorem dX6_reads_200 : decode cX6_reads 200 = .ok (.iload_n 3, 1) := dk_29 (dk_at dksX6_reads_8 12 rfl rfl)
theorem dX6_reads_201 : decode cX6_reads 201 = .ok (.iaload, 1) := dk_46 (dk_at dksX6_reads_8 13 rfl rfl)
theorem dX6_reads_202 : decode cX6_reads 202 = .ok (.ifCond .le 9, 3) := dk_158 0 9 (dk_at dksX6_reads_8 14 rfl rfl)
theorem dX6_reads_205 : decode cX6_reads 205 = .ok (.iconst 1, 1) := dk_4 (dk_at dksX6_reads_8 17 rfl rfl)
theorem dX6_reads_206 : decode cX6_reads 206 = .ok (.iload_n 3, 1) := dk_29 (dk_at dksX6_reads_8 18 rfl rfl)
theorem dX6_reads_207 : decode cX6_reads 207 = .ok (.ishl, 1) := dk_120 (dk_at dksX6_reads_8 19 rfl rfl)
theorem dX6_reads_208 : decode cX6_reads 208 = .ok (.goto 4, 3) := dk_167 0 4 (dk_at dksX6_reads_8 20 rfl rfl)
theorem dX6_reads_211 : decode cX6_reads 211 = .ok (.iconst 0, 1) := dk_3 (dk_at dksX6_reads_8 23 rfl rfl)
theorem dX6_reads_212 : decode cX6_reads 212 = .ok (.ior, 1) := dk_128 (dk_at dksX6_reads_9 0 rfl rfl)
theorem dX6_reads_213 : decode cX6_reads 213 = .ok (.iastore, 1) := dk_79 (dk_at dksX6_reads_9 1 rfl rfl)
theorem dX6_reads_214 : decode cX6_reads 214 = .ok (.iinc 3 1, 3) := dk_132 3 1 (dk_at dksX6_reads_9 2 rfl rfl)
theorem dX6_reads_217 : decode cX6_reads 217 = .ok (.goto (-187), 3) := dk_167 255 69 (dk_at dksX6_reads_9 5 rfl rfl)
theorem dX6_reads_220 : decode cX6_reads 220 = .ok (.return_, 1) := dk_177 (dk_at dksX6_reads_9 8 rfl rfl)
abbrev cX6_has : ByteArray := prog_11_method_3_code
def yX6_has : MethodName := ⟨RX6, "has", "(II)Z"⟩
def dkwX6_has_0 : List UInt8 := [26, 27, 122, 4, 126, 4, 160, 0, 7, 4, 167, 0, 4, 3, 172]
abbrev dktX6_has_0 : List UInt8 := dkwX6_has_0 ++ []
theorem dksX6_has_0 : cX6_has.data.toList.drop 0 = dktX6_has_0 := by decide +kernel
theorem dX6_has_0 : decode cX6_has 0 = .ok (.iload_n 0, 1) := dk_26 (dk_at dksX6_has_0 0 rfl rfl)
theorem dX6_has_1 : decode cX6_has 1 = .ok (.iload_n 1, 1) := dk_27 (dk_at dksX6_has_0 1 rfl rfl)
theorem dX6_has_2 : decode cX6_has 2 = .ok (.ishr, 1) := dk_122 (dk_at dksX6_has_0 2 rfl rfl)
theorem dX6_has_3 : decode cX6_has 3 = .ok (.iconst 1, 1) := dk_4 (dk_at dksX6_has_0 3 rfl rfl)
theorem dX6_has_4 : decode cX6_has 4 = .ok (.iand, 1) := dk_126 (dk_at dksX6_has_0 4 rfl rfl)
theorem dX6_has_5 : decode cX6_has 5 = .ok (.iconst 1, 1) := dk_4 (dk_at dksX6_has_0 5 rfl rfl)
theorem dX6_has_6 : decode cX6_has 6 = .ok (.if_icmp .ne 7, 3) := dk_160 0 7 (dk_at dksX6_has_0 6 rfl rfl)
theorem dX6_has_9 : decode cX6_has 9 = .ok (.iconst 1, 1) := dk_4 (dk_at dksX6_has_0 9 rfl rfl)
theorem dX6_has_10 : decode cX6_has 10 = .ok (.goto 4, 3) := dk_167 0 4 (dk_at dksX6_has_0 10 rfl rfl)
theorem dX6_has_13 : decode cX6_has 13 = .ok (.iconst 0, 1) := dk_3 (dk_at dksX6_has_0 13 rfl rfl)
theorem dX6_has_14 : decode cX6_has 14 = .ok (.ireturn, 1) := dk_172 (dk_at dksX6_has_0 14 rfl rfl)
abbrev cX6_lasts : ByteArray := prog_11_method_7_code
def yX6_lasts : MethodName := ⟨RX6, "lasts", "(I)I"⟩
def dkwX6_lasts_2 : List UInt8 := [28, 172]
abbrev dktX6_lasts_2 : List UInt8 := dkwX6_lasts_2 ++ []
def dkwX6_lasts_1 : List UInt8 := [27, 162, 0, 23, 42, 180, 0, 7, 7, 46, 5, 160, 0, 13, 28, 5, 104, 61, 132, 3, 1, 167, 255, 234]
abbrev dktX6_lasts_1 : List UInt8 := dkwX6_lasts_1 ++ dktX6_lasts_2
def dkwX6_lasts_0 : List UInt8 := [42, 180, 0, 7, 5, 46, 61, 42, 180, 0, 7, 7, 46, 4, 160, 0, 7, 28, 27, 104, 61, 4, 62, 29]
abbrev dktX6_lasts_0 : List UInt8 := dkwX6_lasts_0 ++ dktX6_lasts_1
theorem dksX6_lasts_0 : cX6_lasts.data.toList.drop 0 = dktX6_lasts_0 := by decide +kernel
theorem dksX6_lasts_1 : cX6_lasts.data.toList.drop 24 = dktX6_lasts_1 := dk_seg dksX6_lasts_0 24 rfl rfl
theorem dksX6_lasts_2 : cX6_lasts.data.toList.drop 48 = dktX6_lasts_2 := dk_seg dksX6_lasts_1 24 rfl rfl
theorem dX6_lasts_0 : decode cX6_lasts 0 = .ok (.aload_n 0, 1) := dk_42 (dk_at dksX6_lasts_0 0 rfl rfl)
theorem dX6_lasts_1 : decode cX6_lasts 1 = .ok (.getfield 7, 3) := dk_180 0 7 (dk_at dksX6_lasts_0 1 rfl rfl)
theorem dX6_lasts_4 : decode cX6_lasts 4 = .ok (.iconst 2, 1) := dk_5 (dk_at dksX6_lasts_0 4 rfl rfl)
theorem dX6_lasts_5 : decode cX6_lasts 5 = .ok (.iaload, 1) := dk_46 (dk_at dksX6_lasts_0 5 rfl rfl)
theorem dX6_lasts_6 : decode cX6_lasts 6 = .ok (.istore_n 2, 1) := dk_61 (dk_at dksX6_lasts_0 6 rfl rfl)
theorem dX6_lasts_7 : decode cX6_lasts 7 = .ok (.aload_n 0, 1) := dk_42 (dk_at dksX6_lasts_0 7 rfl rfl)
theorem dX6_lasts_8 : decode cX6_lasts 8 = .ok (.getfield 7, 3) := dk_180 0 7 (dk_at dksX6_lasts_0 8 rfl rfl)
theorem dX6_lasts_11 : decode cX6_lasts 11 = .ok (.iconst 4, 1) := dk_7 (dk_at dksX6_lasts_0 11 rfl rfl)
theorem dX6_lasts_12 : decode cX6_lasts 12 = .ok (.iaload, 1) := dk_46 (dk_at dksX6_lasts_0 12 rfl rfl)
theorem dX6_lasts_13 : decode cX6_lasts 13 = .ok (.iconst 1, 1) := dk_4 (dk_at dksX6_lasts_0 13 rfl rfl)
theorem dX6_lasts_14 : decode cX6_lasts 14 = .ok (.if_icmp .ne 7, 3) := dk_160 0 7 (dk_at dksX6_lasts_0 14 rfl rfl)
theorem dX6_lasts_17 : decode cX6_lasts 17 = .ok (.iload_n 2, 1) := dk_28 (dk_at dksX6_lasts_0 17 rfl rfl)
theorem dX6_lasts_18 : decode cX6_lasts 18 = .ok (.iload_n 1, 1) := dk_27 (dk_at dksX6_lasts_0 18 rfl rfl)
theorem dX6_lasts_19 : decode cX6_lasts 19 = .ok (.imul, 1) := dk_104 (dk_at dksX6_lasts_0 19 rfl rfl)
theorem dX6_lasts_20 : decode cX6_lasts 20 = .ok (.istore_n 2, 1) := dk_61 (dk_at dksX6_lasts_0 20 rfl rfl)
theorem dX6_lasts_21 : decode cX6_lasts 21 = .ok (.iconst 1, 1) := dk_4 (dk_at dksX6_lasts_0 21 rfl rfl)
theorem dX6_lasts_22 : decode cX6_lasts 22 = .ok (.istore_n 3, 1) := dk_62 (dk_at dksX6_lasts_0 22 rfl rfl)
theorem dX6_lasts_23 : decode cX6_lasts 23 = .ok (.iload_n 3, 1) := dk_29 (dk_at dksX6_lasts_0 23 rfl rfl)
theorem dX6_lasts_24 : decode cX6_lasts 24 = .ok (.iload_n 1, 1) := dk_27 (dk_at dksX6_lasts_1 0 rfl rfl)
theorem dX6_lasts_25 : decode cX6_lasts 25 = .ok (.if_icmp .ge 23, 3) := dk_162 0 23 (dk_at dksX6_lasts_1 1 rfl rfl)
theorem dX6_lasts_28 : decode cX6_lasts 28 = .ok (.aload_n 0, 1) := dk_42 (dk_at dksX6_lasts_1 4 rfl rfl)
theorem dX6_lasts_29 : decode cX6_lasts 29 = .ok (.getfield 7, 3) := dk_180 0 7 (dk_at dksX6_lasts_1 5 rfl rfl)
theorem dX6_lasts_32 : decode cX6_lasts 32 = .ok (.iconst 4, 1) := dk_7 (dk_at dksX6_lasts_1 8 rfl rfl)
theorem dX6_lasts_33 : decode cX6_lasts 33 = .ok (.iaload, 1) := dk_46 (dk_at dksX6_lasts_1 9 rfl rfl)
theorem dX6_lasts_34 : decode cX6_lasts 34 = .ok (.iconst 2, 1) := dk_5 (dk_at dksX6_lasts_1 10 rfl rfl)
theorem dX6_lasts_35 : decode cX6_lasts 35 = .ok (.if_icmp .ne 13, 3) := dk_160 0 13 (dk_at dksX6_lasts_1 11 rfl rfl)
theorem dX6_lasts_38 : decode cX6_lasts 38 = .ok (.iload_n 2, 1) := dk_28 (dk_at dksX6_lasts_1 14 rfl rfl)
theorem dX6_lasts_39 : decode cX6_lasts 39 = .ok (.iconst 2, 1) := dk_5 (dk_at dksX6_lasts_1 15 rfl rfl)
theorem dX6_lasts_40 : decode cX6_lasts 40 = .ok (.imul, 1) := dk_104 (dk_at dksX6_lasts_1 16 rfl rfl)
theorem dX6_lasts_41 : decode cX6_lasts 41 = .ok (.istore_n 2, 1) := dk_61 (dk_at dksX6_lasts_1 17 rfl rfl)
theorem dX6_lasts_42 : decode cX6_lasts 42 = .ok (.iinc 3 1, 3) := dk_132 3 1 (dk_at dksX6_lasts_1 18 rfl rfl)
theorem dX6_lasts_45 : decode cX6_lasts 45 = .ok (.goto (-22), 3) := dk_167 255 234 (dk_at dksX6_lasts_1 21 rfl rfl)
theorem dX6_lasts_48 : decode cX6_lasts 48 = .ok (.iload_n 2, 1) := dk_28 (dk_at dksX6_lasts_2 0 rfl rfl)
theorem dX6_lasts_49 : decode cX6_lasts 49 = .ok (.ireturn, 1) := dk_172 (dk_at dksX6_lasts_2 1 rfl rfl)
abbrev cX6_sizeOf : ByteArray := prog_11_method_4_code
def yX6_sizeOf : MethodName := ⟨RX6, "sizeOf", "(I)I"⟩
def dkwX6_sizeOf_0 : List UInt8 := [3, 60, 26, 61, 28, 153, 0, 15, 132, 1, 1, 28, 28, 4, 100, 126, 61, 167, 255, 243, 27, 172]
abbrev dktX6_sizeOf_0 : List UInt8 := dkwX6_sizeOf_0 ++ []
theorem dksX6_sizeOf_0 : cX6_sizeOf.data.toList.drop 0 = dktX6_sizeOf_0 := by decide +kernel
theorem dX6_sizeOf_0 : decode cX6_sizeOf 0 = .ok (.iconst 0, 1) := dk_3 (dk_at dksX6_sizeOf_0 0 rfl rfl)
theorem dX6_sizeOf_1 : decode cX6_sizeOf 1 = .ok (.istore_n 1, 1) := dk_60 (dk_at dksX6_sizeOf_0 1 rfl rfl)
theorem dX6_sizeOf_2 : decode cX6_sizeOf 2 = .ok (.iload_n 0, 1) := dk_26 (dk_at dksX6_sizeOf_0 2 rfl rfl)
theorem dX6_sizeOf_3 : decode cX6_sizeOf 3 = .ok (.istore_n 2, 1) := dk_61 (dk_at dksX6_sizeOf_0 3 rfl rfl)
theorem dX6_sizeOf_4 : decode cX6_sizeOf 4 = .ok (.iload_n 2, 1) := dk_28 (dk_at dksX6_sizeOf_0 4 rfl rfl)
theorem dX6_sizeOf_5 : decode cX6_sizeOf 5 = .ok (.ifCond .eq 15, 3) := dk_153 0 15 (dk_at dksX6_sizeOf_0 5 rfl rfl)
theorem dX6_sizeOf_8 : decode cX6_sizeOf 8 = .ok (.iinc 1 1, 3) := dk_132 1 1 (dk_at dksX6_sizeOf_0 8 rfl rfl)
theorem dX6_sizeOf_11 : decode cX6_sizeOf 11 = .ok (.iload_n 2, 1) := dk_28 (dk_at dksX6_sizeOf_0 11 rfl rfl)
theorem dX6_sizeOf_12 : decode cX6_sizeOf 12 = .ok (.iload_n 2, 1) := dk_28 (dk_at dksX6_sizeOf_0 12 rfl rfl)
theorem dX6_sizeOf_13 : decode cX6_sizeOf 13 = .ok (.iconst 1, 1) := dk_4 (dk_at dksX6_sizeOf_0 13 rfl rfl)
theorem dX6_sizeOf_14 : decode cX6_sizeOf 14 = .ok (.isub, 1) := dk_100 (dk_at dksX6_sizeOf_0 14 rfl rfl)
theorem dX6_sizeOf_15 : decode cX6_sizeOf 15 = .ok (.iand, 1) := dk_126 (dk_at dksX6_sizeOf_0 15 rfl rfl)
theorem dX6_sizeOf_16 : decode cX6_sizeOf 16 = .ok (.istore_n 2, 1) := dk_61 (dk_at dksX6_sizeOf_0 16 rfl rfl)
theorem dX6_sizeOf_17 : decode cX6_sizeOf 17 = .ok (.goto (-13), 3) := dk_167 255 243 (dk_at dksX6_sizeOf_0 17 rfl rfl)
theorem dX6_sizeOf_20 : decode cX6_sizeOf 20 = .ok (.iload_n 1, 1) := dk_27 (dk_at dksX6_sizeOf_0 20 rfl rfl)
theorem dX6_sizeOf_21 : decode cX6_sizeOf 21 = .ok (.ireturn, 1) := dk_172 (dk_at dksX6_sizeOf_0 21 rfl rfl)
abbrev cX6_word : ByteArray := prog_11_method_20_code
def yX6_word : MethodName := ⟨RX6, "word", "(II)I"⟩
def dkwX6_word_8 : List UInt8 := [29, 172, 42, 180, 0, 45, 27, 46, 172, 21, 4, 172, 21, 5, 172, 21, 6, 172, 2, 172]
abbrev dktX6_word_8 : List UInt8 := dkwX6_word_8 ++ []
def dkwX6_word_7 : List UInt8 := [170, 0, 0, 0, 0, 0, 0, 54, 0, 0, 0, 0, 0, 0, 0, 4, 0, 0, 0, 36, 0, 0, 0, 38, 0, 0, 0, 45, 0, 0, 0, 48, 0, 0, 0, 51]
abbrev dktX6_word_7 : List UInt8 := dkwX6_word_7 ++ dktX6_word_8
def dkwX6_word_6 : List UInt8 := [96, 54, 6, 132, 7, 255, 167, 255, 152, 28]
abbrev dktX6_word_6 : List UInt8 := dkwX6_word_6 ++ dktX6_word_7
def dkwX6_word_5 : List UInt8 := [21, 6, 42, 180, 0, 7, 16, 13, 21, 7, 96, 46, 27, 184, 0, 75, 153, 0, 7, 4, 167, 0, 4, 3]
abbrev dktX6_word_5 : List UInt8 := dkwX6_word_5 ++ dktX6_word_6
def dkwX6_word_4 : List UInt8 := [21, 5, 42, 180, 0, 57, 21, 7, 46, 27, 184, 0, 75, 153, 0, 7, 4, 167, 0, 4, 3, 96, 54, 5]
abbrev dktX6_word_4 : List UInt8 := dkwX6_word_4 ++ dktX6_word_5
def dkwX6_word_3 : List UInt8 := [21, 4, 42, 180, 0, 51, 21, 7, 46, 27, 184, 0, 75, 153, 0, 7, 4, 167, 0, 4, 3, 96, 54, 4]
abbrev dktX6_word_3 : List UInt8 := dkwX6_word_3 ++ dktX6_word_4
def dkwX6_word_2 : List UInt8 := [155, 0, 105, 42, 180, 0, 51, 21, 7, 46, 27, 184, 0, 75, 153, 0, 8, 21, 7, 167, 0, 4, 29, 62]
abbrev dktX6_word_2 : List UInt8 := dkwX6_word_2 ++ dktX6_word_3
def dkwX6_word_1 : List UInt8 := [62, 3, 54, 4, 3, 54, 5, 3, 54, 6, 42, 180, 0, 7, 3, 46, 4, 100, 54, 7, 21, 7]
abbrev dktX6_word_1 : List UInt8 := dkwX6_word_1 ++ dktX6_word_2
def dkwX6_word_0 : List UInt8 := [27, 133, 9, 20, 0, 102, 184, 0, 71, 154, 0, 5, 2, 172, 42, 182, 0, 96, 42, 182, 0, 99, 16, 252]
abbrev dktX6_word_0 : List UInt8 := dkwX6_word_0 ++ dktX6_word_1
theorem dksX6_word_0 : cX6_word.data.toList.drop 0 = dktX6_word_0 := by decide +kernel
theorem dksX6_word_1 : cX6_word.data.toList.drop 24 = dktX6_word_1 := dk_seg dksX6_word_0 24 rfl rfl
theorem dksX6_word_2 : cX6_word.data.toList.drop 46 = dktX6_word_2 := dk_seg dksX6_word_1 22 rfl rfl
theorem dksX6_word_3 : cX6_word.data.toList.drop 70 = dktX6_word_3 := dk_seg dksX6_word_2 24 rfl rfl
theorem dksX6_word_4 : cX6_word.data.toList.drop 94 = dktX6_word_4 := dk_seg dksX6_word_3 24 rfl rfl
theorem dksX6_word_5 : cX6_word.data.toList.drop 118 = dktX6_word_5 := dk_seg dksX6_word_4 24 rfl rfl
theorem dksX6_word_6 : cX6_word.data.toList.drop 142 = dktX6_word_6 := dk_seg dksX6_word_5 24 rfl rfl
theorem dksX6_word_7 : cX6_word.data.toList.drop 152 = dktX6_word_7 := dk_seg dksX6_word_6 10 rfl rfl
theorem dksX6_word_8 : cX6_word.data.toList.drop 188 = dktX6_word_8 := dk_seg dksX6_word_7 36 rfl rfl
theorem dX6_word_0 : decode cX6_word 0 = .ok (.iload_n 1, 1) := dk_27 (dk_at dksX6_word_0 0 rfl rfl)
theorem dX6_word_1 : decode cX6_word 1 = .ok (.i2l, 1) := dk_133 (dk_at dksX6_word_0 1 rfl rfl)
theorem dX6_word_2 : decode cX6_word 2 = .ok (.lconst 0, 1) := dk_9 (dk_at dksX6_word_0 2 rfl rfl)
theorem dX6_word_3 : decode cX6_word 3 = .ok (.ldc2_w 102, 3) := dk_20 0 102 (dk_at dksX6_word_0 3 rfl rfl)
theorem dX6_word_6 : decode cX6_word 6 = .ok (.invokestatic 71, 3) := dk_184 0 71 (dk_at dksX6_word_0 6 rfl rfl)
theorem dX6_word_9 : decode cX6_word 9 = .ok (.ifCond .ne 5, 3) := dk_154 0 5 (dk_at dksX6_word_0 9 rfl rfl)
theorem dX6_word_12 : decode cX6_word 12 = .ok (.iconst (-1), 1) := dk_2 (dk_at dksX6_word_0 12 rfl rfl)
theorem dX6_word_13 : decode cX6_word 13 = .ok (.ireturn, 1) := dk_172 (dk_at dksX6_word_0 13 rfl rfl)
theorem dX6_word_14 : decode cX6_word 14 = .ok (.aload_n 0, 1) := dk_42 (dk_at dksX6_word_0 14 rfl rfl)
theorem dX6_word_15 : decode cX6_word 15 = .ok (.invokevirtual 96, 3) := dk_182 0 96 (dk_at dksX6_word_0 15 rfl rfl)
theorem dX6_word_18 : decode cX6_word 18 = .ok (.aload_n 0, 1) := dk_42 (dk_at dksX6_word_0 18 rfl rfl)
theorem dX6_word_19 : decode cX6_word 19 = .ok (.invokevirtual 99, 3) := dk_182 0 99 (dk_at dksX6_word_0 19 rfl rfl)
theorem dX6_word_22 : decode cX6_word 22 = .ok (.bipush (-4), 2) := dk_16 252 (dk_at dksX6_word_0 22 rfl rfl)
theorem dX6_word_24 : decode cX6_word 24 = .ok (.istore_n 3, 1) := dk_62 (dk_at dksX6_word_1 0 rfl rfl)
theorem dX6_word_25 : decode cX6_word 25 = .ok (.iconst 0, 1) := dk_3 (dk_at dksX6_word_1 1 rfl rfl)
theorem dX6_word_26 : decode cX6_word 26 = .ok (.istore 4, 2) := dk_54 4 (dk_at dksX6_word_1 2 rfl rfl)
theorem dX6_word_28 : decode cX6_word 28 = .ok (.iconst 0, 1) := dk_3 (dk_at dksX6_word_1 4 rfl rfl)
theorem dX6_word_29 : decode cX6_word 29 = .ok (.istore 5, 2) := dk_54 5 (dk_at dksX6_word_1 5 rfl rfl)
theorem dX6_word_31 : decode cX6_word 31 = .ok (.iconst 0, 1) := dk_3 (dk_at dksX6_word_1 7 rfl rfl)
theorem dX6_word_32 : decode cX6_word 32 = .ok (.istore 6, 2) := dk_54 6 (dk_at dksX6_word_1 8 rfl rfl)
theorem dX6_word_34 : decode cX6_word 34 = .ok (.aload_n 0, 1) := dk_42 (dk_at dksX6_word_1 10 rfl rfl)
theorem dX6_word_35 : decode cX6_word 35 = .ok (.getfield 7, 3) := dk_180 0 7 (dk_at dksX6_word_1 11 rfl rfl)
theorem dX6_word_38 : decode cX6_word 38 = .ok (.iconst 0, 1) := dk_3 (dk_at dksX6_word_1 14 rfl rfl)
theorem dX6_word_39 : decode cX6_word 39 = .ok (.iaload, 1) := dk_46 (dk_at dksX6_word_1 15 rfl rfl)
theorem dX6_word_40 : decode cX6_word 40 = .ok (.iconst 1, 1) := dk_4 (dk_at dksX6_word_1 16 rfl rfl)
theorem dX6_word_41 : decode cX6_word 41 = .ok (.isub, 1) := dk_100 (dk_at dksX6_word_1 17 rfl rfl)
theorem dX6_word_42 : decode cX6_word 42 = .ok (.istore 7, 2) := dk_54 7 (dk_at dksX6_word_1 18 rfl rfl)
theorem dX6_word_44 : decode cX6_word 44 = .ok (.iload 7, 2) := dk_21 7 (dk_at dksX6_word_1 20 rfl rfl)
theorem dX6_word_46 : decode cX6_word 46 = .ok (.ifCond .lt 105, 3) := dk_155 0 105 (dk_at dksX6_word_2 0 rfl rfl)
theorem dX6_word_49 : decode cX6_word 49 = .ok (.aload_n 0, 1) := dk_42 (dk_at dksX6_word_2 3 rfl rfl)
theorem dX6_word_50 : decode cX6_word 50 = .ok (.getfield 51, 3) := dk_180 0 51 (dk_at dksX6_word_2 4 rfl rfl)
theorem dX6_word_53 : decode cX6_word 53 = .ok (.iload 7, 2) := dk_21 7 (dk_at dksX6_word_2 7 rfl rfl)
theorem dX6_word_55 : decode cX6_word 55 = .ok (.iaload, 1) := dk_46 (dk_at dksX6_word_2 9 rfl rfl)
theorem dX6_word_56 : decode cX6_word 56 = .ok (.iload_n 1, 1) := dk_27 (dk_at dksX6_word_2 10 rfl rfl)
theorem dX6_word_57 : decode cX6_word 57 = .ok (.invokestatic 75, 3) := dk_184 0 75 (dk_at dksX6_word_2 11 rfl rfl)
theorem dX6_word_60 : decode cX6_word 60 = .ok (.ifCond .eq 8, 3) := dk_153 0 8 (dk_at dksX6_word_2 14 rfl rfl)
theorem dX6_word_63 : decode cX6_word 63 = .ok (.iload 7, 2) := dk_21 7 (dk_at dksX6_word_2 17 rfl rfl)
theorem dX6_word_65 : decode cX6_word 65 = .ok (.goto 4, 3) := dk_167 0 4 (dk_at dksX6_word_2 19 rfl rfl)
theorem dX6_word_68 : decode cX6_word 68 = .ok (.iload_n 3, 1) := dk_29 (dk_at dksX6_word_2 22 rfl rfl)
theorem dX6_word_69 : decode cX6_word 69 = .ok (.istore_n 3, 1) := dk_62 (dk_at dksX6_word_2 23 rfl rfl)
theorem dX6_word_70 : decode cX6_word 70 = .ok (.iload 4, 2) := dk_21 4 (dk_at dksX6_word_3 0 rfl rfl)
theorem dX6_word_72 : decode cX6_word 72 = .ok (.aload_n 0, 1) := dk_42 (dk_at dksX6_word_3 2 rfl rfl)
theorem dX6_word_73 : decode cX6_word 73 = .ok (.getfield 51, 3) := dk_180 0 51 (dk_at dksX6_word_3 3 rfl rfl)
theorem dX6_word_76 : decode cX6_word 76 = .ok (.iload 7, 2) := dk_21 7 (dk_at dksX6_word_3 6 rfl rfl)
theorem dX6_word_78 : decode cX6_word 78 = .ok (.iaload, 1) := dk_46 (dk_at dksX6_word_3 8 rfl rfl)
theorem dX6_word_79 : decode cX6_word 79 = .ok (.iload_n 1, 1) := dk_27 (dk_at dksX6_word_3 9 rfl rfl)
theorem dX6_word_80 : decode cX6_word 80 = .ok (.invokestatic 75, 3) := dk_184 0 75 (dk_at dksX6_word_3 10 rfl rfl)
theorem dX6_word_83 : decode cX6_word 83 = .ok (.ifCond .eq 7, 3) := dk_153 0 7 (dk_at dksX6_word_3 13 rfl rfl)
theorem dX6_word_86 : decode cX6_word 86 = .ok (.iconst 1, 1) := dk_4 (dk_at dksX6_word_3 16 rfl rfl)
theorem dX6_word_87 : decode cX6_word 87 = .ok (.goto 4, 3) := dk_167 0 4 (dk_at dksX6_word_3 17 rfl rfl)
theorem dX6_word_90 : decode cX6_word 90 = .ok (.iconst 0, 1) := dk_3 (dk_at dksX6_word_3 20 rfl rfl)
theorem dX6_word_91 : decode cX6_word 91 = .ok (.iadd, 1) := dk_96 (dk_at dksX6_word_3 21 rfl rfl)
theorem dX6_word_92 : decode cX6_word 92 = .ok (.istore 4, 2) := dk_54 4 (dk_at dksX6_word_3 22 rfl rfl)
theorem dX6_word_94 : decode cX6_word 94 = .ok (.iload 5, 2) := dk_21 5 (dk_at dksX6_word_4 0 rfl rfl)
theorem dX6_word_96 : decode cX6_word 96 = .ok (.aload_n 0, 1) := dk_42 (dk_at dksX6_word_4 2 rfl rfl)
theorem dX6_word_97 : decode cX6_word 97 = .ok (.getfield 57, 3) := dk_180 0 57 (dk_at dksX6_word_4 3 rfl rfl)
theorem dX6_word_100 : decode cX6_word 100 = .ok (.iload 7, 2) := dk_21 7 (dk_at dksX6_word_4 6 rfl rfl)
theorem dX6_word_102 : decode cX6_word 102 = .ok (.iaload, 1) := dk_46 (dk_at dksX6_word_4 8 rfl rfl)
theorem dX6_word_103 : decode cX6_word 103 = .ok (.iload_n 1, 1) := dk_27 (dk_at dksX6_word_4 9 rfl rfl)
theorem dX6_word_104 : decode cX6_word 104 = .ok (.invokestatic 75, 3) := dk_184 0 75 (dk_at dksX6_word_4 10 rfl rfl)
theorem dX6_word_107 : decode cX6_word 107 = .ok (.ifCond .eq 7, 3) := dk_153 0 7 (dk_at dksX6_word_4 13 rfl rfl)
theorem dX6_word_110 : decode cX6_word 110 = .ok (.iconst 1, 1) := dk_4 (dk_at dksX6_word_4 16 rfl rfl)
theorem dX6_word_111 : decode cX6_word 111 = .ok (.goto 4, 3) := dk_167 0 4 (dk_at dksX6_word_4 17 rfl rfl)
theorem dX6_word_114 : decode cX6_word 114 = .ok (.iconst 0, 1) := dk_3 (dk_at dksX6_word_4 20 rfl rfl)
theorem dX6_word_115 : decode cX6_word 115 = .ok (.iadd, 1) := dk_96 (dk_at dksX6_word_4 21 rfl rfl)
theorem dX6_word_116 : decode cX6_word 116 = .ok (.istore 5, 2) := dk_54 5 (dk_at dksX6_word_4 22 rfl rfl)
theorem dX6_word_118 : decode cX6_word 118 = .ok (.iload 6, 2) := dk_21 6 (dk_at dksX6_word_5 0 rfl rfl)
theorem dX6_word_120 : decode cX6_word 120 = .ok (.aload_n 0, 1) := dk_42 (dk_at dksX6_word_5 2 rfl rfl)
theorem dX6_word_121 : decode cX6_word 121 = .ok (.getfield 7, 3) := dk_180 0 7 (dk_at dksX6_word_5 3 rfl rfl)
theorem dX6_word_124 : decode cX6_word 124 = .ok (.bipush 13, 2) := dk_16 13 (dk_at dksX6_word_5 6 rfl rfl)
theorem dX6_word_126 : decode cX6_word 126 = .ok (.iload 7, 2) := dk_21 7 (dk_at dksX6_word_5 8 rfl rfl)
theorem dX6_word_128 : decode cX6_word 128 = .ok (.iadd, 1) := dk_96 (dk_at dksX6_word_5 10 rfl rfl)
theorem dX6_word_129 : decode cX6_word 129 = .ok (.iaload, 1) := dk_46 (dk_at dksX6_word_5 11 rfl rfl)
theorem dX6_word_130 : decode cX6_word 130 = .ok (.iload_n 1, 1) := dk_27 (dk_at dksX6_word_5 12 rfl rfl)
theorem dX6_word_131 : decode cX6_word 131 = .ok (.invokestatic 75, 3) := dk_184 0 75 (dk_at dksX6_word_5 13 rfl rfl)
theorem dX6_word_134 : decode cX6_word 134 = .ok (.ifCond .eq 7, 3) := dk_153 0 7 (dk_at dksX6_word_5 16 rfl rfl)
theorem dX6_word_137 : decode cX6_word 137 = .ok (.iconst 1, 1) := dk_4 (dk_at dksX6_word_5 19 rfl rfl)
theorem dX6_word_138 : decode cX6_word 138 = .ok (.goto 4, 3) := dk_167 0 4 (dk_at dksX6_word_5 20 rfl rfl)
theorem dX6_word_141 : decode cX6_word 141 = .ok (.iconst 0, 1) := dk_3 (dk_at dksX6_word_5 23 rfl rfl)
theorem dX6_word_142 : decode cX6_word 142 = .ok (.iadd, 1) := dk_96 (dk_at dksX6_word_6 0 rfl rfl)
theorem dX6_word_143 : decode cX6_word 143 = .ok (.istore 6, 2) := dk_54 6 (dk_at dksX6_word_6 1 rfl rfl)
theorem dX6_word_145 : decode cX6_word 145 = .ok (.iinc 7 (-1), 3) := dk_132 7 255 (dk_at dksX6_word_6 3 rfl rfl)
theorem dX6_word_148 : decode cX6_word 148 = .ok (.goto (-104), 3) := dk_167 255 152 (dk_at dksX6_word_6 6 rfl rfl)
theorem dX6_word_151 : decode cX6_word 151 = .ok (.iload_n 2, 1) := dk_28 (dk_at dksX6_word_6 9 rfl rfl)
theorem dX6_word_152 : decode cX6_word 152 = .ok (.tableswitch 54 0 4 #[36, 38, 45, 48, 51], 36) := by decide +kernel
theorem dX6_word_188 : decode cX6_word 188 = .ok (.iload_n 3, 1) := dk_29 (dk_at dksX6_word_8 0 rfl rfl)
theorem dX6_word_189 : decode cX6_word 189 = .ok (.ireturn, 1) := dk_172 (dk_at dksX6_word_8 1 rfl rfl)
theorem dX6_word_190 : decode cX6_word 190 = .ok (.aload_n 0, 1) := dk_42 (dk_at dksX6_word_8 2 rfl rfl)
theorem dX6_word_191 : decode cX6_word 191 = .ok (.getfield 45, 3) := dk_180 0 45 (dk_at dksX6_word_8 3 rfl rfl)
theorem dX6_word_194 : decode cX6_word 194 = .ok (.iload_n 1, 1) := dk_27 (dk_at dksX6_word_8 6 rfl rfl)
theorem dX6_word_195 : decode cX6_word 195 = .ok (.iaload, 1) := dk_46 (dk_at dksX6_word_8 7 rfl rfl)
theorem dX6_word_196 : decode cX6_word 196 = .ok (.ireturn, 1) := dk_172 (dk_at dksX6_word_8 8 rfl rfl)
theorem dX6_word_197 : decode cX6_word 197 = .ok (.iload 4, 2) := dk_21 4 (dk_at dksX6_word_8 9 rfl rfl)
theorem dX6_word_199 : decode cX6_word 199 = .ok (.ireturn, 1) := dk_172 (dk_at dksX6_word_8 11 rfl rfl)
theorem dX6_word_200 : decode cX6_word 200 = .ok (.iload 5, 2) := dk_21 5 (dk_at dksX6_word_8 12 rfl rfl)
theorem dX6_word_202 : decode cX6_word 202 = .ok (.ireturn, 1) := dk_172 (dk_at dksX6_word_8 14 rfl rfl)
theorem dX6_word_203 : decode cX6_word 203 = .ok (.iload 6, 2) := dk_21 6 (dk_at dksX6_word_8 15 rfl rfl)
theorem dX6_word_205 : decode cX6_word 205 = .ok (.ireturn, 1) := dk_172 (dk_at dksX6_word_8 17 rfl rfl)
theorem dX6_word_206 : decode cX6_word 206 = .ok (.iconst (-1), 1) := dk_2 (dk_at dksX6_word_8 18 rfl rfl)
theorem dX6_word_207 : decode cX6_word 207 = .ok (.ireturn, 1) := dk_172 (dk_at dksX6_word_8 19 rfl rfl)
abbrev cX6_told : ByteArray := prog_11_method_23_code
def yX6_told : MethodName := ⟨RX6, "told", "(II)I"⟩
def dkwX6_told_3 : List UInt8 := [182, 0, 108, 172, 42, 27, 182, 0, 111, 172, 2, 172]
abbrev dktX6_told_3 : List UInt8 := dkwX6_told_3 ++ []
def dkwX6_told_2 : List UInt8 := [42, 180, 0, 7, 16, 13, 27, 96, 46, 172, 42, 180, 0, 7, 16, 20, 27, 96, 46, 172, 42, 27]
abbrev dktX6_told_2 : List UInt8 := dkwX6_told_2 ++ dktX6_told_3
def dkwX6_told_1 : List UInt8 := [170, 0, 0, 0, 61, 0, 0, 0, 0, 0, 0, 0, 3, 0, 0, 0, 29, 0, 0, 0, 39, 0, 0, 0, 49, 0, 0, 0, 55]
abbrev dktX6_told_1 : List UInt8 := dkwX6_told_1 ++ dktX6_told_2
def dkwX6_told_0 : List UInt8 := [42, 27, 182, 0, 104, 154, 0, 5, 2, 172, 28]
abbrev dktX6_told_0 : List UInt8 := dkwX6_told_0 ++ dktX6_told_1
theorem dksX6_told_0 : cX6_told.data.toList.drop 0 = dktX6_told_0 := by decide +kernel
theorem dksX6_told_1 : cX6_told.data.toList.drop 11 = dktX6_told_1 := dk_seg dksX6_told_0 11 rfl rfl
theorem dksX6_told_2 : cX6_told.data.toList.drop 40 = dktX6_told_2 := dk_seg dksX6_told_1 29 rfl rfl
theorem dksX6_told_3 : cX6_told.data.toList.drop 62 = dktX6_told_3 := dk_seg dksX6_told_2 22 rfl rfl
theorem dX6_told_0 : decode cX6_told 0 = .ok (.aload_n 0, 1) := dk_42 (dk_at dksX6_told_0 0 rfl rfl)
theorem dX6_told_1 : decode cX6_told 1 = .ok (.iload_n 1, 1) := dk_27 (dk_at dksX6_told_0 1 rfl rfl)
theorem dX6_told_2 : decode cX6_told 2 = .ok (.invokevirtual 104, 3) := dk_182 0 104 (dk_at dksX6_told_0 2 rfl rfl)
theorem dX6_told_5 : decode cX6_told 5 = .ok (.ifCond .ne 5, 3) := dk_154 0 5 (dk_at dksX6_told_0 5 rfl rfl)
theorem dX6_told_8 : decode cX6_told 8 = .ok (.iconst (-1), 1) := dk_2 (dk_at dksX6_told_0 8 rfl rfl)
theorem dX6_told_9 : decode cX6_told 9 = .ok (.ireturn, 1) := dk_172 (dk_at dksX6_told_0 9 rfl rfl)
theorem dX6_told_10 : decode cX6_told 10 = .ok (.iload_n 2, 1) := dk_28 (dk_at dksX6_told_0 10 rfl rfl)
theorem dX6_told_11 : decode cX6_told 11 = .ok (.tableswitch 61 0 3 #[29, 39, 49, 55], 29) := by decide +kernel
theorem dX6_told_40 : decode cX6_told 40 = .ok (.aload_n 0, 1) := dk_42 (dk_at dksX6_told_2 0 rfl rfl)
theorem dX6_told_41 : decode cX6_told 41 = .ok (.getfield 7, 3) := dk_180 0 7 (dk_at dksX6_told_2 1 rfl rfl)
theorem dX6_told_44 : decode cX6_told 44 = .ok (.bipush 13, 2) := dk_16 13 (dk_at dksX6_told_2 4 rfl rfl)
theorem dX6_told_46 : decode cX6_told 46 = .ok (.iload_n 1, 1) := dk_27 (dk_at dksX6_told_2 6 rfl rfl)
theorem dX6_told_47 : decode cX6_told 47 = .ok (.iadd, 1) := dk_96 (dk_at dksX6_told_2 7 rfl rfl)
theorem dX6_told_48 : decode cX6_told 48 = .ok (.iaload, 1) := dk_46 (dk_at dksX6_told_2 8 rfl rfl)
theorem dX6_told_49 : decode cX6_told 49 = .ok (.ireturn, 1) := dk_172 (dk_at dksX6_told_2 9 rfl rfl)
theorem dX6_told_50 : decode cX6_told 50 = .ok (.aload_n 0, 1) := dk_42 (dk_at dksX6_told_2 10 rfl rfl)
theorem dX6_told_51 : decode cX6_told 51 = .ok (.getfield 7, 3) := dk_180 0 7 (dk_at dksX6_told_2 11 rfl rfl)
theorem dX6_told_54 : decode cX6_told 54 = .ok (.bipush 20, 2) := dk_16 20 (dk_at dksX6_told_2 14 rfl rfl)
theorem dX6_told_56 : decode cX6_told 56 = .ok (.iload_n 1, 1) := dk_27 (dk_at dksX6_told_2 16 rfl rfl)
theorem dX6_told_57 : decode cX6_told 57 = .ok (.iadd, 1) := dk_96 (dk_at dksX6_told_2 17 rfl rfl)
theorem dX6_told_58 : decode cX6_told 58 = .ok (.iaload, 1) := dk_46 (dk_at dksX6_told_2 18 rfl rfl)
theorem dX6_told_59 : decode cX6_told 59 = .ok (.ireturn, 1) := dk_172 (dk_at dksX6_told_2 19 rfl rfl)
theorem dX6_told_60 : decode cX6_told 60 = .ok (.aload_n 0, 1) := dk_42 (dk_at dksX6_told_2 20 rfl rfl)
theorem dX6_told_61 : decode cX6_told 61 = .ok (.iload_n 1, 1) := dk_27 (dk_at dksX6_told_2 21 rfl rfl)
theorem dX6_told_62 : decode cX6_told 62 = .ok (.invokevirtual 108, 3) := dk_182 0 108 (dk_at dksX6_told_3 0 rfl rfl)
theorem dX6_told_65 : decode cX6_told 65 = .ok (.ireturn, 1) := dk_172 (dk_at dksX6_told_3 3 rfl rfl)
theorem dX6_told_66 : decode cX6_told 66 = .ok (.aload_n 0, 1) := dk_42 (dk_at dksX6_told_3 4 rfl rfl)
theorem dX6_told_67 : decode cX6_told 67 = .ok (.iload_n 1, 1) := dk_27 (dk_at dksX6_told_3 5 rfl rfl)
theorem dX6_told_68 : decode cX6_told 68 = .ok (.invokevirtual 111, 3) := dk_182 0 111 (dk_at dksX6_told_3 6 rfl rfl)
theorem dX6_told_71 : decode cX6_told 71 = .ok (.ireturn, 1) := dk_172 (dk_at dksX6_told_3 9 rfl rfl)
theorem dX6_told_72 : decode cX6_told 72 = .ok (.iconst (-1), 1) := dk_2 (dk_at dksX6_told_3 10 rfl rfl)
theorem dX6_told_73 : decode cX6_told 73 = .ok (.ireturn, 1) := dk_172 (dk_at dksX6_told_3 11 rfl rfl)
abbrev cX6_isBook : ByteArray := prog_11_method_6_code
def yX6_isBook : MethodName := ⟨RX6, "isBook", "(I)Z"⟩
def dkwX6_isBook_0 : List UInt8 := [27, 133, 9, 42, 180, 0, 7, 3, 46, 4, 100, 133, 184, 0, 71, 172]
abbrev dktX6_isBook_0 : List UInt8 := dkwX6_isBook_0 ++ []
theorem dksX6_isBook_0 : cX6_isBook.data.toList.drop 0 = dktX6_isBook_0 := by decide +kernel
theorem dX6_isBook_0 : decode cX6_isBook 0 = .ok (.iload_n 1, 1) := dk_27 (dk_at dksX6_isBook_0 0 rfl rfl)
theorem dX6_isBook_1 : decode cX6_isBook 1 = .ok (.i2l, 1) := dk_133 (dk_at dksX6_isBook_0 1 rfl rfl)
theorem dX6_isBook_2 : decode cX6_isBook 2 = .ok (.lconst 0, 1) := dk_9 (dk_at dksX6_isBook_0 2 rfl rfl)
theorem dX6_isBook_3 : decode cX6_isBook 3 = .ok (.aload_n 0, 1) := dk_42 (dk_at dksX6_isBook_0 3 rfl rfl)
theorem dX6_isBook_4 : decode cX6_isBook 4 = .ok (.getfield 7, 3) := dk_180 0 7 (dk_at dksX6_isBook_0 4 rfl rfl)
theorem dX6_isBook_7 : decode cX6_isBook 7 = .ok (.iconst 0, 1) := dk_3 (dk_at dksX6_isBook_0 7 rfl rfl)
theorem dX6_isBook_8 : decode cX6_isBook 8 = .ok (.iaload, 1) := dk_46 (dk_at dksX6_isBook_0 8 rfl rfl)
theorem dX6_isBook_9 : decode cX6_isBook 9 = .ok (.iconst 1, 1) := dk_4 (dk_at dksX6_isBook_0 9 rfl rfl)
theorem dX6_isBook_10 : decode cX6_isBook 10 = .ok (.isub, 1) := dk_100 (dk_at dksX6_isBook_0 10 rfl rfl)
theorem dX6_isBook_11 : decode cX6_isBook 11 = .ok (.i2l, 1) := dk_133 (dk_at dksX6_isBook_0 11 rfl rfl)
theorem dX6_isBook_12 : decode cX6_isBook 12 = .ok (.invokestatic 71, 3) := dk_184 0 71 (dk_at dksX6_isBook_0 12 rfl rfl)
theorem dX6_isBook_15 : decode cX6_isBook 15 = .ok (.ireturn, 1) := dk_172 (dk_at dksX6_isBook_0 15 rfl rfl)
abbrev cX6_aheadOf : ByteArray := prog_11_method_21_code
def yX6_aheadOf : MethodName := ⟨RX6, "aheadOf", "(I)I"⟩
def dkwX6_aheadOf_1 : List UInt8 := [27, 184, 0, 75, 153, 0, 9, 4, 29, 120, 167, 0, 4, 3, 128, 61, 132, 3, 1, 167, 255, 217, 28, 172]
abbrev dktX6_aheadOf_1 : List UInt8 := dkwX6_aheadOf_1 ++ []
def dkwX6_aheadOf_0 : List UInt8 := [3, 61, 3, 62, 29, 42, 180, 0, 7, 3, 46, 162, 0, 35, 28, 42, 180, 0, 7, 16, 20, 29, 96, 46]
abbrev dktX6_aheadOf_0 : List UInt8 := dkwX6_aheadOf_0 ++ dktX6_aheadOf_1
theorem dksX6_aheadOf_0 : cX6_aheadOf.data.toList.drop 0 = dktX6_aheadOf_0 := by decide +kernel
theorem dksX6_aheadOf_1 : cX6_aheadOf.data.toList.drop 24 = dktX6_aheadOf_1 := dk_seg dksX6_aheadOf_0 24 rfl rfl
theorem dX6_aheadOf_0 : decode cX6_aheadOf 0 = .ok (.iconst 0, 1) := dk_3 (dk_at dksX6_aheadOf_0 0 rfl rfl)
theorem dX6_aheadOf_1 : decode cX6_aheadOf 1 = .ok (.istore_n 2, 1) := dk_61 (dk_at dksX6_aheadOf_0 1 rfl rfl)
theorem dX6_aheadOf_2 : decode cX6_aheadOf 2 = .ok (.iconst 0, 1) := dk_3 (dk_at dksX6_aheadOf_0 2 rfl rfl)
theorem dX6_aheadOf_3 : decode cX6_aheadOf 3 = .ok (.istore_n 3, 1) := dk_62 (dk_at dksX6_aheadOf_0 3 rfl rfl)
theorem dX6_aheadOf_4 : decode cX6_aheadOf 4 = .ok (.iload_n 3, 1) := dk_29 (dk_at dksX6_aheadOf_0 4 rfl rfl)
theorem dX6_aheadOf_5 : decode cX6_aheadOf 5 = .ok (.aload_n 0, 1) := dk_42 (dk_at dksX6_aheadOf_0 5 rfl rfl)
theorem dX6_aheadOf_6 : decode cX6_aheadOf 6 = .ok (.getfield 7, 3) := dk_180 0 7 (dk_at dksX6_aheadOf_0 6 rfl rfl)
theorem dX6_aheadOf_9 : decode cX6_aheadOf 9 = .ok (.iconst 0, 1) := dk_3 (dk_at dksX6_aheadOf_0 9 rfl rfl)
theorem dX6_aheadOf_10 : decode cX6_aheadOf 10 = .ok (.iaload, 1) := dk_46 (dk_at dksX6_aheadOf_0 10 rfl rfl)
theorem dX6_aheadOf_11 : decode cX6_aheadOf 11 = .ok (.if_icmp .ge 35, 3) := dk_162 0 35 (dk_at dksX6_aheadOf_0 11 rfl rfl)
theorem dX6_aheadOf_14 : decode cX6_aheadOf 14 = .ok (.iload_n 2, 1) := dk_28 (dk_at dksX6_aheadOf_0 14 rfl rfl)
theorem dX6_aheadOf_15 : decode cX6_aheadOf 15 = .ok (.aload_n 0, 1) := dk_42 (dk_at dksX6_aheadOf_0 15 rfl rfl)
theorem dX6_aheadOf_16 : decode cX6_aheadOf 16 = .ok (.getfield 7, 3) := dk_180 0 7 (dk_at dksX6_aheadOf_0 16 rfl rfl)
theorem dX6_aheadOf_19 : decode cX6_aheadOf 19 = .ok (.bipush 20, 2) := dk_16 20 (dk_at dksX6_aheadOf_0 19 rfl rfl)
theorem dX6_aheadOf_21 : decode cX6_aheadOf 21 = .ok (.iload_n 3, 1) := dk_29 (dk_at dksX6_aheadOf_0 21 rfl rfl)
theorem dX6_aheadOf_22 : decode cX6_aheadOf 22 = .ok (.iadd, 1) := dk_96 (dk_at dksX6_aheadOf_0 22 rfl rfl)
theorem dX6_aheadOf_23 : decode cX6_aheadOf 23 = .ok (.iaload, 1) := dk_46 (dk_at dksX6_aheadOf_0 23 rfl rfl)
theorem dX6_aheadOf_24 : decode cX6_aheadOf 24 = .ok (.iload_n 1, 1) := dk_27 (dk_at dksX6_aheadOf_1 0 rfl rfl)
theorem dX6_aheadOf_25 : decode cX6_aheadOf 25 = .ok (.invokestatic 75, 3) := dk_184 0 75 (dk_at dksX6_aheadOf_1 1 rfl rfl)
theorem dX6_aheadOf_28 : decode cX6_aheadOf 28 = .ok (.ifCond .eq 9, 3) := dk_153 0 9 (dk_at dksX6_aheadOf_1 4 rfl rfl)
theorem dX6_aheadOf_31 : decode cX6_aheadOf 31 = .ok (.iconst 1, 1) := dk_4 (dk_at dksX6_aheadOf_1 7 rfl rfl)
theorem dX6_aheadOf_32 : decode cX6_aheadOf 32 = .ok (.iload_n 3, 1) := dk_29 (dk_at dksX6_aheadOf_1 8 rfl rfl)
theorem dX6_aheadOf_33 : decode cX6_aheadOf 33 = .ok (.ishl, 1) := dk_120 (dk_at dksX6_aheadOf_1 9 rfl rfl)
theorem dX6_aheadOf_34 : decode cX6_aheadOf 34 = .ok (.goto 4, 3) := dk_167 0 4 (dk_at dksX6_aheadOf_1 10 rfl rfl)
theorem dX6_aheadOf_37 : decode cX6_aheadOf 37 = .ok (.iconst 0, 1) := dk_3 (dk_at dksX6_aheadOf_1 13 rfl rfl)
theorem dX6_aheadOf_38 : decode cX6_aheadOf 38 = .ok (.ior, 1) := dk_128 (dk_at dksX6_aheadOf_1 14 rfl rfl)
theorem dX6_aheadOf_39 : decode cX6_aheadOf 39 = .ok (.istore_n 2, 1) := dk_61 (dk_at dksX6_aheadOf_1 15 rfl rfl)
theorem dX6_aheadOf_40 : decode cX6_aheadOf 40 = .ok (.iinc 3 1, 3) := dk_132 3 1 (dk_at dksX6_aheadOf_1 16 rfl rfl)
theorem dX6_aheadOf_43 : decode cX6_aheadOf 43 = .ok (.goto (-39), 3) := dk_167 255 217 (dk_at dksX6_aheadOf_1 19 rfl rfl)
theorem dX6_aheadOf_46 : decode cX6_aheadOf 46 = .ok (.iload_n 2, 1) := dk_28 (dk_at dksX6_aheadOf_1 22 rfl rfl)
theorem dX6_aheadOf_47 : decode cX6_aheadOf 47 = .ok (.ireturn, 1) := dk_172 (dk_at dksX6_aheadOf_1 23 rfl rfl)
abbrev cX6_placeOf : ByteArray := prog_11_method_22_code
def yX6_placeOf : MethodName := ⟨RX6, "placeOf", "(I)I"⟩
def dkwX6_placeOf_0 : List UInt8 := [3, 61, 42, 180, 0, 7, 16, 6, 28, 96, 46, 27, 159, 0, 9, 132, 2, 1, 167, 255, 240, 28, 172]
abbrev dktX6_placeOf_0 : List UInt8 := dkwX6_placeOf_0 ++ []
theorem dksX6_placeOf_0 : cX6_placeOf.data.toList.drop 0 = dktX6_placeOf_0 := by decide +kernel
theorem dX6_placeOf_0 : decode cX6_placeOf 0 = .ok (.iconst 0, 1) := dk_3 (dk_at dksX6_placeOf_0 0 rfl rfl)
theorem dX6_placeOf_1 : decode cX6_placeOf 1 = .ok (.istore_n 2, 1) := dk_61 (dk_at dksX6_placeOf_0 1 rfl rfl)
theorem dX6_placeOf_2 : decode cX6_placeOf 2 = .ok (.aload_n 0, 1) := dk_42 (dk_at dksX6_placeOf_0 2 rfl rfl)
theorem dX6_placeOf_3 : decode cX6_placeOf 3 = .ok (.getfield 7, 3) := dk_180 0 7 (dk_at dksX6_placeOf_0 3 rfl rfl)
theorem dX6_placeOf_6 : decode cX6_placeOf 6 = .ok (.bipush 6, 2) := dk_16 6 (dk_at dksX6_placeOf_0 6 rfl rfl)
theorem dX6_placeOf_8 : decode cX6_placeOf 8 = .ok (.iload_n 2, 1) := dk_28 (dk_at dksX6_placeOf_0 8 rfl rfl)
theorem dX6_placeOf_9 : decode cX6_placeOf 9 = .ok (.iadd, 1) := dk_96 (dk_at dksX6_placeOf_0 9 rfl rfl)
theorem dX6_placeOf_10 : decode cX6_placeOf 10 = .ok (.iaload, 1) := dk_46 (dk_at dksX6_placeOf_0 10 rfl rfl)
theorem dX6_placeOf_11 : decode cX6_placeOf 11 = .ok (.iload_n 1, 1) := dk_27 (dk_at dksX6_placeOf_0 11 rfl rfl)
theorem dX6_placeOf_12 : decode cX6_placeOf 12 = .ok (.if_icmp .eq 9, 3) := dk_159 0 9 (dk_at dksX6_placeOf_0 12 rfl rfl)
theorem dX6_placeOf_15 : decode cX6_placeOf 15 = .ok (.iinc 2 1, 3) := dk_132 2 1 (dk_at dksX6_placeOf_0 15 rfl rfl)
theorem dX6_placeOf_18 : decode cX6_placeOf 18 = .ok (.goto (-16), 3) := dk_167 255 240 (dk_at dksX6_placeOf_0 18 rfl rfl)
theorem dX6_placeOf_21 : decode cX6_placeOf 21 = .ok (.iload_n 2, 1) := dk_28 (dk_at dksX6_placeOf_0 21 rfl rfl)
theorem dX6_placeOf_22 : decode cX6_placeOf 22 = .ok (.ireturn, 1) := dk_172 (dk_at dksX6_placeOf_0 22 rfl rfl)
abbrev cX6_count : ByteArray := prog_11_method_24_code
def yX6_count : MethodName := ⟨RX6, "count", "(I)I"⟩
def dkwX6_count_4 : List UInt8 := [180, 0, 7, 6, 46, 163, 0, 7, 4, 167, 0, 4, 3, 172, 42, 180, 0, 128, 172, 2, 172]
abbrev dktX6_count_4 : List UInt8 := dkwX6_count_4 ++ []
def dkwX6_count_3 : List UInt8 := [182, 0, 124, 153, 0, 7, 4, 167, 0, 4, 3, 172, 42, 182, 0, 124, 153, 0, 20, 42, 182, 0, 118, 42]
abbrev dktX6_count_3 : List UInt8 := dkwX6_count_3 ++ dktX6_count_4
def dkwX6_count_2 : List UInt8 := [42, 180, 0, 7, 27, 46, 172, 42, 182, 0, 114, 172, 42, 182, 0, 118, 172, 42, 182, 0, 121, 172, 42]
abbrev dktX6_count_2 : List UInt8 := dkwX6_count_2 ++ dktX6_count_3
def dkwX6_count_1 : List UInt8 := [170, 0, 0, 0, 0, 0, 125, 0, 0, 0, 0, 0, 0, 0, 10, 0, 0, 0, 59, 0, 0, 0, 59, 0, 0, 0, 59, 0, 0, 0, 59, 0, 0, 0, 59, 0, 0, 0, 66, 0, 0, 0, 71, 0, 0, 0, 76, 0, 0, 0, 81, 0, 0, 0, 94, 0, 0, 0, 120]
abbrev dktX6_count_1 : List UInt8 := dkwX6_count_1 ++ dktX6_count_2
def dkwX6_count_0 : List UInt8 := [42, 182, 0, 96, 42, 182, 0, 99, 27]
abbrev dktX6_count_0 : List UInt8 := dkwX6_count_0 ++ dktX6_count_1
theorem dksX6_count_0 : cX6_count.data.toList.drop 0 = dktX6_count_0 := by decide +kernel
theorem dksX6_count_1 : cX6_count.data.toList.drop 9 = dktX6_count_1 := dk_seg dksX6_count_0 9 rfl rfl
theorem dksX6_count_2 : cX6_count.data.toList.drop 68 = dktX6_count_2 := dk_seg dksX6_count_1 59 rfl rfl
theorem dksX6_count_3 : cX6_count.data.toList.drop 91 = dktX6_count_3 := dk_seg dksX6_count_2 23 rfl rfl
theorem dksX6_count_4 : cX6_count.data.toList.drop 115 = dktX6_count_4 := dk_seg dksX6_count_3 24 rfl rfl
theorem dX6_count_0 : decode cX6_count 0 = .ok (.aload_n 0, 1) := dk_42 (dk_at dksX6_count_0 0 rfl rfl)
theorem dX6_count_1 : decode cX6_count 1 = .ok (.invokevirtual 96, 3) := dk_182 0 96 (dk_at dksX6_count_0 1 rfl rfl)
theorem dX6_count_4 : decode cX6_count 4 = .ok (.aload_n 0, 1) := dk_42 (dk_at dksX6_count_0 4 rfl rfl)
theorem dX6_count_5 : decode cX6_count 5 = .ok (.invokevirtual 99, 3) := dk_182 0 99 (dk_at dksX6_count_0 5 rfl rfl)
theorem dX6_count_8 : decode cX6_count 8 = .ok (.iload_n 1, 1) := dk_27 (dk_at dksX6_count_0 8 rfl rfl)
theorem dX6_count_9 : decode cX6_count 9 = .ok (.tableswitch 125 0 10 #[59, 59, 59, 59, 59, 66, 71, 76, 81, 94, 120], 59) := by decide +kernel
theorem dX6_count_68 : decode cX6_count 68 = .ok (.aload_n 0, 1) := dk_42 (dk_at dksX6_count_2 0 rfl rfl)
theorem dX6_count_69 : decode cX6_count 69 = .ok (.getfield 7, 3) := dk_180 0 7 (dk_at dksX6_count_2 1 rfl rfl)
theorem dX6_count_72 : decode cX6_count 72 = .ok (.iload_n 1, 1) := dk_27 (dk_at dksX6_count_2 4 rfl rfl)
theorem dX6_count_73 : decode cX6_count 73 = .ok (.iaload, 1) := dk_46 (dk_at dksX6_count_2 5 rfl rfl)
theorem dX6_count_74 : decode cX6_count 74 = .ok (.ireturn, 1) := dk_172 (dk_at dksX6_count_2 6 rfl rfl)
theorem dX6_count_75 : decode cX6_count 75 = .ok (.aload_n 0, 1) := dk_42 (dk_at dksX6_count_2 7 rfl rfl)
theorem dX6_count_76 : decode cX6_count 76 = .ok (.invokevirtual 114, 3) := dk_182 0 114 (dk_at dksX6_count_2 8 rfl rfl)
theorem dX6_count_79 : decode cX6_count 79 = .ok (.ireturn, 1) := dk_172 (dk_at dksX6_count_2 11 rfl rfl)
theorem dX6_count_80 : decode cX6_count 80 = .ok (.aload_n 0, 1) := dk_42 (dk_at dksX6_count_2 12 rfl rfl)
theorem dX6_count_81 : decode cX6_count 81 = .ok (.invokevirtual 118, 3) := dk_182 0 118 (dk_at dksX6_count_2 13 rfl rfl)
theorem dX6_count_84 : decode cX6_count 84 = .ok (.ireturn, 1) := dk_172 (dk_at dksX6_count_2 16 rfl rfl)
theorem dX6_count_85 : decode cX6_count 85 = .ok (.aload_n 0, 1) := dk_42 (dk_at dksX6_count_2 17 rfl rfl)
theorem dX6_count_86 : decode cX6_count 86 = .ok (.invokevirtual 121, 3) := dk_182 0 121 (dk_at dksX6_count_2 18 rfl rfl)
theorem dX6_count_89 : decode cX6_count 89 = .ok (.ireturn, 1) := dk_172 (dk_at dksX6_count_2 21 rfl rfl)
theorem dX6_count_90 : decode cX6_count 90 = .ok (.aload_n 0, 1) := dk_42 (dk_at dksX6_count_2 22 rfl rfl)
theorem dX6_count_91 : decode cX6_count 91 = .ok (.invokevirtual 124, 3) := dk_182 0 124 (dk_at dksX6_count_3 0 rfl rfl)
theorem dX6_count_94 : decode cX6_count 94 = .ok (.ifCond .eq 7, 3) := dk_153 0 7 (dk_at dksX6_count_3 3 rfl rfl)
theorem dX6_count_97 : decode cX6_count 97 = .ok (.iconst 1, 1) := dk_4 (dk_at dksX6_count_3 6 rfl rfl)
theorem dX6_count_98 : decode cX6_count 98 = .ok (.goto 4, 3) := dk_167 0 4 (dk_at dksX6_count_3 7 rfl rfl)
theorem dX6_count_101 : decode cX6_count 101 = .ok (.iconst 0, 1) := dk_3 (dk_at dksX6_count_3 10 rfl rfl)
theorem dX6_count_102 : decode cX6_count 102 = .ok (.ireturn, 1) := dk_172 (dk_at dksX6_count_3 11 rfl rfl)
theorem dX6_count_103 : decode cX6_count 103 = .ok (.aload_n 0, 1) := dk_42 (dk_at dksX6_count_3 12 rfl rfl)
theorem dX6_count_104 : decode cX6_count 104 = .ok (.invokevirtual 124, 3) := dk_182 0 124 (dk_at dksX6_count_3 13 rfl rfl)
theorem dX6_count_107 : decode cX6_count 107 = .ok (.ifCond .eq 20, 3) := dk_153 0 20 (dk_at dksX6_count_3 16 rfl rfl)
theorem dX6_count_110 : decode cX6_count 110 = .ok (.aload_n 0, 1) := dk_42 (dk_at dksX6_count_3 19 rfl rfl)
theorem dX6_count_111 : decode cX6_count 111 = .ok (.invokevirtual 118, 3) := dk_182 0 118 (dk_at dksX6_count_3 20 rfl rfl)
theorem dX6_count_114 : decode cX6_count 114 = .ok (.aload_n 0, 1) := dk_42 (dk_at dksX6_count_3 23 rfl rfl)
theorem dX6_count_115 : decode cX6_count 115 = .ok (.getfield 7, 3) := dk_180 0 7 (dk_at dksX6_count_4 0 rfl rfl)
theorem dX6_count_118 : decode cX6_count 118 = .ok (.iconst 3, 1) := dk_6 (dk_at dksX6_count_4 3 rfl rfl)
theorem dX6_count_119 : decode cX6_count 119 = .ok (.iaload, 1) := dk_46 (dk_at dksX6_count_4 4 rfl rfl)
theorem dX6_count_120 : decode cX6_count 120 = .ok (.if_icmp .gt 7, 3) := dk_163 0 7 (dk_at dksX6_count_4 5 rfl rfl)
theorem dX6_count_123 : decode cX6_count 123 = .ok (.iconst 1, 1) := dk_4 (dk_at dksX6_count_4 8 rfl rfl)
theorem dX6_count_124 : decode cX6_count 124 = .ok (.goto 4, 3) := dk_167 0 4 (dk_at dksX6_count_4 9 rfl rfl)
theorem dX6_count_127 : decode cX6_count 127 = .ok (.iconst 0, 1) := dk_3 (dk_at dksX6_count_4 12 rfl rfl)
theorem dX6_count_128 : decode cX6_count 128 = .ok (.ireturn, 1) := dk_172 (dk_at dksX6_count_4 13 rfl rfl)
theorem dX6_count_129 : decode cX6_count 129 = .ok (.aload_n 0, 1) := dk_42 (dk_at dksX6_count_4 14 rfl rfl)
theorem dX6_count_130 : decode cX6_count 130 = .ok (.getfield 128, 3) := dk_180 0 128 (dk_at dksX6_count_4 15 rfl rfl)
theorem dX6_count_133 : decode cX6_count 133 = .ok (.ireturn, 1) := dk_172 (dk_at dksX6_count_4 18 rfl rfl)
theorem dX6_count_134 : decode cX6_count 134 = .ok (.iconst (-1), 1) := dk_2 (dk_at dksX6_count_4 19 rfl rfl)
theorem dX6_count_135 : decode cX6_count 135 = .ok (.ireturn, 1) := dk_172 (dk_at dksX6_count_4 20 rfl rfl)
abbrev cX6_number : ByteArray := prog_11_method_15_code
def yX6_number : MethodName := ⟨RX6, "number", "()I"⟩
def dkwX6_number_1 : List UInt8 := [96, 60, 132, 2, 1, 167, 255, 231, 27, 172]
abbrev dktX6_number_1 : List UInt8 := dkwX6_number_1 ++ []
def dkwX6_number_0 : List UInt8 := [3, 60, 3, 61, 28, 42, 180, 0, 7, 3, 46, 162, 0, 21, 16, 10, 27, 104, 42, 180, 0, 42, 28, 46]
abbrev dktX6_number_0 : List UInt8 := dkwX6_number_0 ++ dktX6_number_1
theorem dksX6_number_0 : cX6_number.data.toList.drop 0 = dktX6_number_0 := by decide +kernel
theorem dksX6_number_1 : cX6_number.data.toList.drop 24 = dktX6_number_1 := dk_seg dksX6_number_0 24 rfl rfl
theorem dX6_number_0 : decode cX6_number 0 = .ok (.iconst 0, 1) := dk_3 (dk_at dksX6_number_0 0 rfl rfl)
theorem dX6_number_1 : decode cX6_number 1 = .ok (.istore_n 1, 1) := dk_60 (dk_at dksX6_number_0 1 rfl rfl)
theorem dX6_number_2 : decode cX6_number 2 = .ok (.iconst 0, 1) := dk_3 (dk_at dksX6_number_0 2 rfl rfl)
theorem dX6_number_3 : decode cX6_number 3 = .ok (.istore_n 2, 1) := dk_61 (dk_at dksX6_number_0 3 rfl rfl)
theorem dX6_number_4 : decode cX6_number 4 = .ok (.iload_n 2, 1) := dk_28 (dk_at dksX6_number_0 4 rfl rfl)
theorem dX6_number_5 : decode cX6_number 5 = .ok (.aload_n 0, 1) := dk_42 (dk_at dksX6_number_0 5 rfl rfl)
theorem dX6_number_6 : decode cX6_number 6 = .ok (.getfield 7, 3) := dk_180 0 7 (dk_at dksX6_number_0 6 rfl rfl)
theorem dX6_number_9 : decode cX6_number 9 = .ok (.iconst 0, 1) := dk_3 (dk_at dksX6_number_0 9 rfl rfl)
theorem dX6_number_10 : decode cX6_number 10 = .ok (.iaload, 1) := dk_46 (dk_at dksX6_number_0 10 rfl rfl)
theorem dX6_number_11 : decode cX6_number 11 = .ok (.if_icmp .ge 21, 3) := dk_162 0 21 (dk_at dksX6_number_0 11 rfl rfl)
theorem dX6_number_14 : decode cX6_number 14 = .ok (.bipush 10, 2) := dk_16 10 (dk_at dksX6_number_0 14 rfl rfl)
theorem dX6_number_16 : decode cX6_number 16 = .ok (.iload_n 1, 1) := dk_27 (dk_at dksX6_number_0 16 rfl rfl)
theorem dX6_number_17 : decode cX6_number 17 = .ok (.imul, 1) := dk_104 (dk_at dksX6_number_0 17 rfl rfl)
theorem dX6_number_18 : decode cX6_number 18 = .ok (.aload_n 0, 1) := dk_42 (dk_at dksX6_number_0 18 rfl rfl)
theorem dX6_number_19 : decode cX6_number 19 = .ok (.getfield 42, 3) := dk_180 0 42 (dk_at dksX6_number_0 19 rfl rfl)
theorem dX6_number_22 : decode cX6_number 22 = .ok (.iload_n 2, 1) := dk_28 (dk_at dksX6_number_0 22 rfl rfl)
theorem dX6_number_23 : decode cX6_number 23 = .ok (.iaload, 1) := dk_46 (dk_at dksX6_number_0 23 rfl rfl)
theorem dX6_number_24 : decode cX6_number 24 = .ok (.iadd, 1) := dk_96 (dk_at dksX6_number_1 0 rfl rfl)
theorem dX6_number_25 : decode cX6_number 25 = .ok (.istore_n 1, 1) := dk_60 (dk_at dksX6_number_1 1 rfl rfl)
theorem dX6_number_26 : decode cX6_number 26 = .ok (.iinc 2 1, 3) := dk_132 2 1 (dk_at dksX6_number_1 2 rfl rfl)
theorem dX6_number_29 : decode cX6_number 29 = .ok (.goto (-25), 3) := dk_167 255 231 (dk_at dksX6_number_1 5 rfl rfl)
theorem dX6_number_32 : decode cX6_number 32 = .ok (.iload_n 1, 1) := dk_27 (dk_at dksX6_number_1 8 rfl rfl)
theorem dX6_number_33 : decode cX6_number 33 = .ok (.ireturn, 1) := dk_172 (dk_at dksX6_number_1 9 rfl rfl)
abbrev cX6_peak : ByteArray := prog_11_method_12_code
def yX6_peak : MethodName := ⟨RX6, "peak", "()I"⟩
def dkwX6_peak_2 : List UInt8 := [172]
abbrev dktX6_peak_2 : List UInt8 := dkwX6_peak_2 ++ []
def dkwX6_peak_1 : List UInt8 := [164, 0, 15, 42, 180, 0, 51, 28, 46, 184, 0, 93, 167, 0, 4, 27, 60, 132, 2, 1, 167, 255, 216, 27]
abbrev dktX6_peak_1 : List UInt8 := dkwX6_peak_1 ++ dktX6_peak_2
def dkwX6_peak_0 : List UInt8 := [3, 60, 3, 61, 28, 42, 180, 0, 7, 3, 46, 162, 0, 36, 42, 180, 0, 51, 28, 46, 184, 0, 93, 27]
abbrev dktX6_peak_0 : List UInt8 := dkwX6_peak_0 ++ dktX6_peak_1
theorem dksX6_peak_0 : cX6_peak.data.toList.drop 0 = dktX6_peak_0 := by decide +kernel
theorem dksX6_peak_1 : cX6_peak.data.toList.drop 24 = dktX6_peak_1 := dk_seg dksX6_peak_0 24 rfl rfl
theorem dksX6_peak_2 : cX6_peak.data.toList.drop 48 = dktX6_peak_2 := dk_seg dksX6_peak_1 24 rfl rfl
theorem dX6_peak_0 : decode cX6_peak 0 = .ok (.iconst 0, 1) := dk_3 (dk_at dksX6_peak_0 0 rfl rfl)
theorem dX6_peak_1 : decode cX6_peak 1 = .ok (.istore_n 1, 1) := dk_60 (dk_at dksX6_peak_0 1 rfl rfl)
theorem dX6_peak_2 : decode cX6_peak 2 = .ok (.iconst 0, 1) := dk_3 (dk_at dksX6_peak_0 2 rfl rfl)
theorem dX6_peak_3 : decode cX6_peak 3 = .ok (.istore_n 2, 1) := dk_61 (dk_at dksX6_peak_0 3 rfl rfl)
theorem dX6_peak_4 : decode cX6_peak 4 = .ok (.iload_n 2, 1) := dk_28 (dk_at dksX6_peak_0 4 rfl rfl)
theorem dX6_peak_5 : decode cX6_peak 5 = .ok (.aload_n 0, 1) := dk_42 (dk_at dksX6_peak_0 5 rfl rfl)
theorem dX6_peak_6 : decode cX6_peak 6 = .ok (.getfield 7, 3) := dk_180 0 7 (dk_at dksX6_peak_0 6 rfl rfl)
theorem dX6_peak_9 : decode cX6_peak 9 = .ok (.iconst 0, 1) := dk_3 (dk_at dksX6_peak_0 9 rfl rfl)
theorem dX6_peak_10 : decode cX6_peak 10 = .ok (.iaload, 1) := dk_46 (dk_at dksX6_peak_0 10 rfl rfl)
theorem dX6_peak_11 : decode cX6_peak 11 = .ok (.if_icmp .ge 36, 3) := dk_162 0 36 (dk_at dksX6_peak_0 11 rfl rfl)
theorem dX6_peak_14 : decode cX6_peak 14 = .ok (.aload_n 0, 1) := dk_42 (dk_at dksX6_peak_0 14 rfl rfl)
theorem dX6_peak_15 : decode cX6_peak 15 = .ok (.getfield 51, 3) := dk_180 0 51 (dk_at dksX6_peak_0 15 rfl rfl)
theorem dX6_peak_18 : decode cX6_peak 18 = .ok (.iload_n 2, 1) := dk_28 (dk_at dksX6_peak_0 18 rfl rfl)
theorem dX6_peak_19 : decode cX6_peak 19 = .ok (.iaload, 1) := dk_46 (dk_at dksX6_peak_0 19 rfl rfl)
theorem dX6_peak_20 : decode cX6_peak 20 = .ok (.invokestatic 93, 3) := dk_184 0 93 (dk_at dksX6_peak_0 20 rfl rfl)
theorem dX6_peak_23 : decode cX6_peak 23 = .ok (.iload_n 1, 1) := dk_27 (dk_at dksX6_peak_0 23 rfl rfl)
theorem dX6_peak_24 : decode cX6_peak 24 = .ok (.if_icmp .le 15, 3) := dk_164 0 15 (dk_at dksX6_peak_1 0 rfl rfl)
theorem dX6_peak_27 : decode cX6_peak 27 = .ok (.aload_n 0, 1) := dk_42 (dk_at dksX6_peak_1 3 rfl rfl)
theorem dX6_peak_28 : decode cX6_peak 28 = .ok (.getfield 51, 3) := dk_180 0 51 (dk_at dksX6_peak_1 4 rfl rfl)
theorem dX6_peak_31 : decode cX6_peak 31 = .ok (.iload_n 2, 1) := dk_28 (dk_at dksX6_peak_1 7 rfl rfl)
theorem dX6_peak_32 : decode cX6_peak 32 = .ok (.iaload, 1) := dk_46 (dk_at dksX6_peak_1 8 rfl rfl)
theorem dX6_peak_33 : decode cX6_peak 33 = .ok (.invokestatic 93, 3) := dk_184 0 93 (dk_at dksX6_peak_1 9 rfl rfl)
theorem dX6_peak_36 : decode cX6_peak 36 = .ok (.goto 4, 3) := dk_167 0 4 (dk_at dksX6_peak_1 12 rfl rfl)
theorem dX6_peak_39 : decode cX6_peak 39 = .ok (.iload_n 1, 1) := dk_27 (dk_at dksX6_peak_1 15 rfl rfl)
theorem dX6_peak_40 : decode cX6_peak 40 = .ok (.istore_n 1, 1) := dk_60 (dk_at dksX6_peak_1 16 rfl rfl)
theorem dX6_peak_41 : decode cX6_peak 41 = .ok (.iinc 2 1, 3) := dk_132 2 1 (dk_at dksX6_peak_1 17 rfl rfl)
theorem dX6_peak_44 : decode cX6_peak 44 = .ok (.goto (-40), 3) := dk_167 255 216 (dk_at dksX6_peak_1 20 rfl rfl)
theorem dX6_peak_47 : decode cX6_peak 47 = .ok (.iload_n 1, 1) := dk_27 (dk_at dksX6_peak_1 23 rfl rfl)
theorem dX6_peak_48 : decode cX6_peak 48 = .ok (.ireturn, 1) := dk_172 (dk_at dksX6_peak_2 0 rfl rfl)
abbrev cX6_loss : ByteArray := prog_11_method_13_code
def yX6_loss : MethodName := ⟨RX6, "loss", "()I"⟩
def dkwX6_loss_1 : List UInt8 := [96, 60, 132, 2, 1, 167, 255, 231, 27, 172]
abbrev dktX6_loss_1 : List UInt8 := dkwX6_loss_1 ++ []
def dkwX6_loss_0 : List UInt8 := [3, 60, 3, 61, 28, 42, 180, 0, 7, 3, 46, 162, 0, 21, 27, 42, 180, 0, 57, 28, 46, 184, 0, 93]
abbrev dktX6_loss_0 : List UInt8 := dkwX6_loss_0 ++ dktX6_loss_1
theorem dksX6_loss_0 : cX6_loss.data.toList.drop 0 = dktX6_loss_0 := by decide +kernel
theorem dksX6_loss_1 : cX6_loss.data.toList.drop 24 = dktX6_loss_1 := dk_seg dksX6_loss_0 24 rfl rfl
theorem dX6_loss_0 : decode cX6_loss 0 = .ok (.iconst 0, 1) := dk_3 (dk_at dksX6_loss_0 0 rfl rfl)
theorem dX6_loss_1 : decode cX6_loss 1 = .ok (.istore_n 1, 1) := dk_60 (dk_at dksX6_loss_0 1 rfl rfl)
theorem dX6_loss_2 : decode cX6_loss 2 = .ok (.iconst 0, 1) := dk_3 (dk_at dksX6_loss_0 2 rfl rfl)
theorem dX6_loss_3 : decode cX6_loss 3 = .ok (.istore_n 2, 1) := dk_61 (dk_at dksX6_loss_0 3 rfl rfl)
theorem dX6_loss_4 : decode cX6_loss 4 = .ok (.iload_n 2, 1) := dk_28 (dk_at dksX6_loss_0 4 rfl rfl)
theorem dX6_loss_5 : decode cX6_loss 5 = .ok (.aload_n 0, 1) := dk_42 (dk_at dksX6_loss_0 5 rfl rfl)
theorem dX6_loss_6 : decode cX6_loss 6 = .ok (.getfield 7, 3) := dk_180 0 7 (dk_at dksX6_loss_0 6 rfl rfl)
theorem dX6_loss_9 : decode cX6_loss 9 = .ok (.iconst 0, 1) := dk_3 (dk_at dksX6_loss_0 9 rfl rfl)
theorem dX6_loss_10 : decode cX6_loss 10 = .ok (.iaload, 1) := dk_46 (dk_at dksX6_loss_0 10 rfl rfl)
theorem dX6_loss_11 : decode cX6_loss 11 = .ok (.if_icmp .ge 21, 3) := dk_162 0 21 (dk_at dksX6_loss_0 11 rfl rfl)
theorem dX6_loss_14 : decode cX6_loss 14 = .ok (.iload_n 1, 1) := dk_27 (dk_at dksX6_loss_0 14 rfl rfl)
theorem dX6_loss_15 : decode cX6_loss 15 = .ok (.aload_n 0, 1) := dk_42 (dk_at dksX6_loss_0 15 rfl rfl)
theorem dX6_loss_16 : decode cX6_loss 16 = .ok (.getfield 57, 3) := dk_180 0 57 (dk_at dksX6_loss_0 16 rfl rfl)
theorem dX6_loss_19 : decode cX6_loss 19 = .ok (.iload_n 2, 1) := dk_28 (dk_at dksX6_loss_0 19 rfl rfl)
theorem dX6_loss_20 : decode cX6_loss 20 = .ok (.iaload, 1) := dk_46 (dk_at dksX6_loss_0 20 rfl rfl)
theorem dX6_loss_21 : decode cX6_loss 21 = .ok (.invokestatic 93, 3) := dk_184 0 93 (dk_at dksX6_loss_0 21 rfl rfl)
theorem dX6_loss_24 : decode cX6_loss 24 = .ok (.iadd, 1) := dk_96 (dk_at dksX6_loss_1 0 rfl rfl)
theorem dX6_loss_25 : decode cX6_loss 25 = .ok (.istore_n 1, 1) := dk_60 (dk_at dksX6_loss_1 1 rfl rfl)
theorem dX6_loss_26 : decode cX6_loss 26 = .ok (.iinc 2 1, 3) := dk_132 2 1 (dk_at dksX6_loss_1 2 rfl rfl)
theorem dX6_loss_29 : decode cX6_loss 29 = .ok (.goto (-25), 3) := dk_167 255 231 (dk_at dksX6_loss_1 5 rfl rfl)
theorem dX6_loss_32 : decode cX6_loss 32 = .ok (.iload_n 1, 1) := dk_27 (dk_at dksX6_loss_1 8 rfl rfl)
theorem dX6_loss_33 : decode cX6_loss 33 = .ok (.ireturn, 1) := dk_172 (dk_at dksX6_loss_1 9 rfl rfl)
abbrev cX6_isHolding : ByteArray := prog_11_method_14_code
def yX6_isHolding : MethodName := ⟨RX6, "isHolding", "()Z"⟩
def dkwX6_isHolding_2 : List UInt8 := [180, 0, 42, 29, 46, 120, 128, 60, 132, 3, 1, 167, 255, 203, 28, 172]
abbrev dktX6_isHolding_2 : List UInt8 := dkwX6_isHolding_2 ++ []
def dkwX6_isHolding_1 : List UInt8 := [16, 20, 42, 180, 0, 42, 29, 46, 96, 46, 27, 126, 154, 0, 7, 4, 167, 0, 4, 3, 61, 27, 4, 42]
abbrev dktX6_isHolding_1 : List UInt8 := dkwX6_isHolding_1 ++ dktX6_isHolding_2
def dkwX6_isHolding_0 : List UInt8 := [3, 60, 4, 61, 3, 62, 29, 42, 180, 0, 7, 3, 46, 162, 0, 49, 28, 153, 0, 26, 42, 180, 0, 7]
abbrev dktX6_isHolding_0 : List UInt8 := dkwX6_isHolding_0 ++ dktX6_isHolding_1
theorem dksX6_isHolding_0 : cX6_isHolding.data.toList.drop 0 = dktX6_isHolding_0 := by decide +kernel
theorem dksX6_isHolding_1 : cX6_isHolding.data.toList.drop 24 = dktX6_isHolding_1 := dk_seg dksX6_isHolding_0 24 rfl rfl
theorem dksX6_isHolding_2 : cX6_isHolding.data.toList.drop 48 = dktX6_isHolding_2 := dk_seg dksX6_isHolding_1 24 rfl rfl
theorem dX6_isHolding_0 : decode cX6_isHolding 0 = .ok (.iconst 0, 1) := dk_3 (dk_at dksX6_isHolding_0 0 rfl rfl)
theorem dX6_isHolding_1 : decode cX6_isHolding 1 = .ok (.istore_n 1, 1) := dk_60 (dk_at dksX6_isHolding_0 1 rfl rfl)
theorem dX6_isHolding_2 : decode cX6_isHolding 2 = .ok (.iconst 1, 1) := dk_4 (dk_at dksX6_isHolding_0 2 rfl rfl)
theorem dX6_isHolding_3 : decode cX6_isHolding 3 = .ok (.istore_n 2, 1) := dk_61 (dk_at dksX6_isHolding_0 3 rfl rfl)
theorem dX6_isHolding_4 : decode cX6_isHolding 4 = .ok (.iconst 0, 1) := dk_3 (dk_at dksX6_isHolding_0 4 rfl rfl)
theorem dX6_isHolding_5 : decode cX6_isHolding 5 = .ok (.istore_n 3, 1) := dk_62 (dk_at dksX6_isHolding_0 5 rfl rfl)
theorem dX6_isHolding_6 : decode cX6_isHolding 6 = .ok (.iload_n 3, 1) := dk_29 (dk_at dksX6_isHolding_0 6 rfl rfl)
theorem dX6_isHolding_7 : decode cX6_isHolding 7 = .ok (.aload_n 0, 1) := dk_42 (dk_at dksX6_isHolding_0 7 rfl rfl)
theorem dX6_isHolding_8 : decode cX6_isHolding 8 = .ok (.getfield 7, 3) := dk_180 0 7 (dk_at dksX6_isHolding_0 8 rfl rfl)
theorem dX6_isHolding_11 : decode cX6_isHolding 11 = .ok (.iconst 0, 1) := dk_3 (dk_at dksX6_isHolding_0 11 rfl rfl)
theorem dX6_isHolding_12 : decode cX6_isHolding 12 = .ok (.iaload, 1) := dk_46 (dk_at dksX6_isHolding_0 12 rfl rfl)
theorem dX6_isHolding_13 : decode cX6_isHolding 13 = .ok (.if_icmp .ge 49, 3) := dk_162 0 49 (dk_at dksX6_isHolding_0 13 rfl rfl)
theorem dX6_isHolding_16 : decode cX6_isHolding 16 = .ok (.iload_n 2, 1) := dk_28 (dk_at dksX6_isHolding_0 16 rfl rfl)
theorem dX6_isHolding_17 : decode cX6_isHolding 17 = .ok (.ifCond .eq 26, 3) := dk_153 0 26 (dk_at dksX6_isHolding_0 17 rfl rfl)
theorem dX6_isHolding_20 : decode cX6_isHolding 20 = .ok (.aload_n 0, 1) := dk_42 (dk_at dksX6_isHolding_0 20 rfl rfl)
theorem dX6_isHolding_21 : decode cX6_isHolding 21 = .ok (.getfield 7, 3) := dk_180 0 7 (dk_at dksX6_isHolding_0 21 rfl rfl)
theorem dX6_isHolding_24 : decode cX6_isHolding 24 = .ok (.bipush 20, 2) := dk_16 20 (dk_at dksX6_isHolding_1 0 rfl rfl)
theorem dX6_isHolding_26 : decode cX6_isHolding 26 = .ok (.aload_n 0, 1) := dk_42 (dk_at dksX6_isHolding_1 2 rfl rfl)
theorem dX6_isHolding_27 : decode cX6_isHolding 27 = .ok (.getfield 42, 3) := dk_180 0 42 (dk_at dksX6_isHolding_1 3 rfl rfl)
theorem dX6_isHolding_30 : decode cX6_isHolding 30 = .ok (.iload_n 3, 1) := dk_29 (dk_at dksX6_isHolding_1 6 rfl rfl)
theorem dX6_isHolding_31 : decode cX6_isHolding 31 = .ok (.iaload, 1) := dk_46 (dk_at dksX6_isHolding_1 7 rfl rfl)
theorem dX6_isHolding_32 : decode cX6_isHolding 32 = .ok (.iadd, 1) := dk_96 (dk_at dksX6_isHolding_1 8 rfl rfl)
theorem dX6_isHolding_33 : decode cX6_isHolding 33 = .ok (.iaload, 1) := dk_46 (dk_at dksX6_isHolding_1 9 rfl rfl)
theorem dX6_isHolding_34 : decode cX6_isHolding 34 = .ok (.iload_n 1, 1) := dk_27 (dk_at dksX6_isHolding_1 10 rfl rfl)
theorem dX6_isHolding_35 : decode cX6_isHolding 35 = .ok (.iand, 1) := dk_126 (dk_at dksX6_isHolding_1 11 rfl rfl)
theorem dX6_isHolding_36 : decode cX6_isHolding 36 = .ok (.ifCond .ne 7, 3) := dk_154 0 7 (dk_at dksX6_isHolding_1 12 rfl rfl)
theorem dX6_isHolding_39 : decode cX6_isHolding 39 = .ok (.iconst 1, 1) := dk_4 (dk_at dksX6_isHolding_1 15 rfl rfl)
theorem dX6_isHolding_40 : decode cX6_isHolding 40 = .ok (.goto 4, 3) := dk_167 0 4 (dk_at dksX6_isHolding_1 16 rfl rfl)
theorem dX6_isHolding_43 : decode cX6_isHolding 43 = .ok (.iconst 0, 1) := dk_3 (dk_at dksX6_isHolding_1 19 rfl rfl)
theorem dX6_isHolding_44 : decode cX6_isHolding 44 = .ok (.istore_n 2, 1) := dk_61 (dk_at dksX6_isHolding_1 20 rfl rfl)
theorem dX6_isHolding_45 : decode cX6_isHolding 45 = .ok (.iload_n 1, 1) := dk_27 (dk_at dksX6_isHolding_1 21 rfl rfl)
theorem dX6_isHolding_46 : decode cX6_isHolding 46 = .ok (.iconst 1, 1) := dk_4 (dk_at dksX6_isHolding_1 22 rfl rfl)
theorem dX6_isHolding_47 : decode cX6_isHolding 47 = .ok (.aload_n 0, 1) := dk_42 (dk_at dksX6_isHolding_1 23 rfl rfl)
theorem dX6_isHolding_48 : decode cX6_isHolding 48 = .ok (.getfield 42, 3) := dk_180 0 42 (dk_at dksX6_isHolding_2 0 rfl rfl)
theorem dX6_isHolding_51 : decode cX6_isHolding 51 = .ok (.iload_n 3, 1) := dk_29 (dk_at dksX6_isHolding_2 3 rfl rfl)
theorem dX6_isHolding_52 : decode cX6_isHolding 52 = .ok (.iaload, 1) := dk_46 (dk_at dksX6_isHolding_2 4 rfl rfl)
theorem dX6_isHolding_53 : decode cX6_isHolding 53 = .ok (.ishl, 1) := dk_120 (dk_at dksX6_isHolding_2 5 rfl rfl)
theorem dX6_isHolding_54 : decode cX6_isHolding 54 = .ok (.ior, 1) := dk_128 (dk_at dksX6_isHolding_2 6 rfl rfl)
theorem dX6_isHolding_55 : decode cX6_isHolding 55 = .ok (.istore_n 1, 1) := dk_60 (dk_at dksX6_isHolding_2 7 rfl rfl)
theorem dX6_isHolding_56 : decode cX6_isHolding 56 = .ok (.iinc 3 1, 3) := dk_132 3 1 (dk_at dksX6_isHolding_2 8 rfl rfl)
theorem dX6_isHolding_59 : decode cX6_isHolding 59 = .ok (.goto (-53), 3) := dk_167 255 203 (dk_at dksX6_isHolding_2 11 rfl rfl)
theorem dX6_isHolding_62 : decode cX6_isHolding 62 = .ok (.iload_n 2, 1) := dk_28 (dk_at dksX6_isHolding_2 14 rfl rfl)
theorem dX6_isHolding_63 : decode cX6_isHolding 63 = .ok (.ireturn, 1) := dk_172 (dk_at dksX6_isHolding_2 15 rfl rfl)
abbrev cX6_best : ByteArray := prog_11_method_27_code
def yX6_best : MethodName := ⟨RX6, "best", "(I)I"⟩
def dkwX6_best_3 : List UInt8 := [160, 0, 10, 42, 182, 0, 118, 167, 0, 7, 42, 182, 0, 121, 172]
abbrev dktX6_best_3 : List UInt8 := dkwX6_best_3 ++ []
def dkwX6_best_2 : List UInt8 := [180, 0, 140, 172, 42, 182, 0, 151, 27, 6, 160, 0, 10, 42, 182, 0, 114, 167, 0, 19, 27, 7]
abbrev dktX6_best_2 : List UInt8 := dkwX6_best_2 ++ dktX6_best_3
def dkwX6_best_1 : List UInt8 := [154, 0, 10, 42, 180, 0, 131, 167, 0, 19, 27, 4, 160, 0, 10, 42, 180, 0, 137, 167, 0, 7, 42]
abbrev dktX6_best_1 : List UInt8 := dkwX6_best_1 ++ dktX6_best_2
def dkwX6_best_0 : List UInt8 := [27, 133, 9, 20, 0, 146, 184, 0, 71, 154, 0, 5, 2, 172, 27, 6, 162, 0, 35, 42, 182, 0, 148, 27]
abbrev dktX6_best_0 : List UInt8 := dkwX6_best_0 ++ dktX6_best_1
theorem dksX6_best_0 : cX6_best.data.toList.drop 0 = dktX6_best_0 := by decide +kernel
theorem dksX6_best_1 : cX6_best.data.toList.drop 24 = dktX6_best_1 := dk_seg dksX6_best_0 24 rfl rfl
theorem dksX6_best_2 : cX6_best.data.toList.drop 47 = dktX6_best_2 := dk_seg dksX6_best_1 23 rfl rfl
theorem dksX6_best_3 : cX6_best.data.toList.drop 69 = dktX6_best_3 := dk_seg dksX6_best_2 22 rfl rfl
theorem dX6_best_0 : decode cX6_best 0 = .ok (.iload_n 1, 1) := dk_27 (dk_at dksX6_best_0 0 rfl rfl)
theorem dX6_best_1 : decode cX6_best 1 = .ok (.i2l, 1) := dk_133 (dk_at dksX6_best_0 1 rfl rfl)
theorem dX6_best_2 : decode cX6_best 2 = .ok (.lconst 0, 1) := dk_9 (dk_at dksX6_best_0 2 rfl rfl)
theorem dX6_best_3 : decode cX6_best 3 = .ok (.ldc2_w 146, 3) := dk_20 0 146 (dk_at dksX6_best_0 3 rfl rfl)
theorem dX6_best_6 : decode cX6_best 6 = .ok (.invokestatic 71, 3) := dk_184 0 71 (dk_at dksX6_best_0 6 rfl rfl)
theorem dX6_best_9 : decode cX6_best 9 = .ok (.ifCond .ne 5, 3) := dk_154 0 5 (dk_at dksX6_best_0 9 rfl rfl)
theorem dX6_best_12 : decode cX6_best 12 = .ok (.iconst (-1), 1) := dk_2 (dk_at dksX6_best_0 12 rfl rfl)
theorem dX6_best_13 : decode cX6_best 13 = .ok (.ireturn, 1) := dk_172 (dk_at dksX6_best_0 13 rfl rfl)
theorem dX6_best_14 : decode cX6_best 14 = .ok (.iload_n 1, 1) := dk_27 (dk_at dksX6_best_0 14 rfl rfl)
theorem dX6_best_15 : decode cX6_best 15 = .ok (.iconst 3, 1) := dk_6 (dk_at dksX6_best_0 15 rfl rfl)
theorem dX6_best_16 : decode cX6_best 16 = .ok (.if_icmp .ge 35, 3) := dk_162 0 35 (dk_at dksX6_best_0 16 rfl rfl)
theorem dX6_best_19 : decode cX6_best 19 = .ok (.aload_n 0, 1) := dk_42 (dk_at dksX6_best_0 19 rfl rfl)
theorem dX6_best_20 : decode cX6_best 20 = .ok (.invokevirtual 148, 3) := dk_182 0 148 (dk_at dksX6_best_0 20 rfl rfl)
theorem dX6_best_23 : decode cX6_best 23 = .ok (.iload_n 1, 1) := dk_27 (dk_at dksX6_best_0 23 rfl rfl)
theorem dX6_best_24 : decode cX6_best 24 = .ok (.ifCond .ne 10, 3) := dk_154 0 10 (dk_at dksX6_best_1 0 rfl rfl)
theorem dX6_best_27 : decode cX6_best 27 = .ok (.aload_n 0, 1) := dk_42 (dk_at dksX6_best_1 3 rfl rfl)
theorem dX6_best_28 : decode cX6_best 28 = .ok (.getfield 131, 3) := dk_180 0 131 (dk_at dksX6_best_1 4 rfl rfl)
theorem dX6_best_31 : decode cX6_best 31 = .ok (.goto 19, 3) := dk_167 0 19 (dk_at dksX6_best_1 7 rfl rfl)
theorem dX6_best_34 : decode cX6_best 34 = .ok (.iload_n 1, 1) := dk_27 (dk_at dksX6_best_1 10 rfl rfl)
theorem dX6_best_35 : decode cX6_best 35 = .ok (.iconst 1, 1) := dk_4 (dk_at dksX6_best_1 11 rfl rfl)
theorem dX6_best_36 : decode cX6_best 36 = .ok (.if_icmp .ne 10, 3) := dk_160 0 10 (dk_at dksX6_best_1 12 rfl rfl)
theorem dX6_best_39 : decode cX6_best 39 = .ok (.aload_n 0, 1) := dk_42 (dk_at dksX6_best_1 15 rfl rfl)
theorem dX6_best_40 : decode cX6_best 40 = .ok (.getfield 137, 3) := dk_180 0 137 (dk_at dksX6_best_1 16 rfl rfl)
theorem dX6_best_43 : decode cX6_best 43 = .ok (.goto 7, 3) := dk_167 0 7 (dk_at dksX6_best_1 19 rfl rfl)
theorem dX6_best_46 : decode cX6_best 46 = .ok (.aload_n 0, 1) := dk_42 (dk_at dksX6_best_1 22 rfl rfl)
theorem dX6_best_47 : decode cX6_best 47 = .ok (.getfield 140, 3) := dk_180 0 140 (dk_at dksX6_best_2 0 rfl rfl)
theorem dX6_best_50 : decode cX6_best 50 = .ok (.ireturn, 1) := dk_172 (dk_at dksX6_best_2 3 rfl rfl)
theorem dX6_best_51 : decode cX6_best 51 = .ok (.aload_n 0, 1) := dk_42 (dk_at dksX6_best_2 4 rfl rfl)
theorem dX6_best_52 : decode cX6_best 52 = .ok (.invokevirtual 151, 3) := dk_182 0 151 (dk_at dksX6_best_2 5 rfl rfl)
theorem dX6_best_55 : decode cX6_best 55 = .ok (.iload_n 1, 1) := dk_27 (dk_at dksX6_best_2 8 rfl rfl)
theorem dX6_best_56 : decode cX6_best 56 = .ok (.iconst 3, 1) := dk_6 (dk_at dksX6_best_2 9 rfl rfl)
theorem dX6_best_57 : decode cX6_best 57 = .ok (.if_icmp .ne 10, 3) := dk_160 0 10 (dk_at dksX6_best_2 10 rfl rfl)
theorem dX6_best_60 : decode cX6_best 60 = .ok (.aload_n 0, 1) := dk_42 (dk_at dksX6_best_2 13 rfl rfl)
theorem dX6_best_61 : decode cX6_best 61 = .ok (.invokevirtual 114, 3) := dk_182 0 114 (dk_at dksX6_best_2 14 rfl rfl)
theorem dX6_best_64 : decode cX6_best 64 = .ok (.goto 19, 3) := dk_167 0 19 (dk_at dksX6_best_2 17 rfl rfl)
theorem dX6_best_67 : decode cX6_best 67 = .ok (.iload_n 1, 1) := dk_27 (dk_at dksX6_best_2 20 rfl rfl)
theorem dX6_best_68 : decode cX6_best 68 = .ok (.iconst 4, 1) := dk_7 (dk_at dksX6_best_2 21 rfl rfl)
theorem dX6_best_69 : decode cX6_best 69 = .ok (.if_icmp .ne 10, 3) := dk_160 0 10 (dk_at dksX6_best_3 0 rfl rfl)
theorem dX6_best_72 : decode cX6_best 72 = .ok (.aload_n 0, 1) := dk_42 (dk_at dksX6_best_3 3 rfl rfl)
theorem dX6_best_73 : decode cX6_best 73 = .ok (.invokevirtual 118, 3) := dk_182 0 118 (dk_at dksX6_best_3 4 rfl rfl)
theorem dX6_best_76 : decode cX6_best 76 = .ok (.goto 7, 3) := dk_167 0 7 (dk_at dksX6_best_3 7 rfl rfl)
theorem dX6_best_79 : decode cX6_best 79 = .ok (.aload_n 0, 1) := dk_42 (dk_at dksX6_best_3 10 rfl rfl)
theorem dX6_best_80 : decode cX6_best 80 = .ok (.invokevirtual 121, 3) := dk_182 0 121 (dk_at dksX6_best_3 11 rfl rfl)
theorem dX6_best_83 : decode cX6_best 83 = .ok (.ireturn, 1) := dk_172 (dk_at dksX6_best_3 14 rfl rfl)
abbrev cX6_laysBest : ByteArray := prog_11_method_25_code
def yX6_laysBest : MethodName := ⟨RX6, "laysBest", "()V"⟩
def dkwX6_laysBest_4 : List UInt8 := [177]
abbrev dktX6_laysBest_4 : List UInt8 := dkwX6_laysBest_4 ++ []
def dkwX6_laysBest_3 : List UInt8 := [182, 0, 114, 181, 0, 131, 42, 28, 181, 0, 137, 42, 29, 181, 0, 140, 42, 182, 0, 143, 60, 167, 255, 177]
abbrev dktX6_laysBest_3 : List UInt8 := dkwX6_laysBest_3 ++ dktX6_laysBest_4
def dkwX6_laysBest_2 : List UInt8 := [180, 0, 137, 161, 0, 19, 28, 42, 180, 0, 137, 160, 0, 29, 29, 42, 180, 0, 140, 162, 0, 21, 42, 42]
abbrev dktX6_laysBest_2 : List UInt8 := dkwX6_laysBest_2 ++ dktX6_laysBest_3
def dkwX6_laysBest_1 : List UInt8 := [182, 0, 99, 42, 182, 0, 118, 61, 42, 182, 0, 121, 62, 42, 180, 0, 131, 155, 0, 27, 28, 42]
abbrev dktX6_laysBest_1 : List UInt8 := dkwX6_laysBest_1 ++ dktX6_laysBest_2
def dkwX6_laysBest_0 : List UInt8 := [42, 16, 252, 181, 0, 131, 42, 182, 0, 134, 4, 60, 27, 153, 0, 81, 42, 182, 0, 124, 153, 0, 66, 42]
abbrev dktX6_laysBest_0 : List UInt8 := dkwX6_laysBest_0 ++ dktX6_laysBest_1
theorem dksX6_laysBest_0 : cX6_laysBest.data.toList.drop 0 = dktX6_laysBest_0 := by decide +kernel
theorem dksX6_laysBest_1 : cX6_laysBest.data.toList.drop 24 = dktX6_laysBest_1 := dk_seg dksX6_laysBest_0 24 rfl rfl
theorem dksX6_laysBest_2 : cX6_laysBest.data.toList.drop 46 = dktX6_laysBest_2 := dk_seg dksX6_laysBest_1 22 rfl rfl
theorem dksX6_laysBest_3 : cX6_laysBest.data.toList.drop 70 = dktX6_laysBest_3 := dk_seg dksX6_laysBest_2 24 rfl rfl
theorem dksX6_laysBest_4 : cX6_laysBest.data.toList.drop 94 = dktX6_laysBest_4 := dk_seg dksX6_laysBest_3 24 rfl rfl
theorem dX6_laysBest_0 : decode cX6_laysBest 0 = .ok (.aload_n 0, 1) := dk_42 (dk_at dksX6_laysBest_0 0 rfl rfl)
theorem dX6_laysBest_1 : decode cX6_laysBest 1 = .ok (.bipush (-4), 2) := dk_16 252 (dk_at dksX6_laysBest_0 1 rfl rfl)
theorem dX6_laysBest_3 : decode cX6_laysBest 3 = .ok (.putfield 131, 3) := dk_181 0 131 (dk_at dksX6_laysBest_0 3 rfl rfl)
theorem dX6_laysBest_6 : decode cX6_laysBest 6 = .ok (.aload_n 0, 1) := dk_42 (dk_at dksX6_laysBest_0 6 rfl rfl)
theorem dX6_laysBest_7 : decode cX6_laysBest 7 = .ok (.invokevirtual 134, 3) := dk_182 0 134 (dk_at dksX6_laysBest_0 7 rfl rfl)
theorem dX6_laysBest_10 : decode cX6_laysBest 10 = .ok (.iconst 1, 1) := dk_4 (dk_at dksX6_laysBest_0 10 rfl rfl)
theorem dX6_laysBest_11 : decode cX6_laysBest 11 = .ok (.istore_n 1, 1) := dk_60 (dk_at dksX6_laysBest_0 11 rfl rfl)
theorem dX6_laysBest_12 : decode cX6_laysBest 12 = .ok (.iload_n 1, 1) := dk_27 (dk_at dksX6_laysBest_0 12 rfl rfl)
theorem dX6_laysBest_13 : decode cX6_laysBest 13 = .ok (.ifCond .eq 81, 3) := dk_153 0 81 (dk_at dksX6_laysBest_0 13 rfl rfl)
theorem dX6_laysBest_16 : decode cX6_laysBest 16 = .ok (.aload_n 0, 1) := dk_42 (dk_at dksX6_laysBest_0 16 rfl rfl)
theorem dX6_laysBest_17 : decode cX6_laysBest 17 = .ok (.invokevirtual 124, 3) := dk_182 0 124 (dk_at dksX6_laysBest_0 17 rfl rfl)
theorem dX6_laysBest_20 : decode cX6_laysBest 20 = .ok (.ifCond .eq 66, 3) := dk_153 0 66 (dk_at dksX6_laysBest_0 20 rfl rfl)
theorem dX6_laysBest_23 : decode cX6_laysBest 23 = .ok (.aload_n 0, 1) := dk_42 (dk_at dksX6_laysBest_0 23 rfl rfl)
theorem dX6_laysBest_24 : decode cX6_laysBest 24 = .ok (.invokevirtual 99, 3) := dk_182 0 99 (dk_at dksX6_laysBest_1 0 rfl rfl)
theorem dX6_laysBest_27 : decode cX6_laysBest 27 = .ok (.aload_n 0, 1) := dk_42 (dk_at dksX6_laysBest_1 3 rfl rfl)
theorem dX6_laysBest_28 : decode cX6_laysBest 28 = .ok (.invokevirtual 118, 3) := dk_182 0 118 (dk_at dksX6_laysBest_1 4 rfl rfl)
theorem dX6_laysBest_31 : decode cX6_laysBest 31 = .ok (.istore_n 2, 1) := dk_61 (dk_at dksX6_laysBest_1 7 rfl rfl)
theorem dX6_laysBest_32 : decode cX6_laysBest 32 = .ok (.aload_n 0, 1) := dk_42 (dk_at dksX6_laysBest_1 8 rfl rfl)
theorem dX6_laysBest_33 : decode cX6_laysBest 33 = .ok (.invokevirtual 121, 3) := dk_182 0 121 (dk_at dksX6_laysBest_1 9 rfl rfl)
theorem dX6_laysBest_36 : decode cX6_laysBest 36 = .ok (.istore_n 3, 1) := dk_62 (dk_at dksX6_laysBest_1 12 rfl rfl)
theorem dX6_laysBest_37 : decode cX6_laysBest 37 = .ok (.aload_n 0, 1) := dk_42 (dk_at dksX6_laysBest_1 13 rfl rfl)
theorem dX6_laysBest_38 : decode cX6_laysBest 38 = .ok (.getfield 131, 3) := dk_180 0 131 (dk_at dksX6_laysBest_1 14 rfl rfl)
theorem dX6_laysBest_41 : decode cX6_laysBest 41 = .ok (.ifCond .lt 27, 3) := dk_155 0 27 (dk_at dksX6_laysBest_1 17 rfl rfl)
theorem dX6_laysBest_44 : decode cX6_laysBest 44 = .ok (.iload_n 2, 1) := dk_28 (dk_at dksX6_laysBest_1 20 rfl rfl)
theorem dX6_laysBest_45 : decode cX6_laysBest 45 = .ok (.aload_n 0, 1) := dk_42 (dk_at dksX6_laysBest_1 21 rfl rfl)
theorem dX6_laysBest_46 : decode cX6_laysBest 46 = .ok (.getfield 137, 3) := dk_180 0 137 (dk_at dksX6_laysBest_2 0 rfl rfl)
theorem dX6_laysBest_49 : decode cX6_laysBest 49 = .ok (.if_icmp .lt 19, 3) := dk_161 0 19 (dk_at dksX6_laysBest_2 3 rfl rfl)
theorem dX6_laysBest_52 : decode cX6_laysBest 52 = .ok (.iload_n 2, 1) := dk_28 (dk_at dksX6_laysBest_2 6 rfl rfl)
theorem dX6_laysBest_53 : decode cX6_laysBest 53 = .ok (.aload_n 0, 1) := dk_42 (dk_at dksX6_laysBest_2 7 rfl rfl)
theorem dX6_laysBest_54 : decode cX6_laysBest 54 = .ok (.getfield 137, 3) := dk_180 0 137 (dk_at dksX6_laysBest_2 8 rfl rfl)
theorem dX6_laysBest_57 : decode cX6_laysBest 57 = .ok (.if_icmp .ne 29, 3) := dk_160 0 29 (dk_at dksX6_laysBest_2 11 rfl rfl)
theorem dX6_laysBest_60 : decode cX6_laysBest 60 = .ok (.iload_n 3, 1) := dk_29 (dk_at dksX6_laysBest_2 14 rfl rfl)
theorem dX6_laysBest_61 : decode cX6_laysBest 61 = .ok (.aload_n 0, 1) := dk_42 (dk_at dksX6_laysBest_2 15 rfl rfl)
theorem dX6_laysBest_62 : decode cX6_laysBest 62 = .ok (.getfield 140, 3) := dk_180 0 140 (dk_at dksX6_laysBest_2 16 rfl rfl)
theorem dX6_laysBest_65 : decode cX6_laysBest 65 = .ok (.if_icmp .ge 21, 3) := dk_162 0 21 (dk_at dksX6_laysBest_2 19 rfl rfl)
theorem dX6_laysBest_68 : decode cX6_laysBest 68 = .ok (.aload_n 0, 1) := dk_42 (dk_at dksX6_laysBest_2 22 rfl rfl)
theorem dX6_laysBest_69 : decode cX6_laysBest 69 = .ok (.aload_n 0, 1) := dk_42 (dk_at dksX6_laysBest_2 23 rfl rfl)
theorem dX6_laysBest_70 : decode cX6_laysBest 70 = .ok (.invokevirtual 114, 3) := dk_182 0 114 (dk_at dksX6_laysBest_3 0 rfl rfl)
theorem dX6_laysBest_73 : decode cX6_laysBest 73 = .ok (.putfield 131, 3) := dk_181 0 131 (dk_at dksX6_laysBest_3 3 rfl rfl)
theorem dX6_laysBest_76 : decode cX6_laysBest 76 = .ok (.aload_n 0, 1) := dk_42 (dk_at dksX6_laysBest_3 6 rfl rfl)
theorem dX6_laysBest_77 : decode cX6_laysBest 77 = .ok (.iload_n 2, 1) := dk_28 (dk_at dksX6_laysBest_3 7 rfl rfl)
theorem dX6_laysBest_78 : decode cX6_laysBest 78 = .ok (.putfield 137, 3) := dk_181 0 137 (dk_at dksX6_laysBest_3 8 rfl rfl)
theorem dX6_laysBest_81 : decode cX6_laysBest 81 = .ok (.aload_n 0, 1) := dk_42 (dk_at dksX6_laysBest_3 11 rfl rfl)
theorem dX6_laysBest_82 : decode cX6_laysBest 82 = .ok (.iload_n 3, 1) := dk_29 (dk_at dksX6_laysBest_3 12 rfl rfl)
theorem dX6_laysBest_83 : decode cX6_laysBest 83 = .ok (.putfield 140, 3) := dk_181 0 140 (dk_at dksX6_laysBest_3 13 rfl rfl)
theorem dX6_laysBest_86 : decode cX6_laysBest 86 = .ok (.aload_n 0, 1) := dk_42 (dk_at dksX6_laysBest_3 16 rfl rfl)
theorem dX6_laysBest_87 : decode cX6_laysBest 87 = .ok (.invokevirtual 143, 3) := dk_182 0 143 (dk_at dksX6_laysBest_3 17 rfl rfl)
theorem dX6_laysBest_90 : decode cX6_laysBest 90 = .ok (.istore_n 1, 1) := dk_60 (dk_at dksX6_laysBest_3 20 rfl rfl)
theorem dX6_laysBest_91 : decode cX6_laysBest 91 = .ok (.goto (-79), 3) := dk_167 255 177 (dk_at dksX6_laysBest_3 21 rfl rfl)
theorem dX6_laysBest_94 : decode cX6_laysBest 94 = .ok (.return_, 1) := dk_177 (dk_at dksX6_laysBest_4 0 rfl rfl)
abbrev cX6_firstOrder : ByteArray := prog_11_method_17_code
def yX6_firstOrder : MethodName := ⟨RX6, "firstOrder", "()V"⟩
def dkwX6_firstOrder_0 : List UInt8 := [3, 60, 27, 16, 7, 162, 0, 16, 42, 180, 0, 42, 27, 27, 79, 132, 1, 1, 167, 255, 240, 177]
abbrev dktX6_firstOrder_0 : List UInt8 := dkwX6_firstOrder_0 ++ []
theorem dksX6_firstOrder_0 : cX6_firstOrder.data.toList.drop 0 = dktX6_firstOrder_0 := by decide +kernel
theorem dX6_firstOrder_0 : decode cX6_firstOrder 0 = .ok (.iconst 0, 1) := dk_3 (dk_at dksX6_firstOrder_0 0 rfl rfl)
theorem dX6_firstOrder_1 : decode cX6_firstOrder 1 = .ok (.istore_n 1, 1) := dk_60 (dk_at dksX6_firstOrder_0 1 rfl rfl)
theorem dX6_firstOrder_2 : decode cX6_firstOrder 2 = .ok (.iload_n 1, 1) := dk_27 (dk_at dksX6_firstOrder_0 2 rfl rfl)
theorem dX6_firstOrder_3 : decode cX6_firstOrder 3 = .ok (.bipush 7, 2) := dk_16 7 (dk_at dksX6_firstOrder_0 3 rfl rfl)
theorem dX6_firstOrder_5 : decode cX6_firstOrder 5 = .ok (.if_icmp .ge 16, 3) := dk_162 0 16 (dk_at dksX6_firstOrder_0 5 rfl rfl)
theorem dX6_firstOrder_8 : decode cX6_firstOrder 8 = .ok (.aload_n 0, 1) := dk_42 (dk_at dksX6_firstOrder_0 8 rfl rfl)
theorem dX6_firstOrder_9 : decode cX6_firstOrder 9 = .ok (.getfield 42, 3) := dk_180 0 42 (dk_at dksX6_firstOrder_0 9 rfl rfl)
theorem dX6_firstOrder_12 : decode cX6_firstOrder 12 = .ok (.iload_n 1, 1) := dk_27 (dk_at dksX6_firstOrder_0 12 rfl rfl)
theorem dX6_firstOrder_13 : decode cX6_firstOrder 13 = .ok (.iload_n 1, 1) := dk_27 (dk_at dksX6_firstOrder_0 13 rfl rfl)
theorem dX6_firstOrder_14 : decode cX6_firstOrder 14 = .ok (.iastore, 1) := dk_79 (dk_at dksX6_firstOrder_0 14 rfl rfl)
theorem dX6_firstOrder_15 : decode cX6_firstOrder 15 = .ok (.iinc 1 1, 3) := dk_132 1 1 (dk_at dksX6_firstOrder_0 15 rfl rfl)
theorem dX6_firstOrder_18 : decode cX6_firstOrder 18 = .ok (.goto (-16), 3) := dk_167 255 240 (dk_at dksX6_firstOrder_0 18 rfl rfl)
theorem dX6_firstOrder_21 : decode cX6_firstOrder 21 = .ok (.return_, 1) := dk_177 (dk_at dksX6_firstOrder_0 21 rfl rfl)
abbrev cX6_nextOrder : ByteArray := prog_11_method_18_code
def yX6_nextOrder : MethodName := ⟨RX6, "nextOrder", "()Z"⟩
def dkwX6_nextOrder_6 : List UInt8 := [180, 0, 42, 21, 5, 21, 6, 79, 132, 4, 1, 132, 5, 255, 167, 255, 211, 4, 172]
abbrev dktX6_nextOrder_6 : List UInt8 := dkwX6_nextOrder_6 ++ []
def dkwX6_nextOrder_5 : List UInt8 := [42, 180, 0, 42, 21, 4, 46, 54, 6, 42, 180, 0, 42, 21, 4, 42, 180, 0, 42, 21, 5, 46, 79, 42]
abbrev dktX6_nextOrder_5 : List UInt8 := dkwX6_nextOrder_5 ++ dktX6_nextOrder_6
def dkwX6_nextOrder_4 : List UInt8 := [29, 79, 27, 4, 96, 54, 4, 42, 180, 0, 7, 3, 46, 4, 100, 54, 5, 21, 4, 21, 5, 162, 0, 44]
abbrev dktX6_nextOrder_4 : List UInt8 := dkwX6_nextOrder_4 ++ dktX6_nextOrder_5
def dkwX6_nextOrder_3 : List UInt8 := [42, 180, 0, 42, 27, 46, 62, 42, 180, 0, 42, 27, 42, 180, 0, 42, 28, 46, 79, 42, 180, 0, 42, 28]
abbrev dktX6_nextOrder_3 : List UInt8 := dkwX6_nextOrder_3 ++ dktX6_nextOrder_4
def dkwX6_nextOrder_2 : List UInt8 := [4, 100, 61, 42, 180, 0, 42, 28, 46, 42, 180, 0, 42, 27, 46, 162, 0, 9, 132, 2, 255, 167, 255, 238]
abbrev dktX6_nextOrder_2 : List UInt8 := dkwX6_nextOrder_2 ++ dktX6_nextOrder_3
def dkwX6_nextOrder_1 : List UInt8 := [4, 96, 46, 164, 0, 9, 132, 1, 255, 167, 255, 232, 27, 156, 0, 5, 3, 172, 42, 180, 0, 7, 3, 46]
abbrev dktX6_nextOrder_1 : List UInt8 := dkwX6_nextOrder_1 ++ dktX6_nextOrder_2
def dkwX6_nextOrder_0 : List UInt8 := [42, 180, 0, 7, 3, 46, 5, 100, 60, 27, 155, 0, 26, 42, 180, 0, 42, 27, 46, 42, 180, 0, 42, 27]
abbrev dktX6_nextOrder_0 : List UInt8 := dkwX6_nextOrder_0 ++ dktX6_nextOrder_1
theorem dksX6_nextOrder_0 : cX6_nextOrder.data.toList.drop 0 = dktX6_nextOrder_0 := by decide +kernel
theorem dksX6_nextOrder_1 : cX6_nextOrder.data.toList.drop 24 = dktX6_nextOrder_1 := dk_seg dksX6_nextOrder_0 24 rfl rfl
theorem dksX6_nextOrder_2 : cX6_nextOrder.data.toList.drop 48 = dktX6_nextOrder_2 := dk_seg dksX6_nextOrder_1 24 rfl rfl
theorem dksX6_nextOrder_3 : cX6_nextOrder.data.toList.drop 72 = dktX6_nextOrder_3 := dk_seg dksX6_nextOrder_2 24 rfl rfl
theorem dksX6_nextOrder_4 : cX6_nextOrder.data.toList.drop 96 = dktX6_nextOrder_4 := dk_seg dksX6_nextOrder_3 24 rfl rfl
theorem dksX6_nextOrder_5 : cX6_nextOrder.data.toList.drop 120 = dktX6_nextOrder_5 := dk_seg dksX6_nextOrder_4 24 rfl rfl
theorem dksX6_nextOrder_6 : cX6_nextOrder.data.toList.drop 144 = dktX6_nextOrder_6 := dk_seg dksX6_nextOrder_5 24 rfl rfl
theorem dX6_nextOrder_0 : decode cX6_nextOrder 0 = .ok (.aload_n 0, 1) := dk_42 (dk_at dksX6_nextOrder_0 0 rfl rfl)
theorem dX6_nextOrder_1 : decode cX6_nextOrder 1 = .ok (.getfield 7, 3) := dk_180 0 7 (dk_at dksX6_nextOrder_0 1 rfl rfl)
theorem dX6_nextOrder_4 : decode cX6_nextOrder 4 = .ok (.iconst 0, 1) := dk_3 (dk_at dksX6_nextOrder_0 4 rfl rfl)
theorem dX6_nextOrder_5 : decode cX6_nextOrder 5 = .ok (.iaload, 1) := dk_46 (dk_at dksX6_nextOrder_0 5 rfl rfl)
theorem dX6_nextOrder_6 : decode cX6_nextOrder 6 = .ok (.iconst 2, 1) := dk_5 (dk_at dksX6_nextOrder_0 6 rfl rfl)
theorem dX6_nextOrder_7 : decode cX6_nextOrder 7 = .ok (.isub, 1) := dk_100 (dk_at dksX6_nextOrder_0 7 rfl rfl)
theorem dX6_nextOrder_8 : decode cX6_nextOrder 8 = .ok (.istore_n 1, 1) := dk_60 (dk_at dksX6_nextOrder_0 8 rfl rfl)
theorem dX6_nextOrder_9 : decode cX6_nextOrder 9 = .ok (.iload_n 1, 1) := dk_27 (dk_at dksX6_nextOrder_0 9 rfl rfl)
theorem dX6_nextOrder_10 : decode cX6_nextOrder 10 = .ok (.ifCond .lt 26, 3) := dk_155 0 26 (dk_at dksX6_nextOrder_0 10 rfl rfl)
theorem dX6_nextOrder_13 : decode cX6_nextOrder 13 = .ok (.aload_n 0, 1) := dk_42 (dk_at dksX6_nextOrder_0 13 rfl rfl)
theorem dX6_nextOrder_14 : decode cX6_nextOrder 14 = .ok (.getfield 42, 3) := dk_180 0 42 (dk_at dksX6_nextOrder_0 14 rfl rfl)
theorem dX6_nextOrder_17 : decode cX6_nextOrder 17 = .ok (.iload_n 1, 1) := dk_27 (dk_at dksX6_nextOrder_0 17 rfl rfl)
theorem dX6_nextOrder_18 : decode cX6_nextOrder 18 = .ok (.iaload, 1) := dk_46 (dk_at dksX6_nextOrder_0 18 rfl rfl)
theorem dX6_nextOrder_19 : decode cX6_nextOrder 19 = .ok (.aload_n 0, 1) := dk_42 (dk_at dksX6_nextOrder_0 19 rfl rfl)
theorem dX6_nextOrder_20 : decode cX6_nextOrder 20 = .ok (.getfield 42, 3) := dk_180 0 42 (dk_at dksX6_nextOrder_0 20 rfl rfl)
theorem dX6_nextOrder_23 : decode cX6_nextOrder 23 = .ok (.iload_n 1, 1) := dk_27 (dk_at dksX6_nextOrder_0 23 rfl rfl)
theorem dX6_nextOrder_24 : decode cX6_nextOrder 24 = .ok (.iconst 1, 1) := dk_4 (dk_at dksX6_nextOrder_1 0 rfl rfl)
theorem dX6_nextOrder_25 : decode cX6_nextOrder 25 = .ok (.iadd, 1) := dk_96 (dk_at dksX6_nextOrder_1 1 rfl rfl)
theorem dX6_nextOrder_26 : decode cX6_nextOrder 26 = .ok (.iaload, 1) := dk_46 (dk_at dksX6_nextOrder_1 2 rfl rfl)
theorem dX6_nextOrder_27 : decode cX6_nextOrder 27 = .ok (.if_icmp .le 9, 3) := dk_164 0 9 (dk_at dksX6_nextOrder_1 3 rfl rfl)
theorem dX6_nextOrder_30 : decode cX6_nextOrder 30 = .ok (.iinc 1 (-1), 3) := dk_132 1 255 (dk_at dksX6_nextOrder_1 6 rfl rfl)
theorem dX6_nextOrder_33 : decode cX6_nextOrder 33 = .ok (.goto (-24), 3) := dk_167 255 232 (dk_at dksX6_nextOrder_1 9 rfl rfl)
theorem dX6_nextOrder_36 : decode cX6_nextOrder 36 = .ok (.iload_n 1, 1) := dk_27 (dk_at dksX6_nextOrder_1 12 rfl rfl)
theorem dX6_nextOrder_37 : decode cX6_nextOrder 37 = .ok (.ifCond .ge 5, 3) := dk_156 0 5 (dk_at dksX6_nextOrder_1 13 rfl rfl)
theorem dX6_nextOrder_40 : decode cX6_nextOrder 40 = .ok (.iconst 0, 1) := dk_3 (dk_at dksX6_nextOrder_1 16 rfl rfl)
theorem dX6_nextOrder_41 : decode cX6_nextOrder 41 = .ok (.ireturn, 1) := dk_172 (dk_at dksX6_nextOrder_1 17 rfl rfl)
theorem dX6_nextOrder_42 : decode cX6_nextOrder 42 = .ok (.aload_n 0, 1) := dk_42 (dk_at dksX6_nextOrder_1 18 rfl rfl)
theorem dX6_nextOrder_43 : decode cX6_nextOrder 43 = .ok (.getfield 7, 3) := dk_180 0 7 (dk_at dksX6_nextOrder_1 19 rfl rfl)
theorem dX6_nextOrder_46 : decode cX6_nextOrder 46 = .ok (.iconst 0, 1) := dk_3 (dk_at dksX6_nextOrder_1 22 rfl rfl)
theorem dX6_nextOrder_47 : decode cX6_nextOrder 47 = .ok (.iaload, 1) := dk_46 (dk_at dksX6_nextOrder_1 23 rfl rfl)
theorem dX6_nextOrder_48 : decode cX6_nextOrder 48 = .ok (.iconst 1, 1) := dk_4 (dk_at dksX6_nextOrder_2 0 rfl rfl)
theorem dX6_nextOrder_49 : decode cX6_nextOrder 49 = .ok (.isub, 1) := dk_100 (dk_at dksX6_nextOrder_2 1 rfl rfl)
theorem dX6_nextOrder_50 : decode cX6_nextOrder 50 = .ok (.istore_n 2, 1) := dk_61 (dk_at dksX6_nextOrder_2 2 rfl rfl)
theorem dX6_nextOrder_51 : decode cX6_nextOrder 51 = .ok (.aload_n 0, 1) := dk_42 (dk_at dksX6_nextOrder_2 3 rfl rfl)
theorem dX6_nextOrder_52 : decode cX6_nextOrder 52 = .ok (.getfield 42, 3) := dk_180 0 42 (dk_at dksX6_nextOrder_2 4 rfl rfl)
theorem dX6_nextOrder_55 : decode cX6_nextOrder 55 = .ok (.iload_n 2, 1) := dk_28 (dk_at dksX6_nextOrder_2 7 rfl rfl)
theorem dX6_nextOrder_56 : decode cX6_nextOrder 56 = .ok (.iaload, 1) := dk_46 (dk_at dksX6_nextOrder_2 8 rfl rfl)
theorem dX6_nextOrder_57 : decode cX6_nextOrder 57 = .ok (.aload_n 0, 1) := dk_42 (dk_at dksX6_nextOrder_2 9 rfl rfl)
theorem dX6_nextOrder_58 : decode cX6_nextOrder 58 = .ok (.getfield 42, 3) := dk_180 0 42 (dk_at dksX6_nextOrder_2 10 rfl rfl)
theorem dX6_nextOrder_61 : decode cX6_nextOrder 61 = .ok (.iload_n 1, 1) := dk_27 (dk_at dksX6_nextOrder_2 13 rfl rfl)
theorem dX6_nextOrder_62 : decode cX6_nextOrder 62 = .ok (.iaload, 1) := dk_46 (dk_at dksX6_nextOrder_2 14 rfl rfl)
theorem dX6_nextOrder_63 : decode cX6_nextOrder 63 = .ok (.if_icmp .ge 9, 3) := dk_162 0 9 (dk_at dksX6_nextOrder_2 15 rfl rfl)
theorem dX6_nextOrder_66 : decode cX6_nextOrder 66 = .ok (.iinc 2 (-1), 3) := dk_132 2 255 (dk_at dksX6_nextOrder_2 18 rfl rfl)
theorem dX6_nextOrder_69 : decode cX6_nextOrder 69 = .ok (.goto (-18), 3) := dk_167 255 238 (dk_at dksX6_nextOrder_2 21 rfl rfl)
theorem dX6_nextOrder_72 : decode cX6_nextOrder 72 = .ok (.aload_n 0, 1) := dk_42 (dk_at dksX6_nextOrder_3 0 rfl rfl)
theorem dX6_nextOrder_73 : decode cX6_nextOrder 73 = .ok (.getfield 42, 3) := dk_180 0 42 (dk_at dksX6_nextOrder_3 1 rfl rfl)
theorem dX6_nextOrder_76 : decode cX6_nextOrder 76 = .ok (.iload_n 1, 1) := dk_27 (dk_at dksX6_nextOrder_3 4 rfl rfl)
theorem dX6_nextOrder_77 : decode cX6_nextOrder 77 = .ok (.iaload, 1) := dk_46 (dk_at dksX6_nextOrder_3 5 rfl rfl)
theorem dX6_nextOrder_78 : decode cX6_nextOrder 78 = .ok (.istore_n 3, 1) := dk_62 (dk_at dksX6_nextOrder_3 6 rfl rfl)
theorem dX6_nextOrder_79 : decode cX6_nextOrder 79 = .ok (.aload_n 0, 1) := dk_42 (dk_at dksX6_nextOrder_3 7 rfl rfl)
theorem dX6_nextOrder_80 : decode cX6_nextOrder 80 = .ok (.getfield 42, 3) := dk_180 0 42 (dk_at dksX6_nextOrder_3 8 rfl rfl)
theorem dX6_nextOrder_83 : decode cX6_nextOrder 83 = .ok (.iload_n 1, 1) := dk_27 (dk_at dksX6_nextOrder_3 11 rfl rfl)
theorem dX6_nextOrder_84 : decode cX6_nextOrder 84 = .ok (.aload_n 0, 1) := dk_42 (dk_at dksX6_nextOrder_3 12 rfl rfl)
theorem dX6_nextOrder_85 : decode cX6_nextOrder 85 = .ok (.getfield 42, 3) := dk_180 0 42 (dk_at dksX6_nextOrder_3 13 rfl rfl)
theorem dX6_nextOrder_88 : decode cX6_nextOrder 88 = .ok (.iload_n 2, 1) := dk_28 (dk_at dksX6_nextOrder_3 16 rfl rfl)
theorem dX6_nextOrder_89 : decode cX6_nextOrder 89 = .ok (.iaload, 1) := dk_46 (dk_at dksX6_nextOrder_3 17 rfl rfl)
theorem dX6_nextOrder_90 : decode cX6_nextOrder 90 = .ok (.iastore, 1) := dk_79 (dk_at dksX6_nextOrder_3 18 rfl rfl)
theorem dX6_nextOrder_91 : decode cX6_nextOrder 91 = .ok (.aload_n 0, 1) := dk_42 (dk_at dksX6_nextOrder_3 19 rfl rfl)
theorem dX6_nextOrder_92 : decode cX6_nextOrder 92 = .ok (.getfield 42, 3) := dk_180 0 42 (dk_at dksX6_nextOrder_3 20 rfl rfl)
theorem dX6_nextOrder_95 : decode cX6_nextOrder 95 = .ok (.iload_n 2, 1) := dk_28 (dk_at dksX6_nextOrder_3 23 rfl rfl)
theorem dX6_nextOrder_96 : decode cX6_nextOrder 96 = .ok (.iload_n 3, 1) := dk_29 (dk_at dksX6_nextOrder_4 0 rfl rfl)
theorem dX6_nextOrder_97 : decode cX6_nextOrder 97 = .ok (.iastore, 1) := dk_79 (dk_at dksX6_nextOrder_4 1 rfl rfl)
theorem dX6_nextOrder_98 : decode cX6_nextOrder 98 = .ok (.iload_n 1, 1) := dk_27 (dk_at dksX6_nextOrder_4 2 rfl rfl)
theorem dX6_nextOrder_99 : decode cX6_nextOrder 99 = .ok (.iconst 1, 1) := dk_4 (dk_at dksX6_nextOrder_4 3 rfl rfl)
theorem dX6_nextOrder_100 : decode cX6_nextOrder 100 = .ok (.iadd, 1) := dk_96 (dk_at dksX6_nextOrder_4 4 rfl rfl)
theorem dX6_nextOrder_101 : decode cX6_nextOrder 101 = .ok (.istore 4, 2) := dk_54 4 (dk_at dksX6_nextOrder_4 5 rfl rfl)
theorem dX6_nextOrder_103 : decode cX6_nextOrder 103 = .ok (.aload_n 0, 1) := dk_42 (dk_at dksX6_nextOrder_4 7 rfl rfl)
theorem dX6_nextOrder_104 : decode cX6_nextOrder 104 = .ok (.getfield 7, 3) := dk_180 0 7 (dk_at dksX6_nextOrder_4 8 rfl rfl)
theorem dX6_nextOrder_107 : decode cX6_nextOrder 107 = .ok (.iconst 0, 1) := dk_3 (dk_at dksX6_nextOrder_4 11 rfl rfl)
theorem dX6_nextOrder_108 : decode cX6_nextOrder 108 = .ok (.iaload, 1) := dk_46 (dk_at dksX6_nextOrder_4 12 rfl rfl)
theorem dX6_nextOrder_109 : decode cX6_nextOrder 109 = .ok (.iconst 1, 1) := dk_4 (dk_at dksX6_nextOrder_4 13 rfl rfl)
theorem dX6_nextOrder_110 : decode cX6_nextOrder 110 = .ok (.isub, 1) := dk_100 (dk_at dksX6_nextOrder_4 14 rfl rfl)
theorem dX6_nextOrder_111 : decode cX6_nextOrder 111 = .ok (.istore 5, 2) := dk_54 5 (dk_at dksX6_nextOrder_4 15 rfl rfl)
theorem dX6_nextOrder_113 : decode cX6_nextOrder 113 = .ok (.iload 4, 2) := dk_21 4 (dk_at dksX6_nextOrder_4 17 rfl rfl)
theorem dX6_nextOrder_115 : decode cX6_nextOrder 115 = .ok (.iload 5, 2) := dk_21 5 (dk_at dksX6_nextOrder_4 19 rfl rfl)
theorem dX6_nextOrder_117 : decode cX6_nextOrder 117 = .ok (.if_icmp .ge 44, 3) := dk_162 0 44 (dk_at dksX6_nextOrder_4 21 rfl rfl)
theorem dX6_nextOrder_120 : decode cX6_nextOrder 120 = .ok (.aload_n 0, 1) := dk_42 (dk_at dksX6_nextOrder_5 0 rfl rfl)
theorem dX6_nextOrder_121 : decode cX6_nextOrder 121 = .ok (.getfield 42, 3) := dk_180 0 42 (dk_at dksX6_nextOrder_5 1 rfl rfl)
theorem dX6_nextOrder_124 : decode cX6_nextOrder 124 = .ok (.iload 4, 2) := dk_21 4 (dk_at dksX6_nextOrder_5 4 rfl rfl)
theorem dX6_nextOrder_126 : decode cX6_nextOrder 126 = .ok (.iaload, 1) := dk_46 (dk_at dksX6_nextOrder_5 6 rfl rfl)
theorem dX6_nextOrder_127 : decode cX6_nextOrder 127 = .ok (.istore 6, 2) := dk_54 6 (dk_at dksX6_nextOrder_5 7 rfl rfl)
theorem dX6_nextOrder_129 : decode cX6_nextOrder 129 = .ok (.aload_n 0, 1) := dk_42 (dk_at dksX6_nextOrder_5 9 rfl rfl)
theorem dX6_nextOrder_130 : decode cX6_nextOrder 130 = .ok (.getfield 42, 3) := dk_180 0 42 (dk_at dksX6_nextOrder_5 10 rfl rfl)
theorem dX6_nextOrder_133 : decode cX6_nextOrder 133 = .ok (.iload 4, 2) := dk_21 4 (dk_at dksX6_nextOrder_5 13 rfl rfl)
theorem dX6_nextOrder_135 : decode cX6_nextOrder 135 = .ok (.aload_n 0, 1) := dk_42 (dk_at dksX6_nextOrder_5 15 rfl rfl)
theorem dX6_nextOrder_136 : decode cX6_nextOrder 136 = .ok (.getfield 42, 3) := dk_180 0 42 (dk_at dksX6_nextOrder_5 16 rfl rfl)
theorem dX6_nextOrder_139 : decode cX6_nextOrder 139 = .ok (.iload 5, 2) := dk_21 5 (dk_at dksX6_nextOrder_5 19 rfl rfl)
theorem dX6_nextOrder_141 : decode cX6_nextOrder 141 = .ok (.iaload, 1) := dk_46 (dk_at dksX6_nextOrder_5 21 rfl rfl)
theorem dX6_nextOrder_142 : decode cX6_nextOrder 142 = .ok (.iastore, 1) := dk_79 (dk_at dksX6_nextOrder_5 22 rfl rfl)
theorem dX6_nextOrder_143 : decode cX6_nextOrder 143 = .ok (.aload_n 0, 1) := dk_42 (dk_at dksX6_nextOrder_5 23 rfl rfl)
theorem dX6_nextOrder_144 : decode cX6_nextOrder 144 = .ok (.getfield 42, 3) := dk_180 0 42 (dk_at dksX6_nextOrder_6 0 rfl rfl)
theorem dX6_nextOrder_147 : decode cX6_nextOrder 147 = .ok (.iload 5, 2) := dk_21 5 (dk_at dksX6_nextOrder_6 3 rfl rfl)
theorem dX6_nextOrder_149 : decode cX6_nextOrder 149 = .ok (.iload 6, 2) := dk_21 6 (dk_at dksX6_nextOrder_6 5 rfl rfl)
theorem dX6_nextOrder_151 : decode cX6_nextOrder 151 = .ok (.iastore, 1) := dk_79 (dk_at dksX6_nextOrder_6 7 rfl rfl)
theorem dX6_nextOrder_152 : decode cX6_nextOrder 152 = .ok (.iinc 4 1, 3) := dk_132 4 1 (dk_at dksX6_nextOrder_6 8 rfl rfl)
theorem dX6_nextOrder_155 : decode cX6_nextOrder 155 = .ok (.iinc 5 (-1), 3) := dk_132 5 255 (dk_at dksX6_nextOrder_6 11 rfl rfl)
theorem dX6_nextOrder_158 : decode cX6_nextOrder 158 = .ok (.goto (-45), 3) := dk_167 255 211 (dk_at dksX6_nextOrder_6 14 rfl rfl)
theorem dX6_nextOrder_161 : decode cX6_nextOrder 161 = .ok (.iconst 1, 1) := dk_4 (dk_at dksX6_nextOrder_6 17 rfl rfl)
theorem dX6_nextOrder_162 : decode cX6_nextOrder 162 = .ok (.ireturn, 1) := dk_172 (dk_at dksX6_nextOrder_6 18 rfl rfl)
abbrev cX6_grows : ByteArray := prog_11_method_26_code
def yX6_grows : MethodName := ⟨RX6, "grows", "()V"⟩
def dkwX6_grows_10 : List UInt8 := [132, 2, 1, 167, 255, 35, 177]
abbrev dktX6_grows_10 : List UInt8 := dkwX6_grows_10 ++ []
def dkwX6_grows_9 : List UInt8 := [180, 0, 42, 28, 29, 79, 27, 4, 29, 120, 2, 130, 126, 60, 42, 28, 42, 28, 182, 0, 86, 182, 0, 89]
abbrev dktX6_grows_9 : List UInt8 := dkwX6_grows_9 ++ dktX6_grows_10
def dkwX6_grows_8 : List UInt8 := [21, 5, 164, 0, 14, 21, 6, 62, 21, 7, 54, 4, 21, 8, 54, 5, 132, 6, 1, 167, 255, 88, 42]
abbrev dktX6_grows_8 : List UInt8 := dkwX6_grows_8 ++ dktX6_grows_9
def dkwX6_grows_7 : List UInt8 := [167, 255, 170, 29, 155, 0, 24, 21, 7, 21, 4, 161, 0, 17, 21, 7, 21, 4, 160, 0, 21, 21, 8]
abbrev dktX6_grows_7 : List UInt8 := dkwX6_grows_7 ++ dktX6_grows_8
def dkwX6_grows_6 : List UInt8 := [153, 0, 17, 42, 180, 0, 45, 21, 9, 46, 158, 0, 7, 4, 167, 0, 4, 3, 96, 54, 8, 132, 9, 1]
abbrev dktX6_grows_6 : List UInt8 := dkwX6_grows_6 ++ dktX6_grows_7
def dkwX6_grows_5 : List UInt8 := [42, 180, 0, 45, 21, 9, 46, 154, 0, 7, 4, 167, 0, 4, 3, 96, 54, 7, 21, 8, 21, 10]
abbrev dktX6_grows_5 : List UInt8 := dkwX6_grows_5 ++ dktX6_grows_6
def dkwX6_grows_4 : List UInt8 := [46, 42, 180, 0, 7, 4, 46, 2, 130, 126, 21, 9, 184, 0, 75, 54, 10, 21, 7, 21, 10, 153, 0, 17]
abbrev dktX6_grows_4 : List UInt8 := dkwX6_grows_4 ++ dktX6_grows_5
def dkwX6_grows_3 : List UInt8 := [54, 7, 3, 54, 8, 3, 54, 9, 21, 9, 16, 20, 162, 0, 85, 42, 180, 0, 7, 16, 13, 21, 6, 96]
abbrev dktX6_grows_3 : List UInt8 := dkwX6_grows_3 ++ dktX6_grows_4
def dkwX6_grows_2 : List UInt8 := [162, 0, 163, 27, 21, 6, 184, 0, 75, 153, 0, 148, 42, 21, 6, 182, 0, 108, 27, 126, 154, 0, 137, 3]
abbrev dktX6_grows_2 : List UInt8 := dkwX6_grows_2 ++ dktX6_grows_3
def dkwX6_grows_1 : List UInt8 := [162, 0, 217, 16, 252, 62, 3, 54, 4, 3, 54, 5, 3, 54, 6, 21, 6, 42, 180, 0, 7, 3, 46]
abbrev dktX6_grows_1 : List UInt8 := dkwX6_grows_1 ++ dktX6_grows_2
def dkwX6_grows_0 : List UInt8 := [4, 42, 180, 0, 7, 3, 46, 120, 4, 100, 60, 42, 182, 0, 83, 3, 61, 28, 42, 180, 0, 7, 3, 46]
abbrev dktX6_grows_0 : List UInt8 := dkwX6_grows_0 ++ dktX6_grows_1
theorem dksX6_grows_0 : cX6_grows.data.toList.drop 0 = dktX6_grows_0 := by decide +kernel
theorem dksX6_grows_1 : cX6_grows.data.toList.drop 24 = dktX6_grows_1 := dk_seg dksX6_grows_0 24 rfl rfl
theorem dksX6_grows_2 : cX6_grows.data.toList.drop 47 = dktX6_grows_2 := dk_seg dksX6_grows_1 23 rfl rfl
theorem dksX6_grows_3 : cX6_grows.data.toList.drop 71 = dktX6_grows_3 := dk_seg dksX6_grows_2 24 rfl rfl
theorem dksX6_grows_4 : cX6_grows.data.toList.drop 95 = dktX6_grows_4 := dk_seg dksX6_grows_3 24 rfl rfl
theorem dksX6_grows_5 : cX6_grows.data.toList.drop 119 = dktX6_grows_5 := dk_seg dksX6_grows_4 24 rfl rfl
theorem dksX6_grows_6 : cX6_grows.data.toList.drop 141 = dktX6_grows_6 := dk_seg dksX6_grows_5 22 rfl rfl
theorem dksX6_grows_7 : cX6_grows.data.toList.drop 165 = dktX6_grows_7 := dk_seg dksX6_grows_6 24 rfl rfl
theorem dksX6_grows_8 : cX6_grows.data.toList.drop 188 = dktX6_grows_8 := dk_seg dksX6_grows_7 23 rfl rfl
theorem dksX6_grows_9 : cX6_grows.data.toList.drop 211 = dktX6_grows_9 := dk_seg dksX6_grows_8 23 rfl rfl
theorem dksX6_grows_10 : cX6_grows.data.toList.drop 235 = dktX6_grows_10 := dk_seg dksX6_grows_9 24 rfl rfl
theorem dX6_grows_0 : decode cX6_grows 0 = .ok (.iconst 1, 1) := dk_4 (dk_at dksX6_grows_0 0 rfl rfl)
theorem dX6_grows_1 : decode cX6_grows 1 = .ok (.aload_n 0, 1) := dk_42 (dk_at dksX6_grows_0 1 rfl rfl)
theorem dX6_grows_2 : decode cX6_grows 2 = .ok (.getfield 7, 3) := dk_180 0 7 (dk_at dksX6_grows_0 2 rfl rfl)
theorem dX6_grows_5 : decode cX6_grows 5 = .ok (.iconst 0, 1) := dk_3 (dk_at dksX6_grows_0 5 rfl rfl)
theorem dX6_grows_6 : decode cX6_grows 6 = .ok (.iaload, 1) := dk_46 (dk_at dksX6_grows_0 6 rfl rfl)
theorem dX6_grows_7 : decode cX6_grows 7 = .ok (.ishl, 1) := dk_120 (dk_at dksX6_grows_0 7 rfl rfl)
theorem dX6_grows_8 : decode cX6_grows 8 = .ok (.iconst 1, 1) := dk_4 (dk_at dksX6_grows_0 8 rfl rfl)
theorem dX6_grows_9 : decode cX6_grows 9 = .ok (.isub, 1) := dk_100 (dk_at dksX6_grows_0 9 rfl rfl)
theorem dX6_grows_10 : decode cX6_grows 10 = .ok (.istore_n 1, 1) := dk_60 (dk_at dksX6_grows_0 10 rfl rfl)
theorem dX6_grows_11 : decode cX6_grows 11 = .ok (.aload_n 0, 1) := dk_42 (dk_at dksX6_grows_0 11 rfl rfl)
theorem dX6_grows_12 : decode cX6_grows 12 = .ok (.invokevirtual 83, 3) := dk_182 0 83 (dk_at dksX6_grows_0 12 rfl rfl)
theorem dX6_grows_15 : decode cX6_grows 15 = .ok (.iconst 0, 1) := dk_3 (dk_at dksX6_grows_0 15 rfl rfl)
theorem dX6_grows_16 : decode cX6_grows 16 = .ok (.istore_n 2, 1) := dk_61 (dk_at dksX6_grows_0 16 rfl rfl)
theorem dX6_grows_17 : decode cX6_grows 17 = .ok (.iload_n 2, 1) := dk_28 (dk_at dksX6_grows_0 17 rfl rfl)
theorem dX6_grows_18 : decode cX6_grows 18 = .ok (.aload_n 0, 1) := dk_42 (dk_at dksX6_grows_0 18 rfl rfl)
theorem dX6_grows_19 : decode cX6_grows 19 = .ok (.getfield 7, 3) := dk_180 0 7 (dk_at dksX6_grows_0 19 rfl rfl)
theorem dX6_grows_22 : decode cX6_grows 22 = .ok (.iconst 0, 1) := dk_3 (dk_at dksX6_grows_0 22 rfl rfl)
theorem dX6_grows_23 : decode cX6_grows 23 = .ok (.iaload, 1) := dk_46 (dk_at dksX6_grows_0 23 rfl rfl)
theorem dX6_grows_24 : decode cX6_grows 24 = .ok (.if_icmp .ge 217, 3) := dk_162 0 217 (dk_at dksX6_grows_1 0 rfl rfl)
theorem dX6_grows_27 : decode cX6_grows 27 = .ok (.bipush (-4), 2) := dk_16 252 (dk_at dksX6_grows_1 3 rfl rfl)
theorem dX6_grows_29 : decode cX6_grows 29 = .ok (.istore_n 3, 1) := dk_62 (dk_at dksX6_grows_1 5 rfl rfl)
theorem dX6_grows_30 : decode cX6_grows 30 = .ok (.iconst 0, 1) := dk_3 (dk_at dksX6_grows_1 6 rfl rfl)
theorem dX6_grows_31 : decode cX6_grows 31 = .ok (.istore 4, 2) := dk_54 4 (dk_at dksX6_grows_1 7 rfl rfl)
theorem dX6_grows_33 : decode cX6_grows 33 = .ok (.iconst 0, 1) := dk_3 (dk_at dksX6_grows_1 9 rfl rfl)
theorem dX6_grows_34 : decode cX6_grows 34 = .ok (.istore 5, 2) := dk_54 5 (dk_at dksX6_grows_1 10 rfl rfl)
theorem dX6_grows_36 : decode cX6_grows 36 = .ok (.iconst 0, 1) := dk_3 (dk_at dksX6_grows_1 12 rfl rfl)
theorem dX6_grows_37 : decode cX6_grows 37 = .ok (.istore 6, 2) := dk_54 6 (dk_at dksX6_grows_1 13 rfl rfl)
theorem dX6_grows_39 : decode cX6_grows 39 = .ok (.iload 6, 2) := dk_21 6 (dk_at dksX6_grows_1 15 rfl rfl)
theorem dX6_grows_41 : decode cX6_grows 41 = .ok (.aload_n 0, 1) := dk_42 (dk_at dksX6_grows_1 17 rfl rfl)
theorem dX6_grows_42 : decode cX6_grows 42 = .ok (.getfield 7, 3) := dk_180 0 7 (dk_at dksX6_grows_1 18 rfl rfl)
theorem dX6_grows_45 : decode cX6_grows 45 = .ok (.iconst 0, 1) := dk_3 (dk_at dksX6_grows_1 21 rfl rfl)
theorem dX6_grows_46 : decode cX6_grows 46 = .ok (.iaload, 1) := dk_46 (dk_at dksX6_grows_1 22 rfl rfl)
theorem dX6_grows_47 : decode cX6_grows 47 = .ok (.if_icmp .ge 163, 3) := dk_162 0 163 (dk_at dksX6_grows_2 0 rfl rfl)
theorem dX6_grows_50 : decode cX6_grows 50 = .ok (.iload_n 1, 1) := dk_27 (dk_at dksX6_grows_2 3 rfl rfl)
theorem dX6_grows_51 : decode cX6_grows 51 = .ok (.iload 6, 2) := dk_21 6 (dk_at dksX6_grows_2 4 rfl rfl)
theorem dX6_grows_53 : decode cX6_grows 53 = .ok (.invokestatic 75, 3) := dk_184 0 75 (dk_at dksX6_grows_2 6 rfl rfl)
theorem dX6_grows_56 : decode cX6_grows 56 = .ok (.ifCond .eq 148, 3) := dk_153 0 148 (dk_at dksX6_grows_2 9 rfl rfl)
theorem dX6_grows_59 : decode cX6_grows 59 = .ok (.aload_n 0, 1) := dk_42 (dk_at dksX6_grows_2 12 rfl rfl)
theorem dX6_grows_60 : decode cX6_grows 60 = .ok (.iload 6, 2) := dk_21 6 (dk_at dksX6_grows_2 13 rfl rfl)
theorem dX6_grows_62 : decode cX6_grows 62 = .ok (.invokevirtual 108, 3) := dk_182 0 108 (dk_at dksX6_grows_2 15 rfl rfl)
theorem dX6_grows_65 : decode cX6_grows 65 = .ok (.iload_n 1, 1) := dk_27 (dk_at dksX6_grows_2 18 rfl rfl)
theorem dX6_grows_66 : decode cX6_grows 66 = .ok (.iand, 1) := dk_126 (dk_at dksX6_grows_2 19 rfl rfl)
theorem dX6_grows_67 : decode cX6_grows 67 = .ok (.ifCond .ne 137, 3) := dk_154 0 137 (dk_at dksX6_grows_2 20 rfl rfl)
theorem dX6_grows_70 : decode cX6_grows 70 = .ok (.iconst 0, 1) := dk_3 (dk_at dksX6_grows_2 23 rfl rfl)
theorem dX6_grows_71 : decode cX6_grows 71 = .ok (.istore 7, 2) := dk_54 7 (dk_at dksX6_grows_3 0 rfl rfl)
theorem dX6_grows_73 : decode cX6_grows 73 = .ok (.iconst 0, 1) := dk_3 (dk_at dksX6_grows_3 2 rfl rfl)
theorem dX6_grows_74 : decode cX6_grows 74 = .ok (.istore 8, 2) := dk_54 8 (dk_at dksX6_grows_3 3 rfl rfl)
theorem dX6_grows_76 : decode cX6_grows 76 = .ok (.iconst 0, 1) := dk_3 (dk_at dksX6_grows_3 5 rfl rfl)
theorem dX6_grows_77 : decode cX6_grows 77 = .ok (.istore 9, 2) := dk_54 9 (dk_at dksX6_grows_3 6 rfl rfl)
theorem dX6_grows_79 : decode cX6_grows 79 = .ok (.iload 9, 2) := dk_21 9 (dk_at dksX6_grows_3 8 rfl rfl)
theorem dX6_grows_81 : decode cX6_grows 81 = .ok (.bipush 20, 2) := dk_16 20 (dk_at dksX6_grows_3 10 rfl rfl)
theorem dX6_grows_83 : decode cX6_grows 83 = .ok (.if_icmp .ge 85, 3) := dk_162 0 85 (dk_at dksX6_grows_3 12 rfl rfl)
theorem dX6_grows_86 : decode cX6_grows 86 = .ok (.aload_n 0, 1) := dk_42 (dk_at dksX6_grows_3 15 rfl rfl)
theorem dX6_grows_87 : decode cX6_grows 87 = .ok (.getfield 7, 3) := dk_180 0 7 (dk_at dksX6_grows_3 16 rfl rfl)
theorem dX6_grows_90 : decode cX6_grows 90 = .ok (.bipush 13, 2) := dk_16 13 (dk_at dksX6_grows_3 19 rfl rfl)
theorem dX6_grows_92 : decode cX6_grows 92 = .ok (.iload 6, 2) := dk_21 6 (dk_at dksX6_grows_3 21 rfl rfl)
theorem dX6_grows_94 : decode cX6_grows 94 = .ok (.iadd, 1) := dk_96 (dk_at dksX6_grows_3 23 rfl rfl)
theorem dX6_grows_95 : decode cX6_grows 95 = .ok (.iaload, 1) := dk_46 (dk_at dksX6_grows_4 0 rfl rfl)
theorem dX6_grows_96 : decode cX6_grows 96 = .ok (.aload_n 0, 1) := dk_42 (dk_at dksX6_grows_4 1 rfl rfl)
theorem dX6_grows_97 : decode cX6_grows 97 = .ok (.getfield 7, 3) := dk_180 0 7 (dk_at dksX6_grows_4 2 rfl rfl)
theorem dX6_grows_100 : decode cX6_grows 100 = .ok (.iconst 1, 1) := dk_4 (dk_at dksX6_grows_4 5 rfl rfl)
theorem dX6_grows_101 : decode cX6_grows 101 = .ok (.iaload, 1) := dk_46 (dk_at dksX6_grows_4 6 rfl rfl)
theorem dX6_grows_102 : decode cX6_grows 102 = .ok (.iconst (-1), 1) := dk_2 (dk_at dksX6_grows_4 7 rfl rfl)
theorem dX6_grows_103 : decode cX6_grows 103 = .ok (.ixor, 1) := dk_130 (dk_at dksX6_grows_4 8 rfl rfl)
theorem dX6_grows_104 : decode cX6_grows 104 = .ok (.iand, 1) := dk_126 (dk_at dksX6_grows_4 9 rfl rfl)
theorem dX6_grows_105 : decode cX6_grows 105 = .ok (.iload 9, 2) := dk_21 9 (dk_at dksX6_grows_4 10 rfl rfl)
theorem dX6_grows_107 : decode cX6_grows 107 = .ok (.invokestatic 75, 3) := dk_184 0 75 (dk_at dksX6_grows_4 12 rfl rfl)
theorem dX6_grows_110 : decode cX6_grows 110 = .ok (.istore 10, 2) := dk_54 10 (dk_at dksX6_grows_4 15 rfl rfl)
theorem dX6_grows_112 : decode cX6_grows 112 = .ok (.iload 7, 2) := dk_21 7 (dk_at dksX6_grows_4 17 rfl rfl)
theorem dX6_grows_114 : decode cX6_grows 114 = .ok (.iload 10, 2) := dk_21 10 (dk_at dksX6_grows_4 19 rfl rfl)
theorem dX6_grows_116 : decode cX6_grows 116 = .ok (.ifCond .eq 17, 3) := dk_153 0 17 (dk_at dksX6_grows_4 21 rfl rfl)
theorem dX6_grows_119 : decode cX6_grows 119 = .ok (.aload_n 0, 1) := dk_42 (dk_at dksX6_grows_5 0 rfl rfl)
theorem dX6_grows_120 : decode cX6_grows 120 = .ok (.getfield 45, 3) := dk_180 0 45 (dk_at dksX6_grows_5 1 rfl rfl)
theorem dX6_grows_123 : decode cX6_grows 123 = .ok (.iload 9, 2) := dk_21 9 (dk_at dksX6_grows_5 4 rfl rfl)
theorem dX6_grows_125 : decode cX6_grows 125 = .ok (.iaload, 1) := dk_46 (dk_at dksX6_grows_5 6 rfl rfl)
theorem dX6_grows_126 : decode cX6_grows 126 = .ok (.ifCond .ne 7, 3) := dk_154 0 7 (dk_at dksX6_grows_5 7 rfl rfl)
theorem dX6_grows_129 : decode cX6_grows 129 = .ok (.iconst 1, 1) := dk_4 (dk_at dksX6_grows_5 10 rfl rfl)
theorem dX6_grows_130 : decode cX6_grows 130 = .ok (.goto 4, 3) := dk_167 0 4 (dk_at dksX6_grows_5 11 rfl rfl)
theorem dX6_grows_133 : decode cX6_grows 133 = .ok (.iconst 0, 1) := dk_3 (dk_at dksX6_grows_5 14 rfl rfl)
theorem dX6_grows_134 : decode cX6_grows 134 = .ok (.iadd, 1) := dk_96 (dk_at dksX6_grows_5 15 rfl rfl)
theorem dX6_grows_135 : decode cX6_grows 135 = .ok (.istore 7, 2) := dk_54 7 (dk_at dksX6_grows_5 16 rfl rfl)
theorem dX6_grows_137 : decode cX6_grows 137 = .ok (.iload 8, 2) := dk_21 8 (dk_at dksX6_grows_5 18 rfl rfl)
theorem dX6_grows_139 : decode cX6_grows 139 = .ok (.iload 10, 2) := dk_21 10 (dk_at dksX6_grows_5 20 rfl rfl)
theorem dX6_grows_141 : decode cX6_grows 141 = .ok (.ifCond .eq 17, 3) := dk_153 0 17 (dk_at dksX6_grows_6 0 rfl rfl)
theorem dX6_grows_144 : decode cX6_grows 144 = .ok (.aload_n 0, 1) := dk_42 (dk_at dksX6_grows_6 3 rfl rfl)
theorem dX6_grows_145 : decode cX6_grows 145 = .ok (.getfield 45, 3) := dk_180 0 45 (dk_at dksX6_grows_6 4 rfl rfl)
theorem dX6_grows_148 : decode cX6_grows 148 = .ok (.iload 9, 2) := dk_21 9 (dk_at dksX6_grows_6 7 rfl rfl)
theorem dX6_grows_150 : decode cX6_grows 150 = .ok (.iaload, 1) := dk_46 (dk_at dksX6_grows_6 9 rfl rfl)
theorem dX6_grows_151 : decode cX6_grows 151 = .ok (.ifCond .le 7, 3) := dk_158 0 7 (dk_at dksX6_grows_6 10 rfl rfl)
theorem dX6_grows_154 : decode cX6_grows 154 = .ok (.iconst 1, 1) := dk_4 (dk_at dksX6_grows_6 13 rfl rfl)
theorem dX6_grows_155 : decode cX6_grows 155 = .ok (.goto 4, 3) := dk_167 0 4 (dk_at dksX6_grows_6 14 rfl rfl)
theorem dX6_grows_158 : decode cX6_grows 158 = .ok (.iconst 0, 1) := dk_3 (dk_at dksX6_grows_6 17 rfl rfl)
theorem dX6_grows_159 : decode cX6_grows 159 = .ok (.iadd, 1) := dk_96 (dk_at dksX6_grows_6 18 rfl rfl)
theorem dX6_grows_160 : decode cX6_grows 160 = .ok (.istore 8, 2) := dk_54 8 (dk_at dksX6_grows_6 19 rfl rfl)
theorem dX6_grows_162 : decode cX6_grows 162 = .ok (.iinc 9 1, 3) := dk_132 9 1 (dk_at dksX6_grows_6 21 rfl rfl)
theorem dX6_grows_165 : decode cX6_grows 165 = .ok (.goto (-86), 3) := dk_167 255 170 (dk_at dksX6_grows_7 0 rfl rfl)
theorem dX6_grows_168 : decode cX6_grows 168 = .ok (.iload_n 3, 1) := dk_29 (dk_at dksX6_grows_7 3 rfl rfl)
theorem dX6_grows_169 : decode cX6_grows 169 = .ok (.ifCond .lt 24, 3) := dk_155 0 24 (dk_at dksX6_grows_7 4 rfl rfl)
theorem dX6_grows_172 : decode cX6_grows 172 = .ok (.iload 7, 2) := dk_21 7 (dk_at dksX6_grows_7 7 rfl rfl)
theorem dX6_grows_174 : decode cX6_grows 174 = .ok (.iload 4, 2) := dk_21 4 (dk_at dksX6_grows_7 9 rfl rfl)
theorem dX6_grows_176 : decode cX6_grows 176 = .ok (.if_icmp .lt 17, 3) := dk_161 0 17 (dk_at dksX6_grows_7 11 rfl rfl)
theorem dX6_grows_179 : decode cX6_grows 179 = .ok (.iload 7, 2) := dk_21 7 (dk_at dksX6_grows_7 14 rfl rfl)
theorem dX6_grows_181 : decode cX6_grows 181 = .ok (.iload 4, 2) := dk_21 4 (dk_at dksX6_grows_7 16 rfl rfl)
theorem dX6_grows_183 : decode cX6_grows 183 = .ok (.if_icmp .ne 21, 3) := dk_160 0 21 (dk_at dksX6_grows_7 18 rfl rfl)
theorem dX6_grows_186 : decode cX6_grows 186 = .ok (.iload 8, 2) := dk_21 8 (dk_at dksX6_grows_7 21 rfl rfl)
theorem dX6_grows_188 : decode cX6_grows 188 = .ok (.iload 5, 2) := dk_21 5 (dk_at dksX6_grows_8 0 rfl rfl)
theorem dX6_grows_190 : decode cX6_grows 190 = .ok (.if_icmp .le 14, 3) := dk_164 0 14 (dk_at dksX6_grows_8 2 rfl rfl)
theorem dX6_grows_193 : decode cX6_grows 193 = .ok (.iload 6, 2) := dk_21 6 (dk_at dksX6_grows_8 5 rfl rfl)
theorem dX6_grows_195 : decode cX6_grows 195 = .ok (.istore_n 3, 1) := dk_62 (dk_at dksX6_grows_8 7 rfl rfl)
theorem dX6_grows_196 : decode cX6_grows 196 = .ok (.iload 7, 2) := dk_21 7 (dk_at dksX6_grows_8 8 rfl rfl)
theorem dX6_grows_198 : decode cX6_grows 198 = .ok (.istore 4, 2) := dk_54 4 (dk_at dksX6_grows_8 10 rfl rfl)
theorem dX6_grows_200 : decode cX6_grows 200 = .ok (.iload 8, 2) := dk_21 8 (dk_at dksX6_grows_8 12 rfl rfl)
theorem dX6_grows_202 : decode cX6_grows 202 = .ok (.istore 5, 2) := dk_54 5 (dk_at dksX6_grows_8 14 rfl rfl)
theorem dX6_grows_204 : decode cX6_grows 204 = .ok (.iinc 6 1, 3) := dk_132 6 1 (dk_at dksX6_grows_8 16 rfl rfl)
theorem dX6_grows_207 : decode cX6_grows 207 = .ok (.goto (-168), 3) := dk_167 255 88 (dk_at dksX6_grows_8 19 rfl rfl)
theorem dX6_grows_210 : decode cX6_grows 210 = .ok (.aload_n 0, 1) := dk_42 (dk_at dksX6_grows_8 22 rfl rfl)
theorem dX6_grows_211 : decode cX6_grows 211 = .ok (.getfield 42, 3) := dk_180 0 42 (dk_at dksX6_grows_9 0 rfl rfl)
theorem dX6_grows_214 : decode cX6_grows 214 = .ok (.iload_n 2, 1) := dk_28 (dk_at dksX6_grows_9 3 rfl rfl)
theorem dX6_grows_215 : decode cX6_grows 215 = .ok (.iload_n 3, 1) := dk_29 (dk_at dksX6_grows_9 4 rfl rfl)
theorem dX6_grows_216 : decode cX6_grows 216 = .ok (.iastore, 1) := dk_79 (dk_at dksX6_grows_9 5 rfl rfl)
theorem dX6_grows_217 : decode cX6_grows 217 = .ok (.iload_n 1, 1) := dk_27 (dk_at dksX6_grows_9 6 rfl rfl)
theorem dX6_grows_218 : decode cX6_grows 218 = .ok (.iconst 1, 1) := dk_4 (dk_at dksX6_grows_9 7 rfl rfl)
theorem dX6_grows_219 : decode cX6_grows 219 = .ok (.iload_n 3, 1) := dk_29 (dk_at dksX6_grows_9 8 rfl rfl)
theorem dX6_grows_220 : decode cX6_grows 220 = .ok (.ishl, 1) := dk_120 (dk_at dksX6_grows_9 9 rfl rfl)
theorem dX6_grows_221 : decode cX6_grows 221 = .ok (.iconst (-1), 1) := dk_2 (dk_at dksX6_grows_9 10 rfl rfl)
theorem dX6_grows_222 : decode cX6_grows 222 = .ok (.ixor, 1) := dk_130 (dk_at dksX6_grows_9 11 rfl rfl)
theorem dX6_grows_223 : decode cX6_grows 223 = .ok (.iand, 1) := dk_126 (dk_at dksX6_grows_9 12 rfl rfl)
theorem dX6_grows_224 : decode cX6_grows 224 = .ok (.istore_n 1, 1) := dk_60 (dk_at dksX6_grows_9 13 rfl rfl)
theorem dX6_grows_225 : decode cX6_grows 225 = .ok (.aload_n 0, 1) := dk_42 (dk_at dksX6_grows_9 14 rfl rfl)
theorem dX6_grows_226 : decode cX6_grows 226 = .ok (.iload_n 2, 1) := dk_28 (dk_at dksX6_grows_9 15 rfl rfl)
theorem dX6_grows_227 : decode cX6_grows 227 = .ok (.aload_n 0, 1) := dk_42 (dk_at dksX6_grows_9 16 rfl rfl)
theorem dX6_grows_228 : decode cX6_grows 228 = .ok (.iload_n 2, 1) := dk_28 (dk_at dksX6_grows_9 17 rfl rfl)
theorem dX6_grows_229 : decode cX6_grows 229 = .ok (.invokevirtual 86, 3) := dk_182 0 86 (dk_at dksX6_grows_9 18 rfl rfl)
theorem dX6_grows_232 : decode cX6_grows 232 = .ok (.invokevirtual 89, 3) := dk_182 0 89 (dk_at dksX6_grows_9 21 rfl rfl)
theorem dX6_grows_235 : decode cX6_grows 235 = .ok (.iinc 2 1, 3) := dk_132 2 1 (dk_at dksX6_grows_10 0 rfl rfl)
theorem dX6_grows_238 : decode cX6_grows 238 = .ok (.goto (-221), 3) := dk_167 255 35 (dk_at dksX6_grows_10 3 rfl rfl)
theorem dX6_grows_241 : decode cX6_grows 241 = .ok (.return_, 1) := dk_177 (dk_at dksX6_grows_10 6 rfl rfl)
abbrev cX6_many : ByteArray := prog_11_method_28_code
def yX6_many : MethodName := ⟨RX6, "many", "(I)I"⟩
def dkwX6_many_3 : List UInt8 := [167, 0, 4, 3, 96, 61, 42, 182, 0, 143, 62, 167, 255, 194, 28, 172]
abbrev dktX6_many_3 : List UInt8 := dkwX6_many_3 ++ []
def dkwX6_many_2 : List UInt8 := [42, 180, 0, 7, 6, 46, 163, 0, 7, 4, 167, 0, 4, 3, 54, 4, 28, 21, 4, 153, 0, 7, 4]
abbrev dktX6_many_2 : List UInt8 := dkwX6_many_2 ++ dktX6_many_3
def dkwX6_many_1 : List UInt8 := [42, 182, 0, 124, 54, 4, 21, 4, 153, 0, 32, 27, 4, 160, 0, 27, 42, 182, 0, 99, 42, 182, 0, 118]
abbrev dktX6_many_1 : List UInt8 := dkwX6_many_1 ++ dktX6_many_2
def dkwX6_many_0 : List UInt8 := [27, 133, 9, 10, 184, 0, 71, 154, 0, 5, 2, 172, 3, 61, 42, 182, 0, 134, 4, 62, 29, 153, 0, 64]
abbrev dktX6_many_0 : List UInt8 := dkwX6_many_0 ++ dktX6_many_1
theorem dksX6_many_0 : cX6_many.data.toList.drop 0 = dktX6_many_0 := by decide +kernel
theorem dksX6_many_1 : cX6_many.data.toList.drop 24 = dktX6_many_1 := dk_seg dksX6_many_0 24 rfl rfl
theorem dksX6_many_2 : cX6_many.data.toList.drop 48 = dktX6_many_2 := dk_seg dksX6_many_1 24 rfl rfl
theorem dksX6_many_3 : cX6_many.data.toList.drop 71 = dktX6_many_3 := dk_seg dksX6_many_2 23 rfl rfl
theorem dX6_many_0 : decode cX6_many 0 = .ok (.iload_n 1, 1) := dk_27 (dk_at dksX6_many_0 0 rfl rfl)
theorem dX6_many_1 : decode cX6_many 1 = .ok (.i2l, 1) := dk_133 (dk_at dksX6_many_0 1 rfl rfl)
theorem dX6_many_2 : decode cX6_many 2 = .ok (.lconst 0, 1) := dk_9 (dk_at dksX6_many_0 2 rfl rfl)
theorem dX6_many_3 : decode cX6_many 3 = .ok (.lconst 1, 1) := dk_10 (dk_at dksX6_many_0 3 rfl rfl)
theorem dX6_many_4 : decode cX6_many 4 = .ok (.invokestatic 71, 3) := dk_184 0 71 (dk_at dksX6_many_0 4 rfl rfl)
theorem dX6_many_7 : decode cX6_many 7 = .ok (.ifCond .ne 5, 3) := dk_154 0 5 (dk_at dksX6_many_0 7 rfl rfl)
theorem dX6_many_10 : decode cX6_many 10 = .ok (.iconst (-1), 1) := dk_2 (dk_at dksX6_many_0 10 rfl rfl)
theorem dX6_many_11 : decode cX6_many 11 = .ok (.ireturn, 1) := dk_172 (dk_at dksX6_many_0 11 rfl rfl)
theorem dX6_many_12 : decode cX6_many 12 = .ok (.iconst 0, 1) := dk_3 (dk_at dksX6_many_0 12 rfl rfl)
theorem dX6_many_13 : decode cX6_many 13 = .ok (.istore_n 2, 1) := dk_61 (dk_at dksX6_many_0 13 rfl rfl)
theorem dX6_many_14 : decode cX6_many 14 = .ok (.aload_n 0, 1) := dk_42 (dk_at dksX6_many_0 14 rfl rfl)
theorem dX6_many_15 : decode cX6_many 15 = .ok (.invokevirtual 134, 3) := dk_182 0 134 (dk_at dksX6_many_0 15 rfl rfl)
theorem dX6_many_18 : decode cX6_many 18 = .ok (.iconst 1, 1) := dk_4 (dk_at dksX6_many_0 18 rfl rfl)
theorem dX6_many_19 : decode cX6_many 19 = .ok (.istore_n 3, 1) := dk_62 (dk_at dksX6_many_0 19 rfl rfl)
theorem dX6_many_20 : decode cX6_many 20 = .ok (.iload_n 3, 1) := dk_29 (dk_at dksX6_many_0 20 rfl rfl)
theorem dX6_many_21 : decode cX6_many 21 = .ok (.ifCond .eq 64, 3) := dk_153 0 64 (dk_at dksX6_many_0 21 rfl rfl)
theorem dX6_many_24 : decode cX6_many 24 = .ok (.aload_n 0, 1) := dk_42 (dk_at dksX6_many_1 0 rfl rfl)
theorem dX6_many_25 : decode cX6_many 25 = .ok (.invokevirtual 124, 3) := dk_182 0 124 (dk_at dksX6_many_1 1 rfl rfl)
theorem dX6_many_28 : decode cX6_many 28 = .ok (.istore 4, 2) := dk_54 4 (dk_at dksX6_many_1 4 rfl rfl)
theorem dX6_many_30 : decode cX6_many 30 = .ok (.iload 4, 2) := dk_21 4 (dk_at dksX6_many_1 6 rfl rfl)
theorem dX6_many_32 : decode cX6_many 32 = .ok (.ifCond .eq 32, 3) := dk_153 0 32 (dk_at dksX6_many_1 8 rfl rfl)
theorem dX6_many_35 : decode cX6_many 35 = .ok (.iload_n 1, 1) := dk_27 (dk_at dksX6_many_1 11 rfl rfl)
theorem dX6_many_36 : decode cX6_many 36 = .ok (.iconst 1, 1) := dk_4 (dk_at dksX6_many_1 12 rfl rfl)
theorem dX6_many_37 : decode cX6_many 37 = .ok (.if_icmp .ne 27, 3) := dk_160 0 27 (dk_at dksX6_many_1 13 rfl rfl)
theorem dX6_many_40 : decode cX6_many 40 = .ok (.aload_n 0, 1) := dk_42 (dk_at dksX6_many_1 16 rfl rfl)
theorem dX6_many_41 : decode cX6_many 41 = .ok (.invokevirtual 99, 3) := dk_182 0 99 (dk_at dksX6_many_1 17 rfl rfl)
theorem dX6_many_44 : decode cX6_many 44 = .ok (.aload_n 0, 1) := dk_42 (dk_at dksX6_many_1 20 rfl rfl)
theorem dX6_many_45 : decode cX6_many 45 = .ok (.invokevirtual 118, 3) := dk_182 0 118 (dk_at dksX6_many_1 21 rfl rfl)
theorem dX6_many_48 : decode cX6_many 48 = .ok (.aload_n 0, 1) := dk_42 (dk_at dksX6_many_2 0 rfl rfl)
theorem dX6_many_49 : decode cX6_many 49 = .ok (.getfield 7, 3) := dk_180 0 7 (dk_at dksX6_many_2 1 rfl rfl)
theorem dX6_many_52 : decode cX6_many 52 = .ok (.iconst 3, 1) := dk_6 (dk_at dksX6_many_2 4 rfl rfl)
theorem dX6_many_53 : decode cX6_many 53 = .ok (.iaload, 1) := dk_46 (dk_at dksX6_many_2 5 rfl rfl)
theorem dX6_many_54 : decode cX6_many 54 = .ok (.if_icmp .gt 7, 3) := dk_163 0 7 (dk_at dksX6_many_2 6 rfl rfl)
theorem dX6_many_57 : decode cX6_many 57 = .ok (.iconst 1, 1) := dk_4 (dk_at dksX6_many_2 9 rfl rfl)
theorem dX6_many_58 : decode cX6_many 58 = .ok (.goto 4, 3) := dk_167 0 4 (dk_at dksX6_many_2 10 rfl rfl)
theorem dX6_many_61 : decode cX6_many 61 = .ok (.iconst 0, 1) := dk_3 (dk_at dksX6_many_2 13 rfl rfl)
theorem dX6_many_62 : decode cX6_many 62 = .ok (.istore 4, 2) := dk_54 4 (dk_at dksX6_many_2 14 rfl rfl)
theorem dX6_many_64 : decode cX6_many 64 = .ok (.iload_n 2, 1) := dk_28 (dk_at dksX6_many_2 16 rfl rfl)
theorem dX6_many_65 : decode cX6_many 65 = .ok (.iload 4, 2) := dk_21 4 (dk_at dksX6_many_2 17 rfl rfl)
theorem dX6_many_67 : decode cX6_many 67 = .ok (.ifCond .eq 7, 3) := dk_153 0 7 (dk_at dksX6_many_2 19 rfl rfl)
theorem dX6_many_70 : decode cX6_many 70 = .ok (.iconst 1, 1) := dk_4 (dk_at dksX6_many_2 22 rfl rfl)
theorem dX6_many_71 : decode cX6_many 71 = .ok (.goto 4, 3) := dk_167 0 4 (dk_at dksX6_many_3 0 rfl rfl)
theorem dX6_many_74 : decode cX6_many 74 = .ok (.iconst 0, 1) := dk_3 (dk_at dksX6_many_3 3 rfl rfl)
theorem dX6_many_75 : decode cX6_many 75 = .ok (.iadd, 1) := dk_96 (dk_at dksX6_many_3 4 rfl rfl)
theorem dX6_many_76 : decode cX6_many 76 = .ok (.istore_n 2, 1) := dk_61 (dk_at dksX6_many_3 5 rfl rfl)
theorem dX6_many_77 : decode cX6_many 77 = .ok (.aload_n 0, 1) := dk_42 (dk_at dksX6_many_3 6 rfl rfl)
theorem dX6_many_78 : decode cX6_many 78 = .ok (.invokevirtual 143, 3) := dk_182 0 143 (dk_at dksX6_many_3 7 rfl rfl)
theorem dX6_many_81 : decode cX6_many 81 = .ok (.istore_n 3, 1) := dk_62 (dk_at dksX6_many_3 10 rfl rfl)
theorem dX6_many_82 : decode cX6_many 82 = .ok (.goto (-62), 3) := dk_167 255 194 (dk_at dksX6_many_3 11 rfl rfl)
theorem dX6_many_85 : decode cX6_many 85 = .ok (.iload_n 2, 1) := dk_28 (dk_at dksX6_many_3 14 rfl rfl)
theorem dX6_many_86 : decode cX6_many 86 = .ok (.ireturn, 1) := dk_172 (dk_at dksX6_many_3 15 rfl rfl)
abbrev cX6_fit : ByteArray := prog_11_method_29_code
def yX6_fit : MethodName := ⟨RX6, "fit", "(I)I"⟩
def dkwX6_fit_2 : List UInt8 := [42, 182, 0, 114, 172, 132, 2, 255, 42, 182, 0, 143, 62, 167, 255, 211, 16, 252, 172]
abbrev dktX6_fit_2 : List UInt8 := dkwX6_fit_2 ++ []
def dkwX6_fit_1 : List UInt8 := [153, 0, 32, 42, 182, 0, 99, 42, 182, 0, 118, 42, 180, 0, 7, 6, 46, 163, 0, 15, 28, 154, 0, 8]
abbrev dktX6_fit_1 : List UInt8 := dkwX6_fit_1 ++ dktX6_fit_2
def dkwX6_fit_0 : List UInt8 := [27, 156, 0, 5, 2, 172, 27, 61, 42, 182, 0, 134, 4, 62, 29, 153, 0, 47, 42, 182, 0, 124]
abbrev dktX6_fit_0 : List UInt8 := dkwX6_fit_0 ++ dktX6_fit_1
theorem dksX6_fit_0 : cX6_fit.data.toList.drop 0 = dktX6_fit_0 := by decide +kernel
theorem dksX6_fit_1 : cX6_fit.data.toList.drop 22 = dktX6_fit_1 := dk_seg dksX6_fit_0 22 rfl rfl
theorem dksX6_fit_2 : cX6_fit.data.toList.drop 46 = dktX6_fit_2 := dk_seg dksX6_fit_1 24 rfl rfl
theorem dX6_fit_0 : decode cX6_fit 0 = .ok (.iload_n 1, 1) := dk_27 (dk_at dksX6_fit_0 0 rfl rfl)
theorem dX6_fit_1 : decode cX6_fit 1 = .ok (.ifCond .ge 5, 3) := dk_156 0 5 (dk_at dksX6_fit_0 1 rfl rfl)
theorem dX6_fit_4 : decode cX6_fit 4 = .ok (.iconst (-1), 1) := dk_2 (dk_at dksX6_fit_0 4 rfl rfl)
theorem dX6_fit_5 : decode cX6_fit 5 = .ok (.ireturn, 1) := dk_172 (dk_at dksX6_fit_0 5 rfl rfl)
theorem dX6_fit_6 : decode cX6_fit 6 = .ok (.iload_n 1, 1) := dk_27 (dk_at dksX6_fit_0 6 rfl rfl)
theorem dX6_fit_7 : decode cX6_fit 7 = .ok (.istore_n 2, 1) := dk_61 (dk_at dksX6_fit_0 7 rfl rfl)
theorem dX6_fit_8 : decode cX6_fit 8 = .ok (.aload_n 0, 1) := dk_42 (dk_at dksX6_fit_0 8 rfl rfl)
theorem dX6_fit_9 : decode cX6_fit 9 = .ok (.invokevirtual 134, 3) := dk_182 0 134 (dk_at dksX6_fit_0 9 rfl rfl)
theorem dX6_fit_12 : decode cX6_fit 12 = .ok (.iconst 1, 1) := dk_4 (dk_at dksX6_fit_0 12 rfl rfl)
theorem dX6_fit_13 : decode cX6_fit 13 = .ok (.istore_n 3, 1) := dk_62 (dk_at dksX6_fit_0 13 rfl rfl)
theorem dX6_fit_14 : decode cX6_fit 14 = .ok (.iload_n 3, 1) := dk_29 (dk_at dksX6_fit_0 14 rfl rfl)
theorem dX6_fit_15 : decode cX6_fit 15 = .ok (.ifCond .eq 47, 3) := dk_153 0 47 (dk_at dksX6_fit_0 15 rfl rfl)
theorem dX6_fit_18 : decode cX6_fit 18 = .ok (.aload_n 0, 1) := dk_42 (dk_at dksX6_fit_0 18 rfl rfl)
theorem dX6_fit_19 : decode cX6_fit 19 = .ok (.invokevirtual 124, 3) := dk_182 0 124 (dk_at dksX6_fit_0 19 rfl rfl)
theorem dX6_fit_22 : decode cX6_fit 22 = .ok (.ifCond .eq 32, 3) := dk_153 0 32 (dk_at dksX6_fit_1 0 rfl rfl)
theorem dX6_fit_25 : decode cX6_fit 25 = .ok (.aload_n 0, 1) := dk_42 (dk_at dksX6_fit_1 3 rfl rfl)
theorem dX6_fit_26 : decode cX6_fit 26 = .ok (.invokevirtual 99, 3) := dk_182 0 99 (dk_at dksX6_fit_1 4 rfl rfl)
theorem dX6_fit_29 : decode cX6_fit 29 = .ok (.aload_n 0, 1) := dk_42 (dk_at dksX6_fit_1 7 rfl rfl)
theorem dX6_fit_30 : decode cX6_fit 30 = .ok (.invokevirtual 118, 3) := dk_182 0 118 (dk_at dksX6_fit_1 8 rfl rfl)
theorem dX6_fit_33 : decode cX6_fit 33 = .ok (.aload_n 0, 1) := dk_42 (dk_at dksX6_fit_1 11 rfl rfl)
theorem dX6_fit_34 : decode cX6_fit 34 = .ok (.getfield 7, 3) := dk_180 0 7 (dk_at dksX6_fit_1 12 rfl rfl)
theorem dX6_fit_37 : decode cX6_fit 37 = .ok (.iconst 3, 1) := dk_6 (dk_at dksX6_fit_1 15 rfl rfl)
theorem dX6_fit_38 : decode cX6_fit 38 = .ok (.iaload, 1) := dk_46 (dk_at dksX6_fit_1 16 rfl rfl)
theorem dX6_fit_39 : decode cX6_fit 39 = .ok (.if_icmp .gt 15, 3) := dk_163 0 15 (dk_at dksX6_fit_1 17 rfl rfl)
theorem dX6_fit_42 : decode cX6_fit 42 = .ok (.iload_n 2, 1) := dk_28 (dk_at dksX6_fit_1 20 rfl rfl)
theorem dX6_fit_43 : decode cX6_fit 43 = .ok (.ifCond .ne 8, 3) := dk_154 0 8 (dk_at dksX6_fit_1 21 rfl rfl)
theorem dX6_fit_46 : decode cX6_fit 46 = .ok (.aload_n 0, 1) := dk_42 (dk_at dksX6_fit_2 0 rfl rfl)
theorem dX6_fit_47 : decode cX6_fit 47 = .ok (.invokevirtual 114, 3) := dk_182 0 114 (dk_at dksX6_fit_2 1 rfl rfl)
theorem dX6_fit_50 : decode cX6_fit 50 = .ok (.ireturn, 1) := dk_172 (dk_at dksX6_fit_2 4 rfl rfl)
theorem dX6_fit_51 : decode cX6_fit 51 = .ok (.iinc 2 (-1), 3) := dk_132 2 255 (dk_at dksX6_fit_2 5 rfl rfl)
theorem dX6_fit_54 : decode cX6_fit 54 = .ok (.aload_n 0, 1) := dk_42 (dk_at dksX6_fit_2 8 rfl rfl)
theorem dX6_fit_55 : decode cX6_fit 55 = .ok (.invokevirtual 143, 3) := dk_182 0 143 (dk_at dksX6_fit_2 9 rfl rfl)
theorem dX6_fit_58 : decode cX6_fit 58 = .ok (.istore_n 3, 1) := dk_62 (dk_at dksX6_fit_2 12 rfl rfl)
theorem dX6_fit_59 : decode cX6_fit 59 = .ok (.goto (-45), 3) := dk_167 255 211 (dk_at dksX6_fit_2 13 rfl rfl)
theorem dX6_fit_62 : decode cX6_fit 62 = .ok (.bipush (-4), 2) := dk_16 252 (dk_at dksX6_fit_2 16 rfl rfl)
theorem dX6_fit_64 : decode cX6_fit 64 = .ok (.ireturn, 1) := dk_172 (dk_at dksX6_fit_2 18 rfl rfl)
abbrev cX6_kept : ByteArray := prog_11_method_30_code
def yX6_kept : MethodName := ⟨RX6, "kept", "(III)I"⟩
def dkwX6_kept_10 : List UInt8 := [108, 167, 0, 8, 21, 5, 21, 6, 108, 172]
abbrev dktX6_kept_10 : List UInt8 := dkwX6_kept_10 ++ []
def dkwX6_kept_9 : List UInt8 := [21, 7, 112, 54, 8, 21, 7, 54, 6, 21, 8, 54, 7, 167, 255, 236, 29, 154, 0, 11, 21, 4, 21, 6]
abbrev dktX6_kept_9 : List UInt8 := dkwX6_kept_9 ++ dktX6_kept_10
def dkwX6_kept_8 : List UInt8 := [54, 4, 132, 6, 1, 167, 255, 140, 21, 4, 54, 6, 21, 5, 54, 7, 21, 7, 153, 0, 21, 21, 6]
abbrev dktX6_kept_8 : List UInt8 := dkwX6_kept_8 ++ dktX6_kept_9
def dkwX6_kept_7 : List UInt8 := [132, 8, 1, 167, 255, 189, 21, 4, 42, 180, 0, 45, 27, 46, 158, 0, 8, 21, 7, 167, 0, 4, 3, 96]
abbrev dktX6_kept_7 : List UInt8 := dkwX6_kept_7 ++ dktX6_kept_8
def dkwX6_kept_6 : List UInt8 := [184, 0, 75, 153, 0, 16, 42, 21, 8, 182, 0, 86, 4, 27, 120, 126, 167, 0, 4, 3, 182, 0, 89]
abbrev dktX6_kept_6 : List UInt8 := dkwX6_kept_6 ++ dktX6_kept_7
def dkwX6_kept_5 : List UInt8 := [184, 0, 75, 153, 0, 10, 16, 10, 28, 100, 167, 0, 4, 28, 104, 54, 7, 42, 21, 8, 21, 6, 21, 8]
abbrev dktX6_kept_5 : List UInt8 := dkwX6_kept_5 ++ dktX6_kept_6
def dkwX6_kept_4 : List UInt8 := [182, 0, 83, 3, 54, 8, 21, 8, 42, 180, 0, 7, 3, 46, 162, 0, 62, 21, 7, 21, 6, 21, 8]
abbrev dktX6_kept_4 : List UInt8 := dkwX6_kept_4 ++ dktX6_kept_5
def dkwX6_kept_3 : List UInt8 := [167, 255, 235, 3, 54, 6, 21, 6, 4, 42, 180, 0, 7, 3, 46, 120, 162, 0, 109, 4, 54, 7, 42]
abbrev dktX6_kept_3 : List UInt8 := dkwX6_kept_3 ++ dktX6_kept_4
def dkwX6_kept_2 : List UInt8 := [54, 6, 21, 6, 42, 180, 0, 7, 3, 46, 162, 0, 16, 21, 5, 16, 10, 104, 54, 5, 132, 6, 1]
abbrev dktX6_kept_2 : List UInt8 := dkwX6_kept_2 ++ dktX6_kept_3
def dkwX6_kept_1 : List UInt8 := [29, 133, 9, 10, 184, 0, 71, 154, 0, 5, 2, 172, 42, 182, 0, 96, 3, 54, 4, 4, 54, 5, 3]
abbrev dktX6_kept_1 : List UInt8 := dkwX6_kept_1 ++ dktX6_kept_2
def dkwX6_kept_0 : List UInt8 := [27, 133, 9, 20, 0, 102, 184, 0, 71, 153, 0, 25, 28, 133, 9, 20, 0, 154, 184, 0, 71, 153, 0, 13]
abbrev dktX6_kept_0 : List UInt8 := dkwX6_kept_0 ++ dktX6_kept_1
theorem dksX6_kept_0 : cX6_kept.data.toList.drop 0 = dktX6_kept_0 := by decide +kernel
theorem dksX6_kept_1 : cX6_kept.data.toList.drop 24 = dktX6_kept_1 := dk_seg dksX6_kept_0 24 rfl rfl
theorem dksX6_kept_2 : cX6_kept.data.toList.drop 47 = dktX6_kept_2 := dk_seg dksX6_kept_1 23 rfl rfl
theorem dksX6_kept_3 : cX6_kept.data.toList.drop 70 = dktX6_kept_3 := dk_seg dksX6_kept_2 23 rfl rfl
theorem dksX6_kept_4 : cX6_kept.data.toList.drop 93 = dktX6_kept_4 := dk_seg dksX6_kept_3 23 rfl rfl
theorem dksX6_kept_5 : cX6_kept.data.toList.drop 116 = dktX6_kept_5 := dk_seg dksX6_kept_4 23 rfl rfl
theorem dksX6_kept_6 : cX6_kept.data.toList.drop 140 = dktX6_kept_6 := dk_seg dksX6_kept_5 24 rfl rfl
theorem dksX6_kept_7 : cX6_kept.data.toList.drop 163 = dktX6_kept_7 := dk_seg dksX6_kept_6 23 rfl rfl
theorem dksX6_kept_8 : cX6_kept.data.toList.drop 187 = dktX6_kept_8 := dk_seg dksX6_kept_7 24 rfl rfl
theorem dksX6_kept_9 : cX6_kept.data.toList.drop 210 = dktX6_kept_9 := dk_seg dksX6_kept_8 23 rfl rfl
theorem dksX6_kept_10 : cX6_kept.data.toList.drop 234 = dktX6_kept_10 := dk_seg dksX6_kept_9 24 rfl rfl
theorem dX6_kept_0 : decode cX6_kept 0 = .ok (.iload_n 1, 1) := dk_27 (dk_at dksX6_kept_0 0 rfl rfl)
theorem dX6_kept_1 : decode cX6_kept 1 = .ok (.i2l, 1) := dk_133 (dk_at dksX6_kept_0 1 rfl rfl)
theorem dX6_kept_2 : decode cX6_kept 2 = .ok (.lconst 0, 1) := dk_9 (dk_at dksX6_kept_0 2 rfl rfl)
theorem dX6_kept_3 : decode cX6_kept 3 = .ok (.ldc2_w 102, 3) := dk_20 0 102 (dk_at dksX6_kept_0 3 rfl rfl)
theorem dX6_kept_6 : decode cX6_kept 6 = .ok (.invokestatic 71, 3) := dk_184 0 71 (dk_at dksX6_kept_0 6 rfl rfl)
theorem dX6_kept_9 : decode cX6_kept 9 = .ok (.ifCond .eq 25, 3) := dk_153 0 25 (dk_at dksX6_kept_0 9 rfl rfl)
theorem dX6_kept_12 : decode cX6_kept 12 = .ok (.iload_n 2, 1) := dk_28 (dk_at dksX6_kept_0 12 rfl rfl)
theorem dX6_kept_13 : decode cX6_kept 13 = .ok (.i2l, 1) := dk_133 (dk_at dksX6_kept_0 13 rfl rfl)
theorem dX6_kept_14 : decode cX6_kept 14 = .ok (.lconst 0, 1) := dk_9 (dk_at dksX6_kept_0 14 rfl rfl)
theorem dX6_kept_15 : decode cX6_kept 15 = .ok (.ldc2_w 154, 3) := dk_20 0 154 (dk_at dksX6_kept_0 15 rfl rfl)
theorem dX6_kept_18 : decode cX6_kept 18 = .ok (.invokestatic 71, 3) := dk_184 0 71 (dk_at dksX6_kept_0 18 rfl rfl)
theorem dX6_kept_21 : decode cX6_kept 21 = .ok (.ifCond .eq 13, 3) := dk_153 0 13 (dk_at dksX6_kept_0 21 rfl rfl)
theorem dX6_kept_24 : decode cX6_kept 24 = .ok (.iload_n 3, 1) := dk_29 (dk_at dksX6_kept_1 0 rfl rfl)
theorem dX6_kept_25 : decode cX6_kept 25 = .ok (.i2l, 1) := dk_133 (dk_at dksX6_kept_1 1 rfl rfl)
theorem dX6_kept_26 : decode cX6_kept 26 = .ok (.lconst 0, 1) := dk_9 (dk_at dksX6_kept_1 2 rfl rfl)
theorem dX6_kept_27 : decode cX6_kept 27 = .ok (.lconst 1, 1) := dk_10 (dk_at dksX6_kept_1 3 rfl rfl)
theorem dX6_kept_28 : decode cX6_kept 28 = .ok (.invokestatic 71, 3) := dk_184 0 71 (dk_at dksX6_kept_1 4 rfl rfl)
theorem dX6_kept_31 : decode cX6_kept 31 = .ok (.ifCond .ne 5, 3) := dk_154 0 5 (dk_at dksX6_kept_1 7 rfl rfl)
theorem dX6_kept_34 : decode cX6_kept 34 = .ok (.iconst (-1), 1) := dk_2 (dk_at dksX6_kept_1 10 rfl rfl)
theorem dX6_kept_35 : decode cX6_kept 35 = .ok (.ireturn, 1) := dk_172 (dk_at dksX6_kept_1 11 rfl rfl)
theorem dX6_kept_36 : decode cX6_kept 36 = .ok (.aload_n 0, 1) := dk_42 (dk_at dksX6_kept_1 12 rfl rfl)
theorem dX6_kept_37 : decode cX6_kept 37 = .ok (.invokevirtual 96, 3) := dk_182 0 96 (dk_at dksX6_kept_1 13 rfl rfl)
theorem dX6_kept_40 : decode cX6_kept 40 = .ok (.iconst 0, 1) := dk_3 (dk_at dksX6_kept_1 16 rfl rfl)
theorem dX6_kept_41 : decode cX6_kept 41 = .ok (.istore 4, 2) := dk_54 4 (dk_at dksX6_kept_1 17 rfl rfl)
theorem dX6_kept_43 : decode cX6_kept 43 = .ok (.iconst 1, 1) := dk_4 (dk_at dksX6_kept_1 19 rfl rfl)
theorem dX6_kept_44 : decode cX6_kept 44 = .ok (.istore 5, 2) := dk_54 5 (dk_at dksX6_kept_1 20 rfl rfl)
theorem dX6_kept_46 : decode cX6_kept 46 = .ok (.iconst 0, 1) := dk_3 (dk_at dksX6_kept_1 22 rfl rfl)
theorem dX6_kept_47 : decode cX6_kept 47 = .ok (.istore 6, 2) := dk_54 6 (dk_at dksX6_kept_2 0 rfl rfl)
theorem dX6_kept_49 : decode cX6_kept 49 = .ok (.iload 6, 2) := dk_21 6 (dk_at dksX6_kept_2 2 rfl rfl)
theorem dX6_kept_51 : decode cX6_kept 51 = .ok (.aload_n 0, 1) := dk_42 (dk_at dksX6_kept_2 4 rfl rfl)
theorem dX6_kept_52 : decode cX6_kept 52 = .ok (.getfield 7, 3) := dk_180 0 7 (dk_at dksX6_kept_2 5 rfl rfl)
theorem dX6_kept_55 : decode cX6_kept 55 = .ok (.iconst 0, 1) := dk_3 (dk_at dksX6_kept_2 8 rfl rfl)
theorem dX6_kept_56 : decode cX6_kept 56 = .ok (.iaload, 1) := dk_46 (dk_at dksX6_kept_2 9 rfl rfl)
theorem dX6_kept_57 : decode cX6_kept 57 = .ok (.if_icmp .ge 16, 3) := dk_162 0 16 (dk_at dksX6_kept_2 10 rfl rfl)
theorem dX6_kept_60 : decode cX6_kept 60 = .ok (.iload 5, 2) := dk_21 5 (dk_at dksX6_kept_2 13 rfl rfl)
theorem dX6_kept_62 : decode cX6_kept 62 = .ok (.bipush 10, 2) := dk_16 10 (dk_at dksX6_kept_2 15 rfl rfl)
theorem dX6_kept_64 : decode cX6_kept 64 = .ok (.imul, 1) := dk_104 (dk_at dksX6_kept_2 17 rfl rfl)
theorem dX6_kept_65 : decode cX6_kept 65 = .ok (.istore 5, 2) := dk_54 5 (dk_at dksX6_kept_2 18 rfl rfl)
theorem dX6_kept_67 : decode cX6_kept 67 = .ok (.iinc 6 1, 3) := dk_132 6 1 (dk_at dksX6_kept_2 20 rfl rfl)
theorem dX6_kept_70 : decode cX6_kept 70 = .ok (.goto (-21), 3) := dk_167 255 235 (dk_at dksX6_kept_3 0 rfl rfl)
theorem dX6_kept_73 : decode cX6_kept 73 = .ok (.iconst 0, 1) := dk_3 (dk_at dksX6_kept_3 3 rfl rfl)
theorem dX6_kept_74 : decode cX6_kept 74 = .ok (.istore 6, 2) := dk_54 6 (dk_at dksX6_kept_3 4 rfl rfl)
theorem dX6_kept_76 : decode cX6_kept 76 = .ok (.iload 6, 2) := dk_21 6 (dk_at dksX6_kept_3 6 rfl rfl)
theorem dX6_kept_78 : decode cX6_kept 78 = .ok (.iconst 1, 1) := dk_4 (dk_at dksX6_kept_3 8 rfl rfl)
theorem dX6_kept_79 : decode cX6_kept 79 = .ok (.aload_n 0, 1) := dk_42 (dk_at dksX6_kept_3 9 rfl rfl)
theorem dX6_kept_80 : decode cX6_kept 80 = .ok (.getfield 7, 3) := dk_180 0 7 (dk_at dksX6_kept_3 10 rfl rfl)
theorem dX6_kept_83 : decode cX6_kept 83 = .ok (.iconst 0, 1) := dk_3 (dk_at dksX6_kept_3 13 rfl rfl)
theorem dX6_kept_84 : decode cX6_kept 84 = .ok (.iaload, 1) := dk_46 (dk_at dksX6_kept_3 14 rfl rfl)
theorem dX6_kept_85 : decode cX6_kept 85 = .ok (.ishl, 1) := dk_120 (dk_at dksX6_kept_3 15 rfl rfl)
theorem dX6_kept_86 : decode cX6_kept 86 = .ok (.if_icmp .ge 109, 3) := dk_162 0 109 (dk_at dksX6_kept_3 16 rfl rfl)
theorem dX6_kept_89 : decode cX6_kept 89 = .ok (.iconst 1, 1) := dk_4 (dk_at dksX6_kept_3 19 rfl rfl)
theorem dX6_kept_90 : decode cX6_kept 90 = .ok (.istore 7, 2) := dk_54 7 (dk_at dksX6_kept_3 20 rfl rfl)
theorem dX6_kept_92 : decode cX6_kept 92 = .ok (.aload_n 0, 1) := dk_42 (dk_at dksX6_kept_3 22 rfl rfl)
theorem dX6_kept_93 : decode cX6_kept 93 = .ok (.invokevirtual 83, 3) := dk_182 0 83 (dk_at dksX6_kept_4 0 rfl rfl)
theorem dX6_kept_96 : decode cX6_kept 96 = .ok (.iconst 0, 1) := dk_3 (dk_at dksX6_kept_4 3 rfl rfl)
theorem dX6_kept_97 : decode cX6_kept 97 = .ok (.istore 8, 2) := dk_54 8 (dk_at dksX6_kept_4 4 rfl rfl)
theorem dX6_kept_99 : decode cX6_kept 99 = .ok (.iload 8, 2) := dk_21 8 (dk_at dksX6_kept_4 6 rfl rfl)
theorem dX6_kept_101 : decode cX6_kept 101 = .ok (.aload_n 0, 1) := dk_42 (dk_at dksX6_kept_4 8 rfl rfl)
theorem dX6_kept_102 : decode cX6_kept 102 = .ok (.getfield 7, 3) := dk_180 0 7 (dk_at dksX6_kept_4 9 rfl rfl)
theorem dX6_kept_105 : decode cX6_kept 105 = .ok (.iconst 0, 1) := dk_3 (dk_at dksX6_kept_4 12 rfl rfl)
theorem dX6_kept_106 : decode cX6_kept 106 = .ok (.iaload, 1) := dk_46 (dk_at dksX6_kept_4 13 rfl rfl)
theorem dX6_kept_107 : decode cX6_kept 107 = .ok (.if_icmp .ge 62, 3) := dk_162 0 62 (dk_at dksX6_kept_4 14 rfl rfl)
theorem dX6_kept_110 : decode cX6_kept 110 = .ok (.iload 7, 2) := dk_21 7 (dk_at dksX6_kept_4 17 rfl rfl)
theorem dX6_kept_112 : decode cX6_kept 112 = .ok (.iload 6, 2) := dk_21 6 (dk_at dksX6_kept_4 19 rfl rfl)
theorem dX6_kept_114 : decode cX6_kept 114 = .ok (.iload 8, 2) := dk_21 8 (dk_at dksX6_kept_4 21 rfl rfl)
theorem dX6_kept_116 : decode cX6_kept 116 = .ok (.invokestatic 75, 3) := dk_184 0 75 (dk_at dksX6_kept_5 0 rfl rfl)
theorem dX6_kept_119 : decode cX6_kept 119 = .ok (.ifCond .eq 10, 3) := dk_153 0 10 (dk_at dksX6_kept_5 3 rfl rfl)
theorem dX6_kept_122 : decode cX6_kept 122 = .ok (.bipush 10, 2) := dk_16 10 (dk_at dksX6_kept_5 6 rfl rfl)
theorem dX6_kept_124 : decode cX6_kept 124 = .ok (.iload_n 2, 1) := dk_28 (dk_at dksX6_kept_5 8 rfl rfl)
theorem dX6_kept_125 : decode cX6_kept 125 = .ok (.isub, 1) := dk_100 (dk_at dksX6_kept_5 9 rfl rfl)
theorem dX6_kept_126 : decode cX6_kept 126 = .ok (.goto 4, 3) := dk_167 0 4 (dk_at dksX6_kept_5 10 rfl rfl)
theorem dX6_kept_129 : decode cX6_kept 129 = .ok (.iload_n 2, 1) := dk_28 (dk_at dksX6_kept_5 13 rfl rfl)
theorem dX6_kept_130 : decode cX6_kept 130 = .ok (.imul, 1) := dk_104 (dk_at dksX6_kept_5 14 rfl rfl)
theorem dX6_kept_131 : decode cX6_kept 131 = .ok (.istore 7, 2) := dk_54 7 (dk_at dksX6_kept_5 15 rfl rfl)
theorem dX6_kept_133 : decode cX6_kept 133 = .ok (.aload_n 0, 1) := dk_42 (dk_at dksX6_kept_5 17 rfl rfl)
theorem dX6_kept_134 : decode cX6_kept 134 = .ok (.iload 8, 2) := dk_21 8 (dk_at dksX6_kept_5 18 rfl rfl)
theorem dX6_kept_136 : decode cX6_kept 136 = .ok (.iload 6, 2) := dk_21 6 (dk_at dksX6_kept_5 20 rfl rfl)
theorem dX6_kept_138 : decode cX6_kept 138 = .ok (.iload 8, 2) := dk_21 8 (dk_at dksX6_kept_5 22 rfl rfl)
theorem dX6_kept_140 : decode cX6_kept 140 = .ok (.invokestatic 75, 3) := dk_184 0 75 (dk_at dksX6_kept_6 0 rfl rfl)
theorem dX6_kept_143 : decode cX6_kept 143 = .ok (.ifCond .eq 16, 3) := dk_153 0 16 (dk_at dksX6_kept_6 3 rfl rfl)
theorem dX6_kept_146 : decode cX6_kept 146 = .ok (.aload_n 0, 1) := dk_42 (dk_at dksX6_kept_6 6 rfl rfl)
theorem dX6_kept_147 : decode cX6_kept 147 = .ok (.iload 8, 2) := dk_21 8 (dk_at dksX6_kept_6 7 rfl rfl)
theorem dX6_kept_149 : decode cX6_kept 149 = .ok (.invokevirtual 86, 3) := dk_182 0 86 (dk_at dksX6_kept_6 9 rfl rfl)
theorem dX6_kept_152 : decode cX6_kept 152 = .ok (.iconst 1, 1) := dk_4 (dk_at dksX6_kept_6 12 rfl rfl)
theorem dX6_kept_153 : decode cX6_kept 153 = .ok (.iload_n 1, 1) := dk_27 (dk_at dksX6_kept_6 13 rfl rfl)
theorem dX6_kept_154 : decode cX6_kept 154 = .ok (.ishl, 1) := dk_120 (dk_at dksX6_kept_6 14 rfl rfl)
theorem dX6_kept_155 : decode cX6_kept 155 = .ok (.iand, 1) := dk_126 (dk_at dksX6_kept_6 15 rfl rfl)
theorem dX6_kept_156 : decode cX6_kept 156 = .ok (.goto 4, 3) := dk_167 0 4 (dk_at dksX6_kept_6 16 rfl rfl)
theorem dX6_kept_159 : decode cX6_kept 159 = .ok (.iconst 0, 1) := dk_3 (dk_at dksX6_kept_6 19 rfl rfl)
theorem dX6_kept_160 : decode cX6_kept 160 = .ok (.invokevirtual 89, 3) := dk_182 0 89 (dk_at dksX6_kept_6 20 rfl rfl)
theorem dX6_kept_163 : decode cX6_kept 163 = .ok (.iinc 8 1, 3) := dk_132 8 1 (dk_at dksX6_kept_7 0 rfl rfl)
theorem dX6_kept_166 : decode cX6_kept 166 = .ok (.goto (-67), 3) := dk_167 255 189 (dk_at dksX6_kept_7 3 rfl rfl)
theorem dX6_kept_169 : decode cX6_kept 169 = .ok (.iload 4, 2) := dk_21 4 (dk_at dksX6_kept_7 6 rfl rfl)
theorem dX6_kept_171 : decode cX6_kept 171 = .ok (.aload_n 0, 1) := dk_42 (dk_at dksX6_kept_7 8 rfl rfl)
theorem dX6_kept_172 : decode cX6_kept 172 = .ok (.getfield 45, 3) := dk_180 0 45 (dk_at dksX6_kept_7 9 rfl rfl)
theorem dX6_kept_175 : decode cX6_kept 175 = .ok (.iload_n 1, 1) := dk_27 (dk_at dksX6_kept_7 12 rfl rfl)
theorem dX6_kept_176 : decode cX6_kept 176 = .ok (.iaload, 1) := dk_46 (dk_at dksX6_kept_7 13 rfl rfl)
theorem dX6_kept_177 : decode cX6_kept 177 = .ok (.ifCond .le 8, 3) := dk_158 0 8 (dk_at dksX6_kept_7 14 rfl rfl)
theorem dX6_kept_180 : decode cX6_kept 180 = .ok (.iload 7, 2) := dk_21 7 (dk_at dksX6_kept_7 17 rfl rfl)
theorem dX6_kept_182 : decode cX6_kept 182 = .ok (.goto 4, 3) := dk_167 0 4 (dk_at dksX6_kept_7 19 rfl rfl)
theorem dX6_kept_185 : decode cX6_kept 185 = .ok (.iconst 0, 1) := dk_3 (dk_at dksX6_kept_7 22 rfl rfl)
theorem dX6_kept_186 : decode cX6_kept 186 = .ok (.iadd, 1) := dk_96 (dk_at dksX6_kept_7 23 rfl rfl)
theorem dX6_kept_187 : decode cX6_kept 187 = .ok (.istore 4, 2) := dk_54 4 (dk_at dksX6_kept_8 0 rfl rfl)
theorem dX6_kept_189 : decode cX6_kept 189 = .ok (.iinc 6 1, 3) := dk_132 6 1 (dk_at dksX6_kept_8 2 rfl rfl)
theorem dX6_kept_192 : decode cX6_kept 192 = .ok (.goto (-116), 3) := dk_167 255 140 (dk_at dksX6_kept_8 5 rfl rfl)
theorem dX6_kept_195 : decode cX6_kept 195 = .ok (.iload 4, 2) := dk_21 4 (dk_at dksX6_kept_8 8 rfl rfl)
theorem dX6_kept_197 : decode cX6_kept 197 = .ok (.istore 6, 2) := dk_54 6 (dk_at dksX6_kept_8 10 rfl rfl)
theorem dX6_kept_199 : decode cX6_kept 199 = .ok (.iload 5, 2) := dk_21 5 (dk_at dksX6_kept_8 12 rfl rfl)
theorem dX6_kept_201 : decode cX6_kept 201 = .ok (.istore 7, 2) := dk_54 7 (dk_at dksX6_kept_8 14 rfl rfl)
theorem dX6_kept_203 : decode cX6_kept 203 = .ok (.iload 7, 2) := dk_21 7 (dk_at dksX6_kept_8 16 rfl rfl)
theorem dX6_kept_205 : decode cX6_kept 205 = .ok (.ifCond .eq 21, 3) := dk_153 0 21 (dk_at dksX6_kept_8 18 rfl rfl)
theorem dX6_kept_208 : decode cX6_kept 208 = .ok (.iload 6, 2) := dk_21 6 (dk_at dksX6_kept_8 21 rfl rfl)
theorem dX6_kept_210 : decode cX6_kept 210 = .ok (.iload 7, 2) := dk_21 7 (dk_at dksX6_kept_9 0 rfl rfl)
theorem dX6_kept_212 : decode cX6_kept 212 = .ok (.irem, 1) := dk_112 (dk_at dksX6_kept_9 2 rfl rfl)
theorem dX6_kept_213 : decode cX6_kept 213 = .ok (.istore 8, 2) := dk_54 8 (dk_at dksX6_kept_9 3 rfl rfl)
theorem dX6_kept_215 : decode cX6_kept 215 = .ok (.iload 7, 2) := dk_21 7 (dk_at dksX6_kept_9 5 rfl rfl)
theorem dX6_kept_217 : decode cX6_kept 217 = .ok (.istore 6, 2) := dk_54 6 (dk_at dksX6_kept_9 7 rfl rfl)
theorem dX6_kept_219 : decode cX6_kept 219 = .ok (.iload 8, 2) := dk_21 8 (dk_at dksX6_kept_9 9 rfl rfl)
theorem dX6_kept_221 : decode cX6_kept 221 = .ok (.istore 7, 2) := dk_54 7 (dk_at dksX6_kept_9 11 rfl rfl)
theorem dX6_kept_223 : decode cX6_kept 223 = .ok (.goto (-20), 3) := dk_167 255 236 (dk_at dksX6_kept_9 13 rfl rfl)
theorem dX6_kept_226 : decode cX6_kept 226 = .ok (.iload_n 3, 1) := dk_29 (dk_at dksX6_kept_9 16 rfl rfl)
theorem dX6_kept_227 : decode cX6_kept 227 = .ok (.ifCond .ne 11, 3) := dk_154 0 11 (dk_at dksX6_kept_9 17 rfl rfl)
theorem dX6_kept_230 : decode cX6_kept 230 = .ok (.iload 4, 2) := dk_21 4 (dk_at dksX6_kept_9 20 rfl rfl)
theorem dX6_kept_232 : decode cX6_kept 232 = .ok (.iload 6, 2) := dk_21 6 (dk_at dksX6_kept_9 22 rfl rfl)
theorem dX6_kept_234 : decode cX6_kept 234 = .ok (.idiv, 1) := dk_108 (dk_at dksX6_kept_10 0 rfl rfl)
theorem dX6_kept_235 : decode cX6_kept 235 = .ok (.goto 8, 3) := dk_167 0 8 (dk_at dksX6_kept_10 1 rfl rfl)
theorem dX6_kept_238 : decode cX6_kept 238 = .ok (.iload 5, 2) := dk_21 5 (dk_at dksX6_kept_10 4 rfl rfl)
theorem dX6_kept_240 : decode cX6_kept 240 = .ok (.iload 6, 2) := dk_21 6 (dk_at dksX6_kept_10 6 rfl rfl)
theorem dX6_kept_242 : decode cX6_kept 242 = .ok (.idiv, 1) := dk_108 (dk_at dksX6_kept_10 8 rfl rfl)
theorem dX6_kept_243 : decode cX6_kept 243 = .ok (.ireturn, 1) := dk_172 (dk_at dksX6_kept_10 9 rfl rfl)
abbrev cX6_letter : ByteArray := prog_11_method_34_code
def yX6_letter : MethodName := ⟨RX6, "letter", "(I)I"⟩
def dkwX6_letter_1 : List UInt8 := [167, 0, 5, 16, 252, 172]
abbrev dktX6_letter_1 : List UInt8 := dkwX6_letter_1 ++ []
def dkwX6_letter_0 : List UInt8 := [27, 156, 0, 5, 2, 172, 42, 182, 0, 166, 27, 42, 180, 0, 156, 162, 0, 12, 42, 180, 0, 63, 27, 46]
abbrev dktX6_letter_0 : List UInt8 := dkwX6_letter_0 ++ dktX6_letter_1
theorem dksX6_letter_0 : cX6_letter.data.toList.drop 0 = dktX6_letter_0 := by decide +kernel
theorem dksX6_letter_1 : cX6_letter.data.toList.drop 24 = dktX6_letter_1 := dk_seg dksX6_letter_0 24 rfl rfl
theorem dX6_letter_0 : decode cX6_letter 0 = .ok (.iload_n 1, 1) := dk_27 (dk_at dksX6_letter_0 0 rfl rfl)
theorem dX6_letter_1 : decode cX6_letter 1 = .ok (.ifCond .ge 5, 3) := dk_156 0 5 (dk_at dksX6_letter_0 1 rfl rfl)
theorem dX6_letter_4 : decode cX6_letter 4 = .ok (.iconst (-1), 1) := dk_2 (dk_at dksX6_letter_0 4 rfl rfl)
theorem dX6_letter_5 : decode cX6_letter 5 = .ok (.ireturn, 1) := dk_172 (dk_at dksX6_letter_0 5 rfl rfl)
theorem dX6_letter_6 : decode cX6_letter 6 = .ok (.aload_n 0, 1) := dk_42 (dk_at dksX6_letter_0 6 rfl rfl)
theorem dX6_letter_7 : decode cX6_letter 7 = .ok (.invokevirtual 166, 3) := dk_182 0 166 (dk_at dksX6_letter_0 7 rfl rfl)
theorem dX6_letter_10 : decode cX6_letter 10 = .ok (.iload_n 1, 1) := dk_27 (dk_at dksX6_letter_0 10 rfl rfl)
theorem dX6_letter_11 : decode cX6_letter 11 = .ok (.aload_n 0, 1) := dk_42 (dk_at dksX6_letter_0 11 rfl rfl)
theorem dX6_letter_12 : decode cX6_letter 12 = .ok (.getfield 156, 3) := dk_180 0 156 (dk_at dksX6_letter_0 12 rfl rfl)
theorem dX6_letter_15 : decode cX6_letter 15 = .ok (.if_icmp .ge 12, 3) := dk_162 0 12 (dk_at dksX6_letter_0 15 rfl rfl)
theorem dX6_letter_18 : decode cX6_letter 18 = .ok (.aload_n 0, 1) := dk_42 (dk_at dksX6_letter_0 18 rfl rfl)
theorem dX6_letter_19 : decode cX6_letter 19 = .ok (.getfield 63, 3) := dk_180 0 63 (dk_at dksX6_letter_0 19 rfl rfl)
theorem dX6_letter_22 : decode cX6_letter 22 = .ok (.iload_n 1, 1) := dk_27 (dk_at dksX6_letter_0 22 rfl rfl)
theorem dX6_letter_23 : decode cX6_letter 23 = .ok (.iaload, 1) := dk_46 (dk_at dksX6_letter_0 23 rfl rfl)
theorem dX6_letter_24 : decode cX6_letter 24 = .ok (.goto 5, 3) := dk_167 0 5 (dk_at dksX6_letter_1 0 rfl rfl)
theorem dX6_letter_27 : decode cX6_letter 27 = .ok (.bipush (-4), 2) := dk_16 252 (dk_at dksX6_letter_1 3 rfl rfl)
theorem dX6_letter_29 : decode cX6_letter 29 = .ok (.ireturn, 1) := dk_172 (dk_at dksX6_letter_1 5 rfl rfl)
abbrev cX6_writesNote : ByteArray := prog_11_method_33_code
def yX6_writesNote : MethodName := ⟨RX6, "writesNote", "()V"⟩
def dkwX6_writesNote_5 : List UInt8 := [42, 16, 111, 182, 0, 159, 42, 16, 110, 182, 0, 159, 42, 16, 101, 182, 0, 159, 177]
abbrev dktX6_writesNote_5 : List UInt8 := dkwX6_writesNote_5 ++ []
def dkwX6_writesNote_4 : List UInt8 := [182, 0, 163, 132, 1, 1, 167, 255, 173, 42, 180, 0, 7, 3, 46, 154, 0, 27, 42, 16, 110, 182, 0, 159]
abbrev dktX6_writesNote_4 : List UInt8 := dkwX6_writesNote_4 ++ dktX6_writesNote_5
def dkwX6_writesNote_3 : List UInt8 := [180, 0, 57, 27, 46, 153, 0, 22, 42, 16, 45, 182, 0, 159, 42, 42, 180, 0, 57, 27, 46, 184, 0, 93]
abbrev dktX6_writesNote_3 : List UInt8 := dkwX6_writesNote_3 ++ dktX6_writesNote_4
def dkwX6_writesNote_2 : List UInt8 := [182, 0, 159, 42, 16, 43, 182, 0, 159, 42, 42, 180, 0, 51, 27, 46, 184, 0, 93, 182, 0, 163, 42]
abbrev dktX6_writesNote_2 : List UInt8 := dkwX6_writesNote_2 ++ dktX6_writesNote_3
def dkwX6_writesNote_1 : List UInt8 := [162, 0, 79, 27, 158, 0, 9, 42, 16, 32, 182, 0, 159, 42, 16, 48, 42, 180, 0, 42, 27, 46, 96]
abbrev dktX6_writesNote_1 : List UInt8 := dkwX6_writesNote_1 ++ dktX6_writesNote_2
def dkwX6_writesNote_0 : List UInt8 := [42, 3, 181, 0, 156, 42, 182, 0, 96, 42, 182, 0, 99, 3, 60, 27, 42, 180, 0, 7, 3, 46]
abbrev dktX6_writesNote_0 : List UInt8 := dkwX6_writesNote_0 ++ dktX6_writesNote_1
theorem dksX6_writesNote_0 : cX6_writesNote.data.toList.drop 0 = dktX6_writesNote_0 := by decide +kernel
theorem dksX6_writesNote_1 : cX6_writesNote.data.toList.drop 22 = dktX6_writesNote_1 := dk_seg dksX6_writesNote_0 22 rfl rfl
theorem dksX6_writesNote_2 : cX6_writesNote.data.toList.drop 45 = dktX6_writesNote_2 := dk_seg dksX6_writesNote_1 23 rfl rfl
theorem dksX6_writesNote_3 : cX6_writesNote.data.toList.drop 68 = dktX6_writesNote_3 := dk_seg dksX6_writesNote_2 23 rfl rfl
theorem dksX6_writesNote_4 : cX6_writesNote.data.toList.drop 92 = dktX6_writesNote_4 := dk_seg dksX6_writesNote_3 24 rfl rfl
theorem dksX6_writesNote_5 : cX6_writesNote.data.toList.drop 116 = dktX6_writesNote_5 := dk_seg dksX6_writesNote_4 24 rfl rfl
theorem dX6_writesNote_0 : decode cX6_writesNote 0 = .ok (.aload_n 0, 1) := dk_42 (dk_at dksX6_writesNote_0 0 rfl rfl)
theorem dX6_writesNote_1 : decode cX6_writesNote 1 = .ok (.iconst 0, 1) := dk_3 (dk_at dksX6_writesNote_0 1 rfl rfl)
theorem dX6_writesNote_2 : decode cX6_writesNote 2 = .ok (.putfield 156, 3) := dk_181 0 156 (dk_at dksX6_writesNote_0 2 rfl rfl)
theorem dX6_writesNote_5 : decode cX6_writesNote 5 = .ok (.aload_n 0, 1) := dk_42 (dk_at dksX6_writesNote_0 5 rfl rfl)
theorem dX6_writesNote_6 : decode cX6_writesNote 6 = .ok (.invokevirtual 96, 3) := dk_182 0 96 (dk_at dksX6_writesNote_0 6 rfl rfl)
theorem dX6_writesNote_9 : decode cX6_writesNote 9 = .ok (.aload_n 0, 1) := dk_42 (dk_at dksX6_writesNote_0 9 rfl rfl)
theorem dX6_writesNote_10 : decode cX6_writesNote 10 = .ok (.invokevirtual 99, 3) := dk_182 0 99 (dk_at dksX6_writesNote_0 10 rfl rfl)
theorem dX6_writesNote_13 : decode cX6_writesNote 13 = .ok (.iconst 0, 1) := dk_3 (dk_at dksX6_writesNote_0 13 rfl rfl)
theorem dX6_writesNote_14 : decode cX6_writesNote 14 = .ok (.istore_n 1, 1) := dk_60 (dk_at dksX6_writesNote_0 14 rfl rfl)
theorem dX6_writesNote_15 : decode cX6_writesNote 15 = .ok (.iload_n 1, 1) := dk_27 (dk_at dksX6_writesNote_0 15 rfl rfl)
theorem dX6_writesNote_16 : decode cX6_writesNote 16 = .ok (.aload_n 0, 1) := dk_42 (dk_at dksX6_writesNote_0 16 rfl rfl)
theorem dX6_writesNote_17 : decode cX6_writesNote 17 = .ok (.getfield 7, 3) := dk_180 0 7 (dk_at dksX6_writesNote_0 17 rfl rfl)
theorem dX6_writesNote_20 : decode cX6_writesNote 20 = .ok (.iconst 0, 1) := dk_3 (dk_at dksX6_writesNote_0 20 rfl rfl)
theorem dX6_writesNote_21 : decode cX6_writesNote 21 = .ok (.iaload, 1) := dk_46 (dk_at dksX6_writesNote_0 21 rfl rfl)
theorem dX6_writesNote_22 : decode cX6_writesNote 22 = .ok (.if_icmp .ge 79, 3) := dk_162 0 79 (dk_at dksX6_writesNote_1 0 rfl rfl)
theorem dX6_writesNote_25 : decode cX6_writesNote 25 = .ok (.iload_n 1, 1) := dk_27 (dk_at dksX6_writesNote_1 3 rfl rfl)
theorem dX6_writesNote_26 : decode cX6_writesNote 26 = .ok (.ifCond .le 9, 3) := dk_158 0 9 (dk_at dksX6_writesNote_1 4 rfl rfl)
theorem dX6_writesNote_29 : decode cX6_writesNote 29 = .ok (.aload_n 0, 1) := dk_42 (dk_at dksX6_writesNote_1 7 rfl rfl)
theorem dX6_writesNote_30 : decode cX6_writesNote 30 = .ok (.bipush 32, 2) := dk_16 32 (dk_at dksX6_writesNote_1 8 rfl rfl)
theorem dX6_writesNote_32 : decode cX6_writesNote 32 = .ok (.invokevirtual 159, 3) := dk_182 0 159 (dk_at dksX6_writesNote_1 10 rfl rfl)
theorem dX6_writesNote_35 : decode cX6_writesNote 35 = .ok (.aload_n 0, 1) := dk_42 (dk_at dksX6_writesNote_1 13 rfl rfl)
theorem dX6_writesNote_36 : decode cX6_writesNote 36 = .ok (.bipush 48, 2) := dk_16 48 (dk_at dksX6_writesNote_1 14 rfl rfl)
theorem dX6_writesNote_38 : decode cX6_writesNote 38 = .ok (.aload_n 0, 1) := dk_42 (dk_at dksX6_writesNote_1 16 rfl rfl)
theorem dX6_writesNote_39 : decode cX6_writesNote 39 = .ok (.getfield 42, 3) := dk_180 0 42 (dk_at dksX6_writesNote_1 17 rfl rfl)
theorem dX6_writesNote_42 : decode cX6_writesNote 42 = .ok (.iload_n 1, 1) := dk_27 (dk_at dksX6_writesNote_1 20 rfl rfl)
theorem dX6_writesNote_43 : decode cX6_writesNote 43 = .ok (.iaload, 1) := dk_46 (dk_at dksX6_writesNote_1 21 rfl rfl)
theorem dX6_writesNote_44 : decode cX6_writesNote 44 = .ok (.iadd, 1) := dk_96 (dk_at dksX6_writesNote_1 22 rfl rfl)
theorem dX6_writesNote_45 : decode cX6_writesNote 45 = .ok (.invokevirtual 159, 3) := dk_182 0 159 (dk_at dksX6_writesNote_2 0 rfl rfl)
theorem dX6_writesNote_48 : decode cX6_writesNote 48 = .ok (.aload_n 0, 1) := dk_42 (dk_at dksX6_writesNote_2 3 rfl rfl)
theorem dX6_writesNote_49 : decode cX6_writesNote 49 = .ok (.bipush 43, 2) := dk_16 43 (dk_at dksX6_writesNote_2 4 rfl rfl)
theorem dX6_writesNote_51 : decode cX6_writesNote 51 = .ok (.invokevirtual 159, 3) := dk_182 0 159 (dk_at dksX6_writesNote_2 6 rfl rfl)
theorem dX6_writesNote_54 : decode cX6_writesNote 54 = .ok (.aload_n 0, 1) := dk_42 (dk_at dksX6_writesNote_2 9 rfl rfl)
theorem dX6_writesNote_55 : decode cX6_writesNote 55 = .ok (.aload_n 0, 1) := dk_42 (dk_at dksX6_writesNote_2 10 rfl rfl)
theorem dX6_writesNote_56 : decode cX6_writesNote 56 = .ok (.getfield 51, 3) := dk_180 0 51 (dk_at dksX6_writesNote_2 11 rfl rfl)
theorem dX6_writesNote_59 : decode cX6_writesNote 59 = .ok (.iload_n 1, 1) := dk_27 (dk_at dksX6_writesNote_2 14 rfl rfl)
theorem dX6_writesNote_60 : decode cX6_writesNote 60 = .ok (.iaload, 1) := dk_46 (dk_at dksX6_writesNote_2 15 rfl rfl)
theorem dX6_writesNote_61 : decode cX6_writesNote 61 = .ok (.invokestatic 93, 3) := dk_184 0 93 (dk_at dksX6_writesNote_2 16 rfl rfl)
theorem dX6_writesNote_64 : decode cX6_writesNote 64 = .ok (.invokevirtual 163, 3) := dk_182 0 163 (dk_at dksX6_writesNote_2 19 rfl rfl)
theorem dX6_writesNote_67 : decode cX6_writesNote 67 = .ok (.aload_n 0, 1) := dk_42 (dk_at dksX6_writesNote_2 22 rfl rfl)
theorem dX6_writesNote_68 : decode cX6_writesNote 68 = .ok (.getfield 57, 3) := dk_180 0 57 (dk_at dksX6_writesNote_3 0 rfl rfl)
theorem dX6_writesNote_71 : decode cX6_writesNote 71 = .ok (.iload_n 1, 1) := dk_27 (dk_at dksX6_writesNote_3 3 rfl rfl)
theorem dX6_writesNote_72 : decode cX6_writesNote 72 = .ok (.iaload, 1) := dk_46 (dk_at dksX6_writesNote_3 4 rfl rfl)
theorem dX6_writesNote_73 : decode cX6_writesNote 73 = .ok (.ifCond .eq 22, 3) := dk_153 0 22 (dk_at dksX6_writesNote_3 5 rfl rfl)
theorem dX6_writesNote_76 : decode cX6_writesNote 76 = .ok (.aload_n 0, 1) := dk_42 (dk_at dksX6_writesNote_3 8 rfl rfl)
theorem dX6_writesNote_77 : decode cX6_writesNote 77 = .ok (.bipush 45, 2) := dk_16 45 (dk_at dksX6_writesNote_3 9 rfl rfl)
theorem dX6_writesNote_79 : decode cX6_writesNote 79 = .ok (.invokevirtual 159, 3) := dk_182 0 159 (dk_at dksX6_writesNote_3 11 rfl rfl)
theorem dX6_writesNote_82 : decode cX6_writesNote 82 = .ok (.aload_n 0, 1) := dk_42 (dk_at dksX6_writesNote_3 14 rfl rfl)
theorem dX6_writesNote_83 : decode cX6_writesNote 83 = .ok (.aload_n 0, 1) := dk_42 (dk_at dksX6_writesNote_3 15 rfl rfl)
theorem dX6_writesNote_84 : decode cX6_writesNote 84 = .ok (.getfield 57, 3) := dk_180 0 57 (dk_at dksX6_writesNote_3 16 rfl rfl)
theorem dX6_writesNote_87 : decode cX6_writesNote 87 = .ok (.iload_n 1, 1) := dk_27 (dk_at dksX6_writesNote_3 19 rfl rfl)
theorem dX6_writesNote_88 : decode cX6_writesNote 88 = .ok (.iaload, 1) := dk_46 (dk_at dksX6_writesNote_3 20 rfl rfl)
theorem dX6_writesNote_89 : decode cX6_writesNote 89 = .ok (.invokestatic 93, 3) := dk_184 0 93 (dk_at dksX6_writesNote_3 21 rfl rfl)
theorem dX6_writesNote_92 : decode cX6_writesNote 92 = .ok (.invokevirtual 163, 3) := dk_182 0 163 (dk_at dksX6_writesNote_4 0 rfl rfl)
theorem dX6_writesNote_95 : decode cX6_writesNote 95 = .ok (.iinc 1 1, 3) := dk_132 1 1 (dk_at dksX6_writesNote_4 3 rfl rfl)
theorem dX6_writesNote_98 : decode cX6_writesNote 98 = .ok (.goto (-83), 3) := dk_167 255 173 (dk_at dksX6_writesNote_4 6 rfl rfl)
theorem dX6_writesNote_101 : decode cX6_writesNote 101 = .ok (.aload_n 0, 1) := dk_42 (dk_at dksX6_writesNote_4 9 rfl rfl)
theorem dX6_writesNote_102 : decode cX6_writesNote 102 = .ok (.getfield 7, 3) := dk_180 0 7 (dk_at dksX6_writesNote_4 10 rfl rfl)
theorem dX6_writesNote_105 : decode cX6_writesNote 105 = .ok (.iconst 0, 1) := dk_3 (dk_at dksX6_writesNote_4 13 rfl rfl)
theorem dX6_writesNote_106 : decode cX6_writesNote 106 = .ok (.iaload, 1) := dk_46 (dk_at dksX6_writesNote_4 14 rfl rfl)
theorem dX6_writesNote_107 : decode cX6_writesNote 107 = .ok (.ifCond .ne 27, 3) := dk_154 0 27 (dk_at dksX6_writesNote_4 15 rfl rfl)
theorem dX6_writesNote_110 : decode cX6_writesNote 110 = .ok (.aload_n 0, 1) := dk_42 (dk_at dksX6_writesNote_4 18 rfl rfl)
theorem dX6_writesNote_111 : decode cX6_writesNote 111 = .ok (.bipush 110, 2) := dk_16 110 (dk_at dksX6_writesNote_4 19 rfl rfl)
theorem dX6_writesNote_113 : decode cX6_writesNote 113 = .ok (.invokevirtual 159, 3) := dk_182 0 159 (dk_at dksX6_writesNote_4 21 rfl rfl)
theorem dX6_writesNote_116 : decode cX6_writesNote 116 = .ok (.aload_n 0, 1) := dk_42 (dk_at dksX6_writesNote_5 0 rfl rfl)
theorem dX6_writesNote_117 : decode cX6_writesNote 117 = .ok (.bipush 111, 2) := dk_16 111 (dk_at dksX6_writesNote_5 1 rfl rfl)
theorem dX6_writesNote_119 : decode cX6_writesNote 119 = .ok (.invokevirtual 159, 3) := dk_182 0 159 (dk_at dksX6_writesNote_5 3 rfl rfl)
theorem dX6_writesNote_122 : decode cX6_writesNote 122 = .ok (.aload_n 0, 1) := dk_42 (dk_at dksX6_writesNote_5 6 rfl rfl)
theorem dX6_writesNote_123 : decode cX6_writesNote 123 = .ok (.bipush 110, 2) := dk_16 110 (dk_at dksX6_writesNote_5 7 rfl rfl)
theorem dX6_writesNote_125 : decode cX6_writesNote 125 = .ok (.invokevirtual 159, 3) := dk_182 0 159 (dk_at dksX6_writesNote_5 9 rfl rfl)
theorem dX6_writesNote_128 : decode cX6_writesNote 128 = .ok (.aload_n 0, 1) := dk_42 (dk_at dksX6_writesNote_5 12 rfl rfl)
theorem dX6_writesNote_129 : decode cX6_writesNote 129 = .ok (.bipush 101, 2) := dk_16 101 (dk_at dksX6_writesNote_5 13 rfl rfl)
theorem dX6_writesNote_131 : decode cX6_writesNote 131 = .ok (.invokevirtual 159, 3) := dk_182 0 159 (dk_at dksX6_writesNote_5 15 rfl rfl)
theorem dX6_writesNote_134 : decode cX6_writesNote 134 = .ok (.return_, 1) := dk_177 (dk_at dksX6_writesNote_5 18 rfl rfl)
abbrev cX6_writes : ByteArray := prog_11_method_31_code
def yX6_writes : MethodName := ⟨RX6, "writes", "(I)V"⟩
def dkwX6_writes_0 : List UInt8 := [42, 180, 0, 63, 42, 180, 0, 156, 27, 79, 42, 89, 180, 0, 156, 4, 96, 181, 0, 156, 177]
abbrev dktX6_writes_0 : List UInt8 := dkwX6_writes_0 ++ []
theorem dksX6_writes_0 : cX6_writes.data.toList.drop 0 = dktX6_writes_0 := by decide +kernel
theorem dX6_writes_0 : decode cX6_writes 0 = .ok (.aload_n 0, 1) := dk_42 (dk_at dksX6_writes_0 0 rfl rfl)
theorem dX6_writes_1 : decode cX6_writes 1 = .ok (.getfield 63, 3) := dk_180 0 63 (dk_at dksX6_writes_0 1 rfl rfl)
theorem dX6_writes_4 : decode cX6_writes 4 = .ok (.aload_n 0, 1) := dk_42 (dk_at dksX6_writes_0 4 rfl rfl)
theorem dX6_writes_5 : decode cX6_writes 5 = .ok (.getfield 156, 3) := dk_180 0 156 (dk_at dksX6_writes_0 5 rfl rfl)
theorem dX6_writes_8 : decode cX6_writes 8 = .ok (.iload_n 1, 1) := dk_27 (dk_at dksX6_writes_0 8 rfl rfl)
theorem dX6_writes_9 : decode cX6_writes 9 = .ok (.iastore, 1) := dk_79 (dk_at dksX6_writes_0 9 rfl rfl)
theorem dX6_writes_10 : decode cX6_writes 10 = .ok (.aload_n 0, 1) := dk_42 (dk_at dksX6_writes_0 10 rfl rfl)
theorem dX6_writes_11 : decode cX6_writes 11 = .ok (.dup, 1) := dk_89 (dk_at dksX6_writes_0 11 rfl rfl)
theorem dX6_writes_12 : decode cX6_writes 12 = .ok (.getfield 156, 3) := dk_180 0 156 (dk_at dksX6_writes_0 12 rfl rfl)
theorem dX6_writes_15 : decode cX6_writes 15 = .ok (.iconst 1, 1) := dk_4 (dk_at dksX6_writes_0 15 rfl rfl)
theorem dX6_writes_16 : decode cX6_writes 16 = .ok (.iadd, 1) := dk_96 (dk_at dksX6_writes_0 16 rfl rfl)
theorem dX6_writes_17 : decode cX6_writes 17 = .ok (.putfield 156, 3) := dk_181 0 156 (dk_at dksX6_writes_0 17 rfl rfl)
theorem dX6_writes_20 : decode cX6_writes 20 = .ok (.return_, 1) := dk_177 (dk_at dksX6_writes_0 20 rfl rfl)
abbrev cX6_writesNumber : ByteArray := prog_11_method_32_code
def yX6_writesNumber : MethodName := ⟨RX6, "writesNumber", "(I)V"⟩
def dkwX6_writesNumber_1 : List UInt8 := [96, 182, 0, 159, 177]
abbrev dktX6_writesNumber_1 : List UInt8 := dkwX6_writesNumber_1 ++ []
def dkwX6_writesNumber_0 : List UInt8 := [27, 16, 9, 164, 0, 14, 42, 16, 48, 27, 16, 10, 108, 96, 182, 0, 159, 42, 16, 48, 27, 16, 10, 112]
abbrev dktX6_writesNumber_0 : List UInt8 := dkwX6_writesNumber_0 ++ dktX6_writesNumber_1
theorem dksX6_writesNumber_0 : cX6_writesNumber.data.toList.drop 0 = dktX6_writesNumber_0 := by decide +kernel
theorem dksX6_writesNumber_1 : cX6_writesNumber.data.toList.drop 24 = dktX6_writesNumber_1 := dk_seg dksX6_writesNumber_0 24 rfl rfl
theorem dX6_writesNumber_0 : decode cX6_writesNumber 0 = .ok (.iload_n 1, 1) := dk_27 (dk_at dksX6_writesNumber_0 0 rfl rfl)
theorem dX6_writesNumber_1 : decode cX6_writesNumber 1 = .ok (.bipush 9, 2) := dk_16 9 (dk_at dksX6_writesNumber_0 1 rfl rfl)
theorem dX6_writesNumber_3 : decode cX6_writesNumber 3 = .ok (.if_icmp .le 14, 3) := dk_164 0 14 (dk_at dksX6_writesNumber_0 3 rfl rfl)
theorem dX6_writesNumber_6 : decode cX6_writesNumber 6 = .ok (.aload_n 0, 1) := dk_42 (dk_at dksX6_writesNumber_0 6 rfl rfl)
theorem dX6_writesNumber_7 : decode cX6_writesNumber 7 = .ok (.bipush 48, 2) := dk_16 48 (dk_at dksX6_writesNumber_0 7 rfl rfl)
theorem dX6_writesNumber_9 : decode cX6_writesNumber 9 = .ok (.iload_n 1, 1) := dk_27 (dk_at dksX6_writesNumber_0 9 rfl rfl)
theorem dX6_writesNumber_10 : decode cX6_writesNumber 10 = .ok (.bipush 10, 2) := dk_16 10 (dk_at dksX6_writesNumber_0 10 rfl rfl)
theorem dX6_writesNumber_12 : decode cX6_writesNumber 12 = .ok (.idiv, 1) := dk_108 (dk_at dksX6_writesNumber_0 12 rfl rfl)
theorem dX6_writesNumber_13 : decode cX6_writesNumber 13 = .ok (.iadd, 1) := dk_96 (dk_at dksX6_writesNumber_0 13 rfl rfl)
theorem dX6_writesNumber_14 : decode cX6_writesNumber 14 = .ok (.invokevirtual 159, 3) := dk_182 0 159 (dk_at dksX6_writesNumber_0 14 rfl rfl)
theorem dX6_writesNumber_17 : decode cX6_writesNumber 17 = .ok (.aload_n 0, 1) := dk_42 (dk_at dksX6_writesNumber_0 17 rfl rfl)
theorem dX6_writesNumber_18 : decode cX6_writesNumber 18 = .ok (.bipush 48, 2) := dk_16 48 (dk_at dksX6_writesNumber_0 18 rfl rfl)
theorem dX6_writesNumber_20 : decode cX6_writesNumber 20 = .ok (.iload_n 1, 1) := dk_27 (dk_at dksX6_writesNumber_0 20 rfl rfl)
theorem dX6_writesNumber_21 : decode cX6_writesNumber 21 = .ok (.bipush 10, 2) := dk_16 10 (dk_at dksX6_writesNumber_0 21 rfl rfl)
theorem dX6_writesNumber_23 : decode cX6_writesNumber 23 = .ok (.irem, 1) := dk_112 (dk_at dksX6_writesNumber_0 23 rfl rfl)
theorem dX6_writesNumber_24 : decode cX6_writesNumber 24 = .ok (.iadd, 1) := dk_96 (dk_at dksX6_writesNumber_1 0 rfl rfl)
theorem dX6_writesNumber_25 : decode cX6_writesNumber 25 = .ok (.invokevirtual 159, 3) := dk_182 0 159 (dk_at dksX6_writesNumber_1 1 rfl rfl)
theorem dX6_writesNumber_28 : decode cX6_writesNumber 28 = .ok (.return_, 1) := dk_177 (dk_at dksX6_writesNumber_1 4 rfl rfl)
abbrev cX6_book : ByteArray := prog_11_method_48_code
def yX6_book : MethodName := ⟨RX6, "book", "(I)I"⟩
def dkwX6_book_0 : List UInt8 := [42, 182, 0, 188, 42, 42, 27, 182, 0, 191, 182, 0, 194, 172]
abbrev dktX6_book_0 : List UInt8 := dkwX6_book_0 ++ []
theorem dksX6_book_0 : cX6_book.data.toList.drop 0 = dktX6_book_0 := by decide +kernel
theorem dX6_book_0 : decode cX6_book 0 = .ok (.aload_n 0, 1) := dk_42 (dk_at dksX6_book_0 0 rfl rfl)
theorem dX6_book_1 : decode cX6_book 1 = .ok (.invokevirtual 188, 3) := dk_182 0 188 (dk_at dksX6_book_0 1 rfl rfl)
theorem dX6_book_4 : decode cX6_book 4 = .ok (.aload_n 0, 1) := dk_42 (dk_at dksX6_book_0 4 rfl rfl)
theorem dX6_book_5 : decode cX6_book 5 = .ok (.aload_n 0, 1) := dk_42 (dk_at dksX6_book_0 5 rfl rfl)
theorem dX6_book_6 : decode cX6_book 6 = .ok (.iload_n 1, 1) := dk_27 (dk_at dksX6_book_0 6 rfl rfl)
theorem dX6_book_7 : decode cX6_book 7 = .ok (.invokevirtual 191, 3) := dk_182 0 191 (dk_at dksX6_book_0 7 rfl rfl)
theorem dX6_book_10 : decode cX6_book 10 = .ok (.invokevirtual 194, 3) := dk_182 0 194 (dk_at dksX6_book_0 10 rfl rfl)
theorem dX6_book_13 : decode cX6_book 13 = .ok (.ireturn, 1) := dk_172 (dk_at dksX6_book_0 13 rfl rfl)
abbrev cX6_holds : ByteArray := prog_11_method_36_code
def yX6_holds : MethodName := ⟨RX6, "holds", "()V"⟩
def dkwX6_holds_1 : List UInt8 := [167, 255, 235, 177]
abbrev dktX6_holds_1 : List UInt8 := dkwX6_holds_1 ++ []
def dkwX6_holds_0 : List UInt8 := [3, 60, 27, 16, 27, 162, 0, 21, 42, 180, 0, 66, 27, 42, 180, 0, 7, 27, 46, 79, 132, 1, 1]
abbrev dktX6_holds_0 : List UInt8 := dkwX6_holds_0 ++ dktX6_holds_1
theorem dksX6_holds_0 : cX6_holds.data.toList.drop 0 = dktX6_holds_0 := by decide +kernel
theorem dksX6_holds_1 : cX6_holds.data.toList.drop 23 = dktX6_holds_1 := dk_seg dksX6_holds_0 23 rfl rfl
theorem dX6_holds_0 : decode cX6_holds 0 = .ok (.iconst 0, 1) := dk_3 (dk_at dksX6_holds_0 0 rfl rfl)
theorem dX6_holds_1 : decode cX6_holds 1 = .ok (.istore_n 1, 1) := dk_60 (dk_at dksX6_holds_0 1 rfl rfl)
theorem dX6_holds_2 : decode cX6_holds 2 = .ok (.iload_n 1, 1) := dk_27 (dk_at dksX6_holds_0 2 rfl rfl)
theorem dX6_holds_3 : decode cX6_holds 3 = .ok (.bipush 27, 2) := dk_16 27 (dk_at dksX6_holds_0 3 rfl rfl)
theorem dX6_holds_5 : decode cX6_holds 5 = .ok (.if_icmp .ge 21, 3) := dk_162 0 21 (dk_at dksX6_holds_0 5 rfl rfl)
theorem dX6_holds_8 : decode cX6_holds 8 = .ok (.aload_n 0, 1) := dk_42 (dk_at dksX6_holds_0 8 rfl rfl)
theorem dX6_holds_9 : decode cX6_holds 9 = .ok (.getfield 66, 3) := dk_180 0 66 (dk_at dksX6_holds_0 9 rfl rfl)
theorem dX6_holds_12 : decode cX6_holds 12 = .ok (.iload_n 1, 1) := dk_27 (dk_at dksX6_holds_0 12 rfl rfl)
theorem dX6_holds_13 : decode cX6_holds 13 = .ok (.aload_n 0, 1) := dk_42 (dk_at dksX6_holds_0 13 rfl rfl)
theorem dX6_holds_14 : decode cX6_holds 14 = .ok (.getfield 7, 3) := dk_180 0 7 (dk_at dksX6_holds_0 14 rfl rfl)
theorem dX6_holds_17 : decode cX6_holds 17 = .ok (.iload_n 1, 1) := dk_27 (dk_at dksX6_holds_0 17 rfl rfl)
theorem dX6_holds_18 : decode cX6_holds 18 = .ok (.iaload, 1) := dk_46 (dk_at dksX6_holds_0 18 rfl rfl)
theorem dX6_holds_19 : decode cX6_holds 19 = .ok (.iastore, 1) := dk_79 (dk_at dksX6_holds_0 19 rfl rfl)
theorem dX6_holds_20 : decode cX6_holds 20 = .ok (.iinc 1 1, 3) := dk_132 1 1 (dk_at dksX6_holds_0 20 rfl rfl)
theorem dX6_holds_23 : decode cX6_holds 23 = .ok (.goto (-21), 3) := dk_167 255 235 (dk_at dksX6_holds_1 0 rfl rfl)
theorem dX6_holds_26 : decode cX6_holds 26 = .ok (.return_, 1) := dk_177 (dk_at dksX6_holds_1 3 rfl rfl)
abbrev cX6_adds : ByteArray := prog_11_method_38_code
def yX6_adds : MethodName := ⟨RX6, "adds", "(I)I"⟩
def dkwX6_adds_2 : List UInt8 := [27, 79, 42, 180, 0, 7, 16, 20, 28, 96, 3, 79, 42, 180, 0, 7, 3, 92, 46, 4, 96, 79, 28, 172]
abbrev dktX6_adds_2 : List UInt8 := dkwX6_adds_2 ++ []
def dkwX6_adds_1 : List UInt8 := [160, 0, 6, 16, 253, 172, 42, 180, 0, 7, 16, 6, 28, 96, 28, 79, 42, 180, 0, 7, 16, 13, 28, 96]
abbrev dktX6_adds_1 : List UInt8 := dkwX6_adds_1 ++ dktX6_adds_2
def dkwX6_adds_0 : List UInt8 := [27, 184, 0, 172, 153, 0, 7, 27, 154, 0, 5, 2, 172, 42, 180, 0, 7, 3, 46, 61, 28, 16, 7]
abbrev dktX6_adds_0 : List UInt8 := dkwX6_adds_0 ++ dktX6_adds_1
theorem dksX6_adds_0 : cX6_adds.data.toList.drop 0 = dktX6_adds_0 := by decide +kernel
theorem dksX6_adds_1 : cX6_adds.data.toList.drop 23 = dktX6_adds_1 := dk_seg dksX6_adds_0 23 rfl rfl
theorem dksX6_adds_2 : cX6_adds.data.toList.drop 47 = dktX6_adds_2 := dk_seg dksX6_adds_1 24 rfl rfl
theorem dX6_adds_0 : decode cX6_adds 0 = .ok (.iload_n 1, 1) := dk_27 (dk_at dksX6_adds_0 0 rfl rfl)
theorem dX6_adds_1 : decode cX6_adds 1 = .ok (.invokestatic 172, 3) := dk_184 0 172 (dk_at dksX6_adds_0 1 rfl rfl)
theorem dX6_adds_4 : decode cX6_adds 4 = .ok (.ifCond .eq 7, 3) := dk_153 0 7 (dk_at dksX6_adds_0 4 rfl rfl)
theorem dX6_adds_7 : decode cX6_adds 7 = .ok (.iload_n 1, 1) := dk_27 (dk_at dksX6_adds_0 7 rfl rfl)
theorem dX6_adds_8 : decode cX6_adds 8 = .ok (.ifCond .ne 5, 3) := dk_154 0 5 (dk_at dksX6_adds_0 8 rfl rfl)
theorem dX6_adds_11 : decode cX6_adds 11 = .ok (.iconst (-1), 1) := dk_2 (dk_at dksX6_adds_0 11 rfl rfl)
theorem dX6_adds_12 : decode cX6_adds 12 = .ok (.ireturn, 1) := dk_172 (dk_at dksX6_adds_0 12 rfl rfl)
theorem dX6_adds_13 : decode cX6_adds 13 = .ok (.aload_n 0, 1) := dk_42 (dk_at dksX6_adds_0 13 rfl rfl)
theorem dX6_adds_14 : decode cX6_adds 14 = .ok (.getfield 7, 3) := dk_180 0 7 (dk_at dksX6_adds_0 14 rfl rfl)
theorem dX6_adds_17 : decode cX6_adds 17 = .ok (.iconst 0, 1) := dk_3 (dk_at dksX6_adds_0 17 rfl rfl)
theorem dX6_adds_18 : decode cX6_adds 18 = .ok (.iaload, 1) := dk_46 (dk_at dksX6_adds_0 18 rfl rfl)
theorem dX6_adds_19 : decode cX6_adds 19 = .ok (.istore_n 2, 1) := dk_61 (dk_at dksX6_adds_0 19 rfl rfl)
theorem dX6_adds_20 : decode cX6_adds 20 = .ok (.iload_n 2, 1) := dk_28 (dk_at dksX6_adds_0 20 rfl rfl)
theorem dX6_adds_21 : decode cX6_adds 21 = .ok (.bipush 7, 2) := dk_16 7 (dk_at dksX6_adds_0 21 rfl rfl)
theorem dX6_adds_23 : decode cX6_adds 23 = .ok (.if_icmp .ne 6, 3) := dk_160 0 6 (dk_at dksX6_adds_1 0 rfl rfl)
theorem dX6_adds_26 : decode cX6_adds 26 = .ok (.bipush (-3), 2) := dk_16 253 (dk_at dksX6_adds_1 3 rfl rfl)
theorem dX6_adds_28 : decode cX6_adds 28 = .ok (.ireturn, 1) := dk_172 (dk_at dksX6_adds_1 5 rfl rfl)
theorem dX6_adds_29 : decode cX6_adds 29 = .ok (.aload_n 0, 1) := dk_42 (dk_at dksX6_adds_1 6 rfl rfl)
theorem dX6_adds_30 : decode cX6_adds 30 = .ok (.getfield 7, 3) := dk_180 0 7 (dk_at dksX6_adds_1 7 rfl rfl)
theorem dX6_adds_33 : decode cX6_adds 33 = .ok (.bipush 6, 2) := dk_16 6 (dk_at dksX6_adds_1 10 rfl rfl)
theorem dX6_adds_35 : decode cX6_adds 35 = .ok (.iload_n 2, 1) := dk_28 (dk_at dksX6_adds_1 12 rfl rfl)
theorem dX6_adds_36 : decode cX6_adds 36 = .ok (.iadd, 1) := dk_96 (dk_at dksX6_adds_1 13 rfl rfl)
theorem dX6_adds_37 : decode cX6_adds 37 = .ok (.iload_n 2, 1) := dk_28 (dk_at dksX6_adds_1 14 rfl rfl)
theorem dX6_adds_38 : decode cX6_adds 38 = .ok (.iastore, 1) := dk_79 (dk_at dksX6_adds_1 15 rfl rfl)
theorem dX6_adds_39 : decode cX6_adds 39 = .ok (.aload_n 0, 1) := dk_42 (dk_at dksX6_adds_1 16 rfl rfl)
theorem dX6_adds_40 : decode cX6_adds 40 = .ok (.getfield 7, 3) := dk_180 0 7 (dk_at dksX6_adds_1 17 rfl rfl)
theorem dX6_adds_43 : decode cX6_adds 43 = .ok (.bipush 13, 2) := dk_16 13 (dk_at dksX6_adds_1 20 rfl rfl)
theorem dX6_adds_45 : decode cX6_adds 45 = .ok (.iload_n 2, 1) := dk_28 (dk_at dksX6_adds_1 22 rfl rfl)
theorem dX6_adds_46 : decode cX6_adds 46 = .ok (.iadd, 1) := dk_96 (dk_at dksX6_adds_1 23 rfl rfl)
theorem dX6_adds_47 : decode cX6_adds 47 = .ok (.iload_n 1, 1) := dk_27 (dk_at dksX6_adds_2 0 rfl rfl)
theorem dX6_adds_48 : decode cX6_adds 48 = .ok (.iastore, 1) := dk_79 (dk_at dksX6_adds_2 1 rfl rfl)
theorem dX6_adds_49 : decode cX6_adds 49 = .ok (.aload_n 0, 1) := dk_42 (dk_at dksX6_adds_2 2 rfl rfl)
theorem dX6_adds_50 : decode cX6_adds 50 = .ok (.getfield 7, 3) := dk_180 0 7 (dk_at dksX6_adds_2 3 rfl rfl)
theorem dX6_adds_53 : decode cX6_adds 53 = .ok (.bipush 20, 2) := dk_16 20 (dk_at dksX6_adds_2 6 rfl rfl)
theorem dX6_adds_55 : decode cX6_adds 55 = .ok (.iload_n 2, 1) := dk_28 (dk_at dksX6_adds_2 8 rfl rfl)
theorem dX6_adds_56 : decode cX6_adds 56 = .ok (.iadd, 1) := dk_96 (dk_at dksX6_adds_2 9 rfl rfl)
theorem dX6_adds_57 : decode cX6_adds 57 = .ok (.iconst 0, 1) := dk_3 (dk_at dksX6_adds_2 10 rfl rfl)
theorem dX6_adds_58 : decode cX6_adds 58 = .ok (.iastore, 1) := dk_79 (dk_at dksX6_adds_2 11 rfl rfl)
theorem dX6_adds_59 : decode cX6_adds 59 = .ok (.aload_n 0, 1) := dk_42 (dk_at dksX6_adds_2 12 rfl rfl)
theorem dX6_adds_60 : decode cX6_adds 60 = .ok (.getfield 7, 3) := dk_180 0 7 (dk_at dksX6_adds_2 13 rfl rfl)
theorem dX6_adds_63 : decode cX6_adds 63 = .ok (.iconst 0, 1) := dk_3 (dk_at dksX6_adds_2 16 rfl rfl)
theorem dX6_adds_64 : decode cX6_adds 64 = .ok (.dup2, 1) := dk_92 (dk_at dksX6_adds_2 17 rfl rfl)
theorem dX6_adds_65 : decode cX6_adds 65 = .ok (.iaload, 1) := dk_46 (dk_at dksX6_adds_2 18 rfl rfl)
theorem dX6_adds_66 : decode cX6_adds 66 = .ok (.iconst 1, 1) := dk_4 (dk_at dksX6_adds_2 19 rfl rfl)
theorem dX6_adds_67 : decode cX6_adds 67 = .ok (.iadd, 1) := dk_96 (dk_at dksX6_adds_2 20 rfl rfl)
theorem dX6_adds_68 : decode cX6_adds 68 = .ok (.iastore, 1) := dk_79 (dk_at dksX6_adds_2 21 rfl rfl)
theorem dX6_adds_69 : decode cX6_adds 69 = .ok (.iload_n 2, 1) := dk_28 (dk_at dksX6_adds_2 22 rfl rfl)
theorem dX6_adds_70 : decode cX6_adds 70 = .ok (.ireturn, 1) := dk_172 (dk_at dksX6_adds_2 23 rfl rfl)
abbrev cX6_isSet : ByteArray := prog_11_method_5_code
def yX6_isSet : MethodName := ⟨RX6, "isSet", "(I)Z"⟩
def dkwX6_isSet_0 : List UInt8 := [26, 133, 9, 20, 0, 69, 184, 0, 71, 172]
abbrev dktX6_isSet_0 : List UInt8 := dkwX6_isSet_0 ++ []
theorem dksX6_isSet_0 : cX6_isSet.data.toList.drop 0 = dktX6_isSet_0 := by decide +kernel
theorem dX6_isSet_0 : decode cX6_isSet 0 = .ok (.iload_n 0, 1) := dk_26 (dk_at dksX6_isSet_0 0 rfl rfl)
theorem dX6_isSet_1 : decode cX6_isSet 1 = .ok (.i2l, 1) := dk_133 (dk_at dksX6_isSet_0 1 rfl rfl)
theorem dX6_isSet_2 : decode cX6_isSet 2 = .ok (.lconst 0, 1) := dk_9 (dk_at dksX6_isSet_0 2 rfl rfl)
theorem dX6_isSet_3 : decode cX6_isSet 3 = .ok (.ldc2_w 69, 3) := dk_20 0 69 (dk_at dksX6_isSet_0 3 rfl rfl)
theorem dX6_isSet_6 : decode cX6_isSet 6 = .ok (.invokestatic 71, 3) := dk_184 0 71 (dk_at dksX6_isSet_0 6 rfl rfl)
theorem dX6_isSet_9 : decode cX6_isSet 9 = .ok (.ireturn, 1) := dk_172 (dk_at dksX6_isSet_0 9 rfl rfl)
abbrev cX6_acted : ByteArray := prog_11_method_37_code
def yX6_acted : MethodName := ⟨RX6, "acted", "(I)I"⟩
def dkwX6_acted_0 : List UInt8 := [27, 155, 0, 7, 42, 182, 0, 169, 27, 172]
abbrev dktX6_acted_0 : List UInt8 := dkwX6_acted_0 ++ []
theorem dksX6_acted_0 : cX6_acted.data.toList.drop 0 = dktX6_acted_0 := by decide +kernel
theorem dX6_acted_0 : decode cX6_acted 0 = .ok (.iload_n 1, 1) := dk_27 (dk_at dksX6_acted_0 0 rfl rfl)
theorem dX6_acted_1 : decode cX6_acted 1 = .ok (.ifCond .lt 7, 3) := dk_155 0 7 (dk_at dksX6_acted_0 1 rfl rfl)
theorem dX6_acted_4 : decode cX6_acted 4 = .ok (.aload_n 0, 1) := dk_42 (dk_at dksX6_acted_0 4 rfl rfl)
theorem dX6_acted_5 : decode cX6_acted 5 = .ok (.invokevirtual 169, 3) := dk_182 0 169 (dk_at dksX6_acted_0 5 rfl rfl)
theorem dX6_acted_8 : decode cX6_acted 8 = .ok (.iload_n 1, 1) := dk_27 (dk_at dksX6_acted_0 8 rfl rfl)
theorem dX6_acted_9 : decode cX6_acted 9 = .ok (.ireturn, 1) := dk_172 (dk_at dksX6_acted_0 9 rfl rfl)
abbrev cX6_notes : ByteArray := prog_11_method_35_code
def yX6_notes : MethodName := ⟨RX6, "notes", "()V"⟩
def dkwX6_notes_3 : List UInt8 := [79, 132, 1, 1, 167, 255, 227, 42, 89, 180, 0, 128, 4, 96, 181, 0, 128, 177]
abbrev dktX6_notes_3 : List UInt8 := dkwX6_notes_3 ++ []
def dkwX6_notes_2 : List UInt8 := [16, 27, 162, 0, 29, 42, 180, 0, 13, 16, 27, 42, 180, 0, 128, 104, 27, 96, 42, 180, 0, 66, 27, 46]
abbrev dktX6_notes_2 : List UInt8 := dkwX6_notes_2 ++ dktX6_notes_3
def dkwX6_notes_1 : List UInt8 := [180, 0, 13, 27, 16, 27, 96, 46, 79, 132, 1, 1, 167, 255, 231, 42, 8, 181, 0, 128, 3, 60, 27]
abbrev dktX6_notes_1 : List UInt8 := dkwX6_notes_1 ++ dktX6_notes_2
def dkwX6_notes_0 : List UInt8 := [42, 180, 0, 128, 16, 6, 160, 0, 38, 3, 60, 27, 17, 0, 135, 162, 0, 24, 42, 180, 0, 13, 27, 42]
abbrev dktX6_notes_0 : List UInt8 := dkwX6_notes_0 ++ dktX6_notes_1
theorem dksX6_notes_0 : cX6_notes.data.toList.drop 0 = dktX6_notes_0 := by decide +kernel
theorem dksX6_notes_1 : cX6_notes.data.toList.drop 24 = dktX6_notes_1 := dk_seg dksX6_notes_0 24 rfl rfl
theorem dksX6_notes_2 : cX6_notes.data.toList.drop 47 = dktX6_notes_2 := dk_seg dksX6_notes_1 23 rfl rfl
theorem dksX6_notes_3 : cX6_notes.data.toList.drop 71 = dktX6_notes_3 := dk_seg dksX6_notes_2 24 rfl rfl
theorem dX6_notes_0 : decode cX6_notes 0 = .ok (.aload_n 0, 1) := dk_42 (dk_at dksX6_notes_0 0 rfl rfl)
theorem dX6_notes_1 : decode cX6_notes 1 = .ok (.getfield 128, 3) := dk_180 0 128 (dk_at dksX6_notes_0 1 rfl rfl)
theorem dX6_notes_4 : decode cX6_notes 4 = .ok (.bipush 6, 2) := dk_16 6 (dk_at dksX6_notes_0 4 rfl rfl)
theorem dX6_notes_6 : decode cX6_notes 6 = .ok (.if_icmp .ne 38, 3) := dk_160 0 38 (dk_at dksX6_notes_0 6 rfl rfl)
theorem dX6_notes_9 : decode cX6_notes 9 = .ok (.iconst 0, 1) := dk_3 (dk_at dksX6_notes_0 9 rfl rfl)
theorem dX6_notes_10 : decode cX6_notes 10 = .ok (.istore_n 1, 1) := dk_60 (dk_at dksX6_notes_0 10 rfl rfl)
theorem dX6_notes_11 : decode cX6_notes 11 = .ok (.iload_n 1, 1) := dk_27 (dk_at dksX6_notes_0 11 rfl rfl)
theorem dX6_notes_12 : decode cX6_notes 12 = .ok (.sipush 135, 3) := dk_17 0 135 (dk_at dksX6_notes_0 12 rfl rfl)
theorem dX6_notes_15 : decode cX6_notes 15 = .ok (.if_icmp .ge 24, 3) := dk_162 0 24 (dk_at dksX6_notes_0 15 rfl rfl)
theorem dX6_notes_18 : decode cX6_notes 18 = .ok (.aload_n 0, 1) := dk_42 (dk_at dksX6_notes_0 18 rfl rfl)
theorem dX6_notes_19 : decode cX6_notes 19 = .ok (.getfield 13, 3) := dk_180 0 13 (dk_at dksX6_notes_0 19 rfl rfl)
theorem dX6_notes_22 : decode cX6_notes 22 = .ok (.iload_n 1, 1) := dk_27 (dk_at dksX6_notes_0 22 rfl rfl)
theorem dX6_notes_23 : decode cX6_notes 23 = .ok (.aload_n 0, 1) := dk_42 (dk_at dksX6_notes_0 23 rfl rfl)
theorem dX6_notes_24 : decode cX6_notes 24 = .ok (.getfield 13, 3) := dk_180 0 13 (dk_at dksX6_notes_1 0 rfl rfl)
theorem dX6_notes_27 : decode cX6_notes 27 = .ok (.iload_n 1, 1) := dk_27 (dk_at dksX6_notes_1 3 rfl rfl)
theorem dX6_notes_28 : decode cX6_notes 28 = .ok (.bipush 27, 2) := dk_16 27 (dk_at dksX6_notes_1 4 rfl rfl)
theorem dX6_notes_30 : decode cX6_notes 30 = .ok (.iadd, 1) := dk_96 (dk_at dksX6_notes_1 6 rfl rfl)
theorem dX6_notes_31 : decode cX6_notes 31 = .ok (.iaload, 1) := dk_46 (dk_at dksX6_notes_1 7 rfl rfl)
theorem dX6_notes_32 : decode cX6_notes 32 = .ok (.iastore, 1) := dk_79 (dk_at dksX6_notes_1 8 rfl rfl)
theorem dX6_notes_33 : decode cX6_notes 33 = .ok (.iinc 1 1, 3) := dk_132 1 1 (dk_at dksX6_notes_1 9 rfl rfl)
theorem dX6_notes_36 : decode cX6_notes 36 = .ok (.goto (-25), 3) := dk_167 255 231 (dk_at dksX6_notes_1 12 rfl rfl)
theorem dX6_notes_39 : decode cX6_notes 39 = .ok (.aload_n 0, 1) := dk_42 (dk_at dksX6_notes_1 15 rfl rfl)
theorem dX6_notes_40 : decode cX6_notes 40 = .ok (.iconst 5, 1) := dk_8 (dk_at dksX6_notes_1 16 rfl rfl)
theorem dX6_notes_41 : decode cX6_notes 41 = .ok (.putfield 128, 3) := dk_181 0 128 (dk_at dksX6_notes_1 17 rfl rfl)
theorem dX6_notes_44 : decode cX6_notes 44 = .ok (.iconst 0, 1) := dk_3 (dk_at dksX6_notes_1 20 rfl rfl)
theorem dX6_notes_45 : decode cX6_notes 45 = .ok (.istore_n 1, 1) := dk_60 (dk_at dksX6_notes_1 21 rfl rfl)
theorem dX6_notes_46 : decode cX6_notes 46 = .ok (.iload_n 1, 1) := dk_27 (dk_at dksX6_notes_1 22 rfl rfl)
theorem dX6_notes_47 : decode cX6_notes 47 = .ok (.bipush 27, 2) := dk_16 27 (dk_at dksX6_notes_2 0 rfl rfl)
theorem dX6_notes_49 : decode cX6_notes 49 = .ok (.if_icmp .ge 29, 3) := dk_162 0 29 (dk_at dksX6_notes_2 2 rfl rfl)
theorem dX6_notes_52 : decode cX6_notes 52 = .ok (.aload_n 0, 1) := dk_42 (dk_at dksX6_notes_2 5 rfl rfl)
theorem dX6_notes_53 : decode cX6_notes 53 = .ok (.getfield 13, 3) := dk_180 0 13 (dk_at dksX6_notes_2 6 rfl rfl)
theorem dX6_notes_56 : decode cX6_notes 56 = .ok (.bipush 27, 2) := dk_16 27 (dk_at dksX6_notes_2 9 rfl rfl)
theorem dX6_notes_58 : decode cX6_notes 58 = .ok (.aload_n 0, 1) := dk_42 (dk_at dksX6_notes_2 11 rfl rfl)
theorem dX6_notes_59 : decode cX6_notes 59 = .ok (.getfield 128, 3) := dk_180 0 128 (dk_at dksX6_notes_2 12 rfl rfl)
theorem dX6_notes_62 : decode cX6_notes 62 = .ok (.imul, 1) := dk_104 (dk_at dksX6_notes_2 15 rfl rfl)
theorem dX6_notes_63 : decode cX6_notes 63 = .ok (.iload_n 1, 1) := dk_27 (dk_at dksX6_notes_2 16 rfl rfl)
theorem dX6_notes_64 : decode cX6_notes 64 = .ok (.iadd, 1) := dk_96 (dk_at dksX6_notes_2 17 rfl rfl)
theorem dX6_notes_65 : decode cX6_notes 65 = .ok (.aload_n 0, 1) := dk_42 (dk_at dksX6_notes_2 18 rfl rfl)
theorem dX6_notes_66 : decode cX6_notes 66 = .ok (.getfield 66, 3) := dk_180 0 66 (dk_at dksX6_notes_2 19 rfl rfl)
theorem dX6_notes_69 : decode cX6_notes 69 = .ok (.iload_n 1, 1) := dk_27 (dk_at dksX6_notes_2 22 rfl rfl)
theorem dX6_notes_70 : decode cX6_notes 70 = .ok (.iaload, 1) := dk_46 (dk_at dksX6_notes_2 23 rfl rfl)
theorem dX6_notes_71 : decode cX6_notes 71 = .ok (.iastore, 1) := dk_79 (dk_at dksX6_notes_3 0 rfl rfl)
theorem dX6_notes_72 : decode cX6_notes 72 = .ok (.iinc 1 1, 3) := dk_132 1 1 (dk_at dksX6_notes_3 1 rfl rfl)
theorem dX6_notes_75 : decode cX6_notes 75 = .ok (.goto (-29), 3) := dk_167 255 227 (dk_at dksX6_notes_3 4 rfl rfl)
theorem dX6_notes_78 : decode cX6_notes 78 = .ok (.aload_n 0, 1) := dk_42 (dk_at dksX6_notes_3 7 rfl rfl)
theorem dX6_notes_79 : decode cX6_notes 79 = .ok (.dup, 1) := dk_89 (dk_at dksX6_notes_3 8 rfl rfl)
theorem dX6_notes_80 : decode cX6_notes 80 = .ok (.getfield 128, 3) := dk_180 0 128 (dk_at dksX6_notes_3 9 rfl rfl)
theorem dX6_notes_83 : decode cX6_notes 83 = .ok (.iconst 1, 1) := dk_4 (dk_at dksX6_notes_3 12 rfl rfl)
theorem dX6_notes_84 : decode cX6_notes 84 = .ok (.iadd, 1) := dk_96 (dk_at dksX6_notes_3 13 rfl rfl)
theorem dX6_notes_85 : decode cX6_notes 85 = .ok (.putfield 128, 3) := dk_181 0 128 (dk_at dksX6_notes_3 14 rfl rfl)
theorem dX6_notes_88 : decode cX6_notes 88 = .ok (.return_, 1) := dk_177 (dk_at dksX6_notes_3 17 rfl rfl)
abbrev cX6_words : ByteArray := prog_11_method_49_code
def yX6_words : MethodName := ⟨RX6, "words", "(II)I"⟩
def dkwX6_words_0 : List UInt8 := [42, 182, 0, 188, 42, 42, 27, 28, 182, 0, 197, 182, 0, 194, 172]
abbrev dktX6_words_0 : List UInt8 := dkwX6_words_0 ++ []
theorem dksX6_words_0 : cX6_words.data.toList.drop 0 = dktX6_words_0 := by decide +kernel
theorem dX6_words_0 : decode cX6_words 0 = .ok (.aload_n 0, 1) := dk_42 (dk_at dksX6_words_0 0 rfl rfl)
theorem dX6_words_1 : decode cX6_words 1 = .ok (.invokevirtual 188, 3) := dk_182 0 188 (dk_at dksX6_words_0 1 rfl rfl)
theorem dX6_words_4 : decode cX6_words 4 = .ok (.aload_n 0, 1) := dk_42 (dk_at dksX6_words_0 4 rfl rfl)
theorem dX6_words_5 : decode cX6_words 5 = .ok (.aload_n 0, 1) := dk_42 (dk_at dksX6_words_0 5 rfl rfl)
theorem dX6_words_6 : decode cX6_words 6 = .ok (.iload_n 1, 1) := dk_27 (dk_at dksX6_words_0 6 rfl rfl)
theorem dX6_words_7 : decode cX6_words 7 = .ok (.iload_n 2, 1) := dk_28 (dk_at dksX6_words_0 7 rfl rfl)
theorem dX6_words_8 : decode cX6_words 8 = .ok (.invokevirtual 197, 3) := dk_182 0 197 (dk_at dksX6_words_0 8 rfl rfl)
theorem dX6_words_11 : decode cX6_words 11 = .ok (.invokevirtual 194, 3) := dk_182 0 194 (dk_at dksX6_words_0 11 rfl rfl)
theorem dX6_words_14 : decode cX6_words 14 = .ok (.ireturn, 1) := dk_172 (dk_at dksX6_words_0 14 rfl rfl)
abbrev cX6_changes : ByteArray := prog_11_method_39_code
def yX6_changes : MethodName := ⟨RX6, "changes", "(II)I"⟩
def dkwX6_changes_2 : List UInt8 := [96, 28, 79, 29, 172]
abbrev dktX6_changes_2 : List UInt8 := dkwX6_changes_2 ++ []
def dkwX6_changes_1 : List UInt8 := [180, 0, 7, 16, 13, 27, 96, 46, 62, 29, 28, 160, 0, 6, 16, 254, 172, 42, 180, 0, 7, 16, 13, 27]
abbrev dktX6_changes_1 : List UInt8 := dkwX6_changes_1 ++ dktX6_changes_2
def dkwX6_changes_0 : List UInt8 := [42, 27, 182, 0, 104, 153, 0, 14, 28, 184, 0, 172, 153, 0, 7, 28, 154, 0, 5, 2, 172, 42]
abbrev dktX6_changes_0 : List UInt8 := dkwX6_changes_0 ++ dktX6_changes_1
theorem dksX6_changes_0 : cX6_changes.data.toList.drop 0 = dktX6_changes_0 := by decide +kernel
theorem dksX6_changes_1 : cX6_changes.data.toList.drop 22 = dktX6_changes_1 := dk_seg dksX6_changes_0 22 rfl rfl
theorem dksX6_changes_2 : cX6_changes.data.toList.drop 46 = dktX6_changes_2 := dk_seg dksX6_changes_1 24 rfl rfl
theorem dX6_changes_0 : decode cX6_changes 0 = .ok (.aload_n 0, 1) := dk_42 (dk_at dksX6_changes_0 0 rfl rfl)
theorem dX6_changes_1 : decode cX6_changes 1 = .ok (.iload_n 1, 1) := dk_27 (dk_at dksX6_changes_0 1 rfl rfl)
theorem dX6_changes_2 : decode cX6_changes 2 = .ok (.invokevirtual 104, 3) := dk_182 0 104 (dk_at dksX6_changes_0 2 rfl rfl)
theorem dX6_changes_5 : decode cX6_changes 5 = .ok (.ifCond .eq 14, 3) := dk_153 0 14 (dk_at dksX6_changes_0 5 rfl rfl)
theorem dX6_changes_8 : decode cX6_changes 8 = .ok (.iload_n 2, 1) := dk_28 (dk_at dksX6_changes_0 8 rfl rfl)
theorem dX6_changes_9 : decode cX6_changes 9 = .ok (.invokestatic 172, 3) := dk_184 0 172 (dk_at dksX6_changes_0 9 rfl rfl)
theorem dX6_changes_12 : decode cX6_changes 12 = .ok (.ifCond .eq 7, 3) := dk_153 0 7 (dk_at dksX6_changes_0 12 rfl rfl)
theorem dX6_changes_15 : decode cX6_changes 15 = .ok (.iload_n 2, 1) := dk_28 (dk_at dksX6_changes_0 15 rfl rfl)
theorem dX6_changes_16 : decode cX6_changes 16 = .ok (.ifCond .ne 5, 3) := dk_154 0 5 (dk_at dksX6_changes_0 16 rfl rfl)
theorem dX6_changes_19 : decode cX6_changes 19 = .ok (.iconst (-1), 1) := dk_2 (dk_at dksX6_changes_0 19 rfl rfl)
theorem dX6_changes_20 : decode cX6_changes 20 = .ok (.ireturn, 1) := dk_172 (dk_at dksX6_changes_0 20 rfl rfl)
theorem dX6_changes_21 : decode cX6_changes 21 = .ok (.aload_n 0, 1) := dk_42 (dk_at dksX6_changes_0 21 rfl rfl)
theorem dX6_changes_22 : decode cX6_changes 22 = .ok (.getfield 7, 3) := dk_180 0 7 (dk_at dksX6_changes_1 0 rfl rfl)
theorem dX6_changes_25 : decode cX6_changes 25 = .ok (.bipush 13, 2) := dk_16 13 (dk_at dksX6_changes_1 3 rfl rfl)
theorem dX6_changes_27 : decode cX6_changes 27 = .ok (.iload_n 1, 1) := dk_27 (dk_at dksX6_changes_1 5 rfl rfl)
theorem dX6_changes_28 : decode cX6_changes 28 = .ok (.iadd, 1) := dk_96 (dk_at dksX6_changes_1 6 rfl rfl)
theorem dX6_changes_29 : decode cX6_changes 29 = .ok (.iaload, 1) := dk_46 (dk_at dksX6_changes_1 7 rfl rfl)
theorem dX6_changes_30 : decode cX6_changes 30 = .ok (.istore_n 3, 1) := dk_62 (dk_at dksX6_changes_1 8 rfl rfl)
theorem dX6_changes_31 : decode cX6_changes 31 = .ok (.iload_n 3, 1) := dk_29 (dk_at dksX6_changes_1 9 rfl rfl)
theorem dX6_changes_32 : decode cX6_changes 32 = .ok (.iload_n 2, 1) := dk_28 (dk_at dksX6_changes_1 10 rfl rfl)
theorem dX6_changes_33 : decode cX6_changes 33 = .ok (.if_icmp .ne 6, 3) := dk_160 0 6 (dk_at dksX6_changes_1 11 rfl rfl)
theorem dX6_changes_36 : decode cX6_changes 36 = .ok (.bipush (-2), 2) := dk_16 254 (dk_at dksX6_changes_1 14 rfl rfl)
theorem dX6_changes_38 : decode cX6_changes 38 = .ok (.ireturn, 1) := dk_172 (dk_at dksX6_changes_1 16 rfl rfl)
theorem dX6_changes_39 : decode cX6_changes 39 = .ok (.aload_n 0, 1) := dk_42 (dk_at dksX6_changes_1 17 rfl rfl)
theorem dX6_changes_40 : decode cX6_changes 40 = .ok (.getfield 7, 3) := dk_180 0 7 (dk_at dksX6_changes_1 18 rfl rfl)
theorem dX6_changes_43 : decode cX6_changes 43 = .ok (.bipush 13, 2) := dk_16 13 (dk_at dksX6_changes_1 21 rfl rfl)
theorem dX6_changes_45 : decode cX6_changes 45 = .ok (.iload_n 1, 1) := dk_27 (dk_at dksX6_changes_1 23 rfl rfl)
theorem dX6_changes_46 : decode cX6_changes 46 = .ok (.iadd, 1) := dk_96 (dk_at dksX6_changes_2 0 rfl rfl)
theorem dX6_changes_47 : decode cX6_changes 47 = .ok (.iload_n 2, 1) := dk_28 (dk_at dksX6_changes_2 1 rfl rfl)
theorem dX6_changes_48 : decode cX6_changes 48 = .ok (.iastore, 1) := dk_79 (dk_at dksX6_changes_2 2 rfl rfl)
theorem dX6_changes_49 : decode cX6_changes 49 = .ok (.iload_n 3, 1) := dk_29 (dk_at dksX6_changes_2 3 rfl rfl)
theorem dX6_changes_50 : decode cX6_changes 50 = .ok (.ireturn, 1) := dk_172 (dk_at dksX6_changes_2 4 rfl rfl)
abbrev cX6_lose : ByteArray := prog_11_method_50_code
def yX6_lose : MethodName := ⟨RX6, "lose", "(I)I"⟩
def dkwX6_lose_0 : List UInt8 := [42, 182, 0, 188, 42, 42, 27, 182, 0, 200, 182, 0, 194, 172]
abbrev dktX6_lose_0 : List UInt8 := dkwX6_lose_0 ++ []
theorem dksX6_lose_0 : cX6_lose.data.toList.drop 0 = dktX6_lose_0 := by decide +kernel
theorem dX6_lose_0 : decode cX6_lose 0 = .ok (.aload_n 0, 1) := dk_42 (dk_at dksX6_lose_0 0 rfl rfl)
theorem dX6_lose_1 : decode cX6_lose 1 = .ok (.invokevirtual 188, 3) := dk_182 0 188 (dk_at dksX6_lose_0 1 rfl rfl)
theorem dX6_lose_4 : decode cX6_lose 4 = .ok (.aload_n 0, 1) := dk_42 (dk_at dksX6_lose_0 4 rfl rfl)
theorem dX6_lose_5 : decode cX6_lose 5 = .ok (.aload_n 0, 1) := dk_42 (dk_at dksX6_lose_0 5 rfl rfl)
theorem dX6_lose_6 : decode cX6_lose 6 = .ok (.iload_n 1, 1) := dk_27 (dk_at dksX6_lose_0 6 rfl rfl)
theorem dX6_lose_7 : decode cX6_lose 7 = .ok (.invokevirtual 200, 3) := dk_182 0 200 (dk_at dksX6_lose_0 7 rfl rfl)
theorem dX6_lose_10 : decode cX6_lose 10 = .ok (.invokevirtual 194, 3) := dk_182 0 194 (dk_at dksX6_lose_0 10 rfl rfl)
theorem dX6_lose_13 : decode cX6_lose 13 = .ok (.ireturn, 1) := dk_172 (dk_at dksX6_lose_0 13 rfl rfl)
abbrev cX6_loses : ByteArray := prog_11_method_41_code
def yX6_loses : MethodName := ⟨RX6, "loses", "(I)I"⟩
def dkwX6_loses_9 : List UInt8 := [16, 20, 21, 4, 96, 46, 27, 184, 0, 175, 79, 132, 4, 1, 167, 255, 191, 28, 172]
abbrev dktX6_loses_9 : List UInt8 := dkwX6_loses_9 ++ []
def dkwX6_loses_8 : List UInt8 := [27, 164, 0, 7, 4, 167, 0, 4, 3, 100, 79, 42, 180, 0, 7, 16, 20, 21, 4, 96, 42, 180, 0, 7]
abbrev dktX6_loses_8 : List UInt8 := dkwX6_loses_8 ++ dktX6_loses_9
def dkwX6_loses_7 : List UInt8 := [162, 0, 65, 42, 180, 0, 7, 16, 6, 21, 4, 96, 92, 46, 42, 180, 0, 7, 16, 6, 21, 4, 96, 46]
abbrev dktX6_loses_7 : List UInt8 := dkwX6_loses_7 ++ dktX6_loses_8
def dkwX6_loses_6 : List UInt8 := [16, 13, 28, 96, 3, 79, 42, 180, 0, 7, 16, 20, 28, 96, 3, 79, 3, 54, 4, 21, 4, 28]
abbrev dktX6_loses_6 : List UInt8 := dkwX6_loses_6 ++ dktX6_loses_7
def dkwX6_loses_5 : List UInt8 := [167, 255, 203, 42, 180, 0, 7, 3, 28, 79, 42, 180, 0, 7, 16, 6, 28, 96, 3, 79, 42, 180, 0, 7]
abbrev dktX6_loses_5 : List UInt8 := dkwX6_loses_5 ++ dktX6_loses_6
def dkwX6_loses_4 : List UInt8 := [180, 0, 7, 16, 20, 21, 4, 96, 42, 180, 0, 7, 16, 20, 21, 4, 96, 4, 96, 46, 79, 132, 4, 1]
abbrev dktX6_loses_4 : List UInt8 := dkwX6_loses_4 ++ dktX6_loses_5
def dkwX6_loses_3 : List UInt8 := [42, 180, 0, 7, 16, 13, 21, 4, 96, 42, 180, 0, 7, 16, 13, 21, 4, 96, 4, 96, 46, 79, 42]
abbrev dktX6_loses_3 : List UInt8 := dkwX6_loses_3 ++ dktX6_loses_4
def dkwX6_loses_2 : List UInt8 := [16, 6, 21, 4, 96, 4, 96, 46, 79, 132, 4, 1, 167, 255, 225, 27, 54, 4, 21, 4, 28, 162, 0, 53]
abbrev dktX6_loses_2 : List UInt8 := dkwX6_loses_2 ++ dktX6_loses_3
def dkwX6_loses_1 : List UInt8 := [62, 29, 54, 4, 21, 4, 28, 162, 0, 31, 42, 180, 0, 7, 16, 6, 21, 4, 96, 42, 180, 0, 7]
abbrev dktX6_loses_1 : List UInt8 := dkwX6_loses_1 ++ dktX6_loses_2
def dkwX6_loses_0 : List UInt8 := [42, 27, 182, 0, 104, 154, 0, 5, 2, 172, 42, 180, 0, 7, 3, 46, 4, 100, 61, 42, 27, 182, 0, 111]
abbrev dktX6_loses_0 : List UInt8 := dkwX6_loses_0 ++ dktX6_loses_1
theorem dksX6_loses_0 : cX6_loses.data.toList.drop 0 = dktX6_loses_0 := by decide +kernel
theorem dksX6_loses_1 : cX6_loses.data.toList.drop 24 = dktX6_loses_1 := dk_seg dksX6_loses_0 24 rfl rfl
theorem dksX6_loses_2 : cX6_loses.data.toList.drop 47 = dktX6_loses_2 := dk_seg dksX6_loses_1 23 rfl rfl
theorem dksX6_loses_3 : cX6_loses.data.toList.drop 71 = dktX6_loses_3 := dk_seg dksX6_loses_2 24 rfl rfl
theorem dksX6_loses_4 : cX6_loses.data.toList.drop 94 = dktX6_loses_4 := dk_seg dksX6_loses_3 23 rfl rfl
theorem dksX6_loses_5 : cX6_loses.data.toList.drop 118 = dktX6_loses_5 := dk_seg dksX6_loses_4 24 rfl rfl
theorem dksX6_loses_6 : cX6_loses.data.toList.drop 142 = dktX6_loses_6 := dk_seg dksX6_loses_5 24 rfl rfl
theorem dksX6_loses_7 : cX6_loses.data.toList.drop 164 = dktX6_loses_7 := dk_seg dksX6_loses_6 22 rfl rfl
theorem dksX6_loses_8 : cX6_loses.data.toList.drop 188 = dktX6_loses_8 := dk_seg dksX6_loses_7 24 rfl rfl
theorem dksX6_loses_9 : cX6_loses.data.toList.drop 212 = dktX6_loses_9 := dk_seg dksX6_loses_8 24 rfl rfl
theorem dX6_loses_0 : decode cX6_loses 0 = .ok (.aload_n 0, 1) := dk_42 (dk_at dksX6_loses_0 0 rfl rfl)
theorem dX6_loses_1 : decode cX6_loses 1 = .ok (.iload_n 1, 1) := dk_27 (dk_at dksX6_loses_0 1 rfl rfl)
theorem dX6_loses_2 : decode cX6_loses 2 = .ok (.invokevirtual 104, 3) := dk_182 0 104 (dk_at dksX6_loses_0 2 rfl rfl)
theorem dX6_loses_5 : decode cX6_loses 5 = .ok (.ifCond .ne 5, 3) := dk_154 0 5 (dk_at dksX6_loses_0 5 rfl rfl)
theorem dX6_loses_8 : decode cX6_loses 8 = .ok (.iconst (-1), 1) := dk_2 (dk_at dksX6_loses_0 8 rfl rfl)
theorem dX6_loses_9 : decode cX6_loses 9 = .ok (.ireturn, 1) := dk_172 (dk_at dksX6_loses_0 9 rfl rfl)
theorem dX6_loses_10 : decode cX6_loses 10 = .ok (.aload_n 0, 1) := dk_42 (dk_at dksX6_loses_0 10 rfl rfl)
theorem dX6_loses_11 : decode cX6_loses 11 = .ok (.getfield 7, 3) := dk_180 0 7 (dk_at dksX6_loses_0 11 rfl rfl)
theorem dX6_loses_14 : decode cX6_loses 14 = .ok (.iconst 0, 1) := dk_3 (dk_at dksX6_loses_0 14 rfl rfl)
theorem dX6_loses_15 : decode cX6_loses 15 = .ok (.iaload, 1) := dk_46 (dk_at dksX6_loses_0 15 rfl rfl)
theorem dX6_loses_16 : decode cX6_loses 16 = .ok (.iconst 1, 1) := dk_4 (dk_at dksX6_loses_0 16 rfl rfl)
theorem dX6_loses_17 : decode cX6_loses 17 = .ok (.isub, 1) := dk_100 (dk_at dksX6_loses_0 17 rfl rfl)
theorem dX6_loses_18 : decode cX6_loses 18 = .ok (.istore_n 2, 1) := dk_61 (dk_at dksX6_loses_0 18 rfl rfl)
theorem dX6_loses_19 : decode cX6_loses 19 = .ok (.aload_n 0, 1) := dk_42 (dk_at dksX6_loses_0 19 rfl rfl)
theorem dX6_loses_20 : decode cX6_loses 20 = .ok (.iload_n 1, 1) := dk_27 (dk_at dksX6_loses_0 20 rfl rfl)
theorem dX6_loses_21 : decode cX6_loses 21 = .ok (.invokevirtual 111, 3) := dk_182 0 111 (dk_at dksX6_loses_0 21 rfl rfl)
theorem dX6_loses_24 : decode cX6_loses 24 = .ok (.istore_n 3, 1) := dk_62 (dk_at dksX6_loses_1 0 rfl rfl)
theorem dX6_loses_25 : decode cX6_loses 25 = .ok (.iload_n 3, 1) := dk_29 (dk_at dksX6_loses_1 1 rfl rfl)
theorem dX6_loses_26 : decode cX6_loses 26 = .ok (.istore 4, 2) := dk_54 4 (dk_at dksX6_loses_1 2 rfl rfl)
theorem dX6_loses_28 : decode cX6_loses 28 = .ok (.iload 4, 2) := dk_21 4 (dk_at dksX6_loses_1 4 rfl rfl)
theorem dX6_loses_30 : decode cX6_loses 30 = .ok (.iload_n 2, 1) := dk_28 (dk_at dksX6_loses_1 6 rfl rfl)
theorem dX6_loses_31 : decode cX6_loses 31 = .ok (.if_icmp .ge 31, 3) := dk_162 0 31 (dk_at dksX6_loses_1 7 rfl rfl)
theorem dX6_loses_34 : decode cX6_loses 34 = .ok (.aload_n 0, 1) := dk_42 (dk_at dksX6_loses_1 10 rfl rfl)
theorem dX6_loses_35 : decode cX6_loses 35 = .ok (.getfield 7, 3) := dk_180 0 7 (dk_at dksX6_loses_1 11 rfl rfl)
theorem dX6_loses_38 : decode cX6_loses 38 = .ok (.bipush 6, 2) := dk_16 6 (dk_at dksX6_loses_1 14 rfl rfl)
theorem dX6_loses_40 : decode cX6_loses 40 = .ok (.iload 4, 2) := dk_21 4 (dk_at dksX6_loses_1 16 rfl rfl)
theorem dX6_loses_42 : decode cX6_loses 42 = .ok (.iadd, 1) := dk_96 (dk_at dksX6_loses_1 18 rfl rfl)
theorem dX6_loses_43 : decode cX6_loses 43 = .ok (.aload_n 0, 1) := dk_42 (dk_at dksX6_loses_1 19 rfl rfl)
theorem dX6_loses_44 : decode cX6_loses 44 = .ok (.getfield 7, 3) := dk_180 0 7 (dk_at dksX6_loses_1 20 rfl rfl)
theorem dX6_loses_47 : decode cX6_loses 47 = .ok (.bipush 6, 2) := dk_16 6 (dk_at dksX6_loses_2 0 rfl rfl)
theorem dX6_loses_49 : decode cX6_loses 49 = .ok (.iload 4, 2) := dk_21 4 (dk_at dksX6_loses_2 2 rfl rfl)
theorem dX6_loses_51 : decode cX6_loses 51 = .ok (.iadd, 1) := dk_96 (dk_at dksX6_loses_2 4 rfl rfl)
theorem dX6_loses_52 : decode cX6_loses 52 = .ok (.iconst 1, 1) := dk_4 (dk_at dksX6_loses_2 5 rfl rfl)
theorem dX6_loses_53 : decode cX6_loses 53 = .ok (.iadd, 1) := dk_96 (dk_at dksX6_loses_2 6 rfl rfl)
theorem dX6_loses_54 : decode cX6_loses 54 = .ok (.iaload, 1) := dk_46 (dk_at dksX6_loses_2 7 rfl rfl)
theorem dX6_loses_55 : decode cX6_loses 55 = .ok (.iastore, 1) := dk_79 (dk_at dksX6_loses_2 8 rfl rfl)
theorem dX6_loses_56 : decode cX6_loses 56 = .ok (.iinc 4 1, 3) := dk_132 4 1 (dk_at dksX6_loses_2 9 rfl rfl)
theorem dX6_loses_59 : decode cX6_loses 59 = .ok (.goto (-31), 3) := dk_167 255 225 (dk_at dksX6_loses_2 12 rfl rfl)
theorem dX6_loses_62 : decode cX6_loses 62 = .ok (.iload_n 1, 1) := dk_27 (dk_at dksX6_loses_2 15 rfl rfl)
theorem dX6_loses_63 : decode cX6_loses 63 = .ok (.istore 4, 2) := dk_54 4 (dk_at dksX6_loses_2 16 rfl rfl)
theorem dX6_loses_65 : decode cX6_loses 65 = .ok (.iload 4, 2) := dk_21 4 (dk_at dksX6_loses_2 18 rfl rfl)
theorem dX6_loses_67 : decode cX6_loses 67 = .ok (.iload_n 2, 1) := dk_28 (dk_at dksX6_loses_2 20 rfl rfl)
theorem dX6_loses_68 : decode cX6_loses 68 = .ok (.if_icmp .ge 53, 3) := dk_162 0 53 (dk_at dksX6_loses_2 21 rfl rfl)
theorem dX6_loses_71 : decode cX6_loses 71 = .ok (.aload_n 0, 1) := dk_42 (dk_at dksX6_loses_3 0 rfl rfl)
theorem dX6_loses_72 : decode cX6_loses 72 = .ok (.getfield 7, 3) := dk_180 0 7 (dk_at dksX6_loses_3 1 rfl rfl)
theorem dX6_loses_75 : decode cX6_loses 75 = .ok (.bipush 13, 2) := dk_16 13 (dk_at dksX6_loses_3 4 rfl rfl)
theorem dX6_loses_77 : decode cX6_loses 77 = .ok (.iload 4, 2) := dk_21 4 (dk_at dksX6_loses_3 6 rfl rfl)
theorem dX6_loses_79 : decode cX6_loses 79 = .ok (.iadd, 1) := dk_96 (dk_at dksX6_loses_3 8 rfl rfl)
theorem dX6_loses_80 : decode cX6_loses 80 = .ok (.aload_n 0, 1) := dk_42 (dk_at dksX6_loses_3 9 rfl rfl)
theorem dX6_loses_81 : decode cX6_loses 81 = .ok (.getfield 7, 3) := dk_180 0 7 (dk_at dksX6_loses_3 10 rfl rfl)
theorem dX6_loses_84 : decode cX6_loses 84 = .ok (.bipush 13, 2) := dk_16 13 (dk_at dksX6_loses_3 13 rfl rfl)
theorem dX6_loses_86 : decode cX6_loses 86 = .ok (.iload 4, 2) := dk_21 4 (dk_at dksX6_loses_3 15 rfl rfl)
theorem dX6_loses_88 : decode cX6_loses 88 = .ok (.iadd, 1) := dk_96 (dk_at dksX6_loses_3 17 rfl rfl)
theorem dX6_loses_89 : decode cX6_loses 89 = .ok (.iconst 1, 1) := dk_4 (dk_at dksX6_loses_3 18 rfl rfl)
theorem dX6_loses_90 : decode cX6_loses 90 = .ok (.iadd, 1) := dk_96 (dk_at dksX6_loses_3 19 rfl rfl)
theorem dX6_loses_91 : decode cX6_loses 91 = .ok (.iaload, 1) := dk_46 (dk_at dksX6_loses_3 20 rfl rfl)
theorem dX6_loses_92 : decode cX6_loses 92 = .ok (.iastore, 1) := dk_79 (dk_at dksX6_loses_3 21 rfl rfl)
theorem dX6_loses_93 : decode cX6_loses 93 = .ok (.aload_n 0, 1) := dk_42 (dk_at dksX6_loses_3 22 rfl rfl)
theorem dX6_loses_94 : decode cX6_loses 94 = .ok (.getfield 7, 3) := dk_180 0 7 (dk_at dksX6_loses_4 0 rfl rfl)
theorem dX6_loses_97 : decode cX6_loses 97 = .ok (.bipush 20, 2) := dk_16 20 (dk_at dksX6_loses_4 3 rfl rfl)
theorem dX6_loses_99 : decode cX6_loses 99 = .ok (.iload 4, 2) := dk_21 4 (dk_at dksX6_loses_4 5 rfl rfl)
theorem dX6_loses_101 : decode cX6_loses 101 = .ok (.iadd, 1) := dk_96 (dk_at dksX6_loses_4 7 rfl rfl)
theorem dX6_loses_102 : decode cX6_loses 102 = .ok (.aload_n 0, 1) := dk_42 (dk_at dksX6_loses_4 8 rfl rfl)
theorem dX6_loses_103 : decode cX6_loses 103 = .ok (.getfield 7, 3) := dk_180 0 7 (dk_at dksX6_loses_4 9 rfl rfl)
theorem dX6_loses_106 : decode cX6_loses 106 = .ok (.bipush 20, 2) := dk_16 20 (dk_at dksX6_loses_4 12 rfl rfl)
theorem dX6_loses_108 : decode cX6_loses 108 = .ok (.iload 4, 2) := dk_21 4 (dk_at dksX6_loses_4 14 rfl rfl)
theorem dX6_loses_110 : decode cX6_loses 110 = .ok (.iadd, 1) := dk_96 (dk_at dksX6_loses_4 16 rfl rfl)
theorem dX6_loses_111 : decode cX6_loses 111 = .ok (.iconst 1, 1) := dk_4 (dk_at dksX6_loses_4 17 rfl rfl)
theorem dX6_loses_112 : decode cX6_loses 112 = .ok (.iadd, 1) := dk_96 (dk_at dksX6_loses_4 18 rfl rfl)
theorem dX6_loses_113 : decode cX6_loses 113 = .ok (.iaload, 1) := dk_46 (dk_at dksX6_loses_4 19 rfl rfl)
theorem dX6_loses_114 : decode cX6_loses 114 = .ok (.iastore, 1) := dk_79 (dk_at dksX6_loses_4 20 rfl rfl)
theorem dX6_loses_115 : decode cX6_loses 115 = .ok (.iinc 4 1, 3) := dk_132 4 1 (dk_at dksX6_loses_4 21 rfl rfl)
theorem dX6_loses_118 : decode cX6_loses 118 = .ok (.goto (-53), 3) := dk_167 255 203 (dk_at dksX6_loses_5 0 rfl rfl)
theorem dX6_loses_121 : decode cX6_loses 121 = .ok (.aload_n 0, 1) := dk_42 (dk_at dksX6_loses_5 3 rfl rfl)
theorem dX6_loses_122 : decode cX6_loses 122 = .ok (.getfield 7, 3) := dk_180 0 7 (dk_at dksX6_loses_5 4 rfl rfl)
theorem dX6_loses_125 : decode cX6_loses 125 = .ok (.iconst 0, 1) := dk_3 (dk_at dksX6_loses_5 7 rfl rfl)
theorem dX6_loses_126 : decode cX6_loses 126 = .ok (.iload_n 2, 1) := dk_28 (dk_at dksX6_loses_5 8 rfl rfl)
theorem dX6_loses_127 : decode cX6_loses 127 = .ok (.iastore, 1) := dk_79 (dk_at dksX6_loses_5 9 rfl rfl)
theorem dX6_loses_128 : decode cX6_loses 128 = .ok (.aload_n 0, 1) := dk_42 (dk_at dksX6_loses_5 10 rfl rfl)
theorem dX6_loses_129 : decode cX6_loses 129 = .ok (.getfield 7, 3) := dk_180 0 7 (dk_at dksX6_loses_5 11 rfl rfl)
theorem dX6_loses_132 : decode cX6_loses 132 = .ok (.bipush 6, 2) := dk_16 6 (dk_at dksX6_loses_5 14 rfl rfl)
theorem dX6_loses_134 : decode cX6_loses 134 = .ok (.iload_n 2, 1) := dk_28 (dk_at dksX6_loses_5 16 rfl rfl)
theorem dX6_loses_135 : decode cX6_loses 135 = .ok (.iadd, 1) := dk_96 (dk_at dksX6_loses_5 17 rfl rfl)
theorem dX6_loses_136 : decode cX6_loses 136 = .ok (.iconst 0, 1) := dk_3 (dk_at dksX6_loses_5 18 rfl rfl)
theorem dX6_loses_137 : decode cX6_loses 137 = .ok (.iastore, 1) := dk_79 (dk_at dksX6_loses_5 19 rfl rfl)
theorem dX6_loses_138 : decode cX6_loses 138 = .ok (.aload_n 0, 1) := dk_42 (dk_at dksX6_loses_5 20 rfl rfl)
theorem dX6_loses_139 : decode cX6_loses 139 = .ok (.getfield 7, 3) := dk_180 0 7 (dk_at dksX6_loses_5 21 rfl rfl)
theorem dX6_loses_142 : decode cX6_loses 142 = .ok (.bipush 13, 2) := dk_16 13 (dk_at dksX6_loses_6 0 rfl rfl)
theorem dX6_loses_144 : decode cX6_loses 144 = .ok (.iload_n 2, 1) := dk_28 (dk_at dksX6_loses_6 2 rfl rfl)
theorem dX6_loses_145 : decode cX6_loses 145 = .ok (.iadd, 1) := dk_96 (dk_at dksX6_loses_6 3 rfl rfl)
theorem dX6_loses_146 : decode cX6_loses 146 = .ok (.iconst 0, 1) := dk_3 (dk_at dksX6_loses_6 4 rfl rfl)
theorem dX6_loses_147 : decode cX6_loses 147 = .ok (.iastore, 1) := dk_79 (dk_at dksX6_loses_6 5 rfl rfl)
theorem dX6_loses_148 : decode cX6_loses 148 = .ok (.aload_n 0, 1) := dk_42 (dk_at dksX6_loses_6 6 rfl rfl)
theorem dX6_loses_149 : decode cX6_loses 149 = .ok (.getfield 7, 3) := dk_180 0 7 (dk_at dksX6_loses_6 7 rfl rfl)
theorem dX6_loses_152 : decode cX6_loses 152 = .ok (.bipush 20, 2) := dk_16 20 (dk_at dksX6_loses_6 10 rfl rfl)
theorem dX6_loses_154 : decode cX6_loses 154 = .ok (.iload_n 2, 1) := dk_28 (dk_at dksX6_loses_6 12 rfl rfl)
theorem dX6_loses_155 : decode cX6_loses 155 = .ok (.iadd, 1) := dk_96 (dk_at dksX6_loses_6 13 rfl rfl)
theorem dX6_loses_156 : decode cX6_loses 156 = .ok (.iconst 0, 1) := dk_3 (dk_at dksX6_loses_6 14 rfl rfl)
theorem dX6_loses_157 : decode cX6_loses 157 = .ok (.iastore, 1) := dk_79 (dk_at dksX6_loses_6 15 rfl rfl)
theorem dX6_loses_158 : decode cX6_loses 158 = .ok (.iconst 0, 1) := dk_3 (dk_at dksX6_loses_6 16 rfl rfl)
theorem dX6_loses_159 : decode cX6_loses 159 = .ok (.istore 4, 2) := dk_54 4 (dk_at dksX6_loses_6 17 rfl rfl)
theorem dX6_loses_161 : decode cX6_loses 161 = .ok (.iload 4, 2) := dk_21 4 (dk_at dksX6_loses_6 19 rfl rfl)
theorem dX6_loses_163 : decode cX6_loses 163 = .ok (.iload_n 2, 1) := dk_28 (dk_at dksX6_loses_6 21 rfl rfl)
theorem dX6_loses_164 : decode cX6_loses 164 = .ok (.if_icmp .ge 65, 3) := dk_162 0 65 (dk_at dksX6_loses_7 0 rfl rfl)
theorem dX6_loses_167 : decode cX6_loses 167 = .ok (.aload_n 0, 1) := dk_42 (dk_at dksX6_loses_7 3 rfl rfl)
theorem dX6_loses_168 : decode cX6_loses 168 = .ok (.getfield 7, 3) := dk_180 0 7 (dk_at dksX6_loses_7 4 rfl rfl)
theorem dX6_loses_171 : decode cX6_loses 171 = .ok (.bipush 6, 2) := dk_16 6 (dk_at dksX6_loses_7 7 rfl rfl)
theorem dX6_loses_173 : decode cX6_loses 173 = .ok (.iload 4, 2) := dk_21 4 (dk_at dksX6_loses_7 9 rfl rfl)
theorem dX6_loses_175 : decode cX6_loses 175 = .ok (.iadd, 1) := dk_96 (dk_at dksX6_loses_7 11 rfl rfl)
theorem dX6_loses_176 : decode cX6_loses 176 = .ok (.dup2, 1) := dk_92 (dk_at dksX6_loses_7 12 rfl rfl)
theorem dX6_loses_177 : decode cX6_loses 177 = .ok (.iaload, 1) := dk_46 (dk_at dksX6_loses_7 13 rfl rfl)
theorem dX6_loses_178 : decode cX6_loses 178 = .ok (.aload_n 0, 1) := dk_42 (dk_at dksX6_loses_7 14 rfl rfl)
theorem dX6_loses_179 : decode cX6_loses 179 = .ok (.getfield 7, 3) := dk_180 0 7 (dk_at dksX6_loses_7 15 rfl rfl)
theorem dX6_loses_182 : decode cX6_loses 182 = .ok (.bipush 6, 2) := dk_16 6 (dk_at dksX6_loses_7 18 rfl rfl)
theorem dX6_loses_184 : decode cX6_loses 184 = .ok (.iload 4, 2) := dk_21 4 (dk_at dksX6_loses_7 20 rfl rfl)
theorem dX6_loses_186 : decode cX6_loses 186 = .ok (.iadd, 1) := dk_96 (dk_at dksX6_loses_7 22 rfl rfl)
theorem dX6_loses_187 : decode cX6_loses 187 = .ok (.iaload, 1) := dk_46 (dk_at dksX6_loses_7 23 rfl rfl)
theorem dX6_loses_188 : decode cX6_loses 188 = .ok (.iload_n 1, 1) := dk_27 (dk_at dksX6_loses_8 0 rfl rfl)
theorem dX6_loses_189 : decode cX6_loses 189 = .ok (.if_icmp .le 7, 3) := dk_164 0 7 (dk_at dksX6_loses_8 1 rfl rfl)
theorem dX6_loses_192 : decode cX6_loses 192 = .ok (.iconst 1, 1) := dk_4 (dk_at dksX6_loses_8 4 rfl rfl)
theorem dX6_loses_193 : decode cX6_loses 193 = .ok (.goto 4, 3) := dk_167 0 4 (dk_at dksX6_loses_8 5 rfl rfl)
theorem dX6_loses_196 : decode cX6_loses 196 = .ok (.iconst 0, 1) := dk_3 (dk_at dksX6_loses_8 8 rfl rfl)
theorem dX6_loses_197 : decode cX6_loses 197 = .ok (.isub, 1) := dk_100 (dk_at dksX6_loses_8 9 rfl rfl)
theorem dX6_loses_198 : decode cX6_loses 198 = .ok (.iastore, 1) := dk_79 (dk_at dksX6_loses_8 10 rfl rfl)
theorem dX6_loses_199 : decode cX6_loses 199 = .ok (.aload_n 0, 1) := dk_42 (dk_at dksX6_loses_8 11 rfl rfl)
theorem dX6_loses_200 : decode cX6_loses 200 = .ok (.getfield 7, 3) := dk_180 0 7 (dk_at dksX6_loses_8 12 rfl rfl)
theorem dX6_loses_203 : decode cX6_loses 203 = .ok (.bipush 20, 2) := dk_16 20 (dk_at dksX6_loses_8 15 rfl rfl)
theorem dX6_loses_205 : decode cX6_loses 205 = .ok (.iload 4, 2) := dk_21 4 (dk_at dksX6_loses_8 17 rfl rfl)
theorem dX6_loses_207 : decode cX6_loses 207 = .ok (.iadd, 1) := dk_96 (dk_at dksX6_loses_8 19 rfl rfl)
theorem dX6_loses_208 : decode cX6_loses 208 = .ok (.aload_n 0, 1) := dk_42 (dk_at dksX6_loses_8 20 rfl rfl)
theorem dX6_loses_209 : decode cX6_loses 209 = .ok (.getfield 7, 3) := dk_180 0 7 (dk_at dksX6_loses_8 21 rfl rfl)
theorem dX6_loses_212 : decode cX6_loses 212 = .ok (.bipush 20, 2) := dk_16 20 (dk_at dksX6_loses_9 0 rfl rfl)
theorem dX6_loses_214 : decode cX6_loses 214 = .ok (.iload 4, 2) := dk_21 4 (dk_at dksX6_loses_9 2 rfl rfl)
theorem dX6_loses_216 : decode cX6_loses 216 = .ok (.iadd, 1) := dk_96 (dk_at dksX6_loses_9 4 rfl rfl)
theorem dX6_loses_217 : decode cX6_loses 217 = .ok (.iaload, 1) := dk_46 (dk_at dksX6_loses_9 5 rfl rfl)
theorem dX6_loses_218 : decode cX6_loses 218 = .ok (.iload_n 1, 1) := dk_27 (dk_at dksX6_loses_9 6 rfl rfl)
theorem dX6_loses_219 : decode cX6_loses 219 = .ok (.invokestatic 175, 3) := dk_184 0 175 (dk_at dksX6_loses_9 7 rfl rfl)
theorem dX6_loses_222 : decode cX6_loses 222 = .ok (.iastore, 1) := dk_79 (dk_at dksX6_loses_9 10 rfl rfl)
theorem dX6_loses_223 : decode cX6_loses 223 = .ok (.iinc 4 1, 3) := dk_132 4 1 (dk_at dksX6_loses_9 11 rfl rfl)
theorem dX6_loses_226 : decode cX6_loses 226 = .ok (.goto (-65), 3) := dk_167 255 191 (dk_at dksX6_loses_9 14 rfl rfl)
theorem dX6_loses_229 : decode cX6_loses 229 = .ok (.iload_n 2, 1) := dk_28 (dk_at dksX6_loses_9 17 rfl rfl)
theorem dX6_loses_230 : decode cX6_loses 230 = .ok (.ireturn, 1) := dk_172 (dk_at dksX6_loses_9 18 rfl rfl)
abbrev cX6_without : ByteArray := prog_11_method_40_code
def yX6_without : MethodName := ⟨RX6, "without", "(II)I"⟩
def dkwX6_without_0 : List UInt8 := [26, 4, 27, 120, 4, 100, 126, 61, 28, 26, 27, 4, 96, 122, 27, 120, 128, 172]
abbrev dktX6_without_0 : List UInt8 := dkwX6_without_0 ++ []
theorem dksX6_without_0 : cX6_without.data.toList.drop 0 = dktX6_without_0 := by decide +kernel
theorem dX6_without_0 : decode cX6_without 0 = .ok (.iload_n 0, 1) := dk_26 (dk_at dksX6_without_0 0 rfl rfl)
theorem dX6_without_1 : decode cX6_without 1 = .ok (.iconst 1, 1) := dk_4 (dk_at dksX6_without_0 1 rfl rfl)
theorem dX6_without_2 : decode cX6_without 2 = .ok (.iload_n 1, 1) := dk_27 (dk_at dksX6_without_0 2 rfl rfl)
theorem dX6_without_3 : decode cX6_without 3 = .ok (.ishl, 1) := dk_120 (dk_at dksX6_without_0 3 rfl rfl)
theorem dX6_without_4 : decode cX6_without 4 = .ok (.iconst 1, 1) := dk_4 (dk_at dksX6_without_0 4 rfl rfl)
theorem dX6_without_5 : decode cX6_without 5 = .ok (.isub, 1) := dk_100 (dk_at dksX6_without_0 5 rfl rfl)
theorem dX6_without_6 : decode cX6_without 6 = .ok (.iand, 1) := dk_126 (dk_at dksX6_without_0 6 rfl rfl)
theorem dX6_without_7 : decode cX6_without 7 = .ok (.istore_n 2, 1) := dk_61 (dk_at dksX6_without_0 7 rfl rfl)
theorem dX6_without_8 : decode cX6_without 8 = .ok (.iload_n 2, 1) := dk_28 (dk_at dksX6_without_0 8 rfl rfl)
theorem dX6_without_9 : decode cX6_without 9 = .ok (.iload_n 0, 1) := dk_26 (dk_at dksX6_without_0 9 rfl rfl)
theorem dX6_without_10 : decode cX6_without 10 = .ok (.iload_n 1, 1) := dk_27 (dk_at dksX6_without_0 10 rfl rfl)
theorem dX6_without_11 : decode cX6_without 11 = .ok (.iconst 1, 1) := dk_4 (dk_at dksX6_without_0 11 rfl rfl)
theorem dX6_without_12 : decode cX6_without 12 = .ok (.iadd, 1) := dk_96 (dk_at dksX6_without_0 12 rfl rfl)
theorem dX6_without_13 : decode cX6_without 13 = .ok (.ishr, 1) := dk_122 (dk_at dksX6_without_0 13 rfl rfl)
theorem dX6_without_14 : decode cX6_without 14 = .ok (.iload_n 1, 1) := dk_27 (dk_at dksX6_without_0 14 rfl rfl)
theorem dX6_without_15 : decode cX6_without 15 = .ok (.ishl, 1) := dk_120 (dk_at dksX6_without_0 15 rfl rfl)
theorem dX6_without_16 : decode cX6_without 16 = .ok (.ior, 1) := dk_128 (dk_at dksX6_without_0 16 rfl rfl)
theorem dX6_without_17 : decode cX6_without 17 = .ok (.ireturn, 1) := dk_172 (dk_at dksX6_without_0 17 rfl rfl)
abbrev cX6_ahead : ByteArray := prog_11_method_51_code
def yX6_ahead : MethodName := ⟨RX6, "ahead", "(II)I"⟩
def dkwX6_ahead_0 : List UInt8 := [42, 182, 0, 188, 42, 42, 27, 28, 182, 0, 203, 182, 0, 194, 172]
abbrev dktX6_ahead_0 : List UInt8 := dkwX6_ahead_0 ++ []
theorem dksX6_ahead_0 : cX6_ahead.data.toList.drop 0 = dktX6_ahead_0 := by decide +kernel
theorem dX6_ahead_0 : decode cX6_ahead 0 = .ok (.aload_n 0, 1) := dk_42 (dk_at dksX6_ahead_0 0 rfl rfl)
theorem dX6_ahead_1 : decode cX6_ahead 1 = .ok (.invokevirtual 188, 3) := dk_182 0 188 (dk_at dksX6_ahead_0 1 rfl rfl)
theorem dX6_ahead_4 : decode cX6_ahead 4 = .ok (.aload_n 0, 1) := dk_42 (dk_at dksX6_ahead_0 4 rfl rfl)
theorem dX6_ahead_5 : decode cX6_ahead 5 = .ok (.aload_n 0, 1) := dk_42 (dk_at dksX6_ahead_0 5 rfl rfl)
theorem dX6_ahead_6 : decode cX6_ahead 6 = .ok (.iload_n 1, 1) := dk_27 (dk_at dksX6_ahead_0 6 rfl rfl)
theorem dX6_ahead_7 : decode cX6_ahead 7 = .ok (.iload_n 2, 1) := dk_28 (dk_at dksX6_ahead_0 7 rfl rfl)
theorem dX6_ahead_8 : decode cX6_ahead 8 = .ok (.invokevirtual 203, 3) := dk_182 0 203 (dk_at dksX6_ahead_0 8 rfl rfl)
theorem dX6_ahead_11 : decode cX6_ahead 11 = .ok (.invokevirtual 194, 3) := dk_182 0 194 (dk_at dksX6_ahead_0 11 rfl rfl)
theorem dX6_ahead_14 : decode cX6_ahead 14 = .ok (.ireturn, 1) := dk_172 (dk_at dksX6_ahead_0 14 rfl rfl)
abbrev cX6_puts : ByteArray := prog_11_method_43_code
def yX6_puts : MethodName := ⟨RX6, "puts", "(II)I"⟩
def dkwX6_puts_3 : List UInt8 := [153, 0, 7, 3, 167, 0, 4, 4, 172]
abbrev dktX6_puts_3 : List UInt8 := dkwX6_puts_3 ++ []
def dkwX6_puts_2 : List UInt8 := [153, 0, 6, 16, 254, 172, 42, 180, 0, 7, 16, 20, 27, 96, 92, 46, 4, 28, 120, 130, 79, 29]
abbrev dktX6_puts_2 : List UInt8 := dkwX6_puts_2 ++ dktX6_puts_3
def dkwX6_puts_1 : List UInt8 := [180, 0, 7, 16, 20, 27, 96, 46, 28, 184, 0, 75, 62, 29, 154, 0, 15, 42, 28, 27, 182, 0, 179]
abbrev dktX6_puts_1 : List UInt8 := dkwX6_puts_1 ++ dktX6_puts_2
def dkwX6_puts_0 : List UInt8 := [42, 27, 182, 0, 104, 153, 0, 16, 42, 28, 182, 0, 104, 153, 0, 8, 27, 28, 160, 0, 5, 2, 172, 42]
abbrev dktX6_puts_0 : List UInt8 := dkwX6_puts_0 ++ dktX6_puts_1
theorem dksX6_puts_0 : cX6_puts.data.toList.drop 0 = dktX6_puts_0 := by decide +kernel
theorem dksX6_puts_1 : cX6_puts.data.toList.drop 24 = dktX6_puts_1 := dk_seg dksX6_puts_0 24 rfl rfl
theorem dksX6_puts_2 : cX6_puts.data.toList.drop 47 = dktX6_puts_2 := dk_seg dksX6_puts_1 23 rfl rfl
theorem dksX6_puts_3 : cX6_puts.data.toList.drop 69 = dktX6_puts_3 := dk_seg dksX6_puts_2 22 rfl rfl
theorem dX6_puts_0 : decode cX6_puts 0 = .ok (.aload_n 0, 1) := dk_42 (dk_at dksX6_puts_0 0 rfl rfl)
theorem dX6_puts_1 : decode cX6_puts 1 = .ok (.iload_n 1, 1) := dk_27 (dk_at dksX6_puts_0 1 rfl rfl)
theorem dX6_puts_2 : decode cX6_puts 2 = .ok (.invokevirtual 104, 3) := dk_182 0 104 (dk_at dksX6_puts_0 2 rfl rfl)
theorem dX6_puts_5 : decode cX6_puts 5 = .ok (.ifCond .eq 16, 3) := dk_153 0 16 (dk_at dksX6_puts_0 5 rfl rfl)
theorem dX6_puts_8 : decode cX6_puts 8 = .ok (.aload_n 0, 1) := dk_42 (dk_at dksX6_puts_0 8 rfl rfl)
theorem dX6_puts_9 : decode cX6_puts 9 = .ok (.iload_n 2, 1) := dk_28 (dk_at dksX6_puts_0 9 rfl rfl)
theorem dX6_puts_10 : decode cX6_puts 10 = .ok (.invokevirtual 104, 3) := dk_182 0 104 (dk_at dksX6_puts_0 10 rfl rfl)
theorem dX6_puts_13 : decode cX6_puts 13 = .ok (.ifCond .eq 8, 3) := dk_153 0 8 (dk_at dksX6_puts_0 13 rfl rfl)
theorem dX6_puts_16 : decode cX6_puts 16 = .ok (.iload_n 1, 1) := dk_27 (dk_at dksX6_puts_0 16 rfl rfl)
theorem dX6_puts_17 : decode cX6_puts 17 = .ok (.iload_n 2, 1) := dk_28 (dk_at dksX6_puts_0 17 rfl rfl)
theorem dX6_puts_18 : decode cX6_puts 18 = .ok (.if_icmp .ne 5, 3) := dk_160 0 5 (dk_at dksX6_puts_0 18 rfl rfl)
theorem dX6_puts_21 : decode cX6_puts 21 = .ok (.iconst (-1), 1) := dk_2 (dk_at dksX6_puts_0 21 rfl rfl)
theorem dX6_puts_22 : decode cX6_puts 22 = .ok (.ireturn, 1) := dk_172 (dk_at dksX6_puts_0 22 rfl rfl)
theorem dX6_puts_23 : decode cX6_puts 23 = .ok (.aload_n 0, 1) := dk_42 (dk_at dksX6_puts_0 23 rfl rfl)
theorem dX6_puts_24 : decode cX6_puts 24 = .ok (.getfield 7, 3) := dk_180 0 7 (dk_at dksX6_puts_1 0 rfl rfl)
theorem dX6_puts_27 : decode cX6_puts 27 = .ok (.bipush 20, 2) := dk_16 20 (dk_at dksX6_puts_1 3 rfl rfl)
theorem dX6_puts_29 : decode cX6_puts 29 = .ok (.iload_n 1, 1) := dk_27 (dk_at dksX6_puts_1 5 rfl rfl)
theorem dX6_puts_30 : decode cX6_puts 30 = .ok (.iadd, 1) := dk_96 (dk_at dksX6_puts_1 6 rfl rfl)
theorem dX6_puts_31 : decode cX6_puts 31 = .ok (.iaload, 1) := dk_46 (dk_at dksX6_puts_1 7 rfl rfl)
theorem dX6_puts_32 : decode cX6_puts 32 = .ok (.iload_n 2, 1) := dk_28 (dk_at dksX6_puts_1 8 rfl rfl)
theorem dX6_puts_33 : decode cX6_puts 33 = .ok (.invokestatic 75, 3) := dk_184 0 75 (dk_at dksX6_puts_1 9 rfl rfl)
theorem dX6_puts_36 : decode cX6_puts 36 = .ok (.istore_n 3, 1) := dk_62 (dk_at dksX6_puts_1 12 rfl rfl)
theorem dX6_puts_37 : decode cX6_puts 37 = .ok (.iload_n 3, 1) := dk_29 (dk_at dksX6_puts_1 13 rfl rfl)
theorem dX6_puts_38 : decode cX6_puts 38 = .ok (.ifCond .ne 15, 3) := dk_154 0 15 (dk_at dksX6_puts_1 14 rfl rfl)
theorem dX6_puts_41 : decode cX6_puts 41 = .ok (.aload_n 0, 1) := dk_42 (dk_at dksX6_puts_1 17 rfl rfl)
theorem dX6_puts_42 : decode cX6_puts 42 = .ok (.iload_n 2, 1) := dk_28 (dk_at dksX6_puts_1 18 rfl rfl)
theorem dX6_puts_43 : decode cX6_puts 43 = .ok (.iload_n 1, 1) := dk_27 (dk_at dksX6_puts_1 19 rfl rfl)
theorem dX6_puts_44 : decode cX6_puts 44 = .ok (.invokevirtual 179, 3) := dk_182 0 179 (dk_at dksX6_puts_1 20 rfl rfl)
theorem dX6_puts_47 : decode cX6_puts 47 = .ok (.ifCond .eq 6, 3) := dk_153 0 6 (dk_at dksX6_puts_2 0 rfl rfl)
theorem dX6_puts_50 : decode cX6_puts 50 = .ok (.bipush (-2), 2) := dk_16 254 (dk_at dksX6_puts_2 3 rfl rfl)
theorem dX6_puts_52 : decode cX6_puts 52 = .ok (.ireturn, 1) := dk_172 (dk_at dksX6_puts_2 5 rfl rfl)
theorem dX6_puts_53 : decode cX6_puts 53 = .ok (.aload_n 0, 1) := dk_42 (dk_at dksX6_puts_2 6 rfl rfl)
theorem dX6_puts_54 : decode cX6_puts 54 = .ok (.getfield 7, 3) := dk_180 0 7 (dk_at dksX6_puts_2 7 rfl rfl)
theorem dX6_puts_57 : decode cX6_puts 57 = .ok (.bipush 20, 2) := dk_16 20 (dk_at dksX6_puts_2 10 rfl rfl)
theorem dX6_puts_59 : decode cX6_puts 59 = .ok (.iload_n 1, 1) := dk_27 (dk_at dksX6_puts_2 12 rfl rfl)
theorem dX6_puts_60 : decode cX6_puts 60 = .ok (.iadd, 1) := dk_96 (dk_at dksX6_puts_2 13 rfl rfl)
theorem dX6_puts_61 : decode cX6_puts 61 = .ok (.dup2, 1) := dk_92 (dk_at dksX6_puts_2 14 rfl rfl)
theorem dX6_puts_62 : decode cX6_puts 62 = .ok (.iaload, 1) := dk_46 (dk_at dksX6_puts_2 15 rfl rfl)
theorem dX6_puts_63 : decode cX6_puts 63 = .ok (.iconst 1, 1) := dk_4 (dk_at dksX6_puts_2 16 rfl rfl)
theorem dX6_puts_64 : decode cX6_puts 64 = .ok (.iload_n 2, 1) := dk_28 (dk_at dksX6_puts_2 17 rfl rfl)
theorem dX6_puts_65 : decode cX6_puts 65 = .ok (.ishl, 1) := dk_120 (dk_at dksX6_puts_2 18 rfl rfl)
theorem dX6_puts_66 : decode cX6_puts 66 = .ok (.ixor, 1) := dk_130 (dk_at dksX6_puts_2 19 rfl rfl)
theorem dX6_puts_67 : decode cX6_puts 67 = .ok (.iastore, 1) := dk_79 (dk_at dksX6_puts_2 20 rfl rfl)
theorem dX6_puts_68 : decode cX6_puts 68 = .ok (.iload_n 3, 1) := dk_29 (dk_at dksX6_puts_2 21 rfl rfl)
theorem dX6_puts_69 : decode cX6_puts 69 = .ok (.ifCond .eq 7, 3) := dk_153 0 7 (dk_at dksX6_puts_3 0 rfl rfl)
theorem dX6_puts_72 : decode cX6_puts 72 = .ok (.iconst 0, 1) := dk_3 (dk_at dksX6_puts_3 3 rfl rfl)
theorem dX6_puts_73 : decode cX6_puts 73 = .ok (.goto 4, 3) := dk_167 0 4 (dk_at dksX6_puts_3 4 rfl rfl)
theorem dX6_puts_76 : decode cX6_puts 76 = .ok (.iconst 1, 1) := dk_4 (dk_at dksX6_puts_3 7 rfl rfl)
theorem dX6_puts_77 : decode cX6_puts 77 = .ok (.ireturn, 1) := dk_172 (dk_at dksX6_puts_3 8 rfl rfl)
abbrev cX6_comesTo : ByteArray := prog_11_method_42_code
def yX6_comesTo : MethodName := ⟨RX6, "comesTo", "(II)Z"⟩
def dkwX6_comesTo_2 : List UInt8 := [167, 0, 4, 3, 128, 62, 132, 5, 1, 167, 255, 216, 132, 4, 1, 167, 255, 200, 29, 28, 184, 0, 75, 172]
abbrev dktX6_comesTo_2 : List UInt8 := dkwX6_comesTo_2 ++ []
def dkwX6_comesTo_1 : List UInt8 := [46, 162, 0, 35, 29, 29, 21, 5, 184, 0, 75, 153, 0, 16, 42, 180, 0, 7, 16, 20, 21, 5, 96, 46]
abbrev dktX6_comesTo_1 : List UInt8 := dkwX6_comesTo_1 ++ dktX6_comesTo_2
def dkwX6_comesTo_0 : List UInt8 := [4, 27, 120, 62, 3, 54, 4, 21, 4, 16, 7, 162, 0, 55, 3, 54, 5, 21, 5, 42, 180, 0, 7, 3]
abbrev dktX6_comesTo_0 : List UInt8 := dkwX6_comesTo_0 ++ dktX6_comesTo_1
theorem dksX6_comesTo_0 : cX6_comesTo.data.toList.drop 0 = dktX6_comesTo_0 := by decide +kernel
theorem dksX6_comesTo_1 : cX6_comesTo.data.toList.drop 24 = dktX6_comesTo_1 := dk_seg dksX6_comesTo_0 24 rfl rfl
theorem dksX6_comesTo_2 : cX6_comesTo.data.toList.drop 48 = dktX6_comesTo_2 := dk_seg dksX6_comesTo_1 24 rfl rfl
theorem dX6_comesTo_0 : decode cX6_comesTo 0 = .ok (.iconst 1, 1) := dk_4 (dk_at dksX6_comesTo_0 0 rfl rfl)
theorem dX6_comesTo_1 : decode cX6_comesTo 1 = .ok (.iload_n 1, 1) := dk_27 (dk_at dksX6_comesTo_0 1 rfl rfl)
theorem dX6_comesTo_2 : decode cX6_comesTo 2 = .ok (.ishl, 1) := dk_120 (dk_at dksX6_comesTo_0 2 rfl rfl)
theorem dX6_comesTo_3 : decode cX6_comesTo 3 = .ok (.istore_n 3, 1) := dk_62 (dk_at dksX6_comesTo_0 3 rfl rfl)
theorem dX6_comesTo_4 : decode cX6_comesTo 4 = .ok (.iconst 0, 1) := dk_3 (dk_at dksX6_comesTo_0 4 rfl rfl)
theorem dX6_comesTo_5 : decode cX6_comesTo 5 = .ok (.istore 4, 2) := dk_54 4 (dk_at dksX6_comesTo_0 5 rfl rfl)
theorem dX6_comesTo_7 : decode cX6_comesTo 7 = .ok (.iload 4, 2) := dk_21 4 (dk_at dksX6_comesTo_0 7 rfl rfl)
theorem dX6_comesTo_9 : decode cX6_comesTo 9 = .ok (.bipush 7, 2) := dk_16 7 (dk_at dksX6_comesTo_0 9 rfl rfl)
theorem dX6_comesTo_11 : decode cX6_comesTo 11 = .ok (.if_icmp .ge 55, 3) := dk_162 0 55 (dk_at dksX6_comesTo_0 11 rfl rfl)
theorem dX6_comesTo_14 : decode cX6_comesTo 14 = .ok (.iconst 0, 1) := dk_3 (dk_at dksX6_comesTo_0 14 rfl rfl)
theorem dX6_comesTo_15 : decode cX6_comesTo 15 = .ok (.istore 5, 2) := dk_54 5 (dk_at dksX6_comesTo_0 15 rfl rfl)
theorem dX6_comesTo_17 : decode cX6_comesTo 17 = .ok (.iload 5, 2) := dk_21 5 (dk_at dksX6_comesTo_0 17 rfl rfl)
theorem dX6_comesTo_19 : decode cX6_comesTo 19 = .ok (.aload_n 0, 1) := dk_42 (dk_at dksX6_comesTo_0 19 rfl rfl)
theorem dX6_comesTo_20 : decode cX6_comesTo 20 = .ok (.getfield 7, 3) := dk_180 0 7 (dk_at dksX6_comesTo_0 20 rfl rfl)
theorem dX6_comesTo_23 : decode cX6_comesTo 23 = .ok (.iconst 0, 1) := dk_3 (dk_at dksX6_comesTo_0 23 rfl rfl)
theorem dX6_comesTo_24 : decode cX6_comesTo 24 = .ok (.iaload, 1) := dk_46 (dk_at dksX6_comesTo_1 0 rfl rfl)
theorem dX6_comesTo_25 : decode cX6_comesTo 25 = .ok (.if_icmp .ge 35, 3) := dk_162 0 35 (dk_at dksX6_comesTo_1 1 rfl rfl)
theorem dX6_comesTo_28 : decode cX6_comesTo 28 = .ok (.iload_n 3, 1) := dk_29 (dk_at dksX6_comesTo_1 4 rfl rfl)
theorem dX6_comesTo_29 : decode cX6_comesTo 29 = .ok (.iload_n 3, 1) := dk_29 (dk_at dksX6_comesTo_1 5 rfl rfl)
theorem dX6_comesTo_30 : decode cX6_comesTo 30 = .ok (.iload 5, 2) := dk_21 5 (dk_at dksX6_comesTo_1 6 rfl rfl)
theorem dX6_comesTo_32 : decode cX6_comesTo 32 = .ok (.invokestatic 75, 3) := dk_184 0 75 (dk_at dksX6_comesTo_1 8 rfl rfl)
theorem dX6_comesTo_35 : decode cX6_comesTo 35 = .ok (.ifCond .eq 16, 3) := dk_153 0 16 (dk_at dksX6_comesTo_1 11 rfl rfl)
theorem dX6_comesTo_38 : decode cX6_comesTo 38 = .ok (.aload_n 0, 1) := dk_42 (dk_at dksX6_comesTo_1 14 rfl rfl)
theorem dX6_comesTo_39 : decode cX6_comesTo 39 = .ok (.getfield 7, 3) := dk_180 0 7 (dk_at dksX6_comesTo_1 15 rfl rfl)
theorem dX6_comesTo_42 : decode cX6_comesTo 42 = .ok (.bipush 20, 2) := dk_16 20 (dk_at dksX6_comesTo_1 18 rfl rfl)
theorem dX6_comesTo_44 : decode cX6_comesTo 44 = .ok (.iload 5, 2) := dk_21 5 (dk_at dksX6_comesTo_1 20 rfl rfl)
theorem dX6_comesTo_46 : decode cX6_comesTo 46 = .ok (.iadd, 1) := dk_96 (dk_at dksX6_comesTo_1 22 rfl rfl)
theorem dX6_comesTo_47 : decode cX6_comesTo 47 = .ok (.iaload, 1) := dk_46 (dk_at dksX6_comesTo_1 23 rfl rfl)
theorem dX6_comesTo_48 : decode cX6_comesTo 48 = .ok (.goto 4, 3) := dk_167 0 4 (dk_at dksX6_comesTo_2 0 rfl rfl)
theorem dX6_comesTo_51 : decode cX6_comesTo 51 = .ok (.iconst 0, 1) := dk_3 (dk_at dksX6_comesTo_2 3 rfl rfl)
theorem dX6_comesTo_52 : decode cX6_comesTo 52 = .ok (.ior, 1) := dk_128 (dk_at dksX6_comesTo_2 4 rfl rfl)
theorem dX6_comesTo_53 : decode cX6_comesTo 53 = .ok (.istore_n 3, 1) := dk_62 (dk_at dksX6_comesTo_2 5 rfl rfl)
theorem dX6_comesTo_54 : decode cX6_comesTo 54 = .ok (.iinc 5 1, 3) := dk_132 5 1 (dk_at dksX6_comesTo_2 6 rfl rfl)
theorem dX6_comesTo_57 : decode cX6_comesTo 57 = .ok (.goto (-40), 3) := dk_167 255 216 (dk_at dksX6_comesTo_2 9 rfl rfl)
theorem dX6_comesTo_60 : decode cX6_comesTo 60 = .ok (.iinc 4 1, 3) := dk_132 4 1 (dk_at dksX6_comesTo_2 12 rfl rfl)
theorem dX6_comesTo_63 : decode cX6_comesTo 63 = .ok (.goto (-56), 3) := dk_167 255 200 (dk_at dksX6_comesTo_2 15 rfl rfl)
theorem dX6_comesTo_66 : decode cX6_comesTo 66 = .ok (.iload_n 3, 1) := dk_29 (dk_at dksX6_comesTo_2 18 rfl rfl)
theorem dX6_comesTo_67 : decode cX6_comesTo 67 = .ok (.iload_n 2, 1) := dk_28 (dk_at dksX6_comesTo_2 19 rfl rfl)
theorem dX6_comesTo_68 : decode cX6_comesTo 68 = .ok (.invokestatic 75, 3) := dk_184 0 75 (dk_at dksX6_comesTo_2 20 rfl rfl)
theorem dX6_comesTo_71 : decode cX6_comesTo 71 = .ok (.ireturn, 1) := dk_172 (dk_at dksX6_comesTo_2 23 rfl rfl)
abbrev cX6_prior : ByteArray := prog_11_method_52_code
def yX6_prior : MethodName := ⟨RX6, "prior", "(I)I"⟩
def dkwX6_prior_0 : List UInt8 := [42, 182, 0, 188, 42, 42, 27, 182, 0, 206, 182, 0, 194, 172]
abbrev dktX6_prior_0 : List UInt8 := dkwX6_prior_0 ++ []
theorem dksX6_prior_0 : cX6_prior.data.toList.drop 0 = dktX6_prior_0 := by decide +kernel
theorem dX6_prior_0 : decode cX6_prior 0 = .ok (.aload_n 0, 1) := dk_42 (dk_at dksX6_prior_0 0 rfl rfl)
theorem dX6_prior_1 : decode cX6_prior 1 = .ok (.invokevirtual 188, 3) := dk_182 0 188 (dk_at dksX6_prior_0 1 rfl rfl)
theorem dX6_prior_4 : decode cX6_prior 4 = .ok (.aload_n 0, 1) := dk_42 (dk_at dksX6_prior_0 4 rfl rfl)
theorem dX6_prior_5 : decode cX6_prior 5 = .ok (.aload_n 0, 1) := dk_42 (dk_at dksX6_prior_0 5 rfl rfl)
theorem dX6_prior_6 : decode cX6_prior 6 = .ok (.iload_n 1, 1) := dk_27 (dk_at dksX6_prior_0 6 rfl rfl)
theorem dX6_prior_7 : decode cX6_prior 7 = .ok (.invokevirtual 206, 3) := dk_182 0 206 (dk_at dksX6_prior_0 7 rfl rfl)
theorem dX6_prior_10 : decode cX6_prior 10 = .ok (.invokevirtual 194, 3) := dk_182 0 194 (dk_at dksX6_prior_0 10 rfl rfl)
theorem dX6_prior_13 : decode cX6_prior 13 = .ok (.ireturn, 1) := dk_172 (dk_at dksX6_prior_0 13 rfl rfl)
abbrev cX6_sets : ByteArray := prog_11_method_44_code
def yX6_sets : MethodName := ⟨RX6, "sets", "(I)I"⟩
def dkwX6_sets_1 : List UInt8 := [42, 180, 0, 7, 4, 27, 79, 28, 172]
abbrev dktX6_sets_1 : List UInt8 := dkwX6_sets_1 ++ []
def dkwX6_sets_0 : List UInt8 := [27, 184, 0, 172, 154, 0, 5, 2, 172, 42, 180, 0, 7, 4, 46, 61, 28, 27, 160, 0, 6, 16, 254, 172]
abbrev dktX6_sets_0 : List UInt8 := dkwX6_sets_0 ++ dktX6_sets_1
theorem dksX6_sets_0 : cX6_sets.data.toList.drop 0 = dktX6_sets_0 := by decide +kernel
theorem dksX6_sets_1 : cX6_sets.data.toList.drop 24 = dktX6_sets_1 := dk_seg dksX6_sets_0 24 rfl rfl
theorem dX6_sets_0 : decode cX6_sets 0 = .ok (.iload_n 1, 1) := dk_27 (dk_at dksX6_sets_0 0 rfl rfl)
theorem dX6_sets_1 : decode cX6_sets 1 = .ok (.invokestatic 172, 3) := dk_184 0 172 (dk_at dksX6_sets_0 1 rfl rfl)
theorem dX6_sets_4 : decode cX6_sets 4 = .ok (.ifCond .ne 5, 3) := dk_154 0 5 (dk_at dksX6_sets_0 4 rfl rfl)
theorem dX6_sets_7 : decode cX6_sets 7 = .ok (.iconst (-1), 1) := dk_2 (dk_at dksX6_sets_0 7 rfl rfl)
theorem dX6_sets_8 : decode cX6_sets 8 = .ok (.ireturn, 1) := dk_172 (dk_at dksX6_sets_0 8 rfl rfl)
theorem dX6_sets_9 : decode cX6_sets 9 = .ok (.aload_n 0, 1) := dk_42 (dk_at dksX6_sets_0 9 rfl rfl)
theorem dX6_sets_10 : decode cX6_sets 10 = .ok (.getfield 7, 3) := dk_180 0 7 (dk_at dksX6_sets_0 10 rfl rfl)
theorem dX6_sets_13 : decode cX6_sets 13 = .ok (.iconst 1, 1) := dk_4 (dk_at dksX6_sets_0 13 rfl rfl)
theorem dX6_sets_14 : decode cX6_sets 14 = .ok (.iaload, 1) := dk_46 (dk_at dksX6_sets_0 14 rfl rfl)
theorem dX6_sets_15 : decode cX6_sets 15 = .ok (.istore_n 2, 1) := dk_61 (dk_at dksX6_sets_0 15 rfl rfl)
theorem dX6_sets_16 : decode cX6_sets 16 = .ok (.iload_n 2, 1) := dk_28 (dk_at dksX6_sets_0 16 rfl rfl)
theorem dX6_sets_17 : decode cX6_sets 17 = .ok (.iload_n 1, 1) := dk_27 (dk_at dksX6_sets_0 17 rfl rfl)
theorem dX6_sets_18 : decode cX6_sets 18 = .ok (.if_icmp .ne 6, 3) := dk_160 0 6 (dk_at dksX6_sets_0 18 rfl rfl)
theorem dX6_sets_21 : decode cX6_sets 21 = .ok (.bipush (-2), 2) := dk_16 254 (dk_at dksX6_sets_0 21 rfl rfl)
theorem dX6_sets_23 : decode cX6_sets 23 = .ok (.ireturn, 1) := dk_172 (dk_at dksX6_sets_0 23 rfl rfl)
theorem dX6_sets_24 : decode cX6_sets 24 = .ok (.aload_n 0, 1) := dk_42 (dk_at dksX6_sets_1 0 rfl rfl)
theorem dX6_sets_25 : decode cX6_sets 25 = .ok (.getfield 7, 3) := dk_180 0 7 (dk_at dksX6_sets_1 1 rfl rfl)
theorem dX6_sets_28 : decode cX6_sets 28 = .ok (.iconst 1, 1) := dk_4 (dk_at dksX6_sets_1 4 rfl rfl)
theorem dX6_sets_29 : decode cX6_sets 29 = .ok (.iload_n 1, 1) := dk_27 (dk_at dksX6_sets_1 5 rfl rfl)
theorem dX6_sets_30 : decode cX6_sets 30 = .ok (.iastore, 1) := dk_79 (dk_at dksX6_sets_1 6 rfl rfl)
theorem dX6_sets_31 : decode cX6_sets 31 = .ok (.iload_n 2, 1) := dk_28 (dk_at dksX6_sets_1 7 rfl rfl)
theorem dX6_sets_32 : decode cX6_sets 32 = .ok (.ireturn, 1) := dk_172 (dk_at dksX6_sets_1 8 rfl rfl)
abbrev cX6_tell : ByteArray := prog_11_method_53_code
def yX6_tell : MethodName := ⟨RX6, "tell", "(II)I"⟩
def dkwX6_tell_0 : List UInt8 := [42, 182, 0, 188, 42, 42, 27, 28, 182, 0, 209, 182, 0, 194, 172]
abbrev dktX6_tell_0 : List UInt8 := dkwX6_tell_0 ++ []
theorem dksX6_tell_0 : cX6_tell.data.toList.drop 0 = dktX6_tell_0 := by decide +kernel
theorem dX6_tell_0 : decode cX6_tell 0 = .ok (.aload_n 0, 1) := dk_42 (dk_at dksX6_tell_0 0 rfl rfl)
theorem dX6_tell_1 : decode cX6_tell 1 = .ok (.invokevirtual 188, 3) := dk_182 0 188 (dk_at dksX6_tell_0 1 rfl rfl)
theorem dX6_tell_4 : decode cX6_tell 4 = .ok (.aload_n 0, 1) := dk_42 (dk_at dksX6_tell_0 4 rfl rfl)
theorem dX6_tell_5 : decode cX6_tell 5 = .ok (.aload_n 0, 1) := dk_42 (dk_at dksX6_tell_0 5 rfl rfl)
theorem dX6_tell_6 : decode cX6_tell 6 = .ok (.iload_n 1, 1) := dk_27 (dk_at dksX6_tell_0 6 rfl rfl)
theorem dX6_tell_7 : decode cX6_tell 7 = .ok (.iload_n 2, 1) := dk_28 (dk_at dksX6_tell_0 7 rfl rfl)
theorem dX6_tell_8 : decode cX6_tell 8 = .ok (.invokevirtual 209, 3) := dk_182 0 209 (dk_at dksX6_tell_0 8 rfl rfl)
theorem dX6_tell_11 : decode cX6_tell 11 = .ok (.invokevirtual 194, 3) := dk_182 0 194 (dk_at dksX6_tell_0 11 rfl rfl)
theorem dX6_tell_14 : decode cX6_tell 14 = .ok (.ireturn, 1) := dk_172 (dk_at dksX6_tell_0 14 rfl rfl)
abbrev cX6_tells : ByteArray := prog_11_method_45_code
def yX6_tells : MethodName := ⟨RX6, "tells", "(II)I"⟩
def dkwX6_tells_3 : List UInt8 := [54, 4, 21, 4, 28, 160, 0, 6, 16, 254, 172, 42, 180, 0, 7, 5, 27, 96, 28, 79, 21, 4, 172]
abbrev dktX6_tells_3 : List UInt8 := dkwX6_tells_3 ++ []
def dkwX6_tells_2 : List UInt8 := [153, 0, 7, 4, 167, 0, 4, 3, 62, 29, 154, 0, 5, 2, 172, 42, 180, 0, 7, 5, 27, 96, 46]
abbrev dktX6_tells_2 : List UInt8 := dkwX6_tells_2 ++ dktX6_tells_3
def dkwX6_tells_1 : List UInt8 := [20, 0, 184, 184, 0, 71, 167, 0, 25, 27, 5, 160, 0, 19, 28, 133, 9, 20, 0, 186, 184, 0, 71]
abbrev dktX6_tells_1 : List UInt8 := dkwX6_tells_1 ++ dktX6_tells_2
def dkwX6_tells_0 : List UInt8 := [27, 154, 0, 15, 28, 133, 10, 20, 0, 182, 184, 0, 71, 167, 0, 42, 27, 4, 160, 0, 15, 28, 133, 9]
abbrev dktX6_tells_0 : List UInt8 := dkwX6_tells_0 ++ dktX6_tells_1
theorem dksX6_tells_0 : cX6_tells.data.toList.drop 0 = dktX6_tells_0 := by decide +kernel
theorem dksX6_tells_1 : cX6_tells.data.toList.drop 24 = dktX6_tells_1 := dk_seg dksX6_tells_0 24 rfl rfl
theorem dksX6_tells_2 : cX6_tells.data.toList.drop 47 = dktX6_tells_2 := dk_seg dksX6_tells_1 23 rfl rfl
theorem dksX6_tells_3 : cX6_tells.data.toList.drop 70 = dktX6_tells_3 := dk_seg dksX6_tells_2 23 rfl rfl
theorem dX6_tells_0 : decode cX6_tells 0 = .ok (.iload_n 1, 1) := dk_27 (dk_at dksX6_tells_0 0 rfl rfl)
theorem dX6_tells_1 : decode cX6_tells 1 = .ok (.ifCond .ne 15, 3) := dk_154 0 15 (dk_at dksX6_tells_0 1 rfl rfl)
theorem dX6_tells_4 : decode cX6_tells 4 = .ok (.iload_n 2, 1) := dk_28 (dk_at dksX6_tells_0 4 rfl rfl)
theorem dX6_tells_5 : decode cX6_tells 5 = .ok (.i2l, 1) := dk_133 (dk_at dksX6_tells_0 5 rfl rfl)
theorem dX6_tells_6 : decode cX6_tells 6 = .ok (.lconst 1, 1) := dk_10 (dk_at dksX6_tells_0 6 rfl rfl)
theorem dX6_tells_7 : decode cX6_tells 7 = .ok (.ldc2_w 182, 3) := dk_20 0 182 (dk_at dksX6_tells_0 7 rfl rfl)
theorem dX6_tells_10 : decode cX6_tells 10 = .ok (.invokestatic 71, 3) := dk_184 0 71 (dk_at dksX6_tells_0 10 rfl rfl)
theorem dX6_tells_13 : decode cX6_tells 13 = .ok (.goto 42, 3) := dk_167 0 42 (dk_at dksX6_tells_0 13 rfl rfl)
theorem dX6_tells_16 : decode cX6_tells 16 = .ok (.iload_n 1, 1) := dk_27 (dk_at dksX6_tells_0 16 rfl rfl)
theorem dX6_tells_17 : decode cX6_tells 17 = .ok (.iconst 1, 1) := dk_4 (dk_at dksX6_tells_0 17 rfl rfl)
theorem dX6_tells_18 : decode cX6_tells 18 = .ok (.if_icmp .ne 15, 3) := dk_160 0 15 (dk_at dksX6_tells_0 18 rfl rfl)
theorem dX6_tells_21 : decode cX6_tells 21 = .ok (.iload_n 2, 1) := dk_28 (dk_at dksX6_tells_0 21 rfl rfl)
theorem dX6_tells_22 : decode cX6_tells 22 = .ok (.i2l, 1) := dk_133 (dk_at dksX6_tells_0 22 rfl rfl)
theorem dX6_tells_23 : decode cX6_tells 23 = .ok (.lconst 0, 1) := dk_9 (dk_at dksX6_tells_0 23 rfl rfl)
theorem dX6_tells_24 : decode cX6_tells 24 = .ok (.ldc2_w 184, 3) := dk_20 0 184 (dk_at dksX6_tells_1 0 rfl rfl)
theorem dX6_tells_27 : decode cX6_tells 27 = .ok (.invokestatic 71, 3) := dk_184 0 71 (dk_at dksX6_tells_1 3 rfl rfl)
theorem dX6_tells_30 : decode cX6_tells 30 = .ok (.goto 25, 3) := dk_167 0 25 (dk_at dksX6_tells_1 6 rfl rfl)
theorem dX6_tells_33 : decode cX6_tells 33 = .ok (.iload_n 1, 1) := dk_27 (dk_at dksX6_tells_1 9 rfl rfl)
theorem dX6_tells_34 : decode cX6_tells 34 = .ok (.iconst 2, 1) := dk_5 (dk_at dksX6_tells_1 10 rfl rfl)
theorem dX6_tells_35 : decode cX6_tells 35 = .ok (.if_icmp .ne 19, 3) := dk_160 0 19 (dk_at dksX6_tells_1 11 rfl rfl)
theorem dX6_tells_38 : decode cX6_tells 38 = .ok (.iload_n 2, 1) := dk_28 (dk_at dksX6_tells_1 14 rfl rfl)
theorem dX6_tells_39 : decode cX6_tells 39 = .ok (.i2l, 1) := dk_133 (dk_at dksX6_tells_1 15 rfl rfl)
theorem dX6_tells_40 : decode cX6_tells 40 = .ok (.lconst 0, 1) := dk_9 (dk_at dksX6_tells_1 16 rfl rfl)
theorem dX6_tells_41 : decode cX6_tells 41 = .ok (.ldc2_w 186, 3) := dk_20 0 186 (dk_at dksX6_tells_1 17 rfl rfl)
theorem dX6_tells_44 : decode cX6_tells 44 = .ok (.invokestatic 71, 3) := dk_184 0 71 (dk_at dksX6_tells_1 20 rfl rfl)
theorem dX6_tells_47 : decode cX6_tells 47 = .ok (.ifCond .eq 7, 3) := dk_153 0 7 (dk_at dksX6_tells_2 0 rfl rfl)
theorem dX6_tells_50 : decode cX6_tells 50 = .ok (.iconst 1, 1) := dk_4 (dk_at dksX6_tells_2 3 rfl rfl)
theorem dX6_tells_51 : decode cX6_tells 51 = .ok (.goto 4, 3) := dk_167 0 4 (dk_at dksX6_tells_2 4 rfl rfl)
theorem dX6_tells_54 : decode cX6_tells 54 = .ok (.iconst 0, 1) := dk_3 (dk_at dksX6_tells_2 7 rfl rfl)
theorem dX6_tells_55 : decode cX6_tells 55 = .ok (.istore_n 3, 1) := dk_62 (dk_at dksX6_tells_2 8 rfl rfl)
theorem dX6_tells_56 : decode cX6_tells 56 = .ok (.iload_n 3, 1) := dk_29 (dk_at dksX6_tells_2 9 rfl rfl)
theorem dX6_tells_57 : decode cX6_tells 57 = .ok (.ifCond .ne 5, 3) := dk_154 0 5 (dk_at dksX6_tells_2 10 rfl rfl)
theorem dX6_tells_60 : decode cX6_tells 60 = .ok (.iconst (-1), 1) := dk_2 (dk_at dksX6_tells_2 13 rfl rfl)
theorem dX6_tells_61 : decode cX6_tells 61 = .ok (.ireturn, 1) := dk_172 (dk_at dksX6_tells_2 14 rfl rfl)
theorem dX6_tells_62 : decode cX6_tells 62 = .ok (.aload_n 0, 1) := dk_42 (dk_at dksX6_tells_2 15 rfl rfl)
theorem dX6_tells_63 : decode cX6_tells 63 = .ok (.getfield 7, 3) := dk_180 0 7 (dk_at dksX6_tells_2 16 rfl rfl)
theorem dX6_tells_66 : decode cX6_tells 66 = .ok (.iconst 2, 1) := dk_5 (dk_at dksX6_tells_2 19 rfl rfl)
theorem dX6_tells_67 : decode cX6_tells 67 = .ok (.iload_n 1, 1) := dk_27 (dk_at dksX6_tells_2 20 rfl rfl)
theorem dX6_tells_68 : decode cX6_tells 68 = .ok (.iadd, 1) := dk_96 (dk_at dksX6_tells_2 21 rfl rfl)
theorem dX6_tells_69 : decode cX6_tells 69 = .ok (.iaload, 1) := dk_46 (dk_at dksX6_tells_2 22 rfl rfl)
theorem dX6_tells_70 : decode cX6_tells 70 = .ok (.istore 4, 2) := dk_54 4 (dk_at dksX6_tells_3 0 rfl rfl)
theorem dX6_tells_72 : decode cX6_tells 72 = .ok (.iload 4, 2) := dk_21 4 (dk_at dksX6_tells_3 2 rfl rfl)
theorem dX6_tells_74 : decode cX6_tells 74 = .ok (.iload_n 2, 1) := dk_28 (dk_at dksX6_tells_3 4 rfl rfl)
theorem dX6_tells_75 : decode cX6_tells 75 = .ok (.if_icmp .ne 6, 3) := dk_160 0 6 (dk_at dksX6_tells_3 5 rfl rfl)
theorem dX6_tells_78 : decode cX6_tells 78 = .ok (.bipush (-2), 2) := dk_16 254 (dk_at dksX6_tells_3 8 rfl rfl)
theorem dX6_tells_80 : decode cX6_tells 80 = .ok (.ireturn, 1) := dk_172 (dk_at dksX6_tells_3 10 rfl rfl)
theorem dX6_tells_81 : decode cX6_tells 81 = .ok (.aload_n 0, 1) := dk_42 (dk_at dksX6_tells_3 11 rfl rfl)
theorem dX6_tells_82 : decode cX6_tells 82 = .ok (.getfield 7, 3) := dk_180 0 7 (dk_at dksX6_tells_3 12 rfl rfl)
theorem dX6_tells_85 : decode cX6_tells 85 = .ok (.iconst 2, 1) := dk_5 (dk_at dksX6_tells_3 15 rfl rfl)
theorem dX6_tells_86 : decode cX6_tells 86 = .ok (.iload_n 1, 1) := dk_27 (dk_at dksX6_tells_3 16 rfl rfl)
theorem dX6_tells_87 : decode cX6_tells 87 = .ok (.iadd, 1) := dk_96 (dk_at dksX6_tells_3 17 rfl rfl)
theorem dX6_tells_88 : decode cX6_tells 88 = .ok (.iload_n 2, 1) := dk_28 (dk_at dksX6_tells_3 18 rfl rfl)
theorem dX6_tells_89 : decode cX6_tells 89 = .ok (.iastore, 1) := dk_79 (dk_at dksX6_tells_3 19 rfl rfl)
theorem dX6_tells_90 : decode cX6_tells 90 = .ok (.iload 4, 2) := dk_21 4 (dk_at dksX6_tells_3 20 rfl rfl)
theorem dX6_tells_92 : decode cX6_tells 92 = .ok (.ireturn, 1) := dk_172 (dk_at dksX6_tells_3 22 rfl rfl)
abbrev cX6_move : ByteArray := prog_11_method_54_code
def yX6_move : MethodName := ⟨RX6, "move", "(II)I"⟩
def dkwX6_move_0 : List UInt8 := [42, 182, 0, 188, 42, 42, 27, 28, 182, 0, 212, 182, 0, 194, 172]
abbrev dktX6_move_0 : List UInt8 := dkwX6_move_0 ++ []
theorem dksX6_move_0 : cX6_move.data.toList.drop 0 = dktX6_move_0 := by decide +kernel
theorem dX6_move_0 : decode cX6_move 0 = .ok (.aload_n 0, 1) := dk_42 (dk_at dksX6_move_0 0 rfl rfl)
theorem dX6_move_1 : decode cX6_move 1 = .ok (.invokevirtual 188, 3) := dk_182 0 188 (dk_at dksX6_move_0 1 rfl rfl)
theorem dX6_move_4 : decode cX6_move 4 = .ok (.aload_n 0, 1) := dk_42 (dk_at dksX6_move_0 4 rfl rfl)
theorem dX6_move_5 : decode cX6_move 5 = .ok (.aload_n 0, 1) := dk_42 (dk_at dksX6_move_0 5 rfl rfl)
theorem dX6_move_6 : decode cX6_move 6 = .ok (.iload_n 1, 1) := dk_27 (dk_at dksX6_move_0 6 rfl rfl)
theorem dX6_move_7 : decode cX6_move 7 = .ok (.iload_n 2, 1) := dk_28 (dk_at dksX6_move_0 7 rfl rfl)
theorem dX6_move_8 : decode cX6_move 8 = .ok (.invokevirtual 212, 3) := dk_182 0 212 (dk_at dksX6_move_0 8 rfl rfl)
theorem dX6_move_11 : decode cX6_move 11 = .ok (.invokevirtual 194, 3) := dk_182 0 194 (dk_at dksX6_move_0 11 rfl rfl)
theorem dX6_move_14 : decode cX6_move 14 = .ok (.ireturn, 1) := dk_172 (dk_at dksX6_move_0 14 rfl rfl)
abbrev cX6_shifts : ByteArray := prog_11_method_46_code
def yX6_shifts : MethodName := ⟨RX6, "shifts", "(II)I"⟩
def dkwX6_shifts_5 : List UInt8 := [28, 96, 29, 79, 29, 172]
abbrev dktX6_shifts_5 : List UInt8 := dkwX6_shifts_5 ++ []
def dkwX6_shifts_4 : List UInt8 := [21, 5, 96, 21, 4, 96, 46, 79, 21, 5, 21, 4, 96, 54, 5, 167, 255, 220, 42, 180, 0, 7, 16, 6]
abbrev dktX6_shifts_4 : List UInt8 := dkwX6_shifts_4 ++ dktX6_shifts_5
def dkwX6_shifts_3 : List UInt8 := [54, 5, 21, 5, 28, 159, 0, 36, 42, 180, 0, 7, 16, 6, 21, 5, 96, 42, 180, 0, 7, 16, 6]
abbrev dktX6_shifts_3 : List UInt8 := dkwX6_shifts_3 ++ dktX6_shifts_4
def dkwX6_shifts_2 : List UInt8 := [42, 180, 0, 7, 16, 6, 27, 96, 46, 62, 27, 28, 162, 0, 7, 4, 167, 0, 4, 2, 54, 4, 27]
abbrev dktX6_shifts_2 : List UInt8 := dkwX6_shifts_2 ++ dktX6_shifts_3
def dkwX6_shifts_1 : List UInt8 := [180, 0, 7, 3, 46, 4, 100, 133, 184, 0, 71, 154, 0, 5, 2, 172, 27, 28, 160, 0, 6, 16, 254, 172]
abbrev dktX6_shifts_1 : List UInt8 := dkwX6_shifts_1 ++ dktX6_shifts_2
def dkwX6_shifts_0 : List UInt8 := [27, 133, 9, 42, 180, 0, 7, 3, 46, 4, 100, 133, 184, 0, 71, 153, 0, 21, 28, 133, 9, 42]
abbrev dktX6_shifts_0 : List UInt8 := dkwX6_shifts_0 ++ dktX6_shifts_1
theorem dksX6_shifts_0 : cX6_shifts.data.toList.drop 0 = dktX6_shifts_0 := by decide +kernel
theorem dksX6_shifts_1 : cX6_shifts.data.toList.drop 22 = dktX6_shifts_1 := dk_seg dksX6_shifts_0 22 rfl rfl
theorem dksX6_shifts_2 : cX6_shifts.data.toList.drop 46 = dktX6_shifts_2 := dk_seg dksX6_shifts_1 24 rfl rfl
theorem dksX6_shifts_3 : cX6_shifts.data.toList.drop 69 = dktX6_shifts_3 := dk_seg dksX6_shifts_2 23 rfl rfl
theorem dksX6_shifts_4 : cX6_shifts.data.toList.drop 92 = dktX6_shifts_4 := dk_seg dksX6_shifts_3 23 rfl rfl
theorem dksX6_shifts_5 : cX6_shifts.data.toList.drop 116 = dktX6_shifts_5 := dk_seg dksX6_shifts_4 24 rfl rfl
theorem dX6_shifts_0 : decode cX6_shifts 0 = .ok (.iload_n 1, 1) := dk_27 (dk_at dksX6_shifts_0 0 rfl rfl)
theorem dX6_shifts_1 : decode cX6_shifts 1 = .ok (.i2l, 1) := dk_133 (dk_at dksX6_shifts_0 1 rfl rfl)
theorem dX6_shifts_2 : decode cX6_shifts 2 = .ok (.lconst 0, 1) := dk_9 (dk_at dksX6_shifts_0 2 rfl rfl)
theorem dX6_shifts_3 : decode cX6_shifts 3 = .ok (.aload_n 0, 1) := dk_42 (dk_at dksX6_shifts_0 3 rfl rfl)
theorem dX6_shifts_4 : decode cX6_shifts 4 = .ok (.getfield 7, 3) := dk_180 0 7 (dk_at dksX6_shifts_0 4 rfl rfl)
theorem dX6_shifts_7 : decode cX6_shifts 7 = .ok (.iconst 0, 1) := dk_3 (dk_at dksX6_shifts_0 7 rfl rfl)
theorem dX6_shifts_8 : decode cX6_shifts 8 = .ok (.iaload, 1) := dk_46 (dk_at dksX6_shifts_0 8 rfl rfl)
theorem dX6_shifts_9 : decode cX6_shifts 9 = .ok (.iconst 1, 1) := dk_4 (dk_at dksX6_shifts_0 9 rfl rfl)
theorem dX6_shifts_10 : decode cX6_shifts 10 = .ok (.isub, 1) := dk_100 (dk_at dksX6_shifts_0 10 rfl rfl)
theorem dX6_shifts_11 : decode cX6_shifts 11 = .ok (.i2l, 1) := dk_133 (dk_at dksX6_shifts_0 11 rfl rfl)
theorem dX6_shifts_12 : decode cX6_shifts 12 = .ok (.invokestatic 71, 3) := dk_184 0 71 (dk_at dksX6_shifts_0 12 rfl rfl)
theorem dX6_shifts_15 : decode cX6_shifts 15 = .ok (.ifCond .eq 21, 3) := dk_153 0 21 (dk_at dksX6_shifts_0 15 rfl rfl)
theorem dX6_shifts_18 : decode cX6_shifts 18 = .ok (.iload_n 2, 1) := dk_28 (dk_at dksX6_shifts_0 18 rfl rfl)
theorem dX6_shifts_19 : decode cX6_shifts 19 = .ok (.i2l, 1) := dk_133 (dk_at dksX6_shifts_0 19 rfl rfl)
theorem dX6_shifts_20 : decode cX6_shifts 20 = .ok (.lconst 0, 1) := dk_9 (dk_at dksX6_shifts_0 20 rfl rfl)
theorem dX6_shifts_21 : decode cX6_shifts 21 = .ok (.aload_n 0, 1) := dk_42 (dk_at dksX6_shifts_0 21 rfl rfl)
theorem dX6_shifts_22 : decode cX6_shifts 22 = .ok (.getfield 7, 3) := dk_180 0 7 (dk_at dksX6_shifts_1 0 rfl rfl)
theorem dX6_shifts_25 : decode cX6_shifts 25 = .ok (.iconst 0, 1) := dk_3 (dk_at dksX6_shifts_1 3 rfl rfl)
theorem dX6_shifts_26 : decode cX6_shifts 26 = .ok (.iaload, 1) := dk_46 (dk_at dksX6_shifts_1 4 rfl rfl)
theorem dX6_shifts_27 : decode cX6_shifts 27 = .ok (.iconst 1, 1) := dk_4 (dk_at dksX6_shifts_1 5 rfl rfl)
theorem dX6_shifts_28 : decode cX6_shifts 28 = .ok (.isub, 1) := dk_100 (dk_at dksX6_shifts_1 6 rfl rfl)
theorem dX6_shifts_29 : decode cX6_shifts 29 = .ok (.i2l, 1) := dk_133 (dk_at dksX6_shifts_1 7 rfl rfl)
theorem dX6_shifts_30 : decode cX6_shifts 30 = .ok (.invokestatic 71, 3) := dk_184 0 71 (dk_at dksX6_shifts_1 8 rfl rfl)
theorem dX6_shifts_33 : decode cX6_shifts 33 = .ok (.ifCond .ne 5, 3) := dk_154 0 5 (dk_at dksX6_shifts_1 11 rfl rfl)
theorem dX6_shifts_36 : decode cX6_shifts 36 = .ok (.iconst (-1), 1) := dk_2 (dk_at dksX6_shifts_1 14 rfl rfl)
theorem dX6_shifts_37 : decode cX6_shifts 37 = .ok (.ireturn, 1) := dk_172 (dk_at dksX6_shifts_1 15 rfl rfl)
theorem dX6_shifts_38 : decode cX6_shifts 38 = .ok (.iload_n 1, 1) := dk_27 (dk_at dksX6_shifts_1 16 rfl rfl)
theorem dX6_shifts_39 : decode cX6_shifts 39 = .ok (.iload_n 2, 1) := dk_28 (dk_at dksX6_shifts_1 17 rfl rfl)
theorem dX6_shifts_40 : decode cX6_shifts 40 = .ok (.if_icmp .ne 6, 3) := dk_160 0 6 (dk_at dksX6_shifts_1 18 rfl rfl)
theorem dX6_shifts_43 : decode cX6_shifts 43 = .ok (.bipush (-2), 2) := dk_16 254 (dk_at dksX6_shifts_1 21 rfl rfl)
theorem dX6_shifts_45 : decode cX6_shifts 45 = .ok (.ireturn, 1) := dk_172 (dk_at dksX6_shifts_1 23 rfl rfl)
theorem dX6_shifts_46 : decode cX6_shifts 46 = .ok (.aload_n 0, 1) := dk_42 (dk_at dksX6_shifts_2 0 rfl rfl)
theorem dX6_shifts_47 : decode cX6_shifts 47 = .ok (.getfield 7, 3) := dk_180 0 7 (dk_at dksX6_shifts_2 1 rfl rfl)
theorem dX6_shifts_50 : decode cX6_shifts 50 = .ok (.bipush 6, 2) := dk_16 6 (dk_at dksX6_shifts_2 4 rfl rfl)
theorem dX6_shifts_52 : decode cX6_shifts 52 = .ok (.iload_n 1, 1) := dk_27 (dk_at dksX6_shifts_2 6 rfl rfl)
theorem dX6_shifts_53 : decode cX6_shifts 53 = .ok (.iadd, 1) := dk_96 (dk_at dksX6_shifts_2 7 rfl rfl)
theorem dX6_shifts_54 : decode cX6_shifts 54 = .ok (.iaload, 1) := dk_46 (dk_at dksX6_shifts_2 8 rfl rfl)
theorem dX6_shifts_55 : decode cX6_shifts 55 = .ok (.istore_n 3, 1) := dk_62 (dk_at dksX6_shifts_2 9 rfl rfl)
theorem dX6_shifts_56 : decode cX6_shifts 56 = .ok (.iload_n 1, 1) := dk_27 (dk_at dksX6_shifts_2 10 rfl rfl)
theorem dX6_shifts_57 : decode cX6_shifts 57 = .ok (.iload_n 2, 1) := dk_28 (dk_at dksX6_shifts_2 11 rfl rfl)
theorem dX6_shifts_58 : decode cX6_shifts 58 = .ok (.if_icmp .ge 7, 3) := dk_162 0 7 (dk_at dksX6_shifts_2 12 rfl rfl)
theorem dX6_shifts_61 : decode cX6_shifts 61 = .ok (.iconst 1, 1) := dk_4 (dk_at dksX6_shifts_2 15 rfl rfl)
theorem dX6_shifts_62 : decode cX6_shifts 62 = .ok (.goto 4, 3) := dk_167 0 4 (dk_at dksX6_shifts_2 16 rfl rfl)
theorem dX6_shifts_65 : decode cX6_shifts 65 = .ok (.iconst (-1), 1) := dk_2 (dk_at dksX6_shifts_2 19 rfl rfl)
theorem dX6_shifts_66 : decode cX6_shifts 66 = .ok (.istore 4, 2) := dk_54 4 (dk_at dksX6_shifts_2 20 rfl rfl)
theorem dX6_shifts_68 : decode cX6_shifts 68 = .ok (.iload_n 1, 1) := dk_27 (dk_at dksX6_shifts_2 22 rfl rfl)
theorem dX6_shifts_69 : decode cX6_shifts 69 = .ok (.istore 5, 2) := dk_54 5 (dk_at dksX6_shifts_3 0 rfl rfl)
theorem dX6_shifts_71 : decode cX6_shifts 71 = .ok (.iload 5, 2) := dk_21 5 (dk_at dksX6_shifts_3 2 rfl rfl)
theorem dX6_shifts_73 : decode cX6_shifts 73 = .ok (.iload_n 2, 1) := dk_28 (dk_at dksX6_shifts_3 4 rfl rfl)
theorem dX6_shifts_74 : decode cX6_shifts 74 = .ok (.if_icmp .eq 36, 3) := dk_159 0 36 (dk_at dksX6_shifts_3 5 rfl rfl)
theorem dX6_shifts_77 : decode cX6_shifts 77 = .ok (.aload_n 0, 1) := dk_42 (dk_at dksX6_shifts_3 8 rfl rfl)
theorem dX6_shifts_78 : decode cX6_shifts 78 = .ok (.getfield 7, 3) := dk_180 0 7 (dk_at dksX6_shifts_3 9 rfl rfl)
theorem dX6_shifts_81 : decode cX6_shifts 81 = .ok (.bipush 6, 2) := dk_16 6 (dk_at dksX6_shifts_3 12 rfl rfl)
theorem dX6_shifts_83 : decode cX6_shifts 83 = .ok (.iload 5, 2) := dk_21 5 (dk_at dksX6_shifts_3 14 rfl rfl)
theorem dX6_shifts_85 : decode cX6_shifts 85 = .ok (.iadd, 1) := dk_96 (dk_at dksX6_shifts_3 16 rfl rfl)
theorem dX6_shifts_86 : decode cX6_shifts 86 = .ok (.aload_n 0, 1) := dk_42 (dk_at dksX6_shifts_3 17 rfl rfl)
theorem dX6_shifts_87 : decode cX6_shifts 87 = .ok (.getfield 7, 3) := dk_180 0 7 (dk_at dksX6_shifts_3 18 rfl rfl)
theorem dX6_shifts_90 : decode cX6_shifts 90 = .ok (.bipush 6, 2) := dk_16 6 (dk_at dksX6_shifts_3 21 rfl rfl)
theorem dX6_shifts_92 : decode cX6_shifts 92 = .ok (.iload 5, 2) := dk_21 5 (dk_at dksX6_shifts_4 0 rfl rfl)
theorem dX6_shifts_94 : decode cX6_shifts 94 = .ok (.iadd, 1) := dk_96 (dk_at dksX6_shifts_4 2 rfl rfl)
theorem dX6_shifts_95 : decode cX6_shifts 95 = .ok (.iload 4, 2) := dk_21 4 (dk_at dksX6_shifts_4 3 rfl rfl)
theorem dX6_shifts_97 : decode cX6_shifts 97 = .ok (.iadd, 1) := dk_96 (dk_at dksX6_shifts_4 5 rfl rfl)
theorem dX6_shifts_98 : decode cX6_shifts 98 = .ok (.iaload, 1) := dk_46 (dk_at dksX6_shifts_4 6 rfl rfl)
theorem dX6_shifts_99 : decode cX6_shifts 99 = .ok (.iastore, 1) := dk_79 (dk_at dksX6_shifts_4 7 rfl rfl)
theorem dX6_shifts_100 : decode cX6_shifts 100 = .ok (.iload 5, 2) := dk_21 5 (dk_at dksX6_shifts_4 8 rfl rfl)
theorem dX6_shifts_102 : decode cX6_shifts 102 = .ok (.iload 4, 2) := dk_21 4 (dk_at dksX6_shifts_4 10 rfl rfl)
theorem dX6_shifts_104 : decode cX6_shifts 104 = .ok (.iadd, 1) := dk_96 (dk_at dksX6_shifts_4 12 rfl rfl)
theorem dX6_shifts_105 : decode cX6_shifts 105 = .ok (.istore 5, 2) := dk_54 5 (dk_at dksX6_shifts_4 13 rfl rfl)
theorem dX6_shifts_107 : decode cX6_shifts 107 = .ok (.goto (-36), 3) := dk_167 255 220 (dk_at dksX6_shifts_4 15 rfl rfl)
theorem dX6_shifts_110 : decode cX6_shifts 110 = .ok (.aload_n 0, 1) := dk_42 (dk_at dksX6_shifts_4 18 rfl rfl)
theorem dX6_shifts_111 : decode cX6_shifts 111 = .ok (.getfield 7, 3) := dk_180 0 7 (dk_at dksX6_shifts_4 19 rfl rfl)
theorem dX6_shifts_114 : decode cX6_shifts 114 = .ok (.bipush 6, 2) := dk_16 6 (dk_at dksX6_shifts_4 22 rfl rfl)
theorem dX6_shifts_116 : decode cX6_shifts 116 = .ok (.iload_n 2, 1) := dk_28 (dk_at dksX6_shifts_5 0 rfl rfl)
theorem dX6_shifts_117 : decode cX6_shifts 117 = .ok (.iadd, 1) := dk_96 (dk_at dksX6_shifts_5 1 rfl rfl)
theorem dX6_shifts_118 : decode cX6_shifts 118 = .ok (.iload_n 3, 1) := dk_29 (dk_at dksX6_shifts_5 2 rfl rfl)
theorem dX6_shifts_119 : decode cX6_shifts 119 = .ok (.iastore, 1) := dk_79 (dk_at dksX6_shifts_5 3 rfl rfl)
theorem dX6_shifts_120 : decode cX6_shifts 120 = .ok (.iload_n 3, 1) := dk_29 (dk_at dksX6_shifts_5 4 rfl rfl)
theorem dX6_shifts_121 : decode cX6_shifts 121 = .ok (.ireturn, 1) := dk_172 (dk_at dksX6_shifts_5 5 rfl rfl)
abbrev cX6_settle : ByteArray := prog_11_method_55_code
def yX6_settle : MethodName := ⟨RX6, "settle", "(I)I"⟩
def dkwX6_settle_0 : List UInt8 := [42, 182, 0, 188, 42, 42, 27, 182, 0, 215, 182, 0, 194, 172]
abbrev dktX6_settle_0 : List UInt8 := dkwX6_settle_0 ++ []
theorem dksX6_settle_0 : cX6_settle.data.toList.drop 0 = dktX6_settle_0 := by decide +kernel
theorem dX6_settle_0 : decode cX6_settle 0 = .ok (.aload_n 0, 1) := dk_42 (dk_at dksX6_settle_0 0 rfl rfl)
theorem dX6_settle_1 : decode cX6_settle 1 = .ok (.invokevirtual 188, 3) := dk_182 0 188 (dk_at dksX6_settle_0 1 rfl rfl)
theorem dX6_settle_4 : decode cX6_settle 4 = .ok (.aload_n 0, 1) := dk_42 (dk_at dksX6_settle_0 4 rfl rfl)
theorem dX6_settle_5 : decode cX6_settle 5 = .ok (.aload_n 0, 1) := dk_42 (dk_at dksX6_settle_0 5 rfl rfl)
theorem dX6_settle_6 : decode cX6_settle 6 = .ok (.iload_n 1, 1) := dk_27 (dk_at dksX6_settle_0 6 rfl rfl)
theorem dX6_settle_7 : decode cX6_settle 7 = .ok (.invokevirtual 215, 3) := dk_182 0 215 (dk_at dksX6_settle_0 7 rfl rfl)
theorem dX6_settle_10 : decode cX6_settle 10 = .ok (.invokevirtual 194, 3) := dk_182 0 194 (dk_at dksX6_settle_0 10 rfl rfl)
theorem dX6_settle_13 : decode cX6_settle 13 = .ok (.ireturn, 1) := dk_172 (dk_at dksX6_settle_0 13 rfl rfl)
abbrev cX6_settles : ByteArray := prog_11_method_47_code
def yX6_settles : MethodName := ⟨RX6, "settles", "(I)I"⟩
def dkwX6_settles_4 : List UInt8 := [112, 79, 21, 4, 16, 10, 108, 54, 4, 132, 5, 255, 167, 255, 226, 29, 172]
abbrev dktX6_settles_4 : List UInt8 := dkwX6_settles_4 ++ []
def dkwX6_settles_3 : List UInt8 := [3, 46, 4, 100, 54, 5, 21, 5, 155, 0, 31, 42, 180, 0, 7, 16, 6, 21, 5, 96, 21, 4, 16, 10]
abbrev dktX6_settles_3 : List UInt8 := dkwX6_settles_3 ++ dktX6_settles_4
def dkwX6_settles_2 : List UInt8 := [42, 180, 0, 7, 3, 46, 153, 0, 8, 29, 28, 160, 0, 6, 16, 254, 172, 29, 54, 4, 42, 180, 0, 7]
abbrev dktX6_settles_2 : List UInt8 := dkwX6_settles_2 ++ dktX6_settles_3
def dkwX6_settles_1 : List UInt8 := [154, 0, 15, 42, 182, 0, 148, 42, 180, 0, 131, 62, 167, 0, 12, 42, 182, 0, 151, 42, 182, 0, 114, 62]
abbrev dktX6_settles_1 : List UInt8 := dkwX6_settles_1 ++ dktX6_settles_2
def dkwX6_settles_0 : List UInt8 := [27, 133, 9, 10, 184, 0, 71, 154, 0, 5, 2, 172, 42, 182, 0, 96, 42, 182, 0, 114, 61, 28, 62, 27]
abbrev dktX6_settles_0 : List UInt8 := dkwX6_settles_0 ++ dktX6_settles_1
theorem dksX6_settles_0 : cX6_settles.data.toList.drop 0 = dktX6_settles_0 := by decide +kernel
theorem dksX6_settles_1 : cX6_settles.data.toList.drop 24 = dktX6_settles_1 := dk_seg dksX6_settles_0 24 rfl rfl
theorem dksX6_settles_2 : cX6_settles.data.toList.drop 48 = dktX6_settles_2 := dk_seg dksX6_settles_1 24 rfl rfl
theorem dksX6_settles_3 : cX6_settles.data.toList.drop 72 = dktX6_settles_3 := dk_seg dksX6_settles_2 24 rfl rfl
theorem dksX6_settles_4 : cX6_settles.data.toList.drop 96 = dktX6_settles_4 := dk_seg dksX6_settles_3 24 rfl rfl
theorem dX6_settles_0 : decode cX6_settles 0 = .ok (.iload_n 1, 1) := dk_27 (dk_at dksX6_settles_0 0 rfl rfl)
theorem dX6_settles_1 : decode cX6_settles 1 = .ok (.i2l, 1) := dk_133 (dk_at dksX6_settles_0 1 rfl rfl)
theorem dX6_settles_2 : decode cX6_settles 2 = .ok (.lconst 0, 1) := dk_9 (dk_at dksX6_settles_0 2 rfl rfl)
theorem dX6_settles_3 : decode cX6_settles 3 = .ok (.lconst 1, 1) := dk_10 (dk_at dksX6_settles_0 3 rfl rfl)
theorem dX6_settles_4 : decode cX6_settles 4 = .ok (.invokestatic 71, 3) := dk_184 0 71 (dk_at dksX6_settles_0 4 rfl rfl)
theorem dX6_settles_7 : decode cX6_settles 7 = .ok (.ifCond .ne 5, 3) := dk_154 0 5 (dk_at dksX6_settles_0 7 rfl rfl)
theorem dX6_settles_10 : decode cX6_settles 10 = .ok (.iconst (-1), 1) := dk_2 (dk_at dksX6_settles_0 10 rfl rfl)
theorem dX6_settles_11 : decode cX6_settles 11 = .ok (.ireturn, 1) := dk_172 (dk_at dksX6_settles_0 11 rfl rfl)
theorem dX6_settles_12 : decode cX6_settles 12 = .ok (.aload_n 0, 1) := dk_42 (dk_at dksX6_settles_0 12 rfl rfl)
theorem dX6_settles_13 : decode cX6_settles 13 = .ok (.invokevirtual 96, 3) := dk_182 0 96 (dk_at dksX6_settles_0 13 rfl rfl)
theorem dX6_settles_16 : decode cX6_settles 16 = .ok (.aload_n 0, 1) := dk_42 (dk_at dksX6_settles_0 16 rfl rfl)
theorem dX6_settles_17 : decode cX6_settles 17 = .ok (.invokevirtual 114, 3) := dk_182 0 114 (dk_at dksX6_settles_0 17 rfl rfl)
theorem dX6_settles_20 : decode cX6_settles 20 = .ok (.istore_n 2, 1) := dk_61 (dk_at dksX6_settles_0 20 rfl rfl)
theorem dX6_settles_21 : decode cX6_settles 21 = .ok (.iload_n 2, 1) := dk_28 (dk_at dksX6_settles_0 21 rfl rfl)
theorem dX6_settles_22 : decode cX6_settles 22 = .ok (.istore_n 3, 1) := dk_62 (dk_at dksX6_settles_0 22 rfl rfl)
theorem dX6_settles_23 : decode cX6_settles 23 = .ok (.iload_n 1, 1) := dk_27 (dk_at dksX6_settles_0 23 rfl rfl)
theorem dX6_settles_24 : decode cX6_settles 24 = .ok (.ifCond .ne 15, 3) := dk_154 0 15 (dk_at dksX6_settles_1 0 rfl rfl)
theorem dX6_settles_27 : decode cX6_settles 27 = .ok (.aload_n 0, 1) := dk_42 (dk_at dksX6_settles_1 3 rfl rfl)
theorem dX6_settles_28 : decode cX6_settles 28 = .ok (.invokevirtual 148, 3) := dk_182 0 148 (dk_at dksX6_settles_1 4 rfl rfl)
theorem dX6_settles_31 : decode cX6_settles 31 = .ok (.aload_n 0, 1) := dk_42 (dk_at dksX6_settles_1 7 rfl rfl)
theorem dX6_settles_32 : decode cX6_settles 32 = .ok (.getfield 131, 3) := dk_180 0 131 (dk_at dksX6_settles_1 8 rfl rfl)
theorem dX6_settles_35 : decode cX6_settles 35 = .ok (.istore_n 3, 1) := dk_62 (dk_at dksX6_settles_1 11 rfl rfl)
theorem dX6_settles_36 : decode cX6_settles 36 = .ok (.goto 12, 3) := dk_167 0 12 (dk_at dksX6_settles_1 12 rfl rfl)
theorem dX6_settles_39 : decode cX6_settles 39 = .ok (.aload_n 0, 1) := dk_42 (dk_at dksX6_settles_1 15 rfl rfl)
theorem dX6_settles_40 : decode cX6_settles 40 = .ok (.invokevirtual 151, 3) := dk_182 0 151 (dk_at dksX6_settles_1 16 rfl rfl)
theorem dX6_settles_43 : decode cX6_settles 43 = .ok (.aload_n 0, 1) := dk_42 (dk_at dksX6_settles_1 19 rfl rfl)
theorem dX6_settles_44 : decode cX6_settles 44 = .ok (.invokevirtual 114, 3) := dk_182 0 114 (dk_at dksX6_settles_1 20 rfl rfl)
theorem dX6_settles_47 : decode cX6_settles 47 = .ok (.istore_n 3, 1) := dk_62 (dk_at dksX6_settles_1 23 rfl rfl)
theorem dX6_settles_48 : decode cX6_settles 48 = .ok (.aload_n 0, 1) := dk_42 (dk_at dksX6_settles_2 0 rfl rfl)
theorem dX6_settles_49 : decode cX6_settles 49 = .ok (.getfield 7, 3) := dk_180 0 7 (dk_at dksX6_settles_2 1 rfl rfl)
theorem dX6_settles_52 : decode cX6_settles 52 = .ok (.iconst 0, 1) := dk_3 (dk_at dksX6_settles_2 4 rfl rfl)
theorem dX6_settles_53 : decode cX6_settles 53 = .ok (.iaload, 1) := dk_46 (dk_at dksX6_settles_2 5 rfl rfl)
theorem dX6_settles_54 : decode cX6_settles 54 = .ok (.ifCond .eq 8, 3) := dk_153 0 8 (dk_at dksX6_settles_2 6 rfl rfl)
theorem dX6_settles_57 : decode cX6_settles 57 = .ok (.iload_n 3, 1) := dk_29 (dk_at dksX6_settles_2 9 rfl rfl)
theorem dX6_settles_58 : decode cX6_settles 58 = .ok (.iload_n 2, 1) := dk_28 (dk_at dksX6_settles_2 10 rfl rfl)
theorem dX6_settles_59 : decode cX6_settles 59 = .ok (.if_icmp .ne 6, 3) := dk_160 0 6 (dk_at dksX6_settles_2 11 rfl rfl)
theorem dX6_settles_62 : decode cX6_settles 62 = .ok (.bipush (-2), 2) := dk_16 254 (dk_at dksX6_settles_2 14 rfl rfl)
theorem dX6_settles_64 : decode cX6_settles 64 = .ok (.ireturn, 1) := dk_172 (dk_at dksX6_settles_2 16 rfl rfl)
theorem dX6_settles_65 : decode cX6_settles 65 = .ok (.iload_n 3, 1) := dk_29 (dk_at dksX6_settles_2 17 rfl rfl)
theorem dX6_settles_66 : decode cX6_settles 66 = .ok (.istore 4, 2) := dk_54 4 (dk_at dksX6_settles_2 18 rfl rfl)
theorem dX6_settles_68 : decode cX6_settles 68 = .ok (.aload_n 0, 1) := dk_42 (dk_at dksX6_settles_2 20 rfl rfl)
theorem dX6_settles_69 : decode cX6_settles 69 = .ok (.getfield 7, 3) := dk_180 0 7 (dk_at dksX6_settles_2 21 rfl rfl)
theorem dX6_settles_72 : decode cX6_settles 72 = .ok (.iconst 0, 1) := dk_3 (dk_at dksX6_settles_3 0 rfl rfl)
theorem dX6_settles_73 : decode cX6_settles 73 = .ok (.iaload, 1) := dk_46 (dk_at dksX6_settles_3 1 rfl rfl)
theorem dX6_settles_74 : decode cX6_settles 74 = .ok (.iconst 1, 1) := dk_4 (dk_at dksX6_settles_3 2 rfl rfl)
theorem dX6_settles_75 : decode cX6_settles 75 = .ok (.isub, 1) := dk_100 (dk_at dksX6_settles_3 3 rfl rfl)
theorem dX6_settles_76 : decode cX6_settles 76 = .ok (.istore 5, 2) := dk_54 5 (dk_at dksX6_settles_3 4 rfl rfl)
theorem dX6_settles_78 : decode cX6_settles 78 = .ok (.iload 5, 2) := dk_21 5 (dk_at dksX6_settles_3 6 rfl rfl)
theorem dX6_settles_80 : decode cX6_settles 80 = .ok (.ifCond .lt 31, 3) := dk_155 0 31 (dk_at dksX6_settles_3 8 rfl rfl)
theorem dX6_settles_83 : decode cX6_settles 83 = .ok (.aload_n 0, 1) := dk_42 (dk_at dksX6_settles_3 11 rfl rfl)
theorem dX6_settles_84 : decode cX6_settles 84 = .ok (.getfield 7, 3) := dk_180 0 7 (dk_at dksX6_settles_3 12 rfl rfl)
theorem dX6_settles_87 : decode cX6_settles 87 = .ok (.bipush 6, 2) := dk_16 6 (dk_at dksX6_settles_3 15 rfl rfl)
theorem dX6_settles_89 : decode cX6_settles 89 = .ok (.iload 5, 2) := dk_21 5 (dk_at dksX6_settles_3 17 rfl rfl)
theorem dX6_settles_91 : decode cX6_settles 91 = .ok (.iadd, 1) := dk_96 (dk_at dksX6_settles_3 19 rfl rfl)
theorem dX6_settles_92 : decode cX6_settles 92 = .ok (.iload 4, 2) := dk_21 4 (dk_at dksX6_settles_3 20 rfl rfl)
theorem dX6_settles_94 : decode cX6_settles 94 = .ok (.bipush 10, 2) := dk_16 10 (dk_at dksX6_settles_3 22 rfl rfl)
theorem dX6_settles_96 : decode cX6_settles 96 = .ok (.irem, 1) := dk_112 (dk_at dksX6_settles_4 0 rfl rfl)
theorem dX6_settles_97 : decode cX6_settles 97 = .ok (.iastore, 1) := dk_79 (dk_at dksX6_settles_4 1 rfl rfl)
theorem dX6_settles_98 : decode cX6_settles 98 = .ok (.iload 4, 2) := dk_21 4 (dk_at dksX6_settles_4 2 rfl rfl)
theorem dX6_settles_100 : decode cX6_settles 100 = .ok (.bipush 10, 2) := dk_16 10 (dk_at dksX6_settles_4 4 rfl rfl)
theorem dX6_settles_102 : decode cX6_settles 102 = .ok (.idiv, 1) := dk_108 (dk_at dksX6_settles_4 6 rfl rfl)
theorem dX6_settles_103 : decode cX6_settles 103 = .ok (.istore 4, 2) := dk_54 4 (dk_at dksX6_settles_4 7 rfl rfl)
theorem dX6_settles_105 : decode cX6_settles 105 = .ok (.iinc 5 (-1), 3) := dk_132 5 255 (dk_at dksX6_settles_4 9 rfl rfl)
theorem dX6_settles_108 : decode cX6_settles 108 = .ok (.goto (-30), 3) := dk_167 255 226 (dk_at dksX6_settles_4 12 rfl rfl)
theorem dX6_settles_111 : decode cX6_settles 111 = .ok (.iload_n 3, 1) := dk_29 (dk_at dksX6_settles_4 15 rfl rfl)
theorem dX6_settles_112 : decode cX6_settles 112 = .ok (.ireturn, 1) := dk_172 (dk_at dksX6_settles_4 16 rfl rfl)
abbrev cX6_type : ByteArray := prog_11_method_56_code
def yX6_type : MethodName := ⟨RX6, "type", "(I)I"⟩
def dkwX6_type_2 : List UInt8 := [181, 0, 222, 42, 180, 0, 222, 172]
abbrev dktX6_type_2 : List UInt8 := dkwX6_type_2 ++ []
def dkwX6_type_1 : List UInt8 := [160, 0, 6, 16, 253, 172, 42, 180, 0, 26, 42, 180, 0, 222, 27, 79, 42, 89, 180, 0, 222, 4, 96]
abbrev dktX6_type_1 : List UInt8 := dkwX6_type_1 ++ dktX6_type_2
def dkwX6_type_0 : List UInt8 := [27, 133, 20, 0, 218, 20, 0, 220, 184, 0, 71, 154, 0, 5, 2, 172, 42, 180, 0, 222, 16, 90]
abbrev dktX6_type_0 : List UInt8 := dkwX6_type_0 ++ dktX6_type_1
theorem dksX6_type_0 : cX6_type.data.toList.drop 0 = dktX6_type_0 := by decide +kernel
theorem dksX6_type_1 : cX6_type.data.toList.drop 22 = dktX6_type_1 := dk_seg dksX6_type_0 22 rfl rfl
theorem dksX6_type_2 : cX6_type.data.toList.drop 45 = dktX6_type_2 := dk_seg dksX6_type_1 23 rfl rfl
theorem dX6_type_0 : decode cX6_type 0 = .ok (.iload_n 1, 1) := dk_27 (dk_at dksX6_type_0 0 rfl rfl)
theorem dX6_type_1 : decode cX6_type 1 = .ok (.i2l, 1) := dk_133 (dk_at dksX6_type_0 1 rfl rfl)
theorem dX6_type_2 : decode cX6_type 2 = .ok (.ldc2_w 218, 3) := dk_20 0 218 (dk_at dksX6_type_0 2 rfl rfl)
theorem dX6_type_5 : decode cX6_type 5 = .ok (.ldc2_w 220, 3) := dk_20 0 220 (dk_at dksX6_type_0 5 rfl rfl)
theorem dX6_type_8 : decode cX6_type 8 = .ok (.invokestatic 71, 3) := dk_184 0 71 (dk_at dksX6_type_0 8 rfl rfl)
theorem dX6_type_11 : decode cX6_type 11 = .ok (.ifCond .ne 5, 3) := dk_154 0 5 (dk_at dksX6_type_0 11 rfl rfl)
theorem dX6_type_14 : decode cX6_type 14 = .ok (.iconst (-1), 1) := dk_2 (dk_at dksX6_type_0 14 rfl rfl)
theorem dX6_type_15 : decode cX6_type 15 = .ok (.ireturn, 1) := dk_172 (dk_at dksX6_type_0 15 rfl rfl)
theorem dX6_type_16 : decode cX6_type 16 = .ok (.aload_n 0, 1) := dk_42 (dk_at dksX6_type_0 16 rfl rfl)
theorem dX6_type_17 : decode cX6_type 17 = .ok (.getfield 222, 3) := dk_180 0 222 (dk_at dksX6_type_0 17 rfl rfl)
theorem dX6_type_20 : decode cX6_type 20 = .ok (.bipush 90, 2) := dk_16 90 (dk_at dksX6_type_0 20 rfl rfl)
theorem dX6_type_22 : decode cX6_type 22 = .ok (.if_icmp .ne 6, 3) := dk_160 0 6 (dk_at dksX6_type_1 0 rfl rfl)
theorem dX6_type_25 : decode cX6_type 25 = .ok (.bipush (-3), 2) := dk_16 253 (dk_at dksX6_type_1 3 rfl rfl)
theorem dX6_type_27 : decode cX6_type 27 = .ok (.ireturn, 1) := dk_172 (dk_at dksX6_type_1 5 rfl rfl)
theorem dX6_type_28 : decode cX6_type 28 = .ok (.aload_n 0, 1) := dk_42 (dk_at dksX6_type_1 6 rfl rfl)
theorem dX6_type_29 : decode cX6_type 29 = .ok (.getfield 26, 3) := dk_180 0 26 (dk_at dksX6_type_1 7 rfl rfl)
theorem dX6_type_32 : decode cX6_type 32 = .ok (.aload_n 0, 1) := dk_42 (dk_at dksX6_type_1 10 rfl rfl)
theorem dX6_type_33 : decode cX6_type 33 = .ok (.getfield 222, 3) := dk_180 0 222 (dk_at dksX6_type_1 11 rfl rfl)
theorem dX6_type_36 : decode cX6_type 36 = .ok (.iload_n 1, 1) := dk_27 (dk_at dksX6_type_1 14 rfl rfl)
theorem dX6_type_37 : decode cX6_type 37 = .ok (.iastore, 1) := dk_79 (dk_at dksX6_type_1 15 rfl rfl)
theorem dX6_type_38 : decode cX6_type 38 = .ok (.aload_n 0, 1) := dk_42 (dk_at dksX6_type_1 16 rfl rfl)
theorem dX6_type_39 : decode cX6_type 39 = .ok (.dup, 1) := dk_89 (dk_at dksX6_type_1 17 rfl rfl)
theorem dX6_type_40 : decode cX6_type 40 = .ok (.getfield 222, 3) := dk_180 0 222 (dk_at dksX6_type_1 18 rfl rfl)
theorem dX6_type_43 : decode cX6_type 43 = .ok (.iconst 1, 1) := dk_4 (dk_at dksX6_type_1 21 rfl rfl)
theorem dX6_type_44 : decode cX6_type 44 = .ok (.iadd, 1) := dk_96 (dk_at dksX6_type_1 22 rfl rfl)
theorem dX6_type_45 : decode cX6_type 45 = .ok (.putfield 222, 3) := dk_181 0 222 (dk_at dksX6_type_2 0 rfl rfl)
theorem dX6_type_48 : decode cX6_type 48 = .ok (.aload_n 0, 1) := dk_42 (dk_at dksX6_type_2 3 rfl rfl)
theorem dX6_type_49 : decode cX6_type 49 = .ok (.getfield 222, 3) := dk_180 0 222 (dk_at dksX6_type_2 4 rfl rfl)
theorem dX6_type_52 : decode cX6_type 52 = .ok (.ireturn, 1) := dk_172 (dk_at dksX6_type_2 7 rfl rfl)
abbrev cX6_read : ByteArray := prog_11_method_67_code
def yX6_read : MethodName := ⟨RX6, "read", "()I"⟩
def dkwX6_read_2 : List UInt8 := [167, 255, 235, 16, 236, 42, 180, 0, 225, 100, 172, 42, 182, 0, 169, 42, 180, 0, 7, 3, 46, 172]
abbrev dktX6_read_2 : List UInt8 := dkwX6_read_2 ++ []
def dkwX6_read_1 : List UInt8 := [61, 28, 16, 27, 162, 0, 21, 42, 180, 0, 7, 28, 42, 180, 0, 66, 28, 46, 79, 132, 2, 1]
abbrev dktX6_read_1 : List UInt8 := dkwX6_read_1 ++ dktX6_read_2
def dkwX6_read_0 : List UInt8 := [42, 182, 0, 188, 42, 182, 1, 5, 60, 42, 182, 0, 232, 87, 42, 3, 181, 0, 222, 27, 154, 0, 37, 3]
abbrev dktX6_read_0 : List UInt8 := dkwX6_read_0 ++ dktX6_read_1
theorem dksX6_read_0 : cX6_read.data.toList.drop 0 = dktX6_read_0 := by decide +kernel
theorem dksX6_read_1 : cX6_read.data.toList.drop 24 = dktX6_read_1 := dk_seg dksX6_read_0 24 rfl rfl
theorem dksX6_read_2 : cX6_read.data.toList.drop 46 = dktX6_read_2 := dk_seg dksX6_read_1 22 rfl rfl
theorem dX6_read_0 : decode cX6_read 0 = .ok (.aload_n 0, 1) := dk_42 (dk_at dksX6_read_0 0 rfl rfl)
theorem dX6_read_1 : decode cX6_read 1 = .ok (.invokevirtual 188, 3) := dk_182 0 188 (dk_at dksX6_read_0 1 rfl rfl)
theorem dX6_read_4 : decode cX6_read 4 = .ok (.aload_n 0, 1) := dk_42 (dk_at dksX6_read_0 4 rfl rfl)
theorem dX6_read_5 : decode cX6_read 5 = .ok (.invokevirtual 261, 3) := dk_182 1 5 (dk_at dksX6_read_0 5 rfl rfl)
theorem dX6_read_8 : decode cX6_read 8 = .ok (.istore_n 1, 1) := dk_60 (dk_at dksX6_read_0 8 rfl rfl)
theorem dX6_read_9 : decode cX6_read 9 = .ok (.aload_n 0, 1) := dk_42 (dk_at dksX6_read_0 9 rfl rfl)
theorem dX6_read_10 : decode cX6_read 10 = .ok (.invokevirtual 232, 3) := dk_182 0 232 (dk_at dksX6_read_0 10 rfl rfl)
theorem dX6_read_13 : decode cX6_read 13 = .ok (.pop, 1) := dk_87 (dk_at dksX6_read_0 13 rfl rfl)
theorem dX6_read_14 : decode cX6_read 14 = .ok (.aload_n 0, 1) := dk_42 (dk_at dksX6_read_0 14 rfl rfl)
theorem dX6_read_15 : decode cX6_read 15 = .ok (.iconst 0, 1) := dk_3 (dk_at dksX6_read_0 15 rfl rfl)
theorem dX6_read_16 : decode cX6_read 16 = .ok (.putfield 222, 3) := dk_181 0 222 (dk_at dksX6_read_0 16 rfl rfl)
theorem dX6_read_19 : decode cX6_read 19 = .ok (.iload_n 1, 1) := dk_27 (dk_at dksX6_read_0 19 rfl rfl)
theorem dX6_read_20 : decode cX6_read 20 = .ok (.ifCond .ne 37, 3) := dk_154 0 37 (dk_at dksX6_read_0 20 rfl rfl)
theorem dX6_read_23 : decode cX6_read 23 = .ok (.iconst 0, 1) := dk_3 (dk_at dksX6_read_0 23 rfl rfl)
theorem dX6_read_24 : decode cX6_read 24 = .ok (.istore_n 2, 1) := dk_61 (dk_at dksX6_read_1 0 rfl rfl)
theorem dX6_read_25 : decode cX6_read 25 = .ok (.iload_n 2, 1) := dk_28 (dk_at dksX6_read_1 1 rfl rfl)
theorem dX6_read_26 : decode cX6_read 26 = .ok (.bipush 27, 2) := dk_16 27 (dk_at dksX6_read_1 2 rfl rfl)
theorem dX6_read_28 : decode cX6_read 28 = .ok (.if_icmp .ge 21, 3) := dk_162 0 21 (dk_at dksX6_read_1 4 rfl rfl)
theorem dX6_read_31 : decode cX6_read 31 = .ok (.aload_n 0, 1) := dk_42 (dk_at dksX6_read_1 7 rfl rfl)
theorem dX6_read_32 : decode cX6_read 32 = .ok (.getfield 7, 3) := dk_180 0 7 (dk_at dksX6_read_1 8 rfl rfl)
theorem dX6_read_35 : decode cX6_read 35 = .ok (.iload_n 2, 1) := dk_28 (dk_at dksX6_read_1 11 rfl rfl)
theorem dX6_read_36 : decode cX6_read 36 = .ok (.aload_n 0, 1) := dk_42 (dk_at dksX6_read_1 12 rfl rfl)
theorem dX6_read_37 : decode cX6_read 37 = .ok (.getfield 66, 3) := dk_180 0 66 (dk_at dksX6_read_1 13 rfl rfl)
theorem dX6_read_40 : decode cX6_read 40 = .ok (.iload_n 2, 1) := dk_28 (dk_at dksX6_read_1 16 rfl rfl)
theorem dX6_read_41 : decode cX6_read 41 = .ok (.iaload, 1) := dk_46 (dk_at dksX6_read_1 17 rfl rfl)
theorem dX6_read_42 : decode cX6_read 42 = .ok (.iastore, 1) := dk_79 (dk_at dksX6_read_1 18 rfl rfl)
theorem dX6_read_43 : decode cX6_read 43 = .ok (.iinc 2 1, 3) := dk_132 2 1 (dk_at dksX6_read_1 19 rfl rfl)
theorem dX6_read_46 : decode cX6_read 46 = .ok (.goto (-21), 3) := dk_167 255 235 (dk_at dksX6_read_2 0 rfl rfl)
theorem dX6_read_49 : decode cX6_read 49 = .ok (.bipush (-20), 2) := dk_16 236 (dk_at dksX6_read_2 3 rfl rfl)
theorem dX6_read_51 : decode cX6_read 51 = .ok (.aload_n 0, 1) := dk_42 (dk_at dksX6_read_2 5 rfl rfl)
theorem dX6_read_52 : decode cX6_read 52 = .ok (.getfield 225, 3) := dk_180 0 225 (dk_at dksX6_read_2 6 rfl rfl)
theorem dX6_read_55 : decode cX6_read 55 = .ok (.isub, 1) := dk_100 (dk_at dksX6_read_2 9 rfl rfl)
theorem dX6_read_56 : decode cX6_read 56 = .ok (.ireturn, 1) := dk_172 (dk_at dksX6_read_2 10 rfl rfl)
theorem dX6_read_57 : decode cX6_read 57 = .ok (.aload_n 0, 1) := dk_42 (dk_at dksX6_read_2 11 rfl rfl)
theorem dX6_read_58 : decode cX6_read 58 = .ok (.invokevirtual 169, 3) := dk_182 0 169 (dk_at dksX6_read_2 12 rfl rfl)
theorem dX6_read_61 : decode cX6_read 61 = .ok (.aload_n 0, 1) := dk_42 (dk_at dksX6_read_2 15 rfl rfl)
theorem dX6_read_62 : decode cX6_read 62 = .ok (.getfield 7, 3) := dk_180 0 7 (dk_at dksX6_read_2 16 rfl rfl)
theorem dX6_read_65 : decode cX6_read 65 = .ok (.iconst 0, 1) := dk_3 (dk_at dksX6_read_2 19 rfl rfl)
theorem dX6_read_66 : decode cX6_read 66 = .ok (.iaload, 1) := dk_46 (dk_at dksX6_read_2 20 rfl rfl)
theorem dX6_read_67 : decode cX6_read 67 = .ok (.ireturn, 1) := dk_172 (dk_at dksX6_read_2 21 rfl rfl)
abbrev cX6_readsAll : ByteArray := prog_11_method_66_code
def yX6_readsAll : MethodName := ⟨RX6, "readsAll", "()Z"⟩
def dkwX6_readsAll_6 : List UInt8 := [16, 44, 182, 0, 252, 62, 167, 255, 236, 42, 182, 0, 232, 154, 0, 7, 4, 167, 0, 4, 3, 172]
abbrev dktX6_readsAll_6 : List UInt8 := dkwX6_readsAll_6 ++ []
def dkwX6_readsAll_5 : List UInt8 := [167, 255, 236, 42, 16, 59, 182, 0, 252, 62, 29, 153, 0, 22, 42, 182, 1, 2, 154, 0, 5, 3, 172, 42]
abbrev dktX6_readsAll_5 : List UInt8 := dkwX6_readsAll_5 ++ dktX6_readsAll_6
def dkwX6_readsAll_4 : List UInt8 := [79, 4, 62, 29, 153, 0, 22, 42, 182, 0, 255, 154, 0, 5, 3, 172, 42, 16, 44, 182, 0, 252, 62]
abbrev dktX6_readsAll_4 : List UInt8 := dkwX6_readsAll_4 ++ dktX6_readsAll_5
def dkwX6_readsAll_3 : List UInt8 := [16, 27, 162, 0, 16, 42, 180, 0, 7, 29, 3, 79, 132, 3, 1, 167, 255, 240, 42, 180, 0, 7, 3, 3]
abbrev dktX6_readsAll_3 : List UInt8 := dkwX6_readsAll_3 ++ dktX6_readsAll_4
def dkwX6_readsAll_2 : List UInt8 := [154, 0, 5, 3, 172, 42, 180, 0, 7, 7, 27, 79, 42, 180, 0, 7, 5, 28, 79, 16, 6, 62, 29]
abbrev dktX6_readsAll_2 : List UInt8 := dkwX6_readsAll_2 ++ dktX6_readsAll_3
def dkwX6_readsAll_1 : List UInt8 := [96, 96, 181, 0, 225, 42, 4, 7, 182, 0, 246, 61, 28, 155, 0, 12, 42, 16, 58, 182, 0, 252]
abbrev dktX6_readsAll_1 : List UInt8 := dkwX6_readsAll_1 ++ dktX6_readsAll_2
def dkwX6_readsAll_0 : List UInt8 := [42, 3, 181, 0, 225, 42, 182, 0, 249, 60, 27, 156, 0, 5, 3, 172, 42, 89, 180, 0, 225, 16, 6, 27]
abbrev dktX6_readsAll_0 : List UInt8 := dkwX6_readsAll_0 ++ dktX6_readsAll_1
theorem dksX6_readsAll_0 : cX6_readsAll.data.toList.drop 0 = dktX6_readsAll_0 := by decide +kernel
theorem dksX6_readsAll_1 : cX6_readsAll.data.toList.drop 24 = dktX6_readsAll_1 := dk_seg dksX6_readsAll_0 24 rfl rfl
theorem dksX6_readsAll_2 : cX6_readsAll.data.toList.drop 46 = dktX6_readsAll_2 := dk_seg dksX6_readsAll_1 22 rfl rfl
theorem dksX6_readsAll_3 : cX6_readsAll.data.toList.drop 69 = dktX6_readsAll_3 := dk_seg dksX6_readsAll_2 23 rfl rfl
theorem dksX6_readsAll_4 : cX6_readsAll.data.toList.drop 93 = dktX6_readsAll_4 := dk_seg dksX6_readsAll_3 24 rfl rfl
theorem dksX6_readsAll_5 : cX6_readsAll.data.toList.drop 116 = dktX6_readsAll_5 := dk_seg dksX6_readsAll_4 23 rfl rfl
theorem dksX6_readsAll_6 : cX6_readsAll.data.toList.drop 140 = dktX6_readsAll_6 := dk_seg dksX6_readsAll_5 24 rfl rfl
theorem dX6_readsAll_0 : decode cX6_readsAll 0 = .ok (.aload_n 0, 1) := dk_42 (dk_at dksX6_readsAll_0 0 rfl rfl)
theorem dX6_readsAll_1 : decode cX6_readsAll 1 = .ok (.iconst 0, 1) := dk_3 (dk_at dksX6_readsAll_0 1 rfl rfl)
theorem dX6_readsAll_2 : decode cX6_readsAll 2 = .ok (.putfield 225, 3) := dk_181 0 225 (dk_at dksX6_readsAll_0 2 rfl rfl)
theorem dX6_readsAll_5 : decode cX6_readsAll 5 = .ok (.aload_n 0, 1) := dk_42 (dk_at dksX6_readsAll_0 5 rfl rfl)
theorem dX6_readsAll_6 : decode cX6_readsAll 6 = .ok (.invokevirtual 249, 3) := dk_182 0 249 (dk_at dksX6_readsAll_0 6 rfl rfl)
theorem dX6_readsAll_9 : decode cX6_readsAll 9 = .ok (.istore_n 1, 1) := dk_60 (dk_at dksX6_readsAll_0 9 rfl rfl)
theorem dX6_readsAll_10 : decode cX6_readsAll 10 = .ok (.iload_n 1, 1) := dk_27 (dk_at dksX6_readsAll_0 10 rfl rfl)
theorem dX6_readsAll_11 : decode cX6_readsAll 11 = .ok (.ifCond .ge 5, 3) := dk_156 0 5 (dk_at dksX6_readsAll_0 11 rfl rfl)
theorem dX6_readsAll_14 : decode cX6_readsAll 14 = .ok (.iconst 0, 1) := dk_3 (dk_at dksX6_readsAll_0 14 rfl rfl)
theorem dX6_readsAll_15 : decode cX6_readsAll 15 = .ok (.ireturn, 1) := dk_172 (dk_at dksX6_readsAll_0 15 rfl rfl)
theorem dX6_readsAll_16 : decode cX6_readsAll 16 = .ok (.aload_n 0, 1) := dk_42 (dk_at dksX6_readsAll_0 16 rfl rfl)
theorem dX6_readsAll_17 : decode cX6_readsAll 17 = .ok (.dup, 1) := dk_89 (dk_at dksX6_readsAll_0 17 rfl rfl)
theorem dX6_readsAll_18 : decode cX6_readsAll 18 = .ok (.getfield 225, 3) := dk_180 0 225 (dk_at dksX6_readsAll_0 18 rfl rfl)
theorem dX6_readsAll_21 : decode cX6_readsAll 21 = .ok (.bipush 6, 2) := dk_16 6 (dk_at dksX6_readsAll_0 21 rfl rfl)
theorem dX6_readsAll_23 : decode cX6_readsAll 23 = .ok (.iload_n 1, 1) := dk_27 (dk_at dksX6_readsAll_0 23 rfl rfl)
theorem dX6_readsAll_24 : decode cX6_readsAll 24 = .ok (.iadd, 1) := dk_96 (dk_at dksX6_readsAll_1 0 rfl rfl)
theorem dX6_readsAll_25 : decode cX6_readsAll 25 = .ok (.iadd, 1) := dk_96 (dk_at dksX6_readsAll_1 1 rfl rfl)
theorem dX6_readsAll_26 : decode cX6_readsAll 26 = .ok (.putfield 225, 3) := dk_181 0 225 (dk_at dksX6_readsAll_1 2 rfl rfl)
theorem dX6_readsAll_29 : decode cX6_readsAll 29 = .ok (.aload_n 0, 1) := dk_42 (dk_at dksX6_readsAll_1 5 rfl rfl)
theorem dX6_readsAll_30 : decode cX6_readsAll 30 = .ok (.iconst 1, 1) := dk_4 (dk_at dksX6_readsAll_1 6 rfl rfl)
theorem dX6_readsAll_31 : decode cX6_readsAll 31 = .ok (.iconst 4, 1) := dk_7 (dk_at dksX6_readsAll_1 7 rfl rfl)
theorem dX6_readsAll_32 : decode cX6_readsAll 32 = .ok (.invokevirtual 246, 3) := dk_182 0 246 (dk_at dksX6_readsAll_1 8 rfl rfl)
theorem dX6_readsAll_35 : decode cX6_readsAll 35 = .ok (.istore_n 2, 1) := dk_61 (dk_at dksX6_readsAll_1 11 rfl rfl)
theorem dX6_readsAll_36 : decode cX6_readsAll 36 = .ok (.iload_n 2, 1) := dk_28 (dk_at dksX6_readsAll_1 12 rfl rfl)
theorem dX6_readsAll_37 : decode cX6_readsAll 37 = .ok (.ifCond .lt 12, 3) := dk_155 0 12 (dk_at dksX6_readsAll_1 13 rfl rfl)
theorem dX6_readsAll_40 : decode cX6_readsAll 40 = .ok (.aload_n 0, 1) := dk_42 (dk_at dksX6_readsAll_1 16 rfl rfl)
theorem dX6_readsAll_41 : decode cX6_readsAll 41 = .ok (.bipush 58, 2) := dk_16 58 (dk_at dksX6_readsAll_1 17 rfl rfl)
theorem dX6_readsAll_43 : decode cX6_readsAll 43 = .ok (.invokevirtual 252, 3) := dk_182 0 252 (dk_at dksX6_readsAll_1 19 rfl rfl)
theorem dX6_readsAll_46 : decode cX6_readsAll 46 = .ok (.ifCond .ne 5, 3) := dk_154 0 5 (dk_at dksX6_readsAll_2 0 rfl rfl)
theorem dX6_readsAll_49 : decode cX6_readsAll 49 = .ok (.iconst 0, 1) := dk_3 (dk_at dksX6_readsAll_2 3 rfl rfl)
theorem dX6_readsAll_50 : decode cX6_readsAll 50 = .ok (.ireturn, 1) := dk_172 (dk_at dksX6_readsAll_2 4 rfl rfl)
theorem dX6_readsAll_51 : decode cX6_readsAll 51 = .ok (.aload_n 0, 1) := dk_42 (dk_at dksX6_readsAll_2 5 rfl rfl)
theorem dX6_readsAll_52 : decode cX6_readsAll 52 = .ok (.getfield 7, 3) := dk_180 0 7 (dk_at dksX6_readsAll_2 6 rfl rfl)
theorem dX6_readsAll_55 : decode cX6_readsAll 55 = .ok (.iconst 4, 1) := dk_7 (dk_at dksX6_readsAll_2 9 rfl rfl)
theorem dX6_readsAll_56 : decode cX6_readsAll 56 = .ok (.iload_n 1, 1) := dk_27 (dk_at dksX6_readsAll_2 10 rfl rfl)
theorem dX6_readsAll_57 : decode cX6_readsAll 57 = .ok (.iastore, 1) := dk_79 (dk_at dksX6_readsAll_2 11 rfl rfl)
theorem dX6_readsAll_58 : decode cX6_readsAll 58 = .ok (.aload_n 0, 1) := dk_42 (dk_at dksX6_readsAll_2 12 rfl rfl)
theorem dX6_readsAll_59 : decode cX6_readsAll 59 = .ok (.getfield 7, 3) := dk_180 0 7 (dk_at dksX6_readsAll_2 13 rfl rfl)
theorem dX6_readsAll_62 : decode cX6_readsAll 62 = .ok (.iconst 2, 1) := dk_5 (dk_at dksX6_readsAll_2 16 rfl rfl)
theorem dX6_readsAll_63 : decode cX6_readsAll 63 = .ok (.iload_n 2, 1) := dk_28 (dk_at dksX6_readsAll_2 17 rfl rfl)
theorem dX6_readsAll_64 : decode cX6_readsAll 64 = .ok (.iastore, 1) := dk_79 (dk_at dksX6_readsAll_2 18 rfl rfl)
theorem dX6_readsAll_65 : decode cX6_readsAll 65 = .ok (.bipush 6, 2) := dk_16 6 (dk_at dksX6_readsAll_2 19 rfl rfl)
theorem dX6_readsAll_67 : decode cX6_readsAll 67 = .ok (.istore_n 3, 1) := dk_62 (dk_at dksX6_readsAll_2 21 rfl rfl)
theorem dX6_readsAll_68 : decode cX6_readsAll 68 = .ok (.iload_n 3, 1) := dk_29 (dk_at dksX6_readsAll_2 22 rfl rfl)
theorem dX6_readsAll_69 : decode cX6_readsAll 69 = .ok (.bipush 27, 2) := dk_16 27 (dk_at dksX6_readsAll_3 0 rfl rfl)
theorem dX6_readsAll_71 : decode cX6_readsAll 71 = .ok (.if_icmp .ge 16, 3) := dk_162 0 16 (dk_at dksX6_readsAll_3 2 rfl rfl)
theorem dX6_readsAll_74 : decode cX6_readsAll 74 = .ok (.aload_n 0, 1) := dk_42 (dk_at dksX6_readsAll_3 5 rfl rfl)
theorem dX6_readsAll_75 : decode cX6_readsAll 75 = .ok (.getfield 7, 3) := dk_180 0 7 (dk_at dksX6_readsAll_3 6 rfl rfl)
theorem dX6_readsAll_78 : decode cX6_readsAll 78 = .ok (.iload_n 3, 1) := dk_29 (dk_at dksX6_readsAll_3 9 rfl rfl)
theorem dX6_readsAll_79 : decode cX6_readsAll 79 = .ok (.iconst 0, 1) := dk_3 (dk_at dksX6_readsAll_3 10 rfl rfl)
theorem dX6_readsAll_80 : decode cX6_readsAll 80 = .ok (.iastore, 1) := dk_79 (dk_at dksX6_readsAll_3 11 rfl rfl)
theorem dX6_readsAll_81 : decode cX6_readsAll 81 = .ok (.iinc 3 1, 3) := dk_132 3 1 (dk_at dksX6_readsAll_3 12 rfl rfl)
theorem dX6_readsAll_84 : decode cX6_readsAll 84 = .ok (.goto (-16), 3) := dk_167 255 240 (dk_at dksX6_readsAll_3 15 rfl rfl)
theorem dX6_readsAll_87 : decode cX6_readsAll 87 = .ok (.aload_n 0, 1) := dk_42 (dk_at dksX6_readsAll_3 18 rfl rfl)
theorem dX6_readsAll_88 : decode cX6_readsAll 88 = .ok (.getfield 7, 3) := dk_180 0 7 (dk_at dksX6_readsAll_3 19 rfl rfl)
theorem dX6_readsAll_91 : decode cX6_readsAll 91 = .ok (.iconst 0, 1) := dk_3 (dk_at dksX6_readsAll_3 22 rfl rfl)
theorem dX6_readsAll_92 : decode cX6_readsAll 92 = .ok (.iconst 0, 1) := dk_3 (dk_at dksX6_readsAll_3 23 rfl rfl)
theorem dX6_readsAll_93 : decode cX6_readsAll 93 = .ok (.iastore, 1) := dk_79 (dk_at dksX6_readsAll_4 0 rfl rfl)
theorem dX6_readsAll_94 : decode cX6_readsAll 94 = .ok (.iconst 1, 1) := dk_4 (dk_at dksX6_readsAll_4 1 rfl rfl)
theorem dX6_readsAll_95 : decode cX6_readsAll 95 = .ok (.istore_n 3, 1) := dk_62 (dk_at dksX6_readsAll_4 2 rfl rfl)
theorem dX6_readsAll_96 : decode cX6_readsAll 96 = .ok (.iload_n 3, 1) := dk_29 (dk_at dksX6_readsAll_4 3 rfl rfl)
theorem dX6_readsAll_97 : decode cX6_readsAll 97 = .ok (.ifCond .eq 22, 3) := dk_153 0 22 (dk_at dksX6_readsAll_4 4 rfl rfl)
theorem dX6_readsAll_100 : decode cX6_readsAll 100 = .ok (.aload_n 0, 1) := dk_42 (dk_at dksX6_readsAll_4 7 rfl rfl)
theorem dX6_readsAll_101 : decode cX6_readsAll 101 = .ok (.invokevirtual 255, 3) := dk_182 0 255 (dk_at dksX6_readsAll_4 8 rfl rfl)
theorem dX6_readsAll_104 : decode cX6_readsAll 104 = .ok (.ifCond .ne 5, 3) := dk_154 0 5 (dk_at dksX6_readsAll_4 11 rfl rfl)
theorem dX6_readsAll_107 : decode cX6_readsAll 107 = .ok (.iconst 0, 1) := dk_3 (dk_at dksX6_readsAll_4 14 rfl rfl)
theorem dX6_readsAll_108 : decode cX6_readsAll 108 = .ok (.ireturn, 1) := dk_172 (dk_at dksX6_readsAll_4 15 rfl rfl)
theorem dX6_readsAll_109 : decode cX6_readsAll 109 = .ok (.aload_n 0, 1) := dk_42 (dk_at dksX6_readsAll_4 16 rfl rfl)
theorem dX6_readsAll_110 : decode cX6_readsAll 110 = .ok (.bipush 44, 2) := dk_16 44 (dk_at dksX6_readsAll_4 17 rfl rfl)
theorem dX6_readsAll_112 : decode cX6_readsAll 112 = .ok (.invokevirtual 252, 3) := dk_182 0 252 (dk_at dksX6_readsAll_4 19 rfl rfl)
theorem dX6_readsAll_115 : decode cX6_readsAll 115 = .ok (.istore_n 3, 1) := dk_62 (dk_at dksX6_readsAll_4 22 rfl rfl)
theorem dX6_readsAll_116 : decode cX6_readsAll 116 = .ok (.goto (-20), 3) := dk_167 255 236 (dk_at dksX6_readsAll_5 0 rfl rfl)
theorem dX6_readsAll_119 : decode cX6_readsAll 119 = .ok (.aload_n 0, 1) := dk_42 (dk_at dksX6_readsAll_5 3 rfl rfl)
theorem dX6_readsAll_120 : decode cX6_readsAll 120 = .ok (.bipush 59, 2) := dk_16 59 (dk_at dksX6_readsAll_5 4 rfl rfl)
theorem dX6_readsAll_122 : decode cX6_readsAll 122 = .ok (.invokevirtual 252, 3) := dk_182 0 252 (dk_at dksX6_readsAll_5 6 rfl rfl)
theorem dX6_readsAll_125 : decode cX6_readsAll 125 = .ok (.istore_n 3, 1) := dk_62 (dk_at dksX6_readsAll_5 9 rfl rfl)
theorem dX6_readsAll_126 : decode cX6_readsAll 126 = .ok (.iload_n 3, 1) := dk_29 (dk_at dksX6_readsAll_5 10 rfl rfl)
theorem dX6_readsAll_127 : decode cX6_readsAll 127 = .ok (.ifCond .eq 22, 3) := dk_153 0 22 (dk_at dksX6_readsAll_5 11 rfl rfl)
theorem dX6_readsAll_130 : decode cX6_readsAll 130 = .ok (.aload_n 0, 1) := dk_42 (dk_at dksX6_readsAll_5 14 rfl rfl)
theorem dX6_readsAll_131 : decode cX6_readsAll 131 = .ok (.invokevirtual 258, 3) := dk_182 1 2 (dk_at dksX6_readsAll_5 15 rfl rfl)
theorem dX6_readsAll_134 : decode cX6_readsAll 134 = .ok (.ifCond .ne 5, 3) := dk_154 0 5 (dk_at dksX6_readsAll_5 18 rfl rfl)
theorem dX6_readsAll_137 : decode cX6_readsAll 137 = .ok (.iconst 0, 1) := dk_3 (dk_at dksX6_readsAll_5 21 rfl rfl)
theorem dX6_readsAll_138 : decode cX6_readsAll 138 = .ok (.ireturn, 1) := dk_172 (dk_at dksX6_readsAll_5 22 rfl rfl)
theorem dX6_readsAll_139 : decode cX6_readsAll 139 = .ok (.aload_n 0, 1) := dk_42 (dk_at dksX6_readsAll_5 23 rfl rfl)
theorem dX6_readsAll_140 : decode cX6_readsAll 140 = .ok (.bipush 44, 2) := dk_16 44 (dk_at dksX6_readsAll_6 0 rfl rfl)
theorem dX6_readsAll_142 : decode cX6_readsAll 142 = .ok (.invokevirtual 252, 3) := dk_182 0 252 (dk_at dksX6_readsAll_6 2 rfl rfl)
theorem dX6_readsAll_145 : decode cX6_readsAll 145 = .ok (.istore_n 3, 1) := dk_62 (dk_at dksX6_readsAll_6 5 rfl rfl)
theorem dX6_readsAll_146 : decode cX6_readsAll 146 = .ok (.goto (-20), 3) := dk_167 255 236 (dk_at dksX6_readsAll_6 6 rfl rfl)
theorem dX6_readsAll_149 : decode cX6_readsAll 149 = .ok (.aload_n 0, 1) := dk_42 (dk_at dksX6_readsAll_6 9 rfl rfl)
theorem dX6_readsAll_150 : decode cX6_readsAll 150 = .ok (.invokevirtual 232, 3) := dk_182 0 232 (dk_at dksX6_readsAll_6 10 rfl rfl)
theorem dX6_readsAll_153 : decode cX6_readsAll 153 = .ok (.ifCond .ne 7, 3) := dk_154 0 7 (dk_at dksX6_readsAll_6 13 rfl rfl)
theorem dX6_readsAll_156 : decode cX6_readsAll 156 = .ok (.iconst 1, 1) := dk_4 (dk_at dksX6_readsAll_6 16 rfl rfl)
theorem dX6_readsAll_157 : decode cX6_readsAll 157 = .ok (.goto 4, 3) := dk_167 0 4 (dk_at dksX6_readsAll_6 17 rfl rfl)
theorem dX6_readsAll_160 : decode cX6_readsAll 160 = .ok (.iconst 0, 1) := dk_3 (dk_at dksX6_readsAll_6 20 rfl rfl)
theorem dX6_readsAll_161 : decode cX6_readsAll 161 = .ok (.ireturn, 1) := dk_172 (dk_at dksX6_readsAll_6 21 rfl rfl)
abbrev cX6_rule : ByteArray := prog_11_method_61_code
def yX6_rule : MethodName := ⟨RX6, "rule", "()I"⟩
def dkwX6_rule_5 : List UInt8 := [7, 96, 16, 108, 16, 105, 16, 110, 16, 103, 182, 0, 239, 153, 0, 7, 5, 167, 0, 5, 16, 252, 172]
abbrev dktX6_rule_5 : List UInt8 := dkwX6_rule_5 ++ []
def dkwX6_rule_4 : List UInt8 := [4, 172, 42, 16, 8, 16, 100, 16, 111, 16, 117, 16, 98, 182, 0, 235, 153, 0, 28, 42, 42, 180, 0, 225]
abbrev dktX6_rule_4 : List UInt8 := dkwX6_rule_4 ++ dktX6_rule_5
def dkwX6_rule_3 : List UInt8 := [153, 0, 26, 42, 42, 180, 0, 225, 6, 96, 16, 119, 16, 105, 16, 110, 16, 103, 182, 0, 239, 153, 0, 5]
abbrev dktX6_rule_3 : List UInt8 := dkwX6_rule_3 ++ dktX6_rule_4
def dkwX6_rule_2 : List UInt8 := [96, 46, 16, 121, 160, 0, 5, 3, 172, 42, 16, 7, 16, 103, 16, 114, 16, 111, 16, 119, 182, 0, 235]
abbrev dktX6_rule_2 : List UInt8 := dkwX6_rule_2 ++ dktX6_rule_3
def dkwX6_rule_1 : List UInt8 := [180, 0, 26, 42, 180, 0, 225, 7, 96, 46, 16, 100, 160, 0, 21, 42, 180, 0, 26, 42, 180, 0, 225, 8]
abbrev dktX6_rule_1 : List UInt8 := dkwX6_rule_1 ++ dktX6_rule_2
def dkwX6_rule_0 : List UInt8 := [42, 182, 0, 232, 87, 42, 16, 6, 16, 115, 16, 116, 16, 101, 16, 97, 182, 0, 235, 153, 0, 37, 42]
abbrev dktX6_rule_0 : List UInt8 := dkwX6_rule_0 ++ dktX6_rule_1
theorem dksX6_rule_0 : cX6_rule.data.toList.drop 0 = dktX6_rule_0 := by decide +kernel
theorem dksX6_rule_1 : cX6_rule.data.toList.drop 23 = dktX6_rule_1 := dk_seg dksX6_rule_0 23 rfl rfl
theorem dksX6_rule_2 : cX6_rule.data.toList.drop 47 = dktX6_rule_2 := dk_seg dksX6_rule_1 24 rfl rfl
theorem dksX6_rule_3 : cX6_rule.data.toList.drop 70 = dktX6_rule_3 := dk_seg dksX6_rule_2 23 rfl rfl
theorem dksX6_rule_4 : cX6_rule.data.toList.drop 94 = dktX6_rule_4 := dk_seg dksX6_rule_3 24 rfl rfl
theorem dksX6_rule_5 : cX6_rule.data.toList.drop 118 = dktX6_rule_5 := dk_seg dksX6_rule_4 24 rfl rfl
theorem dX6_rule_0 : decode cX6_rule 0 = .ok (.aload_n 0, 1) := dk_42 (dk_at dksX6_rule_0 0 rfl rfl)
theorem dX6_rule_1 : decode cX6_rule 1 = .ok (.invokevirtual 232, 3) := dk_182 0 232 (dk_at dksX6_rule_0 1 rfl rfl)
theorem dX6_rule_4 : decode cX6_rule 4 = .ok (.pop, 1) := dk_87 (dk_at dksX6_rule_0 4 rfl rfl)
theorem dX6_rule_5 : decode cX6_rule 5 = .ok (.aload_n 0, 1) := dk_42 (dk_at dksX6_rule_0 5 rfl rfl)
theorem dX6_rule_6 : decode cX6_rule 6 = .ok (.bipush 6, 2) := dk_16 6 (dk_at dksX6_rule_0 6 rfl rfl)
theorem dX6_rule_8 : decode cX6_rule 8 = .ok (.bipush 115, 2) := dk_16 115 (dk_at dksX6_rule_0 8 rfl rfl)
theorem dX6_rule_10 : decode cX6_rule 10 = .ok (.bipush 116, 2) := dk_16 116 (dk_at dksX6_rule_0 10 rfl rfl)
theorem dX6_rule_12 : decode cX6_rule 12 = .ok (.bipush 101, 2) := dk_16 101 (dk_at dksX6_rule_0 12 rfl rfl)
theorem dX6_rule_14 : decode cX6_rule 14 = .ok (.bipush 97, 2) := dk_16 97 (dk_at dksX6_rule_0 14 rfl rfl)
theorem dX6_rule_16 : decode cX6_rule 16 = .ok (.invokevirtual 235, 3) := dk_182 0 235 (dk_at dksX6_rule_0 16 rfl rfl)
theorem dX6_rule_19 : decode cX6_rule 19 = .ok (.ifCond .eq 37, 3) := dk_153 0 37 (dk_at dksX6_rule_0 19 rfl rfl)
theorem dX6_rule_22 : decode cX6_rule 22 = .ok (.aload_n 0, 1) := dk_42 (dk_at dksX6_rule_0 22 rfl rfl)
theorem dX6_rule_23 : decode cX6_rule 23 = .ok (.getfield 26, 3) := dk_180 0 26 (dk_at dksX6_rule_1 0 rfl rfl)
theorem dX6_rule_26 : decode cX6_rule 26 = .ok (.aload_n 0, 1) := dk_42 (dk_at dksX6_rule_1 3 rfl rfl)
theorem dX6_rule_27 : decode cX6_rule 27 = .ok (.getfield 225, 3) := dk_180 0 225 (dk_at dksX6_rule_1 4 rfl rfl)
theorem dX6_rule_30 : decode cX6_rule 30 = .ok (.iconst 4, 1) := dk_7 (dk_at dksX6_rule_1 7 rfl rfl)
theorem dX6_rule_31 : decode cX6_rule 31 = .ok (.iadd, 1) := dk_96 (dk_at dksX6_rule_1 8 rfl rfl)
theorem dX6_rule_32 : decode cX6_rule 32 = .ok (.iaload, 1) := dk_46 (dk_at dksX6_rule_1 9 rfl rfl)
theorem dX6_rule_33 : decode cX6_rule 33 = .ok (.bipush 100, 2) := dk_16 100 (dk_at dksX6_rule_1 10 rfl rfl)
theorem dX6_rule_35 : decode cX6_rule 35 = .ok (.if_icmp .ne 21, 3) := dk_160 0 21 (dk_at dksX6_rule_1 12 rfl rfl)
theorem dX6_rule_38 : decode cX6_rule 38 = .ok (.aload_n 0, 1) := dk_42 (dk_at dksX6_rule_1 15 rfl rfl)
theorem dX6_rule_39 : decode cX6_rule 39 = .ok (.getfield 26, 3) := dk_180 0 26 (dk_at dksX6_rule_1 16 rfl rfl)
theorem dX6_rule_42 : decode cX6_rule 42 = .ok (.aload_n 0, 1) := dk_42 (dk_at dksX6_rule_1 19 rfl rfl)
theorem dX6_rule_43 : decode cX6_rule 43 = .ok (.getfield 225, 3) := dk_180 0 225 (dk_at dksX6_rule_1 20 rfl rfl)
theorem dX6_rule_46 : decode cX6_rule 46 = .ok (.iconst 5, 1) := dk_8 (dk_at dksX6_rule_1 23 rfl rfl)
theorem dX6_rule_47 : decode cX6_rule 47 = .ok (.iadd, 1) := dk_96 (dk_at dksX6_rule_2 0 rfl rfl)
theorem dX6_rule_48 : decode cX6_rule 48 = .ok (.iaload, 1) := dk_46 (dk_at dksX6_rule_2 1 rfl rfl)
theorem dX6_rule_49 : decode cX6_rule 49 = .ok (.bipush 121, 2) := dk_16 121 (dk_at dksX6_rule_2 2 rfl rfl)
theorem dX6_rule_51 : decode cX6_rule 51 = .ok (.if_icmp .ne 5, 3) := dk_160 0 5 (dk_at dksX6_rule_2 4 rfl rfl)
theorem dX6_rule_54 : decode cX6_rule 54 = .ok (.iconst 0, 1) := dk_3 (dk_at dksX6_rule_2 7 rfl rfl)
theorem dX6_rule_55 : decode cX6_rule 55 = .ok (.ireturn, 1) := dk_172 (dk_at dksX6_rule_2 8 rfl rfl)
theorem dX6_rule_56 : decode cX6_rule 56 = .ok (.aload_n 0, 1) := dk_42 (dk_at dksX6_rule_2 9 rfl rfl)
theorem dX6_rule_57 : decode cX6_rule 57 = .ok (.bipush 7, 2) := dk_16 7 (dk_at dksX6_rule_2 10 rfl rfl)
theorem dX6_rule_59 : decode cX6_rule 59 = .ok (.bipush 103, 2) := dk_16 103 (dk_at dksX6_rule_2 12 rfl rfl)
theorem dX6_rule_61 : decode cX6_rule 61 = .ok (.bipush 114, 2) := dk_16 114 (dk_at dksX6_rule_2 14 rfl rfl)
theorem dX6_rule_63 : decode cX6_rule 63 = .ok (.bipush 111, 2) := dk_16 111 (dk_at dksX6_rule_2 16 rfl rfl)
theorem dX6_rule_65 : decode cX6_rule 65 = .ok (.bipush 119, 2) := dk_16 119 (dk_at dksX6_rule_2 18 rfl rfl)
theorem dX6_rule_67 : decode cX6_rule 67 = .ok (.invokevirtual 235, 3) := dk_182 0 235 (dk_at dksX6_rule_2 20 rfl rfl)
theorem dX6_rule_70 : decode cX6_rule 70 = .ok (.ifCond .eq 26, 3) := dk_153 0 26 (dk_at dksX6_rule_3 0 rfl rfl)
theorem dX6_rule_73 : decode cX6_rule 73 = .ok (.aload_n 0, 1) := dk_42 (dk_at dksX6_rule_3 3 rfl rfl)
theorem dX6_rule_74 : decode cX6_rule 74 = .ok (.aload_n 0, 1) := dk_42 (dk_at dksX6_rule_3 4 rfl rfl)
theorem dX6_rule_75 : decode cX6_rule 75 = .ok (.getfield 225, 3) := dk_180 0 225 (dk_at dksX6_rule_3 5 rfl rfl)
theorem dX6_rule_78 : decode cX6_rule 78 = .ok (.iconst 3, 1) := dk_6 (dk_at dksX6_rule_3 8 rfl rfl)
theorem dX6_rule_79 : decode cX6_rule 79 = .ok (.iadd, 1) := dk_96 (dk_at dksX6_rule_3 9 rfl rfl)
theorem dX6_rule_80 : decode cX6_rule 80 = .ok (.bipush 119, 2) := dk_16 119 (dk_at dksX6_rule_3 10 rfl rfl)
theorem dX6_rule_82 : decode cX6_rule 82 = .ok (.bipush 105, 2) := dk_16 105 (dk_at dksX6_rule_3 12 rfl rfl)
theorem dX6_rule_84 : decode cX6_rule 84 = .ok (.bipush 110, 2) := dk_16 110 (dk_at dksX6_rule_3 14 rfl rfl)
theorem dX6_rule_86 : decode cX6_rule 86 = .ok (.bipush 103, 2) := dk_16 103 (dk_at dksX6_rule_3 16 rfl rfl)
theorem dX6_rule_88 : decode cX6_rule 88 = .ok (.invokevirtual 239, 3) := dk_182 0 239 (dk_at dksX6_rule_3 18 rfl rfl)
theorem dX6_rule_91 : decode cX6_rule 91 = .ok (.ifCond .eq 5, 3) := dk_153 0 5 (dk_at dksX6_rule_3 21 rfl rfl)
theorem dX6_rule_94 : decode cX6_rule 94 = .ok (.iconst 1, 1) := dk_4 (dk_at dksX6_rule_4 0 rfl rfl)
theorem dX6_rule_95 : decode cX6_rule 95 = .ok (.ireturn, 1) := dk_172 (dk_at dksX6_rule_4 1 rfl rfl)
theorem dX6_rule_96 : decode cX6_rule 96 = .ok (.aload_n 0, 1) := dk_42 (dk_at dksX6_rule_4 2 rfl rfl)
theorem dX6_rule_97 : decode cX6_rule 97 = .ok (.bipush 8, 2) := dk_16 8 (dk_at dksX6_rule_4 3 rfl rfl)
theorem dX6_rule_99 : decode cX6_rule 99 = .ok (.bipush 100, 2) := dk_16 100 (dk_at dksX6_rule_4 5 rfl rfl)
theorem dX6_rule_101 : decode cX6_rule 101 = .ok (.bipush 111, 2) := dk_16 111 (dk_at dksX6_rule_4 7 rfl rfl)
theorem dX6_rule_103 : decode cX6_rule 103 = .ok (.bipush 117, 2) := dk_16 117 (dk_at dksX6_rule_4 9 rfl rfl)
theorem dX6_rule_105 : decode cX6_rule 105 = .ok (.bipush 98, 2) := dk_16 98 (dk_at dksX6_rule_4 11 rfl rfl)
theorem dX6_rule_107 : decode cX6_rule 107 = .ok (.invokevirtual 235, 3) := dk_182 0 235 (dk_at dksX6_rule_4 13 rfl rfl)
theorem dX6_rule_110 : decode cX6_rule 110 = .ok (.ifCond .eq 28, 3) := dk_153 0 28 (dk_at dksX6_rule_4 16 rfl rfl)
theorem dX6_rule_113 : decode cX6_rule 113 = .ok (.aload_n 0, 1) := dk_42 (dk_at dksX6_rule_4 19 rfl rfl)
theorem dX6_rule_114 : decode cX6_rule 114 = .ok (.aload_n 0, 1) := dk_42 (dk_at dksX6_rule_4 20 rfl rfl)
theorem dX6_rule_115 : decode cX6_rule 115 = .ok (.getfield 225, 3) := dk_180 0 225 (dk_at dksX6_rule_4 21 rfl rfl)
theorem dX6_rule_118 : decode cX6_rule 118 = .ok (.iconst 4, 1) := dk_7 (dk_at dksX6_rule_5 0 rfl rfl)
theorem dX6_rule_119 : decode cX6_rule 119 = .ok (.iadd, 1) := dk_96 (dk_at dksX6_rule_5 1 rfl rfl)
theorem dX6_rule_120 : decode cX6_rule 120 = .ok (.bipush 108, 2) := dk_16 108 (dk_at dksX6_rule_5 2 rfl rfl)
theorem dX6_rule_122 : decode cX6_rule 122 = .ok (.bipush 105, 2) := dk_16 105 (dk_at dksX6_rule_5 4 rfl rfl)
theorem dX6_rule_124 : decode cX6_rule 124 = .ok (.bipush 110, 2) := dk_16 110 (dk_at dksX6_rule_5 6 rfl rfl)
theorem dX6_rule_126 : decode cX6_rule 126 = .ok (.bipush 103, 2) := dk_16 103 (dk_at dksX6_rule_5 8 rfl rfl)
theorem dX6_rule_128 : decode cX6_rule 128 = .ok (.invokevirtual 239, 3) := dk_182 0 239 (dk_at dksX6_rule_5 10 rfl rfl)
theorem dX6_rule_131 : decode cX6_rule 131 = .ok (.ifCond .eq 7, 3) := dk_153 0 7 (dk_at dksX6_rule_5 13 rfl rfl)
theorem dX6_rule_134 : decode cX6_rule 134 = .ok (.iconst 2, 1) := dk_5 (dk_at dksX6_rule_5 16 rfl rfl)
theorem dX6_rule_135 : decode cX6_rule 135 = .ok (.goto 5, 3) := dk_167 0 5 (dk_at dksX6_rule_5 17 rfl rfl)
theorem dX6_rule_138 : decode cX6_rule 138 = .ok (.bipush (-4), 2) := dk_16 252 (dk_at dksX6_rule_5 20 rfl rfl)
theorem dX6_rule_140 : decode cX6_rule 140 = .ok (.ireturn, 1) := dk_172 (dk_at dksX6_rule_5 22 rfl rfl)
abbrev cX6_here : ByteArray := prog_11_method_57_code
def yX6_here : MethodName := ⟨RX6, "here", "()I"⟩
def dkwX6_here_2 : List UInt8 := [162, 0, 15, 42, 180, 0, 26, 42, 180, 0, 225, 46, 167, 0, 4, 3, 172]
abbrev dktX6_here_2 : List UInt8 := dkwX6_here_2 ++ []
def dkwX6_here_1 : List UInt8 := [160, 0, 16, 42, 89, 180, 0, 225, 4, 96, 181, 0, 225, 167, 255, 221, 42, 180, 0, 225, 42, 180, 0, 222]
abbrev dktX6_here_1 : List UInt8 := dkwX6_here_1 ++ dktX6_here_2
def dkwX6_here_0 : List UInt8 := [42, 180, 0, 225, 42, 180, 0, 222, 162, 0, 30, 42, 180, 0, 26, 42, 180, 0, 225, 46, 16, 32]
abbrev dktX6_here_0 : List UInt8 := dkwX6_here_0 ++ dktX6_here_1
theorem dksX6_here_0 : cX6_here.data.toList.drop 0 = dktX6_here_0 := by decide +kernel
theorem dksX6_here_1 : cX6_here.data.toList.drop 22 = dktX6_here_1 := dk_seg dksX6_here_0 22 rfl rfl
theorem dksX6_here_2 : cX6_here.data.toList.drop 46 = dktX6_here_2 := dk_seg dksX6_here_1 24 rfl rfl
theorem dX6_here_0 : decode cX6_here 0 = .ok (.aload_n 0, 1) := dk_42 (dk_at dksX6_here_0 0 rfl rfl)
theorem dX6_here_1 : decode cX6_here 1 = .ok (.getfield 225, 3) := dk_180 0 225 (dk_at dksX6_here_0 1 rfl rfl)
theorem dX6_here_4 : decode cX6_here 4 = .ok (.aload_n 0, 1) := dk_42 (dk_at dksX6_here_0 4 rfl rfl)
theorem dX6_here_5 : decode cX6_here 5 = .ok (.getfield 222, 3) := dk_180 0 222 (dk_at dksX6_here_0 5 rfl rfl)
theorem dX6_here_8 : decode cX6_here 8 = .ok (.if_icmp .ge 30, 3) := dk_162 0 30 (dk_at dksX6_here_0 8 rfl rfl)
theorem dX6_here_11 : decode cX6_here 11 = .ok (.aload_n 0, 1) := dk_42 (dk_at dksX6_here_0 11 rfl rfl)
theorem dX6_here_12 : decode cX6_here 12 = .ok (.getfield 26, 3) := dk_180 0 26 (dk_at dksX6_here_0 12 rfl rfl)
theorem dX6_here_15 : decode cX6_here 15 = .ok (.aload_n 0, 1) := dk_42 (dk_at dksX6_here_0 15 rfl rfl)
theorem dX6_here_16 : decode cX6_here 16 = .ok (.getfield 225, 3) := dk_180 0 225 (dk_at dksX6_here_0 16 rfl rfl)
theorem dX6_here_19 : decode cX6_here 19 = .ok (.iaload, 1) := dk_46 (dk_at dksX6_here_0 19 rfl rfl)
theorem dX6_here_20 : decode cX6_here 20 = .ok (.bipush 32, 2) := dk_16 32 (dk_at dksX6_here_0 20 rfl rfl)
theorem dX6_here_22 : decode cX6_here 22 = .ok (.if_icmp .ne 16, 3) := dk_160 0 16 (dk_at dksX6_here_1 0 rfl rfl)
theorem dX6_here_25 : decode cX6_here 25 = .ok (.aload_n 0, 1) := dk_42 (dk_at dksX6_here_1 3 rfl rfl)
theorem dX6_here_26 : decode cX6_here 26 = .ok (.dup, 1) := dk_89 (dk_at dksX6_here_1 4 rfl rfl)
theorem dX6_here_27 : decode cX6_here 27 = .ok (.getfield 225, 3) := dk_180 0 225 (dk_at dksX6_here_1 5 rfl rfl)
theorem dX6_here_30 : decode cX6_here 30 = .ok (.iconst 1, 1) := dk_4 (dk_at dksX6_here_1 8 rfl rfl)
theorem dX6_here_31 : decode cX6_here 31 = .ok (.iadd, 1) := dk_96 (dk_at dksX6_here_1 9 rfl rfl)
theorem dX6_here_32 : decode cX6_here 32 = .ok (.putfield 225, 3) := dk_181 0 225 (dk_at dksX6_here_1 10 rfl rfl)
theorem dX6_here_35 : decode cX6_here 35 = .ok (.goto (-35), 3) := dk_167 255 221 (dk_at dksX6_here_1 13 rfl rfl)
theorem dX6_here_38 : decode cX6_here 38 = .ok (.aload_n 0, 1) := dk_42 (dk_at dksX6_here_1 16 rfl rfl)
theorem dX6_here_39 : decode cX6_here 39 = .ok (.getfield 225, 3) := dk_180 0 225 (dk_at dksX6_here_1 17 rfl rfl)
theorem dX6_here_42 : decode cX6_here 42 = .ok (.aload_n 0, 1) := dk_42 (dk_at dksX6_here_1 20 rfl rfl)
theorem dX6_here_43 : decode cX6_here 43 = .ok (.getfield 222, 3) := dk_180 0 222 (dk_at dksX6_here_1 21 rfl rfl)
theorem dX6_here_46 : decode cX6_here 46 = .ok (.if_icmp .ge 15, 3) := dk_162 0 15 (dk_at dksX6_here_2 0 rfl rfl)
theorem dX6_here_49 : decode cX6_here 49 = .ok (.aload_n 0, 1) := dk_42 (dk_at dksX6_here_2 3 rfl rfl)
theorem dX6_here_50 : decode cX6_here 50 = .ok (.getfield 26, 3) := dk_180 0 26 (dk_at dksX6_here_2 4 rfl rfl)
theorem dX6_here_53 : decode cX6_here 53 = .ok (.aload_n 0, 1) := dk_42 (dk_at dksX6_here_2 7 rfl rfl)
theorem dX6_here_54 : decode cX6_here 54 = .ok (.getfield 225, 3) := dk_180 0 225 (dk_at dksX6_here_2 8 rfl rfl)
theorem dX6_here_57 : decode cX6_here 57 = .ok (.iaload, 1) := dk_46 (dk_at dksX6_here_2 11 rfl rfl)
theorem dX6_here_58 : decode cX6_here 58 = .ok (.goto 4, 3) := dk_167 0 4 (dk_at dksX6_here_2 12 rfl rfl)
theorem dX6_here_61 : decode cX6_here 61 = .ok (.iconst 0, 1) := dk_3 (dk_at dksX6_here_2 15 rfl rfl)
theorem dX6_here_62 : decode cX6_here 62 = .ok (.ireturn, 1) := dk_172 (dk_at dksX6_here_2 16 rfl rfl)
abbrev cX6_isWord : ByteArray := prog_11_method_59_code
def yX6_isWord : MethodName := ⟨RX6, "isWord", "(IIIII)Z"⟩
def dkwX6_isWord_4 : List UInt8 := [3, 172]
abbrev dktX6_isWord_4 : List UInt8 := dkwX6_isWord_4 ++ []
def dkwX6_isWord_3 : List UInt8 := [160, 0, 24, 42, 42, 180, 0, 225, 27, 96, 16, 97, 16, 122, 182, 0, 228, 154, 0, 7, 4, 167, 0, 4]
abbrev dktX6_isWord_3 : List UInt8 := dkwX6_isWord_3 ++ dktX6_isWord_4
def dkwX6_isWord_2 : List UInt8 := [180, 0, 225, 5, 96, 46, 21, 4, 160, 0, 40, 42, 180, 0, 26, 42, 180, 0, 225, 6, 96, 46, 21, 5]
abbrev dktX6_isWord_2 : List UInt8 := dkwX6_isWord_2 ++ dktX6_isWord_3
def dkwX6_isWord_1 : List UInt8 := [160, 0, 71, 42, 180, 0, 26, 42, 180, 0, 225, 4, 96, 46, 29, 160, 0, 56, 42, 180, 0, 26, 42]
abbrev dktX6_isWord_1 : List UInt8 := dkwX6_isWord_1 ++ dktX6_isWord_2
def dkwX6_isWord_0 : List UInt8 := [42, 180, 0, 225, 27, 96, 42, 180, 0, 222, 163, 0, 84, 42, 180, 0, 26, 42, 180, 0, 225, 46, 28]
abbrev dktX6_isWord_0 : List UInt8 := dkwX6_isWord_0 ++ dktX6_isWord_1
theorem dksX6_isWord_0 : cX6_isWord.data.toList.drop 0 = dktX6_isWord_0 := by decide +kernel
theorem dksX6_isWord_1 : cX6_isWord.data.toList.drop 23 = dktX6_isWord_1 := dk_seg dksX6_isWord_0 23 rfl rfl
theorem dksX6_isWord_2 : cX6_isWord.data.toList.drop 46 = dktX6_isWord_2 := dk_seg dksX6_isWord_1 23 rfl rfl
theorem dksX6_isWord_3 : cX6_isWord.data.toList.drop 70 = dktX6_isWord_3 := dk_seg dksX6_isWord_2 24 rfl rfl
theorem dksX6_isWord_4 : cX6_isWord.data.toList.drop 94 = dktX6_isWord_4 := dk_seg dksX6_isWord_3 24 rfl rfl
theorem dX6_isWord_0 : decode cX6_isWord 0 = .ok (.aload_n 0, 1) := dk_42 (dk_at dksX6_isWord_0 0 rfl rfl)
theorem dX6_isWord_1 : decode cX6_isWord 1 = .ok (.getfield 225, 3) := dk_180 0 225 (dk_at dksX6_isWord_0 1 rfl rfl)
theorem dX6_isWord_4 : decode cX6_isWord 4 = .ok (.iload_n 1, 1) := dk_27 (dk_at dksX6_isWord_0 4 rfl rfl)
theorem dX6_isWord_5 : decode cX6_isWord 5 = .ok (.iadd, 1) := dk_96 (dk_at dksX6_isWord_0 5 rfl rfl)
theorem dX6_isWord_6 : decode cX6_isWord 6 = .ok (.aload_n 0, 1) := dk_42 (dk_at dksX6_isWord_0 6 rfl rfl)
theorem dX6_isWord_7 : decode cX6_isWord 7 = .ok (.getfield 222, 3) := dk_180 0 222 (dk_at dksX6_isWord_0 7 rfl rfl)
theorem dX6_isWord_10 : decode cX6_isWord 10 = .ok (.if_icmp .gt 84, 3) := dk_163 0 84 (dk_at dksX6_isWord_0 10 rfl rfl)
theorem dX6_isWord_13 : decode cX6_isWord 13 = .ok (.aload_n 0, 1) := dk_42 (dk_at dksX6_isWord_0 13 rfl rfl)
theorem dX6_isWord_14 : decode cX6_isWord 14 = .ok (.getfield 26, 3) := dk_180 0 26 (dk_at dksX6_isWord_0 14 rfl rfl)
theorem dX6_isWord_17 : decode cX6_isWord 17 = .ok (.aload_n 0, 1) := dk_42 (dk_at dksX6_isWord_0 17 rfl rfl)
theorem dX6_isWord_18 : decode cX6_isWord 18 = .ok (.getfield 225, 3) := dk_180 0 225 (dk_at dksX6_isWord_0 18 rfl rfl)
theorem dX6_isWord_21 : decode cX6_isWord 21 = .ok (.iaload, 1) := dk_46 (dk_at dksX6_isWord_0 21 rfl rfl)
theorem dX6_isWord_22 : decode cX6_isWord 22 = .ok (.iload_n 2, 1) := dk_28 (dk_at dksX6_isWord_0 22 rfl rfl)
theorem dX6_isWord_23 : decode cX6_isWord 23 = .ok (.if_icmp .ne 71, 3) := dk_160 0 71 (dk_at dksX6_isWord_1 0 rfl rfl)
theorem dX6_isWord_26 : decode cX6_isWord 26 = .ok (.aload_n 0, 1) := dk_42 (dk_at dksX6_isWord_1 3 rfl rfl)
theorem dX6_isWord_27 : decode cX6_isWord 27 = .ok (.getfield 26, 3) := dk_180 0 26 (dk_at dksX6_isWord_1 4 rfl rfl)
theorem dX6_isWord_30 : decode cX6_isWord 30 = .ok (.aload_n 0, 1) := dk_42 (dk_at dksX6_isWord_1 7 rfl rfl)
theorem dX6_isWord_31 : decode cX6_isWord 31 = .ok (.getfield 225, 3) := dk_180 0 225 (dk_at dksX6_isWord_1 8 rfl rfl)
theorem dX6_isWord_34 : decode cX6_isWord 34 = .ok (.iconst 1, 1) := dk_4 (dk_at dksX6_isWord_1 11 rfl rfl)
theorem dX6_isWord_35 : decode cX6_isWord 35 = .ok (.iadd, 1) := dk_96 (dk_at dksX6_isWord_1 12 rfl rfl)
theorem dX6_isWord_36 : decode cX6_isWord 36 = .ok (.iaload, 1) := dk_46 (dk_at dksX6_isWord_1 13 rfl rfl)
theorem dX6_isWord_37 : decode cX6_isWord 37 = .ok (.iload_n 3, 1) := dk_29 (dk_at dksX6_isWord_1 14 rfl rfl)
theorem dX6_isWord_38 : decode cX6_isWord 38 = .ok (.if_icmp .ne 56, 3) := dk_160 0 56 (dk_at dksX6_isWord_1 15 rfl rfl)
theorem dX6_isWord_41 : decode cX6_isWord 41 = .ok (.aload_n 0, 1) := dk_42 (dk_at dksX6_isWord_1 18 rfl rfl)
theorem dX6_isWord_42 : decode cX6_isWord 42 = .ok (.getfield 26, 3) := dk_180 0 26 (dk_at dksX6_isWord_1 19 rfl rfl)
theorem dX6_isWord_45 : decode cX6_isWord 45 = .ok (.aload_n 0, 1) := dk_42 (dk_at dksX6_isWord_1 22 rfl rfl)
theorem dX6_isWord_46 : decode cX6_isWord 46 = .ok (.getfield 225, 3) := dk_180 0 225 (dk_at dksX6_isWord_2 0 rfl rfl)
theorem dX6_isWord_49 : decode cX6_isWord 49 = .ok (.iconst 2, 1) := dk_5 (dk_at dksX6_isWord_2 3 rfl rfl)
theorem dX6_isWord_50 : decode cX6_isWord 50 = .ok (.iadd, 1) := dk_96 (dk_at dksX6_isWord_2 4 rfl rfl)
theorem dX6_isWord_51 : decode cX6_isWord 51 = .ok (.iaload, 1) := dk_46 (dk_at dksX6_isWord_2 5 rfl rfl)
theorem dX6_isWord_52 : decode cX6_isWord 52 = .ok (.iload 4, 2) := dk_21 4 (dk_at dksX6_isWord_2 6 rfl rfl)
theorem dX6_isWord_54 : decode cX6_isWord 54 = .ok (.if_icmp .ne 40, 3) := dk_160 0 40 (dk_at dksX6_isWord_2 8 rfl rfl)
theorem dX6_isWord_57 : decode cX6_isWord 57 = .ok (.aload_n 0, 1) := dk_42 (dk_at dksX6_isWord_2 11 rfl rfl)
theorem dX6_isWord_58 : decode cX6_isWord 58 = .ok (.getfield 26, 3) := dk_180 0 26 (dk_at dksX6_isWord_2 12 rfl rfl)
theorem dX6_isWord_61 : decode cX6_isWord 61 = .ok (.aload_n 0, 1) := dk_42 (dk_at dksX6_isWord_2 15 rfl rfl)
theorem dX6_isWord_62 : decode cX6_isWord 62 = .ok (.getfield 225, 3) := dk_180 0 225 (dk_at dksX6_isWord_2 16 rfl rfl)
theorem dX6_isWord_65 : decode cX6_isWord 65 = .ok (.iconst 3, 1) := dk_6 (dk_at dksX6_isWord_2 19 rfl rfl)
theorem dX6_isWord_66 : decode cX6_isWord 66 = .ok (.iadd, 1) := dk_96 (dk_at dksX6_isWord_2 20 rfl rfl)
theorem dX6_isWord_67 : decode cX6_isWord 67 = .ok (.iaload, 1) := dk_46 (dk_at dksX6_isWord_2 21 rfl rfl)
theorem dX6_isWord_68 : decode cX6_isWord 68 = .ok (.iload 5, 2) := dk_21 5 (dk_at dksX6_isWord_2 22 rfl rfl)
theorem dX6_isWord_70 : decode cX6_isWord 70 = .ok (.if_icmp .ne 24, 3) := dk_160 0 24 (dk_at dksX6_isWord_3 0 rfl rfl)
theorem dX6_isWord_73 : decode cX6_isWord 73 = .ok (.aload_n 0, 1) := dk_42 (dk_at dksX6_isWord_3 3 rfl rfl)
theorem dX6_isWord_74 : decode cX6_isWord 74 = .ok (.aload_n 0, 1) := dk_42 (dk_at dksX6_isWord_3 4 rfl rfl)
theorem dX6_isWord_75 : decode cX6_isWord 75 = .ok (.getfield 225, 3) := dk_180 0 225 (dk_at dksX6_isWord_3 5 rfl rfl)
theorem dX6_isWord_78 : decode cX6_isWord 78 = .ok (.iload_n 1, 1) := dk_27 (dk_at dksX6_isWord_3 8 rfl rfl)
theorem dX6_isWord_79 : decode cX6_isWord 79 = .ok (.iadd, 1) := dk_96 (dk_at dksX6_isWord_3 9 rfl rfl)
theorem dX6_isWord_80 : decode cX6_isWord 80 = .ok (.bipush 97, 2) := dk_16 97 (dk_at dksX6_isWord_3 10 rfl rfl)
theorem dX6_isWord_82 : decode cX6_isWord 82 = .ok (.bipush 122, 2) := dk_16 122 (dk_at dksX6_isWord_3 12 rfl rfl)
theorem dX6_isWord_84 : decode cX6_isWord 84 = .ok (.invokevirtual 228, 3) := dk_182 0 228 (dk_at dksX6_isWord_3 14 rfl rfl)
theorem dX6_isWord_87 : decode cX6_isWord 87 = .ok (.ifCond .ne 7, 3) := dk_154 0 7 (dk_at dksX6_isWord_3 17 rfl rfl)
theorem dX6_isWord_90 : decode cX6_isWord 90 = .ok (.iconst 1, 1) := dk_4 (dk_at dksX6_isWord_3 20 rfl rfl)
theorem dX6_isWord_91 : decode cX6_isWord 91 = .ok (.goto 4, 3) := dk_167 0 4 (dk_at dksX6_isWord_3 21 rfl rfl)
theorem dX6_isWord_94 : decode cX6_isWord 94 = .ok (.iconst 0, 1) := dk_3 (dk_at dksX6_isWord_4 0 rfl rfl)
theorem dX6_isWord_95 : decode cX6_isWord 95 = .ok (.ireturn, 1) := dk_172 (dk_at dksX6_isWord_4 1 rfl rfl)
abbrev cX6_isAt : ByteArray := prog_11_method_58_code
def yX6_isAt : MethodName := ⟨RX6, "isAt", "(III)Z"⟩
def dkwX6_isAt_1 : List UInt8 := [153, 0, 7, 4, 167, 0, 4, 3, 172]
abbrev dktX6_isAt_1 : List UInt8 := dkwX6_isAt_1 ++ []
def dkwX6_isAt_0 : List UInt8 := [27, 42, 180, 0, 222, 162, 0, 24, 42, 180, 0, 26, 27, 46, 133, 28, 133, 29, 133, 184, 0, 71]
abbrev dktX6_isAt_0 : List UInt8 := dkwX6_isAt_0 ++ dktX6_isAt_1
theorem dksX6_isAt_0 : cX6_isAt.data.toList.drop 0 = dktX6_isAt_0 := by decide +kernel
theorem dksX6_isAt_1 : cX6_isAt.data.toList.drop 22 = dktX6_isAt_1 := dk_seg dksX6_isAt_0 22 rfl rfl
theorem dX6_isAt_0 : decode cX6_isAt 0 = .ok (.iload_n 1, 1) := dk_27 (dk_at dksX6_isAt_0 0 rfl rfl)
theorem dX6_isAt_1 : decode cX6_isAt 1 = .ok (.aload_n 0, 1) := dk_42 (dk_at dksX6_isAt_0 1 rfl rfl)
theorem dX6_isAt_2 : decode cX6_isAt 2 = .ok (.getfield 222, 3) := dk_180 0 222 (dk_at dksX6_isAt_0 2 rfl rfl)
theorem dX6_isAt_5 : decode cX6_isAt 5 = .ok (.if_icmp .ge 24, 3) := dk_162 0 24 (dk_at dksX6_isAt_0 5 rfl rfl)
theorem dX6_isAt_8 : decode cX6_isAt 8 = .ok (.aload_n 0, 1) := dk_42 (dk_at dksX6_isAt_0 8 rfl rfl)
theorem dX6_isAt_9 : decode cX6_isAt 9 = .ok (.getfield 26, 3) := dk_180 0 26 (dk_at dksX6_isAt_0 9 rfl rfl)
theorem dX6_isAt_12 : decode cX6_isAt 12 = .ok (.iload_n 1, 1) := dk_27 (dk_at dksX6_isAt_0 12 rfl rfl)
theorem dX6_isAt_13 : decode cX6_isAt 13 = .ok (.iaload, 1) := dk_46 (dk_at dksX6_isAt_0 13 rfl rfl)
theorem dX6_isAt_14 : decode cX6_isAt 14 = .ok (.i2l, 1) := dk_133 (dk_at dksX6_isAt_0 14 rfl rfl)
theorem dX6_isAt_15 : decode cX6_isAt 15 = .ok (.iload_n 2, 1) := dk_28 (dk_at dksX6_isAt_0 15 rfl rfl)
theorem dX6_isAt_16 : decode cX6_isAt 16 = .ok (.i2l, 1) := dk_133 (dk_at dksX6_isAt_0 16 rfl rfl)
theorem dX6_isAt_17 : decode cX6_isAt 17 = .ok (.iload_n 3, 1) := dk_29 (dk_at dksX6_isAt_0 17 rfl rfl)
theorem dX6_isAt_18 : decode cX6_isAt 18 = .ok (.i2l, 1) := dk_133 (dk_at dksX6_isAt_0 18 rfl rfl)
theorem dX6_isAt_19 : decode cX6_isAt 19 = .ok (.invokestatic 71, 3) := dk_184 0 71 (dk_at dksX6_isAt_0 19 rfl rfl)
theorem dX6_isAt_22 : decode cX6_isAt 22 = .ok (.ifCond .eq 7, 3) := dk_153 0 7 (dk_at dksX6_isAt_1 0 rfl rfl)
theorem dX6_isAt_25 : decode cX6_isAt 25 = .ok (.iconst 1, 1) := dk_4 (dk_at dksX6_isAt_1 3 rfl rfl)
theorem dX6_isAt_26 : decode cX6_isAt 26 = .ok (.goto 4, 3) := dk_167 0 4 (dk_at dksX6_isAt_1 4 rfl rfl)
theorem dX6_isAt_29 : decode cX6_isAt 29 = .ok (.iconst 0, 1) := dk_3 (dk_at dksX6_isAt_1 7 rfl rfl)
theorem dX6_isAt_30 : decode cX6_isAt 30 = .ok (.ireturn, 1) := dk_172 (dk_at dksX6_isAt_1 8 rfl rfl)
abbrev cX6_isMore : ByteArray := prog_11_method_60_code
def yX6_isMore : MethodName := ⟨RX6, "isMore", "(IIIII)Z"⟩
def dkwX6_isMore_2 : List UInt8 := [160, 0, 7, 4, 167, 0, 4, 3, 172]
abbrev dktX6_isMore_2 : List UInt8 := dkwX6_isMore_2 ++ []
def dkwX6_isMore_1 : List UInt8 := [180, 0, 26, 27, 5, 96, 46, 21, 4, 160, 0, 20, 42, 180, 0, 26, 27, 6, 96, 46, 21, 5]
abbrev dktX6_isMore_1 : List UInt8 := dkwX6_isMore_1 ++ dktX6_isMore_2
def dkwX6_isMore_0 : List UInt8 := [42, 180, 0, 26, 27, 46, 28, 160, 0, 45, 42, 180, 0, 26, 27, 4, 96, 46, 29, 160, 0, 33, 42]
abbrev dktX6_isMore_0 : List UInt8 := dkwX6_isMore_0 ++ dktX6_isMore_1
theorem dksX6_isMore_0 : cX6_isMore.data.toList.drop 0 = dktX6_isMore_0 := by decide +kernel
theorem dksX6_isMore_1 : cX6_isMore.data.toList.drop 23 = dktX6_isMore_1 := dk_seg dksX6_isMore_0 23 rfl rfl
theorem dksX6_isMore_2 : cX6_isMore.data.toList.drop 45 = dktX6_isMore_2 := dk_seg dksX6_isMore_1 22 rfl rfl
theorem dX6_isMore_0 : decode cX6_isMore 0 = .ok (.aload_n 0, 1) := dk_42 (dk_at dksX6_isMore_0 0 rfl rfl)
theorem dX6_isMore_1 : decode cX6_isMore 1 = .ok (.getfield 26, 3) := dk_180 0 26 (dk_at dksX6_isMore_0 1 rfl rfl)
theorem dX6_isMore_4 : decode cX6_isMore 4 = .ok (.iload_n 1, 1) := dk_27 (dk_at dksX6_isMore_0 4 rfl rfl)
theorem dX6_isMore_5 : decode cX6_isMore 5 = .ok (.iaload, 1) := dk_46 (dk_at dksX6_isMore_0 5 rfl rfl)
theorem dX6_isMore_6 : decode cX6_isMore 6 = .ok (.iload_n 2, 1) := dk_28 (dk_at dksX6_isMore_0 6 rfl rfl)
theorem dX6_isMore_7 : decode cX6_isMore 7 = .ok (.if_icmp .ne 45, 3) := dk_160 0 45 (dk_at dksX6_isMore_0 7 rfl rfl)
theorem dX6_isMore_10 : decode cX6_isMore 10 = .ok (.aload_n 0, 1) := dk_42 (dk_at dksX6_isMore_0 10 rfl rfl)
theorem dX6_isMore_11 : decode cX6_isMore 11 = .ok (.getfield 26, 3) := dk_180 0 26 (dk_at dksX6_isMore_0 11 rfl rfl)
theorem dX6_isMore_14 : decode cX6_isMore 14 = .ok (.iload_n 1, 1) := dk_27 (dk_at dksX6_isMore_0 14 rfl rfl)
theorem dX6_isMore_15 : decode cX6_isMore 15 = .ok (.iconst 1, 1) := dk_4 (dk_at dksX6_isMore_0 15 rfl rfl)
theorem dX6_isMore_16 : decode cX6_isMore 16 = .ok (.iadd, 1) := dk_96 (dk_at dksX6_isMore_0 16 rfl rfl)
theorem dX6_isMore_17 : decode cX6_isMore 17 = .ok (.iaload, 1) := dk_46 (dk_at dksX6_isMore_0 17 rfl rfl)
theorem dX6_isMore_18 : decode cX6_isMore 18 = .ok (.iload_n 3, 1) := dk_29 (dk_at dksX6_isMore_0 18 rfl rfl)
theorem dX6_isMore_19 : decode cX6_isMore 19 = .ok (.if_icmp .ne 33, 3) := dk_160 0 33 (dk_at dksX6_isMore_0 19 rfl rfl)
theorem dX6_isMore_22 : decode cX6_isMore 22 = .ok (.aload_n 0, 1) := dk_42 (dk_at dksX6_isMore_0 22 rfl rfl)
theorem dX6_isMore_23 : decode cX6_isMore 23 = .ok (.getfield 26, 3) := dk_180 0 26 (dk_at dksX6_isMore_1 0 rfl rfl)
theorem dX6_isMore_26 : decode cX6_isMore 26 = .ok (.iload_n 1, 1) := dk_27 (dk_at dksX6_isMore_1 3 rfl rfl)
theorem dX6_isMore_27 : decode cX6_isMore 27 = .ok (.iconst 2, 1) := dk_5 (dk_at dksX6_isMore_1 4 rfl rfl)
theorem dX6_isMore_28 : decode cX6_isMore 28 = .ok (.iadd, 1) := dk_96 (dk_at dksX6_isMore_1 5 rfl rfl)
theorem dX6_isMore_29 : decode cX6_isMore 29 = .ok (.iaload, 1) := dk_46 (dk_at dksX6_isMore_1 6 rfl rfl)
theorem dX6_isMore_30 : decode cX6_isMore 30 = .ok (.iload 4, 2) := dk_21 4 (dk_at dksX6_isMore_1 7 rfl rfl)
theorem dX6_isMore_32 : decode cX6_isMore 32 = .ok (.if_icmp .ne 20, 3) := dk_160 0 20 (dk_at dksX6_isMore_1 9 rfl rfl)
theorem dX6_isMore_35 : decode cX6_isMore 35 = .ok (.aload_n 0, 1) := dk_42 (dk_at dksX6_isMore_1 12 rfl rfl)
theorem dX6_isMore_36 : decode cX6_isMore 36 = .ok (.getfield 26, 3) := dk_180 0 26 (dk_at dksX6_isMore_1 13 rfl rfl)
theorem dX6_isMore_39 : decode cX6_isMore 39 = .ok (.iload_n 1, 1) := dk_27 (dk_at dksX6_isMore_1 16 rfl rfl)
theorem dX6_isMore_40 : decode cX6_isMore 40 = .ok (.iconst 3, 1) := dk_6 (dk_at dksX6_isMore_1 17 rfl rfl)
theorem dX6_isMore_41 : decode cX6_isMore 41 = .ok (.iadd, 1) := dk_96 (dk_at dksX6_isMore_1 18 rfl rfl)
theorem dX6_isMore_42 : decode cX6_isMore 42 = .ok (.iaload, 1) := dk_46 (dk_at dksX6_isMore_1 19 rfl rfl)
theorem dX6_isMore_43 : decode cX6_isMore 43 = .ok (.iload 5, 2) := dk_21 5 (dk_at dksX6_isMore_1 20 rfl rfl)
theorem dX6_isMore_45 : decode cX6_isMore 45 = .ok (.if_icmp .ne 7, 3) := dk_160 0 7 (dk_at dksX6_isMore_2 0 rfl rfl)
theorem dX6_isMore_48 : decode cX6_isMore 48 = .ok (.iconst 1, 1) := dk_4 (dk_at dksX6_isMore_2 3 rfl rfl)
theorem dX6_isMore_49 : decode cX6_isMore 49 = .ok (.goto 4, 3) := dk_167 0 4 (dk_at dksX6_isMore_2 4 rfl rfl)
theorem dX6_isMore_52 : decode cX6_isMore 52 = .ok (.iconst 0, 1) := dk_3 (dk_at dksX6_isMore_2 7 rfl rfl)
theorem dX6_isMore_53 : decode cX6_isMore 53 = .ok (.ireturn, 1) := dk_172 (dk_at dksX6_isMore_2 8 rfl rfl)
abbrev cX6_figure : ByteArray := prog_11_method_63_code
def yX6_figure : MethodName := ⟨RX6, "figure", "(II)I"⟩
def dkwX6_figure_1 : List UInt8 := [89, 180, 0, 225, 4, 96, 181, 0, 225, 29, 172]
abbrev dktX6_figure_1 : List UInt8 := dkwX6_figure_1 ++ []
def dkwX6_figure_0 : List UInt8 := [42, 182, 0, 232, 16, 48, 100, 62, 29, 133, 27, 133, 28, 133, 184, 0, 71, 154, 0, 6, 16, 252, 172, 42]
abbrev dktX6_figure_0 : List UInt8 := dkwX6_figure_0 ++ dktX6_figure_1
theorem dksX6_figure_0 : cX6_figure.data.toList.drop 0 = dktX6_figure_0 := by decide +kernel
theorem dksX6_figure_1 : cX6_figure.data.toList.drop 24 = dktX6_figure_1 := dk_seg dksX6_figure_0 24 rfl rfl
theorem dX6_figure_0 : decode cX6_figure 0 = .ok (.aload_n 0, 1) := dk_42 (dk_at dksX6_figure_0 0 rfl rfl)
theorem dX6_figure_1 : decode cX6_figure 1 = .ok (.invokevirtual 232, 3) := dk_182 0 232 (dk_at dksX6_figure_0 1 rfl rfl)
theorem dX6_figure_4 : decode cX6_figure 4 = .ok (.bipush 48, 2) := dk_16 48 (dk_at dksX6_figure_0 4 rfl rfl)
theorem dX6_figure_6 : decode cX6_figure 6 = .ok (.isub, 1) := dk_100 (dk_at dksX6_figure_0 6 rfl rfl)
theorem dX6_figure_7 : decode cX6_figure 7 = .ok (.istore_n 3, 1) := dk_62 (dk_at dksX6_figure_0 7 rfl rfl)
theorem dX6_figure_8 : decode cX6_figure 8 = .ok (.iload_n 3, 1) := dk_29 (dk_at dksX6_figure_0 8 rfl rfl)
theorem dX6_figure_9 : decode cX6_figure 9 = .ok (.i2l, 1) := dk_133 (dk_at dksX6_figure_0 9 rfl rfl)
theorem dX6_figure_10 : decode cX6_figure 10 = .ok (.iload_n 1, 1) := dk_27 (dk_at dksX6_figure_0 10 rfl rfl)
theorem dX6_figure_11 : decode cX6_figure 11 = .ok (.i2l, 1) := dk_133 (dk_at dksX6_figure_0 11 rfl rfl)
theorem dX6_figure_12 : decode cX6_figure 12 = .ok (.iload_n 2, 1) := dk_28 (dk_at dksX6_figure_0 12 rfl rfl)
theorem dX6_figure_13 : decode cX6_figure 13 = .ok (.i2l, 1) := dk_133 (dk_at dksX6_figure_0 13 rfl rfl)
theorem dX6_figure_14 : decode cX6_figure 14 = .ok (.invokestatic 71, 3) := dk_184 0 71 (dk_at dksX6_figure_0 14 rfl rfl)
theorem dX6_figure_17 : decode cX6_figure 17 = .ok (.ifCond .ne 6, 3) := dk_154 0 6 (dk_at dksX6_figure_0 17 rfl rfl)
theorem dX6_figure_20 : decode cX6_figure 20 = .ok (.bipush (-4), 2) := dk_16 252 (dk_at dksX6_figure_0 20 rfl rfl)
theorem dX6_figure_22 : decode cX6_figure 22 = .ok (.ireturn, 1) := dk_172 (dk_at dksX6_figure_0 22 rfl rfl)
theorem dX6_figure_23 : decode cX6_figure 23 = .ok (.aload_n 0, 1) := dk_42 (dk_at dksX6_figure_0 23 rfl rfl)
theorem dX6_figure_24 : decode cX6_figure 24 = .ok (.dup, 1) := dk_89 (dk_at dksX6_figure_1 0 rfl rfl)
theorem dX6_figure_25 : decode cX6_figure 25 = .ok (.getfield 225, 3) := dk_180 0 225 (dk_at dksX6_figure_1 1 rfl rfl)
theorem dX6_figure_28 : decode cX6_figure 28 = .ok (.iconst 1, 1) := dk_4 (dk_at dksX6_figure_1 4 rfl rfl)
theorem dX6_figure_29 : decode cX6_figure 29 = .ok (.iadd, 1) := dk_96 (dk_at dksX6_figure_1 5 rfl rfl)
theorem dX6_figure_30 : decode cX6_figure 30 = .ok (.putfield 225, 3) := dk_181 0 225 (dk_at dksX6_figure_1 6 rfl rfl)
theorem dX6_figure_33 : decode cX6_figure 33 = .ok (.iload_n 3, 1) := dk_29 (dk_at dksX6_figure_1 9 rfl rfl)
theorem dX6_figure_34 : decode cX6_figure 34 = .ok (.ireturn, 1) := dk_172 (dk_at dksX6_figure_1 10 rfl rfl)
abbrev cX6_takes : ByteArray := prog_11_method_62_code
def yX6_takes : MethodName := ⟨RX6, "takes", "(I)Z"⟩
def dkwX6_takes_1 : List UInt8 := [167, 0, 4, 3, 96, 181, 0, 225, 28, 172]
abbrev dktX6_takes_1 : List UInt8 := dkwX6_takes_1 ++ []
def dkwX6_takes_0 : List UInt8 := [42, 182, 0, 232, 27, 160, 0, 7, 4, 167, 0, 4, 3, 61, 42, 89, 180, 0, 225, 28, 153, 0, 7, 4]
abbrev dktX6_takes_0 : List UInt8 := dkwX6_takes_0 ++ dktX6_takes_1
theorem dksX6_takes_0 : cX6_takes.data.toList.drop 0 = dktX6_takes_0 := by decide +kernel
theorem dksX6_takes_1 : cX6_takes.data.toList.drop 24 = dktX6_takes_1 := dk_seg dksX6_takes_0 24 rfl rfl
theorem dX6_takes_0 : decode cX6_takes 0 = .ok (.aload_n 0, 1) := dk_42 (dk_at dksX6_takes_0 0 rfl rfl)
theorem dX6_takes_1 : decode cX6_takes 1 = .ok (.invokevirtual 232, 3) := dk_182 0 232 (dk_at dksX6_takes_0 1 rfl rfl)
theorem dX6_takes_4 : decode cX6_takes 4 = .ok (.iload_n 1, 1) := dk_27 (dk_at dksX6_takes_0 4 rfl rfl)
theorem dX6_takes_5 : decode cX6_takes 5 = .ok (.if_icmp .ne 7, 3) := dk_160 0 7 (dk_at dksX6_takes_0 5 rfl rfl)
theorem dX6_takes_8 : decode cX6_takes 8 = .ok (.iconst 1, 1) := dk_4 (dk_at dksX6_takes_0 8 rfl rfl)
theorem dX6_takes_9 : decode cX6_takes 9 = .ok (.goto 4, 3) := dk_167 0 4 (dk_at dksX6_takes_0 9 rfl rfl)
theorem dX6_takes_12 : decode cX6_takes 12 = .ok (.iconst 0, 1) := dk_3 (dk_at dksX6_takes_0 12 rfl rfl)
theorem dX6_takes_13 : decode cX6_takes 13 = .ok (.istore_n 2, 1) := dk_61 (dk_at dksX6_takes_0 13 rfl rfl)
theorem dX6_takes_14 : decode cX6_takes 14 = .ok (.aload_n 0, 1) := dk_42 (dk_at dksX6_takes_0 14 rfl rfl)
theorem dX6_takes_15 : decode cX6_takes 15 = .ok (.dup, 1) := dk_89 (dk_at dksX6_takes_0 15 rfl rfl)
theorem dX6_takes_16 : decode cX6_takes 16 = .ok (.getfield 225, 3) := dk_180 0 225 (dk_at dksX6_takes_0 16 rfl rfl)
theorem dX6_takes_19 : decode cX6_takes 19 = .ok (.iload_n 2, 1) := dk_28 (dk_at dksX6_takes_0 19 rfl rfl)
theorem dX6_takes_20 : decode cX6_takes 20 = .ok (.ifCond .eq 7, 3) := dk_153 0 7 (dk_at dksX6_takes_0 20 rfl rfl)
theorem dX6_takes_23 : decode cX6_takes 23 = .ok (.iconst 1, 1) := dk_4 (dk_at dksX6_takes_0 23 rfl rfl)
theorem dX6_takes_24 : decode cX6_takes 24 = .ok (.goto 4, 3) := dk_167 0 4 (dk_at dksX6_takes_1 0 rfl rfl)
theorem dX6_takes_27 : decode cX6_takes 27 = .ok (.iconst 0, 1) := dk_3 (dk_at dksX6_takes_1 3 rfl rfl)
theorem dX6_takes_28 : decode cX6_takes 28 = .ok (.iadd, 1) := dk_96 (dk_at dksX6_takes_1 4 rfl rfl)
theorem dX6_takes_29 : decode cX6_takes 29 = .ok (.putfield 225, 3) := dk_181 0 225 (dk_at dksX6_takes_1 5 rfl rfl)
theorem dX6_takes_32 : decode cX6_takes 32 = .ok (.iload_n 2, 1) := dk_28 (dk_at dksX6_takes_1 8 rfl rfl)
theorem dX6_takes_33 : decode cX6_takes 33 = .ok (.ireturn, 1) := dk_172 (dk_at dksX6_takes_1 9 rfl rfl)
abbrev cX6_readsBook : ByteArray := prog_11_method_64_code
def yX6_readsBook : MethodName := ⟨RX6, "readsBook", "()Z"⟩
def dkwX6_readsBook_3 : List UInt8 := [181, 0, 225, 167, 255, 214, 42, 27, 182, 0, 191, 155, 0, 7, 4, 167, 0, 4, 3, 172]
abbrev dktX6_readsBook_3 : List UInt8 := dkwX6_readsBook_3 ++ []
def dkwX6_readsBook_2 : List UInt8 := [27, 4, 42, 180, 0, 26, 42, 180, 0, 225, 46, 16, 97, 100, 120, 128, 60, 42, 89, 180, 0, 225, 4, 96]
abbrev dktX6_readsBook_2 : List UInt8 := dkwX6_readsBook_2 ++ dktX6_readsBook_3
def dkwX6_readsBook_1 : List UInt8 := [16, 7, 160, 0, 5, 3, 172, 3, 60, 42, 42, 180, 0, 225, 16, 97, 16, 116, 182, 0, 228, 153, 0, 33]
abbrev dktX6_readsBook_1 : List UInt8 := dkwX6_readsBook_1 ++ dktX6_readsBook_2
def dkwX6_readsBook_0 : List UInt8 := [42, 182, 0, 232, 133, 20, 0, 242, 20, 0, 244, 184, 0, 71, 153, 0, 14, 42, 180, 0, 7, 3, 46]
abbrev dktX6_readsBook_0 : List UInt8 := dkwX6_readsBook_0 ++ dktX6_readsBook_1
theorem dksX6_readsBook_0 : cX6_readsBook.data.toList.drop 0 = dktX6_readsBook_0 := by decide +kernel
theorem dksX6_readsBook_1 : cX6_readsBook.data.toList.drop 23 = dktX6_readsBook_1 := dk_seg dksX6_readsBook_0 23 rfl rfl
theorem dksX6_readsBook_2 : cX6_readsBook.data.toList.drop 47 = dktX6_readsBook_2 := dk_seg dksX6_readsBook_1 24 rfl rfl
theorem dksX6_readsBook_3 : cX6_readsBook.data.toList.drop 71 = dktX6_readsBook_3 := dk_seg dksX6_readsBook_2 24 rfl rfl
theorem dX6_readsBook_0 : decode cX6_readsBook 0 = .ok (.aload_n 0, 1) := dk_42 (dk_at dksX6_readsBook_0 0 rfl rfl)
theorem dX6_readsBook_1 : decode cX6_readsBook 1 = .ok (.invokevirtual 232, 3) := dk_182 0 232 (dk_at dksX6_readsBook_0 1 rfl rfl)
theorem dX6_readsBook_4 : decode cX6_readsBook 4 = .ok (.i2l, 1) := dk_133 (dk_at dksX6_readsBook_0 4 rfl rfl)
theorem dX6_readsBook_5 : decode cX6_readsBook 5 = .ok (.ldc2_w 242, 3) := dk_20 0 242 (dk_at dksX6_readsBook_0 5 rfl rfl)
theorem dX6_readsBook_8 : decode cX6_readsBook 8 = .ok (.ldc2_w 244, 3) := dk_20 0 244 (dk_at dksX6_readsBook_0 8 rfl rfl)
theorem dX6_readsBook_11 : decode cX6_readsBook 11 = .ok (.invokestatic 71, 3) := dk_184 0 71 (dk_at dksX6_readsBook_0 11 rfl rfl)
theorem dX6_readsBook_14 : decode cX6_readsBook 14 = .ok (.ifCond .eq 14, 3) := dk_153 0 14 (dk_at dksX6_readsBook_0 14 rfl rfl)
theorem dX6_readsBook_17 : decode cX6_readsBook 17 = .ok (.aload_n 0, 1) := dk_42 (dk_at dksX6_readsBook_0 17 rfl rfl)
theorem dX6_readsBook_18 : decode cX6_readsBook 18 = .ok (.getfield 7, 3) := dk_180 0 7 (dk_at dksX6_readsBook_0 18 rfl rfl)
theorem dX6_readsBook_21 : decode cX6_readsBook 21 = .ok (.iconst 0, 1) := dk_3 (dk_at dksX6_readsBook_0 21 rfl rfl)
theorem dX6_readsBook_22 : decode cX6_readsBook 22 = .ok (.iaload, 1) := dk_46 (dk_at dksX6_readsBook_0 22 rfl rfl)
theorem dX6_readsBook_23 : decode cX6_readsBook 23 = .ok (.bipush 7, 2) := dk_16 7 (dk_at dksX6_readsBook_1 0 rfl rfl)
theorem dX6_readsBook_25 : decode cX6_readsBook 25 = .ok (.if_icmp .ne 5, 3) := dk_160 0 5 (dk_at dksX6_readsBook_1 2 rfl rfl)
theorem dX6_readsBook_28 : decode cX6_readsBook 28 = .ok (.iconst 0, 1) := dk_3 (dk_at dksX6_readsBook_1 5 rfl rfl)
theorem dX6_readsBook_29 : decode cX6_readsBook 29 = .ok (.ireturn, 1) := dk_172 (dk_at dksX6_readsBook_1 6 rfl rfl)
theorem dX6_readsBook_30 : decode cX6_readsBook 30 = .ok (.iconst 0, 1) := dk_3 (dk_at dksX6_readsBook_1 7 rfl rfl)
theorem dX6_readsBook_31 : decode cX6_readsBook 31 = .ok (.istore_n 1, 1) := dk_60 (dk_at dksX6_readsBook_1 8 rfl rfl)
theorem dX6_readsBook_32 : decode cX6_readsBook 32 = .ok (.aload_n 0, 1) := dk_42 (dk_at dksX6_readsBook_1 9 rfl rfl)
theorem dX6_readsBook_33 : decode cX6_readsBook 33 = .ok (.aload_n 0, 1) := dk_42 (dk_at dksX6_readsBook_1 10 rfl rfl)
theorem dX6_readsBook_34 : decode cX6_readsBook 34 = .ok (.getfield 225, 3) := dk_180 0 225 (dk_at dksX6_readsBook_1 11 rfl rfl)
theorem dX6_readsBook_37 : decode cX6_readsBook 37 = .ok (.bipush 97, 2) := dk_16 97 (dk_at dksX6_readsBook_1 14 rfl rfl)
theorem dX6_readsBook_39 : decode cX6_readsBook 39 = .ok (.bipush 116, 2) := dk_16 116 (dk_at dksX6_readsBook_1 16 rfl rfl)
theorem dX6_readsBook_41 : decode cX6_readsBook 41 = .ok (.invokevirtual 228, 3) := dk_182 0 228 (dk_at dksX6_readsBook_1 18 rfl rfl)
theorem dX6_readsBook_44 : decode cX6_readsBook 44 = .ok (.ifCond .eq 33, 3) := dk_153 0 33 (dk_at dksX6_readsBook_1 21 rfl rfl)
theorem dX6_readsBook_47 : decode cX6_readsBook 47 = .ok (.iload_n 1, 1) := dk_27 (dk_at dksX6_readsBook_2 0 rfl rfl)
theorem dX6_readsBook_48 : decode cX6_readsBook 48 = .ok (.iconst 1, 1) := dk_4 (dk_at dksX6_readsBook_2 1 rfl rfl)
theorem dX6_readsBook_49 : decode cX6_readsBook 49 = .ok (.aload_n 0, 1) := dk_42 (dk_at dksX6_readsBook_2 2 rfl rfl)
theorem dX6_readsBook_50 : decode cX6_readsBook 50 = .ok (.getfield 26, 3) := dk_180 0 26 (dk_at dksX6_readsBook_2 3 rfl rfl)
theorem dX6_readsBook_53 : decode cX6_readsBook 53 = .ok (.aload_n 0, 1) := dk_42 (dk_at dksX6_readsBook_2 6 rfl rfl)
theorem dX6_readsBook_54 : decode cX6_readsBook 54 = .ok (.getfield 225, 3) := dk_180 0 225 (dk_at dksX6_readsBook_2 7 rfl rfl)
theorem dX6_readsBook_57 : decode cX6_readsBook 57 = .ok (.iaload, 1) := dk_46 (dk_at dksX6_readsBook_2 10 rfl rfl)
theorem dX6_readsBook_58 : decode cX6_readsBook 58 = .ok (.bipush 97, 2) := dk_16 97 (dk_at dksX6_readsBook_2 11 rfl rfl)
theorem dX6_readsBook_60 : decode cX6_readsBook 60 = .ok (.isub, 1) := dk_100 (dk_at dksX6_readsBook_2 13 rfl rfl)
theorem dX6_readsBook_61 : decode cX6_readsBook 61 = .ok (.ishl, 1) := dk_120 (dk_at dksX6_readsBook_2 14 rfl rfl)
theorem dX6_readsBook_62 : decode cX6_readsBook 62 = .ok (.ior, 1) := dk_128 (dk_at dksX6_readsBook_2 15 rfl rfl)
theorem dX6_readsBook_63 : decode cX6_readsBook 63 = .ok (.istore_n 1, 1) := dk_60 (dk_at dksX6_readsBook_2 16 rfl rfl)
theorem dX6_readsBook_64 : decode cX6_readsBook 64 = .ok (.aload_n 0, 1) := dk_42 (dk_at dksX6_readsBook_2 17 rfl rfl)
theorem dX6_readsBook_65 : decode cX6_readsBook 65 = .ok (.dup, 1) := dk_89 (dk_at dksX6_readsBook_2 18 rfl rfl)
theorem dX6_readsBook_66 : decode cX6_readsBook 66 = .ok (.getfield 225, 3) := dk_180 0 225 (dk_at dksX6_readsBook_2 19 rfl rfl)
theorem dX6_readsBook_69 : decode cX6_readsBook 69 = .ok (.iconst 1, 1) := dk_4 (dk_at dksX6_readsBook_2 22 rfl rfl)
theorem dX6_readsBook_70 : decode cX6_readsBook 70 = .ok (.iadd, 1) := dk_96 (dk_at dksX6_readsBook_2 23 rfl rfl)
theorem dX6_readsBook_71 : decode cX6_readsBook 71 = .ok (.putfield 225, 3) := dk_181 0 225 (dk_at dksX6_readsBook_3 0 rfl rfl)
theorem dX6_readsBook_74 : decode cX6_readsBook 74 = .ok (.goto (-42), 3) := dk_167 255 214 (dk_at dksX6_readsBook_3 3 rfl rfl)
theorem dX6_readsBook_77 : decode cX6_readsBook 77 = .ok (.aload_n 0, 1) := dk_42 (dk_at dksX6_readsBook_3 6 rfl rfl)
theorem dX6_readsBook_78 : decode cX6_readsBook 78 = .ok (.iload_n 1, 1) := dk_27 (dk_at dksX6_readsBook_3 7 rfl rfl)
theorem dX6_readsBook_79 : decode cX6_readsBook 79 = .ok (.invokevirtual 191, 3) := dk_182 0 191 (dk_at dksX6_readsBook_3 8 rfl rfl)
theorem dX6_readsBook_82 : decode cX6_readsBook 82 = .ok (.ifCond .lt 7, 3) := dk_155 0 7 (dk_at dksX6_readsBook_3 11 rfl rfl)
theorem dX6_readsBook_85 : decode cX6_readsBook 85 = .ok (.iconst 1, 1) := dk_4 (dk_at dksX6_readsBook_3 14 rfl rfl)
theorem dX6_readsBook_86 : decode cX6_readsBook 86 = .ok (.goto 4, 3) := dk_167 0 4 (dk_at dksX6_readsBook_3 15 rfl rfl)
theorem dX6_readsBook_89 : decode cX6_readsBook 89 = .ok (.iconst 0, 1) := dk_3 (dk_at dksX6_readsBook_3 18 rfl rfl)
theorem dX6_readsBook_90 : decode cX6_readsBook 90 = .ok (.ireturn, 1) := dk_172 (dk_at dksX6_readsBook_3 19 rfl rfl)
abbrev cX6_readsPair : ByteArray := prog_11_method_65_code
def yX6_readsPair : MethodName := ⟨RX6, "readsPair", "()Z"⟩
def dkwX6_readsPair_3 : List UInt8 := [181, 0, 225, 4, 172]
abbrev dktX6_readsPair_3 : List UInt8 := dkwX6_readsPair_3 ++ []
def dkwX6_readsPair_2 : List UInt8 := [184, 0, 75, 154, 0, 12, 42, 27, 28, 182, 0, 203, 156, 0, 5, 3, 172, 42, 89, 180, 0, 225, 4, 96]
abbrev dktX6_readsPair_2 : List UInt8 := dkwX6_readsPair_2 ++ dktX6_readsPair_3
def dkwX6_readsPair_1 : List UInt8 := [16, 48, 100, 61, 42, 28, 182, 0, 104, 153, 0, 28, 42, 180, 0, 7, 16, 20, 27, 96, 46, 28]
abbrev dktX6_readsPair_1 : List UInt8 := dkwX6_readsPair_1 ++ dktX6_readsPair_2
def dkwX6_readsPair_0 : List UInt8 := [42, 3, 42, 180, 0, 7, 3, 46, 4, 100, 182, 0, 246, 60, 27, 156, 0, 5, 3, 172, 42, 182, 0, 232]
abbrev dktX6_readsPair_0 : List UInt8 := dkwX6_readsPair_0 ++ dktX6_readsPair_1
theorem dksX6_readsPair_0 : cX6_readsPair.data.toList.drop 0 = dktX6_readsPair_0 := by decide +kernel
theorem dksX6_readsPair_1 : cX6_readsPair.data.toList.drop 24 = dktX6_readsPair_1 := dk_seg dksX6_readsPair_0 24 rfl rfl
theorem dksX6_readsPair_2 : cX6_readsPair.data.toList.drop 46 = dktX6_readsPair_2 := dk_seg dksX6_readsPair_1 22 rfl rfl
theorem dksX6_readsPair_3 : cX6_readsPair.data.toList.drop 70 = dktX6_readsPair_3 := dk_seg dksX6_readsPair_2 24 rfl rfl
theorem dX6_readsPair_0 : decode cX6_readsPair 0 = .ok (.aload_n 0, 1) := dk_42 (dk_at dksX6_readsPair_0 0 rfl rfl)
theorem dX6_readsPair_1 : decode cX6_readsPair 1 = .ok (.iconst 0, 1) := dk_3 (dk_at dksX6_readsPair_0 1 rfl rfl)
theorem dX6_readsPair_2 : decode cX6_readsPair 2 = .ok (.aload_n 0, 1) := dk_42 (dk_at dksX6_readsPair_0 2 rfl rfl)
theorem dX6_readsPair_3 : decode cX6_readsPair 3 = .ok (.getfield 7, 3) := dk_180 0 7 (dk_at dksX6_readsPair_0 3 rfl rfl)
theorem dX6_readsPair_6 : decode cX6_readsPair 6 = .ok (.iconst 0, 1) := dk_3 (dk_at dksX6_readsPair_0 6 rfl rfl)
theorem dX6_readsPair_7 : decode cX6_readsPair 7 = .ok (.iaload, 1) := dk_46 (dk_at dksX6_readsPair_0 7 rfl rfl)
theorem dX6_readsPair_8 : decode cX6_readsPair 8 = .ok (.iconst 1, 1) := dk_4 (dk_at dksX6_readsPair_0 8 rfl rfl)
theorem dX6_readsPair_9 : decode cX6_readsPair 9 = .ok (.isub, 1) := dk_100 (dk_at dksX6_readsPair_0 9 rfl rfl)
theorem dX6_readsPair_10 : decode cX6_readsPair 10 = .ok (.invokevirtual 246, 3) := dk_182 0 246 (dk_at dksX6_readsPair_0 10 rfl rfl)
theorem dX6_readsPair_13 : decode cX6_readsPair 13 = .ok (.istore_n 1, 1) := dk_60 (dk_at dksX6_readsPair_0 13 rfl rfl)
theorem dX6_readsPair_14 : decode cX6_readsPair 14 = .ok (.iload_n 1, 1) := dk_27 (dk_at dksX6_readsPair_0 14 rfl rfl)
theorem dX6_readsPair_15 : decode cX6_readsPair 15 = .ok (.ifCond .ge 5, 3) := dk_156 0 5 (dk_at dksX6_readsPair_0 15 rfl rfl)
theorem dX6_readsPair_18 : decode cX6_readsPair 18 = .ok (.iconst 0, 1) := dk_3 (dk_at dksX6_readsPair_0 18 rfl rfl)
theorem dX6_readsPair_19 : decode cX6_readsPair 19 = .ok (.ireturn, 1) := dk_172 (dk_at dksX6_readsPair_0 19 rfl rfl)
theorem dX6_readsPair_20 : decode cX6_readsPair 20 = .ok (.aload_n 0, 1) := dk_42 (dk_at dksX6_readsPair_0 20 rfl rfl)
theorem dX6_readsPair_21 : decode cX6_readsPair 21 = .ok (.invokevirtual 232, 3) := dk_182 0 232 (dk_at dksX6_readsPair_0 21 rfl rfl)
theorem dX6_readsPair_24 : decode cX6_readsPair 24 = .ok (.bipush 48, 2) := dk_16 48 (dk_at dksX6_readsPair_1 0 rfl rfl)
theorem dX6_readsPair_26 : decode cX6_readsPair 26 = .ok (.isub, 1) := dk_100 (dk_at dksX6_readsPair_1 2 rfl rfl)
theorem dX6_readsPair_27 : decode cX6_readsPair 27 = .ok (.istore_n 2, 1) := dk_61 (dk_at dksX6_readsPair_1 3 rfl rfl)
theorem dX6_readsPair_28 : decode cX6_readsPair 28 = .ok (.aload_n 0, 1) := dk_42 (dk_at dksX6_readsPair_1 4 rfl rfl)
theorem dX6_readsPair_29 : decode cX6_readsPair 29 = .ok (.iload_n 2, 1) := dk_28 (dk_at dksX6_readsPair_1 5 rfl rfl)
theorem dX6_readsPair_30 : decode cX6_readsPair 30 = .ok (.invokevirtual 104, 3) := dk_182 0 104 (dk_at dksX6_readsPair_1 6 rfl rfl)
theorem dX6_readsPair_33 : decode cX6_readsPair 33 = .ok (.ifCond .eq 28, 3) := dk_153 0 28 (dk_at dksX6_readsPair_1 9 rfl rfl)
theorem dX6_readsPair_36 : decode cX6_readsPair 36 = .ok (.aload_n 0, 1) := dk_42 (dk_at dksX6_readsPair_1 12 rfl rfl)
theorem dX6_readsPair_37 : decode cX6_readsPair 37 = .ok (.getfield 7, 3) := dk_180 0 7 (dk_at dksX6_readsPair_1 13 rfl rfl)
theorem dX6_readsPair_40 : decode cX6_readsPair 40 = .ok (.bipush 20, 2) := dk_16 20 (dk_at dksX6_readsPair_1 16 rfl rfl)
theorem dX6_readsPair_42 : decode cX6_readsPair 42 = .ok (.iload_n 1, 1) := dk_27 (dk_at dksX6_readsPair_1 18 rfl rfl)
theorem dX6_readsPair_43 : decode cX6_readsPair 43 = .ok (.iadd, 1) := dk_96 (dk_at dksX6_readsPair_1 19 rfl rfl)
theorem dX6_readsPair_44 : decode cX6_readsPair 44 = .ok (.iaload, 1) := dk_46 (dk_at dksX6_readsPair_1 20 rfl rfl)
theorem dX6_readsPair_45 : decode cX6_readsPair 45 = .ok (.iload_n 2, 1) := dk_28 (dk_at dksX6_readsPair_1 21 rfl rfl)
theorem dX6_readsPair_46 : decode cX6_readsPair 46 = .ok (.invokestatic 75, 3) := dk_184 0 75 (dk_at dksX6_readsPair_2 0 rfl rfl)
theorem dX6_readsPair_49 : decode cX6_readsPair 49 = .ok (.ifCond .ne 12, 3) := dk_154 0 12 (dk_at dksX6_readsPair_2 3 rfl rfl)
theorem dX6_readsPair_52 : decode cX6_readsPair 52 = .ok (.aload_n 0, 1) := dk_42 (dk_at dksX6_readsPair_2 6 rfl rfl)
theorem dX6_readsPair_53 : decode cX6_readsPair 53 = .ok (.iload_n 1, 1) := dk_27 (dk_at dksX6_readsPair_2 7 rfl rfl)
theorem dX6_readsPair_54 : decode cX6_readsPair 54 = .ok (.iload_n 2, 1) := dk_28 (dk_at dksX6_readsPair_2 8 rfl rfl)
theorem dX6_readsPair_55 : decode cX6_readsPair 55 = .ok (.invokevirtual 203, 3) := dk_182 0 203 (dk_at dksX6_readsPair_2 9 rfl rfl)
theorem dX6_readsPair_58 : decode cX6_readsPair 58 = .ok (.ifCond .ge 5, 3) := dk_156 0 5 (dk_at dksX6_readsPair_2 12 rfl rfl)
theorem dX6_readsPair_61 : decode cX6_readsPair 61 = .ok (.iconst 0, 1) := dk_3 (dk_at dksX6_readsPair_2 15 rfl rfl)
theorem dX6_readsPair_62 : decode cX6_readsPair 62 = .ok (.ireturn, 1) := dk_172 (dk_at dksX6_readsPair_2 16 rfl rfl)
theorem dX6_readsPair_63 : decode cX6_readsPair 63 = .ok (.aload_n 0, 1) := dk_42 (dk_at dksX6_readsPair_2 17 rfl rfl)
theorem dX6_readsPair_64 : decode cX6_readsPair 64 = .ok (.dup, 1) := dk_89 (dk_at dksX6_readsPair_2 18 rfl rfl)
theorem dX6_readsPair_65 : decode cX6_readsPair 65 = .ok (.getfield 225, 3) := dk_180 0 225 (dk_at dksX6_readsPair_2 19 rfl rfl)
theorem dX6_readsPair_68 : decode cX6_readsPair 68 = .ok (.iconst 1, 1) := dk_4 (dk_at dksX6_readsPair_2 22 rfl rfl)
theorem dX6_readsPair_69 : decode cX6_readsPair 69 = .ok (.iadd, 1) := dk_96 (dk_at dksX6_readsPair_2 23 rfl rfl)
theorem dX6_readsPair_70 : decode cX6_readsPair 70 = .ok (.putfield 225, 3) := dk_181 0 225 (dk_at dksX6_readsPair_3 0 rfl rfl)
theorem dX6_readsPair_73 : decode cX6_readsPair 73 = .ok (.iconst 1, 1) := dk_4 (dk_at dksX6_readsPair_3 3 rfl rfl)
theorem dX6_readsPair_74 : decode cX6_readsPair 74 = .ok (.ireturn, 1) := dk_172 (dk_at dksX6_readsPair_3 4 rfl rfl)
abbrev cX6_drift : ByteArray := prog_11_method_70_code
def yX6_drift : MethodName := ⟨RX6, "drift", "(I)I"⟩
def dkwX6_drift_3 : List UInt8 := [180, 0, 7, 3, 46, 172]
abbrev dktX6_drift_3 : List UInt8 := dkwX6_drift_3 ++ []
def dkwX6_drift_2 : List UInt8 := [42, 42, 29, 21, 4, 19, 1, 20, 112, 182, 1, 21, 181, 1, 24, 132, 2, 1, 167, 255, 208, 42]
abbrev dktX6_drift_2 : List UInt8 := dkwX6_drift_2 ++ dktX6_drift_3
def dkwX6_drift_1 : List UInt8 := [182, 0, 188, 42, 182, 0, 169, 42, 19, 1, 16, 182, 1, 17, 62, 42, 17, 8, 0, 182, 1, 17, 54, 4]
abbrev dktX6_drift_1 : List UInt8 := dkwX6_drift_1 ++ dktX6_drift_2
def dkwX6_drift_0 : List UInt8 := [27, 133, 10, 20, 1, 14, 184, 0, 71, 154, 0, 5, 2, 172, 3, 61, 28, 27, 162, 0, 49, 42]
abbrev dktX6_drift_0 : List UInt8 := dkwX6_drift_0 ++ dktX6_drift_1
theorem dksX6_drift_0 : cX6_drift.data.toList.drop 0 = dktX6_drift_0 := by decide +kernel
theorem dksX6_drift_1 : cX6_drift.data.toList.drop 22 = dktX6_drift_1 := dk_seg dksX6_drift_0 22 rfl rfl
theorem dksX6_drift_2 : cX6_drift.data.toList.drop 46 = dktX6_drift_2 := dk_seg dksX6_drift_1 24 rfl rfl
theorem dksX6_drift_3 : cX6_drift.data.toList.drop 68 = dktX6_drift_3 := dk_seg dksX6_drift_2 22 rfl rfl
theorem dX6_drift_0 : decode cX6_drift 0 = .ok (.iload_n 1, 1) := dk_27 (dk_at dksX6_drift_0 0 rfl rfl)
theorem dX6_drift_1 : decode cX6_drift 1 = .ok (.i2l, 1) := dk_133 (dk_at dksX6_drift_0 1 rfl rfl)
theorem dX6_drift_2 : decode cX6_drift 2 = .ok (.lconst 1, 1) := dk_10 (dk_at dksX6_drift_0 2 rfl rfl)
theorem dX6_drift_3 : decode cX6_drift 3 = .ok (.ldc2_w 270, 3) := dk_20 1 14 (dk_at dksX6_drift_0 3 rfl rfl)
theorem dX6_drift_6 : decode cX6_drift 6 = .ok (.invokestatic 71, 3) := dk_184 0 71 (dk_at dksX6_drift_0 6 rfl rfl)
theorem dX6_drift_9 : decode cX6_drift 9 = .ok (.ifCond .ne 5, 3) := dk_154 0 5 (dk_at dksX6_drift_0 9 rfl rfl)
theorem dX6_drift_12 : decode cX6_drift 12 = .ok (.iconst (-1), 1) := dk_2 (dk_at dksX6_drift_0 12 rfl rfl)
theorem dX6_drift_13 : decode cX6_drift 13 = .ok (.ireturn, 1) := dk_172 (dk_at dksX6_drift_0 13 rfl rfl)
theorem dX6_drift_14 : decode cX6_drift 14 = .ok (.iconst 0, 1) := dk_3 (dk_at dksX6_drift_0 14 rfl rfl)
theorem dX6_drift_15 : decode cX6_drift 15 = .ok (.istore_n 2, 1) := dk_61 (dk_at dksX6_drift_0 15 rfl rfl)
theorem dX6_drift_16 : decode cX6_drift 16 = .ok (.iload_n 2, 1) := dk_28 (dk_at dksX6_drift_0 16 rfl rfl)
theorem dX6_drift_17 : decode cX6_drift 17 = .ok (.iload_n 1, 1) := dk_27 (dk_at dksX6_drift_0 17 rfl rfl)
theorem dX6_drift_18 : decode cX6_drift 18 = .ok (.if_icmp .ge 49, 3) := dk_162 0 49 (dk_at dksX6_drift_0 18 rfl rfl)
theorem dX6_drift_21 : decode cX6_drift 21 = .ok (.aload_n 0, 1) := dk_42 (dk_at dksX6_drift_0 21 rfl rfl)
theorem dX6_drift_22 : decode cX6_drift 22 = .ok (.invokevirtual 188, 3) := dk_182 0 188 (dk_at dksX6_drift_1 0 rfl rfl)
theorem dX6_drift_25 : decode cX6_drift 25 = .ok (.aload_n 0, 1) := dk_42 (dk_at dksX6_drift_1 3 rfl rfl)
theorem dX6_drift_26 : decode cX6_drift 26 = .ok (.invokevirtual 169, 3) := dk_182 0 169 (dk_at dksX6_drift_1 4 rfl rfl)
theorem dX6_drift_29 : decode cX6_drift 29 = .ok (.aload_n 0, 1) := dk_42 (dk_at dksX6_drift_1 7 rfl rfl)
theorem dX6_drift_30 : decode cX6_drift 30 = .ok (.ldc_w 272, 3) := dk_19 1 16 (dk_at dksX6_drift_1 8 rfl rfl)
theorem dX6_drift_33 : decode cX6_drift 33 = .ok (.invokevirtual 273, 3) := dk_182 1 17 (dk_at dksX6_drift_1 11 rfl rfl)
theorem dX6_drift_36 : decode cX6_drift 36 = .ok (.istore_n 3, 1) := dk_62 (dk_at dksX6_drift_1 14 rfl rfl)
theorem dX6_drift_37 : decode cX6_drift 37 = .ok (.aload_n 0, 1) := dk_42 (dk_at dksX6_drift_1 15 rfl rfl)
theorem dX6_drift_38 : decode cX6_drift 38 = .ok (.sipush 2048, 3) := dk_17 8 0 (dk_at dksX6_drift_1 16 rfl rfl)
theorem dX6_drift_41 : decode cX6_drift 41 = .ok (.invokevirtual 273, 3) := dk_182 1 17 (dk_at dksX6_drift_1 19 rfl rfl)
theorem dX6_drift_44 : decode cX6_drift 44 = .ok (.istore 4, 2) := dk_54 4 (dk_at dksX6_drift_1 22 rfl rfl)
theorem dX6_drift_46 : decode cX6_drift 46 = .ok (.aload_n 0, 1) := dk_42 (dk_at dksX6_drift_2 0 rfl rfl)
theorem dX6_drift_47 : decode cX6_drift 47 = .ok (.aload_n 0, 1) := dk_42 (dk_at dksX6_drift_2 1 rfl rfl)
theorem dX6_drift_48 : decode cX6_drift 48 = .ok (.iload_n 3, 1) := dk_29 (dk_at dksX6_drift_2 2 rfl rfl)
theorem dX6_drift_49 : decode cX6_drift 49 = .ok (.iload 4, 2) := dk_21 4 (dk_at dksX6_drift_2 3 rfl rfl)
theorem dX6_drift_51 : decode cX6_drift 51 = .ok (.ldc_w 276, 3) := dk_19 1 20 (dk_at dksX6_drift_2 5 rfl rfl)
theorem dX6_drift_54 : decode cX6_drift 54 = .ok (.irem, 1) := dk_112 (dk_at dksX6_drift_2 8 rfl rfl)
theorem dX6_drift_55 : decode cX6_drift 55 = .ok (.invokevirtual 277, 3) := dk_182 1 21 (dk_at dksX6_drift_2 9 rfl rfl)
theorem dX6_drift_58 : decode cX6_drift 58 = .ok (.putfield 280, 3) := dk_181 1 24 (dk_at dksX6_drift_2 12 rfl rfl)
theorem dX6_drift_61 : decode cX6_drift 61 = .ok (.iinc 2 1, 3) := dk_132 2 1 (dk_at dksX6_drift_2 15 rfl rfl)
theorem dX6_drift_64 : decode cX6_drift 64 = .ok (.goto (-48), 3) := dk_167 255 208 (dk_at dksX6_drift_2 18 rfl rfl)
theorem dX6_drift_67 : decode cX6_drift 67 = .ok (.aload_n 0, 1) := dk_42 (dk_at dksX6_drift_2 21 rfl rfl)
theorem dX6_drift_68 : decode cX6_drift 68 = .ok (.getfield 7, 3) := dk_180 0 7 (dk_at dksX6_drift_3 0 rfl rfl)
theorem dX6_drift_71 : decode cX6_drift 71 = .ok (.iconst 0, 1) := dk_3 (dk_at dksX6_drift_3 3 rfl rfl)
theorem dX6_drift_72 : decode cX6_drift 72 = .ok (.iaload, 1) := dk_46 (dk_at dksX6_drift_3 4 rfl rfl)
theorem dX6_drift_73 : decode cX6_drift 73 = .ok (.ireturn, 1) := dk_172 (dk_at dksX6_drift_3 5 rfl rfl)
abbrev cX6_draws : ByteArray := prog_11_method_68_code
def yX6_draws : MethodName := ⟨RX6, "draws", "(I)I"⟩
def dkwX6_draws_1 : List UInt8 := [136, 79, 42, 180, 0, 7, 8, 46, 27, 108, 172]
abbrev dktX6_draws_1 : List UInt8 := dkwX6_draws_1 ++ []
def dkwX6_draws_0 : List UInt8 := [42, 180, 0, 7, 8, 42, 180, 0, 7, 8, 46, 133, 20, 1, 8, 105, 20, 1, 10, 97, 20, 1, 12, 127]
abbrev dktX6_draws_0 : List UInt8 := dkwX6_draws_0 ++ dktX6_draws_1
theorem dksX6_draws_0 : cX6_draws.data.toList.drop 0 = dktX6_draws_0 := by decide +kernel
theorem dksX6_draws_1 : cX6_draws.data.toList.drop 24 = dktX6_draws_1 := dk_seg dksX6_draws_0 24 rfl rfl
theorem dX6_draws_0 : decode cX6_draws 0 = .ok (.aload_n 0, 1) := dk_42 (dk_at dksX6_draws_0 0 rfl rfl)
theorem dX6_draws_1 : decode cX6_draws 1 = .ok (.getfield 7, 3) := dk_180 0 7 (dk_at dksX6_draws_0 1 rfl rfl)
theorem dX6_draws_4 : decode cX6_draws 4 = .ok (.iconst 5, 1) := dk_8 (dk_at dksX6_draws_0 4 rfl rfl)
theorem dX6_draws_5 : decode cX6_draws 5 = .ok (.aload_n 0, 1) := dk_42 (dk_at dksX6_draws_0 5 rfl rfl)
theorem dX6_draws_6 : decode cX6_draws 6 = .ok (.getfield 7, 3) := dk_180 0 7 (dk_at dksX6_draws_0 6 rfl rfl)
theorem dX6_draws_9 : decode cX6_draws 9 = .ok (.iconst 5, 1) := dk_8 (dk_at dksX6_draws_0 9 rfl rfl)
theorem dX6_draws_10 : decode cX6_draws 10 = .ok (.iaload, 1) := dk_46 (dk_at dksX6_draws_0 10 rfl rfl)
theorem dX6_draws_11 : decode cX6_draws 11 = .ok (.i2l, 1) := dk_133 (dk_at dksX6_draws_0 11 rfl rfl)
theorem dX6_draws_12 : decode cX6_draws 12 = .ok (.ldc2_w 264, 3) := dk_20 1 8 (dk_at dksX6_draws_0 12 rfl rfl)
theorem dX6_draws_15 : decode cX6_draws 15 = .ok (.lmul, 1) := dk_105 (dk_at dksX6_draws_0 15 rfl rfl)
theorem dX6_draws_16 : decode cX6_draws 16 = .ok (.ldc2_w 266, 3) := dk_20 1 10 (dk_at dksX6_draws_0 16 rfl rfl)
theorem dX6_draws_19 : decode cX6_draws 19 = .ok (.ladd, 1) := dk_97 (dk_at dksX6_draws_0 19 rfl rfl)
theorem dX6_draws_20 : decode cX6_draws 20 = .ok (.ldc2_w 268, 3) := dk_20 1 12 (dk_at dksX6_draws_0 20 rfl rfl)
theorem dX6_draws_23 : decode cX6_draws 23 = .ok (.land, 1) := dk_127 (dk_at dksX6_draws_0 23 rfl rfl)
theorem dX6_draws_24 : decode cX6_draws 24 = .ok (.l2i, 1) := dk_136 (dk_at dksX6_draws_1 0 rfl rfl)
theorem dX6_draws_25 : decode cX6_draws 25 = .ok (.iastore, 1) := dk_79 (dk_at dksX6_draws_1 1 rfl rfl)
theorem dX6_draws_26 : decode cX6_draws 26 = .ok (.aload_n 0, 1) := dk_42 (dk_at dksX6_draws_1 2 rfl rfl)
theorem dX6_draws_27 : decode cX6_draws 27 = .ok (.getfield 7, 3) := dk_180 0 7 (dk_at dksX6_draws_1 3 rfl rfl)
theorem dX6_draws_30 : decode cX6_draws 30 = .ok (.iconst 5, 1) := dk_8 (dk_at dksX6_draws_1 6 rfl rfl)
theorem dX6_draws_31 : decode cX6_draws 31 = .ok (.iaload, 1) := dk_46 (dk_at dksX6_draws_1 7 rfl rfl)
theorem dX6_draws_32 : decode cX6_draws 32 = .ok (.iload_n 1, 1) := dk_27 (dk_at dksX6_draws_1 8 rfl rfl)
theorem dX6_draws_33 : decode cX6_draws 33 = .ok (.idiv, 1) := dk_108 (dk_at dksX6_draws_1 9 rfl rfl)
theorem dX6_draws_34 : decode cX6_draws 34 = .ok (.ireturn, 1) := dk_172 (dk_at dksX6_draws_1 10 rfl rfl)
abbrev cX6_does : ByteArray := prog_11_method_69_code
def yX6_does : MethodName := ⟨RX6, "does", "(II)I"⟩
def dkwX6_does_4 : List UInt8 := [16, 8, 108, 6, 112, 182, 0, 209, 172]
abbrev dktX6_does_4 : List UInt8 := dkwX6_does_4 ++ []
def dkwX6_does_3 : List UInt8 := [21, 4, 182, 0, 212, 172, 42, 3, 27, 16, 8, 108, 7, 112, 4, 96, 182, 0, 209, 172, 42, 5, 27]
abbrev dktX6_does_3 : List UInt8 := dkwX6_does_3 ++ dktX6_does_4
def dkwX6_does_2 : List UInt8 := [42, 28, 182, 0, 191, 172, 42, 29, 28, 182, 0, 197, 172, 42, 29, 21, 4, 182, 0, 203, 172, 42, 29]
abbrev dktX6_does_2 : List UInt8 := dkwX6_does_2 ++ dktX6_does_3
def dkwX6_does_1 : List UInt8 := [170, 0, 0, 0, 0, 0, 86, 0, 0, 0, 0, 0, 0, 0, 6, 0, 0, 0, 43, 0, 0, 0, 43, 0, 0, 0, 49, 0, 0, 0, 56, 0, 0, 0, 64, 0, 0, 0, 64, 0, 0, 0, 72]
abbrev dktX6_does_1 : List UInt8 := dkwX6_does_1 ++ dktX6_does_2
def dkwX6_does_0 : List UInt8 := [27, 16, 8, 108, 16, 7, 112, 62, 27, 16, 64, 108, 16, 7, 112, 54, 4, 27, 16, 8, 112]
abbrev dktX6_does_0 : List UInt8 := dkwX6_does_0 ++ dktX6_does_1
theorem dksX6_does_0 : cX6_does.data.toList.drop 0 = dktX6_does_0 := by decide +kernel
theorem dksX6_does_1 : cX6_does.data.toList.drop 21 = dktX6_does_1 := dk_seg dksX6_does_0 21 rfl rfl
theorem dksX6_does_2 : cX6_does.data.toList.drop 64 = dktX6_does_2 := dk_seg dksX6_does_1 43 rfl rfl
theorem dksX6_does_3 : cX6_does.data.toList.drop 87 = dktX6_does_3 := dk_seg dksX6_does_2 23 rfl rfl
theorem dksX6_does_4 : cX6_does.data.toList.drop 110 = dktX6_does_4 := dk_seg dksX6_does_3 23 rfl rfl
theorem dX6_does_0 : decode cX6_does 0 = .ok (.iload_n 1, 1) := dk_27 (dk_at dksX6_does_0 0 rfl rfl)
theorem dX6_does_1 : decode cX6_does 1 = .ok (.bipush 8, 2) := dk_16 8 (dk_at dksX6_does_0 1 rfl rfl)
theorem dX6_does_3 : decode cX6_does 3 = .ok (.idiv, 1) := dk_108 (dk_at dksX6_does_0 3 rfl rfl)
theorem dX6_does_4 : decode cX6_does 4 = .ok (.bipush 7, 2) := dk_16 7 (dk_at dksX6_does_0 4 rfl rfl)
theorem dX6_does_6 : decode cX6_does 6 = .ok (.irem, 1) := dk_112 (dk_at dksX6_does_0 6 rfl rfl)
theorem dX6_does_7 : decode cX6_does 7 = .ok (.istore_n 3, 1) := dk_62 (dk_at dksX6_does_0 7 rfl rfl)
theorem dX6_does_8 : decode cX6_does 8 = .ok (.iload_n 1, 1) := dk_27 (dk_at dksX6_does_0 8 rfl rfl)
theorem dX6_does_9 : decode cX6_does 9 = .ok (.bipush 64, 2) := dk_16 64 (dk_at dksX6_does_0 9 rfl rfl)
theorem dX6_does_11 : decode cX6_does 11 = .ok (.idiv, 1) := dk_108 (dk_at dksX6_does_0 11 rfl rfl)
theorem dX6_does_12 : decode cX6_does 12 = .ok (.bipush 7, 2) := dk_16 7 (dk_at dksX6_does_0 12 rfl rfl)
theorem dX6_does_14 : decode cX6_does 14 = .ok (.irem, 1) := dk_112 (dk_at dksX6_does_0 14 rfl rfl)
theorem dX6_does_15 : decode cX6_does 15 = .ok (.istore 4, 2) := dk_54 4 (dk_at dksX6_does_0 15 rfl rfl)
theorem dX6_does_17 : decode cX6_does 17 = .ok (.iload_n 1, 1) := dk_27 (dk_at dksX6_does_0 17 rfl rfl)
theorem dX6_does_18 : decode cX6_does 18 = .ok (.bipush 8, 2) := dk_16 8 (dk_at dksX6_does_0 18 rfl rfl)
theorem dX6_does_20 : decode cX6_does 20 = .ok (.irem, 1) := dk_112 (dk_at dksX6_does_0 20 rfl rfl)
theorem dX6_does_21 : decode cX6_does 21 = .ok (.tableswitch 86 0 6 #[43, 43, 49, 56, 64, 64, 72], 43) := by decide +kernel
theorem dX6_does_64 : decode cX6_does 64 = .ok (.aload_n 0, 1) := dk_42 (dk_at dksX6_does_2 0 rfl rfl)
theorem dX6_does_65 : decode cX6_does 65 = .ok (.iload_n 2, 1) := dk_28 (dk_at dksX6_does_2 1 rfl rfl)
theorem dX6_does_66 : decode cX6_does 66 = .ok (.invokevirtual 191, 3) := dk_182 0 191 (dk_at dksX6_does_2 2 rfl rfl)
theorem dX6_does_69 : decode cX6_does 69 = .ok (.ireturn, 1) := dk_172 (dk_at dksX6_does_2 5 rfl rfl)
theorem dX6_does_70 : decode cX6_does 70 = .ok (.aload_n 0, 1) := dk_42 (dk_at dksX6_does_2 6 rfl rfl)
theorem dX6_does_71 : decode cX6_does 71 = .ok (.iload_n 3, 1) := dk_29 (dk_at dksX6_does_2 7 rfl rfl)
theorem dX6_does_72 : decode cX6_does 72 = .ok (.iload_n 2, 1) := dk_28 (dk_at dksX6_does_2 8 rfl rfl)
theorem dX6_does_73 : decode cX6_does 73 = .ok (.invokevirtual 197, 3) := dk_182 0 197 (dk_at dksX6_does_2 9 rfl rfl)
theorem dX6_does_76 : decode cX6_does 76 = .ok (.ireturn, 1) := dk_172 (dk_at dksX6_does_2 12 rfl rfl)
theorem dX6_does_77 : decode cX6_does 77 = .ok (.aload_n 0, 1) := dk_42 (dk_at dksX6_does_2 13 rfl rfl)
theorem dX6_does_78 : decode cX6_does 78 = .ok (.iload_n 3, 1) := dk_29 (dk_at dksX6_does_2 14 rfl rfl)
theorem dX6_does_79 : decode cX6_does 79 = .ok (.iload 4, 2) := dk_21 4 (dk_at dksX6_does_2 15 rfl rfl)
theorem dX6_does_81 : decode cX6_does 81 = .ok (.invokevirtual 203, 3) := dk_182 0 203 (dk_at dksX6_does_2 17 rfl rfl)
theorem dX6_does_84 : decode cX6_does 84 = .ok (.ireturn, 1) := dk_172 (dk_at dksX6_does_2 20 rfl rfl)
theorem dX6_does_85 : decode cX6_does 85 = .ok (.aload_n 0, 1) := dk_42 (dk_at dksX6_does_2 21 rfl rfl)
theorem dX6_does_86 : decode cX6_does 86 = .ok (.iload_n 3, 1) := dk_29 (dk_at dksX6_does_2 22 rfl rfl)
theorem dX6_does_87 : decode cX6_does 87 = .ok (.iload 4, 2) := dk_21 4 (dk_at dksX6_does_3 0 rfl rfl)
theorem dX6_does_89 : decode cX6_does 89 = .ok (.invokevirtual 212, 3) := dk_182 0 212 (dk_at dksX6_does_3 2 rfl rfl)
theorem dX6_does_92 : decode cX6_does 92 = .ok (.ireturn, 1) := dk_172 (dk_at dksX6_does_3 5 rfl rfl)
theorem dX6_does_93 : decode cX6_does 93 = .ok (.aload_n 0, 1) := dk_42 (dk_at dksX6_does_3 6 rfl rfl)
theorem dX6_does_94 : decode cX6_does 94 = .ok (.iconst 0, 1) := dk_3 (dk_at dksX6_does_3 7 rfl rfl)
theorem dX6_does_95 : decode cX6_does 95 = .ok (.iload_n 1, 1) := dk_27 (dk_at dksX6_does_3 8 rfl rfl)
theorem dX6_does_96 : decode cX6_does 96 = .ok (.bipush 8, 2) := dk_16 8 (dk_at dksX6_does_3 9 rfl rfl)
theorem dX6_does_98 : decode cX6_does 98 = .ok (.idiv, 1) := dk_108 (dk_at dksX6_does_3 11 rfl rfl)
theorem dX6_does_99 : decode cX6_does 99 = .ok (.iconst 4, 1) := dk_7 (dk_at dksX6_does_3 12 rfl rfl)
theorem dX6_does_100 : decode cX6_does 100 = .ok (.irem, 1) := dk_112 (dk_at dksX6_does_3 13 rfl rfl)
theorem dX6_does_101 : decode cX6_does 101 = .ok (.iconst 1, 1) := dk_4 (dk_at dksX6_does_3 14 rfl rfl)
theorem dX6_does_102 : decode cX6_does 102 = .ok (.iadd, 1) := dk_96 (dk_at dksX6_does_3 15 rfl rfl)
theorem dX6_does_103 : decode cX6_does 103 = .ok (.invokevirtual 209, 3) := dk_182 0 209 (dk_at dksX6_does_3 16 rfl rfl)
theorem dX6_does_106 : decode cX6_does 106 = .ok (.ireturn, 1) := dk_172 (dk_at dksX6_does_3 19 rfl rfl)
theorem dX6_does_107 : decode cX6_does 107 = .ok (.aload_n 0, 1) := dk_42 (dk_at dksX6_does_3 20 rfl rfl)
theorem dX6_does_108 : decode cX6_does 108 = .ok (.iconst 2, 1) := dk_5 (dk_at dksX6_does_3 21 rfl rfl)
theorem dX6_does_109 : decode cX6_does 109 = .ok (.iload_n 1, 1) := dk_27 (dk_at dksX6_does_3 22 rfl rfl)
theorem dX6_does_110 : decode cX6_does 110 = .ok (.bipush 8, 2) := dk_16 8 (dk_at dksX6_does_4 0 rfl rfl)
theorem dX6_does_112 : decode cX6_does 112 = .ok (.idiv, 1) := dk_108 (dk_at dksX6_does_4 2 rfl rfl)
theorem dX6_does_113 : decode cX6_does 113 = .ok (.iconst 3, 1) := dk_6 (dk_at dksX6_does_4 3 rfl rfl)
theorem dX6_does_114 : decode cX6_does 114 = .ok (.irem, 1) := dk_112 (dk_at dksX6_does_4 4 rfl rfl)
theorem dX6_does_115 : decode cX6_does 115 = .ok (.invokevirtual 209, 3) := dk_182 0 209 (dk_at dksX6_does_4 5 rfl rfl)
theorem dX6_does_118 : decode cX6_does 118 = .ok (.ireturn, 1) := dk_172 (dk_at dksX6_does_4 8 rfl rfl)
abbrev cX6_undo : ByteArray := prog_11_method_71_code
def yX6_undo : MethodName := ⟨RX6, "undo", "()I"⟩
def dkwX6_undo_2 : List UInt8 := [79, 132, 1, 1, 167, 255, 227, 42, 180, 0, 128, 172]
abbrev dktX6_undo_2 : List UInt8 := dkwX6_undo_2 ++ []
def dkwX6_undo_1 : List UInt8 := [16, 27, 162, 0, 29, 42, 180, 0, 7, 27, 42, 180, 0, 13, 16, 27, 42, 180, 0, 128, 104, 27, 96, 46]
abbrev dktX6_undo_1 : List UInt8 := dkwX6_undo_1 ++ dktX6_undo_2
def dkwX6_undo_0 : List UInt8 := [42, 180, 0, 128, 154, 0, 6, 16, 252, 172, 42, 89, 180, 0, 128, 4, 100, 181, 0, 128, 3, 60, 27]
abbrev dktX6_undo_0 : List UInt8 := dkwX6_undo_0 ++ dktX6_undo_1
theorem dksX6_undo_0 : cX6_undo.data.toList.drop 0 = dktX6_undo_0 := by decide +kernel
theorem dksX6_undo_1 : cX6_undo.data.toList.drop 23 = dktX6_undo_1 := dk_seg dksX6_undo_0 23 rfl rfl
theorem dksX6_undo_2 : cX6_undo.data.toList.drop 47 = dktX6_undo_2 := dk_seg dksX6_undo_1 24 rfl rfl
theorem dX6_undo_0 : decode cX6_undo 0 = .ok (.aload_n 0, 1) := dk_42 (dk_at dksX6_undo_0 0 rfl rfl)
theorem dX6_undo_1 : decode cX6_undo 1 = .ok (.getfield 128, 3) := dk_180 0 128 (dk_at dksX6_undo_0 1 rfl rfl)
theorem dX6_undo_4 : decode cX6_undo 4 = .ok (.ifCond .ne 6, 3) := dk_154 0 6 (dk_at dksX6_undo_0 4 rfl rfl)
theorem dX6_undo_7 : decode cX6_undo 7 = .ok (.bipush (-4), 2) := dk_16 252 (dk_at dksX6_undo_0 7 rfl rfl)
theorem dX6_undo_9 : decode cX6_undo 9 = .ok (.ireturn, 1) := dk_172 (dk_at dksX6_undo_0 9 rfl rfl)
theorem dX6_undo_10 : decode cX6_undo 10 = .ok (.aload_n 0, 1) := dk_42 (dk_at dksX6_undo_0 10 rfl rfl)
theorem dX6_undo_11 : decode cX6_undo 11 = .ok (.dup, 1) := dk_89 (dk_at dksX6_undo_0 11 rfl rfl)
theorem dX6_undo_12 : decode cX6_undo 12 = .ok (.getfield 128, 3) := dk_180 0 128 (dk_at dksX6_undo_0 12 rfl rfl)
theorem dX6_undo_15 : decode cX6_undo 15 = .ok (.iconst 1, 1) := dk_4 (dk_at dksX6_undo_0 15 rfl rfl)
theorem dX6_undo_16 : decode cX6_undo 16 = .ok (.isub, 1) := dk_100 (dk_at dksX6_undo_0 16 rfl rfl)
theorem dX6_undo_17 : decode cX6_undo 17 = .ok (.putfield 128, 3) := dk_181 0 128 (dk_at dksX6_undo_0 17 rfl rfl)
theorem dX6_undo_20 : decode cX6_undo 20 = .ok (.iconst 0, 1) := dk_3 (dk_at dksX6_undo_0 20 rfl rfl)
theorem dX6_undo_21 : decode cX6_undo 21 = .ok (.istore_n 1, 1) := dk_60 (dk_at dksX6_undo_0 21 rfl rfl)
theorem dX6_undo_22 : decode cX6_undo 22 = .ok (.iload_n 1, 1) := dk_27 (dk_at dksX6_undo_0 22 rfl rfl)
theorem dX6_undo_23 : decode cX6_undo 23 = .ok (.bipush 27, 2) := dk_16 27 (dk_at dksX6_undo_1 0 rfl rfl)
theorem dX6_undo_25 : decode cX6_undo 25 = .ok (.if_icmp .ge 29, 3) := dk_162 0 29 (dk_at dksX6_undo_1 2 rfl rfl)
theorem dX6_undo_28 : decode cX6_undo 28 = .ok (.aload_n 0, 1) := dk_42 (dk_at dksX6_undo_1 5 rfl rfl)
theorem dX6_undo_29 : decode cX6_undo 29 = .ok (.getfield 7, 3) := dk_180 0 7 (dk_at dksX6_undo_1 6 rfl rfl)
theorem dX6_undo_32 : decode cX6_undo 32 = .ok (.iload_n 1, 1) := dk_27 (dk_at dksX6_undo_1 9 rfl rfl)
theorem dX6_undo_33 : decode cX6_undo 33 = .ok (.aload_n 0, 1) := dk_42 (dk_at dksX6_undo_1 10 rfl rfl)
theorem dX6_undo_34 : decode cX6_undo 34 = .ok (.getfield 13, 3) := dk_180 0 13 (dk_at dksX6_undo_1 11 rfl rfl)
theorem dX6_undo_37 : decode cX6_undo 37 = .ok (.bipush 27, 2) := dk_16 27 (dk_at dksX6_undo_1 14 rfl rfl)
theorem dX6_undo_39 : decode cX6_undo 39 = .ok (.aload_n 0, 1) := dk_42 (dk_at dksX6_undo_1 16 rfl rfl)
theorem dX6_undo_40 : decode cX6_undo 40 = .ok (.getfield 128, 3) := dk_180 0 128 (dk_at dksX6_undo_1 17 rfl rfl)
theorem dX6_undo_43 : decode cX6_undo 43 = .ok (.imul, 1) := dk_104 (dk_at dksX6_undo_1 20 rfl rfl)
theorem dX6_undo_44 : decode cX6_undo 44 = .ok (.iload_n 1, 1) := dk_27 (dk_at dksX6_undo_1 21 rfl rfl)
theorem dX6_undo_45 : decode cX6_undo 45 = .ok (.iadd, 1) := dk_96 (dk_at dksX6_undo_1 22 rfl rfl)
theorem dX6_undo_46 : decode cX6_undo 46 = .ok (.iaload, 1) := dk_46 (dk_at dksX6_undo_1 23 rfl rfl)
theorem dX6_undo_47 : decode cX6_undo 47 = .ok (.iastore, 1) := dk_79 (dk_at dksX6_undo_2 0 rfl rfl)
theorem dX6_undo_48 : decode cX6_undo 48 = .ok (.iinc 1 1, 3) := dk_132 1 1 (dk_at dksX6_undo_2 1 rfl rfl)
theorem dX6_undo_51 : decode cX6_undo 51 = .ok (.goto (-29), 3) := dk_167 255 227 (dk_at dksX6_undo_2 4 rfl rfl)
theorem dX6_undo_54 : decode cX6_undo 54 = .ok (.aload_n 0, 1) := dk_42 (dk_at dksX6_undo_2 7 rfl rfl)
theorem dX6_undo_55 : decode cX6_undo 55 = .ok (.getfield 128, 3) := dk_180 0 128 (dk_at dksX6_undo_2 8 rfl rfl)
theorem dX6_undo_58 : decode cX6_undo 58 = .ok (.ireturn, 1) := dk_172 (dk_at dksX6_undo_2 11 rfl rfl)
abbrev cX6_seed : ByteArray := prog_11_method_72_code
def yX6_seed : MethodName := ⟨RX6, "seed", "(I)I"⟩
def dkwX6_seed_0 : List UInt8 := [27, 156, 0, 5, 2, 172, 42, 180, 0, 7, 8, 46, 61, 42, 180, 0, 7, 8, 27, 79, 28, 172]
abbrev dktX6_seed_0 : List UInt8 := dkwX6_seed_0 ++ []
theorem dksX6_seed_0 : cX6_seed.data.toList.drop 0 = dktX6_seed_0 := by decide +kernel
theorem dX6_seed_0 : decode cX6_seed 0 = .ok (.iload_n 1, 1) := dk_27 (dk_at dksX6_seed_0 0 rfl rfl)
theorem dX6_seed_1 : decode cX6_seed 1 = .ok (.ifCond .ge 5, 3) := dk_156 0 5 (dk_at dksX6_seed_0 1 rfl rfl)
theorem dX6_seed_4 : decode cX6_seed 4 = .ok (.iconst (-1), 1) := dk_2 (dk_at dksX6_seed_0 4 rfl rfl)
theorem dX6_seed_5 : decode cX6_seed 5 = .ok (.ireturn, 1) := dk_172 (dk_at dksX6_seed_0 5 rfl rfl)
theorem dX6_seed_6 : decode cX6_seed 6 = .ok (.aload_n 0, 1) := dk_42 (dk_at dksX6_seed_0 6 rfl rfl)
theorem dX6_seed_7 : decode cX6_seed 7 = .ok (.getfield 7, 3) := dk_180 0 7 (dk_at dksX6_seed_0 7 rfl rfl)
theorem dX6_seed_10 : decode cX6_seed 10 = .ok (.iconst 5, 1) := dk_8 (dk_at dksX6_seed_0 10 rfl rfl)
theorem dX6_seed_11 : decode cX6_seed 11 = .ok (.iaload, 1) := dk_46 (dk_at dksX6_seed_0 11 rfl rfl)
theorem dX6_seed_12 : decode cX6_seed 12 = .ok (.istore_n 2, 1) := dk_61 (dk_at dksX6_seed_0 12 rfl rfl)
theorem dX6_seed_13 : decode cX6_seed 13 = .ok (.aload_n 0, 1) := dk_42 (dk_at dksX6_seed_0 13 rfl rfl)
theorem dX6_seed_14 : decode cX6_seed 14 = .ok (.getfield 7, 3) := dk_180 0 7 (dk_at dksX6_seed_0 14 rfl rfl)
theorem dX6_seed_17 : decode cX6_seed 17 = .ok (.iconst 5, 1) := dk_8 (dk_at dksX6_seed_0 17 rfl rfl)
theorem dX6_seed_18 : decode cX6_seed 18 = .ok (.iload_n 1, 1) := dk_27 (dk_at dksX6_seed_0 18 rfl rfl)
theorem dX6_seed_19 : decode cX6_seed 19 = .ok (.iastore, 1) := dk_79 (dk_at dksX6_seed_0 19 rfl rfl)
theorem dX6_seed_20 : decode cX6_seed 20 = .ok (.iload_n 2, 1) := dk_28 (dk_at dksX6_seed_0 20 rfl rfl)
theorem dX6_seed_21 : decode cX6_seed 21 = .ok (.ireturn, 1) := dk_172 (dk_at dksX6_seed_0 21 rfl rfl)
abbrev cX6_image : ByteArray := prog_11_method_73_code
def yX6_image : MethodName := ⟨RX6, "image", "()I"⟩
def dkwX6_image_2 : List UInt8 := [132, 1, 1, 167, 255, 234, 42, 42, 180, 0, 128, 181, 0, 22, 4, 172]
abbrev dktX6_image_2 : List UInt8 := dkwX6_image_2 ++ []
def dkwX6_image_1 : List UInt8 := [167, 255, 235, 3, 60, 27, 17, 0, 162, 162, 0, 21, 42, 180, 0, 19, 27, 42, 180, 0, 13, 27, 46, 79]
abbrev dktX6_image_1 : List UInt8 := dkwX6_image_1 ++ dktX6_image_2
def dkwX6_image_0 : List UInt8 := [3, 60, 27, 16, 27, 162, 0, 21, 42, 180, 0, 16, 27, 42, 180, 0, 7, 27, 46, 79, 132, 1, 1]
abbrev dktX6_image_0 : List UInt8 := dkwX6_image_0 ++ dktX6_image_1
theorem dksX6_image_0 : cX6_image.data.toList.drop 0 = dktX6_image_0 := by decide +kernel
theorem dksX6_image_1 : cX6_image.data.toList.drop 23 = dktX6_image_1 := dk_seg dksX6_image_0 23 rfl rfl
theorem dksX6_image_2 : cX6_image.data.toList.drop 47 = dktX6_image_2 := dk_seg dksX6_image_1 24 rfl rfl
theorem dX6_image_0 : decode cX6_image 0 = .ok (.iconst 0, 1) := dk_3 (dk_at dksX6_image_0 0 rfl rfl)
theorem dX6_image_1 : decode cX6_image 1 = .ok (.istore_n 1, 1) := dk_60 (dk_at dksX6_image_0 1 rfl rfl)
theorem dX6_image_2 : decode cX6_image 2 = .ok (.iload_n 1, 1) := dk_27 (dk_at dksX6_image_0 2 rfl rfl)
theorem dX6_image_3 : decode cX6_image 3 = .ok (.bipush 27, 2) := dk_16 27 (dk_at dksX6_image_0 3 rfl rfl)
theorem dX6_image_5 : decode cX6_image 5 = .ok (.if_icmp .ge 21, 3) := dk_162 0 21 (dk_at dksX6_image_0 5 rfl rfl)
theorem dX6_image_8 : decode cX6_image 8 = .ok (.aload_n 0, 1) := dk_42 (dk_at dksX6_image_0 8 rfl rfl)
theorem dX6_image_9 : decode cX6_image 9 = .ok (.getfield 16, 3) := dk_180 0 16 (dk_at dksX6_image_0 9 rfl rfl)
theorem dX6_image_12 : decode cX6_image 12 = .ok (.iload_n 1, 1) := dk_27 (dk_at dksX6_image_0 12 rfl rfl)
theorem dX6_image_13 : decode cX6_image 13 = .ok (.aload_n 0, 1) := dk_42 (dk_at dksX6_image_0 13 rfl rfl)
theorem dX6_image_14 : decode cX6_image 14 = .ok (.getfield 7, 3) := dk_180 0 7 (dk_at dksX6_image_0 14 rfl rfl)
theorem dX6_image_17 : decode cX6_image 17 = .ok (.iload_n 1, 1) := dk_27 (dk_at dksX6_image_0 17 rfl rfl)
theorem dX6_image_18 : decode cX6_image 18 = .ok (.iaload, 1) := dk_46 (dk_at dksX6_image_0 18 rfl rfl)
theorem dX6_image_19 : decode cX6_image 19 = .ok (.iastore, 1) := dk_79 (dk_at dksX6_image_0 19 rfl rfl)
theorem dX6_image_20 : decode cX6_image 20 = .ok (.iinc 1 1, 3) := dk_132 1 1 (dk_at dksX6_image_0 20 rfl rfl)
theorem dX6_image_23 : decode cX6_image 23 = .ok (.goto (-21), 3) := dk_167 255 235 (dk_at dksX6_image_1 0 rfl rfl)
theorem dX6_image_26 : decode cX6_image 26 = .ok (.iconst 0, 1) := dk_3 (dk_at dksX6_image_1 3 rfl rfl)
theorem dX6_image_27 : decode cX6_image 27 = .ok (.istore_n 1, 1) := dk_60 (dk_at dksX6_image_1 4 rfl rfl)
theorem dX6_image_28 : decode cX6_image 28 = .ok (.iload_n 1, 1) := dk_27 (dk_at dksX6_image_1 5 rfl rfl)
theorem dX6_image_29 : decode cX6_image 29 = .ok (.sipush 162, 3) := dk_17 0 162 (dk_at dksX6_image_1 6 rfl rfl)
theorem dX6_image_32 : decode cX6_image 32 = .ok (.if_icmp .ge 21, 3) := dk_162 0 21 (dk_at dksX6_image_1 9 rfl rfl)
theorem dX6_image_35 : decode cX6_image 35 = .ok (.aload_n 0, 1) := dk_42 (dk_at dksX6_image_1 12 rfl rfl)
theorem dX6_image_36 : decode cX6_image 36 = .ok (.getfield 19, 3) := dk_180 0 19 (dk_at dksX6_image_1 13 rfl rfl)
theorem dX6_image_39 : decode cX6_image 39 = .ok (.iload_n 1, 1) := dk_27 (dk_at dksX6_image_1 16 rfl rfl)
theorem dX6_image_40 : decode cX6_image 40 = .ok (.aload_n 0, 1) := dk_42 (dk_at dksX6_image_1 17 rfl rfl)
theorem dX6_image_41 : decode cX6_image 41 = .ok (.getfield 13, 3) := dk_180 0 13 (dk_at dksX6_image_1 18 rfl rfl)
theorem dX6_image_44 : decode cX6_image 44 = .ok (.iload_n 1, 1) := dk_27 (dk_at dksX6_image_1 21 rfl rfl)
theorem dX6_image_45 : decode cX6_image 45 = .ok (.iaload, 1) := dk_46 (dk_at dksX6_image_1 22 rfl rfl)
theorem dX6_image_46 : decode cX6_image 46 = .ok (.iastore, 1) := dk_79 (dk_at dksX6_image_1 23 rfl rfl)
theorem dX6_image_47 : decode cX6_image 47 = .ok (.iinc 1 1, 3) := dk_132 1 1 (dk_at dksX6_image_2 0 rfl rfl)
theorem dX6_image_50 : decode cX6_image 50 = .ok (.goto (-22), 3) := dk_167 255 234 (dk_at dksX6_image_2 3 rfl rfl)
theorem dX6_image_53 : decode cX6_image 53 = .ok (.aload_n 0, 1) := dk_42 (dk_at dksX6_image_2 6 rfl rfl)
theorem dX6_image_54 : decode cX6_image 54 = .ok (.aload_n 0, 1) := dk_42 (dk_at dksX6_image_2 7 rfl rfl)
theorem dX6_image_55 : decode cX6_image 55 = .ok (.getfield 128, 3) := dk_180 0 128 (dk_at dksX6_image_2 8 rfl rfl)
theorem dX6_image_58 : decode cX6_image 58 = .ok (.putfield 22, 3) := dk_181 0 22 (dk_at dksX6_image_2 11 rfl rfl)
theorem dX6_image_61 : decode cX6_image 61 = .ok (.iconst 1, 1) := dk_4 (dk_at dksX6_image_2 14 rfl rfl)
theorem dX6_image_62 : decode cX6_image 62 = .ok (.ireturn, 1) := dk_172 (dk_at dksX6_image_2 15 rfl rfl)
abbrev cX6_restore : ByteArray := prog_11_method_74_code
def yX6_restore : MethodName := ⟨RX6, "restore", "()I"⟩
def dkwX6_restore_3 : List UInt8 := [181, 0, 128, 4, 172]
abbrev dktX6_restore_3 : List UInt8 := dkwX6_restore_3 ++ []
def dkwX6_restore_2 : List UInt8 := [180, 0, 13, 27, 42, 180, 0, 19, 27, 46, 79, 132, 1, 1, 167, 255, 234, 42, 42, 180, 0, 22]
abbrev dktX6_restore_2 : List UInt8 := dkwX6_restore_2 ++ dktX6_restore_3
def dkwX6_restore_1 : List UInt8 := [180, 0, 16, 27, 46, 79, 132, 1, 1, 167, 255, 235, 3, 60, 27, 17, 0, 162, 162, 0, 21, 42]
abbrev dktX6_restore_1 : List UInt8 := dkwX6_restore_1 ++ dktX6_restore_2
def dkwX6_restore_0 : List UInt8 := [42, 180, 0, 22, 156, 0, 6, 16, 252, 172, 3, 60, 27, 16, 27, 162, 0, 21, 42, 180, 0, 7, 27, 42]
abbrev dktX6_restore_0 : List UInt8 := dkwX6_restore_0 ++ dktX6_restore_1
theorem dksX6_restore_0 : cX6_restore.data.toList.drop 0 = dktX6_restore_0 := by decide +kernel
theorem dksX6_restore_1 : cX6_restore.data.toList.drop 24 = dktX6_restore_1 := dk_seg dksX6_restore_0 24 rfl rfl
theorem dksX6_restore_2 : cX6_restore.data.toList.drop 46 = dktX6_restore_2 := dk_seg dksX6_restore_1 22 rfl rfl
theorem dksX6_restore_3 : cX6_restore.data.toList.drop 68 = dktX6_restore_3 := dk_seg dksX6_restore_2 22 rfl rfl
theorem dX6_restore_0 : decode cX6_restore 0 = .ok (.aload_n 0, 1) := dk_42 (dk_at dksX6_restore_0 0 rfl rfl)
theorem dX6_restore_1 : decode cX6_restore 1 = .ok (.getfield 22, 3) := dk_180 0 22 (dk_at dksX6_restore_0 1 rfl rfl)
theorem dX6_restore_4 : decode cX6_restore 4 = .ok (.ifCond .ge 6, 3) := dk_156 0 6 (dk_at dksX6_restore_0 4 rfl rfl)
theorem dX6_restore_7 : decode cX6_restore 7 = .ok (.bipush (-4), 2) := dk_16 252 (dk_at dksX6_restore_0 7 rfl rfl)
theorem dX6_restore_9 : decode cX6_restore 9 = .ok (.ireturn, 1) := dk_172 (dk_at dksX6_restore_0 9 rfl rfl)
theorem dX6_restore_10 : decode cX6_restore 10 = .ok (.iconst 0, 1) := dk_3 (dk_at dksX6_restore_0 10 rfl rfl)
theorem dX6_restore_11 : decode cX6_restore 11 = .ok (.istore_n 1, 1) := dk_60 (dk_at dksX6_restore_0 11 rfl rfl)
theorem dX6_restore_12 : decode cX6_restore 12 = .ok (.iload_n 1, 1) := dk_27 (dk_at dksX6_restore_0 12 rfl rfl)
theorem dX6_restore_13 : decode cX6_restore 13 = .ok (.bipush 27, 2) := dk_16 27 (dk_at dksX6_restore_0 13 rfl rfl)
theorem dX6_restore_15 : decode cX6_restore 15 = .ok (.if_icmp .ge 21, 3) := dk_162 0 21 (dk_at dksX6_restore_0 15 rfl rfl)
theorem dX6_restore_18 : decode cX6_restore 18 = .ok (.aload_n 0, 1) := dk_42 (dk_at dksX6_restore_0 18 rfl rfl)
theorem dX6_restore_19 : decode cX6_restore 19 = .ok (.getfield 7, 3) := dk_180 0 7 (dk_at dksX6_restore_0 19 rfl rfl)
theorem dX6_restore_22 : decode cX6_restore 22 = .ok (.iload_n 1, 1) := dk_27 (dk_at dksX6_restore_0 22 rfl rfl)
theorem dX6_restore_23 : decode cX6_restore 23 = .ok (.aload_n 0, 1) := dk_42 (dk_at dksX6_restore_0 23 rfl rfl)
theorem dX6_restore_24 : decode cX6_restore 24 = .ok (.getfield 16, 3) := dk_180 0 16 (dk_at dksX6_restore_1 0 rfl rfl)
theorem dX6_restore_27 : decode cX6_restore 27 = .ok (.iload_n 1, 1) := dk_27 (dk_at dksX6_restore_1 3 rfl rfl)
theorem dX6_restore_28 : decode cX6_restore 28 = .ok (.iaload, 1) := dk_46 (dk_at dksX6_restore_1 4 rfl rfl)
theorem dX6_restore_29 : decode cX6_restore 29 = .ok (.iastore, 1) := dk_79 (dk_at dksX6_restore_1 5 rfl rfl)
theorem dX6_restore_30 : decode cX6_restore 30 = .ok (.iinc 1 1, 3) := dk_132 1 1 (dk_at dksX6_restore_1 6 rfl rfl)
theorem dX6_restore_33 : decode cX6_restore 33 = .ok (.goto (-21), 3) := dk_167 255 235 (dk_at dksX6_restore_1 9 rfl rfl)
theorem dX6_restore_36 : decode cX6_restore 36 = .ok (.iconst 0, 1) := dk_3 (dk_at dksX6_restore_1 12 rfl rfl)
theorem dX6_restore_37 : decode cX6_restore 37 = .ok (.istore_n 1, 1) := dk_60 (dk_at dksX6_restore_1 13 rfl rfl)
theorem dX6_restore_38 : decode cX6_restore 38 = .ok (.iload_n 1, 1) := dk_27 (dk_at dksX6_restore_1 14 rfl rfl)
theorem dX6_restore_39 : decode cX6_restore 39 = .ok (.sipush 162, 3) := dk_17 0 162 (dk_at dksX6_restore_1 15 rfl rfl)
theorem dX6_restore_42 : decode cX6_restore 42 = .ok (.if_icmp .ge 21, 3) := dk_162 0 21 (dk_at dksX6_restore_1 18 rfl rfl)
theorem dX6_restore_45 : decode cX6_restore 45 = .ok (.aload_n 0, 1) := dk_42 (dk_at dksX6_restore_1 21 rfl rfl)
theorem dX6_restore_46 : decode cX6_restore 46 = .ok (.getfield 13, 3) := dk_180 0 13 (dk_at dksX6_restore_2 0 rfl rfl)
theorem dX6_restore_49 : decode cX6_restore 49 = .ok (.iload_n 1, 1) := dk_27 (dk_at dksX6_restore_2 3 rfl rfl)
theorem dX6_restore_50 : decode cX6_restore 50 = .ok (.aload_n 0, 1) := dk_42 (dk_at dksX6_restore_2 4 rfl rfl)
theorem dX6_restore_51 : decode cX6_restore 51 = .ok (.getfield 19, 3) := dk_180 0 19 (dk_at dksX6_restore_2 5 rfl rfl)
theorem dX6_restore_54 : decode cX6_restore 54 = .ok (.iload_n 1, 1) := dk_27 (dk_at dksX6_restore_2 8 rfl rfl)
theorem dX6_restore_55 : decode cX6_restore 55 = .ok (.iaload, 1) := dk_46 (dk_at dksX6_restore_2 9 rfl rfl)
theorem dX6_restore_56 : decode cX6_restore 56 = .ok (.iastore, 1) := dk_79 (dk_at dksX6_restore_2 10 rfl rfl)
theorem dX6_restore_57 : decode cX6_restore 57 = .ok (.iinc 1 1, 3) := dk_132 1 1 (dk_at dksX6_restore_2 11 rfl rfl)
theorem dX6_restore_60 : decode cX6_restore 60 = .ok (.goto (-22), 3) := dk_167 255 234 (dk_at dksX6_restore_2 14 rfl rfl)
theorem dX6_restore_63 : decode cX6_restore 63 = .ok (.aload_n 0, 1) := dk_42 (dk_at dksX6_restore_2 17 rfl rfl)
theorem dX6_restore_64 : decode cX6_restore 64 = .ok (.aload_n 0, 1) := dk_42 (dk_at dksX6_restore_2 18 rfl rfl)
theorem dX6_restore_65 : decode cX6_restore 65 = .ok (.getfield 22, 3) := dk_180 0 22 (dk_at dksX6_restore_2 19 rfl rfl)
theorem dX6_restore_68 : decode cX6_restore 68 = .ok (.putfield 128, 3) := dk_181 0 128 (dk_at dksX6_restore_3 0 rfl rfl)
theorem dX6_restore_71 : decode cX6_restore 71 = .ok (.iconst 1, 1) := dk_4 (dk_at dksX6_restore_3 3 rfl rfl)
theorem dX6_restore_72 : decode cX6_restore 72 = .ok (.ireturn, 1) := dk_172 (dk_at dksX6_restore_3 4 rfl rfl)
abbrev cX6_seen : ByteArray := prog_11_method_78_code
def yX6_seen : MethodName := ⟨RX6, "seen", "(III)I"⟩
def dkwX6_seen_10 : List UInt8 := [172]
abbrev dktX6_seen_10 : List UInt8 := dkwX6_seen_10 ++ []
def dkwX6_seen_9 : List UInt8 := [21, 8, 153, 0, 7, 4, 167, 0, 4, 3, 96, 54, 6, 42, 182, 0, 143, 54, 7, 167, 255, 162, 21, 6]
abbrev dktX6_seen_9 : List UInt8 := dkwX6_seen_9 ++ dktX6_seen_10
def dkwX6_seen_8 : List UInt8 := [21, 9, 96, 47, 148, 154, 0, 7, 4, 167, 0, 4, 3, 54, 8, 132, 9, 1, 167, 255, 201, 21, 6]
abbrev dktX6_seen_8 : List UInt8 := dkwX6_seen_8 ++ dktX6_seen_9
def dkwX6_seen_7 : List UInt8 := [153, 0, 36, 42, 180, 0, 51, 21, 9, 46, 184, 0, 93, 133, 42, 180, 0, 35, 16, 24, 27, 104, 29, 96]
abbrev dktX6_seen_7 : List UInt8 := dkwX6_seen_7 ++ dktX6_seen_8
def dkwX6_seen_6 : List UInt8 := [182, 0, 99, 4, 54, 8, 3, 54, 9, 21, 9, 42, 180, 0, 7, 3, 46, 162, 0, 50, 21, 8]
abbrev dktX6_seen_6 : List UInt8 := dkwX6_seen_6 ++ dktX6_seen_7
def dkwX6_seen_5 : List UInt8 := [154, 0, 6, 16, 254, 172, 3, 54, 6, 42, 182, 0, 134, 4, 54, 7, 21, 7, 153, 0, 95, 42]
abbrev dktX6_seen_5 : List UInt8 := dkwX6_seen_5 ++ dktX6_seen_6
def dkwX6_seen_4 : List UInt8 := [20, 0, 184, 184, 0, 71, 153, 0, 7, 4, 167, 0, 4, 3, 54, 5, 132, 6, 1, 167, 255, 206, 21, 5]
abbrev dktX6_seen_4 : List UInt8 := dkwX6_seen_4 ++ dktX6_seen_5
def dkwX6_seen_3 : List UInt8 := [162, 0, 45, 21, 5, 153, 0, 31, 42, 180, 0, 35, 16, 24, 27, 104, 29, 96, 21, 6, 96, 47, 9]
abbrev dktX6_seen_3 : List UInt8 := dkwX6_seen_3 ++ dktX6_seen_4
def dkwX6_seen_2 : List UInt8 := [3, 46, 158, 0, 7, 4, 167, 0, 4, 3, 54, 5, 3, 54, 6, 21, 6, 42, 180, 0, 7, 3, 46]
abbrev dktX6_seen_2 : List UInt8 := dkwX6_seen_2 ++ dktX6_seen_3
def dkwX6_seen_1 : List UInt8 := [29, 42, 180, 0, 7, 3, 46, 182, 1, 32, 54, 4, 21, 4, 156, 0, 6, 21, 4, 172, 42, 180, 0, 7]
abbrev dktX6_seen_1 : List UInt8 := dkwX6_seen_1 ++ dktX6_seen_2
def dkwX6_seen_0 : List UInt8 := [27, 184, 1, 29, 153, 0, 15, 28, 133, 9, 20, 1, 27, 184, 0, 71, 154, 0, 5, 2, 172, 42, 27, 28]
abbrev dktX6_seen_0 : List UInt8 := dkwX6_seen_0 ++ dktX6_seen_1
theorem dksX6_seen_0 : cX6_seen.data.toList.drop 0 = dktX6_seen_0 := by decide +kernel
theorem dksX6_seen_1 : cX6_seen.data.toList.drop 24 = dktX6_seen_1 := dk_seg dksX6_seen_0 24 rfl rfl
theorem dksX6_seen_2 : cX6_seen.data.toList.drop 48 = dktX6_seen_2 := dk_seg dksX6_seen_1 24 rfl rfl
theorem dksX6_seen_3 : cX6_seen.data.toList.drop 71 = dktX6_seen_3 := dk_seg dksX6_seen_2 23 rfl rfl
theorem dksX6_seen_4 : cX6_seen.data.toList.drop 94 = dktX6_seen_4 := dk_seg dksX6_seen_3 23 rfl rfl
theorem dksX6_seen_5 : cX6_seen.data.toList.drop 118 = dktX6_seen_5 := dk_seg dksX6_seen_4 24 rfl rfl
theorem dksX6_seen_6 : cX6_seen.data.toList.drop 140 = dktX6_seen_6 := dk_seg dksX6_seen_5 22 rfl rfl
theorem dksX6_seen_7 : cX6_seen.data.toList.drop 162 = dktX6_seen_7 := dk_seg dksX6_seen_6 22 rfl rfl
theorem dksX6_seen_8 : cX6_seen.data.toList.drop 186 = dktX6_seen_8 := dk_seg dksX6_seen_7 24 rfl rfl
theorem dksX6_seen_9 : cX6_seen.data.toList.drop 209 = dktX6_seen_9 := dk_seg dksX6_seen_8 23 rfl rfl
theorem dksX6_seen_10 : cX6_seen.data.toList.drop 233 = dktX6_seen_10 := dk_seg dksX6_seen_9 24 rfl rfl
theorem dX6_seen_0 : decode cX6_seen 0 = .ok (.iload_n 1, 1) := dk_27 (dk_at dksX6_seen_0 0 rfl rfl)
theorem dX6_seen_1 : decode cX6_seen 1 = .ok (.invokestatic 285, 3) := dk_184 1 29 (dk_at dksX6_seen_0 1 rfl rfl)
theorem dX6_seen_4 : decode cX6_seen 4 = .ok (.ifCond .eq 15, 3) := dk_153 0 15 (dk_at dksX6_seen_0 4 rfl rfl)
theorem dX6_seen_7 : decode cX6_seen 7 = .ok (.iload_n 2, 1) := dk_28 (dk_at dksX6_seen_0 7 rfl rfl)
theorem dX6_seen_8 : decode cX6_seen 8 = .ok (.i2l, 1) := dk_133 (dk_at dksX6_seen_0 8 rfl rfl)
theorem dX6_seen_9 : decode cX6_seen 9 = .ok (.lconst 0, 1) := dk_9 (dk_at dksX6_seen_0 9 rfl rfl)
theorem dX6_seen_10 : decode cX6_seen 10 = .ok (.ldc2_w 283, 3) := dk_20 1 27 (dk_at dksX6_seen_0 10 rfl rfl)
theorem dX6_seen_13 : decode cX6_seen 13 = .ok (.invokestatic 71, 3) := dk_184 0 71 (dk_at dksX6_seen_0 13 rfl rfl)
theorem dX6_seen_16 : decode cX6_seen 16 = .ok (.ifCond .ne 5, 3) := dk_154 0 5 (dk_at dksX6_seen_0 16 rfl rfl)
theorem dX6_seen_19 : decode cX6_seen 19 = .ok (.iconst (-1), 1) := dk_2 (dk_at dksX6_seen_0 19 rfl rfl)
theorem dX6_seen_20 : decode cX6_seen 20 = .ok (.ireturn, 1) := dk_172 (dk_at dksX6_seen_0 20 rfl rfl)
theorem dX6_seen_21 : decode cX6_seen 21 = .ok (.aload_n 0, 1) := dk_42 (dk_at dksX6_seen_0 21 rfl rfl)
theorem dX6_seen_22 : decode cX6_seen 22 = .ok (.iload_n 1, 1) := dk_27 (dk_at dksX6_seen_0 22 rfl rfl)
theorem dX6_seen_23 : decode cX6_seen 23 = .ok (.iload_n 2, 1) := dk_28 (dk_at dksX6_seen_0 23 rfl rfl)
theorem dX6_seen_24 : decode cX6_seen 24 = .ok (.iload_n 3, 1) := dk_29 (dk_at dksX6_seen_1 0 rfl rfl)
theorem dX6_seen_25 : decode cX6_seen 25 = .ok (.aload_n 0, 1) := dk_42 (dk_at dksX6_seen_1 1 rfl rfl)
theorem dX6_seen_26 : decode cX6_seen 26 = .ok (.getfield 7, 3) := dk_180 0 7 (dk_at dksX6_seen_1 2 rfl rfl)
theorem dX6_seen_29 : decode cX6_seen 29 = .ok (.iconst 0, 1) := dk_3 (dk_at dksX6_seen_1 5 rfl rfl)
theorem dX6_seen_30 : decode cX6_seen 30 = .ok (.iaload, 1) := dk_46 (dk_at dksX6_seen_1 6 rfl rfl)
theorem dX6_seen_31 : decode cX6_seen 31 = .ok (.invokevirtual 288, 3) := dk_182 1 32 (dk_at dksX6_seen_1 7 rfl rfl)
theorem dX6_seen_34 : decode cX6_seen 34 = .ok (.istore 4, 2) := dk_54 4 (dk_at dksX6_seen_1 10 rfl rfl)
theorem dX6_seen_36 : decode cX6_seen 36 = .ok (.iload 4, 2) := dk_21 4 (dk_at dksX6_seen_1 12 rfl rfl)
theorem dX6_seen_38 : decode cX6_seen 38 = .ok (.ifCond .ge 6, 3) := dk_156 0 6 (dk_at dksX6_seen_1 14 rfl rfl)
theorem dX6_seen_41 : decode cX6_seen 41 = .ok (.iload 4, 2) := dk_21 4 (dk_at dksX6_seen_1 17 rfl rfl)
theorem dX6_seen_43 : decode cX6_seen 43 = .ok (.ireturn, 1) := dk_172 (dk_at dksX6_seen_1 19 rfl rfl)
theorem dX6_seen_44 : decode cX6_seen 44 = .ok (.aload_n 0, 1) := dk_42 (dk_at dksX6_seen_1 20 rfl rfl)
theorem dX6_seen_45 : decode cX6_seen 45 = .ok (.getfield 7, 3) := dk_180 0 7 (dk_at dksX6_seen_1 21 rfl rfl)
theorem dX6_seen_48 : decode cX6_seen 48 = .ok (.iconst 0, 1) := dk_3 (dk_at dksX6_seen_2 0 rfl rfl)
theorem dX6_seen_49 : decode cX6_seen 49 = .ok (.iaload, 1) := dk_46 (dk_at dksX6_seen_2 1 rfl rfl)
theorem dX6_seen_50 : decode cX6_seen 50 = .ok (.ifCond .le 7, 3) := dk_158 0 7 (dk_at dksX6_seen_2 2 rfl rfl)
theorem dX6_seen_53 : decode cX6_seen 53 = .ok (.iconst 1, 1) := dk_4 (dk_at dksX6_seen_2 5 rfl rfl)
theorem dX6_seen_54 : decode cX6_seen 54 = .ok (.goto 4, 3) := dk_167 0 4 (dk_at dksX6_seen_2 6 rfl rfl)
theorem dX6_seen_57 : decode cX6_seen 57 = .ok (.iconst 0, 1) := dk_3 (dk_at dksX6_seen_2 9 rfl rfl)
theorem dX6_seen_58 : decode cX6_seen 58 = .ok (.istore 5, 2) := dk_54 5 (dk_at dksX6_seen_2 10 rfl rfl)
theorem dX6_seen_60 : decode cX6_seen 60 = .ok (.iconst 0, 1) := dk_3 (dk_at dksX6_seen_2 12 rfl rfl)
theorem dX6_seen_61 : decode cX6_seen 61 = .ok (.istore 6, 2) := dk_54 6 (dk_at dksX6_seen_2 13 rfl rfl)
theorem dX6_seen_63 : decode cX6_seen 63 = .ok (.iload 6, 2) := dk_21 6 (dk_at dksX6_seen_2 15 rfl rfl)
theorem dX6_seen_65 : decode cX6_seen 65 = .ok (.aload_n 0, 1) := dk_42 (dk_at dksX6_seen_2 17 rfl rfl)
theorem dX6_seen_66 : decode cX6_seen 66 = .ok (.getfield 7, 3) := dk_180 0 7 (dk_at dksX6_seen_2 18 rfl rfl)
theorem dX6_seen_69 : decode cX6_seen 69 = .ok (.iconst 0, 1) := dk_3 (dk_at dksX6_seen_2 21 rfl rfl)
theorem dX6_seen_70 : decode cX6_seen 70 = .ok (.iaload, 1) := dk_46 (dk_at dksX6_seen_2 22 rfl rfl)
theorem dX6_seen_71 : decode cX6_seen 71 = .ok (.if_icmp .ge 45, 3) := dk_162 0 45 (dk_at dksX6_seen_3 0 rfl rfl)
theorem dX6_seen_74 : decode cX6_seen 74 = .ok (.iload 5, 2) := dk_21 5 (dk_at dksX6_seen_3 3 rfl rfl)
theorem dX6_seen_76 : decode cX6_seen 76 = .ok (.ifCond .eq 31, 3) := dk_153 0 31 (dk_at dksX6_seen_3 5 rfl rfl)
theorem dX6_seen_79 : decode cX6_seen 79 = .ok (.aload_n 0, 1) := dk_42 (dk_at dksX6_seen_3 8 rfl rfl)
theorem dX6_seen_80 : decode cX6_seen 80 = .ok (.getfield 35, 3) := dk_180 0 35 (dk_at dksX6_seen_3 9 rfl rfl)
theorem dX6_seen_83 : decode cX6_seen 83 = .ok (.bipush 24, 2) := dk_16 24 (dk_at dksX6_seen_3 12 rfl rfl)
theorem dX6_seen_85 : decode cX6_seen 85 = .ok (.iload_n 1, 1) := dk_27 (dk_at dksX6_seen_3 14 rfl rfl)
theorem dX6_seen_86 : decode cX6_seen 86 = .ok (.imul, 1) := dk_104 (dk_at dksX6_seen_3 15 rfl rfl)
theorem dX6_seen_87 : decode cX6_seen 87 = .ok (.iload_n 3, 1) := dk_29 (dk_at dksX6_seen_3 16 rfl rfl)
theorem dX6_seen_88 : decode cX6_seen 88 = .ok (.iadd, 1) := dk_96 (dk_at dksX6_seen_3 17 rfl rfl)
theorem dX6_seen_89 : decode cX6_seen 89 = .ok (.iload 6, 2) := dk_21 6 (dk_at dksX6_seen_3 18 rfl rfl)
theorem dX6_seen_91 : decode cX6_seen 91 = .ok (.iadd, 1) := dk_96 (dk_at dksX6_seen_3 20 rfl rfl)
theorem dX6_seen_92 : decode cX6_seen 92 = .ok (.laload, 1) := dk_47 (dk_at dksX6_seen_3 21 rfl rfl)
theorem dX6_seen_93 : decode cX6_seen 93 = .ok (.lconst 0, 1) := dk_9 (dk_at dksX6_seen_3 22 rfl rfl)
theorem dX6_seen_94 : decode cX6_seen 94 = .ok (.ldc2_w 184, 3) := dk_20 0 184 (dk_at dksX6_seen_4 0 rfl rfl)
theorem dX6_seen_97 : decode cX6_seen 97 = .ok (.invokestatic 71, 3) := dk_184 0 71 (dk_at dksX6_seen_4 3 rfl rfl)
theorem dX6_seen_100 : decode cX6_seen 100 = .ok (.ifCond .eq 7, 3) := dk_153 0 7 (dk_at dksX6_seen_4 6 rfl rfl)
theorem dX6_seen_103 : decode cX6_seen 103 = .ok (.iconst 1, 1) := dk_4 (dk_at dksX6_seen_4 9 rfl rfl)
theorem dX6_seen_104 : decode cX6_seen 104 = .ok (.goto 4, 3) := dk_167 0 4 (dk_at dksX6_seen_4 10 rfl rfl)
theorem dX6_seen_107 : decode cX6_seen 107 = .ok (.iconst 0, 1) := dk_3 (dk_at dksX6_seen_4 13 rfl rfl)
theorem dX6_seen_108 : decode cX6_seen 108 = .ok (.istore 5, 2) := dk_54 5 (dk_at dksX6_seen_4 14 rfl rfl)
theorem dX6_seen_110 : decode cX6_seen 110 = .ok (.iinc 6 1, 3) := dk_132 6 1 (dk_at dksX6_seen_4 16 rfl rfl)
theorem dX6_seen_113 : decode cX6_seen 113 = .ok (.goto (-50), 3) := dk_167 255 206 (dk_at dksX6_seen_4 19 rfl rfl)
theorem dX6_seen_116 : decode cX6_seen 116 = .ok (.iload 5, 2) := dk_21 5 (dk_at dksX6_seen_4 22 rfl rfl)
theorem dX6_seen_118 : decode cX6_seen 118 = .ok (.ifCond .ne 6, 3) := dk_154 0 6 (dk_at dksX6_seen_5 0 rfl rfl)
theorem dX6_seen_121 : decode cX6_seen 121 = .ok (.bipush (-2), 2) := dk_16 254 (dk_at dksX6_seen_5 3 rfl rfl)
theorem dX6_seen_123 : decode cX6_seen 123 = .ok (.ireturn, 1) := dk_172 (dk_at dksX6_seen_5 5 rfl rfl)
theorem dX6_seen_124 : decode cX6_seen 124 = .ok (.iconst 0, 1) := dk_3 (dk_at dksX6_seen_5 6 rfl rfl)
theorem dX6_seen_125 : decode cX6_seen 125 = .ok (.istore 6, 2) := dk_54 6 (dk_at dksX6_seen_5 7 rfl rfl)
theorem dX6_seen_127 : decode cX6_seen 127 = .ok (.aload_n 0, 1) := dk_42 (dk_at dksX6_seen_5 9 rfl rfl)
theorem dX6_seen_128 : decode cX6_seen 128 = .ok (.invokevirtual 134, 3) := dk_182 0 134 (dk_at dksX6_seen_5 10 rfl rfl)
theorem dX6_seen_131 : decode cX6_seen 131 = .ok (.iconst 1, 1) := dk_4 (dk_at dksX6_seen_5 13 rfl rfl)
theorem dX6_seen_132 : decode cX6_seen 132 = .ok (.istore 7, 2) := dk_54 7 (dk_at dksX6_seen_5 14 rfl rfl)
theorem dX6_seen_134 : decode cX6_seen 134 = .ok (.iload 7, 2) := dk_21 7 (dk_at dksX6_seen_5 16 rfl rfl)
theorem dX6_seen_136 : decode cX6_seen 136 = .ok (.ifCond .eq 95, 3) := dk_153 0 95 (dk_at dksX6_seen_5 18 rfl rfl)
theorem dX6_seen_139 : decode cX6_seen 139 = .ok (.aload_n 0, 1) := dk_42 (dk_at dksX6_seen_5 21 rfl rfl)
theorem dX6_seen_140 : decode cX6_seen 140 = .ok (.invokevirtual 99, 3) := dk_182 0 99 (dk_at dksX6_seen_6 0 rfl rfl)
theorem dX6_seen_143 : decode cX6_seen 143 = .ok (.iconst 1, 1) := dk_4 (dk_at dksX6_seen_6 3 rfl rfl)
theorem dX6_seen_144 : decode cX6_seen 144 = .ok (.istore 8, 2) := dk_54 8 (dk_at dksX6_seen_6 4 rfl rfl)
theorem dX6_seen_146 : decode cX6_seen 146 = .ok (.iconst 0, 1) := dk_3 (dk_at dksX6_seen_6 6 rfl rfl)
theorem dX6_seen_147 : decode cX6_seen 147 = .ok (.istore 9, 2) := dk_54 9 (dk_at dksX6_seen_6 7 rfl rfl)
theorem dX6_seen_149 : decode cX6_seen 149 = .ok (.iload 9, 2) := dk_21 9 (dk_at dksX6_seen_6 9 rfl rfl)
theorem dX6_seen_151 : decode cX6_seen 151 = .ok (.aload_n 0, 1) := dk_42 (dk_at dksX6_seen_6 11 rfl rfl)
theorem dX6_seen_152 : decode cX6_seen 152 = .ok (.getfield 7, 3) := dk_180 0 7 (dk_at dksX6_seen_6 12 rfl rfl)
theorem dX6_seen_155 : decode cX6_seen 155 = .ok (.iconst 0, 1) := dk_3 (dk_at dksX6_seen_6 15 rfl rfl)
theorem dX6_seen_156 : decode cX6_seen 156 = .ok (.iaload, 1) := dk_46 (dk_at dksX6_seen_6 16 rfl rfl)
theorem dX6_seen_157 : decode cX6_seen 157 = .ok (.if_icmp .ge 50, 3) := dk_162 0 50 (dk_at dksX6_seen_6 17 rfl rfl)
theorem dX6_seen_160 : decode cX6_seen 160 = .ok (.iload 8, 2) := dk_21 8 (dk_at dksX6_seen_6 20 rfl rfl)
theorem dX6_seen_162 : decode cX6_seen 162 = .ok (.ifCond .eq 36, 3) := dk_153 0 36 (dk_at dksX6_seen_7 0 rfl rfl)
theorem dX6_seen_165 : decode cX6_seen 165 = .ok (.aload_n 0, 1) := dk_42 (dk_at dksX6_seen_7 3 rfl rfl)
theorem dX6_seen_166 : decode cX6_seen 166 = .ok (.getfield 51, 3) := dk_180 0 51 (dk_at dksX6_seen_7 4 rfl rfl)
theorem dX6_seen_169 : decode cX6_seen 169 = .ok (.iload 9, 2) := dk_21 9 (dk_at dksX6_seen_7 7 rfl rfl)
theorem dX6_seen_171 : decode cX6_seen 171 = .ok (.iaload, 1) := dk_46 (dk_at dksX6_seen_7 9 rfl rfl)
theorem dX6_seen_172 : decode cX6_seen 172 = .ok (.invokestatic 93, 3) := dk_184 0 93 (dk_at dksX6_seen_7 10 rfl rfl)
theorem dX6_seen_175 : decode cX6_seen 175 = .ok (.i2l, 1) := dk_133 (dk_at dksX6_seen_7 13 rfl rfl)
theorem dX6_seen_176 : decode cX6_seen 176 = .ok (.aload_n 0, 1) := dk_42 (dk_at dksX6_seen_7 14 rfl rfl)
theorem dX6_seen_177 : decode cX6_seen 177 = .ok (.getfield 35, 3) := dk_180 0 35 (dk_at dksX6_seen_7 15 rfl rfl)
theorem dX6_seen_180 : decode cX6_seen 180 = .ok (.bipush 24, 2) := dk_16 24 (dk_at dksX6_seen_7 18 rfl rfl)
theorem dX6_seen_182 : decode cX6_seen 182 = .ok (.iload_n 1, 1) := dk_27 (dk_at dksX6_seen_7 20 rfl rfl)
theorem dX6_seen_183 : decode cX6_seen 183 = .ok (.imul, 1) := dk_104 (dk_at dksX6_seen_7 21 rfl rfl)
theorem dX6_seen_184 : decode cX6_seen 184 = .ok (.iload_n 3, 1) := dk_29 (dk_at dksX6_seen_7 22 rfl rfl)
theorem dX6_seen_185 : decode cX6_seen 185 = .ok (.iadd, 1) := dk_96 (dk_at dksX6_seen_7 23 rfl rfl)
theorem dX6_seen_186 : decode cX6_seen 186 = .ok (.iload 9, 2) := dk_21 9 (dk_at dksX6_seen_8 0 rfl rfl)
theorem dX6_seen_188 : decode cX6_seen 188 = .ok (.iadd, 1) := dk_96 (dk_at dksX6_seen_8 2 rfl rfl)
theorem dX6_seen_189 : decode cX6_seen 189 = .ok (.laload, 1) := dk_47 (dk_at dksX6_seen_8 3 rfl rfl)
theorem dX6_seen_190 : decode cX6_seen 190 = .ok (.lcmp, 1) := dk_148 (dk_at dksX6_seen_8 4 rfl rfl)
theorem dX6_seen_191 : decode cX6_seen 191 = .ok (.ifCond .ne 7, 3) := dk_154 0 7 (dk_at dksX6_seen_8 5 rfl rfl)
theorem dX6_seen_194 : decode cX6_seen 194 = .ok (.iconst 1, 1) := dk_4 (dk_at dksX6_seen_8 8 rfl rfl)
theorem dX6_seen_195 : decode cX6_seen 195 = .ok (.goto 4, 3) := dk_167 0 4 (dk_at dksX6_seen_8 9 rfl rfl)
theorem dX6_seen_198 : decode cX6_seen 198 = .ok (.iconst 0, 1) := dk_3 (dk_at dksX6_seen_8 12 rfl rfl)
theorem dX6_seen_199 : decode cX6_seen 199 = .ok (.istore 8, 2) := dk_54 8 (dk_at dksX6_seen_8 13 rfl rfl)
theorem dX6_seen_201 : decode cX6_seen 201 = .ok (.iinc 9 1, 3) := dk_132 9 1 (dk_at dksX6_seen_8 15 rfl rfl)
theorem dX6_seen_204 : decode cX6_seen 204 = .ok (.goto (-55), 3) := dk_167 255 201 (dk_at dksX6_seen_8 18 rfl rfl)
theorem dX6_seen_207 : decode cX6_seen 207 = .ok (.iload 6, 2) := dk_21 6 (dk_at dksX6_seen_8 21 rfl rfl)
theorem dX6_seen_209 : decode cX6_seen 209 = .ok (.iload 8, 2) := dk_21 8 (dk_at dksX6_seen_9 0 rfl rfl)
theorem dX6_seen_211 : decode cX6_seen 211 = .ok (.ifCond .eq 7, 3) := dk_153 0 7 (dk_at dksX6_seen_9 2 rfl rfl)
theorem dX6_seen_214 : decode cX6_seen 214 = .ok (.iconst 1, 1) := dk_4 (dk_at dksX6_seen_9 5 rfl rfl)
theorem dX6_seen_215 : decode cX6_seen 215 = .ok (.goto 4, 3) := dk_167 0 4 (dk_at dksX6_seen_9 6 rfl rfl)
theorem dX6_seen_218 : decode cX6_seen 218 = .ok (.iconst 0, 1) := dk_3 (dk_at dksX6_seen_9 9 rfl rfl)
theorem dX6_seen_219 : decode cX6_seen 219 = .ok (.iadd, 1) := dk_96 (dk_at dksX6_seen_9 10 rfl rfl)
theorem dX6_seen_220 : decode cX6_seen 220 = .ok (.istore 6, 2) := dk_54 6 (dk_at dksX6_seen_9 11 rfl rfl)
theorem dX6_seen_222 : decode cX6_seen 222 = .ok (.aload_n 0, 1) := dk_42 (dk_at dksX6_seen_9 13 rfl rfl)
theorem dX6_seen_223 : decode cX6_seen 223 = .ok (.invokevirtual 143, 3) := dk_182 0 143 (dk_at dksX6_seen_9 14 rfl rfl)
theorem dX6_seen_226 : decode cX6_seen 226 = .ok (.istore 7, 2) := dk_54 7 (dk_at dksX6_seen_9 17 rfl rfl)
theorem dX6_seen_228 : decode cX6_seen 228 = .ok (.goto (-94), 3) := dk_167 255 162 (dk_at dksX6_seen_9 19 rfl rfl)
theorem dX6_seen_231 : decode cX6_seen 231 = .ok (.iload 6, 2) := dk_21 6 (dk_at dksX6_seen_9 22 rfl rfl)
theorem dX6_seen_233 : decode cX6_seen 233 = .ok (.ireturn, 1) := dk_172 (dk_at dksX6_seen_10 0 rfl rfl)
abbrev cX6_isSheet : ByteArray := prog_11_method_75_code
def yX6_isSheet : MethodName := ⟨RX6, "isSheet", "(I)Z"⟩
def dkwX6_isSheet_0 : List UInt8 := [26, 133, 9, 20, 1, 27, 184, 0, 71, 172]
abbrev dktX6_isSheet_0 : List UInt8 := dkwX6_isSheet_0 ++ []
theorem dksX6_isSheet_0 : cX6_isSheet.data.toList.drop 0 = dktX6_isSheet_0 := by decide +kernel
theorem dX6_isSheet_0 : decode cX6_isSheet 0 = .ok (.iload_n 0, 1) := dk_26 (dk_at dksX6_isSheet_0 0 rfl rfl)
theorem dX6_isSheet_1 : decode cX6_isSheet 1 = .ok (.i2l, 1) := dk_133 (dk_at dksX6_isSheet_0 1 rfl rfl)
theorem dX6_isSheet_2 : decode cX6_isSheet 2 = .ok (.lconst 0, 1) := dk_9 (dk_at dksX6_isSheet_0 2 rfl rfl)
theorem dX6_isSheet_3 : decode cX6_isSheet 3 = .ok (.ldc2_w 283, 3) := dk_20 1 27 (dk_at dksX6_isSheet_0 3 rfl rfl)
theorem dX6_isSheet_6 : decode cX6_isSheet 6 = .ok (.invokestatic 71, 3) := dk_184 0 71 (dk_at dksX6_isSheet_0 6 rfl rfl)
theorem dX6_isSheet_9 : decode cX6_isSheet 9 = .ok (.ireturn, 1) := dk_172 (dk_at dksX6_isSheet_0 9 rfl rfl)
abbrev cX6_found : ByteArray := prog_11_method_77_code
def yX6_found : MethodName := ⟨RX6, "found", "(IIII)I"⟩
def dkwX6_found_2 : List UInt8 := [172]
abbrev dktX6_found_2 : List UInt8 := dkwX6_found_2 ++ []
def dkwX6_found_1 : List UInt8 := [172, 29, 155, 0, 16, 21, 4, 42, 180, 0, 32, 27, 46, 29, 100, 164, 0, 8, 16, 243, 167, 0, 4, 3]
abbrev dktX6_found_1 : List UInt8 := dkwX6_found_1 ++ dktX6_found_2
def dkwX6_found_0 : List UInt8 := [42, 180, 0, 29, 27, 46, 156, 0, 6, 16, 245, 172, 42, 180, 0, 29, 27, 46, 28, 159, 0, 6, 16, 244]
abbrev dktX6_found_0 : List UInt8 := dkwX6_found_0 ++ dktX6_found_1
theorem dksX6_found_0 : cX6_found.data.toList.drop 0 = dktX6_found_0 := by decide +kernel
theorem dksX6_found_1 : cX6_found.data.toList.drop 24 = dktX6_found_1 := dk_seg dksX6_found_0 24 rfl rfl
theorem dksX6_found_2 : cX6_found.data.toList.drop 48 = dktX6_found_2 := dk_seg dksX6_found_1 24 rfl rfl
theorem dX6_found_0 : decode cX6_found 0 = .ok (.aload_n 0, 1) := dk_42 (dk_at dksX6_found_0 0 rfl rfl)
theorem dX6_found_1 : decode cX6_found 1 = .ok (.getfield 29, 3) := dk_180 0 29 (dk_at dksX6_found_0 1 rfl rfl)
theorem dX6_found_4 : decode cX6_found 4 = .ok (.iload_n 1, 1) := dk_27 (dk_at dksX6_found_0 4 rfl rfl)
theorem dX6_found_5 : decode cX6_found 5 = .ok (.iaload, 1) := dk_46 (dk_at dksX6_found_0 5 rfl rfl)
theorem dX6_found_6 : decode cX6_found 6 = .ok (.ifCond .ge 6, 3) := dk_156 0 6 (dk_at dksX6_found_0 6 rfl rfl)
theorem dX6_found_9 : decode cX6_found 9 = .ok (.bipush (-11), 2) := dk_16 245 (dk_at dksX6_found_0 9 rfl rfl)
theorem dX6_found_11 : decode cX6_found 11 = .ok (.ireturn, 1) := dk_172 (dk_at dksX6_found_0 11 rfl rfl)
theorem dX6_found_12 : decode cX6_found 12 = .ok (.aload_n 0, 1) := dk_42 (dk_at dksX6_found_0 12 rfl rfl)
theorem dX6_found_13 : decode cX6_found 13 = .ok (.getfield 29, 3) := dk_180 0 29 (dk_at dksX6_found_0 13 rfl rfl)
theorem dX6_found_16 : decode cX6_found 16 = .ok (.iload_n 1, 1) := dk_27 (dk_at dksX6_found_0 16 rfl rfl)
theorem dX6_found_17 : decode cX6_found 17 = .ok (.iaload, 1) := dk_46 (dk_at dksX6_found_0 17 rfl rfl)
theorem dX6_found_18 : decode cX6_found 18 = .ok (.iload_n 2, 1) := dk_28 (dk_at dksX6_found_0 18 rfl rfl)
theorem dX6_found_19 : decode cX6_found 19 = .ok (.if_icmp .eq 6, 3) := dk_159 0 6 (dk_at dksX6_found_0 19 rfl rfl)
theorem dX6_found_22 : decode cX6_found 22 = .ok (.bipush (-12), 2) := dk_16 244 (dk_at dksX6_found_0 22 rfl rfl)
theorem dX6_found_24 : decode cX6_found 24 = .ok (.ireturn, 1) := dk_172 (dk_at dksX6_found_1 0 rfl rfl)
theorem dX6_found_25 : decode cX6_found 25 = .ok (.iload_n 3, 1) := dk_29 (dk_at dksX6_found_1 1 rfl rfl)
theorem dX6_found_26 : decode cX6_found 26 = .ok (.ifCond .lt 16, 3) := dk_155 0 16 (dk_at dksX6_found_1 2 rfl rfl)
theorem dX6_found_29 : decode cX6_found 29 = .ok (.iload 4, 2) := dk_21 4 (dk_at dksX6_found_1 5 rfl rfl)
theorem dX6_found_31 : decode cX6_found 31 = .ok (.aload_n 0, 1) := dk_42 (dk_at dksX6_found_1 7 rfl rfl)
theorem dX6_found_32 : decode cX6_found 32 = .ok (.getfield 32, 3) := dk_180 0 32 (dk_at dksX6_found_1 8 rfl rfl)
theorem dX6_found_35 : decode cX6_found 35 = .ok (.iload_n 1, 1) := dk_27 (dk_at dksX6_found_1 11 rfl rfl)
theorem dX6_found_36 : decode cX6_found 36 = .ok (.iaload, 1) := dk_46 (dk_at dksX6_found_1 12 rfl rfl)
theorem dX6_found_37 : decode cX6_found 37 = .ok (.iload_n 3, 1) := dk_29 (dk_at dksX6_found_1 13 rfl rfl)
theorem dX6_found_38 : decode cX6_found 38 = .ok (.isub, 1) := dk_100 (dk_at dksX6_found_1 14 rfl rfl)
theorem dX6_found_39 : decode cX6_found 39 = .ok (.if_icmp .le 8, 3) := dk_164 0 8 (dk_at dksX6_found_1 15 rfl rfl)
theorem dX6_found_42 : decode cX6_found 42 = .ok (.bipush (-13), 2) := dk_16 243 (dk_at dksX6_found_1 18 rfl rfl)
theorem dX6_found_44 : decode cX6_found 44 = .ok (.goto 4, 3) := dk_167 0 4 (dk_at dksX6_found_1 20 rfl rfl)
theorem dX6_found_47 : decode cX6_found 47 = .ok (.iconst 0, 1) := dk_3 (dk_at dksX6_found_1 23 rfl rfl)
theorem dX6_found_48 : decode cX6_found 48 = .ok (.ireturn, 1) := dk_172 (dk_at dksX6_found_2 0 rfl rfl)
abbrev cX6_film : ByteArray := prog_11_method_79_code
def yX6_film : MethodName := ⟨RX6, "film", "(III)I"⟩
def dkwX6_film_4 : List UInt8 := [167, 255, 217, 42, 180, 0, 7, 3, 46, 172]
abbrev dktX6_film_4 : List UInt8 := dkwX6_film_4 ++ []
def dkwX6_film_3 : List UInt8 := [27, 104, 29, 96, 21, 5, 96, 42, 180, 0, 51, 21, 5, 46, 184, 0, 93, 133, 80, 132, 5, 1]
abbrev dktX6_film_3 : List UInt8 := dkwX6_film_3 ++ dktX6_film_4
def dkwX6_film_2 : List UInt8 := [42, 182, 0, 99, 3, 54, 5, 21, 5, 42, 180, 0, 7, 3, 46, 162, 0, 34, 42, 180, 0, 35, 16, 24]
abbrev dktX6_film_2 : List UInt8 := dkwX6_film_2 ++ dktX6_film_3
def dkwX6_film_1 : List UInt8 := [29, 42, 180, 0, 7, 3, 46, 182, 1, 32, 54, 4, 21, 4, 156, 0, 6, 21, 4, 172, 42, 182, 0, 96]
abbrev dktX6_film_1 : List UInt8 := dkwX6_film_1 ++ dktX6_film_2
def dkwX6_film_0 : List UInt8 := [27, 184, 1, 29, 153, 0, 15, 28, 133, 9, 20, 1, 27, 184, 0, 71, 154, 0, 5, 2, 172, 42, 27, 28]
abbrev dktX6_film_0 : List UInt8 := dkwX6_film_0 ++ dktX6_film_1
theorem dksX6_film_0 : cX6_film.data.toList.drop 0 = dktX6_film_0 := by decide +kernel
theorem dksX6_film_1 : cX6_film.data.toList.drop 24 = dktX6_film_1 := dk_seg dksX6_film_0 24 rfl rfl
theorem dksX6_film_2 : cX6_film.data.toList.drop 48 = dktX6_film_2 := dk_seg dksX6_film_1 24 rfl rfl
theorem dksX6_film_3 : cX6_film.data.toList.drop 72 = dktX6_film_3 := dk_seg dksX6_film_2 24 rfl rfl
theorem dksX6_film_4 : cX6_film.data.toList.drop 94 = dktX6_film_4 := dk_seg dksX6_film_3 22 rfl rfl
theorem dX6_film_0 : decode cX6_film 0 = .ok (.iload_n 1, 1) := dk_27 (dk_at dksX6_film_0 0 rfl rfl)
theorem dX6_film_1 : decode cX6_film 1 = .ok (.invokestatic 285, 3) := dk_184 1 29 (dk_at dksX6_film_0 1 rfl rfl)
theorem dX6_film_4 : decode cX6_film 4 = .ok (.ifCond .eq 15, 3) := dk_153 0 15 (dk_at dksX6_film_0 4 rfl rfl)
theorem dX6_film_7 : decode cX6_film 7 = .ok (.iload_n 2, 1) := dk_28 (dk_at dksX6_film_0 7 rfl rfl)
theorem dX6_film_8 : decode cX6_film 8 = .ok (.i2l, 1) := dk_133 (dk_at dksX6_film_0 8 rfl rfl)
theorem dX6_film_9 : decode cX6_film 9 = .ok (.lconst 0, 1) := dk_9 (dk_at dksX6_film_0 9 rfl rfl)
theorem dX6_film_10 : decode cX6_film 10 = .ok (.ldc2_w 283, 3) := dk_20 1 27 (dk_at dksX6_film_0 10 rfl rfl)
theorem dX6_film_13 : decode cX6_film 13 = .ok (.invokestatic 71, 3) := dk_184 0 71 (dk_at dksX6_film_0 13 rfl rfl)
theorem dX6_film_16 : decode cX6_film 16 = .ok (.ifCond .ne 5, 3) := dk_154 0 5 (dk_at dksX6_film_0 16 rfl rfl)
theorem dX6_film_19 : decode cX6_film 19 = .ok (.iconst (-1), 1) := dk_2 (dk_at dksX6_film_0 19 rfl rfl)
theorem dX6_film_20 : decode cX6_film 20 = .ok (.ireturn, 1) := dk_172 (dk_at dksX6_film_0 20 rfl rfl)
theorem dX6_film_21 : decode cX6_film 21 = .ok (.aload_n 0, 1) := dk_42 (dk_at dksX6_film_0 21 rfl rfl)
theorem dX6_film_22 : decode cX6_film 22 = .ok (.iload_n 1, 1) := dk_27 (dk_at dksX6_film_0 22 rfl rfl)
theorem dX6_film_23 : decode cX6_film 23 = .ok (.iload_n 2, 1) := dk_28 (dk_at dksX6_film_0 23 rfl rfl)
theorem dX6_film_24 : decode cX6_film 24 = .ok (.iload_n 3, 1) := dk_29 (dk_at dksX6_film_1 0 rfl rfl)
theorem dX6_film_25 : decode cX6_film 25 = .ok (.aload_n 0, 1) := dk_42 (dk_at dksX6_film_1 1 rfl rfl)
theorem dX6_film_26 : decode cX6_film 26 = .ok (.getfield 7, 3) := dk_180 0 7 (dk_at dksX6_film_1 2 rfl rfl)
theorem dX6_film_29 : decode cX6_film 29 = .ok (.iconst 0, 1) := dk_3 (dk_at dksX6_film_1 5 rfl rfl)
theorem dX6_film_30 : decode cX6_film 30 = .ok (.iaload, 1) := dk_46 (dk_at dksX6_film_1 6 rfl rfl)
theorem dX6_film_31 : decode cX6_film 31 = .ok (.invokevirtual 288, 3) := dk_182 1 32 (dk_at dksX6_film_1 7 rfl rfl)
theorem dX6_film_34 : decode cX6_film 34 = .ok (.istore 4, 2) := dk_54 4 (dk_at dksX6_film_1 10 rfl rfl)
theorem dX6_film_36 : decode cX6_film 36 = .ok (.iload 4, 2) := dk_21 4 (dk_at dksX6_film_1 12 rfl rfl)
theorem dX6_film_38 : decode cX6_film 38 = .ok (.ifCond .ge 6, 3) := dk_156 0 6 (dk_at dksX6_film_1 14 rfl rfl)
theorem dX6_film_41 : decode cX6_film 41 = .ok (.iload 4, 2) := dk_21 4 (dk_at dksX6_film_1 17 rfl rfl)
theorem dX6_film_43 : decode cX6_film 43 = .ok (.ireturn, 1) := dk_172 (dk_at dksX6_film_1 19 rfl rfl)
theorem dX6_film_44 : decode cX6_film 44 = .ok (.aload_n 0, 1) := dk_42 (dk_at dksX6_film_1 20 rfl rfl)
theorem dX6_film_45 : decode cX6_film 45 = .ok (.invokevirtual 96, 3) := dk_182 0 96 (dk_at dksX6_film_1 21 rfl rfl)
theorem dX6_film_48 : decode cX6_film 48 = .ok (.aload_n 0, 1) := dk_42 (dk_at dksX6_film_2 0 rfl rfl)
theorem dX6_film_49 : decode cX6_film 49 = .ok (.invokevirtual 99, 3) := dk_182 0 99 (dk_at dksX6_film_2 1 rfl rfl)
theorem dX6_film_52 : decode cX6_film 52 = .ok (.iconst 0, 1) := dk_3 (dk_at dksX6_film_2 4 rfl rfl)
theorem dX6_film_53 : decode cX6_film 53 = .ok (.istore 5, 2) := dk_54 5 (dk_at dksX6_film_2 5 rfl rfl)
theorem dX6_film_55 : decode cX6_film 55 = .ok (.iload 5, 2) := dk_21 5 (dk_at dksX6_film_2 7 rfl rfl)
theorem dX6_film_57 : decode cX6_film 57 = .ok (.aload_n 0, 1) := dk_42 (dk_at dksX6_film_2 9 rfl rfl)
theorem dX6_film_58 : decode cX6_film 58 = .ok (.getfield 7, 3) := dk_180 0 7 (dk_at dksX6_film_2 10 rfl rfl)
theorem dX6_film_61 : decode cX6_film 61 = .ok (.iconst 0, 1) := dk_3 (dk_at dksX6_film_2 13 rfl rfl)
theorem dX6_film_62 : decode cX6_film 62 = .ok (.iaload, 1) := dk_46 (dk_at dksX6_film_2 14 rfl rfl)
theorem dX6_film_63 : decode cX6_film 63 = .ok (.if_icmp .ge 34, 3) := dk_162 0 34 (dk_at dksX6_film_2 15 rfl rfl)
theorem dX6_film_66 : decode cX6_film 66 = .ok (.aload_n 0, 1) := dk_42 (dk_at dksX6_film_2 18 rfl rfl)
theorem dX6_film_67 : decode cX6_film 67 = .ok (.getfield 35, 3) := dk_180 0 35 (dk_at dksX6_film_2 19 rfl rfl)
theorem dX6_film_70 : decode cX6_film 70 = .ok (.bipush 24, 2) := dk_16 24 (dk_at dksX6_film_2 22 rfl rfl)
theorem dX6_film_72 : decode cX6_film 72 = .ok (.iload_n 1, 1) := dk_27 (dk_at dksX6_film_3 0 rfl rfl)
theorem dX6_film_73 : decode cX6_film 73 = .ok (.imul, 1) := dk_104 (dk_at dksX6_film_3 1 rfl rfl)
theorem dX6_film_74 : decode cX6_film 74 = .ok (.iload_n 3, 1) := dk_29 (dk_at dksX6_film_3 2 rfl rfl)
theorem dX6_film_75 : decode cX6_film 75 = .ok (.iadd, 1) := dk_96 (dk_at dksX6_film_3 3 rfl rfl)
theorem dX6_film_76 : decode cX6_film 76 = .ok (.iload 5, 2) := dk_21 5 (dk_at dksX6_film_3 4 rfl rfl)
theorem dX6_film_78 : decode cX6_film 78 = .ok (.iadd, 1) := dk_96 (dk_at dksX6_film_3 6 rfl rfl)
theorem dX6_film_79 : decode cX6_film 79 = .ok (.aload_n 0, 1) := dk_42 (dk_at dksX6_film_3 7 rfl rfl)
theorem dX6_film_80 : decode cX6_film 80 = .ok (.getfield 51, 3) := dk_180 0 51 (dk_at dksX6_film_3 8 rfl rfl)
theorem dX6_film_83 : decode cX6_film 83 = .ok (.iload 5, 2) := dk_21 5 (dk_at dksX6_film_3 11 rfl rfl)
theorem dX6_film_85 : decode cX6_film 85 = .ok (.iaload, 1) := dk_46 (dk_at dksX6_film_3 13 rfl rfl)
theorem dX6_film_86 : decode cX6_film 86 = .ok (.invokestatic 93, 3) := dk_184 0 93 (dk_at dksX6_film_3 14 rfl rfl)
theorem dX6_film_89 : decode cX6_film 89 = .ok (.i2l, 1) := dk_133 (dk_at dksX6_film_3 17 rfl rfl)
theorem dX6_film_90 : decode cX6_film 90 = .ok (.lastore, 1) := dk_80 (dk_at dksX6_film_3 18 rfl rfl)
theorem dX6_film_91 : decode cX6_film 91 = .ok (.iinc 5 1, 3) := dk_132 5 1 (dk_at dksX6_film_3 19 rfl rfl)
theorem dX6_film_94 : decode cX6_film 94 = .ok (.goto (-39), 3) := dk_167 255 217 (dk_at dksX6_film_4 0 rfl rfl)
theorem dX6_film_97 : decode cX6_film 97 = .ok (.aload_n 0, 1) := dk_42 (dk_at dksX6_film_4 3 rfl rfl)
theorem dX6_film_98 : decode cX6_film 98 = .ok (.getfield 7, 3) := dk_180 0 7 (dk_at dksX6_film_4 4 rfl rfl)
theorem dX6_film_101 : decode cX6_film 101 = .ok (.iconst 0, 1) := dk_3 (dk_at dksX6_film_4 7 rfl rfl)
theorem dX6_film_102 : decode cX6_film 102 = .ok (.iaload, 1) := dk_46 (dk_at dksX6_film_4 8 rfl rfl)
theorem dX6_film_103 : decode cX6_film 103 = .ok (.ireturn, 1) := dk_172 (dk_at dksX6_film_4 9 rfl rfl)
abbrev cX6_sheet : ByteArray := prog_11_method_80_code
def yX6_sheet : MethodName := ⟨RX6, "sheet", "(III)I"⟩
def dkwX6_sheet_3 : List UInt8 := [80, 132, 4, 1, 167, 255, 233, 29, 172]
abbrev dktX6_sheet_3 : List UInt8 := dkwX6_sheet_3 ++ []
def dkwX6_sheet_2 : List UInt8 := [29, 79, 3, 54, 4, 21, 4, 16, 24, 162, 0, 22, 42, 180, 0, 35, 16, 24, 27, 104, 21, 4, 96, 9]
abbrev dktX6_sheet_2 : List UInt8 := dkwX6_sheet_2 ++ dktX6_sheet_3
def dkwX6_sheet_1 : List UInt8 := [164, 0, 5, 2, 172, 29, 156, 0, 6, 16, 242, 172, 42, 180, 0, 29, 27, 28, 79, 42, 180, 0, 32, 27]
abbrev dktX6_sheet_1 : List UInt8 := dkwX6_sheet_1 ++ dktX6_sheet_2
def dkwX6_sheet_0 : List UInt8 := [27, 184, 1, 29, 153, 0, 21, 28, 133, 9, 20, 1, 27, 184, 0, 71, 153, 0, 9, 29, 16, 24]
abbrev dktX6_sheet_0 : List UInt8 := dkwX6_sheet_0 ++ dktX6_sheet_1
theorem dksX6_sheet_0 : cX6_sheet.data.toList.drop 0 = dktX6_sheet_0 := by decide +kernel
theorem dksX6_sheet_1 : cX6_sheet.data.toList.drop 22 = dktX6_sheet_1 := dk_seg dksX6_sheet_0 22 rfl rfl
theorem dksX6_sheet_2 : cX6_sheet.data.toList.drop 46 = dktX6_sheet_2 := dk_seg dksX6_sheet_1 24 rfl rfl
theorem dksX6_sheet_3 : cX6_sheet.data.toList.drop 70 = dktX6_sheet_3 := dk_seg dksX6_sheet_2 24 rfl rfl
theorem dX6_sheet_0 : decode cX6_sheet 0 = .ok (.iload_n 1, 1) := dk_27 (dk_at dksX6_sheet_0 0 rfl rfl)
theorem dX6_sheet_1 : decode cX6_sheet 1 = .ok (.invokestatic 285, 3) := dk_184 1 29 (dk_at dksX6_sheet_0 1 rfl rfl)
theorem dX6_sheet_4 : decode cX6_sheet 4 = .ok (.ifCond .eq 21, 3) := dk_153 0 21 (dk_at dksX6_sheet_0 4 rfl rfl)
theorem dX6_sheet_7 : decode cX6_sheet 7 = .ok (.iload_n 2, 1) := dk_28 (dk_at dksX6_sheet_0 7 rfl rfl)
theorem dX6_sheet_8 : decode cX6_sheet 8 = .ok (.i2l, 1) := dk_133 (dk_at dksX6_sheet_0 8 rfl rfl)
theorem dX6_sheet_9 : decode cX6_sheet 9 = .ok (.lconst 0, 1) := dk_9 (dk_at dksX6_sheet_0 9 rfl rfl)
theorem dX6_sheet_10 : decode cX6_sheet 10 = .ok (.ldc2_w 283, 3) := dk_20 1 27 (dk_at dksX6_sheet_0 10 rfl rfl)
theorem dX6_sheet_13 : decode cX6_sheet 13 = .ok (.invokestatic 71, 3) := dk_184 0 71 (dk_at dksX6_sheet_0 13 rfl rfl)
theorem dX6_sheet_16 : decode cX6_sheet 16 = .ok (.ifCond .eq 9, 3) := dk_153 0 9 (dk_at dksX6_sheet_0 16 rfl rfl)
theorem dX6_sheet_19 : decode cX6_sheet 19 = .ok (.iload_n 3, 1) := dk_29 (dk_at dksX6_sheet_0 19 rfl rfl)
theorem dX6_sheet_20 : decode cX6_sheet 20 = .ok (.bipush 24, 2) := dk_16 24 (dk_at dksX6_sheet_0 20 rfl rfl)
theorem dX6_sheet_22 : decode cX6_sheet 22 = .ok (.if_icmp .le 5, 3) := dk_164 0 5 (dk_at dksX6_sheet_1 0 rfl rfl)
theorem dX6_sheet_25 : decode cX6_sheet 25 = .ok (.iconst (-1), 1) := dk_2 (dk_at dksX6_sheet_1 3 rfl rfl)
theorem dX6_sheet_26 : decode cX6_sheet 26 = .ok (.ireturn, 1) := dk_172 (dk_at dksX6_sheet_1 4 rfl rfl)
theorem dX6_sheet_27 : decode cX6_sheet 27 = .ok (.iload_n 3, 1) := dk_29 (dk_at dksX6_sheet_1 5 rfl rfl)
theorem dX6_sheet_28 : decode cX6_sheet 28 = .ok (.ifCond .ge 6, 3) := dk_156 0 6 (dk_at dksX6_sheet_1 6 rfl rfl)
theorem dX6_sheet_31 : decode cX6_sheet 31 = .ok (.bipush (-14), 2) := dk_16 242 (dk_at dksX6_sheet_1 9 rfl rfl)
theorem dX6_sheet_33 : decode cX6_sheet 33 = .ok (.ireturn, 1) := dk_172 (dk_at dksX6_sheet_1 11 rfl rfl)
theorem dX6_sheet_34 : decode cX6_sheet 34 = .ok (.aload_n 0, 1) := dk_42 (dk_at dksX6_sheet_1 12 rfl rfl)
theorem dX6_sheet_35 : decode cX6_sheet 35 = .ok (.getfield 29, 3) := dk_180 0 29 (dk_at dksX6_sheet_1 13 rfl rfl)
theorem dX6_sheet_38 : decode cX6_sheet 38 = .ok (.iload_n 1, 1) := dk_27 (dk_at dksX6_sheet_1 16 rfl rfl)
theorem dX6_sheet_39 : decode cX6_sheet 39 = .ok (.iload_n 2, 1) := dk_28 (dk_at dksX6_sheet_1 17 rfl rfl)
theorem dX6_sheet_40 : decode cX6_sheet 40 = .ok (.iastore, 1) := dk_79 (dk_at dksX6_sheet_1 18 rfl rfl)
theorem dX6_sheet_41 : decode cX6_sheet 41 = .ok (.aload_n 0, 1) := dk_42 (dk_at dksX6_sheet_1 19 rfl rfl)
theorem dX6_sheet_42 : decode cX6_sheet 42 = .ok (.getfield 32, 3) := dk_180 0 32 (dk_at dksX6_sheet_1 20 rfl rfl)
theorem dX6_sheet_45 : decode cX6_sheet 45 = .ok (.iload_n 1, 1) := dk_27 (dk_at dksX6_sheet_1 23 rfl rfl)
theorem dX6_sheet_46 : decode cX6_sheet 46 = .ok (.iload_n 3, 1) := dk_29 (dk_at dksX6_sheet_2 0 rfl rfl)
theorem dX6_sheet_47 : decode cX6_sheet 47 = .ok (.iastore, 1) := dk_79 (dk_at dksX6_sheet_2 1 rfl rfl)
theorem dX6_sheet_48 : decode cX6_sheet 48 = .ok (.iconst 0, 1) := dk_3 (dk_at dksX6_sheet_2 2 rfl rfl)
theorem dX6_sheet_49 : decode cX6_sheet 49 = .ok (.istore 4, 2) := dk_54 4 (dk_at dksX6_sheet_2 3 rfl rfl)
theorem dX6_sheet_51 : decode cX6_sheet 51 = .ok (.iload 4, 2) := dk_21 4 (dk_at dksX6_sheet_2 5 rfl rfl)
theorem dX6_sheet_53 : decode cX6_sheet 53 = .ok (.bipush 24, 2) := dk_16 24 (dk_at dksX6_sheet_2 7 rfl rfl)
theorem dX6_sheet_55 : decode cX6_sheet 55 = .ok (.if_icmp .ge 22, 3) := dk_162 0 22 (dk_at dksX6_sheet_2 9 rfl rfl)
theorem dX6_sheet_58 : decode cX6_sheet 58 = .ok (.aload_n 0, 1) := dk_42 (dk_at dksX6_sheet_2 12 rfl rfl)
theorem dX6_sheet_59 : decode cX6_sheet 59 = .ok (.getfield 35, 3) := dk_180 0 35 (dk_at dksX6_sheet_2 13 rfl rfl)
theorem dX6_sheet_62 : decode cX6_sheet 62 = .ok (.bipush 24, 2) := dk_16 24 (dk_at dksX6_sheet_2 16 rfl rfl)
theorem dX6_sheet_64 : decode cX6_sheet 64 = .ok (.iload_n 1, 1) := dk_27 (dk_at dksX6_sheet_2 18 rfl rfl)
theorem dX6_sheet_65 : decode cX6_sheet 65 = .ok (.imul, 1) := dk_104 (dk_at dksX6_sheet_2 19 rfl rfl)
theorem dX6_sheet_66 : decode cX6_sheet 66 = .ok (.iload 4, 2) := dk_21 4 (dk_at dksX6_sheet_2 20 rfl rfl)
theorem dX6_sheet_68 : decode cX6_sheet 68 = .ok (.iadd, 1) := dk_96 (dk_at dksX6_sheet_2 22 rfl rfl)
theorem dX6_sheet_69 : decode cX6_sheet 69 = .ok (.lconst 0, 1) := dk_9 (dk_at dksX6_sheet_2 23 rfl rfl)
theorem dX6_sheet_70 : decode cX6_sheet 70 = .ok (.lastore, 1) := dk_80 (dk_at dksX6_sheet_3 0 rfl rfl)
theorem dX6_sheet_71 : decode cX6_sheet 71 = .ok (.iinc 4 1, 3) := dk_132 4 1 (dk_at dksX6_sheet_3 1 rfl rfl)
theorem dX6_sheet_74 : decode cX6_sheet 74 = .ok (.goto (-23), 3) := dk_167 255 233 (dk_at dksX6_sheet_3 4 rfl rfl)
theorem dX6_sheet_77 : decode cX6_sheet 77 = .ok (.iload_n 3, 1) := dk_29 (dk_at dksX6_sheet_3 7 rfl rfl)
theorem dX6_sheet_78 : decode cX6_sheet 78 = .ok (.ireturn, 1) := dk_172 (dk_at dksX6_sheet_3 8 rfl rfl)
abbrev cX6_drop : ByteArray := prog_11_method_81_code
def yX6_drop : MethodName := ⟨RX6, "drop", "(I)I"⟩
def dkwX6_drop_1 : List UInt8 := [180, 0, 29, 27, 2, 79, 42, 180, 0, 32, 27, 46, 172]
abbrev dktX6_drop_1 : List UInt8 := dkwX6_drop_1 ++ []
def dkwX6_drop_0 : List UInt8 := [27, 184, 1, 29, 154, 0, 5, 2, 172, 42, 180, 0, 29, 27, 46, 156, 0, 6, 16, 245, 172, 42]
abbrev dktX6_drop_0 : List UInt8 := dkwX6_drop_0 ++ dktX6_drop_1
theorem dksX6_drop_0 : cX6_drop.data.toList.drop 0 = dktX6_drop_0 := by decide +kernel
theorem dksX6_drop_1 : cX6_drop.data.toList.drop 22 = dktX6_drop_1 := dk_seg dksX6_drop_0 22 rfl rfl
theorem dX6_drop_0 : decode cX6_drop 0 = .ok (.iload_n 1, 1) := dk_27 (dk_at dksX6_drop_0 0 rfl rfl)
theorem dX6_drop_1 : decode cX6_drop 1 = .ok (.invokestatic 285, 3) := dk_184 1 29 (dk_at dksX6_drop_0 1 rfl rfl)
theorem dX6_drop_4 : decode cX6_drop 4 = .ok (.ifCond .ne 5, 3) := dk_154 0 5 (dk_at dksX6_drop_0 4 rfl rfl)
theorem dX6_drop_7 : decode cX6_drop 7 = .ok (.iconst (-1), 1) := dk_2 (dk_at dksX6_drop_0 7 rfl rfl)
theorem dX6_drop_8 : decode cX6_drop 8 = .ok (.ireturn, 1) := dk_172 (dk_at dksX6_drop_0 8 rfl rfl)
theorem dX6_drop_9 : decode cX6_drop 9 = .ok (.aload_n 0, 1) := dk_42 (dk_at dksX6_drop_0 9 rfl rfl)
theorem dX6_drop_10 : decode cX6_drop 10 = .ok (.getfield 29, 3) := dk_180 0 29 (dk_at dksX6_drop_0 10 rfl rfl)
theorem dX6_drop_13 : decode cX6_drop 13 = .ok (.iload_n 1, 1) := dk_27 (dk_at dksX6_drop_0 13 rfl rfl)
theorem dX6_drop_14 : decode cX6_drop 14 = .ok (.iaload, 1) := dk_46 (dk_at dksX6_drop_0 14 rfl rfl)
theorem dX6_drop_15 : decode cX6_drop 15 = .ok (.ifCond .ge 6, 3) := dk_156 0 6 (dk_at dksX6_drop_0 15 rfl rfl)
theorem dX6_drop_18 : decode cX6_drop 18 = .ok (.bipush (-11), 2) := dk_16 245 (dk_at dksX6_drop_0 18 rfl rfl)
theorem dX6_drop_20 : decode cX6_drop 20 = .ok (.ireturn, 1) := dk_172 (dk_at dksX6_drop_0 20 rfl rfl)
theorem dX6_drop_21 : decode cX6_drop 21 = .ok (.aload_n 0, 1) := dk_42 (dk_at dksX6_drop_0 21 rfl rfl)
theorem dX6_drop_22 : decode cX6_drop 22 = .ok (.getfield 29, 3) := dk_180 0 29 (dk_at dksX6_drop_1 0 rfl rfl)
theorem dX6_drop_25 : decode cX6_drop 25 = .ok (.iload_n 1, 1) := dk_27 (dk_at dksX6_drop_1 3 rfl rfl)
theorem dX6_drop_26 : decode cX6_drop 26 = .ok (.iconst (-1), 1) := dk_2 (dk_at dksX6_drop_1 4 rfl rfl)
theorem dX6_drop_27 : decode cX6_drop 27 = .ok (.iastore, 1) := dk_79 (dk_at dksX6_drop_1 5 rfl rfl)
theorem dX6_drop_28 : decode cX6_drop 28 = .ok (.aload_n 0, 1) := dk_42 (dk_at dksX6_drop_1 6 rfl rfl)
theorem dX6_drop_29 : decode cX6_drop 29 = .ok (.getfield 32, 3) := dk_180 0 32 (dk_at dksX6_drop_1 7 rfl rfl)
theorem dX6_drop_32 : decode cX6_drop 32 = .ok (.iload_n 1, 1) := dk_27 (dk_at dksX6_drop_1 10 rfl rfl)
theorem dX6_drop_33 : decode cX6_drop 33 = .ok (.iaload, 1) := dk_46 (dk_at dksX6_drop_1 11 rfl rfl)
theorem dX6_drop_34 : decode cX6_drop 34 = .ok (.ireturn, 1) := dk_172 (dk_at dksX6_drop_1 12 rfl rfl)
abbrev cX6_item : ByteArray := prog_11_method_82_code
def yX6_item : MethodName := ⟨RX6, "item", "(IIIJ)I"⟩
def dkwX6_item_2 : List UInt8 := [96, 28, 22, 4, 184, 1, 36, 80, 4, 172]
abbrev dktX6_item_2 : List UInt8 := dkwX6_item_2 ++ []
def dkwX6_item_1 : List UInt8 := [29, 4, 182, 1, 32, 54, 6, 21, 6, 156, 0, 6, 21, 6, 172, 42, 180, 0, 35, 16, 24, 27, 104, 29]
abbrev dktX6_item_1 : List UInt8 := dkwX6_item_1 ++ dktX6_item_2
def dkwX6_item_0 : List UInt8 := [27, 184, 1, 29, 153, 0, 15, 28, 133, 9, 20, 1, 27, 184, 0, 71, 154, 0, 5, 2, 172, 42, 27, 28]
abbrev dktX6_item_0 : List UInt8 := dkwX6_item_0 ++ dktX6_item_1
theorem dksX6_item_0 : cX6_item.data.toList.drop 0 = dktX6_item_0 := by decide +kernel
theorem dksX6_item_1 : cX6_item.data.toList.drop 24 = dktX6_item_1 := dk_seg dksX6_item_0 24 rfl rfl
theorem dksX6_item_2 : cX6_item.data.toList.drop 48 = dktX6_item_2 := dk_seg dksX6_item_1 24 rfl rfl
theorem dX6_item_0 : decode cX6_item 0 = .ok (.iload_n 1, 1) := dk_27 (dk_at dksX6_item_0 0 rfl rfl)
theorem dX6_item_1 : decode cX6_item 1 = .ok (.invokestatic 285, 3) := dk_184 1 29 (dk_at dksX6_item_0 1 rfl rfl)
theorem dX6_item_4 : decode cX6_item 4 = .ok (.ifCond .eq 15, 3) := dk_153 0 15 (dk_at dksX6_item_0 4 rfl rfl)
theorem dX6_item_7 : decode cX6_item 7 = .ok (.iload_n 2, 1) := dk_28 (dk_at dksX6_item_0 7 rfl rfl)
theorem dX6_item_8 : decode cX6_item 8 = .ok (.i2l, 1) := dk_133 (dk_at dksX6_item_0 8 rfl rfl)
theorem dX6_item_9 : decode cX6_item 9 = .ok (.lconst 0, 1) := dk_9 (dk_at dksX6_item_0 9 rfl rfl)
theorem dX6_item_10 : decode cX6_item 10 = .ok (.ldc2_w 283, 3) := dk_20 1 27 (dk_at dksX6_item_0 10 rfl rfl)
theorem dX6_item_13 : decode cX6_item 13 = .ok (.invokestatic 71, 3) := dk_184 0 71 (dk_at dksX6_item_0 13 rfl rfl)
theorem dX6_item_16 : decode cX6_item 16 = .ok (.ifCond .ne 5, 3) := dk_154 0 5 (dk_at dksX6_item_0 16 rfl rfl)
theorem dX6_item_19 : decode cX6_item 19 = .ok (.iconst (-1), 1) := dk_2 (dk_at dksX6_item_0 19 rfl rfl)
theorem dX6_item_20 : decode cX6_item 20 = .ok (.ireturn, 1) := dk_172 (dk_at dksX6_item_0 20 rfl rfl)
theorem dX6_item_21 : decode cX6_item 21 = .ok (.aload_n 0, 1) := dk_42 (dk_at dksX6_item_0 21 rfl rfl)
theorem dX6_item_22 : decode cX6_item 22 = .ok (.iload_n 1, 1) := dk_27 (dk_at dksX6_item_0 22 rfl rfl)
theorem dX6_item_23 : decode cX6_item 23 = .ok (.iload_n 2, 1) := dk_28 (dk_at dksX6_item_0 23 rfl rfl)
theorem dX6_item_24 : decode cX6_item 24 = .ok (.iload_n 3, 1) := dk_29 (dk_at dksX6_item_1 0 rfl rfl)
theorem dX6_item_25 : decode cX6_item 25 = .ok (.iconst 1, 1) := dk_4 (dk_at dksX6_item_1 1 rfl rfl)
theorem dX6_item_26 : decode cX6_item 26 = .ok (.invokevirtual 288, 3) := dk_182 1 32 (dk_at dksX6_item_1 2 rfl rfl)
theorem dX6_item_29 : decode cX6_item 29 = .ok (.istore 6, 2) := dk_54 6 (dk_at dksX6_item_1 5 rfl rfl)
theorem dX6_item_31 : decode cX6_item 31 = .ok (.iload 6, 2) := dk_21 6 (dk_at dksX6_item_1 7 rfl rfl)
theorem dX6_item_33 : decode cX6_item 33 = .ok (.ifCond .ge 6, 3) := dk_156 0 6 (dk_at dksX6_item_1 9 rfl rfl)
theorem dX6_item_36 : decode cX6_item 36 = .ok (.iload 6, 2) := dk_21 6 (dk_at dksX6_item_1 12 rfl rfl)
theorem dX6_item_38 : decode cX6_item 38 = .ok (.ireturn, 1) := dk_172 (dk_at dksX6_item_1 14 rfl rfl)
theorem dX6_item_39 : decode cX6_item 39 = .ok (.aload_n 0, 1) := dk_42 (dk_at dksX6_item_1 15 rfl rfl)
theorem dX6_item_40 : decode cX6_item 40 = .ok (.getfield 35, 3) := dk_180 0 35 (dk_at dksX6_item_1 16 rfl rfl)
theorem dX6_item_43 : decode cX6_item 43 = .ok (.bipush 24, 2) := dk_16 24 (dk_at dksX6_item_1 19 rfl rfl)
theorem dX6_item_45 : decode cX6_item 45 = .ok (.iload_n 1, 1) := dk_27 (dk_at dksX6_item_1 21 rfl rfl)
theorem dX6_item_46 : decode cX6_item 46 = .ok (.imul, 1) := dk_104 (dk_at dksX6_item_1 22 rfl rfl)
theorem dX6_item_47 : decode cX6_item 47 = .ok (.iload_n 3, 1) := dk_29 (dk_at dksX6_item_1 23 rfl rfl)
theorem dX6_item_48 : decode cX6_item 48 = .ok (.iadd, 1) := dk_96 (dk_at dksX6_item_2 0 rfl rfl)
theorem dX6_item_49 : decode cX6_item 49 = .ok (.iload_n 2, 1) := dk_28 (dk_at dksX6_item_2 1 rfl rfl)
theorem dX6_item_50 : decode cX6_item 50 = .ok (.lload 4, 2) := dk_22 4 (dk_at dksX6_item_2 2 rfl rfl)
theorem dX6_item_52 : decode cX6_item 52 = .ok (.invokestatic 292, 3) := dk_184 1 36 (dk_at dksX6_item_2 4 rfl rfl)
theorem dX6_item_55 : decode cX6_item 55 = .ok (.lastore, 1) := dk_80 (dk_at dksX6_item_2 7 rfl rfl)
theorem dX6_item_56 : decode cX6_item 56 = .ok (.iconst 1, 1) := dk_4 (dk_at dksX6_item_2 8 rfl rfl)
theorem dX6_item_57 : decode cX6_item 57 = .ok (.ireturn, 1) := dk_172 (dk_at dksX6_item_2 9 rfl rfl)
abbrev cX6_cut : ByteArray := prog_11_method_76_code
def yX6_cut : MethodName := ⟨RX6, "cut", "(IJ)J"⟩
def dkwX6_cut_1 : List UInt8 := [5, 160, 0, 9, 31, 136, 133, 167, 0, 4, 31, 173]
abbrev dktX6_cut_1 : List UInt8 := dkwX6_cut_1 ++ []
def dkwX6_cut_0 : List UInt8 := [26, 154, 0, 10, 31, 136, 145, 133, 167, 0, 27, 26, 4, 160, 0, 10, 31, 136, 147, 133, 167, 0, 15, 26]
abbrev dktX6_cut_0 : List UInt8 := dkwX6_cut_0 ++ dktX6_cut_1
theorem dksX6_cut_0 : cX6_cut.data.toList.drop 0 = dktX6_cut_0 := by decide +kernel
theorem dksX6_cut_1 : cX6_cut.data.toList.drop 24 = dktX6_cut_1 := dk_seg dksX6_cut_0 24 rfl rfl
theorem dX6_cut_0 : decode cX6_cut 0 = .ok (.iload_n 0, 1) := dk_26 (dk_at dksX6_cut_0 0 rfl rfl)
theorem dX6_cut_1 : decode cX6_cut 1 = .ok (.ifCond .ne 10, 3) := dk_154 0 10 (dk_at dksX6_cut_0 1 rfl rfl)
theorem dX6_cut_4 : decode cX6_cut 4 = .ok (.lload_n 1, 1) := dk_31 (dk_at dksX6_cut_0 4 rfl rfl)
theorem dX6_cut_5 : decode cX6_cut 5 = .ok (.l2i, 1) := dk_136 (dk_at dksX6_cut_0 5 rfl rfl)
theorem dX6_cut_6 : decode cX6_cut 6 = .ok (.i2b, 1) := dk_145 (dk_at dksX6_cut_0 6 rfl rfl)
theorem dX6_cut_7 : decode cX6_cut 7 = .ok (.i2l, 1) := dk_133 (dk_at dksX6_cut_0 7 rfl rfl)
theorem dX6_cut_8 : decode cX6_cut 8 = .ok (.goto 27, 3) := dk_167 0 27 (dk_at dksX6_cut_0 8 rfl rfl)
theorem dX6_cut_11 : decode cX6_cut 11 = .ok (.iload_n 0, 1) := dk_26 (dk_at dksX6_cut_0 11 rfl rfl)
theorem dX6_cut_12 : decode cX6_cut 12 = .ok (.iconst 1, 1) := dk_4 (dk_at dksX6_cut_0 12 rfl rfl)
theorem dX6_cut_13 : decode cX6_cut 13 = .ok (.if_icmp .ne 10, 3) := dk_160 0 10 (dk_at dksX6_cut_0 13 rfl rfl)
theorem dX6_cut_16 : decode cX6_cut 16 = .ok (.lload_n 1, 1) := dk_31 (dk_at dksX6_cut_0 16 rfl rfl)
theorem dX6_cut_17 : decode cX6_cut 17 = .ok (.l2i, 1) := dk_136 (dk_at dksX6_cut_0 17 rfl rfl)
theorem dX6_cut_18 : decode cX6_cut 18 = .ok (.i2s, 1) := dk_147 (dk_at dksX6_cut_0 18 rfl rfl)
theorem dX6_cut_19 : decode cX6_cut 19 = .ok (.i2l, 1) := dk_133 (dk_at dksX6_cut_0 19 rfl rfl)
theorem dX6_cut_20 : decode cX6_cut 20 = .ok (.goto 15, 3) := dk_167 0 15 (dk_at dksX6_cut_0 20 rfl rfl)
theorem dX6_cut_23 : decode cX6_cut 23 = .ok (.iload_n 0, 1) := dk_26 (dk_at dksX6_cut_0 23 rfl rfl)
theorem dX6_cut_24 : decode cX6_cut 24 = .ok (.iconst 2, 1) := dk_5 (dk_at dksX6_cut_1 0 rfl rfl)
theorem dX6_cut_25 : decode cX6_cut 25 = .ok (.if_icmp .ne 9, 3) := dk_160 0 9 (dk_at dksX6_cut_1 1 rfl rfl)
theorem dX6_cut_28 : decode cX6_cut 28 = .ok (.lload_n 1, 1) := dk_31 (dk_at dksX6_cut_1 4 rfl rfl)
theorem dX6_cut_29 : decode cX6_cut 29 = .ok (.l2i, 1) := dk_136 (dk_at dksX6_cut_1 5 rfl rfl)
theorem dX6_cut_30 : decode cX6_cut 30 = .ok (.i2l, 1) := dk_133 (dk_at dksX6_cut_1 6 rfl rfl)
theorem dX6_cut_31 : decode cX6_cut 31 = .ok (.goto 4, 3) := dk_167 0 4 (dk_at dksX6_cut_1 7 rfl rfl)
theorem dX6_cut_34 : decode cX6_cut 34 = .ok (.lload_n 1, 1) := dk_31 (dk_at dksX6_cut_1 10 rfl rfl)
theorem dX6_cut_35 : decode cX6_cut 35 = .ok (.lreturn, 1) := dk_173 (dk_at dksX6_cut_1 11 rfl rfl)
abbrev cX6_copy : ByteArray := prog_11_method_83_code
def yX6_copy : MethodName := ⟨RX6, "copy", "(IIIII)I"⟩
def dkwX6_copy_7 : List UInt8 := [180, 0, 39, 21, 6, 47, 80, 132, 6, 1, 167, 255, 224, 21, 5, 172]
abbrev dktX6_copy_7 : List UInt8 := dkwX6_copy_7 ++ []
def dkwX6_copy_6 : List UInt8 := [54, 6, 21, 6, 21, 5, 162, 0, 31, 42, 180, 0, 35, 16, 24, 29, 104, 21, 4, 96, 21, 6, 96, 42]
abbrev dktX6_copy_6 : List UInt8 := dkwX6_copy_6 ++ dktX6_copy_7
def dkwX6_copy_5 : List UInt8 := [21, 6, 42, 180, 0, 35, 16, 24, 27, 104, 28, 96, 21, 6, 96, 47, 80, 132, 6, 1, 167, 255, 225, 3]
abbrev dktX6_copy_5 : List UInt8 := dkwX6_copy_5 ++ dktX6_copy_6
def dkwX6_copy_4 : List UInt8 := [21, 4, 100, 164, 0, 6, 16, 243, 172, 3, 54, 6, 21, 6, 21, 5, 162, 0, 30, 42, 180, 0, 39]
abbrev dktX6_copy_4 : List UInt8 := dkwX6_copy_4 ++ dktX6_copy_5
def dkwX6_copy_3 : List UInt8 := [155, 0, 30, 21, 5, 42, 180, 0, 32, 27, 46, 28, 100, 163, 0, 17, 21, 5, 42, 180, 0, 32, 29, 46]
abbrev dktX6_copy_3 : List UInt8 := dkwX6_copy_3 ++ dktX6_copy_4
def dkwX6_copy_2 : List UInt8 := [180, 0, 29, 29, 46, 159, 0, 6, 16, 244, 172, 21, 5, 155, 0, 39, 28, 155, 0, 35, 21, 4]
abbrev dktX6_copy_2 : List UInt8 := dkwX6_copy_2 ++ dktX6_copy_3
def dkwX6_copy_1 : List UInt8 := [155, 0, 12, 42, 180, 0, 29, 29, 46, 156, 0, 6, 16, 245, 172, 42, 180, 0, 29, 27, 46, 42]
abbrev dktX6_copy_1 : List UInt8 := dkwX6_copy_1 ++ dktX6_copy_2
def dkwX6_copy_0 : List UInt8 := [27, 184, 1, 29, 153, 0, 10, 29, 184, 1, 29, 154, 0, 5, 2, 172, 42, 180, 0, 29, 27, 46]
abbrev dktX6_copy_0 : List UInt8 := dkwX6_copy_0 ++ dktX6_copy_1
theorem dksX6_copy_0 : cX6_copy.data.toList.drop 0 = dktX6_copy_0 := by decide +kernel
theorem dksX6_copy_1 : cX6_copy.data.toList.drop 22 = dktX6_copy_1 := dk_seg dksX6_copy_0 22 rfl rfl
theorem dksX6_copy_2 : cX6_copy.data.toList.drop 44 = dktX6_copy_2 := dk_seg dksX6_copy_1 22 rfl rfl
theorem dksX6_copy_3 : cX6_copy.data.toList.drop 66 = dktX6_copy_3 := dk_seg dksX6_copy_2 22 rfl rfl
theorem dksX6_copy_4 : cX6_copy.data.toList.drop 90 = dktX6_copy_4 := dk_seg dksX6_copy_3 24 rfl rfl
theorem dksX6_copy_5 : cX6_copy.data.toList.drop 113 = dktX6_copy_5 := dk_seg dksX6_copy_4 23 rfl rfl
theorem dksX6_copy_6 : cX6_copy.data.toList.drop 137 = dktX6_copy_6 := dk_seg dksX6_copy_5 24 rfl rfl
theorem dksX6_copy_7 : cX6_copy.data.toList.drop 161 = dktX6_copy_7 := dk_seg dksX6_copy_6 24 rfl rfl
theorem dX6_copy_0 : decode cX6_copy 0 = .ok (.iload_n 1, 1) := dk_27 (dk_at dksX6_copy_0 0 rfl rfl)
theorem dX6_copy_1 : decode cX6_copy 1 = .ok (.invokestatic 285, 3) := dk_184 1 29 (dk_at dksX6_copy_0 1 rfl rfl)
theorem dX6_copy_4 : decode cX6_copy 4 = .ok (.ifCond .eq 10, 3) := dk_153 0 10 (dk_at dksX6_copy_0 4 rfl rfl)
theorem dX6_copy_7 : decode cX6_copy 7 = .ok (.iload_n 3, 1) := dk_29 (dk_at dksX6_copy_0 7 rfl rfl)
theorem dX6_copy_8 : decode cX6_copy 8 = .ok (.invokestatic 285, 3) := dk_184 1 29 (dk_at dksX6_copy_0 8 rfl rfl)
theorem dX6_copy_11 : decode cX6_copy 11 = .ok (.ifCond .ne 5, 3) := dk_154 0 5 (dk_at dksX6_copy_0 11 rfl rfl)
theorem dX6_copy_14 : decode cX6_copy 14 = .ok (.iconst (-1), 1) := dk_2 (dk_at dksX6_copy_0 14 rfl rfl)
theorem dX6_copy_15 : decode cX6_copy 15 = .ok (.ireturn, 1) := dk_172 (dk_at dksX6_copy_0 15 rfl rfl)
theorem dX6_copy_16 : decode cX6_copy 16 = .ok (.aload_n 0, 1) := dk_42 (dk_at dksX6_copy_0 16 rfl rfl)
theorem dX6_copy_17 : decode cX6_copy 17 = .ok (.getfield 29, 3) := dk_180 0 29 (dk_at dksX6_copy_0 17 rfl rfl)
theorem dX6_copy_20 : decode cX6_copy 20 = .ok (.iload_n 1, 1) := dk_27 (dk_at dksX6_copy_0 20 rfl rfl)
theorem dX6_copy_21 : decode cX6_copy 21 = .ok (.iaload, 1) := dk_46 (dk_at dksX6_copy_0 21 rfl rfl)
theorem dX6_copy_22 : decode cX6_copy 22 = .ok (.ifCond .lt 12, 3) := dk_155 0 12 (dk_at dksX6_copy_1 0 rfl rfl)
theorem dX6_copy_25 : decode cX6_copy 25 = .ok (.aload_n 0, 1) := dk_42 (dk_at dksX6_copy_1 3 rfl rfl)
theorem dX6_copy_26 : decode cX6_copy 26 = .ok (.getfield 29, 3) := dk_180 0 29 (dk_at dksX6_copy_1 4 rfl rfl)
theorem dX6_copy_29 : decode cX6_copy 29 = .ok (.iload_n 3, 1) := dk_29 (dk_at dksX6_copy_1 7 rfl rfl)
theorem dX6_copy_30 : decode cX6_copy 30 = .ok (.iaload, 1) := dk_46 (dk_at dksX6_copy_1 8 rfl rfl)
theorem dX6_copy_31 : decode cX6_copy 31 = .ok (.ifCond .ge 6, 3) := dk_156 0 6 (dk_at dksX6_copy_1 9 rfl rfl)
theorem dX6_copy_34 : decode cX6_copy 34 = .ok (.bipush (-11), 2) := dk_16 245 (dk_at dksX6_copy_1 12 rfl rfl)
theorem dX6_copy_36 : decode cX6_copy 36 = .ok (.ireturn, 1) := dk_172 (dk_at dksX6_copy_1 14 rfl rfl)
theorem dX6_copy_37 : decode cX6_copy 37 = .ok (.aload_n 0, 1) := dk_42 (dk_at dksX6_copy_1 15 rfl rfl)
theorem dX6_copy_38 : decode cX6_copy 38 = .ok (.getfield 29, 3) := dk_180 0 29 (dk_at dksX6_copy_1 16 rfl rfl)
theorem dX6_copy_41 : decode cX6_copy 41 = .ok (.iload_n 1, 1) := dk_27 (dk_at dksX6_copy_1 19 rfl rfl)
theorem dX6_copy_42 : decode cX6_copy 42 = .ok (.iaload, 1) := dk_46 (dk_at dksX6_copy_1 20 rfl rfl)
theorem dX6_copy_43 : decode cX6_copy 43 = .ok (.aload_n 0, 1) := dk_42 (dk_at dksX6_copy_1 21 rfl rfl)
theorem dX6_copy_44 : decode cX6_copy 44 = .ok (.getfield 29, 3) := dk_180 0 29 (dk_at dksX6_copy_2 0 rfl rfl)
theorem dX6_copy_47 : decode cX6_copy 47 = .ok (.iload_n 3, 1) := dk_29 (dk_at dksX6_copy_2 3 rfl rfl)
theorem dX6_copy_48 : decode cX6_copy 48 = .ok (.iaload, 1) := dk_46 (dk_at dksX6_copy_2 4 rfl rfl)
theorem dX6_copy_49 : decode cX6_copy 49 = .ok (.if_icmp .eq 6, 3) := dk_159 0 6 (dk_at dksX6_copy_2 5 rfl rfl)
theorem dX6_copy_52 : decode cX6_copy 52 = .ok (.bipush (-12), 2) := dk_16 244 (dk_at dksX6_copy_2 8 rfl rfl)
theorem dX6_copy_54 : decode cX6_copy 54 = .ok (.ireturn, 1) := dk_172 (dk_at dksX6_copy_2 10 rfl rfl)
theorem dX6_copy_55 : decode cX6_copy 55 = .ok (.iload 5, 2) := dk_21 5 (dk_at dksX6_copy_2 11 rfl rfl)
theorem dX6_copy_57 : decode cX6_copy 57 = .ok (.ifCond .lt 39, 3) := dk_155 0 39 (dk_at dksX6_copy_2 13 rfl rfl)
theorem dX6_copy_60 : decode cX6_copy 60 = .ok (.iload_n 2, 1) := dk_28 (dk_at dksX6_copy_2 16 rfl rfl)
theorem dX6_copy_61 : decode cX6_copy 61 = .ok (.ifCond .lt 35, 3) := dk_155 0 35 (dk_at dksX6_copy_2 17 rfl rfl)
theorem dX6_copy_64 : decode cX6_copy 64 = .ok (.iload 4, 2) := dk_21 4 (dk_at dksX6_copy_2 20 rfl rfl)
theorem dX6_copy_66 : decode cX6_copy 66 = .ok (.ifCond .lt 30, 3) := dk_155 0 30 (dk_at dksX6_copy_3 0 rfl rfl)
theorem dX6_copy_69 : decode cX6_copy 69 = .ok (.iload 5, 2) := dk_21 5 (dk_at dksX6_copy_3 3 rfl rfl)
theorem dX6_copy_71 : decode cX6_copy 71 = .ok (.aload_n 0, 1) := dk_42 (dk_at dksX6_copy_3 5 rfl rfl)
theorem dX6_copy_72 : decode cX6_copy 72 = .ok (.getfield 32, 3) := dk_180 0 32 (dk_at dksX6_copy_3 6 rfl rfl)
theorem dX6_copy_75 : decode cX6_copy 75 = .ok (.iload_n 1, 1) := dk_27 (dk_at dksX6_copy_3 9 rfl rfl)
theorem dX6_copy_76 : decode cX6_copy 76 = .ok (.iaload, 1) := dk_46 (dk_at dksX6_copy_3 10 rfl rfl)
theorem dX6_copy_77 : decode cX6_copy 77 = .ok (.iload_n 2, 1) := dk_28 (dk_at dksX6_copy_3 11 rfl rfl)
theorem dX6_copy_78 : decode cX6_copy 78 = .ok (.isub, 1) := dk_100 (dk_at dksX6_copy_3 12 rfl rfl)
theorem dX6_copy_79 : decode cX6_copy 79 = .ok (.if_icmp .gt 17, 3) := dk_163 0 17 (dk_at dksX6_copy_3 13 rfl rfl)
theorem dX6_copy_82 : decode cX6_copy 82 = .ok (.iload 5, 2) := dk_21 5 (dk_at dksX6_copy_3 16 rfl rfl)
theorem dX6_copy_84 : decode cX6_copy 84 = .ok (.aload_n 0, 1) := dk_42 (dk_at dksX6_copy_3 18 rfl rfl)
theorem dX6_copy_85 : decode cX6_copy 85 = .ok (.getfield 32, 3) := dk_180 0 32 (dk_at dksX6_copy_3 19 rfl rfl)
theorem dX6_copy_88 : decode cX6_copy 88 = .ok (.iload_n 3, 1) := dk_29 (dk_at dksX6_copy_3 22 rfl rfl)
theorem dX6_copy_89 : decode cX6_copy 89 = .ok (.iaload, 1) := dk_46 (dk_at dksX6_copy_3 23 rfl rfl)
theorem dX6_copy_90 : decode cX6_copy 90 = .ok (.iload 4, 2) := dk_21 4 (dk_at dksX6_copy_4 0 rfl rfl)
theorem dX6_copy_92 : decode cX6_copy 92 = .ok (.isub, 1) := dk_100 (dk_at dksX6_copy_4 2 rfl rfl)
theorem dX6_copy_93 : decode cX6_copy 93 = .ok (.if_icmp .le 6, 3) := dk_164 0 6 (dk_at dksX6_copy_4 3 rfl rfl)
theorem dX6_copy_96 : decode cX6_copy 96 = .ok (.bipush (-13), 2) := dk_16 243 (dk_at dksX6_copy_4 6 rfl rfl)
theorem dX6_copy_98 : decode cX6_copy 98 = .ok (.ireturn, 1) := dk_172 (dk_at dksX6_copy_4 8 rfl rfl)
theorem dX6_copy_99 : decode cX6_copy 99 = .ok (.iconst 0, 1) := dk_3 (dk_at dksX6_copy_4 9 rfl rfl)
theorem dX6_copy_100 : decode cX6_copy 100 = .ok (.istore 6, 2) := dk_54 6 (dk_at dksX6_copy_4 10 rfl rfl)
theorem dX6_copy_102 : decode cX6_copy 102 = .ok (.iload 6, 2) := dk_21 6 (dk_at dksX6_copy_4 12 rfl rfl)
theorem dX6_copy_104 : decode cX6_copy 104 = .ok (.iload 5, 2) := dk_21 5 (dk_at dksX6_copy_4 14 rfl rfl)
theorem dX6_copy_106 : decode cX6_copy 106 = .ok (.if_icmp .ge 30, 3) := dk_162 0 30 (dk_at dksX6_copy_4 16 rfl rfl)
theorem dX6_copy_109 : decode cX6_copy 109 = .ok (.aload_n 0, 1) := dk_42 (dk_at dksX6_copy_4 19 rfl rfl)
theorem dX6_copy_110 : decode cX6_copy 110 = .ok (.getfield 39, 3) := dk_180 0 39 (dk_at dksX6_copy_4 20 rfl rfl)
theorem dX6_copy_113 : decode cX6_copy 113 = .ok (.iload 6, 2) := dk_21 6 (dk_at dksX6_copy_5 0 rfl rfl)
theorem dX6_copy_115 : decode cX6_copy 115 = .ok (.aload_n 0, 1) := dk_42 (dk_at dksX6_copy_5 2 rfl rfl)
theorem dX6_copy_116 : decode cX6_copy 116 = .ok (.getfield 35, 3) := dk_180 0 35 (dk_at dksX6_copy_5 3 rfl rfl)
theorem dX6_copy_119 : decode cX6_copy 119 = .ok (.bipush 24, 2) := dk_16 24 (dk_at dksX6_copy_5 6 rfl rfl)
theorem dX6_copy_121 : decode cX6_copy 121 = .ok (.iload_n 1, 1) := dk_27 (dk_at dksX6_copy_5 8 rfl rfl)
theorem dX6_copy_122 : decode cX6_copy 122 = .ok (.imul, 1) := dk_104 (dk_at dksX6_copy_5 9 rfl rfl)
theorem dX6_copy_123 : decode cX6_copy 123 = .ok (.iload_n 2, 1) := dk_28 (dk_at dksX6_copy_5 10 rfl rfl)
theorem dX6_copy_124 : decode cX6_copy 124 = .ok (.iadd, 1) := dk_96 (dk_at dksX6_copy_5 11 rfl rfl)
theorem dX6_copy_125 : decode cX6_copy 125 = .ok (.iload 6, 2) := dk_21 6 (dk_at dksX6_copy_5 12 rfl rfl)
theorem dX6_copy_127 : decode cX6_copy 127 = .ok (.iadd, 1) := dk_96 (dk_at dksX6_copy_5 14 rfl rfl)
theorem dX6_copy_128 : decode cX6_copy 128 = .ok (.laload, 1) := dk_47 (dk_at dksX6_copy_5 15 rfl rfl)
theorem dX6_copy_129 : decode cX6_copy 129 = .ok (.lastore, 1) := dk_80 (dk_at dksX6_copy_5 16 rfl rfl)
theorem dX6_copy_130 : decode cX6_copy 130 = .ok (.iinc 6 1, 3) := dk_132 6 1 (dk_at dksX6_copy_5 17 rfl rfl)
theorem dX6_copy_133 : decode cX6_copy 133 = .ok (.goto (-31), 3) := dk_167 255 225 (dk_at dksX6_copy_5 20 rfl rfl)
theorem dX6_copy_136 : decode cX6_copy 136 = .ok (.iconst 0, 1) := dk_3 (dk_at dksX6_copy_5 23 rfl rfl)
theorem dX6_copy_137 : decode cX6_copy 137 = .ok (.istore 6, 2) := dk_54 6 (dk_at dksX6_copy_6 0 rfl rfl)
theorem dX6_copy_139 : decode cX6_copy 139 = .ok (.iload 6, 2) := dk_21 6 (dk_at dksX6_copy_6 2 rfl rfl)
theorem dX6_copy_141 : decode cX6_copy 141 = .ok (.iload 5, 2) := dk_21 5 (dk_at dksX6_copy_6 4 rfl rfl)
theorem dX6_copy_143 : decode cX6_copy 143 = .ok (.if_icmp .ge 31, 3) := dk_162 0 31 (dk_at dksX6_copy_6 6 rfl rfl)
theorem dX6_copy_146 : decode cX6_copy 146 = .ok (.aload_n 0, 1) := dk_42 (dk_at dksX6_copy_6 9 rfl rfl)
theorem dX6_copy_147 : decode cX6_copy 147 = .ok (.getfield 35, 3) := dk_180 0 35 (dk_at dksX6_copy_6 10 rfl rfl)
theorem dX6_copy_150 : decode cX6_copy 150 = .ok (.bipush 24, 2) := dk_16 24 (dk_at dksX6_copy_6 13 rfl rfl)
theorem dX6_copy_152 : decode cX6_copy 152 = .ok (.iload_n 3, 1) := dk_29 (dk_at dksX6_copy_6 15 rfl rfl)
theorem dX6_copy_153 : decode cX6_copy 153 = .ok (.imul, 1) := dk_104 (dk_at dksX6_copy_6 16 rfl rfl)
theorem dX6_copy_154 : decode cX6_copy 154 = .ok (.iload 4, 2) := dk_21 4 (dk_at dksX6_copy_6 17 rfl rfl)
theorem dX6_copy_156 : decode cX6_copy 156 = .ok (.iadd, 1) := dk_96 (dk_at dksX6_copy_6 19 rfl rfl)
theorem dX6_copy_157 : decode cX6_copy 157 = .ok (.iload 6, 2) := dk_21 6 (dk_at dksX6_copy_6 20 rfl rfl)
theorem dX6_copy_159 : decode cX6_copy 159 = .ok (.iadd, 1) := dk_96 (dk_at dksX6_copy_6 22 rfl rfl)
theorem dX6_copy_160 : decode cX6_copy 160 = .ok (.aload_n 0, 1) := dk_42 (dk_at dksX6_copy_6 23 rfl rfl)
theorem dX6_copy_161 : decode cX6_copy 161 = .ok (.getfield 39, 3) := dk_180 0 39 (dk_at dksX6_copy_7 0 rfl rfl)
theorem dX6_copy_164 : decode cX6_copy 164 = .ok (.iload 6, 2) := dk_21 6 (dk_at dksX6_copy_7 3 rfl rfl)
theorem dX6_copy_166 : decode cX6_copy 166 = .ok (.laload, 1) := dk_47 (dk_at dksX6_copy_7 5 rfl rfl)
theorem dX6_copy_167 : decode cX6_copy 167 = .ok (.lastore, 1) := dk_80 (dk_at dksX6_copy_7 6 rfl rfl)
theorem dX6_copy_168 : decode cX6_copy 168 = .ok (.iinc 6 1, 3) := dk_132 6 1 (dk_at dksX6_copy_7 7 rfl rfl)
theorem dX6_copy_171 : decode cX6_copy 171 = .ok (.goto (-32), 3) := dk_167 255 224 (dk_at dksX6_copy_7 10 rfl rfl)
theorem dX6_copy_174 : decode cX6_copy 174 = .ok (.iload 5, 2) := dk_21 5 (dk_at dksX6_copy_7 13 rfl rfl)
theorem dX6_copy_176 : decode cX6_copy 176 = .ok (.ireturn, 1) := dk_172 (dk_at dksX6_copy_7 15 rfl rfl)
theorem q94 : (Jvm.Cond.initialized "ReadingStagesModel") ∈ lw_all := lw_g (lw_at lw_m1 9 rfl) rfl
theorem q1290 : (Jvm.Cond.instantiable "ReadingStagesModel" (27 : Nat)) ∈ lw_all := lw_g (lw_at lw_m6 5 rfl) rfl
theorem q1292 : (Jvm.Cond.instanceMethod ({ cls := "ReadingStagesModel", name := "<init>", desc := "()V" } : Jvm.MethodName)) ∈ lw_all := lw_g (lw_at lw_m6 7 rfl) rfl
theorem q1293 : (Jvm.Cond.code ({ cls := "ReadingStagesModel", name := "<init>", desc := "()V" } : Jvm.MethodName) prog_11_method_1_code (2 : Nat) (Option.none : Option Jvm.ClassFile.FieldType)) ∈ lw_all := lw_g (lw_at lw_m6 8 rfl) rfl
theorem q1294 : (Jvm.Cond.methodLink "ReadingStagesModel" (1 : Nat) ({ cls := "java/lang/Object", name := "<init>", desc := "()V" } : Jvm.MethodName)) ∈ lw_all := lw_g (lw_at lw_m6 9 rfl) rfl
theorem q1295 : (Jvm.Cond.fieldLink "ReadingStagesModel" (7 : Nat) "ReadingStagesModel" "now" "[I") ∈ lw_all := lw_g (lw_at lw_m6 10 rfl) rfl
theorem q1296 : (Jvm.Cond.fieldLink "ReadingStagesModel" (13 : Nat) "ReadingStagesModel" "past" "[I") ∈ lw_all := lw_g (lw_at lw_m6 11 rfl) rfl
theorem q1297 : (Jvm.Cond.fieldLink "ReadingStagesModel" (128 : Nat) "ReadingStagesModel" "acts" "I") ∈ lw_all := lw_g (lw_at lw_m6 12 rfl) rfl
theorem q1298 : (Jvm.Cond.fieldLink "ReadingStagesModel" (16 : Nat) "ReadingStagesModel" "image" "[I") ∈ lw_all := lw_g (lw_at lw_m6 13 rfl) rfl
theorem q1299 : (Jvm.Cond.fieldLink "ReadingStagesModel" (19 : Nat) "ReadingStagesModel" "imagePast" "[I") ∈ lw_all := lw_g (lw_at lw_m6 14 rfl) rfl
theorem q1300 : (Jvm.Cond.fieldLink "ReadingStagesModel" (22 : Nat) "ReadingStagesModel" "imageActs" "I") ∈ lw_all := lw_g (lw_at lw_m6 15 rfl) rfl
theorem q1301 : (Jvm.Cond.fieldLink "ReadingStagesModel" (26 : Nat) "ReadingStagesModel" "tape" "[I") ∈ lw_all := lw_g (lw_at lw_m6 16 rfl) rfl
theorem q1302 : (Jvm.Cond.fieldLink "ReadingStagesModel" (222 : Nat) "ReadingStagesModel" "typed" "I") ∈ lw_all := lw_g (lw_at lw_m6 17 rfl) rfl
theorem q1303 : (Jvm.Cond.fieldLink "ReadingStagesModel" (29 : Nat) "ReadingStagesModel" "lanes" "[I") ∈ lw_all := lw_g (lw_at lw_m6 18 rfl) rfl
theorem q1304 : (Jvm.Cond.fieldLink "ReadingStagesModel" (32 : Nat) "ReadingStagesModel" "sizes" "[I") ∈ lw_all := lw_g (lw_at lw_m6 19 rfl) rfl
theorem q1305 : (Jvm.Cond.fieldLink "ReadingStagesModel" (35 : Nat) "ReadingStagesModel" "items" "[J") ∈ lw_all := lw_g (lw_at lw_m6 20 rfl) rfl
theorem q1306 : (Jvm.Cond.fieldLink "ReadingStagesModel" (39 : Nat) "ReadingStagesModel" "moved" "[J") ∈ lw_all := lw_g (lw_at lw_m6 21 rfl) rfl
theorem q1307 : (Jvm.Cond.fieldLink "ReadingStagesModel" (42 : Nat) "ReadingStagesModel" "order" "[I") ∈ lw_all := lw_g (lw_at lw_m6 22 rfl) rfl
theorem q1308 : (Jvm.Cond.fieldLink "ReadingStagesModel" (45 : Nat) "ReadingStagesModel" "strength" "[I") ∈ lw_all := lw_g (lw_at lw_m6 23 rfl) rfl
theorem q1309 : (Jvm.Cond.fieldLink "ReadingStagesModel" (48 : Nat) "ReadingStagesModel" "last" "[I") ∈ lw_all := lw_g (lw_at lw_m6 24 rfl) rfl
theorem q1310 : (Jvm.Cond.fieldLink "ReadingStagesModel" (51 : Nat) "ReadingStagesModel" "news" "[I") ∈ lw_all := lw_g (lw_at lw_m6 25 rfl) rfl
theorem q1311 : (Jvm.Cond.fieldLink "ReadingStagesModel" (54 : Nat) "ReadingStagesModel" "agains" "[I") ∈ lw_all := lw_g (lw_at lw_m6 26 rfl) rfl
theorem q1312 : (Jvm.Cond.fieldLink "ReadingStagesModel" (57 : Nat) "ReadingStagesModel" "losts" "[I") ∈ lw_all := lw_g (lw_at lw_m6 27 rfl) rfl
theorem q1313 : (Jvm.Cond.fieldLink "ReadingStagesModel" (60 : Nat) "ReadingStagesModel" "lives" "[I") ∈ lw_all := lw_g (lw_at lw_m6 28 rfl) rfl
theorem q1314 : (Jvm.Cond.fieldLink "ReadingStagesModel" (131 : Nat) "ReadingStagesModel" "bestNumber" "I") ∈ lw_all := lw_g (lw_at lw_m6 29 rfl) rfl
theorem q1315 : (Jvm.Cond.fieldLink "ReadingStagesModel" (137 : Nat) "ReadingStagesModel" "bestPeak" "I") ∈ lw_all := lw_g (lw_at lw_m6 30 rfl) rfl
theorem q1316 : (Jvm.Cond.fieldLink "ReadingStagesModel" (140 : Nat) "ReadingStagesModel" "bestLoss" "I") ∈ lw_all := lw_g (lw_at lw_m6 31 rfl) rfl
theorem q1317 : (Jvm.Cond.fieldLink "ReadingStagesModel" (63 : Nat) "ReadingStagesModel" "note" "[I") ∈ lw_all := lw_g (lw_at lw_m6 32 rfl) rfl
theorem q1318 : (Jvm.Cond.fieldLink "ReadingStagesModel" (156 : Nat) "ReadingStagesModel" "noted" "I") ∈ lw_all := lw_g (lw_at lw_m6 33 rfl) rfl
theorem q1319 : (Jvm.Cond.fieldLink "ReadingStagesModel" (66 : Nat) "ReadingStagesModel" "first" "[I") ∈ lw_all := lw_g (lw_at lw_m6 34 rfl) rfl
theorem q1320 : (Jvm.Cond.fieldLink "ReadingStagesModel" (225 : Nat) "ReadingStagesModel" "place" "I") ∈ lw_all := lw_g (lw_at lw_m6 35 rfl) rfl
theorem q1321 : (Jvm.Cond.fieldLink "ReadingStagesModel" (280 : Nat) "ReadingStagesModel" "lastTold" "I") ∈ lw_all := lw_g (lw_at lw_m6 36 rfl) rfl
theorem q1322 : (Jvm.Cond.laysFinal "ReadingStagesModel" "ReadingStagesModel" "now" "[I") ∈ lw_all := lw_g (lw_at lw_m6 37 rfl) rfl
theorem q1323 : (Jvm.Cond.soleField "ReadingStagesModel" "now") ∈ lw_all := lw_g (lw_at lw_m6 38 rfl) rfl
theorem q1324 : (Jvm.Cond.laysFinal "ReadingStagesModel" "ReadingStagesModel" "past" "[I") ∈ lw_all := lw_g (lw_at lw_m6 39 rfl) rfl
theorem q1325 : (Jvm.Cond.soleField "ReadingStagesModel" "past") ∈ lw_all := lw_g (lw_at lw_m6 40 rfl) rfl
theorem q1326 : (Jvm.Cond.lays "ReadingStagesModel" "ReadingStagesModel" "acts" "I") ∈ lw_all := lw_g (lw_at lw_m6 41 rfl) rfl
theorem q1327 : (Jvm.Cond.soleField "ReadingStagesModel" "acts") ∈ lw_all := lw_g (lw_at lw_m6 42 rfl) rfl
theorem q1328 : (Jvm.Cond.laysFinal "ReadingStagesModel" "ReadingStagesModel" "image" "[I") ∈ lw_all := lw_g (lw_at lw_m6 43 rfl) rfl
theorem q1329 : (Jvm.Cond.soleField "ReadingStagesModel" "image") ∈ lw_all := lw_g (lw_at lw_m6 44 rfl) rfl
theorem q1330 : (Jvm.Cond.laysFinal "ReadingStagesModel" "ReadingStagesModel" "imagePast" "[I") ∈ lw_all := lw_g (lw_at lw_m6 45 rfl) rfl
theorem q1331 : (Jvm.Cond.soleField "ReadingStagesModel" "imagePast") ∈ lw_all := lw_g (lw_at lw_m6 46 rfl) rfl
theorem q1332 : (Jvm.Cond.lays "ReadingStagesModel" "ReadingStagesModel" "imageActs" "I") ∈ lw_all := lw_g (lw_at lw_m6 47 rfl) rfl
theorem q1333 : (Jvm.Cond.soleField "ReadingStagesModel" "imageActs") ∈ lw_all := lw_g (lw_at lw_m6 48 rfl) rfl
theorem q1334 : (Jvm.Cond.laysFinal "ReadingStagesModel" "ReadingStagesModel" "tape" "[I") ∈ lw_all := lw_g (lw_at lw_m6 49 rfl) rfl
theorem q1335 : (Jvm.Cond.soleField "ReadingStagesModel" "tape") ∈ lw_all := lw_g (lw_at lw_m6 50 rfl) rfl
theorem q1336 : (Jvm.Cond.lays "ReadingStagesModel" "ReadingStagesModel" "typed" "I") ∈ lw_all := lw_g (lw_at lw_m6 51 rfl) rfl
theorem q1337 : (Jvm.Cond.soleField "ReadingStagesModel" "typed") ∈ lw_all := lw_g (lw_at lw_m6 52 rfl) rfl
theorem q1338 : (Jvm.Cond.laysFinal "ReadingStagesModel" "ReadingStagesModel" "lanes" "[I") ∈ lw_all := lw_g (lw_at lw_m6 53 rfl) rfl
theorem q1339 : (Jvm.Cond.soleField "ReadingStagesModel" "lanes") ∈ lw_all := lw_g (lw_at lw_m6 54 rfl) rfl
theorem q1340 : (Jvm.Cond.laysFinal "ReadingStagesModel" "ReadingStagesModel" "sizes" "[I") ∈ lw_all := lw_g (lw_at lw_m6 55 rfl) rfl
theorem q1341 : (Jvm.Cond.soleField "ReadingStagesModel" "sizes") ∈ lw_all := lw_g (lw_at lw_m6 56 rfl) rfl
theorem q1342 : (Jvm.Cond.laysFinal "ReadingStagesModel" "ReadingStagesModel" "items" "[J") ∈ lw_all := lw_g (lw_at lw_m6 57 rfl) rfl
theorem q1343 : (Jvm.Cond.soleField "ReadingStagesModel" "items") ∈ lw_all := lw_g (lw_at lw_m6 58 rfl) rfl
theorem q1344 : (Jvm.Cond.laysFinal "ReadingStagesModel" "ReadingStagesModel" "moved" "[J") ∈ lw_all := lw_g (lw_at lw_m6 59 rfl) rfl
theorem q1345 : (Jvm.Cond.soleField "ReadingStagesModel" "moved") ∈ lw_all := lw_g (lw_at lw_m6 60 rfl) rfl
theorem q1346 : (Jvm.Cond.laysFinal "ReadingStagesModel" "ReadingStagesModel" "order" "[I") ∈ lw_all := lw_g (lw_at lw_m6 61 rfl) rfl
theorem q1347 : (Jvm.Cond.soleField "ReadingStagesModel" "order") ∈ lw_all := lw_g (lw_at lw_m6 62 rfl) rfl
theorem q1348 : (Jvm.Cond.laysFinal "ReadingStagesModel" "ReadingStagesModel" "strength" "[I") ∈ lw_all := lw_g (lw_at lw_m6 63 rfl) rfl
theorem q1349 : (Jvm.Cond.soleField "ReadingStagesModel" "strength") ∈ lw_all := lw_g (lw_at lw_m6 64 rfl) rfl
theorem q1350 : (Jvm.Cond.laysFinal "ReadingStagesModel" "ReadingStagesModel" "last" "[I") ∈ lw_all := lw_g (lw_at lw_m6 65 rfl) rfl
theorem q1351 : (Jvm.Cond.soleField "ReadingStagesModel" "last") ∈ lw_all := lw_g (lw_at lw_m6 66 rfl) rfl
theorem q1352 : (Jvm.Cond.laysFinal "ReadingStagesModel" "ReadingStagesModel" "news" "[I") ∈ lw_all := lw_g (lw_at lw_m6 67 rfl) rfl
theorem q1353 : (Jvm.Cond.soleField "ReadingStagesModel" "news") ∈ lw_all := lw_g (lw_at lw_m6 68 rfl) rfl
theorem q1354 : (Jvm.Cond.laysFinal "ReadingStagesModel" "ReadingStagesModel" "agains" "[I") ∈ lw_all := lw_g (lw_at lw_m6 69 rfl) rfl
theorem q1355 : (Jvm.Cond.soleField "ReadingStagesModel" "agains") ∈ lw_all := lw_g (lw_at lw_m6 70 rfl) rfl
theorem q1356 : (Jvm.Cond.laysFinal "ReadingStagesModel" "ReadingStagesModel" "losts" "[I") ∈ lw_all := lw_g (lw_at lw_m6 71 rfl) rfl
theorem q1357 : (Jvm.Cond.soleField "ReadingStagesModel" "losts") ∈ lw_all := lw_g (lw_at lw_m6 72 rfl) rfl
theorem q1358 : (Jvm.Cond.laysFinal "ReadingStagesModel" "ReadingStagesModel" "lives" "[I") ∈ lw_all := lw_g (lw_at lw_m6 73 rfl) rfl
theorem q1359 : (Jvm.Cond.soleField "ReadingStagesModel" "lives") ∈ lw_all := lw_g (lw_at lw_m6 74 rfl) rfl
theorem q1360 : (Jvm.Cond.lays "ReadingStagesModel" "ReadingStagesModel" "bestNumber" "I") ∈ lw_all := lw_g (lw_at lw_m6 75 rfl) rfl
theorem q1361 : (Jvm.Cond.soleField "ReadingStagesModel" "bestNumber") ∈ lw_all := lw_g (lw_at lw_m6 76 rfl) rfl
theorem q1362 : (Jvm.Cond.lays "ReadingStagesModel" "ReadingStagesModel" "bestPeak" "I") ∈ lw_all := lw_g (lw_at lw_m6 77 rfl) rfl
theorem q1363 : (Jvm.Cond.soleField "ReadingStagesModel" "bestPeak") ∈ lw_all := lw_g (lw_at lw_m6 78 rfl) rfl
theorem q1364 : (Jvm.Cond.lays "ReadingStagesModel" "ReadingStagesModel" "bestLoss" "I") ∈ lw_all := lw_g (lw_at lw_m6 79 rfl) rfl
theorem q1365 : (Jvm.Cond.soleField "ReadingStagesModel" "bestLoss") ∈ lw_all := lw_g (lw_at lw_m6 80 rfl) rfl
theorem q1366 : (Jvm.Cond.laysFinal "ReadingStagesModel" "ReadingStagesModel" "note" "[I") ∈ lw_all := lw_g (lw_at lw_m6 81 rfl) rfl
theorem q1367 : (Jvm.Cond.soleField "ReadingStagesModel" "note") ∈ lw_all := lw_g (lw_at lw_m6 82 rfl) rfl
theorem q1368 : (Jvm.Cond.lays "ReadingStagesModel" "ReadingStagesModel" "noted" "I") ∈ lw_all := lw_g (lw_at lw_m6 83 rfl) rfl
theorem q1369 : (Jvm.Cond.soleField "ReadingStagesModel" "noted") ∈ lw_all := lw_g (lw_at lw_m6 84 rfl) rfl
theorem q1370 : (Jvm.Cond.laysFinal "ReadingStagesModel" "ReadingStagesModel" "first" "[I") ∈ lw_all := lw_g (lw_at lw_m6 85 rfl) rfl
theorem q1371 : (Jvm.Cond.soleField "ReadingStagesModel" "first") ∈ lw_all := lw_g (lw_at lw_m6 86 rfl) rfl
theorem q1372 : (Jvm.Cond.lays "ReadingStagesModel" "ReadingStagesModel" "place" "I") ∈ lw_all := lw_g (lw_at lw_m6 87 rfl) rfl
theorem q1373 : (Jvm.Cond.soleField "ReadingStagesModel" "place") ∈ lw_all := lw_g (lw_at lw_m6 88 rfl) rfl
theorem q1374 : (Jvm.Cond.lays "ReadingStagesModel" "ReadingStagesModel" "lastTold" "I") ∈ lw_all := lw_g (lw_at lw_m6 89 rfl) rfl
theorem q1375 : (Jvm.Cond.soleField "ReadingStagesModel" "lastTold") ∈ lw_all := lw_g (lw_at lw_m6 90 rfl) rfl
theorem q1376 : (Jvm.Cond.superclass "ReadingStagesModel" "java/lang/Object") ∈ lw_all := lw_g (lw_at lw_m6 91 rfl) rfl
theorem q1378 : (Jvm.Cond.instanceMethod ({ cls := "ReadingStagesModel", name := "place", desc := "(II)I" } : Jvm.MethodName)) ∈ lw_all := lw_g (lw_at lw_m6 93 rfl) rfl
theorem q1379 : (Jvm.Cond.selects "ReadingStagesModel" ({ cls := "ReadingStagesModel", name := "place", desc := "(II)I" } : Jvm.MethodName) ({ cls := "ReadingStagesModel", name := "place", desc := "(II)I" } : Jvm.MethodName)) ∈ lw_all := lw_g (lw_at lw_m6 94 rfl) rfl
theorem q1380 : (Jvm.Cond.code ({ cls := "ReadingStagesModel", name := "place", desc := "(II)I" } : Jvm.MethodName) prog_11_method_19_code (3 : Nat) (Option.some Jvm.ClassFile.FieldType.int)) ∈ lw_all := lw_g (lw_at lw_m6 95 rfl) rfl
theorem q1381 : (Jvm.Cond.methodLink "ReadingStagesModel" (71 : Nat) ({ cls := "ReadingStagesModel", name := "in", desc := "(JJJ)Z" } : Jvm.MethodName)) ∈ lw_all := lw_g (lw_at lw_m6 96 rfl) rfl
theorem q1382 : (Jvm.Cond.static ({ cls := "ReadingStagesModel", name := "in", desc := "(JJJ)Z" } : Jvm.MethodName)) ∈ lw_all := lw_g (lw_at lw_m6 97 rfl) rfl
theorem q1383 : (Jvm.Cond.code ({ cls := "ReadingStagesModel", name := "in", desc := "(JJJ)Z" } : Jvm.MethodName) prog_11_method_2_code (6 : Nat) (Option.some Jvm.ClassFile.FieldType.boolean)) ∈ lw_all := lw_g (lw_at lw_m6 98 rfl) rfl
theorem q1384 : (Jvm.Cond.methodLink "ReadingStagesModel" (96 : Nat) ({ cls := "ReadingStagesModel", name := "takesOrder", desc := "()V" } : Jvm.MethodName)) ∈ lw_all := lw_g (lw_at lw_m6 99 rfl) rfl
theorem q1385 : (Jvm.Cond.privateMethod ({ cls := "ReadingStagesModel", name := "takesOrder", desc := "()V" } : Jvm.MethodName)) ∈ lw_tbl := lw_at lw_m6 100 rfl
theorem q1386 : (Jvm.Cond.instanceMethod ({ cls := "ReadingStagesModel", name := "takesOrder", desc := "()V" } : Jvm.MethodName)) ∈ lw_all := lw_g (lw_at lw_m6 101 rfl) rfl
theorem q1387 : (Jvm.Cond.code ({ cls := "ReadingStagesModel", name := "takesOrder", desc := "()V" } : Jvm.MethodName) prog_11_method_16_code (2 : Nat) (Option.none : Option Jvm.ClassFile.FieldType)) ∈ lw_all := lw_g (lw_at lw_m6 102 rfl) rfl
theorem q1388 : (Jvm.Cond.methodLink "ReadingStagesModel" (99 : Nat) ({ cls := "ReadingStagesModel", name := "readsOrder", desc := "()V" } : Jvm.MethodName)) ∈ lw_all := lw_g (lw_at lw_m6 103 rfl) rfl
theorem q1389 : (Jvm.Cond.privateMethod ({ cls := "ReadingStagesModel", name := "readsOrder", desc := "()V" } : Jvm.MethodName)) ∈ lw_tbl := lw_at lw_m6 104 rfl
theorem q1390 : (Jvm.Cond.instanceMethod ({ cls := "ReadingStagesModel", name := "readsOrder", desc := "()V" } : Jvm.MethodName)) ∈ lw_all := lw_g (lw_at lw_m6 105 rfl) rfl
theorem q1391 : (Jvm.Cond.code ({ cls := "ReadingStagesModel", name := "readsOrder", desc := "()V" } : Jvm.MethodName) prog_11_method_11_code (2 : Nat) (Option.none : Option Jvm.ClassFile.FieldType)) ∈ lw_all := lw_g (lw_at lw_m6 106 rfl) rfl
theorem q1392 : (Jvm.Cond.methodLink "ReadingStagesModel" (83 : Nat) ({ cls := "ReadingStagesModel", name := "begins", desc := "()V" } : Jvm.MethodName)) ∈ lw_all := lw_g (lw_at lw_m6 107 rfl) rfl
theorem q1393 : (Jvm.Cond.privateMethod ({ cls := "ReadingStagesModel", name := "begins", desc := "()V" } : Jvm.MethodName)) ∈ lw_tbl := lw_at lw_m6 108 rfl
theorem q1394 : (Jvm.Cond.instanceMethod ({ cls := "ReadingStagesModel", name := "begins", desc := "()V" } : Jvm.MethodName)) ∈ lw_all := lw_g (lw_at lw_m6 109 rfl) rfl
theorem q1395 : (Jvm.Cond.code ({ cls := "ReadingStagesModel", name := "begins", desc := "()V" } : Jvm.MethodName) prog_11_method_8_code (2 : Nat) (Option.none : Option Jvm.ClassFile.FieldType)) ∈ lw_all := lw_g (lw_at lw_m6 110 rfl) rfl
theorem q1396 : (Jvm.Cond.methodLink "ReadingStagesModel" (86 : Nat) ({ cls := "ReadingStagesModel", name := "wordsAt", desc := "(I)I" } : Jvm.MethodName)) ∈ lw_all := lw_g (lw_at lw_m6 111 rfl) rfl
theorem q1397 : (Jvm.Cond.privateMethod ({ cls := "ReadingStagesModel", name := "wordsAt", desc := "(I)I" } : Jvm.MethodName)) ∈ lw_tbl := lw_at lw_m6 112 rfl
theorem q1398 : (Jvm.Cond.instanceMethod ({ cls := "ReadingStagesModel", name := "wordsAt", desc := "(I)I" } : Jvm.MethodName)) ∈ lw_all := lw_g (lw_at lw_m6 113 rfl) rfl
theorem q1399 : (Jvm.Cond.code ({ cls := "ReadingStagesModel", name := "wordsAt", desc := "(I)I" } : Jvm.MethodName) prog_11_method_10_code (2 : Nat) (Option.some Jvm.ClassFile.FieldType.int)) ∈ lw_all := lw_g (lw_at lw_m6 114 rfl) rfl
theorem q1400 : (Jvm.Cond.methodLink "ReadingStagesModel" (89 : Nat) ({ cls := "ReadingStagesModel", name := "reads", desc := "(II)V" } : Jvm.MethodName)) ∈ lw_all := lw_g (lw_at lw_m6 115 rfl) rfl
theorem q1401 : (Jvm.Cond.privateMethod ({ cls := "ReadingStagesModel", name := "reads", desc := "(II)V" } : Jvm.MethodName)) ∈ lw_tbl := lw_at lw_m6 116 rfl
theorem q1402 : (Jvm.Cond.instanceMethod ({ cls := "ReadingStagesModel", name := "reads", desc := "(II)V" } : Jvm.MethodName)) ∈ lw_all := lw_g (lw_at lw_m6 117 rfl) rfl
theorem q1403 : (Jvm.Cond.code ({ cls := "ReadingStagesModel", name := "reads", desc := "(II)V" } : Jvm.MethodName) prog_11_method_9_code (4 : Nat) (Option.none : Option Jvm.ClassFile.FieldType)) ∈ lw_all := lw_g (lw_at lw_m6 118 rfl) rfl
theorem q1404 : (Jvm.Cond.methodLink "ReadingStagesModel" (75 : Nat) ({ cls := "ReadingStagesModel", name := "has", desc := "(II)Z" } : Jvm.MethodName)) ∈ lw_all := lw_g (lw_at lw_m6 119 rfl) rfl
theorem q1405 : (Jvm.Cond.static ({ cls := "ReadingStagesModel", name := "has", desc := "(II)Z" } : Jvm.MethodName)) ∈ lw_all := lw_g (lw_at lw_m6 120 rfl) rfl
theorem q1406 : (Jvm.Cond.code ({ cls := "ReadingStagesModel", name := "has", desc := "(II)Z" } : Jvm.MethodName) prog_11_method_3_code (2 : Nat) (Option.some Jvm.ClassFile.FieldType.boolean)) ∈ lw_all := lw_g (lw_at lw_m6 121 rfl) rfl
theorem q1407 : (Jvm.Cond.methodLink "ReadingStagesModel" (79 : Nat) ({ cls := "ReadingStagesModel", name := "lasts", desc := "(I)I" } : Jvm.MethodName)) ∈ lw_all := lw_g (lw_at lw_m6 122 rfl) rfl
theorem q1408 : (Jvm.Cond.privateMethod ({ cls := "ReadingStagesModel", name := "lasts", desc := "(I)I" } : Jvm.MethodName)) ∈ lw_tbl := lw_at lw_m6 123 rfl
theorem q1409 : (Jvm.Cond.instanceMethod ({ cls := "ReadingStagesModel", name := "lasts", desc := "(I)I" } : Jvm.MethodName)) ∈ lw_all := lw_g (lw_at lw_m6 124 rfl) rfl
theorem q1410 : (Jvm.Cond.code ({ cls := "ReadingStagesModel", name := "lasts", desc := "(I)I" } : Jvm.MethodName) prog_11_method_7_code (4 : Nat) (Option.some Jvm.ClassFile.FieldType.int)) ∈ lw_all := lw_g (lw_at lw_m6 125 rfl) rfl
theorem q1411 : (Jvm.Cond.methodLink "ReadingStagesModel" (93 : Nat) ({ cls := "ReadingStagesModel", name := "sizeOf", desc := "(I)I" } : Jvm.MethodName)) ∈ lw_all := lw_g (lw_at lw_m6 126 rfl) rfl
theorem q1412 : (Jvm.Cond.static ({ cls := "ReadingStagesModel", name := "sizeOf", desc := "(I)I" } : Jvm.MethodName)) ∈ lw_all := lw_g (lw_at lw_m6 127 rfl) rfl
theorem q1413 : (Jvm.Cond.code ({ cls := "ReadingStagesModel", name := "sizeOf", desc := "(I)I" } : Jvm.MethodName) prog_11_method_4_code (3 : Nat) (Option.some Jvm.ClassFile.FieldType.int)) ∈ lw_all := lw_g (lw_at lw_m6 128 rfl) rfl
theorem q1415 : (Jvm.Cond.instanceMethod ({ cls := "ReadingStagesModel", name := "word", desc := "(II)I" } : Jvm.MethodName)) ∈ lw_all := lw_g (lw_at lw_m6 130 rfl) rfl
theorem q1416 : (Jvm.Cond.selects "ReadingStagesModel" ({ cls := "ReadingStagesModel", name := "word", desc := "(II)I" } : Jvm.MethodName) ({ cls := "ReadingStagesModel", name := "word", desc := "(II)I" } : Jvm.MethodName)) ∈ lw_all := lw_g (lw_at lw_m6 131 rfl) rfl
theorem q1417 : (Jvm.Cond.code ({ cls := "ReadingStagesModel", name := "word", desc := "(II)I" } : Jvm.MethodName) prog_11_method_20_code (8 : Nat) (Option.some Jvm.ClassFile.FieldType.int)) ∈ lw_all := lw_g (lw_at lw_m6 132 rfl) rfl
theorem q1418 : (Jvm.Cond.constantLong "ReadingStagesModel" (102 : Nat) (19 : Int64)) ∈ lw_all := lw_g (lw_at lw_m6 133 rfl) rfl
theorem q1420 : (Jvm.Cond.instanceMethod ({ cls := "ReadingStagesModel", name := "told", desc := "(II)I" } : Jvm.MethodName)) ∈ lw_all := lw_g (lw_at lw_m6 135 rfl) rfl
theorem q1421 : (Jvm.Cond.selects "ReadingStagesModel" ({ cls := "ReadingStagesModel", name := "told", desc := "(II)I" } : Jvm.MethodName) ({ cls := "ReadingStagesModel", name := "told", desc := "(II)I" } : Jvm.MethodName)) ∈ lw_all := lw_g (lw_at lw_m6 136 rfl) rfl
theorem q1422 : (Jvm.Cond.code ({ cls := "ReadingStagesModel", name := "told", desc := "(II)I" } : Jvm.MethodName) prog_11_method_23_code (3 : Nat) (Option.some Jvm.ClassFile.FieldType.int)) ∈ lw_all := lw_g (lw_at lw_m6 137 rfl) rfl
theorem q1423 : (Jvm.Cond.methodLink "ReadingStagesModel" (104 : Nat) ({ cls := "ReadingStagesModel", name := "isBook", desc := "(I)Z" } : Jvm.MethodName)) ∈ lw_all := lw_g (lw_at lw_m6 138 rfl) rfl
theorem q1424 : (Jvm.Cond.privateMethod ({ cls := "ReadingStagesModel", name := "isBook", desc := "(I)Z" } : Jvm.MethodName)) ∈ lw_tbl := lw_at lw_m6 139 rfl
theorem q1425 : (Jvm.Cond.instanceMethod ({ cls := "ReadingStagesModel", name := "isBook", desc := "(I)Z" } : Jvm.MethodName)) ∈ lw_all := lw_g (lw_at lw_m6 140 rfl) rfl
theorem q1426 : (Jvm.Cond.code ({ cls := "ReadingStagesModel", name := "isBook", desc := "(I)Z" } : Jvm.MethodName) prog_11_method_6_code (2 : Nat) (Option.some Jvm.ClassFile.FieldType.boolean)) ∈ lw_all := lw_g (lw_at lw_m6 141 rfl) rfl
theorem q1427 : (Jvm.Cond.methodLink "ReadingStagesModel" (108 : Nat) ({ cls := "ReadingStagesModel", name := "aheadOf", desc := "(I)I" } : Jvm.MethodName)) ∈ lw_all := lw_g (lw_at lw_m6 142 rfl) rfl
theorem q1428 : (Jvm.Cond.privateMethod ({ cls := "ReadingStagesModel", name := "aheadOf", desc := "(I)I" } : Jvm.MethodName)) ∈ lw_tbl := lw_at lw_m6 143 rfl
theorem q1429 : (Jvm.Cond.instanceMethod ({ cls := "ReadingStagesModel", name := "aheadOf", desc := "(I)I" } : Jvm.MethodName)) ∈ lw_all := lw_g (lw_at lw_m6 144 rfl) rfl
theorem q1430 : (Jvm.Cond.code ({ cls := "ReadingStagesModel", name := "aheadOf", desc := "(I)I" } : Jvm.MethodName) prog_11_method_21_code (4 : Nat) (Option.some Jvm.ClassFile.FieldType.int)) ∈ lw_all := lw_g (lw_at lw_m6 145 rfl) rfl
theorem q1431 : (Jvm.Cond.methodLink "ReadingStagesModel" (111 : Nat) ({ cls := "ReadingStagesModel", name := "placeOf", desc := "(I)I" } : Jvm.MethodName)) ∈ lw_all := lw_g (lw_at lw_m6 146 rfl) rfl
theorem q1432 : (Jvm.Cond.privateMethod ({ cls := "ReadingStagesModel", name := "placeOf", desc := "(I)I" } : Jvm.MethodName)) ∈ lw_tbl := lw_at lw_m6 147 rfl
theorem q1433 : (Jvm.Cond.instanceMethod ({ cls := "ReadingStagesModel", name := "placeOf", desc := "(I)I" } : Jvm.MethodName)) ∈ lw_all := lw_g (lw_at lw_m6 148 rfl) rfl
theorem q1434 : (Jvm.Cond.code ({ cls := "ReadingStagesModel", name := "placeOf", desc := "(I)I" } : Jvm.MethodName) prog_11_method_22_code (3 : Nat) (Option.some Jvm.ClassFile.FieldType.int)) ∈ lw_all := lw_g (lw_at lw_m6 149 rfl) rfl
theorem q1436 : (Jvm.Cond.instanceMethod ({ cls := "ReadingStagesModel", name := "count", desc := "(I)I" } : Jvm.MethodName)) ∈ lw_all := lw_g (lw_at lw_m6 151 rfl) rfl
theorem q1437 : (Jvm.Cond.selects "ReadingStagesModel" ({ cls := "ReadingStagesModel", name := "count", desc := "(I)I" } : Jvm.MethodName) ({ cls := "ReadingStagesModel", name := "count", desc := "(I)I" } : Jvm.MethodName)) ∈ lw_all := lw_g (lw_at lw_m6 152 rfl) rfl
theorem q1438 : (Jvm.Cond.code ({ cls := "ReadingStagesModel", name := "count", desc := "(I)I" } : Jvm.MethodName) prog_11_method_24_code (2 : Nat) (Option.some Jvm.ClassFile.FieldType.int)) ∈ lw_all := lw_g (lw_at lw_m6 153 rfl) rfl
theorem q1439 : (Jvm.Cond.methodLink "ReadingStagesModel" (114 : Nat) ({ cls := "ReadingStagesModel", name := "number", desc := "()I" } : Jvm.MethodName)) ∈ lw_all := lw_g (lw_at lw_m6 154 rfl) rfl
theorem q1440 : (Jvm.Cond.privateMethod ({ cls := "ReadingStagesModel", name := "number", desc := "()I" } : Jvm.MethodName)) ∈ lw_tbl := lw_at lw_m6 155 rfl
theorem q1441 : (Jvm.Cond.instanceMethod ({ cls := "ReadingStagesModel", name := "number", desc := "()I" } : Jvm.MethodName)) ∈ lw_all := lw_g (lw_at lw_m6 156 rfl) rfl
theorem q1442 : (Jvm.Cond.code ({ cls := "ReadingStagesModel", name := "number", desc := "()I" } : Jvm.MethodName) prog_11_method_15_code (3 : Nat) (Option.some Jvm.ClassFile.FieldType.int)) ∈ lw_all := lw_g (lw_at lw_m6 157 rfl) rfl
theorem q1443 : (Jvm.Cond.methodLink "ReadingStagesModel" (118 : Nat) ({ cls := "ReadingStagesModel", name := "peak", desc := "()I" } : Jvm.MethodName)) ∈ lw_all := lw_g (lw_at lw_m6 158 rfl) rfl
theorem q1444 : (Jvm.Cond.privateMethod ({ cls := "ReadingStagesModel", name := "peak", desc := "()I" } : Jvm.MethodName)) ∈ lw_tbl := lw_at lw_m6 159 rfl
theorem q1445 : (Jvm.Cond.instanceMethod ({ cls := "ReadingStagesModel", name := "peak", desc := "()I" } : Jvm.MethodName)) ∈ lw_all := lw_g (lw_at lw_m6 160 rfl) rfl
theorem q1446 : (Jvm.Cond.code ({ cls := "ReadingStagesModel", name := "peak", desc := "()I" } : Jvm.MethodName) prog_11_method_12_code (3 : Nat) (Option.some Jvm.ClassFile.FieldType.int)) ∈ lw_all := lw_g (lw_at lw_m6 161 rfl) rfl
theorem q1447 : (Jvm.Cond.methodLink "ReadingStagesModel" (121 : Nat) ({ cls := "ReadingStagesModel", name := "loss", desc := "()I" } : Jvm.MethodName)) ∈ lw_all := lw_g (lw_at lw_m6 162 rfl) rfl
theorem q1448 : (Jvm.Cond.privateMethod ({ cls := "ReadingStagesModel", name := "loss", desc := "()I" } : Jvm.MethodName)) ∈ lw_tbl := lw_at lw_m6 163 rfl
theorem q1449 : (Jvm.Cond.instanceMethod ({ cls := "ReadingStagesModel", name := "loss", desc := "()I" } : Jvm.MethodName)) ∈ lw_all := lw_g (lw_at lw_m6 164 rfl) rfl
theorem q1450 : (Jvm.Cond.code ({ cls := "ReadingStagesModel", name := "loss", desc := "()I" } : Jvm.MethodName) prog_11_method_13_code (3 : Nat) (Option.some Jvm.ClassFile.FieldType.int)) ∈ lw_all := lw_g (lw_at lw_m6 165 rfl) rfl
theorem q1451 : (Jvm.Cond.methodLink "ReadingStagesModel" (124 : Nat) ({ cls := "ReadingStagesModel", name := "isHolding", desc := "()Z" } : Jvm.MethodName)) ∈ lw_all := lw_g (lw_at lw_m6 166 rfl) rfl
theorem q1452 : (Jvm.Cond.privateMethod ({ cls := "ReadingStagesModel", name := "isHolding", desc := "()Z" } : Jvm.MethodName)) ∈ lw_tbl := lw_at lw_m6 167 rfl
theorem q1453 : (Jvm.Cond.instanceMethod ({ cls := "ReadingStagesModel", name := "isHolding", desc := "()Z" } : Jvm.MethodName)) ∈ lw_all := lw_g (lw_at lw_m6 168 rfl) rfl
theorem q1454 : (Jvm.Cond.code ({ cls := "ReadingStagesModel", name := "isHolding", desc := "()Z" } : Jvm.MethodName) prog_11_method_14_code (4 : Nat) (Option.some Jvm.ClassFile.FieldType.boolean)) ∈ lw_all := lw_g (lw_at lw_m6 169 rfl) rfl
theorem q1456 : (Jvm.Cond.instanceMethod ({ cls := "ReadingStagesModel", name := "best", desc := "(I)I" } : Jvm.MethodName)) ∈ lw_all := lw_g (lw_at lw_m6 171 rfl) rfl
theorem q1457 : (Jvm.Cond.selects "ReadingStagesModel" ({ cls := "ReadingStagesModel", name := "best", desc := "(I)I" } : Jvm.MethodName) ({ cls := "ReadingStagesModel", name := "best", desc := "(I)I" } : Jvm.MethodName)) ∈ lw_all := lw_g (lw_at lw_m6 172 rfl) rfl
theorem q1458 : (Jvm.Cond.code ({ cls := "ReadingStagesModel", name := "best", desc := "(I)I" } : Jvm.MethodName) prog_11_method_27_code (2 : Nat) (Option.some Jvm.ClassFile.FieldType.int)) ∈ lw_all := lw_g (lw_at lw_m6 173 rfl) rfl
theorem q1459 : (Jvm.Cond.constantLong "ReadingStagesModel" (146 : Nat) (5 : Int64)) ∈ lw_all := lw_g (lw_at lw_m6 174 rfl) rfl
theorem q1460 : (Jvm.Cond.methodLink "ReadingStagesModel" (148 : Nat) ({ cls := "ReadingStagesModel", name := "laysBest", desc := "()V" } : Jvm.MethodName)) ∈ lw_all := lw_g (lw_at lw_m6 175 rfl) rfl
theorem q1461 : (Jvm.Cond.privateMethod ({ cls := "ReadingStagesModel", name := "laysBest", desc := "()V" } : Jvm.MethodName)) ∈ lw_tbl := lw_at lw_m6 176 rfl
theorem q1462 : (Jvm.Cond.instanceMethod ({ cls := "ReadingStagesModel", name := "laysBest", desc := "()V" } : Jvm.MethodName)) ∈ lw_all := lw_g (lw_at lw_m6 177 rfl) rfl
theorem q1463 : (Jvm.Cond.code ({ cls := "ReadingStagesModel", name := "laysBest", desc := "()V" } : Jvm.MethodName) prog_11_method_25_code (4 : Nat) (Option.none : Option Jvm.ClassFile.FieldType)) ∈ lw_all := lw_g (lw_at lw_m6 178 rfl) rfl
theorem q1464 : (Jvm.Cond.methodLink "ReadingStagesModel" (134 : Nat) ({ cls := "ReadingStagesModel", name := "firstOrder", desc := "()V" } : Jvm.MethodName)) ∈ lw_all := lw_g (lw_at lw_m6 179 rfl) rfl
theorem q1465 : (Jvm.Cond.privateMethod ({ cls := "ReadingStagesModel", name := "firstOrder", desc := "()V" } : Jvm.MethodName)) ∈ lw_tbl := lw_at lw_m6 180 rfl
theorem q1466 : (Jvm.Cond.instanceMethod ({ cls := "ReadingStagesModel", name := "firstOrder", desc := "()V" } : Jvm.MethodName)) ∈ lw_all := lw_g (lw_at lw_m6 181 rfl) rfl
theorem q1467 : (Jvm.Cond.code ({ cls := "ReadingStagesModel", name := "firstOrder", desc := "()V" } : Jvm.MethodName) prog_11_method_17_code (2 : Nat) (Option.none : Option Jvm.ClassFile.FieldType)) ∈ lw_all := lw_g (lw_at lw_m6 182 rfl) rfl
theorem q1468 : (Jvm.Cond.methodLink "ReadingStagesModel" (143 : Nat) ({ cls := "ReadingStagesModel", name := "nextOrder", desc := "()Z" } : Jvm.MethodName)) ∈ lw_all := lw_g (lw_at lw_m6 183 rfl) rfl
theorem q1469 : (Jvm.Cond.privateMethod ({ cls := "ReadingStagesModel", name := "nextOrder", desc := "()Z" } : Jvm.MethodName)) ∈ lw_tbl := lw_at lw_m6 184 rfl
theorem q1470 : (Jvm.Cond.instanceMethod ({ cls := "ReadingStagesModel", name := "nextOrder", desc := "()Z" } : Jvm.MethodName)) ∈ lw_all := lw_g (lw_at lw_m6 185 rfl) rfl
theorem q1471 : (Jvm.Cond.code ({ cls := "ReadingStagesModel", name := "nextOrder", desc := "()Z" } : Jvm.MethodName) prog_11_method_18_code (7 : Nat) (Option.some Jvm.ClassFile.FieldType.boolean)) ∈ lw_all := lw_g (lw_at lw_m6 186 rfl) rfl
theorem q1472 : (Jvm.Cond.methodLink "ReadingStagesModel" (151 : Nat) ({ cls := "ReadingStagesModel", name := "grows", desc := "()V" } : Jvm.MethodName)) ∈ lw_all := lw_g (lw_at lw_m6 187 rfl) rfl
theorem q1473 : (Jvm.Cond.privateMethod ({ cls := "ReadingStagesModel", name := "grows", desc := "()V" } : Jvm.MethodName)) ∈ lw_tbl := lw_at lw_m6 188 rfl
theorem q1474 : (Jvm.Cond.instanceMethod ({ cls := "ReadingStagesModel", name := "grows", desc := "()V" } : Jvm.MethodName)) ∈ lw_all := lw_g (lw_at lw_m6 189 rfl) rfl
theorem q1475 : (Jvm.Cond.code ({ cls := "ReadingStagesModel", name := "grows", desc := "()V" } : Jvm.MethodName) prog_11_method_26_code (11 : Nat) (Option.none : Option Jvm.ClassFile.FieldType)) ∈ lw_all := lw_g (lw_at lw_m6 190 rfl) rfl
theorem q1477 : (Jvm.Cond.instanceMethod ({ cls := "ReadingStagesModel", name := "many", desc := "(I)I" } : Jvm.MethodName)) ∈ lw_all := lw_g (lw_at lw_m6 192 rfl) rfl
theorem q1478 : (Jvm.Cond.selects "ReadingStagesModel" ({ cls := "ReadingStagesModel", name := "many", desc := "(I)I" } : Jvm.MethodName) ({ cls := "ReadingStagesModel", name := "many", desc := "(I)I" } : Jvm.MethodName)) ∈ lw_all := lw_g (lw_at lw_m6 193 rfl) rfl
theorem q1479 : (Jvm.Cond.code ({ cls := "ReadingStagesModel", name := "many", desc := "(I)I" } : Jvm.MethodName) prog_11_method_28_code (5 : Nat) (Option.some Jvm.ClassFile.FieldType.int)) ∈ lw_all := lw_g (lw_at lw_m6 194 rfl) rfl
theorem q1481 : (Jvm.Cond.instanceMethod ({ cls := "ReadingStagesModel", name := "fit", desc := "(I)I" } : Jvm.MethodName)) ∈ lw_all := lw_g (lw_at lw_m6 196 rfl) rfl
theorem q1482 : (Jvm.Cond.selects "ReadingStagesModel" ({ cls := "ReadingStagesModel", name := "fit", desc := "(I)I" } : Jvm.MethodName) ({ cls := "ReadingStagesModel", name := "fit", desc := "(I)I" } : Jvm.MethodName)) ∈ lw_all := lw_g (lw_at lw_m6 197 rfl) rfl
theorem q1483 : (Jvm.Cond.code ({ cls := "ReadingStagesModel", name := "fit", desc := "(I)I" } : Jvm.MethodName) prog_11_method_29_code (4 : Nat) (Option.some Jvm.ClassFile.FieldType.int)) ∈ lw_all := lw_g (lw_at lw_m6 198 rfl) rfl
theorem q1485 : (Jvm.Cond.instanceMethod ({ cls := "ReadingStagesModel", name := "kept", desc := "(III)I" } : Jvm.MethodName)) ∈ lw_all := lw_g (lw_at lw_m6 200 rfl) rfl
theorem q1486 : (Jvm.Cond.selects "ReadingStagesModel" ({ cls := "ReadingStagesModel", name := "kept", desc := "(III)I" } : Jvm.MethodName) ({ cls := "ReadingStagesModel", name := "kept", desc := "(III)I" } : Jvm.MethodName)) ∈ lw_all := lw_g (lw_at lw_m6 201 rfl) rfl
theorem q1487 : (Jvm.Cond.code ({ cls := "ReadingStagesModel", name := "kept", desc := "(III)I" } : Jvm.MethodName) prog_11_method_30_code (9 : Nat) (Option.some Jvm.ClassFile.FieldType.int)) ∈ lw_all := lw_g (lw_at lw_m6 202 rfl) rfl
theorem q1488 : (Jvm.Cond.constantLong "ReadingStagesModel" (154 : Nat) (10 : Int64)) ∈ lw_all := lw_g (lw_at lw_m6 203 rfl) rfl
theorem q1490 : (Jvm.Cond.instanceMethod ({ cls := "ReadingStagesModel", name := "letter", desc := "(I)I" } : Jvm.MethodName)) ∈ lw_all := lw_g (lw_at lw_m6 205 rfl) rfl
theorem q1491 : (Jvm.Cond.selects "ReadingStagesModel" ({ cls := "ReadingStagesModel", name := "letter", desc := "(I)I" } : Jvm.MethodName) ({ cls := "ReadingStagesModel", name := "letter", desc := "(I)I" } : Jvm.MethodName)) ∈ lw_all := lw_g (lw_at lw_m6 206 rfl) rfl
theorem q1492 : (Jvm.Cond.code ({ cls := "ReadingStagesModel", name := "letter", desc := "(I)I" } : Jvm.MethodName) prog_11_method_34_code (2 : Nat) (Option.some Jvm.ClassFile.FieldType.int)) ∈ lw_all := lw_g (lw_at lw_m6 207 rfl) rfl
theorem q1493 : (Jvm.Cond.methodLink "ReadingStagesModel" (166 : Nat) ({ cls := "ReadingStagesModel", name := "writesNote", desc := "()V" } : Jvm.MethodName)) ∈ lw_all := lw_g (lw_at lw_m6 208 rfl) rfl
theorem q1494 : (Jvm.Cond.privateMethod ({ cls := "ReadingStagesModel", name := "writesNote", desc := "()V" } : Jvm.MethodName)) ∈ lw_tbl := lw_at lw_m6 209 rfl
theorem q1495 : (Jvm.Cond.instanceMethod ({ cls := "ReadingStagesModel", name := "writesNote", desc := "()V" } : Jvm.MethodName)) ∈ lw_all := lw_g (lw_at lw_m6 210 rfl) rfl
theorem q1496 : (Jvm.Cond.code ({ cls := "ReadingStagesModel", name := "writesNote", desc := "()V" } : Jvm.MethodName) prog_11_method_33_code (2 : Nat) (Option.none : Option Jvm.ClassFile.FieldType)) ∈ lw_all := lw_g (lw_at lw_m6 211 rfl) rfl
theorem q1497 : (Jvm.Cond.methodLink "ReadingStagesModel" (159 : Nat) ({ cls := "ReadingStagesModel", name := "writes", desc := "(I)V" } : Jvm.MethodName)) ∈ lw_all := lw_g (lw_at lw_m6 212 rfl) rfl
theorem q1498 : (Jvm.Cond.privateMethod ({ cls := "ReadingStagesModel", name := "writes", desc := "(I)V" } : Jvm.MethodName)) ∈ lw_tbl := lw_at lw_m6 213 rfl
theorem q1499 : (Jvm.Cond.instanceMethod ({ cls := "ReadingStagesModel", name := "writes", desc := "(I)V" } : Jvm.MethodName)) ∈ lw_all := lw_g (lw_at lw_m6 214 rfl) rfl
theorem q1500 : (Jvm.Cond.code ({ cls := "ReadingStagesModel", name := "writes", desc := "(I)V" } : Jvm.MethodName) prog_11_method_31_code (2 : Nat) (Option.none : Option Jvm.ClassFile.FieldType)) ∈ lw_all := lw_g (lw_at lw_m6 215 rfl) rfl
theorem q1501 : (Jvm.Cond.methodLink "ReadingStagesModel" (163 : Nat) ({ cls := "ReadingStagesModel", name := "writesNumber", desc := "(I)V" } : Jvm.MethodName)) ∈ lw_all := lw_g (lw_at lw_m6 216 rfl) rfl
theorem q1502 : (Jvm.Cond.privateMethod ({ cls := "ReadingStagesModel", name := "writesNumber", desc := "(I)V" } : Jvm.MethodName)) ∈ lw_tbl := lw_at lw_m6 217 rfl
theorem q1503 : (Jvm.Cond.instanceMethod ({ cls := "ReadingStagesModel", name := "writesNumber", desc := "(I)V" } : Jvm.MethodName)) ∈ lw_all := lw_g (lw_at lw_m6 218 rfl) rfl
theorem q1504 : (Jvm.Cond.code ({ cls := "ReadingStagesModel", name := "writesNumber", desc := "(I)V" } : Jvm.MethodName) prog_11_method_32_code (2 : Nat) (Option.none : Option Jvm.ClassFile.FieldType)) ∈ lw_all := lw_g (lw_at lw_m6 219 rfl) rfl
theorem q1506 : (Jvm.Cond.instanceMethod ({ cls := "ReadingStagesModel", name := "book", desc := "(I)I" } : Jvm.MethodName)) ∈ lw_all := lw_g (lw_at lw_m6 221 rfl) rfl
theorem q1507 : (Jvm.Cond.selects "ReadingStagesModel" ({ cls := "ReadingStagesModel", name := "book", desc := "(I)I" } : Jvm.MethodName) ({ cls := "ReadingStagesModel", name := "book", desc := "(I)I" } : Jvm.MethodName)) ∈ lw_all := lw_g (lw_at lw_m6 222 rfl) rfl
theorem q1508 : (Jvm.Cond.code ({ cls := "ReadingStagesModel", name := "book", desc := "(I)I" } : Jvm.MethodName) prog_11_method_48_code (2 : Nat) (Option.some Jvm.ClassFile.FieldType.int)) ∈ lw_all := lw_g (lw_at lw_m6 223 rfl) rfl
theorem q1509 : (Jvm.Cond.methodLink "ReadingStagesModel" (188 : Nat) ({ cls := "ReadingStagesModel", name := "holds", desc := "()V" } : Jvm.MethodName)) ∈ lw_all := lw_g (lw_at lw_m6 224 rfl) rfl
theorem q1510 : (Jvm.Cond.privateMethod ({ cls := "ReadingStagesModel", name := "holds", desc := "()V" } : Jvm.MethodName)) ∈ lw_tbl := lw_at lw_m6 225 rfl
theorem q1511 : (Jvm.Cond.instanceMethod ({ cls := "ReadingStagesModel", name := "holds", desc := "()V" } : Jvm.MethodName)) ∈ lw_all := lw_g (lw_at lw_m6 226 rfl) rfl
theorem q1512 : (Jvm.Cond.code ({ cls := "ReadingStagesModel", name := "holds", desc := "()V" } : Jvm.MethodName) prog_11_method_36_code (2 : Nat) (Option.none : Option Jvm.ClassFile.FieldType)) ∈ lw_all := lw_g (lw_at lw_m6 227 rfl) rfl
theorem q1513 : (Jvm.Cond.methodLink "ReadingStagesModel" (191 : Nat) ({ cls := "ReadingStagesModel", name := "adds", desc := "(I)I" } : Jvm.MethodName)) ∈ lw_all := lw_g (lw_at lw_m6 228 rfl) rfl
theorem q1514 : (Jvm.Cond.privateMethod ({ cls := "ReadingStagesModel", name := "adds", desc := "(I)I" } : Jvm.MethodName)) ∈ lw_tbl := lw_at lw_m6 229 rfl
theorem q1515 : (Jvm.Cond.instanceMethod ({ cls := "ReadingStagesModel", name := "adds", desc := "(I)I" } : Jvm.MethodName)) ∈ lw_all := lw_g (lw_at lw_m6 230 rfl) rfl
theorem q1516 : (Jvm.Cond.code ({ cls := "ReadingStagesModel", name := "adds", desc := "(I)I" } : Jvm.MethodName) prog_11_method_38_code (3 : Nat) (Option.some Jvm.ClassFile.FieldType.int)) ∈ lw_all := lw_g (lw_at lw_m6 231 rfl) rfl
theorem q1517 : (Jvm.Cond.methodLink "ReadingStagesModel" (172 : Nat) ({ cls := "ReadingStagesModel", name := "isSet", desc := "(I)Z" } : Jvm.MethodName)) ∈ lw_all := lw_g (lw_at lw_m6 232 rfl) rfl
theorem q1518 : (Jvm.Cond.static ({ cls := "ReadingStagesModel", name := "isSet", desc := "(I)Z" } : Jvm.MethodName)) ∈ lw_all := lw_g (lw_at lw_m6 233 rfl) rfl
theorem q1519 : (Jvm.Cond.code ({ cls := "ReadingStagesModel", name := "isSet", desc := "(I)Z" } : Jvm.MethodName) prog_11_method_5_code (1 : Nat) (Option.some Jvm.ClassFile.FieldType.boolean)) ∈ lw_all := lw_g (lw_at lw_m6 234 rfl) rfl
theorem q1520 : (Jvm.Cond.constantLong "ReadingStagesModel" (69 : Nat) (1048575 : Int64)) ∈ lw_all := lw_g (lw_at lw_m6 235 rfl) rfl
theorem q1521 : (Jvm.Cond.methodLink "ReadingStagesModel" (194 : Nat) ({ cls := "ReadingStagesModel", name := "acted", desc := "(I)I" } : Jvm.MethodName)) ∈ lw_all := lw_g (lw_at lw_m6 236 rfl) rfl
theorem q1522 : (Jvm.Cond.privateMethod ({ cls := "ReadingStagesModel", name := "acted", desc := "(I)I" } : Jvm.MethodName)) ∈ lw_tbl := lw_at lw_m6 237 rfl
theorem q1523 : (Jvm.Cond.instanceMethod ({ cls := "ReadingStagesModel", name := "acted", desc := "(I)I" } : Jvm.MethodName)) ∈ lw_all := lw_g (lw_at lw_m6 238 rfl) rfl
theorem q1524 : (Jvm.Cond.code ({ cls := "ReadingStagesModel", name := "acted", desc := "(I)I" } : Jvm.MethodName) prog_11_method_37_code (2 : Nat) (Option.some Jvm.ClassFile.FieldType.int)) ∈ lw_all := lw_g (lw_at lw_m6 239 rfl) rfl
theorem q1525 : (Jvm.Cond.methodLink "ReadingStagesModel" (169 : Nat) ({ cls := "ReadingStagesModel", name := "notes", desc := "()V" } : Jvm.MethodName)) ∈ lw_all := lw_g (lw_at lw_m7 0 rfl) rfl
theorem q1526 : (Jvm.Cond.privateMethod ({ cls := "ReadingStagesModel", name := "notes", desc := "()V" } : Jvm.MethodName)) ∈ lw_tbl := lw_at lw_m7 1 rfl
theorem q1527 : (Jvm.Cond.instanceMethod ({ cls := "ReadingStagesModel", name := "notes", desc := "()V" } : Jvm.MethodName)) ∈ lw_all := lw_g (lw_at lw_m7 2 rfl) rfl
theorem q1528 : (Jvm.Cond.code ({ cls := "ReadingStagesModel", name := "notes", desc := "()V" } : Jvm.MethodName) prog_11_method_35_code (2 : Nat) (Option.none : Option Jvm.ClassFile.FieldType)) ∈ lw_all := lw_g (lw_at lw_m7 3 rfl) rfl
theorem q1530 : (Jvm.Cond.instanceMethod ({ cls := "ReadingStagesModel", name := "words", desc := "(II)I" } : Jvm.MethodName)) ∈ lw_all := lw_g (lw_at lw_m7 5 rfl) rfl
theorem q1531 : (Jvm.Cond.selects "ReadingStagesModel" ({ cls := "ReadingStagesModel", name := "words", desc := "(II)I" } : Jvm.MethodName) ({ cls := "ReadingStagesModel", name := "words", desc := "(II)I" } : Jvm.MethodName)) ∈ lw_all := lw_g (lw_at lw_m7 6 rfl) rfl
theorem q1532 : (Jvm.Cond.code ({ cls := "ReadingStagesModel", name := "words", desc := "(II)I" } : Jvm.MethodName) prog_11_method_49_code (3 : Nat) (Option.some Jvm.ClassFile.FieldType.int)) ∈ lw_all := lw_g (lw_at lw_m7 7 rfl) rfl
theorem q1533 : (Jvm.Cond.methodLink "ReadingStagesModel" (197 : Nat) ({ cls := "ReadingStagesModel", name := "changes", desc := "(II)I" } : Jvm.MethodName)) ∈ lw_all := lw_g (lw_at lw_m7 8 rfl) rfl
theorem q1534 : (Jvm.Cond.privateMethod ({ cls := "ReadingStagesModel", name := "changes", desc := "(II)I" } : Jvm.MethodName)) ∈ lw_tbl := lw_at lw_m7 9 rfl
theorem q1535 : (Jvm.Cond.instanceMethod ({ cls := "ReadingStagesModel", name := "changes", desc := "(II)I" } : Jvm.MethodName)) ∈ lw_all := lw_g (lw_at lw_m7 10 rfl) rfl
theorem q1536 : (Jvm.Cond.code ({ cls := "ReadingStagesModel", name := "changes", desc := "(II)I" } : Jvm.MethodName) prog_11_method_39_code (4 : Nat) (Option.some Jvm.ClassFile.FieldType.int)) ∈ lw_all := lw_g (lw_at lw_m7 11 rfl) rfl
theorem q1538 : (Jvm.Cond.instanceMethod ({ cls := "ReadingStagesModel", name := "lose", desc := "(I)I" } : Jvm.MethodName)) ∈ lw_all := lw_g (lw_at lw_m7 13 rfl) rfl
theorem q1539 : (Jvm.Cond.selects "ReadingStagesModel" ({ cls := "ReadingStagesModel", name := "lose", desc := "(I)I" } : Jvm.MethodName) ({ cls := "ReadingStagesModel", name := "lose", desc := "(I)I" } : Jvm.MethodName)) ∈ lw_all := lw_g (lw_at lw_m7 14 rfl) rfl
theorem q1540 : (Jvm.Cond.code ({ cls := "ReadingStagesModel", name := "lose", desc := "(I)I" } : Jvm.MethodName) prog_11_method_50_code (2 : Nat) (Option.some Jvm.ClassFile.FieldType.int)) ∈ lw_all := lw_g (lw_at lw_m7 15 rfl) rfl
theorem q1541 : (Jvm.Cond.methodLink "ReadingStagesModel" (200 : Nat) ({ cls := "ReadingStagesModel", name := "loses", desc := "(I)I" } : Jvm.MethodName)) ∈ lw_all := lw_g (lw_at lw_m7 16 rfl) rfl
theorem q1542 : (Jvm.Cond.privateMethod ({ cls := "ReadingStagesModel", name := "loses", desc := "(I)I" } : Jvm.MethodName)) ∈ lw_tbl := lw_at lw_m7 17 rfl
theorem q1543 : (Jvm.Cond.instanceMethod ({ cls := "ReadingStagesModel", name := "loses", desc := "(I)I" } : Jvm.MethodName)) ∈ lw_all := lw_g (lw_at lw_m7 18 rfl) rfl
theorem q1544 : (Jvm.Cond.code ({ cls := "ReadingStagesModel", name := "loses", desc := "(I)I" } : Jvm.MethodName) prog_11_method_41_code (5 : Nat) (Option.some Jvm.ClassFile.FieldType.int)) ∈ lw_all := lw_g (lw_at lw_m7 19 rfl) rfl
theorem q1545 : (Jvm.Cond.methodLink "ReadingStagesModel" (175 : Nat) ({ cls := "ReadingStagesModel", name := "without", desc := "(II)I" } : Jvm.MethodName)) ∈ lw_all := lw_g (lw_at lw_m7 20 rfl) rfl
theorem q1546 : (Jvm.Cond.static ({ cls := "ReadingStagesModel", name := "without", desc := "(II)I" } : Jvm.MethodName)) ∈ lw_all := lw_g (lw_at lw_m7 21 rfl) rfl
theorem q1547 : (Jvm.Cond.code ({ cls := "ReadingStagesModel", name := "without", desc := "(II)I" } : Jvm.MethodName) prog_11_method_40_code (3 : Nat) (Option.some Jvm.ClassFile.FieldType.int)) ∈ lw_all := lw_g (lw_at lw_m7 22 rfl) rfl
theorem q1549 : (Jvm.Cond.instanceMethod ({ cls := "ReadingStagesModel", name := "ahead", desc := "(II)I" } : Jvm.MethodName)) ∈ lw_all := lw_g (lw_at lw_m7 24 rfl) rfl
theorem q1550 : (Jvm.Cond.selects "ReadingStagesModel" ({ cls := "ReadingStagesModel", name := "ahead", desc := "(II)I" } : Jvm.MethodName) ({ cls := "ReadingStagesModel", name := "ahead", desc := "(II)I" } : Jvm.MethodName)) ∈ lw_all := lw_g (lw_at lw_m7 25 rfl) rfl
theorem q1551 : (Jvm.Cond.code ({ cls := "ReadingStagesModel", name := "ahead", desc := "(II)I" } : Jvm.MethodName) prog_11_method_51_code (3 : Nat) (Option.some Jvm.ClassFile.FieldType.int)) ∈ lw_all := lw_g (lw_at lw_m7 26 rfl) rfl
theorem q1552 : (Jvm.Cond.methodLink "ReadingStagesModel" (203 : Nat) ({ cls := "ReadingStagesModel", name := "puts", desc := "(II)I" } : Jvm.MethodName)) ∈ lw_all := lw_g (lw_at lw_m7 27 rfl) rfl
theorem q1553 : (Jvm.Cond.privateMethod ({ cls := "ReadingStagesModel", name := "puts", desc := "(II)I" } : Jvm.MethodName)) ∈ lw_tbl := lw_at lw_m7 28 rfl
theorem q1554 : (Jvm.Cond.instanceMethod ({ cls := "ReadingStagesModel", name := "puts", desc := "(II)I" } : Jvm.MethodName)) ∈ lw_all := lw_g (lw_at lw_m7 29 rfl) rfl
theorem q1555 : (Jvm.Cond.code ({ cls := "ReadingStagesModel", name := "puts", desc := "(II)I" } : Jvm.MethodName) prog_11_method_43_code (4 : Nat) (Option.some Jvm.ClassFile.FieldType.int)) ∈ lw_all := lw_g (lw_at lw_m7 30 rfl) rfl
theorem q1556 : (Jvm.Cond.methodLink "ReadingStagesModel" (179 : Nat) ({ cls := "ReadingStagesModel", name := "comesTo", desc := "(II)Z" } : Jvm.MethodName)) ∈ lw_all := lw_g (lw_at lw_m7 31 rfl) rfl
theorem q1557 : (Jvm.Cond.privateMethod ({ cls := "ReadingStagesModel", name := "comesTo", desc := "(II)Z" } : Jvm.MethodName)) ∈ lw_tbl := lw_at lw_m7 32 rfl
theorem q1558 : (Jvm.Cond.instanceMethod ({ cls := "ReadingStagesModel", name := "comesTo", desc := "(II)Z" } : Jvm.MethodName)) ∈ lw_all := lw_g (lw_at lw_m7 33 rfl) rfl
theorem q1559 : (Jvm.Cond.code ({ cls := "ReadingStagesModel", name := "comesTo", desc := "(II)Z" } : Jvm.MethodName) prog_11_method_42_code (6 : Nat) (Option.some Jvm.ClassFile.FieldType.boolean)) ∈ lw_all := lw_g (lw_at lw_m7 34 rfl) rfl
theorem q1561 : (Jvm.Cond.instanceMethod ({ cls := "ReadingStagesModel", name := "prior", desc := "(I)I" } : Jvm.MethodName)) ∈ lw_all := lw_g (lw_at lw_m7 36 rfl) rfl
theorem q1562 : (Jvm.Cond.selects "ReadingStagesModel" ({ cls := "ReadingStagesModel", name := "prior", desc := "(I)I" } : Jvm.MethodName) ({ cls := "ReadingStagesModel", name := "prior", desc := "(I)I" } : Jvm.MethodName)) ∈ lw_all := lw_g (lw_at lw_m7 37 rfl) rfl
theorem q1563 : (Jvm.Cond.code ({ cls := "ReadingStagesModel", name := "prior", desc := "(I)I" } : Jvm.MethodName) prog_11_method_52_code (2 : Nat) (Option.some Jvm.ClassFile.FieldType.int)) ∈ lw_all := lw_g (lw_at lw_m7 38 rfl) rfl
theorem q1564 : (Jvm.Cond.methodLink "ReadingStagesModel" (206 : Nat) ({ cls := "ReadingStagesModel", name := "sets", desc := "(I)I" } : Jvm.MethodName)) ∈ lw_all := lw_g (lw_at lw_m7 39 rfl) rfl
theorem q1565 : (Jvm.Cond.privateMethod ({ cls := "ReadingStagesModel", name := "sets", desc := "(I)I" } : Jvm.MethodName)) ∈ lw_tbl := lw_at lw_m7 40 rfl
theorem q1566 : (Jvm.Cond.instanceMethod ({ cls := "ReadingStagesModel", name := "sets", desc := "(I)I" } : Jvm.MethodName)) ∈ lw_all := lw_g (lw_at lw_m7 41 rfl) rfl
theorem q1567 : (Jvm.Cond.code ({ cls := "ReadingStagesModel", name := "sets", desc := "(I)I" } : Jvm.MethodName) prog_11_method_44_code (3 : Nat) (Option.some Jvm.ClassFile.FieldType.int)) ∈ lw_all := lw_g (lw_at lw_m7 42 rfl) rfl
theorem q1569 : (Jvm.Cond.instanceMethod ({ cls := "ReadingStagesModel", name := "tell", desc := "(II)I" } : Jvm.MethodName)) ∈ lw_all := lw_g (lw_at lw_m7 44 rfl) rfl
theorem q1570 : (Jvm.Cond.selects "ReadingStagesModel" ({ cls := "ReadingStagesModel", name := "tell", desc := "(II)I" } : Jvm.MethodName) ({ cls := "ReadingStagesModel", name := "tell", desc := "(II)I" } : Jvm.MethodName)) ∈ lw_all := lw_g (lw_at lw_m7 45 rfl) rfl
theorem q1571 : (Jvm.Cond.code ({ cls := "ReadingStagesModel", name := "tell", desc := "(II)I" } : Jvm.MethodName) prog_11_method_53_code (3 : Nat) (Option.some Jvm.ClassFile.FieldType.int)) ∈ lw_all := lw_g (lw_at lw_m7 46 rfl) rfl
theorem q1572 : (Jvm.Cond.methodLink "ReadingStagesModel" (209 : Nat) ({ cls := "ReadingStagesModel", name := "tells", desc := "(II)I" } : Jvm.MethodName)) ∈ lw_all := lw_g (lw_at lw_m7 47 rfl) rfl
theorem q1573 : (Jvm.Cond.privateMethod ({ cls := "ReadingStagesModel", name := "tells", desc := "(II)I" } : Jvm.MethodName)) ∈ lw_tbl := lw_at lw_m7 48 rfl
theorem q1574 : (Jvm.Cond.instanceMethod ({ cls := "ReadingStagesModel", name := "tells", desc := "(II)I" } : Jvm.MethodName)) ∈ lw_all := lw_g (lw_at lw_m7 49 rfl) rfl
theorem q1575 : (Jvm.Cond.code ({ cls := "ReadingStagesModel", name := "tells", desc := "(II)I" } : Jvm.MethodName) prog_11_method_45_code (5 : Nat) (Option.some Jvm.ClassFile.FieldType.int)) ∈ lw_all := lw_g (lw_at lw_m7 50 rfl) rfl
theorem q1576 : (Jvm.Cond.constantLong "ReadingStagesModel" (182 : Nat) (4 : Int64)) ∈ lw_all := lw_g (lw_at lw_m7 51 rfl) rfl
theorem q1577 : (Jvm.Cond.constantLong "ReadingStagesModel" (184 : Nat) (20 : Int64)) ∈ lw_all := lw_g (lw_at lw_m7 52 rfl) rfl
theorem q1578 : (Jvm.Cond.constantLong "ReadingStagesModel" (186 : Nat) (2 : Int64)) ∈ lw_all := lw_g (lw_at lw_m7 53 rfl) rfl
theorem q1580 : (Jvm.Cond.instanceMethod ({ cls := "ReadingStagesModel", name := "move", desc := "(II)I" } : Jvm.MethodName)) ∈ lw_all := lw_g (lw_at lw_m7 55 rfl) rfl
theorem q1581 : (Jvm.Cond.selects "ReadingStagesModel" ({ cls := "ReadingStagesModel", name := "move", desc := "(II)I" } : Jvm.MethodName) ({ cls := "ReadingStagesModel", name := "move", desc := "(II)I" } : Jvm.MethodName)) ∈ lw_all := lw_g (lw_at lw_m7 56 rfl) rfl
theorem q1582 : (Jvm.Cond.code ({ cls := "ReadingStagesModel", name := "move", desc := "(II)I" } : Jvm.MethodName) prog_11_method_54_code (3 : Nat) (Option.some Jvm.ClassFile.FieldType.int)) ∈ lw_all := lw_g (lw_at lw_m7 57 rfl) rfl
theorem q1583 : (Jvm.Cond.methodLink "ReadingStagesModel" (212 : Nat) ({ cls := "ReadingStagesModel", name := "shifts", desc := "(II)I" } : Jvm.MethodName)) ∈ lw_all := lw_g (lw_at lw_m7 58 rfl) rfl
theorem q1584 : (Jvm.Cond.privateMethod ({ cls := "ReadingStagesModel", name := "shifts", desc := "(II)I" } : Jvm.MethodName)) ∈ lw_tbl := lw_at lw_m7 59 rfl
theorem q1585 : (Jvm.Cond.instanceMethod ({ cls := "ReadingStagesModel", name := "shifts", desc := "(II)I" } : Jvm.MethodName)) ∈ lw_all := lw_g (lw_at lw_m7 60 rfl) rfl
theorem q1586 : (Jvm.Cond.code ({ cls := "ReadingStagesModel", name := "shifts", desc := "(II)I" } : Jvm.MethodName) prog_11_method_46_code (6 : Nat) (Option.some Jvm.ClassFile.FieldType.int)) ∈ lw_all := lw_g (lw_at lw_m7 61 rfl) rfl
theorem q1588 : (Jvm.Cond.instanceMethod ({ cls := "ReadingStagesModel", name := "settle", desc := "(I)I" } : Jvm.MethodName)) ∈ lw_all := lw_g (lw_at lw_m7 63 rfl) rfl
theorem q1589 : (Jvm.Cond.selects "ReadingStagesModel" ({ cls := "ReadingStagesModel", name := "settle", desc := "(I)I" } : Jvm.MethodName) ({ cls := "ReadingStagesModel", name := "settle", desc := "(I)I" } : Jvm.MethodName)) ∈ lw_all := lw_g (lw_at lw_m7 64 rfl) rfl
theorem q1590 : (Jvm.Cond.code ({ cls := "ReadingStagesModel", name := "settle", desc := "(I)I" } : Jvm.MethodName) prog_11_method_55_code (2 : Nat) (Option.some Jvm.ClassFile.FieldType.int)) ∈ lw_all := lw_g (lw_at lw_m7 65 rfl) rfl
theorem q1591 : (Jvm.Cond.methodLink "ReadingStagesModel" (215 : Nat) ({ cls := "ReadingStagesModel", name := "settles", desc := "(I)I" } : Jvm.MethodName)) ∈ lw_all := lw_g (lw_at lw_m7 66 rfl) rfl
theorem q1592 : (Jvm.Cond.privateMethod ({ cls := "ReadingStagesModel", name := "settles", desc := "(I)I" } : Jvm.MethodName)) ∈ lw_tbl := lw_at lw_m7 67 rfl
theorem q1593 : (Jvm.Cond.instanceMethod ({ cls := "ReadingStagesModel", name := "settles", desc := "(I)I" } : Jvm.MethodName)) ∈ lw_all := lw_g (lw_at lw_m7 68 rfl) rfl
theorem q1594 : (Jvm.Cond.code ({ cls := "ReadingStagesModel", name := "settles", desc := "(I)I" } : Jvm.MethodName) prog_11_method_47_code (6 : Nat) (Option.some Jvm.ClassFile.FieldType.int)) ∈ lw_all := lw_g (lw_at lw_m7 69 rfl) rfl
theorem q1596 : (Jvm.Cond.instanceMethod ({ cls := "ReadingStagesModel", name := "type", desc := "(I)I" } : Jvm.MethodName)) ∈ lw_all := lw_g (lw_at lw_m7 71 rfl) rfl
theorem q1597 : (Jvm.Cond.selects "ReadingStagesModel" ({ cls := "ReadingStagesModel", name := "type", desc := "(I)I" } : Jvm.MethodName) ({ cls := "ReadingStagesModel", name := "type", desc := "(I)I" } : Jvm.MethodName)) ∈ lw_all := lw_g (lw_at lw_m7 72 rfl) rfl
theorem q1598 : (Jvm.Cond.code ({ cls := "ReadingStagesModel", name := "type", desc := "(I)I" } : Jvm.MethodName) prog_11_method_56_code (2 : Nat) (Option.some Jvm.ClassFile.FieldType.int)) ∈ lw_all := lw_g (lw_at lw_m7 73 rfl) rfl
theorem q1599 : (Jvm.Cond.constantLong "ReadingStagesModel" (218 : Nat) (32 : Int64)) ∈ lw_all := lw_g (lw_at lw_m7 74 rfl) rfl
theorem q1600 : (Jvm.Cond.constantLong "ReadingStagesModel" (220 : Nat) (126 : Int64)) ∈ lw_all := lw_g (lw_at lw_m7 75 rfl) rfl
theorem q1602 : (Jvm.Cond.instanceMethod ({ cls := "ReadingStagesModel", name := "read", desc := "()I" } : Jvm.MethodName)) ∈ lw_all := lw_g (lw_at lw_m7 77 rfl) rfl
theorem q1603 : (Jvm.Cond.selects "ReadingStagesModel" ({ cls := "ReadingStagesModel", name := "read", desc := "()I" } : Jvm.MethodName) ({ cls := "ReadingStagesModel", name := "read", desc := "()I" } : Jvm.MethodName)) ∈ lw_all := lw_g (lw_at lw_m7 78 rfl) rfl
theorem q1604 : (Jvm.Cond.code ({ cls := "ReadingStagesModel", name := "read", desc := "()I" } : Jvm.MethodName) prog_11_method_67_code (3 : Nat) (Option.some Jvm.ClassFile.FieldType.int)) ∈ lw_all := lw_g (lw_at lw_m7 79 rfl) rfl
theorem q1605 : (Jvm.Cond.methodLink "ReadingStagesModel" (261 : Nat) ({ cls := "ReadingStagesModel", name := "readsAll", desc := "()Z" } : Jvm.MethodName)) ∈ lw_all := lw_g (lw_at lw_m7 80 rfl) rfl
theorem q1606 : (Jvm.Cond.privateMethod ({ cls := "ReadingStagesModel", name := "readsAll", desc := "()Z" } : Jvm.MethodName)) ∈ lw_tbl := lw_at lw_m7 81 rfl
theorem q1607 : (Jvm.Cond.instanceMethod ({ cls := "ReadingStagesModel", name := "readsAll", desc := "()Z" } : Jvm.MethodName)) ∈ lw_all := lw_g (lw_at lw_m7 82 rfl) rfl
theorem q1608 : (Jvm.Cond.code ({ cls := "ReadingStagesModel", name := "readsAll", desc := "()Z" } : Jvm.MethodName) prog_11_method_66_code (4 : Nat) (Option.some Jvm.ClassFile.FieldType.boolean)) ∈ lw_all := lw_g (lw_at lw_m7 83 rfl) rfl
theorem q1609 : (Jvm.Cond.methodLink "ReadingStagesModel" (249 : Nat) ({ cls := "ReadingStagesModel", name := "rule", desc := "()I" } : Jvm.MethodName)) ∈ lw_all := lw_g (lw_at lw_m7 84 rfl) rfl
theorem q1610 : (Jvm.Cond.privateMethod ({ cls := "ReadingStagesModel", name := "rule", desc := "()I" } : Jvm.MethodName)) ∈ lw_tbl := lw_at lw_m7 85 rfl
theorem q1611 : (Jvm.Cond.instanceMethod ({ cls := "ReadingStagesModel", name := "rule", desc := "()I" } : Jvm.MethodName)) ∈ lw_all := lw_g (lw_at lw_m7 86 rfl) rfl
theorem q1612 : (Jvm.Cond.code ({ cls := "ReadingStagesModel", name := "rule", desc := "()I" } : Jvm.MethodName) prog_11_method_61_code (1 : Nat) (Option.some Jvm.ClassFile.FieldType.int)) ∈ lw_all := lw_g (lw_at lw_m7 87 rfl) rfl
theorem q1613 : (Jvm.Cond.methodLink "ReadingStagesModel" (232 : Nat) ({ cls := "ReadingStagesModel", name := "here", desc := "()I" } : Jvm.MethodName)) ∈ lw_all := lw_g (lw_at lw_m7 88 rfl) rfl
theorem q1614 : (Jvm.Cond.privateMethod ({ cls := "ReadingStagesModel", name := "here", desc := "()I" } : Jvm.MethodName)) ∈ lw_tbl := lw_at lw_m7 89 rfl
theorem q1615 : (Jvm.Cond.instanceMethod ({ cls := "ReadingStagesModel", name := "here", desc := "()I" } : Jvm.MethodName)) ∈ lw_all := lw_g (lw_at lw_m7 90 rfl) rfl
theorem q1616 : (Jvm.Cond.code ({ cls := "ReadingStagesModel", name := "here", desc := "()I" } : Jvm.MethodName) prog_11_method_57_code (1 : Nat) (Option.some Jvm.ClassFile.FieldType.int)) ∈ lw_all := lw_g (lw_at lw_m7 91 rfl) rfl
theorem q1617 : (Jvm.Cond.methodLink "ReadingStagesModel" (235 : Nat) ({ cls := "ReadingStagesModel", name := "isWord", desc := "(IIIII)Z" } : Jvm.MethodName)) ∈ lw_all := lw_g (lw_at lw_m7 92 rfl) rfl
theorem q1618 : (Jvm.Cond.privateMethod ({ cls := "ReadingStagesModel", name := "isWord", desc := "(IIIII)Z" } : Jvm.MethodName)) ∈ lw_tbl := lw_at lw_m7 93 rfl
theorem q1619 : (Jvm.Cond.instanceMethod ({ cls := "ReadingStagesModel", name := "isWord", desc := "(IIIII)Z" } : Jvm.MethodName)) ∈ lw_all := lw_g (lw_at lw_m7 94 rfl) rfl
theorem q1620 : (Jvm.Cond.code ({ cls := "ReadingStagesModel", name := "isWord", desc := "(IIIII)Z" } : Jvm.MethodName) prog_11_method_59_code (6 : Nat) (Option.some Jvm.ClassFile.FieldType.boolean)) ∈ lw_all := lw_g (lw_at lw_m7 95 rfl) rfl
theorem q1621 : (Jvm.Cond.methodLink "ReadingStagesModel" (228 : Nat) ({ cls := "ReadingStagesModel", name := "isAt", desc := "(III)Z" } : Jvm.MethodName)) ∈ lw_all := lw_g (lw_at lw_m7 96 rfl) rfl
theorem q1622 : (Jvm.Cond.privateMethod ({ cls := "ReadingStagesModel", name := "isAt", desc := "(III)Z" } : Jvm.MethodName)) ∈ lw_tbl := lw_at lw_m7 97 rfl
theorem q1623 : (Jvm.Cond.instanceMethod ({ cls := "ReadingStagesModel", name := "isAt", desc := "(III)Z" } : Jvm.MethodName)) ∈ lw_all := lw_g (lw_at lw_m7 98 rfl) rfl
theorem q1624 : (Jvm.Cond.code ({ cls := "ReadingStagesModel", name := "isAt", desc := "(III)Z" } : Jvm.MethodName) prog_11_method_58_code (4 : Nat) (Option.some Jvm.ClassFile.FieldType.boolean)) ∈ lw_all := lw_g (lw_at lw_m7 99 rfl) rfl
theorem q1625 : (Jvm.Cond.methodLink "ReadingStagesModel" (239 : Nat) ({ cls := "ReadingStagesModel", name := "isMore", desc := "(IIIII)Z" } : Jvm.MethodName)) ∈ lw_all := lw_g (lw_at lw_m7 100 rfl) rfl
theorem q1626 : (Jvm.Cond.privateMethod ({ cls := "ReadingStagesModel", name := "isMore", desc := "(IIIII)Z" } : Jvm.MethodName)) ∈ lw_tbl := lw_at lw_m7 101 rfl
theorem q1627 : (Jvm.Cond.instanceMethod ({ cls := "ReadingStagesModel", name := "isMore", desc := "(IIIII)Z" } : Jvm.MethodName)) ∈ lw_all := lw_g (lw_at lw_m7 102 rfl) rfl
theorem q1628 : (Jvm.Cond.code ({ cls := "ReadingStagesModel", name := "isMore", desc := "(IIIII)Z" } : Jvm.MethodName) prog_11_method_60_code (6 : Nat) (Option.some Jvm.ClassFile.FieldType.boolean)) ∈ lw_all := lw_g (lw_at lw_m7 103 rfl) rfl
theorem q1629 : (Jvm.Cond.methodLink "ReadingStagesModel" (246 : Nat) ({ cls := "ReadingStagesModel", name := "figure", desc := "(II)I" } : Jvm.MethodName)) ∈ lw_all := lw_g (lw_at lw_m7 104 rfl) rfl
theorem q1630 : (Jvm.Cond.privateMethod ({ cls := "ReadingStagesModel", name := "figure", desc := "(II)I" } : Jvm.MethodName)) ∈ lw_tbl := lw_at lw_m7 105 rfl
theorem q1631 : (Jvm.Cond.instanceMethod ({ cls := "ReadingStagesModel", name := "figure", desc := "(II)I" } : Jvm.MethodName)) ∈ lw_all := lw_g (lw_at lw_m7 106 rfl) rfl
theorem q1632 : (Jvm.Cond.code ({ cls := "ReadingStagesModel", name := "figure", desc := "(II)I" } : Jvm.MethodName) prog_11_method_63_code (4 : Nat) (Option.some Jvm.ClassFile.FieldType.int)) ∈ lw_all := lw_g (lw_at lw_m7 107 rfl) rfl
theorem q1633 : (Jvm.Cond.methodLink "ReadingStagesModel" (252 : Nat) ({ cls := "ReadingStagesModel", name := "takes", desc := "(I)Z" } : Jvm.MethodName)) ∈ lw_all := lw_g (lw_at lw_m7 108 rfl) rfl
theorem q1634 : (Jvm.Cond.privateMethod ({ cls := "ReadingStagesModel", name := "takes", desc := "(I)Z" } : Jvm.MethodName)) ∈ lw_tbl := lw_at lw_m7 109 rfl
theorem q1635 : (Jvm.Cond.instanceMethod ({ cls := "ReadingStagesModel", name := "takes", desc := "(I)Z" } : Jvm.MethodName)) ∈ lw_all := lw_g (lw_at lw_m7 110 rfl) rfl
theorem q1636 : (Jvm.Cond.code ({ cls := "ReadingStagesModel", name := "takes", desc := "(I)Z" } : Jvm.MethodName) prog_11_method_62_code (3 : Nat) (Option.some Jvm.ClassFile.FieldType.boolean)) ∈ lw_all := lw_g (lw_at lw_m7 111 rfl) rfl
theorem q1637 : (Jvm.Cond.methodLink "ReadingStagesModel" (255 : Nat) ({ cls := "ReadingStagesModel", name := "readsBook", desc := "()Z" } : Jvm.MethodName)) ∈ lw_all := lw_g (lw_at lw_m7 112 rfl) rfl
theorem q1638 : (Jvm.Cond.privateMethod ({ cls := "ReadingStagesModel", name := "readsBook", desc := "()Z" } : Jvm.MethodName)) ∈ lw_tbl := lw_at lw_m7 113 rfl
theorem q1639 : (Jvm.Cond.instanceMethod ({ cls := "ReadingStagesModel", name := "readsBook", desc := "()Z" } : Jvm.MethodName)) ∈ lw_all := lw_g (lw_at lw_m7 114 rfl) rfl
theorem q1640 : (Jvm.Cond.code ({ cls := "ReadingStagesModel", name := "readsBook", desc := "()Z" } : Jvm.MethodName) prog_11_method_64_code (2 : Nat) (Option.some Jvm.ClassFile.FieldType.boolean)) ∈ lw_all := lw_g (lw_at lw_m7 115 rfl) rfl
theorem q1641 : (Jvm.Cond.constantLong "ReadingStagesModel" (242 : Nat) (97 : Int64)) ∈ lw_all := lw_g (lw_at lw_m7 116 rfl) rfl
theorem q1642 : (Jvm.Cond.constantLong "ReadingStagesModel" (244 : Nat) (116 : Int64)) ∈ lw_all := lw_g (lw_at lw_m7 117 rfl) rfl
theorem q1643 : (Jvm.Cond.methodLink "ReadingStagesModel" (258 : Nat) ({ cls := "ReadingStagesModel", name := "readsPair", desc := "()Z" } : Jvm.MethodName)) ∈ lw_all := lw_g (lw_at lw_m7 118 rfl) rfl
theorem q1644 : (Jvm.Cond.privateMethod ({ cls := "ReadingStagesModel", name := "readsPair", desc := "()Z" } : Jvm.MethodName)) ∈ lw_tbl := lw_at lw_m7 119 rfl
theorem q1645 : (Jvm.Cond.instanceMethod ({ cls := "ReadingStagesModel", name := "readsPair", desc := "()Z" } : Jvm.MethodName)) ∈ lw_all := lw_g (lw_at lw_m7 120 rfl) rfl
theorem q1646 : (Jvm.Cond.code ({ cls := "ReadingStagesModel", name := "readsPair", desc := "()Z" } : Jvm.MethodName) prog_11_method_65_code (3 : Nat) (Option.some Jvm.ClassFile.FieldType.boolean)) ∈ lw_all := lw_g (lw_at lw_m7 121 rfl) rfl
theorem q1648 : (Jvm.Cond.instanceMethod ({ cls := "ReadingStagesModel", name := "drift", desc := "(I)I" } : Jvm.MethodName)) ∈ lw_all := lw_g (lw_at lw_m7 123 rfl) rfl
theorem q1649 : (Jvm.Cond.selects "ReadingStagesModel" ({ cls := "ReadingStagesModel", name := "drift", desc := "(I)I" } : Jvm.MethodName) ({ cls := "ReadingStagesModel", name := "drift", desc := "(I)I" } : Jvm.MethodName)) ∈ lw_all := lw_g (lw_at lw_m7 124 rfl) rfl
theorem q1650 : (Jvm.Cond.code ({ cls := "ReadingStagesModel", name := "drift", desc := "(I)I" } : Jvm.MethodName) prog_11_method_70_code (5 : Nat) (Option.some Jvm.ClassFile.FieldType.int)) ∈ lw_all := lw_g (lw_at lw_m7 125 rfl) rfl
theorem q1651 : (Jvm.Cond.constantLong "ReadingStagesModel" (270 : Nat) (40 : Int64)) ∈ lw_all := lw_g (lw_at lw_m7 126 rfl) rfl
theorem q1652 : (Jvm.Cond.constant "ReadingStagesModel" (272 : Nat) (65536 : Int32)) ∈ lw_all := lw_g (lw_at lw_m7 127 rfl) rfl
theorem q1653 : (Jvm.Cond.methodLink "ReadingStagesModel" (273 : Nat) ({ cls := "ReadingStagesModel", name := "draws", desc := "(I)I" } : Jvm.MethodName)) ∈ lw_all := lw_g (lw_at lw_m7 128 rfl) rfl
theorem q1654 : (Jvm.Cond.privateMethod ({ cls := "ReadingStagesModel", name := "draws", desc := "(I)I" } : Jvm.MethodName)) ∈ lw_tbl := lw_at lw_m7 129 rfl
theorem q1655 : (Jvm.Cond.instanceMethod ({ cls := "ReadingStagesModel", name := "draws", desc := "(I)I" } : Jvm.MethodName)) ∈ lw_all := lw_g (lw_at lw_m7 130 rfl) rfl
theorem q1656 : (Jvm.Cond.code ({ cls := "ReadingStagesModel", name := "draws", desc := "(I)I" } : Jvm.MethodName) prog_11_method_68_code (2 : Nat) (Option.some Jvm.ClassFile.FieldType.int)) ∈ lw_all := lw_g (lw_at lw_m7 131 rfl) rfl
theorem q1657 : (Jvm.Cond.constantLong "ReadingStagesModel" (264 : Nat) (1103515245 : Int64)) ∈ lw_all := lw_g (lw_at lw_m7 132 rfl) rfl
theorem q1658 : (Jvm.Cond.constantLong "ReadingStagesModel" (266 : Nat) (12345 : Int64)) ∈ lw_all := lw_g (lw_at lw_m7 133 rfl) rfl
theorem q1659 : (Jvm.Cond.constantLong "ReadingStagesModel" (268 : Nat) (2147483647 : Int64)) ∈ lw_all := lw_g (lw_at lw_m7 134 rfl) rfl
theorem q1660 : (Jvm.Cond.constant "ReadingStagesModel" (276 : Nat) (1048576 : Int32)) ∈ lw_all := lw_g (lw_at lw_m7 135 rfl) rfl
theorem q1661 : (Jvm.Cond.methodLink "ReadingStagesModel" (277 : Nat) ({ cls := "ReadingStagesModel", name := "does", desc := "(II)I" } : Jvm.MethodName)) ∈ lw_all := lw_g (lw_at lw_m7 136 rfl) rfl
theorem q1662 : (Jvm.Cond.privateMethod ({ cls := "ReadingStagesModel", name := "does", desc := "(II)I" } : Jvm.MethodName)) ∈ lw_tbl := lw_at lw_m7 137 rfl
theorem q1663 : (Jvm.Cond.instanceMethod ({ cls := "ReadingStagesModel", name := "does", desc := "(II)I" } : Jvm.MethodName)) ∈ lw_all := lw_g (lw_at lw_m7 138 rfl) rfl
theorem q1664 : (Jvm.Cond.code ({ cls := "ReadingStagesModel", name := "does", desc := "(II)I" } : Jvm.MethodName) prog_11_method_69_code (5 : Nat) (Option.some Jvm.ClassFile.FieldType.int)) ∈ lw_all := lw_g (lw_at lw_m7 139 rfl) rfl
theorem q1666 : (Jvm.Cond.instanceMethod ({ cls := "ReadingStagesModel", name := "undo", desc := "()I" } : Jvm.MethodName)) ∈ lw_all := lw_g (lw_at lw_m7 141 rfl) rfl
theorem q1667 : (Jvm.Cond.selects "ReadingStagesModel" ({ cls := "ReadingStagesModel", name := "undo", desc := "()I" } : Jvm.MethodName) ({ cls := "ReadingStagesModel", name := "undo", desc := "()I" } : Jvm.MethodName)) ∈ lw_all := lw_g (lw_at lw_m7 142 rfl) rfl
theorem q1668 : (Jvm.Cond.code ({ cls := "ReadingStagesModel", name := "undo", desc := "()I" } : Jvm.MethodName) prog_11_method_71_code (2 : Nat) (Option.some Jvm.ClassFile.FieldType.int)) ∈ lw_all := lw_g (lw_at lw_m7 143 rfl) rfl
theorem q1670 : (Jvm.Cond.instanceMethod ({ cls := "ReadingStagesModel", name := "seed", desc := "(I)I" } : Jvm.MethodName)) ∈ lw_all := lw_g (lw_at lw_m7 145 rfl) rfl
theorem q1671 : (Jvm.Cond.selects "ReadingStagesModel" ({ cls := "ReadingStagesModel", name := "seed", desc := "(I)I" } : Jvm.MethodName) ({ cls := "ReadingStagesModel", name := "seed", desc := "(I)I" } : Jvm.MethodName)) ∈ lw_all := lw_g (lw_at lw_m7 146 rfl) rfl
theorem q1672 : (Jvm.Cond.code ({ cls := "ReadingStagesModel", name := "seed", desc := "(I)I" } : Jvm.MethodName) prog_11_method_72_code (3 : Nat) (Option.some Jvm.ClassFile.FieldType.int)) ∈ lw_all := lw_g (lw_at lw_m7 147 rfl) rfl
theorem q1674 : (Jvm.Cond.instanceMethod ({ cls := "ReadingStagesModel", name := "image", desc := "()I" } : Jvm.MethodName)) ∈ lw_all := lw_g (lw_at lw_m7 149 rfl) rfl
theorem q1675 : (Jvm.Cond.selects "ReadingStagesModel" ({ cls := "ReadingStagesModel", name := "image", desc := "()I" } : Jvm.MethodName) ({ cls := "ReadingStagesModel", name := "image", desc := "()I" } : Jvm.MethodName)) ∈ lw_all := lw_g (lw_at lw_m7 150 rfl) rfl
theorem q1676 : (Jvm.Cond.code ({ cls := "ReadingStagesModel", name := "image", desc := "()I" } : Jvm.MethodName) prog_11_method_73_code (2 : Nat) (Option.some Jvm.ClassFile.FieldType.int)) ∈ lw_all := lw_g (lw_at lw_m7 151 rfl) rfl
theorem q1678 : (Jvm.Cond.instanceMethod ({ cls := "ReadingStagesModel", name := "restore", desc := "()I" } : Jvm.MethodName)) ∈ lw_all := lw_g (lw_at lw_m7 153 rfl) rfl
theorem q1679 : (Jvm.Cond.selects "ReadingStagesModel" ({ cls := "ReadingStagesModel", name := "restore", desc := "()I" } : Jvm.MethodName) ({ cls := "ReadingStagesModel", name := "restore", desc := "()I" } : Jvm.MethodName)) ∈ lw_all := lw_g (lw_at lw_m7 154 rfl) rfl
theorem q1680 : (Jvm.Cond.code ({ cls := "ReadingStagesModel", name := "restore", desc := "()I" } : Jvm.MethodName) prog_11_method_74_code (2 : Nat) (Option.some Jvm.ClassFile.FieldType.int)) ∈ lw_all := lw_g (lw_at lw_m7 155 rfl) rfl
theorem q1682 : (Jvm.Cond.instanceMethod ({ cls := "ReadingStagesModel", name := "seen", desc := "(III)I" } : Jvm.MethodName)) ∈ lw_all := lw_g (lw_at lw_m7 157 rfl) rfl
theorem q1683 : (Jvm.Cond.selects "ReadingStagesModel" ({ cls := "ReadingStagesModel", name := "seen", desc := "(III)I" } : Jvm.MethodName) ({ cls := "ReadingStagesModel", name := "seen", desc := "(III)I" } : Jvm.MethodName)) ∈ lw_all := lw_g (lw_at lw_m7 158 rfl) rfl
theorem q1684 : (Jvm.Cond.code ({ cls := "ReadingStagesModel", name := "seen", desc := "(III)I" } : Jvm.MethodName) prog_11_method_78_code (10 : Nat) (Option.some Jvm.ClassFile.FieldType.int)) ∈ lw_all := lw_g (lw_at lw_m7 159 rfl) rfl
theorem q1685 : (Jvm.Cond.methodLink "ReadingStagesModel" (285 : Nat) ({ cls := "ReadingStagesModel", name := "isSheet", desc := "(I)Z" } : Jvm.MethodName)) ∈ lw_all := lw_g (lw_at lw_m7 160 rfl) rfl
theorem q1686 : (Jvm.Cond.static ({ cls := "ReadingStagesModel", name := "isSheet", desc := "(I)Z" } : Jvm.MethodName)) ∈ lw_all := lw_g (lw_at lw_m7 161 rfl) rfl
theorem q1687 : (Jvm.Cond.code ({ cls := "ReadingStagesModel", name := "isSheet", desc := "(I)Z" } : Jvm.MethodName) prog_11_method_75_code (1 : Nat) (Option.some Jvm.ClassFile.FieldType.boolean)) ∈ lw_all := lw_g (lw_at lw_m7 162 rfl) rfl
theorem q1688 : (Jvm.Cond.constantLong "ReadingStagesModel" (283 : Nat) (3 : Int64)) ∈ lw_all := lw_g (lw_at lw_m7 163 rfl) rfl
theorem q1689 : (Jvm.Cond.methodLink "ReadingStagesModel" (288 : Nat) ({ cls := "ReadingStagesModel", name := "found", desc := "(IIII)I" } : Jvm.MethodName)) ∈ lw_all := lw_g (lw_at lw_m7 164 rfl) rfl
theorem q1690 : (Jvm.Cond.privateMethod ({ cls := "ReadingStagesModel", name := "found", desc := "(IIII)I" } : Jvm.MethodName)) ∈ lw_tbl := lw_at lw_m7 165 rfl
theorem q1691 : (Jvm.Cond.instanceMethod ({ cls := "ReadingStagesModel", name := "found", desc := "(IIII)I" } : Jvm.MethodName)) ∈ lw_all := lw_g (lw_at lw_m7 166 rfl) rfl
theorem q1692 : (Jvm.Cond.code ({ cls := "ReadingStagesModel", name := "found", desc := "(IIII)I" } : Jvm.MethodName) prog_11_method_77_code (5 : Nat) (Option.some Jvm.ClassFile.FieldType.int)) ∈ lw_all := lw_g (lw_at lw_m7 167 rfl) rfl
theorem q1694 : (Jvm.Cond.instanceMethod ({ cls := "ReadingStagesModel", name := "film", desc := "(III)I" } : Jvm.MethodName)) ∈ lw_all := lw_g (lw_at lw_m7 169 rfl) rfl
theorem q1695 : (Jvm.Cond.selects "ReadingStagesModel" ({ cls := "ReadingStagesModel", name := "film", desc := "(III)I" } : Jvm.MethodName) ({ cls := "ReadingStagesModel", name := "film", desc := "(III)I" } : Jvm.MethodName)) ∈ lw_all := lw_g (lw_at lw_m7 170 rfl) rfl
theorem q1696 : (Jvm.Cond.code ({ cls := "ReadingStagesModel", name := "film", desc := "(III)I" } : Jvm.MethodName) prog_11_method_79_code (6 : Nat) (Option.some Jvm.ClassFile.FieldType.int)) ∈ lw_all := lw_g (lw_at lw_m7 171 rfl) rfl
theorem q1698 : (Jvm.Cond.instanceMethod ({ cls := "ReadingStagesModel", name := "sheet", desc := "(III)I" } : Jvm.MethodName)) ∈ lw_all := lw_g (lw_at lw_m7 173 rfl) rfl
theorem q1699 : (Jvm.Cond.selects "ReadingStagesModel" ({ cls := "ReadingStagesModel", name := "sheet", desc := "(III)I" } : Jvm.MethodName) ({ cls := "ReadingStagesModel", name := "sheet", desc := "(III)I" } : Jvm.MethodName)) ∈ lw_all := lw_g (lw_at lw_m7 174 rfl) rfl
theorem q1700 : (Jvm.Cond.code ({ cls := "ReadingStagesModel", name := "sheet", desc := "(III)I" } : Jvm.MethodName) prog_11_method_80_code (5 : Nat) (Option.some Jvm.ClassFile.FieldType.int)) ∈ lw_all := lw_g (lw_at lw_m7 175 rfl) rfl
theorem q1702 : (Jvm.Cond.instanceMethod ({ cls := "ReadingStagesModel", name := "drop", desc := "(I)I" } : Jvm.MethodName)) ∈ lw_all := lw_g (lw_at lw_m7 177 rfl) rfl
theorem q1703 : (Jvm.Cond.selects "ReadingStagesModel" ({ cls := "ReadingStagesModel", name := "drop", desc := "(I)I" } : Jvm.MethodName) ({ cls := "ReadingStagesModel", name := "drop", desc := "(I)I" } : Jvm.MethodName)) ∈ lw_all := lw_g (lw_at lw_m7 178 rfl) rfl
theorem q1704 : (Jvm.Cond.code ({ cls := "ReadingStagesModel", name := "drop", desc := "(I)I" } : Jvm.MethodName) prog_11_method_81_code (2 : Nat) (Option.some Jvm.ClassFile.FieldType.int)) ∈ lw_all := lw_g (lw_at lw_m7 179 rfl) rfl
theorem q1706 : (Jvm.Cond.instanceMethod ({ cls := "ReadingStagesModel", name := "item", desc := "(IIIJ)I" } : Jvm.MethodName)) ∈ lw_all := lw_g (lw_at lw_m7 181 rfl) rfl
theorem q1707 : (Jvm.Cond.selects "ReadingStagesModel" ({ cls := "ReadingStagesModel", name := "item", desc := "(IIIJ)I" } : Jvm.MethodName) ({ cls := "ReadingStagesModel", name := "item", desc := "(IIIJ)I" } : Jvm.MethodName)) ∈ lw_all := lw_g (lw_at lw_m7 182 rfl) rfl
theorem q1708 : (Jvm.Cond.code ({ cls := "ReadingStagesModel", name := "item", desc := "(IIIJ)I" } : Jvm.MethodName) prog_11_method_82_code (7 : Nat) (Option.some Jvm.ClassFile.FieldType.int)) ∈ lw_all := lw_g (lw_at lw_m7 183 rfl) rfl
theorem q1709 : (Jvm.Cond.methodLink "ReadingStagesModel" (292 : Nat) ({ cls := "ReadingStagesModel", name := "cut", desc := "(IJ)J" } : Jvm.MethodName)) ∈ lw_all := lw_g (lw_at lw_m7 184 rfl) rfl
theorem q1710 : (Jvm.Cond.static ({ cls := "ReadingStagesModel", name := "cut", desc := "(IJ)J" } : Jvm.MethodName)) ∈ lw_all := lw_g (lw_at lw_m7 185 rfl) rfl
theorem q1711 : (Jvm.Cond.code ({ cls := "ReadingStagesModel", name := "cut", desc := "(IJ)J" } : Jvm.MethodName) prog_11_method_76_code (3 : Nat) (Option.some Jvm.ClassFile.FieldType.long)) ∈ lw_all := lw_g (lw_at lw_m7 186 rfl) rfl
theorem q1713 : (Jvm.Cond.instanceMethod ({ cls := "ReadingStagesModel", name := "copy", desc := "(IIIII)I" } : Jvm.MethodName)) ∈ lw_all := lw_g (lw_at lw_m7 188 rfl) rfl
theorem q1714 : (Jvm.Cond.selects "ReadingStagesModel" ({ cls := "ReadingStagesModel", name := "copy", desc := "(IIIII)I" } : Jvm.MethodName) ({ cls := "ReadingStagesModel", name := "copy", desc := "(IIIII)I" } : Jvm.MethodName)) ∈ lw_all := lw_g (lw_at lw_m7 189 rfl) rfl
theorem q1715 : (Jvm.Cond.code ({ cls := "ReadingStagesModel", name := "copy", desc := "(IIIII)I" } : Jvm.MethodName) prog_11_method_83_code (7 : Nat) (Option.some Jvm.ClassFile.FieldType.int)) ∈ lw_all := lw_g (lw_at lw_m7 190 rfl) rfl
theorem in_X6 : ∀ w ∈ wsX60, w ∈ lw_all := lw_in wsX60 [1322, 1324, 1326, 1328, 1330, 1332, 1334, 1336, 1338, 1340, 1342, 1344, 1346, 1348, 1350, 1352, 1354, 1356, 1358, 1360, 1362, 1364, 1366, 1368, 1370, 1372, 1374] (by decide +kernel) (by decide +kernel)
