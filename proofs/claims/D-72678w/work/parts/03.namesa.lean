/-! ReadingStages$House -/
set_option maxRecDepth 100000
def RX1 : String := "ReadingStages$House"
def TX1 : u_T := fun k => match k with
  | 0 => ("ReadingStages$House", "sets", "[I", true)
  | 1 => ("ReadingStages$House", "ahead", "[B", true)
  | 2 => ("ReadingStages$House", "order", "LReadingStages$Board;", true)
  | 3 => ("ReadingStages$House", "prior", "I", false)
  | 4 => ("ReadingStages$House", "span", "I", false)
  | 5 => ("ReadingStages$House", "bound", "I", false)
  | 6 => ("ReadingStages$House", "rule", "I", false)
  | _ => ("ReadingStages$House", "draw", "I", false)
def tyX1 : Nat → FieldType := fun k => match k with
  | 0 => .array .int
  | 1 => .array .byte
  | 2 => .object "ReadingStages$Board"
  | 3 => .int
  | 4 => .int
  | 5 => .int
  | 6 => .int
  | _ => .int
abbrev wsX10 : List Cond := u_ws RX1 TX1 8
theorem nmX1 : ∀ a, a < 8 → ∀ b, b < 8 → a ≠ b → (TX1 a).2.1 ≠ (TX1 b).2.1 := by decide +kernel
theorem tyX1_ok : ∀ k, k < 8 → parseFieldDescriptor (TX1 k).2.2.1 = some (tyX1 k) := by decide +kernel
abbrev cX1_init : ByteArray := prog_5_method_1_code
def yX1_init : MethodName := ⟨RX1, "<init>", "()V"⟩
def dkwX1_init_1 : List UInt8 := [89, 183, 0, 21, 181, 0, 22, 42, 5, 181, 0, 26, 42, 8, 181, 0, 30, 42, 4, 181, 0, 33, 177]
abbrev dktX1_init_1 : List UInt8 := dkwX1_init_1 ++ []
def dkwX1_init_0 : List UInt8 := [42, 183, 0, 3, 42, 16, 7, 188, 10, 181, 0, 9, 42, 16, 7, 188, 8, 181, 0, 15, 42, 187, 0, 19]
abbrev dktX1_init_0 : List UInt8 := dkwX1_init_0 ++ dktX1_init_1
theorem dksX1_init_0 : cX1_init.data.toList.drop 0 = dktX1_init_0 := by decide +kernel
theorem dksX1_init_1 : cX1_init.data.toList.drop 24 = dktX1_init_1 := dk_seg dksX1_init_0 24 rfl rfl
theorem dX1_init_0 : decode cX1_init 0 = .ok (.aload_n 0, 1) := dk_42 (dk_at dksX1_init_0 0 rfl rfl)
theorem dX1_init_1 : decode cX1_init 1 = .ok (.invokespecial 3, 3) := dk_183 0 3 (dk_at dksX1_init_0 1 rfl rfl)
theorem dX1_init_4 : decode cX1_init 4 = .ok (.aload_n 0, 1) := dk_42 (dk_at dksX1_init_0 4 rfl rfl)
theorem dX1_init_5 : decode cX1_init 5 = .ok (.bipush 7, 2) := dk_16 7 (dk_at dksX1_init_0 5 rfl rfl)
theorem dX1_init_7 : decode cX1_init 7 = .ok (.newarray .int, 2) := dk_188_10 (dk_at dksX1_init_0 7 rfl rfl)
theorem dX1_init_9 : decode cX1_init 9 = .ok (.putfield 9, 3) := dk_181 0 9 (dk_at dksX1_init_0 9 rfl rfl)
theorem dX1_init_12 : decode cX1_init 12 = .ok (.aload_n 0, 1) := dk_42 (dk_at dksX1_init_0 12 rfl rfl)
theorem dX1_init_13 : decode cX1_init 13 = .ok (.bipush 7, 2) := dk_16 7 (dk_at dksX1_init_0 13 rfl rfl)
theorem dX1_init_15 : decode cX1_init 15 = .ok (.newarray .byte, 2) := dk_188_8 (dk_at dksX1_init_0 15 rfl rfl)
theorem dX1_init_17 : decode cX1_init 17 = .ok (.putfield 15, 3) := dk_181 0 15 (dk_at dksX1_init_0 17 rfl rfl)
theorem dX1_init_20 : decode cX1_init 20 = .ok (.aload_n 0, 1) := dk_42 (dk_at dksX1_init_0 20 rfl rfl)
theorem dX1_init_21 : decode cX1_init 21 = .ok (.new 19, 3) := dk_187 0 19 (dk_at dksX1_init_0 21 rfl rfl)
theorem dX1_init_24 : decode cX1_init 24 = .ok (.dup, 1) := dk_89 (dk_at dksX1_init_1 0 rfl rfl)
theorem dX1_init_25 : decode cX1_init 25 = .ok (.invokespecial 21, 3) := dk_183 0 21 (dk_at dksX1_init_1 1 rfl rfl)
theorem dX1_init_28 : decode cX1_init 28 = .ok (.putfield 22, 3) := dk_181 0 22 (dk_at dksX1_init_1 4 rfl rfl)
theorem dX1_init_31 : decode cX1_init 31 = .ok (.aload_n 0, 1) := dk_42 (dk_at dksX1_init_1 7 rfl rfl)
theorem dX1_init_32 : decode cX1_init 32 = .ok (.iconst 2, 1) := dk_5 (dk_at dksX1_init_1 8 rfl rfl)
theorem dX1_init_33 : decode cX1_init 33 = .ok (.putfield 26, 3) := dk_181 0 26 (dk_at dksX1_init_1 9 rfl rfl)
theorem dX1_init_36 : decode cX1_init 36 = .ok (.aload_n 0, 1) := dk_42 (dk_at dksX1_init_1 12 rfl rfl)
theorem dX1_init_37 : decode cX1_init 37 = .ok (.iconst 5, 1) := dk_8 (dk_at dksX1_init_1 13 rfl rfl)
theorem dX1_init_38 : decode cX1_init 38 = .ok (.putfield 30, 3) := dk_181 0 30 (dk_at dksX1_init_1 14 rfl rfl)
theorem dX1_init_41 : decode cX1_init 41 = .ok (.aload_n 0, 1) := dk_42 (dk_at dksX1_init_1 17 rfl rfl)
theorem dX1_init_42 : decode cX1_init 42 = .ok (.iconst 1, 1) := dk_4 (dk_at dksX1_init_1 18 rfl rfl)
theorem dX1_init_43 : decode cX1_init 43 = .ok (.putfield 33, 3) := dk_181 0 33 (dk_at dksX1_init_1 19 rfl rfl)
theorem dX1_init_46 : decode cX1_init 46 = .ok (.return_, 1) := dk_177 (dk_at dksX1_init_1 22 rfl rfl)
abbrev cX1_many : ByteArray := prog_5_method_3_code
def yX1_many : MethodName := ⟨RX1, "many", "()I"⟩
def dkwX1_many_0 : List UInt8 := [42, 180, 0, 22, 180, 0, 52, 172]
abbrev dktX1_many_0 : List UInt8 := dkwX1_many_0 ++ []
theorem dksX1_many_0 : cX1_many.data.toList.drop 0 = dktX1_many_0 := by decide +kernel
theorem dX1_many_0 : decode cX1_many 0 = .ok (.aload_n 0, 1) := dk_42 (dk_at dksX1_many_0 0 rfl rfl)
theorem dX1_many_1 : decode cX1_many 1 = .ok (.getfield 22, 3) := dk_180 0 22 (dk_at dksX1_many_0 1 rfl rfl)
theorem dX1_many_4 : decode cX1_many 4 = .ok (.getfield 52, 3) := dk_180 0 52 (dk_at dksX1_many_0 4 rfl rfl)
theorem dX1_many_7 : decode cX1_many 7 = .ok (.ireturn, 1) := dk_172 (dk_at dksX1_many_0 7 rfl rfl)
abbrev cX1_aheadOf : ByteArray := prog_5_method_7_code
def yX1_aheadOf : MethodName := ⟨RX1, "aheadOf", "(I)I"⟩
def dkwX1_aheadOf_1 : List UInt8 := [153, 0, 9, 4, 29, 120, 167, 0, 4, 3, 128, 61, 132, 3, 1, 167, 255, 222, 28, 172]
abbrev dktX1_aheadOf_1 : List UInt8 := dkwX1_aheadOf_1 ++ []
def dkwX1_aheadOf_0 : List UInt8 := [3, 61, 3, 62, 29, 42, 182, 0, 55, 162, 0, 32, 28, 42, 180, 0, 15, 29, 51, 27, 184, 0, 66]
abbrev dktX1_aheadOf_0 : List UInt8 := dkwX1_aheadOf_0 ++ dktX1_aheadOf_1
theorem dksX1_aheadOf_0 : cX1_aheadOf.data.toList.drop 0 = dktX1_aheadOf_0 := by decide +kernel
theorem dksX1_aheadOf_1 : cX1_aheadOf.data.toList.drop 23 = dktX1_aheadOf_1 := dk_seg dksX1_aheadOf_0 23 rfl rfl
theorem dX1_aheadOf_0 : decode cX1_aheadOf 0 = .ok (.iconst 0, 1) := dk_3 (dk_at dksX1_aheadOf_0 0 rfl rfl)
theorem dX1_aheadOf_1 : decode cX1_aheadOf 1 = .ok (.istore_n 2, 1) := dk_61 (dk_at dksX1_aheadOf_0 1 rfl rfl)
theorem dX1_aheadOf_2 : decode cX1_aheadOf 2 = .ok (.iconst 0, 1) := dk_3 (dk_at dksX1_aheadOf_0 2 rfl rfl)
theorem dX1_aheadOf_3 : decode cX1_aheadOf 3 = .ok (.istore_n 3, 1) := dk_62 (dk_at dksX1_aheadOf_0 3 rfl rfl)
theorem dX1_aheadOf_4 : decode cX1_aheadOf 4 = .ok (.iload_n 3, 1) := dk_29 (dk_at dksX1_aheadOf_0 4 rfl rfl)
theorem dX1_aheadOf_5 : decode cX1_aheadOf 5 = .ok (.aload_n 0, 1) := dk_42 (dk_at dksX1_aheadOf_0 5 rfl rfl)
theorem dX1_aheadOf_6 : decode cX1_aheadOf 6 = .ok (.invokevirtual 55, 3) := dk_182 0 55 (dk_at dksX1_aheadOf_0 6 rfl rfl)
theorem dX1_aheadOf_9 : decode cX1_aheadOf 9 = .ok (.if_icmp .ge 32, 3) := dk_162 0 32 (dk_at dksX1_aheadOf_0 9 rfl rfl)
theorem dX1_aheadOf_12 : decode cX1_aheadOf 12 = .ok (.iload_n 2, 1) := dk_28 (dk_at dksX1_aheadOf_0 12 rfl rfl)
theorem dX1_aheadOf_13 : decode cX1_aheadOf 13 = .ok (.aload_n 0, 1) := dk_42 (dk_at dksX1_aheadOf_0 13 rfl rfl)
theorem dX1_aheadOf_14 : decode cX1_aheadOf 14 = .ok (.getfield 15, 3) := dk_180 0 15 (dk_at dksX1_aheadOf_0 14 rfl rfl)
theorem dX1_aheadOf_17 : decode cX1_aheadOf 17 = .ok (.iload_n 3, 1) := dk_29 (dk_at dksX1_aheadOf_0 17 rfl rfl)
theorem dX1_aheadOf_18 : decode cX1_aheadOf 18 = .ok (.baload, 1) := dk_51 (dk_at dksX1_aheadOf_0 18 rfl rfl)
theorem dX1_aheadOf_19 : decode cX1_aheadOf 19 = .ok (.iload_n 1, 1) := dk_27 (dk_at dksX1_aheadOf_0 19 rfl rfl)
theorem dX1_aheadOf_20 : decode cX1_aheadOf 20 = .ok (.invokestatic 66, 3) := dk_184 0 66 (dk_at dksX1_aheadOf_0 20 rfl rfl)
theorem dX1_aheadOf_23 : decode cX1_aheadOf 23 = .ok (.ifCond .eq 9, 3) := dk_153 0 9 (dk_at dksX1_aheadOf_1 0 rfl rfl)
theorem dX1_aheadOf_26 : decode cX1_aheadOf 26 = .ok (.iconst 1, 1) := dk_4 (dk_at dksX1_aheadOf_1 3 rfl rfl)
theorem dX1_aheadOf_27 : decode cX1_aheadOf 27 = .ok (.iload_n 3, 1) := dk_29 (dk_at dksX1_aheadOf_1 4 rfl rfl)
theorem dX1_aheadOf_28 : decode cX1_aheadOf 28 = .ok (.ishl, 1) := dk_120 (dk_at dksX1_aheadOf_1 5 rfl rfl)
theorem dX1_aheadOf_29 : decode cX1_aheadOf 29 = .ok (.goto 4, 3) := dk_167 0 4 (dk_at dksX1_aheadOf_1 6 rfl rfl)
theorem dX1_aheadOf_32 : decode cX1_aheadOf 32 = .ok (.iconst 0, 1) := dk_3 (dk_at dksX1_aheadOf_1 9 rfl rfl)
theorem dX1_aheadOf_33 : decode cX1_aheadOf 33 = .ok (.ior, 1) := dk_128 (dk_at dksX1_aheadOf_1 10 rfl rfl)
theorem dX1_aheadOf_34 : decode cX1_aheadOf 34 = .ok (.istore_n 2, 1) := dk_61 (dk_at dksX1_aheadOf_1 11 rfl rfl)
theorem dX1_aheadOf_35 : decode cX1_aheadOf 35 = .ok (.iinc 3 1, 3) := dk_132 3 1 (dk_at dksX1_aheadOf_1 12 rfl rfl)
theorem dX1_aheadOf_38 : decode cX1_aheadOf 38 = .ok (.goto (-34), 3) := dk_167 255 222 (dk_at dksX1_aheadOf_1 15 rfl rfl)
theorem dX1_aheadOf_41 : decode cX1_aheadOf 41 = .ok (.iload_n 2, 1) := dk_28 (dk_at dksX1_aheadOf_1 18 rfl rfl)
theorem dX1_aheadOf_42 : decode cX1_aheadOf 42 = .ok (.ireturn, 1) := dk_172 (dk_at dksX1_aheadOf_1 19 rfl rfl)
abbrev cX1_takeFrom : ByteArray := prog_5_method_2_code
def yX1_takeFrom : MethodName := ⟨RX1, "takeFrom", "(LReadingStages$House;)V"⟩
def dkwX1_takeFrom_3 : List UInt8 := [181, 0, 49, 42, 43, 180, 0, 33, 181, 0, 33, 177]
abbrev dktX1_takeFrom_3 : List UInt8 := dkwX1_takeFrom_3 ++ []
def dkwX1_takeFrom_2 : List UInt8 := [181, 0, 46, 42, 43, 180, 0, 26, 181, 0, 26, 42, 43, 180, 0, 30, 181, 0, 30, 42, 43, 180, 0, 49]
abbrev dktX1_takeFrom_2 : List UInt8 := dkwX1_takeFrom_2 ++ dktX1_takeFrom_3
def dkwX1_takeFrom_1 : List UInt8 := [3, 16, 7, 184, 0, 36, 42, 180, 0, 22, 43, 180, 0, 22, 182, 0, 42, 42, 43, 180, 0, 46]
abbrev dktX1_takeFrom_1 : List UInt8 := dkwX1_takeFrom_1 ++ dktX1_takeFrom_2
def dkwX1_takeFrom_0 : List UInt8 := [43, 180, 0, 9, 3, 42, 180, 0, 9, 3, 16, 7, 184, 0, 36, 43, 180, 0, 15, 3, 42, 180, 0, 15]
abbrev dktX1_takeFrom_0 : List UInt8 := dkwX1_takeFrom_0 ++ dktX1_takeFrom_1
theorem dksX1_takeFrom_0 : cX1_takeFrom.data.toList.drop 0 = dktX1_takeFrom_0 := by decide +kernel
theorem dksX1_takeFrom_1 : cX1_takeFrom.data.toList.drop 24 = dktX1_takeFrom_1 := dk_seg dksX1_takeFrom_0 24 rfl rfl
theorem dksX1_takeFrom_2 : cX1_takeFrom.data.toList.drop 46 = dktX1_takeFrom_2 := dk_seg dksX1_takeFrom_1 22 rfl rfl
theorem dksX1_takeFrom_3 : cX1_takeFrom.data.toList.drop 70 = dktX1_takeFrom_3 := dk_seg dksX1_takeFrom_2 24 rfl rfl
theorem dX1_takeFrom_0 : decode cX1_takeFrom 0 = .ok (.aload_n 1, 1) := dk_43 (dk_at dksX1_takeFrom_0 0 rfl rfl)
theorem dX1_takeFrom_1 : decode cX1_takeFrom 1 = .ok (.getfield 9, 3) := dk_180 0 9 (dk_at dksX1_takeFrom_0 1 rfl rfl)
theorem dX1_takeFrom_4 : decode cX1_takeFrom 4 = .ok (.iconst 0, 1) := dk_3 (dk_at dksX1_takeFrom_0 4 rfl rfl)
theorem dX1_takeFrom_5 : decode cX1_takeFrom 5 = .ok (.aload_n 0, 1) := dk_42 (dk_at dksX1_takeFrom_0 5 rfl rfl)
theorem dX1_takeFrom_6 : decode cX1_takeFrom 6 = .ok (.getfield 9, 3) := dk_180 0 9 (dk_at dksX1_takeFrom_0 6 rfl rfl)
theorem dX1_takeFrom_9 : decode cX1_takeFrom 9 = .ok (.iconst 0, 1) := dk_3 (dk_at dksX1_takeFrom_0 9 rfl rfl)
theorem dX1_takeFrom_10 : decode cX1_takeFrom 10 = .ok (.bipush 7, 2) := dk_16 7 (dk_at dksX1_takeFrom_0 10 rfl rfl)
theorem dX1_takeFrom_12 : decode cX1_takeFrom 12 = .ok (.invokestatic 36, 3) := dk_184 0 36 (dk_at dksX1_takeFrom_0 12 rfl rfl)
theorem dX1_takeFrom_15 : decode cX1_takeFrom 15 = .ok (.aload_n 1, 1) := dk_43 (dk_at dksX1_takeFrom_0 15 rfl rfl)
theorem dX1_takeFrom_16 : decode cX1_takeFrom 16 = .ok (.getfield 15, 3) := dk_180 0 15 (dk_at dksX1_takeFrom_0 16 rfl rfl)
theorem dX1_takeFrom_19 : decode cX1_takeFrom 19 = .ok (.iconst 0, 1) := dk_3 (dk_at dksX1_takeFrom_0 19 rfl rfl)
theorem dX1_takeFrom_20 : decode cX1_takeFrom 20 = .ok (.aload_n 0, 1) := dk_42 (dk_at dksX1_takeFrom_0 20 rfl rfl)
theorem dX1_takeFrom_21 : decode cX1_takeFrom 21 = .ok (.getfield 15, 3) := dk_180 0 15 (dk_at dksX1_takeFrom_0 21 rfl rfl)
theorem dX1_takeFrom_24 : decode cX1_takeFrom 24 = .ok (.iconst 0, 1) := dk_3 (dk_at dksX1_takeFrom_1 0 rfl rfl)
theorem dX1_takeFrom_25 : decode cX1_takeFrom 25 = .ok (.bipush 7, 2) := dk_16 7 (dk_at dksX1_takeFrom_1 1 rfl rfl)
theorem dX1_takeFrom_27 : decode cX1_takeFrom 27 = .ok (.invokestatic 36, 3) := dk_184 0 36 (dk_at dksX1_takeFrom_1 3 rfl rfl)
theorem dX1_takeFrom_30 : decode cX1_takeFrom 30 = .ok (.aload_n 0, 1) := dk_42 (dk_at dksX1_takeFrom_1 6 rfl rfl)
theorem dX1_takeFrom_31 : decode cX1_takeFrom 31 = .ok (.getfield 22, 3) := dk_180 0 22 (dk_at dksX1_takeFrom_1 7 rfl rfl)
theorem dX1_takeFrom_34 : decode cX1_takeFrom 34 = .ok (.aload_n 1, 1) := dk_43 (dk_at dksX1_takeFrom_1 10 rfl rfl)
theorem dX1_takeFrom_35 : decode cX1_takeFrom 35 = .ok (.getfield 22, 3) := dk_180 0 22 (dk_at dksX1_takeFrom_1 11 rfl rfl)
theorem dX1_takeFrom_38 : decode cX1_takeFrom 38 = .ok (.invokevirtual 42, 3) := dk_182 0 42 (dk_at dksX1_takeFrom_1 14 rfl rfl)
theorem dX1_takeFrom_41 : decode cX1_takeFrom 41 = .ok (.aload_n 0, 1) := dk_42 (dk_at dksX1_takeFrom_1 17 rfl rfl)
theorem dX1_takeFrom_42 : decode cX1_takeFrom 42 = .ok (.aload_n 1, 1) := dk_43 (dk_at dksX1_takeFrom_1 18 rfl rfl)
theorem dX1_takeFrom_43 : decode cX1_takeFrom 43 = .ok (.getfield 46, 3) := dk_180 0 46 (dk_at dksX1_takeFrom_1 19 rfl rfl)
theorem dX1_takeFrom_46 : decode cX1_takeFrom 46 = .ok (.putfield 46, 3) := dk_181 0 46 (dk_at dksX1_takeFrom_2 0 rfl rfl)
theorem dX1_takeFrom_49 : decode cX1_takeFrom 49 = .ok (.aload_n 0, 1) := dk_42 (dk_at dksX1_takeFrom_2 3 rfl rfl)
theorem dX1_takeFrom_50 : decode cX1_takeFrom 50 = .ok (.aload_n 1, 1) := dk_43 (dk_at dksX1_takeFrom_2 4 rfl rfl)
theorem dX1_takeFrom_51 : decode cX1_takeFrom 51 = .ok (.getfield 26, 3) := dk_180 0 26 (dk_at dksX1_takeFrom_2 5 rfl rfl)
theorem dX1_takeFrom_54 : decode cX1_takeFrom 54 = .ok (.putfield 26, 3) := dk_181 0 26 (dk_at dksX1_takeFrom_2 8 rfl rfl)
theorem dX1_takeFrom_57 : decode cX1_takeFrom 57 = .ok (.aload_n 0, 1) := dk_42 (dk_at dksX1_takeFrom_2 11 rfl rfl)
theorem dX1_takeFrom_58 : decode cX1_takeFrom 58 = .ok (.aload_n 1, 1) := dk_43 (dk_at dksX1_takeFrom_2 12 rfl rfl)
theorem dX1_takeFrom_59 : decode cX1_takeFrom 59 = .ok (.getfield 30, 3) := dk_180 0 30 (dk_at dksX1_takeFrom_2 13 rfl rfl)
theorem dX1_takeFrom_62 : decode cX1_takeFrom 62 = .ok (.putfield 30, 3) := dk_181 0 30 (dk_at dksX1_takeFrom_2 16 rfl rfl)
theorem dX1_takeFrom_65 : decode cX1_takeFrom 65 = .ok (.aload_n 0, 1) := dk_42 (dk_at dksX1_takeFrom_2 19 rfl rfl)
theorem dX1_takeFrom_66 : decode cX1_takeFrom 66 = .ok (.aload_n 1, 1) := dk_43 (dk_at dksX1_takeFrom_2 20 rfl rfl)
theorem dX1_takeFrom_67 : decode cX1_takeFrom 67 = .ok (.getfield 49, 3) := dk_180 0 49 (dk_at dksX1_takeFrom_2 21 rfl rfl)
theorem dX1_takeFrom_70 : decode cX1_takeFrom 70 = .ok (.putfield 49, 3) := dk_181 0 49 (dk_at dksX1_takeFrom_3 0 rfl rfl)
theorem dX1_takeFrom_73 : decode cX1_takeFrom 73 = .ok (.aload_n 0, 1) := dk_42 (dk_at dksX1_takeFrom_3 3 rfl rfl)
theorem dX1_takeFrom_74 : decode cX1_takeFrom 74 = .ok (.aload_n 1, 1) := dk_43 (dk_at dksX1_takeFrom_3 4 rfl rfl)
theorem dX1_takeFrom_75 : decode cX1_takeFrom 75 = .ok (.getfield 33, 3) := dk_180 0 33 (dk_at dksX1_takeFrom_3 5 rfl rfl)
theorem dX1_takeFrom_78 : decode cX1_takeFrom 78 = .ok (.putfield 33, 3) := dk_181 0 33 (dk_at dksX1_takeFrom_3 8 rfl rfl)
theorem dX1_takeFrom_81 : decode cX1_takeFrom 81 = .ok (.return_, 1) := dk_177 (dk_at dksX1_takeFrom_3 11 rfl rfl)
abbrev cX1_add : ByteArray := prog_5_method_4_code
def yX1_add : MethodName := ⟨RX1, "add", "(I)V"⟩
def dkwX1_add_1 : List UInt8 := [42, 182, 0, 55, 42, 182, 0, 55, 182, 0, 58, 177]
abbrev dktX1_add_1 : List UInt8 := dkwX1_add_1 ++ []
def dkwX1_add_0 : List UInt8 := [42, 180, 0, 9, 42, 182, 0, 55, 27, 79, 42, 180, 0, 15, 42, 182, 0, 55, 3, 84, 42, 180, 0, 22]
abbrev dktX1_add_0 : List UInt8 := dkwX1_add_0 ++ dktX1_add_1
theorem dksX1_add_0 : cX1_add.data.toList.drop 0 = dktX1_add_0 := by decide +kernel
theorem dksX1_add_1 : cX1_add.data.toList.drop 24 = dktX1_add_1 := dk_seg dksX1_add_0 24 rfl rfl
theorem dX1_add_0 : decode cX1_add 0 = .ok (.aload_n 0, 1) := dk_42 (dk_at dksX1_add_0 0 rfl rfl)
theorem dX1_add_1 : decode cX1_add 1 = .ok (.getfield 9, 3) := dk_180 0 9 (dk_at dksX1_add_0 1 rfl rfl)
theorem dX1_add_4 : decode cX1_add 4 = .ok (.aload_n 0, 1) := dk_42 (dk_at dksX1_add_0 4 rfl rfl)
theorem dX1_add_5 : decode cX1_add 5 = .ok (.invokevirtual 55, 3) := dk_182 0 55 (dk_at dksX1_add_0 5 rfl rfl)
theorem dX1_add_8 : decode cX1_add 8 = .ok (.iload_n 1, 1) := dk_27 (dk_at dksX1_add_0 8 rfl rfl)
theorem dX1_add_9 : decode cX1_add 9 = .ok (.iastore, 1) := dk_79 (dk_at dksX1_add_0 9 rfl rfl)
theorem dX1_add_10 : decode cX1_add 10 = .ok (.aload_n 0, 1) := dk_42 (dk_at dksX1_add_0 10 rfl rfl)
theorem dX1_add_11 : decode cX1_add 11 = .ok (.getfield 15, 3) := dk_180 0 15 (dk_at dksX1_add_0 11 rfl rfl)
theorem dX1_add_14 : decode cX1_add 14 = .ok (.aload_n 0, 1) := dk_42 (dk_at dksX1_add_0 14 rfl rfl)
theorem dX1_add_15 : decode cX1_add 15 = .ok (.invokevirtual 55, 3) := dk_182 0 55 (dk_at dksX1_add_0 15 rfl rfl)
theorem dX1_add_18 : decode cX1_add 18 = .ok (.iconst 0, 1) := dk_3 (dk_at dksX1_add_0 18 rfl rfl)
theorem dX1_add_19 : decode cX1_add 19 = .ok (.bastore, 1) := dk_84 (dk_at dksX1_add_0 19 rfl rfl)
theorem dX1_add_20 : decode cX1_add 20 = .ok (.aload_n 0, 1) := dk_42 (dk_at dksX1_add_0 20 rfl rfl)
theorem dX1_add_21 : decode cX1_add 21 = .ok (.getfield 22, 3) := dk_180 0 22 (dk_at dksX1_add_0 21 rfl rfl)
theorem dX1_add_24 : decode cX1_add 24 = .ok (.aload_n 0, 1) := dk_42 (dk_at dksX1_add_1 0 rfl rfl)
theorem dX1_add_25 : decode cX1_add 25 = .ok (.invokevirtual 55, 3) := dk_182 0 55 (dk_at dksX1_add_1 1 rfl rfl)
theorem dX1_add_28 : decode cX1_add 28 = .ok (.aload_n 0, 1) := dk_42 (dk_at dksX1_add_1 4 rfl rfl)
theorem dX1_add_29 : decode cX1_add 29 = .ok (.invokevirtual 55, 3) := dk_182 0 55 (dk_at dksX1_add_1 5 rfl rfl)
theorem dX1_add_32 : decode cX1_add 32 = .ok (.invokevirtual 58, 3) := dk_182 0 58 (dk_at dksX1_add_1 8 rfl rfl)
theorem dX1_add_35 : decode cX1_add 35 = .ok (.return_, 1) := dk_177 (dk_at dksX1_add_1 11 rfl rfl)
abbrev cX1_lose : ByteArray := prog_5_method_5_code
def yX1_lose : MethodName := ⟨RX1, "lose", "(I)V"⟩
def dkwX1_lose_4 : List UInt8 := [132, 2, 1, 167, 255, 212, 177]
abbrev dktX1_lose_4 : List UInt8 := dkwX1_lose_4 ++ []
def dkwX1_lose_3 : List UInt8 := [4, 27, 120, 4, 100, 126, 42, 180, 0, 15, 28, 51, 4, 122, 4, 27, 120, 116, 126, 128, 145, 84]
abbrev dktX1_lose_3 : List UInt8 := dkwX1_lose_3 ++ dktX1_lose_4
def dkwX1_lose_2 : List UInt8 := [184, 0, 36, 3, 61, 28, 42, 182, 0, 55, 162, 0, 42, 42, 180, 0, 15, 28, 42, 180, 0, 15, 28, 51]
abbrev dktX1_lose_2 : List UInt8 := dkwX1_lose_2 ++ dktX1_lose_3
def dkwX1_lose_1 : List UInt8 := [27, 100, 184, 0, 36, 42, 180, 0, 15, 27, 4, 96, 42, 180, 0, 15, 27, 42, 182, 0, 55, 27, 100]
abbrev dktX1_lose_1 : List UInt8 := dkwX1_lose_1 ++ dktX1_lose_2
def dkwX1_lose_0 : List UInt8 := [42, 180, 0, 22, 27, 182, 0, 62, 42, 180, 0, 9, 27, 4, 96, 42, 180, 0, 9, 27, 42, 182, 0, 55]
abbrev dktX1_lose_0 : List UInt8 := dkwX1_lose_0 ++ dktX1_lose_1
theorem dksX1_lose_0 : cX1_lose.data.toList.drop 0 = dktX1_lose_0 := by decide +kernel
theorem dksX1_lose_1 : cX1_lose.data.toList.drop 24 = dktX1_lose_1 := dk_seg dksX1_lose_0 24 rfl rfl
theorem dksX1_lose_2 : cX1_lose.data.toList.drop 47 = dktX1_lose_2 := dk_seg dksX1_lose_1 23 rfl rfl
theorem dksX1_lose_3 : cX1_lose.data.toList.drop 71 = dktX1_lose_3 := dk_seg dksX1_lose_2 24 rfl rfl
theorem dksX1_lose_4 : cX1_lose.data.toList.drop 93 = dktX1_lose_4 := dk_seg dksX1_lose_3 22 rfl rfl
theorem dX1_lose_0 : decode cX1_lose 0 = .ok (.aload_n 0, 1) := dk_42 (dk_at dksX1_lose_0 0 rfl rfl)
theorem dX1_lose_1 : decode cX1_lose 1 = .ok (.getfield 22, 3) := dk_180 0 22 (dk_at dksX1_lose_0 1 rfl rfl)
theorem dX1_lose_4 : decode cX1_lose 4 = .ok (.iload_n 1, 1) := dk_27 (dk_at dksX1_lose_0 4 rfl rfl)
theorem dX1_lose_5 : decode cX1_lose 5 = .ok (.invokevirtual 62, 3) := dk_182 0 62 (dk_at dksX1_lose_0 5 rfl rfl)
theorem dX1_lose_8 : decode cX1_lose 8 = .ok (.aload_n 0, 1) := dk_42 (dk_at dksX1_lose_0 8 rfl rfl)
theorem dX1_lose_9 : decode cX1_lose 9 = .ok (.getfield 9, 3) := dk_180 0 9 (dk_at dksX1_lose_0 9 rfl rfl)
theorem dX1_lose_12 : decode cX1_lose 12 = .ok (.iload_n 1, 1) := dk_27 (dk_at dksX1_lose_0 12 rfl rfl)
theorem dX1_lose_13 : decode cX1_lose 13 = .ok (.iconst 1, 1) := dk_4 (dk_at dksX1_lose_0 13 rfl rfl)
theorem dX1_lose_14 : decode cX1_lose 14 = .ok (.iadd, 1) := dk_96 (dk_at dksX1_lose_0 14 rfl rfl)
theorem dX1_lose_15 : decode cX1_lose 15 = .ok (.aload_n 0, 1) := dk_42 (dk_at dksX1_lose_0 15 rfl rfl)
theorem dX1_lose_16 : decode cX1_lose 16 = .ok (.getfield 9, 3) := dk_180 0 9 (dk_at dksX1_lose_0 16 rfl rfl)
theorem dX1_lose_19 : decode cX1_lose 19 = .ok (.iload_n 1, 1) := dk_27 (dk_at dksX1_lose_0 19 rfl rfl)
theorem dX1_lose_20 : decode cX1_lose 20 = .ok (.aload_n 0, 1) := dk_42 (dk_at dksX1_lose_0 20 rfl rfl)
theorem dX1_lose_21 : decode cX1_lose 21 = .ok (.invokevirtual 55, 3) := dk_182 0 55 (dk_at dksX1_lose_0 21 rfl rfl)
theorem dX1_lose_24 : decode cX1_lose 24 = .ok (.iload_n 1, 1) := dk_27 (dk_at dksX1_lose_1 0 rfl rfl)
theorem dX1_lose_25 : decode cX1_lose 25 = .ok (.isub, 1) := dk_100 (dk_at dksX1_lose_1 1 rfl rfl)
theorem dX1_lose_26 : decode cX1_lose 26 = .ok (.invokestatic 36, 3) := dk_184 0 36 (dk_at dksX1_lose_1 2 rfl rfl)
theorem dX1_lose_29 : decode cX1_lose 29 = .ok (.aload_n 0, 1) := dk_42 (dk_at dksX1_lose_1 5 rfl rfl)
theorem dX1_lose_30 : decode cX1_lose 30 = .ok (.getfield 15, 3) := dk_180 0 15 (dk_at dksX1_lose_1 6 rfl rfl)
theorem dX1_lose_33 : decode cX1_lose 33 = .ok (.iload_n 1, 1) := dk_27 (dk_at dksX1_lose_1 9 rfl rfl)
theorem dX1_lose_34 : decode cX1_lose 34 = .ok (.iconst 1, 1) := dk_4 (dk_at dksX1_lose_1 10 rfl rfl)
theorem dX1_lose_35 : decode cX1_lose 35 = .ok (.iadd, 1) := dk_96 (dk_at dksX1_lose_1 11 rfl rfl)
theorem dX1_lose_36 : decode cX1_lose 36 = .ok (.aload_n 0, 1) := dk_42 (dk_at dksX1_lose_1 12 rfl rfl)
theorem dX1_lose_37 : decode cX1_lose 37 = .ok (.getfield 15, 3) := dk_180 0 15 (dk_at dksX1_lose_1 13 rfl rfl)
theorem dX1_lose_40 : decode cX1_lose 40 = .ok (.iload_n 1, 1) := dk_27 (dk_at dksX1_lose_1 16 rfl rfl)
theorem dX1_lose_41 : decode cX1_lose 41 = .ok (.aload_n 0, 1) := dk_42 (dk_at dksX1_lose_1 17 rfl rfl)
theorem dX1_lose_42 : decode cX1_lose 42 = .ok (.invokevirtual 55, 3) := dk_182 0 55 (dk_at dksX1_lose_1 18 rfl rfl)
theorem dX1_lose_45 : decode cX1_lose 45 = .ok (.iload_n 1, 1) := dk_27 (dk_at dksX1_lose_1 21 rfl rfl)
theorem dX1_lose_46 : decode cX1_lose 46 = .ok (.isub, 1) := dk_100 (dk_at dksX1_lose_1 22 rfl rfl)
theorem dX1_lose_47 : decode cX1_lose 47 = .ok (.invokestatic 36, 3) := dk_184 0 36 (dk_at dksX1_lose_2 0 rfl rfl)
theorem dX1_lose_50 : decode cX1_lose 50 = .ok (.iconst 0, 1) := dk_3 (dk_at dksX1_lose_2 3 rfl rfl)
theorem dX1_lose_51 : decode cX1_lose 51 = .ok (.istore_n 2, 1) := dk_61 (dk_at dksX1_lose_2 4 rfl rfl)
theorem dX1_lose_52 : decode cX1_lose 52 = .ok (.iload_n 2, 1) := dk_28 (dk_at dksX1_lose_2 5 rfl rfl)
theorem dX1_lose_53 : decode cX1_lose 53 = .ok (.aload_n 0, 1) := dk_42 (dk_at dksX1_lose_2 6 rfl rfl)
theorem dX1_lose_54 : decode cX1_lose 54 = .ok (.invokevirtual 55, 3) := dk_182 0 55 (dk_at dksX1_lose_2 7 rfl rfl)
theorem dX1_lose_57 : decode cX1_lose 57 = .ok (.if_icmp .ge 42, 3) := dk_162 0 42 (dk_at dksX1_lose_2 10 rfl rfl)
theorem dX1_lose_60 : decode cX1_lose 60 = .ok (.aload_n 0, 1) := dk_42 (dk_at dksX1_lose_2 13 rfl rfl)
theorem dX1_lose_61 : decode cX1_lose 61 = .ok (.getfield 15, 3) := dk_180 0 15 (dk_at dksX1_lose_2 14 rfl rfl)
theorem dX1_lose_64 : decode cX1_lose 64 = .ok (.iload_n 2, 1) := dk_28 (dk_at dksX1_lose_2 17 rfl rfl)
theorem dX1_lose_65 : decode cX1_lose 65 = .ok (.aload_n 0, 1) := dk_42 (dk_at dksX1_lose_2 18 rfl rfl)
theorem dX1_lose_66 : decode cX1_lose 66 = .ok (.getfield 15, 3) := dk_180 0 15 (dk_at dksX1_lose_2 19 rfl rfl)
theorem dX1_lose_69 : decode cX1_lose 69 = .ok (.iload_n 2, 1) := dk_28 (dk_at dksX1_lose_2 22 rfl rfl)
theorem dX1_lose_70 : decode cX1_lose 70 = .ok (.baload, 1) := dk_51 (dk_at dksX1_lose_2 23 rfl rfl)
theorem dX1_lose_71 : decode cX1_lose 71 = .ok (.iconst 1, 1) := dk_4 (dk_at dksX1_lose_3 0 rfl rfl)
theorem dX1_lose_72 : decode cX1_lose 72 = .ok (.iload_n 1, 1) := dk_27 (dk_at dksX1_lose_3 1 rfl rfl)
theorem dX1_lose_73 : decode cX1_lose 73 = .ok (.ishl, 1) := dk_120 (dk_at dksX1_lose_3 2 rfl rfl)
theorem dX1_lose_74 : decode cX1_lose 74 = .ok (.iconst 1, 1) := dk_4 (dk_at dksX1_lose_3 3 rfl rfl)
theorem dX1_lose_75 : decode cX1_lose 75 = .ok (.isub, 1) := dk_100 (dk_at dksX1_lose_3 4 rfl rfl)
theorem dX1_lose_76 : decode cX1_lose 76 = .ok (.iand, 1) := dk_126 (dk_at dksX1_lose_3 5 rfl rfl)
theorem dX1_lose_77 : decode cX1_lose 77 = .ok (.aload_n 0, 1) := dk_42 (dk_at dksX1_lose_3 6 rfl rfl)
theorem dX1_lose_78 : decode cX1_lose 78 = .ok (.getfield 15, 3) := dk_180 0 15 (dk_at dksX1_lose_3 7 rfl rfl)
theorem dX1_lose_81 : decode cX1_lose 81 = .ok (.iload_n 2, 1) := dk_28 (dk_at dksX1_lose_3 10 rfl rfl)
theorem dX1_lose_82 : decode cX1_lose 82 = .ok (.baload, 1) := dk_51 (dk_at dksX1_lose_3 11 rfl rfl)
theorem dX1_lose_83 : decode cX1_lose 83 = .ok (.iconst 1, 1) := dk_4 (dk_at dksX1_lose_3 12 rfl rfl)
theorem dX1_lose_84 : decode cX1_lose 84 = .ok (.ishr, 1) := dk_122 (dk_at dksX1_lose_3 13 rfl rfl)
theorem dX1_lose_85 : decode cX1_lose 85 = .ok (.iconst 1, 1) := dk_4 (dk_at dksX1_lose_3 14 rfl rfl)
theorem dX1_lose_86 : decode cX1_lose 86 = .ok (.iload_n 1, 1) := dk_27 (dk_at dksX1_lose_3 15 rfl rfl)
theorem dX1_lose_87 : decode cX1_lose 87 = .ok (.ishl, 1) := dk_120 (dk_at dksX1_lose_3 16 rfl rfl)
theorem dX1_lose_88 : decode cX1_lose 88 = .ok (.ineg, 1) := dk_116 (dk_at dksX1_lose_3 17 rfl rfl)
theorem dX1_lose_89 : decode cX1_lose 89 = .ok (.iand, 1) := dk_126 (dk_at dksX1_lose_3 18 rfl rfl)
theorem dX1_lose_90 : decode cX1_lose 90 = .ok (.ior, 1) := dk_128 (dk_at dksX1_lose_3 19 rfl rfl)
theorem dX1_lose_91 : decode cX1_lose 91 = .ok (.i2b, 1) := dk_145 (dk_at dksX1_lose_3 20 rfl rfl)
theorem dX1_lose_92 : decode cX1_lose 92 = .ok (.bastore, 1) := dk_84 (dk_at dksX1_lose_3 21 rfl rfl)
theorem dX1_lose_93 : decode cX1_lose 93 = .ok (.iinc 2 1, 3) := dk_132 2 1 (dk_at dksX1_lose_4 0 rfl rfl)
theorem dX1_lose_96 : decode cX1_lose 96 = .ok (.goto (-44), 3) := dk_167 255 212 (dk_at dksX1_lose_4 3 rfl rfl)
theorem dX1_lose_99 : decode cX1_lose 99 = .ok (.return_, 1) := dk_177 (dk_at dksX1_lose_4 6 rfl rfl)
abbrev cX1_mayBeAhead : ByteArray := prog_5_method_8_code
def yX1_mayBeAhead : MethodName := ⟨RX1, "mayBeAhead", "(II)Z"⟩
def dkwX1_mayBeAhead_0 : List UInt8 := [27, 28, 159, 0, 19, 42, 28, 182, 0, 70, 27, 184, 0, 66, 154, 0, 7, 4, 167, 0, 4, 3, 172]
abbrev dktX1_mayBeAhead_0 : List UInt8 := dkwX1_mayBeAhead_0 ++ []
theorem dksX1_mayBeAhead_0 : cX1_mayBeAhead.data.toList.drop 0 = dktX1_mayBeAhead_0 := by decide +kernel
theorem dX1_mayBeAhead_0 : decode cX1_mayBeAhead 0 = .ok (.iload_n 1, 1) := dk_27 (dk_at dksX1_mayBeAhead_0 0 rfl rfl)
theorem dX1_mayBeAhead_1 : decode cX1_mayBeAhead 1 = .ok (.iload_n 2, 1) := dk_28 (dk_at dksX1_mayBeAhead_0 1 rfl rfl)
theorem dX1_mayBeAhead_2 : decode cX1_mayBeAhead 2 = .ok (.if_icmp .eq 19, 3) := dk_159 0 19 (dk_at dksX1_mayBeAhead_0 2 rfl rfl)
theorem dX1_mayBeAhead_5 : decode cX1_mayBeAhead 5 = .ok (.aload_n 0, 1) := dk_42 (dk_at dksX1_mayBeAhead_0 5 rfl rfl)
theorem dX1_mayBeAhead_6 : decode cX1_mayBeAhead 6 = .ok (.iload_n 2, 1) := dk_28 (dk_at dksX1_mayBeAhead_0 6 rfl rfl)
theorem dX1_mayBeAhead_7 : decode cX1_mayBeAhead 7 = .ok (.invokevirtual 70, 3) := dk_182 0 70 (dk_at dksX1_mayBeAhead_0 7 rfl rfl)
theorem dX1_mayBeAhead_10 : decode cX1_mayBeAhead 10 = .ok (.iload_n 1, 1) := dk_27 (dk_at dksX1_mayBeAhead_0 10 rfl rfl)
theorem dX1_mayBeAhead_11 : decode cX1_mayBeAhead 11 = .ok (.invokestatic 66, 3) := dk_184 0 66 (dk_at dksX1_mayBeAhead_0 11 rfl rfl)
theorem dX1_mayBeAhead_14 : decode cX1_mayBeAhead 14 = .ok (.ifCond .ne 7, 3) := dk_154 0 7 (dk_at dksX1_mayBeAhead_0 14 rfl rfl)
theorem dX1_mayBeAhead_17 : decode cX1_mayBeAhead 17 = .ok (.iconst 1, 1) := dk_4 (dk_at dksX1_mayBeAhead_0 17 rfl rfl)
theorem dX1_mayBeAhead_18 : decode cX1_mayBeAhead 18 = .ok (.goto 4, 3) := dk_167 0 4 (dk_at dksX1_mayBeAhead_0 18 rfl rfl)
theorem dX1_mayBeAhead_21 : decode cX1_mayBeAhead 21 = .ok (.iconst 0, 1) := dk_3 (dk_at dksX1_mayBeAhead_0 21 rfl rfl)
theorem dX1_mayBeAhead_22 : decode cX1_mayBeAhead 22 = .ok (.ireturn, 1) := dk_172 (dk_at dksX1_mayBeAhead_0 22 rfl rfl)
abbrev cX1_behind : ByteArray := prog_5_method_6_code
def yX1_behind : MethodName := ⟨RX1, "behind", "(I)I"⟩
def dkwX1_behind_2 : List UInt8 := [128, 61, 132, 4, 1, 167, 255, 221, 132, 3, 1, 167, 255, 206, 28, 172]
abbrev dktX1_behind_2 : List UInt8 := dkwX1_behind_2 ++ []
def dkwX1_behind_1 : List UInt8 := [162, 0, 32, 28, 28, 21, 4, 184, 0, 66, 153, 0, 13, 42, 180, 0, 15, 21, 4, 51, 167, 0, 4, 3]
abbrev dktX1_behind_1 : List UInt8 := dkwX1_behind_1 ++ dktX1_behind_2
def dkwX1_behind_0 : List UInt8 := [42, 180, 0, 15, 27, 51, 61, 3, 62, 29, 16, 7, 162, 0, 50, 3, 54, 4, 21, 4, 42, 182, 0, 55]
abbrev dktX1_behind_0 : List UInt8 := dkwX1_behind_0 ++ dktX1_behind_1
theorem dksX1_behind_0 : cX1_behind.data.toList.drop 0 = dktX1_behind_0 := by decide +kernel
theorem dksX1_behind_1 : cX1_behind.data.toList.drop 24 = dktX1_behind_1 := dk_seg dksX1_behind_0 24 rfl rfl
theorem dksX1_behind_2 : cX1_behind.data.toList.drop 48 = dktX1_behind_2 := dk_seg dksX1_behind_1 24 rfl rfl
theorem dX1_behind_0 : decode cX1_behind 0 = .ok (.aload_n 0, 1) := dk_42 (dk_at dksX1_behind_0 0 rfl rfl)
theorem dX1_behind_1 : decode cX1_behind 1 = .ok (.getfield 15, 3) := dk_180 0 15 (dk_at dksX1_behind_0 1 rfl rfl)
theorem dX1_behind_4 : decode cX1_behind 4 = .ok (.iload_n 1, 1) := dk_27 (dk_at dksX1_behind_0 4 rfl rfl)
theorem dX1_behind_5 : decode cX1_behind 5 = .ok (.baload, 1) := dk_51 (dk_at dksX1_behind_0 5 rfl rfl)
theorem dX1_behind_6 : decode cX1_behind 6 = .ok (.istore_n 2, 1) := dk_61 (dk_at dksX1_behind_0 6 rfl rfl)
theorem dX1_behind_7 : decode cX1_behind 7 = .ok (.iconst 0, 1) := dk_3 (dk_at dksX1_behind_0 7 rfl rfl)
theorem dX1_behind_8 : decode cX1_behind 8 = .ok (.istore_n 3, 1) := dk_62 (dk_at dksX1_behind_0 8 rfl rfl)
theorem dX1_behind_9 : decode cX1_behind 9 = .ok (.iload_n 3, 1) := dk_29 (dk_at dksX1_behind_0 9 rfl rfl)
theorem dX1_behind_10 : decode cX1_behind 10 = .ok (.bipush 7, 2) := dk_16 7 (dk_at dksX1_behind_0 10 rfl rfl)
theorem dX1_behind_12 : decode cX1_behind 12 = .ok (.if_icmp .ge 50, 3) := dk_162 0 50 (dk_at dksX1_behind_0 12 rfl rfl)
theorem dX1_behind_15 : decode cX1_behind 15 = .ok (.iconst 0, 1) := dk_3 (dk_at dksX1_behind_0 15 rfl rfl)
theorem dX1_behind_16 : decode cX1_behind 16 = .ok (.istore 4, 2) := dk_54 4 (dk_at dksX1_behind_0 16 rfl rfl)
theorem dX1_behind_18 : decode cX1_behind 18 = .ok (.iload 4, 2) := dk_21 4 (dk_at dksX1_behind_0 18 rfl rfl)
theorem dX1_behind_20 : decode cX1_behind 20 = .ok (.aload_n 0, 1) := dk_42 (dk_at dksX1_behind_0 20 rfl rfl)
theorem dX1_behind_21 : decode cX1_behind 21 = .ok (.invokevirtual 55, 3) := dk_182 0 55 (dk_at dksX1_behind_0 21 rfl rfl)
theorem dX1_behind_24 : decode cX1_behind 24 = .ok (.if_icmp .ge 32, 3) := dk_162 0 32 (dk_at dksX1_behind_1 0 rfl rfl)
theorem dX1_behind_27 : decode cX1_behind 27 = .ok (.iload_n 2, 1) := dk_28 (dk_at dksX1_behind_1 3 rfl rfl)
theorem dX1_behind_28 : decode cX1_behind 28 = .ok (.iload_n 2, 1) := dk_28 (dk_at dksX1_behind_1 4 rfl rfl)
theorem dX1_behind_29 : decode cX1_behind 29 = .ok (.iload 4, 2) := dk_21 4 (dk_at dksX1_behind_1 5 rfl rfl)
theorem dX1_behind_31 : decode cX1_behind 31 = .ok (.invokestatic 66, 3) := dk_184 0 66 (dk_at dksX1_behind_1 7 rfl rfl)
theorem dX1_behind_34 : decode cX1_behind 34 = .ok (.ifCond .eq 13, 3) := dk_153 0 13 (dk_at dksX1_behind_1 10 rfl rfl)
theorem dX1_behind_37 : decode cX1_behind 37 = .ok (.aload_n 0, 1) := dk_42 (dk_at dksX1_behind_1 13 rfl rfl)
theorem dX1_behind_38 : decode cX1_behind 38 = .ok (.getfield 15, 3) := dk_180 0 15 (dk_at dksX1_behind_1 14 rfl rfl)
theorem dX1_behind_41 : decode cX1_behind 41 = .ok (.iload 4, 2) := dk_21 4 (dk_at dksX1_behind_1 17 rfl rfl)
theorem dX1_behind_43 : decode cX1_behind 43 = .ok (.baload, 1) := dk_51 (dk_at dksX1_behind_1 19 rfl rfl)
theorem dX1_behind_44 : decode cX1_behind 44 = .ok (.goto 4, 3) := dk_167 0 4 (dk_at dksX1_behind_1 20 rfl rfl)
theorem dX1_behind_47 : decode cX1_behind 47 = .ok (.iconst 0, 1) := dk_3 (dk_at dksX1_behind_1 23 rfl rfl)
theorem dX1_behind_48 : decode cX1_behind 48 = .ok (.ior, 1) := dk_128 (dk_at dksX1_behind_2 0 rfl rfl)
theorem dX1_behind_49 : decode cX1_behind 49 = .ok (.istore_n 2, 1) := dk_61 (dk_at dksX1_behind_2 1 rfl rfl)
theorem dX1_behind_50 : decode cX1_behind 50 = .ok (.iinc 4 1, 3) := dk_132 4 1 (dk_at dksX1_behind_2 2 rfl rfl)
theorem dX1_behind_53 : decode cX1_behind 53 = .ok (.goto (-35), 3) := dk_167 255 221 (dk_at dksX1_behind_2 5 rfl rfl)
theorem dX1_behind_56 : decode cX1_behind 56 = .ok (.iinc 3 1, 3) := dk_132 3 1 (dk_at dksX1_behind_2 8 rfl rfl)
theorem dX1_behind_59 : decode cX1_behind 59 = .ok (.goto (-50), 3) := dk_167 255 206 (dk_at dksX1_behind_2 11 rfl rfl)
theorem dX1_behind_62 : decode cX1_behind 62 = .ok (.iload_n 2, 1) := dk_28 (dk_at dksX1_behind_2 14 rfl rfl)
theorem dX1_behind_63 : decode cX1_behind 63 = .ok (.ireturn, 1) := dk_172 (dk_at dksX1_behind_2 15 rfl rfl)
theorem q87 : (Jvm.Cond.initialized "ReadingStages$House") ∈ lw_all := lw_g (lw_at lw_m1 2 rfl) rfl
theorem q124 : (Jvm.Cond.instantiable "ReadingStages$House" (8 : Nat)) ∈ lw_all := lw_g (lw_at lw_m1 39 rfl) rfl
theorem q126 : (Jvm.Cond.instanceMethod ({ cls := "ReadingStages$House", name := "<init>", desc := "()V" } : Jvm.MethodName)) ∈ lw_all := lw_g (lw_at lw_m1 41 rfl) rfl
theorem q127 : (Jvm.Cond.code ({ cls := "ReadingStages$House", name := "<init>", desc := "()V" } : Jvm.MethodName) prog_5_method_1_code (1 : Nat) (Option.none : Option Jvm.ClassFile.FieldType)) ∈ lw_all := lw_g (lw_at lw_m1 42 rfl) rfl
theorem q128 : (Jvm.Cond.methodLink "ReadingStages$House" (3 : Nat) ({ cls := "java/lang/Object", name := "<init>", desc := "()V" } : Jvm.MethodName)) ∈ lw_all := lw_g (lw_at lw_m1 43 rfl) rfl
theorem q129 : (Jvm.Cond.classLink "ReadingStages$House" (19 : Nat) "ReadingStages$Board") ∈ lw_all := lw_g (lw_at lw_m1 44 rfl) rfl
theorem q131 : (Jvm.Cond.methodLinkNest "ReadingStages$House" (21 : Nat) ({ cls := "ReadingStages$Board", name := "<init>", desc := "()V" } : Jvm.MethodName) "ReadingStages") ∈ lw_tbl := lw_at lw_m1 46 rfl
theorem q137 : (Jvm.Cond.fieldLinkNest "ReadingStages$House" (52 : Nat) "ReadingStages$Board" "many" "I" "ReadingStages") ∈ lw_tbl := lw_at lw_m1 52 rfl
theorem q146 : (Jvm.Cond.fieldLink "ReadingStages$House" (9 : Nat) "ReadingStages$House" "sets" "[I") ∈ lw_all := lw_g (lw_at lw_m1 61 rfl) rfl
theorem q148 : (Jvm.Cond.fieldLink "ReadingStages$House" (15 : Nat) "ReadingStages$House" "ahead" "[B") ∈ lw_all := lw_g (lw_at lw_m1 63 rfl) rfl
theorem q150 : (Jvm.Cond.fieldLink "ReadingStages$House" (22 : Nat) "ReadingStages$House" "order" "LReadingStages$Board;") ∈ lw_all := lw_g (lw_at lw_m1 65 rfl) rfl
theorem q152 : (Jvm.Cond.fieldLink "ReadingStages$House" (46 : Nat) "ReadingStages$House" "prior" "I") ∈ lw_all := lw_g (lw_at lw_m1 67 rfl) rfl
theorem q154 : (Jvm.Cond.fieldLink "ReadingStages$House" (26 : Nat) "ReadingStages$House" "span" "I") ∈ lw_all := lw_g (lw_at lw_m1 69 rfl) rfl
theorem q156 : (Jvm.Cond.fieldLink "ReadingStages$House" (30 : Nat) "ReadingStages$House" "bound" "I") ∈ lw_all := lw_g (lw_at lw_m1 71 rfl) rfl
theorem q158 : (Jvm.Cond.fieldLink "ReadingStages$House" (49 : Nat) "ReadingStages$House" "rule" "I") ∈ lw_all := lw_g (lw_at lw_m1 73 rfl) rfl
theorem q160 : (Jvm.Cond.fieldLink "ReadingStages$House" (33 : Nat) "ReadingStages$House" "draw" "I") ∈ lw_all := lw_g (lw_at lw_m1 75 rfl) rfl
theorem q162 : (Jvm.Cond.laysFinal "ReadingStages$House" "ReadingStages$House" "sets" "[I") ∈ lw_all := lw_g (lw_at lw_m1 77 rfl) rfl
theorem q163 : (Jvm.Cond.soleField "ReadingStages$House" "sets") ∈ lw_all := lw_g (lw_at lw_m1 78 rfl) rfl
theorem q164 : (Jvm.Cond.laysFinal "ReadingStages$House" "ReadingStages$House" "ahead" "[B") ∈ lw_all := lw_g (lw_at lw_m1 79 rfl) rfl
theorem q165 : (Jvm.Cond.soleField "ReadingStages$House" "ahead") ∈ lw_all := lw_g (lw_at lw_m1 80 rfl) rfl
theorem q166 : (Jvm.Cond.laysFinal "ReadingStages$House" "ReadingStages$House" "order" "LReadingStages$Board;") ∈ lw_all := lw_g (lw_at lw_m1 81 rfl) rfl
theorem q167 : (Jvm.Cond.soleField "ReadingStages$House" "order") ∈ lw_all := lw_g (lw_at lw_m1 82 rfl) rfl
theorem q168 : (Jvm.Cond.lays "ReadingStages$House" "ReadingStages$House" "prior" "I") ∈ lw_all := lw_g (lw_at lw_m1 83 rfl) rfl
theorem q169 : (Jvm.Cond.soleField "ReadingStages$House" "prior") ∈ lw_all := lw_g (lw_at lw_m1 84 rfl) rfl
theorem q170 : (Jvm.Cond.lays "ReadingStages$House" "ReadingStages$House" "span" "I") ∈ lw_all := lw_g (lw_at lw_m1 85 rfl) rfl
theorem q171 : (Jvm.Cond.soleField "ReadingStages$House" "span") ∈ lw_all := lw_g (lw_at lw_m1 86 rfl) rfl
theorem q172 : (Jvm.Cond.lays "ReadingStages$House" "ReadingStages$House" "bound" "I") ∈ lw_all := lw_g (lw_at lw_m1 87 rfl) rfl
theorem q173 : (Jvm.Cond.soleField "ReadingStages$House" "bound") ∈ lw_all := lw_g (lw_at lw_m1 88 rfl) rfl
theorem q174 : (Jvm.Cond.lays "ReadingStages$House" "ReadingStages$House" "rule" "I") ∈ lw_all := lw_g (lw_at lw_m1 89 rfl) rfl
theorem q175 : (Jvm.Cond.soleField "ReadingStages$House" "rule") ∈ lw_all := lw_g (lw_at lw_m1 90 rfl) rfl
theorem q176 : (Jvm.Cond.lays "ReadingStages$House" "ReadingStages$House" "draw" "I") ∈ lw_all := lw_g (lw_at lw_m1 91 rfl) rfl
theorem q177 : (Jvm.Cond.soleField "ReadingStages$House" "draw") ∈ lw_all := lw_g (lw_at lw_m1 92 rfl) rfl
theorem q178 : (Jvm.Cond.superclass "ReadingStages$House" "java/lang/Object") ∈ lw_all := lw_g (lw_at lw_m1 93 rfl) rfl
theorem q479 : (Jvm.Cond.instanceMethod ({ cls := "ReadingStages$House", name := "many", desc := "()I" } : Jvm.MethodName)) ∈ lw_all := lw_g (lw_at lw_m2 154 rfl) rfl
theorem q480 : (Jvm.Cond.selects "ReadingStages$House" ({ cls := "ReadingStages$House", name := "many", desc := "()I" } : Jvm.MethodName) ({ cls := "ReadingStages$House", name := "many", desc := "()I" } : Jvm.MethodName)) ∈ lw_all := lw_g (lw_at lw_m2 155 rfl) rfl
theorem q481 : (Jvm.Cond.code ({ cls := "ReadingStages$House", name := "many", desc := "()I" } : Jvm.MethodName) prog_5_method_3_code (1 : Nat) (Option.some Jvm.ClassFile.FieldType.int)) ∈ lw_all := lw_g (lw_at lw_m2 156 rfl) rfl
theorem q503 : (Jvm.Cond.instanceMethod ({ cls := "ReadingStages$House", name := "aheadOf", desc := "(I)I" } : Jvm.MethodName)) ∈ lw_all := lw_g (lw_at lw_m2 178 rfl) rfl
theorem q504 : (Jvm.Cond.selects "ReadingStages$House" ({ cls := "ReadingStages$House", name := "aheadOf", desc := "(I)I" } : Jvm.MethodName) ({ cls := "ReadingStages$House", name := "aheadOf", desc := "(I)I" } : Jvm.MethodName)) ∈ lw_all := lw_g (lw_at lw_m2 179 rfl) rfl
theorem q505 : (Jvm.Cond.code ({ cls := "ReadingStages$House", name := "aheadOf", desc := "(I)I" } : Jvm.MethodName) prog_5_method_7_code (4 : Nat) (Option.some Jvm.ClassFile.FieldType.int)) ∈ lw_all := lw_g (lw_at lw_m2 180 rfl) rfl
theorem q506 : (Jvm.Cond.methodLink "ReadingStages$House" (55 : Nat) ({ cls := "ReadingStages$House", name := "many", desc := "()I" } : Jvm.MethodName)) ∈ lw_all := lw_g (lw_at lw_m2 181 rfl) rfl
theorem q507 : (Jvm.Cond.methodLinkNest "ReadingStages$House" (66 : Nat) ({ cls := "ReadingStages", name := "has", desc := "(II)Z" } : Jvm.MethodName) "ReadingStages") ∈ lw_tbl := lw_at lw_m2 182 rfl
theorem q887 : (Jvm.Cond.instanceMethod ({ cls := "ReadingStages$House", name := "takeFrom", desc := "(LReadingStages$House;)V" } : Jvm.MethodName)) ∈ lw_all := lw_g (lw_at lw_m4 82 rfl) rfl
theorem q888 : (Jvm.Cond.selects "ReadingStages$House" ({ cls := "ReadingStages$House", name := "takeFrom", desc := "(LReadingStages$House;)V" } : Jvm.MethodName) ({ cls := "ReadingStages$House", name := "takeFrom", desc := "(LReadingStages$House;)V" } : Jvm.MethodName)) ∈ lw_all := lw_g (lw_at lw_m4 83 rfl) rfl
theorem q889 : (Jvm.Cond.code ({ cls := "ReadingStages$House", name := "takeFrom", desc := "(LReadingStages$House;)V" } : Jvm.MethodName) prog_5_method_2_code (2 : Nat) (Option.none : Option Jvm.ClassFile.FieldType)) ∈ lw_all := lw_g (lw_at lw_m4 84 rfl) rfl
theorem q890 : (Jvm.Cond.methodLink "ReadingStages$House" (36 : Nat) ({ cls := "java/lang/System", name := "arraycopy", desc := "(Ljava/lang/Object;ILjava/lang/Object;II)V" } : Jvm.MethodName)) ∈ lw_all := lw_g (lw_at lw_m4 85 rfl) rfl
theorem q891 : (Jvm.Cond.methodLink "ReadingStages$House" (42 : Nat) ({ cls := "ReadingStages$Board", name := "takeFrom", desc := "(LReadingStages$Board;)V" } : Jvm.MethodName)) ∈ lw_all := lw_g (lw_at lw_m4 86 rfl) rfl
theorem q893 : (Jvm.Cond.instanceMethod ({ cls := "ReadingStages$House", name := "add", desc := "(I)V" } : Jvm.MethodName)) ∈ lw_all := lw_g (lw_at lw_m4 88 rfl) rfl
theorem q894 : (Jvm.Cond.selects "ReadingStages$House" ({ cls := "ReadingStages$House", name := "add", desc := "(I)V" } : Jvm.MethodName) ({ cls := "ReadingStages$House", name := "add", desc := "(I)V" } : Jvm.MethodName)) ∈ lw_all := lw_g (lw_at lw_m4 89 rfl) rfl
theorem q895 : (Jvm.Cond.code ({ cls := "ReadingStages$House", name := "add", desc := "(I)V" } : Jvm.MethodName) prog_5_method_4_code (2 : Nat) (Option.none : Option Jvm.ClassFile.FieldType)) ∈ lw_all := lw_g (lw_at lw_m4 90 rfl) rfl
theorem q896 : (Jvm.Cond.methodLink "ReadingStages$House" (58 : Nat) ({ cls := "ReadingStages$Board", name := "put", desc := "(II)V" } : Jvm.MethodName)) ∈ lw_all := lw_g (lw_at lw_m4 91 rfl) rfl
theorem q906 : (Jvm.Cond.instanceMethod ({ cls := "ReadingStages$House", name := "lose", desc := "(I)V" } : Jvm.MethodName)) ∈ lw_all := lw_g (lw_at lw_m4 101 rfl) rfl
theorem q907 : (Jvm.Cond.selects "ReadingStages$House" ({ cls := "ReadingStages$House", name := "lose", desc := "(I)V" } : Jvm.MethodName) ({ cls := "ReadingStages$House", name := "lose", desc := "(I)V" } : Jvm.MethodName)) ∈ lw_all := lw_g (lw_at lw_m4 102 rfl) rfl
theorem q908 : (Jvm.Cond.code ({ cls := "ReadingStages$House", name := "lose", desc := "(I)V" } : Jvm.MethodName) prog_5_method_5_code (3 : Nat) (Option.none : Option Jvm.ClassFile.FieldType)) ∈ lw_all := lw_g (lw_at lw_m4 103 rfl) rfl
theorem q909 : (Jvm.Cond.methodLink "ReadingStages$House" (62 : Nat) ({ cls := "ReadingStages$Board", name := "lose", desc := "(I)V" } : Jvm.MethodName)) ∈ lw_all := lw_g (lw_at lw_m4 104 rfl) rfl
theorem q919 : (Jvm.Cond.instanceMethod ({ cls := "ReadingStages$House", name := "mayBeAhead", desc := "(II)Z" } : Jvm.MethodName)) ∈ lw_all := lw_g (lw_at lw_m4 114 rfl) rfl
theorem q920 : (Jvm.Cond.selects "ReadingStages$House" ({ cls := "ReadingStages$House", name := "mayBeAhead", desc := "(II)Z" } : Jvm.MethodName) ({ cls := "ReadingStages$House", name := "mayBeAhead", desc := "(II)Z" } : Jvm.MethodName)) ∈ lw_all := lw_g (lw_at lw_m4 115 rfl) rfl
theorem q921 : (Jvm.Cond.code ({ cls := "ReadingStages$House", name := "mayBeAhead", desc := "(II)Z" } : Jvm.MethodName) prog_5_method_8_code (3 : Nat) (Option.some Jvm.ClassFile.FieldType.boolean)) ∈ lw_all := lw_g (lw_at lw_m4 116 rfl) rfl
theorem q922 : (Jvm.Cond.methodLink "ReadingStages$House" (70 : Nat) ({ cls := "ReadingStages$House", name := "behind", desc := "(I)I" } : Jvm.MethodName)) ∈ lw_all := lw_g (lw_at lw_m4 117 rfl) rfl
theorem q923 : (Jvm.Cond.instanceMethod ({ cls := "ReadingStages$House", name := "behind", desc := "(I)I" } : Jvm.MethodName)) ∈ lw_all := lw_g (lw_at lw_m4 118 rfl) rfl
theorem q924 : (Jvm.Cond.selects "ReadingStages$House" ({ cls := "ReadingStages$House", name := "behind", desc := "(I)I" } : Jvm.MethodName) ({ cls := "ReadingStages$House", name := "behind", desc := "(I)I" } : Jvm.MethodName)) ∈ lw_all := lw_g (lw_at lw_m4 119 rfl) rfl
theorem q925 : (Jvm.Cond.code ({ cls := "ReadingStages$House", name := "behind", desc := "(I)I" } : Jvm.MethodName) prog_5_method_6_code (5 : Nat) (Option.some Jvm.ClassFile.FieldType.int)) ∈ lw_all := lw_g (lw_at lw_m4 120 rfl) rfl
theorem in_X1 : ∀ w ∈ wsX10, w ∈ lw_all := lw_in wsX10 [162, 164, 166, 168, 170, 172, 174, 176] (by decide +kernel) (by decide +kernel)
/-! ReadingStages$Board -/
set_option maxRecDepth 100000
def RX2 : String := "ReadingStages$Board"
def TX2 : u_T := fun k => match k with
  | 0 => ("ReadingStages$Board", "books", "[B", true)
  | _ => ("ReadingStages$Board", "many", "I", false)
def tyX2 : Nat → FieldType := fun k => match k with
  | 0 => .array .byte
  | _ => .int
abbrev wsX20 : List Cond := u_ws RX2 TX2 2
theorem nmX2 : ∀ a, a < 2 → ∀ b, b < 2 → a ≠ b → (TX2 a).2.1 ≠ (TX2 b).2.1 := by decide +kernel
theorem tyX2_ok : ∀ k, k < 2 → parseFieldDescriptor (TX2 k).2.2.1 = some (tyX2 k) := by decide +kernel
abbrev cX2_init : ByteArray := prog_3_method_1_code
def yX2_init : MethodName := ⟨RX2, "<init>", "()V"⟩
def dkwX2_init_0 : List UInt8 := [42, 183, 0, 3, 42, 16, 7, 188, 8, 181, 0, 9, 177]
abbrev dktX2_init_0 : List UInt8 := dkwX2_init_0 ++ []
theorem dksX2_init_0 : cX2_init.data.toList.drop 0 = dktX2_init_0 := by decide +kernel
theorem dX2_init_0 : decode cX2_init 0 = .ok (.aload_n 0, 1) := dk_42 (dk_at dksX2_init_0 0 rfl rfl)
theorem dX2_init_1 : decode cX2_init 1 = .ok (.invokespecial 3, 3) := dk_183 0 3 (dk_at dksX2_init_0 1 rfl rfl)
theorem dX2_init_4 : decode cX2_init 4 = .ok (.aload_n 0, 1) := dk_42 (dk_at dksX2_init_0 4 rfl rfl)
theorem dX2_init_5 : decode cX2_init 5 = .ok (.bipush 7, 2) := dk_16 7 (dk_at dksX2_init_0 5 rfl rfl)
theorem dX2_init_7 : decode cX2_init 7 = .ok (.newarray .byte, 2) := dk_188_8 (dk_at dksX2_init_0 7 rfl rfl)
theorem dX2_init_9 : decode cX2_init 9 = .ok (.putfield 9, 3) := dk_181 0 9 (dk_at dksX2_init_0 9 rfl rfl)
theorem dX2_init_12 : decode cX2_init 12 = .ok (.return_, 1) := dk_177 (dk_at dksX2_init_0 12 rfl rfl)
abbrev cX2_clear : ByteArray := prog_3_method_7_code
def yX2_clear : MethodName := ⟨RX2, "clear", "()V"⟩
def dkwX2_clear_0 : List UInt8 := [42, 3, 181, 0, 15, 177]
abbrev dktX2_clear_0 : List UInt8 := dkwX2_clear_0 ++ []
theorem dksX2_clear_0 : cX2_clear.data.toList.drop 0 = dktX2_clear_0 := by decide +kernel
theorem dX2_clear_0 : decode cX2_clear 0 = .ok (.aload_n 0, 1) := dk_42 (dk_at dksX2_clear_0 0 rfl rfl)
theorem dX2_clear_1 : decode cX2_clear 1 = .ok (.iconst 0, 1) := dk_3 (dk_at dksX2_clear_0 1 rfl rfl)
theorem dX2_clear_2 : decode cX2_clear 2 = .ok (.putfield 15, 3) := dk_181 0 15 (dk_at dksX2_clear_0 2 rfl rfl)
theorem dX2_clear_5 : decode cX2_clear 5 = .ok (.return_, 1) := dk_177 (dk_at dksX2_clear_0 5 rfl rfl)
abbrev cX2_size : ByteArray := prog_3_method_2_code
def yX2_size : MethodName := ⟨RX2, "size", "()I"⟩
theorem dX2_size_0 : decode cX2_size 0 = .ok (.aload_n 0, 1) := by decide +kernel
theorem dX2_size_1 : decode cX2_size 1 = .ok (.getfield 15, 3) := by decide +kernel
theorem dX2_size_4 : decode cX2_size 4 = .ok (.ireturn, 1) := by decide +kernel
abbrev cX2_at : ByteArray := prog_3_method_3_code
def yX2_at : MethodName := ⟨RX2, "at", "(I)I"⟩
def dkwX2_at_0 : List UInt8 := [42, 180, 0, 9, 27, 51, 172]
abbrev dktX2_at_0 : List UInt8 := dkwX2_at_0 ++ []
theorem dksX2_at_0 : cX2_at.data.toList.drop 0 = dktX2_at_0 := by decide +kernel
theorem dX2_at_0 : decode cX2_at 0 = .ok (.aload_n 0, 1) := dk_42 (dk_at dksX2_at_0 0 rfl rfl)
theorem dX2_at_1 : decode cX2_at 1 = .ok (.getfield 9, 3) := dk_180 0 9 (dk_at dksX2_at_0 1 rfl rfl)
theorem dX2_at_4 : decode cX2_at 4 = .ok (.iload_n 1, 1) := dk_27 (dk_at dksX2_at_0 4 rfl rfl)
theorem dX2_at_5 : decode cX2_at 5 = .ok (.baload, 1) := dk_51 (dk_at dksX2_at_0 5 rfl rfl)
theorem dX2_at_6 : decode cX2_at 6 = .ok (.ireturn, 1) := dk_172 (dk_at dksX2_at_0 6 rfl rfl)
abbrev cX2_takeFrom : ByteArray := prog_3_method_4_code
def yX2_takeFrom : MethodName := ⟨RX2, "takeFrom", "(LReadingStages$Board;)V"⟩
def dkwX2_takeFrom_0 : List UInt8 := [43, 180, 0, 9, 3, 42, 180, 0, 9, 3, 16, 7, 184, 0, 19, 42, 43, 180, 0, 15, 181, 0, 15, 177]
abbrev dktX2_takeFrom_0 : List UInt8 := dkwX2_takeFrom_0 ++ []
theorem dksX2_takeFrom_0 : cX2_takeFrom.data.toList.drop 0 = dktX2_takeFrom_0 := by decide +kernel
theorem dX2_takeFrom_0 : decode cX2_takeFrom 0 = .ok (.aload_n 1, 1) := dk_43 (dk_at dksX2_takeFrom_0 0 rfl rfl)
theorem dX2_takeFrom_1 : decode cX2_takeFrom 1 = .ok (.getfield 9, 3) := dk_180 0 9 (dk_at dksX2_takeFrom_0 1 rfl rfl)
theorem dX2_takeFrom_4 : decode cX2_takeFrom 4 = .ok (.iconst 0, 1) := dk_3 (dk_at dksX2_takeFrom_0 4 rfl rfl)
theorem dX2_takeFrom_5 : decode cX2_takeFrom 5 = .ok (.aload_n 0, 1) := dk_42 (dk_at dksX2_takeFrom_0 5 rfl rfl)
theorem dX2_takeFrom_6 : decode cX2_takeFrom 6 = .ok (.getfield 9, 3) := dk_180 0 9 (dk_at dksX2_takeFrom_0 6 rfl rfl)
theorem dX2_takeFrom_9 : decode cX2_takeFrom 9 = .ok (.iconst 0, 1) := dk_3 (dk_at dksX2_takeFrom_0 9 rfl rfl)
theorem dX2_takeFrom_10 : decode cX2_takeFrom 10 = .ok (.bipush 7, 2) := dk_16 7 (dk_at dksX2_takeFrom_0 10 rfl rfl)
theorem dX2_takeFrom_12 : decode cX2_takeFrom 12 = .ok (.invokestatic 19, 3) := dk_184 0 19 (dk_at dksX2_takeFrom_0 12 rfl rfl)
theorem dX2_takeFrom_15 : decode cX2_takeFrom 15 = .ok (.aload_n 0, 1) := dk_42 (dk_at dksX2_takeFrom_0 15 rfl rfl)
theorem dX2_takeFrom_16 : decode cX2_takeFrom 16 = .ok (.aload_n 1, 1) := dk_43 (dk_at dksX2_takeFrom_0 16 rfl rfl)
theorem dX2_takeFrom_17 : decode cX2_takeFrom 17 = .ok (.getfield 15, 3) := dk_180 0 15 (dk_at dksX2_takeFrom_0 17 rfl rfl)
theorem dX2_takeFrom_20 : decode cX2_takeFrom 20 = .ok (.putfield 15, 3) := dk_181 0 15 (dk_at dksX2_takeFrom_0 20 rfl rfl)
theorem dX2_takeFrom_23 : decode cX2_takeFrom 23 = .ok (.return_, 1) := dk_177 (dk_at dksX2_takeFrom_0 23 rfl rfl)
abbrev cX2_put : ByteArray := prog_3_method_5_code
def yX2_put : MethodName := ⟨RX2, "put", "(II)V"⟩
def dkwX2_put_1 : List UInt8 := [180, 0, 9, 27, 28, 145, 84, 42, 89, 180, 0, 15, 4, 96, 181, 0, 15, 177]
abbrev dktX2_put_1 : List UInt8 := dkwX2_put_1 ++ []
def dkwX2_put_0 : List UInt8 := [42, 180, 0, 9, 27, 42, 180, 0, 9, 27, 4, 96, 42, 180, 0, 15, 27, 100, 184, 0, 19, 42]
abbrev dktX2_put_0 : List UInt8 := dkwX2_put_0 ++ dktX2_put_1
theorem dksX2_put_0 : cX2_put.data.toList.drop 0 = dktX2_put_0 := by decide +kernel
theorem dksX2_put_1 : cX2_put.data.toList.drop 22 = dktX2_put_1 := dk_seg dksX2_put_0 22 rfl rfl
theorem dX2_put_0 : decode cX2_put 0 = .ok (.aload_n 0, 1) := dk_42 (dk_at dksX2_put_0 0 rfl rfl)
theorem dX2_put_1 : decode cX2_put 1 = .ok (.getfield 9, 3) := dk_180 0 9 (dk_at dksX2_put_0 1 rfl rfl)
theorem dX2_put_4 : decode cX2_put 4 = .ok (.iload_n 1, 1) := dk_27 (dk_at dksX2_put_0 4 rfl rfl)
theorem dX2_put_5 : decode cX2_put 5 = .ok (.aload_n 0, 1) := dk_42 (dk_at dksX2_put_0 5 rfl rfl)
theorem dX2_put_6 : decode cX2_put 6 = .ok (.getfield 9, 3) := dk_180 0 9 (dk_at dksX2_put_0 6 rfl rfl)
theorem dX2_put_9 : decode cX2_put 9 = .ok (.iload_n 1, 1) := dk_27 (dk_at dksX2_put_0 9 rfl rfl)
theorem dX2_put_10 : decode cX2_put 10 = .ok (.iconst 1, 1) := dk_4 (dk_at dksX2_put_0 10 rfl rfl)
theorem dX2_put_11 : decode cX2_put 11 = .ok (.iadd, 1) := dk_96 (dk_at dksX2_put_0 11 rfl rfl)
theorem dX2_put_12 : decode cX2_put 12 = .ok (.aload_n 0, 1) := dk_42 (dk_at dksX2_put_0 12 rfl rfl)
theorem dX2_put_13 : decode cX2_put 13 = .ok (.getfield 15, 3) := dk_180 0 15 (dk_at dksX2_put_0 13 rfl rfl)
theorem dX2_put_16 : decode cX2_put 16 = .ok (.iload_n 1, 1) := dk_27 (dk_at dksX2_put_0 16 rfl rfl)
theorem dX2_put_17 : decode cX2_put 17 = .ok (.isub, 1) := dk_100 (dk_at dksX2_put_0 17 rfl rfl)
theorem dX2_put_18 : decode cX2_put 18 = .ok (.invokestatic 19, 3) := dk_184 0 19 (dk_at dksX2_put_0 18 rfl rfl)
theorem dX2_put_21 : decode cX2_put 21 = .ok (.aload_n 0, 1) := dk_42 (dk_at dksX2_put_0 21 rfl rfl)
theorem dX2_put_22 : decode cX2_put 22 = .ok (.getfield 9, 3) := dk_180 0 9 (dk_at dksX2_put_1 0 rfl rfl)
theorem dX2_put_25 : decode cX2_put 25 = .ok (.iload_n 1, 1) := dk_27 (dk_at dksX2_put_1 3 rfl rfl)
theorem dX2_put_26 : decode cX2_put 26 = .ok (.iload_n 2, 1) := dk_28 (dk_at dksX2_put_1 4 rfl rfl)
theorem dX2_put_27 : decode cX2_put 27 = .ok (.i2b, 1) := dk_145 (dk_at dksX2_put_1 5 rfl rfl)
theorem dX2_put_28 : decode cX2_put 28 = .ok (.bastore, 1) := dk_84 (dk_at dksX2_put_1 6 rfl rfl)
theorem dX2_put_29 : decode cX2_put 29 = .ok (.aload_n 0, 1) := dk_42 (dk_at dksX2_put_1 7 rfl rfl)
theorem dX2_put_30 : decode cX2_put 30 = .ok (.dup, 1) := dk_89 (dk_at dksX2_put_1 8 rfl rfl)
theorem dX2_put_31 : decode cX2_put 31 = .ok (.getfield 15, 3) := dk_180 0 15 (dk_at dksX2_put_1 9 rfl rfl)
theorem dX2_put_34 : decode cX2_put 34 = .ok (.iconst 1, 1) := dk_4 (dk_at dksX2_put_1 12 rfl rfl)
theorem dX2_put_35 : decode cX2_put 35 = .ok (.iadd, 1) := dk_96 (dk_at dksX2_put_1 13 rfl rfl)
theorem dX2_put_36 : decode cX2_put 36 = .ok (.putfield 15, 3) := dk_181 0 15 (dk_at dksX2_put_1 14 rfl rfl)
theorem dX2_put_39 : decode cX2_put 39 = .ok (.return_, 1) := dk_177 (dk_at dksX2_put_1 17 rfl rfl)
abbrev cX2_take : ByteArray := prog_3_method_6_code
def yX2_take : MethodName := ⟨RX2, "take", "(I)V"⟩
def dkwX2_take_1 : List UInt8 := [180, 0, 15, 27, 100, 184, 0, 19, 177]
abbrev dktX2_take_1 : List UInt8 := dkwX2_take_1 ++ []
def dkwX2_take_0 : List UInt8 := [42, 89, 180, 0, 15, 4, 100, 181, 0, 15, 42, 180, 0, 9, 27, 4, 96, 42, 180, 0, 9, 27, 42]
abbrev dktX2_take_0 : List UInt8 := dkwX2_take_0 ++ dktX2_take_1
theorem dksX2_take_0 : cX2_take.data.toList.drop 0 = dktX2_take_0 := by decide +kernel
theorem dksX2_take_1 : cX2_take.data.toList.drop 23 = dktX2_take_1 := dk_seg dksX2_take_0 23 rfl rfl
theorem dX2_take_0 : decode cX2_take 0 = .ok (.aload_n 0, 1) := dk_42 (dk_at dksX2_take_0 0 rfl rfl)
theorem dX2_take_1 : decode cX2_take 1 = .ok (.dup, 1) := dk_89 (dk_at dksX2_take_0 1 rfl rfl)
theorem dX2_take_2 : decode cX2_take 2 = .ok (.getfield 15, 3) := dk_180 0 15 (dk_at dksX2_take_0 2 rfl rfl)
theorem dX2_take_5 : decode cX2_take 5 = .ok (.iconst 1, 1) := dk_4 (dk_at dksX2_take_0 5 rfl rfl)
theorem dX2_take_6 : decode cX2_take 6 = .ok (.isub, 1) := dk_100 (dk_at dksX2_take_0 6 rfl rfl)
theorem dX2_take_7 : decode cX2_take 7 = .ok (.putfield 15, 3) := dk_181 0 15 (dk_at dksX2_take_0 7 rfl rfl)
theorem dX2_take_10 : decode cX2_take 10 = .ok (.aload_n 0, 1) := dk_42 (dk_at dksX2_take_0 10 rfl rfl)
theorem dX2_take_11 : decode cX2_take 11 = .ok (.getfield 9, 3) := dk_180 0 9 (dk_at dksX2_take_0 11 rfl rfl)
theorem dX2_take_14 : decode cX2_take 14 = .ok (.iload_n 1, 1) := dk_27 (dk_at dksX2_take_0 14 rfl rfl)
theorem dX2_take_15 : decode cX2_take 15 = .ok (.iconst 1, 1) := dk_4 (dk_at dksX2_take_0 15 rfl rfl)
theorem dX2_take_16 : decode cX2_take 16 = .ok (.iadd, 1) := dk_96 (dk_at dksX2_take_0 16 rfl rfl)
theorem dX2_take_17 : decode cX2_take 17 = .ok (.aload_n 0, 1) := dk_42 (dk_at dksX2_take_0 17 rfl rfl)
theorem dX2_take_18 : decode cX2_take 18 = .ok (.getfield 9, 3) := dk_180 0 9 (dk_at dksX2_take_0 18 rfl rfl)
theorem dX2_take_21 : decode cX2_take 21 = .ok (.iload_n 1, 1) := dk_27 (dk_at dksX2_take_0 21 rfl rfl)
theorem dX2_take_22 : decode cX2_take 22 = .ok (.aload_n 0, 1) := dk_42 (dk_at dksX2_take_0 22 rfl rfl)
theorem dX2_take_23 : decode cX2_take 23 = .ok (.getfield 15, 3) := dk_180 0 15 (dk_at dksX2_take_1 0 rfl rfl)
theorem dX2_take_26 : decode cX2_take 26 = .ok (.iload_n 1, 1) := dk_27 (dk_at dksX2_take_1 3 rfl rfl)
theorem dX2_take_27 : decode cX2_take 27 = .ok (.isub, 1) := dk_100 (dk_at dksX2_take_1 4 rfl rfl)
theorem dX2_take_28 : decode cX2_take 28 = .ok (.invokestatic 19, 3) := dk_184 0 19 (dk_at dksX2_take_1 5 rfl rfl)
theorem dX2_take_31 : decode cX2_take 31 = .ok (.return_, 1) := dk_177 (dk_at dksX2_take_1 8 rfl rfl)
abbrev cX2_lose : ByteArray := prog_3_method_8_code
def yX2_lose : MethodName := ⟨RX2, "lose", "(I)V"⟩
def dkwX2_lose_2 : List UInt8 := [167, 255, 220, 177]
abbrev dktX2_lose_2 : List UInt8 := dkwX2_lose_2 ++ []
def dkwX2_lose_1 : List UInt8 := [92, 51, 42, 180, 0, 9, 28, 51, 27, 164, 0, 7, 4, 167, 0, 4, 3, 100, 145, 84, 132, 2, 1]
abbrev dktX2_lose_1 : List UInt8 := dkwX2_lose_1 ++ dktX2_lose_2
def dkwX2_lose_0 : List UInt8 := [42, 42, 27, 182, 0, 25, 182, 0, 29, 3, 61, 28, 42, 180, 0, 15, 162, 0, 34, 42, 180, 0, 9, 28]
abbrev dktX2_lose_0 : List UInt8 := dkwX2_lose_0 ++ dktX2_lose_1
theorem dksX2_lose_0 : cX2_lose.data.toList.drop 0 = dktX2_lose_0 := by decide +kernel
theorem dksX2_lose_1 : cX2_lose.data.toList.drop 24 = dktX2_lose_1 := dk_seg dksX2_lose_0 24 rfl rfl
theorem dksX2_lose_2 : cX2_lose.data.toList.drop 47 = dktX2_lose_2 := dk_seg dksX2_lose_1 23 rfl rfl
theorem dX2_lose_0 : decode cX2_lose 0 = .ok (.aload_n 0, 1) := dk_42 (dk_at dksX2_lose_0 0 rfl rfl)
theorem dX2_lose_1 : decode cX2_lose 1 = .ok (.aload_n 0, 1) := dk_42 (dk_at dksX2_lose_0 1 rfl rfl)
theorem dX2_lose_2 : decode cX2_lose 2 = .ok (.iload_n 1, 1) := dk_27 (dk_at dksX2_lose_0 2 rfl rfl)
theorem dX2_lose_3 : decode cX2_lose 3 = .ok (.invokevirtual 25, 3) := dk_182 0 25 (dk_at dksX2_lose_0 3 rfl rfl)
theorem dX2_lose_6 : decode cX2_lose 6 = .ok (.invokevirtual 29, 3) := dk_182 0 29 (dk_at dksX2_lose_0 6 rfl rfl)
theorem dX2_lose_9 : decode cX2_lose 9 = .ok (.iconst 0, 1) := dk_3 (dk_at dksX2_lose_0 9 rfl rfl)
theorem dX2_lose_10 : decode cX2_lose 10 = .ok (.istore_n 2, 1) := dk_61 (dk_at dksX2_lose_0 10 rfl rfl)
theorem dX2_lose_11 : decode cX2_lose 11 = .ok (.iload_n 2, 1) := dk_28 (dk_at dksX2_lose_0 11 rfl rfl)
theorem dX2_lose_12 : decode cX2_lose 12 = .ok (.aload_n 0, 1) := dk_42 (dk_at dksX2_lose_0 12 rfl rfl)
theorem dX2_lose_13 : decode cX2_lose 13 = .ok (.getfield 15, 3) := dk_180 0 15 (dk_at dksX2_lose_0 13 rfl rfl)
theorem dX2_lose_16 : decode cX2_lose 16 = .ok (.if_icmp .ge 34, 3) := dk_162 0 34 (dk_at dksX2_lose_0 16 rfl rfl)
theorem dX2_lose_19 : decode cX2_lose 19 = .ok (.aload_n 0, 1) := dk_42 (dk_at dksX2_lose_0 19 rfl rfl)
theorem dX2_lose_20 : decode cX2_lose 20 = .ok (.getfield 9, 3) := dk_180 0 9 (dk_at dksX2_lose_0 20 rfl rfl)
theorem dX2_lose_23 : decode cX2_lose 23 = .ok (.iload_n 2, 1) := dk_28 (dk_at dksX2_lose_0 23 rfl rfl)
theorem dX2_lose_24 : decode cX2_lose 24 = .ok (.dup2, 1) := dk_92 (dk_at dksX2_lose_1 0 rfl rfl)
theorem dX2_lose_25 : decode cX2_lose 25 = .ok (.baload, 1) := dk_51 (dk_at dksX2_lose_1 1 rfl rfl)
theorem dX2_lose_26 : decode cX2_lose 26 = .ok (.aload_n 0, 1) := dk_42 (dk_at dksX2_lose_1 2 rfl rfl)
theorem dX2_lose_27 : decode cX2_lose 27 = .ok (.getfield 9, 3) := dk_180 0 9 (dk_at dksX2_lose_1 3 rfl rfl)
theorem dX2_lose_30 : decode cX2_lose 30 = .ok (.iload_n 2, 1) := dk_28 (dk_at dksX2_lose_1 6 rfl rfl)
theorem dX2_lose_31 : decode cX2_lose 31 = .ok (.baload, 1) := dk_51 (dk_at dksX2_lose_1 7 rfl rfl)
theorem dX2_lose_32 : decode cX2_lose 32 = .ok (.iload_n 1, 1) := dk_27 (dk_at dksX2_lose_1 8 rfl rfl)
theorem dX2_lose_33 : decode cX2_lose 33 = .ok (.if_icmp .le 7, 3) := dk_164 0 7 (dk_at dksX2_lose_1 9 rfl rfl)
theorem dX2_lose_36 : decode cX2_lose 36 = .ok (.iconst 1, 1) := dk_4 (dk_at dksX2_lose_1 12 rfl rfl)
theorem dX2_lose_37 : decode cX2_lose 37 = .ok (.goto 4, 3) := dk_167 0 4 (dk_at dksX2_lose_1 13 rfl rfl)
theorem dX2_lose_40 : decode cX2_lose 40 = .ok (.iconst 0, 1) := dk_3 (dk_at dksX2_lose_1 16 rfl rfl)
theorem dX2_lose_41 : decode cX2_lose 41 = .ok (.isub, 1) := dk_100 (dk_at dksX2_lose_1 17 rfl rfl)
theorem dX2_lose_42 : decode cX2_lose 42 = .ok (.i2b, 1) := dk_145 (dk_at dksX2_lose_1 18 rfl rfl)
theorem dX2_lose_43 : decode cX2_lose 43 = .ok (.bastore, 1) := dk_84 (dk_at dksX2_lose_1 19 rfl rfl)
theorem dX2_lose_44 : decode cX2_lose 44 = .ok (.iinc 2 1, 3) := dk_132 2 1 (dk_at dksX2_lose_1 20 rfl rfl)
theorem dX2_lose_47 : decode cX2_lose 47 = .ok (.goto (-36), 3) := dk_167 255 220 (dk_at dksX2_lose_2 0 rfl rfl)
theorem dX2_lose_50 : decode cX2_lose 50 = .ok (.return_, 1) := dk_177 (dk_at dksX2_lose_2 3 rfl rfl)
theorem q88 : (Jvm.Cond.initialized "ReadingStages$Board") ∈ lw_all := lw_g (lw_at lw_m1 3 rfl) rfl
theorem q130 : (Jvm.Cond.instantiable "ReadingStages$Board" (2 : Nat)) ∈ lw_all := lw_g (lw_at lw_m1 45 rfl) rfl
theorem q132 : (Jvm.Cond.instanceMethod ({ cls := "ReadingStages$Board", name := "<init>", desc := "()V" } : Jvm.MethodName)) ∈ lw_all := lw_g (lw_at lw_m1 47 rfl) rfl
theorem q133 : (Jvm.Cond.code ({ cls := "ReadingStages$Board", name := "<init>", desc := "()V" } : Jvm.MethodName) prog_3_method_1_code (1 : Nat) (Option.none : Option Jvm.ClassFile.FieldType)) ∈ lw_all := lw_g (lw_at lw_m1 48 rfl) rfl
theorem q134 : (Jvm.Cond.methodLink "ReadingStages$Board" (3 : Nat) ({ cls := "java/lang/Object", name := "<init>", desc := "()V" } : Jvm.MethodName)) ∈ lw_all := lw_g (lw_at lw_m1 49 rfl) rfl
theorem q135 : (Jvm.Cond.fieldLink "ReadingStages$Board" (9 : Nat) "ReadingStages$Board" "books" "[B") ∈ lw_all := lw_g (lw_at lw_m1 50 rfl) rfl
theorem q136 : (Jvm.Cond.fieldLink "ReadingStages$Board" (15 : Nat) "ReadingStages$Board" "many" "I") ∈ lw_all := lw_g (lw_at lw_m1 51 rfl) rfl
theorem q139 : (Jvm.Cond.laysFinal "ReadingStages$Board" "ReadingStages$Board" "books" "[B") ∈ lw_all := lw_g (lw_at lw_m1 54 rfl) rfl
theorem q140 : (Jvm.Cond.soleField "ReadingStages$Board" "books") ∈ lw_all := lw_g (lw_at lw_m1 55 rfl) rfl
theorem q141 : (Jvm.Cond.lays "ReadingStages$Board" "ReadingStages$Board" "many" "I") ∈ lw_all := lw_g (lw_at lw_m1 56 rfl) rfl
theorem q142 : (Jvm.Cond.soleField "ReadingStages$Board" "many") ∈ lw_all := lw_g (lw_at lw_m1 57 rfl) rfl
theorem q143 : (Jvm.Cond.superclass "ReadingStages$Board" "java/lang/Object") ∈ lw_all := lw_g (lw_at lw_m1 58 rfl) rfl
theorem q390 : (Jvm.Cond.instanceMethod ({ cls := "ReadingStages$Board", name := "clear", desc := "()V" } : Jvm.MethodName)) ∈ lw_all := lw_g (lw_at lw_m2 65 rfl) rfl
theorem q391 : (Jvm.Cond.selects "ReadingStages$Board" ({ cls := "ReadingStages$Board", name := "clear", desc := "()V" } : Jvm.MethodName) ({ cls := "ReadingStages$Board", name := "clear", desc := "()V" } : Jvm.MethodName)) ∈ lw_all := lw_g (lw_at lw_m2 66 rfl) rfl
theorem q392 : (Jvm.Cond.code ({ cls := "ReadingStages$Board", name := "clear", desc := "()V" } : Jvm.MethodName) prog_3_method_7_code (1 : Nat) (Option.none : Option Jvm.ClassFile.FieldType)) ∈ lw_all := lw_g (lw_at lw_m2 67 rfl) rfl
theorem q400 : (Jvm.Cond.castable "ReadingStages$Board" "ReadingStages$Shelf") ∈ lw_tbl := lw_at lw_m2 75 rfl
theorem q401 : (Jvm.Cond.unhidden "ReadingStages$Board" "holds" "([B)Z") ∈ lw_tbl := lw_at lw_m2 76 rfl
theorem q409 : (Jvm.Cond.selects "ReadingStages$Board" ({ cls := "ReadingStages$Shelf", name := "size", desc := "()I" } : Jvm.MethodName) ({ cls := "ReadingStages$Board", name := "size", desc := "()I" } : Jvm.MethodName)) ∈ lw_all := lw_g (lw_at lw_m2 84 rfl) rfl
theorem q410 : (Jvm.Cond.unhidden "ReadingStages$Board" "size" "()I") ∈ lw_tbl := lw_at lw_m2 85 rfl
theorem q411 : (Jvm.Cond.instanceMethod ({ cls := "ReadingStages$Board", name := "size", desc := "()I" } : Jvm.MethodName)) ∈ lw_all := lw_g (lw_at lw_m2 86 rfl) rfl
theorem q412 : (Jvm.Cond.publicMethod ({ cls := "ReadingStages$Board", name := "size", desc := "()I" } : Jvm.MethodName)) ∈ lw_tbl := lw_at lw_m2 87 rfl
theorem q413 : (Jvm.Cond.code ({ cls := "ReadingStages$Board", name := "size", desc := "()I" } : Jvm.MethodName) prog_3_method_2_code (1 : Nat) (Option.some Jvm.ClassFile.FieldType.int)) ∈ lw_all := lw_g (lw_at lw_m2 88 rfl) rfl
theorem q418 : (Jvm.Cond.selects "ReadingStages$Board" ({ cls := "ReadingStages$Shelf", name := "at", desc := "(I)I" } : Jvm.MethodName) ({ cls := "ReadingStages$Board", name := "at", desc := "(I)I" } : Jvm.MethodName)) ∈ lw_all := lw_g (lw_at lw_m2 93 rfl) rfl
theorem q419 : (Jvm.Cond.unhidden "ReadingStages$Board" "at" "(I)I") ∈ lw_tbl := lw_at lw_m2 94 rfl
theorem q420 : (Jvm.Cond.instanceMethod ({ cls := "ReadingStages$Board", name := "at", desc := "(I)I" } : Jvm.MethodName)) ∈ lw_all := lw_g (lw_at lw_m2 95 rfl) rfl
theorem q421 : (Jvm.Cond.publicMethod ({ cls := "ReadingStages$Board", name := "at", desc := "(I)I" } : Jvm.MethodName)) ∈ lw_tbl := lw_at lw_m2 96 rfl
theorem q422 : (Jvm.Cond.code ({ cls := "ReadingStages$Board", name := "at", desc := "(I)I" } : Jvm.MethodName) prog_3_method_3_code (2 : Nat) (Option.some Jvm.ClassFile.FieldType.int)) ∈ lw_all := lw_g (lw_at lw_m2 97 rfl) rfl
theorem q468 : (Jvm.Cond.instanceMethod ({ cls := "ReadingStages$Board", name := "takeFrom", desc := "(LReadingStages$Board;)V" } : Jvm.MethodName)) ∈ lw_all := lw_g (lw_at lw_m2 143 rfl) rfl
theorem q469 : (Jvm.Cond.selects "ReadingStages$Board" ({ cls := "ReadingStages$Board", name := "takeFrom", desc := "(LReadingStages$Board;)V" } : Jvm.MethodName) ({ cls := "ReadingStages$Board", name := "takeFrom", desc := "(LReadingStages$Board;)V" } : Jvm.MethodName)) ∈ lw_all := lw_g (lw_at lw_m2 144 rfl) rfl
theorem q470 : (Jvm.Cond.code ({ cls := "ReadingStages$Board", name := "takeFrom", desc := "(LReadingStages$Board;)V" } : Jvm.MethodName) prog_3_method_4_code (2 : Nat) (Option.none : Option Jvm.ClassFile.FieldType)) ∈ lw_all := lw_g (lw_at lw_m2 145 rfl) rfl
theorem q471 : (Jvm.Cond.methodLink "ReadingStages$Board" (19 : Nat) ({ cls := "java/lang/System", name := "arraycopy", desc := "(Ljava/lang/Object;ILjava/lang/Object;II)V" } : Jvm.MethodName)) ∈ lw_all := lw_g (lw_at lw_m2 146 rfl) rfl
theorem q491 : (Jvm.Cond.instanceMethod ({ cls := "ReadingStages$Board", name := "put", desc := "(II)V" } : Jvm.MethodName)) ∈ lw_all := lw_g (lw_at lw_m2 166 rfl) rfl
theorem q492 : (Jvm.Cond.selects "ReadingStages$Board" ({ cls := "ReadingStages$Board", name := "put", desc := "(II)V" } : Jvm.MethodName) ({ cls := "ReadingStages$Board", name := "put", desc := "(II)V" } : Jvm.MethodName)) ∈ lw_all := lw_g (lw_at lw_m2 167 rfl) rfl
theorem q493 : (Jvm.Cond.code ({ cls := "ReadingStages$Board", name := "put", desc := "(II)V" } : Jvm.MethodName) prog_3_method_5_code (3 : Nat) (Option.none : Option Jvm.ClassFile.FieldType)) ∈ lw_all := lw_g (lw_at lw_m2 168 rfl) rfl
theorem q495 : (Jvm.Cond.instanceMethod ({ cls := "ReadingStages$Board", name := "take", desc := "(I)V" } : Jvm.MethodName)) ∈ lw_all := lw_g (lw_at lw_m2 170 rfl) rfl
theorem q496 : (Jvm.Cond.selects "ReadingStages$Board" ({ cls := "ReadingStages$Board", name := "take", desc := "(I)V" } : Jvm.MethodName) ({ cls := "ReadingStages$Board", name := "take", desc := "(I)V" } : Jvm.MethodName)) ∈ lw_all := lw_g (lw_at lw_m2 171 rfl) rfl
theorem q497 : (Jvm.Cond.code ({ cls := "ReadingStages$Board", name := "take", desc := "(I)V" } : Jvm.MethodName) prog_3_method_6_code (2 : Nat) (Option.none : Option Jvm.ClassFile.FieldType)) ∈ lw_all := lw_g (lw_at lw_m2 172 rfl) rfl
theorem q514 : (Jvm.Cond.unhidden "ReadingStages$Board" "number" "()I") ∈ lw_tbl := lw_at lw_m2 189 rfl
theorem q570 : (Jvm.Cond.unhidden "ReadingStages$Board" "find" "(I)I") ∈ lw_tbl := lw_at lw_m3 5 rfl
theorem q910 : (Jvm.Cond.instanceMethod ({ cls := "ReadingStages$Board", name := "lose", desc := "(I)V" } : Jvm.MethodName)) ∈ lw_all := lw_g (lw_at lw_m4 105 rfl) rfl
theorem q911 : (Jvm.Cond.selects "ReadingStages$Board" ({ cls := "ReadingStages$Board", name := "lose", desc := "(I)V" } : Jvm.MethodName) ({ cls := "ReadingStages$Board", name := "lose", desc := "(I)V" } : Jvm.MethodName)) ∈ lw_all := lw_g (lw_at lw_m4 106 rfl) rfl
theorem q912 : (Jvm.Cond.code ({ cls := "ReadingStages$Board", name := "lose", desc := "(I)V" } : Jvm.MethodName) prog_3_method_8_code (3 : Nat) (Option.none : Option Jvm.ClassFile.FieldType)) ∈ lw_all := lw_g (lw_at lw_m4 107 rfl) rfl
theorem q913 : (Jvm.Cond.methodLink "ReadingStages$Board" (29 : Nat) ({ cls := "ReadingStages$Board", name := "take", desc := "(I)V" } : Jvm.MethodName)) ∈ lw_all := lw_g (lw_at lw_m4 108 rfl) rfl
theorem q1718 : (Jvm.Cond.selects "ReadingStages$Board" ({ cls := "ReadingStages$Board", name := "at", desc := "(I)I" } : Jvm.MethodName) ({ cls := "ReadingStages$Board", name := "at", desc := "(I)I" } : Jvm.MethodName)) ∈ lw_all := lw_g (lw_at lw_m7 193 rfl) rfl
theorem in_X2 : ∀ w ∈ wsX20, w ∈ lw_all := lw_in wsX20 [139, 141] (by decide +kernel) (by decide +kernel)
/-! ReadingStages$Fault -/
set_option maxRecDepth 100000
def RX3 : String := "ReadingStages$Fault"
def TX3 : u_T := fun k => match k with
  | 0 => ("java/lang/Throwable", "cause", "Ljava/lang/Throwable;", false)
  | 1 => ("java/lang/Throwable", "stackTrace", "[Ljava/lang/StackTraceElement;", false)
  | 2 => ("java/lang/Throwable", "suppressedExceptions", "Ljava/util/List;", false)
  | 3 => ("java/lang/Throwable", "detailMessage", "Ljava/lang/String;", false)
  | 4 => ("java/lang/Throwable", "backtrace", "Ljava/lang/Object;", false)
  | 5 => ("java/lang/Throwable", "depth", "I", false)
  | _ => ("ReadingStages$Fault", "place", "I", false)
def tyX3 : Nat → FieldType := fun k => match k with
  | 0 => .object "java/lang/Throwable"
  | 1 => .array (.object "java/lang/StackTraceElement")
  | 2 => .object "java/util/List"
  | 3 => .object "java/lang/String"
  | 4 => .object "java/lang/Object"
  | 5 => .int
  | _ => .int
abbrev wsX30 : List Cond := u_ws RX3 TX3 7
theorem nmX3 : ∀ a, a < 7 → ∀ b, b < 7 → a ≠ b → (TX3 a).2.1 ≠ (TX3 b).2.1 := by decide +kernel
theorem tyX3_ok : ∀ k, k < 7 → parseFieldDescriptor (TX3 k).2.2.1 = some (tyX3 k) := by decide +kernel
abbrev cX3_init : ByteArray := prog_4_method_1_code
def yX3_init : MethodName := ⟨RX3, "<init>", "()V"⟩
def dkwX3_init_0 : List UInt8 := [42, 1, 1, 3, 3, 183, 0, 1, 177]
abbrev dktX3_init_0 : List UInt8 := dkwX3_init_0 ++ []
theorem dksX3_init_0 : cX3_init.data.toList.drop 0 = dktX3_init_0 := by decide +kernel
theorem dX3_init_0 : decode cX3_init 0 = .ok (.aload_n 0, 1) := dk_42 (dk_at dksX3_init_0 0 rfl rfl)
theorem dX3_init_1 : decode cX3_init 1 = .ok (.aconst_null, 1) := dk_1 (dk_at dksX3_init_0 1 rfl rfl)
theorem dX3_init_2 : decode cX3_init 2 = .ok (.aconst_null, 1) := dk_1 (dk_at dksX3_init_0 2 rfl rfl)
theorem dX3_init_3 : decode cX3_init 3 = .ok (.iconst 0, 1) := dk_3 (dk_at dksX3_init_0 3 rfl rfl)
theorem dX3_init_4 : decode cX3_init 4 = .ok (.iconst 0, 1) := dk_3 (dk_at dksX3_init_0 4 rfl rfl)
theorem dX3_init_5 : decode cX3_init 5 = .ok (.invokespecial 1, 3) := dk_183 0 1 (dk_at dksX3_init_0 5 rfl rfl)
theorem dX3_init_8 : decode cX3_init 8 = .ok (.return_, 1) := dk_177 (dk_at dksX3_init_0 8 rfl rfl)
theorem q91 : (Jvm.Cond.initialized "ReadingStages$Fault") ∈ lw_all := lw_g (lw_at lw_m1 6 rfl) rfl
theorem q185 : (Jvm.Cond.instantiable "ReadingStages$Fault" (7 : Nat)) ∈ lw_all := lw_g (lw_at lw_m1 100 rfl) rfl
theorem q186 : (Jvm.Cond.castable "ReadingStages$Fault" "ReadingStages$Fault") ∈ lw_tbl := lw_at lw_m1 101 rfl
theorem q191 : (Jvm.Cond.selects "ReadingStages$Fault" ({ cls := "java/lang/Throwable", name := "fillInStackTrace", desc := "(I)Ljava/lang/Throwable;" } : Jvm.MethodName) ({ cls := "java/lang/Throwable", name := "fillInStackTrace", desc := "(I)Ljava/lang/Throwable;" } : Jvm.MethodName)) ∈ lw_all := lw_g (lw_at lw_m1 106 rfl) rfl
theorem q192 : (Jvm.Cond.selects "ReadingStages$Fault" ({ cls := "java/lang/Throwable", name := "fillInStackTrace", desc := "()Ljava/lang/Throwable;" } : Jvm.MethodName) ({ cls := "java/lang/Throwable", name := "fillInStackTrace", desc := "()Ljava/lang/Throwable;" } : Jvm.MethodName)) ∈ lw_all := lw_g (lw_at lw_m1 107 rfl) rfl
theorem q193 : (Jvm.Cond.lays "ReadingStages$Fault" "java/lang/Throwable" "cause" "Ljava/lang/Throwable;") ∈ lw_all := lw_g (lw_at lw_m1 108 rfl) rfl
theorem q195 : (Jvm.Cond.lays "ReadingStages$Fault" "java/lang/Throwable" "stackTrace" "[Ljava/lang/StackTraceElement;") ∈ lw_all := lw_g (lw_at lw_m1 110 rfl) rfl
theorem q197 : (Jvm.Cond.lays "ReadingStages$Fault" "java/lang/Throwable" "suppressedExceptions" "Ljava/util/List;") ∈ lw_all := lw_g (lw_at lw_m1 112 rfl) rfl
theorem q199 : (Jvm.Cond.lays "ReadingStages$Fault" "java/lang/Throwable" "detailMessage" "Ljava/lang/String;") ∈ lw_all := lw_g (lw_at lw_m1 114 rfl) rfl
theorem q201 : (Jvm.Cond.lays "ReadingStages$Fault" "java/lang/Throwable" "backtrace" "Ljava/lang/Object;") ∈ lw_all := lw_g (lw_at lw_m1 116 rfl) rfl
theorem q240 : (Jvm.Cond.instanceMethod ({ cls := "ReadingStages$Fault", name := "<init>", desc := "()V" } : Jvm.MethodName)) ∈ lw_all := lw_g (lw_at lw_m1 155 rfl) rfl
theorem q241 : (Jvm.Cond.code ({ cls := "ReadingStages$Fault", name := "<init>", desc := "()V" } : Jvm.MethodName) prog_4_method_1_code (1 : Nat) (Option.none : Option Jvm.ClassFile.FieldType)) ∈ lw_all := lw_g (lw_at lw_m1 156 rfl) rfl
theorem q242 : (Jvm.Cond.methodLink "ReadingStages$Fault" (1 : Nat) ({ cls := "java/lang/Exception", name := "<init>", desc := "(Ljava/lang/String;Ljava/lang/Throwable;ZZ)V" } : Jvm.MethodName)) ∈ lw_all := lw_g (lw_at lw_m1 157 rfl) rfl
theorem q254 : (Jvm.Cond.lays "ReadingStages$Fault" "ReadingStages$Fault" "place" "I") ∈ lw_all := lw_g (lw_at lw_m1 169 rfl) rfl
theorem q255 : (Jvm.Cond.soleField "ReadingStages$Fault" "place") ∈ lw_all := lw_g (lw_at lw_m1 170 rfl) rfl
theorem q260 : (Jvm.Cond.lays "ReadingStages$Fault" "java/lang/Throwable" "depth" "I") ∈ lw_all := lw_g (lw_at lw_m1 175 rfl) rfl
theorem q263 : (Jvm.Cond.superclass "ReadingStages$Fault" "java/lang/Exception") ∈ lw_all := lw_g (lw_at lw_m1 178 rfl) rfl
theorem in_X3 : ∀ w ∈ wsX30, w ∈ lw_all := lw_in wsX30 [193, 195, 197, 199, 201, 260, 254] (by decide +kernel) (by decide +kernel)
/-! ReadingStages$Letters -/
set_option maxRecDepth 100000
def RX4 : String := "ReadingStages$Letters"
def TX4 : u_T := fun k => match k with
  | 0 => ("ReadingStages$Letters", "letters", "[C", true)
  | _ => ("ReadingStages$Letters", "many", "I", false)
def tyX4 : Nat → FieldType := fun k => match k with
  | 0 => .array .char
  | _ => .int
abbrev wsX40 : List Cond := u_ws RX4 TX4 2
theorem nmX4 : ∀ a, a < 2 → ∀ b, b < 2 → a ≠ b → (TX4 a).2.1 ≠ (TX4 b).2.1 := by decide +kernel
theorem tyX4_ok : ∀ k, k < 2 → parseFieldDescriptor (TX4 k).2.2.1 = some (tyX4 k) := by decide +kernel
abbrev cX4_init : ByteArray := prog_6_method_1_code
def yX4_init : MethodName := ⟨RX4, "<init>", "()V"⟩
def dkwX4_init_0 : List UInt8 := [42, 183, 0, 3, 42, 16, 90, 188, 5, 181, 0, 9, 177]
abbrev dktX4_init_0 : List UInt8 := dkwX4_init_0 ++ []
theorem dksX4_init_0 : cX4_init.data.toList.drop 0 = dktX4_init_0 := by decide +kernel
theorem dX4_init_0 : decode cX4_init 0 = .ok (.aload_n 0, 1) := dk_42 (dk_at dksX4_init_0 0 rfl rfl)
theorem dX4_init_1 : decode cX4_init 1 = .ok (.invokespecial 3, 3) := dk_183 0 3 (dk_at dksX4_init_0 1 rfl rfl)
theorem dX4_init_4 : decode cX4_init 4 = .ok (.aload_n 0, 1) := dk_42 (dk_at dksX4_init_0 4 rfl rfl)
theorem dX4_init_5 : decode cX4_init 5 = .ok (.bipush 90, 2) := dk_16 90 (dk_at dksX4_init_0 5 rfl rfl)
theorem dX4_init_7 : decode cX4_init 7 = .ok (.newarray .char, 2) := dk_188_5 (dk_at dksX4_init_0 7 rfl rfl)
theorem dX4_init_9 : decode cX4_init 9 = .ok (.putfield 9, 3) := dk_181 0 9 (dk_at dksX4_init_0 9 rfl rfl)
theorem dX4_init_12 : decode cX4_init 12 = .ok (.return_, 1) := dk_177 (dk_at dksX4_init_0 12 rfl rfl)
abbrev cX4_length : ByteArray := prog_6_method_2_code
def yX4_length : MethodName := ⟨RX4, "length", "()I"⟩
theorem dX4_length_0 : decode cX4_length 0 = .ok (.aload_n 0, 1) := by decide +kernel
theorem dX4_length_1 : decode cX4_length 1 = .ok (.getfield 15, 3) := by decide +kernel
theorem dX4_length_4 : decode cX4_length 4 = .ok (.ireturn, 1) := by decide +kernel
abbrev cX4_charAt : ByteArray := prog_6_method_3_code
def yX4_charAt : MethodName := ⟨RX4, "charAt", "(I)C"⟩
def dkwX4_charAt_0 : List UInt8 := [42, 180, 0, 9, 27, 52, 172]
abbrev dktX4_charAt_0 : List UInt8 := dkwX4_charAt_0 ++ []
theorem dksX4_charAt_0 : cX4_charAt.data.toList.drop 0 = dktX4_charAt_0 := by decide +kernel
theorem dX4_charAt_0 : decode cX4_charAt 0 = .ok (.aload_n 0, 1) := dk_42 (dk_at dksX4_charAt_0 0 rfl rfl)
theorem dX4_charAt_1 : decode cX4_charAt 1 = .ok (.getfield 9, 3) := dk_180 0 9 (dk_at dksX4_charAt_0 1 rfl rfl)
theorem dX4_charAt_4 : decode cX4_charAt 4 = .ok (.iload_n 1, 1) := dk_27 (dk_at dksX4_charAt_0 4 rfl rfl)
theorem dX4_charAt_5 : decode cX4_charAt 5 = .ok (.caload, 1) := dk_52 (dk_at dksX4_charAt_0 5 rfl rfl)
theorem dX4_charAt_6 : decode cX4_charAt 6 = .ok (.ireturn, 1) := dk_172 (dk_at dksX4_charAt_0 6 rfl rfl)
abbrev cX4_subSequence : ByteArray := prog_6_method_4_code
def yX4_subSequence : MethodName := ⟨RX4, "subSequence", "(II)Ljava/lang/CharSequence;"⟩
def dkwX4_subSequence_1 : List UInt8 := [52, 182, 0, 22, 87, 132, 4, 1, 167, 255, 235, 45, 182, 0, 26, 176]
abbrev dktX4_subSequence_1 : List UInt8 := dkwX4_subSequence_1 ++ []
def dkwX4_subSequence_0 : List UInt8 := [187, 0, 19, 89, 183, 0, 21, 78, 27, 54, 4, 21, 4, 28, 162, 0, 21, 45, 42, 180, 0, 9, 21, 4]
abbrev dktX4_subSequence_0 : List UInt8 := dkwX4_subSequence_0 ++ dktX4_subSequence_1
theorem dksX4_subSequence_0 : cX4_subSequence.data.toList.drop 0 = dktX4_subSequence_0 := by decide +kernel
theorem dksX4_subSequence_1 : cX4_subSequence.data.toList.drop 24 = dktX4_subSequence_1 := dk_seg dksX4_subSequence_0 24 rfl rfl
theorem dX4_subSequence_0 : decode cX4_subSequence 0 = .ok (.new 19, 3) := dk_187 0 19 (dk_at dksX4_subSequence_0 0 rfl rfl)
theorem dX4_subSequence_3 : decode cX4_subSequence 3 = .ok (.dup, 1) := dk_89 (dk_at dksX4_subSequence_0 3 rfl rfl)
theorem dX4_subSequence_4 : decode cX4_subSequence 4 = .ok (.invokespecial 21, 3) := dk_183 0 21 (dk_at dksX4_subSequence_0 4 rfl rfl)
theorem dX4_subSequence_7 : decode cX4_subSequence 7 = .ok (.astore_n 3, 1) := dk_78 (dk_at dksX4_subSequence_0 7 rfl rfl)
theorem dX4_subSequence_8 : decode cX4_subSequence 8 = .ok (.iload_n 1, 1) := dk_27 (dk_at dksX4_subSequence_0 8 rfl rfl)
theorem dX4_subSequence_9 : decode cX4_subSequence 9 = .ok (.istore 4, 2) := dk_54 4 (dk_at dksX4_subSequence_0 9 rfl rfl)
theorem dX4_subSequence_11 : decode cX4_subSequence 11 = .ok (.iload 4, 2) := dk_21 4 (dk_at dksX4_subSequence_0 11 rfl rfl)
theorem dX4_subSequence_13 : decode cX4_subSequence 13 = .ok (.iload_n 2, 1) := dk_28 (dk_at dksX4_subSequence_0 13 rfl rfl)
theorem dX4_subSequence_14 : decode cX4_subSequence 14 = .ok (.if_icmp .ge 21, 3) := dk_162 0 21 (dk_at dksX4_subSequence_0 14 rfl rfl)
theorem dX4_subSequence_17 : decode cX4_subSequence 17 = .ok (.aload_n 3, 1) := dk_45 (dk_at dksX4_subSequence_0 17 rfl rfl)
theorem dX4_subSequence_18 : decode cX4_subSequence 18 = .ok (.aload_n 0, 1) := dk_42 (dk_at dksX4_subSequence_0 18 rfl rfl)
theorem dX4_subSequence_19 : decode cX4_subSequence 19 = .ok (.getfield 9, 3) := dk_180 0 9 (dk_at dksX4_subSequence_0 19 rfl rfl)
theorem dX4_subSequence_22 : decode cX4_subSequence 22 = .ok (.iload 4, 2) := dk_21 4 (dk_at dksX4_subSequence_0 22 rfl rfl)
theorem dX4_subSequence_24 : decode cX4_subSequence 24 = .ok (.caload, 1) := dk_52 (dk_at dksX4_subSequence_1 0 rfl rfl)
theorem dX4_subSequence_25 : decode cX4_subSequence 25 = .ok (.invokevirtual 22, 3) := dk_182 0 22 (dk_at dksX4_subSequence_1 1 rfl rfl)
theorem dX4_subSequence_28 : decode cX4_subSequence 28 = .ok (.pop, 1) := dk_87 (dk_at dksX4_subSequence_1 4 rfl rfl)
theorem dX4_subSequence_29 : decode cX4_subSequence 29 = .ok (.iinc 4 1, 3) := dk_132 4 1 (dk_at dksX4_subSequence_1 5 rfl rfl)
theorem dX4_subSequence_32 : decode cX4_subSequence 32 = .ok (.goto (-21), 3) := dk_167 255 235 (dk_at dksX4_subSequence_1 8 rfl rfl)
theorem dX4_subSequence_35 : decode cX4_subSequence 35 = .ok (.aload_n 3, 1) := dk_45 (dk_at dksX4_subSequence_1 11 rfl rfl)
theorem dX4_subSequence_36 : decode cX4_subSequence 36 = .ok (.invokevirtual 26, 3) := dk_182 0 26 (dk_at dksX4_subSequence_1 12 rfl rfl)
theorem dX4_subSequence_39 : decode cX4_subSequence 39 = .ok (.areturn, 1) := dk_176 (dk_at dksX4_subSequence_1 15 rfl rfl)
abbrev cX4_toString : ByteArray := prog_6_method_5_code
def yX4_toString : MethodName := ⟨RX4, "toString", "()Ljava/lang/String;"⟩
def dkwX4_toString_0 : List UInt8 := [42, 3, 42, 180, 0, 15, 182, 0, 30, 185, 0, 34, 1, 0, 176]
abbrev dktX4_toString_0 : List UInt8 := dkwX4_toString_0 ++ []
theorem dksX4_toString_0 : cX4_toString.data.toList.drop 0 = dktX4_toString_0 := by decide +kernel
theorem dX4_toString_0 : decode cX4_toString 0 = .ok (.aload_n 0, 1) := dk_42 (dk_at dksX4_toString_0 0 rfl rfl)
theorem dX4_toString_1 : decode cX4_toString 1 = .ok (.iconst 0, 1) := dk_3 (dk_at dksX4_toString_0 1 rfl rfl)
theorem dX4_toString_2 : decode cX4_toString 2 = .ok (.aload_n 0, 1) := dk_42 (dk_at dksX4_toString_0 2 rfl rfl)
theorem dX4_toString_3 : decode cX4_toString 3 = .ok (.getfield 15, 3) := dk_180 0 15 (dk_at dksX4_toString_0 3 rfl rfl)
theorem dX4_toString_6 : decode cX4_toString 6 = .ok (.invokevirtual 30, 3) := dk_182 0 30 (dk_at dksX4_toString_0 6 rfl rfl)
theorem dX4_toString_9 : decode cX4_toString 9 = .ok (.invokeinterface 34 1, 5) := by decide +kernel
theorem dX4_toString_14 : decode cX4_toString 14 = .ok (.areturn, 1) := dk_176 (dk_at dksX4_toString_0 14 rfl rfl)
theorem q92 : (Jvm.Cond.initialized "ReadingStages$Letters") ∈ lw_all := lw_g (lw_at lw_m1 7 rfl) rfl
theorem q265 : (Jvm.Cond.instantiable "ReadingStages$Letters" (2 : Nat)) ∈ lw_all := lw_g (lw_at lw_m1 180 rfl) rfl
theorem q267 : (Jvm.Cond.instanceMethod ({ cls := "ReadingStages$Letters", name := "<init>", desc := "()V" } : Jvm.MethodName)) ∈ lw_all := lw_g (lw_at lw_m1 182 rfl) rfl
theorem q268 : (Jvm.Cond.code ({ cls := "ReadingStages$Letters", name := "<init>", desc := "()V" } : Jvm.MethodName) prog_6_method_1_code (1 : Nat) (Option.none : Option Jvm.ClassFile.FieldType)) ∈ lw_all := lw_g (lw_at lw_m1 183 rfl) rfl
theorem q269 : (Jvm.Cond.methodLink "ReadingStages$Letters" (3 : Nat) ({ cls := "java/lang/Object", name := "<init>", desc := "()V" } : Jvm.MethodName)) ∈ lw_all := lw_g (lw_at lw_m1 184 rfl) rfl
theorem q270 : (Jvm.Cond.fieldLink "ReadingStages$Letters" (9 : Nat) "ReadingStages$Letters" "letters" "[C") ∈ lw_all := lw_g (lw_at lw_m1 185 rfl) rfl
theorem q272 : (Jvm.Cond.fieldLink "ReadingStages$Letters" (15 : Nat) "ReadingStages$Letters" "many" "I") ∈ lw_all := lw_g (lw_at lw_m1 187 rfl) rfl
theorem q274 : (Jvm.Cond.laysFinal "ReadingStages$Letters" "ReadingStages$Letters" "letters" "[C") ∈ lw_all := lw_g (lw_at lw_m1 189 rfl) rfl
theorem q275 : (Jvm.Cond.soleField "ReadingStages$Letters" "letters") ∈ lw_all := lw_g (lw_at lw_m1 190 rfl) rfl
theorem q276 : (Jvm.Cond.lays "ReadingStages$Letters" "ReadingStages$Letters" "many" "I") ∈ lw_all := lw_g (lw_at lw_m1 191 rfl) rfl
theorem q277 : (Jvm.Cond.soleField "ReadingStages$Letters" "many") ∈ lw_all := lw_g (lw_at lw_m1 192 rfl) rfl
theorem q278 : (Jvm.Cond.superclass "ReadingStages$Letters" "java/lang/Object") ∈ lw_all := lw_g (lw_at lw_m1 193 rfl) rfl
theorem q1011 : (Jvm.Cond.instanceMethod ({ cls := "ReadingStages$Letters", name := "length", desc := "()I" } : Jvm.MethodName)) ∈ lw_all := lw_g (lw_at lw_m4 206 rfl) rfl
theorem q1012 : (Jvm.Cond.selects "ReadingStages$Letters" ({ cls := "ReadingStages$Letters", name := "length", desc := "()I" } : Jvm.MethodName) ({ cls := "ReadingStages$Letters", name := "length", desc := "()I" } : Jvm.MethodName)) ∈ lw_all := lw_g (lw_at lw_m4 207 rfl) rfl
theorem q1013 : (Jvm.Cond.code ({ cls := "ReadingStages$Letters", name := "length", desc := "()I" } : Jvm.MethodName) prog_6_method_2_code (1 : Nat) (Option.some Jvm.ClassFile.FieldType.int)) ∈ lw_all := lw_g (lw_at lw_m4 208 rfl) rfl
theorem q1015 : (Jvm.Cond.instanceMethod ({ cls := "ReadingStages$Letters", name := "charAt", desc := "(I)C" } : Jvm.MethodName)) ∈ lw_all := lw_g (lw_at lw_m4 210 rfl) rfl
theorem q1016 : (Jvm.Cond.selects "ReadingStages$Letters" ({ cls := "ReadingStages$Letters", name := "charAt", desc := "(I)C" } : Jvm.MethodName) ({ cls := "ReadingStages$Letters", name := "charAt", desc := "(I)C" } : Jvm.MethodName)) ∈ lw_all := lw_g (lw_at lw_m4 211 rfl) rfl
theorem q1017 : (Jvm.Cond.code ({ cls := "ReadingStages$Letters", name := "charAt", desc := "(I)C" } : Jvm.MethodName) prog_6_method_3_code (2 : Nat) (Option.some Jvm.ClassFile.FieldType.char)) ∈ lw_all := lw_g (lw_at lw_m4 212 rfl) rfl
theorem q1023 : (Jvm.Cond.instanceMethod ({ cls := "ReadingStages$Letters", name := "subSequence", desc := "(II)Ljava/lang/CharSequence;" } : Jvm.MethodName)) ∈ lw_all := lw_g (lw_at lw_m4 218 rfl) rfl
theorem q1024 : (Jvm.Cond.selects "ReadingStages$Letters" ({ cls := "ReadingStages$Letters", name := "subSequence", desc := "(II)Ljava/lang/CharSequence;" } : Jvm.MethodName) ({ cls := "ReadingStages$Letters", name := "subSequence", desc := "(II)Ljava/lang/CharSequence;" } : Jvm.MethodName)) ∈ lw_all := lw_g (lw_at lw_m4 219 rfl) rfl
theorem q1025 : (Jvm.Cond.code ({ cls := "ReadingStages$Letters", name := "subSequence", desc := "(II)Ljava/lang/CharSequence;" } : Jvm.MethodName) prog_6_method_4_code (5 : Nat) (Option.some (Jvm.ClassFile.FieldType.object "java/lang/CharSequence"))) ∈ lw_all := lw_g (lw_at lw_m4 220 rfl) rfl
theorem q1026 : (Jvm.Cond.classLink "ReadingStages$Letters" (19 : Nat) "java/lang/StringBuilder") ∈ lw_all := lw_g (lw_at lw_m4 221 rfl) rfl
theorem q1027 : (Jvm.Cond.methodLink "ReadingStages$Letters" (21 : Nat) ({ cls := "java/lang/StringBuilder", name := "<init>", desc := "()V" } : Jvm.MethodName)) ∈ lw_all := lw_g (lw_at lw_m4 222 rfl) rfl
theorem q1028 : (Jvm.Cond.methodLink "ReadingStages$Letters" (22 : Nat) ({ cls := "java/lang/StringBuilder", name := "append", desc := "(C)Ljava/lang/StringBuilder;" } : Jvm.MethodName)) ∈ lw_all := lw_g (lw_at lw_m4 223 rfl) rfl
theorem q1041 : (Jvm.Cond.methodLink "ReadingStages$Letters" (26 : Nat) ({ cls := "java/lang/StringBuilder", name := "toString", desc := "()Ljava/lang/String;" } : Jvm.MethodName)) ∈ lw_all := lw_g (lw_at lw_m4 236 rfl) rfl
theorem q1046 : (Jvm.Cond.castable "ReadingStages$Letters" "java/lang/CharSequence") ∈ lw_tbl := lw_at lw_m5 1 rfl
theorem q1047 : (Jvm.Cond.selects "ReadingStages$Letters" ({ cls := "java/lang/CharSequence", name := "toString", desc := "()Ljava/lang/String;" } : Jvm.MethodName) ({ cls := "ReadingStages$Letters", name := "toString", desc := "()Ljava/lang/String;" } : Jvm.MethodName)) ∈ lw_all := lw_g (lw_at lw_m5 2 rfl) rfl
theorem q1048 : (Jvm.Cond.unhidden "ReadingStages$Letters" "toString" "()Ljava/lang/String;") ∈ lw_tbl := lw_at lw_m5 3 rfl
theorem q1049 : (Jvm.Cond.instanceMethod ({ cls := "ReadingStages$Letters", name := "toString", desc := "()Ljava/lang/String;" } : Jvm.MethodName)) ∈ lw_all := lw_g (lw_at lw_m5 4 rfl) rfl
theorem q1050 : (Jvm.Cond.publicMethod ({ cls := "ReadingStages$Letters", name := "toString", desc := "()Ljava/lang/String;" } : Jvm.MethodName)) ∈ lw_tbl := lw_at lw_m5 5 rfl
theorem q1051 : (Jvm.Cond.code ({ cls := "ReadingStages$Letters", name := "toString", desc := "()Ljava/lang/String;" } : Jvm.MethodName) prog_6_method_5_code (1 : Nat) (Option.some (Jvm.ClassFile.FieldType.object "java/lang/String"))) ∈ lw_all := lw_g (lw_at lw_m5 6 rfl) rfl
theorem q1052 : (Jvm.Cond.methodLink "ReadingStages$Letters" (30 : Nat) ({ cls := "ReadingStages$Letters", name := "subSequence", desc := "(II)Ljava/lang/CharSequence;" } : Jvm.MethodName)) ∈ lw_all := lw_g (lw_at lw_m5 7 rfl) rfl
theorem q1053 : (Jvm.Cond.interfaceEntry "ReadingStages$Letters" (34 : Nat)) ∈ lw_tbl := lw_at lw_m5 8 rfl
theorem q1054 : (Jvm.Cond.methodLink "ReadingStages$Letters" (34 : Nat) ({ cls := "java/lang/CharSequence", name := "toString", desc := "()Ljava/lang/String;" } : Jvm.MethodName)) ∈ lw_all := lw_g (lw_at lw_m5 9 rfl) rfl
theorem in_X4 : ∀ w ∈ wsX40, w ∈ lw_all := lw_in wsX40 [274, 276] (by decide +kernel) (by decide +kernel)
/-! ReadingStages$Sheet -/
set_option maxRecDepth 100000
def RX5 : String := "ReadingStages$Sheet"
def TX5 : u_T := fun k => match k with
  | _ => ("ReadingStages$Sheet", "row", "Ljava/lang/Object;", false)
def tyX5 : Nat → FieldType := fun k => match k with
  | _ => .object "java/lang/Object"
abbrev wsX50 : List Cond := u_ws RX5 TX5 1
theorem nmX5 : ∀ a, a < 1 → ∀ b, b < 1 → a ≠ b → (TX5 a).2.1 ≠ (TX5 b).2.1 := by decide +kernel
theorem tyX5_ok : ∀ k, k < 1 → parseFieldDescriptor (TX5 k).2.2.1 = some (tyX5 k) := by decide +kernel
abbrev cX5_init : ByteArray := prog_8_method_1_code
def yX5_init : MethodName := ⟨RX5, "<init>", "()V"⟩
theorem dX5_init_0 : decode cX5_init 0 = .ok (.aload_n 0, 1) := by decide +kernel
theorem dX5_init_1 : decode cX5_init 1 = .ok (.invokespecial 1, 3) := by decide +kernel
theorem dX5_init_4 : decode cX5_init 4 = .ok (.return_, 1) := by decide +kernel
abbrev cX5_lane : ByteArray := prog_8_method_2_code
def yX5_lane : MethodName := ⟨RX5, "lane", "()I"⟩
def dkwX5_lane_1 : List UInt8 := [4, 167, 0, 18, 42, 180, 0, 7, 193, 0, 17, 153, 0, 7, 5, 167, 0, 4, 6, 172]
abbrev dktX5_lane_1 : List UInt8 := dkwX5_lane_1 ++ []
def dkwX5_lane_0 : List UInt8 := [42, 180, 0, 7, 193, 0, 13, 153, 0, 7, 3, 167, 0, 32, 42, 180, 0, 7, 193, 0, 15, 153, 0, 7]
abbrev dktX5_lane_0 : List UInt8 := dkwX5_lane_0 ++ dktX5_lane_1
theorem dksX5_lane_0 : cX5_lane.data.toList.drop 0 = dktX5_lane_0 := by decide +kernel
theorem dksX5_lane_1 : cX5_lane.data.toList.drop 24 = dktX5_lane_1 := dk_seg dksX5_lane_0 24 rfl rfl
theorem dX5_lane_0 : decode cX5_lane 0 = .ok (.aload_n 0, 1) := dk_42 (dk_at dksX5_lane_0 0 rfl rfl)
theorem dX5_lane_1 : decode cX5_lane 1 = .ok (.getfield 7, 3) := dk_180 0 7 (dk_at dksX5_lane_0 1 rfl rfl)
theorem dX5_lane_4 : decode cX5_lane 4 = .ok (.instanceof 13, 3) := dk_193 0 13 (dk_at dksX5_lane_0 4 rfl rfl)
theorem dX5_lane_7 : decode cX5_lane 7 = .ok (.ifCond .eq 7, 3) := dk_153 0 7 (dk_at dksX5_lane_0 7 rfl rfl)
theorem dX5_lane_10 : decode cX5_lane 10 = .ok (.iconst 0, 1) := dk_3 (dk_at dksX5_lane_0 10 rfl rfl)
theorem dX5_lane_11 : decode cX5_lane 11 = .ok (.goto 32, 3) := dk_167 0 32 (dk_at dksX5_lane_0 11 rfl rfl)
theorem dX5_lane_14 : decode cX5_lane 14 = .ok (.aload_n 0, 1) := dk_42 (dk_at dksX5_lane_0 14 rfl rfl)
theorem dX5_lane_15 : decode cX5_lane 15 = .ok (.getfield 7, 3) := dk_180 0 7 (dk_at dksX5_lane_0 15 rfl rfl)
theorem dX5_lane_18 : decode cX5_lane 18 = .ok (.instanceof 15, 3) := dk_193 0 15 (dk_at dksX5_lane_0 18 rfl rfl)
theorem dX5_lane_21 : decode cX5_lane 21 = .ok (.ifCond .eq 7, 3) := dk_153 0 7 (dk_at dksX5_lane_0 21 rfl rfl)
theorem dX5_lane_24 : decode cX5_lane 24 = .ok (.iconst 1, 1) := dk_4 (dk_at dksX5_lane_1 0 rfl rfl)
theorem dX5_lane_25 : decode cX5_lane 25 = .ok (.goto 18, 3) := dk_167 0 18 (dk_at dksX5_lane_1 1 rfl rfl)
theorem dX5_lane_28 : decode cX5_lane 28 = .ok (.aload_n 0, 1) := dk_42 (dk_at dksX5_lane_1 4 rfl rfl)
theorem dX5_lane_29 : decode cX5_lane 29 = .ok (.getfield 7, 3) := dk_180 0 7 (dk_at dksX5_lane_1 5 rfl rfl)
theorem dX5_lane_32 : decode cX5_lane 32 = .ok (.instanceof 17, 3) := dk_193 0 17 (dk_at dksX5_lane_1 8 rfl rfl)
theorem dX5_lane_35 : decode cX5_lane 35 = .ok (.ifCond .eq 7, 3) := dk_153 0 7 (dk_at dksX5_lane_1 11 rfl rfl)
theorem dX5_lane_38 : decode cX5_lane 38 = .ok (.iconst 2, 1) := dk_5 (dk_at dksX5_lane_1 14 rfl rfl)
theorem dX5_lane_39 : decode cX5_lane 39 = .ok (.goto 4, 3) := dk_167 0 4 (dk_at dksX5_lane_1 15 rfl rfl)
theorem dX5_lane_42 : decode cX5_lane 42 = .ok (.iconst 3, 1) := dk_6 (dk_at dksX5_lane_1 18 rfl rfl)
theorem dX5_lane_43 : decode cX5_lane 43 = .ok (.ireturn, 1) := dk_172 (dk_at dksX5_lane_1 19 rfl rfl)
abbrev cX5_size : ByteArray := prog_8_method_3_code
def yX5_size : MethodName := ⟨RX5, "size", "()I"⟩
def dkwX5_size_3 : List UInt8 := [172]
abbrev dktX5_size_3 : List UInt8 := dkwX5_size_3 ++ []
def dkwX5_size_2 : List UInt8 := [193, 0, 17, 153, 0, 13, 44, 192, 0, 17, 76, 43, 190, 167, 0, 11, 42, 180, 0, 7, 192, 0, 19, 190]
abbrev dktX5_size_2 : List UInt8 := dkwX5_size_2 ++ dktX5_size_3
def dkwX5_size_1 : List UInt8 := [77, 44, 193, 0, 15, 153, 0, 11, 44, 192, 0, 15, 76, 43, 190, 172, 42, 180, 0, 7, 77, 44]
abbrev dktX5_size_1 : List UInt8 := dkwX5_size_1 ++ dktX5_size_2
def dkwX5_size_0 : List UInt8 := [42, 180, 0, 7, 77, 44, 193, 0, 13, 153, 0, 11, 44, 192, 0, 13, 76, 43, 190, 172, 42, 180, 0, 7]
abbrev dktX5_size_0 : List UInt8 := dkwX5_size_0 ++ dktX5_size_1
theorem dksX5_size_0 : cX5_size.data.toList.drop 0 = dktX5_size_0 := by decide +kernel
theorem dksX5_size_1 : cX5_size.data.toList.drop 24 = dktX5_size_1 := dk_seg dksX5_size_0 24 rfl rfl
theorem dksX5_size_2 : cX5_size.data.toList.drop 46 = dktX5_size_2 := dk_seg dksX5_size_1 22 rfl rfl
theorem dksX5_size_3 : cX5_size.data.toList.drop 70 = dktX5_size_3 := dk_seg dksX5_size_2 24 rfl rfl
theorem dX5_size_0 : decode cX5_size 0 = .ok (.aload_n 0, 1) := dk_42 (dk_at dksX5_size_0 0 rfl rfl)
theorem dX5_size_1 : decode cX5_size 1 = .ok (.getfield 7, 3) := dk_180 0 7 (dk_at dksX5_size_0 1 rfl rfl)
theorem dX5_size_4 : decode cX5_size 4 = .ok (.astore_n 2, 1) := dk_77 (dk_at dksX5_size_0 4 rfl rfl)
theorem dX5_size_5 : decode cX5_size 5 = .ok (.aload_n 2, 1) := dk_44 (dk_at dksX5_size_0 5 rfl rfl)
theorem dX5_size_6 : decode cX5_size 6 = .ok (.instanceof 13, 3) := dk_193 0 13 (dk_at dksX5_size_0 6 rfl rfl)
theorem dX5_size_9 : decode cX5_size 9 = .ok (.ifCond .eq 11, 3) := dk_153 0 11 (dk_at dksX5_size_0 9 rfl rfl)
theorem dX5_size_12 : decode cX5_size 12 = .ok (.aload_n 2, 1) := dk_44 (dk_at dksX5_size_0 12 rfl rfl)
theorem dX5_size_13 : decode cX5_size 13 = .ok (.checkcast 13, 3) := dk_192 0 13 (dk_at dksX5_size_0 13 rfl rfl)
theorem dX5_size_16 : decode cX5_size 16 = .ok (.astore_n 1, 1) := dk_76 (dk_at dksX5_size_0 16 rfl rfl)
theorem dX5_size_17 : decode cX5_size 17 = .ok (.aload_n 1, 1) := dk_43 (dk_at dksX5_size_0 17 rfl rfl)
theorem dX5_size_18 : decode cX5_size 18 = .ok (.arraylength, 1) := dk_190 (dk_at dksX5_size_0 18 rfl rfl)
theorem dX5_size_19 : decode cX5_size 19 = .ok (.ireturn, 1) := dk_172 (dk_at dksX5_size_0 19 rfl rfl)
theorem dX5_size_20 : decode cX5_size 20 = .ok (.aload_n 0, 1) := dk_42 (dk_at dksX5_size_0 20 rfl rfl)
theorem dX5_size_21 : decode cX5_size 21 = .ok (.getfield 7, 3) := dk_180 0 7 (dk_at dksX5_size_0 21 rfl rfl)
theorem dX5_size_24 : decode cX5_size 24 = .ok (.astore_n 2, 1) := dk_77 (dk_at dksX5_size_1 0 rfl rfl)
theorem dX5_size_25 : decode cX5_size 25 = .ok (.aload_n 2, 1) := dk_44 (dk_at dksX5_size_1 1 rfl rfl)
theorem dX5_size_26 : decode cX5_size 26 = .ok (.instanceof 15, 3) := dk_193 0 15 (dk_at dksX5_size_1 2 rfl rfl)
theorem dX5_size_29 : decode cX5_size 29 = .ok (.ifCond .eq 11, 3) := dk_153 0 11 (dk_at dksX5_size_1 5 rfl rfl)
theorem dX5_size_32 : decode cX5_size 32 = .ok (.aload_n 2, 1) := dk_44 (dk_at dksX5_size_1 8 rfl rfl)
theorem dX5_size_33 : decode cX5_size 33 = .ok (.checkcast 15, 3) := dk_192 0 15 (dk_at dksX5_size_1 9 rfl rfl)
theorem dX5_size_36 : decode cX5_size 36 = .ok (.astore_n 1, 1) := dk_76 (dk_at dksX5_size_1 12 rfl rfl)
theorem dX5_size_37 : decode cX5_size 37 = .ok (.aload_n 1, 1) := dk_43 (dk_at dksX5_size_1 13 rfl rfl)
theorem dX5_size_38 : decode cX5_size 38 = .ok (.arraylength, 1) := dk_190 (dk_at dksX5_size_1 14 rfl rfl)
theorem dX5_size_39 : decode cX5_size 39 = .ok (.ireturn, 1) := dk_172 (dk_at dksX5_size_1 15 rfl rfl)
theorem dX5_size_40 : decode cX5_size 40 = .ok (.aload_n 0, 1) := dk_42 (dk_at dksX5_size_1 16 rfl rfl)
theorem dX5_size_41 : decode cX5_size 41 = .ok (.getfield 7, 3) := dk_180 0 7 (dk_at dksX5_size_1 17 rfl rfl)
theorem dX5_size_44 : decode cX5_size 44 = .ok (.astore_n 2, 1) := dk_77 (dk_at dksX5_size_1 20 rfl rfl)
theorem dX5_size_45 : decode cX5_size 45 = .ok (.aload_n 2, 1) := dk_44 (dk_at dksX5_size_1 21 rfl rfl)
theorem dX5_size_46 : decode cX5_size 46 = .ok (.instanceof 17, 3) := dk_193 0 17 (dk_at dksX5_size_2 0 rfl rfl)
theorem dX5_size_49 : decode cX5_size 49 = .ok (.ifCond .eq 13, 3) := dk_153 0 13 (dk_at dksX5_size_2 3 rfl rfl)
theorem dX5_size_52 : decode cX5_size 52 = .ok (.aload_n 2, 1) := dk_44 (dk_at dksX5_size_2 6 rfl rfl)
theorem dX5_size_53 : decode cX5_size 53 = .ok (.checkcast 17, 3) := dk_192 0 17 (dk_at dksX5_size_2 7 rfl rfl)
theorem dX5_size_56 : decode cX5_size 56 = .ok (.astore_n 1, 1) := dk_76 (dk_at dksX5_size_2 10 rfl rfl)
theorem dX5_size_57 : decode cX5_size 57 = .ok (.aload_n 1, 1) := dk_43 (dk_at dksX5_size_2 11 rfl rfl)
theorem dX5_size_58 : decode cX5_size 58 = .ok (.arraylength, 1) := dk_190 (dk_at dksX5_size_2 12 rfl rfl)
theorem dX5_size_59 : decode cX5_size 59 = .ok (.goto 11, 3) := dk_167 0 11 (dk_at dksX5_size_2 13 rfl rfl)
theorem dX5_size_62 : decode cX5_size 62 = .ok (.aload_n 0, 1) := dk_42 (dk_at dksX5_size_2 16 rfl rfl)
theorem dX5_size_63 : decode cX5_size 63 = .ok (.getfield 7, 3) := dk_180 0 7 (dk_at dksX5_size_2 17 rfl rfl)
theorem dX5_size_66 : decode cX5_size 66 = .ok (.checkcast 19, 3) := dk_192 0 19 (dk_at dksX5_size_2 20 rfl rfl)
theorem dX5_size_69 : decode cX5_size 69 = .ok (.arraylength, 1) := dk_190 (dk_at dksX5_size_2 23 rfl rfl)
theorem dX5_size_70 : decode cX5_size 70 = .ok (.ireturn, 1) := dk_172 (dk_at dksX5_size_3 0 rfl rfl)
abbrev cX5_get : ByteArray := prog_8_method_4_code
def yX5_get : MethodName := ⟨RX5, "get", "(I)J"⟩
def dkwX5_get_3 : List UInt8 := [180, 0, 7, 192, 0, 19, 27, 47, 173]
abbrev dktX5_get_3 : List UInt8 := dkwX5_get_3 ++ []
def dkwX5_get_2 : List UInt8 := [180, 0, 7, 78, 45, 193, 0, 17, 153, 0, 15, 45, 192, 0, 17, 77, 44, 27, 46, 133, 167, 0, 12, 42]
abbrev dktX5_get_2 : List UInt8 := dkwX5_get_2 ++ dktX5_get_3
def dkwX5_get_1 : List UInt8 := [180, 0, 7, 78, 45, 193, 0, 15, 153, 0, 13, 45, 192, 0, 15, 77, 44, 27, 53, 133, 173, 42]
abbrev dktX5_get_1 : List UInt8 := dkwX5_get_1 ++ dktX5_get_2
def dkwX5_get_0 : List UInt8 := [42, 180, 0, 7, 78, 45, 193, 0, 13, 153, 0, 13, 45, 192, 0, 13, 77, 44, 27, 51, 133, 173, 42]
abbrev dktX5_get_0 : List UInt8 := dkwX5_get_0 ++ dktX5_get_1
theorem dksX5_get_0 : cX5_get.data.toList.drop 0 = dktX5_get_0 := by decide +kernel
theorem dksX5_get_1 : cX5_get.data.toList.drop 23 = dktX5_get_1 := dk_seg dksX5_get_0 23 rfl rfl
theorem dksX5_get_2 : cX5_get.data.toList.drop 45 = dktX5_get_2 := dk_seg dksX5_get_1 22 rfl rfl
theorem dksX5_get_3 : cX5_get.data.toList.drop 69 = dktX5_get_3 := dk_seg dksX5_get_2 24 rfl rfl
theorem dX5_get_0 : decode cX5_get 0 = .ok (.aload_n 0, 1) := dk_42 (dk_at dksX5_get_0 0 rfl rfl)
theorem dX5_get_1 : decode cX5_get 1 = .ok (.getfield 7, 3) := dk_180 0 7 (dk_at dksX5_get_0 1 rfl rfl)
theorem dX5_get_4 : decode cX5_get 4 = .ok (.astore_n 3, 1) := dk_78 (dk_at dksX5_get_0 4 rfl rfl)
theorem dX5_get_5 : decode cX5_get 5 = .ok (.aload_n 3, 1) := dk_45 (dk_at dksX5_get_0 5 rfl rfl)
theorem dX5_get_6 : decode cX5_get 6 = .ok (.instanceof 13, 3) := dk_193 0 13 (dk_at dksX5_get_0 6 rfl rfl)
theorem dX5_get_9 : decode cX5_get 9 = .ok (.ifCond .eq 13, 3) := dk_153 0 13 (dk_at dksX5_get_0 9 rfl rfl)
theorem dX5_get_12 : decode cX5_get 12 = .ok (.aload_n 3, 1) := dk_45 (dk_at dksX5_get_0 12 rfl rfl)
theorem dX5_get_13 : decode cX5_get 13 = .ok (.checkcast 13, 3) := dk_192 0 13 (dk_at dksX5_get_0 13 rfl rfl)
theorem dX5_get_16 : decode cX5_get 16 = .ok (.astore_n 2, 1) := dk_77 (dk_at dksX5_get_0 16 rfl rfl)
theorem dX5_get_17 : decode cX5_get 17 = .ok (.aload_n 2, 1) := dk_44 (dk_at dksX5_get_0 17 rfl rfl)
theorem dX5_get_18 : decode cX5_get 18 = .ok (.iload_n 1, 1) := dk_27 (dk_at dksX5_get_0 18 rfl rfl)
theorem dX5_get_19 : decode cX5_get 19 = .ok (.baload, 1) := dk_51 (dk_at dksX5_get_0 19 rfl rfl)
theorem dX5_get_20 : decode cX5_get 20 = .ok (.i2l, 1) := dk_133 (dk_at dksX5_get_0 20 rfl rfl)
theorem dX5_get_21 : decode cX5_get 21 = .ok (.lreturn, 1) := dk_173 (dk_at dksX5_get_0 21 rfl rfl)
theorem dX5_get_22 : decode cX5_get 22 = .ok (.aload_n 0, 1) := dk_42 (dk_at dksX5_get_0 22 rfl rfl)
theorem dX5_get_23 : decode cX5_get 23 = .ok (.getfield 7, 3) := dk_180 0 7 (dk_at dksX5_get_1 0 rfl rfl)
theorem dX5_get_26 : decode cX5_get 26 = .ok (.astore_n 3, 1) := dk_78 (dk_at dksX5_get_1 3 rfl rfl)
theorem dX5_get_27 : decode cX5_get 27 = .ok (.aload_n 3, 1) := dk_45 (dk_at dksX5_get_1 4 rfl rfl)
theorem dX5_get_28 : decode cX5_get 28 = .ok (.instanceof 15, 3) := dk_193 0 15 (dk_at dksX5_get_1 5 rfl rfl)
theorem dX5_get_31 : decode cX5_get 31 = .ok (.ifCond .eq 13, 3) := dk_153 0 13 (dk_at dksX5_get_1 8 rfl rfl)
theorem dX5_get_34 : decode cX5_get 34 = .ok (.aload_n 3, 1) := dk_45 (dk_at dksX5_get_1 11 rfl rfl)
theorem dX5_get_35 : decode cX5_get 35 = .ok (.checkcast 15, 3) := dk_192 0 15 (dk_at dksX5_get_1 12 rfl rfl)
theorem dX5_get_38 : decode cX5_get 38 = .ok (.astore_n 2, 1) := dk_77 (dk_at dksX5_get_1 15 rfl rfl)
theorem dX5_get_39 : decode cX5_get 39 = .ok (.aload_n 2, 1) := dk_44 (dk_at dksX5_get_1 16 rfl rfl)
theorem dX5_get_40 : decode cX5_get 40 = .ok (.iload_n 1, 1) := dk_27 (dk_at dksX5_get_1 17 rfl rfl)
theorem dX5_get_41 : decode cX5_get 41 = .ok (.saload, 1) := dk_53 (dk_at dksX5_get_1 18 rfl rfl)
theorem dX5_get_42 : decode cX5_get 42 = .ok (.i2l, 1) := dk_133 (dk_at dksX5_get_1 19 rfl rfl)
theorem dX5_get_43 : decode cX5_get 43 = .ok (.lreturn, 1) := dk_173 (dk_at dksX5_get_1 20 rfl rfl)
theorem dX5_get_44 : decode cX5_get 44 = .ok (.aload_n 0, 1) := dk_42 (dk_at dksX5_get_1 21 rfl rfl)
theorem dX5_get_45 : decode cX5_get 45 = .ok (.getfield 7, 3) := dk_180 0 7 (dk_at dksX5_get_2 0 rfl rfl)
theorem dX5_get_48 : decode cX5_get 48 = .ok (.astore_n 3, 1) := dk_78 (dk_at dksX5_get_2 3 rfl rfl)
theorem dX5_get_49 : decode cX5_get 49 = .ok (.aload_n 3, 1) := dk_45 (dk_at dksX5_get_2 4 rfl rfl)
theorem dX5_get_50 : decode cX5_get 50 = .ok (.instanceof 17, 3) := dk_193 0 17 (dk_at dksX5_get_2 5 rfl rfl)
theorem dX5_get_53 : decode cX5_get 53 = .ok (.ifCond .eq 15, 3) := dk_153 0 15 (dk_at dksX5_get_2 8 rfl rfl)
theorem dX5_get_56 : decode cX5_get 56 = .ok (.aload_n 3, 1) := dk_45 (dk_at dksX5_get_2 11 rfl rfl)
theorem dX5_get_57 : decode cX5_get 57 = .ok (.checkcast 17, 3) := dk_192 0 17 (dk_at dksX5_get_2 12 rfl rfl)
theorem dX5_get_60 : decode cX5_get 60 = .ok (.astore_n 2, 1) := dk_77 (dk_at dksX5_get_2 15 rfl rfl)
theorem dX5_get_61 : decode cX5_get 61 = .ok (.aload_n 2, 1) := dk_44 (dk_at dksX5_get_2 16 rfl rfl)
theorem dX5_get_62 : decode cX5_get 62 = .ok (.iload_n 1, 1) := dk_27 (dk_at dksX5_get_2 17 rfl rfl)
theorem dX5_get_63 : decode cX5_get 63 = .ok (.iaload, 1) := dk_46 (dk_at dksX5_get_2 18 rfl rfl)
theorem dX5_get_64 : decode cX5_get 64 = .ok (.i2l, 1) := dk_133 (dk_at dksX5_get_2 19 rfl rfl)
theorem dX5_get_65 : decode cX5_get 65 = .ok (.goto 12, 3) := dk_167 0 12 (dk_at dksX5_get_2 20 rfl rfl)
theorem dX5_get_68 : decode cX5_get 68 = .ok (.aload_n 0, 1) := dk_42 (dk_at dksX5_get_2 23 rfl rfl)
theorem dX5_get_69 : decode cX5_get 69 = .ok (.getfield 7, 3) := dk_180 0 7 (dk_at dksX5_get_3 0 rfl rfl)
theorem dX5_get_72 : decode cX5_get 72 = .ok (.checkcast 19, 3) := dk_192 0 19 (dk_at dksX5_get_3 3 rfl rfl)
theorem dX5_get_75 : decode cX5_get 75 = .ok (.iload_n 1, 1) := dk_27 (dk_at dksX5_get_3 6 rfl rfl)
theorem dX5_get_76 : decode cX5_get 76 = .ok (.laload, 1) := dk_47 (dk_at dksX5_get_3 7 rfl rfl)
theorem dX5_get_77 : decode cX5_get 77 = .ok (.lreturn, 1) := dk_173 (dk_at dksX5_get_3 8 rfl rfl)
abbrev cX5_lay : ByteArray := prog_8_method_5_code
def yX5_lay : MethodName := ⟨RX5, "lay", "(IIJ)V"⟩
def dkwX5_lay_4 : List UInt8 := [192, 0, 19, 28, 33, 80, 177]
abbrev dktX5_lay_4 : List UInt8 := dkwX5_lay_4 ++ []
def dkwX5_lay_3 : List UInt8 := [136, 147, 86, 167, 0, 27, 42, 180, 0, 7, 192, 0, 17, 28, 33, 136, 79, 167, 0, 13, 42, 180, 0, 7]
abbrev dktX5_lay_3 : List UInt8 := dkwX5_lay_3 ++ dktX5_lay_4
def dkwX5_lay_2 : List UInt8 := [42, 180, 0, 7, 192, 0, 13, 28, 33, 136, 145, 84, 167, 0, 42, 42, 180, 0, 7, 192, 0, 15, 28, 33]
abbrev dktX5_lay_2 : List UInt8 := dkwX5_lay_2 ++ dktX5_lay_3
def dkwX5_lay_1 : List UInt8 := [170, 0, 0, 0, 0, 0, 71, 0, 0, 0, 0, 0, 0, 0, 2, 0, 0, 0, 27, 0, 0, 0, 42, 0, 0, 0, 57]
abbrev dktX5_lay_1 : List UInt8 := dkwX5_lay_1 ++ dktX5_lay_2
def dkwX5_lay_0 : List UInt8 := [27]
abbrev dktX5_lay_0 : List UInt8 := dkwX5_lay_0 ++ dktX5_lay_1
theorem dksX5_lay_0 : cX5_lay.data.toList.drop 0 = dktX5_lay_0 := by decide +kernel
theorem dksX5_lay_1 : cX5_lay.data.toList.drop 1 = dktX5_lay_1 := dk_seg dksX5_lay_0 1 rfl rfl
theorem dksX5_lay_2 : cX5_lay.data.toList.drop 28 = dktX5_lay_2 := dk_seg dksX5_lay_1 27 rfl rfl
theorem dksX5_lay_3 : cX5_lay.data.toList.drop 52 = dktX5_lay_3 := dk_seg dksX5_lay_2 24 rfl rfl
theorem dksX5_lay_4 : cX5_lay.data.toList.drop 76 = dktX5_lay_4 := dk_seg dksX5_lay_3 24 rfl rfl
theorem dX5_lay_0 : decode cX5_lay 0 = .ok (.iload_n 1, 1) := dk_27 (dk_at dksX5_lay_0 0 rfl rfl)
theorem dX5_lay_1 : decode cX5_lay 1 = .ok (.tableswitch 71 0 2 #[27, 42, 57], 27) := by decide +kernel
theorem dX5_lay_28 : decode cX5_lay 28 = .ok (.aload_n 0, 1) := dk_42 (dk_at dksX5_lay_2 0 rfl rfl)
theorem dX5_lay_29 : decode cX5_lay 29 = .ok (.getfield 7, 3) := dk_180 0 7 (dk_at dksX5_lay_2 1 rfl rfl)
theorem dX5_lay_32 : decode cX5_lay 32 = .ok (.checkcast 13, 3) := dk_192 0 13 (dk_at dksX5_lay_2 4 rfl rfl)
theorem dX5_lay_35 : decode cX5_lay 35 = .ok (.iload_n 2, 1) := dk_28 (dk_at dksX5_lay_2 7 rfl rfl)
theorem dX5_lay_36 : decode cX5_lay 36 = .ok (.lload_n 3, 1) := dk_33 (dk_at dksX5_lay_2 8 rfl rfl)
theorem dX5_lay_37 : decode cX5_lay 37 = .ok (.l2i, 1) := dk_136 (dk_at dksX5_lay_2 9 rfl rfl)
theorem dX5_lay_38 : decode cX5_lay 38 = .ok (.i2b, 1) := dk_145 (dk_at dksX5_lay_2 10 rfl rfl)
theorem dX5_lay_39 : decode cX5_lay 39 = .ok (.bastore, 1) := dk_84 (dk_at dksX5_lay_2 11 rfl rfl)
theorem dX5_lay_40 : decode cX5_lay 40 = .ok (.goto 42, 3) := dk_167 0 42 (dk_at dksX5_lay_2 12 rfl rfl)
theorem dX5_lay_43 : decode cX5_lay 43 = .ok (.aload_n 0, 1) := dk_42 (dk_at dksX5_lay_2 15 rfl rfl)
theorem dX5_lay_44 : decode cX5_lay 44 = .ok (.getfield 7, 3) := dk_180 0 7 (dk_at dksX5_lay_2 16 rfl rfl)
theorem dX5_lay_47 : decode cX5_lay 47 = .ok (.checkcast 15, 3) := dk_192 0 15 (dk_at dksX5_lay_2 19 rfl rfl)
theorem dX5_lay_50 : decode cX5_lay 50 = .ok (.iload_n 2, 1) := dk_28 (dk_at dksX5_lay_2 22 rfl rfl)
theorem dX5_lay_51 : decode cX5_lay 51 = .ok (.lload_n 3, 1) := dk_33 (dk_at dksX5_lay_2 23 rfl rfl)
theorem dX5_lay_52 : decode cX5_lay 52 = .ok (.l2i, 1) := dk_136 (dk_at dksX5_lay_3 0 rfl rfl)
theorem dX5_lay_53 : decode cX5_lay 53 = .ok (.i2s, 1) := dk_147 (dk_at dksX5_lay_3 1 rfl rfl)
theorem dX5_lay_54 : decode cX5_lay 54 = .ok (.sastore, 1) := dk_86 (dk_at dksX5_lay_3 2 rfl rfl)
theorem dX5_lay_55 : decode cX5_lay 55 = .ok (.goto 27, 3) := dk_167 0 27 (dk_at dksX5_lay_3 3 rfl rfl)
theorem dX5_lay_58 : decode cX5_lay 58 = .ok (.aload_n 0, 1) := dk_42 (dk_at dksX5_lay_3 6 rfl rfl)
theorem dX5_lay_59 : decode cX5_lay 59 = .ok (.getfield 7, 3) := dk_180 0 7 (dk_at dksX5_lay_3 7 rfl rfl)
theorem dX5_lay_62 : decode cX5_lay 62 = .ok (.checkcast 17, 3) := dk_192 0 17 (dk_at dksX5_lay_3 10 rfl rfl)
theorem dX5_lay_65 : decode cX5_lay 65 = .ok (.iload_n 2, 1) := dk_28 (dk_at dksX5_lay_3 13 rfl rfl)
theorem dX5_lay_66 : decode cX5_lay 66 = .ok (.lload_n 3, 1) := dk_33 (dk_at dksX5_lay_3 14 rfl rfl)
theorem dX5_lay_67 : decode cX5_lay 67 = .ok (.l2i, 1) := dk_136 (dk_at dksX5_lay_3 15 rfl rfl)
theorem dX5_lay_68 : decode cX5_lay 68 = .ok (.iastore, 1) := dk_79 (dk_at dksX5_lay_3 16 rfl rfl)
theorem dX5_lay_69 : decode cX5_lay 69 = .ok (.goto 13, 3) := dk_167 0 13 (dk_at dksX5_lay_3 17 rfl rfl)
theorem dX5_lay_72 : decode cX5_lay 72 = .ok (.aload_n 0, 1) := dk_42 (dk_at dksX5_lay_3 20 rfl rfl)
theorem dX5_lay_73 : decode cX5_lay 73 = .ok (.getfield 7, 3) := dk_180 0 7 (dk_at dksX5_lay_3 21 rfl rfl)
theorem dX5_lay_76 : decode cX5_lay 76 = .ok (.checkcast 19, 3) := dk_192 0 19 (dk_at dksX5_lay_4 0 rfl rfl)
theorem dX5_lay_79 : decode cX5_lay 79 = .ok (.iload_n 2, 1) := dk_28 (dk_at dksX5_lay_4 3 rfl rfl)
theorem dX5_lay_80 : decode cX5_lay 80 = .ok (.lload_n 3, 1) := dk_33 (dk_at dksX5_lay_4 4 rfl rfl)
theorem dX5_lay_81 : decode cX5_lay 81 = .ok (.lastore, 1) := dk_80 (dk_at dksX5_lay_4 5 rfl rfl)
theorem dX5_lay_82 : decode cX5_lay 82 = .ok (.return_, 1) := dk_177 (dk_at dksX5_lay_4 6 rfl rfl)
theorem q93 : (Jvm.Cond.initialized "ReadingStages$Sheet") ∈ lw_all := lw_g (lw_at lw_m1 8 rfl) rfl
theorem q282 : (Jvm.Cond.instantiable "ReadingStages$Sheet" (1 : Nat)) ∈ lw_all := lw_g (lw_at lw_m1 197 rfl) rfl
theorem q284 : (Jvm.Cond.instanceMethod ({ cls := "ReadingStages$Sheet", name := "<init>", desc := "()V" } : Jvm.MethodName)) ∈ lw_all := lw_g (lw_at lw_m1 199 rfl) rfl
theorem q285 : (Jvm.Cond.code ({ cls := "ReadingStages$Sheet", name := "<init>", desc := "()V" } : Jvm.MethodName) prog_8_method_1_code (1 : Nat) (Option.none : Option Jvm.ClassFile.FieldType)) ∈ lw_all := lw_g (lw_at lw_m1 200 rfl) rfl
theorem q286 : (Jvm.Cond.methodLink "ReadingStages$Sheet" (1 : Nat) ({ cls := "java/lang/Object", name := "<init>", desc := "()V" } : Jvm.MethodName)) ∈ lw_all := lw_g (lw_at lw_m1 201 rfl) rfl
theorem q287 : (Jvm.Cond.fieldLink "ReadingStages$Sheet" (7 : Nat) "ReadingStages$Sheet" "row" "Ljava/lang/Object;") ∈ lw_all := lw_g (lw_at lw_m1 202 rfl) rfl
theorem q289 : (Jvm.Cond.lays "ReadingStages$Sheet" "ReadingStages$Sheet" "row" "Ljava/lang/Object;") ∈ lw_all := lw_g (lw_at lw_m1 204 rfl) rfl
theorem q290 : (Jvm.Cond.soleField "ReadingStages$Sheet" "row") ∈ lw_all := lw_g (lw_at lw_m1 205 rfl) rfl
theorem q291 : (Jvm.Cond.superclass "ReadingStages$Sheet" "java/lang/Object") ∈ lw_all := lw_g (lw_at lw_m1 206 rfl) rfl
theorem q1166 : (Jvm.Cond.instanceMethod ({ cls := "ReadingStages$Sheet", name := "lane", desc := "()I" } : Jvm.MethodName)) ∈ lw_all := lw_g (lw_at lw_m5 121 rfl) rfl
theorem q1167 : (Jvm.Cond.selects "ReadingStages$Sheet" ({ cls := "ReadingStages$Sheet", name := "lane", desc := "()I" } : Jvm.MethodName) ({ cls := "ReadingStages$Sheet", name := "lane", desc := "()I" } : Jvm.MethodName)) ∈ lw_all := lw_g (lw_at lw_m5 122 rfl) rfl
theorem q1168 : (Jvm.Cond.code ({ cls := "ReadingStages$Sheet", name := "lane", desc := "()I" } : Jvm.MethodName) prog_8_method_2_code (1 : Nat) (Option.some Jvm.ClassFile.FieldType.int)) ∈ lw_all := lw_g (lw_at lw_m5 123 rfl) rfl
theorem q1169 : (Jvm.Cond.classLink "ReadingStages$Sheet" (13 : Nat) "[B") ∈ lw_all := lw_g (lw_at lw_m5 124 rfl) rfl
theorem q1170 : (Jvm.Cond.classLink "ReadingStages$Sheet" (15 : Nat) "[S") ∈ lw_all := lw_g (lw_at lw_m5 125 rfl) rfl
theorem q1171 : (Jvm.Cond.classLink "ReadingStages$Sheet" (17 : Nat) "[I") ∈ lw_all := lw_g (lw_at lw_m5 126 rfl) rfl
theorem q1173 : (Jvm.Cond.instanceMethod ({ cls := "ReadingStages$Sheet", name := "size", desc := "()I" } : Jvm.MethodName)) ∈ lw_all := lw_g (lw_at lw_m5 128 rfl) rfl
theorem q1174 : (Jvm.Cond.selects "ReadingStages$Sheet" ({ cls := "ReadingStages$Sheet", name := "size", desc := "()I" } : Jvm.MethodName) ({ cls := "ReadingStages$Sheet", name := "size", desc := "()I" } : Jvm.MethodName)) ∈ lw_all := lw_g (lw_at lw_m5 129 rfl) rfl
theorem q1175 : (Jvm.Cond.code ({ cls := "ReadingStages$Sheet", name := "size", desc := "()I" } : Jvm.MethodName) prog_8_method_3_code (3 : Nat) (Option.some Jvm.ClassFile.FieldType.int)) ∈ lw_all := lw_g (lw_at lw_m5 130 rfl) rfl
theorem q1176 : (Jvm.Cond.classLink "ReadingStages$Sheet" (19 : Nat) "[J") ∈ lw_all := lw_g (lw_at lw_m5 131 rfl) rfl
theorem q1178 : (Jvm.Cond.instanceMethod ({ cls := "ReadingStages$Sheet", name := "get", desc := "(I)J" } : Jvm.MethodName)) ∈ lw_all := lw_g (lw_at lw_m5 133 rfl) rfl
theorem q1179 : (Jvm.Cond.selects "ReadingStages$Sheet" ({ cls := "ReadingStages$Sheet", name := "get", desc := "(I)J" } : Jvm.MethodName) ({ cls := "ReadingStages$Sheet", name := "get", desc := "(I)J" } : Jvm.MethodName)) ∈ lw_all := lw_g (lw_at lw_m5 134 rfl) rfl
theorem q1180 : (Jvm.Cond.code ({ cls := "ReadingStages$Sheet", name := "get", desc := "(I)J" } : Jvm.MethodName) prog_8_method_4_code (4 : Nat) (Option.some Jvm.ClassFile.FieldType.long)) ∈ lw_all := lw_g (lw_at lw_m5 135 rfl) rfl
theorem q1189 : (Jvm.Cond.instanceMethod ({ cls := "ReadingStages$Sheet", name := "lay", desc := "(IIJ)V" } : Jvm.MethodName)) ∈ lw_all := lw_g (lw_at lw_m5 144 rfl) rfl
theorem q1190 : (Jvm.Cond.selects "ReadingStages$Sheet" ({ cls := "ReadingStages$Sheet", name := "lay", desc := "(IIJ)V" } : Jvm.MethodName) ({ cls := "ReadingStages$Sheet", name := "lay", desc := "(IIJ)V" } : Jvm.MethodName)) ∈ lw_all := lw_g (lw_at lw_m5 145 rfl) rfl
theorem q1191 : (Jvm.Cond.code ({ cls := "ReadingStages$Sheet", name := "lay", desc := "(IIJ)V" } : Jvm.MethodName) prog_8_method_5_code (5 : Nat) (Option.none : Option Jvm.ClassFile.FieldType)) ∈ lw_all := lw_g (lw_at lw_m5 146 rfl) rfl
theorem in_X5 : ∀ w ∈ wsX50, w ∈ lw_all := lw_in wsX50 [289] (by decide +kernel) (by decide +kernel)
/-! ReadingStages$Shelf -/
set_option maxRecDepth 100000
def RX7 : String := "ReadingStages$Shelf"
abbrev cX7_holds : ByteArray := prog_9_method_5_code
def yX7_holds : MethodName := ⟨RX7, "holds", "([B)Z"⟩
def dkwX7_holds_2 : List UInt8 := [185, 0, 9, 2, 0, 120, 128, 61, 132, 4, 1, 167, 255, 204, 29, 172]
abbrev dktX7_holds_2 : List UInt8 := dkwX7_holds_2 ++ []
def dkwX7_holds_1 : List UInt8 := [21, 4, 185, 0, 9, 2, 0, 51, 28, 126, 154, 0, 7, 4, 167, 0, 4, 3, 62, 28, 4, 42, 21, 4]
abbrev dktX7_holds_1 : List UInt8 := dkwX7_holds_1 ++ dktX7_holds_2
def dkwX7_holds_0 : List UInt8 := [3, 61, 4, 62, 3, 54, 4, 21, 4, 42, 185, 0, 3, 1, 0, 162, 0, 47, 29, 153, 0, 22, 43, 42]
abbrev dktX7_holds_0 : List UInt8 := dkwX7_holds_0 ++ dktX7_holds_1
theorem dksX7_holds_0 : cX7_holds.data.toList.drop 0 = dktX7_holds_0 := by decide +kernel
theorem dksX7_holds_1 : cX7_holds.data.toList.drop 24 = dktX7_holds_1 := dk_seg dksX7_holds_0 24 rfl rfl
theorem dksX7_holds_2 : cX7_holds.data.toList.drop 48 = dktX7_holds_2 := dk_seg dksX7_holds_1 24 rfl rfl
theorem dX7_holds_0 : decode cX7_holds 0 = .ok (.iconst 0, 1) := dk_3 (dk_at dksX7_holds_0 0 rfl rfl)
theorem dX7_holds_1 : decode cX7_holds 1 = .ok (.istore_n 2, 1) := dk_61 (dk_at dksX7_holds_0 1 rfl rfl)
theorem dX7_holds_2 : decode cX7_holds 2 = .ok (.iconst 1, 1) := dk_4 (dk_at dksX7_holds_0 2 rfl rfl)
theorem dX7_holds_3 : decode cX7_holds 3 = .ok (.istore_n 3, 1) := dk_62 (dk_at dksX7_holds_0 3 rfl rfl)
theorem dX7_holds_4 : decode cX7_holds 4 = .ok (.iconst 0, 1) := dk_3 (dk_at dksX7_holds_0 4 rfl rfl)
theorem dX7_holds_5 : decode cX7_holds 5 = .ok (.istore 4, 2) := dk_54 4 (dk_at dksX7_holds_0 5 rfl rfl)
theorem dX7_holds_7 : decode cX7_holds 7 = .ok (.iload 4, 2) := dk_21 4 (dk_at dksX7_holds_0 7 rfl rfl)
theorem dX7_holds_9 : decode cX7_holds 9 = .ok (.aload_n 0, 1) := dk_42 (dk_at dksX7_holds_0 9 rfl rfl)
theorem dX7_holds_10 : decode cX7_holds 10 = .ok (.invokeinterface 3 1, 5) := by decide +kernel
theorem dX7_holds_15 : decode cX7_holds 15 = .ok (.if_icmp .ge 47, 3) := dk_162 0 47 (dk_at dksX7_holds_0 15 rfl rfl)
theorem dX7_holds_18 : decode cX7_holds 18 = .ok (.iload_n 3, 1) := dk_29 (dk_at dksX7_holds_0 18 rfl rfl)
theorem dX7_holds_19 : decode cX7_holds 19 = .ok (.ifCond .eq 22, 3) := dk_153 0 22 (dk_at dksX7_holds_0 19 rfl rfl)
theorem dX7_holds_22 : decode cX7_holds 22 = .ok (.aload_n 1, 1) := dk_43 (dk_at dksX7_holds_0 22 rfl rfl)
theorem dX7_holds_23 : decode cX7_holds 23 = .ok (.aload_n 0, 1) := dk_42 (dk_at dksX7_holds_0 23 rfl rfl)
theorem dX7_holds_24 : decode cX7_holds 24 = .ok (.iload 4, 2) := dk_21 4 (dk_at dksX7_holds_1 0 rfl rfl)
theorem dX7_holds_26 : decode cX7_holds 26 = .ok (.invokeinterface 9 2, 5) := by decide +kernel
theorem dX7_holds_31 : decode cX7_holds 31 = .ok (.baload, 1) := dk_51 (dk_at dksX7_holds_1 7 rfl rfl)
theorem dX7_holds_32 : decode cX7_holds 32 = .ok (.iload_n 2, 1) := dk_28 (dk_at dksX7_holds_1 8 rfl rfl)
theorem dX7_holds_33 : decode cX7_holds 33 = .ok (.iand, 1) := dk_126 (dk_at dksX7_holds_1 9 rfl rfl)
theorem dX7_holds_34 : decode cX7_holds 34 = .ok (.ifCond .ne 7, 3) := dk_154 0 7 (dk_at dksX7_holds_1 10 rfl rfl)
theorem dX7_holds_37 : decode cX7_holds 37 = .ok (.iconst 1, 1) := dk_4 (dk_at dksX7_holds_1 13 rfl rfl)
theorem dX7_holds_38 : decode cX7_holds 38 = .ok (.goto 4, 3) := dk_167 0 4 (dk_at dksX7_holds_1 14 rfl rfl)
theorem dX7_holds_41 : decode cX7_holds 41 = .ok (.iconst 0, 1) := dk_3 (dk_at dksX7_holds_1 17 rfl rfl)
theorem dX7_holds_42 : decode cX7_holds 42 = .ok (.istore_n 3, 1) := dk_62 (dk_at dksX7_holds_1 18 rfl rfl)
theorem dX7_holds_43 : decode cX7_holds 43 = .ok (.iload_n 2, 1) := dk_28 (dk_at dksX7_holds_1 19 rfl rfl)
theorem dX7_holds_44 : decode cX7_holds 44 = .ok (.iconst 1, 1) := dk_4 (dk_at dksX7_holds_1 20 rfl rfl)
theorem dX7_holds_45 : decode cX7_holds 45 = .ok (.aload_n 0, 1) := dk_42 (dk_at dksX7_holds_1 21 rfl rfl)
theorem dX7_holds_46 : decode cX7_holds 46 = .ok (.iload 4, 2) := dk_21 4 (dk_at dksX7_holds_1 22 rfl rfl)
theorem dX7_holds_48 : decode cX7_holds 48 = .ok (.invokeinterface 9 2, 5) := by decide +kernel
theorem dX7_holds_53 : decode cX7_holds 53 = .ok (.ishl, 1) := dk_120 (dk_at dksX7_holds_2 5 rfl rfl)
theorem dX7_holds_54 : decode cX7_holds 54 = .ok (.ior, 1) := dk_128 (dk_at dksX7_holds_2 6 rfl rfl)
theorem dX7_holds_55 : decode cX7_holds 55 = .ok (.istore_n 2, 1) := dk_61 (dk_at dksX7_holds_2 7 rfl rfl)
theorem dX7_holds_56 : decode cX7_holds 56 = .ok (.iinc 4 1, 3) := dk_132 4 1 (dk_at dksX7_holds_2 8 rfl rfl)
theorem dX7_holds_59 : decode cX7_holds 59 = .ok (.goto (-52), 3) := dk_167 255 204 (dk_at dksX7_holds_2 11 rfl rfl)
theorem dX7_holds_62 : decode cX7_holds 62 = .ok (.iload_n 3, 1) := dk_29 (dk_at dksX7_holds_2 14 rfl rfl)
theorem dX7_holds_63 : decode cX7_holds 63 = .ok (.ireturn, 1) := dk_172 (dk_at dksX7_holds_2 15 rfl rfl)
abbrev cX7_number : ByteArray := prog_9_method_3_code
def yX7_number : MethodName := ⟨RX7, "number", "()I"⟩
def dkwX7_number_1 : List UInt8 := [185, 0, 9, 2, 0, 96, 60, 132, 2, 1, 167, 255, 230, 27, 172]
abbrev dktX7_number_1 : List UInt8 := dkwX7_number_1 ++ []
def dkwX7_number_0 : List UInt8 := [3, 60, 3, 61, 28, 42, 185, 0, 3, 1, 0, 162, 0, 22, 16, 10, 27, 104, 42, 28]
abbrev dktX7_number_0 : List UInt8 := dkwX7_number_0 ++ dktX7_number_1
theorem dksX7_number_0 : cX7_number.data.toList.drop 0 = dktX7_number_0 := by decide +kernel
theorem dksX7_number_1 : cX7_number.data.toList.drop 20 = dktX7_number_1 := dk_seg dksX7_number_0 20 rfl rfl
theorem dX7_number_0 : decode cX7_number 0 = .ok (.iconst 0, 1) := dk_3 (dk_at dksX7_number_0 0 rfl rfl)
theorem dX7_number_1 : decode cX7_number 1 = .ok (.istore_n 1, 1) := dk_60 (dk_at dksX7_number_0 1 rfl rfl)
theorem dX7_number_2 : decode cX7_number 2 = .ok (.iconst 0, 1) := dk_3 (dk_at dksX7_number_0 2 rfl rfl)
theorem dX7_number_3 : decode cX7_number 3 = .ok (.istore_n 2, 1) := dk_61 (dk_at dksX7_number_0 3 rfl rfl)
theorem dX7_number_4 : decode cX7_number 4 = .ok (.iload_n 2, 1) := dk_28 (dk_at dksX7_number_0 4 rfl rfl)
theorem dX7_number_5 : decode cX7_number 5 = .ok (.aload_n 0, 1) := dk_42 (dk_at dksX7_number_0 5 rfl rfl)
theorem dX7_number_6 : decode cX7_number 6 = .ok (.invokeinterface 3 1, 5) := by decide +kernel
theorem dX7_number_11 : decode cX7_number 11 = .ok (.if_icmp .ge 22, 3) := dk_162 0 22 (dk_at dksX7_number_0 11 rfl rfl)
theorem dX7_number_14 : decode cX7_number 14 = .ok (.bipush 10, 2) := dk_16 10 (dk_at dksX7_number_0 14 rfl rfl)
theorem dX7_number_16 : decode cX7_number 16 = .ok (.iload_n 1, 1) := dk_27 (dk_at dksX7_number_0 16 rfl rfl)
theorem dX7_number_17 : decode cX7_number 17 = .ok (.imul, 1) := dk_104 (dk_at dksX7_number_0 17 rfl rfl)
theorem dX7_number_18 : decode cX7_number 18 = .ok (.aload_n 0, 1) := dk_42 (dk_at dksX7_number_0 18 rfl rfl)
theorem dX7_number_19 : decode cX7_number 19 = .ok (.iload_n 2, 1) := dk_28 (dk_at dksX7_number_0 19 rfl rfl)
theorem dX7_number_20 : decode cX7_number 20 = .ok (.invokeinterface 9 2, 5) := by decide +kernel
theorem dX7_number_25 : decode cX7_number 25 = .ok (.iadd, 1) := dk_96 (dk_at dksX7_number_1 5 rfl rfl)
theorem dX7_number_26 : decode cX7_number 26 = .ok (.istore_n 1, 1) := dk_60 (dk_at dksX7_number_1 6 rfl rfl)
theorem dX7_number_27 : decode cX7_number 27 = .ok (.iinc 2 1, 3) := dk_132 2 1 (dk_at dksX7_number_1 7 rfl rfl)
theorem dX7_number_30 : decode cX7_number 30 = .ok (.goto (-26), 3) := dk_167 255 230 (dk_at dksX7_number_1 10 rfl rfl)
theorem dX7_number_33 : decode cX7_number 33 = .ok (.iload_n 1, 1) := dk_27 (dk_at dksX7_number_1 13 rfl rfl)
theorem dX7_number_34 : decode cX7_number 34 = .ok (.ireturn, 1) := dk_172 (dk_at dksX7_number_1 14 rfl rfl)
abbrev cX7_find : ByteArray := prog_9_method_4_code
def yX7_find : MethodName := ⟨RX7, "find", "(I)I"⟩
def dkwX7_find_1 : List UInt8 := [160, 0, 7, 29, 167, 0, 4, 28, 61, 132, 3, 1, 167, 255, 226, 28, 172]
abbrev dktX7_find_1 : List UInt8 := dkwX7_find_1 ++ []
def dkwX7_find_0 : List UInt8 := [16, 252, 61, 3, 62, 29, 42, 185, 0, 3, 1, 0, 162, 0, 26, 42, 29, 185, 0, 9, 2, 0, 27]
abbrev dktX7_find_0 : List UInt8 := dkwX7_find_0 ++ dktX7_find_1
theorem dksX7_find_0 : cX7_find.data.toList.drop 0 = dktX7_find_0 := by decide +kernel
theorem dksX7_find_1 : cX7_find.data.toList.drop 23 = dktX7_find_1 := dk_seg dksX7_find_0 23 rfl rfl
theorem dX7_find_0 : decode cX7_find 0 = .ok (.bipush (-4), 2) := dk_16 252 (dk_at dksX7_find_0 0 rfl rfl)
theorem dX7_find_2 : decode cX7_find 2 = .ok (.istore_n 2, 1) := dk_61 (dk_at dksX7_find_0 2 rfl rfl)
theorem dX7_find_3 : decode cX7_find 3 = .ok (.iconst 0, 1) := dk_3 (dk_at dksX7_find_0 3 rfl rfl)
theorem dX7_find_4 : decode cX7_find 4 = .ok (.istore_n 3, 1) := dk_62 (dk_at dksX7_find_0 4 rfl rfl)
theorem dX7_find_5 : decode cX7_find 5 = .ok (.iload_n 3, 1) := dk_29 (dk_at dksX7_find_0 5 rfl rfl)
theorem dX7_find_6 : decode cX7_find 6 = .ok (.aload_n 0, 1) := dk_42 (dk_at dksX7_find_0 6 rfl rfl)
theorem dX7_find_7 : decode cX7_find 7 = .ok (.invokeinterface 3 1, 5) := by decide +kernel
theorem dX7_find_12 : decode cX7_find 12 = .ok (.if_icmp .ge 26, 3) := dk_162 0 26 (dk_at dksX7_find_0 12 rfl rfl)
theorem dX7_find_15 : decode cX7_find 15 = .ok (.aload_n 0, 1) := dk_42 (dk_at dksX7_find_0 15 rfl rfl)
theorem dX7_find_16 : decode cX7_find 16 = .ok (.iload_n 3, 1) := dk_29 (dk_at dksX7_find_0 16 rfl rfl)
theorem dX7_find_17 : decode cX7_find 17 = .ok (.invokeinterface 9 2, 5) := by decide +kernel
theorem dX7_find_22 : decode cX7_find 22 = .ok (.iload_n 1, 1) := dk_27 (dk_at dksX7_find_0 22 rfl rfl)
theorem dX7_find_23 : decode cX7_find 23 = .ok (.if_icmp .ne 7, 3) := dk_160 0 7 (dk_at dksX7_find_1 0 rfl rfl)
theorem dX7_find_26 : decode cX7_find 26 = .ok (.iload_n 3, 1) := dk_29 (dk_at dksX7_find_1 3 rfl rfl)
theorem dX7_find_27 : decode cX7_find 27 = .ok (.goto 4, 3) := dk_167 0 4 (dk_at dksX7_find_1 4 rfl rfl)
theorem dX7_find_30 : decode cX7_find 30 = .ok (.iload_n 2, 1) := dk_28 (dk_at dksX7_find_1 7 rfl rfl)
theorem dX7_find_31 : decode cX7_find 31 = .ok (.istore_n 2, 1) := dk_61 (dk_at dksX7_find_1 8 rfl rfl)
theorem dX7_find_32 : decode cX7_find 32 = .ok (.iinc 3 1, 3) := dk_132 3 1 (dk_at dksX7_find_1 9 rfl rfl)
theorem dX7_find_35 : decode cX7_find 35 = .ok (.goto (-30), 3) := dk_167 255 226 (dk_at dksX7_find_1 12 rfl rfl)
theorem dX7_find_38 : decode cX7_find 38 = .ok (.iload_n 2, 1) := dk_28 (dk_at dksX7_find_1 15 rfl rfl)
theorem dX7_find_39 : decode cX7_find 39 = .ok (.ireturn, 1) := dk_172 (dk_at dksX7_find_1 16 rfl rfl)
abbrev cX7_areAlike : ByteArray := prog_9_method_6_code
def yX7_areAlike : MethodName := ⟨RX7, "areAlike", "(LReadingStages$Shelf;LReadingStages$Shelf;)Z"⟩
def dkwX7_areAlike_1 : List UInt8 := [185, 0, 13, 1, 0, 160, 0, 7, 4, 167, 0, 4, 3, 172]
abbrev dktX7_areAlike_1 : List UInt8 := dkwX7_areAlike_1 ++ []
def dkwX7_areAlike_0 : List UInt8 := [42, 185, 0, 3, 1, 0, 43, 185, 0, 3, 1, 0, 160, 0, 22, 42, 185, 0, 13, 1, 0, 43]
abbrev dktX7_areAlike_0 : List UInt8 := dkwX7_areAlike_0 ++ dktX7_areAlike_1
theorem dksX7_areAlike_0 : cX7_areAlike.data.toList.drop 0 = dktX7_areAlike_0 := by decide +kernel
theorem dksX7_areAlike_1 : cX7_areAlike.data.toList.drop 22 = dktX7_areAlike_1 := dk_seg dksX7_areAlike_0 22 rfl rfl
theorem dX7_areAlike_0 : decode cX7_areAlike 0 = .ok (.aload_n 0, 1) := dk_42 (dk_at dksX7_areAlike_0 0 rfl rfl)
theorem dX7_areAlike_1 : decode cX7_areAlike 1 = .ok (.invokeinterface 3 1, 5) := by decide +kernel
theorem dX7_areAlike_6 : decode cX7_areAlike 6 = .ok (.aload_n 1, 1) := dk_43 (dk_at dksX7_areAlike_0 6 rfl rfl)
theorem dX7_areAlike_7 : decode cX7_areAlike 7 = .ok (.invokeinterface 3 1, 5) := by decide +kernel
theorem dX7_areAlike_12 : decode cX7_areAlike 12 = .ok (.if_icmp .ne 22, 3) := dk_160 0 22 (dk_at dksX7_areAlike_0 12 rfl rfl)
theorem dX7_areAlike_15 : decode cX7_areAlike 15 = .ok (.aload_n 0, 1) := dk_42 (dk_at dksX7_areAlike_0 15 rfl rfl)
theorem dX7_areAlike_16 : decode cX7_areAlike 16 = .ok (.invokeinterface 13 1, 5) := by decide +kernel
theorem dX7_areAlike_21 : decode cX7_areAlike 21 = .ok (.aload_n 1, 1) := dk_43 (dk_at dksX7_areAlike_0 21 rfl rfl)
theorem dX7_areAlike_22 : decode cX7_areAlike 22 = .ok (.invokeinterface 13 1, 5) := by decide +kernel
theorem dX7_areAlike_27 : decode cX7_areAlike 27 = .ok (.if_icmp .ne 7, 3) := dk_160 0 7 (dk_at dksX7_areAlike_1 5 rfl rfl)
theorem dX7_areAlike_30 : decode cX7_areAlike 30 = .ok (.iconst 1, 1) := dk_4 (dk_at dksX7_areAlike_1 8 rfl rfl)
theorem dX7_areAlike_31 : decode cX7_areAlike 31 = .ok (.goto 4, 3) := dk_167 0 4 (dk_at dksX7_areAlike_1 9 rfl rfl)
theorem dX7_areAlike_34 : decode cX7_areAlike 34 = .ok (.iconst 0, 1) := dk_3 (dk_at dksX7_areAlike_1 12 rfl rfl)
theorem dX7_areAlike_35 : decode cX7_areAlike 35 = .ok (.ireturn, 1) := dk_172 (dk_at dksX7_areAlike_1 13 rfl rfl)
theorem q99 : (Jvm.Cond.initialized "ReadingStages$Shelf") ∈ lw_all := lw_g (lw_at lw_m1 14 rfl) rfl
theorem q398 : (Jvm.Cond.interfaceMethod "ReadingStages$Shelf" "ReadingStages$Shelf" "holds" "([B)Z") ∈ lw_tbl := lw_at lw_m2 73 rfl
theorem q399 : (Jvm.Cond.declares ({ cls := "ReadingStages$Shelf", name := "holds", desc := "([B)Z" } : Jvm.MethodName)) ∈ lw_tbl := lw_at lw_m2 74 rfl
theorem q402 : (Jvm.Cond.instanceMethod ({ cls := "ReadingStages$Shelf", name := "holds", desc := "([B)Z" } : Jvm.MethodName)) ∈ lw_all := lw_g (lw_at lw_m2 77 rfl) rfl
theorem q403 : (Jvm.Cond.publicMethod ({ cls := "ReadingStages$Shelf", name := "holds", desc := "([B)Z" } : Jvm.MethodName)) ∈ lw_tbl := lw_at lw_m2 78 rfl
theorem q404 : (Jvm.Cond.code ({ cls := "ReadingStages$Shelf", name := "holds", desc := "([B)Z" } : Jvm.MethodName) prog_9_method_5_code (5 : Nat) (Option.some Jvm.ClassFile.FieldType.boolean)) ∈ lw_all := lw_g (lw_at lw_m2 79 rfl) rfl
theorem q405 : (Jvm.Cond.interfaceEntry "ReadingStages$Shelf" (3 : Nat)) ∈ lw_tbl := lw_at lw_m2 80 rfl
theorem q406 : (Jvm.Cond.methodLink "ReadingStages$Shelf" (3 : Nat) ({ cls := "ReadingStages$Shelf", name := "size", desc := "()I" } : Jvm.MethodName)) ∈ lw_all := lw_g (lw_at lw_m2 81 rfl) rfl
theorem q407 : (Jvm.Cond.interfaceMethod "ReadingStages$Shelf" "ReadingStages$Shelf" "size" "()I") ∈ lw_tbl := lw_at lw_m2 82 rfl
theorem q408 : (Jvm.Cond.declares ({ cls := "ReadingStages$Shelf", name := "size", desc := "()I" } : Jvm.MethodName)) ∈ lw_tbl := lw_at lw_m2 83 rfl
theorem q414 : (Jvm.Cond.interfaceEntry "ReadingStages$Shelf" (9 : Nat)) ∈ lw_tbl := lw_at lw_m2 89 rfl
theorem q415 : (Jvm.Cond.methodLink "ReadingStages$Shelf" (9 : Nat) ({ cls := "ReadingStages$Shelf", name := "at", desc := "(I)I" } : Jvm.MethodName)) ∈ lw_all := lw_g (lw_at lw_m2 90 rfl) rfl
theorem q416 : (Jvm.Cond.interfaceMethod "ReadingStages$Shelf" "ReadingStages$Shelf" "at" "(I)I") ∈ lw_tbl := lw_at lw_m2 91 rfl
theorem q417 : (Jvm.Cond.declares ({ cls := "ReadingStages$Shelf", name := "at", desc := "(I)I" } : Jvm.MethodName)) ∈ lw_tbl := lw_at lw_m2 92 rfl
theorem q513 : (Jvm.Cond.declares ({ cls := "ReadingStages$Shelf", name := "number", desc := "()I" } : Jvm.MethodName)) ∈ lw_tbl := lw_at lw_m2 188 rfl
theorem q515 : (Jvm.Cond.instanceMethod ({ cls := "ReadingStages$Shelf", name := "number", desc := "()I" } : Jvm.MethodName)) ∈ lw_all := lw_g (lw_at lw_m2 190 rfl) rfl
theorem q516 : (Jvm.Cond.publicMethod ({ cls := "ReadingStages$Shelf", name := "number", desc := "()I" } : Jvm.MethodName)) ∈ lw_tbl := lw_at lw_m2 191 rfl
theorem q517 : (Jvm.Cond.code ({ cls := "ReadingStages$Shelf", name := "number", desc := "()I" } : Jvm.MethodName) prog_9_method_3_code (3 : Nat) (Option.some Jvm.ClassFile.FieldType.int)) ∈ lw_all := lw_g (lw_at lw_m2 192 rfl) rfl
theorem q538 : (Jvm.Cond.interfaceMethod "ReadingStages$Shelf" "ReadingStages$Shelf" "number" "()I") ∈ lw_tbl := lw_at lw_m2 213 rfl
theorem q569 : (Jvm.Cond.declares ({ cls := "ReadingStages$Shelf", name := "find", desc := "(I)I" } : Jvm.MethodName)) ∈ lw_tbl := lw_at lw_m3 4 rfl
theorem q571 : (Jvm.Cond.instanceMethod ({ cls := "ReadingStages$Shelf", name := "find", desc := "(I)I" } : Jvm.MethodName)) ∈ lw_all := lw_g (lw_at lw_m3 6 rfl) rfl
theorem q572 : (Jvm.Cond.publicMethod ({ cls := "ReadingStages$Shelf", name := "find", desc := "(I)I" } : Jvm.MethodName)) ∈ lw_tbl := lw_at lw_m3 7 rfl
theorem q573 : (Jvm.Cond.code ({ cls := "ReadingStages$Shelf", name := "find", desc := "(I)I" } : Jvm.MethodName) prog_9_method_4_code (4 : Nat) (Option.some Jvm.ClassFile.FieldType.int)) ∈ lw_all := lw_g (lw_at lw_m3 8 rfl) rfl
theorem q958 : (Jvm.Cond.static ({ cls := "ReadingStages$Shelf", name := "areAlike", desc := "(LReadingStages$Shelf;LReadingStages$Shelf;)Z" } : Jvm.MethodName)) ∈ lw_all := lw_g (lw_at lw_m4 153 rfl) rfl
theorem q959 : (Jvm.Cond.code ({ cls := "ReadingStages$Shelf", name := "areAlike", desc := "(LReadingStages$Shelf;LReadingStages$Shelf;)Z" } : Jvm.MethodName) prog_9_method_6_code (2 : Nat) (Option.some Jvm.ClassFile.FieldType.boolean)) ∈ lw_all := lw_g (lw_at lw_m4 154 rfl) rfl
theorem q960 : (Jvm.Cond.interfaceEntry "ReadingStages$Shelf" (13 : Nat)) ∈ lw_tbl := lw_at lw_m4 155 rfl
theorem q961 : (Jvm.Cond.methodLink "ReadingStages$Shelf" (13 : Nat) ({ cls := "ReadingStages$Shelf", name := "number", desc := "()I" } : Jvm.MethodName)) ∈ lw_all := lw_g (lw_at lw_m4 156 rfl) rfl
