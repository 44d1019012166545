set_option maxRecDepth 100000
/-! BottleLoop -/
set_option maxRecDepth 100000
def RX1 : String := "BottleLoop"
def TX1 : u_T := fun k => match k with
  | 0 => ("BottleLoop", "now", "LBottleLoop$Loop;", false)
  | 1 => ("BottleLoop", "saved", "Ljava/util/ArrayList;", true)
  | 2 => ("BottleLoop", "text", "Ljava/lang/StringBuilder;", true)
  | 3 => ("BottleLoop", "taken", "[I", true)
  | _ => ("BottleLoop", "hash", "J", false)
def tyX1 : Nat → FieldType := fun k => match k with
  | 0 => .object "BottleLoop$Loop"
  | 1 => .object "java/util/ArrayList"
  | 2 => .object "java/lang/StringBuilder"
  | 3 => .array .int
  | _ => .long
abbrev wsX10 : List Cond := u_ws RX1 TX1 5
theorem nmX1 : ∀ a, a < 5 → ∀ b, b < 5 → a ≠ b → (TX1 a).2.1 ≠ (TX1 b).2.1 := by decide +kernel
theorem tyX1_ok : ∀ k, k < 5 → parseFieldDescriptor (TX1 k).2.2.1 = some (tyX1 k) := by decide +kernel
abbrev cX1_init : ByteArray := prog_1_method_6_code
def yX1_init : MethodName := ⟨RX1, "<init>", "()V"⟩
def dkwX1_init_2 : List UInt8 := [177]
abbrev dktX1_init_2 : List UInt8 := dkwX1_init_2 ++ []
def dkwX1_init_1 : List UInt8 := [181, 0, 28, 42, 187, 0, 32, 89, 16, 60, 183, 0, 34, 181, 0, 37, 42, 16, 8, 188, 10, 181, 0, 41]
abbrev dktX1_init_1 : List UInt8 := dkwX1_init_1 ++ dktX1_init_2
def dkwX1_init_0 : List UInt8 := [42, 183, 0, 13, 42, 187, 0, 16, 89, 183, 0, 18, 181, 0, 19, 42, 187, 0, 25, 89, 183, 0, 27]
abbrev dktX1_init_0 : List UInt8 := dkwX1_init_0 ++ dktX1_init_1
theorem dksX1_init_0 : cX1_init.data.toList.drop 0 = dktX1_init_0 := by decide +kernel
theorem dksX1_init_1 : cX1_init.data.toList.drop 23 = dktX1_init_1 := dk_seg dksX1_init_0 23 rfl rfl
theorem dksX1_init_2 : cX1_init.data.toList.drop 47 = dktX1_init_2 := dk_seg dksX1_init_1 24 rfl rfl
theorem dX1_init_0 : decode cX1_init 0 = .ok (.aload_n 0, 1) := dk_42 (dk_at dksX1_init_0 0 rfl rfl)
theorem dX1_init_1 : decode cX1_init 1 = .ok (.invokespecial 13, 3) := dk_183 0 13 (dk_at dksX1_init_0 1 rfl rfl)
theorem dX1_init_4 : decode cX1_init 4 = .ok (.aload_n 0, 1) := dk_42 (dk_at dksX1_init_0 4 rfl rfl)
theorem dX1_init_5 : decode cX1_init 5 = .ok (.new 16, 3) := dk_187 0 16 (dk_at dksX1_init_0 5 rfl rfl)
theorem dX1_init_8 : decode cX1_init 8 = .ok (.dup, 1) := dk_89 (dk_at dksX1_init_0 8 rfl rfl)
theorem dX1_init_9 : decode cX1_init 9 = .ok (.invokespecial 18, 3) := dk_183 0 18 (dk_at dksX1_init_0 9 rfl rfl)
theorem dX1_init_12 : decode cX1_init 12 = .ok (.putfield 19, 3) := dk_181 0 19 (dk_at dksX1_init_0 12 rfl rfl)
theorem dX1_init_15 : decode cX1_init 15 = .ok (.aload_n 0, 1) := dk_42 (dk_at dksX1_init_0 15 rfl rfl)
theorem dX1_init_16 : decode cX1_init 16 = .ok (.new 25, 3) := dk_187 0 25 (dk_at dksX1_init_0 16 rfl rfl)
theorem dX1_init_19 : decode cX1_init 19 = .ok (.dup, 1) := dk_89 (dk_at dksX1_init_0 19 rfl rfl)
theorem dX1_init_20 : decode cX1_init 20 = .ok (.invokespecial 27, 3) := dk_183 0 27 (dk_at dksX1_init_0 20 rfl rfl)
theorem dX1_init_23 : decode cX1_init 23 = .ok (.putfield 28, 3) := dk_181 0 28 (dk_at dksX1_init_1 0 rfl rfl)
theorem dX1_init_26 : decode cX1_init 26 = .ok (.aload_n 0, 1) := dk_42 (dk_at dksX1_init_1 3 rfl rfl)
theorem dX1_init_27 : decode cX1_init 27 = .ok (.new 32, 3) := dk_187 0 32 (dk_at dksX1_init_1 4 rfl rfl)
theorem dX1_init_30 : decode cX1_init 30 = .ok (.dup, 1) := dk_89 (dk_at dksX1_init_1 7 rfl rfl)
theorem dX1_init_31 : decode cX1_init 31 = .ok (.bipush 60, 2) := dk_16 60 (dk_at dksX1_init_1 8 rfl rfl)
theorem dX1_init_33 : decode cX1_init 33 = .ok (.invokespecial 34, 3) := dk_183 0 34 (dk_at dksX1_init_1 10 rfl rfl)
theorem dX1_init_36 : decode cX1_init 36 = .ok (.putfield 37, 3) := dk_181 0 37 (dk_at dksX1_init_1 13 rfl rfl)
theorem dX1_init_39 : decode cX1_init 39 = .ok (.aload_n 0, 1) := dk_42 (dk_at dksX1_init_1 16 rfl rfl)
theorem dX1_init_40 : decode cX1_init 40 = .ok (.bipush 8, 2) := dk_16 8 (dk_at dksX1_init_1 17 rfl rfl)
theorem dX1_init_42 : decode cX1_init 42 = .ok (.newarray .int, 2) := dk_188_10 (dk_at dksX1_init_1 19 rfl rfl)
theorem dX1_init_44 : decode cX1_init 44 = .ok (.putfield 41, 3) := dk_181 0 41 (dk_at dksX1_init_1 21 rfl rfl)
theorem dX1_init_47 : decode cX1_init 47 = .ok (.return_, 1) := dk_177 (dk_at dksX1_init_2 0 rfl rfl)
abbrev cX1_clearBuffer : ByteArray := prog_1_method_35_code
def yX1_clearBuffer : MethodName := ⟨RX1, "clearBuffer", "()I"⟩
def dkwX1_clearBuffer_0 : List UInt8 := [42, 180, 0, 37, 182, 0, 203, 60, 42, 180, 0, 37, 3, 182, 0, 210, 27, 172]
abbrev dktX1_clearBuffer_0 : List UInt8 := dkwX1_clearBuffer_0 ++ []
theorem dksX1_clearBuffer_0 : cX1_clearBuffer.data.toList.drop 0 = dktX1_clearBuffer_0 := by decide +kernel
theorem dX1_clearBuffer_0 : decode cX1_clearBuffer 0 = .ok (.aload_n 0, 1) := dk_42 (dk_at dksX1_clearBuffer_0 0 rfl rfl)
theorem dX1_clearBuffer_1 : decode cX1_clearBuffer 1 = .ok (.getfield 37, 3) := dk_180 0 37 (dk_at dksX1_clearBuffer_0 1 rfl rfl)
theorem dX1_clearBuffer_4 : decode cX1_clearBuffer 4 = .ok (.invokevirtual 203, 3) := dk_182 0 203 (dk_at dksX1_clearBuffer_0 4 rfl rfl)
theorem dX1_clearBuffer_7 : decode cX1_clearBuffer 7 = .ok (.istore_n 1, 1) := dk_60 (dk_at dksX1_clearBuffer_0 7 rfl rfl)
theorem dX1_clearBuffer_8 : decode cX1_clearBuffer 8 = .ok (.aload_n 0, 1) := dk_42 (dk_at dksX1_clearBuffer_0 8 rfl rfl)
theorem dX1_clearBuffer_9 : decode cX1_clearBuffer 9 = .ok (.getfield 37, 3) := dk_180 0 37 (dk_at dksX1_clearBuffer_0 9 rfl rfl)
theorem dX1_clearBuffer_12 : decode cX1_clearBuffer 12 = .ok (.iconst 0, 1) := dk_3 (dk_at dksX1_clearBuffer_0 12 rfl rfl)
theorem dX1_clearBuffer_13 : decode cX1_clearBuffer 13 = .ok (.invokevirtual 210, 3) := dk_182 0 210 (dk_at dksX1_clearBuffer_0 13 rfl rfl)
theorem dX1_clearBuffer_16 : decode cX1_clearBuffer 16 = .ok (.iload_n 1, 1) := dk_27 (dk_at dksX1_clearBuffer_0 16 rfl rfl)
theorem dX1_clearBuffer_17 : decode cX1_clearBuffer 17 = .ok (.ireturn, 1) := dk_172 (dk_at dksX1_clearBuffer_0 17 rfl rfl)
abbrev cX1_firstError : ByteArray := prog_1_method_36_code
def yX1_firstError : MethodName := ⟨RX1, "firstError", "()I"⟩
def dkwX1_firstError_1 : List UInt8 := [167, 0, 7, 43, 180, 0, 222, 172]
abbrev dktX1_firstError_1 : List UInt8 := dkwX1_firstError_1 ++ []
def dkwX1_firstError_0 : List UInt8 := [187, 0, 213, 89, 42, 183, 0, 215, 76, 43, 182, 0, 218, 153, 0, 13, 42, 180, 0, 37, 182, 0, 203]
abbrev dktX1_firstError_0 : List UInt8 := dkwX1_firstError_0 ++ dktX1_firstError_1
theorem dksX1_firstError_0 : cX1_firstError.data.toList.drop 0 = dktX1_firstError_0 := by decide +kernel
theorem dksX1_firstError_1 : cX1_firstError.data.toList.drop 23 = dktX1_firstError_1 := dk_seg dksX1_firstError_0 23 rfl rfl
theorem dX1_firstError_0 : decode cX1_firstError 0 = .ok (.new 213, 3) := dk_187 0 213 (dk_at dksX1_firstError_0 0 rfl rfl)
theorem dX1_firstError_3 : decode cX1_firstError 3 = .ok (.dup, 1) := dk_89 (dk_at dksX1_firstError_0 3 rfl rfl)
theorem dX1_firstError_4 : decode cX1_firstError 4 = .ok (.aload_n 0, 1) := dk_42 (dk_at dksX1_firstError_0 4 rfl rfl)
theorem dX1_firstError_5 : decode cX1_firstError 5 = .ok (.invokespecial 215, 3) := dk_183 0 215 (dk_at dksX1_firstError_0 5 rfl rfl)
theorem dX1_firstError_8 : decode cX1_firstError 8 = .ok (.astore_n 1, 1) := dk_76 (dk_at dksX1_firstError_0 8 rfl rfl)
theorem dX1_firstError_9 : decode cX1_firstError 9 = .ok (.aload_n 1, 1) := dk_43 (dk_at dksX1_firstError_0 9 rfl rfl)
theorem dX1_firstError_10 : decode cX1_firstError 10 = .ok (.invokevirtual 218, 3) := dk_182 0 218 (dk_at dksX1_firstError_0 10 rfl rfl)
theorem dX1_firstError_13 : decode cX1_firstError 13 = .ok (.ifCond .eq 13, 3) := dk_153 0 13 (dk_at dksX1_firstError_0 13 rfl rfl)
theorem dX1_firstError_16 : decode cX1_firstError 16 = .ok (.aload_n 0, 1) := dk_42 (dk_at dksX1_firstError_0 16 rfl rfl)
theorem dX1_firstError_17 : decode cX1_firstError 17 = .ok (.getfield 37, 3) := dk_180 0 37 (dk_at dksX1_firstError_0 17 rfl rfl)
theorem dX1_firstError_20 : decode cX1_firstError 20 = .ok (.invokevirtual 203, 3) := dk_182 0 203 (dk_at dksX1_firstError_0 20 rfl rfl)
theorem dX1_firstError_23 : decode cX1_firstError 23 = .ok (.goto 7, 3) := dk_167 0 7 (dk_at dksX1_firstError_1 0 rfl rfl)
theorem dX1_firstError_26 : decode cX1_firstError 26 = .ok (.aload_n 1, 1) := dk_43 (dk_at dksX1_firstError_1 3 rfl rfl)
theorem dX1_firstError_27 : decode cX1_firstError 27 = .ok (.getfield 222, 3) := dk_180 0 222 (dk_at dksX1_firstError_1 4 rfl rfl)
theorem dX1_firstError_30 : decode cX1_firstError 30 = .ok (.ireturn, 1) := dk_172 (dk_at dksX1_firstError_1 7 rfl rfl)
abbrev cX1_in : ByteArray := prog_1_method_1_code
def yX1_in : MethodName := ⟨RX1, "in", "(III)Z"⟩
def dkwX1_in_0 : List UInt8 := [26, 27, 161, 0, 12, 26, 28, 163, 0, 7, 4, 167, 0, 4, 3, 172]
abbrev dktX1_in_0 : List UInt8 := dkwX1_in_0 ++ []
theorem dksX1_in_0 : cX1_in.data.toList.drop 0 = dktX1_in_0 := by decide +kernel
theorem dX1_in_0 : decode cX1_in 0 = .ok (.iload_n 0, 1) := dk_26 (dk_at dksX1_in_0 0 rfl rfl)
theorem dX1_in_1 : decode cX1_in 1 = .ok (.iload_n 1, 1) := dk_27 (dk_at dksX1_in_0 1 rfl rfl)
theorem dX1_in_2 : decode cX1_in 2 = .ok (.if_icmp .lt 12, 3) := dk_161 0 12 (dk_at dksX1_in_0 2 rfl rfl)
theorem dX1_in_5 : decode cX1_in 5 = .ok (.iload_n 0, 1) := dk_26 (dk_at dksX1_in_0 5 rfl rfl)
theorem dX1_in_6 : decode cX1_in 6 = .ok (.iload_n 2, 1) := dk_28 (dk_at dksX1_in_0 6 rfl rfl)
theorem dX1_in_7 : decode cX1_in 7 = .ok (.if_icmp .gt 7, 3) := dk_163 0 7 (dk_at dksX1_in_0 7 rfl rfl)
theorem dX1_in_10 : decode cX1_in 10 = .ok (.iconst 1, 1) := dk_4 (dk_at dksX1_in_0 10 rfl rfl)
theorem dX1_in_11 : decode cX1_in 11 = .ok (.goto 4, 3) := dk_167 0 4 (dk_at dksX1_in_0 11 rfl rfl)
theorem dX1_in_14 : decode cX1_in 14 = .ok (.iconst 0, 1) := dk_3 (dk_at dksX1_in_0 14 rfl rfl)
theorem dX1_in_15 : decode cX1_in 15 = .ok (.ireturn, 1) := dk_172 (dk_at dksX1_in_0 15 rfl rfl)
abbrev cX1_goneShare : ByteArray := prog_1_method_62_code
def yX1_goneShare : MethodName := ⟨RX1, "goneShare", "()D"⟩
theorem dX1_goneShare_0 : decode cX1_goneShare 0 = .ok (.aload_n 0, 1) := by decide +kernel
theorem dX1_goneShare_1 : decode cX1_goneShare 1 = .ok (.invokevirtual 379, 3) := by decide +kernel
theorem dX1_goneShare_4 : decode cX1_goneShare 4 = .ok (.dreturn, 1) := by decide +kernel
abbrev cX1_goneTold : ByteArray := prog_1_method_61_code
def yX1_goneTold : MethodName := ⟨RX1, "goneTold", "()D"⟩
def dkwX1_goneTold_3 : List UInt8 := [167, 255, 193, 28, 154, 0, 7, 14, 167, 0, 8, 27, 135, 28, 135, 111, 175]
abbrev dktX1_goneTold_3 : List UInt8 := dkwX1_goneTold_3 ++ []
def dkwX1_goneTold_2 : List UInt8 := [16, 10, 162, 0, 19, 28, 42, 29, 21, 4, 182, 1, 42, 96, 61, 132, 4, 1, 167, 255, 236, 132, 3, 1]
abbrev dktX1_goneTold_2 : List UInt8 := dkwX1_goneTold_2 ++ dktX1_goneTold_3
def dkwX1_goneTold_1 : List UInt8 := [180, 0, 19, 180, 0, 70, 29, 182, 0, 103, 192, 0, 94, 182, 1, 120, 96, 60, 4, 54, 4, 21, 4]
abbrev dktX1_goneTold_1 : List UInt8 := dkwX1_goneTold_1 ++ dktX1_goneTold_2
def dkwX1_goneTold_0 : List UInt8 := [3, 60, 3, 61, 3, 62, 29, 42, 180, 0, 19, 180, 0, 70, 182, 0, 45, 162, 0, 55, 27, 42]
abbrev dktX1_goneTold_0 : List UInt8 := dkwX1_goneTold_0 ++ dktX1_goneTold_1
theorem dksX1_goneTold_0 : cX1_goneTold.data.toList.drop 0 = dktX1_goneTold_0 := by decide +kernel
theorem dksX1_goneTold_1 : cX1_goneTold.data.toList.drop 22 = dktX1_goneTold_1 := dk_seg dksX1_goneTold_0 22 rfl rfl
theorem dksX1_goneTold_2 : cX1_goneTold.data.toList.drop 45 = dktX1_goneTold_2 := dk_seg dksX1_goneTold_1 23 rfl rfl
theorem dksX1_goneTold_3 : cX1_goneTold.data.toList.drop 69 = dktX1_goneTold_3 := dk_seg dksX1_goneTold_2 24 rfl rfl
theorem dX1_goneTold_0 : decode cX1_goneTold 0 = .ok (.iconst 0, 1) := dk_3 (dk_at dksX1_goneTold_0 0 rfl rfl)
theorem dX1_goneTold_1 : decode cX1_goneTold 1 = .ok (.istore_n 1, 1) := dk_60 (dk_at dksX1_goneTold_0 1 rfl rfl)
theorem dX1_goneTold_2 : decode cX1_goneTold 2 = .ok (.iconst 0, 1) := dk_3 (dk_at dksX1_goneTold_0 2 rfl rfl)
theorem dX1_goneTold_3 : decode cX1_goneTold 3 = .ok (.istore_n 2, 1) := dk_61 (dk_at dksX1_goneTold_0 3 rfl rfl)
theorem dX1_goneTold_4 : decode cX1_goneTold 4 = .ok (.iconst 0, 1) := dk_3 (dk_at dksX1_goneTold_0 4 rfl rfl)
theorem dX1_goneTold_5 : decode cX1_goneTold 5 = .ok (.istore_n 3, 1) := dk_62 (dk_at dksX1_goneTold_0 5 rfl rfl)
theorem dX1_goneTold_6 : decode cX1_goneTold 6 = .ok (.iload_n 3, 1) := dk_29 (dk_at dksX1_goneTold_0 6 rfl rfl)
theorem dX1_goneTold_7 : decode cX1_goneTold 7 = .ok (.aload_n 0, 1) := dk_42 (dk_at dksX1_goneTold_0 7 rfl rfl)
theorem dX1_goneTold_8 : decode cX1_goneTold 8 = .ok (.getfield 19, 3) := dk_180 0 19 (dk_at dksX1_goneTold_0 8 rfl rfl)
theorem dX1_goneTold_11 : decode cX1_goneTold 11 = .ok (.getfield 70, 3) := dk_180 0 70 (dk_at dksX1_goneTold_0 11 rfl rfl)
theorem dX1_goneTold_14 : decode cX1_goneTold 14 = .ok (.invokevirtual 45, 3) := dk_182 0 45 (dk_at dksX1_goneTold_0 14 rfl rfl)
theorem dX1_goneTold_17 : decode cX1_goneTold 17 = .ok (.if_icmp .ge 55, 3) := dk_162 0 55 (dk_at dksX1_goneTold_0 17 rfl rfl)
theorem dX1_goneTold_20 : decode cX1_goneTold 20 = .ok (.iload_n 1, 1) := dk_27 (dk_at dksX1_goneTold_0 20 rfl rfl)
theorem dX1_goneTold_21 : decode cX1_goneTold 21 = .ok (.aload_n 0, 1) := dk_42 (dk_at dksX1_goneTold_0 21 rfl rfl)
theorem dX1_goneTold_22 : decode cX1_goneTold 22 = .ok (.getfield 19, 3) := dk_180 0 19 (dk_at dksX1_goneTold_1 0 rfl rfl)
theorem dX1_goneTold_25 : decode cX1_goneTold 25 = .ok (.getfield 70, 3) := dk_180 0 70 (dk_at dksX1_goneTold_1 3 rfl rfl)
theorem dX1_goneTold_28 : decode cX1_goneTold 28 = .ok (.iload_n 3, 1) := dk_29 (dk_at dksX1_goneTold_1 6 rfl rfl)
theorem dX1_goneTold_29 : decode cX1_goneTold 29 = .ok (.invokevirtual 103, 3) := dk_182 0 103 (dk_at dksX1_goneTold_1 7 rfl rfl)
theorem dX1_goneTold_32 : decode cX1_goneTold 32 = .ok (.checkcast 94, 3) := dk_192 0 94 (dk_at dksX1_goneTold_1 10 rfl rfl)
theorem dX1_goneTold_35 : decode cX1_goneTold 35 = .ok (.invokevirtual 376, 3) := dk_182 1 120 (dk_at dksX1_goneTold_1 13 rfl rfl)
theorem dX1_goneTold_38 : decode cX1_goneTold 38 = .ok (.iadd, 1) := dk_96 (dk_at dksX1_goneTold_1 16 rfl rfl)
theorem dX1_goneTold_39 : decode cX1_goneTold 39 = .ok (.istore_n 1, 1) := dk_60 (dk_at dksX1_goneTold_1 17 rfl rfl)
theorem dX1_goneTold_40 : decode cX1_goneTold 40 = .ok (.iconst 1, 1) := dk_4 (dk_at dksX1_goneTold_1 18 rfl rfl)
theorem dX1_goneTold_41 : decode cX1_goneTold 41 = .ok (.istore 4, 2) := dk_54 4 (dk_at dksX1_goneTold_1 19 rfl rfl)
theorem dX1_goneTold_43 : decode cX1_goneTold 43 = .ok (.iload 4, 2) := dk_21 4 (dk_at dksX1_goneTold_1 21 rfl rfl)
theorem dX1_goneTold_45 : decode cX1_goneTold 45 = .ok (.bipush 10, 2) := dk_16 10 (dk_at dksX1_goneTold_2 0 rfl rfl)
theorem dX1_goneTold_47 : decode cX1_goneTold 47 = .ok (.if_icmp .ge 19, 3) := dk_162 0 19 (dk_at dksX1_goneTold_2 2 rfl rfl)
theorem dX1_goneTold_50 : decode cX1_goneTold 50 = .ok (.iload_n 2, 1) := dk_28 (dk_at dksX1_goneTold_2 5 rfl rfl)
theorem dX1_goneTold_51 : decode cX1_goneTold 51 = .ok (.aload_n 0, 1) := dk_42 (dk_at dksX1_goneTold_2 6 rfl rfl)
theorem dX1_goneTold_52 : decode cX1_goneTold 52 = .ok (.iload_n 3, 1) := dk_29 (dk_at dksX1_goneTold_2 7 rfl rfl)
theorem dX1_goneTold_53 : decode cX1_goneTold 53 = .ok (.iload 4, 2) := dk_21 4 (dk_at dksX1_goneTold_2 8 rfl rfl)
theorem dX1_goneTold_55 : decode cX1_goneTold 55 = .ok (.invokevirtual 298, 3) := dk_182 1 42 (dk_at dksX1_goneTold_2 10 rfl rfl)
theorem dX1_goneTold_58 : decode cX1_goneTold 58 = .ok (.iadd, 1) := dk_96 (dk_at dksX1_goneTold_2 13 rfl rfl)
theorem dX1_goneTold_59 : decode cX1_goneTold 59 = .ok (.istore_n 2, 1) := dk_61 (dk_at dksX1_goneTold_2 14 rfl rfl)
theorem dX1_goneTold_60 : decode cX1_goneTold 60 = .ok (.iinc 4 1, 3) := dk_132 4 1 (dk_at dksX1_goneTold_2 15 rfl rfl)
theorem dX1_goneTold_63 : decode cX1_goneTold 63 = .ok (.goto (-20), 3) := dk_167 255 236 (dk_at dksX1_goneTold_2 18 rfl rfl)
theorem dX1_goneTold_66 : decode cX1_goneTold 66 = .ok (.iinc 3 1, 3) := dk_132 3 1 (dk_at dksX1_goneTold_2 21 rfl rfl)
theorem dX1_goneTold_69 : decode cX1_goneTold 69 = .ok (.goto (-63), 3) := dk_167 255 193 (dk_at dksX1_goneTold_3 0 rfl rfl)
theorem dX1_goneTold_72 : decode cX1_goneTold 72 = .ok (.iload_n 2, 1) := dk_28 (dk_at dksX1_goneTold_3 3 rfl rfl)
theorem dX1_goneTold_73 : decode cX1_goneTold 73 = .ok (.ifCond .ne 7, 3) := dk_154 0 7 (dk_at dksX1_goneTold_3 4 rfl rfl)
theorem dX1_goneTold_76 : decode cX1_goneTold 76 = .ok (.dconst 0, 1) := dk_14 (dk_at dksX1_goneTold_3 7 rfl rfl)
theorem dX1_goneTold_77 : decode cX1_goneTold 77 = .ok (.goto 8, 3) := dk_167 0 8 (dk_at dksX1_goneTold_3 8 rfl rfl)
theorem dX1_goneTold_80 : decode cX1_goneTold 80 = .ok (.iload_n 1, 1) := dk_27 (dk_at dksX1_goneTold_3 11 rfl rfl)
theorem dX1_goneTold_81 : decode cX1_goneTold 81 = .ok (.i2d, 1) := dk_135 (dk_at dksX1_goneTold_3 12 rfl rfl)
theorem dX1_goneTold_82 : decode cX1_goneTold 82 = .ok (.iload_n 2, 1) := dk_28 (dk_at dksX1_goneTold_3 13 rfl rfl)
theorem dX1_goneTold_83 : decode cX1_goneTold 83 = .ok (.i2d, 1) := dk_135 (dk_at dksX1_goneTold_3 14 rfl rfl)
theorem dX1_goneTold_84 : decode cX1_goneTold 84 = .ok (.ddiv, 1) := dk_111 (dk_at dksX1_goneTold_3 15 rfl rfl)
theorem dX1_goneTold_85 : decode cX1_goneTold 85 = .ok (.dreturn, 1) := dk_175 (dk_at dksX1_goneTold_3 16 rfl rfl)
abbrev cX1_brandTold : ByteArray := prog_1_method_41_code
def yX1_brandTold : MethodName := ⟨RX1, "brandTold", "(II)I"⟩
def dkwX1_brandTold_4 : List UInt8 := [180, 1, 30, 172, 45, 180, 1, 33, 172, 45, 180, 1, 36, 172, 45, 180, 1, 39, 172]
abbrev dktX1_brandTold_4 : List UInt8 := dkwX1_brandTold_4 ++ []
def dkwX1_brandTold_3 : List UInt8 := [167, 0, 4, 3, 182, 1, 17, 172, 45, 180, 1, 21, 172, 45, 180, 1, 24, 172, 45, 180, 1, 27, 172, 45]
abbrev dktX1_brandTold_3 : List UInt8 := dkwX1_brandTold_3 ++ dktX1_brandTold_4
def dkwX1_brandTold_2 : List UInt8 := [45, 180, 0, 196, 172, 45, 180, 1, 13, 172, 45, 180, 1, 15, 172, 42, 27, 28, 6, 160, 0, 7, 4]
abbrev dktX1_brandTold_2 : List UInt8 := dkwX1_brandTold_2 ++ dktX1_brandTold_3
def dkwX1_brandTold_1 : List UInt8 := [170, 0, 0, 0, 0, 0, 0, 121, 0, 0, 0, 0, 0, 0, 0, 10, 0, 0, 0, 60, 0, 0, 0, 65, 0, 0, 0, 70, 0, 0, 0, 75, 0, 0, 0, 75, 0, 0, 0, 91, 0, 0, 0, 96, 0, 0, 0, 101, 0, 0, 0, 106, 0, 0, 0, 111, 0, 0, 0, 116]
abbrev dktX1_brandTold_1 : List UInt8 := dkwX1_brandTold_1 ++ dktX1_brandTold_2
def dkwX1_brandTold_0 : List UInt8 := [42, 180, 0, 19, 180, 0, 70, 27, 182, 0, 103, 192, 0, 94, 78, 28]
abbrev dktX1_brandTold_0 : List UInt8 := dkwX1_brandTold_0 ++ dktX1_brandTold_1
theorem dksX1_brandTold_0 : cX1_brandTold.data.toList.drop 0 = dktX1_brandTold_0 := by decide +kernel
theorem dksX1_brandTold_1 : cX1_brandTold.data.toList.drop 16 = dktX1_brandTold_1 := dk_seg dksX1_brandTold_0 16 rfl rfl
theorem dksX1_brandTold_2 : cX1_brandTold.data.toList.drop 76 = dktX1_brandTold_2 := dk_seg dksX1_brandTold_1 60 rfl rfl
theorem dksX1_brandTold_3 : cX1_brandTold.data.toList.drop 99 = dktX1_brandTold_3 := dk_seg dksX1_brandTold_2 23 rfl rfl
theorem dksX1_brandTold_4 : cX1_brandTold.data.toList.drop 123 = dktX1_brandTold_4 := dk_seg dksX1_brandTold_3 24 rfl rfl
theorem dX1_brandTold_0 : decode cX1_brandTold 0 = .ok (.aload_n 0, 1) := dk_42 (dk_at dksX1_brandTold_0 0 rfl rfl)
theorem dX1_brandTold_1 : decode cX1_brandTold 1 = .ok (.getfield 19, 3) := dk_180 0 19 (dk_at dksX1_brandTold_0 1 rfl rfl)
theorem dX1_brandTold_4 : decode cX1_brandTold 4 = .ok (.getfield 70, 3) := dk_180 0 70 (dk_at dksX1_brandTold_0 4 rfl rfl)
theorem dX1_brandTold_7 : decode cX1_brandTold 7 = .ok (.iload_n 1, 1) := dk_27 (dk_at dksX1_brandTold_0 7 rfl rfl)
theorem dX1_brandTold_8 : decode cX1_brandTold 8 = .ok (.invokevirtual 103, 3) := dk_182 0 103 (dk_at dksX1_brandTold_0 8 rfl rfl)
theorem dX1_brandTold_11 : decode cX1_brandTold 11 = .ok (.checkcast 94, 3) := dk_192 0 94 (dk_at dksX1_brandTold_0 11 rfl rfl)
theorem dX1_brandTold_14 : decode cX1_brandTold 14 = .ok (.astore_n 3, 1) := dk_78 (dk_at dksX1_brandTold_0 14 rfl rfl)
theorem dX1_brandTold_15 : decode cX1_brandTold 15 = .ok (.iload_n 2, 1) := dk_28 (dk_at dksX1_brandTold_0 15 rfl rfl)
theorem dX1_brandTold_16 : decode cX1_brandTold 16 = .ok (.tableswitch 121 0 10 #[60, 65, 70, 75, 75, 91, 96, 101, 106, 111, 116], 60) := by decide +kernel
theorem dX1_brandTold_76 : decode cX1_brandTold 76 = .ok (.aload_n 3, 1) := dk_45 (dk_at dksX1_brandTold_2 0 rfl rfl)
theorem dX1_brandTold_77 : decode cX1_brandTold 77 = .ok (.getfield 196, 3) := dk_180 0 196 (dk_at dksX1_brandTold_2 1 rfl rfl)
theorem dX1_brandTold_80 : decode cX1_brandTold 80 = .ok (.ireturn, 1) := dk_172 (dk_at dksX1_brandTold_2 4 rfl rfl)
theorem dX1_brandTold_81 : decode cX1_brandTold 81 = .ok (.aload_n 3, 1) := dk_45 (dk_at dksX1_brandTold_2 5 rfl rfl)
theorem dX1_brandTold_82 : decode cX1_brandTold 82 = .ok (.getfield 269, 3) := dk_180 1 13 (dk_at dksX1_brandTold_2 6 rfl rfl)
theorem dX1_brandTold_85 : decode cX1_brandTold 85 = .ok (.ireturn, 1) := dk_172 (dk_at dksX1_brandTold_2 9 rfl rfl)
theorem dX1_brandTold_86 : decode cX1_brandTold 86 = .ok (.aload_n 3, 1) := dk_45 (dk_at dksX1_brandTold_2 10 rfl rfl)
theorem dX1_brandTold_87 : decode cX1_brandTold 87 = .ok (.getfield 271, 3) := dk_180 1 15 (dk_at dksX1_brandTold_2 11 rfl rfl)
theorem dX1_brandTold_90 : decode cX1_brandTold 90 = .ok (.ireturn, 1) := dk_172 (dk_at dksX1_brandTold_2 14 rfl rfl)
theorem dX1_brandTold_91 : decode cX1_brandTold 91 = .ok (.aload_n 0, 1) := dk_42 (dk_at dksX1_brandTold_2 15 rfl rfl)
theorem dX1_brandTold_92 : decode cX1_brandTold 92 = .ok (.iload_n 1, 1) := dk_27 (dk_at dksX1_brandTold_2 16 rfl rfl)
theorem dX1_brandTold_93 : decode cX1_brandTold 93 = .ok (.iload_n 2, 1) := dk_28 (dk_at dksX1_brandTold_2 17 rfl rfl)
theorem dX1_brandTold_94 : decode cX1_brandTold 94 = .ok (.iconst 3, 1) := dk_6 (dk_at dksX1_brandTold_2 18 rfl rfl)
theorem dX1_brandTold_95 : decode cX1_brandTold 95 = .ok (.if_icmp .ne 7, 3) := dk_160 0 7 (dk_at dksX1_brandTold_2 19 rfl rfl)
theorem dX1_brandTold_98 : decode cX1_brandTold 98 = .ok (.iconst 1, 1) := dk_4 (dk_at dksX1_brandTold_2 22 rfl rfl)
theorem dX1_brandTold_99 : decode cX1_brandTold 99 = .ok (.goto 4, 3) := dk_167 0 4 (dk_at dksX1_brandTold_3 0 rfl rfl)
theorem dX1_brandTold_102 : decode cX1_brandTold 102 = .ok (.iconst 0, 1) := dk_3 (dk_at dksX1_brandTold_3 3 rfl rfl)
theorem dX1_brandTold_103 : decode cX1_brandTold 103 = .ok (.invokevirtual 273, 3) := dk_182 1 17 (dk_at dksX1_brandTold_3 4 rfl rfl)
theorem dX1_brandTold_106 : decode cX1_brandTold 106 = .ok (.ireturn, 1) := dk_172 (dk_at dksX1_brandTold_3 7 rfl rfl)
theorem dX1_brandTold_107 : decode cX1_brandTold 107 = .ok (.aload_n 3, 1) := dk_45 (dk_at dksX1_brandTold_3 8 rfl rfl)
theorem dX1_brandTold_108 : decode cX1_brandTold 108 = .ok (.getfield 277, 3) := dk_180 1 21 (dk_at dksX1_brandTold_3 9 rfl rfl)
theorem dX1_brandTold_111 : decode cX1_brandTold 111 = .ok (.ireturn, 1) := dk_172 (dk_at dksX1_brandTold_3 12 rfl rfl)
theorem dX1_brandTold_112 : decode cX1_brandTold 112 = .ok (.aload_n 3, 1) := dk_45 (dk_at dksX1_brandTold_3 13 rfl rfl)
theorem dX1_brandTold_113 : decode cX1_brandTold 113 = .ok (.getfield 280, 3) := dk_180 1 24 (dk_at dksX1_brandTold_3 14 rfl rfl)
theorem dX1_brandTold_116 : decode cX1_brandTold 116 = .ok (.ireturn, 1) := dk_172 (dk_at dksX1_brandTold_3 17 rfl rfl)
theorem dX1_brandTold_117 : decode cX1_brandTold 117 = .ok (.aload_n 3, 1) := dk_45 (dk_at dksX1_brandTold_3 18 rfl rfl)
theorem dX1_brandTold_118 : decode cX1_brandTold 118 = .ok (.getfield 283, 3) := dk_180 1 27 (dk_at dksX1_brandTold_3 19 rfl rfl)
theorem dX1_brandTold_121 : decode cX1_brandTold 121 = .ok (.ireturn, 1) := dk_172 (dk_at dksX1_brandTold_3 22 rfl rfl)
theorem dX1_brandTold_122 : decode cX1_brandTold 122 = .ok (.aload_n 3, 1) := dk_45 (dk_at dksX1_brandTold_3 23 rfl rfl)
theorem dX1_brandTold_123 : decode cX1_brandTold 123 = .ok (.getfield 286, 3) := dk_180 1 30 (dk_at dksX1_brandTold_4 0 rfl rfl)
theorem dX1_brandTold_126 : decode cX1_brandTold 126 = .ok (.ireturn, 1) := dk_172 (dk_at dksX1_brandTold_4 3 rfl rfl)
theorem dX1_brandTold_127 : decode cX1_brandTold 127 = .ok (.aload_n 3, 1) := dk_45 (dk_at dksX1_brandTold_4 4 rfl rfl)
theorem dX1_brandTold_128 : decode cX1_brandTold 128 = .ok (.getfield 289, 3) := dk_180 1 33 (dk_at dksX1_brandTold_4 5 rfl rfl)
theorem dX1_brandTold_131 : decode cX1_brandTold 131 = .ok (.ireturn, 1) := dk_172 (dk_at dksX1_brandTold_4 8 rfl rfl)
theorem dX1_brandTold_132 : decode cX1_brandTold 132 = .ok (.aload_n 3, 1) := dk_45 (dk_at dksX1_brandTold_4 9 rfl rfl)
theorem dX1_brandTold_133 : decode cX1_brandTold 133 = .ok (.getfield 292, 3) := dk_180 1 36 (dk_at dksX1_brandTold_4 10 rfl rfl)
theorem dX1_brandTold_136 : decode cX1_brandTold 136 = .ok (.ireturn, 1) := dk_172 (dk_at dksX1_brandTold_4 13 rfl rfl)
theorem dX1_brandTold_137 : decode cX1_brandTold 137 = .ok (.aload_n 3, 1) := dk_45 (dk_at dksX1_brandTold_4 14 rfl rfl)
theorem dX1_brandTold_138 : decode cX1_brandTold 138 = .ok (.getfield 295, 3) := dk_180 1 39 (dk_at dksX1_brandTold_4 15 rfl rfl)
theorem dX1_brandTold_141 : decode cX1_brandTold 141 = .ok (.ireturn, 1) := dk_172 (dk_at dksX1_brandTold_4 18 rfl rfl)
abbrev cX1_inShops : ByteArray := prog_1_method_40_code
def yX1_inShops : MethodName := ⟨RX1, "inShops", "(IZ)I"⟩
def dkwX1_inShops_3 : List UInt8 := [62, 132, 4, 1, 167, 255, 188, 29, 172]
abbrev dktX1_inShops_3 : List UInt8 := dkwX1_inShops_3 ++ []
def dkwX1_inShops_2 : List UInt8 := [167, 0, 23, 42, 180, 0, 19, 180, 0, 77, 21, 4, 182, 0, 103, 192, 0, 100, 180, 1, 10, 27, 46, 96]
abbrev dktX1_inShops_2 : List UInt8 := dkwX1_inShops_2 ++ dktX1_inShops_3
def dkwX1_inShops_1 : List UInt8 := [153, 0, 26, 42, 180, 0, 19, 180, 0, 77, 21, 4, 182, 0, 103, 192, 0, 100, 180, 1, 7, 27, 46]
abbrev dktX1_inShops_1 : List UInt8 := dkwX1_inShops_1 ++ dktX1_inShops_2
def dkwX1_inShops_0 : List UInt8 := [3, 62, 3, 54, 4, 21, 4, 42, 180, 0, 19, 180, 0, 77, 182, 0, 45, 162, 0, 59, 29, 28]
abbrev dktX1_inShops_0 : List UInt8 := dkwX1_inShops_0 ++ dktX1_inShops_1
theorem dksX1_inShops_0 : cX1_inShops.data.toList.drop 0 = dktX1_inShops_0 := by decide +kernel
theorem dksX1_inShops_1 : cX1_inShops.data.toList.drop 22 = dktX1_inShops_1 := dk_seg dksX1_inShops_0 22 rfl rfl
theorem dksX1_inShops_2 : cX1_inShops.data.toList.drop 45 = dktX1_inShops_2 := dk_seg dksX1_inShops_1 23 rfl rfl
theorem dksX1_inShops_3 : cX1_inShops.data.toList.drop 69 = dktX1_inShops_3 := dk_seg dksX1_inShops_2 24 rfl rfl
theorem dX1_inShops_0 : decode cX1_inShops 0 = .ok (.iconst 0, 1) := dk_3 (dk_at dksX1_inShops_0 0 rfl rfl)
theorem dX1_inShops_1 : decode cX1_inShops 1 = .ok (.istore_n 3, 1) := dk_62 (dk_at dksX1_inShops_0 1 rfl rfl)
theorem dX1_inShops_2 : decode cX1_inShops 2 = .ok (.iconst 0, 1) := dk_3 (dk_at dksX1_inShops_0 2 rfl rfl)
theorem dX1_inShops_3 : decode cX1_inShops 3 = .ok (.istore 4, 2) := dk_54 4 (dk_at dksX1_inShops_0 3 rfl rfl)
theorem dX1_inShops_5 : decode cX1_inShops 5 = .ok (.iload 4, 2) := dk_21 4 (dk_at dksX1_inShops_0 5 rfl rfl)
theorem dX1_inShops_7 : decode cX1_inShops 7 = .ok (.aload_n 0, 1) := dk_42 (dk_at dksX1_inShops_0 7 rfl rfl)
theorem dX1_inShops_8 : decode cX1_inShops 8 = .ok (.getfield 19, 3) := dk_180 0 19 (dk_at dksX1_inShops_0 8 rfl rfl)
theorem dX1_inShops_11 : decode cX1_inShops 11 = .ok (.getfield 77, 3) := dk_180 0 77 (dk_at dksX1_inShops_0 11 rfl rfl)
theorem dX1_inShops_14 : decode cX1_inShops 14 = .ok (.invokevirtual 45, 3) := dk_182 0 45 (dk_at dksX1_inShops_0 14 rfl rfl)
theorem dX1_inShops_17 : decode cX1_inShops 17 = .ok (.if_icmp .ge 59, 3) := dk_162 0 59 (dk_at dksX1_inShops_0 17 rfl rfl)
theorem dX1_inShops_20 : decode cX1_inShops 20 = .ok (.iload_n 3, 1) := dk_29 (dk_at dksX1_inShops_0 20 rfl rfl)
theorem dX1_inShops_21 : decode cX1_inShops 21 = .ok (.iload_n 2, 1) := dk_28 (dk_at dksX1_inShops_0 21 rfl rfl)
theorem dX1_inShops_22 : decode cX1_inShops 22 = .ok (.ifCond .eq 26, 3) := dk_153 0 26 (dk_at dksX1_inShops_1 0 rfl rfl)
theorem dX1_inShops_25 : decode cX1_inShops 25 = .ok (.aload_n 0, 1) := dk_42 (dk_at dksX1_inShops_1 3 rfl rfl)
theorem dX1_inShops_26 : decode cX1_inShops 26 = .ok (.getfield 19, 3) := dk_180 0 19 (dk_at dksX1_inShops_1 4 rfl rfl)
theorem dX1_inShops_29 : decode cX1_inShops 29 = .ok (.getfield 77, 3) := dk_180 0 77 (dk_at dksX1_inShops_1 7 rfl rfl)
theorem dX1_inShops_32 : decode cX1_inShops 32 = .ok (.iload 4, 2) := dk_21 4 (dk_at dksX1_inShops_1 10 rfl rfl)
theorem dX1_inShops_34 : decode cX1_inShops 34 = .ok (.invokevirtual 103, 3) := dk_182 0 103 (dk_at dksX1_inShops_1 12 rfl rfl)
theorem dX1_inShops_37 : decode cX1_inShops 37 = .ok (.checkcast 100, 3) := dk_192 0 100 (dk_at dksX1_inShops_1 15 rfl rfl)
theorem dX1_inShops_40 : decode cX1_inShops 40 = .ok (.getfield 263, 3) := dk_180 1 7 (dk_at dksX1_inShops_1 18 rfl rfl)
theorem dX1_inShops_43 : decode cX1_inShops 43 = .ok (.iload_n 1, 1) := dk_27 (dk_at dksX1_inShops_1 21 rfl rfl)
theorem dX1_inShops_44 : decode cX1_inShops 44 = .ok (.iaload, 1) := dk_46 (dk_at dksX1_inShops_1 22 rfl rfl)
theorem dX1_inShops_45 : decode cX1_inShops 45 = .ok (.goto 23, 3) := dk_167 0 23 (dk_at dksX1_inShops_2 0 rfl rfl)
theorem dX1_inShops_48 : decode cX1_inShops 48 = .ok (.aload_n 0, 1) := dk_42 (dk_at dksX1_inShops_2 3 rfl rfl)
theorem dX1_inShops_49 : decode cX1_inShops 49 = .ok (.getfield 19, 3) := dk_180 0 19 (dk_at dksX1_inShops_2 4 rfl rfl)
theorem dX1_inShops_52 : decode cX1_inShops 52 = .ok (.getfield 77, 3) := dk_180 0 77 (dk_at dksX1_inShops_2 7 rfl rfl)
theorem dX1_inShops_55 : decode cX1_inShops 55 = .ok (.iload 4, 2) := dk_21 4 (dk_at dksX1_inShops_2 10 rfl rfl)
theorem dX1_inShops_57 : decode cX1_inShops 57 = .ok (.invokevirtual 103, 3) := dk_182 0 103 (dk_at dksX1_inShops_2 12 rfl rfl)
theorem dX1_inShops_60 : decode cX1_inShops 60 = .ok (.checkcast 100, 3) := dk_192 0 100 (dk_at dksX1_inShops_2 15 rfl rfl)
theorem dX1_inShops_63 : decode cX1_inShops 63 = .ok (.getfield 266, 3) := dk_180 1 10 (dk_at dksX1_inShops_2 18 rfl rfl)
theorem dX1_inShops_66 : decode cX1_inShops 66 = .ok (.iload_n 1, 1) := dk_27 (dk_at dksX1_inShops_2 21 rfl rfl)
theorem dX1_inShops_67 : decode cX1_inShops 67 = .ok (.iaload, 1) := dk_46 (dk_at dksX1_inShops_2 22 rfl rfl)
theorem dX1_inShops_68 : decode cX1_inShops 68 = .ok (.iadd, 1) := dk_96 (dk_at dksX1_inShops_2 23 rfl rfl)
theorem dX1_inShops_69 : decode cX1_inShops 69 = .ok (.istore_n 3, 1) := dk_62 (dk_at dksX1_inShops_3 0 rfl rfl)
theorem dX1_inShops_70 : decode cX1_inShops 70 = .ok (.iinc 4 1, 3) := dk_132 4 1 (dk_at dksX1_inShops_3 1 rfl rfl)
theorem dX1_inShops_73 : decode cX1_inShops 73 = .ok (.goto (-68), 3) := dk_167 255 188 (dk_at dksX1_inShops_3 4 rfl rfl)
theorem dX1_inShops_76 : decode cX1_inShops 76 = .ok (.iload_n 3, 1) := dk_29 (dk_at dksX1_inShops_3 7 rfl rfl)
theorem dX1_inShops_77 : decode cX1_inShops 77 = .ok (.ireturn, 1) := dk_172 (dk_at dksX1_inShops_3 8 rfl rfl)
abbrev cX1_digest : ByteArray := prog_1_method_65_code
def yX1_digest : MethodName := ⟨RX1, "digest", "()J"⟩
def dkwX1_digest_8 : List UInt8 := [180, 0, 37, 27, 182, 1, 148, 133, 182, 1, 133, 132, 1, 1, 167, 255, 229, 42, 180, 1, 129, 173]
abbrev dktX1_digest_8 : List UInt8 := dkwX1_digest_8 ++ []
def dkwX1_digest_7 : List UInt8 := [182, 0, 203, 133, 182, 1, 133, 3, 60, 27, 42, 180, 0, 37, 182, 0, 203, 162, 0, 22, 42, 42]
abbrev dktX1_digest_7 : List UInt8 := dkwX1_digest_7 ++ dktX1_digest_8
def dkwX1_digest_6 : List UInt8 := [132, 1, 1, 167, 255, 205, 42, 42, 182, 1, 123, 184, 1, 142, 182, 1, 133, 42, 42, 180, 0, 37]
abbrev dktX1_digest_6 : List UInt8 := dkwX1_digest_6 ++ dktX1_digest_7
def dkwX1_digest_5 : List UInt8 := [182, 0, 45, 162, 0, 21, 42, 42, 27, 28, 4, 182, 1, 104, 133, 182, 1, 133, 132, 2, 1, 167, 255, 227]
abbrev dktX1_digest_5 : List UInt8 := dkwX1_digest_5 ++ dktX1_digest_6
def dkwX1_digest_4 : List UInt8 := [180, 0, 19, 180, 0, 77, 182, 0, 45, 162, 0, 43, 3, 61, 28, 42, 180, 0, 19, 180, 0, 70]
abbrev dktX1_digest_4 : List UInt8 := dkwX1_digest_4 ++ dktX1_digest_5
def dkwX1_digest_3 : List UInt8 := [162, 0, 19, 42, 42, 27, 182, 1, 117, 133, 182, 1, 133, 132, 1, 1, 167, 255, 238, 3, 60, 27, 42]
abbrev dktX1_digest_3 : List UInt8 := dkwX1_digest_3 ++ dktX1_digest_4
def dkwX1_digest_2 : List UInt8 := [180, 0, 131, 27, 46, 133, 182, 1, 133, 132, 1, 1, 167, 255, 233, 42, 182, 1, 139, 3, 60, 27, 6]
abbrev dktX1_digest_2 : List UInt8 := dkwX1_digest_2 ++ dktX1_digest_3
def dkwX1_digest_1 : List UInt8 := [182, 1, 133, 132, 1, 1, 167, 255, 237, 3, 60, 27, 16, 6, 162, 0, 23, 42, 42, 180, 0, 19]
abbrev dktX1_digest_1 : List UInt8 := dkwX1_digest_1 ++ dktX1_digest_2
def dkwX1_digest_0 : List UInt8 := [42, 20, 1, 137, 181, 1, 129, 3, 60, 27, 16, 11, 162, 0, 19, 42, 42, 27, 182, 1, 75, 133]
abbrev dktX1_digest_0 : List UInt8 := dkwX1_digest_0 ++ dktX1_digest_1
theorem dksX1_digest_0 : cX1_digest.data.toList.drop 0 = dktX1_digest_0 := by decide +kernel
theorem dksX1_digest_1 : cX1_digest.data.toList.drop 22 = dktX1_digest_1 := dk_seg dksX1_digest_0 22 rfl rfl
theorem dksX1_digest_2 : cX1_digest.data.toList.drop 44 = dktX1_digest_2 := dk_seg dksX1_digest_1 22 rfl rfl
theorem dksX1_digest_3 : cX1_digest.data.toList.drop 67 = dktX1_digest_3 := dk_seg dksX1_digest_2 23 rfl rfl
theorem dksX1_digest_4 : cX1_digest.data.toList.drop 90 = dktX1_digest_4 := dk_seg dksX1_digest_3 23 rfl rfl
theorem dksX1_digest_5 : cX1_digest.data.toList.drop 112 = dktX1_digest_5 := dk_seg dksX1_digest_4 22 rfl rfl
theorem dksX1_digest_6 : cX1_digest.data.toList.drop 136 = dktX1_digest_6 := dk_seg dksX1_digest_5 24 rfl rfl
theorem dksX1_digest_7 : cX1_digest.data.toList.drop 158 = dktX1_digest_7 := dk_seg dksX1_digest_6 22 rfl rfl
theorem dksX1_digest_8 : cX1_digest.data.toList.drop 180 = dktX1_digest_8 := dk_seg dksX1_digest_7 22 rfl rfl
theorem dX1_digest_0 : decode cX1_digest 0 = .ok (.aload_n 0, 1) := dk_42 (dk_at dksX1_digest_0 0 rfl rfl)
theorem dX1_digest_1 : decode cX1_digest 1 = .ok (.ldc2_w 393, 3) := dk_20 1 137 (dk_at dksX1_digest_0 1 rfl rfl)
theorem dX1_digest_4 : decode cX1_digest 4 = .ok (.putfield 385, 3) := dk_181 1 129 (dk_at dksX1_digest_0 4 rfl rfl)
theorem dX1_digest_7 : decode cX1_digest 7 = .ok (.iconst 0, 1) := dk_3 (dk_at dksX1_digest_0 7 rfl rfl)
theorem dX1_digest_8 : decode cX1_digest 8 = .ok (.istore_n 1, 1) := dk_60 (dk_at dksX1_digest_0 8 rfl rfl)
theorem dX1_digest_9 : decode cX1_digest 9 = .ok (.iload_n 1, 1) := dk_27 (dk_at dksX1_digest_0 9 rfl rfl)
theorem dX1_digest_10 : decode cX1_digest 10 = .ok (.bipush 11, 2) := dk_16 11 (dk_at dksX1_digest_0 10 rfl rfl)
theorem dX1_digest_12 : decode cX1_digest 12 = .ok (.if_icmp .ge 19, 3) := dk_162 0 19 (dk_at dksX1_digest_0 12 rfl rfl)
theorem dX1_digest_15 : decode cX1_digest 15 = .ok (.aload_n 0, 1) := dk_42 (dk_at dksX1_digest_0 15 rfl rfl)
theorem dX1_digest_16 : decode cX1_digest 16 = .ok (.aload_n 0, 1) := dk_42 (dk_at dksX1_digest_0 16 rfl rfl)
theorem dX1_digest_17 : decode cX1_digest 17 = .ok (.iload_n 1, 1) := dk_27 (dk_at dksX1_digest_0 17 rfl rfl)
theorem dX1_digest_18 : decode cX1_digest 18 = .ok (.invokevirtual 331, 3) := dk_182 1 75 (dk_at dksX1_digest_0 18 rfl rfl)
theorem dX1_digest_21 : decode cX1_digest 21 = .ok (.i2l, 1) := dk_133 (dk_at dksX1_digest_0 21 rfl rfl)
theorem dX1_digest_22 : decode cX1_digest 22 = .ok (.invokevirtual 389, 3) := dk_182 1 133 (dk_at dksX1_digest_1 0 rfl rfl)
theorem dX1_digest_25 : decode cX1_digest 25 = .ok (.iinc 1 1, 3) := dk_132 1 1 (dk_at dksX1_digest_1 3 rfl rfl)
theorem dX1_digest_28 : decode cX1_digest 28 = .ok (.goto (-19), 3) := dk_167 255 237 (dk_at dksX1_digest_1 6 rfl rfl)
theorem dX1_digest_31 : decode cX1_digest 31 = .ok (.iconst 0, 1) := dk_3 (dk_at dksX1_digest_1 9 rfl rfl)
theorem dX1_digest_32 : decode cX1_digest 32 = .ok (.istore_n 1, 1) := dk_60 (dk_at dksX1_digest_1 10 rfl rfl)
theorem dX1_digest_33 : decode cX1_digest 33 = .ok (.iload_n 1, 1) := dk_27 (dk_at dksX1_digest_1 11 rfl rfl)
theorem dX1_digest_34 : decode cX1_digest 34 = .ok (.bipush 6, 2) := dk_16 6 (dk_at dksX1_digest_1 12 rfl rfl)
theorem dX1_digest_36 : decode cX1_digest 36 = .ok (.if_icmp .ge 23, 3) := dk_162 0 23 (dk_at dksX1_digest_1 14 rfl rfl)
theorem dX1_digest_39 : decode cX1_digest 39 = .ok (.aload_n 0, 1) := dk_42 (dk_at dksX1_digest_1 17 rfl rfl)
theorem dX1_digest_40 : decode cX1_digest 40 = .ok (.aload_n 0, 1) := dk_42 (dk_at dksX1_digest_1 18 rfl rfl)
theorem dX1_digest_41 : decode cX1_digest 41 = .ok (.getfield 19, 3) := dk_180 0 19 (dk_at dksX1_digest_1 19 rfl rfl)
theorem dX1_digest_44 : decode cX1_digest 44 = .ok (.getfield 131, 3) := dk_180 0 131 (dk_at dksX1_digest_2 0 rfl rfl)
theorem dX1_digest_47 : decode cX1_digest 47 = .ok (.iload_n 1, 1) := dk_27 (dk_at dksX1_digest_2 3 rfl rfl)
theorem dX1_digest_48 : decode cX1_digest 48 = .ok (.iaload, 1) := dk_46 (dk_at dksX1_digest_2 4 rfl rfl)
theorem dX1_digest_49 : decode cX1_digest 49 = .ok (.i2l, 1) := dk_133 (dk_at dksX1_digest_2 5 rfl rfl)
theorem dX1_digest_50 : decode cX1_digest 50 = .ok (.invokevirtual 389, 3) := dk_182 1 133 (dk_at dksX1_digest_2 6 rfl rfl)
theorem dX1_digest_53 : decode cX1_digest 53 = .ok (.iinc 1 1, 3) := dk_132 1 1 (dk_at dksX1_digest_2 9 rfl rfl)
theorem dX1_digest_56 : decode cX1_digest 56 = .ok (.goto (-23), 3) := dk_167 255 233 (dk_at dksX1_digest_2 12 rfl rfl)
theorem dX1_digest_59 : decode cX1_digest 59 = .ok (.aload_n 0, 1) := dk_42 (dk_at dksX1_digest_2 15 rfl rfl)
theorem dX1_digest_60 : decode cX1_digest 60 = .ok (.invokevirtual 395, 3) := dk_182 1 139 (dk_at dksX1_digest_2 16 rfl rfl)
theorem dX1_digest_63 : decode cX1_digest 63 = .ok (.iconst 0, 1) := dk_3 (dk_at dksX1_digest_2 19 rfl rfl)
theorem dX1_digest_64 : decode cX1_digest 64 = .ok (.istore_n 1, 1) := dk_60 (dk_at dksX1_digest_2 20 rfl rfl)
theorem dX1_digest_65 : decode cX1_digest 65 = .ok (.iload_n 1, 1) := dk_27 (dk_at dksX1_digest_2 21 rfl rfl)
theorem dX1_digest_66 : decode cX1_digest 66 = .ok (.iconst 3, 1) := dk_6 (dk_at dksX1_digest_2 22 rfl rfl)
theorem dX1_digest_67 : decode cX1_digest 67 = .ok (.if_icmp .ge 19, 3) := dk_162 0 19 (dk_at dksX1_digest_3 0 rfl rfl)
theorem dX1_digest_70 : decode cX1_digest 70 = .ok (.aload_n 0, 1) := dk_42 (dk_at dksX1_digest_3 3 rfl rfl)
theorem dX1_digest_71 : decode cX1_digest 71 = .ok (.aload_n 0, 1) := dk_42 (dk_at dksX1_digest_3 4 rfl rfl)
theorem dX1_digest_72 : decode cX1_digest 72 = .ok (.iload_n 1, 1) := dk_27 (dk_at dksX1_digest_3 5 rfl rfl)
theorem dX1_digest_73 : decode cX1_digest 73 = .ok (.invokevirtual 373, 3) := dk_182 1 117 (dk_at dksX1_digest_3 6 rfl rfl)
theorem dX1_digest_76 : decode cX1_digest 76 = .ok (.i2l, 1) := dk_133 (dk_at dksX1_digest_3 9 rfl rfl)
theorem dX1_digest_77 : decode cX1_digest 77 = .ok (.invokevirtual 389, 3) := dk_182 1 133 (dk_at dksX1_digest_3 10 rfl rfl)
theorem dX1_digest_80 : decode cX1_digest 80 = .ok (.iinc 1 1, 3) := dk_132 1 1 (dk_at dksX1_digest_3 13 rfl rfl)
theorem dX1_digest_83 : decode cX1_digest 83 = .ok (.goto (-18), 3) := dk_167 255 238 (dk_at dksX1_digest_3 16 rfl rfl)
theorem dX1_digest_86 : decode cX1_digest 86 = .ok (.iconst 0, 1) := dk_3 (dk_at dksX1_digest_3 19 rfl rfl)
theorem dX1_digest_87 : decode cX1_digest 87 = .ok (.istore_n 1, 1) := dk_60 (dk_at dksX1_digest_3 20 rfl rfl)
theorem dX1_digest_88 : decode cX1_digest 88 = .ok (.iload_n 1, 1) := dk_27 (dk_at dksX1_digest_3 21 rfl rfl)
theorem dX1_digest_89 : decode cX1_digest 89 = .ok (.aload_n 0, 1) := dk_42 (dk_at dksX1_digest_3 22 rfl rfl)
theorem dX1_digest_90 : decode cX1_digest 90 = .ok (.getfield 19, 3) := dk_180 0 19 (dk_at dksX1_digest_4 0 rfl rfl)
theorem dX1_digest_93 : decode cX1_digest 93 = .ok (.getfield 77, 3) := dk_180 0 77 (dk_at dksX1_digest_4 3 rfl rfl)
theorem dX1_digest_96 : decode cX1_digest 96 = .ok (.invokevirtual 45, 3) := dk_182 0 45 (dk_at dksX1_digest_4 6 rfl rfl)
theorem dX1_digest_99 : decode cX1_digest 99 = .ok (.if_icmp .ge 43, 3) := dk_162 0 43 (dk_at dksX1_digest_4 9 rfl rfl)
theorem dX1_digest_102 : decode cX1_digest 102 = .ok (.iconst 0, 1) := dk_3 (dk_at dksX1_digest_4 12 rfl rfl)
theorem dX1_digest_103 : decode cX1_digest 103 = .ok (.istore_n 2, 1) := dk_61 (dk_at dksX1_digest_4 13 rfl rfl)
theorem dX1_digest_104 : decode cX1_digest 104 = .ok (.iload_n 2, 1) := dk_28 (dk_at dksX1_digest_4 14 rfl rfl)
theorem dX1_digest_105 : decode cX1_digest 105 = .ok (.aload_n 0, 1) := dk_42 (dk_at dksX1_digest_4 15 rfl rfl)
theorem dX1_digest_106 : decode cX1_digest 106 = .ok (.getfield 19, 3) := dk_180 0 19 (dk_at dksX1_digest_4 16 rfl rfl)
theorem dX1_digest_109 : decode cX1_digest 109 = .ok (.getfield 70, 3) := dk_180 0 70 (dk_at dksX1_digest_4 19 rfl rfl)
theorem dX1_digest_112 : decode cX1_digest 112 = .ok (.invokevirtual 45, 3) := dk_182 0 45 (dk_at dksX1_digest_5 0 rfl rfl)
theorem dX1_digest_115 : decode cX1_digest 115 = .ok (.if_icmp .ge 21, 3) := dk_162 0 21 (dk_at dksX1_digest_5 3 rfl rfl)
theorem dX1_digest_118 : decode cX1_digest 118 = .ok (.aload_n 0, 1) := dk_42 (dk_at dksX1_digest_5 6 rfl rfl)
theorem dX1_digest_119 : decode cX1_digest 119 = .ok (.aload_n 0, 1) := dk_42 (dk_at dksX1_digest_5 7 rfl rfl)
theorem dX1_digest_120 : decode cX1_digest 120 = .ok (.iload_n 1, 1) := dk_27 (dk_at dksX1_digest_5 8 rfl rfl)
theorem dX1_digest_121 : decode cX1_digest 121 = .ok (.iload_n 2, 1) := dk_28 (dk_at dksX1_digest_5 9 rfl rfl)
theorem dX1_digest_122 : decode cX1_digest 122 = .ok (.iconst 1, 1) := dk_4 (dk_at dksX1_digest_5 10 rfl rfl)
theorem dX1_digest_123 : decode cX1_digest 123 = .ok (.invokevirtual 360, 3) := dk_182 1 104 (dk_at dksX1_digest_5 11 rfl rfl)
theorem dX1_digest_126 : decode cX1_digest 126 = .ok (.i2l, 1) := dk_133 (dk_at dksX1_digest_5 14 rfl rfl)
theorem dX1_digest_127 : decode cX1_digest 127 = .ok (.invokevirtual 389, 3) := dk_182 1 133 (dk_at dksX1_digest_5 15 rfl rfl)
theorem dX1_digest_130 : decode cX1_digest 130 = .ok (.iinc 2 1, 3) := dk_132 2 1 (dk_at dksX1_digest_5 18 rfl rfl)
theorem dX1_digest_133 : decode cX1_digest 133 = .ok (.goto (-29), 3) := dk_167 255 227 (dk_at dksX1_digest_5 21 rfl rfl)
theorem dX1_digest_136 : decode cX1_digest 136 = .ok (.iinc 1 1, 3) := dk_132 1 1 (dk_at dksX1_digest_6 0 rfl rfl)
theorem dX1_digest_139 : decode cX1_digest 139 = .ok (.goto (-51), 3) := dk_167 255 205 (dk_at dksX1_digest_6 3 rfl rfl)
theorem dX1_digest_142 : decode cX1_digest 142 = .ok (.aload_n 0, 1) := dk_42 (dk_at dksX1_digest_6 6 rfl rfl)
theorem dX1_digest_143 : decode cX1_digest 143 = .ok (.aload_n 0, 1) := dk_42 (dk_at dksX1_digest_6 7 rfl rfl)
theorem dX1_digest_144 : decode cX1_digest 144 = .ok (.invokevirtual 379, 3) := dk_182 1 123 (dk_at dksX1_digest_6 8 rfl rfl)
theorem dX1_digest_147 : decode cX1_digest 147 = .ok (.invokestatic 398, 3) := dk_184 1 142 (dk_at dksX1_digest_6 11 rfl rfl)
theorem dX1_digest_150 : decode cX1_digest 150 = .ok (.invokevirtual 389, 3) := dk_182 1 133 (dk_at dksX1_digest_6 14 rfl rfl)
theorem dX1_digest_153 : decode cX1_digest 153 = .ok (.aload_n 0, 1) := dk_42 (dk_at dksX1_digest_6 17 rfl rfl)
theorem dX1_digest_154 : decode cX1_digest 154 = .ok (.aload_n 0, 1) := dk_42 (dk_at dksX1_digest_6 18 rfl rfl)
theorem dX1_digest_155 : decode cX1_digest 155 = .ok (.getfield 37, 3) := dk_180 0 37 (dk_at dksX1_digest_6 19 rfl rfl)
theorem dX1_digest_158 : decode cX1_digest 158 = .ok (.invokevirtual 203, 3) := dk_182 0 203 (dk_at dksX1_digest_7 0 rfl rfl)
theorem dX1_digest_161 : decode cX1_digest 161 = .ok (.i2l, 1) := dk_133 (dk_at dksX1_digest_7 3 rfl rfl)
theorem dX1_digest_162 : decode cX1_digest 162 = .ok (.invokevirtual 389, 3) := dk_182 1 133 (dk_at dksX1_digest_7 4 rfl rfl)
theorem dX1_digest_165 : decode cX1_digest 165 = .ok (.iconst 0, 1) := dk_3 (dk_at dksX1_digest_7 7 rfl rfl)
theorem dX1_digest_166 : decode cX1_digest 166 = .ok (.istore_n 1, 1) := dk_60 (dk_at dksX1_digest_7 8 rfl rfl)
theorem dX1_digest_167 : decode cX1_digest 167 = .ok (.iload_n 1, 1) := dk_27 (dk_at dksX1_digest_7 9 rfl rfl)
theorem dX1_digest_168 : decode cX1_digest 168 = .ok (.aload_n 0, 1) := dk_42 (dk_at dksX1_digest_7 10 rfl rfl)
theorem dX1_digest_169 : decode cX1_digest 169 = .ok (.getfield 37, 3) := dk_180 0 37 (dk_at dksX1_digest_7 11 rfl rfl)
theorem dX1_digest_172 : decode cX1_digest 172 = .ok (.invokevirtual 203, 3) := dk_182 0 203 (dk_at dksX1_digest_7 14 rfl rfl)
theorem dX1_digest_175 : decode cX1_digest 175 = .ok (.if_icmp .ge 22, 3) := dk_162 0 22 (dk_at dksX1_digest_7 17 rfl rfl)
theorem dX1_digest_178 : decode cX1_digest 178 = .ok (.aload_n 0, 1) := dk_42 (dk_at dksX1_digest_7 20 rfl rfl)
theorem dX1_digest_179 : decode cX1_digest 179 = .ok (.aload_n 0, 1) := dk_42 (dk_at dksX1_digest_7 21 rfl rfl)
theorem dX1_digest_180 : decode cX1_digest 180 = .ok (.getfield 37, 3) := dk_180 0 37 (dk_at dksX1_digest_8 0 rfl rfl)
theorem dX1_digest_183 : decode cX1_digest 183 = .ok (.iload_n 1, 1) := dk_27 (dk_at dksX1_digest_8 3 rfl rfl)
theorem dX1_digest_184 : decode cX1_digest 184 = .ok (.invokevirtual 404, 3) := dk_182 1 148 (dk_at dksX1_digest_8 4 rfl rfl)
theorem dX1_digest_187 : decode cX1_digest 187 = .ok (.i2l, 1) := dk_133 (dk_at dksX1_digest_8 7 rfl rfl)
theorem dX1_digest_188 : decode cX1_digest 188 = .ok (.invokevirtual 389, 3) := dk_182 1 133 (dk_at dksX1_digest_8 8 rfl rfl)
theorem dX1_digest_191 : decode cX1_digest 191 = .ok (.iinc 1 1, 3) := dk_132 1 1 (dk_at dksX1_digest_8 11 rfl rfl)
theorem dX1_digest_194 : decode cX1_digest 194 = .ok (.goto (-27), 3) := dk_167 255 229 (dk_at dksX1_digest_8 14 rfl rfl)
theorem dX1_digest_197 : decode cX1_digest 197 = .ok (.aload_n 0, 1) := dk_42 (dk_at dksX1_digest_8 17 rfl rfl)
theorem dX1_digest_198 : decode cX1_digest 198 = .ok (.getfield 385, 3) := dk_180 1 129 (dk_at dksX1_digest_8 18 rfl rfl)
theorem dX1_digest_201 : decode cX1_digest 201 = .ok (.lreturn, 1) := dk_173 (dk_at dksX1_digest_8 21 rfl rfl)
abbrev cX1_countTold : ByteArray := prog_1_method_47_code
def yX1_countTold : MethodName := ⟨RX1, "countTold", "(I)I"⟩
def dkwX1_countTold_5 : List UInt8 := [172, 42, 180, 0, 19, 180, 0, 247, 172, 42, 180, 0, 28, 182, 0, 45, 172]
abbrev dktX1_countTold_5 : List UInt8 := dkwX1_countTold_5 ++ []
def dkwX1_countTold_4 : List UInt8 := [180, 1, 65, 172, 42, 180, 0, 19, 180, 1, 68, 172, 42, 8, 182, 1, 71, 172, 42, 16, 6, 182, 1, 71]
abbrev dktX1_countTold_4 : List UInt8 := dkwX1_countTold_4 ++ dktX1_countTold_5
def dkwX1_countTold_3 : List UInt8 := [180, 0, 19, 180, 0, 113, 172, 42, 182, 0, 116, 172, 42, 180, 0, 19, 180, 0, 128, 172, 42, 180, 0, 19]
abbrev dktX1_countTold_3 : List UInt8 := dkwX1_countTold_3 ++ dktX1_countTold_4
def dkwX1_countTold_2 : List UInt8 := [42, 180, 0, 19, 180, 0, 70, 182, 0, 45, 172, 42, 180, 0, 19, 180, 0, 77, 182, 0, 45, 172, 42]
abbrev dktX1_countTold_2 : List UInt8 := dkwX1_countTold_2 ++ dktX1_countTold_3
def dkwX1_countTold_1 : List UInt8 := [170, 0, 0, 0, 0, 0, 135, 0, 0, 0, 0, 0, 0, 0, 9, 0, 0, 0, 55, 0, 0, 0, 66, 0, 0, 0, 77, 0, 0, 0, 85, 0, 0, 0, 90, 0, 0, 0, 98, 0, 0, 0, 106, 0, 0, 0, 114, 0, 0, 0, 120, 0, 0, 0, 127]
abbrev dktX1_countTold_1 : List UInt8 := dkwX1_countTold_1 ++ dktX1_countTold_2
def dkwX1_countTold_0 : List UInt8 := [27]
abbrev dktX1_countTold_0 : List UInt8 := dkwX1_countTold_0 ++ dktX1_countTold_1
theorem dksX1_countTold_0 : cX1_countTold.data.toList.drop 0 = dktX1_countTold_0 := by decide +kernel
theorem dksX1_countTold_1 : cX1_countTold.data.toList.drop 1 = dktX1_countTold_1 := dk_seg dksX1_countTold_0 1 rfl rfl
theorem dksX1_countTold_2 : cX1_countTold.data.toList.drop 56 = dktX1_countTold_2 := dk_seg dksX1_countTold_1 55 rfl rfl
theorem dksX1_countTold_3 : cX1_countTold.data.toList.drop 79 = dktX1_countTold_3 := dk_seg dksX1_countTold_2 23 rfl rfl
theorem dksX1_countTold_4 : cX1_countTold.data.toList.drop 103 = dktX1_countTold_4 := dk_seg dksX1_countTold_3 24 rfl rfl
theorem dksX1_countTold_5 : cX1_countTold.data.toList.drop 127 = dktX1_countTold_5 := dk_seg dksX1_countTold_4 24 rfl rfl
theorem dX1_countTold_0 : decode cX1_countTold 0 = .ok (.iload_n 1, 1) := dk_27 (dk_at dksX1_countTold_0 0 rfl rfl)
theorem dX1_countTold_1 : decode cX1_countTold 1 = .ok (.tableswitch 135 0 9 #[55, 66, 77, 85, 90, 98, 106, 114, 120, 127], 55) := by decide +kernel
theorem dX1_countTold_56 : decode cX1_countTold 56 = .ok (.aload_n 0, 1) := dk_42 (dk_at dksX1_countTold_2 0 rfl rfl)
theorem dX1_countTold_57 : decode cX1_countTold 57 = .ok (.getfield 19, 3) := dk_180 0 19 (dk_at dksX1_countTold_2 1 rfl rfl)
theorem dX1_countTold_60 : decode cX1_countTold 60 = .ok (.getfield 70, 3) := dk_180 0 70 (dk_at dksX1_countTold_2 4 rfl rfl)
theorem dX1_countTold_63 : decode cX1_countTold 63 = .ok (.invokevirtual 45, 3) := dk_182 0 45 (dk_at dksX1_countTold_2 7 rfl rfl)
theorem dX1_countTold_66 : decode cX1_countTold 66 = .ok (.ireturn, 1) := dk_172 (dk_at dksX1_countTold_2 10 rfl rfl)
theorem dX1_countTold_67 : decode cX1_countTold 67 = .ok (.aload_n 0, 1) := dk_42 (dk_at dksX1_countTold_2 11 rfl rfl)
theorem dX1_countTold_68 : decode cX1_countTold 68 = .ok (.getfield 19, 3) := dk_180 0 19 (dk_at dksX1_countTold_2 12 rfl rfl)
theorem dX1_countTold_71 : decode cX1_countTold 71 = .ok (.getfield 77, 3) := dk_180 0 77 (dk_at dksX1_countTold_2 15 rfl rfl)
theorem dX1_countTold_74 : decode cX1_countTold 74 = .ok (.invokevirtual 45, 3) := dk_182 0 45 (dk_at dksX1_countTold_2 18 rfl rfl)
theorem dX1_countTold_77 : decode cX1_countTold 77 = .ok (.ireturn, 1) := dk_172 (dk_at dksX1_countTold_2 21 rfl rfl)
theorem dX1_countTold_78 : decode cX1_countTold 78 = .ok (.aload_n 0, 1) := dk_42 (dk_at dksX1_countTold_2 22 rfl rfl)
theorem dX1_countTold_79 : decode cX1_countTold 79 = .ok (.getfield 19, 3) := dk_180 0 19 (dk_at dksX1_countTold_3 0 rfl rfl)
theorem dX1_countTold_82 : decode cX1_countTold 82 = .ok (.getfield 113, 3) := dk_180 0 113 (dk_at dksX1_countTold_3 3 rfl rfl)
theorem dX1_countTold_85 : decode cX1_countTold 85 = .ok (.ireturn, 1) := dk_172 (dk_at dksX1_countTold_3 6 rfl rfl)
theorem dX1_countTold_86 : decode cX1_countTold 86 = .ok (.aload_n 0, 1) := dk_42 (dk_at dksX1_countTold_3 7 rfl rfl)
theorem dX1_countTold_87 : decode cX1_countTold 87 = .ok (.invokevirtual 116, 3) := dk_182 0 116 (dk_at dksX1_countTold_3 8 rfl rfl)
theorem dX1_countTold_90 : decode cX1_countTold 90 = .ok (.ireturn, 1) := dk_172 (dk_at dksX1_countTold_3 11 rfl rfl)
theorem dX1_countTold_91 : decode cX1_countTold 91 = .ok (.aload_n 0, 1) := dk_42 (dk_at dksX1_countTold_3 12 rfl rfl)
theorem dX1_countTold_92 : decode cX1_countTold 92 = .ok (.getfield 19, 3) := dk_180 0 19 (dk_at dksX1_countTold_3 13 rfl rfl)
theorem dX1_countTold_95 : decode cX1_countTold 95 = .ok (.getfield 128, 3) := dk_180 0 128 (dk_at dksX1_countTold_3 16 rfl rfl)
theorem dX1_countTold_98 : decode cX1_countTold 98 = .ok (.ireturn, 1) := dk_172 (dk_at dksX1_countTold_3 19 rfl rfl)
theorem dX1_countTold_99 : decode cX1_countTold 99 = .ok (.aload_n 0, 1) := dk_42 (dk_at dksX1_countTold_3 20 rfl rfl)
theorem dX1_countTold_100 : decode cX1_countTold 100 = .ok (.getfield 19, 3) := dk_180 0 19 (dk_at dksX1_countTold_3 21 rfl rfl)
theorem dX1_countTold_103 : decode cX1_countTold 103 = .ok (.getfield 321, 3) := dk_180 1 65 (dk_at dksX1_countTold_4 0 rfl rfl)
theorem dX1_countTold_106 : decode cX1_countTold 106 = .ok (.ireturn, 1) := dk_172 (dk_at dksX1_countTold_4 3 rfl rfl)
theorem dX1_countTold_107 : decode cX1_countTold 107 = .ok (.aload_n 0, 1) := dk_42 (dk_at dksX1_countTold_4 4 rfl rfl)
theorem dX1_countTold_108 : decode cX1_countTold 108 = .ok (.getfield 19, 3) := dk_180 0 19 (dk_at dksX1_countTold_4 5 rfl rfl)
theorem dX1_countTold_111 : decode cX1_countTold 111 = .ok (.getfield 324, 3) := dk_180 1 68 (dk_at dksX1_countTold_4 8 rfl rfl)
theorem dX1_countTold_114 : decode cX1_countTold 114 = .ok (.ireturn, 1) := dk_172 (dk_at dksX1_countTold_4 11 rfl rfl)
theorem dX1_countTold_115 : decode cX1_countTold 115 = .ok (.aload_n 0, 1) := dk_42 (dk_at dksX1_countTold_4 12 rfl rfl)
theorem dX1_countTold_116 : decode cX1_countTold 116 = .ok (.iconst 5, 1) := dk_8 (dk_at dksX1_countTold_4 13 rfl rfl)
theorem dX1_countTold_117 : decode cX1_countTold 117 = .ok (.invokevirtual 327, 3) := dk_182 1 71 (dk_at dksX1_countTold_4 14 rfl rfl)
theorem dX1_countTold_120 : decode cX1_countTold 120 = .ok (.ireturn, 1) := dk_172 (dk_at dksX1_countTold_4 17 rfl rfl)
theorem dX1_countTold_121 : decode cX1_countTold 121 = .ok (.aload_n 0, 1) := dk_42 (dk_at dksX1_countTold_4 18 rfl rfl)
theorem dX1_countTold_122 : decode cX1_countTold 122 = .ok (.bipush 6, 2) := dk_16 6 (dk_at dksX1_countTold_4 19 rfl rfl)
theorem dX1_countTold_124 : decode cX1_countTold 124 = .ok (.invokevirtual 327, 3) := dk_182 1 71 (dk_at dksX1_countTold_4 21 rfl rfl)
theorem dX1_countTold_127 : decode cX1_countTold 127 = .ok (.ireturn, 1) := dk_172 (dk_at dksX1_countTold_5 0 rfl rfl)
theorem dX1_countTold_128 : decode cX1_countTold 128 = .ok (.aload_n 0, 1) := dk_42 (dk_at dksX1_countTold_5 1 rfl rfl)
theorem dX1_countTold_129 : decode cX1_countTold 129 = .ok (.getfield 19, 3) := dk_180 0 19 (dk_at dksX1_countTold_5 2 rfl rfl)
theorem dX1_countTold_132 : decode cX1_countTold 132 = .ok (.getfield 247, 3) := dk_180 0 247 (dk_at dksX1_countTold_5 5 rfl rfl)
theorem dX1_countTold_135 : decode cX1_countTold 135 = .ok (.ireturn, 1) := dk_172 (dk_at dksX1_countTold_5 8 rfl rfl)
theorem dX1_countTold_136 : decode cX1_countTold 136 = .ok (.aload_n 0, 1) := dk_42 (dk_at dksX1_countTold_5 9 rfl rfl)
theorem dX1_countTold_137 : decode cX1_countTold 137 = .ok (.getfield 28, 3) := dk_180 0 28 (dk_at dksX1_countTold_5 10 rfl rfl)
theorem dX1_countTold_140 : decode cX1_countTold 140 = .ok (.invokevirtual 45, 3) := dk_182 0 45 (dk_at dksX1_countTold_5 13 rfl rfl)
theorem dX1_countTold_143 : decode cX1_countTold 143 = .ok (.ireturn, 1) := dk_172 (dk_at dksX1_countTold_5 16 rfl rfl)
abbrev cX1_cratesInShops : ByteArray := prog_1_method_16_code
def yX1_cratesInShops : MethodName := ⟨RX1, "cratesInShops", "()I"⟩
def dkwX1_cratesInShops_1 : List UInt8 := [180, 0, 77, 28, 182, 0, 103, 192, 0, 100, 180, 0, 110, 96, 60, 132, 2, 1, 167, 255, 219, 27, 172]
abbrev dktX1_cratesInShops_1 : List UInt8 := dkwX1_cratesInShops_1 ++ []
def dkwX1_cratesInShops_0 : List UInt8 := [3, 60, 3, 61, 28, 42, 180, 0, 19, 180, 0, 77, 182, 0, 45, 162, 0, 29, 27, 42, 180, 0, 19]
abbrev dktX1_cratesInShops_0 : List UInt8 := dkwX1_cratesInShops_0 ++ dktX1_cratesInShops_1
theorem dksX1_cratesInShops_0 : cX1_cratesInShops.data.toList.drop 0 = dktX1_cratesInShops_0 := by decide +kernel
theorem dksX1_cratesInShops_1 : cX1_cratesInShops.data.toList.drop 23 = dktX1_cratesInShops_1 := dk_seg dksX1_cratesInShops_0 23 rfl rfl
theorem dX1_cratesInShops_0 : decode cX1_cratesInShops 0 = .ok (.iconst 0, 1) := dk_3 (dk_at dksX1_cratesInShops_0 0 rfl rfl)
theorem dX1_cratesInShops_1 : decode cX1_cratesInShops 1 = .ok (.istore_n 1, 1) := dk_60 (dk_at dksX1_cratesInShops_0 1 rfl rfl)
theorem dX1_cratesInShops_2 : decode cX1_cratesInShops 2 = .ok (.iconst 0, 1) := dk_3 (dk_at dksX1_cratesInShops_0 2 rfl rfl)
theorem dX1_cratesInShops_3 : decode cX1_cratesInShops 3 = .ok (.istore_n 2, 1) := dk_61 (dk_at dksX1_cratesInShops_0 3 rfl rfl)
theorem dX1_cratesInShops_4 : decode cX1_cratesInShops 4 = .ok (.iload_n 2, 1) := dk_28 (dk_at dksX1_cratesInShops_0 4 rfl rfl)
theorem dX1_cratesInShops_5 : decode cX1_cratesInShops 5 = .ok (.aload_n 0, 1) := dk_42 (dk_at dksX1_cratesInShops_0 5 rfl rfl)
theorem dX1_cratesInShops_6 : decode cX1_cratesInShops 6 = .ok (.getfield 19, 3) := dk_180 0 19 (dk_at dksX1_cratesInShops_0 6 rfl rfl)
theorem dX1_cratesInShops_9 : decode cX1_cratesInShops 9 = .ok (.getfield 77, 3) := dk_180 0 77 (dk_at dksX1_cratesInShops_0 9 rfl rfl)
theorem dX1_cratesInShops_12 : decode cX1_cratesInShops 12 = .ok (.invokevirtual 45, 3) := dk_182 0 45 (dk_at dksX1_cratesInShops_0 12 rfl rfl)
theorem dX1_cratesInShops_15 : decode cX1_cratesInShops 15 = .ok (.if_icmp .ge 29, 3) := dk_162 0 29 (dk_at dksX1_cratesInShops_0 15 rfl rfl)
theorem dX1_cratesInShops_18 : decode cX1_cratesInShops 18 = .ok (.iload_n 1, 1) := dk_27 (dk_at dksX1_cratesInShops_0 18 rfl rfl)
theorem dX1_cratesInShops_19 : decode cX1_cratesInShops 19 = .ok (.aload_n 0, 1) := dk_42 (dk_at dksX1_cratesInShops_0 19 rfl rfl)
theorem dX1_cratesInShops_20 : decode cX1_cratesInShops 20 = .ok (.getfield 19, 3) := dk_180 0 19 (dk_at dksX1_cratesInShops_0 20 rfl rfl)
theorem dX1_cratesInShops_23 : decode cX1_cratesInShops 23 = .ok (.getfield 77, 3) := dk_180 0 77 (dk_at dksX1_cratesInShops_1 0 rfl rfl)
theorem dX1_cratesInShops_26 : decode cX1_cratesInShops 26 = .ok (.iload_n 2, 1) := dk_28 (dk_at dksX1_cratesInShops_1 3 rfl rfl)
theorem dX1_cratesInShops_27 : decode cX1_cratesInShops 27 = .ok (.invokevirtual 103, 3) := dk_182 0 103 (dk_at dksX1_cratesInShops_1 4 rfl rfl)
theorem dX1_cratesInShops_30 : decode cX1_cratesInShops 30 = .ok (.checkcast 100, 3) := dk_192 0 100 (dk_at dksX1_cratesInShops_1 7 rfl rfl)
theorem dX1_cratesInShops_33 : decode cX1_cratesInShops 33 = .ok (.getfield 110, 3) := dk_180 0 110 (dk_at dksX1_cratesInShops_1 10 rfl rfl)
theorem dX1_cratesInShops_36 : decode cX1_cratesInShops 36 = .ok (.iadd, 1) := dk_96 (dk_at dksX1_cratesInShops_1 13 rfl rfl)
theorem dX1_cratesInShops_37 : decode cX1_cratesInShops 37 = .ok (.istore_n 1, 1) := dk_60 (dk_at dksX1_cratesInShops_1 14 rfl rfl)
theorem dX1_cratesInShops_38 : decode cX1_cratesInShops 38 = .ok (.iinc 2 1, 3) := dk_132 2 1 (dk_at dksX1_cratesInShops_1 15 rfl rfl)
theorem dX1_cratesInShops_41 : decode cX1_cratesInShops 41 = .ok (.goto (-37), 3) := dk_167 255 219 (dk_at dksX1_cratesInShops_1 18 rfl rfl)
theorem dX1_cratesInShops_44 : decode cX1_cratesInShops 44 = .ok (.iload_n 1, 1) := dk_27 (dk_at dksX1_cratesInShops_1 21 rfl rfl)
theorem dX1_cratesInShops_45 : decode cX1_cratesInShops 45 = .ok (.ireturn, 1) := dk_172 (dk_at dksX1_cratesInShops_1 22 rfl rfl)
abbrev cX1_ofBrands : ByteArray := prog_1_method_46_code
def yX1_ofBrands : MethodName := ⟨RX1, "ofBrands", "(I)I"⟩
def dkwX1_ofBrands_1 : List UInt8 := [182, 1, 42, 96, 61, 132, 3, 1, 167, 255, 230, 28, 172]
abbrev dktX1_ofBrands_1 : List UInt8 := dkwX1_ofBrands_1 ++ []
def dkwX1_ofBrands_0 : List UInt8 := [3, 61, 3, 62, 29, 42, 180, 0, 19, 180, 0, 70, 182, 0, 45, 162, 0, 18, 28, 42, 29, 27]
abbrev dktX1_ofBrands_0 : List UInt8 := dkwX1_ofBrands_0 ++ dktX1_ofBrands_1
theorem dksX1_ofBrands_0 : cX1_ofBrands.data.toList.drop 0 = dktX1_ofBrands_0 := by decide +kernel
theorem dksX1_ofBrands_1 : cX1_ofBrands.data.toList.drop 22 = dktX1_ofBrands_1 := dk_seg dksX1_ofBrands_0 22 rfl rfl
theorem dX1_ofBrands_0 : decode cX1_ofBrands 0 = .ok (.iconst 0, 1) := dk_3 (dk_at dksX1_ofBrands_0 0 rfl rfl)
theorem dX1_ofBrands_1 : decode cX1_ofBrands 1 = .ok (.istore_n 2, 1) := dk_61 (dk_at dksX1_ofBrands_0 1 rfl rfl)
theorem dX1_ofBrands_2 : decode cX1_ofBrands 2 = .ok (.iconst 0, 1) := dk_3 (dk_at dksX1_ofBrands_0 2 rfl rfl)
theorem dX1_ofBrands_3 : decode cX1_ofBrands 3 = .ok (.istore_n 3, 1) := dk_62 (dk_at dksX1_ofBrands_0 3 rfl rfl)
theorem dX1_ofBrands_4 : decode cX1_ofBrands 4 = .ok (.iload_n 3, 1) := dk_29 (dk_at dksX1_ofBrands_0 4 rfl rfl)
theorem dX1_ofBrands_5 : decode cX1_ofBrands 5 = .ok (.aload_n 0, 1) := dk_42 (dk_at dksX1_ofBrands_0 5 rfl rfl)
theorem dX1_ofBrands_6 : decode cX1_ofBrands 6 = .ok (.getfield 19, 3) := dk_180 0 19 (dk_at dksX1_ofBrands_0 6 rfl rfl)
theorem dX1_ofBrands_9 : decode cX1_ofBrands 9 = .ok (.getfield 70, 3) := dk_180 0 70 (dk_at dksX1_ofBrands_0 9 rfl rfl)
theorem dX1_ofBrands_12 : decode cX1_ofBrands 12 = .ok (.invokevirtual 45, 3) := dk_182 0 45 (dk_at dksX1_ofBrands_0 12 rfl rfl)
theorem dX1_ofBrands_15 : decode cX1_ofBrands 15 = .ok (.if_icmp .ge 18, 3) := dk_162 0 18 (dk_at dksX1_ofBrands_0 15 rfl rfl)
theorem dX1_ofBrands_18 : decode cX1_ofBrands 18 = .ok (.iload_n 2, 1) := dk_28 (dk_at dksX1_ofBrands_0 18 rfl rfl)
theorem dX1_ofBrands_19 : decode cX1_ofBrands 19 = .ok (.aload_n 0, 1) := dk_42 (dk_at dksX1_ofBrands_0 19 rfl rfl)
theorem dX1_ofBrands_20 : decode cX1_ofBrands 20 = .ok (.iload_n 3, 1) := dk_29 (dk_at dksX1_ofBrands_0 20 rfl rfl)
theorem dX1_ofBrands_21 : decode cX1_ofBrands 21 = .ok (.iload_n 1, 1) := dk_27 (dk_at dksX1_ofBrands_0 21 rfl rfl)
theorem dX1_ofBrands_22 : decode cX1_ofBrands 22 = .ok (.invokevirtual 298, 3) := dk_182 1 42 (dk_at dksX1_ofBrands_1 0 rfl rfl)
theorem dX1_ofBrands_25 : decode cX1_ofBrands 25 = .ok (.iadd, 1) := dk_96 (dk_at dksX1_ofBrands_1 3 rfl rfl)
theorem dX1_ofBrands_26 : decode cX1_ofBrands 26 = .ok (.istore_n 2, 1) := dk_61 (dk_at dksX1_ofBrands_1 4 rfl rfl)
theorem dX1_ofBrands_27 : decode cX1_ofBrands 27 = .ok (.iinc 3 1, 3) := dk_132 3 1 (dk_at dksX1_ofBrands_1 5 rfl rfl)
theorem dX1_ofBrands_30 : decode cX1_ofBrands 30 = .ok (.goto (-26), 3) := dk_167 255 230 (dk_at dksX1_ofBrands_1 8 rfl rfl)
theorem dX1_ofBrands_33 : decode cX1_ofBrands 33 = .ok (.iload_n 2, 1) := dk_28 (dk_at dksX1_ofBrands_1 11 rfl rfl)
theorem dX1_ofBrands_34 : decode cX1_ofBrands 34 = .ok (.ireturn, 1) := dk_172 (dk_at dksX1_ofBrands_1 12 rfl rfl)
abbrev cX1_mix : ByteArray := prog_1_method_63_code
def yX1_mix : MethodName := ⟨RX1, "mix", "(J)V"⟩
def dkwX1_mix_0 : List UInt8 := [42, 20, 1, 127, 42, 180, 1, 129, 105, 31, 97, 181, 1, 129, 177]
abbrev dktX1_mix_0 : List UInt8 := dkwX1_mix_0 ++ []
theorem dksX1_mix_0 : cX1_mix.data.toList.drop 0 = dktX1_mix_0 := by decide +kernel
theorem dX1_mix_0 : decode cX1_mix 0 = .ok (.aload_n 0, 1) := dk_42 (dk_at dksX1_mix_0 0 rfl rfl)
theorem dX1_mix_1 : decode cX1_mix 1 = .ok (.ldc2_w 383, 3) := dk_20 1 127 (dk_at dksX1_mix_0 1 rfl rfl)
theorem dX1_mix_4 : decode cX1_mix 4 = .ok (.aload_n 0, 1) := dk_42 (dk_at dksX1_mix_0 4 rfl rfl)
theorem dX1_mix_5 : decode cX1_mix 5 = .ok (.getfield 385, 3) := dk_180 1 129 (dk_at dksX1_mix_0 5 rfl rfl)
theorem dX1_mix_8 : decode cX1_mix 8 = .ok (.lmul, 1) := dk_105 (dk_at dksX1_mix_0 8 rfl rfl)
theorem dX1_mix_9 : decode cX1_mix 9 = .ok (.lload_n 1, 1) := dk_31 (dk_at dksX1_mix_0 9 rfl rfl)
theorem dX1_mix_10 : decode cX1_mix 10 = .ok (.ladd, 1) := dk_97 (dk_at dksX1_mix_0 10 rfl rfl)
theorem dX1_mix_11 : decode cX1_mix 11 = .ok (.putfield 385, 3) := dk_181 1 129 (dk_at dksX1_mix_0 11 rfl rfl)
theorem dX1_mix_14 : decode cX1_mix 14 = .ok (.return_, 1) := dk_177 (dk_at dksX1_mix_0 14 rfl rfl)
abbrev cX1_mixRows : ByteArray := prog_1_method_64_code
def yX1_mixRows : MethodName := ⟨RX1, "mixRows", "()V"⟩
def dkwX1_mixRows_6 : List UInt8 := [132, 1, 1, 167, 255, 207, 177]
abbrev dktX1_mixRows_6 : List UInt8 := dkwX1_mixRows_6 ++ []
def dkwX1_mixRows_5 : List UInt8 := [184, 1, 59, 153, 0, 14, 42, 42, 27, 28, 182, 1, 62, 133, 182, 1, 133, 132, 2, 1, 167, 255, 229]
abbrev dktX1_mixRows_5 : List UInt8 := dkwX1_mixRows_5 ++ dktX1_mixRows_6
def dkwX1_mixRows_4 : List UInt8 := [27, 42, 180, 0, 19, 180, 0, 77, 182, 0, 45, 162, 0, 41, 3, 61, 28, 16, 28, 162, 0, 27, 28]
abbrev dktX1_mixRows_4 : List UInt8 := dkwX1_mixRows_4 ++ dktX1_mixRows_5
def dkwX1_mixRows_3 : List UInt8 := [42, 27, 28, 182, 1, 90, 133, 182, 1, 133, 132, 2, 1, 167, 255, 228, 132, 1, 1, 167, 255, 169, 3, 60]
abbrev dktX1_mixRows_3 : List UInt8 := dkwX1_mixRows_3 ++ dktX1_mixRows_4
def dkwX1_mixRows_2 : List UInt8 := [182, 1, 111, 133, 182, 1, 133, 3, 61, 28, 42, 180, 0, 19, 180, 0, 77, 182, 0, 45, 162, 0, 20, 42]
abbrev dktX1_mixRows_2 : List UInt8 := dkwX1_mixRows_2 ++ dktX1_mixRows_3
def dkwX1_mixRows_1 : List UInt8 := [42, 42, 27, 28, 182, 1, 42, 133, 182, 1, 133, 132, 2, 1, 167, 255, 236, 42, 42, 27, 16, 25]
abbrev dktX1_mixRows_1 : List UInt8 := dkwX1_mixRows_1 ++ dktX1_mixRows_2
def dkwX1_mixRows_0 : List UInt8 := [3, 60, 27, 42, 180, 0, 19, 180, 0, 70, 182, 0, 45, 162, 0, 79, 3, 61, 28, 16, 12, 162, 0, 20]
abbrev dktX1_mixRows_0 : List UInt8 := dkwX1_mixRows_0 ++ dktX1_mixRows_1
theorem dksX1_mixRows_0 : cX1_mixRows.data.toList.drop 0 = dktX1_mixRows_0 := by decide +kernel
theorem dksX1_mixRows_1 : cX1_mixRows.data.toList.drop 24 = dktX1_mixRows_1 := dk_seg dksX1_mixRows_0 24 rfl rfl
theorem dksX1_mixRows_2 : cX1_mixRows.data.toList.drop 46 = dktX1_mixRows_2 := dk_seg dksX1_mixRows_1 22 rfl rfl
theorem dksX1_mixRows_3 : cX1_mixRows.data.toList.drop 70 = dktX1_mixRows_3 := dk_seg dksX1_mixRows_2 24 rfl rfl
theorem dksX1_mixRows_4 : cX1_mixRows.data.toList.drop 94 = dktX1_mixRows_4 := dk_seg dksX1_mixRows_3 24 rfl rfl
theorem dksX1_mixRows_5 : cX1_mixRows.data.toList.drop 117 = dktX1_mixRows_5 := dk_seg dksX1_mixRows_4 23 rfl rfl
theorem dksX1_mixRows_6 : cX1_mixRows.data.toList.drop 140 = dktX1_mixRows_6 := dk_seg dksX1_mixRows_5 23 rfl rfl
theorem dX1_mixRows_0 : decode cX1_mixRows 0 = .ok (.iconst 0, 1) := dk_3 (dk_at dksX1_mixRows_0 0 rfl rfl)
theorem dX1_mixRows_1 : decode cX1_mixRows 1 = .ok (.istore_n 1, 1) := dk_60 (dk_at dksX1_mixRows_0 1 rfl rfl)
theorem dX1_mixRows_2 : decode cX1_mixRows 2 = .ok (.iload_n 1, 1) := dk_27 (dk_at dksX1_mixRows_0 2 rfl rfl)
theorem dX1_mixRows_3 : decode cX1_mixRows 3 = .ok (.aload_n 0, 1) := dk_42 (dk_at dksX1_mixRows_0 3 rfl rfl)
theorem dX1_mixRows_4 : decode cX1_mixRows 4 = .ok (.getfield 19, 3) := dk_180 0 19 (dk_at dksX1_mixRows_0 4 rfl rfl)
theorem dX1_mixRows_7 : decode cX1_mixRows 7 = .ok (.getfield 70, 3) := dk_180 0 70 (dk_at dksX1_mixRows_0 7 rfl rfl)
theorem dX1_mixRows_10 : decode cX1_mixRows 10 = .ok (.invokevirtual 45, 3) := dk_182 0 45 (dk_at dksX1_mixRows_0 10 rfl rfl)
theorem dX1_mixRows_13 : decode cX1_mixRows 13 = .ok (.if_icmp .ge 79, 3) := dk_162 0 79 (dk_at dksX1_mixRows_0 13 rfl rfl)
theorem dX1_mixRows_16 : decode cX1_mixRows 16 = .ok (.iconst 0, 1) := dk_3 (dk_at dksX1_mixRows_0 16 rfl rfl)
theorem dX1_mixRows_17 : decode cX1_mixRows 17 = .ok (.istore_n 2, 1) := dk_61 (dk_at dksX1_mixRows_0 17 rfl rfl)
theorem dX1_mixRows_18 : decode cX1_mixRows 18 = .ok (.iload_n 2, 1) := dk_28 (dk_at dksX1_mixRows_0 18 rfl rfl)
theorem dX1_mixRows_19 : decode cX1_mixRows 19 = .ok (.bipush 12, 2) := dk_16 12 (dk_at dksX1_mixRows_0 19 rfl rfl)
theorem dX1_mixRows_21 : decode cX1_mixRows 21 = .ok (.if_icmp .ge 20, 3) := dk_162 0 20 (dk_at dksX1_mixRows_0 21 rfl rfl)
theorem dX1_mixRows_24 : decode cX1_mixRows 24 = .ok (.aload_n 0, 1) := dk_42 (dk_at dksX1_mixRows_1 0 rfl rfl)
theorem dX1_mixRows_25 : decode cX1_mixRows 25 = .ok (.aload_n 0, 1) := dk_42 (dk_at dksX1_mixRows_1 1 rfl rfl)
theorem dX1_mixRows_26 : decode cX1_mixRows 26 = .ok (.iload_n 1, 1) := dk_27 (dk_at dksX1_mixRows_1 2 rfl rfl)
theorem dX1_mixRows_27 : decode cX1_mixRows 27 = .ok (.iload_n 2, 1) := dk_28 (dk_at dksX1_mixRows_1 3 rfl rfl)
theorem dX1_mixRows_28 : decode cX1_mixRows 28 = .ok (.invokevirtual 298, 3) := dk_182 1 42 (dk_at dksX1_mixRows_1 4 rfl rfl)
theorem dX1_mixRows_31 : decode cX1_mixRows 31 = .ok (.i2l, 1) := dk_133 (dk_at dksX1_mixRows_1 7 rfl rfl)
theorem dX1_mixRows_32 : decode cX1_mixRows 32 = .ok (.invokevirtual 389, 3) := dk_182 1 133 (dk_at dksX1_mixRows_1 8 rfl rfl)
theorem dX1_mixRows_35 : decode cX1_mixRows 35 = .ok (.iinc 2 1, 3) := dk_132 2 1 (dk_at dksX1_mixRows_1 11 rfl rfl)
theorem dX1_mixRows_38 : decode cX1_mixRows 38 = .ok (.goto (-20), 3) := dk_167 255 236 (dk_at dksX1_mixRows_1 14 rfl rfl)
theorem dX1_mixRows_41 : decode cX1_mixRows 41 = .ok (.aload_n 0, 1) := dk_42 (dk_at dksX1_mixRows_1 17 rfl rfl)
theorem dX1_mixRows_42 : decode cX1_mixRows 42 = .ok (.aload_n 0, 1) := dk_42 (dk_at dksX1_mixRows_1 18 rfl rfl)
theorem dX1_mixRows_43 : decode cX1_mixRows 43 = .ok (.iload_n 1, 1) := dk_27 (dk_at dksX1_mixRows_1 19 rfl rfl)
theorem dX1_mixRows_44 : decode cX1_mixRows 44 = .ok (.bipush 25, 2) := dk_16 25 (dk_at dksX1_mixRows_1 20 rfl rfl)
theorem dX1_mixRows_46 : decode cX1_mixRows 46 = .ok (.invokevirtual 367, 3) := dk_182 1 111 (dk_at dksX1_mixRows_2 0 rfl rfl)
theorem dX1_mixRows_49 : decode cX1_mixRows 49 = .ok (.i2l, 1) := dk_133 (dk_at dksX1_mixRows_2 3 rfl rfl)
theorem dX1_mixRows_50 : decode cX1_mixRows 50 = .ok (.invokevirtual 389, 3) := dk_182 1 133 (dk_at dksX1_mixRows_2 4 rfl rfl)
theorem dX1_mixRows_53 : decode cX1_mixRows 53 = .ok (.iconst 0, 1) := dk_3 (dk_at dksX1_mixRows_2 7 rfl rfl)
theorem dX1_mixRows_54 : decode cX1_mixRows 54 = .ok (.istore_n 2, 1) := dk_61 (dk_at dksX1_mixRows_2 8 rfl rfl)
theorem dX1_mixRows_55 : decode cX1_mixRows 55 = .ok (.iload_n 2, 1) := dk_28 (dk_at dksX1_mixRows_2 9 rfl rfl)
theorem dX1_mixRows_56 : decode cX1_mixRows 56 = .ok (.aload_n 0, 1) := dk_42 (dk_at dksX1_mixRows_2 10 rfl rfl)
theorem dX1_mixRows_57 : decode cX1_mixRows 57 = .ok (.getfield 19, 3) := dk_180 0 19 (dk_at dksX1_mixRows_2 11 rfl rfl)
theorem dX1_mixRows_60 : decode cX1_mixRows 60 = .ok (.getfield 77, 3) := dk_180 0 77 (dk_at dksX1_mixRows_2 14 rfl rfl)
theorem dX1_mixRows_63 : decode cX1_mixRows 63 = .ok (.invokevirtual 45, 3) := dk_182 0 45 (dk_at dksX1_mixRows_2 17 rfl rfl)
theorem dX1_mixRows_66 : decode cX1_mixRows 66 = .ok (.if_icmp .ge 20, 3) := dk_162 0 20 (dk_at dksX1_mixRows_2 20 rfl rfl)
theorem dX1_mixRows_69 : decode cX1_mixRows 69 = .ok (.aload_n 0, 1) := dk_42 (dk_at dksX1_mixRows_2 23 rfl rfl)
theorem dX1_mixRows_70 : decode cX1_mixRows 70 = .ok (.aload_n 0, 1) := dk_42 (dk_at dksX1_mixRows_3 0 rfl rfl)
theorem dX1_mixRows_71 : decode cX1_mixRows 71 = .ok (.iload_n 1, 1) := dk_27 (dk_at dksX1_mixRows_3 1 rfl rfl)
theorem dX1_mixRows_72 : decode cX1_mixRows 72 = .ok (.iload_n 2, 1) := dk_28 (dk_at dksX1_mixRows_3 2 rfl rfl)
theorem dX1_mixRows_73 : decode cX1_mixRows 73 = .ok (.invokevirtual 346, 3) := dk_182 1 90 (dk_at dksX1_mixRows_3 3 rfl rfl)
theorem dX1_mixRows_76 : decode cX1_mixRows 76 = .ok (.i2l, 1) := dk_133 (dk_at dksX1_mixRows_3 6 rfl rfl)
theorem dX1_mixRows_77 : decode cX1_mixRows 77 = .ok (.invokevirtual 389, 3) := dk_182 1 133 (dk_at dksX1_mixRows_3 7 rfl rfl)
theorem dX1_mixRows_80 : decode cX1_mixRows 80 = .ok (.iinc 2 1, 3) := dk_132 2 1 (dk_at dksX1_mixRows_3 10 rfl rfl)
theorem dX1_mixRows_83 : decode cX1_mixRows 83 = .ok (.goto (-28), 3) := dk_167 255 228 (dk_at dksX1_mixRows_3 13 rfl rfl)
theorem dX1_mixRows_86 : decode cX1_mixRows 86 = .ok (.iinc 1 1, 3) := dk_132 1 1 (dk_at dksX1_mixRows_3 16 rfl rfl)
theorem dX1_mixRows_89 : decode cX1_mixRows 89 = .ok (.goto (-87), 3) := dk_167 255 169 (dk_at dksX1_mixRows_3 19 rfl rfl)
theorem dX1_mixRows_92 : decode cX1_mixRows 92 = .ok (.iconst 0, 1) := dk_3 (dk_at dksX1_mixRows_3 22 rfl rfl)
theorem dX1_mixRows_93 : decode cX1_mixRows 93 = .ok (.istore_n 1, 1) := dk_60 (dk_at dksX1_mixRows_3 23 rfl rfl)
theorem dX1_mixRows_94 : decode cX1_mixRows 94 = .ok (.iload_n 1, 1) := dk_27 (dk_at dksX1_mixRows_4 0 rfl rfl)
theorem dX1_mixRows_95 : decode cX1_mixRows 95 = .ok (.aload_n 0, 1) := dk_42 (dk_at dksX1_mixRows_4 1 rfl rfl)
theorem dX1_mixRows_96 : decode cX1_mixRows 96 = .ok (.getfield 19, 3) := dk_180 0 19 (dk_at dksX1_mixRows_4 2 rfl rfl)
theorem dX1_mixRows_99 : decode cX1_mixRows 99 = .ok (.getfield 77, 3) := dk_180 0 77 (dk_at dksX1_mixRows_4 5 rfl rfl)
theorem dX1_mixRows_102 : decode cX1_mixRows 102 = .ok (.invokevirtual 45, 3) := dk_182 0 45 (dk_at dksX1_mixRows_4 8 rfl rfl)
theorem dX1_mixRows_105 : decode cX1_mixRows 105 = .ok (.if_icmp .ge 41, 3) := dk_162 0 41 (dk_at dksX1_mixRows_4 11 rfl rfl)
theorem dX1_mixRows_108 : decode cX1_mixRows 108 = .ok (.iconst 0, 1) := dk_3 (dk_at dksX1_mixRows_4 14 rfl rfl)
theorem dX1_mixRows_109 : decode cX1_mixRows 109 = .ok (.istore_n 2, 1) := dk_61 (dk_at dksX1_mixRows_4 15 rfl rfl)
theorem dX1_mixRows_110 : decode cX1_mixRows 110 = .ok (.iload_n 2, 1) := dk_28 (dk_at dksX1_mixRows_4 16 rfl rfl)
theorem dX1_mixRows_111 : decode cX1_mixRows 111 = .ok (.bipush 28, 2) := dk_16 28 (dk_at dksX1_mixRows_4 17 rfl rfl)
theorem dX1_mixRows_113 : decode cX1_mixRows 113 = .ok (.if_icmp .ge 27, 3) := dk_162 0 27 (dk_at dksX1_mixRows_4 19 rfl rfl)
theorem dX1_mixRows_116 : decode cX1_mixRows 116 = .ok (.iload_n 2, 1) := dk_28 (dk_at dksX1_mixRows_4 22 rfl rfl)
theorem dX1_mixRows_117 : decode cX1_mixRows 117 = .ok (.invokestatic 315, 3) := dk_184 1 59 (dk_at dksX1_mixRows_5 0 rfl rfl)
theorem dX1_mixRows_120 : decode cX1_mixRows 120 = .ok (.ifCond .eq 14, 3) := dk_153 0 14 (dk_at dksX1_mixRows_5 3 rfl rfl)
theorem dX1_mixRows_123 : decode cX1_mixRows 123 = .ok (.aload_n 0, 1) := dk_42 (dk_at dksX1_mixRows_5 6 rfl rfl)
theorem dX1_mixRows_124 : decode cX1_mixRows 124 = .ok (.aload_n 0, 1) := dk_42 (dk_at dksX1_mixRows_5 7 rfl rfl)
theorem dX1_mixRows_125 : decode cX1_mixRows 125 = .ok (.iload_n 1, 1) := dk_27 (dk_at dksX1_mixRows_5 8 rfl rfl)
theorem dX1_mixRows_126 : decode cX1_mixRows 126 = .ok (.iload_n 2, 1) := dk_28 (dk_at dksX1_mixRows_5 9 rfl rfl)
theorem dX1_mixRows_127 : decode cX1_mixRows 127 = .ok (.invokevirtual 318, 3) := dk_182 1 62 (dk_at dksX1_mixRows_5 10 rfl rfl)
theorem dX1_mixRows_130 : decode cX1_mixRows 130 = .ok (.i2l, 1) := dk_133 (dk_at dksX1_mixRows_5 13 rfl rfl)
theorem dX1_mixRows_131 : decode cX1_mixRows 131 = .ok (.invokevirtual 389, 3) := dk_182 1 133 (dk_at dksX1_mixRows_5 14 rfl rfl)
theorem dX1_mixRows_134 : decode cX1_mixRows 134 = .ok (.iinc 2 1, 3) := dk_132 2 1 (dk_at dksX1_mixRows_5 17 rfl rfl)
theorem dX1_mixRows_137 : decode cX1_mixRows 137 = .ok (.goto (-27), 3) := dk_167 255 229 (dk_at dksX1_mixRows_5 20 rfl rfl)
theorem dX1_mixRows_140 : decode cX1_mixRows 140 = .ok (.iinc 1 1, 3) := dk_132 1 1 (dk_at dksX1_mixRows_6 0 rfl rfl)
theorem dX1_mixRows_143 : decode cX1_mixRows 143 = .ok (.goto (-49), 3) := dk_167 255 207 (dk_at dksX1_mixRows_6 3 rfl rfl)
theorem dX1_mixRows_146 : decode cX1_mixRows 146 = .ok (.return_, 1) := dk_177 (dk_at dksX1_mixRows_6 6 rfl rfl)
abbrev cX1_filledTold : ByteArray := prog_1_method_57_code
def yX1_filledTold : MethodName := ⟨RX1, "filledTold", "(II)I"⟩
def dkwX1_filledTold_1 : List UInt8 := [172]
abbrev dktX1_filledTold_1 : List UInt8 := dkwX1_filledTold_1 ++ []
def dkwX1_filledTold_0 : List UInt8 := [28, 42, 180, 0, 19, 42, 180, 0, 19, 180, 0, 70, 27, 182, 0, 103, 192, 0, 94, 28, 182, 1, 108, 100]
abbrev dktX1_filledTold_0 : List UInt8 := dkwX1_filledTold_0 ++ dktX1_filledTold_1
theorem dksX1_filledTold_0 : cX1_filledTold.data.toList.drop 0 = dktX1_filledTold_0 := by decide +kernel
theorem dksX1_filledTold_1 : cX1_filledTold.data.toList.drop 24 = dktX1_filledTold_1 := dk_seg dksX1_filledTold_0 24 rfl rfl
theorem dX1_filledTold_0 : decode cX1_filledTold 0 = .ok (.iload_n 2, 1) := dk_28 (dk_at dksX1_filledTold_0 0 rfl rfl)
theorem dX1_filledTold_1 : decode cX1_filledTold 1 = .ok (.aload_n 0, 1) := dk_42 (dk_at dksX1_filledTold_0 1 rfl rfl)
theorem dX1_filledTold_2 : decode cX1_filledTold 2 = .ok (.getfield 19, 3) := dk_180 0 19 (dk_at dksX1_filledTold_0 2 rfl rfl)
theorem dX1_filledTold_5 : decode cX1_filledTold 5 = .ok (.aload_n 0, 1) := dk_42 (dk_at dksX1_filledTold_0 5 rfl rfl)
theorem dX1_filledTold_6 : decode cX1_filledTold 6 = .ok (.getfield 19, 3) := dk_180 0 19 (dk_at dksX1_filledTold_0 6 rfl rfl)
theorem dX1_filledTold_9 : decode cX1_filledTold 9 = .ok (.getfield 70, 3) := dk_180 0 70 (dk_at dksX1_filledTold_0 9 rfl rfl)
theorem dX1_filledTold_12 : decode cX1_filledTold 12 = .ok (.iload_n 1, 1) := dk_27 (dk_at dksX1_filledTold_0 12 rfl rfl)
theorem dX1_filledTold_13 : decode cX1_filledTold 13 = .ok (.invokevirtual 103, 3) := dk_182 0 103 (dk_at dksX1_filledTold_0 13 rfl rfl)
theorem dX1_filledTold_16 : decode cX1_filledTold 16 = .ok (.checkcast 94, 3) := dk_192 0 94 (dk_at dksX1_filledTold_0 16 rfl rfl)
theorem dX1_filledTold_19 : decode cX1_filledTold 19 = .ok (.iload_n 2, 1) := dk_28 (dk_at dksX1_filledTold_0 19 rfl rfl)
theorem dX1_filledTold_20 : decode cX1_filledTold 20 = .ok (.invokevirtual 364, 3) := dk_182 1 108 (dk_at dksX1_filledTold_0 20 rfl rfl)
theorem dX1_filledTold_23 : decode cX1_filledTold 23 = .ok (.isub, 1) := dk_100 (dk_at dksX1_filledTold_0 23 rfl rfl)
theorem dX1_filledTold_24 : decode cX1_filledTold 24 = .ok (.ireturn, 1) := dk_172 (dk_at dksX1_filledTold_1 0 rfl rfl)
abbrev cX1_mostTold : ByteArray := prog_1_method_52_code
def yX1_mostTold : MethodName := ⟨RX1, "mostTold", "(II)I"⟩
def dkwX1_mostTold_2 : List UInt8 := [28, 182, 0, 103, 192, 0, 100, 180, 0, 106, 42, 180, 0, 19, 45, 4, 182, 1, 86, 108, 184, 1, 81, 172]
abbrev dktX1_mostTold_2 : List UInt8 := dkwX1_mostTold_2 ++ []
def dkwX1_mostTold_1 : List UInt8 := [42, 180, 0, 19, 180, 0, 113, 184, 1, 81, 184, 1, 81, 54, 4, 21, 4, 42, 180, 0, 19, 180, 0, 77]
abbrev dktX1_mostTold_1 : List UInt8 := dkwX1_mostTold_1 ++ dktX1_mostTold_2
def dkwX1_mostTold_0 : List UInt8 := [42, 180, 0, 19, 180, 0, 70, 27, 182, 0, 103, 192, 0, 94, 78, 16, 50, 45, 180, 1, 15, 16, 12, 108]
abbrev dktX1_mostTold_0 : List UInt8 := dkwX1_mostTold_0 ++ dktX1_mostTold_1
theorem dksX1_mostTold_0 : cX1_mostTold.data.toList.drop 0 = dktX1_mostTold_0 := by decide +kernel
theorem dksX1_mostTold_1 : cX1_mostTold.data.toList.drop 24 = dktX1_mostTold_1 := dk_seg dksX1_mostTold_0 24 rfl rfl
theorem dksX1_mostTold_2 : cX1_mostTold.data.toList.drop 48 = dktX1_mostTold_2 := dk_seg dksX1_mostTold_1 24 rfl rfl
theorem dX1_mostTold_0 : decode cX1_mostTold 0 = .ok (.aload_n 0, 1) := dk_42 (dk_at dksX1_mostTold_0 0 rfl rfl)
theorem dX1_mostTold_1 : decode cX1_mostTold 1 = .ok (.getfield 19, 3) := dk_180 0 19 (dk_at dksX1_mostTold_0 1 rfl rfl)
theorem dX1_mostTold_4 : decode cX1_mostTold 4 = .ok (.getfield 70, 3) := dk_180 0 70 (dk_at dksX1_mostTold_0 4 rfl rfl)
theorem dX1_mostTold_7 : decode cX1_mostTold 7 = .ok (.iload_n 1, 1) := dk_27 (dk_at dksX1_mostTold_0 7 rfl rfl)
theorem dX1_mostTold_8 : decode cX1_mostTold 8 = .ok (.invokevirtual 103, 3) := dk_182 0 103 (dk_at dksX1_mostTold_0 8 rfl rfl)
theorem dX1_mostTold_11 : decode cX1_mostTold 11 = .ok (.checkcast 94, 3) := dk_192 0 94 (dk_at dksX1_mostTold_0 11 rfl rfl)
theorem dX1_mostTold_14 : decode cX1_mostTold 14 = .ok (.astore_n 3, 1) := dk_78 (dk_at dksX1_mostTold_0 14 rfl rfl)
theorem dX1_mostTold_15 : decode cX1_mostTold 15 = .ok (.bipush 50, 2) := dk_16 50 (dk_at dksX1_mostTold_0 15 rfl rfl)
theorem dX1_mostTold_17 : decode cX1_mostTold 17 = .ok (.aload_n 3, 1) := dk_45 (dk_at dksX1_mostTold_0 17 rfl rfl)
theorem dX1_mostTold_18 : decode cX1_mostTold 18 = .ok (.getfield 271, 3) := dk_180 1 15 (dk_at dksX1_mostTold_0 18 rfl rfl)
theorem dX1_mostTold_21 : decode cX1_mostTold 21 = .ok (.bipush 12, 2) := dk_16 12 (dk_at dksX1_mostTold_0 21 rfl rfl)
theorem dX1_mostTold_23 : decode cX1_mostTold 23 = .ok (.idiv, 1) := dk_108 (dk_at dksX1_mostTold_0 23 rfl rfl)
theorem dX1_mostTold_24 : decode cX1_mostTold 24 = .ok (.aload_n 0, 1) := dk_42 (dk_at dksX1_mostTold_1 0 rfl rfl)
theorem dX1_mostTold_25 : decode cX1_mostTold 25 = .ok (.getfield 19, 3) := dk_180 0 19 (dk_at dksX1_mostTold_1 1 rfl rfl)
theorem dX1_mostTold_28 : decode cX1_mostTold 28 = .ok (.getfield 113, 3) := dk_180 0 113 (dk_at dksX1_mostTold_1 4 rfl rfl)
theorem dX1_mostTold_31 : decode cX1_mostTold 31 = .ok (.invokestatic 337, 3) := dk_184 1 81 (dk_at dksX1_mostTold_1 7 rfl rfl)
theorem dX1_mostTold_34 : decode cX1_mostTold 34 = .ok (.invokestatic 337, 3) := dk_184 1 81 (dk_at dksX1_mostTold_1 10 rfl rfl)
theorem dX1_mostTold_37 : decode cX1_mostTold 37 = .ok (.istore 4, 2) := dk_54 4 (dk_at dksX1_mostTold_1 13 rfl rfl)
theorem dX1_mostTold_39 : decode cX1_mostTold 39 = .ok (.iload 4, 2) := dk_21 4 (dk_at dksX1_mostTold_1 15 rfl rfl)
theorem dX1_mostTold_41 : decode cX1_mostTold 41 = .ok (.aload_n 0, 1) := dk_42 (dk_at dksX1_mostTold_1 17 rfl rfl)
theorem dX1_mostTold_42 : decode cX1_mostTold 42 = .ok (.getfield 19, 3) := dk_180 0 19 (dk_at dksX1_mostTold_1 18 rfl rfl)
theorem dX1_mostTold_45 : decode cX1_mostTold 45 = .ok (.getfield 77, 3) := dk_180 0 77 (dk_at dksX1_mostTold_1 21 rfl rfl)
theorem dX1_mostTold_48 : decode cX1_mostTold 48 = .ok (.iload_n 2, 1) := dk_28 (dk_at dksX1_mostTold_2 0 rfl rfl)
theorem dX1_mostTold_49 : decode cX1_mostTold 49 = .ok (.invokevirtual 103, 3) := dk_182 0 103 (dk_at dksX1_mostTold_2 1 rfl rfl)
theorem dX1_mostTold_52 : decode cX1_mostTold 52 = .ok (.checkcast 100, 3) := dk_192 0 100 (dk_at dksX1_mostTold_2 4 rfl rfl)
theorem dX1_mostTold_55 : decode cX1_mostTold 55 = .ok (.getfield 106, 3) := dk_180 0 106 (dk_at dksX1_mostTold_2 7 rfl rfl)
theorem dX1_mostTold_58 : decode cX1_mostTold 58 = .ok (.aload_n 0, 1) := dk_42 (dk_at dksX1_mostTold_2 10 rfl rfl)
theorem dX1_mostTold_59 : decode cX1_mostTold 59 = .ok (.getfield 19, 3) := dk_180 0 19 (dk_at dksX1_mostTold_2 11 rfl rfl)
theorem dX1_mostTold_62 : decode cX1_mostTold 62 = .ok (.aload_n 3, 1) := dk_45 (dk_at dksX1_mostTold_2 14 rfl rfl)
theorem dX1_mostTold_63 : decode cX1_mostTold 63 = .ok (.iconst 1, 1) := dk_4 (dk_at dksX1_mostTold_2 15 rfl rfl)
theorem dX1_mostTold_64 : decode cX1_mostTold 64 = .ok (.invokevirtual 342, 3) := dk_182 1 86 (dk_at dksX1_mostTold_2 16 rfl rfl)
theorem dX1_mostTold_67 : decode cX1_mostTold 67 = .ok (.idiv, 1) := dk_108 (dk_at dksX1_mostTold_2 19 rfl rfl)
theorem dX1_mostTold_68 : decode cX1_mostTold 68 = .ok (.invokestatic 337, 3) := dk_184 1 81 (dk_at dksX1_mostTold_2 20 rfl rfl)
theorem dX1_mostTold_71 : decode cX1_mostTold 71 = .ok (.ireturn, 1) := dk_172 (dk_at dksX1_mostTold_2 23 rfl rfl)
abbrev cX1_isOfShop : ByteArray := prog_1_method_43_code
def yX1_isOfShop : MethodName := ⟨RX1, "isOfShop", "(I)Z"⟩
def dkwX1_isOfShop_1 : List UInt8 := [16, 27, 184, 0, 73, 153, 0, 7, 4, 167, 0, 4, 3, 172]
abbrev dktX1_isOfShop_1 : List UInt8 := dkwX1_isOfShop_1 ++ []
def dkwX1_isOfShop_0 : List UInt8 := [26, 3, 16, 6, 184, 0, 73, 154, 0, 25, 26, 16, 10, 16, 17, 184, 0, 73, 154, 0, 14, 26, 16, 20]
abbrev dktX1_isOfShop_0 : List UInt8 := dkwX1_isOfShop_0 ++ dktX1_isOfShop_1
theorem dksX1_isOfShop_0 : cX1_isOfShop.data.toList.drop 0 = dktX1_isOfShop_0 := by decide +kernel
theorem dksX1_isOfShop_1 : cX1_isOfShop.data.toList.drop 24 = dktX1_isOfShop_1 := dk_seg dksX1_isOfShop_0 24 rfl rfl
theorem dX1_isOfShop_0 : decode cX1_isOfShop 0 = .ok (.iload_n 0, 1) := dk_26 (dk_at dksX1_isOfShop_0 0 rfl rfl)
theorem dX1_isOfShop_1 : decode cX1_isOfShop 1 = .ok (.iconst 0, 1) := dk_3 (dk_at dksX1_isOfShop_0 1 rfl rfl)
theorem dX1_isOfShop_2 : decode cX1_isOfShop 2 = .ok (.bipush 6, 2) := dk_16 6 (dk_at dksX1_isOfShop_0 2 rfl rfl)
theorem dX1_isOfShop_4 : decode cX1_isOfShop 4 = .ok (.invokestatic 73, 3) := dk_184 0 73 (dk_at dksX1_isOfShop_0 4 rfl rfl)
theorem dX1_isOfShop_7 : decode cX1_isOfShop 7 = .ok (.ifCond .ne 25, 3) := dk_154 0 25 (dk_at dksX1_isOfShop_0 7 rfl rfl)
theorem dX1_isOfShop_10 : decode cX1_isOfShop 10 = .ok (.iload_n 0, 1) := dk_26 (dk_at dksX1_isOfShop_0 10 rfl rfl)
theorem dX1_isOfShop_11 : decode cX1_isOfShop 11 = .ok (.bipush 10, 2) := dk_16 10 (dk_at dksX1_isOfShop_0 11 rfl rfl)
theorem dX1_isOfShop_13 : decode cX1_isOfShop 13 = .ok (.bipush 17, 2) := dk_16 17 (dk_at dksX1_isOfShop_0 13 rfl rfl)
theorem dX1_isOfShop_15 : decode cX1_isOfShop 15 = .ok (.invokestatic 73, 3) := dk_184 0 73 (dk_at dksX1_isOfShop_0 15 rfl rfl)
theorem dX1_isOfShop_18 : decode cX1_isOfShop 18 = .ok (.ifCond .ne 14, 3) := dk_154 0 14 (dk_at dksX1_isOfShop_0 18 rfl rfl)
theorem dX1_isOfShop_21 : decode cX1_isOfShop 21 = .ok (.iload_n 0, 1) := dk_26 (dk_at dksX1_isOfShop_0 21 rfl rfl)
theorem dX1_isOfShop_22 : decode cX1_isOfShop 22 = .ok (.bipush 20, 2) := dk_16 20 (dk_at dksX1_isOfShop_0 22 rfl rfl)
theorem dX1_isOfShop_24 : decode cX1_isOfShop 24 = .ok (.bipush 27, 2) := dk_16 27 (dk_at dksX1_isOfShop_1 0 rfl rfl)
theorem dX1_isOfShop_26 : decode cX1_isOfShop 26 = .ok (.invokestatic 73, 3) := dk_184 0 73 (dk_at dksX1_isOfShop_1 2 rfl rfl)
theorem dX1_isOfShop_29 : decode cX1_isOfShop 29 = .ok (.ifCond .eq 7, 3) := dk_153 0 7 (dk_at dksX1_isOfShop_1 5 rfl rfl)
theorem dX1_isOfShop_32 : decode cX1_isOfShop 32 = .ok (.iconst 1, 1) := dk_4 (dk_at dksX1_isOfShop_1 8 rfl rfl)
theorem dX1_isOfShop_33 : decode cX1_isOfShop 33 = .ok (.goto 4, 3) := dk_167 0 4 (dk_at dksX1_isOfShop_1 9 rfl rfl)
theorem dX1_isOfShop_36 : decode cX1_isOfShop 36 = .ok (.iconst 0, 1) := dk_3 (dk_at dksX1_isOfShop_1 12 rfl rfl)
theorem dX1_isOfShop_37 : decode cX1_isOfShop 37 = .ok (.ireturn, 1) := dk_172 (dk_at dksX1_isOfShop_1 13 rfl rfl)
abbrev cX1_shopTold : ByteArray := prog_1_method_44_code
def yX1_shopTold : MethodName := ⟨RX1, "shopTold", "(II)I"⟩
def dkwX1_shopTold_5 : List UInt8 := [172]
abbrev dktX1_shopTold_5 : List UInt8 := dkwX1_shopTold_5 ++ []
def dkwX1_shopTold_4 : List UInt8 := [162, 0, 15, 45, 180, 1, 7, 28, 16, 10, 100, 46, 167, 0, 12, 45, 180, 1, 10, 28, 16, 20, 100, 46]
abbrev dktX1_shopTold_4 : List UInt8 := dkwX1_shopTold_4 ++ dktX1_shopTold_5
def dkwX1_shopTold_3 : List UInt8 := [184, 1, 46, 172, 45, 180, 1, 50, 172, 45, 180, 1, 53, 172, 45, 180, 1, 56, 172, 28, 16, 20]
abbrev dktX1_shopTold_3 : List UInt8 := dkwX1_shopTold_3 ++ dktX1_shopTold_4
def dkwX1_shopTold_2 : List UInt8 := [45, 180, 0, 106, 172, 45, 180, 0, 110, 172, 45, 180, 1, 7, 184, 1, 46, 172, 45, 180, 1, 10]
abbrev dktX1_shopTold_2 : List UInt8 := dkwX1_shopTold_2 ++ dktX1_shopTold_3
def dkwX1_shopTold_1 : List UInt8 := [170, 0, 0, 0, 0, 0, 0, 85, 0, 0, 0, 0, 0, 0, 0, 6, 0, 0, 0, 44, 0, 0, 0, 49, 0, 0, 0, 54, 0, 0, 0, 62, 0, 0, 0, 70, 0, 0, 0, 75, 0, 0, 0, 80]
abbrev dktX1_shopTold_1 : List UInt8 := dkwX1_shopTold_1 ++ dktX1_shopTold_2
def dkwX1_shopTold_0 : List UInt8 := [42, 180, 0, 19, 180, 0, 77, 27, 182, 0, 103, 192, 0, 100, 78, 28]
abbrev dktX1_shopTold_0 : List UInt8 := dkwX1_shopTold_0 ++ dktX1_shopTold_1
theorem dksX1_shopTold_0 : cX1_shopTold.data.toList.drop 0 = dktX1_shopTold_0 := by decide +kernel
theorem dksX1_shopTold_1 : cX1_shopTold.data.toList.drop 16 = dktX1_shopTold_1 := dk_seg dksX1_shopTold_0 16 rfl rfl
theorem dksX1_shopTold_2 : cX1_shopTold.data.toList.drop 60 = dktX1_shopTold_2 := dk_seg dksX1_shopTold_1 44 rfl rfl
theorem dksX1_shopTold_3 : cX1_shopTold.data.toList.drop 82 = dktX1_shopTold_3 := dk_seg dksX1_shopTold_2 22 rfl rfl
theorem dksX1_shopTold_4 : cX1_shopTold.data.toList.drop 104 = dktX1_shopTold_4 := dk_seg dksX1_shopTold_3 22 rfl rfl
theorem dksX1_shopTold_5 : cX1_shopTold.data.toList.drop 128 = dktX1_shopTold_5 := dk_seg dksX1_shopTold_4 24 rfl rfl
theorem dX1_shopTold_0 : decode cX1_shopTold 0 = .ok (.aload_n 0, 1) := dk_42 (dk_at dksX1_shopTold_0 0 rfl rfl)
theorem dX1_shopTold_1 : decode cX1_shopTold 1 = .ok (.getfield 19, 3) := dk_180 0 19 (dk_at dksX1_shopTold_0 1 rfl rfl)
theorem dX1_shopTold_4 : decode cX1_shopTold 4 = .ok (.getfield 77, 3) := dk_180 0 77 (dk_at dksX1_shopTold_0 4 rfl rfl)
theorem dX1_shopTold_7 : decode cX1_shopTold 7 = .ok (.iload_n 1, 1) := dk_27 (dk_at dksX1_shopTold_0 7 rfl rfl)
theorem dX1_shopTold_8 : decode cX1_shopTold 8 = .ok (.invokevirtual 103, 3) := dk_182 0 103 (dk_at dksX1_shopTold_0 8 rfl rfl)
theorem dX1_shopTold_11 : decode cX1_shopTold 11 = .ok (.checkcast 100, 3) := dk_192 0 100 (dk_at dksX1_shopTold_0 11 rfl rfl)
theorem dX1_shopTold_14 : decode cX1_shopTold 14 = .ok (.astore_n 3, 1) := dk_78 (dk_at dksX1_shopTold_0 14 rfl rfl)
theorem dX1_shopTold_15 : decode cX1_shopTold 15 = .ok (.iload_n 2, 1) := dk_28 (dk_at dksX1_shopTold_0 15 rfl rfl)
theorem dX1_shopTold_16 : decode cX1_shopTold 16 = .ok (.tableswitch 85 0 6 #[44, 49, 54, 62, 70, 75, 80], 44) := by decide +kernel
theorem dX1_shopTold_60 : decode cX1_shopTold 60 = .ok (.aload_n 3, 1) := dk_45 (dk_at dksX1_shopTold_2 0 rfl rfl)
theorem dX1_shopTold_61 : decode cX1_shopTold 61 = .ok (.getfield 106, 3) := dk_180 0 106 (dk_at dksX1_shopTold_2 1 rfl rfl)
theorem dX1_shopTold_64 : decode cX1_shopTold 64 = .ok (.ireturn, 1) := dk_172 (dk_at dksX1_shopTold_2 4 rfl rfl)
theorem dX1_shopTold_65 : decode cX1_shopTold 65 = .ok (.aload_n 3, 1) := dk_45 (dk_at dksX1_shopTold_2 5 rfl rfl)
theorem dX1_shopTold_66 : decode cX1_shopTold 66 = .ok (.getfield 110, 3) := dk_180 0 110 (dk_at dksX1_shopTold_2 6 rfl rfl)
theorem dX1_shopTold_69 : decode cX1_shopTold 69 = .ok (.ireturn, 1) := dk_172 (dk_at dksX1_shopTold_2 9 rfl rfl)
theorem dX1_shopTold_70 : decode cX1_shopTold 70 = .ok (.aload_n 3, 1) := dk_45 (dk_at dksX1_shopTold_2 10 rfl rfl)
theorem dX1_shopTold_71 : decode cX1_shopTold 71 = .ok (.getfield 263, 3) := dk_180 1 7 (dk_at dksX1_shopTold_2 11 rfl rfl)
theorem dX1_shopTold_74 : decode cX1_shopTold 74 = .ok (.invokestatic 302, 3) := dk_184 1 46 (dk_at dksX1_shopTold_2 14 rfl rfl)
theorem dX1_shopTold_77 : decode cX1_shopTold 77 = .ok (.ireturn, 1) := dk_172 (dk_at dksX1_shopTold_2 17 rfl rfl)
theorem dX1_shopTold_78 : decode cX1_shopTold 78 = .ok (.aload_n 3, 1) := dk_45 (dk_at dksX1_shopTold_2 18 rfl rfl)
theorem dX1_shopTold_79 : decode cX1_shopTold 79 = .ok (.getfield 266, 3) := dk_180 1 10 (dk_at dksX1_shopTold_2 19 rfl rfl)
theorem dX1_shopTold_82 : decode cX1_shopTold 82 = .ok (.invokestatic 302, 3) := dk_184 1 46 (dk_at dksX1_shopTold_3 0 rfl rfl)
theorem dX1_shopTold_85 : decode cX1_shopTold 85 = .ok (.ireturn, 1) := dk_172 (dk_at dksX1_shopTold_3 3 rfl rfl)
theorem dX1_shopTold_86 : decode cX1_shopTold 86 = .ok (.aload_n 3, 1) := dk_45 (dk_at dksX1_shopTold_3 4 rfl rfl)
theorem dX1_shopTold_87 : decode cX1_shopTold 87 = .ok (.getfield 306, 3) := dk_180 1 50 (dk_at dksX1_shopTold_3 5 rfl rfl)
theorem dX1_shopTold_90 : decode cX1_shopTold 90 = .ok (.ireturn, 1) := dk_172 (dk_at dksX1_shopTold_3 8 rfl rfl)
theorem dX1_shopTold_91 : decode cX1_shopTold 91 = .ok (.aload_n 3, 1) := dk_45 (dk_at dksX1_shopTold_3 9 rfl rfl)
theorem dX1_shopTold_92 : decode cX1_shopTold 92 = .ok (.getfield 309, 3) := dk_180 1 53 (dk_at dksX1_shopTold_3 10 rfl rfl)
theorem dX1_shopTold_95 : decode cX1_shopTold 95 = .ok (.ireturn, 1) := dk_172 (dk_at dksX1_shopTold_3 13 rfl rfl)
theorem dX1_shopTold_96 : decode cX1_shopTold 96 = .ok (.aload_n 3, 1) := dk_45 (dk_at dksX1_shopTold_3 14 rfl rfl)
theorem dX1_shopTold_97 : decode cX1_shopTold 97 = .ok (.getfield 312, 3) := dk_180 1 56 (dk_at dksX1_shopTold_3 15 rfl rfl)
theorem dX1_shopTold_100 : decode cX1_shopTold 100 = .ok (.ireturn, 1) := dk_172 (dk_at dksX1_shopTold_3 18 rfl rfl)
theorem dX1_shopTold_101 : decode cX1_shopTold 101 = .ok (.iload_n 2, 1) := dk_28 (dk_at dksX1_shopTold_3 19 rfl rfl)
theorem dX1_shopTold_102 : decode cX1_shopTold 102 = .ok (.bipush 20, 2) := dk_16 20 (dk_at dksX1_shopTold_3 20 rfl rfl)
theorem dX1_shopTold_104 : decode cX1_shopTold 104 = .ok (.if_icmp .ge 15, 3) := dk_162 0 15 (dk_at dksX1_shopTold_4 0 rfl rfl)
theorem dX1_shopTold_107 : decode cX1_shopTold 107 = .ok (.aload_n 3, 1) := dk_45 (dk_at dksX1_shopTold_4 3 rfl rfl)
theorem dX1_shopTold_108 : decode cX1_shopTold 108 = .ok (.getfield 263, 3) := dk_180 1 7 (dk_at dksX1_shopTold_4 4 rfl rfl)
theorem dX1_shopTold_111 : decode cX1_shopTold 111 = .ok (.iload_n 2, 1) := dk_28 (dk_at dksX1_shopTold_4 7 rfl rfl)
theorem dX1_shopTold_112 : decode cX1_shopTold 112 = .ok (.bipush 10, 2) := dk_16 10 (dk_at dksX1_shopTold_4 8 rfl rfl)
theorem dX1_shopTold_114 : decode cX1_shopTold 114 = .ok (.isub, 1) := dk_100 (dk_at dksX1_shopTold_4 10 rfl rfl)
theorem dX1_shopTold_115 : decode cX1_shopTold 115 = .ok (.iaload, 1) := dk_46 (dk_at dksX1_shopTold_4 11 rfl rfl)
theorem dX1_shopTold_116 : decode cX1_shopTold 116 = .ok (.goto 12, 3) := dk_167 0 12 (dk_at dksX1_shopTold_4 12 rfl rfl)
theorem dX1_shopTold_119 : decode cX1_shopTold 119 = .ok (.aload_n 3, 1) := dk_45 (dk_at dksX1_shopTold_4 15 rfl rfl)
theorem dX1_shopTold_120 : decode cX1_shopTold 120 = .ok (.getfield 266, 3) := dk_180 1 10 (dk_at dksX1_shopTold_4 16 rfl rfl)
theorem dX1_shopTold_123 : decode cX1_shopTold 123 = .ok (.iload_n 2, 1) := dk_28 (dk_at dksX1_shopTold_4 19 rfl rfl)
theorem dX1_shopTold_124 : decode cX1_shopTold 124 = .ok (.bipush 20, 2) := dk_16 20 (dk_at dksX1_shopTold_4 20 rfl rfl)
theorem dX1_shopTold_126 : decode cX1_shopTold 126 = .ok (.isub, 1) := dk_100 (dk_at dksX1_shopTold_4 22 rfl rfl)
theorem dX1_shopTold_127 : decode cX1_shopTold 127 = .ok (.iaload, 1) := dk_46 (dk_at dksX1_shopTold_4 23 rfl rfl)
theorem dX1_shopTold_128 : decode cX1_shopTold 128 = .ok (.ireturn, 1) := dk_172 (dk_at dksX1_shopTold_5 0 rfl rfl)
abbrev cX1_sum : ByteArray := prog_1_method_5_code
def yX1_sum : MethodName := ⟨RX1, "sum", "([I)I"⟩
def dkwX1_sum_1 : List UInt8 := [21, 5, 96, 60, 132, 4, 1, 167, 255, 236, 27, 172]
abbrev dktX1_sum_1 : List UInt8 := dkwX1_sum_1 ++ []
def dkwX1_sum_0 : List UInt8 := [3, 60, 42, 77, 44, 190, 62, 3, 54, 4, 21, 4, 29, 162, 0, 20, 44, 21, 4, 46, 54, 5, 27]
abbrev dktX1_sum_0 : List UInt8 := dkwX1_sum_0 ++ dktX1_sum_1
theorem dksX1_sum_0 : cX1_sum.data.toList.drop 0 = dktX1_sum_0 := by decide +kernel
theorem dksX1_sum_1 : cX1_sum.data.toList.drop 23 = dktX1_sum_1 := dk_seg dksX1_sum_0 23 rfl rfl
theorem dX1_sum_0 : decode cX1_sum 0 = .ok (.iconst 0, 1) := dk_3 (dk_at dksX1_sum_0 0 rfl rfl)
theorem dX1_sum_1 : decode cX1_sum 1 = .ok (.istore_n 1, 1) := dk_60 (dk_at dksX1_sum_0 1 rfl rfl)
theorem dX1_sum_2 : decode cX1_sum 2 = .ok (.aload_n 0, 1) := dk_42 (dk_at dksX1_sum_0 2 rfl rfl)
theorem dX1_sum_3 : decode cX1_sum 3 = .ok (.astore_n 2, 1) := dk_77 (dk_at dksX1_sum_0 3 rfl rfl)
theorem dX1_sum_4 : decode cX1_sum 4 = .ok (.aload_n 2, 1) := dk_44 (dk_at dksX1_sum_0 4 rfl rfl)
theorem dX1_sum_5 : decode cX1_sum 5 = .ok (.arraylength, 1) := dk_190 (dk_at dksX1_sum_0 5 rfl rfl)
theorem dX1_sum_6 : decode cX1_sum 6 = .ok (.istore_n 3, 1) := dk_62 (dk_at dksX1_sum_0 6 rfl rfl)
theorem dX1_sum_7 : decode cX1_sum 7 = .ok (.iconst 0, 1) := dk_3 (dk_at dksX1_sum_0 7 rfl rfl)
theorem dX1_sum_8 : decode cX1_sum 8 = .ok (.istore 4, 2) := dk_54 4 (dk_at dksX1_sum_0 8 rfl rfl)
theorem dX1_sum_10 : decode cX1_sum 10 = .ok (.iload 4, 2) := dk_21 4 (dk_at dksX1_sum_0 10 rfl rfl)
theorem dX1_sum_12 : decode cX1_sum 12 = .ok (.iload_n 3, 1) := dk_29 (dk_at dksX1_sum_0 12 rfl rfl)
theorem dX1_sum_13 : decode cX1_sum 13 = .ok (.if_icmp .ge 20, 3) := dk_162 0 20 (dk_at dksX1_sum_0 13 rfl rfl)
theorem dX1_sum_16 : decode cX1_sum 16 = .ok (.aload_n 2, 1) := dk_44 (dk_at dksX1_sum_0 16 rfl rfl)
theorem dX1_sum_17 : decode cX1_sum 17 = .ok (.iload 4, 2) := dk_21 4 (dk_at dksX1_sum_0 17 rfl rfl)
theorem dX1_sum_19 : decode cX1_sum 19 = .ok (.iaload, 1) := dk_46 (dk_at dksX1_sum_0 19 rfl rfl)
theorem dX1_sum_20 : decode cX1_sum 20 = .ok (.istore 5, 2) := dk_54 5 (dk_at dksX1_sum_0 20 rfl rfl)
theorem dX1_sum_22 : decode cX1_sum 22 = .ok (.iload_n 1, 1) := dk_27 (dk_at dksX1_sum_0 22 rfl rfl)
theorem dX1_sum_23 : decode cX1_sum 23 = .ok (.iload 5, 2) := dk_21 5 (dk_at dksX1_sum_1 0 rfl rfl)
theorem dX1_sum_25 : decode cX1_sum 25 = .ok (.iadd, 1) := dk_96 (dk_at dksX1_sum_1 2 rfl rfl)
theorem dX1_sum_26 : decode cX1_sum 26 = .ok (.istore_n 1, 1) := dk_60 (dk_at dksX1_sum_1 3 rfl rfl)
theorem dX1_sum_27 : decode cX1_sum 27 = .ok (.iinc 4 1, 3) := dk_132 4 1 (dk_at dksX1_sum_1 4 rfl rfl)
theorem dX1_sum_30 : decode cX1_sum 30 = .ok (.goto (-20), 3) := dk_167 255 236 (dk_at dksX1_sum_1 7 rfl rfl)
theorem dX1_sum_33 : decode cX1_sum 33 = .ok (.iload_n 1, 1) := dk_27 (dk_at dksX1_sum_1 10 rfl rfl)
theorem dX1_sum_34 : decode cX1_sum 34 = .ok (.ireturn, 1) := dk_172 (dk_at dksX1_sum_1 11 rfl rfl)
abbrev cX1_bestTold : ByteArray := prog_1_method_59_code
def yX1_bestTold : MethodName := ⟨RX1, "bestTold", "(I)I"⟩
def dkwX1_bestTold_2 : List UInt8 := [184, 1, 114, 62, 132, 4, 1, 167, 255, 209, 28, 172]
abbrev dktX1_bestTold_2 : List UInt8 := dkwX1_bestTold_2 ++ []
def dkwX1_bestTold_1 : List UInt8 := [21, 4, 27, 182, 1, 97, 54, 5, 21, 5, 29, 164, 0, 8, 21, 4, 167, 0, 4, 28, 61, 29, 21, 5]
abbrev dktX1_bestTold_1 : List UInt8 := dkwX1_bestTold_1 ++ dktX1_bestTold_2
def dkwX1_bestTold_0 : List UInt8 := [2, 61, 3, 62, 3, 54, 4, 21, 4, 42, 180, 0, 19, 180, 0, 77, 182, 0, 45, 162, 0, 38, 42]
abbrev dktX1_bestTold_0 : List UInt8 := dkwX1_bestTold_0 ++ dktX1_bestTold_1
theorem dksX1_bestTold_0 : cX1_bestTold.data.toList.drop 0 = dktX1_bestTold_0 := by decide +kernel
theorem dksX1_bestTold_1 : cX1_bestTold.data.toList.drop 23 = dktX1_bestTold_1 := dk_seg dksX1_bestTold_0 23 rfl rfl
theorem dksX1_bestTold_2 : cX1_bestTold.data.toList.drop 47 = dktX1_bestTold_2 := dk_seg dksX1_bestTold_1 24 rfl rfl
theorem dX1_bestTold_0 : decode cX1_bestTold 0 = .ok (.iconst (-1), 1) := dk_2 (dk_at dksX1_bestTold_0 0 rfl rfl)
theorem dX1_bestTold_1 : decode cX1_bestTold 1 = .ok (.istore_n 2, 1) := dk_61 (dk_at dksX1_bestTold_0 1 rfl rfl)
theorem dX1_bestTold_2 : decode cX1_bestTold 2 = .ok (.iconst 0, 1) := dk_3 (dk_at dksX1_bestTold_0 2 rfl rfl)
theorem dX1_bestTold_3 : decode cX1_bestTold 3 = .ok (.istore_n 3, 1) := dk_62 (dk_at dksX1_bestTold_0 3 rfl rfl)
theorem dX1_bestTold_4 : decode cX1_bestTold 4 = .ok (.iconst 0, 1) := dk_3 (dk_at dksX1_bestTold_0 4 rfl rfl)
theorem dX1_bestTold_5 : decode cX1_bestTold 5 = .ok (.istore 4, 2) := dk_54 4 (dk_at dksX1_bestTold_0 5 rfl rfl)
theorem dX1_bestTold_7 : decode cX1_bestTold 7 = .ok (.iload 4, 2) := dk_21 4 (dk_at dksX1_bestTold_0 7 rfl rfl)
theorem dX1_bestTold_9 : decode cX1_bestTold 9 = .ok (.aload_n 0, 1) := dk_42 (dk_at dksX1_bestTold_0 9 rfl rfl)
theorem dX1_bestTold_10 : decode cX1_bestTold 10 = .ok (.getfield 19, 3) := dk_180 0 19 (dk_at dksX1_bestTold_0 10 rfl rfl)
theorem dX1_bestTold_13 : decode cX1_bestTold 13 = .ok (.getfield 77, 3) := dk_180 0 77 (dk_at dksX1_bestTold_0 13 rfl rfl)
theorem dX1_bestTold_16 : decode cX1_bestTold 16 = .ok (.invokevirtual 45, 3) := dk_182 0 45 (dk_at dksX1_bestTold_0 16 rfl rfl)
theorem dX1_bestTold_19 : decode cX1_bestTold 19 = .ok (.if_icmp .ge 38, 3) := dk_162 0 38 (dk_at dksX1_bestTold_0 19 rfl rfl)
theorem dX1_bestTold_22 : decode cX1_bestTold 22 = .ok (.aload_n 0, 1) := dk_42 (dk_at dksX1_bestTold_0 22 rfl rfl)
theorem dX1_bestTold_23 : decode cX1_bestTold 23 = .ok (.iload 4, 2) := dk_21 4 (dk_at dksX1_bestTold_1 0 rfl rfl)
theorem dX1_bestTold_25 : decode cX1_bestTold 25 = .ok (.iload_n 1, 1) := dk_27 (dk_at dksX1_bestTold_1 2 rfl rfl)
theorem dX1_bestTold_26 : decode cX1_bestTold 26 = .ok (.invokevirtual 353, 3) := dk_182 1 97 (dk_at dksX1_bestTold_1 3 rfl rfl)
theorem dX1_bestTold_29 : decode cX1_bestTold 29 = .ok (.istore 5, 2) := dk_54 5 (dk_at dksX1_bestTold_1 6 rfl rfl)
theorem dX1_bestTold_31 : decode cX1_bestTold 31 = .ok (.iload 5, 2) := dk_21 5 (dk_at dksX1_bestTold_1 8 rfl rfl)
theorem dX1_bestTold_33 : decode cX1_bestTold 33 = .ok (.iload_n 3, 1) := dk_29 (dk_at dksX1_bestTold_1 10 rfl rfl)
theorem dX1_bestTold_34 : decode cX1_bestTold 34 = .ok (.if_icmp .le 8, 3) := dk_164 0 8 (dk_at dksX1_bestTold_1 11 rfl rfl)
theorem dX1_bestTold_37 : decode cX1_bestTold 37 = .ok (.iload 4, 2) := dk_21 4 (dk_at dksX1_bestTold_1 14 rfl rfl)
theorem dX1_bestTold_39 : decode cX1_bestTold 39 = .ok (.goto 4, 3) := dk_167 0 4 (dk_at dksX1_bestTold_1 16 rfl rfl)
theorem dX1_bestTold_42 : decode cX1_bestTold 42 = .ok (.iload_n 2, 1) := dk_28 (dk_at dksX1_bestTold_1 19 rfl rfl)
theorem dX1_bestTold_43 : decode cX1_bestTold 43 = .ok (.istore_n 2, 1) := dk_61 (dk_at dksX1_bestTold_1 20 rfl rfl)
theorem dX1_bestTold_44 : decode cX1_bestTold 44 = .ok (.iload_n 3, 1) := dk_29 (dk_at dksX1_bestTold_1 21 rfl rfl)
theorem dX1_bestTold_45 : decode cX1_bestTold 45 = .ok (.iload 5, 2) := dk_21 5 (dk_at dksX1_bestTold_1 22 rfl rfl)
theorem dX1_bestTold_47 : decode cX1_bestTold 47 = .ok (.invokestatic 370, 3) := dk_184 1 114 (dk_at dksX1_bestTold_2 0 rfl rfl)
theorem dX1_bestTold_50 : decode cX1_bestTold 50 = .ok (.istore_n 3, 1) := dk_62 (dk_at dksX1_bestTold_2 3 rfl rfl)
theorem dX1_bestTold_51 : decode cX1_bestTold 51 = .ok (.iinc 4 1, 3) := dk_132 4 1 (dk_at dksX1_bestTold_2 4 rfl rfl)
theorem dX1_bestTold_54 : decode cX1_bestTold 54 = .ok (.goto (-47), 3) := dk_167 255 209 (dk_at dksX1_bestTold_2 7 rfl rfl)
theorem dX1_bestTold_57 : decode cX1_bestTold 57 = .ok (.iload_n 2, 1) := dk_28 (dk_at dksX1_bestTold_2 10 rfl rfl)
theorem dX1_bestTold_58 : decode cX1_bestTold 58 = .ok (.ireturn, 1) := dk_172 (dk_at dksX1_bestTold_2 11 rfl rfl)
abbrev cX1_mostFrom : ByteArray := prog_1_method_54_code
def yX1_mostFrom : MethodName := ⟨RX1, "mostFrom", "(II)I"⟩
def dkwX1_mostFrom_1 : List UInt8 := [182, 1, 93, 16, 12, 108, 45, 180, 0, 110, 184, 1, 81, 184, 1, 81, 172]
abbrev dktX1_mostFrom_1 : List UInt8 := dkwX1_mostFrom_1 ++ []
def dkwX1_mostFrom_0 : List UInt8 := [42, 180, 0, 19, 180, 0, 77, 27, 182, 0, 103, 192, 0, 100, 78, 16, 50, 42, 180, 0, 19, 45, 28]
abbrev dktX1_mostFrom_0 : List UInt8 := dkwX1_mostFrom_0 ++ dktX1_mostFrom_1
theorem dksX1_mostFrom_0 : cX1_mostFrom.data.toList.drop 0 = dktX1_mostFrom_0 := by decide +kernel
theorem dksX1_mostFrom_1 : cX1_mostFrom.data.toList.drop 23 = dktX1_mostFrom_1 := dk_seg dksX1_mostFrom_0 23 rfl rfl
theorem dX1_mostFrom_0 : decode cX1_mostFrom 0 = .ok (.aload_n 0, 1) := dk_42 (dk_at dksX1_mostFrom_0 0 rfl rfl)
theorem dX1_mostFrom_1 : decode cX1_mostFrom 1 = .ok (.getfield 19, 3) := dk_180 0 19 (dk_at dksX1_mostFrom_0 1 rfl rfl)
theorem dX1_mostFrom_4 : decode cX1_mostFrom 4 = .ok (.getfield 77, 3) := dk_180 0 77 (dk_at dksX1_mostFrom_0 4 rfl rfl)
theorem dX1_mostFrom_7 : decode cX1_mostFrom 7 = .ok (.iload_n 1, 1) := dk_27 (dk_at dksX1_mostFrom_0 7 rfl rfl)
theorem dX1_mostFrom_8 : decode cX1_mostFrom 8 = .ok (.invokevirtual 103, 3) := dk_182 0 103 (dk_at dksX1_mostFrom_0 8 rfl rfl)
theorem dX1_mostFrom_11 : decode cX1_mostFrom 11 = .ok (.checkcast 100, 3) := dk_192 0 100 (dk_at dksX1_mostFrom_0 11 rfl rfl)
theorem dX1_mostFrom_14 : decode cX1_mostFrom 14 = .ok (.astore_n 3, 1) := dk_78 (dk_at dksX1_mostFrom_0 14 rfl rfl)
theorem dX1_mostFrom_15 : decode cX1_mostFrom 15 = .ok (.bipush 50, 2) := dk_16 50 (dk_at dksX1_mostFrom_0 15 rfl rfl)
theorem dX1_mostFrom_17 : decode cX1_mostFrom 17 = .ok (.aload_n 0, 1) := dk_42 (dk_at dksX1_mostFrom_0 17 rfl rfl)
theorem dX1_mostFrom_18 : decode cX1_mostFrom 18 = .ok (.getfield 19, 3) := dk_180 0 19 (dk_at dksX1_mostFrom_0 18 rfl rfl)
theorem dX1_mostFrom_21 : decode cX1_mostFrom 21 = .ok (.aload_n 3, 1) := dk_45 (dk_at dksX1_mostFrom_0 21 rfl rfl)
theorem dX1_mostFrom_22 : decode cX1_mostFrom 22 = .ok (.iload_n 2, 1) := dk_28 (dk_at dksX1_mostFrom_0 22 rfl rfl)
theorem dX1_mostFrom_23 : decode cX1_mostFrom 23 = .ok (.invokevirtual 349, 3) := dk_182 1 93 (dk_at dksX1_mostFrom_1 0 rfl rfl)
theorem dX1_mostFrom_26 : decode cX1_mostFrom 26 = .ok (.bipush 12, 2) := dk_16 12 (dk_at dksX1_mostFrom_1 3 rfl rfl)
theorem dX1_mostFrom_28 : decode cX1_mostFrom 28 = .ok (.idiv, 1) := dk_108 (dk_at dksX1_mostFrom_1 5 rfl rfl)
theorem dX1_mostFrom_29 : decode cX1_mostFrom 29 = .ok (.aload_n 3, 1) := dk_45 (dk_at dksX1_mostFrom_1 6 rfl rfl)
theorem dX1_mostFrom_30 : decode cX1_mostFrom 30 = .ok (.getfield 110, 3) := dk_180 0 110 (dk_at dksX1_mostFrom_1 7 rfl rfl)
theorem dX1_mostFrom_33 : decode cX1_mostFrom 33 = .ok (.invokestatic 337, 3) := dk_184 1 81 (dk_at dksX1_mostFrom_1 10 rfl rfl)
theorem dX1_mostFrom_36 : decode cX1_mostFrom 36 = .ok (.invokestatic 337, 3) := dk_184 1 81 (dk_at dksX1_mostFrom_1 13 rfl rfl)
theorem dX1_mostFrom_39 : decode cX1_mostFrom 39 = .ok (.ireturn, 1) := dk_172 (dk_at dksX1_mostFrom_1 16 rfl rfl)
abbrev cX1_collectedTold : ByteArray := prog_1_method_55_code
def yX1_collectedTold : MethodName := ⟨RX1, "collectedTold", "(III)I"⟩
def dkwX1_collectedTold_2 : List UInt8 := [192, 0, 100, 21, 4, 29, 42, 180, 0, 41, 182, 1, 100, 42, 180, 0, 41, 28, 46, 172]
abbrev dktX1_collectedTold_2 : List UInt8 := dkwX1_collectedTold_2 ++ []
def dkwX1_collectedTold_1 : List UInt8 := [182, 1, 97, 29, 162, 0, 5, 2, 172, 42, 180, 0, 19, 42, 180, 0, 19, 180, 0, 77, 27, 182, 0, 103]
abbrev dktX1_collectedTold_1 : List UInt8 := dkwX1_collectedTold_1 ++ dktX1_collectedTold_2
def dkwX1_collectedTold_0 : List UInt8 := [42, 180, 0, 19, 180, 0, 70, 28, 182, 0, 103, 192, 0, 94, 180, 0, 196, 54, 4, 42, 27, 21, 4]
abbrev dktX1_collectedTold_0 : List UInt8 := dkwX1_collectedTold_0 ++ dktX1_collectedTold_1
theorem dksX1_collectedTold_0 : cX1_collectedTold.data.toList.drop 0 = dktX1_collectedTold_0 := by decide +kernel
theorem dksX1_collectedTold_1 : cX1_collectedTold.data.toList.drop 23 = dktX1_collectedTold_1 := dk_seg dksX1_collectedTold_0 23 rfl rfl
theorem dksX1_collectedTold_2 : cX1_collectedTold.data.toList.drop 47 = dktX1_collectedTold_2 := dk_seg dksX1_collectedTold_1 24 rfl rfl
theorem dX1_collectedTold_0 : decode cX1_collectedTold 0 = .ok (.aload_n 0, 1) := dk_42 (dk_at dksX1_collectedTold_0 0 rfl rfl)
theorem dX1_collectedTold_1 : decode cX1_collectedTold 1 = .ok (.getfield 19, 3) := dk_180 0 19 (dk_at dksX1_collectedTold_0 1 rfl rfl)
theorem dX1_collectedTold_4 : decode cX1_collectedTold 4 = .ok (.getfield 70, 3) := dk_180 0 70 (dk_at dksX1_collectedTold_0 4 rfl rfl)
theorem dX1_collectedTold_7 : decode cX1_collectedTold 7 = .ok (.iload_n 2, 1) := dk_28 (dk_at dksX1_collectedTold_0 7 rfl rfl)
theorem dX1_collectedTold_8 : decode cX1_collectedTold 8 = .ok (.invokevirtual 103, 3) := dk_182 0 103 (dk_at dksX1_collectedTold_0 8 rfl rfl)
theorem dX1_collectedTold_11 : decode cX1_collectedTold 11 = .ok (.checkcast 94, 3) := dk_192 0 94 (dk_at dksX1_collectedTold_0 11 rfl rfl)
theorem dX1_collectedTold_14 : decode cX1_collectedTold 14 = .ok (.getfield 196, 3) := dk_180 0 196 (dk_at dksX1_collectedTold_0 14 rfl rfl)
theorem dX1_collectedTold_17 : decode cX1_collectedTold 17 = .ok (.istore 4, 2) := dk_54 4 (dk_at dksX1_collectedTold_0 17 rfl rfl)
theorem dX1_collectedTold_19 : decode cX1_collectedTold 19 = .ok (.aload_n 0, 1) := dk_42 (dk_at dksX1_collectedTold_0 19 rfl rfl)
theorem dX1_collectedTold_20 : decode cX1_collectedTold 20 = .ok (.iload_n 1, 1) := dk_27 (dk_at dksX1_collectedTold_0 20 rfl rfl)
theorem dX1_collectedTold_21 : decode cX1_collectedTold 21 = .ok (.iload 4, 2) := dk_21 4 (dk_at dksX1_collectedTold_0 21 rfl rfl)
theorem dX1_collectedTold_23 : decode cX1_collectedTold 23 = .ok (.invokevirtual 353, 3) := dk_182 1 97 (dk_at dksX1_collectedTold_1 0 rfl rfl)
theorem dX1_collectedTold_26 : decode cX1_collectedTold 26 = .ok (.iload_n 3, 1) := dk_29 (dk_at dksX1_collectedTold_1 3 rfl rfl)
theorem dX1_collectedTold_27 : decode cX1_collectedTold 27 = .ok (.if_icmp .ge 5, 3) := dk_162 0 5 (dk_at dksX1_collectedTold_1 4 rfl rfl)
theorem dX1_collectedTold_30 : decode cX1_collectedTold 30 = .ok (.iconst (-1), 1) := dk_2 (dk_at dksX1_collectedTold_1 7 rfl rfl)
theorem dX1_collectedTold_31 : decode cX1_collectedTold 31 = .ok (.ireturn, 1) := dk_172 (dk_at dksX1_collectedTold_1 8 rfl rfl)
theorem dX1_collectedTold_32 : decode cX1_collectedTold 32 = .ok (.aload_n 0, 1) := dk_42 (dk_at dksX1_collectedTold_1 9 rfl rfl)
theorem dX1_collectedTold_33 : decode cX1_collectedTold 33 = .ok (.getfield 19, 3) := dk_180 0 19 (dk_at dksX1_collectedTold_1 10 rfl rfl)
theorem dX1_collectedTold_36 : decode cX1_collectedTold 36 = .ok (.aload_n 0, 1) := dk_42 (dk_at dksX1_collectedTold_1 13 rfl rfl)
theorem dX1_collectedTold_37 : decode cX1_collectedTold 37 = .ok (.getfield 19, 3) := dk_180 0 19 (dk_at dksX1_collectedTold_1 14 rfl rfl)
theorem dX1_collectedTold_40 : decode cX1_collectedTold 40 = .ok (.getfield 77, 3) := dk_180 0 77 (dk_at dksX1_collectedTold_1 17 rfl rfl)
theorem dX1_collectedTold_43 : decode cX1_collectedTold 43 = .ok (.iload_n 1, 1) := dk_27 (dk_at dksX1_collectedTold_1 20 rfl rfl)
theorem dX1_collectedTold_44 : decode cX1_collectedTold 44 = .ok (.invokevirtual 103, 3) := dk_182 0 103 (dk_at dksX1_collectedTold_1 21 rfl rfl)
theorem dX1_collectedTold_47 : decode cX1_collectedTold 47 = .ok (.checkcast 100, 3) := dk_192 0 100 (dk_at dksX1_collectedTold_2 0 rfl rfl)
theorem dX1_collectedTold_50 : decode cX1_collectedTold 50 = .ok (.iload 4, 2) := dk_21 4 (dk_at dksX1_collectedTold_2 3 rfl rfl)
theorem dX1_collectedTold_52 : decode cX1_collectedTold 52 = .ok (.iload_n 3, 1) := dk_29 (dk_at dksX1_collectedTold_2 5 rfl rfl)
theorem dX1_collectedTold_53 : decode cX1_collectedTold 53 = .ok (.aload_n 0, 1) := dk_42 (dk_at dksX1_collectedTold_2 6 rfl rfl)
theorem dX1_collectedTold_54 : decode cX1_collectedTold 54 = .ok (.getfield 41, 3) := dk_180 0 41 (dk_at dksX1_collectedTold_2 7 rfl rfl)
theorem dX1_collectedTold_57 : decode cX1_collectedTold 57 = .ok (.invokevirtual 356, 3) := dk_182 1 100 (dk_at dksX1_collectedTold_2 10 rfl rfl)
theorem dX1_collectedTold_60 : decode cX1_collectedTold 60 = .ok (.aload_n 0, 1) := dk_42 (dk_at dksX1_collectedTold_2 13 rfl rfl)
theorem dX1_collectedTold_61 : decode cX1_collectedTold 61 = .ok (.getfield 41, 3) := dk_180 0 41 (dk_at dksX1_collectedTold_2 14 rfl rfl)
theorem dX1_collectedTold_64 : decode cX1_collectedTold 64 = .ok (.iload_n 2, 1) := dk_28 (dk_at dksX1_collectedTold_2 17 rfl rfl)
theorem dX1_collectedTold_65 : decode cX1_collectedTold 65 = .ok (.iaload, 1) := dk_46 (dk_at dksX1_collectedTold_2 18 rfl rfl)
theorem dX1_collectedTold_66 : decode cX1_collectedTold 66 = .ok (.ireturn, 1) := dk_172 (dk_at dksX1_collectedTold_2 19 rfl rfl)
abbrev cX1_addBrand : ByteArray := prog_1_method_14_code
def yX1_addBrand : MethodName := ⟨RX1, "addBrand", "(II)I"⟩
def dkwX1_addBrand_3 : List UInt8 := [182, 0, 57, 87, 42, 180, 0, 19, 180, 0, 70, 182, 0, 45, 4, 100, 172]
abbrev dktX1_addBrand_3 : List UInt8 := dkwX1_addBrand_3 ++ []
def dkwX1_addBrand_2 : List UInt8 := [184, 0, 88, 42, 182, 0, 91, 42, 180, 0, 19, 180, 0, 70, 187, 0, 94, 89, 27, 28, 183, 0, 96]
abbrev dktX1_addBrand_2 : List UInt8 := dkwX1_addBrand_2 ++ dktX1_addBrand_3
def dkwX1_addBrand_1 : List UInt8 := [184, 0, 84, 42, 180, 0, 19, 180, 0, 70, 182, 0, 45, 16, 8, 162, 0, 7, 4, 167, 0, 4, 3]
abbrev dktX1_addBrand_1 : List UInt8 := dkwX1_addBrand_1 ++ dktX1_addBrand_2
def dkwX1_addBrand_0 : List UInt8 := [27, 184, 0, 80, 153, 0, 18, 28, 3, 17, 19, 136, 184, 0, 73, 153, 0, 7, 4, 167, 0, 4, 3]
abbrev dktX1_addBrand_0 : List UInt8 := dkwX1_addBrand_0 ++ dktX1_addBrand_1
theorem dksX1_addBrand_0 : cX1_addBrand.data.toList.drop 0 = dktX1_addBrand_0 := by decide +kernel
theorem dksX1_addBrand_1 : cX1_addBrand.data.toList.drop 23 = dktX1_addBrand_1 := dk_seg dksX1_addBrand_0 23 rfl rfl
theorem dksX1_addBrand_2 : cX1_addBrand.data.toList.drop 46 = dktX1_addBrand_2 := dk_seg dksX1_addBrand_1 23 rfl rfl
theorem dksX1_addBrand_3 : cX1_addBrand.data.toList.drop 69 = dktX1_addBrand_3 := dk_seg dksX1_addBrand_2 23 rfl rfl
theorem dX1_addBrand_0 : decode cX1_addBrand 0 = .ok (.iload_n 1, 1) := dk_27 (dk_at dksX1_addBrand_0 0 rfl rfl)
theorem dX1_addBrand_1 : decode cX1_addBrand 1 = .ok (.invokestatic 80, 3) := dk_184 0 80 (dk_at dksX1_addBrand_0 1 rfl rfl)
theorem dX1_addBrand_4 : decode cX1_addBrand 4 = .ok (.ifCond .eq 18, 3) := dk_153 0 18 (dk_at dksX1_addBrand_0 4 rfl rfl)
theorem dX1_addBrand_7 : decode cX1_addBrand 7 = .ok (.iload_n 2, 1) := dk_28 (dk_at dksX1_addBrand_0 7 rfl rfl)
theorem dX1_addBrand_8 : decode cX1_addBrand 8 = .ok (.iconst 0, 1) := dk_3 (dk_at dksX1_addBrand_0 8 rfl rfl)
theorem dX1_addBrand_9 : decode cX1_addBrand 9 = .ok (.sipush 5000, 3) := dk_17 19 136 (dk_at dksX1_addBrand_0 9 rfl rfl)
theorem dX1_addBrand_12 : decode cX1_addBrand 12 = .ok (.invokestatic 73, 3) := dk_184 0 73 (dk_at dksX1_addBrand_0 12 rfl rfl)
theorem dX1_addBrand_15 : decode cX1_addBrand 15 = .ok (.ifCond .eq 7, 3) := dk_153 0 7 (dk_at dksX1_addBrand_0 15 rfl rfl)
theorem dX1_addBrand_18 : decode cX1_addBrand 18 = .ok (.iconst 1, 1) := dk_4 (dk_at dksX1_addBrand_0 18 rfl rfl)
theorem dX1_addBrand_19 : decode cX1_addBrand 19 = .ok (.goto 4, 3) := dk_167 0 4 (dk_at dksX1_addBrand_0 19 rfl rfl)
theorem dX1_addBrand_22 : decode cX1_addBrand 22 = .ok (.iconst 0, 1) := dk_3 (dk_at dksX1_addBrand_0 22 rfl rfl)
theorem dX1_addBrand_23 : decode cX1_addBrand 23 = .ok (.invokestatic 84, 3) := dk_184 0 84 (dk_at dksX1_addBrand_1 0 rfl rfl)
theorem dX1_addBrand_26 : decode cX1_addBrand 26 = .ok (.aload_n 0, 1) := dk_42 (dk_at dksX1_addBrand_1 3 rfl rfl)
theorem dX1_addBrand_27 : decode cX1_addBrand 27 = .ok (.getfield 19, 3) := dk_180 0 19 (dk_at dksX1_addBrand_1 4 rfl rfl)
theorem dX1_addBrand_30 : decode cX1_addBrand 30 = .ok (.getfield 70, 3) := dk_180 0 70 (dk_at dksX1_addBrand_1 7 rfl rfl)
theorem dX1_addBrand_33 : decode cX1_addBrand 33 = .ok (.invokevirtual 45, 3) := dk_182 0 45 (dk_at dksX1_addBrand_1 10 rfl rfl)
theorem dX1_addBrand_36 : decode cX1_addBrand 36 = .ok (.bipush 8, 2) := dk_16 8 (dk_at dksX1_addBrand_1 13 rfl rfl)
theorem dX1_addBrand_38 : decode cX1_addBrand 38 = .ok (.if_icmp .ge 7, 3) := dk_162 0 7 (dk_at dksX1_addBrand_1 15 rfl rfl)
theorem dX1_addBrand_41 : decode cX1_addBrand 41 = .ok (.iconst 1, 1) := dk_4 (dk_at dksX1_addBrand_1 18 rfl rfl)
theorem dX1_addBrand_42 : decode cX1_addBrand 42 = .ok (.goto 4, 3) := dk_167 0 4 (dk_at dksX1_addBrand_1 19 rfl rfl)
theorem dX1_addBrand_45 : decode cX1_addBrand 45 = .ok (.iconst 0, 1) := dk_3 (dk_at dksX1_addBrand_1 22 rfl rfl)
theorem dX1_addBrand_46 : decode cX1_addBrand 46 = .ok (.invokestatic 88, 3) := dk_184 0 88 (dk_at dksX1_addBrand_2 0 rfl rfl)
theorem dX1_addBrand_49 : decode cX1_addBrand 49 = .ok (.aload_n 0, 1) := dk_42 (dk_at dksX1_addBrand_2 3 rfl rfl)
theorem dX1_addBrand_50 : decode cX1_addBrand 50 = .ok (.invokevirtual 91, 3) := dk_182 0 91 (dk_at dksX1_addBrand_2 4 rfl rfl)
theorem dX1_addBrand_53 : decode cX1_addBrand 53 = .ok (.aload_n 0, 1) := dk_42 (dk_at dksX1_addBrand_2 7 rfl rfl)
theorem dX1_addBrand_54 : decode cX1_addBrand 54 = .ok (.getfield 19, 3) := dk_180 0 19 (dk_at dksX1_addBrand_2 8 rfl rfl)
theorem dX1_addBrand_57 : decode cX1_addBrand 57 = .ok (.getfield 70, 3) := dk_180 0 70 (dk_at dksX1_addBrand_2 11 rfl rfl)
theorem dX1_addBrand_60 : decode cX1_addBrand 60 = .ok (.new 94, 3) := dk_187 0 94 (dk_at dksX1_addBrand_2 14 rfl rfl)
theorem dX1_addBrand_63 : decode cX1_addBrand 63 = .ok (.dup, 1) := dk_89 (dk_at dksX1_addBrand_2 17 rfl rfl)
theorem dX1_addBrand_64 : decode cX1_addBrand 64 = .ok (.iload_n 1, 1) := dk_27 (dk_at dksX1_addBrand_2 18 rfl rfl)
theorem dX1_addBrand_65 : decode cX1_addBrand 65 = .ok (.iload_n 2, 1) := dk_28 (dk_at dksX1_addBrand_2 19 rfl rfl)
theorem dX1_addBrand_66 : decode cX1_addBrand 66 = .ok (.invokespecial 96, 3) := dk_183 0 96 (dk_at dksX1_addBrand_2 20 rfl rfl)
theorem dX1_addBrand_69 : decode cX1_addBrand 69 = .ok (.invokevirtual 57, 3) := dk_182 0 57 (dk_at dksX1_addBrand_3 0 rfl rfl)
theorem dX1_addBrand_72 : decode cX1_addBrand 72 = .ok (.pop, 1) := dk_87 (dk_at dksX1_addBrand_3 3 rfl rfl)
theorem dX1_addBrand_73 : decode cX1_addBrand 73 = .ok (.aload_n 0, 1) := dk_42 (dk_at dksX1_addBrand_3 4 rfl rfl)
theorem dX1_addBrand_74 : decode cX1_addBrand 74 = .ok (.getfield 19, 3) := dk_180 0 19 (dk_at dksX1_addBrand_3 5 rfl rfl)
theorem dX1_addBrand_77 : decode cX1_addBrand 77 = .ok (.getfield 70, 3) := dk_180 0 70 (dk_at dksX1_addBrand_3 8 rfl rfl)
theorem dX1_addBrand_80 : decode cX1_addBrand 80 = .ok (.invokevirtual 45, 3) := dk_182 0 45 (dk_at dksX1_addBrand_3 11 rfl rfl)
theorem dX1_addBrand_83 : decode cX1_addBrand 83 = .ok (.iconst 1, 1) := dk_4 (dk_at dksX1_addBrand_3 14 rfl rfl)
theorem dX1_addBrand_84 : decode cX1_addBrand 84 = .ok (.isub, 1) := dk_100 (dk_at dksX1_addBrand_3 15 rfl rfl)
theorem dX1_addBrand_85 : decode cX1_addBrand 85 = .ok (.ireturn, 1) := dk_172 (dk_at dksX1_addBrand_3 16 rfl rfl)
abbrev cX1_isKind : ByteArray := prog_1_method_13_code
def yX1_isKind : MethodName := ⟨RX1, "isKind", "(I)Z"⟩
def dkwX1_isKind_0 : List UInt8 := [26, 3, 5, 184, 0, 73, 172]
abbrev dktX1_isKind_0 : List UInt8 := dkwX1_isKind_0 ++ []
theorem dksX1_isKind_0 : cX1_isKind.data.toList.drop 0 = dktX1_isKind_0 := by decide +kernel
theorem dX1_isKind_0 : decode cX1_isKind 0 = .ok (.iload_n 0, 1) := dk_26 (dk_at dksX1_isKind_0 0 rfl rfl)
theorem dX1_isKind_1 : decode cX1_isKind 1 = .ok (.iconst 0, 1) := dk_3 (dk_at dksX1_isKind_0 1 rfl rfl)
theorem dX1_isKind_2 : decode cX1_isKind 2 = .ok (.iconst 2, 1) := dk_5 (dk_at dksX1_isKind_0 2 rfl rfl)
theorem dX1_isKind_3 : decode cX1_isKind 3 = .ok (.invokestatic 73, 3) := dk_184 0 73 (dk_at dksX1_isKind_0 3 rfl rfl)
theorem dX1_isKind_6 : decode cX1_isKind 6 = .ok (.ireturn, 1) := dk_172 (dk_at dksX1_isKind_0 6 rfl rfl)
abbrev cX1_need : ByteArray := prog_1_method_8_code
def yX1_need : MethodName := ⟨RX1, "need", "(Z)V"⟩
def dkwX1_need_0 : List UInt8 := [26, 154, 0, 11, 187, 0, 61, 89, 183, 0, 63, 191, 177]
abbrev dktX1_need_0 : List UInt8 := dkwX1_need_0 ++ []
theorem dksX1_need_0 : cX1_need.data.toList.drop 0 = dktX1_need_0 := by decide +kernel
theorem dX1_need_0 : decode cX1_need 0 = .ok (.iload_n 0, 1) := dk_26 (dk_at dksX1_need_0 0 rfl rfl)
theorem dX1_need_1 : decode cX1_need 1 = .ok (.ifCond .ne 11, 3) := dk_154 0 11 (dk_at dksX1_need_0 1 rfl rfl)
theorem dX1_need_4 : decode cX1_need 4 = .ok (.new 61, 3) := dk_187 0 61 (dk_at dksX1_need_0 4 rfl rfl)
theorem dX1_need_7 : decode cX1_need 7 = .ok (.dup, 1) := dk_89 (dk_at dksX1_need_0 7 rfl rfl)
theorem dX1_need_8 : decode cX1_need 8 = .ok (.invokespecial 63, 3) := dk_183 0 63 (dk_at dksX1_need_0 8 rfl rfl)
theorem dX1_need_11 : decode cX1_need 11 = .ok (.athrow, 1) := dk_191 (dk_at dksX1_need_0 11 rfl rfl)
theorem dX1_need_12 : decode cX1_need 12 = .ok (.return_, 1) := dk_177 (dk_at dksX1_need_0 12 rfl rfl)
abbrev cX1_needState : ByteArray := prog_1_method_10_code
def yX1_needState : MethodName := ⟨RX1, "needState", "(Z)V"⟩
def dkwX1_needState_0 : List UInt8 := [26, 154, 0, 11, 187, 0, 67, 89, 183, 0, 69, 191, 177]
abbrev dktX1_needState_0 : List UInt8 := dkwX1_needState_0 ++ []
theorem dksX1_needState_0 : cX1_needState.data.toList.drop 0 = dktX1_needState_0 := by decide +kernel
theorem dX1_needState_0 : decode cX1_needState 0 = .ok (.iload_n 0, 1) := dk_26 (dk_at dksX1_needState_0 0 rfl rfl)
theorem dX1_needState_1 : decode cX1_needState 1 = .ok (.ifCond .ne 11, 3) := dk_154 0 11 (dk_at dksX1_needState_0 1 rfl rfl)
theorem dX1_needState_4 : decode cX1_needState 4 = .ok (.new 67, 3) := dk_187 0 67 (dk_at dksX1_needState_0 4 rfl rfl)
theorem dX1_needState_7 : decode cX1_needState 7 = .ok (.dup, 1) := dk_89 (dk_at dksX1_needState_0 7 rfl rfl)
theorem dX1_needState_8 : decode cX1_needState 8 = .ok (.invokespecial 69, 3) := dk_183 0 69 (dk_at dksX1_needState_0 8 rfl rfl)
theorem dX1_needState_11 : decode cX1_needState 11 = .ok (.athrow, 1) := dk_191 (dk_at dksX1_needState_0 11 rfl rfl)
theorem dX1_needState_12 : decode cX1_needState 12 = .ok (.return_, 1) := dk_177 (dk_at dksX1_needState_0 12 rfl rfl)
abbrev cX1_save : ByteArray := prog_1_method_7_code
def yX1_save : MethodName := ⟨RX1, "save", "()V"⟩
def dkwX1_save_1 : List UInt8 := [180, 0, 28, 42, 180, 0, 19, 182, 0, 53, 182, 0, 57, 87, 177]
abbrev dktX1_save_1 : List UInt8 := dkwX1_save_1 ++ []
def dkwX1_save_0 : List UInt8 := [42, 180, 0, 28, 182, 0, 45, 16, 6, 160, 0, 12, 42, 180, 0, 28, 3, 182, 0, 49, 87, 42]
abbrev dktX1_save_0 : List UInt8 := dkwX1_save_0 ++ dktX1_save_1
theorem dksX1_save_0 : cX1_save.data.toList.drop 0 = dktX1_save_0 := by decide +kernel
theorem dksX1_save_1 : cX1_save.data.toList.drop 22 = dktX1_save_1 := dk_seg dksX1_save_0 22 rfl rfl
theorem dX1_save_0 : decode cX1_save 0 = .ok (.aload_n 0, 1) := dk_42 (dk_at dksX1_save_0 0 rfl rfl)
theorem dX1_save_1 : decode cX1_save 1 = .ok (.getfield 28, 3) := dk_180 0 28 (dk_at dksX1_save_0 1 rfl rfl)
theorem dX1_save_4 : decode cX1_save 4 = .ok (.invokevirtual 45, 3) := dk_182 0 45 (dk_at dksX1_save_0 4 rfl rfl)
theorem dX1_save_7 : decode cX1_save 7 = .ok (.bipush 6, 2) := dk_16 6 (dk_at dksX1_save_0 7 rfl rfl)
theorem dX1_save_9 : decode cX1_save 9 = .ok (.if_icmp .ne 12, 3) := dk_160 0 12 (dk_at dksX1_save_0 9 rfl rfl)
theorem dX1_save_12 : decode cX1_save 12 = .ok (.aload_n 0, 1) := dk_42 (dk_at dksX1_save_0 12 rfl rfl)
theorem dX1_save_13 : decode cX1_save 13 = .ok (.getfield 28, 3) := dk_180 0 28 (dk_at dksX1_save_0 13 rfl rfl)
theorem dX1_save_16 : decode cX1_save 16 = .ok (.iconst 0, 1) := dk_3 (dk_at dksX1_save_0 16 rfl rfl)
theorem dX1_save_17 : decode cX1_save 17 = .ok (.invokevirtual 49, 3) := dk_182 0 49 (dk_at dksX1_save_0 17 rfl rfl)
theorem dX1_save_20 : decode cX1_save 20 = .ok (.pop, 1) := dk_87 (dk_at dksX1_save_0 20 rfl rfl)
theorem dX1_save_21 : decode cX1_save 21 = .ok (.aload_n 0, 1) := dk_42 (dk_at dksX1_save_0 21 rfl rfl)
theorem dX1_save_22 : decode cX1_save 22 = .ok (.getfield 28, 3) := dk_180 0 28 (dk_at dksX1_save_1 0 rfl rfl)
theorem dX1_save_25 : decode cX1_save 25 = .ok (.aload_n 0, 1) := dk_42 (dk_at dksX1_save_1 3 rfl rfl)
theorem dX1_save_26 : decode cX1_save 26 = .ok (.getfield 19, 3) := dk_180 0 19 (dk_at dksX1_save_1 4 rfl rfl)
theorem dX1_save_29 : decode cX1_save 29 = .ok (.invokevirtual 53, 3) := dk_182 0 53 (dk_at dksX1_save_1 7 rfl rfl)
theorem dX1_save_32 : decode cX1_save 32 = .ok (.invokevirtual 57, 3) := dk_182 0 57 (dk_at dksX1_save_1 10 rfl rfl)
theorem dX1_save_35 : decode cX1_save 35 = .ok (.pop, 1) := dk_87 (dk_at dksX1_save_1 13 rfl rfl)
theorem dX1_save_36 : decode cX1_save 36 = .ok (.return_, 1) := dk_177 (dk_at dksX1_save_1 14 rfl rfl)
abbrev cX1_addShop : ByteArray := prog_1_method_15_code
def yX1_addShop : MethodName := ⟨RX1, "addShop", "(I)I"⟩
def dkwX1_addShop_4 : List UInt8 := [180, 0, 77, 182, 0, 45, 4, 100, 172]
abbrev dktX1_addShop_4 : List UInt8 := dkwX1_addShop_4 ++ []
def dkwX1_addShop_3 : List UInt8 := [180, 0, 77, 182, 0, 45, 4, 100, 182, 0, 103, 192, 0, 100, 27, 181, 0, 106, 42, 180, 0, 19]
abbrev dktX1_addShop_3 : List UInt8 := dkwX1_addShop_3 ++ dktX1_addShop_4
def dkwX1_addShop_2 : List UInt8 := [187, 0, 100, 89, 183, 0, 102, 182, 0, 57, 87, 42, 180, 0, 19, 180, 0, 77, 42, 180, 0, 19]
abbrev dktX1_addShop_2 : List UInt8 := dkwX1_addShop_2 ++ dktX1_addShop_3
def dkwX1_addShop_1 : List UInt8 := [162, 0, 7, 4, 167, 0, 4, 3, 184, 0, 88, 42, 182, 0, 91, 42, 180, 0, 19, 180, 0, 77]
abbrev dktX1_addShop_1 : List UInt8 := dkwX1_addShop_1 ++ dktX1_addShop_2
def dkwX1_addShop_0 : List UInt8 := [27, 3, 18, 99, 184, 0, 73, 184, 0, 84, 42, 180, 0, 19, 180, 0, 77, 182, 0, 45, 16, 6]
abbrev dktX1_addShop_0 : List UInt8 := dkwX1_addShop_0 ++ dktX1_addShop_1
theorem dksX1_addShop_0 : cX1_addShop.data.toList.drop 0 = dktX1_addShop_0 := by decide +kernel
theorem dksX1_addShop_1 : cX1_addShop.data.toList.drop 22 = dktX1_addShop_1 := dk_seg dksX1_addShop_0 22 rfl rfl
theorem dksX1_addShop_2 : cX1_addShop.data.toList.drop 44 = dktX1_addShop_2 := dk_seg dksX1_addShop_1 22 rfl rfl
theorem dksX1_addShop_3 : cX1_addShop.data.toList.drop 66 = dktX1_addShop_3 := dk_seg dksX1_addShop_2 22 rfl rfl
theorem dksX1_addShop_4 : cX1_addShop.data.toList.drop 88 = dktX1_addShop_4 := dk_seg dksX1_addShop_3 22 rfl rfl
theorem dX1_addShop_0 : decode cX1_addShop 0 = .ok (.iload_n 1, 1) := dk_27 (dk_at dksX1_addShop_0 0 rfl rfl)
theorem dX1_addShop_1 : decode cX1_addShop 1 = .ok (.iconst 0, 1) := dk_3 (dk_at dksX1_addShop_0 1 rfl rfl)
theorem dX1_addShop_2 : decode cX1_addShop 2 = .ok (.ldc 99, 2) := dk_18 99 (dk_at dksX1_addShop_0 2 rfl rfl)
theorem dX1_addShop_4 : decode cX1_addShop 4 = .ok (.invokestatic 73, 3) := dk_184 0 73 (dk_at dksX1_addShop_0 4 rfl rfl)
theorem dX1_addShop_7 : decode cX1_addShop 7 = .ok (.invokestatic 84, 3) := dk_184 0 84 (dk_at dksX1_addShop_0 7 rfl rfl)
theorem dX1_addShop_10 : decode cX1_addShop 10 = .ok (.aload_n 0, 1) := dk_42 (dk_at dksX1_addShop_0 10 rfl rfl)
theorem dX1_addShop_11 : decode cX1_addShop 11 = .ok (.getfield 19, 3) := dk_180 0 19 (dk_at dksX1_addShop_0 11 rfl rfl)
theorem dX1_addShop_14 : decode cX1_addShop 14 = .ok (.getfield 77, 3) := dk_180 0 77 (dk_at dksX1_addShop_0 14 rfl rfl)
theorem dX1_addShop_17 : decode cX1_addShop 17 = .ok (.invokevirtual 45, 3) := dk_182 0 45 (dk_at dksX1_addShop_0 17 rfl rfl)
theorem dX1_addShop_20 : decode cX1_addShop 20 = .ok (.bipush 6, 2) := dk_16 6 (dk_at dksX1_addShop_0 20 rfl rfl)
theorem dX1_addShop_22 : decode cX1_addShop 22 = .ok (.if_icmp .ge 7, 3) := dk_162 0 7 (dk_at dksX1_addShop_1 0 rfl rfl)
theorem dX1_addShop_25 : decode cX1_addShop 25 = .ok (.iconst 1, 1) := dk_4 (dk_at dksX1_addShop_1 3 rfl rfl)
theorem dX1_addShop_26 : decode cX1_addShop 26 = .ok (.goto 4, 3) := dk_167 0 4 (dk_at dksX1_addShop_1 4 rfl rfl)
theorem dX1_addShop_29 : decode cX1_addShop 29 = .ok (.iconst 0, 1) := dk_3 (dk_at dksX1_addShop_1 7 rfl rfl)
theorem dX1_addShop_30 : decode cX1_addShop 30 = .ok (.invokestatic 88, 3) := dk_184 0 88 (dk_at dksX1_addShop_1 8 rfl rfl)
theorem dX1_addShop_33 : decode cX1_addShop 33 = .ok (.aload_n 0, 1) := dk_42 (dk_at dksX1_addShop_1 11 rfl rfl)
theorem dX1_addShop_34 : decode cX1_addShop 34 = .ok (.invokevirtual 91, 3) := dk_182 0 91 (dk_at dksX1_addShop_1 12 rfl rfl)
theorem dX1_addShop_37 : decode cX1_addShop 37 = .ok (.aload_n 0, 1) := dk_42 (dk_at dksX1_addShop_1 15 rfl rfl)
theorem dX1_addShop_38 : decode cX1_addShop 38 = .ok (.getfield 19, 3) := dk_180 0 19 (dk_at dksX1_addShop_1 16 rfl rfl)
theorem dX1_addShop_41 : decode cX1_addShop 41 = .ok (.getfield 77, 3) := dk_180 0 77 (dk_at dksX1_addShop_1 19 rfl rfl)
theorem dX1_addShop_44 : decode cX1_addShop 44 = .ok (.new 100, 3) := dk_187 0 100 (dk_at dksX1_addShop_2 0 rfl rfl)
theorem dX1_addShop_47 : decode cX1_addShop 47 = .ok (.dup, 1) := dk_89 (dk_at dksX1_addShop_2 3 rfl rfl)
theorem dX1_addShop_48 : decode cX1_addShop 48 = .ok (.invokespecial 102, 3) := dk_183 0 102 (dk_at dksX1_addShop_2 4 rfl rfl)
theorem dX1_addShop_51 : decode cX1_addShop 51 = .ok (.invokevirtual 57, 3) := dk_182 0 57 (dk_at dksX1_addShop_2 7 rfl rfl)
theorem dX1_addShop_54 : decode cX1_addShop 54 = .ok (.pop, 1) := dk_87 (dk_at dksX1_addShop_2 10 rfl rfl)
theorem dX1_addShop_55 : decode cX1_addShop 55 = .ok (.aload_n 0, 1) := dk_42 (dk_at dksX1_addShop_2 11 rfl rfl)
theorem dX1_addShop_56 : decode cX1_addShop 56 = .ok (.getfield 19, 3) := dk_180 0 19 (dk_at dksX1_addShop_2 12 rfl rfl)
theorem dX1_addShop_59 : decode cX1_addShop 59 = .ok (.getfield 77, 3) := dk_180 0 77 (dk_at dksX1_addShop_2 15 rfl rfl)
theorem dX1_addShop_62 : decode cX1_addShop 62 = .ok (.aload_n 0, 1) := dk_42 (dk_at dksX1_addShop_2 18 rfl rfl)
theorem dX1_addShop_63 : decode cX1_addShop 63 = .ok (.getfield 19, 3) := dk_180 0 19 (dk_at dksX1_addShop_2 19 rfl rfl)
theorem dX1_addShop_66 : decode cX1_addShop 66 = .ok (.getfield 77, 3) := dk_180 0 77 (dk_at dksX1_addShop_3 0 rfl rfl)
theorem dX1_addShop_69 : decode cX1_addShop 69 = .ok (.invokevirtual 45, 3) := dk_182 0 45 (dk_at dksX1_addShop_3 3 rfl rfl)
theorem dX1_addShop_72 : decode cX1_addShop 72 = .ok (.iconst 1, 1) := dk_4 (dk_at dksX1_addShop_3 6 rfl rfl)
theorem dX1_addShop_73 : decode cX1_addShop 73 = .ok (.isub, 1) := dk_100 (dk_at dksX1_addShop_3 7 rfl rfl)
theorem dX1_addShop_74 : decode cX1_addShop 74 = .ok (.invokevirtual 103, 3) := dk_182 0 103 (dk_at dksX1_addShop_3 8 rfl rfl)
theorem dX1_addShop_77 : decode cX1_addShop 77 = .ok (.checkcast 100, 3) := dk_192 0 100 (dk_at dksX1_addShop_3 11 rfl rfl)
theorem dX1_addShop_80 : decode cX1_addShop 80 = .ok (.iload_n 1, 1) := dk_27 (dk_at dksX1_addShop_3 14 rfl rfl)
theorem dX1_addShop_81 : decode cX1_addShop 81 = .ok (.putfield 106, 3) := dk_181 0 106 (dk_at dksX1_addShop_3 15 rfl rfl)
theorem dX1_addShop_84 : decode cX1_addShop 84 = .ok (.aload_n 0, 1) := dk_42 (dk_at dksX1_addShop_3 18 rfl rfl)
theorem dX1_addShop_85 : decode cX1_addShop 85 = .ok (.getfield 19, 3) := dk_180 0 19 (dk_at dksX1_addShop_3 19 rfl rfl)
theorem dX1_addShop_88 : decode cX1_addShop 88 = .ok (.getfield 77, 3) := dk_180 0 77 (dk_at dksX1_addShop_4 0 rfl rfl)
theorem dX1_addShop_91 : decode cX1_addShop 91 = .ok (.invokevirtual 45, 3) := dk_182 0 45 (dk_at dksX1_addShop_4 3 rfl rfl)
theorem dX1_addShop_94 : decode cX1_addShop 94 = .ok (.iconst 1, 1) := dk_4 (dk_at dksX1_addShop_4 6 rfl rfl)
theorem dX1_addShop_95 : decode cX1_addShop 95 = .ok (.isub, 1) := dk_100 (dk_at dksX1_addShop_4 7 rfl rfl)
theorem dX1_addShop_96 : decode cX1_addShop 96 = .ok (.ireturn, 1) := dk_172 (dk_at dksX1_addShop_4 8 rfl rfl)
abbrev cX1_buyCrates : ByteArray := prog_1_method_17_code
def yX1_buyCrates : MethodName := ⟨RX1, "buyCrates", "(I)I"⟩
def dkwX1_buyCrates_2 : List UInt8 := [180, 0, 113, 27, 96, 181, 0, 113, 42, 180, 0, 19, 180, 0, 113, 172]
abbrev dktX1_buyCrates_2 : List UInt8 := dkwX1_buyCrates_2 ++ []
def dkwX1_buyCrates_1 : List UInt8 := [96, 17, 3, 232, 163, 0, 7, 4, 167, 0, 4, 3, 184, 0, 88, 42, 182, 0, 91, 42, 180, 0, 19, 89]
abbrev dktX1_buyCrates_1 : List UInt8 := dkwX1_buyCrates_1 ++ dktX1_buyCrates_2
def dkwX1_buyCrates_0 : List UInt8 := [27, 4, 17, 1, 244, 184, 0, 73, 184, 0, 84, 42, 180, 0, 19, 180, 0, 113, 42, 182, 0, 116, 96, 27]
abbrev dktX1_buyCrates_0 : List UInt8 := dkwX1_buyCrates_0 ++ dktX1_buyCrates_1
theorem dksX1_buyCrates_0 : cX1_buyCrates.data.toList.drop 0 = dktX1_buyCrates_0 := by decide +kernel
theorem dksX1_buyCrates_1 : cX1_buyCrates.data.toList.drop 24 = dktX1_buyCrates_1 := dk_seg dksX1_buyCrates_0 24 rfl rfl
theorem dksX1_buyCrates_2 : cX1_buyCrates.data.toList.drop 48 = dktX1_buyCrates_2 := dk_seg dksX1_buyCrates_1 24 rfl rfl
theorem dX1_buyCrates_0 : decode cX1_buyCrates 0 = .ok (.iload_n 1, 1) := dk_27 (dk_at dksX1_buyCrates_0 0 rfl rfl)
theorem dX1_buyCrates_1 : decode cX1_buyCrates 1 = .ok (.iconst 1, 1) := dk_4 (dk_at dksX1_buyCrates_0 1 rfl rfl)
theorem dX1_buyCrates_2 : decode cX1_buyCrates 2 = .ok (.sipush 500, 3) := dk_17 1 244 (dk_at dksX1_buyCrates_0 2 rfl rfl)
theorem dX1_buyCrates_5 : decode cX1_buyCrates 5 = .ok (.invokestatic 73, 3) := dk_184 0 73 (dk_at dksX1_buyCrates_0 5 rfl rfl)
theorem dX1_buyCrates_8 : decode cX1_buyCrates 8 = .ok (.invokestatic 84, 3) := dk_184 0 84 (dk_at dksX1_buyCrates_0 8 rfl rfl)
theorem dX1_buyCrates_11 : decode cX1_buyCrates 11 = .ok (.aload_n 0, 1) := dk_42 (dk_at dksX1_buyCrates_0 11 rfl rfl)
theorem dX1_buyCrates_12 : decode cX1_buyCrates 12 = .ok (.getfield 19, 3) := dk_180 0 19 (dk_at dksX1_buyCrates_0 12 rfl rfl)
theorem dX1_buyCrates_15 : decode cX1_buyCrates 15 = .ok (.getfield 113, 3) := dk_180 0 113 (dk_at dksX1_buyCrates_0 15 rfl rfl)
theorem dX1_buyCrates_18 : decode cX1_buyCrates 18 = .ok (.aload_n 0, 1) := dk_42 (dk_at dksX1_buyCrates_0 18 rfl rfl)
theorem dX1_buyCrates_19 : decode cX1_buyCrates 19 = .ok (.invokevirtual 116, 3) := dk_182 0 116 (dk_at dksX1_buyCrates_0 19 rfl rfl)
theorem dX1_buyCrates_22 : decode cX1_buyCrates 22 = .ok (.iadd, 1) := dk_96 (dk_at dksX1_buyCrates_0 22 rfl rfl)
theorem dX1_buyCrates_23 : decode cX1_buyCrates 23 = .ok (.iload_n 1, 1) := dk_27 (dk_at dksX1_buyCrates_0 23 rfl rfl)
theorem dX1_buyCrates_24 : decode cX1_buyCrates 24 = .ok (.iadd, 1) := dk_96 (dk_at dksX1_buyCrates_1 0 rfl rfl)
theorem dX1_buyCrates_25 : decode cX1_buyCrates 25 = .ok (.sipush 1000, 3) := dk_17 3 232 (dk_at dksX1_buyCrates_1 1 rfl rfl)
theorem dX1_buyCrates_28 : decode cX1_buyCrates 28 = .ok (.if_icmp .gt 7, 3) := dk_163 0 7 (dk_at dksX1_buyCrates_1 4 rfl rfl)
theorem dX1_buyCrates_31 : decode cX1_buyCrates 31 = .ok (.iconst 1, 1) := dk_4 (dk_at dksX1_buyCrates_1 7 rfl rfl)
theorem dX1_buyCrates_32 : decode cX1_buyCrates 32 = .ok (.goto 4, 3) := dk_167 0 4 (dk_at dksX1_buyCrates_1 8 rfl rfl)
theorem dX1_buyCrates_35 : decode cX1_buyCrates 35 = .ok (.iconst 0, 1) := dk_3 (dk_at dksX1_buyCrates_1 11 rfl rfl)
theorem dX1_buyCrates_36 : decode cX1_buyCrates 36 = .ok (.invokestatic 88, 3) := dk_184 0 88 (dk_at dksX1_buyCrates_1 12 rfl rfl)
theorem dX1_buyCrates_39 : decode cX1_buyCrates 39 = .ok (.aload_n 0, 1) := dk_42 (dk_at dksX1_buyCrates_1 15 rfl rfl)
theorem dX1_buyCrates_40 : decode cX1_buyCrates 40 = .ok (.invokevirtual 91, 3) := dk_182 0 91 (dk_at dksX1_buyCrates_1 16 rfl rfl)
theorem dX1_buyCrates_43 : decode cX1_buyCrates 43 = .ok (.aload_n 0, 1) := dk_42 (dk_at dksX1_buyCrates_1 19 rfl rfl)
theorem dX1_buyCrates_44 : decode cX1_buyCrates 44 = .ok (.getfield 19, 3) := dk_180 0 19 (dk_at dksX1_buyCrates_1 20 rfl rfl)
theorem dX1_buyCrates_47 : decode cX1_buyCrates 47 = .ok (.dup, 1) := dk_89 (dk_at dksX1_buyCrates_1 23 rfl rfl)
theorem dX1_buyCrates_48 : decode cX1_buyCrates 48 = .ok (.getfield 113, 3) := dk_180 0 113 (dk_at dksX1_buyCrates_2 0 rfl rfl)
theorem dX1_buyCrates_51 : decode cX1_buyCrates 51 = .ok (.iload_n 1, 1) := dk_27 (dk_at dksX1_buyCrates_2 3 rfl rfl)
theorem dX1_buyCrates_52 : decode cX1_buyCrates 52 = .ok (.iadd, 1) := dk_96 (dk_at dksX1_buyCrates_2 4 rfl rfl)
theorem dX1_buyCrates_53 : decode cX1_buyCrates 53 = .ok (.putfield 113, 3) := dk_181 0 113 (dk_at dksX1_buyCrates_2 5 rfl rfl)
theorem dX1_buyCrates_56 : decode cX1_buyCrates 56 = .ok (.aload_n 0, 1) := dk_42 (dk_at dksX1_buyCrates_2 8 rfl rfl)
theorem dX1_buyCrates_57 : decode cX1_buyCrates 57 = .ok (.getfield 19, 3) := dk_180 0 19 (dk_at dksX1_buyCrates_2 9 rfl rfl)
theorem dX1_buyCrates_60 : decode cX1_buyCrates 60 = .ok (.getfield 113, 3) := dk_180 0 113 (dk_at dksX1_buyCrates_2 12 rfl rfl)
theorem dX1_buyCrates_63 : decode cX1_buyCrates 63 = .ok (.ireturn, 1) := dk_172 (dk_at dksX1_buyCrates_2 15 rfl rfl)
abbrev cX1_set : ByteArray := prog_1_method_18_code
def yX1_set : MethodName := ⟨RX1, "set", "(II)I"⟩
def dkwX1_set_3 : List UInt8 := [27, 28, 79, 29, 172]
abbrev dktX1_set_3 : List UInt8 := dkwX1_set_3 ++ []
def dkwX1_set_2 : List UInt8 := [184, 0, 88, 42, 182, 0, 91, 42, 180, 0, 19, 180, 0, 131, 27, 46, 62, 42, 180, 0, 19, 180, 0, 131]
abbrev dktX1_set_2 : List UInt8 := dkwX1_set_2 ++ dktX1_set_3
def dkwX1_set_1 : List UInt8 := [184, 0, 84, 27, 6, 163, 0, 13, 42, 180, 0, 19, 180, 0, 128, 154, 0, 7, 4, 167, 0, 4, 3]
abbrev dktX1_set_1 : List UInt8 := dkwX1_set_1 ++ dktX1_set_2
def dkwX1_set_0 : List UInt8 := [27, 3, 8, 184, 0, 73, 184, 0, 119, 28, 178, 0, 122, 27, 46, 178, 0, 125, 27, 46, 184, 0, 73]
abbrev dktX1_set_0 : List UInt8 := dkwX1_set_0 ++ dktX1_set_1
theorem dksX1_set_0 : cX1_set.data.toList.drop 0 = dktX1_set_0 := by decide +kernel
theorem dksX1_set_1 : cX1_set.data.toList.drop 23 = dktX1_set_1 := dk_seg dksX1_set_0 23 rfl rfl
theorem dksX1_set_2 : cX1_set.data.toList.drop 46 = dktX1_set_2 := dk_seg dksX1_set_1 23 rfl rfl
theorem dksX1_set_3 : cX1_set.data.toList.drop 70 = dktX1_set_3 := dk_seg dksX1_set_2 24 rfl rfl
theorem dX1_set_0 : decode cX1_set 0 = .ok (.iload_n 1, 1) := dk_27 (dk_at dksX1_set_0 0 rfl rfl)
theorem dX1_set_1 : decode cX1_set 1 = .ok (.iconst 0, 1) := dk_3 (dk_at dksX1_set_0 1 rfl rfl)
theorem dX1_set_2 : decode cX1_set 2 = .ok (.iconst 5, 1) := dk_8 (dk_at dksX1_set_0 2 rfl rfl)
theorem dX1_set_3 : decode cX1_set 3 = .ok (.invokestatic 73, 3) := dk_184 0 73 (dk_at dksX1_set_0 3 rfl rfl)
theorem dX1_set_6 : decode cX1_set 6 = .ok (.invokestatic 119, 3) := dk_184 0 119 (dk_at dksX1_set_0 6 rfl rfl)
theorem dX1_set_9 : decode cX1_set 9 = .ok (.iload_n 2, 1) := dk_28 (dk_at dksX1_set_0 9 rfl rfl)
theorem dX1_set_10 : decode cX1_set 10 = .ok (.getstatic 122, 3) := dk_178 0 122 (dk_at dksX1_set_0 10 rfl rfl)
theorem dX1_set_13 : decode cX1_set 13 = .ok (.iload_n 1, 1) := dk_27 (dk_at dksX1_set_0 13 rfl rfl)
theorem dX1_set_14 : decode cX1_set 14 = .ok (.iaload, 1) := dk_46 (dk_at dksX1_set_0 14 rfl rfl)
theorem dX1_set_15 : decode cX1_set 15 = .ok (.getstatic 125, 3) := dk_178 0 125 (dk_at dksX1_set_0 15 rfl rfl)
theorem dX1_set_18 : decode cX1_set 18 = .ok (.iload_n 1, 1) := dk_27 (dk_at dksX1_set_0 18 rfl rfl)
theorem dX1_set_19 : decode cX1_set 19 = .ok (.iaload, 1) := dk_46 (dk_at dksX1_set_0 19 rfl rfl)
theorem dX1_set_20 : decode cX1_set 20 = .ok (.invokestatic 73, 3) := dk_184 0 73 (dk_at dksX1_set_0 20 rfl rfl)
theorem dX1_set_23 : decode cX1_set 23 = .ok (.invokestatic 84, 3) := dk_184 0 84 (dk_at dksX1_set_1 0 rfl rfl)
theorem dX1_set_26 : decode cX1_set 26 = .ok (.iload_n 1, 1) := dk_27 (dk_at dksX1_set_1 3 rfl rfl)
theorem dX1_set_27 : decode cX1_set 27 = .ok (.iconst 3, 1) := dk_6 (dk_at dksX1_set_1 4 rfl rfl)
theorem dX1_set_28 : decode cX1_set 28 = .ok (.if_icmp .gt 13, 3) := dk_163 0 13 (dk_at dksX1_set_1 5 rfl rfl)
theorem dX1_set_31 : decode cX1_set 31 = .ok (.aload_n 0, 1) := dk_42 (dk_at dksX1_set_1 8 rfl rfl)
theorem dX1_set_32 : decode cX1_set 32 = .ok (.getfield 19, 3) := dk_180 0 19 (dk_at dksX1_set_1 9 rfl rfl)
theorem dX1_set_35 : decode cX1_set 35 = .ok (.getfield 128, 3) := dk_180 0 128 (dk_at dksX1_set_1 12 rfl rfl)
theorem dX1_set_38 : decode cX1_set 38 = .ok (.ifCond .ne 7, 3) := dk_154 0 7 (dk_at dksX1_set_1 15 rfl rfl)
theorem dX1_set_41 : decode cX1_set 41 = .ok (.iconst 1, 1) := dk_4 (dk_at dksX1_set_1 18 rfl rfl)
theorem dX1_set_42 : decode cX1_set 42 = .ok (.goto 4, 3) := dk_167 0 4 (dk_at dksX1_set_1 19 rfl rfl)
theorem dX1_set_45 : decode cX1_set 45 = .ok (.iconst 0, 1) := dk_3 (dk_at dksX1_set_1 22 rfl rfl)
theorem dX1_set_46 : decode cX1_set 46 = .ok (.invokestatic 88, 3) := dk_184 0 88 (dk_at dksX1_set_2 0 rfl rfl)
theorem dX1_set_49 : decode cX1_set 49 = .ok (.aload_n 0, 1) := dk_42 (dk_at dksX1_set_2 3 rfl rfl)
theorem dX1_set_50 : decode cX1_set 50 = .ok (.invokevirtual 91, 3) := dk_182 0 91 (dk_at dksX1_set_2 4 rfl rfl)
theorem dX1_set_53 : decode cX1_set 53 = .ok (.aload_n 0, 1) := dk_42 (dk_at dksX1_set_2 7 rfl rfl)
theorem dX1_set_54 : decode cX1_set 54 = .ok (.getfield 19, 3) := dk_180 0 19 (dk_at dksX1_set_2 8 rfl rfl)
theorem dX1_set_57 : decode cX1_set 57 = .ok (.getfield 131, 3) := dk_180 0 131 (dk_at dksX1_set_2 11 rfl rfl)
theorem dX1_set_60 : decode cX1_set 60 = .ok (.iload_n 1, 1) := dk_27 (dk_at dksX1_set_2 14 rfl rfl)
theorem dX1_set_61 : decode cX1_set 61 = .ok (.iaload, 1) := dk_46 (dk_at dksX1_set_2 15 rfl rfl)
theorem dX1_set_62 : decode cX1_set 62 = .ok (.istore_n 3, 1) := dk_62 (dk_at dksX1_set_2 16 rfl rfl)
theorem dX1_set_63 : decode cX1_set 63 = .ok (.aload_n 0, 1) := dk_42 (dk_at dksX1_set_2 17 rfl rfl)
theorem dX1_set_64 : decode cX1_set 64 = .ok (.getfield 19, 3) := dk_180 0 19 (dk_at dksX1_set_2 18 rfl rfl)
theorem dX1_set_67 : decode cX1_set 67 = .ok (.getfield 131, 3) := dk_180 0 131 (dk_at dksX1_set_2 21 rfl rfl)
theorem dX1_set_70 : decode cX1_set 70 = .ok (.iload_n 1, 1) := dk_27 (dk_at dksX1_set_3 0 rfl rfl)
theorem dX1_set_71 : decode cX1_set 71 = .ok (.iload_n 2, 1) := dk_28 (dk_at dksX1_set_3 1 rfl rfl)
theorem dX1_set_72 : decode cX1_set 72 = .ok (.iastore, 1) := dk_79 (dk_at dksX1_set_3 2 rfl rfl)
theorem dX1_set_73 : decode cX1_set 73 = .ok (.iload_n 3, 1) := dk_29 (dk_at dksX1_set_3 3 rfl rfl)
theorem dX1_set_74 : decode cX1_set 74 = .ok (.ireturn, 1) := dk_172 (dk_at dksX1_set_3 4 rfl rfl)
abbrev cX1_needIndex : ByteArray := prog_1_method_9_code
def yX1_needIndex : MethodName := ⟨RX1, "needIndex", "(Z)V"⟩
def dkwX1_needIndex_0 : List UInt8 := [26, 154, 0, 11, 187, 0, 64, 89, 183, 0, 66, 191, 177]
abbrev dktX1_needIndex_0 : List UInt8 := dkwX1_needIndex_0 ++ []
theorem dksX1_needIndex_0 : cX1_needIndex.data.toList.drop 0 = dktX1_needIndex_0 := by decide +kernel
theorem dX1_needIndex_0 : decode cX1_needIndex 0 = .ok (.iload_n 0, 1) := dk_26 (dk_at dksX1_needIndex_0 0 rfl rfl)
theorem dX1_needIndex_1 : decode cX1_needIndex 1 = .ok (.ifCond .ne 11, 3) := dk_154 0 11 (dk_at dksX1_needIndex_0 1 rfl rfl)
theorem dX1_needIndex_4 : decode cX1_needIndex 4 = .ok (.new 64, 3) := dk_187 0 64 (dk_at dksX1_needIndex_0 4 rfl rfl)
theorem dX1_needIndex_7 : decode cX1_needIndex 7 = .ok (.dup, 1) := dk_89 (dk_at dksX1_needIndex_0 7 rfl rfl)
theorem dX1_needIndex_8 : decode cX1_needIndex 8 = .ok (.invokespecial 66, 3) := dk_183 0 66 (dk_at dksX1_needIndex_0 8 rfl rfl)
theorem dX1_needIndex_11 : decode cX1_needIndex 11 = .ok (.athrow, 1) := dk_191 (dk_at dksX1_needIndex_0 11 rfl rfl)
theorem dX1_needIndex_12 : decode cX1_needIndex 12 = .ok (.return_, 1) := dk_177 (dk_at dksX1_needIndex_0 12 rfl rfl)
abbrev cX1_fill : ByteArray := prog_1_method_24_code
def yX1_fill : MethodName := ⟨RX1, "fill", "(II)I"⟩
def dkwX1_fill_1 : List UInt8 := [27, 28, 183, 0, 156, 182, 0, 159, 172]
abbrev dktX1_fill_1 : List UInt8 := dkwX1_fill_1 ++ []
def dkwX1_fill_0 : List UInt8 := [42, 27, 182, 0, 151, 184, 0, 119, 28, 4, 17, 19, 136, 184, 0, 73, 184, 0, 84, 187, 0, 154, 89, 42]
abbrev dktX1_fill_0 : List UInt8 := dkwX1_fill_0 ++ dktX1_fill_1
theorem dksX1_fill_0 : cX1_fill.data.toList.drop 0 = dktX1_fill_0 := by decide +kernel
theorem dksX1_fill_1 : cX1_fill.data.toList.drop 24 = dktX1_fill_1 := dk_seg dksX1_fill_0 24 rfl rfl
theorem dX1_fill_0 : decode cX1_fill 0 = .ok (.aload_n 0, 1) := dk_42 (dk_at dksX1_fill_0 0 rfl rfl)
theorem dX1_fill_1 : decode cX1_fill 1 = .ok (.iload_n 1, 1) := dk_27 (dk_at dksX1_fill_0 1 rfl rfl)
theorem dX1_fill_2 : decode cX1_fill 2 = .ok (.invokevirtual 151, 3) := dk_182 0 151 (dk_at dksX1_fill_0 2 rfl rfl)
theorem dX1_fill_5 : decode cX1_fill 5 = .ok (.invokestatic 119, 3) := dk_184 0 119 (dk_at dksX1_fill_0 5 rfl rfl)
theorem dX1_fill_8 : decode cX1_fill 8 = .ok (.iload_n 2, 1) := dk_28 (dk_at dksX1_fill_0 8 rfl rfl)
theorem dX1_fill_9 : decode cX1_fill 9 = .ok (.iconst 1, 1) := dk_4 (dk_at dksX1_fill_0 9 rfl rfl)
theorem dX1_fill_10 : decode cX1_fill 10 = .ok (.sipush 5000, 3) := dk_17 19 136 (dk_at dksX1_fill_0 10 rfl rfl)
theorem dX1_fill_13 : decode cX1_fill 13 = .ok (.invokestatic 73, 3) := dk_184 0 73 (dk_at dksX1_fill_0 13 rfl rfl)
theorem dX1_fill_16 : decode cX1_fill 16 = .ok (.invokestatic 84, 3) := dk_184 0 84 (dk_at dksX1_fill_0 16 rfl rfl)
theorem dX1_fill_19 : decode cX1_fill 19 = .ok (.new 154, 3) := dk_187 0 154 (dk_at dksX1_fill_0 19 rfl rfl)
theorem dX1_fill_22 : decode cX1_fill 22 = .ok (.dup, 1) := dk_89 (dk_at dksX1_fill_0 22 rfl rfl)
theorem dX1_fill_23 : decode cX1_fill 23 = .ok (.aload_n 0, 1) := dk_42 (dk_at dksX1_fill_0 23 rfl rfl)
theorem dX1_fill_24 : decode cX1_fill 24 = .ok (.iload_n 1, 1) := dk_27 (dk_at dksX1_fill_1 0 rfl rfl)
theorem dX1_fill_25 : decode cX1_fill 25 = .ok (.iload_n 2, 1) := dk_28 (dk_at dksX1_fill_1 1 rfl rfl)
theorem dX1_fill_26 : decode cX1_fill 26 = .ok (.invokespecial 156, 3) := dk_183 0 156 (dk_at dksX1_fill_1 2 rfl rfl)
theorem dX1_fill_29 : decode cX1_fill 29 = .ok (.invokevirtual 159, 3) := dk_182 0 159 (dk_at dksX1_fill_1 5 rfl rfl)
theorem dX1_fill_32 : decode cX1_fill 32 = .ok (.ireturn, 1) := dk_172 (dk_at dksX1_fill_1 8 rfl rfl)
abbrev cX1_isBrand : ByteArray := prog_1_method_11_code
def yX1_isBrand : MethodName := ⟨RX1, "isBrand", "(I)Z"⟩
def dkwX1_isBrand_0 : List UInt8 := [27, 3, 42, 180, 0, 19, 180, 0, 70, 182, 0, 45, 4, 100, 184, 0, 73, 172]
abbrev dktX1_isBrand_0 : List UInt8 := dkwX1_isBrand_0 ++ []
theorem dksX1_isBrand_0 : cX1_isBrand.data.toList.drop 0 = dktX1_isBrand_0 := by decide +kernel
theorem dX1_isBrand_0 : decode cX1_isBrand 0 = .ok (.iload_n 1, 1) := dk_27 (dk_at dksX1_isBrand_0 0 rfl rfl)
theorem dX1_isBrand_1 : decode cX1_isBrand 1 = .ok (.iconst 0, 1) := dk_3 (dk_at dksX1_isBrand_0 1 rfl rfl)
theorem dX1_isBrand_2 : decode cX1_isBrand 2 = .ok (.aload_n 0, 1) := dk_42 (dk_at dksX1_isBrand_0 2 rfl rfl)
theorem dX1_isBrand_3 : decode cX1_isBrand 3 = .ok (.getfield 19, 3) := dk_180 0 19 (dk_at dksX1_isBrand_0 3 rfl rfl)
theorem dX1_isBrand_6 : decode cX1_isBrand 6 = .ok (.getfield 70, 3) := dk_180 0 70 (dk_at dksX1_isBrand_0 6 rfl rfl)
theorem dX1_isBrand_9 : decode cX1_isBrand 9 = .ok (.invokevirtual 45, 3) := dk_182 0 45 (dk_at dksX1_isBrand_0 9 rfl rfl)
theorem dX1_isBrand_12 : decode cX1_isBrand 12 = .ok (.iconst 1, 1) := dk_4 (dk_at dksX1_isBrand_0 12 rfl rfl)
theorem dX1_isBrand_13 : decode cX1_isBrand 13 = .ok (.isub, 1) := dk_100 (dk_at dksX1_isBrand_0 13 rfl rfl)
theorem dX1_isBrand_14 : decode cX1_isBrand 14 = .ok (.invokestatic 73, 3) := dk_184 0 73 (dk_at dksX1_isBrand_0 14 rfl rfl)
theorem dX1_isBrand_17 : decode cX1_isBrand 17 = .ok (.ireturn, 1) := dk_172 (dk_at dksX1_isBrand_0 17 rfl rfl)
abbrev cX1_needBottles : ByteArray := prog_1_method_2_code
def yX1_needBottles : MethodName := ⟨RX1, "needBottles", "(Z)V"⟩
def dkwX1_needBottles_0 : List UInt8 := [26, 154, 0, 11, 187, 0, 1, 89, 183, 0, 3, 191, 177]
abbrev dktX1_needBottles_0 : List UInt8 := dkwX1_needBottles_0 ++ []
theorem dksX1_needBottles_0 : cX1_needBottles.data.toList.drop 0 = dktX1_needBottles_0 := by decide +kernel
theorem dX1_needBottles_0 : decode cX1_needBottles 0 = .ok (.iload_n 0, 1) := dk_26 (dk_at dksX1_needBottles_0 0 rfl rfl)
theorem dX1_needBottles_1 : decode cX1_needBottles 1 = .ok (.ifCond .ne 11, 3) := dk_154 0 11 (dk_at dksX1_needBottles_0 1 rfl rfl)
theorem dX1_needBottles_4 : decode cX1_needBottles 4 = .ok (.new 1, 3) := dk_187 0 1 (dk_at dksX1_needBottles_0 4 rfl rfl)
theorem dX1_needBottles_7 : decode cX1_needBottles 7 = .ok (.dup, 1) := dk_89 (dk_at dksX1_needBottles_0 7 rfl rfl)
theorem dX1_needBottles_8 : decode cX1_needBottles 8 = .ok (.invokespecial 3, 3) := dk_183 0 3 (dk_at dksX1_needBottles_0 8 rfl rfl)
theorem dX1_needBottles_11 : decode cX1_needBottles 11 = .ok (.athrow, 1) := dk_191 (dk_at dksX1_needBottles_0 11 rfl rfl)
theorem dX1_needBottles_12 : decode cX1_needBottles 12 = .ok (.return_, 1) := dk_177 (dk_at dksX1_needBottles_0 12 rfl rfl)
abbrev cX1_needCrates : ByteArray := prog_1_method_3_code
def yX1_needCrates : MethodName := ⟨RX1, "needCrates", "(Z)V"⟩
def dkwX1_needCrates_0 : List UInt8 := [26, 154, 0, 11, 187, 0, 7, 89, 183, 0, 9, 191, 177]
abbrev dktX1_needCrates_0 : List UInt8 := dkwX1_needCrates_0 ++ []
theorem dksX1_needCrates_0 : cX1_needCrates.data.toList.drop 0 = dktX1_needCrates_0 := by decide +kernel
theorem dX1_needCrates_0 : decode cX1_needCrates 0 = .ok (.iload_n 0, 1) := dk_26 (dk_at dksX1_needCrates_0 0 rfl rfl)
theorem dX1_needCrates_1 : decode cX1_needCrates 1 = .ok (.ifCond .ne 11, 3) := dk_154 0 11 (dk_at dksX1_needCrates_0 1 rfl rfl)
theorem dX1_needCrates_4 : decode cX1_needCrates 4 = .ok (.new 7, 3) := dk_187 0 7 (dk_at dksX1_needCrates_0 4 rfl rfl)
theorem dX1_needCrates_7 : decode cX1_needCrates 7 = .ok (.dup, 1) := dk_89 (dk_at dksX1_needCrates_0 7 rfl rfl)
theorem dX1_needCrates_8 : decode cX1_needCrates 8 = .ok (.invokespecial 9, 3) := dk_183 0 9 (dk_at dksX1_needCrates_0 8 rfl rfl)
theorem dX1_needCrates_11 : decode cX1_needCrates 11 = .ok (.athrow, 1) := dk_191 (dk_at dksX1_needCrates_0 11 rfl rfl)
theorem dX1_needCrates_12 : decode cX1_needCrates 12 = .ok (.return_, 1) := dk_177 (dk_at dksX1_needCrates_0 12 rfl rfl)
abbrev cX1_needMoney : ByteArray := prog_1_method_4_code
def yX1_needMoney : MethodName := ⟨RX1, "needMoney", "(Z)V"⟩
def dkwX1_needMoney_0 : List UInt8 := [26, 154, 0, 11, 187, 0, 10, 89, 183, 0, 12, 191, 177]
abbrev dktX1_needMoney_0 : List UInt8 := dkwX1_needMoney_0 ++ []
theorem dksX1_needMoney_0 : cX1_needMoney.data.toList.drop 0 = dktX1_needMoney_0 := by decide +kernel
theorem dX1_needMoney_0 : decode cX1_needMoney 0 = .ok (.iload_n 0, 1) := dk_26 (dk_at dksX1_needMoney_0 0 rfl rfl)
theorem dX1_needMoney_1 : decode cX1_needMoney 1 = .ok (.ifCond .ne 11, 3) := dk_154 0 11 (dk_at dksX1_needMoney_0 1 rfl rfl)
theorem dX1_needMoney_4 : decode cX1_needMoney 4 = .ok (.new 10, 3) := dk_187 0 10 (dk_at dksX1_needMoney_0 4 rfl rfl)
theorem dX1_needMoney_7 : decode cX1_needMoney 7 = .ok (.dup, 1) := dk_89 (dk_at dksX1_needMoney_0 7 rfl rfl)
theorem dX1_needMoney_8 : decode cX1_needMoney 8 = .ok (.invokespecial 12, 3) := dk_183 0 12 (dk_at dksX1_needMoney_0 8 rfl rfl)
theorem dX1_needMoney_11 : decode cX1_needMoney 11 = .ok (.athrow, 1) := dk_191 (dk_at dksX1_needMoney_0 11 rfl rfl)
theorem dX1_needMoney_12 : decode cX1_needMoney 12 = .ok (.return_, 1) := dk_177 (dk_at dksX1_needMoney_0 12 rfl rfl)
abbrev cX1_deliver : ByteArray := prog_1_method_25_code
def yX1_deliver : MethodName := ⟨RX1, "deliver", "(III)I"⟩
def dkwX1_deliver_1 : List UInt8 := [29, 4, 16, 50, 184, 0, 73, 184, 0, 84, 42, 27, 28, 29, 182, 0, 165, 182, 0, 169, 172]
abbrev dktX1_deliver_1 : List UInt8 := dkwX1_deliver_1 ++ []
def dkwX1_deliver_0 : List UInt8 := [42, 27, 182, 0, 151, 153, 0, 15, 42, 28, 182, 0, 162, 153, 0, 7, 4, 167, 0, 4, 3, 184, 0, 119]
abbrev dktX1_deliver_0 : List UInt8 := dkwX1_deliver_0 ++ dktX1_deliver_1
theorem dksX1_deliver_0 : cX1_deliver.data.toList.drop 0 = dktX1_deliver_0 := by decide +kernel
theorem dksX1_deliver_1 : cX1_deliver.data.toList.drop 24 = dktX1_deliver_1 := dk_seg dksX1_deliver_0 24 rfl rfl
theorem dX1_deliver_0 : decode cX1_deliver 0 = .ok (.aload_n 0, 1) := dk_42 (dk_at dksX1_deliver_0 0 rfl rfl)
theorem dX1_deliver_1 : decode cX1_deliver 1 = .ok (.iload_n 1, 1) := dk_27 (dk_at dksX1_deliver_0 1 rfl rfl)
theorem dX1_deliver_2 : decode cX1_deliver 2 = .ok (.invokevirtual 151, 3) := dk_182 0 151 (dk_at dksX1_deliver_0 2 rfl rfl)
theorem dX1_deliver_5 : decode cX1_deliver 5 = .ok (.ifCond .eq 15, 3) := dk_153 0 15 (dk_at dksX1_deliver_0 5 rfl rfl)
theorem dX1_deliver_8 : decode cX1_deliver 8 = .ok (.aload_n 0, 1) := dk_42 (dk_at dksX1_deliver_0 8 rfl rfl)
theorem dX1_deliver_9 : decode cX1_deliver 9 = .ok (.iload_n 2, 1) := dk_28 (dk_at dksX1_deliver_0 9 rfl rfl)
theorem dX1_deliver_10 : decode cX1_deliver 10 = .ok (.invokevirtual 162, 3) := dk_182 0 162 (dk_at dksX1_deliver_0 10 rfl rfl)
theorem dX1_deliver_13 : decode cX1_deliver 13 = .ok (.ifCond .eq 7, 3) := dk_153 0 7 (dk_at dksX1_deliver_0 13 rfl rfl)
theorem dX1_deliver_16 : decode cX1_deliver 16 = .ok (.iconst 1, 1) := dk_4 (dk_at dksX1_deliver_0 16 rfl rfl)
theorem dX1_deliver_17 : decode cX1_deliver 17 = .ok (.goto 4, 3) := dk_167 0 4 (dk_at dksX1_deliver_0 17 rfl rfl)
theorem dX1_deliver_20 : decode cX1_deliver 20 = .ok (.iconst 0, 1) := dk_3 (dk_at dksX1_deliver_0 20 rfl rfl)
theorem dX1_deliver_21 : decode cX1_deliver 21 = .ok (.invokestatic 119, 3) := dk_184 0 119 (dk_at dksX1_deliver_0 21 rfl rfl)
theorem dX1_deliver_24 : decode cX1_deliver 24 = .ok (.iload_n 3, 1) := dk_29 (dk_at dksX1_deliver_1 0 rfl rfl)
theorem dX1_deliver_25 : decode cX1_deliver 25 = .ok (.iconst 1, 1) := dk_4 (dk_at dksX1_deliver_1 1 rfl rfl)
theorem dX1_deliver_26 : decode cX1_deliver 26 = .ok (.bipush 50, 2) := dk_16 50 (dk_at dksX1_deliver_1 2 rfl rfl)
theorem dX1_deliver_28 : decode cX1_deliver 28 = .ok (.invokestatic 73, 3) := dk_184 0 73 (dk_at dksX1_deliver_1 4 rfl rfl)
theorem dX1_deliver_31 : decode cX1_deliver 31 = .ok (.invokestatic 84, 3) := dk_184 0 84 (dk_at dksX1_deliver_1 7 rfl rfl)
theorem dX1_deliver_34 : decode cX1_deliver 34 = .ok (.aload_n 0, 1) := dk_42 (dk_at dksX1_deliver_1 10 rfl rfl)
theorem dX1_deliver_35 : decode cX1_deliver 35 = .ok (.iload_n 1, 1) := dk_27 (dk_at dksX1_deliver_1 11 rfl rfl)
theorem dX1_deliver_36 : decode cX1_deliver 36 = .ok (.iload_n 2, 1) := dk_28 (dk_at dksX1_deliver_1 12 rfl rfl)
theorem dX1_deliver_37 : decode cX1_deliver 37 = .ok (.iload_n 3, 1) := dk_29 (dk_at dksX1_deliver_1 13 rfl rfl)
theorem dX1_deliver_38 : decode cX1_deliver 38 = .ok (.invokevirtual 165, 3) := dk_182 0 165 (dk_at dksX1_deliver_1 14 rfl rfl)
theorem dX1_deliver_41 : decode cX1_deliver 41 = .ok (.invokevirtual 169, 3) := dk_182 0 169 (dk_at dksX1_deliver_1 17 rfl rfl)
theorem dX1_deliver_44 : decode cX1_deliver 44 = .ok (.ireturn, 1) := dk_172 (dk_at dksX1_deliver_1 20 rfl rfl)
abbrev cX1_isShop : ByteArray := prog_1_method_12_code
def yX1_isShop : MethodName := ⟨RX1, "isShop", "(I)Z"⟩
def dkwX1_isShop_0 : List UInt8 := [27, 3, 42, 180, 0, 19, 180, 0, 77, 182, 0, 45, 4, 100, 184, 0, 73, 172]
abbrev dktX1_isShop_0 : List UInt8 := dkwX1_isShop_0 ++ []
theorem dksX1_isShop_0 : cX1_isShop.data.toList.drop 0 = dktX1_isShop_0 := by decide +kernel
theorem dX1_isShop_0 : decode cX1_isShop 0 = .ok (.iload_n 1, 1) := dk_27 (dk_at dksX1_isShop_0 0 rfl rfl)
theorem dX1_isShop_1 : decode cX1_isShop 1 = .ok (.iconst 0, 1) := dk_3 (dk_at dksX1_isShop_0 1 rfl rfl)
theorem dX1_isShop_2 : decode cX1_isShop 2 = .ok (.aload_n 0, 1) := dk_42 (dk_at dksX1_isShop_0 2 rfl rfl)
theorem dX1_isShop_3 : decode cX1_isShop 3 = .ok (.getfield 19, 3) := dk_180 0 19 (dk_at dksX1_isShop_0 3 rfl rfl)
theorem dX1_isShop_6 : decode cX1_isShop 6 = .ok (.getfield 77, 3) := dk_180 0 77 (dk_at dksX1_isShop_0 6 rfl rfl)
theorem dX1_isShop_9 : decode cX1_isShop 9 = .ok (.invokevirtual 45, 3) := dk_182 0 45 (dk_at dksX1_isShop_0 9 rfl rfl)
theorem dX1_isShop_12 : decode cX1_isShop 12 = .ok (.iconst 1, 1) := dk_4 (dk_at dksX1_isShop_0 12 rfl rfl)
theorem dX1_isShop_13 : decode cX1_isShop 13 = .ok (.isub, 1) := dk_100 (dk_at dksX1_isShop_0 13 rfl rfl)
theorem dX1_isShop_14 : decode cX1_isShop 14 = .ok (.invokestatic 73, 3) := dk_184 0 73 (dk_at dksX1_isShop_0 14 rfl rfl)
theorem dX1_isShop_17 : decode cX1_isShop 17 = .ok (.ireturn, 1) := dk_172 (dk_at dksX1_isShop_0 17 rfl rfl)
abbrev cX1_delivering : ByteArray := prog_1_method_19_code
def yX1_delivering : MethodName := ⟨RX1, "delivering", "(III)LBottleLoop$Deed;"⟩
def dkwX1_delivering_0 : List UInt8 := [187, 0, 134, 89, 42, 27, 28, 29, 183, 0, 136, 176]
abbrev dktX1_delivering_0 : List UInt8 := dkwX1_delivering_0 ++ []
theorem dksX1_delivering_0 : cX1_delivering.data.toList.drop 0 = dktX1_delivering_0 := by decide +kernel
theorem dX1_delivering_0 : decode cX1_delivering 0 = .ok (.new 134, 3) := dk_187 0 134 (dk_at dksX1_delivering_0 0 rfl rfl)
theorem dX1_delivering_3 : decode cX1_delivering 3 = .ok (.dup, 1) := dk_89 (dk_at dksX1_delivering_0 3 rfl rfl)
theorem dX1_delivering_4 : decode cX1_delivering 4 = .ok (.aload_n 0, 1) := dk_42 (dk_at dksX1_delivering_0 4 rfl rfl)
theorem dX1_delivering_5 : decode cX1_delivering 5 = .ok (.iload_n 1, 1) := dk_27 (dk_at dksX1_delivering_0 5 rfl rfl)
theorem dX1_delivering_6 : decode cX1_delivering 6 = .ok (.iload_n 2, 1) := dk_28 (dk_at dksX1_delivering_0 6 rfl rfl)
theorem dX1_delivering_7 : decode cX1_delivering 7 = .ok (.iload_n 3, 1) := dk_29 (dk_at dksX1_delivering_0 7 rfl rfl)
theorem dX1_delivering_8 : decode cX1_delivering 8 = .ok (.invokespecial 136, 3) := dk_183 0 136 (dk_at dksX1_delivering_0 8 rfl rfl)
theorem dX1_delivering_11 : decode cX1_delivering 11 = .ok (.areturn, 1) := dk_176 (dk_at dksX1_delivering_0 11 rfl rfl)
abbrev cX1_sell : ByteArray := prog_1_method_27_code
def yX1_sell : MethodName := ⟨RX1, "sell", "(III)I"⟩
def dkwX1_sell_0 : List UInt8 := [42, 27, 28, 29, 182, 0, 172, 42, 27, 28, 29, 182, 0, 176, 182, 0, 169, 172]
abbrev dktX1_sell_0 : List UInt8 := dkwX1_sell_0 ++ []
theorem dksX1_sell_0 : cX1_sell.data.toList.drop 0 = dktX1_sell_0 := by decide +kernel
theorem dX1_sell_0 : decode cX1_sell 0 = .ok (.aload_n 0, 1) := dk_42 (dk_at dksX1_sell_0 0 rfl rfl)
theorem dX1_sell_1 : decode cX1_sell 1 = .ok (.iload_n 1, 1) := dk_27 (dk_at dksX1_sell_0 1 rfl rfl)
theorem dX1_sell_2 : decode cX1_sell 2 = .ok (.iload_n 2, 1) := dk_28 (dk_at dksX1_sell_0 2 rfl rfl)
theorem dX1_sell_3 : decode cX1_sell 3 = .ok (.iload_n 3, 1) := dk_29 (dk_at dksX1_sell_0 3 rfl rfl)
theorem dX1_sell_4 : decode cX1_sell 4 = .ok (.invokevirtual 172, 3) := dk_182 0 172 (dk_at dksX1_sell_0 4 rfl rfl)
theorem dX1_sell_7 : decode cX1_sell 7 = .ok (.aload_n 0, 1) := dk_42 (dk_at dksX1_sell_0 7 rfl rfl)
theorem dX1_sell_8 : decode cX1_sell 8 = .ok (.iload_n 1, 1) := dk_27 (dk_at dksX1_sell_0 8 rfl rfl)
theorem dX1_sell_9 : decode cX1_sell 9 = .ok (.iload_n 2, 1) := dk_28 (dk_at dksX1_sell_0 9 rfl rfl)
theorem dX1_sell_10 : decode cX1_sell 10 = .ok (.iload_n 3, 1) := dk_29 (dk_at dksX1_sell_0 10 rfl rfl)
theorem dX1_sell_11 : decode cX1_sell 11 = .ok (.invokevirtual 176, 3) := dk_182 0 176 (dk_at dksX1_sell_0 11 rfl rfl)
theorem dX1_sell_14 : decode cX1_sell 14 = .ok (.invokevirtual 169, 3) := dk_182 0 169 (dk_at dksX1_sell_0 14 rfl rfl)
theorem dX1_sell_17 : decode cX1_sell 17 = .ok (.ireturn, 1) := dk_172 (dk_at dksX1_sell_0 17 rfl rfl)
abbrev cX1_needSale : ByteArray := prog_1_method_26_code
def yX1_needSale : MethodName := ⟨RX1, "needSale", "(III)V"⟩
def dkwX1_needSale_1 : List UInt8 := [29, 4, 17, 1, 244, 184, 0, 73, 184, 0, 84, 177]
abbrev dktX1_needSale_1 : List UInt8 := dkwX1_needSale_1 ++ []
def dkwX1_needSale_0 : List UInt8 := [42, 27, 182, 0, 162, 153, 0, 15, 42, 28, 182, 0, 151, 153, 0, 7, 4, 167, 0, 4, 3, 184, 0, 119]
abbrev dktX1_needSale_0 : List UInt8 := dkwX1_needSale_0 ++ dktX1_needSale_1
theorem dksX1_needSale_0 : cX1_needSale.data.toList.drop 0 = dktX1_needSale_0 := by decide +kernel
theorem dksX1_needSale_1 : cX1_needSale.data.toList.drop 24 = dktX1_needSale_1 := dk_seg dksX1_needSale_0 24 rfl rfl
theorem dX1_needSale_0 : decode cX1_needSale 0 = .ok (.aload_n 0, 1) := dk_42 (dk_at dksX1_needSale_0 0 rfl rfl)
theorem dX1_needSale_1 : decode cX1_needSale 1 = .ok (.iload_n 1, 1) := dk_27 (dk_at dksX1_needSale_0 1 rfl rfl)
theorem dX1_needSale_2 : decode cX1_needSale 2 = .ok (.invokevirtual 162, 3) := dk_182 0 162 (dk_at dksX1_needSale_0 2 rfl rfl)
theorem dX1_needSale_5 : decode cX1_needSale 5 = .ok (.ifCond .eq 15, 3) := dk_153 0 15 (dk_at dksX1_needSale_0 5 rfl rfl)
theorem dX1_needSale_8 : decode cX1_needSale 8 = .ok (.aload_n 0, 1) := dk_42 (dk_at dksX1_needSale_0 8 rfl rfl)
theorem dX1_needSale_9 : decode cX1_needSale 9 = .ok (.iload_n 2, 1) := dk_28 (dk_at dksX1_needSale_0 9 rfl rfl)
theorem dX1_needSale_10 : decode cX1_needSale 10 = .ok (.invokevirtual 151, 3) := dk_182 0 151 (dk_at dksX1_needSale_0 10 rfl rfl)
theorem dX1_needSale_13 : decode cX1_needSale 13 = .ok (.ifCond .eq 7, 3) := dk_153 0 7 (dk_at dksX1_needSale_0 13 rfl rfl)
theorem dX1_needSale_16 : decode cX1_needSale 16 = .ok (.iconst 1, 1) := dk_4 (dk_at dksX1_needSale_0 16 rfl rfl)
theorem dX1_needSale_17 : decode cX1_needSale 17 = .ok (.goto 4, 3) := dk_167 0 4 (dk_at dksX1_needSale_0 17 rfl rfl)
theorem dX1_needSale_20 : decode cX1_needSale 20 = .ok (.iconst 0, 1) := dk_3 (dk_at dksX1_needSale_0 20 rfl rfl)
theorem dX1_needSale_21 : decode cX1_needSale 21 = .ok (.invokestatic 119, 3) := dk_184 0 119 (dk_at dksX1_needSale_0 21 rfl rfl)
theorem dX1_needSale_24 : decode cX1_needSale 24 = .ok (.iload_n 3, 1) := dk_29 (dk_at dksX1_needSale_1 0 rfl rfl)
theorem dX1_needSale_25 : decode cX1_needSale 25 = .ok (.iconst 1, 1) := dk_4 (dk_at dksX1_needSale_1 1 rfl rfl)
theorem dX1_needSale_26 : decode cX1_needSale 26 = .ok (.sipush 500, 3) := dk_17 1 244 (dk_at dksX1_needSale_1 2 rfl rfl)
theorem dX1_needSale_29 : decode cX1_needSale 29 = .ok (.invokestatic 73, 3) := dk_184 0 73 (dk_at dksX1_needSale_1 5 rfl rfl)
theorem dX1_needSale_32 : decode cX1_needSale 32 = .ok (.invokestatic 84, 3) := dk_184 0 84 (dk_at dksX1_needSale_1 8 rfl rfl)
theorem dX1_needSale_35 : decode cX1_needSale 35 = .ok (.return_, 1) := dk_177 (dk_at dksX1_needSale_1 11 rfl rfl)
abbrev cX1_selling : ByteArray := prog_1_method_20_code
def yX1_selling : MethodName := ⟨RX1, "selling", "(III)LBottleLoop$Deed;"⟩
def dkwX1_selling_0 : List UInt8 := [187, 0, 139, 89, 42, 28, 27, 29, 183, 0, 141, 176]
abbrev dktX1_selling_0 : List UInt8 := dkwX1_selling_0 ++ []
theorem dksX1_selling_0 : cX1_selling.data.toList.drop 0 = dktX1_selling_0 := by decide +kernel
theorem dX1_selling_0 : decode cX1_selling 0 = .ok (.new 139, 3) := dk_187 0 139 (dk_at dksX1_selling_0 0 rfl rfl)
theorem dX1_selling_3 : decode cX1_selling 3 = .ok (.dup, 1) := dk_89 (dk_at dksX1_selling_0 3 rfl rfl)
theorem dX1_selling_4 : decode cX1_selling 4 = .ok (.aload_n 0, 1) := dk_42 (dk_at dksX1_selling_0 4 rfl rfl)
theorem dX1_selling_5 : decode cX1_selling 5 = .ok (.iload_n 2, 1) := dk_28 (dk_at dksX1_selling_0 5 rfl rfl)
theorem dX1_selling_6 : decode cX1_selling 6 = .ok (.iload_n 1, 1) := dk_27 (dk_at dksX1_selling_0 6 rfl rfl)
theorem dX1_selling_7 : decode cX1_selling 7 = .ok (.iload_n 3, 1) := dk_29 (dk_at dksX1_selling_0 7 rfl rfl)
theorem dX1_selling_8 : decode cX1_selling 8 = .ok (.invokespecial 141, 3) := dk_183 0 141 (dk_at dksX1_selling_0 8 rfl rfl)
theorem dX1_selling_11 : decode cX1_selling 11 = .ok (.areturn, 1) := dk_176 (dk_at dksX1_selling_0 11 rfl rfl)
abbrev cX1_takeBack : ByteArray := prog_1_method_28_code
def yX1_takeBack : MethodName := ⟨RX1, "takeBack", "(III)I"⟩
def dkwX1_takeBack_0 : List UInt8 := [42, 27, 28, 29, 182, 0, 172, 42, 27, 28, 29, 182, 0, 179, 182, 0, 169, 172]
abbrev dktX1_takeBack_0 : List UInt8 := dkwX1_takeBack_0 ++ []
theorem dksX1_takeBack_0 : cX1_takeBack.data.toList.drop 0 = dktX1_takeBack_0 := by decide +kernel
theorem dX1_takeBack_0 : decode cX1_takeBack 0 = .ok (.aload_n 0, 1) := dk_42 (dk_at dksX1_takeBack_0 0 rfl rfl)
theorem dX1_takeBack_1 : decode cX1_takeBack 1 = .ok (.iload_n 1, 1) := dk_27 (dk_at dksX1_takeBack_0 1 rfl rfl)
theorem dX1_takeBack_2 : decode cX1_takeBack 2 = .ok (.iload_n 2, 1) := dk_28 (dk_at dksX1_takeBack_0 2 rfl rfl)
theorem dX1_takeBack_3 : decode cX1_takeBack 3 = .ok (.iload_n 3, 1) := dk_29 (dk_at dksX1_takeBack_0 3 rfl rfl)
theorem dX1_takeBack_4 : decode cX1_takeBack 4 = .ok (.invokevirtual 172, 3) := dk_182 0 172 (dk_at dksX1_takeBack_0 4 rfl rfl)
theorem dX1_takeBack_7 : decode cX1_takeBack 7 = .ok (.aload_n 0, 1) := dk_42 (dk_at dksX1_takeBack_0 7 rfl rfl)
theorem dX1_takeBack_8 : decode cX1_takeBack 8 = .ok (.iload_n 1, 1) := dk_27 (dk_at dksX1_takeBack_0 8 rfl rfl)
theorem dX1_takeBack_9 : decode cX1_takeBack 9 = .ok (.iload_n 2, 1) := dk_28 (dk_at dksX1_takeBack_0 9 rfl rfl)
theorem dX1_takeBack_10 : decode cX1_takeBack 10 = .ok (.iload_n 3, 1) := dk_29 (dk_at dksX1_takeBack_0 10 rfl rfl)
theorem dX1_takeBack_11 : decode cX1_takeBack 11 = .ok (.invokevirtual 179, 3) := dk_182 0 179 (dk_at dksX1_takeBack_0 11 rfl rfl)
theorem dX1_takeBack_14 : decode cX1_takeBack 14 = .ok (.invokevirtual 169, 3) := dk_182 0 169 (dk_at dksX1_takeBack_0 14 rfl rfl)
theorem dX1_takeBack_17 : decode cX1_takeBack 17 = .ok (.ireturn, 1) := dk_172 (dk_at dksX1_takeBack_0 17 rfl rfl)
abbrev cX1_taking : ByteArray := prog_1_method_21_code
def yX1_taking : MethodName := ⟨RX1, "taking", "(III)LBottleLoop$Deed;"⟩
def dkwX1_taking_0 : List UInt8 := [187, 0, 142, 89, 42, 28, 27, 29, 183, 0, 144, 176]
abbrev dktX1_taking_0 : List UInt8 := dkwX1_taking_0 ++ []
theorem dksX1_taking_0 : cX1_taking.data.toList.drop 0 = dktX1_taking_0 := by decide +kernel
theorem dX1_taking_0 : decode cX1_taking 0 = .ok (.new 142, 3) := dk_187 0 142 (dk_at dksX1_taking_0 0 rfl rfl)
theorem dX1_taking_3 : decode cX1_taking 3 = .ok (.dup, 1) := dk_89 (dk_at dksX1_taking_0 3 rfl rfl)
theorem dX1_taking_4 : decode cX1_taking 4 = .ok (.aload_n 0, 1) := dk_42 (dk_at dksX1_taking_0 4 rfl rfl)
theorem dX1_taking_5 : decode cX1_taking 5 = .ok (.iload_n 2, 1) := dk_28 (dk_at dksX1_taking_0 5 rfl rfl)
theorem dX1_taking_6 : decode cX1_taking 6 = .ok (.iload_n 1, 1) := dk_27 (dk_at dksX1_taking_0 6 rfl rfl)
theorem dX1_taking_7 : decode cX1_taking 7 = .ok (.iload_n 3, 1) := dk_29 (dk_at dksX1_taking_0 7 rfl rfl)
theorem dX1_taking_8 : decode cX1_taking 8 = .ok (.invokespecial 144, 3) := dk_183 0 144 (dk_at dksX1_taking_0 8 rfl rfl)
theorem dX1_taking_11 : decode cX1_taking 11 = .ok (.areturn, 1) := dk_176 (dk_at dksX1_taking_0 11 rfl rfl)
abbrev cX1_breaks : ByteArray := prog_1_method_29_code
def yX1_breaks : MethodName := ⟨RX1, "breaks", "(III)I"⟩
def dkwX1_breaks_0 : List UInt8 := [42, 27, 28, 29, 182, 0, 172, 42, 27, 28, 29, 182, 0, 182, 182, 0, 169, 172]
abbrev dktX1_breaks_0 : List UInt8 := dkwX1_breaks_0 ++ []
theorem dksX1_breaks_0 : cX1_breaks.data.toList.drop 0 = dktX1_breaks_0 := by decide +kernel
theorem dX1_breaks_0 : decode cX1_breaks 0 = .ok (.aload_n 0, 1) := dk_42 (dk_at dksX1_breaks_0 0 rfl rfl)
theorem dX1_breaks_1 : decode cX1_breaks 1 = .ok (.iload_n 1, 1) := dk_27 (dk_at dksX1_breaks_0 1 rfl rfl)
theorem dX1_breaks_2 : decode cX1_breaks 2 = .ok (.iload_n 2, 1) := dk_28 (dk_at dksX1_breaks_0 2 rfl rfl)
theorem dX1_breaks_3 : decode cX1_breaks 3 = .ok (.iload_n 3, 1) := dk_29 (dk_at dksX1_breaks_0 3 rfl rfl)
theorem dX1_breaks_4 : decode cX1_breaks 4 = .ok (.invokevirtual 172, 3) := dk_182 0 172 (dk_at dksX1_breaks_0 4 rfl rfl)
theorem dX1_breaks_7 : decode cX1_breaks 7 = .ok (.aload_n 0, 1) := dk_42 (dk_at dksX1_breaks_0 7 rfl rfl)
theorem dX1_breaks_8 : decode cX1_breaks 8 = .ok (.iload_n 1, 1) := dk_27 (dk_at dksX1_breaks_0 8 rfl rfl)
theorem dX1_breaks_9 : decode cX1_breaks 9 = .ok (.iload_n 2, 1) := dk_28 (dk_at dksX1_breaks_0 9 rfl rfl)
theorem dX1_breaks_10 : decode cX1_breaks 10 = .ok (.iload_n 3, 1) := dk_29 (dk_at dksX1_breaks_0 10 rfl rfl)
theorem dX1_breaks_11 : decode cX1_breaks 11 = .ok (.invokevirtual 182, 3) := dk_182 0 182 (dk_at dksX1_breaks_0 11 rfl rfl)
theorem dX1_breaks_14 : decode cX1_breaks 14 = .ok (.invokevirtual 169, 3) := dk_182 0 169 (dk_at dksX1_breaks_0 14 rfl rfl)
theorem dX1_breaks_17 : decode cX1_breaks 17 = .ok (.ireturn, 1) := dk_172 (dk_at dksX1_breaks_0 17 rfl rfl)
abbrev cX1_breaking : ByteArray := prog_1_method_22_code
def yX1_breaking : MethodName := ⟨RX1, "breaking", "(III)LBottleLoop$Deed;"⟩
def dkwX1_breaking_0 : List UInt8 := [187, 0, 145, 89, 42, 28, 27, 29, 183, 0, 147, 176]
abbrev dktX1_breaking_0 : List UInt8 := dkwX1_breaking_0 ++ []
theorem dksX1_breaking_0 : cX1_breaking.data.toList.drop 0 = dktX1_breaking_0 := by decide +kernel
theorem dX1_breaking_0 : decode cX1_breaking 0 = .ok (.new 145, 3) := dk_187 0 145 (dk_at dksX1_breaking_0 0 rfl rfl)
theorem dX1_breaking_3 : decode cX1_breaking 3 = .ok (.dup, 1) := dk_89 (dk_at dksX1_breaking_0 3 rfl rfl)
theorem dX1_breaking_4 : decode cX1_breaking 4 = .ok (.aload_n 0, 1) := dk_42 (dk_at dksX1_breaking_0 4 rfl rfl)
theorem dX1_breaking_5 : decode cX1_breaking 5 = .ok (.iload_n 2, 1) := dk_28 (dk_at dksX1_breaking_0 5 rfl rfl)
theorem dX1_breaking_6 : decode cX1_breaking 6 = .ok (.iload_n 1, 1) := dk_27 (dk_at dksX1_breaking_0 6 rfl rfl)
theorem dX1_breaking_7 : decode cX1_breaking 7 = .ok (.iload_n 3, 1) := dk_29 (dk_at dksX1_breaking_0 7 rfl rfl)
theorem dX1_breaking_8 : decode cX1_breaking 8 = .ok (.invokespecial 147, 3) := dk_183 0 147 (dk_at dksX1_breaking_0 8 rfl rfl)
theorem dX1_breaking_11 : decode cX1_breaking 11 = .ok (.areturn, 1) := dk_176 (dk_at dksX1_breaking_0 11 rfl rfl)
abbrev cX1_lose : ByteArray := prog_1_method_30_code
def yX1_lose : MethodName := ⟨RX1, "lose", "(II)I"⟩
def dkwX1_lose_1 : List UInt8 := [27, 28, 183, 0, 187, 182, 0, 188, 172]
abbrev dktX1_lose_1 : List UInt8 := dkwX1_lose_1 ++ []
def dkwX1_lose_0 : List UInt8 := [42, 27, 182, 0, 151, 184, 0, 119, 28, 4, 17, 19, 136, 184, 0, 73, 184, 0, 84, 187, 0, 185, 89, 42]
abbrev dktX1_lose_0 : List UInt8 := dkwX1_lose_0 ++ dktX1_lose_1
theorem dksX1_lose_0 : cX1_lose.data.toList.drop 0 = dktX1_lose_0 := by decide +kernel
theorem dksX1_lose_1 : cX1_lose.data.toList.drop 24 = dktX1_lose_1 := dk_seg dksX1_lose_0 24 rfl rfl
theorem dX1_lose_0 : decode cX1_lose 0 = .ok (.aload_n 0, 1) := dk_42 (dk_at dksX1_lose_0 0 rfl rfl)
theorem dX1_lose_1 : decode cX1_lose 1 = .ok (.iload_n 1, 1) := dk_27 (dk_at dksX1_lose_0 1 rfl rfl)
theorem dX1_lose_2 : decode cX1_lose 2 = .ok (.invokevirtual 151, 3) := dk_182 0 151 (dk_at dksX1_lose_0 2 rfl rfl)
theorem dX1_lose_5 : decode cX1_lose 5 = .ok (.invokestatic 119, 3) := dk_184 0 119 (dk_at dksX1_lose_0 5 rfl rfl)
theorem dX1_lose_8 : decode cX1_lose 8 = .ok (.iload_n 2, 1) := dk_28 (dk_at dksX1_lose_0 8 rfl rfl)
theorem dX1_lose_9 : decode cX1_lose 9 = .ok (.iconst 1, 1) := dk_4 (dk_at dksX1_lose_0 9 rfl rfl)
theorem dX1_lose_10 : decode cX1_lose 10 = .ok (.sipush 5000, 3) := dk_17 19 136 (dk_at dksX1_lose_0 10 rfl rfl)
theorem dX1_lose_13 : decode cX1_lose 13 = .ok (.invokestatic 73, 3) := dk_184 0 73 (dk_at dksX1_lose_0 13 rfl rfl)
theorem dX1_lose_16 : decode cX1_lose 16 = .ok (.invokestatic 84, 3) := dk_184 0 84 (dk_at dksX1_lose_0 16 rfl rfl)
theorem dX1_lose_19 : decode cX1_lose 19 = .ok (.new 185, 3) := dk_187 0 185 (dk_at dksX1_lose_0 19 rfl rfl)
theorem dX1_lose_22 : decode cX1_lose 22 = .ok (.dup, 1) := dk_89 (dk_at dksX1_lose_0 22 rfl rfl)
theorem dX1_lose_23 : decode cX1_lose 23 = .ok (.aload_n 0, 1) := dk_42 (dk_at dksX1_lose_0 23 rfl rfl)
theorem dX1_lose_24 : decode cX1_lose 24 = .ok (.iload_n 1, 1) := dk_27 (dk_at dksX1_lose_1 0 rfl rfl)
theorem dX1_lose_25 : decode cX1_lose 25 = .ok (.iload_n 2, 1) := dk_28 (dk_at dksX1_lose_1 1 rfl rfl)
theorem dX1_lose_26 : decode cX1_lose 26 = .ok (.invokespecial 187, 3) := dk_183 0 187 (dk_at dksX1_lose_1 2 rfl rfl)
theorem dX1_lose_29 : decode cX1_lose 29 = .ok (.invokevirtual 188, 3) := dk_182 0 188 (dk_at dksX1_lose_1 5 rfl rfl)
theorem dX1_lose_32 : decode cX1_lose 32 = .ok (.ireturn, 1) := dk_172 (dk_at dksX1_lose_1 8 rfl rfl)
abbrev cX1_collect : ByteArray := prog_1_method_31_code
def yX1_collect : MethodName := ⟨RX1, "collect", "(III)I"⟩
def dkwX1_collect_1 : List UInt8 := [153, 0, 7, 4, 167, 0, 4, 3, 184, 0, 84, 42, 27, 28, 29, 182, 0, 189, 182, 0, 169, 172]
abbrev dktX1_collect_1 : List UInt8 := dkwX1_collect_1 ++ []
def dkwX1_collect_0 : List UInt8 := [42, 27, 182, 0, 162, 184, 0, 119, 28, 184, 0, 80, 153, 0, 17, 29, 4, 16, 50, 184, 0, 73]
abbrev dktX1_collect_0 : List UInt8 := dkwX1_collect_0 ++ dktX1_collect_1
theorem dksX1_collect_0 : cX1_collect.data.toList.drop 0 = dktX1_collect_0 := by decide +kernel
theorem dksX1_collect_1 : cX1_collect.data.toList.drop 22 = dktX1_collect_1 := dk_seg dksX1_collect_0 22 rfl rfl
theorem dX1_collect_0 : decode cX1_collect 0 = .ok (.aload_n 0, 1) := dk_42 (dk_at dksX1_collect_0 0 rfl rfl)
theorem dX1_collect_1 : decode cX1_collect 1 = .ok (.iload_n 1, 1) := dk_27 (dk_at dksX1_collect_0 1 rfl rfl)
theorem dX1_collect_2 : decode cX1_collect 2 = .ok (.invokevirtual 162, 3) := dk_182 0 162 (dk_at dksX1_collect_0 2 rfl rfl)
theorem dX1_collect_5 : decode cX1_collect 5 = .ok (.invokestatic 119, 3) := dk_184 0 119 (dk_at dksX1_collect_0 5 rfl rfl)
theorem dX1_collect_8 : decode cX1_collect 8 = .ok (.iload_n 2, 1) := dk_28 (dk_at dksX1_collect_0 8 rfl rfl)
theorem dX1_collect_9 : decode cX1_collect 9 = .ok (.invokestatic 80, 3) := dk_184 0 80 (dk_at dksX1_collect_0 9 rfl rfl)
theorem dX1_collect_12 : decode cX1_collect 12 = .ok (.ifCond .eq 17, 3) := dk_153 0 17 (dk_at dksX1_collect_0 12 rfl rfl)
theorem dX1_collect_15 : decode cX1_collect 15 = .ok (.iload_n 3, 1) := dk_29 (dk_at dksX1_collect_0 15 rfl rfl)
theorem dX1_collect_16 : decode cX1_collect 16 = .ok (.iconst 1, 1) := dk_4 (dk_at dksX1_collect_0 16 rfl rfl)
theorem dX1_collect_17 : decode cX1_collect 17 = .ok (.bipush 50, 2) := dk_16 50 (dk_at dksX1_collect_0 17 rfl rfl)
theorem dX1_collect_19 : decode cX1_collect 19 = .ok (.invokestatic 73, 3) := dk_184 0 73 (dk_at dksX1_collect_0 19 rfl rfl)
theorem dX1_collect_22 : decode cX1_collect 22 = .ok (.ifCond .eq 7, 3) := dk_153 0 7 (dk_at dksX1_collect_1 0 rfl rfl)
theorem dX1_collect_25 : decode cX1_collect 25 = .ok (.iconst 1, 1) := dk_4 (dk_at dksX1_collect_1 3 rfl rfl)
theorem dX1_collect_26 : decode cX1_collect 26 = .ok (.goto 4, 3) := dk_167 0 4 (dk_at dksX1_collect_1 4 rfl rfl)
theorem dX1_collect_29 : decode cX1_collect 29 = .ok (.iconst 0, 1) := dk_3 (dk_at dksX1_collect_1 7 rfl rfl)
theorem dX1_collect_30 : decode cX1_collect 30 = .ok (.invokestatic 84, 3) := dk_184 0 84 (dk_at dksX1_collect_1 8 rfl rfl)
theorem dX1_collect_33 : decode cX1_collect 33 = .ok (.aload_n 0, 1) := dk_42 (dk_at dksX1_collect_1 11 rfl rfl)
theorem dX1_collect_34 : decode cX1_collect 34 = .ok (.iload_n 1, 1) := dk_27 (dk_at dksX1_collect_1 12 rfl rfl)
theorem dX1_collect_35 : decode cX1_collect 35 = .ok (.iload_n 2, 1) := dk_28 (dk_at dksX1_collect_1 13 rfl rfl)
theorem dX1_collect_36 : decode cX1_collect 36 = .ok (.iload_n 3, 1) := dk_29 (dk_at dksX1_collect_1 14 rfl rfl)
theorem dX1_collect_37 : decode cX1_collect 37 = .ok (.invokevirtual 189, 3) := dk_182 0 189 (dk_at dksX1_collect_1 15 rfl rfl)
theorem dX1_collect_40 : decode cX1_collect 40 = .ok (.invokevirtual 169, 3) := dk_182 0 169 (dk_at dksX1_collect_1 18 rfl rfl)
theorem dX1_collect_43 : decode cX1_collect 43 = .ok (.ireturn, 1) := dk_172 (dk_at dksX1_collect_1 21 rfl rfl)
abbrev cX1_collecting : ByteArray := prog_1_method_23_code
def yX1_collecting : MethodName := ⟨RX1, "collecting", "(III)LBottleLoop$Deed;"⟩
def dkwX1_collecting_0 : List UInt8 := [187, 0, 148, 89, 42, 27, 28, 29, 183, 0, 150, 176]
abbrev dktX1_collecting_0 : List UInt8 := dkwX1_collecting_0 ++ []
theorem dksX1_collecting_0 : cX1_collecting.data.toList.drop 0 = dktX1_collecting_0 := by decide +kernel
theorem dX1_collecting_0 : decode cX1_collecting 0 = .ok (.new 148, 3) := dk_187 0 148 (dk_at dksX1_collecting_0 0 rfl rfl)
theorem dX1_collecting_3 : decode cX1_collecting 3 = .ok (.dup, 1) := dk_89 (dk_at dksX1_collecting_0 3 rfl rfl)
theorem dX1_collecting_4 : decode cX1_collecting 4 = .ok (.aload_n 0, 1) := dk_42 (dk_at dksX1_collecting_0 4 rfl rfl)
theorem dX1_collecting_5 : decode cX1_collecting 5 = .ok (.iload_n 1, 1) := dk_27 (dk_at dksX1_collecting_0 5 rfl rfl)
theorem dX1_collecting_6 : decode cX1_collecting 6 = .ok (.iload_n 2, 1) := dk_28 (dk_at dksX1_collecting_0 6 rfl rfl)
theorem dX1_collecting_7 : decode cX1_collecting 7 = .ok (.iload_n 3, 1) := dk_29 (dk_at dksX1_collecting_0 7 rfl rfl)
theorem dX1_collecting_8 : decode cX1_collecting 8 = .ok (.invokespecial 150, 3) := dk_183 0 150 (dk_at dksX1_collecting_0 8 rfl rfl)
theorem dX1_collecting_11 : decode cX1_collecting 11 = .ok (.areturn, 1) := dk_176 (dk_at dksX1_collecting_0 11 rfl rfl)
abbrev cX1_sort : ByteArray := prog_1_method_32_code
def yX1_sort : MethodName := ⟨RX1, "sort", "(II)I"⟩
def dkwX1_sort_1 : List UInt8 := [184, 0, 84, 187, 0, 192, 89, 42, 27, 28, 183, 0, 194, 182, 0, 195, 172]
abbrev dktX1_sort_1 : List UInt8 := dkwX1_sort_1 ++ []
def dkwX1_sort_0 : List UInt8 := [27, 184, 0, 80, 153, 0, 18, 28, 4, 17, 19, 136, 184, 0, 73, 153, 0, 7, 4, 167, 0, 4, 3]
abbrev dktX1_sort_0 : List UInt8 := dkwX1_sort_0 ++ dktX1_sort_1
theorem dksX1_sort_0 : cX1_sort.data.toList.drop 0 = dktX1_sort_0 := by decide +kernel
theorem dksX1_sort_1 : cX1_sort.data.toList.drop 23 = dktX1_sort_1 := dk_seg dksX1_sort_0 23 rfl rfl
theorem dX1_sort_0 : decode cX1_sort 0 = .ok (.iload_n 1, 1) := dk_27 (dk_at dksX1_sort_0 0 rfl rfl)
theorem dX1_sort_1 : decode cX1_sort 1 = .ok (.invokestatic 80, 3) := dk_184 0 80 (dk_at dksX1_sort_0 1 rfl rfl)
theorem dX1_sort_4 : decode cX1_sort 4 = .ok (.ifCond .eq 18, 3) := dk_153 0 18 (dk_at dksX1_sort_0 4 rfl rfl)
theorem dX1_sort_7 : decode cX1_sort 7 = .ok (.iload_n 2, 1) := dk_28 (dk_at dksX1_sort_0 7 rfl rfl)
theorem dX1_sort_8 : decode cX1_sort 8 = .ok (.iconst 1, 1) := dk_4 (dk_at dksX1_sort_0 8 rfl rfl)
theorem dX1_sort_9 : decode cX1_sort 9 = .ok (.sipush 5000, 3) := dk_17 19 136 (dk_at dksX1_sort_0 9 rfl rfl)
theorem dX1_sort_12 : decode cX1_sort 12 = .ok (.invokestatic 73, 3) := dk_184 0 73 (dk_at dksX1_sort_0 12 rfl rfl)
theorem dX1_sort_15 : decode cX1_sort 15 = .ok (.ifCond .eq 7, 3) := dk_153 0 7 (dk_at dksX1_sort_0 15 rfl rfl)
theorem dX1_sort_18 : decode cX1_sort 18 = .ok (.iconst 1, 1) := dk_4 (dk_at dksX1_sort_0 18 rfl rfl)
theorem dX1_sort_19 : decode cX1_sort 19 = .ok (.goto 4, 3) := dk_167 0 4 (dk_at dksX1_sort_0 19 rfl rfl)
theorem dX1_sort_22 : decode cX1_sort 22 = .ok (.iconst 0, 1) := dk_3 (dk_at dksX1_sort_0 22 rfl rfl)
theorem dX1_sort_23 : decode cX1_sort 23 = .ok (.invokestatic 84, 3) := dk_184 0 84 (dk_at dksX1_sort_1 0 rfl rfl)
theorem dX1_sort_26 : decode cX1_sort 26 = .ok (.new 192, 3) := dk_187 0 192 (dk_at dksX1_sort_1 3 rfl rfl)
theorem dX1_sort_29 : decode cX1_sort 29 = .ok (.dup, 1) := dk_89 (dk_at dksX1_sort_1 6 rfl rfl)
theorem dX1_sort_30 : decode cX1_sort 30 = .ok (.aload_n 0, 1) := dk_42 (dk_at dksX1_sort_1 7 rfl rfl)
theorem dX1_sort_31 : decode cX1_sort 31 = .ok (.iload_n 1, 1) := dk_27 (dk_at dksX1_sort_1 8 rfl rfl)
theorem dX1_sort_32 : decode cX1_sort 32 = .ok (.iload_n 2, 1) := dk_28 (dk_at dksX1_sort_1 9 rfl rfl)
theorem dX1_sort_33 : decode cX1_sort 33 = .ok (.invokespecial 194, 3) := dk_183 0 194 (dk_at dksX1_sort_1 10 rfl rfl)
theorem dX1_sort_36 : decode cX1_sort 36 = .ok (.invokevirtual 195, 3) := dk_182 0 195 (dk_at dksX1_sort_1 13 rfl rfl)
theorem dX1_sort_39 : decode cX1_sort 39 = .ok (.ireturn, 1) := dk_172 (dk_at dksX1_sort_1 16 rfl rfl)
abbrev cX1_swap : ByteArray := prog_1_method_33_code
def yX1_swap : MethodName := ⟨RX1, "swap", "(III)I"⟩
def dkwX1_swap_4 : List UInt8 := [183, 0, 201, 182, 0, 202, 172]
abbrev dktX1_swap_4 : List UInt8 := dkwX1_swap_4 ++ []
def dkwX1_swap_3 : List UInt8 := [184, 0, 73, 153, 0, 7, 4, 167, 0, 4, 3, 184, 0, 84, 187, 0, 199, 89, 42, 27, 29, 28]
abbrev dktX1_swap_3 : List UInt8 := dkwX1_swap_3 ++ dktX1_swap_4
def dkwX1_swap_2 : List UInt8 := [180, 0, 19, 180, 0, 70, 28, 182, 0, 103, 192, 0, 94, 180, 0, 196, 160, 0, 18, 29, 4, 17, 19, 136]
abbrev dktX1_swap_2 : List UInt8 := dkwX1_swap_2 ++ dktX1_swap_3
def dkwX1_swap_1 : List UInt8 := [27, 28, 159, 0, 55, 42, 180, 0, 19, 180, 0, 70, 27, 182, 0, 103, 192, 0, 94, 180, 0, 196, 42]
abbrev dktX1_swap_1 : List UInt8 := dkwX1_swap_1 ++ dktX1_swap_2
def dkwX1_swap_0 : List UInt8 := [42, 27, 182, 0, 151, 153, 0, 15, 42, 28, 182, 0, 151, 153, 0, 7, 4, 167, 0, 4, 3, 184, 0, 119]
abbrev dktX1_swap_0 : List UInt8 := dkwX1_swap_0 ++ dktX1_swap_1
theorem dksX1_swap_0 : cX1_swap.data.toList.drop 0 = dktX1_swap_0 := by decide +kernel
theorem dksX1_swap_1 : cX1_swap.data.toList.drop 24 = dktX1_swap_1 := dk_seg dksX1_swap_0 24 rfl rfl
theorem dksX1_swap_2 : cX1_swap.data.toList.drop 47 = dktX1_swap_2 := dk_seg dksX1_swap_1 23 rfl rfl
theorem dksX1_swap_3 : cX1_swap.data.toList.drop 71 = dktX1_swap_3 := dk_seg dksX1_swap_2 24 rfl rfl
theorem dksX1_swap_4 : cX1_swap.data.toList.drop 93 = dktX1_swap_4 := dk_seg dksX1_swap_3 22 rfl rfl
theorem dX1_swap_0 : decode cX1_swap 0 = .ok (.aload_n 0, 1) := dk_42 (dk_at dksX1_swap_0 0 rfl rfl)
theorem dX1_swap_1 : decode cX1_swap 1 = .ok (.iload_n 1, 1) := dk_27 (dk_at dksX1_swap_0 1 rfl rfl)
theorem dX1_swap_2 : decode cX1_swap 2 = .ok (.invokevirtual 151, 3) := dk_182 0 151 (dk_at dksX1_swap_0 2 rfl rfl)
theorem dX1_swap_5 : decode cX1_swap 5 = .ok (.ifCond .eq 15, 3) := dk_153 0 15 (dk_at dksX1_swap_0 5 rfl rfl)
theorem dX1_swap_8 : decode cX1_swap 8 = .ok (.aload_n 0, 1) := dk_42 (dk_at dksX1_swap_0 8 rfl rfl)
theorem dX1_swap_9 : decode cX1_swap 9 = .ok (.iload_n 2, 1) := dk_28 (dk_at dksX1_swap_0 9 rfl rfl)
theorem dX1_swap_10 : decode cX1_swap 10 = .ok (.invokevirtual 151, 3) := dk_182 0 151 (dk_at dksX1_swap_0 10 rfl rfl)
theorem dX1_swap_13 : decode cX1_swap 13 = .ok (.ifCond .eq 7, 3) := dk_153 0 7 (dk_at dksX1_swap_0 13 rfl rfl)
theorem dX1_swap_16 : decode cX1_swap 16 = .ok (.iconst 1, 1) := dk_4 (dk_at dksX1_swap_0 16 rfl rfl)
theorem dX1_swap_17 : decode cX1_swap 17 = .ok (.goto 4, 3) := dk_167 0 4 (dk_at dksX1_swap_0 17 rfl rfl)
theorem dX1_swap_20 : decode cX1_swap 20 = .ok (.iconst 0, 1) := dk_3 (dk_at dksX1_swap_0 20 rfl rfl)
theorem dX1_swap_21 : decode cX1_swap 21 = .ok (.invokestatic 119, 3) := dk_184 0 119 (dk_at dksX1_swap_0 21 rfl rfl)
theorem dX1_swap_24 : decode cX1_swap 24 = .ok (.iload_n 1, 1) := dk_27 (dk_at dksX1_swap_1 0 rfl rfl)
theorem dX1_swap_25 : decode cX1_swap 25 = .ok (.iload_n 2, 1) := dk_28 (dk_at dksX1_swap_1 1 rfl rfl)
theorem dX1_swap_26 : decode cX1_swap 26 = .ok (.if_icmp .eq 55, 3) := dk_159 0 55 (dk_at dksX1_swap_1 2 rfl rfl)
theorem dX1_swap_29 : decode cX1_swap 29 = .ok (.aload_n 0, 1) := dk_42 (dk_at dksX1_swap_1 5 rfl rfl)
theorem dX1_swap_30 : decode cX1_swap 30 = .ok (.getfield 19, 3) := dk_180 0 19 (dk_at dksX1_swap_1 6 rfl rfl)
theorem dX1_swap_33 : decode cX1_swap 33 = .ok (.getfield 70, 3) := dk_180 0 70 (dk_at dksX1_swap_1 9 rfl rfl)
theorem dX1_swap_36 : decode cX1_swap 36 = .ok (.iload_n 1, 1) := dk_27 (dk_at dksX1_swap_1 12 rfl rfl)
theorem dX1_swap_37 : decode cX1_swap 37 = .ok (.invokevirtual 103, 3) := dk_182 0 103 (dk_at dksX1_swap_1 13 rfl rfl)
theorem dX1_swap_40 : decode cX1_swap 40 = .ok (.checkcast 94, 3) := dk_192 0 94 (dk_at dksX1_swap_1 16 rfl rfl)
theorem dX1_swap_43 : decode cX1_swap 43 = .ok (.getfield 196, 3) := dk_180 0 196 (dk_at dksX1_swap_1 19 rfl rfl)
theorem dX1_swap_46 : decode cX1_swap 46 = .ok (.aload_n 0, 1) := dk_42 (dk_at dksX1_swap_1 22 rfl rfl)
theorem dX1_swap_47 : decode cX1_swap 47 = .ok (.getfield 19, 3) := dk_180 0 19 (dk_at dksX1_swap_2 0 rfl rfl)
theorem dX1_swap_50 : decode cX1_swap 50 = .ok (.getfield 70, 3) := dk_180 0 70 (dk_at dksX1_swap_2 3 rfl rfl)
theorem dX1_swap_53 : decode cX1_swap 53 = .ok (.iload_n 2, 1) := dk_28 (dk_at dksX1_swap_2 6 rfl rfl)
theorem dX1_swap_54 : decode cX1_swap 54 = .ok (.invokevirtual 103, 3) := dk_182 0 103 (dk_at dksX1_swap_2 7 rfl rfl)
theorem dX1_swap_57 : decode cX1_swap 57 = .ok (.checkcast 94, 3) := dk_192 0 94 (dk_at dksX1_swap_2 10 rfl rfl)
theorem dX1_swap_60 : decode cX1_swap 60 = .ok (.getfield 196, 3) := dk_180 0 196 (dk_at dksX1_swap_2 13 rfl rfl)
theorem dX1_swap_63 : decode cX1_swap 63 = .ok (.if_icmp .ne 18, 3) := dk_160 0 18 (dk_at dksX1_swap_2 16 rfl rfl)
theorem dX1_swap_66 : decode cX1_swap 66 = .ok (.iload_n 3, 1) := dk_29 (dk_at dksX1_swap_2 19 rfl rfl)
theorem dX1_swap_67 : decode cX1_swap 67 = .ok (.iconst 1, 1) := dk_4 (dk_at dksX1_swap_2 20 rfl rfl)
theorem dX1_swap_68 : decode cX1_swap 68 = .ok (.sipush 5000, 3) := dk_17 19 136 (dk_at dksX1_swap_2 21 rfl rfl)
theorem dX1_swap_71 : decode cX1_swap 71 = .ok (.invokestatic 73, 3) := dk_184 0 73 (dk_at dksX1_swap_3 0 rfl rfl)
theorem dX1_swap_74 : decode cX1_swap 74 = .ok (.ifCond .eq 7, 3) := dk_153 0 7 (dk_at dksX1_swap_3 3 rfl rfl)
theorem dX1_swap_77 : decode cX1_swap 77 = .ok (.iconst 1, 1) := dk_4 (dk_at dksX1_swap_3 6 rfl rfl)
theorem dX1_swap_78 : decode cX1_swap 78 = .ok (.goto 4, 3) := dk_167 0 4 (dk_at dksX1_swap_3 7 rfl rfl)
theorem dX1_swap_81 : decode cX1_swap 81 = .ok (.iconst 0, 1) := dk_3 (dk_at dksX1_swap_3 10 rfl rfl)
theorem dX1_swap_82 : decode cX1_swap 82 = .ok (.invokestatic 84, 3) := dk_184 0 84 (dk_at dksX1_swap_3 11 rfl rfl)
theorem dX1_swap_85 : decode cX1_swap 85 = .ok (.new 199, 3) := dk_187 0 199 (dk_at dksX1_swap_3 14 rfl rfl)
theorem dX1_swap_88 : decode cX1_swap 88 = .ok (.dup, 1) := dk_89 (dk_at dksX1_swap_3 17 rfl rfl)
theorem dX1_swap_89 : decode cX1_swap 89 = .ok (.aload_n 0, 1) := dk_42 (dk_at dksX1_swap_3 18 rfl rfl)
theorem dX1_swap_90 : decode cX1_swap 90 = .ok (.iload_n 1, 1) := dk_27 (dk_at dksX1_swap_3 19 rfl rfl)
theorem dX1_swap_91 : decode cX1_swap 91 = .ok (.iload_n 3, 1) := dk_29 (dk_at dksX1_swap_3 20 rfl rfl)
theorem dX1_swap_92 : decode cX1_swap 92 = .ok (.iload_n 2, 1) := dk_28 (dk_at dksX1_swap_3 21 rfl rfl)
theorem dX1_swap_93 : decode cX1_swap 93 = .ok (.invokespecial 201, 3) := dk_183 0 201 (dk_at dksX1_swap_4 0 rfl rfl)
theorem dX1_swap_96 : decode cX1_swap 96 = .ok (.invokevirtual 202, 3) := dk_182 0 202 (dk_at dksX1_swap_4 3 rfl rfl)
theorem dX1_swap_99 : decode cX1_swap 99 = .ok (.ireturn, 1) := dk_172 (dk_at dksX1_swap_4 6 rfl rfl)
abbrev cX1_append : ByteArray := prog_1_method_34_code
def yX1_append : MethodName := ⟨RX1, "append", "(I)I"⟩
def dkwX1_append_2 : List UInt8 := [172]
abbrev dktX1_append_2 : List UInt8 := dkwX1_append_2 ++ []
def dkwX1_append_1 : List UInt8 := [167, 0, 4, 3, 184, 0, 88, 42, 180, 0, 37, 27, 146, 182, 0, 206, 87, 42, 180, 0, 37, 182, 0, 203]
abbrev dktX1_append_1 : List UInt8 := dkwX1_append_1 ++ dktX1_append_2
def dkwX1_append_0 : List UInt8 := [27, 16, 33, 16, 126, 184, 0, 73, 184, 0, 84, 42, 180, 0, 37, 182, 0, 203, 16, 60, 162, 0, 7, 4]
abbrev dktX1_append_0 : List UInt8 := dkwX1_append_0 ++ dktX1_append_1
theorem dksX1_append_0 : cX1_append.data.toList.drop 0 = dktX1_append_0 := by decide +kernel
theorem dksX1_append_1 : cX1_append.data.toList.drop 24 = dktX1_append_1 := dk_seg dksX1_append_0 24 rfl rfl
theorem dksX1_append_2 : cX1_append.data.toList.drop 48 = dktX1_append_2 := dk_seg dksX1_append_1 24 rfl rfl
theorem dX1_append_0 : decode cX1_append 0 = .ok (.iload_n 1, 1) := dk_27 (dk_at dksX1_append_0 0 rfl rfl)
theorem dX1_append_1 : decode cX1_append 1 = .ok (.bipush 33, 2) := dk_16 33 (dk_at dksX1_append_0 1 rfl rfl)
theorem dX1_append_3 : decode cX1_append 3 = .ok (.bipush 126, 2) := dk_16 126 (dk_at dksX1_append_0 3 rfl rfl)
theorem dX1_append_5 : decode cX1_append 5 = .ok (.invokestatic 73, 3) := dk_184 0 73 (dk_at dksX1_append_0 5 rfl rfl)
theorem dX1_append_8 : decode cX1_append 8 = .ok (.invokestatic 84, 3) := dk_184 0 84 (dk_at dksX1_append_0 8 rfl rfl)
theorem dX1_append_11 : decode cX1_append 11 = .ok (.aload_n 0, 1) := dk_42 (dk_at dksX1_append_0 11 rfl rfl)
theorem dX1_append_12 : decode cX1_append 12 = .ok (.getfield 37, 3) := dk_180 0 37 (dk_at dksX1_append_0 12 rfl rfl)
theorem dX1_append_15 : decode cX1_append 15 = .ok (.invokevirtual 203, 3) := dk_182 0 203 (dk_at dksX1_append_0 15 rfl rfl)
theorem dX1_append_18 : decode cX1_append 18 = .ok (.bipush 60, 2) := dk_16 60 (dk_at dksX1_append_0 18 rfl rfl)
theorem dX1_append_20 : decode cX1_append 20 = .ok (.if_icmp .ge 7, 3) := dk_162 0 7 (dk_at dksX1_append_0 20 rfl rfl)
theorem dX1_append_23 : decode cX1_append 23 = .ok (.iconst 1, 1) := dk_4 (dk_at dksX1_append_0 23 rfl rfl)
theorem dX1_append_24 : decode cX1_append 24 = .ok (.goto 4, 3) := dk_167 0 4 (dk_at dksX1_append_1 0 rfl rfl)
theorem dX1_append_27 : decode cX1_append 27 = .ok (.iconst 0, 1) := dk_3 (dk_at dksX1_append_1 3 rfl rfl)
theorem dX1_append_28 : decode cX1_append 28 = .ok (.invokestatic 88, 3) := dk_184 0 88 (dk_at dksX1_append_1 4 rfl rfl)
theorem dX1_append_31 : decode cX1_append 31 = .ok (.aload_n 0, 1) := dk_42 (dk_at dksX1_append_1 7 rfl rfl)
theorem dX1_append_32 : decode cX1_append 32 = .ok (.getfield 37, 3) := dk_180 0 37 (dk_at dksX1_append_1 8 rfl rfl)
theorem dX1_append_35 : decode cX1_append 35 = .ok (.iload_n 1, 1) := dk_27 (dk_at dksX1_append_1 11 rfl rfl)
theorem dX1_append_36 : decode cX1_append 36 = .ok (.i2c, 1) := dk_146 (dk_at dksX1_append_1 12 rfl rfl)
theorem dX1_append_37 : decode cX1_append 37 = .ok (.invokevirtual 206, 3) := dk_182 0 206 (dk_at dksX1_append_1 13 rfl rfl)
theorem dX1_append_40 : decode cX1_append 40 = .ok (.pop, 1) := dk_87 (dk_at dksX1_append_1 16 rfl rfl)
theorem dX1_append_41 : decode cX1_append 41 = .ok (.aload_n 0, 1) := dk_42 (dk_at dksX1_append_1 17 rfl rfl)
theorem dX1_append_42 : decode cX1_append 42 = .ok (.getfield 37, 3) := dk_180 0 37 (dk_at dksX1_append_1 18 rfl rfl)
theorem dX1_append_45 : decode cX1_append 45 = .ok (.invokevirtual 203, 3) := dk_182 0 203 (dk_at dksX1_append_1 21 rfl rfl)
theorem dX1_append_48 : decode cX1_append 48 = .ok (.ireturn, 1) := dk_172 (dk_at dksX1_append_2 0 rfl rfl)
abbrev cX1_run : ByteArray := prog_1_method_38_code
def yX1_run : MethodName := ⟨RX1, "run", "()I"⟩
def dkwX1_run_4 : List UInt8 := [167, 0, 16, 58, 4, 42, 180, 0, 37, 3, 182, 0, 210, 25, 4, 191, 28, 172]
abbrev dktX1_run_4 : List UInt8 := dkwX1_run_4 ++ []
def dkwX1_run_3 : List UInt8 := [167, 0, 39, 78, 42, 180, 0, 19, 45, 182, 1, 1, 181, 0, 247, 42, 180, 0, 37, 3, 182, 0, 210]
abbrev dktX1_run_3 : List UInt8 := dkwX1_run_3 ++ dktX1_run_4
def dkwX1_run_2 : List UInt8 := [182, 0, 103, 192, 0, 226, 182, 0, 253, 132, 2, 1, 167, 255, 227, 42, 180, 0, 37, 3, 182, 0, 210]
abbrev dktX1_run_2 : List UInt8 := dkwX1_run_2 ++ dktX1_run_3
def dkwX1_run_1 : List UInt8 := [3, 181, 0, 247, 3, 61, 28, 43, 180, 0, 250, 182, 0, 45, 162, 0, 24, 42, 43, 180, 0, 250, 28]
abbrev dktX1_run_1 : List UInt8 := dkwX1_run_1 ++ dktX1_run_2
def dkwX1_run_0 : List UInt8 := [187, 0, 213, 89, 42, 183, 0, 215, 76, 43, 182, 0, 218, 184, 0, 84, 42, 182, 0, 91, 42, 180, 0, 19]
abbrev dktX1_run_0 : List UInt8 := dkwX1_run_0 ++ dktX1_run_1
theorem dksX1_run_0 : cX1_run.data.toList.drop 0 = dktX1_run_0 := by decide +kernel
theorem dksX1_run_1 : cX1_run.data.toList.drop 24 = dktX1_run_1 := dk_seg dksX1_run_0 24 rfl rfl
theorem dksX1_run_2 : cX1_run.data.toList.drop 47 = dktX1_run_2 := dk_seg dksX1_run_1 23 rfl rfl
theorem dksX1_run_3 : cX1_run.data.toList.drop 70 = dktX1_run_3 := dk_seg dksX1_run_2 23 rfl rfl
theorem dksX1_run_4 : cX1_run.data.toList.drop 93 = dktX1_run_4 := dk_seg dksX1_run_3 23 rfl rfl
theorem dX1_run_0 : decode cX1_run 0 = .ok (.new 213, 3) := dk_187 0 213 (dk_at dksX1_run_0 0 rfl rfl)
theorem dX1_run_3 : decode cX1_run 3 = .ok (.dup, 1) := dk_89 (dk_at dksX1_run_0 3 rfl rfl)
theorem dX1_run_4 : decode cX1_run 4 = .ok (.aload_n 0, 1) := dk_42 (dk_at dksX1_run_0 4 rfl rfl)
theorem dX1_run_5 : decode cX1_run 5 = .ok (.invokespecial 215, 3) := dk_183 0 215 (dk_at dksX1_run_0 5 rfl rfl)
theorem dX1_run_8 : decode cX1_run 8 = .ok (.astore_n 1, 1) := dk_76 (dk_at dksX1_run_0 8 rfl rfl)
theorem dX1_run_9 : decode cX1_run 9 = .ok (.aload_n 1, 1) := dk_43 (dk_at dksX1_run_0 9 rfl rfl)
theorem dX1_run_10 : decode cX1_run 10 = .ok (.invokevirtual 218, 3) := dk_182 0 218 (dk_at dksX1_run_0 10 rfl rfl)
theorem dX1_run_13 : decode cX1_run 13 = .ok (.invokestatic 84, 3) := dk_184 0 84 (dk_at dksX1_run_0 13 rfl rfl)
theorem dX1_run_16 : decode cX1_run 16 = .ok (.aload_n 0, 1) := dk_42 (dk_at dksX1_run_0 16 rfl rfl)
theorem dX1_run_17 : decode cX1_run 17 = .ok (.invokevirtual 91, 3) := dk_182 0 91 (dk_at dksX1_run_0 17 rfl rfl)
theorem dX1_run_20 : decode cX1_run 20 = .ok (.aload_n 0, 1) := dk_42 (dk_at dksX1_run_0 20 rfl rfl)
theorem dX1_run_21 : decode cX1_run 21 = .ok (.getfield 19, 3) := dk_180 0 19 (dk_at dksX1_run_0 21 rfl rfl)
theorem dX1_run_24 : decode cX1_run 24 = .ok (.iconst 0, 1) := dk_3 (dk_at dksX1_run_1 0 rfl rfl)
theorem dX1_run_25 : decode cX1_run 25 = .ok (.putfield 247, 3) := dk_181 0 247 (dk_at dksX1_run_1 1 rfl rfl)
theorem dX1_run_28 : decode cX1_run 28 = .ok (.iconst 0, 1) := dk_3 (dk_at dksX1_run_1 4 rfl rfl)
theorem dX1_run_29 : decode cX1_run 29 = .ok (.istore_n 2, 1) := dk_61 (dk_at dksX1_run_1 5 rfl rfl)
theorem dX1_run_30 : decode cX1_run 30 = .ok (.iload_n 2, 1) := dk_28 (dk_at dksX1_run_1 6 rfl rfl)
theorem dX1_run_31 : decode cX1_run 31 = .ok (.aload_n 1, 1) := dk_43 (dk_at dksX1_run_1 7 rfl rfl)
theorem dX1_run_32 : decode cX1_run 32 = .ok (.getfield 250, 3) := dk_180 0 250 (dk_at dksX1_run_1 8 rfl rfl)
theorem dX1_run_35 : decode cX1_run 35 = .ok (.invokevirtual 45, 3) := dk_182 0 45 (dk_at dksX1_run_1 11 rfl rfl)
theorem dX1_run_38 : decode cX1_run 38 = .ok (.if_icmp .ge 24, 3) := dk_162 0 24 (dk_at dksX1_run_1 14 rfl rfl)
theorem dX1_run_41 : decode cX1_run 41 = .ok (.aload_n 0, 1) := dk_42 (dk_at dksX1_run_1 17 rfl rfl)
theorem dX1_run_42 : decode cX1_run 42 = .ok (.aload_n 1, 1) := dk_43 (dk_at dksX1_run_1 18 rfl rfl)
theorem dX1_run_43 : decode cX1_run 43 = .ok (.getfield 250, 3) := dk_180 0 250 (dk_at dksX1_run_1 19 rfl rfl)
theorem dX1_run_46 : decode cX1_run 46 = .ok (.iload_n 2, 1) := dk_28 (dk_at dksX1_run_1 22 rfl rfl)
theorem dX1_run_47 : decode cX1_run 47 = .ok (.invokevirtual 103, 3) := dk_182 0 103 (dk_at dksX1_run_2 0 rfl rfl)
theorem dX1_run_50 : decode cX1_run 50 = .ok (.checkcast 226, 3) := dk_192 0 226 (dk_at dksX1_run_2 3 rfl rfl)
theorem dX1_run_53 : decode cX1_run 53 = .ok (.invokevirtual 253, 3) := dk_182 0 253 (dk_at dksX1_run_2 6 rfl rfl)
theorem dX1_run_56 : decode cX1_run 56 = .ok (.iinc 2 1, 3) := dk_132 2 1 (dk_at dksX1_run_2 9 rfl rfl)
theorem dX1_run_59 : decode cX1_run 59 = .ok (.goto (-29), 3) := dk_167 255 227 (dk_at dksX1_run_2 12 rfl rfl)
theorem dX1_run_62 : decode cX1_run 62 = .ok (.aload_n 0, 1) := dk_42 (dk_at dksX1_run_2 15 rfl rfl)
theorem dX1_run_63 : decode cX1_run 63 = .ok (.getfield 37, 3) := dk_180 0 37 (dk_at dksX1_run_2 16 rfl rfl)
theorem dX1_run_66 : decode cX1_run 66 = .ok (.iconst 0, 1) := dk_3 (dk_at dksX1_run_2 19 rfl rfl)
theorem dX1_run_67 : decode cX1_run 67 = .ok (.invokevirtual 210, 3) := dk_182 0 210 (dk_at dksX1_run_2 20 rfl rfl)
theorem dX1_run_70 : decode cX1_run 70 = .ok (.goto 39, 3) := dk_167 0 39 (dk_at dksX1_run_3 0 rfl rfl)
theorem dX1_run_73 : decode cX1_run 73 = .ok (.astore_n 3, 1) := dk_78 (dk_at dksX1_run_3 3 rfl rfl)
theorem dX1_run_74 : decode cX1_run 74 = .ok (.aload_n 0, 1) := dk_42 (dk_at dksX1_run_3 4 rfl rfl)
theorem dX1_run_75 : decode cX1_run 75 = .ok (.getfield 19, 3) := dk_180 0 19 (dk_at dksX1_run_3 5 rfl rfl)
theorem dX1_run_78 : decode cX1_run 78 = .ok (.aload_n 3, 1) := dk_45 (dk_at dksX1_run_3 8 rfl rfl)
theorem dX1_run_79 : decode cX1_run 79 = .ok (.invokevirtual 257, 3) := dk_182 1 1 (dk_at dksX1_run_3 9 rfl rfl)
theorem dX1_run_82 : decode cX1_run 82 = .ok (.putfield 247, 3) := dk_181 0 247 (dk_at dksX1_run_3 12 rfl rfl)
theorem dX1_run_85 : decode cX1_run 85 = .ok (.aload_n 0, 1) := dk_42 (dk_at dksX1_run_3 15 rfl rfl)
theorem dX1_run_86 : decode cX1_run 86 = .ok (.getfield 37, 3) := dk_180 0 37 (dk_at dksX1_run_3 16 rfl rfl)
theorem dX1_run_89 : decode cX1_run 89 = .ok (.iconst 0, 1) := dk_3 (dk_at dksX1_run_3 19 rfl rfl)
theorem dX1_run_90 : decode cX1_run 90 = .ok (.invokevirtual 210, 3) := dk_182 0 210 (dk_at dksX1_run_3 20 rfl rfl)
theorem dX1_run_93 : decode cX1_run 93 = .ok (.goto 16, 3) := dk_167 0 16 (dk_at dksX1_run_4 0 rfl rfl)
theorem dX1_run_96 : decode cX1_run 96 = .ok (.astore 4, 2) := dk_58 4 (dk_at dksX1_run_4 3 rfl rfl)
theorem dX1_run_98 : decode cX1_run 98 = .ok (.aload_n 0, 1) := dk_42 (dk_at dksX1_run_4 5 rfl rfl)
theorem dX1_run_99 : decode cX1_run 99 = .ok (.getfield 37, 3) := dk_180 0 37 (dk_at dksX1_run_4 6 rfl rfl)
theorem dX1_run_102 : decode cX1_run 102 = .ok (.iconst 0, 1) := dk_3 (dk_at dksX1_run_4 9 rfl rfl)
theorem dX1_run_103 : decode cX1_run 103 = .ok (.invokevirtual 210, 3) := dk_182 0 210 (dk_at dksX1_run_4 10 rfl rfl)
theorem dX1_run_106 : decode cX1_run 106 = .ok (.aload 4, 2) := dk_25 4 (dk_at dksX1_run_4 13 rfl rfl)
theorem dX1_run_108 : decode cX1_run 108 = .ok (.athrow, 1) := dk_191 (dk_at dksX1_run_4 15 rfl rfl)
theorem dX1_run_109 : decode cX1_run 109 = .ok (.iload_n 2, 1) := dk_28 (dk_at dksX1_run_4 16 rfl rfl)
theorem dX1_run_110 : decode cX1_run 110 = .ok (.ireturn, 1) := dk_172 (dk_at dksX1_run_4 17 rfl rfl)
abbrev cX1_carryOut : ByteArray := prog_1_method_37_code
def yX1_carryOut : MethodName := ⟨RX1, "carryOut", "(LBottleLoop$Order;)V"⟩
def dkwX1_carryOut_9 : List UInt8 := [43, 180, 0, 241, 182, 0, 189, 58, 4, 25, 4, 182, 0, 244, 177]
abbrev dktX1_carryOut_9 : List UInt8 := dkwX1_carryOut_9 ++ []
def dkwX1_carryOut_8 : List UInt8 := [180, 0, 230, 43, 180, 0, 241, 182, 0, 182, 58, 4, 167, 0, 21, 42, 43, 180, 0, 233, 43, 180, 0, 230]
abbrev dktX1_carryOut_8 : List UInt8 := dkwX1_carryOut_8 ++ dktX1_carryOut_9
def dkwX1_carryOut_7 : List UInt8 := [43, 180, 0, 230, 43, 180, 0, 241, 182, 0, 179, 58, 4, 167, 0, 42, 42, 43, 180, 0, 233, 43]
abbrev dktX1_carryOut_7 : List UInt8 := dkwX1_carryOut_7 ++ dktX1_carryOut_8
def dkwX1_carryOut_6 : List UInt8 := [180, 0, 233, 43, 180, 0, 230, 43, 180, 0, 241, 182, 0, 176, 58, 4, 167, 0, 63, 42, 43, 180, 0, 233]
abbrev dktX1_carryOut_6 : List UInt8 := dkwX1_carryOut_6 ++ dktX1_carryOut_7
def dkwX1_carryOut_5 : List UInt8 := [42, 43, 180, 0, 233, 43, 180, 0, 230, 43, 180, 0, 241, 182, 0, 165, 58, 4, 167, 0, 84, 42, 43]
abbrev dktX1_carryOut_5 : List UInt8 := dkwX1_carryOut_5 ++ dktX1_carryOut_6
def dkwX1_carryOut_4 : List UInt8 := [171, 0, 0, 0, 0, 0, 0, 128, 0, 0, 0, 4, 0, 0, 0, 98, 0, 0, 0, 107, 0, 0, 0, 100, 0, 0, 0, 44, 0, 0, 0, 114, 0, 0, 0, 86, 0, 0, 0, 115, 0, 0, 0, 65]
abbrev dktX1_carryOut_4 : List UInt8 := dkwX1_carryOut_4 ++ dktX1_carryOut_5
def dkwX1_carryOut_3 : List UInt8 := [3, 62, 29, 154, 0, 12, 187, 0, 236, 89, 1, 183, 0, 238, 191, 43, 180, 0, 225]
abbrev dktX1_carryOut_3 : List UInt8 := dkwX1_carryOut_3 ++ dktX1_carryOut_4
def dkwX1_carryOut_2 : List UInt8 := [160, 0, 10, 43, 180, 0, 233, 167, 0, 7, 43, 180, 0, 230, 182, 0, 151, 153, 0, 7, 4, 167, 0, 4]
abbrev dktX1_carryOut_2 : List UInt8 := dkwX1_carryOut_2 ++ dktX1_carryOut_3
def dkwX1_carryOut_1 : List UInt8 := [182, 0, 162, 153, 0, 43, 43, 180, 0, 225, 16, 99, 159, 0, 30, 42, 43, 180, 0, 225, 16, 100]
abbrev dktX1_carryOut_1 : List UInt8 := dkwX1_carryOut_1 ++ dktX1_carryOut_2
def dkwX1_carryOut_0 : List UInt8 := [43, 180, 0, 225, 16, 100, 160, 0, 10, 43, 180, 0, 230, 167, 0, 7, 43, 180, 0, 233, 61, 42, 28]
abbrev dktX1_carryOut_0 : List UInt8 := dkwX1_carryOut_0 ++ dktX1_carryOut_1
theorem dksX1_carryOut_0 : cX1_carryOut.data.toList.drop 0 = dktX1_carryOut_0 := by decide +kernel
theorem dksX1_carryOut_1 : cX1_carryOut.data.toList.drop 23 = dktX1_carryOut_1 := dk_seg dksX1_carryOut_0 23 rfl rfl
theorem dksX1_carryOut_2 : cX1_carryOut.data.toList.drop 45 = dktX1_carryOut_2 := dk_seg dksX1_carryOut_1 22 rfl rfl
theorem dksX1_carryOut_3 : cX1_carryOut.data.toList.drop 69 = dktX1_carryOut_3 := dk_seg dksX1_carryOut_2 24 rfl rfl
theorem dksX1_carryOut_4 : cX1_carryOut.data.toList.drop 88 = dktX1_carryOut_4 := dk_seg dksX1_carryOut_3 19 rfl rfl
theorem dksX1_carryOut_5 : cX1_carryOut.data.toList.drop 132 = dktX1_carryOut_5 := dk_seg dksX1_carryOut_4 44 rfl rfl
theorem dksX1_carryOut_6 : cX1_carryOut.data.toList.drop 155 = dktX1_carryOut_6 := dk_seg dksX1_carryOut_5 23 rfl rfl
theorem dksX1_carryOut_7 : cX1_carryOut.data.toList.drop 179 = dktX1_carryOut_7 := dk_seg dksX1_carryOut_6 24 rfl rfl
theorem dksX1_carryOut_8 : cX1_carryOut.data.toList.drop 201 = dktX1_carryOut_8 := dk_seg dksX1_carryOut_7 22 rfl rfl
theorem dksX1_carryOut_9 : cX1_carryOut.data.toList.drop 225 = dktX1_carryOut_9 := dk_seg dksX1_carryOut_8 24 rfl rfl
theorem dX1_carryOut_0 : decode cX1_carryOut 0 = .ok (.aload_n 1, 1) := dk_43 (dk_at dksX1_carryOut_0 0 rfl rfl)
theorem dX1_carryOut_1 : decode cX1_carryOut 1 = .ok (.getfield 225, 3) := dk_180 0 225 (dk_at dksX1_carryOut_0 1 rfl rfl)
theorem dX1_carryOut_4 : decode cX1_carryOut 4 = .ok (.bipush 100, 2) := dk_16 100 (dk_at dksX1_carryOut_0 4 rfl rfl)
theorem dX1_carryOut_6 : decode cX1_carryOut 6 = .ok (.if_icmp .ne 10, 3) := dk_160 0 10 (dk_at dksX1_carryOut_0 6 rfl rfl)
theorem dX1_carryOut_9 : decode cX1_carryOut 9 = .ok (.aload_n 1, 1) := dk_43 (dk_at dksX1_carryOut_0 9 rfl rfl)
theorem dX1_carryOut_10 : decode cX1_carryOut 10 = .ok (.getfield 230, 3) := dk_180 0 230 (dk_at dksX1_carryOut_0 10 rfl rfl)
theorem dX1_carryOut_13 : decode cX1_carryOut 13 = .ok (.goto 7, 3) := dk_167 0 7 (dk_at dksX1_carryOut_0 13 rfl rfl)
theorem dX1_carryOut_16 : decode cX1_carryOut 16 = .ok (.aload_n 1, 1) := dk_43 (dk_at dksX1_carryOut_0 16 rfl rfl)
theorem dX1_carryOut_17 : decode cX1_carryOut 17 = .ok (.getfield 233, 3) := dk_180 0 233 (dk_at dksX1_carryOut_0 17 rfl rfl)
theorem dX1_carryOut_20 : decode cX1_carryOut 20 = .ok (.istore_n 2, 1) := dk_61 (dk_at dksX1_carryOut_0 20 rfl rfl)
theorem dX1_carryOut_21 : decode cX1_carryOut 21 = .ok (.aload_n 0, 1) := dk_42 (dk_at dksX1_carryOut_0 21 rfl rfl)
theorem dX1_carryOut_22 : decode cX1_carryOut 22 = .ok (.iload_n 2, 1) := dk_28 (dk_at dksX1_carryOut_0 22 rfl rfl)
theorem dX1_carryOut_23 : decode cX1_carryOut 23 = .ok (.invokevirtual 162, 3) := dk_182 0 162 (dk_at dksX1_carryOut_1 0 rfl rfl)
theorem dX1_carryOut_26 : decode cX1_carryOut 26 = .ok (.ifCond .eq 43, 3) := dk_153 0 43 (dk_at dksX1_carryOut_1 3 rfl rfl)
theorem dX1_carryOut_29 : decode cX1_carryOut 29 = .ok (.aload_n 1, 1) := dk_43 (dk_at dksX1_carryOut_1 6 rfl rfl)
theorem dX1_carryOut_30 : decode cX1_carryOut 30 = .ok (.getfield 225, 3) := dk_180 0 225 (dk_at dksX1_carryOut_1 7 rfl rfl)
theorem dX1_carryOut_33 : decode cX1_carryOut 33 = .ok (.bipush 99, 2) := dk_16 99 (dk_at dksX1_carryOut_1 10 rfl rfl)
theorem dX1_carryOut_35 : decode cX1_carryOut 35 = .ok (.if_icmp .eq 30, 3) := dk_159 0 30 (dk_at dksX1_carryOut_1 12 rfl rfl)
theorem dX1_carryOut_38 : decode cX1_carryOut 38 = .ok (.aload_n 0, 1) := dk_42 (dk_at dksX1_carryOut_1 15 rfl rfl)
theorem dX1_carryOut_39 : decode cX1_carryOut 39 = .ok (.aload_n 1, 1) := dk_43 (dk_at dksX1_carryOut_1 16 rfl rfl)
theorem dX1_carryOut_40 : decode cX1_carryOut 40 = .ok (.getfield 225, 3) := dk_180 0 225 (dk_at dksX1_carryOut_1 17 rfl rfl)
theorem dX1_carryOut_43 : decode cX1_carryOut 43 = .ok (.bipush 100, 2) := dk_16 100 (dk_at dksX1_carryOut_1 20 rfl rfl)
theorem dX1_carryOut_45 : decode cX1_carryOut 45 = .ok (.if_icmp .ne 10, 3) := dk_160 0 10 (dk_at dksX1_carryOut_2 0 rfl rfl)
theorem dX1_carryOut_48 : decode cX1_carryOut 48 = .ok (.aload_n 1, 1) := dk_43 (dk_at dksX1_carryOut_2 3 rfl rfl)
theorem dX1_carryOut_49 : decode cX1_carryOut 49 = .ok (.getfield 233, 3) := dk_180 0 233 (dk_at dksX1_carryOut_2 4 rfl rfl)
theorem dX1_carryOut_52 : decode cX1_carryOut 52 = .ok (.goto 7, 3) := dk_167 0 7 (dk_at dksX1_carryOut_2 7 rfl rfl)
theorem dX1_carryOut_55 : decode cX1_carryOut 55 = .ok (.aload_n 1, 1) := dk_43 (dk_at dksX1_carryOut_2 10 rfl rfl)
theorem dX1_carryOut_56 : decode cX1_carryOut 56 = .ok (.getfield 230, 3) := dk_180 0 230 (dk_at dksX1_carryOut_2 11 rfl rfl)
theorem dX1_carryOut_59 : decode cX1_carryOut 59 = .ok (.invokevirtual 151, 3) := dk_182 0 151 (dk_at dksX1_carryOut_2 14 rfl rfl)
theorem dX1_carryOut_62 : decode cX1_carryOut 62 = .ok (.ifCond .eq 7, 3) := dk_153 0 7 (dk_at dksX1_carryOut_2 17 rfl rfl)
theorem dX1_carryOut_65 : decode cX1_carryOut 65 = .ok (.iconst 1, 1) := dk_4 (dk_at dksX1_carryOut_2 20 rfl rfl)
theorem dX1_carryOut_66 : decode cX1_carryOut 66 = .ok (.goto 4, 3) := dk_167 0 4 (dk_at dksX1_carryOut_2 21 rfl rfl)
theorem dX1_carryOut_69 : decode cX1_carryOut 69 = .ok (.iconst 0, 1) := dk_3 (dk_at dksX1_carryOut_3 0 rfl rfl)
theorem dX1_carryOut_70 : decode cX1_carryOut 70 = .ok (.istore_n 3, 1) := dk_62 (dk_at dksX1_carryOut_3 1 rfl rfl)
theorem dX1_carryOut_71 : decode cX1_carryOut 71 = .ok (.iload_n 3, 1) := dk_29 (dk_at dksX1_carryOut_3 2 rfl rfl)
theorem dX1_carryOut_72 : decode cX1_carryOut 72 = .ok (.ifCond .ne 12, 3) := dk_154 0 12 (dk_at dksX1_carryOut_3 3 rfl rfl)
theorem dX1_carryOut_75 : decode cX1_carryOut 75 = .ok (.new 236, 3) := dk_187 0 236 (dk_at dksX1_carryOut_3 6 rfl rfl)
theorem dX1_carryOut_78 : decode cX1_carryOut 78 = .ok (.dup, 1) := dk_89 (dk_at dksX1_carryOut_3 9 rfl rfl)
theorem dX1_carryOut_79 : decode cX1_carryOut 79 = .ok (.aconst_null, 1) := dk_1 (dk_at dksX1_carryOut_3 10 rfl rfl)
theorem dX1_carryOut_80 : decode cX1_carryOut 80 = .ok (.invokespecial 238, 3) := dk_183 0 238 (dk_at dksX1_carryOut_3 11 rfl rfl)
theorem dX1_carryOut_83 : decode cX1_carryOut 83 = .ok (.athrow, 1) := dk_191 (dk_at dksX1_carryOut_3 14 rfl rfl)
theorem dX1_carryOut_84 : decode cX1_carryOut 84 = .ok (.aload_n 1, 1) := dk_43 (dk_at dksX1_carryOut_3 15 rfl rfl)
theorem dX1_carryOut_85 : decode cX1_carryOut 85 = .ok (.getfield 225, 3) := dk_180 0 225 (dk_at dksX1_carryOut_3 16 rfl rfl)
theorem dX1_carryOut_88 : decode cX1_carryOut 88 = .ok (.lookupswitch 128 #[(98, 107), (100, 44), (114, 86), (115, 65)], 44) := by decide +kernel
theorem dX1_carryOut_132 : decode cX1_carryOut 132 = .ok (.aload_n 0, 1) := dk_42 (dk_at dksX1_carryOut_5 0 rfl rfl)
theorem dX1_carryOut_133 : decode cX1_carryOut 133 = .ok (.aload_n 1, 1) := dk_43 (dk_at dksX1_carryOut_5 1 rfl rfl)
theorem dX1_carryOut_134 : decode cX1_carryOut 134 = .ok (.getfield 233, 3) := dk_180 0 233 (dk_at dksX1_carryOut_5 2 rfl rfl)
theorem dX1_carryOut_137 : decode cX1_carryOut 137 = .ok (.aload_n 1, 1) := dk_43 (dk_at dksX1_carryOut_5 5 rfl rfl)
theorem dX1_carryOut_138 : decode cX1_carryOut 138 = .ok (.getfield 230, 3) := dk_180 0 230 (dk_at dksX1_carryOut_5 6 rfl rfl)
theorem dX1_carryOut_141 : decode cX1_carryOut 141 = .ok (.aload_n 1, 1) := dk_43 (dk_at dksX1_carryOut_5 9 rfl rfl)
theorem dX1_carryOut_142 : decode cX1_carryOut 142 = .ok (.getfield 241, 3) := dk_180 0 241 (dk_at dksX1_carryOut_5 10 rfl rfl)
theorem dX1_carryOut_145 : decode cX1_carryOut 145 = .ok (.invokevirtual 165, 3) := dk_182 0 165 (dk_at dksX1_carryOut_5 13 rfl rfl)
theorem dX1_carryOut_148 : decode cX1_carryOut 148 = .ok (.astore 4, 2) := dk_58 4 (dk_at dksX1_carryOut_5 16 rfl rfl)
theorem dX1_carryOut_150 : decode cX1_carryOut 150 = .ok (.goto 84, 3) := dk_167 0 84 (dk_at dksX1_carryOut_5 18 rfl rfl)
theorem dX1_carryOut_153 : decode cX1_carryOut 153 = .ok (.aload_n 0, 1) := dk_42 (dk_at dksX1_carryOut_5 21 rfl rfl)
theorem dX1_carryOut_154 : decode cX1_carryOut 154 = .ok (.aload_n 1, 1) := dk_43 (dk_at dksX1_carryOut_5 22 rfl rfl)
theorem dX1_carryOut_155 : decode cX1_carryOut 155 = .ok (.getfield 233, 3) := dk_180 0 233 (dk_at dksX1_carryOut_6 0 rfl rfl)
theorem dX1_carryOut_158 : decode cX1_carryOut 158 = .ok (.aload_n 1, 1) := dk_43 (dk_at dksX1_carryOut_6 3 rfl rfl)
theorem dX1_carryOut_159 : decode cX1_carryOut 159 = .ok (.getfield 230, 3) := dk_180 0 230 (dk_at dksX1_carryOut_6 4 rfl rfl)
theorem dX1_carryOut_162 : decode cX1_carryOut 162 = .ok (.aload_n 1, 1) := dk_43 (dk_at dksX1_carryOut_6 7 rfl rfl)
theorem dX1_carryOut_163 : decode cX1_carryOut 163 = .ok (.getfield 241, 3) := dk_180 0 241 (dk_at dksX1_carryOut_6 8 rfl rfl)
theorem dX1_carryOut_166 : decode cX1_carryOut 166 = .ok (.invokevirtual 176, 3) := dk_182 0 176 (dk_at dksX1_carryOut_6 11 rfl rfl)
theorem dX1_carryOut_169 : decode cX1_carryOut 169 = .ok (.astore 4, 2) := dk_58 4 (dk_at dksX1_carryOut_6 14 rfl rfl)
theorem dX1_carryOut_171 : decode cX1_carryOut 171 = .ok (.goto 63, 3) := dk_167 0 63 (dk_at dksX1_carryOut_6 16 rfl rfl)
theorem dX1_carryOut_174 : decode cX1_carryOut 174 = .ok (.aload_n 0, 1) := dk_42 (dk_at dksX1_carryOut_6 19 rfl rfl)
theorem dX1_carryOut_175 : decode cX1_carryOut 175 = .ok (.aload_n 1, 1) := dk_43 (dk_at dksX1_carryOut_6 20 rfl rfl)
theorem dX1_carryOut_176 : decode cX1_carryOut 176 = .ok (.getfield 233, 3) := dk_180 0 233 (dk_at dksX1_carryOut_6 21 rfl rfl)
theorem dX1_carryOut_179 : decode cX1_carryOut 179 = .ok (.aload_n 1, 1) := dk_43 (dk_at dksX1_carryOut_7 0 rfl rfl)
theorem dX1_carryOut_180 : decode cX1_carryOut 180 = .ok (.getfield 230, 3) := dk_180 0 230 (dk_at dksX1_carryOut_7 1 rfl rfl)
theorem dX1_carryOut_183 : decode cX1_carryOut 183 = .ok (.aload_n 1, 1) := dk_43 (dk_at dksX1_carryOut_7 4 rfl rfl)
theorem dX1_carryOut_184 : decode cX1_carryOut 184 = .ok (.getfield 241, 3) := dk_180 0 241 (dk_at dksX1_carryOut_7 5 rfl rfl)
theorem dX1_carryOut_187 : decode cX1_carryOut 187 = .ok (.invokevirtual 179, 3) := dk_182 0 179 (dk_at dksX1_carryOut_7 8 rfl rfl)
theorem dX1_carryOut_190 : decode cX1_carryOut 190 = .ok (.astore 4, 2) := dk_58 4 (dk_at dksX1_carryOut_7 11 rfl rfl)
theorem dX1_carryOut_192 : decode cX1_carryOut 192 = .ok (.goto 42, 3) := dk_167 0 42 (dk_at dksX1_carryOut_7 13 rfl rfl)
theorem dX1_carryOut_195 : decode cX1_carryOut 195 = .ok (.aload_n 0, 1) := dk_42 (dk_at dksX1_carryOut_7 16 rfl rfl)
theorem dX1_carryOut_196 : decode cX1_carryOut 196 = .ok (.aload_n 1, 1) := dk_43 (dk_at dksX1_carryOut_7 17 rfl rfl)
theorem dX1_carryOut_197 : decode cX1_carryOut 197 = .ok (.getfield 233, 3) := dk_180 0 233 (dk_at dksX1_carryOut_7 18 rfl rfl)
theorem dX1_carryOut_200 : decode cX1_carryOut 200 = .ok (.aload_n 1, 1) := dk_43 (dk_at dksX1_carryOut_7 21 rfl rfl)
theorem dX1_carryOut_201 : decode cX1_carryOut 201 = .ok (.getfield 230, 3) := dk_180 0 230 (dk_at dksX1_carryOut_8 0 rfl rfl)
theorem dX1_carryOut_204 : decode cX1_carryOut 204 = .ok (.aload_n 1, 1) := dk_43 (dk_at dksX1_carryOut_8 3 rfl rfl)
theorem dX1_carryOut_205 : decode cX1_carryOut 205 = .ok (.getfield 241, 3) := dk_180 0 241 (dk_at dksX1_carryOut_8 4 rfl rfl)
theorem dX1_carryOut_208 : decode cX1_carryOut 208 = .ok (.invokevirtual 182, 3) := dk_182 0 182 (dk_at dksX1_carryOut_8 7 rfl rfl)
theorem dX1_carryOut_211 : decode cX1_carryOut 211 = .ok (.astore 4, 2) := dk_58 4 (dk_at dksX1_carryOut_8 10 rfl rfl)
theorem dX1_carryOut_213 : decode cX1_carryOut 213 = .ok (.goto 21, 3) := dk_167 0 21 (dk_at dksX1_carryOut_8 12 rfl rfl)
theorem dX1_carryOut_216 : decode cX1_carryOut 216 = .ok (.aload_n 0, 1) := dk_42 (dk_at dksX1_carryOut_8 15 rfl rfl)
theorem dX1_carryOut_217 : decode cX1_carryOut 217 = .ok (.aload_n 1, 1) := dk_43 (dk_at dksX1_carryOut_8 16 rfl rfl)
theorem dX1_carryOut_218 : decode cX1_carryOut 218 = .ok (.getfield 233, 3) := dk_180 0 233 (dk_at dksX1_carryOut_8 17 rfl rfl)
theorem dX1_carryOut_221 : decode cX1_carryOut 221 = .ok (.aload_n 1, 1) := dk_43 (dk_at dksX1_carryOut_8 20 rfl rfl)
theorem dX1_carryOut_222 : decode cX1_carryOut 222 = .ok (.getfield 230, 3) := dk_180 0 230 (dk_at dksX1_carryOut_8 21 rfl rfl)
theorem dX1_carryOut_225 : decode cX1_carryOut 225 = .ok (.aload_n 1, 1) := dk_43 (dk_at dksX1_carryOut_9 0 rfl rfl)
theorem dX1_carryOut_226 : decode cX1_carryOut 226 = .ok (.getfield 241, 3) := dk_180 0 241 (dk_at dksX1_carryOut_9 1 rfl rfl)
theorem dX1_carryOut_229 : decode cX1_carryOut 229 = .ok (.invokevirtual 189, 3) := dk_182 0 189 (dk_at dksX1_carryOut_9 4 rfl rfl)
theorem dX1_carryOut_232 : decode cX1_carryOut 232 = .ok (.astore 4, 2) := dk_58 4 (dk_at dksX1_carryOut_9 7 rfl rfl)
theorem dX1_carryOut_234 : decode cX1_carryOut 234 = .ok (.aload 4, 2) := dk_25 4 (dk_at dksX1_carryOut_9 9 rfl rfl)
theorem dX1_carryOut_236 : decode cX1_carryOut 236 = .ok (.invokevirtual 244, 3) := dk_182 0 244 (dk_at dksX1_carryOut_9 11 rfl rfl)
theorem dX1_carryOut_239 : decode cX1_carryOut 239 = .ok (.return_, 1) := dk_177 (dk_at dksX1_carryOut_9 14 rfl rfl)
abbrev cX1_undo : ByteArray := prog_1_method_39_code
def yX1_undo : MethodName := ⟨RX1, "undo", "()I"⟩
def dkwX1_undo_2 : List UInt8 := [172]
abbrev dktX1_undo_2 : List UInt8 := dkwX1_undo_2 ++ []
def dkwX1_undo_1 : List UInt8 := [180, 0, 28, 182, 0, 45, 4, 100, 182, 0, 49, 192, 0, 16, 181, 0, 19, 42, 180, 0, 28, 182, 0, 45]
abbrev dktX1_undo_1 : List UInt8 := dkwX1_undo_1 ++ dktX1_undo_2
def dkwX1_undo_0 : List UInt8 := [42, 180, 0, 28, 182, 1, 4, 154, 0, 7, 4, 167, 0, 4, 3, 184, 0, 88, 42, 42, 180, 0, 28, 42]
abbrev dktX1_undo_0 : List UInt8 := dkwX1_undo_0 ++ dktX1_undo_1
theorem dksX1_undo_0 : cX1_undo.data.toList.drop 0 = dktX1_undo_0 := by decide +kernel
theorem dksX1_undo_1 : cX1_undo.data.toList.drop 24 = dktX1_undo_1 := dk_seg dksX1_undo_0 24 rfl rfl
theorem dksX1_undo_2 : cX1_undo.data.toList.drop 48 = dktX1_undo_2 := dk_seg dksX1_undo_1 24 rfl rfl
theorem dX1_undo_0 : decode cX1_undo 0 = .ok (.aload_n 0, 1) := dk_42 (dk_at dksX1_undo_0 0 rfl rfl)
theorem dX1_undo_1 : decode cX1_undo 1 = .ok (.getfield 28, 3) := dk_180 0 28 (dk_at dksX1_undo_0 1 rfl rfl)
theorem dX1_undo_4 : decode cX1_undo 4 = .ok (.invokevirtual 260, 3) := dk_182 1 4 (dk_at dksX1_undo_0 4 rfl rfl)
theorem dX1_undo_7 : decode cX1_undo 7 = .ok (.ifCond .ne 7, 3) := dk_154 0 7 (dk_at dksX1_undo_0 7 rfl rfl)
theorem dX1_undo_10 : decode cX1_undo 10 = .ok (.iconst 1, 1) := dk_4 (dk_at dksX1_undo_0 10 rfl rfl)
theorem dX1_undo_11 : decode cX1_undo 11 = .ok (.goto 4, 3) := dk_167 0 4 (dk_at dksX1_undo_0 11 rfl rfl)
theorem dX1_undo_14 : decode cX1_undo 14 = .ok (.iconst 0, 1) := dk_3 (dk_at dksX1_undo_0 14 rfl rfl)
theorem dX1_undo_15 : decode cX1_undo 15 = .ok (.invokestatic 88, 3) := dk_184 0 88 (dk_at dksX1_undo_0 15 rfl rfl)
theorem dX1_undo_18 : decode cX1_undo 18 = .ok (.aload_n 0, 1) := dk_42 (dk_at dksX1_undo_0 18 rfl rfl)
theorem dX1_undo_19 : decode cX1_undo 19 = .ok (.aload_n 0, 1) := dk_42 (dk_at dksX1_undo_0 19 rfl rfl)
theorem dX1_undo_20 : decode cX1_undo 20 = .ok (.getfield 28, 3) := dk_180 0 28 (dk_at dksX1_undo_0 20 rfl rfl)
theorem dX1_undo_23 : decode cX1_undo 23 = .ok (.aload_n 0, 1) := dk_42 (dk_at dksX1_undo_0 23 rfl rfl)
theorem dX1_undo_24 : decode cX1_undo 24 = .ok (.getfield 28, 3) := dk_180 0 28 (dk_at dksX1_undo_1 0 rfl rfl)
theorem dX1_undo_27 : decode cX1_undo 27 = .ok (.invokevirtual 45, 3) := dk_182 0 45 (dk_at dksX1_undo_1 3 rfl rfl)
theorem dX1_undo_30 : decode cX1_undo 30 = .ok (.iconst 1, 1) := dk_4 (dk_at dksX1_undo_1 6 rfl rfl)
theorem dX1_undo_31 : decode cX1_undo 31 = .ok (.isub, 1) := dk_100 (dk_at dksX1_undo_1 7 rfl rfl)
theorem dX1_undo_32 : decode cX1_undo 32 = .ok (.invokevirtual 49, 3) := dk_182 0 49 (dk_at dksX1_undo_1 8 rfl rfl)
theorem dX1_undo_35 : decode cX1_undo 35 = .ok (.checkcast 16, 3) := dk_192 0 16 (dk_at dksX1_undo_1 11 rfl rfl)
theorem dX1_undo_38 : decode cX1_undo 38 = .ok (.putfield 19, 3) := dk_181 0 19 (dk_at dksX1_undo_1 14 rfl rfl)
theorem dX1_undo_41 : decode cX1_undo 41 = .ok (.aload_n 0, 1) := dk_42 (dk_at dksX1_undo_1 17 rfl rfl)
theorem dX1_undo_42 : decode cX1_undo 42 = .ok (.getfield 28, 3) := dk_180 0 28 (dk_at dksX1_undo_1 18 rfl rfl)
theorem dX1_undo_45 : decode cX1_undo 45 = .ok (.invokevirtual 45, 3) := dk_182 0 45 (dk_at dksX1_undo_1 21 rfl rfl)
theorem dX1_undo_48 : decode cX1_undo 48 = .ok (.ireturn, 1) := dk_172 (dk_at dksX1_undo_2 0 rfl rfl)
abbrev cX1_brand : ByteArray := prog_1_method_42_code
def yX1_brand : MethodName := ⟨RX1, "brand", "(II)I"⟩
def dkwX1_brand_1 : List UInt8 := [172]
abbrev dktX1_brand_1 : List UInt8 := dkwX1_brand_1 ++ []
def dkwX1_brand_0 : List UInt8 := [42, 27, 182, 0, 151, 184, 0, 119, 28, 3, 16, 11, 184, 0, 73, 184, 0, 84, 42, 27, 28, 182, 1, 42]
abbrev dktX1_brand_0 : List UInt8 := dkwX1_brand_0 ++ dktX1_brand_1
theorem dksX1_brand_0 : cX1_brand.data.toList.drop 0 = dktX1_brand_0 := by decide +kernel
theorem dksX1_brand_1 : cX1_brand.data.toList.drop 24 = dktX1_brand_1 := dk_seg dksX1_brand_0 24 rfl rfl
theorem dX1_brand_0 : decode cX1_brand 0 = .ok (.aload_n 0, 1) := dk_42 (dk_at dksX1_brand_0 0 rfl rfl)
theorem dX1_brand_1 : decode cX1_brand 1 = .ok (.iload_n 1, 1) := dk_27 (dk_at dksX1_brand_0 1 rfl rfl)
theorem dX1_brand_2 : decode cX1_brand 2 = .ok (.invokevirtual 151, 3) := dk_182 0 151 (dk_at dksX1_brand_0 2 rfl rfl)
theorem dX1_brand_5 : decode cX1_brand 5 = .ok (.invokestatic 119, 3) := dk_184 0 119 (dk_at dksX1_brand_0 5 rfl rfl)
theorem dX1_brand_8 : decode cX1_brand 8 = .ok (.iload_n 2, 1) := dk_28 (dk_at dksX1_brand_0 8 rfl rfl)
theorem dX1_brand_9 : decode cX1_brand 9 = .ok (.iconst 0, 1) := dk_3 (dk_at dksX1_brand_0 9 rfl rfl)
theorem dX1_brand_10 : decode cX1_brand 10 = .ok (.bipush 11, 2) := dk_16 11 (dk_at dksX1_brand_0 10 rfl rfl)
theorem dX1_brand_12 : decode cX1_brand 12 = .ok (.invokestatic 73, 3) := dk_184 0 73 (dk_at dksX1_brand_0 12 rfl rfl)
theorem dX1_brand_15 : decode cX1_brand 15 = .ok (.invokestatic 84, 3) := dk_184 0 84 (dk_at dksX1_brand_0 15 rfl rfl)
theorem dX1_brand_18 : decode cX1_brand 18 = .ok (.aload_n 0, 1) := dk_42 (dk_at dksX1_brand_0 18 rfl rfl)
theorem dX1_brand_19 : decode cX1_brand 19 = .ok (.iload_n 1, 1) := dk_27 (dk_at dksX1_brand_0 19 rfl rfl)
theorem dX1_brand_20 : decode cX1_brand 20 = .ok (.iload_n 2, 1) := dk_28 (dk_at dksX1_brand_0 20 rfl rfl)
theorem dX1_brand_21 : decode cX1_brand 21 = .ok (.invokevirtual 298, 3) := dk_182 1 42 (dk_at dksX1_brand_0 21 rfl rfl)
theorem dX1_brand_24 : decode cX1_brand 24 = .ok (.ireturn, 1) := dk_172 (dk_at dksX1_brand_1 0 rfl rfl)
abbrev cX1_shop : ByteArray := prog_1_method_45_code
def yX1_shop : MethodName := ⟨RX1, "shop", "(II)I"⟩
def dkwX1_shop_0 : List UInt8 := [42, 27, 182, 0, 162, 184, 0, 119, 28, 184, 1, 59, 184, 0, 84, 42, 27, 28, 182, 1, 62, 172]
abbrev dktX1_shop_0 : List UInt8 := dkwX1_shop_0 ++ []
theorem dksX1_shop_0 : cX1_shop.data.toList.drop 0 = dktX1_shop_0 := by decide +kernel
theorem dX1_shop_0 : decode cX1_shop 0 = .ok (.aload_n 0, 1) := dk_42 (dk_at dksX1_shop_0 0 rfl rfl)
theorem dX1_shop_1 : decode cX1_shop 1 = .ok (.iload_n 1, 1) := dk_27 (dk_at dksX1_shop_0 1 rfl rfl)
theorem dX1_shop_2 : decode cX1_shop 2 = .ok (.invokevirtual 162, 3) := dk_182 0 162 (dk_at dksX1_shop_0 2 rfl rfl)
theorem dX1_shop_5 : decode cX1_shop 5 = .ok (.invokestatic 119, 3) := dk_184 0 119 (dk_at dksX1_shop_0 5 rfl rfl)
theorem dX1_shop_8 : decode cX1_shop 8 = .ok (.iload_n 2, 1) := dk_28 (dk_at dksX1_shop_0 8 rfl rfl)
theorem dX1_shop_9 : decode cX1_shop 9 = .ok (.invokestatic 315, 3) := dk_184 1 59 (dk_at dksX1_shop_0 9 rfl rfl)
theorem dX1_shop_12 : decode cX1_shop 12 = .ok (.invokestatic 84, 3) := dk_184 0 84 (dk_at dksX1_shop_0 12 rfl rfl)
theorem dX1_shop_15 : decode cX1_shop 15 = .ok (.aload_n 0, 1) := dk_42 (dk_at dksX1_shop_0 15 rfl rfl)
theorem dX1_shop_16 : decode cX1_shop 16 = .ok (.iload_n 1, 1) := dk_27 (dk_at dksX1_shop_0 16 rfl rfl)
theorem dX1_shop_17 : decode cX1_shop 17 = .ok (.iload_n 2, 1) := dk_28 (dk_at dksX1_shop_0 17 rfl rfl)
theorem dX1_shop_18 : decode cX1_shop 18 = .ok (.invokevirtual 318, 3) := dk_182 1 62 (dk_at dksX1_shop_0 18 rfl rfl)
theorem dX1_shop_21 : decode cX1_shop 21 = .ok (.ireturn, 1) := dk_172 (dk_at dksX1_shop_0 21 rfl rfl)
abbrev cX1_count : ByteArray := prog_1_method_48_code
def yX1_count : MethodName := ⟨RX1, "count", "(I)I"⟩
def dkwX1_count_0 : List UInt8 := [27, 3, 16, 10, 184, 0, 73, 184, 0, 84, 42, 27, 182, 1, 75, 172]
abbrev dktX1_count_0 : List UInt8 := dkwX1_count_0 ++ []
theorem dksX1_count_0 : cX1_count.data.toList.drop 0 = dktX1_count_0 := by decide +kernel
theorem dX1_count_0 : decode cX1_count 0 = .ok (.iload_n 1, 1) := dk_27 (dk_at dksX1_count_0 0 rfl rfl)
theorem dX1_count_1 : decode cX1_count 1 = .ok (.iconst 0, 1) := dk_3 (dk_at dksX1_count_0 1 rfl rfl)
theorem dX1_count_2 : decode cX1_count 2 = .ok (.bipush 10, 2) := dk_16 10 (dk_at dksX1_count_0 2 rfl rfl)
theorem dX1_count_4 : decode cX1_count 4 = .ok (.invokestatic 73, 3) := dk_184 0 73 (dk_at dksX1_count_0 4 rfl rfl)
theorem dX1_count_7 : decode cX1_count 7 = .ok (.invokestatic 84, 3) := dk_184 0 84 (dk_at dksX1_count_0 7 rfl rfl)
theorem dX1_count_10 : decode cX1_count 10 = .ok (.aload_n 0, 1) := dk_42 (dk_at dksX1_count_0 10 rfl rfl)
theorem dX1_count_11 : decode cX1_count 11 = .ok (.iload_n 1, 1) := dk_27 (dk_at dksX1_count_0 11 rfl rfl)
theorem dX1_count_12 : decode cX1_count 12 = .ok (.invokevirtual 331, 3) := dk_182 1 75 (dk_at dksX1_count_0 12 rfl rfl)
theorem dX1_count_15 : decode cX1_count 15 = .ok (.ireturn, 1) := dk_172 (dk_at dksX1_count_0 15 rfl rfl)
abbrev cX1_setting : ByteArray := prog_1_method_49_code
def yX1_setting : MethodName := ⟨RX1, "setting", "(I)I"⟩
def dkwX1_setting_0 : List UInt8 := [27, 3, 8, 184, 0, 73, 184, 0, 119, 42, 180, 0, 19, 180, 0, 131, 27, 46, 172]
abbrev dktX1_setting_0 : List UInt8 := dkwX1_setting_0 ++ []
theorem dksX1_setting_0 : cX1_setting.data.toList.drop 0 = dktX1_setting_0 := by decide +kernel
theorem dX1_setting_0 : decode cX1_setting 0 = .ok (.iload_n 1, 1) := dk_27 (dk_at dksX1_setting_0 0 rfl rfl)
theorem dX1_setting_1 : decode cX1_setting 1 = .ok (.iconst 0, 1) := dk_3 (dk_at dksX1_setting_0 1 rfl rfl)
theorem dX1_setting_2 : decode cX1_setting 2 = .ok (.iconst 5, 1) := dk_8 (dk_at dksX1_setting_0 2 rfl rfl)
theorem dX1_setting_3 : decode cX1_setting 3 = .ok (.invokestatic 73, 3) := dk_184 0 73 (dk_at dksX1_setting_0 3 rfl rfl)
theorem dX1_setting_6 : decode cX1_setting 6 = .ok (.invokestatic 119, 3) := dk_184 0 119 (dk_at dksX1_setting_0 6 rfl rfl)
theorem dX1_setting_9 : decode cX1_setting 9 = .ok (.aload_n 0, 1) := dk_42 (dk_at dksX1_setting_0 9 rfl rfl)
theorem dX1_setting_10 : decode cX1_setting 10 = .ok (.getfield 19, 3) := dk_180 0 19 (dk_at dksX1_setting_0 10 rfl rfl)
theorem dX1_setting_13 : decode cX1_setting 13 = .ok (.getfield 131, 3) := dk_180 0 131 (dk_at dksX1_setting_0 13 rfl rfl)
theorem dX1_setting_16 : decode cX1_setting 16 = .ok (.iload_n 1, 1) := dk_27 (dk_at dksX1_setting_0 16 rfl rfl)
theorem dX1_setting_17 : decode cX1_setting 17 = .ok (.iaload, 1) := dk_46 (dk_at dksX1_setting_0 17 rfl rfl)
theorem dX1_setting_18 : decode cX1_setting 18 = .ok (.ireturn, 1) := dk_172 (dk_at dksX1_setting_0 18 rfl rfl)
abbrev cX1_whyNotDeliver : ByteArray := prog_1_method_50_code
def yX1_whyNotDeliver : MethodName := ⟨RX1, "whyNotDeliver", "(III)I"⟩
def dkwX1_whyNotDeliver_1 : List UInt8 := [29, 4, 16, 50, 184, 0, 73, 184, 0, 84, 42, 27, 28, 29, 182, 0, 165, 182, 1, 78, 172]
abbrev dktX1_whyNotDeliver_1 : List UInt8 := dkwX1_whyNotDeliver_1 ++ []
def dkwX1_whyNotDeliver_0 : List UInt8 := [42, 27, 182, 0, 151, 153, 0, 15, 42, 28, 182, 0, 162, 153, 0, 7, 4, 167, 0, 4, 3, 184, 0, 119]
abbrev dktX1_whyNotDeliver_0 : List UInt8 := dkwX1_whyNotDeliver_0 ++ dktX1_whyNotDeliver_1
theorem dksX1_whyNotDeliver_0 : cX1_whyNotDeliver.data.toList.drop 0 = dktX1_whyNotDeliver_0 := by decide +kernel
theorem dksX1_whyNotDeliver_1 : cX1_whyNotDeliver.data.toList.drop 24 = dktX1_whyNotDeliver_1 := dk_seg dksX1_whyNotDeliver_0 24 rfl rfl
theorem dX1_whyNotDeliver_0 : decode cX1_whyNotDeliver 0 = .ok (.aload_n 0, 1) := dk_42 (dk_at dksX1_whyNotDeliver_0 0 rfl rfl)
theorem dX1_whyNotDeliver_1 : decode cX1_whyNotDeliver 1 = .ok (.iload_n 1, 1) := dk_27 (dk_at dksX1_whyNotDeliver_0 1 rfl rfl)
theorem dX1_whyNotDeliver_2 : decode cX1_whyNotDeliver 2 = .ok (.invokevirtual 151, 3) := dk_182 0 151 (dk_at dksX1_whyNotDeliver_0 2 rfl rfl)
theorem dX1_whyNotDeliver_5 : decode cX1_whyNotDeliver 5 = .ok (.ifCond .eq 15, 3) := dk_153 0 15 (dk_at dksX1_whyNotDeliver_0 5 rfl rfl)
theorem dX1_whyNotDeliver_8 : decode cX1_whyNotDeliver 8 = .ok (.aload_n 0, 1) := dk_42 (dk_at dksX1_whyNotDeliver_0 8 rfl rfl)
theorem dX1_whyNotDeliver_9 : decode cX1_whyNotDeliver 9 = .ok (.iload_n 2, 1) := dk_28 (dk_at dksX1_whyNotDeliver_0 9 rfl rfl)
theorem dX1_whyNotDeliver_10 : decode cX1_whyNotDeliver 10 = .ok (.invokevirtual 162, 3) := dk_182 0 162 (dk_at dksX1_whyNotDeliver_0 10 rfl rfl)
theorem dX1_whyNotDeliver_13 : decode cX1_whyNotDeliver 13 = .ok (.ifCond .eq 7, 3) := dk_153 0 7 (dk_at dksX1_whyNotDeliver_0 13 rfl rfl)
theorem dX1_whyNotDeliver_16 : decode cX1_whyNotDeliver 16 = .ok (.iconst 1, 1) := dk_4 (dk_at dksX1_whyNotDeliver_0 16 rfl rfl)
theorem dX1_whyNotDeliver_17 : decode cX1_whyNotDeliver 17 = .ok (.goto 4, 3) := dk_167 0 4 (dk_at dksX1_whyNotDeliver_0 17 rfl rfl)
theorem dX1_whyNotDeliver_20 : decode cX1_whyNotDeliver 20 = .ok (.iconst 0, 1) := dk_3 (dk_at dksX1_whyNotDeliver_0 20 rfl rfl)
theorem dX1_whyNotDeliver_21 : decode cX1_whyNotDeliver 21 = .ok (.invokestatic 119, 3) := dk_184 0 119 (dk_at dksX1_whyNotDeliver_0 21 rfl rfl)
theorem dX1_whyNotDeliver_24 : decode cX1_whyNotDeliver 24 = .ok (.iload_n 3, 1) := dk_29 (dk_at dksX1_whyNotDeliver_1 0 rfl rfl)
theorem dX1_whyNotDeliver_25 : decode cX1_whyNotDeliver 25 = .ok (.iconst 1, 1) := dk_4 (dk_at dksX1_whyNotDeliver_1 1 rfl rfl)
theorem dX1_whyNotDeliver_26 : decode cX1_whyNotDeliver 26 = .ok (.bipush 50, 2) := dk_16 50 (dk_at dksX1_whyNotDeliver_1 2 rfl rfl)
theorem dX1_whyNotDeliver_28 : decode cX1_whyNotDeliver 28 = .ok (.invokestatic 73, 3) := dk_184 0 73 (dk_at dksX1_whyNotDeliver_1 4 rfl rfl)
theorem dX1_whyNotDeliver_31 : decode cX1_whyNotDeliver 31 = .ok (.invokestatic 84, 3) := dk_184 0 84 (dk_at dksX1_whyNotDeliver_1 7 rfl rfl)
theorem dX1_whyNotDeliver_34 : decode cX1_whyNotDeliver 34 = .ok (.aload_n 0, 1) := dk_42 (dk_at dksX1_whyNotDeliver_1 10 rfl rfl)
theorem dX1_whyNotDeliver_35 : decode cX1_whyNotDeliver 35 = .ok (.iload_n 1, 1) := dk_27 (dk_at dksX1_whyNotDeliver_1 11 rfl rfl)
theorem dX1_whyNotDeliver_36 : decode cX1_whyNotDeliver 36 = .ok (.iload_n 2, 1) := dk_28 (dk_at dksX1_whyNotDeliver_1 12 rfl rfl)
theorem dX1_whyNotDeliver_37 : decode cX1_whyNotDeliver 37 = .ok (.iload_n 3, 1) := dk_29 (dk_at dksX1_whyNotDeliver_1 13 rfl rfl)
theorem dX1_whyNotDeliver_38 : decode cX1_whyNotDeliver 38 = .ok (.invokevirtual 165, 3) := dk_182 0 165 (dk_at dksX1_whyNotDeliver_1 14 rfl rfl)
theorem dX1_whyNotDeliver_41 : decode cX1_whyNotDeliver 41 = .ok (.invokevirtual 334, 3) := dk_182 1 78 (dk_at dksX1_whyNotDeliver_1 17 rfl rfl)
theorem dX1_whyNotDeliver_44 : decode cX1_whyNotDeliver 44 = .ok (.ireturn, 1) := dk_172 (dk_at dksX1_whyNotDeliver_1 20 rfl rfl)
abbrev cX1_whyNotCollect : ByteArray := prog_1_method_51_code
def yX1_whyNotCollect : MethodName := ⟨RX1, "whyNotCollect", "(III)I"⟩
def dkwX1_whyNotCollect_1 : List UInt8 := [153, 0, 7, 4, 167, 0, 4, 3, 184, 0, 84, 42, 27, 28, 29, 182, 0, 189, 182, 1, 78, 172]
abbrev dktX1_whyNotCollect_1 : List UInt8 := dkwX1_whyNotCollect_1 ++ []
def dkwX1_whyNotCollect_0 : List UInt8 := [42, 27, 182, 0, 162, 184, 0, 119, 28, 184, 0, 80, 153, 0, 17, 29, 4, 16, 50, 184, 0, 73]
abbrev dktX1_whyNotCollect_0 : List UInt8 := dkwX1_whyNotCollect_0 ++ dktX1_whyNotCollect_1
theorem dksX1_whyNotCollect_0 : cX1_whyNotCollect.data.toList.drop 0 = dktX1_whyNotCollect_0 := by decide +kernel
theorem dksX1_whyNotCollect_1 : cX1_whyNotCollect.data.toList.drop 22 = dktX1_whyNotCollect_1 := dk_seg dksX1_whyNotCollect_0 22 rfl rfl
theorem dX1_whyNotCollect_0 : decode cX1_whyNotCollect 0 = .ok (.aload_n 0, 1) := dk_42 (dk_at dksX1_whyNotCollect_0 0 rfl rfl)
theorem dX1_whyNotCollect_1 : decode cX1_whyNotCollect 1 = .ok (.iload_n 1, 1) := dk_27 (dk_at dksX1_whyNotCollect_0 1 rfl rfl)
theorem dX1_whyNotCollect_2 : decode cX1_whyNotCollect 2 = .ok (.invokevirtual 162, 3) := dk_182 0 162 (dk_at dksX1_whyNotCollect_0 2 rfl rfl)
theorem dX1_whyNotCollect_5 : decode cX1_whyNotCollect 5 = .ok (.invokestatic 119, 3) := dk_184 0 119 (dk_at dksX1_whyNotCollect_0 5 rfl rfl)
theorem dX1_whyNotCollect_8 : decode cX1_whyNotCollect 8 = .ok (.iload_n 2, 1) := dk_28 (dk_at dksX1_whyNotCollect_0 8 rfl rfl)
theorem dX1_whyNotCollect_9 : decode cX1_whyNotCollect 9 = .ok (.invokestatic 80, 3) := dk_184 0 80 (dk_at dksX1_whyNotCollect_0 9 rfl rfl)
theorem dX1_whyNotCollect_12 : decode cX1_whyNotCollect 12 = .ok (.ifCond .eq 17, 3) := dk_153 0 17 (dk_at dksX1_whyNotCollect_0 12 rfl rfl)
theorem dX1_whyNotCollect_15 : decode cX1_whyNotCollect 15 = .ok (.iload_n 3, 1) := dk_29 (dk_at dksX1_whyNotCollect_0 15 rfl rfl)
theorem dX1_whyNotCollect_16 : decode cX1_whyNotCollect 16 = .ok (.iconst 1, 1) := dk_4 (dk_at dksX1_whyNotCollect_0 16 rfl rfl)
theorem dX1_whyNotCollect_17 : decode cX1_whyNotCollect 17 = .ok (.bipush 50, 2) := dk_16 50 (dk_at dksX1_whyNotCollect_0 17 rfl rfl)
theorem dX1_whyNotCollect_19 : decode cX1_whyNotCollect 19 = .ok (.invokestatic 73, 3) := dk_184 0 73 (dk_at dksX1_whyNotCollect_0 19 rfl rfl)
theorem dX1_whyNotCollect_22 : decode cX1_whyNotCollect 22 = .ok (.ifCond .eq 7, 3) := dk_153 0 7 (dk_at dksX1_whyNotCollect_1 0 rfl rfl)
theorem dX1_whyNotCollect_25 : decode cX1_whyNotCollect 25 = .ok (.iconst 1, 1) := dk_4 (dk_at dksX1_whyNotCollect_1 3 rfl rfl)
theorem dX1_whyNotCollect_26 : decode cX1_whyNotCollect 26 = .ok (.goto 4, 3) := dk_167 0 4 (dk_at dksX1_whyNotCollect_1 4 rfl rfl)
theorem dX1_whyNotCollect_29 : decode cX1_whyNotCollect 29 = .ok (.iconst 0, 1) := dk_3 (dk_at dksX1_whyNotCollect_1 7 rfl rfl)
theorem dX1_whyNotCollect_30 : decode cX1_whyNotCollect 30 = .ok (.invokestatic 84, 3) := dk_184 0 84 (dk_at dksX1_whyNotCollect_1 8 rfl rfl)
theorem dX1_whyNotCollect_33 : decode cX1_whyNotCollect 33 = .ok (.aload_n 0, 1) := dk_42 (dk_at dksX1_whyNotCollect_1 11 rfl rfl)
theorem dX1_whyNotCollect_34 : decode cX1_whyNotCollect 34 = .ok (.iload_n 1, 1) := dk_27 (dk_at dksX1_whyNotCollect_1 12 rfl rfl)
theorem dX1_whyNotCollect_35 : decode cX1_whyNotCollect 35 = .ok (.iload_n 2, 1) := dk_28 (dk_at dksX1_whyNotCollect_1 13 rfl rfl)
theorem dX1_whyNotCollect_36 : decode cX1_whyNotCollect 36 = .ok (.iload_n 3, 1) := dk_29 (dk_at dksX1_whyNotCollect_1 14 rfl rfl)
theorem dX1_whyNotCollect_37 : decode cX1_whyNotCollect 37 = .ok (.invokevirtual 189, 3) := dk_182 0 189 (dk_at dksX1_whyNotCollect_1 15 rfl rfl)
theorem dX1_whyNotCollect_40 : decode cX1_whyNotCollect 40 = .ok (.invokevirtual 334, 3) := dk_182 1 78 (dk_at dksX1_whyNotCollect_1 18 rfl rfl)
theorem dX1_whyNotCollect_43 : decode cX1_whyNotCollect 43 = .ok (.ireturn, 1) := dk_172 (dk_at dksX1_whyNotCollect_1 21 rfl rfl)
abbrev cX1_mostCrates : ByteArray := prog_1_method_53_code
def yX1_mostCrates : MethodName := ⟨RX1, "mostCrates", "(II)I"⟩
def dkwX1_mostCrates_1 : List UInt8 := [42, 27, 28, 182, 1, 90, 172]
abbrev dktX1_mostCrates_1 : List UInt8 := dkwX1_mostCrates_1 ++ []
def dkwX1_mostCrates_0 : List UInt8 := [42, 27, 182, 0, 151, 153, 0, 15, 42, 28, 182, 0, 162, 153, 0, 7, 4, 167, 0, 4, 3, 184, 0, 119]
abbrev dktX1_mostCrates_0 : List UInt8 := dkwX1_mostCrates_0 ++ dktX1_mostCrates_1
theorem dksX1_mostCrates_0 : cX1_mostCrates.data.toList.drop 0 = dktX1_mostCrates_0 := by decide +kernel
theorem dksX1_mostCrates_1 : cX1_mostCrates.data.toList.drop 24 = dktX1_mostCrates_1 := dk_seg dksX1_mostCrates_0 24 rfl rfl
theorem dX1_mostCrates_0 : decode cX1_mostCrates 0 = .ok (.aload_n 0, 1) := dk_42 (dk_at dksX1_mostCrates_0 0 rfl rfl)
theorem dX1_mostCrates_1 : decode cX1_mostCrates 1 = .ok (.iload_n 1, 1) := dk_27 (dk_at dksX1_mostCrates_0 1 rfl rfl)
theorem dX1_mostCrates_2 : decode cX1_mostCrates 2 = .ok (.invokevirtual 151, 3) := dk_182 0 151 (dk_at dksX1_mostCrates_0 2 rfl rfl)
theorem dX1_mostCrates_5 : decode cX1_mostCrates 5 = .ok (.ifCond .eq 15, 3) := dk_153 0 15 (dk_at dksX1_mostCrates_0 5 rfl rfl)
theorem dX1_mostCrates_8 : decode cX1_mostCrates 8 = .ok (.aload_n 0, 1) := dk_42 (dk_at dksX1_mostCrates_0 8 rfl rfl)
theorem dX1_mostCrates_9 : decode cX1_mostCrates 9 = .ok (.iload_n 2, 1) := dk_28 (dk_at dksX1_mostCrates_0 9 rfl rfl)
theorem dX1_mostCrates_10 : decode cX1_mostCrates 10 = .ok (.invokevirtual 162, 3) := dk_182 0 162 (dk_at dksX1_mostCrates_0 10 rfl rfl)
theorem dX1_mostCrates_13 : decode cX1_mostCrates 13 = .ok (.ifCond .eq 7, 3) := dk_153 0 7 (dk_at dksX1_mostCrates_0 13 rfl rfl)
theorem dX1_mostCrates_16 : decode cX1_mostCrates 16 = .ok (.iconst 1, 1) := dk_4 (dk_at dksX1_mostCrates_0 16 rfl rfl)
theorem dX1_mostCrates_17 : decode cX1_mostCrates 17 = .ok (.goto 4, 3) := dk_167 0 4 (dk_at dksX1_mostCrates_0 17 rfl rfl)
theorem dX1_mostCrates_20 : decode cX1_mostCrates 20 = .ok (.iconst 0, 1) := dk_3 (dk_at dksX1_mostCrates_0 20 rfl rfl)
theorem dX1_mostCrates_21 : decode cX1_mostCrates 21 = .ok (.invokestatic 119, 3) := dk_184 0 119 (dk_at dksX1_mostCrates_0 21 rfl rfl)
theorem dX1_mostCrates_24 : decode cX1_mostCrates 24 = .ok (.aload_n 0, 1) := dk_42 (dk_at dksX1_mostCrates_1 0 rfl rfl)
theorem dX1_mostCrates_25 : decode cX1_mostCrates 25 = .ok (.iload_n 1, 1) := dk_27 (dk_at dksX1_mostCrates_1 1 rfl rfl)
theorem dX1_mostCrates_26 : decode cX1_mostCrates 26 = .ok (.iload_n 2, 1) := dk_28 (dk_at dksX1_mostCrates_1 2 rfl rfl)
theorem dX1_mostCrates_27 : decode cX1_mostCrates 27 = .ok (.invokevirtual 346, 3) := dk_182 1 90 (dk_at dksX1_mostCrates_1 3 rfl rfl)
theorem dX1_mostCrates_30 : decode cX1_mostCrates 30 = .ok (.ireturn, 1) := dk_172 (dk_at dksX1_mostCrates_1 6 rfl rfl)
abbrev cX1_collected : ByteArray := prog_1_method_56_code
def yX1_collected : MethodName := ⟨RX1, "collected", "(III)I"⟩
def dkwX1_collected_1 : List UInt8 := [29, 4, 16, 50, 184, 0, 73, 184, 0, 84, 42, 27, 28, 29, 182, 1, 104, 172]
abbrev dktX1_collected_1 : List UInt8 := dkwX1_collected_1 ++ []
def dkwX1_collected_0 : List UInt8 := [42, 27, 182, 0, 162, 153, 0, 15, 42, 28, 182, 0, 151, 153, 0, 7, 4, 167, 0, 4, 3, 184, 0, 119]
abbrev dktX1_collected_0 : List UInt8 := dkwX1_collected_0 ++ dktX1_collected_1
theorem dksX1_collected_0 : cX1_collected.data.toList.drop 0 = dktX1_collected_0 := by decide +kernel
theorem dksX1_collected_1 : cX1_collected.data.toList.drop 24 = dktX1_collected_1 := dk_seg dksX1_collected_0 24 rfl rfl
theorem dX1_collected_0 : decode cX1_collected 0 = .ok (.aload_n 0, 1) := dk_42 (dk_at dksX1_collected_0 0 rfl rfl)
theorem dX1_collected_1 : decode cX1_collected 1 = .ok (.iload_n 1, 1) := dk_27 (dk_at dksX1_collected_0 1 rfl rfl)
theorem dX1_collected_2 : decode cX1_collected 2 = .ok (.invokevirtual 162, 3) := dk_182 0 162 (dk_at dksX1_collected_0 2 rfl rfl)
theorem dX1_collected_5 : decode cX1_collected 5 = .ok (.ifCond .eq 15, 3) := dk_153 0 15 (dk_at dksX1_collected_0 5 rfl rfl)
theorem dX1_collected_8 : decode cX1_collected 8 = .ok (.aload_n 0, 1) := dk_42 (dk_at dksX1_collected_0 8 rfl rfl)
theorem dX1_collected_9 : decode cX1_collected 9 = .ok (.iload_n 2, 1) := dk_28 (dk_at dksX1_collected_0 9 rfl rfl)
theorem dX1_collected_10 : decode cX1_collected 10 = .ok (.invokevirtual 151, 3) := dk_182 0 151 (dk_at dksX1_collected_0 10 rfl rfl)
theorem dX1_collected_13 : decode cX1_collected 13 = .ok (.ifCond .eq 7, 3) := dk_153 0 7 (dk_at dksX1_collected_0 13 rfl rfl)
theorem dX1_collected_16 : decode cX1_collected 16 = .ok (.iconst 1, 1) := dk_4 (dk_at dksX1_collected_0 16 rfl rfl)
theorem dX1_collected_17 : decode cX1_collected 17 = .ok (.goto 4, 3) := dk_167 0 4 (dk_at dksX1_collected_0 17 rfl rfl)
theorem dX1_collected_20 : decode cX1_collected 20 = .ok (.iconst 0, 1) := dk_3 (dk_at dksX1_collected_0 20 rfl rfl)
theorem dX1_collected_21 : decode cX1_collected 21 = .ok (.invokestatic 119, 3) := dk_184 0 119 (dk_at dksX1_collected_0 21 rfl rfl)
theorem dX1_collected_24 : decode cX1_collected 24 = .ok (.iload_n 3, 1) := dk_29 (dk_at dksX1_collected_1 0 rfl rfl)
theorem dX1_collected_25 : decode cX1_collected 25 = .ok (.iconst 1, 1) := dk_4 (dk_at dksX1_collected_1 1 rfl rfl)
theorem dX1_collected_26 : decode cX1_collected 26 = .ok (.bipush 50, 2) := dk_16 50 (dk_at dksX1_collected_1 2 rfl rfl)
theorem dX1_collected_28 : decode cX1_collected 28 = .ok (.invokestatic 73, 3) := dk_184 0 73 (dk_at dksX1_collected_1 4 rfl rfl)
theorem dX1_collected_31 : decode cX1_collected 31 = .ok (.invokestatic 84, 3) := dk_184 0 84 (dk_at dksX1_collected_1 7 rfl rfl)
theorem dX1_collected_34 : decode cX1_collected 34 = .ok (.aload_n 0, 1) := dk_42 (dk_at dksX1_collected_1 10 rfl rfl)
theorem dX1_collected_35 : decode cX1_collected 35 = .ok (.iload_n 1, 1) := dk_27 (dk_at dksX1_collected_1 11 rfl rfl)
theorem dX1_collected_36 : decode cX1_collected 36 = .ok (.iload_n 2, 1) := dk_28 (dk_at dksX1_collected_1 12 rfl rfl)
theorem dX1_collected_37 : decode cX1_collected 37 = .ok (.iload_n 3, 1) := dk_29 (dk_at dksX1_collected_1 13 rfl rfl)
theorem dX1_collected_38 : decode cX1_collected 38 = .ok (.invokevirtual 360, 3) := dk_182 1 104 (dk_at dksX1_collected_1 14 rfl rfl)
theorem dX1_collected_41 : decode cX1_collected 41 = .ok (.ireturn, 1) := dk_172 (dk_at dksX1_collected_1 17 rfl rfl)
abbrev cX1_filled : ByteArray := prog_1_method_58_code
def yX1_filled : MethodName := ⟨RX1, "filled", "(II)I"⟩
def dkwX1_filled_1 : List UInt8 := [182, 1, 111, 172]
abbrev dktX1_filled_1 : List UInt8 := dkwX1_filled_1 ++ []
def dkwX1_filled_0 : List UInt8 := [42, 27, 182, 0, 151, 184, 0, 119, 28, 4, 17, 19, 136, 184, 0, 73, 184, 0, 84, 42, 27, 28]
abbrev dktX1_filled_0 : List UInt8 := dkwX1_filled_0 ++ dktX1_filled_1
theorem dksX1_filled_0 : cX1_filled.data.toList.drop 0 = dktX1_filled_0 := by decide +kernel
theorem dksX1_filled_1 : cX1_filled.data.toList.drop 22 = dktX1_filled_1 := dk_seg dksX1_filled_0 22 rfl rfl
theorem dX1_filled_0 : decode cX1_filled 0 = .ok (.aload_n 0, 1) := dk_42 (dk_at dksX1_filled_0 0 rfl rfl)
theorem dX1_filled_1 : decode cX1_filled 1 = .ok (.iload_n 1, 1) := dk_27 (dk_at dksX1_filled_0 1 rfl rfl)
theorem dX1_filled_2 : decode cX1_filled 2 = .ok (.invokevirtual 151, 3) := dk_182 0 151 (dk_at dksX1_filled_0 2 rfl rfl)
theorem dX1_filled_5 : decode cX1_filled 5 = .ok (.invokestatic 119, 3) := dk_184 0 119 (dk_at dksX1_filled_0 5 rfl rfl)
theorem dX1_filled_8 : decode cX1_filled 8 = .ok (.iload_n 2, 1) := dk_28 (dk_at dksX1_filled_0 8 rfl rfl)
theorem dX1_filled_9 : decode cX1_filled 9 = .ok (.iconst 1, 1) := dk_4 (dk_at dksX1_filled_0 9 rfl rfl)
theorem dX1_filled_10 : decode cX1_filled 10 = .ok (.sipush 5000, 3) := dk_17 19 136 (dk_at dksX1_filled_0 10 rfl rfl)
theorem dX1_filled_13 : decode cX1_filled 13 = .ok (.invokestatic 73, 3) := dk_184 0 73 (dk_at dksX1_filled_0 13 rfl rfl)
theorem dX1_filled_16 : decode cX1_filled 16 = .ok (.invokestatic 84, 3) := dk_184 0 84 (dk_at dksX1_filled_0 16 rfl rfl)
theorem dX1_filled_19 : decode cX1_filled 19 = .ok (.aload_n 0, 1) := dk_42 (dk_at dksX1_filled_0 19 rfl rfl)
theorem dX1_filled_20 : decode cX1_filled 20 = .ok (.iload_n 1, 1) := dk_27 (dk_at dksX1_filled_0 20 rfl rfl)
theorem dX1_filled_21 : decode cX1_filled 21 = .ok (.iload_n 2, 1) := dk_28 (dk_at dksX1_filled_0 21 rfl rfl)
theorem dX1_filled_22 : decode cX1_filled 22 = .ok (.invokevirtual 367, 3) := dk_182 1 111 (dk_at dksX1_filled_1 0 rfl rfl)
theorem dX1_filled_25 : decode cX1_filled 25 = .ok (.ireturn, 1) := dk_172 (dk_at dksX1_filled_1 3 rfl rfl)
abbrev cX1_bestShop : ByteArray := prog_1_method_60_code
def yX1_bestShop : MethodName := ⟨RX1, "bestShop", "(I)I"⟩
def dkwX1_bestShop_0 : List UInt8 := [27, 184, 0, 80, 184, 0, 84, 42, 27, 182, 1, 117, 172]
abbrev dktX1_bestShop_0 : List UInt8 := dkwX1_bestShop_0 ++ []
theorem dksX1_bestShop_0 : cX1_bestShop.data.toList.drop 0 = dktX1_bestShop_0 := by decide +kernel
theorem dX1_bestShop_0 : decode cX1_bestShop 0 = .ok (.iload_n 1, 1) := dk_27 (dk_at dksX1_bestShop_0 0 rfl rfl)
theorem dX1_bestShop_1 : decode cX1_bestShop 1 = .ok (.invokestatic 80, 3) := dk_184 0 80 (dk_at dksX1_bestShop_0 1 rfl rfl)
theorem dX1_bestShop_4 : decode cX1_bestShop 4 = .ok (.invokestatic 84, 3) := dk_184 0 84 (dk_at dksX1_bestShop_0 4 rfl rfl)
theorem dX1_bestShop_7 : decode cX1_bestShop 7 = .ok (.aload_n 0, 1) := dk_42 (dk_at dksX1_bestShop_0 7 rfl rfl)
theorem dX1_bestShop_8 : decode cX1_bestShop 8 = .ok (.iload_n 1, 1) := dk_27 (dk_at dksX1_bestShop_0 8 rfl rfl)
theorem dX1_bestShop_9 : decode cX1_bestShop 9 = .ok (.invokevirtual 373, 3) := dk_182 1 117 (dk_at dksX1_bestShop_0 9 rfl rfl)
theorem dX1_bestShop_12 : decode cX1_bestShop 12 = .ok (.ireturn, 1) := dk_172 (dk_at dksX1_bestShop_0 12 rfl rfl)
theorem q79 : (Jvm.Cond.initialized "BottleLoop") ∈ lw_all := lw_g (lw_at lw_m1 1 rfl) rfl
theorem q127 : (Jvm.Cond.instantiable "BottleLoop" (5 : Nat)) ∈ lw_all := lw_g (lw_at lw_m1 49 rfl) rfl
theorem q129 : (Jvm.Cond.instanceMethod ({ cls := "BottleLoop", name := "<init>", desc := "()V" } : Jvm.MethodName)) ∈ lw_all := lw_g (lw_at lw_m1 51 rfl) rfl
theorem q130 : (Jvm.Cond.code ({ cls := "BottleLoop", name := "<init>", desc := "()V" } : Jvm.MethodName) prog_1_method_6_code (1 : Nat) (Option.none : Option Jvm.ClassFile.FieldType)) ∈ lw_all := lw_g (lw_at lw_m1 52 rfl) rfl
theorem q131 : (Jvm.Cond.methodLink "BottleLoop" (13 : Nat) ({ cls := "java/lang/Object", name := "<init>", desc := "()V" } : Jvm.MethodName)) ∈ lw_all := lw_g (lw_at lw_m1 53 rfl) rfl
theorem q134 : (Jvm.Cond.classLink "BottleLoop" (16 : Nat) "BottleLoop$Loop") ∈ lw_all := lw_g (lw_at lw_m1 56 rfl) rfl
theorem q136 : (Jvm.Cond.methodLinkNest "BottleLoop" (18 : Nat) ({ cls := "BottleLoop$Loop", name := "<init>", desc := "()V" } : Jvm.MethodName) "BottleLoop") ∈ lw_tbl := lw_at lw_m1 58 rfl
theorem q172 : (Jvm.Cond.fieldLinkNest "BottleLoop" (70 : Nat) "BottleLoop$Loop" "brands" "Ljava/util/ArrayList;" "BottleLoop") ∈ lw_tbl := lw_at lw_m1 94 rfl
theorem q179 : (Jvm.Cond.fieldLinkNest "BottleLoop" (77 : Nat) "BottleLoop$Loop" "shops" "Ljava/util/ArrayList;" "BottleLoop") ∈ lw_tbl := lw_at lw_m1 101 rfl
theorem q181 : (Jvm.Cond.fieldLinkNest "BottleLoop" (131 : Nat) "BottleLoop$Loop" "settings" "[I" "BottleLoop") ∈ lw_tbl := lw_at lw_m1 103 rfl
theorem q184 : (Jvm.Cond.fieldLinkNest "BottleLoop" (113 : Nat) "BottleLoop$Loop" "store" "I" "BottleLoop") ∈ lw_tbl := lw_at lw_m1 106 rfl
theorem q186 : (Jvm.Cond.fieldLinkNest "BottleLoop" (128 : Nat) "BottleLoop$Loop" "held" "I" "BottleLoop") ∈ lw_tbl := lw_at lw_m1 108 rfl
theorem q188 : (Jvm.Cond.fieldLinkNest "BottleLoop" (321 : Nat) "BottleLoop$Loop" "forfeited" "I" "BottleLoop") ∈ lw_tbl := lw_at lw_m1 110 rfl
theorem q190 : (Jvm.Cond.fieldLinkNest "BottleLoop" (324 : Nat) "BottleLoop$Loop" "pool" "I" "BottleLoop") ∈ lw_tbl := lw_at lw_m1 112 rfl
theorem q192 : (Jvm.Cond.fieldLinkNest "BottleLoop" (247 : Nat) "BottleLoop$Loop" "ended" "I" "BottleLoop") ∈ lw_tbl := lw_at lw_m1 114 rfl
theorem q213 : (Jvm.Cond.classLink "BottleLoop" (25 : Nat) "java/util/ArrayList") ∈ lw_all := lw_g (lw_at lw_m1 135 rfl) rfl
theorem q214 : (Jvm.Cond.methodLink "BottleLoop" (27 : Nat) ({ cls := "java/util/ArrayList", name := "<init>", desc := "()V" } : Jvm.MethodName)) ∈ lw_all := lw_g (lw_at lw_m1 136 rfl) rfl
theorem q215 : (Jvm.Cond.classLink "BottleLoop" (32 : Nat) "java/lang/StringBuilder") ∈ lw_all := lw_g (lw_at lw_m1 137 rfl) rfl
theorem q217 : (Jvm.Cond.methodLink "BottleLoop" (34 : Nat) ({ cls := "java/lang/StringBuilder", name := "<init>", desc := "(I)V" } : Jvm.MethodName)) ∈ lw_all := lw_g (lw_at lw_m1 139 rfl) rfl
theorem q257 : (Jvm.Cond.fieldLink "BottleLoop" (19 : Nat) "BottleLoop" "now" "LBottleLoop$Loop;") ∈ lw_all := lw_g (lw_at lw_m1 179 rfl) rfl
theorem q258 : (Jvm.Cond.fieldLink "BottleLoop" (28 : Nat) "BottleLoop" "saved" "Ljava/util/ArrayList;") ∈ lw_all := lw_g (lw_at lw_m1 180 rfl) rfl
theorem q260 : (Jvm.Cond.fieldLink "BottleLoop" (37 : Nat) "BottleLoop" "text" "Ljava/lang/StringBuilder;") ∈ lw_all := lw_g (lw_at lw_m1 182 rfl) rfl
theorem q262 : (Jvm.Cond.fieldLink "BottleLoop" (41 : Nat) "BottleLoop" "taken" "[I") ∈ lw_all := lw_g (lw_at lw_m1 184 rfl) rfl
theorem q263 : (Jvm.Cond.fieldLink "BottleLoop" (385 : Nat) "BottleLoop" "hash" "J") ∈ lw_all := lw_g (lw_at lw_m1 185 rfl) rfl
theorem q264 : (Jvm.Cond.lays "BottleLoop" "BottleLoop" "now" "LBottleLoop$Loop;") ∈ lw_all := lw_g (lw_at lw_m1 186 rfl) rfl
theorem q265 : (Jvm.Cond.soleField "BottleLoop" "now") ∈ lw_all := lw_g (lw_at lw_m1 187 rfl) rfl
theorem q266 : (Jvm.Cond.laysFinal "BottleLoop" "BottleLoop" "saved" "Ljava/util/ArrayList;") ∈ lw_all := lw_g (lw_at lw_m1 188 rfl) rfl
theorem q267 : (Jvm.Cond.soleField "BottleLoop" "saved") ∈ lw_all := lw_g (lw_at lw_m1 189 rfl) rfl
theorem q268 : (Jvm.Cond.laysFinal "BottleLoop" "BottleLoop" "text" "Ljava/lang/StringBuilder;") ∈ lw_all := lw_g (lw_at lw_m1 190 rfl) rfl
theorem q269 : (Jvm.Cond.soleField "BottleLoop" "text") ∈ lw_all := lw_g (lw_at lw_m1 191 rfl) rfl
theorem q270 : (Jvm.Cond.laysFinal "BottleLoop" "BottleLoop" "taken" "[I") ∈ lw_all := lw_g (lw_at lw_m1 192 rfl) rfl
theorem q271 : (Jvm.Cond.soleField "BottleLoop" "taken") ∈ lw_all := lw_g (lw_at lw_m1 193 rfl) rfl
theorem q272 : (Jvm.Cond.lays "BottleLoop" "BottleLoop" "hash" "J") ∈ lw_all := lw_g (lw_at lw_m1 194 rfl) rfl
theorem q273 : (Jvm.Cond.soleField "BottleLoop" "hash") ∈ lw_all := lw_g (lw_at lw_m1 195 rfl) rfl
theorem q274 : (Jvm.Cond.superclass "BottleLoop" "java/lang/Object") ∈ lw_all := lw_g (lw_at lw_m1 196 rfl) rfl
theorem q276 : (Jvm.Cond.instanceMethod ({ cls := "BottleLoop", name := "clearBuffer", desc := "()I" } : Jvm.MethodName)) ∈ lw_all := lw_g (lw_at lw_m1 198 rfl) rfl
theorem q277 : (Jvm.Cond.selects "BottleLoop" ({ cls := "BottleLoop", name := "clearBuffer", desc := "()I" } : Jvm.MethodName) ({ cls := "BottleLoop", name := "clearBuffer", desc := "()I" } : Jvm.MethodName)) ∈ lw_all := lw_g (lw_at lw_m1 199 rfl) rfl
theorem q278 : (Jvm.Cond.code ({ cls := "BottleLoop", name := "clearBuffer", desc := "()I" } : Jvm.MethodName) prog_1_method_35_code (2 : Nat) (Option.some Jvm.ClassFile.FieldType.int)) ∈ lw_all := lw_g (lw_at lw_m1 200 rfl) rfl
theorem q279 : (Jvm.Cond.methodLink "BottleLoop" (203 : Nat) ({ cls := "java/lang/StringBuilder", name := "length", desc := "()I" } : Jvm.MethodName)) ∈ lw_all := lw_g (lw_at lw_m1 201 rfl) rfl
theorem q286 : (Jvm.Cond.methodLink "BottleLoop" (210 : Nat) ({ cls := "java/lang/StringBuilder", name := "setLength", desc := "(I)V" } : Jvm.MethodName)) ∈ lw_all := lw_g (lw_at lw_m1 208 rfl) rfl
theorem q630 : (Jvm.Cond.instanceMethod ({ cls := "BottleLoop", name := "firstError", desc := "()I" } : Jvm.MethodName)) ∈ lw_all := lw_g (lw_at lw_m3 72 rfl) rfl
theorem q631 : (Jvm.Cond.selects "BottleLoop" ({ cls := "BottleLoop", name := "firstError", desc := "()I" } : Jvm.MethodName) ({ cls := "BottleLoop", name := "firstError", desc := "()I" } : Jvm.MethodName)) ∈ lw_all := lw_g (lw_at lw_m3 73 rfl) rfl
theorem q632 : (Jvm.Cond.code ({ cls := "BottleLoop", name := "firstError", desc := "()I" } : Jvm.MethodName) prog_1_method_36_code (2 : Nat) (Option.some Jvm.ClassFile.FieldType.int)) ∈ lw_all := lw_g (lw_at lw_m3 74 rfl) rfl
theorem q633 : (Jvm.Cond.classLink "BottleLoop" (213 : Nat) "BottleLoop$Reader") ∈ lw_all := lw_g (lw_at lw_m3 75 rfl) rfl
theorem q635 : (Jvm.Cond.methodLinkNest "BottleLoop" (215 : Nat) ({ cls := "BottleLoop$Reader", name := "<init>", desc := "(LBottleLoop;)V" } : Jvm.MethodName) "BottleLoop") ∈ lw_tbl := lw_at lw_m3 77 rfl
theorem q642 : (Jvm.Cond.fieldLinkNest "BottleLoop" (250 : Nat) "BottleLoop$Reader" "orders" "Ljava/util/ArrayList;" "BottleLoop") ∈ lw_tbl := lw_at lw_m3 84 rfl
theorem q644 : (Jvm.Cond.fieldLinkNest "BottleLoop" (222 : Nat) "BottleLoop$Reader" "place" "I" "BottleLoop") ∈ lw_tbl := lw_at lw_m3 86 rfl
theorem q653 : (Jvm.Cond.methodLink "BottleLoop" (218 : Nat) ({ cls := "BottleLoop$Reader", name := "isRow", desc := "()Z" } : Jvm.MethodName)) ∈ lw_all := lw_g (lw_at lw_m3 95 rfl) rfl
theorem q694 : (Jvm.Cond.static ({ cls := "BottleLoop", name := "in", desc := "(III)Z" } : Jvm.MethodName)) ∈ lw_all := lw_g (lw_at lw_m3 136 rfl) rfl
theorem q695 : (Jvm.Cond.code ({ cls := "BottleLoop", name := "in", desc := "(III)Z" } : Jvm.MethodName) prog_1_method_1_code (3 : Nat) (Option.some Jvm.ClassFile.FieldType.boolean)) ∈ lw_all := lw_g (lw_at lw_m3 137 rfl) rfl
theorem q707 : (Jvm.Cond.fieldLinkNest "BottleLoop" (225 : Nat) "BottleLoop$Order" "sign" "I" "BottleLoop") ∈ lw_tbl := lw_at lw_m3 149 rfl
theorem q709 : (Jvm.Cond.fieldLinkNest "BottleLoop" (233 : Nat) "BottleLoop$Order" "first" "I" "BottleLoop") ∈ lw_tbl := lw_at lw_m3 151 rfl
theorem q711 : (Jvm.Cond.fieldLinkNest "BottleLoop" (230 : Nat) "BottleLoop$Order" "second" "I" "BottleLoop") ∈ lw_tbl := lw_at lw_m3 153 rfl
theorem q713 : (Jvm.Cond.fieldLinkNest "BottleLoop" (241 : Nat) "BottleLoop$Order" "many" "I" "BottleLoop") ∈ lw_tbl := lw_at lw_m3 155 rfl
theorem q746 : (Jvm.Cond.selects "BottleLoop" ({ cls := "java/lang/Object", name := "getClass", desc := "()Ljava/lang/Class;" } : Jvm.MethodName) ({ cls := "java/lang/Object", name := "getClass", desc := "()Ljava/lang/Class;" } : Jvm.MethodName)) ∈ lw_all := lw_g (lw_at lw_m3 188 rfl) rfl
theorem q784 : (Jvm.Cond.instanceMethod ({ cls := "BottleLoop", name := "goneShare", desc := "()D" } : Jvm.MethodName)) ∈ lw_all := lw_g (lw_at lw_m3 226 rfl) rfl
theorem q785 : (Jvm.Cond.selects "BottleLoop" ({ cls := "BottleLoop", name := "goneShare", desc := "()D" } : Jvm.MethodName) ({ cls := "BottleLoop", name := "goneShare", desc := "()D" } : Jvm.MethodName)) ∈ lw_all := lw_g (lw_at lw_m3 227 rfl) rfl
theorem q786 : (Jvm.Cond.code ({ cls := "BottleLoop", name := "goneShare", desc := "()D" } : Jvm.MethodName) prog_1_method_62_code (1 : Nat) (Option.some Jvm.ClassFile.FieldType.double)) ∈ lw_all := lw_g (lw_at lw_m3 228 rfl) rfl
theorem q787 : (Jvm.Cond.methodLink "BottleLoop" (379 : Nat) ({ cls := "BottleLoop", name := "goneTold", desc := "()D" } : Jvm.MethodName)) ∈ lw_all := lw_g (lw_at lw_m3 229 rfl) rfl
theorem q788 : (Jvm.Cond.privateMethod ({ cls := "BottleLoop", name := "goneTold", desc := "()D" } : Jvm.MethodName)) ∈ lw_tbl := lw_at lw_m3 230 rfl
theorem q789 : (Jvm.Cond.instanceMethod ({ cls := "BottleLoop", name := "goneTold", desc := "()D" } : Jvm.MethodName)) ∈ lw_all := lw_g (lw_at lw_m3 231 rfl) rfl
theorem q790 : (Jvm.Cond.code ({ cls := "BottleLoop", name := "goneTold", desc := "()D" } : Jvm.MethodName) prog_1_method_61_code (5 : Nat) (Option.some Jvm.ClassFile.FieldType.double)) ∈ lw_all := lw_g (lw_at lw_m3 232 rfl) rfl
theorem q791 : (Jvm.Cond.methodLink "BottleLoop" (45 : Nat) ({ cls := "java/util/ArrayList", name := "size", desc := "()I" } : Jvm.MethodName)) ∈ lw_all := lw_g (lw_at lw_m3 233 rfl) rfl
theorem q795 : (Jvm.Cond.methodLink "BottleLoop" (103 : Nat) ({ cls := "java/util/ArrayList", name := "get", desc := "(I)Ljava/lang/Object;" } : Jvm.MethodName)) ∈ lw_all := lw_g (lw_at lw_m3 237 rfl) rfl
theorem q807 : (Jvm.Cond.classLink "BottleLoop" (94 : Nat) "BottleLoop$Brand") ∈ lw_all := lw_g (lw_at lw_m4 9 rfl) rfl
theorem q808 : (Jvm.Cond.methodLink "BottleLoop" (376 : Nat) ({ cls := "BottleLoop$Brand", name := "gone", desc := "()I" } : Jvm.MethodName)) ∈ lw_all := lw_g (lw_at lw_m4 10 rfl) rfl
theorem q812 : (Jvm.Cond.methodLink "BottleLoop" (298 : Nat) ({ cls := "BottleLoop", name := "brandTold", desc := "(II)I" } : Jvm.MethodName)) ∈ lw_all := lw_g (lw_at lw_m4 14 rfl) rfl
theorem q813 : (Jvm.Cond.privateMethod ({ cls := "BottleLoop", name := "brandTold", desc := "(II)I" } : Jvm.MethodName)) ∈ lw_tbl := lw_at lw_m4 15 rfl
theorem q814 : (Jvm.Cond.instanceMethod ({ cls := "BottleLoop", name := "brandTold", desc := "(II)I" } : Jvm.MethodName)) ∈ lw_all := lw_g (lw_at lw_m4 16 rfl) rfl
theorem q815 : (Jvm.Cond.code ({ cls := "BottleLoop", name := "brandTold", desc := "(II)I" } : Jvm.MethodName) prog_1_method_41_code (4 : Nat) (Option.some Jvm.ClassFile.FieldType.int)) ∈ lw_all := lw_g (lw_at lw_m4 17 rfl) rfl
theorem q816 : (Jvm.Cond.methodLink "BottleLoop" (273 : Nat) ({ cls := "BottleLoop", name := "inShops", desc := "(IZ)I" } : Jvm.MethodName)) ∈ lw_all := lw_g (lw_at lw_m4 18 rfl) rfl
theorem q817 : (Jvm.Cond.privateMethod ({ cls := "BottleLoop", name := "inShops", desc := "(IZ)I" } : Jvm.MethodName)) ∈ lw_tbl := lw_at lw_m4 19 rfl
theorem q818 : (Jvm.Cond.instanceMethod ({ cls := "BottleLoop", name := "inShops", desc := "(IZ)I" } : Jvm.MethodName)) ∈ lw_all := lw_g (lw_at lw_m4 20 rfl) rfl
theorem q819 : (Jvm.Cond.code ({ cls := "BottleLoop", name := "inShops", desc := "(IZ)I" } : Jvm.MethodName) prog_1_method_40_code (5 : Nat) (Option.some Jvm.ClassFile.FieldType.int)) ∈ lw_all := lw_g (lw_at lw_m4 21 rfl) rfl
theorem q820 : (Jvm.Cond.classLink "BottleLoop" (100 : Nat) "BottleLoop$Shop") ∈ lw_all := lw_g (lw_at lw_m4 22 rfl) rfl
theorem q822 : (Jvm.Cond.instanceMethod ({ cls := "BottleLoop", name := "digest", desc := "()J" } : Jvm.MethodName)) ∈ lw_all := lw_g (lw_at lw_m4 24 rfl) rfl
theorem q823 : (Jvm.Cond.selects "BottleLoop" ({ cls := "BottleLoop", name := "digest", desc := "()J" } : Jvm.MethodName) ({ cls := "BottleLoop", name := "digest", desc := "()J" } : Jvm.MethodName)) ∈ lw_all := lw_g (lw_at lw_m4 25 rfl) rfl
theorem q824 : (Jvm.Cond.code ({ cls := "BottleLoop", name := "digest", desc := "()J" } : Jvm.MethodName) prog_1_method_65_code (3 : Nat) (Option.some Jvm.ClassFile.FieldType.long)) ∈ lw_all := lw_g (lw_at lw_m4 26 rfl) rfl
theorem q825 : (Jvm.Cond.constantLong "BottleLoop" (393 : Nat) (2411 : Int64)) ∈ lw_all := lw_g (lw_at lw_m4 27 rfl) rfl
theorem q826 : (Jvm.Cond.methodLink "BottleLoop" (331 : Nat) ({ cls := "BottleLoop", name := "countTold", desc := "(I)I" } : Jvm.MethodName)) ∈ lw_all := lw_g (lw_at lw_m4 28 rfl) rfl
theorem q827 : (Jvm.Cond.privateMethod ({ cls := "BottleLoop", name := "countTold", desc := "(I)I" } : Jvm.MethodName)) ∈ lw_tbl := lw_at lw_m4 29 rfl
theorem q828 : (Jvm.Cond.instanceMethod ({ cls := "BottleLoop", name := "countTold", desc := "(I)I" } : Jvm.MethodName)) ∈ lw_all := lw_g (lw_at lw_m4 30 rfl) rfl
theorem q829 : (Jvm.Cond.code ({ cls := "BottleLoop", name := "countTold", desc := "(I)I" } : Jvm.MethodName) prog_1_method_47_code (2 : Nat) (Option.some Jvm.ClassFile.FieldType.int)) ∈ lw_all := lw_g (lw_at lw_m4 31 rfl) rfl
theorem q830 : (Jvm.Cond.methodLink "BottleLoop" (116 : Nat) ({ cls := "BottleLoop", name := "cratesInShops", desc := "()I" } : Jvm.MethodName)) ∈ lw_all := lw_g (lw_at lw_m4 32 rfl) rfl
theorem q831 : (Jvm.Cond.privateMethod ({ cls := "BottleLoop", name := "cratesInShops", desc := "()I" } : Jvm.MethodName)) ∈ lw_tbl := lw_at lw_m4 33 rfl
theorem q832 : (Jvm.Cond.instanceMethod ({ cls := "BottleLoop", name := "cratesInShops", desc := "()I" } : Jvm.MethodName)) ∈ lw_all := lw_g (lw_at lw_m4 34 rfl) rfl
theorem q833 : (Jvm.Cond.code ({ cls := "BottleLoop", name := "cratesInShops", desc := "()I" } : Jvm.MethodName) prog_1_method_16_code (3 : Nat) (Option.some Jvm.ClassFile.FieldType.int)) ∈ lw_all := lw_g (lw_at lw_m4 35 rfl) rfl
theorem q834 : (Jvm.Cond.methodLink "BottleLoop" (327 : Nat) ({ cls := "BottleLoop", name := "ofBrands", desc := "(I)I" } : Jvm.MethodName)) ∈ lw_all := lw_g (lw_at lw_m4 36 rfl) rfl
theorem q835 : (Jvm.Cond.privateMethod ({ cls := "BottleLoop", name := "ofBrands", desc := "(I)I" } : Jvm.MethodName)) ∈ lw_tbl := lw_at lw_m4 37 rfl
theorem q836 : (Jvm.Cond.instanceMethod ({ cls := "BottleLoop", name := "ofBrands", desc := "(I)I" } : Jvm.MethodName)) ∈ lw_all := lw_g (lw_at lw_m4 38 rfl) rfl
theorem q837 : (Jvm.Cond.code ({ cls := "BottleLoop", name := "ofBrands", desc := "(I)I" } : Jvm.MethodName) prog_1_method_46_code (4 : Nat) (Option.some Jvm.ClassFile.FieldType.int)) ∈ lw_all := lw_g (lw_at lw_m4 39 rfl) rfl
theorem q838 : (Jvm.Cond.methodLink "BottleLoop" (389 : Nat) ({ cls := "BottleLoop", name := "mix", desc := "(J)V" } : Jvm.MethodName)) ∈ lw_all := lw_g (lw_at lw_m4 40 rfl) rfl
theorem q839 : (Jvm.Cond.privateMethod ({ cls := "BottleLoop", name := "mix", desc := "(J)V" } : Jvm.MethodName)) ∈ lw_tbl := lw_at lw_m4 41 rfl
theorem q840 : (Jvm.Cond.instanceMethod ({ cls := "BottleLoop", name := "mix", desc := "(J)V" } : Jvm.MethodName)) ∈ lw_all := lw_g (lw_at lw_m4 42 rfl) rfl
theorem q841 : (Jvm.Cond.code ({ cls := "BottleLoop", name := "mix", desc := "(J)V" } : Jvm.MethodName) prog_1_method_63_code (3 : Nat) (Option.none : Option Jvm.ClassFile.FieldType)) ∈ lw_all := lw_g (lw_at lw_m4 43 rfl) rfl
theorem q842 : (Jvm.Cond.constantLong "BottleLoop" (383 : Nat) (31 : Int64)) ∈ lw_all := lw_g (lw_at lw_m4 44 rfl) rfl
theorem q843 : (Jvm.Cond.methodLink "BottleLoop" (395 : Nat) ({ cls := "BottleLoop", name := "mixRows", desc := "()V" } : Jvm.MethodName)) ∈ lw_all := lw_g (lw_at lw_m4 45 rfl) rfl
theorem q844 : (Jvm.Cond.privateMethod ({ cls := "BottleLoop", name := "mixRows", desc := "()V" } : Jvm.MethodName)) ∈ lw_tbl := lw_at lw_m4 46 rfl
theorem q845 : (Jvm.Cond.instanceMethod ({ cls := "BottleLoop", name := "mixRows", desc := "()V" } : Jvm.MethodName)) ∈ lw_all := lw_g (lw_at lw_m4 47 rfl) rfl
theorem q846 : (Jvm.Cond.code ({ cls := "BottleLoop", name := "mixRows", desc := "()V" } : Jvm.MethodName) prog_1_method_64_code (3 : Nat) (Option.none : Option Jvm.ClassFile.FieldType)) ∈ lw_all := lw_g (lw_at lw_m4 48 rfl) rfl
theorem q847 : (Jvm.Cond.methodLink "BottleLoop" (367 : Nat) ({ cls := "BottleLoop", name := "filledTold", desc := "(II)I" } : Jvm.MethodName)) ∈ lw_all := lw_g (lw_at lw_m4 49 rfl) rfl
theorem q848 : (Jvm.Cond.privateMethod ({ cls := "BottleLoop", name := "filledTold", desc := "(II)I" } : Jvm.MethodName)) ∈ lw_tbl := lw_at lw_m4 50 rfl
theorem q849 : (Jvm.Cond.instanceMethod ({ cls := "BottleLoop", name := "filledTold", desc := "(II)I" } : Jvm.MethodName)) ∈ lw_all := lw_g (lw_at lw_m4 51 rfl) rfl
theorem q850 : (Jvm.Cond.code ({ cls := "BottleLoop", name := "filledTold", desc := "(II)I" } : Jvm.MethodName) prog_1_method_57_code (3 : Nat) (Option.some Jvm.ClassFile.FieldType.int)) ∈ lw_all := lw_g (lw_at lw_m4 52 rfl) rfl
theorem q851 : (Jvm.Cond.methodLink "BottleLoop" (364 : Nat) ({ cls := "BottleLoop$Loop", name := "wornBy", desc := "(LBottleLoop$Brand;I)I" } : Jvm.MethodName)) ∈ lw_all := lw_g (lw_at lw_m4 53 rfl) rfl
theorem q855 : (Jvm.Cond.methodLink "BottleLoop" (346 : Nat) ({ cls := "BottleLoop", name := "mostTold", desc := "(II)I" } : Jvm.MethodName)) ∈ lw_all := lw_g (lw_at lw_m4 57 rfl) rfl
theorem q856 : (Jvm.Cond.privateMethod ({ cls := "BottleLoop", name := "mostTold", desc := "(II)I" } : Jvm.MethodName)) ∈ lw_tbl := lw_at lw_m4 58 rfl
theorem q857 : (Jvm.Cond.instanceMethod ({ cls := "BottleLoop", name := "mostTold", desc := "(II)I" } : Jvm.MethodName)) ∈ lw_all := lw_g (lw_at lw_m4 59 rfl) rfl
theorem q858 : (Jvm.Cond.code ({ cls := "BottleLoop", name := "mostTold", desc := "(II)I" } : Jvm.MethodName) prog_1_method_52_code (5 : Nat) (Option.some Jvm.ClassFile.FieldType.int)) ∈ lw_all := lw_g (lw_at lw_m4 60 rfl) rfl
theorem q859 : (Jvm.Cond.methodLink "BottleLoop" (337 : Nat) ({ cls := "java/lang/Math", name := "min", desc := "(II)I" } : Jvm.MethodName)) ∈ lw_all := lw_g (lw_at lw_m4 61 rfl) rfl
theorem q860 : (Jvm.Cond.methodLink "BottleLoop" (342 : Nat) ({ cls := "BottleLoop$Loop", name := "priceOf", desc := "(LBottleLoop$Brand;I)I" } : Jvm.MethodName)) ∈ lw_all := lw_g (lw_at lw_m4 62 rfl) rfl
theorem q872 : (Jvm.Cond.methodLink "BottleLoop" (315 : Nat) ({ cls := "BottleLoop", name := "isOfShop", desc := "(I)Z" } : Jvm.MethodName)) ∈ lw_all := lw_g (lw_at lw_m4 74 rfl) rfl
theorem q873 : (Jvm.Cond.static ({ cls := "BottleLoop", name := "isOfShop", desc := "(I)Z" } : Jvm.MethodName)) ∈ lw_all := lw_g (lw_at lw_m4 75 rfl) rfl
theorem q874 : (Jvm.Cond.code ({ cls := "BottleLoop", name := "isOfShop", desc := "(I)Z" } : Jvm.MethodName) prog_1_method_43_code (1 : Nat) (Option.some Jvm.ClassFile.FieldType.boolean)) ∈ lw_all := lw_g (lw_at lw_m4 76 rfl) rfl
theorem q875 : (Jvm.Cond.methodLink "BottleLoop" (73 : Nat) ({ cls := "BottleLoop", name := "in", desc := "(III)Z" } : Jvm.MethodName)) ∈ lw_all := lw_g (lw_at lw_m4 77 rfl) rfl
theorem q876 : (Jvm.Cond.methodLink "BottleLoop" (318 : Nat) ({ cls := "BottleLoop", name := "shopTold", desc := "(II)I" } : Jvm.MethodName)) ∈ lw_all := lw_g (lw_at lw_m4 78 rfl) rfl
theorem q877 : (Jvm.Cond.privateMethod ({ cls := "BottleLoop", name := "shopTold", desc := "(II)I" } : Jvm.MethodName)) ∈ lw_tbl := lw_at lw_m4 79 rfl
theorem q878 : (Jvm.Cond.instanceMethod ({ cls := "BottleLoop", name := "shopTold", desc := "(II)I" } : Jvm.MethodName)) ∈ lw_all := lw_g (lw_at lw_m4 80 rfl) rfl
theorem q879 : (Jvm.Cond.code ({ cls := "BottleLoop", name := "shopTold", desc := "(II)I" } : Jvm.MethodName) prog_1_method_44_code (4 : Nat) (Option.some Jvm.ClassFile.FieldType.int)) ∈ lw_all := lw_g (lw_at lw_m4 81 rfl) rfl
theorem q880 : (Jvm.Cond.methodLink "BottleLoop" (302 : Nat) ({ cls := "BottleLoop", name := "sum", desc := "([I)I" } : Jvm.MethodName)) ∈ lw_all := lw_g (lw_at lw_m4 82 rfl) rfl
theorem q881 : (Jvm.Cond.static ({ cls := "BottleLoop", name := "sum", desc := "([I)I" } : Jvm.MethodName)) ∈ lw_all := lw_g (lw_at lw_m4 83 rfl) rfl
theorem q882 : (Jvm.Cond.code ({ cls := "BottleLoop", name := "sum", desc := "([I)I" } : Jvm.MethodName) prog_1_method_5_code (6 : Nat) (Option.some Jvm.ClassFile.FieldType.int)) ∈ lw_all := lw_g (lw_at lw_m4 84 rfl) rfl
theorem q883 : (Jvm.Cond.methodLink "BottleLoop" (373 : Nat) ({ cls := "BottleLoop", name := "bestTold", desc := "(I)I" } : Jvm.MethodName)) ∈ lw_all := lw_g (lw_at lw_m4 85 rfl) rfl
theorem q884 : (Jvm.Cond.privateMethod ({ cls := "BottleLoop", name := "bestTold", desc := "(I)I" } : Jvm.MethodName)) ∈ lw_tbl := lw_at lw_m4 86 rfl
theorem q885 : (Jvm.Cond.instanceMethod ({ cls := "BottleLoop", name := "bestTold", desc := "(I)I" } : Jvm.MethodName)) ∈ lw_all := lw_g (lw_at lw_m4 87 rfl) rfl
theorem q886 : (Jvm.Cond.code ({ cls := "BottleLoop", name := "bestTold", desc := "(I)I" } : Jvm.MethodName) prog_1_method_59_code (6 : Nat) (Option.some Jvm.ClassFile.FieldType.int)) ∈ lw_all := lw_g (lw_at lw_m4 88 rfl) rfl
theorem q887 : (Jvm.Cond.methodLink "BottleLoop" (353 : Nat) ({ cls := "BottleLoop", name := "mostFrom", desc := "(II)I" } : Jvm.MethodName)) ∈ lw_all := lw_g (lw_at lw_m4 89 rfl) rfl
theorem q888 : (Jvm.Cond.privateMethod ({ cls := "BottleLoop", name := "mostFrom", desc := "(II)I" } : Jvm.MethodName)) ∈ lw_tbl := lw_at lw_m4 90 rfl
theorem q889 : (Jvm.Cond.instanceMethod ({ cls := "BottleLoop", name := "mostFrom", desc := "(II)I" } : Jvm.MethodName)) ∈ lw_all := lw_g (lw_at lw_m4 91 rfl) rfl
theorem q890 : (Jvm.Cond.code ({ cls := "BottleLoop", name := "mostFrom", desc := "(II)I" } : Jvm.MethodName) prog_1_method_54_code (4 : Nat) (Option.some Jvm.ClassFile.FieldType.int)) ∈ lw_all := lw_g (lw_at lw_m4 92 rfl) rfl
theorem q891 : (Jvm.Cond.methodLink "BottleLoop" (349 : Nat) ({ cls := "BottleLoop$Loop", name := "emptyOf", desc := "(LBottleLoop$Shop;I)I" } : Jvm.MethodName)) ∈ lw_all := lw_g (lw_at lw_m4 93 rfl) rfl
theorem q898 : (Jvm.Cond.methodLink "BottleLoop" (370 : Nat) ({ cls := "java/lang/Math", name := "max", desc := "(II)I" } : Jvm.MethodName)) ∈ lw_all := lw_g (lw_at lw_m4 100 rfl) rfl
theorem q899 : (Jvm.Cond.methodLink "BottleLoop" (360 : Nat) ({ cls := "BottleLoop", name := "collectedTold", desc := "(III)I" } : Jvm.MethodName)) ∈ lw_all := lw_g (lw_at lw_m4 101 rfl) rfl
theorem q900 : (Jvm.Cond.privateMethod ({ cls := "BottleLoop", name := "collectedTold", desc := "(III)I" } : Jvm.MethodName)) ∈ lw_tbl := lw_at lw_m4 102 rfl
theorem q901 : (Jvm.Cond.instanceMethod ({ cls := "BottleLoop", name := "collectedTold", desc := "(III)I" } : Jvm.MethodName)) ∈ lw_all := lw_g (lw_at lw_m4 103 rfl) rfl
theorem q902 : (Jvm.Cond.code ({ cls := "BottleLoop", name := "collectedTold", desc := "(III)I" } : Jvm.MethodName) prog_1_method_55_code (5 : Nat) (Option.some Jvm.ClassFile.FieldType.int)) ∈ lw_all := lw_g (lw_at lw_m4 104 rfl) rfl
theorem q903 : (Jvm.Cond.methodLink "BottleLoop" (356 : Nat) ({ cls := "BottleLoop$Loop", name := "layCollected", desc := "(LBottleLoop$Shop;II[I)V" } : Jvm.MethodName)) ∈ lw_all := lw_g (lw_at lw_m4 105 rfl) rfl
theorem q907 : (Jvm.Cond.methodLink "BottleLoop" (398 : Nat) ({ cls := "java/lang/Double", name := "doubleToLongBits", desc := "(D)J" } : Jvm.MethodName)) ∈ lw_all := lw_g (lw_at lw_m4 109 rfl) rfl
theorem q917 : (Jvm.Cond.methodLink "BottleLoop" (404 : Nat) ({ cls := "java/lang/StringBuilder", name := "charAt", desc := "(I)C" } : Jvm.MethodName)) ∈ lw_all := lw_g (lw_at lw_m4 119 rfl) rfl
theorem q924 : (Jvm.Cond.instanceMethod ({ cls := "BottleLoop", name := "addBrand", desc := "(II)I" } : Jvm.MethodName)) ∈ lw_all := lw_g (lw_at lw_m4 126 rfl) rfl
theorem q925 : (Jvm.Cond.selects "BottleLoop" ({ cls := "BottleLoop", name := "addBrand", desc := "(II)I" } : Jvm.MethodName) ({ cls := "BottleLoop", name := "addBrand", desc := "(II)I" } : Jvm.MethodName)) ∈ lw_all := lw_g (lw_at lw_m4 127 rfl) rfl
theorem q926 : (Jvm.Cond.code ({ cls := "BottleLoop", name := "addBrand", desc := "(II)I" } : Jvm.MethodName) prog_1_method_14_code (3 : Nat) (Option.some Jvm.ClassFile.FieldType.int)) ∈ lw_all := lw_g (lw_at lw_m4 128 rfl) rfl
theorem q927 : (Jvm.Cond.methodLink "BottleLoop" (80 : Nat) ({ cls := "BottleLoop", name := "isKind", desc := "(I)Z" } : Jvm.MethodName)) ∈ lw_all := lw_g (lw_at lw_m4 129 rfl) rfl
theorem q928 : (Jvm.Cond.static ({ cls := "BottleLoop", name := "isKind", desc := "(I)Z" } : Jvm.MethodName)) ∈ lw_all := lw_g (lw_at lw_m4 130 rfl) rfl
theorem q929 : (Jvm.Cond.code ({ cls := "BottleLoop", name := "isKind", desc := "(I)Z" } : Jvm.MethodName) prog_1_method_13_code (1 : Nat) (Option.some Jvm.ClassFile.FieldType.boolean)) ∈ lw_all := lw_g (lw_at lw_m4 131 rfl) rfl
theorem q930 : (Jvm.Cond.methodLink "BottleLoop" (84 : Nat) ({ cls := "BottleLoop", name := "need", desc := "(Z)V" } : Jvm.MethodName)) ∈ lw_all := lw_g (lw_at lw_m4 132 rfl) rfl
theorem q931 : (Jvm.Cond.static ({ cls := "BottleLoop", name := "need", desc := "(Z)V" } : Jvm.MethodName)) ∈ lw_all := lw_g (lw_at lw_m4 133 rfl) rfl
theorem q932 : (Jvm.Cond.code ({ cls := "BottleLoop", name := "need", desc := "(Z)V" } : Jvm.MethodName) prog_1_method_8_code (1 : Nat) (Option.none : Option Jvm.ClassFile.FieldType)) ∈ lw_all := lw_g (lw_at lw_m4 134 rfl) rfl
theorem q933 : (Jvm.Cond.classLink "BottleLoop" (61 : Nat) "java/lang/IllegalArgumentException") ∈ lw_all := lw_g (lw_at lw_m4 135 rfl) rfl
theorem q934 : (Jvm.Cond.methodLink "BottleLoop" (63 : Nat) ({ cls := "java/lang/IllegalArgumentException", name := "<init>", desc := "()V" } : Jvm.MethodName)) ∈ lw_all := lw_g (lw_at lw_m4 136 rfl) rfl
theorem q944 : (Jvm.Cond.methodLink "BottleLoop" (88 : Nat) ({ cls := "BottleLoop", name := "needState", desc := "(Z)V" } : Jvm.MethodName)) ∈ lw_all := lw_g (lw_at lw_m4 146 rfl) rfl
theorem q945 : (Jvm.Cond.static ({ cls := "BottleLoop", name := "needState", desc := "(Z)V" } : Jvm.MethodName)) ∈ lw_all := lw_g (lw_at lw_m4 147 rfl) rfl
theorem q946 : (Jvm.Cond.code ({ cls := "BottleLoop", name := "needState", desc := "(Z)V" } : Jvm.MethodName) prog_1_method_10_code (1 : Nat) (Option.none : Option Jvm.ClassFile.FieldType)) ∈ lw_all := lw_g (lw_at lw_m4 148 rfl) rfl
theorem q947 : (Jvm.Cond.classLink "BottleLoop" (67 : Nat) "java/lang/IllegalStateException") ∈ lw_all := lw_g (lw_at lw_m4 149 rfl) rfl
theorem q956 : (Jvm.Cond.methodLink "BottleLoop" (69 : Nat) ({ cls := "java/lang/IllegalStateException", name := "<init>", desc := "()V" } : Jvm.MethodName)) ∈ lw_all := lw_g (lw_at lw_m4 158 rfl) rfl
theorem q962 : (Jvm.Cond.methodLink "BottleLoop" (91 : Nat) ({ cls := "BottleLoop", name := "save", desc := "()V" } : Jvm.MethodName)) ∈ lw_all := lw_g (lw_at lw_m4 164 rfl) rfl
theorem q963 : (Jvm.Cond.privateMethod ({ cls := "BottleLoop", name := "save", desc := "()V" } : Jvm.MethodName)) ∈ lw_tbl := lw_at lw_m4 165 rfl
theorem q964 : (Jvm.Cond.instanceMethod ({ cls := "BottleLoop", name := "save", desc := "()V" } : Jvm.MethodName)) ∈ lw_all := lw_g (lw_at lw_m4 166 rfl) rfl
theorem q965 : (Jvm.Cond.code ({ cls := "BottleLoop", name := "save", desc := "()V" } : Jvm.MethodName) prog_1_method_7_code (1 : Nat) (Option.none : Option Jvm.ClassFile.FieldType)) ∈ lw_all := lw_g (lw_at lw_m4 167 rfl) rfl
theorem q966 : (Jvm.Cond.methodLink "BottleLoop" (49 : Nat) ({ cls := "java/util/ArrayList", name := "remove", desc := "(I)Ljava/lang/Object;" } : Jvm.MethodName)) ∈ lw_all := lw_g (lw_at lw_m4 168 rfl) rfl
theorem q975 : (Jvm.Cond.methodLink "BottleLoop" (53 : Nat) ({ cls := "BottleLoop$Loop", name := "copy", desc := "()LBottleLoop$Loop;" } : Jvm.MethodName)) ∈ lw_all := lw_g (lw_at lw_m4 177 rfl) rfl
theorem q993 : (Jvm.Cond.fieldLinkNest "BottleLoop" (196 : Nat) "BottleLoop$Brand" "kind" "I" "BottleLoop") ∈ lw_tbl := lw_at lw_m4 195 rfl
theorem q996 : (Jvm.Cond.fieldLinkNest "BottleLoop" (269 : Nat) "BottleLoop$Brand" "empty" "I" "BottleLoop") ∈ lw_tbl := lw_at lw_m4 198 rfl
theorem q999 : (Jvm.Cond.fieldLinkNest "BottleLoop" (271 : Nat) "BottleLoop$Brand" "full" "I" "BottleLoop") ∈ lw_tbl := lw_at lw_m4 201 rfl
theorem q1002 : (Jvm.Cond.fieldLinkNest "BottleLoop" (277 : Nat) "BottleLoop$Brand" "out" "I" "BottleLoop") ∈ lw_tbl := lw_at lw_m4 204 rfl
theorem q1005 : (Jvm.Cond.fieldLinkNest "BottleLoop" (280 : Nat) "BottleLoop$Brand" "yard" "I" "BottleLoop") ∈ lw_tbl := lw_at lw_m4 207 rfl
theorem q1008 : (Jvm.Cond.fieldLinkNest "BottleLoop" (283 : Nat) "BottleLoop$Brand" "broken" "I" "BottleLoop") ∈ lw_tbl := lw_at lw_m4 210 rfl
theorem q1011 : (Jvm.Cond.fieldLinkNest "BottleLoop" (286 : Nat) "BottleLoop$Brand" "lost" "I" "BottleLoop") ∈ lw_tbl := lw_at lw_m4 213 rfl
theorem q1014 : (Jvm.Cond.fieldLinkNest "BottleLoop" (289 : Nat) "BottleLoop$Brand" "worn" "I" "BottleLoop") ∈ lw_tbl := lw_at lw_m4 216 rfl
theorem q1017 : (Jvm.Cond.fieldLinkNest "BottleLoop" (292 : Nat) "BottleLoop$Brand" "filled" "I" "BottleLoop") ∈ lw_tbl := lw_at lw_m4 219 rfl
theorem q1020 : (Jvm.Cond.fieldLinkNest "BottleLoop" (295 : Nat) "BottleLoop$Brand" "given" "I" "BottleLoop") ∈ lw_tbl := lw_at lw_m4 222 rfl
theorem q1056 : (Jvm.Cond.fieldLinkNest "BottleLoop" (263 : Nat) "BottleLoop$Shop" "full" "[I" "BottleLoop") ∈ lw_tbl := lw_at lw_m5 18 rfl
theorem q1059 : (Jvm.Cond.fieldLinkNest "BottleLoop" (266 : Nat) "BottleLoop$Shop" "empty" "[I" "BottleLoop") ∈ lw_tbl := lw_at lw_m5 21 rfl
theorem q1062 : (Jvm.Cond.fieldLinkNest "BottleLoop" (106 : Nat) "BottleLoop$Shop" "money" "I" "BottleLoop") ∈ lw_tbl := lw_at lw_m5 24 rfl
theorem q1065 : (Jvm.Cond.fieldLinkNest "BottleLoop" (110 : Nat) "BottleLoop$Shop" "crates" "I" "BottleLoop") ∈ lw_tbl := lw_at lw_m5 27 rfl
theorem q1068 : (Jvm.Cond.fieldLinkNest "BottleLoop" (306 : Nat) "BottleLoop$Shop" "paid" "I" "BottleLoop") ∈ lw_tbl := lw_at lw_m5 30 rfl
theorem q1071 : (Jvm.Cond.fieldLinkNest "BottleLoop" (309 : Nat) "BottleLoop$Shop" "pooled" "I" "BottleLoop") ∈ lw_tbl := lw_at lw_m5 33 rfl
theorem q1074 : (Jvm.Cond.fieldLinkNest "BottleLoop" (312 : Nat) "BottleLoop$Shop" "sold" "I" "BottleLoop") ∈ lw_tbl := lw_at lw_m5 36 rfl
theorem q1092 : (Jvm.Cond.methodLink "BottleLoop" (57 : Nat) ({ cls := "java/util/ArrayList", name := "add", desc := "(Ljava/lang/Object;)Z" } : Jvm.MethodName)) ∈ lw_all := lw_g (lw_at lw_m5 54 rfl) rfl
theorem q1093 : (Jvm.Cond.methodLink "BottleLoop" (96 : Nat) ({ cls := "BottleLoop$Brand", name := "<init>", desc := "(II)V" } : Jvm.MethodName)) ∈ lw_all := lw_g (lw_at lw_m5 55 rfl) rfl
theorem q1098 : (Jvm.Cond.instanceMethod ({ cls := "BottleLoop", name := "addShop", desc := "(I)I" } : Jvm.MethodName)) ∈ lw_all := lw_g (lw_at lw_m5 60 rfl) rfl
theorem q1099 : (Jvm.Cond.selects "BottleLoop" ({ cls := "BottleLoop", name := "addShop", desc := "(I)I" } : Jvm.MethodName) ({ cls := "BottleLoop", name := "addShop", desc := "(I)I" } : Jvm.MethodName)) ∈ lw_all := lw_g (lw_at lw_m5 61 rfl) rfl
theorem q1100 : (Jvm.Cond.code ({ cls := "BottleLoop", name := "addShop", desc := "(I)I" } : Jvm.MethodName) prog_1_method_15_code (2 : Nat) (Option.some Jvm.ClassFile.FieldType.int)) ∈ lw_all := lw_g (lw_at lw_m5 62 rfl) rfl
theorem q1101 : (Jvm.Cond.constant "BottleLoop" (99 : Nat) (100000 : Int32)) ∈ lw_all := lw_g (lw_at lw_m5 63 rfl) rfl
theorem q1102 : (Jvm.Cond.methodLinkNest "BottleLoop" (102 : Nat) ({ cls := "BottleLoop$Shop", name := "<init>", desc := "()V" } : Jvm.MethodName) "BottleLoop") ∈ lw_tbl := lw_at lw_m5 64 rfl
theorem q1107 : (Jvm.Cond.instanceMethod ({ cls := "BottleLoop", name := "buyCrates", desc := "(I)I" } : Jvm.MethodName)) ∈ lw_all := lw_g (lw_at lw_m5 69 rfl) rfl
theorem q1108 : (Jvm.Cond.selects "BottleLoop" ({ cls := "BottleLoop", name := "buyCrates", desc := "(I)I" } : Jvm.MethodName) ({ cls := "BottleLoop", name := "buyCrates", desc := "(I)I" } : Jvm.MethodName)) ∈ lw_all := lw_g (lw_at lw_m5 70 rfl) rfl
theorem q1109 : (Jvm.Cond.code ({ cls := "BottleLoop", name := "buyCrates", desc := "(I)I" } : Jvm.MethodName) prog_1_method_17_code (2 : Nat) (Option.some Jvm.ClassFile.FieldType.int)) ∈ lw_all := lw_g (lw_at lw_m5 71 rfl) rfl
theorem q1117 : (Jvm.Cond.instanceMethod ({ cls := "BottleLoop", name := "set", desc := "(II)I" } : Jvm.MethodName)) ∈ lw_all := lw_g (lw_at lw_m5 79 rfl) rfl
theorem q1118 : (Jvm.Cond.selects "BottleLoop" ({ cls := "BottleLoop", name := "set", desc := "(II)I" } : Jvm.MethodName) ({ cls := "BottleLoop", name := "set", desc := "(II)I" } : Jvm.MethodName)) ∈ lw_all := lw_g (lw_at lw_m5 80 rfl) rfl
theorem q1119 : (Jvm.Cond.code ({ cls := "BottleLoop", name := "set", desc := "(II)I" } : Jvm.MethodName) prog_1_method_18_code (4 : Nat) (Option.some Jvm.ClassFile.FieldType.int)) ∈ lw_all := lw_g (lw_at lw_m5 81 rfl) rfl
theorem q1120 : (Jvm.Cond.methodLink "BottleLoop" (119 : Nat) ({ cls := "BottleLoop", name := "needIndex", desc := "(Z)V" } : Jvm.MethodName)) ∈ lw_all := lw_g (lw_at lw_m5 82 rfl) rfl
theorem q1121 : (Jvm.Cond.static ({ cls := "BottleLoop", name := "needIndex", desc := "(Z)V" } : Jvm.MethodName)) ∈ lw_all := lw_g (lw_at lw_m5 83 rfl) rfl
theorem q1122 : (Jvm.Cond.code ({ cls := "BottleLoop", name := "needIndex", desc := "(Z)V" } : Jvm.MethodName) prog_1_method_9_code (1 : Nat) (Option.none : Option Jvm.ClassFile.FieldType)) ∈ lw_all := lw_g (lw_at lw_m5 84 rfl) rfl
theorem q1123 : (Jvm.Cond.classLink "BottleLoop" (64 : Nat) "java/lang/IndexOutOfBoundsException") ∈ lw_all := lw_g (lw_at lw_m5 85 rfl) rfl
theorem q1132 : (Jvm.Cond.methodLink "BottleLoop" (66 : Nat) ({ cls := "java/lang/IndexOutOfBoundsException", name := "<init>", desc := "()V" } : Jvm.MethodName)) ∈ lw_all := lw_g (lw_at lw_m5 94 rfl) rfl
theorem q1138 : (Jvm.Cond.fieldLink "BottleLoop" (122 : Nat) "BottleLoop" "LEAST" "[I") ∈ lw_all := lw_g (lw_at lw_m5 100 rfl) rfl
theorem q1139 : (Jvm.Cond.laysStatic "BottleLoop" "LEAST" "[I") ∈ lw_tbl := lw_at lw_m5 101 rfl
theorem q1140 : (Jvm.Cond.fieldLink "BottleLoop" (125 : Nat) "BottleLoop" "MOST" "[I") ∈ lw_all := lw_g (lw_at lw_m5 102 rfl) rfl
theorem q1141 : (Jvm.Cond.laysStatic "BottleLoop" "MOST" "[I") ∈ lw_tbl := lw_at lw_m5 103 rfl
theorem q1146 : (Jvm.Cond.instanceMethod ({ cls := "BottleLoop", name := "fill", desc := "(II)I" } : Jvm.MethodName)) ∈ lw_all := lw_g (lw_at lw_m5 108 rfl) rfl
theorem q1147 : (Jvm.Cond.selects "BottleLoop" ({ cls := "BottleLoop", name := "fill", desc := "(II)I" } : Jvm.MethodName) ({ cls := "BottleLoop", name := "fill", desc := "(II)I" } : Jvm.MethodName)) ∈ lw_all := lw_g (lw_at lw_m5 109 rfl) rfl
theorem q1148 : (Jvm.Cond.code ({ cls := "BottleLoop", name := "fill", desc := "(II)I" } : Jvm.MethodName) prog_1_method_24_code (3 : Nat) (Option.some Jvm.ClassFile.FieldType.int)) ∈ lw_all := lw_g (lw_at lw_m5 110 rfl) rfl
theorem q1149 : (Jvm.Cond.methodLink "BottleLoop" (151 : Nat) ({ cls := "BottleLoop", name := "isBrand", desc := "(I)Z" } : Jvm.MethodName)) ∈ lw_all := lw_g (lw_at lw_m5 111 rfl) rfl
theorem q1150 : (Jvm.Cond.privateMethod ({ cls := "BottleLoop", name := "isBrand", desc := "(I)Z" } : Jvm.MethodName)) ∈ lw_tbl := lw_at lw_m5 112 rfl
theorem q1151 : (Jvm.Cond.instanceMethod ({ cls := "BottleLoop", name := "isBrand", desc := "(I)Z" } : Jvm.MethodName)) ∈ lw_all := lw_g (lw_at lw_m5 113 rfl) rfl
theorem q1152 : (Jvm.Cond.code ({ cls := "BottleLoop", name := "isBrand", desc := "(I)Z" } : Jvm.MethodName) prog_1_method_11_code (2 : Nat) (Option.some Jvm.ClassFile.FieldType.boolean)) ∈ lw_all := lw_g (lw_at lw_m5 114 rfl) rfl
theorem q1153 : (Jvm.Cond.classLink "BottleLoop" (154 : Nat) "BottleLoop$6") ∈ lw_all := lw_g (lw_at lw_m5 115 rfl) rfl
theorem q1155 : (Jvm.Cond.methodLink "BottleLoop" (156 : Nat) ({ cls := "BottleLoop$6", name := "<init>", desc := "(LBottleLoop;II)V" } : Jvm.MethodName)) ∈ lw_all := lw_g (lw_at lw_m5 117 rfl) rfl
theorem q1175 : (Jvm.Cond.methodLink "BottleLoop" (159 : Nat) ({ cls := "BottleLoop$6", name := "done", desc := "()I" } : Jvm.MethodName)) ∈ lw_all := lw_g (lw_at lw_m5 137 rfl) rfl
theorem q1211 : (Jvm.Cond.static ({ cls := "BottleLoop", name := "needBottles", desc := "(Z)V" } : Jvm.MethodName)) ∈ lw_all := lw_g (lw_at lw_m5 173 rfl) rfl
theorem q1212 : (Jvm.Cond.code ({ cls := "BottleLoop", name := "needBottles", desc := "(Z)V" } : Jvm.MethodName) prog_1_method_2_code (1 : Nat) (Option.none : Option Jvm.ClassFile.FieldType)) ∈ lw_all := lw_g (lw_at lw_m5 174 rfl) rfl
theorem q1213 : (Jvm.Cond.classLink "BottleLoop" (1 : Nat) "BottleLoop$NoBottles") ∈ lw_all := lw_g (lw_at lw_m5 175 rfl) rfl
theorem q1223 : (Jvm.Cond.methodLinkNest "BottleLoop" (3 : Nat) ({ cls := "BottleLoop$NoBottles", name := "<init>", desc := "()V" } : Jvm.MethodName) "BottleLoop") ∈ lw_tbl := lw_at lw_m5 185 rfl
theorem q1238 : (Jvm.Cond.static ({ cls := "BottleLoop", name := "needCrates", desc := "(Z)V" } : Jvm.MethodName)) ∈ lw_all := lw_g (lw_at lw_m5 200 rfl) rfl
theorem q1239 : (Jvm.Cond.code ({ cls := "BottleLoop", name := "needCrates", desc := "(Z)V" } : Jvm.MethodName) prog_1_method_3_code (1 : Nat) (Option.none : Option Jvm.ClassFile.FieldType)) ∈ lw_all := lw_g (lw_at lw_m5 201 rfl) rfl
theorem q1240 : (Jvm.Cond.classLink "BottleLoop" (7 : Nat) "BottleLoop$NoCrates") ∈ lw_all := lw_g (lw_at lw_m5 202 rfl) rfl
theorem q1249 : (Jvm.Cond.methodLinkNest "BottleLoop" (9 : Nat) ({ cls := "BottleLoop$NoCrates", name := "<init>", desc := "()V" } : Jvm.MethodName) "BottleLoop") ∈ lw_tbl := lw_at lw_m5 211 rfl
theorem q1257 : (Jvm.Cond.static ({ cls := "BottleLoop", name := "needMoney", desc := "(Z)V" } : Jvm.MethodName)) ∈ lw_all := lw_g (lw_at lw_m5 219 rfl) rfl
theorem q1258 : (Jvm.Cond.code ({ cls := "BottleLoop", name := "needMoney", desc := "(Z)V" } : Jvm.MethodName) prog_1_method_4_code (1 : Nat) (Option.none : Option Jvm.ClassFile.FieldType)) ∈ lw_all := lw_g (lw_at lw_m5 220 rfl) rfl
theorem q1259 : (Jvm.Cond.classLink "BottleLoop" (10 : Nat) "BottleLoop$NoMoney") ∈ lw_all := lw_g (lw_at lw_m5 221 rfl) rfl
theorem q1268 : (Jvm.Cond.methodLinkNest "BottleLoop" (12 : Nat) ({ cls := "BottleLoop$NoMoney", name := "<init>", desc := "()V" } : Jvm.MethodName) "BottleLoop") ∈ lw_tbl := lw_at lw_m5 230 rfl
theorem q1436 : (Jvm.Cond.instanceMethod ({ cls := "BottleLoop", name := "deliver", desc := "(III)I" } : Jvm.MethodName)) ∈ lw_all := lw_g (lw_at lw_m6 158 rfl) rfl
theorem q1437 : (Jvm.Cond.selects "BottleLoop" ({ cls := "BottleLoop", name := "deliver", desc := "(III)I" } : Jvm.MethodName) ({ cls := "BottleLoop", name := "deliver", desc := "(III)I" } : Jvm.MethodName)) ∈ lw_all := lw_g (lw_at lw_m6 159 rfl) rfl
theorem q1438 : (Jvm.Cond.code ({ cls := "BottleLoop", name := "deliver", desc := "(III)I" } : Jvm.MethodName) prog_1_method_25_code (4 : Nat) (Option.some Jvm.ClassFile.FieldType.int)) ∈ lw_all := lw_g (lw_at lw_m6 160 rfl) rfl
theorem q1439 : (Jvm.Cond.methodLink "BottleLoop" (162 : Nat) ({ cls := "BottleLoop", name := "isShop", desc := "(I)Z" } : Jvm.MethodName)) ∈ lw_all := lw_g (lw_at lw_m6 161 rfl) rfl
theorem q1440 : (Jvm.Cond.privateMethod ({ cls := "BottleLoop", name := "isShop", desc := "(I)Z" } : Jvm.MethodName)) ∈ lw_tbl := lw_at lw_m6 162 rfl
theorem q1441 : (Jvm.Cond.instanceMethod ({ cls := "BottleLoop", name := "isShop", desc := "(I)Z" } : Jvm.MethodName)) ∈ lw_all := lw_g (lw_at lw_m6 163 rfl) rfl
theorem q1442 : (Jvm.Cond.code ({ cls := "BottleLoop", name := "isShop", desc := "(I)Z" } : Jvm.MethodName) prog_1_method_12_code (2 : Nat) (Option.some Jvm.ClassFile.FieldType.boolean)) ∈ lw_all := lw_g (lw_at lw_m6 164 rfl) rfl
theorem q1443 : (Jvm.Cond.methodLink "BottleLoop" (165 : Nat) ({ cls := "BottleLoop", name := "delivering", desc := "(III)LBottleLoop$Deed;" } : Jvm.MethodName)) ∈ lw_all := lw_g (lw_at lw_m6 165 rfl) rfl
theorem q1444 : (Jvm.Cond.privateMethod ({ cls := "BottleLoop", name := "delivering", desc := "(III)LBottleLoop$Deed;" } : Jvm.MethodName)) ∈ lw_tbl := lw_at lw_m6 166 rfl
theorem q1445 : (Jvm.Cond.instanceMethod ({ cls := "BottleLoop", name := "delivering", desc := "(III)LBottleLoop$Deed;" } : Jvm.MethodName)) ∈ lw_all := lw_g (lw_at lw_m6 167 rfl) rfl
theorem q1446 : (Jvm.Cond.code ({ cls := "BottleLoop", name := "delivering", desc := "(III)LBottleLoop$Deed;" } : Jvm.MethodName) prog_1_method_19_code (4 : Nat) (Option.some (Jvm.ClassFile.FieldType.object "BottleLoop$Deed"))) ∈ lw_all := lw_g (lw_at lw_m6 168 rfl) rfl
theorem q1447 : (Jvm.Cond.classLink "BottleLoop" (134 : Nat) "BottleLoop$1") ∈ lw_all := lw_g (lw_at lw_m6 169 rfl) rfl
theorem q1449 : (Jvm.Cond.methodLink "BottleLoop" (136 : Nat) ({ cls := "BottleLoop$1", name := "<init>", desc := "(LBottleLoop;III)V" } : Jvm.MethodName)) ∈ lw_all := lw_g (lw_at lw_m6 171 rfl) rfl
theorem q1467 : (Jvm.Cond.methodLink "BottleLoop" (169 : Nat) ({ cls := "BottleLoop$Deed", name := "done", desc := "()I" } : Jvm.MethodName)) ∈ lw_all := lw_g (lw_at lw_m6 189 rfl) rfl
theorem q1472 : (Jvm.Cond.instanceMethod ({ cls := "BottleLoop", name := "sell", desc := "(III)I" } : Jvm.MethodName)) ∈ lw_all := lw_g (lw_at lw_m6 194 rfl) rfl
theorem q1473 : (Jvm.Cond.selects "BottleLoop" ({ cls := "BottleLoop", name := "sell", desc := "(III)I" } : Jvm.MethodName) ({ cls := "BottleLoop", name := "sell", desc := "(III)I" } : Jvm.MethodName)) ∈ lw_all := lw_g (lw_at lw_m6 195 rfl) rfl
theorem q1474 : (Jvm.Cond.code ({ cls := "BottleLoop", name := "sell", desc := "(III)I" } : Jvm.MethodName) prog_1_method_27_code (4 : Nat) (Option.some Jvm.ClassFile.FieldType.int)) ∈ lw_all := lw_g (lw_at lw_m6 196 rfl) rfl
theorem q1475 : (Jvm.Cond.methodLink "BottleLoop" (172 : Nat) ({ cls := "BottleLoop", name := "needSale", desc := "(III)V" } : Jvm.MethodName)) ∈ lw_all := lw_g (lw_at lw_m6 197 rfl) rfl
theorem q1476 : (Jvm.Cond.privateMethod ({ cls := "BottleLoop", name := "needSale", desc := "(III)V" } : Jvm.MethodName)) ∈ lw_tbl := lw_at lw_m6 198 rfl
theorem q1477 : (Jvm.Cond.instanceMethod ({ cls := "BottleLoop", name := "needSale", desc := "(III)V" } : Jvm.MethodName)) ∈ lw_all := lw_g (lw_at lw_m6 199 rfl) rfl
theorem q1478 : (Jvm.Cond.code ({ cls := "BottleLoop", name := "needSale", desc := "(III)V" } : Jvm.MethodName) prog_1_method_26_code (4 : Nat) (Option.none : Option Jvm.ClassFile.FieldType)) ∈ lw_all := lw_g (lw_at lw_m6 200 rfl) rfl
theorem q1479 : (Jvm.Cond.methodLink "BottleLoop" (176 : Nat) ({ cls := "BottleLoop", name := "selling", desc := "(III)LBottleLoop$Deed;" } : Jvm.MethodName)) ∈ lw_all := lw_g (lw_at lw_m6 201 rfl) rfl
theorem q1480 : (Jvm.Cond.privateMethod ({ cls := "BottleLoop", name := "selling", desc := "(III)LBottleLoop$Deed;" } : Jvm.MethodName)) ∈ lw_tbl := lw_at lw_m6 202 rfl
theorem q1481 : (Jvm.Cond.instanceMethod ({ cls := "BottleLoop", name := "selling", desc := "(III)LBottleLoop$Deed;" } : Jvm.MethodName)) ∈ lw_all := lw_g (lw_at lw_m6 203 rfl) rfl
theorem q1482 : (Jvm.Cond.code ({ cls := "BottleLoop", name := "selling", desc := "(III)LBottleLoop$Deed;" } : Jvm.MethodName) prog_1_method_20_code (4 : Nat) (Option.some (Jvm.ClassFile.FieldType.object "BottleLoop$Deed"))) ∈ lw_all := lw_g (lw_at lw_m6 204 rfl) rfl
theorem q1483 : (Jvm.Cond.classLink "BottleLoop" (139 : Nat) "BottleLoop$2") ∈ lw_all := lw_g (lw_at lw_m6 205 rfl) rfl
theorem q1485 : (Jvm.Cond.methodLink "BottleLoop" (141 : Nat) ({ cls := "BottleLoop$2", name := "<init>", desc := "(LBottleLoop;III)V" } : Jvm.MethodName)) ∈ lw_all := lw_g (lw_at lw_m6 207 rfl) rfl
theorem q1507 : (Jvm.Cond.instanceMethod ({ cls := "BottleLoop", name := "takeBack", desc := "(III)I" } : Jvm.MethodName)) ∈ lw_all := lw_g (lw_at lw_m6 229 rfl) rfl
theorem q1508 : (Jvm.Cond.selects "BottleLoop" ({ cls := "BottleLoop", name := "takeBack", desc := "(III)I" } : Jvm.MethodName) ({ cls := "BottleLoop", name := "takeBack", desc := "(III)I" } : Jvm.MethodName)) ∈ lw_all := lw_g (lw_at lw_m6 230 rfl) rfl
theorem q1509 : (Jvm.Cond.code ({ cls := "BottleLoop", name := "takeBack", desc := "(III)I" } : Jvm.MethodName) prog_1_method_28_code (4 : Nat) (Option.some Jvm.ClassFile.FieldType.int)) ∈ lw_all := lw_g (lw_at lw_m6 231 rfl) rfl
theorem q1510 : (Jvm.Cond.methodLink "BottleLoop" (179 : Nat) ({ cls := "BottleLoop", name := "taking", desc := "(III)LBottleLoop$Deed;" } : Jvm.MethodName)) ∈ lw_all := lw_g (lw_at lw_m6 232 rfl) rfl
theorem q1511 : (Jvm.Cond.privateMethod ({ cls := "BottleLoop", name := "taking", desc := "(III)LBottleLoop$Deed;" } : Jvm.MethodName)) ∈ lw_tbl := lw_at lw_m6 233 rfl
theorem q1512 : (Jvm.Cond.instanceMethod ({ cls := "BottleLoop", name := "taking", desc := "(III)LBottleLoop$Deed;" } : Jvm.MethodName)) ∈ lw_all := lw_g (lw_at lw_m6 234 rfl) rfl
theorem q1513 : (Jvm.Cond.code ({ cls := "BottleLoop", name := "taking", desc := "(III)LBottleLoop$Deed;" } : Jvm.MethodName) prog_1_method_21_code (4 : Nat) (Option.some (Jvm.ClassFile.FieldType.object "BottleLoop$Deed"))) ∈ lw_all := lw_g (lw_at lw_m6 235 rfl) rfl
theorem q1514 : (Jvm.Cond.classLink "BottleLoop" (142 : Nat) "BottleLoop$3") ∈ lw_all := lw_g (lw_at lw_m6 236 rfl) rfl
theorem q1516 : (Jvm.Cond.methodLink "BottleLoop" (144 : Nat) ({ cls := "BottleLoop$3", name := "<init>", desc := "(LBottleLoop;III)V" } : Jvm.MethodName)) ∈ lw_all := lw_g (lw_at lw_m6 238 rfl) rfl
theorem q1538 : (Jvm.Cond.instanceMethod ({ cls := "BottleLoop", name := "breaks", desc := "(III)I" } : Jvm.MethodName)) ∈ lw_all := lw_g (lw_at lw_m7 20 rfl) rfl
theorem q1539 : (Jvm.Cond.selects "BottleLoop" ({ cls := "BottleLoop", name := "breaks", desc := "(III)I" } : Jvm.MethodName) ({ cls := "BottleLoop", name := "breaks", desc := "(III)I" } : Jvm.MethodName)) ∈ lw_all := lw_g (lw_at lw_m7 21 rfl) rfl
theorem q1540 : (Jvm.Cond.code ({ cls := "BottleLoop", name := "breaks", desc := "(III)I" } : Jvm.MethodName) prog_1_method_29_code (4 : Nat) (Option.some Jvm.ClassFile.FieldType.int)) ∈ lw_all := lw_g (lw_at lw_m7 22 rfl) rfl
theorem q1541 : (Jvm.Cond.methodLink "BottleLoop" (182 : Nat) ({ cls := "BottleLoop", name := "breaking", desc := "(III)LBottleLoop$Deed;" } : Jvm.MethodName)) ∈ lw_all := lw_g (lw_at lw_m7 23 rfl) rfl
theorem q1542 : (Jvm.Cond.privateMethod ({ cls := "BottleLoop", name := "breaking", desc := "(III)LBottleLoop$Deed;" } : Jvm.MethodName)) ∈ lw_tbl := lw_at lw_m7 24 rfl
theorem q1543 : (Jvm.Cond.instanceMethod ({ cls := "BottleLoop", name := "breaking", desc := "(III)LBottleLoop$Deed;" } : Jvm.MethodName)) ∈ lw_all := lw_g (lw_at lw_m7 25 rfl) rfl
theorem q1544 : (Jvm.Cond.code ({ cls := "BottleLoop", name := "breaking", desc := "(III)LBottleLoop$Deed;" } : Jvm.MethodName) prog_1_method_22_code (4 : Nat) (Option.some (Jvm.ClassFile.FieldType.object "BottleLoop$Deed"))) ∈ lw_all := lw_g (lw_at lw_m7 26 rfl) rfl
theorem q1545 : (Jvm.Cond.classLink "BottleLoop" (145 : Nat) "BottleLoop$4") ∈ lw_all := lw_g (lw_at lw_m7 27 rfl) rfl
theorem q1547 : (Jvm.Cond.methodLink "BottleLoop" (147 : Nat) ({ cls := "BottleLoop$4", name := "<init>", desc := "(LBottleLoop;III)V" } : Jvm.MethodName)) ∈ lw_all := lw_g (lw_at lw_m7 29 rfl) rfl
theorem q1569 : (Jvm.Cond.instanceMethod ({ cls := "BottleLoop", name := "lose", desc := "(II)I" } : Jvm.MethodName)) ∈ lw_all := lw_g (lw_at lw_m7 51 rfl) rfl
theorem q1570 : (Jvm.Cond.selects "BottleLoop" ({ cls := "BottleLoop", name := "lose", desc := "(II)I" } : Jvm.MethodName) ({ cls := "BottleLoop", name := "lose", desc := "(II)I" } : Jvm.MethodName)) ∈ lw_all := lw_g (lw_at lw_m7 52 rfl) rfl
theorem q1571 : (Jvm.Cond.code ({ cls := "BottleLoop", name := "lose", desc := "(II)I" } : Jvm.MethodName) prog_1_method_30_code (3 : Nat) (Option.some Jvm.ClassFile.FieldType.int)) ∈ lw_all := lw_g (lw_at lw_m7 53 rfl) rfl
theorem q1572 : (Jvm.Cond.classLink "BottleLoop" (185 : Nat) "BottleLoop$7") ∈ lw_all := lw_g (lw_at lw_m7 54 rfl) rfl
theorem q1574 : (Jvm.Cond.methodLink "BottleLoop" (187 : Nat) ({ cls := "BottleLoop$7", name := "<init>", desc := "(LBottleLoop;II)V" } : Jvm.MethodName)) ∈ lw_all := lw_g (lw_at lw_m7 56 rfl) rfl
theorem q1589 : (Jvm.Cond.methodLink "BottleLoop" (188 : Nat) ({ cls := "BottleLoop$7", name := "done", desc := "()I" } : Jvm.MethodName)) ∈ lw_all := lw_g (lw_at lw_m7 71 rfl) rfl
theorem q1596 : (Jvm.Cond.instanceMethod ({ cls := "BottleLoop", name := "collect", desc := "(III)I" } : Jvm.MethodName)) ∈ lw_all := lw_g (lw_at lw_m7 78 rfl) rfl
theorem q1597 : (Jvm.Cond.selects "BottleLoop" ({ cls := "BottleLoop", name := "collect", desc := "(III)I" } : Jvm.MethodName) ({ cls := "BottleLoop", name := "collect", desc := "(III)I" } : Jvm.MethodName)) ∈ lw_all := lw_g (lw_at lw_m7 79 rfl) rfl
theorem q1598 : (Jvm.Cond.code ({ cls := "BottleLoop", name := "collect", desc := "(III)I" } : Jvm.MethodName) prog_1_method_31_code (4 : Nat) (Option.some Jvm.ClassFile.FieldType.int)) ∈ lw_all := lw_g (lw_at lw_m7 80 rfl) rfl
theorem q1599 : (Jvm.Cond.methodLink "BottleLoop" (189 : Nat) ({ cls := "BottleLoop", name := "collecting", desc := "(III)LBottleLoop$Deed;" } : Jvm.MethodName)) ∈ lw_all := lw_g (lw_at lw_m7 81 rfl) rfl
theorem q1600 : (Jvm.Cond.privateMethod ({ cls := "BottleLoop", name := "collecting", desc := "(III)LBottleLoop$Deed;" } : Jvm.MethodName)) ∈ lw_tbl := lw_at lw_m7 82 rfl
theorem q1601 : (Jvm.Cond.instanceMethod ({ cls := "BottleLoop", name := "collecting", desc := "(III)LBottleLoop$Deed;" } : Jvm.MethodName)) ∈ lw_all := lw_g (lw_at lw_m7 83 rfl) rfl
theorem q1602 : (Jvm.Cond.code ({ cls := "BottleLoop", name := "collecting", desc := "(III)LBottleLoop$Deed;" } : Jvm.MethodName) prog_1_method_23_code (4 : Nat) (Option.some (Jvm.ClassFile.FieldType.object "BottleLoop$Deed"))) ∈ lw_all := lw_g (lw_at lw_m7 84 rfl) rfl
theorem q1603 : (Jvm.Cond.classLink "BottleLoop" (148 : Nat) "BottleLoop$5") ∈ lw_all := lw_g (lw_at lw_m7 85 rfl) rfl
theorem q1605 : (Jvm.Cond.methodLink "BottleLoop" (150 : Nat) ({ cls := "BottleLoop$5", name := "<init>", desc := "(LBottleLoop;III)V" } : Jvm.MethodName)) ∈ lw_all := lw_g (lw_at lw_m7 87 rfl) rfl
theorem q1627 : (Jvm.Cond.instanceMethod ({ cls := "BottleLoop", name := "sort", desc := "(II)I" } : Jvm.MethodName)) ∈ lw_all := lw_g (lw_at lw_m7 109 rfl) rfl
theorem q1628 : (Jvm.Cond.selects "BottleLoop" ({ cls := "BottleLoop", name := "sort", desc := "(II)I" } : Jvm.MethodName) ({ cls := "BottleLoop", name := "sort", desc := "(II)I" } : Jvm.MethodName)) ∈ lw_all := lw_g (lw_at lw_m7 110 rfl) rfl
theorem q1629 : (Jvm.Cond.code ({ cls := "BottleLoop", name := "sort", desc := "(II)I" } : Jvm.MethodName) prog_1_method_32_code (3 : Nat) (Option.some Jvm.ClassFile.FieldType.int)) ∈ lw_all := lw_g (lw_at lw_m7 111 rfl) rfl
theorem q1630 : (Jvm.Cond.classLink "BottleLoop" (192 : Nat) "BottleLoop$8") ∈ lw_all := lw_g (lw_at lw_m7 112 rfl) rfl
theorem q1632 : (Jvm.Cond.methodLink "BottleLoop" (194 : Nat) ({ cls := "BottleLoop$8", name := "<init>", desc := "(LBottleLoop;II)V" } : Jvm.MethodName)) ∈ lw_all := lw_g (lw_at lw_m7 114 rfl) rfl
theorem q1647 : (Jvm.Cond.methodLink "BottleLoop" (195 : Nat) ({ cls := "BottleLoop$8", name := "done", desc := "()I" } : Jvm.MethodName)) ∈ lw_all := lw_g (lw_at lw_m7 129 rfl) rfl
theorem q1654 : (Jvm.Cond.instanceMethod ({ cls := "BottleLoop", name := "swap", desc := "(III)I" } : Jvm.MethodName)) ∈ lw_all := lw_g (lw_at lw_m7 136 rfl) rfl
theorem q1655 : (Jvm.Cond.selects "BottleLoop" ({ cls := "BottleLoop", name := "swap", desc := "(III)I" } : Jvm.MethodName) ({ cls := "BottleLoop", name := "swap", desc := "(III)I" } : Jvm.MethodName)) ∈ lw_all := lw_g (lw_at lw_m7 137 rfl) rfl
theorem q1656 : (Jvm.Cond.code ({ cls := "BottleLoop", name := "swap", desc := "(III)I" } : Jvm.MethodName) prog_1_method_33_code (4 : Nat) (Option.some Jvm.ClassFile.FieldType.int)) ∈ lw_all := lw_g (lw_at lw_m7 138 rfl) rfl
theorem q1657 : (Jvm.Cond.classLink "BottleLoop" (199 : Nat) "BottleLoop$9") ∈ lw_all := lw_g (lw_at lw_m7 139 rfl) rfl
theorem q1659 : (Jvm.Cond.methodLink "BottleLoop" (201 : Nat) ({ cls := "BottleLoop$9", name := "<init>", desc := "(LBottleLoop;III)V" } : Jvm.MethodName)) ∈ lw_all := lw_g (lw_at lw_m7 141 rfl) rfl
theorem q1677 : (Jvm.Cond.methodLink "BottleLoop" (202 : Nat) ({ cls := "BottleLoop$9", name := "done", desc := "()I" } : Jvm.MethodName)) ∈ lw_all := lw_g (lw_at lw_m7 159 rfl) rfl
theorem q1684 : (Jvm.Cond.instanceMethod ({ cls := "BottleLoop", name := "append", desc := "(I)I" } : Jvm.MethodName)) ∈ lw_all := lw_g (lw_at lw_m7 166 rfl) rfl
theorem q1685 : (Jvm.Cond.selects "BottleLoop" ({ cls := "BottleLoop", name := "append", desc := "(I)I" } : Jvm.MethodName) ({ cls := "BottleLoop", name := "append", desc := "(I)I" } : Jvm.MethodName)) ∈ lw_all := lw_g (lw_at lw_m7 167 rfl) rfl
theorem q1686 : (Jvm.Cond.code ({ cls := "BottleLoop", name := "append", desc := "(I)I" } : Jvm.MethodName) prog_1_method_34_code (2 : Nat) (Option.some Jvm.ClassFile.FieldType.int)) ∈ lw_all := lw_g (lw_at lw_m7 168 rfl) rfl
theorem q1687 : (Jvm.Cond.methodLink "BottleLoop" (206 : Nat) ({ cls := "java/lang/StringBuilder", name := "append", desc := "(C)Ljava/lang/StringBuilder;" } : Jvm.MethodName)) ∈ lw_all := lw_g (lw_at lw_m7 169 rfl) rfl
theorem q1708 : (Jvm.Cond.instanceMethod ({ cls := "BottleLoop", name := "run", desc := "()I" } : Jvm.MethodName)) ∈ lw_all := lw_g (lw_at lw_m7 190 rfl) rfl
theorem q1709 : (Jvm.Cond.selects "BottleLoop" ({ cls := "BottleLoop", name := "run", desc := "()I" } : Jvm.MethodName) ({ cls := "BottleLoop", name := "run", desc := "()I" } : Jvm.MethodName)) ∈ lw_all := lw_g (lw_at lw_m7 191 rfl) rfl
theorem q1710 : (Jvm.Cond.codeWith ({ cls := "BottleLoop", name := "run", desc := "()I" } : Jvm.MethodName) prog_1_method_38_code (5 : Nat) (Option.some Jvm.ClassFile.FieldType.int) [((30 : Nat), (62 : Nat), (73 : Nat), (236 : Nat)), ((30 : Nat), (62 : Nat), (96 : Nat), (0 : Nat)), ((73 : Nat), (85 : Nat), (96 : Nat), (0 : Nat)), ((96 : Nat), (98 : Nat), (96 : Nat), (0 : Nat))]) ∈ lw_all := lw_g (lw_at lw_m7 192 rfl) rfl
theorem q1711 : (Jvm.Cond.classLink "BottleLoop" (236 : Nat) "BottleLoop$Refused") ∈ lw_all := lw_g (lw_at lw_m7 193 rfl) rfl
theorem q1712 : (Jvm.Cond.classLink "BottleLoop" (226 : Nat) "BottleLoop$Order") ∈ lw_all := lw_g (lw_at lw_m7 194 rfl) rfl
theorem q1713 : (Jvm.Cond.methodLink "BottleLoop" (253 : Nat) ({ cls := "BottleLoop", name := "carryOut", desc := "(LBottleLoop$Order;)V" } : Jvm.MethodName)) ∈ lw_all := lw_g (lw_at lw_m7 195 rfl) rfl
theorem q1714 : (Jvm.Cond.privateMethod ({ cls := "BottleLoop", name := "carryOut", desc := "(LBottleLoop$Order;)V" } : Jvm.MethodName)) ∈ lw_tbl := lw_at lw_m7 196 rfl
theorem q1715 : (Jvm.Cond.instanceMethod ({ cls := "BottleLoop", name := "carryOut", desc := "(LBottleLoop$Order;)V" } : Jvm.MethodName)) ∈ lw_all := lw_g (lw_at lw_m7 197 rfl) rfl
theorem q1716 : (Jvm.Cond.code ({ cls := "BottleLoop", name := "carryOut", desc := "(LBottleLoop$Order;)V" } : Jvm.MethodName) prog_1_method_37_code (5 : Nat) (Option.none : Option Jvm.ClassFile.FieldType)) ∈ lw_all := lw_g (lw_at lw_m7 198 rfl) rfl
theorem q1725 : (Jvm.Cond.methodLink "BottleLoop" (238 : Nat) ({ cls := "BottleLoop$Refused", name := "<init>", desc := "(LBottleLoop$Shortage;)V" } : Jvm.MethodName)) ∈ lw_all := lw_g (lw_at lw_m7 207 rfl) rfl
theorem q1731 : (Jvm.Cond.methodLink "BottleLoop" (244 : Nat) ({ cls := "BottleLoop$Deed", name := "order", desc := "()V" } : Jvm.MethodName)) ∈ lw_all := lw_g (lw_at lw_m7 213 rfl) rfl
theorem q1746 : (Jvm.Cond.methodLink "BottleLoop" (257 : Nat) ({ cls := "BottleLoop$Refused", name := "number", desc := "()I" } : Jvm.MethodName)) ∈ lw_all := lw_g (lw_at lw_m7 228 rfl) rfl
theorem q1762 : (Jvm.Cond.instanceMethod ({ cls := "BottleLoop", name := "undo", desc := "()I" } : Jvm.MethodName)) ∈ lw_all := lw_g (lw_at lw_m8 4 rfl) rfl
theorem q1763 : (Jvm.Cond.selects "BottleLoop" ({ cls := "BottleLoop", name := "undo", desc := "()I" } : Jvm.MethodName) ({ cls := "BottleLoop", name := "undo", desc := "()I" } : Jvm.MethodName)) ∈ lw_all := lw_g (lw_at lw_m8 5 rfl) rfl
theorem q1764 : (Jvm.Cond.code ({ cls := "BottleLoop", name := "undo", desc := "()I" } : Jvm.MethodName) prog_1_method_39_code (1 : Nat) (Option.some Jvm.ClassFile.FieldType.int)) ∈ lw_all := lw_g (lw_at lw_m8 6 rfl) rfl
theorem q1765 : (Jvm.Cond.methodLink "BottleLoop" (260 : Nat) ({ cls := "java/util/ArrayList", name := "isEmpty", desc := "()Z" } : Jvm.MethodName)) ∈ lw_all := lw_g (lw_at lw_m8 7 rfl) rfl
theorem q1773 : (Jvm.Cond.instanceMethod ({ cls := "BottleLoop", name := "brand", desc := "(II)I" } : Jvm.MethodName)) ∈ lw_all := lw_g (lw_at lw_m8 15 rfl) rfl
theorem q1774 : (Jvm.Cond.selects "BottleLoop" ({ cls := "BottleLoop", name := "brand", desc := "(II)I" } : Jvm.MethodName) ({ cls := "BottleLoop", name := "brand", desc := "(II)I" } : Jvm.MethodName)) ∈ lw_all := lw_g (lw_at lw_m8 16 rfl) rfl
theorem q1775 : (Jvm.Cond.code ({ cls := "BottleLoop", name := "brand", desc := "(II)I" } : Jvm.MethodName) prog_1_method_42_code (3 : Nat) (Option.some Jvm.ClassFile.FieldType.int)) ∈ lw_all := lw_g (lw_at lw_m8 17 rfl) rfl
theorem q1780 : (Jvm.Cond.instanceMethod ({ cls := "BottleLoop", name := "shop", desc := "(II)I" } : Jvm.MethodName)) ∈ lw_all := lw_g (lw_at lw_m8 22 rfl) rfl
theorem q1781 : (Jvm.Cond.selects "BottleLoop" ({ cls := "BottleLoop", name := "shop", desc := "(II)I" } : Jvm.MethodName) ({ cls := "BottleLoop", name := "shop", desc := "(II)I" } : Jvm.MethodName)) ∈ lw_all := lw_g (lw_at lw_m8 23 rfl) rfl
theorem q1782 : (Jvm.Cond.code ({ cls := "BottleLoop", name := "shop", desc := "(II)I" } : Jvm.MethodName) prog_1_method_45_code (3 : Nat) (Option.some Jvm.ClassFile.FieldType.int)) ∈ lw_all := lw_g (lw_at lw_m8 24 rfl) rfl
theorem q1787 : (Jvm.Cond.instanceMethod ({ cls := "BottleLoop", name := "count", desc := "(I)I" } : Jvm.MethodName)) ∈ lw_all := lw_g (lw_at lw_m8 29 rfl) rfl
theorem q1788 : (Jvm.Cond.selects "BottleLoop" ({ cls := "BottleLoop", name := "count", desc := "(I)I" } : Jvm.MethodName) ({ cls := "BottleLoop", name := "count", desc := "(I)I" } : Jvm.MethodName)) ∈ lw_all := lw_g (lw_at lw_m8 30 rfl) rfl
theorem q1789 : (Jvm.Cond.code ({ cls := "BottleLoop", name := "count", desc := "(I)I" } : Jvm.MethodName) prog_1_method_48_code (2 : Nat) (Option.some Jvm.ClassFile.FieldType.int)) ∈ lw_all := lw_g (lw_at lw_m8 31 rfl) rfl
theorem q1794 : (Jvm.Cond.instanceMethod ({ cls := "BottleLoop", name := "setting", desc := "(I)I" } : Jvm.MethodName)) ∈ lw_all := lw_g (lw_at lw_m8 36 rfl) rfl
theorem q1795 : (Jvm.Cond.selects "BottleLoop" ({ cls := "BottleLoop", name := "setting", desc := "(I)I" } : Jvm.MethodName) ({ cls := "BottleLoop", name := "setting", desc := "(I)I" } : Jvm.MethodName)) ∈ lw_all := lw_g (lw_at lw_m8 37 rfl) rfl
theorem q1796 : (Jvm.Cond.code ({ cls := "BottleLoop", name := "setting", desc := "(I)I" } : Jvm.MethodName) prog_1_method_49_code (2 : Nat) (Option.some Jvm.ClassFile.FieldType.int)) ∈ lw_all := lw_g (lw_at lw_m8 38 rfl) rfl
theorem q1801 : (Jvm.Cond.instanceMethod ({ cls := "BottleLoop", name := "whyNotDeliver", desc := "(III)I" } : Jvm.MethodName)) ∈ lw_all := lw_g (lw_at lw_m8 43 rfl) rfl
theorem q1802 : (Jvm.Cond.selects "BottleLoop" ({ cls := "BottleLoop", name := "whyNotDeliver", desc := "(III)I" } : Jvm.MethodName) ({ cls := "BottleLoop", name := "whyNotDeliver", desc := "(III)I" } : Jvm.MethodName)) ∈ lw_all := lw_g (lw_at lw_m8 44 rfl) rfl
theorem q1803 : (Jvm.Cond.code ({ cls := "BottleLoop", name := "whyNotDeliver", desc := "(III)I" } : Jvm.MethodName) prog_1_method_50_code (4 : Nat) (Option.some Jvm.ClassFile.FieldType.int)) ∈ lw_all := lw_g (lw_at lw_m8 45 rfl) rfl
theorem q1804 : (Jvm.Cond.methodLink "BottleLoop" (334 : Nat) ({ cls := "BottleLoop$Deed", name := "reason", desc := "()I" } : Jvm.MethodName)) ∈ lw_all := lw_g (lw_at lw_m8 46 rfl) rfl
theorem q1809 : (Jvm.Cond.instanceMethod ({ cls := "BottleLoop", name := "whyNotCollect", desc := "(III)I" } : Jvm.MethodName)) ∈ lw_all := lw_g (lw_at lw_m8 51 rfl) rfl
theorem q1810 : (Jvm.Cond.selects "BottleLoop" ({ cls := "BottleLoop", name := "whyNotCollect", desc := "(III)I" } : Jvm.MethodName) ({ cls := "BottleLoop", name := "whyNotCollect", desc := "(III)I" } : Jvm.MethodName)) ∈ lw_all := lw_g (lw_at lw_m8 52 rfl) rfl
theorem q1811 : (Jvm.Cond.code ({ cls := "BottleLoop", name := "whyNotCollect", desc := "(III)I" } : Jvm.MethodName) prog_1_method_51_code (4 : Nat) (Option.some Jvm.ClassFile.FieldType.int)) ∈ lw_all := lw_g (lw_at lw_m8 53 rfl) rfl
theorem q1816 : (Jvm.Cond.instanceMethod ({ cls := "BottleLoop", name := "mostCrates", desc := "(II)I" } : Jvm.MethodName)) ∈ lw_all := lw_g (lw_at lw_m8 58 rfl) rfl
theorem q1817 : (Jvm.Cond.selects "BottleLoop" ({ cls := "BottleLoop", name := "mostCrates", desc := "(II)I" } : Jvm.MethodName) ({ cls := "BottleLoop", name := "mostCrates", desc := "(II)I" } : Jvm.MethodName)) ∈ lw_all := lw_g (lw_at lw_m8 59 rfl) rfl
theorem q1818 : (Jvm.Cond.code ({ cls := "BottleLoop", name := "mostCrates", desc := "(II)I" } : Jvm.MethodName) prog_1_method_53_code (3 : Nat) (Option.some Jvm.ClassFile.FieldType.int)) ∈ lw_all := lw_g (lw_at lw_m8 60 rfl) rfl
theorem q1823 : (Jvm.Cond.instanceMethod ({ cls := "BottleLoop", name := "collected", desc := "(III)I" } : Jvm.MethodName)) ∈ lw_all := lw_g (lw_at lw_m8 65 rfl) rfl
theorem q1824 : (Jvm.Cond.selects "BottleLoop" ({ cls := "BottleLoop", name := "collected", desc := "(III)I" } : Jvm.MethodName) ({ cls := "BottleLoop", name := "collected", desc := "(III)I" } : Jvm.MethodName)) ∈ lw_all := lw_g (lw_at lw_m8 66 rfl) rfl
theorem q1825 : (Jvm.Cond.code ({ cls := "BottleLoop", name := "collected", desc := "(III)I" } : Jvm.MethodName) prog_1_method_56_code (4 : Nat) (Option.some Jvm.ClassFile.FieldType.int)) ∈ lw_all := lw_g (lw_at lw_m8 67 rfl) rfl
theorem q1830 : (Jvm.Cond.instanceMethod ({ cls := "BottleLoop", name := "filled", desc := "(II)I" } : Jvm.MethodName)) ∈ lw_all := lw_g (lw_at lw_m8 72 rfl) rfl
theorem q1831 : (Jvm.Cond.selects "BottleLoop" ({ cls := "BottleLoop", name := "filled", desc := "(II)I" } : Jvm.MethodName) ({ cls := "BottleLoop", name := "filled", desc := "(II)I" } : Jvm.MethodName)) ∈ lw_all := lw_g (lw_at lw_m8 73 rfl) rfl
theorem q1832 : (Jvm.Cond.code ({ cls := "BottleLoop", name := "filled", desc := "(II)I" } : Jvm.MethodName) prog_1_method_58_code (3 : Nat) (Option.some Jvm.ClassFile.FieldType.int)) ∈ lw_all := lw_g (lw_at lw_m8 74 rfl) rfl
theorem q1837 : (Jvm.Cond.instanceMethod ({ cls := "BottleLoop", name := "bestShop", desc := "(I)I" } : Jvm.MethodName)) ∈ lw_all := lw_g (lw_at lw_m8 79 rfl) rfl
theorem q1838 : (Jvm.Cond.selects "BottleLoop" ({ cls := "BottleLoop", name := "bestShop", desc := "(I)I" } : Jvm.MethodName) ({ cls := "BottleLoop", name := "bestShop", desc := "(I)I" } : Jvm.MethodName)) ∈ lw_all := lw_g (lw_at lw_m8 80 rfl) rfl
theorem q1839 : (Jvm.Cond.code ({ cls := "BottleLoop", name := "bestShop", desc := "(I)I" } : Jvm.MethodName) prog_1_method_60_code (2 : Nat) (Option.some Jvm.ClassFile.FieldType.int)) ∈ lw_all := lw_g (lw_at lw_m8 81 rfl) rfl
theorem q2230 : (Jvm.Cond.castable "BottleLoop" "java/lang/Object") ∈ lw_tbl := lw_at lw_m9 232 rfl
theorem in_X1 : ∀ w ∈ wsX10, w ∈ lw_all := lw_in wsX10 [264, 266, 268, 270, 272] (by decide +kernel) (by decide +kernel)
/-! BottleLoop$Loop -/
set_option maxRecDepth 100000
def RX2 : String := "BottleLoop$Loop"
def TX2 : u_T := fun k => match k with
  | 0 => ("BottleLoop$Loop", "brands", "Ljava/util/ArrayList;", true)
  | 1 => ("BottleLoop$Loop", "shops", "Ljava/util/ArrayList;", true)
  | 2 => ("BottleLoop$Loop", "settings", "[I", true)
  | 3 => ("BottleLoop$Loop", "swapped", "[[I", true)
  | 4 => ("BottleLoop$Loop", "store", "I", false)
  | 5 => ("BottleLoop$Loop", "held", "I", false)
  | 6 => ("BottleLoop$Loop", "forfeited", "I", false)
  | 7 => ("BottleLoop$Loop", "pool", "I", false)
  | _ => ("BottleLoop$Loop", "ended", "I", false)
def tyX2 : Nat → FieldType := fun k => match k with
  | 0 => .object "java/util/ArrayList"
  | 1 => .object "java/util/ArrayList"
  | 2 => .array .int
  | 3 => .array (.array .int)
  | 4 => .int
  | 5 => .int
  | 6 => .int
  | 7 => .int
  | _ => .int
abbrev wsX20 : List Cond := u_ws RX2 TX2 9
theorem nmX2 : ∀ a, a < 9 → ∀ b, b < 9 → a ≠ b → (TX2 a).2.1 ≠ (TX2 b).2.1 := by decide +kernel
theorem tyX2_ok : ∀ k, k < 9 → parseFieldDescriptor (TX2 k).2.2.1 = some (tyX2 k) := by decide +kernel
abbrev cX2_init : ByteArray := prog_13_method_1_code
def yX2_init : MethodName := ⟨RX2, "<init>", "()V"⟩
def dkwX2_init_3 : List UInt8 := [197, 0, 25, 2, 181, 0, 27, 177]
abbrev dktX2_init_3 : List UInt8 := dkwX2_init_3 ++ []
def dkwX2_init_2 : List UInt8 := [6, 17, 0, 150, 79, 89, 7, 16, 6, 79, 89, 8, 16, 20, 79, 181, 0, 21, 42, 16, 8, 16, 8]
abbrev dktX2_init_2 : List UInt8 := dkwX2_init_2 ++ dktX2_init_3
def dkwX2_init_1 : List UInt8 := [181, 0, 18, 42, 16, 6, 188, 10, 89, 3, 16, 8, 79, 89, 4, 16, 15, 79, 89, 5, 16, 25, 79, 89]
abbrev dktX2_init_1 : List UInt8 := dkwX2_init_1 ++ dktX2_init_2
def dkwX2_init_0 : List UInt8 := [42, 183, 0, 3, 42, 187, 0, 9, 89, 183, 0, 11, 181, 0, 12, 42, 187, 0, 9, 89, 183, 0, 11]
abbrev dktX2_init_0 : List UInt8 := dkwX2_init_0 ++ dktX2_init_1
theorem dksX2_init_0 : cX2_init.data.toList.drop 0 = dktX2_init_0 := by decide +kernel
theorem dksX2_init_1 : cX2_init.data.toList.drop 23 = dktX2_init_1 := dk_seg dksX2_init_0 23 rfl rfl
theorem dksX2_init_2 : cX2_init.data.toList.drop 47 = dktX2_init_2 := dk_seg dksX2_init_1 24 rfl rfl
theorem dksX2_init_3 : cX2_init.data.toList.drop 70 = dktX2_init_3 := dk_seg dksX2_init_2 23 rfl rfl
theorem dX2_init_0 : decode cX2_init 0 = .ok (.aload_n 0, 1) := dk_42 (dk_at dksX2_init_0 0 rfl rfl)
theorem dX2_init_1 : decode cX2_init 1 = .ok (.invokespecial 3, 3) := dk_183 0 3 (dk_at dksX2_init_0 1 rfl rfl)
theorem dX2_init_4 : decode cX2_init 4 = .ok (.aload_n 0, 1) := dk_42 (dk_at dksX2_init_0 4 rfl rfl)
theorem dX2_init_5 : decode cX2_init 5 = .ok (.new 9, 3) := dk_187 0 9 (dk_at dksX2_init_0 5 rfl rfl)
theorem dX2_init_8 : decode cX2_init 8 = .ok (.dup, 1) := dk_89 (dk_at dksX2_init_0 8 rfl rfl)
theorem dX2_init_9 : decode cX2_init 9 = .ok (.invokespecial 11, 3) := dk_183 0 11 (dk_at dksX2_init_0 9 rfl rfl)
theorem dX2_init_12 : decode cX2_init 12 = .ok (.putfield 12, 3) := dk_181 0 12 (dk_at dksX2_init_0 12 rfl rfl)
theorem dX2_init_15 : decode cX2_init 15 = .ok (.aload_n 0, 1) := dk_42 (dk_at dksX2_init_0 15 rfl rfl)
theorem dX2_init_16 : decode cX2_init 16 = .ok (.new 9, 3) := dk_187 0 9 (dk_at dksX2_init_0 16 rfl rfl)
theorem dX2_init_19 : decode cX2_init 19 = .ok (.dup, 1) := dk_89 (dk_at dksX2_init_0 19 rfl rfl)
theorem dX2_init_20 : decode cX2_init 20 = .ok (.invokespecial 11, 3) := dk_183 0 11 (dk_at dksX2_init_0 20 rfl rfl)
theorem dX2_init_23 : decode cX2_init 23 = .ok (.putfield 18, 3) := dk_181 0 18 (dk_at dksX2_init_1 0 rfl rfl)
theorem dX2_init_26 : decode cX2_init 26 = .ok (.aload_n 0, 1) := dk_42 (dk_at dksX2_init_1 3 rfl rfl)
theorem dX2_init_27 : decode cX2_init 27 = .ok (.bipush 6, 2) := dk_16 6 (dk_at dksX2_init_1 4 rfl rfl)
theorem dX2_init_29 : decode cX2_init 29 = .ok (.newarray .int, 2) := dk_188_10 (dk_at dksX2_init_1 6 rfl rfl)
theorem dX2_init_31 : decode cX2_init 31 = .ok (.dup, 1) := dk_89 (dk_at dksX2_init_1 8 rfl rfl)
theorem dX2_init_32 : decode cX2_init 32 = .ok (.iconst 0, 1) := dk_3 (dk_at dksX2_init_1 9 rfl rfl)
theorem dX2_init_33 : decode cX2_init 33 = .ok (.bipush 8, 2) := dk_16 8 (dk_at dksX2_init_1 10 rfl rfl)
theorem dX2_init_35 : decode cX2_init 35 = .ok (.iastore, 1) := dk_79 (dk_at dksX2_init_1 12 rfl rfl)
theorem dX2_init_36 : decode cX2_init 36 = .ok (.dup, 1) := dk_89 (dk_at dksX2_init_1 13 rfl rfl)
theorem dX2_init_37 : decode cX2_init 37 = .ok (.iconst 1, 1) := dk_4 (dk_at dksX2_init_1 14 rfl rfl)
theorem dX2_init_38 : decode cX2_init 38 = .ok (.bipush 15, 2) := dk_16 15 (dk_at dksX2_init_1 15 rfl rfl)
theorem dX2_init_40 : decode cX2_init 40 = .ok (.iastore, 1) := dk_79 (dk_at dksX2_init_1 17 rfl rfl)
theorem dX2_init_41 : decode cX2_init 41 = .ok (.dup, 1) := dk_89 (dk_at dksX2_init_1 18 rfl rfl)
theorem dX2_init_42 : decode cX2_init 42 = .ok (.iconst 2, 1) := dk_5 (dk_at dksX2_init_1 19 rfl rfl)
theorem dX2_init_43 : decode cX2_init 43 = .ok (.bipush 25, 2) := dk_16 25 (dk_at dksX2_init_1 20 rfl rfl)
theorem dX2_init_45 : decode cX2_init 45 = .ok (.iastore, 1) := dk_79 (dk_at dksX2_init_1 22 rfl rfl)
theorem dX2_init_46 : decode cX2_init 46 = .ok (.dup, 1) := dk_89 (dk_at dksX2_init_1 23 rfl rfl)
theorem dX2_init_47 : decode cX2_init 47 = .ok (.iconst 3, 1) := dk_6 (dk_at dksX2_init_2 0 rfl rfl)
theorem dX2_init_48 : decode cX2_init 48 = .ok (.sipush 150, 3) := dk_17 0 150 (dk_at dksX2_init_2 1 rfl rfl)
theorem dX2_init_51 : decode cX2_init 51 = .ok (.iastore, 1) := dk_79 (dk_at dksX2_init_2 4 rfl rfl)
theorem dX2_init_52 : decode cX2_init 52 = .ok (.dup, 1) := dk_89 (dk_at dksX2_init_2 5 rfl rfl)
theorem dX2_init_53 : decode cX2_init 53 = .ok (.iconst 4, 1) := dk_7 (dk_at dksX2_init_2 6 rfl rfl)
theorem dX2_init_54 : decode cX2_init 54 = .ok (.bipush 6, 2) := dk_16 6 (dk_at dksX2_init_2 7 rfl rfl)
theorem dX2_init_56 : decode cX2_init 56 = .ok (.iastore, 1) := dk_79 (dk_at dksX2_init_2 9 rfl rfl)
theorem dX2_init_57 : decode cX2_init 57 = .ok (.dup, 1) := dk_89 (dk_at dksX2_init_2 10 rfl rfl)
theorem dX2_init_58 : decode cX2_init 58 = .ok (.iconst 5, 1) := dk_8 (dk_at dksX2_init_2 11 rfl rfl)
theorem dX2_init_59 : decode cX2_init 59 = .ok (.bipush 20, 2) := dk_16 20 (dk_at dksX2_init_2 12 rfl rfl)
theorem dX2_init_61 : decode cX2_init 61 = .ok (.iastore, 1) := dk_79 (dk_at dksX2_init_2 14 rfl rfl)
theorem dX2_init_62 : decode cX2_init 62 = .ok (.putfield 21, 3) := dk_181 0 21 (dk_at dksX2_init_2 15 rfl rfl)
theorem dX2_init_65 : decode cX2_init 65 = .ok (.aload_n 0, 1) := dk_42 (dk_at dksX2_init_2 18 rfl rfl)
theorem dX2_init_66 : decode cX2_init 66 = .ok (.bipush 8, 2) := dk_16 8 (dk_at dksX2_init_2 19 rfl rfl)
theorem dX2_init_68 : decode cX2_init 68 = .ok (.bipush 8, 2) := dk_16 8 (dk_at dksX2_init_2 21 rfl rfl)
theorem dX2_init_70 : decode cX2_init 70 = .ok (.multianewarray 25 2, 4) := by decide +kernel
theorem dX2_init_74 : decode cX2_init 74 = .ok (.putfield 27, 3) := dk_181 0 27 (dk_at dksX2_init_3 4 rfl rfl)
theorem dX2_init_77 : decode cX2_init 77 = .ok (.return_, 1) := dk_177 (dk_at dksX2_init_3 7 rfl rfl)
abbrev cX2_wornBy : ByteArray := prog_13_method_4_code
def yX2_wornBy : MethodName := ⟨RX2, "wornBy", "(LBottleLoop$Brand;I)I"⟩
def dkwX2_wornBy_1 : List UInt8 := [100, 172]
abbrev dktX2_wornBy_1 : List UInt8 := dkwX2_wornBy_1 ++ []
def dkwX2_wornBy_0 : List UInt8 := [43, 180, 0, 79, 28, 96, 42, 180, 0, 21, 8, 46, 108, 43, 180, 0, 79, 42, 180, 0, 21, 8, 46, 108]
abbrev dktX2_wornBy_0 : List UInt8 := dkwX2_wornBy_0 ++ dktX2_wornBy_1
theorem dksX2_wornBy_0 : cX2_wornBy.data.toList.drop 0 = dktX2_wornBy_0 := by decide +kernel
theorem dksX2_wornBy_1 : cX2_wornBy.data.toList.drop 24 = dktX2_wornBy_1 := dk_seg dksX2_wornBy_0 24 rfl rfl
theorem dX2_wornBy_0 : decode cX2_wornBy 0 = .ok (.aload_n 1, 1) := dk_43 (dk_at dksX2_wornBy_0 0 rfl rfl)
theorem dX2_wornBy_1 : decode cX2_wornBy 1 = .ok (.getfield 79, 3) := dk_180 0 79 (dk_at dksX2_wornBy_0 1 rfl rfl)
theorem dX2_wornBy_4 : decode cX2_wornBy 4 = .ok (.iload_n 2, 1) := dk_28 (dk_at dksX2_wornBy_0 4 rfl rfl)
theorem dX2_wornBy_5 : decode cX2_wornBy 5 = .ok (.iadd, 1) := dk_96 (dk_at dksX2_wornBy_0 5 rfl rfl)
theorem dX2_wornBy_6 : decode cX2_wornBy 6 = .ok (.aload_n 0, 1) := dk_42 (dk_at dksX2_wornBy_0 6 rfl rfl)
theorem dX2_wornBy_7 : decode cX2_wornBy 7 = .ok (.getfield 21, 3) := dk_180 0 21 (dk_at dksX2_wornBy_0 7 rfl rfl)
theorem dX2_wornBy_10 : decode cX2_wornBy 10 = .ok (.iconst 5, 1) := dk_8 (dk_at dksX2_wornBy_0 10 rfl rfl)
theorem dX2_wornBy_11 : decode cX2_wornBy 11 = .ok (.iaload, 1) := dk_46 (dk_at dksX2_wornBy_0 11 rfl rfl)
theorem dX2_wornBy_12 : decode cX2_wornBy 12 = .ok (.idiv, 1) := dk_108 (dk_at dksX2_wornBy_0 12 rfl rfl)
theorem dX2_wornBy_13 : decode cX2_wornBy 13 = .ok (.aload_n 1, 1) := dk_43 (dk_at dksX2_wornBy_0 13 rfl rfl)
theorem dX2_wornBy_14 : decode cX2_wornBy 14 = .ok (.getfield 79, 3) := dk_180 0 79 (dk_at dksX2_wornBy_0 14 rfl rfl)
theorem dX2_wornBy_17 : decode cX2_wornBy 17 = .ok (.aload_n 0, 1) := dk_42 (dk_at dksX2_wornBy_0 17 rfl rfl)
theorem dX2_wornBy_18 : decode cX2_wornBy 18 = .ok (.getfield 21, 3) := dk_180 0 21 (dk_at dksX2_wornBy_0 18 rfl rfl)
theorem dX2_wornBy_21 : decode cX2_wornBy 21 = .ok (.iconst 5, 1) := dk_8 (dk_at dksX2_wornBy_0 21 rfl rfl)
theorem dX2_wornBy_22 : decode cX2_wornBy 22 = .ok (.iaload, 1) := dk_46 (dk_at dksX2_wornBy_0 22 rfl rfl)
theorem dX2_wornBy_23 : decode cX2_wornBy 23 = .ok (.idiv, 1) := dk_108 (dk_at dksX2_wornBy_0 23 rfl rfl)
theorem dX2_wornBy_24 : decode cX2_wornBy 24 = .ok (.isub, 1) := dk_100 (dk_at dksX2_wornBy_1 0 rfl rfl)
theorem dX2_wornBy_25 : decode cX2_wornBy 25 = .ok (.ireturn, 1) := dk_172 (dk_at dksX2_wornBy_1 1 rfl rfl)
abbrev cX2_priceOf : ByteArray := prog_13_method_8_code
def yX2_priceOf : MethodName := ⟨RX2, "priceOf", "(LBottleLoop$Brand;I)I"⟩
def dkwX2_priceOf_0 : List UInt8 := [42, 43, 28, 182, 0, 103, 28, 42, 180, 0, 21, 7, 46, 104, 96, 172]
abbrev dktX2_priceOf_0 : List UInt8 := dkwX2_priceOf_0 ++ []
theorem dksX2_priceOf_0 : cX2_priceOf.data.toList.drop 0 = dktX2_priceOf_0 := by decide +kernel
theorem dX2_priceOf_0 : decode cX2_priceOf 0 = .ok (.aload_n 0, 1) := dk_42 (dk_at dksX2_priceOf_0 0 rfl rfl)
theorem dX2_priceOf_1 : decode cX2_priceOf 1 = .ok (.aload_n 1, 1) := dk_43 (dk_at dksX2_priceOf_0 1 rfl rfl)
theorem dX2_priceOf_2 : decode cX2_priceOf 2 = .ok (.iload_n 2, 1) := dk_28 (dk_at dksX2_priceOf_0 2 rfl rfl)
theorem dX2_priceOf_3 : decode cX2_priceOf 3 = .ok (.invokevirtual 103, 3) := dk_182 0 103 (dk_at dksX2_priceOf_0 3 rfl rfl)
theorem dX2_priceOf_6 : decode cX2_priceOf 6 = .ok (.iload_n 2, 1) := dk_28 (dk_at dksX2_priceOf_0 6 rfl rfl)
theorem dX2_priceOf_7 : decode cX2_priceOf 7 = .ok (.aload_n 0, 1) := dk_42 (dk_at dksX2_priceOf_0 7 rfl rfl)
theorem dX2_priceOf_8 : decode cX2_priceOf 8 = .ok (.getfield 21, 3) := dk_180 0 21 (dk_at dksX2_priceOf_0 8 rfl rfl)
theorem dX2_priceOf_11 : decode cX2_priceOf 11 = .ok (.iconst 4, 1) := dk_7 (dk_at dksX2_priceOf_0 11 rfl rfl)
theorem dX2_priceOf_12 : decode cX2_priceOf 12 = .ok (.iaload, 1) := dk_46 (dk_at dksX2_priceOf_0 12 rfl rfl)
theorem dX2_priceOf_13 : decode cX2_priceOf 13 = .ok (.imul, 1) := dk_104 (dk_at dksX2_priceOf_0 13 rfl rfl)
theorem dX2_priceOf_14 : decode cX2_priceOf 14 = .ok (.iadd, 1) := dk_96 (dk_at dksX2_priceOf_0 14 rfl rfl)
theorem dX2_priceOf_15 : decode cX2_priceOf 15 = .ok (.ireturn, 1) := dk_172 (dk_at dksX2_priceOf_0 15 rfl rfl)
abbrev cX2_depositsOf : ByteArray := prog_13_method_7_code
def yX2_depositsOf : MethodName := ⟨RX2, "depositsOf", "(LBottleLoop$Brand;I)I"⟩
def dkwX2_depositsOf_0 : List UInt8 := [28, 16, 12, 42, 43, 182, 0, 99, 104, 42, 180, 0, 21, 6, 46, 96, 104, 172]
abbrev dktX2_depositsOf_0 : List UInt8 := dkwX2_depositsOf_0 ++ []
theorem dksX2_depositsOf_0 : cX2_depositsOf.data.toList.drop 0 = dktX2_depositsOf_0 := by decide +kernel
theorem dX2_depositsOf_0 : decode cX2_depositsOf 0 = .ok (.iload_n 2, 1) := dk_28 (dk_at dksX2_depositsOf_0 0 rfl rfl)
theorem dX2_depositsOf_1 : decode cX2_depositsOf 1 = .ok (.bipush 12, 2) := dk_16 12 (dk_at dksX2_depositsOf_0 1 rfl rfl)
theorem dX2_depositsOf_3 : decode cX2_depositsOf 3 = .ok (.aload_n 0, 1) := dk_42 (dk_at dksX2_depositsOf_0 3 rfl rfl)
theorem dX2_depositsOf_4 : decode cX2_depositsOf 4 = .ok (.aload_n 1, 1) := dk_43 (dk_at dksX2_depositsOf_0 4 rfl rfl)
theorem dX2_depositsOf_5 : decode cX2_depositsOf 5 = .ok (.invokevirtual 99, 3) := dk_182 0 99 (dk_at dksX2_depositsOf_0 5 rfl rfl)
theorem dX2_depositsOf_8 : decode cX2_depositsOf 8 = .ok (.imul, 1) := dk_104 (dk_at dksX2_depositsOf_0 8 rfl rfl)
theorem dX2_depositsOf_9 : decode cX2_depositsOf 9 = .ok (.aload_n 0, 1) := dk_42 (dk_at dksX2_depositsOf_0 9 rfl rfl)
theorem dX2_depositsOf_10 : decode cX2_depositsOf 10 = .ok (.getfield 21, 3) := dk_180 0 21 (dk_at dksX2_depositsOf_0 10 rfl rfl)
theorem dX2_depositsOf_13 : decode cX2_depositsOf 13 = .ok (.iconst 3, 1) := dk_6 (dk_at dksX2_depositsOf_0 13 rfl rfl)
theorem dX2_depositsOf_14 : decode cX2_depositsOf 14 = .ok (.iaload, 1) := dk_46 (dk_at dksX2_depositsOf_0 14 rfl rfl)
theorem dX2_depositsOf_15 : decode cX2_depositsOf 15 = .ok (.iadd, 1) := dk_96 (dk_at dksX2_depositsOf_0 15 rfl rfl)
theorem dX2_depositsOf_16 : decode cX2_depositsOf 16 = .ok (.imul, 1) := dk_104 (dk_at dksX2_depositsOf_0 16 rfl rfl)
theorem dX2_depositsOf_17 : decode cX2_depositsOf 17 = .ok (.ireturn, 1) := dk_172 (dk_at dksX2_depositsOf_0 17 rfl rfl)
abbrev cX2_deposit : ByteArray := prog_13_method_3_code
def yX2_deposit : MethodName := ⟨RX2, "deposit", "(LBottleLoop$Brand;)I"⟩
def dkwX2_deposit_0 : List UInt8 := [42, 180, 0, 21, 43, 180, 0, 76, 46, 172]
abbrev dktX2_deposit_0 : List UInt8 := dkwX2_deposit_0 ++ []
theorem dksX2_deposit_0 : cX2_deposit.data.toList.drop 0 = dktX2_deposit_0 := by decide +kernel
theorem dX2_deposit_0 : decode cX2_deposit 0 = .ok (.aload_n 0, 1) := dk_42 (dk_at dksX2_deposit_0 0 rfl rfl)
theorem dX2_deposit_1 : decode cX2_deposit 1 = .ok (.getfield 21, 3) := dk_180 0 21 (dk_at dksX2_deposit_0 1 rfl rfl)
theorem dX2_deposit_4 : decode cX2_deposit 4 = .ok (.aload_n 1, 1) := dk_43 (dk_at dksX2_deposit_0 4 rfl rfl)
theorem dX2_deposit_5 : decode cX2_deposit 5 = .ok (.getfield 76, 3) := dk_180 0 76 (dk_at dksX2_deposit_0 5 rfl rfl)
theorem dX2_deposit_8 : decode cX2_deposit 8 = .ok (.iaload, 1) := dk_46 (dk_at dksX2_deposit_0 8 rfl rfl)
theorem dX2_deposit_9 : decode cX2_deposit 9 = .ok (.ireturn, 1) := dk_172 (dk_at dksX2_deposit_0 9 rfl rfl)
abbrev cX2_emptyOf : ByteArray := prog_13_method_19_code
def yX2_emptyOf : MethodName := ⟨RX2, "emptyOf", "(LBottleLoop$Shop;I)I"⟩
def dkwX2_emptyOf_2 : List UInt8 := [96, 62, 132, 4, 1, 167, 255, 208, 29, 172]
abbrev dktX2_emptyOf_2 : List UInt8 := dkwX2_emptyOf_2 ++ []
def dkwX2_emptyOf_1 : List UInt8 := [182, 0, 35, 192, 0, 39, 180, 0, 76, 28, 160, 0, 13, 43, 180, 0, 135, 21, 4, 46, 167, 0, 4, 3]
abbrev dktX2_emptyOf_1 : List UInt8 := dkwX2_emptyOf_1 ++ dktX2_emptyOf_2
def dkwX2_emptyOf_0 : List UInt8 := [3, 62, 3, 54, 4, 21, 4, 42, 180, 0, 12, 182, 0, 31, 162, 0, 42, 29, 42, 180, 0, 12, 21, 4]
abbrev dktX2_emptyOf_0 : List UInt8 := dkwX2_emptyOf_0 ++ dktX2_emptyOf_1
theorem dksX2_emptyOf_0 : cX2_emptyOf.data.toList.drop 0 = dktX2_emptyOf_0 := by decide +kernel
theorem dksX2_emptyOf_1 : cX2_emptyOf.data.toList.drop 24 = dktX2_emptyOf_1 := dk_seg dksX2_emptyOf_0 24 rfl rfl
theorem dksX2_emptyOf_2 : cX2_emptyOf.data.toList.drop 48 = dktX2_emptyOf_2 := dk_seg dksX2_emptyOf_1 24 rfl rfl
theorem dX2_emptyOf_0 : decode cX2_emptyOf 0 = .ok (.iconst 0, 1) := dk_3 (dk_at dksX2_emptyOf_0 0 rfl rfl)
theorem dX2_emptyOf_1 : decode cX2_emptyOf 1 = .ok (.istore_n 3, 1) := dk_62 (dk_at dksX2_emptyOf_0 1 rfl rfl)
theorem dX2_emptyOf_2 : decode cX2_emptyOf 2 = .ok (.iconst 0, 1) := dk_3 (dk_at dksX2_emptyOf_0 2 rfl rfl)
theorem dX2_emptyOf_3 : decode cX2_emptyOf 3 = .ok (.istore 4, 2) := dk_54 4 (dk_at dksX2_emptyOf_0 3 rfl rfl)
theorem dX2_emptyOf_5 : decode cX2_emptyOf 5 = .ok (.iload 4, 2) := dk_21 4 (dk_at dksX2_emptyOf_0 5 rfl rfl)
theorem dX2_emptyOf_7 : decode cX2_emptyOf 7 = .ok (.aload_n 0, 1) := dk_42 (dk_at dksX2_emptyOf_0 7 rfl rfl)
theorem dX2_emptyOf_8 : decode cX2_emptyOf 8 = .ok (.getfield 12, 3) := dk_180 0 12 (dk_at dksX2_emptyOf_0 8 rfl rfl)
theorem dX2_emptyOf_11 : decode cX2_emptyOf 11 = .ok (.invokevirtual 31, 3) := dk_182 0 31 (dk_at dksX2_emptyOf_0 11 rfl rfl)
theorem dX2_emptyOf_14 : decode cX2_emptyOf 14 = .ok (.if_icmp .ge 42, 3) := dk_162 0 42 (dk_at dksX2_emptyOf_0 14 rfl rfl)
theorem dX2_emptyOf_17 : decode cX2_emptyOf 17 = .ok (.iload_n 3, 1) := dk_29 (dk_at dksX2_emptyOf_0 17 rfl rfl)
theorem dX2_emptyOf_18 : decode cX2_emptyOf 18 = .ok (.aload_n 0, 1) := dk_42 (dk_at dksX2_emptyOf_0 18 rfl rfl)
theorem dX2_emptyOf_19 : decode cX2_emptyOf 19 = .ok (.getfield 12, 3) := dk_180 0 12 (dk_at dksX2_emptyOf_0 19 rfl rfl)
theorem dX2_emptyOf_22 : decode cX2_emptyOf 22 = .ok (.iload 4, 2) := dk_21 4 (dk_at dksX2_emptyOf_0 22 rfl rfl)
theorem dX2_emptyOf_24 : decode cX2_emptyOf 24 = .ok (.invokevirtual 35, 3) := dk_182 0 35 (dk_at dksX2_emptyOf_1 0 rfl rfl)
theorem dX2_emptyOf_27 : decode cX2_emptyOf 27 = .ok (.checkcast 39, 3) := dk_192 0 39 (dk_at dksX2_emptyOf_1 3 rfl rfl)
theorem dX2_emptyOf_30 : decode cX2_emptyOf 30 = .ok (.getfield 76, 3) := dk_180 0 76 (dk_at dksX2_emptyOf_1 6 rfl rfl)
theorem dX2_emptyOf_33 : decode cX2_emptyOf 33 = .ok (.iload_n 2, 1) := dk_28 (dk_at dksX2_emptyOf_1 9 rfl rfl)
theorem dX2_emptyOf_34 : decode cX2_emptyOf 34 = .ok (.if_icmp .ne 13, 3) := dk_160 0 13 (dk_at dksX2_emptyOf_1 10 rfl rfl)
theorem dX2_emptyOf_37 : decode cX2_emptyOf 37 = .ok (.aload_n 1, 1) := dk_43 (dk_at dksX2_emptyOf_1 13 rfl rfl)
theorem dX2_emptyOf_38 : decode cX2_emptyOf 38 = .ok (.getfield 135, 3) := dk_180 0 135 (dk_at dksX2_emptyOf_1 14 rfl rfl)
theorem dX2_emptyOf_41 : decode cX2_emptyOf 41 = .ok (.iload 4, 2) := dk_21 4 (dk_at dksX2_emptyOf_1 17 rfl rfl)
theorem dX2_emptyOf_43 : decode cX2_emptyOf 43 = .ok (.iaload, 1) := dk_46 (dk_at dksX2_emptyOf_1 19 rfl rfl)
theorem dX2_emptyOf_44 : decode cX2_emptyOf 44 = .ok (.goto 4, 3) := dk_167 0 4 (dk_at dksX2_emptyOf_1 20 rfl rfl)
theorem dX2_emptyOf_47 : decode cX2_emptyOf 47 = .ok (.iconst 0, 1) := dk_3 (dk_at dksX2_emptyOf_1 23 rfl rfl)
theorem dX2_emptyOf_48 : decode cX2_emptyOf 48 = .ok (.iadd, 1) := dk_96 (dk_at dksX2_emptyOf_2 0 rfl rfl)
theorem dX2_emptyOf_49 : decode cX2_emptyOf 49 = .ok (.istore_n 3, 1) := dk_62 (dk_at dksX2_emptyOf_2 1 rfl rfl)
theorem dX2_emptyOf_50 : decode cX2_emptyOf 50 = .ok (.iinc 4 1, 3) := dk_132 4 1 (dk_at dksX2_emptyOf_2 2 rfl rfl)
theorem dX2_emptyOf_53 : decode cX2_emptyOf 53 = .ok (.goto (-48), 3) := dk_167 255 208 (dk_at dksX2_emptyOf_2 5 rfl rfl)
theorem dX2_emptyOf_56 : decode cX2_emptyOf 56 = .ok (.iload_n 3, 1) := dk_29 (dk_at dksX2_emptyOf_2 8 rfl rfl)
theorem dX2_emptyOf_57 : decode cX2_emptyOf 57 = .ok (.ireturn, 1) := dk_172 (dk_at dksX2_emptyOf_2 9 rfl rfl)
abbrev cX2_layCollected : ByteArray := prog_13_method_21_code
def yX2_layCollected : MethodName := ⟨RX2, "layCollected", "(LBottleLoop$Shop;II[I)V"⟩
def dkwX2_layCollected_6 : List UInt8 := [46, 4, 96, 79, 132, 5, 1, 167, 255, 136, 177]
abbrev dktX2_layCollected_6 : List UInt8 := dkwX2_layCollected_6 ++ []
def dkwX2_layCollected_5 : List UInt8 := [100, 164, 0, 8, 21, 7, 167, 0, 5, 21, 6, 54, 6, 132, 7, 1, 167, 255, 166, 25, 4, 21, 6, 92]
abbrev dktX2_layCollected_5 : List UInt8 := dkwX2_layCollected_5 ++ dktX2_layCollected_6
def dkwX2_layCollected_4 : List UInt8 := [180, 0, 135, 21, 7, 46, 25, 4, 21, 7, 46, 100, 43, 180, 0, 135, 21, 6, 46, 25, 4, 21, 6, 46]
abbrev dktX2_layCollected_4 : List UInt8 := dkwX2_layCollected_4 ++ dktX2_layCollected_5
def dkwX2_layCollected_3 : List UInt8 := [160, 0, 7, 4, 167, 0, 4, 3, 54, 8, 21, 8, 153, 0, 43, 21, 6, 2, 159, 0, 32, 43]
abbrev dktX2_layCollected_3 : List UInt8 := dkwX2_layCollected_3 ++ dktX2_layCollected_4
def dkwX2_layCollected_2 : List UInt8 := [182, 0, 31, 162, 0, 84, 42, 180, 0, 12, 21, 7, 182, 0, 35, 192, 0, 39, 180, 0, 76, 28]
abbrev dktX2_layCollected_2 : List UInt8 := dkwX2_layCollected_2 ++ dktX2_layCollected_3
def dkwX2_layCollected_1 : List UInt8 := [54, 5, 21, 5, 16, 12, 29, 104, 162, 0, 117, 2, 54, 6, 3, 54, 7, 21, 7, 42, 180, 0, 12]
abbrev dktX2_layCollected_1 : List UInt8 := dkwX2_layCollected_1 ++ dktX2_layCollected_2
def dkwX2_layCollected_0 : List UInt8 := [3, 54, 5, 21, 5, 16, 8, 162, 0, 15, 25, 4, 21, 5, 3, 79, 132, 5, 1, 167, 255, 240, 3]
abbrev dktX2_layCollected_0 : List UInt8 := dkwX2_layCollected_0 ++ dktX2_layCollected_1
theorem dksX2_layCollected_0 : cX2_layCollected.data.toList.drop 0 = dktX2_layCollected_0 := by decide +kernel
theorem dksX2_layCollected_1 : cX2_layCollected.data.toList.drop 23 = dktX2_layCollected_1 := dk_seg dksX2_layCollected_0 23 rfl rfl
theorem dksX2_layCollected_2 : cX2_layCollected.data.toList.drop 46 = dktX2_layCollected_2 := dk_seg dksX2_layCollected_1 23 rfl rfl
theorem dksX2_layCollected_3 : cX2_layCollected.data.toList.drop 68 = dktX2_layCollected_3 := dk_seg dksX2_layCollected_2 22 rfl rfl
theorem dksX2_layCollected_4 : cX2_layCollected.data.toList.drop 90 = dktX2_layCollected_4 := dk_seg dksX2_layCollected_3 22 rfl rfl
theorem dksX2_layCollected_5 : cX2_layCollected.data.toList.drop 114 = dktX2_layCollected_5 := dk_seg dksX2_layCollected_4 24 rfl rfl
theorem dksX2_layCollected_6 : cX2_layCollected.data.toList.drop 138 = dktX2_layCollected_6 := dk_seg dksX2_layCollected_5 24 rfl rfl
theorem dX2_layCollected_0 : decode cX2_layCollected 0 = .ok (.iconst 0, 1) := dk_3 (dk_at dksX2_layCollected_0 0 rfl rfl)
theorem dX2_layCollected_1 : decode cX2_layCollected 1 = .ok (.istore 5, 2) := dk_54 5 (dk_at dksX2_layCollected_0 1 rfl rfl)
theorem dX2_layCollected_3 : decode cX2_layCollected 3 = .ok (.iload 5, 2) := dk_21 5 (dk_at dksX2_layCollected_0 3 rfl rfl)
theorem dX2_layCollected_5 : decode cX2_layCollected 5 = .ok (.bipush 8, 2) := dk_16 8 (dk_at dksX2_layCollected_0 5 rfl rfl)
theorem dX2_layCollected_7 : decode cX2_layCollected 7 = .ok (.if_icmp .ge 15, 3) := dk_162 0 15 (dk_at dksX2_layCollected_0 7 rfl rfl)
theorem dX2_layCollected_10 : decode cX2_layCollected 10 = .ok (.aload 4, 2) := dk_25 4 (dk_at dksX2_layCollected_0 10 rfl rfl)
theorem dX2_layCollected_12 : decode cX2_layCollected 12 = .ok (.iload 5, 2) := dk_21 5 (dk_at dksX2_layCollected_0 12 rfl rfl)
theorem dX2_layCollected_14 : decode cX2_layCollected 14 = .ok (.iconst 0, 1) := dk_3 (dk_at dksX2_layCollected_0 14 rfl rfl)
theorem dX2_layCollected_15 : decode cX2_layCollected 15 = .ok (.iastore, 1) := dk_79 (dk_at dksX2_layCollected_0 15 rfl rfl)
theorem dX2_layCollected_16 : decode cX2_layCollected 16 = .ok (.iinc 5 1, 3) := dk_132 5 1 (dk_at dksX2_layCollected_0 16 rfl rfl)
theorem dX2_layCollected_19 : decode cX2_layCollected 19 = .ok (.goto (-16), 3) := dk_167 255 240 (dk_at dksX2_layCollected_0 19 rfl rfl)
theorem dX2_layCollected_22 : decode cX2_layCollected 22 = .ok (.iconst 0, 1) := dk_3 (dk_at dksX2_layCollected_0 22 rfl rfl)
theorem dX2_layCollected_23 : decode cX2_layCollected 23 = .ok (.istore 5, 2) := dk_54 5 (dk_at dksX2_layCollected_1 0 rfl rfl)
theorem dX2_layCollected_25 : decode cX2_layCollected 25 = .ok (.iload 5, 2) := dk_21 5 (dk_at dksX2_layCollected_1 2 rfl rfl)
theorem dX2_layCollected_27 : decode cX2_layCollected 27 = .ok (.bipush 12, 2) := dk_16 12 (dk_at dksX2_layCollected_1 4 rfl rfl)
theorem dX2_layCollected_29 : decode cX2_layCollected 29 = .ok (.iload_n 3, 1) := dk_29 (dk_at dksX2_layCollected_1 6 rfl rfl)
theorem dX2_layCollected_30 : decode cX2_layCollected 30 = .ok (.imul, 1) := dk_104 (dk_at dksX2_layCollected_1 7 rfl rfl)
theorem dX2_layCollected_31 : decode cX2_layCollected 31 = .ok (.if_icmp .ge 117, 3) := dk_162 0 117 (dk_at dksX2_layCollected_1 8 rfl rfl)
theorem dX2_layCollected_34 : decode cX2_layCollected 34 = .ok (.iconst (-1), 1) := dk_2 (dk_at dksX2_layCollected_1 11 rfl rfl)
theorem dX2_layCollected_35 : decode cX2_layCollected 35 = .ok (.istore 6, 2) := dk_54 6 (dk_at dksX2_layCollected_1 12 rfl rfl)
theorem dX2_layCollected_37 : decode cX2_layCollected 37 = .ok (.iconst 0, 1) := dk_3 (dk_at dksX2_layCollected_1 14 rfl rfl)
theorem dX2_layCollected_38 : decode cX2_layCollected 38 = .ok (.istore 7, 2) := dk_54 7 (dk_at dksX2_layCollected_1 15 rfl rfl)
theorem dX2_layCollected_40 : decode cX2_layCollected 40 = .ok (.iload 7, 2) := dk_21 7 (dk_at dksX2_layCollected_1 17 rfl rfl)
theorem dX2_layCollected_42 : decode cX2_layCollected 42 = .ok (.aload_n 0, 1) := dk_42 (dk_at dksX2_layCollected_1 19 rfl rfl)
theorem dX2_layCollected_43 : decode cX2_layCollected 43 = .ok (.getfield 12, 3) := dk_180 0 12 (dk_at dksX2_layCollected_1 20 rfl rfl)
theorem dX2_layCollected_46 : decode cX2_layCollected 46 = .ok (.invokevirtual 31, 3) := dk_182 0 31 (dk_at dksX2_layCollected_2 0 rfl rfl)
theorem dX2_layCollected_49 : decode cX2_layCollected 49 = .ok (.if_icmp .ge 84, 3) := dk_162 0 84 (dk_at dksX2_layCollected_2 3 rfl rfl)
theorem dX2_layCollected_52 : decode cX2_layCollected 52 = .ok (.aload_n 0, 1) := dk_42 (dk_at dksX2_layCollected_2 6 rfl rfl)
theorem dX2_layCollected_53 : decode cX2_layCollected 53 = .ok (.getfield 12, 3) := dk_180 0 12 (dk_at dksX2_layCollected_2 7 rfl rfl)
theorem dX2_layCollected_56 : decode cX2_layCollected 56 = .ok (.iload 7, 2) := dk_21 7 (dk_at dksX2_layCollected_2 10 rfl rfl)
theorem dX2_layCollected_58 : decode cX2_layCollected 58 = .ok (.invokevirtual 35, 3) := dk_182 0 35 (dk_at dksX2_layCollected_2 12 rfl rfl)
theorem dX2_layCollected_61 : decode cX2_layCollected 61 = .ok (.checkcast 39, 3) := dk_192 0 39 (dk_at dksX2_layCollected_2 15 rfl rfl)
theorem dX2_layCollected_64 : decode cX2_layCollected 64 = .ok (.getfield 76, 3) := dk_180 0 76 (dk_at dksX2_layCollected_2 18 rfl rfl)
theorem dX2_layCollected_67 : decode cX2_layCollected 67 = .ok (.iload_n 2, 1) := dk_28 (dk_at dksX2_layCollected_2 21 rfl rfl)
theorem dX2_layCollected_68 : decode cX2_layCollected 68 = .ok (.if_icmp .ne 7, 3) := dk_160 0 7 (dk_at dksX2_layCollected_3 0 rfl rfl)
theorem dX2_layCollected_71 : decode cX2_layCollected 71 = .ok (.iconst 1, 1) := dk_4 (dk_at dksX2_layCollected_3 3 rfl rfl)
theorem dX2_layCollected_72 : decode cX2_layCollected 72 = .ok (.goto 4, 3) := dk_167 0 4 (dk_at dksX2_layCollected_3 4 rfl rfl)
theorem dX2_layCollected_75 : decode cX2_layCollected 75 = .ok (.iconst 0, 1) := dk_3 (dk_at dksX2_layCollected_3 7 rfl rfl)
theorem dX2_layCollected_76 : decode cX2_layCollected 76 = .ok (.istore 8, 2) := dk_54 8 (dk_at dksX2_layCollected_3 8 rfl rfl)
theorem dX2_layCollected_78 : decode cX2_layCollected 78 = .ok (.iload 8, 2) := dk_21 8 (dk_at dksX2_layCollected_3 10 rfl rfl)
theorem dX2_layCollected_80 : decode cX2_layCollected 80 = .ok (.ifCond .eq 43, 3) := dk_153 0 43 (dk_at dksX2_layCollected_3 12 rfl rfl)
theorem dX2_layCollected_83 : decode cX2_layCollected 83 = .ok (.iload 6, 2) := dk_21 6 (dk_at dksX2_layCollected_3 15 rfl rfl)
theorem dX2_layCollected_85 : decode cX2_layCollected 85 = .ok (.iconst (-1), 1) := dk_2 (dk_at dksX2_layCollected_3 17 rfl rfl)
theorem dX2_layCollected_86 : decode cX2_layCollected 86 = .ok (.if_icmp .eq 32, 3) := dk_159 0 32 (dk_at dksX2_layCollected_3 18 rfl rfl)
theorem dX2_layCollected_89 : decode cX2_layCollected 89 = .ok (.aload_n 1, 1) := dk_43 (dk_at dksX2_layCollected_3 21 rfl rfl)
theorem dX2_layCollected_90 : decode cX2_layCollected 90 = .ok (.getfield 135, 3) := dk_180 0 135 (dk_at dksX2_layCollected_4 0 rfl rfl)
theorem dX2_layCollected_93 : decode cX2_layCollected 93 = .ok (.iload 7, 2) := dk_21 7 (dk_at dksX2_layCollected_4 3 rfl rfl)
theorem dX2_layCollected_95 : decode cX2_layCollected 95 = .ok (.iaload, 1) := dk_46 (dk_at dksX2_layCollected_4 5 rfl rfl)
theorem dX2_layCollected_96 : decode cX2_layCollected 96 = .ok (.aload 4, 2) := dk_25 4 (dk_at dksX2_layCollected_4 6 rfl rfl)
theorem dX2_layCollected_98 : decode cX2_layCollected 98 = .ok (.iload 7, 2) := dk_21 7 (dk_at dksX2_layCollected_4 8 rfl rfl)
theorem dX2_layCollected_100 : decode cX2_layCollected 100 = .ok (.iaload, 1) := dk_46 (dk_at dksX2_layCollected_4 10 rfl rfl)
theorem dX2_layCollected_101 : decode cX2_layCollected 101 = .ok (.isub, 1) := dk_100 (dk_at dksX2_layCollected_4 11 rfl rfl)
theorem dX2_layCollected_102 : decode cX2_layCollected 102 = .ok (.aload_n 1, 1) := dk_43 (dk_at dksX2_layCollected_4 12 rfl rfl)
theorem dX2_layCollected_103 : decode cX2_layCollected 103 = .ok (.getfield 135, 3) := dk_180 0 135 (dk_at dksX2_layCollected_4 13 rfl rfl)
theorem dX2_layCollected_106 : decode cX2_layCollected 106 = .ok (.iload 6, 2) := dk_21 6 (dk_at dksX2_layCollected_4 16 rfl rfl)
theorem dX2_layCollected_108 : decode cX2_layCollected 108 = .ok (.iaload, 1) := dk_46 (dk_at dksX2_layCollected_4 18 rfl rfl)
theorem dX2_layCollected_109 : decode cX2_layCollected 109 = .ok (.aload 4, 2) := dk_25 4 (dk_at dksX2_layCollected_4 19 rfl rfl)
theorem dX2_layCollected_111 : decode cX2_layCollected 111 = .ok (.iload 6, 2) := dk_21 6 (dk_at dksX2_layCollected_4 21 rfl rfl)
theorem dX2_layCollected_113 : decode cX2_layCollected 113 = .ok (.iaload, 1) := dk_46 (dk_at dksX2_layCollected_4 23 rfl rfl)
theorem dX2_layCollected_114 : decode cX2_layCollected 114 = .ok (.isub, 1) := dk_100 (dk_at dksX2_layCollected_5 0 rfl rfl)
theorem dX2_layCollected_115 : decode cX2_layCollected 115 = .ok (.if_icmp .le 8, 3) := dk_164 0 8 (dk_at dksX2_layCollected_5 1 rfl rfl)
theorem dX2_layCollected_118 : decode cX2_layCollected 118 = .ok (.iload 7, 2) := dk_21 7 (dk_at dksX2_layCollected_5 4 rfl rfl)
theorem dX2_layCollected_120 : decode cX2_layCollected 120 = .ok (.goto 5, 3) := dk_167 0 5 (dk_at dksX2_layCollected_5 6 rfl rfl)
theorem dX2_layCollected_123 : decode cX2_layCollected 123 = .ok (.iload 6, 2) := dk_21 6 (dk_at dksX2_layCollected_5 9 rfl rfl)
theorem dX2_layCollected_125 : decode cX2_layCollected 125 = .ok (.istore 6, 2) := dk_54 6 (dk_at dksX2_layCollected_5 11 rfl rfl)
theorem dX2_layCollected_127 : decode cX2_layCollected 127 = .ok (.iinc 7 1, 3) := dk_132 7 1 (dk_at dksX2_layCollected_5 13 rfl rfl)
theorem dX2_layCollected_130 : decode cX2_layCollected 130 = .ok (.goto (-90), 3) := dk_167 255 166 (dk_at dksX2_layCollected_5 16 rfl rfl)
theorem dX2_layCollected_133 : decode cX2_layCollected 133 = .ok (.aload 4, 2) := dk_25 4 (dk_at dksX2_layCollected_5 19 rfl rfl)
theorem dX2_layCollected_135 : decode cX2_layCollected 135 = .ok (.iload 6, 2) := dk_21 6 (dk_at dksX2_layCollected_5 21 rfl rfl)
theorem dX2_layCollected_137 : decode cX2_layCollected 137 = .ok (.dup2, 1) := dk_92 (dk_at dksX2_layCollected_5 23 rfl rfl)
theorem dX2_layCollected_138 : decode cX2_layCollected 138 = .ok (.iaload, 1) := dk_46 (dk_at dksX2_layCollected_6 0 rfl rfl)
theorem dX2_layCollected_139 : decode cX2_layCollected 139 = .ok (.iconst 1, 1) := dk_4 (dk_at dksX2_layCollected_6 1 rfl rfl)
theorem dX2_layCollected_140 : decode cX2_layCollected 140 = .ok (.iadd, 1) := dk_96 (dk_at dksX2_layCollected_6 2 rfl rfl)
theorem dX2_layCollected_141 : decode cX2_layCollected 141 = .ok (.iastore, 1) := dk_79 (dk_at dksX2_layCollected_6 3 rfl rfl)
theorem dX2_layCollected_142 : decode cX2_layCollected 142 = .ok (.iinc 5 1, 3) := dk_132 5 1 (dk_at dksX2_layCollected_6 4 rfl rfl)
theorem dX2_layCollected_145 : decode cX2_layCollected 145 = .ok (.goto (-120), 3) := dk_167 255 136 (dk_at dksX2_layCollected_6 7 rfl rfl)
theorem dX2_layCollected_148 : decode cX2_layCollected 148 = .ok (.return_, 1) := dk_177 (dk_at dksX2_layCollected_6 10 rfl rfl)
abbrev cX2_copy : ByteArray := prog_13_method_2_code
def yX2_copy : MethodName := ⟨RX2, "copy", "()LBottleLoop$Loop;"⟩
def dkwX2_copy_7 : List UInt8 := [180, 0, 70, 181, 0, 70, 43, 42, 180, 0, 73, 181, 0, 73, 43, 176]
abbrev dktX2_copy_7 : List UInt8 := dkwX2_copy_7 ++ []
def dkwX2_copy_6 : List UInt8 := [180, 0, 60, 181, 0, 60, 43, 42, 180, 0, 64, 181, 0, 64, 43, 42, 180, 0, 67, 181, 0, 67, 43, 42]
abbrev dktX2_copy_6 : List UInt8 := dkwX2_copy_6 ++ dktX2_copy_7
def dkwX2_copy_5 : List UInt8 := [50, 3, 43, 180, 0, 27, 28, 50, 3, 16, 8, 184, 0, 54, 132, 2, 1, 167, 255, 228, 43, 42]
abbrev dktX2_copy_5 : List UInt8 := dkwX2_copy_5 ++ dktX2_copy_6
def dkwX2_copy_4 : List UInt8 := [3, 43, 180, 0, 21, 3, 16, 6, 184, 0, 54, 3, 61, 28, 16, 8, 162, 0, 28, 42, 180, 0, 27, 28]
abbrev dktX2_copy_4 : List UInt8 := dkwX2_copy_4 ++ dktX2_copy_5
def dkwX2_copy_3 : List UInt8 := [28, 182, 0, 35, 192, 0, 49, 182, 0, 51, 182, 0, 45, 87, 132, 2, 1, 167, 255, 220, 42, 180, 0, 21]
abbrev dktX2_copy_3 : List UInt8 := dkwX2_copy_3 ++ dktX2_copy_4
def dkwX2_copy_2 : List UInt8 := [167, 255, 220, 3, 61, 28, 42, 180, 0, 18, 182, 0, 31, 162, 0, 31, 43, 180, 0, 18, 42, 180, 0, 18]
abbrev dktX2_copy_2 : List UInt8 := dkwX2_copy_2 ++ dktX2_copy_3
def dkwX2_copy_1 : List UInt8 := [180, 0, 12, 42, 180, 0, 12, 28, 182, 0, 35, 192, 0, 39, 182, 0, 41, 182, 0, 45, 87, 132, 2, 1]
abbrev dktX2_copy_1 : List UInt8 := dkwX2_copy_1 ++ dktX2_copy_2
def dkwX2_copy_0 : List UInt8 := [187, 0, 13, 89, 183, 0, 30, 76, 3, 61, 28, 42, 180, 0, 12, 182, 0, 31, 162, 0, 31, 43]
abbrev dktX2_copy_0 : List UInt8 := dkwX2_copy_0 ++ dktX2_copy_1
theorem dksX2_copy_0 : cX2_copy.data.toList.drop 0 = dktX2_copy_0 := by decide +kernel
theorem dksX2_copy_1 : cX2_copy.data.toList.drop 22 = dktX2_copy_1 := dk_seg dksX2_copy_0 22 rfl rfl
theorem dksX2_copy_2 : cX2_copy.data.toList.drop 46 = dktX2_copy_2 := dk_seg dksX2_copy_1 24 rfl rfl
theorem dksX2_copy_3 : cX2_copy.data.toList.drop 70 = dktX2_copy_3 := dk_seg dksX2_copy_2 24 rfl rfl
theorem dksX2_copy_4 : cX2_copy.data.toList.drop 94 = dktX2_copy_4 := dk_seg dksX2_copy_3 24 rfl rfl
theorem dksX2_copy_5 : cX2_copy.data.toList.drop 118 = dktX2_copy_5 := dk_seg dksX2_copy_4 24 rfl rfl
theorem dksX2_copy_6 : cX2_copy.data.toList.drop 140 = dktX2_copy_6 := dk_seg dksX2_copy_5 22 rfl rfl
theorem dksX2_copy_7 : cX2_copy.data.toList.drop 164 = dktX2_copy_7 := dk_seg dksX2_copy_6 24 rfl rfl
theorem dX2_copy_0 : decode cX2_copy 0 = .ok (.new 13, 3) := dk_187 0 13 (dk_at dksX2_copy_0 0 rfl rfl)
theorem dX2_copy_3 : decode cX2_copy 3 = .ok (.dup, 1) := dk_89 (dk_at dksX2_copy_0 3 rfl rfl)
theorem dX2_copy_4 : decode cX2_copy 4 = .ok (.invokespecial 30, 3) := dk_183 0 30 (dk_at dksX2_copy_0 4 rfl rfl)
theorem dX2_copy_7 : decode cX2_copy 7 = .ok (.astore_n 1, 1) := dk_76 (dk_at dksX2_copy_0 7 rfl rfl)
theorem dX2_copy_8 : decode cX2_copy 8 = .ok (.iconst 0, 1) := dk_3 (dk_at dksX2_copy_0 8 rfl rfl)
theorem dX2_copy_9 : decode cX2_copy 9 = .ok (.istore_n 2, 1) := dk_61 (dk_at dksX2_copy_0 9 rfl rfl)
theorem dX2_copy_10 : decode cX2_copy 10 = .ok (.iload_n 2, 1) := dk_28 (dk_at dksX2_copy_0 10 rfl rfl)
theorem dX2_copy_11 : decode cX2_copy 11 = .ok (.aload_n 0, 1) := dk_42 (dk_at dksX2_copy_0 11 rfl rfl)
theorem dX2_copy_12 : decode cX2_copy 12 = .ok (.getfield 12, 3) := dk_180 0 12 (dk_at dksX2_copy_0 12 rfl rfl)
theorem dX2_copy_15 : decode cX2_copy 15 = .ok (.invokevirtual 31, 3) := dk_182 0 31 (dk_at dksX2_copy_0 15 rfl rfl)
theorem dX2_copy_18 : decode cX2_copy 18 = .ok (.if_icmp .ge 31, 3) := dk_162 0 31 (dk_at dksX2_copy_0 18 rfl rfl)
theorem dX2_copy_21 : decode cX2_copy 21 = .ok (.aload_n 1, 1) := dk_43 (dk_at dksX2_copy_0 21 rfl rfl)
theorem dX2_copy_22 : decode cX2_copy 22 = .ok (.getfield 12, 3) := dk_180 0 12 (dk_at dksX2_copy_1 0 rfl rfl)
theorem dX2_copy_25 : decode cX2_copy 25 = .ok (.aload_n 0, 1) := dk_42 (dk_at dksX2_copy_1 3 rfl rfl)
theorem dX2_copy_26 : decode cX2_copy 26 = .ok (.getfield 12, 3) := dk_180 0 12 (dk_at dksX2_copy_1 4 rfl rfl)
theorem dX2_copy_29 : decode cX2_copy 29 = .ok (.iload_n 2, 1) := dk_28 (dk_at dksX2_copy_1 7 rfl rfl)
theorem dX2_copy_30 : decode cX2_copy 30 = .ok (.invokevirtual 35, 3) := dk_182 0 35 (dk_at dksX2_copy_1 8 rfl rfl)
theorem dX2_copy_33 : decode cX2_copy 33 = .ok (.checkcast 39, 3) := dk_192 0 39 (dk_at dksX2_copy_1 11 rfl rfl)
theorem dX2_copy_36 : decode cX2_copy 36 = .ok (.invokevirtual 41, 3) := dk_182 0 41 (dk_at dksX2_copy_1 14 rfl rfl)
theorem dX2_copy_39 : decode cX2_copy 39 = .ok (.invokevirtual 45, 3) := dk_182 0 45 (dk_at dksX2_copy_1 17 rfl rfl)
theorem dX2_copy_42 : decode cX2_copy 42 = .ok (.pop, 1) := dk_87 (dk_at dksX2_copy_1 20 rfl rfl)
theorem dX2_copy_43 : decode cX2_copy 43 = .ok (.iinc 2 1, 3) := dk_132 2 1 (dk_at dksX2_copy_1 21 rfl rfl)
theorem dX2_copy_46 : decode cX2_copy 46 = .ok (.goto (-36), 3) := dk_167 255 220 (dk_at dksX2_copy_2 0 rfl rfl)
theorem dX2_copy_49 : decode cX2_copy 49 = .ok (.iconst 0, 1) := dk_3 (dk_at dksX2_copy_2 3 rfl rfl)
theorem dX2_copy_50 : decode cX2_copy 50 = .ok (.istore_n 2, 1) := dk_61 (dk_at dksX2_copy_2 4 rfl rfl)
theorem dX2_copy_51 : decode cX2_copy 51 = .ok (.iload_n 2, 1) := dk_28 (dk_at dksX2_copy_2 5 rfl rfl)
theorem dX2_copy_52 : decode cX2_copy 52 = .ok (.aload_n 0, 1) := dk_42 (dk_at dksX2_copy_2 6 rfl rfl)
theorem dX2_copy_53 : decode cX2_copy 53 = .ok (.getfield 18, 3) := dk_180 0 18 (dk_at dksX2_copy_2 7 rfl rfl)
theorem dX2_copy_56 : decode cX2_copy 56 = .ok (.invokevirtual 31, 3) := dk_182 0 31 (dk_at dksX2_copy_2 10 rfl rfl)
theorem dX2_copy_59 : decode cX2_copy 59 = .ok (.if_icmp .ge 31, 3) := dk_162 0 31 (dk_at dksX2_copy_2 13 rfl rfl)
theorem dX2_copy_62 : decode cX2_copy 62 = .ok (.aload_n 1, 1) := dk_43 (dk_at dksX2_copy_2 16 rfl rfl)
theorem dX2_copy_63 : decode cX2_copy 63 = .ok (.getfield 18, 3) := dk_180 0 18 (dk_at dksX2_copy_2 17 rfl rfl)
theorem dX2_copy_66 : decode cX2_copy 66 = .ok (.aload_n 0, 1) := dk_42 (dk_at dksX2_copy_2 20 rfl rfl)
theorem dX2_copy_67 : decode cX2_copy 67 = .ok (.getfield 18, 3) := dk_180 0 18 (dk_at dksX2_copy_2 21 rfl rfl)
theorem dX2_copy_70 : decode cX2_copy 70 = .ok (.iload_n 2, 1) := dk_28 (dk_at dksX2_copy_3 0 rfl rfl)
theorem dX2_copy_71 : decode cX2_copy 71 = .ok (.invokevirtual 35, 3) := dk_182 0 35 (dk_at dksX2_copy_3 1 rfl rfl)
theorem dX2_copy_74 : decode cX2_copy 74 = .ok (.checkcast 49, 3) := dk_192 0 49 (dk_at dksX2_copy_3 4 rfl rfl)
theorem dX2_copy_77 : decode cX2_copy 77 = .ok (.invokevirtual 51, 3) := dk_182 0 51 (dk_at dksX2_copy_3 7 rfl rfl)
theorem dX2_copy_80 : decode cX2_copy 80 = .ok (.invokevirtual 45, 3) := dk_182 0 45 (dk_at dksX2_copy_3 10 rfl rfl)
theorem dX2_copy_83 : decode cX2_copy 83 = .ok (.pop, 1) := dk_87 (dk_at dksX2_copy_3 13 rfl rfl)
theorem dX2_copy_84 : decode cX2_copy 84 = .ok (.iinc 2 1, 3) := dk_132 2 1 (dk_at dksX2_copy_3 14 rfl rfl)
theorem dX2_copy_87 : decode cX2_copy 87 = .ok (.goto (-36), 3) := dk_167 255 220 (dk_at dksX2_copy_3 17 rfl rfl)
theorem dX2_copy_90 : decode cX2_copy 90 = .ok (.aload_n 0, 1) := dk_42 (dk_at dksX2_copy_3 20 rfl rfl)
theorem dX2_copy_91 : decode cX2_copy 91 = .ok (.getfield 21, 3) := dk_180 0 21 (dk_at dksX2_copy_3 21 rfl rfl)
theorem dX2_copy_94 : decode cX2_copy 94 = .ok (.iconst 0, 1) := dk_3 (dk_at dksX2_copy_4 0 rfl rfl)
theorem dX2_copy_95 : decode cX2_copy 95 = .ok (.aload_n 1, 1) := dk_43 (dk_at dksX2_copy_4 1 rfl rfl)
theorem dX2_copy_96 : decode cX2_copy 96 = .ok (.getfield 21, 3) := dk_180 0 21 (dk_at dksX2_copy_4 2 rfl rfl)
theorem dX2_copy_99 : decode cX2_copy 99 = .ok (.iconst 0, 1) := dk_3 (dk_at dksX2_copy_4 5 rfl rfl)
theorem dX2_copy_100 : decode cX2_copy 100 = .ok (.bipush 6, 2) := dk_16 6 (dk_at dksX2_copy_4 6 rfl rfl)
theorem dX2_copy_102 : decode cX2_copy 102 = .ok (.invokestatic 54, 3) := dk_184 0 54 (dk_at dksX2_copy_4 8 rfl rfl)
theorem dX2_copy_105 : decode cX2_copy 105 = .ok (.iconst 0, 1) := dk_3 (dk_at dksX2_copy_4 11 rfl rfl)
theorem dX2_copy_106 : decode cX2_copy 106 = .ok (.istore_n 2, 1) := dk_61 (dk_at dksX2_copy_4 12 rfl rfl)
theorem dX2_copy_107 : decode cX2_copy 107 = .ok (.iload_n 2, 1) := dk_28 (dk_at dksX2_copy_4 13 rfl rfl)
theorem dX2_copy_108 : decode cX2_copy 108 = .ok (.bipush 8, 2) := dk_16 8 (dk_at dksX2_copy_4 14 rfl rfl)
theorem dX2_copy_110 : decode cX2_copy 110 = .ok (.if_icmp .ge 28, 3) := dk_162 0 28 (dk_at dksX2_copy_4 16 rfl rfl)
theorem dX2_copy_113 : decode cX2_copy 113 = .ok (.aload_n 0, 1) := dk_42 (dk_at dksX2_copy_4 19 rfl rfl)
theorem dX2_copy_114 : decode cX2_copy 114 = .ok (.getfield 27, 3) := dk_180 0 27 (dk_at dksX2_copy_4 20 rfl rfl)
theorem dX2_copy_117 : decode cX2_copy 117 = .ok (.iload_n 2, 1) := dk_28 (dk_at dksX2_copy_4 23 rfl rfl)
theorem dX2_copy_118 : decode cX2_copy 118 = .ok (.aaload, 1) := dk_50 (dk_at dksX2_copy_5 0 rfl rfl)
theorem dX2_copy_119 : decode cX2_copy 119 = .ok (.iconst 0, 1) := dk_3 (dk_at dksX2_copy_5 1 rfl rfl)
theorem dX2_copy_120 : decode cX2_copy 120 = .ok (.aload_n 1, 1) := dk_43 (dk_at dksX2_copy_5 2 rfl rfl)
theorem dX2_copy_121 : decode cX2_copy 121 = .ok (.getfield 27, 3) := dk_180 0 27 (dk_at dksX2_copy_5 3 rfl rfl)
theorem dX2_copy_124 : decode cX2_copy 124 = .ok (.iload_n 2, 1) := dk_28 (dk_at dksX2_copy_5 6 rfl rfl)
theorem dX2_copy_125 : decode cX2_copy 125 = .ok (.aaload, 1) := dk_50 (dk_at dksX2_copy_5 7 rfl rfl)
theorem dX2_copy_126 : decode cX2_copy 126 = .ok (.iconst 0, 1) := dk_3 (dk_at dksX2_copy_5 8 rfl rfl)
theorem dX2_copy_127 : decode cX2_copy 127 = .ok (.bipush 8, 2) := dk_16 8 (dk_at dksX2_copy_5 9 rfl rfl)
theorem dX2_copy_129 : decode cX2_copy 129 = .ok (.invokestatic 54, 3) := dk_184 0 54 (dk_at dksX2_copy_5 11 rfl rfl)
theorem dX2_copy_132 : decode cX2_copy 132 = .ok (.iinc 2 1, 3) := dk_132 2 1 (dk_at dksX2_copy_5 14 rfl rfl)
theorem dX2_copy_135 : decode cX2_copy 135 = .ok (.goto (-28), 3) := dk_167 255 228 (dk_at dksX2_copy_5 17 rfl rfl)
theorem dX2_copy_138 : decode cX2_copy 138 = .ok (.aload_n 1, 1) := dk_43 (dk_at dksX2_copy_5 20 rfl rfl)
theorem dX2_copy_139 : decode cX2_copy 139 = .ok (.aload_n 0, 1) := dk_42 (dk_at dksX2_copy_5 21 rfl rfl)
theorem dX2_copy_140 : decode cX2_copy 140 = .ok (.getfield 60, 3) := dk_180 0 60 (dk_at dksX2_copy_6 0 rfl rfl)
theorem dX2_copy_143 : decode cX2_copy 143 = .ok (.putfield 60, 3) := dk_181 0 60 (dk_at dksX2_copy_6 3 rfl rfl)
theorem dX2_copy_146 : decode cX2_copy 146 = .ok (.aload_n 1, 1) := dk_43 (dk_at dksX2_copy_6 6 rfl rfl)
theorem dX2_copy_147 : decode cX2_copy 147 = .ok (.aload_n 0, 1) := dk_42 (dk_at dksX2_copy_6 7 rfl rfl)
theorem dX2_copy_148 : decode cX2_copy 148 = .ok (.getfield 64, 3) := dk_180 0 64 (dk_at dksX2_copy_6 8 rfl rfl)
theorem dX2_copy_151 : decode cX2_copy 151 = .ok (.putfield 64, 3) := dk_181 0 64 (dk_at dksX2_copy_6 11 rfl rfl)
theorem dX2_copy_154 : decode cX2_copy 154 = .ok (.aload_n 1, 1) := dk_43 (dk_at dksX2_copy_6 14 rfl rfl)
theorem dX2_copy_155 : decode cX2_copy 155 = .ok (.aload_n 0, 1) := dk_42 (dk_at dksX2_copy_6 15 rfl rfl)
theorem dX2_copy_156 : decode cX2_copy 156 = .ok (.getfield 67, 3) := dk_180 0 67 (dk_at dksX2_copy_6 16 rfl rfl)
theorem dX2_copy_159 : decode cX2_copy 159 = .ok (.putfield 67, 3) := dk_181 0 67 (dk_at dksX2_copy_6 19 rfl rfl)
theorem dX2_copy_162 : decode cX2_copy 162 = .ok (.aload_n 1, 1) := dk_43 (dk_at dksX2_copy_6 22 rfl rfl)
theorem dX2_copy_163 : decode cX2_copy 163 = .ok (.aload_n 0, 1) := dk_42 (dk_at dksX2_copy_6 23 rfl rfl)
theorem dX2_copy_164 : decode cX2_copy 164 = .ok (.getfield 70, 3) := dk_180 0 70 (dk_at dksX2_copy_7 0 rfl rfl)
theorem dX2_copy_167 : decode cX2_copy 167 = .ok (.putfield 70, 3) := dk_181 0 70 (dk_at dksX2_copy_7 3 rfl rfl)
theorem dX2_copy_170 : decode cX2_copy 170 = .ok (.aload_n 1, 1) := dk_43 (dk_at dksX2_copy_7 6 rfl rfl)
theorem dX2_copy_171 : decode cX2_copy 171 = .ok (.aload_n 0, 1) := dk_42 (dk_at dksX2_copy_7 7 rfl rfl)
theorem dX2_copy_172 : decode cX2_copy 172 = .ok (.getfield 73, 3) := dk_180 0 73 (dk_at dksX2_copy_7 8 rfl rfl)
theorem dX2_copy_175 : decode cX2_copy 175 = .ok (.putfield 73, 3) := dk_181 0 73 (dk_at dksX2_copy_7 11 rfl rfl)
theorem dX2_copy_178 : decode cX2_copy 178 = .ok (.aload_n 1, 1) := dk_43 (dk_at dksX2_copy_7 14 rfl rfl)
theorem dX2_copy_179 : decode cX2_copy 179 = .ok (.areturn, 1) := dk_176 (dk_at dksX2_copy_7 15 rfl rfl)
abbrev cX2_tryDeliver : ByteArray := prog_13_method_9_code
def yX2_tryDeliver : MethodName := ⟨RX2, "tryDeliver", "(ILBottleLoop$Shop;I)V"⟩
def dkwX2_tryDeliver_3 : List UInt8 := [184, 0, 115, 177]
abbrev dktX2_tryDeliver_3 : List UInt8 := dkwX2_tryDeliver_3 ++ []
def dkwX2_tryDeliver_2 : List UInt8 := [184, 0, 106, 44, 180, 0, 109, 42, 25, 4, 29, 182, 0, 112, 161, 0, 7, 4, 167, 0, 4, 3]
abbrev dktX2_tryDeliver_2 : List UInt8 := dkwX2_tryDeliver_2 ++ dktX2_tryDeliver_3
def dkwX2_tryDeliver_1 : List UInt8 := [161, 0, 7, 4, 167, 0, 4, 3, 184, 0, 85, 42, 180, 0, 60, 29, 161, 0, 7, 4, 167, 0, 4, 3]
abbrev dktX2_tryDeliver_1 : List UInt8 := dkwX2_tryDeliver_1 ++ dktX2_tryDeliver_2
def dkwX2_tryDeliver_0 : List UInt8 := [42, 180, 0, 12, 27, 182, 0, 35, 192, 0, 39, 58, 4, 25, 4, 180, 0, 93, 16, 12, 29, 104]
abbrev dktX2_tryDeliver_0 : List UInt8 := dkwX2_tryDeliver_0 ++ dktX2_tryDeliver_1
theorem dksX2_tryDeliver_0 : cX2_tryDeliver.data.toList.drop 0 = dktX2_tryDeliver_0 := by decide +kernel
theorem dksX2_tryDeliver_1 : cX2_tryDeliver.data.toList.drop 22 = dktX2_tryDeliver_1 := dk_seg dksX2_tryDeliver_0 22 rfl rfl
theorem dksX2_tryDeliver_2 : cX2_tryDeliver.data.toList.drop 46 = dktX2_tryDeliver_2 := dk_seg dksX2_tryDeliver_1 24 rfl rfl
theorem dksX2_tryDeliver_3 : cX2_tryDeliver.data.toList.drop 68 = dktX2_tryDeliver_3 := dk_seg dksX2_tryDeliver_2 22 rfl rfl
theorem dX2_tryDeliver_0 : decode cX2_tryDeliver 0 = .ok (.aload_n 0, 1) := dk_42 (dk_at dksX2_tryDeliver_0 0 rfl rfl)
theorem dX2_tryDeliver_1 : decode cX2_tryDeliver 1 = .ok (.getfield 12, 3) := dk_180 0 12 (dk_at dksX2_tryDeliver_0 1 rfl rfl)
theorem dX2_tryDeliver_4 : decode cX2_tryDeliver 4 = .ok (.iload_n 1, 1) := dk_27 (dk_at dksX2_tryDeliver_0 4 rfl rfl)
theorem dX2_tryDeliver_5 : decode cX2_tryDeliver 5 = .ok (.invokevirtual 35, 3) := dk_182 0 35 (dk_at dksX2_tryDeliver_0 5 rfl rfl)
theorem dX2_tryDeliver_8 : decode cX2_tryDeliver 8 = .ok (.checkcast 39, 3) := dk_192 0 39 (dk_at dksX2_tryDeliver_0 8 rfl rfl)
theorem dX2_tryDeliver_11 : decode cX2_tryDeliver 11 = .ok (.astore 4, 2) := dk_58 4 (dk_at dksX2_tryDeliver_0 11 rfl rfl)
theorem dX2_tryDeliver_13 : decode cX2_tryDeliver 13 = .ok (.aload 4, 2) := dk_25 4 (dk_at dksX2_tryDeliver_0 13 rfl rfl)
theorem dX2_tryDeliver_15 : decode cX2_tryDeliver 15 = .ok (.getfield 93, 3) := dk_180 0 93 (dk_at dksX2_tryDeliver_0 15 rfl rfl)
theorem dX2_tryDeliver_18 : decode cX2_tryDeliver 18 = .ok (.bipush 12, 2) := dk_16 12 (dk_at dksX2_tryDeliver_0 18 rfl rfl)
theorem dX2_tryDeliver_20 : decode cX2_tryDeliver 20 = .ok (.iload_n 3, 1) := dk_29 (dk_at dksX2_tryDeliver_0 20 rfl rfl)
theorem dX2_tryDeliver_21 : decode cX2_tryDeliver 21 = .ok (.imul, 1) := dk_104 (dk_at dksX2_tryDeliver_0 21 rfl rfl)
theorem dX2_tryDeliver_22 : decode cX2_tryDeliver 22 = .ok (.if_icmp .lt 7, 3) := dk_161 0 7 (dk_at dksX2_tryDeliver_1 0 rfl rfl)
theorem dX2_tryDeliver_25 : decode cX2_tryDeliver 25 = .ok (.iconst 1, 1) := dk_4 (dk_at dksX2_tryDeliver_1 3 rfl rfl)
theorem dX2_tryDeliver_26 : decode cX2_tryDeliver 26 = .ok (.goto 4, 3) := dk_167 0 4 (dk_at dksX2_tryDeliver_1 4 rfl rfl)
theorem dX2_tryDeliver_29 : decode cX2_tryDeliver 29 = .ok (.iconst 0, 1) := dk_3 (dk_at dksX2_tryDeliver_1 7 rfl rfl)
theorem dX2_tryDeliver_30 : decode cX2_tryDeliver 30 = .ok (.invokestatic 85, 3) := dk_184 0 85 (dk_at dksX2_tryDeliver_1 8 rfl rfl)
theorem dX2_tryDeliver_33 : decode cX2_tryDeliver 33 = .ok (.aload_n 0, 1) := dk_42 (dk_at dksX2_tryDeliver_1 11 rfl rfl)
theorem dX2_tryDeliver_34 : decode cX2_tryDeliver 34 = .ok (.getfield 60, 3) := dk_180 0 60 (dk_at dksX2_tryDeliver_1 12 rfl rfl)
theorem dX2_tryDeliver_37 : decode cX2_tryDeliver 37 = .ok (.iload_n 3, 1) := dk_29 (dk_at dksX2_tryDeliver_1 15 rfl rfl)
theorem dX2_tryDeliver_38 : decode cX2_tryDeliver 38 = .ok (.if_icmp .lt 7, 3) := dk_161 0 7 (dk_at dksX2_tryDeliver_1 16 rfl rfl)
theorem dX2_tryDeliver_41 : decode cX2_tryDeliver 41 = .ok (.iconst 1, 1) := dk_4 (dk_at dksX2_tryDeliver_1 19 rfl rfl)
theorem dX2_tryDeliver_42 : decode cX2_tryDeliver 42 = .ok (.goto 4, 3) := dk_167 0 4 (dk_at dksX2_tryDeliver_1 20 rfl rfl)
theorem dX2_tryDeliver_45 : decode cX2_tryDeliver 45 = .ok (.iconst 0, 1) := dk_3 (dk_at dksX2_tryDeliver_1 23 rfl rfl)
theorem dX2_tryDeliver_46 : decode cX2_tryDeliver 46 = .ok (.invokestatic 106, 3) := dk_184 0 106 (dk_at dksX2_tryDeliver_2 0 rfl rfl)
theorem dX2_tryDeliver_49 : decode cX2_tryDeliver 49 = .ok (.aload_n 2, 1) := dk_44 (dk_at dksX2_tryDeliver_2 3 rfl rfl)
theorem dX2_tryDeliver_50 : decode cX2_tryDeliver 50 = .ok (.getfield 109, 3) := dk_180 0 109 (dk_at dksX2_tryDeliver_2 4 rfl rfl)
theorem dX2_tryDeliver_53 : decode cX2_tryDeliver 53 = .ok (.aload_n 0, 1) := dk_42 (dk_at dksX2_tryDeliver_2 7 rfl rfl)
theorem dX2_tryDeliver_54 : decode cX2_tryDeliver 54 = .ok (.aload 4, 2) := dk_25 4 (dk_at dksX2_tryDeliver_2 8 rfl rfl)
theorem dX2_tryDeliver_56 : decode cX2_tryDeliver 56 = .ok (.iload_n 3, 1) := dk_29 (dk_at dksX2_tryDeliver_2 10 rfl rfl)
theorem dX2_tryDeliver_57 : decode cX2_tryDeliver 57 = .ok (.invokevirtual 112, 3) := dk_182 0 112 (dk_at dksX2_tryDeliver_2 11 rfl rfl)
theorem dX2_tryDeliver_60 : decode cX2_tryDeliver 60 = .ok (.if_icmp .lt 7, 3) := dk_161 0 7 (dk_at dksX2_tryDeliver_2 14 rfl rfl)
theorem dX2_tryDeliver_63 : decode cX2_tryDeliver 63 = .ok (.iconst 1, 1) := dk_4 (dk_at dksX2_tryDeliver_2 17 rfl rfl)
theorem dX2_tryDeliver_64 : decode cX2_tryDeliver 64 = .ok (.goto 4, 3) := dk_167 0 4 (dk_at dksX2_tryDeliver_2 18 rfl rfl)
theorem dX2_tryDeliver_67 : decode cX2_tryDeliver 67 = .ok (.iconst 0, 1) := dk_3 (dk_at dksX2_tryDeliver_2 21 rfl rfl)
theorem dX2_tryDeliver_68 : decode cX2_tryDeliver 68 = .ok (.invokestatic 115, 3) := dk_184 0 115 (dk_at dksX2_tryDeliver_3 0 rfl rfl)
theorem dX2_tryDeliver_71 : decode cX2_tryDeliver 71 = .ok (.return_, 1) := dk_177 (dk_at dksX2_tryDeliver_3 3 rfl rfl)
abbrev cX2_trySell : ByteArray := prog_13_method_11_code
def yX2_trySell : MethodName := ⟨RX2, "trySell", "(ILBottleLoop$Shop;I)V"⟩
def dkwX2_trySell_0 : List UInt8 := [44, 180, 0, 118, 27, 46, 29, 161, 0, 7, 4, 167, 0, 4, 3, 184, 0, 85, 177]
abbrev dktX2_trySell_0 : List UInt8 := dkwX2_trySell_0 ++ []
theorem dksX2_trySell_0 : cX2_trySell.data.toList.drop 0 = dktX2_trySell_0 := by decide +kernel
theorem dX2_trySell_0 : decode cX2_trySell 0 = .ok (.aload_n 2, 1) := dk_44 (dk_at dksX2_trySell_0 0 rfl rfl)
theorem dX2_trySell_1 : decode cX2_trySell 1 = .ok (.getfield 118, 3) := dk_180 0 118 (dk_at dksX2_trySell_0 1 rfl rfl)
theorem dX2_trySell_4 : decode cX2_trySell 4 = .ok (.iload_n 1, 1) := dk_27 (dk_at dksX2_trySell_0 4 rfl rfl)
theorem dX2_trySell_5 : decode cX2_trySell 5 = .ok (.iaload, 1) := dk_46 (dk_at dksX2_trySell_0 5 rfl rfl)
theorem dX2_trySell_6 : decode cX2_trySell 6 = .ok (.iload_n 3, 1) := dk_29 (dk_at dksX2_trySell_0 6 rfl rfl)
theorem dX2_trySell_7 : decode cX2_trySell 7 = .ok (.if_icmp .lt 7, 3) := dk_161 0 7 (dk_at dksX2_trySell_0 7 rfl rfl)
theorem dX2_trySell_10 : decode cX2_trySell 10 = .ok (.iconst 1, 1) := dk_4 (dk_at dksX2_trySell_0 10 rfl rfl)
theorem dX2_trySell_11 : decode cX2_trySell 11 = .ok (.goto 4, 3) := dk_167 0 4 (dk_at dksX2_trySell_0 11 rfl rfl)
theorem dX2_trySell_14 : decode cX2_trySell 14 = .ok (.iconst 0, 1) := dk_3 (dk_at dksX2_trySell_0 14 rfl rfl)
theorem dX2_trySell_15 : decode cX2_trySell 15 = .ok (.invokestatic 85, 3) := dk_184 0 85 (dk_at dksX2_trySell_0 15 rfl rfl)
theorem dX2_trySell_18 : decode cX2_trySell 18 = .ok (.return_, 1) := dk_177 (dk_at dksX2_trySell_0 18 rfl rfl)
abbrev cX2_tryTake : ByteArray := prog_13_method_13_code
def yX2_tryTake : MethodName := ⟨RX2, "tryTake", "(ILBottleLoop$Shop;I)V"⟩
def dkwX2_tryTake_2 : List UInt8 := [161, 0, 7, 4, 167, 0, 4, 3, 184, 0, 115, 177]
abbrev dktX2_tryTake_2 : List UInt8 := dkwX2_tryTake_2 ++ []
def dkwX2_tryTake_1 : List UInt8 := [184, 0, 85, 44, 180, 0, 109, 29, 42, 42, 180, 0, 12, 27, 182, 0, 35, 192, 0, 39, 182, 0, 99, 104]
abbrev dktX2_tryTake_1 : List UInt8 := dkwX2_tryTake_1 ++ dktX2_tryTake_2
def dkwX2_tryTake_0 : List UInt8 := [42, 180, 0, 12, 27, 182, 0, 35, 192, 0, 39, 180, 0, 129, 29, 161, 0, 7, 4, 167, 0, 4, 3]
abbrev dktX2_tryTake_0 : List UInt8 := dkwX2_tryTake_0 ++ dktX2_tryTake_1
theorem dksX2_tryTake_0 : cX2_tryTake.data.toList.drop 0 = dktX2_tryTake_0 := by decide +kernel
theorem dksX2_tryTake_1 : cX2_tryTake.data.toList.drop 23 = dktX2_tryTake_1 := dk_seg dksX2_tryTake_0 23 rfl rfl
theorem dksX2_tryTake_2 : cX2_tryTake.data.toList.drop 47 = dktX2_tryTake_2 := dk_seg dksX2_tryTake_1 24 rfl rfl
theorem dX2_tryTake_0 : decode cX2_tryTake 0 = .ok (.aload_n 0, 1) := dk_42 (dk_at dksX2_tryTake_0 0 rfl rfl)
theorem dX2_tryTake_1 : decode cX2_tryTake 1 = .ok (.getfield 12, 3) := dk_180 0 12 (dk_at dksX2_tryTake_0 1 rfl rfl)
theorem dX2_tryTake_4 : decode cX2_tryTake 4 = .ok (.iload_n 1, 1) := dk_27 (dk_at dksX2_tryTake_0 4 rfl rfl)
theorem dX2_tryTake_5 : decode cX2_tryTake 5 = .ok (.invokevirtual 35, 3) := dk_182 0 35 (dk_at dksX2_tryTake_0 5 rfl rfl)
theorem dX2_tryTake_8 : decode cX2_tryTake 8 = .ok (.checkcast 39, 3) := dk_192 0 39 (dk_at dksX2_tryTake_0 8 rfl rfl)
theorem dX2_tryTake_11 : decode cX2_tryTake 11 = .ok (.getfield 129, 3) := dk_180 0 129 (dk_at dksX2_tryTake_0 11 rfl rfl)
theorem dX2_tryTake_14 : decode cX2_tryTake 14 = .ok (.iload_n 3, 1) := dk_29 (dk_at dksX2_tryTake_0 14 rfl rfl)
theorem dX2_tryTake_15 : decode cX2_tryTake 15 = .ok (.if_icmp .lt 7, 3) := dk_161 0 7 (dk_at dksX2_tryTake_0 15 rfl rfl)
theorem dX2_tryTake_18 : decode cX2_tryTake 18 = .ok (.iconst 1, 1) := dk_4 (dk_at dksX2_tryTake_0 18 rfl rfl)
theorem dX2_tryTake_19 : decode cX2_tryTake 19 = .ok (.goto 4, 3) := dk_167 0 4 (dk_at dksX2_tryTake_0 19 rfl rfl)
theorem dX2_tryTake_22 : decode cX2_tryTake 22 = .ok (.iconst 0, 1) := dk_3 (dk_at dksX2_tryTake_0 22 rfl rfl)
theorem dX2_tryTake_23 : decode cX2_tryTake 23 = .ok (.invokestatic 85, 3) := dk_184 0 85 (dk_at dksX2_tryTake_1 0 rfl rfl)
theorem dX2_tryTake_26 : decode cX2_tryTake 26 = .ok (.aload_n 2, 1) := dk_44 (dk_at dksX2_tryTake_1 3 rfl rfl)
theorem dX2_tryTake_27 : decode cX2_tryTake 27 = .ok (.getfield 109, 3) := dk_180 0 109 (dk_at dksX2_tryTake_1 4 rfl rfl)
theorem dX2_tryTake_30 : decode cX2_tryTake 30 = .ok (.iload_n 3, 1) := dk_29 (dk_at dksX2_tryTake_1 7 rfl rfl)
theorem dX2_tryTake_31 : decode cX2_tryTake 31 = .ok (.aload_n 0, 1) := dk_42 (dk_at dksX2_tryTake_1 8 rfl rfl)
theorem dX2_tryTake_32 : decode cX2_tryTake 32 = .ok (.aload_n 0, 1) := dk_42 (dk_at dksX2_tryTake_1 9 rfl rfl)
theorem dX2_tryTake_33 : decode cX2_tryTake 33 = .ok (.getfield 12, 3) := dk_180 0 12 (dk_at dksX2_tryTake_1 10 rfl rfl)
theorem dX2_tryTake_36 : decode cX2_tryTake 36 = .ok (.iload_n 1, 1) := dk_27 (dk_at dksX2_tryTake_1 13 rfl rfl)
theorem dX2_tryTake_37 : decode cX2_tryTake 37 = .ok (.invokevirtual 35, 3) := dk_182 0 35 (dk_at dksX2_tryTake_1 14 rfl rfl)
theorem dX2_tryTake_40 : decode cX2_tryTake 40 = .ok (.checkcast 39, 3) := dk_192 0 39 (dk_at dksX2_tryTake_1 17 rfl rfl)
theorem dX2_tryTake_43 : decode cX2_tryTake 43 = .ok (.invokevirtual 99, 3) := dk_182 0 99 (dk_at dksX2_tryTake_1 20 rfl rfl)
theorem dX2_tryTake_46 : decode cX2_tryTake 46 = .ok (.imul, 1) := dk_104 (dk_at dksX2_tryTake_1 23 rfl rfl)
theorem dX2_tryTake_47 : decode cX2_tryTake 47 = .ok (.if_icmp .lt 7, 3) := dk_161 0 7 (dk_at dksX2_tryTake_2 0 rfl rfl)
theorem dX2_tryTake_50 : decode cX2_tryTake 50 = .ok (.iconst 1, 1) := dk_4 (dk_at dksX2_tryTake_2 3 rfl rfl)
theorem dX2_tryTake_51 : decode cX2_tryTake 51 = .ok (.goto 4, 3) := dk_167 0 4 (dk_at dksX2_tryTake_2 4 rfl rfl)
theorem dX2_tryTake_54 : decode cX2_tryTake 54 = .ok (.iconst 0, 1) := dk_3 (dk_at dksX2_tryTake_2 7 rfl rfl)
theorem dX2_tryTake_55 : decode cX2_tryTake 55 = .ok (.invokestatic 115, 3) := dk_184 0 115 (dk_at dksX2_tryTake_2 8 rfl rfl)
theorem dX2_tryTake_58 : decode cX2_tryTake 58 = .ok (.return_, 1) := dk_177 (dk_at dksX2_tryTake_2 11 rfl rfl)
abbrev cX2_tryBreak : ByteArray := prog_13_method_15_code
def yX2_tryBreak : MethodName := ⟨RX2, "tryBreak", "(ILBottleLoop$Shop;I)V"⟩
def dkwX2_tryBreak_0 : List UInt8 := [44, 180, 0, 135, 27, 46, 29, 161, 0, 7, 4, 167, 0, 4, 3, 184, 0, 85, 177]
abbrev dktX2_tryBreak_0 : List UInt8 := dkwX2_tryBreak_0 ++ []
theorem dksX2_tryBreak_0 : cX2_tryBreak.data.toList.drop 0 = dktX2_tryBreak_0 := by decide +kernel
theorem dX2_tryBreak_0 : decode cX2_tryBreak 0 = .ok (.aload_n 2, 1) := dk_44 (dk_at dksX2_tryBreak_0 0 rfl rfl)
theorem dX2_tryBreak_1 : decode cX2_tryBreak 1 = .ok (.getfield 135, 3) := dk_180 0 135 (dk_at dksX2_tryBreak_0 1 rfl rfl)
theorem dX2_tryBreak_4 : decode cX2_tryBreak 4 = .ok (.iload_n 1, 1) := dk_27 (dk_at dksX2_tryBreak_0 4 rfl rfl)
theorem dX2_tryBreak_5 : decode cX2_tryBreak 5 = .ok (.iaload, 1) := dk_46 (dk_at dksX2_tryBreak_0 5 rfl rfl)
theorem dX2_tryBreak_6 : decode cX2_tryBreak 6 = .ok (.iload_n 3, 1) := dk_29 (dk_at dksX2_tryBreak_0 6 rfl rfl)
theorem dX2_tryBreak_7 : decode cX2_tryBreak 7 = .ok (.if_icmp .lt 7, 3) := dk_161 0 7 (dk_at dksX2_tryBreak_0 7 rfl rfl)
theorem dX2_tryBreak_10 : decode cX2_tryBreak 10 = .ok (.iconst 1, 1) := dk_4 (dk_at dksX2_tryBreak_0 10 rfl rfl)
theorem dX2_tryBreak_11 : decode cX2_tryBreak 11 = .ok (.goto 4, 3) := dk_167 0 4 (dk_at dksX2_tryBreak_0 11 rfl rfl)
theorem dX2_tryBreak_14 : decode cX2_tryBreak 14 = .ok (.iconst 0, 1) := dk_3 (dk_at dksX2_tryBreak_0 14 rfl rfl)
theorem dX2_tryBreak_15 : decode cX2_tryBreak 15 = .ok (.invokestatic 85, 3) := dk_184 0 85 (dk_at dksX2_tryBreak_0 15 rfl rfl)
theorem dX2_tryBreak_18 : decode cX2_tryBreak 18 = .ok (.return_, 1) := dk_177 (dk_at dksX2_tryBreak_0 18 rfl rfl)
abbrev cX2_tryCollect : ByteArray := prog_13_method_20_code
def yX2_tryCollect : MethodName := ⟨RX2, "tryCollect", "(LBottleLoop$Shop;II)V"⟩
def dkwX2_tryCollect_1 : List UInt8 := [180, 0, 120, 29, 161, 0, 7, 4, 167, 0, 4, 3, 184, 0, 106, 177]
abbrev dktX2_tryCollect_1 : List UInt8 := dkwX2_tryCollect_1 ++ []
def dkwX2_tryCollect_0 : List UInt8 := [42, 43, 28, 182, 0, 149, 16, 12, 29, 104, 161, 0, 7, 4, 167, 0, 4, 3, 184, 0, 85, 43]
abbrev dktX2_tryCollect_0 : List UInt8 := dkwX2_tryCollect_0 ++ dktX2_tryCollect_1
theorem dksX2_tryCollect_0 : cX2_tryCollect.data.toList.drop 0 = dktX2_tryCollect_0 := by decide +kernel
theorem dksX2_tryCollect_1 : cX2_tryCollect.data.toList.drop 22 = dktX2_tryCollect_1 := dk_seg dksX2_tryCollect_0 22 rfl rfl
theorem dX2_tryCollect_0 : decode cX2_tryCollect 0 = .ok (.aload_n 0, 1) := dk_42 (dk_at dksX2_tryCollect_0 0 rfl rfl)
theorem dX2_tryCollect_1 : decode cX2_tryCollect 1 = .ok (.aload_n 1, 1) := dk_43 (dk_at dksX2_tryCollect_0 1 rfl rfl)
theorem dX2_tryCollect_2 : decode cX2_tryCollect 2 = .ok (.iload_n 2, 1) := dk_28 (dk_at dksX2_tryCollect_0 2 rfl rfl)
theorem dX2_tryCollect_3 : decode cX2_tryCollect 3 = .ok (.invokevirtual 149, 3) := dk_182 0 149 (dk_at dksX2_tryCollect_0 3 rfl rfl)
theorem dX2_tryCollect_6 : decode cX2_tryCollect 6 = .ok (.bipush 12, 2) := dk_16 12 (dk_at dksX2_tryCollect_0 6 rfl rfl)
theorem dX2_tryCollect_8 : decode cX2_tryCollect 8 = .ok (.iload_n 3, 1) := dk_29 (dk_at dksX2_tryCollect_0 8 rfl rfl)
theorem dX2_tryCollect_9 : decode cX2_tryCollect 9 = .ok (.imul, 1) := dk_104 (dk_at dksX2_tryCollect_0 9 rfl rfl)
theorem dX2_tryCollect_10 : decode cX2_tryCollect 10 = .ok (.if_icmp .lt 7, 3) := dk_161 0 7 (dk_at dksX2_tryCollect_0 10 rfl rfl)
theorem dX2_tryCollect_13 : decode cX2_tryCollect 13 = .ok (.iconst 1, 1) := dk_4 (dk_at dksX2_tryCollect_0 13 rfl rfl)
theorem dX2_tryCollect_14 : decode cX2_tryCollect 14 = .ok (.goto 4, 3) := dk_167 0 4 (dk_at dksX2_tryCollect_0 14 rfl rfl)
theorem dX2_tryCollect_17 : decode cX2_tryCollect 17 = .ok (.iconst 0, 1) := dk_3 (dk_at dksX2_tryCollect_0 17 rfl rfl)
theorem dX2_tryCollect_18 : decode cX2_tryCollect 18 = .ok (.invokestatic 85, 3) := dk_184 0 85 (dk_at dksX2_tryCollect_0 18 rfl rfl)
theorem dX2_tryCollect_21 : decode cX2_tryCollect 21 = .ok (.aload_n 1, 1) := dk_43 (dk_at dksX2_tryCollect_0 21 rfl rfl)
theorem dX2_tryCollect_22 : decode cX2_tryCollect 22 = .ok (.getfield 120, 3) := dk_180 0 120 (dk_at dksX2_tryCollect_1 0 rfl rfl)
theorem dX2_tryCollect_25 : decode cX2_tryCollect 25 = .ok (.iload_n 3, 1) := dk_29 (dk_at dksX2_tryCollect_1 3 rfl rfl)
theorem dX2_tryCollect_26 : decode cX2_tryCollect 26 = .ok (.if_icmp .lt 7, 3) := dk_161 0 7 (dk_at dksX2_tryCollect_1 4 rfl rfl)
theorem dX2_tryCollect_29 : decode cX2_tryCollect 29 = .ok (.iconst 1, 1) := dk_4 (dk_at dksX2_tryCollect_1 7 rfl rfl)
theorem dX2_tryCollect_30 : decode cX2_tryCollect 30 = .ok (.goto 4, 3) := dk_167 0 4 (dk_at dksX2_tryCollect_1 8 rfl rfl)
theorem dX2_tryCollect_33 : decode cX2_tryCollect 33 = .ok (.iconst 0, 1) := dk_3 (dk_at dksX2_tryCollect_1 11 rfl rfl)
theorem dX2_tryCollect_34 : decode cX2_tryCollect 34 = .ok (.invokestatic 106, 3) := dk_184 0 106 (dk_at dksX2_tryCollect_1 12 rfl rfl)
theorem dX2_tryCollect_37 : decode cX2_tryCollect 37 = .ok (.return_, 1) := dk_177 (dk_at dksX2_tryCollect_1 15 rfl rfl)
abbrev cX2_tryFill : ByteArray := prog_13_method_5_code
def yX2_tryFill : MethodName := ⟨RX2, "tryFill", "(LBottleLoop$Brand;I)V"⟩
def dkwX2_tryFill_0 : List UInt8 := [43, 180, 0, 82, 28, 161, 0, 7, 4, 167, 0, 4, 3, 184, 0, 85, 177]
abbrev dktX2_tryFill_0 : List UInt8 := dkwX2_tryFill_0 ++ []
theorem dksX2_tryFill_0 : cX2_tryFill.data.toList.drop 0 = dktX2_tryFill_0 := by decide +kernel
theorem dX2_tryFill_0 : decode cX2_tryFill 0 = .ok (.aload_n 1, 1) := dk_43 (dk_at dksX2_tryFill_0 0 rfl rfl)
theorem dX2_tryFill_1 : decode cX2_tryFill 1 = .ok (.getfield 82, 3) := dk_180 0 82 (dk_at dksX2_tryFill_0 1 rfl rfl)
theorem dX2_tryFill_4 : decode cX2_tryFill 4 = .ok (.iload_n 2, 1) := dk_28 (dk_at dksX2_tryFill_0 4 rfl rfl)
theorem dX2_tryFill_5 : decode cX2_tryFill 5 = .ok (.if_icmp .lt 7, 3) := dk_161 0 7 (dk_at dksX2_tryFill_0 5 rfl rfl)
theorem dX2_tryFill_8 : decode cX2_tryFill 8 = .ok (.iconst 1, 1) := dk_4 (dk_at dksX2_tryFill_0 8 rfl rfl)
theorem dX2_tryFill_9 : decode cX2_tryFill 9 = .ok (.goto 4, 3) := dk_167 0 4 (dk_at dksX2_tryFill_0 9 rfl rfl)
theorem dX2_tryFill_12 : decode cX2_tryFill 12 = .ok (.iconst 0, 1) := dk_3 (dk_at dksX2_tryFill_0 12 rfl rfl)
theorem dX2_tryFill_13 : decode cX2_tryFill 13 = .ok (.invokestatic 85, 3) := dk_184 0 85 (dk_at dksX2_tryFill_0 13 rfl rfl)
theorem dX2_tryFill_16 : decode cX2_tryFill 16 = .ok (.return_, 1) := dk_177 (dk_at dksX2_tryFill_0 16 rfl rfl)
abbrev cX2_tryLose : ByteArray := prog_13_method_17_code
def yX2_tryLose : MethodName := ⟨RX2, "tryLose", "(LBottleLoop$Brand;I)V"⟩
def dkwX2_tryLose_0 : List UInt8 := [43, 180, 0, 129, 28, 161, 0, 7, 4, 167, 0, 4, 3, 184, 0, 85, 177]
abbrev dktX2_tryLose_0 : List UInt8 := dkwX2_tryLose_0 ++ []
theorem dksX2_tryLose_0 : cX2_tryLose.data.toList.drop 0 = dktX2_tryLose_0 := by decide +kernel
theorem dX2_tryLose_0 : decode cX2_tryLose 0 = .ok (.aload_n 1, 1) := dk_43 (dk_at dksX2_tryLose_0 0 rfl rfl)
theorem dX2_tryLose_1 : decode cX2_tryLose 1 = .ok (.getfield 129, 3) := dk_180 0 129 (dk_at dksX2_tryLose_0 1 rfl rfl)
theorem dX2_tryLose_4 : decode cX2_tryLose 4 = .ok (.iload_n 2, 1) := dk_28 (dk_at dksX2_tryLose_0 4 rfl rfl)
theorem dX2_tryLose_5 : decode cX2_tryLose 5 = .ok (.if_icmp .lt 7, 3) := dk_161 0 7 (dk_at dksX2_tryLose_0 5 rfl rfl)
theorem dX2_tryLose_8 : decode cX2_tryLose 8 = .ok (.iconst 1, 1) := dk_4 (dk_at dksX2_tryLose_0 8 rfl rfl)
theorem dX2_tryLose_9 : decode cX2_tryLose 9 = .ok (.goto 4, 3) := dk_167 0 4 (dk_at dksX2_tryLose_0 9 rfl rfl)
theorem dX2_tryLose_12 : decode cX2_tryLose 12 = .ok (.iconst 0, 1) := dk_3 (dk_at dksX2_tryLose_0 12 rfl rfl)
theorem dX2_tryLose_13 : decode cX2_tryLose 13 = .ok (.invokestatic 85, 3) := dk_184 0 85 (dk_at dksX2_tryLose_0 13 rfl rfl)
theorem dX2_tryLose_16 : decode cX2_tryLose 16 = .ok (.return_, 1) := dk_177 (dk_at dksX2_tryLose_0 16 rfl rfl)
abbrev cX2_trySort : ByteArray := prog_13_method_24_code
def yX2_trySort : MethodName := ⟨RX2, "trySort", "(II)V"⟩
def dkwX2_trySort_0 : List UInt8 := [42, 27, 182, 0, 160, 28, 161, 0, 7, 4, 167, 0, 4, 3, 184, 0, 85, 177]
abbrev dktX2_trySort_0 : List UInt8 := dkwX2_trySort_0 ++ []
theorem dksX2_trySort_0 : cX2_trySort.data.toList.drop 0 = dktX2_trySort_0 := by decide +kernel
theorem dX2_trySort_0 : decode cX2_trySort 0 = .ok (.aload_n 0, 1) := dk_42 (dk_at dksX2_trySort_0 0 rfl rfl)
theorem dX2_trySort_1 : decode cX2_trySort 1 = .ok (.iload_n 1, 1) := dk_27 (dk_at dksX2_trySort_0 1 rfl rfl)
theorem dX2_trySort_2 : decode cX2_trySort 2 = .ok (.invokevirtual 160, 3) := dk_182 0 160 (dk_at dksX2_trySort_0 2 rfl rfl)
theorem dX2_trySort_5 : decode cX2_trySort 5 = .ok (.iload_n 2, 1) := dk_28 (dk_at dksX2_trySort_0 5 rfl rfl)
theorem dX2_trySort_6 : decode cX2_trySort 6 = .ok (.if_icmp .lt 7, 3) := dk_161 0 7 (dk_at dksX2_trySort_0 6 rfl rfl)
theorem dX2_trySort_9 : decode cX2_trySort 9 = .ok (.iconst 1, 1) := dk_4 (dk_at dksX2_trySort_0 9 rfl rfl)
theorem dX2_trySort_10 : decode cX2_trySort 10 = .ok (.goto 4, 3) := dk_167 0 4 (dk_at dksX2_trySort_0 10 rfl rfl)
theorem dX2_trySort_13 : decode cX2_trySort 13 = .ok (.iconst 0, 1) := dk_3 (dk_at dksX2_trySort_0 13 rfl rfl)
theorem dX2_trySort_14 : decode cX2_trySort 14 = .ok (.invokestatic 85, 3) := dk_184 0 85 (dk_at dksX2_trySort_0 14 rfl rfl)
theorem dX2_trySort_17 : decode cX2_trySort 17 = .ok (.return_, 1) := dk_177 (dk_at dksX2_trySort_0 17 rfl rfl)
abbrev cX2_inYard : ByteArray := prog_13_method_23_code
def yX2_inYard : MethodName := ⟨RX2, "inYard", "(I)I"⟩
def dkwX2_inYard_2 : List UInt8 := [167, 0, 4, 3, 96, 61, 132, 3, 1, 167, 255, 203, 28, 172]
abbrev dktX2_inYard_2 : List UInt8 := dkwX2_inYard_2 ++ []
def dkwX2_inYard_1 : List UInt8 := [192, 0, 39, 180, 0, 76, 27, 160, 0, 20, 42, 180, 0, 12, 29, 182, 0, 35, 192, 0, 39, 180, 0, 157]
abbrev dktX2_inYard_1 : List UInt8 := dkwX2_inYard_1 ++ dktX2_inYard_2
def dkwX2_inYard_0 : List UInt8 := [3, 61, 3, 62, 29, 42, 180, 0, 12, 182, 0, 31, 162, 0, 48, 28, 42, 180, 0, 12, 29, 182, 0, 35]
abbrev dktX2_inYard_0 : List UInt8 := dkwX2_inYard_0 ++ dktX2_inYard_1
theorem dksX2_inYard_0 : cX2_inYard.data.toList.drop 0 = dktX2_inYard_0 := by decide +kernel
theorem dksX2_inYard_1 : cX2_inYard.data.toList.drop 24 = dktX2_inYard_1 := dk_seg dksX2_inYard_0 24 rfl rfl
theorem dksX2_inYard_2 : cX2_inYard.data.toList.drop 48 = dktX2_inYard_2 := dk_seg dksX2_inYard_1 24 rfl rfl
theorem dX2_inYard_0 : decode cX2_inYard 0 = .ok (.iconst 0, 1) := dk_3 (dk_at dksX2_inYard_0 0 rfl rfl)
theorem dX2_inYard_1 : decode cX2_inYard 1 = .ok (.istore_n 2, 1) := dk_61 (dk_at dksX2_inYard_0 1 rfl rfl)
theorem dX2_inYard_2 : decode cX2_inYard 2 = .ok (.iconst 0, 1) := dk_3 (dk_at dksX2_inYard_0 2 rfl rfl)
theorem dX2_inYard_3 : decode cX2_inYard 3 = .ok (.istore_n 3, 1) := dk_62 (dk_at dksX2_inYard_0 3 rfl rfl)
theorem dX2_inYard_4 : decode cX2_inYard 4 = .ok (.iload_n 3, 1) := dk_29 (dk_at dksX2_inYard_0 4 rfl rfl)
theorem dX2_inYard_5 : decode cX2_inYard 5 = .ok (.aload_n 0, 1) := dk_42 (dk_at dksX2_inYard_0 5 rfl rfl)
theorem dX2_inYard_6 : decode cX2_inYard 6 = .ok (.getfield 12, 3) := dk_180 0 12 (dk_at dksX2_inYard_0 6 rfl rfl)
theorem dX2_inYard_9 : decode cX2_inYard 9 = .ok (.invokevirtual 31, 3) := dk_182 0 31 (dk_at dksX2_inYard_0 9 rfl rfl)
theorem dX2_inYard_12 : decode cX2_inYard 12 = .ok (.if_icmp .ge 48, 3) := dk_162 0 48 (dk_at dksX2_inYard_0 12 rfl rfl)
theorem dX2_inYard_15 : decode cX2_inYard 15 = .ok (.iload_n 2, 1) := dk_28 (dk_at dksX2_inYard_0 15 rfl rfl)
theorem dX2_inYard_16 : decode cX2_inYard 16 = .ok (.aload_n 0, 1) := dk_42 (dk_at dksX2_inYard_0 16 rfl rfl)
theorem dX2_inYard_17 : decode cX2_inYard 17 = .ok (.getfield 12, 3) := dk_180 0 12 (dk_at dksX2_inYard_0 17 rfl rfl)
theorem dX2_inYard_20 : decode cX2_inYard 20 = .ok (.iload_n 3, 1) := dk_29 (dk_at dksX2_inYard_0 20 rfl rfl)
theorem dX2_inYard_21 : decode cX2_inYard 21 = .ok (.invokevirtual 35, 3) := dk_182 0 35 (dk_at dksX2_inYard_0 21 rfl rfl)
theorem dX2_inYard_24 : decode cX2_inYard 24 = .ok (.checkcast 39, 3) := dk_192 0 39 (dk_at dksX2_inYard_1 0 rfl rfl)
theorem dX2_inYard_27 : decode cX2_inYard 27 = .ok (.getfield 76, 3) := dk_180 0 76 (dk_at dksX2_inYard_1 3 rfl rfl)
theorem dX2_inYard_30 : decode cX2_inYard 30 = .ok (.iload_n 1, 1) := dk_27 (dk_at dksX2_inYard_1 6 rfl rfl)
theorem dX2_inYard_31 : decode cX2_inYard 31 = .ok (.if_icmp .ne 20, 3) := dk_160 0 20 (dk_at dksX2_inYard_1 7 rfl rfl)
theorem dX2_inYard_34 : decode cX2_inYard 34 = .ok (.aload_n 0, 1) := dk_42 (dk_at dksX2_inYard_1 10 rfl rfl)
theorem dX2_inYard_35 : decode cX2_inYard 35 = .ok (.getfield 12, 3) := dk_180 0 12 (dk_at dksX2_inYard_1 11 rfl rfl)
theorem dX2_inYard_38 : decode cX2_inYard 38 = .ok (.iload_n 3, 1) := dk_29 (dk_at dksX2_inYard_1 14 rfl rfl)
theorem dX2_inYard_39 : decode cX2_inYard 39 = .ok (.invokevirtual 35, 3) := dk_182 0 35 (dk_at dksX2_inYard_1 15 rfl rfl)
theorem dX2_inYard_42 : decode cX2_inYard 42 = .ok (.checkcast 39, 3) := dk_192 0 39 (dk_at dksX2_inYard_1 18 rfl rfl)
theorem dX2_inYard_45 : decode cX2_inYard 45 = .ok (.getfield 157, 3) := dk_180 0 157 (dk_at dksX2_inYard_1 21 rfl rfl)
theorem dX2_inYard_48 : decode cX2_inYard 48 = .ok (.goto 4, 3) := dk_167 0 4 (dk_at dksX2_inYard_2 0 rfl rfl)
theorem dX2_inYard_51 : decode cX2_inYard 51 = .ok (.iconst 0, 1) := dk_3 (dk_at dksX2_inYard_2 3 rfl rfl)
theorem dX2_inYard_52 : decode cX2_inYard 52 = .ok (.iadd, 1) := dk_96 (dk_at dksX2_inYard_2 4 rfl rfl)
theorem dX2_inYard_53 : decode cX2_inYard 53 = .ok (.istore_n 2, 1) := dk_61 (dk_at dksX2_inYard_2 5 rfl rfl)
theorem dX2_inYard_54 : decode cX2_inYard 54 = .ok (.iinc 3 1, 3) := dk_132 3 1 (dk_at dksX2_inYard_2 6 rfl rfl)
theorem dX2_inYard_57 : decode cX2_inYard 57 = .ok (.goto (-53), 3) := dk_167 255 203 (dk_at dksX2_inYard_2 9 rfl rfl)
theorem dX2_inYard_60 : decode cX2_inYard 60 = .ok (.iload_n 2, 1) := dk_28 (dk_at dksX2_inYard_2 12 rfl rfl)
theorem dX2_inYard_61 : decode cX2_inYard 61 = .ok (.ireturn, 1) := dk_172 (dk_at dksX2_inYard_2 13 rfl rfl)
abbrev cX2_trySwap : ByteArray := prog_13_method_26_code
def yX2_trySwap : MethodName := ⟨RX2, "trySwap", "(LBottleLoop$Brand;I)V"⟩
def dkwX2_trySwap_0 : List UInt8 := [43, 180, 0, 82, 28, 161, 0, 7, 4, 167, 0, 4, 3, 184, 0, 85, 177]
abbrev dktX2_trySwap_0 : List UInt8 := dkwX2_trySwap_0 ++ []
theorem dksX2_trySwap_0 : cX2_trySwap.data.toList.drop 0 = dktX2_trySwap_0 := by decide +kernel
theorem dX2_trySwap_0 : decode cX2_trySwap 0 = .ok (.aload_n 1, 1) := dk_43 (dk_at dksX2_trySwap_0 0 rfl rfl)
theorem dX2_trySwap_1 : decode cX2_trySwap 1 = .ok (.getfield 82, 3) := dk_180 0 82 (dk_at dksX2_trySwap_0 1 rfl rfl)
theorem dX2_trySwap_4 : decode cX2_trySwap 4 = .ok (.iload_n 2, 1) := dk_28 (dk_at dksX2_trySwap_0 4 rfl rfl)
theorem dX2_trySwap_5 : decode cX2_trySwap 5 = .ok (.if_icmp .lt 7, 3) := dk_161 0 7 (dk_at dksX2_trySwap_0 5 rfl rfl)
theorem dX2_trySwap_8 : decode cX2_trySwap 8 = .ok (.iconst 1, 1) := dk_4 (dk_at dksX2_trySwap_0 8 rfl rfl)
theorem dX2_trySwap_9 : decode cX2_trySwap 9 = .ok (.goto 4, 3) := dk_167 0 4 (dk_at dksX2_trySwap_0 9 rfl rfl)
theorem dX2_trySwap_12 : decode cX2_trySwap 12 = .ok (.iconst 0, 1) := dk_3 (dk_at dksX2_trySwap_0 12 rfl rfl)
theorem dX2_trySwap_13 : decode cX2_trySwap 13 = .ok (.invokestatic 85, 3) := dk_184 0 85 (dk_at dksX2_trySwap_0 13 rfl rfl)
theorem dX2_trySwap_16 : decode cX2_trySwap 16 = .ok (.return_, 1) := dk_177 (dk_at dksX2_trySwap_0 16 rfl rfl)
abbrev cX2_deliver : ByteArray := prog_13_method_10_code
def yX2_deliver : MethodName := ⟨RX2, "deliver", "(ILBottleLoop$Shop;I)I"⟩
def dkwX2_deliver_6 : List UInt8 := [96, 172]
abbrev dktX2_deliver_6 : List UInt8 := dkwX2_deliver_6 ++ []
def dkwX2_deliver_5 : List UInt8 := [180, 0, 64, 21, 5, 96, 181, 0, 64, 42, 89, 180, 0, 70, 21, 6, 96, 181, 0, 70, 21, 5, 21, 6]
abbrev dktX2_deliver_5 : List UInt8 := dkwX2_deliver_5 ++ dktX2_deliver_6
def dkwX2_deliver_4 : List UInt8 := [180, 0, 123, 21, 5, 96, 181, 0, 123, 44, 89, 180, 0, 126, 21, 6, 96, 181, 0, 126, 42, 89]
abbrev dktX2_deliver_4 : List UInt8 := dkwX2_deliver_4 ++ dktX2_deliver_5
def dkwX2_deliver_3 : List UInt8 := [180, 0, 120, 29, 96, 181, 0, 120, 44, 89, 180, 0, 109, 21, 5, 21, 6, 96, 100, 181, 0, 109, 44, 89]
abbrev dktX2_deliver_3 : List UInt8 := dkwX2_deliver_3 ++ dktX2_deliver_4
def dkwX2_deliver_2 : List UInt8 := [180, 0, 118, 27, 92, 46, 16, 12, 29, 104, 96, 79, 42, 89, 180, 0, 60, 29, 100, 181, 0, 60, 44, 89]
abbrev dktX2_deliver_2 : List UInt8 := dkwX2_deliver_2 ++ dktX2_deliver_3
def dkwX2_deliver_1 : List UInt8 := [180, 0, 21, 7, 46, 104, 54, 6, 25, 4, 89, 180, 0, 93, 16, 12, 29, 104, 100, 181, 0, 93, 44]
abbrev dktX2_deliver_1 : List UInt8 := dkwX2_deliver_1 ++ dktX2_deliver_2
def dkwX2_deliver_0 : List UInt8 := [42, 180, 0, 12, 27, 182, 0, 35, 192, 0, 39, 58, 4, 42, 25, 4, 29, 182, 0, 103, 54, 5, 29, 42]
abbrev dktX2_deliver_0 : List UInt8 := dkwX2_deliver_0 ++ dktX2_deliver_1
theorem dksX2_deliver_0 : cX2_deliver.data.toList.drop 0 = dktX2_deliver_0 := by decide +kernel
theorem dksX2_deliver_1 : cX2_deliver.data.toList.drop 24 = dktX2_deliver_1 := dk_seg dksX2_deliver_0 24 rfl rfl
theorem dksX2_deliver_2 : cX2_deliver.data.toList.drop 47 = dktX2_deliver_2 := dk_seg dksX2_deliver_1 23 rfl rfl
theorem dksX2_deliver_3 : cX2_deliver.data.toList.drop 71 = dktX2_deliver_3 := dk_seg dksX2_deliver_2 24 rfl rfl
theorem dksX2_deliver_4 : cX2_deliver.data.toList.drop 95 = dktX2_deliver_4 := dk_seg dksX2_deliver_3 24 rfl rfl
theorem dksX2_deliver_5 : cX2_deliver.data.toList.drop 117 = dktX2_deliver_5 := dk_seg dksX2_deliver_4 22 rfl rfl
theorem dksX2_deliver_6 : cX2_deliver.data.toList.drop 141 = dktX2_deliver_6 := dk_seg dksX2_deliver_5 24 rfl rfl
theorem dX2_deliver_0 : decode cX2_deliver 0 = .ok (.aload_n 0, 1) := dk_42 (dk_at dksX2_deliver_0 0 rfl rfl)
theorem dX2_deliver_1 : decode cX2_deliver 1 = .ok (.getfield 12, 3) := dk_180 0 12 (dk_at dksX2_deliver_0 1 rfl rfl)
theorem dX2_deliver_4 : decode cX2_deliver 4 = .ok (.iload_n 1, 1) := dk_27 (dk_at dksX2_deliver_0 4 rfl rfl)
theorem dX2_deliver_5 : decode cX2_deliver 5 = .ok (.invokevirtual 35, 3) := dk_182 0 35 (dk_at dksX2_deliver_0 5 rfl rfl)
theorem dX2_deliver_8 : decode cX2_deliver 8 = .ok (.checkcast 39, 3) := dk_192 0 39 (dk_at dksX2_deliver_0 8 rfl rfl)
theorem dX2_deliver_11 : decode cX2_deliver 11 = .ok (.astore 4, 2) := dk_58 4 (dk_at dksX2_deliver_0 11 rfl rfl)
theorem dX2_deliver_13 : decode cX2_deliver 13 = .ok (.aload_n 0, 1) := dk_42 (dk_at dksX2_deliver_0 13 rfl rfl)
theorem dX2_deliver_14 : decode cX2_deliver 14 = .ok (.aload 4, 2) := dk_25 4 (dk_at dksX2_deliver_0 14 rfl rfl)
theorem dX2_deliver_16 : decode cX2_deliver 16 = .ok (.iload_n 3, 1) := dk_29 (dk_at dksX2_deliver_0 16 rfl rfl)
theorem dX2_deliver_17 : decode cX2_deliver 17 = .ok (.invokevirtual 103, 3) := dk_182 0 103 (dk_at dksX2_deliver_0 17 rfl rfl)
theorem dX2_deliver_20 : decode cX2_deliver 20 = .ok (.istore 5, 2) := dk_54 5 (dk_at dksX2_deliver_0 20 rfl rfl)
theorem dX2_deliver_22 : decode cX2_deliver 22 = .ok (.iload_n 3, 1) := dk_29 (dk_at dksX2_deliver_0 22 rfl rfl)
theorem dX2_deliver_23 : decode cX2_deliver 23 = .ok (.aload_n 0, 1) := dk_42 (dk_at dksX2_deliver_0 23 rfl rfl)
theorem dX2_deliver_24 : decode cX2_deliver 24 = .ok (.getfield 21, 3) := dk_180 0 21 (dk_at dksX2_deliver_1 0 rfl rfl)
theorem dX2_deliver_27 : decode cX2_deliver 27 = .ok (.iconst 4, 1) := dk_7 (dk_at dksX2_deliver_1 3 rfl rfl)
theorem dX2_deliver_28 : decode cX2_deliver 28 = .ok (.iaload, 1) := dk_46 (dk_at dksX2_deliver_1 4 rfl rfl)
theorem dX2_deliver_29 : decode cX2_deliver 29 = .ok (.imul, 1) := dk_104 (dk_at dksX2_deliver_1 5 rfl rfl)
theorem dX2_deliver_30 : decode cX2_deliver 30 = .ok (.istore 6, 2) := dk_54 6 (dk_at dksX2_deliver_1 6 rfl rfl)
theorem dX2_deliver_32 : decode cX2_deliver 32 = .ok (.aload 4, 2) := dk_25 4 (dk_at dksX2_deliver_1 8 rfl rfl)
theorem dX2_deliver_34 : decode cX2_deliver 34 = .ok (.dup, 1) := dk_89 (dk_at dksX2_deliver_1 10 rfl rfl)
theorem dX2_deliver_35 : decode cX2_deliver 35 = .ok (.getfield 93, 3) := dk_180 0 93 (dk_at dksX2_deliver_1 11 rfl rfl)
theorem dX2_deliver_38 : decode cX2_deliver 38 = .ok (.bipush 12, 2) := dk_16 12 (dk_at dksX2_deliver_1 14 rfl rfl)
theorem dX2_deliver_40 : decode cX2_deliver 40 = .ok (.iload_n 3, 1) := dk_29 (dk_at dksX2_deliver_1 16 rfl rfl)
theorem dX2_deliver_41 : decode cX2_deliver 41 = .ok (.imul, 1) := dk_104 (dk_at dksX2_deliver_1 17 rfl rfl)
theorem dX2_deliver_42 : decode cX2_deliver 42 = .ok (.isub, 1) := dk_100 (dk_at dksX2_deliver_1 18 rfl rfl)
theorem dX2_deliver_43 : decode cX2_deliver 43 = .ok (.putfield 93, 3) := dk_181 0 93 (dk_at dksX2_deliver_1 19 rfl rfl)
theorem dX2_deliver_46 : decode cX2_deliver 46 = .ok (.aload_n 2, 1) := dk_44 (dk_at dksX2_deliver_1 22 rfl rfl)
theorem dX2_deliver_47 : decode cX2_deliver 47 = .ok (.getfield 118, 3) := dk_180 0 118 (dk_at dksX2_deliver_2 0 rfl rfl)
theorem dX2_deliver_50 : decode cX2_deliver 50 = .ok (.iload_n 1, 1) := dk_27 (dk_at dksX2_deliver_2 3 rfl rfl)
theorem dX2_deliver_51 : decode cX2_deliver 51 = .ok (.dup2, 1) := dk_92 (dk_at dksX2_deliver_2 4 rfl rfl)
theorem dX2_deliver_52 : decode cX2_deliver 52 = .ok (.iaload, 1) := dk_46 (dk_at dksX2_deliver_2 5 rfl rfl)
theorem dX2_deliver_53 : decode cX2_deliver 53 = .ok (.bipush 12, 2) := dk_16 12 (dk_at dksX2_deliver_2 6 rfl rfl)
theorem dX2_deliver_55 : decode cX2_deliver 55 = .ok (.iload_n 3, 1) := dk_29 (dk_at dksX2_deliver_2 8 rfl rfl)
theorem dX2_deliver_56 : decode cX2_deliver 56 = .ok (.imul, 1) := dk_104 (dk_at dksX2_deliver_2 9 rfl rfl)
theorem dX2_deliver_57 : decode cX2_deliver 57 = .ok (.iadd, 1) := dk_96 (dk_at dksX2_deliver_2 10 rfl rfl)
theorem dX2_deliver_58 : decode cX2_deliver 58 = .ok (.iastore, 1) := dk_79 (dk_at dksX2_deliver_2 11 rfl rfl)
theorem dX2_deliver_59 : decode cX2_deliver 59 = .ok (.aload_n 0, 1) := dk_42 (dk_at dksX2_deliver_2 12 rfl rfl)
theorem dX2_deliver_60 : decode cX2_deliver 60 = .ok (.dup, 1) := dk_89 (dk_at dksX2_deliver_2 13 rfl rfl)
theorem dX2_deliver_61 : decode cX2_deliver 61 = .ok (.getfield 60, 3) := dk_180 0 60 (dk_at dksX2_deliver_2 14 rfl rfl)
theorem dX2_deliver_64 : decode cX2_deliver 64 = .ok (.iload_n 3, 1) := dk_29 (dk_at dksX2_deliver_2 17 rfl rfl)
theorem dX2_deliver_65 : decode cX2_deliver 65 = .ok (.isub, 1) := dk_100 (dk_at dksX2_deliver_2 18 rfl rfl)
theorem dX2_deliver_66 : decode cX2_deliver 66 = .ok (.putfield 60, 3) := dk_181 0 60 (dk_at dksX2_deliver_2 19 rfl rfl)
theorem dX2_deliver_69 : decode cX2_deliver 69 = .ok (.aload_n 2, 1) := dk_44 (dk_at dksX2_deliver_2 22 rfl rfl)
theorem dX2_deliver_70 : decode cX2_deliver 70 = .ok (.dup, 1) := dk_89 (dk_at dksX2_deliver_2 23 rfl rfl)
theorem dX2_deliver_71 : decode cX2_deliver 71 = .ok (.getfield 120, 3) := dk_180 0 120 (dk_at dksX2_deliver_3 0 rfl rfl)
theorem dX2_deliver_74 : decode cX2_deliver 74 = .ok (.iload_n 3, 1) := dk_29 (dk_at dksX2_deliver_3 3 rfl rfl)
theorem dX2_deliver_75 : decode cX2_deliver 75 = .ok (.iadd, 1) := dk_96 (dk_at dksX2_deliver_3 4 rfl rfl)
theorem dX2_deliver_76 : decode cX2_deliver 76 = .ok (.putfield 120, 3) := dk_181 0 120 (dk_at dksX2_deliver_3 5 rfl rfl)
theorem dX2_deliver_79 : decode cX2_deliver 79 = .ok (.aload_n 2, 1) := dk_44 (dk_at dksX2_deliver_3 8 rfl rfl)
theorem dX2_deliver_80 : decode cX2_deliver 80 = .ok (.dup, 1) := dk_89 (dk_at dksX2_deliver_3 9 rfl rfl)
theorem dX2_deliver_81 : decode cX2_deliver 81 = .ok (.getfield 109, 3) := dk_180 0 109 (dk_at dksX2_deliver_3 10 rfl rfl)
theorem dX2_deliver_84 : decode cX2_deliver 84 = .ok (.iload 5, 2) := dk_21 5 (dk_at dksX2_deliver_3 13 rfl rfl)
theorem dX2_deliver_86 : decode cX2_deliver 86 = .ok (.iload 6, 2) := dk_21 6 (dk_at dksX2_deliver_3 15 rfl rfl)
theorem dX2_deliver_88 : decode cX2_deliver 88 = .ok (.iadd, 1) := dk_96 (dk_at dksX2_deliver_3 17 rfl rfl)
theorem dX2_deliver_89 : decode cX2_deliver 89 = .ok (.isub, 1) := dk_100 (dk_at dksX2_deliver_3 18 rfl rfl)
theorem dX2_deliver_90 : decode cX2_deliver 90 = .ok (.putfield 109, 3) := dk_181 0 109 (dk_at dksX2_deliver_3 19 rfl rfl)
theorem dX2_deliver_93 : decode cX2_deliver 93 = .ok (.aload_n 2, 1) := dk_44 (dk_at dksX2_deliver_3 22 rfl rfl)
theorem dX2_deliver_94 : decode cX2_deliver 94 = .ok (.dup, 1) := dk_89 (dk_at dksX2_deliver_3 23 rfl rfl)
theorem dX2_deliver_95 : decode cX2_deliver 95 = .ok (.getfield 123, 3) := dk_180 0 123 (dk_at dksX2_deliver_4 0 rfl rfl)
theorem dX2_deliver_98 : decode cX2_deliver 98 = .ok (.iload 5, 2) := dk_21 5 (dk_at dksX2_deliver_4 3 rfl rfl)
theorem dX2_deliver_100 : decode cX2_deliver 100 = .ok (.iadd, 1) := dk_96 (dk_at dksX2_deliver_4 5 rfl rfl)
theorem dX2_deliver_101 : decode cX2_deliver 101 = .ok (.putfield 123, 3) := dk_181 0 123 (dk_at dksX2_deliver_4 6 rfl rfl)
theorem dX2_deliver_104 : decode cX2_deliver 104 = .ok (.aload_n 2, 1) := dk_44 (dk_at dksX2_deliver_4 9 rfl rfl)
theorem dX2_deliver_105 : decode cX2_deliver 105 = .ok (.dup, 1) := dk_89 (dk_at dksX2_deliver_4 10 rfl rfl)
theorem dX2_deliver_106 : decode cX2_deliver 106 = .ok (.getfield 126, 3) := dk_180 0 126 (dk_at dksX2_deliver_4 11 rfl rfl)
theorem dX2_deliver_109 : decode cX2_deliver 109 = .ok (.iload 6, 2) := dk_21 6 (dk_at dksX2_deliver_4 14 rfl rfl)
theorem dX2_deliver_111 : decode cX2_deliver 111 = .ok (.iadd, 1) := dk_96 (dk_at dksX2_deliver_4 16 rfl rfl)
theorem dX2_deliver_112 : decode cX2_deliver 112 = .ok (.putfield 126, 3) := dk_181 0 126 (dk_at dksX2_deliver_4 17 rfl rfl)
theorem dX2_deliver_115 : decode cX2_deliver 115 = .ok (.aload_n 0, 1) := dk_42 (dk_at dksX2_deliver_4 20 rfl rfl)
theorem dX2_deliver_116 : decode cX2_deliver 116 = .ok (.dup, 1) := dk_89 (dk_at dksX2_deliver_4 21 rfl rfl)
theorem dX2_deliver_117 : decode cX2_deliver 117 = .ok (.getfield 64, 3) := dk_180 0 64 (dk_at dksX2_deliver_5 0 rfl rfl)
theorem dX2_deliver_120 : decode cX2_deliver 120 = .ok (.iload 5, 2) := dk_21 5 (dk_at dksX2_deliver_5 3 rfl rfl)
theorem dX2_deliver_122 : decode cX2_deliver 122 = .ok (.iadd, 1) := dk_96 (dk_at dksX2_deliver_5 5 rfl rfl)
theorem dX2_deliver_123 : decode cX2_deliver 123 = .ok (.putfield 64, 3) := dk_181 0 64 (dk_at dksX2_deliver_5 6 rfl rfl)
theorem dX2_deliver_126 : decode cX2_deliver 126 = .ok (.aload_n 0, 1) := dk_42 (dk_at dksX2_deliver_5 9 rfl rfl)
theorem dX2_deliver_127 : decode cX2_deliver 127 = .ok (.dup, 1) := dk_89 (dk_at dksX2_deliver_5 10 rfl rfl)
theorem dX2_deliver_128 : decode cX2_deliver 128 = .ok (.getfield 70, 3) := dk_180 0 70 (dk_at dksX2_deliver_5 11 rfl rfl)
theorem dX2_deliver_131 : decode cX2_deliver 131 = .ok (.iload 6, 2) := dk_21 6 (dk_at dksX2_deliver_5 14 rfl rfl)
theorem dX2_deliver_133 : decode cX2_deliver 133 = .ok (.iadd, 1) := dk_96 (dk_at dksX2_deliver_5 16 rfl rfl)
theorem dX2_deliver_134 : decode cX2_deliver 134 = .ok (.putfield 70, 3) := dk_181 0 70 (dk_at dksX2_deliver_5 17 rfl rfl)
theorem dX2_deliver_137 : decode cX2_deliver 137 = .ok (.iload 5, 2) := dk_21 5 (dk_at dksX2_deliver_5 20 rfl rfl)
theorem dX2_deliver_139 : decode cX2_deliver 139 = .ok (.iload 6, 2) := dk_21 6 (dk_at dksX2_deliver_5 22 rfl rfl)
theorem dX2_deliver_141 : decode cX2_deliver 141 = .ok (.iadd, 1) := dk_96 (dk_at dksX2_deliver_6 0 rfl rfl)
theorem dX2_deliver_142 : decode cX2_deliver 142 = .ok (.ireturn, 1) := dk_172 (dk_at dksX2_deliver_6 1 rfl rfl)
abbrev cX2_sell : ByteArray := prog_13_method_12_code
def yX2_sell : MethodName := ⟨RX2, "sell", "(ILBottleLoop$Shop;I)I"⟩
def dkwX2_sell_3 : List UInt8 := [180, 0, 109, 172]
abbrev dktX2_sell_3 : List UInt8 := dkwX2_sell_3 ++ []
def dkwX2_sell_2 : List UInt8 := [192, 0, 39, 182, 0, 99, 104, 96, 181, 0, 109, 44, 89, 180, 0, 132, 29, 96, 181, 0, 132, 44]
abbrev dktX2_sell_2 : List UInt8 := dkwX2_sell_2 ++ dktX2_sell_3
def dkwX2_sell_1 : List UInt8 := [180, 0, 129, 29, 96, 181, 0, 129, 44, 89, 180, 0, 109, 29, 42, 42, 180, 0, 12, 27, 182, 0, 35]
abbrev dktX2_sell_1 : List UInt8 := dkwX2_sell_1 ++ dktX2_sell_2
def dkwX2_sell_0 : List UInt8 := [44, 180, 0, 118, 27, 92, 46, 29, 100, 79, 42, 180, 0, 12, 27, 182, 0, 35, 192, 0, 39, 89]
abbrev dktX2_sell_0 : List UInt8 := dkwX2_sell_0 ++ dktX2_sell_1
theorem dksX2_sell_0 : cX2_sell.data.toList.drop 0 = dktX2_sell_0 := by decide +kernel
theorem dksX2_sell_1 : cX2_sell.data.toList.drop 22 = dktX2_sell_1 := dk_seg dksX2_sell_0 22 rfl rfl
theorem dksX2_sell_2 : cX2_sell.data.toList.drop 45 = dktX2_sell_2 := dk_seg dksX2_sell_1 23 rfl rfl
theorem dksX2_sell_3 : cX2_sell.data.toList.drop 67 = dktX2_sell_3 := dk_seg dksX2_sell_2 22 rfl rfl
theorem dX2_sell_0 : decode cX2_sell 0 = .ok (.aload_n 2, 1) := dk_44 (dk_at dksX2_sell_0 0 rfl rfl)
theorem dX2_sell_1 : decode cX2_sell 1 = .ok (.getfield 118, 3) := dk_180 0 118 (dk_at dksX2_sell_0 1 rfl rfl)
theorem dX2_sell_4 : decode cX2_sell 4 = .ok (.iload_n 1, 1) := dk_27 (dk_at dksX2_sell_0 4 rfl rfl)
theorem dX2_sell_5 : decode cX2_sell 5 = .ok (.dup2, 1) := dk_92 (dk_at dksX2_sell_0 5 rfl rfl)
theorem dX2_sell_6 : decode cX2_sell 6 = .ok (.iaload, 1) := dk_46 (dk_at dksX2_sell_0 6 rfl rfl)
theorem dX2_sell_7 : decode cX2_sell 7 = .ok (.iload_n 3, 1) := dk_29 (dk_at dksX2_sell_0 7 rfl rfl)
theorem dX2_sell_8 : decode cX2_sell 8 = .ok (.isub, 1) := dk_100 (dk_at dksX2_sell_0 8 rfl rfl)
theorem dX2_sell_9 : decode cX2_sell 9 = .ok (.iastore, 1) := dk_79 (dk_at dksX2_sell_0 9 rfl rfl)
theorem dX2_sell_10 : decode cX2_sell 10 = .ok (.aload_n 0, 1) := dk_42 (dk_at dksX2_sell_0 10 rfl rfl)
theorem dX2_sell_11 : decode cX2_sell 11 = .ok (.getfield 12, 3) := dk_180 0 12 (dk_at dksX2_sell_0 11 rfl rfl)
theorem dX2_sell_14 : decode cX2_sell 14 = .ok (.iload_n 1, 1) := dk_27 (dk_at dksX2_sell_0 14 rfl rfl)
theorem dX2_sell_15 : decode cX2_sell 15 = .ok (.invokevirtual 35, 3) := dk_182 0 35 (dk_at dksX2_sell_0 15 rfl rfl)
theorem dX2_sell_18 : decode cX2_sell 18 = .ok (.checkcast 39, 3) := dk_192 0 39 (dk_at dksX2_sell_0 18 rfl rfl)
theorem dX2_sell_21 : decode cX2_sell 21 = .ok (.dup, 1) := dk_89 (dk_at dksX2_sell_0 21 rfl rfl)
theorem dX2_sell_22 : decode cX2_sell 22 = .ok (.getfield 129, 3) := dk_180 0 129 (dk_at dksX2_sell_1 0 rfl rfl)
theorem dX2_sell_25 : decode cX2_sell 25 = .ok (.iload_n 3, 1) := dk_29 (dk_at dksX2_sell_1 3 rfl rfl)
theorem dX2_sell_26 : decode cX2_sell 26 = .ok (.iadd, 1) := dk_96 (dk_at dksX2_sell_1 4 rfl rfl)
theorem dX2_sell_27 : decode cX2_sell 27 = .ok (.putfield 129, 3) := dk_181 0 129 (dk_at dksX2_sell_1 5 rfl rfl)
theorem dX2_sell_30 : decode cX2_sell 30 = .ok (.aload_n 2, 1) := dk_44 (dk_at dksX2_sell_1 8 rfl rfl)
theorem dX2_sell_31 : decode cX2_sell 31 = .ok (.dup, 1) := dk_89 (dk_at dksX2_sell_1 9 rfl rfl)
theorem dX2_sell_32 : decode cX2_sell 32 = .ok (.getfield 109, 3) := dk_180 0 109 (dk_at dksX2_sell_1 10 rfl rfl)
theorem dX2_sell_35 : decode cX2_sell 35 = .ok (.iload_n 3, 1) := dk_29 (dk_at dksX2_sell_1 13 rfl rfl)
theorem dX2_sell_36 : decode cX2_sell 36 = .ok (.aload_n 0, 1) := dk_42 (dk_at dksX2_sell_1 14 rfl rfl)
theorem dX2_sell_37 : decode cX2_sell 37 = .ok (.aload_n 0, 1) := dk_42 (dk_at dksX2_sell_1 15 rfl rfl)
theorem dX2_sell_38 : decode cX2_sell 38 = .ok (.getfield 12, 3) := dk_180 0 12 (dk_at dksX2_sell_1 16 rfl rfl)
theorem dX2_sell_41 : decode cX2_sell 41 = .ok (.iload_n 1, 1) := dk_27 (dk_at dksX2_sell_1 19 rfl rfl)
theorem dX2_sell_42 : decode cX2_sell 42 = .ok (.invokevirtual 35, 3) := dk_182 0 35 (dk_at dksX2_sell_1 20 rfl rfl)
theorem dX2_sell_45 : decode cX2_sell 45 = .ok (.checkcast 39, 3) := dk_192 0 39 (dk_at dksX2_sell_2 0 rfl rfl)
theorem dX2_sell_48 : decode cX2_sell 48 = .ok (.invokevirtual 99, 3) := dk_182 0 99 (dk_at dksX2_sell_2 3 rfl rfl)
theorem dX2_sell_51 : decode cX2_sell 51 = .ok (.imul, 1) := dk_104 (dk_at dksX2_sell_2 6 rfl rfl)
theorem dX2_sell_52 : decode cX2_sell 52 = .ok (.iadd, 1) := dk_96 (dk_at dksX2_sell_2 7 rfl rfl)
theorem dX2_sell_53 : decode cX2_sell 53 = .ok (.putfield 109, 3) := dk_181 0 109 (dk_at dksX2_sell_2 8 rfl rfl)
theorem dX2_sell_56 : decode cX2_sell 56 = .ok (.aload_n 2, 1) := dk_44 (dk_at dksX2_sell_2 11 rfl rfl)
theorem dX2_sell_57 : decode cX2_sell 57 = .ok (.dup, 1) := dk_89 (dk_at dksX2_sell_2 12 rfl rfl)
theorem dX2_sell_58 : decode cX2_sell 58 = .ok (.getfield 132, 3) := dk_180 0 132 (dk_at dksX2_sell_2 13 rfl rfl)
theorem dX2_sell_61 : decode cX2_sell 61 = .ok (.iload_n 3, 1) := dk_29 (dk_at dksX2_sell_2 16 rfl rfl)
theorem dX2_sell_62 : decode cX2_sell 62 = .ok (.iadd, 1) := dk_96 (dk_at dksX2_sell_2 17 rfl rfl)
theorem dX2_sell_63 : decode cX2_sell 63 = .ok (.putfield 132, 3) := dk_181 0 132 (dk_at dksX2_sell_2 18 rfl rfl)
theorem dX2_sell_66 : decode cX2_sell 66 = .ok (.aload_n 2, 1) := dk_44 (dk_at dksX2_sell_2 21 rfl rfl)
theorem dX2_sell_67 : decode cX2_sell 67 = .ok (.getfield 109, 3) := dk_180 0 109 (dk_at dksX2_sell_3 0 rfl rfl)
theorem dX2_sell_70 : decode cX2_sell 70 = .ok (.ireturn, 1) := dk_172 (dk_at dksX2_sell_3 3 rfl rfl)
abbrev cX2_take : ByteArray := prog_13_method_14_code
def yX2_take : MethodName := ⟨RX2, "take", "(ILBottleLoop$Shop;I)I"⟩
def dkwX2_take_2 : List UInt8 := [182, 0, 99, 104, 100, 181, 0, 109, 44, 89, 180, 0, 132, 29, 100, 181, 0, 132, 44, 180, 0, 109, 172]
abbrev dktX2_take_2 : List UInt8 := dkwX2_take_2 ++ []
def dkwX2_take_1 : List UInt8 := [27, 92, 46, 29, 96, 79, 44, 89, 180, 0, 109, 29, 42, 42, 180, 0, 12, 27, 182, 0, 35, 192, 0, 39]
abbrev dktX2_take_1 : List UInt8 := dkwX2_take_1 ++ dktX2_take_2
def dkwX2_take_0 : List UInt8 := [42, 180, 0, 12, 27, 182, 0, 35, 192, 0, 39, 89, 180, 0, 129, 29, 100, 181, 0, 129, 44, 180, 0, 135]
abbrev dktX2_take_0 : List UInt8 := dkwX2_take_0 ++ dktX2_take_1
theorem dksX2_take_0 : cX2_take.data.toList.drop 0 = dktX2_take_0 := by decide +kernel
theorem dksX2_take_1 : cX2_take.data.toList.drop 24 = dktX2_take_1 := dk_seg dksX2_take_0 24 rfl rfl
theorem dksX2_take_2 : cX2_take.data.toList.drop 48 = dktX2_take_2 := dk_seg dksX2_take_1 24 rfl rfl
theorem dX2_take_0 : decode cX2_take 0 = .ok (.aload_n 0, 1) := dk_42 (dk_at dksX2_take_0 0 rfl rfl)
theorem dX2_take_1 : decode cX2_take 1 = .ok (.getfield 12, 3) := dk_180 0 12 (dk_at dksX2_take_0 1 rfl rfl)
theorem dX2_take_4 : decode cX2_take 4 = .ok (.iload_n 1, 1) := dk_27 (dk_at dksX2_take_0 4 rfl rfl)
theorem dX2_take_5 : decode cX2_take 5 = .ok (.invokevirtual 35, 3) := dk_182 0 35 (dk_at dksX2_take_0 5 rfl rfl)
theorem dX2_take_8 : decode cX2_take 8 = .ok (.checkcast 39, 3) := dk_192 0 39 (dk_at dksX2_take_0 8 rfl rfl)
theorem dX2_take_11 : decode cX2_take 11 = .ok (.dup, 1) := dk_89 (dk_at dksX2_take_0 11 rfl rfl)
theorem dX2_take_12 : decode cX2_take 12 = .ok (.getfield 129, 3) := dk_180 0 129 (dk_at dksX2_take_0 12 rfl rfl)
theorem dX2_take_15 : decode cX2_take 15 = .ok (.iload_n 3, 1) := dk_29 (dk_at dksX2_take_0 15 rfl rfl)
theorem dX2_take_16 : decode cX2_take 16 = .ok (.isub, 1) := dk_100 (dk_at dksX2_take_0 16 rfl rfl)
theorem dX2_take_17 : decode cX2_take 17 = .ok (.putfield 129, 3) := dk_181 0 129 (dk_at dksX2_take_0 17 rfl rfl)
theorem dX2_take_20 : decode cX2_take 20 = .ok (.aload_n 2, 1) := dk_44 (dk_at dksX2_take_0 20 rfl rfl)
theorem dX2_take_21 : decode cX2_take 21 = .ok (.getfield 135, 3) := dk_180 0 135 (dk_at dksX2_take_0 21 rfl rfl)
theorem dX2_take_24 : decode cX2_take 24 = .ok (.iload_n 1, 1) := dk_27 (dk_at dksX2_take_1 0 rfl rfl)
theorem dX2_take_25 : decode cX2_take 25 = .ok (.dup2, 1) := dk_92 (dk_at dksX2_take_1 1 rfl rfl)
theorem dX2_take_26 : decode cX2_take 26 = .ok (.iaload, 1) := dk_46 (dk_at dksX2_take_1 2 rfl rfl)
theorem dX2_take_27 : decode cX2_take 27 = .ok (.iload_n 3, 1) := dk_29 (dk_at dksX2_take_1 3 rfl rfl)
theorem dX2_take_28 : decode cX2_take 28 = .ok (.iadd, 1) := dk_96 (dk_at dksX2_take_1 4 rfl rfl)
theorem dX2_take_29 : decode cX2_take 29 = .ok (.iastore, 1) := dk_79 (dk_at dksX2_take_1 5 rfl rfl)
theorem dX2_take_30 : decode cX2_take 30 = .ok (.aload_n 2, 1) := dk_44 (dk_at dksX2_take_1 6 rfl rfl)
theorem dX2_take_31 : decode cX2_take 31 = .ok (.dup, 1) := dk_89 (dk_at dksX2_take_1 7 rfl rfl)
theorem dX2_take_32 : decode cX2_take 32 = .ok (.getfield 109, 3) := dk_180 0 109 (dk_at dksX2_take_1 8 rfl rfl)
theorem dX2_take_35 : decode cX2_take 35 = .ok (.iload_n 3, 1) := dk_29 (dk_at dksX2_take_1 11 rfl rfl)
theorem dX2_take_36 : decode cX2_take 36 = .ok (.aload_n 0, 1) := dk_42 (dk_at dksX2_take_1 12 rfl rfl)
theorem dX2_take_37 : decode cX2_take 37 = .ok (.aload_n 0, 1) := dk_42 (dk_at dksX2_take_1 13 rfl rfl)
theorem dX2_take_38 : decode cX2_take 38 = .ok (.getfield 12, 3) := dk_180 0 12 (dk_at dksX2_take_1 14 rfl rfl)
theorem dX2_take_41 : decode cX2_take 41 = .ok (.iload_n 1, 1) := dk_27 (dk_at dksX2_take_1 17 rfl rfl)
theorem dX2_take_42 : decode cX2_take 42 = .ok (.invokevirtual 35, 3) := dk_182 0 35 (dk_at dksX2_take_1 18 rfl rfl)
theorem dX2_take_45 : decode cX2_take 45 = .ok (.checkcast 39, 3) := dk_192 0 39 (dk_at dksX2_take_1 21 rfl rfl)
theorem dX2_take_48 : decode cX2_take 48 = .ok (.invokevirtual 99, 3) := dk_182 0 99 (dk_at dksX2_take_2 0 rfl rfl)
theorem dX2_take_51 : decode cX2_take 51 = .ok (.imul, 1) := dk_104 (dk_at dksX2_take_2 3 rfl rfl)
theorem dX2_take_52 : decode cX2_take 52 = .ok (.isub, 1) := dk_100 (dk_at dksX2_take_2 4 rfl rfl)
theorem dX2_take_53 : decode cX2_take 53 = .ok (.putfield 109, 3) := dk_181 0 109 (dk_at dksX2_take_2 5 rfl rfl)
theorem dX2_take_56 : decode cX2_take 56 = .ok (.aload_n 2, 1) := dk_44 (dk_at dksX2_take_2 8 rfl rfl)
theorem dX2_take_57 : decode cX2_take 57 = .ok (.dup, 1) := dk_89 (dk_at dksX2_take_2 9 rfl rfl)
theorem dX2_take_58 : decode cX2_take 58 = .ok (.getfield 132, 3) := dk_180 0 132 (dk_at dksX2_take_2 10 rfl rfl)
theorem dX2_take_61 : decode cX2_take 61 = .ok (.iload_n 3, 1) := dk_29 (dk_at dksX2_take_2 13 rfl rfl)
theorem dX2_take_62 : decode cX2_take 62 = .ok (.isub, 1) := dk_100 (dk_at dksX2_take_2 14 rfl rfl)
theorem dX2_take_63 : decode cX2_take 63 = .ok (.putfield 132, 3) := dk_181 0 132 (dk_at dksX2_take_2 15 rfl rfl)
theorem dX2_take_66 : decode cX2_take 66 = .ok (.aload_n 2, 1) := dk_44 (dk_at dksX2_take_2 18 rfl rfl)
theorem dX2_take_67 : decode cX2_take 67 = .ok (.getfield 109, 3) := dk_180 0 109 (dk_at dksX2_take_2 19 rfl rfl)
theorem dX2_take_70 : decode cX2_take 70 = .ok (.ireturn, 1) := dk_172 (dk_at dksX2_take_2 22 rfl rfl)
abbrev cX2_breaks : ByteArray := prog_13_method_16_code
def yX2_breaks : MethodName := ⟨RX2, "breaks", "(ILBottleLoop$Shop;I)I"⟩
def dkwX2_breaks_4 : List UInt8 := [181, 0, 109, 42, 89, 180, 0, 67, 21, 4, 96, 181, 0, 67, 21, 5, 172]
abbrev dktX2_breaks_4 : List UInt8 := dkwX2_breaks_4 ++ []
def dkwX2_breaks_3 : List UInt8 := [181, 0, 70, 44, 89, 180, 0, 126, 21, 5, 100, 181, 0, 126, 44, 89, 180, 0, 109, 21, 5, 96]
abbrev dktX2_breaks_3 : List UInt8 := dkwX2_breaks_3 ++ dktX2_breaks_4
def dkwX2_breaks_2 : List UInt8 := [182, 0, 35, 192, 0, 39, 89, 180, 0, 143, 29, 96, 181, 0, 143, 42, 89, 180, 0, 70, 21, 5, 100]
abbrev dktX2_breaks_2 : List UInt8 := dkwX2_breaks_2 ++ dktX2_breaks_3
def dkwX2_breaks_1 : List UInt8 := [180, 0, 70, 184, 0, 137, 54, 5, 44, 180, 0, 135, 27, 92, 46, 29, 100, 79, 42, 180, 0, 12, 27]
abbrev dktX2_breaks_1 : List UInt8 := dkwX2_breaks_1 ++ dktX2_breaks_2
def dkwX2_breaks_0 : List UInt8 := [29, 42, 42, 180, 0, 12, 27, 182, 0, 35, 192, 0, 39, 182, 0, 99, 104, 54, 4, 21, 4, 42]
abbrev dktX2_breaks_0 : List UInt8 := dkwX2_breaks_0 ++ dktX2_breaks_1
theorem dksX2_breaks_0 : cX2_breaks.data.toList.drop 0 = dktX2_breaks_0 := by decide +kernel
theorem dksX2_breaks_1 : cX2_breaks.data.toList.drop 22 = dktX2_breaks_1 := dk_seg dksX2_breaks_0 22 rfl rfl
theorem dksX2_breaks_2 : cX2_breaks.data.toList.drop 45 = dktX2_breaks_2 := dk_seg dksX2_breaks_1 23 rfl rfl
theorem dksX2_breaks_3 : cX2_breaks.data.toList.drop 68 = dktX2_breaks_3 := dk_seg dksX2_breaks_2 23 rfl rfl
theorem dksX2_breaks_4 : cX2_breaks.data.toList.drop 90 = dktX2_breaks_4 := dk_seg dksX2_breaks_3 22 rfl rfl
theorem dX2_breaks_0 : decode cX2_breaks 0 = .ok (.iload_n 3, 1) := dk_29 (dk_at dksX2_breaks_0 0 rfl rfl)
theorem dX2_breaks_1 : decode cX2_breaks 1 = .ok (.aload_n 0, 1) := dk_42 (dk_at dksX2_breaks_0 1 rfl rfl)
theorem dX2_breaks_2 : decode cX2_breaks 2 = .ok (.aload_n 0, 1) := dk_42 (dk_at dksX2_breaks_0 2 rfl rfl)
theorem dX2_breaks_3 : decode cX2_breaks 3 = .ok (.getfield 12, 3) := dk_180 0 12 (dk_at dksX2_breaks_0 3 rfl rfl)
theorem dX2_breaks_6 : decode cX2_breaks 6 = .ok (.iload_n 1, 1) := dk_27 (dk_at dksX2_breaks_0 6 rfl rfl)
theorem dX2_breaks_7 : decode cX2_breaks 7 = .ok (.invokevirtual 35, 3) := dk_182 0 35 (dk_at dksX2_breaks_0 7 rfl rfl)
theorem dX2_breaks_10 : decode cX2_breaks 10 = .ok (.checkcast 39, 3) := dk_192 0 39 (dk_at dksX2_breaks_0 10 rfl rfl)
theorem dX2_breaks_13 : decode cX2_breaks 13 = .ok (.invokevirtual 99, 3) := dk_182 0 99 (dk_at dksX2_breaks_0 13 rfl rfl)
theorem dX2_breaks_16 : decode cX2_breaks 16 = .ok (.imul, 1) := dk_104 (dk_at dksX2_breaks_0 16 rfl rfl)
theorem dX2_breaks_17 : decode cX2_breaks 17 = .ok (.istore 4, 2) := dk_54 4 (dk_at dksX2_breaks_0 17 rfl rfl)
theorem dX2_breaks_19 : decode cX2_breaks 19 = .ok (.iload 4, 2) := dk_21 4 (dk_at dksX2_breaks_0 19 rfl rfl)
theorem dX2_breaks_21 : decode cX2_breaks 21 = .ok (.aload_n 0, 1) := dk_42 (dk_at dksX2_breaks_0 21 rfl rfl)
theorem dX2_breaks_22 : decode cX2_breaks 22 = .ok (.getfield 70, 3) := dk_180 0 70 (dk_at dksX2_breaks_1 0 rfl rfl)
theorem dX2_breaks_25 : decode cX2_breaks 25 = .ok (.invokestatic 137, 3) := dk_184 0 137 (dk_at dksX2_breaks_1 3 rfl rfl)
theorem dX2_breaks_28 : decode cX2_breaks 28 = .ok (.istore 5, 2) := dk_54 5 (dk_at dksX2_breaks_1 6 rfl rfl)
theorem dX2_breaks_30 : decode cX2_breaks 30 = .ok (.aload_n 2, 1) := dk_44 (dk_at dksX2_breaks_1 8 rfl rfl)
theorem dX2_breaks_31 : decode cX2_breaks 31 = .ok (.getfield 135, 3) := dk_180 0 135 (dk_at dksX2_breaks_1 9 rfl rfl)
theorem dX2_breaks_34 : decode cX2_breaks 34 = .ok (.iload_n 1, 1) := dk_27 (dk_at dksX2_breaks_1 12 rfl rfl)
theorem dX2_breaks_35 : decode cX2_breaks 35 = .ok (.dup2, 1) := dk_92 (dk_at dksX2_breaks_1 13 rfl rfl)
theorem dX2_breaks_36 : decode cX2_breaks 36 = .ok (.iaload, 1) := dk_46 (dk_at dksX2_breaks_1 14 rfl rfl)
theorem dX2_breaks_37 : decode cX2_breaks 37 = .ok (.iload_n 3, 1) := dk_29 (dk_at dksX2_breaks_1 15 rfl rfl)
theorem dX2_breaks_38 : decode cX2_breaks 38 = .ok (.isub, 1) := dk_100 (dk_at dksX2_breaks_1 16 rfl rfl)
theorem dX2_breaks_39 : decode cX2_breaks 39 = .ok (.iastore, 1) := dk_79 (dk_at dksX2_breaks_1 17 rfl rfl)
theorem dX2_breaks_40 : decode cX2_breaks 40 = .ok (.aload_n 0, 1) := dk_42 (dk_at dksX2_breaks_1 18 rfl rfl)
theorem dX2_breaks_41 : decode cX2_breaks 41 = .ok (.getfield 12, 3) := dk_180 0 12 (dk_at dksX2_breaks_1 19 rfl rfl)
theorem dX2_breaks_44 : decode cX2_breaks 44 = .ok (.iload_n 1, 1) := dk_27 (dk_at dksX2_breaks_1 22 rfl rfl)
theorem dX2_breaks_45 : decode cX2_breaks 45 = .ok (.invokevirtual 35, 3) := dk_182 0 35 (dk_at dksX2_breaks_2 0 rfl rfl)
theorem dX2_breaks_48 : decode cX2_breaks 48 = .ok (.checkcast 39, 3) := dk_192 0 39 (dk_at dksX2_breaks_2 3 rfl rfl)
theorem dX2_breaks_51 : decode cX2_breaks 51 = .ok (.dup, 1) := dk_89 (dk_at dksX2_breaks_2 6 rfl rfl)
theorem dX2_breaks_52 : decode cX2_breaks 52 = .ok (.getfield 143, 3) := dk_180 0 143 (dk_at dksX2_breaks_2 7 rfl rfl)
theorem dX2_breaks_55 : decode cX2_breaks 55 = .ok (.iload_n 3, 1) := dk_29 (dk_at dksX2_breaks_2 10 rfl rfl)
theorem dX2_breaks_56 : decode cX2_breaks 56 = .ok (.iadd, 1) := dk_96 (dk_at dksX2_breaks_2 11 rfl rfl)
theorem dX2_breaks_57 : decode cX2_breaks 57 = .ok (.putfield 143, 3) := dk_181 0 143 (dk_at dksX2_breaks_2 12 rfl rfl)
theorem dX2_breaks_60 : decode cX2_breaks 60 = .ok (.aload_n 0, 1) := dk_42 (dk_at dksX2_breaks_2 15 rfl rfl)
theorem dX2_breaks_61 : decode cX2_breaks 61 = .ok (.dup, 1) := dk_89 (dk_at dksX2_breaks_2 16 rfl rfl)
theorem dX2_breaks_62 : decode cX2_breaks 62 = .ok (.getfield 70, 3) := dk_180 0 70 (dk_at dksX2_breaks_2 17 rfl rfl)
theorem dX2_breaks_65 : decode cX2_breaks 65 = .ok (.iload 5, 2) := dk_21 5 (dk_at dksX2_breaks_2 20 rfl rfl)
theorem dX2_breaks_67 : decode cX2_breaks 67 = .ok (.isub, 1) := dk_100 (dk_at dksX2_breaks_2 22 rfl rfl)
theorem dX2_breaks_68 : decode cX2_breaks 68 = .ok (.putfield 70, 3) := dk_181 0 70 (dk_at dksX2_breaks_3 0 rfl rfl)
theorem dX2_breaks_71 : decode cX2_breaks 71 = .ok (.aload_n 2, 1) := dk_44 (dk_at dksX2_breaks_3 3 rfl rfl)
theorem dX2_breaks_72 : decode cX2_breaks 72 = .ok (.dup, 1) := dk_89 (dk_at dksX2_breaks_3 4 rfl rfl)
theorem dX2_breaks_73 : decode cX2_breaks 73 = .ok (.getfield 126, 3) := dk_180 0 126 (dk_at dksX2_breaks_3 5 rfl rfl)
theorem dX2_breaks_76 : decode cX2_breaks 76 = .ok (.iload 5, 2) := dk_21 5 (dk_at dksX2_breaks_3 8 rfl rfl)
theorem dX2_breaks_78 : decode cX2_breaks 78 = .ok (.isub, 1) := dk_100 (dk_at dksX2_breaks_3 10 rfl rfl)
theorem dX2_breaks_79 : decode cX2_breaks 79 = .ok (.putfield 126, 3) := dk_181 0 126 (dk_at dksX2_breaks_3 11 rfl rfl)
theorem dX2_breaks_82 : decode cX2_breaks 82 = .ok (.aload_n 2, 1) := dk_44 (dk_at dksX2_breaks_3 14 rfl rfl)
theorem dX2_breaks_83 : decode cX2_breaks 83 = .ok (.dup, 1) := dk_89 (dk_at dksX2_breaks_3 15 rfl rfl)
theorem dX2_breaks_84 : decode cX2_breaks 84 = .ok (.getfield 109, 3) := dk_180 0 109 (dk_at dksX2_breaks_3 16 rfl rfl)
theorem dX2_breaks_87 : decode cX2_breaks 87 = .ok (.iload 5, 2) := dk_21 5 (dk_at dksX2_breaks_3 19 rfl rfl)
theorem dX2_breaks_89 : decode cX2_breaks 89 = .ok (.iadd, 1) := dk_96 (dk_at dksX2_breaks_3 21 rfl rfl)
theorem dX2_breaks_90 : decode cX2_breaks 90 = .ok (.putfield 109, 3) := dk_181 0 109 (dk_at dksX2_breaks_4 0 rfl rfl)
theorem dX2_breaks_93 : decode cX2_breaks 93 = .ok (.aload_n 0, 1) := dk_42 (dk_at dksX2_breaks_4 3 rfl rfl)
theorem dX2_breaks_94 : decode cX2_breaks 94 = .ok (.dup, 1) := dk_89 (dk_at dksX2_breaks_4 4 rfl rfl)
theorem dX2_breaks_95 : decode cX2_breaks 95 = .ok (.getfield 67, 3) := dk_180 0 67 (dk_at dksX2_breaks_4 5 rfl rfl)
theorem dX2_breaks_98 : decode cX2_breaks 98 = .ok (.iload 4, 2) := dk_21 4 (dk_at dksX2_breaks_4 8 rfl rfl)
theorem dX2_breaks_100 : decode cX2_breaks 100 = .ok (.iadd, 1) := dk_96 (dk_at dksX2_breaks_4 10 rfl rfl)
theorem dX2_breaks_101 : decode cX2_breaks 101 = .ok (.putfield 67, 3) := dk_181 0 67 (dk_at dksX2_breaks_4 11 rfl rfl)
theorem dX2_breaks_104 : decode cX2_breaks 104 = .ok (.iload 5, 2) := dk_21 5 (dk_at dksX2_breaks_4 14 rfl rfl)
theorem dX2_breaks_106 : decode cX2_breaks 106 = .ok (.ireturn, 1) := dk_172 (dk_at dksX2_breaks_4 16 rfl rfl)
abbrev cX2_collect : ByteArray := prog_13_method_22_code
def yX2_collect : MethodName := ⟨RX2, "collect", "(LBottleLoop$Shop;II[I)I"⟩
def dkwX2_collect_6 : List UInt8 := [181, 0, 64, 21, 5, 172]
abbrev dktX2_collect_6 : List UInt8 := dkwX2_collect_6 ++ []
def dkwX2_collect_5 : List UInt8 := [181, 0, 109, 43, 89, 180, 0, 123, 21, 5, 100, 181, 0, 123, 42, 89, 180, 0, 64, 21, 5, 100]
abbrev dktX2_collect_5 : List UInt8 := dkwX2_collect_5 ++ dktX2_collect_6
def dkwX2_collect_4 : List UInt8 := [29, 100, 181, 0, 120, 42, 89, 180, 0, 60, 29, 96, 181, 0, 60, 43, 89, 180, 0, 109, 21, 5, 96]
abbrev dktX2_collect_4 : List UInt8 := dkwX2_collect_4 ++ dktX2_collect_5
def dkwX2_collect_3 : List UInt8 := [16, 12, 42, 180, 0, 21, 28, 46, 104, 42, 180, 0, 21, 6, 46, 96, 104, 54, 5, 43, 89, 180, 0, 120]
abbrev dktX2_collect_3 : List UInt8 := dkwX2_collect_3 ++ dktX2_collect_4
def dkwX2_collect_2 : List UInt8 := [192, 0, 39, 89, 180, 0, 157, 25, 4, 21, 5, 46, 96, 181, 0, 157, 132, 5, 1, 167, 255, 201, 29]
abbrev dktX2_collect_2 : List UInt8 := dkwX2_collect_2 ++ dktX2_collect_3
def dkwX2_collect_1 : List UInt8 := [43, 180, 0, 135, 21, 5, 92, 46, 25, 4, 21, 5, 46, 100, 79, 42, 180, 0, 12, 21, 5, 182, 0, 35]
abbrev dktX2_collect_1 : List UInt8 := dkwX2_collect_1 ++ dktX2_collect_2
def dkwX2_collect_0 : List UInt8 := [42, 43, 28, 29, 25, 4, 182, 0, 153, 3, 54, 5, 21, 5, 42, 180, 0, 12, 182, 0, 31, 162, 0, 49]
abbrev dktX2_collect_0 : List UInt8 := dkwX2_collect_0 ++ dktX2_collect_1
theorem dksX2_collect_0 : cX2_collect.data.toList.drop 0 = dktX2_collect_0 := by decide +kernel
theorem dksX2_collect_1 : cX2_collect.data.toList.drop 24 = dktX2_collect_1 := dk_seg dksX2_collect_0 24 rfl rfl
theorem dksX2_collect_2 : cX2_collect.data.toList.drop 48 = dktX2_collect_2 := dk_seg dksX2_collect_1 24 rfl rfl
theorem dksX2_collect_3 : cX2_collect.data.toList.drop 71 = dktX2_collect_3 := dk_seg dksX2_collect_2 23 rfl rfl
theorem dksX2_collect_4 : cX2_collect.data.toList.drop 95 = dktX2_collect_4 := dk_seg dksX2_collect_3 24 rfl rfl
theorem dksX2_collect_5 : cX2_collect.data.toList.drop 118 = dktX2_collect_5 := dk_seg dksX2_collect_4 23 rfl rfl
theorem dksX2_collect_6 : cX2_collect.data.toList.drop 140 = dktX2_collect_6 := dk_seg dksX2_collect_5 22 rfl rfl
theorem dX2_collect_0 : decode cX2_collect 0 = .ok (.aload_n 0, 1) := dk_42 (dk_at dksX2_collect_0 0 rfl rfl)
theorem dX2_collect_1 : decode cX2_collect 1 = .ok (.aload_n 1, 1) := dk_43 (dk_at dksX2_collect_0 1 rfl rfl)
theorem dX2_collect_2 : decode cX2_collect 2 = .ok (.iload_n 2, 1) := dk_28 (dk_at dksX2_collect_0 2 rfl rfl)
theorem dX2_collect_3 : decode cX2_collect 3 = .ok (.iload_n 3, 1) := dk_29 (dk_at dksX2_collect_0 3 rfl rfl)
theorem dX2_collect_4 : decode cX2_collect 4 = .ok (.aload 4, 2) := dk_25 4 (dk_at dksX2_collect_0 4 rfl rfl)
theorem dX2_collect_6 : decode cX2_collect 6 = .ok (.invokevirtual 153, 3) := dk_182 0 153 (dk_at dksX2_collect_0 6 rfl rfl)
theorem dX2_collect_9 : decode cX2_collect 9 = .ok (.iconst 0, 1) := dk_3 (dk_at dksX2_collect_0 9 rfl rfl)
theorem dX2_collect_10 : decode cX2_collect 10 = .ok (.istore 5, 2) := dk_54 5 (dk_at dksX2_collect_0 10 rfl rfl)
theorem dX2_collect_12 : decode cX2_collect 12 = .ok (.iload 5, 2) := dk_21 5 (dk_at dksX2_collect_0 12 rfl rfl)
theorem dX2_collect_14 : decode cX2_collect 14 = .ok (.aload_n 0, 1) := dk_42 (dk_at dksX2_collect_0 14 rfl rfl)
theorem dX2_collect_15 : decode cX2_collect 15 = .ok (.getfield 12, 3) := dk_180 0 12 (dk_at dksX2_collect_0 15 rfl rfl)
theorem dX2_collect_18 : decode cX2_collect 18 = .ok (.invokevirtual 31, 3) := dk_182 0 31 (dk_at dksX2_collect_0 18 rfl rfl)
theorem dX2_collect_21 : decode cX2_collect 21 = .ok (.if_icmp .ge 49, 3) := dk_162 0 49 (dk_at dksX2_collect_0 21 rfl rfl)
theorem dX2_collect_24 : decode cX2_collect 24 = .ok (.aload_n 1, 1) := dk_43 (dk_at dksX2_collect_1 0 rfl rfl)
theorem dX2_collect_25 : decode cX2_collect 25 = .ok (.getfield 135, 3) := dk_180 0 135 (dk_at dksX2_collect_1 1 rfl rfl)
theorem dX2_collect_28 : decode cX2_collect 28 = .ok (.iload 5, 2) := dk_21 5 (dk_at dksX2_collect_1 4 rfl rfl)
theorem dX2_collect_30 : decode cX2_collect 30 = .ok (.dup2, 1) := dk_92 (dk_at dksX2_collect_1 6 rfl rfl)
theorem dX2_collect_31 : decode cX2_collect 31 = .ok (.iaload, 1) := dk_46 (dk_at dksX2_collect_1 7 rfl rfl)
theorem dX2_collect_32 : decode cX2_collect 32 = .ok (.aload 4, 2) := dk_25 4 (dk_at dksX2_collect_1 8 rfl rfl)
theorem dX2_collect_34 : decode cX2_collect 34 = .ok (.iload 5, 2) := dk_21 5 (dk_at dksX2_collect_1 10 rfl rfl)
theorem dX2_collect_36 : decode cX2_collect 36 = .ok (.iaload, 1) := dk_46 (dk_at dksX2_collect_1 12 rfl rfl)
theorem dX2_collect_37 : decode cX2_collect 37 = .ok (.isub, 1) := dk_100 (dk_at dksX2_collect_1 13 rfl rfl)
theorem dX2_collect_38 : decode cX2_collect 38 = .ok (.iastore, 1) := dk_79 (dk_at dksX2_collect_1 14 rfl rfl)
theorem dX2_collect_39 : decode cX2_collect 39 = .ok (.aload_n 0, 1) := dk_42 (dk_at dksX2_collect_1 15 rfl rfl)
theorem dX2_collect_40 : decode cX2_collect 40 = .ok (.getfield 12, 3) := dk_180 0 12 (dk_at dksX2_collect_1 16 rfl rfl)
theorem dX2_collect_43 : decode cX2_collect 43 = .ok (.iload 5, 2) := dk_21 5 (dk_at dksX2_collect_1 19 rfl rfl)
theorem dX2_collect_45 : decode cX2_collect 45 = .ok (.invokevirtual 35, 3) := dk_182 0 35 (dk_at dksX2_collect_1 21 rfl rfl)
theorem dX2_collect_48 : decode cX2_collect 48 = .ok (.checkcast 39, 3) := dk_192 0 39 (dk_at dksX2_collect_2 0 rfl rfl)
theorem dX2_collect_51 : decode cX2_collect 51 = .ok (.dup, 1) := dk_89 (dk_at dksX2_collect_2 3 rfl rfl)
theorem dX2_collect_52 : decode cX2_collect 52 = .ok (.getfield 157, 3) := dk_180 0 157 (dk_at dksX2_collect_2 4 rfl rfl)
theorem dX2_collect_55 : decode cX2_collect 55 = .ok (.aload 4, 2) := dk_25 4 (dk_at dksX2_collect_2 7 rfl rfl)
theorem dX2_collect_57 : decode cX2_collect 57 = .ok (.iload 5, 2) := dk_21 5 (dk_at dksX2_collect_2 9 rfl rfl)
theorem dX2_collect_59 : decode cX2_collect 59 = .ok (.iaload, 1) := dk_46 (dk_at dksX2_collect_2 11 rfl rfl)
theorem dX2_collect_60 : decode cX2_collect 60 = .ok (.iadd, 1) := dk_96 (dk_at dksX2_collect_2 12 rfl rfl)
theorem dX2_collect_61 : decode cX2_collect 61 = .ok (.putfield 157, 3) := dk_181 0 157 (dk_at dksX2_collect_2 13 rfl rfl)
theorem dX2_collect_64 : decode cX2_collect 64 = .ok (.iinc 5 1, 3) := dk_132 5 1 (dk_at dksX2_collect_2 16 rfl rfl)
theorem dX2_collect_67 : decode cX2_collect 67 = .ok (.goto (-55), 3) := dk_167 255 201 (dk_at dksX2_collect_2 19 rfl rfl)
theorem dX2_collect_70 : decode cX2_collect 70 = .ok (.iload_n 3, 1) := dk_29 (dk_at dksX2_collect_2 22 rfl rfl)
theorem dX2_collect_71 : decode cX2_collect 71 = .ok (.bipush 12, 2) := dk_16 12 (dk_at dksX2_collect_3 0 rfl rfl)
theorem dX2_collect_73 : decode cX2_collect 73 = .ok (.aload_n 0, 1) := dk_42 (dk_at dksX2_collect_3 2 rfl rfl)
theorem dX2_collect_74 : decode cX2_collect 74 = .ok (.getfield 21, 3) := dk_180 0 21 (dk_at dksX2_collect_3 3 rfl rfl)
theorem dX2_collect_77 : decode cX2_collect 77 = .ok (.iload_n 2, 1) := dk_28 (dk_at dksX2_collect_3 6 rfl rfl)
theorem dX2_collect_78 : decode cX2_collect 78 = .ok (.iaload, 1) := dk_46 (dk_at dksX2_collect_3 7 rfl rfl)
theorem dX2_collect_79 : decode cX2_collect 79 = .ok (.imul, 1) := dk_104 (dk_at dksX2_collect_3 8 rfl rfl)
theorem dX2_collect_80 : decode cX2_collect 80 = .ok (.aload_n 0, 1) := dk_42 (dk_at dksX2_collect_3 9 rfl rfl)
theorem dX2_collect_81 : decode cX2_collect 81 = .ok (.getfield 21, 3) := dk_180 0 21 (dk_at dksX2_collect_3 10 rfl rfl)
theorem dX2_collect_84 : decode cX2_collect 84 = .ok (.iconst 3, 1) := dk_6 (dk_at dksX2_collect_3 13 rfl rfl)
theorem dX2_collect_85 : decode cX2_collect 85 = .ok (.iaload, 1) := dk_46 (dk_at dksX2_collect_3 14 rfl rfl)
theorem dX2_collect_86 : decode cX2_collect 86 = .ok (.iadd, 1) := dk_96 (dk_at dksX2_collect_3 15 rfl rfl)
theorem dX2_collect_87 : decode cX2_collect 87 = .ok (.imul, 1) := dk_104 (dk_at dksX2_collect_3 16 rfl rfl)
theorem dX2_collect_88 : decode cX2_collect 88 = .ok (.istore 5, 2) := dk_54 5 (dk_at dksX2_collect_3 17 rfl rfl)
theorem dX2_collect_90 : decode cX2_collect 90 = .ok (.aload_n 1, 1) := dk_43 (dk_at dksX2_collect_3 19 rfl rfl)
theorem dX2_collect_91 : decode cX2_collect 91 = .ok (.dup, 1) := dk_89 (dk_at dksX2_collect_3 20 rfl rfl)
theorem dX2_collect_92 : decode cX2_collect 92 = .ok (.getfield 120, 3) := dk_180 0 120 (dk_at dksX2_collect_3 21 rfl rfl)
theorem dX2_collect_95 : decode cX2_collect 95 = .ok (.iload_n 3, 1) := dk_29 (dk_at dksX2_collect_4 0 rfl rfl)
theorem dX2_collect_96 : decode cX2_collect 96 = .ok (.isub, 1) := dk_100 (dk_at dksX2_collect_4 1 rfl rfl)
theorem dX2_collect_97 : decode cX2_collect 97 = .ok (.putfield 120, 3) := dk_181 0 120 (dk_at dksX2_collect_4 2 rfl rfl)
theorem dX2_collect_100 : decode cX2_collect 100 = .ok (.aload_n 0, 1) := dk_42 (dk_at dksX2_collect_4 5 rfl rfl)
theorem dX2_collect_101 : decode cX2_collect 101 = .ok (.dup, 1) := dk_89 (dk_at dksX2_collect_4 6 rfl rfl)
theorem dX2_collect_102 : decode cX2_collect 102 = .ok (.getfield 60, 3) := dk_180 0 60 (dk_at dksX2_collect_4 7 rfl rfl)
theorem dX2_collect_105 : decode cX2_collect 105 = .ok (.iload_n 3, 1) := dk_29 (dk_at dksX2_collect_4 10 rfl rfl)
theorem dX2_collect_106 : decode cX2_collect 106 = .ok (.iadd, 1) := dk_96 (dk_at dksX2_collect_4 11 rfl rfl)
theorem dX2_collect_107 : decode cX2_collect 107 = .ok (.putfield 60, 3) := dk_181 0 60 (dk_at dksX2_collect_4 12 rfl rfl)
theorem dX2_collect_110 : decode cX2_collect 110 = .ok (.aload_n 1, 1) := dk_43 (dk_at dksX2_collect_4 15 rfl rfl)
theorem dX2_collect_111 : decode cX2_collect 111 = .ok (.dup, 1) := dk_89 (dk_at dksX2_collect_4 16 rfl rfl)
theorem dX2_collect_112 : decode cX2_collect 112 = .ok (.getfield 109, 3) := dk_180 0 109 (dk_at dksX2_collect_4 17 rfl rfl)
theorem dX2_collect_115 : decode cX2_collect 115 = .ok (.iload 5, 2) := dk_21 5 (dk_at dksX2_collect_4 20 rfl rfl)
theorem dX2_collect_117 : decode cX2_collect 117 = .ok (.iadd, 1) := dk_96 (dk_at dksX2_collect_4 22 rfl rfl)
theorem dX2_collect_118 : decode cX2_collect 118 = .ok (.putfield 109, 3) := dk_181 0 109 (dk_at dksX2_collect_5 0 rfl rfl)
theorem dX2_collect_121 : decode cX2_collect 121 = .ok (.aload_n 1, 1) := dk_43 (dk_at dksX2_collect_5 3 rfl rfl)
theorem dX2_collect_122 : decode cX2_collect 122 = .ok (.dup, 1) := dk_89 (dk_at dksX2_collect_5 4 rfl rfl)
theorem dX2_collect_123 : decode cX2_collect 123 = .ok (.getfield 123, 3) := dk_180 0 123 (dk_at dksX2_collect_5 5 rfl rfl)
theorem dX2_collect_126 : decode cX2_collect 126 = .ok (.iload 5, 2) := dk_21 5 (dk_at dksX2_collect_5 8 rfl rfl)
theorem dX2_collect_128 : decode cX2_collect 128 = .ok (.isub, 1) := dk_100 (dk_at dksX2_collect_5 10 rfl rfl)
theorem dX2_collect_129 : decode cX2_collect 129 = .ok (.putfield 123, 3) := dk_181 0 123 (dk_at dksX2_collect_5 11 rfl rfl)
theorem dX2_collect_132 : decode cX2_collect 132 = .ok (.aload_n 0, 1) := dk_42 (dk_at dksX2_collect_5 14 rfl rfl)
theorem dX2_collect_133 : decode cX2_collect 133 = .ok (.dup, 1) := dk_89 (dk_at dksX2_collect_5 15 rfl rfl)
theorem dX2_collect_134 : decode cX2_collect 134 = .ok (.getfield 64, 3) := dk_180 0 64 (dk_at dksX2_collect_5 16 rfl rfl)
theorem dX2_collect_137 : decode cX2_collect 137 = .ok (.iload 5, 2) := dk_21 5 (dk_at dksX2_collect_5 19 rfl rfl)
theorem dX2_collect_139 : decode cX2_collect 139 = .ok (.isub, 1) := dk_100 (dk_at dksX2_collect_5 21 rfl rfl)
theorem dX2_collect_140 : decode cX2_collect 140 = .ok (.putfield 64, 3) := dk_181 0 64 (dk_at dksX2_collect_6 0 rfl rfl)
theorem dX2_collect_143 : decode cX2_collect 143 = .ok (.iload 5, 2) := dk_21 5 (dk_at dksX2_collect_6 3 rfl rfl)
theorem dX2_collect_145 : decode cX2_collect 145 = .ok (.ireturn, 1) := dk_172 (dk_at dksX2_collect_6 5 rfl rfl)
abbrev cX2_fill : ByteArray := prog_13_method_6_code
def yX2_fill : MethodName := ⟨RX2, "fill", "(LBottleLoop$Brand;I)I"⟩
def dkwX2_fill_2 : List UInt8 := [181, 0, 79, 28, 29, 100, 172]
abbrev dktX2_fill_2 : List UInt8 := dkwX2_fill_2 ++ []
def dkwX2_fill_1 : List UInt8 := [100, 96, 181, 0, 93, 43, 89, 180, 0, 96, 29, 96, 181, 0, 96, 43, 89, 180, 0, 79, 28, 96]
abbrev dktX2_fill_1 : List UInt8 := dkwX2_fill_1 ++ dktX2_fill_2
def dkwX2_fill_0 : List UInt8 := [42, 43, 28, 182, 0, 89, 62, 43, 89, 180, 0, 82, 28, 100, 181, 0, 82, 43, 89, 180, 0, 93, 28, 29]
abbrev dktX2_fill_0 : List UInt8 := dkwX2_fill_0 ++ dktX2_fill_1
theorem dksX2_fill_0 : cX2_fill.data.toList.drop 0 = dktX2_fill_0 := by decide +kernel
theorem dksX2_fill_1 : cX2_fill.data.toList.drop 24 = dktX2_fill_1 := dk_seg dksX2_fill_0 24 rfl rfl
theorem dksX2_fill_2 : cX2_fill.data.toList.drop 46 = dktX2_fill_2 := dk_seg dksX2_fill_1 22 rfl rfl
theorem dX2_fill_0 : decode cX2_fill 0 = .ok (.aload_n 0, 1) := dk_42 (dk_at dksX2_fill_0 0 rfl rfl)
theorem dX2_fill_1 : decode cX2_fill 1 = .ok (.aload_n 1, 1) := dk_43 (dk_at dksX2_fill_0 1 rfl rfl)
theorem dX2_fill_2 : decode cX2_fill 2 = .ok (.iload_n 2, 1) := dk_28 (dk_at dksX2_fill_0 2 rfl rfl)
theorem dX2_fill_3 : decode cX2_fill 3 = .ok (.invokevirtual 89, 3) := dk_182 0 89 (dk_at dksX2_fill_0 3 rfl rfl)
theorem dX2_fill_6 : decode cX2_fill 6 = .ok (.istore_n 3, 1) := dk_62 (dk_at dksX2_fill_0 6 rfl rfl)
theorem dX2_fill_7 : decode cX2_fill 7 = .ok (.aload_n 1, 1) := dk_43 (dk_at dksX2_fill_0 7 rfl rfl)
theorem dX2_fill_8 : decode cX2_fill 8 = .ok (.dup, 1) := dk_89 (dk_at dksX2_fill_0 8 rfl rfl)
theorem dX2_fill_9 : decode cX2_fill 9 = .ok (.getfield 82, 3) := dk_180 0 82 (dk_at dksX2_fill_0 9 rfl rfl)
theorem dX2_fill_12 : decode cX2_fill 12 = .ok (.iload_n 2, 1) := dk_28 (dk_at dksX2_fill_0 12 rfl rfl)
theorem dX2_fill_13 : decode cX2_fill 13 = .ok (.isub, 1) := dk_100 (dk_at dksX2_fill_0 13 rfl rfl)
theorem dX2_fill_14 : decode cX2_fill 14 = .ok (.putfield 82, 3) := dk_181 0 82 (dk_at dksX2_fill_0 14 rfl rfl)
theorem dX2_fill_17 : decode cX2_fill 17 = .ok (.aload_n 1, 1) := dk_43 (dk_at dksX2_fill_0 17 rfl rfl)
theorem dX2_fill_18 : decode cX2_fill 18 = .ok (.dup, 1) := dk_89 (dk_at dksX2_fill_0 18 rfl rfl)
theorem dX2_fill_19 : decode cX2_fill 19 = .ok (.getfield 93, 3) := dk_180 0 93 (dk_at dksX2_fill_0 19 rfl rfl)
theorem dX2_fill_22 : decode cX2_fill 22 = .ok (.iload_n 2, 1) := dk_28 (dk_at dksX2_fill_0 22 rfl rfl)
theorem dX2_fill_23 : decode cX2_fill 23 = .ok (.iload_n 3, 1) := dk_29 (dk_at dksX2_fill_0 23 rfl rfl)
theorem dX2_fill_24 : decode cX2_fill 24 = .ok (.isub, 1) := dk_100 (dk_at dksX2_fill_1 0 rfl rfl)
theorem dX2_fill_25 : decode cX2_fill 25 = .ok (.iadd, 1) := dk_96 (dk_at dksX2_fill_1 1 rfl rfl)
theorem dX2_fill_26 : decode cX2_fill 26 = .ok (.putfield 93, 3) := dk_181 0 93 (dk_at dksX2_fill_1 2 rfl rfl)
theorem dX2_fill_29 : decode cX2_fill 29 = .ok (.aload_n 1, 1) := dk_43 (dk_at dksX2_fill_1 5 rfl rfl)
theorem dX2_fill_30 : decode cX2_fill 30 = .ok (.dup, 1) := dk_89 (dk_at dksX2_fill_1 6 rfl rfl)
theorem dX2_fill_31 : decode cX2_fill 31 = .ok (.getfield 96, 3) := dk_180 0 96 (dk_at dksX2_fill_1 7 rfl rfl)
theorem dX2_fill_34 : decode cX2_fill 34 = .ok (.iload_n 3, 1) := dk_29 (dk_at dksX2_fill_1 10 rfl rfl)
theorem dX2_fill_35 : decode cX2_fill 35 = .ok (.iadd, 1) := dk_96 (dk_at dksX2_fill_1 11 rfl rfl)
theorem dX2_fill_36 : decode cX2_fill 36 = .ok (.putfield 96, 3) := dk_181 0 96 (dk_at dksX2_fill_1 12 rfl rfl)
theorem dX2_fill_39 : decode cX2_fill 39 = .ok (.aload_n 1, 1) := dk_43 (dk_at dksX2_fill_1 15 rfl rfl)
theorem dX2_fill_40 : decode cX2_fill 40 = .ok (.dup, 1) := dk_89 (dk_at dksX2_fill_1 16 rfl rfl)
theorem dX2_fill_41 : decode cX2_fill 41 = .ok (.getfield 79, 3) := dk_180 0 79 (dk_at dksX2_fill_1 17 rfl rfl)
theorem dX2_fill_44 : decode cX2_fill 44 = .ok (.iload_n 2, 1) := dk_28 (dk_at dksX2_fill_1 20 rfl rfl)
theorem dX2_fill_45 : decode cX2_fill 45 = .ok (.iadd, 1) := dk_96 (dk_at dksX2_fill_1 21 rfl rfl)
theorem dX2_fill_46 : decode cX2_fill 46 = .ok (.putfield 79, 3) := dk_181 0 79 (dk_at dksX2_fill_2 0 rfl rfl)
theorem dX2_fill_49 : decode cX2_fill 49 = .ok (.iload_n 2, 1) := dk_28 (dk_at dksX2_fill_2 3 rfl rfl)
theorem dX2_fill_50 : decode cX2_fill 50 = .ok (.iload_n 3, 1) := dk_29 (dk_at dksX2_fill_2 4 rfl rfl)
theorem dX2_fill_51 : decode cX2_fill 51 = .ok (.isub, 1) := dk_100 (dk_at dksX2_fill_2 5 rfl rfl)
theorem dX2_fill_52 : decode cX2_fill 52 = .ok (.ireturn, 1) := dk_172 (dk_at dksX2_fill_2 6 rfl rfl)
abbrev cX2_lose : ByteArray := prog_13_method_18_code
def yX2_lose : MethodName := ⟨RX2, "lose", "(LBottleLoop$Brand;I)I"⟩
def dkwX2_lose_1 : List UInt8 := [180, 0, 67, 28, 42, 43, 182, 0, 99, 104, 96, 181, 0, 67, 43, 180, 0, 129, 172]
abbrev dktX2_lose_1 : List UInt8 := dkwX2_lose_1 ++ []
def dkwX2_lose_0 : List UInt8 := [43, 89, 180, 0, 129, 28, 100, 181, 0, 129, 43, 89, 180, 0, 146, 28, 96, 181, 0, 146, 42, 89]
abbrev dktX2_lose_0 : List UInt8 := dkwX2_lose_0 ++ dktX2_lose_1
theorem dksX2_lose_0 : cX2_lose.data.toList.drop 0 = dktX2_lose_0 := by decide +kernel
theorem dksX2_lose_1 : cX2_lose.data.toList.drop 22 = dktX2_lose_1 := dk_seg dksX2_lose_0 22 rfl rfl
theorem dX2_lose_0 : decode cX2_lose 0 = .ok (.aload_n 1, 1) := dk_43 (dk_at dksX2_lose_0 0 rfl rfl)
theorem dX2_lose_1 : decode cX2_lose 1 = .ok (.dup, 1) := dk_89 (dk_at dksX2_lose_0 1 rfl rfl)
theorem dX2_lose_2 : decode cX2_lose 2 = .ok (.getfield 129, 3) := dk_180 0 129 (dk_at dksX2_lose_0 2 rfl rfl)
theorem dX2_lose_5 : decode cX2_lose 5 = .ok (.iload_n 2, 1) := dk_28 (dk_at dksX2_lose_0 5 rfl rfl)
theorem dX2_lose_6 : decode cX2_lose 6 = .ok (.isub, 1) := dk_100 (dk_at dksX2_lose_0 6 rfl rfl)
theorem dX2_lose_7 : decode cX2_lose 7 = .ok (.putfield 129, 3) := dk_181 0 129 (dk_at dksX2_lose_0 7 rfl rfl)
theorem dX2_lose_10 : decode cX2_lose 10 = .ok (.aload_n 1, 1) := dk_43 (dk_at dksX2_lose_0 10 rfl rfl)
theorem dX2_lose_11 : decode cX2_lose 11 = .ok (.dup, 1) := dk_89 (dk_at dksX2_lose_0 11 rfl rfl)
theorem dX2_lose_12 : decode cX2_lose 12 = .ok (.getfield 146, 3) := dk_180 0 146 (dk_at dksX2_lose_0 12 rfl rfl)
theorem dX2_lose_15 : decode cX2_lose 15 = .ok (.iload_n 2, 1) := dk_28 (dk_at dksX2_lose_0 15 rfl rfl)
theorem dX2_lose_16 : decode cX2_lose 16 = .ok (.iadd, 1) := dk_96 (dk_at dksX2_lose_0 16 rfl rfl)
theorem dX2_lose_17 : decode cX2_lose 17 = .ok (.putfield 146, 3) := dk_181 0 146 (dk_at dksX2_lose_0 17 rfl rfl)
theorem dX2_lose_20 : decode cX2_lose 20 = .ok (.aload_n 0, 1) := dk_42 (dk_at dksX2_lose_0 20 rfl rfl)
theorem dX2_lose_21 : decode cX2_lose 21 = .ok (.dup, 1) := dk_89 (dk_at dksX2_lose_0 21 rfl rfl)
theorem dX2_lose_22 : decode cX2_lose 22 = .ok (.getfield 67, 3) := dk_180 0 67 (dk_at dksX2_lose_1 0 rfl rfl)
theorem dX2_lose_25 : decode cX2_lose 25 = .ok (.iload_n 2, 1) := dk_28 (dk_at dksX2_lose_1 3 rfl rfl)
theorem dX2_lose_26 : decode cX2_lose 26 = .ok (.aload_n 0, 1) := dk_42 (dk_at dksX2_lose_1 4 rfl rfl)
theorem dX2_lose_27 : decode cX2_lose 27 = .ok (.aload_n 1, 1) := dk_43 (dk_at dksX2_lose_1 5 rfl rfl)
theorem dX2_lose_28 : decode cX2_lose 28 = .ok (.invokevirtual 99, 3) := dk_182 0 99 (dk_at dksX2_lose_1 6 rfl rfl)
theorem dX2_lose_31 : decode cX2_lose 31 = .ok (.imul, 1) := dk_104 (dk_at dksX2_lose_1 9 rfl rfl)
theorem dX2_lose_32 : decode cX2_lose 32 = .ok (.iadd, 1) := dk_96 (dk_at dksX2_lose_1 10 rfl rfl)
theorem dX2_lose_33 : decode cX2_lose 33 = .ok (.putfield 67, 3) := dk_181 0 67 (dk_at dksX2_lose_1 11 rfl rfl)
theorem dX2_lose_36 : decode cX2_lose 36 = .ok (.aload_n 1, 1) := dk_43 (dk_at dksX2_lose_1 14 rfl rfl)
theorem dX2_lose_37 : decode cX2_lose 37 = .ok (.getfield 129, 3) := dk_180 0 129 (dk_at dksX2_lose_1 15 rfl rfl)
theorem dX2_lose_40 : decode cX2_lose 40 = .ok (.ireturn, 1) := dk_172 (dk_at dksX2_lose_1 18 rfl rfl)
abbrev cX2_sort : ByteArray := prog_13_method_25_code
def yX2_sort : MethodName := ⟨RX2, "sort", "(II)I"⟩
def dkwX2_sort_4 : List UInt8 := [182, 0, 160, 172]
abbrev dktX2_sort_4 : List UInt8 := dkwX2_sort_4 ++ []
def dkwX2_sort_3 : List UInt8 := [180, 0, 82, 21, 6, 96, 181, 0, 82, 29, 21, 6, 100, 62, 132, 4, 1, 167, 255, 174, 42, 27]
abbrev dktX2_sort_3 : List UInt8 := dkwX2_sort_3 ++ dktX2_sort_4
def dkwX2_sort_2 : List UInt8 := [184, 0, 137, 167, 0, 4, 3, 54, 6, 25, 5, 89, 180, 0, 157, 21, 6, 100, 181, 0, 157, 25, 5, 89]
abbrev dktX2_sort_2 : List UInt8 := dkwX2_sort_2 ++ dktX2_sort_3
def dkwX2_sort_1 : List UInt8 := [182, 0, 35, 192, 0, 39, 58, 5, 25, 5, 180, 0, 76, 27, 160, 0, 15, 29, 25, 5, 180, 0, 157]
abbrev dktX2_sort_1 : List UInt8 := dkwX2_sort_1 ++ dktX2_sort_2
def dkwX2_sort_0 : List UInt8 := [28, 62, 3, 54, 4, 21, 4, 42, 180, 0, 12, 182, 0, 31, 162, 0, 76, 42, 180, 0, 12, 21, 4]
abbrev dktX2_sort_0 : List UInt8 := dkwX2_sort_0 ++ dktX2_sort_1
theorem dksX2_sort_0 : cX2_sort.data.toList.drop 0 = dktX2_sort_0 := by decide +kernel
theorem dksX2_sort_1 : cX2_sort.data.toList.drop 23 = dktX2_sort_1 := dk_seg dksX2_sort_0 23 rfl rfl
theorem dksX2_sort_2 : cX2_sort.data.toList.drop 46 = dktX2_sort_2 := dk_seg dksX2_sort_1 23 rfl rfl
theorem dksX2_sort_3 : cX2_sort.data.toList.drop 70 = dktX2_sort_3 := dk_seg dksX2_sort_2 24 rfl rfl
theorem dksX2_sort_4 : cX2_sort.data.toList.drop 92 = dktX2_sort_4 := dk_seg dksX2_sort_3 22 rfl rfl
theorem dX2_sort_0 : decode cX2_sort 0 = .ok (.iload_n 2, 1) := dk_28 (dk_at dksX2_sort_0 0 rfl rfl)
theorem dX2_sort_1 : decode cX2_sort 1 = .ok (.istore_n 3, 1) := dk_62 (dk_at dksX2_sort_0 1 rfl rfl)
theorem dX2_sort_2 : decode cX2_sort 2 = .ok (.iconst 0, 1) := dk_3 (dk_at dksX2_sort_0 2 rfl rfl)
theorem dX2_sort_3 : decode cX2_sort 3 = .ok (.istore 4, 2) := dk_54 4 (dk_at dksX2_sort_0 3 rfl rfl)
theorem dX2_sort_5 : decode cX2_sort 5 = .ok (.iload 4, 2) := dk_21 4 (dk_at dksX2_sort_0 5 rfl rfl)
theorem dX2_sort_7 : decode cX2_sort 7 = .ok (.aload_n 0, 1) := dk_42 (dk_at dksX2_sort_0 7 rfl rfl)
theorem dX2_sort_8 : decode cX2_sort 8 = .ok (.getfield 12, 3) := dk_180 0 12 (dk_at dksX2_sort_0 8 rfl rfl)
theorem dX2_sort_11 : decode cX2_sort 11 = .ok (.invokevirtual 31, 3) := dk_182 0 31 (dk_at dksX2_sort_0 11 rfl rfl)
theorem dX2_sort_14 : decode cX2_sort 14 = .ok (.if_icmp .ge 76, 3) := dk_162 0 76 (dk_at dksX2_sort_0 14 rfl rfl)
theorem dX2_sort_17 : decode cX2_sort 17 = .ok (.aload_n 0, 1) := dk_42 (dk_at dksX2_sort_0 17 rfl rfl)
theorem dX2_sort_18 : decode cX2_sort 18 = .ok (.getfield 12, 3) := dk_180 0 12 (dk_at dksX2_sort_0 18 rfl rfl)
theorem dX2_sort_21 : decode cX2_sort 21 = .ok (.iload 4, 2) := dk_21 4 (dk_at dksX2_sort_0 21 rfl rfl)
theorem dX2_sort_23 : decode cX2_sort 23 = .ok (.invokevirtual 35, 3) := dk_182 0 35 (dk_at dksX2_sort_1 0 rfl rfl)
theorem dX2_sort_26 : decode cX2_sort 26 = .ok (.checkcast 39, 3) := dk_192 0 39 (dk_at dksX2_sort_1 3 rfl rfl)
theorem dX2_sort_29 : decode cX2_sort 29 = .ok (.astore 5, 2) := dk_58 5 (dk_at dksX2_sort_1 6 rfl rfl)
theorem dX2_sort_31 : decode cX2_sort 31 = .ok (.aload 5, 2) := dk_25 5 (dk_at dksX2_sort_1 8 rfl rfl)
theorem dX2_sort_33 : decode cX2_sort 33 = .ok (.getfield 76, 3) := dk_180 0 76 (dk_at dksX2_sort_1 10 rfl rfl)
theorem dX2_sort_36 : decode cX2_sort 36 = .ok (.iload_n 1, 1) := dk_27 (dk_at dksX2_sort_1 13 rfl rfl)
theorem dX2_sort_37 : decode cX2_sort 37 = .ok (.if_icmp .ne 15, 3) := dk_160 0 15 (dk_at dksX2_sort_1 14 rfl rfl)
theorem dX2_sort_40 : decode cX2_sort 40 = .ok (.iload_n 3, 1) := dk_29 (dk_at dksX2_sort_1 17 rfl rfl)
theorem dX2_sort_41 : decode cX2_sort 41 = .ok (.aload 5, 2) := dk_25 5 (dk_at dksX2_sort_1 18 rfl rfl)
theorem dX2_sort_43 : decode cX2_sort 43 = .ok (.getfield 157, 3) := dk_180 0 157 (dk_at dksX2_sort_1 20 rfl rfl)
theorem dX2_sort_46 : decode cX2_sort 46 = .ok (.invokestatic 137, 3) := dk_184 0 137 (dk_at dksX2_sort_2 0 rfl rfl)
theorem dX2_sort_49 : decode cX2_sort 49 = .ok (.goto 4, 3) := dk_167 0 4 (dk_at dksX2_sort_2 3 rfl rfl)
theorem dX2_sort_52 : decode cX2_sort 52 = .ok (.iconst 0, 1) := dk_3 (dk_at dksX2_sort_2 6 rfl rfl)
theorem dX2_sort_53 : decode cX2_sort 53 = .ok (.istore 6, 2) := dk_54 6 (dk_at dksX2_sort_2 7 rfl rfl)
theorem dX2_sort_55 : decode cX2_sort 55 = .ok (.aload 5, 2) := dk_25 5 (dk_at dksX2_sort_2 9 rfl rfl)
theorem dX2_sort_57 : decode cX2_sort 57 = .ok (.dup, 1) := dk_89 (dk_at dksX2_sort_2 11 rfl rfl)
theorem dX2_sort_58 : decode cX2_sort 58 = .ok (.getfield 157, 3) := dk_180 0 157 (dk_at dksX2_sort_2 12 rfl rfl)
theorem dX2_sort_61 : decode cX2_sort 61 = .ok (.iload 6, 2) := dk_21 6 (dk_at dksX2_sort_2 15 rfl rfl)
theorem dX2_sort_63 : decode cX2_sort 63 = .ok (.isub, 1) := dk_100 (dk_at dksX2_sort_2 17 rfl rfl)
theorem dX2_sort_64 : decode cX2_sort 64 = .ok (.putfield 157, 3) := dk_181 0 157 (dk_at dksX2_sort_2 18 rfl rfl)
theorem dX2_sort_67 : decode cX2_sort 67 = .ok (.aload 5, 2) := dk_25 5 (dk_at dksX2_sort_2 21 rfl rfl)
theorem dX2_sort_69 : decode cX2_sort 69 = .ok (.dup, 1) := dk_89 (dk_at dksX2_sort_2 23 rfl rfl)
theorem dX2_sort_70 : decode cX2_sort 70 = .ok (.getfield 82, 3) := dk_180 0 82 (dk_at dksX2_sort_3 0 rfl rfl)
theorem dX2_sort_73 : decode cX2_sort 73 = .ok (.iload 6, 2) := dk_21 6 (dk_at dksX2_sort_3 3 rfl rfl)
theorem dX2_sort_75 : decode cX2_sort 75 = .ok (.iadd, 1) := dk_96 (dk_at dksX2_sort_3 5 rfl rfl)
theorem dX2_sort_76 : decode cX2_sort 76 = .ok (.putfield 82, 3) := dk_181 0 82 (dk_at dksX2_sort_3 6 rfl rfl)
theorem dX2_sort_79 : decode cX2_sort 79 = .ok (.iload_n 3, 1) := dk_29 (dk_at dksX2_sort_3 9 rfl rfl)
theorem dX2_sort_80 : decode cX2_sort 80 = .ok (.iload 6, 2) := dk_21 6 (dk_at dksX2_sort_3 10 rfl rfl)
theorem dX2_sort_82 : decode cX2_sort 82 = .ok (.isub, 1) := dk_100 (dk_at dksX2_sort_3 12 rfl rfl)
theorem dX2_sort_83 : decode cX2_sort 83 = .ok (.istore_n 3, 1) := dk_62 (dk_at dksX2_sort_3 13 rfl rfl)
theorem dX2_sort_84 : decode cX2_sort 84 = .ok (.iinc 4 1, 3) := dk_132 4 1 (dk_at dksX2_sort_3 14 rfl rfl)
theorem dX2_sort_87 : decode cX2_sort 87 = .ok (.goto (-82), 3) := dk_167 255 174 (dk_at dksX2_sort_3 17 rfl rfl)
theorem dX2_sort_90 : decode cX2_sort 90 = .ok (.aload_n 0, 1) := dk_42 (dk_at dksX2_sort_3 20 rfl rfl)
theorem dX2_sort_91 : decode cX2_sort 91 = .ok (.iload_n 1, 1) := dk_27 (dk_at dksX2_sort_3 21 rfl rfl)
theorem dX2_sort_92 : decode cX2_sort 92 = .ok (.invokevirtual 160, 3) := dk_182 0 160 (dk_at dksX2_sort_4 0 rfl rfl)
theorem dX2_sort_95 : decode cX2_sort 95 = .ok (.ireturn, 1) := dk_172 (dk_at dksX2_sort_4 3 rfl rfl)
abbrev cX2_swap : ByteArray := prog_13_method_27_code
def yX2_swap : MethodName := ⟨RX2, "swap", "(III)I"⟩
def dkwX2_swap_4 : List UInt8 := [28, 50, 27, 92, 46, 29, 100, 79, 42, 180, 0, 27, 27, 50, 28, 46, 172]
abbrev dktX2_swap_4 : List UInt8 := dkwX2_swap_4 ++ []
def dkwX2_swap_3 : List UInt8 := [180, 0, 164, 29, 100, 181, 0, 164, 42, 180, 0, 27, 27, 50, 28, 92, 46, 29, 96, 79, 42, 180, 0, 27]
abbrev dktX2_swap_3 : List UInt8 := dkwX2_swap_3 ++ dktX2_swap_4
def dkwX2_swap_2 : List UInt8 := [192, 0, 39, 89, 180, 0, 164, 29, 96, 181, 0, 164, 42, 180, 0, 12, 28, 182, 0, 35, 192, 0, 39, 89]
abbrev dktX2_swap_2 : List UInt8 := dkwX2_swap_2 ++ dktX2_swap_3
def dkwX2_swap_1 : List UInt8 := [28, 182, 0, 35, 192, 0, 39, 89, 180, 0, 82, 29, 96, 181, 0, 82, 42, 180, 0, 12, 27, 182, 0, 35]
abbrev dktX2_swap_1 : List UInt8 := dkwX2_swap_1 ++ dktX2_swap_2
def dkwX2_swap_0 : List UInt8 := [42, 180, 0, 12, 27, 182, 0, 35, 192, 0, 39, 89, 180, 0, 82, 29, 100, 181, 0, 82, 42, 180, 0, 12]
abbrev dktX2_swap_0 : List UInt8 := dkwX2_swap_0 ++ dktX2_swap_1
theorem dksX2_swap_0 : cX2_swap.data.toList.drop 0 = dktX2_swap_0 := by decide +kernel
theorem dksX2_swap_1 : cX2_swap.data.toList.drop 24 = dktX2_swap_1 := dk_seg dksX2_swap_0 24 rfl rfl
theorem dksX2_swap_2 : cX2_swap.data.toList.drop 48 = dktX2_swap_2 := dk_seg dksX2_swap_1 24 rfl rfl
theorem dksX2_swap_3 : cX2_swap.data.toList.drop 72 = dktX2_swap_3 := dk_seg dksX2_swap_2 24 rfl rfl
theorem dksX2_swap_4 : cX2_swap.data.toList.drop 96 = dktX2_swap_4 := dk_seg dksX2_swap_3 24 rfl rfl
theorem dX2_swap_0 : decode cX2_swap 0 = .ok (.aload_n 0, 1) := dk_42 (dk_at dksX2_swap_0 0 rfl rfl)
theorem dX2_swap_1 : decode cX2_swap 1 = .ok (.getfield 12, 3) := dk_180 0 12 (dk_at dksX2_swap_0 1 rfl rfl)
theorem dX2_swap_4 : decode cX2_swap 4 = .ok (.iload_n 1, 1) := dk_27 (dk_at dksX2_swap_0 4 rfl rfl)
theorem dX2_swap_5 : decode cX2_swap 5 = .ok (.invokevirtual 35, 3) := dk_182 0 35 (dk_at dksX2_swap_0 5 rfl rfl)
theorem dX2_swap_8 : decode cX2_swap 8 = .ok (.checkcast 39, 3) := dk_192 0 39 (dk_at dksX2_swap_0 8 rfl rfl)
theorem dX2_swap_11 : decode cX2_swap 11 = .ok (.dup, 1) := dk_89 (dk_at dksX2_swap_0 11 rfl rfl)
theorem dX2_swap_12 : decode cX2_swap 12 = .ok (.getfield 82, 3) := dk_180 0 82 (dk_at dksX2_swap_0 12 rfl rfl)
theorem dX2_swap_15 : decode cX2_swap 15 = .ok (.iload_n 3, 1) := dk_29 (dk_at dksX2_swap_0 15 rfl rfl)
theorem dX2_swap_16 : decode cX2_swap 16 = .ok (.isub, 1) := dk_100 (dk_at dksX2_swap_0 16 rfl rfl)
theorem dX2_swap_17 : decode cX2_swap 17 = .ok (.putfield 82, 3) := dk_181 0 82 (dk_at dksX2_swap_0 17 rfl rfl)
theorem dX2_swap_20 : decode cX2_swap 20 = .ok (.aload_n 0, 1) := dk_42 (dk_at dksX2_swap_0 20 rfl rfl)
theorem dX2_swap_21 : decode cX2_swap 21 = .ok (.getfield 12, 3) := dk_180 0 12 (dk_at dksX2_swap_0 21 rfl rfl)
theorem dX2_swap_24 : decode cX2_swap 24 = .ok (.iload_n 2, 1) := dk_28 (dk_at dksX2_swap_1 0 rfl rfl)
theorem dX2_swap_25 : decode cX2_swap 25 = .ok (.invokevirtual 35, 3) := dk_182 0 35 (dk_at dksX2_swap_1 1 rfl rfl)
theorem dX2_swap_28 : decode cX2_swap 28 = .ok (.checkcast 39, 3) := dk_192 0 39 (dk_at dksX2_swap_1 4 rfl rfl)
theorem dX2_swap_31 : decode cX2_swap 31 = .ok (.dup, 1) := dk_89 (dk_at dksX2_swap_1 7 rfl rfl)
theorem dX2_swap_32 : decode cX2_swap 32 = .ok (.getfield 82, 3) := dk_180 0 82 (dk_at dksX2_swap_1 8 rfl rfl)
theorem dX2_swap_35 : decode cX2_swap 35 = .ok (.iload_n 3, 1) := dk_29 (dk_at dksX2_swap_1 11 rfl rfl)
theorem dX2_swap_36 : decode cX2_swap 36 = .ok (.iadd, 1) := dk_96 (dk_at dksX2_swap_1 12 rfl rfl)
theorem dX2_swap_37 : decode cX2_swap 37 = .ok (.putfield 82, 3) := dk_181 0 82 (dk_at dksX2_swap_1 13 rfl rfl)
theorem dX2_swap_40 : decode cX2_swap 40 = .ok (.aload_n 0, 1) := dk_42 (dk_at dksX2_swap_1 16 rfl rfl)
theorem dX2_swap_41 : decode cX2_swap 41 = .ok (.getfield 12, 3) := dk_180 0 12 (dk_at dksX2_swap_1 17 rfl rfl)
theorem dX2_swap_44 : decode cX2_swap 44 = .ok (.iload_n 1, 1) := dk_27 (dk_at dksX2_swap_1 20 rfl rfl)
theorem dX2_swap_45 : decode cX2_swap 45 = .ok (.invokevirtual 35, 3) := dk_182 0 35 (dk_at dksX2_swap_1 21 rfl rfl)
theorem dX2_swap_48 : decode cX2_swap 48 = .ok (.checkcast 39, 3) := dk_192 0 39 (dk_at dksX2_swap_2 0 rfl rfl)
theorem dX2_swap_51 : decode cX2_swap 51 = .ok (.dup, 1) := dk_89 (dk_at dksX2_swap_2 3 rfl rfl)
theorem dX2_swap_52 : decode cX2_swap 52 = .ok (.getfield 164, 3) := dk_180 0 164 (dk_at dksX2_swap_2 4 rfl rfl)
theorem dX2_swap_55 : decode cX2_swap 55 = .ok (.iload_n 3, 1) := dk_29 (dk_at dksX2_swap_2 7 rfl rfl)
theorem dX2_swap_56 : decode cX2_swap 56 = .ok (.iadd, 1) := dk_96 (dk_at dksX2_swap_2 8 rfl rfl)
theorem dX2_swap_57 : decode cX2_swap 57 = .ok (.putfield 164, 3) := dk_181 0 164 (dk_at dksX2_swap_2 9 rfl rfl)
theorem dX2_swap_60 : decode cX2_swap 60 = .ok (.aload_n 0, 1) := dk_42 (dk_at dksX2_swap_2 12 rfl rfl)
theorem dX2_swap_61 : decode cX2_swap 61 = .ok (.getfield 12, 3) := dk_180 0 12 (dk_at dksX2_swap_2 13 rfl rfl)
theorem dX2_swap_64 : decode cX2_swap 64 = .ok (.iload_n 2, 1) := dk_28 (dk_at dksX2_swap_2 16 rfl rfl)
theorem dX2_swap_65 : decode cX2_swap 65 = .ok (.invokevirtual 35, 3) := dk_182 0 35 (dk_at dksX2_swap_2 17 rfl rfl)
theorem dX2_swap_68 : decode cX2_swap 68 = .ok (.checkcast 39, 3) := dk_192 0 39 (dk_at dksX2_swap_2 20 rfl rfl)
theorem dX2_swap_71 : decode cX2_swap 71 = .ok (.dup, 1) := dk_89 (dk_at dksX2_swap_2 23 rfl rfl)
theorem dX2_swap_72 : decode cX2_swap 72 = .ok (.getfield 164, 3) := dk_180 0 164 (dk_at dksX2_swap_3 0 rfl rfl)
theorem dX2_swap_75 : decode cX2_swap 75 = .ok (.iload_n 3, 1) := dk_29 (dk_at dksX2_swap_3 3 rfl rfl)
theorem dX2_swap_76 : decode cX2_swap 76 = .ok (.isub, 1) := dk_100 (dk_at dksX2_swap_3 4 rfl rfl)
theorem dX2_swap_77 : decode cX2_swap 77 = .ok (.putfield 164, 3) := dk_181 0 164 (dk_at dksX2_swap_3 5 rfl rfl)
theorem dX2_swap_80 : decode cX2_swap 80 = .ok (.aload_n 0, 1) := dk_42 (dk_at dksX2_swap_3 8 rfl rfl)
theorem dX2_swap_81 : decode cX2_swap 81 = .ok (.getfield 27, 3) := dk_180 0 27 (dk_at dksX2_swap_3 9 rfl rfl)
theorem dX2_swap_84 : decode cX2_swap 84 = .ok (.iload_n 1, 1) := dk_27 (dk_at dksX2_swap_3 12 rfl rfl)
theorem dX2_swap_85 : decode cX2_swap 85 = .ok (.aaload, 1) := dk_50 (dk_at dksX2_swap_3 13 rfl rfl)
theorem dX2_swap_86 : decode cX2_swap 86 = .ok (.iload_n 2, 1) := dk_28 (dk_at dksX2_swap_3 14 rfl rfl)
theorem dX2_swap_87 : decode cX2_swap 87 = .ok (.dup2, 1) := dk_92 (dk_at dksX2_swap_3 15 rfl rfl)
theorem dX2_swap_88 : decode cX2_swap 88 = .ok (.iaload, 1) := dk_46 (dk_at dksX2_swap_3 16 rfl rfl)
theorem dX2_swap_89 : decode cX2_swap 89 = .ok (.iload_n 3, 1) := dk_29 (dk_at dksX2_swap_3 17 rfl rfl)
theorem dX2_swap_90 : decode cX2_swap 90 = .ok (.iadd, 1) := dk_96 (dk_at dksX2_swap_3 18 rfl rfl)
theorem dX2_swap_91 : decode cX2_swap 91 = .ok (.iastore, 1) := dk_79 (dk_at dksX2_swap_3 19 rfl rfl)
theorem dX2_swap_92 : decode cX2_swap 92 = .ok (.aload_n 0, 1) := dk_42 (dk_at dksX2_swap_3 20 rfl rfl)
theorem dX2_swap_93 : decode cX2_swap 93 = .ok (.getfield 27, 3) := dk_180 0 27 (dk_at dksX2_swap_3 21 rfl rfl)
theorem dX2_swap_96 : decode cX2_swap 96 = .ok (.iload_n 2, 1) := dk_28 (dk_at dksX2_swap_4 0 rfl rfl)
theorem dX2_swap_97 : decode cX2_swap 97 = .ok (.aaload, 1) := dk_50 (dk_at dksX2_swap_4 1 rfl rfl)
theorem dX2_swap_98 : decode cX2_swap 98 = .ok (.iload_n 1, 1) := dk_27 (dk_at dksX2_swap_4 2 rfl rfl)
theorem dX2_swap_99 : decode cX2_swap 99 = .ok (.dup2, 1) := dk_92 (dk_at dksX2_swap_4 3 rfl rfl)
theorem dX2_swap_100 : decode cX2_swap 100 = .ok (.iaload, 1) := dk_46 (dk_at dksX2_swap_4 4 rfl rfl)
theorem dX2_swap_101 : decode cX2_swap 101 = .ok (.iload_n 3, 1) := dk_29 (dk_at dksX2_swap_4 5 rfl rfl)
theorem dX2_swap_102 : decode cX2_swap 102 = .ok (.isub, 1) := dk_100 (dk_at dksX2_swap_4 6 rfl rfl)
theorem dX2_swap_103 : decode cX2_swap 103 = .ok (.iastore, 1) := dk_79 (dk_at dksX2_swap_4 7 rfl rfl)
theorem dX2_swap_104 : decode cX2_swap 104 = .ok (.aload_n 0, 1) := dk_42 (dk_at dksX2_swap_4 8 rfl rfl)
theorem dX2_swap_105 : decode cX2_swap 105 = .ok (.getfield 27, 3) := dk_180 0 27 (dk_at dksX2_swap_4 9 rfl rfl)
theorem dX2_swap_108 : decode cX2_swap 108 = .ok (.iload_n 1, 1) := dk_27 (dk_at dksX2_swap_4 12 rfl rfl)
theorem dX2_swap_109 : decode cX2_swap 109 = .ok (.aaload, 1) := dk_50 (dk_at dksX2_swap_4 13 rfl rfl)
theorem dX2_swap_110 : decode cX2_swap 110 = .ok (.iload_n 2, 1) := dk_28 (dk_at dksX2_swap_4 14 rfl rfl)
theorem dX2_swap_111 : decode cX2_swap 111 = .ok (.iaload, 1) := dk_46 (dk_at dksX2_swap_4 15 rfl rfl)
theorem dX2_swap_112 : decode cX2_swap 112 = .ok (.ireturn, 1) := dk_172 (dk_at dksX2_swap_4 16 rfl rfl)
theorem q80 : (Jvm.Cond.initialized "BottleLoop$Loop") ∈ lw_all := lw_g (lw_at lw_m1 2 rfl) rfl
theorem q135 : (Jvm.Cond.instantiable "BottleLoop$Loop" (9 : Nat)) ∈ lw_all := lw_g (lw_at lw_m1 57 rfl) rfl
theorem q137 : (Jvm.Cond.instanceMethod ({ cls := "BottleLoop$Loop", name := "<init>", desc := "()V" } : Jvm.MethodName)) ∈ lw_all := lw_g (lw_at lw_m1 59 rfl) rfl
theorem q138 : (Jvm.Cond.code ({ cls := "BottleLoop$Loop", name := "<init>", desc := "()V" } : Jvm.MethodName) prog_13_method_1_code (1 : Nat) (Option.none : Option Jvm.ClassFile.FieldType)) ∈ lw_all := lw_g (lw_at lw_m1 60 rfl) rfl
theorem q139 : (Jvm.Cond.methodLink "BottleLoop$Loop" (3 : Nat) ({ cls := "java/lang/Object", name := "<init>", desc := "()V" } : Jvm.MethodName)) ∈ lw_all := lw_g (lw_at lw_m1 61 rfl) rfl
theorem q140 : (Jvm.Cond.classLink "BottleLoop$Loop" (9 : Nat) "java/util/ArrayList") ∈ lw_all := lw_g (lw_at lw_m1 62 rfl) rfl
theorem q142 : (Jvm.Cond.methodLink "BottleLoop$Loop" (11 : Nat) ({ cls := "java/util/ArrayList", name := "<init>", desc := "()V" } : Jvm.MethodName)) ∈ lw_all := lw_g (lw_at lw_m1 64 rfl) rfl
theorem q166 : (Jvm.Cond.classLink "BottleLoop$Loop" (25 : Nat) "[[I") ∈ lw_all := lw_g (lw_at lw_m1 88 rfl) rfl
theorem q168 : (Jvm.Cond.fieldLink "BottleLoop$Loop" (12 : Nat) "BottleLoop$Loop" "brands" "Ljava/util/ArrayList;") ∈ lw_all := lw_g (lw_at lw_m1 90 rfl) rfl
theorem q173 : (Jvm.Cond.fieldLink "BottleLoop$Loop" (18 : Nat) "BottleLoop$Loop" "shops" "Ljava/util/ArrayList;") ∈ lw_all := lw_g (lw_at lw_m1 95 rfl) rfl
theorem q180 : (Jvm.Cond.fieldLink "BottleLoop$Loop" (21 : Nat) "BottleLoop$Loop" "settings" "[I") ∈ lw_all := lw_g (lw_at lw_m1 102 rfl) rfl
theorem q182 : (Jvm.Cond.fieldLink "BottleLoop$Loop" (27 : Nat) "BottleLoop$Loop" "swapped" "[[I") ∈ lw_all := lw_g (lw_at lw_m1 104 rfl) rfl
theorem q183 : (Jvm.Cond.fieldLink "BottleLoop$Loop" (60 : Nat) "BottleLoop$Loop" "store" "I") ∈ lw_all := lw_g (lw_at lw_m1 105 rfl) rfl
theorem q185 : (Jvm.Cond.fieldLink "BottleLoop$Loop" (64 : Nat) "BottleLoop$Loop" "held" "I") ∈ lw_all := lw_g (lw_at lw_m1 107 rfl) rfl
theorem q187 : (Jvm.Cond.fieldLink "BottleLoop$Loop" (67 : Nat) "BottleLoop$Loop" "forfeited" "I") ∈ lw_all := lw_g (lw_at lw_m1 109 rfl) rfl
theorem q189 : (Jvm.Cond.fieldLink "BottleLoop$Loop" (70 : Nat) "BottleLoop$Loop" "pool" "I") ∈ lw_all := lw_g (lw_at lw_m1 111 rfl) rfl
theorem q191 : (Jvm.Cond.fieldLink "BottleLoop$Loop" (73 : Nat) "BottleLoop$Loop" "ended" "I") ∈ lw_all := lw_g (lw_at lw_m1 113 rfl) rfl
theorem q193 : (Jvm.Cond.laysFinal "BottleLoop$Loop" "BottleLoop$Loop" "brands" "Ljava/util/ArrayList;") ∈ lw_all := lw_g (lw_at lw_m1 115 rfl) rfl
theorem q194 : (Jvm.Cond.soleField "BottleLoop$Loop" "brands") ∈ lw_all := lw_g (lw_at lw_m1 116 rfl) rfl
theorem q195 : (Jvm.Cond.laysFinal "BottleLoop$Loop" "BottleLoop$Loop" "shops" "Ljava/util/ArrayList;") ∈ lw_all := lw_g (lw_at lw_m1 117 rfl) rfl
theorem q196 : (Jvm.Cond.soleField "BottleLoop$Loop" "shops") ∈ lw_all := lw_g (lw_at lw_m1 118 rfl) rfl
theorem q197 : (Jvm.Cond.laysFinal "BottleLoop$Loop" "BottleLoop$Loop" "settings" "[I") ∈ lw_all := lw_g (lw_at lw_m1 119 rfl) rfl
theorem q198 : (Jvm.Cond.soleField "BottleLoop$Loop" "settings") ∈ lw_all := lw_g (lw_at lw_m1 120 rfl) rfl
theorem q199 : (Jvm.Cond.laysFinal "BottleLoop$Loop" "BottleLoop$Loop" "swapped" "[[I") ∈ lw_all := lw_g (lw_at lw_m1 121 rfl) rfl
theorem q200 : (Jvm.Cond.soleField "BottleLoop$Loop" "swapped") ∈ lw_all := lw_g (lw_at lw_m1 122 rfl) rfl
theorem q201 : (Jvm.Cond.lays "BottleLoop$Loop" "BottleLoop$Loop" "store" "I") ∈ lw_all := lw_g (lw_at lw_m1 123 rfl) rfl
theorem q202 : (Jvm.Cond.soleField "BottleLoop$Loop" "store") ∈ lw_all := lw_g (lw_at lw_m1 124 rfl) rfl
theorem q203 : (Jvm.Cond.lays "BottleLoop$Loop" "BottleLoop$Loop" "held" "I") ∈ lw_all := lw_g (lw_at lw_m1 125 rfl) rfl
theorem q204 : (Jvm.Cond.soleField "BottleLoop$Loop" "held") ∈ lw_all := lw_g (lw_at lw_m1 126 rfl) rfl
theorem q205 : (Jvm.Cond.lays "BottleLoop$Loop" "BottleLoop$Loop" "forfeited" "I") ∈ lw_all := lw_g (lw_at lw_m1 127 rfl) rfl
theorem q206 : (Jvm.Cond.soleField "BottleLoop$Loop" "forfeited") ∈ lw_all := lw_g (lw_at lw_m1 128 rfl) rfl
theorem q207 : (Jvm.Cond.lays "BottleLoop$Loop" "BottleLoop$Loop" "pool" "I") ∈ lw_all := lw_g (lw_at lw_m1 129 rfl) rfl
theorem q208 : (Jvm.Cond.soleField "BottleLoop$Loop" "pool") ∈ lw_all := lw_g (lw_at lw_m1 130 rfl) rfl
theorem q209 : (Jvm.Cond.lays "BottleLoop$Loop" "BottleLoop$Loop" "ended" "I") ∈ lw_all := lw_g (lw_at lw_m1 131 rfl) rfl
theorem q210 : (Jvm.Cond.soleField "BottleLoop$Loop" "ended") ∈ lw_all := lw_g (lw_at lw_m1 132 rfl) rfl
theorem q211 : (Jvm.Cond.superclass "BottleLoop$Loop" "java/lang/Object") ∈ lw_all := lw_g (lw_at lw_m1 133 rfl) rfl
theorem q757 : (Jvm.Cond.selects "BottleLoop$Loop" ({ cls := "java/lang/Object", name := "getClass", desc := "()Ljava/lang/Class;" } : Jvm.MethodName) ({ cls := "java/lang/Object", name := "getClass", desc := "()Ljava/lang/Class;" } : Jvm.MethodName)) ∈ lw_all := lw_g (lw_at lw_m3 199 rfl) rfl
theorem q852 : (Jvm.Cond.instanceMethod ({ cls := "BottleLoop$Loop", name := "wornBy", desc := "(LBottleLoop$Brand;I)I" } : Jvm.MethodName)) ∈ lw_all := lw_g (lw_at lw_m4 54 rfl) rfl
theorem q853 : (Jvm.Cond.selects "BottleLoop$Loop" ({ cls := "BottleLoop$Loop", name := "wornBy", desc := "(LBottleLoop$Brand;I)I" } : Jvm.MethodName) ({ cls := "BottleLoop$Loop", name := "wornBy", desc := "(LBottleLoop$Brand;I)I" } : Jvm.MethodName)) ∈ lw_all := lw_g (lw_at lw_m4 55 rfl) rfl
theorem q854 : (Jvm.Cond.code ({ cls := "BottleLoop$Loop", name := "wornBy", desc := "(LBottleLoop$Brand;I)I" } : Jvm.MethodName) prog_13_method_4_code (3 : Nat) (Option.some Jvm.ClassFile.FieldType.int)) ∈ lw_all := lw_g (lw_at lw_m4 56 rfl) rfl
theorem q861 : (Jvm.Cond.instanceMethod ({ cls := "BottleLoop$Loop", name := "priceOf", desc := "(LBottleLoop$Brand;I)I" } : Jvm.MethodName)) ∈ lw_all := lw_g (lw_at lw_m4 63 rfl) rfl
theorem q862 : (Jvm.Cond.selects "BottleLoop$Loop" ({ cls := "BottleLoop$Loop", name := "priceOf", desc := "(LBottleLoop$Brand;I)I" } : Jvm.MethodName) ({ cls := "BottleLoop$Loop", name := "priceOf", desc := "(LBottleLoop$Brand;I)I" } : Jvm.MethodName)) ∈ lw_all := lw_g (lw_at lw_m4 64 rfl) rfl
theorem q863 : (Jvm.Cond.code ({ cls := "BottleLoop$Loop", name := "priceOf", desc := "(LBottleLoop$Brand;I)I" } : Jvm.MethodName) prog_13_method_8_code (3 : Nat) (Option.some Jvm.ClassFile.FieldType.int)) ∈ lw_all := lw_g (lw_at lw_m4 65 rfl) rfl
theorem q864 : (Jvm.Cond.methodLink "BottleLoop$Loop" (103 : Nat) ({ cls := "BottleLoop$Loop", name := "depositsOf", desc := "(LBottleLoop$Brand;I)I" } : Jvm.MethodName)) ∈ lw_all := lw_g (lw_at lw_m4 66 rfl) rfl
theorem q865 : (Jvm.Cond.privateMethod ({ cls := "BottleLoop$Loop", name := "depositsOf", desc := "(LBottleLoop$Brand;I)I" } : Jvm.MethodName)) ∈ lw_tbl := lw_at lw_m4 67 rfl
theorem q866 : (Jvm.Cond.instanceMethod ({ cls := "BottleLoop$Loop", name := "depositsOf", desc := "(LBottleLoop$Brand;I)I" } : Jvm.MethodName)) ∈ lw_all := lw_g (lw_at lw_m4 68 rfl) rfl
theorem q867 : (Jvm.Cond.code ({ cls := "BottleLoop$Loop", name := "depositsOf", desc := "(LBottleLoop$Brand;I)I" } : Jvm.MethodName) prog_13_method_7_code (3 : Nat) (Option.some Jvm.ClassFile.FieldType.int)) ∈ lw_all := lw_g (lw_at lw_m4 69 rfl) rfl
theorem q868 : (Jvm.Cond.methodLink "BottleLoop$Loop" (99 : Nat) ({ cls := "BottleLoop$Loop", name := "deposit", desc := "(LBottleLoop$Brand;)I" } : Jvm.MethodName)) ∈ lw_all := lw_g (lw_at lw_m4 70 rfl) rfl
theorem q869 : (Jvm.Cond.privateMethod ({ cls := "BottleLoop$Loop", name := "deposit", desc := "(LBottleLoop$Brand;)I" } : Jvm.MethodName)) ∈ lw_tbl := lw_at lw_m4 71 rfl
theorem q870 : (Jvm.Cond.instanceMethod ({ cls := "BottleLoop$Loop", name := "deposit", desc := "(LBottleLoop$Brand;)I" } : Jvm.MethodName)) ∈ lw_all := lw_g (lw_at lw_m4 72 rfl) rfl
theorem q871 : (Jvm.Cond.code ({ cls := "BottleLoop$Loop", name := "deposit", desc := "(LBottleLoop$Brand;)I" } : Jvm.MethodName) prog_13_method_3_code (2 : Nat) (Option.some Jvm.ClassFile.FieldType.int)) ∈ lw_all := lw_g (lw_at lw_m4 73 rfl) rfl
theorem q892 : (Jvm.Cond.instanceMethod ({ cls := "BottleLoop$Loop", name := "emptyOf", desc := "(LBottleLoop$Shop;I)I" } : Jvm.MethodName)) ∈ lw_all := lw_g (lw_at lw_m4 94 rfl) rfl
theorem q893 : (Jvm.Cond.selects "BottleLoop$Loop" ({ cls := "BottleLoop$Loop", name := "emptyOf", desc := "(LBottleLoop$Shop;I)I" } : Jvm.MethodName) ({ cls := "BottleLoop$Loop", name := "emptyOf", desc := "(LBottleLoop$Shop;I)I" } : Jvm.MethodName)) ∈ lw_all := lw_g (lw_at lw_m4 95 rfl) rfl
theorem q894 : (Jvm.Cond.code ({ cls := "BottleLoop$Loop", name := "emptyOf", desc := "(LBottleLoop$Shop;I)I" } : Jvm.MethodName) prog_13_method_19_code (5 : Nat) (Option.some Jvm.ClassFile.FieldType.int)) ∈ lw_all := lw_g (lw_at lw_m4 96 rfl) rfl
theorem q895 : (Jvm.Cond.methodLink "BottleLoop$Loop" (31 : Nat) ({ cls := "java/util/ArrayList", name := "size", desc := "()I" } : Jvm.MethodName)) ∈ lw_all := lw_g (lw_at lw_m4 97 rfl) rfl
theorem q896 : (Jvm.Cond.methodLink "BottleLoop$Loop" (35 : Nat) ({ cls := "java/util/ArrayList", name := "get", desc := "(I)Ljava/lang/Object;" } : Jvm.MethodName)) ∈ lw_all := lw_g (lw_at lw_m4 98 rfl) rfl
theorem q897 : (Jvm.Cond.classLink "BottleLoop$Loop" (39 : Nat) "BottleLoop$Brand") ∈ lw_all := lw_g (lw_at lw_m4 99 rfl) rfl
theorem q904 : (Jvm.Cond.instanceMethod ({ cls := "BottleLoop$Loop", name := "layCollected", desc := "(LBottleLoop$Shop;II[I)V" } : Jvm.MethodName)) ∈ lw_all := lw_g (lw_at lw_m4 106 rfl) rfl
theorem q905 : (Jvm.Cond.selects "BottleLoop$Loop" ({ cls := "BottleLoop$Loop", name := "layCollected", desc := "(LBottleLoop$Shop;II[I)V" } : Jvm.MethodName) ({ cls := "BottleLoop$Loop", name := "layCollected", desc := "(LBottleLoop$Shop;II[I)V" } : Jvm.MethodName)) ∈ lw_all := lw_g (lw_at lw_m4 107 rfl) rfl
theorem q906 : (Jvm.Cond.code ({ cls := "BottleLoop$Loop", name := "layCollected", desc := "(LBottleLoop$Shop;II[I)V" } : Jvm.MethodName) prog_13_method_21_code (9 : Nat) (Option.none : Option Jvm.ClassFile.FieldType)) ∈ lw_all := lw_g (lw_at lw_m4 108 rfl) rfl
theorem q976 : (Jvm.Cond.instanceMethod ({ cls := "BottleLoop$Loop", name := "copy", desc := "()LBottleLoop$Loop;" } : Jvm.MethodName)) ∈ lw_all := lw_g (lw_at lw_m4 178 rfl) rfl
theorem q977 : (Jvm.Cond.selects "BottleLoop$Loop" ({ cls := "BottleLoop$Loop", name := "copy", desc := "()LBottleLoop$Loop;" } : Jvm.MethodName) ({ cls := "BottleLoop$Loop", name := "copy", desc := "()LBottleLoop$Loop;" } : Jvm.MethodName)) ∈ lw_all := lw_g (lw_at lw_m4 179 rfl) rfl
theorem q978 : (Jvm.Cond.code ({ cls := "BottleLoop$Loop", name := "copy", desc := "()LBottleLoop$Loop;" } : Jvm.MethodName) prog_13_method_2_code (3 : Nat) (Option.some (Jvm.ClassFile.FieldType.object "BottleLoop$Loop"))) ∈ lw_all := lw_g (lw_at lw_m4 180 rfl) rfl
theorem q979 : (Jvm.Cond.classLink "BottleLoop$Loop" (13 : Nat) "BottleLoop$Loop") ∈ lw_all := lw_g (lw_at lw_m4 181 rfl) rfl
theorem q980 : (Jvm.Cond.methodLink "BottleLoop$Loop" (30 : Nat) ({ cls := "BottleLoop$Loop", name := "<init>", desc := "()V" } : Jvm.MethodName)) ∈ lw_all := lw_g (lw_at lw_m4 182 rfl) rfl
theorem q981 : (Jvm.Cond.methodLink "BottleLoop$Loop" (41 : Nat) ({ cls := "BottleLoop$Brand", name := "copy", desc := "()LBottleLoop$Brand;" } : Jvm.MethodName)) ∈ lw_all := lw_g (lw_at lw_m4 183 rfl) rfl
theorem q992 : (Jvm.Cond.fieldLinkNest "BottleLoop$Loop" (76 : Nat) "BottleLoop$Brand" "kind" "I" "BottleLoop") ∈ lw_tbl := lw_at lw_m4 194 rfl
theorem q995 : (Jvm.Cond.fieldLinkNest "BottleLoop$Loop" (82 : Nat) "BottleLoop$Brand" "empty" "I" "BottleLoop") ∈ lw_tbl := lw_at lw_m4 197 rfl
theorem q998 : (Jvm.Cond.fieldLinkNest "BottleLoop$Loop" (93 : Nat) "BottleLoop$Brand" "full" "I" "BottleLoop") ∈ lw_tbl := lw_at lw_m4 200 rfl
theorem q1001 : (Jvm.Cond.fieldLinkNest "BottleLoop$Loop" (129 : Nat) "BottleLoop$Brand" "out" "I" "BottleLoop") ∈ lw_tbl := lw_at lw_m4 203 rfl
theorem q1004 : (Jvm.Cond.fieldLinkNest "BottleLoop$Loop" (157 : Nat) "BottleLoop$Brand" "yard" "I" "BottleLoop") ∈ lw_tbl := lw_at lw_m4 206 rfl
theorem q1007 : (Jvm.Cond.fieldLinkNest "BottleLoop$Loop" (143 : Nat) "BottleLoop$Brand" "broken" "I" "BottleLoop") ∈ lw_tbl := lw_at lw_m4 209 rfl
theorem q1010 : (Jvm.Cond.fieldLinkNest "BottleLoop$Loop" (146 : Nat) "BottleLoop$Brand" "lost" "I" "BottleLoop") ∈ lw_tbl := lw_at lw_m4 212 rfl
theorem q1013 : (Jvm.Cond.fieldLinkNest "BottleLoop$Loop" (96 : Nat) "BottleLoop$Brand" "worn" "I" "BottleLoop") ∈ lw_tbl := lw_at lw_m4 215 rfl
theorem q1016 : (Jvm.Cond.fieldLinkNest "BottleLoop$Loop" (79 : Nat) "BottleLoop$Brand" "filled" "I" "BottleLoop") ∈ lw_tbl := lw_at lw_m4 218 rfl
theorem q1019 : (Jvm.Cond.fieldLinkNest "BottleLoop$Loop" (164 : Nat) "BottleLoop$Brand" "given" "I" "BottleLoop") ∈ lw_tbl := lw_at lw_m4 221 rfl
theorem q1042 : (Jvm.Cond.methodLink "BottleLoop$Loop" (45 : Nat) ({ cls := "java/util/ArrayList", name := "add", desc := "(Ljava/lang/Object;)Z" } : Jvm.MethodName)) ∈ lw_all := lw_g (lw_at lw_m5 4 rfl) rfl
theorem q1043 : (Jvm.Cond.classLink "BottleLoop$Loop" (49 : Nat) "BottleLoop$Shop") ∈ lw_all := lw_g (lw_at lw_m5 5 rfl) rfl
theorem q1044 : (Jvm.Cond.methodLink "BottleLoop$Loop" (51 : Nat) ({ cls := "BottleLoop$Shop", name := "copy", desc := "()LBottleLoop$Shop;" } : Jvm.MethodName)) ∈ lw_all := lw_g (lw_at lw_m5 6 rfl) rfl
theorem q1055 : (Jvm.Cond.fieldLinkNest "BottleLoop$Loop" (118 : Nat) "BottleLoop$Shop" "full" "[I" "BottleLoop") ∈ lw_tbl := lw_at lw_m5 17 rfl
theorem q1058 : (Jvm.Cond.fieldLinkNest "BottleLoop$Loop" (135 : Nat) "BottleLoop$Shop" "empty" "[I" "BottleLoop") ∈ lw_tbl := lw_at lw_m5 20 rfl
theorem q1061 : (Jvm.Cond.fieldLinkNest "BottleLoop$Loop" (109 : Nat) "BottleLoop$Shop" "money" "I" "BottleLoop") ∈ lw_tbl := lw_at lw_m5 23 rfl
theorem q1064 : (Jvm.Cond.fieldLinkNest "BottleLoop$Loop" (120 : Nat) "BottleLoop$Shop" "crates" "I" "BottleLoop") ∈ lw_tbl := lw_at lw_m5 26 rfl
theorem q1067 : (Jvm.Cond.fieldLinkNest "BottleLoop$Loop" (123 : Nat) "BottleLoop$Shop" "paid" "I" "BottleLoop") ∈ lw_tbl := lw_at lw_m5 29 rfl
theorem q1070 : (Jvm.Cond.fieldLinkNest "BottleLoop$Loop" (126 : Nat) "BottleLoop$Shop" "pooled" "I" "BottleLoop") ∈ lw_tbl := lw_at lw_m5 32 rfl
theorem q1073 : (Jvm.Cond.fieldLinkNest "BottleLoop$Loop" (132 : Nat) "BottleLoop$Shop" "sold" "I" "BottleLoop") ∈ lw_tbl := lw_at lw_m5 35 rfl
theorem q1091 : (Jvm.Cond.methodLink "BottleLoop$Loop" (54 : Nat) ({ cls := "java/lang/System", name := "arraycopy", desc := "(Ljava/lang/Object;ILjava/lang/Object;II)V" } : Jvm.MethodName)) ∈ lw_all := lw_g (lw_at lw_m5 53 rfl) rfl
theorem q1207 : (Jvm.Cond.instanceMethod ({ cls := "BottleLoop$Loop", name := "tryDeliver", desc := "(ILBottleLoop$Shop;I)V" } : Jvm.MethodName)) ∈ lw_all := lw_g (lw_at lw_m5 169 rfl) rfl
theorem q1208 : (Jvm.Cond.selects "BottleLoop$Loop" ({ cls := "BottleLoop$Loop", name := "tryDeliver", desc := "(ILBottleLoop$Shop;I)V" } : Jvm.MethodName) ({ cls := "BottleLoop$Loop", name := "tryDeliver", desc := "(ILBottleLoop$Shop;I)V" } : Jvm.MethodName)) ∈ lw_all := lw_g (lw_at lw_m5 170 rfl) rfl
theorem q1209 : (Jvm.Cond.code ({ cls := "BottleLoop$Loop", name := "tryDeliver", desc := "(ILBottleLoop$Shop;I)V" } : Jvm.MethodName) prog_13_method_9_code (5 : Nat) (Option.none : Option Jvm.ClassFile.FieldType)) ∈ lw_all := lw_g (lw_at lw_m5 171 rfl) rfl
theorem q1210 : (Jvm.Cond.methodLinkNest "BottleLoop$Loop" (85 : Nat) ({ cls := "BottleLoop", name := "needBottles", desc := "(Z)V" } : Jvm.MethodName) "BottleLoop") ∈ lw_tbl := lw_at lw_m5 172 rfl
theorem q1237 : (Jvm.Cond.methodLinkNest "BottleLoop$Loop" (106 : Nat) ({ cls := "BottleLoop", name := "needCrates", desc := "(Z)V" } : Jvm.MethodName) "BottleLoop") ∈ lw_tbl := lw_at lw_m5 199 rfl
theorem q1255 : (Jvm.Cond.methodLink "BottleLoop$Loop" (112 : Nat) ({ cls := "BottleLoop$Loop", name := "priceOf", desc := "(LBottleLoop$Brand;I)I" } : Jvm.MethodName)) ∈ lw_all := lw_g (lw_at lw_m5 217 rfl) rfl
theorem q1256 : (Jvm.Cond.methodLinkNest "BottleLoop$Loop" (115 : Nat) ({ cls := "BottleLoop", name := "needMoney", desc := "(Z)V" } : Jvm.MethodName) "BottleLoop") ∈ lw_tbl := lw_at lw_m5 218 rfl
theorem q1280 : (Jvm.Cond.instanceMethod ({ cls := "BottleLoop$Loop", name := "trySell", desc := "(ILBottleLoop$Shop;I)V" } : Jvm.MethodName)) ∈ lw_all := lw_g (lw_at lw_m6 2 rfl) rfl
theorem q1281 : (Jvm.Cond.selects "BottleLoop$Loop" ({ cls := "BottleLoop$Loop", name := "trySell", desc := "(ILBottleLoop$Shop;I)V" } : Jvm.MethodName) ({ cls := "BottleLoop$Loop", name := "trySell", desc := "(ILBottleLoop$Shop;I)V" } : Jvm.MethodName)) ∈ lw_all := lw_g (lw_at lw_m6 3 rfl) rfl
theorem q1282 : (Jvm.Cond.code ({ cls := "BottleLoop$Loop", name := "trySell", desc := "(ILBottleLoop$Shop;I)V" } : Jvm.MethodName) prog_13_method_11_code (4 : Nat) (Option.none : Option Jvm.ClassFile.FieldType)) ∈ lw_all := lw_g (lw_at lw_m6 4 rfl) rfl
theorem q1289 : (Jvm.Cond.instanceMethod ({ cls := "BottleLoop$Loop", name := "tryTake", desc := "(ILBottleLoop$Shop;I)V" } : Jvm.MethodName)) ∈ lw_all := lw_g (lw_at lw_m6 11 rfl) rfl
theorem q1290 : (Jvm.Cond.selects "BottleLoop$Loop" ({ cls := "BottleLoop$Loop", name := "tryTake", desc := "(ILBottleLoop$Shop;I)V" } : Jvm.MethodName) ({ cls := "BottleLoop$Loop", name := "tryTake", desc := "(ILBottleLoop$Shop;I)V" } : Jvm.MethodName)) ∈ lw_all := lw_g (lw_at lw_m6 12 rfl) rfl
theorem q1291 : (Jvm.Cond.code ({ cls := "BottleLoop$Loop", name := "tryTake", desc := "(ILBottleLoop$Shop;I)V" } : Jvm.MethodName) prog_13_method_13_code (4 : Nat) (Option.none : Option Jvm.ClassFile.FieldType)) ∈ lw_all := lw_g (lw_at lw_m6 13 rfl) rfl
theorem q1298 : (Jvm.Cond.instanceMethod ({ cls := "BottleLoop$Loop", name := "tryBreak", desc := "(ILBottleLoop$Shop;I)V" } : Jvm.MethodName)) ∈ lw_all := lw_g (lw_at lw_m6 20 rfl) rfl
theorem q1299 : (Jvm.Cond.selects "BottleLoop$Loop" ({ cls := "BottleLoop$Loop", name := "tryBreak", desc := "(ILBottleLoop$Shop;I)V" } : Jvm.MethodName) ({ cls := "BottleLoop$Loop", name := "tryBreak", desc := "(ILBottleLoop$Shop;I)V" } : Jvm.MethodName)) ∈ lw_all := lw_g (lw_at lw_m6 21 rfl) rfl
theorem q1300 : (Jvm.Cond.code ({ cls := "BottleLoop$Loop", name := "tryBreak", desc := "(ILBottleLoop$Shop;I)V" } : Jvm.MethodName) prog_13_method_15_code (4 : Nat) (Option.none : Option Jvm.ClassFile.FieldType)) ∈ lw_all := lw_g (lw_at lw_m6 22 rfl) rfl
theorem q1307 : (Jvm.Cond.instanceMethod ({ cls := "BottleLoop$Loop", name := "tryCollect", desc := "(LBottleLoop$Shop;II)V" } : Jvm.MethodName)) ∈ lw_all := lw_g (lw_at lw_m6 29 rfl) rfl
theorem q1308 : (Jvm.Cond.selects "BottleLoop$Loop" ({ cls := "BottleLoop$Loop", name := "tryCollect", desc := "(LBottleLoop$Shop;II)V" } : Jvm.MethodName) ({ cls := "BottleLoop$Loop", name := "tryCollect", desc := "(LBottleLoop$Shop;II)V" } : Jvm.MethodName)) ∈ lw_all := lw_g (lw_at lw_m6 30 rfl) rfl
theorem q1309 : (Jvm.Cond.code ({ cls := "BottleLoop$Loop", name := "tryCollect", desc := "(LBottleLoop$Shop;II)V" } : Jvm.MethodName) prog_13_method_20_code (4 : Nat) (Option.none : Option Jvm.ClassFile.FieldType)) ∈ lw_all := lw_g (lw_at lw_m6 31 rfl) rfl
theorem q1310 : (Jvm.Cond.methodLink "BottleLoop$Loop" (149 : Nat) ({ cls := "BottleLoop$Loop", name := "emptyOf", desc := "(LBottleLoop$Shop;I)I" } : Jvm.MethodName)) ∈ lw_all := lw_g (lw_at lw_m6 32 rfl) rfl
theorem q1317 : (Jvm.Cond.instanceMethod ({ cls := "BottleLoop$Loop", name := "tryFill", desc := "(LBottleLoop$Brand;I)V" } : Jvm.MethodName)) ∈ lw_all := lw_g (lw_at lw_m6 39 rfl) rfl
theorem q1318 : (Jvm.Cond.selects "BottleLoop$Loop" ({ cls := "BottleLoop$Loop", name := "tryFill", desc := "(LBottleLoop$Brand;I)V" } : Jvm.MethodName) ({ cls := "BottleLoop$Loop", name := "tryFill", desc := "(LBottleLoop$Brand;I)V" } : Jvm.MethodName)) ∈ lw_all := lw_g (lw_at lw_m6 40 rfl) rfl
theorem q1319 : (Jvm.Cond.code ({ cls := "BottleLoop$Loop", name := "tryFill", desc := "(LBottleLoop$Brand;I)V" } : Jvm.MethodName) prog_13_method_5_code (3 : Nat) (Option.none : Option Jvm.ClassFile.FieldType)) ∈ lw_all := lw_g (lw_at lw_m6 41 rfl) rfl
theorem q1326 : (Jvm.Cond.instanceMethod ({ cls := "BottleLoop$Loop", name := "tryLose", desc := "(LBottleLoop$Brand;I)V" } : Jvm.MethodName)) ∈ lw_all := lw_g (lw_at lw_m6 48 rfl) rfl
theorem q1327 : (Jvm.Cond.selects "BottleLoop$Loop" ({ cls := "BottleLoop$Loop", name := "tryLose", desc := "(LBottleLoop$Brand;I)V" } : Jvm.MethodName) ({ cls := "BottleLoop$Loop", name := "tryLose", desc := "(LBottleLoop$Brand;I)V" } : Jvm.MethodName)) ∈ lw_all := lw_g (lw_at lw_m6 49 rfl) rfl
theorem q1328 : (Jvm.Cond.code ({ cls := "BottleLoop$Loop", name := "tryLose", desc := "(LBottleLoop$Brand;I)V" } : Jvm.MethodName) prog_13_method_17_code (3 : Nat) (Option.none : Option Jvm.ClassFile.FieldType)) ∈ lw_all := lw_g (lw_at lw_m6 50 rfl) rfl
theorem q1333 : (Jvm.Cond.instanceMethod ({ cls := "BottleLoop$Loop", name := "trySort", desc := "(II)V" } : Jvm.MethodName)) ∈ lw_all := lw_g (lw_at lw_m6 55 rfl) rfl
theorem q1334 : (Jvm.Cond.selects "BottleLoop$Loop" ({ cls := "BottleLoop$Loop", name := "trySort", desc := "(II)V" } : Jvm.MethodName) ({ cls := "BottleLoop$Loop", name := "trySort", desc := "(II)V" } : Jvm.MethodName)) ∈ lw_all := lw_g (lw_at lw_m6 56 rfl) rfl
theorem q1335 : (Jvm.Cond.code ({ cls := "BottleLoop$Loop", name := "trySort", desc := "(II)V" } : Jvm.MethodName) prog_13_method_24_code (3 : Nat) (Option.none : Option Jvm.ClassFile.FieldType)) ∈ lw_all := lw_g (lw_at lw_m6 57 rfl) rfl
theorem q1336 : (Jvm.Cond.methodLink "BottleLoop$Loop" (160 : Nat) ({ cls := "BottleLoop$Loop", name := "inYard", desc := "(I)I" } : Jvm.MethodName)) ∈ lw_all := lw_g (lw_at lw_m6 58 rfl) rfl
theorem q1337 : (Jvm.Cond.instanceMethod ({ cls := "BottleLoop$Loop", name := "inYard", desc := "(I)I" } : Jvm.MethodName)) ∈ lw_all := lw_g (lw_at lw_m6 59 rfl) rfl
theorem q1338 : (Jvm.Cond.selects "BottleLoop$Loop" ({ cls := "BottleLoop$Loop", name := "inYard", desc := "(I)I" } : Jvm.MethodName) ({ cls := "BottleLoop$Loop", name := "inYard", desc := "(I)I" } : Jvm.MethodName)) ∈ lw_all := lw_g (lw_at lw_m6 60 rfl) rfl
theorem q1339 : (Jvm.Cond.code ({ cls := "BottleLoop$Loop", name := "inYard", desc := "(I)I" } : Jvm.MethodName) prog_13_method_23_code (4 : Nat) (Option.some Jvm.ClassFile.FieldType.int)) ∈ lw_all := lw_g (lw_at lw_m6 61 rfl) rfl
theorem q1346 : (Jvm.Cond.instanceMethod ({ cls := "BottleLoop$Loop", name := "trySwap", desc := "(LBottleLoop$Brand;I)V" } : Jvm.MethodName)) ∈ lw_all := lw_g (lw_at lw_m6 68 rfl) rfl
theorem q1347 : (Jvm.Cond.selects "BottleLoop$Loop" ({ cls := "BottleLoop$Loop", name := "trySwap", desc := "(LBottleLoop$Brand;I)V" } : Jvm.MethodName) ({ cls := "BottleLoop$Loop", name := "trySwap", desc := "(LBottleLoop$Brand;I)V" } : Jvm.MethodName)) ∈ lw_all := lw_g (lw_at lw_m6 69 rfl) rfl
theorem q1348 : (Jvm.Cond.code ({ cls := "BottleLoop$Loop", name := "trySwap", desc := "(LBottleLoop$Brand;I)V" } : Jvm.MethodName) prog_13_method_26_code (3 : Nat) (Option.none : Option Jvm.ClassFile.FieldType)) ∈ lw_all := lw_g (lw_at lw_m6 70 rfl) rfl
theorem q1370 : (Jvm.Cond.instanceMethod ({ cls := "BottleLoop$Loop", name := "deliver", desc := "(ILBottleLoop$Shop;I)I" } : Jvm.MethodName)) ∈ lw_all := lw_g (lw_at lw_m6 92 rfl) rfl
theorem q1371 : (Jvm.Cond.selects "BottleLoop$Loop" ({ cls := "BottleLoop$Loop", name := "deliver", desc := "(ILBottleLoop$Shop;I)I" } : Jvm.MethodName) ({ cls := "BottleLoop$Loop", name := "deliver", desc := "(ILBottleLoop$Shop;I)I" } : Jvm.MethodName)) ∈ lw_all := lw_g (lw_at lw_m6 93 rfl) rfl
theorem q1372 : (Jvm.Cond.code ({ cls := "BottleLoop$Loop", name := "deliver", desc := "(ILBottleLoop$Shop;I)I" } : Jvm.MethodName) prog_13_method_10_code (7 : Nat) (Option.some Jvm.ClassFile.FieldType.int)) ∈ lw_all := lw_g (lw_at lw_m6 94 rfl) rfl
theorem q1377 : (Jvm.Cond.instanceMethod ({ cls := "BottleLoop$Loop", name := "sell", desc := "(ILBottleLoop$Shop;I)I" } : Jvm.MethodName)) ∈ lw_all := lw_g (lw_at lw_m6 99 rfl) rfl
theorem q1378 : (Jvm.Cond.selects "BottleLoop$Loop" ({ cls := "BottleLoop$Loop", name := "sell", desc := "(ILBottleLoop$Shop;I)I" } : Jvm.MethodName) ({ cls := "BottleLoop$Loop", name := "sell", desc := "(ILBottleLoop$Shop;I)I" } : Jvm.MethodName)) ∈ lw_all := lw_g (lw_at lw_m6 100 rfl) rfl
theorem q1379 : (Jvm.Cond.code ({ cls := "BottleLoop$Loop", name := "sell", desc := "(ILBottleLoop$Shop;I)I" } : Jvm.MethodName) prog_13_method_12_code (4 : Nat) (Option.some Jvm.ClassFile.FieldType.int)) ∈ lw_all := lw_g (lw_at lw_m6 101 rfl) rfl
theorem q1384 : (Jvm.Cond.instanceMethod ({ cls := "BottleLoop$Loop", name := "take", desc := "(ILBottleLoop$Shop;I)I" } : Jvm.MethodName)) ∈ lw_all := lw_g (lw_at lw_m6 106 rfl) rfl
theorem q1385 : (Jvm.Cond.selects "BottleLoop$Loop" ({ cls := "BottleLoop$Loop", name := "take", desc := "(ILBottleLoop$Shop;I)I" } : Jvm.MethodName) ({ cls := "BottleLoop$Loop", name := "take", desc := "(ILBottleLoop$Shop;I)I" } : Jvm.MethodName)) ∈ lw_all := lw_g (lw_at lw_m6 107 rfl) rfl
theorem q1386 : (Jvm.Cond.code ({ cls := "BottleLoop$Loop", name := "take", desc := "(ILBottleLoop$Shop;I)I" } : Jvm.MethodName) prog_13_method_14_code (4 : Nat) (Option.some Jvm.ClassFile.FieldType.int)) ∈ lw_all := lw_g (lw_at lw_m6 108 rfl) rfl
theorem q1391 : (Jvm.Cond.instanceMethod ({ cls := "BottleLoop$Loop", name := "breaks", desc := "(ILBottleLoop$Shop;I)I" } : Jvm.MethodName)) ∈ lw_all := lw_g (lw_at lw_m6 113 rfl) rfl
theorem q1392 : (Jvm.Cond.selects "BottleLoop$Loop" ({ cls := "BottleLoop$Loop", name := "breaks", desc := "(ILBottleLoop$Shop;I)I" } : Jvm.MethodName) ({ cls := "BottleLoop$Loop", name := "breaks", desc := "(ILBottleLoop$Shop;I)I" } : Jvm.MethodName)) ∈ lw_all := lw_g (lw_at lw_m6 114 rfl) rfl
theorem q1393 : (Jvm.Cond.code ({ cls := "BottleLoop$Loop", name := "breaks", desc := "(ILBottleLoop$Shop;I)I" } : Jvm.MethodName) prog_13_method_16_code (6 : Nat) (Option.some Jvm.ClassFile.FieldType.int)) ∈ lw_all := lw_g (lw_at lw_m6 115 rfl) rfl
theorem q1394 : (Jvm.Cond.methodLink "BottleLoop$Loop" (137 : Nat) ({ cls := "java/lang/Math", name := "min", desc := "(II)I" } : Jvm.MethodName)) ∈ lw_all := lw_g (lw_at lw_m6 116 rfl) rfl
theorem q1399 : (Jvm.Cond.instanceMethod ({ cls := "BottleLoop$Loop", name := "collect", desc := "(LBottleLoop$Shop;II[I)I" } : Jvm.MethodName)) ∈ lw_all := lw_g (lw_at lw_m6 121 rfl) rfl
theorem q1400 : (Jvm.Cond.selects "BottleLoop$Loop" ({ cls := "BottleLoop$Loop", name := "collect", desc := "(LBottleLoop$Shop;II[I)I" } : Jvm.MethodName) ({ cls := "BottleLoop$Loop", name := "collect", desc := "(LBottleLoop$Shop;II[I)I" } : Jvm.MethodName)) ∈ lw_all := lw_g (lw_at lw_m6 122 rfl) rfl
theorem q1401 : (Jvm.Cond.code ({ cls := "BottleLoop$Loop", name := "collect", desc := "(LBottleLoop$Shop;II[I)I" } : Jvm.MethodName) prog_13_method_22_code (6 : Nat) (Option.some Jvm.ClassFile.FieldType.int)) ∈ lw_all := lw_g (lw_at lw_m6 123 rfl) rfl
theorem q1402 : (Jvm.Cond.methodLink "BottleLoop$Loop" (153 : Nat) ({ cls := "BottleLoop$Loop", name := "layCollected", desc := "(LBottleLoop$Shop;II[I)V" } : Jvm.MethodName)) ∈ lw_all := lw_g (lw_at lw_m6 124 rfl) rfl
theorem q1407 : (Jvm.Cond.instanceMethod ({ cls := "BottleLoop$Loop", name := "fill", desc := "(LBottleLoop$Brand;I)I" } : Jvm.MethodName)) ∈ lw_all := lw_g (lw_at lw_m6 129 rfl) rfl
theorem q1408 : (Jvm.Cond.selects "BottleLoop$Loop" ({ cls := "BottleLoop$Loop", name := "fill", desc := "(LBottleLoop$Brand;I)I" } : Jvm.MethodName) ({ cls := "BottleLoop$Loop", name := "fill", desc := "(LBottleLoop$Brand;I)I" } : Jvm.MethodName)) ∈ lw_all := lw_g (lw_at lw_m6 130 rfl) rfl
theorem q1409 : (Jvm.Cond.code ({ cls := "BottleLoop$Loop", name := "fill", desc := "(LBottleLoop$Brand;I)I" } : Jvm.MethodName) prog_13_method_6_code (4 : Nat) (Option.some Jvm.ClassFile.FieldType.int)) ∈ lw_all := lw_g (lw_at lw_m6 131 rfl) rfl
theorem q1410 : (Jvm.Cond.methodLink "BottleLoop$Loop" (89 : Nat) ({ cls := "BottleLoop$Loop", name := "wornBy", desc := "(LBottleLoop$Brand;I)I" } : Jvm.MethodName)) ∈ lw_all := lw_g (lw_at lw_m6 132 rfl) rfl
theorem q1415 : (Jvm.Cond.instanceMethod ({ cls := "BottleLoop$Loop", name := "lose", desc := "(LBottleLoop$Brand;I)I" } : Jvm.MethodName)) ∈ lw_all := lw_g (lw_at lw_m6 137 rfl) rfl
theorem q1416 : (Jvm.Cond.selects "BottleLoop$Loop" ({ cls := "BottleLoop$Loop", name := "lose", desc := "(LBottleLoop$Brand;I)I" } : Jvm.MethodName) ({ cls := "BottleLoop$Loop", name := "lose", desc := "(LBottleLoop$Brand;I)I" } : Jvm.MethodName)) ∈ lw_all := lw_g (lw_at lw_m6 138 rfl) rfl
theorem q1417 : (Jvm.Cond.code ({ cls := "BottleLoop$Loop", name := "lose", desc := "(LBottleLoop$Brand;I)I" } : Jvm.MethodName) prog_13_method_18_code (3 : Nat) (Option.some Jvm.ClassFile.FieldType.int)) ∈ lw_all := lw_g (lw_at lw_m6 139 rfl) rfl
theorem q1422 : (Jvm.Cond.instanceMethod ({ cls := "BottleLoop$Loop", name := "sort", desc := "(II)I" } : Jvm.MethodName)) ∈ lw_all := lw_g (lw_at lw_m6 144 rfl) rfl
theorem q1423 : (Jvm.Cond.selects "BottleLoop$Loop" ({ cls := "BottleLoop$Loop", name := "sort", desc := "(II)I" } : Jvm.MethodName) ({ cls := "BottleLoop$Loop", name := "sort", desc := "(II)I" } : Jvm.MethodName)) ∈ lw_all := lw_g (lw_at lw_m6 145 rfl) rfl
theorem q1424 : (Jvm.Cond.code ({ cls := "BottleLoop$Loop", name := "sort", desc := "(II)I" } : Jvm.MethodName) prog_13_method_25_code (7 : Nat) (Option.some Jvm.ClassFile.FieldType.int)) ∈ lw_all := lw_g (lw_at lw_m6 146 rfl) rfl
theorem q1429 : (Jvm.Cond.instanceMethod ({ cls := "BottleLoop$Loop", name := "swap", desc := "(III)I" } : Jvm.MethodName)) ∈ lw_all := lw_g (lw_at lw_m6 151 rfl) rfl
theorem q1430 : (Jvm.Cond.selects "BottleLoop$Loop" ({ cls := "BottleLoop$Loop", name := "swap", desc := "(III)I" } : Jvm.MethodName) ({ cls := "BottleLoop$Loop", name := "swap", desc := "(III)I" } : Jvm.MethodName)) ∈ lw_all := lw_g (lw_at lw_m6 152 rfl) rfl
theorem q1431 : (Jvm.Cond.code ({ cls := "BottleLoop$Loop", name := "swap", desc := "(III)I" } : Jvm.MethodName) prog_13_method_27_code (4 : Nat) (Option.some Jvm.ClassFile.FieldType.int)) ∈ lw_all := lw_g (lw_at lw_m6 153 rfl) rfl
theorem q2231 : (Jvm.Cond.castable "BottleLoop$Loop" "java/lang/Object") ∈ lw_tbl := lw_at lw_m9 233 rfl
theorem in_X2 : ∀ w ∈ wsX20, w ∈ lw_all := lw_in wsX20 [193, 195, 197, 199, 201, 203, 205, 207, 209] (by decide +kernel) (by decide +kernel)
/-! BottleLoop$Brand -/
set_option maxRecDepth 100000
def RX4 : String := "BottleLoop$Brand"
def TX4 : u_T := fun k => match k with
  | 0 => ("BottleLoop$Brand", "kind", "I", true)
  | 1 => ("BottleLoop$Brand", "empty", "I", false)
  | 2 => ("BottleLoop$Brand", "full", "I", false)
  | 3 => ("BottleLoop$Brand", "out", "I", false)
  | 4 => ("BottleLoop$Brand", "yard", "I", false)
  | 5 => ("BottleLoop$Brand", "broken", "I", false)
  | 6 => ("BottleLoop$Brand", "lost", "I", false)
  | 7 => ("BottleLoop$Brand", "worn", "I", false)
  | 8 => ("BottleLoop$Brand", "filled", "I", false)
  | _ => ("BottleLoop$Brand", "given", "I", false)
def tyX4 : Nat → FieldType := fun k => match k with
  | 0 => .int
  | 1 => .int
  | 2 => .int
  | 3 => .int
  | 4 => .int
  | 5 => .int
  | 6 => .int
  | 7 => .int
  | 8 => .int
  | _ => .int
abbrev wsX40 : List Cond := u_ws RX4 TX4 10
theorem nmX4 : ∀ a, a < 10 → ∀ b, b < 10 → a ≠ b → (TX4 a).2.1 ≠ (TX4 b).2.1 := by decide +kernel
theorem tyX4_ok : ∀ k, k < 10 → parseFieldDescriptor (TX4 k).2.2.1 = some (tyX4 k) := by decide +kernel
abbrev cX4_gone : ByteArray := prog_11_method_3_code
def yX4_gone : MethodName := ⟨RX4, "gone", "()I"⟩
def dkwX4_gone_0 : List UInt8 := [42, 180, 0, 28, 42, 180, 0, 31, 96, 42, 180, 0, 34, 96, 172]
abbrev dktX4_gone_0 : List UInt8 := dkwX4_gone_0 ++ []
theorem dksX4_gone_0 : cX4_gone.data.toList.drop 0 = dktX4_gone_0 := by decide +kernel
theorem dX4_gone_0 : decode cX4_gone 0 = .ok (.aload_n 0, 1) := dk_42 (dk_at dksX4_gone_0 0 rfl rfl)
theorem dX4_gone_1 : decode cX4_gone 1 = .ok (.getfield 28, 3) := dk_180 0 28 (dk_at dksX4_gone_0 1 rfl rfl)
theorem dX4_gone_4 : decode cX4_gone 4 = .ok (.aload_n 0, 1) := dk_42 (dk_at dksX4_gone_0 4 rfl rfl)
theorem dX4_gone_5 : decode cX4_gone 5 = .ok (.getfield 31, 3) := dk_180 0 31 (dk_at dksX4_gone_0 5 rfl rfl)
theorem dX4_gone_8 : decode cX4_gone 8 = .ok (.iadd, 1) := dk_96 (dk_at dksX4_gone_0 8 rfl rfl)
theorem dX4_gone_9 : decode cX4_gone 9 = .ok (.aload_n 0, 1) := dk_42 (dk_at dksX4_gone_0 9 rfl rfl)
theorem dX4_gone_10 : decode cX4_gone 10 = .ok (.getfield 34, 3) := dk_180 0 34 (dk_at dksX4_gone_0 10 rfl rfl)
theorem dX4_gone_13 : decode cX4_gone 13 = .ok (.iadd, 1) := dk_96 (dk_at dksX4_gone_0 13 rfl rfl)
theorem dX4_gone_14 : decode cX4_gone 14 = .ok (.ireturn, 1) := dk_172 (dk_at dksX4_gone_0 14 rfl rfl)
abbrev cX4_copy : ByteArray := prog_11_method_2_code
def yX4_copy : MethodName := ⟨RX4, "copy", "()LBottleLoop$Brand;"⟩
def dkwX4_copy_3 : List UInt8 := [43, 42, 180, 0, 40, 181, 0, 40, 43, 176]
abbrev dktX4_copy_3 : List UInt8 := dkwX4_copy_3 ++ []
def dkwX4_copy_2 : List UInt8 := [43, 42, 180, 0, 31, 181, 0, 31, 43, 42, 180, 0, 34, 181, 0, 34, 43, 42, 180, 0, 37, 181, 0, 37]
abbrev dktX4_copy_2 : List UInt8 := dkwX4_copy_2 ++ dktX4_copy_3
def dkwX4_copy_1 : List UInt8 := [43, 42, 180, 0, 22, 181, 0, 22, 43, 42, 180, 0, 25, 181, 0, 25, 43, 42, 180, 0, 28, 181, 0, 28]
abbrev dktX4_copy_1 : List UInt8 := dkwX4_copy_1 ++ dktX4_copy_2
def dkwX4_copy_0 : List UInt8 := [187, 0, 8, 89, 42, 180, 0, 7, 42, 180, 0, 13, 183, 0, 16, 76, 43, 42, 180, 0, 19, 181, 0, 19]
abbrev dktX4_copy_0 : List UInt8 := dkwX4_copy_0 ++ dktX4_copy_1
theorem dksX4_copy_0 : cX4_copy.data.toList.drop 0 = dktX4_copy_0 := by decide +kernel
theorem dksX4_copy_1 : cX4_copy.data.toList.drop 24 = dktX4_copy_1 := dk_seg dksX4_copy_0 24 rfl rfl
theorem dksX4_copy_2 : cX4_copy.data.toList.drop 48 = dktX4_copy_2 := dk_seg dksX4_copy_1 24 rfl rfl
theorem dksX4_copy_3 : cX4_copy.data.toList.drop 72 = dktX4_copy_3 := dk_seg dksX4_copy_2 24 rfl rfl
theorem dX4_copy_0 : decode cX4_copy 0 = .ok (.new 8, 3) := dk_187 0 8 (dk_at dksX4_copy_0 0 rfl rfl)
theorem dX4_copy_3 : decode cX4_copy 3 = .ok (.dup, 1) := dk_89 (dk_at dksX4_copy_0 3 rfl rfl)
theorem dX4_copy_4 : decode cX4_copy 4 = .ok (.aload_n 0, 1) := dk_42 (dk_at dksX4_copy_0 4 rfl rfl)
theorem dX4_copy_5 : decode cX4_copy 5 = .ok (.getfield 7, 3) := dk_180 0 7 (dk_at dksX4_copy_0 5 rfl rfl)
theorem dX4_copy_8 : decode cX4_copy 8 = .ok (.aload_n 0, 1) := dk_42 (dk_at dksX4_copy_0 8 rfl rfl)
theorem dX4_copy_9 : decode cX4_copy 9 = .ok (.getfield 13, 3) := dk_180 0 13 (dk_at dksX4_copy_0 9 rfl rfl)
theorem dX4_copy_12 : decode cX4_copy 12 = .ok (.invokespecial 16, 3) := dk_183 0 16 (dk_at dksX4_copy_0 12 rfl rfl)
theorem dX4_copy_15 : decode cX4_copy 15 = .ok (.astore_n 1, 1) := dk_76 (dk_at dksX4_copy_0 15 rfl rfl)
theorem dX4_copy_16 : decode cX4_copy 16 = .ok (.aload_n 1, 1) := dk_43 (dk_at dksX4_copy_0 16 rfl rfl)
theorem dX4_copy_17 : decode cX4_copy 17 = .ok (.aload_n 0, 1) := dk_42 (dk_at dksX4_copy_0 17 rfl rfl)
theorem dX4_copy_18 : decode cX4_copy 18 = .ok (.getfield 19, 3) := dk_180 0 19 (dk_at dksX4_copy_0 18 rfl rfl)
theorem dX4_copy_21 : decode cX4_copy 21 = .ok (.putfield 19, 3) := dk_181 0 19 (dk_at dksX4_copy_0 21 rfl rfl)
theorem dX4_copy_24 : decode cX4_copy 24 = .ok (.aload_n 1, 1) := dk_43 (dk_at dksX4_copy_1 0 rfl rfl)
theorem dX4_copy_25 : decode cX4_copy 25 = .ok (.aload_n 0, 1) := dk_42 (dk_at dksX4_copy_1 1 rfl rfl)
theorem dX4_copy_26 : decode cX4_copy 26 = .ok (.getfield 22, 3) := dk_180 0 22 (dk_at dksX4_copy_1 2 rfl rfl)
theorem dX4_copy_29 : decode cX4_copy 29 = .ok (.putfield 22, 3) := dk_181 0 22 (dk_at dksX4_copy_1 5 rfl rfl)
theorem dX4_copy_32 : decode cX4_copy 32 = .ok (.aload_n 1, 1) := dk_43 (dk_at dksX4_copy_1 8 rfl rfl)
theorem dX4_copy_33 : decode cX4_copy 33 = .ok (.aload_n 0, 1) := dk_42 (dk_at dksX4_copy_1 9 rfl rfl)
theorem dX4_copy_34 : decode cX4_copy 34 = .ok (.getfield 25, 3) := dk_180 0 25 (dk_at dksX4_copy_1 10 rfl rfl)
theorem dX4_copy_37 : decode cX4_copy 37 = .ok (.putfield 25, 3) := dk_181 0 25 (dk_at dksX4_copy_1 13 rfl rfl)
theorem dX4_copy_40 : decode cX4_copy 40 = .ok (.aload_n 1, 1) := dk_43 (dk_at dksX4_copy_1 16 rfl rfl)
theorem dX4_copy_41 : decode cX4_copy 41 = .ok (.aload_n 0, 1) := dk_42 (dk_at dksX4_copy_1 17 rfl rfl)
theorem dX4_copy_42 : decode cX4_copy 42 = .ok (.getfield 28, 3) := dk_180 0 28 (dk_at dksX4_copy_1 18 rfl rfl)
theorem dX4_copy_45 : decode cX4_copy 45 = .ok (.putfield 28, 3) := dk_181 0 28 (dk_at dksX4_copy_1 21 rfl rfl)
theorem dX4_copy_48 : decode cX4_copy 48 = .ok (.aload_n 1, 1) := dk_43 (dk_at dksX4_copy_2 0 rfl rfl)
theorem dX4_copy_49 : decode cX4_copy 49 = .ok (.aload_n 0, 1) := dk_42 (dk_at dksX4_copy_2 1 rfl rfl)
theorem dX4_copy_50 : decode cX4_copy 50 = .ok (.getfield 31, 3) := dk_180 0 31 (dk_at dksX4_copy_2 2 rfl rfl)
theorem dX4_copy_53 : decode cX4_copy 53 = .ok (.putfield 31, 3) := dk_181 0 31 (dk_at dksX4_copy_2 5 rfl rfl)
theorem dX4_copy_56 : decode cX4_copy 56 = .ok (.aload_n 1, 1) := dk_43 (dk_at dksX4_copy_2 8 rfl rfl)
theorem dX4_copy_57 : decode cX4_copy 57 = .ok (.aload_n 0, 1) := dk_42 (dk_at dksX4_copy_2 9 rfl rfl)
theorem dX4_copy_58 : decode cX4_copy 58 = .ok (.getfield 34, 3) := dk_180 0 34 (dk_at dksX4_copy_2 10 rfl rfl)
theorem dX4_copy_61 : decode cX4_copy 61 = .ok (.putfield 34, 3) := dk_181 0 34 (dk_at dksX4_copy_2 13 rfl rfl)
theorem dX4_copy_64 : decode cX4_copy 64 = .ok (.aload_n 1, 1) := dk_43 (dk_at dksX4_copy_2 16 rfl rfl)
theorem dX4_copy_65 : decode cX4_copy 65 = .ok (.aload_n 0, 1) := dk_42 (dk_at dksX4_copy_2 17 rfl rfl)
theorem dX4_copy_66 : decode cX4_copy 66 = .ok (.getfield 37, 3) := dk_180 0 37 (dk_at dksX4_copy_2 18 rfl rfl)
theorem dX4_copy_69 : decode cX4_copy 69 = .ok (.putfield 37, 3) := dk_181 0 37 (dk_at dksX4_copy_2 21 rfl rfl)
theorem dX4_copy_72 : decode cX4_copy 72 = .ok (.aload_n 1, 1) := dk_43 (dk_at dksX4_copy_3 0 rfl rfl)
theorem dX4_copy_73 : decode cX4_copy 73 = .ok (.aload_n 0, 1) := dk_42 (dk_at dksX4_copy_3 1 rfl rfl)
theorem dX4_copy_74 : decode cX4_copy 74 = .ok (.getfield 40, 3) := dk_180 0 40 (dk_at dksX4_copy_3 2 rfl rfl)
theorem dX4_copy_77 : decode cX4_copy 77 = .ok (.putfield 40, 3) := dk_181 0 40 (dk_at dksX4_copy_3 5 rfl rfl)
theorem dX4_copy_80 : decode cX4_copy 80 = .ok (.aload_n 1, 1) := dk_43 (dk_at dksX4_copy_3 8 rfl rfl)
theorem dX4_copy_81 : decode cX4_copy 81 = .ok (.areturn, 1) := dk_176 (dk_at dksX4_copy_3 9 rfl rfl)
abbrev cX4_init : ByteArray := prog_11_method_1_code
def yX4_init : MethodName := ⟨RX4, "<init>", "(II)V"⟩
def dkwX4_init_0 : List UInt8 := [42, 183, 0, 1, 42, 27, 181, 0, 7, 42, 28, 181, 0, 13, 177]
abbrev dktX4_init_0 : List UInt8 := dkwX4_init_0 ++ []
theorem dksX4_init_0 : cX4_init.data.toList.drop 0 = dktX4_init_0 := by decide +kernel
theorem dX4_init_0 : decode cX4_init 0 = .ok (.aload_n 0, 1) := dk_42 (dk_at dksX4_init_0 0 rfl rfl)
theorem dX4_init_1 : decode cX4_init 1 = .ok (.invokespecial 1, 3) := dk_183 0 1 (dk_at dksX4_init_0 1 rfl rfl)
theorem dX4_init_4 : decode cX4_init 4 = .ok (.aload_n 0, 1) := dk_42 (dk_at dksX4_init_0 4 rfl rfl)
theorem dX4_init_5 : decode cX4_init 5 = .ok (.iload_n 1, 1) := dk_27 (dk_at dksX4_init_0 5 rfl rfl)
theorem dX4_init_6 : decode cX4_init 6 = .ok (.putfield 7, 3) := dk_181 0 7 (dk_at dksX4_init_0 6 rfl rfl)
theorem dX4_init_9 : decode cX4_init 9 = .ok (.aload_n 0, 1) := dk_42 (dk_at dksX4_init_0 9 rfl rfl)
theorem dX4_init_10 : decode cX4_init 10 = .ok (.iload_n 2, 1) := dk_28 (dk_at dksX4_init_0 10 rfl rfl)
theorem dX4_init_11 : decode cX4_init 11 = .ok (.putfield 13, 3) := dk_181 0 13 (dk_at dksX4_init_0 11 rfl rfl)
theorem dX4_init_14 : decode cX4_init 14 = .ok (.return_, 1) := dk_177 (dk_at dksX4_init_0 14 rfl rfl)
theorem q97 : (Jvm.Cond.initialized "BottleLoop$Brand") ∈ lw_all := lw_g (lw_at lw_m1 19 rfl) rfl
theorem q756 : (Jvm.Cond.selects "BottleLoop$Brand" ({ cls := "java/lang/Object", name := "getClass", desc := "()Ljava/lang/Class;" } : Jvm.MethodName) ({ cls := "java/lang/Object", name := "getClass", desc := "()Ljava/lang/Class;" } : Jvm.MethodName)) ∈ lw_all := lw_g (lw_at lw_m3 198 rfl) rfl
theorem q809 : (Jvm.Cond.instanceMethod ({ cls := "BottleLoop$Brand", name := "gone", desc := "()I" } : Jvm.MethodName)) ∈ lw_all := lw_g (lw_at lw_m4 11 rfl) rfl
theorem q810 : (Jvm.Cond.selects "BottleLoop$Brand" ({ cls := "BottleLoop$Brand", name := "gone", desc := "()I" } : Jvm.MethodName) ({ cls := "BottleLoop$Brand", name := "gone", desc := "()I" } : Jvm.MethodName)) ∈ lw_all := lw_g (lw_at lw_m4 12 rfl) rfl
theorem q811 : (Jvm.Cond.code ({ cls := "BottleLoop$Brand", name := "gone", desc := "()I" } : Jvm.MethodName) prog_11_method_3_code (1 : Nat) (Option.some Jvm.ClassFile.FieldType.int)) ∈ lw_all := lw_g (lw_at lw_m4 13 rfl) rfl
theorem q982 : (Jvm.Cond.instanceMethod ({ cls := "BottleLoop$Brand", name := "copy", desc := "()LBottleLoop$Brand;" } : Jvm.MethodName)) ∈ lw_all := lw_g (lw_at lw_m4 184 rfl) rfl
theorem q983 : (Jvm.Cond.selects "BottleLoop$Brand" ({ cls := "BottleLoop$Brand", name := "copy", desc := "()LBottleLoop$Brand;" } : Jvm.MethodName) ({ cls := "BottleLoop$Brand", name := "copy", desc := "()LBottleLoop$Brand;" } : Jvm.MethodName)) ∈ lw_all := lw_g (lw_at lw_m4 185 rfl) rfl
theorem q984 : (Jvm.Cond.code ({ cls := "BottleLoop$Brand", name := "copy", desc := "()LBottleLoop$Brand;" } : Jvm.MethodName) prog_11_method_2_code (2 : Nat) (Option.some (Jvm.ClassFile.FieldType.object "BottleLoop$Brand"))) ∈ lw_all := lw_g (lw_at lw_m4 186 rfl) rfl
theorem q985 : (Jvm.Cond.classLink "BottleLoop$Brand" (8 : Nat) "BottleLoop$Brand") ∈ lw_all := lw_g (lw_at lw_m4 187 rfl) rfl
theorem q986 : (Jvm.Cond.instantiable "BottleLoop$Brand" (10 : Nat)) ∈ lw_all := lw_g (lw_at lw_m4 188 rfl) rfl
theorem q987 : (Jvm.Cond.methodLink "BottleLoop$Brand" (16 : Nat) ({ cls := "BottleLoop$Brand", name := "<init>", desc := "(II)V" } : Jvm.MethodName)) ∈ lw_all := lw_g (lw_at lw_m4 189 rfl) rfl
theorem q988 : (Jvm.Cond.instanceMethod ({ cls := "BottleLoop$Brand", name := "<init>", desc := "(II)V" } : Jvm.MethodName)) ∈ lw_all := lw_g (lw_at lw_m4 190 rfl) rfl
theorem q989 : (Jvm.Cond.code ({ cls := "BottleLoop$Brand", name := "<init>", desc := "(II)V" } : Jvm.MethodName) prog_11_method_1_code (3 : Nat) (Option.none : Option Jvm.ClassFile.FieldType)) ∈ lw_all := lw_g (lw_at lw_m4 191 rfl) rfl
theorem q990 : (Jvm.Cond.methodLink "BottleLoop$Brand" (1 : Nat) ({ cls := "java/lang/Object", name := "<init>", desc := "()V" } : Jvm.MethodName)) ∈ lw_all := lw_g (lw_at lw_m4 192 rfl) rfl
theorem q991 : (Jvm.Cond.fieldLink "BottleLoop$Brand" (7 : Nat) "BottleLoop$Brand" "kind" "I") ∈ lw_all := lw_g (lw_at lw_m4 193 rfl) rfl
theorem q994 : (Jvm.Cond.fieldLink "BottleLoop$Brand" (13 : Nat) "BottleLoop$Brand" "empty" "I") ∈ lw_all := lw_g (lw_at lw_m4 196 rfl) rfl
theorem q997 : (Jvm.Cond.fieldLink "BottleLoop$Brand" (19 : Nat) "BottleLoop$Brand" "full" "I") ∈ lw_all := lw_g (lw_at lw_m4 199 rfl) rfl
theorem q1000 : (Jvm.Cond.fieldLink "BottleLoop$Brand" (22 : Nat) "BottleLoop$Brand" "out" "I") ∈ lw_all := lw_g (lw_at lw_m4 202 rfl) rfl
theorem q1003 : (Jvm.Cond.fieldLink "BottleLoop$Brand" (25 : Nat) "BottleLoop$Brand" "yard" "I") ∈ lw_all := lw_g (lw_at lw_m4 205 rfl) rfl
theorem q1006 : (Jvm.Cond.fieldLink "BottleLoop$Brand" (28 : Nat) "BottleLoop$Brand" "broken" "I") ∈ lw_all := lw_g (lw_at lw_m4 208 rfl) rfl
theorem q1009 : (Jvm.Cond.fieldLink "BottleLoop$Brand" (31 : Nat) "BottleLoop$Brand" "lost" "I") ∈ lw_all := lw_g (lw_at lw_m4 211 rfl) rfl
theorem q1012 : (Jvm.Cond.fieldLink "BottleLoop$Brand" (34 : Nat) "BottleLoop$Brand" "worn" "I") ∈ lw_all := lw_g (lw_at lw_m4 214 rfl) rfl
theorem q1015 : (Jvm.Cond.fieldLink "BottleLoop$Brand" (37 : Nat) "BottleLoop$Brand" "filled" "I") ∈ lw_all := lw_g (lw_at lw_m4 217 rfl) rfl
theorem q1018 : (Jvm.Cond.fieldLink "BottleLoop$Brand" (40 : Nat) "BottleLoop$Brand" "given" "I") ∈ lw_all := lw_g (lw_at lw_m4 220 rfl) rfl
theorem q1021 : (Jvm.Cond.laysFinal "BottleLoop$Brand" "BottleLoop$Brand" "kind" "I") ∈ lw_all := lw_g (lw_at lw_m4 223 rfl) rfl
theorem q1022 : (Jvm.Cond.soleField "BottleLoop$Brand" "kind") ∈ lw_all := lw_g (lw_at lw_m4 224 rfl) rfl
theorem q1023 : (Jvm.Cond.lays "BottleLoop$Brand" "BottleLoop$Brand" "empty" "I") ∈ lw_all := lw_g (lw_at lw_m4 225 rfl) rfl
theorem q1024 : (Jvm.Cond.soleField "BottleLoop$Brand" "empty") ∈ lw_all := lw_g (lw_at lw_m4 226 rfl) rfl
theorem q1025 : (Jvm.Cond.lays "BottleLoop$Brand" "BottleLoop$Brand" "full" "I") ∈ lw_all := lw_g (lw_at lw_m4 227 rfl) rfl
theorem q1026 : (Jvm.Cond.soleField "BottleLoop$Brand" "full") ∈ lw_all := lw_g (lw_at lw_m4 228 rfl) rfl
theorem q1027 : (Jvm.Cond.lays "BottleLoop$Brand" "BottleLoop$Brand" "out" "I") ∈ lw_all := lw_g (lw_at lw_m4 229 rfl) rfl
theorem q1028 : (Jvm.Cond.soleField "BottleLoop$Brand" "out") ∈ lw_all := lw_g (lw_at lw_m4 230 rfl) rfl
theorem q1029 : (Jvm.Cond.lays "BottleLoop$Brand" "BottleLoop$Brand" "yard" "I") ∈ lw_all := lw_g (lw_at lw_m4 231 rfl) rfl
theorem q1030 : (Jvm.Cond.soleField "BottleLoop$Brand" "yard") ∈ lw_all := lw_g (lw_at lw_m4 232 rfl) rfl
theorem q1031 : (Jvm.Cond.lays "BottleLoop$Brand" "BottleLoop$Brand" "broken" "I") ∈ lw_all := lw_g (lw_at lw_m4 233 rfl) rfl
theorem q1032 : (Jvm.Cond.soleField "BottleLoop$Brand" "broken") ∈ lw_all := lw_g (lw_at lw_m4 234 rfl) rfl
theorem q1033 : (Jvm.Cond.lays "BottleLoop$Brand" "BottleLoop$Brand" "lost" "I") ∈ lw_all := lw_g (lw_at lw_m4 235 rfl) rfl
theorem q1034 : (Jvm.Cond.soleField "BottleLoop$Brand" "lost") ∈ lw_all := lw_g (lw_at lw_m4 236 rfl) rfl
theorem q1035 : (Jvm.Cond.lays "BottleLoop$Brand" "BottleLoop$Brand" "worn" "I") ∈ lw_all := lw_g (lw_at lw_m4 237 rfl) rfl
theorem q1036 : (Jvm.Cond.soleField "BottleLoop$Brand" "worn") ∈ lw_all := lw_g (lw_at lw_m4 238 rfl) rfl
theorem q1037 : (Jvm.Cond.lays "BottleLoop$Brand" "BottleLoop$Brand" "filled" "I") ∈ lw_all := lw_g (lw_at lw_m4 239 rfl) rfl
theorem q1038 : (Jvm.Cond.soleField "BottleLoop$Brand" "filled") ∈ lw_all := lw_g (lw_at lw_m5 0 rfl) rfl
theorem q1039 : (Jvm.Cond.lays "BottleLoop$Brand" "BottleLoop$Brand" "given" "I") ∈ lw_all := lw_g (lw_at lw_m5 1 rfl) rfl
theorem q1040 : (Jvm.Cond.soleField "BottleLoop$Brand" "given") ∈ lw_all := lw_g (lw_at lw_m5 2 rfl) rfl
theorem q1041 : (Jvm.Cond.superclass "BottleLoop$Brand" "java/lang/Object") ∈ lw_all := lw_g (lw_at lw_m5 3 rfl) rfl
theorem q2237 : (Jvm.Cond.castable "BottleLoop$Brand" "java/lang/Object") ∈ lw_tbl := lw_at lw_m9 239 rfl
theorem in_X4 : ∀ w ∈ wsX40, w ∈ lw_all := lw_in wsX40 [1021, 1023, 1025, 1027, 1029, 1031, 1033, 1035, 1037, 1039] (by decide +kernel) (by decide +kernel)
/-! BottleLoop$Shop -/
set_option maxRecDepth 100000
def RX5 : String := "BottleLoop$Shop"
def TX5 : u_T := fun k => match k with
  | 0 => ("BottleLoop$Shop", "full", "[I", true)
  | 1 => ("BottleLoop$Shop", "empty", "[I", true)
  | 2 => ("BottleLoop$Shop", "money", "I", false)
  | 3 => ("BottleLoop$Shop", "crates", "I", false)
  | 4 => ("BottleLoop$Shop", "paid", "I", false)
  | 5 => ("BottleLoop$Shop", "pooled", "I", false)
  | _ => ("BottleLoop$Shop", "sold", "I", false)
def tyX5 : Nat → FieldType := fun k => match k with
  | 0 => .array .int
  | 1 => .array .int
  | 2 => .int
  | 3 => .int
  | 4 => .int
  | 5 => .int
  | _ => .int
abbrev wsX50 : List Cond := u_ws RX5 TX5 7
theorem nmX5 : ∀ a, a < 7 → ∀ b, b < 7 → a ≠ b → (TX5 a).2.1 ≠ (TX5 b).2.1 := by decide +kernel
theorem tyX5_ok : ∀ k, k < 7 → parseFieldDescriptor (TX5 k).2.2.1 = some (tyX5 k) := by decide +kernel
abbrev cX5_copy : ByteArray := prog_20_method_2_code
def yX5_copy : MethodName := ⟨RX5, "copy", "()LBottleLoop$Shop;"⟩
def dkwX5_copy_3 : List UInt8 := [180, 0, 38, 181, 0, 38, 43, 176]
abbrev dktX5_copy_3 : List UInt8 := dkwX5_copy_3 ++ []
def dkwX5_copy_2 : List UInt8 := [180, 0, 29, 181, 0, 29, 43, 42, 180, 0, 32, 181, 0, 32, 43, 42, 180, 0, 35, 181, 0, 35, 43, 42]
abbrev dktX5_copy_2 : List UInt8 := dkwX5_copy_2 ++ dktX5_copy_3
def dkwX5_copy_1 : List UInt8 := [180, 0, 15, 3, 43, 180, 0, 15, 3, 16, 8, 184, 0, 19, 43, 42, 180, 0, 25, 181, 0, 25, 43, 42]
abbrev dktX5_copy_1 : List UInt8 := dkwX5_copy_1 ++ dktX5_copy_2
def dkwX5_copy_0 : List UInt8 := [187, 0, 10, 89, 183, 0, 18, 76, 42, 180, 0, 9, 3, 43, 180, 0, 9, 3, 16, 8, 184, 0, 19, 42]
abbrev dktX5_copy_0 : List UInt8 := dkwX5_copy_0 ++ dktX5_copy_1
theorem dksX5_copy_0 : cX5_copy.data.toList.drop 0 = dktX5_copy_0 := by decide +kernel
theorem dksX5_copy_1 : cX5_copy.data.toList.drop 24 = dktX5_copy_1 := dk_seg dksX5_copy_0 24 rfl rfl
theorem dksX5_copy_2 : cX5_copy.data.toList.drop 48 = dktX5_copy_2 := dk_seg dksX5_copy_1 24 rfl rfl
theorem dksX5_copy_3 : cX5_copy.data.toList.drop 72 = dktX5_copy_3 := dk_seg dksX5_copy_2 24 rfl rfl
theorem dX5_copy_0 : decode cX5_copy 0 = .ok (.new 10, 3) := dk_187 0 10 (dk_at dksX5_copy_0 0 rfl rfl)
theorem dX5_copy_3 : decode cX5_copy 3 = .ok (.dup, 1) := dk_89 (dk_at dksX5_copy_0 3 rfl rfl)
theorem dX5_copy_4 : decode cX5_copy 4 = .ok (.invokespecial 18, 3) := dk_183 0 18 (dk_at dksX5_copy_0 4 rfl rfl)
theorem dX5_copy_7 : decode cX5_copy 7 = .ok (.astore_n 1, 1) := dk_76 (dk_at dksX5_copy_0 7 rfl rfl)
theorem dX5_copy_8 : decode cX5_copy 8 = .ok (.aload_n 0, 1) := dk_42 (dk_at dksX5_copy_0 8 rfl rfl)
theorem dX5_copy_9 : decode cX5_copy 9 = .ok (.getfield 9, 3) := dk_180 0 9 (dk_at dksX5_copy_0 9 rfl rfl)
theorem dX5_copy_12 : decode cX5_copy 12 = .ok (.iconst 0, 1) := dk_3 (dk_at dksX5_copy_0 12 rfl rfl)
theorem dX5_copy_13 : decode cX5_copy 13 = .ok (.aload_n 1, 1) := dk_43 (dk_at dksX5_copy_0 13 rfl rfl)
theorem dX5_copy_14 : decode cX5_copy 14 = .ok (.getfield 9, 3) := dk_180 0 9 (dk_at dksX5_copy_0 14 rfl rfl)
theorem dX5_copy_17 : decode cX5_copy 17 = .ok (.iconst 0, 1) := dk_3 (dk_at dksX5_copy_0 17 rfl rfl)
theorem dX5_copy_18 : decode cX5_copy 18 = .ok (.bipush 8, 2) := dk_16 8 (dk_at dksX5_copy_0 18 rfl rfl)
theorem dX5_copy_20 : decode cX5_copy 20 = .ok (.invokestatic 19, 3) := dk_184 0 19 (dk_at dksX5_copy_0 20 rfl rfl)
theorem dX5_copy_23 : decode cX5_copy 23 = .ok (.aload_n 0, 1) := dk_42 (dk_at dksX5_copy_0 23 rfl rfl)
theorem dX5_copy_24 : decode cX5_copy 24 = .ok (.getfield 15, 3) := dk_180 0 15 (dk_at dksX5_copy_1 0 rfl rfl)
theorem dX5_copy_27 : decode cX5_copy 27 = .ok (.iconst 0, 1) := dk_3 (dk_at dksX5_copy_1 3 rfl rfl)
theorem dX5_copy_28 : decode cX5_copy 28 = .ok (.aload_n 1, 1) := dk_43 (dk_at dksX5_copy_1 4 rfl rfl)
theorem dX5_copy_29 : decode cX5_copy 29 = .ok (.getfield 15, 3) := dk_180 0 15 (dk_at dksX5_copy_1 5 rfl rfl)
theorem dX5_copy_32 : decode cX5_copy 32 = .ok (.iconst 0, 1) := dk_3 (dk_at dksX5_copy_1 8 rfl rfl)
theorem dX5_copy_33 : decode cX5_copy 33 = .ok (.bipush 8, 2) := dk_16 8 (dk_at dksX5_copy_1 9 rfl rfl)
theorem dX5_copy_35 : decode cX5_copy 35 = .ok (.invokestatic 19, 3) := dk_184 0 19 (dk_at dksX5_copy_1 11 rfl rfl)
theorem dX5_copy_38 : decode cX5_copy 38 = .ok (.aload_n 1, 1) := dk_43 (dk_at dksX5_copy_1 14 rfl rfl)
theorem dX5_copy_39 : decode cX5_copy 39 = .ok (.aload_n 0, 1) := dk_42 (dk_at dksX5_copy_1 15 rfl rfl)
theorem dX5_copy_40 : decode cX5_copy 40 = .ok (.getfield 25, 3) := dk_180 0 25 (dk_at dksX5_copy_1 16 rfl rfl)
theorem dX5_copy_43 : decode cX5_copy 43 = .ok (.putfield 25, 3) := dk_181 0 25 (dk_at dksX5_copy_1 19 rfl rfl)
theorem dX5_copy_46 : decode cX5_copy 46 = .ok (.aload_n 1, 1) := dk_43 (dk_at dksX5_copy_1 22 rfl rfl)
theorem dX5_copy_47 : decode cX5_copy 47 = .ok (.aload_n 0, 1) := dk_42 (dk_at dksX5_copy_1 23 rfl rfl)
theorem dX5_copy_48 : decode cX5_copy 48 = .ok (.getfield 29, 3) := dk_180 0 29 (dk_at dksX5_copy_2 0 rfl rfl)
theorem dX5_copy_51 : decode cX5_copy 51 = .ok (.putfield 29, 3) := dk_181 0 29 (dk_at dksX5_copy_2 3 rfl rfl)
theorem dX5_copy_54 : decode cX5_copy 54 = .ok (.aload_n 1, 1) := dk_43 (dk_at dksX5_copy_2 6 rfl rfl)
theorem dX5_copy_55 : decode cX5_copy 55 = .ok (.aload_n 0, 1) := dk_42 (dk_at dksX5_copy_2 7 rfl rfl)
theorem dX5_copy_56 : decode cX5_copy 56 = .ok (.getfield 32, 3) := dk_180 0 32 (dk_at dksX5_copy_2 8 rfl rfl)
theorem dX5_copy_59 : decode cX5_copy 59 = .ok (.putfield 32, 3) := dk_181 0 32 (dk_at dksX5_copy_2 11 rfl rfl)
theorem dX5_copy_62 : decode cX5_copy 62 = .ok (.aload_n 1, 1) := dk_43 (dk_at dksX5_copy_2 14 rfl rfl)
theorem dX5_copy_63 : decode cX5_copy 63 = .ok (.aload_n 0, 1) := dk_42 (dk_at dksX5_copy_2 15 rfl rfl)
theorem dX5_copy_64 : decode cX5_copy 64 = .ok (.getfield 35, 3) := dk_180 0 35 (dk_at dksX5_copy_2 16 rfl rfl)
theorem dX5_copy_67 : decode cX5_copy 67 = .ok (.putfield 35, 3) := dk_181 0 35 (dk_at dksX5_copy_2 19 rfl rfl)
theorem dX5_copy_70 : decode cX5_copy 70 = .ok (.aload_n 1, 1) := dk_43 (dk_at dksX5_copy_2 22 rfl rfl)
theorem dX5_copy_71 : decode cX5_copy 71 = .ok (.aload_n 0, 1) := dk_42 (dk_at dksX5_copy_2 23 rfl rfl)
theorem dX5_copy_72 : decode cX5_copy 72 = .ok (.getfield 38, 3) := dk_180 0 38 (dk_at dksX5_copy_3 0 rfl rfl)
theorem dX5_copy_75 : decode cX5_copy 75 = .ok (.putfield 38, 3) := dk_181 0 38 (dk_at dksX5_copy_3 3 rfl rfl)
theorem dX5_copy_78 : decode cX5_copy 78 = .ok (.aload_n 1, 1) := dk_43 (dk_at dksX5_copy_3 6 rfl rfl)
theorem dX5_copy_79 : decode cX5_copy 79 = .ok (.areturn, 1) := dk_176 (dk_at dksX5_copy_3 7 rfl rfl)
abbrev cX5_init : ByteArray := prog_20_method_1_code
def yX5_init : MethodName := ⟨RX5, "<init>", "()V"⟩
def dkwX5_init_0 : List UInt8 := [42, 183, 0, 3, 42, 16, 8, 188, 10, 181, 0, 9, 42, 16, 8, 188, 10, 181, 0, 15, 177]
abbrev dktX5_init_0 : List UInt8 := dkwX5_init_0 ++ []
theorem dksX5_init_0 : cX5_init.data.toList.drop 0 = dktX5_init_0 := by decide +kernel
theorem dX5_init_0 : decode cX5_init 0 = .ok (.aload_n 0, 1) := dk_42 (dk_at dksX5_init_0 0 rfl rfl)
theorem dX5_init_1 : decode cX5_init 1 = .ok (.invokespecial 3, 3) := dk_183 0 3 (dk_at dksX5_init_0 1 rfl rfl)
theorem dX5_init_4 : decode cX5_init 4 = .ok (.aload_n 0, 1) := dk_42 (dk_at dksX5_init_0 4 rfl rfl)
theorem dX5_init_5 : decode cX5_init 5 = .ok (.bipush 8, 2) := dk_16 8 (dk_at dksX5_init_0 5 rfl rfl)
theorem dX5_init_7 : decode cX5_init 7 = .ok (.newarray .int, 2) := dk_188_10 (dk_at dksX5_init_0 7 rfl rfl)
theorem dX5_init_9 : decode cX5_init 9 = .ok (.putfield 9, 3) := dk_181 0 9 (dk_at dksX5_init_0 9 rfl rfl)
theorem dX5_init_12 : decode cX5_init 12 = .ok (.aload_n 0, 1) := dk_42 (dk_at dksX5_init_0 12 rfl rfl)
theorem dX5_init_13 : decode cX5_init 13 = .ok (.bipush 8, 2) := dk_16 8 (dk_at dksX5_init_0 13 rfl rfl)
theorem dX5_init_15 : decode cX5_init 15 = .ok (.newarray .int, 2) := dk_188_10 (dk_at dksX5_init_0 15 rfl rfl)
theorem dX5_init_17 : decode cX5_init 17 = .ok (.putfield 15, 3) := dk_181 0 15 (dk_at dksX5_init_0 17 rfl rfl)
theorem dX5_init_20 : decode cX5_init 20 = .ok (.return_, 1) := dk_177 (dk_at dksX5_init_0 20 rfl rfl)
theorem q101 : (Jvm.Cond.initialized "BottleLoop$Shop") ∈ lw_all := lw_g (lw_at lw_m1 23 rfl) rfl
theorem q764 : (Jvm.Cond.selects "BottleLoop$Shop" ({ cls := "java/lang/Object", name := "getClass", desc := "()Ljava/lang/Class;" } : Jvm.MethodName) ({ cls := "java/lang/Object", name := "getClass", desc := "()Ljava/lang/Class;" } : Jvm.MethodName)) ∈ lw_all := lw_g (lw_at lw_m3 206 rfl) rfl
theorem q1045 : (Jvm.Cond.instanceMethod ({ cls := "BottleLoop$Shop", name := "copy", desc := "()LBottleLoop$Shop;" } : Jvm.MethodName)) ∈ lw_all := lw_g (lw_at lw_m5 7 rfl) rfl
theorem q1046 : (Jvm.Cond.selects "BottleLoop$Shop" ({ cls := "BottleLoop$Shop", name := "copy", desc := "()LBottleLoop$Shop;" } : Jvm.MethodName) ({ cls := "BottleLoop$Shop", name := "copy", desc := "()LBottleLoop$Shop;" } : Jvm.MethodName)) ∈ lw_all := lw_g (lw_at lw_m5 8 rfl) rfl
theorem q1047 : (Jvm.Cond.code ({ cls := "BottleLoop$Shop", name := "copy", desc := "()LBottleLoop$Shop;" } : Jvm.MethodName) prog_20_method_2_code (2 : Nat) (Option.some (Jvm.ClassFile.FieldType.object "BottleLoop$Shop"))) ∈ lw_all := lw_g (lw_at lw_m5 9 rfl) rfl
theorem q1048 : (Jvm.Cond.classLink "BottleLoop$Shop" (10 : Nat) "BottleLoop$Shop") ∈ lw_all := lw_g (lw_at lw_m5 10 rfl) rfl
theorem q1049 : (Jvm.Cond.instantiable "BottleLoop$Shop" (7 : Nat)) ∈ lw_all := lw_g (lw_at lw_m5 11 rfl) rfl
theorem q1050 : (Jvm.Cond.methodLink "BottleLoop$Shop" (18 : Nat) ({ cls := "BottleLoop$Shop", name := "<init>", desc := "()V" } : Jvm.MethodName)) ∈ lw_all := lw_g (lw_at lw_m5 12 rfl) rfl
theorem q1051 : (Jvm.Cond.instanceMethod ({ cls := "BottleLoop$Shop", name := "<init>", desc := "()V" } : Jvm.MethodName)) ∈ lw_all := lw_g (lw_at lw_m5 13 rfl) rfl
theorem q1052 : (Jvm.Cond.code ({ cls := "BottleLoop$Shop", name := "<init>", desc := "()V" } : Jvm.MethodName) prog_20_method_1_code (1 : Nat) (Option.none : Option Jvm.ClassFile.FieldType)) ∈ lw_all := lw_g (lw_at lw_m5 14 rfl) rfl
theorem q1053 : (Jvm.Cond.methodLink "BottleLoop$Shop" (3 : Nat) ({ cls := "java/lang/Object", name := "<init>", desc := "()V" } : Jvm.MethodName)) ∈ lw_all := lw_g (lw_at lw_m5 15 rfl) rfl
theorem q1054 : (Jvm.Cond.fieldLink "BottleLoop$Shop" (9 : Nat) "BottleLoop$Shop" "full" "[I") ∈ lw_all := lw_g (lw_at lw_m5 16 rfl) rfl
theorem q1057 : (Jvm.Cond.fieldLink "BottleLoop$Shop" (15 : Nat) "BottleLoop$Shop" "empty" "[I") ∈ lw_all := lw_g (lw_at lw_m5 19 rfl) rfl
theorem q1060 : (Jvm.Cond.fieldLink "BottleLoop$Shop" (25 : Nat) "BottleLoop$Shop" "money" "I") ∈ lw_all := lw_g (lw_at lw_m5 22 rfl) rfl
theorem q1063 : (Jvm.Cond.fieldLink "BottleLoop$Shop" (29 : Nat) "BottleLoop$Shop" "crates" "I") ∈ lw_all := lw_g (lw_at lw_m5 25 rfl) rfl
theorem q1066 : (Jvm.Cond.fieldLink "BottleLoop$Shop" (32 : Nat) "BottleLoop$Shop" "paid" "I") ∈ lw_all := lw_g (lw_at lw_m5 28 rfl) rfl
theorem q1069 : (Jvm.Cond.fieldLink "BottleLoop$Shop" (35 : Nat) "BottleLoop$Shop" "pooled" "I") ∈ lw_all := lw_g (lw_at lw_m5 31 rfl) rfl
theorem q1072 : (Jvm.Cond.fieldLink "BottleLoop$Shop" (38 : Nat) "BottleLoop$Shop" "sold" "I") ∈ lw_all := lw_g (lw_at lw_m5 34 rfl) rfl
theorem q1075 : (Jvm.Cond.laysFinal "BottleLoop$Shop" "BottleLoop$Shop" "full" "[I") ∈ lw_all := lw_g (lw_at lw_m5 37 rfl) rfl
theorem q1076 : (Jvm.Cond.soleField "BottleLoop$Shop" "full") ∈ lw_all := lw_g (lw_at lw_m5 38 rfl) rfl
theorem q1077 : (Jvm.Cond.laysFinal "BottleLoop$Shop" "BottleLoop$Shop" "empty" "[I") ∈ lw_all := lw_g (lw_at lw_m5 39 rfl) rfl
theorem q1078 : (Jvm.Cond.soleField "BottleLoop$Shop" "empty") ∈ lw_all := lw_g (lw_at lw_m5 40 rfl) rfl
theorem q1079 : (Jvm.Cond.lays "BottleLoop$Shop" "BottleLoop$Shop" "money" "I") ∈ lw_all := lw_g (lw_at lw_m5 41 rfl) rfl
theorem q1080 : (Jvm.Cond.soleField "BottleLoop$Shop" "money") ∈ lw_all := lw_g (lw_at lw_m5 42 rfl) rfl
theorem q1081 : (Jvm.Cond.lays "BottleLoop$Shop" "BottleLoop$Shop" "crates" "I") ∈ lw_all := lw_g (lw_at lw_m5 43 rfl) rfl
theorem q1082 : (Jvm.Cond.soleField "BottleLoop$Shop" "crates") ∈ lw_all := lw_g (lw_at lw_m5 44 rfl) rfl
theorem q1083 : (Jvm.Cond.lays "BottleLoop$Shop" "BottleLoop$Shop" "paid" "I") ∈ lw_all := lw_g (lw_at lw_m5 45 rfl) rfl
theorem q1084 : (Jvm.Cond.soleField "BottleLoop$Shop" "paid") ∈ lw_all := lw_g (lw_at lw_m5 46 rfl) rfl
theorem q1085 : (Jvm.Cond.lays "BottleLoop$Shop" "BottleLoop$Shop" "pooled" "I") ∈ lw_all := lw_g (lw_at lw_m5 47 rfl) rfl
theorem q1086 : (Jvm.Cond.soleField "BottleLoop$Shop" "pooled") ∈ lw_all := lw_g (lw_at lw_m5 48 rfl) rfl
theorem q1087 : (Jvm.Cond.lays "BottleLoop$Shop" "BottleLoop$Shop" "sold" "I") ∈ lw_all := lw_g (lw_at lw_m5 49 rfl) rfl
theorem q1088 : (Jvm.Cond.soleField "BottleLoop$Shop" "sold") ∈ lw_all := lw_g (lw_at lw_m5 50 rfl) rfl
theorem q1089 : (Jvm.Cond.superclass "BottleLoop$Shop" "java/lang/Object") ∈ lw_all := lw_g (lw_at lw_m5 51 rfl) rfl
theorem q1090 : (Jvm.Cond.methodLink "BottleLoop$Shop" (19 : Nat) ({ cls := "java/lang/System", name := "arraycopy", desc := "(Ljava/lang/Object;ILjava/lang/Object;II)V" } : Jvm.MethodName)) ∈ lw_all := lw_g (lw_at lw_m5 52 rfl) rfl
theorem q2238 : (Jvm.Cond.castable "BottleLoop$Shop" "java/lang/Object") ∈ lw_tbl := lw_at lw_m10 0 rfl
theorem in_X5 : ∀ w ∈ wsX50, w ∈ lw_all := lw_in wsX50 [1075, 1077, 1079, 1081, 1083, 1085, 1087] (by decide +kernel) (by decide +kernel)
/-! BottleLoop$Deed -/
set_option maxRecDepth 100000
def RX6 : String := "BottleLoop$Deed"
abbrev cX6_init : ByteArray := prog_12_method_1_code
def yX6_init : MethodName := ⟨RX6, "<init>", "(LBottleLoop;)V"⟩
def dkwX6_init_0 : List UInt8 := [42, 43, 181, 0, 3, 42, 183, 0, 9, 177]
abbrev dktX6_init_0 : List UInt8 := dkwX6_init_0 ++ []
theorem dksX6_init_0 : cX6_init.data.toList.drop 0 = dktX6_init_0 := by decide +kernel
theorem dX6_init_0 : decode cX6_init 0 = .ok (.aload_n 0, 1) := dk_42 (dk_at dksX6_init_0 0 rfl rfl)
theorem dX6_init_1 : decode cX6_init 1 = .ok (.aload_n 1, 1) := dk_43 (dk_at dksX6_init_0 1 rfl rfl)
theorem dX6_init_2 : decode cX6_init 2 = .ok (.putfield 3, 3) := dk_181 0 3 (dk_at dksX6_init_0 2 rfl rfl)
theorem dX6_init_5 : decode cX6_init 5 = .ok (.aload_n 0, 1) := dk_42 (dk_at dksX6_init_0 5 rfl rfl)
theorem dX6_init_6 : decode cX6_init 6 = .ok (.invokespecial 9, 3) := dk_183 0 9 (dk_at dksX6_init_0 6 rfl rfl)
theorem dX6_init_9 : decode cX6_init 9 = .ok (.return_, 1) := dk_177 (dk_at dksX6_init_0 9 rfl rfl)
abbrev cX6_done : ByteArray := prog_12_method_5_code
def yX6_done : MethodName := ⟨RX6, "done", "()I"⟩
def dkwX6_done_1 : List UInt8 := [182, 0, 40, 172]
abbrev dktX6_done_1 : List UInt8 := dkwX6_done_1 ++ []
def dkwX6_done_0 : List UInt8 := [42, 182, 0, 30, 154, 0, 7, 4, 167, 0, 4, 3, 184, 0, 33, 42, 180, 0, 3, 182, 0, 37, 42]
abbrev dktX6_done_0 : List UInt8 := dkwX6_done_0 ++ dktX6_done_1
theorem dksX6_done_0 : cX6_done.data.toList.drop 0 = dktX6_done_0 := by decide +kernel
theorem dksX6_done_1 : cX6_done.data.toList.drop 23 = dktX6_done_1 := dk_seg dksX6_done_0 23 rfl rfl
theorem dX6_done_0 : decode cX6_done 0 = .ok (.aload_n 0, 1) := dk_42 (dk_at dksX6_done_0 0 rfl rfl)
theorem dX6_done_1 : decode cX6_done 1 = .ok (.invokevirtual 30, 3) := dk_182 0 30 (dk_at dksX6_done_0 1 rfl rfl)
theorem dX6_done_4 : decode cX6_done 4 = .ok (.ifCond .ne 7, 3) := dk_154 0 7 (dk_at dksX6_done_0 4 rfl rfl)
theorem dX6_done_7 : decode cX6_done 7 = .ok (.iconst 1, 1) := dk_4 (dk_at dksX6_done_0 7 rfl rfl)
theorem dX6_done_8 : decode cX6_done 8 = .ok (.goto 4, 3) := dk_167 0 4 (dk_at dksX6_done_0 8 rfl rfl)
theorem dX6_done_11 : decode cX6_done 11 = .ok (.iconst 0, 1) := dk_3 (dk_at dksX6_done_0 11 rfl rfl)
theorem dX6_done_12 : decode cX6_done 12 = .ok (.invokestatic 33, 3) := dk_184 0 33 (dk_at dksX6_done_0 12 rfl rfl)
theorem dX6_done_15 : decode cX6_done 15 = .ok (.aload_n 0, 1) := dk_42 (dk_at dksX6_done_0 15 rfl rfl)
theorem dX6_done_16 : decode cX6_done 16 = .ok (.getfield 3, 3) := dk_180 0 3 (dk_at dksX6_done_0 16 rfl rfl)
theorem dX6_done_19 : decode cX6_done 19 = .ok (.invokevirtual 37, 3) := dk_182 0 37 (dk_at dksX6_done_0 19 rfl rfl)
theorem dX6_done_22 : decode cX6_done 22 = .ok (.aload_n 0, 1) := dk_42 (dk_at dksX6_done_0 22 rfl rfl)
theorem dX6_done_23 : decode cX6_done 23 = .ok (.invokevirtual 40, 3) := dk_182 0 40 (dk_at dksX6_done_1 0 rfl rfl)
theorem dX6_done_26 : decode cX6_done 26 = .ok (.ireturn, 1) := dk_172 (dk_at dksX6_done_1 3 rfl rfl)
abbrev cX6_reason : ByteArray := prog_12_method_4_code
def yX6_reason : MethodName := ⟨RX6, "reason", "()I"⟩
def dkwX6_reason_0 : List UInt8 := [42, 182, 0, 15, 3, 172, 76, 43, 182, 0, 24, 172, 76, 7, 172]
abbrev dktX6_reason_0 : List UInt8 := dkwX6_reason_0 ++ []
theorem dksX6_reason_0 : cX6_reason.data.toList.drop 0 = dktX6_reason_0 := by decide +kernel
theorem dX6_reason_0 : decode cX6_reason 0 = .ok (.aload_n 0, 1) := dk_42 (dk_at dksX6_reason_0 0 rfl rfl)
theorem dX6_reason_1 : decode cX6_reason 1 = .ok (.invokevirtual 15, 3) := dk_182 0 15 (dk_at dksX6_reason_0 1 rfl rfl)
theorem dX6_reason_4 : decode cX6_reason 4 = .ok (.iconst 0, 1) := dk_3 (dk_at dksX6_reason_0 4 rfl rfl)
theorem dX6_reason_5 : decode cX6_reason 5 = .ok (.ireturn, 1) := dk_172 (dk_at dksX6_reason_0 5 rfl rfl)
theorem dX6_reason_6 : decode cX6_reason 6 = .ok (.astore_n 1, 1) := dk_76 (dk_at dksX6_reason_0 6 rfl rfl)
theorem dX6_reason_7 : decode cX6_reason 7 = .ok (.aload_n 1, 1) := dk_43 (dk_at dksX6_reason_0 7 rfl rfl)
theorem dX6_reason_8 : decode cX6_reason 8 = .ok (.invokevirtual 24, 3) := dk_182 0 24 (dk_at dksX6_reason_0 8 rfl rfl)
theorem dX6_reason_11 : decode cX6_reason 11 = .ok (.ireturn, 1) := dk_172 (dk_at dksX6_reason_0 11 rfl rfl)
theorem dX6_reason_12 : decode cX6_reason 12 = .ok (.astore_n 1, 1) := dk_76 (dk_at dksX6_reason_0 12 rfl rfl)
theorem dX6_reason_13 : decode cX6_reason 13 = .ok (.iconst 4, 1) := dk_7 (dk_at dksX6_reason_0 13 rfl rfl)
theorem dX6_reason_14 : decode cX6_reason 14 = .ok (.ireturn, 1) := dk_172 (dk_at dksX6_reason_0 14 rfl rfl)
abbrev cX6_order : ByteArray := prog_12_method_6_code
def yX6_order : MethodName := ⟨RX6, "order", "()V"⟩
def dkwX6_order_0 : List UInt8 := [42, 182, 0, 15, 167, 0, 13, 76, 187, 0, 43, 89, 43, 183, 0, 45, 191, 42, 182, 0, 40, 87, 177]
abbrev dktX6_order_0 : List UInt8 := dkwX6_order_0 ++ []
theorem dksX6_order_0 : cX6_order.data.toList.drop 0 = dktX6_order_0 := by decide +kernel
theorem dX6_order_0 : decode cX6_order 0 = .ok (.aload_n 0, 1) := dk_42 (dk_at dksX6_order_0 0 rfl rfl)
theorem dX6_order_1 : decode cX6_order 1 = .ok (.invokevirtual 15, 3) := dk_182 0 15 (dk_at dksX6_order_0 1 rfl rfl)
theorem dX6_order_4 : decode cX6_order 4 = .ok (.goto 13, 3) := dk_167 0 13 (dk_at dksX6_order_0 4 rfl rfl)
theorem dX6_order_7 : decode cX6_order 7 = .ok (.astore_n 1, 1) := dk_76 (dk_at dksX6_order_0 7 rfl rfl)
theorem dX6_order_8 : decode cX6_order 8 = .ok (.new 43, 3) := dk_187 0 43 (dk_at dksX6_order_0 8 rfl rfl)
theorem dX6_order_11 : decode cX6_order 11 = .ok (.dup, 1) := dk_89 (dk_at dksX6_order_0 11 rfl rfl)
theorem dX6_order_12 : decode cX6_order 12 = .ok (.aload_n 1, 1) := dk_43 (dk_at dksX6_order_0 12 rfl rfl)
theorem dX6_order_13 : decode cX6_order 13 = .ok (.invokespecial 45, 3) := dk_183 0 45 (dk_at dksX6_order_0 13 rfl rfl)
theorem dX6_order_16 : decode cX6_order 16 = .ok (.athrow, 1) := dk_191 (dk_at dksX6_order_0 16 rfl rfl)
theorem dX6_order_17 : decode cX6_order 17 = .ok (.aload_n 0, 1) := dk_42 (dk_at dksX6_order_0 17 rfl rfl)
theorem dX6_order_18 : decode cX6_order 18 = .ok (.invokevirtual 40, 3) := dk_182 0 40 (dk_at dksX6_order_0 18 rfl rfl)
theorem dX6_order_21 : decode cX6_order 21 = .ok (.pop, 1) := dk_87 (dk_at dksX6_order_0 21 rfl rfl)
theorem dX6_order_22 : decode cX6_order 22 = .ok (.return_, 1) := dk_177 (dk_at dksX6_order_0 22 rfl rfl)
theorem q104 : (Jvm.Cond.initialized "BottleLoop$Deed") ∈ lw_all := lw_g (lw_at lw_m1 26 rfl) rfl
theorem q1159 : (Jvm.Cond.instanceMethod ({ cls := "BottleLoop$Deed", name := "<init>", desc := "(LBottleLoop;)V" } : Jvm.MethodName)) ∈ lw_all := lw_g (lw_at lw_m5 121 rfl) rfl
theorem q1160 : (Jvm.Cond.code ({ cls := "BottleLoop$Deed", name := "<init>", desc := "(LBottleLoop;)V" } : Jvm.MethodName) prog_12_method_1_code (2 : Nat) (Option.none : Option Jvm.ClassFile.FieldType)) ∈ lw_all := lw_g (lw_at lw_m5 122 rfl) rfl
theorem q1161 : (Jvm.Cond.methodLink "BottleLoop$Deed" (9 : Nat) ({ cls := "java/lang/Object", name := "<init>", desc := "()V" } : Jvm.MethodName)) ∈ lw_all := lw_g (lw_at lw_m5 123 rfl) rfl
theorem q1165 : (Jvm.Cond.fieldLink "BottleLoop$Deed" (3 : Nat) "BottleLoop$Deed" "this$0" "LBottleLoop;") ∈ lw_all := lw_g (lw_at lw_m5 127 rfl) rfl
theorem q1173 : (Jvm.Cond.soleField "BottleLoop$Deed" "this$0") ∈ lw_all := lw_g (lw_at lw_m5 135 rfl) rfl
theorem q1177 : (Jvm.Cond.declares ({ cls := "BottleLoop$Deed", name := "done", desc := "()I" } : Jvm.MethodName)) ∈ lw_tbl := lw_at lw_m5 139 rfl
theorem q1179 : (Jvm.Cond.instanceMethod ({ cls := "BottleLoop$Deed", name := "done", desc := "()I" } : Jvm.MethodName)) ∈ lw_all := lw_g (lw_at lw_m5 141 rfl) rfl
theorem q1180 : (Jvm.Cond.code ({ cls := "BottleLoop$Deed", name := "done", desc := "()I" } : Jvm.MethodName) prog_12_method_5_code (1 : Nat) (Option.some Jvm.ClassFile.FieldType.int)) ∈ lw_all := lw_g (lw_at lw_m5 142 rfl) rfl
theorem q1181 : (Jvm.Cond.methodLink "BottleLoop$Deed" (30 : Nat) ({ cls := "BottleLoop$Deed", name := "reason", desc := "()I" } : Jvm.MethodName)) ∈ lw_all := lw_g (lw_at lw_m5 143 rfl) rfl
theorem q1182 : (Jvm.Cond.instanceMethod ({ cls := "BottleLoop$Deed", name := "reason", desc := "()I" } : Jvm.MethodName)) ∈ lw_all := lw_g (lw_at lw_m5 144 rfl) rfl
theorem q1183 : (Jvm.Cond.sameMethod "BottleLoop$Deed" "BottleLoop$Deed" "reason" "()I") ∈ lw_all := lw_g (lw_at lw_m5 145 rfl) rfl
theorem q1193 : (Jvm.Cond.codeWith ({ cls := "BottleLoop$Deed", name := "reason", desc := "()I" } : Jvm.MethodName) prog_12_method_4_code (2 : Nat) (Option.some Jvm.ClassFile.FieldType.int) [((0 : Nat), (5 : Nat), (6 : Nat), (18 : Nat)), ((0 : Nat), (5 : Nat), (6 : Nat), (20 : Nat)), ((0 : Nat), (5 : Nat), (6 : Nat), (22 : Nat)), ((0 : Nat), (5 : Nat), (12 : Nat), (25 : Nat))]) ∈ lw_all := lw_g (lw_at lw_m5 155 rfl) rfl
theorem q1194 : (Jvm.Cond.classLink "BottleLoop$Deed" (18 : Nat) "BottleLoop$NoBottles") ∈ lw_all := lw_g (lw_at lw_m5 156 rfl) rfl
theorem q1195 : (Jvm.Cond.classLink "BottleLoop$Deed" (20 : Nat) "BottleLoop$NoCrates") ∈ lw_all := lw_g (lw_at lw_m5 157 rfl) rfl
theorem q1196 : (Jvm.Cond.classLink "BottleLoop$Deed" (22 : Nat) "BottleLoop$NoMoney") ∈ lw_all := lw_g (lw_at lw_m5 158 rfl) rfl
theorem q1197 : (Jvm.Cond.classLink "BottleLoop$Deed" (25 : Nat) "BottleLoop$Shortage") ∈ lw_all := lw_g (lw_at lw_m5 159 rfl) rfl
theorem q1198 : (Jvm.Cond.methodLink "BottleLoop$Deed" (15 : Nat) ({ cls := "BottleLoop$Deed", name := "check", desc := "()V" } : Jvm.MethodName)) ∈ lw_all := lw_g (lw_at lw_m5 160 rfl) rfl
theorem q1199 : (Jvm.Cond.declares ({ cls := "BottleLoop$Deed", name := "check", desc := "()V" } : Jvm.MethodName)) ∈ lw_tbl := lw_at lw_m5 161 rfl
theorem q1200 : (Jvm.Cond.sameMethod "BottleLoop$Deed" "BottleLoop$Deed" "check" "()V") ∈ lw_all := lw_g (lw_at lw_m5 162 rfl) rfl
theorem q1349 : (Jvm.Cond.methodLink "BottleLoop$Deed" (24 : Nat) ({ cls := "BottleLoop$Shortage", name := "number", desc := "()I" } : Jvm.MethodName)) ∈ lw_all := lw_g (lw_at lw_m6 71 rfl) rfl
theorem q1361 : (Jvm.Cond.methodLinkNest "BottleLoop$Deed" (33 : Nat) ({ cls := "BottleLoop", name := "needState", desc := "(Z)V" } : Jvm.MethodName) "BottleLoop") ∈ lw_tbl := lw_at lw_m6 83 rfl
theorem q1362 : (Jvm.Cond.methodLinkNest "BottleLoop$Deed" (37 : Nat) ({ cls := "BottleLoop", name := "save", desc := "()V" } : Jvm.MethodName) "BottleLoop") ∈ lw_tbl := lw_at lw_m6 84 rfl
theorem q1363 : (Jvm.Cond.methodLink "BottleLoop$Deed" (40 : Nat) ({ cls := "BottleLoop$Deed", name := "does", desc := "()I" } : Jvm.MethodName)) ∈ lw_all := lw_g (lw_at lw_m6 85 rfl) rfl
theorem q1364 : (Jvm.Cond.declares ({ cls := "BottleLoop$Deed", name := "does", desc := "()I" } : Jvm.MethodName)) ∈ lw_tbl := lw_at lw_m6 86 rfl
theorem q1365 : (Jvm.Cond.sameMethod "BottleLoop$Deed" "BottleLoop$Deed" "does" "()I") ∈ lw_all := lw_g (lw_at lw_m6 87 rfl) rfl
theorem q1732 : (Jvm.Cond.instanceMethod ({ cls := "BottleLoop$Deed", name := "order", desc := "()V" } : Jvm.MethodName)) ∈ lw_all := lw_g (lw_at lw_m7 214 rfl) rfl
theorem q1733 : (Jvm.Cond.sameMethod "BottleLoop$Deed" "BottleLoop$Deed" "order" "()V") ∈ lw_all := lw_g (lw_at lw_m7 215 rfl) rfl
theorem q1743 : (Jvm.Cond.codeWith ({ cls := "BottleLoop$Deed", name := "order", desc := "()V" } : Jvm.MethodName) prog_12_method_6_code (2 : Nat) (Option.none : Option Jvm.ClassFile.FieldType) [((0 : Nat), (4 : Nat), (7 : Nat), (25 : Nat))]) ∈ lw_all := lw_g (lw_at lw_m7 225 rfl) rfl
theorem q1744 : (Jvm.Cond.classLink "BottleLoop$Deed" (43 : Nat) "BottleLoop$Refused") ∈ lw_all := lw_g (lw_at lw_m7 226 rfl) rfl
theorem q1745 : (Jvm.Cond.methodLink "BottleLoop$Deed" (45 : Nat) ({ cls := "BottleLoop$Refused", name := "<init>", desc := "(LBottleLoop$Shortage;)V" } : Jvm.MethodName)) ∈ lw_all := lw_g (lw_at lw_m7 227 rfl) rfl
theorem q2213 : (Jvm.Cond.sameMethod "BottleLoop$Deed" "BottleLoop$Deed" "done" "()I") ∈ lw_all := lw_g (lw_at lw_m9 215 rfl) rfl
/-! BottleLoop$6 -/
set_option maxRecDepth 100000
def RX7 : String := "BottleLoop$6"
def TX7 : u_T := fun k => match k with
  | 0 => ("BottleLoop$Deed", "this$0", "LBottleLoop;", true)
  | 1 => ("BottleLoop$6", "val$brand", "I", true)
  | 2 => ("BottleLoop$6", "val$many", "I", true)
  | _ => ("BottleLoop$6", "this$0", "LBottleLoop;", true)
def tyX7 : Nat → FieldType := fun k => match k with
  | 0 => .object "BottleLoop"
  | 1 => .int
  | 2 => .int
  | _ => .object "BottleLoop"
abbrev wsX70 : List Cond := u_ws RX7 TX7 4
-- two fields of one name: no nmX7
theorem tyX7_ok : ∀ k, k < 4 → parseFieldDescriptor (TX7 k).2.2.1 = some (tyX7 k) := by decide +kernel
abbrev cX7_init : ByteArray := prog_7_method_1_code
def yX7_init : MethodName := ⟨RX7, "<init>", "(LBottleLoop;II)V"⟩
def dkwX7_init_0 : List UInt8 := [42, 43, 181, 0, 1, 42, 28, 181, 0, 7, 42, 29, 181, 0, 11, 42, 43, 183, 0, 14, 177]
abbrev dktX7_init_0 : List UInt8 := dkwX7_init_0 ++ []
theorem dksX7_init_0 : cX7_init.data.toList.drop 0 = dktX7_init_0 := by decide +kernel
theorem dX7_init_0 : decode cX7_init 0 = .ok (.aload_n 0, 1) := dk_42 (dk_at dksX7_init_0 0 rfl rfl)
theorem dX7_init_1 : decode cX7_init 1 = .ok (.aload_n 1, 1) := dk_43 (dk_at dksX7_init_0 1 rfl rfl)
theorem dX7_init_2 : decode cX7_init 2 = .ok (.putfield 1, 3) := dk_181 0 1 (dk_at dksX7_init_0 2 rfl rfl)
theorem dX7_init_5 : decode cX7_init 5 = .ok (.aload_n 0, 1) := dk_42 (dk_at dksX7_init_0 5 rfl rfl)
theorem dX7_init_6 : decode cX7_init 6 = .ok (.iload_n 2, 1) := dk_28 (dk_at dksX7_init_0 6 rfl rfl)
theorem dX7_init_7 : decode cX7_init 7 = .ok (.putfield 7, 3) := dk_181 0 7 (dk_at dksX7_init_0 7 rfl rfl)
theorem dX7_init_10 : decode cX7_init 10 = .ok (.aload_n 0, 1) := dk_42 (dk_at dksX7_init_0 10 rfl rfl)
theorem dX7_init_11 : decode cX7_init 11 = .ok (.iload_n 3, 1) := dk_29 (dk_at dksX7_init_0 11 rfl rfl)
theorem dX7_init_12 : decode cX7_init 12 = .ok (.putfield 11, 3) := dk_181 0 11 (dk_at dksX7_init_0 12 rfl rfl)
theorem dX7_init_15 : decode cX7_init 15 = .ok (.aload_n 0, 1) := dk_42 (dk_at dksX7_init_0 15 rfl rfl)
theorem dX7_init_16 : decode cX7_init 16 = .ok (.aload_n 1, 1) := dk_43 (dk_at dksX7_init_0 16 rfl rfl)
theorem dX7_init_17 : decode cX7_init 17 = .ok (.invokespecial 14, 3) := dk_183 0 14 (dk_at dksX7_init_0 17 rfl rfl)
theorem dX7_init_20 : decode cX7_init 20 = .ok (.return_, 1) := dk_177 (dk_at dksX7_init_0 20 rfl rfl)
abbrev cX7_check : ByteArray := prog_7_method_2_code
def yX7_check : MethodName := ⟨RX7, "check", "()V"⟩
def dkwX7_check_1 : List UInt8 := [192, 0, 38, 42, 180, 0, 11, 182, 0, 40, 177]
abbrev dktX7_check_1 : List UInt8 := dkwX7_check_1 ++ []
def dkwX7_check_0 : List UInt8 := [42, 180, 0, 1, 180, 0, 20, 42, 180, 0, 1, 180, 0, 20, 180, 0, 26, 42, 180, 0, 7, 182, 0, 32]
abbrev dktX7_check_0 : List UInt8 := dkwX7_check_0 ++ dktX7_check_1
theorem dksX7_check_0 : cX7_check.data.toList.drop 0 = dktX7_check_0 := by decide +kernel
theorem dksX7_check_1 : cX7_check.data.toList.drop 24 = dktX7_check_1 := dk_seg dksX7_check_0 24 rfl rfl
theorem dX7_check_0 : decode cX7_check 0 = .ok (.aload_n 0, 1) := dk_42 (dk_at dksX7_check_0 0 rfl rfl)
theorem dX7_check_1 : decode cX7_check 1 = .ok (.getfield 1, 3) := dk_180 0 1 (dk_at dksX7_check_0 1 rfl rfl)
theorem dX7_check_4 : decode cX7_check 4 = .ok (.getfield 20, 3) := dk_180 0 20 (dk_at dksX7_check_0 4 rfl rfl)
theorem dX7_check_7 : decode cX7_check 7 = .ok (.aload_n 0, 1) := dk_42 (dk_at dksX7_check_0 7 rfl rfl)
theorem dX7_check_8 : decode cX7_check 8 = .ok (.getfield 1, 3) := dk_180 0 1 (dk_at dksX7_check_0 8 rfl rfl)
theorem dX7_check_11 : decode cX7_check 11 = .ok (.getfield 20, 3) := dk_180 0 20 (dk_at dksX7_check_0 11 rfl rfl)
theorem dX7_check_14 : decode cX7_check 14 = .ok (.getfield 26, 3) := dk_180 0 26 (dk_at dksX7_check_0 14 rfl rfl)
theorem dX7_check_17 : decode cX7_check 17 = .ok (.aload_n 0, 1) := dk_42 (dk_at dksX7_check_0 17 rfl rfl)
theorem dX7_check_18 : decode cX7_check 18 = .ok (.getfield 7, 3) := dk_180 0 7 (dk_at dksX7_check_0 18 rfl rfl)
theorem dX7_check_21 : decode cX7_check 21 = .ok (.invokevirtual 32, 3) := dk_182 0 32 (dk_at dksX7_check_0 21 rfl rfl)
theorem dX7_check_24 : decode cX7_check 24 = .ok (.checkcast 38, 3) := dk_192 0 38 (dk_at dksX7_check_1 0 rfl rfl)
theorem dX7_check_27 : decode cX7_check 27 = .ok (.aload_n 0, 1) := dk_42 (dk_at dksX7_check_1 3 rfl rfl)
theorem dX7_check_28 : decode cX7_check 28 = .ok (.getfield 11, 3) := dk_180 0 11 (dk_at dksX7_check_1 4 rfl rfl)
theorem dX7_check_31 : decode cX7_check 31 = .ok (.invokevirtual 40, 3) := dk_182 0 40 (dk_at dksX7_check_1 7 rfl rfl)
theorem dX7_check_34 : decode cX7_check 34 = .ok (.return_, 1) := dk_177 (dk_at dksX7_check_1 10 rfl rfl)
abbrev cX7_does : ByteArray := prog_7_method_3_code
def yX7_does : MethodName := ⟨RX7, "does", "()I"⟩
def dkwX7_does_1 : List UInt8 := [192, 0, 38, 42, 180, 0, 11, 182, 0, 44, 172]
abbrev dktX7_does_1 : List UInt8 := dkwX7_does_1 ++ []
def dkwX7_does_0 : List UInt8 := [42, 180, 0, 1, 180, 0, 20, 42, 180, 0, 1, 180, 0, 20, 180, 0, 26, 42, 180, 0, 7, 182, 0, 32]
abbrev dktX7_does_0 : List UInt8 := dkwX7_does_0 ++ dktX7_does_1
theorem dksX7_does_0 : cX7_does.data.toList.drop 0 = dktX7_does_0 := by decide +kernel
theorem dksX7_does_1 : cX7_does.data.toList.drop 24 = dktX7_does_1 := dk_seg dksX7_does_0 24 rfl rfl
theorem dX7_does_0 : decode cX7_does 0 = .ok (.aload_n 0, 1) := dk_42 (dk_at dksX7_does_0 0 rfl rfl)
theorem dX7_does_1 : decode cX7_does 1 = .ok (.getfield 1, 3) := dk_180 0 1 (dk_at dksX7_does_0 1 rfl rfl)
theorem dX7_does_4 : decode cX7_does 4 = .ok (.getfield 20, 3) := dk_180 0 20 (dk_at dksX7_does_0 4 rfl rfl)
theorem dX7_does_7 : decode cX7_does 7 = .ok (.aload_n 0, 1) := dk_42 (dk_at dksX7_does_0 7 rfl rfl)
theorem dX7_does_8 : decode cX7_does 8 = .ok (.getfield 1, 3) := dk_180 0 1 (dk_at dksX7_does_0 8 rfl rfl)
theorem dX7_does_11 : decode cX7_does 11 = .ok (.getfield 20, 3) := dk_180 0 20 (dk_at dksX7_does_0 11 rfl rfl)
theorem dX7_does_14 : decode cX7_does 14 = .ok (.getfield 26, 3) := dk_180 0 26 (dk_at dksX7_does_0 14 rfl rfl)
theorem dX7_does_17 : decode cX7_does 17 = .ok (.aload_n 0, 1) := dk_42 (dk_at dksX7_does_0 17 rfl rfl)
theorem dX7_does_18 : decode cX7_does 18 = .ok (.getfield 7, 3) := dk_180 0 7 (dk_at dksX7_does_0 18 rfl rfl)
theorem dX7_does_21 : decode cX7_does 21 = .ok (.invokevirtual 32, 3) := dk_182 0 32 (dk_at dksX7_does_0 21 rfl rfl)
theorem dX7_does_24 : decode cX7_does 24 = .ok (.checkcast 38, 3) := dk_192 0 38 (dk_at dksX7_does_1 0 rfl rfl)
theorem dX7_does_27 : decode cX7_does 27 = .ok (.aload_n 0, 1) := dk_42 (dk_at dksX7_does_1 3 rfl rfl)
theorem dX7_does_28 : decode cX7_does 28 = .ok (.getfield 11, 3) := dk_180 0 11 (dk_at dksX7_does_1 4 rfl rfl)
theorem dX7_does_31 : decode cX7_does 31 = .ok (.invokevirtual 44, 3) := dk_182 0 44 (dk_at dksX7_does_1 7 rfl rfl)
theorem dX7_does_34 : decode cX7_does 34 = .ok (.ireturn, 1) := dk_172 (dk_at dksX7_does_1 10 rfl rfl)
theorem q105 : (Jvm.Cond.initialized "BottleLoop$6") ∈ lw_all := lw_g (lw_at lw_m1 27 rfl) rfl
theorem q169 : (Jvm.Cond.fieldLinkNest "BottleLoop$6" (26 : Nat) "BottleLoop$Loop" "brands" "Ljava/util/ArrayList;" "BottleLoop") ∈ lw_tbl := lw_at lw_m1 91 rfl
theorem q253 : (Jvm.Cond.fieldLinkNest "BottleLoop$6" (20 : Nat) "BottleLoop" "now" "LBottleLoop$Loop;" "BottleLoop") ∈ lw_tbl := lw_at lw_m1 175 rfl
theorem q752 : (Jvm.Cond.selects "BottleLoop$6" ({ cls := "java/lang/Object", name := "getClass", desc := "()Ljava/lang/Class;" } : Jvm.MethodName) ({ cls := "java/lang/Object", name := "getClass", desc := "()Ljava/lang/Class;" } : Jvm.MethodName)) ∈ lw_all := lw_g (lw_at lw_m3 194 rfl) rfl
theorem q1154 : (Jvm.Cond.instantiable "BottleLoop$6" (4 : Nat)) ∈ lw_all := lw_g (lw_at lw_m5 116 rfl) rfl
theorem q1156 : (Jvm.Cond.instanceMethod ({ cls := "BottleLoop$6", name := "<init>", desc := "(LBottleLoop;II)V" } : Jvm.MethodName)) ∈ lw_all := lw_g (lw_at lw_m5 118 rfl) rfl
theorem q1157 : (Jvm.Cond.code ({ cls := "BottleLoop$6", name := "<init>", desc := "(LBottleLoop;II)V" } : Jvm.MethodName) prog_7_method_1_code (4 : Nat) (Option.none : Option Jvm.ClassFile.FieldType)) ∈ lw_all := lw_g (lw_at lw_m5 119 rfl) rfl
theorem q1158 : (Jvm.Cond.methodLinkNest "BottleLoop$6" (14 : Nat) ({ cls := "BottleLoop$Deed", name := "<init>", desc := "(LBottleLoop;)V" } : Jvm.MethodName) "BottleLoop") ∈ lw_tbl := lw_at lw_m5 120 rfl
theorem q1162 : (Jvm.Cond.fieldLink "BottleLoop$6" (7 : Nat) "BottleLoop$6" "val$brand" "I") ∈ lw_all := lw_g (lw_at lw_m5 124 rfl) rfl
theorem q1163 : (Jvm.Cond.fieldLink "BottleLoop$6" (11 : Nat) "BottleLoop$6" "val$many" "I") ∈ lw_all := lw_g (lw_at lw_m5 125 rfl) rfl
theorem q1164 : (Jvm.Cond.fieldLink "BottleLoop$6" (1 : Nat) "BottleLoop$6" "this$0" "LBottleLoop;") ∈ lw_all := lw_g (lw_at lw_m5 126 rfl) rfl
theorem q1166 : (Jvm.Cond.laysFinal "BottleLoop$6" "BottleLoop$6" "val$brand" "I") ∈ lw_all := lw_g (lw_at lw_m5 128 rfl) rfl
theorem q1167 : (Jvm.Cond.soleField "BottleLoop$6" "val$brand") ∈ lw_all := lw_g (lw_at lw_m5 129 rfl) rfl
theorem q1168 : (Jvm.Cond.laysFinal "BottleLoop$6" "BottleLoop$6" "val$many" "I") ∈ lw_all := lw_g (lw_at lw_m5 130 rfl) rfl
theorem q1169 : (Jvm.Cond.soleField "BottleLoop$6" "val$many") ∈ lw_all := lw_g (lw_at lw_m5 131 rfl) rfl
theorem q1170 : (Jvm.Cond.laysFinal "BottleLoop$6" "BottleLoop$6" "this$0" "LBottleLoop;") ∈ lw_all := lw_g (lw_at lw_m5 132 rfl) rfl
theorem q1171 : (Jvm.Cond.soleField "BottleLoop$6" "this$0") ∈ lw_all := lw_g (lw_at lw_m5 133 rfl) rfl
theorem q1172 : (Jvm.Cond.laysFinal "BottleLoop$6" "BottleLoop$Deed" "this$0" "LBottleLoop;") ∈ lw_all := lw_g (lw_at lw_m5 134 rfl) rfl
theorem q1174 : (Jvm.Cond.superclass "BottleLoop$6" "BottleLoop$Deed") ∈ lw_all := lw_g (lw_at lw_m5 136 rfl) rfl
theorem q1176 : (Jvm.Cond.sameMethod "BottleLoop$6" "BottleLoop$Deed" "done" "()I") ∈ lw_all := lw_g (lw_at lw_m5 138 rfl) rfl
theorem q1178 : (Jvm.Cond.selects "BottleLoop$6" ({ cls := "BottleLoop$6", name := "done", desc := "()I" } : Jvm.MethodName) ({ cls := "BottleLoop$Deed", name := "done", desc := "()I" } : Jvm.MethodName)) ∈ lw_all := lw_g (lw_at lw_m5 140 rfl) rfl
theorem q1189 : (Jvm.Cond.selects "BottleLoop$6" ({ cls := "BottleLoop$Deed", name := "reason", desc := "()I" } : Jvm.MethodName) ({ cls := "BottleLoop$Deed", name := "reason", desc := "()I" } : Jvm.MethodName)) ∈ lw_all := lw_g (lw_at lw_m5 151 rfl) rfl
theorem q1311 : (Jvm.Cond.selects "BottleLoop$6" ({ cls := "BottleLoop$Deed", name := "check", desc := "()V" } : Jvm.MethodName) ({ cls := "BottleLoop$6", name := "check", desc := "()V" } : Jvm.MethodName)) ∈ lw_all := lw_g (lw_at lw_m6 33 rfl) rfl
theorem q1312 : (Jvm.Cond.instanceMethod ({ cls := "BottleLoop$6", name := "check", desc := "()V" } : Jvm.MethodName)) ∈ lw_all := lw_g (lw_at lw_m6 34 rfl) rfl
theorem q1313 : (Jvm.Cond.code ({ cls := "BottleLoop$6", name := "check", desc := "()V" } : Jvm.MethodName) prog_7_method_2_code (1 : Nat) (Option.none : Option Jvm.ClassFile.FieldType)) ∈ lw_all := lw_g (lw_at lw_m6 35 rfl) rfl
theorem q1314 : (Jvm.Cond.methodLink "BottleLoop$6" (32 : Nat) ({ cls := "java/util/ArrayList", name := "get", desc := "(I)Ljava/lang/Object;" } : Jvm.MethodName)) ∈ lw_all := lw_g (lw_at lw_m6 36 rfl) rfl
theorem q1315 : (Jvm.Cond.classLink "BottleLoop$6" (38 : Nat) "BottleLoop$Brand") ∈ lw_all := lw_g (lw_at lw_m6 37 rfl) rfl
theorem q1316 : (Jvm.Cond.methodLink "BottleLoop$6" (40 : Nat) ({ cls := "BottleLoop$Loop", name := "tryFill", desc := "(LBottleLoop$Brand;I)V" } : Jvm.MethodName)) ∈ lw_all := lw_g (lw_at lw_m6 38 rfl) rfl
theorem q1403 : (Jvm.Cond.selects "BottleLoop$6" ({ cls := "BottleLoop$Deed", name := "does", desc := "()I" } : Jvm.MethodName) ({ cls := "BottleLoop$6", name := "does", desc := "()I" } : Jvm.MethodName)) ∈ lw_all := lw_g (lw_at lw_m6 125 rfl) rfl
theorem q1404 : (Jvm.Cond.instanceMethod ({ cls := "BottleLoop$6", name := "does", desc := "()I" } : Jvm.MethodName)) ∈ lw_all := lw_g (lw_at lw_m6 126 rfl) rfl
theorem q1405 : (Jvm.Cond.code ({ cls := "BottleLoop$6", name := "does", desc := "()I" } : Jvm.MethodName) prog_7_method_3_code (1 : Nat) (Option.some Jvm.ClassFile.FieldType.int)) ∈ lw_all := lw_g (lw_at lw_m6 127 rfl) rfl
theorem q1406 : (Jvm.Cond.methodLink "BottleLoop$6" (44 : Nat) ({ cls := "BottleLoop$Loop", name := "fill", desc := "(LBottleLoop$Brand;I)I" } : Jvm.MethodName)) ∈ lw_all := lw_g (lw_at lw_m6 128 rfl) rfl
theorem q1739 : (Jvm.Cond.selects "BottleLoop$6" ({ cls := "BottleLoop$Deed", name := "order", desc := "()V" } : Jvm.MethodName) ({ cls := "BottleLoop$Deed", name := "order", desc := "()V" } : Jvm.MethodName)) ∈ lw_all := lw_g (lw_at lw_m7 221 rfl) rfl
theorem q2219 : (Jvm.Cond.selects "BottleLoop$6" ({ cls := "BottleLoop$Deed", name := "done", desc := "()I" } : Jvm.MethodName) ({ cls := "BottleLoop$Deed", name := "done", desc := "()I" } : Jvm.MethodName)) ∈ lw_all := lw_g (lw_at lw_m9 221 rfl) rfl
theorem q2241 : (Jvm.Cond.castable "BottleLoop$6" "java/lang/Object") ∈ lw_tbl := lw_at lw_m10 3 rfl
theorem in_X7 : ∀ w ∈ wsX70, w ∈ lw_all := lw_in wsX70 [1172, 1166, 1168, 1170] (by decide +kernel) (by decide +kernel)
/-! BottleLoop$Shortage -/
set_option maxRecDepth 100000
def RX8 : String := "BottleLoop$Shortage"
abbrev cX8_init : ByteArray := prog_21_method_1_code
def yX8_init : MethodName := ⟨RX8, "<init>", "()V"⟩
def dkwX8_init_0 : List UInt8 := [42, 1, 1, 3, 3, 183, 0, 1, 177]
abbrev dktX8_init_0 : List UInt8 := dkwX8_init_0 ++ []
theorem dksX8_init_0 : cX8_init.data.toList.drop 0 = dktX8_init_0 := by decide +kernel
theorem dX8_init_0 : decode cX8_init 0 = .ok (.aload_n 0, 1) := dk_42 (dk_at dksX8_init_0 0 rfl rfl)
theorem dX8_init_1 : decode cX8_init 1 = .ok (.aconst_null, 1) := dk_1 (dk_at dksX8_init_0 1 rfl rfl)
theorem dX8_init_2 : decode cX8_init 2 = .ok (.aconst_null, 1) := dk_1 (dk_at dksX8_init_0 2 rfl rfl)
theorem dX8_init_3 : decode cX8_init 3 = .ok (.iconst 0, 1) := dk_3 (dk_at dksX8_init_0 3 rfl rfl)
theorem dX8_init_4 : decode cX8_init 4 = .ok (.iconst 0, 1) := dk_3 (dk_at dksX8_init_0 4 rfl rfl)
theorem dX8_init_5 : decode cX8_init 5 = .ok (.invokespecial 1, 3) := dk_183 0 1 (dk_at dksX8_init_0 5 rfl rfl)
theorem dX8_init_8 : decode cX8_init 8 = .ok (.return_, 1) := dk_177 (dk_at dksX8_init_0 8 rfl rfl)
theorem q106 : (Jvm.Cond.initialized "BottleLoop$Shortage") ∈ lw_all := lw_g (lw_at lw_m1 28 rfl) rfl
theorem q1216 : (Jvm.Cond.declares ({ cls := "BottleLoop$Shortage", name := "<init>", desc := "()V" } : Jvm.MethodName)) ∈ lw_tbl := lw_at lw_m5 178 rfl
theorem q1227 : (Jvm.Cond.instanceMethod ({ cls := "BottleLoop$Shortage", name := "<init>", desc := "()V" } : Jvm.MethodName)) ∈ lw_all := lw_g (lw_at lw_m5 189 rfl) rfl
theorem q1228 : (Jvm.Cond.code ({ cls := "BottleLoop$Shortage", name := "<init>", desc := "()V" } : Jvm.MethodName) prog_21_method_1_code (1 : Nat) (Option.none : Option Jvm.ClassFile.FieldType)) ∈ lw_all := lw_g (lw_at lw_m5 190 rfl) rfl
theorem q1229 : (Jvm.Cond.methodLink "BottleLoop$Shortage" (1 : Nat) ({ cls := "java/lang/Exception", name := "<init>", desc := "(Ljava/lang/String;Ljava/lang/Throwable;ZZ)V" } : Jvm.MethodName)) ∈ lw_all := lw_g (lw_at lw_m5 191 rfl) rfl
theorem q1350 : (Jvm.Cond.declares ({ cls := "BottleLoop$Shortage", name := "number", desc := "()I" } : Jvm.MethodName)) ∈ lw_tbl := lw_at lw_m6 72 rfl
theorem q1351 : (Jvm.Cond.sameMethod "BottleLoop$Shortage" "BottleLoop$Shortage" "number" "()I") ∈ lw_all := lw_g (lw_at lw_m6 73 rfl) rfl
/-! BottleLoop$NoBottles -/
set_option maxRecDepth 100000
def RX9 : String := "BottleLoop$NoBottles"
def TX9 : u_T := fun k => match k with
  | 0 => ("java/lang/Throwable", "cause", "Ljava/lang/Throwable;", false)
  | 1 => ("java/lang/Throwable", "stackTrace", "[Ljava/lang/StackTraceElement;", false)
  | 2 => ("java/lang/Throwable", "suppressedExceptions", "Ljava/util/List;", false)
  | 3 => ("java/lang/Throwable", "detailMessage", "Ljava/lang/String;", false)
  | 4 => ("java/lang/Throwable", "backtrace", "Ljava/lang/Object;", false)
  | _ => ("java/lang/Throwable", "depth", "I", false)
def tyX9 : Nat → FieldType := fun k => match k with
  | 0 => .object "java/lang/Throwable"
  | 1 => .array (.object "java/lang/StackTraceElement")
  | 2 => .object "java/util/List"
  | 3 => .object "java/lang/String"
  | 4 => .object "java/lang/Object"
  | _ => .int
abbrev wsX90 : List Cond := u_ws RX9 TX9 6
theorem nmX9 : ∀ a, a < 6 → ∀ b, b < 6 → a ≠ b → (TX9 a).2.1 ≠ (TX9 b).2.1 := by decide +kernel
theorem tyX9_ok : ∀ k, k < 6 → parseFieldDescriptor (TX9 k).2.2.1 = some (tyX9 k) := by decide +kernel
abbrev cX9_init : ByteArray := prog_14_method_1_code
def yX9_init : MethodName := ⟨RX9, "<init>", "()V"⟩
theorem dX9_init_0 : decode cX9_init 0 = .ok (.aload_n 0, 1) := by decide +kernel
theorem dX9_init_1 : decode cX9_init 1 = .ok (.invokespecial 1, 3) := by decide +kernel
theorem dX9_init_4 : decode cX9_init 4 = .ok (.return_, 1) := by decide +kernel
abbrev cX9_number : ByteArray := prog_14_method_2_code
def yX9_number : MethodName := ⟨RX9, "number", "()I"⟩
theorem dX9_number_0 : decode cX9_number 0 = .ok (.iconst 1, 1) := by decide +kernel
theorem dX9_number_1 : decode cX9_number 1 = .ok (.ireturn, 1) := by decide +kernel
theorem q107 : (Jvm.Cond.initialized "BottleLoop$NoBottles") ∈ lw_all := lw_g (lw_at lw_m1 29 rfl) rfl
theorem q510 : (Jvm.Cond.selects "BottleLoop$NoBottles" ({ cls := "java/lang/Throwable", name := "fillInStackTrace", desc := "()Ljava/lang/Throwable;" } : Jvm.MethodName) ({ cls := "java/lang/Throwable", name := "fillInStackTrace", desc := "()Ljava/lang/Throwable;" } : Jvm.MethodName)) ∈ lw_all := lw_g (lw_at lw_m2 192 rfl) rfl
theorem q758 : (Jvm.Cond.selects "BottleLoop$NoBottles" ({ cls := "java/lang/Object", name := "getClass", desc := "()Ljava/lang/Class;" } : Jvm.MethodName) ({ cls := "java/lang/Object", name := "getClass", desc := "()Ljava/lang/Class;" } : Jvm.MethodName)) ∈ lw_all := lw_g (lw_at lw_m3 200 rfl) rfl
theorem q1214 : (Jvm.Cond.instantiable "BottleLoop$NoBottles" (6 : Nat)) ∈ lw_all := lw_g (lw_at lw_m5 176 rfl) rfl
theorem q1215 : (Jvm.Cond.castable "BottleLoop$NoBottles" "BottleLoop$NoBottles") ∈ lw_tbl := lw_at lw_m5 177 rfl
theorem q1217 : (Jvm.Cond.selects "BottleLoop$NoBottles" ({ cls := "java/lang/Throwable", name := "fillInStackTrace", desc := "(I)Ljava/lang/Throwable;" } : Jvm.MethodName) ({ cls := "java/lang/Throwable", name := "fillInStackTrace", desc := "(I)Ljava/lang/Throwable;" } : Jvm.MethodName)) ∈ lw_all := lw_g (lw_at lw_m5 179 rfl) rfl
theorem q1218 : (Jvm.Cond.lays "BottleLoop$NoBottles" "java/lang/Throwable" "cause" "Ljava/lang/Throwable;") ∈ lw_all := lw_g (lw_at lw_m5 180 rfl) rfl
theorem q1219 : (Jvm.Cond.lays "BottleLoop$NoBottles" "java/lang/Throwable" "stackTrace" "[Ljava/lang/StackTraceElement;") ∈ lw_all := lw_g (lw_at lw_m5 181 rfl) rfl
theorem q1220 : (Jvm.Cond.lays "BottleLoop$NoBottles" "java/lang/Throwable" "suppressedExceptions" "Ljava/util/List;") ∈ lw_all := lw_g (lw_at lw_m5 182 rfl) rfl
theorem q1221 : (Jvm.Cond.lays "BottleLoop$NoBottles" "java/lang/Throwable" "detailMessage" "Ljava/lang/String;") ∈ lw_all := lw_g (lw_at lw_m5 183 rfl) rfl
theorem q1222 : (Jvm.Cond.lays "BottleLoop$NoBottles" "java/lang/Throwable" "backtrace" "Ljava/lang/Object;") ∈ lw_all := lw_g (lw_at lw_m5 184 rfl) rfl
theorem q1224 : (Jvm.Cond.instanceMethod ({ cls := "BottleLoop$NoBottles", name := "<init>", desc := "()V" } : Jvm.MethodName)) ∈ lw_all := lw_g (lw_at lw_m5 186 rfl) rfl
theorem q1225 : (Jvm.Cond.code ({ cls := "BottleLoop$NoBottles", name := "<init>", desc := "()V" } : Jvm.MethodName) prog_14_method_1_code (1 : Nat) (Option.none : Option Jvm.ClassFile.FieldType)) ∈ lw_all := lw_g (lw_at lw_m5 187 rfl) rfl
theorem q1226 : (Jvm.Cond.methodLink "BottleLoop$NoBottles" (1 : Nat) ({ cls := "BottleLoop$Shortage", name := "<init>", desc := "()V" } : Jvm.MethodName)) ∈ lw_all := lw_g (lw_at lw_m5 188 rfl) rfl
theorem q1235 : (Jvm.Cond.lays "BottleLoop$NoBottles" "java/lang/Throwable" "depth" "I") ∈ lw_all := lw_g (lw_at lw_m5 197 rfl) rfl
theorem q1236 : (Jvm.Cond.superclass "BottleLoop$NoBottles" "BottleLoop$Shortage") ∈ lw_all := lw_g (lw_at lw_m5 198 rfl) rfl
theorem q1352 : (Jvm.Cond.selects "BottleLoop$NoBottles" ({ cls := "BottleLoop$Shortage", name := "number", desc := "()I" } : Jvm.MethodName) ({ cls := "BottleLoop$NoBottles", name := "number", desc := "()I" } : Jvm.MethodName)) ∈ lw_all := lw_g (lw_at lw_m6 74 rfl) rfl
theorem q1353 : (Jvm.Cond.instanceMethod ({ cls := "BottleLoop$NoBottles", name := "number", desc := "()I" } : Jvm.MethodName)) ∈ lw_all := lw_g (lw_at lw_m6 75 rfl) rfl
theorem q1354 : (Jvm.Cond.code ({ cls := "BottleLoop$NoBottles", name := "number", desc := "()I" } : Jvm.MethodName) prog_14_method_2_code (1 : Nat) (Option.some Jvm.ClassFile.FieldType.int)) ∈ lw_all := lw_g (lw_at lw_m6 76 rfl) rfl
theorem q2227 : (Jvm.Cond.castable "BottleLoop$NoBottles" "BottleLoop$Shortage") ∈ lw_tbl := lw_at lw_m9 229 rfl
theorem q2242 : (Jvm.Cond.castable "BottleLoop$NoBottles" "java/lang/Object") ∈ lw_tbl := lw_at lw_m10 4 rfl
theorem in_X9 : ∀ w ∈ wsX90, w ∈ lw_all := lw_in wsX90 [1218, 1219, 1220, 1221, 1222, 1235] (by decide +kernel) (by decide +kernel)
/-! BottleLoop$NoCrates -/
set_option maxRecDepth 100000
def RX10 : String := "BottleLoop$NoCrates"
def TX10 : u_T := fun k => match k with
  | 0 => ("java/lang/Throwable", "cause", "Ljava/lang/Throwable;", false)
  | 1 => ("java/lang/Throwable", "stackTrace", "[Ljava/lang/StackTraceElement;", false)
  | 2 => ("java/lang/Throwable", "suppressedExceptions", "Ljava/util/List;", false)
  | 3 => ("java/lang/Throwable", "detailMessage", "Ljava/lang/String;", false)
  | 4 => ("java/lang/Throwable", "backtrace", "Ljava/lang/Object;", false)
  | _ => ("java/lang/Throwable", "depth", "I", false)
def tyX10 : Nat → FieldType := fun k => match k with
  | 0 => .object "java/lang/Throwable"
  | 1 => .array (.object "java/lang/StackTraceElement")
  | 2 => .object "java/util/List"
  | 3 => .object "java/lang/String"
  | 4 => .object "java/lang/Object"
  | _ => .int
abbrev wsX100 : List Cond := u_ws RX10 TX10 6
theorem nmX10 : ∀ a, a < 6 → ∀ b, b < 6 → a ≠ b → (TX10 a).2.1 ≠ (TX10 b).2.1 := by decide +kernel
theorem tyX10_ok : ∀ k, k < 6 → parseFieldDescriptor (TX10 k).2.2.1 = some (tyX10 k) := by decide +kernel
abbrev cX10_init : ByteArray := prog_15_method_1_code
def yX10_init : MethodName := ⟨RX10, "<init>", "()V"⟩
theorem dX10_init_0 : decode cX10_init 0 = .ok (.aload_n 0, 1) := by decide +kernel
theorem dX10_init_1 : decode cX10_init 1 = .ok (.invokespecial 1, 3) := by decide +kernel
theorem dX10_init_4 : decode cX10_init 4 = .ok (.return_, 1) := by decide +kernel
abbrev cX10_number : ByteArray := prog_15_method_2_code
def yX10_number : MethodName := ⟨RX10, "number", "()I"⟩
theorem dX10_number_0 : decode cX10_number 0 = .ok (.iconst 2, 1) := by decide +kernel
theorem dX10_number_1 : decode cX10_number 1 = .ok (.ireturn, 1) := by decide +kernel
theorem q108 : (Jvm.Cond.initialized "BottleLoop$NoCrates") ∈ lw_all := lw_g (lw_at lw_m1 30 rfl) rfl
theorem q511 : (Jvm.Cond.selects "BottleLoop$NoCrates" ({ cls := "java/lang/Throwable", name := "fillInStackTrace", desc := "()Ljava/lang/Throwable;" } : Jvm.MethodName) ({ cls := "java/lang/Throwable", name := "fillInStackTrace", desc := "()Ljava/lang/Throwable;" } : Jvm.MethodName)) ∈ lw_all := lw_g (lw_at lw_m2 193 rfl) rfl
theorem q759 : (Jvm.Cond.selects "BottleLoop$NoCrates" ({ cls := "java/lang/Object", name := "getClass", desc := "()Ljava/lang/Class;" } : Jvm.MethodName) ({ cls := "java/lang/Object", name := "getClass", desc := "()Ljava/lang/Class;" } : Jvm.MethodName)) ∈ lw_all := lw_g (lw_at lw_m3 201 rfl) rfl
theorem q1241 : (Jvm.Cond.instantiable "BottleLoop$NoCrates" (6 : Nat)) ∈ lw_all := lw_g (lw_at lw_m5 203 rfl) rfl
theorem q1242 : (Jvm.Cond.castable "BottleLoop$NoCrates" "BottleLoop$NoCrates") ∈ lw_tbl := lw_at lw_m5 204 rfl
theorem q1243 : (Jvm.Cond.selects "BottleLoop$NoCrates" ({ cls := "java/lang/Throwable", name := "fillInStackTrace", desc := "(I)Ljava/lang/Throwable;" } : Jvm.MethodName) ({ cls := "java/lang/Throwable", name := "fillInStackTrace", desc := "(I)Ljava/lang/Throwable;" } : Jvm.MethodName)) ∈ lw_all := lw_g (lw_at lw_m5 205 rfl) rfl
theorem q1244 : (Jvm.Cond.lays "BottleLoop$NoCrates" "java/lang/Throwable" "cause" "Ljava/lang/Throwable;") ∈ lw_all := lw_g (lw_at lw_m5 206 rfl) rfl
theorem q1245 : (Jvm.Cond.lays "BottleLoop$NoCrates" "java/lang/Throwable" "stackTrace" "[Ljava/lang/StackTraceElement;") ∈ lw_all := lw_g (lw_at lw_m5 207 rfl) rfl
theorem q1246 : (Jvm.Cond.lays "BottleLoop$NoCrates" "java/lang/Throwable" "suppressedExceptions" "Ljava/util/List;") ∈ lw_all := lw_g (lw_at lw_m5 208 rfl) rfl
theorem q1247 : (Jvm.Cond.lays "BottleLoop$NoCrates" "java/lang/Throwable" "detailMessage" "Ljava/lang/String;") ∈ lw_all := lw_g (lw_at lw_m5 209 rfl) rfl
theorem q1248 : (Jvm.Cond.lays "BottleLoop$NoCrates" "java/lang/Throwable" "backtrace" "Ljava/lang/Object;") ∈ lw_all := lw_g (lw_at lw_m5 210 rfl) rfl
theorem q1250 : (Jvm.Cond.instanceMethod ({ cls := "BottleLoop$NoCrates", name := "<init>", desc := "()V" } : Jvm.MethodName)) ∈ lw_all := lw_g (lw_at lw_m5 212 rfl) rfl
theorem q1251 : (Jvm.Cond.code ({ cls := "BottleLoop$NoCrates", name := "<init>", desc := "()V" } : Jvm.MethodName) prog_15_method_1_code (1 : Nat) (Option.none : Option Jvm.ClassFile.FieldType)) ∈ lw_all := lw_g (lw_at lw_m5 213 rfl) rfl
theorem q1252 : (Jvm.Cond.methodLink "BottleLoop$NoCrates" (1 : Nat) ({ cls := "BottleLoop$Shortage", name := "<init>", desc := "()V" } : Jvm.MethodName)) ∈ lw_all := lw_g (lw_at lw_m5 214 rfl) rfl
theorem q1253 : (Jvm.Cond.lays "BottleLoop$NoCrates" "java/lang/Throwable" "depth" "I") ∈ lw_all := lw_g (lw_at lw_m5 215 rfl) rfl
theorem q1254 : (Jvm.Cond.superclass "BottleLoop$NoCrates" "BottleLoop$Shortage") ∈ lw_all := lw_g (lw_at lw_m5 216 rfl) rfl
theorem q1355 : (Jvm.Cond.selects "BottleLoop$NoCrates" ({ cls := "BottleLoop$Shortage", name := "number", desc := "()I" } : Jvm.MethodName) ({ cls := "BottleLoop$NoCrates", name := "number", desc := "()I" } : Jvm.MethodName)) ∈ lw_all := lw_g (lw_at lw_m6 77 rfl) rfl
theorem q1356 : (Jvm.Cond.instanceMethod ({ cls := "BottleLoop$NoCrates", name := "number", desc := "()I" } : Jvm.MethodName)) ∈ lw_all := lw_g (lw_at lw_m6 78 rfl) rfl
theorem q1357 : (Jvm.Cond.code ({ cls := "BottleLoop$NoCrates", name := "number", desc := "()I" } : Jvm.MethodName) prog_15_method_2_code (1 : Nat) (Option.some Jvm.ClassFile.FieldType.int)) ∈ lw_all := lw_g (lw_at lw_m6 79 rfl) rfl
theorem q2228 : (Jvm.Cond.castable "BottleLoop$NoCrates" "BottleLoop$Shortage") ∈ lw_tbl := lw_at lw_m9 230 rfl
theorem q2244 : (Jvm.Cond.castable "BottleLoop$NoCrates" "java/lang/Object") ∈ lw_tbl := lw_at lw_m10 6 rfl
theorem in_X10 : ∀ w ∈ wsX100, w ∈ lw_all := lw_in wsX100 [1244, 1245, 1246, 1247, 1248, 1253] (by decide +kernel) (by decide +kernel)
/-! BottleLoop$NoMoney -/
set_option maxRecDepth 100000
def RX11 : String := "BottleLoop$NoMoney"
def TX11 : u_T := fun k => match k with
  | 0 => ("java/lang/Throwable", "cause", "Ljava/lang/Throwable;", false)
  | 1 => ("java/lang/Throwable", "stackTrace", "[Ljava/lang/StackTraceElement;", false)
  | 2 => ("java/lang/Throwable", "suppressedExceptions", "Ljava/util/List;", false)
  | 3 => ("java/lang/Throwable", "detailMessage", "Ljava/lang/String;", false)
  | 4 => ("java/lang/Throwable", "backtrace", "Ljava/lang/Object;", false)
  | _ => ("java/lang/Throwable", "depth", "I", false)
def tyX11 : Nat → FieldType := fun k => match k with
  | 0 => .object "java/lang/Throwable"
  | 1 => .array (.object "java/lang/StackTraceElement")
  | 2 => .object "java/util/List"
  | 3 => .object "java/lang/String"
  | 4 => .object "java/lang/Object"
  | _ => .int
abbrev wsX110 : List Cond := u_ws RX11 TX11 6
theorem nmX11 : ∀ a, a < 6 → ∀ b, b < 6 → a ≠ b → (TX11 a).2.1 ≠ (TX11 b).2.1 := by decide +kernel
theorem tyX11_ok : ∀ k, k < 6 → parseFieldDescriptor (TX11 k).2.2.1 = some (tyX11 k) := by decide +kernel
abbrev cX11_init : ByteArray := prog_16_method_1_code
def yX11_init : MethodName := ⟨RX11, "<init>", "()V"⟩
theorem dX11_init_0 : decode cX11_init 0 = .ok (.aload_n 0, 1) := by decide +kernel
theorem dX11_init_1 : decode cX11_init 1 = .ok (.invokespecial 1, 3) := by decide +kernel
theorem dX11_init_4 : decode cX11_init 4 = .ok (.return_, 1) := by decide +kernel
abbrev cX11_number : ByteArray := prog_16_method_2_code
def yX11_number : MethodName := ⟨RX11, "number", "()I"⟩
theorem dX11_number_0 : decode cX11_number 0 = .ok (.iconst 3, 1) := by decide +kernel
theorem dX11_number_1 : decode cX11_number 1 = .ok (.ireturn, 1) := by decide +kernel
theorem q109 : (Jvm.Cond.initialized "BottleLoop$NoMoney") ∈ lw_all := lw_g (lw_at lw_m1 31 rfl) rfl
theorem q512 : (Jvm.Cond.selects "BottleLoop$NoMoney" ({ cls := "java/lang/Throwable", name := "fillInStackTrace", desc := "()Ljava/lang/Throwable;" } : Jvm.MethodName) ({ cls := "java/lang/Throwable", name := "fillInStackTrace", desc := "()Ljava/lang/Throwable;" } : Jvm.MethodName)) ∈ lw_all := lw_g (lw_at lw_m2 194 rfl) rfl
theorem q760 : (Jvm.Cond.selects "BottleLoop$NoMoney" ({ cls := "java/lang/Object", name := "getClass", desc := "()Ljava/lang/Class;" } : Jvm.MethodName) ({ cls := "java/lang/Object", name := "getClass", desc := "()Ljava/lang/Class;" } : Jvm.MethodName)) ∈ lw_all := lw_g (lw_at lw_m3 202 rfl) rfl
theorem q1260 : (Jvm.Cond.instantiable "BottleLoop$NoMoney" (6 : Nat)) ∈ lw_all := lw_g (lw_at lw_m5 222 rfl) rfl
theorem q1261 : (Jvm.Cond.castable "BottleLoop$NoMoney" "BottleLoop$NoMoney") ∈ lw_tbl := lw_at lw_m5 223 rfl
theorem q1262 : (Jvm.Cond.selects "BottleLoop$NoMoney" ({ cls := "java/lang/Throwable", name := "fillInStackTrace", desc := "(I)Ljava/lang/Throwable;" } : Jvm.MethodName) ({ cls := "java/lang/Throwable", name := "fillInStackTrace", desc := "(I)Ljava/lang/Throwable;" } : Jvm.MethodName)) ∈ lw_all := lw_g (lw_at lw_m5 224 rfl) rfl
theorem q1263 : (Jvm.Cond.lays "BottleLoop$NoMoney" "java/lang/Throwable" "cause" "Ljava/lang/Throwable;") ∈ lw_all := lw_g (lw_at lw_m5 225 rfl) rfl
theorem q1264 : (Jvm.Cond.lays "BottleLoop$NoMoney" "java/lang/Throwable" "stackTrace" "[Ljava/lang/StackTraceElement;") ∈ lw_all := lw_g (lw_at lw_m5 226 rfl) rfl
theorem q1265 : (Jvm.Cond.lays "BottleLoop$NoMoney" "java/lang/Throwable" "suppressedExceptions" "Ljava/util/List;") ∈ lw_all := lw_g (lw_at lw_m5 227 rfl) rfl
theorem q1266 : (Jvm.Cond.lays "BottleLoop$NoMoney" "java/lang/Throwable" "detailMessage" "Ljava/lang/String;") ∈ lw_all := lw_g (lw_at lw_m5 228 rfl) rfl
theorem q1267 : (Jvm.Cond.lays "BottleLoop$NoMoney" "java/lang/Throwable" "backtrace" "Ljava/lang/Object;") ∈ lw_all := lw_g (lw_at lw_m5 229 rfl) rfl
theorem q1269 : (Jvm.Cond.instanceMethod ({ cls := "BottleLoop$NoMoney", name := "<init>", desc := "()V" } : Jvm.MethodName)) ∈ lw_all := lw_g (lw_at lw_m5 231 rfl) rfl
theorem q1270 : (Jvm.Cond.code ({ cls := "BottleLoop$NoMoney", name := "<init>", desc := "()V" } : Jvm.MethodName) prog_16_method_1_code (1 : Nat) (Option.none : Option Jvm.ClassFile.FieldType)) ∈ lw_all := lw_g (lw_at lw_m5 232 rfl) rfl
theorem q1271 : (Jvm.Cond.methodLink "BottleLoop$NoMoney" (1 : Nat) ({ cls := "BottleLoop$Shortage", name := "<init>", desc := "()V" } : Jvm.MethodName)) ∈ lw_all := lw_g (lw_at lw_m5 233 rfl) rfl
theorem q1272 : (Jvm.Cond.lays "BottleLoop$NoMoney" "java/lang/Throwable" "depth" "I") ∈ lw_all := lw_g (lw_at lw_m5 234 rfl) rfl
theorem q1273 : (Jvm.Cond.superclass "BottleLoop$NoMoney" "BottleLoop$Shortage") ∈ lw_all := lw_g (lw_at lw_m5 235 rfl) rfl
theorem q1358 : (Jvm.Cond.selects "BottleLoop$NoMoney" ({ cls := "BottleLoop$Shortage", name := "number", desc := "()I" } : Jvm.MethodName) ({ cls := "BottleLoop$NoMoney", name := "number", desc := "()I" } : Jvm.MethodName)) ∈ lw_all := lw_g (lw_at lw_m6 80 rfl) rfl
theorem q1359 : (Jvm.Cond.instanceMethod ({ cls := "BottleLoop$NoMoney", name := "number", desc := "()I" } : Jvm.MethodName)) ∈ lw_all := lw_g (lw_at lw_m6 81 rfl) rfl
theorem q1360 : (Jvm.Cond.code ({ cls := "BottleLoop$NoMoney", name := "number", desc := "()I" } : Jvm.MethodName) prog_16_method_2_code (1 : Nat) (Option.some Jvm.ClassFile.FieldType.int)) ∈ lw_all := lw_g (lw_at lw_m6 82 rfl) rfl
theorem q2229 : (Jvm.Cond.castable "BottleLoop$NoMoney" "BottleLoop$Shortage") ∈ lw_tbl := lw_at lw_m9 231 rfl
theorem q2245 : (Jvm.Cond.castable "BottleLoop$NoMoney" "java/lang/Object") ∈ lw_tbl := lw_at lw_m10 7 rfl
theorem in_X11 : ∀ w ∈ wsX110, w ∈ lw_all := lw_in wsX110 [1263, 1264, 1265, 1266, 1267, 1272] (by decide +kernel) (by decide +kernel)
/-! BottleLoop$1 -/
set_option maxRecDepth 100000
def RX12 : String := "BottleLoop$1"
def TX12 : u_T := fun k => match k with
  | 0 => ("BottleLoop$Deed", "this$0", "LBottleLoop;", true)
  | 1 => ("BottleLoop$1", "val$brand", "I", true)
  | 2 => ("BottleLoop$1", "val$shop", "I", true)
  | 3 => ("BottleLoop$1", "val$crates", "I", true)
  | _ => ("BottleLoop$1", "this$0", "LBottleLoop;", true)
def tyX12 : Nat → FieldType := fun k => match k with
  | 0 => .object "BottleLoop"
  | 1 => .int
  | 2 => .int
  | 3 => .int
  | _ => .object "BottleLoop"
abbrev wsX120 : List Cond := u_ws RX12 TX12 5
-- two fields of one name: no nmX12
theorem tyX12_ok : ∀ k, k < 5 → parseFieldDescriptor (TX12 k).2.2.1 = some (tyX12 k) := by decide +kernel
abbrev cX12_check : ByteArray := prog_2_method_2_code
def yX12_check : MethodName := ⟨RX12, "check", "()V"⟩
def dkwX12_check_1 : List UInt8 := [180, 0, 11, 182, 0, 35, 192, 0, 41, 42, 180, 0, 14, 182, 0, 43, 177]
abbrev dktX12_check_1 : List UInt8 := dkwX12_check_1 ++ []
def dkwX12_check_0 : List UInt8 := [42, 180, 0, 1, 180, 0, 23, 42, 180, 0, 7, 42, 180, 0, 1, 180, 0, 23, 180, 0, 29, 42]
abbrev dktX12_check_0 : List UInt8 := dkwX12_check_0 ++ dktX12_check_1
theorem dksX12_check_0 : cX12_check.data.toList.drop 0 = dktX12_check_0 := by decide +kernel
theorem dksX12_check_1 : cX12_check.data.toList.drop 22 = dktX12_check_1 := dk_seg dksX12_check_0 22 rfl rfl
theorem dX12_check_0 : decode cX12_check 0 = .ok (.aload_n 0, 1) := dk_42 (dk_at dksX12_check_0 0 rfl rfl)
theorem dX12_check_1 : decode cX12_check 1 = .ok (.getfield 1, 3) := dk_180 0 1 (dk_at dksX12_check_0 1 rfl rfl)
theorem dX12_check_4 : decode cX12_check 4 = .ok (.getfield 23, 3) := dk_180 0 23 (dk_at dksX12_check_0 4 rfl rfl)
theorem dX12_check_7 : decode cX12_check 7 = .ok (.aload_n 0, 1) := dk_42 (dk_at dksX12_check_0 7 rfl rfl)
theorem dX12_check_8 : decode cX12_check 8 = .ok (.getfield 7, 3) := dk_180 0 7 (dk_at dksX12_check_0 8 rfl rfl)
theorem dX12_check_11 : decode cX12_check 11 = .ok (.aload_n 0, 1) := dk_42 (dk_at dksX12_check_0 11 rfl rfl)
theorem dX12_check_12 : decode cX12_check 12 = .ok (.getfield 1, 3) := dk_180 0 1 (dk_at dksX12_check_0 12 rfl rfl)
theorem dX12_check_15 : decode cX12_check 15 = .ok (.getfield 23, 3) := dk_180 0 23 (dk_at dksX12_check_0 15 rfl rfl)
theorem dX12_check_18 : decode cX12_check 18 = .ok (.getfield 29, 3) := dk_180 0 29 (dk_at dksX12_check_0 18 rfl rfl)
theorem dX12_check_21 : decode cX12_check 21 = .ok (.aload_n 0, 1) := dk_42 (dk_at dksX12_check_0 21 rfl rfl)
theorem dX12_check_22 : decode cX12_check 22 = .ok (.getfield 11, 3) := dk_180 0 11 (dk_at dksX12_check_1 0 rfl rfl)
theorem dX12_check_25 : decode cX12_check 25 = .ok (.invokevirtual 35, 3) := dk_182 0 35 (dk_at dksX12_check_1 3 rfl rfl)
theorem dX12_check_28 : decode cX12_check 28 = .ok (.checkcast 41, 3) := dk_192 0 41 (dk_at dksX12_check_1 6 rfl rfl)
theorem dX12_check_31 : decode cX12_check 31 = .ok (.aload_n 0, 1) := dk_42 (dk_at dksX12_check_1 9 rfl rfl)
theorem dX12_check_32 : decode cX12_check 32 = .ok (.getfield 14, 3) := dk_180 0 14 (dk_at dksX12_check_1 10 rfl rfl)
theorem dX12_check_35 : decode cX12_check 35 = .ok (.invokevirtual 43, 3) := dk_182 0 43 (dk_at dksX12_check_1 13 rfl rfl)
theorem dX12_check_38 : decode cX12_check 38 = .ok (.return_, 1) := dk_177 (dk_at dksX12_check_1 16 rfl rfl)
abbrev cX12_does : ByteArray := prog_2_method_3_code
def yX12_does : MethodName := ⟨RX12, "does", "()I"⟩
def dkwX12_does_1 : List UInt8 := [180, 0, 11, 182, 0, 35, 192, 0, 41, 42, 180, 0, 14, 182, 0, 47, 172]
abbrev dktX12_does_1 : List UInt8 := dkwX12_does_1 ++ []
def dkwX12_does_0 : List UInt8 := [42, 180, 0, 1, 180, 0, 23, 42, 180, 0, 7, 42, 180, 0, 1, 180, 0, 23, 180, 0, 29, 42]
abbrev dktX12_does_0 : List UInt8 := dkwX12_does_0 ++ dktX12_does_1
theorem dksX12_does_0 : cX12_does.data.toList.drop 0 = dktX12_does_0 := by decide +kernel
theorem dksX12_does_1 : cX12_does.data.toList.drop 22 = dktX12_does_1 := dk_seg dksX12_does_0 22 rfl rfl
theorem dX12_does_0 : decode cX12_does 0 = .ok (.aload_n 0, 1) := dk_42 (dk_at dksX12_does_0 0 rfl rfl)
theorem dX12_does_1 : decode cX12_does 1 = .ok (.getfield 1, 3) := dk_180 0 1 (dk_at dksX12_does_0 1 rfl rfl)
theorem dX12_does_4 : decode cX12_does 4 = .ok (.getfield 23, 3) := dk_180 0 23 (dk_at dksX12_does_0 4 rfl rfl)
theorem dX12_does_7 : decode cX12_does 7 = .ok (.aload_n 0, 1) := dk_42 (dk_at dksX12_does_0 7 rfl rfl)
theorem dX12_does_8 : decode cX12_does 8 = .ok (.getfield 7, 3) := dk_180 0 7 (dk_at dksX12_does_0 8 rfl rfl)
theorem dX12_does_11 : decode cX12_does 11 = .ok (.aload_n 0, 1) := dk_42 (dk_at dksX12_does_0 11 rfl rfl)
theorem dX12_does_12 : decode cX12_does 12 = .ok (.getfield 1, 3) := dk_180 0 1 (dk_at dksX12_does_0 12 rfl rfl)
theorem dX12_does_15 : decode cX12_does 15 = .ok (.getfield 23, 3) := dk_180 0 23 (dk_at dksX12_does_0 15 rfl rfl)
theorem dX12_does_18 : decode cX12_does 18 = .ok (.getfield 29, 3) := dk_180 0 29 (dk_at dksX12_does_0 18 rfl rfl)
theorem dX12_does_21 : decode cX12_does 21 = .ok (.aload_n 0, 1) := dk_42 (dk_at dksX12_does_0 21 rfl rfl)
theorem dX12_does_22 : decode cX12_does 22 = .ok (.getfield 11, 3) := dk_180 0 11 (dk_at dksX12_does_1 0 rfl rfl)
theorem dX12_does_25 : decode cX12_does 25 = .ok (.invokevirtual 35, 3) := dk_182 0 35 (dk_at dksX12_does_1 3 rfl rfl)
theorem dX12_does_28 : decode cX12_does 28 = .ok (.checkcast 41, 3) := dk_192 0 41 (dk_at dksX12_does_1 6 rfl rfl)
theorem dX12_does_31 : decode cX12_does 31 = .ok (.aload_n 0, 1) := dk_42 (dk_at dksX12_does_1 9 rfl rfl)
theorem dX12_does_32 : decode cX12_does 32 = .ok (.getfield 14, 3) := dk_180 0 14 (dk_at dksX12_does_1 10 rfl rfl)
theorem dX12_does_35 : decode cX12_does 35 = .ok (.invokevirtual 47, 3) := dk_182 0 47 (dk_at dksX12_does_1 13 rfl rfl)
theorem dX12_does_38 : decode cX12_does 38 = .ok (.ireturn, 1) := dk_172 (dk_at dksX12_does_1 16 rfl rfl)
abbrev cX12_init : ByteArray := prog_2_method_1_code
def yX12_init : MethodName := ⟨RX12, "<init>", "(LBottleLoop;III)V"⟩
def dkwX12_init_1 : List UInt8 := [183, 0, 17, 177]
abbrev dktX12_init_1 : List UInt8 := dkwX12_init_1 ++ []
def dkwX12_init_0 : List UInt8 := [42, 43, 181, 0, 1, 42, 28, 181, 0, 7, 42, 29, 181, 0, 11, 42, 21, 4, 181, 0, 14, 42, 43]
abbrev dktX12_init_0 : List UInt8 := dkwX12_init_0 ++ dktX12_init_1
theorem dksX12_init_0 : cX12_init.data.toList.drop 0 = dktX12_init_0 := by decide +kernel
theorem dksX12_init_1 : cX12_init.data.toList.drop 23 = dktX12_init_1 := dk_seg dksX12_init_0 23 rfl rfl
theorem dX12_init_0 : decode cX12_init 0 = .ok (.aload_n 0, 1) := dk_42 (dk_at dksX12_init_0 0 rfl rfl)
theorem dX12_init_1 : decode cX12_init 1 = .ok (.aload_n 1, 1) := dk_43 (dk_at dksX12_init_0 1 rfl rfl)
theorem dX12_init_2 : decode cX12_init 2 = .ok (.putfield 1, 3) := dk_181 0 1 (dk_at dksX12_init_0 2 rfl rfl)
theorem dX12_init_5 : decode cX12_init 5 = .ok (.aload_n 0, 1) := dk_42 (dk_at dksX12_init_0 5 rfl rfl)
theorem dX12_init_6 : decode cX12_init 6 = .ok (.iload_n 2, 1) := dk_28 (dk_at dksX12_init_0 6 rfl rfl)
theorem dX12_init_7 : decode cX12_init 7 = .ok (.putfield 7, 3) := dk_181 0 7 (dk_at dksX12_init_0 7 rfl rfl)
theorem dX12_init_10 : decode cX12_init 10 = .ok (.aload_n 0, 1) := dk_42 (dk_at dksX12_init_0 10 rfl rfl)
theorem dX12_init_11 : decode cX12_init 11 = .ok (.iload_n 3, 1) := dk_29 (dk_at dksX12_init_0 11 rfl rfl)
theorem dX12_init_12 : decode cX12_init 12 = .ok (.putfield 11, 3) := dk_181 0 11 (dk_at dksX12_init_0 12 rfl rfl)
theorem dX12_init_15 : decode cX12_init 15 = .ok (.aload_n 0, 1) := dk_42 (dk_at dksX12_init_0 15 rfl rfl)
theorem dX12_init_16 : decode cX12_init 16 = .ok (.iload 4, 2) := dk_21 4 (dk_at dksX12_init_0 16 rfl rfl)
theorem dX12_init_18 : decode cX12_init 18 = .ok (.putfield 14, 3) := dk_181 0 14 (dk_at dksX12_init_0 18 rfl rfl)
theorem dX12_init_21 : decode cX12_init 21 = .ok (.aload_n 0, 1) := dk_42 (dk_at dksX12_init_0 21 rfl rfl)
theorem dX12_init_22 : decode cX12_init 22 = .ok (.aload_n 1, 1) := dk_43 (dk_at dksX12_init_0 22 rfl rfl)
theorem dX12_init_23 : decode cX12_init 23 = .ok (.invokespecial 17, 3) := dk_183 0 17 (dk_at dksX12_init_1 0 rfl rfl)
theorem dX12_init_26 : decode cX12_init 26 = .ok (.return_, 1) := dk_177 (dk_at dksX12_init_1 3 rfl rfl)
theorem q110 : (Jvm.Cond.initialized "BottleLoop$1") ∈ lw_all := lw_g (lw_at lw_m1 32 rfl) rfl
theorem q175 : (Jvm.Cond.fieldLinkNest "BottleLoop$1" (29 : Nat) "BottleLoop$Loop" "shops" "Ljava/util/ArrayList;" "BottleLoop") ∈ lw_tbl := lw_at lw_m1 97 rfl
theorem q248 : (Jvm.Cond.fieldLinkNest "BottleLoop$1" (23 : Nat) "BottleLoop" "now" "LBottleLoop$Loop;" "BottleLoop") ∈ lw_tbl := lw_at lw_m1 170 rfl
theorem q747 : (Jvm.Cond.selects "BottleLoop$1" ({ cls := "java/lang/Object", name := "getClass", desc := "()Ljava/lang/Class;" } : Jvm.MethodName) ({ cls := "java/lang/Object", name := "getClass", desc := "()Ljava/lang/Class;" } : Jvm.MethodName)) ∈ lw_all := lw_g (lw_at lw_m3 189 rfl) rfl
theorem q1184 : (Jvm.Cond.selects "BottleLoop$1" ({ cls := "BottleLoop$Deed", name := "reason", desc := "()I" } : Jvm.MethodName) ({ cls := "BottleLoop$Deed", name := "reason", desc := "()I" } : Jvm.MethodName)) ∈ lw_all := lw_g (lw_at lw_m5 146 rfl) rfl
theorem q1201 : (Jvm.Cond.selects "BottleLoop$1" ({ cls := "BottleLoop$Deed", name := "check", desc := "()V" } : Jvm.MethodName) ({ cls := "BottleLoop$1", name := "check", desc := "()V" } : Jvm.MethodName)) ∈ lw_all := lw_g (lw_at lw_m5 163 rfl) rfl
theorem q1202 : (Jvm.Cond.instanceMethod ({ cls := "BottleLoop$1", name := "check", desc := "()V" } : Jvm.MethodName)) ∈ lw_all := lw_g (lw_at lw_m5 164 rfl) rfl
theorem q1203 : (Jvm.Cond.code ({ cls := "BottleLoop$1", name := "check", desc := "()V" } : Jvm.MethodName) prog_2_method_2_code (1 : Nat) (Option.none : Option Jvm.ClassFile.FieldType)) ∈ lw_all := lw_g (lw_at lw_m5 165 rfl) rfl
theorem q1204 : (Jvm.Cond.methodLink "BottleLoop$1" (35 : Nat) ({ cls := "java/util/ArrayList", name := "get", desc := "(I)Ljava/lang/Object;" } : Jvm.MethodName)) ∈ lw_all := lw_g (lw_at lw_m5 166 rfl) rfl
theorem q1205 : (Jvm.Cond.classLink "BottleLoop$1" (41 : Nat) "BottleLoop$Shop") ∈ lw_all := lw_g (lw_at lw_m5 167 rfl) rfl
theorem q1206 : (Jvm.Cond.methodLink "BottleLoop$1" (43 : Nat) ({ cls := "BottleLoop$Loop", name := "tryDeliver", desc := "(ILBottleLoop$Shop;I)V" } : Jvm.MethodName)) ∈ lw_all := lw_g (lw_at lw_m5 168 rfl) rfl
theorem q1366 : (Jvm.Cond.selects "BottleLoop$1" ({ cls := "BottleLoop$Deed", name := "does", desc := "()I" } : Jvm.MethodName) ({ cls := "BottleLoop$1", name := "does", desc := "()I" } : Jvm.MethodName)) ∈ lw_all := lw_g (lw_at lw_m6 88 rfl) rfl
theorem q1367 : (Jvm.Cond.instanceMethod ({ cls := "BottleLoop$1", name := "does", desc := "()I" } : Jvm.MethodName)) ∈ lw_all := lw_g (lw_at lw_m6 89 rfl) rfl
theorem q1368 : (Jvm.Cond.code ({ cls := "BottleLoop$1", name := "does", desc := "()I" } : Jvm.MethodName) prog_2_method_3_code (1 : Nat) (Option.some Jvm.ClassFile.FieldType.int)) ∈ lw_all := lw_g (lw_at lw_m6 90 rfl) rfl
theorem q1369 : (Jvm.Cond.methodLink "BottleLoop$1" (47 : Nat) ({ cls := "BottleLoop$Loop", name := "deliver", desc := "(ILBottleLoop$Shop;I)I" } : Jvm.MethodName)) ∈ lw_all := lw_g (lw_at lw_m6 91 rfl) rfl
theorem q1448 : (Jvm.Cond.instantiable "BottleLoop$1" (5 : Nat)) ∈ lw_all := lw_g (lw_at lw_m6 170 rfl) rfl
theorem q1450 : (Jvm.Cond.instanceMethod ({ cls := "BottleLoop$1", name := "<init>", desc := "(LBottleLoop;III)V" } : Jvm.MethodName)) ∈ lw_all := lw_g (lw_at lw_m6 172 rfl) rfl
theorem q1451 : (Jvm.Cond.code ({ cls := "BottleLoop$1", name := "<init>", desc := "(LBottleLoop;III)V" } : Jvm.MethodName) prog_2_method_1_code (5 : Nat) (Option.none : Option Jvm.ClassFile.FieldType)) ∈ lw_all := lw_g (lw_at lw_m6 173 rfl) rfl
theorem q1452 : (Jvm.Cond.methodLinkNest "BottleLoop$1" (17 : Nat) ({ cls := "BottleLoop$Deed", name := "<init>", desc := "(LBottleLoop;)V" } : Jvm.MethodName) "BottleLoop") ∈ lw_tbl := lw_at lw_m6 174 rfl
theorem q1453 : (Jvm.Cond.fieldLink "BottleLoop$1" (7 : Nat) "BottleLoop$1" "val$brand" "I") ∈ lw_all := lw_g (lw_at lw_m6 175 rfl) rfl
theorem q1454 : (Jvm.Cond.fieldLink "BottleLoop$1" (11 : Nat) "BottleLoop$1" "val$shop" "I") ∈ lw_all := lw_g (lw_at lw_m6 176 rfl) rfl
theorem q1455 : (Jvm.Cond.fieldLink "BottleLoop$1" (14 : Nat) "BottleLoop$1" "val$crates" "I") ∈ lw_all := lw_g (lw_at lw_m6 177 rfl) rfl
theorem q1456 : (Jvm.Cond.fieldLink "BottleLoop$1" (1 : Nat) "BottleLoop$1" "this$0" "LBottleLoop;") ∈ lw_all := lw_g (lw_at lw_m6 178 rfl) rfl
theorem q1457 : (Jvm.Cond.laysFinal "BottleLoop$1" "BottleLoop$1" "val$brand" "I") ∈ lw_all := lw_g (lw_at lw_m6 179 rfl) rfl
theorem q1458 : (Jvm.Cond.soleField "BottleLoop$1" "val$brand") ∈ lw_all := lw_g (lw_at lw_m6 180 rfl) rfl
theorem q1459 : (Jvm.Cond.laysFinal "BottleLoop$1" "BottleLoop$1" "val$shop" "I") ∈ lw_all := lw_g (lw_at lw_m6 181 rfl) rfl
theorem q1460 : (Jvm.Cond.soleField "BottleLoop$1" "val$shop") ∈ lw_all := lw_g (lw_at lw_m6 182 rfl) rfl
theorem q1461 : (Jvm.Cond.laysFinal "BottleLoop$1" "BottleLoop$1" "val$crates" "I") ∈ lw_all := lw_g (lw_at lw_m6 183 rfl) rfl
theorem q1462 : (Jvm.Cond.soleField "BottleLoop$1" "val$crates") ∈ lw_all := lw_g (lw_at lw_m6 184 rfl) rfl
theorem q1463 : (Jvm.Cond.laysFinal "BottleLoop$1" "BottleLoop$1" "this$0" "LBottleLoop;") ∈ lw_all := lw_g (lw_at lw_m6 185 rfl) rfl
theorem q1464 : (Jvm.Cond.soleField "BottleLoop$1" "this$0") ∈ lw_all := lw_g (lw_at lw_m6 186 rfl) rfl
theorem q1465 : (Jvm.Cond.laysFinal "BottleLoop$1" "BottleLoop$Deed" "this$0" "LBottleLoop;") ∈ lw_all := lw_g (lw_at lw_m6 187 rfl) rfl
theorem q1466 : (Jvm.Cond.superclass "BottleLoop$1" "BottleLoop$Deed") ∈ lw_all := lw_g (lw_at lw_m6 188 rfl) rfl
theorem q1734 : (Jvm.Cond.selects "BottleLoop$1" ({ cls := "BottleLoop$Deed", name := "order", desc := "()V" } : Jvm.MethodName) ({ cls := "BottleLoop$Deed", name := "order", desc := "()V" } : Jvm.MethodName)) ∈ lw_all := lw_g (lw_at lw_m7 216 rfl) rfl
theorem q2214 : (Jvm.Cond.selects "BottleLoop$1" ({ cls := "BottleLoop$Deed", name := "done", desc := "()I" } : Jvm.MethodName) ({ cls := "BottleLoop$Deed", name := "done", desc := "()I" } : Jvm.MethodName)) ∈ lw_all := lw_g (lw_at lw_m9 216 rfl) rfl
theorem q2243 : (Jvm.Cond.castable "BottleLoop$1" "java/lang/Object") ∈ lw_tbl := lw_at lw_m10 5 rfl
theorem in_X12 : ∀ w ∈ wsX120, w ∈ lw_all := lw_in wsX120 [1465, 1457, 1459, 1461, 1463] (by decide +kernel) (by decide +kernel)
/-! BottleLoop$2 -/
set_option maxRecDepth 100000
def RX13 : String := "BottleLoop$2"
def TX13 : u_T := fun k => match k with
  | 0 => ("BottleLoop$Deed", "this$0", "LBottleLoop;", true)
  | 1 => ("BottleLoop$2", "val$brand", "I", true)
  | 2 => ("BottleLoop$2", "val$shop", "I", true)
  | 3 => ("BottleLoop$2", "val$many", "I", true)
  | _ => ("BottleLoop$2", "this$0", "LBottleLoop;", true)
def tyX13 : Nat → FieldType := fun k => match k with
  | 0 => .object "BottleLoop"
  | 1 => .int
  | 2 => .int
  | 3 => .int
  | _ => .object "BottleLoop"
abbrev wsX130 : List Cond := u_ws RX13 TX13 5
-- two fields of one name: no nmX13
theorem tyX13_ok : ∀ k, k < 5 → parseFieldDescriptor (TX13 k).2.2.1 = some (tyX13 k) := by decide +kernel
abbrev cX13_check : ByteArray := prog_3_method_2_code
def yX13_check : MethodName := ⟨RX13, "check", "()V"⟩
def dkwX13_check_1 : List UInt8 := [180, 0, 11, 182, 0, 35, 192, 0, 41, 42, 180, 0, 14, 182, 0, 43, 177]
abbrev dktX13_check_1 : List UInt8 := dkwX13_check_1 ++ []
def dkwX13_check_0 : List UInt8 := [42, 180, 0, 1, 180, 0, 23, 42, 180, 0, 7, 42, 180, 0, 1, 180, 0, 23, 180, 0, 29, 42]
abbrev dktX13_check_0 : List UInt8 := dkwX13_check_0 ++ dktX13_check_1
theorem dksX13_check_0 : cX13_check.data.toList.drop 0 = dktX13_check_0 := by decide +kernel
theorem dksX13_check_1 : cX13_check.data.toList.drop 22 = dktX13_check_1 := dk_seg dksX13_check_0 22 rfl rfl
theorem dX13_check_0 : decode cX13_check 0 = .ok (.aload_n 0, 1) := dk_42 (dk_at dksX13_check_0 0 rfl rfl)
theorem dX13_check_1 : decode cX13_check 1 = .ok (.getfield 1, 3) := dk_180 0 1 (dk_at dksX13_check_0 1 rfl rfl)
theorem dX13_check_4 : decode cX13_check 4 = .ok (.getfield 23, 3) := dk_180 0 23 (dk_at dksX13_check_0 4 rfl rfl)
theorem dX13_check_7 : decode cX13_check 7 = .ok (.aload_n 0, 1) := dk_42 (dk_at dksX13_check_0 7 rfl rfl)
theorem dX13_check_8 : decode cX13_check 8 = .ok (.getfield 7, 3) := dk_180 0 7 (dk_at dksX13_check_0 8 rfl rfl)
theorem dX13_check_11 : decode cX13_check 11 = .ok (.aload_n 0, 1) := dk_42 (dk_at dksX13_check_0 11 rfl rfl)
theorem dX13_check_12 : decode cX13_check 12 = .ok (.getfield 1, 3) := dk_180 0 1 (dk_at dksX13_check_0 12 rfl rfl)
theorem dX13_check_15 : decode cX13_check 15 = .ok (.getfield 23, 3) := dk_180 0 23 (dk_at dksX13_check_0 15 rfl rfl)
theorem dX13_check_18 : decode cX13_check 18 = .ok (.getfield 29, 3) := dk_180 0 29 (dk_at dksX13_check_0 18 rfl rfl)
theorem dX13_check_21 : decode cX13_check 21 = .ok (.aload_n 0, 1) := dk_42 (dk_at dksX13_check_0 21 rfl rfl)
theorem dX13_check_22 : decode cX13_check 22 = .ok (.getfield 11, 3) := dk_180 0 11 (dk_at dksX13_check_1 0 rfl rfl)
theorem dX13_check_25 : decode cX13_check 25 = .ok (.invokevirtual 35, 3) := dk_182 0 35 (dk_at dksX13_check_1 3 rfl rfl)
theorem dX13_check_28 : decode cX13_check 28 = .ok (.checkcast 41, 3) := dk_192 0 41 (dk_at dksX13_check_1 6 rfl rfl)
theorem dX13_check_31 : decode cX13_check 31 = .ok (.aload_n 0, 1) := dk_42 (dk_at dksX13_check_1 9 rfl rfl)
theorem dX13_check_32 : decode cX13_check 32 = .ok (.getfield 14, 3) := dk_180 0 14 (dk_at dksX13_check_1 10 rfl rfl)
theorem dX13_check_35 : decode cX13_check 35 = .ok (.invokevirtual 43, 3) := dk_182 0 43 (dk_at dksX13_check_1 13 rfl rfl)
theorem dX13_check_38 : decode cX13_check 38 = .ok (.return_, 1) := dk_177 (dk_at dksX13_check_1 16 rfl rfl)
abbrev cX13_does : ByteArray := prog_3_method_3_code
def yX13_does : MethodName := ⟨RX13, "does", "()I"⟩
def dkwX13_does_1 : List UInt8 := [180, 0, 11, 182, 0, 35, 192, 0, 41, 42, 180, 0, 14, 182, 0, 47, 172]
abbrev dktX13_does_1 : List UInt8 := dkwX13_does_1 ++ []
def dkwX13_does_0 : List UInt8 := [42, 180, 0, 1, 180, 0, 23, 42, 180, 0, 7, 42, 180, 0, 1, 180, 0, 23, 180, 0, 29, 42]
abbrev dktX13_does_0 : List UInt8 := dkwX13_does_0 ++ dktX13_does_1
theorem dksX13_does_0 : cX13_does.data.toList.drop 0 = dktX13_does_0 := by decide +kernel
theorem dksX13_does_1 : cX13_does.data.toList.drop 22 = dktX13_does_1 := dk_seg dksX13_does_0 22 rfl rfl
theorem dX13_does_0 : decode cX13_does 0 = .ok (.aload_n 0, 1) := dk_42 (dk_at dksX13_does_0 0 rfl rfl)
theorem dX13_does_1 : decode cX13_does 1 = .ok (.getfield 1, 3) := dk_180 0 1 (dk_at dksX13_does_0 1 rfl rfl)
theorem dX13_does_4 : decode cX13_does 4 = .ok (.getfield 23, 3) := dk_180 0 23 (dk_at dksX13_does_0 4 rfl rfl)
theorem dX13_does_7 : decode cX13_does 7 = .ok (.aload_n 0, 1) := dk_42 (dk_at dksX13_does_0 7 rfl rfl)
theorem dX13_does_8 : decode cX13_does 8 = .ok (.getfield 7, 3) := dk_180 0 7 (dk_at dksX13_does_0 8 rfl rfl)
theorem dX13_does_11 : decode cX13_does 11 = .ok (.aload_n 0, 1) := dk_42 (dk_at dksX13_does_0 11 rfl rfl)
theorem dX13_does_12 : decode cX13_does 12 = .ok (.getfield 1, 3) := dk_180 0 1 (dk_at dksX13_does_0 12 rfl rfl)
theorem dX13_does_15 : decode cX13_does 15 = .ok (.getfield 23, 3) := dk_180 0 23 (dk_at dksX13_does_0 15 rfl rfl)
theorem dX13_does_18 : decode cX13_does 18 = .ok (.getfield 29, 3) := dk_180 0 29 (dk_at dksX13_does_0 18 rfl rfl)
theorem dX13_does_21 : decode cX13_does 21 = .ok (.aload_n 0, 1) := dk_42 (dk_at dksX13_does_0 21 rfl rfl)
theorem dX13_does_22 : decode cX13_does 22 = .ok (.getfield 11, 3) := dk_180 0 11 (dk_at dksX13_does_1 0 rfl rfl)
theorem dX13_does_25 : decode cX13_does 25 = .ok (.invokevirtual 35, 3) := dk_182 0 35 (dk_at dksX13_does_1 3 rfl rfl)
theorem dX13_does_28 : decode cX13_does 28 = .ok (.checkcast 41, 3) := dk_192 0 41 (dk_at dksX13_does_1 6 rfl rfl)
theorem dX13_does_31 : decode cX13_does 31 = .ok (.aload_n 0, 1) := dk_42 (dk_at dksX13_does_1 9 rfl rfl)
theorem dX13_does_32 : decode cX13_does 32 = .ok (.getfield 14, 3) := dk_180 0 14 (dk_at dksX13_does_1 10 rfl rfl)
theorem dX13_does_35 : decode cX13_does 35 = .ok (.invokevirtual 47, 3) := dk_182 0 47 (dk_at dksX13_does_1 13 rfl rfl)
theorem dX13_does_38 : decode cX13_does 38 = .ok (.ireturn, 1) := dk_172 (dk_at dksX13_does_1 16 rfl rfl)
abbrev cX13_init : ByteArray := prog_3_method_1_code
def yX13_init : MethodName := ⟨RX13, "<init>", "(LBottleLoop;III)V"⟩
def dkwX13_init_1 : List UInt8 := [183, 0, 17, 177]
abbrev dktX13_init_1 : List UInt8 := dkwX13_init_1 ++ []
def dkwX13_init_0 : List UInt8 := [42, 43, 181, 0, 1, 42, 28, 181, 0, 7, 42, 29, 181, 0, 11, 42, 21, 4, 181, 0, 14, 42, 43]
abbrev dktX13_init_0 : List UInt8 := dkwX13_init_0 ++ dktX13_init_1
theorem dksX13_init_0 : cX13_init.data.toList.drop 0 = dktX13_init_0 := by decide +kernel
theorem dksX13_init_1 : cX13_init.data.toList.drop 23 = dktX13_init_1 := dk_seg dksX13_init_0 23 rfl rfl
theorem dX13_init_0 : decode cX13_init 0 = .ok (.aload_n 0, 1) := dk_42 (dk_at dksX13_init_0 0 rfl rfl)
theorem dX13_init_1 : decode cX13_init 1 = .ok (.aload_n 1, 1) := dk_43 (dk_at dksX13_init_0 1 rfl rfl)
theorem dX13_init_2 : decode cX13_init 2 = .ok (.putfield 1, 3) := dk_181 0 1 (dk_at dksX13_init_0 2 rfl rfl)
theorem dX13_init_5 : decode cX13_init 5 = .ok (.aload_n 0, 1) := dk_42 (dk_at dksX13_init_0 5 rfl rfl)
theorem dX13_init_6 : decode cX13_init 6 = .ok (.iload_n 2, 1) := dk_28 (dk_at dksX13_init_0 6 rfl rfl)
theorem dX13_init_7 : decode cX13_init 7 = .ok (.putfield 7, 3) := dk_181 0 7 (dk_at dksX13_init_0 7 rfl rfl)
theorem dX13_init_10 : decode cX13_init 10 = .ok (.aload_n 0, 1) := dk_42 (dk_at dksX13_init_0 10 rfl rfl)
theorem dX13_init_11 : decode cX13_init 11 = .ok (.iload_n 3, 1) := dk_29 (dk_at dksX13_init_0 11 rfl rfl)
theorem dX13_init_12 : decode cX13_init 12 = .ok (.putfield 11, 3) := dk_181 0 11 (dk_at dksX13_init_0 12 rfl rfl)
theorem dX13_init_15 : decode cX13_init 15 = .ok (.aload_n 0, 1) := dk_42 (dk_at dksX13_init_0 15 rfl rfl)
theorem dX13_init_16 : decode cX13_init 16 = .ok (.iload 4, 2) := dk_21 4 (dk_at dksX13_init_0 16 rfl rfl)
theorem dX13_init_18 : decode cX13_init 18 = .ok (.putfield 14, 3) := dk_181 0 14 (dk_at dksX13_init_0 18 rfl rfl)
theorem dX13_init_21 : decode cX13_init 21 = .ok (.aload_n 0, 1) := dk_42 (dk_at dksX13_init_0 21 rfl rfl)
theorem dX13_init_22 : decode cX13_init 22 = .ok (.aload_n 1, 1) := dk_43 (dk_at dksX13_init_0 22 rfl rfl)
theorem dX13_init_23 : decode cX13_init 23 = .ok (.invokespecial 17, 3) := dk_183 0 17 (dk_at dksX13_init_1 0 rfl rfl)
theorem dX13_init_26 : decode cX13_init 26 = .ok (.return_, 1) := dk_177 (dk_at dksX13_init_1 3 rfl rfl)
theorem q111 : (Jvm.Cond.initialized "BottleLoop$2") ∈ lw_all := lw_g (lw_at lw_m1 33 rfl) rfl
theorem q176 : (Jvm.Cond.fieldLinkNest "BottleLoop$2" (29 : Nat) "BottleLoop$Loop" "shops" "Ljava/util/ArrayList;" "BottleLoop") ∈ lw_tbl := lw_at lw_m1 98 rfl
theorem q249 : (Jvm.Cond.fieldLinkNest "BottleLoop$2" (23 : Nat) "BottleLoop" "now" "LBottleLoop$Loop;" "BottleLoop") ∈ lw_tbl := lw_at lw_m1 171 rfl
theorem q748 : (Jvm.Cond.selects "BottleLoop$2" ({ cls := "java/lang/Object", name := "getClass", desc := "()Ljava/lang/Class;" } : Jvm.MethodName) ({ cls := "java/lang/Object", name := "getClass", desc := "()Ljava/lang/Class;" } : Jvm.MethodName)) ∈ lw_all := lw_g (lw_at lw_m3 190 rfl) rfl
theorem q1185 : (Jvm.Cond.selects "BottleLoop$2" ({ cls := "BottleLoop$Deed", name := "reason", desc := "()I" } : Jvm.MethodName) ({ cls := "BottleLoop$Deed", name := "reason", desc := "()I" } : Jvm.MethodName)) ∈ lw_all := lw_g (lw_at lw_m5 147 rfl) rfl
theorem q1274 : (Jvm.Cond.selects "BottleLoop$2" ({ cls := "BottleLoop$Deed", name := "check", desc := "()V" } : Jvm.MethodName) ({ cls := "BottleLoop$2", name := "check", desc := "()V" } : Jvm.MethodName)) ∈ lw_all := lw_g (lw_at lw_m5 236 rfl) rfl
theorem q1275 : (Jvm.Cond.instanceMethod ({ cls := "BottleLoop$2", name := "check", desc := "()V" } : Jvm.MethodName)) ∈ lw_all := lw_g (lw_at lw_m5 237 rfl) rfl
theorem q1276 : (Jvm.Cond.code ({ cls := "BottleLoop$2", name := "check", desc := "()V" } : Jvm.MethodName) prog_3_method_2_code (1 : Nat) (Option.none : Option Jvm.ClassFile.FieldType)) ∈ lw_all := lw_g (lw_at lw_m5 238 rfl) rfl
theorem q1277 : (Jvm.Cond.methodLink "BottleLoop$2" (35 : Nat) ({ cls := "java/util/ArrayList", name := "get", desc := "(I)Ljava/lang/Object;" } : Jvm.MethodName)) ∈ lw_all := lw_g (lw_at lw_m5 239 rfl) rfl
theorem q1278 : (Jvm.Cond.classLink "BottleLoop$2" (41 : Nat) "BottleLoop$Shop") ∈ lw_all := lw_g (lw_at lw_m6 0 rfl) rfl
theorem q1279 : (Jvm.Cond.methodLink "BottleLoop$2" (43 : Nat) ({ cls := "BottleLoop$Loop", name := "trySell", desc := "(ILBottleLoop$Shop;I)V" } : Jvm.MethodName)) ∈ lw_all := lw_g (lw_at lw_m6 1 rfl) rfl
theorem q1373 : (Jvm.Cond.selects "BottleLoop$2" ({ cls := "BottleLoop$Deed", name := "does", desc := "()I" } : Jvm.MethodName) ({ cls := "BottleLoop$2", name := "does", desc := "()I" } : Jvm.MethodName)) ∈ lw_all := lw_g (lw_at lw_m6 95 rfl) rfl
theorem q1374 : (Jvm.Cond.instanceMethod ({ cls := "BottleLoop$2", name := "does", desc := "()I" } : Jvm.MethodName)) ∈ lw_all := lw_g (lw_at lw_m6 96 rfl) rfl
theorem q1375 : (Jvm.Cond.code ({ cls := "BottleLoop$2", name := "does", desc := "()I" } : Jvm.MethodName) prog_3_method_3_code (1 : Nat) (Option.some Jvm.ClassFile.FieldType.int)) ∈ lw_all := lw_g (lw_at lw_m6 97 rfl) rfl
theorem q1376 : (Jvm.Cond.methodLink "BottleLoop$2" (47 : Nat) ({ cls := "BottleLoop$Loop", name := "sell", desc := "(ILBottleLoop$Shop;I)I" } : Jvm.MethodName)) ∈ lw_all := lw_g (lw_at lw_m6 98 rfl) rfl
theorem q1484 : (Jvm.Cond.instantiable "BottleLoop$2" (5 : Nat)) ∈ lw_all := lw_g (lw_at lw_m6 206 rfl) rfl
theorem q1486 : (Jvm.Cond.instanceMethod ({ cls := "BottleLoop$2", name := "<init>", desc := "(LBottleLoop;III)V" } : Jvm.MethodName)) ∈ lw_all := lw_g (lw_at lw_m6 208 rfl) rfl
theorem q1487 : (Jvm.Cond.code ({ cls := "BottleLoop$2", name := "<init>", desc := "(LBottleLoop;III)V" } : Jvm.MethodName) prog_3_method_1_code (5 : Nat) (Option.none : Option Jvm.ClassFile.FieldType)) ∈ lw_all := lw_g (lw_at lw_m6 209 rfl) rfl
theorem q1488 : (Jvm.Cond.methodLinkNest "BottleLoop$2" (17 : Nat) ({ cls := "BottleLoop$Deed", name := "<init>", desc := "(LBottleLoop;)V" } : Jvm.MethodName) "BottleLoop") ∈ lw_tbl := lw_at lw_m6 210 rfl
theorem q1489 : (Jvm.Cond.fieldLink "BottleLoop$2" (7 : Nat) "BottleLoop$2" "val$brand" "I") ∈ lw_all := lw_g (lw_at lw_m6 211 rfl) rfl
theorem q1490 : (Jvm.Cond.fieldLink "BottleLoop$2" (11 : Nat) "BottleLoop$2" "val$shop" "I") ∈ lw_all := lw_g (lw_at lw_m6 212 rfl) rfl
theorem q1491 : (Jvm.Cond.fieldLink "BottleLoop$2" (14 : Nat) "BottleLoop$2" "val$many" "I") ∈ lw_all := lw_g (lw_at lw_m6 213 rfl) rfl
theorem q1492 : (Jvm.Cond.fieldLink "BottleLoop$2" (1 : Nat) "BottleLoop$2" "this$0" "LBottleLoop;") ∈ lw_all := lw_g (lw_at lw_m6 214 rfl) rfl
theorem q1493 : (Jvm.Cond.laysFinal "BottleLoop$2" "BottleLoop$2" "val$brand" "I") ∈ lw_all := lw_g (lw_at lw_m6 215 rfl) rfl
theorem q1494 : (Jvm.Cond.soleField "BottleLoop$2" "val$brand") ∈ lw_all := lw_g (lw_at lw_m6 216 rfl) rfl
theorem q1495 : (Jvm.Cond.laysFinal "BottleLoop$2" "BottleLoop$2" "val$shop" "I") ∈ lw_all := lw_g (lw_at lw_m6 217 rfl) rfl
theorem q1496 : (Jvm.Cond.soleField "BottleLoop$2" "val$shop") ∈ lw_all := lw_g (lw_at lw_m6 218 rfl) rfl
theorem q1497 : (Jvm.Cond.laysFinal "BottleLoop$2" "BottleLoop$2" "val$many" "I") ∈ lw_all := lw_g (lw_at lw_m6 219 rfl) rfl
theorem q1498 : (Jvm.Cond.soleField "BottleLoop$2" "val$many") ∈ lw_all := lw_g (lw_at lw_m6 220 rfl) rfl
theorem q1499 : (Jvm.Cond.laysFinal "BottleLoop$2" "BottleLoop$2" "this$0" "LBottleLoop;") ∈ lw_all := lw_g (lw_at lw_m6 221 rfl) rfl
theorem q1500 : (Jvm.Cond.soleField "BottleLoop$2" "this$0") ∈ lw_all := lw_g (lw_at lw_m6 222 rfl) rfl
theorem q1501 : (Jvm.Cond.laysFinal "BottleLoop$2" "BottleLoop$Deed" "this$0" "LBottleLoop;") ∈ lw_all := lw_g (lw_at lw_m6 223 rfl) rfl
theorem q1502 : (Jvm.Cond.superclass "BottleLoop$2" "BottleLoop$Deed") ∈ lw_all := lw_g (lw_at lw_m6 224 rfl) rfl
theorem q1735 : (Jvm.Cond.selects "BottleLoop$2" ({ cls := "BottleLoop$Deed", name := "order", desc := "()V" } : Jvm.MethodName) ({ cls := "BottleLoop$Deed", name := "order", desc := "()V" } : Jvm.MethodName)) ∈ lw_all := lw_g (lw_at lw_m7 217 rfl) rfl
theorem q2215 : (Jvm.Cond.selects "BottleLoop$2" ({ cls := "BottleLoop$Deed", name := "done", desc := "()I" } : Jvm.MethodName) ({ cls := "BottleLoop$Deed", name := "done", desc := "()I" } : Jvm.MethodName)) ∈ lw_all := lw_g (lw_at lw_m9 217 rfl) rfl
theorem q2246 : (Jvm.Cond.castable "BottleLoop$2" "java/lang/Object") ∈ lw_tbl := lw_at lw_m10 8 rfl
theorem in_X13 : ∀ w ∈ wsX130, w ∈ lw_all := lw_in wsX130 [1501, 1493, 1495, 1497, 1499] (by decide +kernel) (by decide +kernel)
/-! BottleLoop$3 -/
set_option maxRecDepth 100000
def RX14 : String := "BottleLoop$3"
def TX14 : u_T := fun k => match k with
  | 0 => ("BottleLoop$Deed", "this$0", "LBottleLoop;", true)
  | 1 => ("BottleLoop$3", "val$brand", "I", true)
  | 2 => ("BottleLoop$3", "val$shop", "I", true)
  | 3 => ("BottleLoop$3", "val$many", "I", true)
  | _ => ("BottleLoop$3", "this$0", "LBottleLoop;", true)
def tyX14 : Nat → FieldType := fun k => match k with
  | 0 => .object "BottleLoop"
  | 1 => .int
  | 2 => .int
  | 3 => .int
  | _ => .object "BottleLoop"
abbrev wsX140 : List Cond := u_ws RX14 TX14 5
-- two fields of one name: no nmX14
theorem tyX14_ok : ∀ k, k < 5 → parseFieldDescriptor (TX14 k).2.2.1 = some (tyX14 k) := by decide +kernel
abbrev cX14_check : ByteArray := prog_4_method_2_code
def yX14_check : MethodName := ⟨RX14, "check", "()V"⟩
def dkwX14_check_1 : List UInt8 := [180, 0, 11, 182, 0, 35, 192, 0, 41, 42, 180, 0, 14, 182, 0, 43, 177]
abbrev dktX14_check_1 : List UInt8 := dkwX14_check_1 ++ []
def dkwX14_check_0 : List UInt8 := [42, 180, 0, 1, 180, 0, 23, 42, 180, 0, 7, 42, 180, 0, 1, 180, 0, 23, 180, 0, 29, 42]
abbrev dktX14_check_0 : List UInt8 := dkwX14_check_0 ++ dktX14_check_1
theorem dksX14_check_0 : cX14_check.data.toList.drop 0 = dktX14_check_0 := by decide +kernel
theorem dksX14_check_1 : cX14_check.data.toList.drop 22 = dktX14_check_1 := dk_seg dksX14_check_0 22 rfl rfl
theorem dX14_check_0 : decode cX14_check 0 = .ok (.aload_n 0, 1) := dk_42 (dk_at dksX14_check_0 0 rfl rfl)
theorem dX14_check_1 : decode cX14_check 1 = .ok (.getfield 1, 3) := dk_180 0 1 (dk_at dksX14_check_0 1 rfl rfl)
theorem dX14_check_4 : decode cX14_check 4 = .ok (.getfield 23, 3) := dk_180 0 23 (dk_at dksX14_check_0 4 rfl rfl)
theorem dX14_check_7 : decode cX14_check 7 = .ok (.aload_n 0, 1) := dk_42 (dk_at dksX14_check_0 7 rfl rfl)
theorem dX14_check_8 : decode cX14_check 8 = .ok (.getfield 7, 3) := dk_180 0 7 (dk_at dksX14_check_0 8 rfl rfl)
theorem dX14_check_11 : decode cX14_check 11 = .ok (.aload_n 0, 1) := dk_42 (dk_at dksX14_check_0 11 rfl rfl)
theorem dX14_check_12 : decode cX14_check 12 = .ok (.getfield 1, 3) := dk_180 0 1 (dk_at dksX14_check_0 12 rfl rfl)
theorem dX14_check_15 : decode cX14_check 15 = .ok (.getfield 23, 3) := dk_180 0 23 (dk_at dksX14_check_0 15 rfl rfl)
theorem dX14_check_18 : decode cX14_check 18 = .ok (.getfield 29, 3) := dk_180 0 29 (dk_at dksX14_check_0 18 rfl rfl)
theorem dX14_check_21 : decode cX14_check 21 = .ok (.aload_n 0, 1) := dk_42 (dk_at dksX14_check_0 21 rfl rfl)
theorem dX14_check_22 : decode cX14_check 22 = .ok (.getfield 11, 3) := dk_180 0 11 (dk_at dksX14_check_1 0 rfl rfl)
theorem dX14_check_25 : decode cX14_check 25 = .ok (.invokevirtual 35, 3) := dk_182 0 35 (dk_at dksX14_check_1 3 rfl rfl)
theorem dX14_check_28 : decode cX14_check 28 = .ok (.checkcast 41, 3) := dk_192 0 41 (dk_at dksX14_check_1 6 rfl rfl)
theorem dX14_check_31 : decode cX14_check 31 = .ok (.aload_n 0, 1) := dk_42 (dk_at dksX14_check_1 9 rfl rfl)
theorem dX14_check_32 : decode cX14_check 32 = .ok (.getfield 14, 3) := dk_180 0 14 (dk_at dksX14_check_1 10 rfl rfl)
theorem dX14_check_35 : decode cX14_check 35 = .ok (.invokevirtual 43, 3) := dk_182 0 43 (dk_at dksX14_check_1 13 rfl rfl)
theorem dX14_check_38 : decode cX14_check 38 = .ok (.return_, 1) := dk_177 (dk_at dksX14_check_1 16 rfl rfl)
abbrev cX14_does : ByteArray := prog_4_method_3_code
def yX14_does : MethodName := ⟨RX14, "does", "()I"⟩
def dkwX14_does_1 : List UInt8 := [180, 0, 11, 182, 0, 35, 192, 0, 41, 42, 180, 0, 14, 182, 0, 47, 172]
abbrev dktX14_does_1 : List UInt8 := dkwX14_does_1 ++ []
def dkwX14_does_0 : List UInt8 := [42, 180, 0, 1, 180, 0, 23, 42, 180, 0, 7, 42, 180, 0, 1, 180, 0, 23, 180, 0, 29, 42]
abbrev dktX14_does_0 : List UInt8 := dkwX14_does_0 ++ dktX14_does_1
theorem dksX14_does_0 : cX14_does.data.toList.drop 0 = dktX14_does_0 := by decide +kernel
theorem dksX14_does_1 : cX14_does.data.toList.drop 22 = dktX14_does_1 := dk_seg dksX14_does_0 22 rfl rfl
theorem dX14_does_0 : decode cX14_does 0 = .ok (.aload_n 0, 1) := dk_42 (dk_at dksX14_does_0 0 rfl rfl)
theorem dX14_does_1 : decode cX14_does 1 = .ok (.getfield 1, 3) := dk_180 0 1 (dk_at dksX14_does_0 1 rfl rfl)
theorem dX14_does_4 : decode cX14_does 4 = .ok (.getfield 23, 3) := dk_180 0 23 (dk_at dksX14_does_0 4 rfl rfl)
theorem dX14_does_7 : decode cX14_does 7 = .ok (.aload_n 0, 1) := dk_42 (dk_at dksX14_does_0 7 rfl rfl)
theorem dX14_does_8 : decode cX14_does 8 = .ok (.getfield 7, 3) := dk_180 0 7 (dk_at dksX14_does_0 8 rfl rfl)
theorem dX14_does_11 : decode cX14_does 11 = .ok (.aload_n 0, 1) := dk_42 (dk_at dksX14_does_0 11 rfl rfl)
theorem dX14_does_12 : decode cX14_does 12 = .ok (.getfield 1, 3) := dk_180 0 1 (dk_at dksX14_does_0 12 rfl rfl)
theorem dX14_does_15 : decode cX14_does 15 = .ok (.getfield 23, 3) := dk_180 0 23 (dk_at dksX14_does_0 15 rfl rfl)
theorem dX14_does_18 : decode cX14_does 18 = .ok (.getfield 29, 3) := dk_180 0 29 (dk_at dksX14_does_0 18 rfl rfl)
theorem dX14_does_21 : decode cX14_does 21 = .ok (.aload_n 0, 1) := dk_42 (dk_at dksX14_does_0 21 rfl rfl)
theorem dX14_does_22 : decode cX14_does 22 = .ok (.getfield 11, 3) := dk_180 0 11 (dk_at dksX14_does_1 0 rfl rfl)
theorem dX14_does_25 : decode cX14_does 25 = .ok (.invokevirtual 35, 3) := dk_182 0 35 (dk_at dksX14_does_1 3 rfl rfl)
theorem dX14_does_28 : decode cX14_does 28 = .ok (.checkcast 41, 3) := dk_192 0 41 (dk_at dksX14_does_1 6 rfl rfl)
theorem dX14_does_31 : decode cX14_does 31 = .ok (.aload_n 0, 1) := dk_42 (dk_at dksX14_does_1 9 rfl rfl)
theorem dX14_does_32 : decode cX14_does 32 = .ok (.getfield 14, 3) := dk_180 0 14 (dk_at dksX14_does_1 10 rfl rfl)
theorem dX14_does_35 : decode cX14_does 35 = .ok (.invokevirtual 47, 3) := dk_182 0 47 (dk_at dksX14_does_1 13 rfl rfl)
theorem dX14_does_38 : decode cX14_does 38 = .ok (.ireturn, 1) := dk_172 (dk_at dksX14_does_1 16 rfl rfl)
abbrev cX14_init : ByteArray := prog_4_method_1_code
def yX14_init : MethodName := ⟨RX14, "<init>", "(LBottleLoop;III)V"⟩
def dkwX14_init_1 : List UInt8 := [183, 0, 17, 177]
abbrev dktX14_init_1 : List UInt8 := dkwX14_init_1 ++ []
def dkwX14_init_0 : List UInt8 := [42, 43, 181, 0, 1, 42, 28, 181, 0, 7, 42, 29, 181, 0, 11, 42, 21, 4, 181, 0, 14, 42, 43]
abbrev dktX14_init_0 : List UInt8 := dkwX14_init_0 ++ dktX14_init_1
theorem dksX14_init_0 : cX14_init.data.toList.drop 0 = dktX14_init_0 := by decide +kernel
theorem dksX14_init_1 : cX14_init.data.toList.drop 23 = dktX14_init_1 := dk_seg dksX14_init_0 23 rfl rfl
theorem dX14_init_0 : decode cX14_init 0 = .ok (.aload_n 0, 1) := dk_42 (dk_at dksX14_init_0 0 rfl rfl)
theorem dX14_init_1 : decode cX14_init 1 = .ok (.aload_n 1, 1) := dk_43 (dk_at dksX14_init_0 1 rfl rfl)
theorem dX14_init_2 : decode cX14_init 2 = .ok (.putfield 1, 3) := dk_181 0 1 (dk_at dksX14_init_0 2 rfl rfl)
theorem dX14_init_5 : decode cX14_init 5 = .ok (.aload_n 0, 1) := dk_42 (dk_at dksX14_init_0 5 rfl rfl)
theorem dX14_init_6 : decode cX14_init 6 = .ok (.iload_n 2, 1) := dk_28 (dk_at dksX14_init_0 6 rfl rfl)
theorem dX14_init_7 : decode cX14_init 7 = .ok (.putfield 7, 3) := dk_181 0 7 (dk_at dksX14_init_0 7 rfl rfl)
theorem dX14_init_10 : decode cX14_init 10 = .ok (.aload_n 0, 1) := dk_42 (dk_at dksX14_init_0 10 rfl rfl)
theorem dX14_init_11 : decode cX14_init 11 = .ok (.iload_n 3, 1) := dk_29 (dk_at dksX14_init_0 11 rfl rfl)
theorem dX14_init_12 : decode cX14_init 12 = .ok (.putfield 11, 3) := dk_181 0 11 (dk_at dksX14_init_0 12 rfl rfl)
theorem dX14_init_15 : decode cX14_init 15 = .ok (.aload_n 0, 1) := dk_42 (dk_at dksX14_init_0 15 rfl rfl)
theorem dX14_init_16 : decode cX14_init 16 = .ok (.iload 4, 2) := dk_21 4 (dk_at dksX14_init_0 16 rfl rfl)
theorem dX14_init_18 : decode cX14_init 18 = .ok (.putfield 14, 3) := dk_181 0 14 (dk_at dksX14_init_0 18 rfl rfl)
theorem dX14_init_21 : decode cX14_init 21 = .ok (.aload_n 0, 1) := dk_42 (dk_at dksX14_init_0 21 rfl rfl)
theorem dX14_init_22 : decode cX14_init 22 = .ok (.aload_n 1, 1) := dk_43 (dk_at dksX14_init_0 22 rfl rfl)
theorem dX14_init_23 : decode cX14_init 23 = .ok (.invokespecial 17, 3) := dk_183 0 17 (dk_at dksX14_init_1 0 rfl rfl)
theorem dX14_init_26 : decode cX14_init 26 = .ok (.return_, 1) := dk_177 (dk_at dksX14_init_1 3 rfl rfl)
theorem q112 : (Jvm.Cond.initialized "BottleLoop$3") ∈ lw_all := lw_g (lw_at lw_m1 34 rfl) rfl
theorem q177 : (Jvm.Cond.fieldLinkNest "BottleLoop$3" (29 : Nat) "BottleLoop$Loop" "shops" "Ljava/util/ArrayList;" "BottleLoop") ∈ lw_tbl := lw_at lw_m1 99 rfl
theorem q250 : (Jvm.Cond.fieldLinkNest "BottleLoop$3" (23 : Nat) "BottleLoop" "now" "LBottleLoop$Loop;" "BottleLoop") ∈ lw_tbl := lw_at lw_m1 172 rfl
theorem q749 : (Jvm.Cond.selects "BottleLoop$3" ({ cls := "java/lang/Object", name := "getClass", desc := "()Ljava/lang/Class;" } : Jvm.MethodName) ({ cls := "java/lang/Object", name := "getClass", desc := "()Ljava/lang/Class;" } : Jvm.MethodName)) ∈ lw_all := lw_g (lw_at lw_m3 191 rfl) rfl
theorem q1186 : (Jvm.Cond.selects "BottleLoop$3" ({ cls := "BottleLoop$Deed", name := "reason", desc := "()I" } : Jvm.MethodName) ({ cls := "BottleLoop$Deed", name := "reason", desc := "()I" } : Jvm.MethodName)) ∈ lw_all := lw_g (lw_at lw_m5 148 rfl) rfl
theorem q1283 : (Jvm.Cond.selects "BottleLoop$3" ({ cls := "BottleLoop$Deed", name := "check", desc := "()V" } : Jvm.MethodName) ({ cls := "BottleLoop$3", name := "check", desc := "()V" } : Jvm.MethodName)) ∈ lw_all := lw_g (lw_at lw_m6 5 rfl) rfl
theorem q1284 : (Jvm.Cond.instanceMethod ({ cls := "BottleLoop$3", name := "check", desc := "()V" } : Jvm.MethodName)) ∈ lw_all := lw_g (lw_at lw_m6 6 rfl) rfl
theorem q1285 : (Jvm.Cond.code ({ cls := "BottleLoop$3", name := "check", desc := "()V" } : Jvm.MethodName) prog_4_method_2_code (1 : Nat) (Option.none : Option Jvm.ClassFile.FieldType)) ∈ lw_all := lw_g (lw_at lw_m6 7 rfl) rfl
theorem q1286 : (Jvm.Cond.methodLink "BottleLoop$3" (35 : Nat) ({ cls := "java/util/ArrayList", name := "get", desc := "(I)Ljava/lang/Object;" } : Jvm.MethodName)) ∈ lw_all := lw_g (lw_at lw_m6 8 rfl) rfl
theorem q1287 : (Jvm.Cond.classLink "BottleLoop$3" (41 : Nat) "BottleLoop$Shop") ∈ lw_all := lw_g (lw_at lw_m6 9 rfl) rfl
theorem q1288 : (Jvm.Cond.methodLink "BottleLoop$3" (43 : Nat) ({ cls := "BottleLoop$Loop", name := "tryTake", desc := "(ILBottleLoop$Shop;I)V" } : Jvm.MethodName)) ∈ lw_all := lw_g (lw_at lw_m6 10 rfl) rfl
theorem q1380 : (Jvm.Cond.selects "BottleLoop$3" ({ cls := "BottleLoop$Deed", name := "does", desc := "()I" } : Jvm.MethodName) ({ cls := "BottleLoop$3", name := "does", desc := "()I" } : Jvm.MethodName)) ∈ lw_all := lw_g (lw_at lw_m6 102 rfl) rfl
theorem q1381 : (Jvm.Cond.instanceMethod ({ cls := "BottleLoop$3", name := "does", desc := "()I" } : Jvm.MethodName)) ∈ lw_all := lw_g (lw_at lw_m6 103 rfl) rfl
theorem q1382 : (Jvm.Cond.code ({ cls := "BottleLoop$3", name := "does", desc := "()I" } : Jvm.MethodName) prog_4_method_3_code (1 : Nat) (Option.some Jvm.ClassFile.FieldType.int)) ∈ lw_all := lw_g (lw_at lw_m6 104 rfl) rfl
theorem q1383 : (Jvm.Cond.methodLink "BottleLoop$3" (47 : Nat) ({ cls := "BottleLoop$Loop", name := "take", desc := "(ILBottleLoop$Shop;I)I" } : Jvm.MethodName)) ∈ lw_all := lw_g (lw_at lw_m6 105 rfl) rfl
theorem q1515 : (Jvm.Cond.instantiable "BottleLoop$3" (5 : Nat)) ∈ lw_all := lw_g (lw_at lw_m6 237 rfl) rfl
theorem q1517 : (Jvm.Cond.instanceMethod ({ cls := "BottleLoop$3", name := "<init>", desc := "(LBottleLoop;III)V" } : Jvm.MethodName)) ∈ lw_all := lw_g (lw_at lw_m6 239 rfl) rfl
theorem q1518 : (Jvm.Cond.code ({ cls := "BottleLoop$3", name := "<init>", desc := "(LBottleLoop;III)V" } : Jvm.MethodName) prog_4_method_1_code (5 : Nat) (Option.none : Option Jvm.ClassFile.FieldType)) ∈ lw_all := lw_g (lw_at lw_m7 0 rfl) rfl
theorem q1519 : (Jvm.Cond.methodLinkNest "BottleLoop$3" (17 : Nat) ({ cls := "BottleLoop$Deed", name := "<init>", desc := "(LBottleLoop;)V" } : Jvm.MethodName) "BottleLoop") ∈ lw_tbl := lw_at lw_m7 1 rfl
theorem q1520 : (Jvm.Cond.fieldLink "BottleLoop$3" (7 : Nat) "BottleLoop$3" "val$brand" "I") ∈ lw_all := lw_g (lw_at lw_m7 2 rfl) rfl
theorem q1521 : (Jvm.Cond.fieldLink "BottleLoop$3" (11 : Nat) "BottleLoop$3" "val$shop" "I") ∈ lw_all := lw_g (lw_at lw_m7 3 rfl) rfl
theorem q1522 : (Jvm.Cond.fieldLink "BottleLoop$3" (14 : Nat) "BottleLoop$3" "val$many" "I") ∈ lw_all := lw_g (lw_at lw_m7 4 rfl) rfl
theorem q1523 : (Jvm.Cond.fieldLink "BottleLoop$3" (1 : Nat) "BottleLoop$3" "this$0" "LBottleLoop;") ∈ lw_all := lw_g (lw_at lw_m7 5 rfl) rfl
theorem q1524 : (Jvm.Cond.laysFinal "BottleLoop$3" "BottleLoop$3" "val$brand" "I") ∈ lw_all := lw_g (lw_at lw_m7 6 rfl) rfl
theorem q1525 : (Jvm.Cond.soleField "BottleLoop$3" "val$brand") ∈ lw_all := lw_g (lw_at lw_m7 7 rfl) rfl
theorem q1526 : (Jvm.Cond.laysFinal "BottleLoop$3" "BottleLoop$3" "val$shop" "I") ∈ lw_all := lw_g (lw_at lw_m7 8 rfl) rfl
theorem q1527 : (Jvm.Cond.soleField "BottleLoop$3" "val$shop") ∈ lw_all := lw_g (lw_at lw_m7 9 rfl) rfl
theorem q1528 : (Jvm.Cond.laysFinal "BottleLoop$3" "BottleLoop$3" "val$many" "I") ∈ lw_all := lw_g (lw_at lw_m7 10 rfl) rfl
theorem q1529 : (Jvm.Cond.soleField "BottleLoop$3" "val$many") ∈ lw_all := lw_g (lw_at lw_m7 11 rfl) rfl
theorem q1530 : (Jvm.Cond.laysFinal "BottleLoop$3" "BottleLoop$3" "this$0" "LBottleLoop;") ∈ lw_all := lw_g (lw_at lw_m7 12 rfl) rfl
theorem q1531 : (Jvm.Cond.soleField "BottleLoop$3" "this$0") ∈ lw_all := lw_g (lw_at lw_m7 13 rfl) rfl
theorem q1532 : (Jvm.Cond.laysFinal "BottleLoop$3" "BottleLoop$Deed" "this$0" "LBottleLoop;") ∈ lw_all := lw_g (lw_at lw_m7 14 rfl) rfl
theorem q1533 : (Jvm.Cond.superclass "BottleLoop$3" "BottleLoop$Deed") ∈ lw_all := lw_g (lw_at lw_m7 15 rfl) rfl
theorem q1736 : (Jvm.Cond.selects "BottleLoop$3" ({ cls := "BottleLoop$Deed", name := "order", desc := "()V" } : Jvm.MethodName) ({ cls := "BottleLoop$Deed", name := "order", desc := "()V" } : Jvm.MethodName)) ∈ lw_all := lw_g (lw_at lw_m7 218 rfl) rfl
theorem q2216 : (Jvm.Cond.selects "BottleLoop$3" ({ cls := "BottleLoop$Deed", name := "done", desc := "()I" } : Jvm.MethodName) ({ cls := "BottleLoop$Deed", name := "done", desc := "()I" } : Jvm.MethodName)) ∈ lw_all := lw_g (lw_at lw_m9 218 rfl) rfl
theorem q2247 : (Jvm.Cond.castable "BottleLoop$3" "java/lang/Object") ∈ lw_tbl := lw_at lw_m10 9 rfl
theorem in_X14 : ∀ w ∈ wsX140, w ∈ lw_all := lw_in wsX140 [1532, 1524, 1526, 1528, 1530] (by decide +kernel) (by decide +kernel)
/-! BottleLoop$4 -/
set_option maxRecDepth 100000
def RX15 : String := "BottleLoop$4"
def TX15 : u_T := fun k => match k with
  | 0 => ("BottleLoop$Deed", "this$0", "LBottleLoop;", true)
  | 1 => ("BottleLoop$4", "val$brand", "I", true)
  | 2 => ("BottleLoop$4", "val$shop", "I", true)
  | 3 => ("BottleLoop$4", "val$many", "I", true)
  | _ => ("BottleLoop$4", "this$0", "LBottleLoop;", true)
def tyX15 : Nat → FieldType := fun k => match k with
  | 0 => .object "BottleLoop"
  | 1 => .int
  | 2 => .int
  | 3 => .int
  | _ => .object "BottleLoop"
abbrev wsX150 : List Cond := u_ws RX15 TX15 5
-- two fields of one name: no nmX15
theorem tyX15_ok : ∀ k, k < 5 → parseFieldDescriptor (TX15 k).2.2.1 = some (tyX15 k) := by decide +kernel
abbrev cX15_check : ByteArray := prog_5_method_2_code
def yX15_check : MethodName := ⟨RX15, "check", "()V"⟩
def dkwX15_check_1 : List UInt8 := [180, 0, 11, 182, 0, 35, 192, 0, 41, 42, 180, 0, 14, 182, 0, 43, 177]
abbrev dktX15_check_1 : List UInt8 := dkwX15_check_1 ++ []
def dkwX15_check_0 : List UInt8 := [42, 180, 0, 1, 180, 0, 23, 42, 180, 0, 7, 42, 180, 0, 1, 180, 0, 23, 180, 0, 29, 42]
abbrev dktX15_check_0 : List UInt8 := dkwX15_check_0 ++ dktX15_check_1
theorem dksX15_check_0 : cX15_check.data.toList.drop 0 = dktX15_check_0 := by decide +kernel
theorem dksX15_check_1 : cX15_check.data.toList.drop 22 = dktX15_check_1 := dk_seg dksX15_check_0 22 rfl rfl
theorem dX15_check_0 : decode cX15_check 0 = .ok (.aload_n 0, 1) := dk_42 (dk_at dksX15_check_0 0 rfl rfl)
theorem dX15_check_1 : decode cX15_check 1 = .ok (.getfield 1, 3) := dk_180 0 1 (dk_at dksX15_check_0 1 rfl rfl)
theorem dX15_check_4 : decode cX15_check 4 = .ok (.getfield 23, 3) := dk_180 0 23 (dk_at dksX15_check_0 4 rfl rfl)
theorem dX15_check_7 : decode cX15_check 7 = .ok (.aload_n 0, 1) := dk_42 (dk_at dksX15_check_0 7 rfl rfl)
theorem dX15_check_8 : decode cX15_check 8 = .ok (.getfield 7, 3) := dk_180 0 7 (dk_at dksX15_check_0 8 rfl rfl)
theorem dX15_check_11 : decode cX15_check 11 = .ok (.aload_n 0, 1) := dk_42 (dk_at dksX15_check_0 11 rfl rfl)
theorem dX15_check_12 : decode cX15_check 12 = .ok (.getfield 1, 3) := dk_180 0 1 (dk_at dksX15_check_0 12 rfl rfl)
theorem dX15_check_15 : decode cX15_check 15 = .ok (.getfield 23, 3) := dk_180 0 23 (dk_at dksX15_check_0 15 rfl rfl)
theorem dX15_check_18 : decode cX15_check 18 = .ok (.getfield 29, 3) := dk_180 0 29 (dk_at dksX15_check_0 18 rfl rfl)
theorem dX15_check_21 : decode cX15_check 21 = .ok (.aload_n 0, 1) := dk_42 (dk_at dksX15_check_0 21 rfl rfl)
theorem dX15_check_22 : decode cX15_check 22 = .ok (.getfield 11, 3) := dk_180 0 11 (dk_at dksX15_check_1 0 rfl rfl)
theorem dX15_check_25 : decode cX15_check 25 = .ok (.invokevirtual 35, 3) := dk_182 0 35 (dk_at dksX15_check_1 3 rfl rfl)
theorem dX15_check_28 : decode cX15_check 28 = .ok (.checkcast 41, 3) := dk_192 0 41 (dk_at dksX15_check_1 6 rfl rfl)
theorem dX15_check_31 : decode cX15_check 31 = .ok (.aload_n 0, 1) := dk_42 (dk_at dksX15_check_1 9 rfl rfl)
theorem dX15_check_32 : decode cX15_check 32 = .ok (.getfield 14, 3) := dk_180 0 14 (dk_at dksX15_check_1 10 rfl rfl)
theorem dX15_check_35 : decode cX15_check 35 = .ok (.invokevirtual 43, 3) := dk_182 0 43 (dk_at dksX15_check_1 13 rfl rfl)
theorem dX15_check_38 : decode cX15_check 38 = .ok (.return_, 1) := dk_177 (dk_at dksX15_check_1 16 rfl rfl)
abbrev cX15_does : ByteArray := prog_5_method_3_code
def yX15_does : MethodName := ⟨RX15, "does", "()I"⟩
def dkwX15_does_1 : List UInt8 := [180, 0, 11, 182, 0, 35, 192, 0, 41, 42, 180, 0, 14, 182, 0, 47, 172]
abbrev dktX15_does_1 : List UInt8 := dkwX15_does_1 ++ []
def dkwX15_does_0 : List UInt8 := [42, 180, 0, 1, 180, 0, 23, 42, 180, 0, 7, 42, 180, 0, 1, 180, 0, 23, 180, 0, 29, 42]
abbrev dktX15_does_0 : List UInt8 := dkwX15_does_0 ++ dktX15_does_1
theorem dksX15_does_0 : cX15_does.data.toList.drop 0 = dktX15_does_0 := by decide +kernel
theorem dksX15_does_1 : cX15_does.data.toList.drop 22 = dktX15_does_1 := dk_seg dksX15_does_0 22 rfl rfl
theorem dX15_does_0 : decode cX15_does 0 = .ok (.aload_n 0, 1) := dk_42 (dk_at dksX15_does_0 0 rfl rfl)
theorem dX15_does_1 : decode cX15_does 1 = .ok (.getfield 1, 3) := dk_180 0 1 (dk_at dksX15_does_0 1 rfl rfl)
theorem dX15_does_4 : decode cX15_does 4 = .ok (.getfield 23, 3) := dk_180 0 23 (dk_at dksX15_does_0 4 rfl rfl)
theorem dX15_does_7 : decode cX15_does 7 = .ok (.aload_n 0, 1) := dk_42 (dk_at dksX15_does_0 7 rfl rfl)
theorem dX15_does_8 : decode cX15_does 8 = .ok (.getfield 7, 3) := dk_180 0 7 (dk_at dksX15_does_0 8 rfl rfl)
theorem dX15_does_11 : decode cX15_does 11 = .ok (.aload_n 0, 1) := dk_42 (dk_at dksX15_does_0 11 rfl rfl)
theorem dX15_does_12 : decode cX15_does 12 = .ok (.getfield 1, 3) := dk_180 0 1 (dk_at dksX15_does_0 12 rfl rfl)
theorem dX15_does_15 : decode cX15_does 15 = .ok (.getfield 23, 3) := dk_180 0 23 (dk_at dksX15_does_0 15 rfl rfl)
theorem dX15_does_18 : decode cX15_does 18 = .ok (.getfield 29, 3) := dk_180 0 29 (dk_at dksX15_does_0 18 rfl rfl)
theorem dX15_does_21 : decode cX15_does 21 = .ok (.aload_n 0, 1) := dk_42 (dk_at dksX15_does_0 21 rfl rfl)
theorem dX15_does_22 : decode cX15_does 22 = .ok (.getfield 11, 3) := dk_180 0 11 (dk_at dksX15_does_1 0 rfl rfl)
theorem dX15_does_25 : decode cX15_does 25 = .ok (.invokevirtual 35, 3) := dk_182 0 35 (dk_at dksX15_does_1 3 rfl rfl)
theorem dX15_does_28 : decode cX15_does 28 = .ok (.checkcast 41, 3) := dk_192 0 41 (dk_at dksX15_does_1 6 rfl rfl)
theorem dX15_does_31 : decode cX15_does 31 = .ok (.aload_n 0, 1) := dk_42 (dk_at dksX15_does_1 9 rfl rfl)
theorem dX15_does_32 : decode cX15_does 32 = .ok (.getfield 14, 3) := dk_180 0 14 (dk_at dksX15_does_1 10 rfl rfl)
theorem dX15_does_35 : decode cX15_does 35 = .ok (.invokevirtual 47, 3) := dk_182 0 47 (dk_at dksX15_does_1 13 rfl rfl)
theorem dX15_does_38 : decode cX15_does 38 = .ok (.ireturn, 1) := dk_172 (dk_at dksX15_does_1 16 rfl rfl)
abbrev cX15_init : ByteArray := prog_5_method_1_code
def yX15_init : MethodName := ⟨RX15, "<init>", "(LBottleLoop;III)V"⟩
def dkwX15_init_1 : List UInt8 := [183, 0, 17, 177]
abbrev dktX15_init_1 : List UInt8 := dkwX15_init_1 ++ []
def dkwX15_init_0 : List UInt8 := [42, 43, 181, 0, 1, 42, 28, 181, 0, 7, 42, 29, 181, 0, 11, 42, 21, 4, 181, 0, 14, 42, 43]
abbrev dktX15_init_0 : List UInt8 := dkwX15_init_0 ++ dktX15_init_1
theorem dksX15_init_0 : cX15_init.data.toList.drop 0 = dktX15_init_0 := by decide +kernel
theorem dksX15_init_1 : cX15_init.data.toList.drop 23 = dktX15_init_1 := dk_seg dksX15_init_0 23 rfl rfl
theorem dX15_init_0 : decode cX15_init 0 = .ok (.aload_n 0, 1) := dk_42 (dk_at dksX15_init_0 0 rfl rfl)
theorem dX15_init_1 : decode cX15_init 1 = .ok (.aload_n 1, 1) := dk_43 (dk_at dksX15_init_0 1 rfl rfl)
theorem dX15_init_2 : decode cX15_init 2 = .ok (.putfield 1, 3) := dk_181 0 1 (dk_at dksX15_init_0 2 rfl rfl)
theorem dX15_init_5 : decode cX15_init 5 = .ok (.aload_n 0, 1) := dk_42 (dk_at dksX15_init_0 5 rfl rfl)
theorem dX15_init_6 : decode cX15_init 6 = .ok (.iload_n 2, 1) := dk_28 (dk_at dksX15_init_0 6 rfl rfl)
theorem dX15_init_7 : decode cX15_init 7 = .ok (.putfield 7, 3) := dk_181 0 7 (dk_at dksX15_init_0 7 rfl rfl)
theorem dX15_init_10 : decode cX15_init 10 = .ok (.aload_n 0, 1) := dk_42 (dk_at dksX15_init_0 10 rfl rfl)
theorem dX15_init_11 : decode cX15_init 11 = .ok (.iload_n 3, 1) := dk_29 (dk_at dksX15_init_0 11 rfl rfl)
theorem dX15_init_12 : decode cX15_init 12 = .ok (.putfield 11, 3) := dk_181 0 11 (dk_at dksX15_init_0 12 rfl rfl)
theorem dX15_init_15 : decode cX15_init 15 = .ok (.aload_n 0, 1) := dk_42 (dk_at dksX15_init_0 15 rfl rfl)
theorem dX15_init_16 : decode cX15_init 16 = .ok (.iload 4, 2) := dk_21 4 (dk_at dksX15_init_0 16 rfl rfl)
theorem dX15_init_18 : decode cX15_init 18 = .ok (.putfield 14, 3) := dk_181 0 14 (dk_at dksX15_init_0 18 rfl rfl)
theorem dX15_init_21 : decode cX15_init 21 = .ok (.aload_n 0, 1) := dk_42 (dk_at dksX15_init_0 21 rfl rfl)
theorem dX15_init_22 : decode cX15_init 22 = .ok (.aload_n 1, 1) := dk_43 (dk_at dksX15_init_0 22 rfl rfl)
theorem dX15_init_23 : decode cX15_init 23 = .ok (.invokespecial 17, 3) := dk_183 0 17 (dk_at dksX15_init_1 0 rfl rfl)
theorem dX15_init_26 : decode cX15_init 26 = .ok (.return_, 1) := dk_177 (dk_at dksX15_init_1 3 rfl rfl)
theorem q113 : (Jvm.Cond.initialized "BottleLoop$4") ∈ lw_all := lw_g (lw_at lw_m1 35 rfl) rfl
theorem q178 : (Jvm.Cond.fieldLinkNest "BottleLoop$4" (29 : Nat) "BottleLoop$Loop" "shops" "Ljava/util/ArrayList;" "BottleLoop") ∈ lw_tbl := lw_at lw_m1 100 rfl
theorem q251 : (Jvm.Cond.fieldLinkNest "BottleLoop$4" (23 : Nat) "BottleLoop" "now" "LBottleLoop$Loop;" "BottleLoop") ∈ lw_tbl := lw_at lw_m1 173 rfl
theorem q750 : (Jvm.Cond.selects "BottleLoop$4" ({ cls := "java/lang/Object", name := "getClass", desc := "()Ljava/lang/Class;" } : Jvm.MethodName) ({ cls := "java/lang/Object", name := "getClass", desc := "()Ljava/lang/Class;" } : Jvm.MethodName)) ∈ lw_all := lw_g (lw_at lw_m3 192 rfl) rfl
theorem q1187 : (Jvm.Cond.selects "BottleLoop$4" ({ cls := "BottleLoop$Deed", name := "reason", desc := "()I" } : Jvm.MethodName) ({ cls := "BottleLoop$Deed", name := "reason", desc := "()I" } : Jvm.MethodName)) ∈ lw_all := lw_g (lw_at lw_m5 149 rfl) rfl
theorem q1292 : (Jvm.Cond.selects "BottleLoop$4" ({ cls := "BottleLoop$Deed", name := "check", desc := "()V" } : Jvm.MethodName) ({ cls := "BottleLoop$4", name := "check", desc := "()V" } : Jvm.MethodName)) ∈ lw_all := lw_g (lw_at lw_m6 14 rfl) rfl
theorem q1293 : (Jvm.Cond.instanceMethod ({ cls := "BottleLoop$4", name := "check", desc := "()V" } : Jvm.MethodName)) ∈ lw_all := lw_g (lw_at lw_m6 15 rfl) rfl
theorem q1294 : (Jvm.Cond.code ({ cls := "BottleLoop$4", name := "check", desc := "()V" } : Jvm.MethodName) prog_5_method_2_code (1 : Nat) (Option.none : Option Jvm.ClassFile.FieldType)) ∈ lw_all := lw_g (lw_at lw_m6 16 rfl) rfl
theorem q1295 : (Jvm.Cond.methodLink "BottleLoop$4" (35 : Nat) ({ cls := "java/util/ArrayList", name := "get", desc := "(I)Ljava/lang/Object;" } : Jvm.MethodName)) ∈ lw_all := lw_g (lw_at lw_m6 17 rfl) rfl
theorem q1296 : (Jvm.Cond.classLink "BottleLoop$4" (41 : Nat) "BottleLoop$Shop") ∈ lw_all := lw_g (lw_at lw_m6 18 rfl) rfl
theorem q1297 : (Jvm.Cond.methodLink "BottleLoop$4" (43 : Nat) ({ cls := "BottleLoop$Loop", name := "tryBreak", desc := "(ILBottleLoop$Shop;I)V" } : Jvm.MethodName)) ∈ lw_all := lw_g (lw_at lw_m6 19 rfl) rfl
theorem q1387 : (Jvm.Cond.selects "BottleLoop$4" ({ cls := "BottleLoop$Deed", name := "does", desc := "()I" } : Jvm.MethodName) ({ cls := "BottleLoop$4", name := "does", desc := "()I" } : Jvm.MethodName)) ∈ lw_all := lw_g (lw_at lw_m6 109 rfl) rfl
theorem q1388 : (Jvm.Cond.instanceMethod ({ cls := "BottleLoop$4", name := "does", desc := "()I" } : Jvm.MethodName)) ∈ lw_all := lw_g (lw_at lw_m6 110 rfl) rfl
theorem q1389 : (Jvm.Cond.code ({ cls := "BottleLoop$4", name := "does", desc := "()I" } : Jvm.MethodName) prog_5_method_3_code (1 : Nat) (Option.some Jvm.ClassFile.FieldType.int)) ∈ lw_all := lw_g (lw_at lw_m6 111 rfl) rfl
theorem q1390 : (Jvm.Cond.methodLink "BottleLoop$4" (47 : Nat) ({ cls := "BottleLoop$Loop", name := "breaks", desc := "(ILBottleLoop$Shop;I)I" } : Jvm.MethodName)) ∈ lw_all := lw_g (lw_at lw_m6 112 rfl) rfl
theorem q1546 : (Jvm.Cond.instantiable "BottleLoop$4" (5 : Nat)) ∈ lw_all := lw_g (lw_at lw_m7 28 rfl) rfl
theorem q1548 : (Jvm.Cond.instanceMethod ({ cls := "BottleLoop$4", name := "<init>", desc := "(LBottleLoop;III)V" } : Jvm.MethodName)) ∈ lw_all := lw_g (lw_at lw_m7 30 rfl) rfl
theorem q1549 : (Jvm.Cond.code ({ cls := "BottleLoop$4", name := "<init>", desc := "(LBottleLoop;III)V" } : Jvm.MethodName) prog_5_method_1_code (5 : Nat) (Option.none : Option Jvm.ClassFile.FieldType)) ∈ lw_all := lw_g (lw_at lw_m7 31 rfl) rfl
theorem q1550 : (Jvm.Cond.methodLinkNest "BottleLoop$4" (17 : Nat) ({ cls := "BottleLoop$Deed", name := "<init>", desc := "(LBottleLoop;)V" } : Jvm.MethodName) "BottleLoop") ∈ lw_tbl := lw_at lw_m7 32 rfl
theorem q1551 : (Jvm.Cond.fieldLink "BottleLoop$4" (7 : Nat) "BottleLoop$4" "val$brand" "I") ∈ lw_all := lw_g (lw_at lw_m7 33 rfl) rfl
theorem q1552 : (Jvm.Cond.fieldLink "BottleLoop$4" (11 : Nat) "BottleLoop$4" "val$shop" "I") ∈ lw_all := lw_g (lw_at lw_m7 34 rfl) rfl
theorem q1553 : (Jvm.Cond.fieldLink "BottleLoop$4" (14 : Nat) "BottleLoop$4" "val$many" "I") ∈ lw_all := lw_g (lw_at lw_m7 35 rfl) rfl
theorem q1554 : (Jvm.Cond.fieldLink "BottleLoop$4" (1 : Nat) "BottleLoop$4" "this$0" "LBottleLoop;") ∈ lw_all := lw_g (lw_at lw_m7 36 rfl) rfl
theorem q1555 : (Jvm.Cond.laysFinal "BottleLoop$4" "BottleLoop$4" "val$brand" "I") ∈ lw_all := lw_g (lw_at lw_m7 37 rfl) rfl
theorem q1556 : (Jvm.Cond.soleField "BottleLoop$4" "val$brand") ∈ lw_all := lw_g (lw_at lw_m7 38 rfl) rfl
theorem q1557 : (Jvm.Cond.laysFinal "BottleLoop$4" "BottleLoop$4" "val$shop" "I") ∈ lw_all := lw_g (lw_at lw_m7 39 rfl) rfl
theorem q1558 : (Jvm.Cond.soleField "BottleLoop$4" "val$shop") ∈ lw_all := lw_g (lw_at lw_m7 40 rfl) rfl
theorem q1559 : (Jvm.Cond.laysFinal "BottleLoop$4" "BottleLoop$4" "val$many" "I") ∈ lw_all := lw_g (lw_at lw_m7 41 rfl) rfl
theorem q1560 : (Jvm.Cond.soleField "BottleLoop$4" "val$many") ∈ lw_all := lw_g (lw_at lw_m7 42 rfl) rfl
theorem q1561 : (Jvm.Cond.laysFinal "BottleLoop$4" "BottleLoop$4" "this$0" "LBottleLoop;") ∈ lw_all := lw_g (lw_at lw_m7 43 rfl) rfl
theorem q1562 : (Jvm.Cond.soleField "BottleLoop$4" "this$0") ∈ lw_all := lw_g (lw_at lw_m7 44 rfl) rfl
theorem q1563 : (Jvm.Cond.laysFinal "BottleLoop$4" "BottleLoop$Deed" "this$0" "LBottleLoop;") ∈ lw_all := lw_g (lw_at lw_m7 45 rfl) rfl
theorem q1564 : (Jvm.Cond.superclass "BottleLoop$4" "BottleLoop$Deed") ∈ lw_all := lw_g (lw_at lw_m7 46 rfl) rfl
theorem q1737 : (Jvm.Cond.selects "BottleLoop$4" ({ cls := "BottleLoop$Deed", name := "order", desc := "()V" } : Jvm.MethodName) ({ cls := "BottleLoop$Deed", name := "order", desc := "()V" } : Jvm.MethodName)) ∈ lw_all := lw_g (lw_at lw_m7 219 rfl) rfl
theorem q2217 : (Jvm.Cond.selects "BottleLoop$4" ({ cls := "BottleLoop$Deed", name := "done", desc := "()I" } : Jvm.MethodName) ({ cls := "BottleLoop$Deed", name := "done", desc := "()I" } : Jvm.MethodName)) ∈ lw_all := lw_g (lw_at lw_m9 219 rfl) rfl
theorem q2248 : (Jvm.Cond.castable "BottleLoop$4" "java/lang/Object") ∈ lw_tbl := lw_at lw_m10 10 rfl
theorem in_X15 : ∀ w ∈ wsX150, w ∈ lw_all := lw_in wsX150 [1563, 1555, 1557, 1559, 1561] (by decide +kernel) (by decide +kernel)
/-! BottleLoop$7 -/
set_option maxRecDepth 100000
def RX16 : String := "BottleLoop$7"
def TX16 : u_T := fun k => match k with
  | 0 => ("BottleLoop$Deed", "this$0", "LBottleLoop;", true)
  | 1 => ("BottleLoop$7", "val$brand", "I", true)
  | 2 => ("BottleLoop$7", "val$many", "I", true)
  | _ => ("BottleLoop$7", "this$0", "LBottleLoop;", true)
def tyX16 : Nat → FieldType := fun k => match k with
  | 0 => .object "BottleLoop"
  | 1 => .int
  | 2 => .int
  | _ => .object "BottleLoop"
abbrev wsX160 : List Cond := u_ws RX16 TX16 4
-- two fields of one name: no nmX16
theorem tyX16_ok : ∀ k, k < 4 → parseFieldDescriptor (TX16 k).2.2.1 = some (tyX16 k) := by decide +kernel
abbrev cX16_check : ByteArray := prog_8_method_2_code
def yX16_check : MethodName := ⟨RX16, "check", "()V"⟩
def dkwX16_check_1 : List UInt8 := [192, 0, 38, 42, 180, 0, 11, 182, 0, 40, 177]
abbrev dktX16_check_1 : List UInt8 := dkwX16_check_1 ++ []
def dkwX16_check_0 : List UInt8 := [42, 180, 0, 1, 180, 0, 20, 42, 180, 0, 1, 180, 0, 20, 180, 0, 26, 42, 180, 0, 7, 182, 0, 32]
abbrev dktX16_check_0 : List UInt8 := dkwX16_check_0 ++ dktX16_check_1
theorem dksX16_check_0 : cX16_check.data.toList.drop 0 = dktX16_check_0 := by decide +kernel
theorem dksX16_check_1 : cX16_check.data.toList.drop 24 = dktX16_check_1 := dk_seg dksX16_check_0 24 rfl rfl
theorem dX16_check_0 : decode cX16_check 0 = .ok (.aload_n 0, 1) := dk_42 (dk_at dksX16_check_0 0 rfl rfl)
theorem dX16_check_1 : decode cX16_check 1 = .ok (.getfield 1, 3) := dk_180 0 1 (dk_at dksX16_check_0 1 rfl rfl)
theorem dX16_check_4 : decode cX16_check 4 = .ok (.getfield 20, 3) := dk_180 0 20 (dk_at dksX16_check_0 4 rfl rfl)
theorem dX16_check_7 : decode cX16_check 7 = .ok (.aload_n 0, 1) := dk_42 (dk_at dksX16_check_0 7 rfl rfl)
theorem dX16_check_8 : decode cX16_check 8 = .ok (.getfield 1, 3) := dk_180 0 1 (dk_at dksX16_check_0 8 rfl rfl)
theorem dX16_check_11 : decode cX16_check 11 = .ok (.getfield 20, 3) := dk_180 0 20 (dk_at dksX16_check_0 11 rfl rfl)
theorem dX16_check_14 : decode cX16_check 14 = .ok (.getfield 26, 3) := dk_180 0 26 (dk_at dksX16_check_0 14 rfl rfl)
theorem dX16_check_17 : decode cX16_check 17 = .ok (.aload_n 0, 1) := dk_42 (dk_at dksX16_check_0 17 rfl rfl)
theorem dX16_check_18 : decode cX16_check 18 = .ok (.getfield 7, 3) := dk_180 0 7 (dk_at dksX16_check_0 18 rfl rfl)
theorem dX16_check_21 : decode cX16_check 21 = .ok (.invokevirtual 32, 3) := dk_182 0 32 (dk_at dksX16_check_0 21 rfl rfl)
theorem dX16_check_24 : decode cX16_check 24 = .ok (.checkcast 38, 3) := dk_192 0 38 (dk_at dksX16_check_1 0 rfl rfl)
theorem dX16_check_27 : decode cX16_check 27 = .ok (.aload_n 0, 1) := dk_42 (dk_at dksX16_check_1 3 rfl rfl)
theorem dX16_check_28 : decode cX16_check 28 = .ok (.getfield 11, 3) := dk_180 0 11 (dk_at dksX16_check_1 4 rfl rfl)
theorem dX16_check_31 : decode cX16_check 31 = .ok (.invokevirtual 40, 3) := dk_182 0 40 (dk_at dksX16_check_1 7 rfl rfl)
theorem dX16_check_34 : decode cX16_check 34 = .ok (.return_, 1) := dk_177 (dk_at dksX16_check_1 10 rfl rfl)
abbrev cX16_does : ByteArray := prog_8_method_3_code
def yX16_does : MethodName := ⟨RX16, "does", "()I"⟩
def dkwX16_does_1 : List UInt8 := [192, 0, 38, 42, 180, 0, 11, 182, 0, 44, 172]
abbrev dktX16_does_1 : List UInt8 := dkwX16_does_1 ++ []
def dkwX16_does_0 : List UInt8 := [42, 180, 0, 1, 180, 0, 20, 42, 180, 0, 1, 180, 0, 20, 180, 0, 26, 42, 180, 0, 7, 182, 0, 32]
abbrev dktX16_does_0 : List UInt8 := dkwX16_does_0 ++ dktX16_does_1
theorem dksX16_does_0 : cX16_does.data.toList.drop 0 = dktX16_does_0 := by decide +kernel
theorem dksX16_does_1 : cX16_does.data.toList.drop 24 = dktX16_does_1 := dk_seg dksX16_does_0 24 rfl rfl
theorem dX16_does_0 : decode cX16_does 0 = .ok (.aload_n 0, 1) := dk_42 (dk_at dksX16_does_0 0 rfl rfl)
theorem dX16_does_1 : decode cX16_does 1 = .ok (.getfield 1, 3) := dk_180 0 1 (dk_at dksX16_does_0 1 rfl rfl)
theorem dX16_does_4 : decode cX16_does 4 = .ok (.getfield 20, 3) := dk_180 0 20 (dk_at dksX16_does_0 4 rfl rfl)
theorem dX16_does_7 : decode cX16_does 7 = .ok (.aload_n 0, 1) := dk_42 (dk_at dksX16_does_0 7 rfl rfl)
theorem dX16_does_8 : decode cX16_does 8 = .ok (.getfield 1, 3) := dk_180 0 1 (dk_at dksX16_does_0 8 rfl rfl)
theorem dX16_does_11 : decode cX16_does 11 = .ok (.getfield 20, 3) := dk_180 0 20 (dk_at dksX16_does_0 11 rfl rfl)
theorem dX16_does_14 : decode cX16_does 14 = .ok (.getfield 26, 3) := dk_180 0 26 (dk_at dksX16_does_0 14 rfl rfl)
theorem dX16_does_17 : decode cX16_does 17 = .ok (.aload_n 0, 1) := dk_42 (dk_at dksX16_does_0 17 rfl rfl)
theorem dX16_does_18 : decode cX16_does 18 = .ok (.getfield 7, 3) := dk_180 0 7 (dk_at dksX16_does_0 18 rfl rfl)
theorem dX16_does_21 : decode cX16_does 21 = .ok (.invokevirtual 32, 3) := dk_182 0 32 (dk_at dksX16_does_0 21 rfl rfl)
theorem dX16_does_24 : decode cX16_does 24 = .ok (.checkcast 38, 3) := dk_192 0 38 (dk_at dksX16_does_1 0 rfl rfl)
theorem dX16_does_27 : decode cX16_does 27 = .ok (.aload_n 0, 1) := dk_42 (dk_at dksX16_does_1 3 rfl rfl)
theorem dX16_does_28 : decode cX16_does 28 = .ok (.getfield 11, 3) := dk_180 0 11 (dk_at dksX16_does_1 4 rfl rfl)
theorem dX16_does_31 : decode cX16_does 31 = .ok (.invokevirtual 44, 3) := dk_182 0 44 (dk_at dksX16_does_1 7 rfl rfl)
theorem dX16_does_34 : decode cX16_does 34 = .ok (.ireturn, 1) := dk_172 (dk_at dksX16_does_1 10 rfl rfl)
abbrev cX16_init : ByteArray := prog_8_method_1_code
def yX16_init : MethodName := ⟨RX16, "<init>", "(LBottleLoop;II)V"⟩
def dkwX16_init_0 : List UInt8 := [42, 43, 181, 0, 1, 42, 28, 181, 0, 7, 42, 29, 181, 0, 11, 42, 43, 183, 0, 14, 177]
abbrev dktX16_init_0 : List UInt8 := dkwX16_init_0 ++ []
theorem dksX16_init_0 : cX16_init.data.toList.drop 0 = dktX16_init_0 := by decide +kernel
theorem dX16_init_0 : decode cX16_init 0 = .ok (.aload_n 0, 1) := dk_42 (dk_at dksX16_init_0 0 rfl rfl)
theorem dX16_init_1 : decode cX16_init 1 = .ok (.aload_n 1, 1) := dk_43 (dk_at dksX16_init_0 1 rfl rfl)
theorem dX16_init_2 : decode cX16_init 2 = .ok (.putfield 1, 3) := dk_181 0 1 (dk_at dksX16_init_0 2 rfl rfl)
theorem dX16_init_5 : decode cX16_init 5 = .ok (.aload_n 0, 1) := dk_42 (dk_at dksX16_init_0 5 rfl rfl)
theorem dX16_init_6 : decode cX16_init 6 = .ok (.iload_n 2, 1) := dk_28 (dk_at dksX16_init_0 6 rfl rfl)
theorem dX16_init_7 : decode cX16_init 7 = .ok (.putfield 7, 3) := dk_181 0 7 (dk_at dksX16_init_0 7 rfl rfl)
theorem dX16_init_10 : decode cX16_init 10 = .ok (.aload_n 0, 1) := dk_42 (dk_at dksX16_init_0 10 rfl rfl)
theorem dX16_init_11 : decode cX16_init 11 = .ok (.iload_n 3, 1) := dk_29 (dk_at dksX16_init_0 11 rfl rfl)
theorem dX16_init_12 : decode cX16_init 12 = .ok (.putfield 11, 3) := dk_181 0 11 (dk_at dksX16_init_0 12 rfl rfl)
theorem dX16_init_15 : decode cX16_init 15 = .ok (.aload_n 0, 1) := dk_42 (dk_at dksX16_init_0 15 rfl rfl)
theorem dX16_init_16 : decode cX16_init 16 = .ok (.aload_n 1, 1) := dk_43 (dk_at dksX16_init_0 16 rfl rfl)
theorem dX16_init_17 : decode cX16_init 17 = .ok (.invokespecial 14, 3) := dk_183 0 14 (dk_at dksX16_init_0 17 rfl rfl)
theorem dX16_init_20 : decode cX16_init 20 = .ok (.return_, 1) := dk_177 (dk_at dksX16_init_0 20 rfl rfl)
theorem q114 : (Jvm.Cond.initialized "BottleLoop$7") ∈ lw_all := lw_g (lw_at lw_m1 36 rfl) rfl
theorem q170 : (Jvm.Cond.fieldLinkNest "BottleLoop$7" (26 : Nat) "BottleLoop$Loop" "brands" "Ljava/util/ArrayList;" "BottleLoop") ∈ lw_tbl := lw_at lw_m1 92 rfl
theorem q254 : (Jvm.Cond.fieldLinkNest "BottleLoop$7" (20 : Nat) "BottleLoop" "now" "LBottleLoop$Loop;" "BottleLoop") ∈ lw_tbl := lw_at lw_m1 176 rfl
theorem q753 : (Jvm.Cond.selects "BottleLoop$7" ({ cls := "java/lang/Object", name := "getClass", desc := "()Ljava/lang/Class;" } : Jvm.MethodName) ({ cls := "java/lang/Object", name := "getClass", desc := "()Ljava/lang/Class;" } : Jvm.MethodName)) ∈ lw_all := lw_g (lw_at lw_m3 195 rfl) rfl
theorem q1190 : (Jvm.Cond.selects "BottleLoop$7" ({ cls := "BottleLoop$Deed", name := "reason", desc := "()I" } : Jvm.MethodName) ({ cls := "BottleLoop$Deed", name := "reason", desc := "()I" } : Jvm.MethodName)) ∈ lw_all := lw_g (lw_at lw_m5 152 rfl) rfl
theorem q1320 : (Jvm.Cond.selects "BottleLoop$7" ({ cls := "BottleLoop$Deed", name := "check", desc := "()V" } : Jvm.MethodName) ({ cls := "BottleLoop$7", name := "check", desc := "()V" } : Jvm.MethodName)) ∈ lw_all := lw_g (lw_at lw_m6 42 rfl) rfl
theorem q1321 : (Jvm.Cond.instanceMethod ({ cls := "BottleLoop$7", name := "check", desc := "()V" } : Jvm.MethodName)) ∈ lw_all := lw_g (lw_at lw_m6 43 rfl) rfl
theorem q1322 : (Jvm.Cond.code ({ cls := "BottleLoop$7", name := "check", desc := "()V" } : Jvm.MethodName) prog_8_method_2_code (1 : Nat) (Option.none : Option Jvm.ClassFile.FieldType)) ∈ lw_all := lw_g (lw_at lw_m6 44 rfl) rfl
theorem q1323 : (Jvm.Cond.methodLink "BottleLoop$7" (32 : Nat) ({ cls := "java/util/ArrayList", name := "get", desc := "(I)Ljava/lang/Object;" } : Jvm.MethodName)) ∈ lw_all := lw_g (lw_at lw_m6 45 rfl) rfl
theorem q1324 : (Jvm.Cond.classLink "BottleLoop$7" (38 : Nat) "BottleLoop$Brand") ∈ lw_all := lw_g (lw_at lw_m6 46 rfl) rfl
theorem q1325 : (Jvm.Cond.methodLink "BottleLoop$7" (40 : Nat) ({ cls := "BottleLoop$Loop", name := "tryLose", desc := "(LBottleLoop$Brand;I)V" } : Jvm.MethodName)) ∈ lw_all := lw_g (lw_at lw_m6 47 rfl) rfl
theorem q1411 : (Jvm.Cond.selects "BottleLoop$7" ({ cls := "BottleLoop$Deed", name := "does", desc := "()I" } : Jvm.MethodName) ({ cls := "BottleLoop$7", name := "does", desc := "()I" } : Jvm.MethodName)) ∈ lw_all := lw_g (lw_at lw_m6 133 rfl) rfl
theorem q1412 : (Jvm.Cond.instanceMethod ({ cls := "BottleLoop$7", name := "does", desc := "()I" } : Jvm.MethodName)) ∈ lw_all := lw_g (lw_at lw_m6 134 rfl) rfl
theorem q1413 : (Jvm.Cond.code ({ cls := "BottleLoop$7", name := "does", desc := "()I" } : Jvm.MethodName) prog_8_method_3_code (1 : Nat) (Option.some Jvm.ClassFile.FieldType.int)) ∈ lw_all := lw_g (lw_at lw_m6 135 rfl) rfl
theorem q1414 : (Jvm.Cond.methodLink "BottleLoop$7" (44 : Nat) ({ cls := "BottleLoop$Loop", name := "lose", desc := "(LBottleLoop$Brand;I)I" } : Jvm.MethodName)) ∈ lw_all := lw_g (lw_at lw_m6 136 rfl) rfl
theorem q1573 : (Jvm.Cond.instantiable "BottleLoop$7" (4 : Nat)) ∈ lw_all := lw_g (lw_at lw_m7 55 rfl) rfl
theorem q1575 : (Jvm.Cond.instanceMethod ({ cls := "BottleLoop$7", name := "<init>", desc := "(LBottleLoop;II)V" } : Jvm.MethodName)) ∈ lw_all := lw_g (lw_at lw_m7 57 rfl) rfl
theorem q1576 : (Jvm.Cond.code ({ cls := "BottleLoop$7", name := "<init>", desc := "(LBottleLoop;II)V" } : Jvm.MethodName) prog_8_method_1_code (4 : Nat) (Option.none : Option Jvm.ClassFile.FieldType)) ∈ lw_all := lw_g (lw_at lw_m7 58 rfl) rfl
theorem q1577 : (Jvm.Cond.methodLinkNest "BottleLoop$7" (14 : Nat) ({ cls := "BottleLoop$Deed", name := "<init>", desc := "(LBottleLoop;)V" } : Jvm.MethodName) "BottleLoop") ∈ lw_tbl := lw_at lw_m7 59 rfl
theorem q1578 : (Jvm.Cond.fieldLink "BottleLoop$7" (7 : Nat) "BottleLoop$7" "val$brand" "I") ∈ lw_all := lw_g (lw_at lw_m7 60 rfl) rfl
theorem q1579 : (Jvm.Cond.fieldLink "BottleLoop$7" (11 : Nat) "BottleLoop$7" "val$many" "I") ∈ lw_all := lw_g (lw_at lw_m7 61 rfl) rfl
theorem q1580 : (Jvm.Cond.fieldLink "BottleLoop$7" (1 : Nat) "BottleLoop$7" "this$0" "LBottleLoop;") ∈ lw_all := lw_g (lw_at lw_m7 62 rfl) rfl
theorem q1581 : (Jvm.Cond.laysFinal "BottleLoop$7" "BottleLoop$7" "val$brand" "I") ∈ lw_all := lw_g (lw_at lw_m7 63 rfl) rfl
theorem q1582 : (Jvm.Cond.soleField "BottleLoop$7" "val$brand") ∈ lw_all := lw_g (lw_at lw_m7 64 rfl) rfl
theorem q1583 : (Jvm.Cond.laysFinal "BottleLoop$7" "BottleLoop$7" "val$many" "I") ∈ lw_all := lw_g (lw_at lw_m7 65 rfl) rfl
theorem q1584 : (Jvm.Cond.soleField "BottleLoop$7" "val$many") ∈ lw_all := lw_g (lw_at lw_m7 66 rfl) rfl
theorem q1585 : (Jvm.Cond.laysFinal "BottleLoop$7" "BottleLoop$7" "this$0" "LBottleLoop;") ∈ lw_all := lw_g (lw_at lw_m7 67 rfl) rfl
theorem q1586 : (Jvm.Cond.soleField "BottleLoop$7" "this$0") ∈ lw_all := lw_g (lw_at lw_m7 68 rfl) rfl
theorem q1587 : (Jvm.Cond.laysFinal "BottleLoop$7" "BottleLoop$Deed" "this$0" "LBottleLoop;") ∈ lw_all := lw_g (lw_at lw_m7 69 rfl) rfl
theorem q1588 : (Jvm.Cond.superclass "BottleLoop$7" "BottleLoop$Deed") ∈ lw_all := lw_g (lw_at lw_m7 70 rfl) rfl
theorem q1590 : (Jvm.Cond.sameMethod "BottleLoop$7" "BottleLoop$Deed" "done" "()I") ∈ lw_all := lw_g (lw_at lw_m7 72 rfl) rfl
theorem q1591 : (Jvm.Cond.selects "BottleLoop$7" ({ cls := "BottleLoop$7", name := "done", desc := "()I" } : Jvm.MethodName) ({ cls := "BottleLoop$Deed", name := "done", desc := "()I" } : Jvm.MethodName)) ∈ lw_all := lw_g (lw_at lw_m7 73 rfl) rfl
theorem q1740 : (Jvm.Cond.selects "BottleLoop$7" ({ cls := "BottleLoop$Deed", name := "order", desc := "()V" } : Jvm.MethodName) ({ cls := "BottleLoop$Deed", name := "order", desc := "()V" } : Jvm.MethodName)) ∈ lw_all := lw_g (lw_at lw_m7 222 rfl) rfl
theorem q2220 : (Jvm.Cond.selects "BottleLoop$7" ({ cls := "BottleLoop$Deed", name := "done", desc := "()I" } : Jvm.MethodName) ({ cls := "BottleLoop$Deed", name := "done", desc := "()I" } : Jvm.MethodName)) ∈ lw_all := lw_g (lw_at lw_m9 222 rfl) rfl
theorem q2249 : (Jvm.Cond.castable "BottleLoop$7" "java/lang/Object") ∈ lw_tbl := lw_at lw_m10 11 rfl
theorem in_X16 : ∀ w ∈ wsX160, w ∈ lw_all := lw_in wsX160 [1587, 1581, 1583, 1585] (by decide +kernel) (by decide +kernel)
/-! BottleLoop$5 -/
set_option maxRecDepth 100000
def RX17 : String := "BottleLoop$5"
def TX17 : u_T := fun k => match k with
  | 0 => ("BottleLoop$Deed", "this$0", "LBottleLoop;", true)
  | 1 => ("BottleLoop$5", "val$shop", "I", true)
  | 2 => ("BottleLoop$5", "val$kind", "I", true)
  | 3 => ("BottleLoop$5", "val$crates", "I", true)
  | _ => ("BottleLoop$5", "this$0", "LBottleLoop;", true)
def tyX17 : Nat → FieldType := fun k => match k with
  | 0 => .object "BottleLoop"
  | 1 => .int
  | 2 => .int
  | 3 => .int
  | _ => .object "BottleLoop"
abbrev wsX170 : List Cond := u_ws RX17 TX17 5
-- two fields of one name: no nmX17
theorem tyX17_ok : ∀ k, k < 5 → parseFieldDescriptor (TX17 k).2.2.1 = some (tyX17 k) := by decide +kernel
abbrev cX17_check : ByteArray := prog_6_method_2_code
def yX17_check : MethodName := ⟨RX17, "check", "()V"⟩
def dkwX17_check_1 : List UInt8 := [192, 0, 41, 42, 180, 0, 11, 42, 180, 0, 14, 182, 0, 43, 177]
abbrev dktX17_check_1 : List UInt8 := dkwX17_check_1 ++ []
def dkwX17_check_0 : List UInt8 := [42, 180, 0, 1, 180, 0, 23, 42, 180, 0, 1, 180, 0, 23, 180, 0, 29, 42, 180, 0, 7, 182, 0, 35]
abbrev dktX17_check_0 : List UInt8 := dkwX17_check_0 ++ dktX17_check_1
theorem dksX17_check_0 : cX17_check.data.toList.drop 0 = dktX17_check_0 := by decide +kernel
theorem dksX17_check_1 : cX17_check.data.toList.drop 24 = dktX17_check_1 := dk_seg dksX17_check_0 24 rfl rfl
theorem dX17_check_0 : decode cX17_check 0 = .ok (.aload_n 0, 1) := dk_42 (dk_at dksX17_check_0 0 rfl rfl)
theorem dX17_check_1 : decode cX17_check 1 = .ok (.getfield 1, 3) := dk_180 0 1 (dk_at dksX17_check_0 1 rfl rfl)
theorem dX17_check_4 : decode cX17_check 4 = .ok (.getfield 23, 3) := dk_180 0 23 (dk_at dksX17_check_0 4 rfl rfl)
theorem dX17_check_7 : decode cX17_check 7 = .ok (.aload_n 0, 1) := dk_42 (dk_at dksX17_check_0 7 rfl rfl)
theorem dX17_check_8 : decode cX17_check 8 = .ok (.getfield 1, 3) := dk_180 0 1 (dk_at dksX17_check_0 8 rfl rfl)
theorem dX17_check_11 : decode cX17_check 11 = .ok (.getfield 23, 3) := dk_180 0 23 (dk_at dksX17_check_0 11 rfl rfl)
theorem dX17_check_14 : decode cX17_check 14 = .ok (.getfield 29, 3) := dk_180 0 29 (dk_at dksX17_check_0 14 rfl rfl)
theorem dX17_check_17 : decode cX17_check 17 = .ok (.aload_n 0, 1) := dk_42 (dk_at dksX17_check_0 17 rfl rfl)
theorem dX17_check_18 : decode cX17_check 18 = .ok (.getfield 7, 3) := dk_180 0 7 (dk_at dksX17_check_0 18 rfl rfl)
theorem dX17_check_21 : decode cX17_check 21 = .ok (.invokevirtual 35, 3) := dk_182 0 35 (dk_at dksX17_check_0 21 rfl rfl)
theorem dX17_check_24 : decode cX17_check 24 = .ok (.checkcast 41, 3) := dk_192 0 41 (dk_at dksX17_check_1 0 rfl rfl)
theorem dX17_check_27 : decode cX17_check 27 = .ok (.aload_n 0, 1) := dk_42 (dk_at dksX17_check_1 3 rfl rfl)
theorem dX17_check_28 : decode cX17_check 28 = .ok (.getfield 11, 3) := dk_180 0 11 (dk_at dksX17_check_1 4 rfl rfl)
theorem dX17_check_31 : decode cX17_check 31 = .ok (.aload_n 0, 1) := dk_42 (dk_at dksX17_check_1 7 rfl rfl)
theorem dX17_check_32 : decode cX17_check 32 = .ok (.getfield 14, 3) := dk_180 0 14 (dk_at dksX17_check_1 8 rfl rfl)
theorem dX17_check_35 : decode cX17_check 35 = .ok (.invokevirtual 43, 3) := dk_182 0 43 (dk_at dksX17_check_1 11 rfl rfl)
theorem dX17_check_38 : decode cX17_check 38 = .ok (.return_, 1) := dk_177 (dk_at dksX17_check_1 14 rfl rfl)
abbrev cX17_does : ByteArray := prog_6_method_3_code
def yX17_does : MethodName := ⟨RX17, "does", "()I"⟩
def dkwX17_does_1 : List UInt8 := [192, 0, 41, 42, 180, 0, 11, 42, 180, 0, 14, 42, 180, 0, 1, 180, 0, 47, 182, 0, 51, 172]
abbrev dktX17_does_1 : List UInt8 := dkwX17_does_1 ++ []
def dkwX17_does_0 : List UInt8 := [42, 180, 0, 1, 180, 0, 23, 42, 180, 0, 1, 180, 0, 23, 180, 0, 29, 42, 180, 0, 7, 182, 0, 35]
abbrev dktX17_does_0 : List UInt8 := dkwX17_does_0 ++ dktX17_does_1
theorem dksX17_does_0 : cX17_does.data.toList.drop 0 = dktX17_does_0 := by decide +kernel
theorem dksX17_does_1 : cX17_does.data.toList.drop 24 = dktX17_does_1 := dk_seg dksX17_does_0 24 rfl rfl
theorem dX17_does_0 : decode cX17_does 0 = .ok (.aload_n 0, 1) := dk_42 (dk_at dksX17_does_0 0 rfl rfl)
theorem dX17_does_1 : decode cX17_does 1 = .ok (.getfield 1, 3) := dk_180 0 1 (dk_at dksX17_does_0 1 rfl rfl)
theorem dX17_does_4 : decode cX17_does 4 = .ok (.getfield 23, 3) := dk_180 0 23 (dk_at dksX17_does_0 4 rfl rfl)
theorem dX17_does_7 : decode cX17_does 7 = .ok (.aload_n 0, 1) := dk_42 (dk_at dksX17_does_0 7 rfl rfl)
theorem dX17_does_8 : decode cX17_does 8 = .ok (.getfield 1, 3) := dk_180 0 1 (dk_at dksX17_does_0 8 rfl rfl)
theorem dX17_does_11 : decode cX17_does 11 = .ok (.getfield 23, 3) := dk_180 0 23 (dk_at dksX17_does_0 11 rfl rfl)
theorem dX17_does_14 : decode cX17_does 14 = .ok (.getfield 29, 3) := dk_180 0 29 (dk_at dksX17_does_0 14 rfl rfl)
theorem dX17_does_17 : decode cX17_does 17 = .ok (.aload_n 0, 1) := dk_42 (dk_at dksX17_does_0 17 rfl rfl)
theorem dX17_does_18 : decode cX17_does 18 = .ok (.getfield 7, 3) := dk_180 0 7 (dk_at dksX17_does_0 18 rfl rfl)
theorem dX17_does_21 : decode cX17_does 21 = .ok (.invokevirtual 35, 3) := dk_182 0 35 (dk_at dksX17_does_0 21 rfl rfl)
theorem dX17_does_24 : decode cX17_does 24 = .ok (.checkcast 41, 3) := dk_192 0 41 (dk_at dksX17_does_1 0 rfl rfl)
theorem dX17_does_27 : decode cX17_does 27 = .ok (.aload_n 0, 1) := dk_42 (dk_at dksX17_does_1 3 rfl rfl)
theorem dX17_does_28 : decode cX17_does 28 = .ok (.getfield 11, 3) := dk_180 0 11 (dk_at dksX17_does_1 4 rfl rfl)
theorem dX17_does_31 : decode cX17_does 31 = .ok (.aload_n 0, 1) := dk_42 (dk_at dksX17_does_1 7 rfl rfl)
theorem dX17_does_32 : decode cX17_does 32 = .ok (.getfield 14, 3) := dk_180 0 14 (dk_at dksX17_does_1 8 rfl rfl)
theorem dX17_does_35 : decode cX17_does 35 = .ok (.aload_n 0, 1) := dk_42 (dk_at dksX17_does_1 11 rfl rfl)
theorem dX17_does_36 : decode cX17_does 36 = .ok (.getfield 1, 3) := dk_180 0 1 (dk_at dksX17_does_1 12 rfl rfl)
theorem dX17_does_39 : decode cX17_does 39 = .ok (.getfield 47, 3) := dk_180 0 47 (dk_at dksX17_does_1 15 rfl rfl)
theorem dX17_does_42 : decode cX17_does 42 = .ok (.invokevirtual 51, 3) := dk_182 0 51 (dk_at dksX17_does_1 18 rfl rfl)
theorem dX17_does_45 : decode cX17_does 45 = .ok (.ireturn, 1) := dk_172 (dk_at dksX17_does_1 21 rfl rfl)
abbrev cX17_init : ByteArray := prog_6_method_1_code
def yX17_init : MethodName := ⟨RX17, "<init>", "(LBottleLoop;III)V"⟩
def dkwX17_init_1 : List UInt8 := [183, 0, 17, 177]
abbrev dktX17_init_1 : List UInt8 := dkwX17_init_1 ++ []
def dkwX17_init_0 : List UInt8 := [42, 43, 181, 0, 1, 42, 28, 181, 0, 7, 42, 29, 181, 0, 11, 42, 21, 4, 181, 0, 14, 42, 43]
abbrev dktX17_init_0 : List UInt8 := dkwX17_init_0 ++ dktX17_init_1
theorem dksX17_init_0 : cX17_init.data.toList.drop 0 = dktX17_init_0 := by decide +kernel
theorem dksX17_init_1 : cX17_init.data.toList.drop 23 = dktX17_init_1 := dk_seg dksX17_init_0 23 rfl rfl
theorem dX17_init_0 : decode cX17_init 0 = .ok (.aload_n 0, 1) := dk_42 (dk_at dksX17_init_0 0 rfl rfl)
theorem dX17_init_1 : decode cX17_init 1 = .ok (.aload_n 1, 1) := dk_43 (dk_at dksX17_init_0 1 rfl rfl)
theorem dX17_init_2 : decode cX17_init 2 = .ok (.putfield 1, 3) := dk_181 0 1 (dk_at dksX17_init_0 2 rfl rfl)
theorem dX17_init_5 : decode cX17_init 5 = .ok (.aload_n 0, 1) := dk_42 (dk_at dksX17_init_0 5 rfl rfl)
theorem dX17_init_6 : decode cX17_init 6 = .ok (.iload_n 2, 1) := dk_28 (dk_at dksX17_init_0 6 rfl rfl)
theorem dX17_init_7 : decode cX17_init 7 = .ok (.putfield 7, 3) := dk_181 0 7 (dk_at dksX17_init_0 7 rfl rfl)
theorem dX17_init_10 : decode cX17_init 10 = .ok (.aload_n 0, 1) := dk_42 (dk_at dksX17_init_0 10 rfl rfl)
theorem dX17_init_11 : decode cX17_init 11 = .ok (.iload_n 3, 1) := dk_29 (dk_at dksX17_init_0 11 rfl rfl)
theorem dX17_init_12 : decode cX17_init 12 = .ok (.putfield 11, 3) := dk_181 0 11 (dk_at dksX17_init_0 12 rfl rfl)
theorem dX17_init_15 : decode cX17_init 15 = .ok (.aload_n 0, 1) := dk_42 (dk_at dksX17_init_0 15 rfl rfl)
theorem dX17_init_16 : decode cX17_init 16 = .ok (.iload 4, 2) := dk_21 4 (dk_at dksX17_init_0 16 rfl rfl)
theorem dX17_init_18 : decode cX17_init 18 = .ok (.putfield 14, 3) := dk_181 0 14 (dk_at dksX17_init_0 18 rfl rfl)
theorem dX17_init_21 : decode cX17_init 21 = .ok (.aload_n 0, 1) := dk_42 (dk_at dksX17_init_0 21 rfl rfl)
theorem dX17_init_22 : decode cX17_init 22 = .ok (.aload_n 1, 1) := dk_43 (dk_at dksX17_init_0 22 rfl rfl)
theorem dX17_init_23 : decode cX17_init 23 = .ok (.invokespecial 17, 3) := dk_183 0 17 (dk_at dksX17_init_1 0 rfl rfl)
theorem dX17_init_26 : decode cX17_init 26 = .ok (.return_, 1) := dk_177 (dk_at dksX17_init_1 3 rfl rfl)
theorem q115 : (Jvm.Cond.initialized "BottleLoop$5") ∈ lw_all := lw_g (lw_at lw_m1 37 rfl) rfl
theorem q174 : (Jvm.Cond.fieldLinkNest "BottleLoop$5" (29 : Nat) "BottleLoop$Loop" "shops" "Ljava/util/ArrayList;" "BottleLoop") ∈ lw_tbl := lw_at lw_m1 96 rfl
theorem q252 : (Jvm.Cond.fieldLinkNest "BottleLoop$5" (23 : Nat) "BottleLoop" "now" "LBottleLoop$Loop;" "BottleLoop") ∈ lw_tbl := lw_at lw_m1 174 rfl
theorem q261 : (Jvm.Cond.fieldLinkNest "BottleLoop$5" (47 : Nat) "BottleLoop" "taken" "[I" "BottleLoop") ∈ lw_tbl := lw_at lw_m1 183 rfl
theorem q751 : (Jvm.Cond.selects "BottleLoop$5" ({ cls := "java/lang/Object", name := "getClass", desc := "()Ljava/lang/Class;" } : Jvm.MethodName) ({ cls := "java/lang/Object", name := "getClass", desc := "()Ljava/lang/Class;" } : Jvm.MethodName)) ∈ lw_all := lw_g (lw_at lw_m3 193 rfl) rfl
theorem q1188 : (Jvm.Cond.selects "BottleLoop$5" ({ cls := "BottleLoop$Deed", name := "reason", desc := "()I" } : Jvm.MethodName) ({ cls := "BottleLoop$Deed", name := "reason", desc := "()I" } : Jvm.MethodName)) ∈ lw_all := lw_g (lw_at lw_m5 150 rfl) rfl
theorem q1301 : (Jvm.Cond.selects "BottleLoop$5" ({ cls := "BottleLoop$Deed", name := "check", desc := "()V" } : Jvm.MethodName) ({ cls := "BottleLoop$5", name := "check", desc := "()V" } : Jvm.MethodName)) ∈ lw_all := lw_g (lw_at lw_m6 23 rfl) rfl
theorem q1302 : (Jvm.Cond.instanceMethod ({ cls := "BottleLoop$5", name := "check", desc := "()V" } : Jvm.MethodName)) ∈ lw_all := lw_g (lw_at lw_m6 24 rfl) rfl
theorem q1303 : (Jvm.Cond.code ({ cls := "BottleLoop$5", name := "check", desc := "()V" } : Jvm.MethodName) prog_6_method_2_code (1 : Nat) (Option.none : Option Jvm.ClassFile.FieldType)) ∈ lw_all := lw_g (lw_at lw_m6 25 rfl) rfl
theorem q1304 : (Jvm.Cond.methodLink "BottleLoop$5" (35 : Nat) ({ cls := "java/util/ArrayList", name := "get", desc := "(I)Ljava/lang/Object;" } : Jvm.MethodName)) ∈ lw_all := lw_g (lw_at lw_m6 26 rfl) rfl
theorem q1305 : (Jvm.Cond.classLink "BottleLoop$5" (41 : Nat) "BottleLoop$Shop") ∈ lw_all := lw_g (lw_at lw_m6 27 rfl) rfl
theorem q1306 : (Jvm.Cond.methodLink "BottleLoop$5" (43 : Nat) ({ cls := "BottleLoop$Loop", name := "tryCollect", desc := "(LBottleLoop$Shop;II)V" } : Jvm.MethodName)) ∈ lw_all := lw_g (lw_at lw_m6 28 rfl) rfl
theorem q1395 : (Jvm.Cond.selects "BottleLoop$5" ({ cls := "BottleLoop$Deed", name := "does", desc := "()I" } : Jvm.MethodName) ({ cls := "BottleLoop$5", name := "does", desc := "()I" } : Jvm.MethodName)) ∈ lw_all := lw_g (lw_at lw_m6 117 rfl) rfl
theorem q1396 : (Jvm.Cond.instanceMethod ({ cls := "BottleLoop$5", name := "does", desc := "()I" } : Jvm.MethodName)) ∈ lw_all := lw_g (lw_at lw_m6 118 rfl) rfl
theorem q1397 : (Jvm.Cond.code ({ cls := "BottleLoop$5", name := "does", desc := "()I" } : Jvm.MethodName) prog_6_method_3_code (1 : Nat) (Option.some Jvm.ClassFile.FieldType.int)) ∈ lw_all := lw_g (lw_at lw_m6 119 rfl) rfl
theorem q1398 : (Jvm.Cond.methodLink "BottleLoop$5" (51 : Nat) ({ cls := "BottleLoop$Loop", name := "collect", desc := "(LBottleLoop$Shop;II[I)I" } : Jvm.MethodName)) ∈ lw_all := lw_g (lw_at lw_m6 120 rfl) rfl
theorem q1604 : (Jvm.Cond.instantiable "BottleLoop$5" (5 : Nat)) ∈ lw_all := lw_g (lw_at lw_m7 86 rfl) rfl
theorem q1606 : (Jvm.Cond.instanceMethod ({ cls := "BottleLoop$5", name := "<init>", desc := "(LBottleLoop;III)V" } : Jvm.MethodName)) ∈ lw_all := lw_g (lw_at lw_m7 88 rfl) rfl
theorem q1607 : (Jvm.Cond.code ({ cls := "BottleLoop$5", name := "<init>", desc := "(LBottleLoop;III)V" } : Jvm.MethodName) prog_6_method_1_code (5 : Nat) (Option.none : Option Jvm.ClassFile.FieldType)) ∈ lw_all := lw_g (lw_at lw_m7 89 rfl) rfl
theorem q1608 : (Jvm.Cond.methodLinkNest "BottleLoop$5" (17 : Nat) ({ cls := "BottleLoop$Deed", name := "<init>", desc := "(LBottleLoop;)V" } : Jvm.MethodName) "BottleLoop") ∈ lw_tbl := lw_at lw_m7 90 rfl
theorem q1609 : (Jvm.Cond.fieldLink "BottleLoop$5" (7 : Nat) "BottleLoop$5" "val$shop" "I") ∈ lw_all := lw_g (lw_at lw_m7 91 rfl) rfl
theorem q1610 : (Jvm.Cond.fieldLink "BottleLoop$5" (11 : Nat) "BottleLoop$5" "val$kind" "I") ∈ lw_all := lw_g (lw_at lw_m7 92 rfl) rfl
theorem q1611 : (Jvm.Cond.fieldLink "BottleLoop$5" (14 : Nat) "BottleLoop$5" "val$crates" "I") ∈ lw_all := lw_g (lw_at lw_m7 93 rfl) rfl
theorem q1612 : (Jvm.Cond.fieldLink "BottleLoop$5" (1 : Nat) "BottleLoop$5" "this$0" "LBottleLoop;") ∈ lw_all := lw_g (lw_at lw_m7 94 rfl) rfl
theorem q1613 : (Jvm.Cond.laysFinal "BottleLoop$5" "BottleLoop$5" "val$shop" "I") ∈ lw_all := lw_g (lw_at lw_m7 95 rfl) rfl
theorem q1614 : (Jvm.Cond.soleField "BottleLoop$5" "val$shop") ∈ lw_all := lw_g (lw_at lw_m7 96 rfl) rfl
theorem q1615 : (Jvm.Cond.laysFinal "BottleLoop$5" "BottleLoop$5" "val$kind" "I") ∈ lw_all := lw_g (lw_at lw_m7 97 rfl) rfl
theorem q1616 : (Jvm.Cond.soleField "BottleLoop$5" "val$kind") ∈ lw_all := lw_g (lw_at lw_m7 98 rfl) rfl
theorem q1617 : (Jvm.Cond.laysFinal "BottleLoop$5" "BottleLoop$5" "val$crates" "I") ∈ lw_all := lw_g (lw_at lw_m7 99 rfl) rfl
theorem q1618 : (Jvm.Cond.soleField "BottleLoop$5" "val$crates") ∈ lw_all := lw_g (lw_at lw_m7 100 rfl) rfl
theorem q1619 : (Jvm.Cond.laysFinal "BottleLoop$5" "BottleLoop$5" "this$0" "LBottleLoop;") ∈ lw_all := lw_g (lw_at lw_m7 101 rfl) rfl
theorem q1620 : (Jvm.Cond.soleField "BottleLoop$5" "this$0") ∈ lw_all := lw_g (lw_at lw_m7 102 rfl) rfl
theorem q1621 : (Jvm.Cond.laysFinal "BottleLoop$5" "BottleLoop$Deed" "this$0" "LBottleLoop;") ∈ lw_all := lw_g (lw_at lw_m7 103 rfl) rfl
theorem q1622 : (Jvm.Cond.superclass "BottleLoop$5" "BottleLoop$Deed") ∈ lw_all := lw_g (lw_at lw_m7 104 rfl) rfl
theorem q1738 : (Jvm.Cond.selects "BottleLoop$5" ({ cls := "BottleLoop$Deed", name := "order", desc := "()V" } : Jvm.MethodName) ({ cls := "BottleLoop$Deed", name := "order", desc := "()V" } : Jvm.MethodName)) ∈ lw_all := lw_g (lw_at lw_m7 220 rfl) rfl
theorem q2218 : (Jvm.Cond.selects "BottleLoop$5" ({ cls := "BottleLoop$Deed", name := "done", desc := "()I" } : Jvm.MethodName) ({ cls := "BottleLoop$Deed", name := "done", desc := "()I" } : Jvm.MethodName)) ∈ lw_all := lw_g (lw_at lw_m9 220 rfl) rfl
theorem q2250 : (Jvm.Cond.castable "BottleLoop$5" "java/lang/Object") ∈ lw_tbl := lw_at lw_m10 12 rfl
theorem in_X17 : ∀ w ∈ wsX170, w ∈ lw_all := lw_in wsX170 [1621, 1613, 1615, 1617, 1619] (by decide +kernel) (by decide +kernel)
/-! BottleLoop$8 -/
set_option maxRecDepth 100000
def RX18 : String := "BottleLoop$8"
def TX18 : u_T := fun k => match k with
  | 0 => ("BottleLoop$Deed", "this$0", "LBottleLoop;", true)
  | 1 => ("BottleLoop$8", "val$kind", "I", true)
  | 2 => ("BottleLoop$8", "val$many", "I", true)
  | _ => ("BottleLoop$8", "this$0", "LBottleLoop;", true)
def tyX18 : Nat → FieldType := fun k => match k with
  | 0 => .object "BottleLoop"
  | 1 => .int
  | 2 => .int
  | _ => .object "BottleLoop"
abbrev wsX180 : List Cond := u_ws RX18 TX18 4
-- two fields of one name: no nmX18
theorem tyX18_ok : ∀ k, k < 4 → parseFieldDescriptor (TX18 k).2.2.1 = some (tyX18 k) := by decide +kernel
abbrev cX18_check : ByteArray := prog_9_method_2_code
def yX18_check : MethodName := ⟨RX18, "check", "()V"⟩
def dkwX18_check_0 : List UInt8 := [42, 180, 0, 1, 180, 0, 20, 42, 180, 0, 7, 42, 180, 0, 11, 182, 0, 26, 177]
abbrev dktX18_check_0 : List UInt8 := dkwX18_check_0 ++ []
theorem dksX18_check_0 : cX18_check.data.toList.drop 0 = dktX18_check_0 := by decide +kernel
theorem dX18_check_0 : decode cX18_check 0 = .ok (.aload_n 0, 1) := dk_42 (dk_at dksX18_check_0 0 rfl rfl)
theorem dX18_check_1 : decode cX18_check 1 = .ok (.getfield 1, 3) := dk_180 0 1 (dk_at dksX18_check_0 1 rfl rfl)
theorem dX18_check_4 : decode cX18_check 4 = .ok (.getfield 20, 3) := dk_180 0 20 (dk_at dksX18_check_0 4 rfl rfl)
theorem dX18_check_7 : decode cX18_check 7 = .ok (.aload_n 0, 1) := dk_42 (dk_at dksX18_check_0 7 rfl rfl)
theorem dX18_check_8 : decode cX18_check 8 = .ok (.getfield 7, 3) := dk_180 0 7 (dk_at dksX18_check_0 8 rfl rfl)
theorem dX18_check_11 : decode cX18_check 11 = .ok (.aload_n 0, 1) := dk_42 (dk_at dksX18_check_0 11 rfl rfl)
theorem dX18_check_12 : decode cX18_check 12 = .ok (.getfield 11, 3) := dk_180 0 11 (dk_at dksX18_check_0 12 rfl rfl)
theorem dX18_check_15 : decode cX18_check 15 = .ok (.invokevirtual 26, 3) := dk_182 0 26 (dk_at dksX18_check_0 15 rfl rfl)
theorem dX18_check_18 : decode cX18_check 18 = .ok (.return_, 1) := dk_177 (dk_at dksX18_check_0 18 rfl rfl)
abbrev cX18_does : ByteArray := prog_9_method_3_code
def yX18_does : MethodName := ⟨RX18, "does", "()I"⟩
def dkwX18_does_0 : List UInt8 := [42, 180, 0, 1, 180, 0, 20, 42, 180, 0, 7, 42, 180, 0, 11, 182, 0, 32, 172]
abbrev dktX18_does_0 : List UInt8 := dkwX18_does_0 ++ []
theorem dksX18_does_0 : cX18_does.data.toList.drop 0 = dktX18_does_0 := by decide +kernel
theorem dX18_does_0 : decode cX18_does 0 = .ok (.aload_n 0, 1) := dk_42 (dk_at dksX18_does_0 0 rfl rfl)
theorem dX18_does_1 : decode cX18_does 1 = .ok (.getfield 1, 3) := dk_180 0 1 (dk_at dksX18_does_0 1 rfl rfl)
theorem dX18_does_4 : decode cX18_does 4 = .ok (.getfield 20, 3) := dk_180 0 20 (dk_at dksX18_does_0 4 rfl rfl)
theorem dX18_does_7 : decode cX18_does 7 = .ok (.aload_n 0, 1) := dk_42 (dk_at dksX18_does_0 7 rfl rfl)
theorem dX18_does_8 : decode cX18_does 8 = .ok (.getfield 7, 3) := dk_180 0 7 (dk_at dksX18_does_0 8 rfl rfl)
theorem dX18_does_11 : decode cX18_does 11 = .ok (.aload_n 0, 1) := dk_42 (dk_at dksX18_does_0 11 rfl rfl)
theorem dX18_does_12 : decode cX18_does 12 = .ok (.getfield 11, 3) := dk_180 0 11 (dk_at dksX18_does_0 12 rfl rfl)
theorem dX18_does_15 : decode cX18_does 15 = .ok (.invokevirtual 32, 3) := dk_182 0 32 (dk_at dksX18_does_0 15 rfl rfl)
theorem dX18_does_18 : decode cX18_does 18 = .ok (.ireturn, 1) := dk_172 (dk_at dksX18_does_0 18 rfl rfl)
abbrev cX18_init : ByteArray := prog_9_method_1_code
def yX18_init : MethodName := ⟨RX18, "<init>", "(LBottleLoop;II)V"⟩
def dkwX18_init_0 : List UInt8 := [42, 43, 181, 0, 1, 42, 28, 181, 0, 7, 42, 29, 181, 0, 11, 42, 43, 183, 0, 14, 177]
abbrev dktX18_init_0 : List UInt8 := dkwX18_init_0 ++ []
theorem dksX18_init_0 : cX18_init.data.toList.drop 0 = dktX18_init_0 := by decide +kernel
theorem dX18_init_0 : decode cX18_init 0 = .ok (.aload_n 0, 1) := dk_42 (dk_at dksX18_init_0 0 rfl rfl)
theorem dX18_init_1 : decode cX18_init 1 = .ok (.aload_n 1, 1) := dk_43 (dk_at dksX18_init_0 1 rfl rfl)
theorem dX18_init_2 : decode cX18_init 2 = .ok (.putfield 1, 3) := dk_181 0 1 (dk_at dksX18_init_0 2 rfl rfl)
theorem dX18_init_5 : decode cX18_init 5 = .ok (.aload_n 0, 1) := dk_42 (dk_at dksX18_init_0 5 rfl rfl)
theorem dX18_init_6 : decode cX18_init 6 = .ok (.iload_n 2, 1) := dk_28 (dk_at dksX18_init_0 6 rfl rfl)
theorem dX18_init_7 : decode cX18_init 7 = .ok (.putfield 7, 3) := dk_181 0 7 (dk_at dksX18_init_0 7 rfl rfl)
theorem dX18_init_10 : decode cX18_init 10 = .ok (.aload_n 0, 1) := dk_42 (dk_at dksX18_init_0 10 rfl rfl)
theorem dX18_init_11 : decode cX18_init 11 = .ok (.iload_n 3, 1) := dk_29 (dk_at dksX18_init_0 11 rfl rfl)
theorem dX18_init_12 : decode cX18_init 12 = .ok (.putfield 11, 3) := dk_181 0 11 (dk_at dksX18_init_0 12 rfl rfl)
theorem dX18_init_15 : decode cX18_init 15 = .ok (.aload_n 0, 1) := dk_42 (dk_at dksX18_init_0 15 rfl rfl)
theorem dX18_init_16 : decode cX18_init 16 = .ok (.aload_n 1, 1) := dk_43 (dk_at dksX18_init_0 16 rfl rfl)
theorem dX18_init_17 : decode cX18_init 17 = .ok (.invokespecial 14, 3) := dk_183 0 14 (dk_at dksX18_init_0 17 rfl rfl)
theorem dX18_init_20 : decode cX18_init 20 = .ok (.return_, 1) := dk_177 (dk_at dksX18_init_0 20 rfl rfl)
theorem q116 : (Jvm.Cond.initialized "BottleLoop$8") ∈ lw_all := lw_g (lw_at lw_m1 38 rfl) rfl
theorem q255 : (Jvm.Cond.fieldLinkNest "BottleLoop$8" (20 : Nat) "BottleLoop" "now" "LBottleLoop$Loop;" "BottleLoop") ∈ lw_tbl := lw_at lw_m1 177 rfl
theorem q754 : (Jvm.Cond.selects "BottleLoop$8" ({ cls := "java/lang/Object", name := "getClass", desc := "()Ljava/lang/Class;" } : Jvm.MethodName) ({ cls := "java/lang/Object", name := "getClass", desc := "()Ljava/lang/Class;" } : Jvm.MethodName)) ∈ lw_all := lw_g (lw_at lw_m3 196 rfl) rfl
theorem q1191 : (Jvm.Cond.selects "BottleLoop$8" ({ cls := "BottleLoop$Deed", name := "reason", desc := "()I" } : Jvm.MethodName) ({ cls := "BottleLoop$Deed", name := "reason", desc := "()I" } : Jvm.MethodName)) ∈ lw_all := lw_g (lw_at lw_m5 153 rfl) rfl
theorem q1329 : (Jvm.Cond.selects "BottleLoop$8" ({ cls := "BottleLoop$Deed", name := "check", desc := "()V" } : Jvm.MethodName) ({ cls := "BottleLoop$8", name := "check", desc := "()V" } : Jvm.MethodName)) ∈ lw_all := lw_g (lw_at lw_m6 51 rfl) rfl
theorem q1330 : (Jvm.Cond.instanceMethod ({ cls := "BottleLoop$8", name := "check", desc := "()V" } : Jvm.MethodName)) ∈ lw_all := lw_g (lw_at lw_m6 52 rfl) rfl
theorem q1331 : (Jvm.Cond.code ({ cls := "BottleLoop$8", name := "check", desc := "()V" } : Jvm.MethodName) prog_9_method_2_code (1 : Nat) (Option.none : Option Jvm.ClassFile.FieldType)) ∈ lw_all := lw_g (lw_at lw_m6 53 rfl) rfl
theorem q1332 : (Jvm.Cond.methodLink "BottleLoop$8" (26 : Nat) ({ cls := "BottleLoop$Loop", name := "trySort", desc := "(II)V" } : Jvm.MethodName)) ∈ lw_all := lw_g (lw_at lw_m6 54 rfl) rfl
theorem q1418 : (Jvm.Cond.selects "BottleLoop$8" ({ cls := "BottleLoop$Deed", name := "does", desc := "()I" } : Jvm.MethodName) ({ cls := "BottleLoop$8", name := "does", desc := "()I" } : Jvm.MethodName)) ∈ lw_all := lw_g (lw_at lw_m6 140 rfl) rfl
theorem q1419 : (Jvm.Cond.instanceMethod ({ cls := "BottleLoop$8", name := "does", desc := "()I" } : Jvm.MethodName)) ∈ lw_all := lw_g (lw_at lw_m6 141 rfl) rfl
theorem q1420 : (Jvm.Cond.code ({ cls := "BottleLoop$8", name := "does", desc := "()I" } : Jvm.MethodName) prog_9_method_3_code (1 : Nat) (Option.some Jvm.ClassFile.FieldType.int)) ∈ lw_all := lw_g (lw_at lw_m6 142 rfl) rfl
theorem q1421 : (Jvm.Cond.methodLink "BottleLoop$8" (32 : Nat) ({ cls := "BottleLoop$Loop", name := "sort", desc := "(II)I" } : Jvm.MethodName)) ∈ lw_all := lw_g (lw_at lw_m6 143 rfl) rfl
theorem q1631 : (Jvm.Cond.instantiable "BottleLoop$8" (4 : Nat)) ∈ lw_all := lw_g (lw_at lw_m7 113 rfl) rfl
theorem q1633 : (Jvm.Cond.instanceMethod ({ cls := "BottleLoop$8", name := "<init>", desc := "(LBottleLoop;II)V" } : Jvm.MethodName)) ∈ lw_all := lw_g (lw_at lw_m7 115 rfl) rfl
theorem q1634 : (Jvm.Cond.code ({ cls := "BottleLoop$8", name := "<init>", desc := "(LBottleLoop;II)V" } : Jvm.MethodName) prog_9_method_1_code (4 : Nat) (Option.none : Option Jvm.ClassFile.FieldType)) ∈ lw_all := lw_g (lw_at lw_m7 116 rfl) rfl
theorem q1635 : (Jvm.Cond.methodLinkNest "BottleLoop$8" (14 : Nat) ({ cls := "BottleLoop$Deed", name := "<init>", desc := "(LBottleLoop;)V" } : Jvm.MethodName) "BottleLoop") ∈ lw_tbl := lw_at lw_m7 117 rfl
theorem q1636 : (Jvm.Cond.fieldLink "BottleLoop$8" (7 : Nat) "BottleLoop$8" "val$kind" "I") ∈ lw_all := lw_g (lw_at lw_m7 118 rfl) rfl
theorem q1637 : (Jvm.Cond.fieldLink "BottleLoop$8" (11 : Nat) "BottleLoop$8" "val$many" "I") ∈ lw_all := lw_g (lw_at lw_m7 119 rfl) rfl
theorem q1638 : (Jvm.Cond.fieldLink "BottleLoop$8" (1 : Nat) "BottleLoop$8" "this$0" "LBottleLoop;") ∈ lw_all := lw_g (lw_at lw_m7 120 rfl) rfl
theorem q1639 : (Jvm.Cond.laysFinal "BottleLoop$8" "BottleLoop$8" "val$kind" "I") ∈ lw_all := lw_g (lw_at lw_m7 121 rfl) rfl
theorem q1640 : (Jvm.Cond.soleField "BottleLoop$8" "val$kind") ∈ lw_all := lw_g (lw_at lw_m7 122 rfl) rfl
theorem q1641 : (Jvm.Cond.laysFinal "BottleLoop$8" "BottleLoop$8" "val$many" "I") ∈ lw_all := lw_g (lw_at lw_m7 123 rfl) rfl
theorem q1642 : (Jvm.Cond.soleField "BottleLoop$8" "val$many") ∈ lw_all := lw_g (lw_at lw_m7 124 rfl) rfl
theorem q1643 : (Jvm.Cond.laysFinal "BottleLoop$8" "BottleLoop$8" "this$0" "LBottleLoop;") ∈ lw_all := lw_g (lw_at lw_m7 125 rfl) rfl
theorem q1644 : (Jvm.Cond.soleField "BottleLoop$8" "this$0") ∈ lw_all := lw_g (lw_at lw_m7 126 rfl) rfl
theorem q1645 : (Jvm.Cond.laysFinal "BottleLoop$8" "BottleLoop$Deed" "this$0" "LBottleLoop;") ∈ lw_all := lw_g (lw_at lw_m7 127 rfl) rfl
theorem q1646 : (Jvm.Cond.superclass "BottleLoop$8" "BottleLoop$Deed") ∈ lw_all := lw_g (lw_at lw_m7 128 rfl) rfl
theorem q1648 : (Jvm.Cond.sameMethod "BottleLoop$8" "BottleLoop$Deed" "done" "()I") ∈ lw_all := lw_g (lw_at lw_m7 130 rfl) rfl
theorem q1649 : (Jvm.Cond.selects "BottleLoop$8" ({ cls := "BottleLoop$8", name := "done", desc := "()I" } : Jvm.MethodName) ({ cls := "BottleLoop$Deed", name := "done", desc := "()I" } : Jvm.MethodName)) ∈ lw_all := lw_g (lw_at lw_m7 131 rfl) rfl
theorem q1741 : (Jvm.Cond.selects "BottleLoop$8" ({ cls := "BottleLoop$Deed", name := "order", desc := "()V" } : Jvm.MethodName) ({ cls := "BottleLoop$Deed", name := "order", desc := "()V" } : Jvm.MethodName)) ∈ lw_all := lw_g (lw_at lw_m7 223 rfl) rfl
theorem q2221 : (Jvm.Cond.selects "BottleLoop$8" ({ cls := "BottleLoop$Deed", name := "done", desc := "()I" } : Jvm.MethodName) ({ cls := "BottleLoop$Deed", name := "done", desc := "()I" } : Jvm.MethodName)) ∈ lw_all := lw_g (lw_at lw_m9 223 rfl) rfl
theorem q2251 : (Jvm.Cond.castable "BottleLoop$8" "java/lang/Object") ∈ lw_tbl := lw_at lw_m10 13 rfl
theorem in_X18 : ∀ w ∈ wsX180, w ∈ lw_all := lw_in wsX180 [1645, 1639, 1641, 1643] (by decide +kernel) (by decide +kernel)
/-! BottleLoop$9 -/
set_option maxRecDepth 100000
def RX19 : String := "BottleLoop$9"
def TX19 : u_T := fun k => match k with
  | 0 => ("BottleLoop$Deed", "this$0", "LBottleLoop;", true)
  | 1 => ("BottleLoop$9", "val$from", "I", true)
  | 2 => ("BottleLoop$9", "val$many", "I", true)
  | 3 => ("BottleLoop$9", "val$to", "I", true)
  | _ => ("BottleLoop$9", "this$0", "LBottleLoop;", true)
def tyX19 : Nat → FieldType := fun k => match k with
  | 0 => .object "BottleLoop"
  | 1 => .int
  | 2 => .int
  | 3 => .int
  | _ => .object "BottleLoop"
abbrev wsX190 : List Cond := u_ws RX19 TX19 5
-- two fields of one name: no nmX19
theorem tyX19_ok : ∀ k, k < 5 → parseFieldDescriptor (TX19 k).2.2.1 = some (tyX19 k) := by decide +kernel
abbrev cX19_check : ByteArray := prog_10_method_2_code
def yX19_check : MethodName := ⟨RX19, "check", "()V"⟩
def dkwX19_check_1 : List UInt8 := [192, 0, 41, 42, 180, 0, 11, 182, 0, 43, 177]
abbrev dktX19_check_1 : List UInt8 := dkwX19_check_1 ++ []
def dkwX19_check_0 : List UInt8 := [42, 180, 0, 1, 180, 0, 23, 42, 180, 0, 1, 180, 0, 23, 180, 0, 29, 42, 180, 0, 7, 182, 0, 35]
abbrev dktX19_check_0 : List UInt8 := dkwX19_check_0 ++ dktX19_check_1
theorem dksX19_check_0 : cX19_check.data.toList.drop 0 = dktX19_check_0 := by decide +kernel
theorem dksX19_check_1 : cX19_check.data.toList.drop 24 = dktX19_check_1 := dk_seg dksX19_check_0 24 rfl rfl
theorem dX19_check_0 : decode cX19_check 0 = .ok (.aload_n 0, 1) := dk_42 (dk_at dksX19_check_0 0 rfl rfl)
theorem dX19_check_1 : decode cX19_check 1 = .ok (.getfield 1, 3) := dk_180 0 1 (dk_at dksX19_check_0 1 rfl rfl)
theorem dX19_check_4 : decode cX19_check 4 = .ok (.getfield 23, 3) := dk_180 0 23 (dk_at dksX19_check_0 4 rfl rfl)
theorem dX19_check_7 : decode cX19_check 7 = .ok (.aload_n 0, 1) := dk_42 (dk_at dksX19_check_0 7 rfl rfl)
theorem dX19_check_8 : decode cX19_check 8 = .ok (.getfield 1, 3) := dk_180 0 1 (dk_at dksX19_check_0 8 rfl rfl)
theorem dX19_check_11 : decode cX19_check 11 = .ok (.getfield 23, 3) := dk_180 0 23 (dk_at dksX19_check_0 11 rfl rfl)
theorem dX19_check_14 : decode cX19_check 14 = .ok (.getfield 29, 3) := dk_180 0 29 (dk_at dksX19_check_0 14 rfl rfl)
theorem dX19_check_17 : decode cX19_check 17 = .ok (.aload_n 0, 1) := dk_42 (dk_at dksX19_check_0 17 rfl rfl)
theorem dX19_check_18 : decode cX19_check 18 = .ok (.getfield 7, 3) := dk_180 0 7 (dk_at dksX19_check_0 18 rfl rfl)
theorem dX19_check_21 : decode cX19_check 21 = .ok (.invokevirtual 35, 3) := dk_182 0 35 (dk_at dksX19_check_0 21 rfl rfl)
theorem dX19_check_24 : decode cX19_check 24 = .ok (.checkcast 41, 3) := dk_192 0 41 (dk_at dksX19_check_1 0 rfl rfl)
theorem dX19_check_27 : decode cX19_check 27 = .ok (.aload_n 0, 1) := dk_42 (dk_at dksX19_check_1 3 rfl rfl)
theorem dX19_check_28 : decode cX19_check 28 = .ok (.getfield 11, 3) := dk_180 0 11 (dk_at dksX19_check_1 4 rfl rfl)
theorem dX19_check_31 : decode cX19_check 31 = .ok (.invokevirtual 43, 3) := dk_182 0 43 (dk_at dksX19_check_1 7 rfl rfl)
theorem dX19_check_34 : decode cX19_check 34 = .ok (.return_, 1) := dk_177 (dk_at dksX19_check_1 10 rfl rfl)
abbrev cX19_does : ByteArray := prog_10_method_3_code
def yX19_does : MethodName := ⟨RX19, "does", "()I"⟩
def dkwX19_does_0 : List UInt8 := [42, 180, 0, 1, 180, 0, 23, 42, 180, 0, 7, 42, 180, 0, 14, 42, 180, 0, 11, 182, 0, 47, 172]
abbrev dktX19_does_0 : List UInt8 := dkwX19_does_0 ++ []
theorem dksX19_does_0 : cX19_does.data.toList.drop 0 = dktX19_does_0 := by decide +kernel
theorem dX19_does_0 : decode cX19_does 0 = .ok (.aload_n 0, 1) := dk_42 (dk_at dksX19_does_0 0 rfl rfl)
theorem dX19_does_1 : decode cX19_does 1 = .ok (.getfield 1, 3) := dk_180 0 1 (dk_at dksX19_does_0 1 rfl rfl)
theorem dX19_does_4 : decode cX19_does 4 = .ok (.getfield 23, 3) := dk_180 0 23 (dk_at dksX19_does_0 4 rfl rfl)
theorem dX19_does_7 : decode cX19_does 7 = .ok (.aload_n 0, 1) := dk_42 (dk_at dksX19_does_0 7 rfl rfl)
theorem dX19_does_8 : decode cX19_does 8 = .ok (.getfield 7, 3) := dk_180 0 7 (dk_at dksX19_does_0 8 rfl rfl)
theorem dX19_does_11 : decode cX19_does 11 = .ok (.aload_n 0, 1) := dk_42 (dk_at dksX19_does_0 11 rfl rfl)
theorem dX19_does_12 : decode cX19_does 12 = .ok (.getfield 14, 3) := dk_180 0 14 (dk_at dksX19_does_0 12 rfl rfl)
theorem dX19_does_15 : decode cX19_does 15 = .ok (.aload_n 0, 1) := dk_42 (dk_at dksX19_does_0 15 rfl rfl)
theorem dX19_does_16 : decode cX19_does 16 = .ok (.getfield 11, 3) := dk_180 0 11 (dk_at dksX19_does_0 16 rfl rfl)
theorem dX19_does_19 : decode cX19_does 19 = .ok (.invokevirtual 47, 3) := dk_182 0 47 (dk_at dksX19_does_0 19 rfl rfl)
theorem dX19_does_22 : decode cX19_does 22 = .ok (.ireturn, 1) := dk_172 (dk_at dksX19_does_0 22 rfl rfl)
abbrev cX19_init : ByteArray := prog_10_method_1_code
def yX19_init : MethodName := ⟨RX19, "<init>", "(LBottleLoop;III)V"⟩
def dkwX19_init_1 : List UInt8 := [183, 0, 17, 177]
abbrev dktX19_init_1 : List UInt8 := dkwX19_init_1 ++ []
def dkwX19_init_0 : List UInt8 := [42, 43, 181, 0, 1, 42, 28, 181, 0, 7, 42, 29, 181, 0, 11, 42, 21, 4, 181, 0, 14, 42, 43]
abbrev dktX19_init_0 : List UInt8 := dkwX19_init_0 ++ dktX19_init_1
theorem dksX19_init_0 : cX19_init.data.toList.drop 0 = dktX19_init_0 := by decide +kernel
theorem dksX19_init_1 : cX19_init.data.toList.drop 23 = dktX19_init_1 := dk_seg dksX19_init_0 23 rfl rfl
theorem dX19_init_0 : decode cX19_init 0 = .ok (.aload_n 0, 1) := dk_42 (dk_at dksX19_init_0 0 rfl rfl)
theorem dX19_init_1 : decode cX19_init 1 = .ok (.aload_n 1, 1) := dk_43 (dk_at dksX19_init_0 1 rfl rfl)
theorem dX19_init_2 : decode cX19_init 2 = .ok (.putfield 1, 3) := dk_181 0 1 (dk_at dksX19_init_0 2 rfl rfl)
theorem dX19_init_5 : decode cX19_init 5 = .ok (.aload_n 0, 1) := dk_42 (dk_at dksX19_init_0 5 rfl rfl)
theorem dX19_init_6 : decode cX19_init 6 = .ok (.iload_n 2, 1) := dk_28 (dk_at dksX19_init_0 6 rfl rfl)
theorem dX19_init_7 : decode cX19_init 7 = .ok (.putfield 7, 3) := dk_181 0 7 (dk_at dksX19_init_0 7 rfl rfl)
theorem dX19_init_10 : decode cX19_init 10 = .ok (.aload_n 0, 1) := dk_42 (dk_at dksX19_init_0 10 rfl rfl)
theorem dX19_init_11 : decode cX19_init 11 = .ok (.iload_n 3, 1) := dk_29 (dk_at dksX19_init_0 11 rfl rfl)
theorem dX19_init_12 : decode cX19_init 12 = .ok (.putfield 11, 3) := dk_181 0 11 (dk_at dksX19_init_0 12 rfl rfl)
theorem dX19_init_15 : decode cX19_init 15 = .ok (.aload_n 0, 1) := dk_42 (dk_at dksX19_init_0 15 rfl rfl)
theorem dX19_init_16 : decode cX19_init 16 = .ok (.iload 4, 2) := dk_21 4 (dk_at dksX19_init_0 16 rfl rfl)
theorem dX19_init_18 : decode cX19_init 18 = .ok (.putfield 14, 3) := dk_181 0 14 (dk_at dksX19_init_0 18 rfl rfl)
theorem dX19_init_21 : decode cX19_init 21 = .ok (.aload_n 0, 1) := dk_42 (dk_at dksX19_init_0 21 rfl rfl)
theorem dX19_init_22 : decode cX19_init 22 = .ok (.aload_n 1, 1) := dk_43 (dk_at dksX19_init_0 22 rfl rfl)
theorem dX19_init_23 : decode cX19_init 23 = .ok (.invokespecial 17, 3) := dk_183 0 17 (dk_at dksX19_init_1 0 rfl rfl)
theorem dX19_init_26 : decode cX19_init 26 = .ok (.return_, 1) := dk_177 (dk_at dksX19_init_1 3 rfl rfl)
theorem q117 : (Jvm.Cond.initialized "BottleLoop$9") ∈ lw_all := lw_g (lw_at lw_m1 39 rfl) rfl
theorem q171 : (Jvm.Cond.fieldLinkNest "BottleLoop$9" (29 : Nat) "BottleLoop$Loop" "brands" "Ljava/util/ArrayList;" "BottleLoop") ∈ lw_tbl := lw_at lw_m1 93 rfl
theorem q256 : (Jvm.Cond.fieldLinkNest "BottleLoop$9" (23 : Nat) "BottleLoop" "now" "LBottleLoop$Loop;" "BottleLoop") ∈ lw_tbl := lw_at lw_m1 178 rfl
theorem q755 : (Jvm.Cond.selects "BottleLoop$9" ({ cls := "java/lang/Object", name := "getClass", desc := "()Ljava/lang/Class;" } : Jvm.MethodName) ({ cls := "java/lang/Object", name := "getClass", desc := "()Ljava/lang/Class;" } : Jvm.MethodName)) ∈ lw_all := lw_g (lw_at lw_m3 197 rfl) rfl
theorem q1192 : (Jvm.Cond.selects "BottleLoop$9" ({ cls := "BottleLoop$Deed", name := "reason", desc := "()I" } : Jvm.MethodName) ({ cls := "BottleLoop$Deed", name := "reason", desc := "()I" } : Jvm.MethodName)) ∈ lw_all := lw_g (lw_at lw_m5 154 rfl) rfl
theorem q1340 : (Jvm.Cond.selects "BottleLoop$9" ({ cls := "BottleLoop$Deed", name := "check", desc := "()V" } : Jvm.MethodName) ({ cls := "BottleLoop$9", name := "check", desc := "()V" } : Jvm.MethodName)) ∈ lw_all := lw_g (lw_at lw_m6 62 rfl) rfl
theorem q1341 : (Jvm.Cond.instanceMethod ({ cls := "BottleLoop$9", name := "check", desc := "()V" } : Jvm.MethodName)) ∈ lw_all := lw_g (lw_at lw_m6 63 rfl) rfl
theorem q1342 : (Jvm.Cond.code ({ cls := "BottleLoop$9", name := "check", desc := "()V" } : Jvm.MethodName) prog_10_method_2_code (1 : Nat) (Option.none : Option Jvm.ClassFile.FieldType)) ∈ lw_all := lw_g (lw_at lw_m6 64 rfl) rfl
theorem q1343 : (Jvm.Cond.methodLink "BottleLoop$9" (35 : Nat) ({ cls := "java/util/ArrayList", name := "get", desc := "(I)Ljava/lang/Object;" } : Jvm.MethodName)) ∈ lw_all := lw_g (lw_at lw_m6 65 rfl) rfl
theorem q1344 : (Jvm.Cond.classLink "BottleLoop$9" (41 : Nat) "BottleLoop$Brand") ∈ lw_all := lw_g (lw_at lw_m6 66 rfl) rfl
theorem q1345 : (Jvm.Cond.methodLink "BottleLoop$9" (43 : Nat) ({ cls := "BottleLoop$Loop", name := "trySwap", desc := "(LBottleLoop$Brand;I)V" } : Jvm.MethodName)) ∈ lw_all := lw_g (lw_at lw_m6 67 rfl) rfl
theorem q1425 : (Jvm.Cond.selects "BottleLoop$9" ({ cls := "BottleLoop$Deed", name := "does", desc := "()I" } : Jvm.MethodName) ({ cls := "BottleLoop$9", name := "does", desc := "()I" } : Jvm.MethodName)) ∈ lw_all := lw_g (lw_at lw_m6 147 rfl) rfl
theorem q1426 : (Jvm.Cond.instanceMethod ({ cls := "BottleLoop$9", name := "does", desc := "()I" } : Jvm.MethodName)) ∈ lw_all := lw_g (lw_at lw_m6 148 rfl) rfl
theorem q1427 : (Jvm.Cond.code ({ cls := "BottleLoop$9", name := "does", desc := "()I" } : Jvm.MethodName) prog_10_method_3_code (1 : Nat) (Option.some Jvm.ClassFile.FieldType.int)) ∈ lw_all := lw_g (lw_at lw_m6 149 rfl) rfl
theorem q1428 : (Jvm.Cond.methodLink "BottleLoop$9" (47 : Nat) ({ cls := "BottleLoop$Loop", name := "swap", desc := "(III)I" } : Jvm.MethodName)) ∈ lw_all := lw_g (lw_at lw_m6 150 rfl) rfl
theorem q1658 : (Jvm.Cond.instantiable "BottleLoop$9" (5 : Nat)) ∈ lw_all := lw_g (lw_at lw_m7 140 rfl) rfl
theorem q1660 : (Jvm.Cond.instanceMethod ({ cls := "BottleLoop$9", name := "<init>", desc := "(LBottleLoop;III)V" } : Jvm.MethodName)) ∈ lw_all := lw_g (lw_at lw_m7 142 rfl) rfl
theorem q1661 : (Jvm.Cond.code ({ cls := "BottleLoop$9", name := "<init>", desc := "(LBottleLoop;III)V" } : Jvm.MethodName) prog_10_method_1_code (5 : Nat) (Option.none : Option Jvm.ClassFile.FieldType)) ∈ lw_all := lw_g (lw_at lw_m7 143 rfl) rfl
theorem q1662 : (Jvm.Cond.methodLinkNest "BottleLoop$9" (17 : Nat) ({ cls := "BottleLoop$Deed", name := "<init>", desc := "(LBottleLoop;)V" } : Jvm.MethodName) "BottleLoop") ∈ lw_tbl := lw_at lw_m7 144 rfl
theorem q1663 : (Jvm.Cond.fieldLink "BottleLoop$9" (7 : Nat) "BottleLoop$9" "val$from" "I") ∈ lw_all := lw_g (lw_at lw_m7 145 rfl) rfl
theorem q1664 : (Jvm.Cond.fieldLink "BottleLoop$9" (11 : Nat) "BottleLoop$9" "val$many" "I") ∈ lw_all := lw_g (lw_at lw_m7 146 rfl) rfl
theorem q1665 : (Jvm.Cond.fieldLink "BottleLoop$9" (14 : Nat) "BottleLoop$9" "val$to" "I") ∈ lw_all := lw_g (lw_at lw_m7 147 rfl) rfl
theorem q1666 : (Jvm.Cond.fieldLink "BottleLoop$9" (1 : Nat) "BottleLoop$9" "this$0" "LBottleLoop;") ∈ lw_all := lw_g (lw_at lw_m7 148 rfl) rfl
theorem q1667 : (Jvm.Cond.laysFinal "BottleLoop$9" "BottleLoop$9" "val$from" "I") ∈ lw_all := lw_g (lw_at lw_m7 149 rfl) rfl
theorem q1668 : (Jvm.Cond.soleField "BottleLoop$9" "val$from") ∈ lw_all := lw_g (lw_at lw_m7 150 rfl) rfl
theorem q1669 : (Jvm.Cond.laysFinal "BottleLoop$9" "BottleLoop$9" "val$many" "I") ∈ lw_all := lw_g (lw_at lw_m7 151 rfl) rfl
theorem q1670 : (Jvm.Cond.soleField "BottleLoop$9" "val$many") ∈ lw_all := lw_g (lw_at lw_m7 152 rfl) rfl
theorem q1671 : (Jvm.Cond.laysFinal "BottleLoop$9" "BottleLoop$9" "val$to" "I") ∈ lw_all := lw_g (lw_at lw_m7 153 rfl) rfl
theorem q1672 : (Jvm.Cond.soleField "BottleLoop$9" "val$to") ∈ lw_all := lw_g (lw_at lw_m7 154 rfl) rfl
theorem q1673 : (Jvm.Cond.laysFinal "BottleLoop$9" "BottleLoop$9" "this$0" "LBottleLoop;") ∈ lw_all := lw_g (lw_at lw_m7 155 rfl) rfl
theorem q1674 : (Jvm.Cond.soleField "BottleLoop$9" "this$0") ∈ lw_all := lw_g (lw_at lw_m7 156 rfl) rfl
theorem q1675 : (Jvm.Cond.laysFinal "BottleLoop$9" "BottleLoop$Deed" "this$0" "LBottleLoop;") ∈ lw_all := lw_g (lw_at lw_m7 157 rfl) rfl
theorem q1676 : (Jvm.Cond.superclass "BottleLoop$9" "BottleLoop$Deed") ∈ lw_all := lw_g (lw_at lw_m7 158 rfl) rfl
theorem q1678 : (Jvm.Cond.sameMethod "BottleLoop$9" "BottleLoop$Deed" "done" "()I") ∈ lw_all := lw_g (lw_at lw_m7 160 rfl) rfl
theorem q1679 : (Jvm.Cond.selects "BottleLoop$9" ({ cls := "BottleLoop$9", name := "done", desc := "()I" } : Jvm.MethodName) ({ cls := "BottleLoop$Deed", name := "done", desc := "()I" } : Jvm.MethodName)) ∈ lw_all := lw_g (lw_at lw_m7 161 rfl) rfl
theorem q1742 : (Jvm.Cond.selects "BottleLoop$9" ({ cls := "BottleLoop$Deed", name := "order", desc := "()V" } : Jvm.MethodName) ({ cls := "BottleLoop$Deed", name := "order", desc := "()V" } : Jvm.MethodName)) ∈ lw_all := lw_g (lw_at lw_m7 224 rfl) rfl
theorem q2222 : (Jvm.Cond.selects "BottleLoop$9" ({ cls := "BottleLoop$Deed", name := "done", desc := "()I" } : Jvm.MethodName) ({ cls := "BottleLoop$Deed", name := "done", desc := "()I" } : Jvm.MethodName)) ∈ lw_all := lw_g (lw_at lw_m9 224 rfl) rfl
theorem q2252 : (Jvm.Cond.castable "BottleLoop$9" "java/lang/Object") ∈ lw_tbl := lw_at lw_m10 14 rfl
theorem in_X19 : ∀ w ∈ wsX190, w ∈ lw_all := lw_in wsX190 [1675, 1667, 1669, 1671, 1673] (by decide +kernel) (by decide +kernel)
/-! BottleLoop$Reader -/
set_option maxRecDepth 100000
def RX20 : String := "BottleLoop$Reader"
def TX20 : u_T := fun k => match k with
  | 0 => ("BottleLoop$Reader", "orders", "Ljava/util/ArrayList;", true)
  | 1 => ("BottleLoop$Reader", "place", "I", false)
  | _ => ("BottleLoop$Reader", "this$0", "LBottleLoop;", true)
def tyX20 : Nat → FieldType := fun k => match k with
  | 0 => .object "java/util/ArrayList"
  | 1 => .int
  | _ => .object "BottleLoop"
abbrev wsX200 : List Cond := u_ws RX20 TX20 3
theorem nmX20 : ∀ a, a < 3 → ∀ b, b < 3 → a ≠ b → (TX20 a).2.1 ≠ (TX20 b).2.1 := by decide +kernel
theorem tyX20_ok : ∀ k, k < 3 → parseFieldDescriptor (TX20 k).2.2.1 = some (tyX20 k) := by decide +kernel
abbrev cX20_init : ByteArray := prog_18_method_1_code
def yX20_init : MethodName := ⟨RX20, "<init>", "(LBottleLoop;)V"⟩
def dkwX20_init_0 : List UInt8 := [42, 43, 181, 0, 3, 42, 183, 0, 9, 42, 187, 0, 15, 89, 183, 0, 17, 181, 0, 18, 177]
abbrev dktX20_init_0 : List UInt8 := dkwX20_init_0 ++ []
theorem dksX20_init_0 : cX20_init.data.toList.drop 0 = dktX20_init_0 := by decide +kernel
theorem dX20_init_0 : decode cX20_init 0 = .ok (.aload_n 0, 1) := dk_42 (dk_at dksX20_init_0 0 rfl rfl)
theorem dX20_init_1 : decode cX20_init 1 = .ok (.aload_n 1, 1) := dk_43 (dk_at dksX20_init_0 1 rfl rfl)
theorem dX20_init_2 : decode cX20_init 2 = .ok (.putfield 3, 3) := dk_181 0 3 (dk_at dksX20_init_0 2 rfl rfl)
theorem dX20_init_5 : decode cX20_init 5 = .ok (.aload_n 0, 1) := dk_42 (dk_at dksX20_init_0 5 rfl rfl)
theorem dX20_init_6 : decode cX20_init 6 = .ok (.invokespecial 9, 3) := dk_183 0 9 (dk_at dksX20_init_0 6 rfl rfl)
theorem dX20_init_9 : decode cX20_init 9 = .ok (.aload_n 0, 1) := dk_42 (dk_at dksX20_init_0 9 rfl rfl)
theorem dX20_init_10 : decode cX20_init 10 = .ok (.new 15, 3) := dk_187 0 15 (dk_at dksX20_init_0 10 rfl rfl)
theorem dX20_init_13 : decode cX20_init 13 = .ok (.dup, 1) := dk_89 (dk_at dksX20_init_0 13 rfl rfl)
theorem dX20_init_14 : decode cX20_init 14 = .ok (.invokespecial 17, 3) := dk_183 0 17 (dk_at dksX20_init_0 14 rfl rfl)
theorem dX20_init_17 : decode cX20_init 17 = .ok (.putfield 18, 3) := dk_181 0 18 (dk_at dksX20_init_0 17 rfl rfl)
theorem dX20_init_20 : decode cX20_init 20 = .ok (.return_, 1) := dk_177 (dk_at dksX20_init_0 20 rfl rfl)
abbrev cX20_isRow : ByteArray := prog_18_method_8_code
def yX20_isRow : MethodName := ⟨RX20, "isRow", "()Z"⟩
def dkwX20_isRow_2 : List UInt8 := [4, 167, 0, 4, 3, 172]
abbrev dktX20_isRow_2 : List UInt8 := dkwX20_isRow_2 ++ []
def dkwX20_isRow_1 : List UInt8 := [167, 255, 238, 27, 153, 0, 24, 42, 180, 0, 22, 42, 180, 0, 3, 180, 0, 26, 182, 0, 30, 160, 0, 7]
abbrev dktX20_isRow_1 : List UInt8 := dkwX20_isRow_1 ++ dktX20_isRow_2
def dkwX20_isRow_0 : List UInt8 := [42, 182, 0, 71, 60, 27, 153, 0, 20, 42, 16, 59, 182, 0, 51, 153, 0, 11, 42, 182, 0, 71, 60]
abbrev dktX20_isRow_0 : List UInt8 := dkwX20_isRow_0 ++ dktX20_isRow_1
theorem dksX20_isRow_0 : cX20_isRow.data.toList.drop 0 = dktX20_isRow_0 := by decide +kernel
theorem dksX20_isRow_1 : cX20_isRow.data.toList.drop 23 = dktX20_isRow_1 := dk_seg dksX20_isRow_0 23 rfl rfl
theorem dksX20_isRow_2 : cX20_isRow.data.toList.drop 47 = dktX20_isRow_2 := dk_seg dksX20_isRow_1 24 rfl rfl
theorem dX20_isRow_0 : decode cX20_isRow 0 = .ok (.aload_n 0, 1) := dk_42 (dk_at dksX20_isRow_0 0 rfl rfl)
theorem dX20_isRow_1 : decode cX20_isRow 1 = .ok (.invokevirtual 71, 3) := dk_182 0 71 (dk_at dksX20_isRow_0 1 rfl rfl)
theorem dX20_isRow_4 : decode cX20_isRow 4 = .ok (.istore_n 1, 1) := dk_60 (dk_at dksX20_isRow_0 4 rfl rfl)
theorem dX20_isRow_5 : decode cX20_isRow 5 = .ok (.iload_n 1, 1) := dk_27 (dk_at dksX20_isRow_0 5 rfl rfl)
theorem dX20_isRow_6 : decode cX20_isRow 6 = .ok (.ifCond .eq 20, 3) := dk_153 0 20 (dk_at dksX20_isRow_0 6 rfl rfl)
theorem dX20_isRow_9 : decode cX20_isRow 9 = .ok (.aload_n 0, 1) := dk_42 (dk_at dksX20_isRow_0 9 rfl rfl)
theorem dX20_isRow_10 : decode cX20_isRow 10 = .ok (.bipush 59, 2) := dk_16 59 (dk_at dksX20_isRow_0 10 rfl rfl)
theorem dX20_isRow_12 : decode cX20_isRow 12 = .ok (.invokevirtual 51, 3) := dk_182 0 51 (dk_at dksX20_isRow_0 12 rfl rfl)
theorem dX20_isRow_15 : decode cX20_isRow 15 = .ok (.ifCond .eq 11, 3) := dk_153 0 11 (dk_at dksX20_isRow_0 15 rfl rfl)
theorem dX20_isRow_18 : decode cX20_isRow 18 = .ok (.aload_n 0, 1) := dk_42 (dk_at dksX20_isRow_0 18 rfl rfl)
theorem dX20_isRow_19 : decode cX20_isRow 19 = .ok (.invokevirtual 71, 3) := dk_182 0 71 (dk_at dksX20_isRow_0 19 rfl rfl)
theorem dX20_isRow_22 : decode cX20_isRow 22 = .ok (.istore_n 1, 1) := dk_60 (dk_at dksX20_isRow_0 22 rfl rfl)
theorem dX20_isRow_23 : decode cX20_isRow 23 = .ok (.goto (-18), 3) := dk_167 255 238 (dk_at dksX20_isRow_1 0 rfl rfl)
theorem dX20_isRow_26 : decode cX20_isRow 26 = .ok (.iload_n 1, 1) := dk_27 (dk_at dksX20_isRow_1 3 rfl rfl)
theorem dX20_isRow_27 : decode cX20_isRow 27 = .ok (.ifCond .eq 24, 3) := dk_153 0 24 (dk_at dksX20_isRow_1 4 rfl rfl)
theorem dX20_isRow_30 : decode cX20_isRow 30 = .ok (.aload_n 0, 1) := dk_42 (dk_at dksX20_isRow_1 7 rfl rfl)
theorem dX20_isRow_31 : decode cX20_isRow 31 = .ok (.getfield 22, 3) := dk_180 0 22 (dk_at dksX20_isRow_1 8 rfl rfl)
theorem dX20_isRow_34 : decode cX20_isRow 34 = .ok (.aload_n 0, 1) := dk_42 (dk_at dksX20_isRow_1 11 rfl rfl)
theorem dX20_isRow_35 : decode cX20_isRow 35 = .ok (.getfield 3, 3) := dk_180 0 3 (dk_at dksX20_isRow_1 12 rfl rfl)
theorem dX20_isRow_38 : decode cX20_isRow 38 = .ok (.getfield 26, 3) := dk_180 0 26 (dk_at dksX20_isRow_1 15 rfl rfl)
theorem dX20_isRow_41 : decode cX20_isRow 41 = .ok (.invokevirtual 30, 3) := dk_182 0 30 (dk_at dksX20_isRow_1 18 rfl rfl)
theorem dX20_isRow_44 : decode cX20_isRow 44 = .ok (.if_icmp .ne 7, 3) := dk_160 0 7 (dk_at dksX20_isRow_1 21 rfl rfl)
theorem dX20_isRow_47 : decode cX20_isRow 47 = .ok (.iconst 1, 1) := dk_4 (dk_at dksX20_isRow_2 0 rfl rfl)
theorem dX20_isRow_48 : decode cX20_isRow 48 = .ok (.goto 4, 3) := dk_167 0 4 (dk_at dksX20_isRow_2 1 rfl rfl)
theorem dX20_isRow_51 : decode cX20_isRow 51 = .ok (.iconst 0, 1) := dk_3 (dk_at dksX20_isRow_2 4 rfl rfl)
theorem dX20_isRow_52 : decode cX20_isRow 52 = .ok (.ireturn, 1) := dk_172 (dk_at dksX20_isRow_2 5 rfl rfl)
abbrev cX20_order : ByteArray := prog_18_method_7_code
def yX20_order : MethodName := ⟨RX20, "order", "()Z"⟩
def dkwX20_order_4 : List UInt8 := [167, 0, 4, 3, 172]
abbrev dktX20_order_4 : List UInt8 := dkwX20_order_4 ++ []
def dkwX20_order_3 : List UInt8 := [182, 0, 51, 153, 0, 23, 42, 27, 8, 16, 58, 16, 7, 17, 1, 244, 182, 0, 67, 153, 0, 7, 4]
abbrev dktX20_order_3 : List UInt8 := dkwX20_order_3 ++ dktX20_order_4
def dkwX20_order_2 : List UInt8 := [172, 42, 16, 115, 182, 0, 51, 154, 0, 21, 42, 16, 114, 182, 0, 51, 154, 0, 12, 42, 16, 98]
abbrev dktX20_order_2 : List UInt8 := dkwX20_order_2 ++ dktX20_order_3
def dkwX20_order_1 : List UInt8 := [182, 0, 67, 172, 42, 16, 99, 182, 0, 51, 153, 0, 15, 42, 27, 8, 16, 58, 5, 16, 50, 182, 0, 67]
abbrev dktX20_order_1 : List UInt8 := dkwX20_order_1 ++ dktX20_order_2
def dkwX20_order_0 : List UInt8 := [42, 182, 0, 40, 60, 42, 16, 100, 182, 0, 51, 153, 0, 16, 42, 27, 16, 7, 16, 62, 8, 16, 50]
abbrev dktX20_order_0 : List UInt8 := dkwX20_order_0 ++ dktX20_order_1
theorem dksX20_order_0 : cX20_order.data.toList.drop 0 = dktX20_order_0 := by decide +kernel
theorem dksX20_order_1 : cX20_order.data.toList.drop 23 = dktX20_order_1 := dk_seg dksX20_order_0 23 rfl rfl
theorem dksX20_order_2 : cX20_order.data.toList.drop 47 = dktX20_order_2 := dk_seg dksX20_order_1 24 rfl rfl
theorem dksX20_order_3 : cX20_order.data.toList.drop 69 = dktX20_order_3 := dk_seg dksX20_order_2 22 rfl rfl
theorem dksX20_order_4 : cX20_order.data.toList.drop 92 = dktX20_order_4 := dk_seg dksX20_order_3 23 rfl rfl
theorem dX20_order_0 : decode cX20_order 0 = .ok (.aload_n 0, 1) := dk_42 (dk_at dksX20_order_0 0 rfl rfl)
theorem dX20_order_1 : decode cX20_order 1 = .ok (.invokevirtual 40, 3) := dk_182 0 40 (dk_at dksX20_order_0 1 rfl rfl)
theorem dX20_order_4 : decode cX20_order 4 = .ok (.istore_n 1, 1) := dk_60 (dk_at dksX20_order_0 4 rfl rfl)
theorem dX20_order_5 : decode cX20_order 5 = .ok (.aload_n 0, 1) := dk_42 (dk_at dksX20_order_0 5 rfl rfl)
theorem dX20_order_6 : decode cX20_order 6 = .ok (.bipush 100, 2) := dk_16 100 (dk_at dksX20_order_0 6 rfl rfl)
theorem dX20_order_8 : decode cX20_order 8 = .ok (.invokevirtual 51, 3) := dk_182 0 51 (dk_at dksX20_order_0 8 rfl rfl)
theorem dX20_order_11 : decode cX20_order 11 = .ok (.ifCond .eq 16, 3) := dk_153 0 16 (dk_at dksX20_order_0 11 rfl rfl)
theorem dX20_order_14 : decode cX20_order 14 = .ok (.aload_n 0, 1) := dk_42 (dk_at dksX20_order_0 14 rfl rfl)
theorem dX20_order_15 : decode cX20_order 15 = .ok (.iload_n 1, 1) := dk_27 (dk_at dksX20_order_0 15 rfl rfl)
theorem dX20_order_16 : decode cX20_order 16 = .ok (.bipush 7, 2) := dk_16 7 (dk_at dksX20_order_0 16 rfl rfl)
theorem dX20_order_18 : decode cX20_order 18 = .ok (.bipush 62, 2) := dk_16 62 (dk_at dksX20_order_0 18 rfl rfl)
theorem dX20_order_20 : decode cX20_order 20 = .ok (.iconst 5, 1) := dk_8 (dk_at dksX20_order_0 20 rfl rfl)
theorem dX20_order_21 : decode cX20_order 21 = .ok (.bipush 50, 2) := dk_16 50 (dk_at dksX20_order_0 21 rfl rfl)
theorem dX20_order_23 : decode cX20_order 23 = .ok (.invokevirtual 67, 3) := dk_182 0 67 (dk_at dksX20_order_1 0 rfl rfl)
theorem dX20_order_26 : decode cX20_order 26 = .ok (.ireturn, 1) := dk_172 (dk_at dksX20_order_1 3 rfl rfl)
theorem dX20_order_27 : decode cX20_order 27 = .ok (.aload_n 0, 1) := dk_42 (dk_at dksX20_order_1 4 rfl rfl)
theorem dX20_order_28 : decode cX20_order 28 = .ok (.bipush 99, 2) := dk_16 99 (dk_at dksX20_order_1 5 rfl rfl)
theorem dX20_order_30 : decode cX20_order 30 = .ok (.invokevirtual 51, 3) := dk_182 0 51 (dk_at dksX20_order_1 7 rfl rfl)
theorem dX20_order_33 : decode cX20_order 33 = .ok (.ifCond .eq 15, 3) := dk_153 0 15 (dk_at dksX20_order_1 10 rfl rfl)
theorem dX20_order_36 : decode cX20_order 36 = .ok (.aload_n 0, 1) := dk_42 (dk_at dksX20_order_1 13 rfl rfl)
theorem dX20_order_37 : decode cX20_order 37 = .ok (.iload_n 1, 1) := dk_27 (dk_at dksX20_order_1 14 rfl rfl)
theorem dX20_order_38 : decode cX20_order 38 = .ok (.iconst 5, 1) := dk_8 (dk_at dksX20_order_1 15 rfl rfl)
theorem dX20_order_39 : decode cX20_order 39 = .ok (.bipush 58, 2) := dk_16 58 (dk_at dksX20_order_1 16 rfl rfl)
theorem dX20_order_41 : decode cX20_order 41 = .ok (.iconst 2, 1) := dk_5 (dk_at dksX20_order_1 18 rfl rfl)
theorem dX20_order_42 : decode cX20_order 42 = .ok (.bipush 50, 2) := dk_16 50 (dk_at dksX20_order_1 19 rfl rfl)
theorem dX20_order_44 : decode cX20_order 44 = .ok (.invokevirtual 67, 3) := dk_182 0 67 (dk_at dksX20_order_1 21 rfl rfl)
theorem dX20_order_47 : decode cX20_order 47 = .ok (.ireturn, 1) := dk_172 (dk_at dksX20_order_2 0 rfl rfl)
theorem dX20_order_48 : decode cX20_order 48 = .ok (.aload_n 0, 1) := dk_42 (dk_at dksX20_order_2 1 rfl rfl)
theorem dX20_order_49 : decode cX20_order 49 = .ok (.bipush 115, 2) := dk_16 115 (dk_at dksX20_order_2 2 rfl rfl)
theorem dX20_order_51 : decode cX20_order 51 = .ok (.invokevirtual 51, 3) := dk_182 0 51 (dk_at dksX20_order_2 4 rfl rfl)
theorem dX20_order_54 : decode cX20_order 54 = .ok (.ifCond .ne 21, 3) := dk_154 0 21 (dk_at dksX20_order_2 7 rfl rfl)
theorem dX20_order_57 : decode cX20_order 57 = .ok (.aload_n 0, 1) := dk_42 (dk_at dksX20_order_2 10 rfl rfl)
theorem dX20_order_58 : decode cX20_order 58 = .ok (.bipush 114, 2) := dk_16 114 (dk_at dksX20_order_2 11 rfl rfl)
theorem dX20_order_60 : decode cX20_order 60 = .ok (.invokevirtual 51, 3) := dk_182 0 51 (dk_at dksX20_order_2 13 rfl rfl)
theorem dX20_order_63 : decode cX20_order 63 = .ok (.ifCond .ne 12, 3) := dk_154 0 12 (dk_at dksX20_order_2 16 rfl rfl)
theorem dX20_order_66 : decode cX20_order 66 = .ok (.aload_n 0, 1) := dk_42 (dk_at dksX20_order_2 19 rfl rfl)
theorem dX20_order_67 : decode cX20_order 67 = .ok (.bipush 98, 2) := dk_16 98 (dk_at dksX20_order_2 20 rfl rfl)
theorem dX20_order_69 : decode cX20_order 69 = .ok (.invokevirtual 51, 3) := dk_182 0 51 (dk_at dksX20_order_3 0 rfl rfl)
theorem dX20_order_72 : decode cX20_order 72 = .ok (.ifCond .eq 23, 3) := dk_153 0 23 (dk_at dksX20_order_3 3 rfl rfl)
theorem dX20_order_75 : decode cX20_order 75 = .ok (.aload_n 0, 1) := dk_42 (dk_at dksX20_order_3 6 rfl rfl)
theorem dX20_order_76 : decode cX20_order 76 = .ok (.iload_n 1, 1) := dk_27 (dk_at dksX20_order_3 7 rfl rfl)
theorem dX20_order_77 : decode cX20_order 77 = .ok (.iconst 5, 1) := dk_8 (dk_at dksX20_order_3 8 rfl rfl)
theorem dX20_order_78 : decode cX20_order 78 = .ok (.bipush 58, 2) := dk_16 58 (dk_at dksX20_order_3 9 rfl rfl)
theorem dX20_order_80 : decode cX20_order 80 = .ok (.bipush 7, 2) := dk_16 7 (dk_at dksX20_order_3 11 rfl rfl)
theorem dX20_order_82 : decode cX20_order 82 = .ok (.sipush 500, 3) := dk_17 1 244 (dk_at dksX20_order_3 13 rfl rfl)
theorem dX20_order_85 : decode cX20_order 85 = .ok (.invokevirtual 67, 3) := dk_182 0 67 (dk_at dksX20_order_3 16 rfl rfl)
theorem dX20_order_88 : decode cX20_order 88 = .ok (.ifCond .eq 7, 3) := dk_153 0 7 (dk_at dksX20_order_3 19 rfl rfl)
theorem dX20_order_91 : decode cX20_order 91 = .ok (.iconst 1, 1) := dk_4 (dk_at dksX20_order_3 22 rfl rfl)
theorem dX20_order_92 : decode cX20_order 92 = .ok (.goto 4, 3) := dk_167 0 4 (dk_at dksX20_order_4 0 rfl rfl)
theorem dX20_order_95 : decode cX20_order 95 = .ok (.iconst 0, 1) := dk_3 (dk_at dksX20_order_4 3 rfl rfl)
theorem dX20_order_96 : decode cX20_order 96 = .ok (.ireturn, 1) := dk_172 (dk_at dksX20_order_4 4 rfl rfl)
abbrev cX20_next : ByteArray := prog_18_method_2_code
def yX20_next : MethodName := ⟨RX20, "next", "()I"⟩
def dkwX20_next_1 : List UInt8 := [42, 180, 0, 22, 182, 0, 36, 167, 0, 4, 3, 172]
abbrev dktX20_next_1 : List UInt8 := dkwX20_next_1 ++ []
def dkwX20_next_0 : List UInt8 := [42, 180, 0, 22, 42, 180, 0, 3, 180, 0, 26, 182, 0, 30, 162, 0, 20, 42, 180, 0, 3, 180, 0, 26]
abbrev dktX20_next_0 : List UInt8 := dkwX20_next_0 ++ dktX20_next_1
theorem dksX20_next_0 : cX20_next.data.toList.drop 0 = dktX20_next_0 := by decide +kernel
theorem dksX20_next_1 : cX20_next.data.toList.drop 24 = dktX20_next_1 := dk_seg dksX20_next_0 24 rfl rfl
theorem dX20_next_0 : decode cX20_next 0 = .ok (.aload_n 0, 1) := dk_42 (dk_at dksX20_next_0 0 rfl rfl)
theorem dX20_next_1 : decode cX20_next 1 = .ok (.getfield 22, 3) := dk_180 0 22 (dk_at dksX20_next_0 1 rfl rfl)
theorem dX20_next_4 : decode cX20_next 4 = .ok (.aload_n 0, 1) := dk_42 (dk_at dksX20_next_0 4 rfl rfl)
theorem dX20_next_5 : decode cX20_next 5 = .ok (.getfield 3, 3) := dk_180 0 3 (dk_at dksX20_next_0 5 rfl rfl)
theorem dX20_next_8 : decode cX20_next 8 = .ok (.getfield 26, 3) := dk_180 0 26 (dk_at dksX20_next_0 8 rfl rfl)
theorem dX20_next_11 : decode cX20_next 11 = .ok (.invokevirtual 30, 3) := dk_182 0 30 (dk_at dksX20_next_0 11 rfl rfl)
theorem dX20_next_14 : decode cX20_next 14 = .ok (.if_icmp .ge 20, 3) := dk_162 0 20 (dk_at dksX20_next_0 14 rfl rfl)
theorem dX20_next_17 : decode cX20_next 17 = .ok (.aload_n 0, 1) := dk_42 (dk_at dksX20_next_0 17 rfl rfl)
theorem dX20_next_18 : decode cX20_next 18 = .ok (.getfield 3, 3) := dk_180 0 3 (dk_at dksX20_next_0 18 rfl rfl)
theorem dX20_next_21 : decode cX20_next 21 = .ok (.getfield 26, 3) := dk_180 0 26 (dk_at dksX20_next_0 21 rfl rfl)
theorem dX20_next_24 : decode cX20_next 24 = .ok (.aload_n 0, 1) := dk_42 (dk_at dksX20_next_1 0 rfl rfl)
theorem dX20_next_25 : decode cX20_next 25 = .ok (.getfield 22, 3) := dk_180 0 22 (dk_at dksX20_next_1 1 rfl rfl)
theorem dX20_next_28 : decode cX20_next 28 = .ok (.invokevirtual 36, 3) := dk_182 0 36 (dk_at dksX20_next_1 4 rfl rfl)
theorem dX20_next_31 : decode cX20_next 31 = .ok (.goto 4, 3) := dk_167 0 4 (dk_at dksX20_next_1 7 rfl rfl)
theorem dX20_next_34 : decode cX20_next 34 = .ok (.iconst 0, 1) := dk_3 (dk_at dksX20_next_1 10 rfl rfl)
theorem dX20_next_35 : decode cX20_next 35 = .ok (.ireturn, 1) := dk_172 (dk_at dksX20_next_1 11 rfl rfl)
abbrev cX20_takes : ByteArray := prog_18_method_3_code
def yX20_takes : MethodName := ⟨RX20, "takes", "(C)Z"⟩
def dkwX20_takes_1 : List UInt8 := [167, 0, 4, 3, 96, 181, 0, 22, 28, 172]
abbrev dktX20_takes_1 : List UInt8 := dkwX20_takes_1 ++ []
def dkwX20_takes_0 : List UInt8 := [42, 182, 0, 40, 27, 160, 0, 7, 4, 167, 0, 4, 3, 61, 42, 89, 180, 0, 22, 28, 153, 0, 7, 4]
abbrev dktX20_takes_0 : List UInt8 := dkwX20_takes_0 ++ dktX20_takes_1
theorem dksX20_takes_0 : cX20_takes.data.toList.drop 0 = dktX20_takes_0 := by decide +kernel
theorem dksX20_takes_1 : cX20_takes.data.toList.drop 24 = dktX20_takes_1 := dk_seg dksX20_takes_0 24 rfl rfl
theorem dX20_takes_0 : decode cX20_takes 0 = .ok (.aload_n 0, 1) := dk_42 (dk_at dksX20_takes_0 0 rfl rfl)
theorem dX20_takes_1 : decode cX20_takes 1 = .ok (.invokevirtual 40, 3) := dk_182 0 40 (dk_at dksX20_takes_0 1 rfl rfl)
theorem dX20_takes_4 : decode cX20_takes 4 = .ok (.iload_n 1, 1) := dk_27 (dk_at dksX20_takes_0 4 rfl rfl)
theorem dX20_takes_5 : decode cX20_takes 5 = .ok (.if_icmp .ne 7, 3) := dk_160 0 7 (dk_at dksX20_takes_0 5 rfl rfl)
theorem dX20_takes_8 : decode cX20_takes 8 = .ok (.iconst 1, 1) := dk_4 (dk_at dksX20_takes_0 8 rfl rfl)
theorem dX20_takes_9 : decode cX20_takes 9 = .ok (.goto 4, 3) := dk_167 0 4 (dk_at dksX20_takes_0 9 rfl rfl)
theorem dX20_takes_12 : decode cX20_takes 12 = .ok (.iconst 0, 1) := dk_3 (dk_at dksX20_takes_0 12 rfl rfl)
theorem dX20_takes_13 : decode cX20_takes 13 = .ok (.istore_n 2, 1) := dk_61 (dk_at dksX20_takes_0 13 rfl rfl)
theorem dX20_takes_14 : decode cX20_takes 14 = .ok (.aload_n 0, 1) := dk_42 (dk_at dksX20_takes_0 14 rfl rfl)
theorem dX20_takes_15 : decode cX20_takes 15 = .ok (.dup, 1) := dk_89 (dk_at dksX20_takes_0 15 rfl rfl)
theorem dX20_takes_16 : decode cX20_takes 16 = .ok (.getfield 22, 3) := dk_180 0 22 (dk_at dksX20_takes_0 16 rfl rfl)
theorem dX20_takes_19 : decode cX20_takes 19 = .ok (.iload_n 2, 1) := dk_28 (dk_at dksX20_takes_0 19 rfl rfl)
theorem dX20_takes_20 : decode cX20_takes 20 = .ok (.ifCond .eq 7, 3) := dk_153 0 7 (dk_at dksX20_takes_0 20 rfl rfl)
theorem dX20_takes_23 : decode cX20_takes 23 = .ok (.iconst 1, 1) := dk_4 (dk_at dksX20_takes_0 23 rfl rfl)
theorem dX20_takes_24 : decode cX20_takes 24 = .ok (.goto 4, 3) := dk_167 0 4 (dk_at dksX20_takes_1 0 rfl rfl)
theorem dX20_takes_27 : decode cX20_takes 27 = .ok (.iconst 0, 1) := dk_3 (dk_at dksX20_takes_1 3 rfl rfl)
theorem dX20_takes_28 : decode cX20_takes 28 = .ok (.iadd, 1) := dk_96 (dk_at dksX20_takes_1 4 rfl rfl)
theorem dX20_takes_29 : decode cX20_takes 29 = .ok (.putfield 22, 3) := dk_181 0 22 (dk_at dksX20_takes_1 5 rfl rfl)
theorem dX20_takes_32 : decode cX20_takes 32 = .ok (.iload_n 2, 1) := dk_28 (dk_at dksX20_takes_1 8 rfl rfl)
theorem dX20_takes_33 : decode cX20_takes 33 = .ok (.ireturn, 1) := dk_172 (dk_at dksX20_takes_1 9 rfl rfl)
abbrev cX20_rest : ByteArray := prog_18_method_6_code
def yX20_rest : MethodName := ⟨RX20, "rest", "(IICII)Z"⟩
def dkwX20_rest_3 : List UInt8 := [183, 0, 60, 182, 0, 63, 87, 21, 8, 2, 159, 0, 7, 4, 167, 0, 4, 3, 172]
abbrev dktX20_rest_3 : List UInt8 := dkwX20_rest_3 ++ []
def dkwX20_rest_2 : List UInt8 := [42, 21, 5, 182, 0, 55, 54, 8, 42, 180, 0, 18, 187, 0, 58, 89, 27, 21, 6, 21, 7, 21, 8]
abbrev dktX20_rest_2 : List UInt8 := dkwX20_rest_2 ++ dktX20_rest_3
def dkwX20_rest_1 : List UInt8 := [21, 4, 182, 0, 47, 54, 7, 21, 7, 2, 159, 0, 12, 42, 16, 42, 182, 0, 51, 154, 0, 5, 3, 172]
abbrev dktX20_rest_1 : List UInt8 := dkwX20_rest_1 ++ dktX20_rest_2
def dkwX20_rest_0 : List UInt8 := [42, 28, 182, 0, 47, 54, 6, 21, 6, 2, 159, 0, 11, 42, 29, 182, 0, 51, 154, 0, 5, 3, 172, 42]
abbrev dktX20_rest_0 : List UInt8 := dkwX20_rest_0 ++ dktX20_rest_1
theorem dksX20_rest_0 : cX20_rest.data.toList.drop 0 = dktX20_rest_0 := by decide +kernel
theorem dksX20_rest_1 : cX20_rest.data.toList.drop 24 = dktX20_rest_1 := dk_seg dksX20_rest_0 24 rfl rfl
theorem dksX20_rest_2 : cX20_rest.data.toList.drop 48 = dktX20_rest_2 := dk_seg dksX20_rest_1 24 rfl rfl
theorem dksX20_rest_3 : cX20_rest.data.toList.drop 71 = dktX20_rest_3 := dk_seg dksX20_rest_2 23 rfl rfl
theorem dX20_rest_0 : decode cX20_rest 0 = .ok (.aload_n 0, 1) := dk_42 (dk_at dksX20_rest_0 0 rfl rfl)
theorem dX20_rest_1 : decode cX20_rest 1 = .ok (.iload_n 2, 1) := dk_28 (dk_at dksX20_rest_0 1 rfl rfl)
theorem dX20_rest_2 : decode cX20_rest 2 = .ok (.invokevirtual 47, 3) := dk_182 0 47 (dk_at dksX20_rest_0 2 rfl rfl)
theorem dX20_rest_5 : decode cX20_rest 5 = .ok (.istore 6, 2) := dk_54 6 (dk_at dksX20_rest_0 5 rfl rfl)
theorem dX20_rest_7 : decode cX20_rest 7 = .ok (.iload 6, 2) := dk_21 6 (dk_at dksX20_rest_0 7 rfl rfl)
theorem dX20_rest_9 : decode cX20_rest 9 = .ok (.iconst (-1), 1) := dk_2 (dk_at dksX20_rest_0 9 rfl rfl)
theorem dX20_rest_10 : decode cX20_rest 10 = .ok (.if_icmp .eq 11, 3) := dk_159 0 11 (dk_at dksX20_rest_0 10 rfl rfl)
theorem dX20_rest_13 : decode cX20_rest 13 = .ok (.aload_n 0, 1) := dk_42 (dk_at dksX20_rest_0 13 rfl rfl)
theorem dX20_rest_14 : decode cX20_rest 14 = .ok (.iload_n 3, 1) := dk_29 (dk_at dksX20_rest_0 14 rfl rfl)
theorem dX20_rest_15 : decode cX20_rest 15 = .ok (.invokevirtual 51, 3) := dk_182 0 51 (dk_at dksX20_rest_0 15 rfl rfl)
theorem dX20_rest_18 : decode cX20_rest 18 = .ok (.ifCond .ne 5, 3) := dk_154 0 5 (dk_at dksX20_rest_0 18 rfl rfl)
theorem dX20_rest_21 : decode cX20_rest 21 = .ok (.iconst 0, 1) := dk_3 (dk_at dksX20_rest_0 21 rfl rfl)
theorem dX20_rest_22 : decode cX20_rest 22 = .ok (.ireturn, 1) := dk_172 (dk_at dksX20_rest_0 22 rfl rfl)
theorem dX20_rest_23 : decode cX20_rest 23 = .ok (.aload_n 0, 1) := dk_42 (dk_at dksX20_rest_0 23 rfl rfl)
theorem dX20_rest_24 : decode cX20_rest 24 = .ok (.iload 4, 2) := dk_21 4 (dk_at dksX20_rest_1 0 rfl rfl)
theorem dX20_rest_26 : decode cX20_rest 26 = .ok (.invokevirtual 47, 3) := dk_182 0 47 (dk_at dksX20_rest_1 2 rfl rfl)
theorem dX20_rest_29 : decode cX20_rest 29 = .ok (.istore 7, 2) := dk_54 7 (dk_at dksX20_rest_1 5 rfl rfl)
theorem dX20_rest_31 : decode cX20_rest 31 = .ok (.iload 7, 2) := dk_21 7 (dk_at dksX20_rest_1 7 rfl rfl)
theorem dX20_rest_33 : decode cX20_rest 33 = .ok (.iconst (-1), 1) := dk_2 (dk_at dksX20_rest_1 9 rfl rfl)
theorem dX20_rest_34 : decode cX20_rest 34 = .ok (.if_icmp .eq 12, 3) := dk_159 0 12 (dk_at dksX20_rest_1 10 rfl rfl)
theorem dX20_rest_37 : decode cX20_rest 37 = .ok (.aload_n 0, 1) := dk_42 (dk_at dksX20_rest_1 13 rfl rfl)
theorem dX20_rest_38 : decode cX20_rest 38 = .ok (.bipush 42, 2) := dk_16 42 (dk_at dksX20_rest_1 14 rfl rfl)
theorem dX20_rest_40 : decode cX20_rest 40 = .ok (.invokevirtual 51, 3) := dk_182 0 51 (dk_at dksX20_rest_1 16 rfl rfl)
theorem dX20_rest_43 : decode cX20_rest 43 = .ok (.ifCond .ne 5, 3) := dk_154 0 5 (dk_at dksX20_rest_1 19 rfl rfl)
theorem dX20_rest_46 : decode cX20_rest 46 = .ok (.iconst 0, 1) := dk_3 (dk_at dksX20_rest_1 22 rfl rfl)
theorem dX20_rest_47 : decode cX20_rest 47 = .ok (.ireturn, 1) := dk_172 (dk_at dksX20_rest_1 23 rfl rfl)
theorem dX20_rest_48 : decode cX20_rest 48 = .ok (.aload_n 0, 1) := dk_42 (dk_at dksX20_rest_2 0 rfl rfl)
theorem dX20_rest_49 : decode cX20_rest 49 = .ok (.iload 5, 2) := dk_21 5 (dk_at dksX20_rest_2 1 rfl rfl)
theorem dX20_rest_51 : decode cX20_rest 51 = .ok (.invokevirtual 55, 3) := dk_182 0 55 (dk_at dksX20_rest_2 3 rfl rfl)
theorem dX20_rest_54 : decode cX20_rest 54 = .ok (.istore 8, 2) := dk_54 8 (dk_at dksX20_rest_2 6 rfl rfl)
theorem dX20_rest_56 : decode cX20_rest 56 = .ok (.aload_n 0, 1) := dk_42 (dk_at dksX20_rest_2 8 rfl rfl)
theorem dX20_rest_57 : decode cX20_rest 57 = .ok (.getfield 18, 3) := dk_180 0 18 (dk_at dksX20_rest_2 9 rfl rfl)
theorem dX20_rest_60 : decode cX20_rest 60 = .ok (.new 58, 3) := dk_187 0 58 (dk_at dksX20_rest_2 12 rfl rfl)
theorem dX20_rest_63 : decode cX20_rest 63 = .ok (.dup, 1) := dk_89 (dk_at dksX20_rest_2 15 rfl rfl)
theorem dX20_rest_64 : decode cX20_rest 64 = .ok (.iload_n 1, 1) := dk_27 (dk_at dksX20_rest_2 16 rfl rfl)
theorem dX20_rest_65 : decode cX20_rest 65 = .ok (.iload 6, 2) := dk_21 6 (dk_at dksX20_rest_2 17 rfl rfl)
theorem dX20_rest_67 : decode cX20_rest 67 = .ok (.iload 7, 2) := dk_21 7 (dk_at dksX20_rest_2 19 rfl rfl)
theorem dX20_rest_69 : decode cX20_rest 69 = .ok (.iload 8, 2) := dk_21 8 (dk_at dksX20_rest_2 21 rfl rfl)
theorem dX20_rest_71 : decode cX20_rest 71 = .ok (.invokespecial 60, 3) := dk_183 0 60 (dk_at dksX20_rest_3 0 rfl rfl)
theorem dX20_rest_74 : decode cX20_rest 74 = .ok (.invokevirtual 63, 3) := dk_182 0 63 (dk_at dksX20_rest_3 3 rfl rfl)
theorem dX20_rest_77 : decode cX20_rest 77 = .ok (.pop, 1) := dk_87 (dk_at dksX20_rest_3 6 rfl rfl)
theorem dX20_rest_78 : decode cX20_rest 78 = .ok (.iload 8, 2) := dk_21 8 (dk_at dksX20_rest_3 7 rfl rfl)
theorem dX20_rest_80 : decode cX20_rest 80 = .ok (.iconst (-1), 1) := dk_2 (dk_at dksX20_rest_3 9 rfl rfl)
theorem dX20_rest_81 : decode cX20_rest 81 = .ok (.if_icmp .eq 7, 3) := dk_159 0 7 (dk_at dksX20_rest_3 10 rfl rfl)
theorem dX20_rest_84 : decode cX20_rest 84 = .ok (.iconst 1, 1) := dk_4 (dk_at dksX20_rest_3 13 rfl rfl)
theorem dX20_rest_85 : decode cX20_rest 85 = .ok (.goto 4, 3) := dk_167 0 4 (dk_at dksX20_rest_3 14 rfl rfl)
theorem dX20_rest_88 : decode cX20_rest 88 = .ok (.iconst 0, 1) := dk_3 (dk_at dksX20_rest_3 17 rfl rfl)
theorem dX20_rest_89 : decode cX20_rest 89 = .ok (.ireturn, 1) := dk_172 (dk_at dksX20_rest_3 18 rfl rfl)
abbrev cX20_digit : ByteArray := prog_18_method_4_code
def yX20_digit : MethodName := ⟨RX20, "digit", "(I)I"⟩
def dkwX20_digit_1 : List UInt8 := [4, 167, 0, 4, 3, 96, 181, 0, 22, 29, 153, 0, 7, 28, 167, 0, 4, 2, 172]
abbrev dktX20_digit_1 : List UInt8 := dkwX20_digit_1 ++ []
def dkwX20_digit_0 : List UInt8 := [42, 182, 0, 40, 16, 48, 100, 61, 28, 3, 27, 184, 0, 43, 62, 42, 89, 180, 0, 22, 29, 153, 0, 7]
abbrev dktX20_digit_0 : List UInt8 := dkwX20_digit_0 ++ dktX20_digit_1
theorem dksX20_digit_0 : cX20_digit.data.toList.drop 0 = dktX20_digit_0 := by decide +kernel
theorem dksX20_digit_1 : cX20_digit.data.toList.drop 24 = dktX20_digit_1 := dk_seg dksX20_digit_0 24 rfl rfl
theorem dX20_digit_0 : decode cX20_digit 0 = .ok (.aload_n 0, 1) := dk_42 (dk_at dksX20_digit_0 0 rfl rfl)
theorem dX20_digit_1 : decode cX20_digit 1 = .ok (.invokevirtual 40, 3) := dk_182 0 40 (dk_at dksX20_digit_0 1 rfl rfl)
theorem dX20_digit_4 : decode cX20_digit 4 = .ok (.bipush 48, 2) := dk_16 48 (dk_at dksX20_digit_0 4 rfl rfl)
theorem dX20_digit_6 : decode cX20_digit 6 = .ok (.isub, 1) := dk_100 (dk_at dksX20_digit_0 6 rfl rfl)
theorem dX20_digit_7 : decode cX20_digit 7 = .ok (.istore_n 2, 1) := dk_61 (dk_at dksX20_digit_0 7 rfl rfl)
theorem dX20_digit_8 : decode cX20_digit 8 = .ok (.iload_n 2, 1) := dk_28 (dk_at dksX20_digit_0 8 rfl rfl)
theorem dX20_digit_9 : decode cX20_digit 9 = .ok (.iconst 0, 1) := dk_3 (dk_at dksX20_digit_0 9 rfl rfl)
theorem dX20_digit_10 : decode cX20_digit 10 = .ok (.iload_n 1, 1) := dk_27 (dk_at dksX20_digit_0 10 rfl rfl)
theorem dX20_digit_11 : decode cX20_digit 11 = .ok (.invokestatic 43, 3) := dk_184 0 43 (dk_at dksX20_digit_0 11 rfl rfl)
theorem dX20_digit_14 : decode cX20_digit 14 = .ok (.istore_n 3, 1) := dk_62 (dk_at dksX20_digit_0 14 rfl rfl)
theorem dX20_digit_15 : decode cX20_digit 15 = .ok (.aload_n 0, 1) := dk_42 (dk_at dksX20_digit_0 15 rfl rfl)
theorem dX20_digit_16 : decode cX20_digit 16 = .ok (.dup, 1) := dk_89 (dk_at dksX20_digit_0 16 rfl rfl)
theorem dX20_digit_17 : decode cX20_digit 17 = .ok (.getfield 22, 3) := dk_180 0 22 (dk_at dksX20_digit_0 17 rfl rfl)
theorem dX20_digit_20 : decode cX20_digit 20 = .ok (.iload_n 3, 1) := dk_29 (dk_at dksX20_digit_0 20 rfl rfl)
theorem dX20_digit_21 : decode cX20_digit 21 = .ok (.ifCond .eq 7, 3) := dk_153 0 7 (dk_at dksX20_digit_0 21 rfl rfl)
theorem dX20_digit_24 : decode cX20_digit 24 = .ok (.iconst 1, 1) := dk_4 (dk_at dksX20_digit_1 0 rfl rfl)
theorem dX20_digit_25 : decode cX20_digit 25 = .ok (.goto 4, 3) := dk_167 0 4 (dk_at dksX20_digit_1 1 rfl rfl)
theorem dX20_digit_28 : decode cX20_digit 28 = .ok (.iconst 0, 1) := dk_3 (dk_at dksX20_digit_1 4 rfl rfl)
theorem dX20_digit_29 : decode cX20_digit 29 = .ok (.iadd, 1) := dk_96 (dk_at dksX20_digit_1 5 rfl rfl)
theorem dX20_digit_30 : decode cX20_digit 30 = .ok (.putfield 22, 3) := dk_181 0 22 (dk_at dksX20_digit_1 6 rfl rfl)
theorem dX20_digit_33 : decode cX20_digit 33 = .ok (.iload_n 3, 1) := dk_29 (dk_at dksX20_digit_1 9 rfl rfl)
theorem dX20_digit_34 : decode cX20_digit 34 = .ok (.ifCond .eq 7, 3) := dk_153 0 7 (dk_at dksX20_digit_1 10 rfl rfl)
theorem dX20_digit_37 : decode cX20_digit 37 = .ok (.iload_n 2, 1) := dk_28 (dk_at dksX20_digit_1 13 rfl rfl)
theorem dX20_digit_38 : decode cX20_digit 38 = .ok (.goto 4, 3) := dk_167 0 4 (dk_at dksX20_digit_1 14 rfl rfl)
theorem dX20_digit_41 : decode cX20_digit 41 = .ok (.iconst (-1), 1) := dk_2 (dk_at dksX20_digit_1 17 rfl rfl)
theorem dX20_digit_42 : decode cX20_digit 42 = .ok (.ireturn, 1) := dk_172 (dk_at dksX20_digit_1 18 rfl rfl)
abbrev cX20_number : ByteArray := prog_18_method_5_code
def yX20_number : MethodName := ⟨RX20, "number", "(I)I"⟩
def dkwX20_number_2 : List UInt8 := [61, 42, 89, 180, 0, 22, 4, 96, 181, 0, 22, 167, 255, 199, 28, 154, 0, 7, 2, 167, 0, 4, 28, 172]
abbrev dktX20_number_2 : List UInt8 := dkwX20_number_2 ++ []
def dkwX20_number_1 : List UInt8 := [96, 16, 48, 100, 4, 27, 184, 0, 43, 153, 0, 29, 16, 10, 28, 104, 42, 182, 0, 40, 96, 16, 48, 100]
abbrev dktX20_number_1 : List UInt8 := dkwX20_number_1 ++ dktX20_number_2
def dkwX20_number_0 : List UInt8 := [3, 61, 42, 182, 0, 40, 16, 48, 16, 57, 184, 0, 43, 153, 0, 49, 16, 10, 28, 104, 42, 182, 0, 40]
abbrev dktX20_number_0 : List UInt8 := dkwX20_number_0 ++ dktX20_number_1
theorem dksX20_number_0 : cX20_number.data.toList.drop 0 = dktX20_number_0 := by decide +kernel
theorem dksX20_number_1 : cX20_number.data.toList.drop 24 = dktX20_number_1 := dk_seg dksX20_number_0 24 rfl rfl
theorem dksX20_number_2 : cX20_number.data.toList.drop 48 = dktX20_number_2 := dk_seg dksX20_number_1 24 rfl rfl
theorem dX20_number_0 : decode cX20_number 0 = .ok (.iconst 0, 1) := dk_3 (dk_at dksX20_number_0 0 rfl rfl)
theorem dX20_number_1 : decode cX20_number 1 = .ok (.istore_n 2, 1) := dk_61 (dk_at dksX20_number_0 1 rfl rfl)
theorem dX20_number_2 : decode cX20_number 2 = .ok (.aload_n 0, 1) := dk_42 (dk_at dksX20_number_0 2 rfl rfl)
theorem dX20_number_3 : decode cX20_number 3 = .ok (.invokevirtual 40, 3) := dk_182 0 40 (dk_at dksX20_number_0 3 rfl rfl)
theorem dX20_number_6 : decode cX20_number 6 = .ok (.bipush 48, 2) := dk_16 48 (dk_at dksX20_number_0 6 rfl rfl)
theorem dX20_number_8 : decode cX20_number 8 = .ok (.bipush 57, 2) := dk_16 57 (dk_at dksX20_number_0 8 rfl rfl)
theorem dX20_number_10 : decode cX20_number 10 = .ok (.invokestatic 43, 3) := dk_184 0 43 (dk_at dksX20_number_0 10 rfl rfl)
theorem dX20_number_13 : decode cX20_number 13 = .ok (.ifCond .eq 49, 3) := dk_153 0 49 (dk_at dksX20_number_0 13 rfl rfl)
theorem dX20_number_16 : decode cX20_number 16 = .ok (.bipush 10, 2) := dk_16 10 (dk_at dksX20_number_0 16 rfl rfl)
theorem dX20_number_18 : decode cX20_number 18 = .ok (.iload_n 2, 1) := dk_28 (dk_at dksX20_number_0 18 rfl rfl)
theorem dX20_number_19 : decode cX20_number 19 = .ok (.imul, 1) := dk_104 (dk_at dksX20_number_0 19 rfl rfl)
theorem dX20_number_20 : decode cX20_number 20 = .ok (.aload_n 0, 1) := dk_42 (dk_at dksX20_number_0 20 rfl rfl)
theorem dX20_number_21 : decode cX20_number 21 = .ok (.invokevirtual 40, 3) := dk_182 0 40 (dk_at dksX20_number_0 21 rfl rfl)
theorem dX20_number_24 : decode cX20_number 24 = .ok (.iadd, 1) := dk_96 (dk_at dksX20_number_1 0 rfl rfl)
theorem dX20_number_25 : decode cX20_number 25 = .ok (.bipush 48, 2) := dk_16 48 (dk_at dksX20_number_1 1 rfl rfl)
theorem dX20_number_27 : decode cX20_number 27 = .ok (.isub, 1) := dk_100 (dk_at dksX20_number_1 3 rfl rfl)
theorem dX20_number_28 : decode cX20_number 28 = .ok (.iconst 1, 1) := dk_4 (dk_at dksX20_number_1 4 rfl rfl)
theorem dX20_number_29 : decode cX20_number 29 = .ok (.iload_n 1, 1) := dk_27 (dk_at dksX20_number_1 5 rfl rfl)
theorem dX20_number_30 : decode cX20_number 30 = .ok (.invokestatic 43, 3) := dk_184 0 43 (dk_at dksX20_number_1 6 rfl rfl)
theorem dX20_number_33 : decode cX20_number 33 = .ok (.ifCond .eq 29, 3) := dk_153 0 29 (dk_at dksX20_number_1 9 rfl rfl)
theorem dX20_number_36 : decode cX20_number 36 = .ok (.bipush 10, 2) := dk_16 10 (dk_at dksX20_number_1 12 rfl rfl)
theorem dX20_number_38 : decode cX20_number 38 = .ok (.iload_n 2, 1) := dk_28 (dk_at dksX20_number_1 14 rfl rfl)
theorem dX20_number_39 : decode cX20_number 39 = .ok (.imul, 1) := dk_104 (dk_at dksX20_number_1 15 rfl rfl)
theorem dX20_number_40 : decode cX20_number 40 = .ok (.aload_n 0, 1) := dk_42 (dk_at dksX20_number_1 16 rfl rfl)
theorem dX20_number_41 : decode cX20_number 41 = .ok (.invokevirtual 40, 3) := dk_182 0 40 (dk_at dksX20_number_1 17 rfl rfl)
theorem dX20_number_44 : decode cX20_number 44 = .ok (.iadd, 1) := dk_96 (dk_at dksX20_number_1 20 rfl rfl)
theorem dX20_number_45 : decode cX20_number 45 = .ok (.bipush 48, 2) := dk_16 48 (dk_at dksX20_number_1 21 rfl rfl)
theorem dX20_number_47 : decode cX20_number 47 = .ok (.isub, 1) := dk_100 (dk_at dksX20_number_1 23 rfl rfl)
theorem dX20_number_48 : decode cX20_number 48 = .ok (.istore_n 2, 1) := dk_61 (dk_at dksX20_number_2 0 rfl rfl)
theorem dX20_number_49 : decode cX20_number 49 = .ok (.aload_n 0, 1) := dk_42 (dk_at dksX20_number_2 1 rfl rfl)
theorem dX20_number_50 : decode cX20_number 50 = .ok (.dup, 1) := dk_89 (dk_at dksX20_number_2 2 rfl rfl)
theorem dX20_number_51 : decode cX20_number 51 = .ok (.getfield 22, 3) := dk_180 0 22 (dk_at dksX20_number_2 3 rfl rfl)
theorem dX20_number_54 : decode cX20_number 54 = .ok (.iconst 1, 1) := dk_4 (dk_at dksX20_number_2 6 rfl rfl)
theorem dX20_number_55 : decode cX20_number 55 = .ok (.iadd, 1) := dk_96 (dk_at dksX20_number_2 7 rfl rfl)
theorem dX20_number_56 : decode cX20_number 56 = .ok (.putfield 22, 3) := dk_181 0 22 (dk_at dksX20_number_2 8 rfl rfl)
theorem dX20_number_59 : decode cX20_number 59 = .ok (.goto (-57), 3) := dk_167 255 199 (dk_at dksX20_number_2 11 rfl rfl)
theorem dX20_number_62 : decode cX20_number 62 = .ok (.iload_n 2, 1) := dk_28 (dk_at dksX20_number_2 14 rfl rfl)
theorem dX20_number_63 : decode cX20_number 63 = .ok (.ifCond .ne 7, 3) := dk_154 0 7 (dk_at dksX20_number_2 15 rfl rfl)
theorem dX20_number_66 : decode cX20_number 66 = .ok (.iconst (-1), 1) := dk_2 (dk_at dksX20_number_2 18 rfl rfl)
theorem dX20_number_67 : decode cX20_number 67 = .ok (.goto 4, 3) := dk_167 0 4 (dk_at dksX20_number_2 19 rfl rfl)
theorem dX20_number_70 : decode cX20_number 70 = .ok (.iload_n 2, 1) := dk_28 (dk_at dksX20_number_2 22 rfl rfl)
theorem dX20_number_71 : decode cX20_number 71 = .ok (.ireturn, 1) := dk_172 (dk_at dksX20_number_2 23 rfl rfl)
theorem q122 : (Jvm.Cond.initialized "BottleLoop$Reader") ∈ lw_all := lw_g (lw_at lw_m1 44 rfl) rfl
theorem q259 : (Jvm.Cond.fieldLinkNest "BottleLoop$Reader" (26 : Nat) "BottleLoop" "text" "Ljava/lang/StringBuilder;" "BottleLoop") ∈ lw_tbl := lw_at lw_m1 181 rfl
theorem q634 : (Jvm.Cond.instantiable "BottleLoop$Reader" (3 : Nat)) ∈ lw_all := lw_g (lw_at lw_m3 76 rfl) rfl
theorem q636 : (Jvm.Cond.instanceMethod ({ cls := "BottleLoop$Reader", name := "<init>", desc := "(LBottleLoop;)V" } : Jvm.MethodName)) ∈ lw_all := lw_g (lw_at lw_m3 78 rfl) rfl
theorem q637 : (Jvm.Cond.code ({ cls := "BottleLoop$Reader", name := "<init>", desc := "(LBottleLoop;)V" } : Jvm.MethodName) prog_18_method_1_code (2 : Nat) (Option.none : Option Jvm.ClassFile.FieldType)) ∈ lw_all := lw_g (lw_at lw_m3 79 rfl) rfl
theorem q638 : (Jvm.Cond.methodLink "BottleLoop$Reader" (9 : Nat) ({ cls := "java/lang/Object", name := "<init>", desc := "()V" } : Jvm.MethodName)) ∈ lw_all := lw_g (lw_at lw_m3 80 rfl) rfl
theorem q639 : (Jvm.Cond.classLink "BottleLoop$Reader" (15 : Nat) "java/util/ArrayList") ∈ lw_all := lw_g (lw_at lw_m3 81 rfl) rfl
theorem q640 : (Jvm.Cond.methodLink "BottleLoop$Reader" (17 : Nat) ({ cls := "java/util/ArrayList", name := "<init>", desc := "()V" } : Jvm.MethodName)) ∈ lw_all := lw_g (lw_at lw_m3 82 rfl) rfl
theorem q641 : (Jvm.Cond.fieldLink "BottleLoop$Reader" (18 : Nat) "BottleLoop$Reader" "orders" "Ljava/util/ArrayList;") ∈ lw_all := lw_g (lw_at lw_m3 83 rfl) rfl
theorem q643 : (Jvm.Cond.fieldLink "BottleLoop$Reader" (22 : Nat) "BottleLoop$Reader" "place" "I") ∈ lw_all := lw_g (lw_at lw_m3 85 rfl) rfl
theorem q645 : (Jvm.Cond.fieldLink "BottleLoop$Reader" (3 : Nat) "BottleLoop$Reader" "this$0" "LBottleLoop;") ∈ lw_all := lw_g (lw_at lw_m3 87 rfl) rfl
theorem q646 : (Jvm.Cond.laysFinal "BottleLoop$Reader" "BottleLoop$Reader" "orders" "Ljava/util/ArrayList;") ∈ lw_all := lw_g (lw_at lw_m3 88 rfl) rfl
theorem q647 : (Jvm.Cond.soleField "BottleLoop$Reader" "orders") ∈ lw_all := lw_g (lw_at lw_m3 89 rfl) rfl
theorem q648 : (Jvm.Cond.lays "BottleLoop$Reader" "BottleLoop$Reader" "place" "I") ∈ lw_all := lw_g (lw_at lw_m3 90 rfl) rfl
theorem q649 : (Jvm.Cond.soleField "BottleLoop$Reader" "place") ∈ lw_all := lw_g (lw_at lw_m3 91 rfl) rfl
theorem q650 : (Jvm.Cond.laysFinal "BottleLoop$Reader" "BottleLoop$Reader" "this$0" "LBottleLoop;") ∈ lw_all := lw_g (lw_at lw_m3 92 rfl) rfl
theorem q651 : (Jvm.Cond.soleField "BottleLoop$Reader" "this$0") ∈ lw_all := lw_g (lw_at lw_m3 93 rfl) rfl
theorem q652 : (Jvm.Cond.superclass "BottleLoop$Reader" "java/lang/Object") ∈ lw_all := lw_g (lw_at lw_m3 94 rfl) rfl
theorem q654 : (Jvm.Cond.instanceMethod ({ cls := "BottleLoop$Reader", name := "isRow", desc := "()Z" } : Jvm.MethodName)) ∈ lw_all := lw_g (lw_at lw_m3 96 rfl) rfl
theorem q655 : (Jvm.Cond.selects "BottleLoop$Reader" ({ cls := "BottleLoop$Reader", name := "isRow", desc := "()Z" } : Jvm.MethodName) ({ cls := "BottleLoop$Reader", name := "isRow", desc := "()Z" } : Jvm.MethodName)) ∈ lw_all := lw_g (lw_at lw_m3 97 rfl) rfl
theorem q656 : (Jvm.Cond.code ({ cls := "BottleLoop$Reader", name := "isRow", desc := "()Z" } : Jvm.MethodName) prog_18_method_8_code (2 : Nat) (Option.some Jvm.ClassFile.FieldType.boolean)) ∈ lw_all := lw_g (lw_at lw_m3 98 rfl) rfl
theorem q657 : (Jvm.Cond.methodLink "BottleLoop$Reader" (71 : Nat) ({ cls := "BottleLoop$Reader", name := "order", desc := "()Z" } : Jvm.MethodName)) ∈ lw_all := lw_g (lw_at lw_m3 99 rfl) rfl
theorem q658 : (Jvm.Cond.privateMethod ({ cls := "BottleLoop$Reader", name := "order", desc := "()Z" } : Jvm.MethodName)) ∈ lw_tbl := lw_at lw_m3 100 rfl
theorem q659 : (Jvm.Cond.instanceMethod ({ cls := "BottleLoop$Reader", name := "order", desc := "()Z" } : Jvm.MethodName)) ∈ lw_all := lw_g (lw_at lw_m3 101 rfl) rfl
theorem q660 : (Jvm.Cond.code ({ cls := "BottleLoop$Reader", name := "order", desc := "()Z" } : Jvm.MethodName) prog_18_method_7_code (2 : Nat) (Option.some Jvm.ClassFile.FieldType.boolean)) ∈ lw_all := lw_g (lw_at lw_m3 102 rfl) rfl
theorem q661 : (Jvm.Cond.methodLink "BottleLoop$Reader" (40 : Nat) ({ cls := "BottleLoop$Reader", name := "next", desc := "()I" } : Jvm.MethodName)) ∈ lw_all := lw_g (lw_at lw_m3 103 rfl) rfl
theorem q662 : (Jvm.Cond.privateMethod ({ cls := "BottleLoop$Reader", name := "next", desc := "()I" } : Jvm.MethodName)) ∈ lw_tbl := lw_at lw_m3 104 rfl
theorem q663 : (Jvm.Cond.instanceMethod ({ cls := "BottleLoop$Reader", name := "next", desc := "()I" } : Jvm.MethodName)) ∈ lw_all := lw_g (lw_at lw_m3 105 rfl) rfl
theorem q664 : (Jvm.Cond.code ({ cls := "BottleLoop$Reader", name := "next", desc := "()I" } : Jvm.MethodName) prog_18_method_2_code (1 : Nat) (Option.some Jvm.ClassFile.FieldType.int)) ∈ lw_all := lw_g (lw_at lw_m3 106 rfl) rfl
theorem q665 : (Jvm.Cond.methodLink "BottleLoop$Reader" (30 : Nat) ({ cls := "java/lang/StringBuilder", name := "length", desc := "()I" } : Jvm.MethodName)) ∈ lw_all := lw_g (lw_at lw_m3 107 rfl) rfl
theorem q666 : (Jvm.Cond.methodLink "BottleLoop$Reader" (36 : Nat) ({ cls := "java/lang/StringBuilder", name := "charAt", desc := "(I)C" } : Jvm.MethodName)) ∈ lw_all := lw_g (lw_at lw_m3 108 rfl) rfl
theorem q681 : (Jvm.Cond.methodLink "BottleLoop$Reader" (51 : Nat) ({ cls := "BottleLoop$Reader", name := "takes", desc := "(C)Z" } : Jvm.MethodName)) ∈ lw_all := lw_g (lw_at lw_m3 123 rfl) rfl
theorem q682 : (Jvm.Cond.privateMethod ({ cls := "BottleLoop$Reader", name := "takes", desc := "(C)Z" } : Jvm.MethodName)) ∈ lw_tbl := lw_at lw_m3 124 rfl
theorem q683 : (Jvm.Cond.instanceMethod ({ cls := "BottleLoop$Reader", name := "takes", desc := "(C)Z" } : Jvm.MethodName)) ∈ lw_all := lw_g (lw_at lw_m3 125 rfl) rfl
theorem q684 : (Jvm.Cond.code ({ cls := "BottleLoop$Reader", name := "takes", desc := "(C)Z" } : Jvm.MethodName) prog_18_method_3_code (3 : Nat) (Option.some Jvm.ClassFile.FieldType.boolean)) ∈ lw_all := lw_g (lw_at lw_m3 126 rfl) rfl
theorem q685 : (Jvm.Cond.methodLink "BottleLoop$Reader" (67 : Nat) ({ cls := "BottleLoop$Reader", name := "rest", desc := "(IICII)Z" } : Jvm.MethodName)) ∈ lw_all := lw_g (lw_at lw_m3 127 rfl) rfl
theorem q686 : (Jvm.Cond.privateMethod ({ cls := "BottleLoop$Reader", name := "rest", desc := "(IICII)Z" } : Jvm.MethodName)) ∈ lw_tbl := lw_at lw_m3 128 rfl
theorem q687 : (Jvm.Cond.instanceMethod ({ cls := "BottleLoop$Reader", name := "rest", desc := "(IICII)Z" } : Jvm.MethodName)) ∈ lw_all := lw_g (lw_at lw_m3 129 rfl) rfl
theorem q688 : (Jvm.Cond.code ({ cls := "BottleLoop$Reader", name := "rest", desc := "(IICII)Z" } : Jvm.MethodName) prog_18_method_6_code (9 : Nat) (Option.some Jvm.ClassFile.FieldType.boolean)) ∈ lw_all := lw_g (lw_at lw_m3 130 rfl) rfl
theorem q689 : (Jvm.Cond.methodLink "BottleLoop$Reader" (47 : Nat) ({ cls := "BottleLoop$Reader", name := "digit", desc := "(I)I" } : Jvm.MethodName)) ∈ lw_all := lw_g (lw_at lw_m3 131 rfl) rfl
theorem q690 : (Jvm.Cond.privateMethod ({ cls := "BottleLoop$Reader", name := "digit", desc := "(I)I" } : Jvm.MethodName)) ∈ lw_tbl := lw_at lw_m3 132 rfl
theorem q691 : (Jvm.Cond.instanceMethod ({ cls := "BottleLoop$Reader", name := "digit", desc := "(I)I" } : Jvm.MethodName)) ∈ lw_all := lw_g (lw_at lw_m3 133 rfl) rfl
theorem q692 : (Jvm.Cond.code ({ cls := "BottleLoop$Reader", name := "digit", desc := "(I)I" } : Jvm.MethodName) prog_18_method_4_code (4 : Nat) (Option.some Jvm.ClassFile.FieldType.int)) ∈ lw_all := lw_g (lw_at lw_m3 134 rfl) rfl
theorem q693 : (Jvm.Cond.methodLinkNest "BottleLoop$Reader" (43 : Nat) ({ cls := "BottleLoop", name := "in", desc := "(III)Z" } : Jvm.MethodName) "BottleLoop") ∈ lw_tbl := lw_at lw_m3 135 rfl
theorem q696 : (Jvm.Cond.methodLink "BottleLoop$Reader" (55 : Nat) ({ cls := "BottleLoop$Reader", name := "number", desc := "(I)I" } : Jvm.MethodName)) ∈ lw_all := lw_g (lw_at lw_m3 138 rfl) rfl
theorem q697 : (Jvm.Cond.privateMethod ({ cls := "BottleLoop$Reader", name := "number", desc := "(I)I" } : Jvm.MethodName)) ∈ lw_tbl := lw_at lw_m3 139 rfl
theorem q698 : (Jvm.Cond.instanceMethod ({ cls := "BottleLoop$Reader", name := "number", desc := "(I)I" } : Jvm.MethodName)) ∈ lw_all := lw_g (lw_at lw_m3 140 rfl) rfl
theorem q699 : (Jvm.Cond.code ({ cls := "BottleLoop$Reader", name := "number", desc := "(I)I" } : Jvm.MethodName) prog_18_method_5_code (3 : Nat) (Option.some Jvm.ClassFile.FieldType.int)) ∈ lw_all := lw_g (lw_at lw_m3 141 rfl) rfl
theorem q700 : (Jvm.Cond.classLink "BottleLoop$Reader" (58 : Nat) "BottleLoop$Order") ∈ lw_all := lw_g (lw_at lw_m3 142 rfl) rfl
theorem q702 : (Jvm.Cond.methodLink "BottleLoop$Reader" (60 : Nat) ({ cls := "BottleLoop$Order", name := "<init>", desc := "(IIII)V" } : Jvm.MethodName)) ∈ lw_all := lw_g (lw_at lw_m3 144 rfl) rfl
theorem q723 : (Jvm.Cond.methodLink "BottleLoop$Reader" (63 : Nat) ({ cls := "java/util/ArrayList", name := "add", desc := "(Ljava/lang/Object;)Z" } : Jvm.MethodName)) ∈ lw_all := lw_g (lw_at lw_m3 165 rfl) rfl
theorem q762 : (Jvm.Cond.selects "BottleLoop$Reader" ({ cls := "java/lang/Object", name := "getClass", desc := "()Ljava/lang/Class;" } : Jvm.MethodName) ({ cls := "java/lang/Object", name := "getClass", desc := "()Ljava/lang/Class;" } : Jvm.MethodName)) ∈ lw_all := lw_g (lw_at lw_m3 204 rfl) rfl
theorem q2255 : (Jvm.Cond.castable "BottleLoop$Reader" "java/lang/Object") ∈ lw_tbl := lw_at lw_m10 17 rfl
theorem in_X20 : ∀ w ∈ wsX200, w ∈ lw_all := lw_in wsX200 [646, 648, 650] (by decide +kernel) (by decide +kernel)
/-! BottleLoop$Order -/
set_option maxRecDepth 100000
def RX21 : String := "BottleLoop$Order"
def TX21 : u_T := fun k => match k with
  | 0 => ("BottleLoop$Order", "sign", "I", true)
  | 1 => ("BottleLoop$Order", "first", "I", true)
  | 2 => ("BottleLoop$Order", "second", "I", true)
  | _ => ("BottleLoop$Order", "many", "I", true)
def tyX21 : Nat → FieldType := fun k => match k with
  | 0 => .int
  | 1 => .int
  | 2 => .int
  | _ => .int
abbrev wsX210 : List Cond := u_ws RX21 TX21 4
theorem nmX21 : ∀ a, a < 4 → ∀ b, b < 4 → a ≠ b → (TX21 a).2.1 ≠ (TX21 b).2.1 := by decide +kernel
theorem tyX21_ok : ∀ k, k < 4 → parseFieldDescriptor (TX21 k).2.2.1 = some (tyX21 k) := by decide +kernel
abbrev cX21_init : ByteArray := prog_17_method_1_code
def yX21_init : MethodName := ⟨RX21, "<init>", "(IIII)V"⟩
def dkwX21_init_1 : List UInt8 := [181, 0, 19, 177]
abbrev dktX21_init_1 : List UInt8 := dkwX21_init_1 ++ []
def dkwX21_init_0 : List UInt8 := [42, 183, 0, 1, 42, 27, 181, 0, 7, 42, 28, 181, 0, 13, 42, 29, 181, 0, 16, 42, 21, 4]
abbrev dktX21_init_0 : List UInt8 := dkwX21_init_0 ++ dktX21_init_1
theorem dksX21_init_0 : cX21_init.data.toList.drop 0 = dktX21_init_0 := by decide +kernel
theorem dksX21_init_1 : cX21_init.data.toList.drop 22 = dktX21_init_1 := dk_seg dksX21_init_0 22 rfl rfl
theorem dX21_init_0 : decode cX21_init 0 = .ok (.aload_n 0, 1) := dk_42 (dk_at dksX21_init_0 0 rfl rfl)
theorem dX21_init_1 : decode cX21_init 1 = .ok (.invokespecial 1, 3) := dk_183 0 1 (dk_at dksX21_init_0 1 rfl rfl)
theorem dX21_init_4 : decode cX21_init 4 = .ok (.aload_n 0, 1) := dk_42 (dk_at dksX21_init_0 4 rfl rfl)
theorem dX21_init_5 : decode cX21_init 5 = .ok (.iload_n 1, 1) := dk_27 (dk_at dksX21_init_0 5 rfl rfl)
theorem dX21_init_6 : decode cX21_init 6 = .ok (.putfield 7, 3) := dk_181 0 7 (dk_at dksX21_init_0 6 rfl rfl)
theorem dX21_init_9 : decode cX21_init 9 = .ok (.aload_n 0, 1) := dk_42 (dk_at dksX21_init_0 9 rfl rfl)
theorem dX21_init_10 : decode cX21_init 10 = .ok (.iload_n 2, 1) := dk_28 (dk_at dksX21_init_0 10 rfl rfl)
theorem dX21_init_11 : decode cX21_init 11 = .ok (.putfield 13, 3) := dk_181 0 13 (dk_at dksX21_init_0 11 rfl rfl)
theorem dX21_init_14 : decode cX21_init 14 = .ok (.aload_n 0, 1) := dk_42 (dk_at dksX21_init_0 14 rfl rfl)
theorem dX21_init_15 : decode cX21_init 15 = .ok (.iload_n 3, 1) := dk_29 (dk_at dksX21_init_0 15 rfl rfl)
theorem dX21_init_16 : decode cX21_init 16 = .ok (.putfield 16, 3) := dk_181 0 16 (dk_at dksX21_init_0 16 rfl rfl)
theorem dX21_init_19 : decode cX21_init 19 = .ok (.aload_n 0, 1) := dk_42 (dk_at dksX21_init_0 19 rfl rfl)
theorem dX21_init_20 : decode cX21_init 20 = .ok (.iload 4, 2) := dk_21 4 (dk_at dksX21_init_0 20 rfl rfl)
theorem dX21_init_22 : decode cX21_init 22 = .ok (.putfield 19, 3) := dk_181 0 19 (dk_at dksX21_init_1 0 rfl rfl)
theorem dX21_init_25 : decode cX21_init 25 = .ok (.return_, 1) := dk_177 (dk_at dksX21_init_1 3 rfl rfl)
theorem q123 : (Jvm.Cond.initialized "BottleLoop$Order") ∈ lw_all := lw_g (lw_at lw_m1 45 rfl) rfl
theorem q701 : (Jvm.Cond.instantiable "BottleLoop$Order" (4 : Nat)) ∈ lw_all := lw_g (lw_at lw_m3 143 rfl) rfl
theorem q703 : (Jvm.Cond.instanceMethod ({ cls := "BottleLoop$Order", name := "<init>", desc := "(IIII)V" } : Jvm.MethodName)) ∈ lw_all := lw_g (lw_at lw_m3 145 rfl) rfl
theorem q704 : (Jvm.Cond.code ({ cls := "BottleLoop$Order", name := "<init>", desc := "(IIII)V" } : Jvm.MethodName) prog_17_method_1_code (5 : Nat) (Option.none : Option Jvm.ClassFile.FieldType)) ∈ lw_all := lw_g (lw_at lw_m3 146 rfl) rfl
theorem q705 : (Jvm.Cond.methodLink "BottleLoop$Order" (1 : Nat) ({ cls := "java/lang/Object", name := "<init>", desc := "()V" } : Jvm.MethodName)) ∈ lw_all := lw_g (lw_at lw_m3 147 rfl) rfl
theorem q706 : (Jvm.Cond.fieldLink "BottleLoop$Order" (7 : Nat) "BottleLoop$Order" "sign" "I") ∈ lw_all := lw_g (lw_at lw_m3 148 rfl) rfl
theorem q708 : (Jvm.Cond.fieldLink "BottleLoop$Order" (13 : Nat) "BottleLoop$Order" "first" "I") ∈ lw_all := lw_g (lw_at lw_m3 150 rfl) rfl
theorem q710 : (Jvm.Cond.fieldLink "BottleLoop$Order" (16 : Nat) "BottleLoop$Order" "second" "I") ∈ lw_all := lw_g (lw_at lw_m3 152 rfl) rfl
theorem q712 : (Jvm.Cond.fieldLink "BottleLoop$Order" (19 : Nat) "BottleLoop$Order" "many" "I") ∈ lw_all := lw_g (lw_at lw_m3 154 rfl) rfl
theorem q714 : (Jvm.Cond.laysFinal "BottleLoop$Order" "BottleLoop$Order" "sign" "I") ∈ lw_all := lw_g (lw_at lw_m3 156 rfl) rfl
theorem q715 : (Jvm.Cond.soleField "BottleLoop$Order" "sign") ∈ lw_all := lw_g (lw_at lw_m3 157 rfl) rfl
theorem q716 : (Jvm.Cond.laysFinal "BottleLoop$Order" "BottleLoop$Order" "first" "I") ∈ lw_all := lw_g (lw_at lw_m3 158 rfl) rfl
theorem q717 : (Jvm.Cond.soleField "BottleLoop$Order" "first") ∈ lw_all := lw_g (lw_at lw_m3 159 rfl) rfl
theorem q718 : (Jvm.Cond.laysFinal "BottleLoop$Order" "BottleLoop$Order" "second" "I") ∈ lw_all := lw_g (lw_at lw_m3 160 rfl) rfl
theorem q719 : (Jvm.Cond.soleField "BottleLoop$Order" "second") ∈ lw_all := lw_g (lw_at lw_m3 161 rfl) rfl
theorem q720 : (Jvm.Cond.laysFinal "BottleLoop$Order" "BottleLoop$Order" "many" "I") ∈ lw_all := lw_g (lw_at lw_m3 162 rfl) rfl
theorem q721 : (Jvm.Cond.soleField "BottleLoop$Order" "many") ∈ lw_all := lw_g (lw_at lw_m3 163 rfl) rfl
theorem q722 : (Jvm.Cond.superclass "BottleLoop$Order" "java/lang/Object") ∈ lw_all := lw_g (lw_at lw_m3 164 rfl) rfl
theorem q761 : (Jvm.Cond.selects "BottleLoop$Order" ({ cls := "java/lang/Object", name := "getClass", desc := "()Ljava/lang/Class;" } : Jvm.MethodName) ({ cls := "java/lang/Object", name := "getClass", desc := "()Ljava/lang/Class;" } : Jvm.MethodName)) ∈ lw_all := lw_g (lw_at lw_m3 203 rfl) rfl
theorem q2256 : (Jvm.Cond.castable "BottleLoop$Order" "java/lang/Object") ∈ lw_tbl := lw_at lw_m10 18 rfl
theorem in_X21 : ∀ w ∈ wsX210, w ∈ lw_all := lw_in wsX210 [714, 716, 718, 720] (by decide +kernel) (by decide +kernel)
/-! BottleLoop$Refused -/
set_option maxRecDepth 100000
def RX22 : String := "BottleLoop$Refused"
def TX22 : u_T := fun k => match k with
  | 0 => ("java/lang/Throwable", "cause", "Ljava/lang/Throwable;", false)
  | 1 => ("java/lang/Throwable", "stackTrace", "[Ljava/lang/StackTraceElement;", false)
  | 2 => ("java/lang/Throwable", "suppressedExceptions", "Ljava/util/List;", false)
  | 3 => ("java/lang/Throwable", "detailMessage", "Ljava/lang/String;", false)
  | 4 => ("java/lang/Throwable", "backtrace", "Ljava/lang/Object;", false)
  | _ => ("java/lang/Throwable", "depth", "I", false)
def tyX22 : Nat → FieldType := fun k => match k with
  | 0 => .object "java/lang/Throwable"
  | 1 => .array (.object "java/lang/StackTraceElement")
  | 2 => .object "java/util/List"
  | 3 => .object "java/lang/String"
  | 4 => .object "java/lang/Object"
  | _ => .int
abbrev wsX220 : List Cond := u_ws RX22 TX22 6
theorem nmX22 : ∀ a, a < 6 → ∀ b, b < 6 → a ≠ b → (TX22 a).2.1 ≠ (TX22 b).2.1 := by decide +kernel
theorem tyX22_ok : ∀ k, k < 6 → parseFieldDescriptor (TX22 k).2.2.1 = some (tyX22 k) := by decide +kernel
abbrev cX22_init : ByteArray := prog_19_method_1_code
def yX22_init : MethodName := ⟨RX22, "<init>", "(LBottleLoop$Shortage;)V"⟩
def dkwX22_init_0 : List UInt8 := [42, 1, 43, 3, 3, 183, 0, 3, 177]
abbrev dktX22_init_0 : List UInt8 := dkwX22_init_0 ++ []
theorem dksX22_init_0 : cX22_init.data.toList.drop 0 = dktX22_init_0 := by decide +kernel
theorem dX22_init_0 : decode cX22_init 0 = .ok (.aload_n 0, 1) := dk_42 (dk_at dksX22_init_0 0 rfl rfl)
theorem dX22_init_1 : decode cX22_init 1 = .ok (.aconst_null, 1) := dk_1 (dk_at dksX22_init_0 1 rfl rfl)
theorem dX22_init_2 : decode cX22_init 2 = .ok (.aload_n 1, 1) := dk_43 (dk_at dksX22_init_0 2 rfl rfl)
theorem dX22_init_3 : decode cX22_init 3 = .ok (.iconst 0, 1) := dk_3 (dk_at dksX22_init_0 3 rfl rfl)
theorem dX22_init_4 : decode cX22_init 4 = .ok (.iconst 0, 1) := dk_3 (dk_at dksX22_init_0 4 rfl rfl)
theorem dX22_init_5 : decode cX22_init 5 = .ok (.invokespecial 3, 3) := dk_183 0 3 (dk_at dksX22_init_0 5 rfl rfl)
theorem dX22_init_8 : decode cX22_init 8 = .ok (.return_, 1) := dk_177 (dk_at dksX22_init_0 8 rfl rfl)
abbrev cX22_number : ByteArray := prog_19_method_2_code
def yX22_number : MethodName := ⟨RX22, "number", "()I"⟩
def dkwX22_number_0 : List UInt8 := [42, 182, 0, 9, 199, 0, 7, 7, 167, 0, 13, 42, 182, 0, 9, 192, 0, 15, 182, 0, 17, 172]
abbrev dktX22_number_0 : List UInt8 := dkwX22_number_0 ++ []
theorem dksX22_number_0 : cX22_number.data.toList.drop 0 = dktX22_number_0 := by decide +kernel
theorem dX22_number_0 : decode cX22_number 0 = .ok (.aload_n 0, 1) := dk_42 (dk_at dksX22_number_0 0 rfl rfl)
theorem dX22_number_1 : decode cX22_number 1 = .ok (.invokevirtual 9, 3) := dk_182 0 9 (dk_at dksX22_number_0 1 rfl rfl)
theorem dX22_number_4 : decode cX22_number 4 = .ok (.ifnonnull 7, 3) := dk_199 0 7 (dk_at dksX22_number_0 4 rfl rfl)
theorem dX22_number_7 : decode cX22_number 7 = .ok (.iconst 4, 1) := dk_7 (dk_at dksX22_number_0 7 rfl rfl)
theorem dX22_number_8 : decode cX22_number 8 = .ok (.goto 13, 3) := dk_167 0 13 (dk_at dksX22_number_0 8 rfl rfl)
theorem dX22_number_11 : decode cX22_number 11 = .ok (.aload_n 0, 1) := dk_42 (dk_at dksX22_number_0 11 rfl rfl)
theorem dX22_number_12 : decode cX22_number 12 = .ok (.invokevirtual 9, 3) := dk_182 0 9 (dk_at dksX22_number_0 12 rfl rfl)
theorem dX22_number_15 : decode cX22_number 15 = .ok (.checkcast 15, 3) := dk_192 0 15 (dk_at dksX22_number_0 15 rfl rfl)
theorem dX22_number_18 : decode cX22_number 18 = .ok (.invokevirtual 17, 3) := dk_182 0 17 (dk_at dksX22_number_0 18 rfl rfl)
theorem dX22_number_21 : decode cX22_number 21 = .ok (.ireturn, 1) := dk_172 (dk_at dksX22_number_0 21 rfl rfl)
theorem q124 : (Jvm.Cond.initialized "BottleLoop$Refused") ∈ lw_all := lw_g (lw_at lw_m1 46 rfl) rfl
theorem q513 : (Jvm.Cond.selects "BottleLoop$Refused" ({ cls := "java/lang/Throwable", name := "fillInStackTrace", desc := "()Ljava/lang/Throwable;" } : Jvm.MethodName) ({ cls := "java/lang/Throwable", name := "fillInStackTrace", desc := "()Ljava/lang/Throwable;" } : Jvm.MethodName)) ∈ lw_all := lw_g (lw_at lw_m2 195 rfl) rfl
theorem q763 : (Jvm.Cond.selects "BottleLoop$Refused" ({ cls := "java/lang/Object", name := "getClass", desc := "()Ljava/lang/Class;" } : Jvm.MethodName) ({ cls := "java/lang/Object", name := "getClass", desc := "()Ljava/lang/Class;" } : Jvm.MethodName)) ∈ lw_all := lw_g (lw_at lw_m3 205 rfl) rfl
theorem q1717 : (Jvm.Cond.instantiable "BottleLoop$Refused" (6 : Nat)) ∈ lw_all := lw_g (lw_at lw_m7 199 rfl) rfl
theorem q1718 : (Jvm.Cond.castable "BottleLoop$Refused" "BottleLoop$Refused") ∈ lw_tbl := lw_at lw_m7 200 rfl
theorem q1719 : (Jvm.Cond.selects "BottleLoop$Refused" ({ cls := "java/lang/Throwable", name := "fillInStackTrace", desc := "(I)Ljava/lang/Throwable;" } : Jvm.MethodName) ({ cls := "java/lang/Throwable", name := "fillInStackTrace", desc := "(I)Ljava/lang/Throwable;" } : Jvm.MethodName)) ∈ lw_all := lw_g (lw_at lw_m7 201 rfl) rfl
theorem q1720 : (Jvm.Cond.lays "BottleLoop$Refused" "java/lang/Throwable" "cause" "Ljava/lang/Throwable;") ∈ lw_all := lw_g (lw_at lw_m7 202 rfl) rfl
theorem q1721 : (Jvm.Cond.lays "BottleLoop$Refused" "java/lang/Throwable" "stackTrace" "[Ljava/lang/StackTraceElement;") ∈ lw_all := lw_g (lw_at lw_m7 203 rfl) rfl
theorem q1722 : (Jvm.Cond.lays "BottleLoop$Refused" "java/lang/Throwable" "suppressedExceptions" "Ljava/util/List;") ∈ lw_all := lw_g (lw_at lw_m7 204 rfl) rfl
theorem q1723 : (Jvm.Cond.lays "BottleLoop$Refused" "java/lang/Throwable" "detailMessage" "Ljava/lang/String;") ∈ lw_all := lw_g (lw_at lw_m7 205 rfl) rfl
theorem q1724 : (Jvm.Cond.lays "BottleLoop$Refused" "java/lang/Throwable" "backtrace" "Ljava/lang/Object;") ∈ lw_all := lw_g (lw_at lw_m7 206 rfl) rfl
theorem q1726 : (Jvm.Cond.instanceMethod ({ cls := "BottleLoop$Refused", name := "<init>", desc := "(LBottleLoop$Shortage;)V" } : Jvm.MethodName)) ∈ lw_all := lw_g (lw_at lw_m7 208 rfl) rfl
theorem q1727 : (Jvm.Cond.code ({ cls := "BottleLoop$Refused", name := "<init>", desc := "(LBottleLoop$Shortage;)V" } : Jvm.MethodName) prog_19_method_1_code (2 : Nat) (Option.none : Option Jvm.ClassFile.FieldType)) ∈ lw_all := lw_g (lw_at lw_m7 209 rfl) rfl
theorem q1728 : (Jvm.Cond.methodLink "BottleLoop$Refused" (3 : Nat) ({ cls := "java/lang/Exception", name := "<init>", desc := "(Ljava/lang/String;Ljava/lang/Throwable;ZZ)V" } : Jvm.MethodName)) ∈ lw_all := lw_g (lw_at lw_m7 210 rfl) rfl
theorem q1729 : (Jvm.Cond.lays "BottleLoop$Refused" "java/lang/Throwable" "depth" "I") ∈ lw_all := lw_g (lw_at lw_m7 211 rfl) rfl
theorem q1730 : (Jvm.Cond.superclass "BottleLoop$Refused" "java/lang/Exception") ∈ lw_all := lw_g (lw_at lw_m7 212 rfl) rfl
theorem q1747 : (Jvm.Cond.instanceMethod ({ cls := "BottleLoop$Refused", name := "number", desc := "()I" } : Jvm.MethodName)) ∈ lw_all := lw_g (lw_at lw_m7 229 rfl) rfl
theorem q1748 : (Jvm.Cond.selects "BottleLoop$Refused" ({ cls := "BottleLoop$Refused", name := "number", desc := "()I" } : Jvm.MethodName) ({ cls := "BottleLoop$Refused", name := "number", desc := "()I" } : Jvm.MethodName)) ∈ lw_all := lw_g (lw_at lw_m7 230 rfl) rfl
theorem q1749 : (Jvm.Cond.code ({ cls := "BottleLoop$Refused", name := "number", desc := "()I" } : Jvm.MethodName) prog_19_method_2_code (1 : Nat) (Option.some Jvm.ClassFile.FieldType.int)) ∈ lw_all := lw_g (lw_at lw_m7 231 rfl) rfl
theorem q1750 : (Jvm.Cond.methodLink "BottleLoop$Refused" (9 : Nat) ({ cls := "BottleLoop$Refused", name := "getCause", desc := "()Ljava/lang/Throwable;" } : Jvm.MethodName)) ∈ lw_all := lw_g (lw_at lw_m7 232 rfl) rfl
theorem q1751 : (Jvm.Cond.sameMethod "BottleLoop$Refused" "java/lang/Throwable" "getCause" "()Ljava/lang/Throwable;") ∈ lw_all := lw_g (lw_at lw_m7 233 rfl) rfl
theorem q1753 : (Jvm.Cond.selects "BottleLoop$Refused" ({ cls := "BottleLoop$Refused", name := "getCause", desc := "()Ljava/lang/Throwable;" } : Jvm.MethodName) ({ cls := "java/lang/Throwable", name := "getCause", desc := "()Ljava/lang/Throwable;" } : Jvm.MethodName)) ∈ lw_all := lw_g (lw_at lw_m7 235 rfl) rfl
theorem q1756 : (Jvm.Cond.classLink "BottleLoop$Refused" (15 : Nat) "BottleLoop$Shortage") ∈ lw_all := lw_g (lw_at lw_m7 238 rfl) rfl
theorem q1757 : (Jvm.Cond.methodLink "BottleLoop$Refused" (17 : Nat) ({ cls := "BottleLoop$Shortage", name := "number", desc := "()I" } : Jvm.MethodName)) ∈ lw_all := lw_g (lw_at lw_m7 239 rfl) rfl
theorem q2257 : (Jvm.Cond.castable "BottleLoop$Refused" "java/lang/Object") ∈ lw_tbl := lw_at lw_m10 19 rfl
theorem in_X22 : ∀ w ∈ wsX220, w ∈ lw_all := lw_in wsX220 [1720, 1721, 1722, 1723, 1724, 1729] (by decide +kernel) (by decide +kernel)
