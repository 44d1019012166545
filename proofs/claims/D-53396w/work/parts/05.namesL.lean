set_option maxRecDepth 100000
/-! BottleLoopLaw -/
set_option maxRecDepth 100000
def RX0 : String := "BottleLoopLaw"
abbrev cX0_addBrand : ByteArray := method_3_code
def yX0_addBrand : MethodName := ⟨RX0, "addBrand", "(LBottleLoop;II[J)I"⟩
def dkwX0_addBrand_0 : List UInt8 := [45, 3, 42, 27, 28, 182, 0, 7, 133, 80, 167, 0, 11, 58, 4, 4, 172, 58, 4, 5, 172, 3, 172]
abbrev dktX0_addBrand_0 : List UInt8 := dkwX0_addBrand_0 ++ []
theorem dksX0_addBrand_0 : cX0_addBrand.data.toList.drop 0 = dktX0_addBrand_0 := by decide +kernel
theorem dX0_addBrand_0 : decode cX0_addBrand 0 = .ok (.aload_n 3, 1) := dk_45 (dk_at dksX0_addBrand_0 0 rfl rfl)
theorem dX0_addBrand_1 : decode cX0_addBrand 1 = .ok (.iconst 0, 1) := dk_3 (dk_at dksX0_addBrand_0 1 rfl rfl)
theorem dX0_addBrand_2 : decode cX0_addBrand 2 = .ok (.aload_n 0, 1) := dk_42 (dk_at dksX0_addBrand_0 2 rfl rfl)
theorem dX0_addBrand_3 : decode cX0_addBrand 3 = .ok (.iload_n 1, 1) := dk_27 (dk_at dksX0_addBrand_0 3 rfl rfl)
theorem dX0_addBrand_4 : decode cX0_addBrand 4 = .ok (.iload_n 2, 1) := dk_28 (dk_at dksX0_addBrand_0 4 rfl rfl)
theorem dX0_addBrand_5 : decode cX0_addBrand 5 = .ok (.invokevirtual 7, 3) := dk_182 0 7 (dk_at dksX0_addBrand_0 5 rfl rfl)
theorem dX0_addBrand_8 : decode cX0_addBrand 8 = .ok (.i2l, 1) := dk_133 (dk_at dksX0_addBrand_0 8 rfl rfl)
theorem dX0_addBrand_9 : decode cX0_addBrand 9 = .ok (.lastore, 1) := dk_80 (dk_at dksX0_addBrand_0 9 rfl rfl)
theorem dX0_addBrand_10 : decode cX0_addBrand 10 = .ok (.goto 11, 3) := dk_167 0 11 (dk_at dksX0_addBrand_0 10 rfl rfl)
theorem dX0_addBrand_13 : decode cX0_addBrand 13 = .ok (.astore 4, 2) := dk_58 4 (dk_at dksX0_addBrand_0 13 rfl rfl)
theorem dX0_addBrand_15 : decode cX0_addBrand 15 = .ok (.iconst 1, 1) := dk_4 (dk_at dksX0_addBrand_0 15 rfl rfl)
theorem dX0_addBrand_16 : decode cX0_addBrand 16 = .ok (.ireturn, 1) := dk_172 (dk_at dksX0_addBrand_0 16 rfl rfl)
theorem dX0_addBrand_17 : decode cX0_addBrand 17 = .ok (.astore 4, 2) := dk_58 4 (dk_at dksX0_addBrand_0 17 rfl rfl)
theorem dX0_addBrand_19 : decode cX0_addBrand 19 = .ok (.iconst 2, 1) := dk_5 (dk_at dksX0_addBrand_0 19 rfl rfl)
theorem dX0_addBrand_20 : decode cX0_addBrand 20 = .ok (.ireturn, 1) := dk_172 (dk_at dksX0_addBrand_0 20 rfl rfl)
theorem dX0_addBrand_21 : decode cX0_addBrand 21 = .ok (.iconst 0, 1) := dk_3 (dk_at dksX0_addBrand_0 21 rfl rfl)
theorem dX0_addBrand_22 : decode cX0_addBrand 22 = .ok (.ireturn, 1) := dk_172 (dk_at dksX0_addBrand_0 22 rfl rfl)
abbrev cX0_addShop : ByteArray := method_4_code
def yX0_addShop : MethodName := ⟨RX0, "addShop", "(LBottleLoop;I[J)I"⟩
def dkwX0_addShop_0 : List UInt8 := [44, 3, 42, 27, 182, 0, 17, 133, 80, 167, 0, 9, 78, 4, 172, 78, 5, 172, 3, 172]
abbrev dktX0_addShop_0 : List UInt8 := dkwX0_addShop_0 ++ []
theorem dksX0_addShop_0 : cX0_addShop.data.toList.drop 0 = dktX0_addShop_0 := by decide +kernel
theorem dX0_addShop_0 : decode cX0_addShop 0 = .ok (.aload_n 2, 1) := dk_44 (dk_at dksX0_addShop_0 0 rfl rfl)
theorem dX0_addShop_1 : decode cX0_addShop 1 = .ok (.iconst 0, 1) := dk_3 (dk_at dksX0_addShop_0 1 rfl rfl)
theorem dX0_addShop_2 : decode cX0_addShop 2 = .ok (.aload_n 0, 1) := dk_42 (dk_at dksX0_addShop_0 2 rfl rfl)
theorem dX0_addShop_3 : decode cX0_addShop 3 = .ok (.iload_n 1, 1) := dk_27 (dk_at dksX0_addShop_0 3 rfl rfl)
theorem dX0_addShop_4 : decode cX0_addShop 4 = .ok (.invokevirtual 17, 3) := dk_182 0 17 (dk_at dksX0_addShop_0 4 rfl rfl)
theorem dX0_addShop_7 : decode cX0_addShop 7 = .ok (.i2l, 1) := dk_133 (dk_at dksX0_addShop_0 7 rfl rfl)
theorem dX0_addShop_8 : decode cX0_addShop 8 = .ok (.lastore, 1) := dk_80 (dk_at dksX0_addShop_0 8 rfl rfl)
theorem dX0_addShop_9 : decode cX0_addShop 9 = .ok (.goto 9, 3) := dk_167 0 9 (dk_at dksX0_addShop_0 9 rfl rfl)
theorem dX0_addShop_12 : decode cX0_addShop 12 = .ok (.astore_n 3, 1) := dk_78 (dk_at dksX0_addShop_0 12 rfl rfl)
theorem dX0_addShop_13 : decode cX0_addShop 13 = .ok (.iconst 1, 1) := dk_4 (dk_at dksX0_addShop_0 13 rfl rfl)
theorem dX0_addShop_14 : decode cX0_addShop 14 = .ok (.ireturn, 1) := dk_172 (dk_at dksX0_addShop_0 14 rfl rfl)
theorem dX0_addShop_15 : decode cX0_addShop 15 = .ok (.astore_n 3, 1) := dk_78 (dk_at dksX0_addShop_0 15 rfl rfl)
theorem dX0_addShop_16 : decode cX0_addShop 16 = .ok (.iconst 2, 1) := dk_5 (dk_at dksX0_addShop_0 16 rfl rfl)
theorem dX0_addShop_17 : decode cX0_addShop 17 = .ok (.ireturn, 1) := dk_172 (dk_at dksX0_addShop_0 17 rfl rfl)
theorem dX0_addShop_18 : decode cX0_addShop 18 = .ok (.iconst 0, 1) := dk_3 (dk_at dksX0_addShop_0 18 rfl rfl)
theorem dX0_addShop_19 : decode cX0_addShop 19 = .ok (.ireturn, 1) := dk_172 (dk_at dksX0_addShop_0 19 rfl rfl)
abbrev cX0_buyCrates : ByteArray := method_5_code
def yX0_buyCrates : MethodName := ⟨RX0, "buyCrates", "(LBottleLoop;I[J)I"⟩
def dkwX0_buyCrates_0 : List UInt8 := [44, 3, 42, 27, 182, 0, 21, 133, 80, 167, 0, 9, 78, 4, 172, 78, 5, 172, 3, 172]
abbrev dktX0_buyCrates_0 : List UInt8 := dkwX0_buyCrates_0 ++ []
theorem dksX0_buyCrates_0 : cX0_buyCrates.data.toList.drop 0 = dktX0_buyCrates_0 := by decide +kernel
theorem dX0_buyCrates_0 : decode cX0_buyCrates 0 = .ok (.aload_n 2, 1) := dk_44 (dk_at dksX0_buyCrates_0 0 rfl rfl)
theorem dX0_buyCrates_1 : decode cX0_buyCrates 1 = .ok (.iconst 0, 1) := dk_3 (dk_at dksX0_buyCrates_0 1 rfl rfl)
theorem dX0_buyCrates_2 : decode cX0_buyCrates 2 = .ok (.aload_n 0, 1) := dk_42 (dk_at dksX0_buyCrates_0 2 rfl rfl)
theorem dX0_buyCrates_3 : decode cX0_buyCrates 3 = .ok (.iload_n 1, 1) := dk_27 (dk_at dksX0_buyCrates_0 3 rfl rfl)
theorem dX0_buyCrates_4 : decode cX0_buyCrates 4 = .ok (.invokevirtual 21, 3) := dk_182 0 21 (dk_at dksX0_buyCrates_0 4 rfl rfl)
theorem dX0_buyCrates_7 : decode cX0_buyCrates 7 = .ok (.i2l, 1) := dk_133 (dk_at dksX0_buyCrates_0 7 rfl rfl)
theorem dX0_buyCrates_8 : decode cX0_buyCrates 8 = .ok (.lastore, 1) := dk_80 (dk_at dksX0_buyCrates_0 8 rfl rfl)
theorem dX0_buyCrates_9 : decode cX0_buyCrates 9 = .ok (.goto 9, 3) := dk_167 0 9 (dk_at dksX0_buyCrates_0 9 rfl rfl)
theorem dX0_buyCrates_12 : decode cX0_buyCrates 12 = .ok (.astore_n 3, 1) := dk_78 (dk_at dksX0_buyCrates_0 12 rfl rfl)
theorem dX0_buyCrates_13 : decode cX0_buyCrates 13 = .ok (.iconst 1, 1) := dk_4 (dk_at dksX0_buyCrates_0 13 rfl rfl)
theorem dX0_buyCrates_14 : decode cX0_buyCrates 14 = .ok (.ireturn, 1) := dk_172 (dk_at dksX0_buyCrates_0 14 rfl rfl)
theorem dX0_buyCrates_15 : decode cX0_buyCrates 15 = .ok (.astore_n 3, 1) := dk_78 (dk_at dksX0_buyCrates_0 15 rfl rfl)
theorem dX0_buyCrates_16 : decode cX0_buyCrates 16 = .ok (.iconst 2, 1) := dk_5 (dk_at dksX0_buyCrates_0 16 rfl rfl)
theorem dX0_buyCrates_17 : decode cX0_buyCrates 17 = .ok (.ireturn, 1) := dk_172 (dk_at dksX0_buyCrates_0 17 rfl rfl)
theorem dX0_buyCrates_18 : decode cX0_buyCrates 18 = .ok (.iconst 0, 1) := dk_3 (dk_at dksX0_buyCrates_0 18 rfl rfl)
theorem dX0_buyCrates_19 : decode cX0_buyCrates 19 = .ok (.ireturn, 1) := dk_172 (dk_at dksX0_buyCrates_0 19 rfl rfl)
abbrev cX0_set : ByteArray := method_6_code
def yX0_set : MethodName := ⟨RX0, "set", "(LBottleLoop;II[J)I"⟩
def dkwX0_set_1 : List UInt8 := [172, 3, 172]
abbrev dktX0_set_1 : List UInt8 := dkwX0_set_1 ++ []
def dkwX0_set_0 : List UInt8 := [45, 3, 42, 27, 28, 182, 0, 24, 133, 80, 167, 0, 15, 58, 4, 4, 172, 58, 4, 5, 172, 58, 4, 6]
abbrev dktX0_set_0 : List UInt8 := dkwX0_set_0 ++ dktX0_set_1
theorem dksX0_set_0 : cX0_set.data.toList.drop 0 = dktX0_set_0 := by decide +kernel
theorem dksX0_set_1 : cX0_set.data.toList.drop 24 = dktX0_set_1 := dk_seg dksX0_set_0 24 rfl rfl
theorem dX0_set_0 : decode cX0_set 0 = .ok (.aload_n 3, 1) := dk_45 (dk_at dksX0_set_0 0 rfl rfl)
theorem dX0_set_1 : decode cX0_set 1 = .ok (.iconst 0, 1) := dk_3 (dk_at dksX0_set_0 1 rfl rfl)
theorem dX0_set_2 : decode cX0_set 2 = .ok (.aload_n 0, 1) := dk_42 (dk_at dksX0_set_0 2 rfl rfl)
theorem dX0_set_3 : decode cX0_set 3 = .ok (.iload_n 1, 1) := dk_27 (dk_at dksX0_set_0 3 rfl rfl)
theorem dX0_set_4 : decode cX0_set 4 = .ok (.iload_n 2, 1) := dk_28 (dk_at dksX0_set_0 4 rfl rfl)
theorem dX0_set_5 : decode cX0_set 5 = .ok (.invokevirtual 24, 3) := dk_182 0 24 (dk_at dksX0_set_0 5 rfl rfl)
theorem dX0_set_8 : decode cX0_set 8 = .ok (.i2l, 1) := dk_133 (dk_at dksX0_set_0 8 rfl rfl)
theorem dX0_set_9 : decode cX0_set 9 = .ok (.lastore, 1) := dk_80 (dk_at dksX0_set_0 9 rfl rfl)
theorem dX0_set_10 : decode cX0_set 10 = .ok (.goto 15, 3) := dk_167 0 15 (dk_at dksX0_set_0 10 rfl rfl)
theorem dX0_set_13 : decode cX0_set 13 = .ok (.astore 4, 2) := dk_58 4 (dk_at dksX0_set_0 13 rfl rfl)
theorem dX0_set_15 : decode cX0_set 15 = .ok (.iconst 1, 1) := dk_4 (dk_at dksX0_set_0 15 rfl rfl)
theorem dX0_set_16 : decode cX0_set 16 = .ok (.ireturn, 1) := dk_172 (dk_at dksX0_set_0 16 rfl rfl)
theorem dX0_set_17 : decode cX0_set 17 = .ok (.astore 4, 2) := dk_58 4 (dk_at dksX0_set_0 17 rfl rfl)
theorem dX0_set_19 : decode cX0_set 19 = .ok (.iconst 2, 1) := dk_5 (dk_at dksX0_set_0 19 rfl rfl)
theorem dX0_set_20 : decode cX0_set 20 = .ok (.ireturn, 1) := dk_172 (dk_at dksX0_set_0 20 rfl rfl)
theorem dX0_set_21 : decode cX0_set 21 = .ok (.astore 4, 2) := dk_58 4 (dk_at dksX0_set_0 21 rfl rfl)
theorem dX0_set_23 : decode cX0_set 23 = .ok (.iconst 3, 1) := dk_6 (dk_at dksX0_set_0 23 rfl rfl)
theorem dX0_set_24 : decode cX0_set 24 = .ok (.ireturn, 1) := dk_172 (dk_at dksX0_set_1 0 rfl rfl)
theorem dX0_set_25 : decode cX0_set 25 = .ok (.iconst 0, 1) := dk_3 (dk_at dksX0_set_1 1 rfl rfl)
theorem dX0_set_26 : decode cX0_set 26 = .ok (.ireturn, 1) := dk_172 (dk_at dksX0_set_1 2 rfl rfl)
abbrev cX0_fill : ByteArray := method_7_code
def yX0_fill : MethodName := ⟨RX0, "fill", "(LBottleLoop;II[J)I"⟩
def dkwX0_fill_1 : List UInt8 := [172, 3, 172]
abbrev dktX0_fill_1 : List UInt8 := dkwX0_fill_1 ++ []
def dkwX0_fill_0 : List UInt8 := [45, 3, 42, 27, 28, 182, 0, 29, 133, 80, 167, 0, 15, 58, 4, 4, 172, 58, 4, 5, 172, 58, 4, 6]
abbrev dktX0_fill_0 : List UInt8 := dkwX0_fill_0 ++ dktX0_fill_1
theorem dksX0_fill_0 : cX0_fill.data.toList.drop 0 = dktX0_fill_0 := by decide +kernel
theorem dksX0_fill_1 : cX0_fill.data.toList.drop 24 = dktX0_fill_1 := dk_seg dksX0_fill_0 24 rfl rfl
theorem dX0_fill_0 : decode cX0_fill 0 = .ok (.aload_n 3, 1) := dk_45 (dk_at dksX0_fill_0 0 rfl rfl)
theorem dX0_fill_1 : decode cX0_fill 1 = .ok (.iconst 0, 1) := dk_3 (dk_at dksX0_fill_0 1 rfl rfl)
theorem dX0_fill_2 : decode cX0_fill 2 = .ok (.aload_n 0, 1) := dk_42 (dk_at dksX0_fill_0 2 rfl rfl)
theorem dX0_fill_3 : decode cX0_fill 3 = .ok (.iload_n 1, 1) := dk_27 (dk_at dksX0_fill_0 3 rfl rfl)
theorem dX0_fill_4 : decode cX0_fill 4 = .ok (.iload_n 2, 1) := dk_28 (dk_at dksX0_fill_0 4 rfl rfl)
theorem dX0_fill_5 : decode cX0_fill 5 = .ok (.invokevirtual 29, 3) := dk_182 0 29 (dk_at dksX0_fill_0 5 rfl rfl)
theorem dX0_fill_8 : decode cX0_fill 8 = .ok (.i2l, 1) := dk_133 (dk_at dksX0_fill_0 8 rfl rfl)
theorem dX0_fill_9 : decode cX0_fill 9 = .ok (.lastore, 1) := dk_80 (dk_at dksX0_fill_0 9 rfl rfl)
theorem dX0_fill_10 : decode cX0_fill 10 = .ok (.goto 15, 3) := dk_167 0 15 (dk_at dksX0_fill_0 10 rfl rfl)
theorem dX0_fill_13 : decode cX0_fill 13 = .ok (.astore 4, 2) := dk_58 4 (dk_at dksX0_fill_0 13 rfl rfl)
theorem dX0_fill_15 : decode cX0_fill 15 = .ok (.iconst 1, 1) := dk_4 (dk_at dksX0_fill_0 15 rfl rfl)
theorem dX0_fill_16 : decode cX0_fill 16 = .ok (.ireturn, 1) := dk_172 (dk_at dksX0_fill_0 16 rfl rfl)
theorem dX0_fill_17 : decode cX0_fill 17 = .ok (.astore 4, 2) := dk_58 4 (dk_at dksX0_fill_0 17 rfl rfl)
theorem dX0_fill_19 : decode cX0_fill 19 = .ok (.iconst 2, 1) := dk_5 (dk_at dksX0_fill_0 19 rfl rfl)
theorem dX0_fill_20 : decode cX0_fill 20 = .ok (.ireturn, 1) := dk_172 (dk_at dksX0_fill_0 20 rfl rfl)
theorem dX0_fill_21 : decode cX0_fill 21 = .ok (.astore 4, 2) := dk_58 4 (dk_at dksX0_fill_0 21 rfl rfl)
theorem dX0_fill_23 : decode cX0_fill 23 = .ok (.iconst 3, 1) := dk_6 (dk_at dksX0_fill_0 23 rfl rfl)
theorem dX0_fill_24 : decode cX0_fill 24 = .ok (.ireturn, 1) := dk_172 (dk_at dksX0_fill_1 0 rfl rfl)
theorem dX0_fill_25 : decode cX0_fill 25 = .ok (.iconst 0, 1) := dk_3 (dk_at dksX0_fill_1 1 rfl rfl)
theorem dX0_fill_26 : decode cX0_fill 26 = .ok (.ireturn, 1) := dk_172 (dk_at dksX0_fill_1 2 rfl rfl)
abbrev cX0_deliver : ByteArray := method_8_code
def yX0_deliver : MethodName := ⟨RX0, "deliver", "(LBottleLoop;III[J)I"⟩
def dkwX0_deliver_1 : List UInt8 := [58, 5, 6, 172, 3, 172]
abbrev dktX0_deliver_1 : List UInt8 := dkwX0_deliver_1 ++ []
def dkwX0_deliver_0 : List UInt8 := [25, 4, 3, 42, 27, 28, 29, 182, 0, 32, 133, 80, 167, 0, 15, 58, 5, 4, 172, 58, 5, 5, 172]
abbrev dktX0_deliver_0 : List UInt8 := dkwX0_deliver_0 ++ dktX0_deliver_1
theorem dksX0_deliver_0 : cX0_deliver.data.toList.drop 0 = dktX0_deliver_0 := by decide +kernel
theorem dksX0_deliver_1 : cX0_deliver.data.toList.drop 23 = dktX0_deliver_1 := dk_seg dksX0_deliver_0 23 rfl rfl
theorem dX0_deliver_0 : decode cX0_deliver 0 = .ok (.aload 4, 2) := dk_25 4 (dk_at dksX0_deliver_0 0 rfl rfl)
theorem dX0_deliver_2 : decode cX0_deliver 2 = .ok (.iconst 0, 1) := dk_3 (dk_at dksX0_deliver_0 2 rfl rfl)
theorem dX0_deliver_3 : decode cX0_deliver 3 = .ok (.aload_n 0, 1) := dk_42 (dk_at dksX0_deliver_0 3 rfl rfl)
theorem dX0_deliver_4 : decode cX0_deliver 4 = .ok (.iload_n 1, 1) := dk_27 (dk_at dksX0_deliver_0 4 rfl rfl)
theorem dX0_deliver_5 : decode cX0_deliver 5 = .ok (.iload_n 2, 1) := dk_28 (dk_at dksX0_deliver_0 5 rfl rfl)
theorem dX0_deliver_6 : decode cX0_deliver 6 = .ok (.iload_n 3, 1) := dk_29 (dk_at dksX0_deliver_0 6 rfl rfl)
theorem dX0_deliver_7 : decode cX0_deliver 7 = .ok (.invokevirtual 32, 3) := dk_182 0 32 (dk_at dksX0_deliver_0 7 rfl rfl)
theorem dX0_deliver_10 : decode cX0_deliver 10 = .ok (.i2l, 1) := dk_133 (dk_at dksX0_deliver_0 10 rfl rfl)
theorem dX0_deliver_11 : decode cX0_deliver 11 = .ok (.lastore, 1) := dk_80 (dk_at dksX0_deliver_0 11 rfl rfl)
theorem dX0_deliver_12 : decode cX0_deliver 12 = .ok (.goto 15, 3) := dk_167 0 15 (dk_at dksX0_deliver_0 12 rfl rfl)
theorem dX0_deliver_15 : decode cX0_deliver 15 = .ok (.astore 5, 2) := dk_58 5 (dk_at dksX0_deliver_0 15 rfl rfl)
theorem dX0_deliver_17 : decode cX0_deliver 17 = .ok (.iconst 1, 1) := dk_4 (dk_at dksX0_deliver_0 17 rfl rfl)
theorem dX0_deliver_18 : decode cX0_deliver 18 = .ok (.ireturn, 1) := dk_172 (dk_at dksX0_deliver_0 18 rfl rfl)
theorem dX0_deliver_19 : decode cX0_deliver 19 = .ok (.astore 5, 2) := dk_58 5 (dk_at dksX0_deliver_0 19 rfl rfl)
theorem dX0_deliver_21 : decode cX0_deliver 21 = .ok (.iconst 2, 1) := dk_5 (dk_at dksX0_deliver_0 21 rfl rfl)
theorem dX0_deliver_22 : decode cX0_deliver 22 = .ok (.ireturn, 1) := dk_172 (dk_at dksX0_deliver_0 22 rfl rfl)
theorem dX0_deliver_23 : decode cX0_deliver 23 = .ok (.astore 5, 2) := dk_58 5 (dk_at dksX0_deliver_1 0 rfl rfl)
theorem dX0_deliver_25 : decode cX0_deliver 25 = .ok (.iconst 3, 1) := dk_6 (dk_at dksX0_deliver_1 2 rfl rfl)
theorem dX0_deliver_26 : decode cX0_deliver 26 = .ok (.ireturn, 1) := dk_172 (dk_at dksX0_deliver_1 3 rfl rfl)
theorem dX0_deliver_27 : decode cX0_deliver 27 = .ok (.iconst 0, 1) := dk_3 (dk_at dksX0_deliver_1 4 rfl rfl)
theorem dX0_deliver_28 : decode cX0_deliver 28 = .ok (.ireturn, 1) := dk_172 (dk_at dksX0_deliver_1 5 rfl rfl)
abbrev cX0_sell : ByteArray := method_9_code
def yX0_sell : MethodName := ⟨RX0, "sell", "(LBottleLoop;III[J)I"⟩
def dkwX0_sell_1 : List UInt8 := [58, 5, 6, 172, 3, 172]
abbrev dktX0_sell_1 : List UInt8 := dkwX0_sell_1 ++ []
def dkwX0_sell_0 : List UInt8 := [25, 4, 3, 42, 27, 28, 29, 182, 0, 36, 133, 80, 167, 0, 15, 58, 5, 4, 172, 58, 5, 5, 172]
abbrev dktX0_sell_0 : List UInt8 := dkwX0_sell_0 ++ dktX0_sell_1
theorem dksX0_sell_0 : cX0_sell.data.toList.drop 0 = dktX0_sell_0 := by decide +kernel
theorem dksX0_sell_1 : cX0_sell.data.toList.drop 23 = dktX0_sell_1 := dk_seg dksX0_sell_0 23 rfl rfl
theorem dX0_sell_0 : decode cX0_sell 0 = .ok (.aload 4, 2) := dk_25 4 (dk_at dksX0_sell_0 0 rfl rfl)
theorem dX0_sell_2 : decode cX0_sell 2 = .ok (.iconst 0, 1) := dk_3 (dk_at dksX0_sell_0 2 rfl rfl)
theorem dX0_sell_3 : decode cX0_sell 3 = .ok (.aload_n 0, 1) := dk_42 (dk_at dksX0_sell_0 3 rfl rfl)
theorem dX0_sell_4 : decode cX0_sell 4 = .ok (.iload_n 1, 1) := dk_27 (dk_at dksX0_sell_0 4 rfl rfl)
theorem dX0_sell_5 : decode cX0_sell 5 = .ok (.iload_n 2, 1) := dk_28 (dk_at dksX0_sell_0 5 rfl rfl)
theorem dX0_sell_6 : decode cX0_sell 6 = .ok (.iload_n 3, 1) := dk_29 (dk_at dksX0_sell_0 6 rfl rfl)
theorem dX0_sell_7 : decode cX0_sell 7 = .ok (.invokevirtual 36, 3) := dk_182 0 36 (dk_at dksX0_sell_0 7 rfl rfl)
theorem dX0_sell_10 : decode cX0_sell 10 = .ok (.i2l, 1) := dk_133 (dk_at dksX0_sell_0 10 rfl rfl)
theorem dX0_sell_11 : decode cX0_sell 11 = .ok (.lastore, 1) := dk_80 (dk_at dksX0_sell_0 11 rfl rfl)
theorem dX0_sell_12 : decode cX0_sell 12 = .ok (.goto 15, 3) := dk_167 0 15 (dk_at dksX0_sell_0 12 rfl rfl)
theorem dX0_sell_15 : decode cX0_sell 15 = .ok (.astore 5, 2) := dk_58 5 (dk_at dksX0_sell_0 15 rfl rfl)
theorem dX0_sell_17 : decode cX0_sell 17 = .ok (.iconst 1, 1) := dk_4 (dk_at dksX0_sell_0 17 rfl rfl)
theorem dX0_sell_18 : decode cX0_sell 18 = .ok (.ireturn, 1) := dk_172 (dk_at dksX0_sell_0 18 rfl rfl)
theorem dX0_sell_19 : decode cX0_sell 19 = .ok (.astore 5, 2) := dk_58 5 (dk_at dksX0_sell_0 19 rfl rfl)
theorem dX0_sell_21 : decode cX0_sell 21 = .ok (.iconst 2, 1) := dk_5 (dk_at dksX0_sell_0 21 rfl rfl)
theorem dX0_sell_22 : decode cX0_sell 22 = .ok (.ireturn, 1) := dk_172 (dk_at dksX0_sell_0 22 rfl rfl)
theorem dX0_sell_23 : decode cX0_sell 23 = .ok (.astore 5, 2) := dk_58 5 (dk_at dksX0_sell_1 0 rfl rfl)
theorem dX0_sell_25 : decode cX0_sell 25 = .ok (.iconst 3, 1) := dk_6 (dk_at dksX0_sell_1 2 rfl rfl)
theorem dX0_sell_26 : decode cX0_sell 26 = .ok (.ireturn, 1) := dk_172 (dk_at dksX0_sell_1 3 rfl rfl)
theorem dX0_sell_27 : decode cX0_sell 27 = .ok (.iconst 0, 1) := dk_3 (dk_at dksX0_sell_1 4 rfl rfl)
theorem dX0_sell_28 : decode cX0_sell 28 = .ok (.ireturn, 1) := dk_172 (dk_at dksX0_sell_1 5 rfl rfl)
abbrev cX0_takeBack : ByteArray := method_10_code
def yX0_takeBack : MethodName := ⟨RX0, "takeBack", "(LBottleLoop;III[J)I"⟩
def dkwX0_takeBack_1 : List UInt8 := [58, 5, 6, 172, 3, 172]
abbrev dktX0_takeBack_1 : List UInt8 := dkwX0_takeBack_1 ++ []
def dkwX0_takeBack_0 : List UInt8 := [25, 4, 3, 42, 27, 28, 29, 182, 0, 39, 133, 80, 167, 0, 15, 58, 5, 4, 172, 58, 5, 5, 172]
abbrev dktX0_takeBack_0 : List UInt8 := dkwX0_takeBack_0 ++ dktX0_takeBack_1
theorem dksX0_takeBack_0 : cX0_takeBack.data.toList.drop 0 = dktX0_takeBack_0 := by decide +kernel
theorem dksX0_takeBack_1 : cX0_takeBack.data.toList.drop 23 = dktX0_takeBack_1 := dk_seg dksX0_takeBack_0 23 rfl rfl
theorem dX0_takeBack_0 : decode cX0_takeBack 0 = .ok (.aload 4, 2) := dk_25 4 (dk_at dksX0_takeBack_0 0 rfl rfl)
theorem dX0_takeBack_2 : decode cX0_takeBack 2 = .ok (.iconst 0, 1) := dk_3 (dk_at dksX0_takeBack_0 2 rfl rfl)
theorem dX0_takeBack_3 : decode cX0_takeBack 3 = .ok (.aload_n 0, 1) := dk_42 (dk_at dksX0_takeBack_0 3 rfl rfl)
theorem dX0_takeBack_4 : decode cX0_takeBack 4 = .ok (.iload_n 1, 1) := dk_27 (dk_at dksX0_takeBack_0 4 rfl rfl)
theorem dX0_takeBack_5 : decode cX0_takeBack 5 = .ok (.iload_n 2, 1) := dk_28 (dk_at dksX0_takeBack_0 5 rfl rfl)
theorem dX0_takeBack_6 : decode cX0_takeBack 6 = .ok (.iload_n 3, 1) := dk_29 (dk_at dksX0_takeBack_0 6 rfl rfl)
theorem dX0_takeBack_7 : decode cX0_takeBack 7 = .ok (.invokevirtual 39, 3) := dk_182 0 39 (dk_at dksX0_takeBack_0 7 rfl rfl)
theorem dX0_takeBack_10 : decode cX0_takeBack 10 = .ok (.i2l, 1) := dk_133 (dk_at dksX0_takeBack_0 10 rfl rfl)
theorem dX0_takeBack_11 : decode cX0_takeBack 11 = .ok (.lastore, 1) := dk_80 (dk_at dksX0_takeBack_0 11 rfl rfl)
theorem dX0_takeBack_12 : decode cX0_takeBack 12 = .ok (.goto 15, 3) := dk_167 0 15 (dk_at dksX0_takeBack_0 12 rfl rfl)
theorem dX0_takeBack_15 : decode cX0_takeBack 15 = .ok (.astore 5, 2) := dk_58 5 (dk_at dksX0_takeBack_0 15 rfl rfl)
theorem dX0_takeBack_17 : decode cX0_takeBack 17 = .ok (.iconst 1, 1) := dk_4 (dk_at dksX0_takeBack_0 17 rfl rfl)
theorem dX0_takeBack_18 : decode cX0_takeBack 18 = .ok (.ireturn, 1) := dk_172 (dk_at dksX0_takeBack_0 18 rfl rfl)
theorem dX0_takeBack_19 : decode cX0_takeBack 19 = .ok (.astore 5, 2) := dk_58 5 (dk_at dksX0_takeBack_0 19 rfl rfl)
theorem dX0_takeBack_21 : decode cX0_takeBack 21 = .ok (.iconst 2, 1) := dk_5 (dk_at dksX0_takeBack_0 21 rfl rfl)
theorem dX0_takeBack_22 : decode cX0_takeBack 22 = .ok (.ireturn, 1) := dk_172 (dk_at dksX0_takeBack_0 22 rfl rfl)
theorem dX0_takeBack_23 : decode cX0_takeBack 23 = .ok (.astore 5, 2) := dk_58 5 (dk_at dksX0_takeBack_1 0 rfl rfl)
theorem dX0_takeBack_25 : decode cX0_takeBack 25 = .ok (.iconst 3, 1) := dk_6 (dk_at dksX0_takeBack_1 2 rfl rfl)
theorem dX0_takeBack_26 : decode cX0_takeBack 26 = .ok (.ireturn, 1) := dk_172 (dk_at dksX0_takeBack_1 3 rfl rfl)
theorem dX0_takeBack_27 : decode cX0_takeBack 27 = .ok (.iconst 0, 1) := dk_3 (dk_at dksX0_takeBack_1 4 rfl rfl)
theorem dX0_takeBack_28 : decode cX0_takeBack 28 = .ok (.ireturn, 1) := dk_172 (dk_at dksX0_takeBack_1 5 rfl rfl)
abbrev cX0_breaks : ByteArray := method_11_code
def yX0_breaks : MethodName := ⟨RX0, "breaks", "(LBottleLoop;III[J)I"⟩
def dkwX0_breaks_1 : List UInt8 := [58, 5, 6, 172, 3, 172]
abbrev dktX0_breaks_1 : List UInt8 := dkwX0_breaks_1 ++ []
def dkwX0_breaks_0 : List UInt8 := [25, 4, 3, 42, 27, 28, 29, 182, 0, 42, 133, 80, 167, 0, 15, 58, 5, 4, 172, 58, 5, 5, 172]
abbrev dktX0_breaks_0 : List UInt8 := dkwX0_breaks_0 ++ dktX0_breaks_1
theorem dksX0_breaks_0 : cX0_breaks.data.toList.drop 0 = dktX0_breaks_0 := by decide +kernel
theorem dksX0_breaks_1 : cX0_breaks.data.toList.drop 23 = dktX0_breaks_1 := dk_seg dksX0_breaks_0 23 rfl rfl
theorem dX0_breaks_0 : decode cX0_breaks 0 = .ok (.aload 4, 2) := dk_25 4 (dk_at dksX0_breaks_0 0 rfl rfl)
theorem dX0_breaks_2 : decode cX0_breaks 2 = .ok (.iconst 0, 1) := dk_3 (dk_at dksX0_breaks_0 2 rfl rfl)
theorem dX0_breaks_3 : decode cX0_breaks 3 = .ok (.aload_n 0, 1) := dk_42 (dk_at dksX0_breaks_0 3 rfl rfl)
theorem dX0_breaks_4 : decode cX0_breaks 4 = .ok (.iload_n 1, 1) := dk_27 (dk_at dksX0_breaks_0 4 rfl rfl)
theorem dX0_breaks_5 : decode cX0_breaks 5 = .ok (.iload_n 2, 1) := dk_28 (dk_at dksX0_breaks_0 5 rfl rfl)
theorem dX0_breaks_6 : decode cX0_breaks 6 = .ok (.iload_n 3, 1) := dk_29 (dk_at dksX0_breaks_0 6 rfl rfl)
theorem dX0_breaks_7 : decode cX0_breaks 7 = .ok (.invokevirtual 42, 3) := dk_182 0 42 (dk_at dksX0_breaks_0 7 rfl rfl)
theorem dX0_breaks_10 : decode cX0_breaks 10 = .ok (.i2l, 1) := dk_133 (dk_at dksX0_breaks_0 10 rfl rfl)
theorem dX0_breaks_11 : decode cX0_breaks 11 = .ok (.lastore, 1) := dk_80 (dk_at dksX0_breaks_0 11 rfl rfl)
theorem dX0_breaks_12 : decode cX0_breaks 12 = .ok (.goto 15, 3) := dk_167 0 15 (dk_at dksX0_breaks_0 12 rfl rfl)
theorem dX0_breaks_15 : decode cX0_breaks 15 = .ok (.astore 5, 2) := dk_58 5 (dk_at dksX0_breaks_0 15 rfl rfl)
theorem dX0_breaks_17 : decode cX0_breaks 17 = .ok (.iconst 1, 1) := dk_4 (dk_at dksX0_breaks_0 17 rfl rfl)
theorem dX0_breaks_18 : decode cX0_breaks 18 = .ok (.ireturn, 1) := dk_172 (dk_at dksX0_breaks_0 18 rfl rfl)
theorem dX0_breaks_19 : decode cX0_breaks 19 = .ok (.astore 5, 2) := dk_58 5 (dk_at dksX0_breaks_0 19 rfl rfl)
theorem dX0_breaks_21 : decode cX0_breaks 21 = .ok (.iconst 2, 1) := dk_5 (dk_at dksX0_breaks_0 21 rfl rfl)
theorem dX0_breaks_22 : decode cX0_breaks 22 = .ok (.ireturn, 1) := dk_172 (dk_at dksX0_breaks_0 22 rfl rfl)
theorem dX0_breaks_23 : decode cX0_breaks 23 = .ok (.astore 5, 2) := dk_58 5 (dk_at dksX0_breaks_1 0 rfl rfl)
theorem dX0_breaks_25 : decode cX0_breaks 25 = .ok (.iconst 3, 1) := dk_6 (dk_at dksX0_breaks_1 2 rfl rfl)
theorem dX0_breaks_26 : decode cX0_breaks 26 = .ok (.ireturn, 1) := dk_172 (dk_at dksX0_breaks_1 3 rfl rfl)
theorem dX0_breaks_27 : decode cX0_breaks 27 = .ok (.iconst 0, 1) := dk_3 (dk_at dksX0_breaks_1 4 rfl rfl)
theorem dX0_breaks_28 : decode cX0_breaks 28 = .ok (.ireturn, 1) := dk_172 (dk_at dksX0_breaks_1 5 rfl rfl)
abbrev cX0_lose : ByteArray := method_12_code
def yX0_lose : MethodName := ⟨RX0, "lose", "(LBottleLoop;II[J)I"⟩
def dkwX0_lose_1 : List UInt8 := [172, 3, 172]
abbrev dktX0_lose_1 : List UInt8 := dkwX0_lose_1 ++ []
def dkwX0_lose_0 : List UInt8 := [45, 3, 42, 27, 28, 182, 0, 45, 133, 80, 167, 0, 15, 58, 4, 4, 172, 58, 4, 5, 172, 58, 4, 6]
abbrev dktX0_lose_0 : List UInt8 := dkwX0_lose_0 ++ dktX0_lose_1
theorem dksX0_lose_0 : cX0_lose.data.toList.drop 0 = dktX0_lose_0 := by decide +kernel
theorem dksX0_lose_1 : cX0_lose.data.toList.drop 24 = dktX0_lose_1 := dk_seg dksX0_lose_0 24 rfl rfl
theorem dX0_lose_0 : decode cX0_lose 0 = .ok (.aload_n 3, 1) := dk_45 (dk_at dksX0_lose_0 0 rfl rfl)
theorem dX0_lose_1 : decode cX0_lose 1 = .ok (.iconst 0, 1) := dk_3 (dk_at dksX0_lose_0 1 rfl rfl)
theorem dX0_lose_2 : decode cX0_lose 2 = .ok (.aload_n 0, 1) := dk_42 (dk_at dksX0_lose_0 2 rfl rfl)
theorem dX0_lose_3 : decode cX0_lose 3 = .ok (.iload_n 1, 1) := dk_27 (dk_at dksX0_lose_0 3 rfl rfl)
theorem dX0_lose_4 : decode cX0_lose 4 = .ok (.iload_n 2, 1) := dk_28 (dk_at dksX0_lose_0 4 rfl rfl)
theorem dX0_lose_5 : decode cX0_lose 5 = .ok (.invokevirtual 45, 3) := dk_182 0 45 (dk_at dksX0_lose_0 5 rfl rfl)
theorem dX0_lose_8 : decode cX0_lose 8 = .ok (.i2l, 1) := dk_133 (dk_at dksX0_lose_0 8 rfl rfl)
theorem dX0_lose_9 : decode cX0_lose 9 = .ok (.lastore, 1) := dk_80 (dk_at dksX0_lose_0 9 rfl rfl)
theorem dX0_lose_10 : decode cX0_lose 10 = .ok (.goto 15, 3) := dk_167 0 15 (dk_at dksX0_lose_0 10 rfl rfl)
theorem dX0_lose_13 : decode cX0_lose 13 = .ok (.astore 4, 2) := dk_58 4 (dk_at dksX0_lose_0 13 rfl rfl)
theorem dX0_lose_15 : decode cX0_lose 15 = .ok (.iconst 1, 1) := dk_4 (dk_at dksX0_lose_0 15 rfl rfl)
theorem dX0_lose_16 : decode cX0_lose 16 = .ok (.ireturn, 1) := dk_172 (dk_at dksX0_lose_0 16 rfl rfl)
theorem dX0_lose_17 : decode cX0_lose 17 = .ok (.astore 4, 2) := dk_58 4 (dk_at dksX0_lose_0 17 rfl rfl)
theorem dX0_lose_19 : decode cX0_lose 19 = .ok (.iconst 2, 1) := dk_5 (dk_at dksX0_lose_0 19 rfl rfl)
theorem dX0_lose_20 : decode cX0_lose 20 = .ok (.ireturn, 1) := dk_172 (dk_at dksX0_lose_0 20 rfl rfl)
theorem dX0_lose_21 : decode cX0_lose 21 = .ok (.astore 4, 2) := dk_58 4 (dk_at dksX0_lose_0 21 rfl rfl)
theorem dX0_lose_23 : decode cX0_lose 23 = .ok (.iconst 3, 1) := dk_6 (dk_at dksX0_lose_0 23 rfl rfl)
theorem dX0_lose_24 : decode cX0_lose 24 = .ok (.ireturn, 1) := dk_172 (dk_at dksX0_lose_1 0 rfl rfl)
theorem dX0_lose_25 : decode cX0_lose 25 = .ok (.iconst 0, 1) := dk_3 (dk_at dksX0_lose_1 1 rfl rfl)
theorem dX0_lose_26 : decode cX0_lose 26 = .ok (.ireturn, 1) := dk_172 (dk_at dksX0_lose_1 2 rfl rfl)
abbrev cX0_collect : ByteArray := method_13_code
def yX0_collect : MethodName := ⟨RX0, "collect", "(LBottleLoop;III[J)I"⟩
def dkwX0_collect_1 : List UInt8 := [58, 5, 6, 172, 3, 172]
abbrev dktX0_collect_1 : List UInt8 := dkwX0_collect_1 ++ []
def dkwX0_collect_0 : List UInt8 := [25, 4, 3, 42, 27, 28, 29, 182, 0, 48, 133, 80, 167, 0, 15, 58, 5, 4, 172, 58, 5, 5, 172]
abbrev dktX0_collect_0 : List UInt8 := dkwX0_collect_0 ++ dktX0_collect_1
theorem dksX0_collect_0 : cX0_collect.data.toList.drop 0 = dktX0_collect_0 := by decide +kernel
theorem dksX0_collect_1 : cX0_collect.data.toList.drop 23 = dktX0_collect_1 := dk_seg dksX0_collect_0 23 rfl rfl
theorem dX0_collect_0 : decode cX0_collect 0 = .ok (.aload 4, 2) := dk_25 4 (dk_at dksX0_collect_0 0 rfl rfl)
theorem dX0_collect_2 : decode cX0_collect 2 = .ok (.iconst 0, 1) := dk_3 (dk_at dksX0_collect_0 2 rfl rfl)
theorem dX0_collect_3 : decode cX0_collect 3 = .ok (.aload_n 0, 1) := dk_42 (dk_at dksX0_collect_0 3 rfl rfl)
theorem dX0_collect_4 : decode cX0_collect 4 = .ok (.iload_n 1, 1) := dk_27 (dk_at dksX0_collect_0 4 rfl rfl)
theorem dX0_collect_5 : decode cX0_collect 5 = .ok (.iload_n 2, 1) := dk_28 (dk_at dksX0_collect_0 5 rfl rfl)
theorem dX0_collect_6 : decode cX0_collect 6 = .ok (.iload_n 3, 1) := dk_29 (dk_at dksX0_collect_0 6 rfl rfl)
theorem dX0_collect_7 : decode cX0_collect 7 = .ok (.invokevirtual 48, 3) := dk_182 0 48 (dk_at dksX0_collect_0 7 rfl rfl)
theorem dX0_collect_10 : decode cX0_collect 10 = .ok (.i2l, 1) := dk_133 (dk_at dksX0_collect_0 10 rfl rfl)
theorem dX0_collect_11 : decode cX0_collect 11 = .ok (.lastore, 1) := dk_80 (dk_at dksX0_collect_0 11 rfl rfl)
theorem dX0_collect_12 : decode cX0_collect 12 = .ok (.goto 15, 3) := dk_167 0 15 (dk_at dksX0_collect_0 12 rfl rfl)
theorem dX0_collect_15 : decode cX0_collect 15 = .ok (.astore 5, 2) := dk_58 5 (dk_at dksX0_collect_0 15 rfl rfl)
theorem dX0_collect_17 : decode cX0_collect 17 = .ok (.iconst 1, 1) := dk_4 (dk_at dksX0_collect_0 17 rfl rfl)
theorem dX0_collect_18 : decode cX0_collect 18 = .ok (.ireturn, 1) := dk_172 (dk_at dksX0_collect_0 18 rfl rfl)
theorem dX0_collect_19 : decode cX0_collect 19 = .ok (.astore 5, 2) := dk_58 5 (dk_at dksX0_collect_0 19 rfl rfl)
theorem dX0_collect_21 : decode cX0_collect 21 = .ok (.iconst 2, 1) := dk_5 (dk_at dksX0_collect_0 21 rfl rfl)
theorem dX0_collect_22 : decode cX0_collect 22 = .ok (.ireturn, 1) := dk_172 (dk_at dksX0_collect_0 22 rfl rfl)
theorem dX0_collect_23 : decode cX0_collect 23 = .ok (.astore 5, 2) := dk_58 5 (dk_at dksX0_collect_1 0 rfl rfl)
theorem dX0_collect_25 : decode cX0_collect 25 = .ok (.iconst 3, 1) := dk_6 (dk_at dksX0_collect_1 2 rfl rfl)
theorem dX0_collect_26 : decode cX0_collect 26 = .ok (.ireturn, 1) := dk_172 (dk_at dksX0_collect_1 3 rfl rfl)
theorem dX0_collect_27 : decode cX0_collect 27 = .ok (.iconst 0, 1) := dk_3 (dk_at dksX0_collect_1 4 rfl rfl)
theorem dX0_collect_28 : decode cX0_collect 28 = .ok (.ireturn, 1) := dk_172 (dk_at dksX0_collect_1 5 rfl rfl)
abbrev cX0_sort : ByteArray := method_14_code
def yX0_sort : MethodName := ⟨RX0, "sort", "(LBottleLoop;II[J)I"⟩
def dkwX0_sort_0 : List UInt8 := [45, 3, 42, 27, 28, 182, 0, 51, 133, 80, 167, 0, 11, 58, 4, 4, 172, 58, 4, 5, 172, 3, 172]
abbrev dktX0_sort_0 : List UInt8 := dkwX0_sort_0 ++ []
theorem dksX0_sort_0 : cX0_sort.data.toList.drop 0 = dktX0_sort_0 := by decide +kernel
theorem dX0_sort_0 : decode cX0_sort 0 = .ok (.aload_n 3, 1) := dk_45 (dk_at dksX0_sort_0 0 rfl rfl)
theorem dX0_sort_1 : decode cX0_sort 1 = .ok (.iconst 0, 1) := dk_3 (dk_at dksX0_sort_0 1 rfl rfl)
theorem dX0_sort_2 : decode cX0_sort 2 = .ok (.aload_n 0, 1) := dk_42 (dk_at dksX0_sort_0 2 rfl rfl)
theorem dX0_sort_3 : decode cX0_sort 3 = .ok (.iload_n 1, 1) := dk_27 (dk_at dksX0_sort_0 3 rfl rfl)
theorem dX0_sort_4 : decode cX0_sort 4 = .ok (.iload_n 2, 1) := dk_28 (dk_at dksX0_sort_0 4 rfl rfl)
theorem dX0_sort_5 : decode cX0_sort 5 = .ok (.invokevirtual 51, 3) := dk_182 0 51 (dk_at dksX0_sort_0 5 rfl rfl)
theorem dX0_sort_8 : decode cX0_sort 8 = .ok (.i2l, 1) := dk_133 (dk_at dksX0_sort_0 8 rfl rfl)
theorem dX0_sort_9 : decode cX0_sort 9 = .ok (.lastore, 1) := dk_80 (dk_at dksX0_sort_0 9 rfl rfl)
theorem dX0_sort_10 : decode cX0_sort 10 = .ok (.goto 11, 3) := dk_167 0 11 (dk_at dksX0_sort_0 10 rfl rfl)
theorem dX0_sort_13 : decode cX0_sort 13 = .ok (.astore 4, 2) := dk_58 4 (dk_at dksX0_sort_0 13 rfl rfl)
theorem dX0_sort_15 : decode cX0_sort 15 = .ok (.iconst 1, 1) := dk_4 (dk_at dksX0_sort_0 15 rfl rfl)
theorem dX0_sort_16 : decode cX0_sort 16 = .ok (.ireturn, 1) := dk_172 (dk_at dksX0_sort_0 16 rfl rfl)
theorem dX0_sort_17 : decode cX0_sort 17 = .ok (.astore 4, 2) := dk_58 4 (dk_at dksX0_sort_0 17 rfl rfl)
theorem dX0_sort_19 : decode cX0_sort 19 = .ok (.iconst 2, 1) := dk_5 (dk_at dksX0_sort_0 19 rfl rfl)
theorem dX0_sort_20 : decode cX0_sort 20 = .ok (.ireturn, 1) := dk_172 (dk_at dksX0_sort_0 20 rfl rfl)
theorem dX0_sort_21 : decode cX0_sort 21 = .ok (.iconst 0, 1) := dk_3 (dk_at dksX0_sort_0 21 rfl rfl)
theorem dX0_sort_22 : decode cX0_sort 22 = .ok (.ireturn, 1) := dk_172 (dk_at dksX0_sort_0 22 rfl rfl)
abbrev cX0_swap : ByteArray := method_15_code
def yX0_swap : MethodName := ⟨RX0, "swap", "(LBottleLoop;III[J)I"⟩
def dkwX0_swap_1 : List UInt8 := [58, 5, 6, 172, 3, 172]
abbrev dktX0_swap_1 : List UInt8 := dkwX0_swap_1 ++ []
def dkwX0_swap_0 : List UInt8 := [25, 4, 3, 42, 27, 28, 29, 182, 0, 54, 133, 80, 167, 0, 15, 58, 5, 4, 172, 58, 5, 5, 172]
abbrev dktX0_swap_0 : List UInt8 := dkwX0_swap_0 ++ dktX0_swap_1
theorem dksX0_swap_0 : cX0_swap.data.toList.drop 0 = dktX0_swap_0 := by decide +kernel
theorem dksX0_swap_1 : cX0_swap.data.toList.drop 23 = dktX0_swap_1 := dk_seg dksX0_swap_0 23 rfl rfl
theorem dX0_swap_0 : decode cX0_swap 0 = .ok (.aload 4, 2) := dk_25 4 (dk_at dksX0_swap_0 0 rfl rfl)
theorem dX0_swap_2 : decode cX0_swap 2 = .ok (.iconst 0, 1) := dk_3 (dk_at dksX0_swap_0 2 rfl rfl)
theorem dX0_swap_3 : decode cX0_swap 3 = .ok (.aload_n 0, 1) := dk_42 (dk_at dksX0_swap_0 3 rfl rfl)
theorem dX0_swap_4 : decode cX0_swap 4 = .ok (.iload_n 1, 1) := dk_27 (dk_at dksX0_swap_0 4 rfl rfl)
theorem dX0_swap_5 : decode cX0_swap 5 = .ok (.iload_n 2, 1) := dk_28 (dk_at dksX0_swap_0 5 rfl rfl)
theorem dX0_swap_6 : decode cX0_swap 6 = .ok (.iload_n 3, 1) := dk_29 (dk_at dksX0_swap_0 6 rfl rfl)
theorem dX0_swap_7 : decode cX0_swap 7 = .ok (.invokevirtual 54, 3) := dk_182 0 54 (dk_at dksX0_swap_0 7 rfl rfl)
theorem dX0_swap_10 : decode cX0_swap 10 = .ok (.i2l, 1) := dk_133 (dk_at dksX0_swap_0 10 rfl rfl)
theorem dX0_swap_11 : decode cX0_swap 11 = .ok (.lastore, 1) := dk_80 (dk_at dksX0_swap_0 11 rfl rfl)
theorem dX0_swap_12 : decode cX0_swap 12 = .ok (.goto 15, 3) := dk_167 0 15 (dk_at dksX0_swap_0 12 rfl rfl)
theorem dX0_swap_15 : decode cX0_swap 15 = .ok (.astore 5, 2) := dk_58 5 (dk_at dksX0_swap_0 15 rfl rfl)
theorem dX0_swap_17 : decode cX0_swap 17 = .ok (.iconst 1, 1) := dk_4 (dk_at dksX0_swap_0 17 rfl rfl)
theorem dX0_swap_18 : decode cX0_swap 18 = .ok (.ireturn, 1) := dk_172 (dk_at dksX0_swap_0 18 rfl rfl)
theorem dX0_swap_19 : decode cX0_swap 19 = .ok (.astore 5, 2) := dk_58 5 (dk_at dksX0_swap_0 19 rfl rfl)
theorem dX0_swap_21 : decode cX0_swap 21 = .ok (.iconst 2, 1) := dk_5 (dk_at dksX0_swap_0 21 rfl rfl)
theorem dX0_swap_22 : decode cX0_swap 22 = .ok (.ireturn, 1) := dk_172 (dk_at dksX0_swap_0 22 rfl rfl)
theorem dX0_swap_23 : decode cX0_swap 23 = .ok (.astore 5, 2) := dk_58 5 (dk_at dksX0_swap_1 0 rfl rfl)
theorem dX0_swap_25 : decode cX0_swap 25 = .ok (.iconst 3, 1) := dk_6 (dk_at dksX0_swap_1 2 rfl rfl)
theorem dX0_swap_26 : decode cX0_swap 26 = .ok (.ireturn, 1) := dk_172 (dk_at dksX0_swap_1 3 rfl rfl)
theorem dX0_swap_27 : decode cX0_swap 27 = .ok (.iconst 0, 1) := dk_3 (dk_at dksX0_swap_1 4 rfl rfl)
theorem dX0_swap_28 : decode cX0_swap 28 = .ok (.ireturn, 1) := dk_172 (dk_at dksX0_swap_1 5 rfl rfl)
abbrev cX0_append : ByteArray := method_16_code
def yX0_append : MethodName := ⟨RX0, "append", "(LBottleLoop;I[J)I"⟩
def dkwX0_append_0 : List UInt8 := [44, 3, 42, 27, 182, 0, 57, 133, 80, 167, 0, 9, 78, 4, 172, 78, 5, 172, 3, 172]
abbrev dktX0_append_0 : List UInt8 := dkwX0_append_0 ++ []
theorem dksX0_append_0 : cX0_append.data.toList.drop 0 = dktX0_append_0 := by decide +kernel
theorem dX0_append_0 : decode cX0_append 0 = .ok (.aload_n 2, 1) := dk_44 (dk_at dksX0_append_0 0 rfl rfl)
theorem dX0_append_1 : decode cX0_append 1 = .ok (.iconst 0, 1) := dk_3 (dk_at dksX0_append_0 1 rfl rfl)
theorem dX0_append_2 : decode cX0_append 2 = .ok (.aload_n 0, 1) := dk_42 (dk_at dksX0_append_0 2 rfl rfl)
theorem dX0_append_3 : decode cX0_append 3 = .ok (.iload_n 1, 1) := dk_27 (dk_at dksX0_append_0 3 rfl rfl)
theorem dX0_append_4 : decode cX0_append 4 = .ok (.invokevirtual 57, 3) := dk_182 0 57 (dk_at dksX0_append_0 4 rfl rfl)
theorem dX0_append_7 : decode cX0_append 7 = .ok (.i2l, 1) := dk_133 (dk_at dksX0_append_0 7 rfl rfl)
theorem dX0_append_8 : decode cX0_append 8 = .ok (.lastore, 1) := dk_80 (dk_at dksX0_append_0 8 rfl rfl)
theorem dX0_append_9 : decode cX0_append 9 = .ok (.goto 9, 3) := dk_167 0 9 (dk_at dksX0_append_0 9 rfl rfl)
theorem dX0_append_12 : decode cX0_append 12 = .ok (.astore_n 3, 1) := dk_78 (dk_at dksX0_append_0 12 rfl rfl)
theorem dX0_append_13 : decode cX0_append 13 = .ok (.iconst 1, 1) := dk_4 (dk_at dksX0_append_0 13 rfl rfl)
theorem dX0_append_14 : decode cX0_append 14 = .ok (.ireturn, 1) := dk_172 (dk_at dksX0_append_0 14 rfl rfl)
theorem dX0_append_15 : decode cX0_append 15 = .ok (.astore_n 3, 1) := dk_78 (dk_at dksX0_append_0 15 rfl rfl)
theorem dX0_append_16 : decode cX0_append 16 = .ok (.iconst 2, 1) := dk_5 (dk_at dksX0_append_0 16 rfl rfl)
theorem dX0_append_17 : decode cX0_append 17 = .ok (.ireturn, 1) := dk_172 (dk_at dksX0_append_0 17 rfl rfl)
theorem dX0_append_18 : decode cX0_append 18 = .ok (.iconst 0, 1) := dk_3 (dk_at dksX0_append_0 18 rfl rfl)
theorem dX0_append_19 : decode cX0_append 19 = .ok (.ireturn, 1) := dk_172 (dk_at dksX0_append_0 19 rfl rfl)
abbrev cX0_run : ByteArray := method_17_code
def yX0_run : MethodName := ⟨RX0, "run", "(LBottleLoop;[J)I"⟩
def dkwX0_run_0 : List UInt8 := [43, 3, 42, 182, 0, 60, 133, 80, 167, 0, 6, 77, 4, 172, 3, 172]
abbrev dktX0_run_0 : List UInt8 := dkwX0_run_0 ++ []
theorem dksX0_run_0 : cX0_run.data.toList.drop 0 = dktX0_run_0 := by decide +kernel
theorem dX0_run_0 : decode cX0_run 0 = .ok (.aload_n 1, 1) := dk_43 (dk_at dksX0_run_0 0 rfl rfl)
theorem dX0_run_1 : decode cX0_run 1 = .ok (.iconst 0, 1) := dk_3 (dk_at dksX0_run_0 1 rfl rfl)
theorem dX0_run_2 : decode cX0_run 2 = .ok (.aload_n 0, 1) := dk_42 (dk_at dksX0_run_0 2 rfl rfl)
theorem dX0_run_3 : decode cX0_run 3 = .ok (.invokevirtual 60, 3) := dk_182 0 60 (dk_at dksX0_run_0 3 rfl rfl)
theorem dX0_run_6 : decode cX0_run 6 = .ok (.i2l, 1) := dk_133 (dk_at dksX0_run_0 6 rfl rfl)
theorem dX0_run_7 : decode cX0_run 7 = .ok (.lastore, 1) := dk_80 (dk_at dksX0_run_0 7 rfl rfl)
theorem dX0_run_8 : decode cX0_run 8 = .ok (.goto 6, 3) := dk_167 0 6 (dk_at dksX0_run_0 8 rfl rfl)
theorem dX0_run_11 : decode cX0_run 11 = .ok (.astore_n 2, 1) := dk_77 (dk_at dksX0_run_0 11 rfl rfl)
theorem dX0_run_12 : decode cX0_run 12 = .ok (.iconst 1, 1) := dk_4 (dk_at dksX0_run_0 12 rfl rfl)
theorem dX0_run_13 : decode cX0_run 13 = .ok (.ireturn, 1) := dk_172 (dk_at dksX0_run_0 13 rfl rfl)
theorem dX0_run_14 : decode cX0_run 14 = .ok (.iconst 0, 1) := dk_3 (dk_at dksX0_run_0 14 rfl rfl)
theorem dX0_run_15 : decode cX0_run 15 = .ok (.ireturn, 1) := dk_172 (dk_at dksX0_run_0 15 rfl rfl)
abbrev cX0_undo : ByteArray := method_18_code
def yX0_undo : MethodName := ⟨RX0, "undo", "(LBottleLoop;[J)I"⟩
def dkwX0_undo_0 : List UInt8 := [43, 3, 42, 182, 0, 64, 133, 80, 167, 0, 6, 77, 4, 172, 3, 172]
abbrev dktX0_undo_0 : List UInt8 := dkwX0_undo_0 ++ []
theorem dksX0_undo_0 : cX0_undo.data.toList.drop 0 = dktX0_undo_0 := by decide +kernel
theorem dX0_undo_0 : decode cX0_undo 0 = .ok (.aload_n 1, 1) := dk_43 (dk_at dksX0_undo_0 0 rfl rfl)
theorem dX0_undo_1 : decode cX0_undo 1 = .ok (.iconst 0, 1) := dk_3 (dk_at dksX0_undo_0 1 rfl rfl)
theorem dX0_undo_2 : decode cX0_undo 2 = .ok (.aload_n 0, 1) := dk_42 (dk_at dksX0_undo_0 2 rfl rfl)
theorem dX0_undo_3 : decode cX0_undo 3 = .ok (.invokevirtual 64, 3) := dk_182 0 64 (dk_at dksX0_undo_0 3 rfl rfl)
theorem dX0_undo_6 : decode cX0_undo 6 = .ok (.i2l, 1) := dk_133 (dk_at dksX0_undo_0 6 rfl rfl)
theorem dX0_undo_7 : decode cX0_undo 7 = .ok (.lastore, 1) := dk_80 (dk_at dksX0_undo_0 7 rfl rfl)
theorem dX0_undo_8 : decode cX0_undo 8 = .ok (.goto 6, 3) := dk_167 0 6 (dk_at dksX0_undo_0 8 rfl rfl)
theorem dX0_undo_11 : decode cX0_undo 11 = .ok (.astore_n 2, 1) := dk_77 (dk_at dksX0_undo_0 11 rfl rfl)
theorem dX0_undo_12 : decode cX0_undo 12 = .ok (.iconst 1, 1) := dk_4 (dk_at dksX0_undo_0 12 rfl rfl)
theorem dX0_undo_13 : decode cX0_undo 13 = .ok (.ireturn, 1) := dk_172 (dk_at dksX0_undo_0 13 rfl rfl)
theorem dX0_undo_14 : decode cX0_undo 14 = .ok (.iconst 0, 1) := dk_3 (dk_at dksX0_undo_0 14 rfl rfl)
theorem dX0_undo_15 : decode cX0_undo 15 = .ok (.ireturn, 1) := dk_172 (dk_at dksX0_undo_0 15 rfl rfl)
abbrev cX0_brand : ByteArray := method_19_code
def yX0_brand : MethodName := ⟨RX0, "brand", "(LBottleLoop;II[J)I"⟩
def dkwX0_brand_0 : List UInt8 := [45, 3, 42, 27, 28, 182, 0, 67, 133, 80, 167, 0, 11, 58, 4, 4, 172, 58, 4, 5, 172, 3, 172]
abbrev dktX0_brand_0 : List UInt8 := dkwX0_brand_0 ++ []
theorem dksX0_brand_0 : cX0_brand.data.toList.drop 0 = dktX0_brand_0 := by decide +kernel
theorem dX0_brand_0 : decode cX0_brand 0 = .ok (.aload_n 3, 1) := dk_45 (dk_at dksX0_brand_0 0 rfl rfl)
theorem dX0_brand_1 : decode cX0_brand 1 = .ok (.iconst 0, 1) := dk_3 (dk_at dksX0_brand_0 1 rfl rfl)
theorem dX0_brand_2 : decode cX0_brand 2 = .ok (.aload_n 0, 1) := dk_42 (dk_at dksX0_brand_0 2 rfl rfl)
theorem dX0_brand_3 : decode cX0_brand 3 = .ok (.iload_n 1, 1) := dk_27 (dk_at dksX0_brand_0 3 rfl rfl)
theorem dX0_brand_4 : decode cX0_brand 4 = .ok (.iload_n 2, 1) := dk_28 (dk_at dksX0_brand_0 4 rfl rfl)
theorem dX0_brand_5 : decode cX0_brand 5 = .ok (.invokevirtual 67, 3) := dk_182 0 67 (dk_at dksX0_brand_0 5 rfl rfl)
theorem dX0_brand_8 : decode cX0_brand 8 = .ok (.i2l, 1) := dk_133 (dk_at dksX0_brand_0 8 rfl rfl)
theorem dX0_brand_9 : decode cX0_brand 9 = .ok (.lastore, 1) := dk_80 (dk_at dksX0_brand_0 9 rfl rfl)
theorem dX0_brand_10 : decode cX0_brand 10 = .ok (.goto 11, 3) := dk_167 0 11 (dk_at dksX0_brand_0 10 rfl rfl)
theorem dX0_brand_13 : decode cX0_brand 13 = .ok (.astore 4, 2) := dk_58 4 (dk_at dksX0_brand_0 13 rfl rfl)
theorem dX0_brand_15 : decode cX0_brand 15 = .ok (.iconst 1, 1) := dk_4 (dk_at dksX0_brand_0 15 rfl rfl)
theorem dX0_brand_16 : decode cX0_brand 16 = .ok (.ireturn, 1) := dk_172 (dk_at dksX0_brand_0 16 rfl rfl)
theorem dX0_brand_17 : decode cX0_brand 17 = .ok (.astore 4, 2) := dk_58 4 (dk_at dksX0_brand_0 17 rfl rfl)
theorem dX0_brand_19 : decode cX0_brand 19 = .ok (.iconst 2, 1) := dk_5 (dk_at dksX0_brand_0 19 rfl rfl)
theorem dX0_brand_20 : decode cX0_brand 20 = .ok (.ireturn, 1) := dk_172 (dk_at dksX0_brand_0 20 rfl rfl)
theorem dX0_brand_21 : decode cX0_brand 21 = .ok (.iconst 0, 1) := dk_3 (dk_at dksX0_brand_0 21 rfl rfl)
theorem dX0_brand_22 : decode cX0_brand 22 = .ok (.ireturn, 1) := dk_172 (dk_at dksX0_brand_0 22 rfl rfl)
abbrev cX0_shop : ByteArray := method_20_code
def yX0_shop : MethodName := ⟨RX0, "shop", "(LBottleLoop;II[J)I"⟩
def dkwX0_shop_0 : List UInt8 := [45, 3, 42, 27, 28, 182, 0, 70, 133, 80, 167, 0, 11, 58, 4, 4, 172, 58, 4, 5, 172, 3, 172]
abbrev dktX0_shop_0 : List UInt8 := dkwX0_shop_0 ++ []
theorem dksX0_shop_0 : cX0_shop.data.toList.drop 0 = dktX0_shop_0 := by decide +kernel
theorem dX0_shop_0 : decode cX0_shop 0 = .ok (.aload_n 3, 1) := dk_45 (dk_at dksX0_shop_0 0 rfl rfl)
theorem dX0_shop_1 : decode cX0_shop 1 = .ok (.iconst 0, 1) := dk_3 (dk_at dksX0_shop_0 1 rfl rfl)
theorem dX0_shop_2 : decode cX0_shop 2 = .ok (.aload_n 0, 1) := dk_42 (dk_at dksX0_shop_0 2 rfl rfl)
theorem dX0_shop_3 : decode cX0_shop 3 = .ok (.iload_n 1, 1) := dk_27 (dk_at dksX0_shop_0 3 rfl rfl)
theorem dX0_shop_4 : decode cX0_shop 4 = .ok (.iload_n 2, 1) := dk_28 (dk_at dksX0_shop_0 4 rfl rfl)
theorem dX0_shop_5 : decode cX0_shop 5 = .ok (.invokevirtual 70, 3) := dk_182 0 70 (dk_at dksX0_shop_0 5 rfl rfl)
theorem dX0_shop_8 : decode cX0_shop 8 = .ok (.i2l, 1) := dk_133 (dk_at dksX0_shop_0 8 rfl rfl)
theorem dX0_shop_9 : decode cX0_shop 9 = .ok (.lastore, 1) := dk_80 (dk_at dksX0_shop_0 9 rfl rfl)
theorem dX0_shop_10 : decode cX0_shop 10 = .ok (.goto 11, 3) := dk_167 0 11 (dk_at dksX0_shop_0 10 rfl rfl)
theorem dX0_shop_13 : decode cX0_shop 13 = .ok (.astore 4, 2) := dk_58 4 (dk_at dksX0_shop_0 13 rfl rfl)
theorem dX0_shop_15 : decode cX0_shop 15 = .ok (.iconst 1, 1) := dk_4 (dk_at dksX0_shop_0 15 rfl rfl)
theorem dX0_shop_16 : decode cX0_shop 16 = .ok (.ireturn, 1) := dk_172 (dk_at dksX0_shop_0 16 rfl rfl)
theorem dX0_shop_17 : decode cX0_shop 17 = .ok (.astore 4, 2) := dk_58 4 (dk_at dksX0_shop_0 17 rfl rfl)
theorem dX0_shop_19 : decode cX0_shop 19 = .ok (.iconst 2, 1) := dk_5 (dk_at dksX0_shop_0 19 rfl rfl)
theorem dX0_shop_20 : decode cX0_shop 20 = .ok (.ireturn, 1) := dk_172 (dk_at dksX0_shop_0 20 rfl rfl)
theorem dX0_shop_21 : decode cX0_shop 21 = .ok (.iconst 0, 1) := dk_3 (dk_at dksX0_shop_0 21 rfl rfl)
theorem dX0_shop_22 : decode cX0_shop 22 = .ok (.ireturn, 1) := dk_172 (dk_at dksX0_shop_0 22 rfl rfl)
abbrev cX0_count : ByteArray := method_21_code
def yX0_count : MethodName := ⟨RX0, "count", "(LBottleLoop;I[J)I"⟩
def dkwX0_count_0 : List UInt8 := [44, 3, 42, 27, 182, 0, 73, 133, 80, 167, 0, 6, 78, 4, 172, 3, 172]
abbrev dktX0_count_0 : List UInt8 := dkwX0_count_0 ++ []
theorem dksX0_count_0 : cX0_count.data.toList.drop 0 = dktX0_count_0 := by decide +kernel
theorem dX0_count_0 : decode cX0_count 0 = .ok (.aload_n 2, 1) := dk_44 (dk_at dksX0_count_0 0 rfl rfl)
theorem dX0_count_1 : decode cX0_count 1 = .ok (.iconst 0, 1) := dk_3 (dk_at dksX0_count_0 1 rfl rfl)
theorem dX0_count_2 : decode cX0_count 2 = .ok (.aload_n 0, 1) := dk_42 (dk_at dksX0_count_0 2 rfl rfl)
theorem dX0_count_3 : decode cX0_count 3 = .ok (.iload_n 1, 1) := dk_27 (dk_at dksX0_count_0 3 rfl rfl)
theorem dX0_count_4 : decode cX0_count 4 = .ok (.invokevirtual 73, 3) := dk_182 0 73 (dk_at dksX0_count_0 4 rfl rfl)
theorem dX0_count_7 : decode cX0_count 7 = .ok (.i2l, 1) := dk_133 (dk_at dksX0_count_0 7 rfl rfl)
theorem dX0_count_8 : decode cX0_count 8 = .ok (.lastore, 1) := dk_80 (dk_at dksX0_count_0 8 rfl rfl)
theorem dX0_count_9 : decode cX0_count 9 = .ok (.goto 6, 3) := dk_167 0 6 (dk_at dksX0_count_0 9 rfl rfl)
theorem dX0_count_12 : decode cX0_count 12 = .ok (.astore_n 3, 1) := dk_78 (dk_at dksX0_count_0 12 rfl rfl)
theorem dX0_count_13 : decode cX0_count 13 = .ok (.iconst 1, 1) := dk_4 (dk_at dksX0_count_0 13 rfl rfl)
theorem dX0_count_14 : decode cX0_count 14 = .ok (.ireturn, 1) := dk_172 (dk_at dksX0_count_0 14 rfl rfl)
theorem dX0_count_15 : decode cX0_count 15 = .ok (.iconst 0, 1) := dk_3 (dk_at dksX0_count_0 15 rfl rfl)
theorem dX0_count_16 : decode cX0_count 16 = .ok (.ireturn, 1) := dk_172 (dk_at dksX0_count_0 16 rfl rfl)
abbrev cX0_setting : ByteArray := method_22_code
def yX0_setting : MethodName := ⟨RX0, "setting", "(LBottleLoop;I[J)I"⟩
def dkwX0_setting_0 : List UInt8 := [44, 3, 42, 27, 182, 0, 76, 133, 80, 167, 0, 6, 78, 4, 172, 3, 172]
abbrev dktX0_setting_0 : List UInt8 := dkwX0_setting_0 ++ []
theorem dksX0_setting_0 : cX0_setting.data.toList.drop 0 = dktX0_setting_0 := by decide +kernel
theorem dX0_setting_0 : decode cX0_setting 0 = .ok (.aload_n 2, 1) := dk_44 (dk_at dksX0_setting_0 0 rfl rfl)
theorem dX0_setting_1 : decode cX0_setting 1 = .ok (.iconst 0, 1) := dk_3 (dk_at dksX0_setting_0 1 rfl rfl)
theorem dX0_setting_2 : decode cX0_setting 2 = .ok (.aload_n 0, 1) := dk_42 (dk_at dksX0_setting_0 2 rfl rfl)
theorem dX0_setting_3 : decode cX0_setting 3 = .ok (.iload_n 1, 1) := dk_27 (dk_at dksX0_setting_0 3 rfl rfl)
theorem dX0_setting_4 : decode cX0_setting 4 = .ok (.invokevirtual 76, 3) := dk_182 0 76 (dk_at dksX0_setting_0 4 rfl rfl)
theorem dX0_setting_7 : decode cX0_setting 7 = .ok (.i2l, 1) := dk_133 (dk_at dksX0_setting_0 7 rfl rfl)
theorem dX0_setting_8 : decode cX0_setting 8 = .ok (.lastore, 1) := dk_80 (dk_at dksX0_setting_0 8 rfl rfl)
theorem dX0_setting_9 : decode cX0_setting 9 = .ok (.goto 6, 3) := dk_167 0 6 (dk_at dksX0_setting_0 9 rfl rfl)
theorem dX0_setting_12 : decode cX0_setting 12 = .ok (.astore_n 3, 1) := dk_78 (dk_at dksX0_setting_0 12 rfl rfl)
theorem dX0_setting_13 : decode cX0_setting 13 = .ok (.iconst 1, 1) := dk_4 (dk_at dksX0_setting_0 13 rfl rfl)
theorem dX0_setting_14 : decode cX0_setting 14 = .ok (.ireturn, 1) := dk_172 (dk_at dksX0_setting_0 14 rfl rfl)
theorem dX0_setting_15 : decode cX0_setting 15 = .ok (.iconst 0, 1) := dk_3 (dk_at dksX0_setting_0 15 rfl rfl)
theorem dX0_setting_16 : decode cX0_setting 16 = .ok (.ireturn, 1) := dk_172 (dk_at dksX0_setting_0 16 rfl rfl)
abbrev cX0_whyNotDeliver : ByteArray := method_23_code
def yX0_whyNotDeliver : MethodName := ⟨RX0, "whyNotDeliver", "(LBottleLoop;III[J)I"⟩
def dkwX0_whyNotDeliver_1 : List UInt8 := [172]
abbrev dktX0_whyNotDeliver_1 : List UInt8 := dkwX0_whyNotDeliver_1 ++ []
def dkwX0_whyNotDeliver_0 : List UInt8 := [25, 4, 3, 42, 27, 28, 29, 182, 0, 79, 133, 80, 167, 0, 11, 58, 5, 4, 172, 58, 5, 5, 172, 3]
abbrev dktX0_whyNotDeliver_0 : List UInt8 := dkwX0_whyNotDeliver_0 ++ dktX0_whyNotDeliver_1
theorem dksX0_whyNotDeliver_0 : cX0_whyNotDeliver.data.toList.drop 0 = dktX0_whyNotDeliver_0 := by decide +kernel
theorem dksX0_whyNotDeliver_1 : cX0_whyNotDeliver.data.toList.drop 24 = dktX0_whyNotDeliver_1 := dk_seg dksX0_whyNotDeliver_0 24 rfl rfl
theorem dX0_whyNotDeliver_0 : decode cX0_whyNotDeliver 0 = .ok (.aload 4, 2) := dk_25 4 (dk_at dksX0_whyNotDeliver_0 0 rfl rfl)
theorem dX0_whyNotDeliver_2 : decode cX0_whyNotDeliver 2 = .ok (.iconst 0, 1) := dk_3 (dk_at dksX0_whyNotDeliver_0 2 rfl rfl)
theorem dX0_whyNotDeliver_3 : decode cX0_whyNotDeliver 3 = .ok (.aload_n 0, 1) := dk_42 (dk_at dksX0_whyNotDeliver_0 3 rfl rfl)
theorem dX0_whyNotDeliver_4 : decode cX0_whyNotDeliver 4 = .ok (.iload_n 1, 1) := dk_27 (dk_at dksX0_whyNotDeliver_0 4 rfl rfl)
theorem dX0_whyNotDeliver_5 : decode cX0_whyNotDeliver 5 = .ok (.iload_n 2, 1) := dk_28 (dk_at dksX0_whyNotDeliver_0 5 rfl rfl)
theorem dX0_whyNotDeliver_6 : decode cX0_whyNotDeliver 6 = .ok (.iload_n 3, 1) := dk_29 (dk_at dksX0_whyNotDeliver_0 6 rfl rfl)
theorem dX0_whyNotDeliver_7 : decode cX0_whyNotDeliver 7 = .ok (.invokevirtual 79, 3) := dk_182 0 79 (dk_at dksX0_whyNotDeliver_0 7 rfl rfl)
theorem dX0_whyNotDeliver_10 : decode cX0_whyNotDeliver 10 = .ok (.i2l, 1) := dk_133 (dk_at dksX0_whyNotDeliver_0 10 rfl rfl)
theorem dX0_whyNotDeliver_11 : decode cX0_whyNotDeliver 11 = .ok (.lastore, 1) := dk_80 (dk_at dksX0_whyNotDeliver_0 11 rfl rfl)
theorem dX0_whyNotDeliver_12 : decode cX0_whyNotDeliver 12 = .ok (.goto 11, 3) := dk_167 0 11 (dk_at dksX0_whyNotDeliver_0 12 rfl rfl)
theorem dX0_whyNotDeliver_15 : decode cX0_whyNotDeliver 15 = .ok (.astore 5, 2) := dk_58 5 (dk_at dksX0_whyNotDeliver_0 15 rfl rfl)
theorem dX0_whyNotDeliver_17 : decode cX0_whyNotDeliver 17 = .ok (.iconst 1, 1) := dk_4 (dk_at dksX0_whyNotDeliver_0 17 rfl rfl)
theorem dX0_whyNotDeliver_18 : decode cX0_whyNotDeliver 18 = .ok (.ireturn, 1) := dk_172 (dk_at dksX0_whyNotDeliver_0 18 rfl rfl)
theorem dX0_whyNotDeliver_19 : decode cX0_whyNotDeliver 19 = .ok (.astore 5, 2) := dk_58 5 (dk_at dksX0_whyNotDeliver_0 19 rfl rfl)
theorem dX0_whyNotDeliver_21 : decode cX0_whyNotDeliver 21 = .ok (.iconst 2, 1) := dk_5 (dk_at dksX0_whyNotDeliver_0 21 rfl rfl)
theorem dX0_whyNotDeliver_22 : decode cX0_whyNotDeliver 22 = .ok (.ireturn, 1) := dk_172 (dk_at dksX0_whyNotDeliver_0 22 rfl rfl)
theorem dX0_whyNotDeliver_23 : decode cX0_whyNotDeliver 23 = .ok (.iconst 0, 1) := dk_3 (dk_at dksX0_whyNotDeliver_0 23 rfl rfl)
theorem dX0_whyNotDeliver_24 : decode cX0_whyNotDeliver 24 = .ok (.ireturn, 1) := dk_172 (dk_at dksX0_whyNotDeliver_1 0 rfl rfl)
abbrev cX0_whyNotCollect : ByteArray := method_24_code
def yX0_whyNotCollect : MethodName := ⟨RX0, "whyNotCollect", "(LBottleLoop;III[J)I"⟩
def dkwX0_whyNotCollect_1 : List UInt8 := [172]
abbrev dktX0_whyNotCollect_1 : List UInt8 := dkwX0_whyNotCollect_1 ++ []
def dkwX0_whyNotCollect_0 : List UInt8 := [25, 4, 3, 42, 27, 28, 29, 182, 0, 82, 133, 80, 167, 0, 11, 58, 5, 4, 172, 58, 5, 5, 172, 3]
abbrev dktX0_whyNotCollect_0 : List UInt8 := dkwX0_whyNotCollect_0 ++ dktX0_whyNotCollect_1
theorem dksX0_whyNotCollect_0 : cX0_whyNotCollect.data.toList.drop 0 = dktX0_whyNotCollect_0 := by decide +kernel
theorem dksX0_whyNotCollect_1 : cX0_whyNotCollect.data.toList.drop 24 = dktX0_whyNotCollect_1 := dk_seg dksX0_whyNotCollect_0 24 rfl rfl
theorem dX0_whyNotCollect_0 : decode cX0_whyNotCollect 0 = .ok (.aload 4, 2) := dk_25 4 (dk_at dksX0_whyNotCollect_0 0 rfl rfl)
theorem dX0_whyNotCollect_2 : decode cX0_whyNotCollect 2 = .ok (.iconst 0, 1) := dk_3 (dk_at dksX0_whyNotCollect_0 2 rfl rfl)
theorem dX0_whyNotCollect_3 : decode cX0_whyNotCollect 3 = .ok (.aload_n 0, 1) := dk_42 (dk_at dksX0_whyNotCollect_0 3 rfl rfl)
theorem dX0_whyNotCollect_4 : decode cX0_whyNotCollect 4 = .ok (.iload_n 1, 1) := dk_27 (dk_at dksX0_whyNotCollect_0 4 rfl rfl)
theorem dX0_whyNotCollect_5 : decode cX0_whyNotCollect 5 = .ok (.iload_n 2, 1) := dk_28 (dk_at dksX0_whyNotCollect_0 5 rfl rfl)
theorem dX0_whyNotCollect_6 : decode cX0_whyNotCollect 6 = .ok (.iload_n 3, 1) := dk_29 (dk_at dksX0_whyNotCollect_0 6 rfl rfl)
theorem dX0_whyNotCollect_7 : decode cX0_whyNotCollect 7 = .ok (.invokevirtual 82, 3) := dk_182 0 82 (dk_at dksX0_whyNotCollect_0 7 rfl rfl)
theorem dX0_whyNotCollect_10 : decode cX0_whyNotCollect 10 = .ok (.i2l, 1) := dk_133 (dk_at dksX0_whyNotCollect_0 10 rfl rfl)
theorem dX0_whyNotCollect_11 : decode cX0_whyNotCollect 11 = .ok (.lastore, 1) := dk_80 (dk_at dksX0_whyNotCollect_0 11 rfl rfl)
theorem dX0_whyNotCollect_12 : decode cX0_whyNotCollect 12 = .ok (.goto 11, 3) := dk_167 0 11 (dk_at dksX0_whyNotCollect_0 12 rfl rfl)
theorem dX0_whyNotCollect_15 : decode cX0_whyNotCollect 15 = .ok (.astore 5, 2) := dk_58 5 (dk_at dksX0_whyNotCollect_0 15 rfl rfl)
theorem dX0_whyNotCollect_17 : decode cX0_whyNotCollect 17 = .ok (.iconst 1, 1) := dk_4 (dk_at dksX0_whyNotCollect_0 17 rfl rfl)
theorem dX0_whyNotCollect_18 : decode cX0_whyNotCollect 18 = .ok (.ireturn, 1) := dk_172 (dk_at dksX0_whyNotCollect_0 18 rfl rfl)
theorem dX0_whyNotCollect_19 : decode cX0_whyNotCollect 19 = .ok (.astore 5, 2) := dk_58 5 (dk_at dksX0_whyNotCollect_0 19 rfl rfl)
theorem dX0_whyNotCollect_21 : decode cX0_whyNotCollect 21 = .ok (.iconst 2, 1) := dk_5 (dk_at dksX0_whyNotCollect_0 21 rfl rfl)
theorem dX0_whyNotCollect_22 : decode cX0_whyNotCollect 22 = .ok (.ireturn, 1) := dk_172 (dk_at dksX0_whyNotCollect_0 22 rfl rfl)
theorem dX0_whyNotCollect_23 : decode cX0_whyNotCollect 23 = .ok (.iconst 0, 1) := dk_3 (dk_at dksX0_whyNotCollect_0 23 rfl rfl)
theorem dX0_whyNotCollect_24 : decode cX0_whyNotCollect 24 = .ok (.ireturn, 1) := dk_172 (dk_at dksX0_whyNotCollect_1 0 rfl rfl)
abbrev cX0_mostCrates : ByteArray := method_25_code
def yX0_mostCrates : MethodName := ⟨RX0, "mostCrates", "(LBottleLoop;II[J)I"⟩
def dkwX0_mostCrates_0 : List UInt8 := [45, 3, 42, 27, 28, 182, 0, 85, 133, 80, 167, 0, 7, 58, 4, 4, 172, 3, 172]
abbrev dktX0_mostCrates_0 : List UInt8 := dkwX0_mostCrates_0 ++ []
theorem dksX0_mostCrates_0 : cX0_mostCrates.data.toList.drop 0 = dktX0_mostCrates_0 := by decide +kernel
theorem dX0_mostCrates_0 : decode cX0_mostCrates 0 = .ok (.aload_n 3, 1) := dk_45 (dk_at dksX0_mostCrates_0 0 rfl rfl)
theorem dX0_mostCrates_1 : decode cX0_mostCrates 1 = .ok (.iconst 0, 1) := dk_3 (dk_at dksX0_mostCrates_0 1 rfl rfl)
theorem dX0_mostCrates_2 : decode cX0_mostCrates 2 = .ok (.aload_n 0, 1) := dk_42 (dk_at dksX0_mostCrates_0 2 rfl rfl)
theorem dX0_mostCrates_3 : decode cX0_mostCrates 3 = .ok (.iload_n 1, 1) := dk_27 (dk_at dksX0_mostCrates_0 3 rfl rfl)
theorem dX0_mostCrates_4 : decode cX0_mostCrates 4 = .ok (.iload_n 2, 1) := dk_28 (dk_at dksX0_mostCrates_0 4 rfl rfl)
theorem dX0_mostCrates_5 : decode cX0_mostCrates 5 = .ok (.invokevirtual 85, 3) := dk_182 0 85 (dk_at dksX0_mostCrates_0 5 rfl rfl)
theorem dX0_mostCrates_8 : decode cX0_mostCrates 8 = .ok (.i2l, 1) := dk_133 (dk_at dksX0_mostCrates_0 8 rfl rfl)
theorem dX0_mostCrates_9 : decode cX0_mostCrates 9 = .ok (.lastore, 1) := dk_80 (dk_at dksX0_mostCrates_0 9 rfl rfl)
theorem dX0_mostCrates_10 : decode cX0_mostCrates 10 = .ok (.goto 7, 3) := dk_167 0 7 (dk_at dksX0_mostCrates_0 10 rfl rfl)
theorem dX0_mostCrates_13 : decode cX0_mostCrates 13 = .ok (.astore 4, 2) := dk_58 4 (dk_at dksX0_mostCrates_0 13 rfl rfl)
theorem dX0_mostCrates_15 : decode cX0_mostCrates 15 = .ok (.iconst 1, 1) := dk_4 (dk_at dksX0_mostCrates_0 15 rfl rfl)
theorem dX0_mostCrates_16 : decode cX0_mostCrates 16 = .ok (.ireturn, 1) := dk_172 (dk_at dksX0_mostCrates_0 16 rfl rfl)
theorem dX0_mostCrates_17 : decode cX0_mostCrates 17 = .ok (.iconst 0, 1) := dk_3 (dk_at dksX0_mostCrates_0 17 rfl rfl)
theorem dX0_mostCrates_18 : decode cX0_mostCrates 18 = .ok (.ireturn, 1) := dk_172 (dk_at dksX0_mostCrates_0 18 rfl rfl)
abbrev cX0_collected : ByteArray := method_26_code
def yX0_collected : MethodName := ⟨RX0, "collected", "(LBottleLoop;III[J)I"⟩
def dkwX0_collected_1 : List UInt8 := [172]
abbrev dktX0_collected_1 : List UInt8 := dkwX0_collected_1 ++ []
def dkwX0_collected_0 : List UInt8 := [25, 4, 3, 42, 27, 28, 29, 182, 0, 88, 133, 80, 167, 0, 11, 58, 5, 4, 172, 58, 5, 5, 172, 3]
abbrev dktX0_collected_0 : List UInt8 := dkwX0_collected_0 ++ dktX0_collected_1
theorem dksX0_collected_0 : cX0_collected.data.toList.drop 0 = dktX0_collected_0 := by decide +kernel
theorem dksX0_collected_1 : cX0_collected.data.toList.drop 24 = dktX0_collected_1 := dk_seg dksX0_collected_0 24 rfl rfl
theorem dX0_collected_0 : decode cX0_collected 0 = .ok (.aload 4, 2) := dk_25 4 (dk_at dksX0_collected_0 0 rfl rfl)
theorem dX0_collected_2 : decode cX0_collected 2 = .ok (.iconst 0, 1) := dk_3 (dk_at dksX0_collected_0 2 rfl rfl)
theorem dX0_collected_3 : decode cX0_collected 3 = .ok (.aload_n 0, 1) := dk_42 (dk_at dksX0_collected_0 3 rfl rfl)
theorem dX0_collected_4 : decode cX0_collected 4 = .ok (.iload_n 1, 1) := dk_27 (dk_at dksX0_collected_0 4 rfl rfl)
theorem dX0_collected_5 : decode cX0_collected 5 = .ok (.iload_n 2, 1) := dk_28 (dk_at dksX0_collected_0 5 rfl rfl)
theorem dX0_collected_6 : decode cX0_collected 6 = .ok (.iload_n 3, 1) := dk_29 (dk_at dksX0_collected_0 6 rfl rfl)
theorem dX0_collected_7 : decode cX0_collected 7 = .ok (.invokevirtual 88, 3) := dk_182 0 88 (dk_at dksX0_collected_0 7 rfl rfl)
theorem dX0_collected_10 : decode cX0_collected 10 = .ok (.i2l, 1) := dk_133 (dk_at dksX0_collected_0 10 rfl rfl)
theorem dX0_collected_11 : decode cX0_collected 11 = .ok (.lastore, 1) := dk_80 (dk_at dksX0_collected_0 11 rfl rfl)
theorem dX0_collected_12 : decode cX0_collected 12 = .ok (.goto 11, 3) := dk_167 0 11 (dk_at dksX0_collected_0 12 rfl rfl)
theorem dX0_collected_15 : decode cX0_collected 15 = .ok (.astore 5, 2) := dk_58 5 (dk_at dksX0_collected_0 15 rfl rfl)
theorem dX0_collected_17 : decode cX0_collected 17 = .ok (.iconst 1, 1) := dk_4 (dk_at dksX0_collected_0 17 rfl rfl)
theorem dX0_collected_18 : decode cX0_collected 18 = .ok (.ireturn, 1) := dk_172 (dk_at dksX0_collected_0 18 rfl rfl)
theorem dX0_collected_19 : decode cX0_collected 19 = .ok (.astore 5, 2) := dk_58 5 (dk_at dksX0_collected_0 19 rfl rfl)
theorem dX0_collected_21 : decode cX0_collected 21 = .ok (.iconst 2, 1) := dk_5 (dk_at dksX0_collected_0 21 rfl rfl)
theorem dX0_collected_22 : decode cX0_collected 22 = .ok (.ireturn, 1) := dk_172 (dk_at dksX0_collected_0 22 rfl rfl)
theorem dX0_collected_23 : decode cX0_collected 23 = .ok (.iconst 0, 1) := dk_3 (dk_at dksX0_collected_0 23 rfl rfl)
theorem dX0_collected_24 : decode cX0_collected 24 = .ok (.ireturn, 1) := dk_172 (dk_at dksX0_collected_1 0 rfl rfl)
abbrev cX0_filled : ByteArray := method_27_code
def yX0_filled : MethodName := ⟨RX0, "filled", "(LBottleLoop;II[J)I"⟩
def dkwX0_filled_0 : List UInt8 := [45, 3, 42, 27, 28, 182, 0, 91, 133, 80, 167, 0, 11, 58, 4, 4, 172, 58, 4, 5, 172, 3, 172]
abbrev dktX0_filled_0 : List UInt8 := dkwX0_filled_0 ++ []
theorem dksX0_filled_0 : cX0_filled.data.toList.drop 0 = dktX0_filled_0 := by decide +kernel
theorem dX0_filled_0 : decode cX0_filled 0 = .ok (.aload_n 3, 1) := dk_45 (dk_at dksX0_filled_0 0 rfl rfl)
theorem dX0_filled_1 : decode cX0_filled 1 = .ok (.iconst 0, 1) := dk_3 (dk_at dksX0_filled_0 1 rfl rfl)
theorem dX0_filled_2 : decode cX0_filled 2 = .ok (.aload_n 0, 1) := dk_42 (dk_at dksX0_filled_0 2 rfl rfl)
theorem dX0_filled_3 : decode cX0_filled 3 = .ok (.iload_n 1, 1) := dk_27 (dk_at dksX0_filled_0 3 rfl rfl)
theorem dX0_filled_4 : decode cX0_filled 4 = .ok (.iload_n 2, 1) := dk_28 (dk_at dksX0_filled_0 4 rfl rfl)
theorem dX0_filled_5 : decode cX0_filled 5 = .ok (.invokevirtual 91, 3) := dk_182 0 91 (dk_at dksX0_filled_0 5 rfl rfl)
theorem dX0_filled_8 : decode cX0_filled 8 = .ok (.i2l, 1) := dk_133 (dk_at dksX0_filled_0 8 rfl rfl)
theorem dX0_filled_9 : decode cX0_filled 9 = .ok (.lastore, 1) := dk_80 (dk_at dksX0_filled_0 9 rfl rfl)
theorem dX0_filled_10 : decode cX0_filled 10 = .ok (.goto 11, 3) := dk_167 0 11 (dk_at dksX0_filled_0 10 rfl rfl)
theorem dX0_filled_13 : decode cX0_filled 13 = .ok (.astore 4, 2) := dk_58 4 (dk_at dksX0_filled_0 13 rfl rfl)
theorem dX0_filled_15 : decode cX0_filled 15 = .ok (.iconst 1, 1) := dk_4 (dk_at dksX0_filled_0 15 rfl rfl)
theorem dX0_filled_16 : decode cX0_filled 16 = .ok (.ireturn, 1) := dk_172 (dk_at dksX0_filled_0 16 rfl rfl)
theorem dX0_filled_17 : decode cX0_filled 17 = .ok (.astore 4, 2) := dk_58 4 (dk_at dksX0_filled_0 17 rfl rfl)
theorem dX0_filled_19 : decode cX0_filled 19 = .ok (.iconst 2, 1) := dk_5 (dk_at dksX0_filled_0 19 rfl rfl)
theorem dX0_filled_20 : decode cX0_filled 20 = .ok (.ireturn, 1) := dk_172 (dk_at dksX0_filled_0 20 rfl rfl)
theorem dX0_filled_21 : decode cX0_filled 21 = .ok (.iconst 0, 1) := dk_3 (dk_at dksX0_filled_0 21 rfl rfl)
theorem dX0_filled_22 : decode cX0_filled 22 = .ok (.ireturn, 1) := dk_172 (dk_at dksX0_filled_0 22 rfl rfl)
abbrev cX0_bestShop : ByteArray := method_28_code
def yX0_bestShop : MethodName := ⟨RX0, "bestShop", "(LBottleLoop;I[J)I"⟩
def dkwX0_bestShop_0 : List UInt8 := [44, 3, 42, 27, 182, 0, 94, 133, 80, 167, 0, 6, 78, 4, 172, 3, 172]
abbrev dktX0_bestShop_0 : List UInt8 := dkwX0_bestShop_0 ++ []
theorem dksX0_bestShop_0 : cX0_bestShop.data.toList.drop 0 = dktX0_bestShop_0 := by decide +kernel
theorem dX0_bestShop_0 : decode cX0_bestShop 0 = .ok (.aload_n 2, 1) := dk_44 (dk_at dksX0_bestShop_0 0 rfl rfl)
theorem dX0_bestShop_1 : decode cX0_bestShop 1 = .ok (.iconst 0, 1) := dk_3 (dk_at dksX0_bestShop_0 1 rfl rfl)
theorem dX0_bestShop_2 : decode cX0_bestShop 2 = .ok (.aload_n 0, 1) := dk_42 (dk_at dksX0_bestShop_0 2 rfl rfl)
theorem dX0_bestShop_3 : decode cX0_bestShop 3 = .ok (.iload_n 1, 1) := dk_27 (dk_at dksX0_bestShop_0 3 rfl rfl)
theorem dX0_bestShop_4 : decode cX0_bestShop 4 = .ok (.invokevirtual 94, 3) := dk_182 0 94 (dk_at dksX0_bestShop_0 4 rfl rfl)
theorem dX0_bestShop_7 : decode cX0_bestShop 7 = .ok (.i2l, 1) := dk_133 (dk_at dksX0_bestShop_0 7 rfl rfl)
theorem dX0_bestShop_8 : decode cX0_bestShop 8 = .ok (.lastore, 1) := dk_80 (dk_at dksX0_bestShop_0 8 rfl rfl)
theorem dX0_bestShop_9 : decode cX0_bestShop 9 = .ok (.goto 6, 3) := dk_167 0 6 (dk_at dksX0_bestShop_0 9 rfl rfl)
theorem dX0_bestShop_12 : decode cX0_bestShop 12 = .ok (.astore_n 3, 1) := dk_78 (dk_at dksX0_bestShop_0 12 rfl rfl)
theorem dX0_bestShop_13 : decode cX0_bestShop 13 = .ok (.iconst 1, 1) := dk_4 (dk_at dksX0_bestShop_0 13 rfl rfl)
theorem dX0_bestShop_14 : decode cX0_bestShop 14 = .ok (.ireturn, 1) := dk_172 (dk_at dksX0_bestShop_0 14 rfl rfl)
theorem dX0_bestShop_15 : decode cX0_bestShop 15 = .ok (.iconst 0, 1) := dk_3 (dk_at dksX0_bestShop_0 15 rfl rfl)
theorem dX0_bestShop_16 : decode cX0_bestShop 16 = .ok (.ireturn, 1) := dk_172 (dk_at dksX0_bestShop_0 16 rfl rfl)
theorem q78 : (Jvm.Cond.initialized "BottleLoopLaw") ∈ lw_all := lw_g (lw_at lw_m1 0 rfl) rfl
theorem q126 : (Jvm.Cond.classLink "BottleLoopLaw" (8 : Nat) "BottleLoop") ∈ lw_all := lw_g (lw_at lw_m1 48 rfl) rfl
theorem q128 : (Jvm.Cond.methodLink "BottleLoopLaw" (97 : Nat) ({ cls := "BottleLoop", name := "<init>", desc := "()V" } : Jvm.MethodName)) ∈ lw_all := lw_g (lw_at lw_m1 50 rfl) rfl
theorem q275 : (Jvm.Cond.methodLink "BottleLoopLaw" (151 : Nat) ({ cls := "BottleLoop", name := "clearBuffer", desc := "()I" } : Jvm.MethodName)) ∈ lw_all := lw_g (lw_at lw_m1 197 rfl) rfl
theorem q629 : (Jvm.Cond.methodLink "BottleLoopLaw" (155 : Nat) ({ cls := "BottleLoop", name := "firstError", desc := "()I" } : Jvm.MethodName)) ∈ lw_all := lw_g (lw_at lw_m3 71 rfl) rfl
theorem q783 : (Jvm.Cond.methodLink "BottleLoopLaw" (196 : Nat) ({ cls := "BottleLoop", name := "goneShare", desc := "()D" } : Jvm.MethodName)) ∈ lw_all := lw_g (lw_at lw_m3 225 rfl) rfl
theorem q821 : (Jvm.Cond.methodLink "BottleLoopLaw" (201 : Nat) ({ cls := "BottleLoop", name := "digest", desc := "()J" } : Jvm.MethodName)) ∈ lw_all := lw_g (lw_at lw_m4 23 rfl) rfl
theorem q918 : (Jvm.Cond.methodLink "BottleLoopLaw" (101 : Nat) ({ cls := "BottleLoopLaw", name := "addBrand", desc := "(LBottleLoop;II[J)I" } : Jvm.MethodName)) ∈ lw_all := lw_g (lw_at lw_m4 120 rfl) rfl
theorem q919 : (Jvm.Cond.static ({ cls := "BottleLoopLaw", name := "addBrand", desc := "(LBottleLoop;II[J)I" } : Jvm.MethodName)) ∈ lw_all := lw_g (lw_at lw_m4 121 rfl) rfl
theorem q920 : (Jvm.Cond.codeWith ({ cls := "BottleLoopLaw", name := "addBrand", desc := "(LBottleLoop;II[J)I" } : Jvm.MethodName) method_3_code (5 : Nat) (Option.some Jvm.ClassFile.FieldType.int) [((0 : Nat), (10 : Nat), (13 : Nat), (13 : Nat)), ((0 : Nat), (10 : Nat), (17 : Nat), (15 : Nat))]) ∈ lw_all := lw_g (lw_at lw_m4 122 rfl) rfl
theorem q921 : (Jvm.Cond.classLink "BottleLoopLaw" (13 : Nat) "java/lang/IllegalArgumentException") ∈ lw_all := lw_g (lw_at lw_m4 123 rfl) rfl
theorem q922 : (Jvm.Cond.classLink "BottleLoopLaw" (15 : Nat) "java/lang/IllegalStateException") ∈ lw_all := lw_g (lw_at lw_m4 124 rfl) rfl
theorem q923 : (Jvm.Cond.methodLink "BottleLoopLaw" (7 : Nat) ({ cls := "BottleLoop", name := "addBrand", desc := "(II)I" } : Jvm.MethodName)) ∈ lw_all := lw_g (lw_at lw_m4 125 rfl) rfl
theorem q1094 : (Jvm.Cond.methodLink "BottleLoopLaw" (110 : Nat) ({ cls := "BottleLoopLaw", name := "addShop", desc := "(LBottleLoop;I[J)I" } : Jvm.MethodName)) ∈ lw_all := lw_g (lw_at lw_m5 56 rfl) rfl
theorem q1095 : (Jvm.Cond.static ({ cls := "BottleLoopLaw", name := "addShop", desc := "(LBottleLoop;I[J)I" } : Jvm.MethodName)) ∈ lw_all := lw_g (lw_at lw_m5 57 rfl) rfl
theorem q1096 : (Jvm.Cond.codeWith ({ cls := "BottleLoopLaw", name := "addShop", desc := "(LBottleLoop;I[J)I" } : Jvm.MethodName) method_4_code (4 : Nat) (Option.some Jvm.ClassFile.FieldType.int) [((0 : Nat), (9 : Nat), (12 : Nat), (13 : Nat)), ((0 : Nat), (9 : Nat), (15 : Nat), (15 : Nat))]) ∈ lw_all := lw_g (lw_at lw_m5 58 rfl) rfl
theorem q1097 : (Jvm.Cond.methodLink "BottleLoopLaw" (17 : Nat) ({ cls := "BottleLoop", name := "addShop", desc := "(I)I" } : Jvm.MethodName)) ∈ lw_all := lw_g (lw_at lw_m5 59 rfl) rfl
theorem q1103 : (Jvm.Cond.methodLink "BottleLoopLaw" (114 : Nat) ({ cls := "BottleLoopLaw", name := "buyCrates", desc := "(LBottleLoop;I[J)I" } : Jvm.MethodName)) ∈ lw_all := lw_g (lw_at lw_m5 65 rfl) rfl
theorem q1104 : (Jvm.Cond.static ({ cls := "BottleLoopLaw", name := "buyCrates", desc := "(LBottleLoop;I[J)I" } : Jvm.MethodName)) ∈ lw_all := lw_g (lw_at lw_m5 66 rfl) rfl
theorem q1105 : (Jvm.Cond.codeWith ({ cls := "BottleLoopLaw", name := "buyCrates", desc := "(LBottleLoop;I[J)I" } : Jvm.MethodName) method_5_code (4 : Nat) (Option.some Jvm.ClassFile.FieldType.int) [((0 : Nat), (9 : Nat), (12 : Nat), (13 : Nat)), ((0 : Nat), (9 : Nat), (15 : Nat), (15 : Nat))]) ∈ lw_all := lw_g (lw_at lw_m5 67 rfl) rfl
theorem q1106 : (Jvm.Cond.methodLink "BottleLoopLaw" (21 : Nat) ({ cls := "BottleLoop", name := "buyCrates", desc := "(I)I" } : Jvm.MethodName)) ∈ lw_all := lw_g (lw_at lw_m5 68 rfl) rfl
theorem q1110 : (Jvm.Cond.methodLink "BottleLoopLaw" (117 : Nat) ({ cls := "BottleLoopLaw", name := "set", desc := "(LBottleLoop;II[J)I" } : Jvm.MethodName)) ∈ lw_all := lw_g (lw_at lw_m5 72 rfl) rfl
theorem q1111 : (Jvm.Cond.static ({ cls := "BottleLoopLaw", name := "set", desc := "(LBottleLoop;II[J)I" } : Jvm.MethodName)) ∈ lw_all := lw_g (lw_at lw_m5 73 rfl) rfl
theorem q1112 : (Jvm.Cond.codeWith ({ cls := "BottleLoopLaw", name := "set", desc := "(LBottleLoop;II[J)I" } : Jvm.MethodName) method_6_code (5 : Nat) (Option.some Jvm.ClassFile.FieldType.int) [((0 : Nat), (10 : Nat), (13 : Nat), (27 : Nat)), ((0 : Nat), (10 : Nat), (17 : Nat), (13 : Nat)), ((0 : Nat), (10 : Nat), (21 : Nat), (15 : Nat))]) ∈ lw_all := lw_g (lw_at lw_m5 74 rfl) rfl
theorem q1113 : (Jvm.Cond.classLink "BottleLoopLaw" (27 : Nat) "java/lang/IndexOutOfBoundsException") ∈ lw_all := lw_g (lw_at lw_m5 75 rfl) rfl
theorem q1116 : (Jvm.Cond.methodLink "BottleLoopLaw" (24 : Nat) ({ cls := "BottleLoop", name := "set", desc := "(II)I" } : Jvm.MethodName)) ∈ lw_all := lw_g (lw_at lw_m5 78 rfl) rfl
theorem q1142 : (Jvm.Cond.methodLink "BottleLoopLaw" (120 : Nat) ({ cls := "BottleLoopLaw", name := "fill", desc := "(LBottleLoop;II[J)I" } : Jvm.MethodName)) ∈ lw_all := lw_g (lw_at lw_m5 104 rfl) rfl
theorem q1143 : (Jvm.Cond.static ({ cls := "BottleLoopLaw", name := "fill", desc := "(LBottleLoop;II[J)I" } : Jvm.MethodName)) ∈ lw_all := lw_g (lw_at lw_m5 105 rfl) rfl
theorem q1144 : (Jvm.Cond.codeWith ({ cls := "BottleLoopLaw", name := "fill", desc := "(LBottleLoop;II[J)I" } : Jvm.MethodName) method_7_code (5 : Nat) (Option.some Jvm.ClassFile.FieldType.int) [((0 : Nat), (10 : Nat), (13 : Nat), (27 : Nat)), ((0 : Nat), (10 : Nat), (17 : Nat), (13 : Nat)), ((0 : Nat), (10 : Nat), (21 : Nat), (15 : Nat))]) ∈ lw_all := lw_g (lw_at lw_m5 106 rfl) rfl
theorem q1145 : (Jvm.Cond.methodLink "BottleLoopLaw" (29 : Nat) ({ cls := "BottleLoop", name := "fill", desc := "(II)I" } : Jvm.MethodName)) ∈ lw_all := lw_g (lw_at lw_m5 107 rfl) rfl
theorem q1432 : (Jvm.Cond.methodLink "BottleLoopLaw" (123 : Nat) ({ cls := "BottleLoopLaw", name := "deliver", desc := "(LBottleLoop;III[J)I" } : Jvm.MethodName)) ∈ lw_all := lw_g (lw_at lw_m6 154 rfl) rfl
theorem q1433 : (Jvm.Cond.static ({ cls := "BottleLoopLaw", name := "deliver", desc := "(LBottleLoop;III[J)I" } : Jvm.MethodName)) ∈ lw_all := lw_g (lw_at lw_m6 155 rfl) rfl
theorem q1434 : (Jvm.Cond.codeWith ({ cls := "BottleLoopLaw", name := "deliver", desc := "(LBottleLoop;III[J)I" } : Jvm.MethodName) method_8_code (6 : Nat) (Option.some Jvm.ClassFile.FieldType.int) [((0 : Nat), (12 : Nat), (15 : Nat), (27 : Nat)), ((0 : Nat), (12 : Nat), (19 : Nat), (13 : Nat)), ((0 : Nat), (12 : Nat), (23 : Nat), (15 : Nat))]) ∈ lw_all := lw_g (lw_at lw_m6 156 rfl) rfl
theorem q1435 : (Jvm.Cond.methodLink "BottleLoopLaw" (32 : Nat) ({ cls := "BottleLoop", name := "deliver", desc := "(III)I" } : Jvm.MethodName)) ∈ lw_all := lw_g (lw_at lw_m6 157 rfl) rfl
theorem q1468 : (Jvm.Cond.methodLink "BottleLoopLaw" (127 : Nat) ({ cls := "BottleLoopLaw", name := "sell", desc := "(LBottleLoop;III[J)I" } : Jvm.MethodName)) ∈ lw_all := lw_g (lw_at lw_m6 190 rfl) rfl
theorem q1469 : (Jvm.Cond.static ({ cls := "BottleLoopLaw", name := "sell", desc := "(LBottleLoop;III[J)I" } : Jvm.MethodName)) ∈ lw_all := lw_g (lw_at lw_m6 191 rfl) rfl
theorem q1470 : (Jvm.Cond.codeWith ({ cls := "BottleLoopLaw", name := "sell", desc := "(LBottleLoop;III[J)I" } : Jvm.MethodName) method_9_code (6 : Nat) (Option.some Jvm.ClassFile.FieldType.int) [((0 : Nat), (12 : Nat), (15 : Nat), (27 : Nat)), ((0 : Nat), (12 : Nat), (19 : Nat), (13 : Nat)), ((0 : Nat), (12 : Nat), (23 : Nat), (15 : Nat))]) ∈ lw_all := lw_g (lw_at lw_m6 192 rfl) rfl
theorem q1471 : (Jvm.Cond.methodLink "BottleLoopLaw" (36 : Nat) ({ cls := "BottleLoop", name := "sell", desc := "(III)I" } : Jvm.MethodName)) ∈ lw_all := lw_g (lw_at lw_m6 193 rfl) rfl
theorem q1503 : (Jvm.Cond.methodLink "BottleLoopLaw" (130 : Nat) ({ cls := "BottleLoopLaw", name := "takeBack", desc := "(LBottleLoop;III[J)I" } : Jvm.MethodName)) ∈ lw_all := lw_g (lw_at lw_m6 225 rfl) rfl
theorem q1504 : (Jvm.Cond.static ({ cls := "BottleLoopLaw", name := "takeBack", desc := "(LBottleLoop;III[J)I" } : Jvm.MethodName)) ∈ lw_all := lw_g (lw_at lw_m6 226 rfl) rfl
theorem q1505 : (Jvm.Cond.codeWith ({ cls := "BottleLoopLaw", name := "takeBack", desc := "(LBottleLoop;III[J)I" } : Jvm.MethodName) method_10_code (6 : Nat) (Option.some Jvm.ClassFile.FieldType.int) [((0 : Nat), (12 : Nat), (15 : Nat), (27 : Nat)), ((0 : Nat), (12 : Nat), (19 : Nat), (13 : Nat)), ((0 : Nat), (12 : Nat), (23 : Nat), (15 : Nat))]) ∈ lw_all := lw_g (lw_at lw_m6 227 rfl) rfl
theorem q1506 : (Jvm.Cond.methodLink "BottleLoopLaw" (39 : Nat) ({ cls := "BottleLoop", name := "takeBack", desc := "(III)I" } : Jvm.MethodName)) ∈ lw_all := lw_g (lw_at lw_m6 228 rfl) rfl
theorem q1534 : (Jvm.Cond.methodLink "BottleLoopLaw" (133 : Nat) ({ cls := "BottleLoopLaw", name := "breaks", desc := "(LBottleLoop;III[J)I" } : Jvm.MethodName)) ∈ lw_all := lw_g (lw_at lw_m7 16 rfl) rfl
theorem q1535 : (Jvm.Cond.static ({ cls := "BottleLoopLaw", name := "breaks", desc := "(LBottleLoop;III[J)I" } : Jvm.MethodName)) ∈ lw_all := lw_g (lw_at lw_m7 17 rfl) rfl
theorem q1536 : (Jvm.Cond.codeWith ({ cls := "BottleLoopLaw", name := "breaks", desc := "(LBottleLoop;III[J)I" } : Jvm.MethodName) method_11_code (6 : Nat) (Option.some Jvm.ClassFile.FieldType.int) [((0 : Nat), (12 : Nat), (15 : Nat), (27 : Nat)), ((0 : Nat), (12 : Nat), (19 : Nat), (13 : Nat)), ((0 : Nat), (12 : Nat), (23 : Nat), (15 : Nat))]) ∈ lw_all := lw_g (lw_at lw_m7 18 rfl) rfl
theorem q1537 : (Jvm.Cond.methodLink "BottleLoopLaw" (42 : Nat) ({ cls := "BottleLoop", name := "breaks", desc := "(III)I" } : Jvm.MethodName)) ∈ lw_all := lw_g (lw_at lw_m7 19 rfl) rfl
theorem q1565 : (Jvm.Cond.methodLink "BottleLoopLaw" (136 : Nat) ({ cls := "BottleLoopLaw", name := "lose", desc := "(LBottleLoop;II[J)I" } : Jvm.MethodName)) ∈ lw_all := lw_g (lw_at lw_m7 47 rfl) rfl
theorem q1566 : (Jvm.Cond.static ({ cls := "BottleLoopLaw", name := "lose", desc := "(LBottleLoop;II[J)I" } : Jvm.MethodName)) ∈ lw_all := lw_g (lw_at lw_m7 48 rfl) rfl
theorem q1567 : (Jvm.Cond.codeWith ({ cls := "BottleLoopLaw", name := "lose", desc := "(LBottleLoop;II[J)I" } : Jvm.MethodName) method_12_code (5 : Nat) (Option.some Jvm.ClassFile.FieldType.int) [((0 : Nat), (10 : Nat), (13 : Nat), (27 : Nat)), ((0 : Nat), (10 : Nat), (17 : Nat), (13 : Nat)), ((0 : Nat), (10 : Nat), (21 : Nat), (15 : Nat))]) ∈ lw_all := lw_g (lw_at lw_m7 49 rfl) rfl
theorem q1568 : (Jvm.Cond.methodLink "BottleLoopLaw" (45 : Nat) ({ cls := "BottleLoop", name := "lose", desc := "(II)I" } : Jvm.MethodName)) ∈ lw_all := lw_g (lw_at lw_m7 50 rfl) rfl
theorem q1592 : (Jvm.Cond.methodLink "BottleLoopLaw" (139 : Nat) ({ cls := "BottleLoopLaw", name := "collect", desc := "(LBottleLoop;III[J)I" } : Jvm.MethodName)) ∈ lw_all := lw_g (lw_at lw_m7 74 rfl) rfl
theorem q1593 : (Jvm.Cond.static ({ cls := "BottleLoopLaw", name := "collect", desc := "(LBottleLoop;III[J)I" } : Jvm.MethodName)) ∈ lw_all := lw_g (lw_at lw_m7 75 rfl) rfl
theorem q1594 : (Jvm.Cond.codeWith ({ cls := "BottleLoopLaw", name := "collect", desc := "(LBottleLoop;III[J)I" } : Jvm.MethodName) method_13_code (6 : Nat) (Option.some Jvm.ClassFile.FieldType.int) [((0 : Nat), (12 : Nat), (15 : Nat), (27 : Nat)), ((0 : Nat), (12 : Nat), (19 : Nat), (13 : Nat)), ((0 : Nat), (12 : Nat), (23 : Nat), (15 : Nat))]) ∈ lw_all := lw_g (lw_at lw_m7 76 rfl) rfl
theorem q1595 : (Jvm.Cond.methodLink "BottleLoopLaw" (48 : Nat) ({ cls := "BottleLoop", name := "collect", desc := "(III)I" } : Jvm.MethodName)) ∈ lw_all := lw_g (lw_at lw_m7 77 rfl) rfl
theorem q1623 : (Jvm.Cond.methodLink "BottleLoopLaw" (142 : Nat) ({ cls := "BottleLoopLaw", name := "sort", desc := "(LBottleLoop;II[J)I" } : Jvm.MethodName)) ∈ lw_all := lw_g (lw_at lw_m7 105 rfl) rfl
theorem q1624 : (Jvm.Cond.static ({ cls := "BottleLoopLaw", name := "sort", desc := "(LBottleLoop;II[J)I" } : Jvm.MethodName)) ∈ lw_all := lw_g (lw_at lw_m7 106 rfl) rfl
theorem q1625 : (Jvm.Cond.codeWith ({ cls := "BottleLoopLaw", name := "sort", desc := "(LBottleLoop;II[J)I" } : Jvm.MethodName) method_14_code (5 : Nat) (Option.some Jvm.ClassFile.FieldType.int) [((0 : Nat), (10 : Nat), (13 : Nat), (13 : Nat)), ((0 : Nat), (10 : Nat), (17 : Nat), (15 : Nat))]) ∈ lw_all := lw_g (lw_at lw_m7 107 rfl) rfl
theorem q1626 : (Jvm.Cond.methodLink "BottleLoopLaw" (51 : Nat) ({ cls := "BottleLoop", name := "sort", desc := "(II)I" } : Jvm.MethodName)) ∈ lw_all := lw_g (lw_at lw_m7 108 rfl) rfl
theorem q1650 : (Jvm.Cond.methodLink "BottleLoopLaw" (145 : Nat) ({ cls := "BottleLoopLaw", name := "swap", desc := "(LBottleLoop;III[J)I" } : Jvm.MethodName)) ∈ lw_all := lw_g (lw_at lw_m7 132 rfl) rfl
theorem q1651 : (Jvm.Cond.static ({ cls := "BottleLoopLaw", name := "swap", desc := "(LBottleLoop;III[J)I" } : Jvm.MethodName)) ∈ lw_all := lw_g (lw_at lw_m7 133 rfl) rfl
theorem q1652 : (Jvm.Cond.codeWith ({ cls := "BottleLoopLaw", name := "swap", desc := "(LBottleLoop;III[J)I" } : Jvm.MethodName) method_15_code (6 : Nat) (Option.some Jvm.ClassFile.FieldType.int) [((0 : Nat), (12 : Nat), (15 : Nat), (27 : Nat)), ((0 : Nat), (12 : Nat), (19 : Nat), (13 : Nat)), ((0 : Nat), (12 : Nat), (23 : Nat), (15 : Nat))]) ∈ lw_all := lw_g (lw_at lw_m7 134 rfl) rfl
theorem q1653 : (Jvm.Cond.methodLink "BottleLoopLaw" (54 : Nat) ({ cls := "BottleLoop", name := "swap", desc := "(III)I" } : Jvm.MethodName)) ∈ lw_all := lw_g (lw_at lw_m7 135 rfl) rfl
theorem q1680 : (Jvm.Cond.methodLink "BottleLoopLaw" (148 : Nat) ({ cls := "BottleLoopLaw", name := "append", desc := "(LBottleLoop;I[J)I" } : Jvm.MethodName)) ∈ lw_all := lw_g (lw_at lw_m7 162 rfl) rfl
theorem q1681 : (Jvm.Cond.static ({ cls := "BottleLoopLaw", name := "append", desc := "(LBottleLoop;I[J)I" } : Jvm.MethodName)) ∈ lw_all := lw_g (lw_at lw_m7 163 rfl) rfl
theorem q1682 : (Jvm.Cond.codeWith ({ cls := "BottleLoopLaw", name := "append", desc := "(LBottleLoop;I[J)I" } : Jvm.MethodName) method_16_code (4 : Nat) (Option.some Jvm.ClassFile.FieldType.int) [((0 : Nat), (9 : Nat), (12 : Nat), (13 : Nat)), ((0 : Nat), (9 : Nat), (15 : Nat), (15 : Nat))]) ∈ lw_all := lw_g (lw_at lw_m7 164 rfl) rfl
theorem q1683 : (Jvm.Cond.methodLink "BottleLoopLaw" (57 : Nat) ({ cls := "BottleLoop", name := "append", desc := "(I)I" } : Jvm.MethodName)) ∈ lw_all := lw_g (lw_at lw_m7 165 rfl) rfl
theorem q1704 : (Jvm.Cond.methodLink "BottleLoopLaw" (159 : Nat) ({ cls := "BottleLoopLaw", name := "run", desc := "(LBottleLoop;[J)I" } : Jvm.MethodName)) ∈ lw_all := lw_g (lw_at lw_m7 186 rfl) rfl
theorem q1705 : (Jvm.Cond.static ({ cls := "BottleLoopLaw", name := "run", desc := "(LBottleLoop;[J)I" } : Jvm.MethodName)) ∈ lw_all := lw_g (lw_at lw_m7 187 rfl) rfl
theorem q1706 : (Jvm.Cond.codeWith ({ cls := "BottleLoopLaw", name := "run", desc := "(LBottleLoop;[J)I" } : Jvm.MethodName) method_17_code (3 : Nat) (Option.some Jvm.ClassFile.FieldType.int) [((0 : Nat), (8 : Nat), (11 : Nat), (13 : Nat))]) ∈ lw_all := lw_g (lw_at lw_m7 188 rfl) rfl
theorem q1707 : (Jvm.Cond.methodLink "BottleLoopLaw" (60 : Nat) ({ cls := "BottleLoop", name := "run", desc := "()I" } : Jvm.MethodName)) ∈ lw_all := lw_g (lw_at lw_m7 189 rfl) rfl
theorem q1758 : (Jvm.Cond.methodLink "BottleLoopLaw" (163 : Nat) ({ cls := "BottleLoopLaw", name := "undo", desc := "(LBottleLoop;[J)I" } : Jvm.MethodName)) ∈ lw_all := lw_g (lw_at lw_m8 0 rfl) rfl
theorem q1759 : (Jvm.Cond.static ({ cls := "BottleLoopLaw", name := "undo", desc := "(LBottleLoop;[J)I" } : Jvm.MethodName)) ∈ lw_all := lw_g (lw_at lw_m8 1 rfl) rfl
theorem q1760 : (Jvm.Cond.codeWith ({ cls := "BottleLoopLaw", name := "undo", desc := "(LBottleLoop;[J)I" } : Jvm.MethodName) method_18_code (3 : Nat) (Option.some Jvm.ClassFile.FieldType.int) [((0 : Nat), (8 : Nat), (11 : Nat), (15 : Nat))]) ∈ lw_all := lw_g (lw_at lw_m8 2 rfl) rfl
theorem q1761 : (Jvm.Cond.methodLink "BottleLoopLaw" (64 : Nat) ({ cls := "BottleLoop", name := "undo", desc := "()I" } : Jvm.MethodName)) ∈ lw_all := lw_g (lw_at lw_m8 3 rfl) rfl
theorem q1769 : (Jvm.Cond.methodLink "BottleLoopLaw" (166 : Nat) ({ cls := "BottleLoopLaw", name := "brand", desc := "(LBottleLoop;II[J)I" } : Jvm.MethodName)) ∈ lw_all := lw_g (lw_at lw_m8 11 rfl) rfl
theorem q1770 : (Jvm.Cond.static ({ cls := "BottleLoopLaw", name := "brand", desc := "(LBottleLoop;II[J)I" } : Jvm.MethodName)) ∈ lw_all := lw_g (lw_at lw_m8 12 rfl) rfl
theorem q1771 : (Jvm.Cond.codeWith ({ cls := "BottleLoopLaw", name := "brand", desc := "(LBottleLoop;II[J)I" } : Jvm.MethodName) method_19_code (5 : Nat) (Option.some Jvm.ClassFile.FieldType.int) [((0 : Nat), (10 : Nat), (13 : Nat), (27 : Nat)), ((0 : Nat), (10 : Nat), (17 : Nat), (13 : Nat))]) ∈ lw_all := lw_g (lw_at lw_m8 13 rfl) rfl
theorem q1772 : (Jvm.Cond.methodLink "BottleLoopLaw" (67 : Nat) ({ cls := "BottleLoop", name := "brand", desc := "(II)I" } : Jvm.MethodName)) ∈ lw_all := lw_g (lw_at lw_m8 14 rfl) rfl
theorem q1776 : (Jvm.Cond.methodLink "BottleLoopLaw" (169 : Nat) ({ cls := "BottleLoopLaw", name := "shop", desc := "(LBottleLoop;II[J)I" } : Jvm.MethodName)) ∈ lw_all := lw_g (lw_at lw_m8 18 rfl) rfl
theorem q1777 : (Jvm.Cond.static ({ cls := "BottleLoopLaw", name := "shop", desc := "(LBottleLoop;II[J)I" } : Jvm.MethodName)) ∈ lw_all := lw_g (lw_at lw_m8 19 rfl) rfl
theorem q1778 : (Jvm.Cond.codeWith ({ cls := "BottleLoopLaw", name := "shop", desc := "(LBottleLoop;II[J)I" } : Jvm.MethodName) method_20_code (5 : Nat) (Option.some Jvm.ClassFile.FieldType.int) [((0 : Nat), (10 : Nat), (13 : Nat), (27 : Nat)), ((0 : Nat), (10 : Nat), (17 : Nat), (13 : Nat))]) ∈ lw_all := lw_g (lw_at lw_m8 20 rfl) rfl
theorem q1779 : (Jvm.Cond.methodLink "BottleLoopLaw" (70 : Nat) ({ cls := "BottleLoop", name := "shop", desc := "(II)I" } : Jvm.MethodName)) ∈ lw_all := lw_g (lw_at lw_m8 21 rfl) rfl
theorem q1783 : (Jvm.Cond.methodLink "BottleLoopLaw" (172 : Nat) ({ cls := "BottleLoopLaw", name := "count", desc := "(LBottleLoop;I[J)I" } : Jvm.MethodName)) ∈ lw_all := lw_g (lw_at lw_m8 25 rfl) rfl
theorem q1784 : (Jvm.Cond.static ({ cls := "BottleLoopLaw", name := "count", desc := "(LBottleLoop;I[J)I" } : Jvm.MethodName)) ∈ lw_all := lw_g (lw_at lw_m8 26 rfl) rfl
theorem q1785 : (Jvm.Cond.codeWith ({ cls := "BottleLoopLaw", name := "count", desc := "(LBottleLoop;I[J)I" } : Jvm.MethodName) method_21_code (4 : Nat) (Option.some Jvm.ClassFile.FieldType.int) [((0 : Nat), (9 : Nat), (12 : Nat), (13 : Nat))]) ∈ lw_all := lw_g (lw_at lw_m8 27 rfl) rfl
theorem q1786 : (Jvm.Cond.methodLink "BottleLoopLaw" (73 : Nat) ({ cls := "BottleLoop", name := "count", desc := "(I)I" } : Jvm.MethodName)) ∈ lw_all := lw_g (lw_at lw_m8 28 rfl) rfl
theorem q1790 : (Jvm.Cond.methodLink "BottleLoopLaw" (175 : Nat) ({ cls := "BottleLoopLaw", name := "setting", desc := "(LBottleLoop;I[J)I" } : Jvm.MethodName)) ∈ lw_all := lw_g (lw_at lw_m8 32 rfl) rfl
theorem q1791 : (Jvm.Cond.static ({ cls := "BottleLoopLaw", name := "setting", desc := "(LBottleLoop;I[J)I" } : Jvm.MethodName)) ∈ lw_all := lw_g (lw_at lw_m8 33 rfl) rfl
theorem q1792 : (Jvm.Cond.codeWith ({ cls := "BottleLoopLaw", name := "setting", desc := "(LBottleLoop;I[J)I" } : Jvm.MethodName) method_22_code (4 : Nat) (Option.some Jvm.ClassFile.FieldType.int) [((0 : Nat), (9 : Nat), (12 : Nat), (27 : Nat))]) ∈ lw_all := lw_g (lw_at lw_m8 34 rfl) rfl
theorem q1793 : (Jvm.Cond.methodLink "BottleLoopLaw" (76 : Nat) ({ cls := "BottleLoop", name := "setting", desc := "(I)I" } : Jvm.MethodName)) ∈ lw_all := lw_g (lw_at lw_m8 35 rfl) rfl
theorem q1797 : (Jvm.Cond.methodLink "BottleLoopLaw" (178 : Nat) ({ cls := "BottleLoopLaw", name := "whyNotDeliver", desc := "(LBottleLoop;III[J)I" } : Jvm.MethodName)) ∈ lw_all := lw_g (lw_at lw_m8 39 rfl) rfl
theorem q1798 : (Jvm.Cond.static ({ cls := "BottleLoopLaw", name := "whyNotDeliver", desc := "(LBottleLoop;III[J)I" } : Jvm.MethodName)) ∈ lw_all := lw_g (lw_at lw_m8 40 rfl) rfl
theorem q1799 : (Jvm.Cond.codeWith ({ cls := "BottleLoopLaw", name := "whyNotDeliver", desc := "(LBottleLoop;III[J)I" } : Jvm.MethodName) method_23_code (6 : Nat) (Option.some Jvm.ClassFile.FieldType.int) [((0 : Nat), (12 : Nat), (15 : Nat), (27 : Nat)), ((0 : Nat), (12 : Nat), (19 : Nat), (13 : Nat))]) ∈ lw_all := lw_g (lw_at lw_m8 41 rfl) rfl
theorem q1800 : (Jvm.Cond.methodLink "BottleLoopLaw" (79 : Nat) ({ cls := "BottleLoop", name := "whyNotDeliver", desc := "(III)I" } : Jvm.MethodName)) ∈ lw_all := lw_g (lw_at lw_m8 42 rfl) rfl
theorem q1805 : (Jvm.Cond.methodLink "BottleLoopLaw" (181 : Nat) ({ cls := "BottleLoopLaw", name := "whyNotCollect", desc := "(LBottleLoop;III[J)I" } : Jvm.MethodName)) ∈ lw_all := lw_g (lw_at lw_m8 47 rfl) rfl
theorem q1806 : (Jvm.Cond.static ({ cls := "BottleLoopLaw", name := "whyNotCollect", desc := "(LBottleLoop;III[J)I" } : Jvm.MethodName)) ∈ lw_all := lw_g (lw_at lw_m8 48 rfl) rfl
theorem q1807 : (Jvm.Cond.codeWith ({ cls := "BottleLoopLaw", name := "whyNotCollect", desc := "(LBottleLoop;III[J)I" } : Jvm.MethodName) method_24_code (6 : Nat) (Option.some Jvm.ClassFile.FieldType.int) [((0 : Nat), (12 : Nat), (15 : Nat), (27 : Nat)), ((0 : Nat), (12 : Nat), (19 : Nat), (13 : Nat))]) ∈ lw_all := lw_g (lw_at lw_m8 49 rfl) rfl
theorem q1808 : (Jvm.Cond.methodLink "BottleLoopLaw" (82 : Nat) ({ cls := "BottleLoop", name := "whyNotCollect", desc := "(III)I" } : Jvm.MethodName)) ∈ lw_all := lw_g (lw_at lw_m8 50 rfl) rfl
theorem q1812 : (Jvm.Cond.methodLink "BottleLoopLaw" (184 : Nat) ({ cls := "BottleLoopLaw", name := "mostCrates", desc := "(LBottleLoop;II[J)I" } : Jvm.MethodName)) ∈ lw_all := lw_g (lw_at lw_m8 54 rfl) rfl
theorem q1813 : (Jvm.Cond.static ({ cls := "BottleLoopLaw", name := "mostCrates", desc := "(LBottleLoop;II[J)I" } : Jvm.MethodName)) ∈ lw_all := lw_g (lw_at lw_m8 55 rfl) rfl
theorem q1814 : (Jvm.Cond.codeWith ({ cls := "BottleLoopLaw", name := "mostCrates", desc := "(LBottleLoop;II[J)I" } : Jvm.MethodName) method_25_code (5 : Nat) (Option.some Jvm.ClassFile.FieldType.int) [((0 : Nat), (10 : Nat), (13 : Nat), (27 : Nat))]) ∈ lw_all := lw_g (lw_at lw_m8 56 rfl) rfl
theorem q1815 : (Jvm.Cond.methodLink "BottleLoopLaw" (85 : Nat) ({ cls := "BottleLoop", name := "mostCrates", desc := "(II)I" } : Jvm.MethodName)) ∈ lw_all := lw_g (lw_at lw_m8 57 rfl) rfl
theorem q1819 : (Jvm.Cond.methodLink "BottleLoopLaw" (187 : Nat) ({ cls := "BottleLoopLaw", name := "collected", desc := "(LBottleLoop;III[J)I" } : Jvm.MethodName)) ∈ lw_all := lw_g (lw_at lw_m8 61 rfl) rfl
theorem q1820 : (Jvm.Cond.static ({ cls := "BottleLoopLaw", name := "collected", desc := "(LBottleLoop;III[J)I" } : Jvm.MethodName)) ∈ lw_all := lw_g (lw_at lw_m8 62 rfl) rfl
theorem q1821 : (Jvm.Cond.codeWith ({ cls := "BottleLoopLaw", name := "collected", desc := "(LBottleLoop;III[J)I" } : Jvm.MethodName) method_26_code (6 : Nat) (Option.some Jvm.ClassFile.FieldType.int) [((0 : Nat), (12 : Nat), (15 : Nat), (27 : Nat)), ((0 : Nat), (12 : Nat), (19 : Nat), (13 : Nat))]) ∈ lw_all := lw_g (lw_at lw_m8 63 rfl) rfl
theorem q1822 : (Jvm.Cond.methodLink "BottleLoopLaw" (88 : Nat) ({ cls := "BottleLoop", name := "collected", desc := "(III)I" } : Jvm.MethodName)) ∈ lw_all := lw_g (lw_at lw_m8 64 rfl) rfl
theorem q1826 : (Jvm.Cond.methodLink "BottleLoopLaw" (190 : Nat) ({ cls := "BottleLoopLaw", name := "filled", desc := "(LBottleLoop;II[J)I" } : Jvm.MethodName)) ∈ lw_all := lw_g (lw_at lw_m8 68 rfl) rfl
theorem q1827 : (Jvm.Cond.static ({ cls := "BottleLoopLaw", name := "filled", desc := "(LBottleLoop;II[J)I" } : Jvm.MethodName)) ∈ lw_all := lw_g (lw_at lw_m8 69 rfl) rfl
theorem q1828 : (Jvm.Cond.codeWith ({ cls := "BottleLoopLaw", name := "filled", desc := "(LBottleLoop;II[J)I" } : Jvm.MethodName) method_27_code (5 : Nat) (Option.some Jvm.ClassFile.FieldType.int) [((0 : Nat), (10 : Nat), (13 : Nat), (27 : Nat)), ((0 : Nat), (10 : Nat), (17 : Nat), (13 : Nat))]) ∈ lw_all := lw_g (lw_at lw_m8 70 rfl) rfl
theorem q1829 : (Jvm.Cond.methodLink "BottleLoopLaw" (91 : Nat) ({ cls := "BottleLoop", name := "filled", desc := "(II)I" } : Jvm.MethodName)) ∈ lw_all := lw_g (lw_at lw_m8 71 rfl) rfl
theorem q1833 : (Jvm.Cond.methodLink "BottleLoopLaw" (193 : Nat) ({ cls := "BottleLoopLaw", name := "bestShop", desc := "(LBottleLoop;I[J)I" } : Jvm.MethodName)) ∈ lw_all := lw_g (lw_at lw_m8 75 rfl) rfl
theorem q1834 : (Jvm.Cond.static ({ cls := "BottleLoopLaw", name := "bestShop", desc := "(LBottleLoop;I[J)I" } : Jvm.MethodName)) ∈ lw_all := lw_g (lw_at lw_m8 76 rfl) rfl
theorem q1835 : (Jvm.Cond.codeWith ({ cls := "BottleLoopLaw", name := "bestShop", desc := "(LBottleLoop;I[J)I" } : Jvm.MethodName) method_28_code (4 : Nat) (Option.some Jvm.ClassFile.FieldType.int) [((0 : Nat), (9 : Nat), (12 : Nat), (13 : Nat))]) ∈ lw_all := lw_g (lw_at lw_m8 77 rfl) rfl
theorem q1836 : (Jvm.Cond.methodLink "BottleLoopLaw" (94 : Nat) ({ cls := "BottleLoop", name := "bestShop", desc := "(I)I" } : Jvm.MethodName)) ∈ lw_all := lw_g (lw_at lw_m8 78 rfl) rfl
theorem q1840 : (Jvm.Cond.classLink "BottleLoopLaw" (98 : Nat) "BottleLoopModel") ∈ lw_all := lw_g (lw_at lw_m8 82 rfl) rfl
theorem q1842 : (Jvm.Cond.methodLink "BottleLoopLaw" (100 : Nat) ({ cls := "BottleLoopModel", name := "<init>", desc := "()V" } : Jvm.MethodName)) ∈ lw_all := lw_g (lw_at lw_m8 84 rfl) rfl
theorem q1895 : (Jvm.Cond.methodLink "BottleLoopLaw" (107 : Nat) ({ cls := "BottleLoopModel", name := "thrown", desc := "()I" } : Jvm.MethodName)) ∈ lw_all := lw_g (lw_at lw_m8 137 rfl) rfl
theorem q1899 : (Jvm.Cond.methodLink "BottleLoopLaw" (106 : Nat) ({ cls := "BottleLoopModel", name := "addBrand", desc := "(II)I" } : Jvm.MethodName)) ∈ lw_all := lw_g (lw_at lw_m8 141 rfl) rfl
theorem q1917 : (Jvm.Cond.methodLink "BottleLoopLaw" (113 : Nat) ({ cls := "BottleLoopModel", name := "addShop", desc := "(I)I" } : Jvm.MethodName)) ∈ lw_all := lw_g (lw_at lw_m8 159 rfl) rfl
theorem q1925 : (Jvm.Cond.methodLink "BottleLoopLaw" (116 : Nat) ({ cls := "BottleLoopModel", name := "buyCrates", desc := "(I)I" } : Jvm.MethodName)) ∈ lw_all := lw_g (lw_at lw_m8 167 rfl) rfl
theorem q1937 : (Jvm.Cond.methodLink "BottleLoopLaw" (119 : Nat) ({ cls := "BottleLoopModel", name := "set", desc := "(II)I" } : Jvm.MethodName)) ∈ lw_all := lw_g (lw_at lw_m8 179 rfl) rfl
theorem q1941 : (Jvm.Cond.methodLink "BottleLoopLaw" (122 : Nat) ({ cls := "BottleLoopModel", name := "fill", desc := "(II)I" } : Jvm.MethodName)) ∈ lw_all := lw_g (lw_at lw_m8 183 rfl) rfl
theorem q1961 : (Jvm.Cond.methodLink "BottleLoopLaw" (126 : Nat) ({ cls := "BottleLoopModel", name := "deliver", desc := "(III)I" } : Jvm.MethodName)) ∈ lw_all := lw_g (lw_at lw_m8 203 rfl) rfl
theorem q1985 : (Jvm.Cond.methodLink "BottleLoopLaw" (129 : Nat) ({ cls := "BottleLoopModel", name := "sell", desc := "(III)I" } : Jvm.MethodName)) ∈ lw_all := lw_g (lw_at lw_m8 227 rfl) rfl
theorem q2001 : (Jvm.Cond.methodLink "BottleLoopLaw" (132 : Nat) ({ cls := "BottleLoopModel", name := "takeBack", desc := "(III)I" } : Jvm.MethodName)) ∈ lw_all := lw_g (lw_at lw_m9 3 rfl) rfl
theorem q2013 : (Jvm.Cond.methodLink "BottleLoopLaw" (135 : Nat) ({ cls := "BottleLoopModel", name := "breaks", desc := "(III)I" } : Jvm.MethodName)) ∈ lw_all := lw_g (lw_at lw_m9 15 rfl) rfl
theorem q2028 : (Jvm.Cond.methodLink "BottleLoopLaw" (138 : Nat) ({ cls := "BottleLoopModel", name := "lose", desc := "(II)I" } : Jvm.MethodName)) ∈ lw_all := lw_g (lw_at lw_m9 30 rfl) rfl
theorem q2032 : (Jvm.Cond.methodLink "BottleLoopLaw" (141 : Nat) ({ cls := "BottleLoopModel", name := "collect", desc := "(III)I" } : Jvm.MethodName)) ∈ lw_all := lw_g (lw_at lw_m9 34 rfl) rfl
theorem q2052 : (Jvm.Cond.methodLink "BottleLoopLaw" (144 : Nat) ({ cls := "BottleLoopModel", name := "sort", desc := "(II)I" } : Jvm.MethodName)) ∈ lw_all := lw_g (lw_at lw_m9 54 rfl) rfl
theorem q2060 : (Jvm.Cond.methodLink "BottleLoopLaw" (147 : Nat) ({ cls := "BottleLoopModel", name := "swap", desc := "(III)I" } : Jvm.MethodName)) ∈ lw_all := lw_g (lw_at lw_m9 62 rfl) rfl
theorem q2064 : (Jvm.Cond.methodLink "BottleLoopLaw" (150 : Nat) ({ cls := "BottleLoopModel", name := "append", desc := "(I)I" } : Jvm.MethodName)) ∈ lw_all := lw_g (lw_at lw_m9 66 rfl) rfl
theorem q2068 : (Jvm.Cond.methodLink "BottleLoopLaw" (154 : Nat) ({ cls := "BottleLoopModel", name := "clearBuffer", desc := "()I" } : Jvm.MethodName)) ∈ lw_all := lw_g (lw_at lw_m9 70 rfl) rfl
theorem q2072 : (Jvm.Cond.methodLink "BottleLoopLaw" (158 : Nat) ({ cls := "BottleLoopModel", name := "firstError", desc := "()I" } : Jvm.MethodName)) ∈ lw_all := lw_g (lw_at lw_m9 74 rfl) rfl
theorem q2096 : (Jvm.Cond.methodLink "BottleLoopLaw" (162 : Nat) ({ cls := "BottleLoopModel", name := "run", desc := "()I" } : Jvm.MethodName)) ∈ lw_all := lw_g (lw_at lw_m9 98 rfl) rfl
theorem q2108 : (Jvm.Cond.methodLink "BottleLoopLaw" (165 : Nat) ({ cls := "BottleLoopModel", name := "undo", desc := "()I" } : Jvm.MethodName)) ∈ lw_all := lw_g (lw_at lw_m9 110 rfl) rfl
theorem q2112 : (Jvm.Cond.methodLink "BottleLoopLaw" (168 : Nat) ({ cls := "BottleLoopModel", name := "brand", desc := "(II)I" } : Jvm.MethodName)) ∈ lw_all := lw_g (lw_at lw_m9 114 rfl) rfl
theorem q2124 : (Jvm.Cond.methodLink "BottleLoopLaw" (171 : Nat) ({ cls := "BottleLoopModel", name := "shop", desc := "(II)I" } : Jvm.MethodName)) ∈ lw_all := lw_g (lw_at lw_m9 126 rfl) rfl
theorem q2136 : (Jvm.Cond.methodLink "BottleLoopLaw" (174 : Nat) ({ cls := "BottleLoopModel", name := "count", desc := "(I)I" } : Jvm.MethodName)) ∈ lw_all := lw_g (lw_at lw_m9 138 rfl) rfl
theorem q2144 : (Jvm.Cond.methodLink "BottleLoopLaw" (177 : Nat) ({ cls := "BottleLoopModel", name := "setting", desc := "(I)I" } : Jvm.MethodName)) ∈ lw_all := lw_g (lw_at lw_m9 146 rfl) rfl
theorem q2148 : (Jvm.Cond.methodLink "BottleLoopLaw" (180 : Nat) ({ cls := "BottleLoopModel", name := "whyNotDeliver", desc := "(III)I" } : Jvm.MethodName)) ∈ lw_all := lw_g (lw_at lw_m9 150 rfl) rfl
theorem q2152 : (Jvm.Cond.methodLink "BottleLoopLaw" (183 : Nat) ({ cls := "BottleLoopModel", name := "whyNotCollect", desc := "(III)I" } : Jvm.MethodName)) ∈ lw_all := lw_g (lw_at lw_m9 154 rfl) rfl
theorem q2156 : (Jvm.Cond.methodLink "BottleLoopLaw" (186 : Nat) ({ cls := "BottleLoopModel", name := "mostCrates", desc := "(II)I" } : Jvm.MethodName)) ∈ lw_all := lw_g (lw_at lw_m9 158 rfl) rfl
theorem q2164 : (Jvm.Cond.methodLink "BottleLoopLaw" (189 : Nat) ({ cls := "BottleLoopModel", name := "collected", desc := "(III)I" } : Jvm.MethodName)) ∈ lw_all := lw_g (lw_at lw_m9 166 rfl) rfl
theorem q2172 : (Jvm.Cond.methodLink "BottleLoopLaw" (192 : Nat) ({ cls := "BottleLoopModel", name := "filled", desc := "(II)I" } : Jvm.MethodName)) ∈ lw_all := lw_g (lw_at lw_m9 174 rfl) rfl
theorem q2176 : (Jvm.Cond.methodLink "BottleLoopLaw" (195 : Nat) ({ cls := "BottleLoopModel", name := "bestShop", desc := "(I)I" } : Jvm.MethodName)) ∈ lw_all := lw_g (lw_at lw_m9 178 rfl) rfl
theorem q2184 : (Jvm.Cond.methodLink "BottleLoopLaw" (200 : Nat) ({ cls := "BottleLoopModel", name := "goneShare", desc := "()D" } : Jvm.MethodName)) ∈ lw_all := lw_g (lw_at lw_m9 186 rfl) rfl
theorem q2192 : (Jvm.Cond.methodLink "BottleLoopLaw" (205 : Nat) ({ cls := "BottleLoopModel", name := "digest", desc := "()J" } : Jvm.MethodName)) ∈ lw_all := lw_g (lw_at lw_m9 194 rfl) rfl
/-! the law's own entry -/
set_option maxRecDepth 100000
abbrev cL_law : ByteArray := code
def dkwL_law_82 : List UInt8 := [167, 248, 59, 4, 172]
abbrev dktL_law_82 : List UInt8 := dkwL_law_82 ++ []
def dkwL_law_81 : List UInt8 := [3, 172, 167, 0, 17, 43, 182, 0, 201, 44, 182, 0, 205, 148, 153, 0, 5, 3, 172, 132, 4, 4]
abbrev dktL_law_81 : List UInt8 := dkwL_law_81 ++ dktL_law_82
def dkwL_law_80 : List UInt8 := [24, 5, 24, 7, 151, 153, 0, 21, 24, 5, 24, 5, 151, 153, 0, 11, 24, 7, 24, 7, 151, 154, 0, 5]
abbrev dktL_law_80 : List UInt8 := dkwL_law_80 ++ dktL_law_81
def dkwL_law_79 : List UInt8 := [21, 6, 133, 148, 153, 0, 5, 3, 172, 167, 0, 58, 43, 182, 0, 196, 57, 5, 44, 182, 0, 200, 57, 7]
abbrev dktL_law_79 : List UInt8 := dkwL_law_79 ++ dktL_law_80
def dkwL_law_78 : List UInt8 := [182, 0, 195, 54, 6, 44, 182, 0, 107, 21, 5, 159, 0, 5, 3, 172, 21, 5, 154, 0, 15, 45, 3, 47]
abbrev dktL_law_78 : List UInt8 := dkwL_law_78 ++ dktL_law_79
def dkwL_law_77 : List UInt8 := [167, 0, 114, 43, 42, 21, 4, 4, 96, 46, 45, 184, 0, 193, 54, 5, 44, 42, 21, 4, 4, 96, 46]
abbrev dktL_law_77 : List UInt8 := dkwL_law_77 ++ dktL_law_78
def dkwL_law_76 : List UInt8 := [159, 0, 5, 3, 172, 21, 5, 154, 0, 15, 45, 3, 47, 21, 6, 133, 148, 153, 0, 5, 3, 172]
abbrev dktL_law_76 : List UInt8 := dkwL_law_76 ++ dktL_law_77
def dkwL_law_75 : List UInt8 := [21, 4, 4, 96, 46, 42, 21, 4, 5, 96, 46, 182, 0, 192, 54, 6, 44, 182, 0, 107, 21, 5]
abbrev dktL_law_75 : List UInt8 := dkwL_law_75 ++ dktL_law_76
def dkwL_law_74 : List UInt8 := [167, 0, 182, 43, 42, 21, 4, 4, 96, 46, 42, 21, 4, 5, 96, 46, 45, 184, 0, 190, 54, 5, 44, 42]
abbrev dktL_law_74 : List UInt8 := dkwL_law_74 ++ dktL_law_75
def dkwL_law_73 : List UInt8 := [159, 0, 5, 3, 172, 21, 5, 154, 0, 15, 45, 3, 47, 21, 6, 133, 148, 153, 0, 5, 3, 172]
abbrev dktL_law_73 : List UInt8 := dkwL_law_73 ++ dktL_law_74
def dkwL_law_72 : List UInt8 := [21, 4, 5, 96, 46, 42, 21, 4, 6, 96, 46, 182, 0, 189, 54, 6, 44, 182, 0, 107, 21, 5]
abbrev dktL_law_72 : List UInt8 := dkwL_law_72 ++ dktL_law_73
def dkwL_law_71 : List UInt8 := [5, 96, 46, 42, 21, 4, 6, 96, 46, 45, 184, 0, 187, 54, 5, 44, 42, 21, 4, 4, 96, 46, 42]
abbrev dktL_law_71 : List UInt8 := dkwL_law_71 ++ dktL_law_72
def dkwL_law_70 : List UInt8 := [3, 47, 21, 6, 133, 148, 153, 0, 5, 3, 172, 167, 1, 6, 43, 42, 21, 4, 4, 96, 46, 42, 21, 4]
abbrev dktL_law_70 : List UInt8 := dkwL_law_70 ++ dktL_law_71
def dkwL_law_69 : List UInt8 := [96, 46, 182, 0, 186, 54, 6, 44, 182, 0, 107, 21, 5, 159, 0, 5, 3, 172, 21, 5, 154, 0, 15, 45]
abbrev dktL_law_69 : List UInt8 := dkwL_law_69 ++ dktL_law_70
def dkwL_law_68 : List UInt8 := [46, 42, 21, 4, 5, 96, 46, 45, 184, 0, 184, 54, 5, 44, 42, 21, 4, 4, 96, 46, 42, 21, 4, 5]
abbrev dktL_law_68 : List UInt8 := dkwL_law_68 ++ dktL_law_69
def dkwL_law_67 : List UInt8 := [154, 0, 15, 45, 3, 47, 21, 6, 133, 148, 153, 0, 5, 3, 172, 167, 1, 74, 43, 42, 21, 4, 4, 96]
abbrev dktL_law_67 : List UInt8 := dkwL_law_67 ++ dktL_law_68
def dkwL_law_66 : List UInt8 := [21, 4, 6, 96, 46, 182, 0, 183, 54, 6, 44, 182, 0, 107, 21, 5, 159, 0, 5, 3, 172, 21, 5]
abbrev dktL_law_66 : List UInt8 := dkwL_law_66 ++ dktL_law_67
def dkwL_law_65 : List UInt8 := [6, 96, 46, 45, 184, 0, 181, 54, 5, 44, 42, 21, 4, 4, 96, 46, 42, 21, 4, 5, 96, 46, 42]
abbrev dktL_law_65 : List UInt8 := dkwL_law_65 ++ dktL_law_66
def dkwL_law_64 : List UInt8 := [153, 0, 5, 3, 172, 167, 1, 154, 43, 42, 21, 4, 4, 96, 46, 42, 21, 4, 5, 96, 46, 42, 21, 4]
abbrev dktL_law_64 : List UInt8 := dkwL_law_64 ++ dktL_law_65
def dkwL_law_63 : List UInt8 := [182, 0, 107, 21, 5, 159, 0, 5, 3, 172, 21, 5, 154, 0, 15, 45, 3, 47, 21, 6, 133, 148]
abbrev dktL_law_63 : List UInt8 := dkwL_law_63 ++ dktL_law_64
def dkwL_law_62 : List UInt8 := [42, 21, 4, 4, 96, 46, 42, 21, 4, 5, 96, 46, 42, 21, 4, 6, 96, 46, 182, 0, 180, 54, 6, 44]
abbrev dktL_law_62 : List UInt8 := dkwL_law_62 ++ dktL_law_63
def dkwL_law_61 : List UInt8 := [21, 4, 4, 96, 46, 42, 21, 4, 5, 96, 46, 42, 21, 4, 6, 96, 46, 45, 184, 0, 178, 54, 5, 44]
abbrev dktL_law_61 : List UInt8 := dkwL_law_61 ++ dktL_law_62
def dkwL_law_60 : List UInt8 := [172, 21, 5, 154, 0, 15, 45, 3, 47, 21, 6, 133, 148, 153, 0, 5, 3, 172, 167, 1, 234, 43, 42]
abbrev dktL_law_60 : List UInt8 := dkwL_law_60 ++ dktL_law_61
def dkwL_law_59 : List UInt8 := [54, 5, 44, 42, 21, 4, 4, 96, 46, 182, 0, 177, 54, 6, 44, 182, 0, 107, 21, 5, 159, 0, 5, 3]
abbrev dktL_law_59 : List UInt8 := dkwL_law_59 ++ dktL_law_60
def dkwL_law_58 : List UInt8 := [21, 6, 133, 148, 153, 0, 5, 3, 172, 167, 2, 34, 43, 42, 21, 4, 4, 96, 46, 45, 184, 0, 175]
abbrev dktL_law_58 : List UInt8 := dkwL_law_58 ++ dktL_law_59
def dkwL_law_57 : List UInt8 := [182, 0, 174, 54, 6, 44, 182, 0, 107, 21, 5, 159, 0, 5, 3, 172, 21, 5, 154, 0, 15, 45, 3, 47]
abbrev dktL_law_57 : List UInt8 := dkwL_law_57 ++ dktL_law_58
def dkwL_law_56 : List UInt8 := [167, 2, 90, 43, 42, 21, 4, 4, 96, 46, 45, 184, 0, 172, 54, 5, 44, 42, 21, 4, 4, 96, 46]
abbrev dktL_law_56 : List UInt8 := dkwL_law_56 ++ dktL_law_57
def dkwL_law_55 : List UInt8 := [159, 0, 5, 3, 172, 21, 5, 154, 0, 15, 45, 3, 47, 21, 6, 133, 148, 153, 0, 5, 3, 172]
abbrev dktL_law_55 : List UInt8 := dkwL_law_55 ++ dktL_law_56
def dkwL_law_54 : List UInt8 := [21, 4, 4, 96, 46, 42, 21, 4, 5, 96, 46, 182, 0, 171, 54, 6, 44, 182, 0, 107, 21, 5]
abbrev dktL_law_54 : List UInt8 := dkwL_law_54 ++ dktL_law_55
def dkwL_law_53 : List UInt8 := [167, 2, 158, 43, 42, 21, 4, 4, 96, 46, 42, 21, 4, 5, 96, 46, 45, 184, 0, 169, 54, 5, 44, 42]
abbrev dktL_law_53 : List UInt8 := dkwL_law_53 ++ dktL_law_54
def dkwL_law_52 : List UInt8 := [159, 0, 5, 3, 172, 21, 5, 154, 0, 15, 45, 3, 47, 21, 6, 133, 148, 153, 0, 5, 3, 172]
abbrev dktL_law_52 : List UInt8 := dkwL_law_52 ++ dktL_law_53
def dkwL_law_51 : List UInt8 := [21, 4, 4, 96, 46, 42, 21, 4, 5, 96, 46, 182, 0, 168, 54, 6, 44, 182, 0, 107, 21, 5]
abbrev dktL_law_51 : List UInt8 := dkwL_law_51 ++ dktL_law_52
def dkwL_law_50 : List UInt8 := [167, 2, 226, 43, 42, 21, 4, 4, 96, 46, 42, 21, 4, 5, 96, 46, 45, 184, 0, 166, 54, 5, 44, 42]
abbrev dktL_law_50 : List UInt8 := dkwL_law_50 ++ dktL_law_51
def dkwL_law_49 : List UInt8 := [159, 0, 5, 3, 172, 21, 5, 154, 0, 15, 45, 3, 47, 21, 6, 133, 148, 153, 0, 5, 3, 172]
abbrev dktL_law_49 : List UInt8 := dkwL_law_49 ++ dktL_law_50
def dkwL_law_48 : List UInt8 := [167, 3, 14, 43, 45, 184, 0, 163, 54, 5, 44, 182, 0, 165, 54, 6, 44, 182, 0, 107, 21, 5]
abbrev dktL_law_48 : List UInt8 := dkwL_law_48 ++ dktL_law_49
def dkwL_law_47 : List UInt8 := [159, 0, 5, 3, 172, 21, 5, 154, 0, 15, 45, 3, 47, 21, 6, 133, 148, 153, 0, 5, 3, 172]
abbrev dktL_law_47 : List UInt8 := dkwL_law_47 ++ dktL_law_48
def dkwL_law_46 : List UInt8 := [159, 3, 60, 3, 172, 43, 45, 184, 0, 159, 54, 5, 44, 182, 0, 162, 54, 6, 44, 182, 0, 107, 21, 5]
abbrev dktL_law_46 : List UInt8 := dkwL_law_46 ++ dktL_law_47
def dkwL_law_45 : List UInt8 := [167, 3, 84, 43, 182, 0, 151, 44, 182, 0, 154, 159, 3, 73, 3, 172, 43, 182, 0, 155, 44, 182, 0, 158]
abbrev dktL_law_45 : List UInt8 := dkwL_law_45 ++ dktL_law_46
def dkwL_law_44 : List UInt8 := [21, 5, 159, 0, 5, 3, 172, 21, 5, 154, 0, 15, 45, 3, 47, 21, 6, 133, 148, 153, 0, 5, 3, 172]
abbrev dktL_law_44 : List UInt8 := dkwL_law_44 ++ dktL_law_45
def dkwL_law_43 : List UInt8 := [46, 45, 184, 0, 148, 54, 5, 44, 42, 21, 4, 4, 96, 46, 182, 0, 150, 54, 6, 44, 182, 0, 107]
abbrev dktL_law_43 : List UInt8 := dkwL_law_43 ++ dktL_law_44
def dkwL_law_42 : List UInt8 := [154, 0, 15, 45, 3, 47, 21, 6, 133, 148, 153, 0, 5, 3, 172, 167, 3, 140, 43, 42, 21, 4, 4, 96]
abbrev dktL_law_42 : List UInt8 := dkwL_law_42 ++ dktL_law_43
def dkwL_law_41 : List UInt8 := [42, 21, 4, 6, 96, 46, 182, 0, 147, 54, 6, 44, 182, 0, 107, 21, 5, 159, 0, 5, 3, 172, 21, 5]
abbrev dktL_law_41 : List UInt8 := dkwL_law_41 ++ dktL_law_42
def dkwL_law_40 : List UInt8 := [21, 4, 6, 96, 46, 45, 184, 0, 145, 54, 5, 44, 42, 21, 4, 4, 96, 46, 42, 21, 4, 5, 96, 46]
abbrev dktL_law_40 : List UInt8 := dkwL_law_40 ++ dktL_law_41
def dkwL_law_39 : List UInt8 := [148, 153, 0, 5, 3, 172, 167, 3, 220, 43, 42, 21, 4, 4, 96, 46, 42, 21, 4, 5, 96, 46, 42]
abbrev dktL_law_39 : List UInt8 := dkwL_law_39 ++ dktL_law_40
def dkwL_law_38 : List UInt8 := [54, 6, 44, 182, 0, 107, 21, 5, 159, 0, 5, 3, 172, 21, 5, 154, 0, 15, 45, 3, 47, 21, 6, 133]
abbrev dktL_law_38 : List UInt8 := dkwL_law_38 ++ dktL_law_39
def dkwL_law_37 : List UInt8 := [46, 45, 184, 0, 142, 54, 5, 44, 42, 21, 4, 4, 96, 46, 42, 21, 4, 5, 96, 46, 182, 0, 144]
abbrev dktL_law_37 : List UInt8 := dkwL_law_37 ++ dktL_law_38
def dkwL_law_36 : List UInt8 := [21, 6, 133, 148, 153, 0, 5, 3, 172, 167, 4, 32, 43, 42, 21, 4, 4, 96, 46, 42, 21, 4, 5, 96]
abbrev dktL_law_36 : List UInt8 := dkwL_law_36 ++ dktL_law_37
def dkwL_law_35 : List UInt8 := [182, 0, 141, 54, 6, 44, 182, 0, 107, 21, 5, 159, 0, 5, 3, 172, 21, 5, 154, 0, 15, 45, 3, 47]
abbrev dktL_law_35 : List UInt8 := dkwL_law_35 ++ dktL_law_36
def dkwL_law_34 : List UInt8 := [184, 0, 139, 54, 5, 44, 42, 21, 4, 4, 96, 46, 42, 21, 4, 5, 96, 46, 42, 21, 4, 6, 96, 46]
abbrev dktL_law_34 : List UInt8 := dkwL_law_34 ++ dktL_law_35
def dkwL_law_33 : List UInt8 := [167, 4, 112, 43, 42, 21, 4, 4, 96, 46, 42, 21, 4, 5, 96, 46, 42, 21, 4, 6, 96, 46, 45]
abbrev dktL_law_33 : List UInt8 := dkwL_law_33 ++ dktL_law_34
def dkwL_law_32 : List UInt8 := [159, 0, 5, 3, 172, 21, 5, 154, 0, 15, 45, 3, 47, 21, 6, 133, 148, 153, 0, 5, 3, 172]
abbrev dktL_law_32 : List UInt8 := dkwL_law_32 ++ dktL_law_33
def dkwL_law_31 : List UInt8 := [21, 4, 4, 96, 46, 42, 21, 4, 5, 96, 46, 182, 0, 138, 54, 6, 44, 182, 0, 107, 21, 5]
abbrev dktL_law_31 : List UInt8 := dkwL_law_31 ++ dktL_law_32
def dkwL_law_30 : List UInt8 := [167, 4, 180, 43, 42, 21, 4, 4, 96, 46, 42, 21, 4, 5, 96, 46, 45, 184, 0, 136, 54, 5, 44, 42]
abbrev dktL_law_30 : List UInt8 := dkwL_law_30 ++ dktL_law_31
def dkwL_law_29 : List UInt8 := [21, 5, 159, 0, 5, 3, 172, 21, 5, 154, 0, 15, 45, 3, 47, 21, 6, 133, 148, 153, 0, 5, 3, 172]
abbrev dktL_law_29 : List UInt8 := dkwL_law_29 ++ dktL_law_30
def dkwL_law_28 : List UInt8 := [96, 46, 42, 21, 4, 5, 96, 46, 42, 21, 4, 6, 96, 46, 182, 0, 135, 54, 6, 44, 182, 0, 107]
abbrev dktL_law_28 : List UInt8 := dkwL_law_28 ++ dktL_law_29
def dkwL_law_27 : List UInt8 := [46, 42, 21, 4, 5, 96, 46, 42, 21, 4, 6, 96, 46, 45, 184, 0, 133, 54, 5, 44, 42, 21, 4, 4]
abbrev dktL_law_27 : List UInt8 := dkwL_law_27 ++ dktL_law_28
def dkwL_law_26 : List UInt8 := [154, 0, 15, 45, 3, 47, 21, 6, 133, 148, 153, 0, 5, 3, 172, 167, 5, 4, 43, 42, 21, 4, 4, 96]
abbrev dktL_law_26 : List UInt8 := dkwL_law_26 ++ dktL_law_27
def dkwL_law_25 : List UInt8 := [21, 4, 6, 96, 46, 182, 0, 132, 54, 6, 44, 182, 0, 107, 21, 5, 159, 0, 5, 3, 172, 21, 5]
abbrev dktL_law_25 : List UInt8 := dkwL_law_25 ++ dktL_law_26
def dkwL_law_24 : List UInt8 := [6, 96, 46, 45, 184, 0, 130, 54, 5, 44, 42, 21, 4, 4, 96, 46, 42, 21, 4, 5, 96, 46, 42]
abbrev dktL_law_24 : List UInt8 := dkwL_law_24 ++ dktL_law_25
def dkwL_law_23 : List UInt8 := [153, 0, 5, 3, 172, 167, 5, 84, 43, 42, 21, 4, 4, 96, 46, 42, 21, 4, 5, 96, 46, 42, 21, 4]
abbrev dktL_law_23 : List UInt8 := dkwL_law_23 ++ dktL_law_24
def dkwL_law_22 : List UInt8 := [182, 0, 107, 21, 5, 159, 0, 5, 3, 172, 21, 5, 154, 0, 15, 45, 3, 47, 21, 6, 133, 148]
abbrev dktL_law_22 : List UInt8 := dkwL_law_22 ++ dktL_law_23
def dkwL_law_21 : List UInt8 := [21, 4, 4, 96, 46, 42, 21, 4, 5, 96, 46, 42, 21, 4, 6, 96, 46, 182, 0, 129, 54, 6, 44]
abbrev dktL_law_21 : List UInt8 := dkwL_law_21 ++ dktL_law_22
def dkwL_law_20 : List UInt8 := [4, 96, 46, 42, 21, 4, 5, 96, 46, 42, 21, 4, 6, 96, 46, 45, 184, 0, 127, 54, 5, 44, 42]
abbrev dktL_law_20 : List UInt8 := dkwL_law_20 ++ dktL_law_21
def dkwL_law_19 : List UInt8 := [21, 5, 154, 0, 15, 45, 3, 47, 21, 6, 133, 148, 153, 0, 5, 3, 172, 167, 5, 164, 43, 42, 21, 4]
abbrev dktL_law_19 : List UInt8 := dkwL_law_19 ++ dktL_law_20
def dkwL_law_18 : List UInt8 := [96, 46, 42, 21, 4, 6, 96, 46, 182, 0, 126, 54, 6, 44, 182, 0, 107, 21, 5, 159, 0, 5, 3, 172]
abbrev dktL_law_18 : List UInt8 := dkwL_law_18 ++ dktL_law_19
def dkwL_law_17 : List UInt8 := [46, 42, 21, 4, 6, 96, 46, 45, 184, 0, 123, 54, 5, 44, 42, 21, 4, 4, 96, 46, 42, 21, 4, 5]
abbrev dktL_law_17 : List UInt8 := dkwL_law_17 ++ dktL_law_18
def dkwL_law_16 : List UInt8 := [21, 6, 133, 148, 153, 0, 5, 3, 172, 167, 5, 244, 43, 42, 21, 4, 4, 96, 46, 42, 21, 4, 5, 96]
abbrev dktL_law_16 : List UInt8 := dkwL_law_16 ++ dktL_law_17
def dkwL_law_15 : List UInt8 := [182, 0, 122, 54, 6, 44, 182, 0, 107, 21, 5, 159, 0, 5, 3, 172, 21, 5, 154, 0, 15, 45, 3, 47]
abbrev dktL_law_15 : List UInt8 := dkwL_law_15 ++ dktL_law_16
def dkwL_law_14 : List UInt8 := [5, 96, 46, 45, 184, 0, 120, 54, 5, 44, 42, 21, 4, 4, 96, 46, 42, 21, 4, 5, 96, 46]
abbrev dktL_law_14 : List UInt8 := dkwL_law_14 ++ dktL_law_15
def dkwL_law_13 : List UInt8 := [3, 47, 21, 6, 133, 148, 153, 0, 5, 3, 172, 167, 6, 56, 43, 42, 21, 4, 4, 96, 46, 42, 21, 4]
abbrev dktL_law_13 : List UInt8 := dkwL_law_13 ++ dktL_law_14
def dkwL_law_12 : List UInt8 := [96, 46, 182, 0, 119, 54, 6, 44, 182, 0, 107, 21, 5, 159, 0, 5, 3, 172, 21, 5, 154, 0, 15, 45]
abbrev dktL_law_12 : List UInt8 := dkwL_law_12 ++ dktL_law_13
def dkwL_law_11 : List UInt8 := [46, 42, 21, 4, 5, 96, 46, 45, 184, 0, 117, 54, 5, 44, 42, 21, 4, 4, 96, 46, 42, 21, 4, 5]
abbrev dktL_law_11 : List UInt8 := dkwL_law_11 ++ dktL_law_12
def dkwL_law_10 : List UInt8 := [154, 0, 15, 45, 3, 47, 21, 6, 133, 148, 153, 0, 5, 3, 172, 167, 6, 124, 43, 42, 21, 4, 4, 96]
abbrev dktL_law_10 : List UInt8 := dkwL_law_10 ++ dktL_law_11
def dkwL_law_9 : List UInt8 := [21, 4, 4, 96, 46, 182, 0, 116, 54, 6, 44, 182, 0, 107, 21, 5, 159, 0, 5, 3, 172, 21, 5]
abbrev dktL_law_9 : List UInt8 := dkwL_law_9 ++ dktL_law_10
def dkwL_law_8 : List UInt8 := [153, 0, 5, 3, 172, 167, 6, 180, 43, 42, 21, 4, 4, 96, 46, 45, 184, 0, 114, 54, 5, 44, 42]
abbrev dktL_law_8 : List UInt8 := dkwL_law_8 ++ dktL_law_9
def dkwL_law_7 : List UInt8 := [182, 0, 107, 21, 5, 159, 0, 5, 3, 172, 21, 5, 154, 0, 15, 45, 3, 47, 21, 6, 133, 148]
abbrev dktL_law_7 : List UInt8 := dkwL_law_7 ++ dktL_law_8
def dkwL_law_6 : List UInt8 := [4, 96, 46, 45, 184, 0, 110, 54, 5, 44, 42, 21, 4, 4, 96, 46, 182, 0, 113, 54, 6, 44]
abbrev dktL_law_6 : List UInt8 := dkwL_law_6 ++ dktL_law_7
def dkwL_law_5 : List UInt8 := [21, 5, 154, 0, 15, 45, 3, 47, 21, 6, 133, 148, 153, 0, 5, 3, 172, 167, 6, 236, 43, 42, 21, 4]
abbrev dktL_law_5 : List UInt8 := dkwL_law_5 ++ dktL_law_6
def dkwL_law_4 : List UInt8 := [96, 46, 42, 21, 4, 5, 96, 46, 182, 0, 106, 54, 6, 44, 182, 0, 107, 21, 5, 159, 0, 5, 3, 172]
abbrev dktL_law_4 : List UInt8 := dkwL_law_4 ++ dktL_law_5
def dkwL_law_3 : List UInt8 := [43, 42, 21, 4, 4, 96, 46, 42, 21, 4, 5, 96, 46, 45, 184, 0, 101, 54, 5, 44, 42, 21, 4, 4]
abbrev dktL_law_3 : List UInt8 := dkwL_law_3 ++ dktL_law_4
def dkwL_law_2 : List UInt8 := [170, 0, 0, 7, 178, 0, 0, 0, 0, 0, 0, 0, 29, 0, 0, 0, 133, 0, 0, 0, 201, 0, 0, 1, 1, 0, 0, 1, 57, 0, 0, 1, 125, 0, 0, 1, 193, 0, 0, 2, 17, 0, 0, 2, 97, 0, 0, 2, 177, 0, 0, 3, 1, 0, 0, 3, 69, 0, 0, 3, 149, 0, 0, 3, 217, 0, 0, 4, 41, 0, 0, 4, 97, 0, 0, 4, 110, 0, 0, 4, 123, 0, 0, 4, 167, 0, 0, 4, 211, 0, 0, 5, 23, 0, 0, 5, 91, 0, 0, 5, 147, 0, 0, 5, 203, 0, 0, 6, 27, 0, 0, 6, 107, 0, 0, 6, 175, 0, 0, 6, 255, 0, 0, 7, 67, 0, 0, 7, 123, 0, 0, 7, 164]
abbrev dktL_law_2 : List UInt8 := dkwL_law_2 ++ dktL_law_3
def dkwL_law_1 : List UInt8 := [21, 4, 42, 190, 7, 100, 163, 7, 194, 42, 21, 4, 46, 16, 31, 126]
abbrev dktL_law_1 : List UInt8 := dkwL_law_1 ++ dktL_law_2
def dkwL_law_0 : List UInt8 := [187, 0, 8, 89, 183, 0, 97, 76, 187, 0, 98, 89, 183, 0, 100, 77, 4, 188, 11, 78, 3, 54, 4]
abbrev dktL_law_0 : List UInt8 := dkwL_law_0 ++ dktL_law_1
theorem dksL_law_0 : cL_law.data.toList.drop 0 = dktL_law_0 := by decide +kernel
theorem dksL_law_1 : cL_law.data.toList.drop 23 = dktL_law_1 := dk_seg dksL_law_0 23 rfl rfl
theorem dksL_law_2 : cL_law.data.toList.drop 39 = dktL_law_2 := dk_seg dksL_law_1 16 rfl rfl
theorem dksL_law_3 : cL_law.data.toList.drop 172 = dktL_law_3 := dk_seg dksL_law_2 133 rfl rfl
theorem dksL_law_4 : cL_law.data.toList.drop 196 = dktL_law_4 := dk_seg dksL_law_3 24 rfl rfl
theorem dksL_law_5 : cL_law.data.toList.drop 220 = dktL_law_5 := dk_seg dksL_law_4 24 rfl rfl
theorem dksL_law_6 : cL_law.data.toList.drop 244 = dktL_law_6 := dk_seg dksL_law_5 24 rfl rfl
theorem dksL_law_7 : cL_law.data.toList.drop 266 = dktL_law_7 := dk_seg dksL_law_6 22 rfl rfl
theorem dksL_law_8 : cL_law.data.toList.drop 288 = dktL_law_8 := dk_seg dksL_law_7 22 rfl rfl
theorem dksL_law_9 : cL_law.data.toList.drop 311 = dktL_law_9 := dk_seg dksL_law_8 23 rfl rfl
theorem dksL_law_10 : cL_law.data.toList.drop 334 = dktL_law_10 := dk_seg dksL_law_9 23 rfl rfl
theorem dksL_law_11 : cL_law.data.toList.drop 358 = dktL_law_11 := dk_seg dksL_law_10 24 rfl rfl
theorem dksL_law_12 : cL_law.data.toList.drop 382 = dktL_law_12 := dk_seg dksL_law_11 24 rfl rfl
theorem dksL_law_13 : cL_law.data.toList.drop 406 = dktL_law_13 := dk_seg dksL_law_12 24 rfl rfl
theorem dksL_law_14 : cL_law.data.toList.drop 430 = dktL_law_14 := dk_seg dksL_law_13 24 rfl rfl
theorem dksL_law_15 : cL_law.data.toList.drop 452 = dktL_law_15 := dk_seg dksL_law_14 22 rfl rfl
theorem dksL_law_16 : cL_law.data.toList.drop 476 = dktL_law_16 := dk_seg dksL_law_15 24 rfl rfl
theorem dksL_law_17 : cL_law.data.toList.drop 500 = dktL_law_17 := dk_seg dksL_law_16 24 rfl rfl
theorem dksL_law_18 : cL_law.data.toList.drop 524 = dktL_law_18 := dk_seg dksL_law_17 24 rfl rfl
theorem dksL_law_19 : cL_law.data.toList.drop 548 = dktL_law_19 := dk_seg dksL_law_18 24 rfl rfl
theorem dksL_law_20 : cL_law.data.toList.drop 572 = dktL_law_20 := dk_seg dksL_law_19 24 rfl rfl
theorem dksL_law_21 : cL_law.data.toList.drop 595 = dktL_law_21 := dk_seg dksL_law_20 23 rfl rfl
theorem dksL_law_22 : cL_law.data.toList.drop 618 = dktL_law_22 := dk_seg dksL_law_21 23 rfl rfl
theorem dksL_law_23 : cL_law.data.toList.drop 640 = dktL_law_23 := dk_seg dksL_law_22 22 rfl rfl
theorem dksL_law_24 : cL_law.data.toList.drop 664 = dktL_law_24 := dk_seg dksL_law_23 24 rfl rfl
theorem dksL_law_25 : cL_law.data.toList.drop 687 = dktL_law_25 := dk_seg dksL_law_24 23 rfl rfl
theorem dksL_law_26 : cL_law.data.toList.drop 710 = dktL_law_26 := dk_seg dksL_law_25 23 rfl rfl
theorem dksL_law_27 : cL_law.data.toList.drop 734 = dktL_law_27 := dk_seg dksL_law_26 24 rfl rfl
theorem dksL_law_28 : cL_law.data.toList.drop 758 = dktL_law_28 := dk_seg dksL_law_27 24 rfl rfl
theorem dksL_law_29 : cL_law.data.toList.drop 781 = dktL_law_29 := dk_seg dksL_law_28 23 rfl rfl
theorem dksL_law_30 : cL_law.data.toList.drop 805 = dktL_law_30 := dk_seg dksL_law_29 24 rfl rfl
theorem dksL_law_31 : cL_law.data.toList.drop 829 = dktL_law_31 := dk_seg dksL_law_30 24 rfl rfl
theorem dksL_law_32 : cL_law.data.toList.drop 851 = dktL_law_32 := dk_seg dksL_law_31 22 rfl rfl
theorem dksL_law_33 : cL_law.data.toList.drop 873 = dktL_law_33 := dk_seg dksL_law_32 22 rfl rfl
theorem dksL_law_34 : cL_law.data.toList.drop 896 = dktL_law_34 := dk_seg dksL_law_33 23 rfl rfl
theorem dksL_law_35 : cL_law.data.toList.drop 920 = dktL_law_35 := dk_seg dksL_law_34 24 rfl rfl
theorem dksL_law_36 : cL_law.data.toList.drop 944 = dktL_law_36 := dk_seg dksL_law_35 24 rfl rfl
theorem dksL_law_37 : cL_law.data.toList.drop 968 = dktL_law_37 := dk_seg dksL_law_36 24 rfl rfl
theorem dksL_law_38 : cL_law.data.toList.drop 991 = dktL_law_38 := dk_seg dksL_law_37 23 rfl rfl
theorem dksL_law_39 : cL_law.data.toList.drop 1015 = dktL_law_39 := dk_seg dksL_law_38 24 rfl rfl
theorem dksL_law_40 : cL_law.data.toList.drop 1038 = dktL_law_40 := dk_seg dksL_law_39 23 rfl rfl
theorem dksL_law_41 : cL_law.data.toList.drop 1062 = dktL_law_41 := dk_seg dksL_law_40 24 rfl rfl
theorem dksL_law_42 : cL_law.data.toList.drop 1086 = dktL_law_42 := dk_seg dksL_law_41 24 rfl rfl
theorem dksL_law_43 : cL_law.data.toList.drop 1110 = dktL_law_43 := dk_seg dksL_law_42 24 rfl rfl
theorem dksL_law_44 : cL_law.data.toList.drop 1133 = dktL_law_44 := dk_seg dksL_law_43 23 rfl rfl
theorem dksL_law_45 : cL_law.data.toList.drop 1157 = dktL_law_45 := dk_seg dksL_law_44 24 rfl rfl
theorem dksL_law_46 : cL_law.data.toList.drop 1181 = dktL_law_46 := dk_seg dksL_law_45 24 rfl rfl
theorem dksL_law_47 : cL_law.data.toList.drop 1205 = dktL_law_47 := dk_seg dksL_law_46 24 rfl rfl
theorem dksL_law_48 : cL_law.data.toList.drop 1227 = dktL_law_48 := dk_seg dksL_law_47 22 rfl rfl
theorem dksL_law_49 : cL_law.data.toList.drop 1249 = dktL_law_49 := dk_seg dksL_law_48 22 rfl rfl
theorem dksL_law_50 : cL_law.data.toList.drop 1271 = dktL_law_50 := dk_seg dksL_law_49 22 rfl rfl
theorem dksL_law_51 : cL_law.data.toList.drop 1295 = dktL_law_51 := dk_seg dksL_law_50 24 rfl rfl
theorem dksL_law_52 : cL_law.data.toList.drop 1317 = dktL_law_52 := dk_seg dksL_law_51 22 rfl rfl
theorem dksL_law_53 : cL_law.data.toList.drop 1339 = dktL_law_53 := dk_seg dksL_law_52 22 rfl rfl
theorem dksL_law_54 : cL_law.data.toList.drop 1363 = dktL_law_54 := dk_seg dksL_law_53 24 rfl rfl
theorem dksL_law_55 : cL_law.data.toList.drop 1385 = dktL_law_55 := dk_seg dksL_law_54 22 rfl rfl
theorem dksL_law_56 : cL_law.data.toList.drop 1407 = dktL_law_56 := dk_seg dksL_law_55 22 rfl rfl
theorem dksL_law_57 : cL_law.data.toList.drop 1430 = dktL_law_57 := dk_seg dksL_law_56 23 rfl rfl
theorem dksL_law_58 : cL_law.data.toList.drop 1454 = dktL_law_58 := dk_seg dksL_law_57 24 rfl rfl
theorem dksL_law_59 : cL_law.data.toList.drop 1477 = dktL_law_59 := dk_seg dksL_law_58 23 rfl rfl
theorem dksL_law_60 : cL_law.data.toList.drop 1501 = dktL_law_60 := dk_seg dksL_law_59 24 rfl rfl
theorem dksL_law_61 : cL_law.data.toList.drop 1524 = dktL_law_61 := dk_seg dksL_law_60 23 rfl rfl
theorem dksL_law_62 : cL_law.data.toList.drop 1548 = dktL_law_62 := dk_seg dksL_law_61 24 rfl rfl
theorem dksL_law_63 : cL_law.data.toList.drop 1572 = dktL_law_63 := dk_seg dksL_law_62 24 rfl rfl
theorem dksL_law_64 : cL_law.data.toList.drop 1594 = dktL_law_64 := dk_seg dksL_law_63 22 rfl rfl
theorem dksL_law_65 : cL_law.data.toList.drop 1618 = dktL_law_65 := dk_seg dksL_law_64 24 rfl rfl
theorem dksL_law_66 : cL_law.data.toList.drop 1641 = dktL_law_66 := dk_seg dksL_law_65 23 rfl rfl
theorem dksL_law_67 : cL_law.data.toList.drop 1664 = dktL_law_67 := dk_seg dksL_law_66 23 rfl rfl
theorem dksL_law_68 : cL_law.data.toList.drop 1688 = dktL_law_68 := dk_seg dksL_law_67 24 rfl rfl
theorem dksL_law_69 : cL_law.data.toList.drop 1712 = dktL_law_69 := dk_seg dksL_law_68 24 rfl rfl
theorem dksL_law_70 : cL_law.data.toList.drop 1736 = dktL_law_70 := dk_seg dksL_law_69 24 rfl rfl
theorem dksL_law_71 : cL_law.data.toList.drop 1760 = dktL_law_71 := dk_seg dksL_law_70 24 rfl rfl
theorem dksL_law_72 : cL_law.data.toList.drop 1783 = dktL_law_72 := dk_seg dksL_law_71 23 rfl rfl
theorem dksL_law_73 : cL_law.data.toList.drop 1805 = dktL_law_73 := dk_seg dksL_law_72 22 rfl rfl
theorem dksL_law_74 : cL_law.data.toList.drop 1827 = dktL_law_74 := dk_seg dksL_law_73 22 rfl rfl
theorem dksL_law_75 : cL_law.data.toList.drop 1851 = dktL_law_75 := dk_seg dksL_law_74 24 rfl rfl
theorem dksL_law_76 : cL_law.data.toList.drop 1873 = dktL_law_76 := dk_seg dksL_law_75 22 rfl rfl
theorem dksL_law_77 : cL_law.data.toList.drop 1895 = dktL_law_77 := dk_seg dksL_law_76 22 rfl rfl
theorem dksL_law_78 : cL_law.data.toList.drop 1918 = dktL_law_78 := dk_seg dksL_law_77 23 rfl rfl
theorem dksL_law_79 : cL_law.data.toList.drop 1942 = dktL_law_79 := dk_seg dksL_law_78 24 rfl rfl
theorem dksL_law_80 : cL_law.data.toList.drop 1966 = dktL_law_80 := dk_seg dksL_law_79 24 rfl rfl
theorem dksL_law_81 : cL_law.data.toList.drop 1990 = dktL_law_81 := dk_seg dksL_law_80 24 rfl rfl
theorem dksL_law_82 : cL_law.data.toList.drop 2012 = dktL_law_82 := dk_seg dksL_law_81 22 rfl rfl
theorem dL_law_0 : decode cL_law 0 = .ok (.new 8, 3) := dk_187 0 8 (dk_at dksL_law_0 0 rfl rfl)
theorem dL_law_3 : decode cL_law 3 = .ok (.dup, 1) := dk_89 (dk_at dksL_law_0 3 rfl rfl)
theorem dL_law_4 : decode cL_law 4 = .ok (.invokespecial 97, 3) := dk_183 0 97 (dk_at dksL_law_0 4 rfl rfl)
theorem dL_law_7 : decode cL_law 7 = .ok (.astore_n 1, 1) := dk_76 (dk_at dksL_law_0 7 rfl rfl)
theorem dL_law_8 : decode cL_law 8 = .ok (.new 98, 3) := dk_187 0 98 (dk_at dksL_law_0 8 rfl rfl)
theorem dL_law_11 : decode cL_law 11 = .ok (.dup, 1) := dk_89 (dk_at dksL_law_0 11 rfl rfl)
theorem dL_law_12 : decode cL_law 12 = .ok (.invokespecial 100, 3) := dk_183 0 100 (dk_at dksL_law_0 12 rfl rfl)
theorem dL_law_15 : decode cL_law 15 = .ok (.astore_n 2, 1) := dk_77 (dk_at dksL_law_0 15 rfl rfl)
theorem dL_law_16 : decode cL_law 16 = .ok (.iconst 1, 1) := dk_4 (dk_at dksL_law_0 16 rfl rfl)
theorem dL_law_17 : decode cL_law 17 = .ok (.newarray .long, 2) := dk_188_11 (dk_at dksL_law_0 17 rfl rfl)
theorem dL_law_19 : decode cL_law 19 = .ok (.astore_n 3, 1) := dk_78 (dk_at dksL_law_0 19 rfl rfl)
theorem dL_law_20 : decode cL_law 20 = .ok (.iconst 0, 1) := dk_3 (dk_at dksL_law_0 20 rfl rfl)
theorem dL_law_21 : decode cL_law 21 = .ok (.istore 4, 2) := dk_54 4 (dk_at dksL_law_0 21 rfl rfl)
theorem dL_law_23 : decode cL_law 23 = .ok (.iload 4, 2) := dk_21 4 (dk_at dksL_law_1 0 rfl rfl)
theorem dL_law_25 : decode cL_law 25 = .ok (.aload_n 0, 1) := dk_42 (dk_at dksL_law_1 2 rfl rfl)
theorem dL_law_26 : decode cL_law 26 = .ok (.arraylength, 1) := dk_190 (dk_at dksL_law_1 3 rfl rfl)
theorem dL_law_27 : decode cL_law 27 = .ok (.iconst 4, 1) := dk_7 (dk_at dksL_law_1 4 rfl rfl)
theorem dL_law_28 : decode cL_law 28 = .ok (.isub, 1) := dk_100 (dk_at dksL_law_1 5 rfl rfl)
theorem dL_law_29 : decode cL_law 29 = .ok (.if_icmp .gt 1986, 3) := dk_163 7 194 (dk_at dksL_law_1 6 rfl rfl)
theorem dL_law_32 : decode cL_law 32 = .ok (.aload_n 0, 1) := dk_42 (dk_at dksL_law_1 9 rfl rfl)
theorem dL_law_33 : decode cL_law 33 = .ok (.iload 4, 2) := dk_21 4 (dk_at dksL_law_1 10 rfl rfl)
theorem dL_law_35 : decode cL_law 35 = .ok (.iaload, 1) := dk_46 (dk_at dksL_law_1 12 rfl rfl)
theorem dL_law_36 : decode cL_law 36 = .ok (.bipush 31, 2) := dk_16 31 (dk_at dksL_law_1 13 rfl rfl)
theorem dL_law_38 : decode cL_law 38 = .ok (.iand, 1) := dk_126 (dk_at dksL_law_1 15 rfl rfl)
theorem dL_law_39 : decode cL_law 39 = .ok (.tableswitch 1970 0 29 #[133, 201, 257, 313, 381, 449, 529, 609, 689, 769, 837, 917, 985, 1065, 1121, 1134, 1147, 1191, 1235, 1303, 1371, 1427, 1483, 1563, 1643, 1711, 1791, 1859, 1915, 1956], 133) := by decide +kernel
theorem dL_law_172 : decode cL_law 172 = .ok (.aload_n 1, 1) := dk_43 (dk_at dksL_law_3 0 rfl rfl)
theorem dL_law_173 : decode cL_law 173 = .ok (.aload_n 0, 1) := dk_42 (dk_at dksL_law_3 1 rfl rfl)
theorem dL_law_174 : decode cL_law 174 = .ok (.iload 4, 2) := dk_21 4 (dk_at dksL_law_3 2 rfl rfl)
theorem dL_law_176 : decode cL_law 176 = .ok (.iconst 1, 1) := dk_4 (dk_at dksL_law_3 4 rfl rfl)
theorem dL_law_177 : decode cL_law 177 = .ok (.iadd, 1) := dk_96 (dk_at dksL_law_3 5 rfl rfl)
theorem dL_law_178 : decode cL_law 178 = .ok (.iaload, 1) := dk_46 (dk_at dksL_law_3 6 rfl rfl)
theorem dL_law_179 : decode cL_law 179 = .ok (.aload_n 0, 1) := dk_42 (dk_at dksL_law_3 7 rfl rfl)
theorem dL_law_180 : decode cL_law 180 = .ok (.iload 4, 2) := dk_21 4 (dk_at dksL_law_3 8 rfl rfl)
theorem dL_law_182 : decode cL_law 182 = .ok (.iconst 2, 1) := dk_5 (dk_at dksL_law_3 10 rfl rfl)
theorem dL_law_183 : decode cL_law 183 = .ok (.iadd, 1) := dk_96 (dk_at dksL_law_3 11 rfl rfl)
theorem dL_law_184 : decode cL_law 184 = .ok (.iaload, 1) := dk_46 (dk_at dksL_law_3 12 rfl rfl)
theorem dL_law_185 : decode cL_law 185 = .ok (.aload_n 3, 1) := dk_45 (dk_at dksL_law_3 13 rfl rfl)
theorem dL_law_186 : decode cL_law 186 = .ok (.invokestatic 101, 3) := dk_184 0 101 (dk_at dksL_law_3 14 rfl rfl)
theorem dL_law_189 : decode cL_law 189 = .ok (.istore 5, 2) := dk_54 5 (dk_at dksL_law_3 17 rfl rfl)
theorem dL_law_191 : decode cL_law 191 = .ok (.aload_n 2, 1) := dk_44 (dk_at dksL_law_3 19 rfl rfl)
theorem dL_law_192 : decode cL_law 192 = .ok (.aload_n 0, 1) := dk_42 (dk_at dksL_law_3 20 rfl rfl)
theorem dL_law_193 : decode cL_law 193 = .ok (.iload 4, 2) := dk_21 4 (dk_at dksL_law_3 21 rfl rfl)
theorem dL_law_195 : decode cL_law 195 = .ok (.iconst 1, 1) := dk_4 (dk_at dksL_law_3 23 rfl rfl)
theorem dL_law_196 : decode cL_law 196 = .ok (.iadd, 1) := dk_96 (dk_at dksL_law_4 0 rfl rfl)
theorem dL_law_197 : decode cL_law 197 = .ok (.iaload, 1) := dk_46 (dk_at dksL_law_4 1 rfl rfl)
theorem dL_law_198 : decode cL_law 198 = .ok (.aload_n 0, 1) := dk_42 (dk_at dksL_law_4 2 rfl rfl)
theorem dL_law_199 : decode cL_law 199 = .ok (.iload 4, 2) := dk_21 4 (dk_at dksL_law_4 3 rfl rfl)
theorem dL_law_201 : decode cL_law 201 = .ok (.iconst 2, 1) := dk_5 (dk_at dksL_law_4 5 rfl rfl)
theorem dL_law_202 : decode cL_law 202 = .ok (.iadd, 1) := dk_96 (dk_at dksL_law_4 6 rfl rfl)
theorem dL_law_203 : decode cL_law 203 = .ok (.iaload, 1) := dk_46 (dk_at dksL_law_4 7 rfl rfl)
theorem dL_law_204 : decode cL_law 204 = .ok (.invokevirtual 106, 3) := dk_182 0 106 (dk_at dksL_law_4 8 rfl rfl)
theorem dL_law_207 : decode cL_law 207 = .ok (.istore 6, 2) := dk_54 6 (dk_at dksL_law_4 11 rfl rfl)
theorem dL_law_209 : decode cL_law 209 = .ok (.aload_n 2, 1) := dk_44 (dk_at dksL_law_4 13 rfl rfl)
theorem dL_law_210 : decode cL_law 210 = .ok (.invokevirtual 107, 3) := dk_182 0 107 (dk_at dksL_law_4 14 rfl rfl)
theorem dL_law_213 : decode cL_law 213 = .ok (.iload 5, 2) := dk_21 5 (dk_at dksL_law_4 17 rfl rfl)
theorem dL_law_215 : decode cL_law 215 = .ok (.if_icmp .eq 5, 3) := dk_159 0 5 (dk_at dksL_law_4 19 rfl rfl)
theorem dL_law_218 : decode cL_law 218 = .ok (.iconst 0, 1) := dk_3 (dk_at dksL_law_4 22 rfl rfl)
theorem dL_law_219 : decode cL_law 219 = .ok (.ireturn, 1) := dk_172 (dk_at dksL_law_4 23 rfl rfl)
theorem dL_law_220 : decode cL_law 220 = .ok (.iload 5, 2) := dk_21 5 (dk_at dksL_law_5 0 rfl rfl)
theorem dL_law_222 : decode cL_law 222 = .ok (.ifCond .ne 15, 3) := dk_154 0 15 (dk_at dksL_law_5 2 rfl rfl)
theorem dL_law_225 : decode cL_law 225 = .ok (.aload_n 3, 1) := dk_45 (dk_at dksL_law_5 5 rfl rfl)
theorem dL_law_226 : decode cL_law 226 = .ok (.iconst 0, 1) := dk_3 (dk_at dksL_law_5 6 rfl rfl)
theorem dL_law_227 : decode cL_law 227 = .ok (.laload, 1) := dk_47 (dk_at dksL_law_5 7 rfl rfl)
theorem dL_law_228 : decode cL_law 228 = .ok (.iload 6, 2) := dk_21 6 (dk_at dksL_law_5 8 rfl rfl)
theorem dL_law_230 : decode cL_law 230 = .ok (.i2l, 1) := dk_133 (dk_at dksL_law_5 10 rfl rfl)
theorem dL_law_231 : decode cL_law 231 = .ok (.lcmp, 1) := dk_148 (dk_at dksL_law_5 11 rfl rfl)
theorem dL_law_232 : decode cL_law 232 = .ok (.ifCond .eq 5, 3) := dk_153 0 5 (dk_at dksL_law_5 12 rfl rfl)
theorem dL_law_235 : decode cL_law 235 = .ok (.iconst 0, 1) := dk_3 (dk_at dksL_law_5 15 rfl rfl)
theorem dL_law_236 : decode cL_law 236 = .ok (.ireturn, 1) := dk_172 (dk_at dksL_law_5 16 rfl rfl)
theorem dL_law_237 : decode cL_law 237 = .ok (.goto 1772, 3) := dk_167 6 236 (dk_at dksL_law_5 17 rfl rfl)
theorem dL_law_240 : decode cL_law 240 = .ok (.aload_n 1, 1) := dk_43 (dk_at dksL_law_5 20 rfl rfl)
theorem dL_law_241 : decode cL_law 241 = .ok (.aload_n 0, 1) := dk_42 (dk_at dksL_law_5 21 rfl rfl)
theorem dL_law_242 : decode cL_law 242 = .ok (.iload 4, 2) := dk_21 4 (dk_at dksL_law_5 22 rfl rfl)
theorem dL_law_244 : decode cL_law 244 = .ok (.iconst 1, 1) := dk_4 (dk_at dksL_law_6 0 rfl rfl)
theorem dL_law_245 : decode cL_law 245 = .ok (.iadd, 1) := dk_96 (dk_at dksL_law_6 1 rfl rfl)
theorem dL_law_246 : decode cL_law 246 = .ok (.iaload, 1) := dk_46 (dk_at dksL_law_6 2 rfl rfl)
theorem dL_law_247 : decode cL_law 247 = .ok (.aload_n 3, 1) := dk_45 (dk_at dksL_law_6 3 rfl rfl)
theorem dL_law_248 : decode cL_law 248 = .ok (.invokestatic 110, 3) := dk_184 0 110 (dk_at dksL_law_6 4 rfl rfl)
theorem dL_law_251 : decode cL_law 251 = .ok (.istore 5, 2) := dk_54 5 (dk_at dksL_law_6 7 rfl rfl)
theorem dL_law_253 : decode cL_law 253 = .ok (.aload_n 2, 1) := dk_44 (dk_at dksL_law_6 9 rfl rfl)
theorem dL_law_254 : decode cL_law 254 = .ok (.aload_n 0, 1) := dk_42 (dk_at dksL_law_6 10 rfl rfl)
theorem dL_law_255 : decode cL_law 255 = .ok (.iload 4, 2) := dk_21 4 (dk_at dksL_law_6 11 rfl rfl)
theorem dL_law_257 : decode cL_law 257 = .ok (.iconst 1, 1) := dk_4 (dk_at dksL_law_6 13 rfl rfl)
theorem dL_law_258 : decode cL_law 258 = .ok (.iadd, 1) := dk_96 (dk_at dksL_law_6 14 rfl rfl)
theorem dL_law_259 : decode cL_law 259 = .ok (.iaload, 1) := dk_46 (dk_at dksL_law_6 15 rfl rfl)
theorem dL_law_260 : decode cL_law 260 = .ok (.invokevirtual 113, 3) := dk_182 0 113 (dk_at dksL_law_6 16 rfl rfl)
theorem dL_law_263 : decode cL_law 263 = .ok (.istore 6, 2) := dk_54 6 (dk_at dksL_law_6 19 rfl rfl)
theorem dL_law_265 : decode cL_law 265 = .ok (.aload_n 2, 1) := dk_44 (dk_at dksL_law_6 21 rfl rfl)
theorem dL_law_266 : decode cL_law 266 = .ok (.invokevirtual 107, 3) := dk_182 0 107 (dk_at dksL_law_7 0 rfl rfl)
theorem dL_law_269 : decode cL_law 269 = .ok (.iload 5, 2) := dk_21 5 (dk_at dksL_law_7 3 rfl rfl)
theorem dL_law_271 : decode cL_law 271 = .ok (.if_icmp .eq 5, 3) := dk_159 0 5 (dk_at dksL_law_7 5 rfl rfl)
theorem dL_law_274 : decode cL_law 274 = .ok (.iconst 0, 1) := dk_3 (dk_at dksL_law_7 8 rfl rfl)
theorem dL_law_275 : decode cL_law 275 = .ok (.ireturn, 1) := dk_172 (dk_at dksL_law_7 9 rfl rfl)
theorem dL_law_276 : decode cL_law 276 = .ok (.iload 5, 2) := dk_21 5 (dk_at dksL_law_7 10 rfl rfl)
theorem dL_law_278 : decode cL_law 278 = .ok (.ifCond .ne 15, 3) := dk_154 0 15 (dk_at dksL_law_7 12 rfl rfl)
theorem dL_law_281 : decode cL_law 281 = .ok (.aload_n 3, 1) := dk_45 (dk_at dksL_law_7 15 rfl rfl)
theorem dL_law_282 : decode cL_law 282 = .ok (.iconst 0, 1) := dk_3 (dk_at dksL_law_7 16 rfl rfl)
theorem dL_law_283 : decode cL_law 283 = .ok (.laload, 1) := dk_47 (dk_at dksL_law_7 17 rfl rfl)
theorem dL_law_284 : decode cL_law 284 = .ok (.iload 6, 2) := dk_21 6 (dk_at dksL_law_7 18 rfl rfl)
theorem dL_law_286 : decode cL_law 286 = .ok (.i2l, 1) := dk_133 (dk_at dksL_law_7 20 rfl rfl)
theorem dL_law_287 : decode cL_law 287 = .ok (.lcmp, 1) := dk_148 (dk_at dksL_law_7 21 rfl rfl)
theorem dL_law_288 : decode cL_law 288 = .ok (.ifCond .eq 5, 3) := dk_153 0 5 (dk_at dksL_law_8 0 rfl rfl)
theorem dL_law_291 : decode cL_law 291 = .ok (.iconst 0, 1) := dk_3 (dk_at dksL_law_8 3 rfl rfl)
theorem dL_law_292 : decode cL_law 292 = .ok (.ireturn, 1) := dk_172 (dk_at dksL_law_8 4 rfl rfl)
theorem dL_law_293 : decode cL_law 293 = .ok (.goto 1716, 3) := dk_167 6 180 (dk_at dksL_law_8 5 rfl rfl)
theorem dL_law_296 : decode cL_law 296 = .ok (.aload_n 1, 1) := dk_43 (dk_at dksL_law_8 8 rfl rfl)
theorem dL_law_297 : decode cL_law 297 = .ok (.aload_n 0, 1) := dk_42 (dk_at dksL_law_8 9 rfl rfl)
theorem dL_law_298 : decode cL_law 298 = .ok (.iload 4, 2) := dk_21 4 (dk_at dksL_law_8 10 rfl rfl)
theorem dL_law_300 : decode cL_law 300 = .ok (.iconst 1, 1) := dk_4 (dk_at dksL_law_8 12 rfl rfl)
theorem dL_law_301 : decode cL_law 301 = .ok (.iadd, 1) := dk_96 (dk_at dksL_law_8 13 rfl rfl)
theorem dL_law_302 : decode cL_law 302 = .ok (.iaload, 1) := dk_46 (dk_at dksL_law_8 14 rfl rfl)
theorem dL_law_303 : decode cL_law 303 = .ok (.aload_n 3, 1) := dk_45 (dk_at dksL_law_8 15 rfl rfl)
theorem dL_law_304 : decode cL_law 304 = .ok (.invokestatic 114, 3) := dk_184 0 114 (dk_at dksL_law_8 16 rfl rfl)
theorem dL_law_307 : decode cL_law 307 = .ok (.istore 5, 2) := dk_54 5 (dk_at dksL_law_8 19 rfl rfl)
theorem dL_law_309 : decode cL_law 309 = .ok (.aload_n 2, 1) := dk_44 (dk_at dksL_law_8 21 rfl rfl)
theorem dL_law_310 : decode cL_law 310 = .ok (.aload_n 0, 1) := dk_42 (dk_at dksL_law_8 22 rfl rfl)
theorem dL_law_311 : decode cL_law 311 = .ok (.iload 4, 2) := dk_21 4 (dk_at dksL_law_9 0 rfl rfl)
theorem dL_law_313 : decode cL_law 313 = .ok (.iconst 1, 1) := dk_4 (dk_at dksL_law_9 2 rfl rfl)
theorem dL_law_314 : decode cL_law 314 = .ok (.iadd, 1) := dk_96 (dk_at dksL_law_9 3 rfl rfl)
theorem dL_law_315 : decode cL_law 315 = .ok (.iaload, 1) := dk_46 (dk_at dksL_law_9 4 rfl rfl)
theorem dL_law_316 : decode cL_law 316 = .ok (.invokevirtual 116, 3) := dk_182 0 116 (dk_at dksL_law_9 5 rfl rfl)
theorem dL_law_319 : decode cL_law 319 = .ok (.istore 6, 2) := dk_54 6 (dk_at dksL_law_9 8 rfl rfl)
theorem dL_law_321 : decode cL_law 321 = .ok (.aload_n 2, 1) := dk_44 (dk_at dksL_law_9 10 rfl rfl)
theorem dL_law_322 : decode cL_law 322 = .ok (.invokevirtual 107, 3) := dk_182 0 107 (dk_at dksL_law_9 11 rfl rfl)
theorem dL_law_325 : decode cL_law 325 = .ok (.iload 5, 2) := dk_21 5 (dk_at dksL_law_9 14 rfl rfl)
theorem dL_law_327 : decode cL_law 327 = .ok (.if_icmp .eq 5, 3) := dk_159 0 5 (dk_at dksL_law_9 16 rfl rfl)
theorem dL_law_330 : decode cL_law 330 = .ok (.iconst 0, 1) := dk_3 (dk_at dksL_law_9 19 rfl rfl)
theorem dL_law_331 : decode cL_law 331 = .ok (.ireturn, 1) := dk_172 (dk_at dksL_law_9 20 rfl rfl)
theorem dL_law_332 : decode cL_law 332 = .ok (.iload 5, 2) := dk_21 5 (dk_at dksL_law_9 21 rfl rfl)
theorem dL_law_334 : decode cL_law 334 = .ok (.ifCond .ne 15, 3) := dk_154 0 15 (dk_at dksL_law_10 0 rfl rfl)
theorem dL_law_337 : decode cL_law 337 = .ok (.aload_n 3, 1) := dk_45 (dk_at dksL_law_10 3 rfl rfl)
theorem dL_law_338 : decode cL_law 338 = .ok (.iconst 0, 1) := dk_3 (dk_at dksL_law_10 4 rfl rfl)
theorem dL_law_339 : decode cL_law 339 = .ok (.laload, 1) := dk_47 (dk_at dksL_law_10 5 rfl rfl)
theorem dL_law_340 : decode cL_law 340 = .ok (.iload 6, 2) := dk_21 6 (dk_at dksL_law_10 6 rfl rfl)
theorem dL_law_342 : decode cL_law 342 = .ok (.i2l, 1) := dk_133 (dk_at dksL_law_10 8 rfl rfl)
theorem dL_law_343 : decode cL_law 343 = .ok (.lcmp, 1) := dk_148 (dk_at dksL_law_10 9 rfl rfl)
theorem dL_law_344 : decode cL_law 344 = .ok (.ifCond .eq 5, 3) := dk_153 0 5 (dk_at dksL_law_10 10 rfl rfl)
theorem dL_law_347 : decode cL_law 347 = .ok (.iconst 0, 1) := dk_3 (dk_at dksL_law_10 13 rfl rfl)
theorem dL_law_348 : decode cL_law 348 = .ok (.ireturn, 1) := dk_172 (dk_at dksL_law_10 14 rfl rfl)
theorem dL_law_349 : decode cL_law 349 = .ok (.goto 1660, 3) := dk_167 6 124 (dk_at dksL_law_10 15 rfl rfl)
theorem dL_law_352 : decode cL_law 352 = .ok (.aload_n 1, 1) := dk_43 (dk_at dksL_law_10 18 rfl rfl)
theorem dL_law_353 : decode cL_law 353 = .ok (.aload_n 0, 1) := dk_42 (dk_at dksL_law_10 19 rfl rfl)
theorem dL_law_354 : decode cL_law 354 = .ok (.iload 4, 2) := dk_21 4 (dk_at dksL_law_10 20 rfl rfl)
theorem dL_law_356 : decode cL_law 356 = .ok (.iconst 1, 1) := dk_4 (dk_at dksL_law_10 22 rfl rfl)
theorem dL_law_357 : decode cL_law 357 = .ok (.iadd, 1) := dk_96 (dk_at dksL_law_10 23 rfl rfl)
theorem dL_law_358 : decode cL_law 358 = .ok (.iaload, 1) := dk_46 (dk_at dksL_law_11 0 rfl rfl)
theorem dL_law_359 : decode cL_law 359 = .ok (.aload_n 0, 1) := dk_42 (dk_at dksL_law_11 1 rfl rfl)
theorem dL_law_360 : decode cL_law 360 = .ok (.iload 4, 2) := dk_21 4 (dk_at dksL_law_11 2 rfl rfl)
theorem dL_law_362 : decode cL_law 362 = .ok (.iconst 2, 1) := dk_5 (dk_at dksL_law_11 4 rfl rfl)
theorem dL_law_363 : decode cL_law 363 = .ok (.iadd, 1) := dk_96 (dk_at dksL_law_11 5 rfl rfl)
theorem dL_law_364 : decode cL_law 364 = .ok (.iaload, 1) := dk_46 (dk_at dksL_law_11 6 rfl rfl)
theorem dL_law_365 : decode cL_law 365 = .ok (.aload_n 3, 1) := dk_45 (dk_at dksL_law_11 7 rfl rfl)
theorem dL_law_366 : decode cL_law 366 = .ok (.invokestatic 117, 3) := dk_184 0 117 (dk_at dksL_law_11 8 rfl rfl)
theorem dL_law_369 : decode cL_law 369 = .ok (.istore 5, 2) := dk_54 5 (dk_at dksL_law_11 11 rfl rfl)
theorem dL_law_371 : decode cL_law 371 = .ok (.aload_n 2, 1) := dk_44 (dk_at dksL_law_11 13 rfl rfl)
theorem dL_law_372 : decode cL_law 372 = .ok (.aload_n 0, 1) := dk_42 (dk_at dksL_law_11 14 rfl rfl)
theorem dL_law_373 : decode cL_law 373 = .ok (.iload 4, 2) := dk_21 4 (dk_at dksL_law_11 15 rfl rfl)
theorem dL_law_375 : decode cL_law 375 = .ok (.iconst 1, 1) := dk_4 (dk_at dksL_law_11 17 rfl rfl)
theorem dL_law_376 : decode cL_law 376 = .ok (.iadd, 1) := dk_96 (dk_at dksL_law_11 18 rfl rfl)
theorem dL_law_377 : decode cL_law 377 = .ok (.iaload, 1) := dk_46 (dk_at dksL_law_11 19 rfl rfl)
theorem dL_law_378 : decode cL_law 378 = .ok (.aload_n 0, 1) := dk_42 (dk_at dksL_law_11 20 rfl rfl)
theorem dL_law_379 : decode cL_law 379 = .ok (.iload 4, 2) := dk_21 4 (dk_at dksL_law_11 21 rfl rfl)
theorem dL_law_381 : decode cL_law 381 = .ok (.iconst 2, 1) := dk_5 (dk_at dksL_law_11 23 rfl rfl)
theorem dL_law_382 : decode cL_law 382 = .ok (.iadd, 1) := dk_96 (dk_at dksL_law_12 0 rfl rfl)
theorem dL_law_383 : decode cL_law 383 = .ok (.iaload, 1) := dk_46 (dk_at dksL_law_12 1 rfl rfl)
theorem dL_law_384 : decode cL_law 384 = .ok (.invokevirtual 119, 3) := dk_182 0 119 (dk_at dksL_law_12 2 rfl rfl)
theorem dL_law_387 : decode cL_law 387 = .ok (.istore 6, 2) := dk_54 6 (dk_at dksL_law_12 5 rfl rfl)
theorem dL_law_389 : decode cL_law 389 = .ok (.aload_n 2, 1) := dk_44 (dk_at dksL_law_12 7 rfl rfl)
theorem dL_law_390 : decode cL_law 390 = .ok (.invokevirtual 107, 3) := dk_182 0 107 (dk_at dksL_law_12 8 rfl rfl)
theorem dL_law_393 : decode cL_law 393 = .ok (.iload 5, 2) := dk_21 5 (dk_at dksL_law_12 11 rfl rfl)
theorem dL_law_395 : decode cL_law 395 = .ok (.if_icmp .eq 5, 3) := dk_159 0 5 (dk_at dksL_law_12 13 rfl rfl)
theorem dL_law_398 : decode cL_law 398 = .ok (.iconst 0, 1) := dk_3 (dk_at dksL_law_12 16 rfl rfl)
theorem dL_law_399 : decode cL_law 399 = .ok (.ireturn, 1) := dk_172 (dk_at dksL_law_12 17 rfl rfl)
theorem dL_law_400 : decode cL_law 400 = .ok (.iload 5, 2) := dk_21 5 (dk_at dksL_law_12 18 rfl rfl)
theorem dL_law_402 : decode cL_law 402 = .ok (.ifCond .ne 15, 3) := dk_154 0 15 (dk_at dksL_law_12 20 rfl rfl)
theorem dL_law_405 : decode cL_law 405 = .ok (.aload_n 3, 1) := dk_45 (dk_at dksL_law_12 23 rfl rfl)
theorem dL_law_406 : decode cL_law 406 = .ok (.iconst 0, 1) := dk_3 (dk_at dksL_law_13 0 rfl rfl)
theorem dL_law_407 : decode cL_law 407 = .ok (.laload, 1) := dk_47 (dk_at dksL_law_13 1 rfl rfl)
theorem dL_law_408 : decode cL_law 408 = .ok (.iload 6, 2) := dk_21 6 (dk_at dksL_law_13 2 rfl rfl)
theorem dL_law_410 : decode cL_law 410 = .ok (.i2l, 1) := dk_133 (dk_at dksL_law_13 4 rfl rfl)
theorem dL_law_411 : decode cL_law 411 = .ok (.lcmp, 1) := dk_148 (dk_at dksL_law_13 5 rfl rfl)
theorem dL_law_412 : decode cL_law 412 = .ok (.ifCond .eq 5, 3) := dk_153 0 5 (dk_at dksL_law_13 6 rfl rfl)
theorem dL_law_415 : decode cL_law 415 = .ok (.iconst 0, 1) := dk_3 (dk_at dksL_law_13 9 rfl rfl)
theorem dL_law_416 : decode cL_law 416 = .ok (.ireturn, 1) := dk_172 (dk_at dksL_law_13 10 rfl rfl)
theorem dL_law_417 : decode cL_law 417 = .ok (.goto 1592, 3) := dk_167 6 56 (dk_at dksL_law_13 11 rfl rfl)
theorem dL_law_420 : decode cL_law 420 = .ok (.aload_n 1, 1) := dk_43 (dk_at dksL_law_13 14 rfl rfl)
theorem dL_law_421 : decode cL_law 421 = .ok (.aload_n 0, 1) := dk_42 (dk_at dksL_law_13 15 rfl rfl)
theorem dL_law_422 : decode cL_law 422 = .ok (.iload 4, 2) := dk_21 4 (dk_at dksL_law_13 16 rfl rfl)
theorem dL_law_424 : decode cL_law 424 = .ok (.iconst 1, 1) := dk_4 (dk_at dksL_law_13 18 rfl rfl)
theorem dL_law_425 : decode cL_law 425 = .ok (.iadd, 1) := dk_96 (dk_at dksL_law_13 19 rfl rfl)
theorem dL_law_426 : decode cL_law 426 = .ok (.iaload, 1) := dk_46 (dk_at dksL_law_13 20 rfl rfl)
theorem dL_law_427 : decode cL_law 427 = .ok (.aload_n 0, 1) := dk_42 (dk_at dksL_law_13 21 rfl rfl)
theorem dL_law_428 : decode cL_law 428 = .ok (.iload 4, 2) := dk_21 4 (dk_at dksL_law_13 22 rfl rfl)
theorem dL_law_430 : decode cL_law 430 = .ok (.iconst 2, 1) := dk_5 (dk_at dksL_law_14 0 rfl rfl)
theorem dL_law_431 : decode cL_law 431 = .ok (.iadd, 1) := dk_96 (dk_at dksL_law_14 1 rfl rfl)
theorem dL_law_432 : decode cL_law 432 = .ok (.iaload, 1) := dk_46 (dk_at dksL_law_14 2 rfl rfl)
theorem dL_law_433 : decode cL_law 433 = .ok (.aload_n 3, 1) := dk_45 (dk_at dksL_law_14 3 rfl rfl)
theorem dL_law_434 : decode cL_law 434 = .ok (.invokestatic 120, 3) := dk_184 0 120 (dk_at dksL_law_14 4 rfl rfl)
theorem dL_law_437 : decode cL_law 437 = .ok (.istore 5, 2) := dk_54 5 (dk_at dksL_law_14 7 rfl rfl)
theorem dL_law_439 : decode cL_law 439 = .ok (.aload_n 2, 1) := dk_44 (dk_at dksL_law_14 9 rfl rfl)
theorem dL_law_440 : decode cL_law 440 = .ok (.aload_n 0, 1) := dk_42 (dk_at dksL_law_14 10 rfl rfl)
theorem dL_law_441 : decode cL_law 441 = .ok (.iload 4, 2) := dk_21 4 (dk_at dksL_law_14 11 rfl rfl)
theorem dL_law_443 : decode cL_law 443 = .ok (.iconst 1, 1) := dk_4 (dk_at dksL_law_14 13 rfl rfl)
theorem dL_law_444 : decode cL_law 444 = .ok (.iadd, 1) := dk_96 (dk_at dksL_law_14 14 rfl rfl)
theorem dL_law_445 : decode cL_law 445 = .ok (.iaload, 1) := dk_46 (dk_at dksL_law_14 15 rfl rfl)
theorem dL_law_446 : decode cL_law 446 = .ok (.aload_n 0, 1) := dk_42 (dk_at dksL_law_14 16 rfl rfl)
theorem dL_law_447 : decode cL_law 447 = .ok (.iload 4, 2) := dk_21 4 (dk_at dksL_law_14 17 rfl rfl)
theorem dL_law_449 : decode cL_law 449 = .ok (.iconst 2, 1) := dk_5 (dk_at dksL_law_14 19 rfl rfl)
theorem dL_law_450 : decode cL_law 450 = .ok (.iadd, 1) := dk_96 (dk_at dksL_law_14 20 rfl rfl)
theorem dL_law_451 : decode cL_law 451 = .ok (.iaload, 1) := dk_46 (dk_at dksL_law_14 21 rfl rfl)
theorem dL_law_452 : decode cL_law 452 = .ok (.invokevirtual 122, 3) := dk_182 0 122 (dk_at dksL_law_15 0 rfl rfl)
theorem dL_law_455 : decode cL_law 455 = .ok (.istore 6, 2) := dk_54 6 (dk_at dksL_law_15 3 rfl rfl)
theorem dL_law_457 : decode cL_law 457 = .ok (.aload_n 2, 1) := dk_44 (dk_at dksL_law_15 5 rfl rfl)
theorem dL_law_458 : decode cL_law 458 = .ok (.invokevirtual 107, 3) := dk_182 0 107 (dk_at dksL_law_15 6 rfl rfl)
theorem dL_law_461 : decode cL_law 461 = .ok (.iload 5, 2) := dk_21 5 (dk_at dksL_law_15 9 rfl rfl)
theorem dL_law_463 : decode cL_law 463 = .ok (.if_icmp .eq 5, 3) := dk_159 0 5 (dk_at dksL_law_15 11 rfl rfl)
theorem dL_law_466 : decode cL_law 466 = .ok (.iconst 0, 1) := dk_3 (dk_at dksL_law_15 14 rfl rfl)
theorem dL_law_467 : decode cL_law 467 = .ok (.ireturn, 1) := dk_172 (dk_at dksL_law_15 15 rfl rfl)
theorem dL_law_468 : decode cL_law 468 = .ok (.iload 5, 2) := dk_21 5 (dk_at dksL_law_15 16 rfl rfl)
theorem dL_law_470 : decode cL_law 470 = .ok (.ifCond .ne 15, 3) := dk_154 0 15 (dk_at dksL_law_15 18 rfl rfl)
theorem dL_law_473 : decode cL_law 473 = .ok (.aload_n 3, 1) := dk_45 (dk_at dksL_law_15 21 rfl rfl)
theorem dL_law_474 : decode cL_law 474 = .ok (.iconst 0, 1) := dk_3 (dk_at dksL_law_15 22 rfl rfl)
theorem dL_law_475 : decode cL_law 475 = .ok (.laload, 1) := dk_47 (dk_at dksL_law_15 23 rfl rfl)
theorem dL_law_476 : decode cL_law 476 = .ok (.iload 6, 2) := dk_21 6 (dk_at dksL_law_16 0 rfl rfl)
theorem dL_law_478 : decode cL_law 478 = .ok (.i2l, 1) := dk_133 (dk_at dksL_law_16 2 rfl rfl)
theorem dL_law_479 : decode cL_law 479 = .ok (.lcmp, 1) := dk_148 (dk_at dksL_law_16 3 rfl rfl)
theorem dL_law_480 : decode cL_law 480 = .ok (.ifCond .eq 5, 3) := dk_153 0 5 (dk_at dksL_law_16 4 rfl rfl)
theorem dL_law_483 : decode cL_law 483 = .ok (.iconst 0, 1) := dk_3 (dk_at dksL_law_16 7 rfl rfl)
theorem dL_law_484 : decode cL_law 484 = .ok (.ireturn, 1) := dk_172 (dk_at dksL_law_16 8 rfl rfl)
theorem dL_law_485 : decode cL_law 485 = .ok (.goto 1524, 3) := dk_167 5 244 (dk_at dksL_law_16 9 rfl rfl)
theorem dL_law_488 : decode cL_law 488 = .ok (.aload_n 1, 1) := dk_43 (dk_at dksL_law_16 12 rfl rfl)
theorem dL_law_489 : decode cL_law 489 = .ok (.aload_n 0, 1) := dk_42 (dk_at dksL_law_16 13 rfl rfl)
theorem dL_law_490 : decode cL_law 490 = .ok (.iload 4, 2) := dk_21 4 (dk_at dksL_law_16 14 rfl rfl)
theorem dL_law_492 : decode cL_law 492 = .ok (.iconst 1, 1) := dk_4 (dk_at dksL_law_16 16 rfl rfl)
theorem dL_law_493 : decode cL_law 493 = .ok (.iadd, 1) := dk_96 (dk_at dksL_law_16 17 rfl rfl)
theorem dL_law_494 : decode cL_law 494 = .ok (.iaload, 1) := dk_46 (dk_at dksL_law_16 18 rfl rfl)
theorem dL_law_495 : decode cL_law 495 = .ok (.aload_n 0, 1) := dk_42 (dk_at dksL_law_16 19 rfl rfl)
theorem dL_law_496 : decode cL_law 496 = .ok (.iload 4, 2) := dk_21 4 (dk_at dksL_law_16 20 rfl rfl)
theorem dL_law_498 : decode cL_law 498 = .ok (.iconst 2, 1) := dk_5 (dk_at dksL_law_16 22 rfl rfl)
theorem dL_law_499 : decode cL_law 499 = .ok (.iadd, 1) := dk_96 (dk_at dksL_law_16 23 rfl rfl)
theorem dL_law_500 : decode cL_law 500 = .ok (.iaload, 1) := dk_46 (dk_at dksL_law_17 0 rfl rfl)
theorem dL_law_501 : decode cL_law 501 = .ok (.aload_n 0, 1) := dk_42 (dk_at dksL_law_17 1 rfl rfl)
theorem dL_law_502 : decode cL_law 502 = .ok (.iload 4, 2) := dk_21 4 (dk_at dksL_law_17 2 rfl rfl)
theorem dL_law_504 : decode cL_law 504 = .ok (.iconst 3, 1) := dk_6 (dk_at dksL_law_17 4 rfl rfl)
theorem dL_law_505 : decode cL_law 505 = .ok (.iadd, 1) := dk_96 (dk_at dksL_law_17 5 rfl rfl)
theorem dL_law_506 : decode cL_law 506 = .ok (.iaload, 1) := dk_46 (dk_at dksL_law_17 6 rfl rfl)
theorem dL_law_507 : decode cL_law 507 = .ok (.aload_n 3, 1) := dk_45 (dk_at dksL_law_17 7 rfl rfl)
theorem dL_law_508 : decode cL_law 508 = .ok (.invokestatic 123, 3) := dk_184 0 123 (dk_at dksL_law_17 8 rfl rfl)
theorem dL_law_511 : decode cL_law 511 = .ok (.istore 5, 2) := dk_54 5 (dk_at dksL_law_17 11 rfl rfl)
theorem dL_law_513 : decode cL_law 513 = .ok (.aload_n 2, 1) := dk_44 (dk_at dksL_law_17 13 rfl rfl)
theorem dL_law_514 : decode cL_law 514 = .ok (.aload_n 0, 1) := dk_42 (dk_at dksL_law_17 14 rfl rfl)
theorem dL_law_515 : decode cL_law 515 = .ok (.iload 4, 2) := dk_21 4 (dk_at dksL_law_17 15 rfl rfl)
theorem dL_law_517 : decode cL_law 517 = .ok (.iconst 1, 1) := dk_4 (dk_at dksL_law_17 17 rfl rfl)
theorem dL_law_518 : decode cL_law 518 = .ok (.iadd, 1) := dk_96 (dk_at dksL_law_17 18 rfl rfl)
theorem dL_law_519 : decode cL_law 519 = .ok (.iaload, 1) := dk_46 (dk_at dksL_law_17 19 rfl rfl)
theorem dL_law_520 : decode cL_law 520 = .ok (.aload_n 0, 1) := dk_42 (dk_at dksL_law_17 20 rfl rfl)
theorem dL_law_521 : decode cL_law 521 = .ok (.iload 4, 2) := dk_21 4 (dk_at dksL_law_17 21 rfl rfl)
theorem dL_law_523 : decode cL_law 523 = .ok (.iconst 2, 1) := dk_5 (dk_at dksL_law_17 23 rfl rfl)
theorem dL_law_524 : decode cL_law 524 = .ok (.iadd, 1) := dk_96 (dk_at dksL_law_18 0 rfl rfl)
theorem dL_law_525 : decode cL_law 525 = .ok (.iaload, 1) := dk_46 (dk_at dksL_law_18 1 rfl rfl)
theorem dL_law_526 : decode cL_law 526 = .ok (.aload_n 0, 1) := dk_42 (dk_at dksL_law_18 2 rfl rfl)
theorem dL_law_527 : decode cL_law 527 = .ok (.iload 4, 2) := dk_21 4 (dk_at dksL_law_18 3 rfl rfl)
theorem dL_law_529 : decode cL_law 529 = .ok (.iconst 3, 1) := dk_6 (dk_at dksL_law_18 5 rfl rfl)
theorem dL_law_530 : decode cL_law 530 = .ok (.iadd, 1) := dk_96 (dk_at dksL_law_18 6 rfl rfl)
theorem dL_law_531 : decode cL_law 531 = .ok (.iaload, 1) := dk_46 (dk_at dksL_law_18 7 rfl rfl)
theorem dL_law_532 : decode cL_law 532 = .ok (.invokevirtual 126, 3) := dk_182 0 126 (dk_at dksL_law_18 8 rfl rfl)
theorem dL_law_535 : decode cL_law 535 = .ok (.istore 6, 2) := dk_54 6 (dk_at dksL_law_18 11 rfl rfl)
theorem dL_law_537 : decode cL_law 537 = .ok (.aload_n 2, 1) := dk_44 (dk_at dksL_law_18 13 rfl rfl)
theorem dL_law_538 : decode cL_law 538 = .ok (.invokevirtual 107, 3) := dk_182 0 107 (dk_at dksL_law_18 14 rfl rfl)
theorem dL_law_541 : decode cL_law 541 = .ok (.iload 5, 2) := dk_21 5 (dk_at dksL_law_18 17 rfl rfl)
theorem dL_law_543 : decode cL_law 543 = .ok (.if_icmp .eq 5, 3) := dk_159 0 5 (dk_at dksL_law_18 19 rfl rfl)
theorem dL_law_546 : decode cL_law 546 = .ok (.iconst 0, 1) := dk_3 (dk_at dksL_law_18 22 rfl rfl)
theorem dL_law_547 : decode cL_law 547 = .ok (.ireturn, 1) := dk_172 (dk_at dksL_law_18 23 rfl rfl)
theorem dL_law_548 : decode cL_law 548 = .ok (.iload 5, 2) := dk_21 5 (dk_at dksL_law_19 0 rfl rfl)
theorem dL_law_550 : decode cL_law 550 = .ok (.ifCond .ne 15, 3) := dk_154 0 15 (dk_at dksL_law_19 2 rfl rfl)
theorem dL_law_553 : decode cL_law 553 = .ok (.aload_n 3, 1) := dk_45 (dk_at dksL_law_19 5 rfl rfl)
theorem dL_law_554 : decode cL_law 554 = .ok (.iconst 0, 1) := dk_3 (dk_at dksL_law_19 6 rfl rfl)
theorem dL_law_555 : decode cL_law 555 = .ok (.laload, 1) := dk_47 (dk_at dksL_law_19 7 rfl rfl)
theorem dL_law_556 : decode cL_law 556 = .ok (.iload 6, 2) := dk_21 6 (dk_at dksL_law_19 8 rfl rfl)
theorem dL_law_558 : decode cL_law 558 = .ok (.i2l, 1) := dk_133 (dk_at dksL_law_19 10 rfl rfl)
theorem dL_law_559 : decode cL_law 559 = .ok (.lcmp, 1) := dk_148 (dk_at dksL_law_19 11 rfl rfl)
theorem dL_law_560 : decode cL_law 560 = .ok (.ifCond .eq 5, 3) := dk_153 0 5 (dk_at dksL_law_19 12 rfl rfl)
theorem dL_law_563 : decode cL_law 563 = .ok (.iconst 0, 1) := dk_3 (dk_at dksL_law_19 15 rfl rfl)
theorem dL_law_564 : decode cL_law 564 = .ok (.ireturn, 1) := dk_172 (dk_at dksL_law_19 16 rfl rfl)
theorem dL_law_565 : decode cL_law 565 = .ok (.goto 1444, 3) := dk_167 5 164 (dk_at dksL_law_19 17 rfl rfl)
theorem dL_law_568 : decode cL_law 568 = .ok (.aload_n 1, 1) := dk_43 (dk_at dksL_law_19 20 rfl rfl)
theorem dL_law_569 : decode cL_law 569 = .ok (.aload_n 0, 1) := dk_42 (dk_at dksL_law_19 21 rfl rfl)
theorem dL_law_570 : decode cL_law 570 = .ok (.iload 4, 2) := dk_21 4 (dk_at dksL_law_19 22 rfl rfl)
theorem dL_law_572 : decode cL_law 572 = .ok (.iconst 1, 1) := dk_4 (dk_at dksL_law_20 0 rfl rfl)
theorem dL_law_573 : decode cL_law 573 = .ok (.iadd, 1) := dk_96 (dk_at dksL_law_20 1 rfl rfl)
theorem dL_law_574 : decode cL_law 574 = .ok (.iaload, 1) := dk_46 (dk_at dksL_law_20 2 rfl rfl)
theorem dL_law_575 : decode cL_law 575 = .ok (.aload_n 0, 1) := dk_42 (dk_at dksL_law_20 3 rfl rfl)
theorem dL_law_576 : decode cL_law 576 = .ok (.iload 4, 2) := dk_21 4 (dk_at dksL_law_20 4 rfl rfl)
theorem dL_law_578 : decode cL_law 578 = .ok (.iconst 2, 1) := dk_5 (dk_at dksL_law_20 6 rfl rfl)
theorem dL_law_579 : decode cL_law 579 = .ok (.iadd, 1) := dk_96 (dk_at dksL_law_20 7 rfl rfl)
theorem dL_law_580 : decode cL_law 580 = .ok (.iaload, 1) := dk_46 (dk_at dksL_law_20 8 rfl rfl)
theorem dL_law_581 : decode cL_law 581 = .ok (.aload_n 0, 1) := dk_42 (dk_at dksL_law_20 9 rfl rfl)
theorem dL_law_582 : decode cL_law 582 = .ok (.iload 4, 2) := dk_21 4 (dk_at dksL_law_20 10 rfl rfl)
theorem dL_law_584 : decode cL_law 584 = .ok (.iconst 3, 1) := dk_6 (dk_at dksL_law_20 12 rfl rfl)
theorem dL_law_585 : decode cL_law 585 = .ok (.iadd, 1) := dk_96 (dk_at dksL_law_20 13 rfl rfl)
theorem dL_law_586 : decode cL_law 586 = .ok (.iaload, 1) := dk_46 (dk_at dksL_law_20 14 rfl rfl)
theorem dL_law_587 : decode cL_law 587 = .ok (.aload_n 3, 1) := dk_45 (dk_at dksL_law_20 15 rfl rfl)
theorem dL_law_588 : decode cL_law 588 = .ok (.invokestatic 127, 3) := dk_184 0 127 (dk_at dksL_law_20 16 rfl rfl)
theorem dL_law_591 : decode cL_law 591 = .ok (.istore 5, 2) := dk_54 5 (dk_at dksL_law_20 19 rfl rfl)
theorem dL_law_593 : decode cL_law 593 = .ok (.aload_n 2, 1) := dk_44 (dk_at dksL_law_20 21 rfl rfl)
theorem dL_law_594 : decode cL_law 594 = .ok (.aload_n 0, 1) := dk_42 (dk_at dksL_law_20 22 rfl rfl)
theorem dL_law_595 : decode cL_law 595 = .ok (.iload 4, 2) := dk_21 4 (dk_at dksL_law_21 0 rfl rfl)
theorem dL_law_597 : decode cL_law 597 = .ok (.iconst 1, 1) := dk_4 (dk_at dksL_law_21 2 rfl rfl)
theorem dL_law_598 : decode cL_law 598 = .ok (.iadd, 1) := dk_96 (dk_at dksL_law_21 3 rfl rfl)
theorem dL_law_599 : decode cL_law 599 = .ok (.iaload, 1) := dk_46 (dk_at dksL_law_21 4 rfl rfl)
theorem dL_law_600 : decode cL_law 600 = .ok (.aload_n 0, 1) := dk_42 (dk_at dksL_law_21 5 rfl rfl)
theorem dL_law_601 : decode cL_law 601 = .ok (.iload 4, 2) := dk_21 4 (dk_at dksL_law_21 6 rfl rfl)
theorem dL_law_603 : decode cL_law 603 = .ok (.iconst 2, 1) := dk_5 (dk_at dksL_law_21 8 rfl rfl)
theorem dL_law_604 : decode cL_law 604 = .ok (.iadd, 1) := dk_96 (dk_at dksL_law_21 9 rfl rfl)
theorem dL_law_605 : decode cL_law 605 = .ok (.iaload, 1) := dk_46 (dk_at dksL_law_21 10 rfl rfl)
theorem dL_law_606 : decode cL_law 606 = .ok (.aload_n 0, 1) := dk_42 (dk_at dksL_law_21 11 rfl rfl)
theorem dL_law_607 : decode cL_law 607 = .ok (.iload 4, 2) := dk_21 4 (dk_at dksL_law_21 12 rfl rfl)
theorem dL_law_609 : decode cL_law 609 = .ok (.iconst 3, 1) := dk_6 (dk_at dksL_law_21 14 rfl rfl)
theorem dL_law_610 : decode cL_law 610 = .ok (.iadd, 1) := dk_96 (dk_at dksL_law_21 15 rfl rfl)
theorem dL_law_611 : decode cL_law 611 = .ok (.iaload, 1) := dk_46 (dk_at dksL_law_21 16 rfl rfl)
theorem dL_law_612 : decode cL_law 612 = .ok (.invokevirtual 129, 3) := dk_182 0 129 (dk_at dksL_law_21 17 rfl rfl)
theorem dL_law_615 : decode cL_law 615 = .ok (.istore 6, 2) := dk_54 6 (dk_at dksL_law_21 20 rfl rfl)
theorem dL_law_617 : decode cL_law 617 = .ok (.aload_n 2, 1) := dk_44 (dk_at dksL_law_21 22 rfl rfl)
theorem dL_law_618 : decode cL_law 618 = .ok (.invokevirtual 107, 3) := dk_182 0 107 (dk_at dksL_law_22 0 rfl rfl)
theorem dL_law_621 : decode cL_law 621 = .ok (.iload 5, 2) := dk_21 5 (dk_at dksL_law_22 3 rfl rfl)
theorem dL_law_623 : decode cL_law 623 = .ok (.if_icmp .eq 5, 3) := dk_159 0 5 (dk_at dksL_law_22 5 rfl rfl)
theorem dL_law_626 : decode cL_law 626 = .ok (.iconst 0, 1) := dk_3 (dk_at dksL_law_22 8 rfl rfl)
theorem dL_law_627 : decode cL_law 627 = .ok (.ireturn, 1) := dk_172 (dk_at dksL_law_22 9 rfl rfl)
theorem dL_law_628 : decode cL_law 628 = .ok (.iload 5, 2) := dk_21 5 (dk_at dksL_law_22 10 rfl rfl)
theorem dL_law_630 : decode cL_law 630 = .ok (.ifCond .ne 15, 3) := dk_154 0 15 (dk_at dksL_law_22 12 rfl rfl)
theorem dL_law_633 : decode cL_law 633 = .ok (.aload_n 3, 1) := dk_45 (dk_at dksL_law_22 15 rfl rfl)
theorem dL_law_634 : decode cL_law 634 = .ok (.iconst 0, 1) := dk_3 (dk_at dksL_law_22 16 rfl rfl)
theorem dL_law_635 : decode cL_law 635 = .ok (.laload, 1) := dk_47 (dk_at dksL_law_22 17 rfl rfl)
theorem dL_law_636 : decode cL_law 636 = .ok (.iload 6, 2) := dk_21 6 (dk_at dksL_law_22 18 rfl rfl)
theorem dL_law_638 : decode cL_law 638 = .ok (.i2l, 1) := dk_133 (dk_at dksL_law_22 20 rfl rfl)
theorem dL_law_639 : decode cL_law 639 = .ok (.lcmp, 1) := dk_148 (dk_at dksL_law_22 21 rfl rfl)
theorem dL_law_640 : decode cL_law 640 = .ok (.ifCond .eq 5, 3) := dk_153 0 5 (dk_at dksL_law_23 0 rfl rfl)
theorem dL_law_643 : decode cL_law 643 = .ok (.iconst 0, 1) := dk_3 (dk_at dksL_law_23 3 rfl rfl)
theorem dL_law_644 : decode cL_law 644 = .ok (.ireturn, 1) := dk_172 (dk_at dksL_law_23 4 rfl rfl)
theorem dL_law_645 : decode cL_law 645 = .ok (.goto 1364, 3) := dk_167 5 84 (dk_at dksL_law_23 5 rfl rfl)
theorem dL_law_648 : decode cL_law 648 = .ok (.aload_n 1, 1) := dk_43 (dk_at dksL_law_23 8 rfl rfl)
theorem dL_law_649 : decode cL_law 649 = .ok (.aload_n 0, 1) := dk_42 (dk_at dksL_law_23 9 rfl rfl)
theorem dL_law_650 : decode cL_law 650 = .ok (.iload 4, 2) := dk_21 4 (dk_at dksL_law_23 10 rfl rfl)
theorem dL_law_652 : decode cL_law 652 = .ok (.iconst 1, 1) := dk_4 (dk_at dksL_law_23 12 rfl rfl)
theorem dL_law_653 : decode cL_law 653 = .ok (.iadd, 1) := dk_96 (dk_at dksL_law_23 13 rfl rfl)
theorem dL_law_654 : decode cL_law 654 = .ok (.iaload, 1) := dk_46 (dk_at dksL_law_23 14 rfl rfl)
theorem dL_law_655 : decode cL_law 655 = .ok (.aload_n 0, 1) := dk_42 (dk_at dksL_law_23 15 rfl rfl)
theorem dL_law_656 : decode cL_law 656 = .ok (.iload 4, 2) := dk_21 4 (dk_at dksL_law_23 16 rfl rfl)
theorem dL_law_658 : decode cL_law 658 = .ok (.iconst 2, 1) := dk_5 (dk_at dksL_law_23 18 rfl rfl)
theorem dL_law_659 : decode cL_law 659 = .ok (.iadd, 1) := dk_96 (dk_at dksL_law_23 19 rfl rfl)
theorem dL_law_660 : decode cL_law 660 = .ok (.iaload, 1) := dk_46 (dk_at dksL_law_23 20 rfl rfl)
theorem dL_law_661 : decode cL_law 661 = .ok (.aload_n 0, 1) := dk_42 (dk_at dksL_law_23 21 rfl rfl)
theorem dL_law_662 : decode cL_law 662 = .ok (.iload 4, 2) := dk_21 4 (dk_at dksL_law_23 22 rfl rfl)
theorem dL_law_664 : decode cL_law 664 = .ok (.iconst 3, 1) := dk_6 (dk_at dksL_law_24 0 rfl rfl)
theorem dL_law_665 : decode cL_law 665 = .ok (.iadd, 1) := dk_96 (dk_at dksL_law_24 1 rfl rfl)
theorem dL_law_666 : decode cL_law 666 = .ok (.iaload, 1) := dk_46 (dk_at dksL_law_24 2 rfl rfl)
theorem dL_law_667 : decode cL_law 667 = .ok (.aload_n 3, 1) := dk_45 (dk_at dksL_law_24 3 rfl rfl)
theorem dL_law_668 : decode cL_law 668 = .ok (.invokestatic 130, 3) := dk_184 0 130 (dk_at dksL_law_24 4 rfl rfl)
theorem dL_law_671 : decode cL_law 671 = .ok (.istore 5, 2) := dk_54 5 (dk_at dksL_law_24 7 rfl rfl)
theorem dL_law_673 : decode cL_law 673 = .ok (.aload_n 2, 1) := dk_44 (dk_at dksL_law_24 9 rfl rfl)
theorem dL_law_674 : decode cL_law 674 = .ok (.aload_n 0, 1) := dk_42 (dk_at dksL_law_24 10 rfl rfl)
theorem dL_law_675 : decode cL_law 675 = .ok (.iload 4, 2) := dk_21 4 (dk_at dksL_law_24 11 rfl rfl)
theorem dL_law_677 : decode cL_law 677 = .ok (.iconst 1, 1) := dk_4 (dk_at dksL_law_24 13 rfl rfl)
theorem dL_law_678 : decode cL_law 678 = .ok (.iadd, 1) := dk_96 (dk_at dksL_law_24 14 rfl rfl)
theorem dL_law_679 : decode cL_law 679 = .ok (.iaload, 1) := dk_46 (dk_at dksL_law_24 15 rfl rfl)
theorem dL_law_680 : decode cL_law 680 = .ok (.aload_n 0, 1) := dk_42 (dk_at dksL_law_24 16 rfl rfl)
theorem dL_law_681 : decode cL_law 681 = .ok (.iload 4, 2) := dk_21 4 (dk_at dksL_law_24 17 rfl rfl)
theorem dL_law_683 : decode cL_law 683 = .ok (.iconst 2, 1) := dk_5 (dk_at dksL_law_24 19 rfl rfl)
theorem dL_law_684 : decode cL_law 684 = .ok (.iadd, 1) := dk_96 (dk_at dksL_law_24 20 rfl rfl)
theorem dL_law_685 : decode cL_law 685 = .ok (.iaload, 1) := dk_46 (dk_at dksL_law_24 21 rfl rfl)
theorem dL_law_686 : decode cL_law 686 = .ok (.aload_n 0, 1) := dk_42 (dk_at dksL_law_24 22 rfl rfl)
theorem dL_law_687 : decode cL_law 687 = .ok (.iload 4, 2) := dk_21 4 (dk_at dksL_law_25 0 rfl rfl)
theorem dL_law_689 : decode cL_law 689 = .ok (.iconst 3, 1) := dk_6 (dk_at dksL_law_25 2 rfl rfl)
theorem dL_law_690 : decode cL_law 690 = .ok (.iadd, 1) := dk_96 (dk_at dksL_law_25 3 rfl rfl)
theorem dL_law_691 : decode cL_law 691 = .ok (.iaload, 1) := dk_46 (dk_at dksL_law_25 4 rfl rfl)
theorem dL_law_692 : decode cL_law 692 = .ok (.invokevirtual 132, 3) := dk_182 0 132 (dk_at dksL_law_25 5 rfl rfl)
theorem dL_law_695 : decode cL_law 695 = .ok (.istore 6, 2) := dk_54 6 (dk_at dksL_law_25 8 rfl rfl)
theorem dL_law_697 : decode cL_law 697 = .ok (.aload_n 2, 1) := dk_44 (dk_at dksL_law_25 10 rfl rfl)
theorem dL_law_698 : decode cL_law 698 = .ok (.invokevirtual 107, 3) := dk_182 0 107 (dk_at dksL_law_25 11 rfl rfl)
theorem dL_law_701 : decode cL_law 701 = .ok (.iload 5, 2) := dk_21 5 (dk_at dksL_law_25 14 rfl rfl)
theorem dL_law_703 : decode cL_law 703 = .ok (.if_icmp .eq 5, 3) := dk_159 0 5 (dk_at dksL_law_25 16 rfl rfl)
theorem dL_law_706 : decode cL_law 706 = .ok (.iconst 0, 1) := dk_3 (dk_at dksL_law_25 19 rfl rfl)
theorem dL_law_707 : decode cL_law 707 = .ok (.ireturn, 1) := dk_172 (dk_at dksL_law_25 20 rfl rfl)
theorem dL_law_708 : decode cL_law 708 = .ok (.iload 5, 2) := dk_21 5 (dk_at dksL_law_25 21 rfl rfl)
theorem dL_law_710 : decode cL_law 710 = .ok (.ifCond .ne 15, 3) := dk_154 0 15 (dk_at dksL_law_26 0 rfl rfl)
theorem dL_law_713 : decode cL_law 713 = .ok (.aload_n 3, 1) := dk_45 (dk_at dksL_law_26 3 rfl rfl)
theorem dL_law_714 : decode cL_law 714 = .ok (.iconst 0, 1) := dk_3 (dk_at dksL_law_26 4 rfl rfl)
theorem dL_law_715 : decode cL_law 715 = .ok (.laload, 1) := dk_47 (dk_at dksL_law_26 5 rfl rfl)
theorem dL_law_716 : decode cL_law 716 = .ok (.iload 6, 2) := dk_21 6 (dk_at dksL_law_26 6 rfl rfl)
theorem dL_law_718 : decode cL_law 718 = .ok (.i2l, 1) := dk_133 (dk_at dksL_law_26 8 rfl rfl)
theorem dL_law_719 : decode cL_law 719 = .ok (.lcmp, 1) := dk_148 (dk_at dksL_law_26 9 rfl rfl)
theorem dL_law_720 : decode cL_law 720 = .ok (.ifCond .eq 5, 3) := dk_153 0 5 (dk_at dksL_law_26 10 rfl rfl)
theorem dL_law_723 : decode cL_law 723 = .ok (.iconst 0, 1) := dk_3 (dk_at dksL_law_26 13 rfl rfl)
theorem dL_law_724 : decode cL_law 724 = .ok (.ireturn, 1) := dk_172 (dk_at dksL_law_26 14 rfl rfl)
theorem dL_law_725 : decode cL_law 725 = .ok (.goto 1284, 3) := dk_167 5 4 (dk_at dksL_law_26 15 rfl rfl)
theorem dL_law_728 : decode cL_law 728 = .ok (.aload_n 1, 1) := dk_43 (dk_at dksL_law_26 18 rfl rfl)
theorem dL_law_729 : decode cL_law 729 = .ok (.aload_n 0, 1) := dk_42 (dk_at dksL_law_26 19 rfl rfl)
theorem dL_law_730 : decode cL_law 730 = .ok (.iload 4, 2) := dk_21 4 (dk_at dksL_law_26 20 rfl rfl)
theorem dL_law_732 : decode cL_law 732 = .ok (.iconst 1, 1) := dk_4 (dk_at dksL_law_26 22 rfl rfl)
theorem dL_law_733 : decode cL_law 733 = .ok (.iadd, 1) := dk_96 (dk_at dksL_law_26 23 rfl rfl)
theorem dL_law_734 : decode cL_law 734 = .ok (.iaload, 1) := dk_46 (dk_at dksL_law_27 0 rfl rfl)
theorem dL_law_735 : decode cL_law 735 = .ok (.aload_n 0, 1) := dk_42 (dk_at dksL_law_27 1 rfl rfl)
theorem dL_law_736 : decode cL_law 736 = .ok (.iload 4, 2) := dk_21 4 (dk_at dksL_law_27 2 rfl rfl)
theorem dL_law_738 : decode cL_law 738 = .ok (.iconst 2, 1) := dk_5 (dk_at dksL_law_27 4 rfl rfl)
theorem dL_law_739 : decode cL_law 739 = .ok (.iadd, 1) := dk_96 (dk_at dksL_law_27 5 rfl rfl)
theorem dL_law_740 : decode cL_law 740 = .ok (.iaload, 1) := dk_46 (dk_at dksL_law_27 6 rfl rfl)
theorem dL_law_741 : decode cL_law 741 = .ok (.aload_n 0, 1) := dk_42 (dk_at dksL_law_27 7 rfl rfl)
theorem dL_law_742 : decode cL_law 742 = .ok (.iload 4, 2) := dk_21 4 (dk_at dksL_law_27 8 rfl rfl)
theorem dL_law_744 : decode cL_law 744 = .ok (.iconst 3, 1) := dk_6 (dk_at dksL_law_27 10 rfl rfl)
theorem dL_law_745 : decode cL_law 745 = .ok (.iadd, 1) := dk_96 (dk_at dksL_law_27 11 rfl rfl)
theorem dL_law_746 : decode cL_law 746 = .ok (.iaload, 1) := dk_46 (dk_at dksL_law_27 12 rfl rfl)
theorem dL_law_747 : decode cL_law 747 = .ok (.aload_n 3, 1) := dk_45 (dk_at dksL_law_27 13 rfl rfl)
theorem dL_law_748 : decode cL_law 748 = .ok (.invokestatic 133, 3) := dk_184 0 133 (dk_at dksL_law_27 14 rfl rfl)
theorem dL_law_751 : decode cL_law 751 = .ok (.istore 5, 2) := dk_54 5 (dk_at dksL_law_27 17 rfl rfl)
theorem dL_law_753 : decode cL_law 753 = .ok (.aload_n 2, 1) := dk_44 (dk_at dksL_law_27 19 rfl rfl)
theorem dL_law_754 : decode cL_law 754 = .ok (.aload_n 0, 1) := dk_42 (dk_at dksL_law_27 20 rfl rfl)
theorem dL_law_755 : decode cL_law 755 = .ok (.iload 4, 2) := dk_21 4 (dk_at dksL_law_27 21 rfl rfl)
theorem dL_law_757 : decode cL_law 757 = .ok (.iconst 1, 1) := dk_4 (dk_at dksL_law_27 23 rfl rfl)
theorem dL_law_758 : decode cL_law 758 = .ok (.iadd, 1) := dk_96 (dk_at dksL_law_28 0 rfl rfl)
theorem dL_law_759 : decode cL_law 759 = .ok (.iaload, 1) := dk_46 (dk_at dksL_law_28 1 rfl rfl)
theorem dL_law_760 : decode cL_law 760 = .ok (.aload_n 0, 1) := dk_42 (dk_at dksL_law_28 2 rfl rfl)
theorem dL_law_761 : decode cL_law 761 = .ok (.iload 4, 2) := dk_21 4 (dk_at dksL_law_28 3 rfl rfl)
theorem dL_law_763 : decode cL_law 763 = .ok (.iconst 2, 1) := dk_5 (dk_at dksL_law_28 5 rfl rfl)
theorem dL_law_764 : decode cL_law 764 = .ok (.iadd, 1) := dk_96 (dk_at dksL_law_28 6 rfl rfl)
theorem dL_law_765 : decode cL_law 765 = .ok (.iaload, 1) := dk_46 (dk_at dksL_law_28 7 rfl rfl)
theorem dL_law_766 : decode cL_law 766 = .ok (.aload_n 0, 1) := dk_42 (dk_at dksL_law_28 8 rfl rfl)
theorem dL_law_767 : decode cL_law 767 = .ok (.iload 4, 2) := dk_21 4 (dk_at dksL_law_28 9 rfl rfl)
theorem dL_law_769 : decode cL_law 769 = .ok (.iconst 3, 1) := dk_6 (dk_at dksL_law_28 11 rfl rfl)
theorem dL_law_770 : decode cL_law 770 = .ok (.iadd, 1) := dk_96 (dk_at dksL_law_28 12 rfl rfl)
theorem dL_law_771 : decode cL_law 771 = .ok (.iaload, 1) := dk_46 (dk_at dksL_law_28 13 rfl rfl)
theorem dL_law_772 : decode cL_law 772 = .ok (.invokevirtual 135, 3) := dk_182 0 135 (dk_at dksL_law_28 14 rfl rfl)
theorem dL_law_775 : decode cL_law 775 = .ok (.istore 6, 2) := dk_54 6 (dk_at dksL_law_28 17 rfl rfl)
theorem dL_law_777 : decode cL_law 777 = .ok (.aload_n 2, 1) := dk_44 (dk_at dksL_law_28 19 rfl rfl)
theorem dL_law_778 : decode cL_law 778 = .ok (.invokevirtual 107, 3) := dk_182 0 107 (dk_at dksL_law_28 20 rfl rfl)
theorem dL_law_781 : decode cL_law 781 = .ok (.iload 5, 2) := dk_21 5 (dk_at dksL_law_29 0 rfl rfl)
theorem dL_law_783 : decode cL_law 783 = .ok (.if_icmp .eq 5, 3) := dk_159 0 5 (dk_at dksL_law_29 2 rfl rfl)
theorem dL_law_786 : decode cL_law 786 = .ok (.iconst 0, 1) := dk_3 (dk_at dksL_law_29 5 rfl rfl)
theorem dL_law_787 : decode cL_law 787 = .ok (.ireturn, 1) := dk_172 (dk_at dksL_law_29 6 rfl rfl)
theorem dL_law_788 : decode cL_law 788 = .ok (.iload 5, 2) := dk_21 5 (dk_at dksL_law_29 7 rfl rfl)
theorem dL_law_790 : decode cL_law 790 = .ok (.ifCond .ne 15, 3) := dk_154 0 15 (dk_at dksL_law_29 9 rfl rfl)
theorem dL_law_793 : decode cL_law 793 = .ok (.aload_n 3, 1) := dk_45 (dk_at dksL_law_29 12 rfl rfl)
theorem dL_law_794 : decode cL_law 794 = .ok (.iconst 0, 1) := dk_3 (dk_at dksL_law_29 13 rfl rfl)
theorem dL_law_795 : decode cL_law 795 = .ok (.laload, 1) := dk_47 (dk_at dksL_law_29 14 rfl rfl)
theorem dL_law_796 : decode cL_law 796 = .ok (.iload 6, 2) := dk_21 6 (dk_at dksL_law_29 15 rfl rfl)
theorem dL_law_798 : decode cL_law 798 = .ok (.i2l, 1) := dk_133 (dk_at dksL_law_29 17 rfl rfl)
theorem dL_law_799 : decode cL_law 799 = .ok (.lcmp, 1) := dk_148 (dk_at dksL_law_29 18 rfl rfl)
theorem dL_law_800 : decode cL_law 800 = .ok (.ifCond .eq 5, 3) := dk_153 0 5 (dk_at dksL_law_29 19 rfl rfl)
theorem dL_law_803 : decode cL_law 803 = .ok (.iconst 0, 1) := dk_3 (dk_at dksL_law_29 22 rfl rfl)
theorem dL_law_804 : decode cL_law 804 = .ok (.ireturn, 1) := dk_172 (dk_at dksL_law_29 23 rfl rfl)
theorem dL_law_805 : decode cL_law 805 = .ok (.goto 1204, 3) := dk_167 4 180 (dk_at dksL_law_30 0 rfl rfl)
theorem dL_law_808 : decode cL_law 808 = .ok (.aload_n 1, 1) := dk_43 (dk_at dksL_law_30 3 rfl rfl)
theorem dL_law_809 : decode cL_law 809 = .ok (.aload_n 0, 1) := dk_42 (dk_at dksL_law_30 4 rfl rfl)
theorem dL_law_810 : decode cL_law 810 = .ok (.iload 4, 2) := dk_21 4 (dk_at dksL_law_30 5 rfl rfl)
theorem dL_law_812 : decode cL_law 812 = .ok (.iconst 1, 1) := dk_4 (dk_at dksL_law_30 7 rfl rfl)
theorem dL_law_813 : decode cL_law 813 = .ok (.iadd, 1) := dk_96 (dk_at dksL_law_30 8 rfl rfl)
theorem dL_law_814 : decode cL_law 814 = .ok (.iaload, 1) := dk_46 (dk_at dksL_law_30 9 rfl rfl)
theorem dL_law_815 : decode cL_law 815 = .ok (.aload_n 0, 1) := dk_42 (dk_at dksL_law_30 10 rfl rfl)
theorem dL_law_816 : decode cL_law 816 = .ok (.iload 4, 2) := dk_21 4 (dk_at dksL_law_30 11 rfl rfl)
theorem dL_law_818 : decode cL_law 818 = .ok (.iconst 2, 1) := dk_5 (dk_at dksL_law_30 13 rfl rfl)
theorem dL_law_819 : decode cL_law 819 = .ok (.iadd, 1) := dk_96 (dk_at dksL_law_30 14 rfl rfl)
theorem dL_law_820 : decode cL_law 820 = .ok (.iaload, 1) := dk_46 (dk_at dksL_law_30 15 rfl rfl)
theorem dL_law_821 : decode cL_law 821 = .ok (.aload_n 3, 1) := dk_45 (dk_at dksL_law_30 16 rfl rfl)
theorem dL_law_822 : decode cL_law 822 = .ok (.invokestatic 136, 3) := dk_184 0 136 (dk_at dksL_law_30 17 rfl rfl)
theorem dL_law_825 : decode cL_law 825 = .ok (.istore 5, 2) := dk_54 5 (dk_at dksL_law_30 20 rfl rfl)
theorem dL_law_827 : decode cL_law 827 = .ok (.aload_n 2, 1) := dk_44 (dk_at dksL_law_30 22 rfl rfl)
theorem dL_law_828 : decode cL_law 828 = .ok (.aload_n 0, 1) := dk_42 (dk_at dksL_law_30 23 rfl rfl)
theorem dL_law_829 : decode cL_law 829 = .ok (.iload 4, 2) := dk_21 4 (dk_at dksL_law_31 0 rfl rfl)
theorem dL_law_831 : decode cL_law 831 = .ok (.iconst 1, 1) := dk_4 (dk_at dksL_law_31 2 rfl rfl)
theorem dL_law_832 : decode cL_law 832 = .ok (.iadd, 1) := dk_96 (dk_at dksL_law_31 3 rfl rfl)
theorem dL_law_833 : decode cL_law 833 = .ok (.iaload, 1) := dk_46 (dk_at dksL_law_31 4 rfl rfl)
theorem dL_law_834 : decode cL_law 834 = .ok (.aload_n 0, 1) := dk_42 (dk_at dksL_law_31 5 rfl rfl)
theorem dL_law_835 : decode cL_law 835 = .ok (.iload 4, 2) := dk_21 4 (dk_at dksL_law_31 6 rfl rfl)
theorem dL_law_837 : decode cL_law 837 = .ok (.iconst 2, 1) := dk_5 (dk_at dksL_law_31 8 rfl rfl)
theorem dL_law_838 : decode cL_law 838 = .ok (.iadd, 1) := dk_96 (dk_at dksL_law_31 9 rfl rfl)
theorem dL_law_839 : decode cL_law 839 = .ok (.iaload, 1) := dk_46 (dk_at dksL_law_31 10 rfl rfl)
theorem dL_law_840 : decode cL_law 840 = .ok (.invokevirtual 138, 3) := dk_182 0 138 (dk_at dksL_law_31 11 rfl rfl)
theorem dL_law_843 : decode cL_law 843 = .ok (.istore 6, 2) := dk_54 6 (dk_at dksL_law_31 14 rfl rfl)
theorem dL_law_845 : decode cL_law 845 = .ok (.aload_n 2, 1) := dk_44 (dk_at dksL_law_31 16 rfl rfl)
theorem dL_law_846 : decode cL_law 846 = .ok (.invokevirtual 107, 3) := dk_182 0 107 (dk_at dksL_law_31 17 rfl rfl)
theorem dL_law_849 : decode cL_law 849 = .ok (.iload 5, 2) := dk_21 5 (dk_at dksL_law_31 20 rfl rfl)
theorem dL_law_851 : decode cL_law 851 = .ok (.if_icmp .eq 5, 3) := dk_159 0 5 (dk_at dksL_law_32 0 rfl rfl)
theorem dL_law_854 : decode cL_law 854 = .ok (.iconst 0, 1) := dk_3 (dk_at dksL_law_32 3 rfl rfl)
theorem dL_law_855 : decode cL_law 855 = .ok (.ireturn, 1) := dk_172 (dk_at dksL_law_32 4 rfl rfl)
theorem dL_law_856 : decode cL_law 856 = .ok (.iload 5, 2) := dk_21 5 (dk_at dksL_law_32 5 rfl rfl)
theorem dL_law_858 : decode cL_law 858 = .ok (.ifCond .ne 15, 3) := dk_154 0 15 (dk_at dksL_law_32 7 rfl rfl)
theorem dL_law_861 : decode cL_law 861 = .ok (.aload_n 3, 1) := dk_45 (dk_at dksL_law_32 10 rfl rfl)
theorem dL_law_862 : decode cL_law 862 = .ok (.iconst 0, 1) := dk_3 (dk_at dksL_law_32 11 rfl rfl)
theorem dL_law_863 : decode cL_law 863 = .ok (.laload, 1) := dk_47 (dk_at dksL_law_32 12 rfl rfl)
theorem dL_law_864 : decode cL_law 864 = .ok (.iload 6, 2) := dk_21 6 (dk_at dksL_law_32 13 rfl rfl)
theorem dL_law_866 : decode cL_law 866 = .ok (.i2l, 1) := dk_133 (dk_at dksL_law_32 15 rfl rfl)
theorem dL_law_867 : decode cL_law 867 = .ok (.lcmp, 1) := dk_148 (dk_at dksL_law_32 16 rfl rfl)
theorem dL_law_868 : decode cL_law 868 = .ok (.ifCond .eq 5, 3) := dk_153 0 5 (dk_at dksL_law_32 17 rfl rfl)
theorem dL_law_871 : decode cL_law 871 = .ok (.iconst 0, 1) := dk_3 (dk_at dksL_law_32 20 rfl rfl)
theorem dL_law_872 : decode cL_law 872 = .ok (.ireturn, 1) := dk_172 (dk_at dksL_law_32 21 rfl rfl)
theorem dL_law_873 : decode cL_law 873 = .ok (.goto 1136, 3) := dk_167 4 112 (dk_at dksL_law_33 0 rfl rfl)
theorem dL_law_876 : decode cL_law 876 = .ok (.aload_n 1, 1) := dk_43 (dk_at dksL_law_33 3 rfl rfl)
theorem dL_law_877 : decode cL_law 877 = .ok (.aload_n 0, 1) := dk_42 (dk_at dksL_law_33 4 rfl rfl)
theorem dL_law_878 : decode cL_law 878 = .ok (.iload 4, 2) := dk_21 4 (dk_at dksL_law_33 5 rfl rfl)
theorem dL_law_880 : decode cL_law 880 = .ok (.iconst 1, 1) := dk_4 (dk_at dksL_law_33 7 rfl rfl)
theorem dL_law_881 : decode cL_law 881 = .ok (.iadd, 1) := dk_96 (dk_at dksL_law_33 8 rfl rfl)
theorem dL_law_882 : decode cL_law 882 = .ok (.iaload, 1) := dk_46 (dk_at dksL_law_33 9 rfl rfl)
theorem dL_law_883 : decode cL_law 883 = .ok (.aload_n 0, 1) := dk_42 (dk_at dksL_law_33 10 rfl rfl)
theorem dL_law_884 : decode cL_law 884 = .ok (.iload 4, 2) := dk_21 4 (dk_at dksL_law_33 11 rfl rfl)
theorem dL_law_886 : decode cL_law 886 = .ok (.iconst 2, 1) := dk_5 (dk_at dksL_law_33 13 rfl rfl)
theorem dL_law_887 : decode cL_law 887 = .ok (.iadd, 1) := dk_96 (dk_at dksL_law_33 14 rfl rfl)
theorem dL_law_888 : decode cL_law 888 = .ok (.iaload, 1) := dk_46 (dk_at dksL_law_33 15 rfl rfl)
theorem dL_law_889 : decode cL_law 889 = .ok (.aload_n 0, 1) := dk_42 (dk_at dksL_law_33 16 rfl rfl)
theorem dL_law_890 : decode cL_law 890 = .ok (.iload 4, 2) := dk_21 4 (dk_at dksL_law_33 17 rfl rfl)
theorem dL_law_892 : decode cL_law 892 = .ok (.iconst 3, 1) := dk_6 (dk_at dksL_law_33 19 rfl rfl)
theorem dL_law_893 : decode cL_law 893 = .ok (.iadd, 1) := dk_96 (dk_at dksL_law_33 20 rfl rfl)
theorem dL_law_894 : decode cL_law 894 = .ok (.iaload, 1) := dk_46 (dk_at dksL_law_33 21 rfl rfl)
theorem dL_law_895 : decode cL_law 895 = .ok (.aload_n 3, 1) := dk_45 (dk_at dksL_law_33 22 rfl rfl)
theorem dL_law_896 : decode cL_law 896 = .ok (.invokestatic 139, 3) := dk_184 0 139 (dk_at dksL_law_34 0 rfl rfl)
theorem dL_law_899 : decode cL_law 899 = .ok (.istore 5, 2) := dk_54 5 (dk_at dksL_law_34 3 rfl rfl)
theorem dL_law_901 : decode cL_law 901 = .ok (.aload_n 2, 1) := dk_44 (dk_at dksL_law_34 5 rfl rfl)
theorem dL_law_902 : decode cL_law 902 = .ok (.aload_n 0, 1) := dk_42 (dk_at dksL_law_34 6 rfl rfl)
theorem dL_law_903 : decode cL_law 903 = .ok (.iload 4, 2) := dk_21 4 (dk_at dksL_law_34 7 rfl rfl)
theorem dL_law_905 : decode cL_law 905 = .ok (.iconst 1, 1) := dk_4 (dk_at dksL_law_34 9 rfl rfl)
theorem dL_law_906 : decode cL_law 906 = .ok (.iadd, 1) := dk_96 (dk_at dksL_law_34 10 rfl rfl)
theorem dL_law_907 : decode cL_law 907 = .ok (.iaload, 1) := dk_46 (dk_at dksL_law_34 11 rfl rfl)
theorem dL_law_908 : decode cL_law 908 = .ok (.aload_n 0, 1) := dk_42 (dk_at dksL_law_34 12 rfl rfl)
theorem dL_law_909 : decode cL_law 909 = .ok (.iload 4, 2) := dk_21 4 (dk_at dksL_law_34 13 rfl rfl)
theorem dL_law_911 : decode cL_law 911 = .ok (.iconst 2, 1) := dk_5 (dk_at dksL_law_34 15 rfl rfl)
theorem dL_law_912 : decode cL_law 912 = .ok (.iadd, 1) := dk_96 (dk_at dksL_law_34 16 rfl rfl)
theorem dL_law_913 : decode cL_law 913 = .ok (.iaload, 1) := dk_46 (dk_at dksL_law_34 17 rfl rfl)
theorem dL_law_914 : decode cL_law 914 = .ok (.aload_n 0, 1) := dk_42 (dk_at dksL_law_34 18 rfl rfl)
theorem dL_law_915 : decode cL_law 915 = .ok (.iload 4, 2) := dk_21 4 (dk_at dksL_law_34 19 rfl rfl)
theorem dL_law_917 : decode cL_law 917 = .ok (.iconst 3, 1) := dk_6 (dk_at dksL_law_34 21 rfl rfl)
theorem dL_law_918 : decode cL_law 918 = .ok (.iadd, 1) := dk_96 (dk_at dksL_law_34 22 rfl rfl)
theorem dL_law_919 : decode cL_law 919 = .ok (.iaload, 1) := dk_46 (dk_at dksL_law_34 23 rfl rfl)
theorem dL_law_920 : decode cL_law 920 = .ok (.invokevirtual 141, 3) := dk_182 0 141 (dk_at dksL_law_35 0 rfl rfl)
theorem dL_law_923 : decode cL_law 923 = .ok (.istore 6, 2) := dk_54 6 (dk_at dksL_law_35 3 rfl rfl)
theorem dL_law_925 : decode cL_law 925 = .ok (.aload_n 2, 1) := dk_44 (dk_at dksL_law_35 5 rfl rfl)
theorem dL_law_926 : decode cL_law 926 = .ok (.invokevirtual 107, 3) := dk_182 0 107 (dk_at dksL_law_35 6 rfl rfl)
theorem dL_law_929 : decode cL_law 929 = .ok (.iload 5, 2) := dk_21 5 (dk_at dksL_law_35 9 rfl rfl)
theorem dL_law_931 : decode cL_law 931 = .ok (.if_icmp .eq 5, 3) := dk_159 0 5 (dk_at dksL_law_35 11 rfl rfl)
theorem dL_law_934 : decode cL_law 934 = .ok (.iconst 0, 1) := dk_3 (dk_at dksL_law_35 14 rfl rfl)
theorem dL_law_935 : decode cL_law 935 = .ok (.ireturn, 1) := dk_172 (dk_at dksL_law_35 15 rfl rfl)
theorem dL_law_936 : decode cL_law 936 = .ok (.iload 5, 2) := dk_21 5 (dk_at dksL_law_35 16 rfl rfl)
theorem dL_law_938 : decode cL_law 938 = .ok (.ifCond .ne 15, 3) := dk_154 0 15 (dk_at dksL_law_35 18 rfl rfl)
theorem dL_law_941 : decode cL_law 941 = .ok (.aload_n 3, 1) := dk_45 (dk_at dksL_law_35 21 rfl rfl)
theorem dL_law_942 : decode cL_law 942 = .ok (.iconst 0, 1) := dk_3 (dk_at dksL_law_35 22 rfl rfl)
theorem dL_law_943 : decode cL_law 943 = .ok (.laload, 1) := dk_47 (dk_at dksL_law_35 23 rfl rfl)
theorem dL_law_944 : decode cL_law 944 = .ok (.iload 6, 2) := dk_21 6 (dk_at dksL_law_36 0 rfl rfl)
theorem dL_law_946 : decode cL_law 946 = .ok (.i2l, 1) := dk_133 (dk_at dksL_law_36 2 rfl rfl)
theorem dL_law_947 : decode cL_law 947 = .ok (.lcmp, 1) := dk_148 (dk_at dksL_law_36 3 rfl rfl)
theorem dL_law_948 : decode cL_law 948 = .ok (.ifCond .eq 5, 3) := dk_153 0 5 (dk_at dksL_law_36 4 rfl rfl)
theorem dL_law_951 : decode cL_law 951 = .ok (.iconst 0, 1) := dk_3 (dk_at dksL_law_36 7 rfl rfl)
theorem dL_law_952 : decode cL_law 952 = .ok (.ireturn, 1) := dk_172 (dk_at dksL_law_36 8 rfl rfl)
theorem dL_law_953 : decode cL_law 953 = .ok (.goto 1056, 3) := dk_167 4 32 (dk_at dksL_law_36 9 rfl rfl)
theorem dL_law_956 : decode cL_law 956 = .ok (.aload_n 1, 1) := dk_43 (dk_at dksL_law_36 12 rfl rfl)
theorem dL_law_957 : decode cL_law 957 = .ok (.aload_n 0, 1) := dk_42 (dk_at dksL_law_36 13 rfl rfl)
theorem dL_law_958 : decode cL_law 958 = .ok (.iload 4, 2) := dk_21 4 (dk_at dksL_law_36 14 rfl rfl)
theorem dL_law_960 : decode cL_law 960 = .ok (.iconst 1, 1) := dk_4 (dk_at dksL_law_36 16 rfl rfl)
theorem dL_law_961 : decode cL_law 961 = .ok (.iadd, 1) := dk_96 (dk_at dksL_law_36 17 rfl rfl)
theorem dL_law_962 : decode cL_law 962 = .ok (.iaload, 1) := dk_46 (dk_at dksL_law_36 18 rfl rfl)
theorem dL_law_963 : decode cL_law 963 = .ok (.aload_n 0, 1) := dk_42 (dk_at dksL_law_36 19 rfl rfl)
theorem dL_law_964 : decode cL_law 964 = .ok (.iload 4, 2) := dk_21 4 (dk_at dksL_law_36 20 rfl rfl)
theorem dL_law_966 : decode cL_law 966 = .ok (.iconst 2, 1) := dk_5 (dk_at dksL_law_36 22 rfl rfl)
theorem dL_law_967 : decode cL_law 967 = .ok (.iadd, 1) := dk_96 (dk_at dksL_law_36 23 rfl rfl)
theorem dL_law_968 : decode cL_law 968 = .ok (.iaload, 1) := dk_46 (dk_at dksL_law_37 0 rfl rfl)
theorem dL_law_969 : decode cL_law 969 = .ok (.aload_n 3, 1) := dk_45 (dk_at dksL_law_37 1 rfl rfl)
theorem dL_law_970 : decode cL_law 970 = .ok (.invokestatic 142, 3) := dk_184 0 142 (dk_at dksL_law_37 2 rfl rfl)
theorem dL_law_973 : decode cL_law 973 = .ok (.istore 5, 2) := dk_54 5 (dk_at dksL_law_37 5 rfl rfl)
theorem dL_law_975 : decode cL_law 975 = .ok (.aload_n 2, 1) := dk_44 (dk_at dksL_law_37 7 rfl rfl)
theorem dL_law_976 : decode cL_law 976 = .ok (.aload_n 0, 1) := dk_42 (dk_at dksL_law_37 8 rfl rfl)
theorem dL_law_977 : decode cL_law 977 = .ok (.iload 4, 2) := dk_21 4 (dk_at dksL_law_37 9 rfl rfl)
theorem dL_law_979 : decode cL_law 979 = .ok (.iconst 1, 1) := dk_4 (dk_at dksL_law_37 11 rfl rfl)
theorem dL_law_980 : decode cL_law 980 = .ok (.iadd, 1) := dk_96 (dk_at dksL_law_37 12 rfl rfl)
theorem dL_law_981 : decode cL_law 981 = .ok (.iaload, 1) := dk_46 (dk_at dksL_law_37 13 rfl rfl)
theorem dL_law_982 : decode cL_law 982 = .ok (.aload_n 0, 1) := dk_42 (dk_at dksL_law_37 14 rfl rfl)
theorem dL_law_983 : decode cL_law 983 = .ok (.iload 4, 2) := dk_21 4 (dk_at dksL_law_37 15 rfl rfl)
theorem dL_law_985 : decode cL_law 985 = .ok (.iconst 2, 1) := dk_5 (dk_at dksL_law_37 17 rfl rfl)
theorem dL_law_986 : decode cL_law 986 = .ok (.iadd, 1) := dk_96 (dk_at dksL_law_37 18 rfl rfl)
theorem dL_law_987 : decode cL_law 987 = .ok (.iaload, 1) := dk_46 (dk_at dksL_law_37 19 rfl rfl)
theorem dL_law_988 : decode cL_law 988 = .ok (.invokevirtual 144, 3) := dk_182 0 144 (dk_at dksL_law_37 20 rfl rfl)
theorem dL_law_991 : decode cL_law 991 = .ok (.istore 6, 2) := dk_54 6 (dk_at dksL_law_38 0 rfl rfl)
theorem dL_law_993 : decode cL_law 993 = .ok (.aload_n 2, 1) := dk_44 (dk_at dksL_law_38 2 rfl rfl)
theorem dL_law_994 : decode cL_law 994 = .ok (.invokevirtual 107, 3) := dk_182 0 107 (dk_at dksL_law_38 3 rfl rfl)
theorem dL_law_997 : decode cL_law 997 = .ok (.iload 5, 2) := dk_21 5 (dk_at dksL_law_38 6 rfl rfl)
theorem dL_law_999 : decode cL_law 999 = .ok (.if_icmp .eq 5, 3) := dk_159 0 5 (dk_at dksL_law_38 8 rfl rfl)
theorem dL_law_1002 : decode cL_law 1002 = .ok (.iconst 0, 1) := dk_3 (dk_at dksL_law_38 11 rfl rfl)
theorem dL_law_1003 : decode cL_law 1003 = .ok (.ireturn, 1) := dk_172 (dk_at dksL_law_38 12 rfl rfl)
theorem dL_law_1004 : decode cL_law 1004 = .ok (.iload 5, 2) := dk_21 5 (dk_at dksL_law_38 13 rfl rfl)
theorem dL_law_1006 : decode cL_law 1006 = .ok (.ifCond .ne 15, 3) := dk_154 0 15 (dk_at dksL_law_38 15 rfl rfl)
theorem dL_law_1009 : decode cL_law 1009 = .ok (.aload_n 3, 1) := dk_45 (dk_at dksL_law_38 18 rfl rfl)
theorem dL_law_1010 : decode cL_law 1010 = .ok (.iconst 0, 1) := dk_3 (dk_at dksL_law_38 19 rfl rfl)
theorem dL_law_1011 : decode cL_law 1011 = .ok (.laload, 1) := dk_47 (dk_at dksL_law_38 20 rfl rfl)
theorem dL_law_1012 : decode cL_law 1012 = .ok (.iload 6, 2) := dk_21 6 (dk_at dksL_law_38 21 rfl rfl)
theorem dL_law_1014 : decode cL_law 1014 = .ok (.i2l, 1) := dk_133 (dk_at dksL_law_38 23 rfl rfl)
theorem dL_law_1015 : decode cL_law 1015 = .ok (.lcmp, 1) := dk_148 (dk_at dksL_law_39 0 rfl rfl)
theorem dL_law_1016 : decode cL_law 1016 = .ok (.ifCond .eq 5, 3) := dk_153 0 5 (dk_at dksL_law_39 1 rfl rfl)
theorem dL_law_1019 : decode cL_law 1019 = .ok (.iconst 0, 1) := dk_3 (dk_at dksL_law_39 4 rfl rfl)
theorem dL_law_1020 : decode cL_law 1020 = .ok (.ireturn, 1) := dk_172 (dk_at dksL_law_39 5 rfl rfl)
theorem dL_law_1021 : decode cL_law 1021 = .ok (.goto 988, 3) := dk_167 3 220 (dk_at dksL_law_39 6 rfl rfl)
theorem dL_law_1024 : decode cL_law 1024 = .ok (.aload_n 1, 1) := dk_43 (dk_at dksL_law_39 9 rfl rfl)
theorem dL_law_1025 : decode cL_law 1025 = .ok (.aload_n 0, 1) := dk_42 (dk_at dksL_law_39 10 rfl rfl)
theorem dL_law_1026 : decode cL_law 1026 = .ok (.iload 4, 2) := dk_21 4 (dk_at dksL_law_39 11 rfl rfl)
theorem dL_law_1028 : decode cL_law 1028 = .ok (.iconst 1, 1) := dk_4 (dk_at dksL_law_39 13 rfl rfl)
theorem dL_law_1029 : decode cL_law 1029 = .ok (.iadd, 1) := dk_96 (dk_at dksL_law_39 14 rfl rfl)
theorem dL_law_1030 : decode cL_law 1030 = .ok (.iaload, 1) := dk_46 (dk_at dksL_law_39 15 rfl rfl)
theorem dL_law_1031 : decode cL_law 1031 = .ok (.aload_n 0, 1) := dk_42 (dk_at dksL_law_39 16 rfl rfl)
theorem dL_law_1032 : decode cL_law 1032 = .ok (.iload 4, 2) := dk_21 4 (dk_at dksL_law_39 17 rfl rfl)
theorem dL_law_1034 : decode cL_law 1034 = .ok (.iconst 2, 1) := dk_5 (dk_at dksL_law_39 19 rfl rfl)
theorem dL_law_1035 : decode cL_law 1035 = .ok (.iadd, 1) := dk_96 (dk_at dksL_law_39 20 rfl rfl)
theorem dL_law_1036 : decode cL_law 1036 = .ok (.iaload, 1) := dk_46 (dk_at dksL_law_39 21 rfl rfl)
theorem dL_law_1037 : decode cL_law 1037 = .ok (.aload_n 0, 1) := dk_42 (dk_at dksL_law_39 22 rfl rfl)
theorem dL_law_1038 : decode cL_law 1038 = .ok (.iload 4, 2) := dk_21 4 (dk_at dksL_law_40 0 rfl rfl)
theorem dL_law_1040 : decode cL_law 1040 = .ok (.iconst 3, 1) := dk_6 (dk_at dksL_law_40 2 rfl rfl)
theorem dL_law_1041 : decode cL_law 1041 = .ok (.iadd, 1) := dk_96 (dk_at dksL_law_40 3 rfl rfl)
theorem dL_law_1042 : decode cL_law 1042 = .ok (.iaload, 1) := dk_46 (dk_at dksL_law_40 4 rfl rfl)
theorem dL_law_1043 : decode cL_law 1043 = .ok (.aload_n 3, 1) := dk_45 (dk_at dksL_law_40 5 rfl rfl)
theorem dL_law_1044 : decode cL_law 1044 = .ok (.invokestatic 145, 3) := dk_184 0 145 (dk_at dksL_law_40 6 rfl rfl)
theorem dL_law_1047 : decode cL_law 1047 = .ok (.istore 5, 2) := dk_54 5 (dk_at dksL_law_40 9 rfl rfl)
theorem dL_law_1049 : decode cL_law 1049 = .ok (.aload_n 2, 1) := dk_44 (dk_at dksL_law_40 11 rfl rfl)
theorem dL_law_1050 : decode cL_law 1050 = .ok (.aload_n 0, 1) := dk_42 (dk_at dksL_law_40 12 rfl rfl)
theorem dL_law_1051 : decode cL_law 1051 = .ok (.iload 4, 2) := dk_21 4 (dk_at dksL_law_40 13 rfl rfl)
theorem dL_law_1053 : decode cL_law 1053 = .ok (.iconst 1, 1) := dk_4 (dk_at dksL_law_40 15 rfl rfl)
theorem dL_law_1054 : decode cL_law 1054 = .ok (.iadd, 1) := dk_96 (dk_at dksL_law_40 16 rfl rfl)
theorem dL_law_1055 : decode cL_law 1055 = .ok (.iaload, 1) := dk_46 (dk_at dksL_law_40 17 rfl rfl)
theorem dL_law_1056 : decode cL_law 1056 = .ok (.aload_n 0, 1) := dk_42 (dk_at dksL_law_40 18 rfl rfl)
theorem dL_law_1057 : decode cL_law 1057 = .ok (.iload 4, 2) := dk_21 4 (dk_at dksL_law_40 19 rfl rfl)
theorem dL_law_1059 : decode cL_law 1059 = .ok (.iconst 2, 1) := dk_5 (dk_at dksL_law_40 21 rfl rfl)
theorem dL_law_1060 : decode cL_law 1060 = .ok (.iadd, 1) := dk_96 (dk_at dksL_law_40 22 rfl rfl)
theorem dL_law_1061 : decode cL_law 1061 = .ok (.iaload, 1) := dk_46 (dk_at dksL_law_40 23 rfl rfl)
theorem dL_law_1062 : decode cL_law 1062 = .ok (.aload_n 0, 1) := dk_42 (dk_at dksL_law_41 0 rfl rfl)
theorem dL_law_1063 : decode cL_law 1063 = .ok (.iload 4, 2) := dk_21 4 (dk_at dksL_law_41 1 rfl rfl)
theorem dL_law_1065 : decode cL_law 1065 = .ok (.iconst 3, 1) := dk_6 (dk_at dksL_law_41 3 rfl rfl)
theorem dL_law_1066 : decode cL_law 1066 = .ok (.iadd, 1) := dk_96 (dk_at dksL_law_41 4 rfl rfl)
theorem dL_law_1067 : decode cL_law 1067 = .ok (.iaload, 1) := dk_46 (dk_at dksL_law_41 5 rfl rfl)
theorem dL_law_1068 : decode cL_law 1068 = .ok (.invokevirtual 147, 3) := dk_182 0 147 (dk_at dksL_law_41 6 rfl rfl)
theorem dL_law_1071 : decode cL_law 1071 = .ok (.istore 6, 2) := dk_54 6 (dk_at dksL_law_41 9 rfl rfl)
theorem dL_law_1073 : decode cL_law 1073 = .ok (.aload_n 2, 1) := dk_44 (dk_at dksL_law_41 11 rfl rfl)
theorem dL_law_1074 : decode cL_law 1074 = .ok (.invokevirtual 107, 3) := dk_182 0 107 (dk_at dksL_law_41 12 rfl rfl)
theorem dL_law_1077 : decode cL_law 1077 = .ok (.iload 5, 2) := dk_21 5 (dk_at dksL_law_41 15 rfl rfl)
theorem dL_law_1079 : decode cL_law 1079 = .ok (.if_icmp .eq 5, 3) := dk_159 0 5 (dk_at dksL_law_41 17 rfl rfl)
theorem dL_law_1082 : decode cL_law 1082 = .ok (.iconst 0, 1) := dk_3 (dk_at dksL_law_41 20 rfl rfl)
theorem dL_law_1083 : decode cL_law 1083 = .ok (.ireturn, 1) := dk_172 (dk_at dksL_law_41 21 rfl rfl)
theorem dL_law_1084 : decode cL_law 1084 = .ok (.iload 5, 2) := dk_21 5 (dk_at dksL_law_41 22 rfl rfl)
theorem dL_law_1086 : decode cL_law 1086 = .ok (.ifCond .ne 15, 3) := dk_154 0 15 (dk_at dksL_law_42 0 rfl rfl)
theorem dL_law_1089 : decode cL_law 1089 = .ok (.aload_n 3, 1) := dk_45 (dk_at dksL_law_42 3 rfl rfl)
theorem dL_law_1090 : decode cL_law 1090 = .ok (.iconst 0, 1) := dk_3 (dk_at dksL_law_42 4 rfl rfl)
theorem dL_law_1091 : decode cL_law 1091 = .ok (.laload, 1) := dk_47 (dk_at dksL_law_42 5 rfl rfl)
theorem dL_law_1092 : decode cL_law 1092 = .ok (.iload 6, 2) := dk_21 6 (dk_at dksL_law_42 6 rfl rfl)
theorem dL_law_1094 : decode cL_law 1094 = .ok (.i2l, 1) := dk_133 (dk_at dksL_law_42 8 rfl rfl)
theorem dL_law_1095 : decode cL_law 1095 = .ok (.lcmp, 1) := dk_148 (dk_at dksL_law_42 9 rfl rfl)
theorem dL_law_1096 : decode cL_law 1096 = .ok (.ifCond .eq 5, 3) := dk_153 0 5 (dk_at dksL_law_42 10 rfl rfl)
theorem dL_law_1099 : decode cL_law 1099 = .ok (.iconst 0, 1) := dk_3 (dk_at dksL_law_42 13 rfl rfl)
theorem dL_law_1100 : decode cL_law 1100 = .ok (.ireturn, 1) := dk_172 (dk_at dksL_law_42 14 rfl rfl)
theorem dL_law_1101 : decode cL_law 1101 = .ok (.goto 908, 3) := dk_167 3 140 (dk_at dksL_law_42 15 rfl rfl)
theorem dL_law_1104 : decode cL_law 1104 = .ok (.aload_n 1, 1) := dk_43 (dk_at dksL_law_42 18 rfl rfl)
theorem dL_law_1105 : decode cL_law 1105 = .ok (.aload_n 0, 1) := dk_42 (dk_at dksL_law_42 19 rfl rfl)
theorem dL_law_1106 : decode cL_law 1106 = .ok (.iload 4, 2) := dk_21 4 (dk_at dksL_law_42 20 rfl rfl)
theorem dL_law_1108 : decode cL_law 1108 = .ok (.iconst 1, 1) := dk_4 (dk_at dksL_law_42 22 rfl rfl)
theorem dL_law_1109 : decode cL_law 1109 = .ok (.iadd, 1) := dk_96 (dk_at dksL_law_42 23 rfl rfl)
theorem dL_law_1110 : decode cL_law 1110 = .ok (.iaload, 1) := dk_46 (dk_at dksL_law_43 0 rfl rfl)
theorem dL_law_1111 : decode cL_law 1111 = .ok (.aload_n 3, 1) := dk_45 (dk_at dksL_law_43 1 rfl rfl)
theorem dL_law_1112 : decode cL_law 1112 = .ok (.invokestatic 148, 3) := dk_184 0 148 (dk_at dksL_law_43 2 rfl rfl)
theorem dL_law_1115 : decode cL_law 1115 = .ok (.istore 5, 2) := dk_54 5 (dk_at dksL_law_43 5 rfl rfl)
theorem dL_law_1117 : decode cL_law 1117 = .ok (.aload_n 2, 1) := dk_44 (dk_at dksL_law_43 7 rfl rfl)
theorem dL_law_1118 : decode cL_law 1118 = .ok (.aload_n 0, 1) := dk_42 (dk_at dksL_law_43 8 rfl rfl)
theorem dL_law_1119 : decode cL_law 1119 = .ok (.iload 4, 2) := dk_21 4 (dk_at dksL_law_43 9 rfl rfl)
theorem dL_law_1121 : decode cL_law 1121 = .ok (.iconst 1, 1) := dk_4 (dk_at dksL_law_43 11 rfl rfl)
theorem dL_law_1122 : decode cL_law 1122 = .ok (.iadd, 1) := dk_96 (dk_at dksL_law_43 12 rfl rfl)
theorem dL_law_1123 : decode cL_law 1123 = .ok (.iaload, 1) := dk_46 (dk_at dksL_law_43 13 rfl rfl)
theorem dL_law_1124 : decode cL_law 1124 = .ok (.invokevirtual 150, 3) := dk_182 0 150 (dk_at dksL_law_43 14 rfl rfl)
theorem dL_law_1127 : decode cL_law 1127 = .ok (.istore 6, 2) := dk_54 6 (dk_at dksL_law_43 17 rfl rfl)
theorem dL_law_1129 : decode cL_law 1129 = .ok (.aload_n 2, 1) := dk_44 (dk_at dksL_law_43 19 rfl rfl)
theorem dL_law_1130 : decode cL_law 1130 = .ok (.invokevirtual 107, 3) := dk_182 0 107 (dk_at dksL_law_43 20 rfl rfl)
theorem dL_law_1133 : decode cL_law 1133 = .ok (.iload 5, 2) := dk_21 5 (dk_at dksL_law_44 0 rfl rfl)
theorem dL_law_1135 : decode cL_law 1135 = .ok (.if_icmp .eq 5, 3) := dk_159 0 5 (dk_at dksL_law_44 2 rfl rfl)
theorem dL_law_1138 : decode cL_law 1138 = .ok (.iconst 0, 1) := dk_3 (dk_at dksL_law_44 5 rfl rfl)
theorem dL_law_1139 : decode cL_law 1139 = .ok (.ireturn, 1) := dk_172 (dk_at dksL_law_44 6 rfl rfl)
theorem dL_law_1140 : decode cL_law 1140 = .ok (.iload 5, 2) := dk_21 5 (dk_at dksL_law_44 7 rfl rfl)
theorem dL_law_1142 : decode cL_law 1142 = .ok (.ifCond .ne 15, 3) := dk_154 0 15 (dk_at dksL_law_44 9 rfl rfl)
theorem dL_law_1145 : decode cL_law 1145 = .ok (.aload_n 3, 1) := dk_45 (dk_at dksL_law_44 12 rfl rfl)
theorem dL_law_1146 : decode cL_law 1146 = .ok (.iconst 0, 1) := dk_3 (dk_at dksL_law_44 13 rfl rfl)
theorem dL_law_1147 : decode cL_law 1147 = .ok (.laload, 1) := dk_47 (dk_at dksL_law_44 14 rfl rfl)
theorem dL_law_1148 : decode cL_law 1148 = .ok (.iload 6, 2) := dk_21 6 (dk_at dksL_law_44 15 rfl rfl)
theorem dL_law_1150 : decode cL_law 1150 = .ok (.i2l, 1) := dk_133 (dk_at dksL_law_44 17 rfl rfl)
theorem dL_law_1151 : decode cL_law 1151 = .ok (.lcmp, 1) := dk_148 (dk_at dksL_law_44 18 rfl rfl)
theorem dL_law_1152 : decode cL_law 1152 = .ok (.ifCond .eq 5, 3) := dk_153 0 5 (dk_at dksL_law_44 19 rfl rfl)
theorem dL_law_1155 : decode cL_law 1155 = .ok (.iconst 0, 1) := dk_3 (dk_at dksL_law_44 22 rfl rfl)
theorem dL_law_1156 : decode cL_law 1156 = .ok (.ireturn, 1) := dk_172 (dk_at dksL_law_44 23 rfl rfl)
theorem dL_law_1157 : decode cL_law 1157 = .ok (.goto 852, 3) := dk_167 3 84 (dk_at dksL_law_45 0 rfl rfl)
theorem dL_law_1160 : decode cL_law 1160 = .ok (.aload_n 1, 1) := dk_43 (dk_at dksL_law_45 3 rfl rfl)
theorem dL_law_1161 : decode cL_law 1161 = .ok (.invokevirtual 151, 3) := dk_182 0 151 (dk_at dksL_law_45 4 rfl rfl)
theorem dL_law_1164 : decode cL_law 1164 = .ok (.aload_n 2, 1) := dk_44 (dk_at dksL_law_45 7 rfl rfl)
theorem dL_law_1165 : decode cL_law 1165 = .ok (.invokevirtual 154, 3) := dk_182 0 154 (dk_at dksL_law_45 8 rfl rfl)
theorem dL_law_1168 : decode cL_law 1168 = .ok (.if_icmp .eq 841, 3) := dk_159 3 73 (dk_at dksL_law_45 11 rfl rfl)
theorem dL_law_1171 : decode cL_law 1171 = .ok (.iconst 0, 1) := dk_3 (dk_at dksL_law_45 14 rfl rfl)
theorem dL_law_1172 : decode cL_law 1172 = .ok (.ireturn, 1) := dk_172 (dk_at dksL_law_45 15 rfl rfl)
theorem dL_law_1173 : decode cL_law 1173 = .ok (.aload_n 1, 1) := dk_43 (dk_at dksL_law_45 16 rfl rfl)
theorem dL_law_1174 : decode cL_law 1174 = .ok (.invokevirtual 155, 3) := dk_182 0 155 (dk_at dksL_law_45 17 rfl rfl)
theorem dL_law_1177 : decode cL_law 1177 = .ok (.aload_n 2, 1) := dk_44 (dk_at dksL_law_45 20 rfl rfl)
theorem dL_law_1178 : decode cL_law 1178 = .ok (.invokevirtual 158, 3) := dk_182 0 158 (dk_at dksL_law_45 21 rfl rfl)
theorem dL_law_1181 : decode cL_law 1181 = .ok (.if_icmp .eq 828, 3) := dk_159 3 60 (dk_at dksL_law_46 0 rfl rfl)
theorem dL_law_1184 : decode cL_law 1184 = .ok (.iconst 0, 1) := dk_3 (dk_at dksL_law_46 3 rfl rfl)
theorem dL_law_1185 : decode cL_law 1185 = .ok (.ireturn, 1) := dk_172 (dk_at dksL_law_46 4 rfl rfl)
theorem dL_law_1186 : decode cL_law 1186 = .ok (.aload_n 1, 1) := dk_43 (dk_at dksL_law_46 5 rfl rfl)
theorem dL_law_1187 : decode cL_law 1187 = .ok (.aload_n 3, 1) := dk_45 (dk_at dksL_law_46 6 rfl rfl)
theorem dL_law_1188 : decode cL_law 1188 = .ok (.invokestatic 159, 3) := dk_184 0 159 (dk_at dksL_law_46 7 rfl rfl)
theorem dL_law_1191 : decode cL_law 1191 = .ok (.istore 5, 2) := dk_54 5 (dk_at dksL_law_46 10 rfl rfl)
theorem dL_law_1193 : decode cL_law 1193 = .ok (.aload_n 2, 1) := dk_44 (dk_at dksL_law_46 12 rfl rfl)
theorem dL_law_1194 : decode cL_law 1194 = .ok (.invokevirtual 162, 3) := dk_182 0 162 (dk_at dksL_law_46 13 rfl rfl)
theorem dL_law_1197 : decode cL_law 1197 = .ok (.istore 6, 2) := dk_54 6 (dk_at dksL_law_46 16 rfl rfl)
theorem dL_law_1199 : decode cL_law 1199 = .ok (.aload_n 2, 1) := dk_44 (dk_at dksL_law_46 18 rfl rfl)
theorem dL_law_1200 : decode cL_law 1200 = .ok (.invokevirtual 107, 3) := dk_182 0 107 (dk_at dksL_law_46 19 rfl rfl)
theorem dL_law_1203 : decode cL_law 1203 = .ok (.iload 5, 2) := dk_21 5 (dk_at dksL_law_46 22 rfl rfl)
theorem dL_law_1205 : decode cL_law 1205 = .ok (.if_icmp .eq 5, 3) := dk_159 0 5 (dk_at dksL_law_47 0 rfl rfl)
theorem dL_law_1208 : decode cL_law 1208 = .ok (.iconst 0, 1) := dk_3 (dk_at dksL_law_47 3 rfl rfl)
theorem dL_law_1209 : decode cL_law 1209 = .ok (.ireturn, 1) := dk_172 (dk_at dksL_law_47 4 rfl rfl)
theorem dL_law_1210 : decode cL_law 1210 = .ok (.iload 5, 2) := dk_21 5 (dk_at dksL_law_47 5 rfl rfl)
theorem dL_law_1212 : decode cL_law 1212 = .ok (.ifCond .ne 15, 3) := dk_154 0 15 (dk_at dksL_law_47 7 rfl rfl)
theorem dL_law_1215 : decode cL_law 1215 = .ok (.aload_n 3, 1) := dk_45 (dk_at dksL_law_47 10 rfl rfl)
theorem dL_law_1216 : decode cL_law 1216 = .ok (.iconst 0, 1) := dk_3 (dk_at dksL_law_47 11 rfl rfl)
theorem dL_law_1217 : decode cL_law 1217 = .ok (.laload, 1) := dk_47 (dk_at dksL_law_47 12 rfl rfl)
theorem dL_law_1218 : decode cL_law 1218 = .ok (.iload 6, 2) := dk_21 6 (dk_at dksL_law_47 13 rfl rfl)
theorem dL_law_1220 : decode cL_law 1220 = .ok (.i2l, 1) := dk_133 (dk_at dksL_law_47 15 rfl rfl)
theorem dL_law_1221 : decode cL_law 1221 = .ok (.lcmp, 1) := dk_148 (dk_at dksL_law_47 16 rfl rfl)
theorem dL_law_1222 : decode cL_law 1222 = .ok (.ifCond .eq 5, 3) := dk_153 0 5 (dk_at dksL_law_47 17 rfl rfl)
theorem dL_law_1225 : decode cL_law 1225 = .ok (.iconst 0, 1) := dk_3 (dk_at dksL_law_47 20 rfl rfl)
theorem dL_law_1226 : decode cL_law 1226 = .ok (.ireturn, 1) := dk_172 (dk_at dksL_law_47 21 rfl rfl)
theorem dL_law_1227 : decode cL_law 1227 = .ok (.goto 782, 3) := dk_167 3 14 (dk_at dksL_law_48 0 rfl rfl)
theorem dL_law_1230 : decode cL_law 1230 = .ok (.aload_n 1, 1) := dk_43 (dk_at dksL_law_48 3 rfl rfl)
theorem dL_law_1231 : decode cL_law 1231 = .ok (.aload_n 3, 1) := dk_45 (dk_at dksL_law_48 4 rfl rfl)
theorem dL_law_1232 : decode cL_law 1232 = .ok (.invokestatic 163, 3) := dk_184 0 163 (dk_at dksL_law_48 5 rfl rfl)
theorem dL_law_1235 : decode cL_law 1235 = .ok (.istore 5, 2) := dk_54 5 (dk_at dksL_law_48 8 rfl rfl)
theorem dL_law_1237 : decode cL_law 1237 = .ok (.aload_n 2, 1) := dk_44 (dk_at dksL_law_48 10 rfl rfl)
theorem dL_law_1238 : decode cL_law 1238 = .ok (.invokevirtual 165, 3) := dk_182 0 165 (dk_at dksL_law_48 11 rfl rfl)
theorem dL_law_1241 : decode cL_law 1241 = .ok (.istore 6, 2) := dk_54 6 (dk_at dksL_law_48 14 rfl rfl)
theorem dL_law_1243 : decode cL_law 1243 = .ok (.aload_n 2, 1) := dk_44 (dk_at dksL_law_48 16 rfl rfl)
theorem dL_law_1244 : decode cL_law 1244 = .ok (.invokevirtual 107, 3) := dk_182 0 107 (dk_at dksL_law_48 17 rfl rfl)
theorem dL_law_1247 : decode cL_law 1247 = .ok (.iload 5, 2) := dk_21 5 (dk_at dksL_law_48 20 rfl rfl)
theorem dL_law_1249 : decode cL_law 1249 = .ok (.if_icmp .eq 5, 3) := dk_159 0 5 (dk_at dksL_law_49 0 rfl rfl)
theorem dL_law_1252 : decode cL_law 1252 = .ok (.iconst 0, 1) := dk_3 (dk_at dksL_law_49 3 rfl rfl)
theorem dL_law_1253 : decode cL_law 1253 = .ok (.ireturn, 1) := dk_172 (dk_at dksL_law_49 4 rfl rfl)
theorem dL_law_1254 : decode cL_law 1254 = .ok (.iload 5, 2) := dk_21 5 (dk_at dksL_law_49 5 rfl rfl)
theorem dL_law_1256 : decode cL_law 1256 = .ok (.ifCond .ne 15, 3) := dk_154 0 15 (dk_at dksL_law_49 7 rfl rfl)
theorem dL_law_1259 : decode cL_law 1259 = .ok (.aload_n 3, 1) := dk_45 (dk_at dksL_law_49 10 rfl rfl)
theorem dL_law_1260 : decode cL_law 1260 = .ok (.iconst 0, 1) := dk_3 (dk_at dksL_law_49 11 rfl rfl)
theorem dL_law_1261 : decode cL_law 1261 = .ok (.laload, 1) := dk_47 (dk_at dksL_law_49 12 rfl rfl)
theorem dL_law_1262 : decode cL_law 1262 = .ok (.iload 6, 2) := dk_21 6 (dk_at dksL_law_49 13 rfl rfl)
theorem dL_law_1264 : decode cL_law 1264 = .ok (.i2l, 1) := dk_133 (dk_at dksL_law_49 15 rfl rfl)
theorem dL_law_1265 : decode cL_law 1265 = .ok (.lcmp, 1) := dk_148 (dk_at dksL_law_49 16 rfl rfl)
theorem dL_law_1266 : decode cL_law 1266 = .ok (.ifCond .eq 5, 3) := dk_153 0 5 (dk_at dksL_law_49 17 rfl rfl)
theorem dL_law_1269 : decode cL_law 1269 = .ok (.iconst 0, 1) := dk_3 (dk_at dksL_law_49 20 rfl rfl)
theorem dL_law_1270 : decode cL_law 1270 = .ok (.ireturn, 1) := dk_172 (dk_at dksL_law_49 21 rfl rfl)
theorem dL_law_1271 : decode cL_law 1271 = .ok (.goto 738, 3) := dk_167 2 226 (dk_at dksL_law_50 0 rfl rfl)
theorem dL_law_1274 : decode cL_law 1274 = .ok (.aload_n 1, 1) := dk_43 (dk_at dksL_law_50 3 rfl rfl)
theorem dL_law_1275 : decode cL_law 1275 = .ok (.aload_n 0, 1) := dk_42 (dk_at dksL_law_50 4 rfl rfl)
theorem dL_law_1276 : decode cL_law 1276 = .ok (.iload 4, 2) := dk_21 4 (dk_at dksL_law_50 5 rfl rfl)
theorem dL_law_1278 : decode cL_law 1278 = .ok (.iconst 1, 1) := dk_4 (dk_at dksL_law_50 7 rfl rfl)
theorem dL_law_1279 : decode cL_law 1279 = .ok (.iadd, 1) := dk_96 (dk_at dksL_law_50 8 rfl rfl)
theorem dL_law_1280 : decode cL_law 1280 = .ok (.iaload, 1) := dk_46 (dk_at dksL_law_50 9 rfl rfl)
theorem dL_law_1281 : decode cL_law 1281 = .ok (.aload_n 0, 1) := dk_42 (dk_at dksL_law_50 10 rfl rfl)
theorem dL_law_1282 : decode cL_law 1282 = .ok (.iload 4, 2) := dk_21 4 (dk_at dksL_law_50 11 rfl rfl)
theorem dL_law_1284 : decode cL_law 1284 = .ok (.iconst 2, 1) := dk_5 (dk_at dksL_law_50 13 rfl rfl)
theorem dL_law_1285 : decode cL_law 1285 = .ok (.iadd, 1) := dk_96 (dk_at dksL_law_50 14 rfl rfl)
theorem dL_law_1286 : decode cL_law 1286 = .ok (.iaload, 1) := dk_46 (dk_at dksL_law_50 15 rfl rfl)
theorem dL_law_1287 : decode cL_law 1287 = .ok (.aload_n 3, 1) := dk_45 (dk_at dksL_law_50 16 rfl rfl)
theorem dL_law_1288 : decode cL_law 1288 = .ok (.invokestatic 166, 3) := dk_184 0 166 (dk_at dksL_law_50 17 rfl rfl)
theorem dL_law_1291 : decode cL_law 1291 = .ok (.istore 5, 2) := dk_54 5 (dk_at dksL_law_50 20 rfl rfl)
theorem dL_law_1293 : decode cL_law 1293 = .ok (.aload_n 2, 1) := dk_44 (dk_at dksL_law_50 22 rfl rfl)
theorem dL_law_1294 : decode cL_law 1294 = .ok (.aload_n 0, 1) := dk_42 (dk_at dksL_law_50 23 rfl rfl)
theorem dL_law_1295 : decode cL_law 1295 = .ok (.iload 4, 2) := dk_21 4 (dk_at dksL_law_51 0 rfl rfl)
theorem dL_law_1297 : decode cL_law 1297 = .ok (.iconst 1, 1) := dk_4 (dk_at dksL_law_51 2 rfl rfl)
theorem dL_law_1298 : decode cL_law 1298 = .ok (.iadd, 1) := dk_96 (dk_at dksL_law_51 3 rfl rfl)
theorem dL_law_1299 : decode cL_law 1299 = .ok (.iaload, 1) := dk_46 (dk_at dksL_law_51 4 rfl rfl)
theorem dL_law_1300 : decode cL_law 1300 = .ok (.aload_n 0, 1) := dk_42 (dk_at dksL_law_51 5 rfl rfl)
theorem dL_law_1301 : decode cL_law 1301 = .ok (.iload 4, 2) := dk_21 4 (dk_at dksL_law_51 6 rfl rfl)
theorem dL_law_1303 : decode cL_law 1303 = .ok (.iconst 2, 1) := dk_5 (dk_at dksL_law_51 8 rfl rfl)
theorem dL_law_1304 : decode cL_law 1304 = .ok (.iadd, 1) := dk_96 (dk_at dksL_law_51 9 rfl rfl)
theorem dL_law_1305 : decode cL_law 1305 = .ok (.iaload, 1) := dk_46 (dk_at dksL_law_51 10 rfl rfl)
theorem dL_law_1306 : decode cL_law 1306 = .ok (.invokevirtual 168, 3) := dk_182 0 168 (dk_at dksL_law_51 11 rfl rfl)
theorem dL_law_1309 : decode cL_law 1309 = .ok (.istore 6, 2) := dk_54 6 (dk_at dksL_law_51 14 rfl rfl)
theorem dL_law_1311 : decode cL_law 1311 = .ok (.aload_n 2, 1) := dk_44 (dk_at dksL_law_51 16 rfl rfl)
theorem dL_law_1312 : decode cL_law 1312 = .ok (.invokevirtual 107, 3) := dk_182 0 107 (dk_at dksL_law_51 17 rfl rfl)
theorem dL_law_1315 : decode cL_law 1315 = .ok (.iload 5, 2) := dk_21 5 (dk_at dksL_law_51 20 rfl rfl)
theorem dL_law_1317 : decode cL_law 1317 = .ok (.if_icmp .eq 5, 3) := dk_159 0 5 (dk_at dksL_law_52 0 rfl rfl)
theorem dL_law_1320 : decode cL_law 1320 = .ok (.iconst 0, 1) := dk_3 (dk_at dksL_law_52 3 rfl rfl)
theorem dL_law_1321 : decode cL_law 1321 = .ok (.ireturn, 1) := dk_172 (dk_at dksL_law_52 4 rfl rfl)
theorem dL_law_1322 : decode cL_law 1322 = .ok (.iload 5, 2) := dk_21 5 (dk_at dksL_law_52 5 rfl rfl)
theorem dL_law_1324 : decode cL_law 1324 = .ok (.ifCond .ne 15, 3) := dk_154 0 15 (dk_at dksL_law_52 7 rfl rfl)
theorem dL_law_1327 : decode cL_law 1327 = .ok (.aload_n 3, 1) := dk_45 (dk_at dksL_law_52 10 rfl rfl)
theorem dL_law_1328 : decode cL_law 1328 = .ok (.iconst 0, 1) := dk_3 (dk_at dksL_law_52 11 rfl rfl)
theorem dL_law_1329 : decode cL_law 1329 = .ok (.laload, 1) := dk_47 (dk_at dksL_law_52 12 rfl rfl)
theorem dL_law_1330 : decode cL_law 1330 = .ok (.iload 6, 2) := dk_21 6 (dk_at dksL_law_52 13 rfl rfl)
theorem dL_law_1332 : decode cL_law 1332 = .ok (.i2l, 1) := dk_133 (dk_at dksL_law_52 15 rfl rfl)
theorem dL_law_1333 : decode cL_law 1333 = .ok (.lcmp, 1) := dk_148 (dk_at dksL_law_52 16 rfl rfl)
theorem dL_law_1334 : decode cL_law 1334 = .ok (.ifCond .eq 5, 3) := dk_153 0 5 (dk_at dksL_law_52 17 rfl rfl)
theorem dL_law_1337 : decode cL_law 1337 = .ok (.iconst 0, 1) := dk_3 (dk_at dksL_law_52 20 rfl rfl)
theorem dL_law_1338 : decode cL_law 1338 = .ok (.ireturn, 1) := dk_172 (dk_at dksL_law_52 21 rfl rfl)
theorem dL_law_1339 : decode cL_law 1339 = .ok (.goto 670, 3) := dk_167 2 158 (dk_at dksL_law_53 0 rfl rfl)
theorem dL_law_1342 : decode cL_law 1342 = .ok (.aload_n 1, 1) := dk_43 (dk_at dksL_law_53 3 rfl rfl)
theorem dL_law_1343 : decode cL_law 1343 = .ok (.aload_n 0, 1) := dk_42 (dk_at dksL_law_53 4 rfl rfl)
theorem dL_law_1344 : decode cL_law 1344 = .ok (.iload 4, 2) := dk_21 4 (dk_at dksL_law_53 5 rfl rfl)
theorem dL_law_1346 : decode cL_law 1346 = .ok (.iconst 1, 1) := dk_4 (dk_at dksL_law_53 7 rfl rfl)
theorem dL_law_1347 : decode cL_law 1347 = .ok (.iadd, 1) := dk_96 (dk_at dksL_law_53 8 rfl rfl)
theorem dL_law_1348 : decode cL_law 1348 = .ok (.iaload, 1) := dk_46 (dk_at dksL_law_53 9 rfl rfl)
theorem dL_law_1349 : decode cL_law 1349 = .ok (.aload_n 0, 1) := dk_42 (dk_at dksL_law_53 10 rfl rfl)
theorem dL_law_1350 : decode cL_law 1350 = .ok (.iload 4, 2) := dk_21 4 (dk_at dksL_law_53 11 rfl rfl)
theorem dL_law_1352 : decode cL_law 1352 = .ok (.iconst 2, 1) := dk_5 (dk_at dksL_law_53 13 rfl rfl)
theorem dL_law_1353 : decode cL_law 1353 = .ok (.iadd, 1) := dk_96 (dk_at dksL_law_53 14 rfl rfl)
theorem dL_law_1354 : decode cL_law 1354 = .ok (.iaload, 1) := dk_46 (dk_at dksL_law_53 15 rfl rfl)
theorem dL_law_1355 : decode cL_law 1355 = .ok (.aload_n 3, 1) := dk_45 (dk_at dksL_law_53 16 rfl rfl)
theorem dL_law_1356 : decode cL_law 1356 = .ok (.invokestatic 169, 3) := dk_184 0 169 (dk_at dksL_law_53 17 rfl rfl)
theorem dL_law_1359 : decode cL_law 1359 = .ok (.istore 5, 2) := dk_54 5 (dk_at dksL_law_53 20 rfl rfl)
theorem dL_law_1361 : decode cL_law 1361 = .ok (.aload_n 2, 1) := dk_44 (dk_at dksL_law_53 22 rfl rfl)
theorem dL_law_1362 : decode cL_law 1362 = .ok (.aload_n 0, 1) := dk_42 (dk_at dksL_law_53 23 rfl rfl)
theorem dL_law_1363 : decode cL_law 1363 = .ok (.iload 4, 2) := dk_21 4 (dk_at dksL_law_54 0 rfl rfl)
theorem dL_law_1365 : decode cL_law 1365 = .ok (.iconst 1, 1) := dk_4 (dk_at dksL_law_54 2 rfl rfl)
theorem dL_law_1366 : decode cL_law 1366 = .ok (.iadd, 1) := dk_96 (dk_at dksL_law_54 3 rfl rfl)
theorem dL_law_1367 : decode cL_law 1367 = .ok (.iaload, 1) := dk_46 (dk_at dksL_law_54 4 rfl rfl)
theorem dL_law_1368 : decode cL_law 1368 = .ok (.aload_n 0, 1) := dk_42 (dk_at dksL_law_54 5 rfl rfl)
theorem dL_law_1369 : decode cL_law 1369 = .ok (.iload 4, 2) := dk_21 4 (dk_at dksL_law_54 6 rfl rfl)
theorem dL_law_1371 : decode cL_law 1371 = .ok (.iconst 2, 1) := dk_5 (dk_at dksL_law_54 8 rfl rfl)
theorem dL_law_1372 : decode cL_law 1372 = .ok (.iadd, 1) := dk_96 (dk_at dksL_law_54 9 rfl rfl)
theorem dL_law_1373 : decode cL_law 1373 = .ok (.iaload, 1) := dk_46 (dk_at dksL_law_54 10 rfl rfl)
theorem dL_law_1374 : decode cL_law 1374 = .ok (.invokevirtual 171, 3) := dk_182 0 171 (dk_at dksL_law_54 11 rfl rfl)
theorem dL_law_1377 : decode cL_law 1377 = .ok (.istore 6, 2) := dk_54 6 (dk_at dksL_law_54 14 rfl rfl)
theorem dL_law_1379 : decode cL_law 1379 = .ok (.aload_n 2, 1) := dk_44 (dk_at dksL_law_54 16 rfl rfl)
theorem dL_law_1380 : decode cL_law 1380 = .ok (.invokevirtual 107, 3) := dk_182 0 107 (dk_at dksL_law_54 17 rfl rfl)
theorem dL_law_1383 : decode cL_law 1383 = .ok (.iload 5, 2) := dk_21 5 (dk_at dksL_law_54 20 rfl rfl)
theorem dL_law_1385 : decode cL_law 1385 = .ok (.if_icmp .eq 5, 3) := dk_159 0 5 (dk_at dksL_law_55 0 rfl rfl)
theorem dL_law_1388 : decode cL_law 1388 = .ok (.iconst 0, 1) := dk_3 (dk_at dksL_law_55 3 rfl rfl)
theorem dL_law_1389 : decode cL_law 1389 = .ok (.ireturn, 1) := dk_172 (dk_at dksL_law_55 4 rfl rfl)
theorem dL_law_1390 : decode cL_law 1390 = .ok (.iload 5, 2) := dk_21 5 (dk_at dksL_law_55 5 rfl rfl)
theorem dL_law_1392 : decode cL_law 1392 = .ok (.ifCond .ne 15, 3) := dk_154 0 15 (dk_at dksL_law_55 7 rfl rfl)
theorem dL_law_1395 : decode cL_law 1395 = .ok (.aload_n 3, 1) := dk_45 (dk_at dksL_law_55 10 rfl rfl)
theorem dL_law_1396 : decode cL_law 1396 = .ok (.iconst 0, 1) := dk_3 (dk_at dksL_law_55 11 rfl rfl)
theorem dL_law_1397 : decode cL_law 1397 = .ok (.laload, 1) := dk_47 (dk_at dksL_law_55 12 rfl rfl)
theorem dL_law_1398 : decode cL_law 1398 = .ok (.iload 6, 2) := dk_21 6 (dk_at dksL_law_55 13 rfl rfl)
theorem dL_law_1400 : decode cL_law 1400 = .ok (.i2l, 1) := dk_133 (dk_at dksL_law_55 15 rfl rfl)
theorem dL_law_1401 : decode cL_law 1401 = .ok (.lcmp, 1) := dk_148 (dk_at dksL_law_55 16 rfl rfl)
theorem dL_law_1402 : decode cL_law 1402 = .ok (.ifCond .eq 5, 3) := dk_153 0 5 (dk_at dksL_law_55 17 rfl rfl)
theorem dL_law_1405 : decode cL_law 1405 = .ok (.iconst 0, 1) := dk_3 (dk_at dksL_law_55 20 rfl rfl)
theorem dL_law_1406 : decode cL_law 1406 = .ok (.ireturn, 1) := dk_172 (dk_at dksL_law_55 21 rfl rfl)
theorem dL_law_1407 : decode cL_law 1407 = .ok (.goto 602, 3) := dk_167 2 90 (dk_at dksL_law_56 0 rfl rfl)
theorem dL_law_1410 : decode cL_law 1410 = .ok (.aload_n 1, 1) := dk_43 (dk_at dksL_law_56 3 rfl rfl)
theorem dL_law_1411 : decode cL_law 1411 = .ok (.aload_n 0, 1) := dk_42 (dk_at dksL_law_56 4 rfl rfl)
theorem dL_law_1412 : decode cL_law 1412 = .ok (.iload 4, 2) := dk_21 4 (dk_at dksL_law_56 5 rfl rfl)
theorem dL_law_1414 : decode cL_law 1414 = .ok (.iconst 1, 1) := dk_4 (dk_at dksL_law_56 7 rfl rfl)
theorem dL_law_1415 : decode cL_law 1415 = .ok (.iadd, 1) := dk_96 (dk_at dksL_law_56 8 rfl rfl)
theorem dL_law_1416 : decode cL_law 1416 = .ok (.iaload, 1) := dk_46 (dk_at dksL_law_56 9 rfl rfl)
theorem dL_law_1417 : decode cL_law 1417 = .ok (.aload_n 3, 1) := dk_45 (dk_at dksL_law_56 10 rfl rfl)
theorem dL_law_1418 : decode cL_law 1418 = .ok (.invokestatic 172, 3) := dk_184 0 172 (dk_at dksL_law_56 11 rfl rfl)
theorem dL_law_1421 : decode cL_law 1421 = .ok (.istore 5, 2) := dk_54 5 (dk_at dksL_law_56 14 rfl rfl)
theorem dL_law_1423 : decode cL_law 1423 = .ok (.aload_n 2, 1) := dk_44 (dk_at dksL_law_56 16 rfl rfl)
theorem dL_law_1424 : decode cL_law 1424 = .ok (.aload_n 0, 1) := dk_42 (dk_at dksL_law_56 17 rfl rfl)
theorem dL_law_1425 : decode cL_law 1425 = .ok (.iload 4, 2) := dk_21 4 (dk_at dksL_law_56 18 rfl rfl)
theorem dL_law_1427 : decode cL_law 1427 = .ok (.iconst 1, 1) := dk_4 (dk_at dksL_law_56 20 rfl rfl)
theorem dL_law_1428 : decode cL_law 1428 = .ok (.iadd, 1) := dk_96 (dk_at dksL_law_56 21 rfl rfl)
theorem dL_law_1429 : decode cL_law 1429 = .ok (.iaload, 1) := dk_46 (dk_at dksL_law_56 22 rfl rfl)
theorem dL_law_1430 : decode cL_law 1430 = .ok (.invokevirtual 174, 3) := dk_182 0 174 (dk_at dksL_law_57 0 rfl rfl)
theorem dL_law_1433 : decode cL_law 1433 = .ok (.istore 6, 2) := dk_54 6 (dk_at dksL_law_57 3 rfl rfl)
theorem dL_law_1435 : decode cL_law 1435 = .ok (.aload_n 2, 1) := dk_44 (dk_at dksL_law_57 5 rfl rfl)
theorem dL_law_1436 : decode cL_law 1436 = .ok (.invokevirtual 107, 3) := dk_182 0 107 (dk_at dksL_law_57 6 rfl rfl)
theorem dL_law_1439 : decode cL_law 1439 = .ok (.iload 5, 2) := dk_21 5 (dk_at dksL_law_57 9 rfl rfl)
theorem dL_law_1441 : decode cL_law 1441 = .ok (.if_icmp .eq 5, 3) := dk_159 0 5 (dk_at dksL_law_57 11 rfl rfl)
theorem dL_law_1444 : decode cL_law 1444 = .ok (.iconst 0, 1) := dk_3 (dk_at dksL_law_57 14 rfl rfl)
theorem dL_law_1445 : decode cL_law 1445 = .ok (.ireturn, 1) := dk_172 (dk_at dksL_law_57 15 rfl rfl)
theorem dL_law_1446 : decode cL_law 1446 = .ok (.iload 5, 2) := dk_21 5 (dk_at dksL_law_57 16 rfl rfl)
theorem dL_law_1448 : decode cL_law 1448 = .ok (.ifCond .ne 15, 3) := dk_154 0 15 (dk_at dksL_law_57 18 rfl rfl)
theorem dL_law_1451 : decode cL_law 1451 = .ok (.aload_n 3, 1) := dk_45 (dk_at dksL_law_57 21 rfl rfl)
theorem dL_law_1452 : decode cL_law 1452 = .ok (.iconst 0, 1) := dk_3 (dk_at dksL_law_57 22 rfl rfl)
theorem dL_law_1453 : decode cL_law 1453 = .ok (.laload, 1) := dk_47 (dk_at dksL_law_57 23 rfl rfl)
theorem dL_law_1454 : decode cL_law 1454 = .ok (.iload 6, 2) := dk_21 6 (dk_at dksL_law_58 0 rfl rfl)
theorem dL_law_1456 : decode cL_law 1456 = .ok (.i2l, 1) := dk_133 (dk_at dksL_law_58 2 rfl rfl)
theorem dL_law_1457 : decode cL_law 1457 = .ok (.lcmp, 1) := dk_148 (dk_at dksL_law_58 3 rfl rfl)
theorem dL_law_1458 : decode cL_law 1458 = .ok (.ifCond .eq 5, 3) := dk_153 0 5 (dk_at dksL_law_58 4 rfl rfl)
theorem dL_law_1461 : decode cL_law 1461 = .ok (.iconst 0, 1) := dk_3 (dk_at dksL_law_58 7 rfl rfl)
theorem dL_law_1462 : decode cL_law 1462 = .ok (.ireturn, 1) := dk_172 (dk_at dksL_law_58 8 rfl rfl)
theorem dL_law_1463 : decode cL_law 1463 = .ok (.goto 546, 3) := dk_167 2 34 (dk_at dksL_law_58 9 rfl rfl)
theorem dL_law_1466 : decode cL_law 1466 = .ok (.aload_n 1, 1) := dk_43 (dk_at dksL_law_58 12 rfl rfl)
theorem dL_law_1467 : decode cL_law 1467 = .ok (.aload_n 0, 1) := dk_42 (dk_at dksL_law_58 13 rfl rfl)
theorem dL_law_1468 : decode cL_law 1468 = .ok (.iload 4, 2) := dk_21 4 (dk_at dksL_law_58 14 rfl rfl)
theorem dL_law_1470 : decode cL_law 1470 = .ok (.iconst 1, 1) := dk_4 (dk_at dksL_law_58 16 rfl rfl)
theorem dL_law_1471 : decode cL_law 1471 = .ok (.iadd, 1) := dk_96 (dk_at dksL_law_58 17 rfl rfl)
theorem dL_law_1472 : decode cL_law 1472 = .ok (.iaload, 1) := dk_46 (dk_at dksL_law_58 18 rfl rfl)
theorem dL_law_1473 : decode cL_law 1473 = .ok (.aload_n 3, 1) := dk_45 (dk_at dksL_law_58 19 rfl rfl)
theorem dL_law_1474 : decode cL_law 1474 = .ok (.invokestatic 175, 3) := dk_184 0 175 (dk_at dksL_law_58 20 rfl rfl)
theorem dL_law_1477 : decode cL_law 1477 = .ok (.istore 5, 2) := dk_54 5 (dk_at dksL_law_59 0 rfl rfl)
theorem dL_law_1479 : decode cL_law 1479 = .ok (.aload_n 2, 1) := dk_44 (dk_at dksL_law_59 2 rfl rfl)
theorem dL_law_1480 : decode cL_law 1480 = .ok (.aload_n 0, 1) := dk_42 (dk_at dksL_law_59 3 rfl rfl)
theorem dL_law_1481 : decode cL_law 1481 = .ok (.iload 4, 2) := dk_21 4 (dk_at dksL_law_59 4 rfl rfl)
theorem dL_law_1483 : decode cL_law 1483 = .ok (.iconst 1, 1) := dk_4 (dk_at dksL_law_59 6 rfl rfl)
theorem dL_law_1484 : decode cL_law 1484 = .ok (.iadd, 1) := dk_96 (dk_at dksL_law_59 7 rfl rfl)
theorem dL_law_1485 : decode cL_law 1485 = .ok (.iaload, 1) := dk_46 (dk_at dksL_law_59 8 rfl rfl)
theorem dL_law_1486 : decode cL_law 1486 = .ok (.invokevirtual 177, 3) := dk_182 0 177 (dk_at dksL_law_59 9 rfl rfl)
theorem dL_law_1489 : decode cL_law 1489 = .ok (.istore 6, 2) := dk_54 6 (dk_at dksL_law_59 12 rfl rfl)
theorem dL_law_1491 : decode cL_law 1491 = .ok (.aload_n 2, 1) := dk_44 (dk_at dksL_law_59 14 rfl rfl)
theorem dL_law_1492 : decode cL_law 1492 = .ok (.invokevirtual 107, 3) := dk_182 0 107 (dk_at dksL_law_59 15 rfl rfl)
theorem dL_law_1495 : decode cL_law 1495 = .ok (.iload 5, 2) := dk_21 5 (dk_at dksL_law_59 18 rfl rfl)
theorem dL_law_1497 : decode cL_law 1497 = .ok (.if_icmp .eq 5, 3) := dk_159 0 5 (dk_at dksL_law_59 20 rfl rfl)
theorem dL_law_1500 : decode cL_law 1500 = .ok (.iconst 0, 1) := dk_3 (dk_at dksL_law_59 23 rfl rfl)
theorem dL_law_1501 : decode cL_law 1501 = .ok (.ireturn, 1) := dk_172 (dk_at dksL_law_60 0 rfl rfl)
theorem dL_law_1502 : decode cL_law 1502 = .ok (.iload 5, 2) := dk_21 5 (dk_at dksL_law_60 1 rfl rfl)
theorem dL_law_1504 : decode cL_law 1504 = .ok (.ifCond .ne 15, 3) := dk_154 0 15 (dk_at dksL_law_60 3 rfl rfl)
theorem dL_law_1507 : decode cL_law 1507 = .ok (.aload_n 3, 1) := dk_45 (dk_at dksL_law_60 6 rfl rfl)
theorem dL_law_1508 : decode cL_law 1508 = .ok (.iconst 0, 1) := dk_3 (dk_at dksL_law_60 7 rfl rfl)
theorem dL_law_1509 : decode cL_law 1509 = .ok (.laload, 1) := dk_47 (dk_at dksL_law_60 8 rfl rfl)
theorem dL_law_1510 : decode cL_law 1510 = .ok (.iload 6, 2) := dk_21 6 (dk_at dksL_law_60 9 rfl rfl)
theorem dL_law_1512 : decode cL_law 1512 = .ok (.i2l, 1) := dk_133 (dk_at dksL_law_60 11 rfl rfl)
theorem dL_law_1513 : decode cL_law 1513 = .ok (.lcmp, 1) := dk_148 (dk_at dksL_law_60 12 rfl rfl)
theorem dL_law_1514 : decode cL_law 1514 = .ok (.ifCond .eq 5, 3) := dk_153 0 5 (dk_at dksL_law_60 13 rfl rfl)
theorem dL_law_1517 : decode cL_law 1517 = .ok (.iconst 0, 1) := dk_3 (dk_at dksL_law_60 16 rfl rfl)
theorem dL_law_1518 : decode cL_law 1518 = .ok (.ireturn, 1) := dk_172 (dk_at dksL_law_60 17 rfl rfl)
theorem dL_law_1519 : decode cL_law 1519 = .ok (.goto 490, 3) := dk_167 1 234 (dk_at dksL_law_60 18 rfl rfl)
theorem dL_law_1522 : decode cL_law 1522 = .ok (.aload_n 1, 1) := dk_43 (dk_at dksL_law_60 21 rfl rfl)
theorem dL_law_1523 : decode cL_law 1523 = .ok (.aload_n 0, 1) := dk_42 (dk_at dksL_law_60 22 rfl rfl)
theorem dL_law_1524 : decode cL_law 1524 = .ok (.iload 4, 2) := dk_21 4 (dk_at dksL_law_61 0 rfl rfl)
theorem dL_law_1526 : decode cL_law 1526 = .ok (.iconst 1, 1) := dk_4 (dk_at dksL_law_61 2 rfl rfl)
theorem dL_law_1527 : decode cL_law 1527 = .ok (.iadd, 1) := dk_96 (dk_at dksL_law_61 3 rfl rfl)
theorem dL_law_1528 : decode cL_law 1528 = .ok (.iaload, 1) := dk_46 (dk_at dksL_law_61 4 rfl rfl)
theorem dL_law_1529 : decode cL_law 1529 = .ok (.aload_n 0, 1) := dk_42 (dk_at dksL_law_61 5 rfl rfl)
theorem dL_law_1530 : decode cL_law 1530 = .ok (.iload 4, 2) := dk_21 4 (dk_at dksL_law_61 6 rfl rfl)
theorem dL_law_1532 : decode cL_law 1532 = .ok (.iconst 2, 1) := dk_5 (dk_at dksL_law_61 8 rfl rfl)
theorem dL_law_1533 : decode cL_law 1533 = .ok (.iadd, 1) := dk_96 (dk_at dksL_law_61 9 rfl rfl)
theorem dL_law_1534 : decode cL_law 1534 = .ok (.iaload, 1) := dk_46 (dk_at dksL_law_61 10 rfl rfl)
theorem dL_law_1535 : decode cL_law 1535 = .ok (.aload_n 0, 1) := dk_42 (dk_at dksL_law_61 11 rfl rfl)
theorem dL_law_1536 : decode cL_law 1536 = .ok (.iload 4, 2) := dk_21 4 (dk_at dksL_law_61 12 rfl rfl)
theorem dL_law_1538 : decode cL_law 1538 = .ok (.iconst 3, 1) := dk_6 (dk_at dksL_law_61 14 rfl rfl)
theorem dL_law_1539 : decode cL_law 1539 = .ok (.iadd, 1) := dk_96 (dk_at dksL_law_61 15 rfl rfl)
theorem dL_law_1540 : decode cL_law 1540 = .ok (.iaload, 1) := dk_46 (dk_at dksL_law_61 16 rfl rfl)
theorem dL_law_1541 : decode cL_law 1541 = .ok (.aload_n 3, 1) := dk_45 (dk_at dksL_law_61 17 rfl rfl)
theorem dL_law_1542 : decode cL_law 1542 = .ok (.invokestatic 178, 3) := dk_184 0 178 (dk_at dksL_law_61 18 rfl rfl)
theorem dL_law_1545 : decode cL_law 1545 = .ok (.istore 5, 2) := dk_54 5 (dk_at dksL_law_61 21 rfl rfl)
theorem dL_law_1547 : decode cL_law 1547 = .ok (.aload_n 2, 1) := dk_44 (dk_at dksL_law_61 23 rfl rfl)
theorem dL_law_1548 : decode cL_law 1548 = .ok (.aload_n 0, 1) := dk_42 (dk_at dksL_law_62 0 rfl rfl)
theorem dL_law_1549 : decode cL_law 1549 = .ok (.iload 4, 2) := dk_21 4 (dk_at dksL_law_62 1 rfl rfl)
theorem dL_law_1551 : decode cL_law 1551 = .ok (.iconst 1, 1) := dk_4 (dk_at dksL_law_62 3 rfl rfl)
theorem dL_law_1552 : decode cL_law 1552 = .ok (.iadd, 1) := dk_96 (dk_at dksL_law_62 4 rfl rfl)
theorem dL_law_1553 : decode cL_law 1553 = .ok (.iaload, 1) := dk_46 (dk_at dksL_law_62 5 rfl rfl)
theorem dL_law_1554 : decode cL_law 1554 = .ok (.aload_n 0, 1) := dk_42 (dk_at dksL_law_62 6 rfl rfl)
theorem dL_law_1555 : decode cL_law 1555 = .ok (.iload 4, 2) := dk_21 4 (dk_at dksL_law_62 7 rfl rfl)
theorem dL_law_1557 : decode cL_law 1557 = .ok (.iconst 2, 1) := dk_5 (dk_at dksL_law_62 9 rfl rfl)
theorem dL_law_1558 : decode cL_law 1558 = .ok (.iadd, 1) := dk_96 (dk_at dksL_law_62 10 rfl rfl)
theorem dL_law_1559 : decode cL_law 1559 = .ok (.iaload, 1) := dk_46 (dk_at dksL_law_62 11 rfl rfl)
theorem dL_law_1560 : decode cL_law 1560 = .ok (.aload_n 0, 1) := dk_42 (dk_at dksL_law_62 12 rfl rfl)
theorem dL_law_1561 : decode cL_law 1561 = .ok (.iload 4, 2) := dk_21 4 (dk_at dksL_law_62 13 rfl rfl)
theorem dL_law_1563 : decode cL_law 1563 = .ok (.iconst 3, 1) := dk_6 (dk_at dksL_law_62 15 rfl rfl)
theorem dL_law_1564 : decode cL_law 1564 = .ok (.iadd, 1) := dk_96 (dk_at dksL_law_62 16 rfl rfl)
theorem dL_law_1565 : decode cL_law 1565 = .ok (.iaload, 1) := dk_46 (dk_at dksL_law_62 17 rfl rfl)
theorem dL_law_1566 : decode cL_law 1566 = .ok (.invokevirtual 180, 3) := dk_182 0 180 (dk_at dksL_law_62 18 rfl rfl)
theorem dL_law_1569 : decode cL_law 1569 = .ok (.istore 6, 2) := dk_54 6 (dk_at dksL_law_62 21 rfl rfl)
theorem dL_law_1571 : decode cL_law 1571 = .ok (.aload_n 2, 1) := dk_44 (dk_at dksL_law_62 23 rfl rfl)
theorem dL_law_1572 : decode cL_law 1572 = .ok (.invokevirtual 107, 3) := dk_182 0 107 (dk_at dksL_law_63 0 rfl rfl)
theorem dL_law_1575 : decode cL_law 1575 = .ok (.iload 5, 2) := dk_21 5 (dk_at dksL_law_63 3 rfl rfl)
theorem dL_law_1577 : decode cL_law 1577 = .ok (.if_icmp .eq 5, 3) := dk_159 0 5 (dk_at dksL_law_63 5 rfl rfl)
theorem dL_law_1580 : decode cL_law 1580 = .ok (.iconst 0, 1) := dk_3 (dk_at dksL_law_63 8 rfl rfl)
theorem dL_law_1581 : decode cL_law 1581 = .ok (.ireturn, 1) := dk_172 (dk_at dksL_law_63 9 rfl rfl)
theorem dL_law_1582 : decode cL_law 1582 = .ok (.iload 5, 2) := dk_21 5 (dk_at dksL_law_63 10 rfl rfl)
theorem dL_law_1584 : decode cL_law 1584 = .ok (.ifCond .ne 15, 3) := dk_154 0 15 (dk_at dksL_law_63 12 rfl rfl)
theorem dL_law_1587 : decode cL_law 1587 = .ok (.aload_n 3, 1) := dk_45 (dk_at dksL_law_63 15 rfl rfl)
theorem dL_law_1588 : decode cL_law 1588 = .ok (.iconst 0, 1) := dk_3 (dk_at dksL_law_63 16 rfl rfl)
theorem dL_law_1589 : decode cL_law 1589 = .ok (.laload, 1) := dk_47 (dk_at dksL_law_63 17 rfl rfl)
theorem dL_law_1590 : decode cL_law 1590 = .ok (.iload 6, 2) := dk_21 6 (dk_at dksL_law_63 18 rfl rfl)
theorem dL_law_1592 : decode cL_law 1592 = .ok (.i2l, 1) := dk_133 (dk_at dksL_law_63 20 rfl rfl)
theorem dL_law_1593 : decode cL_law 1593 = .ok (.lcmp, 1) := dk_148 (dk_at dksL_law_63 21 rfl rfl)
theorem dL_law_1594 : decode cL_law 1594 = .ok (.ifCond .eq 5, 3) := dk_153 0 5 (dk_at dksL_law_64 0 rfl rfl)
theorem dL_law_1597 : decode cL_law 1597 = .ok (.iconst 0, 1) := dk_3 (dk_at dksL_law_64 3 rfl rfl)
theorem dL_law_1598 : decode cL_law 1598 = .ok (.ireturn, 1) := dk_172 (dk_at dksL_law_64 4 rfl rfl)
theorem dL_law_1599 : decode cL_law 1599 = .ok (.goto 410, 3) := dk_167 1 154 (dk_at dksL_law_64 5 rfl rfl)
theorem dL_law_1602 : decode cL_law 1602 = .ok (.aload_n 1, 1) := dk_43 (dk_at dksL_law_64 8 rfl rfl)
theorem dL_law_1603 : decode cL_law 1603 = .ok (.aload_n 0, 1) := dk_42 (dk_at dksL_law_64 9 rfl rfl)
theorem dL_law_1604 : decode cL_law 1604 = .ok (.iload 4, 2) := dk_21 4 (dk_at dksL_law_64 10 rfl rfl)
theorem dL_law_1606 : decode cL_law 1606 = .ok (.iconst 1, 1) := dk_4 (dk_at dksL_law_64 12 rfl rfl)
theorem dL_law_1607 : decode cL_law 1607 = .ok (.iadd, 1) := dk_96 (dk_at dksL_law_64 13 rfl rfl)
theorem dL_law_1608 : decode cL_law 1608 = .ok (.iaload, 1) := dk_46 (dk_at dksL_law_64 14 rfl rfl)
theorem dL_law_1609 : decode cL_law 1609 = .ok (.aload_n 0, 1) := dk_42 (dk_at dksL_law_64 15 rfl rfl)
theorem dL_law_1610 : decode cL_law 1610 = .ok (.iload 4, 2) := dk_21 4 (dk_at dksL_law_64 16 rfl rfl)
theorem dL_law_1612 : decode cL_law 1612 = .ok (.iconst 2, 1) := dk_5 (dk_at dksL_law_64 18 rfl rfl)
theorem dL_law_1613 : decode cL_law 1613 = .ok (.iadd, 1) := dk_96 (dk_at dksL_law_64 19 rfl rfl)
theorem dL_law_1614 : decode cL_law 1614 = .ok (.iaload, 1) := dk_46 (dk_at dksL_law_64 20 rfl rfl)
theorem dL_law_1615 : decode cL_law 1615 = .ok (.aload_n 0, 1) := dk_42 (dk_at dksL_law_64 21 rfl rfl)
theorem dL_law_1616 : decode cL_law 1616 = .ok (.iload 4, 2) := dk_21 4 (dk_at dksL_law_64 22 rfl rfl)
theorem dL_law_1618 : decode cL_law 1618 = .ok (.iconst 3, 1) := dk_6 (dk_at dksL_law_65 0 rfl rfl)
theorem dL_law_1619 : decode cL_law 1619 = .ok (.iadd, 1) := dk_96 (dk_at dksL_law_65 1 rfl rfl)
theorem dL_law_1620 : decode cL_law 1620 = .ok (.iaload, 1) := dk_46 (dk_at dksL_law_65 2 rfl rfl)
theorem dL_law_1621 : decode cL_law 1621 = .ok (.aload_n 3, 1) := dk_45 (dk_at dksL_law_65 3 rfl rfl)
theorem dL_law_1622 : decode cL_law 1622 = .ok (.invokestatic 181, 3) := dk_184 0 181 (dk_at dksL_law_65 4 rfl rfl)
theorem dL_law_1625 : decode cL_law 1625 = .ok (.istore 5, 2) := dk_54 5 (dk_at dksL_law_65 7 rfl rfl)
theorem dL_law_1627 : decode cL_law 1627 = .ok (.aload_n 2, 1) := dk_44 (dk_at dksL_law_65 9 rfl rfl)
theorem dL_law_1628 : decode cL_law 1628 = .ok (.aload_n 0, 1) := dk_42 (dk_at dksL_law_65 10 rfl rfl)
theorem dL_law_1629 : decode cL_law 1629 = .ok (.iload 4, 2) := dk_21 4 (dk_at dksL_law_65 11 rfl rfl)
theorem dL_law_1631 : decode cL_law 1631 = .ok (.iconst 1, 1) := dk_4 (dk_at dksL_law_65 13 rfl rfl)
theorem dL_law_1632 : decode cL_law 1632 = .ok (.iadd, 1) := dk_96 (dk_at dksL_law_65 14 rfl rfl)
theorem dL_law_1633 : decode cL_law 1633 = .ok (.iaload, 1) := dk_46 (dk_at dksL_law_65 15 rfl rfl)
theorem dL_law_1634 : decode cL_law 1634 = .ok (.aload_n 0, 1) := dk_42 (dk_at dksL_law_65 16 rfl rfl)
theorem dL_law_1635 : decode cL_law 1635 = .ok (.iload 4, 2) := dk_21 4 (dk_at dksL_law_65 17 rfl rfl)
theorem dL_law_1637 : decode cL_law 1637 = .ok (.iconst 2, 1) := dk_5 (dk_at dksL_law_65 19 rfl rfl)
theorem dL_law_1638 : decode cL_law 1638 = .ok (.iadd, 1) := dk_96 (dk_at dksL_law_65 20 rfl rfl)
theorem dL_law_1639 : decode cL_law 1639 = .ok (.iaload, 1) := dk_46 (dk_at dksL_law_65 21 rfl rfl)
theorem dL_law_1640 : decode cL_law 1640 = .ok (.aload_n 0, 1) := dk_42 (dk_at dksL_law_65 22 rfl rfl)
theorem dL_law_1641 : decode cL_law 1641 = .ok (.iload 4, 2) := dk_21 4 (dk_at dksL_law_66 0 rfl rfl)
theorem dL_law_1643 : decode cL_law 1643 = .ok (.iconst 3, 1) := dk_6 (dk_at dksL_law_66 2 rfl rfl)
theorem dL_law_1644 : decode cL_law 1644 = .ok (.iadd, 1) := dk_96 (dk_at dksL_law_66 3 rfl rfl)
theorem dL_law_1645 : decode cL_law 1645 = .ok (.iaload, 1) := dk_46 (dk_at dksL_law_66 4 rfl rfl)
theorem dL_law_1646 : decode cL_law 1646 = .ok (.invokevirtual 183, 3) := dk_182 0 183 (dk_at dksL_law_66 5 rfl rfl)
theorem dL_law_1649 : decode cL_law 1649 = .ok (.istore 6, 2) := dk_54 6 (dk_at dksL_law_66 8 rfl rfl)
theorem dL_law_1651 : decode cL_law 1651 = .ok (.aload_n 2, 1) := dk_44 (dk_at dksL_law_66 10 rfl rfl)
theorem dL_law_1652 : decode cL_law 1652 = .ok (.invokevirtual 107, 3) := dk_182 0 107 (dk_at dksL_law_66 11 rfl rfl)
theorem dL_law_1655 : decode cL_law 1655 = .ok (.iload 5, 2) := dk_21 5 (dk_at dksL_law_66 14 rfl rfl)
theorem dL_law_1657 : decode cL_law 1657 = .ok (.if_icmp .eq 5, 3) := dk_159 0 5 (dk_at dksL_law_66 16 rfl rfl)
theorem dL_law_1660 : decode cL_law 1660 = .ok (.iconst 0, 1) := dk_3 (dk_at dksL_law_66 19 rfl rfl)
theorem dL_law_1661 : decode cL_law 1661 = .ok (.ireturn, 1) := dk_172 (dk_at dksL_law_66 20 rfl rfl)
theorem dL_law_1662 : decode cL_law 1662 = .ok (.iload 5, 2) := dk_21 5 (dk_at dksL_law_66 21 rfl rfl)
theorem dL_law_1664 : decode cL_law 1664 = .ok (.ifCond .ne 15, 3) := dk_154 0 15 (dk_at dksL_law_67 0 rfl rfl)
theorem dL_law_1667 : decode cL_law 1667 = .ok (.aload_n 3, 1) := dk_45 (dk_at dksL_law_67 3 rfl rfl)
theorem dL_law_1668 : decode cL_law 1668 = .ok (.iconst 0, 1) := dk_3 (dk_at dksL_law_67 4 rfl rfl)
theorem dL_law_1669 : decode cL_law 1669 = .ok (.laload, 1) := dk_47 (dk_at dksL_law_67 5 rfl rfl)
theorem dL_law_1670 : decode cL_law 1670 = .ok (.iload 6, 2) := dk_21 6 (dk_at dksL_law_67 6 rfl rfl)
theorem dL_law_1672 : decode cL_law 1672 = .ok (.i2l, 1) := dk_133 (dk_at dksL_law_67 8 rfl rfl)
theorem dL_law_1673 : decode cL_law 1673 = .ok (.lcmp, 1) := dk_148 (dk_at dksL_law_67 9 rfl rfl)
theorem dL_law_1674 : decode cL_law 1674 = .ok (.ifCond .eq 5, 3) := dk_153 0 5 (dk_at dksL_law_67 10 rfl rfl)
theorem dL_law_1677 : decode cL_law 1677 = .ok (.iconst 0, 1) := dk_3 (dk_at dksL_law_67 13 rfl rfl)
theorem dL_law_1678 : decode cL_law 1678 = .ok (.ireturn, 1) := dk_172 (dk_at dksL_law_67 14 rfl rfl)
theorem dL_law_1679 : decode cL_law 1679 = .ok (.goto 330, 3) := dk_167 1 74 (dk_at dksL_law_67 15 rfl rfl)
theorem dL_law_1682 : decode cL_law 1682 = .ok (.aload_n 1, 1) := dk_43 (dk_at dksL_law_67 18 rfl rfl)
theorem dL_law_1683 : decode cL_law 1683 = .ok (.aload_n 0, 1) := dk_42 (dk_at dksL_law_67 19 rfl rfl)
theorem dL_law_1684 : decode cL_law 1684 = .ok (.iload 4, 2) := dk_21 4 (dk_at dksL_law_67 20 rfl rfl)
theorem dL_law_1686 : decode cL_law 1686 = .ok (.iconst 1, 1) := dk_4 (dk_at dksL_law_67 22 rfl rfl)
theorem dL_law_1687 : decode cL_law 1687 = .ok (.iadd, 1) := dk_96 (dk_at dksL_law_67 23 rfl rfl)
theorem dL_law_1688 : decode cL_law 1688 = .ok (.iaload, 1) := dk_46 (dk_at dksL_law_68 0 rfl rfl)
theorem dL_law_1689 : decode cL_law 1689 = .ok (.aload_n 0, 1) := dk_42 (dk_at dksL_law_68 1 rfl rfl)
theorem dL_law_1690 : decode cL_law 1690 = .ok (.iload 4, 2) := dk_21 4 (dk_at dksL_law_68 2 rfl rfl)
theorem dL_law_1692 : decode cL_law 1692 = .ok (.iconst 2, 1) := dk_5 (dk_at dksL_law_68 4 rfl rfl)
theorem dL_law_1693 : decode cL_law 1693 = .ok (.iadd, 1) := dk_96 (dk_at dksL_law_68 5 rfl rfl)
theorem dL_law_1694 : decode cL_law 1694 = .ok (.iaload, 1) := dk_46 (dk_at dksL_law_68 6 rfl rfl)
theorem dL_law_1695 : decode cL_law 1695 = .ok (.aload_n 3, 1) := dk_45 (dk_at dksL_law_68 7 rfl rfl)
theorem dL_law_1696 : decode cL_law 1696 = .ok (.invokestatic 184, 3) := dk_184 0 184 (dk_at dksL_law_68 8 rfl rfl)
theorem dL_law_1699 : decode cL_law 1699 = .ok (.istore 5, 2) := dk_54 5 (dk_at dksL_law_68 11 rfl rfl)
theorem dL_law_1701 : decode cL_law 1701 = .ok (.aload_n 2, 1) := dk_44 (dk_at dksL_law_68 13 rfl rfl)
theorem dL_law_1702 : decode cL_law 1702 = .ok (.aload_n 0, 1) := dk_42 (dk_at dksL_law_68 14 rfl rfl)
theorem dL_law_1703 : decode cL_law 1703 = .ok (.iload 4, 2) := dk_21 4 (dk_at dksL_law_68 15 rfl rfl)
theorem dL_law_1705 : decode cL_law 1705 = .ok (.iconst 1, 1) := dk_4 (dk_at dksL_law_68 17 rfl rfl)
theorem dL_law_1706 : decode cL_law 1706 = .ok (.iadd, 1) := dk_96 (dk_at dksL_law_68 18 rfl rfl)
theorem dL_law_1707 : decode cL_law 1707 = .ok (.iaload, 1) := dk_46 (dk_at dksL_law_68 19 rfl rfl)
theorem dL_law_1708 : decode cL_law 1708 = .ok (.aload_n 0, 1) := dk_42 (dk_at dksL_law_68 20 rfl rfl)
theorem dL_law_1709 : decode cL_law 1709 = .ok (.iload 4, 2) := dk_21 4 (dk_at dksL_law_68 21 rfl rfl)
theorem dL_law_1711 : decode cL_law 1711 = .ok (.iconst 2, 1) := dk_5 (dk_at dksL_law_68 23 rfl rfl)
theorem dL_law_1712 : decode cL_law 1712 = .ok (.iadd, 1) := dk_96 (dk_at dksL_law_69 0 rfl rfl)
theorem dL_law_1713 : decode cL_law 1713 = .ok (.iaload, 1) := dk_46 (dk_at dksL_law_69 1 rfl rfl)
theorem dL_law_1714 : decode cL_law 1714 = .ok (.invokevirtual 186, 3) := dk_182 0 186 (dk_at dksL_law_69 2 rfl rfl)
theorem dL_law_1717 : decode cL_law 1717 = .ok (.istore 6, 2) := dk_54 6 (dk_at dksL_law_69 5 rfl rfl)
theorem dL_law_1719 : decode cL_law 1719 = .ok (.aload_n 2, 1) := dk_44 (dk_at dksL_law_69 7 rfl rfl)
theorem dL_law_1720 : decode cL_law 1720 = .ok (.invokevirtual 107, 3) := dk_182 0 107 (dk_at dksL_law_69 8 rfl rfl)
theorem dL_law_1723 : decode cL_law 1723 = .ok (.iload 5, 2) := dk_21 5 (dk_at dksL_law_69 11 rfl rfl)
theorem dL_law_1725 : decode cL_law 1725 = .ok (.if_icmp .eq 5, 3) := dk_159 0 5 (dk_at dksL_law_69 13 rfl rfl)
theorem dL_law_1728 : decode cL_law 1728 = .ok (.iconst 0, 1) := dk_3 (dk_at dksL_law_69 16 rfl rfl)
theorem dL_law_1729 : decode cL_law 1729 = .ok (.ireturn, 1) := dk_172 (dk_at dksL_law_69 17 rfl rfl)
theorem dL_law_1730 : decode cL_law 1730 = .ok (.iload 5, 2) := dk_21 5 (dk_at dksL_law_69 18 rfl rfl)
theorem dL_law_1732 : decode cL_law 1732 = .ok (.ifCond .ne 15, 3) := dk_154 0 15 (dk_at dksL_law_69 20 rfl rfl)
theorem dL_law_1735 : decode cL_law 1735 = .ok (.aload_n 3, 1) := dk_45 (dk_at dksL_law_69 23 rfl rfl)
theorem dL_law_1736 : decode cL_law 1736 = .ok (.iconst 0, 1) := dk_3 (dk_at dksL_law_70 0 rfl rfl)
theorem dL_law_1737 : decode cL_law 1737 = .ok (.laload, 1) := dk_47 (dk_at dksL_law_70 1 rfl rfl)
theorem dL_law_1738 : decode cL_law 1738 = .ok (.iload 6, 2) := dk_21 6 (dk_at dksL_law_70 2 rfl rfl)
theorem dL_law_1740 : decode cL_law 1740 = .ok (.i2l, 1) := dk_133 (dk_at dksL_law_70 4 rfl rfl)
theorem dL_law_1741 : decode cL_law 1741 = .ok (.lcmp, 1) := dk_148 (dk_at dksL_law_70 5 rfl rfl)
theorem dL_law_1742 : decode cL_law 1742 = .ok (.ifCond .eq 5, 3) := dk_153 0 5 (dk_at dksL_law_70 6 rfl rfl)
theorem dL_law_1745 : decode cL_law 1745 = .ok (.iconst 0, 1) := dk_3 (dk_at dksL_law_70 9 rfl rfl)
theorem dL_law_1746 : decode cL_law 1746 = .ok (.ireturn, 1) := dk_172 (dk_at dksL_law_70 10 rfl rfl)
theorem dL_law_1747 : decode cL_law 1747 = .ok (.goto 262, 3) := dk_167 1 6 (dk_at dksL_law_70 11 rfl rfl)
theorem dL_law_1750 : decode cL_law 1750 = .ok (.aload_n 1, 1) := dk_43 (dk_at dksL_law_70 14 rfl rfl)
theorem dL_law_1751 : decode cL_law 1751 = .ok (.aload_n 0, 1) := dk_42 (dk_at dksL_law_70 15 rfl rfl)
theorem dL_law_1752 : decode cL_law 1752 = .ok (.iload 4, 2) := dk_21 4 (dk_at dksL_law_70 16 rfl rfl)
theorem dL_law_1754 : decode cL_law 1754 = .ok (.iconst 1, 1) := dk_4 (dk_at dksL_law_70 18 rfl rfl)
theorem dL_law_1755 : decode cL_law 1755 = .ok (.iadd, 1) := dk_96 (dk_at dksL_law_70 19 rfl rfl)
theorem dL_law_1756 : decode cL_law 1756 = .ok (.iaload, 1) := dk_46 (dk_at dksL_law_70 20 rfl rfl)
theorem dL_law_1757 : decode cL_law 1757 = .ok (.aload_n 0, 1) := dk_42 (dk_at dksL_law_70 21 rfl rfl)
theorem dL_law_1758 : decode cL_law 1758 = .ok (.iload 4, 2) := dk_21 4 (dk_at dksL_law_70 22 rfl rfl)
theorem dL_law_1760 : decode cL_law 1760 = .ok (.iconst 2, 1) := dk_5 (dk_at dksL_law_71 0 rfl rfl)
theorem dL_law_1761 : decode cL_law 1761 = .ok (.iadd, 1) := dk_96 (dk_at dksL_law_71 1 rfl rfl)
theorem dL_law_1762 : decode cL_law 1762 = .ok (.iaload, 1) := dk_46 (dk_at dksL_law_71 2 rfl rfl)
theorem dL_law_1763 : decode cL_law 1763 = .ok (.aload_n 0, 1) := dk_42 (dk_at dksL_law_71 3 rfl rfl)
theorem dL_law_1764 : decode cL_law 1764 = .ok (.iload 4, 2) := dk_21 4 (dk_at dksL_law_71 4 rfl rfl)
theorem dL_law_1766 : decode cL_law 1766 = .ok (.iconst 3, 1) := dk_6 (dk_at dksL_law_71 6 rfl rfl)
theorem dL_law_1767 : decode cL_law 1767 = .ok (.iadd, 1) := dk_96 (dk_at dksL_law_71 7 rfl rfl)
theorem dL_law_1768 : decode cL_law 1768 = .ok (.iaload, 1) := dk_46 (dk_at dksL_law_71 8 rfl rfl)
theorem dL_law_1769 : decode cL_law 1769 = .ok (.aload_n 3, 1) := dk_45 (dk_at dksL_law_71 9 rfl rfl)
theorem dL_law_1770 : decode cL_law 1770 = .ok (.invokestatic 187, 3) := dk_184 0 187 (dk_at dksL_law_71 10 rfl rfl)
theorem dL_law_1773 : decode cL_law 1773 = .ok (.istore 5, 2) := dk_54 5 (dk_at dksL_law_71 13 rfl rfl)
theorem dL_law_1775 : decode cL_law 1775 = .ok (.aload_n 2, 1) := dk_44 (dk_at dksL_law_71 15 rfl rfl)
theorem dL_law_1776 : decode cL_law 1776 = .ok (.aload_n 0, 1) := dk_42 (dk_at dksL_law_71 16 rfl rfl)
theorem dL_law_1777 : decode cL_law 1777 = .ok (.iload 4, 2) := dk_21 4 (dk_at dksL_law_71 17 rfl rfl)
theorem dL_law_1779 : decode cL_law 1779 = .ok (.iconst 1, 1) := dk_4 (dk_at dksL_law_71 19 rfl rfl)
theorem dL_law_1780 : decode cL_law 1780 = .ok (.iadd, 1) := dk_96 (dk_at dksL_law_71 20 rfl rfl)
theorem dL_law_1781 : decode cL_law 1781 = .ok (.iaload, 1) := dk_46 (dk_at dksL_law_71 21 rfl rfl)
theorem dL_law_1782 : decode cL_law 1782 = .ok (.aload_n 0, 1) := dk_42 (dk_at dksL_law_71 22 rfl rfl)
theorem dL_law_1783 : decode cL_law 1783 = .ok (.iload 4, 2) := dk_21 4 (dk_at dksL_law_72 0 rfl rfl)
theorem dL_law_1785 : decode cL_law 1785 = .ok (.iconst 2, 1) := dk_5 (dk_at dksL_law_72 2 rfl rfl)
theorem dL_law_1786 : decode cL_law 1786 = .ok (.iadd, 1) := dk_96 (dk_at dksL_law_72 3 rfl rfl)
theorem dL_law_1787 : decode cL_law 1787 = .ok (.iaload, 1) := dk_46 (dk_at dksL_law_72 4 rfl rfl)
theorem dL_law_1788 : decode cL_law 1788 = .ok (.aload_n 0, 1) := dk_42 (dk_at dksL_law_72 5 rfl rfl)
theorem dL_law_1789 : decode cL_law 1789 = .ok (.iload 4, 2) := dk_21 4 (dk_at dksL_law_72 6 rfl rfl)
theorem dL_law_1791 : decode cL_law 1791 = .ok (.iconst 3, 1) := dk_6 (dk_at dksL_law_72 8 rfl rfl)
theorem dL_law_1792 : decode cL_law 1792 = .ok (.iadd, 1) := dk_96 (dk_at dksL_law_72 9 rfl rfl)
theorem dL_law_1793 : decode cL_law 1793 = .ok (.iaload, 1) := dk_46 (dk_at dksL_law_72 10 rfl rfl)
theorem dL_law_1794 : decode cL_law 1794 = .ok (.invokevirtual 189, 3) := dk_182 0 189 (dk_at dksL_law_72 11 rfl rfl)
theorem dL_law_1797 : decode cL_law 1797 = .ok (.istore 6, 2) := dk_54 6 (dk_at dksL_law_72 14 rfl rfl)
theorem dL_law_1799 : decode cL_law 1799 = .ok (.aload_n 2, 1) := dk_44 (dk_at dksL_law_72 16 rfl rfl)
theorem dL_law_1800 : decode cL_law 1800 = .ok (.invokevirtual 107, 3) := dk_182 0 107 (dk_at dksL_law_72 17 rfl rfl)
theorem dL_law_1803 : decode cL_law 1803 = .ok (.iload 5, 2) := dk_21 5 (dk_at dksL_law_72 20 rfl rfl)
theorem dL_law_1805 : decode cL_law 1805 = .ok (.if_icmp .eq 5, 3) := dk_159 0 5 (dk_at dksL_law_73 0 rfl rfl)
theorem dL_law_1808 : decode cL_law 1808 = .ok (.iconst 0, 1) := dk_3 (dk_at dksL_law_73 3 rfl rfl)
theorem dL_law_1809 : decode cL_law 1809 = .ok (.ireturn, 1) := dk_172 (dk_at dksL_law_73 4 rfl rfl)
theorem dL_law_1810 : decode cL_law 1810 = .ok (.iload 5, 2) := dk_21 5 (dk_at dksL_law_73 5 rfl rfl)
theorem dL_law_1812 : decode cL_law 1812 = .ok (.ifCond .ne 15, 3) := dk_154 0 15 (dk_at dksL_law_73 7 rfl rfl)
theorem dL_law_1815 : decode cL_law 1815 = .ok (.aload_n 3, 1) := dk_45 (dk_at dksL_law_73 10 rfl rfl)
theorem dL_law_1816 : decode cL_law 1816 = .ok (.iconst 0, 1) := dk_3 (dk_at dksL_law_73 11 rfl rfl)
theorem dL_law_1817 : decode cL_law 1817 = .ok (.laload, 1) := dk_47 (dk_at dksL_law_73 12 rfl rfl)
theorem dL_law_1818 : decode cL_law 1818 = .ok (.iload 6, 2) := dk_21 6 (dk_at dksL_law_73 13 rfl rfl)
theorem dL_law_1820 : decode cL_law 1820 = .ok (.i2l, 1) := dk_133 (dk_at dksL_law_73 15 rfl rfl)
theorem dL_law_1821 : decode cL_law 1821 = .ok (.lcmp, 1) := dk_148 (dk_at dksL_law_73 16 rfl rfl)
theorem dL_law_1822 : decode cL_law 1822 = .ok (.ifCond .eq 5, 3) := dk_153 0 5 (dk_at dksL_law_73 17 rfl rfl)
theorem dL_law_1825 : decode cL_law 1825 = .ok (.iconst 0, 1) := dk_3 (dk_at dksL_law_73 20 rfl rfl)
theorem dL_law_1826 : decode cL_law 1826 = .ok (.ireturn, 1) := dk_172 (dk_at dksL_law_73 21 rfl rfl)
theorem dL_law_1827 : decode cL_law 1827 = .ok (.goto 182, 3) := dk_167 0 182 (dk_at dksL_law_74 0 rfl rfl)
theorem dL_law_1830 : decode cL_law 1830 = .ok (.aload_n 1, 1) := dk_43 (dk_at dksL_law_74 3 rfl rfl)
theorem dL_law_1831 : decode cL_law 1831 = .ok (.aload_n 0, 1) := dk_42 (dk_at dksL_law_74 4 rfl rfl)
theorem dL_law_1832 : decode cL_law 1832 = .ok (.iload 4, 2) := dk_21 4 (dk_at dksL_law_74 5 rfl rfl)
theorem dL_law_1834 : decode cL_law 1834 = .ok (.iconst 1, 1) := dk_4 (dk_at dksL_law_74 7 rfl rfl)
theorem dL_law_1835 : decode cL_law 1835 = .ok (.iadd, 1) := dk_96 (dk_at dksL_law_74 8 rfl rfl)
theorem dL_law_1836 : decode cL_law 1836 = .ok (.iaload, 1) := dk_46 (dk_at dksL_law_74 9 rfl rfl)
theorem dL_law_1837 : decode cL_law 1837 = .ok (.aload_n 0, 1) := dk_42 (dk_at dksL_law_74 10 rfl rfl)
theorem dL_law_1838 : decode cL_law 1838 = .ok (.iload 4, 2) := dk_21 4 (dk_at dksL_law_74 11 rfl rfl)
theorem dL_law_1840 : decode cL_law 1840 = .ok (.iconst 2, 1) := dk_5 (dk_at dksL_law_74 13 rfl rfl)
theorem dL_law_1841 : decode cL_law 1841 = .ok (.iadd, 1) := dk_96 (dk_at dksL_law_74 14 rfl rfl)
theorem dL_law_1842 : decode cL_law 1842 = .ok (.iaload, 1) := dk_46 (dk_at dksL_law_74 15 rfl rfl)
theorem dL_law_1843 : decode cL_law 1843 = .ok (.aload_n 3, 1) := dk_45 (dk_at dksL_law_74 16 rfl rfl)
theorem dL_law_1844 : decode cL_law 1844 = .ok (.invokestatic 190, 3) := dk_184 0 190 (dk_at dksL_law_74 17 rfl rfl)
theorem dL_law_1847 : decode cL_law 1847 = .ok (.istore 5, 2) := dk_54 5 (dk_at dksL_law_74 20 rfl rfl)
theorem dL_law_1849 : decode cL_law 1849 = .ok (.aload_n 2, 1) := dk_44 (dk_at dksL_law_74 22 rfl rfl)
theorem dL_law_1850 : decode cL_law 1850 = .ok (.aload_n 0, 1) := dk_42 (dk_at dksL_law_74 23 rfl rfl)
theorem dL_law_1851 : decode cL_law 1851 = .ok (.iload 4, 2) := dk_21 4 (dk_at dksL_law_75 0 rfl rfl)
theorem dL_law_1853 : decode cL_law 1853 = .ok (.iconst 1, 1) := dk_4 (dk_at dksL_law_75 2 rfl rfl)
theorem dL_law_1854 : decode cL_law 1854 = .ok (.iadd, 1) := dk_96 (dk_at dksL_law_75 3 rfl rfl)
theorem dL_law_1855 : decode cL_law 1855 = .ok (.iaload, 1) := dk_46 (dk_at dksL_law_75 4 rfl rfl)
theorem dL_law_1856 : decode cL_law 1856 = .ok (.aload_n 0, 1) := dk_42 (dk_at dksL_law_75 5 rfl rfl)
theorem dL_law_1857 : decode cL_law 1857 = .ok (.iload 4, 2) := dk_21 4 (dk_at dksL_law_75 6 rfl rfl)
theorem dL_law_1859 : decode cL_law 1859 = .ok (.iconst 2, 1) := dk_5 (dk_at dksL_law_75 8 rfl rfl)
theorem dL_law_1860 : decode cL_law 1860 = .ok (.iadd, 1) := dk_96 (dk_at dksL_law_75 9 rfl rfl)
theorem dL_law_1861 : decode cL_law 1861 = .ok (.iaload, 1) := dk_46 (dk_at dksL_law_75 10 rfl rfl)
theorem dL_law_1862 : decode cL_law 1862 = .ok (.invokevirtual 192, 3) := dk_182 0 192 (dk_at dksL_law_75 11 rfl rfl)
theorem dL_law_1865 : decode cL_law 1865 = .ok (.istore 6, 2) := dk_54 6 (dk_at dksL_law_75 14 rfl rfl)
theorem dL_law_1867 : decode cL_law 1867 = .ok (.aload_n 2, 1) := dk_44 (dk_at dksL_law_75 16 rfl rfl)
theorem dL_law_1868 : decode cL_law 1868 = .ok (.invokevirtual 107, 3) := dk_182 0 107 (dk_at dksL_law_75 17 rfl rfl)
theorem dL_law_1871 : decode cL_law 1871 = .ok (.iload 5, 2) := dk_21 5 (dk_at dksL_law_75 20 rfl rfl)
theorem dL_law_1873 : decode cL_law 1873 = .ok (.if_icmp .eq 5, 3) := dk_159 0 5 (dk_at dksL_law_76 0 rfl rfl)
theorem dL_law_1876 : decode cL_law 1876 = .ok (.iconst 0, 1) := dk_3 (dk_at dksL_law_76 3 rfl rfl)
theorem dL_law_1877 : decode cL_law 1877 = .ok (.ireturn, 1) := dk_172 (dk_at dksL_law_76 4 rfl rfl)
theorem dL_law_1878 : decode cL_law 1878 = .ok (.iload 5, 2) := dk_21 5 (dk_at dksL_law_76 5 rfl rfl)
theorem dL_law_1880 : decode cL_law 1880 = .ok (.ifCond .ne 15, 3) := dk_154 0 15 (dk_at dksL_law_76 7 rfl rfl)
theorem dL_law_1883 : decode cL_law 1883 = .ok (.aload_n 3, 1) := dk_45 (dk_at dksL_law_76 10 rfl rfl)
theorem dL_law_1884 : decode cL_law 1884 = .ok (.iconst 0, 1) := dk_3 (dk_at dksL_law_76 11 rfl rfl)
theorem dL_law_1885 : decode cL_law 1885 = .ok (.laload, 1) := dk_47 (dk_at dksL_law_76 12 rfl rfl)
theorem dL_law_1886 : decode cL_law 1886 = .ok (.iload 6, 2) := dk_21 6 (dk_at dksL_law_76 13 rfl rfl)
theorem dL_law_1888 : decode cL_law 1888 = .ok (.i2l, 1) := dk_133 (dk_at dksL_law_76 15 rfl rfl)
theorem dL_law_1889 : decode cL_law 1889 = .ok (.lcmp, 1) := dk_148 (dk_at dksL_law_76 16 rfl rfl)
theorem dL_law_1890 : decode cL_law 1890 = .ok (.ifCond .eq 5, 3) := dk_153 0 5 (dk_at dksL_law_76 17 rfl rfl)
theorem dL_law_1893 : decode cL_law 1893 = .ok (.iconst 0, 1) := dk_3 (dk_at dksL_law_76 20 rfl rfl)
theorem dL_law_1894 : decode cL_law 1894 = .ok (.ireturn, 1) := dk_172 (dk_at dksL_law_76 21 rfl rfl)
theorem dL_law_1895 : decode cL_law 1895 = .ok (.goto 114, 3) := dk_167 0 114 (dk_at dksL_law_77 0 rfl rfl)
theorem dL_law_1898 : decode cL_law 1898 = .ok (.aload_n 1, 1) := dk_43 (dk_at dksL_law_77 3 rfl rfl)
theorem dL_law_1899 : decode cL_law 1899 = .ok (.aload_n 0, 1) := dk_42 (dk_at dksL_law_77 4 rfl rfl)
theorem dL_law_1900 : decode cL_law 1900 = .ok (.iload 4, 2) := dk_21 4 (dk_at dksL_law_77 5 rfl rfl)
theorem dL_law_1902 : decode cL_law 1902 = .ok (.iconst 1, 1) := dk_4 (dk_at dksL_law_77 7 rfl rfl)
theorem dL_law_1903 : decode cL_law 1903 = .ok (.iadd, 1) := dk_96 (dk_at dksL_law_77 8 rfl rfl)
theorem dL_law_1904 : decode cL_law 1904 = .ok (.iaload, 1) := dk_46 (dk_at dksL_law_77 9 rfl rfl)
theorem dL_law_1905 : decode cL_law 1905 = .ok (.aload_n 3, 1) := dk_45 (dk_at dksL_law_77 10 rfl rfl)
theorem dL_law_1906 : decode cL_law 1906 = .ok (.invokestatic 193, 3) := dk_184 0 193 (dk_at dksL_law_77 11 rfl rfl)
theorem dL_law_1909 : decode cL_law 1909 = .ok (.istore 5, 2) := dk_54 5 (dk_at dksL_law_77 14 rfl rfl)
theorem dL_law_1911 : decode cL_law 1911 = .ok (.aload_n 2, 1) := dk_44 (dk_at dksL_law_77 16 rfl rfl)
theorem dL_law_1912 : decode cL_law 1912 = .ok (.aload_n 0, 1) := dk_42 (dk_at dksL_law_77 17 rfl rfl)
theorem dL_law_1913 : decode cL_law 1913 = .ok (.iload 4, 2) := dk_21 4 (dk_at dksL_law_77 18 rfl rfl)
theorem dL_law_1915 : decode cL_law 1915 = .ok (.iconst 1, 1) := dk_4 (dk_at dksL_law_77 20 rfl rfl)
theorem dL_law_1916 : decode cL_law 1916 = .ok (.iadd, 1) := dk_96 (dk_at dksL_law_77 21 rfl rfl)
theorem dL_law_1917 : decode cL_law 1917 = .ok (.iaload, 1) := dk_46 (dk_at dksL_law_77 22 rfl rfl)
theorem dL_law_1918 : decode cL_law 1918 = .ok (.invokevirtual 195, 3) := dk_182 0 195 (dk_at dksL_law_78 0 rfl rfl)
theorem dL_law_1921 : decode cL_law 1921 = .ok (.istore 6, 2) := dk_54 6 (dk_at dksL_law_78 3 rfl rfl)
theorem dL_law_1923 : decode cL_law 1923 = .ok (.aload_n 2, 1) := dk_44 (dk_at dksL_law_78 5 rfl rfl)
theorem dL_law_1924 : decode cL_law 1924 = .ok (.invokevirtual 107, 3) := dk_182 0 107 (dk_at dksL_law_78 6 rfl rfl)
theorem dL_law_1927 : decode cL_law 1927 = .ok (.iload 5, 2) := dk_21 5 (dk_at dksL_law_78 9 rfl rfl)
theorem dL_law_1929 : decode cL_law 1929 = .ok (.if_icmp .eq 5, 3) := dk_159 0 5 (dk_at dksL_law_78 11 rfl rfl)
theorem dL_law_1932 : decode cL_law 1932 = .ok (.iconst 0, 1) := dk_3 (dk_at dksL_law_78 14 rfl rfl)
theorem dL_law_1933 : decode cL_law 1933 = .ok (.ireturn, 1) := dk_172 (dk_at dksL_law_78 15 rfl rfl)
theorem dL_law_1934 : decode cL_law 1934 = .ok (.iload 5, 2) := dk_21 5 (dk_at dksL_law_78 16 rfl rfl)
theorem dL_law_1936 : decode cL_law 1936 = .ok (.ifCond .ne 15, 3) := dk_154 0 15 (dk_at dksL_law_78 18 rfl rfl)
theorem dL_law_1939 : decode cL_law 1939 = .ok (.aload_n 3, 1) := dk_45 (dk_at dksL_law_78 21 rfl rfl)
theorem dL_law_1940 : decode cL_law 1940 = .ok (.iconst 0, 1) := dk_3 (dk_at dksL_law_78 22 rfl rfl)
theorem dL_law_1941 : decode cL_law 1941 = .ok (.laload, 1) := dk_47 (dk_at dksL_law_78 23 rfl rfl)
theorem dL_law_1942 : decode cL_law 1942 = .ok (.iload 6, 2) := dk_21 6 (dk_at dksL_law_79 0 rfl rfl)
theorem dL_law_1944 : decode cL_law 1944 = .ok (.i2l, 1) := dk_133 (dk_at dksL_law_79 2 rfl rfl)
theorem dL_law_1945 : decode cL_law 1945 = .ok (.lcmp, 1) := dk_148 (dk_at dksL_law_79 3 rfl rfl)
theorem dL_law_1946 : decode cL_law 1946 = .ok (.ifCond .eq 5, 3) := dk_153 0 5 (dk_at dksL_law_79 4 rfl rfl)
theorem dL_law_1949 : decode cL_law 1949 = .ok (.iconst 0, 1) := dk_3 (dk_at dksL_law_79 7 rfl rfl)
theorem dL_law_1950 : decode cL_law 1950 = .ok (.ireturn, 1) := dk_172 (dk_at dksL_law_79 8 rfl rfl)
theorem dL_law_1951 : decode cL_law 1951 = .ok (.goto 58, 3) := dk_167 0 58 (dk_at dksL_law_79 9 rfl rfl)
theorem dL_law_1954 : decode cL_law 1954 = .ok (.aload_n 1, 1) := dk_43 (dk_at dksL_law_79 12 rfl rfl)
theorem dL_law_1955 : decode cL_law 1955 = .ok (.invokevirtual 196, 3) := dk_182 0 196 (dk_at dksL_law_79 13 rfl rfl)
theorem dL_law_1958 : decode cL_law 1958 = .ok (.dstore 5, 2) := dk_57 5 (dk_at dksL_law_79 16 rfl rfl)
theorem dL_law_1960 : decode cL_law 1960 = .ok (.aload_n 2, 1) := dk_44 (dk_at dksL_law_79 18 rfl rfl)
theorem dL_law_1961 : decode cL_law 1961 = .ok (.invokevirtual 200, 3) := dk_182 0 200 (dk_at dksL_law_79 19 rfl rfl)
theorem dL_law_1964 : decode cL_law 1964 = .ok (.dstore 7, 2) := dk_57 7 (dk_at dksL_law_79 22 rfl rfl)
theorem dL_law_1966 : decode cL_law 1966 = .ok (.dload 5, 2) := dk_24 5 (dk_at dksL_law_80 0 rfl rfl)
theorem dL_law_1968 : decode cL_law 1968 = .ok (.dload 7, 2) := dk_24 7 (dk_at dksL_law_80 2 rfl rfl)
theorem dL_law_1970 : decode cL_law 1970 = .ok (.dcmp .l, 1) := dk_151 (dk_at dksL_law_80 4 rfl rfl)
theorem dL_law_1971 : decode cL_law 1971 = .ok (.ifCond .eq 21, 3) := dk_153 0 21 (dk_at dksL_law_80 5 rfl rfl)
theorem dL_law_1974 : decode cL_law 1974 = .ok (.dload 5, 2) := dk_24 5 (dk_at dksL_law_80 8 rfl rfl)
theorem dL_law_1976 : decode cL_law 1976 = .ok (.dload 5, 2) := dk_24 5 (dk_at dksL_law_80 10 rfl rfl)
theorem dL_law_1978 : decode cL_law 1978 = .ok (.dcmp .l, 1) := dk_151 (dk_at dksL_law_80 12 rfl rfl)
theorem dL_law_1979 : decode cL_law 1979 = .ok (.ifCond .eq 11, 3) := dk_153 0 11 (dk_at dksL_law_80 13 rfl rfl)
theorem dL_law_1982 : decode cL_law 1982 = .ok (.dload 7, 2) := dk_24 7 (dk_at dksL_law_80 16 rfl rfl)
theorem dL_law_1984 : decode cL_law 1984 = .ok (.dload 7, 2) := dk_24 7 (dk_at dksL_law_80 18 rfl rfl)
theorem dL_law_1986 : decode cL_law 1986 = .ok (.dcmp .l, 1) := dk_151 (dk_at dksL_law_80 20 rfl rfl)
theorem dL_law_1987 : decode cL_law 1987 = .ok (.ifCond .ne 5, 3) := dk_154 0 5 (dk_at dksL_law_80 21 rfl rfl)
theorem dL_law_1990 : decode cL_law 1990 = .ok (.iconst 0, 1) := dk_3 (dk_at dksL_law_81 0 rfl rfl)
theorem dL_law_1991 : decode cL_law 1991 = .ok (.ireturn, 1) := dk_172 (dk_at dksL_law_81 1 rfl rfl)
theorem dL_law_1992 : decode cL_law 1992 = .ok (.goto 17, 3) := dk_167 0 17 (dk_at dksL_law_81 2 rfl rfl)
theorem dL_law_1995 : decode cL_law 1995 = .ok (.aload_n 1, 1) := dk_43 (dk_at dksL_law_81 5 rfl rfl)
theorem dL_law_1996 : decode cL_law 1996 = .ok (.invokevirtual 201, 3) := dk_182 0 201 (dk_at dksL_law_81 6 rfl rfl)
theorem dL_law_1999 : decode cL_law 1999 = .ok (.aload_n 2, 1) := dk_44 (dk_at dksL_law_81 9 rfl rfl)
theorem dL_law_2000 : decode cL_law 2000 = .ok (.invokevirtual 205, 3) := dk_182 0 205 (dk_at dksL_law_81 10 rfl rfl)
theorem dL_law_2003 : decode cL_law 2003 = .ok (.lcmp, 1) := dk_148 (dk_at dksL_law_81 13 rfl rfl)
theorem dL_law_2004 : decode cL_law 2004 = .ok (.ifCond .eq 5, 3) := dk_153 0 5 (dk_at dksL_law_81 14 rfl rfl)
theorem dL_law_2007 : decode cL_law 2007 = .ok (.iconst 0, 1) := dk_3 (dk_at dksL_law_81 17 rfl rfl)
theorem dL_law_2008 : decode cL_law 2008 = .ok (.ireturn, 1) := dk_172 (dk_at dksL_law_81 18 rfl rfl)
theorem dL_law_2009 : decode cL_law 2009 = .ok (.iinc 4 4, 3) := dk_132 4 4 (dk_at dksL_law_81 19 rfl rfl)
theorem dL_law_2012 : decode cL_law 2012 = .ok (.goto (-1989), 3) := dk_167 248 59 (dk_at dksL_law_82 0 rfl rfl)
theorem dL_law_2015 : decode cL_law 2015 = .ok (.iconst 1, 1) := dk_4 (dk_at dksL_law_82 3 rfl rfl)
theorem dL_law_2016 : decode cL_law 2016 = .ok (.ireturn, 1) := dk_172 (dk_at dksL_law_82 4 rfl rfl)
