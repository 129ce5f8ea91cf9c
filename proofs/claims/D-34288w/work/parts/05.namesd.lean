/-! CatalogueLoaderLaw -/
set_option maxRecDepth 100000
def RX0 : String := "CatalogueLoaderLaw"
abbrev cX0_setRank : ByteArray := method_3_code
def yX0_setRank : MethodName := ⟨RX0, "setRank", "(LCatalogueLoader;II[J)I"⟩
def dkwX0_setRank_1 : List UInt8 := [172, 3, 172]
abbrev dktX0_setRank_1 : List UInt8 := dkwX0_setRank_1 ++ []
def dkwX0_setRank_0 : List UInt8 := [45, 3, 42, 27, 28, 182, 0, 7, 133, 80, 167, 0, 15, 58, 4, 4, 172, 58, 4, 5, 172, 58, 4, 6]
abbrev dktX0_setRank_0 : List UInt8 := dkwX0_setRank_0 ++ dktX0_setRank_1
theorem dksX0_setRank_0 : cX0_setRank.data.toList.drop 0 = dktX0_setRank_0 := by decide +kernel
theorem dksX0_setRank_1 : cX0_setRank.data.toList.drop 24 = dktX0_setRank_1 := dk_seg dksX0_setRank_0 24 rfl rfl
theorem dX0_setRank_0 : decode cX0_setRank 0 = .ok (.aload_n 3, 1) := dk_45 (dk_at dksX0_setRank_0 0 rfl rfl)
theorem dX0_setRank_1 : decode cX0_setRank 1 = .ok (.iconst 0, 1) := dk_3 (dk_at dksX0_setRank_0 1 rfl rfl)
theorem dX0_setRank_2 : decode cX0_setRank 2 = .ok (.aload_n 0, 1) := dk_42 (dk_at dksX0_setRank_0 2 rfl rfl)
theorem dX0_setRank_3 : decode cX0_setRank 3 = .ok (.iload_n 1, 1) := dk_27 (dk_at dksX0_setRank_0 3 rfl rfl)
theorem dX0_setRank_4 : decode cX0_setRank 4 = .ok (.iload_n 2, 1) := dk_28 (dk_at dksX0_setRank_0 4 rfl rfl)
theorem dX0_setRank_5 : decode cX0_setRank 5 = .ok (.invokevirtual 7, 3) := dk_182 0 7 (dk_at dksX0_setRank_0 5 rfl rfl)
theorem dX0_setRank_8 : decode cX0_setRank 8 = .ok (.i2l, 1) := dk_133 (dk_at dksX0_setRank_0 8 rfl rfl)
theorem dX0_setRank_9 : decode cX0_setRank 9 = .ok (.lastore, 1) := dk_80 (dk_at dksX0_setRank_0 9 rfl rfl)
theorem dX0_setRank_10 : decode cX0_setRank 10 = .ok (.goto 15, 3) := dk_167 0 15 (dk_at dksX0_setRank_0 10 rfl rfl)
theorem dX0_setRank_13 : decode cX0_setRank 13 = .ok (.astore 4, 2) := dk_58 4 (dk_at dksX0_setRank_0 13 rfl rfl)
theorem dX0_setRank_15 : decode cX0_setRank 15 = .ok (.iconst 1, 1) := dk_4 (dk_at dksX0_setRank_0 15 rfl rfl)
theorem dX0_setRank_16 : decode cX0_setRank 16 = .ok (.ireturn, 1) := dk_172 (dk_at dksX0_setRank_0 16 rfl rfl)
theorem dX0_setRank_17 : decode cX0_setRank 17 = .ok (.astore 4, 2) := dk_58 4 (dk_at dksX0_setRank_0 17 rfl rfl)
theorem dX0_setRank_19 : decode cX0_setRank 19 = .ok (.iconst 2, 1) := dk_5 (dk_at dksX0_setRank_0 19 rfl rfl)
theorem dX0_setRank_20 : decode cX0_setRank 20 = .ok (.ireturn, 1) := dk_172 (dk_at dksX0_setRank_0 20 rfl rfl)
theorem dX0_setRank_21 : decode cX0_setRank 21 = .ok (.astore 4, 2) := dk_58 4 (dk_at dksX0_setRank_0 21 rfl rfl)
theorem dX0_setRank_23 : decode cX0_setRank 23 = .ok (.iconst 3, 1) := dk_6 (dk_at dksX0_setRank_0 23 rfl rfl)
theorem dX0_setRank_24 : decode cX0_setRank 24 = .ok (.ireturn, 1) := dk_172 (dk_at dksX0_setRank_1 0 rfl rfl)
theorem dX0_setRank_25 : decode cX0_setRank 25 = .ok (.iconst 0, 1) := dk_3 (dk_at dksX0_setRank_1 1 rfl rfl)
theorem dX0_setRank_26 : decode cX0_setRank 26 = .ok (.ireturn, 1) := dk_172 (dk_at dksX0_setRank_1 2 rfl rfl)
abbrev cX0_setRule : ByteArray := method_4_code
def yX0_setRule : MethodName := ⟨RX0, "setRule", "(LCatalogueLoader;II[J)I"⟩
def dkwX0_setRule_1 : List UInt8 := [172, 3, 172]
abbrev dktX0_setRule_1 : List UInt8 := dkwX0_setRule_1 ++ []
def dkwX0_setRule_0 : List UInt8 := [45, 3, 42, 27, 28, 182, 0, 19, 133, 80, 167, 0, 15, 58, 4, 4, 172, 58, 4, 5, 172, 58, 4, 6]
abbrev dktX0_setRule_0 : List UInt8 := dkwX0_setRule_0 ++ dktX0_setRule_1
theorem dksX0_setRule_0 : cX0_setRule.data.toList.drop 0 = dktX0_setRule_0 := by decide +kernel
theorem dksX0_setRule_1 : cX0_setRule.data.toList.drop 24 = dktX0_setRule_1 := dk_seg dksX0_setRule_0 24 rfl rfl
theorem dX0_setRule_0 : decode cX0_setRule 0 = .ok (.aload_n 3, 1) := dk_45 (dk_at dksX0_setRule_0 0 rfl rfl)
theorem dX0_setRule_1 : decode cX0_setRule 1 = .ok (.iconst 0, 1) := dk_3 (dk_at dksX0_setRule_0 1 rfl rfl)
theorem dX0_setRule_2 : decode cX0_setRule 2 = .ok (.aload_n 0, 1) := dk_42 (dk_at dksX0_setRule_0 2 rfl rfl)
theorem dX0_setRule_3 : decode cX0_setRule 3 = .ok (.iload_n 1, 1) := dk_27 (dk_at dksX0_setRule_0 3 rfl rfl)
theorem dX0_setRule_4 : decode cX0_setRule 4 = .ok (.iload_n 2, 1) := dk_28 (dk_at dksX0_setRule_0 4 rfl rfl)
theorem dX0_setRule_5 : decode cX0_setRule 5 = .ok (.invokevirtual 19, 3) := dk_182 0 19 (dk_at dksX0_setRule_0 5 rfl rfl)
theorem dX0_setRule_8 : decode cX0_setRule 8 = .ok (.i2l, 1) := dk_133 (dk_at dksX0_setRule_0 8 rfl rfl)
theorem dX0_setRule_9 : decode cX0_setRule 9 = .ok (.lastore, 1) := dk_80 (dk_at dksX0_setRule_0 9 rfl rfl)
theorem dX0_setRule_10 : decode cX0_setRule 10 = .ok (.goto 15, 3) := dk_167 0 15 (dk_at dksX0_setRule_0 10 rfl rfl)
theorem dX0_setRule_13 : decode cX0_setRule 13 = .ok (.astore 4, 2) := dk_58 4 (dk_at dksX0_setRule_0 13 rfl rfl)
theorem dX0_setRule_15 : decode cX0_setRule 15 = .ok (.iconst 1, 1) := dk_4 (dk_at dksX0_setRule_0 15 rfl rfl)
theorem dX0_setRule_16 : decode cX0_setRule 16 = .ok (.ireturn, 1) := dk_172 (dk_at dksX0_setRule_0 16 rfl rfl)
theorem dX0_setRule_17 : decode cX0_setRule 17 = .ok (.astore 4, 2) := dk_58 4 (dk_at dksX0_setRule_0 17 rfl rfl)
theorem dX0_setRule_19 : decode cX0_setRule 19 = .ok (.iconst 2, 1) := dk_5 (dk_at dksX0_setRule_0 19 rfl rfl)
theorem dX0_setRule_20 : decode cX0_setRule 20 = .ok (.ireturn, 1) := dk_172 (dk_at dksX0_setRule_0 20 rfl rfl)
theorem dX0_setRule_21 : decode cX0_setRule 21 = .ok (.astore 4, 2) := dk_58 4 (dk_at dksX0_setRule_0 21 rfl rfl)
theorem dX0_setRule_23 : decode cX0_setRule 23 = .ok (.iconst 3, 1) := dk_6 (dk_at dksX0_setRule_0 23 rfl rfl)
theorem dX0_setRule_24 : decode cX0_setRule 24 = .ok (.ireturn, 1) := dk_172 (dk_at dksX0_setRule_1 0 rfl rfl)
theorem dX0_setRule_25 : decode cX0_setRule 25 = .ok (.iconst 0, 1) := dk_3 (dk_at dksX0_setRule_1 1 rfl rfl)
theorem dX0_setRule_26 : decode cX0_setRule 26 = .ok (.ireturn, 1) := dk_172 (dk_at dksX0_setRule_1 2 rfl rfl)
abbrev cX0_setOrder : ByteArray := method_5_code
def yX0_setOrder : MethodName := ⟨RX0, "setOrder", "(LCatalogueLoader;III)I"⟩
def dkwX0_setOrder_0 : List UInt8 := [42, 27, 28, 29, 182, 0, 22, 167, 0, 11, 58, 4, 4, 172, 58, 4, 5, 172, 3, 172]
abbrev dktX0_setOrder_0 : List UInt8 := dkwX0_setOrder_0 ++ []
theorem dksX0_setOrder_0 : cX0_setOrder.data.toList.drop 0 = dktX0_setOrder_0 := by decide +kernel
theorem dX0_setOrder_0 : decode cX0_setOrder 0 = .ok (.aload_n 0, 1) := dk_42 (dk_at dksX0_setOrder_0 0 rfl rfl)
theorem dX0_setOrder_1 : decode cX0_setOrder 1 = .ok (.iload_n 1, 1) := dk_27 (dk_at dksX0_setOrder_0 1 rfl rfl)
theorem dX0_setOrder_2 : decode cX0_setOrder 2 = .ok (.iload_n 2, 1) := dk_28 (dk_at dksX0_setOrder_0 2 rfl rfl)
theorem dX0_setOrder_3 : decode cX0_setOrder 3 = .ok (.iload_n 3, 1) := dk_29 (dk_at dksX0_setOrder_0 3 rfl rfl)
theorem dX0_setOrder_4 : decode cX0_setOrder 4 = .ok (.invokevirtual 22, 3) := dk_182 0 22 (dk_at dksX0_setOrder_0 4 rfl rfl)
theorem dX0_setOrder_7 : decode cX0_setOrder 7 = .ok (.goto 11, 3) := dk_167 0 11 (dk_at dksX0_setOrder_0 7 rfl rfl)
theorem dX0_setOrder_10 : decode cX0_setOrder 10 = .ok (.astore 4, 2) := dk_58 4 (dk_at dksX0_setOrder_0 10 rfl rfl)
theorem dX0_setOrder_12 : decode cX0_setOrder 12 = .ok (.iconst 1, 1) := dk_4 (dk_at dksX0_setOrder_0 12 rfl rfl)
theorem dX0_setOrder_13 : decode cX0_setOrder 13 = .ok (.ireturn, 1) := dk_172 (dk_at dksX0_setOrder_0 13 rfl rfl)
theorem dX0_setOrder_14 : decode cX0_setOrder 14 = .ok (.astore 4, 2) := dk_58 4 (dk_at dksX0_setOrder_0 14 rfl rfl)
theorem dX0_setOrder_16 : decode cX0_setOrder 16 = .ok (.iconst 2, 1) := dk_5 (dk_at dksX0_setOrder_0 16 rfl rfl)
theorem dX0_setOrder_17 : decode cX0_setOrder 17 = .ok (.ireturn, 1) := dk_172 (dk_at dksX0_setOrder_0 17 rfl rfl)
theorem dX0_setOrder_18 : decode cX0_setOrder 18 = .ok (.iconst 0, 1) := dk_3 (dk_at dksX0_setOrder_0 18 rfl rfl)
theorem dX0_setOrder_19 : decode cX0_setOrder 19 = .ok (.ireturn, 1) := dk_172 (dk_at dksX0_setOrder_0 19 rfl rfl)
abbrev cX0_beginBatch : ByteArray := method_6_code
def yX0_beginBatch : MethodName := ⟨RX0, "beginBatch", "(LCatalogueLoader;[J)I"⟩
def dkwX0_beginBatch_0 : List UInt8 := [43, 3, 42, 182, 0, 26, 133, 80, 167, 0, 6, 77, 4, 172, 3, 172]
abbrev dktX0_beginBatch_0 : List UInt8 := dkwX0_beginBatch_0 ++ []
theorem dksX0_beginBatch_0 : cX0_beginBatch.data.toList.drop 0 = dktX0_beginBatch_0 := by decide +kernel
theorem dX0_beginBatch_0 : decode cX0_beginBatch 0 = .ok (.aload_n 1, 1) := dk_43 (dk_at dksX0_beginBatch_0 0 rfl rfl)
theorem dX0_beginBatch_1 : decode cX0_beginBatch 1 = .ok (.iconst 0, 1) := dk_3 (dk_at dksX0_beginBatch_0 1 rfl rfl)
theorem dX0_beginBatch_2 : decode cX0_beginBatch 2 = .ok (.aload_n 0, 1) := dk_42 (dk_at dksX0_beginBatch_0 2 rfl rfl)
theorem dX0_beginBatch_3 : decode cX0_beginBatch 3 = .ok (.invokevirtual 26, 3) := dk_182 0 26 (dk_at dksX0_beginBatch_0 3 rfl rfl)
theorem dX0_beginBatch_6 : decode cX0_beginBatch 6 = .ok (.i2l, 1) := dk_133 (dk_at dksX0_beginBatch_0 6 rfl rfl)
theorem dX0_beginBatch_7 : decode cX0_beginBatch 7 = .ok (.lastore, 1) := dk_80 (dk_at dksX0_beginBatch_0 7 rfl rfl)
theorem dX0_beginBatch_8 : decode cX0_beginBatch 8 = .ok (.goto 6, 3) := dk_167 0 6 (dk_at dksX0_beginBatch_0 8 rfl rfl)
theorem dX0_beginBatch_11 : decode cX0_beginBatch 11 = .ok (.astore_n 2, 1) := dk_77 (dk_at dksX0_beginBatch_0 11 rfl rfl)
theorem dX0_beginBatch_12 : decode cX0_beginBatch 12 = .ok (.iconst 1, 1) := dk_4 (dk_at dksX0_beginBatch_0 12 rfl rfl)
theorem dX0_beginBatch_13 : decode cX0_beginBatch 13 = .ok (.ireturn, 1) := dk_172 (dk_at dksX0_beginBatch_0 13 rfl rfl)
theorem dX0_beginBatch_14 : decode cX0_beginBatch 14 = .ok (.iconst 0, 1) := dk_3 (dk_at dksX0_beginBatch_0 14 rfl rfl)
theorem dX0_beginBatch_15 : decode cX0_beginBatch 15 = .ok (.ireturn, 1) := dk_172 (dk_at dksX0_beginBatch_0 15 rfl rfl)
abbrev cX0_key : ByteArray := method_7_code
def yX0_key : MethodName := ⟨RX0, "key", "(LCatalogueLoader;II[J)I"⟩
def dkwX0_key_0 : List UInt8 := [45, 3, 42, 27, 28, 182, 0, 30, 133, 80, 167, 0, 11, 58, 4, 4, 172, 58, 4, 5, 172, 3, 172]
abbrev dktX0_key_0 : List UInt8 := dkwX0_key_0 ++ []
theorem dksX0_key_0 : cX0_key.data.toList.drop 0 = dktX0_key_0 := by decide +kernel
theorem dX0_key_0 : decode cX0_key 0 = .ok (.aload_n 3, 1) := dk_45 (dk_at dksX0_key_0 0 rfl rfl)
theorem dX0_key_1 : decode cX0_key 1 = .ok (.iconst 0, 1) := dk_3 (dk_at dksX0_key_0 1 rfl rfl)
theorem dX0_key_2 : decode cX0_key 2 = .ok (.aload_n 0, 1) := dk_42 (dk_at dksX0_key_0 2 rfl rfl)
theorem dX0_key_3 : decode cX0_key 3 = .ok (.iload_n 1, 1) := dk_27 (dk_at dksX0_key_0 3 rfl rfl)
theorem dX0_key_4 : decode cX0_key 4 = .ok (.iload_n 2, 1) := dk_28 (dk_at dksX0_key_0 4 rfl rfl)
theorem dX0_key_5 : decode cX0_key 5 = .ok (.invokevirtual 30, 3) := dk_182 0 30 (dk_at dksX0_key_0 5 rfl rfl)
theorem dX0_key_8 : decode cX0_key 8 = .ok (.i2l, 1) := dk_133 (dk_at dksX0_key_0 8 rfl rfl)
theorem dX0_key_9 : decode cX0_key 9 = .ok (.lastore, 1) := dk_80 (dk_at dksX0_key_0 9 rfl rfl)
theorem dX0_key_10 : decode cX0_key 10 = .ok (.goto 11, 3) := dk_167 0 11 (dk_at dksX0_key_0 10 rfl rfl)
theorem dX0_key_13 : decode cX0_key 13 = .ok (.astore 4, 2) := dk_58 4 (dk_at dksX0_key_0 13 rfl rfl)
theorem dX0_key_15 : decode cX0_key 15 = .ok (.iconst 1, 1) := dk_4 (dk_at dksX0_key_0 15 rfl rfl)
theorem dX0_key_16 : decode cX0_key 16 = .ok (.ireturn, 1) := dk_172 (dk_at dksX0_key_0 16 rfl rfl)
theorem dX0_key_17 : decode cX0_key 17 = .ok (.astore 4, 2) := dk_58 4 (dk_at dksX0_key_0 17 rfl rfl)
theorem dX0_key_19 : decode cX0_key 19 = .ok (.iconst 2, 1) := dk_5 (dk_at dksX0_key_0 19 rfl rfl)
theorem dX0_key_20 : decode cX0_key 20 = .ok (.ireturn, 1) := dk_172 (dk_at dksX0_key_0 20 rfl rfl)
theorem dX0_key_21 : decode cX0_key 21 = .ok (.iconst 0, 1) := dk_3 (dk_at dksX0_key_0 21 rfl rfl)
theorem dX0_key_22 : decode cX0_key 22 = .ok (.ireturn, 1) := dk_172 (dk_at dksX0_key_0 22 rfl rfl)
abbrev cX0_field : ByteArray := method_8_code
def yX0_field : MethodName := ⟨RX0, "field", "(LCatalogueLoader;II[J)I"⟩
def dkwX0_field_0 : List UInt8 := [45, 3, 42, 27, 28, 182, 0, 33, 133, 80, 167, 0, 11, 58, 4, 4, 172, 58, 4, 5, 172, 3, 172]
abbrev dktX0_field_0 : List UInt8 := dkwX0_field_0 ++ []
theorem dksX0_field_0 : cX0_field.data.toList.drop 0 = dktX0_field_0 := by decide +kernel
theorem dX0_field_0 : decode cX0_field 0 = .ok (.aload_n 3, 1) := dk_45 (dk_at dksX0_field_0 0 rfl rfl)
theorem dX0_field_1 : decode cX0_field 1 = .ok (.iconst 0, 1) := dk_3 (dk_at dksX0_field_0 1 rfl rfl)
theorem dX0_field_2 : decode cX0_field 2 = .ok (.aload_n 0, 1) := dk_42 (dk_at dksX0_field_0 2 rfl rfl)
theorem dX0_field_3 : decode cX0_field 3 = .ok (.iload_n 1, 1) := dk_27 (dk_at dksX0_field_0 3 rfl rfl)
theorem dX0_field_4 : decode cX0_field 4 = .ok (.iload_n 2, 1) := dk_28 (dk_at dksX0_field_0 4 rfl rfl)
theorem dX0_field_5 : decode cX0_field 5 = .ok (.invokevirtual 33, 3) := dk_182 0 33 (dk_at dksX0_field_0 5 rfl rfl)
theorem dX0_field_8 : decode cX0_field 8 = .ok (.i2l, 1) := dk_133 (dk_at dksX0_field_0 8 rfl rfl)
theorem dX0_field_9 : decode cX0_field 9 = .ok (.lastore, 1) := dk_80 (dk_at dksX0_field_0 9 rfl rfl)
theorem dX0_field_10 : decode cX0_field 10 = .ok (.goto 11, 3) := dk_167 0 11 (dk_at dksX0_field_0 10 rfl rfl)
theorem dX0_field_13 : decode cX0_field 13 = .ok (.astore 4, 2) := dk_58 4 (dk_at dksX0_field_0 13 rfl rfl)
theorem dX0_field_15 : decode cX0_field 15 = .ok (.iconst 1, 1) := dk_4 (dk_at dksX0_field_0 15 rfl rfl)
theorem dX0_field_16 : decode cX0_field 16 = .ok (.ireturn, 1) := dk_172 (dk_at dksX0_field_0 16 rfl rfl)
theorem dX0_field_17 : decode cX0_field 17 = .ok (.astore 4, 2) := dk_58 4 (dk_at dksX0_field_0 17 rfl rfl)
theorem dX0_field_19 : decode cX0_field 19 = .ok (.iconst 2, 1) := dk_5 (dk_at dksX0_field_0 19 rfl rfl)
theorem dX0_field_20 : decode cX0_field 20 = .ok (.ireturn, 1) := dk_172 (dk_at dksX0_field_0 20 rfl rfl)
theorem dX0_field_21 : decode cX0_field 21 = .ok (.iconst 0, 1) := dk_3 (dk_at dksX0_field_0 21 rfl rfl)
theorem dX0_field_22 : decode cX0_field 22 = .ok (.ireturn, 1) := dk_172 (dk_at dksX0_field_0 22 rfl rfl)
abbrev cX0_load : ByteArray := method_9_code
def yX0_load : MethodName := ⟨RX0, "load", "(LCatalogueLoader;I[J)I"⟩
def dkwX0_load_0 : List UInt8 := [44, 3, 42, 27, 182, 0, 36, 133, 80, 167, 0, 9, 78, 4, 172, 78, 5, 172, 3, 172]
abbrev dktX0_load_0 : List UInt8 := dkwX0_load_0 ++ []
theorem dksX0_load_0 : cX0_load.data.toList.drop 0 = dktX0_load_0 := by decide +kernel
theorem dX0_load_0 : decode cX0_load 0 = .ok (.aload_n 2, 1) := dk_44 (dk_at dksX0_load_0 0 rfl rfl)
theorem dX0_load_1 : decode cX0_load 1 = .ok (.iconst 0, 1) := dk_3 (dk_at dksX0_load_0 1 rfl rfl)
theorem dX0_load_2 : decode cX0_load 2 = .ok (.aload_n 0, 1) := dk_42 (dk_at dksX0_load_0 2 rfl rfl)
theorem dX0_load_3 : decode cX0_load 3 = .ok (.iload_n 1, 1) := dk_27 (dk_at dksX0_load_0 3 rfl rfl)
theorem dX0_load_4 : decode cX0_load 4 = .ok (.invokevirtual 36, 3) := dk_182 0 36 (dk_at dksX0_load_0 4 rfl rfl)
theorem dX0_load_7 : decode cX0_load 7 = .ok (.i2l, 1) := dk_133 (dk_at dksX0_load_0 7 rfl rfl)
theorem dX0_load_8 : decode cX0_load 8 = .ok (.lastore, 1) := dk_80 (dk_at dksX0_load_0 8 rfl rfl)
theorem dX0_load_9 : decode cX0_load 9 = .ok (.goto 9, 3) := dk_167 0 9 (dk_at dksX0_load_0 9 rfl rfl)
theorem dX0_load_12 : decode cX0_load 12 = .ok (.astore_n 3, 1) := dk_78 (dk_at dksX0_load_0 12 rfl rfl)
theorem dX0_load_13 : decode cX0_load 13 = .ok (.iconst 1, 1) := dk_4 (dk_at dksX0_load_0 13 rfl rfl)
theorem dX0_load_14 : decode cX0_load 14 = .ok (.ireturn, 1) := dk_172 (dk_at dksX0_load_0 14 rfl rfl)
theorem dX0_load_15 : decode cX0_load 15 = .ok (.astore_n 3, 1) := dk_78 (dk_at dksX0_load_0 15 rfl rfl)
theorem dX0_load_16 : decode cX0_load 16 = .ok (.iconst 2, 1) := dk_5 (dk_at dksX0_load_0 16 rfl rfl)
theorem dX0_load_17 : decode cX0_load 17 = .ok (.ireturn, 1) := dk_172 (dk_at dksX0_load_0 17 rfl rfl)
theorem dX0_load_18 : decode cX0_load 18 = .ok (.iconst 0, 1) := dk_3 (dk_at dksX0_load_0 18 rfl rfl)
theorem dX0_load_19 : decode cX0_load 19 = .ok (.ireturn, 1) := dk_172 (dk_at dksX0_load_0 19 rfl rfl)
abbrev cX0_protect : ByteArray := method_10_code
def yX0_protect : MethodName := ⟨RX0, "protect", "(LCatalogueLoader;IIZ[J)I"⟩
def dkwX0_protect_1 : List UInt8 := [4, 172, 58, 5, 5, 172, 3, 172]
abbrev dktX0_protect_1 : List UInt8 := dkwX0_protect_1 ++ []
def dkwX0_protect_0 : List UInt8 := [25, 4, 3, 42, 27, 28, 29, 182, 0, 40, 153, 0, 7, 10, 167, 0, 4, 9, 80, 167, 0, 11, 58, 5]
abbrev dktX0_protect_0 : List UInt8 := dkwX0_protect_0 ++ dktX0_protect_1
theorem dksX0_protect_0 : cX0_protect.data.toList.drop 0 = dktX0_protect_0 := by decide +kernel
theorem dksX0_protect_1 : cX0_protect.data.toList.drop 24 = dktX0_protect_1 := dk_seg dksX0_protect_0 24 rfl rfl
theorem dX0_protect_0 : decode cX0_protect 0 = .ok (.aload 4, 2) := dk_25 4 (dk_at dksX0_protect_0 0 rfl rfl)
theorem dX0_protect_2 : decode cX0_protect 2 = .ok (.iconst 0, 1) := dk_3 (dk_at dksX0_protect_0 2 rfl rfl)
theorem dX0_protect_3 : decode cX0_protect 3 = .ok (.aload_n 0, 1) := dk_42 (dk_at dksX0_protect_0 3 rfl rfl)
theorem dX0_protect_4 : decode cX0_protect 4 = .ok (.iload_n 1, 1) := dk_27 (dk_at dksX0_protect_0 4 rfl rfl)
theorem dX0_protect_5 : decode cX0_protect 5 = .ok (.iload_n 2, 1) := dk_28 (dk_at dksX0_protect_0 5 rfl rfl)
theorem dX0_protect_6 : decode cX0_protect 6 = .ok (.iload_n 3, 1) := dk_29 (dk_at dksX0_protect_0 6 rfl rfl)
theorem dX0_protect_7 : decode cX0_protect 7 = .ok (.invokevirtual 40, 3) := dk_182 0 40 (dk_at dksX0_protect_0 7 rfl rfl)
theorem dX0_protect_10 : decode cX0_protect 10 = .ok (.ifCond .eq 7, 3) := dk_153 0 7 (dk_at dksX0_protect_0 10 rfl rfl)
theorem dX0_protect_13 : decode cX0_protect 13 = .ok (.lconst 1, 1) := dk_10 (dk_at dksX0_protect_0 13 rfl rfl)
theorem dX0_protect_14 : decode cX0_protect 14 = .ok (.goto 4, 3) := dk_167 0 4 (dk_at dksX0_protect_0 14 rfl rfl)
theorem dX0_protect_17 : decode cX0_protect 17 = .ok (.lconst 0, 1) := dk_9 (dk_at dksX0_protect_0 17 rfl rfl)
theorem dX0_protect_18 : decode cX0_protect 18 = .ok (.lastore, 1) := dk_80 (dk_at dksX0_protect_0 18 rfl rfl)
theorem dX0_protect_19 : decode cX0_protect 19 = .ok (.goto 11, 3) := dk_167 0 11 (dk_at dksX0_protect_0 19 rfl rfl)
theorem dX0_protect_22 : decode cX0_protect 22 = .ok (.astore 5, 2) := dk_58 5 (dk_at dksX0_protect_0 22 rfl rfl)
theorem dX0_protect_24 : decode cX0_protect 24 = .ok (.iconst 1, 1) := dk_4 (dk_at dksX0_protect_1 0 rfl rfl)
theorem dX0_protect_25 : decode cX0_protect 25 = .ok (.ireturn, 1) := dk_172 (dk_at dksX0_protect_1 1 rfl rfl)
theorem dX0_protect_26 : decode cX0_protect 26 = .ok (.astore 5, 2) := dk_58 5 (dk_at dksX0_protect_1 2 rfl rfl)
theorem dX0_protect_28 : decode cX0_protect 28 = .ok (.iconst 2, 1) := dk_5 (dk_at dksX0_protect_1 4 rfl rfl)
theorem dX0_protect_29 : decode cX0_protect 29 = .ok (.ireturn, 1) := dk_172 (dk_at dksX0_protect_1 5 rfl rfl)
theorem dX0_protect_30 : decode cX0_protect 30 = .ok (.iconst 0, 1) := dk_3 (dk_at dksX0_protect_1 6 rfl rfl)
theorem dX0_protect_31 : decode cX0_protect 31 = .ok (.ireturn, 1) := dk_172 (dk_at dksX0_protect_1 7 rfl rfl)
abbrev cX0_hold : ByteArray := method_11_code
def yX0_hold : MethodName := ⟨RX0, "hold", "(LCatalogueLoader;I[J)I"⟩
def dkwX0_hold_0 : List UInt8 := [44, 3, 42, 27, 182, 0, 44, 133, 80, 167, 0, 9, 78, 4, 172, 78, 5, 172, 3, 172]
abbrev dktX0_hold_0 : List UInt8 := dkwX0_hold_0 ++ []
theorem dksX0_hold_0 : cX0_hold.data.toList.drop 0 = dktX0_hold_0 := by decide +kernel
theorem dX0_hold_0 : decode cX0_hold 0 = .ok (.aload_n 2, 1) := dk_44 (dk_at dksX0_hold_0 0 rfl rfl)
theorem dX0_hold_1 : decode cX0_hold 1 = .ok (.iconst 0, 1) := dk_3 (dk_at dksX0_hold_0 1 rfl rfl)
theorem dX0_hold_2 : decode cX0_hold 2 = .ok (.aload_n 0, 1) := dk_42 (dk_at dksX0_hold_0 2 rfl rfl)
theorem dX0_hold_3 : decode cX0_hold 3 = .ok (.iload_n 1, 1) := dk_27 (dk_at dksX0_hold_0 3 rfl rfl)
theorem dX0_hold_4 : decode cX0_hold 4 = .ok (.invokevirtual 44, 3) := dk_182 0 44 (dk_at dksX0_hold_0 4 rfl rfl)
theorem dX0_hold_7 : decode cX0_hold 7 = .ok (.i2l, 1) := dk_133 (dk_at dksX0_hold_0 7 rfl rfl)
theorem dX0_hold_8 : decode cX0_hold 8 = .ok (.lastore, 1) := dk_80 (dk_at dksX0_hold_0 8 rfl rfl)
theorem dX0_hold_9 : decode cX0_hold 9 = .ok (.goto 9, 3) := dk_167 0 9 (dk_at dksX0_hold_0 9 rfl rfl)
theorem dX0_hold_12 : decode cX0_hold 12 = .ok (.astore_n 3, 1) := dk_78 (dk_at dksX0_hold_0 12 rfl rfl)
theorem dX0_hold_13 : decode cX0_hold 13 = .ok (.iconst 1, 1) := dk_4 (dk_at dksX0_hold_0 13 rfl rfl)
theorem dX0_hold_14 : decode cX0_hold 14 = .ok (.ireturn, 1) := dk_172 (dk_at dksX0_hold_0 14 rfl rfl)
theorem dX0_hold_15 : decode cX0_hold 15 = .ok (.astore_n 3, 1) := dk_78 (dk_at dksX0_hold_0 15 rfl rfl)
theorem dX0_hold_16 : decode cX0_hold 16 = .ok (.iconst 2, 1) := dk_5 (dk_at dksX0_hold_0 16 rfl rfl)
theorem dX0_hold_17 : decode cX0_hold 17 = .ok (.ireturn, 1) := dk_172 (dk_at dksX0_hold_0 17 rfl rfl)
theorem dX0_hold_18 : decode cX0_hold 18 = .ok (.iconst 0, 1) := dk_3 (dk_at dksX0_hold_0 18 rfl rfl)
theorem dX0_hold_19 : decode cX0_hold 19 = .ok (.ireturn, 1) := dk_172 (dk_at dksX0_hold_0 19 rfl rfl)
abbrev cX0_merge : ByteArray := method_12_code
def yX0_merge : MethodName := ⟨RX0, "merge", "(LCatalogueLoader;II[J)I"⟩
def dkwX0_merge_1 : List UInt8 := [172, 3, 172]
abbrev dktX0_merge_1 : List UInt8 := dkwX0_merge_1 ++ []
def dkwX0_merge_0 : List UInt8 := [45, 3, 42, 27, 28, 182, 0, 47, 133, 80, 167, 0, 15, 58, 4, 4, 172, 58, 4, 5, 172, 58, 4, 6]
abbrev dktX0_merge_0 : List UInt8 := dkwX0_merge_0 ++ dktX0_merge_1
theorem dksX0_merge_0 : cX0_merge.data.toList.drop 0 = dktX0_merge_0 := by decide +kernel
theorem dksX0_merge_1 : cX0_merge.data.toList.drop 24 = dktX0_merge_1 := dk_seg dksX0_merge_0 24 rfl rfl
theorem dX0_merge_0 : decode cX0_merge 0 = .ok (.aload_n 3, 1) := dk_45 (dk_at dksX0_merge_0 0 rfl rfl)
theorem dX0_merge_1 : decode cX0_merge 1 = .ok (.iconst 0, 1) := dk_3 (dk_at dksX0_merge_0 1 rfl rfl)
theorem dX0_merge_2 : decode cX0_merge 2 = .ok (.aload_n 0, 1) := dk_42 (dk_at dksX0_merge_0 2 rfl rfl)
theorem dX0_merge_3 : decode cX0_merge 3 = .ok (.iload_n 1, 1) := dk_27 (dk_at dksX0_merge_0 3 rfl rfl)
theorem dX0_merge_4 : decode cX0_merge 4 = .ok (.iload_n 2, 1) := dk_28 (dk_at dksX0_merge_0 4 rfl rfl)
theorem dX0_merge_5 : decode cX0_merge 5 = .ok (.invokevirtual 47, 3) := dk_182 0 47 (dk_at dksX0_merge_0 5 rfl rfl)
theorem dX0_merge_8 : decode cX0_merge 8 = .ok (.i2l, 1) := dk_133 (dk_at dksX0_merge_0 8 rfl rfl)
theorem dX0_merge_9 : decode cX0_merge 9 = .ok (.lastore, 1) := dk_80 (dk_at dksX0_merge_0 9 rfl rfl)
theorem dX0_merge_10 : decode cX0_merge 10 = .ok (.goto 15, 3) := dk_167 0 15 (dk_at dksX0_merge_0 10 rfl rfl)
theorem dX0_merge_13 : decode cX0_merge 13 = .ok (.astore 4, 2) := dk_58 4 (dk_at dksX0_merge_0 13 rfl rfl)
theorem dX0_merge_15 : decode cX0_merge 15 = .ok (.iconst 1, 1) := dk_4 (dk_at dksX0_merge_0 15 rfl rfl)
theorem dX0_merge_16 : decode cX0_merge 16 = .ok (.ireturn, 1) := dk_172 (dk_at dksX0_merge_0 16 rfl rfl)
theorem dX0_merge_17 : decode cX0_merge 17 = .ok (.astore 4, 2) := dk_58 4 (dk_at dksX0_merge_0 17 rfl rfl)
theorem dX0_merge_19 : decode cX0_merge 19 = .ok (.iconst 2, 1) := dk_5 (dk_at dksX0_merge_0 19 rfl rfl)
theorem dX0_merge_20 : decode cX0_merge 20 = .ok (.ireturn, 1) := dk_172 (dk_at dksX0_merge_0 20 rfl rfl)
theorem dX0_merge_21 : decode cX0_merge 21 = .ok (.astore 4, 2) := dk_58 4 (dk_at dksX0_merge_0 21 rfl rfl)
theorem dX0_merge_23 : decode cX0_merge 23 = .ok (.iconst 3, 1) := dk_6 (dk_at dksX0_merge_0 23 rfl rfl)
theorem dX0_merge_24 : decode cX0_merge 24 = .ok (.ireturn, 1) := dk_172 (dk_at dksX0_merge_1 0 rfl rfl)
theorem dX0_merge_25 : decode cX0_merge 25 = .ok (.iconst 0, 1) := dk_3 (dk_at dksX0_merge_1 1 rfl rfl)
theorem dX0_merge_26 : decode cX0_merge 26 = .ok (.ireturn, 1) := dk_172 (dk_at dksX0_merge_1 2 rfl rfl)
abbrev cX0_undo : ByteArray := method_13_code
def yX0_undo : MethodName := ⟨RX0, "undo", "(LCatalogueLoader;IZ[J)I"⟩
def dkwX0_undo_0 : List UInt8 := [45, 3, 42, 27, 28, 182, 0, 50, 133, 80, 167, 0, 11, 58, 4, 4, 172, 58, 4, 5, 172, 3, 172]
abbrev dktX0_undo_0 : List UInt8 := dkwX0_undo_0 ++ []
theorem dksX0_undo_0 : cX0_undo.data.toList.drop 0 = dktX0_undo_0 := by decide +kernel
theorem dX0_undo_0 : decode cX0_undo 0 = .ok (.aload_n 3, 1) := dk_45 (dk_at dksX0_undo_0 0 rfl rfl)
theorem dX0_undo_1 : decode cX0_undo 1 = .ok (.iconst 0, 1) := dk_3 (dk_at dksX0_undo_0 1 rfl rfl)
theorem dX0_undo_2 : decode cX0_undo 2 = .ok (.aload_n 0, 1) := dk_42 (dk_at dksX0_undo_0 2 rfl rfl)
theorem dX0_undo_3 : decode cX0_undo 3 = .ok (.iload_n 1, 1) := dk_27 (dk_at dksX0_undo_0 3 rfl rfl)
theorem dX0_undo_4 : decode cX0_undo 4 = .ok (.iload_n 2, 1) := dk_28 (dk_at dksX0_undo_0 4 rfl rfl)
theorem dX0_undo_5 : decode cX0_undo 5 = .ok (.invokevirtual 50, 3) := dk_182 0 50 (dk_at dksX0_undo_0 5 rfl rfl)
theorem dX0_undo_8 : decode cX0_undo 8 = .ok (.i2l, 1) := dk_133 (dk_at dksX0_undo_0 8 rfl rfl)
theorem dX0_undo_9 : decode cX0_undo 9 = .ok (.lastore, 1) := dk_80 (dk_at dksX0_undo_0 9 rfl rfl)
theorem dX0_undo_10 : decode cX0_undo 10 = .ok (.goto 11, 3) := dk_167 0 11 (dk_at dksX0_undo_0 10 rfl rfl)
theorem dX0_undo_13 : decode cX0_undo 13 = .ok (.astore 4, 2) := dk_58 4 (dk_at dksX0_undo_0 13 rfl rfl)
theorem dX0_undo_15 : decode cX0_undo 15 = .ok (.iconst 1, 1) := dk_4 (dk_at dksX0_undo_0 15 rfl rfl)
theorem dX0_undo_16 : decode cX0_undo 16 = .ok (.ireturn, 1) := dk_172 (dk_at dksX0_undo_0 16 rfl rfl)
theorem dX0_undo_17 : decode cX0_undo 17 = .ok (.astore 4, 2) := dk_58 4 (dk_at dksX0_undo_0 17 rfl rfl)
theorem dX0_undo_19 : decode cX0_undo 19 = .ok (.iconst 2, 1) := dk_5 (dk_at dksX0_undo_0 19 rfl rfl)
theorem dX0_undo_20 : decode cX0_undo 20 = .ok (.ireturn, 1) := dk_172 (dk_at dksX0_undo_0 20 rfl rfl)
theorem dX0_undo_21 : decode cX0_undo 21 = .ok (.iconst 0, 1) := dk_3 (dk_at dksX0_undo_0 21 rfl rfl)
theorem dX0_undo_22 : decode cX0_undo 22 = .ok (.ireturn, 1) := dk_172 (dk_at dksX0_undo_0 22 rfl rfl)
abbrev cX0_isUndone : ByteArray := method_14_code
def yX0_isUndone : MethodName := ⟨RX0, "isUndone", "(LCatalogueLoader;I[J)I"⟩
def dkwX0_isUndone_0 : List UInt8 := [44, 3, 42, 27, 182, 0, 54, 153, 0, 7, 10, 167, 0, 4, 9, 80, 167, 0, 6, 78, 4, 172, 3, 172]
abbrev dktX0_isUndone_0 : List UInt8 := dkwX0_isUndone_0 ++ []
theorem dksX0_isUndone_0 : cX0_isUndone.data.toList.drop 0 = dktX0_isUndone_0 := by decide +kernel
theorem dX0_isUndone_0 : decode cX0_isUndone 0 = .ok (.aload_n 2, 1) := dk_44 (dk_at dksX0_isUndone_0 0 rfl rfl)
theorem dX0_isUndone_1 : decode cX0_isUndone 1 = .ok (.iconst 0, 1) := dk_3 (dk_at dksX0_isUndone_0 1 rfl rfl)
theorem dX0_isUndone_2 : decode cX0_isUndone 2 = .ok (.aload_n 0, 1) := dk_42 (dk_at dksX0_isUndone_0 2 rfl rfl)
theorem dX0_isUndone_3 : decode cX0_isUndone 3 = .ok (.iload_n 1, 1) := dk_27 (dk_at dksX0_isUndone_0 3 rfl rfl)
theorem dX0_isUndone_4 : decode cX0_isUndone 4 = .ok (.invokevirtual 54, 3) := dk_182 0 54 (dk_at dksX0_isUndone_0 4 rfl rfl)
theorem dX0_isUndone_7 : decode cX0_isUndone 7 = .ok (.ifCond .eq 7, 3) := dk_153 0 7 (dk_at dksX0_isUndone_0 7 rfl rfl)
theorem dX0_isUndone_10 : decode cX0_isUndone 10 = .ok (.lconst 1, 1) := dk_10 (dk_at dksX0_isUndone_0 10 rfl rfl)
theorem dX0_isUndone_11 : decode cX0_isUndone 11 = .ok (.goto 4, 3) := dk_167 0 4 (dk_at dksX0_isUndone_0 11 rfl rfl)
theorem dX0_isUndone_14 : decode cX0_isUndone 14 = .ok (.lconst 0, 1) := dk_9 (dk_at dksX0_isUndone_0 14 rfl rfl)
theorem dX0_isUndone_15 : decode cX0_isUndone 15 = .ok (.lastore, 1) := dk_80 (dk_at dksX0_isUndone_0 15 rfl rfl)
theorem dX0_isUndone_16 : decode cX0_isUndone 16 = .ok (.goto 6, 3) := dk_167 0 6 (dk_at dksX0_isUndone_0 16 rfl rfl)
theorem dX0_isUndone_19 : decode cX0_isUndone 19 = .ok (.astore_n 3, 1) := dk_78 (dk_at dksX0_isUndone_0 19 rfl rfl)
theorem dX0_isUndone_20 : decode cX0_isUndone 20 = .ok (.iconst 1, 1) := dk_4 (dk_at dksX0_isUndone_0 20 rfl rfl)
theorem dX0_isUndone_21 : decode cX0_isUndone 21 = .ok (.ireturn, 1) := dk_172 (dk_at dksX0_isUndone_0 21 rfl rfl)
theorem dX0_isUndone_22 : decode cX0_isUndone 22 = .ok (.iconst 0, 1) := dk_3 (dk_at dksX0_isUndone_0 22 rfl rfl)
theorem dX0_isUndone_23 : decode cX0_isUndone 23 = .ok (.ireturn, 1) := dk_172 (dk_at dksX0_isUndone_0 23 rfl rfl)
abbrev cX0_hit : ByteArray := method_15_code
def yX0_hit : MethodName := ⟨RX0, "hit", "(LCatalogueLoader;I[J)I"⟩
def dkwX0_hit_0 : List UInt8 := [44, 3, 42, 27, 182, 0, 58, 133, 80, 167, 0, 6, 78, 4, 172, 3, 172]
abbrev dktX0_hit_0 : List UInt8 := dkwX0_hit_0 ++ []
theorem dksX0_hit_0 : cX0_hit.data.toList.drop 0 = dktX0_hit_0 := by decide +kernel
theorem dX0_hit_0 : decode cX0_hit 0 = .ok (.aload_n 2, 1) := dk_44 (dk_at dksX0_hit_0 0 rfl rfl)
theorem dX0_hit_1 : decode cX0_hit 1 = .ok (.iconst 0, 1) := dk_3 (dk_at dksX0_hit_0 1 rfl rfl)
theorem dX0_hit_2 : decode cX0_hit 2 = .ok (.aload_n 0, 1) := dk_42 (dk_at dksX0_hit_0 2 rfl rfl)
theorem dX0_hit_3 : decode cX0_hit 3 = .ok (.iload_n 1, 1) := dk_27 (dk_at dksX0_hit_0 3 rfl rfl)
theorem dX0_hit_4 : decode cX0_hit 4 = .ok (.invokevirtual 58, 3) := dk_182 0 58 (dk_at dksX0_hit_0 4 rfl rfl)
theorem dX0_hit_7 : decode cX0_hit 7 = .ok (.i2l, 1) := dk_133 (dk_at dksX0_hit_0 7 rfl rfl)
theorem dX0_hit_8 : decode cX0_hit 8 = .ok (.lastore, 1) := dk_80 (dk_at dksX0_hit_0 8 rfl rfl)
theorem dX0_hit_9 : decode cX0_hit 9 = .ok (.goto 6, 3) := dk_167 0 6 (dk_at dksX0_hit_0 9 rfl rfl)
theorem dX0_hit_12 : decode cX0_hit 12 = .ok (.astore_n 3, 1) := dk_78 (dk_at dksX0_hit_0 12 rfl rfl)
theorem dX0_hit_13 : decode cX0_hit 13 = .ok (.iconst 1, 1) := dk_4 (dk_at dksX0_hit_0 13 rfl rfl)
theorem dX0_hit_14 : decode cX0_hit 14 = .ok (.ireturn, 1) := dk_172 (dk_at dksX0_hit_0 14 rfl rfl)
theorem dX0_hit_15 : decode cX0_hit 15 = .ok (.iconst 0, 1) := dk_3 (dk_at dksX0_hit_0 15 rfl rfl)
theorem dX0_hit_16 : decode cX0_hit 16 = .ok (.ireturn, 1) := dk_172 (dk_at dksX0_hit_0 16 rfl rfl)
abbrev cX0_keyOf : ByteArray := method_16_code
def yX0_keyOf : MethodName := ⟨RX0, "keyOf", "(LCatalogueLoader;II[J)I"⟩
def dkwX0_keyOf_0 : List UInt8 := [45, 3, 42, 27, 28, 182, 0, 61, 133, 80, 167, 0, 7, 58, 4, 4, 172, 3, 172]
abbrev dktX0_keyOf_0 : List UInt8 := dkwX0_keyOf_0 ++ []
theorem dksX0_keyOf_0 : cX0_keyOf.data.toList.drop 0 = dktX0_keyOf_0 := by decide +kernel
theorem dX0_keyOf_0 : decode cX0_keyOf 0 = .ok (.aload_n 3, 1) := dk_45 (dk_at dksX0_keyOf_0 0 rfl rfl)
theorem dX0_keyOf_1 : decode cX0_keyOf 1 = .ok (.iconst 0, 1) := dk_3 (dk_at dksX0_keyOf_0 1 rfl rfl)
theorem dX0_keyOf_2 : decode cX0_keyOf 2 = .ok (.aload_n 0, 1) := dk_42 (dk_at dksX0_keyOf_0 2 rfl rfl)
theorem dX0_keyOf_3 : decode cX0_keyOf 3 = .ok (.iload_n 1, 1) := dk_27 (dk_at dksX0_keyOf_0 3 rfl rfl)
theorem dX0_keyOf_4 : decode cX0_keyOf 4 = .ok (.iload_n 2, 1) := dk_28 (dk_at dksX0_keyOf_0 4 rfl rfl)
theorem dX0_keyOf_5 : decode cX0_keyOf 5 = .ok (.invokevirtual 61, 3) := dk_182 0 61 (dk_at dksX0_keyOf_0 5 rfl rfl)
theorem dX0_keyOf_8 : decode cX0_keyOf 8 = .ok (.i2l, 1) := dk_133 (dk_at dksX0_keyOf_0 8 rfl rfl)
theorem dX0_keyOf_9 : decode cX0_keyOf 9 = .ok (.lastore, 1) := dk_80 (dk_at dksX0_keyOf_0 9 rfl rfl)
theorem dX0_keyOf_10 : decode cX0_keyOf 10 = .ok (.goto 7, 3) := dk_167 0 7 (dk_at dksX0_keyOf_0 10 rfl rfl)
theorem dX0_keyOf_13 : decode cX0_keyOf 13 = .ok (.astore 4, 2) := dk_58 4 (dk_at dksX0_keyOf_0 13 rfl rfl)
theorem dX0_keyOf_15 : decode cX0_keyOf 15 = .ok (.iconst 1, 1) := dk_4 (dk_at dksX0_keyOf_0 15 rfl rfl)
theorem dX0_keyOf_16 : decode cX0_keyOf 16 = .ok (.ireturn, 1) := dk_172 (dk_at dksX0_keyOf_0 16 rfl rfl)
theorem dX0_keyOf_17 : decode cX0_keyOf 17 = .ok (.iconst 0, 1) := dk_3 (dk_at dksX0_keyOf_0 17 rfl rfl)
theorem dX0_keyOf_18 : decode cX0_keyOf 18 = .ok (.ireturn, 1) := dk_172 (dk_at dksX0_keyOf_0 18 rfl rfl)
abbrev cX0_fieldOf : ByteArray := method_17_code
def yX0_fieldOf : MethodName := ⟨RX0, "fieldOf", "(LCatalogueLoader;II[J)I"⟩
def dkwX0_fieldOf_0 : List UInt8 := [45, 3, 42, 27, 28, 182, 0, 64, 133, 80, 167, 0, 7, 58, 4, 4, 172, 3, 172]
abbrev dktX0_fieldOf_0 : List UInt8 := dkwX0_fieldOf_0 ++ []
theorem dksX0_fieldOf_0 : cX0_fieldOf.data.toList.drop 0 = dktX0_fieldOf_0 := by decide +kernel
theorem dX0_fieldOf_0 : decode cX0_fieldOf 0 = .ok (.aload_n 3, 1) := dk_45 (dk_at dksX0_fieldOf_0 0 rfl rfl)
theorem dX0_fieldOf_1 : decode cX0_fieldOf 1 = .ok (.iconst 0, 1) := dk_3 (dk_at dksX0_fieldOf_0 1 rfl rfl)
theorem dX0_fieldOf_2 : decode cX0_fieldOf 2 = .ok (.aload_n 0, 1) := dk_42 (dk_at dksX0_fieldOf_0 2 rfl rfl)
theorem dX0_fieldOf_3 : decode cX0_fieldOf 3 = .ok (.iload_n 1, 1) := dk_27 (dk_at dksX0_fieldOf_0 3 rfl rfl)
theorem dX0_fieldOf_4 : decode cX0_fieldOf 4 = .ok (.iload_n 2, 1) := dk_28 (dk_at dksX0_fieldOf_0 4 rfl rfl)
theorem dX0_fieldOf_5 : decode cX0_fieldOf 5 = .ok (.invokevirtual 64, 3) := dk_182 0 64 (dk_at dksX0_fieldOf_0 5 rfl rfl)
theorem dX0_fieldOf_8 : decode cX0_fieldOf 8 = .ok (.i2l, 1) := dk_133 (dk_at dksX0_fieldOf_0 8 rfl rfl)
theorem dX0_fieldOf_9 : decode cX0_fieldOf 9 = .ok (.lastore, 1) := dk_80 (dk_at dksX0_fieldOf_0 9 rfl rfl)
theorem dX0_fieldOf_10 : decode cX0_fieldOf 10 = .ok (.goto 7, 3) := dk_167 0 7 (dk_at dksX0_fieldOf_0 10 rfl rfl)
theorem dX0_fieldOf_13 : decode cX0_fieldOf 13 = .ok (.astore 4, 2) := dk_58 4 (dk_at dksX0_fieldOf_0 13 rfl rfl)
theorem dX0_fieldOf_15 : decode cX0_fieldOf 15 = .ok (.iconst 1, 1) := dk_4 (dk_at dksX0_fieldOf_0 15 rfl rfl)
theorem dX0_fieldOf_16 : decode cX0_fieldOf 16 = .ok (.ireturn, 1) := dk_172 (dk_at dksX0_fieldOf_0 16 rfl rfl)
theorem dX0_fieldOf_17 : decode cX0_fieldOf 17 = .ok (.iconst 0, 1) := dk_3 (dk_at dksX0_fieldOf_0 17 rfl rfl)
theorem dX0_fieldOf_18 : decode cX0_fieldOf 18 = .ok (.ireturn, 1) := dk_172 (dk_at dksX0_fieldOf_0 18 rfl rfl)
abbrev cX0_sourceOf : ByteArray := method_18_code
def yX0_sourceOf : MethodName := ⟨RX0, "sourceOf", "(LCatalogueLoader;II[J)I"⟩
def dkwX0_sourceOf_0 : List UInt8 := [45, 3, 42, 27, 28, 182, 0, 67, 133, 80, 167, 0, 7, 58, 4, 4, 172, 3, 172]
abbrev dktX0_sourceOf_0 : List UInt8 := dkwX0_sourceOf_0 ++ []
theorem dksX0_sourceOf_0 : cX0_sourceOf.data.toList.drop 0 = dktX0_sourceOf_0 := by decide +kernel
theorem dX0_sourceOf_0 : decode cX0_sourceOf 0 = .ok (.aload_n 3, 1) := dk_45 (dk_at dksX0_sourceOf_0 0 rfl rfl)
theorem dX0_sourceOf_1 : decode cX0_sourceOf 1 = .ok (.iconst 0, 1) := dk_3 (dk_at dksX0_sourceOf_0 1 rfl rfl)
theorem dX0_sourceOf_2 : decode cX0_sourceOf 2 = .ok (.aload_n 0, 1) := dk_42 (dk_at dksX0_sourceOf_0 2 rfl rfl)
theorem dX0_sourceOf_3 : decode cX0_sourceOf 3 = .ok (.iload_n 1, 1) := dk_27 (dk_at dksX0_sourceOf_0 3 rfl rfl)
theorem dX0_sourceOf_4 : decode cX0_sourceOf 4 = .ok (.iload_n 2, 1) := dk_28 (dk_at dksX0_sourceOf_0 4 rfl rfl)
theorem dX0_sourceOf_5 : decode cX0_sourceOf 5 = .ok (.invokevirtual 67, 3) := dk_182 0 67 (dk_at dksX0_sourceOf_0 5 rfl rfl)
theorem dX0_sourceOf_8 : decode cX0_sourceOf 8 = .ok (.i2l, 1) := dk_133 (dk_at dksX0_sourceOf_0 8 rfl rfl)
theorem dX0_sourceOf_9 : decode cX0_sourceOf 9 = .ok (.lastore, 1) := dk_80 (dk_at dksX0_sourceOf_0 9 rfl rfl)
theorem dX0_sourceOf_10 : decode cX0_sourceOf 10 = .ok (.goto 7, 3) := dk_167 0 7 (dk_at dksX0_sourceOf_0 10 rfl rfl)
theorem dX0_sourceOf_13 : decode cX0_sourceOf 13 = .ok (.astore 4, 2) := dk_58 4 (dk_at dksX0_sourceOf_0 13 rfl rfl)
theorem dX0_sourceOf_15 : decode cX0_sourceOf 15 = .ok (.iconst 1, 1) := dk_4 (dk_at dksX0_sourceOf_0 15 rfl rfl)
theorem dX0_sourceOf_16 : decode cX0_sourceOf 16 = .ok (.ireturn, 1) := dk_172 (dk_at dksX0_sourceOf_0 16 rfl rfl)
theorem dX0_sourceOf_17 : decode cX0_sourceOf 17 = .ok (.iconst 0, 1) := dk_3 (dk_at dksX0_sourceOf_0 17 rfl rfl)
theorem dX0_sourceOf_18 : decode cX0_sourceOf 18 = .ok (.ireturn, 1) := dk_172 (dk_at dksX0_sourceOf_0 18 rfl rfl)
abbrev cX0_holdings : ByteArray := method_19_code
def yX0_holdings : MethodName := ⟨RX0, "holdings", "(LCatalogueLoader;I[J)I"⟩
def dkwX0_holdings_0 : List UInt8 := [44, 3, 42, 27, 182, 0, 70, 133, 80, 167, 0, 6, 78, 4, 172, 3, 172]
abbrev dktX0_holdings_0 : List UInt8 := dkwX0_holdings_0 ++ []
theorem dksX0_holdings_0 : cX0_holdings.data.toList.drop 0 = dktX0_holdings_0 := by decide +kernel
theorem dX0_holdings_0 : decode cX0_holdings 0 = .ok (.aload_n 2, 1) := dk_44 (dk_at dksX0_holdings_0 0 rfl rfl)
theorem dX0_holdings_1 : decode cX0_holdings 1 = .ok (.iconst 0, 1) := dk_3 (dk_at dksX0_holdings_0 1 rfl rfl)
theorem dX0_holdings_2 : decode cX0_holdings 2 = .ok (.aload_n 0, 1) := dk_42 (dk_at dksX0_holdings_0 2 rfl rfl)
theorem dX0_holdings_3 : decode cX0_holdings 3 = .ok (.iload_n 1, 1) := dk_27 (dk_at dksX0_holdings_0 3 rfl rfl)
theorem dX0_holdings_4 : decode cX0_holdings 4 = .ok (.invokevirtual 70, 3) := dk_182 0 70 (dk_at dksX0_holdings_0 4 rfl rfl)
theorem dX0_holdings_7 : decode cX0_holdings 7 = .ok (.i2l, 1) := dk_133 (dk_at dksX0_holdings_0 7 rfl rfl)
theorem dX0_holdings_8 : decode cX0_holdings 8 = .ok (.lastore, 1) := dk_80 (dk_at dksX0_holdings_0 8 rfl rfl)
theorem dX0_holdings_9 : decode cX0_holdings 9 = .ok (.goto 6, 3) := dk_167 0 6 (dk_at dksX0_holdings_0 9 rfl rfl)
theorem dX0_holdings_12 : decode cX0_holdings 12 = .ok (.astore_n 3, 1) := dk_78 (dk_at dksX0_holdings_0 12 rfl rfl)
theorem dX0_holdings_13 : decode cX0_holdings 13 = .ok (.iconst 1, 1) := dk_4 (dk_at dksX0_holdings_0 13 rfl rfl)
theorem dX0_holdings_14 : decode cX0_holdings 14 = .ok (.ireturn, 1) := dk_172 (dk_at dksX0_holdings_0 14 rfl rfl)
theorem dX0_holdings_15 : decode cX0_holdings 15 = .ok (.iconst 0, 1) := dk_3 (dk_at dksX0_holdings_0 15 rfl rfl)
theorem dX0_holdings_16 : decode cX0_holdings 16 = .ok (.ireturn, 1) := dk_172 (dk_at dksX0_holdings_0 16 rfl rfl)
theorem q20 : (Jvm.Cond.initialized "CatalogueLoaderLaw") ∈ lw_all := lw_g (lw_at lw_m1 0 rfl) rfl
theorem q45 : (Jvm.Cond.classLink "CatalogueLoaderLaw" (8 : Nat) "CatalogueLoader") ∈ lw_all := lw_g (lw_at lw_m1 25 rfl) rfl
theorem q47 : (Jvm.Cond.methodLink "CatalogueLoaderLaw" (73 : Nat) ({ cls := "CatalogueLoader", name := "<init>", desc := "()V" } : Jvm.MethodName)) ∈ lw_all := lw_g (lw_at lw_m1 27 rfl) rfl
theorem q147 : (Jvm.Cond.methodLink "CatalogueLoaderLaw" (121 : Nat) ({ cls := "CatalogueLoader", name := "batches", desc := "()I" } : Jvm.MethodName)) ∈ lw_all := lw_g (lw_at lw_m1 127 rfl) rfl
theorem q151 : (Jvm.Cond.methodLink "CatalogueLoaderLaw" (125 : Nat) ({ cls := "CatalogueLoader", name := "loads", desc := "()I" } : Jvm.MethodName)) ∈ lw_all := lw_g (lw_at lw_m1 131 rfl) rfl
theorem q155 : (Jvm.Cond.methodLink "CatalogueLoaderLaw" (129 : Nat) ({ cls := "CatalogueLoader", name := "records", desc := "()I" } : Jvm.MethodName)) ∈ lw_all := lw_g (lw_at lw_m1 135 rfl) rfl
theorem q163 : (Jvm.Cond.methodLink "CatalogueLoaderLaw" (136 : Nat) ({ cls := "CatalogueLoader", name := "isThere", desc := "(I)Z" } : Jvm.MethodName)) ∈ lw_all := lw_g (lw_at lw_m1 143 rfl) rfl
theorem q171 : (Jvm.Cond.methodLink "CatalogueLoaderLaw" (155 : Nat) ({ cls := "CatalogueLoader", name := "digest", desc := "()I" } : Jvm.MethodName)) ∈ lw_all := lw_g (lw_at lw_m1 151 rfl) rfl
theorem q182 : (Jvm.Cond.methodLink "CatalogueLoaderLaw" (159 : Nat) ({ cls := "CatalogueLoader", name := "digestAnew", desc := "()I" } : Jvm.MethodName)) ∈ lw_all := lw_g (lw_at lw_m1 162 rfl) rfl
theorem q331 : (Jvm.Cond.methodLink "CatalogueLoaderLaw" (77 : Nat) ({ cls := "CatalogueLoaderLaw", name := "setRank", desc := "(LCatalogueLoader;II[J)I" } : Jvm.MethodName)) ∈ lw_all := lw_g (lw_at lw_m2 71 rfl) rfl
theorem q332 : (Jvm.Cond.static ({ cls := "CatalogueLoaderLaw", name := "setRank", desc := "(LCatalogueLoader;II[J)I" } : Jvm.MethodName)) ∈ lw_all := lw_g (lw_at lw_m2 72 rfl) rfl
theorem q333 : (Jvm.Cond.codeWith ({ cls := "CatalogueLoaderLaw", name := "setRank", desc := "(LCatalogueLoader;II[J)I" } : Jvm.MethodName) method_3_code (5 : Nat) (Option.some Jvm.ClassFile.FieldType.int) [((0 : Nat), (10 : Nat), (13 : Nat), (13 : Nat)), ((0 : Nat), (10 : Nat), (17 : Nat), (15 : Nat)), ((0 : Nat), (10 : Nat), (21 : Nat), (17 : Nat))]) ∈ lw_all := lw_g (lw_at lw_m2 73 rfl) rfl
theorem q334 : (Jvm.Cond.classLink "CatalogueLoaderLaw" (13 : Nat) "java/lang/IndexOutOfBoundsException") ∈ lw_all := lw_g (lw_at lw_m2 74 rfl) rfl
theorem q411 : (Jvm.Cond.classLink "CatalogueLoaderLaw" (15 : Nat) "java/lang/IllegalArgumentException") ∈ lw_all := lw_g (lw_at lw_m2 151 rfl) rfl
theorem q412 : (Jvm.Cond.classLink "CatalogueLoaderLaw" (17 : Nat) "java/lang/IllegalStateException") ∈ lw_all := lw_g (lw_at lw_m2 152 rfl) rfl
theorem q413 : (Jvm.Cond.methodLink "CatalogueLoaderLaw" (7 : Nat) ({ cls := "CatalogueLoader", name := "setRank", desc := "(II)I" } : Jvm.MethodName)) ∈ lw_all := lw_g (lw_at lw_m2 153 rfl) rfl
theorem q480 : (Jvm.Cond.methodLink "CatalogueLoaderLaw" (86 : Nat) ({ cls := "CatalogueLoaderLaw", name := "setRule", desc := "(LCatalogueLoader;II[J)I" } : Jvm.MethodName)) ∈ lw_all := lw_g (lw_at lw_m2 220 rfl) rfl
theorem q481 : (Jvm.Cond.static ({ cls := "CatalogueLoaderLaw", name := "setRule", desc := "(LCatalogueLoader;II[J)I" } : Jvm.MethodName)) ∈ lw_all := lw_g (lw_at lw_m2 221 rfl) rfl
theorem q482 : (Jvm.Cond.codeWith ({ cls := "CatalogueLoaderLaw", name := "setRule", desc := "(LCatalogueLoader;II[J)I" } : Jvm.MethodName) method_4_code (5 : Nat) (Option.some Jvm.ClassFile.FieldType.int) [((0 : Nat), (10 : Nat), (13 : Nat), (13 : Nat)), ((0 : Nat), (10 : Nat), (17 : Nat), (15 : Nat)), ((0 : Nat), (10 : Nat), (21 : Nat), (17 : Nat))]) ∈ lw_all := lw_g (lw_at lw_m2 222 rfl) rfl
theorem q483 : (Jvm.Cond.methodLink "CatalogueLoaderLaw" (19 : Nat) ({ cls := "CatalogueLoader", name := "setRule", desc := "(II)I" } : Jvm.MethodName)) ∈ lw_all := lw_g (lw_at lw_m2 223 rfl) rfl
theorem q490 : (Jvm.Cond.methodLink "CatalogueLoaderLaw" (89 : Nat) ({ cls := "CatalogueLoaderLaw", name := "setOrder", desc := "(LCatalogueLoader;III)I" } : Jvm.MethodName)) ∈ lw_all := lw_g (lw_at lw_m2 230 rfl) rfl
theorem q491 : (Jvm.Cond.static ({ cls := "CatalogueLoaderLaw", name := "setOrder", desc := "(LCatalogueLoader;III)I" } : Jvm.MethodName)) ∈ lw_all := lw_g (lw_at lw_m2 231 rfl) rfl
theorem q492 : (Jvm.Cond.codeWith ({ cls := "CatalogueLoaderLaw", name := "setOrder", desc := "(LCatalogueLoader;III)I" } : Jvm.MethodName) method_5_code (5 : Nat) (Option.some Jvm.ClassFile.FieldType.int) [((0 : Nat), (7 : Nat), (10 : Nat), (15 : Nat)), ((0 : Nat), (7 : Nat), (14 : Nat), (17 : Nat))]) ∈ lw_all := lw_g (lw_at lw_m2 232 rfl) rfl
theorem q493 : (Jvm.Cond.methodLink "CatalogueLoaderLaw" (22 : Nat) ({ cls := "CatalogueLoader", name := "setOrder", desc := "(III)V" } : Jvm.MethodName)) ∈ lw_all := lw_g (lw_at lw_m2 233 rfl) rfl
theorem q497 : (Jvm.Cond.methodLink "CatalogueLoaderLaw" (93 : Nat) ({ cls := "CatalogueLoaderLaw", name := "beginBatch", desc := "(LCatalogueLoader;[J)I" } : Jvm.MethodName)) ∈ lw_all := lw_g (lw_at lw_m2 237 rfl) rfl
theorem q498 : (Jvm.Cond.static ({ cls := "CatalogueLoaderLaw", name := "beginBatch", desc := "(LCatalogueLoader;[J)I" } : Jvm.MethodName)) ∈ lw_all := lw_g (lw_at lw_m2 238 rfl) rfl
theorem q499 : (Jvm.Cond.codeWith ({ cls := "CatalogueLoaderLaw", name := "beginBatch", desc := "(LCatalogueLoader;[J)I" } : Jvm.MethodName) method_6_code (3 : Nat) (Option.some Jvm.ClassFile.FieldType.int) [((0 : Nat), (8 : Nat), (11 : Nat), (17 : Nat))]) ∈ lw_all := lw_g (lw_at lw_m2 239 rfl) rfl
theorem q500 : (Jvm.Cond.methodLink "CatalogueLoaderLaw" (26 : Nat) ({ cls := "CatalogueLoader", name := "beginBatch", desc := "()I" } : Jvm.MethodName)) ∈ lw_all := lw_g (lw_at lw_m3 0 rfl) rfl
theorem q504 : (Jvm.Cond.methodLink "CatalogueLoaderLaw" (97 : Nat) ({ cls := "CatalogueLoaderLaw", name := "key", desc := "(LCatalogueLoader;II[J)I" } : Jvm.MethodName)) ∈ lw_all := lw_g (lw_at lw_m3 4 rfl) rfl
theorem q505 : (Jvm.Cond.static ({ cls := "CatalogueLoaderLaw", name := "key", desc := "(LCatalogueLoader;II[J)I" } : Jvm.MethodName)) ∈ lw_all := lw_g (lw_at lw_m3 5 rfl) rfl
theorem q506 : (Jvm.Cond.codeWith ({ cls := "CatalogueLoaderLaw", name := "key", desc := "(LCatalogueLoader;II[J)I" } : Jvm.MethodName) method_7_code (5 : Nat) (Option.some Jvm.ClassFile.FieldType.int) [((0 : Nat), (10 : Nat), (13 : Nat), (13 : Nat)), ((0 : Nat), (10 : Nat), (17 : Nat), (15 : Nat))]) ∈ lw_all := lw_g (lw_at lw_m3 6 rfl) rfl
theorem q507 : (Jvm.Cond.methodLink "CatalogueLoaderLaw" (30 : Nat) ({ cls := "CatalogueLoader", name := "key", desc := "(II)I" } : Jvm.MethodName)) ∈ lw_all := lw_g (lw_at lw_m3 7 rfl) rfl
theorem q514 : (Jvm.Cond.methodLink "CatalogueLoaderLaw" (100 : Nat) ({ cls := "CatalogueLoaderLaw", name := "field", desc := "(LCatalogueLoader;II[J)I" } : Jvm.MethodName)) ∈ lw_all := lw_g (lw_at lw_m3 14 rfl) rfl
theorem q515 : (Jvm.Cond.static ({ cls := "CatalogueLoaderLaw", name := "field", desc := "(LCatalogueLoader;II[J)I" } : Jvm.MethodName)) ∈ lw_all := lw_g (lw_at lw_m3 15 rfl) rfl
theorem q516 : (Jvm.Cond.codeWith ({ cls := "CatalogueLoaderLaw", name := "field", desc := "(LCatalogueLoader;II[J)I" } : Jvm.MethodName) method_8_code (5 : Nat) (Option.some Jvm.ClassFile.FieldType.int) [((0 : Nat), (10 : Nat), (13 : Nat), (13 : Nat)), ((0 : Nat), (10 : Nat), (17 : Nat), (15 : Nat))]) ∈ lw_all := lw_g (lw_at lw_m3 16 rfl) rfl
theorem q517 : (Jvm.Cond.methodLink "CatalogueLoaderLaw" (33 : Nat) ({ cls := "CatalogueLoader", name := "field", desc := "(II)I" } : Jvm.MethodName)) ∈ lw_all := lw_g (lw_at lw_m3 17 rfl) rfl
theorem q521 : (Jvm.Cond.methodLink "CatalogueLoaderLaw" (103 : Nat) ({ cls := "CatalogueLoaderLaw", name := "load", desc := "(LCatalogueLoader;I[J)I" } : Jvm.MethodName)) ∈ lw_all := lw_g (lw_at lw_m3 21 rfl) rfl
theorem q522 : (Jvm.Cond.static ({ cls := "CatalogueLoaderLaw", name := "load", desc := "(LCatalogueLoader;I[J)I" } : Jvm.MethodName)) ∈ lw_all := lw_g (lw_at lw_m3 22 rfl) rfl
theorem q523 : (Jvm.Cond.codeWith ({ cls := "CatalogueLoaderLaw", name := "load", desc := "(LCatalogueLoader;I[J)I" } : Jvm.MethodName) method_9_code (4 : Nat) (Option.some Jvm.ClassFile.FieldType.int) [((0 : Nat), (9 : Nat), (12 : Nat), (13 : Nat)), ((0 : Nat), (9 : Nat), (15 : Nat), (17 : Nat))]) ∈ lw_all := lw_g (lw_at lw_m3 23 rfl) rfl
theorem q524 : (Jvm.Cond.methodLink "CatalogueLoaderLaw" (36 : Nat) ({ cls := "CatalogueLoader", name := "load", desc := "(I)I" } : Jvm.MethodName)) ∈ lw_all := lw_g (lw_at lw_m3 24 rfl) rfl
theorem q629 : (Jvm.Cond.methodLink "CatalogueLoaderLaw" (107 : Nat) ({ cls := "CatalogueLoaderLaw", name := "protect", desc := "(LCatalogueLoader;IIZ[J)I" } : Jvm.MethodName)) ∈ lw_all := lw_g (lw_at lw_m3 129 rfl) rfl
theorem q630 : (Jvm.Cond.static ({ cls := "CatalogueLoaderLaw", name := "protect", desc := "(LCatalogueLoader;IIZ[J)I" } : Jvm.MethodName)) ∈ lw_all := lw_g (lw_at lw_m3 130 rfl) rfl
theorem q631 : (Jvm.Cond.codeWith ({ cls := "CatalogueLoaderLaw", name := "protect", desc := "(LCatalogueLoader;IIZ[J)I" } : Jvm.MethodName) method_10_code (6 : Nat) (Option.some Jvm.ClassFile.FieldType.int) [((0 : Nat), (19 : Nat), (22 : Nat), (13 : Nat)), ((0 : Nat), (19 : Nat), (26 : Nat), (17 : Nat))]) ∈ lw_all := lw_g (lw_at lw_m3 131 rfl) rfl
theorem q632 : (Jvm.Cond.methodLink "CatalogueLoaderLaw" (40 : Nat) ({ cls := "CatalogueLoader", name := "protect", desc := "(IIZ)Z" } : Jvm.MethodName)) ∈ lw_all := lw_g (lw_at lw_m3 132 rfl) rfl
theorem q660 : (Jvm.Cond.methodLink "CatalogueLoaderLaw" (111 : Nat) ({ cls := "CatalogueLoaderLaw", name := "hold", desc := "(LCatalogueLoader;I[J)I" } : Jvm.MethodName)) ∈ lw_all := lw_g (lw_at lw_m3 160 rfl) rfl
theorem q661 : (Jvm.Cond.static ({ cls := "CatalogueLoaderLaw", name := "hold", desc := "(LCatalogueLoader;I[J)I" } : Jvm.MethodName)) ∈ lw_all := lw_g (lw_at lw_m3 161 rfl) rfl
theorem q662 : (Jvm.Cond.codeWith ({ cls := "CatalogueLoaderLaw", name := "hold", desc := "(LCatalogueLoader;I[J)I" } : Jvm.MethodName) method_11_code (4 : Nat) (Option.some Jvm.ClassFile.FieldType.int) [((0 : Nat), (9 : Nat), (12 : Nat), (13 : Nat)), ((0 : Nat), (9 : Nat), (15 : Nat), (17 : Nat))]) ∈ lw_all := lw_g (lw_at lw_m3 162 rfl) rfl
theorem q663 : (Jvm.Cond.methodLink "CatalogueLoaderLaw" (44 : Nat) ({ cls := "CatalogueLoader", name := "hold", desc := "(I)I" } : Jvm.MethodName)) ∈ lw_all := lw_g (lw_at lw_m3 163 rfl) rfl
theorem q677 : (Jvm.Cond.methodLink "CatalogueLoaderLaw" (114 : Nat) ({ cls := "CatalogueLoaderLaw", name := "merge", desc := "(LCatalogueLoader;II[J)I" } : Jvm.MethodName)) ∈ lw_all := lw_g (lw_at lw_m3 177 rfl) rfl
theorem q678 : (Jvm.Cond.static ({ cls := "CatalogueLoaderLaw", name := "merge", desc := "(LCatalogueLoader;II[J)I" } : Jvm.MethodName)) ∈ lw_all := lw_g (lw_at lw_m3 178 rfl) rfl
theorem q679 : (Jvm.Cond.codeWith ({ cls := "CatalogueLoaderLaw", name := "merge", desc := "(LCatalogueLoader;II[J)I" } : Jvm.MethodName) method_12_code (5 : Nat) (Option.some Jvm.ClassFile.FieldType.int) [((0 : Nat), (10 : Nat), (13 : Nat), (13 : Nat)), ((0 : Nat), (10 : Nat), (17 : Nat), (15 : Nat)), ((0 : Nat), (10 : Nat), (21 : Nat), (17 : Nat))]) ∈ lw_all := lw_g (lw_at lw_m3 179 rfl) rfl
theorem q680 : (Jvm.Cond.methodLink "CatalogueLoaderLaw" (47 : Nat) ({ cls := "CatalogueLoader", name := "merge", desc := "(II)I" } : Jvm.MethodName)) ∈ lw_all := lw_g (lw_at lw_m3 180 rfl) rfl
theorem q697 : (Jvm.Cond.methodLink "CatalogueLoaderLaw" (117 : Nat) ({ cls := "CatalogueLoaderLaw", name := "undo", desc := "(LCatalogueLoader;IZ[J)I" } : Jvm.MethodName)) ∈ lw_all := lw_g (lw_at lw_m3 197 rfl) rfl
theorem q698 : (Jvm.Cond.static ({ cls := "CatalogueLoaderLaw", name := "undo", desc := "(LCatalogueLoader;IZ[J)I" } : Jvm.MethodName)) ∈ lw_all := lw_g (lw_at lw_m3 198 rfl) rfl
theorem q699 : (Jvm.Cond.codeWith ({ cls := "CatalogueLoaderLaw", name := "undo", desc := "(LCatalogueLoader;IZ[J)I" } : Jvm.MethodName) method_13_code (5 : Nat) (Option.some Jvm.ClassFile.FieldType.int) [((0 : Nat), (10 : Nat), (13 : Nat), (13 : Nat)), ((0 : Nat), (10 : Nat), (17 : Nat), (17 : Nat))]) ∈ lw_all := lw_g (lw_at lw_m3 199 rfl) rfl
theorem q700 : (Jvm.Cond.methodLink "CatalogueLoaderLaw" (50 : Nat) ({ cls := "CatalogueLoader", name := "undo", desc := "(IZ)I" } : Jvm.MethodName)) ∈ lw_all := lw_g (lw_at lw_m3 200 rfl) rfl
theorem q704 : (Jvm.Cond.methodLink "CatalogueLoaderLaw" (133 : Nat) ({ cls := "CatalogueLoaderLaw", name := "isUndone", desc := "(LCatalogueLoader;I[J)I" } : Jvm.MethodName)) ∈ lw_all := lw_g (lw_at lw_m3 204 rfl) rfl
theorem q705 : (Jvm.Cond.static ({ cls := "CatalogueLoaderLaw", name := "isUndone", desc := "(LCatalogueLoader;I[J)I" } : Jvm.MethodName)) ∈ lw_all := lw_g (lw_at lw_m3 205 rfl) rfl
theorem q706 : (Jvm.Cond.codeWith ({ cls := "CatalogueLoaderLaw", name := "isUndone", desc := "(LCatalogueLoader;I[J)I" } : Jvm.MethodName) method_14_code (4 : Nat) (Option.some Jvm.ClassFile.FieldType.int) [((0 : Nat), (16 : Nat), (19 : Nat), (13 : Nat))]) ∈ lw_all := lw_g (lw_at lw_m3 206 rfl) rfl
theorem q707 : (Jvm.Cond.methodLink "CatalogueLoaderLaw" (54 : Nat) ({ cls := "CatalogueLoader", name := "isUndone", desc := "(I)Z" } : Jvm.MethodName)) ∈ lw_all := lw_g (lw_at lw_m3 207 rfl) rfl
theorem q711 : (Jvm.Cond.methodLink "CatalogueLoaderLaw" (140 : Nat) ({ cls := "CatalogueLoaderLaw", name := "hit", desc := "(LCatalogueLoader;I[J)I" } : Jvm.MethodName)) ∈ lw_all := lw_g (lw_at lw_m3 211 rfl) rfl
theorem q712 : (Jvm.Cond.static ({ cls := "CatalogueLoaderLaw", name := "hit", desc := "(LCatalogueLoader;I[J)I" } : Jvm.MethodName)) ∈ lw_all := lw_g (lw_at lw_m3 212 rfl) rfl
theorem q713 : (Jvm.Cond.codeWith ({ cls := "CatalogueLoaderLaw", name := "hit", desc := "(LCatalogueLoader;I[J)I" } : Jvm.MethodName) method_15_code (4 : Nat) (Option.some Jvm.ClassFile.FieldType.int) [((0 : Nat), (9 : Nat), (12 : Nat), (13 : Nat))]) ∈ lw_all := lw_g (lw_at lw_m3 213 rfl) rfl
theorem q714 : (Jvm.Cond.methodLink "CatalogueLoaderLaw" (58 : Nat) ({ cls := "CatalogueLoader", name := "hit", desc := "(I)I" } : Jvm.MethodName)) ∈ lw_all := lw_g (lw_at lw_m3 214 rfl) rfl
theorem q718 : (Jvm.Cond.methodLink "CatalogueLoaderLaw" (143 : Nat) ({ cls := "CatalogueLoaderLaw", name := "keyOf", desc := "(LCatalogueLoader;II[J)I" } : Jvm.MethodName)) ∈ lw_all := lw_g (lw_at lw_m3 218 rfl) rfl
theorem q719 : (Jvm.Cond.static ({ cls := "CatalogueLoaderLaw", name := "keyOf", desc := "(LCatalogueLoader;II[J)I" } : Jvm.MethodName)) ∈ lw_all := lw_g (lw_at lw_m3 219 rfl) rfl
theorem q720 : (Jvm.Cond.codeWith ({ cls := "CatalogueLoaderLaw", name := "keyOf", desc := "(LCatalogueLoader;II[J)I" } : Jvm.MethodName) method_16_code (5 : Nat) (Option.some Jvm.ClassFile.FieldType.int) [((0 : Nat), (10 : Nat), (13 : Nat), (13 : Nat))]) ∈ lw_all := lw_g (lw_at lw_m3 220 rfl) rfl
theorem q721 : (Jvm.Cond.methodLink "CatalogueLoaderLaw" (61 : Nat) ({ cls := "CatalogueLoader", name := "keyOf", desc := "(II)I" } : Jvm.MethodName)) ∈ lw_all := lw_g (lw_at lw_m3 221 rfl) rfl
theorem q725 : (Jvm.Cond.methodLink "CatalogueLoaderLaw" (146 : Nat) ({ cls := "CatalogueLoaderLaw", name := "fieldOf", desc := "(LCatalogueLoader;II[J)I" } : Jvm.MethodName)) ∈ lw_all := lw_g (lw_at lw_m3 225 rfl) rfl
theorem q726 : (Jvm.Cond.static ({ cls := "CatalogueLoaderLaw", name := "fieldOf", desc := "(LCatalogueLoader;II[J)I" } : Jvm.MethodName)) ∈ lw_all := lw_g (lw_at lw_m3 226 rfl) rfl
theorem q727 : (Jvm.Cond.codeWith ({ cls := "CatalogueLoaderLaw", name := "fieldOf", desc := "(LCatalogueLoader;II[J)I" } : Jvm.MethodName) method_17_code (5 : Nat) (Option.some Jvm.ClassFile.FieldType.int) [((0 : Nat), (10 : Nat), (13 : Nat), (13 : Nat))]) ∈ lw_all := lw_g (lw_at lw_m3 227 rfl) rfl
theorem q728 : (Jvm.Cond.methodLink "CatalogueLoaderLaw" (64 : Nat) ({ cls := "CatalogueLoader", name := "fieldOf", desc := "(II)I" } : Jvm.MethodName)) ∈ lw_all := lw_g (lw_at lw_m3 228 rfl) rfl
theorem q732 : (Jvm.Cond.methodLink "CatalogueLoaderLaw" (149 : Nat) ({ cls := "CatalogueLoaderLaw", name := "sourceOf", desc := "(LCatalogueLoader;II[J)I" } : Jvm.MethodName)) ∈ lw_all := lw_g (lw_at lw_m3 232 rfl) rfl
theorem q733 : (Jvm.Cond.static ({ cls := "CatalogueLoaderLaw", name := "sourceOf", desc := "(LCatalogueLoader;II[J)I" } : Jvm.MethodName)) ∈ lw_all := lw_g (lw_at lw_m3 233 rfl) rfl
theorem q734 : (Jvm.Cond.codeWith ({ cls := "CatalogueLoaderLaw", name := "sourceOf", desc := "(LCatalogueLoader;II[J)I" } : Jvm.MethodName) method_18_code (5 : Nat) (Option.some Jvm.ClassFile.FieldType.int) [((0 : Nat), (10 : Nat), (13 : Nat), (13 : Nat))]) ∈ lw_all := lw_g (lw_at lw_m3 234 rfl) rfl
theorem q735 : (Jvm.Cond.methodLink "CatalogueLoaderLaw" (67 : Nat) ({ cls := "CatalogueLoader", name := "sourceOf", desc := "(II)I" } : Jvm.MethodName)) ∈ lw_all := lw_g (lw_at lw_m3 235 rfl) rfl
theorem q739 : (Jvm.Cond.methodLink "CatalogueLoaderLaw" (152 : Nat) ({ cls := "CatalogueLoaderLaw", name := "holdings", desc := "(LCatalogueLoader;I[J)I" } : Jvm.MethodName)) ∈ lw_all := lw_g (lw_at lw_m3 239 rfl) rfl
theorem q740 : (Jvm.Cond.static ({ cls := "CatalogueLoaderLaw", name := "holdings", desc := "(LCatalogueLoader;I[J)I" } : Jvm.MethodName)) ∈ lw_all := lw_g (lw_at lw_m4 0 rfl) rfl
theorem q741 : (Jvm.Cond.codeWith ({ cls := "CatalogueLoaderLaw", name := "holdings", desc := "(LCatalogueLoader;I[J)I" } : Jvm.MethodName) method_19_code (4 : Nat) (Option.some Jvm.ClassFile.FieldType.int) [((0 : Nat), (9 : Nat), (12 : Nat), (13 : Nat))]) ∈ lw_all := lw_g (lw_at lw_m4 1 rfl) rfl
theorem q742 : (Jvm.Cond.methodLink "CatalogueLoaderLaw" (70 : Nat) ({ cls := "CatalogueLoader", name := "holdings", desc := "(I)I" } : Jvm.MethodName)) ∈ lw_all := lw_g (lw_at lw_m4 2 rfl) rfl
theorem q746 : (Jvm.Cond.classLink "CatalogueLoaderLaw" (74 : Nat) "CatalogueLoaderModel") ∈ lw_all := lw_g (lw_at lw_m4 6 rfl) rfl
theorem q748 : (Jvm.Cond.methodLink "CatalogueLoaderLaw" (76 : Nat) ({ cls := "CatalogueLoaderModel", name := "<init>", desc := "()V" } : Jvm.MethodName)) ∈ lw_all := lw_g (lw_at lw_m4 8 rfl) rfl
theorem q832 : (Jvm.Cond.methodLink "CatalogueLoaderLaw" (83 : Nat) ({ cls := "CatalogueLoaderModel", name := "thrown", desc := "()I" } : Jvm.MethodName)) ∈ lw_all := lw_g (lw_at lw_m4 92 rfl) rfl
theorem q836 : (Jvm.Cond.methodLink "CatalogueLoaderLaw" (82 : Nat) ({ cls := "CatalogueLoaderModel", name := "setRank", desc := "(II)I" } : Jvm.MethodName)) ∈ lw_all := lw_g (lw_at lw_m4 96 rfl) rfl
theorem q843 : (Jvm.Cond.methodLink "CatalogueLoaderLaw" (88 : Nat) ({ cls := "CatalogueLoaderModel", name := "setRule", desc := "(II)I" } : Jvm.MethodName)) ∈ lw_all := lw_g (lw_at lw_m4 103 rfl) rfl
theorem q847 : (Jvm.Cond.methodLink "CatalogueLoaderLaw" (92 : Nat) ({ cls := "CatalogueLoaderModel", name := "setOrder", desc := "(III)V" } : Jvm.MethodName)) ∈ lw_all := lw_g (lw_at lw_m4 107 rfl) rfl
theorem q851 : (Jvm.Cond.methodLink "CatalogueLoaderLaw" (96 : Nat) ({ cls := "CatalogueLoaderModel", name := "beginBatch", desc := "()I" } : Jvm.MethodName)) ∈ lw_all := lw_g (lw_at lw_m4 111 rfl) rfl
theorem q855 : (Jvm.Cond.methodLink "CatalogueLoaderLaw" (99 : Nat) ({ cls := "CatalogueLoaderModel", name := "key", desc := "(II)I" } : Jvm.MethodName)) ∈ lw_all := lw_g (lw_at lw_m4 115 rfl) rfl
theorem q859 : (Jvm.Cond.methodLink "CatalogueLoaderLaw" (102 : Nat) ({ cls := "CatalogueLoaderModel", name := "field", desc := "(II)I" } : Jvm.MethodName)) ∈ lw_all := lw_g (lw_at lw_m4 119 rfl) rfl
theorem q863 : (Jvm.Cond.methodLink "CatalogueLoaderLaw" (106 : Nat) ({ cls := "CatalogueLoaderModel", name := "load", desc := "(I)I" } : Jvm.MethodName)) ∈ lw_all := lw_g (lw_at lw_m4 123 rfl) rfl
theorem q895 : (Jvm.Cond.methodLink "CatalogueLoaderLaw" (110 : Nat) ({ cls := "CatalogueLoaderModel", name := "protect", desc := "(IIZ)Z" } : Jvm.MethodName)) ∈ lw_all := lw_g (lw_at lw_m4 155 rfl) rfl
theorem q903 : (Jvm.Cond.methodLink "CatalogueLoaderLaw" (113 : Nat) ({ cls := "CatalogueLoaderModel", name := "hold", desc := "(I)I" } : Jvm.MethodName)) ∈ lw_all := lw_g (lw_at lw_m4 163 rfl) rfl
theorem q907 : (Jvm.Cond.methodLink "CatalogueLoaderLaw" (116 : Nat) ({ cls := "CatalogueLoaderModel", name := "merge", desc := "(II)I" } : Jvm.MethodName)) ∈ lw_all := lw_g (lw_at lw_m4 167 rfl) rfl
theorem q911 : (Jvm.Cond.methodLink "CatalogueLoaderLaw" (120 : Nat) ({ cls := "CatalogueLoaderModel", name := "undo", desc := "(IZ)I" } : Jvm.MethodName)) ∈ lw_all := lw_g (lw_at lw_m4 171 rfl) rfl
theorem q923 : (Jvm.Cond.methodLink "CatalogueLoaderLaw" (124 : Nat) ({ cls := "CatalogueLoaderModel", name := "batches", desc := "()I" } : Jvm.MethodName)) ∈ lw_all := lw_g (lw_at lw_m4 183 rfl) rfl
theorem q927 : (Jvm.Cond.methodLink "CatalogueLoaderLaw" (128 : Nat) ({ cls := "CatalogueLoaderModel", name := "loads", desc := "()I" } : Jvm.MethodName)) ∈ lw_all := lw_g (lw_at lw_m4 187 rfl) rfl
theorem q931 : (Jvm.Cond.methodLink "CatalogueLoaderLaw" (132 : Nat) ({ cls := "CatalogueLoaderModel", name := "records", desc := "()I" } : Jvm.MethodName)) ∈ lw_all := lw_g (lw_at lw_m4 191 rfl) rfl
theorem q935 : (Jvm.Cond.methodLink "CatalogueLoaderLaw" (135 : Nat) ({ cls := "CatalogueLoaderModel", name := "isUndone", desc := "(I)Z" } : Jvm.MethodName)) ∈ lw_all := lw_g (lw_at lw_m4 195 rfl) rfl
theorem q939 : (Jvm.Cond.methodLink "CatalogueLoaderLaw" (139 : Nat) ({ cls := "CatalogueLoaderModel", name := "isThere", desc := "(I)Z" } : Jvm.MethodName)) ∈ lw_all := lw_g (lw_at lw_m4 199 rfl) rfl
theorem q943 : (Jvm.Cond.methodLink "CatalogueLoaderLaw" (142 : Nat) ({ cls := "CatalogueLoaderModel", name := "hit", desc := "(I)I" } : Jvm.MethodName)) ∈ lw_all := lw_g (lw_at lw_m4 203 rfl) rfl
theorem q947 : (Jvm.Cond.methodLink "CatalogueLoaderLaw" (145 : Nat) ({ cls := "CatalogueLoaderModel", name := "keyOf", desc := "(II)I" } : Jvm.MethodName)) ∈ lw_all := lw_g (lw_at lw_m4 207 rfl) rfl
theorem q951 : (Jvm.Cond.methodLink "CatalogueLoaderLaw" (148 : Nat) ({ cls := "CatalogueLoaderModel", name := "fieldOf", desc := "(II)I" } : Jvm.MethodName)) ∈ lw_all := lw_g (lw_at lw_m4 211 rfl) rfl
theorem q955 : (Jvm.Cond.methodLink "CatalogueLoaderLaw" (151 : Nat) ({ cls := "CatalogueLoaderModel", name := "sourceOf", desc := "(II)I" } : Jvm.MethodName)) ∈ lw_all := lw_g (lw_at lw_m4 215 rfl) rfl
theorem q959 : (Jvm.Cond.methodLink "CatalogueLoaderLaw" (154 : Nat) ({ cls := "CatalogueLoaderModel", name := "holdings", desc := "(I)I" } : Jvm.MethodName)) ∈ lw_all := lw_g (lw_at lw_m4 219 rfl) rfl
theorem q963 : (Jvm.Cond.methodLink "CatalogueLoaderLaw" (158 : Nat) ({ cls := "CatalogueLoaderModel", name := "digest", desc := "()I" } : Jvm.MethodName)) ∈ lw_all := lw_g (lw_at lw_m4 223 rfl) rfl
theorem q971 : (Jvm.Cond.methodLink "CatalogueLoaderLaw" (162 : Nat) ({ cls := "CatalogueLoaderModel", name := "digestAnew", desc := "()I" } : Jvm.MethodName)) ∈ lw_all := lw_g (lw_at lw_m4 231 rfl) rfl

/-! the law's own entry -/
set_option maxRecDepth 100000
abbrev cL_law : ByteArray := code
def dkwL_law_55 : List UInt8 := [172, 132, 4, 4, 167, 250, 200, 4, 172]
abbrev dktL_law_55 : List UInt8 := dkwL_law_55 ++ []
def dkwL_law_54 : List UInt8 := [182, 0, 155, 44, 182, 0, 158, 159, 0, 18, 3, 172, 43, 182, 0, 159, 44, 182, 0, 162, 159, 0, 5, 3]
abbrev dktL_law_54 : List UInt8 := dkwL_law_54 ++ dktL_law_55
def dkwL_law_53 : List UInt8 := [172, 21, 5, 154, 0, 15, 45, 3, 47, 21, 6, 133, 148, 153, 0, 5, 3, 172, 167, 0, 29, 43]
abbrev dktL_law_53 : List UInt8 := dkwL_law_53 ++ dktL_law_54
def dkwL_law_52 : List UInt8 := [54, 5, 44, 42, 21, 4, 4, 96, 46, 182, 0, 154, 54, 6, 44, 182, 0, 83, 21, 5, 159, 0, 5, 3]
abbrev dktL_law_52 : List UInt8 := dkwL_law_52 ++ dktL_law_53
def dkwL_law_51 : List UInt8 := [21, 6, 133, 148, 153, 0, 5, 3, 172, 167, 0, 85, 43, 42, 21, 4, 4, 96, 46, 45, 184, 0, 152]
abbrev dktL_law_51 : List UInt8 := dkwL_law_51 ++ dktL_law_52
def dkwL_law_50 : List UInt8 := [182, 0, 151, 54, 6, 44, 182, 0, 83, 21, 5, 159, 0, 5, 3, 172, 21, 5, 154, 0, 15, 45, 3, 47]
abbrev dktL_law_50 : List UInt8 := dkwL_law_50 ++ dktL_law_51
def dkwL_law_49 : List UInt8 := [5, 96, 46, 45, 184, 0, 149, 54, 5, 44, 42, 21, 4, 4, 96, 46, 42, 21, 4, 5, 96, 46]
abbrev dktL_law_49 : List UInt8 := dkwL_law_49 ++ dktL_law_50
def dkwL_law_48 : List UInt8 := [3, 47, 21, 6, 133, 148, 153, 0, 5, 3, 172, 167, 0, 153, 43, 42, 21, 4, 4, 96, 46, 42, 21, 4]
abbrev dktL_law_48 : List UInt8 := dkwL_law_48 ++ dktL_law_49
def dkwL_law_47 : List UInt8 := [96, 46, 182, 0, 148, 54, 6, 44, 182, 0, 83, 21, 5, 159, 0, 5, 3, 172, 21, 5, 154, 0, 15, 45]
abbrev dktL_law_47 : List UInt8 := dkwL_law_47 ++ dktL_law_48
def dkwL_law_46 : List UInt8 := [46, 42, 21, 4, 5, 96, 46, 45, 184, 0, 146, 54, 5, 44, 42, 21, 4, 4, 96, 46, 42, 21, 4, 5]
abbrev dktL_law_46 : List UInt8 := dkwL_law_46 ++ dktL_law_47
def dkwL_law_45 : List UInt8 := [154, 0, 15, 45, 3, 47, 21, 6, 133, 148, 153, 0, 5, 3, 172, 167, 0, 221, 43, 42, 21, 4, 4, 96]
abbrev dktL_law_45 : List UInt8 := dkwL_law_45 ++ dktL_law_46
def dkwL_law_44 : List UInt8 := [21, 4, 5, 96, 46, 182, 0, 145, 54, 6, 44, 182, 0, 83, 21, 5, 159, 0, 5, 3, 172, 21, 5]
abbrev dktL_law_44 : List UInt8 := dkwL_law_44 ++ dktL_law_45
def dkwL_law_43 : List UInt8 := [4, 96, 46, 42, 21, 4, 5, 96, 46, 45, 184, 0, 143, 54, 5, 44, 42, 21, 4, 4, 96, 46, 42]
abbrev dktL_law_43 : List UInt8 := dkwL_law_43 ++ dktL_law_44
def dkwL_law_42 : List UInt8 := [21, 5, 154, 0, 15, 45, 3, 47, 21, 6, 133, 148, 153, 0, 5, 3, 172, 167, 1, 33, 43, 42, 21, 4]
abbrev dktL_law_42 : List UInt8 := dkwL_law_42 ++ dktL_law_43
def dkwL_law_41 : List UInt8 := [44, 42, 21, 4, 4, 96, 46, 182, 0, 142, 54, 6, 44, 182, 0, 83, 21, 5, 159, 0, 5, 3, 172]
abbrev dktL_law_41 : List UInt8 := dkwL_law_41 ++ dktL_law_42
def dkwL_law_40 : List UInt8 := [4, 96, 46, 182, 0, 139, 159, 1, 91, 3, 172, 43, 42, 21, 4, 4, 96, 46, 45, 184, 0, 140, 54, 5]
abbrev dktL_law_40 : List UInt8 := dkwL_law_40 ++ dktL_law_41
def dkwL_law_39 : List UInt8 := [9, 148, 153, 0, 5, 3, 172, 167, 1, 114, 43, 42, 21, 4, 4, 96, 46, 182, 0, 136, 44, 42, 21, 4]
abbrev dktL_law_39 : List UInt8 := dkwL_law_39 ++ dktL_law_40
def dkwL_law_38 : List UInt8 := [21, 5, 159, 0, 5, 3, 172, 21, 5, 154, 0, 22, 45, 3, 47, 21, 6, 153, 0, 7, 10, 167, 0, 4]
abbrev dktL_law_38 : List UInt8 := dkwL_law_38 ++ dktL_law_39
def dkwL_law_37 : List UInt8 := [46, 45, 184, 0, 133, 54, 5, 44, 42, 21, 4, 4, 96, 46, 182, 0, 135, 54, 6, 44, 182, 0, 83]
abbrev dktL_law_37 : List UInt8 := dkwL_law_37 ++ dktL_law_38
def dkwL_law_36 : List UInt8 := [159, 1, 192, 3, 172, 43, 182, 0, 129, 44, 182, 0, 132, 159, 1, 179, 3, 172, 43, 42, 21, 4, 4, 96]
abbrev dktL_law_36 : List UInt8 := dkwL_law_36 ++ dktL_law_37
def dkwL_law_35 : List UInt8 := [167, 1, 216, 43, 182, 0, 121, 44, 182, 0, 124, 159, 1, 205, 3, 172, 43, 182, 0, 125, 44, 182, 0, 128]
abbrev dktL_law_35 : List UInt8 := dkwL_law_35 ++ dktL_law_36
def dkwL_law_34 : List UInt8 := [159, 0, 5, 3, 172, 21, 5, 154, 0, 15, 45, 3, 47, 21, 6, 133, 148, 153, 0, 5, 3, 172]
abbrev dktL_law_34 : List UInt8 := dkwL_law_34 ++ dktL_law_35
def dkwL_law_33 : List UInt8 := [5, 96, 46, 153, 0, 7, 4, 167, 0, 4, 3, 182, 0, 120, 54, 6, 44, 182, 0, 83, 21, 5]
abbrev dktL_law_33 : List UInt8 := dkwL_law_33 ++ dktL_law_34
def dkwL_law_32 : List UInt8 := [153, 0, 7, 4, 167, 0, 4, 3, 45, 184, 0, 117, 54, 5, 44, 42, 21, 4, 4, 96, 46, 42, 21, 4]
abbrev dktL_law_32 : List UInt8 := dkwL_law_32 ++ dktL_law_33
def dkwL_law_31 : List UInt8 := [148, 153, 0, 5, 3, 172, 167, 2, 44, 43, 42, 21, 4, 4, 96, 46, 42, 21, 4, 5, 96, 46]
abbrev dktL_law_31 : List UInt8 := dkwL_law_31 ++ dktL_law_32
def dkwL_law_30 : List UInt8 := [54, 6, 44, 182, 0, 83, 21, 5, 159, 0, 5, 3, 172, 21, 5, 154, 0, 15, 45, 3, 47, 21, 6, 133]
abbrev dktL_law_30 : List UInt8 := dkwL_law_30 ++ dktL_law_31
def dkwL_law_29 : List UInt8 := [46, 45, 184, 0, 114, 54, 5, 44, 42, 21, 4, 4, 96, 46, 42, 21, 4, 5, 96, 46, 182, 0, 116]
abbrev dktL_law_29 : List UInt8 := dkwL_law_29 ++ dktL_law_30
def dkwL_law_28 : List UInt8 := [21, 6, 133, 148, 153, 0, 5, 3, 172, 167, 2, 112, 43, 42, 21, 4, 4, 96, 46, 42, 21, 4, 5, 96]
abbrev dktL_law_28 : List UInt8 := dkwL_law_28 ++ dktL_law_29
def dkwL_law_27 : List UInt8 := [182, 0, 113, 54, 6, 44, 182, 0, 83, 21, 5, 159, 0, 5, 3, 172, 21, 5, 154, 0, 15, 45, 3, 47]
abbrev dktL_law_27 : List UInt8 := dkwL_law_27 ++ dktL_law_28
def dkwL_law_26 : List UInt8 := [167, 2, 168, 43, 42, 21, 4, 4, 96, 46, 45, 184, 0, 111, 54, 5, 44, 42, 21, 4, 4, 96, 46]
abbrev dktL_law_26 : List UInt8 := dkwL_law_26 ++ dktL_law_27
def dkwL_law_25 : List UInt8 := [21, 5, 154, 0, 22, 45, 3, 47, 21, 6, 153, 0, 7, 10, 167, 0, 4, 9, 148, 153, 0, 5, 3, 172]
abbrev dktL_law_25 : List UInt8 := dkwL_law_25 ++ dktL_law_26
def dkwL_law_24 : List UInt8 := [153, 0, 7, 4, 167, 0, 4, 3, 182, 0, 110, 54, 6, 44, 182, 0, 83, 21, 5, 159, 0, 5, 3, 172]
abbrev dktL_law_24 : List UInt8 := dkwL_law_24 ++ dktL_law_25
def dkwL_law_23 : List UInt8 := [184, 0, 107, 54, 5, 44, 42, 21, 4, 4, 96, 46, 42, 21, 4, 5, 96, 46, 42, 21, 4, 6, 96, 46]
abbrev dktL_law_23 : List UInt8 := dkwL_law_23 ++ dktL_law_24
def dkwL_law_22 : List UInt8 := [46, 42, 21, 4, 5, 96, 46, 42, 21, 4, 6, 96, 46, 153, 0, 7, 4, 167, 0, 4, 3, 45]
abbrev dktL_law_22 : List UInt8 := dkwL_law_22 ++ dktL_law_23
def dkwL_law_21 : List UInt8 := [154, 0, 15, 45, 3, 47, 21, 6, 133, 148, 153, 0, 5, 3, 172, 167, 3, 15, 43, 42, 21, 4, 4, 96]
abbrev dktL_law_21 : List UInt8 := dkwL_law_21 ++ dktL_law_22
def dkwL_law_20 : List UInt8 := [21, 4, 4, 96, 46, 182, 0, 106, 54, 6, 44, 182, 0, 83, 21, 5, 159, 0, 5, 3, 172, 21, 5]
abbrev dktL_law_20 : List UInt8 := dkwL_law_20 ++ dktL_law_21
def dkwL_law_19 : List UInt8 := [153, 0, 5, 3, 172, 167, 3, 71, 43, 42, 21, 4, 4, 96, 46, 45, 184, 0, 103, 54, 5, 44, 42]
abbrev dktL_law_19 : List UInt8 := dkwL_law_19 ++ dktL_law_20
def dkwL_law_18 : List UInt8 := [182, 0, 83, 21, 5, 159, 0, 5, 3, 172, 21, 5, 154, 0, 15, 45, 3, 47, 21, 6, 133, 148]
abbrev dktL_law_18 : List UInt8 := dkwL_law_18 ++ dktL_law_19
def dkwL_law_17 : List UInt8 := [184, 0, 100, 54, 5, 44, 42, 21, 4, 4, 96, 46, 42, 21, 4, 5, 96, 46, 182, 0, 102, 54, 6, 44]
abbrev dktL_law_17 : List UInt8 := dkwL_law_17 ++ dktL_law_18
def dkwL_law_16 : List UInt8 := [153, 0, 5, 3, 172, 167, 3, 139, 43, 42, 21, 4, 4, 96, 46, 42, 21, 4, 5, 96, 46, 45]
abbrev dktL_law_16 : List UInt8 := dkwL_law_16 ++ dktL_law_17
def dkwL_law_15 : List UInt8 := [182, 0, 83, 21, 5, 159, 0, 5, 3, 172, 21, 5, 154, 0, 15, 45, 3, 47, 21, 6, 133, 148]
abbrev dktL_law_15 : List UInt8 := dkwL_law_15 ++ dktL_law_16
def dkwL_law_14 : List UInt8 := [184, 0, 97, 54, 5, 44, 42, 21, 4, 4, 96, 46, 42, 21, 4, 5, 96, 46, 182, 0, 99, 54, 6, 44]
abbrev dktL_law_14 : List UInt8 := dkwL_law_14 ++ dktL_law_15
def dkwL_law_13 : List UInt8 := [153, 0, 5, 3, 172, 167, 3, 207, 43, 42, 21, 4, 4, 96, 46, 42, 21, 4, 5, 96, 46, 45]
abbrev dktL_law_13 : List UInt8 := dkwL_law_13 ++ dktL_law_14
def dkwL_law_12 : List UInt8 := [182, 0, 83, 21, 5, 159, 0, 5, 3, 172, 21, 5, 154, 0, 15, 45, 3, 47, 21, 6, 133, 148]
abbrev dktL_law_12 : List UInt8 := dkwL_law_12 ++ dktL_law_13
def dkwL_law_11 : List UInt8 := [159, 0, 5, 3, 172, 167, 3, 251, 43, 45, 184, 0, 93, 54, 5, 44, 182, 0, 96, 54, 6, 44]
abbrev dktL_law_11 : List UInt8 := dkwL_law_11 ++ dktL_law_12
def dkwL_law_10 : List UInt8 := [46, 42, 21, 4, 5, 96, 46, 42, 21, 4, 6, 96, 46, 182, 0, 92, 44, 182, 0, 83, 21, 5]
abbrev dktL_law_10 : List UInt8 := dkwL_law_10 ++ dktL_law_11
def dkwL_law_9 : List UInt8 := [46, 42, 21, 4, 5, 96, 46, 42, 21, 4, 6, 96, 46, 184, 0, 89, 54, 5, 44, 42, 21, 4, 4, 96]
abbrev dktL_law_9 : List UInt8 := dkwL_law_9 ++ dktL_law_10
def dkwL_law_8 : List UInt8 := [154, 0, 15, 45, 3, 47, 21, 6, 133, 148, 153, 0, 5, 3, 172, 167, 4, 55, 43, 42, 21, 4, 4, 96]
abbrev dktL_law_8 : List UInt8 := dkwL_law_8 ++ dktL_law_9
def dkwL_law_7 : List UInt8 := [21, 4, 5, 96, 46, 182, 0, 88, 54, 6, 44, 182, 0, 83, 21, 5, 159, 0, 5, 3, 172, 21, 5]
abbrev dktL_law_7 : List UInt8 := dkwL_law_7 ++ dktL_law_8
def dkwL_law_6 : List UInt8 := [4, 96, 46, 42, 21, 4, 5, 96, 46, 45, 184, 0, 86, 54, 5, 44, 42, 21, 4, 4, 96, 46, 42]
abbrev dktL_law_6 : List UInt8 := dkwL_law_6 ++ dktL_law_7
def dkwL_law_5 : List UInt8 := [21, 5, 154, 0, 15, 45, 3, 47, 21, 6, 133, 148, 153, 0, 5, 3, 172, 167, 4, 123, 43, 42, 21, 4]
abbrev dktL_law_5 : List UInt8 := dkwL_law_5 ++ dktL_law_6
def dkwL_law_4 : List UInt8 := [96, 46, 42, 21, 4, 5, 96, 46, 182, 0, 82, 54, 6, 44, 182, 0, 83, 21, 5, 159, 0, 5, 3, 172]
abbrev dktL_law_4 : List UInt8 := dkwL_law_4 ++ dktL_law_5
def dkwL_law_3 : List UInt8 := [43, 42, 21, 4, 4, 96, 46, 42, 21, 4, 5, 96, 46, 45, 184, 0, 77, 54, 5, 44, 42, 21, 4, 4]
abbrev dktL_law_3 : List UInt8 := dkwL_law_3 ++ dktL_law_4
def dkwL_law_2 : List UInt8 := [170, 0, 0, 5, 37, 0, 0, 0, 0, 0, 0, 0, 22, 0, 0, 0, 105, 0, 0, 0, 173, 0, 0, 0, 241, 0, 0, 1, 45, 0, 0, 1, 89, 0, 0, 1, 157, 0, 0, 1, 225, 0, 0, 2, 25, 0, 0, 2, 128, 0, 0, 2, 184, 0, 0, 2, 252, 0, 0, 3, 80, 0, 0, 3, 93, 0, 0, 3, 106, 0, 0, 3, 119, 0, 0, 3, 182, 0, 0, 3, 207, 0, 0, 4, 7, 0, 0, 4, 75, 0, 0, 4, 143, 0, 0, 4, 211, 0, 0, 5, 11, 0, 0, 5, 24]
abbrev dktL_law_2 : List UInt8 := dkwL_law_2 ++ dktL_law_3
def dkwL_law_1 : List UInt8 := [21, 4, 42, 190, 7, 100, 163, 5, 53, 42, 21, 4, 46, 16, 31, 126]
abbrev dktL_law_1 : List UInt8 := dkwL_law_1 ++ dktL_law_2
def dkwL_law_0 : List UInt8 := [187, 0, 8, 89, 183, 0, 73, 76, 187, 0, 74, 89, 183, 0, 76, 77, 4, 188, 11, 78, 3, 54, 4]
abbrev dktL_law_0 : List UInt8 := dkwL_law_0 ++ dktL_law_1
theorem dksL_law_0 : cL_law.data.toList.drop 0 = dktL_law_0 := by decide +kernel
theorem dksL_law_1 : cL_law.data.toList.drop 23 = dktL_law_1 := dk_seg dksL_law_0 23 rfl rfl
theorem dksL_law_2 : cL_law.data.toList.drop 39 = dktL_law_2 := dk_seg dksL_law_1 16 rfl rfl
theorem dksL_law_3 : cL_law.data.toList.drop 144 = dktL_law_3 := dk_seg dksL_law_2 105 rfl rfl
theorem dksL_law_4 : cL_law.data.toList.drop 168 = dktL_law_4 := dk_seg dksL_law_3 24 rfl rfl
theorem dksL_law_5 : cL_law.data.toList.drop 192 = dktL_law_5 := dk_seg dksL_law_4 24 rfl rfl
theorem dksL_law_6 : cL_law.data.toList.drop 216 = dktL_law_6 := dk_seg dksL_law_5 24 rfl rfl
theorem dksL_law_7 : cL_law.data.toList.drop 239 = dktL_law_7 := dk_seg dksL_law_6 23 rfl rfl
theorem dksL_law_8 : cL_law.data.toList.drop 262 = dktL_law_8 := dk_seg dksL_law_7 23 rfl rfl
theorem dksL_law_9 : cL_law.data.toList.drop 286 = dktL_law_9 := dk_seg dksL_law_8 24 rfl rfl
theorem dksL_law_10 : cL_law.data.toList.drop 310 = dktL_law_10 := dk_seg dksL_law_9 24 rfl rfl
theorem dksL_law_11 : cL_law.data.toList.drop 332 = dktL_law_11 := dk_seg dksL_law_10 22 rfl rfl
theorem dksL_law_12 : cL_law.data.toList.drop 354 = dktL_law_12 := dk_seg dksL_law_11 22 rfl rfl
theorem dksL_law_13 : cL_law.data.toList.drop 376 = dktL_law_13 := dk_seg dksL_law_12 22 rfl rfl
theorem dksL_law_14 : cL_law.data.toList.drop 398 = dktL_law_14 := dk_seg dksL_law_13 22 rfl rfl
theorem dksL_law_15 : cL_law.data.toList.drop 422 = dktL_law_15 := dk_seg dksL_law_14 24 rfl rfl
theorem dksL_law_16 : cL_law.data.toList.drop 444 = dktL_law_16 := dk_seg dksL_law_15 22 rfl rfl
theorem dksL_law_17 : cL_law.data.toList.drop 466 = dktL_law_17 := dk_seg dksL_law_16 22 rfl rfl
theorem dksL_law_18 : cL_law.data.toList.drop 490 = dktL_law_18 := dk_seg dksL_law_17 24 rfl rfl
theorem dksL_law_19 : cL_law.data.toList.drop 512 = dktL_law_19 := dk_seg dksL_law_18 22 rfl rfl
theorem dksL_law_20 : cL_law.data.toList.drop 535 = dktL_law_20 := dk_seg dksL_law_19 23 rfl rfl
theorem dksL_law_21 : cL_law.data.toList.drop 558 = dktL_law_21 := dk_seg dksL_law_20 23 rfl rfl
theorem dksL_law_22 : cL_law.data.toList.drop 582 = dktL_law_22 := dk_seg dksL_law_21 24 rfl rfl
theorem dksL_law_23 : cL_law.data.toList.drop 604 = dktL_law_23 := dk_seg dksL_law_22 22 rfl rfl
theorem dksL_law_24 : cL_law.data.toList.drop 628 = dktL_law_24 := dk_seg dksL_law_23 24 rfl rfl
theorem dksL_law_25 : cL_law.data.toList.drop 652 = dktL_law_25 := dk_seg dksL_law_24 24 rfl rfl
theorem dksL_law_26 : cL_law.data.toList.drop 676 = dktL_law_26 := dk_seg dksL_law_25 24 rfl rfl
theorem dksL_law_27 : cL_law.data.toList.drop 699 = dktL_law_27 := dk_seg dksL_law_26 23 rfl rfl
theorem dksL_law_28 : cL_law.data.toList.drop 723 = dktL_law_28 := dk_seg dksL_law_27 24 rfl rfl
theorem dksL_law_29 : cL_law.data.toList.drop 747 = dktL_law_29 := dk_seg dksL_law_28 24 rfl rfl
theorem dksL_law_30 : cL_law.data.toList.drop 770 = dktL_law_30 := dk_seg dksL_law_29 23 rfl rfl
theorem dksL_law_31 : cL_law.data.toList.drop 794 = dktL_law_31 := dk_seg dksL_law_30 24 rfl rfl
theorem dksL_law_32 : cL_law.data.toList.drop 816 = dktL_law_32 := dk_seg dksL_law_31 22 rfl rfl
theorem dksL_law_33 : cL_law.data.toList.drop 840 = dktL_law_33 := dk_seg dksL_law_32 24 rfl rfl
theorem dksL_law_34 : cL_law.data.toList.drop 862 = dktL_law_34 := dk_seg dksL_law_33 22 rfl rfl
theorem dksL_law_35 : cL_law.data.toList.drop 884 = dktL_law_35 := dk_seg dksL_law_34 22 rfl rfl
theorem dksL_law_36 : cL_law.data.toList.drop 908 = dktL_law_36 := dk_seg dksL_law_35 24 rfl rfl
theorem dksL_law_37 : cL_law.data.toList.drop 932 = dktL_law_37 := dk_seg dksL_law_36 24 rfl rfl
theorem dksL_law_38 : cL_law.data.toList.drop 955 = dktL_law_38 := dk_seg dksL_law_37 23 rfl rfl
theorem dksL_law_39 : cL_law.data.toList.drop 979 = dktL_law_39 := dk_seg dksL_law_38 24 rfl rfl
theorem dksL_law_40 : cL_law.data.toList.drop 1003 = dktL_law_40 := dk_seg dksL_law_39 24 rfl rfl
theorem dksL_law_41 : cL_law.data.toList.drop 1027 = dktL_law_41 := dk_seg dksL_law_40 24 rfl rfl
theorem dksL_law_42 : cL_law.data.toList.drop 1050 = dktL_law_42 := dk_seg dksL_law_41 23 rfl rfl
theorem dksL_law_43 : cL_law.data.toList.drop 1074 = dktL_law_43 := dk_seg dksL_law_42 24 rfl rfl
theorem dksL_law_44 : cL_law.data.toList.drop 1097 = dktL_law_44 := dk_seg dksL_law_43 23 rfl rfl
theorem dksL_law_45 : cL_law.data.toList.drop 1120 = dktL_law_45 := dk_seg dksL_law_44 23 rfl rfl
theorem dksL_law_46 : cL_law.data.toList.drop 1144 = dktL_law_46 := dk_seg dksL_law_45 24 rfl rfl
theorem dksL_law_47 : cL_law.data.toList.drop 1168 = dktL_law_47 := dk_seg dksL_law_46 24 rfl rfl
theorem dksL_law_48 : cL_law.data.toList.drop 1192 = dktL_law_48 := dk_seg dksL_law_47 24 rfl rfl
theorem dksL_law_49 : cL_law.data.toList.drop 1216 = dktL_law_49 := dk_seg dksL_law_48 24 rfl rfl
theorem dksL_law_50 : cL_law.data.toList.drop 1238 = dktL_law_50 := dk_seg dksL_law_49 22 rfl rfl
theorem dksL_law_51 : cL_law.data.toList.drop 1262 = dktL_law_51 := dk_seg dksL_law_50 24 rfl rfl
theorem dksL_law_52 : cL_law.data.toList.drop 1285 = dktL_law_52 := dk_seg dksL_law_51 23 rfl rfl
theorem dksL_law_53 : cL_law.data.toList.drop 1309 = dktL_law_53 := dk_seg dksL_law_52 24 rfl rfl
theorem dksL_law_54 : cL_law.data.toList.drop 1331 = dktL_law_54 := dk_seg dksL_law_53 22 rfl rfl
theorem dksL_law_55 : cL_law.data.toList.drop 1355 = dktL_law_55 := dk_seg dksL_law_54 24 rfl rfl
theorem dL_law_0 : decode cL_law 0 = .ok (.new 8, 3) := dk_187 0 8 (dk_at dksL_law_0 0 rfl rfl)
theorem dL_law_3 : decode cL_law 3 = .ok (.dup, 1) := dk_89 (dk_at dksL_law_0 3 rfl rfl)
theorem dL_law_4 : decode cL_law 4 = .ok (.invokespecial 73, 3) := dk_183 0 73 (dk_at dksL_law_0 4 rfl rfl)
theorem dL_law_7 : decode cL_law 7 = .ok (.astore_n 1, 1) := dk_76 (dk_at dksL_law_0 7 rfl rfl)
theorem dL_law_8 : decode cL_law 8 = .ok (.new 74, 3) := dk_187 0 74 (dk_at dksL_law_0 8 rfl rfl)
theorem dL_law_11 : decode cL_law 11 = .ok (.dup, 1) := dk_89 (dk_at dksL_law_0 11 rfl rfl)
theorem dL_law_12 : decode cL_law 12 = .ok (.invokespecial 76, 3) := dk_183 0 76 (dk_at dksL_law_0 12 rfl rfl)
theorem dL_law_15 : decode cL_law 15 = .ok (.astore_n 2, 1) := dk_77 (dk_at dksL_law_0 15 rfl rfl)
theorem dL_law_16 : decode cL_law 16 = .ok (.iconst 1, 1) := dk_4 (dk_at dksL_law_0 16 rfl rfl)
theorem dL_law_17 : decode cL_law 17 = .ok (.newarray .long, 2) := dk_188_11 (dk_at dksL_law_0 17 rfl rfl)
theorem dL_law_19 : decode cL_law 19 = .ok (.astore_n 3, 1) := dk_78 (dk_at dksL_law_0 19 rfl rfl)
theorem dL_law_20 : decode cL_law 20 = .ok (.iconst 0, 1) := dk_3 (dk_at dksL_law_0 20 rfl rfl)
theorem dL_law_21 : decode cL_law 21 = .ok (.istore 4, 2) := dk_54 4 (dk_at dksL_law_0 21 rfl rfl)
theorem dL_law_23 : decode cL_law 23 = .ok (.iload 4, 2) := dk_21 4 (dk_at dksL_law_1 0 rfl rfl)
theorem dL_law_25 : decode cL_law 25 = .ok (.aload_n 0, 1) := dk_42 (dk_at dksL_law_1 2 rfl rfl)
theorem dL_law_26 : decode cL_law 26 = .ok (.arraylength, 1) := dk_190 (dk_at dksL_law_1 3 rfl rfl)
theorem dL_law_27 : decode cL_law 27 = .ok (.iconst 4, 1) := dk_7 (dk_at dksL_law_1 4 rfl rfl)
theorem dL_law_28 : decode cL_law 28 = .ok (.isub, 1) := dk_100 (dk_at dksL_law_1 5 rfl rfl)
theorem dL_law_29 : decode cL_law 29 = .ok (.if_icmp .gt 1333, 3) := dk_163 5 53 (dk_at dksL_law_1 6 rfl rfl)
theorem dL_law_32 : decode cL_law 32 = .ok (.aload_n 0, 1) := dk_42 (dk_at dksL_law_1 9 rfl rfl)
theorem dL_law_33 : decode cL_law 33 = .ok (.iload 4, 2) := dk_21 4 (dk_at dksL_law_1 10 rfl rfl)
theorem dL_law_35 : decode cL_law 35 = .ok (.iaload, 1) := dk_46 (dk_at dksL_law_1 12 rfl rfl)
theorem dL_law_36 : decode cL_law 36 = .ok (.bipush 31, 2) := dk_16 31 (dk_at dksL_law_1 13 rfl rfl)
theorem dL_law_38 : decode cL_law 38 = .ok (.iand, 1) := dk_126 (dk_at dksL_law_1 15 rfl rfl)
theorem dL_law_39 : decode cL_law 39 = .ok (.tableswitch 1317 0 22 #[105, 173, 241, 301, 345, 413, 481, 537, 640, 696, 764, 848, 861, 874, 887, 950, 975, 1031, 1099, 1167, 1235, 1291, 1304], 105) := by decide +kernel
theorem dL_law_144 : decode cL_law 144 = .ok (.aload_n 1, 1) := dk_43 (dk_at dksL_law_3 0 rfl rfl)
theorem dL_law_145 : decode cL_law 145 = .ok (.aload_n 0, 1) := dk_42 (dk_at dksL_law_3 1 rfl rfl)
theorem dL_law_146 : decode cL_law 146 = .ok (.iload 4, 2) := dk_21 4 (dk_at dksL_law_3 2 rfl rfl)
theorem dL_law_148 : decode cL_law 148 = .ok (.iconst 1, 1) := dk_4 (dk_at dksL_law_3 4 rfl rfl)
theorem dL_law_149 : decode cL_law 149 = .ok (.iadd, 1) := dk_96 (dk_at dksL_law_3 5 rfl rfl)
theorem dL_law_150 : decode cL_law 150 = .ok (.iaload, 1) := dk_46 (dk_at dksL_law_3 6 rfl rfl)
theorem dL_law_151 : decode cL_law 151 = .ok (.aload_n 0, 1) := dk_42 (dk_at dksL_law_3 7 rfl rfl)
theorem dL_law_152 : decode cL_law 152 = .ok (.iload 4, 2) := dk_21 4 (dk_at dksL_law_3 8 rfl rfl)
theorem dL_law_154 : decode cL_law 154 = .ok (.iconst 2, 1) := dk_5 (dk_at dksL_law_3 10 rfl rfl)
theorem dL_law_155 : decode cL_law 155 = .ok (.iadd, 1) := dk_96 (dk_at dksL_law_3 11 rfl rfl)
theorem dL_law_156 : decode cL_law 156 = .ok (.iaload, 1) := dk_46 (dk_at dksL_law_3 12 rfl rfl)
theorem dL_law_157 : decode cL_law 157 = .ok (.aload_n 3, 1) := dk_45 (dk_at dksL_law_3 13 rfl rfl)
theorem dL_law_158 : decode cL_law 158 = .ok (.invokestatic 77, 3) := dk_184 0 77 (dk_at dksL_law_3 14 rfl rfl)
theorem dL_law_161 : decode cL_law 161 = .ok (.istore 5, 2) := dk_54 5 (dk_at dksL_law_3 17 rfl rfl)
theorem dL_law_163 : decode cL_law 163 = .ok (.aload_n 2, 1) := dk_44 (dk_at dksL_law_3 19 rfl rfl)
theorem dL_law_164 : decode cL_law 164 = .ok (.aload_n 0, 1) := dk_42 (dk_at dksL_law_3 20 rfl rfl)
theorem dL_law_165 : decode cL_law 165 = .ok (.iload 4, 2) := dk_21 4 (dk_at dksL_law_3 21 rfl rfl)
theorem dL_law_167 : decode cL_law 167 = .ok (.iconst 1, 1) := dk_4 (dk_at dksL_law_3 23 rfl rfl)
theorem dL_law_168 : decode cL_law 168 = .ok (.iadd, 1) := dk_96 (dk_at dksL_law_4 0 rfl rfl)
theorem dL_law_169 : decode cL_law 169 = .ok (.iaload, 1) := dk_46 (dk_at dksL_law_4 1 rfl rfl)
theorem dL_law_170 : decode cL_law 170 = .ok (.aload_n 0, 1) := dk_42 (dk_at dksL_law_4 2 rfl rfl)
theorem dL_law_171 : decode cL_law 171 = .ok (.iload 4, 2) := dk_21 4 (dk_at dksL_law_4 3 rfl rfl)
theorem dL_law_173 : decode cL_law 173 = .ok (.iconst 2, 1) := dk_5 (dk_at dksL_law_4 5 rfl rfl)
theorem dL_law_174 : decode cL_law 174 = .ok (.iadd, 1) := dk_96 (dk_at dksL_law_4 6 rfl rfl)
theorem dL_law_175 : decode cL_law 175 = .ok (.iaload, 1) := dk_46 (dk_at dksL_law_4 7 rfl rfl)
theorem dL_law_176 : decode cL_law 176 = .ok (.invokevirtual 82, 3) := dk_182 0 82 (dk_at dksL_law_4 8 rfl rfl)
theorem dL_law_179 : decode cL_law 179 = .ok (.istore 6, 2) := dk_54 6 (dk_at dksL_law_4 11 rfl rfl)
theorem dL_law_181 : decode cL_law 181 = .ok (.aload_n 2, 1) := dk_44 (dk_at dksL_law_4 13 rfl rfl)
theorem dL_law_182 : decode cL_law 182 = .ok (.invokevirtual 83, 3) := dk_182 0 83 (dk_at dksL_law_4 14 rfl rfl)
theorem dL_law_185 : decode cL_law 185 = .ok (.iload 5, 2) := dk_21 5 (dk_at dksL_law_4 17 rfl rfl)
theorem dL_law_187 : decode cL_law 187 = .ok (.if_icmp .eq 5, 3) := dk_159 0 5 (dk_at dksL_law_4 19 rfl rfl)
theorem dL_law_190 : decode cL_law 190 = .ok (.iconst 0, 1) := dk_3 (dk_at dksL_law_4 22 rfl rfl)
theorem dL_law_191 : decode cL_law 191 = .ok (.ireturn, 1) := dk_172 (dk_at dksL_law_4 23 rfl rfl)
theorem dL_law_192 : decode cL_law 192 = .ok (.iload 5, 2) := dk_21 5 (dk_at dksL_law_5 0 rfl rfl)
theorem dL_law_194 : decode cL_law 194 = .ok (.ifCond .ne 15, 3) := dk_154 0 15 (dk_at dksL_law_5 2 rfl rfl)
theorem dL_law_197 : decode cL_law 197 = .ok (.aload_n 3, 1) := dk_45 (dk_at dksL_law_5 5 rfl rfl)
theorem dL_law_198 : decode cL_law 198 = .ok (.iconst 0, 1) := dk_3 (dk_at dksL_law_5 6 rfl rfl)
theorem dL_law_199 : decode cL_law 199 = .ok (.laload, 1) := dk_47 (dk_at dksL_law_5 7 rfl rfl)
theorem dL_law_200 : decode cL_law 200 = .ok (.iload 6, 2) := dk_21 6 (dk_at dksL_law_5 8 rfl rfl)
theorem dL_law_202 : decode cL_law 202 = .ok (.i2l, 1) := dk_133 (dk_at dksL_law_5 10 rfl rfl)
theorem dL_law_203 : decode cL_law 203 = .ok (.lcmp, 1) := dk_148 (dk_at dksL_law_5 11 rfl rfl)
theorem dL_law_204 : decode cL_law 204 = .ok (.ifCond .eq 5, 3) := dk_153 0 5 (dk_at dksL_law_5 12 rfl rfl)
theorem dL_law_207 : decode cL_law 207 = .ok (.iconst 0, 1) := dk_3 (dk_at dksL_law_5 15 rfl rfl)
theorem dL_law_208 : decode cL_law 208 = .ok (.ireturn, 1) := dk_172 (dk_at dksL_law_5 16 rfl rfl)
theorem dL_law_209 : decode cL_law 209 = .ok (.goto 1147, 3) := dk_167 4 123 (dk_at dksL_law_5 17 rfl rfl)
theorem dL_law_212 : decode cL_law 212 = .ok (.aload_n 1, 1) := dk_43 (dk_at dksL_law_5 20 rfl rfl)
theorem dL_law_213 : decode cL_law 213 = .ok (.aload_n 0, 1) := dk_42 (dk_at dksL_law_5 21 rfl rfl)
theorem dL_law_214 : decode cL_law 214 = .ok (.iload 4, 2) := dk_21 4 (dk_at dksL_law_5 22 rfl rfl)
theorem dL_law_216 : decode cL_law 216 = .ok (.iconst 1, 1) := dk_4 (dk_at dksL_law_6 0 rfl rfl)
theorem dL_law_217 : decode cL_law 217 = .ok (.iadd, 1) := dk_96 (dk_at dksL_law_6 1 rfl rfl)
theorem dL_law_218 : decode cL_law 218 = .ok (.iaload, 1) := dk_46 (dk_at dksL_law_6 2 rfl rfl)
theorem dL_law_219 : decode cL_law 219 = .ok (.aload_n 0, 1) := dk_42 (dk_at dksL_law_6 3 rfl rfl)
theorem dL_law_220 : decode cL_law 220 = .ok (.iload 4, 2) := dk_21 4 (dk_at dksL_law_6 4 rfl rfl)
theorem dL_law_222 : decode cL_law 222 = .ok (.iconst 2, 1) := dk_5 (dk_at dksL_law_6 6 rfl rfl)
theorem dL_law_223 : decode cL_law 223 = .ok (.iadd, 1) := dk_96 (dk_at dksL_law_6 7 rfl rfl)
theorem dL_law_224 : decode cL_law 224 = .ok (.iaload, 1) := dk_46 (dk_at dksL_law_6 8 rfl rfl)
theorem dL_law_225 : decode cL_law 225 = .ok (.aload_n 3, 1) := dk_45 (dk_at dksL_law_6 9 rfl rfl)
theorem dL_law_226 : decode cL_law 226 = .ok (.invokestatic 86, 3) := dk_184 0 86 (dk_at dksL_law_6 10 rfl rfl)
theorem dL_law_229 : decode cL_law 229 = .ok (.istore 5, 2) := dk_54 5 (dk_at dksL_law_6 13 rfl rfl)
theorem dL_law_231 : decode cL_law 231 = .ok (.aload_n 2, 1) := dk_44 (dk_at dksL_law_6 15 rfl rfl)
theorem dL_law_232 : decode cL_law 232 = .ok (.aload_n 0, 1) := dk_42 (dk_at dksL_law_6 16 rfl rfl)
theorem dL_law_233 : decode cL_law 233 = .ok (.iload 4, 2) := dk_21 4 (dk_at dksL_law_6 17 rfl rfl)
theorem dL_law_235 : decode cL_law 235 = .ok (.iconst 1, 1) := dk_4 (dk_at dksL_law_6 19 rfl rfl)
theorem dL_law_236 : decode cL_law 236 = .ok (.iadd, 1) := dk_96 (dk_at dksL_law_6 20 rfl rfl)
theorem dL_law_237 : decode cL_law 237 = .ok (.iaload, 1) := dk_46 (dk_at dksL_law_6 21 rfl rfl)
theorem dL_law_238 : decode cL_law 238 = .ok (.aload_n 0, 1) := dk_42 (dk_at dksL_law_6 22 rfl rfl)
theorem dL_law_239 : decode cL_law 239 = .ok (.iload 4, 2) := dk_21 4 (dk_at dksL_law_7 0 rfl rfl)
theorem dL_law_241 : decode cL_law 241 = .ok (.iconst 2, 1) := dk_5 (dk_at dksL_law_7 2 rfl rfl)
theorem dL_law_242 : decode cL_law 242 = .ok (.iadd, 1) := dk_96 (dk_at dksL_law_7 3 rfl rfl)
theorem dL_law_243 : decode cL_law 243 = .ok (.iaload, 1) := dk_46 (dk_at dksL_law_7 4 rfl rfl)
theorem dL_law_244 : decode cL_law 244 = .ok (.invokevirtual 88, 3) := dk_182 0 88 (dk_at dksL_law_7 5 rfl rfl)
theorem dL_law_247 : decode cL_law 247 = .ok (.istore 6, 2) := dk_54 6 (dk_at dksL_law_7 8 rfl rfl)
theorem dL_law_249 : decode cL_law 249 = .ok (.aload_n 2, 1) := dk_44 (dk_at dksL_law_7 10 rfl rfl)
theorem dL_law_250 : decode cL_law 250 = .ok (.invokevirtual 83, 3) := dk_182 0 83 (dk_at dksL_law_7 11 rfl rfl)
theorem dL_law_253 : decode cL_law 253 = .ok (.iload 5, 2) := dk_21 5 (dk_at dksL_law_7 14 rfl rfl)
theorem dL_law_255 : decode cL_law 255 = .ok (.if_icmp .eq 5, 3) := dk_159 0 5 (dk_at dksL_law_7 16 rfl rfl)
theorem dL_law_258 : decode cL_law 258 = .ok (.iconst 0, 1) := dk_3 (dk_at dksL_law_7 19 rfl rfl)
theorem dL_law_259 : decode cL_law 259 = .ok (.ireturn, 1) := dk_172 (dk_at dksL_law_7 20 rfl rfl)
theorem dL_law_260 : decode cL_law 260 = .ok (.iload 5, 2) := dk_21 5 (dk_at dksL_law_7 21 rfl rfl)
theorem dL_law_262 : decode cL_law 262 = .ok (.ifCond .ne 15, 3) := dk_154 0 15 (dk_at dksL_law_8 0 rfl rfl)
theorem dL_law_265 : decode cL_law 265 = .ok (.aload_n 3, 1) := dk_45 (dk_at dksL_law_8 3 rfl rfl)
theorem dL_law_266 : decode cL_law 266 = .ok (.iconst 0, 1) := dk_3 (dk_at dksL_law_8 4 rfl rfl)
theorem dL_law_267 : decode cL_law 267 = .ok (.laload, 1) := dk_47 (dk_at dksL_law_8 5 rfl rfl)
theorem dL_law_268 : decode cL_law 268 = .ok (.iload 6, 2) := dk_21 6 (dk_at dksL_law_8 6 rfl rfl)
theorem dL_law_270 : decode cL_law 270 = .ok (.i2l, 1) := dk_133 (dk_at dksL_law_8 8 rfl rfl)
theorem dL_law_271 : decode cL_law 271 = .ok (.lcmp, 1) := dk_148 (dk_at dksL_law_8 9 rfl rfl)
theorem dL_law_272 : decode cL_law 272 = .ok (.ifCond .eq 5, 3) := dk_153 0 5 (dk_at dksL_law_8 10 rfl rfl)
theorem dL_law_275 : decode cL_law 275 = .ok (.iconst 0, 1) := dk_3 (dk_at dksL_law_8 13 rfl rfl)
theorem dL_law_276 : decode cL_law 276 = .ok (.ireturn, 1) := dk_172 (dk_at dksL_law_8 14 rfl rfl)
theorem dL_law_277 : decode cL_law 277 = .ok (.goto 1079, 3) := dk_167 4 55 (dk_at dksL_law_8 15 rfl rfl)
theorem dL_law_280 : decode cL_law 280 = .ok (.aload_n 1, 1) := dk_43 (dk_at dksL_law_8 18 rfl rfl)
theorem dL_law_281 : decode cL_law 281 = .ok (.aload_n 0, 1) := dk_42 (dk_at dksL_law_8 19 rfl rfl)
theorem dL_law_282 : decode cL_law 282 = .ok (.iload 4, 2) := dk_21 4 (dk_at dksL_law_8 20 rfl rfl)
theorem dL_law_284 : decode cL_law 284 = .ok (.iconst 1, 1) := dk_4 (dk_at dksL_law_8 22 rfl rfl)
theorem dL_law_285 : decode cL_law 285 = .ok (.iadd, 1) := dk_96 (dk_at dksL_law_8 23 rfl rfl)
theorem dL_law_286 : decode cL_law 286 = .ok (.iaload, 1) := dk_46 (dk_at dksL_law_9 0 rfl rfl)
theorem dL_law_287 : decode cL_law 287 = .ok (.aload_n 0, 1) := dk_42 (dk_at dksL_law_9 1 rfl rfl)
theorem dL_law_288 : decode cL_law 288 = .ok (.iload 4, 2) := dk_21 4 (dk_at dksL_law_9 2 rfl rfl)
theorem dL_law_290 : decode cL_law 290 = .ok (.iconst 2, 1) := dk_5 (dk_at dksL_law_9 4 rfl rfl)
theorem dL_law_291 : decode cL_law 291 = .ok (.iadd, 1) := dk_96 (dk_at dksL_law_9 5 rfl rfl)
theorem dL_law_292 : decode cL_law 292 = .ok (.iaload, 1) := dk_46 (dk_at dksL_law_9 6 rfl rfl)
theorem dL_law_293 : decode cL_law 293 = .ok (.aload_n 0, 1) := dk_42 (dk_at dksL_law_9 7 rfl rfl)
theorem dL_law_294 : decode cL_law 294 = .ok (.iload 4, 2) := dk_21 4 (dk_at dksL_law_9 8 rfl rfl)
theorem dL_law_296 : decode cL_law 296 = .ok (.iconst 3, 1) := dk_6 (dk_at dksL_law_9 10 rfl rfl)
theorem dL_law_297 : decode cL_law 297 = .ok (.iadd, 1) := dk_96 (dk_at dksL_law_9 11 rfl rfl)
theorem dL_law_298 : decode cL_law 298 = .ok (.iaload, 1) := dk_46 (dk_at dksL_law_9 12 rfl rfl)
theorem dL_law_299 : decode cL_law 299 = .ok (.invokestatic 89, 3) := dk_184 0 89 (dk_at dksL_law_9 13 rfl rfl)
theorem dL_law_302 : decode cL_law 302 = .ok (.istore 5, 2) := dk_54 5 (dk_at dksL_law_9 16 rfl rfl)
theorem dL_law_304 : decode cL_law 304 = .ok (.aload_n 2, 1) := dk_44 (dk_at dksL_law_9 18 rfl rfl)
theorem dL_law_305 : decode cL_law 305 = .ok (.aload_n 0, 1) := dk_42 (dk_at dksL_law_9 19 rfl rfl)
theorem dL_law_306 : decode cL_law 306 = .ok (.iload 4, 2) := dk_21 4 (dk_at dksL_law_9 20 rfl rfl)
theorem dL_law_308 : decode cL_law 308 = .ok (.iconst 1, 1) := dk_4 (dk_at dksL_law_9 22 rfl rfl)
theorem dL_law_309 : decode cL_law 309 = .ok (.iadd, 1) := dk_96 (dk_at dksL_law_9 23 rfl rfl)
theorem dL_law_310 : decode cL_law 310 = .ok (.iaload, 1) := dk_46 (dk_at dksL_law_10 0 rfl rfl)
theorem dL_law_311 : decode cL_law 311 = .ok (.aload_n 0, 1) := dk_42 (dk_at dksL_law_10 1 rfl rfl)
theorem dL_law_312 : decode cL_law 312 = .ok (.iload 4, 2) := dk_21 4 (dk_at dksL_law_10 2 rfl rfl)
theorem dL_law_314 : decode cL_law 314 = .ok (.iconst 2, 1) := dk_5 (dk_at dksL_law_10 4 rfl rfl)
theorem dL_law_315 : decode cL_law 315 = .ok (.iadd, 1) := dk_96 (dk_at dksL_law_10 5 rfl rfl)
theorem dL_law_316 : decode cL_law 316 = .ok (.iaload, 1) := dk_46 (dk_at dksL_law_10 6 rfl rfl)
theorem dL_law_317 : decode cL_law 317 = .ok (.aload_n 0, 1) := dk_42 (dk_at dksL_law_10 7 rfl rfl)
theorem dL_law_318 : decode cL_law 318 = .ok (.iload 4, 2) := dk_21 4 (dk_at dksL_law_10 8 rfl rfl)
theorem dL_law_320 : decode cL_law 320 = .ok (.iconst 3, 1) := dk_6 (dk_at dksL_law_10 10 rfl rfl)
theorem dL_law_321 : decode cL_law 321 = .ok (.iadd, 1) := dk_96 (dk_at dksL_law_10 11 rfl rfl)
theorem dL_law_322 : decode cL_law 322 = .ok (.iaload, 1) := dk_46 (dk_at dksL_law_10 12 rfl rfl)
theorem dL_law_323 : decode cL_law 323 = .ok (.invokevirtual 92, 3) := dk_182 0 92 (dk_at dksL_law_10 13 rfl rfl)
theorem dL_law_326 : decode cL_law 326 = .ok (.aload_n 2, 1) := dk_44 (dk_at dksL_law_10 16 rfl rfl)
theorem dL_law_327 : decode cL_law 327 = .ok (.invokevirtual 83, 3) := dk_182 0 83 (dk_at dksL_law_10 17 rfl rfl)
theorem dL_law_330 : decode cL_law 330 = .ok (.iload 5, 2) := dk_21 5 (dk_at dksL_law_10 20 rfl rfl)
theorem dL_law_332 : decode cL_law 332 = .ok (.if_icmp .eq 5, 3) := dk_159 0 5 (dk_at dksL_law_11 0 rfl rfl)
theorem dL_law_335 : decode cL_law 335 = .ok (.iconst 0, 1) := dk_3 (dk_at dksL_law_11 3 rfl rfl)
theorem dL_law_336 : decode cL_law 336 = .ok (.ireturn, 1) := dk_172 (dk_at dksL_law_11 4 rfl rfl)
theorem dL_law_337 : decode cL_law 337 = .ok (.goto 1019, 3) := dk_167 3 251 (dk_at dksL_law_11 5 rfl rfl)
theorem dL_law_340 : decode cL_law 340 = .ok (.aload_n 1, 1) := dk_43 (dk_at dksL_law_11 8 rfl rfl)
theorem dL_law_341 : decode cL_law 341 = .ok (.aload_n 3, 1) := dk_45 (dk_at dksL_law_11 9 rfl rfl)
theorem dL_law_342 : decode cL_law 342 = .ok (.invokestatic 93, 3) := dk_184 0 93 (dk_at dksL_law_11 10 rfl rfl)
theorem dL_law_345 : decode cL_law 345 = .ok (.istore 5, 2) := dk_54 5 (dk_at dksL_law_11 13 rfl rfl)
theorem dL_law_347 : decode cL_law 347 = .ok (.aload_n 2, 1) := dk_44 (dk_at dksL_law_11 15 rfl rfl)
theorem dL_law_348 : decode cL_law 348 = .ok (.invokevirtual 96, 3) := dk_182 0 96 (dk_at dksL_law_11 16 rfl rfl)
theorem dL_law_351 : decode cL_law 351 = .ok (.istore 6, 2) := dk_54 6 (dk_at dksL_law_11 19 rfl rfl)
theorem dL_law_353 : decode cL_law 353 = .ok (.aload_n 2, 1) := dk_44 (dk_at dksL_law_11 21 rfl rfl)
theorem dL_law_354 : decode cL_law 354 = .ok (.invokevirtual 83, 3) := dk_182 0 83 (dk_at dksL_law_12 0 rfl rfl)
theorem dL_law_357 : decode cL_law 357 = .ok (.iload 5, 2) := dk_21 5 (dk_at dksL_law_12 3 rfl rfl)
theorem dL_law_359 : decode cL_law 359 = .ok (.if_icmp .eq 5, 3) := dk_159 0 5 (dk_at dksL_law_12 5 rfl rfl)
theorem dL_law_362 : decode cL_law 362 = .ok (.iconst 0, 1) := dk_3 (dk_at dksL_law_12 8 rfl rfl)
theorem dL_law_363 : decode cL_law 363 = .ok (.ireturn, 1) := dk_172 (dk_at dksL_law_12 9 rfl rfl)
theorem dL_law_364 : decode cL_law 364 = .ok (.iload 5, 2) := dk_21 5 (dk_at dksL_law_12 10 rfl rfl)
theorem dL_law_366 : decode cL_law 366 = .ok (.ifCond .ne 15, 3) := dk_154 0 15 (dk_at dksL_law_12 12 rfl rfl)
theorem dL_law_369 : decode cL_law 369 = .ok (.aload_n 3, 1) := dk_45 (dk_at dksL_law_12 15 rfl rfl)
theorem dL_law_370 : decode cL_law 370 = .ok (.iconst 0, 1) := dk_3 (dk_at dksL_law_12 16 rfl rfl)
theorem dL_law_371 : decode cL_law 371 = .ok (.laload, 1) := dk_47 (dk_at dksL_law_12 17 rfl rfl)
theorem dL_law_372 : decode cL_law 372 = .ok (.iload 6, 2) := dk_21 6 (dk_at dksL_law_12 18 rfl rfl)
theorem dL_law_374 : decode cL_law 374 = .ok (.i2l, 1) := dk_133 (dk_at dksL_law_12 20 rfl rfl)
theorem dL_law_375 : decode cL_law 375 = .ok (.lcmp, 1) := dk_148 (dk_at dksL_law_12 21 rfl rfl)
theorem dL_law_376 : decode cL_law 376 = .ok (.ifCond .eq 5, 3) := dk_153 0 5 (dk_at dksL_law_13 0 rfl rfl)
theorem dL_law_379 : decode cL_law 379 = .ok (.iconst 0, 1) := dk_3 (dk_at dksL_law_13 3 rfl rfl)
theorem dL_law_380 : decode cL_law 380 = .ok (.ireturn, 1) := dk_172 (dk_at dksL_law_13 4 rfl rfl)
theorem dL_law_381 : decode cL_law 381 = .ok (.goto 975, 3) := dk_167 3 207 (dk_at dksL_law_13 5 rfl rfl)
theorem dL_law_384 : decode cL_law 384 = .ok (.aload_n 1, 1) := dk_43 (dk_at dksL_law_13 8 rfl rfl)
theorem dL_law_385 : decode cL_law 385 = .ok (.aload_n 0, 1) := dk_42 (dk_at dksL_law_13 9 rfl rfl)
theorem dL_law_386 : decode cL_law 386 = .ok (.iload 4, 2) := dk_21 4 (dk_at dksL_law_13 10 rfl rfl)
theorem dL_law_388 : decode cL_law 388 = .ok (.iconst 1, 1) := dk_4 (dk_at dksL_law_13 12 rfl rfl)
theorem dL_law_389 : decode cL_law 389 = .ok (.iadd, 1) := dk_96 (dk_at dksL_law_13 13 rfl rfl)
theorem dL_law_390 : decode cL_law 390 = .ok (.iaload, 1) := dk_46 (dk_at dksL_law_13 14 rfl rfl)
theorem dL_law_391 : decode cL_law 391 = .ok (.aload_n 0, 1) := dk_42 (dk_at dksL_law_13 15 rfl rfl)
theorem dL_law_392 : decode cL_law 392 = .ok (.iload 4, 2) := dk_21 4 (dk_at dksL_law_13 16 rfl rfl)
theorem dL_law_394 : decode cL_law 394 = .ok (.iconst 2, 1) := dk_5 (dk_at dksL_law_13 18 rfl rfl)
theorem dL_law_395 : decode cL_law 395 = .ok (.iadd, 1) := dk_96 (dk_at dksL_law_13 19 rfl rfl)
theorem dL_law_396 : decode cL_law 396 = .ok (.iaload, 1) := dk_46 (dk_at dksL_law_13 20 rfl rfl)
theorem dL_law_397 : decode cL_law 397 = .ok (.aload_n 3, 1) := dk_45 (dk_at dksL_law_13 21 rfl rfl)
theorem dL_law_398 : decode cL_law 398 = .ok (.invokestatic 97, 3) := dk_184 0 97 (dk_at dksL_law_14 0 rfl rfl)
theorem dL_law_401 : decode cL_law 401 = .ok (.istore 5, 2) := dk_54 5 (dk_at dksL_law_14 3 rfl rfl)
theorem dL_law_403 : decode cL_law 403 = .ok (.aload_n 2, 1) := dk_44 (dk_at dksL_law_14 5 rfl rfl)
theorem dL_law_404 : decode cL_law 404 = .ok (.aload_n 0, 1) := dk_42 (dk_at dksL_law_14 6 rfl rfl)
theorem dL_law_405 : decode cL_law 405 = .ok (.iload 4, 2) := dk_21 4 (dk_at dksL_law_14 7 rfl rfl)
theorem dL_law_407 : decode cL_law 407 = .ok (.iconst 1, 1) := dk_4 (dk_at dksL_law_14 9 rfl rfl)
theorem dL_law_408 : decode cL_law 408 = .ok (.iadd, 1) := dk_96 (dk_at dksL_law_14 10 rfl rfl)
theorem dL_law_409 : decode cL_law 409 = .ok (.iaload, 1) := dk_46 (dk_at dksL_law_14 11 rfl rfl)
theorem dL_law_410 : decode cL_law 410 = .ok (.aload_n 0, 1) := dk_42 (dk_at dksL_law_14 12 rfl rfl)
theorem dL_law_411 : decode cL_law 411 = .ok (.iload 4, 2) := dk_21 4 (dk_at dksL_law_14 13 rfl rfl)
theorem dL_law_413 : decode cL_law 413 = .ok (.iconst 2, 1) := dk_5 (dk_at dksL_law_14 15 rfl rfl)
theorem dL_law_414 : decode cL_law 414 = .ok (.iadd, 1) := dk_96 (dk_at dksL_law_14 16 rfl rfl)
theorem dL_law_415 : decode cL_law 415 = .ok (.iaload, 1) := dk_46 (dk_at dksL_law_14 17 rfl rfl)
theorem dL_law_416 : decode cL_law 416 = .ok (.invokevirtual 99, 3) := dk_182 0 99 (dk_at dksL_law_14 18 rfl rfl)
theorem dL_law_419 : decode cL_law 419 = .ok (.istore 6, 2) := dk_54 6 (dk_at dksL_law_14 21 rfl rfl)
theorem dL_law_421 : decode cL_law 421 = .ok (.aload_n 2, 1) := dk_44 (dk_at dksL_law_14 23 rfl rfl)
theorem dL_law_422 : decode cL_law 422 = .ok (.invokevirtual 83, 3) := dk_182 0 83 (dk_at dksL_law_15 0 rfl rfl)
theorem dL_law_425 : decode cL_law 425 = .ok (.iload 5, 2) := dk_21 5 (dk_at dksL_law_15 3 rfl rfl)
theorem dL_law_427 : decode cL_law 427 = .ok (.if_icmp .eq 5, 3) := dk_159 0 5 (dk_at dksL_law_15 5 rfl rfl)
theorem dL_law_430 : decode cL_law 430 = .ok (.iconst 0, 1) := dk_3 (dk_at dksL_law_15 8 rfl rfl)
theorem dL_law_431 : decode cL_law 431 = .ok (.ireturn, 1) := dk_172 (dk_at dksL_law_15 9 rfl rfl)
theorem dL_law_432 : decode cL_law 432 = .ok (.iload 5, 2) := dk_21 5 (dk_at dksL_law_15 10 rfl rfl)
theorem dL_law_434 : decode cL_law 434 = .ok (.ifCond .ne 15, 3) := dk_154 0 15 (dk_at dksL_law_15 12 rfl rfl)
theorem dL_law_437 : decode cL_law 437 = .ok (.aload_n 3, 1) := dk_45 (dk_at dksL_law_15 15 rfl rfl)
theorem dL_law_438 : decode cL_law 438 = .ok (.iconst 0, 1) := dk_3 (dk_at dksL_law_15 16 rfl rfl)
theorem dL_law_439 : decode cL_law 439 = .ok (.laload, 1) := dk_47 (dk_at dksL_law_15 17 rfl rfl)
theorem dL_law_440 : decode cL_law 440 = .ok (.iload 6, 2) := dk_21 6 (dk_at dksL_law_15 18 rfl rfl)
theorem dL_law_442 : decode cL_law 442 = .ok (.i2l, 1) := dk_133 (dk_at dksL_law_15 20 rfl rfl)
theorem dL_law_443 : decode cL_law 443 = .ok (.lcmp, 1) := dk_148 (dk_at dksL_law_15 21 rfl rfl)
theorem dL_law_444 : decode cL_law 444 = .ok (.ifCond .eq 5, 3) := dk_153 0 5 (dk_at dksL_law_16 0 rfl rfl)
theorem dL_law_447 : decode cL_law 447 = .ok (.iconst 0, 1) := dk_3 (dk_at dksL_law_16 3 rfl rfl)
theorem dL_law_448 : decode cL_law 448 = .ok (.ireturn, 1) := dk_172 (dk_at dksL_law_16 4 rfl rfl)
theorem dL_law_449 : decode cL_law 449 = .ok (.goto 907, 3) := dk_167 3 139 (dk_at dksL_law_16 5 rfl rfl)
theorem dL_law_452 : decode cL_law 452 = .ok (.aload_n 1, 1) := dk_43 (dk_at dksL_law_16 8 rfl rfl)
theorem dL_law_453 : decode cL_law 453 = .ok (.aload_n 0, 1) := dk_42 (dk_at dksL_law_16 9 rfl rfl)
theorem dL_law_454 : decode cL_law 454 = .ok (.iload 4, 2) := dk_21 4 (dk_at dksL_law_16 10 rfl rfl)
theorem dL_law_456 : decode cL_law 456 = .ok (.iconst 1, 1) := dk_4 (dk_at dksL_law_16 12 rfl rfl)
theorem dL_law_457 : decode cL_law 457 = .ok (.iadd, 1) := dk_96 (dk_at dksL_law_16 13 rfl rfl)
theorem dL_law_458 : decode cL_law 458 = .ok (.iaload, 1) := dk_46 (dk_at dksL_law_16 14 rfl rfl)
theorem dL_law_459 : decode cL_law 459 = .ok (.aload_n 0, 1) := dk_42 (dk_at dksL_law_16 15 rfl rfl)
theorem dL_law_460 : decode cL_law 460 = .ok (.iload 4, 2) := dk_21 4 (dk_at dksL_law_16 16 rfl rfl)
theorem dL_law_462 : decode cL_law 462 = .ok (.iconst 2, 1) := dk_5 (dk_at dksL_law_16 18 rfl rfl)
theorem dL_law_463 : decode cL_law 463 = .ok (.iadd, 1) := dk_96 (dk_at dksL_law_16 19 rfl rfl)
theorem dL_law_464 : decode cL_law 464 = .ok (.iaload, 1) := dk_46 (dk_at dksL_law_16 20 rfl rfl)
theorem dL_law_465 : decode cL_law 465 = .ok (.aload_n 3, 1) := dk_45 (dk_at dksL_law_16 21 rfl rfl)
theorem dL_law_466 : decode cL_law 466 = .ok (.invokestatic 100, 3) := dk_184 0 100 (dk_at dksL_law_17 0 rfl rfl)
theorem dL_law_469 : decode cL_law 469 = .ok (.istore 5, 2) := dk_54 5 (dk_at dksL_law_17 3 rfl rfl)
theorem dL_law_471 : decode cL_law 471 = .ok (.aload_n 2, 1) := dk_44 (dk_at dksL_law_17 5 rfl rfl)
theorem dL_law_472 : decode cL_law 472 = .ok (.aload_n 0, 1) := dk_42 (dk_at dksL_law_17 6 rfl rfl)
theorem dL_law_473 : decode cL_law 473 = .ok (.iload 4, 2) := dk_21 4 (dk_at dksL_law_17 7 rfl rfl)
theorem dL_law_475 : decode cL_law 475 = .ok (.iconst 1, 1) := dk_4 (dk_at dksL_law_17 9 rfl rfl)
theorem dL_law_476 : decode cL_law 476 = .ok (.iadd, 1) := dk_96 (dk_at dksL_law_17 10 rfl rfl)
theorem dL_law_477 : decode cL_law 477 = .ok (.iaload, 1) := dk_46 (dk_at dksL_law_17 11 rfl rfl)
theorem dL_law_478 : decode cL_law 478 = .ok (.aload_n 0, 1) := dk_42 (dk_at dksL_law_17 12 rfl rfl)
theorem dL_law_479 : decode cL_law 479 = .ok (.iload 4, 2) := dk_21 4 (dk_at dksL_law_17 13 rfl rfl)
theorem dL_law_481 : decode cL_law 481 = .ok (.iconst 2, 1) := dk_5 (dk_at dksL_law_17 15 rfl rfl)
theorem dL_law_482 : decode cL_law 482 = .ok (.iadd, 1) := dk_96 (dk_at dksL_law_17 16 rfl rfl)
theorem dL_law_483 : decode cL_law 483 = .ok (.iaload, 1) := dk_46 (dk_at dksL_law_17 17 rfl rfl)
theorem dL_law_484 : decode cL_law 484 = .ok (.invokevirtual 102, 3) := dk_182 0 102 (dk_at dksL_law_17 18 rfl rfl)
theorem dL_law_487 : decode cL_law 487 = .ok (.istore 6, 2) := dk_54 6 (dk_at dksL_law_17 21 rfl rfl)
theorem dL_law_489 : decode cL_law 489 = .ok (.aload_n 2, 1) := dk_44 (dk_at dksL_law_17 23 rfl rfl)
theorem dL_law_490 : decode cL_law 490 = .ok (.invokevirtual 83, 3) := dk_182 0 83 (dk_at dksL_law_18 0 rfl rfl)
theorem dL_law_493 : decode cL_law 493 = .ok (.iload 5, 2) := dk_21 5 (dk_at dksL_law_18 3 rfl rfl)
theorem dL_law_495 : decode cL_law 495 = .ok (.if_icmp .eq 5, 3) := dk_159 0 5 (dk_at dksL_law_18 5 rfl rfl)
theorem dL_law_498 : decode cL_law 498 = .ok (.iconst 0, 1) := dk_3 (dk_at dksL_law_18 8 rfl rfl)
theorem dL_law_499 : decode cL_law 499 = .ok (.ireturn, 1) := dk_172 (dk_at dksL_law_18 9 rfl rfl)
theorem dL_law_500 : decode cL_law 500 = .ok (.iload 5, 2) := dk_21 5 (dk_at dksL_law_18 10 rfl rfl)
theorem dL_law_502 : decode cL_law 502 = .ok (.ifCond .ne 15, 3) := dk_154 0 15 (dk_at dksL_law_18 12 rfl rfl)
theorem dL_law_505 : decode cL_law 505 = .ok (.aload_n 3, 1) := dk_45 (dk_at dksL_law_18 15 rfl rfl)
theorem dL_law_506 : decode cL_law 506 = .ok (.iconst 0, 1) := dk_3 (dk_at dksL_law_18 16 rfl rfl)
theorem dL_law_507 : decode cL_law 507 = .ok (.laload, 1) := dk_47 (dk_at dksL_law_18 17 rfl rfl)
theorem dL_law_508 : decode cL_law 508 = .ok (.iload 6, 2) := dk_21 6 (dk_at dksL_law_18 18 rfl rfl)
theorem dL_law_510 : decode cL_law 510 = .ok (.i2l, 1) := dk_133 (dk_at dksL_law_18 20 rfl rfl)
theorem dL_law_511 : decode cL_law 511 = .ok (.lcmp, 1) := dk_148 (dk_at dksL_law_18 21 rfl rfl)
theorem dL_law_512 : decode cL_law 512 = .ok (.ifCond .eq 5, 3) := dk_153 0 5 (dk_at dksL_law_19 0 rfl rfl)
theorem dL_law_515 : decode cL_law 515 = .ok (.iconst 0, 1) := dk_3 (dk_at dksL_law_19 3 rfl rfl)
theorem dL_law_516 : decode cL_law 516 = .ok (.ireturn, 1) := dk_172 (dk_at dksL_law_19 4 rfl rfl)
theorem dL_law_517 : decode cL_law 517 = .ok (.goto 839, 3) := dk_167 3 71 (dk_at dksL_law_19 5 rfl rfl)
theorem dL_law_520 : decode cL_law 520 = .ok (.aload_n 1, 1) := dk_43 (dk_at dksL_law_19 8 rfl rfl)
theorem dL_law_521 : decode cL_law 521 = .ok (.aload_n 0, 1) := dk_42 (dk_at dksL_law_19 9 rfl rfl)
theorem dL_law_522 : decode cL_law 522 = .ok (.iload 4, 2) := dk_21 4 (dk_at dksL_law_19 10 rfl rfl)
theorem dL_law_524 : decode cL_law 524 = .ok (.iconst 1, 1) := dk_4 (dk_at dksL_law_19 12 rfl rfl)
theorem dL_law_525 : decode cL_law 525 = .ok (.iadd, 1) := dk_96 (dk_at dksL_law_19 13 rfl rfl)
theorem dL_law_526 : decode cL_law 526 = .ok (.iaload, 1) := dk_46 (dk_at dksL_law_19 14 rfl rfl)
theorem dL_law_527 : decode cL_law 527 = .ok (.aload_n 3, 1) := dk_45 (dk_at dksL_law_19 15 rfl rfl)
theorem dL_law_528 : decode cL_law 528 = .ok (.invokestatic 103, 3) := dk_184 0 103 (dk_at dksL_law_19 16 rfl rfl)
theorem dL_law_531 : decode cL_law 531 = .ok (.istore 5, 2) := dk_54 5 (dk_at dksL_law_19 19 rfl rfl)
theorem dL_law_533 : decode cL_law 533 = .ok (.aload_n 2, 1) := dk_44 (dk_at dksL_law_19 21 rfl rfl)
theorem dL_law_534 : decode cL_law 534 = .ok (.aload_n 0, 1) := dk_42 (dk_at dksL_law_19 22 rfl rfl)
theorem dL_law_535 : decode cL_law 535 = .ok (.iload 4, 2) := dk_21 4 (dk_at dksL_law_20 0 rfl rfl)
theorem dL_law_537 : decode cL_law 537 = .ok (.iconst 1, 1) := dk_4 (dk_at dksL_law_20 2 rfl rfl)
theorem dL_law_538 : decode cL_law 538 = .ok (.iadd, 1) := dk_96 (dk_at dksL_law_20 3 rfl rfl)
theorem dL_law_539 : decode cL_law 539 = .ok (.iaload, 1) := dk_46 (dk_at dksL_law_20 4 rfl rfl)
theorem dL_law_540 : decode cL_law 540 = .ok (.invokevirtual 106, 3) := dk_182 0 106 (dk_at dksL_law_20 5 rfl rfl)
theorem dL_law_543 : decode cL_law 543 = .ok (.istore 6, 2) := dk_54 6 (dk_at dksL_law_20 8 rfl rfl)
theorem dL_law_545 : decode cL_law 545 = .ok (.aload_n 2, 1) := dk_44 (dk_at dksL_law_20 10 rfl rfl)
theorem dL_law_546 : decode cL_law 546 = .ok (.invokevirtual 83, 3) := dk_182 0 83 (dk_at dksL_law_20 11 rfl rfl)
theorem dL_law_549 : decode cL_law 549 = .ok (.iload 5, 2) := dk_21 5 (dk_at dksL_law_20 14 rfl rfl)
theorem dL_law_551 : decode cL_law 551 = .ok (.if_icmp .eq 5, 3) := dk_159 0 5 (dk_at dksL_law_20 16 rfl rfl)
theorem dL_law_554 : decode cL_law 554 = .ok (.iconst 0, 1) := dk_3 (dk_at dksL_law_20 19 rfl rfl)
theorem dL_law_555 : decode cL_law 555 = .ok (.ireturn, 1) := dk_172 (dk_at dksL_law_20 20 rfl rfl)
theorem dL_law_556 : decode cL_law 556 = .ok (.iload 5, 2) := dk_21 5 (dk_at dksL_law_20 21 rfl rfl)
theorem dL_law_558 : decode cL_law 558 = .ok (.ifCond .ne 15, 3) := dk_154 0 15 (dk_at dksL_law_21 0 rfl rfl)
theorem dL_law_561 : decode cL_law 561 = .ok (.aload_n 3, 1) := dk_45 (dk_at dksL_law_21 3 rfl rfl)
theorem dL_law_562 : decode cL_law 562 = .ok (.iconst 0, 1) := dk_3 (dk_at dksL_law_21 4 rfl rfl)
theorem dL_law_563 : decode cL_law 563 = .ok (.laload, 1) := dk_47 (dk_at dksL_law_21 5 rfl rfl)
theorem dL_law_564 : decode cL_law 564 = .ok (.iload 6, 2) := dk_21 6 (dk_at dksL_law_21 6 rfl rfl)
theorem dL_law_566 : decode cL_law 566 = .ok (.i2l, 1) := dk_133 (dk_at dksL_law_21 8 rfl rfl)
theorem dL_law_567 : decode cL_law 567 = .ok (.lcmp, 1) := dk_148 (dk_at dksL_law_21 9 rfl rfl)
theorem dL_law_568 : decode cL_law 568 = .ok (.ifCond .eq 5, 3) := dk_153 0 5 (dk_at dksL_law_21 10 rfl rfl)
theorem dL_law_571 : decode cL_law 571 = .ok (.iconst 0, 1) := dk_3 (dk_at dksL_law_21 13 rfl rfl)
theorem dL_law_572 : decode cL_law 572 = .ok (.ireturn, 1) := dk_172 (dk_at dksL_law_21 14 rfl rfl)
theorem dL_law_573 : decode cL_law 573 = .ok (.goto 783, 3) := dk_167 3 15 (dk_at dksL_law_21 15 rfl rfl)
theorem dL_law_576 : decode cL_law 576 = .ok (.aload_n 1, 1) := dk_43 (dk_at dksL_law_21 18 rfl rfl)
theorem dL_law_577 : decode cL_law 577 = .ok (.aload_n 0, 1) := dk_42 (dk_at dksL_law_21 19 rfl rfl)
theorem dL_law_578 : decode cL_law 578 = .ok (.iload 4, 2) := dk_21 4 (dk_at dksL_law_21 20 rfl rfl)
theorem dL_law_580 : decode cL_law 580 = .ok (.iconst 1, 1) := dk_4 (dk_at dksL_law_21 22 rfl rfl)
theorem dL_law_581 : decode cL_law 581 = .ok (.iadd, 1) := dk_96 (dk_at dksL_law_21 23 rfl rfl)
theorem dL_law_582 : decode cL_law 582 = .ok (.iaload, 1) := dk_46 (dk_at dksL_law_22 0 rfl rfl)
theorem dL_law_583 : decode cL_law 583 = .ok (.aload_n 0, 1) := dk_42 (dk_at dksL_law_22 1 rfl rfl)
theorem dL_law_584 : decode cL_law 584 = .ok (.iload 4, 2) := dk_21 4 (dk_at dksL_law_22 2 rfl rfl)
theorem dL_law_586 : decode cL_law 586 = .ok (.iconst 2, 1) := dk_5 (dk_at dksL_law_22 4 rfl rfl)
theorem dL_law_587 : decode cL_law 587 = .ok (.iadd, 1) := dk_96 (dk_at dksL_law_22 5 rfl rfl)
theorem dL_law_588 : decode cL_law 588 = .ok (.iaload, 1) := dk_46 (dk_at dksL_law_22 6 rfl rfl)
theorem dL_law_589 : decode cL_law 589 = .ok (.aload_n 0, 1) := dk_42 (dk_at dksL_law_22 7 rfl rfl)
theorem dL_law_590 : decode cL_law 590 = .ok (.iload 4, 2) := dk_21 4 (dk_at dksL_law_22 8 rfl rfl)
theorem dL_law_592 : decode cL_law 592 = .ok (.iconst 3, 1) := dk_6 (dk_at dksL_law_22 10 rfl rfl)
theorem dL_law_593 : decode cL_law 593 = .ok (.iadd, 1) := dk_96 (dk_at dksL_law_22 11 rfl rfl)
theorem dL_law_594 : decode cL_law 594 = .ok (.iaload, 1) := dk_46 (dk_at dksL_law_22 12 rfl rfl)
theorem dL_law_595 : decode cL_law 595 = .ok (.ifCond .eq 7, 3) := dk_153 0 7 (dk_at dksL_law_22 13 rfl rfl)
theorem dL_law_598 : decode cL_law 598 = .ok (.iconst 1, 1) := dk_4 (dk_at dksL_law_22 16 rfl rfl)
theorem dL_law_599 : decode cL_law 599 = .ok (.goto 4, 3) := dk_167 0 4 (dk_at dksL_law_22 17 rfl rfl)
theorem dL_law_602 : decode cL_law 602 = .ok (.iconst 0, 1) := dk_3 (dk_at dksL_law_22 20 rfl rfl)
theorem dL_law_603 : decode cL_law 603 = .ok (.aload_n 3, 1) := dk_45 (dk_at dksL_law_22 21 rfl rfl)
theorem dL_law_604 : decode cL_law 604 = .ok (.invokestatic 107, 3) := dk_184 0 107 (dk_at dksL_law_23 0 rfl rfl)
theorem dL_law_607 : decode cL_law 607 = .ok (.istore 5, 2) := dk_54 5 (dk_at dksL_law_23 3 rfl rfl)
theorem dL_law_609 : decode cL_law 609 = .ok (.aload_n 2, 1) := dk_44 (dk_at dksL_law_23 5 rfl rfl)
theorem dL_law_610 : decode cL_law 610 = .ok (.aload_n 0, 1) := dk_42 (dk_at dksL_law_23 6 rfl rfl)
theorem dL_law_611 : decode cL_law 611 = .ok (.iload 4, 2) := dk_21 4 (dk_at dksL_law_23 7 rfl rfl)
theorem dL_law_613 : decode cL_law 613 = .ok (.iconst 1, 1) := dk_4 (dk_at dksL_law_23 9 rfl rfl)
theorem dL_law_614 : decode cL_law 614 = .ok (.iadd, 1) := dk_96 (dk_at dksL_law_23 10 rfl rfl)
theorem dL_law_615 : decode cL_law 615 = .ok (.iaload, 1) := dk_46 (dk_at dksL_law_23 11 rfl rfl)
theorem dL_law_616 : decode cL_law 616 = .ok (.aload_n 0, 1) := dk_42 (dk_at dksL_law_23 12 rfl rfl)
theorem dL_law_617 : decode cL_law 617 = .ok (.iload 4, 2) := dk_21 4 (dk_at dksL_law_23 13 rfl rfl)
theorem dL_law_619 : decode cL_law 619 = .ok (.iconst 2, 1) := dk_5 (dk_at dksL_law_23 15 rfl rfl)
theorem dL_law_620 : decode cL_law 620 = .ok (.iadd, 1) := dk_96 (dk_at dksL_law_23 16 rfl rfl)
theorem dL_law_621 : decode cL_law 621 = .ok (.iaload, 1) := dk_46 (dk_at dksL_law_23 17 rfl rfl)
theorem dL_law_622 : decode cL_law 622 = .ok (.aload_n 0, 1) := dk_42 (dk_at dksL_law_23 18 rfl rfl)
theorem dL_law_623 : decode cL_law 623 = .ok (.iload 4, 2) := dk_21 4 (dk_at dksL_law_23 19 rfl rfl)
theorem dL_law_625 : decode cL_law 625 = .ok (.iconst 3, 1) := dk_6 (dk_at dksL_law_23 21 rfl rfl)
theorem dL_law_626 : decode cL_law 626 = .ok (.iadd, 1) := dk_96 (dk_at dksL_law_23 22 rfl rfl)
theorem dL_law_627 : decode cL_law 627 = .ok (.iaload, 1) := dk_46 (dk_at dksL_law_23 23 rfl rfl)
theorem dL_law_628 : decode cL_law 628 = .ok (.ifCond .eq 7, 3) := dk_153 0 7 (dk_at dksL_law_24 0 rfl rfl)
theorem dL_law_631 : decode cL_law 631 = .ok (.iconst 1, 1) := dk_4 (dk_at dksL_law_24 3 rfl rfl)
theorem dL_law_632 : decode cL_law 632 = .ok (.goto 4, 3) := dk_167 0 4 (dk_at dksL_law_24 4 rfl rfl)
theorem dL_law_635 : decode cL_law 635 = .ok (.iconst 0, 1) := dk_3 (dk_at dksL_law_24 7 rfl rfl)
theorem dL_law_636 : decode cL_law 636 = .ok (.invokevirtual 110, 3) := dk_182 0 110 (dk_at dksL_law_24 8 rfl rfl)
theorem dL_law_639 : decode cL_law 639 = .ok (.istore 6, 2) := dk_54 6 (dk_at dksL_law_24 11 rfl rfl)
theorem dL_law_641 : decode cL_law 641 = .ok (.aload_n 2, 1) := dk_44 (dk_at dksL_law_24 13 rfl rfl)
theorem dL_law_642 : decode cL_law 642 = .ok (.invokevirtual 83, 3) := dk_182 0 83 (dk_at dksL_law_24 14 rfl rfl)
theorem dL_law_645 : decode cL_law 645 = .ok (.iload 5, 2) := dk_21 5 (dk_at dksL_law_24 17 rfl rfl)
theorem dL_law_647 : decode cL_law 647 = .ok (.if_icmp .eq 5, 3) := dk_159 0 5 (dk_at dksL_law_24 19 rfl rfl)
theorem dL_law_650 : decode cL_law 650 = .ok (.iconst 0, 1) := dk_3 (dk_at dksL_law_24 22 rfl rfl)
theorem dL_law_651 : decode cL_law 651 = .ok (.ireturn, 1) := dk_172 (dk_at dksL_law_24 23 rfl rfl)
theorem dL_law_652 : decode cL_law 652 = .ok (.iload 5, 2) := dk_21 5 (dk_at dksL_law_25 0 rfl rfl)
theorem dL_law_654 : decode cL_law 654 = .ok (.ifCond .ne 22, 3) := dk_154 0 22 (dk_at dksL_law_25 2 rfl rfl)
theorem dL_law_657 : decode cL_law 657 = .ok (.aload_n 3, 1) := dk_45 (dk_at dksL_law_25 5 rfl rfl)
theorem dL_law_658 : decode cL_law 658 = .ok (.iconst 0, 1) := dk_3 (dk_at dksL_law_25 6 rfl rfl)
theorem dL_law_659 : decode cL_law 659 = .ok (.laload, 1) := dk_47 (dk_at dksL_law_25 7 rfl rfl)
theorem dL_law_660 : decode cL_law 660 = .ok (.iload 6, 2) := dk_21 6 (dk_at dksL_law_25 8 rfl rfl)
theorem dL_law_662 : decode cL_law 662 = .ok (.ifCond .eq 7, 3) := dk_153 0 7 (dk_at dksL_law_25 10 rfl rfl)
theorem dL_law_665 : decode cL_law 665 = .ok (.lconst 1, 1) := dk_10 (dk_at dksL_law_25 13 rfl rfl)
theorem dL_law_666 : decode cL_law 666 = .ok (.goto 4, 3) := dk_167 0 4 (dk_at dksL_law_25 14 rfl rfl)
theorem dL_law_669 : decode cL_law 669 = .ok (.lconst 0, 1) := dk_9 (dk_at dksL_law_25 17 rfl rfl)
theorem dL_law_670 : decode cL_law 670 = .ok (.lcmp, 1) := dk_148 (dk_at dksL_law_25 18 rfl rfl)
theorem dL_law_671 : decode cL_law 671 = .ok (.ifCond .eq 5, 3) := dk_153 0 5 (dk_at dksL_law_25 19 rfl rfl)
theorem dL_law_674 : decode cL_law 674 = .ok (.iconst 0, 1) := dk_3 (dk_at dksL_law_25 22 rfl rfl)
theorem dL_law_675 : decode cL_law 675 = .ok (.ireturn, 1) := dk_172 (dk_at dksL_law_25 23 rfl rfl)
theorem dL_law_676 : decode cL_law 676 = .ok (.goto 680, 3) := dk_167 2 168 (dk_at dksL_law_26 0 rfl rfl)
theorem dL_law_679 : decode cL_law 679 = .ok (.aload_n 1, 1) := dk_43 (dk_at dksL_law_26 3 rfl rfl)
theorem dL_law_680 : decode cL_law 680 = .ok (.aload_n 0, 1) := dk_42 (dk_at dksL_law_26 4 rfl rfl)
theorem dL_law_681 : decode cL_law 681 = .ok (.iload 4, 2) := dk_21 4 (dk_at dksL_law_26 5 rfl rfl)
theorem dL_law_683 : decode cL_law 683 = .ok (.iconst 1, 1) := dk_4 (dk_at dksL_law_26 7 rfl rfl)
theorem dL_law_684 : decode cL_law 684 = .ok (.iadd, 1) := dk_96 (dk_at dksL_law_26 8 rfl rfl)
theorem dL_law_685 : decode cL_law 685 = .ok (.iaload, 1) := dk_46 (dk_at dksL_law_26 9 rfl rfl)
theorem dL_law_686 : decode cL_law 686 = .ok (.aload_n 3, 1) := dk_45 (dk_at dksL_law_26 10 rfl rfl)
theorem dL_law_687 : decode cL_law 687 = .ok (.invokestatic 111, 3) := dk_184 0 111 (dk_at dksL_law_26 11 rfl rfl)
theorem dL_law_690 : decode cL_law 690 = .ok (.istore 5, 2) := dk_54 5 (dk_at dksL_law_26 14 rfl rfl)
theorem dL_law_692 : decode cL_law 692 = .ok (.aload_n 2, 1) := dk_44 (dk_at dksL_law_26 16 rfl rfl)
theorem dL_law_693 : decode cL_law 693 = .ok (.aload_n 0, 1) := dk_42 (dk_at dksL_law_26 17 rfl rfl)
theorem dL_law_694 : decode cL_law 694 = .ok (.iload 4, 2) := dk_21 4 (dk_at dksL_law_26 18 rfl rfl)
theorem dL_law_696 : decode cL_law 696 = .ok (.iconst 1, 1) := dk_4 (dk_at dksL_law_26 20 rfl rfl)
theorem dL_law_697 : decode cL_law 697 = .ok (.iadd, 1) := dk_96 (dk_at dksL_law_26 21 rfl rfl)
theorem dL_law_698 : decode cL_law 698 = .ok (.iaload, 1) := dk_46 (dk_at dksL_law_26 22 rfl rfl)
theorem dL_law_699 : decode cL_law 699 = .ok (.invokevirtual 113, 3) := dk_182 0 113 (dk_at dksL_law_27 0 rfl rfl)
theorem dL_law_702 : decode cL_law 702 = .ok (.istore 6, 2) := dk_54 6 (dk_at dksL_law_27 3 rfl rfl)
theorem dL_law_704 : decode cL_law 704 = .ok (.aload_n 2, 1) := dk_44 (dk_at dksL_law_27 5 rfl rfl)
theorem dL_law_705 : decode cL_law 705 = .ok (.invokevirtual 83, 3) := dk_182 0 83 (dk_at dksL_law_27 6 rfl rfl)
theorem dL_law_708 : decode cL_law 708 = .ok (.iload 5, 2) := dk_21 5 (dk_at dksL_law_27 9 rfl rfl)
theorem dL_law_710 : decode cL_law 710 = .ok (.if_icmp .eq 5, 3) := dk_159 0 5 (dk_at dksL_law_27 11 rfl rfl)
theorem dL_law_713 : decode cL_law 713 = .ok (.iconst 0, 1) := dk_3 (dk_at dksL_law_27 14 rfl rfl)
theorem dL_law_714 : decode cL_law 714 = .ok (.ireturn, 1) := dk_172 (dk_at dksL_law_27 15 rfl rfl)
theorem dL_law_715 : decode cL_law 715 = .ok (.iload 5, 2) := dk_21 5 (dk_at dksL_law_27 16 rfl rfl)
theorem dL_law_717 : decode cL_law 717 = .ok (.ifCond .ne 15, 3) := dk_154 0 15 (dk_at dksL_law_27 18 rfl rfl)
theorem dL_law_720 : decode cL_law 720 = .ok (.aload_n 3, 1) := dk_45 (dk_at dksL_law_27 21 rfl rfl)
theorem dL_law_721 : decode cL_law 721 = .ok (.iconst 0, 1) := dk_3 (dk_at dksL_law_27 22 rfl rfl)
theorem dL_law_722 : decode cL_law 722 = .ok (.laload, 1) := dk_47 (dk_at dksL_law_27 23 rfl rfl)
theorem dL_law_723 : decode cL_law 723 = .ok (.iload 6, 2) := dk_21 6 (dk_at dksL_law_28 0 rfl rfl)
theorem dL_law_725 : decode cL_law 725 = .ok (.i2l, 1) := dk_133 (dk_at dksL_law_28 2 rfl rfl)
theorem dL_law_726 : decode cL_law 726 = .ok (.lcmp, 1) := dk_148 (dk_at dksL_law_28 3 rfl rfl)
theorem dL_law_727 : decode cL_law 727 = .ok (.ifCond .eq 5, 3) := dk_153 0 5 (dk_at dksL_law_28 4 rfl rfl)
theorem dL_law_730 : decode cL_law 730 = .ok (.iconst 0, 1) := dk_3 (dk_at dksL_law_28 7 rfl rfl)
theorem dL_law_731 : decode cL_law 731 = .ok (.ireturn, 1) := dk_172 (dk_at dksL_law_28 8 rfl rfl)
theorem dL_law_732 : decode cL_law 732 = .ok (.goto 624, 3) := dk_167 2 112 (dk_at dksL_law_28 9 rfl rfl)
theorem dL_law_735 : decode cL_law 735 = .ok (.aload_n 1, 1) := dk_43 (dk_at dksL_law_28 12 rfl rfl)
theorem dL_law_736 : decode cL_law 736 = .ok (.aload_n 0, 1) := dk_42 (dk_at dksL_law_28 13 rfl rfl)
theorem dL_law_737 : decode cL_law 737 = .ok (.iload 4, 2) := dk_21 4 (dk_at dksL_law_28 14 rfl rfl)
theorem dL_law_739 : decode cL_law 739 = .ok (.iconst 1, 1) := dk_4 (dk_at dksL_law_28 16 rfl rfl)
theorem dL_law_740 : decode cL_law 740 = .ok (.iadd, 1) := dk_96 (dk_at dksL_law_28 17 rfl rfl)
theorem dL_law_741 : decode cL_law 741 = .ok (.iaload, 1) := dk_46 (dk_at dksL_law_28 18 rfl rfl)
theorem dL_law_742 : decode cL_law 742 = .ok (.aload_n 0, 1) := dk_42 (dk_at dksL_law_28 19 rfl rfl)
theorem dL_law_743 : decode cL_law 743 = .ok (.iload 4, 2) := dk_21 4 (dk_at dksL_law_28 20 rfl rfl)
theorem dL_law_745 : decode cL_law 745 = .ok (.iconst 2, 1) := dk_5 (dk_at dksL_law_28 22 rfl rfl)
theorem dL_law_746 : decode cL_law 746 = .ok (.iadd, 1) := dk_96 (dk_at dksL_law_28 23 rfl rfl)
theorem dL_law_747 : decode cL_law 747 = .ok (.iaload, 1) := dk_46 (dk_at dksL_law_29 0 rfl rfl)
theorem dL_law_748 : decode cL_law 748 = .ok (.aload_n 3, 1) := dk_45 (dk_at dksL_law_29 1 rfl rfl)
theorem dL_law_749 : decode cL_law 749 = .ok (.invokestatic 114, 3) := dk_184 0 114 (dk_at dksL_law_29 2 rfl rfl)
theorem dL_law_752 : decode cL_law 752 = .ok (.istore 5, 2) := dk_54 5 (dk_at dksL_law_29 5 rfl rfl)
theorem dL_law_754 : decode cL_law 754 = .ok (.aload_n 2, 1) := dk_44 (dk_at dksL_law_29 7 rfl rfl)
theorem dL_law_755 : decode cL_law 755 = .ok (.aload_n 0, 1) := dk_42 (dk_at dksL_law_29 8 rfl rfl)
theorem dL_law_756 : decode cL_law 756 = .ok (.iload 4, 2) := dk_21 4 (dk_at dksL_law_29 9 rfl rfl)
theorem dL_law_758 : decode cL_law 758 = .ok (.iconst 1, 1) := dk_4 (dk_at dksL_law_29 11 rfl rfl)
theorem dL_law_759 : decode cL_law 759 = .ok (.iadd, 1) := dk_96 (dk_at dksL_law_29 12 rfl rfl)
theorem dL_law_760 : decode cL_law 760 = .ok (.iaload, 1) := dk_46 (dk_at dksL_law_29 13 rfl rfl)
theorem dL_law_761 : decode cL_law 761 = .ok (.aload_n 0, 1) := dk_42 (dk_at dksL_law_29 14 rfl rfl)
theorem dL_law_762 : decode cL_law 762 = .ok (.iload 4, 2) := dk_21 4 (dk_at dksL_law_29 15 rfl rfl)
theorem dL_law_764 : decode cL_law 764 = .ok (.iconst 2, 1) := dk_5 (dk_at dksL_law_29 17 rfl rfl)
theorem dL_law_765 : decode cL_law 765 = .ok (.iadd, 1) := dk_96 (dk_at dksL_law_29 18 rfl rfl)
theorem dL_law_766 : decode cL_law 766 = .ok (.iaload, 1) := dk_46 (dk_at dksL_law_29 19 rfl rfl)
theorem dL_law_767 : decode cL_law 767 = .ok (.invokevirtual 116, 3) := dk_182 0 116 (dk_at dksL_law_29 20 rfl rfl)
theorem dL_law_770 : decode cL_law 770 = .ok (.istore 6, 2) := dk_54 6 (dk_at dksL_law_30 0 rfl rfl)
theorem dL_law_772 : decode cL_law 772 = .ok (.aload_n 2, 1) := dk_44 (dk_at dksL_law_30 2 rfl rfl)
theorem dL_law_773 : decode cL_law 773 = .ok (.invokevirtual 83, 3) := dk_182 0 83 (dk_at dksL_law_30 3 rfl rfl)
theorem dL_law_776 : decode cL_law 776 = .ok (.iload 5, 2) := dk_21 5 (dk_at dksL_law_30 6 rfl rfl)
theorem dL_law_778 : decode cL_law 778 = .ok (.if_icmp .eq 5, 3) := dk_159 0 5 (dk_at dksL_law_30 8 rfl rfl)
theorem dL_law_781 : decode cL_law 781 = .ok (.iconst 0, 1) := dk_3 (dk_at dksL_law_30 11 rfl rfl)
theorem dL_law_782 : decode cL_law 782 = .ok (.ireturn, 1) := dk_172 (dk_at dksL_law_30 12 rfl rfl)
theorem dL_law_783 : decode cL_law 783 = .ok (.iload 5, 2) := dk_21 5 (dk_at dksL_law_30 13 rfl rfl)
theorem dL_law_785 : decode cL_law 785 = .ok (.ifCond .ne 15, 3) := dk_154 0 15 (dk_at dksL_law_30 15 rfl rfl)
theorem dL_law_788 : decode cL_law 788 = .ok (.aload_n 3, 1) := dk_45 (dk_at dksL_law_30 18 rfl rfl)
theorem dL_law_789 : decode cL_law 789 = .ok (.iconst 0, 1) := dk_3 (dk_at dksL_law_30 19 rfl rfl)
theorem dL_law_790 : decode cL_law 790 = .ok (.laload, 1) := dk_47 (dk_at dksL_law_30 20 rfl rfl)
theorem dL_law_791 : decode cL_law 791 = .ok (.iload 6, 2) := dk_21 6 (dk_at dksL_law_30 21 rfl rfl)
theorem dL_law_793 : decode cL_law 793 = .ok (.i2l, 1) := dk_133 (dk_at dksL_law_30 23 rfl rfl)
theorem dL_law_794 : decode cL_law 794 = .ok (.lcmp, 1) := dk_148 (dk_at dksL_law_31 0 rfl rfl)
theorem dL_law_795 : decode cL_law 795 = .ok (.ifCond .eq 5, 3) := dk_153 0 5 (dk_at dksL_law_31 1 rfl rfl)
theorem dL_law_798 : decode cL_law 798 = .ok (.iconst 0, 1) := dk_3 (dk_at dksL_law_31 4 rfl rfl)
theorem dL_law_799 : decode cL_law 799 = .ok (.ireturn, 1) := dk_172 (dk_at dksL_law_31 5 rfl rfl)
theorem dL_law_800 : decode cL_law 800 = .ok (.goto 556, 3) := dk_167 2 44 (dk_at dksL_law_31 6 rfl rfl)
theorem dL_law_803 : decode cL_law 803 = .ok (.aload_n 1, 1) := dk_43 (dk_at dksL_law_31 9 rfl rfl)
theorem dL_law_804 : decode cL_law 804 = .ok (.aload_n 0, 1) := dk_42 (dk_at dksL_law_31 10 rfl rfl)
theorem dL_law_805 : decode cL_law 805 = .ok (.iload 4, 2) := dk_21 4 (dk_at dksL_law_31 11 rfl rfl)
theorem dL_law_807 : decode cL_law 807 = .ok (.iconst 1, 1) := dk_4 (dk_at dksL_law_31 13 rfl rfl)
theorem dL_law_808 : decode cL_law 808 = .ok (.iadd, 1) := dk_96 (dk_at dksL_law_31 14 rfl rfl)
theorem dL_law_809 : decode cL_law 809 = .ok (.iaload, 1) := dk_46 (dk_at dksL_law_31 15 rfl rfl)
theorem dL_law_810 : decode cL_law 810 = .ok (.aload_n 0, 1) := dk_42 (dk_at dksL_law_31 16 rfl rfl)
theorem dL_law_811 : decode cL_law 811 = .ok (.iload 4, 2) := dk_21 4 (dk_at dksL_law_31 17 rfl rfl)
theorem dL_law_813 : decode cL_law 813 = .ok (.iconst 2, 1) := dk_5 (dk_at dksL_law_31 19 rfl rfl)
theorem dL_law_814 : decode cL_law 814 = .ok (.iadd, 1) := dk_96 (dk_at dksL_law_31 20 rfl rfl)
theorem dL_law_815 : decode cL_law 815 = .ok (.iaload, 1) := dk_46 (dk_at dksL_law_31 21 rfl rfl)
theorem dL_law_816 : decode cL_law 816 = .ok (.ifCond .eq 7, 3) := dk_153 0 7 (dk_at dksL_law_32 0 rfl rfl)
theorem dL_law_819 : decode cL_law 819 = .ok (.iconst 1, 1) := dk_4 (dk_at dksL_law_32 3 rfl rfl)
theorem dL_law_820 : decode cL_law 820 = .ok (.goto 4, 3) := dk_167 0 4 (dk_at dksL_law_32 4 rfl rfl)
theorem dL_law_823 : decode cL_law 823 = .ok (.iconst 0, 1) := dk_3 (dk_at dksL_law_32 7 rfl rfl)
theorem dL_law_824 : decode cL_law 824 = .ok (.aload_n 3, 1) := dk_45 (dk_at dksL_law_32 8 rfl rfl)
theorem dL_law_825 : decode cL_law 825 = .ok (.invokestatic 117, 3) := dk_184 0 117 (dk_at dksL_law_32 9 rfl rfl)
theorem dL_law_828 : decode cL_law 828 = .ok (.istore 5, 2) := dk_54 5 (dk_at dksL_law_32 12 rfl rfl)
theorem dL_law_830 : decode cL_law 830 = .ok (.aload_n 2, 1) := dk_44 (dk_at dksL_law_32 14 rfl rfl)
theorem dL_law_831 : decode cL_law 831 = .ok (.aload_n 0, 1) := dk_42 (dk_at dksL_law_32 15 rfl rfl)
theorem dL_law_832 : decode cL_law 832 = .ok (.iload 4, 2) := dk_21 4 (dk_at dksL_law_32 16 rfl rfl)
theorem dL_law_834 : decode cL_law 834 = .ok (.iconst 1, 1) := dk_4 (dk_at dksL_law_32 18 rfl rfl)
theorem dL_law_835 : decode cL_law 835 = .ok (.iadd, 1) := dk_96 (dk_at dksL_law_32 19 rfl rfl)
theorem dL_law_836 : decode cL_law 836 = .ok (.iaload, 1) := dk_46 (dk_at dksL_law_32 20 rfl rfl)
theorem dL_law_837 : decode cL_law 837 = .ok (.aload_n 0, 1) := dk_42 (dk_at dksL_law_32 21 rfl rfl)
theorem dL_law_838 : decode cL_law 838 = .ok (.iload 4, 2) := dk_21 4 (dk_at dksL_law_32 22 rfl rfl)
theorem dL_law_840 : decode cL_law 840 = .ok (.iconst 2, 1) := dk_5 (dk_at dksL_law_33 0 rfl rfl)
theorem dL_law_841 : decode cL_law 841 = .ok (.iadd, 1) := dk_96 (dk_at dksL_law_33 1 rfl rfl)
theorem dL_law_842 : decode cL_law 842 = .ok (.iaload, 1) := dk_46 (dk_at dksL_law_33 2 rfl rfl)
theorem dL_law_843 : decode cL_law 843 = .ok (.ifCond .eq 7, 3) := dk_153 0 7 (dk_at dksL_law_33 3 rfl rfl)
theorem dL_law_846 : decode cL_law 846 = .ok (.iconst 1, 1) := dk_4 (dk_at dksL_law_33 6 rfl rfl)
theorem dL_law_847 : decode cL_law 847 = .ok (.goto 4, 3) := dk_167 0 4 (dk_at dksL_law_33 7 rfl rfl)
theorem dL_law_850 : decode cL_law 850 = .ok (.iconst 0, 1) := dk_3 (dk_at dksL_law_33 10 rfl rfl)
theorem dL_law_851 : decode cL_law 851 = .ok (.invokevirtual 120, 3) := dk_182 0 120 (dk_at dksL_law_33 11 rfl rfl)
theorem dL_law_854 : decode cL_law 854 = .ok (.istore 6, 2) := dk_54 6 (dk_at dksL_law_33 14 rfl rfl)
theorem dL_law_856 : decode cL_law 856 = .ok (.aload_n 2, 1) := dk_44 (dk_at dksL_law_33 16 rfl rfl)
theorem dL_law_857 : decode cL_law 857 = .ok (.invokevirtual 83, 3) := dk_182 0 83 (dk_at dksL_law_33 17 rfl rfl)
theorem dL_law_860 : decode cL_law 860 = .ok (.iload 5, 2) := dk_21 5 (dk_at dksL_law_33 20 rfl rfl)
theorem dL_law_862 : decode cL_law 862 = .ok (.if_icmp .eq 5, 3) := dk_159 0 5 (dk_at dksL_law_34 0 rfl rfl)
theorem dL_law_865 : decode cL_law 865 = .ok (.iconst 0, 1) := dk_3 (dk_at dksL_law_34 3 rfl rfl)
theorem dL_law_866 : decode cL_law 866 = .ok (.ireturn, 1) := dk_172 (dk_at dksL_law_34 4 rfl rfl)
theorem dL_law_867 : decode cL_law 867 = .ok (.iload 5, 2) := dk_21 5 (dk_at dksL_law_34 5 rfl rfl)
theorem dL_law_869 : decode cL_law 869 = .ok (.ifCond .ne 15, 3) := dk_154 0 15 (dk_at dksL_law_34 7 rfl rfl)
theorem dL_law_872 : decode cL_law 872 = .ok (.aload_n 3, 1) := dk_45 (dk_at dksL_law_34 10 rfl rfl)
theorem dL_law_873 : decode cL_law 873 = .ok (.iconst 0, 1) := dk_3 (dk_at dksL_law_34 11 rfl rfl)
theorem dL_law_874 : decode cL_law 874 = .ok (.laload, 1) := dk_47 (dk_at dksL_law_34 12 rfl rfl)
theorem dL_law_875 : decode cL_law 875 = .ok (.iload 6, 2) := dk_21 6 (dk_at dksL_law_34 13 rfl rfl)
theorem dL_law_877 : decode cL_law 877 = .ok (.i2l, 1) := dk_133 (dk_at dksL_law_34 15 rfl rfl)
theorem dL_law_878 : decode cL_law 878 = .ok (.lcmp, 1) := dk_148 (dk_at dksL_law_34 16 rfl rfl)
theorem dL_law_879 : decode cL_law 879 = .ok (.ifCond .eq 5, 3) := dk_153 0 5 (dk_at dksL_law_34 17 rfl rfl)
theorem dL_law_882 : decode cL_law 882 = .ok (.iconst 0, 1) := dk_3 (dk_at dksL_law_34 20 rfl rfl)
theorem dL_law_883 : decode cL_law 883 = .ok (.ireturn, 1) := dk_172 (dk_at dksL_law_34 21 rfl rfl)
theorem dL_law_884 : decode cL_law 884 = .ok (.goto 472, 3) := dk_167 1 216 (dk_at dksL_law_35 0 rfl rfl)
theorem dL_law_887 : decode cL_law 887 = .ok (.aload_n 1, 1) := dk_43 (dk_at dksL_law_35 3 rfl rfl)
theorem dL_law_888 : decode cL_law 888 = .ok (.invokevirtual 121, 3) := dk_182 0 121 (dk_at dksL_law_35 4 rfl rfl)
theorem dL_law_891 : decode cL_law 891 = .ok (.aload_n 2, 1) := dk_44 (dk_at dksL_law_35 7 rfl rfl)
theorem dL_law_892 : decode cL_law 892 = .ok (.invokevirtual 124, 3) := dk_182 0 124 (dk_at dksL_law_35 8 rfl rfl)
theorem dL_law_895 : decode cL_law 895 = .ok (.if_icmp .eq 461, 3) := dk_159 1 205 (dk_at dksL_law_35 11 rfl rfl)
theorem dL_law_898 : decode cL_law 898 = .ok (.iconst 0, 1) := dk_3 (dk_at dksL_law_35 14 rfl rfl)
theorem dL_law_899 : decode cL_law 899 = .ok (.ireturn, 1) := dk_172 (dk_at dksL_law_35 15 rfl rfl)
theorem dL_law_900 : decode cL_law 900 = .ok (.aload_n 1, 1) := dk_43 (dk_at dksL_law_35 16 rfl rfl)
theorem dL_law_901 : decode cL_law 901 = .ok (.invokevirtual 125, 3) := dk_182 0 125 (dk_at dksL_law_35 17 rfl rfl)
theorem dL_law_904 : decode cL_law 904 = .ok (.aload_n 2, 1) := dk_44 (dk_at dksL_law_35 20 rfl rfl)
theorem dL_law_905 : decode cL_law 905 = .ok (.invokevirtual 128, 3) := dk_182 0 128 (dk_at dksL_law_35 21 rfl rfl)
theorem dL_law_908 : decode cL_law 908 = .ok (.if_icmp .eq 448, 3) := dk_159 1 192 (dk_at dksL_law_36 0 rfl rfl)
theorem dL_law_911 : decode cL_law 911 = .ok (.iconst 0, 1) := dk_3 (dk_at dksL_law_36 3 rfl rfl)
theorem dL_law_912 : decode cL_law 912 = .ok (.ireturn, 1) := dk_172 (dk_at dksL_law_36 4 rfl rfl)
theorem dL_law_913 : decode cL_law 913 = .ok (.aload_n 1, 1) := dk_43 (dk_at dksL_law_36 5 rfl rfl)
theorem dL_law_914 : decode cL_law 914 = .ok (.invokevirtual 129, 3) := dk_182 0 129 (dk_at dksL_law_36 6 rfl rfl)
theorem dL_law_917 : decode cL_law 917 = .ok (.aload_n 2, 1) := dk_44 (dk_at dksL_law_36 9 rfl rfl)
theorem dL_law_918 : decode cL_law 918 = .ok (.invokevirtual 132, 3) := dk_182 0 132 (dk_at dksL_law_36 10 rfl rfl)
theorem dL_law_921 : decode cL_law 921 = .ok (.if_icmp .eq 435, 3) := dk_159 1 179 (dk_at dksL_law_36 13 rfl rfl)
theorem dL_law_924 : decode cL_law 924 = .ok (.iconst 0, 1) := dk_3 (dk_at dksL_law_36 16 rfl rfl)
theorem dL_law_925 : decode cL_law 925 = .ok (.ireturn, 1) := dk_172 (dk_at dksL_law_36 17 rfl rfl)
theorem dL_law_926 : decode cL_law 926 = .ok (.aload_n 1, 1) := dk_43 (dk_at dksL_law_36 18 rfl rfl)
theorem dL_law_927 : decode cL_law 927 = .ok (.aload_n 0, 1) := dk_42 (dk_at dksL_law_36 19 rfl rfl)
theorem dL_law_928 : decode cL_law 928 = .ok (.iload 4, 2) := dk_21 4 (dk_at dksL_law_36 20 rfl rfl)
theorem dL_law_930 : decode cL_law 930 = .ok (.iconst 1, 1) := dk_4 (dk_at dksL_law_36 22 rfl rfl)
theorem dL_law_931 : decode cL_law 931 = .ok (.iadd, 1) := dk_96 (dk_at dksL_law_36 23 rfl rfl)
theorem dL_law_932 : decode cL_law 932 = .ok (.iaload, 1) := dk_46 (dk_at dksL_law_37 0 rfl rfl)
theorem dL_law_933 : decode cL_law 933 = .ok (.aload_n 3, 1) := dk_45 (dk_at dksL_law_37 1 rfl rfl)
theorem dL_law_934 : decode cL_law 934 = .ok (.invokestatic 133, 3) := dk_184 0 133 (dk_at dksL_law_37 2 rfl rfl)
theorem dL_law_937 : decode cL_law 937 = .ok (.istore 5, 2) := dk_54 5 (dk_at dksL_law_37 5 rfl rfl)
theorem dL_law_939 : decode cL_law 939 = .ok (.aload_n 2, 1) := dk_44 (dk_at dksL_law_37 7 rfl rfl)
theorem dL_law_940 : decode cL_law 940 = .ok (.aload_n 0, 1) := dk_42 (dk_at dksL_law_37 8 rfl rfl)
theorem dL_law_941 : decode cL_law 941 = .ok (.iload 4, 2) := dk_21 4 (dk_at dksL_law_37 9 rfl rfl)
theorem dL_law_943 : decode cL_law 943 = .ok (.iconst 1, 1) := dk_4 (dk_at dksL_law_37 11 rfl rfl)
theorem dL_law_944 : decode cL_law 944 = .ok (.iadd, 1) := dk_96 (dk_at dksL_law_37 12 rfl rfl)
theorem dL_law_945 : decode cL_law 945 = .ok (.iaload, 1) := dk_46 (dk_at dksL_law_37 13 rfl rfl)
theorem dL_law_946 : decode cL_law 946 = .ok (.invokevirtual 135, 3) := dk_182 0 135 (dk_at dksL_law_37 14 rfl rfl)
theorem dL_law_949 : decode cL_law 949 = .ok (.istore 6, 2) := dk_54 6 (dk_at dksL_law_37 17 rfl rfl)
theorem dL_law_951 : decode cL_law 951 = .ok (.aload_n 2, 1) := dk_44 (dk_at dksL_law_37 19 rfl rfl)
theorem dL_law_952 : decode cL_law 952 = .ok (.invokevirtual 83, 3) := dk_182 0 83 (dk_at dksL_law_37 20 rfl rfl)
theorem dL_law_955 : decode cL_law 955 = .ok (.iload 5, 2) := dk_21 5 (dk_at dksL_law_38 0 rfl rfl)
theorem dL_law_957 : decode cL_law 957 = .ok (.if_icmp .eq 5, 3) := dk_159 0 5 (dk_at dksL_law_38 2 rfl rfl)
theorem dL_law_960 : decode cL_law 960 = .ok (.iconst 0, 1) := dk_3 (dk_at dksL_law_38 5 rfl rfl)
theorem dL_law_961 : decode cL_law 961 = .ok (.ireturn, 1) := dk_172 (dk_at dksL_law_38 6 rfl rfl)
theorem dL_law_962 : decode cL_law 962 = .ok (.iload 5, 2) := dk_21 5 (dk_at dksL_law_38 7 rfl rfl)
theorem dL_law_964 : decode cL_law 964 = .ok (.ifCond .ne 22, 3) := dk_154 0 22 (dk_at dksL_law_38 9 rfl rfl)
theorem dL_law_967 : decode cL_law 967 = .ok (.aload_n 3, 1) := dk_45 (dk_at dksL_law_38 12 rfl rfl)
theorem dL_law_968 : decode cL_law 968 = .ok (.iconst 0, 1) := dk_3 (dk_at dksL_law_38 13 rfl rfl)
theorem dL_law_969 : decode cL_law 969 = .ok (.laload, 1) := dk_47 (dk_at dksL_law_38 14 rfl rfl)
theorem dL_law_970 : decode cL_law 970 = .ok (.iload 6, 2) := dk_21 6 (dk_at dksL_law_38 15 rfl rfl)
theorem dL_law_972 : decode cL_law 972 = .ok (.ifCond .eq 7, 3) := dk_153 0 7 (dk_at dksL_law_38 17 rfl rfl)
theorem dL_law_975 : decode cL_law 975 = .ok (.lconst 1, 1) := dk_10 (dk_at dksL_law_38 20 rfl rfl)
theorem dL_law_976 : decode cL_law 976 = .ok (.goto 4, 3) := dk_167 0 4 (dk_at dksL_law_38 21 rfl rfl)
theorem dL_law_979 : decode cL_law 979 = .ok (.lconst 0, 1) := dk_9 (dk_at dksL_law_39 0 rfl rfl)
theorem dL_law_980 : decode cL_law 980 = .ok (.lcmp, 1) := dk_148 (dk_at dksL_law_39 1 rfl rfl)
theorem dL_law_981 : decode cL_law 981 = .ok (.ifCond .eq 5, 3) := dk_153 0 5 (dk_at dksL_law_39 2 rfl rfl)
theorem dL_law_984 : decode cL_law 984 = .ok (.iconst 0, 1) := dk_3 (dk_at dksL_law_39 5 rfl rfl)
theorem dL_law_985 : decode cL_law 985 = .ok (.ireturn, 1) := dk_172 (dk_at dksL_law_39 6 rfl rfl)
theorem dL_law_986 : decode cL_law 986 = .ok (.goto 370, 3) := dk_167 1 114 (dk_at dksL_law_39 7 rfl rfl)
theorem dL_law_989 : decode cL_law 989 = .ok (.aload_n 1, 1) := dk_43 (dk_at dksL_law_39 10 rfl rfl)
theorem dL_law_990 : decode cL_law 990 = .ok (.aload_n 0, 1) := dk_42 (dk_at dksL_law_39 11 rfl rfl)
theorem dL_law_991 : decode cL_law 991 = .ok (.iload 4, 2) := dk_21 4 (dk_at dksL_law_39 12 rfl rfl)
theorem dL_law_993 : decode cL_law 993 = .ok (.iconst 1, 1) := dk_4 (dk_at dksL_law_39 14 rfl rfl)
theorem dL_law_994 : decode cL_law 994 = .ok (.iadd, 1) := dk_96 (dk_at dksL_law_39 15 rfl rfl)
theorem dL_law_995 : decode cL_law 995 = .ok (.iaload, 1) := dk_46 (dk_at dksL_law_39 16 rfl rfl)
theorem dL_law_996 : decode cL_law 996 = .ok (.invokevirtual 136, 3) := dk_182 0 136 (dk_at dksL_law_39 17 rfl rfl)
theorem dL_law_999 : decode cL_law 999 = .ok (.aload_n 2, 1) := dk_44 (dk_at dksL_law_39 20 rfl rfl)
theorem dL_law_1000 : decode cL_law 1000 = .ok (.aload_n 0, 1) := dk_42 (dk_at dksL_law_39 21 rfl rfl)
theorem dL_law_1001 : decode cL_law 1001 = .ok (.iload 4, 2) := dk_21 4 (dk_at dksL_law_39 22 rfl rfl)
theorem dL_law_1003 : decode cL_law 1003 = .ok (.iconst 1, 1) := dk_4 (dk_at dksL_law_40 0 rfl rfl)
theorem dL_law_1004 : decode cL_law 1004 = .ok (.iadd, 1) := dk_96 (dk_at dksL_law_40 1 rfl rfl)
theorem dL_law_1005 : decode cL_law 1005 = .ok (.iaload, 1) := dk_46 (dk_at dksL_law_40 2 rfl rfl)
theorem dL_law_1006 : decode cL_law 1006 = .ok (.invokevirtual 139, 3) := dk_182 0 139 (dk_at dksL_law_40 3 rfl rfl)
theorem dL_law_1009 : decode cL_law 1009 = .ok (.if_icmp .eq 347, 3) := dk_159 1 91 (dk_at dksL_law_40 6 rfl rfl)
theorem dL_law_1012 : decode cL_law 1012 = .ok (.iconst 0, 1) := dk_3 (dk_at dksL_law_40 9 rfl rfl)
theorem dL_law_1013 : decode cL_law 1013 = .ok (.ireturn, 1) := dk_172 (dk_at dksL_law_40 10 rfl rfl)
theorem dL_law_1014 : decode cL_law 1014 = .ok (.aload_n 1, 1) := dk_43 (dk_at dksL_law_40 11 rfl rfl)
theorem dL_law_1015 : decode cL_law 1015 = .ok (.aload_n 0, 1) := dk_42 (dk_at dksL_law_40 12 rfl rfl)
theorem dL_law_1016 : decode cL_law 1016 = .ok (.iload 4, 2) := dk_21 4 (dk_at dksL_law_40 13 rfl rfl)
theorem dL_law_1018 : decode cL_law 1018 = .ok (.iconst 1, 1) := dk_4 (dk_at dksL_law_40 15 rfl rfl)
theorem dL_law_1019 : decode cL_law 1019 = .ok (.iadd, 1) := dk_96 (dk_at dksL_law_40 16 rfl rfl)
theorem dL_law_1020 : decode cL_law 1020 = .ok (.iaload, 1) := dk_46 (dk_at dksL_law_40 17 rfl rfl)
theorem dL_law_1021 : decode cL_law 1021 = .ok (.aload_n 3, 1) := dk_45 (dk_at dksL_law_40 18 rfl rfl)
theorem dL_law_1022 : decode cL_law 1022 = .ok (.invokestatic 140, 3) := dk_184 0 140 (dk_at dksL_law_40 19 rfl rfl)
theorem dL_law_1025 : decode cL_law 1025 = .ok (.istore 5, 2) := dk_54 5 (dk_at dksL_law_40 22 rfl rfl)
theorem dL_law_1027 : decode cL_law 1027 = .ok (.aload_n 2, 1) := dk_44 (dk_at dksL_law_41 0 rfl rfl)
theorem dL_law_1028 : decode cL_law 1028 = .ok (.aload_n 0, 1) := dk_42 (dk_at dksL_law_41 1 rfl rfl)
theorem dL_law_1029 : decode cL_law 1029 = .ok (.iload 4, 2) := dk_21 4 (dk_at dksL_law_41 2 rfl rfl)
theorem dL_law_1031 : decode cL_law 1031 = .ok (.iconst 1, 1) := dk_4 (dk_at dksL_law_41 4 rfl rfl)
theorem dL_law_1032 : decode cL_law 1032 = .ok (.iadd, 1) := dk_96 (dk_at dksL_law_41 5 rfl rfl)
theorem dL_law_1033 : decode cL_law 1033 = .ok (.iaload, 1) := dk_46 (dk_at dksL_law_41 6 rfl rfl)
theorem dL_law_1034 : decode cL_law 1034 = .ok (.invokevirtual 142, 3) := dk_182 0 142 (dk_at dksL_law_41 7 rfl rfl)
theorem dL_law_1037 : decode cL_law 1037 = .ok (.istore 6, 2) := dk_54 6 (dk_at dksL_law_41 10 rfl rfl)
theorem dL_law_1039 : decode cL_law 1039 = .ok (.aload_n 2, 1) := dk_44 (dk_at dksL_law_41 12 rfl rfl)
theorem dL_law_1040 : decode cL_law 1040 = .ok (.invokevirtual 83, 3) := dk_182 0 83 (dk_at dksL_law_41 13 rfl rfl)
theorem dL_law_1043 : decode cL_law 1043 = .ok (.iload 5, 2) := dk_21 5 (dk_at dksL_law_41 16 rfl rfl)
theorem dL_law_1045 : decode cL_law 1045 = .ok (.if_icmp .eq 5, 3) := dk_159 0 5 (dk_at dksL_law_41 18 rfl rfl)
theorem dL_law_1048 : decode cL_law 1048 = .ok (.iconst 0, 1) := dk_3 (dk_at dksL_law_41 21 rfl rfl)
theorem dL_law_1049 : decode cL_law 1049 = .ok (.ireturn, 1) := dk_172 (dk_at dksL_law_41 22 rfl rfl)
theorem dL_law_1050 : decode cL_law 1050 = .ok (.iload 5, 2) := dk_21 5 (dk_at dksL_law_42 0 rfl rfl)
theorem dL_law_1052 : decode cL_law 1052 = .ok (.ifCond .ne 15, 3) := dk_154 0 15 (dk_at dksL_law_42 2 rfl rfl)
theorem dL_law_1055 : decode cL_law 1055 = .ok (.aload_n 3, 1) := dk_45 (dk_at dksL_law_42 5 rfl rfl)
theorem dL_law_1056 : decode cL_law 1056 = .ok (.iconst 0, 1) := dk_3 (dk_at dksL_law_42 6 rfl rfl)
theorem dL_law_1057 : decode cL_law 1057 = .ok (.laload, 1) := dk_47 (dk_at dksL_law_42 7 rfl rfl)
theorem dL_law_1058 : decode cL_law 1058 = .ok (.iload 6, 2) := dk_21 6 (dk_at dksL_law_42 8 rfl rfl)
theorem dL_law_1060 : decode cL_law 1060 = .ok (.i2l, 1) := dk_133 (dk_at dksL_law_42 10 rfl rfl)
theorem dL_law_1061 : decode cL_law 1061 = .ok (.lcmp, 1) := dk_148 (dk_at dksL_law_42 11 rfl rfl)
theorem dL_law_1062 : decode cL_law 1062 = .ok (.ifCond .eq 5, 3) := dk_153 0 5 (dk_at dksL_law_42 12 rfl rfl)
theorem dL_law_1065 : decode cL_law 1065 = .ok (.iconst 0, 1) := dk_3 (dk_at dksL_law_42 15 rfl rfl)
theorem dL_law_1066 : decode cL_law 1066 = .ok (.ireturn, 1) := dk_172 (dk_at dksL_law_42 16 rfl rfl)
theorem dL_law_1067 : decode cL_law 1067 = .ok (.goto 289, 3) := dk_167 1 33 (dk_at dksL_law_42 17 rfl rfl)
theorem dL_law_1070 : decode cL_law 1070 = .ok (.aload_n 1, 1) := dk_43 (dk_at dksL_law_42 20 rfl rfl)
theorem dL_law_1071 : decode cL_law 1071 = .ok (.aload_n 0, 1) := dk_42 (dk_at dksL_law_42 21 rfl rfl)
theorem dL_law_1072 : decode cL_law 1072 = .ok (.iload 4, 2) := dk_21 4 (dk_at dksL_law_42 22 rfl rfl)
theorem dL_law_1074 : decode cL_law 1074 = .ok (.iconst 1, 1) := dk_4 (dk_at dksL_law_43 0 rfl rfl)
theorem dL_law_1075 : decode cL_law 1075 = .ok (.iadd, 1) := dk_96 (dk_at dksL_law_43 1 rfl rfl)
theorem dL_law_1076 : decode cL_law 1076 = .ok (.iaload, 1) := dk_46 (dk_at dksL_law_43 2 rfl rfl)
theorem dL_law_1077 : decode cL_law 1077 = .ok (.aload_n 0, 1) := dk_42 (dk_at dksL_law_43 3 rfl rfl)
theorem dL_law_1078 : decode cL_law 1078 = .ok (.iload 4, 2) := dk_21 4 (dk_at dksL_law_43 4 rfl rfl)
theorem dL_law_1080 : decode cL_law 1080 = .ok (.iconst 2, 1) := dk_5 (dk_at dksL_law_43 6 rfl rfl)
theorem dL_law_1081 : decode cL_law 1081 = .ok (.iadd, 1) := dk_96 (dk_at dksL_law_43 7 rfl rfl)
theorem dL_law_1082 : decode cL_law 1082 = .ok (.iaload, 1) := dk_46 (dk_at dksL_law_43 8 rfl rfl)
theorem dL_law_1083 : decode cL_law 1083 = .ok (.aload_n 3, 1) := dk_45 (dk_at dksL_law_43 9 rfl rfl)
theorem dL_law_1084 : decode cL_law 1084 = .ok (.invokestatic 143, 3) := dk_184 0 143 (dk_at dksL_law_43 10 rfl rfl)
theorem dL_law_1087 : decode cL_law 1087 = .ok (.istore 5, 2) := dk_54 5 (dk_at dksL_law_43 13 rfl rfl)
theorem dL_law_1089 : decode cL_law 1089 = .ok (.aload_n 2, 1) := dk_44 (dk_at dksL_law_43 15 rfl rfl)
theorem dL_law_1090 : decode cL_law 1090 = .ok (.aload_n 0, 1) := dk_42 (dk_at dksL_law_43 16 rfl rfl)
theorem dL_law_1091 : decode cL_law 1091 = .ok (.iload 4, 2) := dk_21 4 (dk_at dksL_law_43 17 rfl rfl)
theorem dL_law_1093 : decode cL_law 1093 = .ok (.iconst 1, 1) := dk_4 (dk_at dksL_law_43 19 rfl rfl)
theorem dL_law_1094 : decode cL_law 1094 = .ok (.iadd, 1) := dk_96 (dk_at dksL_law_43 20 rfl rfl)
theorem dL_law_1095 : decode cL_law 1095 = .ok (.iaload, 1) := dk_46 (dk_at dksL_law_43 21 rfl rfl)
theorem dL_law_1096 : decode cL_law 1096 = .ok (.aload_n 0, 1) := dk_42 (dk_at dksL_law_43 22 rfl rfl)
theorem dL_law_1097 : decode cL_law 1097 = .ok (.iload 4, 2) := dk_21 4 (dk_at dksL_law_44 0 rfl rfl)
theorem dL_law_1099 : decode cL_law 1099 = .ok (.iconst 2, 1) := dk_5 (dk_at dksL_law_44 2 rfl rfl)
theorem dL_law_1100 : decode cL_law 1100 = .ok (.iadd, 1) := dk_96 (dk_at dksL_law_44 3 rfl rfl)
theorem dL_law_1101 : decode cL_law 1101 = .ok (.iaload, 1) := dk_46 (dk_at dksL_law_44 4 rfl rfl)
theorem dL_law_1102 : decode cL_law 1102 = .ok (.invokevirtual 145, 3) := dk_182 0 145 (dk_at dksL_law_44 5 rfl rfl)
theorem dL_law_1105 : decode cL_law 1105 = .ok (.istore 6, 2) := dk_54 6 (dk_at dksL_law_44 8 rfl rfl)
theorem dL_law_1107 : decode cL_law 1107 = .ok (.aload_n 2, 1) := dk_44 (dk_at dksL_law_44 10 rfl rfl)
theorem dL_law_1108 : decode cL_law 1108 = .ok (.invokevirtual 83, 3) := dk_182 0 83 (dk_at dksL_law_44 11 rfl rfl)
theorem dL_law_1111 : decode cL_law 1111 = .ok (.iload 5, 2) := dk_21 5 (dk_at dksL_law_44 14 rfl rfl)
theorem dL_law_1113 : decode cL_law 1113 = .ok (.if_icmp .eq 5, 3) := dk_159 0 5 (dk_at dksL_law_44 16 rfl rfl)
theorem dL_law_1116 : decode cL_law 1116 = .ok (.iconst 0, 1) := dk_3 (dk_at dksL_law_44 19 rfl rfl)
theorem dL_law_1117 : decode cL_law 1117 = .ok (.ireturn, 1) := dk_172 (dk_at dksL_law_44 20 rfl rfl)
theorem dL_law_1118 : decode cL_law 1118 = .ok (.iload 5, 2) := dk_21 5 (dk_at dksL_law_44 21 rfl rfl)
theorem dL_law_1120 : decode cL_law 1120 = .ok (.ifCond .ne 15, 3) := dk_154 0 15 (dk_at dksL_law_45 0 rfl rfl)
theorem dL_law_1123 : decode cL_law 1123 = .ok (.aload_n 3, 1) := dk_45 (dk_at dksL_law_45 3 rfl rfl)
theorem dL_law_1124 : decode cL_law 1124 = .ok (.iconst 0, 1) := dk_3 (dk_at dksL_law_45 4 rfl rfl)
theorem dL_law_1125 : decode cL_law 1125 = .ok (.laload, 1) := dk_47 (dk_at dksL_law_45 5 rfl rfl)
theorem dL_law_1126 : decode cL_law 1126 = .ok (.iload 6, 2) := dk_21 6 (dk_at dksL_law_45 6 rfl rfl)
theorem dL_law_1128 : decode cL_law 1128 = .ok (.i2l, 1) := dk_133 (dk_at dksL_law_45 8 rfl rfl)
theorem dL_law_1129 : decode cL_law 1129 = .ok (.lcmp, 1) := dk_148 (dk_at dksL_law_45 9 rfl rfl)
theorem dL_law_1130 : decode cL_law 1130 = .ok (.ifCond .eq 5, 3) := dk_153 0 5 (dk_at dksL_law_45 10 rfl rfl)
theorem dL_law_1133 : decode cL_law 1133 = .ok (.iconst 0, 1) := dk_3 (dk_at dksL_law_45 13 rfl rfl)
theorem dL_law_1134 : decode cL_law 1134 = .ok (.ireturn, 1) := dk_172 (dk_at dksL_law_45 14 rfl rfl)
theorem dL_law_1135 : decode cL_law 1135 = .ok (.goto 221, 3) := dk_167 0 221 (dk_at dksL_law_45 15 rfl rfl)
theorem dL_law_1138 : decode cL_law 1138 = .ok (.aload_n 1, 1) := dk_43 (dk_at dksL_law_45 18 rfl rfl)
theorem dL_law_1139 : decode cL_law 1139 = .ok (.aload_n 0, 1) := dk_42 (dk_at dksL_law_45 19 rfl rfl)
theorem dL_law_1140 : decode cL_law 1140 = .ok (.iload 4, 2) := dk_21 4 (dk_at dksL_law_45 20 rfl rfl)
theorem dL_law_1142 : decode cL_law 1142 = .ok (.iconst 1, 1) := dk_4 (dk_at dksL_law_45 22 rfl rfl)
theorem dL_law_1143 : decode cL_law 1143 = .ok (.iadd, 1) := dk_96 (dk_at dksL_law_45 23 rfl rfl)
theorem dL_law_1144 : decode cL_law 1144 = .ok (.iaload, 1) := dk_46 (dk_at dksL_law_46 0 rfl rfl)
theorem dL_law_1145 : decode cL_law 1145 = .ok (.aload_n 0, 1) := dk_42 (dk_at dksL_law_46 1 rfl rfl)
theorem dL_law_1146 : decode cL_law 1146 = .ok (.iload 4, 2) := dk_21 4 (dk_at dksL_law_46 2 rfl rfl)
theorem dL_law_1148 : decode cL_law 1148 = .ok (.iconst 2, 1) := dk_5 (dk_at dksL_law_46 4 rfl rfl)
theorem dL_law_1149 : decode cL_law 1149 = .ok (.iadd, 1) := dk_96 (dk_at dksL_law_46 5 rfl rfl)
theorem dL_law_1150 : decode cL_law 1150 = .ok (.iaload, 1) := dk_46 (dk_at dksL_law_46 6 rfl rfl)
theorem dL_law_1151 : decode cL_law 1151 = .ok (.aload_n 3, 1) := dk_45 (dk_at dksL_law_46 7 rfl rfl)
theorem dL_law_1152 : decode cL_law 1152 = .ok (.invokestatic 146, 3) := dk_184 0 146 (dk_at dksL_law_46 8 rfl rfl)
theorem dL_law_1155 : decode cL_law 1155 = .ok (.istore 5, 2) := dk_54 5 (dk_at dksL_law_46 11 rfl rfl)
theorem dL_law_1157 : decode cL_law 1157 = .ok (.aload_n 2, 1) := dk_44 (dk_at dksL_law_46 13 rfl rfl)
theorem dL_law_1158 : decode cL_law 1158 = .ok (.aload_n 0, 1) := dk_42 (dk_at dksL_law_46 14 rfl rfl)
theorem dL_law_1159 : decode cL_law 1159 = .ok (.iload 4, 2) := dk_21 4 (dk_at dksL_law_46 15 rfl rfl)
theorem dL_law_1161 : decode cL_law 1161 = .ok (.iconst 1, 1) := dk_4 (dk_at dksL_law_46 17 rfl rfl)
theorem dL_law_1162 : decode cL_law 1162 = .ok (.iadd, 1) := dk_96 (dk_at dksL_law_46 18 rfl rfl)
theorem dL_law_1163 : decode cL_law 1163 = .ok (.iaload, 1) := dk_46 (dk_at dksL_law_46 19 rfl rfl)
theorem dL_law_1164 : decode cL_law 1164 = .ok (.aload_n 0, 1) := dk_42 (dk_at dksL_law_46 20 rfl rfl)
theorem dL_law_1165 : decode cL_law 1165 = .ok (.iload 4, 2) := dk_21 4 (dk_at dksL_law_46 21 rfl rfl)
theorem dL_law_1167 : decode cL_law 1167 = .ok (.iconst 2, 1) := dk_5 (dk_at dksL_law_46 23 rfl rfl)
theorem dL_law_1168 : decode cL_law 1168 = .ok (.iadd, 1) := dk_96 (dk_at dksL_law_47 0 rfl rfl)
theorem dL_law_1169 : decode cL_law 1169 = .ok (.iaload, 1) := dk_46 (dk_at dksL_law_47 1 rfl rfl)
theorem dL_law_1170 : decode cL_law 1170 = .ok (.invokevirtual 148, 3) := dk_182 0 148 (dk_at dksL_law_47 2 rfl rfl)
theorem dL_law_1173 : decode cL_law 1173 = .ok (.istore 6, 2) := dk_54 6 (dk_at dksL_law_47 5 rfl rfl)
theorem dL_law_1175 : decode cL_law 1175 = .ok (.aload_n 2, 1) := dk_44 (dk_at dksL_law_47 7 rfl rfl)
theorem dL_law_1176 : decode cL_law 1176 = .ok (.invokevirtual 83, 3) := dk_182 0 83 (dk_at dksL_law_47 8 rfl rfl)
theorem dL_law_1179 : decode cL_law 1179 = .ok (.iload 5, 2) := dk_21 5 (dk_at dksL_law_47 11 rfl rfl)
theorem dL_law_1181 : decode cL_law 1181 = .ok (.if_icmp .eq 5, 3) := dk_159 0 5 (dk_at dksL_law_47 13 rfl rfl)
theorem dL_law_1184 : decode cL_law 1184 = .ok (.iconst 0, 1) := dk_3 (dk_at dksL_law_47 16 rfl rfl)
theorem dL_law_1185 : decode cL_law 1185 = .ok (.ireturn, 1) := dk_172 (dk_at dksL_law_47 17 rfl rfl)
theorem dL_law_1186 : decode cL_law 1186 = .ok (.iload 5, 2) := dk_21 5 (dk_at dksL_law_47 18 rfl rfl)
theorem dL_law_1188 : decode cL_law 1188 = .ok (.ifCond .ne 15, 3) := dk_154 0 15 (dk_at dksL_law_47 20 rfl rfl)
theorem dL_law_1191 : decode cL_law 1191 = .ok (.aload_n 3, 1) := dk_45 (dk_at dksL_law_47 23 rfl rfl)
theorem dL_law_1192 : decode cL_law 1192 = .ok (.iconst 0, 1) := dk_3 (dk_at dksL_law_48 0 rfl rfl)
theorem dL_law_1193 : decode cL_law 1193 = .ok (.laload, 1) := dk_47 (dk_at dksL_law_48 1 rfl rfl)
theorem dL_law_1194 : decode cL_law 1194 = .ok (.iload 6, 2) := dk_21 6 (dk_at dksL_law_48 2 rfl rfl)
theorem dL_law_1196 : decode cL_law 1196 = .ok (.i2l, 1) := dk_133 (dk_at dksL_law_48 4 rfl rfl)
theorem dL_law_1197 : decode cL_law 1197 = .ok (.lcmp, 1) := dk_148 (dk_at dksL_law_48 5 rfl rfl)
theorem dL_law_1198 : decode cL_law 1198 = .ok (.ifCond .eq 5, 3) := dk_153 0 5 (dk_at dksL_law_48 6 rfl rfl)
theorem dL_law_1201 : decode cL_law 1201 = .ok (.iconst 0, 1) := dk_3 (dk_at dksL_law_48 9 rfl rfl)
theorem dL_law_1202 : decode cL_law 1202 = .ok (.ireturn, 1) := dk_172 (dk_at dksL_law_48 10 rfl rfl)
theorem dL_law_1203 : decode cL_law 1203 = .ok (.goto 153, 3) := dk_167 0 153 (dk_at dksL_law_48 11 rfl rfl)
theorem dL_law_1206 : decode cL_law 1206 = .ok (.aload_n 1, 1) := dk_43 (dk_at dksL_law_48 14 rfl rfl)
theorem dL_law_1207 : decode cL_law 1207 = .ok (.aload_n 0, 1) := dk_42 (dk_at dksL_law_48 15 rfl rfl)
theorem dL_law_1208 : decode cL_law 1208 = .ok (.iload 4, 2) := dk_21 4 (dk_at dksL_law_48 16 rfl rfl)
theorem dL_law_1210 : decode cL_law 1210 = .ok (.iconst 1, 1) := dk_4 (dk_at dksL_law_48 18 rfl rfl)
theorem dL_law_1211 : decode cL_law 1211 = .ok (.iadd, 1) := dk_96 (dk_at dksL_law_48 19 rfl rfl)
theorem dL_law_1212 : decode cL_law 1212 = .ok (.iaload, 1) := dk_46 (dk_at dksL_law_48 20 rfl rfl)
theorem dL_law_1213 : decode cL_law 1213 = .ok (.aload_n 0, 1) := dk_42 (dk_at dksL_law_48 21 rfl rfl)
theorem dL_law_1214 : decode cL_law 1214 = .ok (.iload 4, 2) := dk_21 4 (dk_at dksL_law_48 22 rfl rfl)
theorem dL_law_1216 : decode cL_law 1216 = .ok (.iconst 2, 1) := dk_5 (dk_at dksL_law_49 0 rfl rfl)
theorem dL_law_1217 : decode cL_law 1217 = .ok (.iadd, 1) := dk_96 (dk_at dksL_law_49 1 rfl rfl)
theorem dL_law_1218 : decode cL_law 1218 = .ok (.iaload, 1) := dk_46 (dk_at dksL_law_49 2 rfl rfl)
theorem dL_law_1219 : decode cL_law 1219 = .ok (.aload_n 3, 1) := dk_45 (dk_at dksL_law_49 3 rfl rfl)
theorem dL_law_1220 : decode cL_law 1220 = .ok (.invokestatic 149, 3) := dk_184 0 149 (dk_at dksL_law_49 4 rfl rfl)
theorem dL_law_1223 : decode cL_law 1223 = .ok (.istore 5, 2) := dk_54 5 (dk_at dksL_law_49 7 rfl rfl)
theorem dL_law_1225 : decode cL_law 1225 = .ok (.aload_n 2, 1) := dk_44 (dk_at dksL_law_49 9 rfl rfl)
theorem dL_law_1226 : decode cL_law 1226 = .ok (.aload_n 0, 1) := dk_42 (dk_at dksL_law_49 10 rfl rfl)
theorem dL_law_1227 : decode cL_law 1227 = .ok (.iload 4, 2) := dk_21 4 (dk_at dksL_law_49 11 rfl rfl)
theorem dL_law_1229 : decode cL_law 1229 = .ok (.iconst 1, 1) := dk_4 (dk_at dksL_law_49 13 rfl rfl)
theorem dL_law_1230 : decode cL_law 1230 = .ok (.iadd, 1) := dk_96 (dk_at dksL_law_49 14 rfl rfl)
theorem dL_law_1231 : decode cL_law 1231 = .ok (.iaload, 1) := dk_46 (dk_at dksL_law_49 15 rfl rfl)
theorem dL_law_1232 : decode cL_law 1232 = .ok (.aload_n 0, 1) := dk_42 (dk_at dksL_law_49 16 rfl rfl)
theorem dL_law_1233 : decode cL_law 1233 = .ok (.iload 4, 2) := dk_21 4 (dk_at dksL_law_49 17 rfl rfl)
theorem dL_law_1235 : decode cL_law 1235 = .ok (.iconst 2, 1) := dk_5 (dk_at dksL_law_49 19 rfl rfl)
theorem dL_law_1236 : decode cL_law 1236 = .ok (.iadd, 1) := dk_96 (dk_at dksL_law_49 20 rfl rfl)
theorem dL_law_1237 : decode cL_law 1237 = .ok (.iaload, 1) := dk_46 (dk_at dksL_law_49 21 rfl rfl)
theorem dL_law_1238 : decode cL_law 1238 = .ok (.invokevirtual 151, 3) := dk_182 0 151 (dk_at dksL_law_50 0 rfl rfl)
theorem dL_law_1241 : decode cL_law 1241 = .ok (.istore 6, 2) := dk_54 6 (dk_at dksL_law_50 3 rfl rfl)
theorem dL_law_1243 : decode cL_law 1243 = .ok (.aload_n 2, 1) := dk_44 (dk_at dksL_law_50 5 rfl rfl)
theorem dL_law_1244 : decode cL_law 1244 = .ok (.invokevirtual 83, 3) := dk_182 0 83 (dk_at dksL_law_50 6 rfl rfl)
theorem dL_law_1247 : decode cL_law 1247 = .ok (.iload 5, 2) := dk_21 5 (dk_at dksL_law_50 9 rfl rfl)
theorem dL_law_1249 : decode cL_law 1249 = .ok (.if_icmp .eq 5, 3) := dk_159 0 5 (dk_at dksL_law_50 11 rfl rfl)
theorem dL_law_1252 : decode cL_law 1252 = .ok (.iconst 0, 1) := dk_3 (dk_at dksL_law_50 14 rfl rfl)
theorem dL_law_1253 : decode cL_law 1253 = .ok (.ireturn, 1) := dk_172 (dk_at dksL_law_50 15 rfl rfl)
theorem dL_law_1254 : decode cL_law 1254 = .ok (.iload 5, 2) := dk_21 5 (dk_at dksL_law_50 16 rfl rfl)
theorem dL_law_1256 : decode cL_law 1256 = .ok (.ifCond .ne 15, 3) := dk_154 0 15 (dk_at dksL_law_50 18 rfl rfl)
theorem dL_law_1259 : decode cL_law 1259 = .ok (.aload_n 3, 1) := dk_45 (dk_at dksL_law_50 21 rfl rfl)
theorem dL_law_1260 : decode cL_law 1260 = .ok (.iconst 0, 1) := dk_3 (dk_at dksL_law_50 22 rfl rfl)
theorem dL_law_1261 : decode cL_law 1261 = .ok (.laload, 1) := dk_47 (dk_at dksL_law_50 23 rfl rfl)
theorem dL_law_1262 : decode cL_law 1262 = .ok (.iload 6, 2) := dk_21 6 (dk_at dksL_law_51 0 rfl rfl)
theorem dL_law_1264 : decode cL_law 1264 = .ok (.i2l, 1) := dk_133 (dk_at dksL_law_51 2 rfl rfl)
theorem dL_law_1265 : decode cL_law 1265 = .ok (.lcmp, 1) := dk_148 (dk_at dksL_law_51 3 rfl rfl)
theorem dL_law_1266 : decode cL_law 1266 = .ok (.ifCond .eq 5, 3) := dk_153 0 5 (dk_at dksL_law_51 4 rfl rfl)
theorem dL_law_1269 : decode cL_law 1269 = .ok (.iconst 0, 1) := dk_3 (dk_at dksL_law_51 7 rfl rfl)
theorem dL_law_1270 : decode cL_law 1270 = .ok (.ireturn, 1) := dk_172 (dk_at dksL_law_51 8 rfl rfl)
theorem dL_law_1271 : decode cL_law 1271 = .ok (.goto 85, 3) := dk_167 0 85 (dk_at dksL_law_51 9 rfl rfl)
theorem dL_law_1274 : decode cL_law 1274 = .ok (.aload_n 1, 1) := dk_43 (dk_at dksL_law_51 12 rfl rfl)
theorem dL_law_1275 : decode cL_law 1275 = .ok (.aload_n 0, 1) := dk_42 (dk_at dksL_law_51 13 rfl rfl)
theorem dL_law_1276 : decode cL_law 1276 = .ok (.iload 4, 2) := dk_21 4 (dk_at dksL_law_51 14 rfl rfl)
theorem dL_law_1278 : decode cL_law 1278 = .ok (.iconst 1, 1) := dk_4 (dk_at dksL_law_51 16 rfl rfl)
theorem dL_law_1279 : decode cL_law 1279 = .ok (.iadd, 1) := dk_96 (dk_at dksL_law_51 17 rfl rfl)
theorem dL_law_1280 : decode cL_law 1280 = .ok (.iaload, 1) := dk_46 (dk_at dksL_law_51 18 rfl rfl)
theorem dL_law_1281 : decode cL_law 1281 = .ok (.aload_n 3, 1) := dk_45 (dk_at dksL_law_51 19 rfl rfl)
theorem dL_law_1282 : decode cL_law 1282 = .ok (.invokestatic 152, 3) := dk_184 0 152 (dk_at dksL_law_51 20 rfl rfl)
theorem dL_law_1285 : decode cL_law 1285 = .ok (.istore 5, 2) := dk_54 5 (dk_at dksL_law_52 0 rfl rfl)
theorem dL_law_1287 : decode cL_law 1287 = .ok (.aload_n 2, 1) := dk_44 (dk_at dksL_law_52 2 rfl rfl)
theorem dL_law_1288 : decode cL_law 1288 = .ok (.aload_n 0, 1) := dk_42 (dk_at dksL_law_52 3 rfl rfl)
theorem dL_law_1289 : decode cL_law 1289 = .ok (.iload 4, 2) := dk_21 4 (dk_at dksL_law_52 4 rfl rfl)
theorem dL_law_1291 : decode cL_law 1291 = .ok (.iconst 1, 1) := dk_4 (dk_at dksL_law_52 6 rfl rfl)
theorem dL_law_1292 : decode cL_law 1292 = .ok (.iadd, 1) := dk_96 (dk_at dksL_law_52 7 rfl rfl)
theorem dL_law_1293 : decode cL_law 1293 = .ok (.iaload, 1) := dk_46 (dk_at dksL_law_52 8 rfl rfl)
theorem dL_law_1294 : decode cL_law 1294 = .ok (.invokevirtual 154, 3) := dk_182 0 154 (dk_at dksL_law_52 9 rfl rfl)
theorem dL_law_1297 : decode cL_law 1297 = .ok (.istore 6, 2) := dk_54 6 (dk_at dksL_law_52 12 rfl rfl)
theorem dL_law_1299 : decode cL_law 1299 = .ok (.aload_n 2, 1) := dk_44 (dk_at dksL_law_52 14 rfl rfl)
theorem dL_law_1300 : decode cL_law 1300 = .ok (.invokevirtual 83, 3) := dk_182 0 83 (dk_at dksL_law_52 15 rfl rfl)
theorem dL_law_1303 : decode cL_law 1303 = .ok (.iload 5, 2) := dk_21 5 (dk_at dksL_law_52 18 rfl rfl)
theorem dL_law_1305 : decode cL_law 1305 = .ok (.if_icmp .eq 5, 3) := dk_159 0 5 (dk_at dksL_law_52 20 rfl rfl)
theorem dL_law_1308 : decode cL_law 1308 = .ok (.iconst 0, 1) := dk_3 (dk_at dksL_law_52 23 rfl rfl)
theorem dL_law_1309 : decode cL_law 1309 = .ok (.ireturn, 1) := dk_172 (dk_at dksL_law_53 0 rfl rfl)
theorem dL_law_1310 : decode cL_law 1310 = .ok (.iload 5, 2) := dk_21 5 (dk_at dksL_law_53 1 rfl rfl)
theorem dL_law_1312 : decode cL_law 1312 = .ok (.ifCond .ne 15, 3) := dk_154 0 15 (dk_at dksL_law_53 3 rfl rfl)
theorem dL_law_1315 : decode cL_law 1315 = .ok (.aload_n 3, 1) := dk_45 (dk_at dksL_law_53 6 rfl rfl)
theorem dL_law_1316 : decode cL_law 1316 = .ok (.iconst 0, 1) := dk_3 (dk_at dksL_law_53 7 rfl rfl)
theorem dL_law_1317 : decode cL_law 1317 = .ok (.laload, 1) := dk_47 (dk_at dksL_law_53 8 rfl rfl)
theorem dL_law_1318 : decode cL_law 1318 = .ok (.iload 6, 2) := dk_21 6 (dk_at dksL_law_53 9 rfl rfl)
theorem dL_law_1320 : decode cL_law 1320 = .ok (.i2l, 1) := dk_133 (dk_at dksL_law_53 11 rfl rfl)
theorem dL_law_1321 : decode cL_law 1321 = .ok (.lcmp, 1) := dk_148 (dk_at dksL_law_53 12 rfl rfl)
theorem dL_law_1322 : decode cL_law 1322 = .ok (.ifCond .eq 5, 3) := dk_153 0 5 (dk_at dksL_law_53 13 rfl rfl)
theorem dL_law_1325 : decode cL_law 1325 = .ok (.iconst 0, 1) := dk_3 (dk_at dksL_law_53 16 rfl rfl)
theorem dL_law_1326 : decode cL_law 1326 = .ok (.ireturn, 1) := dk_172 (dk_at dksL_law_53 17 rfl rfl)
theorem dL_law_1327 : decode cL_law 1327 = .ok (.goto 29, 3) := dk_167 0 29 (dk_at dksL_law_53 18 rfl rfl)
theorem dL_law_1330 : decode cL_law 1330 = .ok (.aload_n 1, 1) := dk_43 (dk_at dksL_law_53 21 rfl rfl)
theorem dL_law_1331 : decode cL_law 1331 = .ok (.invokevirtual 155, 3) := dk_182 0 155 (dk_at dksL_law_54 0 rfl rfl)
theorem dL_law_1334 : decode cL_law 1334 = .ok (.aload_n 2, 1) := dk_44 (dk_at dksL_law_54 3 rfl rfl)
theorem dL_law_1335 : decode cL_law 1335 = .ok (.invokevirtual 158, 3) := dk_182 0 158 (dk_at dksL_law_54 4 rfl rfl)
theorem dL_law_1338 : decode cL_law 1338 = .ok (.if_icmp .eq 18, 3) := dk_159 0 18 (dk_at dksL_law_54 7 rfl rfl)
theorem dL_law_1341 : decode cL_law 1341 = .ok (.iconst 0, 1) := dk_3 (dk_at dksL_law_54 10 rfl rfl)
theorem dL_law_1342 : decode cL_law 1342 = .ok (.ireturn, 1) := dk_172 (dk_at dksL_law_54 11 rfl rfl)
theorem dL_law_1343 : decode cL_law 1343 = .ok (.aload_n 1, 1) := dk_43 (dk_at dksL_law_54 12 rfl rfl)
theorem dL_law_1344 : decode cL_law 1344 = .ok (.invokevirtual 159, 3) := dk_182 0 159 (dk_at dksL_law_54 13 rfl rfl)
theorem dL_law_1347 : decode cL_law 1347 = .ok (.aload_n 2, 1) := dk_44 (dk_at dksL_law_54 16 rfl rfl)
theorem dL_law_1348 : decode cL_law 1348 = .ok (.invokevirtual 162, 3) := dk_182 0 162 (dk_at dksL_law_54 17 rfl rfl)
theorem dL_law_1351 : decode cL_law 1351 = .ok (.if_icmp .eq 5, 3) := dk_159 0 5 (dk_at dksL_law_54 20 rfl rfl)
theorem dL_law_1354 : decode cL_law 1354 = .ok (.iconst 0, 1) := dk_3 (dk_at dksL_law_54 23 rfl rfl)
theorem dL_law_1355 : decode cL_law 1355 = .ok (.ireturn, 1) := dk_172 (dk_at dksL_law_55 0 rfl rfl)
theorem dL_law_1356 : decode cL_law 1356 = .ok (.iinc 4 4, 3) := dk_132 4 4 (dk_at dksL_law_55 1 rfl rfl)
theorem dL_law_1359 : decode cL_law 1359 = .ok (.goto (-1336), 3) := dk_167 250 200 (dk_at dksL_law_55 4 rfl rfl)
theorem dL_law_1362 : decode cL_law 1362 = .ok (.iconst 1, 1) := dk_4 (dk_at dksL_law_55 7 rfl rfl)
theorem dL_law_1363 : decode cL_law 1363 = .ok (.ireturn, 1) := dk_172 (dk_at dksL_law_55 8 rfl rfl)

