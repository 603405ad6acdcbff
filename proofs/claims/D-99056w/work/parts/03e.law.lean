/-! SableCrownLaw -/
set_option maxRecDepth 100000
def RX0 : String := "SableCrownLaw"
abbrev cX0_land : ByteArray := method_3_code
def yX0_land : MethodName := ⟨RX0, "land", "(LSableCrown;I[J)I"⟩
def dkwX0_land_0 : List UInt8 := [44, 3, 42, 27, 182, 0, 7, 133, 80, 167, 0, 6, 78, 4, 172, 3, 172]
abbrev dktX0_land_0 : List UInt8 := dkwX0_land_0 ++ []
theorem dksX0_land_0 : cX0_land.data.toList.drop 0 = dktX0_land_0 := by decide +kernel
theorem dX0_land_0 : decode cX0_land 0 = .ok (.aload_n 2, 1) := dk_44 (dk_at dksX0_land_0 0 rfl rfl)
theorem dX0_land_1 : decode cX0_land 1 = .ok (.iconst 0, 1) := dk_3 (dk_at dksX0_land_0 1 rfl rfl)
theorem dX0_land_2 : decode cX0_land 2 = .ok (.aload_n 0, 1) := dk_42 (dk_at dksX0_land_0 2 rfl rfl)
theorem dX0_land_3 : decode cX0_land 3 = .ok (.iload_n 1, 1) := dk_27 (dk_at dksX0_land_0 3 rfl rfl)
theorem dX0_land_4 : decode cX0_land 4 = .ok (.invokevirtual 7, 3) := dk_182 0 7 (dk_at dksX0_land_0 4 rfl rfl)
theorem dX0_land_7 : decode cX0_land 7 = .ok (.i2l, 1) := dk_133 (dk_at dksX0_land_0 7 rfl rfl)
theorem dX0_land_8 : decode cX0_land 8 = .ok (.lastore, 1) := dk_80 (dk_at dksX0_land_0 8 rfl rfl)
theorem dX0_land_9 : decode cX0_land 9 = .ok (.goto 6, 3) := dk_167 0 6 (dk_at dksX0_land_0 9 rfl rfl)
theorem dX0_land_12 : decode cX0_land 12 = .ok (.astore_n 3, 1) := dk_78 (dk_at dksX0_land_0 12 rfl rfl)
theorem dX0_land_13 : decode cX0_land 13 = .ok (.iconst 1, 1) := dk_4 (dk_at dksX0_land_0 13 rfl rfl)
theorem dX0_land_14 : decode cX0_land 14 = .ok (.ireturn, 1) := dk_172 (dk_at dksX0_land_0 14 rfl rfl)
theorem dX0_land_15 : decode cX0_land 15 = .ok (.iconst 0, 1) := dk_3 (dk_at dksX0_land_0 15 rfl rfl)
theorem dX0_land_16 : decode cX0_land 16 = .ok (.ireturn, 1) := dk_172 (dk_at dksX0_land_0 16 rfl rfl)
abbrev cX0_count : ByteArray := method_4_code
def yX0_count : MethodName := ⟨RX0, "count", "(LSableCrown;I[J)I"⟩
def dkwX0_count_0 : List UInt8 := [44, 3, 42, 27, 182, 0, 15, 133, 80, 167, 0, 6, 78, 4, 172, 3, 172]
abbrev dktX0_count_0 : List UInt8 := dkwX0_count_0 ++ []
theorem dksX0_count_0 : cX0_count.data.toList.drop 0 = dktX0_count_0 := by decide +kernel
theorem dX0_count_0 : decode cX0_count 0 = .ok (.aload_n 2, 1) := dk_44 (dk_at dksX0_count_0 0 rfl rfl)
theorem dX0_count_1 : decode cX0_count 1 = .ok (.iconst 0, 1) := dk_3 (dk_at dksX0_count_0 1 rfl rfl)
theorem dX0_count_2 : decode cX0_count 2 = .ok (.aload_n 0, 1) := dk_42 (dk_at dksX0_count_0 2 rfl rfl)
theorem dX0_count_3 : decode cX0_count 3 = .ok (.iload_n 1, 1) := dk_27 (dk_at dksX0_count_0 3 rfl rfl)
theorem dX0_count_4 : decode cX0_count 4 = .ok (.invokevirtual 15, 3) := dk_182 0 15 (dk_at dksX0_count_0 4 rfl rfl)
theorem dX0_count_7 : decode cX0_count 7 = .ok (.i2l, 1) := dk_133 (dk_at dksX0_count_0 7 rfl rfl)
theorem dX0_count_8 : decode cX0_count 8 = .ok (.lastore, 1) := dk_80 (dk_at dksX0_count_0 8 rfl rfl)
theorem dX0_count_9 : decode cX0_count 9 = .ok (.goto 6, 3) := dk_167 0 6 (dk_at dksX0_count_0 9 rfl rfl)
theorem dX0_count_12 : decode cX0_count 12 = .ok (.astore_n 3, 1) := dk_78 (dk_at dksX0_count_0 12 rfl rfl)
theorem dX0_count_13 : decode cX0_count 13 = .ok (.iconst 1, 1) := dk_4 (dk_at dksX0_count_0 13 rfl rfl)
theorem dX0_count_14 : decode cX0_count 14 = .ok (.ireturn, 1) := dk_172 (dk_at dksX0_count_0 14 rfl rfl)
theorem dX0_count_15 : decode cX0_count 15 = .ok (.iconst 0, 1) := dk_3 (dk_at dksX0_count_0 15 rfl rfl)
theorem dX0_count_16 : decode cX0_count 16 = .ok (.ireturn, 1) := dk_172 (dk_at dksX0_count_0 16 rfl rfl)
abbrev cX0_forest : ByteArray := method_5_code
def yX0_forest : MethodName := ⟨RX0, "forest", "(LSableCrown;II[J)I"⟩
def dkwX0_forest_0 : List UInt8 := [45, 3, 42, 27, 28, 182, 0, 20, 133, 80, 167, 0, 7, 58, 4, 4, 172, 3, 172]
abbrev dktX0_forest_0 : List UInt8 := dkwX0_forest_0 ++ []
theorem dksX0_forest_0 : cX0_forest.data.toList.drop 0 = dktX0_forest_0 := by decide +kernel
theorem dX0_forest_0 : decode cX0_forest 0 = .ok (.aload_n 3, 1) := dk_45 (dk_at dksX0_forest_0 0 rfl rfl)
theorem dX0_forest_1 : decode cX0_forest 1 = .ok (.iconst 0, 1) := dk_3 (dk_at dksX0_forest_0 1 rfl rfl)
theorem dX0_forest_2 : decode cX0_forest 2 = .ok (.aload_n 0, 1) := dk_42 (dk_at dksX0_forest_0 2 rfl rfl)
theorem dX0_forest_3 : decode cX0_forest 3 = .ok (.iload_n 1, 1) := dk_27 (dk_at dksX0_forest_0 3 rfl rfl)
theorem dX0_forest_4 : decode cX0_forest 4 = .ok (.iload_n 2, 1) := dk_28 (dk_at dksX0_forest_0 4 rfl rfl)
theorem dX0_forest_5 : decode cX0_forest 5 = .ok (.invokevirtual 20, 3) := dk_182 0 20 (dk_at dksX0_forest_0 5 rfl rfl)
theorem dX0_forest_8 : decode cX0_forest 8 = .ok (.i2l, 1) := dk_133 (dk_at dksX0_forest_0 8 rfl rfl)
theorem dX0_forest_9 : decode cX0_forest 9 = .ok (.lastore, 1) := dk_80 (dk_at dksX0_forest_0 9 rfl rfl)
theorem dX0_forest_10 : decode cX0_forest 10 = .ok (.goto 7, 3) := dk_167 0 7 (dk_at dksX0_forest_0 10 rfl rfl)
theorem dX0_forest_13 : decode cX0_forest 13 = .ok (.astore 4, 2) := dk_58 4 (dk_at dksX0_forest_0 13 rfl rfl)
theorem dX0_forest_15 : decode cX0_forest 15 = .ok (.iconst 1, 1) := dk_4 (dk_at dksX0_forest_0 15 rfl rfl)
theorem dX0_forest_16 : decode cX0_forest 16 = .ok (.ireturn, 1) := dk_172 (dk_at dksX0_forest_0 16 rfl rfl)
theorem dX0_forest_17 : decode cX0_forest 17 = .ok (.iconst 0, 1) := dk_3 (dk_at dksX0_forest_0 17 rfl rfl)
theorem dX0_forest_18 : decode cX0_forest 18 = .ok (.ireturn, 1) := dk_172 (dk_at dksX0_forest_0 18 rfl rfl)
abbrev cX0_band : ByteArray := method_6_code
def yX0_band : MethodName := ⟨RX0, "band", "(LSableCrown;II[J)I"⟩
def dkwX0_band_0 : List UInt8 := [45, 3, 42, 27, 28, 182, 0, 24, 133, 80, 167, 0, 7, 58, 4, 4, 172, 3, 172]
abbrev dktX0_band_0 : List UInt8 := dkwX0_band_0 ++ []
theorem dksX0_band_0 : cX0_band.data.toList.drop 0 = dktX0_band_0 := by decide +kernel
theorem dX0_band_0 : decode cX0_band 0 = .ok (.aload_n 3, 1) := dk_45 (dk_at dksX0_band_0 0 rfl rfl)
theorem dX0_band_1 : decode cX0_band 1 = .ok (.iconst 0, 1) := dk_3 (dk_at dksX0_band_0 1 rfl rfl)
theorem dX0_band_2 : decode cX0_band 2 = .ok (.aload_n 0, 1) := dk_42 (dk_at dksX0_band_0 2 rfl rfl)
theorem dX0_band_3 : decode cX0_band 3 = .ok (.iload_n 1, 1) := dk_27 (dk_at dksX0_band_0 3 rfl rfl)
theorem dX0_band_4 : decode cX0_band 4 = .ok (.iload_n 2, 1) := dk_28 (dk_at dksX0_band_0 4 rfl rfl)
theorem dX0_band_5 : decode cX0_band 5 = .ok (.invokevirtual 24, 3) := dk_182 0 24 (dk_at dksX0_band_0 5 rfl rfl)
theorem dX0_band_8 : decode cX0_band 8 = .ok (.i2l, 1) := dk_133 (dk_at dksX0_band_0 8 rfl rfl)
theorem dX0_band_9 : decode cX0_band 9 = .ok (.lastore, 1) := dk_80 (dk_at dksX0_band_0 9 rfl rfl)
theorem dX0_band_10 : decode cX0_band 10 = .ok (.goto 7, 3) := dk_167 0 7 (dk_at dksX0_band_0 10 rfl rfl)
theorem dX0_band_13 : decode cX0_band 13 = .ok (.astore 4, 2) := dk_58 4 (dk_at dksX0_band_0 13 rfl rfl)
theorem dX0_band_15 : decode cX0_band 15 = .ok (.iconst 1, 1) := dk_4 (dk_at dksX0_band_0 15 rfl rfl)
theorem dX0_band_16 : decode cX0_band 16 = .ok (.ireturn, 1) := dk_172 (dk_at dksX0_band_0 16 rfl rfl)
theorem dX0_band_17 : decode cX0_band 17 = .ok (.iconst 0, 1) := dk_3 (dk_at dksX0_band_0 17 rfl rfl)
theorem dX0_band_18 : decode cX0_band 18 = .ok (.ireturn, 1) := dk_172 (dk_at dksX0_band_0 18 rfl rfl)
abbrev cX0_move : ByteArray := method_7_code
def yX0_move : MethodName := ⟨RX0, "move", "(LSableCrown;II[J)I"⟩
def dkwX0_move_0 : List UInt8 := [45, 3, 42, 27, 28, 182, 0, 27, 133, 80, 167, 0, 7, 58, 4, 4, 172, 3, 172]
abbrev dktX0_move_0 : List UInt8 := dkwX0_move_0 ++ []
theorem dksX0_move_0 : cX0_move.data.toList.drop 0 = dktX0_move_0 := by decide +kernel
theorem dX0_move_0 : decode cX0_move 0 = .ok (.aload_n 3, 1) := dk_45 (dk_at dksX0_move_0 0 rfl rfl)
theorem dX0_move_1 : decode cX0_move 1 = .ok (.iconst 0, 1) := dk_3 (dk_at dksX0_move_0 1 rfl rfl)
theorem dX0_move_2 : decode cX0_move 2 = .ok (.aload_n 0, 1) := dk_42 (dk_at dksX0_move_0 2 rfl rfl)
theorem dX0_move_3 : decode cX0_move 3 = .ok (.iload_n 1, 1) := dk_27 (dk_at dksX0_move_0 3 rfl rfl)
theorem dX0_move_4 : decode cX0_move 4 = .ok (.iload_n 2, 1) := dk_28 (dk_at dksX0_move_0 4 rfl rfl)
theorem dX0_move_5 : decode cX0_move 5 = .ok (.invokevirtual 27, 3) := dk_182 0 27 (dk_at dksX0_move_0 5 rfl rfl)
theorem dX0_move_8 : decode cX0_move 8 = .ok (.i2l, 1) := dk_133 (dk_at dksX0_move_0 8 rfl rfl)
theorem dX0_move_9 : decode cX0_move 9 = .ok (.lastore, 1) := dk_80 (dk_at dksX0_move_0 9 rfl rfl)
theorem dX0_move_10 : decode cX0_move 10 = .ok (.goto 7, 3) := dk_167 0 7 (dk_at dksX0_move_0 10 rfl rfl)
theorem dX0_move_13 : decode cX0_move 13 = .ok (.astore 4, 2) := dk_58 4 (dk_at dksX0_move_0 13 rfl rfl)
theorem dX0_move_15 : decode cX0_move 15 = .ok (.iconst 1, 1) := dk_4 (dk_at dksX0_move_0 15 rfl rfl)
theorem dX0_move_16 : decode cX0_move 16 = .ok (.ireturn, 1) := dk_172 (dk_at dksX0_move_0 16 rfl rfl)
theorem dX0_move_17 : decode cX0_move 17 = .ok (.iconst 0, 1) := dk_3 (dk_at dksX0_move_0 17 rfl rfl)
theorem dX0_move_18 : decode cX0_move 18 = .ok (.ireturn, 1) := dk_172 (dk_at dksX0_move_0 18 rfl rfl)
abbrev cX0_bows : ByteArray := method_8_code
def yX0_bows : MethodName := ⟨RX0, "bows", "(LSableCrown;II[J)I"⟩
def dkwX0_bows_0 : List UInt8 := [45, 3, 42, 27, 28, 182, 0, 30, 133, 80, 167, 0, 7, 58, 4, 4, 172, 3, 172]
abbrev dktX0_bows_0 : List UInt8 := dkwX0_bows_0 ++ []
theorem dksX0_bows_0 : cX0_bows.data.toList.drop 0 = dktX0_bows_0 := by decide +kernel
theorem dX0_bows_0 : decode cX0_bows 0 = .ok (.aload_n 3, 1) := dk_45 (dk_at dksX0_bows_0 0 rfl rfl)
theorem dX0_bows_1 : decode cX0_bows 1 = .ok (.iconst 0, 1) := dk_3 (dk_at dksX0_bows_0 1 rfl rfl)
theorem dX0_bows_2 : decode cX0_bows 2 = .ok (.aload_n 0, 1) := dk_42 (dk_at dksX0_bows_0 2 rfl rfl)
theorem dX0_bows_3 : decode cX0_bows 3 = .ok (.iload_n 1, 1) := dk_27 (dk_at dksX0_bows_0 3 rfl rfl)
theorem dX0_bows_4 : decode cX0_bows 4 = .ok (.iload_n 2, 1) := dk_28 (dk_at dksX0_bows_0 4 rfl rfl)
theorem dX0_bows_5 : decode cX0_bows 5 = .ok (.invokevirtual 30, 3) := dk_182 0 30 (dk_at dksX0_bows_0 5 rfl rfl)
theorem dX0_bows_8 : decode cX0_bows 8 = .ok (.i2l, 1) := dk_133 (dk_at dksX0_bows_0 8 rfl rfl)
theorem dX0_bows_9 : decode cX0_bows 9 = .ok (.lastore, 1) := dk_80 (dk_at dksX0_bows_0 9 rfl rfl)
theorem dX0_bows_10 : decode cX0_bows 10 = .ok (.goto 7, 3) := dk_167 0 7 (dk_at dksX0_bows_0 10 rfl rfl)
theorem dX0_bows_13 : decode cX0_bows 13 = .ok (.astore 4, 2) := dk_58 4 (dk_at dksX0_bows_0 13 rfl rfl)
theorem dX0_bows_15 : decode cX0_bows 15 = .ok (.iconst 1, 1) := dk_4 (dk_at dksX0_bows_0 15 rfl rfl)
theorem dX0_bows_16 : decode cX0_bows 16 = .ok (.ireturn, 1) := dk_172 (dk_at dksX0_bows_0 16 rfl rfl)
theorem dX0_bows_17 : decode cX0_bows 17 = .ok (.iconst 0, 1) := dk_3 (dk_at dksX0_bows_0 17 rfl rfl)
theorem dX0_bows_18 : decode cX0_bows 18 = .ok (.ireturn, 1) := dk_172 (dk_at dksX0_bows_0 18 rfl rfl)
abbrev cX0_rest : ByteArray := method_9_code
def yX0_rest : MethodName := ⟨RX0, "rest", "(LSableCrown;II[J)I"⟩
def dkwX0_rest_0 : List UInt8 := [45, 3, 42, 27, 28, 182, 0, 33, 133, 80, 167, 0, 7, 58, 4, 4, 172, 3, 172]
abbrev dktX0_rest_0 : List UInt8 := dkwX0_rest_0 ++ []
theorem dksX0_rest_0 : cX0_rest.data.toList.drop 0 = dktX0_rest_0 := by decide +kernel
theorem dX0_rest_0 : decode cX0_rest 0 = .ok (.aload_n 3, 1) := dk_45 (dk_at dksX0_rest_0 0 rfl rfl)
theorem dX0_rest_1 : decode cX0_rest 1 = .ok (.iconst 0, 1) := dk_3 (dk_at dksX0_rest_0 1 rfl rfl)
theorem dX0_rest_2 : decode cX0_rest 2 = .ok (.aload_n 0, 1) := dk_42 (dk_at dksX0_rest_0 2 rfl rfl)
theorem dX0_rest_3 : decode cX0_rest 3 = .ok (.iload_n 1, 1) := dk_27 (dk_at dksX0_rest_0 3 rfl rfl)
theorem dX0_rest_4 : decode cX0_rest 4 = .ok (.iload_n 2, 1) := dk_28 (dk_at dksX0_rest_0 4 rfl rfl)
theorem dX0_rest_5 : decode cX0_rest 5 = .ok (.invokevirtual 33, 3) := dk_182 0 33 (dk_at dksX0_rest_0 5 rfl rfl)
theorem dX0_rest_8 : decode cX0_rest 8 = .ok (.i2l, 1) := dk_133 (dk_at dksX0_rest_0 8 rfl rfl)
theorem dX0_rest_9 : decode cX0_rest 9 = .ok (.lastore, 1) := dk_80 (dk_at dksX0_rest_0 9 rfl rfl)
theorem dX0_rest_10 : decode cX0_rest 10 = .ok (.goto 7, 3) := dk_167 0 7 (dk_at dksX0_rest_0 10 rfl rfl)
theorem dX0_rest_13 : decode cX0_rest 13 = .ok (.astore 4, 2) := dk_58 4 (dk_at dksX0_rest_0 13 rfl rfl)
theorem dX0_rest_15 : decode cX0_rest 15 = .ok (.iconst 1, 1) := dk_4 (dk_at dksX0_rest_0 15 rfl rfl)
theorem dX0_rest_16 : decode cX0_rest 16 = .ok (.ireturn, 1) := dk_172 (dk_at dksX0_rest_0 16 rfl rfl)
theorem dX0_rest_17 : decode cX0_rest 17 = .ok (.iconst 0, 1) := dk_3 (dk_at dksX0_rest_0 17 rfl rfl)
theorem dX0_rest_18 : decode cX0_rest 18 = .ok (.ireturn, 1) := dk_172 (dk_at dksX0_rest_0 18 rfl rfl)
abbrev cX0_dye : ByteArray := method_10_code
def yX0_dye : MethodName := ⟨RX0, "dye", "(LSableCrown;II[J)I"⟩
def dkwX0_dye_0 : List UInt8 := [45, 3, 42, 27, 28, 182, 0, 36, 133, 80, 167, 0, 7, 58, 4, 4, 172, 3, 172]
abbrev dktX0_dye_0 : List UInt8 := dkwX0_dye_0 ++ []
theorem dksX0_dye_0 : cX0_dye.data.toList.drop 0 = dktX0_dye_0 := by decide +kernel
theorem dX0_dye_0 : decode cX0_dye 0 = .ok (.aload_n 3, 1) := dk_45 (dk_at dksX0_dye_0 0 rfl rfl)
theorem dX0_dye_1 : decode cX0_dye 1 = .ok (.iconst 0, 1) := dk_3 (dk_at dksX0_dye_0 1 rfl rfl)
theorem dX0_dye_2 : decode cX0_dye 2 = .ok (.aload_n 0, 1) := dk_42 (dk_at dksX0_dye_0 2 rfl rfl)
theorem dX0_dye_3 : decode cX0_dye 3 = .ok (.iload_n 1, 1) := dk_27 (dk_at dksX0_dye_0 3 rfl rfl)
theorem dX0_dye_4 : decode cX0_dye 4 = .ok (.iload_n 2, 1) := dk_28 (dk_at dksX0_dye_0 4 rfl rfl)
theorem dX0_dye_5 : decode cX0_dye 5 = .ok (.invokevirtual 36, 3) := dk_182 0 36 (dk_at dksX0_dye_0 5 rfl rfl)
theorem dX0_dye_8 : decode cX0_dye 8 = .ok (.i2l, 1) := dk_133 (dk_at dksX0_dye_0 8 rfl rfl)
theorem dX0_dye_9 : decode cX0_dye 9 = .ok (.lastore, 1) := dk_80 (dk_at dksX0_dye_0 9 rfl rfl)
theorem dX0_dye_10 : decode cX0_dye 10 = .ok (.goto 7, 3) := dk_167 0 7 (dk_at dksX0_dye_0 10 rfl rfl)
theorem dX0_dye_13 : decode cX0_dye 13 = .ok (.astore 4, 2) := dk_58 4 (dk_at dksX0_dye_0 13 rfl rfl)
theorem dX0_dye_15 : decode cX0_dye 15 = .ok (.iconst 1, 1) := dk_4 (dk_at dksX0_dye_0 15 rfl rfl)
theorem dX0_dye_16 : decode cX0_dye 16 = .ok (.ireturn, 1) := dk_172 (dk_at dksX0_dye_0 16 rfl rfl)
theorem dX0_dye_17 : decode cX0_dye 17 = .ok (.iconst 0, 1) := dk_3 (dk_at dksX0_dye_0 17 rfl rfl)
theorem dX0_dye_18 : decode cX0_dye 18 = .ok (.ireturn, 1) := dk_172 (dk_at dksX0_dye_0 18 rfl rfl)
abbrev cX0_forgive : ByteArray := method_11_code
def yX0_forgive : MethodName := ⟨RX0, "forgive", "(LSableCrown;I[J)I"⟩
def dkwX0_forgive_0 : List UInt8 := [44, 3, 42, 27, 182, 0, 39, 133, 80, 167, 0, 6, 78, 4, 172, 3, 172]
abbrev dktX0_forgive_0 : List UInt8 := dkwX0_forgive_0 ++ []
theorem dksX0_forgive_0 : cX0_forgive.data.toList.drop 0 = dktX0_forgive_0 := by decide +kernel
theorem dX0_forgive_0 : decode cX0_forgive 0 = .ok (.aload_n 2, 1) := dk_44 (dk_at dksX0_forgive_0 0 rfl rfl)
theorem dX0_forgive_1 : decode cX0_forgive 1 = .ok (.iconst 0, 1) := dk_3 (dk_at dksX0_forgive_0 1 rfl rfl)
theorem dX0_forgive_2 : decode cX0_forgive 2 = .ok (.aload_n 0, 1) := dk_42 (dk_at dksX0_forgive_0 2 rfl rfl)
theorem dX0_forgive_3 : decode cX0_forgive 3 = .ok (.iload_n 1, 1) := dk_27 (dk_at dksX0_forgive_0 3 rfl rfl)
theorem dX0_forgive_4 : decode cX0_forgive 4 = .ok (.invokevirtual 39, 3) := dk_182 0 39 (dk_at dksX0_forgive_0 4 rfl rfl)
theorem dX0_forgive_7 : decode cX0_forgive 7 = .ok (.i2l, 1) := dk_133 (dk_at dksX0_forgive_0 7 rfl rfl)
theorem dX0_forgive_8 : decode cX0_forgive 8 = .ok (.lastore, 1) := dk_80 (dk_at dksX0_forgive_0 8 rfl rfl)
theorem dX0_forgive_9 : decode cX0_forgive 9 = .ok (.goto 6, 3) := dk_167 0 6 (dk_at dksX0_forgive_0 9 rfl rfl)
theorem dX0_forgive_12 : decode cX0_forgive 12 = .ok (.astore_n 3, 1) := dk_78 (dk_at dksX0_forgive_0 12 rfl rfl)
theorem dX0_forgive_13 : decode cX0_forgive 13 = .ok (.iconst 1, 1) := dk_4 (dk_at dksX0_forgive_0 13 rfl rfl)
theorem dX0_forgive_14 : decode cX0_forgive 14 = .ok (.ireturn, 1) := dk_172 (dk_at dksX0_forgive_0 14 rfl rfl)
theorem dX0_forgive_15 : decode cX0_forgive 15 = .ok (.iconst 0, 1) := dk_3 (dk_at dksX0_forgive_0 15 rfl rfl)
theorem dX0_forgive_16 : decode cX0_forgive 16 = .ok (.ireturn, 1) := dk_172 (dk_at dksX0_forgive_0 16 rfl rfl)
abbrev cX0_then : ByteArray := method_12_code
def yX0_then : MethodName := ⟨RX0, "then", "(LSableCrown;II[J)I"⟩
def dkwX0_then_0 : List UInt8 := [45, 3, 42, 27, 28, 182, 0, 42, 133, 80, 167, 0, 11, 58, 4, 4, 172, 58, 4, 5, 172, 3, 172]
abbrev dktX0_then_0 : List UInt8 := dkwX0_then_0 ++ []
theorem dksX0_then_0 : cX0_then.data.toList.drop 0 = dktX0_then_0 := by decide +kernel
theorem dX0_then_0 : decode cX0_then 0 = .ok (.aload_n 3, 1) := dk_45 (dk_at dksX0_then_0 0 rfl rfl)
theorem dX0_then_1 : decode cX0_then 1 = .ok (.iconst 0, 1) := dk_3 (dk_at dksX0_then_0 1 rfl rfl)
theorem dX0_then_2 : decode cX0_then 2 = .ok (.aload_n 0, 1) := dk_42 (dk_at dksX0_then_0 2 rfl rfl)
theorem dX0_then_3 : decode cX0_then 3 = .ok (.iload_n 1, 1) := dk_27 (dk_at dksX0_then_0 3 rfl rfl)
theorem dX0_then_4 : decode cX0_then 4 = .ok (.iload_n 2, 1) := dk_28 (dk_at dksX0_then_0 4 rfl rfl)
theorem dX0_then_5 : decode cX0_then 5 = .ok (.invokevirtual 42, 3) := dk_182 0 42 (dk_at dksX0_then_0 5 rfl rfl)
theorem dX0_then_8 : decode cX0_then 8 = .ok (.i2l, 1) := dk_133 (dk_at dksX0_then_0 8 rfl rfl)
theorem dX0_then_9 : decode cX0_then 9 = .ok (.lastore, 1) := dk_80 (dk_at dksX0_then_0 9 rfl rfl)
theorem dX0_then_10 : decode cX0_then 10 = .ok (.goto 11, 3) := dk_167 0 11 (dk_at dksX0_then_0 10 rfl rfl)
theorem dX0_then_13 : decode cX0_then 13 = .ok (.astore 4, 2) := dk_58 4 (dk_at dksX0_then_0 13 rfl rfl)
theorem dX0_then_15 : decode cX0_then 15 = .ok (.iconst 1, 1) := dk_4 (dk_at dksX0_then_0 15 rfl rfl)
theorem dX0_then_16 : decode cX0_then 16 = .ok (.ireturn, 1) := dk_172 (dk_at dksX0_then_0 16 rfl rfl)
theorem dX0_then_17 : decode cX0_then 17 = .ok (.astore 4, 2) := dk_58 4 (dk_at dksX0_then_0 17 rfl rfl)
theorem dX0_then_19 : decode cX0_then 19 = .ok (.iconst 2, 1) := dk_5 (dk_at dksX0_then_0 19 rfl rfl)
theorem dX0_then_20 : decode cX0_then 20 = .ok (.ireturn, 1) := dk_172 (dk_at dksX0_then_0 20 rfl rfl)
theorem dX0_then_21 : decode cX0_then 21 = .ok (.iconst 0, 1) := dk_3 (dk_at dksX0_then_0 21 rfl rfl)
theorem dX0_then_22 : decode cX0_then 22 = .ok (.ireturn, 1) := dk_172 (dk_at dksX0_then_0 22 rfl rfl)
abbrev cX0_empty : ByteArray := method_13_code
def yX0_empty : MethodName := ⟨RX0, "empty", "(LSableCrown;I[J)I"⟩
def dkwX0_empty_0 : List UInt8 := [44, 3, 42, 27, 182, 0, 45, 133, 80, 167, 0, 6, 78, 4, 172, 3, 172]
abbrev dktX0_empty_0 : List UInt8 := dkwX0_empty_0 ++ []
theorem dksX0_empty_0 : cX0_empty.data.toList.drop 0 = dktX0_empty_0 := by decide +kernel
theorem dX0_empty_0 : decode cX0_empty 0 = .ok (.aload_n 2, 1) := dk_44 (dk_at dksX0_empty_0 0 rfl rfl)
theorem dX0_empty_1 : decode cX0_empty 1 = .ok (.iconst 0, 1) := dk_3 (dk_at dksX0_empty_0 1 rfl rfl)
theorem dX0_empty_2 : decode cX0_empty 2 = .ok (.aload_n 0, 1) := dk_42 (dk_at dksX0_empty_0 2 rfl rfl)
theorem dX0_empty_3 : decode cX0_empty 3 = .ok (.iload_n 1, 1) := dk_27 (dk_at dksX0_empty_0 3 rfl rfl)
theorem dX0_empty_4 : decode cX0_empty 4 = .ok (.invokevirtual 45, 3) := dk_182 0 45 (dk_at dksX0_empty_0 4 rfl rfl)
theorem dX0_empty_7 : decode cX0_empty 7 = .ok (.i2l, 1) := dk_133 (dk_at dksX0_empty_0 7 rfl rfl)
theorem dX0_empty_8 : decode cX0_empty 8 = .ok (.lastore, 1) := dk_80 (dk_at dksX0_empty_0 8 rfl rfl)
theorem dX0_empty_9 : decode cX0_empty 9 = .ok (.goto 6, 3) := dk_167 0 6 (dk_at dksX0_empty_0 9 rfl rfl)
theorem dX0_empty_12 : decode cX0_empty 12 = .ok (.astore_n 3, 1) := dk_78 (dk_at dksX0_empty_0 12 rfl rfl)
theorem dX0_empty_13 : decode cX0_empty 13 = .ok (.iconst 1, 1) := dk_4 (dk_at dksX0_empty_0 13 rfl rfl)
theorem dX0_empty_14 : decode cX0_empty 14 = .ok (.ireturn, 1) := dk_172 (dk_at dksX0_empty_0 14 rfl rfl)
theorem dX0_empty_15 : decode cX0_empty 15 = .ok (.iconst 0, 1) := dk_3 (dk_at dksX0_empty_0 15 rfl rfl)
theorem dX0_empty_16 : decode cX0_empty 16 = .ok (.ireturn, 1) := dk_172 (dk_at dksX0_empty_0 16 rfl rfl)
abbrev cX0_paid : ByteArray := method_14_code
def yX0_paid : MethodName := ⟨RX0, "paid", "(LSableCrown;II[J)I"⟩
def dkwX0_paid_0 : List UInt8 := [45, 3, 42, 27, 28, 182, 0, 48, 133, 80, 167, 0, 11, 58, 4, 4, 172, 58, 4, 5, 172, 3, 172]
abbrev dktX0_paid_0 : List UInt8 := dkwX0_paid_0 ++ []
theorem dksX0_paid_0 : cX0_paid.data.toList.drop 0 = dktX0_paid_0 := by decide +kernel
theorem dX0_paid_0 : decode cX0_paid 0 = .ok (.aload_n 3, 1) := dk_45 (dk_at dksX0_paid_0 0 rfl rfl)
theorem dX0_paid_1 : decode cX0_paid 1 = .ok (.iconst 0, 1) := dk_3 (dk_at dksX0_paid_0 1 rfl rfl)
theorem dX0_paid_2 : decode cX0_paid 2 = .ok (.aload_n 0, 1) := dk_42 (dk_at dksX0_paid_0 2 rfl rfl)
theorem dX0_paid_3 : decode cX0_paid 3 = .ok (.iload_n 1, 1) := dk_27 (dk_at dksX0_paid_0 3 rfl rfl)
theorem dX0_paid_4 : decode cX0_paid 4 = .ok (.iload_n 2, 1) := dk_28 (dk_at dksX0_paid_0 4 rfl rfl)
theorem dX0_paid_5 : decode cX0_paid 5 = .ok (.invokevirtual 48, 3) := dk_182 0 48 (dk_at dksX0_paid_0 5 rfl rfl)
theorem dX0_paid_8 : decode cX0_paid 8 = .ok (.i2l, 1) := dk_133 (dk_at dksX0_paid_0 8 rfl rfl)
theorem dX0_paid_9 : decode cX0_paid 9 = .ok (.lastore, 1) := dk_80 (dk_at dksX0_paid_0 9 rfl rfl)
theorem dX0_paid_10 : decode cX0_paid 10 = .ok (.goto 11, 3) := dk_167 0 11 (dk_at dksX0_paid_0 10 rfl rfl)
theorem dX0_paid_13 : decode cX0_paid 13 = .ok (.astore 4, 2) := dk_58 4 (dk_at dksX0_paid_0 13 rfl rfl)
theorem dX0_paid_15 : decode cX0_paid 15 = .ok (.iconst 1, 1) := dk_4 (dk_at dksX0_paid_0 15 rfl rfl)
theorem dX0_paid_16 : decode cX0_paid 16 = .ok (.ireturn, 1) := dk_172 (dk_at dksX0_paid_0 16 rfl rfl)
theorem dX0_paid_17 : decode cX0_paid 17 = .ok (.astore 4, 2) := dk_58 4 (dk_at dksX0_paid_0 17 rfl rfl)
theorem dX0_paid_19 : decode cX0_paid 19 = .ok (.iconst 2, 1) := dk_5 (dk_at dksX0_paid_0 19 rfl rfl)
theorem dX0_paid_20 : decode cX0_paid 20 = .ok (.ireturn, 1) := dk_172 (dk_at dksX0_paid_0 20 rfl rfl)
theorem dX0_paid_21 : decode cX0_paid 21 = .ok (.iconst 0, 1) := dk_3 (dk_at dksX0_paid_0 21 rfl rfl)
theorem dX0_paid_22 : decode cX0_paid 22 = .ok (.ireturn, 1) := dk_172 (dk_at dksX0_paid_0 22 rfl rfl)
abbrev cX0_hostages : ByteArray := method_15_code
def yX0_hostages : MethodName := ⟨RX0, "hostages", "(LSableCrown;I[J)I"⟩
def dkwX0_hostages_0 : List UInt8 := [44, 3, 42, 27, 182, 0, 51, 133, 80, 167, 0, 6, 78, 4, 172, 3, 172]
abbrev dktX0_hostages_0 : List UInt8 := dkwX0_hostages_0 ++ []
theorem dksX0_hostages_0 : cX0_hostages.data.toList.drop 0 = dktX0_hostages_0 := by decide +kernel
theorem dX0_hostages_0 : decode cX0_hostages 0 = .ok (.aload_n 2, 1) := dk_44 (dk_at dksX0_hostages_0 0 rfl rfl)
theorem dX0_hostages_1 : decode cX0_hostages 1 = .ok (.iconst 0, 1) := dk_3 (dk_at dksX0_hostages_0 1 rfl rfl)
theorem dX0_hostages_2 : decode cX0_hostages 2 = .ok (.aload_n 0, 1) := dk_42 (dk_at dksX0_hostages_0 2 rfl rfl)
theorem dX0_hostages_3 : decode cX0_hostages 3 = .ok (.iload_n 1, 1) := dk_27 (dk_at dksX0_hostages_0 3 rfl rfl)
theorem dX0_hostages_4 : decode cX0_hostages 4 = .ok (.invokevirtual 51, 3) := dk_182 0 51 (dk_at dksX0_hostages_0 4 rfl rfl)
theorem dX0_hostages_7 : decode cX0_hostages 7 = .ok (.i2l, 1) := dk_133 (dk_at dksX0_hostages_0 7 rfl rfl)
theorem dX0_hostages_8 : decode cX0_hostages 8 = .ok (.lastore, 1) := dk_80 (dk_at dksX0_hostages_0 8 rfl rfl)
theorem dX0_hostages_9 : decode cX0_hostages 9 = .ok (.goto 6, 3) := dk_167 0 6 (dk_at dksX0_hostages_0 9 rfl rfl)
theorem dX0_hostages_12 : decode cX0_hostages 12 = .ok (.astore_n 3, 1) := dk_78 (dk_at dksX0_hostages_0 12 rfl rfl)
theorem dX0_hostages_13 : decode cX0_hostages 13 = .ok (.iconst 1, 1) := dk_4 (dk_at dksX0_hostages_0 13 rfl rfl)
theorem dX0_hostages_14 : decode cX0_hostages 14 = .ok (.ireturn, 1) := dk_172 (dk_at dksX0_hostages_0 14 rfl rfl)
theorem dX0_hostages_15 : decode cX0_hostages 15 = .ok (.iconst 0, 1) := dk_3 (dk_at dksX0_hostages_0 15 rfl rfl)
theorem dX0_hostages_16 : decode cX0_hostages 16 = .ok (.ireturn, 1) := dk_172 (dk_at dksX0_hostages_0 16 rfl rfl)
abbrev cX0_owing : ByteArray := method_16_code
def yX0_owing : MethodName := ⟨RX0, "owing", "(LSableCrown;I[J)I"⟩
def dkwX0_owing_0 : List UInt8 := [44, 3, 42, 27, 182, 0, 54, 133, 80, 167, 0, 6, 78, 4, 172, 3, 172]
abbrev dktX0_owing_0 : List UInt8 := dkwX0_owing_0 ++ []
theorem dksX0_owing_0 : cX0_owing.data.toList.drop 0 = dktX0_owing_0 := by decide +kernel
theorem dX0_owing_0 : decode cX0_owing 0 = .ok (.aload_n 2, 1) := dk_44 (dk_at dksX0_owing_0 0 rfl rfl)
theorem dX0_owing_1 : decode cX0_owing 1 = .ok (.iconst 0, 1) := dk_3 (dk_at dksX0_owing_0 1 rfl rfl)
theorem dX0_owing_2 : decode cX0_owing 2 = .ok (.aload_n 0, 1) := dk_42 (dk_at dksX0_owing_0 2 rfl rfl)
theorem dX0_owing_3 : decode cX0_owing 3 = .ok (.iload_n 1, 1) := dk_27 (dk_at dksX0_owing_0 3 rfl rfl)
theorem dX0_owing_4 : decode cX0_owing 4 = .ok (.invokevirtual 54, 3) := dk_182 0 54 (dk_at dksX0_owing_0 4 rfl rfl)
theorem dX0_owing_7 : decode cX0_owing 7 = .ok (.i2l, 1) := dk_133 (dk_at dksX0_owing_0 7 rfl rfl)
theorem dX0_owing_8 : decode cX0_owing 8 = .ok (.lastore, 1) := dk_80 (dk_at dksX0_owing_0 8 rfl rfl)
theorem dX0_owing_9 : decode cX0_owing 9 = .ok (.goto 6, 3) := dk_167 0 6 (dk_at dksX0_owing_0 9 rfl rfl)
theorem dX0_owing_12 : decode cX0_owing 12 = .ok (.astore_n 3, 1) := dk_78 (dk_at dksX0_owing_0 12 rfl rfl)
theorem dX0_owing_13 : decode cX0_owing 13 = .ok (.iconst 1, 1) := dk_4 (dk_at dksX0_owing_0 13 rfl rfl)
theorem dX0_owing_14 : decode cX0_owing 14 = .ok (.ireturn, 1) := dk_172 (dk_at dksX0_owing_0 14 rfl rfl)
theorem dX0_owing_15 : decode cX0_owing 15 = .ok (.iconst 0, 1) := dk_3 (dk_at dksX0_owing_0 15 rfl rfl)
theorem dX0_owing_16 : decode cX0_owing 16 = .ok (.ireturn, 1) := dk_172 (dk_at dksX0_owing_0 16 rfl rfl)
abbrev cX0_lastBlack : ByteArray := method_17_code
def yX0_lastBlack : MethodName := ⟨RX0, "lastBlack", "(LSableCrown;I[J)I"⟩
def dkwX0_lastBlack_0 : List UInt8 := [44, 3, 42, 27, 182, 0, 57, 133, 80, 167, 0, 6, 78, 4, 172, 3, 172]
abbrev dktX0_lastBlack_0 : List UInt8 := dkwX0_lastBlack_0 ++ []
theorem dksX0_lastBlack_0 : cX0_lastBlack.data.toList.drop 0 = dktX0_lastBlack_0 := by decide +kernel
theorem dX0_lastBlack_0 : decode cX0_lastBlack 0 = .ok (.aload_n 2, 1) := dk_44 (dk_at dksX0_lastBlack_0 0 rfl rfl)
theorem dX0_lastBlack_1 : decode cX0_lastBlack 1 = .ok (.iconst 0, 1) := dk_3 (dk_at dksX0_lastBlack_0 1 rfl rfl)
theorem dX0_lastBlack_2 : decode cX0_lastBlack 2 = .ok (.aload_n 0, 1) := dk_42 (dk_at dksX0_lastBlack_0 2 rfl rfl)
theorem dX0_lastBlack_3 : decode cX0_lastBlack 3 = .ok (.iload_n 1, 1) := dk_27 (dk_at dksX0_lastBlack_0 3 rfl rfl)
theorem dX0_lastBlack_4 : decode cX0_lastBlack 4 = .ok (.invokevirtual 57, 3) := dk_182 0 57 (dk_at dksX0_lastBlack_0 4 rfl rfl)
theorem dX0_lastBlack_7 : decode cX0_lastBlack 7 = .ok (.i2l, 1) := dk_133 (dk_at dksX0_lastBlack_0 7 rfl rfl)
theorem dX0_lastBlack_8 : decode cX0_lastBlack 8 = .ok (.lastore, 1) := dk_80 (dk_at dksX0_lastBlack_0 8 rfl rfl)
theorem dX0_lastBlack_9 : decode cX0_lastBlack 9 = .ok (.goto 6, 3) := dk_167 0 6 (dk_at dksX0_lastBlack_0 9 rfl rfl)
theorem dX0_lastBlack_12 : decode cX0_lastBlack 12 = .ok (.astore_n 3, 1) := dk_78 (dk_at dksX0_lastBlack_0 12 rfl rfl)
theorem dX0_lastBlack_13 : decode cX0_lastBlack 13 = .ok (.iconst 1, 1) := dk_4 (dk_at dksX0_lastBlack_0 13 rfl rfl)
theorem dX0_lastBlack_14 : decode cX0_lastBlack 14 = .ok (.ireturn, 1) := dk_172 (dk_at dksX0_lastBlack_0 14 rfl rfl)
theorem dX0_lastBlack_15 : decode cX0_lastBlack 15 = .ok (.iconst 0, 1) := dk_3 (dk_at dksX0_lastBlack_0 15 rfl rfl)
theorem dX0_lastBlack_16 : decode cX0_lastBlack 16 = .ok (.ireturn, 1) := dk_172 (dk_at dksX0_lastBlack_0 16 rfl rfl)
abbrev cX0_forEver : ByteArray := method_18_code
def yX0_forEver : MethodName := ⟨RX0, "forEver", "(LSableCrown;I[J)I"⟩
def dkwX0_forEver_0 : List UInt8 := [44, 3, 42, 27, 182, 0, 60, 133, 80, 167, 0, 6, 78, 4, 172, 3, 172]
abbrev dktX0_forEver_0 : List UInt8 := dkwX0_forEver_0 ++ []
theorem dksX0_forEver_0 : cX0_forEver.data.toList.drop 0 = dktX0_forEver_0 := by decide +kernel
theorem dX0_forEver_0 : decode cX0_forEver 0 = .ok (.aload_n 2, 1) := dk_44 (dk_at dksX0_forEver_0 0 rfl rfl)
theorem dX0_forEver_1 : decode cX0_forEver 1 = .ok (.iconst 0, 1) := dk_3 (dk_at dksX0_forEver_0 1 rfl rfl)
theorem dX0_forEver_2 : decode cX0_forEver 2 = .ok (.aload_n 0, 1) := dk_42 (dk_at dksX0_forEver_0 2 rfl rfl)
theorem dX0_forEver_3 : decode cX0_forEver 3 = .ok (.iload_n 1, 1) := dk_27 (dk_at dksX0_forEver_0 3 rfl rfl)
theorem dX0_forEver_4 : decode cX0_forEver 4 = .ok (.invokevirtual 60, 3) := dk_182 0 60 (dk_at dksX0_forEver_0 4 rfl rfl)
theorem dX0_forEver_7 : decode cX0_forEver 7 = .ok (.i2l, 1) := dk_133 (dk_at dksX0_forEver_0 7 rfl rfl)
theorem dX0_forEver_8 : decode cX0_forEver 8 = .ok (.lastore, 1) := dk_80 (dk_at dksX0_forEver_0 8 rfl rfl)
theorem dX0_forEver_9 : decode cX0_forEver 9 = .ok (.goto 6, 3) := dk_167 0 6 (dk_at dksX0_forEver_0 9 rfl rfl)
theorem dX0_forEver_12 : decode cX0_forEver 12 = .ok (.astore_n 3, 1) := dk_78 (dk_at dksX0_forEver_0 12 rfl rfl)
theorem dX0_forEver_13 : decode cX0_forEver 13 = .ok (.iconst 1, 1) := dk_4 (dk_at dksX0_forEver_0 13 rfl rfl)
theorem dX0_forEver_14 : decode cX0_forEver 14 = .ok (.ireturn, 1) := dk_172 (dk_at dksX0_forEver_0 14 rfl rfl)
theorem dX0_forEver_15 : decode cX0_forEver 15 = .ok (.iconst 0, 1) := dk_3 (dk_at dksX0_forEver_0 15 rfl rfl)
theorem dX0_forEver_16 : decode cX0_forEver 16 = .ok (.ireturn, 1) := dk_172 (dk_at dksX0_forEver_0 16 rfl rfl)
abbrev cX0_resting : ByteArray := method_19_code
def yX0_resting : MethodName := ⟨RX0, "resting", "(LSableCrown;II[J)I"⟩
def dkwX0_resting_0 : List UInt8 := [45, 3, 42, 27, 28, 182, 0, 63, 133, 80, 167, 0, 11, 58, 4, 4, 172, 58, 4, 5, 172, 3, 172]
abbrev dktX0_resting_0 : List UInt8 := dkwX0_resting_0 ++ []
theorem dksX0_resting_0 : cX0_resting.data.toList.drop 0 = dktX0_resting_0 := by decide +kernel
theorem dX0_resting_0 : decode cX0_resting 0 = .ok (.aload_n 3, 1) := dk_45 (dk_at dksX0_resting_0 0 rfl rfl)
theorem dX0_resting_1 : decode cX0_resting 1 = .ok (.iconst 0, 1) := dk_3 (dk_at dksX0_resting_0 1 rfl rfl)
theorem dX0_resting_2 : decode cX0_resting 2 = .ok (.aload_n 0, 1) := dk_42 (dk_at dksX0_resting_0 2 rfl rfl)
theorem dX0_resting_3 : decode cX0_resting 3 = .ok (.iload_n 1, 1) := dk_27 (dk_at dksX0_resting_0 3 rfl rfl)
theorem dX0_resting_4 : decode cX0_resting 4 = .ok (.iload_n 2, 1) := dk_28 (dk_at dksX0_resting_0 4 rfl rfl)
theorem dX0_resting_5 : decode cX0_resting 5 = .ok (.invokevirtual 63, 3) := dk_182 0 63 (dk_at dksX0_resting_0 5 rfl rfl)
theorem dX0_resting_8 : decode cX0_resting 8 = .ok (.i2l, 1) := dk_133 (dk_at dksX0_resting_0 8 rfl rfl)
theorem dX0_resting_9 : decode cX0_resting 9 = .ok (.lastore, 1) := dk_80 (dk_at dksX0_resting_0 9 rfl rfl)
theorem dX0_resting_10 : decode cX0_resting 10 = .ok (.goto 11, 3) := dk_167 0 11 (dk_at dksX0_resting_0 10 rfl rfl)
theorem dX0_resting_13 : decode cX0_resting 13 = .ok (.astore 4, 2) := dk_58 4 (dk_at dksX0_resting_0 13 rfl rfl)
theorem dX0_resting_15 : decode cX0_resting 15 = .ok (.iconst 1, 1) := dk_4 (dk_at dksX0_resting_0 15 rfl rfl)
theorem dX0_resting_16 : decode cX0_resting 16 = .ok (.ireturn, 1) := dk_172 (dk_at dksX0_resting_0 16 rfl rfl)
theorem dX0_resting_17 : decode cX0_resting 17 = .ok (.astore 4, 2) := dk_58 4 (dk_at dksX0_resting_0 17 rfl rfl)
theorem dX0_resting_19 : decode cX0_resting 19 = .ok (.iconst 2, 1) := dk_5 (dk_at dksX0_resting_0 19 rfl rfl)
theorem dX0_resting_20 : decode cX0_resting 20 = .ok (.ireturn, 1) := dk_172 (dk_at dksX0_resting_0 20 rfl rfl)
theorem dX0_resting_21 : decode cX0_resting 21 = .ok (.iconst 0, 1) := dk_3 (dk_at dksX0_resting_0 21 rfl rfl)
theorem dX0_resting_22 : decode cX0_resting 22 = .ok (.ireturn, 1) := dk_172 (dk_at dksX0_resting_0 22 rfl rfl)
abbrev cX0_far : ByteArray := method_20_code
def yX0_far : MethodName := ⟨RX0, "far", "(LSableCrown;II[J)I"⟩
def dkwX0_far_0 : List UInt8 := [45, 3, 42, 27, 28, 182, 0, 66, 133, 80, 167, 0, 7, 58, 4, 4, 172, 3, 172]
abbrev dktX0_far_0 : List UInt8 := dkwX0_far_0 ++ []
theorem dksX0_far_0 : cX0_far.data.toList.drop 0 = dktX0_far_0 := by decide +kernel
theorem dX0_far_0 : decode cX0_far 0 = .ok (.aload_n 3, 1) := dk_45 (dk_at dksX0_far_0 0 rfl rfl)
theorem dX0_far_1 : decode cX0_far 1 = .ok (.iconst 0, 1) := dk_3 (dk_at dksX0_far_0 1 rfl rfl)
theorem dX0_far_2 : decode cX0_far 2 = .ok (.aload_n 0, 1) := dk_42 (dk_at dksX0_far_0 2 rfl rfl)
theorem dX0_far_3 : decode cX0_far 3 = .ok (.iload_n 1, 1) := dk_27 (dk_at dksX0_far_0 3 rfl rfl)
theorem dX0_far_4 : decode cX0_far 4 = .ok (.iload_n 2, 1) := dk_28 (dk_at dksX0_far_0 4 rfl rfl)
theorem dX0_far_5 : decode cX0_far 5 = .ok (.invokevirtual 66, 3) := dk_182 0 66 (dk_at dksX0_far_0 5 rfl rfl)
theorem dX0_far_8 : decode cX0_far 8 = .ok (.i2l, 1) := dk_133 (dk_at dksX0_far_0 8 rfl rfl)
theorem dX0_far_9 : decode cX0_far 9 = .ok (.lastore, 1) := dk_80 (dk_at dksX0_far_0 9 rfl rfl)
theorem dX0_far_10 : decode cX0_far 10 = .ok (.goto 7, 3) := dk_167 0 7 (dk_at dksX0_far_0 10 rfl rfl)
theorem dX0_far_13 : decode cX0_far 13 = .ok (.astore 4, 2) := dk_58 4 (dk_at dksX0_far_0 13 rfl rfl)
theorem dX0_far_15 : decode cX0_far 15 = .ok (.iconst 1, 1) := dk_4 (dk_at dksX0_far_0 15 rfl rfl)
theorem dX0_far_16 : decode cX0_far 16 = .ok (.ireturn, 1) := dk_172 (dk_at dksX0_far_0 16 rfl rfl)
theorem dX0_far_17 : decode cX0_far 17 = .ok (.iconst 0, 1) := dk_3 (dk_at dksX0_far_0 17 rfl rfl)
theorem dX0_far_18 : decode cX0_far 18 = .ok (.ireturn, 1) := dk_172 (dk_at dksX0_far_0 18 rfl rfl)
abbrev cX0_round : ByteArray := method_21_code
def yX0_round : MethodName := ⟨RX0, "round", "(LSableCrown;I[J)I"⟩
def dkwX0_round_0 : List UInt8 := [44, 3, 42, 27, 182, 0, 69, 133, 80, 167, 0, 6, 78, 4, 172, 3, 172]
abbrev dktX0_round_0 : List UInt8 := dkwX0_round_0 ++ []
theorem dksX0_round_0 : cX0_round.data.toList.drop 0 = dktX0_round_0 := by decide +kernel
theorem dX0_round_0 : decode cX0_round 0 = .ok (.aload_n 2, 1) := dk_44 (dk_at dksX0_round_0 0 rfl rfl)
theorem dX0_round_1 : decode cX0_round 1 = .ok (.iconst 0, 1) := dk_3 (dk_at dksX0_round_0 1 rfl rfl)
theorem dX0_round_2 : decode cX0_round 2 = .ok (.aload_n 0, 1) := dk_42 (dk_at dksX0_round_0 2 rfl rfl)
theorem dX0_round_3 : decode cX0_round 3 = .ok (.iload_n 1, 1) := dk_27 (dk_at dksX0_round_0 3 rfl rfl)
theorem dX0_round_4 : decode cX0_round 4 = .ok (.invokevirtual 69, 3) := dk_182 0 69 (dk_at dksX0_round_0 4 rfl rfl)
theorem dX0_round_7 : decode cX0_round 7 = .ok (.i2l, 1) := dk_133 (dk_at dksX0_round_0 7 rfl rfl)
theorem dX0_round_8 : decode cX0_round 8 = .ok (.lastore, 1) := dk_80 (dk_at dksX0_round_0 8 rfl rfl)
theorem dX0_round_9 : decode cX0_round 9 = .ok (.goto 6, 3) := dk_167 0 6 (dk_at dksX0_round_0 9 rfl rfl)
theorem dX0_round_12 : decode cX0_round 12 = .ok (.astore_n 3, 1) := dk_78 (dk_at dksX0_round_0 12 rfl rfl)
theorem dX0_round_13 : decode cX0_round 13 = .ok (.iconst 1, 1) := dk_4 (dk_at dksX0_round_0 13 rfl rfl)
theorem dX0_round_14 : decode cX0_round 14 = .ok (.ireturn, 1) := dk_172 (dk_at dksX0_round_0 14 rfl rfl)
theorem dX0_round_15 : decode cX0_round 15 = .ok (.iconst 0, 1) := dk_3 (dk_at dksX0_round_0 15 rfl rfl)
theorem dX0_round_16 : decode cX0_round 16 = .ok (.ireturn, 1) := dk_172 (dk_at dksX0_round_0 16 rfl rfl)
abbrev cX0_first : ByteArray := method_22_code
def yX0_first : MethodName := ⟨RX0, "first", "(LSableCrown;I[J)I"⟩
def dkwX0_first_0 : List UInt8 := [44, 3, 42, 27, 182, 0, 72, 133, 80, 167, 0, 6, 78, 4, 172, 3, 172]
abbrev dktX0_first_0 : List UInt8 := dkwX0_first_0 ++ []
theorem dksX0_first_0 : cX0_first.data.toList.drop 0 = dktX0_first_0 := by decide +kernel
theorem dX0_first_0 : decode cX0_first 0 = .ok (.aload_n 2, 1) := dk_44 (dk_at dksX0_first_0 0 rfl rfl)
theorem dX0_first_1 : decode cX0_first 1 = .ok (.iconst 0, 1) := dk_3 (dk_at dksX0_first_0 1 rfl rfl)
theorem dX0_first_2 : decode cX0_first 2 = .ok (.aload_n 0, 1) := dk_42 (dk_at dksX0_first_0 2 rfl rfl)
theorem dX0_first_3 : decode cX0_first 3 = .ok (.iload_n 1, 1) := dk_27 (dk_at dksX0_first_0 3 rfl rfl)
theorem dX0_first_4 : decode cX0_first 4 = .ok (.invokevirtual 72, 3) := dk_182 0 72 (dk_at dksX0_first_0 4 rfl rfl)
theorem dX0_first_7 : decode cX0_first 7 = .ok (.i2l, 1) := dk_133 (dk_at dksX0_first_0 7 rfl rfl)
theorem dX0_first_8 : decode cX0_first 8 = .ok (.lastore, 1) := dk_80 (dk_at dksX0_first_0 8 rfl rfl)
theorem dX0_first_9 : decode cX0_first 9 = .ok (.goto 6, 3) := dk_167 0 6 (dk_at dksX0_first_0 9 rfl rfl)
theorem dX0_first_12 : decode cX0_first 12 = .ok (.astore_n 3, 1) := dk_78 (dk_at dksX0_first_0 12 rfl rfl)
theorem dX0_first_13 : decode cX0_first 13 = .ok (.iconst 1, 1) := dk_4 (dk_at dksX0_first_0 13 rfl rfl)
theorem dX0_first_14 : decode cX0_first 14 = .ok (.ireturn, 1) := dk_172 (dk_at dksX0_first_0 14 rfl rfl)
theorem dX0_first_15 : decode cX0_first 15 = .ok (.iconst 0, 1) := dk_3 (dk_at dksX0_first_0 15 rfl rfl)
theorem dX0_first_16 : decode cX0_first 16 = .ok (.ireturn, 1) := dk_172 (dk_at dksX0_first_0 16 rfl rfl)
abbrev cX0_meeting : ByteArray := method_23_code
def yX0_meeting : MethodName := ⟨RX0, "meeting", "(LSableCrown;III[J)I"⟩
def dkwX0_meeting_0 : List UInt8 := [25, 4, 3, 42, 27, 28, 29, 182, 0, 75, 133, 80, 167, 0, 7, 58, 5, 4, 172, 3, 172]
abbrev dktX0_meeting_0 : List UInt8 := dkwX0_meeting_0 ++ []
theorem dksX0_meeting_0 : cX0_meeting.data.toList.drop 0 = dktX0_meeting_0 := by decide +kernel
theorem dX0_meeting_0 : decode cX0_meeting 0 = .ok (.aload 4, 2) := dk_25 4 (dk_at dksX0_meeting_0 0 rfl rfl)
theorem dX0_meeting_2 : decode cX0_meeting 2 = .ok (.iconst 0, 1) := dk_3 (dk_at dksX0_meeting_0 2 rfl rfl)
theorem dX0_meeting_3 : decode cX0_meeting 3 = .ok (.aload_n 0, 1) := dk_42 (dk_at dksX0_meeting_0 3 rfl rfl)
theorem dX0_meeting_4 : decode cX0_meeting 4 = .ok (.iload_n 1, 1) := dk_27 (dk_at dksX0_meeting_0 4 rfl rfl)
theorem dX0_meeting_5 : decode cX0_meeting 5 = .ok (.iload_n 2, 1) := dk_28 (dk_at dksX0_meeting_0 5 rfl rfl)
theorem dX0_meeting_6 : decode cX0_meeting 6 = .ok (.iload_n 3, 1) := dk_29 (dk_at dksX0_meeting_0 6 rfl rfl)
theorem dX0_meeting_7 : decode cX0_meeting 7 = .ok (.invokevirtual 75, 3) := dk_182 0 75 (dk_at dksX0_meeting_0 7 rfl rfl)
theorem dX0_meeting_10 : decode cX0_meeting 10 = .ok (.i2l, 1) := dk_133 (dk_at dksX0_meeting_0 10 rfl rfl)
theorem dX0_meeting_11 : decode cX0_meeting 11 = .ok (.lastore, 1) := dk_80 (dk_at dksX0_meeting_0 11 rfl rfl)
theorem dX0_meeting_12 : decode cX0_meeting 12 = .ok (.goto 7, 3) := dk_167 0 7 (dk_at dksX0_meeting_0 12 rfl rfl)
theorem dX0_meeting_15 : decode cX0_meeting 15 = .ok (.astore 5, 2) := dk_58 5 (dk_at dksX0_meeting_0 15 rfl rfl)
theorem dX0_meeting_17 : decode cX0_meeting 17 = .ok (.iconst 1, 1) := dk_4 (dk_at dksX0_meeting_0 17 rfl rfl)
theorem dX0_meeting_18 : decode cX0_meeting 18 = .ok (.ireturn, 1) := dk_172 (dk_at dksX0_meeting_0 18 rfl rfl)
theorem dX0_meeting_19 : decode cX0_meeting 19 = .ok (.iconst 0, 1) := dk_3 (dk_at dksX0_meeting_0 19 rfl rfl)
theorem dX0_meeting_20 : decode cX0_meeting 20 = .ok (.ireturn, 1) := dk_172 (dk_at dksX0_meeting_0 20 rfl rfl)
abbrev cX0_where : ByteArray := method_24_code
def yX0_where : MethodName := ⟨RX0, "where", "(LSableCrown;III[J)I"⟩
def dkwX0_where_1 : List UInt8 := [172]
abbrev dktX0_where_1 : List UInt8 := dkwX0_where_1 ++ []
def dkwX0_where_0 : List UInt8 := [25, 4, 3, 42, 27, 28, 29, 182, 0, 79, 133, 80, 167, 0, 11, 58, 5, 4, 172, 58, 5, 5, 172, 3]
abbrev dktX0_where_0 : List UInt8 := dkwX0_where_0 ++ dktX0_where_1
theorem dksX0_where_0 : cX0_where.data.toList.drop 0 = dktX0_where_0 := by decide +kernel
theorem dksX0_where_1 : cX0_where.data.toList.drop 24 = dktX0_where_1 := dk_seg dksX0_where_0 24 rfl rfl
theorem dX0_where_0 : decode cX0_where 0 = .ok (.aload 4, 2) := dk_25 4 (dk_at dksX0_where_0 0 rfl rfl)
theorem dX0_where_2 : decode cX0_where 2 = .ok (.iconst 0, 1) := dk_3 (dk_at dksX0_where_0 2 rfl rfl)
theorem dX0_where_3 : decode cX0_where 3 = .ok (.aload_n 0, 1) := dk_42 (dk_at dksX0_where_0 3 rfl rfl)
theorem dX0_where_4 : decode cX0_where 4 = .ok (.iload_n 1, 1) := dk_27 (dk_at dksX0_where_0 4 rfl rfl)
theorem dX0_where_5 : decode cX0_where 5 = .ok (.iload_n 2, 1) := dk_28 (dk_at dksX0_where_0 5 rfl rfl)
theorem dX0_where_6 : decode cX0_where 6 = .ok (.iload_n 3, 1) := dk_29 (dk_at dksX0_where_0 6 rfl rfl)
theorem dX0_where_7 : decode cX0_where 7 = .ok (.invokevirtual 79, 3) := dk_182 0 79 (dk_at dksX0_where_0 7 rfl rfl)
theorem dX0_where_10 : decode cX0_where 10 = .ok (.i2l, 1) := dk_133 (dk_at dksX0_where_0 10 rfl rfl)
theorem dX0_where_11 : decode cX0_where 11 = .ok (.lastore, 1) := dk_80 (dk_at dksX0_where_0 11 rfl rfl)
theorem dX0_where_12 : decode cX0_where 12 = .ok (.goto 11, 3) := dk_167 0 11 (dk_at dksX0_where_0 12 rfl rfl)
theorem dX0_where_15 : decode cX0_where 15 = .ok (.astore 5, 2) := dk_58 5 (dk_at dksX0_where_0 15 rfl rfl)
theorem dX0_where_17 : decode cX0_where 17 = .ok (.iconst 1, 1) := dk_4 (dk_at dksX0_where_0 17 rfl rfl)
theorem dX0_where_18 : decode cX0_where 18 = .ok (.ireturn, 1) := dk_172 (dk_at dksX0_where_0 18 rfl rfl)
theorem dX0_where_19 : decode cX0_where 19 = .ok (.astore 5, 2) := dk_58 5 (dk_at dksX0_where_0 19 rfl rfl)
theorem dX0_where_21 : decode cX0_where 21 = .ok (.iconst 2, 1) := dk_5 (dk_at dksX0_where_0 21 rfl rfl)
theorem dX0_where_22 : decode cX0_where 22 = .ok (.ireturn, 1) := dk_172 (dk_at dksX0_where_0 22 rfl rfl)
theorem dX0_where_23 : decode cX0_where 23 = .ok (.iconst 0, 1) := dk_3 (dk_at dksX0_where_0 23 rfl rfl)
theorem dX0_where_24 : decode cX0_where 24 = .ok (.ireturn, 1) := dk_172 (dk_at dksX0_where_1 0 rfl rfl)
abbrev cX0_counted : ByteArray := method_25_code
def yX0_counted : MethodName := ⟨RX0, "counted", "(LSableCrown;II[J)I"⟩
def dkwX0_counted_0 : List UInt8 := [45, 3, 42, 27, 28, 182, 0, 82, 133, 80, 167, 0, 11, 58, 4, 4, 172, 58, 4, 5, 172, 3, 172]
abbrev dktX0_counted_0 : List UInt8 := dkwX0_counted_0 ++ []
theorem dksX0_counted_0 : cX0_counted.data.toList.drop 0 = dktX0_counted_0 := by decide +kernel
theorem dX0_counted_0 : decode cX0_counted 0 = .ok (.aload_n 3, 1) := dk_45 (dk_at dksX0_counted_0 0 rfl rfl)
theorem dX0_counted_1 : decode cX0_counted 1 = .ok (.iconst 0, 1) := dk_3 (dk_at dksX0_counted_0 1 rfl rfl)
theorem dX0_counted_2 : decode cX0_counted 2 = .ok (.aload_n 0, 1) := dk_42 (dk_at dksX0_counted_0 2 rfl rfl)
theorem dX0_counted_3 : decode cX0_counted 3 = .ok (.iload_n 1, 1) := dk_27 (dk_at dksX0_counted_0 3 rfl rfl)
theorem dX0_counted_4 : decode cX0_counted 4 = .ok (.iload_n 2, 1) := dk_28 (dk_at dksX0_counted_0 4 rfl rfl)
theorem dX0_counted_5 : decode cX0_counted 5 = .ok (.invokevirtual 82, 3) := dk_182 0 82 (dk_at dksX0_counted_0 5 rfl rfl)
theorem dX0_counted_8 : decode cX0_counted 8 = .ok (.i2l, 1) := dk_133 (dk_at dksX0_counted_0 8 rfl rfl)
theorem dX0_counted_9 : decode cX0_counted 9 = .ok (.lastore, 1) := dk_80 (dk_at dksX0_counted_0 9 rfl rfl)
theorem dX0_counted_10 : decode cX0_counted 10 = .ok (.goto 11, 3) := dk_167 0 11 (dk_at dksX0_counted_0 10 rfl rfl)
theorem dX0_counted_13 : decode cX0_counted 13 = .ok (.astore 4, 2) := dk_58 4 (dk_at dksX0_counted_0 13 rfl rfl)
theorem dX0_counted_15 : decode cX0_counted 15 = .ok (.iconst 1, 1) := dk_4 (dk_at dksX0_counted_0 15 rfl rfl)
theorem dX0_counted_16 : decode cX0_counted 16 = .ok (.ireturn, 1) := dk_172 (dk_at dksX0_counted_0 16 rfl rfl)
theorem dX0_counted_17 : decode cX0_counted 17 = .ok (.astore 4, 2) := dk_58 4 (dk_at dksX0_counted_0 17 rfl rfl)
theorem dX0_counted_19 : decode cX0_counted 19 = .ok (.iconst 2, 1) := dk_5 (dk_at dksX0_counted_0 19 rfl rfl)
theorem dX0_counted_20 : decode cX0_counted 20 = .ok (.ireturn, 1) := dk_172 (dk_at dksX0_counted_0 20 rfl rfl)
theorem dX0_counted_21 : decode cX0_counted 21 = .ok (.iconst 0, 1) := dk_3 (dk_at dksX0_counted_0 21 rfl rfl)
theorem dX0_counted_22 : decode cX0_counted 22 = .ok (.ireturn, 1) := dk_172 (dk_at dksX0_counted_0 22 rfl rfl)
abbrev cX0_spy : ByteArray := method_26_code
def yX0_spy : MethodName := ⟨RX0, "spy", "(LSableCrown;III[J)I"⟩
def dkwX0_spy_0 : List UInt8 := [25, 4, 3, 42, 27, 28, 29, 182, 0, 85, 133, 80, 167, 0, 7, 58, 5, 4, 172, 3, 172]
abbrev dktX0_spy_0 : List UInt8 := dkwX0_spy_0 ++ []
theorem dksX0_spy_0 : cX0_spy.data.toList.drop 0 = dktX0_spy_0 := by decide +kernel
theorem dX0_spy_0 : decode cX0_spy 0 = .ok (.aload 4, 2) := dk_25 4 (dk_at dksX0_spy_0 0 rfl rfl)
theorem dX0_spy_2 : decode cX0_spy 2 = .ok (.iconst 0, 1) := dk_3 (dk_at dksX0_spy_0 2 rfl rfl)
theorem dX0_spy_3 : decode cX0_spy 3 = .ok (.aload_n 0, 1) := dk_42 (dk_at dksX0_spy_0 3 rfl rfl)
theorem dX0_spy_4 : decode cX0_spy 4 = .ok (.iload_n 1, 1) := dk_27 (dk_at dksX0_spy_0 4 rfl rfl)
theorem dX0_spy_5 : decode cX0_spy 5 = .ok (.iload_n 2, 1) := dk_28 (dk_at dksX0_spy_0 5 rfl rfl)
theorem dX0_spy_6 : decode cX0_spy 6 = .ok (.iload_n 3, 1) := dk_29 (dk_at dksX0_spy_0 6 rfl rfl)
theorem dX0_spy_7 : decode cX0_spy 7 = .ok (.invokevirtual 85, 3) := dk_182 0 85 (dk_at dksX0_spy_0 7 rfl rfl)
theorem dX0_spy_10 : decode cX0_spy 10 = .ok (.i2l, 1) := dk_133 (dk_at dksX0_spy_0 10 rfl rfl)
theorem dX0_spy_11 : decode cX0_spy 11 = .ok (.lastore, 1) := dk_80 (dk_at dksX0_spy_0 11 rfl rfl)
theorem dX0_spy_12 : decode cX0_spy 12 = .ok (.goto 7, 3) := dk_167 0 7 (dk_at dksX0_spy_0 12 rfl rfl)
theorem dX0_spy_15 : decode cX0_spy 15 = .ok (.astore 5, 2) := dk_58 5 (dk_at dksX0_spy_0 15 rfl rfl)
theorem dX0_spy_17 : decode cX0_spy 17 = .ok (.iconst 1, 1) := dk_4 (dk_at dksX0_spy_0 17 rfl rfl)
theorem dX0_spy_18 : decode cX0_spy 18 = .ok (.ireturn, 1) := dk_172 (dk_at dksX0_spy_0 18 rfl rfl)
theorem dX0_spy_19 : decode cX0_spy 19 = .ok (.iconst 0, 1) := dk_3 (dk_at dksX0_spy_0 19 rfl rfl)
theorem dX0_spy_20 : decode cX0_spy 20 = .ok (.ireturn, 1) := dk_172 (dk_at dksX0_spy_0 20 rfl rfl)
abbrev cX0_hidden : ByteArray := method_27_code
def yX0_hidden : MethodName := ⟨RX0, "hidden", "(LSableCrown;I[J)I"⟩
def dkwX0_hidden_0 : List UInt8 := [44, 3, 42, 27, 182, 0, 88, 133, 80, 167, 0, 6, 78, 4, 172, 3, 172]
abbrev dktX0_hidden_0 : List UInt8 := dkwX0_hidden_0 ++ []
theorem dksX0_hidden_0 : cX0_hidden.data.toList.drop 0 = dktX0_hidden_0 := by decide +kernel
theorem dX0_hidden_0 : decode cX0_hidden 0 = .ok (.aload_n 2, 1) := dk_44 (dk_at dksX0_hidden_0 0 rfl rfl)
theorem dX0_hidden_1 : decode cX0_hidden 1 = .ok (.iconst 0, 1) := dk_3 (dk_at dksX0_hidden_0 1 rfl rfl)
theorem dX0_hidden_2 : decode cX0_hidden 2 = .ok (.aload_n 0, 1) := dk_42 (dk_at dksX0_hidden_0 2 rfl rfl)
theorem dX0_hidden_3 : decode cX0_hidden 3 = .ok (.iload_n 1, 1) := dk_27 (dk_at dksX0_hidden_0 3 rfl rfl)
theorem dX0_hidden_4 : decode cX0_hidden 4 = .ok (.invokevirtual 88, 3) := dk_182 0 88 (dk_at dksX0_hidden_0 4 rfl rfl)
theorem dX0_hidden_7 : decode cX0_hidden 7 = .ok (.i2l, 1) := dk_133 (dk_at dksX0_hidden_0 7 rfl rfl)
theorem dX0_hidden_8 : decode cX0_hidden 8 = .ok (.lastore, 1) := dk_80 (dk_at dksX0_hidden_0 8 rfl rfl)
theorem dX0_hidden_9 : decode cX0_hidden 9 = .ok (.goto 6, 3) := dk_167 0 6 (dk_at dksX0_hidden_0 9 rfl rfl)
theorem dX0_hidden_12 : decode cX0_hidden 12 = .ok (.astore_n 3, 1) := dk_78 (dk_at dksX0_hidden_0 12 rfl rfl)
theorem dX0_hidden_13 : decode cX0_hidden 13 = .ok (.iconst 1, 1) := dk_4 (dk_at dksX0_hidden_0 13 rfl rfl)
theorem dX0_hidden_14 : decode cX0_hidden 14 = .ok (.ireturn, 1) := dk_172 (dk_at dksX0_hidden_0 14 rfl rfl)
theorem dX0_hidden_15 : decode cX0_hidden 15 = .ok (.iconst 0, 1) := dk_3 (dk_at dksX0_hidden_0 15 rfl rfl)
theorem dX0_hidden_16 : decode cX0_hidden 16 = .ok (.ireturn, 1) := dk_172 (dk_at dksX0_hidden_0 16 rfl rfl)
abbrev cX0_look : ByteArray := method_28_code
def yX0_look : MethodName := ⟨RX0, "look", "(LSableCrown;I[J)I"⟩
def dkwX0_look_0 : List UInt8 := [44, 3, 42, 27, 182, 0, 91, 133, 80, 167, 0, 6, 78, 4, 172, 3, 172]
abbrev dktX0_look_0 : List UInt8 := dkwX0_look_0 ++ []
theorem dksX0_look_0 : cX0_look.data.toList.drop 0 = dktX0_look_0 := by decide +kernel
theorem dX0_look_0 : decode cX0_look 0 = .ok (.aload_n 2, 1) := dk_44 (dk_at dksX0_look_0 0 rfl rfl)
theorem dX0_look_1 : decode cX0_look 1 = .ok (.iconst 0, 1) := dk_3 (dk_at dksX0_look_0 1 rfl rfl)
theorem dX0_look_2 : decode cX0_look 2 = .ok (.aload_n 0, 1) := dk_42 (dk_at dksX0_look_0 2 rfl rfl)
theorem dX0_look_3 : decode cX0_look 3 = .ok (.iload_n 1, 1) := dk_27 (dk_at dksX0_look_0 3 rfl rfl)
theorem dX0_look_4 : decode cX0_look 4 = .ok (.invokevirtual 91, 3) := dk_182 0 91 (dk_at dksX0_look_0 4 rfl rfl)
theorem dX0_look_7 : decode cX0_look 7 = .ok (.i2l, 1) := dk_133 (dk_at dksX0_look_0 7 rfl rfl)
theorem dX0_look_8 : decode cX0_look 8 = .ok (.lastore, 1) := dk_80 (dk_at dksX0_look_0 8 rfl rfl)
theorem dX0_look_9 : decode cX0_look 9 = .ok (.goto 6, 3) := dk_167 0 6 (dk_at dksX0_look_0 9 rfl rfl)
theorem dX0_look_12 : decode cX0_look 12 = .ok (.astore_n 3, 1) := dk_78 (dk_at dksX0_look_0 12 rfl rfl)
theorem dX0_look_13 : decode cX0_look 13 = .ok (.iconst 1, 1) := dk_4 (dk_at dksX0_look_0 13 rfl rfl)
theorem dX0_look_14 : decode cX0_look 14 = .ok (.ireturn, 1) := dk_172 (dk_at dksX0_look_0 14 rfl rfl)
theorem dX0_look_15 : decode cX0_look 15 = .ok (.iconst 0, 1) := dk_3 (dk_at dksX0_look_0 15 rfl rfl)
theorem dX0_look_16 : decode cX0_look 16 = .ok (.ireturn, 1) := dk_172 (dk_at dksX0_look_0 16 rfl rfl)
abbrev cX0_game : ByteArray := method_29_code
def yX0_game : MethodName := ⟨RX0, "game", "(LSableCrown;IIIII[J)I"⟩
def dkwX0_game_1 : List UInt8 := [58, 7, 5, 172, 3, 172]
abbrev dktX0_game_1 : List UInt8 := dkwX0_game_1 ++ []
def dkwX0_game_0 : List UInt8 := [25, 6, 3, 42, 27, 28, 29, 21, 4, 21, 5, 182, 0, 94, 133, 80, 167, 0, 11, 58, 7, 4, 172]
abbrev dktX0_game_0 : List UInt8 := dkwX0_game_0 ++ dktX0_game_1
theorem dksX0_game_0 : cX0_game.data.toList.drop 0 = dktX0_game_0 := by decide +kernel
theorem dksX0_game_1 : cX0_game.data.toList.drop 23 = dktX0_game_1 := dk_seg dksX0_game_0 23 rfl rfl
theorem dX0_game_0 : decode cX0_game 0 = .ok (.aload 6, 2) := dk_25 6 (dk_at dksX0_game_0 0 rfl rfl)
theorem dX0_game_2 : decode cX0_game 2 = .ok (.iconst 0, 1) := dk_3 (dk_at dksX0_game_0 2 rfl rfl)
theorem dX0_game_3 : decode cX0_game 3 = .ok (.aload_n 0, 1) := dk_42 (dk_at dksX0_game_0 3 rfl rfl)
theorem dX0_game_4 : decode cX0_game 4 = .ok (.iload_n 1, 1) := dk_27 (dk_at dksX0_game_0 4 rfl rfl)
theorem dX0_game_5 : decode cX0_game 5 = .ok (.iload_n 2, 1) := dk_28 (dk_at dksX0_game_0 5 rfl rfl)
theorem dX0_game_6 : decode cX0_game 6 = .ok (.iload_n 3, 1) := dk_29 (dk_at dksX0_game_0 6 rfl rfl)
theorem dX0_game_7 : decode cX0_game 7 = .ok (.iload 4, 2) := dk_21 4 (dk_at dksX0_game_0 7 rfl rfl)
theorem dX0_game_9 : decode cX0_game 9 = .ok (.iload 5, 2) := dk_21 5 (dk_at dksX0_game_0 9 rfl rfl)
theorem dX0_game_11 : decode cX0_game 11 = .ok (.invokevirtual 94, 3) := dk_182 0 94 (dk_at dksX0_game_0 11 rfl rfl)
theorem dX0_game_14 : decode cX0_game 14 = .ok (.i2l, 1) := dk_133 (dk_at dksX0_game_0 14 rfl rfl)
theorem dX0_game_15 : decode cX0_game 15 = .ok (.lastore, 1) := dk_80 (dk_at dksX0_game_0 15 rfl rfl)
theorem dX0_game_16 : decode cX0_game 16 = .ok (.goto 11, 3) := dk_167 0 11 (dk_at dksX0_game_0 16 rfl rfl)
theorem dX0_game_19 : decode cX0_game 19 = .ok (.astore 7, 2) := dk_58 7 (dk_at dksX0_game_0 19 rfl rfl)
theorem dX0_game_21 : decode cX0_game 21 = .ok (.iconst 1, 1) := dk_4 (dk_at dksX0_game_0 21 rfl rfl)
theorem dX0_game_22 : decode cX0_game 22 = .ok (.ireturn, 1) := dk_172 (dk_at dksX0_game_0 22 rfl rfl)
theorem dX0_game_23 : decode cX0_game 23 = .ok (.astore 7, 2) := dk_58 7 (dk_at dksX0_game_1 0 rfl rfl)
theorem dX0_game_25 : decode cX0_game 25 = .ok (.iconst 2, 1) := dk_5 (dk_at dksX0_game_1 2 rfl rfl)
theorem dX0_game_26 : decode cX0_game 26 = .ok (.ireturn, 1) := dk_172 (dk_at dksX0_game_1 3 rfl rfl)
theorem dX0_game_27 : decode cX0_game 27 = .ok (.iconst 0, 1) := dk_3 (dk_at dksX0_game_1 4 rfl rfl)
theorem dX0_game_28 : decode cX0_game 28 = .ok (.ireturn, 1) := dk_172 (dk_at dksX0_game_1 5 rfl rfl)
abbrev cX0_winter : ByteArray := method_30_code
def yX0_winter : MethodName := ⟨RX0, "winter", "(LSableCrown;III[J)I"⟩
def dkwX0_winter_1 : List UInt8 := [172]
abbrev dktX0_winter_1 : List UInt8 := dkwX0_winter_1 ++ []
def dkwX0_winter_0 : List UInt8 := [25, 4, 3, 42, 27, 28, 29, 182, 0, 98, 133, 80, 167, 0, 11, 58, 5, 4, 172, 58, 5, 5, 172, 3]
abbrev dktX0_winter_0 : List UInt8 := dkwX0_winter_0 ++ dktX0_winter_1
theorem dksX0_winter_0 : cX0_winter.data.toList.drop 0 = dktX0_winter_0 := by decide +kernel
theorem dksX0_winter_1 : cX0_winter.data.toList.drop 24 = dktX0_winter_1 := dk_seg dksX0_winter_0 24 rfl rfl
theorem dX0_winter_0 : decode cX0_winter 0 = .ok (.aload 4, 2) := dk_25 4 (dk_at dksX0_winter_0 0 rfl rfl)
theorem dX0_winter_2 : decode cX0_winter 2 = .ok (.iconst 0, 1) := dk_3 (dk_at dksX0_winter_0 2 rfl rfl)
theorem dX0_winter_3 : decode cX0_winter 3 = .ok (.aload_n 0, 1) := dk_42 (dk_at dksX0_winter_0 3 rfl rfl)
theorem dX0_winter_4 : decode cX0_winter 4 = .ok (.iload_n 1, 1) := dk_27 (dk_at dksX0_winter_0 4 rfl rfl)
theorem dX0_winter_5 : decode cX0_winter 5 = .ok (.iload_n 2, 1) := dk_28 (dk_at dksX0_winter_0 5 rfl rfl)
theorem dX0_winter_6 : decode cX0_winter 6 = .ok (.iload_n 3, 1) := dk_29 (dk_at dksX0_winter_0 6 rfl rfl)
theorem dX0_winter_7 : decode cX0_winter 7 = .ok (.invokevirtual 98, 3) := dk_182 0 98 (dk_at dksX0_winter_0 7 rfl rfl)
theorem dX0_winter_10 : decode cX0_winter 10 = .ok (.i2l, 1) := dk_133 (dk_at dksX0_winter_0 10 rfl rfl)
theorem dX0_winter_11 : decode cX0_winter 11 = .ok (.lastore, 1) := dk_80 (dk_at dksX0_winter_0 11 rfl rfl)
theorem dX0_winter_12 : decode cX0_winter 12 = .ok (.goto 11, 3) := dk_167 0 11 (dk_at dksX0_winter_0 12 rfl rfl)
theorem dX0_winter_15 : decode cX0_winter 15 = .ok (.astore 5, 2) := dk_58 5 (dk_at dksX0_winter_0 15 rfl rfl)
theorem dX0_winter_17 : decode cX0_winter 17 = .ok (.iconst 1, 1) := dk_4 (dk_at dksX0_winter_0 17 rfl rfl)
theorem dX0_winter_18 : decode cX0_winter 18 = .ok (.ireturn, 1) := dk_172 (dk_at dksX0_winter_0 18 rfl rfl)
theorem dX0_winter_19 : decode cX0_winter 19 = .ok (.astore 5, 2) := dk_58 5 (dk_at dksX0_winter_0 19 rfl rfl)
theorem dX0_winter_21 : decode cX0_winter 21 = .ok (.iconst 2, 1) := dk_5 (dk_at dksX0_winter_0 21 rfl rfl)
theorem dX0_winter_22 : decode cX0_winter 22 = .ok (.ireturn, 1) := dk_172 (dk_at dksX0_winter_0 22 rfl rfl)
theorem dX0_winter_23 : decode cX0_winter 23 = .ok (.iconst 0, 1) := dk_3 (dk_at dksX0_winter_0 23 rfl rfl)
theorem dX0_winter_24 : decode cX0_winter 24 = .ok (.ireturn, 1) := dk_172 (dk_at dksX0_winter_1 0 rfl rfl)
theorem q104 : (Jvm.Cond.initialized "SableCrownLaw") ∈ lw_all := lw_g (lw_at lw_m1 0 rfl) rfl
theorem q145 : (Jvm.Cond.classLink "SableCrownLaw" (8 : Nat) "SableCrown") ∈ lw_all := lw_g (lw_at lw_m1 41 rfl) rfl
theorem q147 : (Jvm.Cond.methodLink "SableCrownLaw" (101 : Nat) ({ cls := "SableCrown", name := "<init>", desc := "()V" } : Jvm.MethodName)) ∈ lw_all := lw_g (lw_at lw_m1 43 rfl) rfl
theorem q770 : (Jvm.Cond.methodLink "SableCrownLaw" (105 : Nat) ({ cls := "SableCrown", name := "feed", desc := "(IIIII)I" } : Jvm.MethodName)) ∈ lw_all := lw_g (lw_at lw_m3 186 rfl) rfl
theorem q778 : (Jvm.Cond.methodLink "SableCrownLaw" (119 : Nat) ({ cls := "SableCrown", name := "fault", desc := "()I" } : Jvm.MethodName)) ∈ lw_all := lw_g (lw_at lw_m3 194 rfl) rfl
theorem q782 : (Jvm.Cond.methodLink "SableCrownLaw" (133 : Nat) ({ cls := "SableCrown", name := "years", desc := "(I)I" } : Jvm.MethodName)) ∈ lw_all := lw_g (lw_at lw_m3 198 rfl) rfl
theorem q913 : (Jvm.Cond.methodLink "SableCrownLaw" (152 : Nat) ({ cls := "SableCrown", name := "undo", desc := "()I" } : Jvm.MethodName)) ∈ lw_all := lw_g (lw_at lw_m4 89 rfl) rfl
theorem q919 : (Jvm.Cond.methodLink "SableCrownLaw" (171 : Nat) ({ cls := "SableCrown", name := "blackest", desc := "()I" } : Jvm.MethodName)) ∈ lw_all := lw_g (lw_at lw_m4 95 rfl) rfl
theorem q928 : (Jvm.Cond.methodLink "SableCrownLaw" (212 : Nat) ({ cls := "SableCrown", name := "forget", desc := "()V" } : Jvm.MethodName)) ∈ lw_all := lw_g (lw_at lw_m4 104 rfl) rfl
theorem q932 : (Jvm.Cond.methodLink "SableCrownLaw" (223 : Nat) ({ cls := "SableCrown", name := "image", desc := "()V" } : Jvm.MethodName)) ∈ lw_all := lw_g (lw_at lw_m4 108 rfl) rfl
theorem q941 : (Jvm.Cond.methodLink "SableCrownLaw" (227 : Nat) ({ cls := "SableCrown", name := "restore", desc := "()Z" } : Jvm.MethodName)) ∈ lw_all := lw_g (lw_at lw_m4 117 rfl) rfl
theorem q945 : (Jvm.Cond.methodLink "SableCrownLaw" (109 : Nat) ({ cls := "SableCrownLaw", name := "land", desc := "(LSableCrown;I[J)I" } : Jvm.MethodName)) ∈ lw_all := lw_g (lw_at lw_m4 121 rfl) rfl
theorem q946 : (Jvm.Cond.static ({ cls := "SableCrownLaw", name := "land", desc := "(LSableCrown;I[J)I" } : Jvm.MethodName)) ∈ lw_all := lw_g (lw_at lw_m4 122 rfl) rfl
theorem q947 : (Jvm.Cond.codeWith ({ cls := "SableCrownLaw", name := "land", desc := "(LSableCrown;I[J)I" } : Jvm.MethodName) method_3_code (4 : Nat) (Option.some Jvm.ClassFile.FieldType.int) [((0 : Nat), (9 : Nat), (12 : Nat), (13 : Nat))]) ∈ lw_all := lw_g (lw_at lw_m4 123 rfl) rfl
theorem q948 : (Jvm.Cond.classLink "SableCrownLaw" (13 : Nat) "java/lang/IllegalArgumentException") ∈ lw_all := lw_g (lw_at lw_m4 124 rfl) rfl
theorem q949 : (Jvm.Cond.methodLink "SableCrownLaw" (7 : Nat) ({ cls := "SableCrown", name := "land", desc := "(I)I" } : Jvm.MethodName)) ∈ lw_all := lw_g (lw_at lw_m4 125 rfl) rfl
theorem q1359 : (Jvm.Cond.methodLink "SableCrownLaw" (123 : Nat) ({ cls := "SableCrownLaw", name := "count", desc := "(LSableCrown;I[J)I" } : Jvm.MethodName)) ∈ lw_all := lw_g (lw_at lw_m6 55 rfl) rfl
theorem q1360 : (Jvm.Cond.static ({ cls := "SableCrownLaw", name := "count", desc := "(LSableCrown;I[J)I" } : Jvm.MethodName)) ∈ lw_all := lw_g (lw_at lw_m6 56 rfl) rfl
theorem q1361 : (Jvm.Cond.codeWith ({ cls := "SableCrownLaw", name := "count", desc := "(LSableCrown;I[J)I" } : Jvm.MethodName) method_4_code (4 : Nat) (Option.some Jvm.ClassFile.FieldType.int) [((0 : Nat), (9 : Nat), (12 : Nat), (18 : Nat))]) ∈ lw_all := lw_g (lw_at lw_m6 57 rfl) rfl
theorem q1362 : (Jvm.Cond.classLink "SableCrownLaw" (18 : Nat) "java/util/NoSuchElementException") ∈ lw_all := lw_g (lw_at lw_m6 58 rfl) rfl
theorem q1363 : (Jvm.Cond.methodLink "SableCrownLaw" (15 : Nat) ({ cls := "SableCrown", name := "count", desc := "(I)I" } : Jvm.MethodName)) ∈ lw_all := lw_g (lw_at lw_m6 59 rfl) rfl
theorem q1393 : (Jvm.Cond.methodLink "SableCrownLaw" (126 : Nat) ({ cls := "SableCrownLaw", name := "forest", desc := "(LSableCrown;II[J)I" } : Jvm.MethodName)) ∈ lw_all := lw_g (lw_at lw_m6 89 rfl) rfl
theorem q1394 : (Jvm.Cond.static ({ cls := "SableCrownLaw", name := "forest", desc := "(LSableCrown;II[J)I" } : Jvm.MethodName)) ∈ lw_all := lw_g (lw_at lw_m6 90 rfl) rfl
theorem q1395 : (Jvm.Cond.codeWith ({ cls := "SableCrownLaw", name := "forest", desc := "(LSableCrown;II[J)I" } : Jvm.MethodName) method_5_code (5 : Nat) (Option.some Jvm.ClassFile.FieldType.int) [((0 : Nat), (10 : Nat), (13 : Nat), (18 : Nat))]) ∈ lw_all := lw_g (lw_at lw_m6 91 rfl) rfl
theorem q1396 : (Jvm.Cond.methodLink "SableCrownLaw" (20 : Nat) ({ cls := "SableCrown", name := "forest", desc := "(II)I" } : Jvm.MethodName)) ∈ lw_all := lw_g (lw_at lw_m6 92 rfl) rfl
theorem q1414 : (Jvm.Cond.methodLink "SableCrownLaw" (130 : Nat) ({ cls := "SableCrownLaw", name := "band", desc := "(LSableCrown;II[J)I" } : Jvm.MethodName)) ∈ lw_all := lw_g (lw_at lw_m6 110 rfl) rfl
theorem q1415 : (Jvm.Cond.static ({ cls := "SableCrownLaw", name := "band", desc := "(LSableCrown;II[J)I" } : Jvm.MethodName)) ∈ lw_all := lw_g (lw_at lw_m6 111 rfl) rfl
theorem q1416 : (Jvm.Cond.codeWith ({ cls := "SableCrownLaw", name := "band", desc := "(LSableCrown;II[J)I" } : Jvm.MethodName) method_6_code (5 : Nat) (Option.some Jvm.ClassFile.FieldType.int) [((0 : Nat), (10 : Nat), (13 : Nat), (18 : Nat))]) ∈ lw_all := lw_g (lw_at lw_m6 112 rfl) rfl
theorem q1417 : (Jvm.Cond.methodLink "SableCrownLaw" (24 : Nat) ({ cls := "SableCrown", name := "band", desc := "(II)I" } : Jvm.MethodName)) ∈ lw_all := lw_g (lw_at lw_m6 113 rfl) rfl
theorem q1426 : (Jvm.Cond.methodLink "SableCrownLaw" (137 : Nat) ({ cls := "SableCrownLaw", name := "move", desc := "(LSableCrown;II[J)I" } : Jvm.MethodName)) ∈ lw_all := lw_g (lw_at lw_m6 122 rfl) rfl
theorem q1427 : (Jvm.Cond.static ({ cls := "SableCrownLaw", name := "move", desc := "(LSableCrown;II[J)I" } : Jvm.MethodName)) ∈ lw_all := lw_g (lw_at lw_m6 123 rfl) rfl
theorem q1428 : (Jvm.Cond.codeWith ({ cls := "SableCrownLaw", name := "move", desc := "(LSableCrown;II[J)I" } : Jvm.MethodName) method_7_code (5 : Nat) (Option.some Jvm.ClassFile.FieldType.int) [((0 : Nat), (10 : Nat), (13 : Nat), (18 : Nat))]) ∈ lw_all := lw_g (lw_at lw_m6 124 rfl) rfl
theorem q1429 : (Jvm.Cond.methodLink "SableCrownLaw" (27 : Nat) ({ cls := "SableCrown", name := "move", desc := "(II)I" } : Jvm.MethodName)) ∈ lw_all := lw_g (lw_at lw_m6 125 rfl) rfl
theorem q1433 : (Jvm.Cond.methodLink "SableCrownLaw" (140 : Nat) ({ cls := "SableCrownLaw", name := "bows", desc := "(LSableCrown;II[J)I" } : Jvm.MethodName)) ∈ lw_all := lw_g (lw_at lw_m6 129 rfl) rfl
theorem q1434 : (Jvm.Cond.static ({ cls := "SableCrownLaw", name := "bows", desc := "(LSableCrown;II[J)I" } : Jvm.MethodName)) ∈ lw_all := lw_g (lw_at lw_m6 130 rfl) rfl
theorem q1435 : (Jvm.Cond.codeWith ({ cls := "SableCrownLaw", name := "bows", desc := "(LSableCrown;II[J)I" } : Jvm.MethodName) method_8_code (5 : Nat) (Option.some Jvm.ClassFile.FieldType.int) [((0 : Nat), (10 : Nat), (13 : Nat), (18 : Nat))]) ∈ lw_all := lw_g (lw_at lw_m6 131 rfl) rfl
theorem q1436 : (Jvm.Cond.methodLink "SableCrownLaw" (30 : Nat) ({ cls := "SableCrown", name := "bows", desc := "(II)I" } : Jvm.MethodName)) ∈ lw_all := lw_g (lw_at lw_m6 132 rfl) rfl
theorem q1440 : (Jvm.Cond.methodLink "SableCrownLaw" (143 : Nat) ({ cls := "SableCrownLaw", name := "rest", desc := "(LSableCrown;II[J)I" } : Jvm.MethodName)) ∈ lw_all := lw_g (lw_at lw_m6 136 rfl) rfl
theorem q1441 : (Jvm.Cond.static ({ cls := "SableCrownLaw", name := "rest", desc := "(LSableCrown;II[J)I" } : Jvm.MethodName)) ∈ lw_all := lw_g (lw_at lw_m6 137 rfl) rfl
theorem q1442 : (Jvm.Cond.codeWith ({ cls := "SableCrownLaw", name := "rest", desc := "(LSableCrown;II[J)I" } : Jvm.MethodName) method_9_code (5 : Nat) (Option.some Jvm.ClassFile.FieldType.int) [((0 : Nat), (10 : Nat), (13 : Nat), (18 : Nat))]) ∈ lw_all := lw_g (lw_at lw_m6 138 rfl) rfl
theorem q1443 : (Jvm.Cond.methodLink "SableCrownLaw" (33 : Nat) ({ cls := "SableCrown", name := "rest", desc := "(II)I" } : Jvm.MethodName)) ∈ lw_all := lw_g (lw_at lw_m6 139 rfl) rfl
theorem q1447 : (Jvm.Cond.methodLink "SableCrownLaw" (146 : Nat) ({ cls := "SableCrownLaw", name := "dye", desc := "(LSableCrown;II[J)I" } : Jvm.MethodName)) ∈ lw_all := lw_g (lw_at lw_m6 143 rfl) rfl
theorem q1448 : (Jvm.Cond.static ({ cls := "SableCrownLaw", name := "dye", desc := "(LSableCrown;II[J)I" } : Jvm.MethodName)) ∈ lw_all := lw_g (lw_at lw_m6 144 rfl) rfl
theorem q1449 : (Jvm.Cond.codeWith ({ cls := "SableCrownLaw", name := "dye", desc := "(LSableCrown;II[J)I" } : Jvm.MethodName) method_10_code (5 : Nat) (Option.some Jvm.ClassFile.FieldType.int) [((0 : Nat), (10 : Nat), (13 : Nat), (18 : Nat))]) ∈ lw_all := lw_g (lw_at lw_m6 145 rfl) rfl
theorem q1450 : (Jvm.Cond.methodLink "SableCrownLaw" (36 : Nat) ({ cls := "SableCrown", name := "dye", desc := "(II)I" } : Jvm.MethodName)) ∈ lw_all := lw_g (lw_at lw_m6 146 rfl) rfl
theorem q1455 : (Jvm.Cond.methodLink "SableCrownLaw" (149 : Nat) ({ cls := "SableCrownLaw", name := "forgive", desc := "(LSableCrown;I[J)I" } : Jvm.MethodName)) ∈ lw_all := lw_g (lw_at lw_m6 151 rfl) rfl
theorem q1456 : (Jvm.Cond.static ({ cls := "SableCrownLaw", name := "forgive", desc := "(LSableCrown;I[J)I" } : Jvm.MethodName)) ∈ lw_all := lw_g (lw_at lw_m6 152 rfl) rfl
theorem q1457 : (Jvm.Cond.codeWith ({ cls := "SableCrownLaw", name := "forgive", desc := "(LSableCrown;I[J)I" } : Jvm.MethodName) method_11_code (4 : Nat) (Option.some Jvm.ClassFile.FieldType.int) [((0 : Nat), (9 : Nat), (12 : Nat), (18 : Nat))]) ∈ lw_all := lw_g (lw_at lw_m6 153 rfl) rfl
theorem q1458 : (Jvm.Cond.methodLink "SableCrownLaw" (39 : Nat) ({ cls := "SableCrown", name := "forgive", desc := "(I)I" } : Jvm.MethodName)) ∈ lw_all := lw_g (lw_at lw_m6 154 rfl) rfl
theorem q1462 : (Jvm.Cond.methodLink "SableCrownLaw" (156 : Nat) ({ cls := "SableCrownLaw", name := "then", desc := "(LSableCrown;II[J)I" } : Jvm.MethodName)) ∈ lw_all := lw_g (lw_at lw_m6 158 rfl) rfl
theorem q1463 : (Jvm.Cond.static ({ cls := "SableCrownLaw", name := "then", desc := "(LSableCrown;II[J)I" } : Jvm.MethodName)) ∈ lw_all := lw_g (lw_at lw_m6 159 rfl) rfl
theorem q1464 : (Jvm.Cond.codeWith ({ cls := "SableCrownLaw", name := "then", desc := "(LSableCrown;II[J)I" } : Jvm.MethodName) method_12_code (5 : Nat) (Option.some Jvm.ClassFile.FieldType.int) [((0 : Nat), (10 : Nat), (13 : Nat), (18 : Nat)), ((0 : Nat), (10 : Nat), (17 : Nat), (13 : Nat))]) ∈ lw_all := lw_g (lw_at lw_m6 160 rfl) rfl
theorem q1465 : (Jvm.Cond.methodLink "SableCrownLaw" (42 : Nat) ({ cls := "SableCrown", name := "then", desc := "(II)I" } : Jvm.MethodName)) ∈ lw_all := lw_g (lw_at lw_m6 161 rfl) rfl
theorem q1473 : (Jvm.Cond.methodLink "SableCrownLaw" (159 : Nat) ({ cls := "SableCrownLaw", name := "empty", desc := "(LSableCrown;I[J)I" } : Jvm.MethodName)) ∈ lw_all := lw_g (lw_at lw_m6 169 rfl) rfl
theorem q1474 : (Jvm.Cond.static ({ cls := "SableCrownLaw", name := "empty", desc := "(LSableCrown;I[J)I" } : Jvm.MethodName)) ∈ lw_all := lw_g (lw_at lw_m6 170 rfl) rfl
theorem q1475 : (Jvm.Cond.codeWith ({ cls := "SableCrownLaw", name := "empty", desc := "(LSableCrown;I[J)I" } : Jvm.MethodName) method_13_code (4 : Nat) (Option.some Jvm.ClassFile.FieldType.int) [((0 : Nat), (9 : Nat), (12 : Nat), (18 : Nat))]) ∈ lw_all := lw_g (lw_at lw_m6 171 rfl) rfl
theorem q1476 : (Jvm.Cond.methodLink "SableCrownLaw" (45 : Nat) ({ cls := "SableCrown", name := "empty", desc := "(I)I" } : Jvm.MethodName)) ∈ lw_all := lw_g (lw_at lw_m6 172 rfl) rfl
theorem q1480 : (Jvm.Cond.methodLink "SableCrownLaw" (162 : Nat) ({ cls := "SableCrownLaw", name := "paid", desc := "(LSableCrown;II[J)I" } : Jvm.MethodName)) ∈ lw_all := lw_g (lw_at lw_m6 176 rfl) rfl
theorem q1481 : (Jvm.Cond.static ({ cls := "SableCrownLaw", name := "paid", desc := "(LSableCrown;II[J)I" } : Jvm.MethodName)) ∈ lw_all := lw_g (lw_at lw_m6 177 rfl) rfl
theorem q1482 : (Jvm.Cond.codeWith ({ cls := "SableCrownLaw", name := "paid", desc := "(LSableCrown;II[J)I" } : Jvm.MethodName) method_14_code (5 : Nat) (Option.some Jvm.ClassFile.FieldType.int) [((0 : Nat), (10 : Nat), (13 : Nat), (18 : Nat)), ((0 : Nat), (10 : Nat), (17 : Nat), (13 : Nat))]) ∈ lw_all := lw_g (lw_at lw_m6 178 rfl) rfl
theorem q1483 : (Jvm.Cond.methodLink "SableCrownLaw" (48 : Nat) ({ cls := "SableCrown", name := "paid", desc := "(II)I" } : Jvm.MethodName)) ∈ lw_all := lw_g (lw_at lw_m6 179 rfl) rfl
theorem q1487 : (Jvm.Cond.methodLink "SableCrownLaw" (165 : Nat) ({ cls := "SableCrownLaw", name := "hostages", desc := "(LSableCrown;I[J)I" } : Jvm.MethodName)) ∈ lw_all := lw_g (lw_at lw_m6 183 rfl) rfl
theorem q1488 : (Jvm.Cond.static ({ cls := "SableCrownLaw", name := "hostages", desc := "(LSableCrown;I[J)I" } : Jvm.MethodName)) ∈ lw_all := lw_g (lw_at lw_m6 184 rfl) rfl
theorem q1489 : (Jvm.Cond.codeWith ({ cls := "SableCrownLaw", name := "hostages", desc := "(LSableCrown;I[J)I" } : Jvm.MethodName) method_15_code (4 : Nat) (Option.some Jvm.ClassFile.FieldType.int) [((0 : Nat), (9 : Nat), (12 : Nat), (13 : Nat))]) ∈ lw_all := lw_g (lw_at lw_m6 185 rfl) rfl
theorem q1490 : (Jvm.Cond.methodLink "SableCrownLaw" (51 : Nat) ({ cls := "SableCrown", name := "hostages", desc := "(I)I" } : Jvm.MethodName)) ∈ lw_all := lw_g (lw_at lw_m6 186 rfl) rfl
theorem q1498 : (Jvm.Cond.methodLink "SableCrownLaw" (168 : Nat) ({ cls := "SableCrownLaw", name := "owing", desc := "(LSableCrown;I[J)I" } : Jvm.MethodName)) ∈ lw_all := lw_g (lw_at lw_m6 194 rfl) rfl
theorem q1499 : (Jvm.Cond.static ({ cls := "SableCrownLaw", name := "owing", desc := "(LSableCrown;I[J)I" } : Jvm.MethodName)) ∈ lw_all := lw_g (lw_at lw_m6 195 rfl) rfl
theorem q1500 : (Jvm.Cond.codeWith ({ cls := "SableCrownLaw", name := "owing", desc := "(LSableCrown;I[J)I" } : Jvm.MethodName) method_16_code (4 : Nat) (Option.some Jvm.ClassFile.FieldType.int) [((0 : Nat), (9 : Nat), (12 : Nat), (13 : Nat))]) ∈ lw_all := lw_g (lw_at lw_m6 196 rfl) rfl
theorem q1501 : (Jvm.Cond.methodLink "SableCrownLaw" (54 : Nat) ({ cls := "SableCrown", name := "owing", desc := "(I)I" } : Jvm.MethodName)) ∈ lw_all := lw_g (lw_at lw_m6 197 rfl) rfl
theorem q1505 : (Jvm.Cond.methodLink "SableCrownLaw" (175 : Nat) ({ cls := "SableCrownLaw", name := "lastBlack", desc := "(LSableCrown;I[J)I" } : Jvm.MethodName)) ∈ lw_all := lw_g (lw_at lw_m6 201 rfl) rfl
theorem q1506 : (Jvm.Cond.static ({ cls := "SableCrownLaw", name := "lastBlack", desc := "(LSableCrown;I[J)I" } : Jvm.MethodName)) ∈ lw_all := lw_g (lw_at lw_m6 202 rfl) rfl
theorem q1507 : (Jvm.Cond.codeWith ({ cls := "SableCrownLaw", name := "lastBlack", desc := "(LSableCrown;I[J)I" } : Jvm.MethodName) method_17_code (4 : Nat) (Option.some Jvm.ClassFile.FieldType.int) [((0 : Nat), (9 : Nat), (12 : Nat), (18 : Nat))]) ∈ lw_all := lw_g (lw_at lw_m6 203 rfl) rfl
theorem q1508 : (Jvm.Cond.methodLink "SableCrownLaw" (57 : Nat) ({ cls := "SableCrown", name := "lastBlack", desc := "(I)I" } : Jvm.MethodName)) ∈ lw_all := lw_g (lw_at lw_m6 204 rfl) rfl
theorem q1512 : (Jvm.Cond.methodLink "SableCrownLaw" (178 : Nat) ({ cls := "SableCrownLaw", name := "forEver", desc := "(LSableCrown;I[J)I" } : Jvm.MethodName)) ∈ lw_all := lw_g (lw_at lw_m6 208 rfl) rfl
theorem q1513 : (Jvm.Cond.static ({ cls := "SableCrownLaw", name := "forEver", desc := "(LSableCrown;I[J)I" } : Jvm.MethodName)) ∈ lw_all := lw_g (lw_at lw_m6 209 rfl) rfl
theorem q1514 : (Jvm.Cond.codeWith ({ cls := "SableCrownLaw", name := "forEver", desc := "(LSableCrown;I[J)I" } : Jvm.MethodName) method_18_code (4 : Nat) (Option.some Jvm.ClassFile.FieldType.int) [((0 : Nat), (9 : Nat), (12 : Nat), (18 : Nat))]) ∈ lw_all := lw_g (lw_at lw_m6 210 rfl) rfl
theorem q1515 : (Jvm.Cond.methodLink "SableCrownLaw" (60 : Nat) ({ cls := "SableCrown", name := "forEver", desc := "(I)I" } : Jvm.MethodName)) ∈ lw_all := lw_g (lw_at lw_m6 211 rfl) rfl
theorem q1524 : (Jvm.Cond.methodLink "SableCrownLaw" (181 : Nat) ({ cls := "SableCrownLaw", name := "resting", desc := "(LSableCrown;II[J)I" } : Jvm.MethodName)) ∈ lw_all := lw_g (lw_at lw_m6 220 rfl) rfl
theorem q1525 : (Jvm.Cond.static ({ cls := "SableCrownLaw", name := "resting", desc := "(LSableCrown;II[J)I" } : Jvm.MethodName)) ∈ lw_all := lw_g (lw_at lw_m6 221 rfl) rfl
theorem q1526 : (Jvm.Cond.codeWith ({ cls := "SableCrownLaw", name := "resting", desc := "(LSableCrown;II[J)I" } : Jvm.MethodName) method_19_code (5 : Nat) (Option.some Jvm.ClassFile.FieldType.int) [((0 : Nat), (10 : Nat), (13 : Nat), (18 : Nat)), ((0 : Nat), (10 : Nat), (17 : Nat), (13 : Nat))]) ∈ lw_all := lw_g (lw_at lw_m6 222 rfl) rfl
theorem q1527 : (Jvm.Cond.methodLink "SableCrownLaw" (63 : Nat) ({ cls := "SableCrown", name := "resting", desc := "(II)I" } : Jvm.MethodName)) ∈ lw_all := lw_g (lw_at lw_m6 223 rfl) rfl
theorem q1531 : (Jvm.Cond.methodLink "SableCrownLaw" (184 : Nat) ({ cls := "SableCrownLaw", name := "far", desc := "(LSableCrown;II[J)I" } : Jvm.MethodName)) ∈ lw_all := lw_g (lw_at lw_m6 227 rfl) rfl
theorem q1532 : (Jvm.Cond.static ({ cls := "SableCrownLaw", name := "far", desc := "(LSableCrown;II[J)I" } : Jvm.MethodName)) ∈ lw_all := lw_g (lw_at lw_m6 228 rfl) rfl
theorem q1533 : (Jvm.Cond.codeWith ({ cls := "SableCrownLaw", name := "far", desc := "(LSableCrown;II[J)I" } : Jvm.MethodName) method_20_code (5 : Nat) (Option.some Jvm.ClassFile.FieldType.int) [((0 : Nat), (10 : Nat), (13 : Nat), (18 : Nat))]) ∈ lw_all := lw_g (lw_at lw_m6 229 rfl) rfl
theorem q1534 : (Jvm.Cond.methodLink "SableCrownLaw" (66 : Nat) ({ cls := "SableCrown", name := "far", desc := "(II)I" } : Jvm.MethodName)) ∈ lw_all := lw_g (lw_at lw_m6 230 rfl) rfl
theorem q1543 : (Jvm.Cond.methodLink "SableCrownLaw" (187 : Nat) ({ cls := "SableCrownLaw", name := "round", desc := "(LSableCrown;I[J)I" } : Jvm.MethodName)) ∈ lw_all := lw_g (lw_at lw_m6 239 rfl) rfl
theorem q1544 : (Jvm.Cond.static ({ cls := "SableCrownLaw", name := "round", desc := "(LSableCrown;I[J)I" } : Jvm.MethodName)) ∈ lw_all := lw_g (lw_at lw_m7 0 rfl) rfl
theorem q1545 : (Jvm.Cond.codeWith ({ cls := "SableCrownLaw", name := "round", desc := "(LSableCrown;I[J)I" } : Jvm.MethodName) method_21_code (4 : Nat) (Option.some Jvm.ClassFile.FieldType.int) [((0 : Nat), (9 : Nat), (12 : Nat), (18 : Nat))]) ∈ lw_all := lw_g (lw_at lw_m7 1 rfl) rfl
theorem q1546 : (Jvm.Cond.methodLink "SableCrownLaw" (69 : Nat) ({ cls := "SableCrown", name := "round", desc := "(I)I" } : Jvm.MethodName)) ∈ lw_all := lw_g (lw_at lw_m7 2 rfl) rfl
theorem q1564 : (Jvm.Cond.methodLink "SableCrownLaw" (190 : Nat) ({ cls := "SableCrownLaw", name := "first", desc := "(LSableCrown;I[J)I" } : Jvm.MethodName)) ∈ lw_all := lw_g (lw_at lw_m7 20 rfl) rfl
theorem q1565 : (Jvm.Cond.static ({ cls := "SableCrownLaw", name := "first", desc := "(LSableCrown;I[J)I" } : Jvm.MethodName)) ∈ lw_all := lw_g (lw_at lw_m7 21 rfl) rfl
theorem q1566 : (Jvm.Cond.codeWith ({ cls := "SableCrownLaw", name := "first", desc := "(LSableCrown;I[J)I" } : Jvm.MethodName) method_22_code (4 : Nat) (Option.some Jvm.ClassFile.FieldType.int) [((0 : Nat), (9 : Nat), (12 : Nat), (18 : Nat))]) ∈ lw_all := lw_g (lw_at lw_m7 22 rfl) rfl
theorem q1567 : (Jvm.Cond.methodLink "SableCrownLaw" (72 : Nat) ({ cls := "SableCrown", name := "first", desc := "(I)I" } : Jvm.MethodName)) ∈ lw_all := lw_g (lw_at lw_m7 23 rfl) rfl
theorem q1571 : (Jvm.Cond.methodLink "SableCrownLaw" (193 : Nat) ({ cls := "SableCrownLaw", name := "meeting", desc := "(LSableCrown;III[J)I" } : Jvm.MethodName)) ∈ lw_all := lw_g (lw_at lw_m7 27 rfl) rfl
theorem q1572 : (Jvm.Cond.static ({ cls := "SableCrownLaw", name := "meeting", desc := "(LSableCrown;III[J)I" } : Jvm.MethodName)) ∈ lw_all := lw_g (lw_at lw_m7 28 rfl) rfl
theorem q1573 : (Jvm.Cond.codeWith ({ cls := "SableCrownLaw", name := "meeting", desc := "(LSableCrown;III[J)I" } : Jvm.MethodName) method_23_code (6 : Nat) (Option.some Jvm.ClassFile.FieldType.int) [((0 : Nat), (12 : Nat), (15 : Nat), (18 : Nat))]) ∈ lw_all := lw_g (lw_at lw_m7 29 rfl) rfl
theorem q1574 : (Jvm.Cond.methodLink "SableCrownLaw" (75 : Nat) ({ cls := "SableCrown", name := "meeting", desc := "(III)I" } : Jvm.MethodName)) ∈ lw_all := lw_g (lw_at lw_m7 30 rfl) rfl
theorem q1579 : (Jvm.Cond.methodLink "SableCrownLaw" (197 : Nat) ({ cls := "SableCrownLaw", name := "where", desc := "(LSableCrown;III[J)I" } : Jvm.MethodName)) ∈ lw_all := lw_g (lw_at lw_m7 35 rfl) rfl
theorem q1580 : (Jvm.Cond.static ({ cls := "SableCrownLaw", name := "where", desc := "(LSableCrown;III[J)I" } : Jvm.MethodName)) ∈ lw_all := lw_g (lw_at lw_m7 36 rfl) rfl
theorem q1581 : (Jvm.Cond.codeWith ({ cls := "SableCrownLaw", name := "where", desc := "(LSableCrown;III[J)I" } : Jvm.MethodName) method_24_code (6 : Nat) (Option.some Jvm.ClassFile.FieldType.int) [((0 : Nat), (12 : Nat), (15 : Nat), (18 : Nat)), ((0 : Nat), (12 : Nat), (19 : Nat), (13 : Nat))]) ∈ lw_all := lw_g (lw_at lw_m7 37 rfl) rfl
theorem q1582 : (Jvm.Cond.methodLink "SableCrownLaw" (79 : Nat) ({ cls := "SableCrown", name := "where", desc := "(III)I" } : Jvm.MethodName)) ∈ lw_all := lw_g (lw_at lw_m7 38 rfl) rfl
theorem q1590 : (Jvm.Cond.methodLink "SableCrownLaw" (200 : Nat) ({ cls := "SableCrownLaw", name := "counted", desc := "(LSableCrown;II[J)I" } : Jvm.MethodName)) ∈ lw_all := lw_g (lw_at lw_m7 46 rfl) rfl
theorem q1591 : (Jvm.Cond.static ({ cls := "SableCrownLaw", name := "counted", desc := "(LSableCrown;II[J)I" } : Jvm.MethodName)) ∈ lw_all := lw_g (lw_at lw_m7 47 rfl) rfl
theorem q1592 : (Jvm.Cond.codeWith ({ cls := "SableCrownLaw", name := "counted", desc := "(LSableCrown;II[J)I" } : Jvm.MethodName) method_25_code (5 : Nat) (Option.some Jvm.ClassFile.FieldType.int) [((0 : Nat), (10 : Nat), (13 : Nat), (18 : Nat)), ((0 : Nat), (10 : Nat), (17 : Nat), (13 : Nat))]) ∈ lw_all := lw_g (lw_at lw_m7 48 rfl) rfl
theorem q1593 : (Jvm.Cond.methodLink "SableCrownLaw" (82 : Nat) ({ cls := "SableCrown", name := "counted", desc := "(II)I" } : Jvm.MethodName)) ∈ lw_all := lw_g (lw_at lw_m7 49 rfl) rfl
theorem q1597 : (Jvm.Cond.methodLink "SableCrownLaw" (203 : Nat) ({ cls := "SableCrownLaw", name := "spy", desc := "(LSableCrown;III[J)I" } : Jvm.MethodName)) ∈ lw_all := lw_g (lw_at lw_m7 53 rfl) rfl
theorem q1598 : (Jvm.Cond.static ({ cls := "SableCrownLaw", name := "spy", desc := "(LSableCrown;III[J)I" } : Jvm.MethodName)) ∈ lw_all := lw_g (lw_at lw_m7 54 rfl) rfl
theorem q1599 : (Jvm.Cond.codeWith ({ cls := "SableCrownLaw", name := "spy", desc := "(LSableCrown;III[J)I" } : Jvm.MethodName) method_26_code (6 : Nat) (Option.some Jvm.ClassFile.FieldType.int) [((0 : Nat), (12 : Nat), (15 : Nat), (18 : Nat))]) ∈ lw_all := lw_g (lw_at lw_m7 55 rfl) rfl
theorem q1600 : (Jvm.Cond.methodLink "SableCrownLaw" (85 : Nat) ({ cls := "SableCrown", name := "spy", desc := "(III)I" } : Jvm.MethodName)) ∈ lw_all := lw_g (lw_at lw_m7 56 rfl) rfl
theorem q1604 : (Jvm.Cond.methodLink "SableCrownLaw" (206 : Nat) ({ cls := "SableCrownLaw", name := "hidden", desc := "(LSableCrown;I[J)I" } : Jvm.MethodName)) ∈ lw_all := lw_g (lw_at lw_m7 60 rfl) rfl
theorem q1605 : (Jvm.Cond.static ({ cls := "SableCrownLaw", name := "hidden", desc := "(LSableCrown;I[J)I" } : Jvm.MethodName)) ∈ lw_all := lw_g (lw_at lw_m7 61 rfl) rfl
theorem q1606 : (Jvm.Cond.codeWith ({ cls := "SableCrownLaw", name := "hidden", desc := "(LSableCrown;I[J)I" } : Jvm.MethodName) method_27_code (4 : Nat) (Option.some Jvm.ClassFile.FieldType.int) [((0 : Nat), (9 : Nat), (12 : Nat), (18 : Nat))]) ∈ lw_all := lw_g (lw_at lw_m7 62 rfl) rfl
theorem q1607 : (Jvm.Cond.methodLink "SableCrownLaw" (88 : Nat) ({ cls := "SableCrown", name := "hidden", desc := "(I)I" } : Jvm.MethodName)) ∈ lw_all := lw_g (lw_at lw_m7 63 rfl) rfl
theorem q1623 : (Jvm.Cond.methodLink "SableCrownLaw" (209 : Nat) ({ cls := "SableCrownLaw", name := "look", desc := "(LSableCrown;I[J)I" } : Jvm.MethodName)) ∈ lw_all := lw_g (lw_at lw_m7 79 rfl) rfl
theorem q1624 : (Jvm.Cond.static ({ cls := "SableCrownLaw", name := "look", desc := "(LSableCrown;I[J)I" } : Jvm.MethodName)) ∈ lw_all := lw_g (lw_at lw_m7 80 rfl) rfl
theorem q1625 : (Jvm.Cond.codeWith ({ cls := "SableCrownLaw", name := "look", desc := "(LSableCrown;I[J)I" } : Jvm.MethodName) method_28_code (4 : Nat) (Option.some Jvm.ClassFile.FieldType.int) [((0 : Nat), (9 : Nat), (12 : Nat), (18 : Nat))]) ∈ lw_all := lw_g (lw_at lw_m7 81 rfl) rfl
theorem q1626 : (Jvm.Cond.methodLink "SableCrownLaw" (91 : Nat) ({ cls := "SableCrown", name := "look", desc := "(I)I" } : Jvm.MethodName)) ∈ lw_all := lw_g (lw_at lw_m7 82 rfl) rfl
theorem q1635 : (Jvm.Cond.methodLink "SableCrownLaw" (216 : Nat) ({ cls := "SableCrownLaw", name := "game", desc := "(LSableCrown;IIIII[J)I" } : Jvm.MethodName)) ∈ lw_all := lw_g (lw_at lw_m7 91 rfl) rfl
theorem q1636 : (Jvm.Cond.static ({ cls := "SableCrownLaw", name := "game", desc := "(LSableCrown;IIIII[J)I" } : Jvm.MethodName)) ∈ lw_all := lw_g (lw_at lw_m7 92 rfl) rfl
theorem q1637 : (Jvm.Cond.codeWith ({ cls := "SableCrownLaw", name := "game", desc := "(LSableCrown;IIIII[J)I" } : Jvm.MethodName) method_29_code (8 : Nat) (Option.some Jvm.ClassFile.FieldType.int) [((0 : Nat), (16 : Nat), (19 : Nat), (18 : Nat)), ((0 : Nat), (16 : Nat), (23 : Nat), (13 : Nat))]) ∈ lw_all := lw_g (lw_at lw_m7 93 rfl) rfl
theorem q1638 : (Jvm.Cond.methodLink "SableCrownLaw" (94 : Nat) ({ cls := "SableCrown", name := "game", desc := "(IIIII)I" } : Jvm.MethodName)) ∈ lw_all := lw_g (lw_at lw_m7 94 rfl) rfl
theorem q1646 : (Jvm.Cond.methodLink "SableCrownLaw" (220 : Nat) ({ cls := "SableCrownLaw", name := "winter", desc := "(LSableCrown;III[J)I" } : Jvm.MethodName)) ∈ lw_all := lw_g (lw_at lw_m7 102 rfl) rfl
theorem q1647 : (Jvm.Cond.static ({ cls := "SableCrownLaw", name := "winter", desc := "(LSableCrown;III[J)I" } : Jvm.MethodName)) ∈ lw_all := lw_g (lw_at lw_m7 103 rfl) rfl
theorem q1648 : (Jvm.Cond.codeWith ({ cls := "SableCrownLaw", name := "winter", desc := "(LSableCrown;III[J)I" } : Jvm.MethodName) method_30_code (6 : Nat) (Option.some Jvm.ClassFile.FieldType.int) [((0 : Nat), (12 : Nat), (15 : Nat), (18 : Nat)), ((0 : Nat), (12 : Nat), (19 : Nat), (13 : Nat))]) ∈ lw_all := lw_g (lw_at lw_m7 104 rfl) rfl
theorem q1649 : (Jvm.Cond.methodLink "SableCrownLaw" (98 : Nat) ({ cls := "SableCrown", name := "winter", desc := "(III)I" } : Jvm.MethodName)) ∈ lw_all := lw_g (lw_at lw_m7 105 rfl) rfl
theorem q1662 : (Jvm.Cond.classLink "SableCrownLaw" (102 : Nat) "SableCrownModel") ∈ lw_all := lw_g (lw_at lw_m7 118 rfl) rfl
theorem q1664 : (Jvm.Cond.methodLink "SableCrownLaw" (104 : Nat) ({ cls := "SableCrownModel", name := "<init>", desc := "()V" } : Jvm.MethodName)) ∈ lw_all := lw_g (lw_at lw_m7 120 rfl) rfl
theorem q1867 : (Jvm.Cond.methodLink "SableCrownLaw" (115 : Nat) ({ cls := "SableCrownModel", name := "thrown", desc := "()I" } : Jvm.MethodName)) ∈ lw_all := lw_g (lw_at lw_m8 83 rfl) rfl
theorem q1871 : (Jvm.Cond.methodLink "SableCrownLaw" (108 : Nat) ({ cls := "SableCrownModel", name := "feed", desc := "(IIIII)I" } : Jvm.MethodName)) ∈ lw_all := lw_g (lw_at lw_m8 87 rfl) rfl
theorem q1875 : (Jvm.Cond.methodLink "SableCrownLaw" (114 : Nat) ({ cls := "SableCrownModel", name := "land", desc := "(I)I" } : Jvm.MethodName)) ∈ lw_all := lw_g (lw_at lw_m8 91 rfl) rfl
theorem q2010 : (Jvm.Cond.methodLink "SableCrownLaw" (122 : Nat) ({ cls := "SableCrownModel", name := "fault", desc := "()I" } : Jvm.MethodName)) ∈ lw_all := lw_g (lw_at lw_m8 226 rfl) rfl
theorem q2014 : (Jvm.Cond.methodLink "SableCrownLaw" (125 : Nat) ({ cls := "SableCrownModel", name := "count", desc := "(I)I" } : Jvm.MethodName)) ∈ lw_all := lw_g (lw_at lw_m8 230 rfl) rfl
theorem q2022 : (Jvm.Cond.methodLink "SableCrownLaw" (129 : Nat) ({ cls := "SableCrownModel", name := "forest", desc := "(II)I" } : Jvm.MethodName)) ∈ lw_all := lw_g (lw_at lw_m8 238 rfl) rfl
theorem q2041 : (Jvm.Cond.methodLink "SableCrownLaw" (132 : Nat) ({ cls := "SableCrownModel", name := "band", desc := "(II)I" } : Jvm.MethodName)) ∈ lw_all := lw_g (lw_at lw_m9 17 rfl) rfl
theorem q2068 : (Jvm.Cond.methodLink "SableCrownLaw" (136 : Nat) ({ cls := "SableCrownModel", name := "years", desc := "(I)I" } : Jvm.MethodName)) ∈ lw_all := lw_g (lw_at lw_m9 44 rfl) rfl
theorem q2109 : (Jvm.Cond.methodLink "SableCrownLaw" (139 : Nat) ({ cls := "SableCrownModel", name := "move", desc := "(II)I" } : Jvm.MethodName)) ∈ lw_all := lw_g (lw_at lw_m9 85 rfl) rfl
theorem q2113 : (Jvm.Cond.methodLink "SableCrownLaw" (142 : Nat) ({ cls := "SableCrownModel", name := "bows", desc := "(II)I" } : Jvm.MethodName)) ∈ lw_all := lw_g (lw_at lw_m9 89 rfl) rfl
theorem q2117 : (Jvm.Cond.methodLink "SableCrownLaw" (145 : Nat) ({ cls := "SableCrownModel", name := "rest", desc := "(II)I" } : Jvm.MethodName)) ∈ lw_all := lw_g (lw_at lw_m9 93 rfl) rfl
theorem q2122 : (Jvm.Cond.methodLink "SableCrownLaw" (148 : Nat) ({ cls := "SableCrownModel", name := "dye", desc := "(II)I" } : Jvm.MethodName)) ∈ lw_all := lw_g (lw_at lw_m9 98 rfl) rfl
theorem q2127 : (Jvm.Cond.methodLink "SableCrownLaw" (151 : Nat) ({ cls := "SableCrownModel", name := "forgive", desc := "(I)I" } : Jvm.MethodName)) ∈ lw_all := lw_g (lw_at lw_m9 103 rfl) rfl
theorem q2131 : (Jvm.Cond.methodLink "SableCrownLaw" (155 : Nat) ({ cls := "SableCrownModel", name := "undo", desc := "()I" } : Jvm.MethodName)) ∈ lw_all := lw_g (lw_at lw_m9 107 rfl) rfl
theorem q2139 : (Jvm.Cond.methodLink "SableCrownLaw" (158 : Nat) ({ cls := "SableCrownModel", name := "then", desc := "(II)I" } : Jvm.MethodName)) ∈ lw_all := lw_g (lw_at lw_m9 115 rfl) rfl
theorem q2143 : (Jvm.Cond.methodLink "SableCrownLaw" (161 : Nat) ({ cls := "SableCrownModel", name := "empty", desc := "(I)I" } : Jvm.MethodName)) ∈ lw_all := lw_g (lw_at lw_m9 119 rfl) rfl
theorem q2147 : (Jvm.Cond.methodLink "SableCrownLaw" (164 : Nat) ({ cls := "SableCrownModel", name := "paid", desc := "(II)I" } : Jvm.MethodName)) ∈ lw_all := lw_g (lw_at lw_m9 123 rfl) rfl
theorem q2151 : (Jvm.Cond.methodLink "SableCrownLaw" (167 : Nat) ({ cls := "SableCrownModel", name := "hostages", desc := "(I)I" } : Jvm.MethodName)) ∈ lw_all := lw_g (lw_at lw_m9 127 rfl) rfl
theorem q2159 : (Jvm.Cond.methodLink "SableCrownLaw" (170 : Nat) ({ cls := "SableCrownModel", name := "owing", desc := "(I)I" } : Jvm.MethodName)) ∈ lw_all := lw_g (lw_at lw_m9 135 rfl) rfl
theorem q2163 : (Jvm.Cond.methodLink "SableCrownLaw" (174 : Nat) ({ cls := "SableCrownModel", name := "blackest", desc := "()I" } : Jvm.MethodName)) ∈ lw_all := lw_g (lw_at lw_m9 139 rfl) rfl
theorem q2167 : (Jvm.Cond.methodLink "SableCrownLaw" (177 : Nat) ({ cls := "SableCrownModel", name := "lastBlack", desc := "(I)I" } : Jvm.MethodName)) ∈ lw_all := lw_g (lw_at lw_m9 143 rfl) rfl
theorem q2171 : (Jvm.Cond.methodLink "SableCrownLaw" (180 : Nat) ({ cls := "SableCrownModel", name := "forEver", desc := "(I)I" } : Jvm.MethodName)) ∈ lw_all := lw_g (lw_at lw_m9 147 rfl) rfl
theorem q2179 : (Jvm.Cond.methodLink "SableCrownLaw" (183 : Nat) ({ cls := "SableCrownModel", name := "resting", desc := "(II)I" } : Jvm.MethodName)) ∈ lw_all := lw_g (lw_at lw_m9 155 rfl) rfl
theorem q2184 : (Jvm.Cond.methodLink "SableCrownLaw" (186 : Nat) ({ cls := "SableCrownModel", name := "far", desc := "(II)I" } : Jvm.MethodName)) ∈ lw_all := lw_g (lw_at lw_m9 160 rfl) rfl
theorem q2196 : (Jvm.Cond.methodLink "SableCrownLaw" (189 : Nat) ({ cls := "SableCrownModel", name := "round", desc := "(I)I" } : Jvm.MethodName)) ∈ lw_all := lw_g (lw_at lw_m9 172 rfl) rfl
theorem q2207 : (Jvm.Cond.methodLink "SableCrownLaw" (192 : Nat) ({ cls := "SableCrownModel", name := "first", desc := "(I)I" } : Jvm.MethodName)) ∈ lw_all := lw_g (lw_at lw_m9 183 rfl) rfl
theorem q2211 : (Jvm.Cond.methodLink "SableCrownLaw" (196 : Nat) ({ cls := "SableCrownModel", name := "meeting", desc := "(III)I" } : Jvm.MethodName)) ∈ lw_all := lw_g (lw_at lw_m9 187 rfl) rfl
theorem q2215 : (Jvm.Cond.methodLink "SableCrownLaw" (199 : Nat) ({ cls := "SableCrownModel", name := "where", desc := "(III)I" } : Jvm.MethodName)) ∈ lw_all := lw_g (lw_at lw_m9 191 rfl) rfl
theorem q2224 : (Jvm.Cond.methodLink "SableCrownLaw" (202 : Nat) ({ cls := "SableCrownModel", name := "counted", desc := "(II)I" } : Jvm.MethodName)) ∈ lw_all := lw_g (lw_at lw_m9 200 rfl) rfl
theorem q2228 : (Jvm.Cond.methodLink "SableCrownLaw" (205 : Nat) ({ cls := "SableCrownModel", name := "spy", desc := "(III)I" } : Jvm.MethodName)) ∈ lw_all := lw_g (lw_at lw_m9 204 rfl) rfl
theorem q2233 : (Jvm.Cond.methodLink "SableCrownLaw" (208 : Nat) ({ cls := "SableCrownModel", name := "hidden", desc := "(I)I" } : Jvm.MethodName)) ∈ lw_all := lw_g (lw_at lw_m9 209 rfl) rfl
theorem q2246 : (Jvm.Cond.methodLink "SableCrownLaw" (211 : Nat) ({ cls := "SableCrownModel", name := "look", desc := "(I)I" } : Jvm.MethodName)) ∈ lw_all := lw_g (lw_at lw_m9 222 rfl) rfl
theorem q2254 : (Jvm.Cond.methodLink "SableCrownLaw" (215 : Nat) ({ cls := "SableCrownModel", name := "forget", desc := "()V" } : Jvm.MethodName)) ∈ lw_all := lw_g (lw_at lw_m9 230 rfl) rfl
theorem q2258 : (Jvm.Cond.methodLink "SableCrownLaw" (219 : Nat) ({ cls := "SableCrownModel", name := "game", desc := "(IIIII)I" } : Jvm.MethodName)) ∈ lw_all := lw_g (lw_at lw_m9 234 rfl) rfl
theorem q2266 : (Jvm.Cond.methodLink "SableCrownLaw" (222 : Nat) ({ cls := "SableCrownModel", name := "winter", desc := "(III)I" } : Jvm.MethodName)) ∈ lw_all := lw_g (lw_at lw_m10 2 rfl) rfl
theorem q2279 : (Jvm.Cond.methodLink "SableCrownLaw" (226 : Nat) ({ cls := "SableCrownModel", name := "image", desc := "()V" } : Jvm.MethodName)) ∈ lw_all := lw_g (lw_at lw_m10 15 rfl) rfl
theorem q2286 : (Jvm.Cond.methodLink "SableCrownLaw" (231 : Nat) ({ cls := "SableCrownModel", name := "restore", desc := "()Z" } : Jvm.MethodName)) ∈ lw_all := lw_g (lw_at lw_m10 22 rfl) rfl
/-! the law's own entry -/
set_option maxRecDepth 100000
abbrev cL_law : ByteArray := code
def dkwL_law_89 : List UInt8 := [182, 0, 227, 44, 182, 0, 231, 159, 0, 5, 3, 172, 132, 4, 6, 167, 247, 108, 4, 172]
abbrev dktL_law_89 : List UInt8 := dkwL_law_89 ++ []
def dkwL_law_88 : List UInt8 := [21, 6, 133, 148, 153, 0, 5, 3, 172, 167, 0, 27, 43, 182, 0, 223, 44, 182, 0, 226, 167, 0, 16, 43]
abbrev dktL_law_88 : List UInt8 := dkwL_law_88 ++ dktL_law_89
def dkwL_law_87 : List UInt8 := [182, 0, 222, 54, 6, 44, 182, 0, 115, 21, 5, 159, 0, 5, 3, 172, 21, 5, 154, 0, 15, 45, 3, 47]
abbrev dktL_law_87 : List UInt8 := dkwL_law_87 ++ dktL_law_88
def dkwL_law_86 : List UInt8 := [184, 0, 220, 54, 5, 44, 42, 21, 4, 4, 96, 46, 42, 21, 4, 5, 96, 46, 42, 21, 4, 6, 96, 46]
abbrev dktL_law_86 : List UInt8 := dkwL_law_86 ++ dktL_law_87
def dkwL_law_85 : List UInt8 := [167, 0, 107, 43, 42, 21, 4, 4, 96, 46, 42, 21, 4, 5, 96, 46, 42, 21, 4, 6, 96, 46, 45]
abbrev dktL_law_85 : List UInt8 := dkwL_law_85 ++ dktL_law_86
def dkwL_law_84 : List UInt8 := [21, 5, 159, 0, 5, 3, 172, 21, 5, 154, 0, 15, 45, 3, 47, 21, 6, 133, 148, 153, 0, 5, 3, 172]
abbrev dktL_law_84 : List UInt8 := dkwL_law_84 ++ dktL_law_85
def dkwL_law_83 : List UInt8 := [6, 96, 46, 42, 21, 4, 7, 96, 46, 42, 21, 4, 8, 96, 46, 182, 0, 219, 54, 6, 44, 182, 0, 115]
abbrev dktL_law_83 : List UInt8 := dkwL_law_83 ++ dktL_law_84
def dkwL_law_82 : List UInt8 := [96, 46, 45, 184, 0, 216, 54, 5, 44, 42, 21, 4, 4, 96, 46, 42, 21, 4, 5, 96, 46, 42, 21, 4]
abbrev dktL_law_82 : List UInt8 := dkwL_law_82 ++ dktL_law_83
def dkwL_law_81 : List UInt8 := [96, 46, 42, 21, 4, 5, 96, 46, 42, 21, 4, 6, 96, 46, 42, 21, 4, 7, 96, 46, 42, 21, 4, 8]
abbrev dktL_law_81 : List UInt8 := dkwL_law_81 ++ dktL_law_82
def dkwL_law_80 : List UInt8 := [153, 0, 5, 3, 172, 167, 0, 222, 43, 182, 0, 212, 44, 182, 0, 215, 167, 0, 211, 43, 42, 21, 4, 4]
abbrev dktL_law_80 : List UInt8 := dkwL_law_80 ++ dktL_law_81
def dkwL_law_79 : List UInt8 := [182, 0, 115, 21, 5, 159, 0, 5, 3, 172, 21, 5, 154, 0, 15, 45, 3, 47, 21, 6, 133, 148]
abbrev dktL_law_79 : List UInt8 := dkwL_law_79 ++ dktL_law_80
def dkwL_law_78 : List UInt8 := [21, 4, 4, 96, 46, 45, 184, 0, 209, 54, 5, 44, 42, 21, 4, 4, 96, 46, 182, 0, 211, 54, 6, 44]
abbrev dktL_law_78 : List UInt8 := dkwL_law_78 ++ dktL_law_79
def dkwL_law_77 : List UInt8 := [172, 21, 5, 154, 0, 15, 45, 3, 47, 21, 6, 133, 148, 153, 0, 5, 3, 172, 167, 1, 22, 43, 42]
abbrev dktL_law_77 : List UInt8 := dkwL_law_77 ++ dktL_law_78
def dkwL_law_76 : List UInt8 := [54, 5, 44, 42, 21, 4, 4, 96, 46, 182, 0, 208, 54, 6, 44, 182, 0, 115, 21, 5, 159, 0, 5, 3]
abbrev dktL_law_76 : List UInt8 := dkwL_law_76 ++ dktL_law_77
def dkwL_law_75 : List UInt8 := [21, 6, 133, 148, 153, 0, 5, 3, 172, 167, 1, 78, 43, 42, 21, 4, 4, 96, 46, 45, 184, 0, 206]
abbrev dktL_law_75 : List UInt8 := dkwL_law_75 ++ dktL_law_76
def dkwL_law_74 : List UInt8 := [182, 0, 205, 54, 6, 44, 182, 0, 115, 21, 5, 159, 0, 5, 3, 172, 21, 5, 154, 0, 15, 45, 3, 47]
abbrev dktL_law_74 : List UInt8 := dkwL_law_74 ++ dktL_law_75
def dkwL_law_73 : List UInt8 := [184, 0, 203, 54, 5, 44, 42, 21, 4, 4, 96, 46, 42, 21, 4, 5, 96, 46, 42, 21, 4, 6, 96, 46]
abbrev dktL_law_73 : List UInt8 := dkwL_law_73 ++ dktL_law_74
def dkwL_law_72 : List UInt8 := [167, 1, 158, 43, 42, 21, 4, 4, 96, 46, 42, 21, 4, 5, 96, 46, 42, 21, 4, 6, 96, 46, 45]
abbrev dktL_law_72 : List UInt8 := dkwL_law_72 ++ dktL_law_73
def dkwL_law_71 : List UInt8 := [159, 0, 5, 3, 172, 21, 5, 154, 0, 15, 45, 3, 47, 21, 6, 133, 148, 153, 0, 5, 3, 172]
abbrev dktL_law_71 : List UInt8 := dkwL_law_71 ++ dktL_law_72
def dkwL_law_70 : List UInt8 := [21, 4, 4, 96, 46, 42, 21, 4, 5, 96, 46, 182, 0, 202, 54, 6, 44, 182, 0, 115, 21, 5]
abbrev dktL_law_70 : List UInt8 := dkwL_law_70 ++ dktL_law_71
def dkwL_law_69 : List UInt8 := [167, 1, 226, 43, 42, 21, 4, 4, 96, 46, 42, 21, 4, 5, 96, 46, 45, 184, 0, 200, 54, 5, 44, 42]
abbrev dktL_law_69 : List UInt8 := dkwL_law_69 ++ dktL_law_70
def dkwL_law_68 : List UInt8 := [21, 5, 159, 0, 5, 3, 172, 21, 5, 154, 0, 15, 45, 3, 47, 21, 6, 133, 148, 153, 0, 5, 3, 172]
abbrev dktL_law_68 : List UInt8 := dkwL_law_68 ++ dktL_law_69
def dkwL_law_67 : List UInt8 := [96, 46, 42, 21, 4, 5, 96, 46, 42, 21, 4, 6, 96, 46, 182, 0, 199, 54, 6, 44, 182, 0, 115]
abbrev dktL_law_67 : List UInt8 := dkwL_law_67 ++ dktL_law_68
def dkwL_law_66 : List UInt8 := [46, 42, 21, 4, 5, 96, 46, 42, 21, 4, 6, 96, 46, 45, 184, 0, 197, 54, 5, 44, 42, 21, 4, 4]
abbrev dktL_law_66 : List UInt8 := dkwL_law_66 ++ dktL_law_67
def dkwL_law_65 : List UInt8 := [154, 0, 15, 45, 3, 47, 21, 6, 133, 148, 153, 0, 5, 3, 172, 167, 2, 50, 43, 42, 21, 4, 4, 96]
abbrev dktL_law_65 : List UInt8 := dkwL_law_65 ++ dktL_law_66
def dkwL_law_64 : List UInt8 := [21, 4, 6, 96, 46, 182, 0, 196, 54, 6, 44, 182, 0, 115, 21, 5, 159, 0, 5, 3, 172, 21, 5]
abbrev dktL_law_64 : List UInt8 := dkwL_law_64 ++ dktL_law_65
def dkwL_law_63 : List UInt8 := [6, 96, 46, 45, 184, 0, 193, 54, 5, 44, 42, 21, 4, 4, 96, 46, 42, 21, 4, 5, 96, 46, 42]
abbrev dktL_law_63 : List UInt8 := dkwL_law_63 ++ dktL_law_64
def dkwL_law_62 : List UInt8 := [153, 0, 5, 3, 172, 167, 2, 130, 43, 42, 21, 4, 4, 96, 46, 42, 21, 4, 5, 96, 46, 42, 21, 4]
abbrev dktL_law_62 : List UInt8 := dkwL_law_62 ++ dktL_law_63
def dkwL_law_61 : List UInt8 := [182, 0, 115, 21, 5, 159, 0, 5, 3, 172, 21, 5, 154, 0, 15, 45, 3, 47, 21, 6, 133, 148]
abbrev dktL_law_61 : List UInt8 := dkwL_law_61 ++ dktL_law_62
def dkwL_law_60 : List UInt8 := [21, 4, 4, 96, 46, 45, 184, 0, 190, 54, 5, 44, 42, 21, 4, 4, 96, 46, 182, 0, 192, 54, 6, 44]
abbrev dktL_law_60 : List UInt8 := dkwL_law_60 ++ dktL_law_61
def dkwL_law_59 : List UInt8 := [172, 21, 5, 154, 0, 15, 45, 3, 47, 21, 6, 133, 148, 153, 0, 5, 3, 172, 167, 2, 186, 43, 42]
abbrev dktL_law_59 : List UInt8 := dkwL_law_59 ++ dktL_law_60
def dkwL_law_58 : List UInt8 := [54, 5, 44, 42, 21, 4, 4, 96, 46, 182, 0, 189, 54, 6, 44, 182, 0, 115, 21, 5, 159, 0, 5, 3]
abbrev dktL_law_58 : List UInt8 := dkwL_law_58 ++ dktL_law_59
def dkwL_law_57 : List UInt8 := [21, 6, 133, 148, 153, 0, 5, 3, 172, 167, 2, 242, 43, 42, 21, 4, 4, 96, 46, 45, 184, 0, 187]
abbrev dktL_law_57 : List UInt8 := dkwL_law_57 ++ dktL_law_58
def dkwL_law_56 : List UInt8 := [182, 0, 186, 54, 6, 44, 182, 0, 115, 21, 5, 159, 0, 5, 3, 172, 21, 5, 154, 0, 15, 45, 3, 47]
abbrev dktL_law_56 : List UInt8 := dkwL_law_56 ++ dktL_law_57
def dkwL_law_55 : List UInt8 := [5, 96, 46, 45, 184, 0, 184, 54, 5, 44, 42, 21, 4, 4, 96, 46, 42, 21, 4, 5, 96, 46]
abbrev dktL_law_55 : List UInt8 := dkwL_law_55 ++ dktL_law_56
def dkwL_law_54 : List UInt8 := [3, 47, 21, 6, 133, 148, 153, 0, 5, 3, 172, 167, 3, 54, 43, 42, 21, 4, 4, 96, 46, 42, 21, 4]
abbrev dktL_law_54 : List UInt8 := dkwL_law_54 ++ dktL_law_55
def dkwL_law_53 : List UInt8 := [96, 46, 182, 0, 183, 54, 6, 44, 182, 0, 115, 21, 5, 159, 0, 5, 3, 172, 21, 5, 154, 0, 15, 45]
abbrev dktL_law_53 : List UInt8 := dkwL_law_53 ++ dktL_law_54
def dkwL_law_52 : List UInt8 := [46, 42, 21, 4, 5, 96, 46, 45, 184, 0, 181, 54, 5, 44, 42, 21, 4, 4, 96, 46, 42, 21, 4, 5]
abbrev dktL_law_52 : List UInt8 := dkwL_law_52 ++ dktL_law_53
def dkwL_law_51 : List UInt8 := [154, 0, 15, 45, 3, 47, 21, 6, 133, 148, 153, 0, 5, 3, 172, 167, 3, 122, 43, 42, 21, 4, 4, 96]
abbrev dktL_law_51 : List UInt8 := dkwL_law_51 ++ dktL_law_52
def dkwL_law_50 : List UInt8 := [21, 4, 4, 96, 46, 182, 0, 180, 54, 6, 44, 182, 0, 115, 21, 5, 159, 0, 5, 3, 172, 21, 5]
abbrev dktL_law_50 : List UInt8 := dkwL_law_50 ++ dktL_law_51
def dkwL_law_49 : List UInt8 := [148, 153, 0, 5, 3, 172, 167, 3, 178, 43, 42, 21, 4, 4, 96, 46, 45, 184, 0, 178, 54, 5, 44, 42]
abbrev dktL_law_49 : List UInt8 := dkwL_law_49 ++ dktL_law_50
def dkwL_law_48 : List UInt8 := [54, 6, 44, 182, 0, 115, 21, 5, 159, 0, 5, 3, 172, 21, 5, 154, 0, 15, 45, 3, 47, 21, 6, 133]
abbrev dktL_law_48 : List UInt8 := dkwL_law_48 ++ dktL_law_49
def dkwL_law_47 : List UInt8 := [172, 43, 42, 21, 4, 4, 96, 46, 45, 184, 0, 175, 54, 5, 44, 42, 21, 4, 4, 96, 46, 182, 0, 177]
abbrev dktL_law_47 : List UInt8 := dkwL_law_47 ++ dktL_law_48
def dkwL_law_46 : List UInt8 := [21, 6, 133, 148, 153, 0, 5, 3, 172, 167, 3, 247, 43, 182, 0, 171, 44, 182, 0, 174, 159, 3, 236, 3]
abbrev dktL_law_46 : List UInt8 := dkwL_law_46 ++ dktL_law_47
def dkwL_law_45 : List UInt8 := [182, 0, 170, 54, 6, 44, 182, 0, 115, 21, 5, 159, 0, 5, 3, 172, 21, 5, 154, 0, 15, 45, 3, 47]
abbrev dktL_law_45 : List UInt8 := dkwL_law_45 ++ dktL_law_46
def dkwL_law_44 : List UInt8 := [167, 4, 47, 43, 42, 21, 4, 4, 96, 46, 45, 184, 0, 168, 54, 5, 44, 42, 21, 4, 4, 96, 46]
abbrev dktL_law_44 : List UInt8 := dkwL_law_44 ++ dktL_law_45
def dkwL_law_43 : List UInt8 := [159, 0, 5, 3, 172, 21, 5, 154, 0, 15, 45, 3, 47, 21, 6, 133, 148, 153, 0, 5, 3, 172]
abbrev dktL_law_43 : List UInt8 := dkwL_law_43 ++ dktL_law_44
def dkwL_law_42 : List UInt8 := [184, 0, 165, 54, 5, 44, 42, 21, 4, 4, 96, 46, 182, 0, 167, 54, 6, 44, 182, 0, 115, 21, 5]
abbrev dktL_law_42 : List UInt8 := dkwL_law_42 ++ dktL_law_43
def dkwL_law_41 : List UInt8 := [3, 47, 21, 6, 133, 148, 153, 0, 5, 3, 172, 167, 4, 103, 43, 42, 21, 4, 4, 96, 46, 45]
abbrev dktL_law_41 : List UInt8 := dkwL_law_41 ++ dktL_law_42
def dkwL_law_40 : List UInt8 := [96, 46, 182, 0, 164, 54, 6, 44, 182, 0, 115, 21, 5, 159, 0, 5, 3, 172, 21, 5, 154, 0, 15, 45]
abbrev dktL_law_40 : List UInt8 := dkwL_law_40 ++ dktL_law_41
def dkwL_law_39 : List UInt8 := [46, 42, 21, 4, 5, 96, 46, 45, 184, 0, 162, 54, 5, 44, 42, 21, 4, 4, 96, 46, 42, 21, 4, 5]
abbrev dktL_law_39 : List UInt8 := dkwL_law_39 ++ dktL_law_40
def dkwL_law_38 : List UInt8 := [154, 0, 15, 45, 3, 47, 21, 6, 133, 148, 153, 0, 5, 3, 172, 167, 4, 171, 43, 42, 21, 4, 4, 96]
abbrev dktL_law_38 : List UInt8 := dkwL_law_38 ++ dktL_law_39
def dkwL_law_37 : List UInt8 := [21, 4, 4, 96, 46, 182, 0, 161, 54, 6, 44, 182, 0, 115, 21, 5, 159, 0, 5, 3, 172, 21, 5]
abbrev dktL_law_37 : List UInt8 := dkwL_law_37 ++ dktL_law_38
def dkwL_law_36 : List UInt8 := [153, 0, 5, 3, 172, 167, 4, 227, 43, 42, 21, 4, 4, 96, 46, 45, 184, 0, 159, 54, 5, 44, 42]
abbrev dktL_law_36 : List UInt8 := dkwL_law_36 ++ dktL_law_37
def dkwL_law_35 : List UInt8 := [182, 0, 115, 21, 5, 159, 0, 5, 3, 172, 21, 5, 154, 0, 15, 45, 3, 47, 21, 6, 133, 148]
abbrev dktL_law_35 : List UInt8 := dkwL_law_35 ++ dktL_law_36
def dkwL_law_34 : List UInt8 := [184, 0, 156, 54, 5, 44, 42, 21, 4, 4, 96, 46, 42, 21, 4, 5, 96, 46, 182, 0, 158, 54, 6, 44]
abbrev dktL_law_34 : List UInt8 := dkwL_law_34 ++ dktL_law_35
def dkwL_law_33 : List UInt8 := [182, 0, 155, 159, 5, 41, 3, 172, 43, 42, 21, 4, 4, 96, 46, 42, 21, 4, 5, 96, 46, 45]
abbrev dktL_law_33 : List UInt8 := dkwL_law_33 ++ dktL_law_34
def dkwL_law_32 : List UInt8 := [154, 0, 15, 45, 3, 47, 21, 6, 133, 148, 153, 0, 5, 3, 172, 167, 5, 52, 43, 182, 0, 152, 44]
abbrev dktL_law_32 : List UInt8 := dkwL_law_32 ++ dktL_law_33
def dkwL_law_31 : List UInt8 := [21, 4, 4, 96, 46, 182, 0, 151, 54, 6, 44, 182, 0, 115, 21, 5, 159, 0, 5, 3, 172, 21, 5]
abbrev dktL_law_31 : List UInt8 := dkwL_law_31 ++ dktL_law_32
def dkwL_law_30 : List UInt8 := [153, 0, 5, 3, 172, 167, 5, 108, 43, 42, 21, 4, 4, 96, 46, 45, 184, 0, 149, 54, 5, 44, 42]
abbrev dktL_law_30 : List UInt8 := dkwL_law_30 ++ dktL_law_31
def dkwL_law_29 : List UInt8 := [182, 0, 115, 21, 5, 159, 0, 5, 3, 172, 21, 5, 154, 0, 15, 45, 3, 47, 21, 6, 133, 148]
abbrev dktL_law_29 : List UInt8 := dkwL_law_29 ++ dktL_law_30
def dkwL_law_28 : List UInt8 := [184, 0, 146, 54, 5, 44, 42, 21, 4, 4, 96, 46, 42, 21, 4, 5, 96, 46, 182, 0, 148, 54, 6, 44]
abbrev dktL_law_28 : List UInt8 := dkwL_law_28 ++ dktL_law_29
def dkwL_law_27 : List UInt8 := [153, 0, 5, 3, 172, 167, 5, 176, 43, 42, 21, 4, 4, 96, 46, 42, 21, 4, 5, 96, 46, 45]
abbrev dktL_law_27 : List UInt8 := dkwL_law_27 ++ dktL_law_28
def dkwL_law_26 : List UInt8 := [182, 0, 115, 21, 5, 159, 0, 5, 3, 172, 21, 5, 154, 0, 15, 45, 3, 47, 21, 6, 133, 148]
abbrev dktL_law_26 : List UInt8 := dkwL_law_26 ++ dktL_law_27
def dkwL_law_25 : List UInt8 := [184, 0, 143, 54, 5, 44, 42, 21, 4, 4, 96, 46, 42, 21, 4, 5, 96, 46, 182, 0, 145, 54, 6, 44]
abbrev dktL_law_25 : List UInt8 := dkwL_law_25 ++ dktL_law_26
def dkwL_law_24 : List UInt8 := [153, 0, 5, 3, 172, 167, 5, 244, 43, 42, 21, 4, 4, 96, 46, 42, 21, 4, 5, 96, 46, 45]
abbrev dktL_law_24 : List UInt8 := dkwL_law_24 ++ dktL_law_25
def dkwL_law_23 : List UInt8 := [182, 0, 115, 21, 5, 159, 0, 5, 3, 172, 21, 5, 154, 0, 15, 45, 3, 47, 21, 6, 133, 148]
abbrev dktL_law_23 : List UInt8 := dkwL_law_23 ++ dktL_law_24
def dkwL_law_22 : List UInt8 := [184, 0, 140, 54, 5, 44, 42, 21, 4, 4, 96, 46, 42, 21, 4, 5, 96, 46, 182, 0, 142, 54, 6, 44]
abbrev dktL_law_22 : List UInt8 := dkwL_law_22 ++ dktL_law_23
def dkwL_law_21 : List UInt8 := [153, 0, 5, 3, 172, 167, 6, 56, 43, 42, 21, 4, 4, 96, 46, 42, 21, 4, 5, 96, 46, 45]
abbrev dktL_law_21 : List UInt8 := dkwL_law_21 ++ dktL_law_22
def dkwL_law_20 : List UInt8 := [182, 0, 115, 21, 5, 159, 0, 5, 3, 172, 21, 5, 154, 0, 15, 45, 3, 47, 21, 6, 133, 148]
abbrev dktL_law_20 : List UInt8 := dkwL_law_20 ++ dktL_law_21
def dkwL_law_19 : List UInt8 := [184, 0, 137, 54, 5, 44, 42, 21, 4, 4, 96, 46, 42, 21, 4, 5, 96, 46, 182, 0, 139, 54, 6, 44]
abbrev dktL_law_19 : List UInt8 := dkwL_law_19 ++ dktL_law_20
def dkwL_law_18 : List UInt8 := [46, 182, 0, 136, 159, 6, 126, 3, 172, 43, 42, 21, 4, 4, 96, 46, 42, 21, 4, 5, 96, 46, 45]
abbrev dktL_law_18 : List UInt8 := dkwL_law_18 ++ dktL_law_19
def dkwL_law_17 : List UInt8 := [153, 0, 5, 3, 172, 167, 6, 149, 43, 42, 21, 4, 4, 96, 46, 182, 0, 133, 44, 42, 21, 4, 4, 96]
abbrev dktL_law_17 : List UInt8 := dkwL_law_17 ++ dktL_law_18
def dkwL_law_16 : List UInt8 := [182, 0, 115, 21, 5, 159, 0, 5, 3, 172, 21, 5, 154, 0, 15, 45, 3, 47, 21, 6, 133, 148]
abbrev dktL_law_16 : List UInt8 := dkwL_law_16 ++ dktL_law_17
def dkwL_law_15 : List UInt8 := [184, 0, 130, 54, 5, 44, 42, 21, 4, 4, 96, 46, 42, 21, 4, 5, 96, 46, 182, 0, 132, 54, 6, 44]
abbrev dktL_law_15 : List UInt8 := dkwL_law_15 ++ dktL_law_16
def dkwL_law_14 : List UInt8 := [153, 0, 5, 3, 172, 167, 6, 217, 43, 42, 21, 4, 4, 96, 46, 42, 21, 4, 5, 96, 46, 45]
abbrev dktL_law_14 : List UInt8 := dkwL_law_14 ++ dktL_law_15
def dkwL_law_13 : List UInt8 := [182, 0, 115, 21, 5, 159, 0, 5, 3, 172, 21, 5, 154, 0, 15, 45, 3, 47, 21, 6, 133, 148]
abbrev dktL_law_13 : List UInt8 := dkwL_law_13 ++ dktL_law_14
def dkwL_law_12 : List UInt8 := [184, 0, 126, 54, 5, 44, 42, 21, 4, 4, 96, 46, 42, 21, 4, 5, 96, 46, 182, 0, 129, 54, 6, 44]
abbrev dktL_law_12 : List UInt8 := dkwL_law_12 ++ dktL_law_13
def dkwL_law_11 : List UInt8 := [153, 0, 5, 3, 172, 167, 7, 29, 43, 42, 21, 4, 4, 96, 46, 42, 21, 4, 5, 96, 46, 45]
abbrev dktL_law_11 : List UInt8 := dkwL_law_11 ++ dktL_law_12
def dkwL_law_10 : List UInt8 := [182, 0, 115, 21, 5, 159, 0, 5, 3, 172, 21, 5, 154, 0, 15, 45, 3, 47, 21, 6, 133, 148]
abbrev dktL_law_10 : List UInt8 := dkwL_law_10 ++ dktL_law_11
def dkwL_law_9 : List UInt8 := [21, 4, 4, 96, 46, 45, 184, 0, 123, 54, 5, 44, 42, 21, 4, 4, 96, 46, 182, 0, 125, 54, 6, 44]
abbrev dktL_law_9 : List UInt8 := dkwL_law_9 ++ dktL_law_10
def dkwL_law_8 : List UInt8 := [148, 153, 0, 5, 3, 172, 167, 7, 98, 43, 182, 0, 119, 44, 182, 0, 122, 159, 7, 87, 3, 172, 43, 42]
abbrev dktL_law_8 : List UInt8 := dkwL_law_8 ++ dktL_law_9
def dkwL_law_7 : List UInt8 := [54, 6, 44, 182, 0, 115, 21, 5, 159, 0, 5, 3, 172, 21, 5, 154, 0, 15, 45, 3, 47, 21, 6, 133]
abbrev dktL_law_7 : List UInt8 := dkwL_law_7 ++ dktL_law_8
def dkwL_law_6 : List UInt8 := [172, 43, 42, 21, 4, 4, 96, 46, 45, 184, 0, 109, 54, 5, 44, 42, 21, 4, 4, 96, 46, 182, 0, 114]
abbrev dktL_law_6 : List UInt8 := dkwL_law_6 ++ dktL_law_7
def dkwL_law_5 : List UInt8 := [21, 4, 6, 96, 46, 42, 21, 4, 7, 96, 46, 42, 21, 4, 8, 96, 46, 182, 0, 108, 159, 7, 156, 3]
abbrev dktL_law_5 : List UInt8 := dkwL_law_5 ++ dktL_law_6
def dkwL_law_4 : List UInt8 := [46, 42, 21, 4, 8, 96, 46, 182, 0, 105, 44, 42, 21, 4, 4, 96, 46, 42, 21, 4, 5, 96, 46, 42]
abbrev dktL_law_4 : List UInt8 := dkwL_law_4 ++ dktL_law_5
def dkwL_law_3 : List UInt8 := [43, 42, 21, 4, 4, 96, 46, 42, 21, 4, 5, 96, 46, 42, 21, 4, 6, 96, 46, 42, 21, 4, 7, 96]
abbrev dktL_law_3 : List UInt8 := dkwL_law_3 ++ dktL_law_4
def dkwL_law_2 : List UInt8 := [170, 0, 0, 0, 0, 0, 8, 128, 0, 0, 0, 0, 0, 0, 0, 35, 0, 0, 0, 160, 0, 0, 0, 233, 0, 0, 1, 33, 0, 0, 1, 46, 0, 0, 1, 102, 0, 0, 1, 170, 0, 0, 1, 238, 0, 0, 2, 7, 0, 0, 2, 75, 0, 0, 2, 143, 0, 0, 2, 211, 0, 0, 3, 23, 0, 0, 3, 79, 0, 0, 3, 92, 0, 0, 3, 160, 0, 0, 3, 216, 0, 0, 4, 28, 0, 0, 4, 84, 0, 0, 4, 140, 0, 0, 4, 153, 0, 0, 4, 209, 0, 0, 5, 9, 0, 0, 5, 77, 0, 0, 5, 145, 0, 0, 5, 201, 0, 0, 6, 1, 0, 0, 6, 81, 0, 0, 6, 161, 0, 0, 6, 229, 0, 0, 7, 53, 0, 0, 7, 109, 0, 0, 7, 165, 0, 0, 7, 176, 0, 0, 8, 24, 0, 0, 8, 104, 0, 0, 8, 115]
abbrev dktL_law_2 : List UInt8 := dkwL_law_2 ++ dktL_law_3
def dkwL_law_1 : List UInt8 := [21, 4, 42, 190, 16, 6, 100, 163, 8, 144, 42, 21, 4, 46, 16, 63, 126]
abbrev dktL_law_1 : List UInt8 := dkwL_law_1 ++ dktL_law_2
def dkwL_law_0 : List UInt8 := [187, 0, 8, 89, 183, 0, 101, 76, 187, 0, 102, 89, 183, 0, 104, 77, 4, 188, 11, 78, 3, 54, 4]
abbrev dktL_law_0 : List UInt8 := dkwL_law_0 ++ dktL_law_1
theorem dksL_law_0 : cL_law.data.toList.drop 0 = dktL_law_0 := by decide +kernel
theorem dksL_law_1 : cL_law.data.toList.drop 23 = dktL_law_1 := dk_seg dksL_law_0 23 rfl rfl
theorem dksL_law_2 : cL_law.data.toList.drop 40 = dktL_law_2 := dk_seg dksL_law_1 17 rfl rfl
theorem dksL_law_3 : cL_law.data.toList.drop 200 = dktL_law_3 := dk_seg dksL_law_2 160 rfl rfl
theorem dksL_law_4 : cL_law.data.toList.drop 224 = dktL_law_4 := dk_seg dksL_law_3 24 rfl rfl
theorem dksL_law_5 : cL_law.data.toList.drop 248 = dktL_law_5 := dk_seg dksL_law_4 24 rfl rfl
theorem dksL_law_6 : cL_law.data.toList.drop 272 = dktL_law_6 := dk_seg dksL_law_5 24 rfl rfl
theorem dksL_law_7 : cL_law.data.toList.drop 296 = dktL_law_7 := dk_seg dksL_law_6 24 rfl rfl
theorem dksL_law_8 : cL_law.data.toList.drop 320 = dktL_law_8 := dk_seg dksL_law_7 24 rfl rfl
theorem dksL_law_9 : cL_law.data.toList.drop 344 = dktL_law_9 := dk_seg dksL_law_8 24 rfl rfl
theorem dksL_law_10 : cL_law.data.toList.drop 368 = dktL_law_10 := dk_seg dksL_law_9 24 rfl rfl
theorem dksL_law_11 : cL_law.data.toList.drop 390 = dktL_law_11 := dk_seg dksL_law_10 22 rfl rfl
theorem dksL_law_12 : cL_law.data.toList.drop 412 = dktL_law_12 := dk_seg dksL_law_11 22 rfl rfl
theorem dksL_law_13 : cL_law.data.toList.drop 436 = dktL_law_13 := dk_seg dksL_law_12 24 rfl rfl
theorem dksL_law_14 : cL_law.data.toList.drop 458 = dktL_law_14 := dk_seg dksL_law_13 22 rfl rfl
theorem dksL_law_15 : cL_law.data.toList.drop 480 = dktL_law_15 := dk_seg dksL_law_14 22 rfl rfl
theorem dksL_law_16 : cL_law.data.toList.drop 504 = dktL_law_16 := dk_seg dksL_law_15 24 rfl rfl
theorem dksL_law_17 : cL_law.data.toList.drop 526 = dktL_law_17 := dk_seg dksL_law_16 22 rfl rfl
theorem dksL_law_18 : cL_law.data.toList.drop 550 = dktL_law_18 := dk_seg dksL_law_17 24 rfl rfl
theorem dksL_law_19 : cL_law.data.toList.drop 573 = dktL_law_19 := dk_seg dksL_law_18 23 rfl rfl
theorem dksL_law_20 : cL_law.data.toList.drop 597 = dktL_law_20 := dk_seg dksL_law_19 24 rfl rfl
theorem dksL_law_21 : cL_law.data.toList.drop 619 = dktL_law_21 := dk_seg dksL_law_20 22 rfl rfl
theorem dksL_law_22 : cL_law.data.toList.drop 641 = dktL_law_22 := dk_seg dksL_law_21 22 rfl rfl
theorem dksL_law_23 : cL_law.data.toList.drop 665 = dktL_law_23 := dk_seg dksL_law_22 24 rfl rfl
theorem dksL_law_24 : cL_law.data.toList.drop 687 = dktL_law_24 := dk_seg dksL_law_23 22 rfl rfl
theorem dksL_law_25 : cL_law.data.toList.drop 709 = dktL_law_25 := dk_seg dksL_law_24 22 rfl rfl
theorem dksL_law_26 : cL_law.data.toList.drop 733 = dktL_law_26 := dk_seg dksL_law_25 24 rfl rfl
theorem dksL_law_27 : cL_law.data.toList.drop 755 = dktL_law_27 := dk_seg dksL_law_26 22 rfl rfl
theorem dksL_law_28 : cL_law.data.toList.drop 777 = dktL_law_28 := dk_seg dksL_law_27 22 rfl rfl
theorem dksL_law_29 : cL_law.data.toList.drop 801 = dktL_law_29 := dk_seg dksL_law_28 24 rfl rfl
theorem dksL_law_30 : cL_law.data.toList.drop 823 = dktL_law_30 := dk_seg dksL_law_29 22 rfl rfl
theorem dksL_law_31 : cL_law.data.toList.drop 846 = dktL_law_31 := dk_seg dksL_law_30 23 rfl rfl
theorem dksL_law_32 : cL_law.data.toList.drop 869 = dktL_law_32 := dk_seg dksL_law_31 23 rfl rfl
theorem dksL_law_33 : cL_law.data.toList.drop 892 = dktL_law_33 := dk_seg dksL_law_32 23 rfl rfl
theorem dksL_law_34 : cL_law.data.toList.drop 914 = dktL_law_34 := dk_seg dksL_law_33 22 rfl rfl
theorem dksL_law_35 : cL_law.data.toList.drop 938 = dktL_law_35 := dk_seg dksL_law_34 24 rfl rfl
theorem dksL_law_36 : cL_law.data.toList.drop 960 = dktL_law_36 := dk_seg dksL_law_35 22 rfl rfl
theorem dksL_law_37 : cL_law.data.toList.drop 983 = dktL_law_37 := dk_seg dksL_law_36 23 rfl rfl
theorem dksL_law_38 : cL_law.data.toList.drop 1006 = dktL_law_38 := dk_seg dksL_law_37 23 rfl rfl
theorem dksL_law_39 : cL_law.data.toList.drop 1030 = dktL_law_39 := dk_seg dksL_law_38 24 rfl rfl
theorem dksL_law_40 : cL_law.data.toList.drop 1054 = dktL_law_40 := dk_seg dksL_law_39 24 rfl rfl
theorem dksL_law_41 : cL_law.data.toList.drop 1078 = dktL_law_41 := dk_seg dksL_law_40 24 rfl rfl
theorem dksL_law_42 : cL_law.data.toList.drop 1100 = dktL_law_42 := dk_seg dksL_law_41 22 rfl rfl
theorem dksL_law_43 : cL_law.data.toList.drop 1123 = dktL_law_43 := dk_seg dksL_law_42 23 rfl rfl
theorem dksL_law_44 : cL_law.data.toList.drop 1145 = dktL_law_44 := dk_seg dksL_law_43 22 rfl rfl
theorem dksL_law_45 : cL_law.data.toList.drop 1168 = dktL_law_45 := dk_seg dksL_law_44 23 rfl rfl
theorem dksL_law_46 : cL_law.data.toList.drop 1192 = dktL_law_46 := dk_seg dksL_law_45 24 rfl rfl
theorem dksL_law_47 : cL_law.data.toList.drop 1216 = dktL_law_47 := dk_seg dksL_law_46 24 rfl rfl
theorem dksL_law_48 : cL_law.data.toList.drop 1240 = dktL_law_48 := dk_seg dksL_law_47 24 rfl rfl
theorem dksL_law_49 : cL_law.data.toList.drop 1264 = dktL_law_49 := dk_seg dksL_law_48 24 rfl rfl
theorem dksL_law_50 : cL_law.data.toList.drop 1288 = dktL_law_50 := dk_seg dksL_law_49 24 rfl rfl
theorem dksL_law_51 : cL_law.data.toList.drop 1311 = dktL_law_51 := dk_seg dksL_law_50 23 rfl rfl
theorem dksL_law_52 : cL_law.data.toList.drop 1335 = dktL_law_52 := dk_seg dksL_law_51 24 rfl rfl
theorem dksL_law_53 : cL_law.data.toList.drop 1359 = dktL_law_53 := dk_seg dksL_law_52 24 rfl rfl
theorem dksL_law_54 : cL_law.data.toList.drop 1383 = dktL_law_54 := dk_seg dksL_law_53 24 rfl rfl
theorem dksL_law_55 : cL_law.data.toList.drop 1407 = dktL_law_55 := dk_seg dksL_law_54 24 rfl rfl
theorem dksL_law_56 : cL_law.data.toList.drop 1429 = dktL_law_56 := dk_seg dksL_law_55 22 rfl rfl
theorem dksL_law_57 : cL_law.data.toList.drop 1453 = dktL_law_57 := dk_seg dksL_law_56 24 rfl rfl
theorem dksL_law_58 : cL_law.data.toList.drop 1476 = dktL_law_58 := dk_seg dksL_law_57 23 rfl rfl
theorem dksL_law_59 : cL_law.data.toList.drop 1500 = dktL_law_59 := dk_seg dksL_law_58 24 rfl rfl
theorem dksL_law_60 : cL_law.data.toList.drop 1523 = dktL_law_60 := dk_seg dksL_law_59 23 rfl rfl
theorem dksL_law_61 : cL_law.data.toList.drop 1547 = dktL_law_61 := dk_seg dksL_law_60 24 rfl rfl
theorem dksL_law_62 : cL_law.data.toList.drop 1569 = dktL_law_62 := dk_seg dksL_law_61 22 rfl rfl
theorem dksL_law_63 : cL_law.data.toList.drop 1593 = dktL_law_63 := dk_seg dksL_law_62 24 rfl rfl
theorem dksL_law_64 : cL_law.data.toList.drop 1616 = dktL_law_64 := dk_seg dksL_law_63 23 rfl rfl
theorem dksL_law_65 : cL_law.data.toList.drop 1639 = dktL_law_65 := dk_seg dksL_law_64 23 rfl rfl
theorem dksL_law_66 : cL_law.data.toList.drop 1663 = dktL_law_66 := dk_seg dksL_law_65 24 rfl rfl
theorem dksL_law_67 : cL_law.data.toList.drop 1687 = dktL_law_67 := dk_seg dksL_law_66 24 rfl rfl
theorem dksL_law_68 : cL_law.data.toList.drop 1710 = dktL_law_68 := dk_seg dksL_law_67 23 rfl rfl
theorem dksL_law_69 : cL_law.data.toList.drop 1734 = dktL_law_69 := dk_seg dksL_law_68 24 rfl rfl
theorem dksL_law_70 : cL_law.data.toList.drop 1758 = dktL_law_70 := dk_seg dksL_law_69 24 rfl rfl
theorem dksL_law_71 : cL_law.data.toList.drop 1780 = dktL_law_71 := dk_seg dksL_law_70 22 rfl rfl
theorem dksL_law_72 : cL_law.data.toList.drop 1802 = dktL_law_72 := dk_seg dksL_law_71 22 rfl rfl
theorem dksL_law_73 : cL_law.data.toList.drop 1825 = dktL_law_73 := dk_seg dksL_law_72 23 rfl rfl
theorem dksL_law_74 : cL_law.data.toList.drop 1849 = dktL_law_74 := dk_seg dksL_law_73 24 rfl rfl
theorem dksL_law_75 : cL_law.data.toList.drop 1873 = dktL_law_75 := dk_seg dksL_law_74 24 rfl rfl
theorem dksL_law_76 : cL_law.data.toList.drop 1896 = dktL_law_76 := dk_seg dksL_law_75 23 rfl rfl
theorem dksL_law_77 : cL_law.data.toList.drop 1920 = dktL_law_77 := dk_seg dksL_law_76 24 rfl rfl
theorem dksL_law_78 : cL_law.data.toList.drop 1943 = dktL_law_78 := dk_seg dksL_law_77 23 rfl rfl
theorem dksL_law_79 : cL_law.data.toList.drop 1967 = dktL_law_79 := dk_seg dksL_law_78 24 rfl rfl
theorem dksL_law_80 : cL_law.data.toList.drop 1989 = dktL_law_80 := dk_seg dksL_law_79 22 rfl rfl
theorem dksL_law_81 : cL_law.data.toList.drop 2013 = dktL_law_81 := dk_seg dksL_law_80 24 rfl rfl
theorem dksL_law_82 : cL_law.data.toList.drop 2037 = dktL_law_82 := dk_seg dksL_law_81 24 rfl rfl
theorem dksL_law_83 : cL_law.data.toList.drop 2061 = dktL_law_83 := dk_seg dksL_law_82 24 rfl rfl
theorem dksL_law_84 : cL_law.data.toList.drop 2085 = dktL_law_84 := dk_seg dksL_law_83 24 rfl rfl
theorem dksL_law_85 : cL_law.data.toList.drop 2109 = dktL_law_85 := dk_seg dksL_law_84 24 rfl rfl
theorem dksL_law_86 : cL_law.data.toList.drop 2132 = dktL_law_86 := dk_seg dksL_law_85 23 rfl rfl
theorem dksL_law_87 : cL_law.data.toList.drop 2156 = dktL_law_87 := dk_seg dksL_law_86 24 rfl rfl
theorem dksL_law_88 : cL_law.data.toList.drop 2180 = dktL_law_88 := dk_seg dksL_law_87 24 rfl rfl
theorem dksL_law_89 : cL_law.data.toList.drop 2204 = dktL_law_89 := dk_seg dksL_law_88 24 rfl rfl
theorem dL_law_0 : decode cL_law 0 = .ok (.new 8, 3) := dk_187 0 8 (dk_at dksL_law_0 0 rfl rfl)
theorem dL_law_3 : decode cL_law 3 = .ok (.dup, 1) := dk_89 (dk_at dksL_law_0 3 rfl rfl)
theorem dL_law_4 : decode cL_law 4 = .ok (.invokespecial 101, 3) := dk_183 0 101 (dk_at dksL_law_0 4 rfl rfl)
theorem dL_law_7 : decode cL_law 7 = .ok (.astore_n 1, 1) := dk_76 (dk_at dksL_law_0 7 rfl rfl)
theorem dL_law_8 : decode cL_law 8 = .ok (.new 102, 3) := dk_187 0 102 (dk_at dksL_law_0 8 rfl rfl)
theorem dL_law_11 : decode cL_law 11 = .ok (.dup, 1) := dk_89 (dk_at dksL_law_0 11 rfl rfl)
theorem dL_law_12 : decode cL_law 12 = .ok (.invokespecial 104, 3) := dk_183 0 104 (dk_at dksL_law_0 12 rfl rfl)
theorem dL_law_15 : decode cL_law 15 = .ok (.astore_n 2, 1) := dk_77 (dk_at dksL_law_0 15 rfl rfl)
theorem dL_law_16 : decode cL_law 16 = .ok (.iconst 1, 1) := dk_4 (dk_at dksL_law_0 16 rfl rfl)
theorem dL_law_17 : decode cL_law 17 = .ok (.newarray .long, 2) := dk_188_11 (dk_at dksL_law_0 17 rfl rfl)
theorem dL_law_19 : decode cL_law 19 = .ok (.astore_n 3, 1) := dk_78 (dk_at dksL_law_0 19 rfl rfl)
theorem dL_law_20 : decode cL_law 20 = .ok (.iconst 0, 1) := dk_3 (dk_at dksL_law_0 20 rfl rfl)
theorem dL_law_21 : decode cL_law 21 = .ok (.istore 4, 2) := dk_54 4 (dk_at dksL_law_0 21 rfl rfl)
theorem dL_law_23 : decode cL_law 23 = .ok (.iload 4, 2) := dk_21 4 (dk_at dksL_law_1 0 rfl rfl)
theorem dL_law_25 : decode cL_law 25 = .ok (.aload_n 0, 1) := dk_42 (dk_at dksL_law_1 2 rfl rfl)
theorem dL_law_26 : decode cL_law 26 = .ok (.arraylength, 1) := dk_190 (dk_at dksL_law_1 3 rfl rfl)
theorem dL_law_27 : decode cL_law 27 = .ok (.bipush 6, 2) := dk_16 6 (dk_at dksL_law_1 4 rfl rfl)
theorem dL_law_29 : decode cL_law 29 = .ok (.isub, 1) := dk_100 (dk_at dksL_law_1 6 rfl rfl)
theorem dL_law_30 : decode cL_law 30 = .ok (.if_icmp .gt 2192, 3) := dk_163 8 144 (dk_at dksL_law_1 7 rfl rfl)
theorem dL_law_33 : decode cL_law 33 = .ok (.aload_n 0, 1) := dk_42 (dk_at dksL_law_1 10 rfl rfl)
theorem dL_law_34 : decode cL_law 34 = .ok (.iload 4, 2) := dk_21 4 (dk_at dksL_law_1 11 rfl rfl)
theorem dL_law_36 : decode cL_law 36 = .ok (.iaload, 1) := dk_46 (dk_at dksL_law_1 13 rfl rfl)
theorem dL_law_37 : decode cL_law 37 = .ok (.bipush 63, 2) := dk_16 63 (dk_at dksL_law_1 14 rfl rfl)
theorem dL_law_39 : decode cL_law 39 = .ok (.iand, 1) := dk_126 (dk_at dksL_law_1 16 rfl rfl)
theorem dL_law_40 : decode cL_law 40 = .ok (.tableswitch 2176 0 35 #[160, 233, 289, 302, 358, 426, 494, 519, 587, 655, 723, 791, 847, 860, 928, 984, 1052, 1108, 1164, 1177, 1233, 1289, 1357, 1425, 1481, 1537, 1617, 1697, 1765, 1845, 1901, 1957, 1968, 2072, 2152, 2163], 160) := by decide +kernel
theorem dL_law_200 : decode cL_law 200 = .ok (.aload_n 1, 1) := dk_43 (dk_at dksL_law_3 0 rfl rfl)
theorem dL_law_201 : decode cL_law 201 = .ok (.aload_n 0, 1) := dk_42 (dk_at dksL_law_3 1 rfl rfl)
theorem dL_law_202 : decode cL_law 202 = .ok (.iload 4, 2) := dk_21 4 (dk_at dksL_law_3 2 rfl rfl)
theorem dL_law_204 : decode cL_law 204 = .ok (.iconst 1, 1) := dk_4 (dk_at dksL_law_3 4 rfl rfl)
theorem dL_law_205 : decode cL_law 205 = .ok (.iadd, 1) := dk_96 (dk_at dksL_law_3 5 rfl rfl)
theorem dL_law_206 : decode cL_law 206 = .ok (.iaload, 1) := dk_46 (dk_at dksL_law_3 6 rfl rfl)
theorem dL_law_207 : decode cL_law 207 = .ok (.aload_n 0, 1) := dk_42 (dk_at dksL_law_3 7 rfl rfl)
theorem dL_law_208 : decode cL_law 208 = .ok (.iload 4, 2) := dk_21 4 (dk_at dksL_law_3 8 rfl rfl)
theorem dL_law_210 : decode cL_law 210 = .ok (.iconst 2, 1) := dk_5 (dk_at dksL_law_3 10 rfl rfl)
theorem dL_law_211 : decode cL_law 211 = .ok (.iadd, 1) := dk_96 (dk_at dksL_law_3 11 rfl rfl)
theorem dL_law_212 : decode cL_law 212 = .ok (.iaload, 1) := dk_46 (dk_at dksL_law_3 12 rfl rfl)
theorem dL_law_213 : decode cL_law 213 = .ok (.aload_n 0, 1) := dk_42 (dk_at dksL_law_3 13 rfl rfl)
theorem dL_law_214 : decode cL_law 214 = .ok (.iload 4, 2) := dk_21 4 (dk_at dksL_law_3 14 rfl rfl)
theorem dL_law_216 : decode cL_law 216 = .ok (.iconst 3, 1) := dk_6 (dk_at dksL_law_3 16 rfl rfl)
theorem dL_law_217 : decode cL_law 217 = .ok (.iadd, 1) := dk_96 (dk_at dksL_law_3 17 rfl rfl)
theorem dL_law_218 : decode cL_law 218 = .ok (.iaload, 1) := dk_46 (dk_at dksL_law_3 18 rfl rfl)
theorem dL_law_219 : decode cL_law 219 = .ok (.aload_n 0, 1) := dk_42 (dk_at dksL_law_3 19 rfl rfl)
theorem dL_law_220 : decode cL_law 220 = .ok (.iload 4, 2) := dk_21 4 (dk_at dksL_law_3 20 rfl rfl)
theorem dL_law_222 : decode cL_law 222 = .ok (.iconst 4, 1) := dk_7 (dk_at dksL_law_3 22 rfl rfl)
theorem dL_law_223 : decode cL_law 223 = .ok (.iadd, 1) := dk_96 (dk_at dksL_law_3 23 rfl rfl)
theorem dL_law_224 : decode cL_law 224 = .ok (.iaload, 1) := dk_46 (dk_at dksL_law_4 0 rfl rfl)
theorem dL_law_225 : decode cL_law 225 = .ok (.aload_n 0, 1) := dk_42 (dk_at dksL_law_4 1 rfl rfl)
theorem dL_law_226 : decode cL_law 226 = .ok (.iload 4, 2) := dk_21 4 (dk_at dksL_law_4 2 rfl rfl)
theorem dL_law_228 : decode cL_law 228 = .ok (.iconst 5, 1) := dk_8 (dk_at dksL_law_4 4 rfl rfl)
theorem dL_law_229 : decode cL_law 229 = .ok (.iadd, 1) := dk_96 (dk_at dksL_law_4 5 rfl rfl)
theorem dL_law_230 : decode cL_law 230 = .ok (.iaload, 1) := dk_46 (dk_at dksL_law_4 6 rfl rfl)
theorem dL_law_231 : decode cL_law 231 = .ok (.invokevirtual 105, 3) := dk_182 0 105 (dk_at dksL_law_4 7 rfl rfl)
theorem dL_law_234 : decode cL_law 234 = .ok (.aload_n 2, 1) := dk_44 (dk_at dksL_law_4 10 rfl rfl)
theorem dL_law_235 : decode cL_law 235 = .ok (.aload_n 0, 1) := dk_42 (dk_at dksL_law_4 11 rfl rfl)
theorem dL_law_236 : decode cL_law 236 = .ok (.iload 4, 2) := dk_21 4 (dk_at dksL_law_4 12 rfl rfl)
theorem dL_law_238 : decode cL_law 238 = .ok (.iconst 1, 1) := dk_4 (dk_at dksL_law_4 14 rfl rfl)
theorem dL_law_239 : decode cL_law 239 = .ok (.iadd, 1) := dk_96 (dk_at dksL_law_4 15 rfl rfl)
theorem dL_law_240 : decode cL_law 240 = .ok (.iaload, 1) := dk_46 (dk_at dksL_law_4 16 rfl rfl)
theorem dL_law_241 : decode cL_law 241 = .ok (.aload_n 0, 1) := dk_42 (dk_at dksL_law_4 17 rfl rfl)
theorem dL_law_242 : decode cL_law 242 = .ok (.iload 4, 2) := dk_21 4 (dk_at dksL_law_4 18 rfl rfl)
theorem dL_law_244 : decode cL_law 244 = .ok (.iconst 2, 1) := dk_5 (dk_at dksL_law_4 20 rfl rfl)
theorem dL_law_245 : decode cL_law 245 = .ok (.iadd, 1) := dk_96 (dk_at dksL_law_4 21 rfl rfl)
theorem dL_law_246 : decode cL_law 246 = .ok (.iaload, 1) := dk_46 (dk_at dksL_law_4 22 rfl rfl)
theorem dL_law_247 : decode cL_law 247 = .ok (.aload_n 0, 1) := dk_42 (dk_at dksL_law_4 23 rfl rfl)
theorem dL_law_248 : decode cL_law 248 = .ok (.iload 4, 2) := dk_21 4 (dk_at dksL_law_5 0 rfl rfl)
theorem dL_law_250 : decode cL_law 250 = .ok (.iconst 3, 1) := dk_6 (dk_at dksL_law_5 2 rfl rfl)
theorem dL_law_251 : decode cL_law 251 = .ok (.iadd, 1) := dk_96 (dk_at dksL_law_5 3 rfl rfl)
theorem dL_law_252 : decode cL_law 252 = .ok (.iaload, 1) := dk_46 (dk_at dksL_law_5 4 rfl rfl)
theorem dL_law_253 : decode cL_law 253 = .ok (.aload_n 0, 1) := dk_42 (dk_at dksL_law_5 5 rfl rfl)
theorem dL_law_254 : decode cL_law 254 = .ok (.iload 4, 2) := dk_21 4 (dk_at dksL_law_5 6 rfl rfl)
theorem dL_law_256 : decode cL_law 256 = .ok (.iconst 4, 1) := dk_7 (dk_at dksL_law_5 8 rfl rfl)
theorem dL_law_257 : decode cL_law 257 = .ok (.iadd, 1) := dk_96 (dk_at dksL_law_5 9 rfl rfl)
theorem dL_law_258 : decode cL_law 258 = .ok (.iaload, 1) := dk_46 (dk_at dksL_law_5 10 rfl rfl)
theorem dL_law_259 : decode cL_law 259 = .ok (.aload_n 0, 1) := dk_42 (dk_at dksL_law_5 11 rfl rfl)
theorem dL_law_260 : decode cL_law 260 = .ok (.iload 4, 2) := dk_21 4 (dk_at dksL_law_5 12 rfl rfl)
theorem dL_law_262 : decode cL_law 262 = .ok (.iconst 5, 1) := dk_8 (dk_at dksL_law_5 14 rfl rfl)
theorem dL_law_263 : decode cL_law 263 = .ok (.iadd, 1) := dk_96 (dk_at dksL_law_5 15 rfl rfl)
theorem dL_law_264 : decode cL_law 264 = .ok (.iaload, 1) := dk_46 (dk_at dksL_law_5 16 rfl rfl)
theorem dL_law_265 : decode cL_law 265 = .ok (.invokevirtual 108, 3) := dk_182 0 108 (dk_at dksL_law_5 17 rfl rfl)
theorem dL_law_268 : decode cL_law 268 = .ok (.if_icmp .eq 1948, 3) := dk_159 7 156 (dk_at dksL_law_5 20 rfl rfl)
theorem dL_law_271 : decode cL_law 271 = .ok (.iconst 0, 1) := dk_3 (dk_at dksL_law_5 23 rfl rfl)
theorem dL_law_272 : decode cL_law 272 = .ok (.ireturn, 1) := dk_172 (dk_at dksL_law_6 0 rfl rfl)
theorem dL_law_273 : decode cL_law 273 = .ok (.aload_n 1, 1) := dk_43 (dk_at dksL_law_6 1 rfl rfl)
theorem dL_law_274 : decode cL_law 274 = .ok (.aload_n 0, 1) := dk_42 (dk_at dksL_law_6 2 rfl rfl)
theorem dL_law_275 : decode cL_law 275 = .ok (.iload 4, 2) := dk_21 4 (dk_at dksL_law_6 3 rfl rfl)
theorem dL_law_277 : decode cL_law 277 = .ok (.iconst 1, 1) := dk_4 (dk_at dksL_law_6 5 rfl rfl)
theorem dL_law_278 : decode cL_law 278 = .ok (.iadd, 1) := dk_96 (dk_at dksL_law_6 6 rfl rfl)
theorem dL_law_279 : decode cL_law 279 = .ok (.iaload, 1) := dk_46 (dk_at dksL_law_6 7 rfl rfl)
theorem dL_law_280 : decode cL_law 280 = .ok (.aload_n 3, 1) := dk_45 (dk_at dksL_law_6 8 rfl rfl)
theorem dL_law_281 : decode cL_law 281 = .ok (.invokestatic 109, 3) := dk_184 0 109 (dk_at dksL_law_6 9 rfl rfl)
theorem dL_law_284 : decode cL_law 284 = .ok (.istore 5, 2) := dk_54 5 (dk_at dksL_law_6 12 rfl rfl)
theorem dL_law_286 : decode cL_law 286 = .ok (.aload_n 2, 1) := dk_44 (dk_at dksL_law_6 14 rfl rfl)
theorem dL_law_287 : decode cL_law 287 = .ok (.aload_n 0, 1) := dk_42 (dk_at dksL_law_6 15 rfl rfl)
theorem dL_law_288 : decode cL_law 288 = .ok (.iload 4, 2) := dk_21 4 (dk_at dksL_law_6 16 rfl rfl)
theorem dL_law_290 : decode cL_law 290 = .ok (.iconst 1, 1) := dk_4 (dk_at dksL_law_6 18 rfl rfl)
theorem dL_law_291 : decode cL_law 291 = .ok (.iadd, 1) := dk_96 (dk_at dksL_law_6 19 rfl rfl)
theorem dL_law_292 : decode cL_law 292 = .ok (.iaload, 1) := dk_46 (dk_at dksL_law_6 20 rfl rfl)
theorem dL_law_293 : decode cL_law 293 = .ok (.invokevirtual 114, 3) := dk_182 0 114 (dk_at dksL_law_6 21 rfl rfl)
theorem dL_law_296 : decode cL_law 296 = .ok (.istore 6, 2) := dk_54 6 (dk_at dksL_law_7 0 rfl rfl)
theorem dL_law_298 : decode cL_law 298 = .ok (.aload_n 2, 1) := dk_44 (dk_at dksL_law_7 2 rfl rfl)
theorem dL_law_299 : decode cL_law 299 = .ok (.invokevirtual 115, 3) := dk_182 0 115 (dk_at dksL_law_7 3 rfl rfl)
theorem dL_law_302 : decode cL_law 302 = .ok (.iload 5, 2) := dk_21 5 (dk_at dksL_law_7 6 rfl rfl)
theorem dL_law_304 : decode cL_law 304 = .ok (.if_icmp .eq 5, 3) := dk_159 0 5 (dk_at dksL_law_7 8 rfl rfl)
theorem dL_law_307 : decode cL_law 307 = .ok (.iconst 0, 1) := dk_3 (dk_at dksL_law_7 11 rfl rfl)
theorem dL_law_308 : decode cL_law 308 = .ok (.ireturn, 1) := dk_172 (dk_at dksL_law_7 12 rfl rfl)
theorem dL_law_309 : decode cL_law 309 = .ok (.iload 5, 2) := dk_21 5 (dk_at dksL_law_7 13 rfl rfl)
theorem dL_law_311 : decode cL_law 311 = .ok (.ifCond .ne 15, 3) := dk_154 0 15 (dk_at dksL_law_7 15 rfl rfl)
theorem dL_law_314 : decode cL_law 314 = .ok (.aload_n 3, 1) := dk_45 (dk_at dksL_law_7 18 rfl rfl)
theorem dL_law_315 : decode cL_law 315 = .ok (.iconst 0, 1) := dk_3 (dk_at dksL_law_7 19 rfl rfl)
theorem dL_law_316 : decode cL_law 316 = .ok (.laload, 1) := dk_47 (dk_at dksL_law_7 20 rfl rfl)
theorem dL_law_317 : decode cL_law 317 = .ok (.iload 6, 2) := dk_21 6 (dk_at dksL_law_7 21 rfl rfl)
theorem dL_law_319 : decode cL_law 319 = .ok (.i2l, 1) := dk_133 (dk_at dksL_law_7 23 rfl rfl)
theorem dL_law_320 : decode cL_law 320 = .ok (.lcmp, 1) := dk_148 (dk_at dksL_law_8 0 rfl rfl)
theorem dL_law_321 : decode cL_law 321 = .ok (.ifCond .eq 5, 3) := dk_153 0 5 (dk_at dksL_law_8 1 rfl rfl)
theorem dL_law_324 : decode cL_law 324 = .ok (.iconst 0, 1) := dk_3 (dk_at dksL_law_8 4 rfl rfl)
theorem dL_law_325 : decode cL_law 325 = .ok (.ireturn, 1) := dk_172 (dk_at dksL_law_8 5 rfl rfl)
theorem dL_law_326 : decode cL_law 326 = .ok (.goto 1890, 3) := dk_167 7 98 (dk_at dksL_law_8 6 rfl rfl)
theorem dL_law_329 : decode cL_law 329 = .ok (.aload_n 1, 1) := dk_43 (dk_at dksL_law_8 9 rfl rfl)
theorem dL_law_330 : decode cL_law 330 = .ok (.invokevirtual 119, 3) := dk_182 0 119 (dk_at dksL_law_8 10 rfl rfl)
theorem dL_law_333 : decode cL_law 333 = .ok (.aload_n 2, 1) := dk_44 (dk_at dksL_law_8 13 rfl rfl)
theorem dL_law_334 : decode cL_law 334 = .ok (.invokevirtual 122, 3) := dk_182 0 122 (dk_at dksL_law_8 14 rfl rfl)
theorem dL_law_337 : decode cL_law 337 = .ok (.if_icmp .eq 1879, 3) := dk_159 7 87 (dk_at dksL_law_8 17 rfl rfl)
theorem dL_law_340 : decode cL_law 340 = .ok (.iconst 0, 1) := dk_3 (dk_at dksL_law_8 20 rfl rfl)
theorem dL_law_341 : decode cL_law 341 = .ok (.ireturn, 1) := dk_172 (dk_at dksL_law_8 21 rfl rfl)
theorem dL_law_342 : decode cL_law 342 = .ok (.aload_n 1, 1) := dk_43 (dk_at dksL_law_8 22 rfl rfl)
theorem dL_law_343 : decode cL_law 343 = .ok (.aload_n 0, 1) := dk_42 (dk_at dksL_law_8 23 rfl rfl)
theorem dL_law_344 : decode cL_law 344 = .ok (.iload 4, 2) := dk_21 4 (dk_at dksL_law_9 0 rfl rfl)
theorem dL_law_346 : decode cL_law 346 = .ok (.iconst 1, 1) := dk_4 (dk_at dksL_law_9 2 rfl rfl)
theorem dL_law_347 : decode cL_law 347 = .ok (.iadd, 1) := dk_96 (dk_at dksL_law_9 3 rfl rfl)
theorem dL_law_348 : decode cL_law 348 = .ok (.iaload, 1) := dk_46 (dk_at dksL_law_9 4 rfl rfl)
theorem dL_law_349 : decode cL_law 349 = .ok (.aload_n 3, 1) := dk_45 (dk_at dksL_law_9 5 rfl rfl)
theorem dL_law_350 : decode cL_law 350 = .ok (.invokestatic 123, 3) := dk_184 0 123 (dk_at dksL_law_9 6 rfl rfl)
theorem dL_law_353 : decode cL_law 353 = .ok (.istore 5, 2) := dk_54 5 (dk_at dksL_law_9 9 rfl rfl)
theorem dL_law_355 : decode cL_law 355 = .ok (.aload_n 2, 1) := dk_44 (dk_at dksL_law_9 11 rfl rfl)
theorem dL_law_356 : decode cL_law 356 = .ok (.aload_n 0, 1) := dk_42 (dk_at dksL_law_9 12 rfl rfl)
theorem dL_law_357 : decode cL_law 357 = .ok (.iload 4, 2) := dk_21 4 (dk_at dksL_law_9 13 rfl rfl)
theorem dL_law_359 : decode cL_law 359 = .ok (.iconst 1, 1) := dk_4 (dk_at dksL_law_9 15 rfl rfl)
theorem dL_law_360 : decode cL_law 360 = .ok (.iadd, 1) := dk_96 (dk_at dksL_law_9 16 rfl rfl)
theorem dL_law_361 : decode cL_law 361 = .ok (.iaload, 1) := dk_46 (dk_at dksL_law_9 17 rfl rfl)
theorem dL_law_362 : decode cL_law 362 = .ok (.invokevirtual 125, 3) := dk_182 0 125 (dk_at dksL_law_9 18 rfl rfl)
theorem dL_law_365 : decode cL_law 365 = .ok (.istore 6, 2) := dk_54 6 (dk_at dksL_law_9 21 rfl rfl)
theorem dL_law_367 : decode cL_law 367 = .ok (.aload_n 2, 1) := dk_44 (dk_at dksL_law_9 23 rfl rfl)
theorem dL_law_368 : decode cL_law 368 = .ok (.invokevirtual 115, 3) := dk_182 0 115 (dk_at dksL_law_10 0 rfl rfl)
theorem dL_law_371 : decode cL_law 371 = .ok (.iload 5, 2) := dk_21 5 (dk_at dksL_law_10 3 rfl rfl)
theorem dL_law_373 : decode cL_law 373 = .ok (.if_icmp .eq 5, 3) := dk_159 0 5 (dk_at dksL_law_10 5 rfl rfl)
theorem dL_law_376 : decode cL_law 376 = .ok (.iconst 0, 1) := dk_3 (dk_at dksL_law_10 8 rfl rfl)
theorem dL_law_377 : decode cL_law 377 = .ok (.ireturn, 1) := dk_172 (dk_at dksL_law_10 9 rfl rfl)
theorem dL_law_378 : decode cL_law 378 = .ok (.iload 5, 2) := dk_21 5 (dk_at dksL_law_10 10 rfl rfl)
theorem dL_law_380 : decode cL_law 380 = .ok (.ifCond .ne 15, 3) := dk_154 0 15 (dk_at dksL_law_10 12 rfl rfl)
theorem dL_law_383 : decode cL_law 383 = .ok (.aload_n 3, 1) := dk_45 (dk_at dksL_law_10 15 rfl rfl)
theorem dL_law_384 : decode cL_law 384 = .ok (.iconst 0, 1) := dk_3 (dk_at dksL_law_10 16 rfl rfl)
theorem dL_law_385 : decode cL_law 385 = .ok (.laload, 1) := dk_47 (dk_at dksL_law_10 17 rfl rfl)
theorem dL_law_386 : decode cL_law 386 = .ok (.iload 6, 2) := dk_21 6 (dk_at dksL_law_10 18 rfl rfl)
theorem dL_law_388 : decode cL_law 388 = .ok (.i2l, 1) := dk_133 (dk_at dksL_law_10 20 rfl rfl)
theorem dL_law_389 : decode cL_law 389 = .ok (.lcmp, 1) := dk_148 (dk_at dksL_law_10 21 rfl rfl)
theorem dL_law_390 : decode cL_law 390 = .ok (.ifCond .eq 5, 3) := dk_153 0 5 (dk_at dksL_law_11 0 rfl rfl)
theorem dL_law_393 : decode cL_law 393 = .ok (.iconst 0, 1) := dk_3 (dk_at dksL_law_11 3 rfl rfl)
theorem dL_law_394 : decode cL_law 394 = .ok (.ireturn, 1) := dk_172 (dk_at dksL_law_11 4 rfl rfl)
theorem dL_law_395 : decode cL_law 395 = .ok (.goto 1821, 3) := dk_167 7 29 (dk_at dksL_law_11 5 rfl rfl)
theorem dL_law_398 : decode cL_law 398 = .ok (.aload_n 1, 1) := dk_43 (dk_at dksL_law_11 8 rfl rfl)
theorem dL_law_399 : decode cL_law 399 = .ok (.aload_n 0, 1) := dk_42 (dk_at dksL_law_11 9 rfl rfl)
theorem dL_law_400 : decode cL_law 400 = .ok (.iload 4, 2) := dk_21 4 (dk_at dksL_law_11 10 rfl rfl)
theorem dL_law_402 : decode cL_law 402 = .ok (.iconst 1, 1) := dk_4 (dk_at dksL_law_11 12 rfl rfl)
theorem dL_law_403 : decode cL_law 403 = .ok (.iadd, 1) := dk_96 (dk_at dksL_law_11 13 rfl rfl)
theorem dL_law_404 : decode cL_law 404 = .ok (.iaload, 1) := dk_46 (dk_at dksL_law_11 14 rfl rfl)
theorem dL_law_405 : decode cL_law 405 = .ok (.aload_n 0, 1) := dk_42 (dk_at dksL_law_11 15 rfl rfl)
theorem dL_law_406 : decode cL_law 406 = .ok (.iload 4, 2) := dk_21 4 (dk_at dksL_law_11 16 rfl rfl)
theorem dL_law_408 : decode cL_law 408 = .ok (.iconst 2, 1) := dk_5 (dk_at dksL_law_11 18 rfl rfl)
theorem dL_law_409 : decode cL_law 409 = .ok (.iadd, 1) := dk_96 (dk_at dksL_law_11 19 rfl rfl)
theorem dL_law_410 : decode cL_law 410 = .ok (.iaload, 1) := dk_46 (dk_at dksL_law_11 20 rfl rfl)
theorem dL_law_411 : decode cL_law 411 = .ok (.aload_n 3, 1) := dk_45 (dk_at dksL_law_11 21 rfl rfl)
theorem dL_law_412 : decode cL_law 412 = .ok (.invokestatic 126, 3) := dk_184 0 126 (dk_at dksL_law_12 0 rfl rfl)
theorem dL_law_415 : decode cL_law 415 = .ok (.istore 5, 2) := dk_54 5 (dk_at dksL_law_12 3 rfl rfl)
theorem dL_law_417 : decode cL_law 417 = .ok (.aload_n 2, 1) := dk_44 (dk_at dksL_law_12 5 rfl rfl)
theorem dL_law_418 : decode cL_law 418 = .ok (.aload_n 0, 1) := dk_42 (dk_at dksL_law_12 6 rfl rfl)
theorem dL_law_419 : decode cL_law 419 = .ok (.iload 4, 2) := dk_21 4 (dk_at dksL_law_12 7 rfl rfl)
theorem dL_law_421 : decode cL_law 421 = .ok (.iconst 1, 1) := dk_4 (dk_at dksL_law_12 9 rfl rfl)
theorem dL_law_422 : decode cL_law 422 = .ok (.iadd, 1) := dk_96 (dk_at dksL_law_12 10 rfl rfl)
theorem dL_law_423 : decode cL_law 423 = .ok (.iaload, 1) := dk_46 (dk_at dksL_law_12 11 rfl rfl)
theorem dL_law_424 : decode cL_law 424 = .ok (.aload_n 0, 1) := dk_42 (dk_at dksL_law_12 12 rfl rfl)
theorem dL_law_425 : decode cL_law 425 = .ok (.iload 4, 2) := dk_21 4 (dk_at dksL_law_12 13 rfl rfl)
theorem dL_law_427 : decode cL_law 427 = .ok (.iconst 2, 1) := dk_5 (dk_at dksL_law_12 15 rfl rfl)
theorem dL_law_428 : decode cL_law 428 = .ok (.iadd, 1) := dk_96 (dk_at dksL_law_12 16 rfl rfl)
theorem dL_law_429 : decode cL_law 429 = .ok (.iaload, 1) := dk_46 (dk_at dksL_law_12 17 rfl rfl)
theorem dL_law_430 : decode cL_law 430 = .ok (.invokevirtual 129, 3) := dk_182 0 129 (dk_at dksL_law_12 18 rfl rfl)
theorem dL_law_433 : decode cL_law 433 = .ok (.istore 6, 2) := dk_54 6 (dk_at dksL_law_12 21 rfl rfl)
theorem dL_law_435 : decode cL_law 435 = .ok (.aload_n 2, 1) := dk_44 (dk_at dksL_law_12 23 rfl rfl)
theorem dL_law_436 : decode cL_law 436 = .ok (.invokevirtual 115, 3) := dk_182 0 115 (dk_at dksL_law_13 0 rfl rfl)
theorem dL_law_439 : decode cL_law 439 = .ok (.iload 5, 2) := dk_21 5 (dk_at dksL_law_13 3 rfl rfl)
theorem dL_law_441 : decode cL_law 441 = .ok (.if_icmp .eq 5, 3) := dk_159 0 5 (dk_at dksL_law_13 5 rfl rfl)
theorem dL_law_444 : decode cL_law 444 = .ok (.iconst 0, 1) := dk_3 (dk_at dksL_law_13 8 rfl rfl)
theorem dL_law_445 : decode cL_law 445 = .ok (.ireturn, 1) := dk_172 (dk_at dksL_law_13 9 rfl rfl)
theorem dL_law_446 : decode cL_law 446 = .ok (.iload 5, 2) := dk_21 5 (dk_at dksL_law_13 10 rfl rfl)
theorem dL_law_448 : decode cL_law 448 = .ok (.ifCond .ne 15, 3) := dk_154 0 15 (dk_at dksL_law_13 12 rfl rfl)
theorem dL_law_451 : decode cL_law 451 = .ok (.aload_n 3, 1) := dk_45 (dk_at dksL_law_13 15 rfl rfl)
theorem dL_law_452 : decode cL_law 452 = .ok (.iconst 0, 1) := dk_3 (dk_at dksL_law_13 16 rfl rfl)
theorem dL_law_453 : decode cL_law 453 = .ok (.laload, 1) := dk_47 (dk_at dksL_law_13 17 rfl rfl)
theorem dL_law_454 : decode cL_law 454 = .ok (.iload 6, 2) := dk_21 6 (dk_at dksL_law_13 18 rfl rfl)
theorem dL_law_456 : decode cL_law 456 = .ok (.i2l, 1) := dk_133 (dk_at dksL_law_13 20 rfl rfl)
theorem dL_law_457 : decode cL_law 457 = .ok (.lcmp, 1) := dk_148 (dk_at dksL_law_13 21 rfl rfl)
theorem dL_law_458 : decode cL_law 458 = .ok (.ifCond .eq 5, 3) := dk_153 0 5 (dk_at dksL_law_14 0 rfl rfl)
theorem dL_law_461 : decode cL_law 461 = .ok (.iconst 0, 1) := dk_3 (dk_at dksL_law_14 3 rfl rfl)
theorem dL_law_462 : decode cL_law 462 = .ok (.ireturn, 1) := dk_172 (dk_at dksL_law_14 4 rfl rfl)
theorem dL_law_463 : decode cL_law 463 = .ok (.goto 1753, 3) := dk_167 6 217 (dk_at dksL_law_14 5 rfl rfl)
theorem dL_law_466 : decode cL_law 466 = .ok (.aload_n 1, 1) := dk_43 (dk_at dksL_law_14 8 rfl rfl)
theorem dL_law_467 : decode cL_law 467 = .ok (.aload_n 0, 1) := dk_42 (dk_at dksL_law_14 9 rfl rfl)
theorem dL_law_468 : decode cL_law 468 = .ok (.iload 4, 2) := dk_21 4 (dk_at dksL_law_14 10 rfl rfl)
theorem dL_law_470 : decode cL_law 470 = .ok (.iconst 1, 1) := dk_4 (dk_at dksL_law_14 12 rfl rfl)
theorem dL_law_471 : decode cL_law 471 = .ok (.iadd, 1) := dk_96 (dk_at dksL_law_14 13 rfl rfl)
theorem dL_law_472 : decode cL_law 472 = .ok (.iaload, 1) := dk_46 (dk_at dksL_law_14 14 rfl rfl)
theorem dL_law_473 : decode cL_law 473 = .ok (.aload_n 0, 1) := dk_42 (dk_at dksL_law_14 15 rfl rfl)
theorem dL_law_474 : decode cL_law 474 = .ok (.iload 4, 2) := dk_21 4 (dk_at dksL_law_14 16 rfl rfl)
theorem dL_law_476 : decode cL_law 476 = .ok (.iconst 2, 1) := dk_5 (dk_at dksL_law_14 18 rfl rfl)
theorem dL_law_477 : decode cL_law 477 = .ok (.iadd, 1) := dk_96 (dk_at dksL_law_14 19 rfl rfl)
theorem dL_law_478 : decode cL_law 478 = .ok (.iaload, 1) := dk_46 (dk_at dksL_law_14 20 rfl rfl)
theorem dL_law_479 : decode cL_law 479 = .ok (.aload_n 3, 1) := dk_45 (dk_at dksL_law_14 21 rfl rfl)
theorem dL_law_480 : decode cL_law 480 = .ok (.invokestatic 130, 3) := dk_184 0 130 (dk_at dksL_law_15 0 rfl rfl)
theorem dL_law_483 : decode cL_law 483 = .ok (.istore 5, 2) := dk_54 5 (dk_at dksL_law_15 3 rfl rfl)
theorem dL_law_485 : decode cL_law 485 = .ok (.aload_n 2, 1) := dk_44 (dk_at dksL_law_15 5 rfl rfl)
theorem dL_law_486 : decode cL_law 486 = .ok (.aload_n 0, 1) := dk_42 (dk_at dksL_law_15 6 rfl rfl)
theorem dL_law_487 : decode cL_law 487 = .ok (.iload 4, 2) := dk_21 4 (dk_at dksL_law_15 7 rfl rfl)
theorem dL_law_489 : decode cL_law 489 = .ok (.iconst 1, 1) := dk_4 (dk_at dksL_law_15 9 rfl rfl)
theorem dL_law_490 : decode cL_law 490 = .ok (.iadd, 1) := dk_96 (dk_at dksL_law_15 10 rfl rfl)
theorem dL_law_491 : decode cL_law 491 = .ok (.iaload, 1) := dk_46 (dk_at dksL_law_15 11 rfl rfl)
theorem dL_law_492 : decode cL_law 492 = .ok (.aload_n 0, 1) := dk_42 (dk_at dksL_law_15 12 rfl rfl)
theorem dL_law_493 : decode cL_law 493 = .ok (.iload 4, 2) := dk_21 4 (dk_at dksL_law_15 13 rfl rfl)
theorem dL_law_495 : decode cL_law 495 = .ok (.iconst 2, 1) := dk_5 (dk_at dksL_law_15 15 rfl rfl)
theorem dL_law_496 : decode cL_law 496 = .ok (.iadd, 1) := dk_96 (dk_at dksL_law_15 16 rfl rfl)
theorem dL_law_497 : decode cL_law 497 = .ok (.iaload, 1) := dk_46 (dk_at dksL_law_15 17 rfl rfl)
theorem dL_law_498 : decode cL_law 498 = .ok (.invokevirtual 132, 3) := dk_182 0 132 (dk_at dksL_law_15 18 rfl rfl)
theorem dL_law_501 : decode cL_law 501 = .ok (.istore 6, 2) := dk_54 6 (dk_at dksL_law_15 21 rfl rfl)
theorem dL_law_503 : decode cL_law 503 = .ok (.aload_n 2, 1) := dk_44 (dk_at dksL_law_15 23 rfl rfl)
theorem dL_law_504 : decode cL_law 504 = .ok (.invokevirtual 115, 3) := dk_182 0 115 (dk_at dksL_law_16 0 rfl rfl)
theorem dL_law_507 : decode cL_law 507 = .ok (.iload 5, 2) := dk_21 5 (dk_at dksL_law_16 3 rfl rfl)
theorem dL_law_509 : decode cL_law 509 = .ok (.if_icmp .eq 5, 3) := dk_159 0 5 (dk_at dksL_law_16 5 rfl rfl)
theorem dL_law_512 : decode cL_law 512 = .ok (.iconst 0, 1) := dk_3 (dk_at dksL_law_16 8 rfl rfl)
theorem dL_law_513 : decode cL_law 513 = .ok (.ireturn, 1) := dk_172 (dk_at dksL_law_16 9 rfl rfl)
theorem dL_law_514 : decode cL_law 514 = .ok (.iload 5, 2) := dk_21 5 (dk_at dksL_law_16 10 rfl rfl)
theorem dL_law_516 : decode cL_law 516 = .ok (.ifCond .ne 15, 3) := dk_154 0 15 (dk_at dksL_law_16 12 rfl rfl)
theorem dL_law_519 : decode cL_law 519 = .ok (.aload_n 3, 1) := dk_45 (dk_at dksL_law_16 15 rfl rfl)
theorem dL_law_520 : decode cL_law 520 = .ok (.iconst 0, 1) := dk_3 (dk_at dksL_law_16 16 rfl rfl)
theorem dL_law_521 : decode cL_law 521 = .ok (.laload, 1) := dk_47 (dk_at dksL_law_16 17 rfl rfl)
theorem dL_law_522 : decode cL_law 522 = .ok (.iload 6, 2) := dk_21 6 (dk_at dksL_law_16 18 rfl rfl)
theorem dL_law_524 : decode cL_law 524 = .ok (.i2l, 1) := dk_133 (dk_at dksL_law_16 20 rfl rfl)
theorem dL_law_525 : decode cL_law 525 = .ok (.lcmp, 1) := dk_148 (dk_at dksL_law_16 21 rfl rfl)
theorem dL_law_526 : decode cL_law 526 = .ok (.ifCond .eq 5, 3) := dk_153 0 5 (dk_at dksL_law_17 0 rfl rfl)
theorem dL_law_529 : decode cL_law 529 = .ok (.iconst 0, 1) := dk_3 (dk_at dksL_law_17 3 rfl rfl)
theorem dL_law_530 : decode cL_law 530 = .ok (.ireturn, 1) := dk_172 (dk_at dksL_law_17 4 rfl rfl)
theorem dL_law_531 : decode cL_law 531 = .ok (.goto 1685, 3) := dk_167 6 149 (dk_at dksL_law_17 5 rfl rfl)
theorem dL_law_534 : decode cL_law 534 = .ok (.aload_n 1, 1) := dk_43 (dk_at dksL_law_17 8 rfl rfl)
theorem dL_law_535 : decode cL_law 535 = .ok (.aload_n 0, 1) := dk_42 (dk_at dksL_law_17 9 rfl rfl)
theorem dL_law_536 : decode cL_law 536 = .ok (.iload 4, 2) := dk_21 4 (dk_at dksL_law_17 10 rfl rfl)
theorem dL_law_538 : decode cL_law 538 = .ok (.iconst 1, 1) := dk_4 (dk_at dksL_law_17 12 rfl rfl)
theorem dL_law_539 : decode cL_law 539 = .ok (.iadd, 1) := dk_96 (dk_at dksL_law_17 13 rfl rfl)
theorem dL_law_540 : decode cL_law 540 = .ok (.iaload, 1) := dk_46 (dk_at dksL_law_17 14 rfl rfl)
theorem dL_law_541 : decode cL_law 541 = .ok (.invokevirtual 133, 3) := dk_182 0 133 (dk_at dksL_law_17 15 rfl rfl)
theorem dL_law_544 : decode cL_law 544 = .ok (.aload_n 2, 1) := dk_44 (dk_at dksL_law_17 18 rfl rfl)
theorem dL_law_545 : decode cL_law 545 = .ok (.aload_n 0, 1) := dk_42 (dk_at dksL_law_17 19 rfl rfl)
theorem dL_law_546 : decode cL_law 546 = .ok (.iload 4, 2) := dk_21 4 (dk_at dksL_law_17 20 rfl rfl)
theorem dL_law_548 : decode cL_law 548 = .ok (.iconst 1, 1) := dk_4 (dk_at dksL_law_17 22 rfl rfl)
theorem dL_law_549 : decode cL_law 549 = .ok (.iadd, 1) := dk_96 (dk_at dksL_law_17 23 rfl rfl)
theorem dL_law_550 : decode cL_law 550 = .ok (.iaload, 1) := dk_46 (dk_at dksL_law_18 0 rfl rfl)
theorem dL_law_551 : decode cL_law 551 = .ok (.invokevirtual 136, 3) := dk_182 0 136 (dk_at dksL_law_18 1 rfl rfl)
theorem dL_law_554 : decode cL_law 554 = .ok (.if_icmp .eq 1662, 3) := dk_159 6 126 (dk_at dksL_law_18 4 rfl rfl)
theorem dL_law_557 : decode cL_law 557 = .ok (.iconst 0, 1) := dk_3 (dk_at dksL_law_18 7 rfl rfl)
theorem dL_law_558 : decode cL_law 558 = .ok (.ireturn, 1) := dk_172 (dk_at dksL_law_18 8 rfl rfl)
theorem dL_law_559 : decode cL_law 559 = .ok (.aload_n 1, 1) := dk_43 (dk_at dksL_law_18 9 rfl rfl)
theorem dL_law_560 : decode cL_law 560 = .ok (.aload_n 0, 1) := dk_42 (dk_at dksL_law_18 10 rfl rfl)
theorem dL_law_561 : decode cL_law 561 = .ok (.iload 4, 2) := dk_21 4 (dk_at dksL_law_18 11 rfl rfl)
theorem dL_law_563 : decode cL_law 563 = .ok (.iconst 1, 1) := dk_4 (dk_at dksL_law_18 13 rfl rfl)
theorem dL_law_564 : decode cL_law 564 = .ok (.iadd, 1) := dk_96 (dk_at dksL_law_18 14 rfl rfl)
theorem dL_law_565 : decode cL_law 565 = .ok (.iaload, 1) := dk_46 (dk_at dksL_law_18 15 rfl rfl)
theorem dL_law_566 : decode cL_law 566 = .ok (.aload_n 0, 1) := dk_42 (dk_at dksL_law_18 16 rfl rfl)
theorem dL_law_567 : decode cL_law 567 = .ok (.iload 4, 2) := dk_21 4 (dk_at dksL_law_18 17 rfl rfl)
theorem dL_law_569 : decode cL_law 569 = .ok (.iconst 2, 1) := dk_5 (dk_at dksL_law_18 19 rfl rfl)
theorem dL_law_570 : decode cL_law 570 = .ok (.iadd, 1) := dk_96 (dk_at dksL_law_18 20 rfl rfl)
theorem dL_law_571 : decode cL_law 571 = .ok (.iaload, 1) := dk_46 (dk_at dksL_law_18 21 rfl rfl)
theorem dL_law_572 : decode cL_law 572 = .ok (.aload_n 3, 1) := dk_45 (dk_at dksL_law_18 22 rfl rfl)
theorem dL_law_573 : decode cL_law 573 = .ok (.invokestatic 137, 3) := dk_184 0 137 (dk_at dksL_law_19 0 rfl rfl)
theorem dL_law_576 : decode cL_law 576 = .ok (.istore 5, 2) := dk_54 5 (dk_at dksL_law_19 3 rfl rfl)
theorem dL_law_578 : decode cL_law 578 = .ok (.aload_n 2, 1) := dk_44 (dk_at dksL_law_19 5 rfl rfl)
theorem dL_law_579 : decode cL_law 579 = .ok (.aload_n 0, 1) := dk_42 (dk_at dksL_law_19 6 rfl rfl)
theorem dL_law_580 : decode cL_law 580 = .ok (.iload 4, 2) := dk_21 4 (dk_at dksL_law_19 7 rfl rfl)
theorem dL_law_582 : decode cL_law 582 = .ok (.iconst 1, 1) := dk_4 (dk_at dksL_law_19 9 rfl rfl)
theorem dL_law_583 : decode cL_law 583 = .ok (.iadd, 1) := dk_96 (dk_at dksL_law_19 10 rfl rfl)
theorem dL_law_584 : decode cL_law 584 = .ok (.iaload, 1) := dk_46 (dk_at dksL_law_19 11 rfl rfl)
theorem dL_law_585 : decode cL_law 585 = .ok (.aload_n 0, 1) := dk_42 (dk_at dksL_law_19 12 rfl rfl)
theorem dL_law_586 : decode cL_law 586 = .ok (.iload 4, 2) := dk_21 4 (dk_at dksL_law_19 13 rfl rfl)
theorem dL_law_588 : decode cL_law 588 = .ok (.iconst 2, 1) := dk_5 (dk_at dksL_law_19 15 rfl rfl)
theorem dL_law_589 : decode cL_law 589 = .ok (.iadd, 1) := dk_96 (dk_at dksL_law_19 16 rfl rfl)
theorem dL_law_590 : decode cL_law 590 = .ok (.iaload, 1) := dk_46 (dk_at dksL_law_19 17 rfl rfl)
theorem dL_law_591 : decode cL_law 591 = .ok (.invokevirtual 139, 3) := dk_182 0 139 (dk_at dksL_law_19 18 rfl rfl)
theorem dL_law_594 : decode cL_law 594 = .ok (.istore 6, 2) := dk_54 6 (dk_at dksL_law_19 21 rfl rfl)
theorem dL_law_596 : decode cL_law 596 = .ok (.aload_n 2, 1) := dk_44 (dk_at dksL_law_19 23 rfl rfl)
theorem dL_law_597 : decode cL_law 597 = .ok (.invokevirtual 115, 3) := dk_182 0 115 (dk_at dksL_law_20 0 rfl rfl)
theorem dL_law_600 : decode cL_law 600 = .ok (.iload 5, 2) := dk_21 5 (dk_at dksL_law_20 3 rfl rfl)
theorem dL_law_602 : decode cL_law 602 = .ok (.if_icmp .eq 5, 3) := dk_159 0 5 (dk_at dksL_law_20 5 rfl rfl)
theorem dL_law_605 : decode cL_law 605 = .ok (.iconst 0, 1) := dk_3 (dk_at dksL_law_20 8 rfl rfl)
theorem dL_law_606 : decode cL_law 606 = .ok (.ireturn, 1) := dk_172 (dk_at dksL_law_20 9 rfl rfl)
theorem dL_law_607 : decode cL_law 607 = .ok (.iload 5, 2) := dk_21 5 (dk_at dksL_law_20 10 rfl rfl)
theorem dL_law_609 : decode cL_law 609 = .ok (.ifCond .ne 15, 3) := dk_154 0 15 (dk_at dksL_law_20 12 rfl rfl)
theorem dL_law_612 : decode cL_law 612 = .ok (.aload_n 3, 1) := dk_45 (dk_at dksL_law_20 15 rfl rfl)
theorem dL_law_613 : decode cL_law 613 = .ok (.iconst 0, 1) := dk_3 (dk_at dksL_law_20 16 rfl rfl)
theorem dL_law_614 : decode cL_law 614 = .ok (.laload, 1) := dk_47 (dk_at dksL_law_20 17 rfl rfl)
theorem dL_law_615 : decode cL_law 615 = .ok (.iload 6, 2) := dk_21 6 (dk_at dksL_law_20 18 rfl rfl)
theorem dL_law_617 : decode cL_law 617 = .ok (.i2l, 1) := dk_133 (dk_at dksL_law_20 20 rfl rfl)
theorem dL_law_618 : decode cL_law 618 = .ok (.lcmp, 1) := dk_148 (dk_at dksL_law_20 21 rfl rfl)
theorem dL_law_619 : decode cL_law 619 = .ok (.ifCond .eq 5, 3) := dk_153 0 5 (dk_at dksL_law_21 0 rfl rfl)
theorem dL_law_622 : decode cL_law 622 = .ok (.iconst 0, 1) := dk_3 (dk_at dksL_law_21 3 rfl rfl)
theorem dL_law_623 : decode cL_law 623 = .ok (.ireturn, 1) := dk_172 (dk_at dksL_law_21 4 rfl rfl)
theorem dL_law_624 : decode cL_law 624 = .ok (.goto 1592, 3) := dk_167 6 56 (dk_at dksL_law_21 5 rfl rfl)
theorem dL_law_627 : decode cL_law 627 = .ok (.aload_n 1, 1) := dk_43 (dk_at dksL_law_21 8 rfl rfl)
theorem dL_law_628 : decode cL_law 628 = .ok (.aload_n 0, 1) := dk_42 (dk_at dksL_law_21 9 rfl rfl)
theorem dL_law_629 : decode cL_law 629 = .ok (.iload 4, 2) := dk_21 4 (dk_at dksL_law_21 10 rfl rfl)
theorem dL_law_631 : decode cL_law 631 = .ok (.iconst 1, 1) := dk_4 (dk_at dksL_law_21 12 rfl rfl)
theorem dL_law_632 : decode cL_law 632 = .ok (.iadd, 1) := dk_96 (dk_at dksL_law_21 13 rfl rfl)
theorem dL_law_633 : decode cL_law 633 = .ok (.iaload, 1) := dk_46 (dk_at dksL_law_21 14 rfl rfl)
theorem dL_law_634 : decode cL_law 634 = .ok (.aload_n 0, 1) := dk_42 (dk_at dksL_law_21 15 rfl rfl)
theorem dL_law_635 : decode cL_law 635 = .ok (.iload 4, 2) := dk_21 4 (dk_at dksL_law_21 16 rfl rfl)
theorem dL_law_637 : decode cL_law 637 = .ok (.iconst 2, 1) := dk_5 (dk_at dksL_law_21 18 rfl rfl)
theorem dL_law_638 : decode cL_law 638 = .ok (.iadd, 1) := dk_96 (dk_at dksL_law_21 19 rfl rfl)
theorem dL_law_639 : decode cL_law 639 = .ok (.iaload, 1) := dk_46 (dk_at dksL_law_21 20 rfl rfl)
theorem dL_law_640 : decode cL_law 640 = .ok (.aload_n 3, 1) := dk_45 (dk_at dksL_law_21 21 rfl rfl)
theorem dL_law_641 : decode cL_law 641 = .ok (.invokestatic 140, 3) := dk_184 0 140 (dk_at dksL_law_22 0 rfl rfl)
theorem dL_law_644 : decode cL_law 644 = .ok (.istore 5, 2) := dk_54 5 (dk_at dksL_law_22 3 rfl rfl)
theorem dL_law_646 : decode cL_law 646 = .ok (.aload_n 2, 1) := dk_44 (dk_at dksL_law_22 5 rfl rfl)
theorem dL_law_647 : decode cL_law 647 = .ok (.aload_n 0, 1) := dk_42 (dk_at dksL_law_22 6 rfl rfl)
theorem dL_law_648 : decode cL_law 648 = .ok (.iload 4, 2) := dk_21 4 (dk_at dksL_law_22 7 rfl rfl)
theorem dL_law_650 : decode cL_law 650 = .ok (.iconst 1, 1) := dk_4 (dk_at dksL_law_22 9 rfl rfl)
theorem dL_law_651 : decode cL_law 651 = .ok (.iadd, 1) := dk_96 (dk_at dksL_law_22 10 rfl rfl)
theorem dL_law_652 : decode cL_law 652 = .ok (.iaload, 1) := dk_46 (dk_at dksL_law_22 11 rfl rfl)
theorem dL_law_653 : decode cL_law 653 = .ok (.aload_n 0, 1) := dk_42 (dk_at dksL_law_22 12 rfl rfl)
theorem dL_law_654 : decode cL_law 654 = .ok (.iload 4, 2) := dk_21 4 (dk_at dksL_law_22 13 rfl rfl)
theorem dL_law_656 : decode cL_law 656 = .ok (.iconst 2, 1) := dk_5 (dk_at dksL_law_22 15 rfl rfl)
theorem dL_law_657 : decode cL_law 657 = .ok (.iadd, 1) := dk_96 (dk_at dksL_law_22 16 rfl rfl)
theorem dL_law_658 : decode cL_law 658 = .ok (.iaload, 1) := dk_46 (dk_at dksL_law_22 17 rfl rfl)
theorem dL_law_659 : decode cL_law 659 = .ok (.invokevirtual 142, 3) := dk_182 0 142 (dk_at dksL_law_22 18 rfl rfl)
theorem dL_law_662 : decode cL_law 662 = .ok (.istore 6, 2) := dk_54 6 (dk_at dksL_law_22 21 rfl rfl)
theorem dL_law_664 : decode cL_law 664 = .ok (.aload_n 2, 1) := dk_44 (dk_at dksL_law_22 23 rfl rfl)
theorem dL_law_665 : decode cL_law 665 = .ok (.invokevirtual 115, 3) := dk_182 0 115 (dk_at dksL_law_23 0 rfl rfl)
theorem dL_law_668 : decode cL_law 668 = .ok (.iload 5, 2) := dk_21 5 (dk_at dksL_law_23 3 rfl rfl)
theorem dL_law_670 : decode cL_law 670 = .ok (.if_icmp .eq 5, 3) := dk_159 0 5 (dk_at dksL_law_23 5 rfl rfl)
theorem dL_law_673 : decode cL_law 673 = .ok (.iconst 0, 1) := dk_3 (dk_at dksL_law_23 8 rfl rfl)
theorem dL_law_674 : decode cL_law 674 = .ok (.ireturn, 1) := dk_172 (dk_at dksL_law_23 9 rfl rfl)
theorem dL_law_675 : decode cL_law 675 = .ok (.iload 5, 2) := dk_21 5 (dk_at dksL_law_23 10 rfl rfl)
theorem dL_law_677 : decode cL_law 677 = .ok (.ifCond .ne 15, 3) := dk_154 0 15 (dk_at dksL_law_23 12 rfl rfl)
theorem dL_law_680 : decode cL_law 680 = .ok (.aload_n 3, 1) := dk_45 (dk_at dksL_law_23 15 rfl rfl)
theorem dL_law_681 : decode cL_law 681 = .ok (.iconst 0, 1) := dk_3 (dk_at dksL_law_23 16 rfl rfl)
theorem dL_law_682 : decode cL_law 682 = .ok (.laload, 1) := dk_47 (dk_at dksL_law_23 17 rfl rfl)
theorem dL_law_683 : decode cL_law 683 = .ok (.iload 6, 2) := dk_21 6 (dk_at dksL_law_23 18 rfl rfl)
theorem dL_law_685 : decode cL_law 685 = .ok (.i2l, 1) := dk_133 (dk_at dksL_law_23 20 rfl rfl)
theorem dL_law_686 : decode cL_law 686 = .ok (.lcmp, 1) := dk_148 (dk_at dksL_law_23 21 rfl rfl)
theorem dL_law_687 : decode cL_law 687 = .ok (.ifCond .eq 5, 3) := dk_153 0 5 (dk_at dksL_law_24 0 rfl rfl)
theorem dL_law_690 : decode cL_law 690 = .ok (.iconst 0, 1) := dk_3 (dk_at dksL_law_24 3 rfl rfl)
theorem dL_law_691 : decode cL_law 691 = .ok (.ireturn, 1) := dk_172 (dk_at dksL_law_24 4 rfl rfl)
theorem dL_law_692 : decode cL_law 692 = .ok (.goto 1524, 3) := dk_167 5 244 (dk_at dksL_law_24 5 rfl rfl)
theorem dL_law_695 : decode cL_law 695 = .ok (.aload_n 1, 1) := dk_43 (dk_at dksL_law_24 8 rfl rfl)
theorem dL_law_696 : decode cL_law 696 = .ok (.aload_n 0, 1) := dk_42 (dk_at dksL_law_24 9 rfl rfl)
theorem dL_law_697 : decode cL_law 697 = .ok (.iload 4, 2) := dk_21 4 (dk_at dksL_law_24 10 rfl rfl)
theorem dL_law_699 : decode cL_law 699 = .ok (.iconst 1, 1) := dk_4 (dk_at dksL_law_24 12 rfl rfl)
theorem dL_law_700 : decode cL_law 700 = .ok (.iadd, 1) := dk_96 (dk_at dksL_law_24 13 rfl rfl)
theorem dL_law_701 : decode cL_law 701 = .ok (.iaload, 1) := dk_46 (dk_at dksL_law_24 14 rfl rfl)
theorem dL_law_702 : decode cL_law 702 = .ok (.aload_n 0, 1) := dk_42 (dk_at dksL_law_24 15 rfl rfl)
theorem dL_law_703 : decode cL_law 703 = .ok (.iload 4, 2) := dk_21 4 (dk_at dksL_law_24 16 rfl rfl)
theorem dL_law_705 : decode cL_law 705 = .ok (.iconst 2, 1) := dk_5 (dk_at dksL_law_24 18 rfl rfl)
theorem dL_law_706 : decode cL_law 706 = .ok (.iadd, 1) := dk_96 (dk_at dksL_law_24 19 rfl rfl)
theorem dL_law_707 : decode cL_law 707 = .ok (.iaload, 1) := dk_46 (dk_at dksL_law_24 20 rfl rfl)
theorem dL_law_708 : decode cL_law 708 = .ok (.aload_n 3, 1) := dk_45 (dk_at dksL_law_24 21 rfl rfl)
theorem dL_law_709 : decode cL_law 709 = .ok (.invokestatic 143, 3) := dk_184 0 143 (dk_at dksL_law_25 0 rfl rfl)
theorem dL_law_712 : decode cL_law 712 = .ok (.istore 5, 2) := dk_54 5 (dk_at dksL_law_25 3 rfl rfl)
theorem dL_law_714 : decode cL_law 714 = .ok (.aload_n 2, 1) := dk_44 (dk_at dksL_law_25 5 rfl rfl)
theorem dL_law_715 : decode cL_law 715 = .ok (.aload_n 0, 1) := dk_42 (dk_at dksL_law_25 6 rfl rfl)
theorem dL_law_716 : decode cL_law 716 = .ok (.iload 4, 2) := dk_21 4 (dk_at dksL_law_25 7 rfl rfl)
theorem dL_law_718 : decode cL_law 718 = .ok (.iconst 1, 1) := dk_4 (dk_at dksL_law_25 9 rfl rfl)
theorem dL_law_719 : decode cL_law 719 = .ok (.iadd, 1) := dk_96 (dk_at dksL_law_25 10 rfl rfl)
theorem dL_law_720 : decode cL_law 720 = .ok (.iaload, 1) := dk_46 (dk_at dksL_law_25 11 rfl rfl)
theorem dL_law_721 : decode cL_law 721 = .ok (.aload_n 0, 1) := dk_42 (dk_at dksL_law_25 12 rfl rfl)
theorem dL_law_722 : decode cL_law 722 = .ok (.iload 4, 2) := dk_21 4 (dk_at dksL_law_25 13 rfl rfl)
theorem dL_law_724 : decode cL_law 724 = .ok (.iconst 2, 1) := dk_5 (dk_at dksL_law_25 15 rfl rfl)
theorem dL_law_725 : decode cL_law 725 = .ok (.iadd, 1) := dk_96 (dk_at dksL_law_25 16 rfl rfl)
theorem dL_law_726 : decode cL_law 726 = .ok (.iaload, 1) := dk_46 (dk_at dksL_law_25 17 rfl rfl)
theorem dL_law_727 : decode cL_law 727 = .ok (.invokevirtual 145, 3) := dk_182 0 145 (dk_at dksL_law_25 18 rfl rfl)
theorem dL_law_730 : decode cL_law 730 = .ok (.istore 6, 2) := dk_54 6 (dk_at dksL_law_25 21 rfl rfl)
theorem dL_law_732 : decode cL_law 732 = .ok (.aload_n 2, 1) := dk_44 (dk_at dksL_law_25 23 rfl rfl)
theorem dL_law_733 : decode cL_law 733 = .ok (.invokevirtual 115, 3) := dk_182 0 115 (dk_at dksL_law_26 0 rfl rfl)
theorem dL_law_736 : decode cL_law 736 = .ok (.iload 5, 2) := dk_21 5 (dk_at dksL_law_26 3 rfl rfl)
theorem dL_law_738 : decode cL_law 738 = .ok (.if_icmp .eq 5, 3) := dk_159 0 5 (dk_at dksL_law_26 5 rfl rfl)
theorem dL_law_741 : decode cL_law 741 = .ok (.iconst 0, 1) := dk_3 (dk_at dksL_law_26 8 rfl rfl)
theorem dL_law_742 : decode cL_law 742 = .ok (.ireturn, 1) := dk_172 (dk_at dksL_law_26 9 rfl rfl)
theorem dL_law_743 : decode cL_law 743 = .ok (.iload 5, 2) := dk_21 5 (dk_at dksL_law_26 10 rfl rfl)
theorem dL_law_745 : decode cL_law 745 = .ok (.ifCond .ne 15, 3) := dk_154 0 15 (dk_at dksL_law_26 12 rfl rfl)
theorem dL_law_748 : decode cL_law 748 = .ok (.aload_n 3, 1) := dk_45 (dk_at dksL_law_26 15 rfl rfl)
theorem dL_law_749 : decode cL_law 749 = .ok (.iconst 0, 1) := dk_3 (dk_at dksL_law_26 16 rfl rfl)
theorem dL_law_750 : decode cL_law 750 = .ok (.laload, 1) := dk_47 (dk_at dksL_law_26 17 rfl rfl)
theorem dL_law_751 : decode cL_law 751 = .ok (.iload 6, 2) := dk_21 6 (dk_at dksL_law_26 18 rfl rfl)
theorem dL_law_753 : decode cL_law 753 = .ok (.i2l, 1) := dk_133 (dk_at dksL_law_26 20 rfl rfl)
theorem dL_law_754 : decode cL_law 754 = .ok (.lcmp, 1) := dk_148 (dk_at dksL_law_26 21 rfl rfl)
theorem dL_law_755 : decode cL_law 755 = .ok (.ifCond .eq 5, 3) := dk_153 0 5 (dk_at dksL_law_27 0 rfl rfl)
theorem dL_law_758 : decode cL_law 758 = .ok (.iconst 0, 1) := dk_3 (dk_at dksL_law_27 3 rfl rfl)
theorem dL_law_759 : decode cL_law 759 = .ok (.ireturn, 1) := dk_172 (dk_at dksL_law_27 4 rfl rfl)
theorem dL_law_760 : decode cL_law 760 = .ok (.goto 1456, 3) := dk_167 5 176 (dk_at dksL_law_27 5 rfl rfl)
theorem dL_law_763 : decode cL_law 763 = .ok (.aload_n 1, 1) := dk_43 (dk_at dksL_law_27 8 rfl rfl)
theorem dL_law_764 : decode cL_law 764 = .ok (.aload_n 0, 1) := dk_42 (dk_at dksL_law_27 9 rfl rfl)
theorem dL_law_765 : decode cL_law 765 = .ok (.iload 4, 2) := dk_21 4 (dk_at dksL_law_27 10 rfl rfl)
theorem dL_law_767 : decode cL_law 767 = .ok (.iconst 1, 1) := dk_4 (dk_at dksL_law_27 12 rfl rfl)
theorem dL_law_768 : decode cL_law 768 = .ok (.iadd, 1) := dk_96 (dk_at dksL_law_27 13 rfl rfl)
theorem dL_law_769 : decode cL_law 769 = .ok (.iaload, 1) := dk_46 (dk_at dksL_law_27 14 rfl rfl)
theorem dL_law_770 : decode cL_law 770 = .ok (.aload_n 0, 1) := dk_42 (dk_at dksL_law_27 15 rfl rfl)
theorem dL_law_771 : decode cL_law 771 = .ok (.iload 4, 2) := dk_21 4 (dk_at dksL_law_27 16 rfl rfl)
theorem dL_law_773 : decode cL_law 773 = .ok (.iconst 2, 1) := dk_5 (dk_at dksL_law_27 18 rfl rfl)
theorem dL_law_774 : decode cL_law 774 = .ok (.iadd, 1) := dk_96 (dk_at dksL_law_27 19 rfl rfl)
theorem dL_law_775 : decode cL_law 775 = .ok (.iaload, 1) := dk_46 (dk_at dksL_law_27 20 rfl rfl)
theorem dL_law_776 : decode cL_law 776 = .ok (.aload_n 3, 1) := dk_45 (dk_at dksL_law_27 21 rfl rfl)
theorem dL_law_777 : decode cL_law 777 = .ok (.invokestatic 146, 3) := dk_184 0 146 (dk_at dksL_law_28 0 rfl rfl)
theorem dL_law_780 : decode cL_law 780 = .ok (.istore 5, 2) := dk_54 5 (dk_at dksL_law_28 3 rfl rfl)
theorem dL_law_782 : decode cL_law 782 = .ok (.aload_n 2, 1) := dk_44 (dk_at dksL_law_28 5 rfl rfl)
theorem dL_law_783 : decode cL_law 783 = .ok (.aload_n 0, 1) := dk_42 (dk_at dksL_law_28 6 rfl rfl)
theorem dL_law_784 : decode cL_law 784 = .ok (.iload 4, 2) := dk_21 4 (dk_at dksL_law_28 7 rfl rfl)
theorem dL_law_786 : decode cL_law 786 = .ok (.iconst 1, 1) := dk_4 (dk_at dksL_law_28 9 rfl rfl)
theorem dL_law_787 : decode cL_law 787 = .ok (.iadd, 1) := dk_96 (dk_at dksL_law_28 10 rfl rfl)
theorem dL_law_788 : decode cL_law 788 = .ok (.iaload, 1) := dk_46 (dk_at dksL_law_28 11 rfl rfl)
theorem dL_law_789 : decode cL_law 789 = .ok (.aload_n 0, 1) := dk_42 (dk_at dksL_law_28 12 rfl rfl)
theorem dL_law_790 : decode cL_law 790 = .ok (.iload 4, 2) := dk_21 4 (dk_at dksL_law_28 13 rfl rfl)
theorem dL_law_792 : decode cL_law 792 = .ok (.iconst 2, 1) := dk_5 (dk_at dksL_law_28 15 rfl rfl)
theorem dL_law_793 : decode cL_law 793 = .ok (.iadd, 1) := dk_96 (dk_at dksL_law_28 16 rfl rfl)
theorem dL_law_794 : decode cL_law 794 = .ok (.iaload, 1) := dk_46 (dk_at dksL_law_28 17 rfl rfl)
theorem dL_law_795 : decode cL_law 795 = .ok (.invokevirtual 148, 3) := dk_182 0 148 (dk_at dksL_law_28 18 rfl rfl)
theorem dL_law_798 : decode cL_law 798 = .ok (.istore 6, 2) := dk_54 6 (dk_at dksL_law_28 21 rfl rfl)
theorem dL_law_800 : decode cL_law 800 = .ok (.aload_n 2, 1) := dk_44 (dk_at dksL_law_28 23 rfl rfl)
theorem dL_law_801 : decode cL_law 801 = .ok (.invokevirtual 115, 3) := dk_182 0 115 (dk_at dksL_law_29 0 rfl rfl)
theorem dL_law_804 : decode cL_law 804 = .ok (.iload 5, 2) := dk_21 5 (dk_at dksL_law_29 3 rfl rfl)
theorem dL_law_806 : decode cL_law 806 = .ok (.if_icmp .eq 5, 3) := dk_159 0 5 (dk_at dksL_law_29 5 rfl rfl)
theorem dL_law_809 : decode cL_law 809 = .ok (.iconst 0, 1) := dk_3 (dk_at dksL_law_29 8 rfl rfl)
theorem dL_law_810 : decode cL_law 810 = .ok (.ireturn, 1) := dk_172 (dk_at dksL_law_29 9 rfl rfl)
theorem dL_law_811 : decode cL_law 811 = .ok (.iload 5, 2) := dk_21 5 (dk_at dksL_law_29 10 rfl rfl)
theorem dL_law_813 : decode cL_law 813 = .ok (.ifCond .ne 15, 3) := dk_154 0 15 (dk_at dksL_law_29 12 rfl rfl)
theorem dL_law_816 : decode cL_law 816 = .ok (.aload_n 3, 1) := dk_45 (dk_at dksL_law_29 15 rfl rfl)
theorem dL_law_817 : decode cL_law 817 = .ok (.iconst 0, 1) := dk_3 (dk_at dksL_law_29 16 rfl rfl)
theorem dL_law_818 : decode cL_law 818 = .ok (.laload, 1) := dk_47 (dk_at dksL_law_29 17 rfl rfl)
theorem dL_law_819 : decode cL_law 819 = .ok (.iload 6, 2) := dk_21 6 (dk_at dksL_law_29 18 rfl rfl)
theorem dL_law_821 : decode cL_law 821 = .ok (.i2l, 1) := dk_133 (dk_at dksL_law_29 20 rfl rfl)
theorem dL_law_822 : decode cL_law 822 = .ok (.lcmp, 1) := dk_148 (dk_at dksL_law_29 21 rfl rfl)
theorem dL_law_823 : decode cL_law 823 = .ok (.ifCond .eq 5, 3) := dk_153 0 5 (dk_at dksL_law_30 0 rfl rfl)
theorem dL_law_826 : decode cL_law 826 = .ok (.iconst 0, 1) := dk_3 (dk_at dksL_law_30 3 rfl rfl)
theorem dL_law_827 : decode cL_law 827 = .ok (.ireturn, 1) := dk_172 (dk_at dksL_law_30 4 rfl rfl)
theorem dL_law_828 : decode cL_law 828 = .ok (.goto 1388, 3) := dk_167 5 108 (dk_at dksL_law_30 5 rfl rfl)
theorem dL_law_831 : decode cL_law 831 = .ok (.aload_n 1, 1) := dk_43 (dk_at dksL_law_30 8 rfl rfl)
theorem dL_law_832 : decode cL_law 832 = .ok (.aload_n 0, 1) := dk_42 (dk_at dksL_law_30 9 rfl rfl)
theorem dL_law_833 : decode cL_law 833 = .ok (.iload 4, 2) := dk_21 4 (dk_at dksL_law_30 10 rfl rfl)
theorem dL_law_835 : decode cL_law 835 = .ok (.iconst 1, 1) := dk_4 (dk_at dksL_law_30 12 rfl rfl)
theorem dL_law_836 : decode cL_law 836 = .ok (.iadd, 1) := dk_96 (dk_at dksL_law_30 13 rfl rfl)
theorem dL_law_837 : decode cL_law 837 = .ok (.iaload, 1) := dk_46 (dk_at dksL_law_30 14 rfl rfl)
theorem dL_law_838 : decode cL_law 838 = .ok (.aload_n 3, 1) := dk_45 (dk_at dksL_law_30 15 rfl rfl)
theorem dL_law_839 : decode cL_law 839 = .ok (.invokestatic 149, 3) := dk_184 0 149 (dk_at dksL_law_30 16 rfl rfl)
theorem dL_law_842 : decode cL_law 842 = .ok (.istore 5, 2) := dk_54 5 (dk_at dksL_law_30 19 rfl rfl)
theorem dL_law_844 : decode cL_law 844 = .ok (.aload_n 2, 1) := dk_44 (dk_at dksL_law_30 21 rfl rfl)
theorem dL_law_845 : decode cL_law 845 = .ok (.aload_n 0, 1) := dk_42 (dk_at dksL_law_30 22 rfl rfl)
theorem dL_law_846 : decode cL_law 846 = .ok (.iload 4, 2) := dk_21 4 (dk_at dksL_law_31 0 rfl rfl)
theorem dL_law_848 : decode cL_law 848 = .ok (.iconst 1, 1) := dk_4 (dk_at dksL_law_31 2 rfl rfl)
theorem dL_law_849 : decode cL_law 849 = .ok (.iadd, 1) := dk_96 (dk_at dksL_law_31 3 rfl rfl)
theorem dL_law_850 : decode cL_law 850 = .ok (.iaload, 1) := dk_46 (dk_at dksL_law_31 4 rfl rfl)
theorem dL_law_851 : decode cL_law 851 = .ok (.invokevirtual 151, 3) := dk_182 0 151 (dk_at dksL_law_31 5 rfl rfl)
theorem dL_law_854 : decode cL_law 854 = .ok (.istore 6, 2) := dk_54 6 (dk_at dksL_law_31 8 rfl rfl)
theorem dL_law_856 : decode cL_law 856 = .ok (.aload_n 2, 1) := dk_44 (dk_at dksL_law_31 10 rfl rfl)
theorem dL_law_857 : decode cL_law 857 = .ok (.invokevirtual 115, 3) := dk_182 0 115 (dk_at dksL_law_31 11 rfl rfl)
theorem dL_law_860 : decode cL_law 860 = .ok (.iload 5, 2) := dk_21 5 (dk_at dksL_law_31 14 rfl rfl)
theorem dL_law_862 : decode cL_law 862 = .ok (.if_icmp .eq 5, 3) := dk_159 0 5 (dk_at dksL_law_31 16 rfl rfl)
theorem dL_law_865 : decode cL_law 865 = .ok (.iconst 0, 1) := dk_3 (dk_at dksL_law_31 19 rfl rfl)
theorem dL_law_866 : decode cL_law 866 = .ok (.ireturn, 1) := dk_172 (dk_at dksL_law_31 20 rfl rfl)
theorem dL_law_867 : decode cL_law 867 = .ok (.iload 5, 2) := dk_21 5 (dk_at dksL_law_31 21 rfl rfl)
theorem dL_law_869 : decode cL_law 869 = .ok (.ifCond .ne 15, 3) := dk_154 0 15 (dk_at dksL_law_32 0 rfl rfl)
theorem dL_law_872 : decode cL_law 872 = .ok (.aload_n 3, 1) := dk_45 (dk_at dksL_law_32 3 rfl rfl)
theorem dL_law_873 : decode cL_law 873 = .ok (.iconst 0, 1) := dk_3 (dk_at dksL_law_32 4 rfl rfl)
theorem dL_law_874 : decode cL_law 874 = .ok (.laload, 1) := dk_47 (dk_at dksL_law_32 5 rfl rfl)
theorem dL_law_875 : decode cL_law 875 = .ok (.iload 6, 2) := dk_21 6 (dk_at dksL_law_32 6 rfl rfl)
theorem dL_law_877 : decode cL_law 877 = .ok (.i2l, 1) := dk_133 (dk_at dksL_law_32 8 rfl rfl)
theorem dL_law_878 : decode cL_law 878 = .ok (.lcmp, 1) := dk_148 (dk_at dksL_law_32 9 rfl rfl)
theorem dL_law_879 : decode cL_law 879 = .ok (.ifCond .eq 5, 3) := dk_153 0 5 (dk_at dksL_law_32 10 rfl rfl)
theorem dL_law_882 : decode cL_law 882 = .ok (.iconst 0, 1) := dk_3 (dk_at dksL_law_32 13 rfl rfl)
theorem dL_law_883 : decode cL_law 883 = .ok (.ireturn, 1) := dk_172 (dk_at dksL_law_32 14 rfl rfl)
theorem dL_law_884 : decode cL_law 884 = .ok (.goto 1332, 3) := dk_167 5 52 (dk_at dksL_law_32 15 rfl rfl)
theorem dL_law_887 : decode cL_law 887 = .ok (.aload_n 1, 1) := dk_43 (dk_at dksL_law_32 18 rfl rfl)
theorem dL_law_888 : decode cL_law 888 = .ok (.invokevirtual 152, 3) := dk_182 0 152 (dk_at dksL_law_32 19 rfl rfl)
theorem dL_law_891 : decode cL_law 891 = .ok (.aload_n 2, 1) := dk_44 (dk_at dksL_law_32 22 rfl rfl)
theorem dL_law_892 : decode cL_law 892 = .ok (.invokevirtual 155, 3) := dk_182 0 155 (dk_at dksL_law_33 0 rfl rfl)
theorem dL_law_895 : decode cL_law 895 = .ok (.if_icmp .eq 1321, 3) := dk_159 5 41 (dk_at dksL_law_33 3 rfl rfl)
theorem dL_law_898 : decode cL_law 898 = .ok (.iconst 0, 1) := dk_3 (dk_at dksL_law_33 6 rfl rfl)
theorem dL_law_899 : decode cL_law 899 = .ok (.ireturn, 1) := dk_172 (dk_at dksL_law_33 7 rfl rfl)
theorem dL_law_900 : decode cL_law 900 = .ok (.aload_n 1, 1) := dk_43 (dk_at dksL_law_33 8 rfl rfl)
theorem dL_law_901 : decode cL_law 901 = .ok (.aload_n 0, 1) := dk_42 (dk_at dksL_law_33 9 rfl rfl)
theorem dL_law_902 : decode cL_law 902 = .ok (.iload 4, 2) := dk_21 4 (dk_at dksL_law_33 10 rfl rfl)
theorem dL_law_904 : decode cL_law 904 = .ok (.iconst 1, 1) := dk_4 (dk_at dksL_law_33 12 rfl rfl)
theorem dL_law_905 : decode cL_law 905 = .ok (.iadd, 1) := dk_96 (dk_at dksL_law_33 13 rfl rfl)
theorem dL_law_906 : decode cL_law 906 = .ok (.iaload, 1) := dk_46 (dk_at dksL_law_33 14 rfl rfl)
theorem dL_law_907 : decode cL_law 907 = .ok (.aload_n 0, 1) := dk_42 (dk_at dksL_law_33 15 rfl rfl)
theorem dL_law_908 : decode cL_law 908 = .ok (.iload 4, 2) := dk_21 4 (dk_at dksL_law_33 16 rfl rfl)
theorem dL_law_910 : decode cL_law 910 = .ok (.iconst 2, 1) := dk_5 (dk_at dksL_law_33 18 rfl rfl)
theorem dL_law_911 : decode cL_law 911 = .ok (.iadd, 1) := dk_96 (dk_at dksL_law_33 19 rfl rfl)
theorem dL_law_912 : decode cL_law 912 = .ok (.iaload, 1) := dk_46 (dk_at dksL_law_33 20 rfl rfl)
theorem dL_law_913 : decode cL_law 913 = .ok (.aload_n 3, 1) := dk_45 (dk_at dksL_law_33 21 rfl rfl)
theorem dL_law_914 : decode cL_law 914 = .ok (.invokestatic 156, 3) := dk_184 0 156 (dk_at dksL_law_34 0 rfl rfl)
theorem dL_law_917 : decode cL_law 917 = .ok (.istore 5, 2) := dk_54 5 (dk_at dksL_law_34 3 rfl rfl)
theorem dL_law_919 : decode cL_law 919 = .ok (.aload_n 2, 1) := dk_44 (dk_at dksL_law_34 5 rfl rfl)
theorem dL_law_920 : decode cL_law 920 = .ok (.aload_n 0, 1) := dk_42 (dk_at dksL_law_34 6 rfl rfl)
theorem dL_law_921 : decode cL_law 921 = .ok (.iload 4, 2) := dk_21 4 (dk_at dksL_law_34 7 rfl rfl)
theorem dL_law_923 : decode cL_law 923 = .ok (.iconst 1, 1) := dk_4 (dk_at dksL_law_34 9 rfl rfl)
theorem dL_law_924 : decode cL_law 924 = .ok (.iadd, 1) := dk_96 (dk_at dksL_law_34 10 rfl rfl)
theorem dL_law_925 : decode cL_law 925 = .ok (.iaload, 1) := dk_46 (dk_at dksL_law_34 11 rfl rfl)
theorem dL_law_926 : decode cL_law 926 = .ok (.aload_n 0, 1) := dk_42 (dk_at dksL_law_34 12 rfl rfl)
theorem dL_law_927 : decode cL_law 927 = .ok (.iload 4, 2) := dk_21 4 (dk_at dksL_law_34 13 rfl rfl)
theorem dL_law_929 : decode cL_law 929 = .ok (.iconst 2, 1) := dk_5 (dk_at dksL_law_34 15 rfl rfl)
theorem dL_law_930 : decode cL_law 930 = .ok (.iadd, 1) := dk_96 (dk_at dksL_law_34 16 rfl rfl)
theorem dL_law_931 : decode cL_law 931 = .ok (.iaload, 1) := dk_46 (dk_at dksL_law_34 17 rfl rfl)
theorem dL_law_932 : decode cL_law 932 = .ok (.invokevirtual 158, 3) := dk_182 0 158 (dk_at dksL_law_34 18 rfl rfl)
theorem dL_law_935 : decode cL_law 935 = .ok (.istore 6, 2) := dk_54 6 (dk_at dksL_law_34 21 rfl rfl)
theorem dL_law_937 : decode cL_law 937 = .ok (.aload_n 2, 1) := dk_44 (dk_at dksL_law_34 23 rfl rfl)
theorem dL_law_938 : decode cL_law 938 = .ok (.invokevirtual 115, 3) := dk_182 0 115 (dk_at dksL_law_35 0 rfl rfl)
theorem dL_law_941 : decode cL_law 941 = .ok (.iload 5, 2) := dk_21 5 (dk_at dksL_law_35 3 rfl rfl)
theorem dL_law_943 : decode cL_law 943 = .ok (.if_icmp .eq 5, 3) := dk_159 0 5 (dk_at dksL_law_35 5 rfl rfl)
theorem dL_law_946 : decode cL_law 946 = .ok (.iconst 0, 1) := dk_3 (dk_at dksL_law_35 8 rfl rfl)
theorem dL_law_947 : decode cL_law 947 = .ok (.ireturn, 1) := dk_172 (dk_at dksL_law_35 9 rfl rfl)
theorem dL_law_948 : decode cL_law 948 = .ok (.iload 5, 2) := dk_21 5 (dk_at dksL_law_35 10 rfl rfl)
theorem dL_law_950 : decode cL_law 950 = .ok (.ifCond .ne 15, 3) := dk_154 0 15 (dk_at dksL_law_35 12 rfl rfl)
theorem dL_law_953 : decode cL_law 953 = .ok (.aload_n 3, 1) := dk_45 (dk_at dksL_law_35 15 rfl rfl)
theorem dL_law_954 : decode cL_law 954 = .ok (.iconst 0, 1) := dk_3 (dk_at dksL_law_35 16 rfl rfl)
theorem dL_law_955 : decode cL_law 955 = .ok (.laload, 1) := dk_47 (dk_at dksL_law_35 17 rfl rfl)
theorem dL_law_956 : decode cL_law 956 = .ok (.iload 6, 2) := dk_21 6 (dk_at dksL_law_35 18 rfl rfl)
theorem dL_law_958 : decode cL_law 958 = .ok (.i2l, 1) := dk_133 (dk_at dksL_law_35 20 rfl rfl)
theorem dL_law_959 : decode cL_law 959 = .ok (.lcmp, 1) := dk_148 (dk_at dksL_law_35 21 rfl rfl)
theorem dL_law_960 : decode cL_law 960 = .ok (.ifCond .eq 5, 3) := dk_153 0 5 (dk_at dksL_law_36 0 rfl rfl)
theorem dL_law_963 : decode cL_law 963 = .ok (.iconst 0, 1) := dk_3 (dk_at dksL_law_36 3 rfl rfl)
theorem dL_law_964 : decode cL_law 964 = .ok (.ireturn, 1) := dk_172 (dk_at dksL_law_36 4 rfl rfl)
theorem dL_law_965 : decode cL_law 965 = .ok (.goto 1251, 3) := dk_167 4 227 (dk_at dksL_law_36 5 rfl rfl)
theorem dL_law_968 : decode cL_law 968 = .ok (.aload_n 1, 1) := dk_43 (dk_at dksL_law_36 8 rfl rfl)
theorem dL_law_969 : decode cL_law 969 = .ok (.aload_n 0, 1) := dk_42 (dk_at dksL_law_36 9 rfl rfl)
theorem dL_law_970 : decode cL_law 970 = .ok (.iload 4, 2) := dk_21 4 (dk_at dksL_law_36 10 rfl rfl)
theorem dL_law_972 : decode cL_law 972 = .ok (.iconst 1, 1) := dk_4 (dk_at dksL_law_36 12 rfl rfl)
theorem dL_law_973 : decode cL_law 973 = .ok (.iadd, 1) := dk_96 (dk_at dksL_law_36 13 rfl rfl)
theorem dL_law_974 : decode cL_law 974 = .ok (.iaload, 1) := dk_46 (dk_at dksL_law_36 14 rfl rfl)
theorem dL_law_975 : decode cL_law 975 = .ok (.aload_n 3, 1) := dk_45 (dk_at dksL_law_36 15 rfl rfl)
theorem dL_law_976 : decode cL_law 976 = .ok (.invokestatic 159, 3) := dk_184 0 159 (dk_at dksL_law_36 16 rfl rfl)
theorem dL_law_979 : decode cL_law 979 = .ok (.istore 5, 2) := dk_54 5 (dk_at dksL_law_36 19 rfl rfl)
theorem dL_law_981 : decode cL_law 981 = .ok (.aload_n 2, 1) := dk_44 (dk_at dksL_law_36 21 rfl rfl)
theorem dL_law_982 : decode cL_law 982 = .ok (.aload_n 0, 1) := dk_42 (dk_at dksL_law_36 22 rfl rfl)
theorem dL_law_983 : decode cL_law 983 = .ok (.iload 4, 2) := dk_21 4 (dk_at dksL_law_37 0 rfl rfl)
theorem dL_law_985 : decode cL_law 985 = .ok (.iconst 1, 1) := dk_4 (dk_at dksL_law_37 2 rfl rfl)
theorem dL_law_986 : decode cL_law 986 = .ok (.iadd, 1) := dk_96 (dk_at dksL_law_37 3 rfl rfl)
theorem dL_law_987 : decode cL_law 987 = .ok (.iaload, 1) := dk_46 (dk_at dksL_law_37 4 rfl rfl)
theorem dL_law_988 : decode cL_law 988 = .ok (.invokevirtual 161, 3) := dk_182 0 161 (dk_at dksL_law_37 5 rfl rfl)
theorem dL_law_991 : decode cL_law 991 = .ok (.istore 6, 2) := dk_54 6 (dk_at dksL_law_37 8 rfl rfl)
theorem dL_law_993 : decode cL_law 993 = .ok (.aload_n 2, 1) := dk_44 (dk_at dksL_law_37 10 rfl rfl)
theorem dL_law_994 : decode cL_law 994 = .ok (.invokevirtual 115, 3) := dk_182 0 115 (dk_at dksL_law_37 11 rfl rfl)
theorem dL_law_997 : decode cL_law 997 = .ok (.iload 5, 2) := dk_21 5 (dk_at dksL_law_37 14 rfl rfl)
theorem dL_law_999 : decode cL_law 999 = .ok (.if_icmp .eq 5, 3) := dk_159 0 5 (dk_at dksL_law_37 16 rfl rfl)
theorem dL_law_1002 : decode cL_law 1002 = .ok (.iconst 0, 1) := dk_3 (dk_at dksL_law_37 19 rfl rfl)
theorem dL_law_1003 : decode cL_law 1003 = .ok (.ireturn, 1) := dk_172 (dk_at dksL_law_37 20 rfl rfl)
theorem dL_law_1004 : decode cL_law 1004 = .ok (.iload 5, 2) := dk_21 5 (dk_at dksL_law_37 21 rfl rfl)
theorem dL_law_1006 : decode cL_law 1006 = .ok (.ifCond .ne 15, 3) := dk_154 0 15 (dk_at dksL_law_38 0 rfl rfl)
theorem dL_law_1009 : decode cL_law 1009 = .ok (.aload_n 3, 1) := dk_45 (dk_at dksL_law_38 3 rfl rfl)
theorem dL_law_1010 : decode cL_law 1010 = .ok (.iconst 0, 1) := dk_3 (dk_at dksL_law_38 4 rfl rfl)
theorem dL_law_1011 : decode cL_law 1011 = .ok (.laload, 1) := dk_47 (dk_at dksL_law_38 5 rfl rfl)
theorem dL_law_1012 : decode cL_law 1012 = .ok (.iload 6, 2) := dk_21 6 (dk_at dksL_law_38 6 rfl rfl)
theorem dL_law_1014 : decode cL_law 1014 = .ok (.i2l, 1) := dk_133 (dk_at dksL_law_38 8 rfl rfl)
theorem dL_law_1015 : decode cL_law 1015 = .ok (.lcmp, 1) := dk_148 (dk_at dksL_law_38 9 rfl rfl)
theorem dL_law_1016 : decode cL_law 1016 = .ok (.ifCond .eq 5, 3) := dk_153 0 5 (dk_at dksL_law_38 10 rfl rfl)
theorem dL_law_1019 : decode cL_law 1019 = .ok (.iconst 0, 1) := dk_3 (dk_at dksL_law_38 13 rfl rfl)
theorem dL_law_1020 : decode cL_law 1020 = .ok (.ireturn, 1) := dk_172 (dk_at dksL_law_38 14 rfl rfl)
theorem dL_law_1021 : decode cL_law 1021 = .ok (.goto 1195, 3) := dk_167 4 171 (dk_at dksL_law_38 15 rfl rfl)
theorem dL_law_1024 : decode cL_law 1024 = .ok (.aload_n 1, 1) := dk_43 (dk_at dksL_law_38 18 rfl rfl)
theorem dL_law_1025 : decode cL_law 1025 = .ok (.aload_n 0, 1) := dk_42 (dk_at dksL_law_38 19 rfl rfl)
theorem dL_law_1026 : decode cL_law 1026 = .ok (.iload 4, 2) := dk_21 4 (dk_at dksL_law_38 20 rfl rfl)
theorem dL_law_1028 : decode cL_law 1028 = .ok (.iconst 1, 1) := dk_4 (dk_at dksL_law_38 22 rfl rfl)
theorem dL_law_1029 : decode cL_law 1029 = .ok (.iadd, 1) := dk_96 (dk_at dksL_law_38 23 rfl rfl)
theorem dL_law_1030 : decode cL_law 1030 = .ok (.iaload, 1) := dk_46 (dk_at dksL_law_39 0 rfl rfl)
theorem dL_law_1031 : decode cL_law 1031 = .ok (.aload_n 0, 1) := dk_42 (dk_at dksL_law_39 1 rfl rfl)
theorem dL_law_1032 : decode cL_law 1032 = .ok (.iload 4, 2) := dk_21 4 (dk_at dksL_law_39 2 rfl rfl)
theorem dL_law_1034 : decode cL_law 1034 = .ok (.iconst 2, 1) := dk_5 (dk_at dksL_law_39 4 rfl rfl)
theorem dL_law_1035 : decode cL_law 1035 = .ok (.iadd, 1) := dk_96 (dk_at dksL_law_39 5 rfl rfl)
theorem dL_law_1036 : decode cL_law 1036 = .ok (.iaload, 1) := dk_46 (dk_at dksL_law_39 6 rfl rfl)
theorem dL_law_1037 : decode cL_law 1037 = .ok (.aload_n 3, 1) := dk_45 (dk_at dksL_law_39 7 rfl rfl)
theorem dL_law_1038 : decode cL_law 1038 = .ok (.invokestatic 162, 3) := dk_184 0 162 (dk_at dksL_law_39 8 rfl rfl)
theorem dL_law_1041 : decode cL_law 1041 = .ok (.istore 5, 2) := dk_54 5 (dk_at dksL_law_39 11 rfl rfl)
theorem dL_law_1043 : decode cL_law 1043 = .ok (.aload_n 2, 1) := dk_44 (dk_at dksL_law_39 13 rfl rfl)
theorem dL_law_1044 : decode cL_law 1044 = .ok (.aload_n 0, 1) := dk_42 (dk_at dksL_law_39 14 rfl rfl)
theorem dL_law_1045 : decode cL_law 1045 = .ok (.iload 4, 2) := dk_21 4 (dk_at dksL_law_39 15 rfl rfl)
theorem dL_law_1047 : decode cL_law 1047 = .ok (.iconst 1, 1) := dk_4 (dk_at dksL_law_39 17 rfl rfl)
theorem dL_law_1048 : decode cL_law 1048 = .ok (.iadd, 1) := dk_96 (dk_at dksL_law_39 18 rfl rfl)
theorem dL_law_1049 : decode cL_law 1049 = .ok (.iaload, 1) := dk_46 (dk_at dksL_law_39 19 rfl rfl)
theorem dL_law_1050 : decode cL_law 1050 = .ok (.aload_n 0, 1) := dk_42 (dk_at dksL_law_39 20 rfl rfl)
theorem dL_law_1051 : decode cL_law 1051 = .ok (.iload 4, 2) := dk_21 4 (dk_at dksL_law_39 21 rfl rfl)
theorem dL_law_1053 : decode cL_law 1053 = .ok (.iconst 2, 1) := dk_5 (dk_at dksL_law_39 23 rfl rfl)
theorem dL_law_1054 : decode cL_law 1054 = .ok (.iadd, 1) := dk_96 (dk_at dksL_law_40 0 rfl rfl)
theorem dL_law_1055 : decode cL_law 1055 = .ok (.iaload, 1) := dk_46 (dk_at dksL_law_40 1 rfl rfl)
theorem dL_law_1056 : decode cL_law 1056 = .ok (.invokevirtual 164, 3) := dk_182 0 164 (dk_at dksL_law_40 2 rfl rfl)
theorem dL_law_1059 : decode cL_law 1059 = .ok (.istore 6, 2) := dk_54 6 (dk_at dksL_law_40 5 rfl rfl)
theorem dL_law_1061 : decode cL_law 1061 = .ok (.aload_n 2, 1) := dk_44 (dk_at dksL_law_40 7 rfl rfl)
theorem dL_law_1062 : decode cL_law 1062 = .ok (.invokevirtual 115, 3) := dk_182 0 115 (dk_at dksL_law_40 8 rfl rfl)
theorem dL_law_1065 : decode cL_law 1065 = .ok (.iload 5, 2) := dk_21 5 (dk_at dksL_law_40 11 rfl rfl)
theorem dL_law_1067 : decode cL_law 1067 = .ok (.if_icmp .eq 5, 3) := dk_159 0 5 (dk_at dksL_law_40 13 rfl rfl)
theorem dL_law_1070 : decode cL_law 1070 = .ok (.iconst 0, 1) := dk_3 (dk_at dksL_law_40 16 rfl rfl)
theorem dL_law_1071 : decode cL_law 1071 = .ok (.ireturn, 1) := dk_172 (dk_at dksL_law_40 17 rfl rfl)
theorem dL_law_1072 : decode cL_law 1072 = .ok (.iload 5, 2) := dk_21 5 (dk_at dksL_law_40 18 rfl rfl)
theorem dL_law_1074 : decode cL_law 1074 = .ok (.ifCond .ne 15, 3) := dk_154 0 15 (dk_at dksL_law_40 20 rfl rfl)
theorem dL_law_1077 : decode cL_law 1077 = .ok (.aload_n 3, 1) := dk_45 (dk_at dksL_law_40 23 rfl rfl)
theorem dL_law_1078 : decode cL_law 1078 = .ok (.iconst 0, 1) := dk_3 (dk_at dksL_law_41 0 rfl rfl)
theorem dL_law_1079 : decode cL_law 1079 = .ok (.laload, 1) := dk_47 (dk_at dksL_law_41 1 rfl rfl)
theorem dL_law_1080 : decode cL_law 1080 = .ok (.iload 6, 2) := dk_21 6 (dk_at dksL_law_41 2 rfl rfl)
theorem dL_law_1082 : decode cL_law 1082 = .ok (.i2l, 1) := dk_133 (dk_at dksL_law_41 4 rfl rfl)
theorem dL_law_1083 : decode cL_law 1083 = .ok (.lcmp, 1) := dk_148 (dk_at dksL_law_41 5 rfl rfl)
theorem dL_law_1084 : decode cL_law 1084 = .ok (.ifCond .eq 5, 3) := dk_153 0 5 (dk_at dksL_law_41 6 rfl rfl)
theorem dL_law_1087 : decode cL_law 1087 = .ok (.iconst 0, 1) := dk_3 (dk_at dksL_law_41 9 rfl rfl)
theorem dL_law_1088 : decode cL_law 1088 = .ok (.ireturn, 1) := dk_172 (dk_at dksL_law_41 10 rfl rfl)
theorem dL_law_1089 : decode cL_law 1089 = .ok (.goto 1127, 3) := dk_167 4 103 (dk_at dksL_law_41 11 rfl rfl)
theorem dL_law_1092 : decode cL_law 1092 = .ok (.aload_n 1, 1) := dk_43 (dk_at dksL_law_41 14 rfl rfl)
theorem dL_law_1093 : decode cL_law 1093 = .ok (.aload_n 0, 1) := dk_42 (dk_at dksL_law_41 15 rfl rfl)
theorem dL_law_1094 : decode cL_law 1094 = .ok (.iload 4, 2) := dk_21 4 (dk_at dksL_law_41 16 rfl rfl)
theorem dL_law_1096 : decode cL_law 1096 = .ok (.iconst 1, 1) := dk_4 (dk_at dksL_law_41 18 rfl rfl)
theorem dL_law_1097 : decode cL_law 1097 = .ok (.iadd, 1) := dk_96 (dk_at dksL_law_41 19 rfl rfl)
theorem dL_law_1098 : decode cL_law 1098 = .ok (.iaload, 1) := dk_46 (dk_at dksL_law_41 20 rfl rfl)
theorem dL_law_1099 : decode cL_law 1099 = .ok (.aload_n 3, 1) := dk_45 (dk_at dksL_law_41 21 rfl rfl)
theorem dL_law_1100 : decode cL_law 1100 = .ok (.invokestatic 165, 3) := dk_184 0 165 (dk_at dksL_law_42 0 rfl rfl)
theorem dL_law_1103 : decode cL_law 1103 = .ok (.istore 5, 2) := dk_54 5 (dk_at dksL_law_42 3 rfl rfl)
theorem dL_law_1105 : decode cL_law 1105 = .ok (.aload_n 2, 1) := dk_44 (dk_at dksL_law_42 5 rfl rfl)
theorem dL_law_1106 : decode cL_law 1106 = .ok (.aload_n 0, 1) := dk_42 (dk_at dksL_law_42 6 rfl rfl)
theorem dL_law_1107 : decode cL_law 1107 = .ok (.iload 4, 2) := dk_21 4 (dk_at dksL_law_42 7 rfl rfl)
theorem dL_law_1109 : decode cL_law 1109 = .ok (.iconst 1, 1) := dk_4 (dk_at dksL_law_42 9 rfl rfl)
theorem dL_law_1110 : decode cL_law 1110 = .ok (.iadd, 1) := dk_96 (dk_at dksL_law_42 10 rfl rfl)
theorem dL_law_1111 : decode cL_law 1111 = .ok (.iaload, 1) := dk_46 (dk_at dksL_law_42 11 rfl rfl)
theorem dL_law_1112 : decode cL_law 1112 = .ok (.invokevirtual 167, 3) := dk_182 0 167 (dk_at dksL_law_42 12 rfl rfl)
theorem dL_law_1115 : decode cL_law 1115 = .ok (.istore 6, 2) := dk_54 6 (dk_at dksL_law_42 15 rfl rfl)
theorem dL_law_1117 : decode cL_law 1117 = .ok (.aload_n 2, 1) := dk_44 (dk_at dksL_law_42 17 rfl rfl)
theorem dL_law_1118 : decode cL_law 1118 = .ok (.invokevirtual 115, 3) := dk_182 0 115 (dk_at dksL_law_42 18 rfl rfl)
theorem dL_law_1121 : decode cL_law 1121 = .ok (.iload 5, 2) := dk_21 5 (dk_at dksL_law_42 21 rfl rfl)
theorem dL_law_1123 : decode cL_law 1123 = .ok (.if_icmp .eq 5, 3) := dk_159 0 5 (dk_at dksL_law_43 0 rfl rfl)
theorem dL_law_1126 : decode cL_law 1126 = .ok (.iconst 0, 1) := dk_3 (dk_at dksL_law_43 3 rfl rfl)
theorem dL_law_1127 : decode cL_law 1127 = .ok (.ireturn, 1) := dk_172 (dk_at dksL_law_43 4 rfl rfl)
theorem dL_law_1128 : decode cL_law 1128 = .ok (.iload 5, 2) := dk_21 5 (dk_at dksL_law_43 5 rfl rfl)
theorem dL_law_1130 : decode cL_law 1130 = .ok (.ifCond .ne 15, 3) := dk_154 0 15 (dk_at dksL_law_43 7 rfl rfl)
theorem dL_law_1133 : decode cL_law 1133 = .ok (.aload_n 3, 1) := dk_45 (dk_at dksL_law_43 10 rfl rfl)
theorem dL_law_1134 : decode cL_law 1134 = .ok (.iconst 0, 1) := dk_3 (dk_at dksL_law_43 11 rfl rfl)
theorem dL_law_1135 : decode cL_law 1135 = .ok (.laload, 1) := dk_47 (dk_at dksL_law_43 12 rfl rfl)
theorem dL_law_1136 : decode cL_law 1136 = .ok (.iload 6, 2) := dk_21 6 (dk_at dksL_law_43 13 rfl rfl)
theorem dL_law_1138 : decode cL_law 1138 = .ok (.i2l, 1) := dk_133 (dk_at dksL_law_43 15 rfl rfl)
theorem dL_law_1139 : decode cL_law 1139 = .ok (.lcmp, 1) := dk_148 (dk_at dksL_law_43 16 rfl rfl)
theorem dL_law_1140 : decode cL_law 1140 = .ok (.ifCond .eq 5, 3) := dk_153 0 5 (dk_at dksL_law_43 17 rfl rfl)
theorem dL_law_1143 : decode cL_law 1143 = .ok (.iconst 0, 1) := dk_3 (dk_at dksL_law_43 20 rfl rfl)
theorem dL_law_1144 : decode cL_law 1144 = .ok (.ireturn, 1) := dk_172 (dk_at dksL_law_43 21 rfl rfl)
theorem dL_law_1145 : decode cL_law 1145 = .ok (.goto 1071, 3) := dk_167 4 47 (dk_at dksL_law_44 0 rfl rfl)
theorem dL_law_1148 : decode cL_law 1148 = .ok (.aload_n 1, 1) := dk_43 (dk_at dksL_law_44 3 rfl rfl)
theorem dL_law_1149 : decode cL_law 1149 = .ok (.aload_n 0, 1) := dk_42 (dk_at dksL_law_44 4 rfl rfl)
theorem dL_law_1150 : decode cL_law 1150 = .ok (.iload 4, 2) := dk_21 4 (dk_at dksL_law_44 5 rfl rfl)
theorem dL_law_1152 : decode cL_law 1152 = .ok (.iconst 1, 1) := dk_4 (dk_at dksL_law_44 7 rfl rfl)
theorem dL_law_1153 : decode cL_law 1153 = .ok (.iadd, 1) := dk_96 (dk_at dksL_law_44 8 rfl rfl)
theorem dL_law_1154 : decode cL_law 1154 = .ok (.iaload, 1) := dk_46 (dk_at dksL_law_44 9 rfl rfl)
theorem dL_law_1155 : decode cL_law 1155 = .ok (.aload_n 3, 1) := dk_45 (dk_at dksL_law_44 10 rfl rfl)
theorem dL_law_1156 : decode cL_law 1156 = .ok (.invokestatic 168, 3) := dk_184 0 168 (dk_at dksL_law_44 11 rfl rfl)
theorem dL_law_1159 : decode cL_law 1159 = .ok (.istore 5, 2) := dk_54 5 (dk_at dksL_law_44 14 rfl rfl)
theorem dL_law_1161 : decode cL_law 1161 = .ok (.aload_n 2, 1) := dk_44 (dk_at dksL_law_44 16 rfl rfl)
theorem dL_law_1162 : decode cL_law 1162 = .ok (.aload_n 0, 1) := dk_42 (dk_at dksL_law_44 17 rfl rfl)
theorem dL_law_1163 : decode cL_law 1163 = .ok (.iload 4, 2) := dk_21 4 (dk_at dksL_law_44 18 rfl rfl)
theorem dL_law_1165 : decode cL_law 1165 = .ok (.iconst 1, 1) := dk_4 (dk_at dksL_law_44 20 rfl rfl)
theorem dL_law_1166 : decode cL_law 1166 = .ok (.iadd, 1) := dk_96 (dk_at dksL_law_44 21 rfl rfl)
theorem dL_law_1167 : decode cL_law 1167 = .ok (.iaload, 1) := dk_46 (dk_at dksL_law_44 22 rfl rfl)
theorem dL_law_1168 : decode cL_law 1168 = .ok (.invokevirtual 170, 3) := dk_182 0 170 (dk_at dksL_law_45 0 rfl rfl)
theorem dL_law_1171 : decode cL_law 1171 = .ok (.istore 6, 2) := dk_54 6 (dk_at dksL_law_45 3 rfl rfl)
theorem dL_law_1173 : decode cL_law 1173 = .ok (.aload_n 2, 1) := dk_44 (dk_at dksL_law_45 5 rfl rfl)
theorem dL_law_1174 : decode cL_law 1174 = .ok (.invokevirtual 115, 3) := dk_182 0 115 (dk_at dksL_law_45 6 rfl rfl)
theorem dL_law_1177 : decode cL_law 1177 = .ok (.iload 5, 2) := dk_21 5 (dk_at dksL_law_45 9 rfl rfl)
theorem dL_law_1179 : decode cL_law 1179 = .ok (.if_icmp .eq 5, 3) := dk_159 0 5 (dk_at dksL_law_45 11 rfl rfl)
theorem dL_law_1182 : decode cL_law 1182 = .ok (.iconst 0, 1) := dk_3 (dk_at dksL_law_45 14 rfl rfl)
theorem dL_law_1183 : decode cL_law 1183 = .ok (.ireturn, 1) := dk_172 (dk_at dksL_law_45 15 rfl rfl)
theorem dL_law_1184 : decode cL_law 1184 = .ok (.iload 5, 2) := dk_21 5 (dk_at dksL_law_45 16 rfl rfl)
theorem dL_law_1186 : decode cL_law 1186 = .ok (.ifCond .ne 15, 3) := dk_154 0 15 (dk_at dksL_law_45 18 rfl rfl)
theorem dL_law_1189 : decode cL_law 1189 = .ok (.aload_n 3, 1) := dk_45 (dk_at dksL_law_45 21 rfl rfl)
theorem dL_law_1190 : decode cL_law 1190 = .ok (.iconst 0, 1) := dk_3 (dk_at dksL_law_45 22 rfl rfl)
theorem dL_law_1191 : decode cL_law 1191 = .ok (.laload, 1) := dk_47 (dk_at dksL_law_45 23 rfl rfl)
theorem dL_law_1192 : decode cL_law 1192 = .ok (.iload 6, 2) := dk_21 6 (dk_at dksL_law_46 0 rfl rfl)
theorem dL_law_1194 : decode cL_law 1194 = .ok (.i2l, 1) := dk_133 (dk_at dksL_law_46 2 rfl rfl)
theorem dL_law_1195 : decode cL_law 1195 = .ok (.lcmp, 1) := dk_148 (dk_at dksL_law_46 3 rfl rfl)
theorem dL_law_1196 : decode cL_law 1196 = .ok (.ifCond .eq 5, 3) := dk_153 0 5 (dk_at dksL_law_46 4 rfl rfl)
theorem dL_law_1199 : decode cL_law 1199 = .ok (.iconst 0, 1) := dk_3 (dk_at dksL_law_46 7 rfl rfl)
theorem dL_law_1200 : decode cL_law 1200 = .ok (.ireturn, 1) := dk_172 (dk_at dksL_law_46 8 rfl rfl)
theorem dL_law_1201 : decode cL_law 1201 = .ok (.goto 1015, 3) := dk_167 3 247 (dk_at dksL_law_46 9 rfl rfl)
theorem dL_law_1204 : decode cL_law 1204 = .ok (.aload_n 1, 1) := dk_43 (dk_at dksL_law_46 12 rfl rfl)
theorem dL_law_1205 : decode cL_law 1205 = .ok (.invokevirtual 171, 3) := dk_182 0 171 (dk_at dksL_law_46 13 rfl rfl)
theorem dL_law_1208 : decode cL_law 1208 = .ok (.aload_n 2, 1) := dk_44 (dk_at dksL_law_46 16 rfl rfl)
theorem dL_law_1209 : decode cL_law 1209 = .ok (.invokevirtual 174, 3) := dk_182 0 174 (dk_at dksL_law_46 17 rfl rfl)
theorem dL_law_1212 : decode cL_law 1212 = .ok (.if_icmp .eq 1004, 3) := dk_159 3 236 (dk_at dksL_law_46 20 rfl rfl)
theorem dL_law_1215 : decode cL_law 1215 = .ok (.iconst 0, 1) := dk_3 (dk_at dksL_law_46 23 rfl rfl)
theorem dL_law_1216 : decode cL_law 1216 = .ok (.ireturn, 1) := dk_172 (dk_at dksL_law_47 0 rfl rfl)
theorem dL_law_1217 : decode cL_law 1217 = .ok (.aload_n 1, 1) := dk_43 (dk_at dksL_law_47 1 rfl rfl)
theorem dL_law_1218 : decode cL_law 1218 = .ok (.aload_n 0, 1) := dk_42 (dk_at dksL_law_47 2 rfl rfl)
theorem dL_law_1219 : decode cL_law 1219 = .ok (.iload 4, 2) := dk_21 4 (dk_at dksL_law_47 3 rfl rfl)
theorem dL_law_1221 : decode cL_law 1221 = .ok (.iconst 1, 1) := dk_4 (dk_at dksL_law_47 5 rfl rfl)
theorem dL_law_1222 : decode cL_law 1222 = .ok (.iadd, 1) := dk_96 (dk_at dksL_law_47 6 rfl rfl)
theorem dL_law_1223 : decode cL_law 1223 = .ok (.iaload, 1) := dk_46 (dk_at dksL_law_47 7 rfl rfl)
theorem dL_law_1224 : decode cL_law 1224 = .ok (.aload_n 3, 1) := dk_45 (dk_at dksL_law_47 8 rfl rfl)
theorem dL_law_1225 : decode cL_law 1225 = .ok (.invokestatic 175, 3) := dk_184 0 175 (dk_at dksL_law_47 9 rfl rfl)
theorem dL_law_1228 : decode cL_law 1228 = .ok (.istore 5, 2) := dk_54 5 (dk_at dksL_law_47 12 rfl rfl)
theorem dL_law_1230 : decode cL_law 1230 = .ok (.aload_n 2, 1) := dk_44 (dk_at dksL_law_47 14 rfl rfl)
theorem dL_law_1231 : decode cL_law 1231 = .ok (.aload_n 0, 1) := dk_42 (dk_at dksL_law_47 15 rfl rfl)
theorem dL_law_1232 : decode cL_law 1232 = .ok (.iload 4, 2) := dk_21 4 (dk_at dksL_law_47 16 rfl rfl)
theorem dL_law_1234 : decode cL_law 1234 = .ok (.iconst 1, 1) := dk_4 (dk_at dksL_law_47 18 rfl rfl)
theorem dL_law_1235 : decode cL_law 1235 = .ok (.iadd, 1) := dk_96 (dk_at dksL_law_47 19 rfl rfl)
theorem dL_law_1236 : decode cL_law 1236 = .ok (.iaload, 1) := dk_46 (dk_at dksL_law_47 20 rfl rfl)
theorem dL_law_1237 : decode cL_law 1237 = .ok (.invokevirtual 177, 3) := dk_182 0 177 (dk_at dksL_law_47 21 rfl rfl)
theorem dL_law_1240 : decode cL_law 1240 = .ok (.istore 6, 2) := dk_54 6 (dk_at dksL_law_48 0 rfl rfl)
theorem dL_law_1242 : decode cL_law 1242 = .ok (.aload_n 2, 1) := dk_44 (dk_at dksL_law_48 2 rfl rfl)
theorem dL_law_1243 : decode cL_law 1243 = .ok (.invokevirtual 115, 3) := dk_182 0 115 (dk_at dksL_law_48 3 rfl rfl)
theorem dL_law_1246 : decode cL_law 1246 = .ok (.iload 5, 2) := dk_21 5 (dk_at dksL_law_48 6 rfl rfl)
theorem dL_law_1248 : decode cL_law 1248 = .ok (.if_icmp .eq 5, 3) := dk_159 0 5 (dk_at dksL_law_48 8 rfl rfl)
theorem dL_law_1251 : decode cL_law 1251 = .ok (.iconst 0, 1) := dk_3 (dk_at dksL_law_48 11 rfl rfl)
theorem dL_law_1252 : decode cL_law 1252 = .ok (.ireturn, 1) := dk_172 (dk_at dksL_law_48 12 rfl rfl)
theorem dL_law_1253 : decode cL_law 1253 = .ok (.iload 5, 2) := dk_21 5 (dk_at dksL_law_48 13 rfl rfl)
theorem dL_law_1255 : decode cL_law 1255 = .ok (.ifCond .ne 15, 3) := dk_154 0 15 (dk_at dksL_law_48 15 rfl rfl)
theorem dL_law_1258 : decode cL_law 1258 = .ok (.aload_n 3, 1) := dk_45 (dk_at dksL_law_48 18 rfl rfl)
theorem dL_law_1259 : decode cL_law 1259 = .ok (.iconst 0, 1) := dk_3 (dk_at dksL_law_48 19 rfl rfl)
theorem dL_law_1260 : decode cL_law 1260 = .ok (.laload, 1) := dk_47 (dk_at dksL_law_48 20 rfl rfl)
theorem dL_law_1261 : decode cL_law 1261 = .ok (.iload 6, 2) := dk_21 6 (dk_at dksL_law_48 21 rfl rfl)
theorem dL_law_1263 : decode cL_law 1263 = .ok (.i2l, 1) := dk_133 (dk_at dksL_law_48 23 rfl rfl)
theorem dL_law_1264 : decode cL_law 1264 = .ok (.lcmp, 1) := dk_148 (dk_at dksL_law_49 0 rfl rfl)
theorem dL_law_1265 : decode cL_law 1265 = .ok (.ifCond .eq 5, 3) := dk_153 0 5 (dk_at dksL_law_49 1 rfl rfl)
theorem dL_law_1268 : decode cL_law 1268 = .ok (.iconst 0, 1) := dk_3 (dk_at dksL_law_49 4 rfl rfl)
theorem dL_law_1269 : decode cL_law 1269 = .ok (.ireturn, 1) := dk_172 (dk_at dksL_law_49 5 rfl rfl)
theorem dL_law_1270 : decode cL_law 1270 = .ok (.goto 946, 3) := dk_167 3 178 (dk_at dksL_law_49 6 rfl rfl)
theorem dL_law_1273 : decode cL_law 1273 = .ok (.aload_n 1, 1) := dk_43 (dk_at dksL_law_49 9 rfl rfl)
theorem dL_law_1274 : decode cL_law 1274 = .ok (.aload_n 0, 1) := dk_42 (dk_at dksL_law_49 10 rfl rfl)
theorem dL_law_1275 : decode cL_law 1275 = .ok (.iload 4, 2) := dk_21 4 (dk_at dksL_law_49 11 rfl rfl)
theorem dL_law_1277 : decode cL_law 1277 = .ok (.iconst 1, 1) := dk_4 (dk_at dksL_law_49 13 rfl rfl)
theorem dL_law_1278 : decode cL_law 1278 = .ok (.iadd, 1) := dk_96 (dk_at dksL_law_49 14 rfl rfl)
theorem dL_law_1279 : decode cL_law 1279 = .ok (.iaload, 1) := dk_46 (dk_at dksL_law_49 15 rfl rfl)
theorem dL_law_1280 : decode cL_law 1280 = .ok (.aload_n 3, 1) := dk_45 (dk_at dksL_law_49 16 rfl rfl)
theorem dL_law_1281 : decode cL_law 1281 = .ok (.invokestatic 178, 3) := dk_184 0 178 (dk_at dksL_law_49 17 rfl rfl)
theorem dL_law_1284 : decode cL_law 1284 = .ok (.istore 5, 2) := dk_54 5 (dk_at dksL_law_49 20 rfl rfl)
theorem dL_law_1286 : decode cL_law 1286 = .ok (.aload_n 2, 1) := dk_44 (dk_at dksL_law_49 22 rfl rfl)
theorem dL_law_1287 : decode cL_law 1287 = .ok (.aload_n 0, 1) := dk_42 (dk_at dksL_law_49 23 rfl rfl)
theorem dL_law_1288 : decode cL_law 1288 = .ok (.iload 4, 2) := dk_21 4 (dk_at dksL_law_50 0 rfl rfl)
theorem dL_law_1290 : decode cL_law 1290 = .ok (.iconst 1, 1) := dk_4 (dk_at dksL_law_50 2 rfl rfl)
theorem dL_law_1291 : decode cL_law 1291 = .ok (.iadd, 1) := dk_96 (dk_at dksL_law_50 3 rfl rfl)
theorem dL_law_1292 : decode cL_law 1292 = .ok (.iaload, 1) := dk_46 (dk_at dksL_law_50 4 rfl rfl)
theorem dL_law_1293 : decode cL_law 1293 = .ok (.invokevirtual 180, 3) := dk_182 0 180 (dk_at dksL_law_50 5 rfl rfl)
theorem dL_law_1296 : decode cL_law 1296 = .ok (.istore 6, 2) := dk_54 6 (dk_at dksL_law_50 8 rfl rfl)
theorem dL_law_1298 : decode cL_law 1298 = .ok (.aload_n 2, 1) := dk_44 (dk_at dksL_law_50 10 rfl rfl)
theorem dL_law_1299 : decode cL_law 1299 = .ok (.invokevirtual 115, 3) := dk_182 0 115 (dk_at dksL_law_50 11 rfl rfl)
theorem dL_law_1302 : decode cL_law 1302 = .ok (.iload 5, 2) := dk_21 5 (dk_at dksL_law_50 14 rfl rfl)
theorem dL_law_1304 : decode cL_law 1304 = .ok (.if_icmp .eq 5, 3) := dk_159 0 5 (dk_at dksL_law_50 16 rfl rfl)
theorem dL_law_1307 : decode cL_law 1307 = .ok (.iconst 0, 1) := dk_3 (dk_at dksL_law_50 19 rfl rfl)
theorem dL_law_1308 : decode cL_law 1308 = .ok (.ireturn, 1) := dk_172 (dk_at dksL_law_50 20 rfl rfl)
theorem dL_law_1309 : decode cL_law 1309 = .ok (.iload 5, 2) := dk_21 5 (dk_at dksL_law_50 21 rfl rfl)
theorem dL_law_1311 : decode cL_law 1311 = .ok (.ifCond .ne 15, 3) := dk_154 0 15 (dk_at dksL_law_51 0 rfl rfl)
theorem dL_law_1314 : decode cL_law 1314 = .ok (.aload_n 3, 1) := dk_45 (dk_at dksL_law_51 3 rfl rfl)
theorem dL_law_1315 : decode cL_law 1315 = .ok (.iconst 0, 1) := dk_3 (dk_at dksL_law_51 4 rfl rfl)
theorem dL_law_1316 : decode cL_law 1316 = .ok (.laload, 1) := dk_47 (dk_at dksL_law_51 5 rfl rfl)
theorem dL_law_1317 : decode cL_law 1317 = .ok (.iload 6, 2) := dk_21 6 (dk_at dksL_law_51 6 rfl rfl)
theorem dL_law_1319 : decode cL_law 1319 = .ok (.i2l, 1) := dk_133 (dk_at dksL_law_51 8 rfl rfl)
theorem dL_law_1320 : decode cL_law 1320 = .ok (.lcmp, 1) := dk_148 (dk_at dksL_law_51 9 rfl rfl)
theorem dL_law_1321 : decode cL_law 1321 = .ok (.ifCond .eq 5, 3) := dk_153 0 5 (dk_at dksL_law_51 10 rfl rfl)
theorem dL_law_1324 : decode cL_law 1324 = .ok (.iconst 0, 1) := dk_3 (dk_at dksL_law_51 13 rfl rfl)
theorem dL_law_1325 : decode cL_law 1325 = .ok (.ireturn, 1) := dk_172 (dk_at dksL_law_51 14 rfl rfl)
theorem dL_law_1326 : decode cL_law 1326 = .ok (.goto 890, 3) := dk_167 3 122 (dk_at dksL_law_51 15 rfl rfl)
theorem dL_law_1329 : decode cL_law 1329 = .ok (.aload_n 1, 1) := dk_43 (dk_at dksL_law_51 18 rfl rfl)
theorem dL_law_1330 : decode cL_law 1330 = .ok (.aload_n 0, 1) := dk_42 (dk_at dksL_law_51 19 rfl rfl)
theorem dL_law_1331 : decode cL_law 1331 = .ok (.iload 4, 2) := dk_21 4 (dk_at dksL_law_51 20 rfl rfl)
theorem dL_law_1333 : decode cL_law 1333 = .ok (.iconst 1, 1) := dk_4 (dk_at dksL_law_51 22 rfl rfl)
theorem dL_law_1334 : decode cL_law 1334 = .ok (.iadd, 1) := dk_96 (dk_at dksL_law_51 23 rfl rfl)
theorem dL_law_1335 : decode cL_law 1335 = .ok (.iaload, 1) := dk_46 (dk_at dksL_law_52 0 rfl rfl)
theorem dL_law_1336 : decode cL_law 1336 = .ok (.aload_n 0, 1) := dk_42 (dk_at dksL_law_52 1 rfl rfl)
theorem dL_law_1337 : decode cL_law 1337 = .ok (.iload 4, 2) := dk_21 4 (dk_at dksL_law_52 2 rfl rfl)
theorem dL_law_1339 : decode cL_law 1339 = .ok (.iconst 2, 1) := dk_5 (dk_at dksL_law_52 4 rfl rfl)
theorem dL_law_1340 : decode cL_law 1340 = .ok (.iadd, 1) := dk_96 (dk_at dksL_law_52 5 rfl rfl)
theorem dL_law_1341 : decode cL_law 1341 = .ok (.iaload, 1) := dk_46 (dk_at dksL_law_52 6 rfl rfl)
theorem dL_law_1342 : decode cL_law 1342 = .ok (.aload_n 3, 1) := dk_45 (dk_at dksL_law_52 7 rfl rfl)
theorem dL_law_1343 : decode cL_law 1343 = .ok (.invokestatic 181, 3) := dk_184 0 181 (dk_at dksL_law_52 8 rfl rfl)
theorem dL_law_1346 : decode cL_law 1346 = .ok (.istore 5, 2) := dk_54 5 (dk_at dksL_law_52 11 rfl rfl)
theorem dL_law_1348 : decode cL_law 1348 = .ok (.aload_n 2, 1) := dk_44 (dk_at dksL_law_52 13 rfl rfl)
theorem dL_law_1349 : decode cL_law 1349 = .ok (.aload_n 0, 1) := dk_42 (dk_at dksL_law_52 14 rfl rfl)
theorem dL_law_1350 : decode cL_law 1350 = .ok (.iload 4, 2) := dk_21 4 (dk_at dksL_law_52 15 rfl rfl)
theorem dL_law_1352 : decode cL_law 1352 = .ok (.iconst 1, 1) := dk_4 (dk_at dksL_law_52 17 rfl rfl)
theorem dL_law_1353 : decode cL_law 1353 = .ok (.iadd, 1) := dk_96 (dk_at dksL_law_52 18 rfl rfl)
theorem dL_law_1354 : decode cL_law 1354 = .ok (.iaload, 1) := dk_46 (dk_at dksL_law_52 19 rfl rfl)
theorem dL_law_1355 : decode cL_law 1355 = .ok (.aload_n 0, 1) := dk_42 (dk_at dksL_law_52 20 rfl rfl)
theorem dL_law_1356 : decode cL_law 1356 = .ok (.iload 4, 2) := dk_21 4 (dk_at dksL_law_52 21 rfl rfl)
theorem dL_law_1358 : decode cL_law 1358 = .ok (.iconst 2, 1) := dk_5 (dk_at dksL_law_52 23 rfl rfl)
theorem dL_law_1359 : decode cL_law 1359 = .ok (.iadd, 1) := dk_96 (dk_at dksL_law_53 0 rfl rfl)
theorem dL_law_1360 : decode cL_law 1360 = .ok (.iaload, 1) := dk_46 (dk_at dksL_law_53 1 rfl rfl)
theorem dL_law_1361 : decode cL_law 1361 = .ok (.invokevirtual 183, 3) := dk_182 0 183 (dk_at dksL_law_53 2 rfl rfl)
theorem dL_law_1364 : decode cL_law 1364 = .ok (.istore 6, 2) := dk_54 6 (dk_at dksL_law_53 5 rfl rfl)
theorem dL_law_1366 : decode cL_law 1366 = .ok (.aload_n 2, 1) := dk_44 (dk_at dksL_law_53 7 rfl rfl)
theorem dL_law_1367 : decode cL_law 1367 = .ok (.invokevirtual 115, 3) := dk_182 0 115 (dk_at dksL_law_53 8 rfl rfl)
theorem dL_law_1370 : decode cL_law 1370 = .ok (.iload 5, 2) := dk_21 5 (dk_at dksL_law_53 11 rfl rfl)
theorem dL_law_1372 : decode cL_law 1372 = .ok (.if_icmp .eq 5, 3) := dk_159 0 5 (dk_at dksL_law_53 13 rfl rfl)
theorem dL_law_1375 : decode cL_law 1375 = .ok (.iconst 0, 1) := dk_3 (dk_at dksL_law_53 16 rfl rfl)
theorem dL_law_1376 : decode cL_law 1376 = .ok (.ireturn, 1) := dk_172 (dk_at dksL_law_53 17 rfl rfl)
theorem dL_law_1377 : decode cL_law 1377 = .ok (.iload 5, 2) := dk_21 5 (dk_at dksL_law_53 18 rfl rfl)
theorem dL_law_1379 : decode cL_law 1379 = .ok (.ifCond .ne 15, 3) := dk_154 0 15 (dk_at dksL_law_53 20 rfl rfl)
theorem dL_law_1382 : decode cL_law 1382 = .ok (.aload_n 3, 1) := dk_45 (dk_at dksL_law_53 23 rfl rfl)
theorem dL_law_1383 : decode cL_law 1383 = .ok (.iconst 0, 1) := dk_3 (dk_at dksL_law_54 0 rfl rfl)
theorem dL_law_1384 : decode cL_law 1384 = .ok (.laload, 1) := dk_47 (dk_at dksL_law_54 1 rfl rfl)
theorem dL_law_1385 : decode cL_law 1385 = .ok (.iload 6, 2) := dk_21 6 (dk_at dksL_law_54 2 rfl rfl)
theorem dL_law_1387 : decode cL_law 1387 = .ok (.i2l, 1) := dk_133 (dk_at dksL_law_54 4 rfl rfl)
theorem dL_law_1388 : decode cL_law 1388 = .ok (.lcmp, 1) := dk_148 (dk_at dksL_law_54 5 rfl rfl)
theorem dL_law_1389 : decode cL_law 1389 = .ok (.ifCond .eq 5, 3) := dk_153 0 5 (dk_at dksL_law_54 6 rfl rfl)
theorem dL_law_1392 : decode cL_law 1392 = .ok (.iconst 0, 1) := dk_3 (dk_at dksL_law_54 9 rfl rfl)
theorem dL_law_1393 : decode cL_law 1393 = .ok (.ireturn, 1) := dk_172 (dk_at dksL_law_54 10 rfl rfl)
theorem dL_law_1394 : decode cL_law 1394 = .ok (.goto 822, 3) := dk_167 3 54 (dk_at dksL_law_54 11 rfl rfl)
theorem dL_law_1397 : decode cL_law 1397 = .ok (.aload_n 1, 1) := dk_43 (dk_at dksL_law_54 14 rfl rfl)
theorem dL_law_1398 : decode cL_law 1398 = .ok (.aload_n 0, 1) := dk_42 (dk_at dksL_law_54 15 rfl rfl)
theorem dL_law_1399 : decode cL_law 1399 = .ok (.iload 4, 2) := dk_21 4 (dk_at dksL_law_54 16 rfl rfl)
theorem dL_law_1401 : decode cL_law 1401 = .ok (.iconst 1, 1) := dk_4 (dk_at dksL_law_54 18 rfl rfl)
theorem dL_law_1402 : decode cL_law 1402 = .ok (.iadd, 1) := dk_96 (dk_at dksL_law_54 19 rfl rfl)
theorem dL_law_1403 : decode cL_law 1403 = .ok (.iaload, 1) := dk_46 (dk_at dksL_law_54 20 rfl rfl)
theorem dL_law_1404 : decode cL_law 1404 = .ok (.aload_n 0, 1) := dk_42 (dk_at dksL_law_54 21 rfl rfl)
theorem dL_law_1405 : decode cL_law 1405 = .ok (.iload 4, 2) := dk_21 4 (dk_at dksL_law_54 22 rfl rfl)
theorem dL_law_1407 : decode cL_law 1407 = .ok (.iconst 2, 1) := dk_5 (dk_at dksL_law_55 0 rfl rfl)
theorem dL_law_1408 : decode cL_law 1408 = .ok (.iadd, 1) := dk_96 (dk_at dksL_law_55 1 rfl rfl)
theorem dL_law_1409 : decode cL_law 1409 = .ok (.iaload, 1) := dk_46 (dk_at dksL_law_55 2 rfl rfl)
theorem dL_law_1410 : decode cL_law 1410 = .ok (.aload_n 3, 1) := dk_45 (dk_at dksL_law_55 3 rfl rfl)
theorem dL_law_1411 : decode cL_law 1411 = .ok (.invokestatic 184, 3) := dk_184 0 184 (dk_at dksL_law_55 4 rfl rfl)
theorem dL_law_1414 : decode cL_law 1414 = .ok (.istore 5, 2) := dk_54 5 (dk_at dksL_law_55 7 rfl rfl)
theorem dL_law_1416 : decode cL_law 1416 = .ok (.aload_n 2, 1) := dk_44 (dk_at dksL_law_55 9 rfl rfl)
theorem dL_law_1417 : decode cL_law 1417 = .ok (.aload_n 0, 1) := dk_42 (dk_at dksL_law_55 10 rfl rfl)
theorem dL_law_1418 : decode cL_law 1418 = .ok (.iload 4, 2) := dk_21 4 (dk_at dksL_law_55 11 rfl rfl)
theorem dL_law_1420 : decode cL_law 1420 = .ok (.iconst 1, 1) := dk_4 (dk_at dksL_law_55 13 rfl rfl)
theorem dL_law_1421 : decode cL_law 1421 = .ok (.iadd, 1) := dk_96 (dk_at dksL_law_55 14 rfl rfl)
theorem dL_law_1422 : decode cL_law 1422 = .ok (.iaload, 1) := dk_46 (dk_at dksL_law_55 15 rfl rfl)
theorem dL_law_1423 : decode cL_law 1423 = .ok (.aload_n 0, 1) := dk_42 (dk_at dksL_law_55 16 rfl rfl)
theorem dL_law_1424 : decode cL_law 1424 = .ok (.iload 4, 2) := dk_21 4 (dk_at dksL_law_55 17 rfl rfl)
theorem dL_law_1426 : decode cL_law 1426 = .ok (.iconst 2, 1) := dk_5 (dk_at dksL_law_55 19 rfl rfl)
theorem dL_law_1427 : decode cL_law 1427 = .ok (.iadd, 1) := dk_96 (dk_at dksL_law_55 20 rfl rfl)
theorem dL_law_1428 : decode cL_law 1428 = .ok (.iaload, 1) := dk_46 (dk_at dksL_law_55 21 rfl rfl)
theorem dL_law_1429 : decode cL_law 1429 = .ok (.invokevirtual 186, 3) := dk_182 0 186 (dk_at dksL_law_56 0 rfl rfl)
theorem dL_law_1432 : decode cL_law 1432 = .ok (.istore 6, 2) := dk_54 6 (dk_at dksL_law_56 3 rfl rfl)
theorem dL_law_1434 : decode cL_law 1434 = .ok (.aload_n 2, 1) := dk_44 (dk_at dksL_law_56 5 rfl rfl)
theorem dL_law_1435 : decode cL_law 1435 = .ok (.invokevirtual 115, 3) := dk_182 0 115 (dk_at dksL_law_56 6 rfl rfl)
theorem dL_law_1438 : decode cL_law 1438 = .ok (.iload 5, 2) := dk_21 5 (dk_at dksL_law_56 9 rfl rfl)
theorem dL_law_1440 : decode cL_law 1440 = .ok (.if_icmp .eq 5, 3) := dk_159 0 5 (dk_at dksL_law_56 11 rfl rfl)
theorem dL_law_1443 : decode cL_law 1443 = .ok (.iconst 0, 1) := dk_3 (dk_at dksL_law_56 14 rfl rfl)
theorem dL_law_1444 : decode cL_law 1444 = .ok (.ireturn, 1) := dk_172 (dk_at dksL_law_56 15 rfl rfl)
theorem dL_law_1445 : decode cL_law 1445 = .ok (.iload 5, 2) := dk_21 5 (dk_at dksL_law_56 16 rfl rfl)
theorem dL_law_1447 : decode cL_law 1447 = .ok (.ifCond .ne 15, 3) := dk_154 0 15 (dk_at dksL_law_56 18 rfl rfl)
theorem dL_law_1450 : decode cL_law 1450 = .ok (.aload_n 3, 1) := dk_45 (dk_at dksL_law_56 21 rfl rfl)
theorem dL_law_1451 : decode cL_law 1451 = .ok (.iconst 0, 1) := dk_3 (dk_at dksL_law_56 22 rfl rfl)
theorem dL_law_1452 : decode cL_law 1452 = .ok (.laload, 1) := dk_47 (dk_at dksL_law_56 23 rfl rfl)
theorem dL_law_1453 : decode cL_law 1453 = .ok (.iload 6, 2) := dk_21 6 (dk_at dksL_law_57 0 rfl rfl)
theorem dL_law_1455 : decode cL_law 1455 = .ok (.i2l, 1) := dk_133 (dk_at dksL_law_57 2 rfl rfl)
theorem dL_law_1456 : decode cL_law 1456 = .ok (.lcmp, 1) := dk_148 (dk_at dksL_law_57 3 rfl rfl)
theorem dL_law_1457 : decode cL_law 1457 = .ok (.ifCond .eq 5, 3) := dk_153 0 5 (dk_at dksL_law_57 4 rfl rfl)
theorem dL_law_1460 : decode cL_law 1460 = .ok (.iconst 0, 1) := dk_3 (dk_at dksL_law_57 7 rfl rfl)
theorem dL_law_1461 : decode cL_law 1461 = .ok (.ireturn, 1) := dk_172 (dk_at dksL_law_57 8 rfl rfl)
theorem dL_law_1462 : decode cL_law 1462 = .ok (.goto 754, 3) := dk_167 2 242 (dk_at dksL_law_57 9 rfl rfl)
theorem dL_law_1465 : decode cL_law 1465 = .ok (.aload_n 1, 1) := dk_43 (dk_at dksL_law_57 12 rfl rfl)
theorem dL_law_1466 : decode cL_law 1466 = .ok (.aload_n 0, 1) := dk_42 (dk_at dksL_law_57 13 rfl rfl)
theorem dL_law_1467 : decode cL_law 1467 = .ok (.iload 4, 2) := dk_21 4 (dk_at dksL_law_57 14 rfl rfl)
theorem dL_law_1469 : decode cL_law 1469 = .ok (.iconst 1, 1) := dk_4 (dk_at dksL_law_57 16 rfl rfl)
theorem dL_law_1470 : decode cL_law 1470 = .ok (.iadd, 1) := dk_96 (dk_at dksL_law_57 17 rfl rfl)
theorem dL_law_1471 : decode cL_law 1471 = .ok (.iaload, 1) := dk_46 (dk_at dksL_law_57 18 rfl rfl)
theorem dL_law_1472 : decode cL_law 1472 = .ok (.aload_n 3, 1) := dk_45 (dk_at dksL_law_57 19 rfl rfl)
theorem dL_law_1473 : decode cL_law 1473 = .ok (.invokestatic 187, 3) := dk_184 0 187 (dk_at dksL_law_57 20 rfl rfl)
theorem dL_law_1476 : decode cL_law 1476 = .ok (.istore 5, 2) := dk_54 5 (dk_at dksL_law_58 0 rfl rfl)
theorem dL_law_1478 : decode cL_law 1478 = .ok (.aload_n 2, 1) := dk_44 (dk_at dksL_law_58 2 rfl rfl)
theorem dL_law_1479 : decode cL_law 1479 = .ok (.aload_n 0, 1) := dk_42 (dk_at dksL_law_58 3 rfl rfl)
theorem dL_law_1480 : decode cL_law 1480 = .ok (.iload 4, 2) := dk_21 4 (dk_at dksL_law_58 4 rfl rfl)
theorem dL_law_1482 : decode cL_law 1482 = .ok (.iconst 1, 1) := dk_4 (dk_at dksL_law_58 6 rfl rfl)
theorem dL_law_1483 : decode cL_law 1483 = .ok (.iadd, 1) := dk_96 (dk_at dksL_law_58 7 rfl rfl)
theorem dL_law_1484 : decode cL_law 1484 = .ok (.iaload, 1) := dk_46 (dk_at dksL_law_58 8 rfl rfl)
theorem dL_law_1485 : decode cL_law 1485 = .ok (.invokevirtual 189, 3) := dk_182 0 189 (dk_at dksL_law_58 9 rfl rfl)
theorem dL_law_1488 : decode cL_law 1488 = .ok (.istore 6, 2) := dk_54 6 (dk_at dksL_law_58 12 rfl rfl)
theorem dL_law_1490 : decode cL_law 1490 = .ok (.aload_n 2, 1) := dk_44 (dk_at dksL_law_58 14 rfl rfl)
theorem dL_law_1491 : decode cL_law 1491 = .ok (.invokevirtual 115, 3) := dk_182 0 115 (dk_at dksL_law_58 15 rfl rfl)
theorem dL_law_1494 : decode cL_law 1494 = .ok (.iload 5, 2) := dk_21 5 (dk_at dksL_law_58 18 rfl rfl)
theorem dL_law_1496 : decode cL_law 1496 = .ok (.if_icmp .eq 5, 3) := dk_159 0 5 (dk_at dksL_law_58 20 rfl rfl)
theorem dL_law_1499 : decode cL_law 1499 = .ok (.iconst 0, 1) := dk_3 (dk_at dksL_law_58 23 rfl rfl)
theorem dL_law_1500 : decode cL_law 1500 = .ok (.ireturn, 1) := dk_172 (dk_at dksL_law_59 0 rfl rfl)
theorem dL_law_1501 : decode cL_law 1501 = .ok (.iload 5, 2) := dk_21 5 (dk_at dksL_law_59 1 rfl rfl)
theorem dL_law_1503 : decode cL_law 1503 = .ok (.ifCond .ne 15, 3) := dk_154 0 15 (dk_at dksL_law_59 3 rfl rfl)
theorem dL_law_1506 : decode cL_law 1506 = .ok (.aload_n 3, 1) := dk_45 (dk_at dksL_law_59 6 rfl rfl)
theorem dL_law_1507 : decode cL_law 1507 = .ok (.iconst 0, 1) := dk_3 (dk_at dksL_law_59 7 rfl rfl)
theorem dL_law_1508 : decode cL_law 1508 = .ok (.laload, 1) := dk_47 (dk_at dksL_law_59 8 rfl rfl)
theorem dL_law_1509 : decode cL_law 1509 = .ok (.iload 6, 2) := dk_21 6 (dk_at dksL_law_59 9 rfl rfl)
theorem dL_law_1511 : decode cL_law 1511 = .ok (.i2l, 1) := dk_133 (dk_at dksL_law_59 11 rfl rfl)
theorem dL_law_1512 : decode cL_law 1512 = .ok (.lcmp, 1) := dk_148 (dk_at dksL_law_59 12 rfl rfl)
theorem dL_law_1513 : decode cL_law 1513 = .ok (.ifCond .eq 5, 3) := dk_153 0 5 (dk_at dksL_law_59 13 rfl rfl)
theorem dL_law_1516 : decode cL_law 1516 = .ok (.iconst 0, 1) := dk_3 (dk_at dksL_law_59 16 rfl rfl)
theorem dL_law_1517 : decode cL_law 1517 = .ok (.ireturn, 1) := dk_172 (dk_at dksL_law_59 17 rfl rfl)
theorem dL_law_1518 : decode cL_law 1518 = .ok (.goto 698, 3) := dk_167 2 186 (dk_at dksL_law_59 18 rfl rfl)
theorem dL_law_1521 : decode cL_law 1521 = .ok (.aload_n 1, 1) := dk_43 (dk_at dksL_law_59 21 rfl rfl)
theorem dL_law_1522 : decode cL_law 1522 = .ok (.aload_n 0, 1) := dk_42 (dk_at dksL_law_59 22 rfl rfl)
theorem dL_law_1523 : decode cL_law 1523 = .ok (.iload 4, 2) := dk_21 4 (dk_at dksL_law_60 0 rfl rfl)
theorem dL_law_1525 : decode cL_law 1525 = .ok (.iconst 1, 1) := dk_4 (dk_at dksL_law_60 2 rfl rfl)
theorem dL_law_1526 : decode cL_law 1526 = .ok (.iadd, 1) := dk_96 (dk_at dksL_law_60 3 rfl rfl)
theorem dL_law_1527 : decode cL_law 1527 = .ok (.iaload, 1) := dk_46 (dk_at dksL_law_60 4 rfl rfl)
theorem dL_law_1528 : decode cL_law 1528 = .ok (.aload_n 3, 1) := dk_45 (dk_at dksL_law_60 5 rfl rfl)
theorem dL_law_1529 : decode cL_law 1529 = .ok (.invokestatic 190, 3) := dk_184 0 190 (dk_at dksL_law_60 6 rfl rfl)
theorem dL_law_1532 : decode cL_law 1532 = .ok (.istore 5, 2) := dk_54 5 (dk_at dksL_law_60 9 rfl rfl)
theorem dL_law_1534 : decode cL_law 1534 = .ok (.aload_n 2, 1) := dk_44 (dk_at dksL_law_60 11 rfl rfl)
theorem dL_law_1535 : decode cL_law 1535 = .ok (.aload_n 0, 1) := dk_42 (dk_at dksL_law_60 12 rfl rfl)
theorem dL_law_1536 : decode cL_law 1536 = .ok (.iload 4, 2) := dk_21 4 (dk_at dksL_law_60 13 rfl rfl)
theorem dL_law_1538 : decode cL_law 1538 = .ok (.iconst 1, 1) := dk_4 (dk_at dksL_law_60 15 rfl rfl)
theorem dL_law_1539 : decode cL_law 1539 = .ok (.iadd, 1) := dk_96 (dk_at dksL_law_60 16 rfl rfl)
theorem dL_law_1540 : decode cL_law 1540 = .ok (.iaload, 1) := dk_46 (dk_at dksL_law_60 17 rfl rfl)
theorem dL_law_1541 : decode cL_law 1541 = .ok (.invokevirtual 192, 3) := dk_182 0 192 (dk_at dksL_law_60 18 rfl rfl)
theorem dL_law_1544 : decode cL_law 1544 = .ok (.istore 6, 2) := dk_54 6 (dk_at dksL_law_60 21 rfl rfl)
theorem dL_law_1546 : decode cL_law 1546 = .ok (.aload_n 2, 1) := dk_44 (dk_at dksL_law_60 23 rfl rfl)
theorem dL_law_1547 : decode cL_law 1547 = .ok (.invokevirtual 115, 3) := dk_182 0 115 (dk_at dksL_law_61 0 rfl rfl)
theorem dL_law_1550 : decode cL_law 1550 = .ok (.iload 5, 2) := dk_21 5 (dk_at dksL_law_61 3 rfl rfl)
theorem dL_law_1552 : decode cL_law 1552 = .ok (.if_icmp .eq 5, 3) := dk_159 0 5 (dk_at dksL_law_61 5 rfl rfl)
theorem dL_law_1555 : decode cL_law 1555 = .ok (.iconst 0, 1) := dk_3 (dk_at dksL_law_61 8 rfl rfl)
theorem dL_law_1556 : decode cL_law 1556 = .ok (.ireturn, 1) := dk_172 (dk_at dksL_law_61 9 rfl rfl)
theorem dL_law_1557 : decode cL_law 1557 = .ok (.iload 5, 2) := dk_21 5 (dk_at dksL_law_61 10 rfl rfl)
theorem dL_law_1559 : decode cL_law 1559 = .ok (.ifCond .ne 15, 3) := dk_154 0 15 (dk_at dksL_law_61 12 rfl rfl)
theorem dL_law_1562 : decode cL_law 1562 = .ok (.aload_n 3, 1) := dk_45 (dk_at dksL_law_61 15 rfl rfl)
theorem dL_law_1563 : decode cL_law 1563 = .ok (.iconst 0, 1) := dk_3 (dk_at dksL_law_61 16 rfl rfl)
theorem dL_law_1564 : decode cL_law 1564 = .ok (.laload, 1) := dk_47 (dk_at dksL_law_61 17 rfl rfl)
theorem dL_law_1565 : decode cL_law 1565 = .ok (.iload 6, 2) := dk_21 6 (dk_at dksL_law_61 18 rfl rfl)
theorem dL_law_1567 : decode cL_law 1567 = .ok (.i2l, 1) := dk_133 (dk_at dksL_law_61 20 rfl rfl)
theorem dL_law_1568 : decode cL_law 1568 = .ok (.lcmp, 1) := dk_148 (dk_at dksL_law_61 21 rfl rfl)
theorem dL_law_1569 : decode cL_law 1569 = .ok (.ifCond .eq 5, 3) := dk_153 0 5 (dk_at dksL_law_62 0 rfl rfl)
theorem dL_law_1572 : decode cL_law 1572 = .ok (.iconst 0, 1) := dk_3 (dk_at dksL_law_62 3 rfl rfl)
theorem dL_law_1573 : decode cL_law 1573 = .ok (.ireturn, 1) := dk_172 (dk_at dksL_law_62 4 rfl rfl)
theorem dL_law_1574 : decode cL_law 1574 = .ok (.goto 642, 3) := dk_167 2 130 (dk_at dksL_law_62 5 rfl rfl)
theorem dL_law_1577 : decode cL_law 1577 = .ok (.aload_n 1, 1) := dk_43 (dk_at dksL_law_62 8 rfl rfl)
theorem dL_law_1578 : decode cL_law 1578 = .ok (.aload_n 0, 1) := dk_42 (dk_at dksL_law_62 9 rfl rfl)
theorem dL_law_1579 : decode cL_law 1579 = .ok (.iload 4, 2) := dk_21 4 (dk_at dksL_law_62 10 rfl rfl)
theorem dL_law_1581 : decode cL_law 1581 = .ok (.iconst 1, 1) := dk_4 (dk_at dksL_law_62 12 rfl rfl)
theorem dL_law_1582 : decode cL_law 1582 = .ok (.iadd, 1) := dk_96 (dk_at dksL_law_62 13 rfl rfl)
theorem dL_law_1583 : decode cL_law 1583 = .ok (.iaload, 1) := dk_46 (dk_at dksL_law_62 14 rfl rfl)
theorem dL_law_1584 : decode cL_law 1584 = .ok (.aload_n 0, 1) := dk_42 (dk_at dksL_law_62 15 rfl rfl)
theorem dL_law_1585 : decode cL_law 1585 = .ok (.iload 4, 2) := dk_21 4 (dk_at dksL_law_62 16 rfl rfl)
theorem dL_law_1587 : decode cL_law 1587 = .ok (.iconst 2, 1) := dk_5 (dk_at dksL_law_62 18 rfl rfl)
theorem dL_law_1588 : decode cL_law 1588 = .ok (.iadd, 1) := dk_96 (dk_at dksL_law_62 19 rfl rfl)
theorem dL_law_1589 : decode cL_law 1589 = .ok (.iaload, 1) := dk_46 (dk_at dksL_law_62 20 rfl rfl)
theorem dL_law_1590 : decode cL_law 1590 = .ok (.aload_n 0, 1) := dk_42 (dk_at dksL_law_62 21 rfl rfl)
theorem dL_law_1591 : decode cL_law 1591 = .ok (.iload 4, 2) := dk_21 4 (dk_at dksL_law_62 22 rfl rfl)
theorem dL_law_1593 : decode cL_law 1593 = .ok (.iconst 3, 1) := dk_6 (dk_at dksL_law_63 0 rfl rfl)
theorem dL_law_1594 : decode cL_law 1594 = .ok (.iadd, 1) := dk_96 (dk_at dksL_law_63 1 rfl rfl)
theorem dL_law_1595 : decode cL_law 1595 = .ok (.iaload, 1) := dk_46 (dk_at dksL_law_63 2 rfl rfl)
theorem dL_law_1596 : decode cL_law 1596 = .ok (.aload_n 3, 1) := dk_45 (dk_at dksL_law_63 3 rfl rfl)
theorem dL_law_1597 : decode cL_law 1597 = .ok (.invokestatic 193, 3) := dk_184 0 193 (dk_at dksL_law_63 4 rfl rfl)
theorem dL_law_1600 : decode cL_law 1600 = .ok (.istore 5, 2) := dk_54 5 (dk_at dksL_law_63 7 rfl rfl)
theorem dL_law_1602 : decode cL_law 1602 = .ok (.aload_n 2, 1) := dk_44 (dk_at dksL_law_63 9 rfl rfl)
theorem dL_law_1603 : decode cL_law 1603 = .ok (.aload_n 0, 1) := dk_42 (dk_at dksL_law_63 10 rfl rfl)
theorem dL_law_1604 : decode cL_law 1604 = .ok (.iload 4, 2) := dk_21 4 (dk_at dksL_law_63 11 rfl rfl)
theorem dL_law_1606 : decode cL_law 1606 = .ok (.iconst 1, 1) := dk_4 (dk_at dksL_law_63 13 rfl rfl)
theorem dL_law_1607 : decode cL_law 1607 = .ok (.iadd, 1) := dk_96 (dk_at dksL_law_63 14 rfl rfl)
theorem dL_law_1608 : decode cL_law 1608 = .ok (.iaload, 1) := dk_46 (dk_at dksL_law_63 15 rfl rfl)
theorem dL_law_1609 : decode cL_law 1609 = .ok (.aload_n 0, 1) := dk_42 (dk_at dksL_law_63 16 rfl rfl)
theorem dL_law_1610 : decode cL_law 1610 = .ok (.iload 4, 2) := dk_21 4 (dk_at dksL_law_63 17 rfl rfl)
theorem dL_law_1612 : decode cL_law 1612 = .ok (.iconst 2, 1) := dk_5 (dk_at dksL_law_63 19 rfl rfl)
theorem dL_law_1613 : decode cL_law 1613 = .ok (.iadd, 1) := dk_96 (dk_at dksL_law_63 20 rfl rfl)
theorem dL_law_1614 : decode cL_law 1614 = .ok (.iaload, 1) := dk_46 (dk_at dksL_law_63 21 rfl rfl)
theorem dL_law_1615 : decode cL_law 1615 = .ok (.aload_n 0, 1) := dk_42 (dk_at dksL_law_63 22 rfl rfl)
theorem dL_law_1616 : decode cL_law 1616 = .ok (.iload 4, 2) := dk_21 4 (dk_at dksL_law_64 0 rfl rfl)
theorem dL_law_1618 : decode cL_law 1618 = .ok (.iconst 3, 1) := dk_6 (dk_at dksL_law_64 2 rfl rfl)
theorem dL_law_1619 : decode cL_law 1619 = .ok (.iadd, 1) := dk_96 (dk_at dksL_law_64 3 rfl rfl)
theorem dL_law_1620 : decode cL_law 1620 = .ok (.iaload, 1) := dk_46 (dk_at dksL_law_64 4 rfl rfl)
theorem dL_law_1621 : decode cL_law 1621 = .ok (.invokevirtual 196, 3) := dk_182 0 196 (dk_at dksL_law_64 5 rfl rfl)
theorem dL_law_1624 : decode cL_law 1624 = .ok (.istore 6, 2) := dk_54 6 (dk_at dksL_law_64 8 rfl rfl)
theorem dL_law_1626 : decode cL_law 1626 = .ok (.aload_n 2, 1) := dk_44 (dk_at dksL_law_64 10 rfl rfl)
theorem dL_law_1627 : decode cL_law 1627 = .ok (.invokevirtual 115, 3) := dk_182 0 115 (dk_at dksL_law_64 11 rfl rfl)
theorem dL_law_1630 : decode cL_law 1630 = .ok (.iload 5, 2) := dk_21 5 (dk_at dksL_law_64 14 rfl rfl)
theorem dL_law_1632 : decode cL_law 1632 = .ok (.if_icmp .eq 5, 3) := dk_159 0 5 (dk_at dksL_law_64 16 rfl rfl)
theorem dL_law_1635 : decode cL_law 1635 = .ok (.iconst 0, 1) := dk_3 (dk_at dksL_law_64 19 rfl rfl)
theorem dL_law_1636 : decode cL_law 1636 = .ok (.ireturn, 1) := dk_172 (dk_at dksL_law_64 20 rfl rfl)
theorem dL_law_1637 : decode cL_law 1637 = .ok (.iload 5, 2) := dk_21 5 (dk_at dksL_law_64 21 rfl rfl)
theorem dL_law_1639 : decode cL_law 1639 = .ok (.ifCond .ne 15, 3) := dk_154 0 15 (dk_at dksL_law_65 0 rfl rfl)
theorem dL_law_1642 : decode cL_law 1642 = .ok (.aload_n 3, 1) := dk_45 (dk_at dksL_law_65 3 rfl rfl)
theorem dL_law_1643 : decode cL_law 1643 = .ok (.iconst 0, 1) := dk_3 (dk_at dksL_law_65 4 rfl rfl)
theorem dL_law_1644 : decode cL_law 1644 = .ok (.laload, 1) := dk_47 (dk_at dksL_law_65 5 rfl rfl)
theorem dL_law_1645 : decode cL_law 1645 = .ok (.iload 6, 2) := dk_21 6 (dk_at dksL_law_65 6 rfl rfl)
theorem dL_law_1647 : decode cL_law 1647 = .ok (.i2l, 1) := dk_133 (dk_at dksL_law_65 8 rfl rfl)
theorem dL_law_1648 : decode cL_law 1648 = .ok (.lcmp, 1) := dk_148 (dk_at dksL_law_65 9 rfl rfl)
theorem dL_law_1649 : decode cL_law 1649 = .ok (.ifCond .eq 5, 3) := dk_153 0 5 (dk_at dksL_law_65 10 rfl rfl)
theorem dL_law_1652 : decode cL_law 1652 = .ok (.iconst 0, 1) := dk_3 (dk_at dksL_law_65 13 rfl rfl)
theorem dL_law_1653 : decode cL_law 1653 = .ok (.ireturn, 1) := dk_172 (dk_at dksL_law_65 14 rfl rfl)
theorem dL_law_1654 : decode cL_law 1654 = .ok (.goto 562, 3) := dk_167 2 50 (dk_at dksL_law_65 15 rfl rfl)
theorem dL_law_1657 : decode cL_law 1657 = .ok (.aload_n 1, 1) := dk_43 (dk_at dksL_law_65 18 rfl rfl)
theorem dL_law_1658 : decode cL_law 1658 = .ok (.aload_n 0, 1) := dk_42 (dk_at dksL_law_65 19 rfl rfl)
theorem dL_law_1659 : decode cL_law 1659 = .ok (.iload 4, 2) := dk_21 4 (dk_at dksL_law_65 20 rfl rfl)
theorem dL_law_1661 : decode cL_law 1661 = .ok (.iconst 1, 1) := dk_4 (dk_at dksL_law_65 22 rfl rfl)
theorem dL_law_1662 : decode cL_law 1662 = .ok (.iadd, 1) := dk_96 (dk_at dksL_law_65 23 rfl rfl)
theorem dL_law_1663 : decode cL_law 1663 = .ok (.iaload, 1) := dk_46 (dk_at dksL_law_66 0 rfl rfl)
theorem dL_law_1664 : decode cL_law 1664 = .ok (.aload_n 0, 1) := dk_42 (dk_at dksL_law_66 1 rfl rfl)
theorem dL_law_1665 : decode cL_law 1665 = .ok (.iload 4, 2) := dk_21 4 (dk_at dksL_law_66 2 rfl rfl)
theorem dL_law_1667 : decode cL_law 1667 = .ok (.iconst 2, 1) := dk_5 (dk_at dksL_law_66 4 rfl rfl)
theorem dL_law_1668 : decode cL_law 1668 = .ok (.iadd, 1) := dk_96 (dk_at dksL_law_66 5 rfl rfl)
theorem dL_law_1669 : decode cL_law 1669 = .ok (.iaload, 1) := dk_46 (dk_at dksL_law_66 6 rfl rfl)
theorem dL_law_1670 : decode cL_law 1670 = .ok (.aload_n 0, 1) := dk_42 (dk_at dksL_law_66 7 rfl rfl)
theorem dL_law_1671 : decode cL_law 1671 = .ok (.iload 4, 2) := dk_21 4 (dk_at dksL_law_66 8 rfl rfl)
theorem dL_law_1673 : decode cL_law 1673 = .ok (.iconst 3, 1) := dk_6 (dk_at dksL_law_66 10 rfl rfl)
theorem dL_law_1674 : decode cL_law 1674 = .ok (.iadd, 1) := dk_96 (dk_at dksL_law_66 11 rfl rfl)
theorem dL_law_1675 : decode cL_law 1675 = .ok (.iaload, 1) := dk_46 (dk_at dksL_law_66 12 rfl rfl)
theorem dL_law_1676 : decode cL_law 1676 = .ok (.aload_n 3, 1) := dk_45 (dk_at dksL_law_66 13 rfl rfl)
theorem dL_law_1677 : decode cL_law 1677 = .ok (.invokestatic 197, 3) := dk_184 0 197 (dk_at dksL_law_66 14 rfl rfl)
theorem dL_law_1680 : decode cL_law 1680 = .ok (.istore 5, 2) := dk_54 5 (dk_at dksL_law_66 17 rfl rfl)
theorem dL_law_1682 : decode cL_law 1682 = .ok (.aload_n 2, 1) := dk_44 (dk_at dksL_law_66 19 rfl rfl)
theorem dL_law_1683 : decode cL_law 1683 = .ok (.aload_n 0, 1) := dk_42 (dk_at dksL_law_66 20 rfl rfl)
theorem dL_law_1684 : decode cL_law 1684 = .ok (.iload 4, 2) := dk_21 4 (dk_at dksL_law_66 21 rfl rfl)
theorem dL_law_1686 : decode cL_law 1686 = .ok (.iconst 1, 1) := dk_4 (dk_at dksL_law_66 23 rfl rfl)
theorem dL_law_1687 : decode cL_law 1687 = .ok (.iadd, 1) := dk_96 (dk_at dksL_law_67 0 rfl rfl)
theorem dL_law_1688 : decode cL_law 1688 = .ok (.iaload, 1) := dk_46 (dk_at dksL_law_67 1 rfl rfl)
theorem dL_law_1689 : decode cL_law 1689 = .ok (.aload_n 0, 1) := dk_42 (dk_at dksL_law_67 2 rfl rfl)
theorem dL_law_1690 : decode cL_law 1690 = .ok (.iload 4, 2) := dk_21 4 (dk_at dksL_law_67 3 rfl rfl)
theorem dL_law_1692 : decode cL_law 1692 = .ok (.iconst 2, 1) := dk_5 (dk_at dksL_law_67 5 rfl rfl)
theorem dL_law_1693 : decode cL_law 1693 = .ok (.iadd, 1) := dk_96 (dk_at dksL_law_67 6 rfl rfl)
theorem dL_law_1694 : decode cL_law 1694 = .ok (.iaload, 1) := dk_46 (dk_at dksL_law_67 7 rfl rfl)
theorem dL_law_1695 : decode cL_law 1695 = .ok (.aload_n 0, 1) := dk_42 (dk_at dksL_law_67 8 rfl rfl)
theorem dL_law_1696 : decode cL_law 1696 = .ok (.iload 4, 2) := dk_21 4 (dk_at dksL_law_67 9 rfl rfl)
theorem dL_law_1698 : decode cL_law 1698 = .ok (.iconst 3, 1) := dk_6 (dk_at dksL_law_67 11 rfl rfl)
theorem dL_law_1699 : decode cL_law 1699 = .ok (.iadd, 1) := dk_96 (dk_at dksL_law_67 12 rfl rfl)
theorem dL_law_1700 : decode cL_law 1700 = .ok (.iaload, 1) := dk_46 (dk_at dksL_law_67 13 rfl rfl)
theorem dL_law_1701 : decode cL_law 1701 = .ok (.invokevirtual 199, 3) := dk_182 0 199 (dk_at dksL_law_67 14 rfl rfl)
theorem dL_law_1704 : decode cL_law 1704 = .ok (.istore 6, 2) := dk_54 6 (dk_at dksL_law_67 17 rfl rfl)
theorem dL_law_1706 : decode cL_law 1706 = .ok (.aload_n 2, 1) := dk_44 (dk_at dksL_law_67 19 rfl rfl)
theorem dL_law_1707 : decode cL_law 1707 = .ok (.invokevirtual 115, 3) := dk_182 0 115 (dk_at dksL_law_67 20 rfl rfl)
theorem dL_law_1710 : decode cL_law 1710 = .ok (.iload 5, 2) := dk_21 5 (dk_at dksL_law_68 0 rfl rfl)
theorem dL_law_1712 : decode cL_law 1712 = .ok (.if_icmp .eq 5, 3) := dk_159 0 5 (dk_at dksL_law_68 2 rfl rfl)
theorem dL_law_1715 : decode cL_law 1715 = .ok (.iconst 0, 1) := dk_3 (dk_at dksL_law_68 5 rfl rfl)
theorem dL_law_1716 : decode cL_law 1716 = .ok (.ireturn, 1) := dk_172 (dk_at dksL_law_68 6 rfl rfl)
theorem dL_law_1717 : decode cL_law 1717 = .ok (.iload 5, 2) := dk_21 5 (dk_at dksL_law_68 7 rfl rfl)
theorem dL_law_1719 : decode cL_law 1719 = .ok (.ifCond .ne 15, 3) := dk_154 0 15 (dk_at dksL_law_68 9 rfl rfl)
theorem dL_law_1722 : decode cL_law 1722 = .ok (.aload_n 3, 1) := dk_45 (dk_at dksL_law_68 12 rfl rfl)
theorem dL_law_1723 : decode cL_law 1723 = .ok (.iconst 0, 1) := dk_3 (dk_at dksL_law_68 13 rfl rfl)
theorem dL_law_1724 : decode cL_law 1724 = .ok (.laload, 1) := dk_47 (dk_at dksL_law_68 14 rfl rfl)
theorem dL_law_1725 : decode cL_law 1725 = .ok (.iload 6, 2) := dk_21 6 (dk_at dksL_law_68 15 rfl rfl)
theorem dL_law_1727 : decode cL_law 1727 = .ok (.i2l, 1) := dk_133 (dk_at dksL_law_68 17 rfl rfl)
theorem dL_law_1728 : decode cL_law 1728 = .ok (.lcmp, 1) := dk_148 (dk_at dksL_law_68 18 rfl rfl)
theorem dL_law_1729 : decode cL_law 1729 = .ok (.ifCond .eq 5, 3) := dk_153 0 5 (dk_at dksL_law_68 19 rfl rfl)
theorem dL_law_1732 : decode cL_law 1732 = .ok (.iconst 0, 1) := dk_3 (dk_at dksL_law_68 22 rfl rfl)
theorem dL_law_1733 : decode cL_law 1733 = .ok (.ireturn, 1) := dk_172 (dk_at dksL_law_68 23 rfl rfl)
theorem dL_law_1734 : decode cL_law 1734 = .ok (.goto 482, 3) := dk_167 1 226 (dk_at dksL_law_69 0 rfl rfl)
theorem dL_law_1737 : decode cL_law 1737 = .ok (.aload_n 1, 1) := dk_43 (dk_at dksL_law_69 3 rfl rfl)
theorem dL_law_1738 : decode cL_law 1738 = .ok (.aload_n 0, 1) := dk_42 (dk_at dksL_law_69 4 rfl rfl)
theorem dL_law_1739 : decode cL_law 1739 = .ok (.iload 4, 2) := dk_21 4 (dk_at dksL_law_69 5 rfl rfl)
theorem dL_law_1741 : decode cL_law 1741 = .ok (.iconst 1, 1) := dk_4 (dk_at dksL_law_69 7 rfl rfl)
theorem dL_law_1742 : decode cL_law 1742 = .ok (.iadd, 1) := dk_96 (dk_at dksL_law_69 8 rfl rfl)
theorem dL_law_1743 : decode cL_law 1743 = .ok (.iaload, 1) := dk_46 (dk_at dksL_law_69 9 rfl rfl)
theorem dL_law_1744 : decode cL_law 1744 = .ok (.aload_n 0, 1) := dk_42 (dk_at dksL_law_69 10 rfl rfl)
theorem dL_law_1745 : decode cL_law 1745 = .ok (.iload 4, 2) := dk_21 4 (dk_at dksL_law_69 11 rfl rfl)
theorem dL_law_1747 : decode cL_law 1747 = .ok (.iconst 2, 1) := dk_5 (dk_at dksL_law_69 13 rfl rfl)
theorem dL_law_1748 : decode cL_law 1748 = .ok (.iadd, 1) := dk_96 (dk_at dksL_law_69 14 rfl rfl)
theorem dL_law_1749 : decode cL_law 1749 = .ok (.iaload, 1) := dk_46 (dk_at dksL_law_69 15 rfl rfl)
theorem dL_law_1750 : decode cL_law 1750 = .ok (.aload_n 3, 1) := dk_45 (dk_at dksL_law_69 16 rfl rfl)
theorem dL_law_1751 : decode cL_law 1751 = .ok (.invokestatic 200, 3) := dk_184 0 200 (dk_at dksL_law_69 17 rfl rfl)
theorem dL_law_1754 : decode cL_law 1754 = .ok (.istore 5, 2) := dk_54 5 (dk_at dksL_law_69 20 rfl rfl)
theorem dL_law_1756 : decode cL_law 1756 = .ok (.aload_n 2, 1) := dk_44 (dk_at dksL_law_69 22 rfl rfl)
theorem dL_law_1757 : decode cL_law 1757 = .ok (.aload_n 0, 1) := dk_42 (dk_at dksL_law_69 23 rfl rfl)
theorem dL_law_1758 : decode cL_law 1758 = .ok (.iload 4, 2) := dk_21 4 (dk_at dksL_law_70 0 rfl rfl)
theorem dL_law_1760 : decode cL_law 1760 = .ok (.iconst 1, 1) := dk_4 (dk_at dksL_law_70 2 rfl rfl)
theorem dL_law_1761 : decode cL_law 1761 = .ok (.iadd, 1) := dk_96 (dk_at dksL_law_70 3 rfl rfl)
theorem dL_law_1762 : decode cL_law 1762 = .ok (.iaload, 1) := dk_46 (dk_at dksL_law_70 4 rfl rfl)
theorem dL_law_1763 : decode cL_law 1763 = .ok (.aload_n 0, 1) := dk_42 (dk_at dksL_law_70 5 rfl rfl)
theorem dL_law_1764 : decode cL_law 1764 = .ok (.iload 4, 2) := dk_21 4 (dk_at dksL_law_70 6 rfl rfl)
theorem dL_law_1766 : decode cL_law 1766 = .ok (.iconst 2, 1) := dk_5 (dk_at dksL_law_70 8 rfl rfl)
theorem dL_law_1767 : decode cL_law 1767 = .ok (.iadd, 1) := dk_96 (dk_at dksL_law_70 9 rfl rfl)
theorem dL_law_1768 : decode cL_law 1768 = .ok (.iaload, 1) := dk_46 (dk_at dksL_law_70 10 rfl rfl)
theorem dL_law_1769 : decode cL_law 1769 = .ok (.invokevirtual 202, 3) := dk_182 0 202 (dk_at dksL_law_70 11 rfl rfl)
theorem dL_law_1772 : decode cL_law 1772 = .ok (.istore 6, 2) := dk_54 6 (dk_at dksL_law_70 14 rfl rfl)
theorem dL_law_1774 : decode cL_law 1774 = .ok (.aload_n 2, 1) := dk_44 (dk_at dksL_law_70 16 rfl rfl)
theorem dL_law_1775 : decode cL_law 1775 = .ok (.invokevirtual 115, 3) := dk_182 0 115 (dk_at dksL_law_70 17 rfl rfl)
theorem dL_law_1778 : decode cL_law 1778 = .ok (.iload 5, 2) := dk_21 5 (dk_at dksL_law_70 20 rfl rfl)
theorem dL_law_1780 : decode cL_law 1780 = .ok (.if_icmp .eq 5, 3) := dk_159 0 5 (dk_at dksL_law_71 0 rfl rfl)
theorem dL_law_1783 : decode cL_law 1783 = .ok (.iconst 0, 1) := dk_3 (dk_at dksL_law_71 3 rfl rfl)
theorem dL_law_1784 : decode cL_law 1784 = .ok (.ireturn, 1) := dk_172 (dk_at dksL_law_71 4 rfl rfl)
theorem dL_law_1785 : decode cL_law 1785 = .ok (.iload 5, 2) := dk_21 5 (dk_at dksL_law_71 5 rfl rfl)
theorem dL_law_1787 : decode cL_law 1787 = .ok (.ifCond .ne 15, 3) := dk_154 0 15 (dk_at dksL_law_71 7 rfl rfl)
theorem dL_law_1790 : decode cL_law 1790 = .ok (.aload_n 3, 1) := dk_45 (dk_at dksL_law_71 10 rfl rfl)
theorem dL_law_1791 : decode cL_law 1791 = .ok (.iconst 0, 1) := dk_3 (dk_at dksL_law_71 11 rfl rfl)
theorem dL_law_1792 : decode cL_law 1792 = .ok (.laload, 1) := dk_47 (dk_at dksL_law_71 12 rfl rfl)
theorem dL_law_1793 : decode cL_law 1793 = .ok (.iload 6, 2) := dk_21 6 (dk_at dksL_law_71 13 rfl rfl)
theorem dL_law_1795 : decode cL_law 1795 = .ok (.i2l, 1) := dk_133 (dk_at dksL_law_71 15 rfl rfl)
theorem dL_law_1796 : decode cL_law 1796 = .ok (.lcmp, 1) := dk_148 (dk_at dksL_law_71 16 rfl rfl)
theorem dL_law_1797 : decode cL_law 1797 = .ok (.ifCond .eq 5, 3) := dk_153 0 5 (dk_at dksL_law_71 17 rfl rfl)
theorem dL_law_1800 : decode cL_law 1800 = .ok (.iconst 0, 1) := dk_3 (dk_at dksL_law_71 20 rfl rfl)
theorem dL_law_1801 : decode cL_law 1801 = .ok (.ireturn, 1) := dk_172 (dk_at dksL_law_71 21 rfl rfl)
theorem dL_law_1802 : decode cL_law 1802 = .ok (.goto 414, 3) := dk_167 1 158 (dk_at dksL_law_72 0 rfl rfl)
theorem dL_law_1805 : decode cL_law 1805 = .ok (.aload_n 1, 1) := dk_43 (dk_at dksL_law_72 3 rfl rfl)
theorem dL_law_1806 : decode cL_law 1806 = .ok (.aload_n 0, 1) := dk_42 (dk_at dksL_law_72 4 rfl rfl)
theorem dL_law_1807 : decode cL_law 1807 = .ok (.iload 4, 2) := dk_21 4 (dk_at dksL_law_72 5 rfl rfl)
theorem dL_law_1809 : decode cL_law 1809 = .ok (.iconst 1, 1) := dk_4 (dk_at dksL_law_72 7 rfl rfl)
theorem dL_law_1810 : decode cL_law 1810 = .ok (.iadd, 1) := dk_96 (dk_at dksL_law_72 8 rfl rfl)
theorem dL_law_1811 : decode cL_law 1811 = .ok (.iaload, 1) := dk_46 (dk_at dksL_law_72 9 rfl rfl)
theorem dL_law_1812 : decode cL_law 1812 = .ok (.aload_n 0, 1) := dk_42 (dk_at dksL_law_72 10 rfl rfl)
theorem dL_law_1813 : decode cL_law 1813 = .ok (.iload 4, 2) := dk_21 4 (dk_at dksL_law_72 11 rfl rfl)
theorem dL_law_1815 : decode cL_law 1815 = .ok (.iconst 2, 1) := dk_5 (dk_at dksL_law_72 13 rfl rfl)
theorem dL_law_1816 : decode cL_law 1816 = .ok (.iadd, 1) := dk_96 (dk_at dksL_law_72 14 rfl rfl)
theorem dL_law_1817 : decode cL_law 1817 = .ok (.iaload, 1) := dk_46 (dk_at dksL_law_72 15 rfl rfl)
theorem dL_law_1818 : decode cL_law 1818 = .ok (.aload_n 0, 1) := dk_42 (dk_at dksL_law_72 16 rfl rfl)
theorem dL_law_1819 : decode cL_law 1819 = .ok (.iload 4, 2) := dk_21 4 (dk_at dksL_law_72 17 rfl rfl)
theorem dL_law_1821 : decode cL_law 1821 = .ok (.iconst 3, 1) := dk_6 (dk_at dksL_law_72 19 rfl rfl)
theorem dL_law_1822 : decode cL_law 1822 = .ok (.iadd, 1) := dk_96 (dk_at dksL_law_72 20 rfl rfl)
theorem dL_law_1823 : decode cL_law 1823 = .ok (.iaload, 1) := dk_46 (dk_at dksL_law_72 21 rfl rfl)
theorem dL_law_1824 : decode cL_law 1824 = .ok (.aload_n 3, 1) := dk_45 (dk_at dksL_law_72 22 rfl rfl)
theorem dL_law_1825 : decode cL_law 1825 = .ok (.invokestatic 203, 3) := dk_184 0 203 (dk_at dksL_law_73 0 rfl rfl)
theorem dL_law_1828 : decode cL_law 1828 = .ok (.istore 5, 2) := dk_54 5 (dk_at dksL_law_73 3 rfl rfl)
theorem dL_law_1830 : decode cL_law 1830 = .ok (.aload_n 2, 1) := dk_44 (dk_at dksL_law_73 5 rfl rfl)
theorem dL_law_1831 : decode cL_law 1831 = .ok (.aload_n 0, 1) := dk_42 (dk_at dksL_law_73 6 rfl rfl)
theorem dL_law_1832 : decode cL_law 1832 = .ok (.iload 4, 2) := dk_21 4 (dk_at dksL_law_73 7 rfl rfl)
theorem dL_law_1834 : decode cL_law 1834 = .ok (.iconst 1, 1) := dk_4 (dk_at dksL_law_73 9 rfl rfl)
theorem dL_law_1835 : decode cL_law 1835 = .ok (.iadd, 1) := dk_96 (dk_at dksL_law_73 10 rfl rfl)
theorem dL_law_1836 : decode cL_law 1836 = .ok (.iaload, 1) := dk_46 (dk_at dksL_law_73 11 rfl rfl)
theorem dL_law_1837 : decode cL_law 1837 = .ok (.aload_n 0, 1) := dk_42 (dk_at dksL_law_73 12 rfl rfl)
theorem dL_law_1838 : decode cL_law 1838 = .ok (.iload 4, 2) := dk_21 4 (dk_at dksL_law_73 13 rfl rfl)
theorem dL_law_1840 : decode cL_law 1840 = .ok (.iconst 2, 1) := dk_5 (dk_at dksL_law_73 15 rfl rfl)
theorem dL_law_1841 : decode cL_law 1841 = .ok (.iadd, 1) := dk_96 (dk_at dksL_law_73 16 rfl rfl)
theorem dL_law_1842 : decode cL_law 1842 = .ok (.iaload, 1) := dk_46 (dk_at dksL_law_73 17 rfl rfl)
theorem dL_law_1843 : decode cL_law 1843 = .ok (.aload_n 0, 1) := dk_42 (dk_at dksL_law_73 18 rfl rfl)
theorem dL_law_1844 : decode cL_law 1844 = .ok (.iload 4, 2) := dk_21 4 (dk_at dksL_law_73 19 rfl rfl)
theorem dL_law_1846 : decode cL_law 1846 = .ok (.iconst 3, 1) := dk_6 (dk_at dksL_law_73 21 rfl rfl)
theorem dL_law_1847 : decode cL_law 1847 = .ok (.iadd, 1) := dk_96 (dk_at dksL_law_73 22 rfl rfl)
theorem dL_law_1848 : decode cL_law 1848 = .ok (.iaload, 1) := dk_46 (dk_at dksL_law_73 23 rfl rfl)
theorem dL_law_1849 : decode cL_law 1849 = .ok (.invokevirtual 205, 3) := dk_182 0 205 (dk_at dksL_law_74 0 rfl rfl)
theorem dL_law_1852 : decode cL_law 1852 = .ok (.istore 6, 2) := dk_54 6 (dk_at dksL_law_74 3 rfl rfl)
theorem dL_law_1854 : decode cL_law 1854 = .ok (.aload_n 2, 1) := dk_44 (dk_at dksL_law_74 5 rfl rfl)
theorem dL_law_1855 : decode cL_law 1855 = .ok (.invokevirtual 115, 3) := dk_182 0 115 (dk_at dksL_law_74 6 rfl rfl)
theorem dL_law_1858 : decode cL_law 1858 = .ok (.iload 5, 2) := dk_21 5 (dk_at dksL_law_74 9 rfl rfl)
theorem dL_law_1860 : decode cL_law 1860 = .ok (.if_icmp .eq 5, 3) := dk_159 0 5 (dk_at dksL_law_74 11 rfl rfl)
theorem dL_law_1863 : decode cL_law 1863 = .ok (.iconst 0, 1) := dk_3 (dk_at dksL_law_74 14 rfl rfl)
theorem dL_law_1864 : decode cL_law 1864 = .ok (.ireturn, 1) := dk_172 (dk_at dksL_law_74 15 rfl rfl)
theorem dL_law_1865 : decode cL_law 1865 = .ok (.iload 5, 2) := dk_21 5 (dk_at dksL_law_74 16 rfl rfl)
theorem dL_law_1867 : decode cL_law 1867 = .ok (.ifCond .ne 15, 3) := dk_154 0 15 (dk_at dksL_law_74 18 rfl rfl)
theorem dL_law_1870 : decode cL_law 1870 = .ok (.aload_n 3, 1) := dk_45 (dk_at dksL_law_74 21 rfl rfl)
theorem dL_law_1871 : decode cL_law 1871 = .ok (.iconst 0, 1) := dk_3 (dk_at dksL_law_74 22 rfl rfl)
theorem dL_law_1872 : decode cL_law 1872 = .ok (.laload, 1) := dk_47 (dk_at dksL_law_74 23 rfl rfl)
theorem dL_law_1873 : decode cL_law 1873 = .ok (.iload 6, 2) := dk_21 6 (dk_at dksL_law_75 0 rfl rfl)
theorem dL_law_1875 : decode cL_law 1875 = .ok (.i2l, 1) := dk_133 (dk_at dksL_law_75 2 rfl rfl)
theorem dL_law_1876 : decode cL_law 1876 = .ok (.lcmp, 1) := dk_148 (dk_at dksL_law_75 3 rfl rfl)
theorem dL_law_1877 : decode cL_law 1877 = .ok (.ifCond .eq 5, 3) := dk_153 0 5 (dk_at dksL_law_75 4 rfl rfl)
theorem dL_law_1880 : decode cL_law 1880 = .ok (.iconst 0, 1) := dk_3 (dk_at dksL_law_75 7 rfl rfl)
theorem dL_law_1881 : decode cL_law 1881 = .ok (.ireturn, 1) := dk_172 (dk_at dksL_law_75 8 rfl rfl)
theorem dL_law_1882 : decode cL_law 1882 = .ok (.goto 334, 3) := dk_167 1 78 (dk_at dksL_law_75 9 rfl rfl)
theorem dL_law_1885 : decode cL_law 1885 = .ok (.aload_n 1, 1) := dk_43 (dk_at dksL_law_75 12 rfl rfl)
theorem dL_law_1886 : decode cL_law 1886 = .ok (.aload_n 0, 1) := dk_42 (dk_at dksL_law_75 13 rfl rfl)
theorem dL_law_1887 : decode cL_law 1887 = .ok (.iload 4, 2) := dk_21 4 (dk_at dksL_law_75 14 rfl rfl)
theorem dL_law_1889 : decode cL_law 1889 = .ok (.iconst 1, 1) := dk_4 (dk_at dksL_law_75 16 rfl rfl)
theorem dL_law_1890 : decode cL_law 1890 = .ok (.iadd, 1) := dk_96 (dk_at dksL_law_75 17 rfl rfl)
theorem dL_law_1891 : decode cL_law 1891 = .ok (.iaload, 1) := dk_46 (dk_at dksL_law_75 18 rfl rfl)
theorem dL_law_1892 : decode cL_law 1892 = .ok (.aload_n 3, 1) := dk_45 (dk_at dksL_law_75 19 rfl rfl)
theorem dL_law_1893 : decode cL_law 1893 = .ok (.invokestatic 206, 3) := dk_184 0 206 (dk_at dksL_law_75 20 rfl rfl)
theorem dL_law_1896 : decode cL_law 1896 = .ok (.istore 5, 2) := dk_54 5 (dk_at dksL_law_76 0 rfl rfl)
theorem dL_law_1898 : decode cL_law 1898 = .ok (.aload_n 2, 1) := dk_44 (dk_at dksL_law_76 2 rfl rfl)
theorem dL_law_1899 : decode cL_law 1899 = .ok (.aload_n 0, 1) := dk_42 (dk_at dksL_law_76 3 rfl rfl)
theorem dL_law_1900 : decode cL_law 1900 = .ok (.iload 4, 2) := dk_21 4 (dk_at dksL_law_76 4 rfl rfl)
theorem dL_law_1902 : decode cL_law 1902 = .ok (.iconst 1, 1) := dk_4 (dk_at dksL_law_76 6 rfl rfl)
theorem dL_law_1903 : decode cL_law 1903 = .ok (.iadd, 1) := dk_96 (dk_at dksL_law_76 7 rfl rfl)
theorem dL_law_1904 : decode cL_law 1904 = .ok (.iaload, 1) := dk_46 (dk_at dksL_law_76 8 rfl rfl)
theorem dL_law_1905 : decode cL_law 1905 = .ok (.invokevirtual 208, 3) := dk_182 0 208 (dk_at dksL_law_76 9 rfl rfl)
theorem dL_law_1908 : decode cL_law 1908 = .ok (.istore 6, 2) := dk_54 6 (dk_at dksL_law_76 12 rfl rfl)
theorem dL_law_1910 : decode cL_law 1910 = .ok (.aload_n 2, 1) := dk_44 (dk_at dksL_law_76 14 rfl rfl)
theorem dL_law_1911 : decode cL_law 1911 = .ok (.invokevirtual 115, 3) := dk_182 0 115 (dk_at dksL_law_76 15 rfl rfl)
theorem dL_law_1914 : decode cL_law 1914 = .ok (.iload 5, 2) := dk_21 5 (dk_at dksL_law_76 18 rfl rfl)
theorem dL_law_1916 : decode cL_law 1916 = .ok (.if_icmp .eq 5, 3) := dk_159 0 5 (dk_at dksL_law_76 20 rfl rfl)
theorem dL_law_1919 : decode cL_law 1919 = .ok (.iconst 0, 1) := dk_3 (dk_at dksL_law_76 23 rfl rfl)
theorem dL_law_1920 : decode cL_law 1920 = .ok (.ireturn, 1) := dk_172 (dk_at dksL_law_77 0 rfl rfl)
theorem dL_law_1921 : decode cL_law 1921 = .ok (.iload 5, 2) := dk_21 5 (dk_at dksL_law_77 1 rfl rfl)
theorem dL_law_1923 : decode cL_law 1923 = .ok (.ifCond .ne 15, 3) := dk_154 0 15 (dk_at dksL_law_77 3 rfl rfl)
theorem dL_law_1926 : decode cL_law 1926 = .ok (.aload_n 3, 1) := dk_45 (dk_at dksL_law_77 6 rfl rfl)
theorem dL_law_1927 : decode cL_law 1927 = .ok (.iconst 0, 1) := dk_3 (dk_at dksL_law_77 7 rfl rfl)
theorem dL_law_1928 : decode cL_law 1928 = .ok (.laload, 1) := dk_47 (dk_at dksL_law_77 8 rfl rfl)
theorem dL_law_1929 : decode cL_law 1929 = .ok (.iload 6, 2) := dk_21 6 (dk_at dksL_law_77 9 rfl rfl)
theorem dL_law_1931 : decode cL_law 1931 = .ok (.i2l, 1) := dk_133 (dk_at dksL_law_77 11 rfl rfl)
theorem dL_law_1932 : decode cL_law 1932 = .ok (.lcmp, 1) := dk_148 (dk_at dksL_law_77 12 rfl rfl)
theorem dL_law_1933 : decode cL_law 1933 = .ok (.ifCond .eq 5, 3) := dk_153 0 5 (dk_at dksL_law_77 13 rfl rfl)
theorem dL_law_1936 : decode cL_law 1936 = .ok (.iconst 0, 1) := dk_3 (dk_at dksL_law_77 16 rfl rfl)
theorem dL_law_1937 : decode cL_law 1937 = .ok (.ireturn, 1) := dk_172 (dk_at dksL_law_77 17 rfl rfl)
theorem dL_law_1938 : decode cL_law 1938 = .ok (.goto 278, 3) := dk_167 1 22 (dk_at dksL_law_77 18 rfl rfl)
theorem dL_law_1941 : decode cL_law 1941 = .ok (.aload_n 1, 1) := dk_43 (dk_at dksL_law_77 21 rfl rfl)
theorem dL_law_1942 : decode cL_law 1942 = .ok (.aload_n 0, 1) := dk_42 (dk_at dksL_law_77 22 rfl rfl)
theorem dL_law_1943 : decode cL_law 1943 = .ok (.iload 4, 2) := dk_21 4 (dk_at dksL_law_78 0 rfl rfl)
theorem dL_law_1945 : decode cL_law 1945 = .ok (.iconst 1, 1) := dk_4 (dk_at dksL_law_78 2 rfl rfl)
theorem dL_law_1946 : decode cL_law 1946 = .ok (.iadd, 1) := dk_96 (dk_at dksL_law_78 3 rfl rfl)
theorem dL_law_1947 : decode cL_law 1947 = .ok (.iaload, 1) := dk_46 (dk_at dksL_law_78 4 rfl rfl)
theorem dL_law_1948 : decode cL_law 1948 = .ok (.aload_n 3, 1) := dk_45 (dk_at dksL_law_78 5 rfl rfl)
theorem dL_law_1949 : decode cL_law 1949 = .ok (.invokestatic 209, 3) := dk_184 0 209 (dk_at dksL_law_78 6 rfl rfl)
theorem dL_law_1952 : decode cL_law 1952 = .ok (.istore 5, 2) := dk_54 5 (dk_at dksL_law_78 9 rfl rfl)
theorem dL_law_1954 : decode cL_law 1954 = .ok (.aload_n 2, 1) := dk_44 (dk_at dksL_law_78 11 rfl rfl)
theorem dL_law_1955 : decode cL_law 1955 = .ok (.aload_n 0, 1) := dk_42 (dk_at dksL_law_78 12 rfl rfl)
theorem dL_law_1956 : decode cL_law 1956 = .ok (.iload 4, 2) := dk_21 4 (dk_at dksL_law_78 13 rfl rfl)
theorem dL_law_1958 : decode cL_law 1958 = .ok (.iconst 1, 1) := dk_4 (dk_at dksL_law_78 15 rfl rfl)
theorem dL_law_1959 : decode cL_law 1959 = .ok (.iadd, 1) := dk_96 (dk_at dksL_law_78 16 rfl rfl)
theorem dL_law_1960 : decode cL_law 1960 = .ok (.iaload, 1) := dk_46 (dk_at dksL_law_78 17 rfl rfl)
theorem dL_law_1961 : decode cL_law 1961 = .ok (.invokevirtual 211, 3) := dk_182 0 211 (dk_at dksL_law_78 18 rfl rfl)
theorem dL_law_1964 : decode cL_law 1964 = .ok (.istore 6, 2) := dk_54 6 (dk_at dksL_law_78 21 rfl rfl)
theorem dL_law_1966 : decode cL_law 1966 = .ok (.aload_n 2, 1) := dk_44 (dk_at dksL_law_78 23 rfl rfl)
theorem dL_law_1967 : decode cL_law 1967 = .ok (.invokevirtual 115, 3) := dk_182 0 115 (dk_at dksL_law_79 0 rfl rfl)
theorem dL_law_1970 : decode cL_law 1970 = .ok (.iload 5, 2) := dk_21 5 (dk_at dksL_law_79 3 rfl rfl)
theorem dL_law_1972 : decode cL_law 1972 = .ok (.if_icmp .eq 5, 3) := dk_159 0 5 (dk_at dksL_law_79 5 rfl rfl)
theorem dL_law_1975 : decode cL_law 1975 = .ok (.iconst 0, 1) := dk_3 (dk_at dksL_law_79 8 rfl rfl)
theorem dL_law_1976 : decode cL_law 1976 = .ok (.ireturn, 1) := dk_172 (dk_at dksL_law_79 9 rfl rfl)
theorem dL_law_1977 : decode cL_law 1977 = .ok (.iload 5, 2) := dk_21 5 (dk_at dksL_law_79 10 rfl rfl)
theorem dL_law_1979 : decode cL_law 1979 = .ok (.ifCond .ne 15, 3) := dk_154 0 15 (dk_at dksL_law_79 12 rfl rfl)
theorem dL_law_1982 : decode cL_law 1982 = .ok (.aload_n 3, 1) := dk_45 (dk_at dksL_law_79 15 rfl rfl)
theorem dL_law_1983 : decode cL_law 1983 = .ok (.iconst 0, 1) := dk_3 (dk_at dksL_law_79 16 rfl rfl)
theorem dL_law_1984 : decode cL_law 1984 = .ok (.laload, 1) := dk_47 (dk_at dksL_law_79 17 rfl rfl)
theorem dL_law_1985 : decode cL_law 1985 = .ok (.iload 6, 2) := dk_21 6 (dk_at dksL_law_79 18 rfl rfl)
theorem dL_law_1987 : decode cL_law 1987 = .ok (.i2l, 1) := dk_133 (dk_at dksL_law_79 20 rfl rfl)
theorem dL_law_1988 : decode cL_law 1988 = .ok (.lcmp, 1) := dk_148 (dk_at dksL_law_79 21 rfl rfl)
theorem dL_law_1989 : decode cL_law 1989 = .ok (.ifCond .eq 5, 3) := dk_153 0 5 (dk_at dksL_law_80 0 rfl rfl)
theorem dL_law_1992 : decode cL_law 1992 = .ok (.iconst 0, 1) := dk_3 (dk_at dksL_law_80 3 rfl rfl)
theorem dL_law_1993 : decode cL_law 1993 = .ok (.ireturn, 1) := dk_172 (dk_at dksL_law_80 4 rfl rfl)
theorem dL_law_1994 : decode cL_law 1994 = .ok (.goto 222, 3) := dk_167 0 222 (dk_at dksL_law_80 5 rfl rfl)
theorem dL_law_1997 : decode cL_law 1997 = .ok (.aload_n 1, 1) := dk_43 (dk_at dksL_law_80 8 rfl rfl)
theorem dL_law_1998 : decode cL_law 1998 = .ok (.invokevirtual 212, 3) := dk_182 0 212 (dk_at dksL_law_80 9 rfl rfl)
theorem dL_law_2001 : decode cL_law 2001 = .ok (.aload_n 2, 1) := dk_44 (dk_at dksL_law_80 12 rfl rfl)
theorem dL_law_2002 : decode cL_law 2002 = .ok (.invokevirtual 215, 3) := dk_182 0 215 (dk_at dksL_law_80 13 rfl rfl)
theorem dL_law_2005 : decode cL_law 2005 = .ok (.goto 211, 3) := dk_167 0 211 (dk_at dksL_law_80 16 rfl rfl)
theorem dL_law_2008 : decode cL_law 2008 = .ok (.aload_n 1, 1) := dk_43 (dk_at dksL_law_80 19 rfl rfl)
theorem dL_law_2009 : decode cL_law 2009 = .ok (.aload_n 0, 1) := dk_42 (dk_at dksL_law_80 20 rfl rfl)
theorem dL_law_2010 : decode cL_law 2010 = .ok (.iload 4, 2) := dk_21 4 (dk_at dksL_law_80 21 rfl rfl)
theorem dL_law_2012 : decode cL_law 2012 = .ok (.iconst 1, 1) := dk_4 (dk_at dksL_law_80 23 rfl rfl)
theorem dL_law_2013 : decode cL_law 2013 = .ok (.iadd, 1) := dk_96 (dk_at dksL_law_81 0 rfl rfl)
theorem dL_law_2014 : decode cL_law 2014 = .ok (.iaload, 1) := dk_46 (dk_at dksL_law_81 1 rfl rfl)
theorem dL_law_2015 : decode cL_law 2015 = .ok (.aload_n 0, 1) := dk_42 (dk_at dksL_law_81 2 rfl rfl)
theorem dL_law_2016 : decode cL_law 2016 = .ok (.iload 4, 2) := dk_21 4 (dk_at dksL_law_81 3 rfl rfl)
theorem dL_law_2018 : decode cL_law 2018 = .ok (.iconst 2, 1) := dk_5 (dk_at dksL_law_81 5 rfl rfl)
theorem dL_law_2019 : decode cL_law 2019 = .ok (.iadd, 1) := dk_96 (dk_at dksL_law_81 6 rfl rfl)
theorem dL_law_2020 : decode cL_law 2020 = .ok (.iaload, 1) := dk_46 (dk_at dksL_law_81 7 rfl rfl)
theorem dL_law_2021 : decode cL_law 2021 = .ok (.aload_n 0, 1) := dk_42 (dk_at dksL_law_81 8 rfl rfl)
theorem dL_law_2022 : decode cL_law 2022 = .ok (.iload 4, 2) := dk_21 4 (dk_at dksL_law_81 9 rfl rfl)
theorem dL_law_2024 : decode cL_law 2024 = .ok (.iconst 3, 1) := dk_6 (dk_at dksL_law_81 11 rfl rfl)
theorem dL_law_2025 : decode cL_law 2025 = .ok (.iadd, 1) := dk_96 (dk_at dksL_law_81 12 rfl rfl)
theorem dL_law_2026 : decode cL_law 2026 = .ok (.iaload, 1) := dk_46 (dk_at dksL_law_81 13 rfl rfl)
theorem dL_law_2027 : decode cL_law 2027 = .ok (.aload_n 0, 1) := dk_42 (dk_at dksL_law_81 14 rfl rfl)
theorem dL_law_2028 : decode cL_law 2028 = .ok (.iload 4, 2) := dk_21 4 (dk_at dksL_law_81 15 rfl rfl)
theorem dL_law_2030 : decode cL_law 2030 = .ok (.iconst 4, 1) := dk_7 (dk_at dksL_law_81 17 rfl rfl)
theorem dL_law_2031 : decode cL_law 2031 = .ok (.iadd, 1) := dk_96 (dk_at dksL_law_81 18 rfl rfl)
theorem dL_law_2032 : decode cL_law 2032 = .ok (.iaload, 1) := dk_46 (dk_at dksL_law_81 19 rfl rfl)
theorem dL_law_2033 : decode cL_law 2033 = .ok (.aload_n 0, 1) := dk_42 (dk_at dksL_law_81 20 rfl rfl)
theorem dL_law_2034 : decode cL_law 2034 = .ok (.iload 4, 2) := dk_21 4 (dk_at dksL_law_81 21 rfl rfl)
theorem dL_law_2036 : decode cL_law 2036 = .ok (.iconst 5, 1) := dk_8 (dk_at dksL_law_81 23 rfl rfl)
theorem dL_law_2037 : decode cL_law 2037 = .ok (.iadd, 1) := dk_96 (dk_at dksL_law_82 0 rfl rfl)
theorem dL_law_2038 : decode cL_law 2038 = .ok (.iaload, 1) := dk_46 (dk_at dksL_law_82 1 rfl rfl)
theorem dL_law_2039 : decode cL_law 2039 = .ok (.aload_n 3, 1) := dk_45 (dk_at dksL_law_82 2 rfl rfl)
theorem dL_law_2040 : decode cL_law 2040 = .ok (.invokestatic 216, 3) := dk_184 0 216 (dk_at dksL_law_82 3 rfl rfl)
theorem dL_law_2043 : decode cL_law 2043 = .ok (.istore 5, 2) := dk_54 5 (dk_at dksL_law_82 6 rfl rfl)
theorem dL_law_2045 : decode cL_law 2045 = .ok (.aload_n 2, 1) := dk_44 (dk_at dksL_law_82 8 rfl rfl)
theorem dL_law_2046 : decode cL_law 2046 = .ok (.aload_n 0, 1) := dk_42 (dk_at dksL_law_82 9 rfl rfl)
theorem dL_law_2047 : decode cL_law 2047 = .ok (.iload 4, 2) := dk_21 4 (dk_at dksL_law_82 10 rfl rfl)
theorem dL_law_2049 : decode cL_law 2049 = .ok (.iconst 1, 1) := dk_4 (dk_at dksL_law_82 12 rfl rfl)
theorem dL_law_2050 : decode cL_law 2050 = .ok (.iadd, 1) := dk_96 (dk_at dksL_law_82 13 rfl rfl)
theorem dL_law_2051 : decode cL_law 2051 = .ok (.iaload, 1) := dk_46 (dk_at dksL_law_82 14 rfl rfl)
theorem dL_law_2052 : decode cL_law 2052 = .ok (.aload_n 0, 1) := dk_42 (dk_at dksL_law_82 15 rfl rfl)
theorem dL_law_2053 : decode cL_law 2053 = .ok (.iload 4, 2) := dk_21 4 (dk_at dksL_law_82 16 rfl rfl)
theorem dL_law_2055 : decode cL_law 2055 = .ok (.iconst 2, 1) := dk_5 (dk_at dksL_law_82 18 rfl rfl)
theorem dL_law_2056 : decode cL_law 2056 = .ok (.iadd, 1) := dk_96 (dk_at dksL_law_82 19 rfl rfl)
theorem dL_law_2057 : decode cL_law 2057 = .ok (.iaload, 1) := dk_46 (dk_at dksL_law_82 20 rfl rfl)
theorem dL_law_2058 : decode cL_law 2058 = .ok (.aload_n 0, 1) := dk_42 (dk_at dksL_law_82 21 rfl rfl)
theorem dL_law_2059 : decode cL_law 2059 = .ok (.iload 4, 2) := dk_21 4 (dk_at dksL_law_82 22 rfl rfl)
theorem dL_law_2061 : decode cL_law 2061 = .ok (.iconst 3, 1) := dk_6 (dk_at dksL_law_83 0 rfl rfl)
theorem dL_law_2062 : decode cL_law 2062 = .ok (.iadd, 1) := dk_96 (dk_at dksL_law_83 1 rfl rfl)
theorem dL_law_2063 : decode cL_law 2063 = .ok (.iaload, 1) := dk_46 (dk_at dksL_law_83 2 rfl rfl)
theorem dL_law_2064 : decode cL_law 2064 = .ok (.aload_n 0, 1) := dk_42 (dk_at dksL_law_83 3 rfl rfl)
theorem dL_law_2065 : decode cL_law 2065 = .ok (.iload 4, 2) := dk_21 4 (dk_at dksL_law_83 4 rfl rfl)
theorem dL_law_2067 : decode cL_law 2067 = .ok (.iconst 4, 1) := dk_7 (dk_at dksL_law_83 6 rfl rfl)
theorem dL_law_2068 : decode cL_law 2068 = .ok (.iadd, 1) := dk_96 (dk_at dksL_law_83 7 rfl rfl)
theorem dL_law_2069 : decode cL_law 2069 = .ok (.iaload, 1) := dk_46 (dk_at dksL_law_83 8 rfl rfl)
theorem dL_law_2070 : decode cL_law 2070 = .ok (.aload_n 0, 1) := dk_42 (dk_at dksL_law_83 9 rfl rfl)
theorem dL_law_2071 : decode cL_law 2071 = .ok (.iload 4, 2) := dk_21 4 (dk_at dksL_law_83 10 rfl rfl)
theorem dL_law_2073 : decode cL_law 2073 = .ok (.iconst 5, 1) := dk_8 (dk_at dksL_law_83 12 rfl rfl)
theorem dL_law_2074 : decode cL_law 2074 = .ok (.iadd, 1) := dk_96 (dk_at dksL_law_83 13 rfl rfl)
theorem dL_law_2075 : decode cL_law 2075 = .ok (.iaload, 1) := dk_46 (dk_at dksL_law_83 14 rfl rfl)
theorem dL_law_2076 : decode cL_law 2076 = .ok (.invokevirtual 219, 3) := dk_182 0 219 (dk_at dksL_law_83 15 rfl rfl)
theorem dL_law_2079 : decode cL_law 2079 = .ok (.istore 6, 2) := dk_54 6 (dk_at dksL_law_83 18 rfl rfl)
theorem dL_law_2081 : decode cL_law 2081 = .ok (.aload_n 2, 1) := dk_44 (dk_at dksL_law_83 20 rfl rfl)
theorem dL_law_2082 : decode cL_law 2082 = .ok (.invokevirtual 115, 3) := dk_182 0 115 (dk_at dksL_law_83 21 rfl rfl)
theorem dL_law_2085 : decode cL_law 2085 = .ok (.iload 5, 2) := dk_21 5 (dk_at dksL_law_84 0 rfl rfl)
theorem dL_law_2087 : decode cL_law 2087 = .ok (.if_icmp .eq 5, 3) := dk_159 0 5 (dk_at dksL_law_84 2 rfl rfl)
theorem dL_law_2090 : decode cL_law 2090 = .ok (.iconst 0, 1) := dk_3 (dk_at dksL_law_84 5 rfl rfl)
theorem dL_law_2091 : decode cL_law 2091 = .ok (.ireturn, 1) := dk_172 (dk_at dksL_law_84 6 rfl rfl)
theorem dL_law_2092 : decode cL_law 2092 = .ok (.iload 5, 2) := dk_21 5 (dk_at dksL_law_84 7 rfl rfl)
theorem dL_law_2094 : decode cL_law 2094 = .ok (.ifCond .ne 15, 3) := dk_154 0 15 (dk_at dksL_law_84 9 rfl rfl)
theorem dL_law_2097 : decode cL_law 2097 = .ok (.aload_n 3, 1) := dk_45 (dk_at dksL_law_84 12 rfl rfl)
theorem dL_law_2098 : decode cL_law 2098 = .ok (.iconst 0, 1) := dk_3 (dk_at dksL_law_84 13 rfl rfl)
theorem dL_law_2099 : decode cL_law 2099 = .ok (.laload, 1) := dk_47 (dk_at dksL_law_84 14 rfl rfl)
theorem dL_law_2100 : decode cL_law 2100 = .ok (.iload 6, 2) := dk_21 6 (dk_at dksL_law_84 15 rfl rfl)
theorem dL_law_2102 : decode cL_law 2102 = .ok (.i2l, 1) := dk_133 (dk_at dksL_law_84 17 rfl rfl)
theorem dL_law_2103 : decode cL_law 2103 = .ok (.lcmp, 1) := dk_148 (dk_at dksL_law_84 18 rfl rfl)
theorem dL_law_2104 : decode cL_law 2104 = .ok (.ifCond .eq 5, 3) := dk_153 0 5 (dk_at dksL_law_84 19 rfl rfl)
theorem dL_law_2107 : decode cL_law 2107 = .ok (.iconst 0, 1) := dk_3 (dk_at dksL_law_84 22 rfl rfl)
theorem dL_law_2108 : decode cL_law 2108 = .ok (.ireturn, 1) := dk_172 (dk_at dksL_law_84 23 rfl rfl)
theorem dL_law_2109 : decode cL_law 2109 = .ok (.goto 107, 3) := dk_167 0 107 (dk_at dksL_law_85 0 rfl rfl)
theorem dL_law_2112 : decode cL_law 2112 = .ok (.aload_n 1, 1) := dk_43 (dk_at dksL_law_85 3 rfl rfl)
theorem dL_law_2113 : decode cL_law 2113 = .ok (.aload_n 0, 1) := dk_42 (dk_at dksL_law_85 4 rfl rfl)
theorem dL_law_2114 : decode cL_law 2114 = .ok (.iload 4, 2) := dk_21 4 (dk_at dksL_law_85 5 rfl rfl)
theorem dL_law_2116 : decode cL_law 2116 = .ok (.iconst 1, 1) := dk_4 (dk_at dksL_law_85 7 rfl rfl)
theorem dL_law_2117 : decode cL_law 2117 = .ok (.iadd, 1) := dk_96 (dk_at dksL_law_85 8 rfl rfl)
theorem dL_law_2118 : decode cL_law 2118 = .ok (.iaload, 1) := dk_46 (dk_at dksL_law_85 9 rfl rfl)
theorem dL_law_2119 : decode cL_law 2119 = .ok (.aload_n 0, 1) := dk_42 (dk_at dksL_law_85 10 rfl rfl)
theorem dL_law_2120 : decode cL_law 2120 = .ok (.iload 4, 2) := dk_21 4 (dk_at dksL_law_85 11 rfl rfl)
theorem dL_law_2122 : decode cL_law 2122 = .ok (.iconst 2, 1) := dk_5 (dk_at dksL_law_85 13 rfl rfl)
theorem dL_law_2123 : decode cL_law 2123 = .ok (.iadd, 1) := dk_96 (dk_at dksL_law_85 14 rfl rfl)
theorem dL_law_2124 : decode cL_law 2124 = .ok (.iaload, 1) := dk_46 (dk_at dksL_law_85 15 rfl rfl)
theorem dL_law_2125 : decode cL_law 2125 = .ok (.aload_n 0, 1) := dk_42 (dk_at dksL_law_85 16 rfl rfl)
theorem dL_law_2126 : decode cL_law 2126 = .ok (.iload 4, 2) := dk_21 4 (dk_at dksL_law_85 17 rfl rfl)
theorem dL_law_2128 : decode cL_law 2128 = .ok (.iconst 3, 1) := dk_6 (dk_at dksL_law_85 19 rfl rfl)
theorem dL_law_2129 : decode cL_law 2129 = .ok (.iadd, 1) := dk_96 (dk_at dksL_law_85 20 rfl rfl)
theorem dL_law_2130 : decode cL_law 2130 = .ok (.iaload, 1) := dk_46 (dk_at dksL_law_85 21 rfl rfl)
theorem dL_law_2131 : decode cL_law 2131 = .ok (.aload_n 3, 1) := dk_45 (dk_at dksL_law_85 22 rfl rfl)
theorem dL_law_2132 : decode cL_law 2132 = .ok (.invokestatic 220, 3) := dk_184 0 220 (dk_at dksL_law_86 0 rfl rfl)
theorem dL_law_2135 : decode cL_law 2135 = .ok (.istore 5, 2) := dk_54 5 (dk_at dksL_law_86 3 rfl rfl)
theorem dL_law_2137 : decode cL_law 2137 = .ok (.aload_n 2, 1) := dk_44 (dk_at dksL_law_86 5 rfl rfl)
theorem dL_law_2138 : decode cL_law 2138 = .ok (.aload_n 0, 1) := dk_42 (dk_at dksL_law_86 6 rfl rfl)
theorem dL_law_2139 : decode cL_law 2139 = .ok (.iload 4, 2) := dk_21 4 (dk_at dksL_law_86 7 rfl rfl)
theorem dL_law_2141 : decode cL_law 2141 = .ok (.iconst 1, 1) := dk_4 (dk_at dksL_law_86 9 rfl rfl)
theorem dL_law_2142 : decode cL_law 2142 = .ok (.iadd, 1) := dk_96 (dk_at dksL_law_86 10 rfl rfl)
theorem dL_law_2143 : decode cL_law 2143 = .ok (.iaload, 1) := dk_46 (dk_at dksL_law_86 11 rfl rfl)
theorem dL_law_2144 : decode cL_law 2144 = .ok (.aload_n 0, 1) := dk_42 (dk_at dksL_law_86 12 rfl rfl)
theorem dL_law_2145 : decode cL_law 2145 = .ok (.iload 4, 2) := dk_21 4 (dk_at dksL_law_86 13 rfl rfl)
theorem dL_law_2147 : decode cL_law 2147 = .ok (.iconst 2, 1) := dk_5 (dk_at dksL_law_86 15 rfl rfl)
theorem dL_law_2148 : decode cL_law 2148 = .ok (.iadd, 1) := dk_96 (dk_at dksL_law_86 16 rfl rfl)
theorem dL_law_2149 : decode cL_law 2149 = .ok (.iaload, 1) := dk_46 (dk_at dksL_law_86 17 rfl rfl)
theorem dL_law_2150 : decode cL_law 2150 = .ok (.aload_n 0, 1) := dk_42 (dk_at dksL_law_86 18 rfl rfl)
theorem dL_law_2151 : decode cL_law 2151 = .ok (.iload 4, 2) := dk_21 4 (dk_at dksL_law_86 19 rfl rfl)
theorem dL_law_2153 : decode cL_law 2153 = .ok (.iconst 3, 1) := dk_6 (dk_at dksL_law_86 21 rfl rfl)
theorem dL_law_2154 : decode cL_law 2154 = .ok (.iadd, 1) := dk_96 (dk_at dksL_law_86 22 rfl rfl)
theorem dL_law_2155 : decode cL_law 2155 = .ok (.iaload, 1) := dk_46 (dk_at dksL_law_86 23 rfl rfl)
theorem dL_law_2156 : decode cL_law 2156 = .ok (.invokevirtual 222, 3) := dk_182 0 222 (dk_at dksL_law_87 0 rfl rfl)
theorem dL_law_2159 : decode cL_law 2159 = .ok (.istore 6, 2) := dk_54 6 (dk_at dksL_law_87 3 rfl rfl)
theorem dL_law_2161 : decode cL_law 2161 = .ok (.aload_n 2, 1) := dk_44 (dk_at dksL_law_87 5 rfl rfl)
theorem dL_law_2162 : decode cL_law 2162 = .ok (.invokevirtual 115, 3) := dk_182 0 115 (dk_at dksL_law_87 6 rfl rfl)
theorem dL_law_2165 : decode cL_law 2165 = .ok (.iload 5, 2) := dk_21 5 (dk_at dksL_law_87 9 rfl rfl)
theorem dL_law_2167 : decode cL_law 2167 = .ok (.if_icmp .eq 5, 3) := dk_159 0 5 (dk_at dksL_law_87 11 rfl rfl)
theorem dL_law_2170 : decode cL_law 2170 = .ok (.iconst 0, 1) := dk_3 (dk_at dksL_law_87 14 rfl rfl)
theorem dL_law_2171 : decode cL_law 2171 = .ok (.ireturn, 1) := dk_172 (dk_at dksL_law_87 15 rfl rfl)
theorem dL_law_2172 : decode cL_law 2172 = .ok (.iload 5, 2) := dk_21 5 (dk_at dksL_law_87 16 rfl rfl)
theorem dL_law_2174 : decode cL_law 2174 = .ok (.ifCond .ne 15, 3) := dk_154 0 15 (dk_at dksL_law_87 18 rfl rfl)
theorem dL_law_2177 : decode cL_law 2177 = .ok (.aload_n 3, 1) := dk_45 (dk_at dksL_law_87 21 rfl rfl)
theorem dL_law_2178 : decode cL_law 2178 = .ok (.iconst 0, 1) := dk_3 (dk_at dksL_law_87 22 rfl rfl)
theorem dL_law_2179 : decode cL_law 2179 = .ok (.laload, 1) := dk_47 (dk_at dksL_law_87 23 rfl rfl)
theorem dL_law_2180 : decode cL_law 2180 = .ok (.iload 6, 2) := dk_21 6 (dk_at dksL_law_88 0 rfl rfl)
theorem dL_law_2182 : decode cL_law 2182 = .ok (.i2l, 1) := dk_133 (dk_at dksL_law_88 2 rfl rfl)
theorem dL_law_2183 : decode cL_law 2183 = .ok (.lcmp, 1) := dk_148 (dk_at dksL_law_88 3 rfl rfl)
theorem dL_law_2184 : decode cL_law 2184 = .ok (.ifCond .eq 5, 3) := dk_153 0 5 (dk_at dksL_law_88 4 rfl rfl)
theorem dL_law_2187 : decode cL_law 2187 = .ok (.iconst 0, 1) := dk_3 (dk_at dksL_law_88 7 rfl rfl)
theorem dL_law_2188 : decode cL_law 2188 = .ok (.ireturn, 1) := dk_172 (dk_at dksL_law_88 8 rfl rfl)
theorem dL_law_2189 : decode cL_law 2189 = .ok (.goto 27, 3) := dk_167 0 27 (dk_at dksL_law_88 9 rfl rfl)
theorem dL_law_2192 : decode cL_law 2192 = .ok (.aload_n 1, 1) := dk_43 (dk_at dksL_law_88 12 rfl rfl)
theorem dL_law_2193 : decode cL_law 2193 = .ok (.invokevirtual 223, 3) := dk_182 0 223 (dk_at dksL_law_88 13 rfl rfl)
theorem dL_law_2196 : decode cL_law 2196 = .ok (.aload_n 2, 1) := dk_44 (dk_at dksL_law_88 16 rfl rfl)
theorem dL_law_2197 : decode cL_law 2197 = .ok (.invokevirtual 226, 3) := dk_182 0 226 (dk_at dksL_law_88 17 rfl rfl)
theorem dL_law_2200 : decode cL_law 2200 = .ok (.goto 16, 3) := dk_167 0 16 (dk_at dksL_law_88 20 rfl rfl)
theorem dL_law_2203 : decode cL_law 2203 = .ok (.aload_n 1, 1) := dk_43 (dk_at dksL_law_88 23 rfl rfl)
theorem dL_law_2204 : decode cL_law 2204 = .ok (.invokevirtual 227, 3) := dk_182 0 227 (dk_at dksL_law_89 0 rfl rfl)
theorem dL_law_2207 : decode cL_law 2207 = .ok (.aload_n 2, 1) := dk_44 (dk_at dksL_law_89 3 rfl rfl)
theorem dL_law_2208 : decode cL_law 2208 = .ok (.invokevirtual 231, 3) := dk_182 0 231 (dk_at dksL_law_89 4 rfl rfl)
theorem dL_law_2211 : decode cL_law 2211 = .ok (.if_icmp .eq 5, 3) := dk_159 0 5 (dk_at dksL_law_89 7 rfl rfl)
theorem dL_law_2214 : decode cL_law 2214 = .ok (.iconst 0, 1) := dk_3 (dk_at dksL_law_89 10 rfl rfl)
theorem dL_law_2215 : decode cL_law 2215 = .ok (.ireturn, 1) := dk_172 (dk_at dksL_law_89 11 rfl rfl)
theorem dL_law_2216 : decode cL_law 2216 = .ok (.iinc 4 6, 3) := dk_132 4 6 (dk_at dksL_law_89 12 rfl rfl)
theorem dL_law_2219 : decode cL_law 2219 = .ok (.goto (-2196), 3) := dk_167 247 108 (dk_at dksL_law_89 15 rfl rfl)
theorem dL_law_2222 : decode cL_law 2222 = .ok (.iconst 1, 1) := dk_4 (dk_at dksL_law_89 18 rfl rfl)
theorem dL_law_2223 : decode cL_law 2223 = .ok (.ireturn, 1) := dk_172 (dk_at dksL_law_89 19 rfl rfl)
