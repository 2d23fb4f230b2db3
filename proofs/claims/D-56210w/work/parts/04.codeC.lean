set_option maxRecDepth 100000
def dkwX1_init_2 : List UInt8 := [42, 187, 0, 65, 89, 183, 0, 67, 181, 0, 68, 177]
abbrev dktX1_init_2 : List UInt8 := dkwX1_init_2 ++ []
def dkwX1_init_1 : List UInt8 := [181, 0, 1, 42, 2, 181, 0, 39, 42, 2, 181, 0, 53, 42, 2, 181, 0, 56, 42, 18, 59, 181, 0, 61]
abbrev dktX1_init_1 : List UInt8 := dkwX1_init_1 ++ dktX1_init_2
def dkwX1_init_0 : List UInt8 := [42, 183, 0, 48, 42, 187, 0, 18, 89, 183, 0, 51, 181, 0, 7, 42, 187, 0, 12, 89, 183, 0, 52]
abbrev dktX1_init_0 : List UInt8 := dkwX1_init_0 ++ dktX1_init_1
theorem dksX1_init_0 : cX1_init.data.toList.drop 0 = dktX1_init_0 := by decide +kernel
theorem dksX1_init_1 : cX1_init.data.toList.drop 23 = dktX1_init_1 := dk_seg dksX1_init_0 23 rfl rfl
theorem dksX1_init_2 : cX1_init.data.toList.drop 47 = dktX1_init_2 := dk_seg dksX1_init_1 24 rfl rfl
theorem dX1_init_0 : decode cX1_init 0 = .ok (.aload_n 0, 1) := dk_42 (dk_at dksX1_init_0 0 rfl rfl)
theorem dX1_init_1 : decode cX1_init 1 = .ok (.invokespecial 48, 3) := dk_183 0 48 (dk_at dksX1_init_0 1 rfl rfl)
theorem dX1_init_4 : decode cX1_init 4 = .ok (.aload_n 0, 1) := dk_42 (dk_at dksX1_init_0 4 rfl rfl)
theorem dX1_init_5 : decode cX1_init 5 = .ok (.new 18, 3) := dk_187 0 18 (dk_at dksX1_init_0 5 rfl rfl)
theorem dX1_init_8 : decode cX1_init 8 = .ok (.dup, 1) := dk_89 (dk_at dksX1_init_0 8 rfl rfl)
theorem dX1_init_9 : decode cX1_init 9 = .ok (.invokespecial 51, 3) := dk_183 0 51 (dk_at dksX1_init_0 9 rfl rfl)
theorem dX1_init_12 : decode cX1_init 12 = .ok (.putfield 7, 3) := dk_181 0 7 (dk_at dksX1_init_0 12 rfl rfl)
theorem dX1_init_15 : decode cX1_init 15 = .ok (.aload_n 0, 1) := dk_42 (dk_at dksX1_init_0 15 rfl rfl)
theorem dX1_init_16 : decode cX1_init 16 = .ok (.new 12, 3) := dk_187 0 12 (dk_at dksX1_init_0 16 rfl rfl)
theorem dX1_init_19 : decode cX1_init 19 = .ok (.dup, 1) := dk_89 (dk_at dksX1_init_0 19 rfl rfl)
theorem dX1_init_20 : decode cX1_init 20 = .ok (.invokespecial 52, 3) := dk_183 0 52 (dk_at dksX1_init_0 20 rfl rfl)
theorem dX1_init_23 : decode cX1_init 23 = .ok (.putfield 1, 3) := dk_181 0 1 (dk_at dksX1_init_1 0 rfl rfl)
theorem dX1_init_26 : decode cX1_init 26 = .ok (.aload_n 0, 1) := dk_42 (dk_at dksX1_init_1 3 rfl rfl)
theorem dX1_init_27 : decode cX1_init 27 = .ok (.iconst (-1), 1) := dk_2 (dk_at dksX1_init_1 4 rfl rfl)
theorem dX1_init_28 : decode cX1_init 28 = .ok (.putfield 39, 3) := dk_181 0 39 (dk_at dksX1_init_1 5 rfl rfl)
theorem dX1_init_31 : decode cX1_init 31 = .ok (.aload_n 0, 1) := dk_42 (dk_at dksX1_init_1 8 rfl rfl)
theorem dX1_init_32 : decode cX1_init 32 = .ok (.iconst (-1), 1) := dk_2 (dk_at dksX1_init_1 9 rfl rfl)
theorem dX1_init_33 : decode cX1_init 33 = .ok (.putfield 53, 3) := dk_181 0 53 (dk_at dksX1_init_1 10 rfl rfl)
theorem dX1_init_36 : decode cX1_init 36 = .ok (.aload_n 0, 1) := dk_42 (dk_at dksX1_init_1 13 rfl rfl)
theorem dX1_init_37 : decode cX1_init 37 = .ok (.iconst (-1), 1) := dk_2 (dk_at dksX1_init_1 14 rfl rfl)
theorem dX1_init_38 : decode cX1_init 38 = .ok (.putfield 56, 3) := dk_181 0 56 (dk_at dksX1_init_1 15 rfl rfl)
theorem dX1_init_41 : decode cX1_init 41 = .ok (.aload_n 0, 1) := dk_42 (dk_at dksX1_init_1 18 rfl rfl)
theorem dX1_init_42 : decode cX1_init 42 = .ok (.ldc 59, 2) := dk_18 59 (dk_at dksX1_init_1 19 rfl rfl)
theorem dX1_init_44 : decode cX1_init 44 = .ok (.putfield 61, 3) := dk_181 0 61 (dk_at dksX1_init_1 21 rfl rfl)
theorem dX1_init_47 : decode cX1_init 47 = .ok (.aload_n 0, 1) := dk_42 (dk_at dksX1_init_2 0 rfl rfl)
theorem dX1_init_48 : decode cX1_init 48 = .ok (.new 65, 3) := dk_187 0 65 (dk_at dksX1_init_2 1 rfl rfl)
theorem dX1_init_51 : decode cX1_init 51 = .ok (.dup, 1) := dk_89 (dk_at dksX1_init_2 4 rfl rfl)
theorem dX1_init_52 : decode cX1_init 52 = .ok (.invokespecial 67, 3) := dk_183 0 67 (dk_at dksX1_init_2 5 rfl rfl)
theorem dX1_init_55 : decode cX1_init 55 = .ok (.putfield 68, 3) := dk_181 0 68 (dk_at dksX1_init_2 8 rfl rfl)
theorem dX1_init_58 : decode cX1_init 58 = .ok (.return_, 1) := dk_177 (dk_at dksX1_init_2 11 rfl rfl)
def dkwX1_hullCount_0 : List UInt8 := [42, 180, 0, 7, 180, 0, 79, 182, 0, 83, 172]
abbrev dktX1_hullCount_0 : List UInt8 := dkwX1_hullCount_0 ++ []
theorem dksX1_hullCount_0 : cX1_hullCount.data.toList.drop 0 = dktX1_hullCount_0 := by decide +kernel
theorem dX1_hullCount_0 : decode cX1_hullCount 0 = .ok (.aload_n 0, 1) := dk_42 (dk_at dksX1_hullCount_0 0 rfl rfl)
theorem dX1_hullCount_1 : decode cX1_hullCount 1 = .ok (.getfield 7, 3) := dk_180 0 7 (dk_at dksX1_hullCount_0 1 rfl rfl)
theorem dX1_hullCount_4 : decode cX1_hullCount 4 = .ok (.getfield 79, 3) := dk_180 0 79 (dk_at dksX1_hullCount_0 4 rfl rfl)
theorem dX1_hullCount_7 : decode cX1_hullCount 7 = .ok (.invokevirtual 83, 3) := dk_182 0 83 (dk_at dksX1_hullCount_0 7 rfl rfl)
theorem dX1_hullCount_10 : decode cX1_hullCount 10 = .ok (.ireturn, 1) := dk_172 (dk_at dksX1_hullCount_0 10 rfl rfl)
def dkwX1_hour_0 : List UInt8 := [42, 180, 0, 7, 180, 0, 181, 172]
abbrev dktX1_hour_0 : List UInt8 := dkwX1_hour_0 ++ []
theorem dksX1_hour_0 : cX1_hour.data.toList.drop 0 = dktX1_hour_0 := by decide +kernel
theorem dX1_hour_0 : decode cX1_hour 0 = .ok (.aload_n 0, 1) := dk_42 (dk_at dksX1_hour_0 0 rfl rfl)
theorem dX1_hour_1 : decode cX1_hour 1 = .ok (.getfield 7, 3) := dk_180 0 7 (dk_at dksX1_hour_0 1 rfl rfl)
theorem dX1_hour_4 : decode cX1_hour 4 = .ok (.getfield 181, 3) := dk_180 0 181 (dk_at dksX1_hour_0 4 rfl rfl)
theorem dX1_hour_7 : decode cX1_hour 7 = .ok (.ireturn, 1) := dk_172 (dk_at dksX1_hour_0 7 rfl rfl)
def dkwX1_mostOnSlips_0 : List UInt8 := [42, 180, 0, 7, 182, 0, 225, 172]
abbrev dktX1_mostOnSlips_0 : List UInt8 := dkwX1_mostOnSlips_0 ++ []
theorem dksX1_mostOnSlips_0 : cX1_mostOnSlips.data.toList.drop 0 = dktX1_mostOnSlips_0 := by decide +kernel
theorem dX1_mostOnSlips_0 : decode cX1_mostOnSlips 0 = .ok (.aload_n 0, 1) := dk_42 (dk_at dksX1_mostOnSlips_0 0 rfl rfl)
theorem dX1_mostOnSlips_1 : decode cX1_mostOnSlips 1 = .ok (.getfield 7, 3) := dk_180 0 7 (dk_at dksX1_mostOnSlips_0 1 rfl rfl)
theorem dX1_mostOnSlips_4 : decode cX1_mostOnSlips 4 = .ok (.invokevirtual 225, 3) := dk_182 0 225 (dk_at dksX1_mostOnSlips_0 4 rfl rfl)
theorem dX1_mostOnSlips_7 : decode cX1_mostOnSlips 7 = .ok (.ireturn, 1) := dk_172 (dk_at dksX1_mostOnSlips_0 7 rfl rfl)
def dkwX1_mostOnSlipsByLengths_0 : List UInt8 := [42, 180, 0, 7, 182, 0, 228, 172]
abbrev dktX1_mostOnSlipsByLengths_0 : List UInt8 := dkwX1_mostOnSlipsByLengths_0 ++ []
theorem dksX1_mostOnSlipsByLengths_0 : cX1_mostOnSlipsByLengths.data.toList.drop 0 = dktX1_mostOnSlipsByLengths_0 := by decide +kernel
theorem dX1_mostOnSlipsByLengths_0 : decode cX1_mostOnSlipsByLengths 0 = .ok (.aload_n 0, 1) := dk_42 (dk_at dksX1_mostOnSlipsByLengths_0 0 rfl rfl)
theorem dX1_mostOnSlipsByLengths_1 : decode cX1_mostOnSlipsByLengths 1 = .ok (.getfield 7, 3) := dk_180 0 7 (dk_at dksX1_mostOnSlipsByLengths_0 1 rfl rfl)
theorem dX1_mostOnSlipsByLengths_4 : decode cX1_mostOnSlipsByLengths 4 = .ok (.invokevirtual 228, 3) := dk_182 0 228 (dk_at dksX1_mostOnSlipsByLengths_0 4 rfl rfl)
theorem dX1_mostOnSlipsByLengths_7 : decode cX1_mostOnSlipsByLengths 7 = .ok (.ireturn, 1) := dk_172 (dk_at dksX1_mostOnSlipsByLengths_0 7 rfl rfl)
def dkwX1_bestUses_0 : List UInt8 := [42, 180, 0, 7, 3, 3, 42, 180, 0, 7, 182, 0, 225, 182, 0, 231, 172]
abbrev dktX1_bestUses_0 : List UInt8 := dkwX1_bestUses_0 ++ []
theorem dksX1_bestUses_0 : cX1_bestUses.data.toList.drop 0 = dktX1_bestUses_0 := by decide +kernel
theorem dX1_bestUses_0 : decode cX1_bestUses 0 = .ok (.aload_n 0, 1) := dk_42 (dk_at dksX1_bestUses_0 0 rfl rfl)
theorem dX1_bestUses_1 : decode cX1_bestUses 1 = .ok (.getfield 7, 3) := dk_180 0 7 (dk_at dksX1_bestUses_0 1 rfl rfl)
theorem dX1_bestUses_4 : decode cX1_bestUses 4 = .ok (.iconst 0, 1) := dk_3 (dk_at dksX1_bestUses_0 4 rfl rfl)
theorem dX1_bestUses_5 : decode cX1_bestUses 5 = .ok (.iconst 0, 1) := dk_3 (dk_at dksX1_bestUses_0 5 rfl rfl)
theorem dX1_bestUses_6 : decode cX1_bestUses 6 = .ok (.aload_n 0, 1) := dk_42 (dk_at dksX1_bestUses_0 6 rfl rfl)
theorem dX1_bestUses_7 : decode cX1_bestUses 7 = .ok (.getfield 7, 3) := dk_180 0 7 (dk_at dksX1_bestUses_0 7 rfl rfl)
theorem dX1_bestUses_10 : decode cX1_bestUses 10 = .ok (.invokevirtual 225, 3) := dk_182 0 225 (dk_at dksX1_bestUses_0 10 rfl rfl)
theorem dX1_bestUses_13 : decode cX1_bestUses 13 = .ok (.invokevirtual 231, 3) := dk_182 0 231 (dk_at dksX1_bestUses_0 13 rfl rfl)
theorem dX1_bestUses_16 : decode cX1_bestUses 16 = .ok (.ireturn, 1) := dk_172 (dk_at dksX1_bestUses_0 16 rfl rfl)
def dkwX1_orderCount_0 : List UInt8 := [42, 180, 0, 7, 180, 0, 235, 182, 0, 83, 172]
abbrev dktX1_orderCount_0 : List UInt8 := dkwX1_orderCount_0 ++ []
theorem dksX1_orderCount_0 : cX1_orderCount.data.toList.drop 0 = dktX1_orderCount_0 := by decide +kernel
theorem dX1_orderCount_0 : decode cX1_orderCount 0 = .ok (.aload_n 0, 1) := dk_42 (dk_at dksX1_orderCount_0 0 rfl rfl)
theorem dX1_orderCount_1 : decode cX1_orderCount 1 = .ok (.getfield 7, 3) := dk_180 0 7 (dk_at dksX1_orderCount_0 1 rfl rfl)
theorem dX1_orderCount_4 : decode cX1_orderCount 4 = .ok (.getfield 235, 3) := dk_180 0 235 (dk_at dksX1_orderCount_0 4 rfl rfl)
theorem dX1_orderCount_7 : decode cX1_orderCount 7 = .ok (.invokevirtual 83, 3) := dk_182 0 83 (dk_at dksX1_orderCount_0 7 rfl rfl)
theorem dX1_orderCount_10 : decode cX1_orderCount 10 = .ok (.ireturn, 1) := dk_172 (dk_at dksX1_orderCount_0 10 rfl rfl)
def dkwX1_bestDelivery_0 : List UInt8 := [42, 180, 0, 7, 182, 0, 250, 172]
abbrev dktX1_bestDelivery_0 : List UInt8 := dkwX1_bestDelivery_0 ++ []
theorem dksX1_bestDelivery_0 : cX1_bestDelivery.data.toList.drop 0 = dktX1_bestDelivery_0 := by decide +kernel
theorem dX1_bestDelivery_0 : decode cX1_bestDelivery 0 = .ok (.aload_n 0, 1) := dk_42 (dk_at dksX1_bestDelivery_0 0 rfl rfl)
theorem dX1_bestDelivery_1 : decode cX1_bestDelivery 1 = .ok (.getfield 7, 3) := dk_180 0 7 (dk_at dksX1_bestDelivery_0 1 rfl rfl)
theorem dX1_bestDelivery_4 : decode cX1_bestDelivery 4 = .ok (.invokevirtual 250, 3) := dk_182 0 250 (dk_at dksX1_bestDelivery_0 4 rfl rfl)
theorem dX1_bestDelivery_7 : decode cX1_bestDelivery 7 = .ok (.ireturn, 1) := dk_172 (dk_at dksX1_bestDelivery_0 7 rfl rfl)
def dkwX1_paidCoins_0 : List UInt8 := [42, 180, 0, 7, 180, 0, 253, 173]
abbrev dktX1_paidCoins_0 : List UInt8 := dkwX1_paidCoins_0 ++ []
theorem dksX1_paidCoins_0 : cX1_paidCoins.data.toList.drop 0 = dktX1_paidCoins_0 := by decide +kernel
theorem dX1_paidCoins_0 : decode cX1_paidCoins 0 = .ok (.aload_n 0, 1) := dk_42 (dk_at dksX1_paidCoins_0 0 rfl rfl)
theorem dX1_paidCoins_1 : decode cX1_paidCoins 1 = .ok (.getfield 7, 3) := dk_180 0 7 (dk_at dksX1_paidCoins_0 1 rfl rfl)
theorem dX1_paidCoins_4 : decode cX1_paidCoins 4 = .ok (.getfield 253, 3) := dk_180 0 253 (dk_at dksX1_paidCoins_0 4 rfl rfl)
theorem dX1_paidCoins_7 : decode cX1_paidCoins 7 = .ok (.lreturn, 1) := dk_173 (dk_at dksX1_paidCoins_0 7 rfl rfl)
def dkwX1_save_0 : List UInt8 := [42, 42, 180, 0, 7, 182, 0, 17, 181, 1, 65, 42, 180, 0, 7, 180, 0, 181, 172]
abbrev dktX1_save_0 : List UInt8 := dkwX1_save_0 ++ []
theorem dksX1_save_0 : cX1_save.data.toList.drop 0 = dktX1_save_0 := by decide +kernel
theorem dX1_save_0 : decode cX1_save 0 = .ok (.aload_n 0, 1) := dk_42 (dk_at dksX1_save_0 0 rfl rfl)
theorem dX1_save_1 : decode cX1_save 1 = .ok (.aload_n 0, 1) := dk_42 (dk_at dksX1_save_0 1 rfl rfl)
theorem dX1_save_2 : decode cX1_save 2 = .ok (.getfield 7, 3) := dk_180 0 7 (dk_at dksX1_save_0 2 rfl rfl)
theorem dX1_save_5 : decode cX1_save 5 = .ok (.invokevirtual 17, 3) := dk_182 0 17 (dk_at dksX1_save_0 5 rfl rfl)
theorem dX1_save_8 : decode cX1_save 8 = .ok (.putfield 321, 3) := dk_181 1 65 (dk_at dksX1_save_0 8 rfl rfl)
theorem dX1_save_11 : decode cX1_save 11 = .ok (.aload_n 0, 1) := dk_42 (dk_at dksX1_save_0 11 rfl rfl)
theorem dX1_save_12 : decode cX1_save 12 = .ok (.getfield 7, 3) := dk_180 0 7 (dk_at dksX1_save_0 12 rfl rfl)
theorem dX1_save_15 : decode cX1_save 15 = .ok (.getfield 181, 3) := dk_180 0 181 (dk_at dksX1_save_0 15 rfl rfl)
theorem dX1_save_18 : decode cX1_save 18 = .ok (.ireturn, 1) := dk_172 (dk_at dksX1_save_0 18 rfl rfl)
def dkwX1_beginHull_0 : List UInt8 := [42, 187, 0, 24, 89, 16, 98, 3, 188, 10, 183, 0, 72, 182, 0, 75, 172]
abbrev dktX1_beginHull_0 : List UInt8 := dkwX1_beginHull_0 ++ []
theorem dksX1_beginHull_0 : cX1_beginHull.data.toList.drop 0 = dktX1_beginHull_0 := by decide +kernel
theorem dX1_beginHull_0 : decode cX1_beginHull 0 = .ok (.aload_n 0, 1) := dk_42 (dk_at dksX1_beginHull_0 0 rfl rfl)
theorem dX1_beginHull_1 : decode cX1_beginHull 1 = .ok (.new 24, 3) := dk_187 0 24 (dk_at dksX1_beginHull_0 1 rfl rfl)
theorem dX1_beginHull_4 : decode cX1_beginHull 4 = .ok (.dup, 1) := dk_89 (dk_at dksX1_beginHull_0 4 rfl rfl)
theorem dX1_beginHull_5 : decode cX1_beginHull 5 = .ok (.bipush 98, 2) := dk_16 98 (dk_at dksX1_beginHull_0 5 rfl rfl)
theorem dX1_beginHull_7 : decode cX1_beginHull 7 = .ok (.iconst 0, 1) := dk_3 (dk_at dksX1_beginHull_0 7 rfl rfl)
theorem dX1_beginHull_8 : decode cX1_beginHull 8 = .ok (.newarray .int, 2) := dk_188_10 (dk_at dksX1_beginHull_0 8 rfl rfl)
theorem dX1_beginHull_10 : decode cX1_beginHull 10 = .ok (.invokespecial 72, 3) := dk_183 0 72 (dk_at dksX1_beginHull_0 10 rfl rfl)
theorem dX1_beginHull_13 : decode cX1_beginHull 13 = .ok (.invokevirtual 75, 3) := dk_182 0 75 (dk_at dksX1_beginHull_0 13 rfl rfl)
theorem dX1_beginHull_16 : decode cX1_beginHull 16 = .ok (.ireturn, 1) := dk_172 (dk_at dksX1_beginHull_0 16 rfl rfl)
def dkwX1_modify_1 : List UInt8 := [180, 0, 35, 181, 0, 39, 187, 0, 42, 89, 183, 0, 44, 191]
abbrev dktX1_modify_1 : List UInt8 := dkwX1_modify_1 ++ []
def dkwX1_modify_0 : List UInt8 := [42, 180, 0, 7, 182, 0, 17, 77, 42, 44, 43, 44, 182, 0, 23, 182, 0, 29, 172, 78, 42, 45]
abbrev dktX1_modify_0 : List UInt8 := dkwX1_modify_0 ++ dktX1_modify_1
theorem dksX1_modify_0 : cX1_modify.data.toList.drop 0 = dktX1_modify_0 := by decide +kernel
theorem dksX1_modify_1 : cX1_modify.data.toList.drop 22 = dktX1_modify_1 := dk_seg dksX1_modify_0 22 rfl rfl
theorem dX1_modify_0 : decode cX1_modify 0 = .ok (.aload_n 0, 1) := dk_42 (dk_at dksX1_modify_0 0 rfl rfl)
theorem dX1_modify_1 : decode cX1_modify 1 = .ok (.getfield 7, 3) := dk_180 0 7 (dk_at dksX1_modify_0 1 rfl rfl)
theorem dX1_modify_4 : decode cX1_modify 4 = .ok (.invokevirtual 17, 3) := dk_182 0 17 (dk_at dksX1_modify_0 4 rfl rfl)
theorem dX1_modify_7 : decode cX1_modify 7 = .ok (.astore_n 2, 1) := dk_77 (dk_at dksX1_modify_0 7 rfl rfl)
theorem dX1_modify_8 : decode cX1_modify 8 = .ok (.aload_n 0, 1) := dk_42 (dk_at dksX1_modify_0 8 rfl rfl)
theorem dX1_modify_9 : decode cX1_modify 9 = .ok (.aload_n 2, 1) := dk_44 (dk_at dksX1_modify_0 9 rfl rfl)
theorem dX1_modify_10 : decode cX1_modify 10 = .ok (.aload_n 1, 1) := dk_43 (dk_at dksX1_modify_0 10 rfl rfl)
theorem dX1_modify_11 : decode cX1_modify 11 = .ok (.aload_n 2, 1) := dk_44 (dk_at dksX1_modify_0 11 rfl rfl)
theorem dX1_modify_12 : decode cX1_modify 12 = .ok (.invokevirtual 23, 3) := dk_182 0 23 (dk_at dksX1_modify_0 12 rfl rfl)
theorem dX1_modify_15 : decode cX1_modify 15 = .ok (.invokevirtual 29, 3) := dk_182 0 29 (dk_at dksX1_modify_0 15 rfl rfl)
theorem dX1_modify_18 : decode cX1_modify 18 = .ok (.ireturn, 1) := dk_172 (dk_at dksX1_modify_0 18 rfl rfl)
theorem dX1_modify_19 : decode cX1_modify 19 = .ok (.astore_n 3, 1) := dk_78 (dk_at dksX1_modify_0 19 rfl rfl)
theorem dX1_modify_20 : decode cX1_modify 20 = .ok (.aload_n 0, 1) := dk_42 (dk_at dksX1_modify_0 20 rfl rfl)
theorem dX1_modify_21 : decode cX1_modify 21 = .ok (.aload_n 3, 1) := dk_45 (dk_at dksX1_modify_0 21 rfl rfl)
theorem dX1_modify_22 : decode cX1_modify 22 = .ok (.getfield 35, 3) := dk_180 0 35 (dk_at dksX1_modify_1 0 rfl rfl)
theorem dX1_modify_25 : decode cX1_modify 25 = .ok (.putfield 39, 3) := dk_181 0 39 (dk_at dksX1_modify_1 3 rfl rfl)
theorem dX1_modify_28 : decode cX1_modify 28 = .ok (.new 42, 3) := dk_187 0 42 (dk_at dksX1_modify_1 6 rfl rfl)
theorem dX1_modify_31 : decode cX1_modify 31 = .ok (.dup, 1) := dk_89 (dk_at dksX1_modify_1 9 rfl rfl)
theorem dX1_modify_32 : decode cX1_modify 32 = .ok (.invokespecial 44, 3) := dk_183 0 44 (dk_at dksX1_modify_1 10 rfl rfl)
theorem dX1_modify_35 : decode cX1_modify 35 = .ok (.athrow, 1) := dk_191 (dk_at dksX1_modify_1 13 rfl rfl)
def dkwX1_sum_1 : List UInt8 := [21, 5, 96, 60, 132, 4, 1, 167, 255, 236, 27, 172]
abbrev dktX1_sum_1 : List UInt8 := dkwX1_sum_1 ++ []
def dkwX1_sum_0 : List UInt8 := [3, 60, 42, 77, 44, 190, 62, 3, 54, 4, 21, 4, 29, 162, 0, 20, 44, 21, 4, 46, 54, 5, 27]
abbrev dktX1_sum_0 : List UInt8 := dkwX1_sum_0 ++ dktX1_sum_1
theorem dksX1_sum_0 : cX1_sum.data.toList.drop 0 = dktX1_sum_0 := by decide +kernel
theorem dksX1_sum_1 : cX1_sum.data.toList.drop 23 = dktX1_sum_1 := dk_seg dksX1_sum_0 23 rfl rfl
theorem dX1_sum_0 : decode cX1_sum 0 = .ok (.iconst 0, 1) := dk_3 (dk_at dksX1_sum_0 0 rfl rfl)
theorem dX1_sum_1 : decode cX1_sum 1 = .ok (.istore_n 1, 1) := dk_60 (dk_at dksX1_sum_0 1 rfl rfl)
theorem dX1_sum_2 : decode cX1_sum 2 = .ok (.aload_n 0, 1) := dk_42 (dk_at dksX1_sum_0 2 rfl rfl)
theorem dX1_sum_3 : decode cX1_sum 3 = .ok (.astore_n 2, 1) := dk_77 (dk_at dksX1_sum_0 3 rfl rfl)
theorem dX1_sum_4 : decode cX1_sum 4 = .ok (.aload_n 2, 1) := dk_44 (dk_at dksX1_sum_0 4 rfl rfl)
theorem dX1_sum_5 : decode cX1_sum 5 = .ok (.arraylength, 1) := dk_190 (dk_at dksX1_sum_0 5 rfl rfl)
theorem dX1_sum_6 : decode cX1_sum 6 = .ok (.istore_n 3, 1) := dk_62 (dk_at dksX1_sum_0 6 rfl rfl)
theorem dX1_sum_7 : decode cX1_sum 7 = .ok (.iconst 0, 1) := dk_3 (dk_at dksX1_sum_0 7 rfl rfl)
theorem dX1_sum_8 : decode cX1_sum 8 = .ok (.istore 4, 2) := dk_54 4 (dk_at dksX1_sum_0 8 rfl rfl)
theorem dX1_sum_10 : decode cX1_sum 10 = .ok (.iload 4, 2) := dk_21 4 (dk_at dksX1_sum_0 10 rfl rfl)
theorem dX1_sum_12 : decode cX1_sum 12 = .ok (.iload_n 3, 1) := dk_29 (dk_at dksX1_sum_0 12 rfl rfl)
theorem dX1_sum_13 : decode cX1_sum 13 = .ok (.if_icmp .ge 20, 3) := dk_162 0 20 (dk_at dksX1_sum_0 13 rfl rfl)
theorem dX1_sum_16 : decode cX1_sum 16 = .ok (.aload_n 2, 1) := dk_44 (dk_at dksX1_sum_0 16 rfl rfl)
theorem dX1_sum_17 : decode cX1_sum 17 = .ok (.iload 4, 2) := dk_21 4 (dk_at dksX1_sum_0 17 rfl rfl)
theorem dX1_sum_19 : decode cX1_sum 19 = .ok (.iaload, 1) := dk_46 (dk_at dksX1_sum_0 19 rfl rfl)
theorem dX1_sum_20 : decode cX1_sum 20 = .ok (.istore 5, 2) := dk_54 5 (dk_at dksX1_sum_0 20 rfl rfl)
theorem dX1_sum_22 : decode cX1_sum 22 = .ok (.iload_n 1, 1) := dk_27 (dk_at dksX1_sum_0 22 rfl rfl)
theorem dX1_sum_23 : decode cX1_sum 23 = .ok (.iload 5, 2) := dk_21 5 (dk_at dksX1_sum_1 0 rfl rfl)
theorem dX1_sum_25 : decode cX1_sum 25 = .ok (.iadd, 1) := dk_96 (dk_at dksX1_sum_1 2 rfl rfl)
theorem dX1_sum_26 : decode cX1_sum 26 = .ok (.istore_n 1, 1) := dk_60 (dk_at dksX1_sum_1 3 rfl rfl)
theorem dX1_sum_27 : decode cX1_sum 27 = .ok (.iinc 4 1, 3) := dk_132 4 1 (dk_at dksX1_sum_1 4 rfl rfl)
theorem dX1_sum_30 : decode cX1_sum 30 = .ok (.goto (-20), 3) := dk_167 255 236 (dk_at dksX1_sum_1 7 rfl rfl)
theorem dX1_sum_33 : decode cX1_sum 33 = .ok (.iload_n 1, 1) := dk_27 (dk_at dksX1_sum_1 10 rfl rfl)
theorem dX1_sum_34 : decode cX1_sum 34 = .ok (.ireturn, 1) := dk_172 (dk_at dksX1_sum_1 11 rfl rfl)
def dkwX1_commit_0 : List UInt8 := [42, 180, 0, 1, 42, 180, 0, 7, 182, 0, 11, 42, 43, 181, 0, 7, 28, 172]
abbrev dktX1_commit_0 : List UInt8 := dkwX1_commit_0 ++ []
theorem dksX1_commit_0 : cX1_commit.data.toList.drop 0 = dktX1_commit_0 := by decide +kernel
theorem dX1_commit_0 : decode cX1_commit 0 = .ok (.aload_n 0, 1) := dk_42 (dk_at dksX1_commit_0 0 rfl rfl)
theorem dX1_commit_1 : decode cX1_commit 1 = .ok (.getfield 1, 3) := dk_180 0 1 (dk_at dksX1_commit_0 1 rfl rfl)
theorem dX1_commit_4 : decode cX1_commit 4 = .ok (.aload_n 0, 1) := dk_42 (dk_at dksX1_commit_0 4 rfl rfl)
theorem dX1_commit_5 : decode cX1_commit 5 = .ok (.getfield 7, 3) := dk_180 0 7 (dk_at dksX1_commit_0 5 rfl rfl)
theorem dX1_commit_8 : decode cX1_commit 8 = .ok (.invokevirtual 11, 3) := dk_182 0 11 (dk_at dksX1_commit_0 8 rfl rfl)
theorem dX1_commit_11 : decode cX1_commit 11 = .ok (.aload_n 0, 1) := dk_42 (dk_at dksX1_commit_0 11 rfl rfl)
theorem dX1_commit_12 : decode cX1_commit 12 = .ok (.aload_n 1, 1) := dk_43 (dk_at dksX1_commit_0 12 rfl rfl)
theorem dX1_commit_13 : decode cX1_commit 13 = .ok (.putfield 7, 3) := dk_181 0 7 (dk_at dksX1_commit_0 13 rfl rfl)
theorem dX1_commit_16 : decode cX1_commit 16 = .ok (.iload_n 2, 1) := dk_28 (dk_at dksX1_commit_0 16 rfl rfl)
theorem dX1_commit_17 : decode cX1_commit 17 = .ok (.ireturn, 1) := dk_172 (dk_at dksX1_commit_0 17 rfl rfl)
def dkwX1_addFrame_1 : List UInt8 := [183, 0, 72, 182, 0, 75, 172]
abbrev dktX1_addFrame_1 : List UInt8 := dkwX1_addFrame_1 ++ []
def dkwX1_addFrame_0 : List UInt8 := [42, 187, 0, 24, 89, 16, 102, 6, 188, 10, 89, 3, 27, 79, 89, 4, 28, 79, 89, 5, 29, 79]
abbrev dktX1_addFrame_0 : List UInt8 := dkwX1_addFrame_0 ++ dktX1_addFrame_1
theorem dksX1_addFrame_0 : cX1_addFrame.data.toList.drop 0 = dktX1_addFrame_0 := by decide +kernel
theorem dksX1_addFrame_1 : cX1_addFrame.data.toList.drop 22 = dktX1_addFrame_1 := dk_seg dksX1_addFrame_0 22 rfl rfl
theorem dX1_addFrame_0 : decode cX1_addFrame 0 = .ok (.aload_n 0, 1) := dk_42 (dk_at dksX1_addFrame_0 0 rfl rfl)
theorem dX1_addFrame_1 : decode cX1_addFrame 1 = .ok (.new 24, 3) := dk_187 0 24 (dk_at dksX1_addFrame_0 1 rfl rfl)
theorem dX1_addFrame_4 : decode cX1_addFrame 4 = .ok (.dup, 1) := dk_89 (dk_at dksX1_addFrame_0 4 rfl rfl)
theorem dX1_addFrame_5 : decode cX1_addFrame 5 = .ok (.bipush 102, 2) := dk_16 102 (dk_at dksX1_addFrame_0 5 rfl rfl)
theorem dX1_addFrame_7 : decode cX1_addFrame 7 = .ok (.iconst 3, 1) := dk_6 (dk_at dksX1_addFrame_0 7 rfl rfl)
theorem dX1_addFrame_8 : decode cX1_addFrame 8 = .ok (.newarray .int, 2) := dk_188_10 (dk_at dksX1_addFrame_0 8 rfl rfl)
theorem dX1_addFrame_10 : decode cX1_addFrame 10 = .ok (.dup, 1) := dk_89 (dk_at dksX1_addFrame_0 10 rfl rfl)
theorem dX1_addFrame_11 : decode cX1_addFrame 11 = .ok (.iconst 0, 1) := dk_3 (dk_at dksX1_addFrame_0 11 rfl rfl)
theorem dX1_addFrame_12 : decode cX1_addFrame 12 = .ok (.iload_n 1, 1) := dk_27 (dk_at dksX1_addFrame_0 12 rfl rfl)
theorem dX1_addFrame_13 : decode cX1_addFrame 13 = .ok (.iastore, 1) := dk_79 (dk_at dksX1_addFrame_0 13 rfl rfl)
theorem dX1_addFrame_14 : decode cX1_addFrame 14 = .ok (.dup, 1) := dk_89 (dk_at dksX1_addFrame_0 14 rfl rfl)
theorem dX1_addFrame_15 : decode cX1_addFrame 15 = .ok (.iconst 1, 1) := dk_4 (dk_at dksX1_addFrame_0 15 rfl rfl)
theorem dX1_addFrame_16 : decode cX1_addFrame 16 = .ok (.iload_n 2, 1) := dk_28 (dk_at dksX1_addFrame_0 16 rfl rfl)
theorem dX1_addFrame_17 : decode cX1_addFrame 17 = .ok (.iastore, 1) := dk_79 (dk_at dksX1_addFrame_0 17 rfl rfl)
theorem dX1_addFrame_18 : decode cX1_addFrame 18 = .ok (.dup, 1) := dk_89 (dk_at dksX1_addFrame_0 18 rfl rfl)
theorem dX1_addFrame_19 : decode cX1_addFrame 19 = .ok (.iconst 2, 1) := dk_5 (dk_at dksX1_addFrame_0 19 rfl rfl)
theorem dX1_addFrame_20 : decode cX1_addFrame 20 = .ok (.iload_n 3, 1) := dk_29 (dk_at dksX1_addFrame_0 20 rfl rfl)
theorem dX1_addFrame_21 : decode cX1_addFrame 21 = .ok (.iastore, 1) := dk_79 (dk_at dksX1_addFrame_0 21 rfl rfl)
theorem dX1_addFrame_22 : decode cX1_addFrame 22 = .ok (.invokespecial 72, 3) := dk_183 0 72 (dk_at dksX1_addFrame_1 0 rfl rfl)
theorem dX1_addFrame_25 : decode cX1_addFrame 25 = .ok (.invokevirtual 75, 3) := dk_182 0 75 (dk_at dksX1_addFrame_1 3 rfl rfl)
theorem dX1_addFrame_28 : decode cX1_addFrame 28 = .ok (.ireturn, 1) := dk_172 (dk_at dksX1_addFrame_1 6 rfl rfl)
def dkwX1_mirror_0 : List UInt8 := [42, 187, 0, 24, 89, 16, 109, 4, 188, 10, 89, 3, 27, 79, 183, 0, 72, 182, 0, 75, 172]
abbrev dktX1_mirror_0 : List UInt8 := dkwX1_mirror_0 ++ []
theorem dksX1_mirror_0 : cX1_mirror.data.toList.drop 0 = dktX1_mirror_0 := by decide +kernel
theorem dX1_mirror_0 : decode cX1_mirror 0 = .ok (.aload_n 0, 1) := dk_42 (dk_at dksX1_mirror_0 0 rfl rfl)
theorem dX1_mirror_1 : decode cX1_mirror 1 = .ok (.new 24, 3) := dk_187 0 24 (dk_at dksX1_mirror_0 1 rfl rfl)
theorem dX1_mirror_4 : decode cX1_mirror 4 = .ok (.dup, 1) := dk_89 (dk_at dksX1_mirror_0 4 rfl rfl)
theorem dX1_mirror_5 : decode cX1_mirror 5 = .ok (.bipush 109, 2) := dk_16 109 (dk_at dksX1_mirror_0 5 rfl rfl)
theorem dX1_mirror_7 : decode cX1_mirror 7 = .ok (.iconst 1, 1) := dk_4 (dk_at dksX1_mirror_0 7 rfl rfl)
theorem dX1_mirror_8 : decode cX1_mirror 8 = .ok (.newarray .int, 2) := dk_188_10 (dk_at dksX1_mirror_0 8 rfl rfl)
theorem dX1_mirror_10 : decode cX1_mirror 10 = .ok (.dup, 1) := dk_89 (dk_at dksX1_mirror_0 10 rfl rfl)
theorem dX1_mirror_11 : decode cX1_mirror 11 = .ok (.iconst 0, 1) := dk_3 (dk_at dksX1_mirror_0 11 rfl rfl)
theorem dX1_mirror_12 : decode cX1_mirror 12 = .ok (.iload_n 1, 1) := dk_27 (dk_at dksX1_mirror_0 12 rfl rfl)
theorem dX1_mirror_13 : decode cX1_mirror 13 = .ok (.iastore, 1) := dk_79 (dk_at dksX1_mirror_0 13 rfl rfl)
theorem dX1_mirror_14 : decode cX1_mirror 14 = .ok (.invokespecial 72, 3) := dk_183 0 72 (dk_at dksX1_mirror_0 14 rfl rfl)
theorem dX1_mirror_17 : decode cX1_mirror 17 = .ok (.invokevirtual 75, 3) := dk_182 0 75 (dk_at dksX1_mirror_0 17 rfl rfl)
theorem dX1_mirror_20 : decode cX1_mirror 20 = .ok (.ireturn, 1) := dk_172 (dk_at dksX1_mirror_0 20 rfl rfl)
def dkwX1_setCargo_1 : List UInt8 := [172]
abbrev dktX1_setCargo_1 : List UInt8 := dkwX1_setCargo_1 ++ []
def dkwX1_setCargo_0 : List UInt8 := [42, 187, 0, 24, 89, 16, 103, 5, 188, 10, 89, 3, 27, 79, 89, 4, 28, 79, 183, 0, 72, 182, 0, 75]
abbrev dktX1_setCargo_0 : List UInt8 := dkwX1_setCargo_0 ++ dktX1_setCargo_1
theorem dksX1_setCargo_0 : cX1_setCargo.data.toList.drop 0 = dktX1_setCargo_0 := by decide +kernel
theorem dksX1_setCargo_1 : cX1_setCargo.data.toList.drop 24 = dktX1_setCargo_1 := dk_seg dksX1_setCargo_0 24 rfl rfl
theorem dX1_setCargo_0 : decode cX1_setCargo 0 = .ok (.aload_n 0, 1) := dk_42 (dk_at dksX1_setCargo_0 0 rfl rfl)
theorem dX1_setCargo_1 : decode cX1_setCargo 1 = .ok (.new 24, 3) := dk_187 0 24 (dk_at dksX1_setCargo_0 1 rfl rfl)
theorem dX1_setCargo_4 : decode cX1_setCargo 4 = .ok (.dup, 1) := dk_89 (dk_at dksX1_setCargo_0 4 rfl rfl)
theorem dX1_setCargo_5 : decode cX1_setCargo 5 = .ok (.bipush 103, 2) := dk_16 103 (dk_at dksX1_setCargo_0 5 rfl rfl)
theorem dX1_setCargo_7 : decode cX1_setCargo 7 = .ok (.iconst 2, 1) := dk_5 (dk_at dksX1_setCargo_0 7 rfl rfl)
theorem dX1_setCargo_8 : decode cX1_setCargo 8 = .ok (.newarray .int, 2) := dk_188_10 (dk_at dksX1_setCargo_0 8 rfl rfl)
theorem dX1_setCargo_10 : decode cX1_setCargo 10 = .ok (.dup, 1) := dk_89 (dk_at dksX1_setCargo_0 10 rfl rfl)
theorem dX1_setCargo_11 : decode cX1_setCargo 11 = .ok (.iconst 0, 1) := dk_3 (dk_at dksX1_setCargo_0 11 rfl rfl)
theorem dX1_setCargo_12 : decode cX1_setCargo 12 = .ok (.iload_n 1, 1) := dk_27 (dk_at dksX1_setCargo_0 12 rfl rfl)
theorem dX1_setCargo_13 : decode cX1_setCargo 13 = .ok (.iastore, 1) := dk_79 (dk_at dksX1_setCargo_0 13 rfl rfl)
theorem dX1_setCargo_14 : decode cX1_setCargo 14 = .ok (.dup, 1) := dk_89 (dk_at dksX1_setCargo_0 14 rfl rfl)
theorem dX1_setCargo_15 : decode cX1_setCargo 15 = .ok (.iconst 1, 1) := dk_4 (dk_at dksX1_setCargo_0 15 rfl rfl)
theorem dX1_setCargo_16 : decode cX1_setCargo 16 = .ok (.iload_n 2, 1) := dk_28 (dk_at dksX1_setCargo_0 16 rfl rfl)
theorem dX1_setCargo_17 : decode cX1_setCargo 17 = .ok (.iastore, 1) := dk_79 (dk_at dksX1_setCargo_0 17 rfl rfl)
theorem dX1_setCargo_18 : decode cX1_setCargo 18 = .ok (.invokespecial 72, 3) := dk_183 0 72 (dk_at dksX1_setCargo_0 18 rfl rfl)
theorem dX1_setCargo_21 : decode cX1_setCargo 21 = .ok (.invokevirtual 75, 3) := dk_182 0 75 (dk_at dksX1_setCargo_0 21 rfl rfl)
theorem dX1_setCargo_24 : decode cX1_setCargo 24 = .ok (.ireturn, 1) := dk_172 (dk_at dksX1_setCargo_1 0 rfl rfl)
def dkwX1_launch_0 : List UInt8 := [42, 187, 0, 24, 89, 16, 108, 4, 188, 10, 89, 3, 27, 79, 183, 0, 72, 182, 0, 75, 172]
abbrev dktX1_launch_0 : List UInt8 := dkwX1_launch_0 ++ []
theorem dksX1_launch_0 : cX1_launch.data.toList.drop 0 = dktX1_launch_0 := by decide +kernel
theorem dX1_launch_0 : decode cX1_launch 0 = .ok (.aload_n 0, 1) := dk_42 (dk_at dksX1_launch_0 0 rfl rfl)
theorem dX1_launch_1 : decode cX1_launch 1 = .ok (.new 24, 3) := dk_187 0 24 (dk_at dksX1_launch_0 1 rfl rfl)
theorem dX1_launch_4 : decode cX1_launch 4 = .ok (.dup, 1) := dk_89 (dk_at dksX1_launch_0 4 rfl rfl)
theorem dX1_launch_5 : decode cX1_launch 5 = .ok (.bipush 108, 2) := dk_16 108 (dk_at dksX1_launch_0 5 rfl rfl)
theorem dX1_launch_7 : decode cX1_launch 7 = .ok (.iconst 1, 1) := dk_4 (dk_at dksX1_launch_0 7 rfl rfl)
theorem dX1_launch_8 : decode cX1_launch 8 = .ok (.newarray .int, 2) := dk_188_10 (dk_at dksX1_launch_0 8 rfl rfl)
theorem dX1_launch_10 : decode cX1_launch 10 = .ok (.dup, 1) := dk_89 (dk_at dksX1_launch_0 10 rfl rfl)
theorem dX1_launch_11 : decode cX1_launch 11 = .ok (.iconst 0, 1) := dk_3 (dk_at dksX1_launch_0 11 rfl rfl)
theorem dX1_launch_12 : decode cX1_launch 12 = .ok (.iload_n 1, 1) := dk_27 (dk_at dksX1_launch_0 12 rfl rfl)
theorem dX1_launch_13 : decode cX1_launch 13 = .ok (.iastore, 1) := dk_79 (dk_at dksX1_launch_0 13 rfl rfl)
theorem dX1_launch_14 : decode cX1_launch 14 = .ok (.invokespecial 72, 3) := dk_183 0 72 (dk_at dksX1_launch_0 14 rfl rfl)
theorem dX1_launch_17 : decode cX1_launch 17 = .ok (.invokevirtual 75, 3) := dk_182 0 75 (dk_at dksX1_launch_0 17 rfl rfl)
theorem dX1_launch_20 : decode cX1_launch 20 = .ok (.ireturn, 1) := dk_172 (dk_at dksX1_launch_0 20 rfl rfl)
def dkwX1_caulk_1 : List UInt8 := [172]
abbrev dktX1_caulk_1 : List UInt8 := dkwX1_caulk_1 ++ []
def dkwX1_caulk_0 : List UInt8 := [42, 187, 0, 24, 89, 16, 99, 5, 188, 10, 89, 3, 27, 79, 89, 4, 28, 79, 183, 0, 72, 182, 0, 75]
abbrev dktX1_caulk_0 : List UInt8 := dkwX1_caulk_0 ++ dktX1_caulk_1
theorem dksX1_caulk_0 : cX1_caulk.data.toList.drop 0 = dktX1_caulk_0 := by decide +kernel
theorem dksX1_caulk_1 : cX1_caulk.data.toList.drop 24 = dktX1_caulk_1 := dk_seg dksX1_caulk_0 24 rfl rfl
theorem dX1_caulk_0 : decode cX1_caulk 0 = .ok (.aload_n 0, 1) := dk_42 (dk_at dksX1_caulk_0 0 rfl rfl)
theorem dX1_caulk_1 : decode cX1_caulk 1 = .ok (.new 24, 3) := dk_187 0 24 (dk_at dksX1_caulk_0 1 rfl rfl)
theorem dX1_caulk_4 : decode cX1_caulk 4 = .ok (.dup, 1) := dk_89 (dk_at dksX1_caulk_0 4 rfl rfl)
theorem dX1_caulk_5 : decode cX1_caulk 5 = .ok (.bipush 99, 2) := dk_16 99 (dk_at dksX1_caulk_0 5 rfl rfl)
theorem dX1_caulk_7 : decode cX1_caulk 7 = .ok (.iconst 2, 1) := dk_5 (dk_at dksX1_caulk_0 7 rfl rfl)
theorem dX1_caulk_8 : decode cX1_caulk 8 = .ok (.newarray .int, 2) := dk_188_10 (dk_at dksX1_caulk_0 8 rfl rfl)
theorem dX1_caulk_10 : decode cX1_caulk 10 = .ok (.dup, 1) := dk_89 (dk_at dksX1_caulk_0 10 rfl rfl)
theorem dX1_caulk_11 : decode cX1_caulk 11 = .ok (.iconst 0, 1) := dk_3 (dk_at dksX1_caulk_0 11 rfl rfl)
theorem dX1_caulk_12 : decode cX1_caulk 12 = .ok (.iload_n 1, 1) := dk_27 (dk_at dksX1_caulk_0 12 rfl rfl)
theorem dX1_caulk_13 : decode cX1_caulk 13 = .ok (.iastore, 1) := dk_79 (dk_at dksX1_caulk_0 13 rfl rfl)
theorem dX1_caulk_14 : decode cX1_caulk 14 = .ok (.dup, 1) := dk_89 (dk_at dksX1_caulk_0 14 rfl rfl)
theorem dX1_caulk_15 : decode cX1_caulk 15 = .ok (.iconst 1, 1) := dk_4 (dk_at dksX1_caulk_0 15 rfl rfl)
theorem dX1_caulk_16 : decode cX1_caulk 16 = .ok (.iload_n 2, 1) := dk_28 (dk_at dksX1_caulk_0 16 rfl rfl)
theorem dX1_caulk_17 : decode cX1_caulk 17 = .ok (.iastore, 1) := dk_79 (dk_at dksX1_caulk_0 17 rfl rfl)
theorem dX1_caulk_18 : decode cX1_caulk 18 = .ok (.invokespecial 72, 3) := dk_183 0 72 (dk_at dksX1_caulk_0 18 rfl rfl)
theorem dX1_caulk_21 : decode cX1_caulk 21 = .ok (.invokevirtual 75, 3) := dk_182 0 75 (dk_at dksX1_caulk_0 21 rfl rfl)
theorem dX1_caulk_24 : decode cX1_caulk 24 = .ok (.ireturn, 1) := dk_172 (dk_at dksX1_caulk_1 0 rfl rfl)
def dkwX1_pump_1 : List UInt8 := [172]
abbrev dktX1_pump_1 : List UInt8 := dkwX1_pump_1 ++ []
def dkwX1_pump_0 : List UInt8 := [42, 187, 0, 24, 89, 16, 112, 5, 188, 10, 89, 3, 27, 79, 89, 4, 28, 79, 183, 0, 72, 182, 0, 75]
abbrev dktX1_pump_0 : List UInt8 := dkwX1_pump_0 ++ dktX1_pump_1
theorem dksX1_pump_0 : cX1_pump.data.toList.drop 0 = dktX1_pump_0 := by decide +kernel
theorem dksX1_pump_1 : cX1_pump.data.toList.drop 24 = dktX1_pump_1 := dk_seg dksX1_pump_0 24 rfl rfl
theorem dX1_pump_0 : decode cX1_pump 0 = .ok (.aload_n 0, 1) := dk_42 (dk_at dksX1_pump_0 0 rfl rfl)
theorem dX1_pump_1 : decode cX1_pump 1 = .ok (.new 24, 3) := dk_187 0 24 (dk_at dksX1_pump_0 1 rfl rfl)
theorem dX1_pump_4 : decode cX1_pump 4 = .ok (.dup, 1) := dk_89 (dk_at dksX1_pump_0 4 rfl rfl)
theorem dX1_pump_5 : decode cX1_pump 5 = .ok (.bipush 112, 2) := dk_16 112 (dk_at dksX1_pump_0 5 rfl rfl)
theorem dX1_pump_7 : decode cX1_pump 7 = .ok (.iconst 2, 1) := dk_5 (dk_at dksX1_pump_0 7 rfl rfl)
theorem dX1_pump_8 : decode cX1_pump 8 = .ok (.newarray .int, 2) := dk_188_10 (dk_at dksX1_pump_0 8 rfl rfl)
theorem dX1_pump_10 : decode cX1_pump 10 = .ok (.dup, 1) := dk_89 (dk_at dksX1_pump_0 10 rfl rfl)
theorem dX1_pump_11 : decode cX1_pump 11 = .ok (.iconst 0, 1) := dk_3 (dk_at dksX1_pump_0 11 rfl rfl)
theorem dX1_pump_12 : decode cX1_pump 12 = .ok (.iload_n 1, 1) := dk_27 (dk_at dksX1_pump_0 12 rfl rfl)
theorem dX1_pump_13 : decode cX1_pump 13 = .ok (.iastore, 1) := dk_79 (dk_at dksX1_pump_0 13 rfl rfl)
theorem dX1_pump_14 : decode cX1_pump 14 = .ok (.dup, 1) := dk_89 (dk_at dksX1_pump_0 14 rfl rfl)
theorem dX1_pump_15 : decode cX1_pump 15 = .ok (.iconst 1, 1) := dk_4 (dk_at dksX1_pump_0 15 rfl rfl)
theorem dX1_pump_16 : decode cX1_pump 16 = .ok (.iload_n 2, 1) := dk_28 (dk_at dksX1_pump_0 16 rfl rfl)
theorem dX1_pump_17 : decode cX1_pump 17 = .ok (.iastore, 1) := dk_79 (dk_at dksX1_pump_0 17 rfl rfl)
theorem dX1_pump_18 : decode cX1_pump 18 = .ok (.invokespecial 72, 3) := dk_183 0 72 (dk_at dksX1_pump_0 18 rfl rfl)
theorem dX1_pump_21 : decode cX1_pump 21 = .ok (.invokevirtual 75, 3) := dk_182 0 75 (dk_at dksX1_pump_0 21 rfl rfl)
theorem dX1_pump_24 : decode cX1_pump 24 = .ok (.ireturn, 1) := dk_172 (dk_at dksX1_pump_1 0 rfl rfl)
def dkwX1_stateOf_0 : List UInt8 := [42, 180, 0, 7, 27, 182, 0, 89, 180, 0, 93, 182, 0, 99, 172]
abbrev dktX1_stateOf_0 : List UInt8 := dkwX1_stateOf_0 ++ []
theorem dksX1_stateOf_0 : cX1_stateOf.data.toList.drop 0 = dktX1_stateOf_0 := by decide +kernel
theorem dX1_stateOf_0 : decode cX1_stateOf 0 = .ok (.aload_n 0, 1) := dk_42 (dk_at dksX1_stateOf_0 0 rfl rfl)
theorem dX1_stateOf_1 : decode cX1_stateOf 1 = .ok (.getfield 7, 3) := dk_180 0 7 (dk_at dksX1_stateOf_0 1 rfl rfl)
theorem dX1_stateOf_4 : decode cX1_stateOf 4 = .ok (.iload_n 1, 1) := dk_27 (dk_at dksX1_stateOf_0 4 rfl rfl)
theorem dX1_stateOf_5 : decode cX1_stateOf 5 = .ok (.invokevirtual 89, 3) := dk_182 0 89 (dk_at dksX1_stateOf_0 5 rfl rfl)
theorem dX1_stateOf_8 : decode cX1_stateOf 8 = .ok (.getfield 93, 3) := dk_180 0 93 (dk_at dksX1_stateOf_0 8 rfl rfl)
theorem dX1_stateOf_11 : decode cX1_stateOf 11 = .ok (.invokevirtual 99, 3) := dk_182 0 99 (dk_at dksX1_stateOf_0 11 rfl rfl)
theorem dX1_stateOf_14 : decode cX1_stateOf 14 = .ok (.ireturn, 1) := dk_172 (dk_at dksX1_stateOf_0 14 rfl rfl)
def dkwX1_frameCount_0 : List UInt8 := [42, 180, 0, 7, 27, 182, 0, 89, 182, 0, 104, 172]
abbrev dktX1_frameCount_0 : List UInt8 := dkwX1_frameCount_0 ++ []
theorem dksX1_frameCount_0 : cX1_frameCount.data.toList.drop 0 = dktX1_frameCount_0 := by decide +kernel
theorem dX1_frameCount_0 : decode cX1_frameCount 0 = .ok (.aload_n 0, 1) := dk_42 (dk_at dksX1_frameCount_0 0 rfl rfl)
theorem dX1_frameCount_1 : decode cX1_frameCount 1 = .ok (.getfield 7, 3) := dk_180 0 7 (dk_at dksX1_frameCount_0 1 rfl rfl)
theorem dX1_frameCount_4 : decode cX1_frameCount 4 = .ok (.iload_n 1, 1) := dk_27 (dk_at dksX1_frameCount_0 4 rfl rfl)
theorem dX1_frameCount_5 : decode cX1_frameCount 5 = .ok (.invokevirtual 89, 3) := dk_182 0 89 (dk_at dksX1_frameCount_0 5 rfl rfl)
theorem dX1_frameCount_8 : decode cX1_frameCount 8 = .ok (.invokevirtual 104, 3) := dk_182 0 104 (dk_at dksX1_frameCount_0 8 rfl rfl)
theorem dX1_frameCount_11 : decode cX1_frameCount 11 = .ok (.ireturn, 1) := dk_172 (dk_at dksX1_frameCount_0 11 rfl rfl)
def dkwX1_widthOf_2 : List UInt8 := [167, 0, 18, 25, 4, 180, 0, 115, 28, 182, 0, 118, 192, 0, 122, 180, 0, 127, 172]
abbrev dktX1_widthOf_2 : List UInt8 := dkwX1_widthOf_2 ++ []
def dkwX1_widthOf_1 : List UInt8 := [184, 0, 111, 29, 153, 0, 21, 25, 4, 180, 0, 115, 28, 182, 0, 118, 192, 0, 122, 180, 0, 124]
abbrev dktX1_widthOf_1 : List UInt8 := dkwX1_widthOf_1 ++ dktX1_widthOf_2
def dkwX1_widthOf_0 : List UInt8 := [42, 180, 0, 7, 27, 182, 0, 89, 58, 4, 28, 3, 25, 4, 182, 0, 104, 4, 100, 184, 0, 105]
abbrev dktX1_widthOf_0 : List UInt8 := dkwX1_widthOf_0 ++ dktX1_widthOf_1
theorem dksX1_widthOf_0 : cX1_widthOf.data.toList.drop 0 = dktX1_widthOf_0 := by decide +kernel
theorem dksX1_widthOf_1 : cX1_widthOf.data.toList.drop 22 = dktX1_widthOf_1 := dk_seg dksX1_widthOf_0 22 rfl rfl
theorem dksX1_widthOf_2 : cX1_widthOf.data.toList.drop 44 = dktX1_widthOf_2 := dk_seg dksX1_widthOf_1 22 rfl rfl
theorem dX1_widthOf_0 : decode cX1_widthOf 0 = .ok (.aload_n 0, 1) := dk_42 (dk_at dksX1_widthOf_0 0 rfl rfl)
theorem dX1_widthOf_1 : decode cX1_widthOf 1 = .ok (.getfield 7, 3) := dk_180 0 7 (dk_at dksX1_widthOf_0 1 rfl rfl)
theorem dX1_widthOf_4 : decode cX1_widthOf 4 = .ok (.iload_n 1, 1) := dk_27 (dk_at dksX1_widthOf_0 4 rfl rfl)
theorem dX1_widthOf_5 : decode cX1_widthOf 5 = .ok (.invokevirtual 89, 3) := dk_182 0 89 (dk_at dksX1_widthOf_0 5 rfl rfl)
theorem dX1_widthOf_8 : decode cX1_widthOf 8 = .ok (.astore 4, 2) := dk_58 4 (dk_at dksX1_widthOf_0 8 rfl rfl)
theorem dX1_widthOf_10 : decode cX1_widthOf 10 = .ok (.iload_n 2, 1) := dk_28 (dk_at dksX1_widthOf_0 10 rfl rfl)
theorem dX1_widthOf_11 : decode cX1_widthOf 11 = .ok (.iconst 0, 1) := dk_3 (dk_at dksX1_widthOf_0 11 rfl rfl)
theorem dX1_widthOf_12 : decode cX1_widthOf 12 = .ok (.aload 4, 2) := dk_25 4 (dk_at dksX1_widthOf_0 12 rfl rfl)
theorem dX1_widthOf_14 : decode cX1_widthOf 14 = .ok (.invokevirtual 104, 3) := dk_182 0 104 (dk_at dksX1_widthOf_0 14 rfl rfl)
theorem dX1_widthOf_17 : decode cX1_widthOf 17 = .ok (.iconst 1, 1) := dk_4 (dk_at dksX1_widthOf_0 17 rfl rfl)
theorem dX1_widthOf_18 : decode cX1_widthOf 18 = .ok (.isub, 1) := dk_100 (dk_at dksX1_widthOf_0 18 rfl rfl)
theorem dX1_widthOf_19 : decode cX1_widthOf 19 = .ok (.invokestatic 105, 3) := dk_184 0 105 (dk_at dksX1_widthOf_0 19 rfl rfl)
theorem dX1_widthOf_22 : decode cX1_widthOf 22 = .ok (.invokestatic 111, 3) := dk_184 0 111 (dk_at dksX1_widthOf_1 0 rfl rfl)
theorem dX1_widthOf_25 : decode cX1_widthOf 25 = .ok (.iload_n 3, 1) := dk_29 (dk_at dksX1_widthOf_1 3 rfl rfl)
theorem dX1_widthOf_26 : decode cX1_widthOf 26 = .ok (.ifCond .eq 21, 3) := dk_153 0 21 (dk_at dksX1_widthOf_1 4 rfl rfl)
theorem dX1_widthOf_29 : decode cX1_widthOf 29 = .ok (.aload 4, 2) := dk_25 4 (dk_at dksX1_widthOf_1 7 rfl rfl)
theorem dX1_widthOf_31 : decode cX1_widthOf 31 = .ok (.getfield 115, 3) := dk_180 0 115 (dk_at dksX1_widthOf_1 9 rfl rfl)
theorem dX1_widthOf_34 : decode cX1_widthOf 34 = .ok (.iload_n 2, 1) := dk_28 (dk_at dksX1_widthOf_1 12 rfl rfl)
theorem dX1_widthOf_35 : decode cX1_widthOf 35 = .ok (.invokevirtual 118, 3) := dk_182 0 118 (dk_at dksX1_widthOf_1 13 rfl rfl)
theorem dX1_widthOf_38 : decode cX1_widthOf 38 = .ok (.checkcast 122, 3) := dk_192 0 122 (dk_at dksX1_widthOf_1 16 rfl rfl)
theorem dX1_widthOf_41 : decode cX1_widthOf 41 = .ok (.getfield 124, 3) := dk_180 0 124 (dk_at dksX1_widthOf_1 19 rfl rfl)
theorem dX1_widthOf_44 : decode cX1_widthOf 44 = .ok (.goto 18, 3) := dk_167 0 18 (dk_at dksX1_widthOf_2 0 rfl rfl)
theorem dX1_widthOf_47 : decode cX1_widthOf 47 = .ok (.aload 4, 2) := dk_25 4 (dk_at dksX1_widthOf_2 3 rfl rfl)
theorem dX1_widthOf_49 : decode cX1_widthOf 49 = .ok (.getfield 115, 3) := dk_180 0 115 (dk_at dksX1_widthOf_2 5 rfl rfl)
theorem dX1_widthOf_52 : decode cX1_widthOf 52 = .ok (.iload_n 2, 1) := dk_28 (dk_at dksX1_widthOf_2 8 rfl rfl)
theorem dX1_widthOf_53 : decode cX1_widthOf 53 = .ok (.invokevirtual 118, 3) := dk_182 0 118 (dk_at dksX1_widthOf_2 9 rfl rfl)
theorem dX1_widthOf_56 : decode cX1_widthOf 56 = .ok (.checkcast 122, 3) := dk_192 0 122 (dk_at dksX1_widthOf_2 12 rfl rfl)
theorem dX1_widthOf_59 : decode cX1_widthOf 59 = .ok (.getfield 127, 3) := dk_180 0 127 (dk_at dksX1_widthOf_2 15 rfl rfl)
theorem dX1_widthOf_62 : decode cX1_widthOf 62 = .ok (.ireturn, 1) := dk_172 (dk_at dksX1_widthOf_2 18 rfl rfl)
def dkwX1_caulkingOf_0 : List UInt8 := [42, 180, 0, 7, 27, 28, 182, 0, 130, 180, 0, 134, 28, 46, 172]
abbrev dktX1_caulkingOf_0 : List UInt8 := dkwX1_caulkingOf_0 ++ []
theorem dksX1_caulkingOf_0 : cX1_caulkingOf.data.toList.drop 0 = dktX1_caulkingOf_0 := by decide +kernel
theorem dX1_caulkingOf_0 : decode cX1_caulkingOf 0 = .ok (.aload_n 0, 1) := dk_42 (dk_at dksX1_caulkingOf_0 0 rfl rfl)
theorem dX1_caulkingOf_1 : decode cX1_caulkingOf 1 = .ok (.getfield 7, 3) := dk_180 0 7 (dk_at dksX1_caulkingOf_0 1 rfl rfl)
theorem dX1_caulkingOf_4 : decode cX1_caulkingOf 4 = .ok (.iload_n 1, 1) := dk_27 (dk_at dksX1_caulkingOf_0 4 rfl rfl)
theorem dX1_caulkingOf_5 : decode cX1_caulkingOf 5 = .ok (.iload_n 2, 1) := dk_28 (dk_at dksX1_caulkingOf_0 5 rfl rfl)
theorem dX1_caulkingOf_6 : decode cX1_caulkingOf 6 = .ok (.invokevirtual 130, 3) := dk_182 0 130 (dk_at dksX1_caulkingOf_0 6 rfl rfl)
theorem dX1_caulkingOf_9 : decode cX1_caulkingOf 9 = .ok (.getfield 134, 3) := dk_180 0 134 (dk_at dksX1_caulkingOf_0 9 rfl rfl)
theorem dX1_caulkingOf_12 : decode cX1_caulkingOf 12 = .ok (.iload_n 2, 1) := dk_28 (dk_at dksX1_caulkingOf_0 12 rfl rfl)
theorem dX1_caulkingOf_13 : decode cX1_caulkingOf 13 = .ok (.iaload, 1) := dk_46 (dk_at dksX1_caulkingOf_0 13 rfl rfl)
theorem dX1_caulkingOf_14 : decode cX1_caulkingOf 14 = .ok (.ireturn, 1) := dk_172 (dk_at dksX1_caulkingOf_0 14 rfl rfl)
def dkwX1_waterIn_0 : List UInt8 := [42, 180, 0, 7, 27, 182, 0, 89, 180, 0, 138, 172]
abbrev dktX1_waterIn_0 : List UInt8 := dkwX1_waterIn_0 ++ []
theorem dksX1_waterIn_0 : cX1_waterIn.data.toList.drop 0 = dktX1_waterIn_0 := by decide +kernel
theorem dX1_waterIn_0 : decode cX1_waterIn 0 = .ok (.aload_n 0, 1) := dk_42 (dk_at dksX1_waterIn_0 0 rfl rfl)
theorem dX1_waterIn_1 : decode cX1_waterIn 1 = .ok (.getfield 7, 3) := dk_180 0 7 (dk_at dksX1_waterIn_0 1 rfl rfl)
theorem dX1_waterIn_4 : decode cX1_waterIn 4 = .ok (.iload_n 1, 1) := dk_27 (dk_at dksX1_waterIn_0 4 rfl rfl)
theorem dX1_waterIn_5 : decode cX1_waterIn 5 = .ok (.invokevirtual 89, 3) := dk_182 0 89 (dk_at dksX1_waterIn_0 5 rfl rfl)
theorem dX1_waterIn_8 : decode cX1_waterIn 8 = .ok (.getfield 138, 3) := dk_180 0 138 (dk_at dksX1_waterIn_0 8 rfl rfl)
theorem dX1_waterIn_11 : decode cX1_waterIn 11 = .ok (.ireturn, 1) := dk_172 (dk_at dksX1_waterIn_0 11 rfl rfl)
def dkwX1_weightOf_0 : List UInt8 := [42, 180, 0, 7, 27, 182, 0, 89, 182, 0, 141, 172]
abbrev dktX1_weightOf_0 : List UInt8 := dkwX1_weightOf_0 ++ []
theorem dksX1_weightOf_0 : cX1_weightOf.data.toList.drop 0 = dktX1_weightOf_0 := by decide +kernel
theorem dX1_weightOf_0 : decode cX1_weightOf 0 = .ok (.aload_n 0, 1) := dk_42 (dk_at dksX1_weightOf_0 0 rfl rfl)
theorem dX1_weightOf_1 : decode cX1_weightOf 1 = .ok (.getfield 7, 3) := dk_180 0 7 (dk_at dksX1_weightOf_0 1 rfl rfl)
theorem dX1_weightOf_4 : decode cX1_weightOf 4 = .ok (.iload_n 1, 1) := dk_27 (dk_at dksX1_weightOf_0 4 rfl rfl)
theorem dX1_weightOf_5 : decode cX1_weightOf 5 = .ok (.invokevirtual 89, 3) := dk_182 0 89 (dk_at dksX1_weightOf_0 5 rfl rfl)
theorem dX1_weightOf_8 : decode cX1_weightOf 8 = .ok (.invokevirtual 141, 3) := dk_182 0 141 (dk_at dksX1_weightOf_0 8 rfl rfl)
theorem dX1_weightOf_11 : decode cX1_weightOf 11 = .ok (.ireturn, 1) := dk_172 (dk_at dksX1_weightOf_0 11 rfl rfl)
def dkwX1_draughtOf_0 : List UInt8 := [42, 180, 0, 7, 27, 182, 0, 89, 182, 0, 147, 184, 0, 150, 172]
abbrev dktX1_draughtOf_0 : List UInt8 := dkwX1_draughtOf_0 ++ []
theorem dksX1_draughtOf_0 : cX1_draughtOf.data.toList.drop 0 = dktX1_draughtOf_0 := by decide +kernel
theorem dX1_draughtOf_0 : decode cX1_draughtOf 0 = .ok (.aload_n 0, 1) := dk_42 (dk_at dksX1_draughtOf_0 0 rfl rfl)
theorem dX1_draughtOf_1 : decode cX1_draughtOf 1 = .ok (.getfield 7, 3) := dk_180 0 7 (dk_at dksX1_draughtOf_0 1 rfl rfl)
theorem dX1_draughtOf_4 : decode cX1_draughtOf 4 = .ok (.iload_n 1, 1) := dk_27 (dk_at dksX1_draughtOf_0 4 rfl rfl)
theorem dX1_draughtOf_5 : decode cX1_draughtOf 5 = .ok (.invokevirtual 89, 3) := dk_182 0 89 (dk_at dksX1_draughtOf_0 5 rfl rfl)
theorem dX1_draughtOf_8 : decode cX1_draughtOf 8 = .ok (.invokevirtual 147, 3) := dk_182 0 147 (dk_at dksX1_draughtOf_0 8 rfl rfl)
theorem dX1_draughtOf_11 : decode cX1_draughtOf 11 = .ok (.invokestatic 150, 3) := dk_184 0 150 (dk_at dksX1_draughtOf_0 11 rfl rfl)
theorem dX1_draughtOf_14 : decode cX1_draughtOf 14 = .ok (.ireturn, 1) := dk_172 (dk_at dksX1_draughtOf_0 14 rfl rfl)
def dkwX1_found_0 : List UInt8 := [26, 2, 159, 0, 7, 4, 167, 0, 4, 3, 184, 0, 144, 26, 172]
abbrev dktX1_found_0 : List UInt8 := dkwX1_found_0 ++ []
theorem dksX1_found_0 : cX1_found.data.toList.drop 0 = dktX1_found_0 := by decide +kernel
theorem dX1_found_0 : decode cX1_found 0 = .ok (.iload_n 0, 1) := dk_26 (dk_at dksX1_found_0 0 rfl rfl)
theorem dX1_found_1 : decode cX1_found 1 = .ok (.iconst (-1), 1) := dk_2 (dk_at dksX1_found_0 1 rfl rfl)
theorem dX1_found_2 : decode cX1_found 2 = .ok (.if_icmp .eq 7, 3) := dk_159 0 7 (dk_at dksX1_found_0 2 rfl rfl)
theorem dX1_found_5 : decode cX1_found 5 = .ok (.iconst 1, 1) := dk_4 (dk_at dksX1_found_0 5 rfl rfl)
theorem dX1_found_6 : decode cX1_found 6 = .ok (.goto 4, 3) := dk_167 0 4 (dk_at dksX1_found_0 6 rfl rfl)
theorem dX1_found_9 : decode cX1_found 9 = .ok (.iconst 0, 1) := dk_3 (dk_at dksX1_found_0 9 rfl rfl)
theorem dX1_found_10 : decode cX1_found 10 = .ok (.invokestatic 144, 3) := dk_184 0 144 (dk_at dksX1_found_0 10 rfl rfl)
theorem dX1_found_13 : decode cX1_found 13 = .ok (.iload_n 0, 1) := dk_26 (dk_at dksX1_found_0 13 rfl rfl)
theorem dX1_found_14 : decode cX1_found 14 = .ok (.ireturn, 1) := dk_172 (dk_at dksX1_found_0 14 rfl rfl)
def dkwX1_draughtByHalving_0 : List UInt8 := [42, 180, 0, 7, 27, 182, 0, 89, 182, 0, 154, 184, 0, 150, 172]
abbrev dktX1_draughtByHalving_0 : List UInt8 := dkwX1_draughtByHalving_0 ++ []
theorem dksX1_draughtByHalving_0 : cX1_draughtByHalving.data.toList.drop 0 = dktX1_draughtByHalving_0 := by decide +kernel
theorem dX1_draughtByHalving_0 : decode cX1_draughtByHalving 0 = .ok (.aload_n 0, 1) := dk_42 (dk_at dksX1_draughtByHalving_0 0 rfl rfl)
theorem dX1_draughtByHalving_1 : decode cX1_draughtByHalving 1 = .ok (.getfield 7, 3) := dk_180 0 7 (dk_at dksX1_draughtByHalving_0 1 rfl rfl)
theorem dX1_draughtByHalving_4 : decode cX1_draughtByHalving 4 = .ok (.iload_n 1, 1) := dk_27 (dk_at dksX1_draughtByHalving_0 4 rfl rfl)
theorem dX1_draughtByHalving_5 : decode cX1_draughtByHalving 5 = .ok (.invokevirtual 89, 3) := dk_182 0 89 (dk_at dksX1_draughtByHalving_0 5 rfl rfl)
theorem dX1_draughtByHalving_8 : decode cX1_draughtByHalving 8 = .ok (.invokevirtual 154, 3) := dk_182 0 154 (dk_at dksX1_draughtByHalving_0 8 rfl rfl)
theorem dX1_draughtByHalving_11 : decode cX1_draughtByHalving 11 = .ok (.invokestatic 150, 3) := dk_184 0 150 (dk_at dksX1_draughtByHalving_0 11 rfl rfl)
theorem dX1_draughtByHalving_14 : decode cX1_draughtByHalving 14 = .ok (.ireturn, 1) := dk_172 (dk_at dksX1_draughtByHalving_0 14 rfl rfl)
def dkwX1_heelOf_0 : List UInt8 := [42, 180, 0, 7, 27, 182, 0, 89, 182, 0, 157, 172]
abbrev dktX1_heelOf_0 : List UInt8 := dkwX1_heelOf_0 ++ []
theorem dksX1_heelOf_0 : cX1_heelOf.data.toList.drop 0 = dktX1_heelOf_0 := by decide +kernel
theorem dX1_heelOf_0 : decode cX1_heelOf 0 = .ok (.aload_n 0, 1) := dk_42 (dk_at dksX1_heelOf_0 0 rfl rfl)
theorem dX1_heelOf_1 : decode cX1_heelOf 1 = .ok (.getfield 7, 3) := dk_180 0 7 (dk_at dksX1_heelOf_0 1 rfl rfl)
theorem dX1_heelOf_4 : decode cX1_heelOf 4 = .ok (.iload_n 1, 1) := dk_27 (dk_at dksX1_heelOf_0 4 rfl rfl)
theorem dX1_heelOf_5 : decode cX1_heelOf 5 = .ok (.invokevirtual 89, 3) := dk_182 0 89 (dk_at dksX1_heelOf_0 5 rfl rfl)
theorem dX1_heelOf_8 : decode cX1_heelOf 8 = .ok (.invokevirtual 157, 3) := dk_182 0 157 (dk_at dksX1_heelOf_0 8 rfl rfl)
theorem dX1_heelOf_11 : decode cX1_heelOf 11 = .ok (.ireturn, 1) := dk_172 (dk_at dksX1_heelOf_0 11 rfl rfl)
def dkwX1_hullAtRank_4 : List UInt8 := [132, 2, 1, 167, 255, 162, 187, 0, 167, 89, 183, 0, 169, 191]
abbrev dktX1_hullAtRank_4 : List UInt8 := dkwX1_hullAtRank_4 ++ []
def dkwX1_hullAtRank_3 : List UInt8 := [153, 0, 7, 4, 167, 0, 4, 3, 96, 62, 132, 4, 1, 167, 255, 194, 29, 27, 160, 0, 5, 28, 172]
abbrev dktX1_hullAtRank_3 : List UInt8 := dkwX1_hullAtRank_3 ++ dktX1_hullAtRank_4
def dkwX1_hullAtRank_2 : List UInt8 := [182, 0, 118, 192, 0, 94, 42, 180, 0, 7, 180, 0, 79, 28, 182, 0, 118, 192, 0, 94, 182, 0, 163]
abbrev dktX1_hullAtRank_2 : List UInt8 := dkwX1_hullAtRank_2 ++ dktX1_hullAtRank_3
def dkwX1_hullAtRank_1 : List UInt8 := [180, 0, 7, 180, 0, 79, 182, 0, 83, 162, 0, 53, 29, 42, 42, 180, 0, 7, 180, 0, 79, 21, 4]
abbrev dktX1_hullAtRank_1 : List UInt8 := dkwX1_hullAtRank_1 ++ dktX1_hullAtRank_2
def dkwX1_hullAtRank_0 : List UInt8 := [3, 61, 28, 42, 180, 0, 7, 180, 0, 79, 182, 0, 83, 162, 0, 86, 3, 62, 3, 54, 4, 21, 4, 42]
abbrev dktX1_hullAtRank_0 : List UInt8 := dkwX1_hullAtRank_0 ++ dktX1_hullAtRank_1
theorem dksX1_hullAtRank_0 : cX1_hullAtRank.data.toList.drop 0 = dktX1_hullAtRank_0 := by decide +kernel
theorem dksX1_hullAtRank_1 : cX1_hullAtRank.data.toList.drop 24 = dktX1_hullAtRank_1 := dk_seg dksX1_hullAtRank_0 24 rfl rfl
theorem dksX1_hullAtRank_2 : cX1_hullAtRank.data.toList.drop 47 = dktX1_hullAtRank_2 := dk_seg dksX1_hullAtRank_1 23 rfl rfl
theorem dksX1_hullAtRank_3 : cX1_hullAtRank.data.toList.drop 70 = dktX1_hullAtRank_3 := dk_seg dksX1_hullAtRank_2 23 rfl rfl
theorem dksX1_hullAtRank_4 : cX1_hullAtRank.data.toList.drop 93 = dktX1_hullAtRank_4 := dk_seg dksX1_hullAtRank_3 23 rfl rfl
theorem dX1_hullAtRank_0 : decode cX1_hullAtRank 0 = .ok (.iconst 0, 1) := dk_3 (dk_at dksX1_hullAtRank_0 0 rfl rfl)
theorem dX1_hullAtRank_1 : decode cX1_hullAtRank 1 = .ok (.istore_n 2, 1) := dk_61 (dk_at dksX1_hullAtRank_0 1 rfl rfl)
theorem dX1_hullAtRank_2 : decode cX1_hullAtRank 2 = .ok (.iload_n 2, 1) := dk_28 (dk_at dksX1_hullAtRank_0 2 rfl rfl)
theorem dX1_hullAtRank_3 : decode cX1_hullAtRank 3 = .ok (.aload_n 0, 1) := dk_42 (dk_at dksX1_hullAtRank_0 3 rfl rfl)
theorem dX1_hullAtRank_4 : decode cX1_hullAtRank 4 = .ok (.getfield 7, 3) := dk_180 0 7 (dk_at dksX1_hullAtRank_0 4 rfl rfl)
theorem dX1_hullAtRank_7 : decode cX1_hullAtRank 7 = .ok (.getfield 79, 3) := dk_180 0 79 (dk_at dksX1_hullAtRank_0 7 rfl rfl)
theorem dX1_hullAtRank_10 : decode cX1_hullAtRank 10 = .ok (.invokevirtual 83, 3) := dk_182 0 83 (dk_at dksX1_hullAtRank_0 10 rfl rfl)
theorem dX1_hullAtRank_13 : decode cX1_hullAtRank 13 = .ok (.if_icmp .ge 86, 3) := dk_162 0 86 (dk_at dksX1_hullAtRank_0 13 rfl rfl)
theorem dX1_hullAtRank_16 : decode cX1_hullAtRank 16 = .ok (.iconst 0, 1) := dk_3 (dk_at dksX1_hullAtRank_0 16 rfl rfl)
theorem dX1_hullAtRank_17 : decode cX1_hullAtRank 17 = .ok (.istore_n 3, 1) := dk_62 (dk_at dksX1_hullAtRank_0 17 rfl rfl)
theorem dX1_hullAtRank_18 : decode cX1_hullAtRank 18 = .ok (.iconst 0, 1) := dk_3 (dk_at dksX1_hullAtRank_0 18 rfl rfl)
theorem dX1_hullAtRank_19 : decode cX1_hullAtRank 19 = .ok (.istore 4, 2) := dk_54 4 (dk_at dksX1_hullAtRank_0 19 rfl rfl)
theorem dX1_hullAtRank_21 : decode cX1_hullAtRank 21 = .ok (.iload 4, 2) := dk_21 4 (dk_at dksX1_hullAtRank_0 21 rfl rfl)
theorem dX1_hullAtRank_23 : decode cX1_hullAtRank 23 = .ok (.aload_n 0, 1) := dk_42 (dk_at dksX1_hullAtRank_0 23 rfl rfl)
theorem dX1_hullAtRank_24 : decode cX1_hullAtRank 24 = .ok (.getfield 7, 3) := dk_180 0 7 (dk_at dksX1_hullAtRank_1 0 rfl rfl)
theorem dX1_hullAtRank_27 : decode cX1_hullAtRank 27 = .ok (.getfield 79, 3) := dk_180 0 79 (dk_at dksX1_hullAtRank_1 3 rfl rfl)
theorem dX1_hullAtRank_30 : decode cX1_hullAtRank 30 = .ok (.invokevirtual 83, 3) := dk_182 0 83 (dk_at dksX1_hullAtRank_1 6 rfl rfl)
theorem dX1_hullAtRank_33 : decode cX1_hullAtRank 33 = .ok (.if_icmp .ge 53, 3) := dk_162 0 53 (dk_at dksX1_hullAtRank_1 9 rfl rfl)
theorem dX1_hullAtRank_36 : decode cX1_hullAtRank 36 = .ok (.iload_n 3, 1) := dk_29 (dk_at dksX1_hullAtRank_1 12 rfl rfl)
theorem dX1_hullAtRank_37 : decode cX1_hullAtRank 37 = .ok (.aload_n 0, 1) := dk_42 (dk_at dksX1_hullAtRank_1 13 rfl rfl)
theorem dX1_hullAtRank_38 : decode cX1_hullAtRank 38 = .ok (.aload_n 0, 1) := dk_42 (dk_at dksX1_hullAtRank_1 14 rfl rfl)
theorem dX1_hullAtRank_39 : decode cX1_hullAtRank 39 = .ok (.getfield 7, 3) := dk_180 0 7 (dk_at dksX1_hullAtRank_1 15 rfl rfl)
theorem dX1_hullAtRank_42 : decode cX1_hullAtRank 42 = .ok (.getfield 79, 3) := dk_180 0 79 (dk_at dksX1_hullAtRank_1 18 rfl rfl)
theorem dX1_hullAtRank_45 : decode cX1_hullAtRank 45 = .ok (.iload 4, 2) := dk_21 4 (dk_at dksX1_hullAtRank_1 21 rfl rfl)
theorem dX1_hullAtRank_47 : decode cX1_hullAtRank 47 = .ok (.invokevirtual 118, 3) := dk_182 0 118 (dk_at dksX1_hullAtRank_2 0 rfl rfl)
theorem dX1_hullAtRank_50 : decode cX1_hullAtRank 50 = .ok (.checkcast 94, 3) := dk_192 0 94 (dk_at dksX1_hullAtRank_2 3 rfl rfl)
theorem dX1_hullAtRank_53 : decode cX1_hullAtRank 53 = .ok (.aload_n 0, 1) := dk_42 (dk_at dksX1_hullAtRank_2 6 rfl rfl)
theorem dX1_hullAtRank_54 : decode cX1_hullAtRank 54 = .ok (.getfield 7, 3) := dk_180 0 7 (dk_at dksX1_hullAtRank_2 7 rfl rfl)
theorem dX1_hullAtRank_57 : decode cX1_hullAtRank 57 = .ok (.getfield 79, 3) := dk_180 0 79 (dk_at dksX1_hullAtRank_2 10 rfl rfl)
theorem dX1_hullAtRank_60 : decode cX1_hullAtRank 60 = .ok (.iload_n 2, 1) := dk_28 (dk_at dksX1_hullAtRank_2 13 rfl rfl)
theorem dX1_hullAtRank_61 : decode cX1_hullAtRank 61 = .ok (.invokevirtual 118, 3) := dk_182 0 118 (dk_at dksX1_hullAtRank_2 14 rfl rfl)
theorem dX1_hullAtRank_64 : decode cX1_hullAtRank 64 = .ok (.checkcast 94, 3) := dk_192 0 94 (dk_at dksX1_hullAtRank_2 17 rfl rfl)
theorem dX1_hullAtRank_67 : decode cX1_hullAtRank 67 = .ok (.invokevirtual 163, 3) := dk_182 0 163 (dk_at dksX1_hullAtRank_2 20 rfl rfl)
theorem dX1_hullAtRank_70 : decode cX1_hullAtRank 70 = .ok (.ifCond .eq 7, 3) := dk_153 0 7 (dk_at dksX1_hullAtRank_3 0 rfl rfl)
theorem dX1_hullAtRank_73 : decode cX1_hullAtRank 73 = .ok (.iconst 1, 1) := dk_4 (dk_at dksX1_hullAtRank_3 3 rfl rfl)
theorem dX1_hullAtRank_74 : decode cX1_hullAtRank 74 = .ok (.goto 4, 3) := dk_167 0 4 (dk_at dksX1_hullAtRank_3 4 rfl rfl)
theorem dX1_hullAtRank_77 : decode cX1_hullAtRank 77 = .ok (.iconst 0, 1) := dk_3 (dk_at dksX1_hullAtRank_3 7 rfl rfl)
theorem dX1_hullAtRank_78 : decode cX1_hullAtRank 78 = .ok (.iadd, 1) := dk_96 (dk_at dksX1_hullAtRank_3 8 rfl rfl)
theorem dX1_hullAtRank_79 : decode cX1_hullAtRank 79 = .ok (.istore_n 3, 1) := dk_62 (dk_at dksX1_hullAtRank_3 9 rfl rfl)
theorem dX1_hullAtRank_80 : decode cX1_hullAtRank 80 = .ok (.iinc 4 1, 3) := dk_132 4 1 (dk_at dksX1_hullAtRank_3 10 rfl rfl)
theorem dX1_hullAtRank_83 : decode cX1_hullAtRank 83 = .ok (.goto (-62), 3) := dk_167 255 194 (dk_at dksX1_hullAtRank_3 13 rfl rfl)
theorem dX1_hullAtRank_86 : decode cX1_hullAtRank 86 = .ok (.iload_n 3, 1) := dk_29 (dk_at dksX1_hullAtRank_3 16 rfl rfl)
theorem dX1_hullAtRank_87 : decode cX1_hullAtRank 87 = .ok (.iload_n 1, 1) := dk_27 (dk_at dksX1_hullAtRank_3 17 rfl rfl)
theorem dX1_hullAtRank_88 : decode cX1_hullAtRank 88 = .ok (.if_icmp .ne 5, 3) := dk_160 0 5 (dk_at dksX1_hullAtRank_3 18 rfl rfl)
theorem dX1_hullAtRank_91 : decode cX1_hullAtRank 91 = .ok (.iload_n 2, 1) := dk_28 (dk_at dksX1_hullAtRank_3 21 rfl rfl)
theorem dX1_hullAtRank_92 : decode cX1_hullAtRank 92 = .ok (.ireturn, 1) := dk_172 (dk_at dksX1_hullAtRank_3 22 rfl rfl)
theorem dX1_hullAtRank_93 : decode cX1_hullAtRank 93 = .ok (.iinc 2 1, 3) := dk_132 2 1 (dk_at dksX1_hullAtRank_4 0 rfl rfl)
theorem dX1_hullAtRank_96 : decode cX1_hullAtRank 96 = .ok (.goto (-94), 3) := dk_167 255 162 (dk_at dksX1_hullAtRank_4 3 rfl rfl)
theorem dX1_hullAtRank_99 : decode cX1_hullAtRank 99 = .ok (.new 167, 3) := dk_187 0 167 (dk_at dksX1_hullAtRank_4 6 rfl rfl)
theorem dX1_hullAtRank_102 : decode cX1_hullAtRank 102 = .ok (.dup, 1) := dk_89 (dk_at dksX1_hullAtRank_4 9 rfl rfl)
theorem dX1_hullAtRank_103 : decode cX1_hullAtRank 103 = .ok (.invokespecial 169, 3) := dk_183 0 169 (dk_at dksX1_hullAtRank_4 10 rfl rfl)
theorem dX1_hullAtRank_106 : decode cX1_hullAtRank 106 = .ok (.athrow, 1) := dk_191 (dk_at dksX1_hullAtRank_4 13 rfl rfl)
def dkwX1_isAhead_1 : List UInt8 := [180, 0, 160, 162, 0, 7, 4, 167, 0, 4, 3, 172]
abbrev dktX1_isAhead_1 : List UInt8 := dkwX1_isAhead_1 ++ []
def dkwX1_isAhead_0 : List UInt8 := [44, 182, 0, 141, 43, 182, 0, 141, 100, 62, 29, 157, 0, 18, 29, 154, 0, 18, 43, 180, 0, 160, 44]
abbrev dktX1_isAhead_0 : List UInt8 := dkwX1_isAhead_0 ++ dktX1_isAhead_1
theorem dksX1_isAhead_0 : cX1_isAhead.data.toList.drop 0 = dktX1_isAhead_0 := by decide +kernel
theorem dksX1_isAhead_1 : cX1_isAhead.data.toList.drop 23 = dktX1_isAhead_1 := dk_seg dksX1_isAhead_0 23 rfl rfl
theorem dX1_isAhead_0 : decode cX1_isAhead 0 = .ok (.aload_n 2, 1) := dk_44 (dk_at dksX1_isAhead_0 0 rfl rfl)
theorem dX1_isAhead_1 : decode cX1_isAhead 1 = .ok (.invokevirtual 141, 3) := dk_182 0 141 (dk_at dksX1_isAhead_0 1 rfl rfl)
theorem dX1_isAhead_4 : decode cX1_isAhead 4 = .ok (.aload_n 1, 1) := dk_43 (dk_at dksX1_isAhead_0 4 rfl rfl)
theorem dX1_isAhead_5 : decode cX1_isAhead 5 = .ok (.invokevirtual 141, 3) := dk_182 0 141 (dk_at dksX1_isAhead_0 5 rfl rfl)
theorem dX1_isAhead_8 : decode cX1_isAhead 8 = .ok (.isub, 1) := dk_100 (dk_at dksX1_isAhead_0 8 rfl rfl)
theorem dX1_isAhead_9 : decode cX1_isAhead 9 = .ok (.istore_n 3, 1) := dk_62 (dk_at dksX1_isAhead_0 9 rfl rfl)
theorem dX1_isAhead_10 : decode cX1_isAhead 10 = .ok (.iload_n 3, 1) := dk_29 (dk_at dksX1_isAhead_0 10 rfl rfl)
theorem dX1_isAhead_11 : decode cX1_isAhead 11 = .ok (.ifCond .gt 18, 3) := dk_157 0 18 (dk_at dksX1_isAhead_0 11 rfl rfl)
theorem dX1_isAhead_14 : decode cX1_isAhead 14 = .ok (.iload_n 3, 1) := dk_29 (dk_at dksX1_isAhead_0 14 rfl rfl)
theorem dX1_isAhead_15 : decode cX1_isAhead 15 = .ok (.ifCond .ne 18, 3) := dk_154 0 18 (dk_at dksX1_isAhead_0 15 rfl rfl)
theorem dX1_isAhead_18 : decode cX1_isAhead 18 = .ok (.aload_n 1, 1) := dk_43 (dk_at dksX1_isAhead_0 18 rfl rfl)
theorem dX1_isAhead_19 : decode cX1_isAhead 19 = .ok (.getfield 160, 3) := dk_180 0 160 (dk_at dksX1_isAhead_0 19 rfl rfl)
theorem dX1_isAhead_22 : decode cX1_isAhead 22 = .ok (.aload_n 2, 1) := dk_44 (dk_at dksX1_isAhead_0 22 rfl rfl)
theorem dX1_isAhead_23 : decode cX1_isAhead 23 = .ok (.getfield 160, 3) := dk_180 0 160 (dk_at dksX1_isAhead_1 0 rfl rfl)
theorem dX1_isAhead_26 : decode cX1_isAhead 26 = .ok (.if_icmp .ge 7, 3) := dk_162 0 7 (dk_at dksX1_isAhead_1 3 rfl rfl)
theorem dX1_isAhead_29 : decode cX1_isAhead 29 = .ok (.iconst 1, 1) := dk_4 (dk_at dksX1_isAhead_1 6 rfl rfl)
theorem dX1_isAhead_30 : decode cX1_isAhead 30 = .ok (.goto 4, 3) := dk_167 0 4 (dk_at dksX1_isAhead_1 7 rfl rfl)
theorem dX1_isAhead_33 : decode cX1_isAhead 33 = .ok (.iconst 0, 1) := dk_3 (dk_at dksX1_isAhead_1 10 rfl rfl)
theorem dX1_isAhead_34 : decode cX1_isAhead 34 = .ok (.ireturn, 1) := dk_172 (dk_at dksX1_isAhead_1 11 rfl rfl)
def dkwX1_isSymmetric_0 : List UInt8 := [42, 180, 0, 7, 27, 182, 0, 89, 77, 44, 44, 182, 0, 170, 172]
abbrev dktX1_isSymmetric_0 : List UInt8 := dkwX1_isSymmetric_0 ++ []
theorem dksX1_isSymmetric_0 : cX1_isSymmetric.data.toList.drop 0 = dktX1_isSymmetric_0 := by decide +kernel
theorem dX1_isSymmetric_0 : decode cX1_isSymmetric 0 = .ok (.aload_n 0, 1) := dk_42 (dk_at dksX1_isSymmetric_0 0 rfl rfl)
theorem dX1_isSymmetric_1 : decode cX1_isSymmetric 1 = .ok (.getfield 7, 3) := dk_180 0 7 (dk_at dksX1_isSymmetric_0 1 rfl rfl)
theorem dX1_isSymmetric_4 : decode cX1_isSymmetric 4 = .ok (.iload_n 1, 1) := dk_27 (dk_at dksX1_isSymmetric_0 4 rfl rfl)
theorem dX1_isSymmetric_5 : decode cX1_isSymmetric 5 = .ok (.invokevirtual 89, 3) := dk_182 0 89 (dk_at dksX1_isSymmetric_0 5 rfl rfl)
theorem dX1_isSymmetric_8 : decode cX1_isSymmetric 8 = .ok (.astore_n 2, 1) := dk_77 (dk_at dksX1_isSymmetric_0 8 rfl rfl)
theorem dX1_isSymmetric_9 : decode cX1_isSymmetric 9 = .ok (.aload_n 2, 1) := dk_44 (dk_at dksX1_isSymmetric_0 9 rfl rfl)
theorem dX1_isSymmetric_10 : decode cX1_isSymmetric 10 = .ok (.aload_n 2, 1) := dk_44 (dk_at dksX1_isSymmetric_0 10 rfl rfl)
theorem dX1_isSymmetric_11 : decode cX1_isSymmetric 11 = .ok (.invokevirtual 170, 3) := dk_182 0 170 (dk_at dksX1_isSymmetric_0 11 rfl rfl)
theorem dX1_isSymmetric_14 : decode cX1_isSymmetric 14 = .ok (.ireturn, 1) := dk_172 (dk_at dksX1_isSymmetric_0 14 rfl rfl)
def dkwX1_isReflectionOf_0 : List UInt8 := [42, 180, 0, 7, 27, 182, 0, 89, 78, 45, 42, 180, 0, 7, 28, 182, 0, 89, 182, 0, 170, 172]
abbrev dktX1_isReflectionOf_0 : List UInt8 := dkwX1_isReflectionOf_0 ++ []
theorem dksX1_isReflectionOf_0 : cX1_isReflectionOf.data.toList.drop 0 = dktX1_isReflectionOf_0 := by decide +kernel
theorem dX1_isReflectionOf_0 : decode cX1_isReflectionOf 0 = .ok (.aload_n 0, 1) := dk_42 (dk_at dksX1_isReflectionOf_0 0 rfl rfl)
theorem dX1_isReflectionOf_1 : decode cX1_isReflectionOf 1 = .ok (.getfield 7, 3) := dk_180 0 7 (dk_at dksX1_isReflectionOf_0 1 rfl rfl)
theorem dX1_isReflectionOf_4 : decode cX1_isReflectionOf 4 = .ok (.iload_n 1, 1) := dk_27 (dk_at dksX1_isReflectionOf_0 4 rfl rfl)
theorem dX1_isReflectionOf_5 : decode cX1_isReflectionOf 5 = .ok (.invokevirtual 89, 3) := dk_182 0 89 (dk_at dksX1_isReflectionOf_0 5 rfl rfl)
theorem dX1_isReflectionOf_8 : decode cX1_isReflectionOf 8 = .ok (.astore_n 3, 1) := dk_78 (dk_at dksX1_isReflectionOf_0 8 rfl rfl)
theorem dX1_isReflectionOf_9 : decode cX1_isReflectionOf 9 = .ok (.aload_n 3, 1) := dk_45 (dk_at dksX1_isReflectionOf_0 9 rfl rfl)
theorem dX1_isReflectionOf_10 : decode cX1_isReflectionOf 10 = .ok (.aload_n 0, 1) := dk_42 (dk_at dksX1_isReflectionOf_0 10 rfl rfl)
theorem dX1_isReflectionOf_11 : decode cX1_isReflectionOf 11 = .ok (.getfield 7, 3) := dk_180 0 7 (dk_at dksX1_isReflectionOf_0 11 rfl rfl)
theorem dX1_isReflectionOf_14 : decode cX1_isReflectionOf 14 = .ok (.iload_n 2, 1) := dk_28 (dk_at dksX1_isReflectionOf_0 14 rfl rfl)
theorem dX1_isReflectionOf_15 : decode cX1_isReflectionOf 15 = .ok (.invokevirtual 89, 3) := dk_182 0 89 (dk_at dksX1_isReflectionOf_0 15 rfl rfl)
theorem dX1_isReflectionOf_18 : decode cX1_isReflectionOf 18 = .ok (.invokevirtual 170, 3) := dk_182 0 170 (dk_at dksX1_isReflectionOf_0 18 rfl rfl)
theorem dX1_isReflectionOf_21 : decode cX1_isReflectionOf 21 = .ok (.ireturn, 1) := dk_172 (dk_at dksX1_isReflectionOf_0 21 rfl rfl)
def dkwX1_commonStretch_0 : List UInt8 := [42, 180, 0, 7, 27, 182, 0, 89, 78, 45, 42, 180, 0, 7, 28, 182, 0, 89, 182, 0, 174, 172]
abbrev dktX1_commonStretch_0 : List UInt8 := dkwX1_commonStretch_0 ++ []
theorem dksX1_commonStretch_0 : cX1_commonStretch.data.toList.drop 0 = dktX1_commonStretch_0 := by decide +kernel
theorem dX1_commonStretch_0 : decode cX1_commonStretch 0 = .ok (.aload_n 0, 1) := dk_42 (dk_at dksX1_commonStretch_0 0 rfl rfl)
theorem dX1_commonStretch_1 : decode cX1_commonStretch 1 = .ok (.getfield 7, 3) := dk_180 0 7 (dk_at dksX1_commonStretch_0 1 rfl rfl)
theorem dX1_commonStretch_4 : decode cX1_commonStretch 4 = .ok (.iload_n 1, 1) := dk_27 (dk_at dksX1_commonStretch_0 4 rfl rfl)
theorem dX1_commonStretch_5 : decode cX1_commonStretch 5 = .ok (.invokevirtual 89, 3) := dk_182 0 89 (dk_at dksX1_commonStretch_0 5 rfl rfl)
theorem dX1_commonStretch_8 : decode cX1_commonStretch 8 = .ok (.astore_n 3, 1) := dk_78 (dk_at dksX1_commonStretch_0 8 rfl rfl)
theorem dX1_commonStretch_9 : decode cX1_commonStretch 9 = .ok (.aload_n 3, 1) := dk_45 (dk_at dksX1_commonStretch_0 9 rfl rfl)
theorem dX1_commonStretch_10 : decode cX1_commonStretch 10 = .ok (.aload_n 0, 1) := dk_42 (dk_at dksX1_commonStretch_0 10 rfl rfl)
theorem dX1_commonStretch_11 : decode cX1_commonStretch 11 = .ok (.getfield 7, 3) := dk_180 0 7 (dk_at dksX1_commonStretch_0 11 rfl rfl)
theorem dX1_commonStretch_14 : decode cX1_commonStretch 14 = .ok (.iload_n 2, 1) := dk_28 (dk_at dksX1_commonStretch_0 14 rfl rfl)
theorem dX1_commonStretch_15 : decode cX1_commonStretch 15 = .ok (.invokevirtual 89, 3) := dk_182 0 89 (dk_at dksX1_commonStretch_0 15 rfl rfl)
theorem dX1_commonStretch_18 : decode cX1_commonStretch 18 = .ok (.invokevirtual 174, 3) := dk_182 0 174 (dk_at dksX1_commonStretch_0 18 rfl rfl)
theorem dX1_commonStretch_21 : decode cX1_commonStretch 21 = .ok (.ireturn, 1) := dk_172 (dk_at dksX1_commonStretch_0 21 rfl rfl)
def dkwX1_commonStretchByTrying_0 : List UInt8 := [42, 180, 0, 7, 27, 182, 0, 89, 78, 45, 42, 180, 0, 7, 28, 182, 0, 89, 182, 0, 178, 172]
abbrev dktX1_commonStretchByTrying_0 : List UInt8 := dkwX1_commonStretchByTrying_0 ++ []
theorem dksX1_commonStretchByTrying_0 : cX1_commonStretchByTrying.data.toList.drop 0 = dktX1_commonStretchByTrying_0 := by decide +kernel
theorem dX1_commonStretchByTrying_0 : decode cX1_commonStretchByTrying 0 = .ok (.aload_n 0, 1) := dk_42 (dk_at dksX1_commonStretchByTrying_0 0 rfl rfl)
theorem dX1_commonStretchByTrying_1 : decode cX1_commonStretchByTrying 1 = .ok (.getfield 7, 3) := dk_180 0 7 (dk_at dksX1_commonStretchByTrying_0 1 rfl rfl)
theorem dX1_commonStretchByTrying_4 : decode cX1_commonStretchByTrying 4 = .ok (.iload_n 1, 1) := dk_27 (dk_at dksX1_commonStretchByTrying_0 4 rfl rfl)
theorem dX1_commonStretchByTrying_5 : decode cX1_commonStretchByTrying 5 = .ok (.invokevirtual 89, 3) := dk_182 0 89 (dk_at dksX1_commonStretchByTrying_0 5 rfl rfl)
theorem dX1_commonStretchByTrying_8 : decode cX1_commonStretchByTrying 8 = .ok (.astore_n 3, 1) := dk_78 (dk_at dksX1_commonStretchByTrying_0 8 rfl rfl)
theorem dX1_commonStretchByTrying_9 : decode cX1_commonStretchByTrying 9 = .ok (.aload_n 3, 1) := dk_45 (dk_at dksX1_commonStretchByTrying_0 9 rfl rfl)
theorem dX1_commonStretchByTrying_10 : decode cX1_commonStretchByTrying 10 = .ok (.aload_n 0, 1) := dk_42 (dk_at dksX1_commonStretchByTrying_0 10 rfl rfl)
theorem dX1_commonStretchByTrying_11 : decode cX1_commonStretchByTrying 11 = .ok (.getfield 7, 3) := dk_180 0 7 (dk_at dksX1_commonStretchByTrying_0 11 rfl rfl)
theorem dX1_commonStretchByTrying_14 : decode cX1_commonStretchByTrying 14 = .ok (.iload_n 2, 1) := dk_28 (dk_at dksX1_commonStretchByTrying_0 14 rfl rfl)
theorem dX1_commonStretchByTrying_15 : decode cX1_commonStretchByTrying 15 = .ok (.invokevirtual 89, 3) := dk_182 0 89 (dk_at dksX1_commonStretchByTrying_0 15 rfl rfl)
theorem dX1_commonStretchByTrying_18 : decode cX1_commonStretchByTrying 18 = .ok (.invokevirtual 178, 3) := dk_182 0 178 (dk_at dksX1_commonStretchByTrying_0 18 rfl rfl)
theorem dX1_commonStretchByTrying_21 : decode cX1_commonStretchByTrying 21 = .ok (.ireturn, 1) := dk_172 (dk_at dksX1_commonStretchByTrying_0 21 rfl rfl)
def dkwX1_setTide_1 : List UInt8 := [172]
abbrev dktX1_setTide_1 : List UInt8 := dkwX1_setTide_1 ++ []
def dkwX1_setTide_0 : List UInt8 := [42, 187, 0, 24, 89, 16, 116, 5, 188, 10, 89, 3, 27, 79, 89, 4, 28, 79, 183, 0, 72, 182, 0, 75]
abbrev dktX1_setTide_0 : List UInt8 := dkwX1_setTide_0 ++ dktX1_setTide_1
theorem dksX1_setTide_0 : cX1_setTide.data.toList.drop 0 = dktX1_setTide_0 := by decide +kernel
theorem dksX1_setTide_1 : cX1_setTide.data.toList.drop 24 = dktX1_setTide_1 := dk_seg dksX1_setTide_0 24 rfl rfl
theorem dX1_setTide_0 : decode cX1_setTide 0 = .ok (.aload_n 0, 1) := dk_42 (dk_at dksX1_setTide_0 0 rfl rfl)
theorem dX1_setTide_1 : decode cX1_setTide 1 = .ok (.new 24, 3) := dk_187 0 24 (dk_at dksX1_setTide_0 1 rfl rfl)
theorem dX1_setTide_4 : decode cX1_setTide 4 = .ok (.dup, 1) := dk_89 (dk_at dksX1_setTide_0 4 rfl rfl)
theorem dX1_setTide_5 : decode cX1_setTide 5 = .ok (.bipush 116, 2) := dk_16 116 (dk_at dksX1_setTide_0 5 rfl rfl)
theorem dX1_setTide_7 : decode cX1_setTide 7 = .ok (.iconst 2, 1) := dk_5 (dk_at dksX1_setTide_0 7 rfl rfl)
theorem dX1_setTide_8 : decode cX1_setTide 8 = .ok (.newarray .int, 2) := dk_188_10 (dk_at dksX1_setTide_0 8 rfl rfl)
theorem dX1_setTide_10 : decode cX1_setTide 10 = .ok (.dup, 1) := dk_89 (dk_at dksX1_setTide_0 10 rfl rfl)
theorem dX1_setTide_11 : decode cX1_setTide 11 = .ok (.iconst 0, 1) := dk_3 (dk_at dksX1_setTide_0 11 rfl rfl)
theorem dX1_setTide_12 : decode cX1_setTide 12 = .ok (.iload_n 1, 1) := dk_27 (dk_at dksX1_setTide_0 12 rfl rfl)
theorem dX1_setTide_13 : decode cX1_setTide 13 = .ok (.iastore, 1) := dk_79 (dk_at dksX1_setTide_0 13 rfl rfl)
theorem dX1_setTide_14 : decode cX1_setTide 14 = .ok (.dup, 1) := dk_89 (dk_at dksX1_setTide_0 14 rfl rfl)
theorem dX1_setTide_15 : decode cX1_setTide 15 = .ok (.iconst 1, 1) := dk_4 (dk_at dksX1_setTide_0 15 rfl rfl)
theorem dX1_setTide_16 : decode cX1_setTide 16 = .ok (.iload_n 2, 1) := dk_28 (dk_at dksX1_setTide_0 16 rfl rfl)
theorem dX1_setTide_17 : decode cX1_setTide 17 = .ok (.iastore, 1) := dk_79 (dk_at dksX1_setTide_0 17 rfl rfl)
theorem dX1_setTide_18 : decode cX1_setTide 18 = .ok (.invokespecial 72, 3) := dk_183 0 72 (dk_at dksX1_setTide_0 18 rfl rfl)
theorem dX1_setTide_21 : decode cX1_setTide 21 = .ok (.invokevirtual 75, 3) := dk_182 0 75 (dk_at dksX1_setTide_0 21 rfl rfl)
theorem dX1_setTide_24 : decode cX1_setTide 24 = .ok (.ireturn, 1) := dk_172 (dk_at dksX1_setTide_1 0 rfl rfl)
def dkwX1_pass_0 : List UInt8 := [42, 187, 0, 24, 89, 16, 104, 4, 188, 10, 89, 3, 27, 79, 183, 0, 72, 182, 0, 75, 172]
abbrev dktX1_pass_0 : List UInt8 := dkwX1_pass_0 ++ []
theorem dksX1_pass_0 : cX1_pass.data.toList.drop 0 = dktX1_pass_0 := by decide +kernel
theorem dX1_pass_0 : decode cX1_pass 0 = .ok (.aload_n 0, 1) := dk_42 (dk_at dksX1_pass_0 0 rfl rfl)
theorem dX1_pass_1 : decode cX1_pass 1 = .ok (.new 24, 3) := dk_187 0 24 (dk_at dksX1_pass_0 1 rfl rfl)
theorem dX1_pass_4 : decode cX1_pass 4 = .ok (.dup, 1) := dk_89 (dk_at dksX1_pass_0 4 rfl rfl)
theorem dX1_pass_5 : decode cX1_pass 5 = .ok (.bipush 104, 2) := dk_16 104 (dk_at dksX1_pass_0 5 rfl rfl)
theorem dX1_pass_7 : decode cX1_pass 7 = .ok (.iconst 1, 1) := dk_4 (dk_at dksX1_pass_0 7 rfl rfl)
theorem dX1_pass_8 : decode cX1_pass 8 = .ok (.newarray .int, 2) := dk_188_10 (dk_at dksX1_pass_0 8 rfl rfl)
theorem dX1_pass_10 : decode cX1_pass 10 = .ok (.dup, 1) := dk_89 (dk_at dksX1_pass_0 10 rfl rfl)
theorem dX1_pass_11 : decode cX1_pass 11 = .ok (.iconst 0, 1) := dk_3 (dk_at dksX1_pass_0 11 rfl rfl)
theorem dX1_pass_12 : decode cX1_pass 12 = .ok (.iload_n 1, 1) := dk_27 (dk_at dksX1_pass_0 12 rfl rfl)
theorem dX1_pass_13 : decode cX1_pass 13 = .ok (.iastore, 1) := dk_79 (dk_at dksX1_pass_0 13 rfl rfl)
theorem dX1_pass_14 : decode cX1_pass 14 = .ok (.invokespecial 72, 3) := dk_183 0 72 (dk_at dksX1_pass_0 14 rfl rfl)
theorem dX1_pass_17 : decode cX1_pass 17 = .ok (.invokevirtual 75, 3) := dk_182 0 75 (dk_at dksX1_pass_0 17 rfl rfl)
theorem dX1_pass_20 : decode cX1_pass 20 = .ok (.ireturn, 1) := dk_172 (dk_at dksX1_pass_0 20 rfl rfl)
def dkwX1_tideAfter_1 : List UInt8 := [180, 0, 7, 180, 0, 181, 27, 96, 182, 0, 188, 172]
abbrev dktX1_tideAfter_1 : List UInt8 := dkwX1_tideAfter_1 ++ []
def dkwX1_tideAfter_0 : List UInt8 := [4, 188, 4, 89, 3, 27, 3, 17, 3, 231, 184, 0, 105, 84, 184, 0, 184, 42, 180, 0, 7, 42]
abbrev dktX1_tideAfter_0 : List UInt8 := dkwX1_tideAfter_0 ++ dktX1_tideAfter_1
theorem dksX1_tideAfter_0 : cX1_tideAfter.data.toList.drop 0 = dktX1_tideAfter_0 := by decide +kernel
theorem dksX1_tideAfter_1 : cX1_tideAfter.data.toList.drop 22 = dktX1_tideAfter_1 := dk_seg dksX1_tideAfter_0 22 rfl rfl
theorem dX1_tideAfter_0 : decode cX1_tideAfter 0 = .ok (.iconst 1, 1) := dk_4 (dk_at dksX1_tideAfter_0 0 rfl rfl)
theorem dX1_tideAfter_1 : decode cX1_tideAfter 1 = .ok (.newarray .boolean, 2) := dk_188_4 (dk_at dksX1_tideAfter_0 1 rfl rfl)
theorem dX1_tideAfter_3 : decode cX1_tideAfter 3 = .ok (.dup, 1) := dk_89 (dk_at dksX1_tideAfter_0 3 rfl rfl)
theorem dX1_tideAfter_4 : decode cX1_tideAfter 4 = .ok (.iconst 0, 1) := dk_3 (dk_at dksX1_tideAfter_0 4 rfl rfl)
theorem dX1_tideAfter_5 : decode cX1_tideAfter 5 = .ok (.iload_n 1, 1) := dk_27 (dk_at dksX1_tideAfter_0 5 rfl rfl)
theorem dX1_tideAfter_6 : decode cX1_tideAfter 6 = .ok (.iconst 0, 1) := dk_3 (dk_at dksX1_tideAfter_0 6 rfl rfl)
theorem dX1_tideAfter_7 : decode cX1_tideAfter 7 = .ok (.sipush 999, 3) := dk_17 3 231 (dk_at dksX1_tideAfter_0 7 rfl rfl)
theorem dX1_tideAfter_10 : decode cX1_tideAfter 10 = .ok (.invokestatic 105, 3) := dk_184 0 105 (dk_at dksX1_tideAfter_0 10 rfl rfl)
theorem dX1_tideAfter_13 : decode cX1_tideAfter 13 = .ok (.bastore, 1) := dk_84 (dk_at dksX1_tideAfter_0 13 rfl rfl)
theorem dX1_tideAfter_14 : decode cX1_tideAfter 14 = .ok (.invokestatic 184, 3) := dk_184 0 184 (dk_at dksX1_tideAfter_0 14 rfl rfl)
theorem dX1_tideAfter_17 : decode cX1_tideAfter 17 = .ok (.aload_n 0, 1) := dk_42 (dk_at dksX1_tideAfter_0 17 rfl rfl)
theorem dX1_tideAfter_18 : decode cX1_tideAfter 18 = .ok (.getfield 7, 3) := dk_180 0 7 (dk_at dksX1_tideAfter_0 18 rfl rfl)
theorem dX1_tideAfter_21 : decode cX1_tideAfter 21 = .ok (.aload_n 0, 1) := dk_42 (dk_at dksX1_tideAfter_0 21 rfl rfl)
theorem dX1_tideAfter_22 : decode cX1_tideAfter 22 = .ok (.getfield 7, 3) := dk_180 0 7 (dk_at dksX1_tideAfter_1 0 rfl rfl)
theorem dX1_tideAfter_25 : decode cX1_tideAfter 25 = .ok (.getfield 181, 3) := dk_180 0 181 (dk_at dksX1_tideAfter_1 3 rfl rfl)
theorem dX1_tideAfter_28 : decode cX1_tideAfter 28 = .ok (.iload_n 1, 1) := dk_27 (dk_at dksX1_tideAfter_1 6 rfl rfl)
theorem dX1_tideAfter_29 : decode cX1_tideAfter 29 = .ok (.iadd, 1) := dk_96 (dk_at dksX1_tideAfter_1 7 rfl rfl)
theorem dX1_tideAfter_30 : decode cX1_tideAfter 30 = .ok (.invokevirtual 188, 3) := dk_182 0 188 (dk_at dksX1_tideAfter_1 8 rfl rfl)
theorem dX1_tideAfter_33 : decode cX1_tideAfter 33 = .ok (.ireturn, 1) := dk_172 (dk_at dksX1_tideAfter_1 11 rfl rfl)
def dkwX1_hoursToLaunch_2 : List UInt8 := [183, 0, 169, 191]
abbrev dktX1_hoursToLaunch_2 : List UInt8 := dkwX1_hoursToLaunch_2 ++ []
def dkwX1_hoursToLaunch_1 : List UInt8 := [180, 0, 181, 29, 96, 182, 0, 188, 163, 0, 5, 29, 172, 132, 3, 1, 167, 255, 225, 187, 0, 167, 89]
abbrev dktX1_hoursToLaunch_1 : List UInt8 := dkwX1_hoursToLaunch_1 ++ dktX1_hoursToLaunch_2
def dkwX1_hoursToLaunch_0 : List UInt8 := [42, 27, 182, 0, 200, 61, 3, 62, 29, 16, 12, 162, 0, 31, 28, 42, 180, 0, 7, 42, 180, 0, 7]
abbrev dktX1_hoursToLaunch_0 : List UInt8 := dkwX1_hoursToLaunch_0 ++ dktX1_hoursToLaunch_1
theorem dksX1_hoursToLaunch_0 : cX1_hoursToLaunch.data.toList.drop 0 = dktX1_hoursToLaunch_0 := by decide +kernel
theorem dksX1_hoursToLaunch_1 : cX1_hoursToLaunch.data.toList.drop 23 = dktX1_hoursToLaunch_1 := dk_seg dksX1_hoursToLaunch_0 23 rfl rfl
theorem dksX1_hoursToLaunch_2 : cX1_hoursToLaunch.data.toList.drop 46 = dktX1_hoursToLaunch_2 := dk_seg dksX1_hoursToLaunch_1 23 rfl rfl
theorem dX1_hoursToLaunch_0 : decode cX1_hoursToLaunch 0 = .ok (.aload_n 0, 1) := dk_42 (dk_at dksX1_hoursToLaunch_0 0 rfl rfl)
theorem dX1_hoursToLaunch_1 : decode cX1_hoursToLaunch 1 = .ok (.iload_n 1, 1) := dk_27 (dk_at dksX1_hoursToLaunch_0 1 rfl rfl)
theorem dX1_hoursToLaunch_2 : decode cX1_hoursToLaunch 2 = .ok (.invokevirtual 200, 3) := dk_182 0 200 (dk_at dksX1_hoursToLaunch_0 2 rfl rfl)
theorem dX1_hoursToLaunch_5 : decode cX1_hoursToLaunch 5 = .ok (.istore_n 2, 1) := dk_61 (dk_at dksX1_hoursToLaunch_0 5 rfl rfl)
theorem dX1_hoursToLaunch_6 : decode cX1_hoursToLaunch 6 = .ok (.iconst 0, 1) := dk_3 (dk_at dksX1_hoursToLaunch_0 6 rfl rfl)
theorem dX1_hoursToLaunch_7 : decode cX1_hoursToLaunch 7 = .ok (.istore_n 3, 1) := dk_62 (dk_at dksX1_hoursToLaunch_0 7 rfl rfl)
theorem dX1_hoursToLaunch_8 : decode cX1_hoursToLaunch 8 = .ok (.iload_n 3, 1) := dk_29 (dk_at dksX1_hoursToLaunch_0 8 rfl rfl)
theorem dX1_hoursToLaunch_9 : decode cX1_hoursToLaunch 9 = .ok (.bipush 12, 2) := dk_16 12 (dk_at dksX1_hoursToLaunch_0 9 rfl rfl)
theorem dX1_hoursToLaunch_11 : decode cX1_hoursToLaunch 11 = .ok (.if_icmp .ge 31, 3) := dk_162 0 31 (dk_at dksX1_hoursToLaunch_0 11 rfl rfl)
theorem dX1_hoursToLaunch_14 : decode cX1_hoursToLaunch 14 = .ok (.iload_n 2, 1) := dk_28 (dk_at dksX1_hoursToLaunch_0 14 rfl rfl)
theorem dX1_hoursToLaunch_15 : decode cX1_hoursToLaunch 15 = .ok (.aload_n 0, 1) := dk_42 (dk_at dksX1_hoursToLaunch_0 15 rfl rfl)
theorem dX1_hoursToLaunch_16 : decode cX1_hoursToLaunch 16 = .ok (.getfield 7, 3) := dk_180 0 7 (dk_at dksX1_hoursToLaunch_0 16 rfl rfl)
theorem dX1_hoursToLaunch_19 : decode cX1_hoursToLaunch 19 = .ok (.aload_n 0, 1) := dk_42 (dk_at dksX1_hoursToLaunch_0 19 rfl rfl)
theorem dX1_hoursToLaunch_20 : decode cX1_hoursToLaunch 20 = .ok (.getfield 7, 3) := dk_180 0 7 (dk_at dksX1_hoursToLaunch_0 20 rfl rfl)
theorem dX1_hoursToLaunch_23 : decode cX1_hoursToLaunch 23 = .ok (.getfield 181, 3) := dk_180 0 181 (dk_at dksX1_hoursToLaunch_1 0 rfl rfl)
theorem dX1_hoursToLaunch_26 : decode cX1_hoursToLaunch 26 = .ok (.iload_n 3, 1) := dk_29 (dk_at dksX1_hoursToLaunch_1 3 rfl rfl)
theorem dX1_hoursToLaunch_27 : decode cX1_hoursToLaunch 27 = .ok (.iadd, 1) := dk_96 (dk_at dksX1_hoursToLaunch_1 4 rfl rfl)
theorem dX1_hoursToLaunch_28 : decode cX1_hoursToLaunch 28 = .ok (.invokevirtual 188, 3) := dk_182 0 188 (dk_at dksX1_hoursToLaunch_1 5 rfl rfl)
theorem dX1_hoursToLaunch_31 : decode cX1_hoursToLaunch 31 = .ok (.if_icmp .gt 5, 3) := dk_163 0 5 (dk_at dksX1_hoursToLaunch_1 8 rfl rfl)
theorem dX1_hoursToLaunch_34 : decode cX1_hoursToLaunch 34 = .ok (.iload_n 3, 1) := dk_29 (dk_at dksX1_hoursToLaunch_1 11 rfl rfl)
theorem dX1_hoursToLaunch_35 : decode cX1_hoursToLaunch 35 = .ok (.ireturn, 1) := dk_172 (dk_at dksX1_hoursToLaunch_1 12 rfl rfl)
theorem dX1_hoursToLaunch_36 : decode cX1_hoursToLaunch 36 = .ok (.iinc 3 1, 3) := dk_132 3 1 (dk_at dksX1_hoursToLaunch_1 13 rfl rfl)
theorem dX1_hoursToLaunch_39 : decode cX1_hoursToLaunch 39 = .ok (.goto (-31), 3) := dk_167 255 225 (dk_at dksX1_hoursToLaunch_1 16 rfl rfl)
theorem dX1_hoursToLaunch_42 : decode cX1_hoursToLaunch 42 = .ok (.new 167, 3) := dk_187 0 167 (dk_at dksX1_hoursToLaunch_1 19 rfl rfl)
theorem dX1_hoursToLaunch_45 : decode cX1_hoursToLaunch 45 = .ok (.dup, 1) := dk_89 (dk_at dksX1_hoursToLaunch_1 22 rfl rfl)
theorem dX1_hoursToLaunch_46 : decode cX1_hoursToLaunch 46 = .ok (.invokespecial 169, 3) := dk_183 0 169 (dk_at dksX1_hoursToLaunch_2 0 rfl rfl)
theorem dX1_hoursToLaunch_49 : decode cX1_hoursToLaunch 49 = .ok (.athrow, 1) := dk_191 (dk_at dksX1_hoursToLaunch_2 3 rfl rfl)
def dkwX1_launchDraught_1 : List UInt8 := [161, 0, 7, 4, 167, 0, 4, 3, 184, 0, 144, 44, 182, 0, 147, 184, 0, 150, 172]
abbrev dktX1_launchDraught_1 : List UInt8 := dkwX1_launchDraught_1 ++ []
def dkwX1_launchDraught_0 : List UInt8 := [42, 180, 0, 7, 27, 182, 0, 89, 77, 44, 178, 0, 191, 182, 0, 194, 184, 0, 198, 44, 182, 0, 104, 5]
abbrev dktX1_launchDraught_0 : List UInt8 := dkwX1_launchDraught_0 ++ dktX1_launchDraught_1
theorem dksX1_launchDraught_0 : cX1_launchDraught.data.toList.drop 0 = dktX1_launchDraught_0 := by decide +kernel
theorem dksX1_launchDraught_1 : cX1_launchDraught.data.toList.drop 24 = dktX1_launchDraught_1 := dk_seg dksX1_launchDraught_0 24 rfl rfl
theorem dX1_launchDraught_0 : decode cX1_launchDraught 0 = .ok (.aload_n 0, 1) := dk_42 (dk_at dksX1_launchDraught_0 0 rfl rfl)
theorem dX1_launchDraught_1 : decode cX1_launchDraught 1 = .ok (.getfield 7, 3) := dk_180 0 7 (dk_at dksX1_launchDraught_0 1 rfl rfl)
theorem dX1_launchDraught_4 : decode cX1_launchDraught 4 = .ok (.iload_n 1, 1) := dk_27 (dk_at dksX1_launchDraught_0 4 rfl rfl)
theorem dX1_launchDraught_5 : decode cX1_launchDraught 5 = .ok (.invokevirtual 89, 3) := dk_182 0 89 (dk_at dksX1_launchDraught_0 5 rfl rfl)
theorem dX1_launchDraught_8 : decode cX1_launchDraught 8 = .ok (.astore_n 2, 1) := dk_77 (dk_at dksX1_launchDraught_0 8 rfl rfl)
theorem dX1_launchDraught_9 : decode cX1_launchDraught 9 = .ok (.aload_n 2, 1) := dk_44 (dk_at dksX1_launchDraught_0 9 rfl rfl)
theorem dX1_launchDraught_10 : decode cX1_launchDraught 10 = .ok (.getstatic 191, 3) := dk_178 0 191 (dk_at dksX1_launchDraught_0 10 rfl rfl)
theorem dX1_launchDraught_13 : decode cX1_launchDraught 13 = .ok (.invokevirtual 194, 3) := dk_182 0 194 (dk_at dksX1_launchDraught_0 13 rfl rfl)
theorem dX1_launchDraught_16 : decode cX1_launchDraught 16 = .ok (.invokestatic 198, 3) := dk_184 0 198 (dk_at dksX1_launchDraught_0 16 rfl rfl)
theorem dX1_launchDraught_19 : decode cX1_launchDraught 19 = .ok (.aload_n 2, 1) := dk_44 (dk_at dksX1_launchDraught_0 19 rfl rfl)
theorem dX1_launchDraught_20 : decode cX1_launchDraught 20 = .ok (.invokevirtual 104, 3) := dk_182 0 104 (dk_at dksX1_launchDraught_0 20 rfl rfl)
theorem dX1_launchDraught_23 : decode cX1_launchDraught 23 = .ok (.iconst 2, 1) := dk_5 (dk_at dksX1_launchDraught_0 23 rfl rfl)
theorem dX1_launchDraught_24 : decode cX1_launchDraught 24 = .ok (.if_icmp .lt 7, 3) := dk_161 0 7 (dk_at dksX1_launchDraught_1 0 rfl rfl)
theorem dX1_launchDraught_27 : decode cX1_launchDraught 27 = .ok (.iconst 1, 1) := dk_4 (dk_at dksX1_launchDraught_1 3 rfl rfl)
theorem dX1_launchDraught_28 : decode cX1_launchDraught 28 = .ok (.goto 4, 3) := dk_167 0 4 (dk_at dksX1_launchDraught_1 4 rfl rfl)
theorem dX1_launchDraught_31 : decode cX1_launchDraught 31 = .ok (.iconst 0, 1) := dk_3 (dk_at dksX1_launchDraught_1 7 rfl rfl)
theorem dX1_launchDraught_32 : decode cX1_launchDraught 32 = .ok (.invokestatic 144, 3) := dk_184 0 144 (dk_at dksX1_launchDraught_1 8 rfl rfl)
theorem dX1_launchDraught_35 : decode cX1_launchDraught 35 = .ok (.aload_n 2, 1) := dk_44 (dk_at dksX1_launchDraught_1 11 rfl rfl)
theorem dX1_launchDraught_36 : decode cX1_launchDraught 36 = .ok (.invokevirtual 147, 3) := dk_182 0 147 (dk_at dksX1_launchDraught_1 12 rfl rfl)
theorem dX1_launchDraught_39 : decode cX1_launchDraught 39 = .ok (.invokestatic 150, 3) := dk_184 0 150 (dk_at dksX1_launchDraught_1 15 rfl rfl)
theorem dX1_launchDraught_42 : decode cX1_launchDraught 42 = .ok (.ireturn, 1) := dk_172 (dk_at dksX1_launchDraught_1 18 rfl rfl)
def dkwX1_hoursToLaunchByTides_3 : List UInt8 := [162, 0, 7, 4, 167, 0, 4, 3, 184, 0, 144, 29, 172]
abbrev dktX1_hoursToLaunchByTides_3 : List UInt8 := dkwX1_hoursToLaunchByTides_3 ++ []
def dkwX1_hoursToLaunchByTides_2 : List UInt8 := [16, 12, 96, 21, 4, 100, 16, 12, 112, 184, 0, 206, 62, 132, 5, 1, 167, 255, 216, 29, 16, 12]
abbrev dktX1_hoursToLaunchByTides_2 : List UInt8 := dkwX1_hoursToLaunchByTides_2 ++ dktX1_hoursToLaunchByTides_3
def dkwX1_hoursToLaunchByTides_1 : List UInt8 := [21, 5, 16, 12, 162, 0, 39, 42, 180, 0, 7, 180, 0, 203, 21, 5, 46, 28, 161, 0, 19, 29, 21, 5]
abbrev dktX1_hoursToLaunchByTides_1 : List UInt8 := dkwX1_hoursToLaunchByTides_1 ++ dktX1_hoursToLaunchByTides_2
def dkwX1_hoursToLaunchByTides_0 : List UInt8 := [42, 27, 182, 0, 200, 61, 16, 12, 62, 42, 180, 0, 7, 180, 0, 181, 16, 12, 112, 54, 4, 3, 54, 5]
abbrev dktX1_hoursToLaunchByTides_0 : List UInt8 := dkwX1_hoursToLaunchByTides_0 ++ dktX1_hoursToLaunchByTides_1
theorem dksX1_hoursToLaunchByTides_0 : cX1_hoursToLaunchByTides.data.toList.drop 0 = dktX1_hoursToLaunchByTides_0 := by decide +kernel
theorem dksX1_hoursToLaunchByTides_1 : cX1_hoursToLaunchByTides.data.toList.drop 24 = dktX1_hoursToLaunchByTides_1 := dk_seg dksX1_hoursToLaunchByTides_0 24 rfl rfl
theorem dksX1_hoursToLaunchByTides_2 : cX1_hoursToLaunchByTides.data.toList.drop 48 = dktX1_hoursToLaunchByTides_2 := dk_seg dksX1_hoursToLaunchByTides_1 24 rfl rfl
theorem dksX1_hoursToLaunchByTides_3 : cX1_hoursToLaunchByTides.data.toList.drop 70 = dktX1_hoursToLaunchByTides_3 := dk_seg dksX1_hoursToLaunchByTides_2 22 rfl rfl
theorem dX1_hoursToLaunchByTides_0 : decode cX1_hoursToLaunchByTides 0 = .ok (.aload_n 0, 1) := dk_42 (dk_at dksX1_hoursToLaunchByTides_0 0 rfl rfl)
theorem dX1_hoursToLaunchByTides_1 : decode cX1_hoursToLaunchByTides 1 = .ok (.iload_n 1, 1) := dk_27 (dk_at dksX1_hoursToLaunchByTides_0 1 rfl rfl)
theorem dX1_hoursToLaunchByTides_2 : decode cX1_hoursToLaunchByTides 2 = .ok (.invokevirtual 200, 3) := dk_182 0 200 (dk_at dksX1_hoursToLaunchByTides_0 2 rfl rfl)
theorem dX1_hoursToLaunchByTides_5 : decode cX1_hoursToLaunchByTides 5 = .ok (.istore_n 2, 1) := dk_61 (dk_at dksX1_hoursToLaunchByTides_0 5 rfl rfl)
theorem dX1_hoursToLaunchByTides_6 : decode cX1_hoursToLaunchByTides 6 = .ok (.bipush 12, 2) := dk_16 12 (dk_at dksX1_hoursToLaunchByTides_0 6 rfl rfl)
theorem dX1_hoursToLaunchByTides_8 : decode cX1_hoursToLaunchByTides 8 = .ok (.istore_n 3, 1) := dk_62 (dk_at dksX1_hoursToLaunchByTides_0 8 rfl rfl)
theorem dX1_hoursToLaunchByTides_9 : decode cX1_hoursToLaunchByTides 9 = .ok (.aload_n 0, 1) := dk_42 (dk_at dksX1_hoursToLaunchByTides_0 9 rfl rfl)
theorem dX1_hoursToLaunchByTides_10 : decode cX1_hoursToLaunchByTides 10 = .ok (.getfield 7, 3) := dk_180 0 7 (dk_at dksX1_hoursToLaunchByTides_0 10 rfl rfl)
theorem dX1_hoursToLaunchByTides_13 : decode cX1_hoursToLaunchByTides 13 = .ok (.getfield 181, 3) := dk_180 0 181 (dk_at dksX1_hoursToLaunchByTides_0 13 rfl rfl)
theorem dX1_hoursToLaunchByTides_16 : decode cX1_hoursToLaunchByTides 16 = .ok (.bipush 12, 2) := dk_16 12 (dk_at dksX1_hoursToLaunchByTides_0 16 rfl rfl)
theorem dX1_hoursToLaunchByTides_18 : decode cX1_hoursToLaunchByTides 18 = .ok (.irem, 1) := dk_112 (dk_at dksX1_hoursToLaunchByTides_0 18 rfl rfl)
theorem dX1_hoursToLaunchByTides_19 : decode cX1_hoursToLaunchByTides 19 = .ok (.istore 4, 2) := dk_54 4 (dk_at dksX1_hoursToLaunchByTides_0 19 rfl rfl)
theorem dX1_hoursToLaunchByTides_21 : decode cX1_hoursToLaunchByTides 21 = .ok (.iconst 0, 1) := dk_3 (dk_at dksX1_hoursToLaunchByTides_0 21 rfl rfl)
theorem dX1_hoursToLaunchByTides_22 : decode cX1_hoursToLaunchByTides 22 = .ok (.istore 5, 2) := dk_54 5 (dk_at dksX1_hoursToLaunchByTides_0 22 rfl rfl)
theorem dX1_hoursToLaunchByTides_24 : decode cX1_hoursToLaunchByTides 24 = .ok (.iload 5, 2) := dk_21 5 (dk_at dksX1_hoursToLaunchByTides_1 0 rfl rfl)
theorem dX1_hoursToLaunchByTides_26 : decode cX1_hoursToLaunchByTides 26 = .ok (.bipush 12, 2) := dk_16 12 (dk_at dksX1_hoursToLaunchByTides_1 2 rfl rfl)
theorem dX1_hoursToLaunchByTides_28 : decode cX1_hoursToLaunchByTides 28 = .ok (.if_icmp .ge 39, 3) := dk_162 0 39 (dk_at dksX1_hoursToLaunchByTides_1 4 rfl rfl)
theorem dX1_hoursToLaunchByTides_31 : decode cX1_hoursToLaunchByTides 31 = .ok (.aload_n 0, 1) := dk_42 (dk_at dksX1_hoursToLaunchByTides_1 7 rfl rfl)
theorem dX1_hoursToLaunchByTides_32 : decode cX1_hoursToLaunchByTides 32 = .ok (.getfield 7, 3) := dk_180 0 7 (dk_at dksX1_hoursToLaunchByTides_1 8 rfl rfl)
theorem dX1_hoursToLaunchByTides_35 : decode cX1_hoursToLaunchByTides 35 = .ok (.getfield 203, 3) := dk_180 0 203 (dk_at dksX1_hoursToLaunchByTides_1 11 rfl rfl)
theorem dX1_hoursToLaunchByTides_38 : decode cX1_hoursToLaunchByTides 38 = .ok (.iload 5, 2) := dk_21 5 (dk_at dksX1_hoursToLaunchByTides_1 14 rfl rfl)
theorem dX1_hoursToLaunchByTides_40 : decode cX1_hoursToLaunchByTides 40 = .ok (.iaload, 1) := dk_46 (dk_at dksX1_hoursToLaunchByTides_1 16 rfl rfl)
theorem dX1_hoursToLaunchByTides_41 : decode cX1_hoursToLaunchByTides 41 = .ok (.iload_n 2, 1) := dk_28 (dk_at dksX1_hoursToLaunchByTides_1 17 rfl rfl)
theorem dX1_hoursToLaunchByTides_42 : decode cX1_hoursToLaunchByTides 42 = .ok (.if_icmp .lt 19, 3) := dk_161 0 19 (dk_at dksX1_hoursToLaunchByTides_1 18 rfl rfl)
theorem dX1_hoursToLaunchByTides_45 : decode cX1_hoursToLaunchByTides 45 = .ok (.iload_n 3, 1) := dk_29 (dk_at dksX1_hoursToLaunchByTides_1 21 rfl rfl)
theorem dX1_hoursToLaunchByTides_46 : decode cX1_hoursToLaunchByTides 46 = .ok (.iload 5, 2) := dk_21 5 (dk_at dksX1_hoursToLaunchByTides_1 22 rfl rfl)
theorem dX1_hoursToLaunchByTides_48 : decode cX1_hoursToLaunchByTides 48 = .ok (.bipush 12, 2) := dk_16 12 (dk_at dksX1_hoursToLaunchByTides_2 0 rfl rfl)
theorem dX1_hoursToLaunchByTides_50 : decode cX1_hoursToLaunchByTides 50 = .ok (.iadd, 1) := dk_96 (dk_at dksX1_hoursToLaunchByTides_2 2 rfl rfl)
theorem dX1_hoursToLaunchByTides_51 : decode cX1_hoursToLaunchByTides 51 = .ok (.iload 4, 2) := dk_21 4 (dk_at dksX1_hoursToLaunchByTides_2 3 rfl rfl)
theorem dX1_hoursToLaunchByTides_53 : decode cX1_hoursToLaunchByTides 53 = .ok (.isub, 1) := dk_100 (dk_at dksX1_hoursToLaunchByTides_2 5 rfl rfl)
theorem dX1_hoursToLaunchByTides_54 : decode cX1_hoursToLaunchByTides 54 = .ok (.bipush 12, 2) := dk_16 12 (dk_at dksX1_hoursToLaunchByTides_2 6 rfl rfl)
theorem dX1_hoursToLaunchByTides_56 : decode cX1_hoursToLaunchByTides 56 = .ok (.irem, 1) := dk_112 (dk_at dksX1_hoursToLaunchByTides_2 8 rfl rfl)
theorem dX1_hoursToLaunchByTides_57 : decode cX1_hoursToLaunchByTides 57 = .ok (.invokestatic 206, 3) := dk_184 0 206 (dk_at dksX1_hoursToLaunchByTides_2 9 rfl rfl)
theorem dX1_hoursToLaunchByTides_60 : decode cX1_hoursToLaunchByTides 60 = .ok (.istore_n 3, 1) := dk_62 (dk_at dksX1_hoursToLaunchByTides_2 12 rfl rfl)
theorem dX1_hoursToLaunchByTides_61 : decode cX1_hoursToLaunchByTides 61 = .ok (.iinc 5 1, 3) := dk_132 5 1 (dk_at dksX1_hoursToLaunchByTides_2 13 rfl rfl)
theorem dX1_hoursToLaunchByTides_64 : decode cX1_hoursToLaunchByTides 64 = .ok (.goto (-40), 3) := dk_167 255 216 (dk_at dksX1_hoursToLaunchByTides_2 16 rfl rfl)
theorem dX1_hoursToLaunchByTides_67 : decode cX1_hoursToLaunchByTides 67 = .ok (.iload_n 3, 1) := dk_29 (dk_at dksX1_hoursToLaunchByTides_2 19 rfl rfl)
theorem dX1_hoursToLaunchByTides_68 : decode cX1_hoursToLaunchByTides 68 = .ok (.bipush 12, 2) := dk_16 12 (dk_at dksX1_hoursToLaunchByTides_2 20 rfl rfl)
theorem dX1_hoursToLaunchByTides_70 : decode cX1_hoursToLaunchByTides 70 = .ok (.if_icmp .ge 7, 3) := dk_162 0 7 (dk_at dksX1_hoursToLaunchByTides_3 0 rfl rfl)
theorem dX1_hoursToLaunchByTides_73 : decode cX1_hoursToLaunchByTides 73 = .ok (.iconst 1, 1) := dk_4 (dk_at dksX1_hoursToLaunchByTides_3 3 rfl rfl)
theorem dX1_hoursToLaunchByTides_74 : decode cX1_hoursToLaunchByTides 74 = .ok (.goto 4, 3) := dk_167 0 4 (dk_at dksX1_hoursToLaunchByTides_3 4 rfl rfl)
theorem dX1_hoursToLaunchByTides_77 : decode cX1_hoursToLaunchByTides 77 = .ok (.iconst 0, 1) := dk_3 (dk_at dksX1_hoursToLaunchByTides_3 7 rfl rfl)
theorem dX1_hoursToLaunchByTides_78 : decode cX1_hoursToLaunchByTides 78 = .ok (.invokestatic 144, 3) := dk_184 0 144 (dk_at dksX1_hoursToLaunchByTides_3 8 rfl rfl)
theorem dX1_hoursToLaunchByTides_81 : decode cX1_hoursToLaunchByTides 81 = .ok (.iload_n 3, 1) := dk_29 (dk_at dksX1_hoursToLaunchByTides_3 11 rfl rfl)
theorem dX1_hoursToLaunchByTides_82 : decode cX1_hoursToLaunchByTides 82 = .ok (.ireturn, 1) := dk_172 (dk_at dksX1_hoursToLaunchByTides_3 12 rfl rfl)
def dkwX1_hoursToSinking_2 : List UInt8 := [182, 0, 218, 153, 0, 5, 29, 172, 132, 3, 1, 167, 255, 228, 187, 0, 167, 89, 183, 0, 169, 191]
abbrev dktX1_hoursToSinking_2 : List UInt8 := dkwX1_hoursToSinking_2 ++ []
def dkwX1_hoursToSinking_1 : List UInt8 := [184, 0, 198, 4, 62, 29, 17, 1, 244, 163, 0, 27, 44, 42, 180, 0, 7, 180, 0, 181, 29, 96]
abbrev dktX1_hoursToSinking_1 : List UInt8 := dkwX1_hoursToSinking_1 ++ dktX1_hoursToSinking_2
def dkwX1_hoursToSinking_0 : List UInt8 := [187, 0, 94, 89, 42, 180, 0, 7, 27, 182, 0, 89, 183, 0, 212, 77, 44, 178, 0, 215, 182, 0, 194]
abbrev dktX1_hoursToSinking_0 : List UInt8 := dkwX1_hoursToSinking_0 ++ dktX1_hoursToSinking_1
theorem dksX1_hoursToSinking_0 : cX1_hoursToSinking.data.toList.drop 0 = dktX1_hoursToSinking_0 := by decide +kernel
theorem dksX1_hoursToSinking_1 : cX1_hoursToSinking.data.toList.drop 23 = dktX1_hoursToSinking_1 := dk_seg dksX1_hoursToSinking_0 23 rfl rfl
theorem dksX1_hoursToSinking_2 : cX1_hoursToSinking.data.toList.drop 45 = dktX1_hoursToSinking_2 := dk_seg dksX1_hoursToSinking_1 22 rfl rfl
theorem dX1_hoursToSinking_0 : decode cX1_hoursToSinking 0 = .ok (.new 94, 3) := dk_187 0 94 (dk_at dksX1_hoursToSinking_0 0 rfl rfl)
theorem dX1_hoursToSinking_3 : decode cX1_hoursToSinking 3 = .ok (.dup, 1) := dk_89 (dk_at dksX1_hoursToSinking_0 3 rfl rfl)
theorem dX1_hoursToSinking_4 : decode cX1_hoursToSinking 4 = .ok (.aload_n 0, 1) := dk_42 (dk_at dksX1_hoursToSinking_0 4 rfl rfl)
theorem dX1_hoursToSinking_5 : decode cX1_hoursToSinking 5 = .ok (.getfield 7, 3) := dk_180 0 7 (dk_at dksX1_hoursToSinking_0 5 rfl rfl)
theorem dX1_hoursToSinking_8 : decode cX1_hoursToSinking 8 = .ok (.iload_n 1, 1) := dk_27 (dk_at dksX1_hoursToSinking_0 8 rfl rfl)
theorem dX1_hoursToSinking_9 : decode cX1_hoursToSinking 9 = .ok (.invokevirtual 89, 3) := dk_182 0 89 (dk_at dksX1_hoursToSinking_0 9 rfl rfl)
theorem dX1_hoursToSinking_12 : decode cX1_hoursToSinking 12 = .ok (.invokespecial 212, 3) := dk_183 0 212 (dk_at dksX1_hoursToSinking_0 12 rfl rfl)
theorem dX1_hoursToSinking_15 : decode cX1_hoursToSinking 15 = .ok (.astore_n 2, 1) := dk_77 (dk_at dksX1_hoursToSinking_0 15 rfl rfl)
theorem dX1_hoursToSinking_16 : decode cX1_hoursToSinking 16 = .ok (.aload_n 2, 1) := dk_44 (dk_at dksX1_hoursToSinking_0 16 rfl rfl)
theorem dX1_hoursToSinking_17 : decode cX1_hoursToSinking 17 = .ok (.getstatic 215, 3) := dk_178 0 215 (dk_at dksX1_hoursToSinking_0 17 rfl rfl)
theorem dX1_hoursToSinking_20 : decode cX1_hoursToSinking 20 = .ok (.invokevirtual 194, 3) := dk_182 0 194 (dk_at dksX1_hoursToSinking_0 20 rfl rfl)
theorem dX1_hoursToSinking_23 : decode cX1_hoursToSinking 23 = .ok (.invokestatic 198, 3) := dk_184 0 198 (dk_at dksX1_hoursToSinking_1 0 rfl rfl)
theorem dX1_hoursToSinking_26 : decode cX1_hoursToSinking 26 = .ok (.iconst 1, 1) := dk_4 (dk_at dksX1_hoursToSinking_1 3 rfl rfl)
theorem dX1_hoursToSinking_27 : decode cX1_hoursToSinking 27 = .ok (.istore_n 3, 1) := dk_62 (dk_at dksX1_hoursToSinking_1 4 rfl rfl)
theorem dX1_hoursToSinking_28 : decode cX1_hoursToSinking 28 = .ok (.iload_n 3, 1) := dk_29 (dk_at dksX1_hoursToSinking_1 5 rfl rfl)
theorem dX1_hoursToSinking_29 : decode cX1_hoursToSinking 29 = .ok (.sipush 500, 3) := dk_17 1 244 (dk_at dksX1_hoursToSinking_1 6 rfl rfl)
theorem dX1_hoursToSinking_32 : decode cX1_hoursToSinking 32 = .ok (.if_icmp .gt 27, 3) := dk_163 0 27 (dk_at dksX1_hoursToSinking_1 9 rfl rfl)
theorem dX1_hoursToSinking_35 : decode cX1_hoursToSinking 35 = .ok (.aload_n 2, 1) := dk_44 (dk_at dksX1_hoursToSinking_1 12 rfl rfl)
theorem dX1_hoursToSinking_36 : decode cX1_hoursToSinking 36 = .ok (.aload_n 0, 1) := dk_42 (dk_at dksX1_hoursToSinking_1 13 rfl rfl)
theorem dX1_hoursToSinking_37 : decode cX1_hoursToSinking 37 = .ok (.getfield 7, 3) := dk_180 0 7 (dk_at dksX1_hoursToSinking_1 14 rfl rfl)
theorem dX1_hoursToSinking_40 : decode cX1_hoursToSinking 40 = .ok (.getfield 181, 3) := dk_180 0 181 (dk_at dksX1_hoursToSinking_1 17 rfl rfl)
theorem dX1_hoursToSinking_43 : decode cX1_hoursToSinking 43 = .ok (.iload_n 3, 1) := dk_29 (dk_at dksX1_hoursToSinking_1 20 rfl rfl)
theorem dX1_hoursToSinking_44 : decode cX1_hoursToSinking 44 = .ok (.iadd, 1) := dk_96 (dk_at dksX1_hoursToSinking_1 21 rfl rfl)
theorem dX1_hoursToSinking_45 : decode cX1_hoursToSinking 45 = .ok (.invokevirtual 218, 3) := dk_182 0 218 (dk_at dksX1_hoursToSinking_2 0 rfl rfl)
theorem dX1_hoursToSinking_48 : decode cX1_hoursToSinking 48 = .ok (.ifCond .eq 5, 3) := dk_153 0 5 (dk_at dksX1_hoursToSinking_2 3 rfl rfl)
theorem dX1_hoursToSinking_51 : decode cX1_hoursToSinking 51 = .ok (.iload_n 3, 1) := dk_29 (dk_at dksX1_hoursToSinking_2 6 rfl rfl)
theorem dX1_hoursToSinking_52 : decode cX1_hoursToSinking 52 = .ok (.ireturn, 1) := dk_172 (dk_at dksX1_hoursToSinking_2 7 rfl rfl)
theorem dX1_hoursToSinking_53 : decode cX1_hoursToSinking 53 = .ok (.iinc 3 1, 3) := dk_132 3 1 (dk_at dksX1_hoursToSinking_2 8 rfl rfl)
theorem dX1_hoursToSinking_56 : decode cX1_hoursToSinking 56 = .ok (.goto (-28), 3) := dk_167 255 228 (dk_at dksX1_hoursToSinking_2 11 rfl rfl)
theorem dX1_hoursToSinking_59 : decode cX1_hoursToSinking 59 = .ok (.new 167, 3) := dk_187 0 167 (dk_at dksX1_hoursToSinking_2 14 rfl rfl)
theorem dX1_hoursToSinking_62 : decode cX1_hoursToSinking 62 = .ok (.dup, 1) := dk_89 (dk_at dksX1_hoursToSinking_2 17 rfl rfl)
theorem dX1_hoursToSinking_63 : decode cX1_hoursToSinking 63 = .ok (.invokespecial 169, 3) := dk_183 0 169 (dk_at dksX1_hoursToSinking_2 18 rfl rfl)
theorem dX1_hoursToSinking_66 : decode cX1_hoursToSinking 66 = .ok (.athrow, 1) := dk_191 (dk_at dksX1_hoursToSinking_2 21 rfl rfl)
def dkwX1_setSlip_1 : List UInt8 := [172]
abbrev dktX1_setSlip_1 : List UInt8 := dkwX1_setSlip_1 ++ []
def dkwX1_setSlip_0 : List UInt8 := [42, 187, 0, 24, 89, 16, 115, 5, 188, 10, 89, 3, 27, 79, 89, 4, 28, 79, 183, 0, 72, 182, 0, 75]
abbrev dktX1_setSlip_0 : List UInt8 := dkwX1_setSlip_0 ++ dktX1_setSlip_1
theorem dksX1_setSlip_0 : cX1_setSlip.data.toList.drop 0 = dktX1_setSlip_0 := by decide +kernel
theorem dksX1_setSlip_1 : cX1_setSlip.data.toList.drop 24 = dktX1_setSlip_1 := dk_seg dksX1_setSlip_0 24 rfl rfl
theorem dX1_setSlip_0 : decode cX1_setSlip 0 = .ok (.aload_n 0, 1) := dk_42 (dk_at dksX1_setSlip_0 0 rfl rfl)
theorem dX1_setSlip_1 : decode cX1_setSlip 1 = .ok (.new 24, 3) := dk_187 0 24 (dk_at dksX1_setSlip_0 1 rfl rfl)
theorem dX1_setSlip_4 : decode cX1_setSlip 4 = .ok (.dup, 1) := dk_89 (dk_at dksX1_setSlip_0 4 rfl rfl)
theorem dX1_setSlip_5 : decode cX1_setSlip 5 = .ok (.bipush 115, 2) := dk_16 115 (dk_at dksX1_setSlip_0 5 rfl rfl)
theorem dX1_setSlip_7 : decode cX1_setSlip 7 = .ok (.iconst 2, 1) := dk_5 (dk_at dksX1_setSlip_0 7 rfl rfl)
theorem dX1_setSlip_8 : decode cX1_setSlip 8 = .ok (.newarray .int, 2) := dk_188_10 (dk_at dksX1_setSlip_0 8 rfl rfl)
theorem dX1_setSlip_10 : decode cX1_setSlip 10 = .ok (.dup, 1) := dk_89 (dk_at dksX1_setSlip_0 10 rfl rfl)
theorem dX1_setSlip_11 : decode cX1_setSlip 11 = .ok (.iconst 0, 1) := dk_3 (dk_at dksX1_setSlip_0 11 rfl rfl)
theorem dX1_setSlip_12 : decode cX1_setSlip 12 = .ok (.iload_n 1, 1) := dk_27 (dk_at dksX1_setSlip_0 12 rfl rfl)
theorem dX1_setSlip_13 : decode cX1_setSlip 13 = .ok (.iastore, 1) := dk_79 (dk_at dksX1_setSlip_0 13 rfl rfl)
theorem dX1_setSlip_14 : decode cX1_setSlip 14 = .ok (.dup, 1) := dk_89 (dk_at dksX1_setSlip_0 14 rfl rfl)
theorem dX1_setSlip_15 : decode cX1_setSlip 15 = .ok (.iconst 1, 1) := dk_4 (dk_at dksX1_setSlip_0 15 rfl rfl)
theorem dX1_setSlip_16 : decode cX1_setSlip 16 = .ok (.iload_n 2, 1) := dk_28 (dk_at dksX1_setSlip_0 16 rfl rfl)
theorem dX1_setSlip_17 : decode cX1_setSlip 17 = .ok (.iastore, 1) := dk_79 (dk_at dksX1_setSlip_0 17 rfl rfl)
theorem dX1_setSlip_18 : decode cX1_setSlip 18 = .ok (.invokespecial 72, 3) := dk_183 0 72 (dk_at dksX1_setSlip_0 18 rfl rfl)
theorem dX1_setSlip_21 : decode cX1_setSlip 21 = .ok (.invokevirtual 75, 3) := dk_182 0 75 (dk_at dksX1_setSlip_0 21 rfl rfl)
theorem dX1_setSlip_24 : decode cX1_setSlip 24 = .ok (.ireturn, 1) := dk_172 (dk_at dksX1_setSlip_1 0 rfl rfl)
def dkwX1_slipLength_1 : List UInt8 := [172]
abbrev dktX1_slipLength_1 : List UInt8 := dkwX1_slipLength_1 ++ []
def dkwX1_slipLength_0 : List UInt8 := [4, 188, 4, 89, 3, 27, 3, 6, 184, 0, 105, 84, 184, 0, 184, 42, 180, 0, 7, 180, 0, 222, 27, 46]
abbrev dktX1_slipLength_0 : List UInt8 := dkwX1_slipLength_0 ++ dktX1_slipLength_1
theorem dksX1_slipLength_0 : cX1_slipLength.data.toList.drop 0 = dktX1_slipLength_0 := by decide +kernel
theorem dksX1_slipLength_1 : cX1_slipLength.data.toList.drop 24 = dktX1_slipLength_1 := dk_seg dksX1_slipLength_0 24 rfl rfl
theorem dX1_slipLength_0 : decode cX1_slipLength 0 = .ok (.iconst 1, 1) := dk_4 (dk_at dksX1_slipLength_0 0 rfl rfl)
theorem dX1_slipLength_1 : decode cX1_slipLength 1 = .ok (.newarray .boolean, 2) := dk_188_4 (dk_at dksX1_slipLength_0 1 rfl rfl)
theorem dX1_slipLength_3 : decode cX1_slipLength 3 = .ok (.dup, 1) := dk_89 (dk_at dksX1_slipLength_0 3 rfl rfl)
theorem dX1_slipLength_4 : decode cX1_slipLength 4 = .ok (.iconst 0, 1) := dk_3 (dk_at dksX1_slipLength_0 4 rfl rfl)
theorem dX1_slipLength_5 : decode cX1_slipLength 5 = .ok (.iload_n 1, 1) := dk_27 (dk_at dksX1_slipLength_0 5 rfl rfl)
theorem dX1_slipLength_6 : decode cX1_slipLength 6 = .ok (.iconst 0, 1) := dk_3 (dk_at dksX1_slipLength_0 6 rfl rfl)
theorem dX1_slipLength_7 : decode cX1_slipLength 7 = .ok (.iconst 3, 1) := dk_6 (dk_at dksX1_slipLength_0 7 rfl rfl)
theorem dX1_slipLength_8 : decode cX1_slipLength 8 = .ok (.invokestatic 105, 3) := dk_184 0 105 (dk_at dksX1_slipLength_0 8 rfl rfl)
theorem dX1_slipLength_11 : decode cX1_slipLength 11 = .ok (.bastore, 1) := dk_84 (dk_at dksX1_slipLength_0 11 rfl rfl)
theorem dX1_slipLength_12 : decode cX1_slipLength 12 = .ok (.invokestatic 184, 3) := dk_184 0 184 (dk_at dksX1_slipLength_0 12 rfl rfl)
theorem dX1_slipLength_15 : decode cX1_slipLength 15 = .ok (.aload_n 0, 1) := dk_42 (dk_at dksX1_slipLength_0 15 rfl rfl)
theorem dX1_slipLength_16 : decode cX1_slipLength 16 = .ok (.getfield 7, 3) := dk_180 0 7 (dk_at dksX1_slipLength_0 16 rfl rfl)
theorem dX1_slipLength_19 : decode cX1_slipLength 19 = .ok (.getfield 222, 3) := dk_180 0 222 (dk_at dksX1_slipLength_0 19 rfl rfl)
theorem dX1_slipLength_22 : decode cX1_slipLength 22 = .ok (.iload_n 1, 1) := dk_27 (dk_at dksX1_slipLength_0 22 rfl rfl)
theorem dX1_slipLength_23 : decode cX1_slipLength 23 = .ok (.iaload, 1) := dk_46 (dk_at dksX1_slipLength_0 23 rfl rfl)
theorem dX1_slipLength_24 : decode cX1_slipLength 24 = .ok (.ireturn, 1) := dk_172 (dk_at dksX1_slipLength_1 0 rfl rfl)
def dkwX1_addOrder_1 : List UInt8 := [183, 0, 72, 182, 0, 75, 172]
abbrev dktX1_addOrder_1 : List UInt8 := dkwX1_addOrder_1 ++ []
def dkwX1_addOrder_0 : List UInt8 := [42, 187, 0, 24, 89, 16, 111, 6, 188, 10, 89, 3, 27, 79, 89, 4, 28, 79, 89, 5, 29, 79]
abbrev dktX1_addOrder_0 : List UInt8 := dkwX1_addOrder_0 ++ dktX1_addOrder_1
theorem dksX1_addOrder_0 : cX1_addOrder.data.toList.drop 0 = dktX1_addOrder_0 := by decide +kernel
theorem dksX1_addOrder_1 : cX1_addOrder.data.toList.drop 22 = dktX1_addOrder_1 := dk_seg dksX1_addOrder_0 22 rfl rfl
theorem dX1_addOrder_0 : decode cX1_addOrder 0 = .ok (.aload_n 0, 1) := dk_42 (dk_at dksX1_addOrder_0 0 rfl rfl)
theorem dX1_addOrder_1 : decode cX1_addOrder 1 = .ok (.new 24, 3) := dk_187 0 24 (dk_at dksX1_addOrder_0 1 rfl rfl)
theorem dX1_addOrder_4 : decode cX1_addOrder 4 = .ok (.dup, 1) := dk_89 (dk_at dksX1_addOrder_0 4 rfl rfl)
theorem dX1_addOrder_5 : decode cX1_addOrder 5 = .ok (.bipush 111, 2) := dk_16 111 (dk_at dksX1_addOrder_0 5 rfl rfl)
theorem dX1_addOrder_7 : decode cX1_addOrder 7 = .ok (.iconst 3, 1) := dk_6 (dk_at dksX1_addOrder_0 7 rfl rfl)
theorem dX1_addOrder_8 : decode cX1_addOrder 8 = .ok (.newarray .int, 2) := dk_188_10 (dk_at dksX1_addOrder_0 8 rfl rfl)
theorem dX1_addOrder_10 : decode cX1_addOrder 10 = .ok (.dup, 1) := dk_89 (dk_at dksX1_addOrder_0 10 rfl rfl)
theorem dX1_addOrder_11 : decode cX1_addOrder 11 = .ok (.iconst 0, 1) := dk_3 (dk_at dksX1_addOrder_0 11 rfl rfl)
theorem dX1_addOrder_12 : decode cX1_addOrder 12 = .ok (.iload_n 1, 1) := dk_27 (dk_at dksX1_addOrder_0 12 rfl rfl)
theorem dX1_addOrder_13 : decode cX1_addOrder 13 = .ok (.iastore, 1) := dk_79 (dk_at dksX1_addOrder_0 13 rfl rfl)
theorem dX1_addOrder_14 : decode cX1_addOrder 14 = .ok (.dup, 1) := dk_89 (dk_at dksX1_addOrder_0 14 rfl rfl)
theorem dX1_addOrder_15 : decode cX1_addOrder 15 = .ok (.iconst 1, 1) := dk_4 (dk_at dksX1_addOrder_0 15 rfl rfl)
theorem dX1_addOrder_16 : decode cX1_addOrder 16 = .ok (.iload_n 2, 1) := dk_28 (dk_at dksX1_addOrder_0 16 rfl rfl)
theorem dX1_addOrder_17 : decode cX1_addOrder 17 = .ok (.iastore, 1) := dk_79 (dk_at dksX1_addOrder_0 17 rfl rfl)
theorem dX1_addOrder_18 : decode cX1_addOrder 18 = .ok (.dup, 1) := dk_89 (dk_at dksX1_addOrder_0 18 rfl rfl)
theorem dX1_addOrder_19 : decode cX1_addOrder 19 = .ok (.iconst 2, 1) := dk_5 (dk_at dksX1_addOrder_0 19 rfl rfl)
theorem dX1_addOrder_20 : decode cX1_addOrder 20 = .ok (.iload_n 3, 1) := dk_29 (dk_at dksX1_addOrder_0 20 rfl rfl)
theorem dX1_addOrder_21 : decode cX1_addOrder 21 = .ok (.iastore, 1) := dk_79 (dk_at dksX1_addOrder_0 21 rfl rfl)
theorem dX1_addOrder_22 : decode cX1_addOrder 22 = .ok (.invokespecial 72, 3) := dk_183 0 72 (dk_at dksX1_addOrder_1 0 rfl rfl)
theorem dX1_addOrder_25 : decode cX1_addOrder 25 = .ok (.invokevirtual 75, 3) := dk_182 0 75 (dk_at dksX1_addOrder_1 3 rfl rfl)
theorem dX1_addOrder_28 : decode cX1_addOrder 28 = .ok (.ireturn, 1) := dk_172 (dk_at dksX1_addOrder_1 6 rfl rfl)
def dkwX1_deliver_1 : List UInt8 := [172]
abbrev dktX1_deliver_1 : List UInt8 := dkwX1_deliver_1 ++ []
def dkwX1_deliver_0 : List UInt8 := [42, 187, 0, 24, 89, 16, 100, 5, 188, 10, 89, 3, 27, 79, 89, 4, 28, 79, 183, 0, 72, 182, 0, 75]
abbrev dktX1_deliver_0 : List UInt8 := dkwX1_deliver_0 ++ dktX1_deliver_1
theorem dksX1_deliver_0 : cX1_deliver.data.toList.drop 0 = dktX1_deliver_0 := by decide +kernel
theorem dksX1_deliver_1 : cX1_deliver.data.toList.drop 24 = dktX1_deliver_1 := dk_seg dksX1_deliver_0 24 rfl rfl
theorem dX1_deliver_0 : decode cX1_deliver 0 = .ok (.aload_n 0, 1) := dk_42 (dk_at dksX1_deliver_0 0 rfl rfl)
theorem dX1_deliver_1 : decode cX1_deliver 1 = .ok (.new 24, 3) := dk_187 0 24 (dk_at dksX1_deliver_0 1 rfl rfl)
theorem dX1_deliver_4 : decode cX1_deliver 4 = .ok (.dup, 1) := dk_89 (dk_at dksX1_deliver_0 4 rfl rfl)
theorem dX1_deliver_5 : decode cX1_deliver 5 = .ok (.bipush 100, 2) := dk_16 100 (dk_at dksX1_deliver_0 5 rfl rfl)
theorem dX1_deliver_7 : decode cX1_deliver 7 = .ok (.iconst 2, 1) := dk_5 (dk_at dksX1_deliver_0 7 rfl rfl)
theorem dX1_deliver_8 : decode cX1_deliver 8 = .ok (.newarray .int, 2) := dk_188_10 (dk_at dksX1_deliver_0 8 rfl rfl)
theorem dX1_deliver_10 : decode cX1_deliver 10 = .ok (.dup, 1) := dk_89 (dk_at dksX1_deliver_0 10 rfl rfl)
theorem dX1_deliver_11 : decode cX1_deliver 11 = .ok (.iconst 0, 1) := dk_3 (dk_at dksX1_deliver_0 11 rfl rfl)
theorem dX1_deliver_12 : decode cX1_deliver 12 = .ok (.iload_n 1, 1) := dk_27 (dk_at dksX1_deliver_0 12 rfl rfl)
theorem dX1_deliver_13 : decode cX1_deliver 13 = .ok (.iastore, 1) := dk_79 (dk_at dksX1_deliver_0 13 rfl rfl)
theorem dX1_deliver_14 : decode cX1_deliver 14 = .ok (.dup, 1) := dk_89 (dk_at dksX1_deliver_0 14 rfl rfl)
theorem dX1_deliver_15 : decode cX1_deliver 15 = .ok (.iconst 1, 1) := dk_4 (dk_at dksX1_deliver_0 15 rfl rfl)
theorem dX1_deliver_16 : decode cX1_deliver 16 = .ok (.iload_n 2, 1) := dk_28 (dk_at dksX1_deliver_0 16 rfl rfl)
theorem dX1_deliver_17 : decode cX1_deliver 17 = .ok (.iastore, 1) := dk_79 (dk_at dksX1_deliver_0 17 rfl rfl)
theorem dX1_deliver_18 : decode cX1_deliver 18 = .ok (.invokespecial 72, 3) := dk_183 0 72 (dk_at dksX1_deliver_0 18 rfl rfl)
theorem dX1_deliver_21 : decode cX1_deliver 21 = .ok (.invokevirtual 75, 3) := dk_182 0 75 (dk_at dksX1_deliver_0 21 rfl rfl)
theorem dX1_deliver_24 : decode cX1_deliver 24 = .ok (.ireturn, 1) := dk_172 (dk_at dksX1_deliver_1 0 rfl rfl)
def dkwX1_orderAt_1 : List UInt8 := [180, 0, 235, 27, 182, 0, 118, 192, 0, 238, 180, 0, 240, 172]
abbrev dktX1_orderAt_1 : List UInt8 := dkwX1_orderAt_1 ++ []
def dkwX1_orderAt_0 : List UInt8 := [27, 3, 42, 180, 0, 7, 180, 0, 235, 182, 0, 83, 4, 100, 184, 0, 105, 184, 0, 111, 42, 180, 0, 7]
abbrev dktX1_orderAt_0 : List UInt8 := dkwX1_orderAt_0 ++ dktX1_orderAt_1
theorem dksX1_orderAt_0 : cX1_orderAt.data.toList.drop 0 = dktX1_orderAt_0 := by decide +kernel
theorem dksX1_orderAt_1 : cX1_orderAt.data.toList.drop 24 = dktX1_orderAt_1 := dk_seg dksX1_orderAt_0 24 rfl rfl
theorem dX1_orderAt_0 : decode cX1_orderAt 0 = .ok (.iload_n 1, 1) := dk_27 (dk_at dksX1_orderAt_0 0 rfl rfl)
theorem dX1_orderAt_1 : decode cX1_orderAt 1 = .ok (.iconst 0, 1) := dk_3 (dk_at dksX1_orderAt_0 1 rfl rfl)
theorem dX1_orderAt_2 : decode cX1_orderAt 2 = .ok (.aload_n 0, 1) := dk_42 (dk_at dksX1_orderAt_0 2 rfl rfl)
theorem dX1_orderAt_3 : decode cX1_orderAt 3 = .ok (.getfield 7, 3) := dk_180 0 7 (dk_at dksX1_orderAt_0 3 rfl rfl)
theorem dX1_orderAt_6 : decode cX1_orderAt 6 = .ok (.getfield 235, 3) := dk_180 0 235 (dk_at dksX1_orderAt_0 6 rfl rfl)
theorem dX1_orderAt_9 : decode cX1_orderAt 9 = .ok (.invokevirtual 83, 3) := dk_182 0 83 (dk_at dksX1_orderAt_0 9 rfl rfl)
theorem dX1_orderAt_12 : decode cX1_orderAt 12 = .ok (.iconst 1, 1) := dk_4 (dk_at dksX1_orderAt_0 12 rfl rfl)
theorem dX1_orderAt_13 : decode cX1_orderAt 13 = .ok (.isub, 1) := dk_100 (dk_at dksX1_orderAt_0 13 rfl rfl)
theorem dX1_orderAt_14 : decode cX1_orderAt 14 = .ok (.invokestatic 105, 3) := dk_184 0 105 (dk_at dksX1_orderAt_0 14 rfl rfl)
theorem dX1_orderAt_17 : decode cX1_orderAt 17 = .ok (.invokestatic 111, 3) := dk_184 0 111 (dk_at dksX1_orderAt_0 17 rfl rfl)
theorem dX1_orderAt_20 : decode cX1_orderAt 20 = .ok (.aload_n 0, 1) := dk_42 (dk_at dksX1_orderAt_0 20 rfl rfl)
theorem dX1_orderAt_21 : decode cX1_orderAt 21 = .ok (.getfield 7, 3) := dk_180 0 7 (dk_at dksX1_orderAt_0 21 rfl rfl)
theorem dX1_orderAt_24 : decode cX1_orderAt 24 = .ok (.getfield 235, 3) := dk_180 0 235 (dk_at dksX1_orderAt_1 0 rfl rfl)
theorem dX1_orderAt_27 : decode cX1_orderAt 27 = .ok (.iload_n 1, 1) := dk_27 (dk_at dksX1_orderAt_1 3 rfl rfl)
theorem dX1_orderAt_28 : decode cX1_orderAt 28 = .ok (.invokevirtual 118, 3) := dk_182 0 118 (dk_at dksX1_orderAt_1 4 rfl rfl)
theorem dX1_orderAt_31 : decode cX1_orderAt 31 = .ok (.checkcast 238, 3) := dk_192 0 238 (dk_at dksX1_orderAt_1 7 rfl rfl)
theorem dX1_orderAt_34 : decode cX1_orderAt 34 = .ok (.getfield 240, 3) := dk_180 0 240 (dk_at dksX1_orderAt_1 10 rfl rfl)
theorem dX1_orderAt_37 : decode cX1_orderAt 37 = .ok (.ireturn, 1) := dk_172 (dk_at dksX1_orderAt_1 13 rfl rfl)
def dkwX1_coinsFor_0 : List UInt8 := [42, 180, 0, 7, 27, 182, 0, 243, 42, 180, 0, 7, 180, 0, 181, 182, 0, 247, 172]
abbrev dktX1_coinsFor_0 : List UInt8 := dkwX1_coinsFor_0 ++ []
theorem dksX1_coinsFor_0 : cX1_coinsFor.data.toList.drop 0 = dktX1_coinsFor_0 := by decide +kernel
theorem dX1_coinsFor_0 : decode cX1_coinsFor 0 = .ok (.aload_n 0, 1) := dk_42 (dk_at dksX1_coinsFor_0 0 rfl rfl)
theorem dX1_coinsFor_1 : decode cX1_coinsFor 1 = .ok (.getfield 7, 3) := dk_180 0 7 (dk_at dksX1_coinsFor_0 1 rfl rfl)
theorem dX1_coinsFor_4 : decode cX1_coinsFor 4 = .ok (.iload_n 1, 1) := dk_27 (dk_at dksX1_coinsFor_0 4 rfl rfl)
theorem dX1_coinsFor_5 : decode cX1_coinsFor 5 = .ok (.invokevirtual 243, 3) := dk_182 0 243 (dk_at dksX1_coinsFor_0 5 rfl rfl)
theorem dX1_coinsFor_8 : decode cX1_coinsFor 8 = .ok (.aload_n 0, 1) := dk_42 (dk_at dksX1_coinsFor_0 8 rfl rfl)
theorem dX1_coinsFor_9 : decode cX1_coinsFor 9 = .ok (.getfield 7, 3) := dk_180 0 7 (dk_at dksX1_coinsFor_0 9 rfl rfl)
theorem dX1_coinsFor_12 : decode cX1_coinsFor 12 = .ok (.getfield 181, 3) := dk_180 0 181 (dk_at dksX1_coinsFor_0 12 rfl rfl)
theorem dX1_coinsFor_15 : decode cX1_coinsFor 15 = .ok (.invokevirtual 247, 3) := dk_182 0 247 (dk_at dksX1_coinsFor_0 15 rfl rfl)
theorem dX1_coinsFor_18 : decode cX1_coinsFor 18 = .ok (.ireturn, 1) := dk_172 (dk_at dksX1_coinsFor_0 18 rfl rfl)
def dkwX1_hullsIn_3 : List UInt8 := [172]
abbrev dktX1_hullsIn_3 : List UInt8 := dkwX1_hullsIn_3 ++ []
def dkwX1_hullsIn_2 : List UInt8 := [180, 0, 93, 182, 0, 99, 27, 160, 0, 7, 4, 167, 0, 4, 3, 96, 61, 132, 3, 1, 167, 255, 207, 28]
abbrev dktX1_hullsIn_2 : List UInt8 := dkwX1_hullsIn_2 ++ dktX1_hullsIn_3
def dkwX1_hullsIn_1 : List UInt8 := [180, 0, 79, 182, 0, 83, 162, 0, 41, 28, 42, 180, 0, 7, 180, 0, 79, 29, 182, 0, 118, 192, 0, 94]
abbrev dktX1_hullsIn_1 : List UInt8 := dkwX1_hullsIn_1 ++ dktX1_hullsIn_2
def dkwX1_hullsIn_0 : List UInt8 := [4, 188, 4, 89, 3, 27, 3, 6, 184, 0, 105, 84, 184, 0, 184, 3, 61, 3, 62, 29, 42, 180, 0, 7]
abbrev dktX1_hullsIn_0 : List UInt8 := dkwX1_hullsIn_0 ++ dktX1_hullsIn_1
theorem dksX1_hullsIn_0 : cX1_hullsIn.data.toList.drop 0 = dktX1_hullsIn_0 := by decide +kernel
theorem dksX1_hullsIn_1 : cX1_hullsIn.data.toList.drop 24 = dktX1_hullsIn_1 := dk_seg dksX1_hullsIn_0 24 rfl rfl
theorem dksX1_hullsIn_2 : cX1_hullsIn.data.toList.drop 48 = dktX1_hullsIn_2 := dk_seg dksX1_hullsIn_1 24 rfl rfl
theorem dksX1_hullsIn_3 : cX1_hullsIn.data.toList.drop 72 = dktX1_hullsIn_3 := dk_seg dksX1_hullsIn_2 24 rfl rfl
theorem dX1_hullsIn_0 : decode cX1_hullsIn 0 = .ok (.iconst 1, 1) := dk_4 (dk_at dksX1_hullsIn_0 0 rfl rfl)
theorem dX1_hullsIn_1 : decode cX1_hullsIn 1 = .ok (.newarray .boolean, 2) := dk_188_4 (dk_at dksX1_hullsIn_0 1 rfl rfl)
theorem dX1_hullsIn_3 : decode cX1_hullsIn 3 = .ok (.dup, 1) := dk_89 (dk_at dksX1_hullsIn_0 3 rfl rfl)
theorem dX1_hullsIn_4 : decode cX1_hullsIn 4 = .ok (.iconst 0, 1) := dk_3 (dk_at dksX1_hullsIn_0 4 rfl rfl)
theorem dX1_hullsIn_5 : decode cX1_hullsIn 5 = .ok (.iload_n 1, 1) := dk_27 (dk_at dksX1_hullsIn_0 5 rfl rfl)
theorem dX1_hullsIn_6 : decode cX1_hullsIn 6 = .ok (.iconst 0, 1) := dk_3 (dk_at dksX1_hullsIn_0 6 rfl rfl)
theorem dX1_hullsIn_7 : decode cX1_hullsIn 7 = .ok (.iconst 3, 1) := dk_6 (dk_at dksX1_hullsIn_0 7 rfl rfl)
theorem dX1_hullsIn_8 : decode cX1_hullsIn 8 = .ok (.invokestatic 105, 3) := dk_184 0 105 (dk_at dksX1_hullsIn_0 8 rfl rfl)
theorem dX1_hullsIn_11 : decode cX1_hullsIn 11 = .ok (.bastore, 1) := dk_84 (dk_at dksX1_hullsIn_0 11 rfl rfl)
theorem dX1_hullsIn_12 : decode cX1_hullsIn 12 = .ok (.invokestatic 184, 3) := dk_184 0 184 (dk_at dksX1_hullsIn_0 12 rfl rfl)
theorem dX1_hullsIn_15 : decode cX1_hullsIn 15 = .ok (.iconst 0, 1) := dk_3 (dk_at dksX1_hullsIn_0 15 rfl rfl)
theorem dX1_hullsIn_16 : decode cX1_hullsIn 16 = .ok (.istore_n 2, 1) := dk_61 (dk_at dksX1_hullsIn_0 16 rfl rfl)
theorem dX1_hullsIn_17 : decode cX1_hullsIn 17 = .ok (.iconst 0, 1) := dk_3 (dk_at dksX1_hullsIn_0 17 rfl rfl)
theorem dX1_hullsIn_18 : decode cX1_hullsIn 18 = .ok (.istore_n 3, 1) := dk_62 (dk_at dksX1_hullsIn_0 18 rfl rfl)
theorem dX1_hullsIn_19 : decode cX1_hullsIn 19 = .ok (.iload_n 3, 1) := dk_29 (dk_at dksX1_hullsIn_0 19 rfl rfl)
theorem dX1_hullsIn_20 : decode cX1_hullsIn 20 = .ok (.aload_n 0, 1) := dk_42 (dk_at dksX1_hullsIn_0 20 rfl rfl)
theorem dX1_hullsIn_21 : decode cX1_hullsIn 21 = .ok (.getfield 7, 3) := dk_180 0 7 (dk_at dksX1_hullsIn_0 21 rfl rfl)
theorem dX1_hullsIn_24 : decode cX1_hullsIn 24 = .ok (.getfield 79, 3) := dk_180 0 79 (dk_at dksX1_hullsIn_1 0 rfl rfl)
theorem dX1_hullsIn_27 : decode cX1_hullsIn 27 = .ok (.invokevirtual 83, 3) := dk_182 0 83 (dk_at dksX1_hullsIn_1 3 rfl rfl)
theorem dX1_hullsIn_30 : decode cX1_hullsIn 30 = .ok (.if_icmp .ge 41, 3) := dk_162 0 41 (dk_at dksX1_hullsIn_1 6 rfl rfl)
theorem dX1_hullsIn_33 : decode cX1_hullsIn 33 = .ok (.iload_n 2, 1) := dk_28 (dk_at dksX1_hullsIn_1 9 rfl rfl)
theorem dX1_hullsIn_34 : decode cX1_hullsIn 34 = .ok (.aload_n 0, 1) := dk_42 (dk_at dksX1_hullsIn_1 10 rfl rfl)
theorem dX1_hullsIn_35 : decode cX1_hullsIn 35 = .ok (.getfield 7, 3) := dk_180 0 7 (dk_at dksX1_hullsIn_1 11 rfl rfl)
theorem dX1_hullsIn_38 : decode cX1_hullsIn 38 = .ok (.getfield 79, 3) := dk_180 0 79 (dk_at dksX1_hullsIn_1 14 rfl rfl)
theorem dX1_hullsIn_41 : decode cX1_hullsIn 41 = .ok (.iload_n 3, 1) := dk_29 (dk_at dksX1_hullsIn_1 17 rfl rfl)
theorem dX1_hullsIn_42 : decode cX1_hullsIn 42 = .ok (.invokevirtual 118, 3) := dk_182 0 118 (dk_at dksX1_hullsIn_1 18 rfl rfl)
theorem dX1_hullsIn_45 : decode cX1_hullsIn 45 = .ok (.checkcast 94, 3) := dk_192 0 94 (dk_at dksX1_hullsIn_1 21 rfl rfl)
theorem dX1_hullsIn_48 : decode cX1_hullsIn 48 = .ok (.getfield 93, 3) := dk_180 0 93 (dk_at dksX1_hullsIn_2 0 rfl rfl)
theorem dX1_hullsIn_51 : decode cX1_hullsIn 51 = .ok (.invokevirtual 99, 3) := dk_182 0 99 (dk_at dksX1_hullsIn_2 3 rfl rfl)
theorem dX1_hullsIn_54 : decode cX1_hullsIn 54 = .ok (.iload_n 1, 1) := dk_27 (dk_at dksX1_hullsIn_2 6 rfl rfl)
theorem dX1_hullsIn_55 : decode cX1_hullsIn 55 = .ok (.if_icmp .ne 7, 3) := dk_160 0 7 (dk_at dksX1_hullsIn_2 7 rfl rfl)
theorem dX1_hullsIn_58 : decode cX1_hullsIn 58 = .ok (.iconst 1, 1) := dk_4 (dk_at dksX1_hullsIn_2 10 rfl rfl)
theorem dX1_hullsIn_59 : decode cX1_hullsIn 59 = .ok (.goto 4, 3) := dk_167 0 4 (dk_at dksX1_hullsIn_2 11 rfl rfl)
theorem dX1_hullsIn_62 : decode cX1_hullsIn 62 = .ok (.iconst 0, 1) := dk_3 (dk_at dksX1_hullsIn_2 14 rfl rfl)
theorem dX1_hullsIn_63 : decode cX1_hullsIn 63 = .ok (.iadd, 1) := dk_96 (dk_at dksX1_hullsIn_2 15 rfl rfl)
theorem dX1_hullsIn_64 : decode cX1_hullsIn 64 = .ok (.istore_n 2, 1) := dk_61 (dk_at dksX1_hullsIn_2 16 rfl rfl)
theorem dX1_hullsIn_65 : decode cX1_hullsIn 65 = .ok (.iinc 3 1, 3) := dk_132 3 1 (dk_at dksX1_hullsIn_2 17 rfl rfl)
theorem dX1_hullsIn_68 : decode cX1_hullsIn 68 = .ok (.goto (-49), 3) := dk_167 255 207 (dk_at dksX1_hullsIn_2 20 rfl rfl)
theorem dX1_hullsIn_71 : decode cX1_hullsIn 71 = .ok (.iload_n 2, 1) := dk_28 (dk_at dksX1_hullsIn_2 23 rfl rfl)
theorem dX1_hullsIn_72 : decode cX1_hullsIn 72 = .ok (.ireturn, 1) := dk_172 (dk_at dksX1_hullsIn_3 0 rfl rfl)
def dkwX1_refusalReason_0 : List UInt8 := [42, 180, 0, 39, 184, 0, 150, 172]
abbrev dktX1_refusalReason_0 : List UInt8 := dkwX1_refusalReason_0 ++ []
theorem dksX1_refusalReason_0 : cX1_refusalReason.data.toList.drop 0 = dktX1_refusalReason_0 := by decide +kernel
theorem dX1_refusalReason_0 : decode cX1_refusalReason 0 = .ok (.aload_n 0, 1) := dk_42 (dk_at dksX1_refusalReason_0 0 rfl rfl)
theorem dX1_refusalReason_1 : decode cX1_refusalReason 1 = .ok (.getfield 39, 3) := dk_180 0 39 (dk_at dksX1_refusalReason_0 1 rfl rfl)
theorem dX1_refusalReason_4 : decode cX1_refusalReason 4 = .ok (.invokestatic 150, 3) := dk_184 0 150 (dk_at dksX1_refusalReason_0 4 rfl rfl)
theorem dX1_refusalReason_7 : decode cX1_refusalReason 7 = .ok (.ireturn, 1) := dk_172 (dk_at dksX1_refusalReason_0 7 rfl rfl)
def dkwX1_meanWeight_3 : List UInt8 := [180, 0, 7, 180, 0, 79, 182, 0, 83, 135, 111, 175]
abbrev dktX1_meanWeight_3 : List UInt8 := dkwX1_meanWeight_3 ++ []
def dkwX1_meanWeight_2 : List UInt8 := [180, 0, 7, 180, 0, 79, 182, 1, 1, 153, 0, 11, 187, 1, 5, 89, 183, 1, 7, 191, 27, 135, 42]
abbrev dktX1_meanWeight_2 : List UInt8 := dkwX1_meanWeight_2 ++ dktX1_meanWeight_3
def dkwX1_meanWeight_1 : List UInt8 := [180, 0, 79, 28, 182, 0, 118, 192, 0, 94, 182, 0, 141, 96, 60, 132, 2, 1, 167, 255, 219, 42]
abbrev dktX1_meanWeight_1 : List UInt8 := dkwX1_meanWeight_1 ++ dktX1_meanWeight_2
def dkwX1_meanWeight_0 : List UInt8 := [3, 60, 3, 61, 28, 42, 180, 0, 7, 180, 0, 79, 182, 0, 83, 162, 0, 29, 27, 42, 180, 0, 7]
abbrev dktX1_meanWeight_0 : List UInt8 := dkwX1_meanWeight_0 ++ dktX1_meanWeight_1
theorem dksX1_meanWeight_0 : cX1_meanWeight.data.toList.drop 0 = dktX1_meanWeight_0 := by decide +kernel
theorem dksX1_meanWeight_1 : cX1_meanWeight.data.toList.drop 23 = dktX1_meanWeight_1 := dk_seg dksX1_meanWeight_0 23 rfl rfl
theorem dksX1_meanWeight_2 : cX1_meanWeight.data.toList.drop 45 = dktX1_meanWeight_2 := dk_seg dksX1_meanWeight_1 22 rfl rfl
theorem dksX1_meanWeight_3 : cX1_meanWeight.data.toList.drop 68 = dktX1_meanWeight_3 := dk_seg dksX1_meanWeight_2 23 rfl rfl
theorem dX1_meanWeight_0 : decode cX1_meanWeight 0 = .ok (.iconst 0, 1) := dk_3 (dk_at dksX1_meanWeight_0 0 rfl rfl)
theorem dX1_meanWeight_1 : decode cX1_meanWeight 1 = .ok (.istore_n 1, 1) := dk_60 (dk_at dksX1_meanWeight_0 1 rfl rfl)
theorem dX1_meanWeight_2 : decode cX1_meanWeight 2 = .ok (.iconst 0, 1) := dk_3 (dk_at dksX1_meanWeight_0 2 rfl rfl)
theorem dX1_meanWeight_3 : decode cX1_meanWeight 3 = .ok (.istore_n 2, 1) := dk_61 (dk_at dksX1_meanWeight_0 3 rfl rfl)
theorem dX1_meanWeight_4 : decode cX1_meanWeight 4 = .ok (.iload_n 2, 1) := dk_28 (dk_at dksX1_meanWeight_0 4 rfl rfl)
theorem dX1_meanWeight_5 : decode cX1_meanWeight 5 = .ok (.aload_n 0, 1) := dk_42 (dk_at dksX1_meanWeight_0 5 rfl rfl)
theorem dX1_meanWeight_6 : decode cX1_meanWeight 6 = .ok (.getfield 7, 3) := dk_180 0 7 (dk_at dksX1_meanWeight_0 6 rfl rfl)
theorem dX1_meanWeight_9 : decode cX1_meanWeight 9 = .ok (.getfield 79, 3) := dk_180 0 79 (dk_at dksX1_meanWeight_0 9 rfl rfl)
theorem dX1_meanWeight_12 : decode cX1_meanWeight 12 = .ok (.invokevirtual 83, 3) := dk_182 0 83 (dk_at dksX1_meanWeight_0 12 rfl rfl)
theorem dX1_meanWeight_15 : decode cX1_meanWeight 15 = .ok (.if_icmp .ge 29, 3) := dk_162 0 29 (dk_at dksX1_meanWeight_0 15 rfl rfl)
theorem dX1_meanWeight_18 : decode cX1_meanWeight 18 = .ok (.iload_n 1, 1) := dk_27 (dk_at dksX1_meanWeight_0 18 rfl rfl)
theorem dX1_meanWeight_19 : decode cX1_meanWeight 19 = .ok (.aload_n 0, 1) := dk_42 (dk_at dksX1_meanWeight_0 19 rfl rfl)
theorem dX1_meanWeight_20 : decode cX1_meanWeight 20 = .ok (.getfield 7, 3) := dk_180 0 7 (dk_at dksX1_meanWeight_0 20 rfl rfl)
theorem dX1_meanWeight_23 : decode cX1_meanWeight 23 = .ok (.getfield 79, 3) := dk_180 0 79 (dk_at dksX1_meanWeight_1 0 rfl rfl)
theorem dX1_meanWeight_26 : decode cX1_meanWeight 26 = .ok (.iload_n 2, 1) := dk_28 (dk_at dksX1_meanWeight_1 3 rfl rfl)
theorem dX1_meanWeight_27 : decode cX1_meanWeight 27 = .ok (.invokevirtual 118, 3) := dk_182 0 118 (dk_at dksX1_meanWeight_1 4 rfl rfl)
theorem dX1_meanWeight_30 : decode cX1_meanWeight 30 = .ok (.checkcast 94, 3) := dk_192 0 94 (dk_at dksX1_meanWeight_1 7 rfl rfl)
theorem dX1_meanWeight_33 : decode cX1_meanWeight 33 = .ok (.invokevirtual 141, 3) := dk_182 0 141 (dk_at dksX1_meanWeight_1 10 rfl rfl)
theorem dX1_meanWeight_36 : decode cX1_meanWeight 36 = .ok (.iadd, 1) := dk_96 (dk_at dksX1_meanWeight_1 13 rfl rfl)
theorem dX1_meanWeight_37 : decode cX1_meanWeight 37 = .ok (.istore_n 1, 1) := dk_60 (dk_at dksX1_meanWeight_1 14 rfl rfl)
theorem dX1_meanWeight_38 : decode cX1_meanWeight 38 = .ok (.iinc 2 1, 3) := dk_132 2 1 (dk_at dksX1_meanWeight_1 15 rfl rfl)
theorem dX1_meanWeight_41 : decode cX1_meanWeight 41 = .ok (.goto (-37), 3) := dk_167 255 219 (dk_at dksX1_meanWeight_1 18 rfl rfl)
theorem dX1_meanWeight_44 : decode cX1_meanWeight 44 = .ok (.aload_n 0, 1) := dk_42 (dk_at dksX1_meanWeight_1 21 rfl rfl)
theorem dX1_meanWeight_45 : decode cX1_meanWeight 45 = .ok (.getfield 7, 3) := dk_180 0 7 (dk_at dksX1_meanWeight_2 0 rfl rfl)
theorem dX1_meanWeight_48 : decode cX1_meanWeight 48 = .ok (.getfield 79, 3) := dk_180 0 79 (dk_at dksX1_meanWeight_2 3 rfl rfl)
theorem dX1_meanWeight_51 : decode cX1_meanWeight 51 = .ok (.invokevirtual 257, 3) := dk_182 1 1 (dk_at dksX1_meanWeight_2 6 rfl rfl)
theorem dX1_meanWeight_54 : decode cX1_meanWeight 54 = .ok (.ifCond .eq 11, 3) := dk_153 0 11 (dk_at dksX1_meanWeight_2 9 rfl rfl)
theorem dX1_meanWeight_57 : decode cX1_meanWeight 57 = .ok (.new 261, 3) := dk_187 1 5 (dk_at dksX1_meanWeight_2 12 rfl rfl)
theorem dX1_meanWeight_60 : decode cX1_meanWeight 60 = .ok (.dup, 1) := dk_89 (dk_at dksX1_meanWeight_2 15 rfl rfl)
theorem dX1_meanWeight_61 : decode cX1_meanWeight 61 = .ok (.invokespecial 263, 3) := dk_183 1 7 (dk_at dksX1_meanWeight_2 16 rfl rfl)
theorem dX1_meanWeight_64 : decode cX1_meanWeight 64 = .ok (.athrow, 1) := dk_191 (dk_at dksX1_meanWeight_2 19 rfl rfl)
theorem dX1_meanWeight_65 : decode cX1_meanWeight 65 = .ok (.iload_n 1, 1) := dk_27 (dk_at dksX1_meanWeight_2 20 rfl rfl)
theorem dX1_meanWeight_66 : decode cX1_meanWeight 66 = .ok (.i2d, 1) := dk_135 (dk_at dksX1_meanWeight_2 21 rfl rfl)
theorem dX1_meanWeight_67 : decode cX1_meanWeight 67 = .ok (.aload_n 0, 1) := dk_42 (dk_at dksX1_meanWeight_2 22 rfl rfl)
theorem dX1_meanWeight_68 : decode cX1_meanWeight 68 = .ok (.getfield 7, 3) := dk_180 0 7 (dk_at dksX1_meanWeight_3 0 rfl rfl)
theorem dX1_meanWeight_71 : decode cX1_meanWeight 71 = .ok (.getfield 79, 3) := dk_180 0 79 (dk_at dksX1_meanWeight_3 3 rfl rfl)
theorem dX1_meanWeight_74 : decode cX1_meanWeight 74 = .ok (.invokevirtual 83, 3) := dk_182 0 83 (dk_at dksX1_meanWeight_3 6 rfl rfl)
theorem dX1_meanWeight_77 : decode cX1_meanWeight 77 = .ok (.i2d, 1) := dk_135 (dk_at dksX1_meanWeight_3 9 rfl rfl)
theorem dX1_meanWeight_78 : decode cX1_meanWeight 78 = .ok (.ddiv, 1) := dk_111 (dk_at dksX1_meanWeight_3 10 rfl rfl)
theorem dX1_meanWeight_79 : decode cX1_meanWeight 79 = .ok (.dreturn, 1) := dk_175 (dk_at dksX1_meanWeight_3 11 rfl rfl)
def dkwX1_writeHull_0 : List UInt8 := [42, 42, 180, 0, 7, 27, 182, 0, 89, 182, 1, 8, 181, 0, 61, 42, 180, 0, 61, 182, 1, 12, 172]
abbrev dktX1_writeHull_0 : List UInt8 := dkwX1_writeHull_0 ++ []
theorem dksX1_writeHull_0 : cX1_writeHull.data.toList.drop 0 = dktX1_writeHull_0 := by decide +kernel
theorem dX1_writeHull_0 : decode cX1_writeHull 0 = .ok (.aload_n 0, 1) := dk_42 (dk_at dksX1_writeHull_0 0 rfl rfl)
theorem dX1_writeHull_1 : decode cX1_writeHull 1 = .ok (.aload_n 0, 1) := dk_42 (dk_at dksX1_writeHull_0 1 rfl rfl)
theorem dX1_writeHull_2 : decode cX1_writeHull 2 = .ok (.getfield 7, 3) := dk_180 0 7 (dk_at dksX1_writeHull_0 2 rfl rfl)
theorem dX1_writeHull_5 : decode cX1_writeHull 5 = .ok (.iload_n 1, 1) := dk_27 (dk_at dksX1_writeHull_0 5 rfl rfl)
theorem dX1_writeHull_6 : decode cX1_writeHull 6 = .ok (.invokevirtual 89, 3) := dk_182 0 89 (dk_at dksX1_writeHull_0 6 rfl rfl)
theorem dX1_writeHull_9 : decode cX1_writeHull 9 = .ok (.invokevirtual 264, 3) := dk_182 1 8 (dk_at dksX1_writeHull_0 9 rfl rfl)
theorem dX1_writeHull_12 : decode cX1_writeHull 12 = .ok (.putfield 61, 3) := dk_181 0 61 (dk_at dksX1_writeHull_0 12 rfl rfl)
theorem dX1_writeHull_15 : decode cX1_writeHull 15 = .ok (.aload_n 0, 1) := dk_42 (dk_at dksX1_writeHull_0 15 rfl rfl)
theorem dX1_writeHull_16 : decode cX1_writeHull 16 = .ok (.getfield 61, 3) := dk_180 0 61 (dk_at dksX1_writeHull_0 16 rfl rfl)
theorem dX1_writeHull_19 : decode cX1_writeHull 19 = .ok (.invokevirtual 268, 3) := dk_182 1 12 (dk_at dksX1_writeHull_0 19 rfl rfl)
theorem dX1_writeHull_22 : decode cX1_writeHull 22 = .ok (.ireturn, 1) := dk_172 (dk_at dksX1_writeHull_0 22 rfl rfl)
def dkwX1_lineAt_1 : List UInt8 := [182, 1, 17, 172]
abbrev dktX1_lineAt_1 : List UInt8 := dkwX1_lineAt_1 ++ []
def dkwX1_lineAt_0 : List UInt8 := [27, 3, 42, 180, 0, 61, 182, 1, 12, 4, 100, 184, 0, 105, 184, 0, 111, 42, 180, 0, 61, 27]
abbrev dktX1_lineAt_0 : List UInt8 := dkwX1_lineAt_0 ++ dktX1_lineAt_1
theorem dksX1_lineAt_0 : cX1_lineAt.data.toList.drop 0 = dktX1_lineAt_0 := by decide +kernel
theorem dksX1_lineAt_1 : cX1_lineAt.data.toList.drop 22 = dktX1_lineAt_1 := dk_seg dksX1_lineAt_0 22 rfl rfl
theorem dX1_lineAt_0 : decode cX1_lineAt 0 = .ok (.iload_n 1, 1) := dk_27 (dk_at dksX1_lineAt_0 0 rfl rfl)
theorem dX1_lineAt_1 : decode cX1_lineAt 1 = .ok (.iconst 0, 1) := dk_3 (dk_at dksX1_lineAt_0 1 rfl rfl)
theorem dX1_lineAt_2 : decode cX1_lineAt 2 = .ok (.aload_n 0, 1) := dk_42 (dk_at dksX1_lineAt_0 2 rfl rfl)
theorem dX1_lineAt_3 : decode cX1_lineAt 3 = .ok (.getfield 61, 3) := dk_180 0 61 (dk_at dksX1_lineAt_0 3 rfl rfl)
theorem dX1_lineAt_6 : decode cX1_lineAt 6 = .ok (.invokevirtual 268, 3) := dk_182 1 12 (dk_at dksX1_lineAt_0 6 rfl rfl)
theorem dX1_lineAt_9 : decode cX1_lineAt 9 = .ok (.iconst 1, 1) := dk_4 (dk_at dksX1_lineAt_0 9 rfl rfl)
theorem dX1_lineAt_10 : decode cX1_lineAt 10 = .ok (.isub, 1) := dk_100 (dk_at dksX1_lineAt_0 10 rfl rfl)
theorem dX1_lineAt_11 : decode cX1_lineAt 11 = .ok (.invokestatic 105, 3) := dk_184 0 105 (dk_at dksX1_lineAt_0 11 rfl rfl)
theorem dX1_lineAt_14 : decode cX1_lineAt 14 = .ok (.invokestatic 111, 3) := dk_184 0 111 (dk_at dksX1_lineAt_0 14 rfl rfl)
theorem dX1_lineAt_17 : decode cX1_lineAt 17 = .ok (.aload_n 0, 1) := dk_42 (dk_at dksX1_lineAt_0 17 rfl rfl)
theorem dX1_lineAt_18 : decode cX1_lineAt 18 = .ok (.getfield 61, 3) := dk_180 0 61 (dk_at dksX1_lineAt_0 18 rfl rfl)
theorem dX1_lineAt_21 : decode cX1_lineAt 21 = .ok (.iload_n 1, 1) := dk_27 (dk_at dksX1_lineAt_0 21 rfl rfl)
theorem dX1_lineAt_22 : decode cX1_lineAt 22 = .ok (.invokevirtual 273, 3) := dk_182 1 17 (dk_at dksX1_lineAt_1 0 rfl rfl)
theorem dX1_lineAt_25 : decode cX1_lineAt 25 = .ok (.ireturn, 1) := dk_172 (dk_at dksX1_lineAt_1 3 rfl rfl)
def dkwX1_type_2 : List UInt8 := [180, 0, 68, 182, 1, 21, 172]
abbrev dktX1_type_2 : List UInt8 := dkwX1_type_2 ++ []
def dkwX1_type_1 : List UInt8 := [16, 60, 162, 0, 7, 4, 167, 0, 4, 3, 184, 0, 198, 42, 180, 0, 68, 27, 182, 1, 22, 87, 42]
abbrev dktX1_type_1 : List UInt8 := dkwX1_type_1 ++ dktX1_type_2
def dkwX1_type_0 : List UInt8 := [4, 188, 4, 89, 3, 27, 16, 32, 16, 126, 184, 0, 105, 84, 184, 0, 184, 42, 180, 0, 68, 182, 1, 21]
abbrev dktX1_type_0 : List UInt8 := dkwX1_type_0 ++ dktX1_type_1
theorem dksX1_type_0 : cX1_type.data.toList.drop 0 = dktX1_type_0 := by decide +kernel
theorem dksX1_type_1 : cX1_type.data.toList.drop 24 = dktX1_type_1 := dk_seg dksX1_type_0 24 rfl rfl
theorem dksX1_type_2 : cX1_type.data.toList.drop 47 = dktX1_type_2 := dk_seg dksX1_type_1 23 rfl rfl
theorem dX1_type_0 : decode cX1_type 0 = .ok (.iconst 1, 1) := dk_4 (dk_at dksX1_type_0 0 rfl rfl)
theorem dX1_type_1 : decode cX1_type 1 = .ok (.newarray .boolean, 2) := dk_188_4 (dk_at dksX1_type_0 1 rfl rfl)
theorem dX1_type_3 : decode cX1_type 3 = .ok (.dup, 1) := dk_89 (dk_at dksX1_type_0 3 rfl rfl)
theorem dX1_type_4 : decode cX1_type 4 = .ok (.iconst 0, 1) := dk_3 (dk_at dksX1_type_0 4 rfl rfl)
theorem dX1_type_5 : decode cX1_type 5 = .ok (.iload_n 1, 1) := dk_27 (dk_at dksX1_type_0 5 rfl rfl)
theorem dX1_type_6 : decode cX1_type 6 = .ok (.bipush 32, 2) := dk_16 32 (dk_at dksX1_type_0 6 rfl rfl)
theorem dX1_type_8 : decode cX1_type 8 = .ok (.bipush 126, 2) := dk_16 126 (dk_at dksX1_type_0 8 rfl rfl)
theorem dX1_type_10 : decode cX1_type 10 = .ok (.invokestatic 105, 3) := dk_184 0 105 (dk_at dksX1_type_0 10 rfl rfl)
theorem dX1_type_13 : decode cX1_type 13 = .ok (.bastore, 1) := dk_84 (dk_at dksX1_type_0 13 rfl rfl)
theorem dX1_type_14 : decode cX1_type 14 = .ok (.invokestatic 184, 3) := dk_184 0 184 (dk_at dksX1_type_0 14 rfl rfl)
theorem dX1_type_17 : decode cX1_type 17 = .ok (.aload_n 0, 1) := dk_42 (dk_at dksX1_type_0 17 rfl rfl)
theorem dX1_type_18 : decode cX1_type 18 = .ok (.getfield 68, 3) := dk_180 0 68 (dk_at dksX1_type_0 18 rfl rfl)
theorem dX1_type_21 : decode cX1_type 21 = .ok (.invokevirtual 277, 3) := dk_182 1 21 (dk_at dksX1_type_0 21 rfl rfl)
theorem dX1_type_24 : decode cX1_type 24 = .ok (.bipush 60, 2) := dk_16 60 (dk_at dksX1_type_1 0 rfl rfl)
theorem dX1_type_26 : decode cX1_type 26 = .ok (.if_icmp .ge 7, 3) := dk_162 0 7 (dk_at dksX1_type_1 2 rfl rfl)
theorem dX1_type_29 : decode cX1_type 29 = .ok (.iconst 1, 1) := dk_4 (dk_at dksX1_type_1 5 rfl rfl)
theorem dX1_type_30 : decode cX1_type 30 = .ok (.goto 4, 3) := dk_167 0 4 (dk_at dksX1_type_1 6 rfl rfl)
theorem dX1_type_33 : decode cX1_type 33 = .ok (.iconst 0, 1) := dk_3 (dk_at dksX1_type_1 9 rfl rfl)
theorem dX1_type_34 : decode cX1_type 34 = .ok (.invokestatic 198, 3) := dk_184 0 198 (dk_at dksX1_type_1 10 rfl rfl)
theorem dX1_type_37 : decode cX1_type 37 = .ok (.aload_n 0, 1) := dk_42 (dk_at dksX1_type_1 13 rfl rfl)
theorem dX1_type_38 : decode cX1_type 38 = .ok (.getfield 68, 3) := dk_180 0 68 (dk_at dksX1_type_1 14 rfl rfl)
theorem dX1_type_41 : decode cX1_type 41 = .ok (.iload_n 1, 1) := dk_27 (dk_at dksX1_type_1 17 rfl rfl)
theorem dX1_type_42 : decode cX1_type 42 = .ok (.invokevirtual 278, 3) := dk_182 1 22 (dk_at dksX1_type_1 18 rfl rfl)
theorem dX1_type_45 : decode cX1_type 45 = .ok (.pop, 1) := dk_87 (dk_at dksX1_type_1 21 rfl rfl)
theorem dX1_type_46 : decode cX1_type 46 = .ok (.aload_n 0, 1) := dk_42 (dk_at dksX1_type_1 22 rfl rfl)
theorem dX1_type_47 : decode cX1_type 47 = .ok (.getfield 68, 3) := dk_180 0 68 (dk_at dksX1_type_2 0 rfl rfl)
theorem dX1_type_50 : decode cX1_type 50 = .ok (.invokevirtual 277, 3) := dk_182 1 21 (dk_at dksX1_type_2 3 rfl rfl)
theorem dX1_type_53 : decode cX1_type 53 = .ok (.ireturn, 1) := dk_172 (dk_at dksX1_type_2 6 rfl rfl)
def dkwX1_execute_2 : List UInt8 := [182, 0, 29, 172, 78, 42, 45, 180, 1, 57, 181, 0, 53, 187, 1, 26, 89, 183, 1, 60, 191]
abbrev dktX1_execute_2 : List UInt8 := dkwX1_execute_2 ++ []
def dkwX1_execute_1 : List UInt8 := [187, 1, 42, 89, 43, 183, 1, 44, 182, 1, 47, 78, 42, 45, 44, 182, 1, 51, 42, 44, 45, 182, 0, 83]
abbrev dktX1_execute_1 : List UInt8 := dkwX1_execute_1 ++ dktX1_execute_2
def dkwX1_execute_0 : List UInt8 := [42, 180, 0, 68, 182, 1, 37, 76, 42, 180, 0, 68, 3, 182, 1, 38, 42, 180, 0, 7, 182, 0, 17, 77]
abbrev dktX1_execute_0 : List UInt8 := dkwX1_execute_0 ++ dktX1_execute_1
theorem dksX1_execute_0 : cX1_execute.data.toList.drop 0 = dktX1_execute_0 := by decide +kernel
theorem dksX1_execute_1 : cX1_execute.data.toList.drop 24 = dktX1_execute_1 := dk_seg dksX1_execute_0 24 rfl rfl
theorem dksX1_execute_2 : cX1_execute.data.toList.drop 48 = dktX1_execute_2 := dk_seg dksX1_execute_1 24 rfl rfl
theorem dX1_execute_0 : decode cX1_execute 0 = .ok (.aload_n 0, 1) := dk_42 (dk_at dksX1_execute_0 0 rfl rfl)
theorem dX1_execute_1 : decode cX1_execute 1 = .ok (.getfield 68, 3) := dk_180 0 68 (dk_at dksX1_execute_0 1 rfl rfl)
theorem dX1_execute_4 : decode cX1_execute 4 = .ok (.invokevirtual 293, 3) := dk_182 1 37 (dk_at dksX1_execute_0 4 rfl rfl)
theorem dX1_execute_7 : decode cX1_execute 7 = .ok (.astore_n 1, 1) := dk_76 (dk_at dksX1_execute_0 7 rfl rfl)
theorem dX1_execute_8 : decode cX1_execute 8 = .ok (.aload_n 0, 1) := dk_42 (dk_at dksX1_execute_0 8 rfl rfl)
theorem dX1_execute_9 : decode cX1_execute 9 = .ok (.getfield 68, 3) := dk_180 0 68 (dk_at dksX1_execute_0 9 rfl rfl)
theorem dX1_execute_12 : decode cX1_execute 12 = .ok (.iconst 0, 1) := dk_3 (dk_at dksX1_execute_0 12 rfl rfl)
theorem dX1_execute_13 : decode cX1_execute 13 = .ok (.invokevirtual 294, 3) := dk_182 1 38 (dk_at dksX1_execute_0 13 rfl rfl)
theorem dX1_execute_16 : decode cX1_execute 16 = .ok (.aload_n 0, 1) := dk_42 (dk_at dksX1_execute_0 16 rfl rfl)
theorem dX1_execute_17 : decode cX1_execute 17 = .ok (.getfield 7, 3) := dk_180 0 7 (dk_at dksX1_execute_0 17 rfl rfl)
theorem dX1_execute_20 : decode cX1_execute 20 = .ok (.invokevirtual 17, 3) := dk_182 0 17 (dk_at dksX1_execute_0 20 rfl rfl)
theorem dX1_execute_23 : decode cX1_execute 23 = .ok (.astore_n 2, 1) := dk_77 (dk_at dksX1_execute_0 23 rfl rfl)
theorem dX1_execute_24 : decode cX1_execute 24 = .ok (.new 298, 3) := dk_187 1 42 (dk_at dksX1_execute_1 0 rfl rfl)
theorem dX1_execute_27 : decode cX1_execute 27 = .ok (.dup, 1) := dk_89 (dk_at dksX1_execute_1 3 rfl rfl)
theorem dX1_execute_28 : decode cX1_execute 28 = .ok (.aload_n 1, 1) := dk_43 (dk_at dksX1_execute_1 4 rfl rfl)
theorem dX1_execute_29 : decode cX1_execute 29 = .ok (.invokespecial 300, 3) := dk_183 1 44 (dk_at dksX1_execute_1 5 rfl rfl)
theorem dX1_execute_32 : decode cX1_execute 32 = .ok (.invokevirtual 303, 3) := dk_182 1 47 (dk_at dksX1_execute_1 8 rfl rfl)
theorem dX1_execute_35 : decode cX1_execute 35 = .ok (.astore_n 3, 1) := dk_78 (dk_at dksX1_execute_1 11 rfl rfl)
theorem dX1_execute_36 : decode cX1_execute 36 = .ok (.aload_n 0, 1) := dk_42 (dk_at dksX1_execute_1 12 rfl rfl)
theorem dX1_execute_37 : decode cX1_execute 37 = .ok (.aload_n 3, 1) := dk_45 (dk_at dksX1_execute_1 13 rfl rfl)
theorem dX1_execute_38 : decode cX1_execute 38 = .ok (.aload_n 2, 1) := dk_44 (dk_at dksX1_execute_1 14 rfl rfl)
theorem dX1_execute_39 : decode cX1_execute 39 = .ok (.invokevirtual 307, 3) := dk_182 1 51 (dk_at dksX1_execute_1 15 rfl rfl)
theorem dX1_execute_42 : decode cX1_execute 42 = .ok (.aload_n 0, 1) := dk_42 (dk_at dksX1_execute_1 18 rfl rfl)
theorem dX1_execute_43 : decode cX1_execute 43 = .ok (.aload_n 2, 1) := dk_44 (dk_at dksX1_execute_1 19 rfl rfl)
theorem dX1_execute_44 : decode cX1_execute 44 = .ok (.aload_n 3, 1) := dk_45 (dk_at dksX1_execute_1 20 rfl rfl)
theorem dX1_execute_45 : decode cX1_execute 45 = .ok (.invokevirtual 83, 3) := dk_182 0 83 (dk_at dksX1_execute_1 21 rfl rfl)
theorem dX1_execute_48 : decode cX1_execute 48 = .ok (.invokevirtual 29, 3) := dk_182 0 29 (dk_at dksX1_execute_2 0 rfl rfl)
theorem dX1_execute_51 : decode cX1_execute 51 = .ok (.ireturn, 1) := dk_172 (dk_at dksX1_execute_2 3 rfl rfl)
theorem dX1_execute_52 : decode cX1_execute 52 = .ok (.astore_n 3, 1) := dk_78 (dk_at dksX1_execute_2 4 rfl rfl)
theorem dX1_execute_53 : decode cX1_execute 53 = .ok (.aload_n 0, 1) := dk_42 (dk_at dksX1_execute_2 5 rfl rfl)
theorem dX1_execute_54 : decode cX1_execute 54 = .ok (.aload_n 3, 1) := dk_45 (dk_at dksX1_execute_2 6 rfl rfl)
theorem dX1_execute_55 : decode cX1_execute 55 = .ok (.getfield 313, 3) := dk_180 1 57 (dk_at dksX1_execute_2 7 rfl rfl)
theorem dX1_execute_58 : decode cX1_execute 58 = .ok (.putfield 53, 3) := dk_181 0 53 (dk_at dksX1_execute_2 10 rfl rfl)
theorem dX1_execute_61 : decode cX1_execute 61 = .ok (.new 282, 3) := dk_187 1 26 (dk_at dksX1_execute_2 13 rfl rfl)
theorem dX1_execute_64 : decode cX1_execute 64 = .ok (.dup, 1) := dk_89 (dk_at dksX1_execute_2 16 rfl rfl)
theorem dX1_execute_65 : decode cX1_execute 65 = .ok (.invokespecial 316, 3) := dk_183 1 60 (dk_at dksX1_execute_2 17 rfl rfl)
theorem dX1_execute_68 : decode cX1_execute 68 = .ok (.athrow, 1) := dk_191 (dk_at dksX1_execute_2 20 rfl rfl)
def dkwX1_applyAll_2 : List UInt8 := [167, 255, 213, 177]
abbrev dktX1_applyAll_2 : List UInt8 := dkwX1_applyAll_2 ++ []
def dkwX1_applyAll_1 : List UInt8 := [153, 0, 6, 167, 0, 16, 42, 29, 181, 0, 56, 187, 1, 28, 89, 183, 1, 36, 191, 132, 3, 1]
abbrev dktX1_applyAll_1 : List UInt8 := dkwX1_applyAll_1 ++ dktX1_applyAll_2
def dkwX1_applyAll_0 : List UInt8 := [3, 62, 29, 43, 182, 0, 83, 162, 0, 41, 42, 43, 29, 182, 0, 118, 192, 0, 24, 44, 182, 1, 32]
abbrev dktX1_applyAll_0 : List UInt8 := dkwX1_applyAll_0 ++ dktX1_applyAll_1
theorem dksX1_applyAll_0 : cX1_applyAll.data.toList.drop 0 = dktX1_applyAll_0 := by decide +kernel
theorem dksX1_applyAll_1 : cX1_applyAll.data.toList.drop 23 = dktX1_applyAll_1 := dk_seg dksX1_applyAll_0 23 rfl rfl
theorem dksX1_applyAll_2 : cX1_applyAll.data.toList.drop 45 = dktX1_applyAll_2 := dk_seg dksX1_applyAll_1 22 rfl rfl
theorem dX1_applyAll_0 : decode cX1_applyAll 0 = .ok (.iconst 0, 1) := dk_3 (dk_at dksX1_applyAll_0 0 rfl rfl)
theorem dX1_applyAll_1 : decode cX1_applyAll 1 = .ok (.istore_n 3, 1) := dk_62 (dk_at dksX1_applyAll_0 1 rfl rfl)
theorem dX1_applyAll_2 : decode cX1_applyAll 2 = .ok (.iload_n 3, 1) := dk_29 (dk_at dksX1_applyAll_0 2 rfl rfl)
theorem dX1_applyAll_3 : decode cX1_applyAll 3 = .ok (.aload_n 1, 1) := dk_43 (dk_at dksX1_applyAll_0 3 rfl rfl)
theorem dX1_applyAll_4 : decode cX1_applyAll 4 = .ok (.invokevirtual 83, 3) := dk_182 0 83 (dk_at dksX1_applyAll_0 4 rfl rfl)
theorem dX1_applyAll_7 : decode cX1_applyAll 7 = .ok (.if_icmp .ge 41, 3) := dk_162 0 41 (dk_at dksX1_applyAll_0 7 rfl rfl)
theorem dX1_applyAll_10 : decode cX1_applyAll 10 = .ok (.aload_n 0, 1) := dk_42 (dk_at dksX1_applyAll_0 10 rfl rfl)
theorem dX1_applyAll_11 : decode cX1_applyAll 11 = .ok (.aload_n 1, 1) := dk_43 (dk_at dksX1_applyAll_0 11 rfl rfl)
theorem dX1_applyAll_12 : decode cX1_applyAll 12 = .ok (.iload_n 3, 1) := dk_29 (dk_at dksX1_applyAll_0 12 rfl rfl)
theorem dX1_applyAll_13 : decode cX1_applyAll 13 = .ok (.invokevirtual 118, 3) := dk_182 0 118 (dk_at dksX1_applyAll_0 13 rfl rfl)
theorem dX1_applyAll_16 : decode cX1_applyAll 16 = .ok (.checkcast 24, 3) := dk_192 0 24 (dk_at dksX1_applyAll_0 16 rfl rfl)
theorem dX1_applyAll_19 : decode cX1_applyAll 19 = .ok (.aload_n 2, 1) := dk_44 (dk_at dksX1_applyAll_0 19 rfl rfl)
theorem dX1_applyAll_20 : decode cX1_applyAll 20 = .ok (.invokevirtual 288, 3) := dk_182 1 32 (dk_at dksX1_applyAll_0 20 rfl rfl)
theorem dX1_applyAll_23 : decode cX1_applyAll 23 = .ok (.ifCond .eq 6, 3) := dk_153 0 6 (dk_at dksX1_applyAll_1 0 rfl rfl)
theorem dX1_applyAll_26 : decode cX1_applyAll 26 = .ok (.goto 16, 3) := dk_167 0 16 (dk_at dksX1_applyAll_1 3 rfl rfl)
theorem dX1_applyAll_29 : decode cX1_applyAll 29 = .ok (.aload_n 0, 1) := dk_42 (dk_at dksX1_applyAll_1 6 rfl rfl)
theorem dX1_applyAll_30 : decode cX1_applyAll 30 = .ok (.iload_n 3, 1) := dk_29 (dk_at dksX1_applyAll_1 7 rfl rfl)
theorem dX1_applyAll_31 : decode cX1_applyAll 31 = .ok (.putfield 56, 3) := dk_181 0 56 (dk_at dksX1_applyAll_1 8 rfl rfl)
theorem dX1_applyAll_34 : decode cX1_applyAll 34 = .ok (.new 284, 3) := dk_187 1 28 (dk_at dksX1_applyAll_1 11 rfl rfl)
theorem dX1_applyAll_37 : decode cX1_applyAll 37 = .ok (.dup, 1) := dk_89 (dk_at dksX1_applyAll_1 14 rfl rfl)
theorem dX1_applyAll_38 : decode cX1_applyAll 38 = .ok (.invokespecial 292, 3) := dk_183 1 36 (dk_at dksX1_applyAll_1 15 rfl rfl)
theorem dX1_applyAll_41 : decode cX1_applyAll 41 = .ok (.athrow, 1) := dk_191 (dk_at dksX1_applyAll_1 18 rfl rfl)
theorem dX1_applyAll_42 : decode cX1_applyAll 42 = .ok (.iinc 3 1, 3) := dk_132 3 1 (dk_at dksX1_applyAll_1 19 rfl rfl)
theorem dX1_applyAll_45 : decode cX1_applyAll 45 = .ok (.goto (-43), 3) := dk_167 255 213 (dk_at dksX1_applyAll_2 0 rfl rfl)
theorem dX1_applyAll_48 : decode cX1_applyAll 48 = .ok (.return_, 1) := dk_177 (dk_at dksX1_applyAll_2 3 rfl rfl)
def dkwX1_applies_0 : List UInt8 := [43, 44, 182, 0, 23, 62, 4, 172, 78, 42, 45, 180, 0, 35, 181, 0, 39, 3, 172, 78, 3, 172]
abbrev dktX1_applies_0 : List UInt8 := dkwX1_applies_0 ++ []
theorem dksX1_applies_0 : cX1_applies.data.toList.drop 0 = dktX1_applies_0 := by decide +kernel
theorem dX1_applies_0 : decode cX1_applies 0 = .ok (.aload_n 1, 1) := dk_43 (dk_at dksX1_applies_0 0 rfl rfl)
theorem dX1_applies_1 : decode cX1_applies 1 = .ok (.aload_n 2, 1) := dk_44 (dk_at dksX1_applies_0 1 rfl rfl)
theorem dX1_applies_2 : decode cX1_applies 2 = .ok (.invokevirtual 23, 3) := dk_182 0 23 (dk_at dksX1_applies_0 2 rfl rfl)
theorem dX1_applies_5 : decode cX1_applies 5 = .ok (.istore_n 3, 1) := dk_62 (dk_at dksX1_applies_0 5 rfl rfl)
theorem dX1_applies_6 : decode cX1_applies 6 = .ok (.iconst 1, 1) := dk_4 (dk_at dksX1_applies_0 6 rfl rfl)
theorem dX1_applies_7 : decode cX1_applies 7 = .ok (.ireturn, 1) := dk_172 (dk_at dksX1_applies_0 7 rfl rfl)
theorem dX1_applies_8 : decode cX1_applies 8 = .ok (.astore_n 3, 1) := dk_78 (dk_at dksX1_applies_0 8 rfl rfl)
theorem dX1_applies_9 : decode cX1_applies 9 = .ok (.aload_n 0, 1) := dk_42 (dk_at dksX1_applies_0 9 rfl rfl)
theorem dX1_applies_10 : decode cX1_applies 10 = .ok (.aload_n 3, 1) := dk_45 (dk_at dksX1_applies_0 10 rfl rfl)
theorem dX1_applies_11 : decode cX1_applies 11 = .ok (.getfield 35, 3) := dk_180 0 35 (dk_at dksX1_applies_0 11 rfl rfl)
theorem dX1_applies_14 : decode cX1_applies 14 = .ok (.putfield 39, 3) := dk_181 0 39 (dk_at dksX1_applies_0 14 rfl rfl)
theorem dX1_applies_17 : decode cX1_applies 17 = .ok (.iconst 0, 1) := dk_3 (dk_at dksX1_applies_0 17 rfl rfl)
theorem dX1_applies_18 : decode cX1_applies 18 = .ok (.ireturn, 1) := dk_172 (dk_at dksX1_applies_0 18 rfl rfl)
theorem dX1_applies_19 : decode cX1_applies 19 = .ok (.astore_n 3, 1) := dk_78 (dk_at dksX1_applies_0 19 rfl rfl)
theorem dX1_applies_20 : decode cX1_applies 20 = .ok (.iconst 0, 1) := dk_3 (dk_at dksX1_applies_0 20 rfl rfl)
theorem dX1_applies_21 : decode cX1_applies 21 = .ok (.ireturn, 1) := dk_172 (dk_at dksX1_applies_0 21 rfl rfl)
def dkwX1_errorPosition_0 : List UInt8 := [42, 180, 0, 53, 184, 0, 150, 172]
abbrev dktX1_errorPosition_0 : List UInt8 := dkwX1_errorPosition_0 ++ []
theorem dksX1_errorPosition_0 : cX1_errorPosition.data.toList.drop 0 = dktX1_errorPosition_0 := by decide +kernel
theorem dX1_errorPosition_0 : decode cX1_errorPosition 0 = .ok (.aload_n 0, 1) := dk_42 (dk_at dksX1_errorPosition_0 0 rfl rfl)
theorem dX1_errorPosition_1 : decode cX1_errorPosition 1 = .ok (.getfield 53, 3) := dk_180 0 53 (dk_at dksX1_errorPosition_0 1 rfl rfl)
theorem dX1_errorPosition_4 : decode cX1_errorPosition 4 = .ok (.invokestatic 150, 3) := dk_184 0 150 (dk_at dksX1_errorPosition_0 4 rfl rfl)
theorem dX1_errorPosition_7 : decode cX1_errorPosition 7 = .ok (.ireturn, 1) := dk_172 (dk_at dksX1_errorPosition_0 7 rfl rfl)
def dkwX1_failedCommand_0 : List UInt8 := [42, 180, 0, 56, 184, 0, 150, 172]
abbrev dktX1_failedCommand_0 : List UInt8 := dkwX1_failedCommand_0 ++ []
theorem dksX1_failedCommand_0 : cX1_failedCommand.data.toList.drop 0 = dktX1_failedCommand_0 := by decide +kernel
theorem dX1_failedCommand_0 : decode cX1_failedCommand 0 = .ok (.aload_n 0, 1) := dk_42 (dk_at dksX1_failedCommand_0 0 rfl rfl)
theorem dX1_failedCommand_1 : decode cX1_failedCommand 1 = .ok (.getfield 56, 3) := dk_180 0 56 (dk_at dksX1_failedCommand_0 1 rfl rfl)
theorem dX1_failedCommand_4 : decode cX1_failedCommand 4 = .ok (.invokestatic 150, 3) := dk_184 0 150 (dk_at dksX1_failedCommand_0 4 rfl rfl)
theorem dX1_failedCommand_7 : decode cX1_failedCommand 7 = .ok (.ireturn, 1) := dk_172 (dk_at dksX1_failedCommand_0 7 rfl rfl)
def dkwX1_undo_0 : List UInt8 := [42, 42, 180, 0, 1, 182, 1, 61, 181, 0, 7, 42, 180, 0, 1, 182, 1, 64, 172]
abbrev dktX1_undo_0 : List UInt8 := dkwX1_undo_0 ++ []
theorem dksX1_undo_0 : cX1_undo.data.toList.drop 0 = dktX1_undo_0 := by decide +kernel
theorem dX1_undo_0 : decode cX1_undo 0 = .ok (.aload_n 0, 1) := dk_42 (dk_at dksX1_undo_0 0 rfl rfl)
theorem dX1_undo_1 : decode cX1_undo 1 = .ok (.aload_n 0, 1) := dk_42 (dk_at dksX1_undo_0 1 rfl rfl)
theorem dX1_undo_2 : decode cX1_undo 2 = .ok (.getfield 1, 3) := dk_180 0 1 (dk_at dksX1_undo_0 2 rfl rfl)
theorem dX1_undo_5 : decode cX1_undo 5 = .ok (.invokevirtual 317, 3) := dk_182 1 61 (dk_at dksX1_undo_0 5 rfl rfl)
theorem dX1_undo_8 : decode cX1_undo 8 = .ok (.putfield 7, 3) := dk_181 0 7 (dk_at dksX1_undo_0 8 rfl rfl)
theorem dX1_undo_11 : decode cX1_undo 11 = .ok (.aload_n 0, 1) := dk_42 (dk_at dksX1_undo_0 11 rfl rfl)
theorem dX1_undo_12 : decode cX1_undo 12 = .ok (.getfield 1, 3) := dk_180 0 1 (dk_at dksX1_undo_0 12 rfl rfl)
theorem dX1_undo_15 : decode cX1_undo 15 = .ok (.invokevirtual 320, 3) := dk_182 1 64 (dk_at dksX1_undo_0 15 rfl rfl)
theorem dX1_undo_18 : decode cX1_undo 18 = .ok (.ireturn, 1) := dk_172 (dk_at dksX1_undo_0 18 rfl rfl)
def dkwX1_restore_1 : List UInt8 := [181, 0, 7, 42, 180, 0, 1, 182, 1, 68, 42, 180, 0, 7, 180, 0, 181, 172]
abbrev dktX1_restore_1 : List UInt8 := dkwX1_restore_1 ++ []
def dkwX1_restore_0 : List UInt8 := [42, 180, 1, 65, 198, 0, 7, 4, 167, 0, 4, 3, 184, 0, 198, 42, 42, 180, 1, 65, 182, 0, 17]
abbrev dktX1_restore_0 : List UInt8 := dkwX1_restore_0 ++ dktX1_restore_1
theorem dksX1_restore_0 : cX1_restore.data.toList.drop 0 = dktX1_restore_0 := by decide +kernel
theorem dksX1_restore_1 : cX1_restore.data.toList.drop 23 = dktX1_restore_1 := dk_seg dksX1_restore_0 23 rfl rfl
theorem dX1_restore_0 : decode cX1_restore 0 = .ok (.aload_n 0, 1) := dk_42 (dk_at dksX1_restore_0 0 rfl rfl)
theorem dX1_restore_1 : decode cX1_restore 1 = .ok (.getfield 321, 3) := dk_180 1 65 (dk_at dksX1_restore_0 1 rfl rfl)
theorem dX1_restore_4 : decode cX1_restore 4 = .ok (.ifnull 7, 3) := dk_198 0 7 (dk_at dksX1_restore_0 4 rfl rfl)
theorem dX1_restore_7 : decode cX1_restore 7 = .ok (.iconst 1, 1) := dk_4 (dk_at dksX1_restore_0 7 rfl rfl)
theorem dX1_restore_8 : decode cX1_restore 8 = .ok (.goto 4, 3) := dk_167 0 4 (dk_at dksX1_restore_0 8 rfl rfl)
theorem dX1_restore_11 : decode cX1_restore 11 = .ok (.iconst 0, 1) := dk_3 (dk_at dksX1_restore_0 11 rfl rfl)
theorem dX1_restore_12 : decode cX1_restore 12 = .ok (.invokestatic 198, 3) := dk_184 0 198 (dk_at dksX1_restore_0 12 rfl rfl)
theorem dX1_restore_15 : decode cX1_restore 15 = .ok (.aload_n 0, 1) := dk_42 (dk_at dksX1_restore_0 15 rfl rfl)
theorem dX1_restore_16 : decode cX1_restore 16 = .ok (.aload_n 0, 1) := dk_42 (dk_at dksX1_restore_0 16 rfl rfl)
theorem dX1_restore_17 : decode cX1_restore 17 = .ok (.getfield 321, 3) := dk_180 1 65 (dk_at dksX1_restore_0 17 rfl rfl)
theorem dX1_restore_20 : decode cX1_restore 20 = .ok (.invokevirtual 17, 3) := dk_182 0 17 (dk_at dksX1_restore_0 20 rfl rfl)
theorem dX1_restore_23 : decode cX1_restore 23 = .ok (.putfield 7, 3) := dk_181 0 7 (dk_at dksX1_restore_1 0 rfl rfl)
theorem dX1_restore_26 : decode cX1_restore 26 = .ok (.aload_n 0, 1) := dk_42 (dk_at dksX1_restore_1 3 rfl rfl)
theorem dX1_restore_27 : decode cX1_restore 27 = .ok (.getfield 1, 3) := dk_180 0 1 (dk_at dksX1_restore_1 4 rfl rfl)
theorem dX1_restore_30 : decode cX1_restore 30 = .ok (.invokevirtual 324, 3) := dk_182 1 68 (dk_at dksX1_restore_1 7 rfl rfl)
theorem dX1_restore_33 : decode cX1_restore 33 = .ok (.aload_n 0, 1) := dk_42 (dk_at dksX1_restore_1 10 rfl rfl)
theorem dX1_restore_34 : decode cX1_restore 34 = .ok (.getfield 7, 3) := dk_180 0 7 (dk_at dksX1_restore_1 11 rfl rfl)
theorem dX1_restore_37 : decode cX1_restore 37 = .ok (.getfield 181, 3) := dk_180 0 181 (dk_at dksX1_restore_1 14 rfl rfl)
theorem dX1_restore_40 : decode cX1_restore 40 = .ok (.ireturn, 1) := dk_172 (dk_at dksX1_restore_1 17 rfl rfl)
def tX1_init : pb_T := [(0, .aload_n 0, 1, 0), (1, .invokespecial 48, 4, 0), (4, .aload_n 0, 5, 0), (5, .new 18, 8, 0), (8, .dup, 9, 0), (9, .invokespecial 51, 12, 0), (12, .putfield 7, 15, 0), (15, .aload_n 0, 16, 0), (16, .new 12, 19, 0), (19, .dup, 20, 0), (20, .invokespecial 52, 23, 0), (23, .putfield 1, 26, 0), (26, .aload_n 0, 27, 0), (27, .iconst (-1), 28, 0), (28, .putfield 39, 31, 0), (31, .aload_n 0, 32, 0), (32, .iconst (-1), 33, 0), (33, .putfield 53, 36, 0), (36, .aload_n 0, 37, 0), (37, .iconst (-1), 38, 0), (38, .putfield 56, 41, 0), (41, .aload_n 0, 42, 0), (42, .ldc 59, 44, 0), (44, .putfield 61, 47, 0), (47, .aload_n 0, 48, 0), (48, .new 65, 51, 0), (51, .dup, 52, 0), (52, .invokespecial 67, 55, 0), (55, .putfield 68, 58, 0), (58, .return_, 59, 0)]
theorem tX1_init_ok : pb_Tok cX1_init tX1_init := pb_Tok.cons dX1_init_0 rfl (pb_Tok.cons dX1_init_1 rfl (pb_Tok.cons dX1_init_4 rfl (pb_Tok.cons dX1_init_5 rfl (pb_Tok.cons dX1_init_8 rfl (pb_Tok.cons dX1_init_9 rfl (pb_Tok.cons dX1_init_12 rfl (pb_Tok.cons dX1_init_15 rfl (pb_Tok.cons dX1_init_16 rfl (pb_Tok.cons dX1_init_19 rfl (pb_Tok.cons dX1_init_20 rfl (pb_Tok.cons dX1_init_23 rfl (pb_Tok.cons dX1_init_26 rfl (pb_Tok.cons dX1_init_27 rfl (pb_Tok.cons dX1_init_28 rfl (pb_Tok.cons dX1_init_31 rfl (pb_Tok.cons dX1_init_32 rfl (pb_Tok.cons dX1_init_33 rfl (pb_Tok.cons dX1_init_36 rfl (pb_Tok.cons dX1_init_37 rfl (pb_Tok.cons dX1_init_38 rfl (pb_Tok.cons dX1_init_41 rfl (pb_Tok.cons dX1_init_42 rfl (pb_Tok.cons dX1_init_44 rfl (pb_Tok.cons dX1_init_47 rfl (pb_Tok.cons dX1_init_48 rfl (pb_Tok.cons dX1_init_51 rfl (pb_Tok.cons dX1_init_52 rfl (pb_Tok.cons dX1_init_55 rfl (pb_Tok.cons dX1_init_58 rfl pb_Tok.nil)))))))))))))))))))))))))))))
def tX1_hullCount : pb_T := [(0, .aload_n 0, 1, 0), (1, .getfield 7, 4, 0), (4, .getfield 79, 7, 0), (7, .invokevirtual 83, 10, 0), (10, .ireturn, 11, 0)]
theorem tX1_hullCount_ok : pb_Tok cX1_hullCount tX1_hullCount := pb_Tok.cons dX1_hullCount_0 rfl (pb_Tok.cons dX1_hullCount_1 rfl (pb_Tok.cons dX1_hullCount_4 rfl (pb_Tok.cons dX1_hullCount_7 rfl (pb_Tok.cons dX1_hullCount_10 rfl pb_Tok.nil))))
def tX1_hour : pb_T := [(0, .aload_n 0, 1, 0), (1, .getfield 7, 4, 0), (4, .getfield 181, 7, 0), (7, .ireturn, 8, 0)]
theorem tX1_hour_ok : pb_Tok cX1_hour tX1_hour := pb_Tok.cons dX1_hour_0 rfl (pb_Tok.cons dX1_hour_1 rfl (pb_Tok.cons dX1_hour_4 rfl (pb_Tok.cons dX1_hour_7 rfl pb_Tok.nil)))
def tX1_mostOnSlips : pb_T := [(0, .aload_n 0, 1, 0), (1, .getfield 7, 4, 0), (4, .invokevirtual 225, 7, 0), (7, .ireturn, 8, 0)]
theorem tX1_mostOnSlips_ok : pb_Tok cX1_mostOnSlips tX1_mostOnSlips := pb_Tok.cons dX1_mostOnSlips_0 rfl (pb_Tok.cons dX1_mostOnSlips_1 rfl (pb_Tok.cons dX1_mostOnSlips_4 rfl (pb_Tok.cons dX1_mostOnSlips_7 rfl pb_Tok.nil)))
def tX1_mostOnSlipsByLengths : pb_T := [(0, .aload_n 0, 1, 0), (1, .getfield 7, 4, 0), (4, .invokevirtual 228, 7, 0), (7, .ireturn, 8, 0)]
theorem tX1_mostOnSlipsByLengths_ok : pb_Tok cX1_mostOnSlipsByLengths tX1_mostOnSlipsByLengths := pb_Tok.cons dX1_mostOnSlipsByLengths_0 rfl (pb_Tok.cons dX1_mostOnSlipsByLengths_1 rfl (pb_Tok.cons dX1_mostOnSlipsByLengths_4 rfl (pb_Tok.cons dX1_mostOnSlipsByLengths_7 rfl pb_Tok.nil)))
def tX1_bestUses : pb_T := [(0, .aload_n 0, 1, 0), (1, .getfield 7, 4, 0), (4, .iconst 0, 5, 0), (5, .iconst 0, 6, 0), (6, .aload_n 0, 7, 0), (7, .getfield 7, 10, 0), (10, .invokevirtual 225, 13, 0), (13, .invokevirtual 231, 16, 0), (16, .ireturn, 17, 0)]
theorem tX1_bestUses_ok : pb_Tok cX1_bestUses tX1_bestUses := pb_Tok.cons dX1_bestUses_0 rfl (pb_Tok.cons dX1_bestUses_1 rfl (pb_Tok.cons dX1_bestUses_4 rfl (pb_Tok.cons dX1_bestUses_5 rfl (pb_Tok.cons dX1_bestUses_6 rfl (pb_Tok.cons dX1_bestUses_7 rfl (pb_Tok.cons dX1_bestUses_10 rfl (pb_Tok.cons dX1_bestUses_13 rfl (pb_Tok.cons dX1_bestUses_16 rfl pb_Tok.nil))))))))
def tX1_orderCount : pb_T := [(0, .aload_n 0, 1, 0), (1, .getfield 7, 4, 0), (4, .getfield 235, 7, 0), (7, .invokevirtual 83, 10, 0), (10, .ireturn, 11, 0)]
theorem tX1_orderCount_ok : pb_Tok cX1_orderCount tX1_orderCount := pb_Tok.cons dX1_orderCount_0 rfl (pb_Tok.cons dX1_orderCount_1 rfl (pb_Tok.cons dX1_orderCount_4 rfl (pb_Tok.cons dX1_orderCount_7 rfl (pb_Tok.cons dX1_orderCount_10 rfl pb_Tok.nil))))
def tX1_bestDelivery : pb_T := [(0, .aload_n 0, 1, 0), (1, .getfield 7, 4, 0), (4, .invokevirtual 250, 7, 0), (7, .ireturn, 8, 0)]
theorem tX1_bestDelivery_ok : pb_Tok cX1_bestDelivery tX1_bestDelivery := pb_Tok.cons dX1_bestDelivery_0 rfl (pb_Tok.cons dX1_bestDelivery_1 rfl (pb_Tok.cons dX1_bestDelivery_4 rfl (pb_Tok.cons dX1_bestDelivery_7 rfl pb_Tok.nil)))
def tX1_paidCoins : pb_T := [(0, .aload_n 0, 1, 0), (1, .getfield 7, 4, 0), (4, .getfield 253, 7, 0), (7, .lreturn, 8, 0)]
theorem tX1_paidCoins_ok : pb_Tok cX1_paidCoins tX1_paidCoins := pb_Tok.cons dX1_paidCoins_0 rfl (pb_Tok.cons dX1_paidCoins_1 rfl (pb_Tok.cons dX1_paidCoins_4 rfl (pb_Tok.cons dX1_paidCoins_7 rfl pb_Tok.nil)))
def tX1_save : pb_T := [(0, .aload_n 0, 1, 0), (1, .aload_n 0, 2, 0), (2, .getfield 7, 5, 0), (5, .invokevirtual 17, 8, 0), (8, .putfield 321, 11, 0), (11, .aload_n 0, 12, 0), (12, .getfield 7, 15, 0), (15, .getfield 181, 18, 0), (18, .ireturn, 19, 0)]
theorem tX1_save_ok : pb_Tok cX1_save tX1_save := pb_Tok.cons dX1_save_0 rfl (pb_Tok.cons dX1_save_1 rfl (pb_Tok.cons dX1_save_2 rfl (pb_Tok.cons dX1_save_5 rfl (pb_Tok.cons dX1_save_8 rfl (pb_Tok.cons dX1_save_11 rfl (pb_Tok.cons dX1_save_12 rfl (pb_Tok.cons dX1_save_15 rfl (pb_Tok.cons dX1_save_18 rfl pb_Tok.nil))))))))
def tX1_beginHull : pb_T := [(0, .aload_n 0, 1, 0), (1, .new 24, 4, 0), (4, .dup, 5, 0), (5, .bipush 98, 7, 0), (7, .iconst 0, 8, 0), (8, .newarray .int, 10, 0), (10, .invokespecial 72, 13, 0), (13, .invokevirtual 75, 16, 0), (16, .ireturn, 17, 0)]
theorem tX1_beginHull_ok : pb_Tok cX1_beginHull tX1_beginHull := pb_Tok.cons dX1_beginHull_0 rfl (pb_Tok.cons dX1_beginHull_1 rfl (pb_Tok.cons dX1_beginHull_4 rfl (pb_Tok.cons dX1_beginHull_5 rfl (pb_Tok.cons dX1_beginHull_7 rfl (pb_Tok.cons dX1_beginHull_8 rfl (pb_Tok.cons dX1_beginHull_10 rfl (pb_Tok.cons dX1_beginHull_13 rfl (pb_Tok.cons dX1_beginHull_16 rfl pb_Tok.nil))))))))
def tX1_modify : pb_T := [(0, .aload_n 0, 1, 0), (1, .getfield 7, 4, 0), (4, .invokevirtual 17, 7, 0), (7, .astore_n 2, 8, 0), (8, .aload_n 0, 9, 0), (9, .aload_n 2, 10, 0), (10, .aload_n 1, 11, 0), (11, .aload_n 2, 12, 0), (12, .invokevirtual 23, 15, 0), (15, .invokevirtual 29, 18, 0), (18, .ireturn, 19, 0), (19, .astore_n 3, 20, 0), (20, .aload_n 0, 21, 0), (21, .aload_n 3, 22, 0), (22, .getfield 35, 25, 0), (25, .putfield 39, 28, 0), (28, .new 42, 31, 0), (31, .dup, 32, 0), (32, .invokespecial 44, 35, 0), (35, .athrow, 36, 0)]
theorem tX1_modify_ok : pb_Tok cX1_modify tX1_modify := pb_Tok.cons dX1_modify_0 rfl (pb_Tok.cons dX1_modify_1 rfl (pb_Tok.cons dX1_modify_4 rfl (pb_Tok.cons dX1_modify_7 rfl (pb_Tok.cons dX1_modify_8 rfl (pb_Tok.cons dX1_modify_9 rfl (pb_Tok.cons dX1_modify_10 rfl (pb_Tok.cons dX1_modify_11 rfl (pb_Tok.cons dX1_modify_12 rfl (pb_Tok.cons dX1_modify_15 rfl (pb_Tok.cons dX1_modify_18 rfl (pb_Tok.cons dX1_modify_19 rfl (pb_Tok.cons dX1_modify_20 rfl (pb_Tok.cons dX1_modify_21 rfl (pb_Tok.cons dX1_modify_22 rfl (pb_Tok.cons dX1_modify_25 rfl (pb_Tok.cons dX1_modify_28 rfl (pb_Tok.cons dX1_modify_31 rfl (pb_Tok.cons dX1_modify_32 rfl (pb_Tok.cons dX1_modify_35 rfl pb_Tok.nil)))))))))))))))))))
def tX1_sum : pb_T := [(0, .iconst 0, 1, 0), (1, .istore_n 1, 2, 0), (2, .aload_n 0, 3, 0), (3, .astore_n 2, 4, 0), (4, .aload_n 2, 5, 0), (5, .arraylength, 6, 0), (6, .istore_n 3, 7, 0), (7, .iconst 0, 8, 0), (8, .istore 4, 10, 0), (10, .iload 4, 12, 1), (12, .iload_n 3, 13, 0), (13, .if_icmp .ge 20, 16, 33), (16, .aload_n 2, 17, 0), (17, .iload 4, 19, 0), (19, .iaload, 20, 0), (20, .istore 5, 22, 0), (22, .iload_n 1, 23, 0), (23, .iload 5, 25, 0), (25, .iadd, 26, 0), (26, .istore_n 1, 27, 0), (27, .iinc 4 1, 30, 0), (30, .goto (-20), 33, 10), (33, .iload_n 1, 34, 0), (34, .ireturn, 35, 0)]
theorem tX1_sum_ok : pb_Tok cX1_sum tX1_sum := pb_Tok.cons dX1_sum_0 rfl (pb_Tok.cons dX1_sum_1 rfl (pb_Tok.cons dX1_sum_2 rfl (pb_Tok.cons dX1_sum_3 rfl (pb_Tok.cons dX1_sum_4 rfl (pb_Tok.cons dX1_sum_5 rfl (pb_Tok.cons dX1_sum_6 rfl (pb_Tok.cons dX1_sum_7 rfl (pb_Tok.cons dX1_sum_8 rfl (pb_Tok.cons dX1_sum_10 rfl (pb_Tok.cons dX1_sum_12 rfl (pb_Tok.cons dX1_sum_13 rfl (pb_Tok.cons dX1_sum_16 rfl (pb_Tok.cons dX1_sum_17 rfl (pb_Tok.cons dX1_sum_19 rfl (pb_Tok.cons dX1_sum_20 rfl (pb_Tok.cons dX1_sum_22 rfl (pb_Tok.cons dX1_sum_23 rfl (pb_Tok.cons dX1_sum_25 rfl (pb_Tok.cons dX1_sum_26 rfl (pb_Tok.cons dX1_sum_27 rfl (pb_Tok.cons dX1_sum_30 rfl (pb_Tok.cons dX1_sum_33 rfl (pb_Tok.cons dX1_sum_34 rfl pb_Tok.nil)))))))))))))))))))))))
def tX1_commit : pb_T := [(0, .aload_n 0, 1, 0), (1, .getfield 1, 4, 0), (4, .aload_n 0, 5, 0), (5, .getfield 7, 8, 0), (8, .invokevirtual 11, 11, 0), (11, .aload_n 0, 12, 0), (12, .aload_n 1, 13, 0), (13, .putfield 7, 16, 0), (16, .iload_n 2, 17, 0), (17, .ireturn, 18, 0)]
theorem tX1_commit_ok : pb_Tok cX1_commit tX1_commit := pb_Tok.cons dX1_commit_0 rfl (pb_Tok.cons dX1_commit_1 rfl (pb_Tok.cons dX1_commit_4 rfl (pb_Tok.cons dX1_commit_5 rfl (pb_Tok.cons dX1_commit_8 rfl (pb_Tok.cons dX1_commit_11 rfl (pb_Tok.cons dX1_commit_12 rfl (pb_Tok.cons dX1_commit_13 rfl (pb_Tok.cons dX1_commit_16 rfl (pb_Tok.cons dX1_commit_17 rfl pb_Tok.nil)))))))))
def tX1_addFrame : pb_T := [(0, .aload_n 0, 1, 0), (1, .new 24, 4, 0), (4, .dup, 5, 0), (5, .bipush 102, 7, 0), (7, .iconst 3, 8, 0), (8, .newarray .int, 10, 0), (10, .dup, 11, 0), (11, .iconst 0, 12, 0), (12, .iload_n 1, 13, 0), (13, .iastore, 14, 0), (14, .dup, 15, 0), (15, .iconst 1, 16, 0), (16, .iload_n 2, 17, 0), (17, .iastore, 18, 0), (18, .dup, 19, 0), (19, .iconst 2, 20, 0), (20, .iload_n 3, 21, 0), (21, .iastore, 22, 0), (22, .invokespecial 72, 25, 0), (25, .invokevirtual 75, 28, 0), (28, .ireturn, 29, 0)]
theorem tX1_addFrame_ok : pb_Tok cX1_addFrame tX1_addFrame := pb_Tok.cons dX1_addFrame_0 rfl (pb_Tok.cons dX1_addFrame_1 rfl (pb_Tok.cons dX1_addFrame_4 rfl (pb_Tok.cons dX1_addFrame_5 rfl (pb_Tok.cons dX1_addFrame_7 rfl (pb_Tok.cons dX1_addFrame_8 rfl (pb_Tok.cons dX1_addFrame_10 rfl (pb_Tok.cons dX1_addFrame_11 rfl (pb_Tok.cons dX1_addFrame_12 rfl (pb_Tok.cons dX1_addFrame_13 rfl (pb_Tok.cons dX1_addFrame_14 rfl (pb_Tok.cons dX1_addFrame_15 rfl (pb_Tok.cons dX1_addFrame_16 rfl (pb_Tok.cons dX1_addFrame_17 rfl (pb_Tok.cons dX1_addFrame_18 rfl (pb_Tok.cons dX1_addFrame_19 rfl (pb_Tok.cons dX1_addFrame_20 rfl (pb_Tok.cons dX1_addFrame_21 rfl (pb_Tok.cons dX1_addFrame_22 rfl (pb_Tok.cons dX1_addFrame_25 rfl (pb_Tok.cons dX1_addFrame_28 rfl pb_Tok.nil))))))))))))))))))))
def tX1_mirror : pb_T := [(0, .aload_n 0, 1, 0), (1, .new 24, 4, 0), (4, .dup, 5, 0), (5, .bipush 109, 7, 0), (7, .iconst 1, 8, 0), (8, .newarray .int, 10, 0), (10, .dup, 11, 0), (11, .iconst 0, 12, 0), (12, .iload_n 1, 13, 0), (13, .iastore, 14, 0), (14, .invokespecial 72, 17, 0), (17, .invokevirtual 75, 20, 0), (20, .ireturn, 21, 0)]
theorem tX1_mirror_ok : pb_Tok cX1_mirror tX1_mirror := pb_Tok.cons dX1_mirror_0 rfl (pb_Tok.cons dX1_mirror_1 rfl (pb_Tok.cons dX1_mirror_4 rfl (pb_Tok.cons dX1_mirror_5 rfl (pb_Tok.cons dX1_mirror_7 rfl (pb_Tok.cons dX1_mirror_8 rfl (pb_Tok.cons dX1_mirror_10 rfl (pb_Tok.cons dX1_mirror_11 rfl (pb_Tok.cons dX1_mirror_12 rfl (pb_Tok.cons dX1_mirror_13 rfl (pb_Tok.cons dX1_mirror_14 rfl (pb_Tok.cons dX1_mirror_17 rfl (pb_Tok.cons dX1_mirror_20 rfl pb_Tok.nil))))))))))))
def tX1_setCargo : pb_T := [(0, .aload_n 0, 1, 0), (1, .new 24, 4, 0), (4, .dup, 5, 0), (5, .bipush 103, 7, 0), (7, .iconst 2, 8, 0), (8, .newarray .int, 10, 0), (10, .dup, 11, 0), (11, .iconst 0, 12, 0), (12, .iload_n 1, 13, 0), (13, .iastore, 14, 0), (14, .dup, 15, 0), (15, .iconst 1, 16, 0), (16, .iload_n 2, 17, 0), (17, .iastore, 18, 0), (18, .invokespecial 72, 21, 0), (21, .invokevirtual 75, 24, 0), (24, .ireturn, 25, 0)]
theorem tX1_setCargo_ok : pb_Tok cX1_setCargo tX1_setCargo := pb_Tok.cons dX1_setCargo_0 rfl (pb_Tok.cons dX1_setCargo_1 rfl (pb_Tok.cons dX1_setCargo_4 rfl (pb_Tok.cons dX1_setCargo_5 rfl (pb_Tok.cons dX1_setCargo_7 rfl (pb_Tok.cons dX1_setCargo_8 rfl (pb_Tok.cons dX1_setCargo_10 rfl (pb_Tok.cons dX1_setCargo_11 rfl (pb_Tok.cons dX1_setCargo_12 rfl (pb_Tok.cons dX1_setCargo_13 rfl (pb_Tok.cons dX1_setCargo_14 rfl (pb_Tok.cons dX1_setCargo_15 rfl (pb_Tok.cons dX1_setCargo_16 rfl (pb_Tok.cons dX1_setCargo_17 rfl (pb_Tok.cons dX1_setCargo_18 rfl (pb_Tok.cons dX1_setCargo_21 rfl (pb_Tok.cons dX1_setCargo_24 rfl pb_Tok.nil))))))))))))))))
def tX1_launch : pb_T := [(0, .aload_n 0, 1, 0), (1, .new 24, 4, 0), (4, .dup, 5, 0), (5, .bipush 108, 7, 0), (7, .iconst 1, 8, 0), (8, .newarray .int, 10, 0), (10, .dup, 11, 0), (11, .iconst 0, 12, 0), (12, .iload_n 1, 13, 0), (13, .iastore, 14, 0), (14, .invokespecial 72, 17, 0), (17, .invokevirtual 75, 20, 0), (20, .ireturn, 21, 0)]
theorem tX1_launch_ok : pb_Tok cX1_launch tX1_launch := pb_Tok.cons dX1_launch_0 rfl (pb_Tok.cons dX1_launch_1 rfl (pb_Tok.cons dX1_launch_4 rfl (pb_Tok.cons dX1_launch_5 rfl (pb_Tok.cons dX1_launch_7 rfl (pb_Tok.cons dX1_launch_8 rfl (pb_Tok.cons dX1_launch_10 rfl (pb_Tok.cons dX1_launch_11 rfl (pb_Tok.cons dX1_launch_12 rfl (pb_Tok.cons dX1_launch_13 rfl (pb_Tok.cons dX1_launch_14 rfl (pb_Tok.cons dX1_launch_17 rfl (pb_Tok.cons dX1_launch_20 rfl pb_Tok.nil))))))))))))
def tX1_caulk : pb_T := [(0, .aload_n 0, 1, 0), (1, .new 24, 4, 0), (4, .dup, 5, 0), (5, .bipush 99, 7, 0), (7, .iconst 2, 8, 0), (8, .newarray .int, 10, 0), (10, .dup, 11, 0), (11, .iconst 0, 12, 0), (12, .iload_n 1, 13, 0), (13, .iastore, 14, 0), (14, .dup, 15, 0), (15, .iconst 1, 16, 0), (16, .iload_n 2, 17, 0), (17, .iastore, 18, 0), (18, .invokespecial 72, 21, 0), (21, .invokevirtual 75, 24, 0), (24, .ireturn, 25, 0)]
theorem tX1_caulk_ok : pb_Tok cX1_caulk tX1_caulk := pb_Tok.cons dX1_caulk_0 rfl (pb_Tok.cons dX1_caulk_1 rfl (pb_Tok.cons dX1_caulk_4 rfl (pb_Tok.cons dX1_caulk_5 rfl (pb_Tok.cons dX1_caulk_7 rfl (pb_Tok.cons dX1_caulk_8 rfl (pb_Tok.cons dX1_caulk_10 rfl (pb_Tok.cons dX1_caulk_11 rfl (pb_Tok.cons dX1_caulk_12 rfl (pb_Tok.cons dX1_caulk_13 rfl (pb_Tok.cons dX1_caulk_14 rfl (pb_Tok.cons dX1_caulk_15 rfl (pb_Tok.cons dX1_caulk_16 rfl (pb_Tok.cons dX1_caulk_17 rfl (pb_Tok.cons dX1_caulk_18 rfl (pb_Tok.cons dX1_caulk_21 rfl (pb_Tok.cons dX1_caulk_24 rfl pb_Tok.nil))))))))))))))))
def tX1_pump : pb_T := [(0, .aload_n 0, 1, 0), (1, .new 24, 4, 0), (4, .dup, 5, 0), (5, .bipush 112, 7, 0), (7, .iconst 2, 8, 0), (8, .newarray .int, 10, 0), (10, .dup, 11, 0), (11, .iconst 0, 12, 0), (12, .iload_n 1, 13, 0), (13, .iastore, 14, 0), (14, .dup, 15, 0), (15, .iconst 1, 16, 0), (16, .iload_n 2, 17, 0), (17, .iastore, 18, 0), (18, .invokespecial 72, 21, 0), (21, .invokevirtual 75, 24, 0), (24, .ireturn, 25, 0)]
theorem tX1_pump_ok : pb_Tok cX1_pump tX1_pump := pb_Tok.cons dX1_pump_0 rfl (pb_Tok.cons dX1_pump_1 rfl (pb_Tok.cons dX1_pump_4 rfl (pb_Tok.cons dX1_pump_5 rfl (pb_Tok.cons dX1_pump_7 rfl (pb_Tok.cons dX1_pump_8 rfl (pb_Tok.cons dX1_pump_10 rfl (pb_Tok.cons dX1_pump_11 rfl (pb_Tok.cons dX1_pump_12 rfl (pb_Tok.cons dX1_pump_13 rfl (pb_Tok.cons dX1_pump_14 rfl (pb_Tok.cons dX1_pump_15 rfl (pb_Tok.cons dX1_pump_16 rfl (pb_Tok.cons dX1_pump_17 rfl (pb_Tok.cons dX1_pump_18 rfl (pb_Tok.cons dX1_pump_21 rfl (pb_Tok.cons dX1_pump_24 rfl pb_Tok.nil))))))))))))))))
def tX1_stateOf : pb_T := [(0, .aload_n 0, 1, 0), (1, .getfield 7, 4, 0), (4, .iload_n 1, 5, 0), (5, .invokevirtual 89, 8, 0), (8, .getfield 93, 11, 0), (11, .invokevirtual 99, 14, 0), (14, .ireturn, 15, 0)]
theorem tX1_stateOf_ok : pb_Tok cX1_stateOf tX1_stateOf := pb_Tok.cons dX1_stateOf_0 rfl (pb_Tok.cons dX1_stateOf_1 rfl (pb_Tok.cons dX1_stateOf_4 rfl (pb_Tok.cons dX1_stateOf_5 rfl (pb_Tok.cons dX1_stateOf_8 rfl (pb_Tok.cons dX1_stateOf_11 rfl (pb_Tok.cons dX1_stateOf_14 rfl pb_Tok.nil))))))
def tX1_frameCount : pb_T := [(0, .aload_n 0, 1, 0), (1, .getfield 7, 4, 0), (4, .iload_n 1, 5, 0), (5, .invokevirtual 89, 8, 0), (8, .invokevirtual 104, 11, 0), (11, .ireturn, 12, 0)]
theorem tX1_frameCount_ok : pb_Tok cX1_frameCount tX1_frameCount := pb_Tok.cons dX1_frameCount_0 rfl (pb_Tok.cons dX1_frameCount_1 rfl (pb_Tok.cons dX1_frameCount_4 rfl (pb_Tok.cons dX1_frameCount_5 rfl (pb_Tok.cons dX1_frameCount_8 rfl (pb_Tok.cons dX1_frameCount_11 rfl pb_Tok.nil)))))
def tX1_widthOf : pb_T := [(0, .aload_n 0, 1, 0), (1, .getfield 7, 4, 0), (4, .iload_n 1, 5, 0), (5, .invokevirtual 89, 8, 0), (8, .astore 4, 10, 0), (10, .iload_n 2, 11, 0), (11, .iconst 0, 12, 0), (12, .aload 4, 14, 0), (14, .invokevirtual 104, 17, 0), (17, .iconst 1, 18, 0), (18, .isub, 19, 0), (19, .invokestatic 105, 22, 0), (22, .invokestatic 111, 25, 0), (25, .iload_n 3, 26, 0), (26, .ifCond .eq 21, 29, 47), (29, .aload 4, 31, 0), (31, .getfield 115, 34, 0), (34, .iload_n 2, 35, 0), (35, .invokevirtual 118, 38, 0), (38, .checkcast 122, 41, 0), (41, .getfield 124, 44, 0), (44, .goto 18, 47, 62), (47, .aload 4, 49, 0), (49, .getfield 115, 52, 0), (52, .iload_n 2, 53, 0), (53, .invokevirtual 118, 56, 0), (56, .checkcast 122, 59, 0), (59, .getfield 127, 62, 0), (62, .ireturn, 63, 0)]
theorem tX1_widthOf_ok : pb_Tok cX1_widthOf tX1_widthOf := pb_Tok.cons dX1_widthOf_0 rfl (pb_Tok.cons dX1_widthOf_1 rfl (pb_Tok.cons dX1_widthOf_4 rfl (pb_Tok.cons dX1_widthOf_5 rfl (pb_Tok.cons dX1_widthOf_8 rfl (pb_Tok.cons dX1_widthOf_10 rfl (pb_Tok.cons dX1_widthOf_11 rfl (pb_Tok.cons dX1_widthOf_12 rfl (pb_Tok.cons dX1_widthOf_14 rfl (pb_Tok.cons dX1_widthOf_17 rfl (pb_Tok.cons dX1_widthOf_18 rfl (pb_Tok.cons dX1_widthOf_19 rfl (pb_Tok.cons dX1_widthOf_22 rfl (pb_Tok.cons dX1_widthOf_25 rfl (pb_Tok.cons dX1_widthOf_26 rfl (pb_Tok.cons dX1_widthOf_29 rfl (pb_Tok.cons dX1_widthOf_31 rfl (pb_Tok.cons dX1_widthOf_34 rfl (pb_Tok.cons dX1_widthOf_35 rfl (pb_Tok.cons dX1_widthOf_38 rfl (pb_Tok.cons dX1_widthOf_41 rfl (pb_Tok.cons dX1_widthOf_44 rfl (pb_Tok.cons dX1_widthOf_47 rfl (pb_Tok.cons dX1_widthOf_49 rfl (pb_Tok.cons dX1_widthOf_52 rfl (pb_Tok.cons dX1_widthOf_53 rfl (pb_Tok.cons dX1_widthOf_56 rfl (pb_Tok.cons dX1_widthOf_59 rfl (pb_Tok.cons dX1_widthOf_62 rfl pb_Tok.nil))))))))))))))))))))))))))))
def tX1_caulkingOf : pb_T := [(0, .aload_n 0, 1, 0), (1, .getfield 7, 4, 0), (4, .iload_n 1, 5, 0), (5, .iload_n 2, 6, 0), (6, .invokevirtual 130, 9, 0), (9, .getfield 134, 12, 0), (12, .iload_n 2, 13, 0), (13, .iaload, 14, 0), (14, .ireturn, 15, 0)]
theorem tX1_caulkingOf_ok : pb_Tok cX1_caulkingOf tX1_caulkingOf := pb_Tok.cons dX1_caulkingOf_0 rfl (pb_Tok.cons dX1_caulkingOf_1 rfl (pb_Tok.cons dX1_caulkingOf_4 rfl (pb_Tok.cons dX1_caulkingOf_5 rfl (pb_Tok.cons dX1_caulkingOf_6 rfl (pb_Tok.cons dX1_caulkingOf_9 rfl (pb_Tok.cons dX1_caulkingOf_12 rfl (pb_Tok.cons dX1_caulkingOf_13 rfl (pb_Tok.cons dX1_caulkingOf_14 rfl pb_Tok.nil))))))))
def tX1_waterIn : pb_T := [(0, .aload_n 0, 1, 0), (1, .getfield 7, 4, 0), (4, .iload_n 1, 5, 0), (5, .invokevirtual 89, 8, 0), (8, .getfield 138, 11, 0), (11, .ireturn, 12, 0)]
theorem tX1_waterIn_ok : pb_Tok cX1_waterIn tX1_waterIn := pb_Tok.cons dX1_waterIn_0 rfl (pb_Tok.cons dX1_waterIn_1 rfl (pb_Tok.cons dX1_waterIn_4 rfl (pb_Tok.cons dX1_waterIn_5 rfl (pb_Tok.cons dX1_waterIn_8 rfl (pb_Tok.cons dX1_waterIn_11 rfl pb_Tok.nil)))))
def tX1_weightOf : pb_T := [(0, .aload_n 0, 1, 0), (1, .getfield 7, 4, 0), (4, .iload_n 1, 5, 0), (5, .invokevirtual 89, 8, 0), (8, .invokevirtual 141, 11, 0), (11, .ireturn, 12, 0)]
theorem tX1_weightOf_ok : pb_Tok cX1_weightOf tX1_weightOf := pb_Tok.cons dX1_weightOf_0 rfl (pb_Tok.cons dX1_weightOf_1 rfl (pb_Tok.cons dX1_weightOf_4 rfl (pb_Tok.cons dX1_weightOf_5 rfl (pb_Tok.cons dX1_weightOf_8 rfl (pb_Tok.cons dX1_weightOf_11 rfl pb_Tok.nil)))))
def tX1_draughtOf : pb_T := [(0, .aload_n 0, 1, 0), (1, .getfield 7, 4, 0), (4, .iload_n 1, 5, 0), (5, .invokevirtual 89, 8, 0), (8, .invokevirtual 147, 11, 0), (11, .invokestatic 150, 14, 0), (14, .ireturn, 15, 0)]
theorem tX1_draughtOf_ok : pb_Tok cX1_draughtOf tX1_draughtOf := pb_Tok.cons dX1_draughtOf_0 rfl (pb_Tok.cons dX1_draughtOf_1 rfl (pb_Tok.cons dX1_draughtOf_4 rfl (pb_Tok.cons dX1_draughtOf_5 rfl (pb_Tok.cons dX1_draughtOf_8 rfl (pb_Tok.cons dX1_draughtOf_11 rfl (pb_Tok.cons dX1_draughtOf_14 rfl pb_Tok.nil))))))
def tX1_found : pb_T := [(0, .iload_n 0, 1, 0), (1, .iconst (-1), 2, 0), (2, .if_icmp .eq 7, 5, 9), (5, .iconst 1, 6, 0), (6, .goto 4, 9, 10), (9, .iconst 0, 10, 0), (10, .invokestatic 144, 13, 0), (13, .iload_n 0, 14, 0), (14, .ireturn, 15, 0)]
theorem tX1_found_ok : pb_Tok cX1_found tX1_found := pb_Tok.cons dX1_found_0 rfl (pb_Tok.cons dX1_found_1 rfl (pb_Tok.cons dX1_found_2 rfl (pb_Tok.cons dX1_found_5 rfl (pb_Tok.cons dX1_found_6 rfl (pb_Tok.cons dX1_found_9 rfl (pb_Tok.cons dX1_found_10 rfl (pb_Tok.cons dX1_found_13 rfl (pb_Tok.cons dX1_found_14 rfl pb_Tok.nil))))))))
def tX1_draughtByHalving : pb_T := [(0, .aload_n 0, 1, 0), (1, .getfield 7, 4, 0), (4, .iload_n 1, 5, 0), (5, .invokevirtual 89, 8, 0), (8, .invokevirtual 154, 11, 0), (11, .invokestatic 150, 14, 0), (14, .ireturn, 15, 0)]
theorem tX1_draughtByHalving_ok : pb_Tok cX1_draughtByHalving tX1_draughtByHalving := pb_Tok.cons dX1_draughtByHalving_0 rfl (pb_Tok.cons dX1_draughtByHalving_1 rfl (pb_Tok.cons dX1_draughtByHalving_4 rfl (pb_Tok.cons dX1_draughtByHalving_5 rfl (pb_Tok.cons dX1_draughtByHalving_8 rfl (pb_Tok.cons dX1_draughtByHalving_11 rfl (pb_Tok.cons dX1_draughtByHalving_14 rfl pb_Tok.nil))))))
def tX1_heelOf : pb_T := [(0, .aload_n 0, 1, 0), (1, .getfield 7, 4, 0), (4, .iload_n 1, 5, 0), (5, .invokevirtual 89, 8, 0), (8, .invokevirtual 157, 11, 0), (11, .ireturn, 12, 0)]
theorem tX1_heelOf_ok : pb_Tok cX1_heelOf tX1_heelOf := pb_Tok.cons dX1_heelOf_0 rfl (pb_Tok.cons dX1_heelOf_1 rfl (pb_Tok.cons dX1_heelOf_4 rfl (pb_Tok.cons dX1_heelOf_5 rfl (pb_Tok.cons dX1_heelOf_8 rfl (pb_Tok.cons dX1_heelOf_11 rfl pb_Tok.nil)))))
def tX1_hullAtRank : pb_T := [(0, .iconst 0, 1, 0), (1, .istore_n 2, 2, 0), (2, .iload_n 2, 3, 1), (3, .aload_n 0, 4, 0), (4, .getfield 7, 7, 0), (7, .getfield 79, 10, 0), (10, .invokevirtual 83, 13, 0), (13, .if_icmp .ge 86, 16, 99), (16, .iconst 0, 17, 0), (17, .istore_n 3, 18, 0), (18, .iconst 0, 19, 0), (19, .istore 4, 21, 0), (21, .iload 4, 23, 1), (23, .aload_n 0, 24, 0), (24, .getfield 7, 27, 0), (27, .getfield 79, 30, 0), (30, .invokevirtual 83, 33, 0), (33, .if_icmp .ge 53, 36, 86), (36, .iload_n 3, 37, 0), (37, .aload_n 0, 38, 0), (38, .aload_n 0, 39, 0), (39, .getfield 7, 42, 0), (42, .getfield 79, 45, 0), (45, .iload 4, 47, 0), (47, .invokevirtual 118, 50, 0), (50, .checkcast 94, 53, 0), (53, .aload_n 0, 54, 0), (54, .getfield 7, 57, 0), (57, .getfield 79, 60, 0), (60, .iload_n 2, 61, 0), (61, .invokevirtual 118, 64, 0), (64, .checkcast 94, 67, 0), (67, .invokevirtual 163, 70, 0), (70, .ifCond .eq 7, 73, 77), (73, .iconst 1, 74, 0), (74, .goto 4, 77, 78), (77, .iconst 0, 78, 0), (78, .iadd, 79, 0), (79, .istore_n 3, 80, 0), (80, .iinc 4 1, 83, 0), (83, .goto (-62), 86, 21), (86, .iload_n 3, 87, 0), (87, .iload_n 1, 88, 0), (88, .if_icmp .ne 5, 91, 93), (91, .iload_n 2, 92, 0), (92, .ireturn, 93, 0), (93, .iinc 2 1, 96, 0), (96, .goto (-94), 99, 2), (99, .new 167, 102, 0), (102, .dup, 103, 0), (103, .invokespecial 169, 106, 0), (106, .athrow, 107, 0)]
theorem tX1_hullAtRank_ok : pb_Tok cX1_hullAtRank tX1_hullAtRank := pb_Tok.cons dX1_hullAtRank_0 rfl (pb_Tok.cons dX1_hullAtRank_1 rfl (pb_Tok.cons dX1_hullAtRank_2 rfl (pb_Tok.cons dX1_hullAtRank_3 rfl (pb_Tok.cons dX1_hullAtRank_4 rfl (pb_Tok.cons dX1_hullAtRank_7 rfl (pb_Tok.cons dX1_hullAtRank_10 rfl (pb_Tok.cons dX1_hullAtRank_13 rfl (pb_Tok.cons dX1_hullAtRank_16 rfl (pb_Tok.cons dX1_hullAtRank_17 rfl (pb_Tok.cons dX1_hullAtRank_18 rfl (pb_Tok.cons dX1_hullAtRank_19 rfl (pb_Tok.cons dX1_hullAtRank_21 rfl (pb_Tok.cons dX1_hullAtRank_23 rfl (pb_Tok.cons dX1_hullAtRank_24 rfl (pb_Tok.cons dX1_hullAtRank_27 rfl (pb_Tok.cons dX1_hullAtRank_30 rfl (pb_Tok.cons dX1_hullAtRank_33 rfl (pb_Tok.cons dX1_hullAtRank_36 rfl (pb_Tok.cons dX1_hullAtRank_37 rfl (pb_Tok.cons dX1_hullAtRank_38 rfl (pb_Tok.cons dX1_hullAtRank_39 rfl (pb_Tok.cons dX1_hullAtRank_42 rfl (pb_Tok.cons dX1_hullAtRank_45 rfl (pb_Tok.cons dX1_hullAtRank_47 rfl (pb_Tok.cons dX1_hullAtRank_50 rfl (pb_Tok.cons dX1_hullAtRank_53 rfl (pb_Tok.cons dX1_hullAtRank_54 rfl (pb_Tok.cons dX1_hullAtRank_57 rfl (pb_Tok.cons dX1_hullAtRank_60 rfl (pb_Tok.cons dX1_hullAtRank_61 rfl (pb_Tok.cons dX1_hullAtRank_64 rfl (pb_Tok.cons dX1_hullAtRank_67 rfl (pb_Tok.cons dX1_hullAtRank_70 rfl (pb_Tok.cons dX1_hullAtRank_73 rfl (pb_Tok.cons dX1_hullAtRank_74 rfl (pb_Tok.cons dX1_hullAtRank_77 rfl (pb_Tok.cons dX1_hullAtRank_78 rfl (pb_Tok.cons dX1_hullAtRank_79 rfl (pb_Tok.cons dX1_hullAtRank_80 rfl (pb_Tok.cons dX1_hullAtRank_83 rfl (pb_Tok.cons dX1_hullAtRank_86 rfl (pb_Tok.cons dX1_hullAtRank_87 rfl (pb_Tok.cons dX1_hullAtRank_88 rfl (pb_Tok.cons dX1_hullAtRank_91 rfl (pb_Tok.cons dX1_hullAtRank_92 rfl (pb_Tok.cons dX1_hullAtRank_93 rfl (pb_Tok.cons dX1_hullAtRank_96 rfl (pb_Tok.cons dX1_hullAtRank_99 rfl (pb_Tok.cons dX1_hullAtRank_102 rfl (pb_Tok.cons dX1_hullAtRank_103 rfl (pb_Tok.cons dX1_hullAtRank_106 rfl pb_Tok.nil)))))))))))))))))))))))))))))))))))))))))))))))))))
def tX1_isAhead : pb_T := [(0, .aload_n 2, 1, 0), (1, .invokevirtual 141, 4, 0), (4, .aload_n 1, 5, 0), (5, .invokevirtual 141, 8, 0), (8, .isub, 9, 0), (9, .istore_n 3, 10, 0), (10, .iload_n 3, 11, 0), (11, .ifCond .gt 18, 14, 29), (14, .iload_n 3, 15, 0), (15, .ifCond .ne 18, 18, 33), (18, .aload_n 1, 19, 0), (19, .getfield 160, 22, 0), (22, .aload_n 2, 23, 0), (23, .getfield 160, 26, 0), (26, .if_icmp .ge 7, 29, 33), (29, .iconst 1, 30, 0), (30, .goto 4, 33, 34), (33, .iconst 0, 34, 0), (34, .ireturn, 35, 0)]
theorem tX1_isAhead_ok : pb_Tok cX1_isAhead tX1_isAhead := pb_Tok.cons dX1_isAhead_0 rfl (pb_Tok.cons dX1_isAhead_1 rfl (pb_Tok.cons dX1_isAhead_4 rfl (pb_Tok.cons dX1_isAhead_5 rfl (pb_Tok.cons dX1_isAhead_8 rfl (pb_Tok.cons dX1_isAhead_9 rfl (pb_Tok.cons dX1_isAhead_10 rfl (pb_Tok.cons dX1_isAhead_11 rfl (pb_Tok.cons dX1_isAhead_14 rfl (pb_Tok.cons dX1_isAhead_15 rfl (pb_Tok.cons dX1_isAhead_18 rfl (pb_Tok.cons dX1_isAhead_19 rfl (pb_Tok.cons dX1_isAhead_22 rfl (pb_Tok.cons dX1_isAhead_23 rfl (pb_Tok.cons dX1_isAhead_26 rfl (pb_Tok.cons dX1_isAhead_29 rfl (pb_Tok.cons dX1_isAhead_30 rfl (pb_Tok.cons dX1_isAhead_33 rfl (pb_Tok.cons dX1_isAhead_34 rfl pb_Tok.nil))))))))))))))))))
def tX1_isSymmetric : pb_T := [(0, .aload_n 0, 1, 0), (1, .getfield 7, 4, 0), (4, .iload_n 1, 5, 0), (5, .invokevirtual 89, 8, 0), (8, .astore_n 2, 9, 0), (9, .aload_n 2, 10, 0), (10, .aload_n 2, 11, 0), (11, .invokevirtual 170, 14, 0), (14, .ireturn, 15, 0)]
theorem tX1_isSymmetric_ok : pb_Tok cX1_isSymmetric tX1_isSymmetric := pb_Tok.cons dX1_isSymmetric_0 rfl (pb_Tok.cons dX1_isSymmetric_1 rfl (pb_Tok.cons dX1_isSymmetric_4 rfl (pb_Tok.cons dX1_isSymmetric_5 rfl (pb_Tok.cons dX1_isSymmetric_8 rfl (pb_Tok.cons dX1_isSymmetric_9 rfl (pb_Tok.cons dX1_isSymmetric_10 rfl (pb_Tok.cons dX1_isSymmetric_11 rfl (pb_Tok.cons dX1_isSymmetric_14 rfl pb_Tok.nil))))))))
def tX1_isReflectionOf : pb_T := [(0, .aload_n 0, 1, 0), (1, .getfield 7, 4, 0), (4, .iload_n 1, 5, 0), (5, .invokevirtual 89, 8, 0), (8, .astore_n 3, 9, 0), (9, .aload_n 3, 10, 0), (10, .aload_n 0, 11, 0), (11, .getfield 7, 14, 0), (14, .iload_n 2, 15, 0), (15, .invokevirtual 89, 18, 0), (18, .invokevirtual 170, 21, 0), (21, .ireturn, 22, 0)]
theorem tX1_isReflectionOf_ok : pb_Tok cX1_isReflectionOf tX1_isReflectionOf := pb_Tok.cons dX1_isReflectionOf_0 rfl (pb_Tok.cons dX1_isReflectionOf_1 rfl (pb_Tok.cons dX1_isReflectionOf_4 rfl (pb_Tok.cons dX1_isReflectionOf_5 rfl (pb_Tok.cons dX1_isReflectionOf_8 rfl (pb_Tok.cons dX1_isReflectionOf_9 rfl (pb_Tok.cons dX1_isReflectionOf_10 rfl (pb_Tok.cons dX1_isReflectionOf_11 rfl (pb_Tok.cons dX1_isReflectionOf_14 rfl (pb_Tok.cons dX1_isReflectionOf_15 rfl (pb_Tok.cons dX1_isReflectionOf_18 rfl (pb_Tok.cons dX1_isReflectionOf_21 rfl pb_Tok.nil)))))))))))
def tX1_commonStretch : pb_T := [(0, .aload_n 0, 1, 0), (1, .getfield 7, 4, 0), (4, .iload_n 1, 5, 0), (5, .invokevirtual 89, 8, 0), (8, .astore_n 3, 9, 0), (9, .aload_n 3, 10, 0), (10, .aload_n 0, 11, 0), (11, .getfield 7, 14, 0), (14, .iload_n 2, 15, 0), (15, .invokevirtual 89, 18, 0), (18, .invokevirtual 174, 21, 0), (21, .ireturn, 22, 0)]
theorem tX1_commonStretch_ok : pb_Tok cX1_commonStretch tX1_commonStretch := pb_Tok.cons dX1_commonStretch_0 rfl (pb_Tok.cons dX1_commonStretch_1 rfl (pb_Tok.cons dX1_commonStretch_4 rfl (pb_Tok.cons dX1_commonStretch_5 rfl (pb_Tok.cons dX1_commonStretch_8 rfl (pb_Tok.cons dX1_commonStretch_9 rfl (pb_Tok.cons dX1_commonStretch_10 rfl (pb_Tok.cons dX1_commonStretch_11 rfl (pb_Tok.cons dX1_commonStretch_14 rfl (pb_Tok.cons dX1_commonStretch_15 rfl (pb_Tok.cons dX1_commonStretch_18 rfl (pb_Tok.cons dX1_commonStretch_21 rfl pb_Tok.nil)))))))))))
def tX1_commonStretchByTrying : pb_T := [(0, .aload_n 0, 1, 0), (1, .getfield 7, 4, 0), (4, .iload_n 1, 5, 0), (5, .invokevirtual 89, 8, 0), (8, .astore_n 3, 9, 0), (9, .aload_n 3, 10, 0), (10, .aload_n 0, 11, 0), (11, .getfield 7, 14, 0), (14, .iload_n 2, 15, 0), (15, .invokevirtual 89, 18, 0), (18, .invokevirtual 178, 21, 0), (21, .ireturn, 22, 0)]
theorem tX1_commonStretchByTrying_ok : pb_Tok cX1_commonStretchByTrying tX1_commonStretchByTrying := pb_Tok.cons dX1_commonStretchByTrying_0 rfl (pb_Tok.cons dX1_commonStretchByTrying_1 rfl (pb_Tok.cons dX1_commonStretchByTrying_4 rfl (pb_Tok.cons dX1_commonStretchByTrying_5 rfl (pb_Tok.cons dX1_commonStretchByTrying_8 rfl (pb_Tok.cons dX1_commonStretchByTrying_9 rfl (pb_Tok.cons dX1_commonStretchByTrying_10 rfl (pb_Tok.cons dX1_commonStretchByTrying_11 rfl (pb_Tok.cons dX1_commonStretchByTrying_14 rfl (pb_Tok.cons dX1_commonStretchByTrying_15 rfl (pb_Tok.cons dX1_commonStretchByTrying_18 rfl (pb_Tok.cons dX1_commonStretchByTrying_21 rfl pb_Tok.nil)))))))))))
def tX1_setTide : pb_T := [(0, .aload_n 0, 1, 0), (1, .new 24, 4, 0), (4, .dup, 5, 0), (5, .bipush 116, 7, 0), (7, .iconst 2, 8, 0), (8, .newarray .int, 10, 0), (10, .dup, 11, 0), (11, .iconst 0, 12, 0), (12, .iload_n 1, 13, 0), (13, .iastore, 14, 0), (14, .dup, 15, 0), (15, .iconst 1, 16, 0), (16, .iload_n 2, 17, 0), (17, .iastore, 18, 0), (18, .invokespecial 72, 21, 0), (21, .invokevirtual 75, 24, 0), (24, .ireturn, 25, 0)]
theorem tX1_setTide_ok : pb_Tok cX1_setTide tX1_setTide := pb_Tok.cons dX1_setTide_0 rfl (pb_Tok.cons dX1_setTide_1 rfl (pb_Tok.cons dX1_setTide_4 rfl (pb_Tok.cons dX1_setTide_5 rfl (pb_Tok.cons dX1_setTide_7 rfl (pb_Tok.cons dX1_setTide_8 rfl (pb_Tok.cons dX1_setTide_10 rfl (pb_Tok.cons dX1_setTide_11 rfl (pb_Tok.cons dX1_setTide_12 rfl (pb_Tok.cons dX1_setTide_13 rfl (pb_Tok.cons dX1_setTide_14 rfl (pb_Tok.cons dX1_setTide_15 rfl (pb_Tok.cons dX1_setTide_16 rfl (pb_Tok.cons dX1_setTide_17 rfl (pb_Tok.cons dX1_setTide_18 rfl (pb_Tok.cons dX1_setTide_21 rfl (pb_Tok.cons dX1_setTide_24 rfl pb_Tok.nil))))))))))))))))
def tX1_pass : pb_T := [(0, .aload_n 0, 1, 0), (1, .new 24, 4, 0), (4, .dup, 5, 0), (5, .bipush 104, 7, 0), (7, .iconst 1, 8, 0), (8, .newarray .int, 10, 0), (10, .dup, 11, 0), (11, .iconst 0, 12, 0), (12, .iload_n 1, 13, 0), (13, .iastore, 14, 0), (14, .invokespecial 72, 17, 0), (17, .invokevirtual 75, 20, 0), (20, .ireturn, 21, 0)]
theorem tX1_pass_ok : pb_Tok cX1_pass tX1_pass := pb_Tok.cons dX1_pass_0 rfl (pb_Tok.cons dX1_pass_1 rfl (pb_Tok.cons dX1_pass_4 rfl (pb_Tok.cons dX1_pass_5 rfl (pb_Tok.cons dX1_pass_7 rfl (pb_Tok.cons dX1_pass_8 rfl (pb_Tok.cons dX1_pass_10 rfl (pb_Tok.cons dX1_pass_11 rfl (pb_Tok.cons dX1_pass_12 rfl (pb_Tok.cons dX1_pass_13 rfl (pb_Tok.cons dX1_pass_14 rfl (pb_Tok.cons dX1_pass_17 rfl (pb_Tok.cons dX1_pass_20 rfl pb_Tok.nil))))))))))))
def tX1_tideAfter : pb_T := [(0, .iconst 1, 1, 0), (1, .newarray .boolean, 3, 0), (3, .dup, 4, 0), (4, .iconst 0, 5, 0), (5, .iload_n 1, 6, 0), (6, .iconst 0, 7, 0), (7, .sipush 999, 10, 0), (10, .invokestatic 105, 13, 0), (13, .bastore, 14, 0), (14, .invokestatic 184, 17, 0), (17, .aload_n 0, 18, 0), (18, .getfield 7, 21, 0), (21, .aload_n 0, 22, 0), (22, .getfield 7, 25, 0), (25, .getfield 181, 28, 0), (28, .iload_n 1, 29, 0), (29, .iadd, 30, 0), (30, .invokevirtual 188, 33, 0), (33, .ireturn, 34, 0)]
theorem tX1_tideAfter_ok : pb_Tok cX1_tideAfter tX1_tideAfter := pb_Tok.cons dX1_tideAfter_0 rfl (pb_Tok.cons dX1_tideAfter_1 rfl (pb_Tok.cons dX1_tideAfter_3 rfl (pb_Tok.cons dX1_tideAfter_4 rfl (pb_Tok.cons dX1_tideAfter_5 rfl (pb_Tok.cons dX1_tideAfter_6 rfl (pb_Tok.cons dX1_tideAfter_7 rfl (pb_Tok.cons dX1_tideAfter_10 rfl (pb_Tok.cons dX1_tideAfter_13 rfl (pb_Tok.cons dX1_tideAfter_14 rfl (pb_Tok.cons dX1_tideAfter_17 rfl (pb_Tok.cons dX1_tideAfter_18 rfl (pb_Tok.cons dX1_tideAfter_21 rfl (pb_Tok.cons dX1_tideAfter_22 rfl (pb_Tok.cons dX1_tideAfter_25 rfl (pb_Tok.cons dX1_tideAfter_28 rfl (pb_Tok.cons dX1_tideAfter_29 rfl (pb_Tok.cons dX1_tideAfter_30 rfl (pb_Tok.cons dX1_tideAfter_33 rfl pb_Tok.nil))))))))))))))))))
def tX1_hoursToLaunch : pb_T := [(0, .aload_n 0, 1, 0), (1, .iload_n 1, 2, 0), (2, .invokevirtual 200, 5, 0), (5, .istore_n 2, 6, 0), (6, .iconst 0, 7, 0), (7, .istore_n 3, 8, 0), (8, .iload_n 3, 9, 1), (9, .bipush 12, 11, 0), (11, .if_icmp .ge 31, 14, 42), (14, .iload_n 2, 15, 0), (15, .aload_n 0, 16, 0), (16, .getfield 7, 19, 0), (19, .aload_n 0, 20, 0), (20, .getfield 7, 23, 0), (23, .getfield 181, 26, 0), (26, .iload_n 3, 27, 0), (27, .iadd, 28, 0), (28, .invokevirtual 188, 31, 0), (31, .if_icmp .gt 5, 34, 36), (34, .iload_n 3, 35, 0), (35, .ireturn, 36, 0), (36, .iinc 3 1, 39, 0), (39, .goto (-31), 42, 8), (42, .new 167, 45, 0), (45, .dup, 46, 0), (46, .invokespecial 169, 49, 0), (49, .athrow, 50, 0)]
theorem tX1_hoursToLaunch_ok : pb_Tok cX1_hoursToLaunch tX1_hoursToLaunch := pb_Tok.cons dX1_hoursToLaunch_0 rfl (pb_Tok.cons dX1_hoursToLaunch_1 rfl (pb_Tok.cons dX1_hoursToLaunch_2 rfl (pb_Tok.cons dX1_hoursToLaunch_5 rfl (pb_Tok.cons dX1_hoursToLaunch_6 rfl (pb_Tok.cons dX1_hoursToLaunch_7 rfl (pb_Tok.cons dX1_hoursToLaunch_8 rfl (pb_Tok.cons dX1_hoursToLaunch_9 rfl (pb_Tok.cons dX1_hoursToLaunch_11 rfl (pb_Tok.cons dX1_hoursToLaunch_14 rfl (pb_Tok.cons dX1_hoursToLaunch_15 rfl (pb_Tok.cons dX1_hoursToLaunch_16 rfl (pb_Tok.cons dX1_hoursToLaunch_19 rfl (pb_Tok.cons dX1_hoursToLaunch_20 rfl (pb_Tok.cons dX1_hoursToLaunch_23 rfl (pb_Tok.cons dX1_hoursToLaunch_26 rfl (pb_Tok.cons dX1_hoursToLaunch_27 rfl (pb_Tok.cons dX1_hoursToLaunch_28 rfl (pb_Tok.cons dX1_hoursToLaunch_31 rfl (pb_Tok.cons dX1_hoursToLaunch_34 rfl (pb_Tok.cons dX1_hoursToLaunch_35 rfl (pb_Tok.cons dX1_hoursToLaunch_36 rfl (pb_Tok.cons dX1_hoursToLaunch_39 rfl (pb_Tok.cons dX1_hoursToLaunch_42 rfl (pb_Tok.cons dX1_hoursToLaunch_45 rfl (pb_Tok.cons dX1_hoursToLaunch_46 rfl (pb_Tok.cons dX1_hoursToLaunch_49 rfl pb_Tok.nil))))))))))))))))))))))))))
def tX1_launchDraught : pb_T := [(0, .aload_n 0, 1, 0), (1, .getfield 7, 4, 0), (4, .iload_n 1, 5, 0), (5, .invokevirtual 89, 8, 0), (8, .astore_n 2, 9, 0), (9, .aload_n 2, 10, 0), (10, .getstatic 191, 13, 0), (13, .invokevirtual 194, 16, 0), (16, .invokestatic 198, 19, 0), (19, .aload_n 2, 20, 0), (20, .invokevirtual 104, 23, 0), (23, .iconst 2, 24, 0), (24, .if_icmp .lt 7, 27, 31), (27, .iconst 1, 28, 0), (28, .goto 4, 31, 32), (31, .iconst 0, 32, 0), (32, .invokestatic 144, 35, 0), (35, .aload_n 2, 36, 0), (36, .invokevirtual 147, 39, 0), (39, .invokestatic 150, 42, 0), (42, .ireturn, 43, 0)]
theorem tX1_launchDraught_ok : pb_Tok cX1_launchDraught tX1_launchDraught := pb_Tok.cons dX1_launchDraught_0 rfl (pb_Tok.cons dX1_launchDraught_1 rfl (pb_Tok.cons dX1_launchDraught_4 rfl (pb_Tok.cons dX1_launchDraught_5 rfl (pb_Tok.cons dX1_launchDraught_8 rfl (pb_Tok.cons dX1_launchDraught_9 rfl (pb_Tok.cons dX1_launchDraught_10 rfl (pb_Tok.cons dX1_launchDraught_13 rfl (pb_Tok.cons dX1_launchDraught_16 rfl (pb_Tok.cons dX1_launchDraught_19 rfl (pb_Tok.cons dX1_launchDraught_20 rfl (pb_Tok.cons dX1_launchDraught_23 rfl (pb_Tok.cons dX1_launchDraught_24 rfl (pb_Tok.cons dX1_launchDraught_27 rfl (pb_Tok.cons dX1_launchDraught_28 rfl (pb_Tok.cons dX1_launchDraught_31 rfl (pb_Tok.cons dX1_launchDraught_32 rfl (pb_Tok.cons dX1_launchDraught_35 rfl (pb_Tok.cons dX1_launchDraught_36 rfl (pb_Tok.cons dX1_launchDraught_39 rfl (pb_Tok.cons dX1_launchDraught_42 rfl pb_Tok.nil))))))))))))))))))))
def tX1_hoursToLaunchByTides : pb_T := [(0, .aload_n 0, 1, 0), (1, .iload_n 1, 2, 0), (2, .invokevirtual 200, 5, 0), (5, .istore_n 2, 6, 0), (6, .bipush 12, 8, 0), (8, .istore_n 3, 9, 0), (9, .aload_n 0, 10, 0), (10, .getfield 7, 13, 0), (13, .getfield 181, 16, 0), (16, .bipush 12, 18, 0), (18, .irem, 19, 0), (19, .istore 4, 21, 0), (21, .iconst 0, 22, 0), (22, .istore 5, 24, 0), (24, .iload 5, 26, 1), (26, .bipush 12, 28, 0), (28, .if_icmp .ge 39, 31, 67), (31, .aload_n 0, 32, 0), (32, .getfield 7, 35, 0), (35, .getfield 203, 38, 0), (38, .iload 5, 40, 0), (40, .iaload, 41, 0), (41, .iload_n 2, 42, 0), (42, .if_icmp .lt 19, 45, 61), (45, .iload_n 3, 46, 0), (46, .iload 5, 48, 0), (48, .bipush 12, 50, 0), (50, .iadd, 51, 0), (51, .iload 4, 53, 0), (53, .isub, 54, 0), (54, .bipush 12, 56, 0), (56, .irem, 57, 0), (57, .invokestatic 206, 60, 0), (60, .istore_n 3, 61, 0), (61, .iinc 5 1, 64, 0), (64, .goto (-40), 67, 24), (67, .iload_n 3, 68, 0), (68, .bipush 12, 70, 0), (70, .if_icmp .ge 7, 73, 77), (73, .iconst 1, 74, 0), (74, .goto 4, 77, 78), (77, .iconst 0, 78, 0), (78, .invokestatic 144, 81, 0), (81, .iload_n 3, 82, 0), (82, .ireturn, 83, 0)]
theorem tX1_hoursToLaunchByTides_ok : pb_Tok cX1_hoursToLaunchByTides tX1_hoursToLaunchByTides := pb_Tok.cons dX1_hoursToLaunchByTides_0 rfl (pb_Tok.cons dX1_hoursToLaunchByTides_1 rfl (pb_Tok.cons dX1_hoursToLaunchByTides_2 rfl (pb_Tok.cons dX1_hoursToLaunchByTides_5 rfl (pb_Tok.cons dX1_hoursToLaunchByTides_6 rfl (pb_Tok.cons dX1_hoursToLaunchByTides_8 rfl (pb_Tok.cons dX1_hoursToLaunchByTides_9 rfl (pb_Tok.cons dX1_hoursToLaunchByTides_10 rfl (pb_Tok.cons dX1_hoursToLaunchByTides_13 rfl (pb_Tok.cons dX1_hoursToLaunchByTides_16 rfl (pb_Tok.cons dX1_hoursToLaunchByTides_18 rfl (pb_Tok.cons dX1_hoursToLaunchByTides_19 rfl (pb_Tok.cons dX1_hoursToLaunchByTides_21 rfl (pb_Tok.cons dX1_hoursToLaunchByTides_22 rfl (pb_Tok.cons dX1_hoursToLaunchByTides_24 rfl (pb_Tok.cons dX1_hoursToLaunchByTides_26 rfl (pb_Tok.cons dX1_hoursToLaunchByTides_28 rfl (pb_Tok.cons dX1_hoursToLaunchByTides_31 rfl (pb_Tok.cons dX1_hoursToLaunchByTides_32 rfl (pb_Tok.cons dX1_hoursToLaunchByTides_35 rfl (pb_Tok.cons dX1_hoursToLaunchByTides_38 rfl (pb_Tok.cons dX1_hoursToLaunchByTides_40 rfl (pb_Tok.cons dX1_hoursToLaunchByTides_41 rfl (pb_Tok.cons dX1_hoursToLaunchByTides_42 rfl (pb_Tok.cons dX1_hoursToLaunchByTides_45 rfl (pb_Tok.cons dX1_hoursToLaunchByTides_46 rfl (pb_Tok.cons dX1_hoursToLaunchByTides_48 rfl (pb_Tok.cons dX1_hoursToLaunchByTides_50 rfl (pb_Tok.cons dX1_hoursToLaunchByTides_51 rfl (pb_Tok.cons dX1_hoursToLaunchByTides_53 rfl (pb_Tok.cons dX1_hoursToLaunchByTides_54 rfl (pb_Tok.cons dX1_hoursToLaunchByTides_56 rfl (pb_Tok.cons dX1_hoursToLaunchByTides_57 rfl (pb_Tok.cons dX1_hoursToLaunchByTides_60 rfl (pb_Tok.cons dX1_hoursToLaunchByTides_61 rfl (pb_Tok.cons dX1_hoursToLaunchByTides_64 rfl (pb_Tok.cons dX1_hoursToLaunchByTides_67 rfl (pb_Tok.cons dX1_hoursToLaunchByTides_68 rfl (pb_Tok.cons dX1_hoursToLaunchByTides_70 rfl (pb_Tok.cons dX1_hoursToLaunchByTides_73 rfl (pb_Tok.cons dX1_hoursToLaunchByTides_74 rfl (pb_Tok.cons dX1_hoursToLaunchByTides_77 rfl (pb_Tok.cons dX1_hoursToLaunchByTides_78 rfl (pb_Tok.cons dX1_hoursToLaunchByTides_81 rfl (pb_Tok.cons dX1_hoursToLaunchByTides_82 rfl pb_Tok.nil))))))))))))))))))))))))))))))))))))))))))))
def tX1_hoursToSinking : pb_T := [(0, .new 94, 3, 0), (3, .dup, 4, 0), (4, .aload_n 0, 5, 0), (5, .getfield 7, 8, 0), (8, .iload_n 1, 9, 0), (9, .invokevirtual 89, 12, 0), (12, .invokespecial 212, 15, 0), (15, .astore_n 2, 16, 0), (16, .aload_n 2, 17, 0), (17, .getstatic 215, 20, 0), (20, .invokevirtual 194, 23, 0), (23, .invokestatic 198, 26, 0), (26, .iconst 1, 27, 0), (27, .istore_n 3, 28, 0), (28, .iload_n 3, 29, 1), (29, .sipush 500, 32, 0), (32, .if_icmp .gt 27, 35, 59), (35, .aload_n 2, 36, 0), (36, .aload_n 0, 37, 0), (37, .getfield 7, 40, 0), (40, .getfield 181, 43, 0), (43, .iload_n 3, 44, 0), (44, .iadd, 45, 0), (45, .invokevirtual 218, 48, 0), (48, .ifCond .eq 5, 51, 53), (51, .iload_n 3, 52, 0), (52, .ireturn, 53, 0), (53, .iinc 3 1, 56, 0), (56, .goto (-28), 59, 28), (59, .new 167, 62, 0), (62, .dup, 63, 0), (63, .invokespecial 169, 66, 0), (66, .athrow, 67, 0)]
theorem tX1_hoursToSinking_ok : pb_Tok cX1_hoursToSinking tX1_hoursToSinking := pb_Tok.cons dX1_hoursToSinking_0 rfl (pb_Tok.cons dX1_hoursToSinking_3 rfl (pb_Tok.cons dX1_hoursToSinking_4 rfl (pb_Tok.cons dX1_hoursToSinking_5 rfl (pb_Tok.cons dX1_hoursToSinking_8 rfl (pb_Tok.cons dX1_hoursToSinking_9 rfl (pb_Tok.cons dX1_hoursToSinking_12 rfl (pb_Tok.cons dX1_hoursToSinking_15 rfl (pb_Tok.cons dX1_hoursToSinking_16 rfl (pb_Tok.cons dX1_hoursToSinking_17 rfl (pb_Tok.cons dX1_hoursToSinking_20 rfl (pb_Tok.cons dX1_hoursToSinking_23 rfl (pb_Tok.cons dX1_hoursToSinking_26 rfl (pb_Tok.cons dX1_hoursToSinking_27 rfl (pb_Tok.cons dX1_hoursToSinking_28 rfl (pb_Tok.cons dX1_hoursToSinking_29 rfl (pb_Tok.cons dX1_hoursToSinking_32 rfl (pb_Tok.cons dX1_hoursToSinking_35 rfl (pb_Tok.cons dX1_hoursToSinking_36 rfl (pb_Tok.cons dX1_hoursToSinking_37 rfl (pb_Tok.cons dX1_hoursToSinking_40 rfl (pb_Tok.cons dX1_hoursToSinking_43 rfl (pb_Tok.cons dX1_hoursToSinking_44 rfl (pb_Tok.cons dX1_hoursToSinking_45 rfl (pb_Tok.cons dX1_hoursToSinking_48 rfl (pb_Tok.cons dX1_hoursToSinking_51 rfl (pb_Tok.cons dX1_hoursToSinking_52 rfl (pb_Tok.cons dX1_hoursToSinking_53 rfl (pb_Tok.cons dX1_hoursToSinking_56 rfl (pb_Tok.cons dX1_hoursToSinking_59 rfl (pb_Tok.cons dX1_hoursToSinking_62 rfl (pb_Tok.cons dX1_hoursToSinking_63 rfl (pb_Tok.cons dX1_hoursToSinking_66 rfl pb_Tok.nil))))))))))))))))))))))))))))))))
def tX1_setSlip : pb_T := [(0, .aload_n 0, 1, 0), (1, .new 24, 4, 0), (4, .dup, 5, 0), (5, .bipush 115, 7, 0), (7, .iconst 2, 8, 0), (8, .newarray .int, 10, 0), (10, .dup, 11, 0), (11, .iconst 0, 12, 0), (12, .iload_n 1, 13, 0), (13, .iastore, 14, 0), (14, .dup, 15, 0), (15, .iconst 1, 16, 0), (16, .iload_n 2, 17, 0), (17, .iastore, 18, 0), (18, .invokespecial 72, 21, 0), (21, .invokevirtual 75, 24, 0), (24, .ireturn, 25, 0)]
theorem tX1_setSlip_ok : pb_Tok cX1_setSlip tX1_setSlip := pb_Tok.cons dX1_setSlip_0 rfl (pb_Tok.cons dX1_setSlip_1 rfl (pb_Tok.cons dX1_setSlip_4 rfl (pb_Tok.cons dX1_setSlip_5 rfl (pb_Tok.cons dX1_setSlip_7 rfl (pb_Tok.cons dX1_setSlip_8 rfl (pb_Tok.cons dX1_setSlip_10 rfl (pb_Tok.cons dX1_setSlip_11 rfl (pb_Tok.cons dX1_setSlip_12 rfl (pb_Tok.cons dX1_setSlip_13 rfl (pb_Tok.cons dX1_setSlip_14 rfl (pb_Tok.cons dX1_setSlip_15 rfl (pb_Tok.cons dX1_setSlip_16 rfl (pb_Tok.cons dX1_setSlip_17 rfl (pb_Tok.cons dX1_setSlip_18 rfl (pb_Tok.cons dX1_setSlip_21 rfl (pb_Tok.cons dX1_setSlip_24 rfl pb_Tok.nil))))))))))))))))
def tX1_slipLength : pb_T := [(0, .iconst 1, 1, 0), (1, .newarray .boolean, 3, 0), (3, .dup, 4, 0), (4, .iconst 0, 5, 0), (5, .iload_n 1, 6, 0), (6, .iconst 0, 7, 0), (7, .iconst 3, 8, 0), (8, .invokestatic 105, 11, 0), (11, .bastore, 12, 0), (12, .invokestatic 184, 15, 0), (15, .aload_n 0, 16, 0), (16, .getfield 7, 19, 0), (19, .getfield 222, 22, 0), (22, .iload_n 1, 23, 0), (23, .iaload, 24, 0), (24, .ireturn, 25, 0)]
theorem tX1_slipLength_ok : pb_Tok cX1_slipLength tX1_slipLength := pb_Tok.cons dX1_slipLength_0 rfl (pb_Tok.cons dX1_slipLength_1 rfl (pb_Tok.cons dX1_slipLength_3 rfl (pb_Tok.cons dX1_slipLength_4 rfl (pb_Tok.cons dX1_slipLength_5 rfl (pb_Tok.cons dX1_slipLength_6 rfl (pb_Tok.cons dX1_slipLength_7 rfl (pb_Tok.cons dX1_slipLength_8 rfl (pb_Tok.cons dX1_slipLength_11 rfl (pb_Tok.cons dX1_slipLength_12 rfl (pb_Tok.cons dX1_slipLength_15 rfl (pb_Tok.cons dX1_slipLength_16 rfl (pb_Tok.cons dX1_slipLength_19 rfl (pb_Tok.cons dX1_slipLength_22 rfl (pb_Tok.cons dX1_slipLength_23 rfl (pb_Tok.cons dX1_slipLength_24 rfl pb_Tok.nil)))))))))))))))
def tX1_addOrder : pb_T := [(0, .aload_n 0, 1, 0), (1, .new 24, 4, 0), (4, .dup, 5, 0), (5, .bipush 111, 7, 0), (7, .iconst 3, 8, 0), (8, .newarray .int, 10, 0), (10, .dup, 11, 0), (11, .iconst 0, 12, 0), (12, .iload_n 1, 13, 0), (13, .iastore, 14, 0), (14, .dup, 15, 0), (15, .iconst 1, 16, 0), (16, .iload_n 2, 17, 0), (17, .iastore, 18, 0), (18, .dup, 19, 0), (19, .iconst 2, 20, 0), (20, .iload_n 3, 21, 0), (21, .iastore, 22, 0), (22, .invokespecial 72, 25, 0), (25, .invokevirtual 75, 28, 0), (28, .ireturn, 29, 0)]
theorem tX1_addOrder_ok : pb_Tok cX1_addOrder tX1_addOrder := pb_Tok.cons dX1_addOrder_0 rfl (pb_Tok.cons dX1_addOrder_1 rfl (pb_Tok.cons dX1_addOrder_4 rfl (pb_Tok.cons dX1_addOrder_5 rfl (pb_Tok.cons dX1_addOrder_7 rfl (pb_Tok.cons dX1_addOrder_8 rfl (pb_Tok.cons dX1_addOrder_10 rfl (pb_Tok.cons dX1_addOrder_11 rfl (pb_Tok.cons dX1_addOrder_12 rfl (pb_Tok.cons dX1_addOrder_13 rfl (pb_Tok.cons dX1_addOrder_14 rfl (pb_Tok.cons dX1_addOrder_15 rfl (pb_Tok.cons dX1_addOrder_16 rfl (pb_Tok.cons dX1_addOrder_17 rfl (pb_Tok.cons dX1_addOrder_18 rfl (pb_Tok.cons dX1_addOrder_19 rfl (pb_Tok.cons dX1_addOrder_20 rfl (pb_Tok.cons dX1_addOrder_21 rfl (pb_Tok.cons dX1_addOrder_22 rfl (pb_Tok.cons dX1_addOrder_25 rfl (pb_Tok.cons dX1_addOrder_28 rfl pb_Tok.nil))))))))))))))))))))
def tX1_deliver : pb_T := [(0, .aload_n 0, 1, 0), (1, .new 24, 4, 0), (4, .dup, 5, 0), (5, .bipush 100, 7, 0), (7, .iconst 2, 8, 0), (8, .newarray .int, 10, 0), (10, .dup, 11, 0), (11, .iconst 0, 12, 0), (12, .iload_n 1, 13, 0), (13, .iastore, 14, 0), (14, .dup, 15, 0), (15, .iconst 1, 16, 0), (16, .iload_n 2, 17, 0), (17, .iastore, 18, 0), (18, .invokespecial 72, 21, 0), (21, .invokevirtual 75, 24, 0), (24, .ireturn, 25, 0)]
theorem tX1_deliver_ok : pb_Tok cX1_deliver tX1_deliver := pb_Tok.cons dX1_deliver_0 rfl (pb_Tok.cons dX1_deliver_1 rfl (pb_Tok.cons dX1_deliver_4 rfl (pb_Tok.cons dX1_deliver_5 rfl (pb_Tok.cons dX1_deliver_7 rfl (pb_Tok.cons dX1_deliver_8 rfl (pb_Tok.cons dX1_deliver_10 rfl (pb_Tok.cons dX1_deliver_11 rfl (pb_Tok.cons dX1_deliver_12 rfl (pb_Tok.cons dX1_deliver_13 rfl (pb_Tok.cons dX1_deliver_14 rfl (pb_Tok.cons dX1_deliver_15 rfl (pb_Tok.cons dX1_deliver_16 rfl (pb_Tok.cons dX1_deliver_17 rfl (pb_Tok.cons dX1_deliver_18 rfl (pb_Tok.cons dX1_deliver_21 rfl (pb_Tok.cons dX1_deliver_24 rfl pb_Tok.nil))))))))))))))))
def tX1_orderAt : pb_T := [(0, .iload_n 1, 1, 0), (1, .iconst 0, 2, 0), (2, .aload_n 0, 3, 0), (3, .getfield 7, 6, 0), (6, .getfield 235, 9, 0), (9, .invokevirtual 83, 12, 0), (12, .iconst 1, 13, 0), (13, .isub, 14, 0), (14, .invokestatic 105, 17, 0), (17, .invokestatic 111, 20, 0), (20, .aload_n 0, 21, 0), (21, .getfield 7, 24, 0), (24, .getfield 235, 27, 0), (27, .iload_n 1, 28, 0), (28, .invokevirtual 118, 31, 0), (31, .checkcast 238, 34, 0), (34, .getfield 240, 37, 0), (37, .ireturn, 38, 0)]
theorem tX1_orderAt_ok : pb_Tok cX1_orderAt tX1_orderAt := pb_Tok.cons dX1_orderAt_0 rfl (pb_Tok.cons dX1_orderAt_1 rfl (pb_Tok.cons dX1_orderAt_2 rfl (pb_Tok.cons dX1_orderAt_3 rfl (pb_Tok.cons dX1_orderAt_6 rfl (pb_Tok.cons dX1_orderAt_9 rfl (pb_Tok.cons dX1_orderAt_12 rfl (pb_Tok.cons dX1_orderAt_13 rfl (pb_Tok.cons dX1_orderAt_14 rfl (pb_Tok.cons dX1_orderAt_17 rfl (pb_Tok.cons dX1_orderAt_20 rfl (pb_Tok.cons dX1_orderAt_21 rfl (pb_Tok.cons dX1_orderAt_24 rfl (pb_Tok.cons dX1_orderAt_27 rfl (pb_Tok.cons dX1_orderAt_28 rfl (pb_Tok.cons dX1_orderAt_31 rfl (pb_Tok.cons dX1_orderAt_34 rfl (pb_Tok.cons dX1_orderAt_37 rfl pb_Tok.nil)))))))))))))))))
def tX1_coinsFor : pb_T := [(0, .aload_n 0, 1, 0), (1, .getfield 7, 4, 0), (4, .iload_n 1, 5, 0), (5, .invokevirtual 243, 8, 0), (8, .aload_n 0, 9, 0), (9, .getfield 7, 12, 0), (12, .getfield 181, 15, 0), (15, .invokevirtual 247, 18, 0), (18, .ireturn, 19, 0)]
theorem tX1_coinsFor_ok : pb_Tok cX1_coinsFor tX1_coinsFor := pb_Tok.cons dX1_coinsFor_0 rfl (pb_Tok.cons dX1_coinsFor_1 rfl (pb_Tok.cons dX1_coinsFor_4 rfl (pb_Tok.cons dX1_coinsFor_5 rfl (pb_Tok.cons dX1_coinsFor_8 rfl (pb_Tok.cons dX1_coinsFor_9 rfl (pb_Tok.cons dX1_coinsFor_12 rfl (pb_Tok.cons dX1_coinsFor_15 rfl (pb_Tok.cons dX1_coinsFor_18 rfl pb_Tok.nil))))))))
def tX1_hullsIn : pb_T := [(0, .iconst 1, 1, 0), (1, .newarray .boolean, 3, 0), (3, .dup, 4, 0), (4, .iconst 0, 5, 0), (5, .iload_n 1, 6, 0), (6, .iconst 0, 7, 0), (7, .iconst 3, 8, 0), (8, .invokestatic 105, 11, 0), (11, .bastore, 12, 0), (12, .invokestatic 184, 15, 0), (15, .iconst 0, 16, 0), (16, .istore_n 2, 17, 0), (17, .iconst 0, 18, 0), (18, .istore_n 3, 19, 0), (19, .iload_n 3, 20, 1), (20, .aload_n 0, 21, 0), (21, .getfield 7, 24, 0), (24, .getfield 79, 27, 0), (27, .invokevirtual 83, 30, 0), (30, .if_icmp .ge 41, 33, 71), (33, .iload_n 2, 34, 0), (34, .aload_n 0, 35, 0), (35, .getfield 7, 38, 0), (38, .getfield 79, 41, 0), (41, .iload_n 3, 42, 0), (42, .invokevirtual 118, 45, 0), (45, .checkcast 94, 48, 0), (48, .getfield 93, 51, 0), (51, .invokevirtual 99, 54, 0), (54, .iload_n 1, 55, 0), (55, .if_icmp .ne 7, 58, 62), (58, .iconst 1, 59, 0), (59, .goto 4, 62, 63), (62, .iconst 0, 63, 0), (63, .iadd, 64, 0), (64, .istore_n 2, 65, 0), (65, .iinc 3 1, 68, 0), (68, .goto (-49), 71, 19), (71, .iload_n 2, 72, 0), (72, .ireturn, 73, 0)]
theorem tX1_hullsIn_ok : pb_Tok cX1_hullsIn tX1_hullsIn := pb_Tok.cons dX1_hullsIn_0 rfl (pb_Tok.cons dX1_hullsIn_1 rfl (pb_Tok.cons dX1_hullsIn_3 rfl (pb_Tok.cons dX1_hullsIn_4 rfl (pb_Tok.cons dX1_hullsIn_5 rfl (pb_Tok.cons dX1_hullsIn_6 rfl (pb_Tok.cons dX1_hullsIn_7 rfl (pb_Tok.cons dX1_hullsIn_8 rfl (pb_Tok.cons dX1_hullsIn_11 rfl (pb_Tok.cons dX1_hullsIn_12 rfl (pb_Tok.cons dX1_hullsIn_15 rfl (pb_Tok.cons dX1_hullsIn_16 rfl (pb_Tok.cons dX1_hullsIn_17 rfl (pb_Tok.cons dX1_hullsIn_18 rfl (pb_Tok.cons dX1_hullsIn_19 rfl (pb_Tok.cons dX1_hullsIn_20 rfl (pb_Tok.cons dX1_hullsIn_21 rfl (pb_Tok.cons dX1_hullsIn_24 rfl (pb_Tok.cons dX1_hullsIn_27 rfl (pb_Tok.cons dX1_hullsIn_30 rfl (pb_Tok.cons dX1_hullsIn_33 rfl (pb_Tok.cons dX1_hullsIn_34 rfl (pb_Tok.cons dX1_hullsIn_35 rfl (pb_Tok.cons dX1_hullsIn_38 rfl (pb_Tok.cons dX1_hullsIn_41 rfl (pb_Tok.cons dX1_hullsIn_42 rfl (pb_Tok.cons dX1_hullsIn_45 rfl (pb_Tok.cons dX1_hullsIn_48 rfl (pb_Tok.cons dX1_hullsIn_51 rfl (pb_Tok.cons dX1_hullsIn_54 rfl (pb_Tok.cons dX1_hullsIn_55 rfl (pb_Tok.cons dX1_hullsIn_58 rfl (pb_Tok.cons dX1_hullsIn_59 rfl (pb_Tok.cons dX1_hullsIn_62 rfl (pb_Tok.cons dX1_hullsIn_63 rfl (pb_Tok.cons dX1_hullsIn_64 rfl (pb_Tok.cons dX1_hullsIn_65 rfl (pb_Tok.cons dX1_hullsIn_68 rfl (pb_Tok.cons dX1_hullsIn_71 rfl (pb_Tok.cons dX1_hullsIn_72 rfl pb_Tok.nil)))))))))))))))))))))))))))))))))))))))
def tX1_refusalReason : pb_T := [(0, .aload_n 0, 1, 0), (1, .getfield 39, 4, 0), (4, .invokestatic 150, 7, 0), (7, .ireturn, 8, 0)]
theorem tX1_refusalReason_ok : pb_Tok cX1_refusalReason tX1_refusalReason := pb_Tok.cons dX1_refusalReason_0 rfl (pb_Tok.cons dX1_refusalReason_1 rfl (pb_Tok.cons dX1_refusalReason_4 rfl (pb_Tok.cons dX1_refusalReason_7 rfl pb_Tok.nil)))
def tX1_meanWeight : pb_T := [(0, .iconst 0, 1, 0), (1, .istore_n 1, 2, 0), (2, .iconst 0, 3, 0), (3, .istore_n 2, 4, 0), (4, .iload_n 2, 5, 1), (5, .aload_n 0, 6, 0), (6, .getfield 7, 9, 0), (9, .getfield 79, 12, 0), (12, .invokevirtual 83, 15, 0), (15, .if_icmp .ge 29, 18, 44), (18, .iload_n 1, 19, 0), (19, .aload_n 0, 20, 0), (20, .getfield 7, 23, 0), (23, .getfield 79, 26, 0), (26, .iload_n 2, 27, 0), (27, .invokevirtual 118, 30, 0), (30, .checkcast 94, 33, 0), (33, .invokevirtual 141, 36, 0), (36, .iadd, 37, 0), (37, .istore_n 1, 38, 0), (38, .iinc 2 1, 41, 0), (41, .goto (-37), 44, 4), (44, .aload_n 0, 45, 0), (45, .getfield 7, 48, 0), (48, .getfield 79, 51, 0), (51, .invokevirtual 257, 54, 0), (54, .ifCond .eq 11, 57, 65), (57, .new 261, 60, 0), (60, .dup, 61, 0), (61, .invokespecial 263, 64, 0), (64, .athrow, 65, 0), (65, .iload_n 1, 66, 0), (66, .i2d, 67, 0), (67, .aload_n 0, 68, 0), (68, .getfield 7, 71, 0), (71, .getfield 79, 74, 0), (74, .invokevirtual 83, 77, 0), (77, .i2d, 78, 0), (78, .ddiv, 79, 0), (79, .dreturn, 80, 0)]
theorem tX1_meanWeight_ok : pb_Tok cX1_meanWeight tX1_meanWeight := pb_Tok.cons dX1_meanWeight_0 rfl (pb_Tok.cons dX1_meanWeight_1 rfl (pb_Tok.cons dX1_meanWeight_2 rfl (pb_Tok.cons dX1_meanWeight_3 rfl (pb_Tok.cons dX1_meanWeight_4 rfl (pb_Tok.cons dX1_meanWeight_5 rfl (pb_Tok.cons dX1_meanWeight_6 rfl (pb_Tok.cons dX1_meanWeight_9 rfl (pb_Tok.cons dX1_meanWeight_12 rfl (pb_Tok.cons dX1_meanWeight_15 rfl (pb_Tok.cons dX1_meanWeight_18 rfl (pb_Tok.cons dX1_meanWeight_19 rfl (pb_Tok.cons dX1_meanWeight_20 rfl (pb_Tok.cons dX1_meanWeight_23 rfl (pb_Tok.cons dX1_meanWeight_26 rfl (pb_Tok.cons dX1_meanWeight_27 rfl (pb_Tok.cons dX1_meanWeight_30 rfl (pb_Tok.cons dX1_meanWeight_33 rfl (pb_Tok.cons dX1_meanWeight_36 rfl (pb_Tok.cons dX1_meanWeight_37 rfl (pb_Tok.cons dX1_meanWeight_38 rfl (pb_Tok.cons dX1_meanWeight_41 rfl (pb_Tok.cons dX1_meanWeight_44 rfl (pb_Tok.cons dX1_meanWeight_45 rfl (pb_Tok.cons dX1_meanWeight_48 rfl (pb_Tok.cons dX1_meanWeight_51 rfl (pb_Tok.cons dX1_meanWeight_54 rfl (pb_Tok.cons dX1_meanWeight_57 rfl (pb_Tok.cons dX1_meanWeight_60 rfl (pb_Tok.cons dX1_meanWeight_61 rfl (pb_Tok.cons dX1_meanWeight_64 rfl (pb_Tok.cons dX1_meanWeight_65 rfl (pb_Tok.cons dX1_meanWeight_66 rfl (pb_Tok.cons dX1_meanWeight_67 rfl (pb_Tok.cons dX1_meanWeight_68 rfl (pb_Tok.cons dX1_meanWeight_71 rfl (pb_Tok.cons dX1_meanWeight_74 rfl (pb_Tok.cons dX1_meanWeight_77 rfl (pb_Tok.cons dX1_meanWeight_78 rfl (pb_Tok.cons dX1_meanWeight_79 rfl pb_Tok.nil)))))))))))))))))))))))))))))))))))))))
def tX1_writeHull : pb_T := [(0, .aload_n 0, 1, 0), (1, .aload_n 0, 2, 0), (2, .getfield 7, 5, 0), (5, .iload_n 1, 6, 0), (6, .invokevirtual 89, 9, 0), (9, .invokevirtual 264, 12, 0), (12, .putfield 61, 15, 0), (15, .aload_n 0, 16, 0), (16, .getfield 61, 19, 0), (19, .invokevirtual 268, 22, 0), (22, .ireturn, 23, 0)]
theorem tX1_writeHull_ok : pb_Tok cX1_writeHull tX1_writeHull := pb_Tok.cons dX1_writeHull_0 rfl (pb_Tok.cons dX1_writeHull_1 rfl (pb_Tok.cons dX1_writeHull_2 rfl (pb_Tok.cons dX1_writeHull_5 rfl (pb_Tok.cons dX1_writeHull_6 rfl (pb_Tok.cons dX1_writeHull_9 rfl (pb_Tok.cons dX1_writeHull_12 rfl (pb_Tok.cons dX1_writeHull_15 rfl (pb_Tok.cons dX1_writeHull_16 rfl (pb_Tok.cons dX1_writeHull_19 rfl (pb_Tok.cons dX1_writeHull_22 rfl pb_Tok.nil))))))))))
def tX1_lineAt : pb_T := [(0, .iload_n 1, 1, 0), (1, .iconst 0, 2, 0), (2, .aload_n 0, 3, 0), (3, .getfield 61, 6, 0), (6, .invokevirtual 268, 9, 0), (9, .iconst 1, 10, 0), (10, .isub, 11, 0), (11, .invokestatic 105, 14, 0), (14, .invokestatic 111, 17, 0), (17, .aload_n 0, 18, 0), (18, .getfield 61, 21, 0), (21, .iload_n 1, 22, 0), (22, .invokevirtual 273, 25, 0), (25, .ireturn, 26, 0)]
theorem tX1_lineAt_ok : pb_Tok cX1_lineAt tX1_lineAt := pb_Tok.cons dX1_lineAt_0 rfl (pb_Tok.cons dX1_lineAt_1 rfl (pb_Tok.cons dX1_lineAt_2 rfl (pb_Tok.cons dX1_lineAt_3 rfl (pb_Tok.cons dX1_lineAt_6 rfl (pb_Tok.cons dX1_lineAt_9 rfl (pb_Tok.cons dX1_lineAt_10 rfl (pb_Tok.cons dX1_lineAt_11 rfl (pb_Tok.cons dX1_lineAt_14 rfl (pb_Tok.cons dX1_lineAt_17 rfl (pb_Tok.cons dX1_lineAt_18 rfl (pb_Tok.cons dX1_lineAt_21 rfl (pb_Tok.cons dX1_lineAt_22 rfl (pb_Tok.cons dX1_lineAt_25 rfl pb_Tok.nil)))))))))))))
def tX1_type : pb_T := [(0, .iconst 1, 1, 0), (1, .newarray .boolean, 3, 0), (3, .dup, 4, 0), (4, .iconst 0, 5, 0), (5, .iload_n 1, 6, 0), (6, .bipush 32, 8, 0), (8, .bipush 126, 10, 0), (10, .invokestatic 105, 13, 0), (13, .bastore, 14, 0), (14, .invokestatic 184, 17, 0), (17, .aload_n 0, 18, 0), (18, .getfield 68, 21, 0), (21, .invokevirtual 277, 24, 0), (24, .bipush 60, 26, 0), (26, .if_icmp .ge 7, 29, 33), (29, .iconst 1, 30, 0), (30, .goto 4, 33, 34), (33, .iconst 0, 34, 0), (34, .invokestatic 198, 37, 0), (37, .aload_n 0, 38, 0), (38, .getfield 68, 41, 0), (41, .iload_n 1, 42, 0), (42, .invokevirtual 278, 45, 0), (45, .pop, 46, 0), (46, .aload_n 0, 47, 0), (47, .getfield 68, 50, 0), (50, .invokevirtual 277, 53, 0), (53, .ireturn, 54, 0)]
theorem tX1_type_ok : pb_Tok cX1_type tX1_type := pb_Tok.cons dX1_type_0 rfl (pb_Tok.cons dX1_type_1 rfl (pb_Tok.cons dX1_type_3 rfl (pb_Tok.cons dX1_type_4 rfl (pb_Tok.cons dX1_type_5 rfl (pb_Tok.cons dX1_type_6 rfl (pb_Tok.cons dX1_type_8 rfl (pb_Tok.cons dX1_type_10 rfl (pb_Tok.cons dX1_type_13 rfl (pb_Tok.cons dX1_type_14 rfl (pb_Tok.cons dX1_type_17 rfl (pb_Tok.cons dX1_type_18 rfl (pb_Tok.cons dX1_type_21 rfl (pb_Tok.cons dX1_type_24 rfl (pb_Tok.cons dX1_type_26 rfl (pb_Tok.cons dX1_type_29 rfl (pb_Tok.cons dX1_type_30 rfl (pb_Tok.cons dX1_type_33 rfl (pb_Tok.cons dX1_type_34 rfl (pb_Tok.cons dX1_type_37 rfl (pb_Tok.cons dX1_type_38 rfl (pb_Tok.cons dX1_type_41 rfl (pb_Tok.cons dX1_type_42 rfl (pb_Tok.cons dX1_type_45 rfl (pb_Tok.cons dX1_type_46 rfl (pb_Tok.cons dX1_type_47 rfl (pb_Tok.cons dX1_type_50 rfl (pb_Tok.cons dX1_type_53 rfl pb_Tok.nil)))))))))))))))))))))))))))
def tX1_execute : pb_T := [(0, .aload_n 0, 1, 0), (1, .getfield 68, 4, 0), (4, .invokevirtual 293, 7, 0), (7, .astore_n 1, 8, 0), (8, .aload_n 0, 9, 0), (9, .getfield 68, 12, 0), (12, .iconst 0, 13, 0), (13, .invokevirtual 294, 16, 0), (16, .aload_n 0, 17, 0), (17, .getfield 7, 20, 0), (20, .invokevirtual 17, 23, 0), (23, .astore_n 2, 24, 0), (24, .new 298, 27, 0), (27, .dup, 28, 0), (28, .aload_n 1, 29, 0), (29, .invokespecial 300, 32, 0), (32, .invokevirtual 303, 35, 0), (35, .astore_n 3, 36, 0), (36, .aload_n 0, 37, 0), (37, .aload_n 3, 38, 0), (38, .aload_n 2, 39, 0), (39, .invokevirtual 307, 42, 0), (42, .aload_n 0, 43, 0), (43, .aload_n 2, 44, 0), (44, .aload_n 3, 45, 0), (45, .invokevirtual 83, 48, 0), (48, .invokevirtual 29, 51, 0), (51, .ireturn, 52, 0), (52, .astore_n 3, 53, 0), (53, .aload_n 0, 54, 0), (54, .aload_n 3, 55, 0), (55, .getfield 313, 58, 0), (58, .putfield 53, 61, 0), (61, .new 282, 64, 0), (64, .dup, 65, 0), (65, .invokespecial 316, 68, 0), (68, .athrow, 69, 0)]
theorem tX1_execute_ok : pb_Tok cX1_execute tX1_execute := pb_Tok.cons dX1_execute_0 rfl (pb_Tok.cons dX1_execute_1 rfl (pb_Tok.cons dX1_execute_4 rfl (pb_Tok.cons dX1_execute_7 rfl (pb_Tok.cons dX1_execute_8 rfl (pb_Tok.cons dX1_execute_9 rfl (pb_Tok.cons dX1_execute_12 rfl (pb_Tok.cons dX1_execute_13 rfl (pb_Tok.cons dX1_execute_16 rfl (pb_Tok.cons dX1_execute_17 rfl (pb_Tok.cons dX1_execute_20 rfl (pb_Tok.cons dX1_execute_23 rfl (pb_Tok.cons dX1_execute_24 rfl (pb_Tok.cons dX1_execute_27 rfl (pb_Tok.cons dX1_execute_28 rfl (pb_Tok.cons dX1_execute_29 rfl (pb_Tok.cons dX1_execute_32 rfl (pb_Tok.cons dX1_execute_35 rfl (pb_Tok.cons dX1_execute_36 rfl (pb_Tok.cons dX1_execute_37 rfl (pb_Tok.cons dX1_execute_38 rfl (pb_Tok.cons dX1_execute_39 rfl (pb_Tok.cons dX1_execute_42 rfl (pb_Tok.cons dX1_execute_43 rfl (pb_Tok.cons dX1_execute_44 rfl (pb_Tok.cons dX1_execute_45 rfl (pb_Tok.cons dX1_execute_48 rfl (pb_Tok.cons dX1_execute_51 rfl (pb_Tok.cons dX1_execute_52 rfl (pb_Tok.cons dX1_execute_53 rfl (pb_Tok.cons dX1_execute_54 rfl (pb_Tok.cons dX1_execute_55 rfl (pb_Tok.cons dX1_execute_58 rfl (pb_Tok.cons dX1_execute_61 rfl (pb_Tok.cons dX1_execute_64 rfl (pb_Tok.cons dX1_execute_65 rfl (pb_Tok.cons dX1_execute_68 rfl pb_Tok.nil))))))))))))))))))))))))))))))))))))
def tX1_applyAll : pb_T := [(0, .iconst 0, 1, 0), (1, .istore_n 3, 2, 0), (2, .iload_n 3, 3, 1), (3, .aload_n 1, 4, 0), (4, .invokevirtual 83, 7, 0), (7, .if_icmp .ge 41, 10, 48), (10, .aload_n 0, 11, 0), (11, .aload_n 1, 12, 0), (12, .iload_n 3, 13, 0), (13, .invokevirtual 118, 16, 0), (16, .checkcast 24, 19, 0), (19, .aload_n 2, 20, 0), (20, .invokevirtual 288, 23, 0), (23, .ifCond .eq 6, 26, 29), (26, .goto 16, 29, 42), (29, .aload_n 0, 30, 0), (30, .iload_n 3, 31, 0), (31, .putfield 56, 34, 0), (34, .new 284, 37, 0), (37, .dup, 38, 0), (38, .invokespecial 292, 41, 0), (41, .athrow, 42, 0), (42, .iinc 3 1, 45, 0), (45, .goto (-43), 48, 2), (48, .return_, 49, 0)]
theorem tX1_applyAll_ok : pb_Tok cX1_applyAll tX1_applyAll := pb_Tok.cons dX1_applyAll_0 rfl (pb_Tok.cons dX1_applyAll_1 rfl (pb_Tok.cons dX1_applyAll_2 rfl (pb_Tok.cons dX1_applyAll_3 rfl (pb_Tok.cons dX1_applyAll_4 rfl (pb_Tok.cons dX1_applyAll_7 rfl (pb_Tok.cons dX1_applyAll_10 rfl (pb_Tok.cons dX1_applyAll_11 rfl (pb_Tok.cons dX1_applyAll_12 rfl (pb_Tok.cons dX1_applyAll_13 rfl (pb_Tok.cons dX1_applyAll_16 rfl (pb_Tok.cons dX1_applyAll_19 rfl (pb_Tok.cons dX1_applyAll_20 rfl (pb_Tok.cons dX1_applyAll_23 rfl (pb_Tok.cons dX1_applyAll_26 rfl (pb_Tok.cons dX1_applyAll_29 rfl (pb_Tok.cons dX1_applyAll_30 rfl (pb_Tok.cons dX1_applyAll_31 rfl (pb_Tok.cons dX1_applyAll_34 rfl (pb_Tok.cons dX1_applyAll_37 rfl (pb_Tok.cons dX1_applyAll_38 rfl (pb_Tok.cons dX1_applyAll_41 rfl (pb_Tok.cons dX1_applyAll_42 rfl (pb_Tok.cons dX1_applyAll_45 rfl (pb_Tok.cons dX1_applyAll_48 rfl pb_Tok.nil))))))))))))))))))))))))
def tX1_applies : pb_T := [(0, .aload_n 1, 1, 0), (1, .aload_n 2, 2, 0), (2, .invokevirtual 23, 5, 0), (5, .istore_n 3, 6, 0), (6, .iconst 1, 7, 0), (7, .ireturn, 8, 0), (8, .astore_n 3, 9, 0), (9, .aload_n 0, 10, 0), (10, .aload_n 3, 11, 0), (11, .getfield 35, 14, 0), (14, .putfield 39, 17, 0), (17, .iconst 0, 18, 0), (18, .ireturn, 19, 0), (19, .astore_n 3, 20, 0), (20, .iconst 0, 21, 0), (21, .ireturn, 22, 0)]
theorem tX1_applies_ok : pb_Tok cX1_applies tX1_applies := pb_Tok.cons dX1_applies_0 rfl (pb_Tok.cons dX1_applies_1 rfl (pb_Tok.cons dX1_applies_2 rfl (pb_Tok.cons dX1_applies_5 rfl (pb_Tok.cons dX1_applies_6 rfl (pb_Tok.cons dX1_applies_7 rfl (pb_Tok.cons dX1_applies_8 rfl (pb_Tok.cons dX1_applies_9 rfl (pb_Tok.cons dX1_applies_10 rfl (pb_Tok.cons dX1_applies_11 rfl (pb_Tok.cons dX1_applies_14 rfl (pb_Tok.cons dX1_applies_17 rfl (pb_Tok.cons dX1_applies_18 rfl (pb_Tok.cons dX1_applies_19 rfl (pb_Tok.cons dX1_applies_20 rfl (pb_Tok.cons dX1_applies_21 rfl pb_Tok.nil)))))))))))))))
def tX1_errorPosition : pb_T := [(0, .aload_n 0, 1, 0), (1, .getfield 53, 4, 0), (4, .invokestatic 150, 7, 0), (7, .ireturn, 8, 0)]
theorem tX1_errorPosition_ok : pb_Tok cX1_errorPosition tX1_errorPosition := pb_Tok.cons dX1_errorPosition_0 rfl (pb_Tok.cons dX1_errorPosition_1 rfl (pb_Tok.cons dX1_errorPosition_4 rfl (pb_Tok.cons dX1_errorPosition_7 rfl pb_Tok.nil)))
def tX1_failedCommand : pb_T := [(0, .aload_n 0, 1, 0), (1, .getfield 56, 4, 0), (4, .invokestatic 150, 7, 0), (7, .ireturn, 8, 0)]
theorem tX1_failedCommand_ok : pb_Tok cX1_failedCommand tX1_failedCommand := pb_Tok.cons dX1_failedCommand_0 rfl (pb_Tok.cons dX1_failedCommand_1 rfl (pb_Tok.cons dX1_failedCommand_4 rfl (pb_Tok.cons dX1_failedCommand_7 rfl pb_Tok.nil)))
def tX1_undo : pb_T := [(0, .aload_n 0, 1, 0), (1, .aload_n 0, 2, 0), (2, .getfield 1, 5, 0), (5, .invokevirtual 317, 8, 0), (8, .putfield 7, 11, 0), (11, .aload_n 0, 12, 0), (12, .getfield 1, 15, 0), (15, .invokevirtual 320, 18, 0), (18, .ireturn, 19, 0)]
theorem tX1_undo_ok : pb_Tok cX1_undo tX1_undo := pb_Tok.cons dX1_undo_0 rfl (pb_Tok.cons dX1_undo_1 rfl (pb_Tok.cons dX1_undo_2 rfl (pb_Tok.cons dX1_undo_5 rfl (pb_Tok.cons dX1_undo_8 rfl (pb_Tok.cons dX1_undo_11 rfl (pb_Tok.cons dX1_undo_12 rfl (pb_Tok.cons dX1_undo_15 rfl (pb_Tok.cons dX1_undo_18 rfl pb_Tok.nil))))))))
def tX1_restore : pb_T := [(0, .aload_n 0, 1, 0), (1, .getfield 321, 4, 0), (4, .ifnull 7, 7, 11), (7, .iconst 1, 8, 0), (8, .goto 4, 11, 12), (11, .iconst 0, 12, 0), (12, .invokestatic 198, 15, 0), (15, .aload_n 0, 16, 0), (16, .aload_n 0, 17, 0), (17, .getfield 321, 20, 0), (20, .invokevirtual 17, 23, 0), (23, .putfield 7, 26, 0), (26, .aload_n 0, 27, 0), (27, .getfield 1, 30, 0), (30, .invokevirtual 324, 33, 0), (33, .aload_n 0, 34, 0), (34, .getfield 7, 37, 0), (37, .getfield 181, 40, 0), (40, .ireturn, 41, 0)]
theorem tX1_restore_ok : pb_Tok cX1_restore tX1_restore := pb_Tok.cons dX1_restore_0 rfl (pb_Tok.cons dX1_restore_1 rfl (pb_Tok.cons dX1_restore_4 rfl (pb_Tok.cons dX1_restore_7 rfl (pb_Tok.cons dX1_restore_8 rfl (pb_Tok.cons dX1_restore_11 rfl (pb_Tok.cons dX1_restore_12 rfl (pb_Tok.cons dX1_restore_15 rfl (pb_Tok.cons dX1_restore_16 rfl (pb_Tok.cons dX1_restore_17 rfl (pb_Tok.cons dX1_restore_20 rfl (pb_Tok.cons dX1_restore_23 rfl (pb_Tok.cons dX1_restore_26 rfl (pb_Tok.cons dX1_restore_27 rfl (pb_Tok.cons dX1_restore_30 rfl (pb_Tok.cons dX1_restore_33 rfl (pb_Tok.cons dX1_restore_34 rfl (pb_Tok.cons dX1_restore_37 rfl (pb_Tok.cons dX1_restore_40 rfl pb_Tok.nil))))))))))))))))))
def dkwX2_init_4 : List UInt8 := [167, 255, 237, 177]
abbrev dktX2_init_4 : List UInt8 := dkwX2_init_4 ++ []
def dkwX2_init_3 : List UInt8 := [167, 255, 231, 3, 60, 27, 7, 162, 0, 20, 42, 180, 0, 25, 27, 5, 27, 4, 96, 104, 79, 132, 1, 1]
abbrev dktX2_init_3 : List UInt8 := dkwX2_init_3 ++ dktX2_init_4
def dkwX2_init_2 : List UInt8 := [162, 0, 25, 42, 180, 0, 21, 27, 7, 27, 16, 12, 27, 100, 184, 0, 28, 104, 79, 132, 1, 1]
abbrev dktX2_init_2 : List UInt8 := dkwX2_init_2 ++ dktX2_init_3
def dkwX2_init_1 : List UInt8 := [181, 0, 18, 42, 16, 12, 188, 10, 181, 0, 21, 42, 7, 188, 10, 181, 0, 25, 3, 60, 27, 16, 12]
abbrev dktX2_init_1 : List UInt8 := dkwX2_init_1 ++ dktX2_init_2
def dkwX2_init_0 : List UInt8 := [42, 183, 0, 3, 42, 187, 0, 9, 89, 183, 0, 11, 181, 0, 12, 42, 187, 0, 9, 89, 183, 0, 11]
abbrev dktX2_init_0 : List UInt8 := dkwX2_init_0 ++ dktX2_init_1
theorem dksX2_init_0 : cX2_init.data.toList.drop 0 = dktX2_init_0 := by decide +kernel
theorem dksX2_init_1 : cX2_init.data.toList.drop 23 = dktX2_init_1 := dk_seg dksX2_init_0 23 rfl rfl
theorem dksX2_init_2 : cX2_init.data.toList.drop 46 = dktX2_init_2 := dk_seg dksX2_init_1 23 rfl rfl
theorem dksX2_init_3 : cX2_init.data.toList.drop 68 = dktX2_init_3 := dk_seg dksX2_init_2 22 rfl rfl
theorem dksX2_init_4 : cX2_init.data.toList.drop 92 = dktX2_init_4 := dk_seg dksX2_init_3 24 rfl rfl
theorem dX2_init_0 : decode cX2_init 0 = .ok (.aload_n 0, 1) := dk_42 (dk_at dksX2_init_0 0 rfl rfl)
theorem dX2_init_1 : decode cX2_init 1 = .ok (.invokespecial 3, 3) := dk_183 0 3 (dk_at dksX2_init_0 1 rfl rfl)
theorem dX2_init_4 : decode cX2_init 4 = .ok (.aload_n 0, 1) := dk_42 (dk_at dksX2_init_0 4 rfl rfl)
theorem dX2_init_5 : decode cX2_init 5 = .ok (.new 9, 3) := dk_187 0 9 (dk_at dksX2_init_0 5 rfl rfl)
theorem dX2_init_8 : decode cX2_init 8 = .ok (.dup, 1) := dk_89 (dk_at dksX2_init_0 8 rfl rfl)
theorem dX2_init_9 : decode cX2_init 9 = .ok (.invokespecial 11, 3) := dk_183 0 11 (dk_at dksX2_init_0 9 rfl rfl)
theorem dX2_init_12 : decode cX2_init 12 = .ok (.putfield 12, 3) := dk_181 0 12 (dk_at dksX2_init_0 12 rfl rfl)
theorem dX2_init_15 : decode cX2_init 15 = .ok (.aload_n 0, 1) := dk_42 (dk_at dksX2_init_0 15 rfl rfl)
theorem dX2_init_16 : decode cX2_init 16 = .ok (.new 9, 3) := dk_187 0 9 (dk_at dksX2_init_0 16 rfl rfl)
theorem dX2_init_19 : decode cX2_init 19 = .ok (.dup, 1) := dk_89 (dk_at dksX2_init_0 19 rfl rfl)
theorem dX2_init_20 : decode cX2_init 20 = .ok (.invokespecial 11, 3) := dk_183 0 11 (dk_at dksX2_init_0 20 rfl rfl)
theorem dX2_init_23 : decode cX2_init 23 = .ok (.putfield 18, 3) := dk_181 0 18 (dk_at dksX2_init_1 0 rfl rfl)
theorem dX2_init_26 : decode cX2_init 26 = .ok (.aload_n 0, 1) := dk_42 (dk_at dksX2_init_1 3 rfl rfl)
theorem dX2_init_27 : decode cX2_init 27 = .ok (.bipush 12, 2) := dk_16 12 (dk_at dksX2_init_1 4 rfl rfl)
theorem dX2_init_29 : decode cX2_init 29 = .ok (.newarray .int, 2) := dk_188_10 (dk_at dksX2_init_1 6 rfl rfl)
theorem dX2_init_31 : decode cX2_init 31 = .ok (.putfield 21, 3) := dk_181 0 21 (dk_at dksX2_init_1 8 rfl rfl)
theorem dX2_init_34 : decode cX2_init 34 = .ok (.aload_n 0, 1) := dk_42 (dk_at dksX2_init_1 11 rfl rfl)
theorem dX2_init_35 : decode cX2_init 35 = .ok (.iconst 4, 1) := dk_7 (dk_at dksX2_init_1 12 rfl rfl)
theorem dX2_init_36 : decode cX2_init 36 = .ok (.newarray .int, 2) := dk_188_10 (dk_at dksX2_init_1 13 rfl rfl)
theorem dX2_init_38 : decode cX2_init 38 = .ok (.putfield 25, 3) := dk_181 0 25 (dk_at dksX2_init_1 15 rfl rfl)
theorem dX2_init_41 : decode cX2_init 41 = .ok (.iconst 0, 1) := dk_3 (dk_at dksX2_init_1 18 rfl rfl)
theorem dX2_init_42 : decode cX2_init 42 = .ok (.istore_n 1, 1) := dk_60 (dk_at dksX2_init_1 19 rfl rfl)
theorem dX2_init_43 : decode cX2_init 43 = .ok (.iload_n 1, 1) := dk_27 (dk_at dksX2_init_1 20 rfl rfl)
theorem dX2_init_44 : decode cX2_init 44 = .ok (.bipush 12, 2) := dk_16 12 (dk_at dksX2_init_1 21 rfl rfl)
theorem dX2_init_46 : decode cX2_init 46 = .ok (.if_icmp .ge 25, 3) := dk_162 0 25 (dk_at dksX2_init_2 0 rfl rfl)
theorem dX2_init_49 : decode cX2_init 49 = .ok (.aload_n 0, 1) := dk_42 (dk_at dksX2_init_2 3 rfl rfl)
theorem dX2_init_50 : decode cX2_init 50 = .ok (.getfield 21, 3) := dk_180 0 21 (dk_at dksX2_init_2 4 rfl rfl)
theorem dX2_init_53 : decode cX2_init 53 = .ok (.iload_n 1, 1) := dk_27 (dk_at dksX2_init_2 7 rfl rfl)
theorem dX2_init_54 : decode cX2_init 54 = .ok (.iconst 4, 1) := dk_7 (dk_at dksX2_init_2 8 rfl rfl)
theorem dX2_init_55 : decode cX2_init 55 = .ok (.iload_n 1, 1) := dk_27 (dk_at dksX2_init_2 9 rfl rfl)
theorem dX2_init_56 : decode cX2_init 56 = .ok (.bipush 12, 2) := dk_16 12 (dk_at dksX2_init_2 10 rfl rfl)
theorem dX2_init_58 : decode cX2_init 58 = .ok (.iload_n 1, 1) := dk_27 (dk_at dksX2_init_2 12 rfl rfl)
theorem dX2_init_59 : decode cX2_init 59 = .ok (.isub, 1) := dk_100 (dk_at dksX2_init_2 13 rfl rfl)
theorem dX2_init_60 : decode cX2_init 60 = .ok (.invokestatic 28, 3) := dk_184 0 28 (dk_at dksX2_init_2 14 rfl rfl)
theorem dX2_init_63 : decode cX2_init 63 = .ok (.imul, 1) := dk_104 (dk_at dksX2_init_2 17 rfl rfl)
theorem dX2_init_64 : decode cX2_init 64 = .ok (.iastore, 1) := dk_79 (dk_at dksX2_init_2 18 rfl rfl)
theorem dX2_init_65 : decode cX2_init 65 = .ok (.iinc 1 1, 3) := dk_132 1 1 (dk_at dksX2_init_2 19 rfl rfl)
theorem dX2_init_68 : decode cX2_init 68 = .ok (.goto (-25), 3) := dk_167 255 231 (dk_at dksX2_init_3 0 rfl rfl)
theorem dX2_init_71 : decode cX2_init 71 = .ok (.iconst 0, 1) := dk_3 (dk_at dksX2_init_3 3 rfl rfl)
theorem dX2_init_72 : decode cX2_init 72 = .ok (.istore_n 1, 1) := dk_60 (dk_at dksX2_init_3 4 rfl rfl)
theorem dX2_init_73 : decode cX2_init 73 = .ok (.iload_n 1, 1) := dk_27 (dk_at dksX2_init_3 5 rfl rfl)
theorem dX2_init_74 : decode cX2_init 74 = .ok (.iconst 4, 1) := dk_7 (dk_at dksX2_init_3 6 rfl rfl)
theorem dX2_init_75 : decode cX2_init 75 = .ok (.if_icmp .ge 20, 3) := dk_162 0 20 (dk_at dksX2_init_3 7 rfl rfl)
theorem dX2_init_78 : decode cX2_init 78 = .ok (.aload_n 0, 1) := dk_42 (dk_at dksX2_init_3 10 rfl rfl)
theorem dX2_init_79 : decode cX2_init 79 = .ok (.getfield 25, 3) := dk_180 0 25 (dk_at dksX2_init_3 11 rfl rfl)
theorem dX2_init_82 : decode cX2_init 82 = .ok (.iload_n 1, 1) := dk_27 (dk_at dksX2_init_3 14 rfl rfl)
theorem dX2_init_83 : decode cX2_init 83 = .ok (.iconst 2, 1) := dk_5 (dk_at dksX2_init_3 15 rfl rfl)
theorem dX2_init_84 : decode cX2_init 84 = .ok (.iload_n 1, 1) := dk_27 (dk_at dksX2_init_3 16 rfl rfl)
theorem dX2_init_85 : decode cX2_init 85 = .ok (.iconst 1, 1) := dk_4 (dk_at dksX2_init_3 17 rfl rfl)
theorem dX2_init_86 : decode cX2_init 86 = .ok (.iadd, 1) := dk_96 (dk_at dksX2_init_3 18 rfl rfl)
theorem dX2_init_87 : decode cX2_init 87 = .ok (.imul, 1) := dk_104 (dk_at dksX2_init_3 19 rfl rfl)
theorem dX2_init_88 : decode cX2_init 88 = .ok (.iastore, 1) := dk_79 (dk_at dksX2_init_3 20 rfl rfl)
theorem dX2_init_89 : decode cX2_init 89 = .ok (.iinc 1 1, 3) := dk_132 1 1 (dk_at dksX2_init_3 21 rfl rfl)
theorem dX2_init_92 : decode cX2_init 92 = .ok (.goto (-19), 3) := dk_167 255 237 (dk_at dksX2_init_4 0 rfl rfl)
theorem dX2_init_95 : decode cX2_init 95 = .ok (.return_, 1) := dk_177 (dk_at dksX2_init_4 3 rfl rfl)
def dkwX2_mostOnSlips_0 : List UInt8 := [187, 0, 186, 89, 42, 183, 0, 188, 180, 0, 191, 172]
abbrev dktX2_mostOnSlips_0 : List UInt8 := dkwX2_mostOnSlips_0 ++ []
theorem dksX2_mostOnSlips_0 : cX2_mostOnSlips.data.toList.drop 0 = dktX2_mostOnSlips_0 := by decide +kernel
theorem dX2_mostOnSlips_0 : decode cX2_mostOnSlips 0 = .ok (.new 186, 3) := dk_187 0 186 (dk_at dksX2_mostOnSlips_0 0 rfl rfl)
theorem dX2_mostOnSlips_3 : decode cX2_mostOnSlips 3 = .ok (.dup, 1) := dk_89 (dk_at dksX2_mostOnSlips_0 3 rfl rfl)
theorem dX2_mostOnSlips_4 : decode cX2_mostOnSlips 4 = .ok (.aload_n 0, 1) := dk_42 (dk_at dksX2_mostOnSlips_0 4 rfl rfl)
theorem dX2_mostOnSlips_5 : decode cX2_mostOnSlips 5 = .ok (.invokespecial 188, 3) := dk_183 0 188 (dk_at dksX2_mostOnSlips_0 5 rfl rfl)
theorem dX2_mostOnSlips_8 : decode cX2_mostOnSlips 8 = .ok (.getfield 191, 3) := dk_180 0 191 (dk_at dksX2_mostOnSlips_0 8 rfl rfl)
theorem dX2_mostOnSlips_11 : decode cX2_mostOnSlips 11 = .ok (.ireturn, 1) := dk_172 (dk_at dksX2_mostOnSlips_0 11 rfl rfl)
def dkwX2_fits_2 : List UInt8 := [3, 172]
abbrev dktX2_fits_2 : List UInt8 := dkwX2_fits_2 ++ []
def dkwX2_fits_1 : List UInt8 := [182, 0, 114, 5, 161, 0, 20, 42, 180, 0, 25, 28, 46, 45, 182, 0, 114, 161, 0, 7, 4, 167, 0, 4]
abbrev dktX2_fits_1 : List UInt8 := dkwX2_fits_1 ++ dktX2_fits_2
def dkwX2_fits_0 : List UInt8 := [42, 180, 0, 12, 27, 182, 0, 41, 192, 0, 39, 78, 45, 178, 0, 104, 182, 0, 110, 153, 0, 28, 45]
abbrev dktX2_fits_0 : List UInt8 := dkwX2_fits_0 ++ dktX2_fits_1
theorem dksX2_fits_0 : cX2_fits.data.toList.drop 0 = dktX2_fits_0 := by decide +kernel
theorem dksX2_fits_1 : cX2_fits.data.toList.drop 23 = dktX2_fits_1 := dk_seg dksX2_fits_0 23 rfl rfl
theorem dksX2_fits_2 : cX2_fits.data.toList.drop 47 = dktX2_fits_2 := dk_seg dksX2_fits_1 24 rfl rfl
theorem dX2_fits_0 : decode cX2_fits 0 = .ok (.aload_n 0, 1) := dk_42 (dk_at dksX2_fits_0 0 rfl rfl)
theorem dX2_fits_1 : decode cX2_fits 1 = .ok (.getfield 12, 3) := dk_180 0 12 (dk_at dksX2_fits_0 1 rfl rfl)
theorem dX2_fits_4 : decode cX2_fits 4 = .ok (.iload_n 1, 1) := dk_27 (dk_at dksX2_fits_0 4 rfl rfl)
theorem dX2_fits_5 : decode cX2_fits 5 = .ok (.invokevirtual 41, 3) := dk_182 0 41 (dk_at dksX2_fits_0 5 rfl rfl)
theorem dX2_fits_8 : decode cX2_fits 8 = .ok (.checkcast 39, 3) := dk_192 0 39 (dk_at dksX2_fits_0 8 rfl rfl)
theorem dX2_fits_11 : decode cX2_fits 11 = .ok (.astore_n 3, 1) := dk_78 (dk_at dksX2_fits_0 11 rfl rfl)
theorem dX2_fits_12 : decode cX2_fits 12 = .ok (.aload_n 3, 1) := dk_45 (dk_at dksX2_fits_0 12 rfl rfl)
theorem dX2_fits_13 : decode cX2_fits 13 = .ok (.getstatic 104, 3) := dk_178 0 104 (dk_at dksX2_fits_0 13 rfl rfl)
theorem dX2_fits_16 : decode cX2_fits 16 = .ok (.invokevirtual 110, 3) := dk_182 0 110 (dk_at dksX2_fits_0 16 rfl rfl)
theorem dX2_fits_19 : decode cX2_fits 19 = .ok (.ifCond .eq 28, 3) := dk_153 0 28 (dk_at dksX2_fits_0 19 rfl rfl)
theorem dX2_fits_22 : decode cX2_fits 22 = .ok (.aload_n 3, 1) := dk_45 (dk_at dksX2_fits_0 22 rfl rfl)
theorem dX2_fits_23 : decode cX2_fits 23 = .ok (.invokevirtual 114, 3) := dk_182 0 114 (dk_at dksX2_fits_1 0 rfl rfl)
theorem dX2_fits_26 : decode cX2_fits 26 = .ok (.iconst 2, 1) := dk_5 (dk_at dksX2_fits_1 3 rfl rfl)
theorem dX2_fits_27 : decode cX2_fits 27 = .ok (.if_icmp .lt 20, 3) := dk_161 0 20 (dk_at dksX2_fits_1 4 rfl rfl)
theorem dX2_fits_30 : decode cX2_fits 30 = .ok (.aload_n 0, 1) := dk_42 (dk_at dksX2_fits_1 7 rfl rfl)
theorem dX2_fits_31 : decode cX2_fits 31 = .ok (.getfield 25, 3) := dk_180 0 25 (dk_at dksX2_fits_1 8 rfl rfl)
theorem dX2_fits_34 : decode cX2_fits 34 = .ok (.iload_n 2, 1) := dk_28 (dk_at dksX2_fits_1 11 rfl rfl)
theorem dX2_fits_35 : decode cX2_fits 35 = .ok (.iaload, 1) := dk_46 (dk_at dksX2_fits_1 12 rfl rfl)
theorem dX2_fits_36 : decode cX2_fits 36 = .ok (.aload_n 3, 1) := dk_45 (dk_at dksX2_fits_1 13 rfl rfl)
theorem dX2_fits_37 : decode cX2_fits 37 = .ok (.invokevirtual 114, 3) := dk_182 0 114 (dk_at dksX2_fits_1 14 rfl rfl)
theorem dX2_fits_40 : decode cX2_fits 40 = .ok (.if_icmp .lt 7, 3) := dk_161 0 7 (dk_at dksX2_fits_1 17 rfl rfl)
theorem dX2_fits_43 : decode cX2_fits 43 = .ok (.iconst 1, 1) := dk_4 (dk_at dksX2_fits_1 20 rfl rfl)
theorem dX2_fits_44 : decode cX2_fits 44 = .ok (.goto 4, 3) := dk_167 0 4 (dk_at dksX2_fits_1 21 rfl rfl)
theorem dX2_fits_47 : decode cX2_fits 47 = .ok (.iconst 0, 1) := dk_3 (dk_at dksX2_fits_2 0 rfl rfl)
theorem dX2_fits_48 : decode cX2_fits 48 = .ok (.ireturn, 1) := dk_172 (dk_at dksX2_fits_2 1 rfl rfl)
def dkwX2_mostOnSlipsByLengths_4 : List UInt8 := [172]
abbrev dktX2_mostOnSlipsByLengths_4 : List UInt8 := dkwX2_mostOnSlipsByLengths_4 ++ []
def dkwX2_mostOnSlipsByLengths_3 : List UInt8 := [167, 0, 11, 43, 21, 5, 4, 84, 132, 2, 1, 132, 4, 1, 167, 255, 192, 132, 3, 1, 167, 255, 177, 28]
abbrev dktX2_mostOnSlipsByLengths_3 : List UInt8 := dkwX2_mostOnSlipsByLengths_3 ++ dktX2_mostOnSlipsByLengths_4
def dkwX2_mostOnSlipsByLengths_2 : List UInt8 := [160, 0, 13, 42, 21, 4, 43, 182, 0, 193, 167, 0, 4, 2, 54, 5, 21, 5, 2, 160, 0, 6]
abbrev dktX2_mostOnSlipsByLengths_2 : List UInt8 := dkwX2_mostOnSlipsByLengths_2 ++ dktX2_mostOnSlipsByLengths_3
def dkwX2_mostOnSlipsByLengths_1 : List UInt8 := [182, 0, 35, 162, 0, 58, 42, 180, 0, 12, 21, 4, 182, 0, 41, 192, 0, 39, 182, 0, 114, 29]
abbrev dktX2_mostOnSlipsByLengths_1 : List UInt8 := dkwX2_mostOnSlipsByLengths_1 ++ dktX2_mostOnSlipsByLengths_2
def dkwX2_mostOnSlipsByLengths_0 : List UInt8 := [7, 188, 4, 76, 3, 61, 5, 62, 29, 16, 8, 163, 0, 79, 3, 54, 4, 21, 4, 42, 180, 0, 12]
abbrev dktX2_mostOnSlipsByLengths_0 : List UInt8 := dkwX2_mostOnSlipsByLengths_0 ++ dktX2_mostOnSlipsByLengths_1
theorem dksX2_mostOnSlipsByLengths_0 : cX2_mostOnSlipsByLengths.data.toList.drop 0 = dktX2_mostOnSlipsByLengths_0 := by decide +kernel
theorem dksX2_mostOnSlipsByLengths_1 : cX2_mostOnSlipsByLengths.data.toList.drop 23 = dktX2_mostOnSlipsByLengths_1 := dk_seg dksX2_mostOnSlipsByLengths_0 23 rfl rfl
theorem dksX2_mostOnSlipsByLengths_2 : cX2_mostOnSlipsByLengths.data.toList.drop 45 = dktX2_mostOnSlipsByLengths_2 := dk_seg dksX2_mostOnSlipsByLengths_1 22 rfl rfl
theorem dksX2_mostOnSlipsByLengths_3 : cX2_mostOnSlipsByLengths.data.toList.drop 67 = dktX2_mostOnSlipsByLengths_3 := dk_seg dksX2_mostOnSlipsByLengths_2 22 rfl rfl
theorem dksX2_mostOnSlipsByLengths_4 : cX2_mostOnSlipsByLengths.data.toList.drop 91 = dktX2_mostOnSlipsByLengths_4 := dk_seg dksX2_mostOnSlipsByLengths_3 24 rfl rfl
theorem dX2_mostOnSlipsByLengths_0 : decode cX2_mostOnSlipsByLengths 0 = .ok (.iconst 4, 1) := dk_7 (dk_at dksX2_mostOnSlipsByLengths_0 0 rfl rfl)
theorem dX2_mostOnSlipsByLengths_1 : decode cX2_mostOnSlipsByLengths 1 = .ok (.newarray .boolean, 2) := dk_188_4 (dk_at dksX2_mostOnSlipsByLengths_0 1 rfl rfl)
theorem dX2_mostOnSlipsByLengths_3 : decode cX2_mostOnSlipsByLengths 3 = .ok (.astore_n 1, 1) := dk_76 (dk_at dksX2_mostOnSlipsByLengths_0 3 rfl rfl)
theorem dX2_mostOnSlipsByLengths_4 : decode cX2_mostOnSlipsByLengths 4 = .ok (.iconst 0, 1) := dk_3 (dk_at dksX2_mostOnSlipsByLengths_0 4 rfl rfl)
theorem dX2_mostOnSlipsByLengths_5 : decode cX2_mostOnSlipsByLengths 5 = .ok (.istore_n 2, 1) := dk_61 (dk_at dksX2_mostOnSlipsByLengths_0 5 rfl rfl)
theorem dX2_mostOnSlipsByLengths_6 : decode cX2_mostOnSlipsByLengths 6 = .ok (.iconst 2, 1) := dk_5 (dk_at dksX2_mostOnSlipsByLengths_0 6 rfl rfl)
theorem dX2_mostOnSlipsByLengths_7 : decode cX2_mostOnSlipsByLengths 7 = .ok (.istore_n 3, 1) := dk_62 (dk_at dksX2_mostOnSlipsByLengths_0 7 rfl rfl)
theorem dX2_mostOnSlipsByLengths_8 : decode cX2_mostOnSlipsByLengths 8 = .ok (.iload_n 3, 1) := dk_29 (dk_at dksX2_mostOnSlipsByLengths_0 8 rfl rfl)
theorem dX2_mostOnSlipsByLengths_9 : decode cX2_mostOnSlipsByLengths 9 = .ok (.bipush 8, 2) := dk_16 8 (dk_at dksX2_mostOnSlipsByLengths_0 9 rfl rfl)
theorem dX2_mostOnSlipsByLengths_11 : decode cX2_mostOnSlipsByLengths 11 = .ok (.if_icmp .gt 79, 3) := dk_163 0 79 (dk_at dksX2_mostOnSlipsByLengths_0 11 rfl rfl)
theorem dX2_mostOnSlipsByLengths_14 : decode cX2_mostOnSlipsByLengths 14 = .ok (.iconst 0, 1) := dk_3 (dk_at dksX2_mostOnSlipsByLengths_0 14 rfl rfl)
theorem dX2_mostOnSlipsByLengths_15 : decode cX2_mostOnSlipsByLengths 15 = .ok (.istore 4, 2) := dk_54 4 (dk_at dksX2_mostOnSlipsByLengths_0 15 rfl rfl)
theorem dX2_mostOnSlipsByLengths_17 : decode cX2_mostOnSlipsByLengths 17 = .ok (.iload 4, 2) := dk_21 4 (dk_at dksX2_mostOnSlipsByLengths_0 17 rfl rfl)
theorem dX2_mostOnSlipsByLengths_19 : decode cX2_mostOnSlipsByLengths 19 = .ok (.aload_n 0, 1) := dk_42 (dk_at dksX2_mostOnSlipsByLengths_0 19 rfl rfl)
theorem dX2_mostOnSlipsByLengths_20 : decode cX2_mostOnSlipsByLengths 20 = .ok (.getfield 12, 3) := dk_180 0 12 (dk_at dksX2_mostOnSlipsByLengths_0 20 rfl rfl)
theorem dX2_mostOnSlipsByLengths_23 : decode cX2_mostOnSlipsByLengths 23 = .ok (.invokevirtual 35, 3) := dk_182 0 35 (dk_at dksX2_mostOnSlipsByLengths_1 0 rfl rfl)
theorem dX2_mostOnSlipsByLengths_26 : decode cX2_mostOnSlipsByLengths 26 = .ok (.if_icmp .ge 58, 3) := dk_162 0 58 (dk_at dksX2_mostOnSlipsByLengths_1 3 rfl rfl)
theorem dX2_mostOnSlipsByLengths_29 : decode cX2_mostOnSlipsByLengths 29 = .ok (.aload_n 0, 1) := dk_42 (dk_at dksX2_mostOnSlipsByLengths_1 6 rfl rfl)
theorem dX2_mostOnSlipsByLengths_30 : decode cX2_mostOnSlipsByLengths 30 = .ok (.getfield 12, 3) := dk_180 0 12 (dk_at dksX2_mostOnSlipsByLengths_1 7 rfl rfl)
theorem dX2_mostOnSlipsByLengths_33 : decode cX2_mostOnSlipsByLengths 33 = .ok (.iload 4, 2) := dk_21 4 (dk_at dksX2_mostOnSlipsByLengths_1 10 rfl rfl)
theorem dX2_mostOnSlipsByLengths_35 : decode cX2_mostOnSlipsByLengths 35 = .ok (.invokevirtual 41, 3) := dk_182 0 41 (dk_at dksX2_mostOnSlipsByLengths_1 12 rfl rfl)
theorem dX2_mostOnSlipsByLengths_38 : decode cX2_mostOnSlipsByLengths 38 = .ok (.checkcast 39, 3) := dk_192 0 39 (dk_at dksX2_mostOnSlipsByLengths_1 15 rfl rfl)
theorem dX2_mostOnSlipsByLengths_41 : decode cX2_mostOnSlipsByLengths 41 = .ok (.invokevirtual 114, 3) := dk_182 0 114 (dk_at dksX2_mostOnSlipsByLengths_1 18 rfl rfl)
theorem dX2_mostOnSlipsByLengths_44 : decode cX2_mostOnSlipsByLengths 44 = .ok (.iload_n 3, 1) := dk_29 (dk_at dksX2_mostOnSlipsByLengths_1 21 rfl rfl)
theorem dX2_mostOnSlipsByLengths_45 : decode cX2_mostOnSlipsByLengths 45 = .ok (.if_icmp .ne 13, 3) := dk_160 0 13 (dk_at dksX2_mostOnSlipsByLengths_2 0 rfl rfl)
theorem dX2_mostOnSlipsByLengths_48 : decode cX2_mostOnSlipsByLengths 48 = .ok (.aload_n 0, 1) := dk_42 (dk_at dksX2_mostOnSlipsByLengths_2 3 rfl rfl)
theorem dX2_mostOnSlipsByLengths_49 : decode cX2_mostOnSlipsByLengths 49 = .ok (.iload 4, 2) := dk_21 4 (dk_at dksX2_mostOnSlipsByLengths_2 4 rfl rfl)
theorem dX2_mostOnSlipsByLengths_51 : decode cX2_mostOnSlipsByLengths 51 = .ok (.aload_n 1, 1) := dk_43 (dk_at dksX2_mostOnSlipsByLengths_2 6 rfl rfl)
theorem dX2_mostOnSlipsByLengths_52 : decode cX2_mostOnSlipsByLengths 52 = .ok (.invokevirtual 193, 3) := dk_182 0 193 (dk_at dksX2_mostOnSlipsByLengths_2 7 rfl rfl)
theorem dX2_mostOnSlipsByLengths_55 : decode cX2_mostOnSlipsByLengths 55 = .ok (.goto 4, 3) := dk_167 0 4 (dk_at dksX2_mostOnSlipsByLengths_2 10 rfl rfl)
theorem dX2_mostOnSlipsByLengths_58 : decode cX2_mostOnSlipsByLengths 58 = .ok (.iconst (-1), 1) := dk_2 (dk_at dksX2_mostOnSlipsByLengths_2 13 rfl rfl)
theorem dX2_mostOnSlipsByLengths_59 : decode cX2_mostOnSlipsByLengths 59 = .ok (.istore 5, 2) := dk_54 5 (dk_at dksX2_mostOnSlipsByLengths_2 14 rfl rfl)
theorem dX2_mostOnSlipsByLengths_61 : decode cX2_mostOnSlipsByLengths 61 = .ok (.iload 5, 2) := dk_21 5 (dk_at dksX2_mostOnSlipsByLengths_2 16 rfl rfl)
theorem dX2_mostOnSlipsByLengths_63 : decode cX2_mostOnSlipsByLengths 63 = .ok (.iconst (-1), 1) := dk_2 (dk_at dksX2_mostOnSlipsByLengths_2 18 rfl rfl)
theorem dX2_mostOnSlipsByLengths_64 : decode cX2_mostOnSlipsByLengths 64 = .ok (.if_icmp .ne 6, 3) := dk_160 0 6 (dk_at dksX2_mostOnSlipsByLengths_2 19 rfl rfl)
theorem dX2_mostOnSlipsByLengths_67 : decode cX2_mostOnSlipsByLengths 67 = .ok (.goto 11, 3) := dk_167 0 11 (dk_at dksX2_mostOnSlipsByLengths_3 0 rfl rfl)
theorem dX2_mostOnSlipsByLengths_70 : decode cX2_mostOnSlipsByLengths 70 = .ok (.aload_n 1, 1) := dk_43 (dk_at dksX2_mostOnSlipsByLengths_3 3 rfl rfl)
theorem dX2_mostOnSlipsByLengths_71 : decode cX2_mostOnSlipsByLengths 71 = .ok (.iload 5, 2) := dk_21 5 (dk_at dksX2_mostOnSlipsByLengths_3 4 rfl rfl)
theorem dX2_mostOnSlipsByLengths_73 : decode cX2_mostOnSlipsByLengths 73 = .ok (.iconst 1, 1) := dk_4 (dk_at dksX2_mostOnSlipsByLengths_3 6 rfl rfl)
theorem dX2_mostOnSlipsByLengths_74 : decode cX2_mostOnSlipsByLengths 74 = .ok (.bastore, 1) := dk_84 (dk_at dksX2_mostOnSlipsByLengths_3 7 rfl rfl)
theorem dX2_mostOnSlipsByLengths_75 : decode cX2_mostOnSlipsByLengths 75 = .ok (.iinc 2 1, 3) := dk_132 2 1 (dk_at dksX2_mostOnSlipsByLengths_3 8 rfl rfl)
theorem dX2_mostOnSlipsByLengths_78 : decode cX2_mostOnSlipsByLengths 78 = .ok (.iinc 4 1, 3) := dk_132 4 1 (dk_at dksX2_mostOnSlipsByLengths_3 11 rfl rfl)
theorem dX2_mostOnSlipsByLengths_81 : decode cX2_mostOnSlipsByLengths 81 = .ok (.goto (-64), 3) := dk_167 255 192 (dk_at dksX2_mostOnSlipsByLengths_3 14 rfl rfl)
theorem dX2_mostOnSlipsByLengths_84 : decode cX2_mostOnSlipsByLengths 84 = .ok (.iinc 3 1, 3) := dk_132 3 1 (dk_at dksX2_mostOnSlipsByLengths_3 17 rfl rfl)
theorem dX2_mostOnSlipsByLengths_87 : decode cX2_mostOnSlipsByLengths 87 = .ok (.goto (-79), 3) := dk_167 255 177 (dk_at dksX2_mostOnSlipsByLengths_3 20 rfl rfl)
theorem dX2_mostOnSlipsByLengths_90 : decode cX2_mostOnSlipsByLengths 90 = .ok (.iload_n 2, 1) := dk_28 (dk_at dksX2_mostOnSlipsByLengths_3 23 rfl rfl)
theorem dX2_mostOnSlipsByLengths_91 : decode cX2_mostOnSlipsByLengths 91 = .ok (.ireturn, 1) := dk_172 (dk_at dksX2_mostOnSlipsByLengths_4 0 rfl rfl)
def dkwX2_shortestFor_2 : List UInt8 := [180, 0, 25, 29, 46, 162, 0, 6, 21, 4, 62, 132, 4, 1, 167, 255, 203, 29, 172]
abbrev dktX2_shortestFor_2 : List UInt8 := dkwX2_shortestFor_2 ++ []
def dkwX2_shortestFor_1 : List UInt8 := [182, 0, 197, 154, 0, 6, 167, 0, 27, 29, 2, 159, 0, 19, 42, 180, 0, 25, 21, 4, 46, 42]
abbrev dktX2_shortestFor_1 : List UInt8 := dkwX2_shortestFor_1 ++ dktX2_shortestFor_2
def dkwX2_shortestFor_0 : List UInt8 := [2, 62, 3, 54, 4, 21, 4, 7, 162, 0, 53, 44, 21, 4, 51, 154, 0, 40, 42, 27, 21, 4]
abbrev dktX2_shortestFor_0 : List UInt8 := dkwX2_shortestFor_0 ++ dktX2_shortestFor_1
theorem dksX2_shortestFor_0 : cX2_shortestFor.data.toList.drop 0 = dktX2_shortestFor_0 := by decide +kernel
theorem dksX2_shortestFor_1 : cX2_shortestFor.data.toList.drop 22 = dktX2_shortestFor_1 := dk_seg dksX2_shortestFor_0 22 rfl rfl
theorem dksX2_shortestFor_2 : cX2_shortestFor.data.toList.drop 44 = dktX2_shortestFor_2 := dk_seg dksX2_shortestFor_1 22 rfl rfl
theorem dX2_shortestFor_0 : decode cX2_shortestFor 0 = .ok (.iconst (-1), 1) := dk_2 (dk_at dksX2_shortestFor_0 0 rfl rfl)
theorem dX2_shortestFor_1 : decode cX2_shortestFor 1 = .ok (.istore_n 3, 1) := dk_62 (dk_at dksX2_shortestFor_0 1 rfl rfl)
theorem dX2_shortestFor_2 : decode cX2_shortestFor 2 = .ok (.iconst 0, 1) := dk_3 (dk_at dksX2_shortestFor_0 2 rfl rfl)
theorem dX2_shortestFor_3 : decode cX2_shortestFor 3 = .ok (.istore 4, 2) := dk_54 4 (dk_at dksX2_shortestFor_0 3 rfl rfl)
theorem dX2_shortestFor_5 : decode cX2_shortestFor 5 = .ok (.iload 4, 2) := dk_21 4 (dk_at dksX2_shortestFor_0 5 rfl rfl)
theorem dX2_shortestFor_7 : decode cX2_shortestFor 7 = .ok (.iconst 4, 1) := dk_7 (dk_at dksX2_shortestFor_0 7 rfl rfl)
theorem dX2_shortestFor_8 : decode cX2_shortestFor 8 = .ok (.if_icmp .ge 53, 3) := dk_162 0 53 (dk_at dksX2_shortestFor_0 8 rfl rfl)
theorem dX2_shortestFor_11 : decode cX2_shortestFor 11 = .ok (.aload_n 2, 1) := dk_44 (dk_at dksX2_shortestFor_0 11 rfl rfl)
theorem dX2_shortestFor_12 : decode cX2_shortestFor 12 = .ok (.iload 4, 2) := dk_21 4 (dk_at dksX2_shortestFor_0 12 rfl rfl)
theorem dX2_shortestFor_14 : decode cX2_shortestFor 14 = .ok (.baload, 1) := dk_51 (dk_at dksX2_shortestFor_0 14 rfl rfl)
theorem dX2_shortestFor_15 : decode cX2_shortestFor 15 = .ok (.ifCond .ne 40, 3) := dk_154 0 40 (dk_at dksX2_shortestFor_0 15 rfl rfl)
theorem dX2_shortestFor_18 : decode cX2_shortestFor 18 = .ok (.aload_n 0, 1) := dk_42 (dk_at dksX2_shortestFor_0 18 rfl rfl)
theorem dX2_shortestFor_19 : decode cX2_shortestFor 19 = .ok (.iload_n 1, 1) := dk_27 (dk_at dksX2_shortestFor_0 19 rfl rfl)
theorem dX2_shortestFor_20 : decode cX2_shortestFor 20 = .ok (.iload 4, 2) := dk_21 4 (dk_at dksX2_shortestFor_0 20 rfl rfl)
theorem dX2_shortestFor_22 : decode cX2_shortestFor 22 = .ok (.invokevirtual 197, 3) := dk_182 0 197 (dk_at dksX2_shortestFor_1 0 rfl rfl)
theorem dX2_shortestFor_25 : decode cX2_shortestFor 25 = .ok (.ifCond .ne 6, 3) := dk_154 0 6 (dk_at dksX2_shortestFor_1 3 rfl rfl)
theorem dX2_shortestFor_28 : decode cX2_shortestFor 28 = .ok (.goto 27, 3) := dk_167 0 27 (dk_at dksX2_shortestFor_1 6 rfl rfl)
theorem dX2_shortestFor_31 : decode cX2_shortestFor 31 = .ok (.iload_n 3, 1) := dk_29 (dk_at dksX2_shortestFor_1 9 rfl rfl)
theorem dX2_shortestFor_32 : decode cX2_shortestFor 32 = .ok (.iconst (-1), 1) := dk_2 (dk_at dksX2_shortestFor_1 10 rfl rfl)
theorem dX2_shortestFor_33 : decode cX2_shortestFor 33 = .ok (.if_icmp .eq 19, 3) := dk_159 0 19 (dk_at dksX2_shortestFor_1 11 rfl rfl)
theorem dX2_shortestFor_36 : decode cX2_shortestFor 36 = .ok (.aload_n 0, 1) := dk_42 (dk_at dksX2_shortestFor_1 14 rfl rfl)
theorem dX2_shortestFor_37 : decode cX2_shortestFor 37 = .ok (.getfield 25, 3) := dk_180 0 25 (dk_at dksX2_shortestFor_1 15 rfl rfl)
theorem dX2_shortestFor_40 : decode cX2_shortestFor 40 = .ok (.iload 4, 2) := dk_21 4 (dk_at dksX2_shortestFor_1 18 rfl rfl)
theorem dX2_shortestFor_42 : decode cX2_shortestFor 42 = .ok (.iaload, 1) := dk_46 (dk_at dksX2_shortestFor_1 20 rfl rfl)
theorem dX2_shortestFor_43 : decode cX2_shortestFor 43 = .ok (.aload_n 0, 1) := dk_42 (dk_at dksX2_shortestFor_1 21 rfl rfl)
theorem dX2_shortestFor_44 : decode cX2_shortestFor 44 = .ok (.getfield 25, 3) := dk_180 0 25 (dk_at dksX2_shortestFor_2 0 rfl rfl)
theorem dX2_shortestFor_47 : decode cX2_shortestFor 47 = .ok (.iload_n 3, 1) := dk_29 (dk_at dksX2_shortestFor_2 3 rfl rfl)
theorem dX2_shortestFor_48 : decode cX2_shortestFor 48 = .ok (.iaload, 1) := dk_46 (dk_at dksX2_shortestFor_2 4 rfl rfl)
theorem dX2_shortestFor_49 : decode cX2_shortestFor 49 = .ok (.if_icmp .ge 6, 3) := dk_162 0 6 (dk_at dksX2_shortestFor_2 5 rfl rfl)
theorem dX2_shortestFor_52 : decode cX2_shortestFor 52 = .ok (.iload 4, 2) := dk_21 4 (dk_at dksX2_shortestFor_2 8 rfl rfl)
theorem dX2_shortestFor_54 : decode cX2_shortestFor 54 = .ok (.istore_n 3, 1) := dk_62 (dk_at dksX2_shortestFor_2 10 rfl rfl)
theorem dX2_shortestFor_55 : decode cX2_shortestFor 55 = .ok (.iinc 4 1, 3) := dk_132 4 1 (dk_at dksX2_shortestFor_2 11 rfl rfl)
theorem dX2_shortestFor_58 : decode cX2_shortestFor 58 = .ok (.goto (-53), 3) := dk_167 255 203 (dk_at dksX2_shortestFor_2 14 rfl rfl)
theorem dX2_shortestFor_61 : decode cX2_shortestFor 61 = .ok (.iload_n 3, 1) := dk_29 (dk_at dksX2_shortestFor_2 17 rfl rfl)
theorem dX2_shortestFor_62 : decode cX2_shortestFor 62 = .ok (.ireturn, 1) := dk_172 (dk_at dksX2_shortestFor_2 18 rfl rfl)
def dkwX2_uses_3 : List UInt8 := [21, 5, 120, 128, 29, 4, 100, 182, 0, 201, 96, 54, 4, 132, 5, 1, 167, 255, 203, 21, 4, 172]
abbrev dktX2_uses_3 : List UInt8 := dkwX2_uses_3 ++ []
def dkwX2_uses_2 : List UInt8 := [122, 4, 126, 154, 0, 34, 42, 27, 21, 5, 182, 0, 197, 153, 0, 24, 21, 4, 42, 27, 4, 96, 28, 4]
abbrev dktX2_uses_2 : List UInt8 := dkwX2_uses_2 ++ dktX2_uses_3
def dkwX2_uses_1 : List UInt8 := [96, 28, 29, 182, 0, 201, 54, 4, 3, 54, 5, 21, 5, 7, 162, 0, 53, 29, 158, 0, 49, 28, 21, 5]
abbrev dktX2_uses_1 : List UInt8 := dkwX2_uses_1 ++ dktX2_uses_2
def dkwX2_uses_0 : List UInt8 := [27, 42, 180, 0, 12, 182, 0, 35, 160, 0, 13, 29, 154, 0, 7, 4, 167, 0, 4, 3, 172, 42, 27, 4]
abbrev dktX2_uses_0 : List UInt8 := dkwX2_uses_0 ++ dktX2_uses_1
theorem dksX2_uses_0 : cX2_uses.data.toList.drop 0 = dktX2_uses_0 := by decide +kernel
theorem dksX2_uses_1 : cX2_uses.data.toList.drop 24 = dktX2_uses_1 := dk_seg dksX2_uses_0 24 rfl rfl
theorem dksX2_uses_2 : cX2_uses.data.toList.drop 48 = dktX2_uses_2 := dk_seg dksX2_uses_1 24 rfl rfl
theorem dksX2_uses_3 : cX2_uses.data.toList.drop 72 = dktX2_uses_3 := dk_seg dksX2_uses_2 24 rfl rfl
theorem dX2_uses_0 : decode cX2_uses 0 = .ok (.iload_n 1, 1) := dk_27 (dk_at dksX2_uses_0 0 rfl rfl)
theorem dX2_uses_1 : decode cX2_uses 1 = .ok (.aload_n 0, 1) := dk_42 (dk_at dksX2_uses_0 1 rfl rfl)
theorem dX2_uses_2 : decode cX2_uses 2 = .ok (.getfield 12, 3) := dk_180 0 12 (dk_at dksX2_uses_0 2 rfl rfl)
theorem dX2_uses_5 : decode cX2_uses 5 = .ok (.invokevirtual 35, 3) := dk_182 0 35 (dk_at dksX2_uses_0 5 rfl rfl)
theorem dX2_uses_8 : decode cX2_uses 8 = .ok (.if_icmp .ne 13, 3) := dk_160 0 13 (dk_at dksX2_uses_0 8 rfl rfl)
theorem dX2_uses_11 : decode cX2_uses 11 = .ok (.iload_n 3, 1) := dk_29 (dk_at dksX2_uses_0 11 rfl rfl)
theorem dX2_uses_12 : decode cX2_uses 12 = .ok (.ifCond .ne 7, 3) := dk_154 0 7 (dk_at dksX2_uses_0 12 rfl rfl)
theorem dX2_uses_15 : decode cX2_uses 15 = .ok (.iconst 1, 1) := dk_4 (dk_at dksX2_uses_0 15 rfl rfl)
theorem dX2_uses_16 : decode cX2_uses 16 = .ok (.goto 4, 3) := dk_167 0 4 (dk_at dksX2_uses_0 16 rfl rfl)
theorem dX2_uses_19 : decode cX2_uses 19 = .ok (.iconst 0, 1) := dk_3 (dk_at dksX2_uses_0 19 rfl rfl)
theorem dX2_uses_20 : decode cX2_uses 20 = .ok (.ireturn, 1) := dk_172 (dk_at dksX2_uses_0 20 rfl rfl)
theorem dX2_uses_21 : decode cX2_uses 21 = .ok (.aload_n 0, 1) := dk_42 (dk_at dksX2_uses_0 21 rfl rfl)
theorem dX2_uses_22 : decode cX2_uses 22 = .ok (.iload_n 1, 1) := dk_27 (dk_at dksX2_uses_0 22 rfl rfl)
theorem dX2_uses_23 : decode cX2_uses 23 = .ok (.iconst 1, 1) := dk_4 (dk_at dksX2_uses_0 23 rfl rfl)
theorem dX2_uses_24 : decode cX2_uses 24 = .ok (.iadd, 1) := dk_96 (dk_at dksX2_uses_1 0 rfl rfl)
theorem dX2_uses_25 : decode cX2_uses 25 = .ok (.iload_n 2, 1) := dk_28 (dk_at dksX2_uses_1 1 rfl rfl)
theorem dX2_uses_26 : decode cX2_uses 26 = .ok (.iload_n 3, 1) := dk_29 (dk_at dksX2_uses_1 2 rfl rfl)
theorem dX2_uses_27 : decode cX2_uses 27 = .ok (.invokevirtual 201, 3) := dk_182 0 201 (dk_at dksX2_uses_1 3 rfl rfl)
theorem dX2_uses_30 : decode cX2_uses 30 = .ok (.istore 4, 2) := dk_54 4 (dk_at dksX2_uses_1 6 rfl rfl)
theorem dX2_uses_32 : decode cX2_uses 32 = .ok (.iconst 0, 1) := dk_3 (dk_at dksX2_uses_1 8 rfl rfl)
theorem dX2_uses_33 : decode cX2_uses 33 = .ok (.istore 5, 2) := dk_54 5 (dk_at dksX2_uses_1 9 rfl rfl)
theorem dX2_uses_35 : decode cX2_uses 35 = .ok (.iload 5, 2) := dk_21 5 (dk_at dksX2_uses_1 11 rfl rfl)
theorem dX2_uses_37 : decode cX2_uses 37 = .ok (.iconst 4, 1) := dk_7 (dk_at dksX2_uses_1 13 rfl rfl)
theorem dX2_uses_38 : decode cX2_uses 38 = .ok (.if_icmp .ge 53, 3) := dk_162 0 53 (dk_at dksX2_uses_1 14 rfl rfl)
theorem dX2_uses_41 : decode cX2_uses 41 = .ok (.iload_n 3, 1) := dk_29 (dk_at dksX2_uses_1 17 rfl rfl)
theorem dX2_uses_42 : decode cX2_uses 42 = .ok (.ifCond .le 49, 3) := dk_158 0 49 (dk_at dksX2_uses_1 18 rfl rfl)
theorem dX2_uses_45 : decode cX2_uses 45 = .ok (.iload_n 2, 1) := dk_28 (dk_at dksX2_uses_1 21 rfl rfl)
theorem dX2_uses_46 : decode cX2_uses 46 = .ok (.iload 5, 2) := dk_21 5 (dk_at dksX2_uses_1 22 rfl rfl)
theorem dX2_uses_48 : decode cX2_uses 48 = .ok (.ishr, 1) := dk_122 (dk_at dksX2_uses_2 0 rfl rfl)
theorem dX2_uses_49 : decode cX2_uses 49 = .ok (.iconst 1, 1) := dk_4 (dk_at dksX2_uses_2 1 rfl rfl)
theorem dX2_uses_50 : decode cX2_uses 50 = .ok (.iand, 1) := dk_126 (dk_at dksX2_uses_2 2 rfl rfl)
theorem dX2_uses_51 : decode cX2_uses 51 = .ok (.ifCond .ne 34, 3) := dk_154 0 34 (dk_at dksX2_uses_2 3 rfl rfl)
theorem dX2_uses_54 : decode cX2_uses 54 = .ok (.aload_n 0, 1) := dk_42 (dk_at dksX2_uses_2 6 rfl rfl)
theorem dX2_uses_55 : decode cX2_uses 55 = .ok (.iload_n 1, 1) := dk_27 (dk_at dksX2_uses_2 7 rfl rfl)
theorem dX2_uses_56 : decode cX2_uses 56 = .ok (.iload 5, 2) := dk_21 5 (dk_at dksX2_uses_2 8 rfl rfl)
theorem dX2_uses_58 : decode cX2_uses 58 = .ok (.invokevirtual 197, 3) := dk_182 0 197 (dk_at dksX2_uses_2 10 rfl rfl)
theorem dX2_uses_61 : decode cX2_uses 61 = .ok (.ifCond .eq 24, 3) := dk_153 0 24 (dk_at dksX2_uses_2 13 rfl rfl)
theorem dX2_uses_64 : decode cX2_uses 64 = .ok (.iload 4, 2) := dk_21 4 (dk_at dksX2_uses_2 16 rfl rfl)
theorem dX2_uses_66 : decode cX2_uses 66 = .ok (.aload_n 0, 1) := dk_42 (dk_at dksX2_uses_2 18 rfl rfl)
theorem dX2_uses_67 : decode cX2_uses 67 = .ok (.iload_n 1, 1) := dk_27 (dk_at dksX2_uses_2 19 rfl rfl)
theorem dX2_uses_68 : decode cX2_uses 68 = .ok (.iconst 1, 1) := dk_4 (dk_at dksX2_uses_2 20 rfl rfl)
theorem dX2_uses_69 : decode cX2_uses 69 = .ok (.iadd, 1) := dk_96 (dk_at dksX2_uses_2 21 rfl rfl)
theorem dX2_uses_70 : decode cX2_uses 70 = .ok (.iload_n 2, 1) := dk_28 (dk_at dksX2_uses_2 22 rfl rfl)
theorem dX2_uses_71 : decode cX2_uses 71 = .ok (.iconst 1, 1) := dk_4 (dk_at dksX2_uses_2 23 rfl rfl)
theorem dX2_uses_72 : decode cX2_uses 72 = .ok (.iload 5, 2) := dk_21 5 (dk_at dksX2_uses_3 0 rfl rfl)
theorem dX2_uses_74 : decode cX2_uses 74 = .ok (.ishl, 1) := dk_120 (dk_at dksX2_uses_3 2 rfl rfl)
theorem dX2_uses_75 : decode cX2_uses 75 = .ok (.ior, 1) := dk_128 (dk_at dksX2_uses_3 3 rfl rfl)
theorem dX2_uses_76 : decode cX2_uses 76 = .ok (.iload_n 3, 1) := dk_29 (dk_at dksX2_uses_3 4 rfl rfl)
theorem dX2_uses_77 : decode cX2_uses 77 = .ok (.iconst 1, 1) := dk_4 (dk_at dksX2_uses_3 5 rfl rfl)
theorem dX2_uses_78 : decode cX2_uses 78 = .ok (.isub, 1) := dk_100 (dk_at dksX2_uses_3 6 rfl rfl)
theorem dX2_uses_79 : decode cX2_uses 79 = .ok (.invokevirtual 201, 3) := dk_182 0 201 (dk_at dksX2_uses_3 7 rfl rfl)
theorem dX2_uses_82 : decode cX2_uses 82 = .ok (.iadd, 1) := dk_96 (dk_at dksX2_uses_3 10 rfl rfl)
theorem dX2_uses_83 : decode cX2_uses 83 = .ok (.istore 4, 2) := dk_54 4 (dk_at dksX2_uses_3 11 rfl rfl)
theorem dX2_uses_85 : decode cX2_uses 85 = .ok (.iinc 5 1, 3) := dk_132 5 1 (dk_at dksX2_uses_3 13 rfl rfl)
theorem dX2_uses_88 : decode cX2_uses 88 = .ok (.goto (-53), 3) := dk_167 255 203 (dk_at dksX2_uses_3 16 rfl rfl)
theorem dX2_uses_91 : decode cX2_uses 91 = .ok (.iload 4, 2) := dk_21 4 (dk_at dksX2_uses_3 19 rfl rfl)
theorem dX2_uses_93 : decode cX2_uses 93 = .ok (.ireturn, 1) := dk_172 (dk_at dksX2_uses_3 21 rfl rfl)
def dkwX2_bestDelivery_2 : List UInt8 := [167, 255, 239, 132, 2, 1, 167, 255, 210, 27, 172]
abbrev dktX2_bestDelivery_2 : List UInt8 := dkwX2_bestDelivery_2 ++ []
def dkwX2_bestDelivery_1 : List UInt8 := [182, 0, 205, 54, 4, 21, 4, 158, 0, 18, 27, 42, 28, 45, 182, 0, 208, 96, 60, 132, 4, 255]
abbrev dktX2_bestDelivery_1 : List UInt8 := dkwX2_bestDelivery_1 ++ dktX2_bestDelivery_2
def dkwX2_bestDelivery_0 : List UInt8 := [3, 60, 5, 61, 28, 16, 8, 163, 0, 46, 42, 180, 0, 18, 182, 0, 35, 188, 4, 78, 42, 28]
abbrev dktX2_bestDelivery_0 : List UInt8 := dkwX2_bestDelivery_0 ++ dktX2_bestDelivery_1
theorem dksX2_bestDelivery_0 : cX2_bestDelivery.data.toList.drop 0 = dktX2_bestDelivery_0 := by decide +kernel
theorem dksX2_bestDelivery_1 : cX2_bestDelivery.data.toList.drop 22 = dktX2_bestDelivery_1 := dk_seg dksX2_bestDelivery_0 22 rfl rfl
theorem dksX2_bestDelivery_2 : cX2_bestDelivery.data.toList.drop 44 = dktX2_bestDelivery_2 := dk_seg dksX2_bestDelivery_1 22 rfl rfl
theorem dX2_bestDelivery_0 : decode cX2_bestDelivery 0 = .ok (.iconst 0, 1) := dk_3 (dk_at dksX2_bestDelivery_0 0 rfl rfl)
theorem dX2_bestDelivery_1 : decode cX2_bestDelivery 1 = .ok (.istore_n 1, 1) := dk_60 (dk_at dksX2_bestDelivery_0 1 rfl rfl)
theorem dX2_bestDelivery_2 : decode cX2_bestDelivery 2 = .ok (.iconst 2, 1) := dk_5 (dk_at dksX2_bestDelivery_0 2 rfl rfl)
theorem dX2_bestDelivery_3 : decode cX2_bestDelivery 3 = .ok (.istore_n 2, 1) := dk_61 (dk_at dksX2_bestDelivery_0 3 rfl rfl)
theorem dX2_bestDelivery_4 : decode cX2_bestDelivery 4 = .ok (.iload_n 2, 1) := dk_28 (dk_at dksX2_bestDelivery_0 4 rfl rfl)
theorem dX2_bestDelivery_5 : decode cX2_bestDelivery 5 = .ok (.bipush 8, 2) := dk_16 8 (dk_at dksX2_bestDelivery_0 5 rfl rfl)
theorem dX2_bestDelivery_7 : decode cX2_bestDelivery 7 = .ok (.if_icmp .gt 46, 3) := dk_163 0 46 (dk_at dksX2_bestDelivery_0 7 rfl rfl)
theorem dX2_bestDelivery_10 : decode cX2_bestDelivery 10 = .ok (.aload_n 0, 1) := dk_42 (dk_at dksX2_bestDelivery_0 10 rfl rfl)
theorem dX2_bestDelivery_11 : decode cX2_bestDelivery 11 = .ok (.getfield 18, 3) := dk_180 0 18 (dk_at dksX2_bestDelivery_0 11 rfl rfl)
theorem dX2_bestDelivery_14 : decode cX2_bestDelivery 14 = .ok (.invokevirtual 35, 3) := dk_182 0 35 (dk_at dksX2_bestDelivery_0 14 rfl rfl)
theorem dX2_bestDelivery_17 : decode cX2_bestDelivery 17 = .ok (.newarray .boolean, 2) := dk_188_4 (dk_at dksX2_bestDelivery_0 17 rfl rfl)
theorem dX2_bestDelivery_19 : decode cX2_bestDelivery 19 = .ok (.astore_n 3, 1) := dk_78 (dk_at dksX2_bestDelivery_0 19 rfl rfl)
theorem dX2_bestDelivery_20 : decode cX2_bestDelivery 20 = .ok (.aload_n 0, 1) := dk_42 (dk_at dksX2_bestDelivery_0 20 rfl rfl)
theorem dX2_bestDelivery_21 : decode cX2_bestDelivery 21 = .ok (.iload_n 2, 1) := dk_28 (dk_at dksX2_bestDelivery_0 21 rfl rfl)
theorem dX2_bestDelivery_22 : decode cX2_bestDelivery 22 = .ok (.invokevirtual 205, 3) := dk_182 0 205 (dk_at dksX2_bestDelivery_1 0 rfl rfl)
theorem dX2_bestDelivery_25 : decode cX2_bestDelivery 25 = .ok (.istore 4, 2) := dk_54 4 (dk_at dksX2_bestDelivery_1 3 rfl rfl)
theorem dX2_bestDelivery_27 : decode cX2_bestDelivery 27 = .ok (.iload 4, 2) := dk_21 4 (dk_at dksX2_bestDelivery_1 5 rfl rfl)
theorem dX2_bestDelivery_29 : decode cX2_bestDelivery 29 = .ok (.ifCond .le 18, 3) := dk_158 0 18 (dk_at dksX2_bestDelivery_1 7 rfl rfl)
theorem dX2_bestDelivery_32 : decode cX2_bestDelivery 32 = .ok (.iload_n 1, 1) := dk_27 (dk_at dksX2_bestDelivery_1 10 rfl rfl)
theorem dX2_bestDelivery_33 : decode cX2_bestDelivery 33 = .ok (.aload_n 0, 1) := dk_42 (dk_at dksX2_bestDelivery_1 11 rfl rfl)
theorem dX2_bestDelivery_34 : decode cX2_bestDelivery 34 = .ok (.iload_n 2, 1) := dk_28 (dk_at dksX2_bestDelivery_1 12 rfl rfl)
theorem dX2_bestDelivery_35 : decode cX2_bestDelivery 35 = .ok (.aload_n 3, 1) := dk_45 (dk_at dksX2_bestDelivery_1 13 rfl rfl)
theorem dX2_bestDelivery_36 : decode cX2_bestDelivery 36 = .ok (.invokevirtual 208, 3) := dk_182 0 208 (dk_at dksX2_bestDelivery_1 14 rfl rfl)
theorem dX2_bestDelivery_39 : decode cX2_bestDelivery 39 = .ok (.iadd, 1) := dk_96 (dk_at dksX2_bestDelivery_1 17 rfl rfl)
theorem dX2_bestDelivery_40 : decode cX2_bestDelivery 40 = .ok (.istore_n 1, 1) := dk_60 (dk_at dksX2_bestDelivery_1 18 rfl rfl)
theorem dX2_bestDelivery_41 : decode cX2_bestDelivery 41 = .ok (.iinc 4 (-1), 3) := dk_132 4 255 (dk_at dksX2_bestDelivery_1 19 rfl rfl)
theorem dX2_bestDelivery_44 : decode cX2_bestDelivery 44 = .ok (.goto (-17), 3) := dk_167 255 239 (dk_at dksX2_bestDelivery_2 0 rfl rfl)
theorem dX2_bestDelivery_47 : decode cX2_bestDelivery 47 = .ok (.iinc 2 1, 3) := dk_132 2 1 (dk_at dksX2_bestDelivery_2 3 rfl rfl)
theorem dX2_bestDelivery_50 : decode cX2_bestDelivery 50 = .ok (.goto (-46), 3) := dk_167 255 210 (dk_at dksX2_bestDelivery_2 6 rfl rfl)
theorem dX2_bestDelivery_53 : decode cX2_bestDelivery 53 = .ok (.iload_n 1, 1) := dk_27 (dk_at dksX2_bestDelivery_2 9 rfl rfl)
theorem dX2_bestDelivery_54 : decode cX2_bestDelivery 54 = .ok (.ireturn, 1) := dk_172 (dk_at dksX2_bestDelivery_2 10 rfl rfl)
def dkwX2_afloatWith_2 : List UInt8 := [182, 0, 114, 27, 160, 0, 7, 4, 167, 0, 4, 3, 96, 61, 132, 3, 1, 167, 255, 196, 28, 172]
abbrev dktX2_afloatWith_2 : List UInt8 := dkwX2_afloatWith_2 ++ []
def dkwX2_afloatWith_1 : List UInt8 := [192, 0, 39, 178, 0, 145, 182, 0, 110, 153, 0, 25, 42, 180, 0, 12, 29, 182, 0, 41, 192, 0, 39]
abbrev dktX2_afloatWith_1 : List UInt8 := dkwX2_afloatWith_1 ++ dktX2_afloatWith_2
def dkwX2_afloatWith_0 : List UInt8 := [3, 61, 3, 62, 29, 42, 180, 0, 12, 182, 0, 35, 162, 0, 55, 28, 42, 180, 0, 12, 29, 182, 0, 41]
abbrev dktX2_afloatWith_0 : List UInt8 := dkwX2_afloatWith_0 ++ dktX2_afloatWith_1
theorem dksX2_afloatWith_0 : cX2_afloatWith.data.toList.drop 0 = dktX2_afloatWith_0 := by decide +kernel
theorem dksX2_afloatWith_1 : cX2_afloatWith.data.toList.drop 24 = dktX2_afloatWith_1 := dk_seg dksX2_afloatWith_0 24 rfl rfl
theorem dksX2_afloatWith_2 : cX2_afloatWith.data.toList.drop 47 = dktX2_afloatWith_2 := dk_seg dksX2_afloatWith_1 23 rfl rfl
theorem dX2_afloatWith_0 : decode cX2_afloatWith 0 = .ok (.iconst 0, 1) := dk_3 (dk_at dksX2_afloatWith_0 0 rfl rfl)
theorem dX2_afloatWith_1 : decode cX2_afloatWith 1 = .ok (.istore_n 2, 1) := dk_61 (dk_at dksX2_afloatWith_0 1 rfl rfl)
theorem dX2_afloatWith_2 : decode cX2_afloatWith 2 = .ok (.iconst 0, 1) := dk_3 (dk_at dksX2_afloatWith_0 2 rfl rfl)
theorem dX2_afloatWith_3 : decode cX2_afloatWith 3 = .ok (.istore_n 3, 1) := dk_62 (dk_at dksX2_afloatWith_0 3 rfl rfl)
theorem dX2_afloatWith_4 : decode cX2_afloatWith 4 = .ok (.iload_n 3, 1) := dk_29 (dk_at dksX2_afloatWith_0 4 rfl rfl)
theorem dX2_afloatWith_5 : decode cX2_afloatWith 5 = .ok (.aload_n 0, 1) := dk_42 (dk_at dksX2_afloatWith_0 5 rfl rfl)
theorem dX2_afloatWith_6 : decode cX2_afloatWith 6 = .ok (.getfield 12, 3) := dk_180 0 12 (dk_at dksX2_afloatWith_0 6 rfl rfl)
theorem dX2_afloatWith_9 : decode cX2_afloatWith 9 = .ok (.invokevirtual 35, 3) := dk_182 0 35 (dk_at dksX2_afloatWith_0 9 rfl rfl)
theorem dX2_afloatWith_12 : decode cX2_afloatWith 12 = .ok (.if_icmp .ge 55, 3) := dk_162 0 55 (dk_at dksX2_afloatWith_0 12 rfl rfl)
theorem dX2_afloatWith_15 : decode cX2_afloatWith 15 = .ok (.iload_n 2, 1) := dk_28 (dk_at dksX2_afloatWith_0 15 rfl rfl)
theorem dX2_afloatWith_16 : decode cX2_afloatWith 16 = .ok (.aload_n 0, 1) := dk_42 (dk_at dksX2_afloatWith_0 16 rfl rfl)
theorem dX2_afloatWith_17 : decode cX2_afloatWith 17 = .ok (.getfield 12, 3) := dk_180 0 12 (dk_at dksX2_afloatWith_0 17 rfl rfl)
theorem dX2_afloatWith_20 : decode cX2_afloatWith 20 = .ok (.iload_n 3, 1) := dk_29 (dk_at dksX2_afloatWith_0 20 rfl rfl)
theorem dX2_afloatWith_21 : decode cX2_afloatWith 21 = .ok (.invokevirtual 41, 3) := dk_182 0 41 (dk_at dksX2_afloatWith_0 21 rfl rfl)
theorem dX2_afloatWith_24 : decode cX2_afloatWith 24 = .ok (.checkcast 39, 3) := dk_192 0 39 (dk_at dksX2_afloatWith_1 0 rfl rfl)
theorem dX2_afloatWith_27 : decode cX2_afloatWith 27 = .ok (.getstatic 145, 3) := dk_178 0 145 (dk_at dksX2_afloatWith_1 3 rfl rfl)
theorem dX2_afloatWith_30 : decode cX2_afloatWith 30 = .ok (.invokevirtual 110, 3) := dk_182 0 110 (dk_at dksX2_afloatWith_1 6 rfl rfl)
theorem dX2_afloatWith_33 : decode cX2_afloatWith 33 = .ok (.ifCond .eq 25, 3) := dk_153 0 25 (dk_at dksX2_afloatWith_1 9 rfl rfl)
theorem dX2_afloatWith_36 : decode cX2_afloatWith 36 = .ok (.aload_n 0, 1) := dk_42 (dk_at dksX2_afloatWith_1 12 rfl rfl)
theorem dX2_afloatWith_37 : decode cX2_afloatWith 37 = .ok (.getfield 12, 3) := dk_180 0 12 (dk_at dksX2_afloatWith_1 13 rfl rfl)
theorem dX2_afloatWith_40 : decode cX2_afloatWith 40 = .ok (.iload_n 3, 1) := dk_29 (dk_at dksX2_afloatWith_1 16 rfl rfl)
theorem dX2_afloatWith_41 : decode cX2_afloatWith 41 = .ok (.invokevirtual 41, 3) := dk_182 0 41 (dk_at dksX2_afloatWith_1 17 rfl rfl)
theorem dX2_afloatWith_44 : decode cX2_afloatWith 44 = .ok (.checkcast 39, 3) := dk_192 0 39 (dk_at dksX2_afloatWith_1 20 rfl rfl)
theorem dX2_afloatWith_47 : decode cX2_afloatWith 47 = .ok (.invokevirtual 114, 3) := dk_182 0 114 (dk_at dksX2_afloatWith_2 0 rfl rfl)
theorem dX2_afloatWith_50 : decode cX2_afloatWith 50 = .ok (.iload_n 1, 1) := dk_27 (dk_at dksX2_afloatWith_2 3 rfl rfl)
theorem dX2_afloatWith_51 : decode cX2_afloatWith 51 = .ok (.if_icmp .ne 7, 3) := dk_160 0 7 (dk_at dksX2_afloatWith_2 4 rfl rfl)
theorem dX2_afloatWith_54 : decode cX2_afloatWith 54 = .ok (.iconst 1, 1) := dk_4 (dk_at dksX2_afloatWith_2 7 rfl rfl)
theorem dX2_afloatWith_55 : decode cX2_afloatWith 55 = .ok (.goto 4, 3) := dk_167 0 4 (dk_at dksX2_afloatWith_2 8 rfl rfl)
theorem dX2_afloatWith_58 : decode cX2_afloatWith 58 = .ok (.iconst 0, 1) := dk_3 (dk_at dksX2_afloatWith_2 11 rfl rfl)
theorem dX2_afloatWith_59 : decode cX2_afloatWith 59 = .ok (.iadd, 1) := dk_96 (dk_at dksX2_afloatWith_2 12 rfl rfl)
theorem dX2_afloatWith_60 : decode cX2_afloatWith 60 = .ok (.istore_n 2, 1) := dk_61 (dk_at dksX2_afloatWith_2 13 rfl rfl)
theorem dX2_afloatWith_61 : decode cX2_afloatWith 61 = .ok (.iinc 3 1, 3) := dk_132 3 1 (dk_at dksX2_afloatWith_2 14 rfl rfl)
theorem dX2_afloatWith_64 : decode cX2_afloatWith 64 = .ok (.goto (-60), 3) := dk_167 255 196 (dk_at dksX2_afloatWith_2 17 rfl rfl)
theorem dX2_afloatWith_67 : decode cX2_afloatWith 67 = .ok (.iload_n 2, 1) := dk_28 (dk_at dksX2_afloatWith_2 20 rfl rfl)
theorem dX2_afloatWith_68 : decode cX2_afloatWith 68 = .ok (.ireturn, 1) := dk_172 (dk_at dksX2_afloatWith_2 21 rfl rfl)
def dkwX2_takeBest_5 : List UInt8 := [182, 0, 41, 192, 0, 52, 42, 180, 0, 60, 182, 0, 183, 172]
abbrev dktX2_takeBest_5 : List UInt8 := dkwX2_takeBest_5 ++ []
def dkwX2_takeBest_4 : List UInt8 := [132, 4, 1, 167, 255, 164, 29, 2, 160, 0, 5, 3, 172, 44, 29, 4, 84, 42, 180, 0, 18, 29]
abbrev dktX2_takeBest_4 : List UInt8 := dkwX2_takeBest_4 ++ dktX2_takeBest_5
def dkwX2_takeBest_3 : List UInt8 := [180, 0, 18, 29, 182, 0, 41, 192, 0, 52, 42, 180, 0, 60, 182, 0, 183, 164, 0, 6, 21, 4, 62]
abbrev dktX2_takeBest_3 : List UInt8 := dkwX2_takeBest_3 ++ dktX2_takeBest_4
def dkwX2_takeBest_2 : List UInt8 := [159, 0, 43, 42, 180, 0, 18, 21, 4, 182, 0, 41, 192, 0, 52, 42, 180, 0, 60, 182, 0, 183, 42]
abbrev dktX2_takeBest_2 : List UInt8 := dkwX2_takeBest_2 ++ dktX2_takeBest_3
def dkwX2_takeBest_1 : List UInt8 := [42, 180, 0, 18, 21, 4, 182, 0, 41, 192, 0, 52, 180, 0, 175, 27, 159, 0, 6, 167, 0, 51, 29, 2]
abbrev dktX2_takeBest_1 : List UInt8 := dkwX2_takeBest_1 ++ dktX2_takeBest_2
def dkwX2_takeBest_0 : List UInt8 := [2, 62, 3, 54, 4, 21, 4, 42, 180, 0, 18, 182, 0, 35, 162, 0, 86, 44, 21, 4, 51, 154, 0, 73]
abbrev dktX2_takeBest_0 : List UInt8 := dkwX2_takeBest_0 ++ dktX2_takeBest_1
theorem dksX2_takeBest_0 : cX2_takeBest.data.toList.drop 0 = dktX2_takeBest_0 := by decide +kernel
theorem dksX2_takeBest_1 : cX2_takeBest.data.toList.drop 24 = dktX2_takeBest_1 := dk_seg dksX2_takeBest_0 24 rfl rfl
theorem dksX2_takeBest_2 : cX2_takeBest.data.toList.drop 48 = dktX2_takeBest_2 := dk_seg dksX2_takeBest_1 24 rfl rfl
theorem dksX2_takeBest_3 : cX2_takeBest.data.toList.drop 71 = dktX2_takeBest_3 := dk_seg dksX2_takeBest_2 23 rfl rfl
theorem dksX2_takeBest_4 : cX2_takeBest.data.toList.drop 94 = dktX2_takeBest_4 := dk_seg dksX2_takeBest_3 23 rfl rfl
theorem dksX2_takeBest_5 : cX2_takeBest.data.toList.drop 116 = dktX2_takeBest_5 := dk_seg dksX2_takeBest_4 22 rfl rfl
theorem dX2_takeBest_0 : decode cX2_takeBest 0 = .ok (.iconst (-1), 1) := dk_2 (dk_at dksX2_takeBest_0 0 rfl rfl)
theorem dX2_takeBest_1 : decode cX2_takeBest 1 = .ok (.istore_n 3, 1) := dk_62 (dk_at dksX2_takeBest_0 1 rfl rfl)
theorem dX2_takeBest_2 : decode cX2_takeBest 2 = .ok (.iconst 0, 1) := dk_3 (dk_at dksX2_takeBest_0 2 rfl rfl)
theorem dX2_takeBest_3 : decode cX2_takeBest 3 = .ok (.istore 4, 2) := dk_54 4 (dk_at dksX2_takeBest_0 3 rfl rfl)
theorem dX2_takeBest_5 : decode cX2_takeBest 5 = .ok (.iload 4, 2) := dk_21 4 (dk_at dksX2_takeBest_0 5 rfl rfl)
theorem dX2_takeBest_7 : decode cX2_takeBest 7 = .ok (.aload_n 0, 1) := dk_42 (dk_at dksX2_takeBest_0 7 rfl rfl)
theorem dX2_takeBest_8 : decode cX2_takeBest 8 = .ok (.getfield 18, 3) := dk_180 0 18 (dk_at dksX2_takeBest_0 8 rfl rfl)
theorem dX2_takeBest_11 : decode cX2_takeBest 11 = .ok (.invokevirtual 35, 3) := dk_182 0 35 (dk_at dksX2_takeBest_0 11 rfl rfl)
theorem dX2_takeBest_14 : decode cX2_takeBest 14 = .ok (.if_icmp .ge 86, 3) := dk_162 0 86 (dk_at dksX2_takeBest_0 14 rfl rfl)
theorem dX2_takeBest_17 : decode cX2_takeBest 17 = .ok (.aload_n 2, 1) := dk_44 (dk_at dksX2_takeBest_0 17 rfl rfl)
theorem dX2_takeBest_18 : decode cX2_takeBest 18 = .ok (.iload 4, 2) := dk_21 4 (dk_at dksX2_takeBest_0 18 rfl rfl)
theorem dX2_takeBest_20 : decode cX2_takeBest 20 = .ok (.baload, 1) := dk_51 (dk_at dksX2_takeBest_0 20 rfl rfl)
theorem dX2_takeBest_21 : decode cX2_takeBest 21 = .ok (.ifCond .ne 73, 3) := dk_154 0 73 (dk_at dksX2_takeBest_0 21 rfl rfl)
theorem dX2_takeBest_24 : decode cX2_takeBest 24 = .ok (.aload_n 0, 1) := dk_42 (dk_at dksX2_takeBest_1 0 rfl rfl)
theorem dX2_takeBest_25 : decode cX2_takeBest 25 = .ok (.getfield 18, 3) := dk_180 0 18 (dk_at dksX2_takeBest_1 1 rfl rfl)
theorem dX2_takeBest_28 : decode cX2_takeBest 28 = .ok (.iload 4, 2) := dk_21 4 (dk_at dksX2_takeBest_1 4 rfl rfl)
theorem dX2_takeBest_30 : decode cX2_takeBest 30 = .ok (.invokevirtual 41, 3) := dk_182 0 41 (dk_at dksX2_takeBest_1 6 rfl rfl)
theorem dX2_takeBest_33 : decode cX2_takeBest 33 = .ok (.checkcast 52, 3) := dk_192 0 52 (dk_at dksX2_takeBest_1 9 rfl rfl)
theorem dX2_takeBest_36 : decode cX2_takeBest 36 = .ok (.getfield 175, 3) := dk_180 0 175 (dk_at dksX2_takeBest_1 12 rfl rfl)
theorem dX2_takeBest_39 : decode cX2_takeBest 39 = .ok (.iload_n 1, 1) := dk_27 (dk_at dksX2_takeBest_1 15 rfl rfl)
theorem dX2_takeBest_40 : decode cX2_takeBest 40 = .ok (.if_icmp .eq 6, 3) := dk_159 0 6 (dk_at dksX2_takeBest_1 16 rfl rfl)
theorem dX2_takeBest_43 : decode cX2_takeBest 43 = .ok (.goto 51, 3) := dk_167 0 51 (dk_at dksX2_takeBest_1 19 rfl rfl)
theorem dX2_takeBest_46 : decode cX2_takeBest 46 = .ok (.iload_n 3, 1) := dk_29 (dk_at dksX2_takeBest_1 22 rfl rfl)
theorem dX2_takeBest_47 : decode cX2_takeBest 47 = .ok (.iconst (-1), 1) := dk_2 (dk_at dksX2_takeBest_1 23 rfl rfl)
theorem dX2_takeBest_48 : decode cX2_takeBest 48 = .ok (.if_icmp .eq 43, 3) := dk_159 0 43 (dk_at dksX2_takeBest_2 0 rfl rfl)
theorem dX2_takeBest_51 : decode cX2_takeBest 51 = .ok (.aload_n 0, 1) := dk_42 (dk_at dksX2_takeBest_2 3 rfl rfl)
theorem dX2_takeBest_52 : decode cX2_takeBest 52 = .ok (.getfield 18, 3) := dk_180 0 18 (dk_at dksX2_takeBest_2 4 rfl rfl)
theorem dX2_takeBest_55 : decode cX2_takeBest 55 = .ok (.iload 4, 2) := dk_21 4 (dk_at dksX2_takeBest_2 7 rfl rfl)
theorem dX2_takeBest_57 : decode cX2_takeBest 57 = .ok (.invokevirtual 41, 3) := dk_182 0 41 (dk_at dksX2_takeBest_2 9 rfl rfl)
theorem dX2_takeBest_60 : decode cX2_takeBest 60 = .ok (.checkcast 52, 3) := dk_192 0 52 (dk_at dksX2_takeBest_2 12 rfl rfl)
theorem dX2_takeBest_63 : decode cX2_takeBest 63 = .ok (.aload_n 0, 1) := dk_42 (dk_at dksX2_takeBest_2 15 rfl rfl)
theorem dX2_takeBest_64 : decode cX2_takeBest 64 = .ok (.getfield 60, 3) := dk_180 0 60 (dk_at dksX2_takeBest_2 16 rfl rfl)
theorem dX2_takeBest_67 : decode cX2_takeBest 67 = .ok (.invokevirtual 183, 3) := dk_182 0 183 (dk_at dksX2_takeBest_2 19 rfl rfl)
theorem dX2_takeBest_70 : decode cX2_takeBest 70 = .ok (.aload_n 0, 1) := dk_42 (dk_at dksX2_takeBest_2 22 rfl rfl)
theorem dX2_takeBest_71 : decode cX2_takeBest 71 = .ok (.getfield 18, 3) := dk_180 0 18 (dk_at dksX2_takeBest_3 0 rfl rfl)
theorem dX2_takeBest_74 : decode cX2_takeBest 74 = .ok (.iload_n 3, 1) := dk_29 (dk_at dksX2_takeBest_3 3 rfl rfl)
theorem dX2_takeBest_75 : decode cX2_takeBest 75 = .ok (.invokevirtual 41, 3) := dk_182 0 41 (dk_at dksX2_takeBest_3 4 rfl rfl)
theorem dX2_takeBest_78 : decode cX2_takeBest 78 = .ok (.checkcast 52, 3) := dk_192 0 52 (dk_at dksX2_takeBest_3 7 rfl rfl)
theorem dX2_takeBest_81 : decode cX2_takeBest 81 = .ok (.aload_n 0, 1) := dk_42 (dk_at dksX2_takeBest_3 10 rfl rfl)
theorem dX2_takeBest_82 : decode cX2_takeBest 82 = .ok (.getfield 60, 3) := dk_180 0 60 (dk_at dksX2_takeBest_3 11 rfl rfl)
theorem dX2_takeBest_85 : decode cX2_takeBest 85 = .ok (.invokevirtual 183, 3) := dk_182 0 183 (dk_at dksX2_takeBest_3 14 rfl rfl)
theorem dX2_takeBest_88 : decode cX2_takeBest 88 = .ok (.if_icmp .le 6, 3) := dk_164 0 6 (dk_at dksX2_takeBest_3 17 rfl rfl)
theorem dX2_takeBest_91 : decode cX2_takeBest 91 = .ok (.iload 4, 2) := dk_21 4 (dk_at dksX2_takeBest_3 20 rfl rfl)
theorem dX2_takeBest_93 : decode cX2_takeBest 93 = .ok (.istore_n 3, 1) := dk_62 (dk_at dksX2_takeBest_3 22 rfl rfl)
theorem dX2_takeBest_94 : decode cX2_takeBest 94 = .ok (.iinc 4 1, 3) := dk_132 4 1 (dk_at dksX2_takeBest_4 0 rfl rfl)
theorem dX2_takeBest_97 : decode cX2_takeBest 97 = .ok (.goto (-92), 3) := dk_167 255 164 (dk_at dksX2_takeBest_4 3 rfl rfl)
theorem dX2_takeBest_100 : decode cX2_takeBest 100 = .ok (.iload_n 3, 1) := dk_29 (dk_at dksX2_takeBest_4 6 rfl rfl)
theorem dX2_takeBest_101 : decode cX2_takeBest 101 = .ok (.iconst (-1), 1) := dk_2 (dk_at dksX2_takeBest_4 7 rfl rfl)
theorem dX2_takeBest_102 : decode cX2_takeBest 102 = .ok (.if_icmp .ne 5, 3) := dk_160 0 5 (dk_at dksX2_takeBest_4 8 rfl rfl)
theorem dX2_takeBest_105 : decode cX2_takeBest 105 = .ok (.iconst 0, 1) := dk_3 (dk_at dksX2_takeBest_4 11 rfl rfl)
theorem dX2_takeBest_106 : decode cX2_takeBest 106 = .ok (.ireturn, 1) := dk_172 (dk_at dksX2_takeBest_4 12 rfl rfl)
theorem dX2_takeBest_107 : decode cX2_takeBest 107 = .ok (.aload_n 2, 1) := dk_44 (dk_at dksX2_takeBest_4 13 rfl rfl)
theorem dX2_takeBest_108 : decode cX2_takeBest 108 = .ok (.iload_n 3, 1) := dk_29 (dk_at dksX2_takeBest_4 14 rfl rfl)
theorem dX2_takeBest_109 : decode cX2_takeBest 109 = .ok (.iconst 1, 1) := dk_4 (dk_at dksX2_takeBest_4 15 rfl rfl)
theorem dX2_takeBest_110 : decode cX2_takeBest 110 = .ok (.bastore, 1) := dk_84 (dk_at dksX2_takeBest_4 16 rfl rfl)
theorem dX2_takeBest_111 : decode cX2_takeBest 111 = .ok (.aload_n 0, 1) := dk_42 (dk_at dksX2_takeBest_4 17 rfl rfl)
theorem dX2_takeBest_112 : decode cX2_takeBest 112 = .ok (.getfield 18, 3) := dk_180 0 18 (dk_at dksX2_takeBest_4 18 rfl rfl)
theorem dX2_takeBest_115 : decode cX2_takeBest 115 = .ok (.iload_n 3, 1) := dk_29 (dk_at dksX2_takeBest_4 21 rfl rfl)
theorem dX2_takeBest_116 : decode cX2_takeBest 116 = .ok (.invokevirtual 41, 3) := dk_182 0 41 (dk_at dksX2_takeBest_5 0 rfl rfl)
theorem dX2_takeBest_119 : decode cX2_takeBest 119 = .ok (.checkcast 52, 3) := dk_192 0 52 (dk_at dksX2_takeBest_5 3 rfl rfl)
theorem dX2_takeBest_122 : decode cX2_takeBest 122 = .ok (.aload_n 0, 1) := dk_42 (dk_at dksX2_takeBest_5 6 rfl rfl)
theorem dX2_takeBest_123 : decode cX2_takeBest 123 = .ok (.getfield 60, 3) := dk_180 0 60 (dk_at dksX2_takeBest_5 7 rfl rfl)
theorem dX2_takeBest_126 : decode cX2_takeBest 126 = .ok (.invokevirtual 183, 3) := dk_182 0 183 (dk_at dksX2_takeBest_5 10 rfl rfl)
theorem dX2_takeBest_129 : decode cX2_takeBest 129 = .ok (.ireturn, 1) := dk_172 (dk_at dksX2_takeBest_5 13 rfl rfl)
def dkwX2_copy_6 : List UInt8 := [180, 0, 67, 181, 0, 67, 43, 176]
abbrev dktX2_copy_6 : List UInt8 := dkwX2_copy_6 ++ []
def dkwX2_copy_5 : List UInt8 := [7, 184, 0, 54, 43, 42, 180, 0, 60, 181, 0, 60, 43, 42, 180, 0, 64, 181, 0, 64, 43, 42]
abbrev dktX2_copy_5 : List UInt8 := dkwX2_copy_5 ++ dktX2_copy_6
def dkwX2_copy_4 : List UInt8 := [180, 0, 21, 3, 43, 180, 0, 21, 3, 16, 12, 184, 0, 54, 42, 180, 0, 25, 3, 43, 180, 0, 25, 3]
abbrev dktX2_copy_4 : List UInt8 := dkwX2_copy_4 ++ dktX2_copy_5
def dkwX2_copy_3 : List UInt8 := [42, 180, 0, 18, 28, 182, 0, 41, 192, 0, 52, 182, 0, 48, 62, 132, 2, 1, 167, 255, 223, 42]
abbrev dktX2_copy_3 : List UInt8 := dkwX2_copy_3 ++ dktX2_copy_4
def dkwX2_copy_2 : List UInt8 := [62, 132, 2, 1, 167, 255, 216, 3, 61, 28, 42, 180, 0, 18, 182, 0, 35, 162, 0, 28, 43, 180, 0, 18]
abbrev dktX2_copy_2 : List UInt8 := dkwX2_copy_2 ++ dktX2_copy_3
def dkwX2_copy_1 : List UInt8 := [180, 0, 12, 187, 0, 39, 89, 42, 180, 0, 12, 28, 182, 0, 41, 192, 0, 39, 183, 0, 45, 182, 0, 48]
abbrev dktX2_copy_1 : List UInt8 := dkwX2_copy_1 ++ dktX2_copy_2
def dkwX2_copy_0 : List UInt8 := [187, 0, 13, 89, 183, 0, 34, 76, 3, 61, 28, 42, 180, 0, 12, 182, 0, 35, 162, 0, 35, 43]
abbrev dktX2_copy_0 : List UInt8 := dkwX2_copy_0 ++ dktX2_copy_1
theorem dksX2_copy_0 : cX2_copy.data.toList.drop 0 = dktX2_copy_0 := by decide +kernel
theorem dksX2_copy_1 : cX2_copy.data.toList.drop 22 = dktX2_copy_1 := dk_seg dksX2_copy_0 22 rfl rfl
theorem dksX2_copy_2 : cX2_copy.data.toList.drop 46 = dktX2_copy_2 := dk_seg dksX2_copy_1 24 rfl rfl
theorem dksX2_copy_3 : cX2_copy.data.toList.drop 70 = dktX2_copy_3 := dk_seg dksX2_copy_2 24 rfl rfl
theorem dksX2_copy_4 : cX2_copy.data.toList.drop 92 = dktX2_copy_4 := dk_seg dksX2_copy_3 22 rfl rfl
theorem dksX2_copy_5 : cX2_copy.data.toList.drop 116 = dktX2_copy_5 := dk_seg dksX2_copy_4 24 rfl rfl
theorem dksX2_copy_6 : cX2_copy.data.toList.drop 138 = dktX2_copy_6 := dk_seg dksX2_copy_5 22 rfl rfl
theorem dX2_copy_0 : decode cX2_copy 0 = .ok (.new 13, 3) := dk_187 0 13 (dk_at dksX2_copy_0 0 rfl rfl)
theorem dX2_copy_3 : decode cX2_copy 3 = .ok (.dup, 1) := dk_89 (dk_at dksX2_copy_0 3 rfl rfl)
theorem dX2_copy_4 : decode cX2_copy 4 = .ok (.invokespecial 34, 3) := dk_183 0 34 (dk_at dksX2_copy_0 4 rfl rfl)
theorem dX2_copy_7 : decode cX2_copy 7 = .ok (.astore_n 1, 1) := dk_76 (dk_at dksX2_copy_0 7 rfl rfl)
theorem dX2_copy_8 : decode cX2_copy 8 = .ok (.iconst 0, 1) := dk_3 (dk_at dksX2_copy_0 8 rfl rfl)
theorem dX2_copy_9 : decode cX2_copy 9 = .ok (.istore_n 2, 1) := dk_61 (dk_at dksX2_copy_0 9 rfl rfl)
theorem dX2_copy_10 : decode cX2_copy 10 = .ok (.iload_n 2, 1) := dk_28 (dk_at dksX2_copy_0 10 rfl rfl)
theorem dX2_copy_11 : decode cX2_copy 11 = .ok (.aload_n 0, 1) := dk_42 (dk_at dksX2_copy_0 11 rfl rfl)
theorem dX2_copy_12 : decode cX2_copy 12 = .ok (.getfield 12, 3) := dk_180 0 12 (dk_at dksX2_copy_0 12 rfl rfl)
theorem dX2_copy_15 : decode cX2_copy 15 = .ok (.invokevirtual 35, 3) := dk_182 0 35 (dk_at dksX2_copy_0 15 rfl rfl)
theorem dX2_copy_18 : decode cX2_copy 18 = .ok (.if_icmp .ge 35, 3) := dk_162 0 35 (dk_at dksX2_copy_0 18 rfl rfl)
theorem dX2_copy_21 : decode cX2_copy 21 = .ok (.aload_n 1, 1) := dk_43 (dk_at dksX2_copy_0 21 rfl rfl)
theorem dX2_copy_22 : decode cX2_copy 22 = .ok (.getfield 12, 3) := dk_180 0 12 (dk_at dksX2_copy_1 0 rfl rfl)
theorem dX2_copy_25 : decode cX2_copy 25 = .ok (.new 39, 3) := dk_187 0 39 (dk_at dksX2_copy_1 3 rfl rfl)
theorem dX2_copy_28 : decode cX2_copy 28 = .ok (.dup, 1) := dk_89 (dk_at dksX2_copy_1 6 rfl rfl)
theorem dX2_copy_29 : decode cX2_copy 29 = .ok (.aload_n 0, 1) := dk_42 (dk_at dksX2_copy_1 7 rfl rfl)
theorem dX2_copy_30 : decode cX2_copy 30 = .ok (.getfield 12, 3) := dk_180 0 12 (dk_at dksX2_copy_1 8 rfl rfl)
theorem dX2_copy_33 : decode cX2_copy 33 = .ok (.iload_n 2, 1) := dk_28 (dk_at dksX2_copy_1 11 rfl rfl)
theorem dX2_copy_34 : decode cX2_copy 34 = .ok (.invokevirtual 41, 3) := dk_182 0 41 (dk_at dksX2_copy_1 12 rfl rfl)
theorem dX2_copy_37 : decode cX2_copy 37 = .ok (.checkcast 39, 3) := dk_192 0 39 (dk_at dksX2_copy_1 15 rfl rfl)
theorem dX2_copy_40 : decode cX2_copy 40 = .ok (.invokespecial 45, 3) := dk_183 0 45 (dk_at dksX2_copy_1 18 rfl rfl)
theorem dX2_copy_43 : decode cX2_copy 43 = .ok (.invokevirtual 48, 3) := dk_182 0 48 (dk_at dksX2_copy_1 21 rfl rfl)
theorem dX2_copy_46 : decode cX2_copy 46 = .ok (.istore_n 3, 1) := dk_62 (dk_at dksX2_copy_2 0 rfl rfl)
theorem dX2_copy_47 : decode cX2_copy 47 = .ok (.iinc 2 1, 3) := dk_132 2 1 (dk_at dksX2_copy_2 1 rfl rfl)
theorem dX2_copy_50 : decode cX2_copy 50 = .ok (.goto (-40), 3) := dk_167 255 216 (dk_at dksX2_copy_2 4 rfl rfl)
theorem dX2_copy_53 : decode cX2_copy 53 = .ok (.iconst 0, 1) := dk_3 (dk_at dksX2_copy_2 7 rfl rfl)
theorem dX2_copy_54 : decode cX2_copy 54 = .ok (.istore_n 2, 1) := dk_61 (dk_at dksX2_copy_2 8 rfl rfl)
theorem dX2_copy_55 : decode cX2_copy 55 = .ok (.iload_n 2, 1) := dk_28 (dk_at dksX2_copy_2 9 rfl rfl)
theorem dX2_copy_56 : decode cX2_copy 56 = .ok (.aload_n 0, 1) := dk_42 (dk_at dksX2_copy_2 10 rfl rfl)
theorem dX2_copy_57 : decode cX2_copy 57 = .ok (.getfield 18, 3) := dk_180 0 18 (dk_at dksX2_copy_2 11 rfl rfl)
theorem dX2_copy_60 : decode cX2_copy 60 = .ok (.invokevirtual 35, 3) := dk_182 0 35 (dk_at dksX2_copy_2 14 rfl rfl)
theorem dX2_copy_63 : decode cX2_copy 63 = .ok (.if_icmp .ge 28, 3) := dk_162 0 28 (dk_at dksX2_copy_2 17 rfl rfl)
theorem dX2_copy_66 : decode cX2_copy 66 = .ok (.aload_n 1, 1) := dk_43 (dk_at dksX2_copy_2 20 rfl rfl)
theorem dX2_copy_67 : decode cX2_copy 67 = .ok (.getfield 18, 3) := dk_180 0 18 (dk_at dksX2_copy_2 21 rfl rfl)
theorem dX2_copy_70 : decode cX2_copy 70 = .ok (.aload_n 0, 1) := dk_42 (dk_at dksX2_copy_3 0 rfl rfl)
theorem dX2_copy_71 : decode cX2_copy 71 = .ok (.getfield 18, 3) := dk_180 0 18 (dk_at dksX2_copy_3 1 rfl rfl)
theorem dX2_copy_74 : decode cX2_copy 74 = .ok (.iload_n 2, 1) := dk_28 (dk_at dksX2_copy_3 4 rfl rfl)
theorem dX2_copy_75 : decode cX2_copy 75 = .ok (.invokevirtual 41, 3) := dk_182 0 41 (dk_at dksX2_copy_3 5 rfl rfl)
theorem dX2_copy_78 : decode cX2_copy 78 = .ok (.checkcast 52, 3) := dk_192 0 52 (dk_at dksX2_copy_3 8 rfl rfl)
theorem dX2_copy_81 : decode cX2_copy 81 = .ok (.invokevirtual 48, 3) := dk_182 0 48 (dk_at dksX2_copy_3 11 rfl rfl)
theorem dX2_copy_84 : decode cX2_copy 84 = .ok (.istore_n 3, 1) := dk_62 (dk_at dksX2_copy_3 14 rfl rfl)
theorem dX2_copy_85 : decode cX2_copy 85 = .ok (.iinc 2 1, 3) := dk_132 2 1 (dk_at dksX2_copy_3 15 rfl rfl)
theorem dX2_copy_88 : decode cX2_copy 88 = .ok (.goto (-33), 3) := dk_167 255 223 (dk_at dksX2_copy_3 18 rfl rfl)
theorem dX2_copy_91 : decode cX2_copy 91 = .ok (.aload_n 0, 1) := dk_42 (dk_at dksX2_copy_3 21 rfl rfl)
theorem dX2_copy_92 : decode cX2_copy 92 = .ok (.getfield 21, 3) := dk_180 0 21 (dk_at dksX2_copy_4 0 rfl rfl)
theorem dX2_copy_95 : decode cX2_copy 95 = .ok (.iconst 0, 1) := dk_3 (dk_at dksX2_copy_4 3 rfl rfl)
theorem dX2_copy_96 : decode cX2_copy 96 = .ok (.aload_n 1, 1) := dk_43 (dk_at dksX2_copy_4 4 rfl rfl)
theorem dX2_copy_97 : decode cX2_copy 97 = .ok (.getfield 21, 3) := dk_180 0 21 (dk_at dksX2_copy_4 5 rfl rfl)
theorem dX2_copy_100 : decode cX2_copy 100 = .ok (.iconst 0, 1) := dk_3 (dk_at dksX2_copy_4 8 rfl rfl)
theorem dX2_copy_101 : decode cX2_copy 101 = .ok (.bipush 12, 2) := dk_16 12 (dk_at dksX2_copy_4 9 rfl rfl)
theorem dX2_copy_103 : decode cX2_copy 103 = .ok (.invokestatic 54, 3) := dk_184 0 54 (dk_at dksX2_copy_4 11 rfl rfl)
theorem dX2_copy_106 : decode cX2_copy 106 = .ok (.aload_n 0, 1) := dk_42 (dk_at dksX2_copy_4 14 rfl rfl)
theorem dX2_copy_107 : decode cX2_copy 107 = .ok (.getfield 25, 3) := dk_180 0 25 (dk_at dksX2_copy_4 15 rfl rfl)
theorem dX2_copy_110 : decode cX2_copy 110 = .ok (.iconst 0, 1) := dk_3 (dk_at dksX2_copy_4 18 rfl rfl)
theorem dX2_copy_111 : decode cX2_copy 111 = .ok (.aload_n 1, 1) := dk_43 (dk_at dksX2_copy_4 19 rfl rfl)
theorem dX2_copy_112 : decode cX2_copy 112 = .ok (.getfield 25, 3) := dk_180 0 25 (dk_at dksX2_copy_4 20 rfl rfl)
theorem dX2_copy_115 : decode cX2_copy 115 = .ok (.iconst 0, 1) := dk_3 (dk_at dksX2_copy_4 23 rfl rfl)
theorem dX2_copy_116 : decode cX2_copy 116 = .ok (.iconst 4, 1) := dk_7 (dk_at dksX2_copy_5 0 rfl rfl)
theorem dX2_copy_117 : decode cX2_copy 117 = .ok (.invokestatic 54, 3) := dk_184 0 54 (dk_at dksX2_copy_5 1 rfl rfl)
theorem dX2_copy_120 : decode cX2_copy 120 = .ok (.aload_n 1, 1) := dk_43 (dk_at dksX2_copy_5 4 rfl rfl)
theorem dX2_copy_121 : decode cX2_copy 121 = .ok (.aload_n 0, 1) := dk_42 (dk_at dksX2_copy_5 5 rfl rfl)
theorem dX2_copy_122 : decode cX2_copy 122 = .ok (.getfield 60, 3) := dk_180 0 60 (dk_at dksX2_copy_5 6 rfl rfl)
theorem dX2_copy_125 : decode cX2_copy 125 = .ok (.putfield 60, 3) := dk_181 0 60 (dk_at dksX2_copy_5 9 rfl rfl)
theorem dX2_copy_128 : decode cX2_copy 128 = .ok (.aload_n 1, 1) := dk_43 (dk_at dksX2_copy_5 12 rfl rfl)
theorem dX2_copy_129 : decode cX2_copy 129 = .ok (.aload_n 0, 1) := dk_42 (dk_at dksX2_copy_5 13 rfl rfl)
theorem dX2_copy_130 : decode cX2_copy 130 = .ok (.getfield 64, 3) := dk_180 0 64 (dk_at dksX2_copy_5 14 rfl rfl)
theorem dX2_copy_133 : decode cX2_copy 133 = .ok (.putfield 64, 3) := dk_181 0 64 (dk_at dksX2_copy_5 17 rfl rfl)
theorem dX2_copy_136 : decode cX2_copy 136 = .ok (.aload_n 1, 1) := dk_43 (dk_at dksX2_copy_5 20 rfl rfl)
theorem dX2_copy_137 : decode cX2_copy 137 = .ok (.aload_n 0, 1) := dk_42 (dk_at dksX2_copy_5 21 rfl rfl)
theorem dX2_copy_138 : decode cX2_copy 138 = .ok (.getfield 67, 3) := dk_180 0 67 (dk_at dksX2_copy_6 0 rfl rfl)
theorem dX2_copy_141 : decode cX2_copy 141 = .ok (.putfield 67, 3) := dk_181 0 67 (dk_at dksX2_copy_6 3 rfl rfl)
theorem dX2_copy_144 : decode cX2_copy 144 = .ok (.aload_n 1, 1) := dk_43 (dk_at dksX2_copy_6 6 rfl rfl)
theorem dX2_copy_145 : decode cX2_copy 145 = .ok (.areturn, 1) := dk_176 (dk_at dksX2_copy_6 7 rfl rfl)
def dkwX2_beginHull_2 : List UInt8 := [182, 0, 35, 4, 100, 172]
abbrev dktX2_beginHull_2 : List UInt8 := dkwX2_beginHull_2 ++ []
def dkwX2_beginHull_1 : List UInt8 := [187, 0, 39, 89, 42, 180, 0, 12, 182, 0, 35, 183, 0, 97, 182, 0, 48, 60, 42, 180, 0, 12]
abbrev dktX2_beginHull_1 : List UInt8 := dkwX2_beginHull_1 ++ dktX2_beginHull_2
def dkwX2_beginHull_0 : List UInt8 := [42, 180, 0, 12, 182, 0, 35, 16, 6, 162, 0, 7, 4, 167, 0, 4, 3, 184, 0, 94, 42, 180, 0, 12]
abbrev dktX2_beginHull_0 : List UInt8 := dkwX2_beginHull_0 ++ dktX2_beginHull_1
theorem dksX2_beginHull_0 : cX2_beginHull.data.toList.drop 0 = dktX2_beginHull_0 := by decide +kernel
theorem dksX2_beginHull_1 : cX2_beginHull.data.toList.drop 24 = dktX2_beginHull_1 := dk_seg dksX2_beginHull_0 24 rfl rfl
theorem dksX2_beginHull_2 : cX2_beginHull.data.toList.drop 46 = dktX2_beginHull_2 := dk_seg dksX2_beginHull_1 22 rfl rfl
theorem dX2_beginHull_0 : decode cX2_beginHull 0 = .ok (.aload_n 0, 1) := dk_42 (dk_at dksX2_beginHull_0 0 rfl rfl)
theorem dX2_beginHull_1 : decode cX2_beginHull 1 = .ok (.getfield 12, 3) := dk_180 0 12 (dk_at dksX2_beginHull_0 1 rfl rfl)
theorem dX2_beginHull_4 : decode cX2_beginHull 4 = .ok (.invokevirtual 35, 3) := dk_182 0 35 (dk_at dksX2_beginHull_0 4 rfl rfl)
theorem dX2_beginHull_7 : decode cX2_beginHull 7 = .ok (.bipush 6, 2) := dk_16 6 (dk_at dksX2_beginHull_0 7 rfl rfl)
theorem dX2_beginHull_9 : decode cX2_beginHull 9 = .ok (.if_icmp .ge 7, 3) := dk_162 0 7 (dk_at dksX2_beginHull_0 9 rfl rfl)
theorem dX2_beginHull_12 : decode cX2_beginHull 12 = .ok (.iconst 1, 1) := dk_4 (dk_at dksX2_beginHull_0 12 rfl rfl)
theorem dX2_beginHull_13 : decode cX2_beginHull 13 = .ok (.goto 4, 3) := dk_167 0 4 (dk_at dksX2_beginHull_0 13 rfl rfl)
theorem dX2_beginHull_16 : decode cX2_beginHull 16 = .ok (.iconst 0, 1) := dk_3 (dk_at dksX2_beginHull_0 16 rfl rfl)
theorem dX2_beginHull_17 : decode cX2_beginHull 17 = .ok (.invokestatic 94, 3) := dk_184 0 94 (dk_at dksX2_beginHull_0 17 rfl rfl)
theorem dX2_beginHull_20 : decode cX2_beginHull 20 = .ok (.aload_n 0, 1) := dk_42 (dk_at dksX2_beginHull_0 20 rfl rfl)
theorem dX2_beginHull_21 : decode cX2_beginHull 21 = .ok (.getfield 12, 3) := dk_180 0 12 (dk_at dksX2_beginHull_0 21 rfl rfl)
theorem dX2_beginHull_24 : decode cX2_beginHull 24 = .ok (.new 39, 3) := dk_187 0 39 (dk_at dksX2_beginHull_1 0 rfl rfl)
theorem dX2_beginHull_27 : decode cX2_beginHull 27 = .ok (.dup, 1) := dk_89 (dk_at dksX2_beginHull_1 3 rfl rfl)
theorem dX2_beginHull_28 : decode cX2_beginHull 28 = .ok (.aload_n 0, 1) := dk_42 (dk_at dksX2_beginHull_1 4 rfl rfl)
theorem dX2_beginHull_29 : decode cX2_beginHull 29 = .ok (.getfield 12, 3) := dk_180 0 12 (dk_at dksX2_beginHull_1 5 rfl rfl)
theorem dX2_beginHull_32 : decode cX2_beginHull 32 = .ok (.invokevirtual 35, 3) := dk_182 0 35 (dk_at dksX2_beginHull_1 8 rfl rfl)
theorem dX2_beginHull_35 : decode cX2_beginHull 35 = .ok (.invokespecial 97, 3) := dk_183 0 97 (dk_at dksX2_beginHull_1 11 rfl rfl)
theorem dX2_beginHull_38 : decode cX2_beginHull 38 = .ok (.invokevirtual 48, 3) := dk_182 0 48 (dk_at dksX2_beginHull_1 14 rfl rfl)
theorem dX2_beginHull_41 : decode cX2_beginHull 41 = .ok (.istore_n 1, 1) := dk_60 (dk_at dksX2_beginHull_1 17 rfl rfl)
theorem dX2_beginHull_42 : decode cX2_beginHull 42 = .ok (.aload_n 0, 1) := dk_42 (dk_at dksX2_beginHull_1 18 rfl rfl)
theorem dX2_beginHull_43 : decode cX2_beginHull 43 = .ok (.getfield 12, 3) := dk_180 0 12 (dk_at dksX2_beginHull_1 19 rfl rfl)
theorem dX2_beginHull_46 : decode cX2_beginHull 46 = .ok (.invokevirtual 35, 3) := dk_182 0 35 (dk_at dksX2_beginHull_2 0 rfl rfl)
theorem dX2_beginHull_49 : decode cX2_beginHull 49 = .ok (.iconst 1, 1) := dk_4 (dk_at dksX2_beginHull_2 3 rfl rfl)
theorem dX2_beginHull_50 : decode cX2_beginHull 50 = .ok (.isub, 1) := dk_100 (dk_at dksX2_beginHull_2 4 rfl rfl)
theorem dX2_beginHull_51 : decode cX2_beginHull 51 = .ok (.ireturn, 1) := dk_172 (dk_at dksX2_beginHull_2 5 rfl rfl)
def dkwX2_addFrame_3 : List UInt8 := [89, 28, 29, 183, 0, 120, 182, 0, 48, 54, 5, 25, 4, 182, 0, 114, 172]
abbrev dktX2_addFrame_3 : List UInt8 := dkwX2_addFrame_3 ++ []
def dkwX2_addFrame_2 : List UInt8 := [182, 0, 114, 16, 8, 162, 0, 7, 4, 167, 0, 4, 3, 184, 0, 94, 25, 4, 180, 0, 115, 187, 0, 118]
abbrev dktX2_addFrame_2 : List UInt8 := dkwX2_addFrame_2 ++ dktX2_addFrame_3
def dkwX2_addFrame_1 : List UInt8 := [16, 30, 184, 0, 71, 84, 184, 0, 100, 25, 4, 178, 0, 104, 182, 0, 110, 153, 0, 17, 25, 4]
abbrev dktX2_addFrame_1 : List UInt8 := dkwX2_addFrame_1 ++ dktX2_addFrame_2
def dkwX2_addFrame_0 : List UInt8 := [42, 27, 182, 0, 81, 58, 4, 5, 188, 4, 89, 3, 28, 4, 16, 30, 184, 0, 71, 84, 89, 4, 29, 4]
abbrev dktX2_addFrame_0 : List UInt8 := dkwX2_addFrame_0 ++ dktX2_addFrame_1
theorem dksX2_addFrame_0 : cX2_addFrame.data.toList.drop 0 = dktX2_addFrame_0 := by decide +kernel
theorem dksX2_addFrame_1 : cX2_addFrame.data.toList.drop 24 = dktX2_addFrame_1 := dk_seg dksX2_addFrame_0 24 rfl rfl
theorem dksX2_addFrame_2 : cX2_addFrame.data.toList.drop 46 = dktX2_addFrame_2 := dk_seg dksX2_addFrame_1 22 rfl rfl
theorem dksX2_addFrame_3 : cX2_addFrame.data.toList.drop 70 = dktX2_addFrame_3 := dk_seg dksX2_addFrame_2 24 rfl rfl
theorem dX2_addFrame_0 : decode cX2_addFrame 0 = .ok (.aload_n 0, 1) := dk_42 (dk_at dksX2_addFrame_0 0 rfl rfl)
theorem dX2_addFrame_1 : decode cX2_addFrame 1 = .ok (.iload_n 1, 1) := dk_27 (dk_at dksX2_addFrame_0 1 rfl rfl)
theorem dX2_addFrame_2 : decode cX2_addFrame 2 = .ok (.invokevirtual 81, 3) := dk_182 0 81 (dk_at dksX2_addFrame_0 2 rfl rfl)
theorem dX2_addFrame_5 : decode cX2_addFrame 5 = .ok (.astore 4, 2) := dk_58 4 (dk_at dksX2_addFrame_0 5 rfl rfl)
theorem dX2_addFrame_7 : decode cX2_addFrame 7 = .ok (.iconst 2, 1) := dk_5 (dk_at dksX2_addFrame_0 7 rfl rfl)
theorem dX2_addFrame_8 : decode cX2_addFrame 8 = .ok (.newarray .boolean, 2) := dk_188_4 (dk_at dksX2_addFrame_0 8 rfl rfl)
theorem dX2_addFrame_10 : decode cX2_addFrame 10 = .ok (.dup, 1) := dk_89 (dk_at dksX2_addFrame_0 10 rfl rfl)
theorem dX2_addFrame_11 : decode cX2_addFrame 11 = .ok (.iconst 0, 1) := dk_3 (dk_at dksX2_addFrame_0 11 rfl rfl)
theorem dX2_addFrame_12 : decode cX2_addFrame 12 = .ok (.iload_n 2, 1) := dk_28 (dk_at dksX2_addFrame_0 12 rfl rfl)
theorem dX2_addFrame_13 : decode cX2_addFrame 13 = .ok (.iconst 1, 1) := dk_4 (dk_at dksX2_addFrame_0 13 rfl rfl)
theorem dX2_addFrame_14 : decode cX2_addFrame 14 = .ok (.bipush 30, 2) := dk_16 30 (dk_at dksX2_addFrame_0 14 rfl rfl)
theorem dX2_addFrame_16 : decode cX2_addFrame 16 = .ok (.invokestatic 71, 3) := dk_184 0 71 (dk_at dksX2_addFrame_0 16 rfl rfl)
theorem dX2_addFrame_19 : decode cX2_addFrame 19 = .ok (.bastore, 1) := dk_84 (dk_at dksX2_addFrame_0 19 rfl rfl)
theorem dX2_addFrame_20 : decode cX2_addFrame 20 = .ok (.dup, 1) := dk_89 (dk_at dksX2_addFrame_0 20 rfl rfl)
theorem dX2_addFrame_21 : decode cX2_addFrame 21 = .ok (.iconst 1, 1) := dk_4 (dk_at dksX2_addFrame_0 21 rfl rfl)
theorem dX2_addFrame_22 : decode cX2_addFrame 22 = .ok (.iload_n 3, 1) := dk_29 (dk_at dksX2_addFrame_0 22 rfl rfl)
theorem dX2_addFrame_23 : decode cX2_addFrame 23 = .ok (.iconst 1, 1) := dk_4 (dk_at dksX2_addFrame_0 23 rfl rfl)
theorem dX2_addFrame_24 : decode cX2_addFrame 24 = .ok (.bipush 30, 2) := dk_16 30 (dk_at dksX2_addFrame_1 0 rfl rfl)
theorem dX2_addFrame_26 : decode cX2_addFrame 26 = .ok (.invokestatic 71, 3) := dk_184 0 71 (dk_at dksX2_addFrame_1 2 rfl rfl)
theorem dX2_addFrame_29 : decode cX2_addFrame 29 = .ok (.bastore, 1) := dk_84 (dk_at dksX2_addFrame_1 5 rfl rfl)
theorem dX2_addFrame_30 : decode cX2_addFrame 30 = .ok (.invokestatic 100, 3) := dk_184 0 100 (dk_at dksX2_addFrame_1 6 rfl rfl)
theorem dX2_addFrame_33 : decode cX2_addFrame 33 = .ok (.aload 4, 2) := dk_25 4 (dk_at dksX2_addFrame_1 9 rfl rfl)
theorem dX2_addFrame_35 : decode cX2_addFrame 35 = .ok (.getstatic 104, 3) := dk_178 0 104 (dk_at dksX2_addFrame_1 11 rfl rfl)
theorem dX2_addFrame_38 : decode cX2_addFrame 38 = .ok (.invokevirtual 110, 3) := dk_182 0 110 (dk_at dksX2_addFrame_1 14 rfl rfl)
theorem dX2_addFrame_41 : decode cX2_addFrame 41 = .ok (.ifCond .eq 17, 3) := dk_153 0 17 (dk_at dksX2_addFrame_1 17 rfl rfl)
theorem dX2_addFrame_44 : decode cX2_addFrame 44 = .ok (.aload 4, 2) := dk_25 4 (dk_at dksX2_addFrame_1 20 rfl rfl)
theorem dX2_addFrame_46 : decode cX2_addFrame 46 = .ok (.invokevirtual 114, 3) := dk_182 0 114 (dk_at dksX2_addFrame_2 0 rfl rfl)
theorem dX2_addFrame_49 : decode cX2_addFrame 49 = .ok (.bipush 8, 2) := dk_16 8 (dk_at dksX2_addFrame_2 3 rfl rfl)
theorem dX2_addFrame_51 : decode cX2_addFrame 51 = .ok (.if_icmp .ge 7, 3) := dk_162 0 7 (dk_at dksX2_addFrame_2 5 rfl rfl)
theorem dX2_addFrame_54 : decode cX2_addFrame 54 = .ok (.iconst 1, 1) := dk_4 (dk_at dksX2_addFrame_2 8 rfl rfl)
theorem dX2_addFrame_55 : decode cX2_addFrame 55 = .ok (.goto 4, 3) := dk_167 0 4 (dk_at dksX2_addFrame_2 9 rfl rfl)
theorem dX2_addFrame_58 : decode cX2_addFrame 58 = .ok (.iconst 0, 1) := dk_3 (dk_at dksX2_addFrame_2 12 rfl rfl)
theorem dX2_addFrame_59 : decode cX2_addFrame 59 = .ok (.invokestatic 94, 3) := dk_184 0 94 (dk_at dksX2_addFrame_2 13 rfl rfl)
theorem dX2_addFrame_62 : decode cX2_addFrame 62 = .ok (.aload 4, 2) := dk_25 4 (dk_at dksX2_addFrame_2 16 rfl rfl)
theorem dX2_addFrame_64 : decode cX2_addFrame 64 = .ok (.getfield 115, 3) := dk_180 0 115 (dk_at dksX2_addFrame_2 18 rfl rfl)
theorem dX2_addFrame_67 : decode cX2_addFrame 67 = .ok (.new 118, 3) := dk_187 0 118 (dk_at dksX2_addFrame_2 21 rfl rfl)
theorem dX2_addFrame_70 : decode cX2_addFrame 70 = .ok (.dup, 1) := dk_89 (dk_at dksX2_addFrame_3 0 rfl rfl)
theorem dX2_addFrame_71 : decode cX2_addFrame 71 = .ok (.iload_n 2, 1) := dk_28 (dk_at dksX2_addFrame_3 1 rfl rfl)
theorem dX2_addFrame_72 : decode cX2_addFrame 72 = .ok (.iload_n 3, 1) := dk_29 (dk_at dksX2_addFrame_3 2 rfl rfl)
theorem dX2_addFrame_73 : decode cX2_addFrame 73 = .ok (.invokespecial 120, 3) := dk_183 0 120 (dk_at dksX2_addFrame_3 3 rfl rfl)
theorem dX2_addFrame_76 : decode cX2_addFrame 76 = .ok (.invokevirtual 48, 3) := dk_182 0 48 (dk_at dksX2_addFrame_3 6 rfl rfl)
theorem dX2_addFrame_79 : decode cX2_addFrame 79 = .ok (.istore 5, 2) := dk_54 5 (dk_at dksX2_addFrame_3 9 rfl rfl)
theorem dX2_addFrame_81 : decode cX2_addFrame 81 = .ok (.aload 4, 2) := dk_25 4 (dk_at dksX2_addFrame_3 11 rfl rfl)
theorem dX2_addFrame_83 : decode cX2_addFrame 83 = .ok (.invokevirtual 114, 3) := dk_182 0 114 (dk_at dksX2_addFrame_3 13 rfl rfl)
theorem dX2_addFrame_86 : decode cX2_addFrame 86 = .ok (.ireturn, 1) := dk_172 (dk_at dksX2_addFrame_3 16 rfl rfl)
def dkwX2_hull_1 : List UInt8 := [182, 0, 41, 192, 0, 39, 176]
abbrev dktX2_hull_1 : List UInt8 := dkwX2_hull_1 ++ []
def dkwX2_hull_0 : List UInt8 := [27, 3, 42, 180, 0, 12, 182, 0, 35, 4, 100, 184, 0, 71, 184, 0, 77, 42, 180, 0, 12, 27]
abbrev dktX2_hull_0 : List UInt8 := dkwX2_hull_0 ++ dktX2_hull_1
theorem dksX2_hull_0 : cX2_hull.data.toList.drop 0 = dktX2_hull_0 := by decide +kernel
theorem dksX2_hull_1 : cX2_hull.data.toList.drop 22 = dktX2_hull_1 := dk_seg dksX2_hull_0 22 rfl rfl
theorem dX2_hull_0 : decode cX2_hull 0 = .ok (.iload_n 1, 1) := dk_27 (dk_at dksX2_hull_0 0 rfl rfl)
theorem dX2_hull_1 : decode cX2_hull 1 = .ok (.iconst 0, 1) := dk_3 (dk_at dksX2_hull_0 1 rfl rfl)
theorem dX2_hull_2 : decode cX2_hull 2 = .ok (.aload_n 0, 1) := dk_42 (dk_at dksX2_hull_0 2 rfl rfl)
theorem dX2_hull_3 : decode cX2_hull 3 = .ok (.getfield 12, 3) := dk_180 0 12 (dk_at dksX2_hull_0 3 rfl rfl)
theorem dX2_hull_6 : decode cX2_hull 6 = .ok (.invokevirtual 35, 3) := dk_182 0 35 (dk_at dksX2_hull_0 6 rfl rfl)
theorem dX2_hull_9 : decode cX2_hull 9 = .ok (.iconst 1, 1) := dk_4 (dk_at dksX2_hull_0 9 rfl rfl)
theorem dX2_hull_10 : decode cX2_hull 10 = .ok (.isub, 1) := dk_100 (dk_at dksX2_hull_0 10 rfl rfl)
theorem dX2_hull_11 : decode cX2_hull 11 = .ok (.invokestatic 71, 3) := dk_184 0 71 (dk_at dksX2_hull_0 11 rfl rfl)
theorem dX2_hull_14 : decode cX2_hull 14 = .ok (.invokestatic 77, 3) := dk_184 0 77 (dk_at dksX2_hull_0 14 rfl rfl)
theorem dX2_hull_17 : decode cX2_hull 17 = .ok (.aload_n 0, 1) := dk_42 (dk_at dksX2_hull_0 17 rfl rfl)
theorem dX2_hull_18 : decode cX2_hull 18 = .ok (.getfield 12, 3) := dk_180 0 12 (dk_at dksX2_hull_0 18 rfl rfl)
theorem dX2_hull_21 : decode cX2_hull 21 = .ok (.iload_n 1, 1) := dk_27 (dk_at dksX2_hull_0 21 rfl rfl)
theorem dX2_hull_22 : decode cX2_hull 22 = .ok (.invokevirtual 41, 3) := dk_182 0 41 (dk_at dksX2_hull_1 0 rfl rfl)
theorem dX2_hull_25 : decode cX2_hull 25 = .ok (.checkcast 39, 3) := dk_192 0 39 (dk_at dksX2_hull_1 3 rfl rfl)
theorem dX2_hull_28 : decode cX2_hull 28 = .ok (.areturn, 1) := dk_176 (dk_at dksX2_hull_1 6 rfl rfl)
def dkwX2_mirror_0 : List UInt8 := [42, 27, 182, 0, 81, 77, 44, 178, 0, 104, 182, 0, 110, 184, 0, 94, 44, 182, 0, 123, 172]
abbrev dktX2_mirror_0 : List UInt8 := dkwX2_mirror_0 ++ []
theorem dksX2_mirror_0 : cX2_mirror.data.toList.drop 0 = dktX2_mirror_0 := by decide +kernel
theorem dX2_mirror_0 : decode cX2_mirror 0 = .ok (.aload_n 0, 1) := dk_42 (dk_at dksX2_mirror_0 0 rfl rfl)
theorem dX2_mirror_1 : decode cX2_mirror 1 = .ok (.iload_n 1, 1) := dk_27 (dk_at dksX2_mirror_0 1 rfl rfl)
theorem dX2_mirror_2 : decode cX2_mirror 2 = .ok (.invokevirtual 81, 3) := dk_182 0 81 (dk_at dksX2_mirror_0 2 rfl rfl)
theorem dX2_mirror_5 : decode cX2_mirror 5 = .ok (.astore_n 2, 1) := dk_77 (dk_at dksX2_mirror_0 5 rfl rfl)
theorem dX2_mirror_6 : decode cX2_mirror 6 = .ok (.aload_n 2, 1) := dk_44 (dk_at dksX2_mirror_0 6 rfl rfl)
theorem dX2_mirror_7 : decode cX2_mirror 7 = .ok (.getstatic 104, 3) := dk_178 0 104 (dk_at dksX2_mirror_0 7 rfl rfl)
theorem dX2_mirror_10 : decode cX2_mirror 10 = .ok (.invokevirtual 110, 3) := dk_182 0 110 (dk_at dksX2_mirror_0 10 rfl rfl)
theorem dX2_mirror_13 : decode cX2_mirror 13 = .ok (.invokestatic 94, 3) := dk_184 0 94 (dk_at dksX2_mirror_0 13 rfl rfl)
theorem dX2_mirror_16 : decode cX2_mirror 16 = .ok (.aload_n 2, 1) := dk_44 (dk_at dksX2_mirror_0 16 rfl rfl)
theorem dX2_mirror_17 : decode cX2_mirror 17 = .ok (.invokevirtual 123, 3) := dk_182 0 123 (dk_at dksX2_mirror_0 17 rfl rfl)
theorem dX2_mirror_20 : decode cX2_mirror 20 = .ok (.ireturn, 1) := dk_172 (dk_at dksX2_mirror_0 20 rfl rfl)
def dkwX2_setCargo_1 : List UInt8 := [180, 0, 126, 182, 0, 128, 184, 0, 94, 45, 180, 0, 132, 54, 4, 45, 28, 181, 0, 132, 21, 4, 172]
abbrev dktX2_setCargo_1 : List UInt8 := dkwX2_setCargo_1 ++ []
def dkwX2_setCargo_0 : List UInt8 := [42, 27, 182, 0, 81, 78, 4, 188, 4, 89, 3, 28, 3, 17, 3, 231, 184, 0, 71, 84, 184, 0, 100, 45]
abbrev dktX2_setCargo_0 : List UInt8 := dkwX2_setCargo_0 ++ dktX2_setCargo_1
theorem dksX2_setCargo_0 : cX2_setCargo.data.toList.drop 0 = dktX2_setCargo_0 := by decide +kernel
theorem dksX2_setCargo_1 : cX2_setCargo.data.toList.drop 24 = dktX2_setCargo_1 := dk_seg dksX2_setCargo_0 24 rfl rfl
theorem dX2_setCargo_0 : decode cX2_setCargo 0 = .ok (.aload_n 0, 1) := dk_42 (dk_at dksX2_setCargo_0 0 rfl rfl)
theorem dX2_setCargo_1 : decode cX2_setCargo 1 = .ok (.iload_n 1, 1) := dk_27 (dk_at dksX2_setCargo_0 1 rfl rfl)
theorem dX2_setCargo_2 : decode cX2_setCargo 2 = .ok (.invokevirtual 81, 3) := dk_182 0 81 (dk_at dksX2_setCargo_0 2 rfl rfl)
theorem dX2_setCargo_5 : decode cX2_setCargo 5 = .ok (.astore_n 3, 1) := dk_78 (dk_at dksX2_setCargo_0 5 rfl rfl)
theorem dX2_setCargo_6 : decode cX2_setCargo 6 = .ok (.iconst 1, 1) := dk_4 (dk_at dksX2_setCargo_0 6 rfl rfl)
theorem dX2_setCargo_7 : decode cX2_setCargo 7 = .ok (.newarray .boolean, 2) := dk_188_4 (dk_at dksX2_setCargo_0 7 rfl rfl)
theorem dX2_setCargo_9 : decode cX2_setCargo 9 = .ok (.dup, 1) := dk_89 (dk_at dksX2_setCargo_0 9 rfl rfl)
theorem dX2_setCargo_10 : decode cX2_setCargo 10 = .ok (.iconst 0, 1) := dk_3 (dk_at dksX2_setCargo_0 10 rfl rfl)
theorem dX2_setCargo_11 : decode cX2_setCargo 11 = .ok (.iload_n 2, 1) := dk_28 (dk_at dksX2_setCargo_0 11 rfl rfl)
theorem dX2_setCargo_12 : decode cX2_setCargo 12 = .ok (.iconst 0, 1) := dk_3 (dk_at dksX2_setCargo_0 12 rfl rfl)
theorem dX2_setCargo_13 : decode cX2_setCargo 13 = .ok (.sipush 999, 3) := dk_17 3 231 (dk_at dksX2_setCargo_0 13 rfl rfl)
theorem dX2_setCargo_16 : decode cX2_setCargo 16 = .ok (.invokestatic 71, 3) := dk_184 0 71 (dk_at dksX2_setCargo_0 16 rfl rfl)
theorem dX2_setCargo_19 : decode cX2_setCargo 19 = .ok (.bastore, 1) := dk_84 (dk_at dksX2_setCargo_0 19 rfl rfl)
theorem dX2_setCargo_20 : decode cX2_setCargo 20 = .ok (.invokestatic 100, 3) := dk_184 0 100 (dk_at dksX2_setCargo_0 20 rfl rfl)
theorem dX2_setCargo_23 : decode cX2_setCargo 23 = .ok (.aload_n 3, 1) := dk_45 (dk_at dksX2_setCargo_0 23 rfl rfl)
theorem dX2_setCargo_24 : decode cX2_setCargo 24 = .ok (.getfield 126, 3) := dk_180 0 126 (dk_at dksX2_setCargo_1 0 rfl rfl)
theorem dX2_setCargo_27 : decode cX2_setCargo 27 = .ok (.invokevirtual 128, 3) := dk_182 0 128 (dk_at dksX2_setCargo_1 3 rfl rfl)
theorem dX2_setCargo_30 : decode cX2_setCargo 30 = .ok (.invokestatic 94, 3) := dk_184 0 94 (dk_at dksX2_setCargo_1 6 rfl rfl)
theorem dX2_setCargo_33 : decode cX2_setCargo 33 = .ok (.aload_n 3, 1) := dk_45 (dk_at dksX2_setCargo_1 9 rfl rfl)
theorem dX2_setCargo_34 : decode cX2_setCargo 34 = .ok (.getfield 132, 3) := dk_180 0 132 (dk_at dksX2_setCargo_1 10 rfl rfl)
theorem dX2_setCargo_37 : decode cX2_setCargo 37 = .ok (.istore 4, 2) := dk_54 4 (dk_at dksX2_setCargo_1 13 rfl rfl)
theorem dX2_setCargo_39 : decode cX2_setCargo 39 = .ok (.aload_n 3, 1) := dk_45 (dk_at dksX2_setCargo_1 15 rfl rfl)
theorem dX2_setCargo_40 : decode cX2_setCargo 40 = .ok (.iload_n 2, 1) := dk_28 (dk_at dksX2_setCargo_1 16 rfl rfl)
theorem dX2_setCargo_41 : decode cX2_setCargo 41 = .ok (.putfield 132, 3) := dk_181 0 132 (dk_at dksX2_setCargo_1 17 rfl rfl)
theorem dX2_setCargo_44 : decode cX2_setCargo 44 = .ok (.iload 4, 2) := dk_21 4 (dk_at dksX2_setCargo_1 20 rfl rfl)
theorem dX2_setCargo_46 : decode cX2_setCargo 46 = .ok (.ireturn, 1) := dk_172 (dk_at dksX2_setCargo_1 22 rfl rfl)
def dkwX2_launch_3 : List UInt8 := [191, 44, 178, 0, 145, 181, 0, 126, 29, 172]
abbrev dktX2_launch_3 : List UInt8 := dkwX2_launch_3 ++ []
def dkwX2_launch_2 : List UInt8 := [183, 0, 137, 191, 29, 42, 42, 180, 0, 60, 182, 0, 141, 164, 0, 12, 187, 0, 135, 89, 6, 183, 0, 137]
abbrev dktX2_launch_2 : List UInt8 := dkwX2_launch_2 ++ dktX2_launch_3
def dkwX2_launch_1 : List UInt8 := [187, 0, 135, 89, 4, 183, 0, 137, 191, 44, 182, 0, 138, 62, 29, 2, 160, 0, 12, 187, 0, 135, 89, 5]
abbrev dktX2_launch_1 : List UInt8 := dkwX2_launch_1 ++ dktX2_launch_2
def dkwX2_launch_0 : List UInt8 := [42, 27, 182, 0, 81, 77, 44, 178, 0, 104, 182, 0, 110, 184, 0, 94, 44, 182, 0, 114, 5, 162, 0, 12]
abbrev dktX2_launch_0 : List UInt8 := dkwX2_launch_0 ++ dktX2_launch_1
theorem dksX2_launch_0 : cX2_launch.data.toList.drop 0 = dktX2_launch_0 := by decide +kernel
theorem dksX2_launch_1 : cX2_launch.data.toList.drop 24 = dktX2_launch_1 := dk_seg dksX2_launch_0 24 rfl rfl
theorem dksX2_launch_2 : cX2_launch.data.toList.drop 48 = dktX2_launch_2 := dk_seg dksX2_launch_1 24 rfl rfl
theorem dksX2_launch_3 : cX2_launch.data.toList.drop 72 = dktX2_launch_3 := dk_seg dksX2_launch_2 24 rfl rfl
theorem dX2_launch_0 : decode cX2_launch 0 = .ok (.aload_n 0, 1) := dk_42 (dk_at dksX2_launch_0 0 rfl rfl)
theorem dX2_launch_1 : decode cX2_launch 1 = .ok (.iload_n 1, 1) := dk_27 (dk_at dksX2_launch_0 1 rfl rfl)
theorem dX2_launch_2 : decode cX2_launch 2 = .ok (.invokevirtual 81, 3) := dk_182 0 81 (dk_at dksX2_launch_0 2 rfl rfl)
theorem dX2_launch_5 : decode cX2_launch 5 = .ok (.astore_n 2, 1) := dk_77 (dk_at dksX2_launch_0 5 rfl rfl)
theorem dX2_launch_6 : decode cX2_launch 6 = .ok (.aload_n 2, 1) := dk_44 (dk_at dksX2_launch_0 6 rfl rfl)
theorem dX2_launch_7 : decode cX2_launch 7 = .ok (.getstatic 104, 3) := dk_178 0 104 (dk_at dksX2_launch_0 7 rfl rfl)
theorem dX2_launch_10 : decode cX2_launch 10 = .ok (.invokevirtual 110, 3) := dk_182 0 110 (dk_at dksX2_launch_0 10 rfl rfl)
theorem dX2_launch_13 : decode cX2_launch 13 = .ok (.invokestatic 94, 3) := dk_184 0 94 (dk_at dksX2_launch_0 13 rfl rfl)
theorem dX2_launch_16 : decode cX2_launch 16 = .ok (.aload_n 2, 1) := dk_44 (dk_at dksX2_launch_0 16 rfl rfl)
theorem dX2_launch_17 : decode cX2_launch 17 = .ok (.invokevirtual 114, 3) := dk_182 0 114 (dk_at dksX2_launch_0 17 rfl rfl)
theorem dX2_launch_20 : decode cX2_launch 20 = .ok (.iconst 2, 1) := dk_5 (dk_at dksX2_launch_0 20 rfl rfl)
theorem dX2_launch_21 : decode cX2_launch 21 = .ok (.if_icmp .ge 12, 3) := dk_162 0 12 (dk_at dksX2_launch_0 21 rfl rfl)
theorem dX2_launch_24 : decode cX2_launch 24 = .ok (.new 135, 3) := dk_187 0 135 (dk_at dksX2_launch_1 0 rfl rfl)
theorem dX2_launch_27 : decode cX2_launch 27 = .ok (.dup, 1) := dk_89 (dk_at dksX2_launch_1 3 rfl rfl)
theorem dX2_launch_28 : decode cX2_launch 28 = .ok (.iconst 1, 1) := dk_4 (dk_at dksX2_launch_1 4 rfl rfl)
theorem dX2_launch_29 : decode cX2_launch 29 = .ok (.invokespecial 137, 3) := dk_183 0 137 (dk_at dksX2_launch_1 5 rfl rfl)
theorem dX2_launch_32 : decode cX2_launch 32 = .ok (.athrow, 1) := dk_191 (dk_at dksX2_launch_1 8 rfl rfl)
theorem dX2_launch_33 : decode cX2_launch 33 = .ok (.aload_n 2, 1) := dk_44 (dk_at dksX2_launch_1 9 rfl rfl)
theorem dX2_launch_34 : decode cX2_launch 34 = .ok (.invokevirtual 138, 3) := dk_182 0 138 (dk_at dksX2_launch_1 10 rfl rfl)
theorem dX2_launch_37 : decode cX2_launch 37 = .ok (.istore_n 3, 1) := dk_62 (dk_at dksX2_launch_1 13 rfl rfl)
theorem dX2_launch_38 : decode cX2_launch 38 = .ok (.iload_n 3, 1) := dk_29 (dk_at dksX2_launch_1 14 rfl rfl)
theorem dX2_launch_39 : decode cX2_launch 39 = .ok (.iconst (-1), 1) := dk_2 (dk_at dksX2_launch_1 15 rfl rfl)
theorem dX2_launch_40 : decode cX2_launch 40 = .ok (.if_icmp .ne 12, 3) := dk_160 0 12 (dk_at dksX2_launch_1 16 rfl rfl)
theorem dX2_launch_43 : decode cX2_launch 43 = .ok (.new 135, 3) := dk_187 0 135 (dk_at dksX2_launch_1 19 rfl rfl)
theorem dX2_launch_46 : decode cX2_launch 46 = .ok (.dup, 1) := dk_89 (dk_at dksX2_launch_1 22 rfl rfl)
theorem dX2_launch_47 : decode cX2_launch 47 = .ok (.iconst 2, 1) := dk_5 (dk_at dksX2_launch_1 23 rfl rfl)
theorem dX2_launch_48 : decode cX2_launch 48 = .ok (.invokespecial 137, 3) := dk_183 0 137 (dk_at dksX2_launch_2 0 rfl rfl)
theorem dX2_launch_51 : decode cX2_launch 51 = .ok (.athrow, 1) := dk_191 (dk_at dksX2_launch_2 3 rfl rfl)
theorem dX2_launch_52 : decode cX2_launch 52 = .ok (.iload_n 3, 1) := dk_29 (dk_at dksX2_launch_2 4 rfl rfl)
theorem dX2_launch_53 : decode cX2_launch 53 = .ok (.aload_n 0, 1) := dk_42 (dk_at dksX2_launch_2 5 rfl rfl)
theorem dX2_launch_54 : decode cX2_launch 54 = .ok (.aload_n 0, 1) := dk_42 (dk_at dksX2_launch_2 6 rfl rfl)
theorem dX2_launch_55 : decode cX2_launch 55 = .ok (.getfield 60, 3) := dk_180 0 60 (dk_at dksX2_launch_2 7 rfl rfl)
theorem dX2_launch_58 : decode cX2_launch 58 = .ok (.invokevirtual 141, 3) := dk_182 0 141 (dk_at dksX2_launch_2 10 rfl rfl)
theorem dX2_launch_61 : decode cX2_launch 61 = .ok (.if_icmp .le 12, 3) := dk_164 0 12 (dk_at dksX2_launch_2 13 rfl rfl)
theorem dX2_launch_64 : decode cX2_launch 64 = .ok (.new 135, 3) := dk_187 0 135 (dk_at dksX2_launch_2 16 rfl rfl)
theorem dX2_launch_67 : decode cX2_launch 67 = .ok (.dup, 1) := dk_89 (dk_at dksX2_launch_2 19 rfl rfl)
theorem dX2_launch_68 : decode cX2_launch 68 = .ok (.iconst 3, 1) := dk_6 (dk_at dksX2_launch_2 20 rfl rfl)
theorem dX2_launch_69 : decode cX2_launch 69 = .ok (.invokespecial 137, 3) := dk_183 0 137 (dk_at dksX2_launch_2 21 rfl rfl)
theorem dX2_launch_72 : decode cX2_launch 72 = .ok (.athrow, 1) := dk_191 (dk_at dksX2_launch_3 0 rfl rfl)
theorem dX2_launch_73 : decode cX2_launch 73 = .ok (.aload_n 2, 1) := dk_44 (dk_at dksX2_launch_3 1 rfl rfl)
theorem dX2_launch_74 : decode cX2_launch 74 = .ok (.getstatic 145, 3) := dk_178 0 145 (dk_at dksX2_launch_3 2 rfl rfl)
theorem dX2_launch_77 : decode cX2_launch 77 = .ok (.putfield 126, 3) := dk_181 0 126 (dk_at dksX2_launch_3 5 rfl rfl)
theorem dX2_launch_80 : decode cX2_launch 80 = .ok (.iload_n 3, 1) := dk_29 (dk_at dksX2_launch_3 8 rfl rfl)
theorem dX2_launch_81 : decode cX2_launch 81 = .ok (.ireturn, 1) := dk_172 (dk_at dksX2_launch_3 9 rfl rfl)
def dkwX2_tide_0 : List UInt8 := [42, 180, 0, 21, 27, 16, 12, 112, 46, 172]
abbrev dktX2_tide_0 : List UInt8 := dkwX2_tide_0 ++ []
theorem dksX2_tide_0 : cX2_tide.data.toList.drop 0 = dktX2_tide_0 := by decide +kernel
theorem dX2_tide_0 : decode cX2_tide 0 = .ok (.aload_n 0, 1) := dk_42 (dk_at dksX2_tide_0 0 rfl rfl)
theorem dX2_tide_1 : decode cX2_tide 1 = .ok (.getfield 21, 3) := dk_180 0 21 (dk_at dksX2_tide_0 1 rfl rfl)
theorem dX2_tide_4 : decode cX2_tide 4 = .ok (.iload_n 1, 1) := dk_27 (dk_at dksX2_tide_0 4 rfl rfl)
theorem dX2_tide_5 : decode cX2_tide 5 = .ok (.bipush 12, 2) := dk_16 12 (dk_at dksX2_tide_0 5 rfl rfl)
theorem dX2_tide_7 : decode cX2_tide 7 = .ok (.irem, 1) := dk_112 (dk_at dksX2_tide_0 7 rfl rfl)
theorem dX2_tide_8 : decode cX2_tide 8 = .ok (.iaload, 1) := dk_46 (dk_at dksX2_tide_0 8 rfl rfl)
theorem dX2_tide_9 : decode cX2_tide 9 = .ok (.ireturn, 1) := dk_172 (dk_at dksX2_tide_0 9 rfl rfl)
def dkwX2_caulk_1 : List UInt8 := [54, 4, 45, 180, 0, 152, 28, 16, 9, 79, 21, 4, 172]
abbrev dktX2_caulk_1 : List UInt8 := dkwX2_caulk_1 ++ []
def dkwX2_caulk_0 : List UInt8 := [42, 27, 28, 182, 0, 148, 78, 45, 180, 0, 126, 182, 0, 128, 184, 0, 94, 45, 180, 0, 152, 28, 46]
abbrev dktX2_caulk_0 : List UInt8 := dkwX2_caulk_0 ++ dktX2_caulk_1
theorem dksX2_caulk_0 : cX2_caulk.data.toList.drop 0 = dktX2_caulk_0 := by decide +kernel
theorem dksX2_caulk_1 : cX2_caulk.data.toList.drop 23 = dktX2_caulk_1 := dk_seg dksX2_caulk_0 23 rfl rfl
theorem dX2_caulk_0 : decode cX2_caulk 0 = .ok (.aload_n 0, 1) := dk_42 (dk_at dksX2_caulk_0 0 rfl rfl)
theorem dX2_caulk_1 : decode cX2_caulk 1 = .ok (.iload_n 1, 1) := dk_27 (dk_at dksX2_caulk_0 1 rfl rfl)
theorem dX2_caulk_2 : decode cX2_caulk 2 = .ok (.iload_n 2, 1) := dk_28 (dk_at dksX2_caulk_0 2 rfl rfl)
theorem dX2_caulk_3 : decode cX2_caulk 3 = .ok (.invokevirtual 148, 3) := dk_182 0 148 (dk_at dksX2_caulk_0 3 rfl rfl)
theorem dX2_caulk_6 : decode cX2_caulk 6 = .ok (.astore_n 3, 1) := dk_78 (dk_at dksX2_caulk_0 6 rfl rfl)
theorem dX2_caulk_7 : decode cX2_caulk 7 = .ok (.aload_n 3, 1) := dk_45 (dk_at dksX2_caulk_0 7 rfl rfl)
theorem dX2_caulk_8 : decode cX2_caulk 8 = .ok (.getfield 126, 3) := dk_180 0 126 (dk_at dksX2_caulk_0 8 rfl rfl)
theorem dX2_caulk_11 : decode cX2_caulk 11 = .ok (.invokevirtual 128, 3) := dk_182 0 128 (dk_at dksX2_caulk_0 11 rfl rfl)
theorem dX2_caulk_14 : decode cX2_caulk 14 = .ok (.invokestatic 94, 3) := dk_184 0 94 (dk_at dksX2_caulk_0 14 rfl rfl)
theorem dX2_caulk_17 : decode cX2_caulk 17 = .ok (.aload_n 3, 1) := dk_45 (dk_at dksX2_caulk_0 17 rfl rfl)
theorem dX2_caulk_18 : decode cX2_caulk 18 = .ok (.getfield 152, 3) := dk_180 0 152 (dk_at dksX2_caulk_0 18 rfl rfl)
theorem dX2_caulk_21 : decode cX2_caulk 21 = .ok (.iload_n 2, 1) := dk_28 (dk_at dksX2_caulk_0 21 rfl rfl)
theorem dX2_caulk_22 : decode cX2_caulk 22 = .ok (.iaload, 1) := dk_46 (dk_at dksX2_caulk_0 22 rfl rfl)
theorem dX2_caulk_23 : decode cX2_caulk 23 = .ok (.istore 4, 2) := dk_54 4 (dk_at dksX2_caulk_1 0 rfl rfl)
theorem dX2_caulk_25 : decode cX2_caulk 25 = .ok (.aload_n 3, 1) := dk_45 (dk_at dksX2_caulk_1 2 rfl rfl)
theorem dX2_caulk_26 : decode cX2_caulk 26 = .ok (.getfield 152, 3) := dk_180 0 152 (dk_at dksX2_caulk_1 3 rfl rfl)
theorem dX2_caulk_29 : decode cX2_caulk 29 = .ok (.iload_n 2, 1) := dk_28 (dk_at dksX2_caulk_1 6 rfl rfl)
theorem dX2_caulk_30 : decode cX2_caulk 30 = .ok (.bipush 9, 2) := dk_16 9 (dk_at dksX2_caulk_1 7 rfl rfl)
theorem dX2_caulk_32 : decode cX2_caulk 32 = .ok (.iastore, 1) := dk_79 (dk_at dksX2_caulk_1 9 rfl rfl)
theorem dX2_caulk_33 : decode cX2_caulk 33 = .ok (.iload 4, 2) := dk_21 4 (dk_at dksX2_caulk_1 10 rfl rfl)
theorem dX2_caulk_35 : decode cX2_caulk 35 = .ok (.ireturn, 1) := dk_172 (dk_at dksX2_caulk_1 12 rfl rfl)
def dkwX2_hullWithSeam_0 : List UInt8 := [42, 27, 182, 0, 81, 78, 28, 3, 45, 182, 0, 85, 4, 100, 184, 0, 71, 184, 0, 77, 45, 176]
abbrev dktX2_hullWithSeam_0 : List UInt8 := dkwX2_hullWithSeam_0 ++ []
theorem dksX2_hullWithSeam_0 : cX2_hullWithSeam.data.toList.drop 0 = dktX2_hullWithSeam_0 := by decide +kernel
theorem dX2_hullWithSeam_0 : decode cX2_hullWithSeam 0 = .ok (.aload_n 0, 1) := dk_42 (dk_at dksX2_hullWithSeam_0 0 rfl rfl)
theorem dX2_hullWithSeam_1 : decode cX2_hullWithSeam 1 = .ok (.iload_n 1, 1) := dk_27 (dk_at dksX2_hullWithSeam_0 1 rfl rfl)
theorem dX2_hullWithSeam_2 : decode cX2_hullWithSeam 2 = .ok (.invokevirtual 81, 3) := dk_182 0 81 (dk_at dksX2_hullWithSeam_0 2 rfl rfl)
theorem dX2_hullWithSeam_5 : decode cX2_hullWithSeam 5 = .ok (.astore_n 3, 1) := dk_78 (dk_at dksX2_hullWithSeam_0 5 rfl rfl)
theorem dX2_hullWithSeam_6 : decode cX2_hullWithSeam 6 = .ok (.iload_n 2, 1) := dk_28 (dk_at dksX2_hullWithSeam_0 6 rfl rfl)
theorem dX2_hullWithSeam_7 : decode cX2_hullWithSeam 7 = .ok (.iconst 0, 1) := dk_3 (dk_at dksX2_hullWithSeam_0 7 rfl rfl)
theorem dX2_hullWithSeam_8 : decode cX2_hullWithSeam 8 = .ok (.aload_n 3, 1) := dk_45 (dk_at dksX2_hullWithSeam_0 8 rfl rfl)
theorem dX2_hullWithSeam_9 : decode cX2_hullWithSeam 9 = .ok (.invokevirtual 85, 3) := dk_182 0 85 (dk_at dksX2_hullWithSeam_0 9 rfl rfl)
theorem dX2_hullWithSeam_12 : decode cX2_hullWithSeam 12 = .ok (.iconst 1, 1) := dk_4 (dk_at dksX2_hullWithSeam_0 12 rfl rfl)
theorem dX2_hullWithSeam_13 : decode cX2_hullWithSeam 13 = .ok (.isub, 1) := dk_100 (dk_at dksX2_hullWithSeam_0 13 rfl rfl)
theorem dX2_hullWithSeam_14 : decode cX2_hullWithSeam 14 = .ok (.invokestatic 71, 3) := dk_184 0 71 (dk_at dksX2_hullWithSeam_0 14 rfl rfl)
theorem dX2_hullWithSeam_17 : decode cX2_hullWithSeam 17 = .ok (.invokestatic 77, 3) := dk_184 0 77 (dk_at dksX2_hullWithSeam_0 17 rfl rfl)
theorem dX2_hullWithSeam_20 : decode cX2_hullWithSeam 20 = .ok (.aload_n 3, 1) := dk_45 (dk_at dksX2_hullWithSeam_0 20 rfl rfl)
theorem dX2_hullWithSeam_21 : decode cX2_hullWithSeam 21 = .ok (.areturn, 1) := dk_176 (dk_at dksX2_hullWithSeam_0 21 rfl rfl)
def dkwX2_pump_2 : List UInt8 := [180, 0, 155, 172]
abbrev dktX2_pump_2 : List UInt8 := dkwX2_pump_2 ++ []
def dkwX2_pump_1 : List UInt8 := [178, 0, 145, 182, 0, 110, 184, 0, 94, 45, 3, 45, 180, 0, 155, 28, 100, 184, 0, 158, 181, 0, 155, 45]
abbrev dktX2_pump_1 : List UInt8 := dkwX2_pump_1 ++ dktX2_pump_2
def dkwX2_pump_0 : List UInt8 := [42, 27, 182, 0, 81, 78, 4, 188, 4, 89, 3, 28, 4, 17, 3, 231, 184, 0, 71, 84, 184, 0, 100, 45]
abbrev dktX2_pump_0 : List UInt8 := dkwX2_pump_0 ++ dktX2_pump_1
theorem dksX2_pump_0 : cX2_pump.data.toList.drop 0 = dktX2_pump_0 := by decide +kernel
theorem dksX2_pump_1 : cX2_pump.data.toList.drop 24 = dktX2_pump_1 := dk_seg dksX2_pump_0 24 rfl rfl
theorem dksX2_pump_2 : cX2_pump.data.toList.drop 48 = dktX2_pump_2 := dk_seg dksX2_pump_1 24 rfl rfl
theorem dX2_pump_0 : decode cX2_pump 0 = .ok (.aload_n 0, 1) := dk_42 (dk_at dksX2_pump_0 0 rfl rfl)
theorem dX2_pump_1 : decode cX2_pump 1 = .ok (.iload_n 1, 1) := dk_27 (dk_at dksX2_pump_0 1 rfl rfl)
theorem dX2_pump_2 : decode cX2_pump 2 = .ok (.invokevirtual 81, 3) := dk_182 0 81 (dk_at dksX2_pump_0 2 rfl rfl)
theorem dX2_pump_5 : decode cX2_pump 5 = .ok (.astore_n 3, 1) := dk_78 (dk_at dksX2_pump_0 5 rfl rfl)
theorem dX2_pump_6 : decode cX2_pump 6 = .ok (.iconst 1, 1) := dk_4 (dk_at dksX2_pump_0 6 rfl rfl)
theorem dX2_pump_7 : decode cX2_pump 7 = .ok (.newarray .boolean, 2) := dk_188_4 (dk_at dksX2_pump_0 7 rfl rfl)
theorem dX2_pump_9 : decode cX2_pump 9 = .ok (.dup, 1) := dk_89 (dk_at dksX2_pump_0 9 rfl rfl)
theorem dX2_pump_10 : decode cX2_pump 10 = .ok (.iconst 0, 1) := dk_3 (dk_at dksX2_pump_0 10 rfl rfl)
theorem dX2_pump_11 : decode cX2_pump 11 = .ok (.iload_n 2, 1) := dk_28 (dk_at dksX2_pump_0 11 rfl rfl)
theorem dX2_pump_12 : decode cX2_pump 12 = .ok (.iconst 1, 1) := dk_4 (dk_at dksX2_pump_0 12 rfl rfl)
theorem dX2_pump_13 : decode cX2_pump 13 = .ok (.sipush 999, 3) := dk_17 3 231 (dk_at dksX2_pump_0 13 rfl rfl)
theorem dX2_pump_16 : decode cX2_pump 16 = .ok (.invokestatic 71, 3) := dk_184 0 71 (dk_at dksX2_pump_0 16 rfl rfl)
theorem dX2_pump_19 : decode cX2_pump 19 = .ok (.bastore, 1) := dk_84 (dk_at dksX2_pump_0 19 rfl rfl)
theorem dX2_pump_20 : decode cX2_pump 20 = .ok (.invokestatic 100, 3) := dk_184 0 100 (dk_at dksX2_pump_0 20 rfl rfl)
theorem dX2_pump_23 : decode cX2_pump 23 = .ok (.aload_n 3, 1) := dk_45 (dk_at dksX2_pump_0 23 rfl rfl)
theorem dX2_pump_24 : decode cX2_pump 24 = .ok (.getstatic 145, 3) := dk_178 0 145 (dk_at dksX2_pump_1 0 rfl rfl)
theorem dX2_pump_27 : decode cX2_pump 27 = .ok (.invokevirtual 110, 3) := dk_182 0 110 (dk_at dksX2_pump_1 3 rfl rfl)
theorem dX2_pump_30 : decode cX2_pump 30 = .ok (.invokestatic 94, 3) := dk_184 0 94 (dk_at dksX2_pump_1 6 rfl rfl)
theorem dX2_pump_33 : decode cX2_pump 33 = .ok (.aload_n 3, 1) := dk_45 (dk_at dksX2_pump_1 9 rfl rfl)
theorem dX2_pump_34 : decode cX2_pump 34 = .ok (.iconst 0, 1) := dk_3 (dk_at dksX2_pump_1 10 rfl rfl)
theorem dX2_pump_35 : decode cX2_pump 35 = .ok (.aload_n 3, 1) := dk_45 (dk_at dksX2_pump_1 11 rfl rfl)
theorem dX2_pump_36 : decode cX2_pump 36 = .ok (.getfield 155, 3) := dk_180 0 155 (dk_at dksX2_pump_1 12 rfl rfl)
theorem dX2_pump_39 : decode cX2_pump 39 = .ok (.iload_n 2, 1) := dk_28 (dk_at dksX2_pump_1 15 rfl rfl)
theorem dX2_pump_40 : decode cX2_pump 40 = .ok (.isub, 1) := dk_100 (dk_at dksX2_pump_1 16 rfl rfl)
theorem dX2_pump_41 : decode cX2_pump 41 = .ok (.invokestatic 158, 3) := dk_184 0 158 (dk_at dksX2_pump_1 17 rfl rfl)
theorem dX2_pump_44 : decode cX2_pump 44 = .ok (.putfield 155, 3) := dk_181 0 155 (dk_at dksX2_pump_1 20 rfl rfl)
theorem dX2_pump_47 : decode cX2_pump 47 = .ok (.aload_n 3, 1) := dk_45 (dk_at dksX2_pump_1 23 rfl rfl)
theorem dX2_pump_48 : decode cX2_pump 48 = .ok (.getfield 155, 3) := dk_180 0 155 (dk_at dksX2_pump_2 0 rfl rfl)
theorem dX2_pump_51 : decode cX2_pump 51 = .ok (.ireturn, 1) := dk_172 (dk_at dksX2_pump_2 3 rfl rfl)
def dkwX2_pass_1 : List UInt8 := [162, 0, 16, 28, 42, 182, 0, 165, 96, 61, 132, 3, 1, 167, 255, 241, 28, 172]
abbrev dktX2_pass_1 : List UInt8 := dkwX2_pass_1 ++ []
def dkwX2_pass_0 : List UInt8 := [4, 188, 4, 89, 3, 27, 4, 16, 99, 184, 0, 71, 84, 184, 0, 100, 3, 61, 3, 62, 29, 27]
abbrev dktX2_pass_0 : List UInt8 := dkwX2_pass_0 ++ dktX2_pass_1
theorem dksX2_pass_0 : cX2_pass.data.toList.drop 0 = dktX2_pass_0 := by decide +kernel
theorem dksX2_pass_1 : cX2_pass.data.toList.drop 22 = dktX2_pass_1 := dk_seg dksX2_pass_0 22 rfl rfl
theorem dX2_pass_0 : decode cX2_pass 0 = .ok (.iconst 1, 1) := dk_4 (dk_at dksX2_pass_0 0 rfl rfl)
theorem dX2_pass_1 : decode cX2_pass 1 = .ok (.newarray .boolean, 2) := dk_188_4 (dk_at dksX2_pass_0 1 rfl rfl)
theorem dX2_pass_3 : decode cX2_pass 3 = .ok (.dup, 1) := dk_89 (dk_at dksX2_pass_0 3 rfl rfl)
theorem dX2_pass_4 : decode cX2_pass 4 = .ok (.iconst 0, 1) := dk_3 (dk_at dksX2_pass_0 4 rfl rfl)
theorem dX2_pass_5 : decode cX2_pass 5 = .ok (.iload_n 1, 1) := dk_27 (dk_at dksX2_pass_0 5 rfl rfl)
theorem dX2_pass_6 : decode cX2_pass 6 = .ok (.iconst 1, 1) := dk_4 (dk_at dksX2_pass_0 6 rfl rfl)
theorem dX2_pass_7 : decode cX2_pass 7 = .ok (.bipush 99, 2) := dk_16 99 (dk_at dksX2_pass_0 7 rfl rfl)
theorem dX2_pass_9 : decode cX2_pass 9 = .ok (.invokestatic 71, 3) := dk_184 0 71 (dk_at dksX2_pass_0 9 rfl rfl)
theorem dX2_pass_12 : decode cX2_pass 12 = .ok (.bastore, 1) := dk_84 (dk_at dksX2_pass_0 12 rfl rfl)
theorem dX2_pass_13 : decode cX2_pass 13 = .ok (.invokestatic 100, 3) := dk_184 0 100 (dk_at dksX2_pass_0 13 rfl rfl)
theorem dX2_pass_16 : decode cX2_pass 16 = .ok (.iconst 0, 1) := dk_3 (dk_at dksX2_pass_0 16 rfl rfl)
theorem dX2_pass_17 : decode cX2_pass 17 = .ok (.istore_n 2, 1) := dk_61 (dk_at dksX2_pass_0 17 rfl rfl)
theorem dX2_pass_18 : decode cX2_pass 18 = .ok (.iconst 0, 1) := dk_3 (dk_at dksX2_pass_0 18 rfl rfl)
theorem dX2_pass_19 : decode cX2_pass 19 = .ok (.istore_n 3, 1) := dk_62 (dk_at dksX2_pass_0 19 rfl rfl)
theorem dX2_pass_20 : decode cX2_pass 20 = .ok (.iload_n 3, 1) := dk_29 (dk_at dksX2_pass_0 20 rfl rfl)
theorem dX2_pass_21 : decode cX2_pass 21 = .ok (.iload_n 1, 1) := dk_27 (dk_at dksX2_pass_0 21 rfl rfl)
theorem dX2_pass_22 : decode cX2_pass 22 = .ok (.if_icmp .ge 16, 3) := dk_162 0 16 (dk_at dksX2_pass_1 0 rfl rfl)
theorem dX2_pass_25 : decode cX2_pass 25 = .ok (.iload_n 2, 1) := dk_28 (dk_at dksX2_pass_1 3 rfl rfl)
theorem dX2_pass_26 : decode cX2_pass 26 = .ok (.aload_n 0, 1) := dk_42 (dk_at dksX2_pass_1 4 rfl rfl)
theorem dX2_pass_27 : decode cX2_pass 27 = .ok (.invokevirtual 165, 3) := dk_182 0 165 (dk_at dksX2_pass_1 5 rfl rfl)
theorem dX2_pass_30 : decode cX2_pass 30 = .ok (.iadd, 1) := dk_96 (dk_at dksX2_pass_1 8 rfl rfl)
theorem dX2_pass_31 : decode cX2_pass 31 = .ok (.istore_n 2, 1) := dk_61 (dk_at dksX2_pass_1 9 rfl rfl)
theorem dX2_pass_32 : decode cX2_pass 32 = .ok (.iinc 3 1, 3) := dk_132 3 1 (dk_at dksX2_pass_1 10 rfl rfl)
theorem dX2_pass_35 : decode cX2_pass 35 = .ok (.goto (-15), 3) := dk_167 255 241 (dk_at dksX2_pass_1 13 rfl rfl)
theorem dX2_pass_38 : decode cX2_pass 38 = .ok (.iload_n 2, 1) := dk_28 (dk_at dksX2_pass_1 16 rfl rfl)
theorem dX2_pass_39 : decode cX2_pass 39 = .ok (.ireturn, 1) := dk_172 (dk_at dksX2_pass_1 17 rfl rfl)
def dkwX2_passHour_2 : List UInt8 := [153, 0, 7, 4, 167, 0, 4, 3, 96, 60, 132, 2, 1, 167, 255, 213, 27, 172]
abbrev dktX2_passHour_2 : List UInt8 := dkwX2_passHour_2 ++ []
def dkwX2_passHour_1 : List UInt8 := [162, 0, 38, 27, 42, 180, 0, 12, 28, 182, 0, 41, 192, 0, 39, 42, 180, 0, 60, 182, 0, 161]
abbrev dktX2_passHour_1 : List UInt8 := dkwX2_passHour_1 ++ dktX2_passHour_2
def dkwX2_passHour_0 : List UInt8 := [3, 60, 42, 89, 180, 0, 60, 4, 96, 181, 0, 60, 3, 61, 28, 42, 180, 0, 12, 182, 0, 35]
abbrev dktX2_passHour_0 : List UInt8 := dkwX2_passHour_0 ++ dktX2_passHour_1
theorem dksX2_passHour_0 : cX2_passHour.data.toList.drop 0 = dktX2_passHour_0 := by decide +kernel
theorem dksX2_passHour_1 : cX2_passHour.data.toList.drop 22 = dktX2_passHour_1 := dk_seg dksX2_passHour_0 22 rfl rfl
theorem dksX2_passHour_2 : cX2_passHour.data.toList.drop 44 = dktX2_passHour_2 := dk_seg dksX2_passHour_1 22 rfl rfl
theorem dX2_passHour_0 : decode cX2_passHour 0 = .ok (.iconst 0, 1) := dk_3 (dk_at dksX2_passHour_0 0 rfl rfl)
theorem dX2_passHour_1 : decode cX2_passHour 1 = .ok (.istore_n 1, 1) := dk_60 (dk_at dksX2_passHour_0 1 rfl rfl)
theorem dX2_passHour_2 : decode cX2_passHour 2 = .ok (.aload_n 0, 1) := dk_42 (dk_at dksX2_passHour_0 2 rfl rfl)
theorem dX2_passHour_3 : decode cX2_passHour 3 = .ok (.dup, 1) := dk_89 (dk_at dksX2_passHour_0 3 rfl rfl)
theorem dX2_passHour_4 : decode cX2_passHour 4 = .ok (.getfield 60, 3) := dk_180 0 60 (dk_at dksX2_passHour_0 4 rfl rfl)
theorem dX2_passHour_7 : decode cX2_passHour 7 = .ok (.iconst 1, 1) := dk_4 (dk_at dksX2_passHour_0 7 rfl rfl)
theorem dX2_passHour_8 : decode cX2_passHour 8 = .ok (.iadd, 1) := dk_96 (dk_at dksX2_passHour_0 8 rfl rfl)
theorem dX2_passHour_9 : decode cX2_passHour 9 = .ok (.putfield 60, 3) := dk_181 0 60 (dk_at dksX2_passHour_0 9 rfl rfl)
theorem dX2_passHour_12 : decode cX2_passHour 12 = .ok (.iconst 0, 1) := dk_3 (dk_at dksX2_passHour_0 12 rfl rfl)
theorem dX2_passHour_13 : decode cX2_passHour 13 = .ok (.istore_n 2, 1) := dk_61 (dk_at dksX2_passHour_0 13 rfl rfl)
theorem dX2_passHour_14 : decode cX2_passHour 14 = .ok (.iload_n 2, 1) := dk_28 (dk_at dksX2_passHour_0 14 rfl rfl)
theorem dX2_passHour_15 : decode cX2_passHour 15 = .ok (.aload_n 0, 1) := dk_42 (dk_at dksX2_passHour_0 15 rfl rfl)
theorem dX2_passHour_16 : decode cX2_passHour 16 = .ok (.getfield 12, 3) := dk_180 0 12 (dk_at dksX2_passHour_0 16 rfl rfl)
theorem dX2_passHour_19 : decode cX2_passHour 19 = .ok (.invokevirtual 35, 3) := dk_182 0 35 (dk_at dksX2_passHour_0 19 rfl rfl)
theorem dX2_passHour_22 : decode cX2_passHour 22 = .ok (.if_icmp .ge 38, 3) := dk_162 0 38 (dk_at dksX2_passHour_1 0 rfl rfl)
theorem dX2_passHour_25 : decode cX2_passHour 25 = .ok (.iload_n 1, 1) := dk_27 (dk_at dksX2_passHour_1 3 rfl rfl)
theorem dX2_passHour_26 : decode cX2_passHour 26 = .ok (.aload_n 0, 1) := dk_42 (dk_at dksX2_passHour_1 4 rfl rfl)
theorem dX2_passHour_27 : decode cX2_passHour 27 = .ok (.getfield 12, 3) := dk_180 0 12 (dk_at dksX2_passHour_1 5 rfl rfl)
theorem dX2_passHour_30 : decode cX2_passHour 30 = .ok (.iload_n 2, 1) := dk_28 (dk_at dksX2_passHour_1 8 rfl rfl)
theorem dX2_passHour_31 : decode cX2_passHour 31 = .ok (.invokevirtual 41, 3) := dk_182 0 41 (dk_at dksX2_passHour_1 9 rfl rfl)
theorem dX2_passHour_34 : decode cX2_passHour 34 = .ok (.checkcast 39, 3) := dk_192 0 39 (dk_at dksX2_passHour_1 12 rfl rfl)
theorem dX2_passHour_37 : decode cX2_passHour 37 = .ok (.aload_n 0, 1) := dk_42 (dk_at dksX2_passHour_1 15 rfl rfl)
theorem dX2_passHour_38 : decode cX2_passHour 38 = .ok (.getfield 60, 3) := dk_180 0 60 (dk_at dksX2_passHour_1 16 rfl rfl)
theorem dX2_passHour_41 : decode cX2_passHour 41 = .ok (.invokevirtual 161, 3) := dk_182 0 161 (dk_at dksX2_passHour_1 19 rfl rfl)
theorem dX2_passHour_44 : decode cX2_passHour 44 = .ok (.ifCond .eq 7, 3) := dk_153 0 7 (dk_at dksX2_passHour_2 0 rfl rfl)
theorem dX2_passHour_47 : decode cX2_passHour 47 = .ok (.iconst 1, 1) := dk_4 (dk_at dksX2_passHour_2 3 rfl rfl)
theorem dX2_passHour_48 : decode cX2_passHour 48 = .ok (.goto 4, 3) := dk_167 0 4 (dk_at dksX2_passHour_2 4 rfl rfl)
theorem dX2_passHour_51 : decode cX2_passHour 51 = .ok (.iconst 0, 1) := dk_3 (dk_at dksX2_passHour_2 7 rfl rfl)
theorem dX2_passHour_52 : decode cX2_passHour 52 = .ok (.iadd, 1) := dk_96 (dk_at dksX2_passHour_2 8 rfl rfl)
theorem dX2_passHour_53 : decode cX2_passHour 53 = .ok (.istore_n 1, 1) := dk_60 (dk_at dksX2_passHour_2 9 rfl rfl)
theorem dX2_passHour_54 : decode cX2_passHour 54 = .ok (.iinc 2 1, 3) := dk_132 2 1 (dk_at dksX2_passHour_2 10 rfl rfl)
theorem dX2_passHour_57 : decode cX2_passHour 57 = .ok (.goto (-43), 3) := dk_167 255 213 (dk_at dksX2_passHour_2 13 rfl rfl)
theorem dX2_passHour_60 : decode cX2_passHour 60 = .ok (.iload_n 1, 1) := dk_27 (dk_at dksX2_passHour_2 16 rfl rfl)
theorem dX2_passHour_61 : decode cX2_passHour 61 = .ok (.ireturn, 1) := dk_172 (dk_at dksX2_passHour_2 17 rfl rfl)
def dkwX2_setTide_1 : List UInt8 := [184, 0, 100, 42, 180, 0, 21, 27, 46, 62, 42, 180, 0, 21, 27, 28, 79, 29, 172]
abbrev dktX2_setTide_1 : List UInt8 := dkwX2_setTide_1 ++ []
def dkwX2_setTide_0 : List UInt8 := [5, 188, 4, 89, 3, 27, 3, 16, 11, 184, 0, 71, 84, 89, 4, 28, 3, 16, 50, 184, 0, 71, 84]
abbrev dktX2_setTide_0 : List UInt8 := dkwX2_setTide_0 ++ dktX2_setTide_1
theorem dksX2_setTide_0 : cX2_setTide.data.toList.drop 0 = dktX2_setTide_0 := by decide +kernel
theorem dksX2_setTide_1 : cX2_setTide.data.toList.drop 23 = dktX2_setTide_1 := dk_seg dksX2_setTide_0 23 rfl rfl
theorem dX2_setTide_0 : decode cX2_setTide 0 = .ok (.iconst 2, 1) := dk_5 (dk_at dksX2_setTide_0 0 rfl rfl)
theorem dX2_setTide_1 : decode cX2_setTide 1 = .ok (.newarray .boolean, 2) := dk_188_4 (dk_at dksX2_setTide_0 1 rfl rfl)
theorem dX2_setTide_3 : decode cX2_setTide 3 = .ok (.dup, 1) := dk_89 (dk_at dksX2_setTide_0 3 rfl rfl)
theorem dX2_setTide_4 : decode cX2_setTide 4 = .ok (.iconst 0, 1) := dk_3 (dk_at dksX2_setTide_0 4 rfl rfl)
theorem dX2_setTide_5 : decode cX2_setTide 5 = .ok (.iload_n 1, 1) := dk_27 (dk_at dksX2_setTide_0 5 rfl rfl)
theorem dX2_setTide_6 : decode cX2_setTide 6 = .ok (.iconst 0, 1) := dk_3 (dk_at dksX2_setTide_0 6 rfl rfl)
theorem dX2_setTide_7 : decode cX2_setTide 7 = .ok (.bipush 11, 2) := dk_16 11 (dk_at dksX2_setTide_0 7 rfl rfl)
theorem dX2_setTide_9 : decode cX2_setTide 9 = .ok (.invokestatic 71, 3) := dk_184 0 71 (dk_at dksX2_setTide_0 9 rfl rfl)
theorem dX2_setTide_12 : decode cX2_setTide 12 = .ok (.bastore, 1) := dk_84 (dk_at dksX2_setTide_0 12 rfl rfl)
theorem dX2_setTide_13 : decode cX2_setTide 13 = .ok (.dup, 1) := dk_89 (dk_at dksX2_setTide_0 13 rfl rfl)
theorem dX2_setTide_14 : decode cX2_setTide 14 = .ok (.iconst 1, 1) := dk_4 (dk_at dksX2_setTide_0 14 rfl rfl)
theorem dX2_setTide_15 : decode cX2_setTide 15 = .ok (.iload_n 2, 1) := dk_28 (dk_at dksX2_setTide_0 15 rfl rfl)
theorem dX2_setTide_16 : decode cX2_setTide 16 = .ok (.iconst 0, 1) := dk_3 (dk_at dksX2_setTide_0 16 rfl rfl)
theorem dX2_setTide_17 : decode cX2_setTide 17 = .ok (.bipush 50, 2) := dk_16 50 (dk_at dksX2_setTide_0 17 rfl rfl)
theorem dX2_setTide_19 : decode cX2_setTide 19 = .ok (.invokestatic 71, 3) := dk_184 0 71 (dk_at dksX2_setTide_0 19 rfl rfl)
theorem dX2_setTide_22 : decode cX2_setTide 22 = .ok (.bastore, 1) := dk_84 (dk_at dksX2_setTide_0 22 rfl rfl)
theorem dX2_setTide_23 : decode cX2_setTide 23 = .ok (.invokestatic 100, 3) := dk_184 0 100 (dk_at dksX2_setTide_1 0 rfl rfl)
theorem dX2_setTide_26 : decode cX2_setTide 26 = .ok (.aload_n 0, 1) := dk_42 (dk_at dksX2_setTide_1 3 rfl rfl)
theorem dX2_setTide_27 : decode cX2_setTide 27 = .ok (.getfield 21, 3) := dk_180 0 21 (dk_at dksX2_setTide_1 4 rfl rfl)
theorem dX2_setTide_30 : decode cX2_setTide 30 = .ok (.iload_n 1, 1) := dk_27 (dk_at dksX2_setTide_1 7 rfl rfl)
theorem dX2_setTide_31 : decode cX2_setTide 31 = .ok (.iaload, 1) := dk_46 (dk_at dksX2_setTide_1 8 rfl rfl)
theorem dX2_setTide_32 : decode cX2_setTide 32 = .ok (.istore_n 3, 1) := dk_62 (dk_at dksX2_setTide_1 9 rfl rfl)
theorem dX2_setTide_33 : decode cX2_setTide 33 = .ok (.aload_n 0, 1) := dk_42 (dk_at dksX2_setTide_1 10 rfl rfl)
theorem dX2_setTide_34 : decode cX2_setTide 34 = .ok (.getfield 21, 3) := dk_180 0 21 (dk_at dksX2_setTide_1 11 rfl rfl)
theorem dX2_setTide_37 : decode cX2_setTide 37 = .ok (.iload_n 1, 1) := dk_27 (dk_at dksX2_setTide_1 14 rfl rfl)
theorem dX2_setTide_38 : decode cX2_setTide 38 = .ok (.iload_n 2, 1) := dk_28 (dk_at dksX2_setTide_1 15 rfl rfl)
theorem dX2_setTide_39 : decode cX2_setTide 39 = .ok (.iastore, 1) := dk_79 (dk_at dksX2_setTide_1 16 rfl rfl)
theorem dX2_setTide_40 : decode cX2_setTide 40 = .ok (.iload_n 3, 1) := dk_29 (dk_at dksX2_setTide_1 17 rfl rfl)
theorem dX2_setTide_41 : decode cX2_setTide 41 = .ok (.ireturn, 1) := dk_172 (dk_at dksX2_setTide_1 18 rfl rfl)
def dkwX2_setSlip_1 : List UInt8 := [184, 0, 100, 42, 180, 0, 25, 27, 46, 62, 42, 180, 0, 25, 27, 28, 79, 29, 172]
abbrev dktX2_setSlip_1 : List UInt8 := dkwX2_setSlip_1 ++ []
def dkwX2_setSlip_0 : List UInt8 := [5, 188, 4, 89, 3, 27, 3, 6, 184, 0, 71, 84, 89, 4, 28, 3, 16, 8, 184, 0, 71, 84]
abbrev dktX2_setSlip_0 : List UInt8 := dkwX2_setSlip_0 ++ dktX2_setSlip_1
theorem dksX2_setSlip_0 : cX2_setSlip.data.toList.drop 0 = dktX2_setSlip_0 := by decide +kernel
theorem dksX2_setSlip_1 : cX2_setSlip.data.toList.drop 22 = dktX2_setSlip_1 := dk_seg dksX2_setSlip_0 22 rfl rfl
theorem dX2_setSlip_0 : decode cX2_setSlip 0 = .ok (.iconst 2, 1) := dk_5 (dk_at dksX2_setSlip_0 0 rfl rfl)
theorem dX2_setSlip_1 : decode cX2_setSlip 1 = .ok (.newarray .boolean, 2) := dk_188_4 (dk_at dksX2_setSlip_0 1 rfl rfl)
theorem dX2_setSlip_3 : decode cX2_setSlip 3 = .ok (.dup, 1) := dk_89 (dk_at dksX2_setSlip_0 3 rfl rfl)
theorem dX2_setSlip_4 : decode cX2_setSlip 4 = .ok (.iconst 0, 1) := dk_3 (dk_at dksX2_setSlip_0 4 rfl rfl)
theorem dX2_setSlip_5 : decode cX2_setSlip 5 = .ok (.iload_n 1, 1) := dk_27 (dk_at dksX2_setSlip_0 5 rfl rfl)
theorem dX2_setSlip_6 : decode cX2_setSlip 6 = .ok (.iconst 0, 1) := dk_3 (dk_at dksX2_setSlip_0 6 rfl rfl)
theorem dX2_setSlip_7 : decode cX2_setSlip 7 = .ok (.iconst 3, 1) := dk_6 (dk_at dksX2_setSlip_0 7 rfl rfl)
theorem dX2_setSlip_8 : decode cX2_setSlip 8 = .ok (.invokestatic 71, 3) := dk_184 0 71 (dk_at dksX2_setSlip_0 8 rfl rfl)
theorem dX2_setSlip_11 : decode cX2_setSlip 11 = .ok (.bastore, 1) := dk_84 (dk_at dksX2_setSlip_0 11 rfl rfl)
theorem dX2_setSlip_12 : decode cX2_setSlip 12 = .ok (.dup, 1) := dk_89 (dk_at dksX2_setSlip_0 12 rfl rfl)
theorem dX2_setSlip_13 : decode cX2_setSlip 13 = .ok (.iconst 1, 1) := dk_4 (dk_at dksX2_setSlip_0 13 rfl rfl)
theorem dX2_setSlip_14 : decode cX2_setSlip 14 = .ok (.iload_n 2, 1) := dk_28 (dk_at dksX2_setSlip_0 14 rfl rfl)
theorem dX2_setSlip_15 : decode cX2_setSlip 15 = .ok (.iconst 0, 1) := dk_3 (dk_at dksX2_setSlip_0 15 rfl rfl)
theorem dX2_setSlip_16 : decode cX2_setSlip 16 = .ok (.bipush 8, 2) := dk_16 8 (dk_at dksX2_setSlip_0 16 rfl rfl)
theorem dX2_setSlip_18 : decode cX2_setSlip 18 = .ok (.invokestatic 71, 3) := dk_184 0 71 (dk_at dksX2_setSlip_0 18 rfl rfl)
theorem dX2_setSlip_21 : decode cX2_setSlip 21 = .ok (.bastore, 1) := dk_84 (dk_at dksX2_setSlip_0 21 rfl rfl)
theorem dX2_setSlip_22 : decode cX2_setSlip 22 = .ok (.invokestatic 100, 3) := dk_184 0 100 (dk_at dksX2_setSlip_1 0 rfl rfl)
theorem dX2_setSlip_25 : decode cX2_setSlip 25 = .ok (.aload_n 0, 1) := dk_42 (dk_at dksX2_setSlip_1 3 rfl rfl)
theorem dX2_setSlip_26 : decode cX2_setSlip 26 = .ok (.getfield 25, 3) := dk_180 0 25 (dk_at dksX2_setSlip_1 4 rfl rfl)
theorem dX2_setSlip_29 : decode cX2_setSlip 29 = .ok (.iload_n 1, 1) := dk_27 (dk_at dksX2_setSlip_1 7 rfl rfl)
theorem dX2_setSlip_30 : decode cX2_setSlip 30 = .ok (.iaload, 1) := dk_46 (dk_at dksX2_setSlip_1 8 rfl rfl)
theorem dX2_setSlip_31 : decode cX2_setSlip 31 = .ok (.istore_n 3, 1) := dk_62 (dk_at dksX2_setSlip_1 9 rfl rfl)
theorem dX2_setSlip_32 : decode cX2_setSlip 32 = .ok (.aload_n 0, 1) := dk_42 (dk_at dksX2_setSlip_1 10 rfl rfl)
theorem dX2_setSlip_33 : decode cX2_setSlip 33 = .ok (.getfield 25, 3) := dk_180 0 25 (dk_at dksX2_setSlip_1 11 rfl rfl)
theorem dX2_setSlip_36 : decode cX2_setSlip 36 = .ok (.iload_n 1, 1) := dk_27 (dk_at dksX2_setSlip_1 14 rfl rfl)
theorem dX2_setSlip_37 : decode cX2_setSlip 37 = .ok (.iload_n 2, 1) := dk_28 (dk_at dksX2_setSlip_1 15 rfl rfl)
theorem dX2_setSlip_38 : decode cX2_setSlip 38 = .ok (.iastore, 1) := dk_79 (dk_at dksX2_setSlip_1 16 rfl rfl)
theorem dX2_setSlip_39 : decode cX2_setSlip 39 = .ok (.iload_n 3, 1) := dk_29 (dk_at dksX2_setSlip_1 17 rfl rfl)
theorem dX2_setSlip_40 : decode cX2_setSlip 40 = .ok (.ireturn, 1) := dk_172 (dk_at dksX2_setSlip_1 18 rfl rfl)
def dkwX2_addOrder_4 : List UInt8 := [4, 100, 172]
abbrev dktX2_addOrder_4 : List UInt8 := dkwX2_addOrder_4 ++ []
def dkwX2_addOrder_3 : List UInt8 := [28, 29, 183, 0, 168, 182, 0, 48, 54, 4, 42, 89, 180, 0, 64, 4, 96, 181, 0, 64, 42, 180, 0, 64]
abbrev dktX2_addOrder_3 : List UInt8 := dkwX2_addOrder_3 ++ dktX2_addOrder_4
def dkwX2_addOrder_2 : List UInt8 := [162, 0, 7, 4, 167, 0, 4, 3, 184, 0, 94, 42, 180, 0, 18, 187, 0, 52, 89, 42, 180, 0, 64, 27]
abbrev dktX2_addOrder_2 : List UInt8 := dkwX2_addOrder_2 ++ dktX2_addOrder_3
def dkwX2_addOrder_1 : List UInt8 := [89, 5, 29, 4, 17, 3, 231, 184, 0, 71, 84, 184, 0, 100, 42, 180, 0, 18, 182, 0, 35, 16, 6]
abbrev dktX2_addOrder_1 : List UInt8 := dkwX2_addOrder_1 ++ dktX2_addOrder_2
def dkwX2_addOrder_0 : List UInt8 := [6, 188, 4, 89, 3, 27, 5, 16, 8, 184, 0, 71, 84, 89, 4, 28, 3, 17, 3, 231, 184, 0, 71, 84]
abbrev dktX2_addOrder_0 : List UInt8 := dkwX2_addOrder_0 ++ dktX2_addOrder_1
theorem dksX2_addOrder_0 : cX2_addOrder.data.toList.drop 0 = dktX2_addOrder_0 := by decide +kernel
theorem dksX2_addOrder_1 : cX2_addOrder.data.toList.drop 24 = dktX2_addOrder_1 := dk_seg dksX2_addOrder_0 24 rfl rfl
theorem dksX2_addOrder_2 : cX2_addOrder.data.toList.drop 47 = dktX2_addOrder_2 := dk_seg dksX2_addOrder_1 23 rfl rfl
theorem dksX2_addOrder_3 : cX2_addOrder.data.toList.drop 71 = dktX2_addOrder_3 := dk_seg dksX2_addOrder_2 24 rfl rfl
theorem dksX2_addOrder_4 : cX2_addOrder.data.toList.drop 95 = dktX2_addOrder_4 := dk_seg dksX2_addOrder_3 24 rfl rfl
theorem dX2_addOrder_0 : decode cX2_addOrder 0 = .ok (.iconst 3, 1) := dk_6 (dk_at dksX2_addOrder_0 0 rfl rfl)
theorem dX2_addOrder_1 : decode cX2_addOrder 1 = .ok (.newarray .boolean, 2) := dk_188_4 (dk_at dksX2_addOrder_0 1 rfl rfl)
theorem dX2_addOrder_3 : decode cX2_addOrder 3 = .ok (.dup, 1) := dk_89 (dk_at dksX2_addOrder_0 3 rfl rfl)
theorem dX2_addOrder_4 : decode cX2_addOrder 4 = .ok (.iconst 0, 1) := dk_3 (dk_at dksX2_addOrder_0 4 rfl rfl)
theorem dX2_addOrder_5 : decode cX2_addOrder 5 = .ok (.iload_n 1, 1) := dk_27 (dk_at dksX2_addOrder_0 5 rfl rfl)
theorem dX2_addOrder_6 : decode cX2_addOrder 6 = .ok (.iconst 2, 1) := dk_5 (dk_at dksX2_addOrder_0 6 rfl rfl)
theorem dX2_addOrder_7 : decode cX2_addOrder 7 = .ok (.bipush 8, 2) := dk_16 8 (dk_at dksX2_addOrder_0 7 rfl rfl)
theorem dX2_addOrder_9 : decode cX2_addOrder 9 = .ok (.invokestatic 71, 3) := dk_184 0 71 (dk_at dksX2_addOrder_0 9 rfl rfl)
theorem dX2_addOrder_12 : decode cX2_addOrder 12 = .ok (.bastore, 1) := dk_84 (dk_at dksX2_addOrder_0 12 rfl rfl)
theorem dX2_addOrder_13 : decode cX2_addOrder 13 = .ok (.dup, 1) := dk_89 (dk_at dksX2_addOrder_0 13 rfl rfl)
theorem dX2_addOrder_14 : decode cX2_addOrder 14 = .ok (.iconst 1, 1) := dk_4 (dk_at dksX2_addOrder_0 14 rfl rfl)
theorem dX2_addOrder_15 : decode cX2_addOrder 15 = .ok (.iload_n 2, 1) := dk_28 (dk_at dksX2_addOrder_0 15 rfl rfl)
theorem dX2_addOrder_16 : decode cX2_addOrder 16 = .ok (.iconst 0, 1) := dk_3 (dk_at dksX2_addOrder_0 16 rfl rfl)
theorem dX2_addOrder_17 : decode cX2_addOrder 17 = .ok (.sipush 999, 3) := dk_17 3 231 (dk_at dksX2_addOrder_0 17 rfl rfl)
theorem dX2_addOrder_20 : decode cX2_addOrder 20 = .ok (.invokestatic 71, 3) := dk_184 0 71 (dk_at dksX2_addOrder_0 20 rfl rfl)
theorem dX2_addOrder_23 : decode cX2_addOrder 23 = .ok (.bastore, 1) := dk_84 (dk_at dksX2_addOrder_0 23 rfl rfl)
theorem dX2_addOrder_24 : decode cX2_addOrder 24 = .ok (.dup, 1) := dk_89 (dk_at dksX2_addOrder_1 0 rfl rfl)
theorem dX2_addOrder_25 : decode cX2_addOrder 25 = .ok (.iconst 2, 1) := dk_5 (dk_at dksX2_addOrder_1 1 rfl rfl)
theorem dX2_addOrder_26 : decode cX2_addOrder 26 = .ok (.iload_n 3, 1) := dk_29 (dk_at dksX2_addOrder_1 2 rfl rfl)
theorem dX2_addOrder_27 : decode cX2_addOrder 27 = .ok (.iconst 1, 1) := dk_4 (dk_at dksX2_addOrder_1 3 rfl rfl)
theorem dX2_addOrder_28 : decode cX2_addOrder 28 = .ok (.sipush 999, 3) := dk_17 3 231 (dk_at dksX2_addOrder_1 4 rfl rfl)
theorem dX2_addOrder_31 : decode cX2_addOrder 31 = .ok (.invokestatic 71, 3) := dk_184 0 71 (dk_at dksX2_addOrder_1 7 rfl rfl)
theorem dX2_addOrder_34 : decode cX2_addOrder 34 = .ok (.bastore, 1) := dk_84 (dk_at dksX2_addOrder_1 10 rfl rfl)
theorem dX2_addOrder_35 : decode cX2_addOrder 35 = .ok (.invokestatic 100, 3) := dk_184 0 100 (dk_at dksX2_addOrder_1 11 rfl rfl)
theorem dX2_addOrder_38 : decode cX2_addOrder 38 = .ok (.aload_n 0, 1) := dk_42 (dk_at dksX2_addOrder_1 14 rfl rfl)
theorem dX2_addOrder_39 : decode cX2_addOrder 39 = .ok (.getfield 18, 3) := dk_180 0 18 (dk_at dksX2_addOrder_1 15 rfl rfl)
theorem dX2_addOrder_42 : decode cX2_addOrder 42 = .ok (.invokevirtual 35, 3) := dk_182 0 35 (dk_at dksX2_addOrder_1 18 rfl rfl)
theorem dX2_addOrder_45 : decode cX2_addOrder 45 = .ok (.bipush 6, 2) := dk_16 6 (dk_at dksX2_addOrder_1 21 rfl rfl)
theorem dX2_addOrder_47 : decode cX2_addOrder 47 = .ok (.if_icmp .ge 7, 3) := dk_162 0 7 (dk_at dksX2_addOrder_2 0 rfl rfl)
theorem dX2_addOrder_50 : decode cX2_addOrder 50 = .ok (.iconst 1, 1) := dk_4 (dk_at dksX2_addOrder_2 3 rfl rfl)
theorem dX2_addOrder_51 : decode cX2_addOrder 51 = .ok (.goto 4, 3) := dk_167 0 4 (dk_at dksX2_addOrder_2 4 rfl rfl)
theorem dX2_addOrder_54 : decode cX2_addOrder 54 = .ok (.iconst 0, 1) := dk_3 (dk_at dksX2_addOrder_2 7 rfl rfl)
theorem dX2_addOrder_55 : decode cX2_addOrder 55 = .ok (.invokestatic 94, 3) := dk_184 0 94 (dk_at dksX2_addOrder_2 8 rfl rfl)
theorem dX2_addOrder_58 : decode cX2_addOrder 58 = .ok (.aload_n 0, 1) := dk_42 (dk_at dksX2_addOrder_2 11 rfl rfl)
theorem dX2_addOrder_59 : decode cX2_addOrder 59 = .ok (.getfield 18, 3) := dk_180 0 18 (dk_at dksX2_addOrder_2 12 rfl rfl)
theorem dX2_addOrder_62 : decode cX2_addOrder 62 = .ok (.new 52, 3) := dk_187 0 52 (dk_at dksX2_addOrder_2 15 rfl rfl)
theorem dX2_addOrder_65 : decode cX2_addOrder 65 = .ok (.dup, 1) := dk_89 (dk_at dksX2_addOrder_2 18 rfl rfl)
theorem dX2_addOrder_66 : decode cX2_addOrder 66 = .ok (.aload_n 0, 1) := dk_42 (dk_at dksX2_addOrder_2 19 rfl rfl)
theorem dX2_addOrder_67 : decode cX2_addOrder 67 = .ok (.getfield 64, 3) := dk_180 0 64 (dk_at dksX2_addOrder_2 20 rfl rfl)
theorem dX2_addOrder_70 : decode cX2_addOrder 70 = .ok (.iload_n 1, 1) := dk_27 (dk_at dksX2_addOrder_2 23 rfl rfl)
theorem dX2_addOrder_71 : decode cX2_addOrder 71 = .ok (.iload_n 2, 1) := dk_28 (dk_at dksX2_addOrder_3 0 rfl rfl)
theorem dX2_addOrder_72 : decode cX2_addOrder 72 = .ok (.iload_n 3, 1) := dk_29 (dk_at dksX2_addOrder_3 1 rfl rfl)
theorem dX2_addOrder_73 : decode cX2_addOrder 73 = .ok (.invokespecial 168, 3) := dk_183 0 168 (dk_at dksX2_addOrder_3 2 rfl rfl)
theorem dX2_addOrder_76 : decode cX2_addOrder 76 = .ok (.invokevirtual 48, 3) := dk_182 0 48 (dk_at dksX2_addOrder_3 5 rfl rfl)
theorem dX2_addOrder_79 : decode cX2_addOrder 79 = .ok (.istore 4, 2) := dk_54 4 (dk_at dksX2_addOrder_3 8 rfl rfl)
theorem dX2_addOrder_81 : decode cX2_addOrder 81 = .ok (.aload_n 0, 1) := dk_42 (dk_at dksX2_addOrder_3 10 rfl rfl)
theorem dX2_addOrder_82 : decode cX2_addOrder 82 = .ok (.dup, 1) := dk_89 (dk_at dksX2_addOrder_3 11 rfl rfl)
theorem dX2_addOrder_83 : decode cX2_addOrder 83 = .ok (.getfield 64, 3) := dk_180 0 64 (dk_at dksX2_addOrder_3 12 rfl rfl)
theorem dX2_addOrder_86 : decode cX2_addOrder 86 = .ok (.iconst 1, 1) := dk_4 (dk_at dksX2_addOrder_3 15 rfl rfl)
theorem dX2_addOrder_87 : decode cX2_addOrder 87 = .ok (.iadd, 1) := dk_96 (dk_at dksX2_addOrder_3 16 rfl rfl)
theorem dX2_addOrder_88 : decode cX2_addOrder 88 = .ok (.putfield 64, 3) := dk_181 0 64 (dk_at dksX2_addOrder_3 17 rfl rfl)
theorem dX2_addOrder_91 : decode cX2_addOrder 91 = .ok (.aload_n 0, 1) := dk_42 (dk_at dksX2_addOrder_3 20 rfl rfl)
theorem dX2_addOrder_92 : decode cX2_addOrder 92 = .ok (.getfield 64, 3) := dk_180 0 64 (dk_at dksX2_addOrder_3 21 rfl rfl)
theorem dX2_addOrder_95 : decode cX2_addOrder 95 = .ok (.iconst 1, 1) := dk_4 (dk_at dksX2_addOrder_4 0 rfl rfl)
theorem dX2_addOrder_96 : decode cX2_addOrder 96 = .ok (.isub, 1) := dk_100 (dk_at dksX2_addOrder_4 1 rfl rfl)
theorem dX2_addOrder_97 : decode cX2_addOrder 97 = .ok (.ireturn, 1) := dk_172 (dk_at dksX2_addOrder_4 2 rfl rfl)
def dkwX2_deliver_3 : List UInt8 := [54, 6, 42, 89, 180, 0, 67, 21, 6, 133, 97, 181, 0, 67, 21, 6, 172]
abbrev dktX2_deliver_3 : List UInt8 := dkwX2_deliver_3 ++ []
def dkwX2_deliver_2 : List UInt8 := [178, 0, 177, 181, 0, 126, 42, 180, 0, 18, 45, 182, 0, 180, 54, 5, 45, 42, 180, 0, 60, 182, 0, 183]
abbrev dktX2_deliver_2 : List UInt8 := dkwX2_deliver_2 ++ dktX2_deliver_3
def dkwX2_deliver_1 : List UInt8 := [25, 4, 182, 0, 114, 45, 180, 0, 175, 160, 0, 7, 4, 167, 0, 4, 3, 184, 0, 94, 25, 4]
abbrev dktX2_deliver_1 : List UInt8 := dkwX2_deliver_1 ++ dktX2_deliver_2
def dkwX2_deliver_0 : List UInt8 := [42, 27, 182, 0, 171, 78, 42, 28, 182, 0, 81, 58, 4, 25, 4, 178, 0, 145, 182, 0, 110, 153, 0, 19]
abbrev dktX2_deliver_0 : List UInt8 := dkwX2_deliver_0 ++ dktX2_deliver_1
theorem dksX2_deliver_0 : cX2_deliver.data.toList.drop 0 = dktX2_deliver_0 := by decide +kernel
theorem dksX2_deliver_1 : cX2_deliver.data.toList.drop 24 = dktX2_deliver_1 := dk_seg dksX2_deliver_0 24 rfl rfl
theorem dksX2_deliver_2 : cX2_deliver.data.toList.drop 46 = dktX2_deliver_2 := dk_seg dksX2_deliver_1 22 rfl rfl
theorem dksX2_deliver_3 : cX2_deliver.data.toList.drop 70 = dktX2_deliver_3 := dk_seg dksX2_deliver_2 24 rfl rfl
theorem dX2_deliver_0 : decode cX2_deliver 0 = .ok (.aload_n 0, 1) := dk_42 (dk_at dksX2_deliver_0 0 rfl rfl)
theorem dX2_deliver_1 : decode cX2_deliver 1 = .ok (.iload_n 1, 1) := dk_27 (dk_at dksX2_deliver_0 1 rfl rfl)
theorem dX2_deliver_2 : decode cX2_deliver 2 = .ok (.invokevirtual 171, 3) := dk_182 0 171 (dk_at dksX2_deliver_0 2 rfl rfl)
theorem dX2_deliver_5 : decode cX2_deliver 5 = .ok (.astore_n 3, 1) := dk_78 (dk_at dksX2_deliver_0 5 rfl rfl)
theorem dX2_deliver_6 : decode cX2_deliver 6 = .ok (.aload_n 0, 1) := dk_42 (dk_at dksX2_deliver_0 6 rfl rfl)
theorem dX2_deliver_7 : decode cX2_deliver 7 = .ok (.iload_n 2, 1) := dk_28 (dk_at dksX2_deliver_0 7 rfl rfl)
theorem dX2_deliver_8 : decode cX2_deliver 8 = .ok (.invokevirtual 81, 3) := dk_182 0 81 (dk_at dksX2_deliver_0 8 rfl rfl)
theorem dX2_deliver_11 : decode cX2_deliver 11 = .ok (.astore 4, 2) := dk_58 4 (dk_at dksX2_deliver_0 11 rfl rfl)
theorem dX2_deliver_13 : decode cX2_deliver 13 = .ok (.aload 4, 2) := dk_25 4 (dk_at dksX2_deliver_0 13 rfl rfl)
theorem dX2_deliver_15 : decode cX2_deliver 15 = .ok (.getstatic 145, 3) := dk_178 0 145 (dk_at dksX2_deliver_0 15 rfl rfl)
theorem dX2_deliver_18 : decode cX2_deliver 18 = .ok (.invokevirtual 110, 3) := dk_182 0 110 (dk_at dksX2_deliver_0 18 rfl rfl)
theorem dX2_deliver_21 : decode cX2_deliver 21 = .ok (.ifCond .eq 19, 3) := dk_153 0 19 (dk_at dksX2_deliver_0 21 rfl rfl)
theorem dX2_deliver_24 : decode cX2_deliver 24 = .ok (.aload 4, 2) := dk_25 4 (dk_at dksX2_deliver_1 0 rfl rfl)
theorem dX2_deliver_26 : decode cX2_deliver 26 = .ok (.invokevirtual 114, 3) := dk_182 0 114 (dk_at dksX2_deliver_1 2 rfl rfl)
theorem dX2_deliver_29 : decode cX2_deliver 29 = .ok (.aload_n 3, 1) := dk_45 (dk_at dksX2_deliver_1 5 rfl rfl)
theorem dX2_deliver_30 : decode cX2_deliver 30 = .ok (.getfield 175, 3) := dk_180 0 175 (dk_at dksX2_deliver_1 6 rfl rfl)
theorem dX2_deliver_33 : decode cX2_deliver 33 = .ok (.if_icmp .ne 7, 3) := dk_160 0 7 (dk_at dksX2_deliver_1 9 rfl rfl)
theorem dX2_deliver_36 : decode cX2_deliver 36 = .ok (.iconst 1, 1) := dk_4 (dk_at dksX2_deliver_1 12 rfl rfl)
theorem dX2_deliver_37 : decode cX2_deliver 37 = .ok (.goto 4, 3) := dk_167 0 4 (dk_at dksX2_deliver_1 13 rfl rfl)
theorem dX2_deliver_40 : decode cX2_deliver 40 = .ok (.iconst 0, 1) := dk_3 (dk_at dksX2_deliver_1 16 rfl rfl)
theorem dX2_deliver_41 : decode cX2_deliver 41 = .ok (.invokestatic 94, 3) := dk_184 0 94 (dk_at dksX2_deliver_1 17 rfl rfl)
theorem dX2_deliver_44 : decode cX2_deliver 44 = .ok (.aload 4, 2) := dk_25 4 (dk_at dksX2_deliver_1 20 rfl rfl)
theorem dX2_deliver_46 : decode cX2_deliver 46 = .ok (.getstatic 177, 3) := dk_178 0 177 (dk_at dksX2_deliver_2 0 rfl rfl)
theorem dX2_deliver_49 : decode cX2_deliver 49 = .ok (.putfield 126, 3) := dk_181 0 126 (dk_at dksX2_deliver_2 3 rfl rfl)
theorem dX2_deliver_52 : decode cX2_deliver 52 = .ok (.aload_n 0, 1) := dk_42 (dk_at dksX2_deliver_2 6 rfl rfl)
theorem dX2_deliver_53 : decode cX2_deliver 53 = .ok (.getfield 18, 3) := dk_180 0 18 (dk_at dksX2_deliver_2 7 rfl rfl)
theorem dX2_deliver_56 : decode cX2_deliver 56 = .ok (.aload_n 3, 1) := dk_45 (dk_at dksX2_deliver_2 10 rfl rfl)
theorem dX2_deliver_57 : decode cX2_deliver 57 = .ok (.invokevirtual 180, 3) := dk_182 0 180 (dk_at dksX2_deliver_2 11 rfl rfl)
theorem dX2_deliver_60 : decode cX2_deliver 60 = .ok (.istore 5, 2) := dk_54 5 (dk_at dksX2_deliver_2 14 rfl rfl)
theorem dX2_deliver_62 : decode cX2_deliver 62 = .ok (.aload_n 3, 1) := dk_45 (dk_at dksX2_deliver_2 16 rfl rfl)
theorem dX2_deliver_63 : decode cX2_deliver 63 = .ok (.aload_n 0, 1) := dk_42 (dk_at dksX2_deliver_2 17 rfl rfl)
theorem dX2_deliver_64 : decode cX2_deliver 64 = .ok (.getfield 60, 3) := dk_180 0 60 (dk_at dksX2_deliver_2 18 rfl rfl)
theorem dX2_deliver_67 : decode cX2_deliver 67 = .ok (.invokevirtual 183, 3) := dk_182 0 183 (dk_at dksX2_deliver_2 21 rfl rfl)
theorem dX2_deliver_70 : decode cX2_deliver 70 = .ok (.istore 6, 2) := dk_54 6 (dk_at dksX2_deliver_3 0 rfl rfl)
theorem dX2_deliver_72 : decode cX2_deliver 72 = .ok (.aload_n 0, 1) := dk_42 (dk_at dksX2_deliver_3 2 rfl rfl)
theorem dX2_deliver_73 : decode cX2_deliver 73 = .ok (.dup, 1) := dk_89 (dk_at dksX2_deliver_3 3 rfl rfl)
theorem dX2_deliver_74 : decode cX2_deliver 74 = .ok (.getfield 67, 3) := dk_180 0 67 (dk_at dksX2_deliver_3 4 rfl rfl)
theorem dX2_deliver_77 : decode cX2_deliver 77 = .ok (.iload 6, 2) := dk_21 6 (dk_at dksX2_deliver_3 7 rfl rfl)
theorem dX2_deliver_79 : decode cX2_deliver 79 = .ok (.i2l, 1) := dk_133 (dk_at dksX2_deliver_3 9 rfl rfl)
theorem dX2_deliver_80 : decode cX2_deliver 80 = .ok (.ladd, 1) := dk_97 (dk_at dksX2_deliver_3 10 rfl rfl)
theorem dX2_deliver_81 : decode cX2_deliver 81 = .ok (.putfield 67, 3) := dk_181 0 67 (dk_at dksX2_deliver_3 11 rfl rfl)
theorem dX2_deliver_84 : decode cX2_deliver 84 = .ok (.iload 6, 2) := dk_21 6 (dk_at dksX2_deliver_3 14 rfl rfl)
theorem dX2_deliver_86 : decode cX2_deliver 86 = .ok (.ireturn, 1) := dk_172 (dk_at dksX2_deliver_3 16 rfl rfl)
def dkwX2_order_2 : List UInt8 := [167, 255, 212, 187, 0, 91, 89, 183, 0, 93, 191]
abbrev dktX2_order_2 : List UInt8 := dkwX2_order_2 ++ []
def dkwX2_order_1 : List UInt8 := [180, 0, 88, 27, 160, 0, 15, 42, 180, 0, 18, 28, 182, 0, 41, 192, 0, 52, 176, 132, 2, 1]
abbrev dktX2_order_1 : List UInt8 := dkwX2_order_1 ++ dktX2_order_2
def dkwX2_order_0 : List UInt8 := [3, 61, 28, 42, 180, 0, 18, 182, 0, 35, 162, 0, 39, 42, 180, 0, 18, 28, 182, 0, 41, 192, 0, 52]
abbrev dktX2_order_0 : List UInt8 := dkwX2_order_0 ++ dktX2_order_1
theorem dksX2_order_0 : cX2_order.data.toList.drop 0 = dktX2_order_0 := by decide +kernel
theorem dksX2_order_1 : cX2_order.data.toList.drop 24 = dktX2_order_1 := dk_seg dksX2_order_0 24 rfl rfl
theorem dksX2_order_2 : cX2_order.data.toList.drop 46 = dktX2_order_2 := dk_seg dksX2_order_1 22 rfl rfl
theorem dX2_order_0 : decode cX2_order 0 = .ok (.iconst 0, 1) := dk_3 (dk_at dksX2_order_0 0 rfl rfl)
theorem dX2_order_1 : decode cX2_order 1 = .ok (.istore_n 2, 1) := dk_61 (dk_at dksX2_order_0 1 rfl rfl)
theorem dX2_order_2 : decode cX2_order 2 = .ok (.iload_n 2, 1) := dk_28 (dk_at dksX2_order_0 2 rfl rfl)
theorem dX2_order_3 : decode cX2_order 3 = .ok (.aload_n 0, 1) := dk_42 (dk_at dksX2_order_0 3 rfl rfl)
theorem dX2_order_4 : decode cX2_order 4 = .ok (.getfield 18, 3) := dk_180 0 18 (dk_at dksX2_order_0 4 rfl rfl)
theorem dX2_order_7 : decode cX2_order 7 = .ok (.invokevirtual 35, 3) := dk_182 0 35 (dk_at dksX2_order_0 7 rfl rfl)
theorem dX2_order_10 : decode cX2_order 10 = .ok (.if_icmp .ge 39, 3) := dk_162 0 39 (dk_at dksX2_order_0 10 rfl rfl)
theorem dX2_order_13 : decode cX2_order 13 = .ok (.aload_n 0, 1) := dk_42 (dk_at dksX2_order_0 13 rfl rfl)
theorem dX2_order_14 : decode cX2_order 14 = .ok (.getfield 18, 3) := dk_180 0 18 (dk_at dksX2_order_0 14 rfl rfl)
theorem dX2_order_17 : decode cX2_order 17 = .ok (.iload_n 2, 1) := dk_28 (dk_at dksX2_order_0 17 rfl rfl)
theorem dX2_order_18 : decode cX2_order 18 = .ok (.invokevirtual 41, 3) := dk_182 0 41 (dk_at dksX2_order_0 18 rfl rfl)
theorem dX2_order_21 : decode cX2_order 21 = .ok (.checkcast 52, 3) := dk_192 0 52 (dk_at dksX2_order_0 21 rfl rfl)
theorem dX2_order_24 : decode cX2_order 24 = .ok (.getfield 88, 3) := dk_180 0 88 (dk_at dksX2_order_1 0 rfl rfl)
theorem dX2_order_27 : decode cX2_order 27 = .ok (.iload_n 1, 1) := dk_27 (dk_at dksX2_order_1 3 rfl rfl)
theorem dX2_order_28 : decode cX2_order 28 = .ok (.if_icmp .ne 15, 3) := dk_160 0 15 (dk_at dksX2_order_1 4 rfl rfl)
theorem dX2_order_31 : decode cX2_order 31 = .ok (.aload_n 0, 1) := dk_42 (dk_at dksX2_order_1 7 rfl rfl)
theorem dX2_order_32 : decode cX2_order 32 = .ok (.getfield 18, 3) := dk_180 0 18 (dk_at dksX2_order_1 8 rfl rfl)
theorem dX2_order_35 : decode cX2_order 35 = .ok (.iload_n 2, 1) := dk_28 (dk_at dksX2_order_1 11 rfl rfl)
theorem dX2_order_36 : decode cX2_order 36 = .ok (.invokevirtual 41, 3) := dk_182 0 41 (dk_at dksX2_order_1 12 rfl rfl)
theorem dX2_order_39 : decode cX2_order 39 = .ok (.checkcast 52, 3) := dk_192 0 52 (dk_at dksX2_order_1 15 rfl rfl)
theorem dX2_order_42 : decode cX2_order 42 = .ok (.areturn, 1) := dk_176 (dk_at dksX2_order_1 18 rfl rfl)
theorem dX2_order_43 : decode cX2_order 43 = .ok (.iinc 2 1, 3) := dk_132 2 1 (dk_at dksX2_order_1 19 rfl rfl)
theorem dX2_order_46 : decode cX2_order 46 = .ok (.goto (-44), 3) := dk_167 255 212 (dk_at dksX2_order_2 0 rfl rfl)
theorem dX2_order_49 : decode cX2_order 49 = .ok (.new 91, 3) := dk_187 0 91 (dk_at dksX2_order_2 3 rfl rfl)
theorem dX2_order_52 : decode cX2_order 52 = .ok (.dup, 1) := dk_89 (dk_at dksX2_order_2 6 rfl rfl)
theorem dX2_order_53 : decode cX2_order 53 = .ok (.invokespecial 93, 3) := dk_183 0 93 (dk_at dksX2_order_2 7 rfl rfl)
theorem dX2_order_56 : decode cX2_order 56 = .ok (.athrow, 1) := dk_191 (dk_at dksX2_order_2 10 rfl rfl)
def tX2_init : pb_T := [(0, .aload_n 0, 1, 0), (1, .invokespecial 3, 4, 0), (4, .aload_n 0, 5, 0), (5, .new 9, 8, 0), (8, .dup, 9, 0), (9, .invokespecial 11, 12, 0), (12, .putfield 12, 15, 0), (15, .aload_n 0, 16, 0), (16, .new 9, 19, 0), (19, .dup, 20, 0), (20, .invokespecial 11, 23, 0), (23, .putfield 18, 26, 0), (26, .aload_n 0, 27, 0), (27, .bipush 12, 29, 0), (29, .newarray .int, 31, 0), (31, .putfield 21, 34, 0), (34, .aload_n 0, 35, 0), (35, .iconst 4, 36, 0), (36, .newarray .int, 38, 0), (38, .putfield 25, 41, 0), (41, .iconst 0, 42, 0), (42, .istore_n 1, 43, 0), (43, .iload_n 1, 44, 1), (44, .bipush 12, 46, 0), (46, .if_icmp .ge 25, 49, 71), (49, .aload_n 0, 50, 0), (50, .getfield 21, 53, 0), (53, .iload_n 1, 54, 0), (54, .iconst 4, 55, 0), (55, .iload_n 1, 56, 0), (56, .bipush 12, 58, 0), (58, .iload_n 1, 59, 0), (59, .isub, 60, 0), (60, .invokestatic 28, 63, 0), (63, .imul, 64, 0), (64, .iastore, 65, 0), (65, .iinc 1 1, 68, 0), (68, .goto (-25), 71, 43), (71, .iconst 0, 72, 0), (72, .istore_n 1, 73, 0), (73, .iload_n 1, 74, 1), (74, .iconst 4, 75, 0), (75, .if_icmp .ge 20, 78, 95), (78, .aload_n 0, 79, 0), (79, .getfield 25, 82, 0), (82, .iload_n 1, 83, 0), (83, .iconst 2, 84, 0), (84, .iload_n 1, 85, 0), (85, .iconst 1, 86, 0), (86, .iadd, 87, 0), (87, .imul, 88, 0), (88, .iastore, 89, 0), (89, .iinc 1 1, 92, 0), (92, .goto (-19), 95, 73), (95, .return_, 96, 0)]
theorem tX2_init_ok : pb_Tok cX2_init tX2_init := pb_Tok.cons dX2_init_0 rfl (pb_Tok.cons dX2_init_1 rfl (pb_Tok.cons dX2_init_4 rfl (pb_Tok.cons dX2_init_5 rfl (pb_Tok.cons dX2_init_8 rfl (pb_Tok.cons dX2_init_9 rfl (pb_Tok.cons dX2_init_12 rfl (pb_Tok.cons dX2_init_15 rfl (pb_Tok.cons dX2_init_16 rfl (pb_Tok.cons dX2_init_19 rfl (pb_Tok.cons dX2_init_20 rfl (pb_Tok.cons dX2_init_23 rfl (pb_Tok.cons dX2_init_26 rfl (pb_Tok.cons dX2_init_27 rfl (pb_Tok.cons dX2_init_29 rfl (pb_Tok.cons dX2_init_31 rfl (pb_Tok.cons dX2_init_34 rfl (pb_Tok.cons dX2_init_35 rfl (pb_Tok.cons dX2_init_36 rfl (pb_Tok.cons dX2_init_38 rfl (pb_Tok.cons dX2_init_41 rfl (pb_Tok.cons dX2_init_42 rfl (pb_Tok.cons dX2_init_43 rfl (pb_Tok.cons dX2_init_44 rfl (pb_Tok.cons dX2_init_46 rfl (pb_Tok.cons dX2_init_49 rfl (pb_Tok.cons dX2_init_50 rfl (pb_Tok.cons dX2_init_53 rfl (pb_Tok.cons dX2_init_54 rfl (pb_Tok.cons dX2_init_55 rfl (pb_Tok.cons dX2_init_56 rfl (pb_Tok.cons dX2_init_58 rfl (pb_Tok.cons dX2_init_59 rfl (pb_Tok.cons dX2_init_60 rfl (pb_Tok.cons dX2_init_63 rfl (pb_Tok.cons dX2_init_64 rfl (pb_Tok.cons dX2_init_65 rfl (pb_Tok.cons dX2_init_68 rfl (pb_Tok.cons dX2_init_71 rfl (pb_Tok.cons dX2_init_72 rfl (pb_Tok.cons dX2_init_73 rfl (pb_Tok.cons dX2_init_74 rfl (pb_Tok.cons dX2_init_75 rfl (pb_Tok.cons dX2_init_78 rfl (pb_Tok.cons dX2_init_79 rfl (pb_Tok.cons dX2_init_82 rfl (pb_Tok.cons dX2_init_83 rfl (pb_Tok.cons dX2_init_84 rfl (pb_Tok.cons dX2_init_85 rfl (pb_Tok.cons dX2_init_86 rfl (pb_Tok.cons dX2_init_87 rfl (pb_Tok.cons dX2_init_88 rfl (pb_Tok.cons dX2_init_89 rfl (pb_Tok.cons dX2_init_92 rfl (pb_Tok.cons dX2_init_95 rfl pb_Tok.nil))))))))))))))))))))))))))))))))))))))))))))))))))))))
def tX2_mostOnSlips : pb_T := [(0, .new 186, 3, 0), (3, .dup, 4, 0), (4, .aload_n 0, 5, 0), (5, .invokespecial 188, 8, 0), (8, .getfield 191, 11, 0), (11, .ireturn, 12, 0)]
theorem tX2_mostOnSlips_ok : pb_Tok cX2_mostOnSlips tX2_mostOnSlips := pb_Tok.cons dX2_mostOnSlips_0 rfl (pb_Tok.cons dX2_mostOnSlips_3 rfl (pb_Tok.cons dX2_mostOnSlips_4 rfl (pb_Tok.cons dX2_mostOnSlips_5 rfl (pb_Tok.cons dX2_mostOnSlips_8 rfl (pb_Tok.cons dX2_mostOnSlips_11 rfl pb_Tok.nil)))))
def tX2_fits : pb_T := [(0, .aload_n 0, 1, 0), (1, .getfield 12, 4, 0), (4, .iload_n 1, 5, 0), (5, .invokevirtual 41, 8, 0), (8, .checkcast 39, 11, 0), (11, .astore_n 3, 12, 0), (12, .aload_n 3, 13, 0), (13, .getstatic 104, 16, 0), (16, .invokevirtual 110, 19, 0), (19, .ifCond .eq 28, 22, 47), (22, .aload_n 3, 23, 0), (23, .invokevirtual 114, 26, 0), (26, .iconst 2, 27, 0), (27, .if_icmp .lt 20, 30, 47), (30, .aload_n 0, 31, 0), (31, .getfield 25, 34, 0), (34, .iload_n 2, 35, 0), (35, .iaload, 36, 0), (36, .aload_n 3, 37, 0), (37, .invokevirtual 114, 40, 0), (40, .if_icmp .lt 7, 43, 47), (43, .iconst 1, 44, 0), (44, .goto 4, 47, 48), (47, .iconst 0, 48, 0), (48, .ireturn, 49, 0)]
theorem tX2_fits_ok : pb_Tok cX2_fits tX2_fits := pb_Tok.cons dX2_fits_0 rfl (pb_Tok.cons dX2_fits_1 rfl (pb_Tok.cons dX2_fits_4 rfl (pb_Tok.cons dX2_fits_5 rfl (pb_Tok.cons dX2_fits_8 rfl (pb_Tok.cons dX2_fits_11 rfl (pb_Tok.cons dX2_fits_12 rfl (pb_Tok.cons dX2_fits_13 rfl (pb_Tok.cons dX2_fits_16 rfl (pb_Tok.cons dX2_fits_19 rfl (pb_Tok.cons dX2_fits_22 rfl (pb_Tok.cons dX2_fits_23 rfl (pb_Tok.cons dX2_fits_26 rfl (pb_Tok.cons dX2_fits_27 rfl (pb_Tok.cons dX2_fits_30 rfl (pb_Tok.cons dX2_fits_31 rfl (pb_Tok.cons dX2_fits_34 rfl (pb_Tok.cons dX2_fits_35 rfl (pb_Tok.cons dX2_fits_36 rfl (pb_Tok.cons dX2_fits_37 rfl (pb_Tok.cons dX2_fits_40 rfl (pb_Tok.cons dX2_fits_43 rfl (pb_Tok.cons dX2_fits_44 rfl (pb_Tok.cons dX2_fits_47 rfl (pb_Tok.cons dX2_fits_48 rfl pb_Tok.nil))))))))))))))))))))))))
def tX2_mostOnSlipsByLengths : pb_T := [(0, .iconst 4, 1, 0), (1, .newarray .boolean, 3, 0), (3, .astore_n 1, 4, 0), (4, .iconst 0, 5, 0), (5, .istore_n 2, 6, 0), (6, .iconst 2, 7, 0), (7, .istore_n 3, 8, 0), (8, .iload_n 3, 9, 1), (9, .bipush 8, 11, 0), (11, .if_icmp .gt 79, 14, 90), (14, .iconst 0, 15, 0), (15, .istore 4, 17, 0), (17, .iload 4, 19, 1), (19, .aload_n 0, 20, 0), (20, .getfield 12, 23, 0), (23, .invokevirtual 35, 26, 0), (26, .if_icmp .ge 58, 29, 84), (29, .aload_n 0, 30, 0), (30, .getfield 12, 33, 0), (33, .iload 4, 35, 0), (35, .invokevirtual 41, 38, 0), (38, .checkcast 39, 41, 0), (41, .invokevirtual 114, 44, 0), (44, .iload_n 3, 45, 0), (45, .if_icmp .ne 13, 48, 58), (48, .aload_n 0, 49, 0), (49, .iload 4, 51, 0), (51, .aload_n 1, 52, 0), (52, .invokevirtual 193, 55, 0), (55, .goto 4, 58, 59), (58, .iconst (-1), 59, 0), (59, .istore 5, 61, 0), (61, .iload 5, 63, 0), (63, .iconst (-1), 64, 0), (64, .if_icmp .ne 6, 67, 70), (67, .goto 11, 70, 78), (70, .aload_n 1, 71, 0), (71, .iload 5, 73, 0), (73, .iconst 1, 74, 0), (74, .bastore, 75, 0), (75, .iinc 2 1, 78, 0), (78, .iinc 4 1, 81, 0), (81, .goto (-64), 84, 17), (84, .iinc 3 1, 87, 0), (87, .goto (-79), 90, 8), (90, .iload_n 2, 91, 0), (91, .ireturn, 92, 0)]
theorem tX2_mostOnSlipsByLengths_ok : pb_Tok cX2_mostOnSlipsByLengths tX2_mostOnSlipsByLengths := pb_Tok.cons dX2_mostOnSlipsByLengths_0 rfl (pb_Tok.cons dX2_mostOnSlipsByLengths_1 rfl (pb_Tok.cons dX2_mostOnSlipsByLengths_3 rfl (pb_Tok.cons dX2_mostOnSlipsByLengths_4 rfl (pb_Tok.cons dX2_mostOnSlipsByLengths_5 rfl (pb_Tok.cons dX2_mostOnSlipsByLengths_6 rfl (pb_Tok.cons dX2_mostOnSlipsByLengths_7 rfl (pb_Tok.cons dX2_mostOnSlipsByLengths_8 rfl (pb_Tok.cons dX2_mostOnSlipsByLengths_9 rfl (pb_Tok.cons dX2_mostOnSlipsByLengths_11 rfl (pb_Tok.cons dX2_mostOnSlipsByLengths_14 rfl (pb_Tok.cons dX2_mostOnSlipsByLengths_15 rfl (pb_Tok.cons dX2_mostOnSlipsByLengths_17 rfl (pb_Tok.cons dX2_mostOnSlipsByLengths_19 rfl (pb_Tok.cons dX2_mostOnSlipsByLengths_20 rfl (pb_Tok.cons dX2_mostOnSlipsByLengths_23 rfl (pb_Tok.cons dX2_mostOnSlipsByLengths_26 rfl (pb_Tok.cons dX2_mostOnSlipsByLengths_29 rfl (pb_Tok.cons dX2_mostOnSlipsByLengths_30 rfl (pb_Tok.cons dX2_mostOnSlipsByLengths_33 rfl (pb_Tok.cons dX2_mostOnSlipsByLengths_35 rfl (pb_Tok.cons dX2_mostOnSlipsByLengths_38 rfl (pb_Tok.cons dX2_mostOnSlipsByLengths_41 rfl (pb_Tok.cons dX2_mostOnSlipsByLengths_44 rfl (pb_Tok.cons dX2_mostOnSlipsByLengths_45 rfl (pb_Tok.cons dX2_mostOnSlipsByLengths_48 rfl (pb_Tok.cons dX2_mostOnSlipsByLengths_49 rfl (pb_Tok.cons dX2_mostOnSlipsByLengths_51 rfl (pb_Tok.cons dX2_mostOnSlipsByLengths_52 rfl (pb_Tok.cons dX2_mostOnSlipsByLengths_55 rfl (pb_Tok.cons dX2_mostOnSlipsByLengths_58 rfl (pb_Tok.cons dX2_mostOnSlipsByLengths_59 rfl (pb_Tok.cons dX2_mostOnSlipsByLengths_61 rfl (pb_Tok.cons dX2_mostOnSlipsByLengths_63 rfl (pb_Tok.cons dX2_mostOnSlipsByLengths_64 rfl (pb_Tok.cons dX2_mostOnSlipsByLengths_67 rfl (pb_Tok.cons dX2_mostOnSlipsByLengths_70 rfl (pb_Tok.cons dX2_mostOnSlipsByLengths_71 rfl (pb_Tok.cons dX2_mostOnSlipsByLengths_73 rfl (pb_Tok.cons dX2_mostOnSlipsByLengths_74 rfl (pb_Tok.cons dX2_mostOnSlipsByLengths_75 rfl (pb_Tok.cons dX2_mostOnSlipsByLengths_78 rfl (pb_Tok.cons dX2_mostOnSlipsByLengths_81 rfl (pb_Tok.cons dX2_mostOnSlipsByLengths_84 rfl (pb_Tok.cons dX2_mostOnSlipsByLengths_87 rfl (pb_Tok.cons dX2_mostOnSlipsByLengths_90 rfl (pb_Tok.cons dX2_mostOnSlipsByLengths_91 rfl pb_Tok.nil))))))))))))))))))))))))))))))))))))))))))))))
def tX2_shortestFor : pb_T := [(0, .iconst (-1), 1, 0), (1, .istore_n 3, 2, 0), (2, .iconst 0, 3, 0), (3, .istore 4, 5, 0), (5, .iload 4, 7, 1), (7, .iconst 4, 8, 0), (8, .if_icmp .ge 53, 11, 61), (11, .aload_n 2, 12, 0), (12, .iload 4, 14, 0), (14, .baload, 15, 0), (15, .ifCond .ne 40, 18, 55), (18, .aload_n 0, 19, 0), (19, .iload_n 1, 20, 0), (20, .iload 4, 22, 0), (22, .invokevirtual 197, 25, 0), (25, .ifCond .ne 6, 28, 31), (28, .goto 27, 31, 55), (31, .iload_n 3, 32, 0), (32, .iconst (-1), 33, 0), (33, .if_icmp .eq 19, 36, 52), (36, .aload_n 0, 37, 0), (37, .getfield 25, 40, 0), (40, .iload 4, 42, 0), (42, .iaload, 43, 0), (43, .aload_n 0, 44, 0), (44, .getfield 25, 47, 0), (47, .iload_n 3, 48, 0), (48, .iaload, 49, 0), (49, .if_icmp .ge 6, 52, 55), (52, .iload 4, 54, 0), (54, .istore_n 3, 55, 0), (55, .iinc 4 1, 58, 0), (58, .goto (-53), 61, 5), (61, .iload_n 3, 62, 0), (62, .ireturn, 63, 0)]
theorem tX2_shortestFor_ok : pb_Tok cX2_shortestFor tX2_shortestFor := pb_Tok.cons dX2_shortestFor_0 rfl (pb_Tok.cons dX2_shortestFor_1 rfl (pb_Tok.cons dX2_shortestFor_2 rfl (pb_Tok.cons dX2_shortestFor_3 rfl (pb_Tok.cons dX2_shortestFor_5 rfl (pb_Tok.cons dX2_shortestFor_7 rfl (pb_Tok.cons dX2_shortestFor_8 rfl (pb_Tok.cons dX2_shortestFor_11 rfl (pb_Tok.cons dX2_shortestFor_12 rfl (pb_Tok.cons dX2_shortestFor_14 rfl (pb_Tok.cons dX2_shortestFor_15 rfl (pb_Tok.cons dX2_shortestFor_18 rfl (pb_Tok.cons dX2_shortestFor_19 rfl (pb_Tok.cons dX2_shortestFor_20 rfl (pb_Tok.cons dX2_shortestFor_22 rfl (pb_Tok.cons dX2_shortestFor_25 rfl (pb_Tok.cons dX2_shortestFor_28 rfl (pb_Tok.cons dX2_shortestFor_31 rfl (pb_Tok.cons dX2_shortestFor_32 rfl (pb_Tok.cons dX2_shortestFor_33 rfl (pb_Tok.cons dX2_shortestFor_36 rfl (pb_Tok.cons dX2_shortestFor_37 rfl (pb_Tok.cons dX2_shortestFor_40 rfl (pb_Tok.cons dX2_shortestFor_42 rfl (pb_Tok.cons dX2_shortestFor_43 rfl (pb_Tok.cons dX2_shortestFor_44 rfl (pb_Tok.cons dX2_shortestFor_47 rfl (pb_Tok.cons dX2_shortestFor_48 rfl (pb_Tok.cons dX2_shortestFor_49 rfl (pb_Tok.cons dX2_shortestFor_52 rfl (pb_Tok.cons dX2_shortestFor_54 rfl (pb_Tok.cons dX2_shortestFor_55 rfl (pb_Tok.cons dX2_shortestFor_58 rfl (pb_Tok.cons dX2_shortestFor_61 rfl (pb_Tok.cons dX2_shortestFor_62 rfl pb_Tok.nil))))))))))))))))))))))))))))))))))
def tX2_uses : pb_T := [(0, .iload_n 1, 1, 0), (1, .aload_n 0, 2, 0), (2, .getfield 12, 5, 0), (5, .invokevirtual 35, 8, 0), (8, .if_icmp .ne 13, 11, 21), (11, .iload_n 3, 12, 0), (12, .ifCond .ne 7, 15, 19), (15, .iconst 1, 16, 0), (16, .goto 4, 19, 20), (19, .iconst 0, 20, 0), (20, .ireturn, 21, 0), (21, .aload_n 0, 22, 0), (22, .iload_n 1, 23, 0), (23, .iconst 1, 24, 0), (24, .iadd, 25, 0), (25, .iload_n 2, 26, 0), (26, .iload_n 3, 27, 0), (27, .invokevirtual 201, 30, 0), (30, .istore 4, 32, 0), (32, .iconst 0, 33, 0), (33, .istore 5, 35, 0), (35, .iload 5, 37, 1), (37, .iconst 4, 38, 0), (38, .if_icmp .ge 53, 41, 91), (41, .iload_n 3, 42, 0), (42, .ifCond .le 49, 45, 91), (45, .iload_n 2, 46, 0), (46, .iload 5, 48, 0), (48, .ishr, 49, 0), (49, .iconst 1, 50, 0), (50, .iand, 51, 0), (51, .ifCond .ne 34, 54, 85), (54, .aload_n 0, 55, 0), (55, .iload_n 1, 56, 0), (56, .iload 5, 58, 0), (58, .invokevirtual 197, 61, 0), (61, .ifCond .eq 24, 64, 85), (64, .iload 4, 66, 0), (66, .aload_n 0, 67, 0), (67, .iload_n 1, 68, 0), (68, .iconst 1, 69, 0), (69, .iadd, 70, 0), (70, .iload_n 2, 71, 0), (71, .iconst 1, 72, 0), (72, .iload 5, 74, 0), (74, .ishl, 75, 0), (75, .ior, 76, 0), (76, .iload_n 3, 77, 0), (77, .iconst 1, 78, 0), (78, .isub, 79, 0), (79, .invokevirtual 201, 82, 0), (82, .iadd, 83, 0), (83, .istore 4, 85, 0), (85, .iinc 5 1, 88, 0), (88, .goto (-53), 91, 35), (91, .iload 4, 93, 0), (93, .ireturn, 94, 0)]
theorem tX2_uses_ok : pb_Tok cX2_uses tX2_uses := pb_Tok.cons dX2_uses_0 rfl (pb_Tok.cons dX2_uses_1 rfl (pb_Tok.cons dX2_uses_2 rfl (pb_Tok.cons dX2_uses_5 rfl (pb_Tok.cons dX2_uses_8 rfl (pb_Tok.cons dX2_uses_11 rfl (pb_Tok.cons dX2_uses_12 rfl (pb_Tok.cons dX2_uses_15 rfl (pb_Tok.cons dX2_uses_16 rfl (pb_Tok.cons dX2_uses_19 rfl (pb_Tok.cons dX2_uses_20 rfl (pb_Tok.cons dX2_uses_21 rfl (pb_Tok.cons dX2_uses_22 rfl (pb_Tok.cons dX2_uses_23 rfl (pb_Tok.cons dX2_uses_24 rfl (pb_Tok.cons dX2_uses_25 rfl (pb_Tok.cons dX2_uses_26 rfl (pb_Tok.cons dX2_uses_27 rfl (pb_Tok.cons dX2_uses_30 rfl (pb_Tok.cons dX2_uses_32 rfl (pb_Tok.cons dX2_uses_33 rfl (pb_Tok.cons dX2_uses_35 rfl (pb_Tok.cons dX2_uses_37 rfl (pb_Tok.cons dX2_uses_38 rfl (pb_Tok.cons dX2_uses_41 rfl (pb_Tok.cons dX2_uses_42 rfl (pb_Tok.cons dX2_uses_45 rfl (pb_Tok.cons dX2_uses_46 rfl (pb_Tok.cons dX2_uses_48 rfl (pb_Tok.cons dX2_uses_49 rfl (pb_Tok.cons dX2_uses_50 rfl (pb_Tok.cons dX2_uses_51 rfl (pb_Tok.cons dX2_uses_54 rfl (pb_Tok.cons dX2_uses_55 rfl (pb_Tok.cons dX2_uses_56 rfl (pb_Tok.cons dX2_uses_58 rfl (pb_Tok.cons dX2_uses_61 rfl (pb_Tok.cons dX2_uses_64 rfl (pb_Tok.cons dX2_uses_66 rfl (pb_Tok.cons dX2_uses_67 rfl (pb_Tok.cons dX2_uses_68 rfl (pb_Tok.cons dX2_uses_69 rfl (pb_Tok.cons dX2_uses_70 rfl (pb_Tok.cons dX2_uses_71 rfl (pb_Tok.cons dX2_uses_72 rfl (pb_Tok.cons dX2_uses_74 rfl (pb_Tok.cons dX2_uses_75 rfl (pb_Tok.cons dX2_uses_76 rfl (pb_Tok.cons dX2_uses_77 rfl (pb_Tok.cons dX2_uses_78 rfl (pb_Tok.cons dX2_uses_79 rfl (pb_Tok.cons dX2_uses_82 rfl (pb_Tok.cons dX2_uses_83 rfl (pb_Tok.cons dX2_uses_85 rfl (pb_Tok.cons dX2_uses_88 rfl (pb_Tok.cons dX2_uses_91 rfl (pb_Tok.cons dX2_uses_93 rfl pb_Tok.nil))))))))))))))))))))))))))))))))))))))))))))))))))))))))
def tX2_bestDelivery : pb_T := [(0, .iconst 0, 1, 0), (1, .istore_n 1, 2, 0), (2, .iconst 2, 3, 0), (3, .istore_n 2, 4, 0), (4, .iload_n 2, 5, 1), (5, .bipush 8, 7, 0), (7, .if_icmp .gt 46, 10, 53), (10, .aload_n 0, 11, 0), (11, .getfield 18, 14, 0), (14, .invokevirtual 35, 17, 0), (17, .newarray .boolean, 19, 0), (19, .astore_n 3, 20, 0), (20, .aload_n 0, 21, 0), (21, .iload_n 2, 22, 0), (22, .invokevirtual 205, 25, 0), (25, .istore 4, 27, 0), (27, .iload 4, 29, 1), (29, .ifCond .le 18, 32, 47), (32, .iload_n 1, 33, 0), (33, .aload_n 0, 34, 0), (34, .iload_n 2, 35, 0), (35, .aload_n 3, 36, 0), (36, .invokevirtual 208, 39, 0), (39, .iadd, 40, 0), (40, .istore_n 1, 41, 0), (41, .iinc 4 (-1), 44, 0), (44, .goto (-17), 47, 27), (47, .iinc 2 1, 50, 0), (50, .goto (-46), 53, 4), (53, .iload_n 1, 54, 0), (54, .ireturn, 55, 0)]
theorem tX2_bestDelivery_ok : pb_Tok cX2_bestDelivery tX2_bestDelivery := pb_Tok.cons dX2_bestDelivery_0 rfl (pb_Tok.cons dX2_bestDelivery_1 rfl (pb_Tok.cons dX2_bestDelivery_2 rfl (pb_Tok.cons dX2_bestDelivery_3 rfl (pb_Tok.cons dX2_bestDelivery_4 rfl (pb_Tok.cons dX2_bestDelivery_5 rfl (pb_Tok.cons dX2_bestDelivery_7 rfl (pb_Tok.cons dX2_bestDelivery_10 rfl (pb_Tok.cons dX2_bestDelivery_11 rfl (pb_Tok.cons dX2_bestDelivery_14 rfl (pb_Tok.cons dX2_bestDelivery_17 rfl (pb_Tok.cons dX2_bestDelivery_19 rfl (pb_Tok.cons dX2_bestDelivery_20 rfl (pb_Tok.cons dX2_bestDelivery_21 rfl (pb_Tok.cons dX2_bestDelivery_22 rfl (pb_Tok.cons dX2_bestDelivery_25 rfl (pb_Tok.cons dX2_bestDelivery_27 rfl (pb_Tok.cons dX2_bestDelivery_29 rfl (pb_Tok.cons dX2_bestDelivery_32 rfl (pb_Tok.cons dX2_bestDelivery_33 rfl (pb_Tok.cons dX2_bestDelivery_34 rfl (pb_Tok.cons dX2_bestDelivery_35 rfl (pb_Tok.cons dX2_bestDelivery_36 rfl (pb_Tok.cons dX2_bestDelivery_39 rfl (pb_Tok.cons dX2_bestDelivery_40 rfl (pb_Tok.cons dX2_bestDelivery_41 rfl (pb_Tok.cons dX2_bestDelivery_44 rfl (pb_Tok.cons dX2_bestDelivery_47 rfl (pb_Tok.cons dX2_bestDelivery_50 rfl (pb_Tok.cons dX2_bestDelivery_53 rfl (pb_Tok.cons dX2_bestDelivery_54 rfl pb_Tok.nil))))))))))))))))))))))))))))))
def tX2_afloatWith : pb_T := [(0, .iconst 0, 1, 0), (1, .istore_n 2, 2, 0), (2, .iconst 0, 3, 0), (3, .istore_n 3, 4, 0), (4, .iload_n 3, 5, 1), (5, .aload_n 0, 6, 0), (6, .getfield 12, 9, 0), (9, .invokevirtual 35, 12, 0), (12, .if_icmp .ge 55, 15, 67), (15, .iload_n 2, 16, 0), (16, .aload_n 0, 17, 0), (17, .getfield 12, 20, 0), (20, .iload_n 3, 21, 0), (21, .invokevirtual 41, 24, 0), (24, .checkcast 39, 27, 0), (27, .getstatic 145, 30, 0), (30, .invokevirtual 110, 33, 0), (33, .ifCond .eq 25, 36, 58), (36, .aload_n 0, 37, 0), (37, .getfield 12, 40, 0), (40, .iload_n 3, 41, 0), (41, .invokevirtual 41, 44, 0), (44, .checkcast 39, 47, 0), (47, .invokevirtual 114, 50, 0), (50, .iload_n 1, 51, 0), (51, .if_icmp .ne 7, 54, 58), (54, .iconst 1, 55, 0), (55, .goto 4, 58, 59), (58, .iconst 0, 59, 0), (59, .iadd, 60, 0), (60, .istore_n 2, 61, 0), (61, .iinc 3 1, 64, 0), (64, .goto (-60), 67, 4), (67, .iload_n 2, 68, 0), (68, .ireturn, 69, 0)]
theorem tX2_afloatWith_ok : pb_Tok cX2_afloatWith tX2_afloatWith := pb_Tok.cons dX2_afloatWith_0 rfl (pb_Tok.cons dX2_afloatWith_1 rfl (pb_Tok.cons dX2_afloatWith_2 rfl (pb_Tok.cons dX2_afloatWith_3 rfl (pb_Tok.cons dX2_afloatWith_4 rfl (pb_Tok.cons dX2_afloatWith_5 rfl (pb_Tok.cons dX2_afloatWith_6 rfl (pb_Tok.cons dX2_afloatWith_9 rfl (pb_Tok.cons dX2_afloatWith_12 rfl (pb_Tok.cons dX2_afloatWith_15 rfl (pb_Tok.cons dX2_afloatWith_16 rfl (pb_Tok.cons dX2_afloatWith_17 rfl (pb_Tok.cons dX2_afloatWith_20 rfl (pb_Tok.cons dX2_afloatWith_21 rfl (pb_Tok.cons dX2_afloatWith_24 rfl (pb_Tok.cons dX2_afloatWith_27 rfl (pb_Tok.cons dX2_afloatWith_30 rfl (pb_Tok.cons dX2_afloatWith_33 rfl (pb_Tok.cons dX2_afloatWith_36 rfl (pb_Tok.cons dX2_afloatWith_37 rfl (pb_Tok.cons dX2_afloatWith_40 rfl (pb_Tok.cons dX2_afloatWith_41 rfl (pb_Tok.cons dX2_afloatWith_44 rfl (pb_Tok.cons dX2_afloatWith_47 rfl (pb_Tok.cons dX2_afloatWith_50 rfl (pb_Tok.cons dX2_afloatWith_51 rfl (pb_Tok.cons dX2_afloatWith_54 rfl (pb_Tok.cons dX2_afloatWith_55 rfl (pb_Tok.cons dX2_afloatWith_58 rfl (pb_Tok.cons dX2_afloatWith_59 rfl (pb_Tok.cons dX2_afloatWith_60 rfl (pb_Tok.cons dX2_afloatWith_61 rfl (pb_Tok.cons dX2_afloatWith_64 rfl (pb_Tok.cons dX2_afloatWith_67 rfl (pb_Tok.cons dX2_afloatWith_68 rfl pb_Tok.nil))))))))))))))))))))))))))))))))))
def tX2_takeBest_0 : pb_T := [(0, .iconst (-1), 1, 0), (1, .istore_n 3, 2, 0), (2, .iconst 0, 3, 0), (3, .istore 4, 5, 0), (5, .iload 4, 7, 1), (7, .aload_n 0, 8, 0), (8, .getfield 18, 11, 0), (11, .invokevirtual 35, 14, 0), (14, .if_icmp .ge 86, 17, 100), (17, .aload_n 2, 18, 0), (18, .iload 4, 20, 0), (20, .baload, 21, 0), (21, .ifCond .ne 73, 24, 94), (24, .aload_n 0, 25, 0), (25, .getfield 18, 28, 0), (28, .iload 4, 30, 0), (30, .invokevirtual 41, 33, 0), (33, .checkcast 52, 36, 0), (36, .getfield 175, 39, 0), (39, .iload_n 1, 40, 0), (40, .if_icmp .eq 6, 43, 46), (43, .goto 51, 46, 94), (46, .iload_n 3, 47, 0), (47, .iconst (-1), 48, 0), (48, .if_icmp .eq 43, 51, 91), (51, .aload_n 0, 52, 0), (52, .getfield 18, 55, 0), (55, .iload 4, 57, 0), (57, .invokevirtual 41, 60, 0), (60, .checkcast 52, 63, 0), (63, .aload_n 0, 64, 0), (64, .getfield 60, 67, 0), (67, .invokevirtual 183, 70, 0), (70, .aload_n 0, 71, 0), (71, .getfield 18, 74, 0), (74, .iload_n 3, 75, 0), (75, .invokevirtual 41, 78, 0), (78, .checkcast 52, 81, 0), (81, .aload_n 0, 82, 0), (82, .getfield 60, 85, 0), (85, .invokevirtual 183, 88, 0), (88, .if_icmp .le 6, 91, 94), (91, .iload 4, 93, 0), (93, .istore_n 3, 94, 0), (94, .iinc 4 1, 97, 0), (97, .goto (-92), 100, 5), (100, .iload_n 3, 101, 0), (101, .iconst (-1), 102, 0), (102, .if_icmp .ne 5, 105, 107), (105, .iconst 0, 106, 0), (106, .ireturn, 107, 0), (107, .aload_n 2, 108, 0), (108, .iload_n 3, 109, 0), (109, .iconst 1, 110, 0), (110, .bastore, 111, 0), (111, .aload_n 0, 112, 0), (112, .getfield 18, 115, 0), (115, .iload_n 3, 116, 0), (116, .invokevirtual 41, 119, 0), (119, .checkcast 52, 122, 0)]
theorem tX2_takeBest_0_ok : pb_Tok cX2_takeBest tX2_takeBest_0 := pb_Tok.cons dX2_takeBest_0 rfl (pb_Tok.cons dX2_takeBest_1 rfl (pb_Tok.cons dX2_takeBest_2 rfl (pb_Tok.cons dX2_takeBest_3 rfl (pb_Tok.cons dX2_takeBest_5 rfl (pb_Tok.cons dX2_takeBest_7 rfl (pb_Tok.cons dX2_takeBest_8 rfl (pb_Tok.cons dX2_takeBest_11 rfl (pb_Tok.cons dX2_takeBest_14 rfl (pb_Tok.cons dX2_takeBest_17 rfl (pb_Tok.cons dX2_takeBest_18 rfl (pb_Tok.cons dX2_takeBest_20 rfl (pb_Tok.cons dX2_takeBest_21 rfl (pb_Tok.cons dX2_takeBest_24 rfl (pb_Tok.cons dX2_takeBest_25 rfl (pb_Tok.cons dX2_takeBest_28 rfl (pb_Tok.cons dX2_takeBest_30 rfl (pb_Tok.cons dX2_takeBest_33 rfl (pb_Tok.cons dX2_takeBest_36 rfl (pb_Tok.cons dX2_takeBest_39 rfl (pb_Tok.cons dX2_takeBest_40 rfl (pb_Tok.cons dX2_takeBest_43 rfl (pb_Tok.cons dX2_takeBest_46 rfl (pb_Tok.cons dX2_takeBest_47 rfl (pb_Tok.cons dX2_takeBest_48 rfl (pb_Tok.cons dX2_takeBest_51 rfl (pb_Tok.cons dX2_takeBest_52 rfl (pb_Tok.cons dX2_takeBest_55 rfl (pb_Tok.cons dX2_takeBest_57 rfl (pb_Tok.cons dX2_takeBest_60 rfl (pb_Tok.cons dX2_takeBest_63 rfl (pb_Tok.cons dX2_takeBest_64 rfl (pb_Tok.cons dX2_takeBest_67 rfl (pb_Tok.cons dX2_takeBest_70 rfl (pb_Tok.cons dX2_takeBest_71 rfl (pb_Tok.cons dX2_takeBest_74 rfl (pb_Tok.cons dX2_takeBest_75 rfl (pb_Tok.cons dX2_takeBest_78 rfl (pb_Tok.cons dX2_takeBest_81 rfl (pb_Tok.cons dX2_takeBest_82 rfl (pb_Tok.cons dX2_takeBest_85 rfl (pb_Tok.cons dX2_takeBest_88 rfl (pb_Tok.cons dX2_takeBest_91 rfl (pb_Tok.cons dX2_takeBest_93 rfl (pb_Tok.cons dX2_takeBest_94 rfl (pb_Tok.cons dX2_takeBest_97 rfl (pb_Tok.cons dX2_takeBest_100 rfl (pb_Tok.cons dX2_takeBest_101 rfl (pb_Tok.cons dX2_takeBest_102 rfl (pb_Tok.cons dX2_takeBest_105 rfl (pb_Tok.cons dX2_takeBest_106 rfl (pb_Tok.cons dX2_takeBest_107 rfl (pb_Tok.cons dX2_takeBest_108 rfl (pb_Tok.cons dX2_takeBest_109 rfl (pb_Tok.cons dX2_takeBest_110 rfl (pb_Tok.cons dX2_takeBest_111 rfl (pb_Tok.cons dX2_takeBest_112 rfl (pb_Tok.cons dX2_takeBest_115 rfl (pb_Tok.cons dX2_takeBest_116 rfl (pb_Tok.cons dX2_takeBest_119 rfl pb_Tok.nil)))))))))))))))))))))))))))))))))))))))))))))))))))))))))))
def tX2_takeBest_1 : pb_T := [(122, .aload_n 0, 123, 0), (123, .getfield 60, 126, 0), (126, .invokevirtual 183, 129, 0), (129, .ireturn, 130, 0)]
theorem tX2_takeBest_1_ok : pb_Tok cX2_takeBest tX2_takeBest_1 := pb_Tok.cons dX2_takeBest_122 rfl (pb_Tok.cons dX2_takeBest_123 rfl (pb_Tok.cons dX2_takeBest_126 rfl (pb_Tok.cons dX2_takeBest_129 rfl pb_Tok.nil)))
def tX2_takeBest : pb_T := tX2_takeBest_0 ++ (tX2_takeBest_1)
theorem tX2_takeBest_ok : pb_Tok cX2_takeBest tX2_takeBest := pb_Tok.app tX2_takeBest_0_ok (tX2_takeBest_1_ok)
def tX2_copy_0 : pb_T := [(0, .new 13, 3, 0), (3, .dup, 4, 0), (4, .invokespecial 34, 7, 0), (7, .astore_n 1, 8, 0), (8, .iconst 0, 9, 0), (9, .istore_n 2, 10, 0), (10, .iload_n 2, 11, 1), (11, .aload_n 0, 12, 0), (12, .getfield 12, 15, 0), (15, .invokevirtual 35, 18, 0), (18, .if_icmp .ge 35, 21, 53), (21, .aload_n 1, 22, 0), (22, .getfield 12, 25, 0), (25, .new 39, 28, 0), (28, .dup, 29, 0), (29, .aload_n 0, 30, 0), (30, .getfield 12, 33, 0), (33, .iload_n 2, 34, 0), (34, .invokevirtual 41, 37, 0), (37, .checkcast 39, 40, 0), (40, .invokespecial 45, 43, 0), (43, .invokevirtual 48, 46, 0), (46, .istore_n 3, 47, 0), (47, .iinc 2 1, 50, 0), (50, .goto (-40), 53, 10), (53, .iconst 0, 54, 0), (54, .istore_n 2, 55, 0), (55, .iload_n 2, 56, 1), (56, .aload_n 0, 57, 0), (57, .getfield 18, 60, 0), (60, .invokevirtual 35, 63, 0), (63, .if_icmp .ge 28, 66, 91), (66, .aload_n 1, 67, 0), (67, .getfield 18, 70, 0), (70, .aload_n 0, 71, 0), (71, .getfield 18, 74, 0), (74, .iload_n 2, 75, 0), (75, .invokevirtual 41, 78, 0), (78, .checkcast 52, 81, 0), (81, .invokevirtual 48, 84, 0), (84, .istore_n 3, 85, 0), (85, .iinc 2 1, 88, 0), (88, .goto (-33), 91, 55), (91, .aload_n 0, 92, 0), (92, .getfield 21, 95, 0), (95, .iconst 0, 96, 0), (96, .aload_n 1, 97, 0), (97, .getfield 21, 100, 0), (100, .iconst 0, 101, 0), (101, .bipush 12, 103, 0), (103, .invokestatic 54, 106, 0), (106, .aload_n 0, 107, 0), (107, .getfield 25, 110, 0), (110, .iconst 0, 111, 0), (111, .aload_n 1, 112, 0), (112, .getfield 25, 115, 0), (115, .iconst 0, 116, 0), (116, .iconst 4, 117, 0), (117, .invokestatic 54, 120, 0), (120, .aload_n 1, 121, 0)]
theorem tX2_copy_0_ok : pb_Tok cX2_copy tX2_copy_0 := pb_Tok.cons dX2_copy_0 rfl (pb_Tok.cons dX2_copy_3 rfl (pb_Tok.cons dX2_copy_4 rfl (pb_Tok.cons dX2_copy_7 rfl (pb_Tok.cons dX2_copy_8 rfl (pb_Tok.cons dX2_copy_9 rfl (pb_Tok.cons dX2_copy_10 rfl (pb_Tok.cons dX2_copy_11 rfl (pb_Tok.cons dX2_copy_12 rfl (pb_Tok.cons dX2_copy_15 rfl (pb_Tok.cons dX2_copy_18 rfl (pb_Tok.cons dX2_copy_21 rfl (pb_Tok.cons dX2_copy_22 rfl (pb_Tok.cons dX2_copy_25 rfl (pb_Tok.cons dX2_copy_28 rfl (pb_Tok.cons dX2_copy_29 rfl (pb_Tok.cons dX2_copy_30 rfl (pb_Tok.cons dX2_copy_33 rfl (pb_Tok.cons dX2_copy_34 rfl (pb_Tok.cons dX2_copy_37 rfl (pb_Tok.cons dX2_copy_40 rfl (pb_Tok.cons dX2_copy_43 rfl (pb_Tok.cons dX2_copy_46 rfl (pb_Tok.cons dX2_copy_47 rfl (pb_Tok.cons dX2_copy_50 rfl (pb_Tok.cons dX2_copy_53 rfl (pb_Tok.cons dX2_copy_54 rfl (pb_Tok.cons dX2_copy_55 rfl (pb_Tok.cons dX2_copy_56 rfl (pb_Tok.cons dX2_copy_57 rfl (pb_Tok.cons dX2_copy_60 rfl (pb_Tok.cons dX2_copy_63 rfl (pb_Tok.cons dX2_copy_66 rfl (pb_Tok.cons dX2_copy_67 rfl (pb_Tok.cons dX2_copy_70 rfl (pb_Tok.cons dX2_copy_71 rfl (pb_Tok.cons dX2_copy_74 rfl (pb_Tok.cons dX2_copy_75 rfl (pb_Tok.cons dX2_copy_78 rfl (pb_Tok.cons dX2_copy_81 rfl (pb_Tok.cons dX2_copy_84 rfl (pb_Tok.cons dX2_copy_85 rfl (pb_Tok.cons dX2_copy_88 rfl (pb_Tok.cons dX2_copy_91 rfl (pb_Tok.cons dX2_copy_92 rfl (pb_Tok.cons dX2_copy_95 rfl (pb_Tok.cons dX2_copy_96 rfl (pb_Tok.cons dX2_copy_97 rfl (pb_Tok.cons dX2_copy_100 rfl (pb_Tok.cons dX2_copy_101 rfl (pb_Tok.cons dX2_copy_103 rfl (pb_Tok.cons dX2_copy_106 rfl (pb_Tok.cons dX2_copy_107 rfl (pb_Tok.cons dX2_copy_110 rfl (pb_Tok.cons dX2_copy_111 rfl (pb_Tok.cons dX2_copy_112 rfl (pb_Tok.cons dX2_copy_115 rfl (pb_Tok.cons dX2_copy_116 rfl (pb_Tok.cons dX2_copy_117 rfl (pb_Tok.cons dX2_copy_120 rfl pb_Tok.nil)))))))))))))))))))))))))))))))))))))))))))))))))))))))))))
def tX2_copy_1 : pb_T := [(121, .aload_n 0, 122, 0), (122, .getfield 60, 125, 0), (125, .putfield 60, 128, 0), (128, .aload_n 1, 129, 0), (129, .aload_n 0, 130, 0), (130, .getfield 64, 133, 0), (133, .putfield 64, 136, 0), (136, .aload_n 1, 137, 0), (137, .aload_n 0, 138, 0), (138, .getfield 67, 141, 0), (141, .putfield 67, 144, 0), (144, .aload_n 1, 145, 0), (145, .areturn, 146, 0)]
theorem tX2_copy_1_ok : pb_Tok cX2_copy tX2_copy_1 := pb_Tok.cons dX2_copy_121 rfl (pb_Tok.cons dX2_copy_122 rfl (pb_Tok.cons dX2_copy_125 rfl (pb_Tok.cons dX2_copy_128 rfl (pb_Tok.cons dX2_copy_129 rfl (pb_Tok.cons dX2_copy_130 rfl (pb_Tok.cons dX2_copy_133 rfl (pb_Tok.cons dX2_copy_136 rfl (pb_Tok.cons dX2_copy_137 rfl (pb_Tok.cons dX2_copy_138 rfl (pb_Tok.cons dX2_copy_141 rfl (pb_Tok.cons dX2_copy_144 rfl (pb_Tok.cons dX2_copy_145 rfl pb_Tok.nil))))))))))))
def tX2_copy : pb_T := tX2_copy_0 ++ (tX2_copy_1)
theorem tX2_copy_ok : pb_Tok cX2_copy tX2_copy := pb_Tok.app tX2_copy_0_ok (tX2_copy_1_ok)
def tX2_beginHull : pb_T := [(0, .aload_n 0, 1, 0), (1, .getfield 12, 4, 0), (4, .invokevirtual 35, 7, 0), (7, .bipush 6, 9, 0), (9, .if_icmp .ge 7, 12, 16), (12, .iconst 1, 13, 0), (13, .goto 4, 16, 17), (16, .iconst 0, 17, 0), (17, .invokestatic 94, 20, 0), (20, .aload_n 0, 21, 0), (21, .getfield 12, 24, 0), (24, .new 39, 27, 0), (27, .dup, 28, 0), (28, .aload_n 0, 29, 0), (29, .getfield 12, 32, 0), (32, .invokevirtual 35, 35, 0), (35, .invokespecial 97, 38, 0), (38, .invokevirtual 48, 41, 0), (41, .istore_n 1, 42, 0), (42, .aload_n 0, 43, 0), (43, .getfield 12, 46, 0), (46, .invokevirtual 35, 49, 0), (49, .iconst 1, 50, 0), (50, .isub, 51, 0), (51, .ireturn, 52, 0)]
theorem tX2_beginHull_ok : pb_Tok cX2_beginHull tX2_beginHull := pb_Tok.cons dX2_beginHull_0 rfl (pb_Tok.cons dX2_beginHull_1 rfl (pb_Tok.cons dX2_beginHull_4 rfl (pb_Tok.cons dX2_beginHull_7 rfl (pb_Tok.cons dX2_beginHull_9 rfl (pb_Tok.cons dX2_beginHull_12 rfl (pb_Tok.cons dX2_beginHull_13 rfl (pb_Tok.cons dX2_beginHull_16 rfl (pb_Tok.cons dX2_beginHull_17 rfl (pb_Tok.cons dX2_beginHull_20 rfl (pb_Tok.cons dX2_beginHull_21 rfl (pb_Tok.cons dX2_beginHull_24 rfl (pb_Tok.cons dX2_beginHull_27 rfl (pb_Tok.cons dX2_beginHull_28 rfl (pb_Tok.cons dX2_beginHull_29 rfl (pb_Tok.cons dX2_beginHull_32 rfl (pb_Tok.cons dX2_beginHull_35 rfl (pb_Tok.cons dX2_beginHull_38 rfl (pb_Tok.cons dX2_beginHull_41 rfl (pb_Tok.cons dX2_beginHull_42 rfl (pb_Tok.cons dX2_beginHull_43 rfl (pb_Tok.cons dX2_beginHull_46 rfl (pb_Tok.cons dX2_beginHull_49 rfl (pb_Tok.cons dX2_beginHull_50 rfl (pb_Tok.cons dX2_beginHull_51 rfl pb_Tok.nil))))))))))))))))))))))))
def tX2_addFrame : pb_T := [(0, .aload_n 0, 1, 0), (1, .iload_n 1, 2, 0), (2, .invokevirtual 81, 5, 0), (5, .astore 4, 7, 0), (7, .iconst 2, 8, 0), (8, .newarray .boolean, 10, 0), (10, .dup, 11, 0), (11, .iconst 0, 12, 0), (12, .iload_n 2, 13, 0), (13, .iconst 1, 14, 0), (14, .bipush 30, 16, 0), (16, .invokestatic 71, 19, 0), (19, .bastore, 20, 0), (20, .dup, 21, 0), (21, .iconst 1, 22, 0), (22, .iload_n 3, 23, 0), (23, .iconst 1, 24, 0), (24, .bipush 30, 26, 0), (26, .invokestatic 71, 29, 0), (29, .bastore, 30, 0), (30, .invokestatic 100, 33, 0), (33, .aload 4, 35, 0), (35, .getstatic 104, 38, 0), (38, .invokevirtual 110, 41, 0), (41, .ifCond .eq 17, 44, 58), (44, .aload 4, 46, 0), (46, .invokevirtual 114, 49, 0), (49, .bipush 8, 51, 0), (51, .if_icmp .ge 7, 54, 58), (54, .iconst 1, 55, 0), (55, .goto 4, 58, 59), (58, .iconst 0, 59, 0), (59, .invokestatic 94, 62, 0), (62, .aload 4, 64, 0), (64, .getfield 115, 67, 0), (67, .new 118, 70, 0), (70, .dup, 71, 0), (71, .iload_n 2, 72, 0), (72, .iload_n 3, 73, 0), (73, .invokespecial 120, 76, 0), (76, .invokevirtual 48, 79, 0), (79, .istore 5, 81, 0), (81, .aload 4, 83, 0), (83, .invokevirtual 114, 86, 0), (86, .ireturn, 87, 0)]
theorem tX2_addFrame_ok : pb_Tok cX2_addFrame tX2_addFrame := pb_Tok.cons dX2_addFrame_0 rfl (pb_Tok.cons dX2_addFrame_1 rfl (pb_Tok.cons dX2_addFrame_2 rfl (pb_Tok.cons dX2_addFrame_5 rfl (pb_Tok.cons dX2_addFrame_7 rfl (pb_Tok.cons dX2_addFrame_8 rfl (pb_Tok.cons dX2_addFrame_10 rfl (pb_Tok.cons dX2_addFrame_11 rfl (pb_Tok.cons dX2_addFrame_12 rfl (pb_Tok.cons dX2_addFrame_13 rfl (pb_Tok.cons dX2_addFrame_14 rfl (pb_Tok.cons dX2_addFrame_16 rfl (pb_Tok.cons dX2_addFrame_19 rfl (pb_Tok.cons dX2_addFrame_20 rfl (pb_Tok.cons dX2_addFrame_21 rfl (pb_Tok.cons dX2_addFrame_22 rfl (pb_Tok.cons dX2_addFrame_23 rfl (pb_Tok.cons dX2_addFrame_24 rfl (pb_Tok.cons dX2_addFrame_26 rfl (pb_Tok.cons dX2_addFrame_29 rfl (pb_Tok.cons dX2_addFrame_30 rfl (pb_Tok.cons dX2_addFrame_33 rfl (pb_Tok.cons dX2_addFrame_35 rfl (pb_Tok.cons dX2_addFrame_38 rfl (pb_Tok.cons dX2_addFrame_41 rfl (pb_Tok.cons dX2_addFrame_44 rfl (pb_Tok.cons dX2_addFrame_46 rfl (pb_Tok.cons dX2_addFrame_49 rfl (pb_Tok.cons dX2_addFrame_51 rfl (pb_Tok.cons dX2_addFrame_54 rfl (pb_Tok.cons dX2_addFrame_55 rfl (pb_Tok.cons dX2_addFrame_58 rfl (pb_Tok.cons dX2_addFrame_59 rfl (pb_Tok.cons dX2_addFrame_62 rfl (pb_Tok.cons dX2_addFrame_64 rfl (pb_Tok.cons dX2_addFrame_67 rfl (pb_Tok.cons dX2_addFrame_70 rfl (pb_Tok.cons dX2_addFrame_71 rfl (pb_Tok.cons dX2_addFrame_72 rfl (pb_Tok.cons dX2_addFrame_73 rfl (pb_Tok.cons dX2_addFrame_76 rfl (pb_Tok.cons dX2_addFrame_79 rfl (pb_Tok.cons dX2_addFrame_81 rfl (pb_Tok.cons dX2_addFrame_83 rfl (pb_Tok.cons dX2_addFrame_86 rfl pb_Tok.nil))))))))))))))))))))))))))))))))))))))))))))
def tX2_hull : pb_T := [(0, .iload_n 1, 1, 0), (1, .iconst 0, 2, 0), (2, .aload_n 0, 3, 0), (3, .getfield 12, 6, 0), (6, .invokevirtual 35, 9, 0), (9, .iconst 1, 10, 0), (10, .isub, 11, 0), (11, .invokestatic 71, 14, 0), (14, .invokestatic 77, 17, 0), (17, .aload_n 0, 18, 0), (18, .getfield 12, 21, 0), (21, .iload_n 1, 22, 0), (22, .invokevirtual 41, 25, 0), (25, .checkcast 39, 28, 0), (28, .areturn, 29, 0)]
theorem tX2_hull_ok : pb_Tok cX2_hull tX2_hull := pb_Tok.cons dX2_hull_0 rfl (pb_Tok.cons dX2_hull_1 rfl (pb_Tok.cons dX2_hull_2 rfl (pb_Tok.cons dX2_hull_3 rfl (pb_Tok.cons dX2_hull_6 rfl (pb_Tok.cons dX2_hull_9 rfl (pb_Tok.cons dX2_hull_10 rfl (pb_Tok.cons dX2_hull_11 rfl (pb_Tok.cons dX2_hull_14 rfl (pb_Tok.cons dX2_hull_17 rfl (pb_Tok.cons dX2_hull_18 rfl (pb_Tok.cons dX2_hull_21 rfl (pb_Tok.cons dX2_hull_22 rfl (pb_Tok.cons dX2_hull_25 rfl (pb_Tok.cons dX2_hull_28 rfl pb_Tok.nil))))))))))))))
def tX2_mirror : pb_T := [(0, .aload_n 0, 1, 0), (1, .iload_n 1, 2, 0), (2, .invokevirtual 81, 5, 0), (5, .astore_n 2, 6, 0), (6, .aload_n 2, 7, 0), (7, .getstatic 104, 10, 0), (10, .invokevirtual 110, 13, 0), (13, .invokestatic 94, 16, 0), (16, .aload_n 2, 17, 0), (17, .invokevirtual 123, 20, 0), (20, .ireturn, 21, 0)]
theorem tX2_mirror_ok : pb_Tok cX2_mirror tX2_mirror := pb_Tok.cons dX2_mirror_0 rfl (pb_Tok.cons dX2_mirror_1 rfl (pb_Tok.cons dX2_mirror_2 rfl (pb_Tok.cons dX2_mirror_5 rfl (pb_Tok.cons dX2_mirror_6 rfl (pb_Tok.cons dX2_mirror_7 rfl (pb_Tok.cons dX2_mirror_10 rfl (pb_Tok.cons dX2_mirror_13 rfl (pb_Tok.cons dX2_mirror_16 rfl (pb_Tok.cons dX2_mirror_17 rfl (pb_Tok.cons dX2_mirror_20 rfl pb_Tok.nil))))))))))
def tX2_setCargo : pb_T := [(0, .aload_n 0, 1, 0), (1, .iload_n 1, 2, 0), (2, .invokevirtual 81, 5, 0), (5, .astore_n 3, 6, 0), (6, .iconst 1, 7, 0), (7, .newarray .boolean, 9, 0), (9, .dup, 10, 0), (10, .iconst 0, 11, 0), (11, .iload_n 2, 12, 0), (12, .iconst 0, 13, 0), (13, .sipush 999, 16, 0), (16, .invokestatic 71, 19, 0), (19, .bastore, 20, 0), (20, .invokestatic 100, 23, 0), (23, .aload_n 3, 24, 0), (24, .getfield 126, 27, 0), (27, .invokevirtual 128, 30, 0), (30, .invokestatic 94, 33, 0), (33, .aload_n 3, 34, 0), (34, .getfield 132, 37, 0), (37, .istore 4, 39, 0), (39, .aload_n 3, 40, 0), (40, .iload_n 2, 41, 0), (41, .putfield 132, 44, 0), (44, .iload 4, 46, 0), (46, .ireturn, 47, 0)]
theorem tX2_setCargo_ok : pb_Tok cX2_setCargo tX2_setCargo := pb_Tok.cons dX2_setCargo_0 rfl (pb_Tok.cons dX2_setCargo_1 rfl (pb_Tok.cons dX2_setCargo_2 rfl (pb_Tok.cons dX2_setCargo_5 rfl (pb_Tok.cons dX2_setCargo_6 rfl (pb_Tok.cons dX2_setCargo_7 rfl (pb_Tok.cons dX2_setCargo_9 rfl (pb_Tok.cons dX2_setCargo_10 rfl (pb_Tok.cons dX2_setCargo_11 rfl (pb_Tok.cons dX2_setCargo_12 rfl (pb_Tok.cons dX2_setCargo_13 rfl (pb_Tok.cons dX2_setCargo_16 rfl (pb_Tok.cons dX2_setCargo_19 rfl (pb_Tok.cons dX2_setCargo_20 rfl (pb_Tok.cons dX2_setCargo_23 rfl (pb_Tok.cons dX2_setCargo_24 rfl (pb_Tok.cons dX2_setCargo_27 rfl (pb_Tok.cons dX2_setCargo_30 rfl (pb_Tok.cons dX2_setCargo_33 rfl (pb_Tok.cons dX2_setCargo_34 rfl (pb_Tok.cons dX2_setCargo_37 rfl (pb_Tok.cons dX2_setCargo_39 rfl (pb_Tok.cons dX2_setCargo_40 rfl (pb_Tok.cons dX2_setCargo_41 rfl (pb_Tok.cons dX2_setCargo_44 rfl (pb_Tok.cons dX2_setCargo_46 rfl pb_Tok.nil)))))))))))))))))))))))))
def tX2_launch : pb_T := [(0, .aload_n 0, 1, 0), (1, .iload_n 1, 2, 0), (2, .invokevirtual 81, 5, 0), (5, .astore_n 2, 6, 0), (6, .aload_n 2, 7, 0), (7, .getstatic 104, 10, 0), (10, .invokevirtual 110, 13, 0), (13, .invokestatic 94, 16, 0), (16, .aload_n 2, 17, 0), (17, .invokevirtual 114, 20, 0), (20, .iconst 2, 21, 0), (21, .if_icmp .ge 12, 24, 33), (24, .new 135, 27, 0), (27, .dup, 28, 0), (28, .iconst 1, 29, 0), (29, .invokespecial 137, 32, 0), (32, .athrow, 33, 0), (33, .aload_n 2, 34, 0), (34, .invokevirtual 138, 37, 0), (37, .istore_n 3, 38, 0), (38, .iload_n 3, 39, 0), (39, .iconst (-1), 40, 0), (40, .if_icmp .ne 12, 43, 52), (43, .new 135, 46, 0), (46, .dup, 47, 0), (47, .iconst 2, 48, 0), (48, .invokespecial 137, 51, 0), (51, .athrow, 52, 0), (52, .iload_n 3, 53, 0), (53, .aload_n 0, 54, 0), (54, .aload_n 0, 55, 0), (55, .getfield 60, 58, 0), (58, .invokevirtual 141, 61, 0), (61, .if_icmp .le 12, 64, 73), (64, .new 135, 67, 0), (67, .dup, 68, 0), (68, .iconst 3, 69, 0), (69, .invokespecial 137, 72, 0), (72, .athrow, 73, 0), (73, .aload_n 2, 74, 0), (74, .getstatic 145, 77, 0), (77, .putfield 126, 80, 0), (80, .iload_n 3, 81, 0), (81, .ireturn, 82, 0)]
theorem tX2_launch_ok : pb_Tok cX2_launch tX2_launch := pb_Tok.cons dX2_launch_0 rfl (pb_Tok.cons dX2_launch_1 rfl (pb_Tok.cons dX2_launch_2 rfl (pb_Tok.cons dX2_launch_5 rfl (pb_Tok.cons dX2_launch_6 rfl (pb_Tok.cons dX2_launch_7 rfl (pb_Tok.cons dX2_launch_10 rfl (pb_Tok.cons dX2_launch_13 rfl (pb_Tok.cons dX2_launch_16 rfl (pb_Tok.cons dX2_launch_17 rfl (pb_Tok.cons dX2_launch_20 rfl (pb_Tok.cons dX2_launch_21 rfl (pb_Tok.cons dX2_launch_24 rfl (pb_Tok.cons dX2_launch_27 rfl (pb_Tok.cons dX2_launch_28 rfl (pb_Tok.cons dX2_launch_29 rfl (pb_Tok.cons dX2_launch_32 rfl (pb_Tok.cons dX2_launch_33 rfl (pb_Tok.cons dX2_launch_34 rfl (pb_Tok.cons dX2_launch_37 rfl (pb_Tok.cons dX2_launch_38 rfl (pb_Tok.cons dX2_launch_39 rfl (pb_Tok.cons dX2_launch_40 rfl (pb_Tok.cons dX2_launch_43 rfl (pb_Tok.cons dX2_launch_46 rfl (pb_Tok.cons dX2_launch_47 rfl (pb_Tok.cons dX2_launch_48 rfl (pb_Tok.cons dX2_launch_51 rfl (pb_Tok.cons dX2_launch_52 rfl (pb_Tok.cons dX2_launch_53 rfl (pb_Tok.cons dX2_launch_54 rfl (pb_Tok.cons dX2_launch_55 rfl (pb_Tok.cons dX2_launch_58 rfl (pb_Tok.cons dX2_launch_61 rfl (pb_Tok.cons dX2_launch_64 rfl (pb_Tok.cons dX2_launch_67 rfl (pb_Tok.cons dX2_launch_68 rfl (pb_Tok.cons dX2_launch_69 rfl (pb_Tok.cons dX2_launch_72 rfl (pb_Tok.cons dX2_launch_73 rfl (pb_Tok.cons dX2_launch_74 rfl (pb_Tok.cons dX2_launch_77 rfl (pb_Tok.cons dX2_launch_80 rfl (pb_Tok.cons dX2_launch_81 rfl pb_Tok.nil)))))))))))))))))))))))))))))))))))))))))))
def tX2_tide : pb_T := [(0, .aload_n 0, 1, 0), (1, .getfield 21, 4, 0), (4, .iload_n 1, 5, 0), (5, .bipush 12, 7, 0), (7, .irem, 8, 0), (8, .iaload, 9, 0), (9, .ireturn, 10, 0)]
theorem tX2_tide_ok : pb_Tok cX2_tide tX2_tide := pb_Tok.cons dX2_tide_0 rfl (pb_Tok.cons dX2_tide_1 rfl (pb_Tok.cons dX2_tide_4 rfl (pb_Tok.cons dX2_tide_5 rfl (pb_Tok.cons dX2_tide_7 rfl (pb_Tok.cons dX2_tide_8 rfl (pb_Tok.cons dX2_tide_9 rfl pb_Tok.nil))))))
def tX2_caulk : pb_T := [(0, .aload_n 0, 1, 0), (1, .iload_n 1, 2, 0), (2, .iload_n 2, 3, 0), (3, .invokevirtual 148, 6, 0), (6, .astore_n 3, 7, 0), (7, .aload_n 3, 8, 0), (8, .getfield 126, 11, 0), (11, .invokevirtual 128, 14, 0), (14, .invokestatic 94, 17, 0), (17, .aload_n 3, 18, 0), (18, .getfield 152, 21, 0), (21, .iload_n 2, 22, 0), (22, .iaload, 23, 0), (23, .istore 4, 25, 0), (25, .aload_n 3, 26, 0), (26, .getfield 152, 29, 0), (29, .iload_n 2, 30, 0), (30, .bipush 9, 32, 0), (32, .iastore, 33, 0), (33, .iload 4, 35, 0), (35, .ireturn, 36, 0)]
theorem tX2_caulk_ok : pb_Tok cX2_caulk tX2_caulk := pb_Tok.cons dX2_caulk_0 rfl (pb_Tok.cons dX2_caulk_1 rfl (pb_Tok.cons dX2_caulk_2 rfl (pb_Tok.cons dX2_caulk_3 rfl (pb_Tok.cons dX2_caulk_6 rfl (pb_Tok.cons dX2_caulk_7 rfl (pb_Tok.cons dX2_caulk_8 rfl (pb_Tok.cons dX2_caulk_11 rfl (pb_Tok.cons dX2_caulk_14 rfl (pb_Tok.cons dX2_caulk_17 rfl (pb_Tok.cons dX2_caulk_18 rfl (pb_Tok.cons dX2_caulk_21 rfl (pb_Tok.cons dX2_caulk_22 rfl (pb_Tok.cons dX2_caulk_23 rfl (pb_Tok.cons dX2_caulk_25 rfl (pb_Tok.cons dX2_caulk_26 rfl (pb_Tok.cons dX2_caulk_29 rfl (pb_Tok.cons dX2_caulk_30 rfl (pb_Tok.cons dX2_caulk_32 rfl (pb_Tok.cons dX2_caulk_33 rfl (pb_Tok.cons dX2_caulk_35 rfl pb_Tok.nil))))))))))))))))))))
def tX2_hullWithSeam : pb_T := [(0, .aload_n 0, 1, 0), (1, .iload_n 1, 2, 0), (2, .invokevirtual 81, 5, 0), (5, .astore_n 3, 6, 0), (6, .iload_n 2, 7, 0), (7, .iconst 0, 8, 0), (8, .aload_n 3, 9, 0), (9, .invokevirtual 85, 12, 0), (12, .iconst 1, 13, 0), (13, .isub, 14, 0), (14, .invokestatic 71, 17, 0), (17, .invokestatic 77, 20, 0), (20, .aload_n 3, 21, 0), (21, .areturn, 22, 0)]
theorem tX2_hullWithSeam_ok : pb_Tok cX2_hullWithSeam tX2_hullWithSeam := pb_Tok.cons dX2_hullWithSeam_0 rfl (pb_Tok.cons dX2_hullWithSeam_1 rfl (pb_Tok.cons dX2_hullWithSeam_2 rfl (pb_Tok.cons dX2_hullWithSeam_5 rfl (pb_Tok.cons dX2_hullWithSeam_6 rfl (pb_Tok.cons dX2_hullWithSeam_7 rfl (pb_Tok.cons dX2_hullWithSeam_8 rfl (pb_Tok.cons dX2_hullWithSeam_9 rfl (pb_Tok.cons dX2_hullWithSeam_12 rfl (pb_Tok.cons dX2_hullWithSeam_13 rfl (pb_Tok.cons dX2_hullWithSeam_14 rfl (pb_Tok.cons dX2_hullWithSeam_17 rfl (pb_Tok.cons dX2_hullWithSeam_20 rfl (pb_Tok.cons dX2_hullWithSeam_21 rfl pb_Tok.nil)))))))))))))
def tX2_pump : pb_T := [(0, .aload_n 0, 1, 0), (1, .iload_n 1, 2, 0), (2, .invokevirtual 81, 5, 0), (5, .astore_n 3, 6, 0), (6, .iconst 1, 7, 0), (7, .newarray .boolean, 9, 0), (9, .dup, 10, 0), (10, .iconst 0, 11, 0), (11, .iload_n 2, 12, 0), (12, .iconst 1, 13, 0), (13, .sipush 999, 16, 0), (16, .invokestatic 71, 19, 0), (19, .bastore, 20, 0), (20, .invokestatic 100, 23, 0), (23, .aload_n 3, 24, 0), (24, .getstatic 145, 27, 0), (27, .invokevirtual 110, 30, 0), (30, .invokestatic 94, 33, 0), (33, .aload_n 3, 34, 0), (34, .iconst 0, 35, 0), (35, .aload_n 3, 36, 0), (36, .getfield 155, 39, 0), (39, .iload_n 2, 40, 0), (40, .isub, 41, 0), (41, .invokestatic 158, 44, 0), (44, .putfield 155, 47, 0), (47, .aload_n 3, 48, 0), (48, .getfield 155, 51, 0), (51, .ireturn, 52, 0)]
theorem tX2_pump_ok : pb_Tok cX2_pump tX2_pump := pb_Tok.cons dX2_pump_0 rfl (pb_Tok.cons dX2_pump_1 rfl (pb_Tok.cons dX2_pump_2 rfl (pb_Tok.cons dX2_pump_5 rfl (pb_Tok.cons dX2_pump_6 rfl (pb_Tok.cons dX2_pump_7 rfl (pb_Tok.cons dX2_pump_9 rfl (pb_Tok.cons dX2_pump_10 rfl (pb_Tok.cons dX2_pump_11 rfl (pb_Tok.cons dX2_pump_12 rfl (pb_Tok.cons dX2_pump_13 rfl (pb_Tok.cons dX2_pump_16 rfl (pb_Tok.cons dX2_pump_19 rfl (pb_Tok.cons dX2_pump_20 rfl (pb_Tok.cons dX2_pump_23 rfl (pb_Tok.cons dX2_pump_24 rfl (pb_Tok.cons dX2_pump_27 rfl (pb_Tok.cons dX2_pump_30 rfl (pb_Tok.cons dX2_pump_33 rfl (pb_Tok.cons dX2_pump_34 rfl (pb_Tok.cons dX2_pump_35 rfl (pb_Tok.cons dX2_pump_36 rfl (pb_Tok.cons dX2_pump_39 rfl (pb_Tok.cons dX2_pump_40 rfl (pb_Tok.cons dX2_pump_41 rfl (pb_Tok.cons dX2_pump_44 rfl (pb_Tok.cons dX2_pump_47 rfl (pb_Tok.cons dX2_pump_48 rfl (pb_Tok.cons dX2_pump_51 rfl pb_Tok.nil))))))))))))))))))))))))))))
def tX2_pass : pb_T := [(0, .iconst 1, 1, 0), (1, .newarray .boolean, 3, 0), (3, .dup, 4, 0), (4, .iconst 0, 5, 0), (5, .iload_n 1, 6, 0), (6, .iconst 1, 7, 0), (7, .bipush 99, 9, 0), (9, .invokestatic 71, 12, 0), (12, .bastore, 13, 0), (13, .invokestatic 100, 16, 0), (16, .iconst 0, 17, 0), (17, .istore_n 2, 18, 0), (18, .iconst 0, 19, 0), (19, .istore_n 3, 20, 0), (20, .iload_n 3, 21, 1), (21, .iload_n 1, 22, 0), (22, .if_icmp .ge 16, 25, 38), (25, .iload_n 2, 26, 0), (26, .aload_n 0, 27, 0), (27, .invokevirtual 165, 30, 0), (30, .iadd, 31, 0), (31, .istore_n 2, 32, 0), (32, .iinc 3 1, 35, 0), (35, .goto (-15), 38, 20), (38, .iload_n 2, 39, 0), (39, .ireturn, 40, 0)]
theorem tX2_pass_ok : pb_Tok cX2_pass tX2_pass := pb_Tok.cons dX2_pass_0 rfl (pb_Tok.cons dX2_pass_1 rfl (pb_Tok.cons dX2_pass_3 rfl (pb_Tok.cons dX2_pass_4 rfl (pb_Tok.cons dX2_pass_5 rfl (pb_Tok.cons dX2_pass_6 rfl (pb_Tok.cons dX2_pass_7 rfl (pb_Tok.cons dX2_pass_9 rfl (pb_Tok.cons dX2_pass_12 rfl (pb_Tok.cons dX2_pass_13 rfl (pb_Tok.cons dX2_pass_16 rfl (pb_Tok.cons dX2_pass_17 rfl (pb_Tok.cons dX2_pass_18 rfl (pb_Tok.cons dX2_pass_19 rfl (pb_Tok.cons dX2_pass_20 rfl (pb_Tok.cons dX2_pass_21 rfl (pb_Tok.cons dX2_pass_22 rfl (pb_Tok.cons dX2_pass_25 rfl (pb_Tok.cons dX2_pass_26 rfl (pb_Tok.cons dX2_pass_27 rfl (pb_Tok.cons dX2_pass_30 rfl (pb_Tok.cons dX2_pass_31 rfl (pb_Tok.cons dX2_pass_32 rfl (pb_Tok.cons dX2_pass_35 rfl (pb_Tok.cons dX2_pass_38 rfl (pb_Tok.cons dX2_pass_39 rfl pb_Tok.nil)))))))))))))))))))))))))
def tX2_passHour : pb_T := [(0, .iconst 0, 1, 0), (1, .istore_n 1, 2, 0), (2, .aload_n 0, 3, 0), (3, .dup, 4, 0), (4, .getfield 60, 7, 0), (7, .iconst 1, 8, 0), (8, .iadd, 9, 0), (9, .putfield 60, 12, 0), (12, .iconst 0, 13, 0), (13, .istore_n 2, 14, 0), (14, .iload_n 2, 15, 1), (15, .aload_n 0, 16, 0), (16, .getfield 12, 19, 0), (19, .invokevirtual 35, 22, 0), (22, .if_icmp .ge 38, 25, 60), (25, .iload_n 1, 26, 0), (26, .aload_n 0, 27, 0), (27, .getfield 12, 30, 0), (30, .iload_n 2, 31, 0), (31, .invokevirtual 41, 34, 0), (34, .checkcast 39, 37, 0), (37, .aload_n 0, 38, 0), (38, .getfield 60, 41, 0), (41, .invokevirtual 161, 44, 0), (44, .ifCond .eq 7, 47, 51), (47, .iconst 1, 48, 0), (48, .goto 4, 51, 52), (51, .iconst 0, 52, 0), (52, .iadd, 53, 0), (53, .istore_n 1, 54, 0), (54, .iinc 2 1, 57, 0), (57, .goto (-43), 60, 14), (60, .iload_n 1, 61, 0), (61, .ireturn, 62, 0)]
theorem tX2_passHour_ok : pb_Tok cX2_passHour tX2_passHour := pb_Tok.cons dX2_passHour_0 rfl (pb_Tok.cons dX2_passHour_1 rfl (pb_Tok.cons dX2_passHour_2 rfl (pb_Tok.cons dX2_passHour_3 rfl (pb_Tok.cons dX2_passHour_4 rfl (pb_Tok.cons dX2_passHour_7 rfl (pb_Tok.cons dX2_passHour_8 rfl (pb_Tok.cons dX2_passHour_9 rfl (pb_Tok.cons dX2_passHour_12 rfl (pb_Tok.cons dX2_passHour_13 rfl (pb_Tok.cons dX2_passHour_14 rfl (pb_Tok.cons dX2_passHour_15 rfl (pb_Tok.cons dX2_passHour_16 rfl (pb_Tok.cons dX2_passHour_19 rfl (pb_Tok.cons dX2_passHour_22 rfl (pb_Tok.cons dX2_passHour_25 rfl (pb_Tok.cons dX2_passHour_26 rfl (pb_Tok.cons dX2_passHour_27 rfl (pb_Tok.cons dX2_passHour_30 rfl (pb_Tok.cons dX2_passHour_31 rfl (pb_Tok.cons dX2_passHour_34 rfl (pb_Tok.cons dX2_passHour_37 rfl (pb_Tok.cons dX2_passHour_38 rfl (pb_Tok.cons dX2_passHour_41 rfl (pb_Tok.cons dX2_passHour_44 rfl (pb_Tok.cons dX2_passHour_47 rfl (pb_Tok.cons dX2_passHour_48 rfl (pb_Tok.cons dX2_passHour_51 rfl (pb_Tok.cons dX2_passHour_52 rfl (pb_Tok.cons dX2_passHour_53 rfl (pb_Tok.cons dX2_passHour_54 rfl (pb_Tok.cons dX2_passHour_57 rfl (pb_Tok.cons dX2_passHour_60 rfl (pb_Tok.cons dX2_passHour_61 rfl pb_Tok.nil)))))))))))))))))))))))))))))))))
def tX2_setTide : pb_T := [(0, .iconst 2, 1, 0), (1, .newarray .boolean, 3, 0), (3, .dup, 4, 0), (4, .iconst 0, 5, 0), (5, .iload_n 1, 6, 0), (6, .iconst 0, 7, 0), (7, .bipush 11, 9, 0), (9, .invokestatic 71, 12, 0), (12, .bastore, 13, 0), (13, .dup, 14, 0), (14, .iconst 1, 15, 0), (15, .iload_n 2, 16, 0), (16, .iconst 0, 17, 0), (17, .bipush 50, 19, 0), (19, .invokestatic 71, 22, 0), (22, .bastore, 23, 0), (23, .invokestatic 100, 26, 0), (26, .aload_n 0, 27, 0), (27, .getfield 21, 30, 0), (30, .iload_n 1, 31, 0), (31, .iaload, 32, 0), (32, .istore_n 3, 33, 0), (33, .aload_n 0, 34, 0), (34, .getfield 21, 37, 0), (37, .iload_n 1, 38, 0), (38, .iload_n 2, 39, 0), (39, .iastore, 40, 0), (40, .iload_n 3, 41, 0), (41, .ireturn, 42, 0)]
theorem tX2_setTide_ok : pb_Tok cX2_setTide tX2_setTide := pb_Tok.cons dX2_setTide_0 rfl (pb_Tok.cons dX2_setTide_1 rfl (pb_Tok.cons dX2_setTide_3 rfl (pb_Tok.cons dX2_setTide_4 rfl (pb_Tok.cons dX2_setTide_5 rfl (pb_Tok.cons dX2_setTide_6 rfl (pb_Tok.cons dX2_setTide_7 rfl (pb_Tok.cons dX2_setTide_9 rfl (pb_Tok.cons dX2_setTide_12 rfl (pb_Tok.cons dX2_setTide_13 rfl (pb_Tok.cons dX2_setTide_14 rfl (pb_Tok.cons dX2_setTide_15 rfl (pb_Tok.cons dX2_setTide_16 rfl (pb_Tok.cons dX2_setTide_17 rfl (pb_Tok.cons dX2_setTide_19 rfl (pb_Tok.cons dX2_setTide_22 rfl (pb_Tok.cons dX2_setTide_23 rfl (pb_Tok.cons dX2_setTide_26 rfl (pb_Tok.cons dX2_setTide_27 rfl (pb_Tok.cons dX2_setTide_30 rfl (pb_Tok.cons dX2_setTide_31 rfl (pb_Tok.cons dX2_setTide_32 rfl (pb_Tok.cons dX2_setTide_33 rfl (pb_Tok.cons dX2_setTide_34 rfl (pb_Tok.cons dX2_setTide_37 rfl (pb_Tok.cons dX2_setTide_38 rfl (pb_Tok.cons dX2_setTide_39 rfl (pb_Tok.cons dX2_setTide_40 rfl (pb_Tok.cons dX2_setTide_41 rfl pb_Tok.nil))))))))))))))))))))))))))))
def tX2_setSlip : pb_T := [(0, .iconst 2, 1, 0), (1, .newarray .boolean, 3, 0), (3, .dup, 4, 0), (4, .iconst 0, 5, 0), (5, .iload_n 1, 6, 0), (6, .iconst 0, 7, 0), (7, .iconst 3, 8, 0), (8, .invokestatic 71, 11, 0), (11, .bastore, 12, 0), (12, .dup, 13, 0), (13, .iconst 1, 14, 0), (14, .iload_n 2, 15, 0), (15, .iconst 0, 16, 0), (16, .bipush 8, 18, 0), (18, .invokestatic 71, 21, 0), (21, .bastore, 22, 0), (22, .invokestatic 100, 25, 0), (25, .aload_n 0, 26, 0), (26, .getfield 25, 29, 0), (29, .iload_n 1, 30, 0), (30, .iaload, 31, 0), (31, .istore_n 3, 32, 0), (32, .aload_n 0, 33, 0), (33, .getfield 25, 36, 0), (36, .iload_n 1, 37, 0), (37, .iload_n 2, 38, 0), (38, .iastore, 39, 0), (39, .iload_n 3, 40, 0), (40, .ireturn, 41, 0)]
theorem tX2_setSlip_ok : pb_Tok cX2_setSlip tX2_setSlip := pb_Tok.cons dX2_setSlip_0 rfl (pb_Tok.cons dX2_setSlip_1 rfl (pb_Tok.cons dX2_setSlip_3 rfl (pb_Tok.cons dX2_setSlip_4 rfl (pb_Tok.cons dX2_setSlip_5 rfl (pb_Tok.cons dX2_setSlip_6 rfl (pb_Tok.cons dX2_setSlip_7 rfl (pb_Tok.cons dX2_setSlip_8 rfl (pb_Tok.cons dX2_setSlip_11 rfl (pb_Tok.cons dX2_setSlip_12 rfl (pb_Tok.cons dX2_setSlip_13 rfl (pb_Tok.cons dX2_setSlip_14 rfl (pb_Tok.cons dX2_setSlip_15 rfl (pb_Tok.cons dX2_setSlip_16 rfl (pb_Tok.cons dX2_setSlip_18 rfl (pb_Tok.cons dX2_setSlip_21 rfl (pb_Tok.cons dX2_setSlip_22 rfl (pb_Tok.cons dX2_setSlip_25 rfl (pb_Tok.cons dX2_setSlip_26 rfl (pb_Tok.cons dX2_setSlip_29 rfl (pb_Tok.cons dX2_setSlip_30 rfl (pb_Tok.cons dX2_setSlip_31 rfl (pb_Tok.cons dX2_setSlip_32 rfl (pb_Tok.cons dX2_setSlip_33 rfl (pb_Tok.cons dX2_setSlip_36 rfl (pb_Tok.cons dX2_setSlip_37 rfl (pb_Tok.cons dX2_setSlip_38 rfl (pb_Tok.cons dX2_setSlip_39 rfl (pb_Tok.cons dX2_setSlip_40 rfl pb_Tok.nil))))))))))))))))))))))))))))
def tX2_addOrder : pb_T := [(0, .iconst 3, 1, 0), (1, .newarray .boolean, 3, 0), (3, .dup, 4, 0), (4, .iconst 0, 5, 0), (5, .iload_n 1, 6, 0), (6, .iconst 2, 7, 0), (7, .bipush 8, 9, 0), (9, .invokestatic 71, 12, 0), (12, .bastore, 13, 0), (13, .dup, 14, 0), (14, .iconst 1, 15, 0), (15, .iload_n 2, 16, 0), (16, .iconst 0, 17, 0), (17, .sipush 999, 20, 0), (20, .invokestatic 71, 23, 0), (23, .bastore, 24, 0), (24, .dup, 25, 0), (25, .iconst 2, 26, 0), (26, .iload_n 3, 27, 0), (27, .iconst 1, 28, 0), (28, .sipush 999, 31, 0), (31, .invokestatic 71, 34, 0), (34, .bastore, 35, 0), (35, .invokestatic 100, 38, 0), (38, .aload_n 0, 39, 0), (39, .getfield 18, 42, 0), (42, .invokevirtual 35, 45, 0), (45, .bipush 6, 47, 0), (47, .if_icmp .ge 7, 50, 54), (50, .iconst 1, 51, 0), (51, .goto 4, 54, 55), (54, .iconst 0, 55, 0), (55, .invokestatic 94, 58, 0), (58, .aload_n 0, 59, 0), (59, .getfield 18, 62, 0), (62, .new 52, 65, 0), (65, .dup, 66, 0), (66, .aload_n 0, 67, 0), (67, .getfield 64, 70, 0), (70, .iload_n 1, 71, 0), (71, .iload_n 2, 72, 0), (72, .iload_n 3, 73, 0), (73, .invokespecial 168, 76, 0), (76, .invokevirtual 48, 79, 0), (79, .istore 4, 81, 0), (81, .aload_n 0, 82, 0), (82, .dup, 83, 0), (83, .getfield 64, 86, 0), (86, .iconst 1, 87, 0), (87, .iadd, 88, 0), (88, .putfield 64, 91, 0), (91, .aload_n 0, 92, 0), (92, .getfield 64, 95, 0), (95, .iconst 1, 96, 0), (96, .isub, 97, 0), (97, .ireturn, 98, 0)]
theorem tX2_addOrder_ok : pb_Tok cX2_addOrder tX2_addOrder := pb_Tok.cons dX2_addOrder_0 rfl (pb_Tok.cons dX2_addOrder_1 rfl (pb_Tok.cons dX2_addOrder_3 rfl (pb_Tok.cons dX2_addOrder_4 rfl (pb_Tok.cons dX2_addOrder_5 rfl (pb_Tok.cons dX2_addOrder_6 rfl (pb_Tok.cons dX2_addOrder_7 rfl (pb_Tok.cons dX2_addOrder_9 rfl (pb_Tok.cons dX2_addOrder_12 rfl (pb_Tok.cons dX2_addOrder_13 rfl (pb_Tok.cons dX2_addOrder_14 rfl (pb_Tok.cons dX2_addOrder_15 rfl (pb_Tok.cons dX2_addOrder_16 rfl (pb_Tok.cons dX2_addOrder_17 rfl (pb_Tok.cons dX2_addOrder_20 rfl (pb_Tok.cons dX2_addOrder_23 rfl (pb_Tok.cons dX2_addOrder_24 rfl (pb_Tok.cons dX2_addOrder_25 rfl (pb_Tok.cons dX2_addOrder_26 rfl (pb_Tok.cons dX2_addOrder_27 rfl (pb_Tok.cons dX2_addOrder_28 rfl (pb_Tok.cons dX2_addOrder_31 rfl (pb_Tok.cons dX2_addOrder_34 rfl (pb_Tok.cons dX2_addOrder_35 rfl (pb_Tok.cons dX2_addOrder_38 rfl (pb_Tok.cons dX2_addOrder_39 rfl (pb_Tok.cons dX2_addOrder_42 rfl (pb_Tok.cons dX2_addOrder_45 rfl (pb_Tok.cons dX2_addOrder_47 rfl (pb_Tok.cons dX2_addOrder_50 rfl (pb_Tok.cons dX2_addOrder_51 rfl (pb_Tok.cons dX2_addOrder_54 rfl (pb_Tok.cons dX2_addOrder_55 rfl (pb_Tok.cons dX2_addOrder_58 rfl (pb_Tok.cons dX2_addOrder_59 rfl (pb_Tok.cons dX2_addOrder_62 rfl (pb_Tok.cons dX2_addOrder_65 rfl (pb_Tok.cons dX2_addOrder_66 rfl (pb_Tok.cons dX2_addOrder_67 rfl (pb_Tok.cons dX2_addOrder_70 rfl (pb_Tok.cons dX2_addOrder_71 rfl (pb_Tok.cons dX2_addOrder_72 rfl (pb_Tok.cons dX2_addOrder_73 rfl (pb_Tok.cons dX2_addOrder_76 rfl (pb_Tok.cons dX2_addOrder_79 rfl (pb_Tok.cons dX2_addOrder_81 rfl (pb_Tok.cons dX2_addOrder_82 rfl (pb_Tok.cons dX2_addOrder_83 rfl (pb_Tok.cons dX2_addOrder_86 rfl (pb_Tok.cons dX2_addOrder_87 rfl (pb_Tok.cons dX2_addOrder_88 rfl (pb_Tok.cons dX2_addOrder_91 rfl (pb_Tok.cons dX2_addOrder_92 rfl (pb_Tok.cons dX2_addOrder_95 rfl (pb_Tok.cons dX2_addOrder_96 rfl (pb_Tok.cons dX2_addOrder_97 rfl pb_Tok.nil)))))))))))))))))))))))))))))))))))))))))))))))))))))))
def tX2_deliver : pb_T := [(0, .aload_n 0, 1, 0), (1, .iload_n 1, 2, 0), (2, .invokevirtual 171, 5, 0), (5, .astore_n 3, 6, 0), (6, .aload_n 0, 7, 0), (7, .iload_n 2, 8, 0), (8, .invokevirtual 81, 11, 0), (11, .astore 4, 13, 0), (13, .aload 4, 15, 0), (15, .getstatic 145, 18, 0), (18, .invokevirtual 110, 21, 0), (21, .ifCond .eq 19, 24, 40), (24, .aload 4, 26, 0), (26, .invokevirtual 114, 29, 0), (29, .aload_n 3, 30, 0), (30, .getfield 175, 33, 0), (33, .if_icmp .ne 7, 36, 40), (36, .iconst 1, 37, 0), (37, .goto 4, 40, 41), (40, .iconst 0, 41, 0), (41, .invokestatic 94, 44, 0), (44, .aload 4, 46, 0), (46, .getstatic 177, 49, 0), (49, .putfield 126, 52, 0), (52, .aload_n 0, 53, 0), (53, .getfield 18, 56, 0), (56, .aload_n 3, 57, 0), (57, .invokevirtual 180, 60, 0), (60, .istore 5, 62, 0), (62, .aload_n 3, 63, 0), (63, .aload_n 0, 64, 0), (64, .getfield 60, 67, 0), (67, .invokevirtual 183, 70, 0), (70, .istore 6, 72, 0), (72, .aload_n 0, 73, 0), (73, .dup, 74, 0), (74, .getfield 67, 77, 0), (77, .iload 6, 79, 0), (79, .i2l, 80, 0), (80, .ladd, 81, 0), (81, .putfield 67, 84, 0), (84, .iload 6, 86, 0), (86, .ireturn, 87, 0)]
theorem tX2_deliver_ok : pb_Tok cX2_deliver tX2_deliver := pb_Tok.cons dX2_deliver_0 rfl (pb_Tok.cons dX2_deliver_1 rfl (pb_Tok.cons dX2_deliver_2 rfl (pb_Tok.cons dX2_deliver_5 rfl (pb_Tok.cons dX2_deliver_6 rfl (pb_Tok.cons dX2_deliver_7 rfl (pb_Tok.cons dX2_deliver_8 rfl (pb_Tok.cons dX2_deliver_11 rfl (pb_Tok.cons dX2_deliver_13 rfl (pb_Tok.cons dX2_deliver_15 rfl (pb_Tok.cons dX2_deliver_18 rfl (pb_Tok.cons dX2_deliver_21 rfl (pb_Tok.cons dX2_deliver_24 rfl (pb_Tok.cons dX2_deliver_26 rfl (pb_Tok.cons dX2_deliver_29 rfl (pb_Tok.cons dX2_deliver_30 rfl (pb_Tok.cons dX2_deliver_33 rfl (pb_Tok.cons dX2_deliver_36 rfl (pb_Tok.cons dX2_deliver_37 rfl (pb_Tok.cons dX2_deliver_40 rfl (pb_Tok.cons dX2_deliver_41 rfl (pb_Tok.cons dX2_deliver_44 rfl (pb_Tok.cons dX2_deliver_46 rfl (pb_Tok.cons dX2_deliver_49 rfl (pb_Tok.cons dX2_deliver_52 rfl (pb_Tok.cons dX2_deliver_53 rfl (pb_Tok.cons dX2_deliver_56 rfl (pb_Tok.cons dX2_deliver_57 rfl (pb_Tok.cons dX2_deliver_60 rfl (pb_Tok.cons dX2_deliver_62 rfl (pb_Tok.cons dX2_deliver_63 rfl (pb_Tok.cons dX2_deliver_64 rfl (pb_Tok.cons dX2_deliver_67 rfl (pb_Tok.cons dX2_deliver_70 rfl (pb_Tok.cons dX2_deliver_72 rfl (pb_Tok.cons dX2_deliver_73 rfl (pb_Tok.cons dX2_deliver_74 rfl (pb_Tok.cons dX2_deliver_77 rfl (pb_Tok.cons dX2_deliver_79 rfl (pb_Tok.cons dX2_deliver_80 rfl (pb_Tok.cons dX2_deliver_81 rfl (pb_Tok.cons dX2_deliver_84 rfl (pb_Tok.cons dX2_deliver_86 rfl pb_Tok.nil))))))))))))))))))))))))))))))))))))))))))
def tX2_order : pb_T := [(0, .iconst 0, 1, 0), (1, .istore_n 2, 2, 0), (2, .iload_n 2, 3, 1), (3, .aload_n 0, 4, 0), (4, .getfield 18, 7, 0), (7, .invokevirtual 35, 10, 0), (10, .if_icmp .ge 39, 13, 49), (13, .aload_n 0, 14, 0), (14, .getfield 18, 17, 0), (17, .iload_n 2, 18, 0), (18, .invokevirtual 41, 21, 0), (21, .checkcast 52, 24, 0), (24, .getfield 88, 27, 0), (27, .iload_n 1, 28, 0), (28, .if_icmp .ne 15, 31, 43), (31, .aload_n 0, 32, 0), (32, .getfield 18, 35, 0), (35, .iload_n 2, 36, 0), (36, .invokevirtual 41, 39, 0), (39, .checkcast 52, 42, 0), (42, .areturn, 43, 0), (43, .iinc 2 1, 46, 0), (46, .goto (-44), 49, 2), (49, .new 91, 52, 0), (52, .dup, 53, 0), (53, .invokespecial 93, 56, 0), (56, .athrow, 57, 0)]
theorem tX2_order_ok : pb_Tok cX2_order tX2_order := pb_Tok.cons dX2_order_0 rfl (pb_Tok.cons dX2_order_1 rfl (pb_Tok.cons dX2_order_2 rfl (pb_Tok.cons dX2_order_3 rfl (pb_Tok.cons dX2_order_4 rfl (pb_Tok.cons dX2_order_7 rfl (pb_Tok.cons dX2_order_10 rfl (pb_Tok.cons dX2_order_13 rfl (pb_Tok.cons dX2_order_14 rfl (pb_Tok.cons dX2_order_17 rfl (pb_Tok.cons dX2_order_18 rfl (pb_Tok.cons dX2_order_21 rfl (pb_Tok.cons dX2_order_24 rfl (pb_Tok.cons dX2_order_27 rfl (pb_Tok.cons dX2_order_28 rfl (pb_Tok.cons dX2_order_31 rfl (pb_Tok.cons dX2_order_32 rfl (pb_Tok.cons dX2_order_35 rfl (pb_Tok.cons dX2_order_36 rfl (pb_Tok.cons dX2_order_39 rfl (pb_Tok.cons dX2_order_42 rfl (pb_Tok.cons dX2_order_43 rfl (pb_Tok.cons dX2_order_46 rfl (pb_Tok.cons dX2_order_49 rfl (pb_Tok.cons dX2_order_52 rfl (pb_Tok.cons dX2_order_53 rfl (pb_Tok.cons dX2_order_56 rfl pb_Tok.nil))))))))))))))))))))))))))
def dkwX3_init_0 : List UInt8 := [42, 183, 0, 3, 42, 187, 0, 9, 89, 183, 0, 11, 181, 0, 12, 177]
abbrev dktX3_init_0 : List UInt8 := dkwX3_init_0 ++ []
theorem dksX3_init_0 : cX3_init.data.toList.drop 0 = dktX3_init_0 := by decide +kernel
theorem dX3_init_0 : decode cX3_init 0 = .ok (.aload_n 0, 1) := dk_42 (dk_at dksX3_init_0 0 rfl rfl)
theorem dX3_init_1 : decode cX3_init 1 = .ok (.invokespecial 3, 3) := dk_183 0 3 (dk_at dksX3_init_0 1 rfl rfl)
theorem dX3_init_4 : decode cX3_init 4 = .ok (.aload_n 0, 1) := dk_42 (dk_at dksX3_init_0 4 rfl rfl)
theorem dX3_init_5 : decode cX3_init 5 = .ok (.new 9, 3) := dk_187 0 9 (dk_at dksX3_init_0 5 rfl rfl)
theorem dX3_init_8 : decode cX3_init 8 = .ok (.dup, 1) := dk_89 (dk_at dksX3_init_0 8 rfl rfl)
theorem dX3_init_9 : decode cX3_init 9 = .ok (.invokespecial 11, 3) := dk_183 0 11 (dk_at dksX3_init_0 9 rfl rfl)
theorem dX3_init_12 : decode cX3_init 12 = .ok (.putfield 12, 3) := dk_181 0 12 (dk_at dksX3_init_0 12 rfl rfl)
theorem dX3_init_15 : decode cX3_init 15 = .ok (.return_, 1) := dk_177 (dk_at dksX3_init_0 15 rfl rfl)
def tX3_init : pb_T := [(0, .aload_n 0, 1, 0), (1, .invokespecial 3, 4, 0), (4, .aload_n 0, 5, 0), (5, .new 9, 8, 0), (8, .dup, 9, 0), (9, .invokespecial 11, 12, 0), (12, .putfield 12, 15, 0), (15, .return_, 16, 0)]
theorem tX3_init_ok : pb_Tok cX3_init tX3_init := pb_Tok.cons dX3_init_0 rfl (pb_Tok.cons dX3_init_1 rfl (pb_Tok.cons dX3_init_4 rfl (pb_Tok.cons dX3_init_5 rfl (pb_Tok.cons dX3_init_8 rfl (pb_Tok.cons dX3_init_9 rfl (pb_Tok.cons dX3_init_12 rfl (pb_Tok.cons dX3_init_15 rfl pb_Tok.nil)))))))
def dkwX5_init_2 : List UInt8 := [164, 0, 9, 44, 5, 46, 167, 0, 4, 3, 181, 0, 20, 177]
abbrev dktX5_init_2 : List UInt8 := dkwX5_init_2 ++ []
def dkwX5_init_1 : List UInt8 := [181, 0, 13, 42, 44, 190, 4, 164, 0, 9, 44, 4, 46, 167, 0, 4, 3, 181, 0, 17, 42, 44, 190, 5]
abbrev dktX5_init_1 : List UInt8 := dkwX5_init_1 ++ dktX5_init_2
def dkwX5_init_0 : List UInt8 := [42, 183, 0, 1, 42, 27, 181, 0, 7, 42, 44, 190, 158, 0, 9, 44, 3, 46, 167, 0, 4, 3]
abbrev dktX5_init_0 : List UInt8 := dkwX5_init_0 ++ dktX5_init_1
theorem dksX5_init_0 : cX5_init.data.toList.drop 0 = dktX5_init_0 := by decide +kernel
theorem dksX5_init_1 : cX5_init.data.toList.drop 22 = dktX5_init_1 := dk_seg dksX5_init_0 22 rfl rfl
theorem dksX5_init_2 : cX5_init.data.toList.drop 46 = dktX5_init_2 := dk_seg dksX5_init_1 24 rfl rfl
theorem dX5_init_0 : decode cX5_init 0 = .ok (.aload_n 0, 1) := dk_42 (dk_at dksX5_init_0 0 rfl rfl)
theorem dX5_init_1 : decode cX5_init 1 = .ok (.invokespecial 1, 3) := dk_183 0 1 (dk_at dksX5_init_0 1 rfl rfl)
theorem dX5_init_4 : decode cX5_init 4 = .ok (.aload_n 0, 1) := dk_42 (dk_at dksX5_init_0 4 rfl rfl)
theorem dX5_init_5 : decode cX5_init 5 = .ok (.iload_n 1, 1) := dk_27 (dk_at dksX5_init_0 5 rfl rfl)
theorem dX5_init_6 : decode cX5_init 6 = .ok (.putfield 7, 3) := dk_181 0 7 (dk_at dksX5_init_0 6 rfl rfl)
theorem dX5_init_9 : decode cX5_init 9 = .ok (.aload_n 0, 1) := dk_42 (dk_at dksX5_init_0 9 rfl rfl)
theorem dX5_init_10 : decode cX5_init 10 = .ok (.aload_n 2, 1) := dk_44 (dk_at dksX5_init_0 10 rfl rfl)
theorem dX5_init_11 : decode cX5_init 11 = .ok (.arraylength, 1) := dk_190 (dk_at dksX5_init_0 11 rfl rfl)
theorem dX5_init_12 : decode cX5_init 12 = .ok (.ifCond .le 9, 3) := dk_158 0 9 (dk_at dksX5_init_0 12 rfl rfl)
theorem dX5_init_15 : decode cX5_init 15 = .ok (.aload_n 2, 1) := dk_44 (dk_at dksX5_init_0 15 rfl rfl)
theorem dX5_init_16 : decode cX5_init 16 = .ok (.iconst 0, 1) := dk_3 (dk_at dksX5_init_0 16 rfl rfl)
theorem dX5_init_17 : decode cX5_init 17 = .ok (.iaload, 1) := dk_46 (dk_at dksX5_init_0 17 rfl rfl)
theorem dX5_init_18 : decode cX5_init 18 = .ok (.goto 4, 3) := dk_167 0 4 (dk_at dksX5_init_0 18 rfl rfl)
theorem dX5_init_21 : decode cX5_init 21 = .ok (.iconst 0, 1) := dk_3 (dk_at dksX5_init_0 21 rfl rfl)
theorem dX5_init_22 : decode cX5_init 22 = .ok (.putfield 13, 3) := dk_181 0 13 (dk_at dksX5_init_1 0 rfl rfl)
theorem dX5_init_25 : decode cX5_init 25 = .ok (.aload_n 0, 1) := dk_42 (dk_at dksX5_init_1 3 rfl rfl)
theorem dX5_init_26 : decode cX5_init 26 = .ok (.aload_n 2, 1) := dk_44 (dk_at dksX5_init_1 4 rfl rfl)
theorem dX5_init_27 : decode cX5_init 27 = .ok (.arraylength, 1) := dk_190 (dk_at dksX5_init_1 5 rfl rfl)
theorem dX5_init_28 : decode cX5_init 28 = .ok (.iconst 1, 1) := dk_4 (dk_at dksX5_init_1 6 rfl rfl)
theorem dX5_init_29 : decode cX5_init 29 = .ok (.if_icmp .le 9, 3) := dk_164 0 9 (dk_at dksX5_init_1 7 rfl rfl)
theorem dX5_init_32 : decode cX5_init 32 = .ok (.aload_n 2, 1) := dk_44 (dk_at dksX5_init_1 10 rfl rfl)
theorem dX5_init_33 : decode cX5_init 33 = .ok (.iconst 1, 1) := dk_4 (dk_at dksX5_init_1 11 rfl rfl)
theorem dX5_init_34 : decode cX5_init 34 = .ok (.iaload, 1) := dk_46 (dk_at dksX5_init_1 12 rfl rfl)
theorem dX5_init_35 : decode cX5_init 35 = .ok (.goto 4, 3) := dk_167 0 4 (dk_at dksX5_init_1 13 rfl rfl)
theorem dX5_init_38 : decode cX5_init 38 = .ok (.iconst 0, 1) := dk_3 (dk_at dksX5_init_1 16 rfl rfl)
theorem dX5_init_39 : decode cX5_init 39 = .ok (.putfield 17, 3) := dk_181 0 17 (dk_at dksX5_init_1 17 rfl rfl)
theorem dX5_init_42 : decode cX5_init 42 = .ok (.aload_n 0, 1) := dk_42 (dk_at dksX5_init_1 20 rfl rfl)
theorem dX5_init_43 : decode cX5_init 43 = .ok (.aload_n 2, 1) := dk_44 (dk_at dksX5_init_1 21 rfl rfl)
theorem dX5_init_44 : decode cX5_init 44 = .ok (.arraylength, 1) := dk_190 (dk_at dksX5_init_1 22 rfl rfl)
theorem dX5_init_45 : decode cX5_init 45 = .ok (.iconst 2, 1) := dk_5 (dk_at dksX5_init_1 23 rfl rfl)
theorem dX5_init_46 : decode cX5_init 46 = .ok (.if_icmp .le 9, 3) := dk_164 0 9 (dk_at dksX5_init_2 0 rfl rfl)
theorem dX5_init_49 : decode cX5_init 49 = .ok (.aload_n 2, 1) := dk_44 (dk_at dksX5_init_2 3 rfl rfl)
theorem dX5_init_50 : decode cX5_init 50 = .ok (.iconst 2, 1) := dk_5 (dk_at dksX5_init_2 4 rfl rfl)
theorem dX5_init_51 : decode cX5_init 51 = .ok (.iaload, 1) := dk_46 (dk_at dksX5_init_2 5 rfl rfl)
theorem dX5_init_52 : decode cX5_init 52 = .ok (.goto 4, 3) := dk_167 0 4 (dk_at dksX5_init_2 6 rfl rfl)
theorem dX5_init_55 : decode cX5_init 55 = .ok (.iconst 0, 1) := dk_3 (dk_at dksX5_init_2 9 rfl rfl)
theorem dX5_init_56 : decode cX5_init 56 = .ok (.putfield 20, 3) := dk_181 0 20 (dk_at dksX5_init_2 10 rfl rfl)
theorem dX5_init_59 : decode cX5_init 59 = .ok (.return_, 1) := dk_177 (dk_at dksX5_init_2 13 rfl rfl)
def dkwX5_apply_8 : List UInt8 := [180, 0, 17, 182, 0, 62, 172]
abbrev dktX5_apply_8 : List UInt8 := dkwX5_apply_8 ++ []
def dkwX5_apply_7 : List UInt8 := [43, 42, 180, 0, 13, 42, 180, 0, 17, 42, 180, 0, 20, 182, 0, 59, 172, 43, 42, 180, 0, 13, 42]
abbrev dktX5_apply_7 : List UInt8 := dkwX5_apply_7 ++ dktX5_apply_8
def dkwX5_apply_6 : List UInt8 := [180, 0, 13, 42, 180, 0, 17, 182, 0, 53, 172, 43, 42, 180, 0, 13, 42, 180, 0, 17, 182, 0, 56, 172]
abbrev dktX5_apply_6 : List UInt8 := dkwX5_apply_6 ++ dktX5_apply_7
def dkwX5_apply_5 : List UInt8 := [180, 0, 13, 42, 180, 0, 17, 182, 0, 47, 172, 43, 42, 180, 0, 13, 182, 0, 50, 172, 43, 42]
abbrev dktX5_apply_5 : List UInt8 := dkwX5_apply_5 ++ dktX5_apply_6
def dkwX5_apply_4 : List UInt8 := [180, 0, 13, 182, 0, 41, 172, 43, 42, 180, 0, 13, 42, 180, 0, 17, 182, 0, 44, 172, 43, 42]
abbrev dktX5_apply_4 : List UInt8 := dkwX5_apply_4 ++ dktX5_apply_5
def dkwX5_apply_3 : List UInt8 := [180, 0, 13, 182, 0, 33, 172, 43, 42, 180, 0, 13, 42, 180, 0, 17, 182, 0, 37, 172, 43, 42]
abbrev dktX5_apply_3 : List UInt8 := dkwX5_apply_3 ++ dktX5_apply_4
def dkwX5_apply_2 : List UInt8 := [43, 182, 0, 23, 172, 43, 42, 180, 0, 13, 42, 180, 0, 17, 42, 180, 0, 20, 182, 0, 29, 172, 43, 42]
abbrev dktX5_apply_2 : List UInt8 := dkwX5_apply_2 ++ dktX5_apply_3
def dkwX5_apply_1 : List UInt8 := [170, 0, 0, 0, 0, 0, 0, 223, 0, 0, 0, 98, 0, 0, 0, 116, 0, 0, 0, 92, 0, 0, 0, 145, 0, 0, 0, 223, 0, 0, 0, 223, 0, 0, 0, 97, 0, 0, 0, 123, 0, 0, 0, 171, 0, 0, 0, 223, 0, 0, 0, 223, 0, 0, 0, 223, 0, 0, 0, 136, 0, 0, 0, 114, 0, 0, 0, 223, 0, 0, 0, 206, 0, 0, 0, 158, 0, 0, 0, 223, 0, 0, 0, 223, 0, 0, 0, 193, 0, 0, 0, 180]
abbrev dktX5_apply_1 : List UInt8 := dkwX5_apply_1 ++ dktX5_apply_2
def dkwX5_apply_0 : List UInt8 := [42, 180, 0, 7]
abbrev dktX5_apply_0 : List UInt8 := dkwX5_apply_0 ++ dktX5_apply_1
theorem dksX5_apply_0 : cX5_apply.data.toList.drop 0 = dktX5_apply_0 := by decide +kernel
theorem dksX5_apply_1 : cX5_apply.data.toList.drop 4 = dktX5_apply_1 := dk_seg dksX5_apply_0 4 rfl rfl
theorem dksX5_apply_2 : cX5_apply.data.toList.drop 96 = dktX5_apply_2 := dk_seg dksX5_apply_1 92 rfl rfl
theorem dksX5_apply_3 : cX5_apply.data.toList.drop 120 = dktX5_apply_3 := dk_seg dksX5_apply_2 24 rfl rfl
theorem dksX5_apply_4 : cX5_apply.data.toList.drop 142 = dktX5_apply_4 := dk_seg dksX5_apply_3 22 rfl rfl
theorem dksX5_apply_5 : cX5_apply.data.toList.drop 164 = dktX5_apply_5 := dk_seg dksX5_apply_4 22 rfl rfl
theorem dksX5_apply_6 : cX5_apply.data.toList.drop 186 = dktX5_apply_6 := dk_seg dksX5_apply_5 22 rfl rfl
theorem dksX5_apply_7 : cX5_apply.data.toList.drop 210 = dktX5_apply_7 := dk_seg dksX5_apply_6 24 rfl rfl
theorem dksX5_apply_8 : cX5_apply.data.toList.drop 233 = dktX5_apply_8 := dk_seg dksX5_apply_7 23 rfl rfl
theorem dX5_apply_0 : decode cX5_apply 0 = .ok (.aload_n 0, 1) := dk_42 (dk_at dksX5_apply_0 0 rfl rfl)
theorem dX5_apply_1 : decode cX5_apply 1 = .ok (.getfield 7, 3) := dk_180 0 7 (dk_at dksX5_apply_0 1 rfl rfl)
theorem dX5_apply_4 : decode cX5_apply 4 = .ok (.tableswitch 223 98 116 #[92, 145, 223, 223, 97, 123, 171, 223, 223, 223, 136, 114, 223, 206, 158, 223, 223, 193, 180], 92) := by decide +kernel
theorem dX5_apply_96 : decode cX5_apply 96 = .ok (.aload_n 1, 1) := dk_43 (dk_at dksX5_apply_2 0 rfl rfl)
theorem dX5_apply_97 : decode cX5_apply 97 = .ok (.invokevirtual 23, 3) := dk_182 0 23 (dk_at dksX5_apply_2 1 rfl rfl)
theorem dX5_apply_100 : decode cX5_apply 100 = .ok (.ireturn, 1) := dk_172 (dk_at dksX5_apply_2 4 rfl rfl)
theorem dX5_apply_101 : decode cX5_apply 101 = .ok (.aload_n 1, 1) := dk_43 (dk_at dksX5_apply_2 5 rfl rfl)
theorem dX5_apply_102 : decode cX5_apply 102 = .ok (.aload_n 0, 1) := dk_42 (dk_at dksX5_apply_2 6 rfl rfl)
theorem dX5_apply_103 : decode cX5_apply 103 = .ok (.getfield 13, 3) := dk_180 0 13 (dk_at dksX5_apply_2 7 rfl rfl)
theorem dX5_apply_106 : decode cX5_apply 106 = .ok (.aload_n 0, 1) := dk_42 (dk_at dksX5_apply_2 10 rfl rfl)
theorem dX5_apply_107 : decode cX5_apply 107 = .ok (.getfield 17, 3) := dk_180 0 17 (dk_at dksX5_apply_2 11 rfl rfl)
theorem dX5_apply_110 : decode cX5_apply 110 = .ok (.aload_n 0, 1) := dk_42 (dk_at dksX5_apply_2 14 rfl rfl)
theorem dX5_apply_111 : decode cX5_apply 111 = .ok (.getfield 20, 3) := dk_180 0 20 (dk_at dksX5_apply_2 15 rfl rfl)
theorem dX5_apply_114 : decode cX5_apply 114 = .ok (.invokevirtual 29, 3) := dk_182 0 29 (dk_at dksX5_apply_2 18 rfl rfl)
theorem dX5_apply_117 : decode cX5_apply 117 = .ok (.ireturn, 1) := dk_172 (dk_at dksX5_apply_2 21 rfl rfl)
theorem dX5_apply_118 : decode cX5_apply 118 = .ok (.aload_n 1, 1) := dk_43 (dk_at dksX5_apply_2 22 rfl rfl)
theorem dX5_apply_119 : decode cX5_apply 119 = .ok (.aload_n 0, 1) := dk_42 (dk_at dksX5_apply_2 23 rfl rfl)
theorem dX5_apply_120 : decode cX5_apply 120 = .ok (.getfield 13, 3) := dk_180 0 13 (dk_at dksX5_apply_3 0 rfl rfl)
theorem dX5_apply_123 : decode cX5_apply 123 = .ok (.invokevirtual 33, 3) := dk_182 0 33 (dk_at dksX5_apply_3 3 rfl rfl)
theorem dX5_apply_126 : decode cX5_apply 126 = .ok (.ireturn, 1) := dk_172 (dk_at dksX5_apply_3 6 rfl rfl)
theorem dX5_apply_127 : decode cX5_apply 127 = .ok (.aload_n 1, 1) := dk_43 (dk_at dksX5_apply_3 7 rfl rfl)
theorem dX5_apply_128 : decode cX5_apply 128 = .ok (.aload_n 0, 1) := dk_42 (dk_at dksX5_apply_3 8 rfl rfl)
theorem dX5_apply_129 : decode cX5_apply 129 = .ok (.getfield 13, 3) := dk_180 0 13 (dk_at dksX5_apply_3 9 rfl rfl)
theorem dX5_apply_132 : decode cX5_apply 132 = .ok (.aload_n 0, 1) := dk_42 (dk_at dksX5_apply_3 12 rfl rfl)
theorem dX5_apply_133 : decode cX5_apply 133 = .ok (.getfield 17, 3) := dk_180 0 17 (dk_at dksX5_apply_3 13 rfl rfl)
theorem dX5_apply_136 : decode cX5_apply 136 = .ok (.invokevirtual 37, 3) := dk_182 0 37 (dk_at dksX5_apply_3 16 rfl rfl)
theorem dX5_apply_139 : decode cX5_apply 139 = .ok (.ireturn, 1) := dk_172 (dk_at dksX5_apply_3 19 rfl rfl)
theorem dX5_apply_140 : decode cX5_apply 140 = .ok (.aload_n 1, 1) := dk_43 (dk_at dksX5_apply_3 20 rfl rfl)
theorem dX5_apply_141 : decode cX5_apply 141 = .ok (.aload_n 0, 1) := dk_42 (dk_at dksX5_apply_3 21 rfl rfl)
theorem dX5_apply_142 : decode cX5_apply 142 = .ok (.getfield 13, 3) := dk_180 0 13 (dk_at dksX5_apply_4 0 rfl rfl)
theorem dX5_apply_145 : decode cX5_apply 145 = .ok (.invokevirtual 41, 3) := dk_182 0 41 (dk_at dksX5_apply_4 3 rfl rfl)
theorem dX5_apply_148 : decode cX5_apply 148 = .ok (.ireturn, 1) := dk_172 (dk_at dksX5_apply_4 6 rfl rfl)
theorem dX5_apply_149 : decode cX5_apply 149 = .ok (.aload_n 1, 1) := dk_43 (dk_at dksX5_apply_4 7 rfl rfl)
theorem dX5_apply_150 : decode cX5_apply 150 = .ok (.aload_n 0, 1) := dk_42 (dk_at dksX5_apply_4 8 rfl rfl)
theorem dX5_apply_151 : decode cX5_apply 151 = .ok (.getfield 13, 3) := dk_180 0 13 (dk_at dksX5_apply_4 9 rfl rfl)
theorem dX5_apply_154 : decode cX5_apply 154 = .ok (.aload_n 0, 1) := dk_42 (dk_at dksX5_apply_4 12 rfl rfl)
theorem dX5_apply_155 : decode cX5_apply 155 = .ok (.getfield 17, 3) := dk_180 0 17 (dk_at dksX5_apply_4 13 rfl rfl)
theorem dX5_apply_158 : decode cX5_apply 158 = .ok (.invokevirtual 44, 3) := dk_182 0 44 (dk_at dksX5_apply_4 16 rfl rfl)
theorem dX5_apply_161 : decode cX5_apply 161 = .ok (.ireturn, 1) := dk_172 (dk_at dksX5_apply_4 19 rfl rfl)
theorem dX5_apply_162 : decode cX5_apply 162 = .ok (.aload_n 1, 1) := dk_43 (dk_at dksX5_apply_4 20 rfl rfl)
theorem dX5_apply_163 : decode cX5_apply 163 = .ok (.aload_n 0, 1) := dk_42 (dk_at dksX5_apply_4 21 rfl rfl)
theorem dX5_apply_164 : decode cX5_apply 164 = .ok (.getfield 13, 3) := dk_180 0 13 (dk_at dksX5_apply_5 0 rfl rfl)
theorem dX5_apply_167 : decode cX5_apply 167 = .ok (.aload_n 0, 1) := dk_42 (dk_at dksX5_apply_5 3 rfl rfl)
theorem dX5_apply_168 : decode cX5_apply 168 = .ok (.getfield 17, 3) := dk_180 0 17 (dk_at dksX5_apply_5 4 rfl rfl)
theorem dX5_apply_171 : decode cX5_apply 171 = .ok (.invokevirtual 47, 3) := dk_182 0 47 (dk_at dksX5_apply_5 7 rfl rfl)
theorem dX5_apply_174 : decode cX5_apply 174 = .ok (.ireturn, 1) := dk_172 (dk_at dksX5_apply_5 10 rfl rfl)
theorem dX5_apply_175 : decode cX5_apply 175 = .ok (.aload_n 1, 1) := dk_43 (dk_at dksX5_apply_5 11 rfl rfl)
theorem dX5_apply_176 : decode cX5_apply 176 = .ok (.aload_n 0, 1) := dk_42 (dk_at dksX5_apply_5 12 rfl rfl)
theorem dX5_apply_177 : decode cX5_apply 177 = .ok (.getfield 13, 3) := dk_180 0 13 (dk_at dksX5_apply_5 13 rfl rfl)
theorem dX5_apply_180 : decode cX5_apply 180 = .ok (.invokevirtual 50, 3) := dk_182 0 50 (dk_at dksX5_apply_5 16 rfl rfl)
theorem dX5_apply_183 : decode cX5_apply 183 = .ok (.ireturn, 1) := dk_172 (dk_at dksX5_apply_5 19 rfl rfl)
theorem dX5_apply_184 : decode cX5_apply 184 = .ok (.aload_n 1, 1) := dk_43 (dk_at dksX5_apply_5 20 rfl rfl)
theorem dX5_apply_185 : decode cX5_apply 185 = .ok (.aload_n 0, 1) := dk_42 (dk_at dksX5_apply_5 21 rfl rfl)
theorem dX5_apply_186 : decode cX5_apply 186 = .ok (.getfield 13, 3) := dk_180 0 13 (dk_at dksX5_apply_6 0 rfl rfl)
theorem dX5_apply_189 : decode cX5_apply 189 = .ok (.aload_n 0, 1) := dk_42 (dk_at dksX5_apply_6 3 rfl rfl)
theorem dX5_apply_190 : decode cX5_apply 190 = .ok (.getfield 17, 3) := dk_180 0 17 (dk_at dksX5_apply_6 4 rfl rfl)
theorem dX5_apply_193 : decode cX5_apply 193 = .ok (.invokevirtual 53, 3) := dk_182 0 53 (dk_at dksX5_apply_6 7 rfl rfl)
theorem dX5_apply_196 : decode cX5_apply 196 = .ok (.ireturn, 1) := dk_172 (dk_at dksX5_apply_6 10 rfl rfl)
theorem dX5_apply_197 : decode cX5_apply 197 = .ok (.aload_n 1, 1) := dk_43 (dk_at dksX5_apply_6 11 rfl rfl)
theorem dX5_apply_198 : decode cX5_apply 198 = .ok (.aload_n 0, 1) := dk_42 (dk_at dksX5_apply_6 12 rfl rfl)
theorem dX5_apply_199 : decode cX5_apply 199 = .ok (.getfield 13, 3) := dk_180 0 13 (dk_at dksX5_apply_6 13 rfl rfl)
theorem dX5_apply_202 : decode cX5_apply 202 = .ok (.aload_n 0, 1) := dk_42 (dk_at dksX5_apply_6 16 rfl rfl)
theorem dX5_apply_203 : decode cX5_apply 203 = .ok (.getfield 17, 3) := dk_180 0 17 (dk_at dksX5_apply_6 17 rfl rfl)
theorem dX5_apply_206 : decode cX5_apply 206 = .ok (.invokevirtual 56, 3) := dk_182 0 56 (dk_at dksX5_apply_6 20 rfl rfl)
theorem dX5_apply_209 : decode cX5_apply 209 = .ok (.ireturn, 1) := dk_172 (dk_at dksX5_apply_6 23 rfl rfl)
theorem dX5_apply_210 : decode cX5_apply 210 = .ok (.aload_n 1, 1) := dk_43 (dk_at dksX5_apply_7 0 rfl rfl)
theorem dX5_apply_211 : decode cX5_apply 211 = .ok (.aload_n 0, 1) := dk_42 (dk_at dksX5_apply_7 1 rfl rfl)
theorem dX5_apply_212 : decode cX5_apply 212 = .ok (.getfield 13, 3) := dk_180 0 13 (dk_at dksX5_apply_7 2 rfl rfl)
theorem dX5_apply_215 : decode cX5_apply 215 = .ok (.aload_n 0, 1) := dk_42 (dk_at dksX5_apply_7 5 rfl rfl)
theorem dX5_apply_216 : decode cX5_apply 216 = .ok (.getfield 17, 3) := dk_180 0 17 (dk_at dksX5_apply_7 6 rfl rfl)
theorem dX5_apply_219 : decode cX5_apply 219 = .ok (.aload_n 0, 1) := dk_42 (dk_at dksX5_apply_7 9 rfl rfl)
theorem dX5_apply_220 : decode cX5_apply 220 = .ok (.getfield 20, 3) := dk_180 0 20 (dk_at dksX5_apply_7 10 rfl rfl)
theorem dX5_apply_223 : decode cX5_apply 223 = .ok (.invokevirtual 59, 3) := dk_182 0 59 (dk_at dksX5_apply_7 13 rfl rfl)
theorem dX5_apply_226 : decode cX5_apply 226 = .ok (.ireturn, 1) := dk_172 (dk_at dksX5_apply_7 16 rfl rfl)
theorem dX5_apply_227 : decode cX5_apply 227 = .ok (.aload_n 1, 1) := dk_43 (dk_at dksX5_apply_7 17 rfl rfl)
theorem dX5_apply_228 : decode cX5_apply 228 = .ok (.aload_n 0, 1) := dk_42 (dk_at dksX5_apply_7 18 rfl rfl)
theorem dX5_apply_229 : decode cX5_apply 229 = .ok (.getfield 13, 3) := dk_180 0 13 (dk_at dksX5_apply_7 19 rfl rfl)
theorem dX5_apply_232 : decode cX5_apply 232 = .ok (.aload_n 0, 1) := dk_42 (dk_at dksX5_apply_7 22 rfl rfl)
theorem dX5_apply_233 : decode cX5_apply 233 = .ok (.getfield 17, 3) := dk_180 0 17 (dk_at dksX5_apply_8 0 rfl rfl)
theorem dX5_apply_236 : decode cX5_apply 236 = .ok (.invokevirtual 62, 3) := dk_182 0 62 (dk_at dksX5_apply_8 3 rfl rfl)
theorem dX5_apply_239 : decode cX5_apply 239 = .ok (.ireturn, 1) := dk_172 (dk_at dksX5_apply_8 6 rfl rfl)
def tX5_init : pb_T := [(0, .aload_n 0, 1, 0), (1, .invokespecial 1, 4, 0), (4, .aload_n 0, 5, 0), (5, .iload_n 1, 6, 0), (6, .putfield 7, 9, 0), (9, .aload_n 0, 10, 0), (10, .aload_n 2, 11, 0), (11, .arraylength, 12, 0), (12, .ifCond .le 9, 15, 21), (15, .aload_n 2, 16, 0), (16, .iconst 0, 17, 0), (17, .iaload, 18, 0), (18, .goto 4, 21, 22), (21, .iconst 0, 22, 0), (22, .putfield 13, 25, 0), (25, .aload_n 0, 26, 0), (26, .aload_n 2, 27, 0), (27, .arraylength, 28, 0), (28, .iconst 1, 29, 0), (29, .if_icmp .le 9, 32, 38), (32, .aload_n 2, 33, 0), (33, .iconst 1, 34, 0), (34, .iaload, 35, 0), (35, .goto 4, 38, 39), (38, .iconst 0, 39, 0), (39, .putfield 17, 42, 0), (42, .aload_n 0, 43, 0), (43, .aload_n 2, 44, 0), (44, .arraylength, 45, 0), (45, .iconst 2, 46, 0), (46, .if_icmp .le 9, 49, 55), (49, .aload_n 2, 50, 0), (50, .iconst 2, 51, 0), (51, .iaload, 52, 0), (52, .goto 4, 55, 56), (55, .iconst 0, 56, 0), (56, .putfield 20, 59, 0), (59, .return_, 60, 0)]
theorem tX5_init_ok : pb_Tok cX5_init tX5_init := pb_Tok.cons dX5_init_0 rfl (pb_Tok.cons dX5_init_1 rfl (pb_Tok.cons dX5_init_4 rfl (pb_Tok.cons dX5_init_5 rfl (pb_Tok.cons dX5_init_6 rfl (pb_Tok.cons dX5_init_9 rfl (pb_Tok.cons dX5_init_10 rfl (pb_Tok.cons dX5_init_11 rfl (pb_Tok.cons dX5_init_12 rfl (pb_Tok.cons dX5_init_15 rfl (pb_Tok.cons dX5_init_16 rfl (pb_Tok.cons dX5_init_17 rfl (pb_Tok.cons dX5_init_18 rfl (pb_Tok.cons dX5_init_21 rfl (pb_Tok.cons dX5_init_22 rfl (pb_Tok.cons dX5_init_25 rfl (pb_Tok.cons dX5_init_26 rfl (pb_Tok.cons dX5_init_27 rfl (pb_Tok.cons dX5_init_28 rfl (pb_Tok.cons dX5_init_29 rfl (pb_Tok.cons dX5_init_32 rfl (pb_Tok.cons dX5_init_33 rfl (pb_Tok.cons dX5_init_34 rfl (pb_Tok.cons dX5_init_35 rfl (pb_Tok.cons dX5_init_38 rfl (pb_Tok.cons dX5_init_39 rfl (pb_Tok.cons dX5_init_42 rfl (pb_Tok.cons dX5_init_43 rfl (pb_Tok.cons dX5_init_44 rfl (pb_Tok.cons dX5_init_45 rfl (pb_Tok.cons dX5_init_46 rfl (pb_Tok.cons dX5_init_49 rfl (pb_Tok.cons dX5_init_50 rfl (pb_Tok.cons dX5_init_51 rfl (pb_Tok.cons dX5_init_52 rfl (pb_Tok.cons dX5_init_55 rfl (pb_Tok.cons dX5_init_56 rfl (pb_Tok.cons dX5_init_59 rfl pb_Tok.nil)))))))))))))))))))))))))))))))))))))
def tX5_apply_0 : pb_T := [(0, .aload_n 0, 1, 0), (1, .getfield 7, 4, 0), (4, .tableswitch 223 98 116 #[92, 145, 223, 223, 97, 123, 171, 223, 223, 223, 136, 114, 223, 206, 158, 223, 223, 193, 180], 96, 0), (96, .aload_n 1, 97, 0), (97, .invokevirtual 23, 100, 0), (100, .ireturn, 101, 0), (101, .aload_n 1, 102, 0), (102, .aload_n 0, 103, 0), (103, .getfield 13, 106, 0), (106, .aload_n 0, 107, 0), (107, .getfield 17, 110, 0), (110, .aload_n 0, 111, 0), (111, .getfield 20, 114, 0), (114, .invokevirtual 29, 117, 0), (117, .ireturn, 118, 0), (118, .aload_n 1, 119, 0), (119, .aload_n 0, 120, 0), (120, .getfield 13, 123, 0), (123, .invokevirtual 33, 126, 0), (126, .ireturn, 127, 0), (127, .aload_n 1, 128, 0), (128, .aload_n 0, 129, 0), (129, .getfield 13, 132, 0), (132, .aload_n 0, 133, 0), (133, .getfield 17, 136, 0), (136, .invokevirtual 37, 139, 0), (139, .ireturn, 140, 0), (140, .aload_n 1, 141, 0), (141, .aload_n 0, 142, 0), (142, .getfield 13, 145, 0), (145, .invokevirtual 41, 148, 0), (148, .ireturn, 149, 0), (149, .aload_n 1, 150, 0), (150, .aload_n 0, 151, 0), (151, .getfield 13, 154, 0), (154, .aload_n 0, 155, 0), (155, .getfield 17, 158, 0), (158, .invokevirtual 44, 161, 0), (161, .ireturn, 162, 0), (162, .aload_n 1, 163, 0), (163, .aload_n 0, 164, 0), (164, .getfield 13, 167, 0), (167, .aload_n 0, 168, 0), (168, .getfield 17, 171, 0), (171, .invokevirtual 47, 174, 0), (174, .ireturn, 175, 0), (175, .aload_n 1, 176, 0), (176, .aload_n 0, 177, 0), (177, .getfield 13, 180, 0), (180, .invokevirtual 50, 183, 0), (183, .ireturn, 184, 0), (184, .aload_n 1, 185, 0), (185, .aload_n 0, 186, 0), (186, .getfield 13, 189, 0), (189, .aload_n 0, 190, 0), (190, .getfield 17, 193, 0), (193, .invokevirtual 53, 196, 0), (196, .ireturn, 197, 0), (197, .aload_n 1, 198, 0), (198, .aload_n 0, 199, 0)]
theorem tX5_apply_0_ok : pb_Tok cX5_apply tX5_apply_0 := pb_Tok.cons dX5_apply_0 rfl (pb_Tok.cons dX5_apply_1 rfl (pb_Tok.cons dX5_apply_4 rfl (pb_Tok.cons dX5_apply_96 rfl (pb_Tok.cons dX5_apply_97 rfl (pb_Tok.cons dX5_apply_100 rfl (pb_Tok.cons dX5_apply_101 rfl (pb_Tok.cons dX5_apply_102 rfl (pb_Tok.cons dX5_apply_103 rfl (pb_Tok.cons dX5_apply_106 rfl (pb_Tok.cons dX5_apply_107 rfl (pb_Tok.cons dX5_apply_110 rfl (pb_Tok.cons dX5_apply_111 rfl (pb_Tok.cons dX5_apply_114 rfl (pb_Tok.cons dX5_apply_117 rfl (pb_Tok.cons dX5_apply_118 rfl (pb_Tok.cons dX5_apply_119 rfl (pb_Tok.cons dX5_apply_120 rfl (pb_Tok.cons dX5_apply_123 rfl (pb_Tok.cons dX5_apply_126 rfl (pb_Tok.cons dX5_apply_127 rfl (pb_Tok.cons dX5_apply_128 rfl (pb_Tok.cons dX5_apply_129 rfl (pb_Tok.cons dX5_apply_132 rfl (pb_Tok.cons dX5_apply_133 rfl (pb_Tok.cons dX5_apply_136 rfl (pb_Tok.cons dX5_apply_139 rfl (pb_Tok.cons dX5_apply_140 rfl (pb_Tok.cons dX5_apply_141 rfl (pb_Tok.cons dX5_apply_142 rfl (pb_Tok.cons dX5_apply_145 rfl (pb_Tok.cons dX5_apply_148 rfl (pb_Tok.cons dX5_apply_149 rfl (pb_Tok.cons dX5_apply_150 rfl (pb_Tok.cons dX5_apply_151 rfl (pb_Tok.cons dX5_apply_154 rfl (pb_Tok.cons dX5_apply_155 rfl (pb_Tok.cons dX5_apply_158 rfl (pb_Tok.cons dX5_apply_161 rfl (pb_Tok.cons dX5_apply_162 rfl (pb_Tok.cons dX5_apply_163 rfl (pb_Tok.cons dX5_apply_164 rfl (pb_Tok.cons dX5_apply_167 rfl (pb_Tok.cons dX5_apply_168 rfl (pb_Tok.cons dX5_apply_171 rfl (pb_Tok.cons dX5_apply_174 rfl (pb_Tok.cons dX5_apply_175 rfl (pb_Tok.cons dX5_apply_176 rfl (pb_Tok.cons dX5_apply_177 rfl (pb_Tok.cons dX5_apply_180 rfl (pb_Tok.cons dX5_apply_183 rfl (pb_Tok.cons dX5_apply_184 rfl (pb_Tok.cons dX5_apply_185 rfl (pb_Tok.cons dX5_apply_186 rfl (pb_Tok.cons dX5_apply_189 rfl (pb_Tok.cons dX5_apply_190 rfl (pb_Tok.cons dX5_apply_193 rfl (pb_Tok.cons dX5_apply_196 rfl (pb_Tok.cons dX5_apply_197 rfl (pb_Tok.cons dX5_apply_198 rfl pb_Tok.nil)))))))))))))))))))))))))))))))))))))))))))))))))))))))))))
def tX5_apply_1 : pb_T := [(199, .getfield 13, 202, 0), (202, .aload_n 0, 203, 0), (203, .getfield 17, 206, 0), (206, .invokevirtual 56, 209, 0), (209, .ireturn, 210, 0), (210, .aload_n 1, 211, 0), (211, .aload_n 0, 212, 0), (212, .getfield 13, 215, 0), (215, .aload_n 0, 216, 0), (216, .getfield 17, 219, 0), (219, .aload_n 0, 220, 0), (220, .getfield 20, 223, 0), (223, .invokevirtual 59, 226, 0), (226, .ireturn, 227, 0), (227, .aload_n 1, 228, 0), (228, .aload_n 0, 229, 0), (229, .getfield 13, 232, 0), (232, .aload_n 0, 233, 0), (233, .getfield 17, 236, 0), (236, .invokevirtual 62, 239, 0), (239, .ireturn, 240, 0)]
theorem tX5_apply_1_ok : pb_Tok cX5_apply tX5_apply_1 := pb_Tok.cons dX5_apply_199 rfl (pb_Tok.cons dX5_apply_202 rfl (pb_Tok.cons dX5_apply_203 rfl (pb_Tok.cons dX5_apply_206 rfl (pb_Tok.cons dX5_apply_209 rfl (pb_Tok.cons dX5_apply_210 rfl (pb_Tok.cons dX5_apply_211 rfl (pb_Tok.cons dX5_apply_212 rfl (pb_Tok.cons dX5_apply_215 rfl (pb_Tok.cons dX5_apply_216 rfl (pb_Tok.cons dX5_apply_219 rfl (pb_Tok.cons dX5_apply_220 rfl (pb_Tok.cons dX5_apply_223 rfl (pb_Tok.cons dX5_apply_226 rfl (pb_Tok.cons dX5_apply_227 rfl (pb_Tok.cons dX5_apply_228 rfl (pb_Tok.cons dX5_apply_229 rfl (pb_Tok.cons dX5_apply_232 rfl (pb_Tok.cons dX5_apply_233 rfl (pb_Tok.cons dX5_apply_236 rfl (pb_Tok.cons dX5_apply_239 rfl pb_Tok.nil))))))))))))))))))))
def tX5_apply : pb_T := tX5_apply_0 ++ (tX5_apply_1)
theorem tX5_apply_ok : pb_Tok cX5_apply tX5_apply := pb_Tok.app tX5_apply_0_ok (tX5_apply_1_ok)
def dkwX6_is_0 : List UInt8 := [42, 180, 0, 28, 43, 166, 0, 7, 4, 167, 0, 4, 3, 172]
abbrev dktX6_is_0 : List UInt8 := dkwX6_is_0 ++ []
theorem dksX6_is_0 : cX6_is.data.toList.drop 0 = dktX6_is_0 := by decide +kernel
theorem dX6_is_0 : decode cX6_is 0 = .ok (.aload_n 0, 1) := dk_42 (dk_at dksX6_is_0 0 rfl rfl)
theorem dX6_is_1 : decode cX6_is 1 = .ok (.getfield 28, 3) := dk_180 0 28 (dk_at dksX6_is_0 1 rfl rfl)
theorem dX6_is_4 : decode cX6_is 4 = .ok (.aload_n 1, 1) := dk_43 (dk_at dksX6_is_0 4 rfl rfl)
theorem dX6_is_5 : decode cX6_is 5 = .ok (.if_acmp .ne 7, 3) := dk_166 0 7 (dk_at dksX6_is_0 5 rfl rfl)
theorem dX6_is_8 : decode cX6_is 8 = .ok (.iconst 1, 1) := dk_4 (dk_at dksX6_is_0 8 rfl rfl)
theorem dX6_is_9 : decode cX6_is 9 = .ok (.goto 4, 3) := dk_167 0 4 (dk_at dksX6_is_0 9 rfl rfl)
theorem dX6_is_12 : decode cX6_is 12 = .ok (.iconst 0, 1) := dk_3 (dk_at dksX6_is_0 12 rfl rfl)
theorem dX6_is_13 : decode cX6_is 13 = .ok (.ireturn, 1) := dk_172 (dk_at dksX6_is_0 13 rfl rfl)
def dkwX6_size_0 : List UInt8 := [42, 180, 0, 12, 182, 0, 38, 172]
abbrev dktX6_size_0 : List UInt8 := dkwX6_size_0 ++ []
theorem dksX6_size_0 : cX6_size.data.toList.drop 0 = dktX6_size_0 := by decide +kernel
theorem dX6_size_0 : decode cX6_size 0 = .ok (.aload_n 0, 1) := dk_42 (dk_at dksX6_size_0 0 rfl rfl)
theorem dX6_size_1 : decode cX6_size 1 = .ok (.getfield 12, 3) := dk_180 0 12 (dk_at dksX6_size_0 1 rfl rfl)
theorem dX6_size_4 : decode cX6_size 4 = .ok (.invokevirtual 38, 3) := dk_182 0 38 (dk_at dksX6_size_0 4 rfl rfl)
theorem dX6_size_7 : decode cX6_size 7 = .ok (.ireturn, 1) := dk_172 (dk_at dksX6_size_0 7 rfl rfl)
def dkwX6_init_3 : List UInt8 := [43, 180, 0, 58, 181, 0, 58, 42, 43, 180, 0, 61, 181, 0, 61, 177]
abbrev dktX6_init_3 : List UInt8 := dkwX6_init_3 ++ []
def dkwX6_init_2 : List UInt8 := [43, 180, 0, 18, 3, 42, 180, 0, 18, 3, 16, 8, 184, 0, 52, 42, 43, 180, 0, 28, 181, 0, 28, 42]
abbrev dktX6_init_2 : List UInt8 := dkwX6_init_2 ++ dktX6_init_3
def dkwX6_init_1 : List UInt8 := [180, 0, 12, 43, 180, 0, 12, 28, 182, 0, 42, 192, 0, 46, 182, 0, 48, 62, 132, 2, 1, 167, 255, 223]
abbrev dktX6_init_1 : List UInt8 := dkwX6_init_1 ++ dktX6_init_2
def dkwX6_init_0 : List UInt8 := [42, 43, 180, 0, 31, 183, 0, 35, 3, 61, 28, 43, 180, 0, 12, 182, 0, 38, 162, 0, 28, 42]
abbrev dktX6_init_0 : List UInt8 := dkwX6_init_0 ++ dktX6_init_1
theorem dksX6_init_0 : cX6_init.data.toList.drop 0 = dktX6_init_0 := by decide +kernel
theorem dksX6_init_1 : cX6_init.data.toList.drop 22 = dktX6_init_1 := dk_seg dksX6_init_0 22 rfl rfl
theorem dksX6_init_2 : cX6_init.data.toList.drop 46 = dktX6_init_2 := dk_seg dksX6_init_1 24 rfl rfl
theorem dksX6_init_3 : cX6_init.data.toList.drop 70 = dktX6_init_3 := dk_seg dksX6_init_2 24 rfl rfl
theorem dX6_init_0 : decode cX6_init 0 = .ok (.aload_n 0, 1) := dk_42 (dk_at dksX6_init_0 0 rfl rfl)
theorem dX6_init_1 : decode cX6_init 1 = .ok (.aload_n 1, 1) := dk_43 (dk_at dksX6_init_0 1 rfl rfl)
theorem dX6_init_2 : decode cX6_init 2 = .ok (.getfield 31, 3) := dk_180 0 31 (dk_at dksX6_init_0 2 rfl rfl)
theorem dX6_init_5 : decode cX6_init 5 = .ok (.invokespecial 35, 3) := dk_183 0 35 (dk_at dksX6_init_0 5 rfl rfl)
theorem dX6_init_8 : decode cX6_init 8 = .ok (.iconst 0, 1) := dk_3 (dk_at dksX6_init_0 8 rfl rfl)
theorem dX6_init_9 : decode cX6_init 9 = .ok (.istore_n 2, 1) := dk_61 (dk_at dksX6_init_0 9 rfl rfl)
theorem dX6_init_10 : decode cX6_init 10 = .ok (.iload_n 2, 1) := dk_28 (dk_at dksX6_init_0 10 rfl rfl)
theorem dX6_init_11 : decode cX6_init 11 = .ok (.aload_n 1, 1) := dk_43 (dk_at dksX6_init_0 11 rfl rfl)
theorem dX6_init_12 : decode cX6_init 12 = .ok (.getfield 12, 3) := dk_180 0 12 (dk_at dksX6_init_0 12 rfl rfl)
theorem dX6_init_15 : decode cX6_init 15 = .ok (.invokevirtual 38, 3) := dk_182 0 38 (dk_at dksX6_init_0 15 rfl rfl)
theorem dX6_init_18 : decode cX6_init 18 = .ok (.if_icmp .ge 28, 3) := dk_162 0 28 (dk_at dksX6_init_0 18 rfl rfl)
theorem dX6_init_21 : decode cX6_init 21 = .ok (.aload_n 0, 1) := dk_42 (dk_at dksX6_init_0 21 rfl rfl)
theorem dX6_init_22 : decode cX6_init 22 = .ok (.getfield 12, 3) := dk_180 0 12 (dk_at dksX6_init_1 0 rfl rfl)
theorem dX6_init_25 : decode cX6_init 25 = .ok (.aload_n 1, 1) := dk_43 (dk_at dksX6_init_1 3 rfl rfl)
theorem dX6_init_26 : decode cX6_init 26 = .ok (.getfield 12, 3) := dk_180 0 12 (dk_at dksX6_init_1 4 rfl rfl)
theorem dX6_init_29 : decode cX6_init 29 = .ok (.iload_n 2, 1) := dk_28 (dk_at dksX6_init_1 7 rfl rfl)
theorem dX6_init_30 : decode cX6_init 30 = .ok (.invokevirtual 42, 3) := dk_182 0 42 (dk_at dksX6_init_1 8 rfl rfl)
theorem dX6_init_33 : decode cX6_init 33 = .ok (.checkcast 46, 3) := dk_192 0 46 (dk_at dksX6_init_1 11 rfl rfl)
theorem dX6_init_36 : decode cX6_init 36 = .ok (.invokevirtual 48, 3) := dk_182 0 48 (dk_at dksX6_init_1 14 rfl rfl)
theorem dX6_init_39 : decode cX6_init 39 = .ok (.istore_n 3, 1) := dk_62 (dk_at dksX6_init_1 17 rfl rfl)
theorem dX6_init_40 : decode cX6_init 40 = .ok (.iinc 2 1, 3) := dk_132 2 1 (dk_at dksX6_init_1 18 rfl rfl)
theorem dX6_init_43 : decode cX6_init 43 = .ok (.goto (-33), 3) := dk_167 255 223 (dk_at dksX6_init_1 21 rfl rfl)
theorem dX6_init_46 : decode cX6_init 46 = .ok (.aload_n 1, 1) := dk_43 (dk_at dksX6_init_2 0 rfl rfl)
theorem dX6_init_47 : decode cX6_init 47 = .ok (.getfield 18, 3) := dk_180 0 18 (dk_at dksX6_init_2 1 rfl rfl)
theorem dX6_init_50 : decode cX6_init 50 = .ok (.iconst 0, 1) := dk_3 (dk_at dksX6_init_2 4 rfl rfl)
theorem dX6_init_51 : decode cX6_init 51 = .ok (.aload_n 0, 1) := dk_42 (dk_at dksX6_init_2 5 rfl rfl)
theorem dX6_init_52 : decode cX6_init 52 = .ok (.getfield 18, 3) := dk_180 0 18 (dk_at dksX6_init_2 6 rfl rfl)
theorem dX6_init_55 : decode cX6_init 55 = .ok (.iconst 0, 1) := dk_3 (dk_at dksX6_init_2 9 rfl rfl)
theorem dX6_init_56 : decode cX6_init 56 = .ok (.bipush 8, 2) := dk_16 8 (dk_at dksX6_init_2 10 rfl rfl)
theorem dX6_init_58 : decode cX6_init 58 = .ok (.invokestatic 52, 3) := dk_184 0 52 (dk_at dksX6_init_2 12 rfl rfl)
theorem dX6_init_61 : decode cX6_init 61 = .ok (.aload_n 0, 1) := dk_42 (dk_at dksX6_init_2 15 rfl rfl)
theorem dX6_init_62 : decode cX6_init 62 = .ok (.aload_n 1, 1) := dk_43 (dk_at dksX6_init_2 16 rfl rfl)
theorem dX6_init_63 : decode cX6_init 63 = .ok (.getfield 28, 3) := dk_180 0 28 (dk_at dksX6_init_2 17 rfl rfl)
theorem dX6_init_66 : decode cX6_init 66 = .ok (.putfield 28, 3) := dk_181 0 28 (dk_at dksX6_init_2 20 rfl rfl)
theorem dX6_init_69 : decode cX6_init 69 = .ok (.aload_n 0, 1) := dk_42 (dk_at dksX6_init_2 23 rfl rfl)
theorem dX6_init_70 : decode cX6_init 70 = .ok (.aload_n 1, 1) := dk_43 (dk_at dksX6_init_3 0 rfl rfl)
theorem dX6_init_71 : decode cX6_init 71 = .ok (.getfield 58, 3) := dk_180 0 58 (dk_at dksX6_init_3 1 rfl rfl)
theorem dX6_init_74 : decode cX6_init 74 = .ok (.putfield 58, 3) := dk_181 0 58 (dk_at dksX6_init_3 4 rfl rfl)
theorem dX6_init_77 : decode cX6_init 77 = .ok (.aload_n 0, 1) := dk_42 (dk_at dksX6_init_3 7 rfl rfl)
theorem dX6_init_78 : decode cX6_init 78 = .ok (.aload_n 1, 1) := dk_43 (dk_at dksX6_init_3 8 rfl rfl)
theorem dX6_init_79 : decode cX6_init 79 = .ok (.getfield 61, 3) := dk_180 0 61 (dk_at dksX6_init_3 9 rfl rfl)
theorem dX6_init_82 : decode cX6_init 82 = .ok (.putfield 61, 3) := dk_181 0 61 (dk_at dksX6_init_3 12 rfl rfl)
theorem dX6_init_85 : decode cX6_init 85 = .ok (.return_, 1) := dk_177 (dk_at dksX6_init_3 15 rfl rfl)
def dkwX6_init_2_2 : List UInt8 := [132, 2, 1, 167, 255, 239, 42, 27, 181, 0, 31, 177]
abbrev dktX6_init_2_2 : List UInt8 := dkwX6_init_2_2 ++ []
def dkwX6_init_2_1 : List UInt8 := [178, 0, 22, 181, 0, 28, 3, 61, 28, 16, 8, 162, 0, 17, 42, 180, 0, 18, 28, 16, 9, 79]
abbrev dktX6_init_2_1 : List UInt8 := dkwX6_init_2_1 ++ dktX6_init_2_2
def dkwX6_init_2_0 : List UInt8 := [42, 183, 0, 3, 42, 187, 0, 9, 89, 183, 0, 11, 181, 0, 12, 42, 16, 8, 188, 10, 181, 0, 18, 42]
abbrev dktX6_init_2_0 : List UInt8 := dkwX6_init_2_0 ++ dktX6_init_2_1
theorem dksX6_init_2_0 : cX6_init_2.data.toList.drop 0 = dktX6_init_2_0 := by decide +kernel
theorem dksX6_init_2_1 : cX6_init_2.data.toList.drop 24 = dktX6_init_2_1 := dk_seg dksX6_init_2_0 24 rfl rfl
theorem dksX6_init_2_2 : cX6_init_2.data.toList.drop 46 = dktX6_init_2_2 := dk_seg dksX6_init_2_1 22 rfl rfl
theorem dX6_init_2_0 : decode cX6_init_2 0 = .ok (.aload_n 0, 1) := dk_42 (dk_at dksX6_init_2_0 0 rfl rfl)
theorem dX6_init_2_1 : decode cX6_init_2 1 = .ok (.invokespecial 3, 3) := dk_183 0 3 (dk_at dksX6_init_2_0 1 rfl rfl)
theorem dX6_init_2_4 : decode cX6_init_2 4 = .ok (.aload_n 0, 1) := dk_42 (dk_at dksX6_init_2_0 4 rfl rfl)
theorem dX6_init_2_5 : decode cX6_init_2 5 = .ok (.new 9, 3) := dk_187 0 9 (dk_at dksX6_init_2_0 5 rfl rfl)
theorem dX6_init_2_8 : decode cX6_init_2 8 = .ok (.dup, 1) := dk_89 (dk_at dksX6_init_2_0 8 rfl rfl)
theorem dX6_init_2_9 : decode cX6_init_2 9 = .ok (.invokespecial 11, 3) := dk_183 0 11 (dk_at dksX6_init_2_0 9 rfl rfl)
theorem dX6_init_2_12 : decode cX6_init_2 12 = .ok (.putfield 12, 3) := dk_181 0 12 (dk_at dksX6_init_2_0 12 rfl rfl)
theorem dX6_init_2_15 : decode cX6_init_2 15 = .ok (.aload_n 0, 1) := dk_42 (dk_at dksX6_init_2_0 15 rfl rfl)
theorem dX6_init_2_16 : decode cX6_init_2 16 = .ok (.bipush 8, 2) := dk_16 8 (dk_at dksX6_init_2_0 16 rfl rfl)
theorem dX6_init_2_18 : decode cX6_init_2 18 = .ok (.newarray .int, 2) := dk_188_10 (dk_at dksX6_init_2_0 18 rfl rfl)
theorem dX6_init_2_20 : decode cX6_init_2 20 = .ok (.putfield 18, 3) := dk_181 0 18 (dk_at dksX6_init_2_0 20 rfl rfl)
theorem dX6_init_2_23 : decode cX6_init_2 23 = .ok (.aload_n 0, 1) := dk_42 (dk_at dksX6_init_2_0 23 rfl rfl)
theorem dX6_init_2_24 : decode cX6_init_2 24 = .ok (.getstatic 22, 3) := dk_178 0 22 (dk_at dksX6_init_2_1 0 rfl rfl)
theorem dX6_init_2_27 : decode cX6_init_2 27 = .ok (.putfield 28, 3) := dk_181 0 28 (dk_at dksX6_init_2_1 3 rfl rfl)
theorem dX6_init_2_30 : decode cX6_init_2 30 = .ok (.iconst 0, 1) := dk_3 (dk_at dksX6_init_2_1 6 rfl rfl)
theorem dX6_init_2_31 : decode cX6_init_2 31 = .ok (.istore_n 2, 1) := dk_61 (dk_at dksX6_init_2_1 7 rfl rfl)
theorem dX6_init_2_32 : decode cX6_init_2 32 = .ok (.iload_n 2, 1) := dk_28 (dk_at dksX6_init_2_1 8 rfl rfl)
theorem dX6_init_2_33 : decode cX6_init_2 33 = .ok (.bipush 8, 2) := dk_16 8 (dk_at dksX6_init_2_1 9 rfl rfl)
theorem dX6_init_2_35 : decode cX6_init_2 35 = .ok (.if_icmp .ge 17, 3) := dk_162 0 17 (dk_at dksX6_init_2_1 11 rfl rfl)
theorem dX6_init_2_38 : decode cX6_init_2 38 = .ok (.aload_n 0, 1) := dk_42 (dk_at dksX6_init_2_1 14 rfl rfl)
theorem dX6_init_2_39 : decode cX6_init_2 39 = .ok (.getfield 18, 3) := dk_180 0 18 (dk_at dksX6_init_2_1 15 rfl rfl)
theorem dX6_init_2_42 : decode cX6_init_2 42 = .ok (.iload_n 2, 1) := dk_28 (dk_at dksX6_init_2_1 18 rfl rfl)
theorem dX6_init_2_43 : decode cX6_init_2 43 = .ok (.bipush 9, 2) := dk_16 9 (dk_at dksX6_init_2_1 19 rfl rfl)
theorem dX6_init_2_45 : decode cX6_init_2 45 = .ok (.iastore, 1) := dk_79 (dk_at dksX6_init_2_1 21 rfl rfl)
theorem dX6_init_2_46 : decode cX6_init_2 46 = .ok (.iinc 2 1, 3) := dk_132 2 1 (dk_at dksX6_init_2_2 0 rfl rfl)
theorem dX6_init_2_49 : decode cX6_init_2 49 = .ok (.goto (-17), 3) := dk_167 255 239 (dk_at dksX6_init_2_2 3 rfl rfl)
theorem dX6_init_2_52 : decode cX6_init_2 52 = .ok (.aload_n 0, 1) := dk_42 (dk_at dksX6_init_2_2 6 rfl rfl)
theorem dX6_init_2_53 : decode cX6_init_2 53 = .ok (.iload_n 1, 1) := dk_27 (dk_at dksX6_init_2_2 7 rfl rfl)
theorem dX6_init_2_54 : decode cX6_init_2 54 = .ok (.putfield 31, 3) := dk_181 0 31 (dk_at dksX6_init_2_2 8 rfl rfl)
theorem dX6_init_2_57 : decode cX6_init_2 57 = .ok (.return_, 1) := dk_177 (dk_at dksX6_init_2_2 11 rfl rfl)
def dkwX6_mirror_2 : List UInt8 := [180, 0, 81, 160, 0, 7, 3, 167, 0, 4, 4, 96, 60, 132, 2, 1, 167, 255, 197, 27, 172]
abbrev dktX6_mirror_2 : List UInt8 := dkwX6_mirror_2 ++ []
def dkwX6_mirror_1 : List UInt8 := [42, 180, 0, 12, 28, 45, 182, 0, 101, 182, 0, 105, 192, 0, 46, 58, 4, 27, 45, 180, 0, 78, 45]
abbrev dktX6_mirror_1 : List UInt8 := dkwX6_mirror_1 ++ dktX6_mirror_2
def dkwX6_mirror_0 : List UInt8 := [3, 60, 3, 61, 28, 42, 182, 0, 64, 162, 0, 57, 42, 180, 0, 12, 28, 182, 0, 42, 192, 0, 46, 78]
abbrev dktX6_mirror_0 : List UInt8 := dkwX6_mirror_0 ++ dktX6_mirror_1
theorem dksX6_mirror_0 : cX6_mirror.data.toList.drop 0 = dktX6_mirror_0 := by decide +kernel
theorem dksX6_mirror_1 : cX6_mirror.data.toList.drop 24 = dktX6_mirror_1 := dk_seg dksX6_mirror_0 24 rfl rfl
theorem dksX6_mirror_2 : cX6_mirror.data.toList.drop 47 = dktX6_mirror_2 := dk_seg dksX6_mirror_1 23 rfl rfl
theorem dX6_mirror_0 : decode cX6_mirror 0 = .ok (.iconst 0, 1) := dk_3 (dk_at dksX6_mirror_0 0 rfl rfl)
theorem dX6_mirror_1 : decode cX6_mirror 1 = .ok (.istore_n 1, 1) := dk_60 (dk_at dksX6_mirror_0 1 rfl rfl)
theorem dX6_mirror_2 : decode cX6_mirror 2 = .ok (.iconst 0, 1) := dk_3 (dk_at dksX6_mirror_0 2 rfl rfl)
theorem dX6_mirror_3 : decode cX6_mirror 3 = .ok (.istore_n 2, 1) := dk_61 (dk_at dksX6_mirror_0 3 rfl rfl)
theorem dX6_mirror_4 : decode cX6_mirror 4 = .ok (.iload_n 2, 1) := dk_28 (dk_at dksX6_mirror_0 4 rfl rfl)
theorem dX6_mirror_5 : decode cX6_mirror 5 = .ok (.aload_n 0, 1) := dk_42 (dk_at dksX6_mirror_0 5 rfl rfl)
theorem dX6_mirror_6 : decode cX6_mirror 6 = .ok (.invokevirtual 64, 3) := dk_182 0 64 (dk_at dksX6_mirror_0 6 rfl rfl)
theorem dX6_mirror_9 : decode cX6_mirror 9 = .ok (.if_icmp .ge 57, 3) := dk_162 0 57 (dk_at dksX6_mirror_0 9 rfl rfl)
theorem dX6_mirror_12 : decode cX6_mirror 12 = .ok (.aload_n 0, 1) := dk_42 (dk_at dksX6_mirror_0 12 rfl rfl)
theorem dX6_mirror_13 : decode cX6_mirror 13 = .ok (.getfield 12, 3) := dk_180 0 12 (dk_at dksX6_mirror_0 13 rfl rfl)
theorem dX6_mirror_16 : decode cX6_mirror 16 = .ok (.iload_n 2, 1) := dk_28 (dk_at dksX6_mirror_0 16 rfl rfl)
theorem dX6_mirror_17 : decode cX6_mirror 17 = .ok (.invokevirtual 42, 3) := dk_182 0 42 (dk_at dksX6_mirror_0 17 rfl rfl)
theorem dX6_mirror_20 : decode cX6_mirror 20 = .ok (.checkcast 46, 3) := dk_192 0 46 (dk_at dksX6_mirror_0 20 rfl rfl)
theorem dX6_mirror_23 : decode cX6_mirror 23 = .ok (.astore_n 3, 1) := dk_78 (dk_at dksX6_mirror_0 23 rfl rfl)
theorem dX6_mirror_24 : decode cX6_mirror 24 = .ok (.aload_n 0, 1) := dk_42 (dk_at dksX6_mirror_1 0 rfl rfl)
theorem dX6_mirror_25 : decode cX6_mirror 25 = .ok (.getfield 12, 3) := dk_180 0 12 (dk_at dksX6_mirror_1 1 rfl rfl)
theorem dX6_mirror_28 : decode cX6_mirror 28 = .ok (.iload_n 2, 1) := dk_28 (dk_at dksX6_mirror_1 4 rfl rfl)
theorem dX6_mirror_29 : decode cX6_mirror 29 = .ok (.aload_n 3, 1) := dk_45 (dk_at dksX6_mirror_1 5 rfl rfl)
theorem dX6_mirror_30 : decode cX6_mirror 30 = .ok (.invokevirtual 101, 3) := dk_182 0 101 (dk_at dksX6_mirror_1 6 rfl rfl)
theorem dX6_mirror_33 : decode cX6_mirror 33 = .ok (.invokevirtual 105, 3) := dk_182 0 105 (dk_at dksX6_mirror_1 9 rfl rfl)
theorem dX6_mirror_36 : decode cX6_mirror 36 = .ok (.checkcast 46, 3) := dk_192 0 46 (dk_at dksX6_mirror_1 12 rfl rfl)
theorem dX6_mirror_39 : decode cX6_mirror 39 = .ok (.astore 4, 2) := dk_58 4 (dk_at dksX6_mirror_1 15 rfl rfl)
theorem dX6_mirror_41 : decode cX6_mirror 41 = .ok (.iload_n 1, 1) := dk_27 (dk_at dksX6_mirror_1 17 rfl rfl)
theorem dX6_mirror_42 : decode cX6_mirror 42 = .ok (.aload_n 3, 1) := dk_45 (dk_at dksX6_mirror_1 18 rfl rfl)
theorem dX6_mirror_43 : decode cX6_mirror 43 = .ok (.getfield 78, 3) := dk_180 0 78 (dk_at dksX6_mirror_1 19 rfl rfl)
theorem dX6_mirror_46 : decode cX6_mirror 46 = .ok (.aload_n 3, 1) := dk_45 (dk_at dksX6_mirror_1 22 rfl rfl)
theorem dX6_mirror_47 : decode cX6_mirror 47 = .ok (.getfield 81, 3) := dk_180 0 81 (dk_at dksX6_mirror_2 0 rfl rfl)
theorem dX6_mirror_50 : decode cX6_mirror 50 = .ok (.if_icmp .ne 7, 3) := dk_160 0 7 (dk_at dksX6_mirror_2 3 rfl rfl)
theorem dX6_mirror_53 : decode cX6_mirror 53 = .ok (.iconst 0, 1) := dk_3 (dk_at dksX6_mirror_2 6 rfl rfl)
theorem dX6_mirror_54 : decode cX6_mirror 54 = .ok (.goto 4, 3) := dk_167 0 4 (dk_at dksX6_mirror_2 7 rfl rfl)
theorem dX6_mirror_57 : decode cX6_mirror 57 = .ok (.iconst 1, 1) := dk_4 (dk_at dksX6_mirror_2 10 rfl rfl)
theorem dX6_mirror_58 : decode cX6_mirror 58 = .ok (.iadd, 1) := dk_96 (dk_at dksX6_mirror_2 11 rfl rfl)
theorem dX6_mirror_59 : decode cX6_mirror 59 = .ok (.istore_n 1, 1) := dk_60 (dk_at dksX6_mirror_2 12 rfl rfl)
theorem dX6_mirror_60 : decode cX6_mirror 60 = .ok (.iinc 2 1, 3) := dk_132 2 1 (dk_at dksX6_mirror_2 13 rfl rfl)
theorem dX6_mirror_63 : decode cX6_mirror 63 = .ok (.goto (-59), 3) := dk_167 255 197 (dk_at dksX6_mirror_2 16 rfl rfl)
theorem dX6_mirror_66 : decode cX6_mirror 66 = .ok (.iload_n 1, 1) := dk_27 (dk_at dksX6_mirror_2 19 rfl rfl)
theorem dX6_mirror_67 : decode cX6_mirror 67 = .ok (.ireturn, 1) := dk_172 (dk_at dksX6_mirror_2 20 rfl rfl)
def dkwX6_draught_1 : List UInt8 := [2, 172]
abbrev dktX6_draught_1 : List UInt8 := dkwX6_draught_1 ++ []
def dkwX6_draught_0 : List UInt8 := [3, 60, 27, 16, 40, 163, 0, 19, 42, 27, 182, 0, 93, 153, 0, 5, 27, 172, 132, 1, 1, 167, 255, 237]
abbrev dktX6_draught_0 : List UInt8 := dkwX6_draught_0 ++ dktX6_draught_1
theorem dksX6_draught_0 : cX6_draught.data.toList.drop 0 = dktX6_draught_0 := by decide +kernel
theorem dksX6_draught_1 : cX6_draught.data.toList.drop 24 = dktX6_draught_1 := dk_seg dksX6_draught_0 24 rfl rfl
theorem dX6_draught_0 : decode cX6_draught 0 = .ok (.iconst 0, 1) := dk_3 (dk_at dksX6_draught_0 0 rfl rfl)
theorem dX6_draught_1 : decode cX6_draught 1 = .ok (.istore_n 1, 1) := dk_60 (dk_at dksX6_draught_0 1 rfl rfl)
theorem dX6_draught_2 : decode cX6_draught 2 = .ok (.iload_n 1, 1) := dk_27 (dk_at dksX6_draught_0 2 rfl rfl)
theorem dX6_draught_3 : decode cX6_draught 3 = .ok (.bipush 40, 2) := dk_16 40 (dk_at dksX6_draught_0 3 rfl rfl)
theorem dX6_draught_5 : decode cX6_draught 5 = .ok (.if_icmp .gt 19, 3) := dk_163 0 19 (dk_at dksX6_draught_0 5 rfl rfl)
theorem dX6_draught_8 : decode cX6_draught 8 = .ok (.aload_n 0, 1) := dk_42 (dk_at dksX6_draught_0 8 rfl rfl)
theorem dX6_draught_9 : decode cX6_draught 9 = .ok (.iload_n 1, 1) := dk_27 (dk_at dksX6_draught_0 9 rfl rfl)
theorem dX6_draught_10 : decode cX6_draught 10 = .ok (.invokevirtual 93, 3) := dk_182 0 93 (dk_at dksX6_draught_0 10 rfl rfl)
theorem dX6_draught_13 : decode cX6_draught 13 = .ok (.ifCond .eq 5, 3) := dk_153 0 5 (dk_at dksX6_draught_0 13 rfl rfl)
theorem dX6_draught_16 : decode cX6_draught 16 = .ok (.iload_n 1, 1) := dk_27 (dk_at dksX6_draught_0 16 rfl rfl)
theorem dX6_draught_17 : decode cX6_draught 17 = .ok (.ireturn, 1) := dk_172 (dk_at dksX6_draught_0 17 rfl rfl)
theorem dX6_draught_18 : decode cX6_draught 18 = .ok (.iinc 1 1, 3) := dk_132 1 1 (dk_at dksX6_draught_0 18 rfl rfl)
theorem dX6_draught_21 : decode cX6_draught 21 = .ok (.goto (-19), 3) := dk_167 255 237 (dk_at dksX6_draught_0 21 rfl rfl)
theorem dX6_draught_24 : decode cX6_draught 24 = .ok (.iconst (-1), 1) := dk_2 (dk_at dksX6_draught_1 0 rfl rfl)
theorem dX6_draught_25 : decode cX6_draught 25 = .ok (.ireturn, 1) := dk_172 (dk_at dksX6_draught_1 1 rfl rfl)
def dkwX6_floatsAt_0 : List UInt8 := [42, 182, 0, 87, 27, 104, 5, 108, 42, 182, 0, 90, 161, 0, 7, 4, 167, 0, 4, 3, 172]
abbrev dktX6_floatsAt_0 : List UInt8 := dkwX6_floatsAt_0 ++ []
theorem dksX6_floatsAt_0 : cX6_floatsAt.data.toList.drop 0 = dktX6_floatsAt_0 := by decide +kernel
theorem dX6_floatsAt_0 : decode cX6_floatsAt 0 = .ok (.aload_n 0, 1) := dk_42 (dk_at dksX6_floatsAt_0 0 rfl rfl)
theorem dX6_floatsAt_1 : decode cX6_floatsAt 1 = .ok (.invokevirtual 87, 3) := dk_182 0 87 (dk_at dksX6_floatsAt_0 1 rfl rfl)
theorem dX6_floatsAt_4 : decode cX6_floatsAt 4 = .ok (.iload_n 1, 1) := dk_27 (dk_at dksX6_floatsAt_0 4 rfl rfl)
theorem dX6_floatsAt_5 : decode cX6_floatsAt 5 = .ok (.imul, 1) := dk_104 (dk_at dksX6_floatsAt_0 5 rfl rfl)
theorem dX6_floatsAt_6 : decode cX6_floatsAt 6 = .ok (.iconst 2, 1) := dk_5 (dk_at dksX6_floatsAt_0 6 rfl rfl)
theorem dX6_floatsAt_7 : decode cX6_floatsAt 7 = .ok (.idiv, 1) := dk_108 (dk_at dksX6_floatsAt_0 7 rfl rfl)
theorem dX6_floatsAt_8 : decode cX6_floatsAt 8 = .ok (.aload_n 0, 1) := dk_42 (dk_at dksX6_floatsAt_0 8 rfl rfl)
theorem dX6_floatsAt_9 : decode cX6_floatsAt 9 = .ok (.invokevirtual 90, 3) := dk_182 0 90 (dk_at dksX6_floatsAt_0 9 rfl rfl)
theorem dX6_floatsAt_12 : decode cX6_floatsAt 12 = .ok (.if_icmp .lt 7, 3) := dk_161 0 7 (dk_at dksX6_floatsAt_0 12 rfl rfl)
theorem dX6_floatsAt_15 : decode cX6_floatsAt 15 = .ok (.iconst 1, 1) := dk_4 (dk_at dksX6_floatsAt_0 15 rfl rfl)
theorem dX6_floatsAt_16 : decode cX6_floatsAt 16 = .ok (.goto 4, 3) := dk_167 0 4 (dk_at dksX6_floatsAt_0 16 rfl rfl)
theorem dX6_floatsAt_19 : decode cX6_floatsAt 19 = .ok (.iconst 0, 1) := dk_3 (dk_at dksX6_floatsAt_0 19 rfl rfl)
theorem dX6_floatsAt_20 : decode cX6_floatsAt 20 = .ok (.ireturn, 1) := dk_172 (dk_at dksX6_floatsAt_0 20 rfl rfl)
def dkwX6_seamWidths_2 : List UInt8 := [132, 2, 1, 167, 255, 211, 27, 172]
abbrev dktX6_seamWidths_2 : List UInt8 := dkwX6_seamWidths_2 ++ []
def dkwX6_seamWidths_1 : List UInt8 := [182, 0, 75, 42, 180, 0, 12, 28, 4, 96, 182, 0, 42, 192, 0, 46, 182, 0, 75, 96, 96, 60]
abbrev dktX6_seamWidths_1 : List UInt8 := dkwX6_seamWidths_1 ++ dktX6_seamWidths_2
def dkwX6_seamWidths_0 : List UInt8 := [3, 60, 3, 61, 28, 42, 182, 0, 84, 162, 0, 43, 27, 42, 180, 0, 12, 28, 182, 0, 42, 192, 0, 46]
abbrev dktX6_seamWidths_0 : List UInt8 := dkwX6_seamWidths_0 ++ dktX6_seamWidths_1
theorem dksX6_seamWidths_0 : cX6_seamWidths.data.toList.drop 0 = dktX6_seamWidths_0 := by decide +kernel
theorem dksX6_seamWidths_1 : cX6_seamWidths.data.toList.drop 24 = dktX6_seamWidths_1 := dk_seg dksX6_seamWidths_0 24 rfl rfl
theorem dksX6_seamWidths_2 : cX6_seamWidths.data.toList.drop 46 = dktX6_seamWidths_2 := dk_seg dksX6_seamWidths_1 22 rfl rfl
theorem dX6_seamWidths_0 : decode cX6_seamWidths 0 = .ok (.iconst 0, 1) := dk_3 (dk_at dksX6_seamWidths_0 0 rfl rfl)
theorem dX6_seamWidths_1 : decode cX6_seamWidths 1 = .ok (.istore_n 1, 1) := dk_60 (dk_at dksX6_seamWidths_0 1 rfl rfl)
theorem dX6_seamWidths_2 : decode cX6_seamWidths 2 = .ok (.iconst 0, 1) := dk_3 (dk_at dksX6_seamWidths_0 2 rfl rfl)
theorem dX6_seamWidths_3 : decode cX6_seamWidths 3 = .ok (.istore_n 2, 1) := dk_61 (dk_at dksX6_seamWidths_0 3 rfl rfl)
theorem dX6_seamWidths_4 : decode cX6_seamWidths 4 = .ok (.iload_n 2, 1) := dk_28 (dk_at dksX6_seamWidths_0 4 rfl rfl)
theorem dX6_seamWidths_5 : decode cX6_seamWidths 5 = .ok (.aload_n 0, 1) := dk_42 (dk_at dksX6_seamWidths_0 5 rfl rfl)
theorem dX6_seamWidths_6 : decode cX6_seamWidths 6 = .ok (.invokevirtual 84, 3) := dk_182 0 84 (dk_at dksX6_seamWidths_0 6 rfl rfl)
theorem dX6_seamWidths_9 : decode cX6_seamWidths 9 = .ok (.if_icmp .ge 43, 3) := dk_162 0 43 (dk_at dksX6_seamWidths_0 9 rfl rfl)
theorem dX6_seamWidths_12 : decode cX6_seamWidths 12 = .ok (.iload_n 1, 1) := dk_27 (dk_at dksX6_seamWidths_0 12 rfl rfl)
theorem dX6_seamWidths_13 : decode cX6_seamWidths 13 = .ok (.aload_n 0, 1) := dk_42 (dk_at dksX6_seamWidths_0 13 rfl rfl)
theorem dX6_seamWidths_14 : decode cX6_seamWidths 14 = .ok (.getfield 12, 3) := dk_180 0 12 (dk_at dksX6_seamWidths_0 14 rfl rfl)
theorem dX6_seamWidths_17 : decode cX6_seamWidths 17 = .ok (.iload_n 2, 1) := dk_28 (dk_at dksX6_seamWidths_0 17 rfl rfl)
theorem dX6_seamWidths_18 : decode cX6_seamWidths 18 = .ok (.invokevirtual 42, 3) := dk_182 0 42 (dk_at dksX6_seamWidths_0 18 rfl rfl)
theorem dX6_seamWidths_21 : decode cX6_seamWidths 21 = .ok (.checkcast 46, 3) := dk_192 0 46 (dk_at dksX6_seamWidths_0 21 rfl rfl)
theorem dX6_seamWidths_24 : decode cX6_seamWidths 24 = .ok (.invokevirtual 75, 3) := dk_182 0 75 (dk_at dksX6_seamWidths_1 0 rfl rfl)
theorem dX6_seamWidths_27 : decode cX6_seamWidths 27 = .ok (.aload_n 0, 1) := dk_42 (dk_at dksX6_seamWidths_1 3 rfl rfl)
theorem dX6_seamWidths_28 : decode cX6_seamWidths 28 = .ok (.getfield 12, 3) := dk_180 0 12 (dk_at dksX6_seamWidths_1 4 rfl rfl)
theorem dX6_seamWidths_31 : decode cX6_seamWidths 31 = .ok (.iload_n 2, 1) := dk_28 (dk_at dksX6_seamWidths_1 7 rfl rfl)
theorem dX6_seamWidths_32 : decode cX6_seamWidths 32 = .ok (.iconst 1, 1) := dk_4 (dk_at dksX6_seamWidths_1 8 rfl rfl)
theorem dX6_seamWidths_33 : decode cX6_seamWidths 33 = .ok (.iadd, 1) := dk_96 (dk_at dksX6_seamWidths_1 9 rfl rfl)
theorem dX6_seamWidths_34 : decode cX6_seamWidths 34 = .ok (.invokevirtual 42, 3) := dk_182 0 42 (dk_at dksX6_seamWidths_1 10 rfl rfl)
theorem dX6_seamWidths_37 : decode cX6_seamWidths 37 = .ok (.checkcast 46, 3) := dk_192 0 46 (dk_at dksX6_seamWidths_1 13 rfl rfl)
theorem dX6_seamWidths_40 : decode cX6_seamWidths 40 = .ok (.invokevirtual 75, 3) := dk_182 0 75 (dk_at dksX6_seamWidths_1 16 rfl rfl)
theorem dX6_seamWidths_43 : decode cX6_seamWidths 43 = .ok (.iadd, 1) := dk_96 (dk_at dksX6_seamWidths_1 19 rfl rfl)
theorem dX6_seamWidths_44 : decode cX6_seamWidths 44 = .ok (.iadd, 1) := dk_96 (dk_at dksX6_seamWidths_1 20 rfl rfl)
theorem dX6_seamWidths_45 : decode cX6_seamWidths 45 = .ok (.istore_n 1, 1) := dk_60 (dk_at dksX6_seamWidths_1 21 rfl rfl)
theorem dX6_seamWidths_46 : decode cX6_seamWidths 46 = .ok (.iinc 2 1, 3) := dk_132 2 1 (dk_at dksX6_seamWidths_2 0 rfl rfl)
theorem dX6_seamWidths_49 : decode cX6_seamWidths 49 = .ok (.goto (-45), 3) := dk_167 255 211 (dk_at dksX6_seamWidths_2 3 rfl rfl)
theorem dX6_seamWidths_52 : decode cX6_seamWidths 52 = .ok (.iload_n 1, 1) := dk_27 (dk_at dksX6_seamWidths_2 6 rfl rfl)
theorem dX6_seamWidths_53 : decode cX6_seamWidths 53 = .ok (.ireturn, 1) := dk_172 (dk_at dksX6_seamWidths_2 7 rfl rfl)
def dkwX6_seams_0 : List UInt8 := [3, 42, 182, 0, 64, 4, 100, 184, 0, 65, 172]
abbrev dktX6_seams_0 : List UInt8 := dkwX6_seams_0 ++ []
theorem dksX6_seams_0 : cX6_seams.data.toList.drop 0 = dktX6_seams_0 := by decide +kernel
theorem dX6_seams_0 : decode cX6_seams 0 = .ok (.iconst 0, 1) := dk_3 (dk_at dksX6_seams_0 0 rfl rfl)
theorem dX6_seams_1 : decode cX6_seams 1 = .ok (.aload_n 0, 1) := dk_42 (dk_at dksX6_seams_0 1 rfl rfl)
theorem dX6_seams_2 : decode cX6_seams 2 = .ok (.invokevirtual 64, 3) := dk_182 0 64 (dk_at dksX6_seams_0 2 rfl rfl)
theorem dX6_seams_5 : decode cX6_seams 5 = .ok (.iconst 1, 1) := dk_4 (dk_at dksX6_seams_0 5 rfl rfl)
theorem dX6_seams_6 : decode cX6_seams 6 = .ok (.isub, 1) := dk_100 (dk_at dksX6_seams_0 6 rfl rfl)
theorem dX6_seams_7 : decode cX6_seams 7 = .ok (.invokestatic 65, 3) := dk_184 0 65 (dk_at dksX6_seams_0 7 rfl rfl)
theorem dX6_seams_10 : decode cX6_seams 10 = .ok (.ireturn, 1) := dk_172 (dk_at dksX6_seams_0 10 rfl rfl)
def dkwX6_weight_2 : List UInt8 := [132, 2, 1, 167, 255, 228, 27, 172]
abbrev dktX6_weight_2 : List UInt8 := dkwX6_weight_2 ++ []
def dkwX6_weight_1 : List UInt8 := [42, 182, 0, 64, 162, 0, 26, 27, 42, 180, 0, 12, 28, 182, 0, 42, 192, 0, 46, 182, 0, 75, 96, 60]
abbrev dktX6_weight_1 : List UInt8 := dkwX6_weight_1 ++ dktX6_weight_2
def dkwX6_weight_0 : List UInt8 := [5, 188, 10, 89, 3, 42, 180, 0, 58, 79, 89, 4, 42, 180, 0, 61, 79, 184, 0, 71, 60, 3, 61, 28]
abbrev dktX6_weight_0 : List UInt8 := dkwX6_weight_0 ++ dktX6_weight_1
theorem dksX6_weight_0 : cX6_weight.data.toList.drop 0 = dktX6_weight_0 := by decide +kernel
theorem dksX6_weight_1 : cX6_weight.data.toList.drop 24 = dktX6_weight_1 := dk_seg dksX6_weight_0 24 rfl rfl
theorem dksX6_weight_2 : cX6_weight.data.toList.drop 48 = dktX6_weight_2 := dk_seg dksX6_weight_1 24 rfl rfl
theorem dX6_weight_0 : decode cX6_weight 0 = .ok (.iconst 2, 1) := dk_5 (dk_at dksX6_weight_0 0 rfl rfl)
theorem dX6_weight_1 : decode cX6_weight 1 = .ok (.newarray .int, 2) := dk_188_10 (dk_at dksX6_weight_0 1 rfl rfl)
theorem dX6_weight_3 : decode cX6_weight 3 = .ok (.dup, 1) := dk_89 (dk_at dksX6_weight_0 3 rfl rfl)
theorem dX6_weight_4 : decode cX6_weight 4 = .ok (.iconst 0, 1) := dk_3 (dk_at dksX6_weight_0 4 rfl rfl)
theorem dX6_weight_5 : decode cX6_weight 5 = .ok (.aload_n 0, 1) := dk_42 (dk_at dksX6_weight_0 5 rfl rfl)
theorem dX6_weight_6 : decode cX6_weight 6 = .ok (.getfield 58, 3) := dk_180 0 58 (dk_at dksX6_weight_0 6 rfl rfl)
theorem dX6_weight_9 : decode cX6_weight 9 = .ok (.iastore, 1) := dk_79 (dk_at dksX6_weight_0 9 rfl rfl)
theorem dX6_weight_10 : decode cX6_weight 10 = .ok (.dup, 1) := dk_89 (dk_at dksX6_weight_0 10 rfl rfl)
theorem dX6_weight_11 : decode cX6_weight 11 = .ok (.iconst 1, 1) := dk_4 (dk_at dksX6_weight_0 11 rfl rfl)
theorem dX6_weight_12 : decode cX6_weight 12 = .ok (.aload_n 0, 1) := dk_42 (dk_at dksX6_weight_0 12 rfl rfl)
theorem dX6_weight_13 : decode cX6_weight 13 = .ok (.getfield 61, 3) := dk_180 0 61 (dk_at dksX6_weight_0 13 rfl rfl)
theorem dX6_weight_16 : decode cX6_weight 16 = .ok (.iastore, 1) := dk_79 (dk_at dksX6_weight_0 16 rfl rfl)
theorem dX6_weight_17 : decode cX6_weight 17 = .ok (.invokestatic 71, 3) := dk_184 0 71 (dk_at dksX6_weight_0 17 rfl rfl)
theorem dX6_weight_20 : decode cX6_weight 20 = .ok (.istore_n 1, 1) := dk_60 (dk_at dksX6_weight_0 20 rfl rfl)
theorem dX6_weight_21 : decode cX6_weight 21 = .ok (.iconst 0, 1) := dk_3 (dk_at dksX6_weight_0 21 rfl rfl)
theorem dX6_weight_22 : decode cX6_weight 22 = .ok (.istore_n 2, 1) := dk_61 (dk_at dksX6_weight_0 22 rfl rfl)
theorem dX6_weight_23 : decode cX6_weight 23 = .ok (.iload_n 2, 1) := dk_28 (dk_at dksX6_weight_0 23 rfl rfl)
theorem dX6_weight_24 : decode cX6_weight 24 = .ok (.aload_n 0, 1) := dk_42 (dk_at dksX6_weight_1 0 rfl rfl)
theorem dX6_weight_25 : decode cX6_weight 25 = .ok (.invokevirtual 64, 3) := dk_182 0 64 (dk_at dksX6_weight_1 1 rfl rfl)
theorem dX6_weight_28 : decode cX6_weight 28 = .ok (.if_icmp .ge 26, 3) := dk_162 0 26 (dk_at dksX6_weight_1 4 rfl rfl)
theorem dX6_weight_31 : decode cX6_weight 31 = .ok (.iload_n 1, 1) := dk_27 (dk_at dksX6_weight_1 7 rfl rfl)
theorem dX6_weight_32 : decode cX6_weight 32 = .ok (.aload_n 0, 1) := dk_42 (dk_at dksX6_weight_1 8 rfl rfl)
theorem dX6_weight_33 : decode cX6_weight 33 = .ok (.getfield 12, 3) := dk_180 0 12 (dk_at dksX6_weight_1 9 rfl rfl)
theorem dX6_weight_36 : decode cX6_weight 36 = .ok (.iload_n 2, 1) := dk_28 (dk_at dksX6_weight_1 12 rfl rfl)
theorem dX6_weight_37 : decode cX6_weight 37 = .ok (.invokevirtual 42, 3) := dk_182 0 42 (dk_at dksX6_weight_1 13 rfl rfl)
theorem dX6_weight_40 : decode cX6_weight 40 = .ok (.checkcast 46, 3) := dk_192 0 46 (dk_at dksX6_weight_1 16 rfl rfl)
theorem dX6_weight_43 : decode cX6_weight 43 = .ok (.invokevirtual 75, 3) := dk_182 0 75 (dk_at dksX6_weight_1 19 rfl rfl)
theorem dX6_weight_46 : decode cX6_weight 46 = .ok (.iadd, 1) := dk_96 (dk_at dksX6_weight_1 22 rfl rfl)
theorem dX6_weight_47 : decode cX6_weight 47 = .ok (.istore_n 1, 1) := dk_60 (dk_at dksX6_weight_1 23 rfl rfl)
theorem dX6_weight_48 : decode cX6_weight 48 = .ok (.iinc 2 1, 3) := dk_132 2 1 (dk_at dksX6_weight_2 0 rfl rfl)
theorem dX6_weight_51 : decode cX6_weight 51 = .ok (.goto (-28), 3) := dk_167 255 228 (dk_at dksX6_weight_2 3 rfl rfl)
theorem dX6_weight_54 : decode cX6_weight 54 = .ok (.iload_n 1, 1) := dk_27 (dk_at dksX6_weight_2 6 rfl rfl)
theorem dX6_weight_55 : decode cX6_weight 55 = .ok (.ireturn, 1) := dk_172 (dk_at dksX6_weight_2 7 rfl rfl)
def dkwX6_sinksIn_4 : List UInt8 := [182, 0, 120, 172]
abbrev dktX6_sinksIn_4 : List UInt8 := dkwX6_sinksIn_4 ++ []
def dkwX6_sinksIn_3 : List UInt8 := [132, 2, 1, 167, 255, 197, 42, 182, 0, 97, 154, 0, 10, 42, 178, 0, 124, 181, 0, 28, 42, 178, 0, 124]
abbrev dktX6_sinksIn_3 : List UInt8 := dkwX6_sinksIn_3 ++ dktX6_sinksIn_4
def dkwX6_sinksIn_2 : List UInt8 := [16, 6, 112, 154, 0, 16, 42, 180, 0, 18, 28, 46, 158, 0, 7, 4, 167, 0, 4, 3, 100, 79]
abbrev dktX6_sinksIn_2 : List UInt8 := dkwX6_sinksIn_2 ++ dktX6_sinksIn_3
def dkwX6_sinksIn_1 : List UInt8 := [180, 0, 61, 16, 9, 42, 180, 0, 18, 28, 46, 100, 96, 181, 0, 61, 42, 180, 0, 18, 28, 92, 46, 27]
abbrev dktX6_sinksIn_1 : List UInt8 := dkwX6_sinksIn_1 ++ dktX6_sinksIn_2
def dkwX6_sinksIn_0 : List UInt8 := [42, 178, 0, 117, 182, 0, 120, 154, 0, 5, 3, 172, 3, 61, 28, 42, 182, 0, 84, 162, 0, 57, 42, 89]
abbrev dktX6_sinksIn_0 : List UInt8 := dkwX6_sinksIn_0 ++ dktX6_sinksIn_1
theorem dksX6_sinksIn_0 : cX6_sinksIn.data.toList.drop 0 = dktX6_sinksIn_0 := by decide +kernel
theorem dksX6_sinksIn_1 : cX6_sinksIn.data.toList.drop 24 = dktX6_sinksIn_1 := dk_seg dksX6_sinksIn_0 24 rfl rfl
theorem dksX6_sinksIn_2 : cX6_sinksIn.data.toList.drop 48 = dktX6_sinksIn_2 := dk_seg dksX6_sinksIn_1 24 rfl rfl
theorem dksX6_sinksIn_3 : cX6_sinksIn.data.toList.drop 70 = dktX6_sinksIn_3 := dk_seg dksX6_sinksIn_2 22 rfl rfl
theorem dksX6_sinksIn_4 : cX6_sinksIn.data.toList.drop 94 = dktX6_sinksIn_4 := dk_seg dksX6_sinksIn_3 24 rfl rfl
theorem dX6_sinksIn_0 : decode cX6_sinksIn 0 = .ok (.aload_n 0, 1) := dk_42 (dk_at dksX6_sinksIn_0 0 rfl rfl)
theorem dX6_sinksIn_1 : decode cX6_sinksIn 1 = .ok (.getstatic 117, 3) := dk_178 0 117 (dk_at dksX6_sinksIn_0 1 rfl rfl)
theorem dX6_sinksIn_4 : decode cX6_sinksIn 4 = .ok (.invokevirtual 120, 3) := dk_182 0 120 (dk_at dksX6_sinksIn_0 4 rfl rfl)
theorem dX6_sinksIn_7 : decode cX6_sinksIn 7 = .ok (.ifCond .ne 5, 3) := dk_154 0 5 (dk_at dksX6_sinksIn_0 7 rfl rfl)
theorem dX6_sinksIn_10 : decode cX6_sinksIn 10 = .ok (.iconst 0, 1) := dk_3 (dk_at dksX6_sinksIn_0 10 rfl rfl)
theorem dX6_sinksIn_11 : decode cX6_sinksIn 11 = .ok (.ireturn, 1) := dk_172 (dk_at dksX6_sinksIn_0 11 rfl rfl)
theorem dX6_sinksIn_12 : decode cX6_sinksIn 12 = .ok (.iconst 0, 1) := dk_3 (dk_at dksX6_sinksIn_0 12 rfl rfl)
theorem dX6_sinksIn_13 : decode cX6_sinksIn 13 = .ok (.istore_n 2, 1) := dk_61 (dk_at dksX6_sinksIn_0 13 rfl rfl)
theorem dX6_sinksIn_14 : decode cX6_sinksIn 14 = .ok (.iload_n 2, 1) := dk_28 (dk_at dksX6_sinksIn_0 14 rfl rfl)
theorem dX6_sinksIn_15 : decode cX6_sinksIn 15 = .ok (.aload_n 0, 1) := dk_42 (dk_at dksX6_sinksIn_0 15 rfl rfl)
theorem dX6_sinksIn_16 : decode cX6_sinksIn 16 = .ok (.invokevirtual 84, 3) := dk_182 0 84 (dk_at dksX6_sinksIn_0 16 rfl rfl)
theorem dX6_sinksIn_19 : decode cX6_sinksIn 19 = .ok (.if_icmp .ge 57, 3) := dk_162 0 57 (dk_at dksX6_sinksIn_0 19 rfl rfl)
theorem dX6_sinksIn_22 : decode cX6_sinksIn 22 = .ok (.aload_n 0, 1) := dk_42 (dk_at dksX6_sinksIn_0 22 rfl rfl)
theorem dX6_sinksIn_23 : decode cX6_sinksIn 23 = .ok (.dup, 1) := dk_89 (dk_at dksX6_sinksIn_0 23 rfl rfl)
theorem dX6_sinksIn_24 : decode cX6_sinksIn 24 = .ok (.getfield 61, 3) := dk_180 0 61 (dk_at dksX6_sinksIn_1 0 rfl rfl)
theorem dX6_sinksIn_27 : decode cX6_sinksIn 27 = .ok (.bipush 9, 2) := dk_16 9 (dk_at dksX6_sinksIn_1 3 rfl rfl)
theorem dX6_sinksIn_29 : decode cX6_sinksIn 29 = .ok (.aload_n 0, 1) := dk_42 (dk_at dksX6_sinksIn_1 5 rfl rfl)
theorem dX6_sinksIn_30 : decode cX6_sinksIn 30 = .ok (.getfield 18, 3) := dk_180 0 18 (dk_at dksX6_sinksIn_1 6 rfl rfl)
theorem dX6_sinksIn_33 : decode cX6_sinksIn 33 = .ok (.iload_n 2, 1) := dk_28 (dk_at dksX6_sinksIn_1 9 rfl rfl)
theorem dX6_sinksIn_34 : decode cX6_sinksIn 34 = .ok (.iaload, 1) := dk_46 (dk_at dksX6_sinksIn_1 10 rfl rfl)
theorem dX6_sinksIn_35 : decode cX6_sinksIn 35 = .ok (.isub, 1) := dk_100 (dk_at dksX6_sinksIn_1 11 rfl rfl)
theorem dX6_sinksIn_36 : decode cX6_sinksIn 36 = .ok (.iadd, 1) := dk_96 (dk_at dksX6_sinksIn_1 12 rfl rfl)
theorem dX6_sinksIn_37 : decode cX6_sinksIn 37 = .ok (.putfield 61, 3) := dk_181 0 61 (dk_at dksX6_sinksIn_1 13 rfl rfl)
theorem dX6_sinksIn_40 : decode cX6_sinksIn 40 = .ok (.aload_n 0, 1) := dk_42 (dk_at dksX6_sinksIn_1 16 rfl rfl)
theorem dX6_sinksIn_41 : decode cX6_sinksIn 41 = .ok (.getfield 18, 3) := dk_180 0 18 (dk_at dksX6_sinksIn_1 17 rfl rfl)
theorem dX6_sinksIn_44 : decode cX6_sinksIn 44 = .ok (.iload_n 2, 1) := dk_28 (dk_at dksX6_sinksIn_1 20 rfl rfl)
theorem dX6_sinksIn_45 : decode cX6_sinksIn 45 = .ok (.dup2, 1) := dk_92 (dk_at dksX6_sinksIn_1 21 rfl rfl)
theorem dX6_sinksIn_46 : decode cX6_sinksIn 46 = .ok (.iaload, 1) := dk_46 (dk_at dksX6_sinksIn_1 22 rfl rfl)
theorem dX6_sinksIn_47 : decode cX6_sinksIn 47 = .ok (.iload_n 1, 1) := dk_27 (dk_at dksX6_sinksIn_1 23 rfl rfl)
theorem dX6_sinksIn_48 : decode cX6_sinksIn 48 = .ok (.bipush 6, 2) := dk_16 6 (dk_at dksX6_sinksIn_2 0 rfl rfl)
theorem dX6_sinksIn_50 : decode cX6_sinksIn 50 = .ok (.irem, 1) := dk_112 (dk_at dksX6_sinksIn_2 2 rfl rfl)
theorem dX6_sinksIn_51 : decode cX6_sinksIn 51 = .ok (.ifCond .ne 16, 3) := dk_154 0 16 (dk_at dksX6_sinksIn_2 3 rfl rfl)
theorem dX6_sinksIn_54 : decode cX6_sinksIn 54 = .ok (.aload_n 0, 1) := dk_42 (dk_at dksX6_sinksIn_2 6 rfl rfl)
theorem dX6_sinksIn_55 : decode cX6_sinksIn 55 = .ok (.getfield 18, 3) := dk_180 0 18 (dk_at dksX6_sinksIn_2 7 rfl rfl)
theorem dX6_sinksIn_58 : decode cX6_sinksIn 58 = .ok (.iload_n 2, 1) := dk_28 (dk_at dksX6_sinksIn_2 10 rfl rfl)
theorem dX6_sinksIn_59 : decode cX6_sinksIn 59 = .ok (.iaload, 1) := dk_46 (dk_at dksX6_sinksIn_2 11 rfl rfl)
theorem dX6_sinksIn_60 : decode cX6_sinksIn 60 = .ok (.ifCond .le 7, 3) := dk_158 0 7 (dk_at dksX6_sinksIn_2 12 rfl rfl)
theorem dX6_sinksIn_63 : decode cX6_sinksIn 63 = .ok (.iconst 1, 1) := dk_4 (dk_at dksX6_sinksIn_2 15 rfl rfl)
theorem dX6_sinksIn_64 : decode cX6_sinksIn 64 = .ok (.goto 4, 3) := dk_167 0 4 (dk_at dksX6_sinksIn_2 16 rfl rfl)
theorem dX6_sinksIn_67 : decode cX6_sinksIn 67 = .ok (.iconst 0, 1) := dk_3 (dk_at dksX6_sinksIn_2 19 rfl rfl)
theorem dX6_sinksIn_68 : decode cX6_sinksIn 68 = .ok (.isub, 1) := dk_100 (dk_at dksX6_sinksIn_2 20 rfl rfl)
theorem dX6_sinksIn_69 : decode cX6_sinksIn 69 = .ok (.iastore, 1) := dk_79 (dk_at dksX6_sinksIn_2 21 rfl rfl)
theorem dX6_sinksIn_70 : decode cX6_sinksIn 70 = .ok (.iinc 2 1, 3) := dk_132 2 1 (dk_at dksX6_sinksIn_3 0 rfl rfl)
theorem dX6_sinksIn_73 : decode cX6_sinksIn 73 = .ok (.goto (-59), 3) := dk_167 255 197 (dk_at dksX6_sinksIn_3 3 rfl rfl)
theorem dX6_sinksIn_76 : decode cX6_sinksIn 76 = .ok (.aload_n 0, 1) := dk_42 (dk_at dksX6_sinksIn_3 6 rfl rfl)
theorem dX6_sinksIn_77 : decode cX6_sinksIn 77 = .ok (.invokevirtual 97, 3) := dk_182 0 97 (dk_at dksX6_sinksIn_3 7 rfl rfl)
theorem dX6_sinksIn_80 : decode cX6_sinksIn 80 = .ok (.ifCond .ne 10, 3) := dk_154 0 10 (dk_at dksX6_sinksIn_3 10 rfl rfl)
theorem dX6_sinksIn_83 : decode cX6_sinksIn 83 = .ok (.aload_n 0, 1) := dk_42 (dk_at dksX6_sinksIn_3 13 rfl rfl)
theorem dX6_sinksIn_84 : decode cX6_sinksIn 84 = .ok (.getstatic 124, 3) := dk_178 0 124 (dk_at dksX6_sinksIn_3 14 rfl rfl)
theorem dX6_sinksIn_87 : decode cX6_sinksIn 87 = .ok (.putfield 28, 3) := dk_181 0 28 (dk_at dksX6_sinksIn_3 17 rfl rfl)
theorem dX6_sinksIn_90 : decode cX6_sinksIn 90 = .ok (.aload_n 0, 1) := dk_42 (dk_at dksX6_sinksIn_3 20 rfl rfl)
theorem dX6_sinksIn_91 : decode cX6_sinksIn 91 = .ok (.getstatic 124, 3) := dk_178 0 124 (dk_at dksX6_sinksIn_3 21 rfl rfl)
theorem dX6_sinksIn_94 : decode cX6_sinksIn 94 = .ok (.invokevirtual 120, 3) := dk_182 0 120 (dk_at dksX6_sinksIn_4 0 rfl rfl)
theorem dX6_sinksIn_97 : decode cX6_sinksIn 97 = .ok (.ireturn, 1) := dk_172 (dk_at dksX6_sinksIn_4 3 rfl rfl)
def dkwX6_canFloat_0 : List UInt8 := [42, 16, 40, 182, 0, 93, 172]
abbrev dktX6_canFloat_0 : List UInt8 := dkwX6_canFloat_0 ++ []
theorem dksX6_canFloat_0 : cX6_canFloat.data.toList.drop 0 = dktX6_canFloat_0 := by decide +kernel
theorem dX6_canFloat_0 : decode cX6_canFloat 0 = .ok (.aload_n 0, 1) := dk_42 (dk_at dksX6_canFloat_0 0 rfl rfl)
theorem dX6_canFloat_1 : decode cX6_canFloat 1 = .ok (.bipush 40, 2) := dk_16 40 (dk_at dksX6_canFloat_0 1 rfl rfl)
theorem dX6_canFloat_3 : decode cX6_canFloat 3 = .ok (.invokevirtual 93, 3) := dk_182 0 93 (dk_at dksX6_canFloat_0 3 rfl rfl)
theorem dX6_canFloat_6 : decode cX6_canFloat 6 = .ok (.ireturn, 1) := dk_172 (dk_at dksX6_canFloat_0 6 rfl rfl)
def dkwX6_draughtByHalving_1 : List UInt8 := [62, 42, 29, 182, 0, 93, 153, 0, 8, 29, 61, 167, 0, 7, 29, 4, 96, 60, 167, 255, 228, 27, 172]
abbrev dktX6_draughtByHalving_1 : List UInt8 := dkwX6_draughtByHalving_1 ++ []
def dkwX6_draughtByHalving_0 : List UInt8 := [42, 182, 0, 97, 154, 0, 5, 2, 172, 3, 60, 16, 40, 61, 27, 28, 162, 0, 29, 27, 28, 96, 5, 108]
abbrev dktX6_draughtByHalving_0 : List UInt8 := dkwX6_draughtByHalving_0 ++ dktX6_draughtByHalving_1
theorem dksX6_draughtByHalving_0 : cX6_draughtByHalving.data.toList.drop 0 = dktX6_draughtByHalving_0 := by decide +kernel
theorem dksX6_draughtByHalving_1 : cX6_draughtByHalving.data.toList.drop 24 = dktX6_draughtByHalving_1 := dk_seg dksX6_draughtByHalving_0 24 rfl rfl
theorem dX6_draughtByHalving_0 : decode cX6_draughtByHalving 0 = .ok (.aload_n 0, 1) := dk_42 (dk_at dksX6_draughtByHalving_0 0 rfl rfl)
theorem dX6_draughtByHalving_1 : decode cX6_draughtByHalving 1 = .ok (.invokevirtual 97, 3) := dk_182 0 97 (dk_at dksX6_draughtByHalving_0 1 rfl rfl)
theorem dX6_draughtByHalving_4 : decode cX6_draughtByHalving 4 = .ok (.ifCond .ne 5, 3) := dk_154 0 5 (dk_at dksX6_draughtByHalving_0 4 rfl rfl)
theorem dX6_draughtByHalving_7 : decode cX6_draughtByHalving 7 = .ok (.iconst (-1), 1) := dk_2 (dk_at dksX6_draughtByHalving_0 7 rfl rfl)
theorem dX6_draughtByHalving_8 : decode cX6_draughtByHalving 8 = .ok (.ireturn, 1) := dk_172 (dk_at dksX6_draughtByHalving_0 8 rfl rfl)
theorem dX6_draughtByHalving_9 : decode cX6_draughtByHalving 9 = .ok (.iconst 0, 1) := dk_3 (dk_at dksX6_draughtByHalving_0 9 rfl rfl)
theorem dX6_draughtByHalving_10 : decode cX6_draughtByHalving 10 = .ok (.istore_n 1, 1) := dk_60 (dk_at dksX6_draughtByHalving_0 10 rfl rfl)
theorem dX6_draughtByHalving_11 : decode cX6_draughtByHalving 11 = .ok (.bipush 40, 2) := dk_16 40 (dk_at dksX6_draughtByHalving_0 11 rfl rfl)
theorem dX6_draughtByHalving_13 : decode cX6_draughtByHalving 13 = .ok (.istore_n 2, 1) := dk_61 (dk_at dksX6_draughtByHalving_0 13 rfl rfl)
theorem dX6_draughtByHalving_14 : decode cX6_draughtByHalving 14 = .ok (.iload_n 1, 1) := dk_27 (dk_at dksX6_draughtByHalving_0 14 rfl rfl)
theorem dX6_draughtByHalving_15 : decode cX6_draughtByHalving 15 = .ok (.iload_n 2, 1) := dk_28 (dk_at dksX6_draughtByHalving_0 15 rfl rfl)
theorem dX6_draughtByHalving_16 : decode cX6_draughtByHalving 16 = .ok (.if_icmp .ge 29, 3) := dk_162 0 29 (dk_at dksX6_draughtByHalving_0 16 rfl rfl)
theorem dX6_draughtByHalving_19 : decode cX6_draughtByHalving 19 = .ok (.iload_n 1, 1) := dk_27 (dk_at dksX6_draughtByHalving_0 19 rfl rfl)
theorem dX6_draughtByHalving_20 : decode cX6_draughtByHalving 20 = .ok (.iload_n 2, 1) := dk_28 (dk_at dksX6_draughtByHalving_0 20 rfl rfl)
theorem dX6_draughtByHalving_21 : decode cX6_draughtByHalving 21 = .ok (.iadd, 1) := dk_96 (dk_at dksX6_draughtByHalving_0 21 rfl rfl)
theorem dX6_draughtByHalving_22 : decode cX6_draughtByHalving 22 = .ok (.iconst 2, 1) := dk_5 (dk_at dksX6_draughtByHalving_0 22 rfl rfl)
theorem dX6_draughtByHalving_23 : decode cX6_draughtByHalving 23 = .ok (.idiv, 1) := dk_108 (dk_at dksX6_draughtByHalving_0 23 rfl rfl)
theorem dX6_draughtByHalving_24 : decode cX6_draughtByHalving 24 = .ok (.istore_n 3, 1) := dk_62 (dk_at dksX6_draughtByHalving_1 0 rfl rfl)
theorem dX6_draughtByHalving_25 : decode cX6_draughtByHalving 25 = .ok (.aload_n 0, 1) := dk_42 (dk_at dksX6_draughtByHalving_1 1 rfl rfl)
theorem dX6_draughtByHalving_26 : decode cX6_draughtByHalving 26 = .ok (.iload_n 3, 1) := dk_29 (dk_at dksX6_draughtByHalving_1 2 rfl rfl)
theorem dX6_draughtByHalving_27 : decode cX6_draughtByHalving 27 = .ok (.invokevirtual 93, 3) := dk_182 0 93 (dk_at dksX6_draughtByHalving_1 3 rfl rfl)
theorem dX6_draughtByHalving_30 : decode cX6_draughtByHalving 30 = .ok (.ifCond .eq 8, 3) := dk_153 0 8 (dk_at dksX6_draughtByHalving_1 6 rfl rfl)
theorem dX6_draughtByHalving_33 : decode cX6_draughtByHalving 33 = .ok (.iload_n 3, 1) := dk_29 (dk_at dksX6_draughtByHalving_1 9 rfl rfl)
theorem dX6_draughtByHalving_34 : decode cX6_draughtByHalving 34 = .ok (.istore_n 2, 1) := dk_61 (dk_at dksX6_draughtByHalving_1 10 rfl rfl)
theorem dX6_draughtByHalving_35 : decode cX6_draughtByHalving 35 = .ok (.goto 7, 3) := dk_167 0 7 (dk_at dksX6_draughtByHalving_1 11 rfl rfl)
theorem dX6_draughtByHalving_38 : decode cX6_draughtByHalving 38 = .ok (.iload_n 3, 1) := dk_29 (dk_at dksX6_draughtByHalving_1 14 rfl rfl)
theorem dX6_draughtByHalving_39 : decode cX6_draughtByHalving 39 = .ok (.iconst 1, 1) := dk_4 (dk_at dksX6_draughtByHalving_1 15 rfl rfl)
theorem dX6_draughtByHalving_40 : decode cX6_draughtByHalving 40 = .ok (.iadd, 1) := dk_96 (dk_at dksX6_draughtByHalving_1 16 rfl rfl)
theorem dX6_draughtByHalving_41 : decode cX6_draughtByHalving 41 = .ok (.istore_n 1, 1) := dk_60 (dk_at dksX6_draughtByHalving_1 17 rfl rfl)
theorem dX6_draughtByHalving_42 : decode cX6_draughtByHalving 42 = .ok (.goto (-28), 3) := dk_167 255 228 (dk_at dksX6_draughtByHalving_1 18 rfl rfl)
theorem dX6_draughtByHalving_45 : decode cX6_draughtByHalving 45 = .ok (.iload_n 1, 1) := dk_27 (dk_at dksX6_draughtByHalving_1 21 rfl rfl)
theorem dX6_draughtByHalving_46 : decode cX6_draughtByHalving 46 = .ok (.ireturn, 1) := dk_172 (dk_at dksX6_draughtByHalving_1 22 rfl rfl)
def dkwX6_heel_2 : List UInt8 := [167, 255, 213, 27, 172]
abbrev dktX6_heel_2 : List UInt8 := dkwX6_heel_2 ++ []
def dkwX6_heel_1 : List UInt8 := [180, 0, 78, 42, 180, 0, 12, 28, 182, 0, 42, 192, 0, 46, 180, 0, 81, 100, 96, 60, 132, 2, 1]
abbrev dktX6_heel_1 : List UInt8 := dkwX6_heel_1 ++ dktX6_heel_2
def dkwX6_heel_0 : List UInt8 := [3, 60, 3, 61, 28, 42, 182, 0, 64, 162, 0, 41, 27, 42, 180, 0, 12, 28, 182, 0, 42, 192, 0, 46]
abbrev dktX6_heel_0 : List UInt8 := dkwX6_heel_0 ++ dktX6_heel_1
theorem dksX6_heel_0 : cX6_heel.data.toList.drop 0 = dktX6_heel_0 := by decide +kernel
theorem dksX6_heel_1 : cX6_heel.data.toList.drop 24 = dktX6_heel_1 := dk_seg dksX6_heel_0 24 rfl rfl
theorem dksX6_heel_2 : cX6_heel.data.toList.drop 47 = dktX6_heel_2 := dk_seg dksX6_heel_1 23 rfl rfl
theorem dX6_heel_0 : decode cX6_heel 0 = .ok (.iconst 0, 1) := dk_3 (dk_at dksX6_heel_0 0 rfl rfl)
theorem dX6_heel_1 : decode cX6_heel 1 = .ok (.istore_n 1, 1) := dk_60 (dk_at dksX6_heel_0 1 rfl rfl)
theorem dX6_heel_2 : decode cX6_heel 2 = .ok (.iconst 0, 1) := dk_3 (dk_at dksX6_heel_0 2 rfl rfl)
theorem dX6_heel_3 : decode cX6_heel 3 = .ok (.istore_n 2, 1) := dk_61 (dk_at dksX6_heel_0 3 rfl rfl)
theorem dX6_heel_4 : decode cX6_heel 4 = .ok (.iload_n 2, 1) := dk_28 (dk_at dksX6_heel_0 4 rfl rfl)
theorem dX6_heel_5 : decode cX6_heel 5 = .ok (.aload_n 0, 1) := dk_42 (dk_at dksX6_heel_0 5 rfl rfl)
theorem dX6_heel_6 : decode cX6_heel 6 = .ok (.invokevirtual 64, 3) := dk_182 0 64 (dk_at dksX6_heel_0 6 rfl rfl)
theorem dX6_heel_9 : decode cX6_heel 9 = .ok (.if_icmp .ge 41, 3) := dk_162 0 41 (dk_at dksX6_heel_0 9 rfl rfl)
theorem dX6_heel_12 : decode cX6_heel 12 = .ok (.iload_n 1, 1) := dk_27 (dk_at dksX6_heel_0 12 rfl rfl)
theorem dX6_heel_13 : decode cX6_heel 13 = .ok (.aload_n 0, 1) := dk_42 (dk_at dksX6_heel_0 13 rfl rfl)
theorem dX6_heel_14 : decode cX6_heel 14 = .ok (.getfield 12, 3) := dk_180 0 12 (dk_at dksX6_heel_0 14 rfl rfl)
theorem dX6_heel_17 : decode cX6_heel 17 = .ok (.iload_n 2, 1) := dk_28 (dk_at dksX6_heel_0 17 rfl rfl)
theorem dX6_heel_18 : decode cX6_heel 18 = .ok (.invokevirtual 42, 3) := dk_182 0 42 (dk_at dksX6_heel_0 18 rfl rfl)
theorem dX6_heel_21 : decode cX6_heel 21 = .ok (.checkcast 46, 3) := dk_192 0 46 (dk_at dksX6_heel_0 21 rfl rfl)
theorem dX6_heel_24 : decode cX6_heel 24 = .ok (.getfield 78, 3) := dk_180 0 78 (dk_at dksX6_heel_1 0 rfl rfl)
theorem dX6_heel_27 : decode cX6_heel 27 = .ok (.aload_n 0, 1) := dk_42 (dk_at dksX6_heel_1 3 rfl rfl)
theorem dX6_heel_28 : decode cX6_heel 28 = .ok (.getfield 12, 3) := dk_180 0 12 (dk_at dksX6_heel_1 4 rfl rfl)
theorem dX6_heel_31 : decode cX6_heel 31 = .ok (.iload_n 2, 1) := dk_28 (dk_at dksX6_heel_1 7 rfl rfl)
theorem dX6_heel_32 : decode cX6_heel 32 = .ok (.invokevirtual 42, 3) := dk_182 0 42 (dk_at dksX6_heel_1 8 rfl rfl)
theorem dX6_heel_35 : decode cX6_heel 35 = .ok (.checkcast 46, 3) := dk_192 0 46 (dk_at dksX6_heel_1 11 rfl rfl)
theorem dX6_heel_38 : decode cX6_heel 38 = .ok (.getfield 81, 3) := dk_180 0 81 (dk_at dksX6_heel_1 14 rfl rfl)
theorem dX6_heel_41 : decode cX6_heel 41 = .ok (.isub, 1) := dk_100 (dk_at dksX6_heel_1 17 rfl rfl)
theorem dX6_heel_42 : decode cX6_heel 42 = .ok (.iadd, 1) := dk_96 (dk_at dksX6_heel_1 18 rfl rfl)
theorem dX6_heel_43 : decode cX6_heel 43 = .ok (.istore_n 1, 1) := dk_60 (dk_at dksX6_heel_1 19 rfl rfl)
theorem dX6_heel_44 : decode cX6_heel 44 = .ok (.iinc 2 1, 3) := dk_132 2 1 (dk_at dksX6_heel_1 20 rfl rfl)
theorem dX6_heel_47 : decode cX6_heel 47 = .ok (.goto (-43), 3) := dk_167 255 213 (dk_at dksX6_heel_2 0 rfl rfl)
theorem dX6_heel_50 : decode cX6_heel 50 = .ok (.iload_n 1, 1) := dk_27 (dk_at dksX6_heel_2 3 rfl rfl)
theorem dX6_heel_51 : decode cX6_heel 51 = .ok (.ireturn, 1) := dk_172 (dk_at dksX6_heel_2 4 rfl rfl)
def dkwX6_isReflectionOf_2 : List UInt8 := [154, 0, 5, 3, 172, 132, 2, 1, 167, 255, 215, 4, 172]
abbrev dktX6_isReflectionOf_2 : List UInt8 := dkwX6_isReflectionOf_2 ++ []
def dkwX6_isReflectionOf_1 : List UInt8 := [180, 0, 12, 28, 182, 0, 42, 192, 0, 46, 43, 180, 0, 12, 28, 182, 0, 42, 192, 0, 46, 182, 0, 109]
abbrev dktX6_isReflectionOf_1 : List UInt8 := dkwX6_isReflectionOf_1 ++ dktX6_isReflectionOf_2
def dkwX6_isReflectionOf_0 : List UInt8 := [42, 182, 0, 64, 43, 182, 0, 64, 159, 0, 5, 3, 172, 3, 61, 28, 42, 182, 0, 64, 162, 0, 39, 42]
abbrev dktX6_isReflectionOf_0 : List UInt8 := dkwX6_isReflectionOf_0 ++ dktX6_isReflectionOf_1
theorem dksX6_isReflectionOf_0 : cX6_isReflectionOf.data.toList.drop 0 = dktX6_isReflectionOf_0 := by decide +kernel
theorem dksX6_isReflectionOf_1 : cX6_isReflectionOf.data.toList.drop 24 = dktX6_isReflectionOf_1 := dk_seg dksX6_isReflectionOf_0 24 rfl rfl
theorem dksX6_isReflectionOf_2 : cX6_isReflectionOf.data.toList.drop 48 = dktX6_isReflectionOf_2 := dk_seg dksX6_isReflectionOf_1 24 rfl rfl
theorem dX6_isReflectionOf_0 : decode cX6_isReflectionOf 0 = .ok (.aload_n 0, 1) := dk_42 (dk_at dksX6_isReflectionOf_0 0 rfl rfl)
theorem dX6_isReflectionOf_1 : decode cX6_isReflectionOf 1 = .ok (.invokevirtual 64, 3) := dk_182 0 64 (dk_at dksX6_isReflectionOf_0 1 rfl rfl)
theorem dX6_isReflectionOf_4 : decode cX6_isReflectionOf 4 = .ok (.aload_n 1, 1) := dk_43 (dk_at dksX6_isReflectionOf_0 4 rfl rfl)
theorem dX6_isReflectionOf_5 : decode cX6_isReflectionOf 5 = .ok (.invokevirtual 64, 3) := dk_182 0 64 (dk_at dksX6_isReflectionOf_0 5 rfl rfl)
theorem dX6_isReflectionOf_8 : decode cX6_isReflectionOf 8 = .ok (.if_icmp .eq 5, 3) := dk_159 0 5 (dk_at dksX6_isReflectionOf_0 8 rfl rfl)
theorem dX6_isReflectionOf_11 : decode cX6_isReflectionOf 11 = .ok (.iconst 0, 1) := dk_3 (dk_at dksX6_isReflectionOf_0 11 rfl rfl)
theorem dX6_isReflectionOf_12 : decode cX6_isReflectionOf 12 = .ok (.ireturn, 1) := dk_172 (dk_at dksX6_isReflectionOf_0 12 rfl rfl)
theorem dX6_isReflectionOf_13 : decode cX6_isReflectionOf 13 = .ok (.iconst 0, 1) := dk_3 (dk_at dksX6_isReflectionOf_0 13 rfl rfl)
theorem dX6_isReflectionOf_14 : decode cX6_isReflectionOf 14 = .ok (.istore_n 2, 1) := dk_61 (dk_at dksX6_isReflectionOf_0 14 rfl rfl)
theorem dX6_isReflectionOf_15 : decode cX6_isReflectionOf 15 = .ok (.iload_n 2, 1) := dk_28 (dk_at dksX6_isReflectionOf_0 15 rfl rfl)
theorem dX6_isReflectionOf_16 : decode cX6_isReflectionOf 16 = .ok (.aload_n 0, 1) := dk_42 (dk_at dksX6_isReflectionOf_0 16 rfl rfl)
theorem dX6_isReflectionOf_17 : decode cX6_isReflectionOf 17 = .ok (.invokevirtual 64, 3) := dk_182 0 64 (dk_at dksX6_isReflectionOf_0 17 rfl rfl)
theorem dX6_isReflectionOf_20 : decode cX6_isReflectionOf 20 = .ok (.if_icmp .ge 39, 3) := dk_162 0 39 (dk_at dksX6_isReflectionOf_0 20 rfl rfl)
theorem dX6_isReflectionOf_23 : decode cX6_isReflectionOf 23 = .ok (.aload_n 0, 1) := dk_42 (dk_at dksX6_isReflectionOf_0 23 rfl rfl)
theorem dX6_isReflectionOf_24 : decode cX6_isReflectionOf 24 = .ok (.getfield 12, 3) := dk_180 0 12 (dk_at dksX6_isReflectionOf_1 0 rfl rfl)
theorem dX6_isReflectionOf_27 : decode cX6_isReflectionOf 27 = .ok (.iload_n 2, 1) := dk_28 (dk_at dksX6_isReflectionOf_1 3 rfl rfl)
theorem dX6_isReflectionOf_28 : decode cX6_isReflectionOf 28 = .ok (.invokevirtual 42, 3) := dk_182 0 42 (dk_at dksX6_isReflectionOf_1 4 rfl rfl)
theorem dX6_isReflectionOf_31 : decode cX6_isReflectionOf 31 = .ok (.checkcast 46, 3) := dk_192 0 46 (dk_at dksX6_isReflectionOf_1 7 rfl rfl)
theorem dX6_isReflectionOf_34 : decode cX6_isReflectionOf 34 = .ok (.aload_n 1, 1) := dk_43 (dk_at dksX6_isReflectionOf_1 10 rfl rfl)
theorem dX6_isReflectionOf_35 : decode cX6_isReflectionOf 35 = .ok (.getfield 12, 3) := dk_180 0 12 (dk_at dksX6_isReflectionOf_1 11 rfl rfl)
theorem dX6_isReflectionOf_38 : decode cX6_isReflectionOf 38 = .ok (.iload_n 2, 1) := dk_28 (dk_at dksX6_isReflectionOf_1 14 rfl rfl)
theorem dX6_isReflectionOf_39 : decode cX6_isReflectionOf 39 = .ok (.invokevirtual 42, 3) := dk_182 0 42 (dk_at dksX6_isReflectionOf_1 15 rfl rfl)
theorem dX6_isReflectionOf_42 : decode cX6_isReflectionOf 42 = .ok (.checkcast 46, 3) := dk_192 0 46 (dk_at dksX6_isReflectionOf_1 18 rfl rfl)
theorem dX6_isReflectionOf_45 : decode cX6_isReflectionOf 45 = .ok (.invokevirtual 109, 3) := dk_182 0 109 (dk_at dksX6_isReflectionOf_1 21 rfl rfl)
theorem dX6_isReflectionOf_48 : decode cX6_isReflectionOf 48 = .ok (.ifCond .ne 5, 3) := dk_154 0 5 (dk_at dksX6_isReflectionOf_2 0 rfl rfl)
theorem dX6_isReflectionOf_51 : decode cX6_isReflectionOf 51 = .ok (.iconst 0, 1) := dk_3 (dk_at dksX6_isReflectionOf_2 3 rfl rfl)
theorem dX6_isReflectionOf_52 : decode cX6_isReflectionOf 52 = .ok (.ireturn, 1) := dk_172 (dk_at dksX6_isReflectionOf_2 4 rfl rfl)
theorem dX6_isReflectionOf_53 : decode cX6_isReflectionOf 53 = .ok (.iinc 2 1, 3) := dk_132 2 1 (dk_at dksX6_isReflectionOf_2 5 rfl rfl)
theorem dX6_isReflectionOf_56 : decode cX6_isReflectionOf 56 = .ok (.goto (-41), 3) := dk_167 255 215 (dk_at dksX6_isReflectionOf_2 8 rfl rfl)
theorem dX6_isReflectionOf_59 : decode cX6_isReflectionOf 59 = .ok (.iconst 1, 1) := dk_4 (dk_at dksX6_isReflectionOf_2 11 rfl rfl)
theorem dX6_isReflectionOf_60 : decode cX6_isReflectionOf 60 = .ok (.ireturn, 1) := dk_172 (dk_at dksX6_isReflectionOf_2 12 rfl rfl)
def dkwX6_commonStretch_4 : List UInt8 := [167, 255, 191, 132, 4, 1, 167, 255, 170, 29, 172]
abbrev dktX6_commonStretch_4 : List UInt8 := dkwX6_commonStretch_4 ++ []
def dkwX6_commonStretch_3 : List UInt8 := [21, 5, 4, 100, 46, 4, 96, 167, 0, 4, 3, 79, 29, 44, 21, 5, 46, 184, 0, 65, 62, 132, 5, 255]
abbrev dktX6_commonStretch_3 : List UInt8 := dkwX6_commonStretch_3 ++ dktX6_commonStretch_4
def dkwX6_commonStretch_2 : List UInt8 := [192, 0, 46, 43, 180, 0, 12, 21, 5, 4, 100, 182, 0, 42, 192, 0, 46, 182, 0, 109, 153, 0, 14, 44]
abbrev dktX6_commonStretch_2 : List UInt8 := dkwX6_commonStretch_2 ++ dktX6_commonStretch_3
def dkwX6_commonStretch_1 : List UInt8 := [182, 0, 64, 54, 5, 21, 5, 158, 0, 66, 44, 21, 5, 42, 180, 0, 12, 21, 4, 182, 0, 42]
abbrev dktX6_commonStretch_1 : List UInt8 := dkwX6_commonStretch_1 ++ dktX6_commonStretch_2
def dkwX6_commonStretch_0 : List UInt8 := [43, 182, 0, 64, 4, 96, 188, 10, 77, 3, 62, 3, 54, 4, 21, 4, 42, 182, 0, 64, 162, 0, 83, 43]
abbrev dktX6_commonStretch_0 : List UInt8 := dkwX6_commonStretch_0 ++ dktX6_commonStretch_1
theorem dksX6_commonStretch_0 : cX6_commonStretch.data.toList.drop 0 = dktX6_commonStretch_0 := by decide +kernel
theorem dksX6_commonStretch_1 : cX6_commonStretch.data.toList.drop 24 = dktX6_commonStretch_1 := dk_seg dksX6_commonStretch_0 24 rfl rfl
theorem dksX6_commonStretch_2 : cX6_commonStretch.data.toList.drop 46 = dktX6_commonStretch_2 := dk_seg dksX6_commonStretch_1 22 rfl rfl
theorem dksX6_commonStretch_3 : cX6_commonStretch.data.toList.drop 70 = dktX6_commonStretch_3 := dk_seg dksX6_commonStretch_2 24 rfl rfl
theorem dksX6_commonStretch_4 : cX6_commonStretch.data.toList.drop 94 = dktX6_commonStretch_4 := dk_seg dksX6_commonStretch_3 24 rfl rfl
theorem dX6_commonStretch_0 : decode cX6_commonStretch 0 = .ok (.aload_n 1, 1) := dk_43 (dk_at dksX6_commonStretch_0 0 rfl rfl)
theorem dX6_commonStretch_1 : decode cX6_commonStretch 1 = .ok (.invokevirtual 64, 3) := dk_182 0 64 (dk_at dksX6_commonStretch_0 1 rfl rfl)
theorem dX6_commonStretch_4 : decode cX6_commonStretch 4 = .ok (.iconst 1, 1) := dk_4 (dk_at dksX6_commonStretch_0 4 rfl rfl)
theorem dX6_commonStretch_5 : decode cX6_commonStretch 5 = .ok (.iadd, 1) := dk_96 (dk_at dksX6_commonStretch_0 5 rfl rfl)
theorem dX6_commonStretch_6 : decode cX6_commonStretch 6 = .ok (.newarray .int, 2) := dk_188_10 (dk_at dksX6_commonStretch_0 6 rfl rfl)
theorem dX6_commonStretch_8 : decode cX6_commonStretch 8 = .ok (.astore_n 2, 1) := dk_77 (dk_at dksX6_commonStretch_0 8 rfl rfl)
theorem dX6_commonStretch_9 : decode cX6_commonStretch 9 = .ok (.iconst 0, 1) := dk_3 (dk_at dksX6_commonStretch_0 9 rfl rfl)
theorem dX6_commonStretch_10 : decode cX6_commonStretch 10 = .ok (.istore_n 3, 1) := dk_62 (dk_at dksX6_commonStretch_0 10 rfl rfl)
theorem dX6_commonStretch_11 : decode cX6_commonStretch 11 = .ok (.iconst 0, 1) := dk_3 (dk_at dksX6_commonStretch_0 11 rfl rfl)
theorem dX6_commonStretch_12 : decode cX6_commonStretch 12 = .ok (.istore 4, 2) := dk_54 4 (dk_at dksX6_commonStretch_0 12 rfl rfl)
theorem dX6_commonStretch_14 : decode cX6_commonStretch 14 = .ok (.iload 4, 2) := dk_21 4 (dk_at dksX6_commonStretch_0 14 rfl rfl)
theorem dX6_commonStretch_16 : decode cX6_commonStretch 16 = .ok (.aload_n 0, 1) := dk_42 (dk_at dksX6_commonStretch_0 16 rfl rfl)
theorem dX6_commonStretch_17 : decode cX6_commonStretch 17 = .ok (.invokevirtual 64, 3) := dk_182 0 64 (dk_at dksX6_commonStretch_0 17 rfl rfl)
theorem dX6_commonStretch_20 : decode cX6_commonStretch 20 = .ok (.if_icmp .ge 83, 3) := dk_162 0 83 (dk_at dksX6_commonStretch_0 20 rfl rfl)
theorem dX6_commonStretch_23 : decode cX6_commonStretch 23 = .ok (.aload_n 1, 1) := dk_43 (dk_at dksX6_commonStretch_0 23 rfl rfl)
theorem dX6_commonStretch_24 : decode cX6_commonStretch 24 = .ok (.invokevirtual 64, 3) := dk_182 0 64 (dk_at dksX6_commonStretch_1 0 rfl rfl)
theorem dX6_commonStretch_27 : decode cX6_commonStretch 27 = .ok (.istore 5, 2) := dk_54 5 (dk_at dksX6_commonStretch_1 3 rfl rfl)
theorem dX6_commonStretch_29 : decode cX6_commonStretch 29 = .ok (.iload 5, 2) := dk_21 5 (dk_at dksX6_commonStretch_1 5 rfl rfl)
theorem dX6_commonStretch_31 : decode cX6_commonStretch 31 = .ok (.ifCond .le 66, 3) := dk_158 0 66 (dk_at dksX6_commonStretch_1 7 rfl rfl)
theorem dX6_commonStretch_34 : decode cX6_commonStretch 34 = .ok (.aload_n 2, 1) := dk_44 (dk_at dksX6_commonStretch_1 10 rfl rfl)
theorem dX6_commonStretch_35 : decode cX6_commonStretch 35 = .ok (.iload 5, 2) := dk_21 5 (dk_at dksX6_commonStretch_1 11 rfl rfl)
theorem dX6_commonStretch_37 : decode cX6_commonStretch 37 = .ok (.aload_n 0, 1) := dk_42 (dk_at dksX6_commonStretch_1 13 rfl rfl)
theorem dX6_commonStretch_38 : decode cX6_commonStretch 38 = .ok (.getfield 12, 3) := dk_180 0 12 (dk_at dksX6_commonStretch_1 14 rfl rfl)
theorem dX6_commonStretch_41 : decode cX6_commonStretch 41 = .ok (.iload 4, 2) := dk_21 4 (dk_at dksX6_commonStretch_1 17 rfl rfl)
theorem dX6_commonStretch_43 : decode cX6_commonStretch 43 = .ok (.invokevirtual 42, 3) := dk_182 0 42 (dk_at dksX6_commonStretch_1 19 rfl rfl)
theorem dX6_commonStretch_46 : decode cX6_commonStretch 46 = .ok (.checkcast 46, 3) := dk_192 0 46 (dk_at dksX6_commonStretch_2 0 rfl rfl)
theorem dX6_commonStretch_49 : decode cX6_commonStretch 49 = .ok (.aload_n 1, 1) := dk_43 (dk_at dksX6_commonStretch_2 3 rfl rfl)
theorem dX6_commonStretch_50 : decode cX6_commonStretch 50 = .ok (.getfield 12, 3) := dk_180 0 12 (dk_at dksX6_commonStretch_2 4 rfl rfl)
theorem dX6_commonStretch_53 : decode cX6_commonStretch 53 = .ok (.iload 5, 2) := dk_21 5 (dk_at dksX6_commonStretch_2 7 rfl rfl)
theorem dX6_commonStretch_55 : decode cX6_commonStretch 55 = .ok (.iconst 1, 1) := dk_4 (dk_at dksX6_commonStretch_2 9 rfl rfl)
theorem dX6_commonStretch_56 : decode cX6_commonStretch 56 = .ok (.isub, 1) := dk_100 (dk_at dksX6_commonStretch_2 10 rfl rfl)
theorem dX6_commonStretch_57 : decode cX6_commonStretch 57 = .ok (.invokevirtual 42, 3) := dk_182 0 42 (dk_at dksX6_commonStretch_2 11 rfl rfl)
theorem dX6_commonStretch_60 : decode cX6_commonStretch 60 = .ok (.checkcast 46, 3) := dk_192 0 46 (dk_at dksX6_commonStretch_2 14 rfl rfl)
theorem dX6_commonStretch_63 : decode cX6_commonStretch 63 = .ok (.invokevirtual 109, 3) := dk_182 0 109 (dk_at dksX6_commonStretch_2 17 rfl rfl)
theorem dX6_commonStretch_66 : decode cX6_commonStretch 66 = .ok (.ifCond .eq 14, 3) := dk_153 0 14 (dk_at dksX6_commonStretch_2 20 rfl rfl)
theorem dX6_commonStretch_69 : decode cX6_commonStretch 69 = .ok (.aload_n 2, 1) := dk_44 (dk_at dksX6_commonStretch_2 23 rfl rfl)
theorem dX6_commonStretch_70 : decode cX6_commonStretch 70 = .ok (.iload 5, 2) := dk_21 5 (dk_at dksX6_commonStretch_3 0 rfl rfl)
theorem dX6_commonStretch_72 : decode cX6_commonStretch 72 = .ok (.iconst 1, 1) := dk_4 (dk_at dksX6_commonStretch_3 2 rfl rfl)
theorem dX6_commonStretch_73 : decode cX6_commonStretch 73 = .ok (.isub, 1) := dk_100 (dk_at dksX6_commonStretch_3 3 rfl rfl)
theorem dX6_commonStretch_74 : decode cX6_commonStretch 74 = .ok (.iaload, 1) := dk_46 (dk_at dksX6_commonStretch_3 4 rfl rfl)
theorem dX6_commonStretch_75 : decode cX6_commonStretch 75 = .ok (.iconst 1, 1) := dk_4 (dk_at dksX6_commonStretch_3 5 rfl rfl)
theorem dX6_commonStretch_76 : decode cX6_commonStretch 76 = .ok (.iadd, 1) := dk_96 (dk_at dksX6_commonStretch_3 6 rfl rfl)
theorem dX6_commonStretch_77 : decode cX6_commonStretch 77 = .ok (.goto 4, 3) := dk_167 0 4 (dk_at dksX6_commonStretch_3 7 rfl rfl)
theorem dX6_commonStretch_80 : decode cX6_commonStretch 80 = .ok (.iconst 0, 1) := dk_3 (dk_at dksX6_commonStretch_3 10 rfl rfl)
theorem dX6_commonStretch_81 : decode cX6_commonStretch 81 = .ok (.iastore, 1) := dk_79 (dk_at dksX6_commonStretch_3 11 rfl rfl)
theorem dX6_commonStretch_82 : decode cX6_commonStretch 82 = .ok (.iload_n 3, 1) := dk_29 (dk_at dksX6_commonStretch_3 12 rfl rfl)
theorem dX6_commonStretch_83 : decode cX6_commonStretch 83 = .ok (.aload_n 2, 1) := dk_44 (dk_at dksX6_commonStretch_3 13 rfl rfl)
theorem dX6_commonStretch_84 : decode cX6_commonStretch 84 = .ok (.iload 5, 2) := dk_21 5 (dk_at dksX6_commonStretch_3 14 rfl rfl)
theorem dX6_commonStretch_86 : decode cX6_commonStretch 86 = .ok (.iaload, 1) := dk_46 (dk_at dksX6_commonStretch_3 16 rfl rfl)
theorem dX6_commonStretch_87 : decode cX6_commonStretch 87 = .ok (.invokestatic 65, 3) := dk_184 0 65 (dk_at dksX6_commonStretch_3 17 rfl rfl)
theorem dX6_commonStretch_90 : decode cX6_commonStretch 90 = .ok (.istore_n 3, 1) := dk_62 (dk_at dksX6_commonStretch_3 20 rfl rfl)
theorem dX6_commonStretch_91 : decode cX6_commonStretch 91 = .ok (.iinc 5 (-1), 3) := dk_132 5 255 (dk_at dksX6_commonStretch_3 21 rfl rfl)
theorem dX6_commonStretch_94 : decode cX6_commonStretch 94 = .ok (.goto (-65), 3) := dk_167 255 191 (dk_at dksX6_commonStretch_4 0 rfl rfl)
theorem dX6_commonStretch_97 : decode cX6_commonStretch 97 = .ok (.iinc 4 1, 3) := dk_132 4 1 (dk_at dksX6_commonStretch_4 3 rfl rfl)
theorem dX6_commonStretch_100 : decode cX6_commonStretch 100 = .ok (.goto (-86), 3) := dk_167 255 170 (dk_at dksX6_commonStretch_4 6 rfl rfl)
theorem dX6_commonStretch_103 : decode cX6_commonStretch 103 = .ok (.iload_n 3, 1) := dk_29 (dk_at dksX6_commonStretch_4 9 rfl rfl)
theorem dX6_commonStretch_104 : decode cX6_commonStretch 104 = .ok (.ireturn, 1) := dk_172 (dk_at dksX6_commonStretch_4 10 rfl rfl)
def dkwX6_commonStretchByTrying_2 : List UInt8 := [167, 255, 214, 28, 172]
abbrev dktX6_commonStretchByTrying_2 : List UInt8 := dkwX6_commonStretchByTrying_2 ++ []
def dkwX6_commonStretchByTrying_1 : List UInt8 := [28, 42, 29, 43, 21, 4, 182, 0, 113, 184, 0, 65, 61, 132, 4, 1, 167, 255, 231, 132, 3, 1]
abbrev dktX6_commonStretchByTrying_1 : List UInt8 := dkwX6_commonStretchByTrying_1 ++ dktX6_commonStretchByTrying_2
def dkwX6_commonStretchByTrying_0 : List UInt8 := [3, 61, 3, 62, 29, 42, 182, 0, 64, 162, 0, 40, 3, 54, 4, 21, 4, 43, 182, 0, 64, 162, 0, 22]
abbrev dktX6_commonStretchByTrying_0 : List UInt8 := dkwX6_commonStretchByTrying_0 ++ dktX6_commonStretchByTrying_1
theorem dksX6_commonStretchByTrying_0 : cX6_commonStretchByTrying.data.toList.drop 0 = dktX6_commonStretchByTrying_0 := by decide +kernel
theorem dksX6_commonStretchByTrying_1 : cX6_commonStretchByTrying.data.toList.drop 24 = dktX6_commonStretchByTrying_1 := dk_seg dksX6_commonStretchByTrying_0 24 rfl rfl
theorem dksX6_commonStretchByTrying_2 : cX6_commonStretchByTrying.data.toList.drop 46 = dktX6_commonStretchByTrying_2 := dk_seg dksX6_commonStretchByTrying_1 22 rfl rfl
theorem dX6_commonStretchByTrying_0 : decode cX6_commonStretchByTrying 0 = .ok (.iconst 0, 1) := dk_3 (dk_at dksX6_commonStretchByTrying_0 0 rfl rfl)
theorem dX6_commonStretchByTrying_1 : decode cX6_commonStretchByTrying 1 = .ok (.istore_n 2, 1) := dk_61 (dk_at dksX6_commonStretchByTrying_0 1 rfl rfl)
theorem dX6_commonStretchByTrying_2 : decode cX6_commonStretchByTrying 2 = .ok (.iconst 0, 1) := dk_3 (dk_at dksX6_commonStretchByTrying_0 2 rfl rfl)
theorem dX6_commonStretchByTrying_3 : decode cX6_commonStretchByTrying 3 = .ok (.istore_n 3, 1) := dk_62 (dk_at dksX6_commonStretchByTrying_0 3 rfl rfl)
theorem dX6_commonStretchByTrying_4 : decode cX6_commonStretchByTrying 4 = .ok (.iload_n 3, 1) := dk_29 (dk_at dksX6_commonStretchByTrying_0 4 rfl rfl)
theorem dX6_commonStretchByTrying_5 : decode cX6_commonStretchByTrying 5 = .ok (.aload_n 0, 1) := dk_42 (dk_at dksX6_commonStretchByTrying_0 5 rfl rfl)
theorem dX6_commonStretchByTrying_6 : decode cX6_commonStretchByTrying 6 = .ok (.invokevirtual 64, 3) := dk_182 0 64 (dk_at dksX6_commonStretchByTrying_0 6 rfl rfl)
theorem dX6_commonStretchByTrying_9 : decode cX6_commonStretchByTrying 9 = .ok (.if_icmp .ge 40, 3) := dk_162 0 40 (dk_at dksX6_commonStretchByTrying_0 9 rfl rfl)
theorem dX6_commonStretchByTrying_12 : decode cX6_commonStretchByTrying 12 = .ok (.iconst 0, 1) := dk_3 (dk_at dksX6_commonStretchByTrying_0 12 rfl rfl)
theorem dX6_commonStretchByTrying_13 : decode cX6_commonStretchByTrying 13 = .ok (.istore 4, 2) := dk_54 4 (dk_at dksX6_commonStretchByTrying_0 13 rfl rfl)
theorem dX6_commonStretchByTrying_15 : decode cX6_commonStretchByTrying 15 = .ok (.iload 4, 2) := dk_21 4 (dk_at dksX6_commonStretchByTrying_0 15 rfl rfl)
theorem dX6_commonStretchByTrying_17 : decode cX6_commonStretchByTrying 17 = .ok (.aload_n 1, 1) := dk_43 (dk_at dksX6_commonStretchByTrying_0 17 rfl rfl)
theorem dX6_commonStretchByTrying_18 : decode cX6_commonStretchByTrying 18 = .ok (.invokevirtual 64, 3) := dk_182 0 64 (dk_at dksX6_commonStretchByTrying_0 18 rfl rfl)
theorem dX6_commonStretchByTrying_21 : decode cX6_commonStretchByTrying 21 = .ok (.if_icmp .ge 22, 3) := dk_162 0 22 (dk_at dksX6_commonStretchByTrying_0 21 rfl rfl)
theorem dX6_commonStretchByTrying_24 : decode cX6_commonStretchByTrying 24 = .ok (.iload_n 2, 1) := dk_28 (dk_at dksX6_commonStretchByTrying_1 0 rfl rfl)
theorem dX6_commonStretchByTrying_25 : decode cX6_commonStretchByTrying 25 = .ok (.aload_n 0, 1) := dk_42 (dk_at dksX6_commonStretchByTrying_1 1 rfl rfl)
theorem dX6_commonStretchByTrying_26 : decode cX6_commonStretchByTrying 26 = .ok (.iload_n 3, 1) := dk_29 (dk_at dksX6_commonStretchByTrying_1 2 rfl rfl)
theorem dX6_commonStretchByTrying_27 : decode cX6_commonStretchByTrying 27 = .ok (.aload_n 1, 1) := dk_43 (dk_at dksX6_commonStretchByTrying_1 3 rfl rfl)
theorem dX6_commonStretchByTrying_28 : decode cX6_commonStretchByTrying 28 = .ok (.iload 4, 2) := dk_21 4 (dk_at dksX6_commonStretchByTrying_1 4 rfl rfl)
theorem dX6_commonStretchByTrying_30 : decode cX6_commonStretchByTrying 30 = .ok (.invokevirtual 113, 3) := dk_182 0 113 (dk_at dksX6_commonStretchByTrying_1 6 rfl rfl)
theorem dX6_commonStretchByTrying_33 : decode cX6_commonStretchByTrying 33 = .ok (.invokestatic 65, 3) := dk_184 0 65 (dk_at dksX6_commonStretchByTrying_1 9 rfl rfl)
theorem dX6_commonStretchByTrying_36 : decode cX6_commonStretchByTrying 36 = .ok (.istore_n 2, 1) := dk_61 (dk_at dksX6_commonStretchByTrying_1 12 rfl rfl)
theorem dX6_commonStretchByTrying_37 : decode cX6_commonStretchByTrying 37 = .ok (.iinc 4 1, 3) := dk_132 4 1 (dk_at dksX6_commonStretchByTrying_1 13 rfl rfl)
theorem dX6_commonStretchByTrying_40 : decode cX6_commonStretchByTrying 40 = .ok (.goto (-25), 3) := dk_167 255 231 (dk_at dksX6_commonStretchByTrying_1 16 rfl rfl)
theorem dX6_commonStretchByTrying_43 : decode cX6_commonStretchByTrying 43 = .ok (.iinc 3 1, 3) := dk_132 3 1 (dk_at dksX6_commonStretchByTrying_1 19 rfl rfl)
theorem dX6_commonStretchByTrying_46 : decode cX6_commonStretchByTrying 46 = .ok (.goto (-42), 3) := dk_167 255 214 (dk_at dksX6_commonStretchByTrying_2 0 rfl rfl)
theorem dX6_commonStretchByTrying_49 : decode cX6_commonStretchByTrying 49 = .ok (.iload_n 2, 1) := dk_28 (dk_at dksX6_commonStretchByTrying_2 3 rfl rfl)
theorem dX6_commonStretchByTrying_50 : decode cX6_commonStretchByTrying 50 = .ok (.ireturn, 1) := dk_172 (dk_at dksX6_commonStretchByTrying_2 4 rfl rfl)
def dkwX6_stretch_2 : List UInt8 := [96, 182, 0, 42, 192, 0, 46, 182, 0, 109, 153, 0, 9, 132, 4, 1, 167, 255, 197, 21, 4, 172]
abbrev dktX6_stretch_2 : List UInt8 := dkwX6_stretch_2 ++ []
def dkwX6_stretch_1 : List UInt8 := [162, 0, 43, 42, 180, 0, 12, 27, 21, 4, 96, 182, 0, 42, 192, 0, 46, 44, 180, 0, 12, 29, 21, 4]
abbrev dktX6_stretch_1 : List UInt8 := dkwX6_stretch_1 ++ dktX6_stretch_2
def dkwX6_stretch_0 : List UInt8 := [3, 54, 4, 27, 21, 4, 96, 42, 182, 0, 64, 162, 0, 54, 29, 21, 4, 96, 44, 182, 0, 64]
abbrev dktX6_stretch_0 : List UInt8 := dkwX6_stretch_0 ++ dktX6_stretch_1
theorem dksX6_stretch_0 : cX6_stretch.data.toList.drop 0 = dktX6_stretch_0 := by decide +kernel
theorem dksX6_stretch_1 : cX6_stretch.data.toList.drop 22 = dktX6_stretch_1 := dk_seg dksX6_stretch_0 22 rfl rfl
theorem dksX6_stretch_2 : cX6_stretch.data.toList.drop 46 = dktX6_stretch_2 := dk_seg dksX6_stretch_1 24 rfl rfl
theorem dX6_stretch_0 : decode cX6_stretch 0 = .ok (.iconst 0, 1) := dk_3 (dk_at dksX6_stretch_0 0 rfl rfl)
theorem dX6_stretch_1 : decode cX6_stretch 1 = .ok (.istore 4, 2) := dk_54 4 (dk_at dksX6_stretch_0 1 rfl rfl)
theorem dX6_stretch_3 : decode cX6_stretch 3 = .ok (.iload_n 1, 1) := dk_27 (dk_at dksX6_stretch_0 3 rfl rfl)
theorem dX6_stretch_4 : decode cX6_stretch 4 = .ok (.iload 4, 2) := dk_21 4 (dk_at dksX6_stretch_0 4 rfl rfl)
theorem dX6_stretch_6 : decode cX6_stretch 6 = .ok (.iadd, 1) := dk_96 (dk_at dksX6_stretch_0 6 rfl rfl)
theorem dX6_stretch_7 : decode cX6_stretch 7 = .ok (.aload_n 0, 1) := dk_42 (dk_at dksX6_stretch_0 7 rfl rfl)
theorem dX6_stretch_8 : decode cX6_stretch 8 = .ok (.invokevirtual 64, 3) := dk_182 0 64 (dk_at dksX6_stretch_0 8 rfl rfl)
theorem dX6_stretch_11 : decode cX6_stretch 11 = .ok (.if_icmp .ge 54, 3) := dk_162 0 54 (dk_at dksX6_stretch_0 11 rfl rfl)
theorem dX6_stretch_14 : decode cX6_stretch 14 = .ok (.iload_n 3, 1) := dk_29 (dk_at dksX6_stretch_0 14 rfl rfl)
theorem dX6_stretch_15 : decode cX6_stretch 15 = .ok (.iload 4, 2) := dk_21 4 (dk_at dksX6_stretch_0 15 rfl rfl)
theorem dX6_stretch_17 : decode cX6_stretch 17 = .ok (.iadd, 1) := dk_96 (dk_at dksX6_stretch_0 17 rfl rfl)
theorem dX6_stretch_18 : decode cX6_stretch 18 = .ok (.aload_n 2, 1) := dk_44 (dk_at dksX6_stretch_0 18 rfl rfl)
theorem dX6_stretch_19 : decode cX6_stretch 19 = .ok (.invokevirtual 64, 3) := dk_182 0 64 (dk_at dksX6_stretch_0 19 rfl rfl)
theorem dX6_stretch_22 : decode cX6_stretch 22 = .ok (.if_icmp .ge 43, 3) := dk_162 0 43 (dk_at dksX6_stretch_1 0 rfl rfl)
theorem dX6_stretch_25 : decode cX6_stretch 25 = .ok (.aload_n 0, 1) := dk_42 (dk_at dksX6_stretch_1 3 rfl rfl)
theorem dX6_stretch_26 : decode cX6_stretch 26 = .ok (.getfield 12, 3) := dk_180 0 12 (dk_at dksX6_stretch_1 4 rfl rfl)
theorem dX6_stretch_29 : decode cX6_stretch 29 = .ok (.iload_n 1, 1) := dk_27 (dk_at dksX6_stretch_1 7 rfl rfl)
theorem dX6_stretch_30 : decode cX6_stretch 30 = .ok (.iload 4, 2) := dk_21 4 (dk_at dksX6_stretch_1 8 rfl rfl)
theorem dX6_stretch_32 : decode cX6_stretch 32 = .ok (.iadd, 1) := dk_96 (dk_at dksX6_stretch_1 10 rfl rfl)
theorem dX6_stretch_33 : decode cX6_stretch 33 = .ok (.invokevirtual 42, 3) := dk_182 0 42 (dk_at dksX6_stretch_1 11 rfl rfl)
theorem dX6_stretch_36 : decode cX6_stretch 36 = .ok (.checkcast 46, 3) := dk_192 0 46 (dk_at dksX6_stretch_1 14 rfl rfl)
theorem dX6_stretch_39 : decode cX6_stretch 39 = .ok (.aload_n 2, 1) := dk_44 (dk_at dksX6_stretch_1 17 rfl rfl)
theorem dX6_stretch_40 : decode cX6_stretch 40 = .ok (.getfield 12, 3) := dk_180 0 12 (dk_at dksX6_stretch_1 18 rfl rfl)
theorem dX6_stretch_43 : decode cX6_stretch 43 = .ok (.iload_n 3, 1) := dk_29 (dk_at dksX6_stretch_1 21 rfl rfl)
theorem dX6_stretch_44 : decode cX6_stretch 44 = .ok (.iload 4, 2) := dk_21 4 (dk_at dksX6_stretch_1 22 rfl rfl)
theorem dX6_stretch_46 : decode cX6_stretch 46 = .ok (.iadd, 1) := dk_96 (dk_at dksX6_stretch_2 0 rfl rfl)
theorem dX6_stretch_47 : decode cX6_stretch 47 = .ok (.invokevirtual 42, 3) := dk_182 0 42 (dk_at dksX6_stretch_2 1 rfl rfl)
theorem dX6_stretch_50 : decode cX6_stretch 50 = .ok (.checkcast 46, 3) := dk_192 0 46 (dk_at dksX6_stretch_2 4 rfl rfl)
theorem dX6_stretch_53 : decode cX6_stretch 53 = .ok (.invokevirtual 109, 3) := dk_182 0 109 (dk_at dksX6_stretch_2 7 rfl rfl)
theorem dX6_stretch_56 : decode cX6_stretch 56 = .ok (.ifCond .eq 9, 3) := dk_153 0 9 (dk_at dksX6_stretch_2 10 rfl rfl)
theorem dX6_stretch_59 : decode cX6_stretch 59 = .ok (.iinc 4 1, 3) := dk_132 4 1 (dk_at dksX6_stretch_2 13 rfl rfl)
theorem dX6_stretch_62 : decode cX6_stretch 62 = .ok (.goto (-59), 3) := dk_167 255 197 (dk_at dksX6_stretch_2 16 rfl rfl)
theorem dX6_stretch_65 : decode cX6_stretch 65 = .ok (.iload 4, 2) := dk_21 4 (dk_at dksX6_stretch_2 19 rfl rfl)
theorem dX6_stretch_67 : decode cX6_stretch 67 = .ok (.ireturn, 1) := dk_172 (dk_at dksX6_stretch_2 21 rfl rfl)
def dkwX6_toString_4 : List UInt8 := [182, 0, 148, 176]
abbrev dktX6_toString_4 : List UInt8 := dkwX6_toString_4 ++ []
def dkwX6_toString_3 : List UInt8 := [16, 126, 182, 0, 138, 42, 180, 0, 18, 28, 46, 182, 0, 130, 87, 132, 2, 1, 167, 255, 197, 43]
abbrev dktX6_toString_3 : List UInt8 := dkwX6_toString_3 ++ dktX6_toString_4
def dkwX6_toString_2 : List UInt8 := [28, 182, 0, 42, 192, 0, 46, 182, 0, 141, 182, 0, 145, 87, 28, 42, 182, 0, 84, 162, 0, 19, 43]
abbrev dktX6_toString_2 : List UInt8 := dkwX6_toString_2 ++ dktX6_toString_3
def dkwX6_toString_1 : List UInt8 := [182, 0, 138, 87, 3, 61, 28, 42, 182, 0, 64, 162, 0, 57, 43, 16, 32, 182, 0, 138, 42, 180, 0, 12]
abbrev dktX6_toString_1 : List UInt8 := dkwX6_toString_1 ++ dktX6_toString_2
def dkwX6_toString_0 : List UInt8 := [187, 0, 127, 89, 183, 0, 129, 76, 43, 42, 180, 0, 31, 182, 0, 130, 42, 180, 0, 28, 180, 0, 134]
abbrev dktX6_toString_0 : List UInt8 := dkwX6_toString_0 ++ dktX6_toString_1
theorem dksX6_toString_0 : cX6_toString.data.toList.drop 0 = dktX6_toString_0 := by decide +kernel
theorem dksX6_toString_1 : cX6_toString.data.toList.drop 23 = dktX6_toString_1 := dk_seg dksX6_toString_0 23 rfl rfl
theorem dksX6_toString_2 : cX6_toString.data.toList.drop 47 = dktX6_toString_2 := dk_seg dksX6_toString_1 24 rfl rfl
theorem dksX6_toString_3 : cX6_toString.data.toList.drop 70 = dktX6_toString_3 := dk_seg dksX6_toString_2 23 rfl rfl
theorem dksX6_toString_4 : cX6_toString.data.toList.drop 92 = dktX6_toString_4 := dk_seg dksX6_toString_3 22 rfl rfl
theorem dX6_toString_0 : decode cX6_toString 0 = .ok (.new 127, 3) := dk_187 0 127 (dk_at dksX6_toString_0 0 rfl rfl)
theorem dX6_toString_3 : decode cX6_toString 3 = .ok (.dup, 1) := dk_89 (dk_at dksX6_toString_0 3 rfl rfl)
theorem dX6_toString_4 : decode cX6_toString 4 = .ok (.invokespecial 129, 3) := dk_183 0 129 (dk_at dksX6_toString_0 4 rfl rfl)
theorem dX6_toString_7 : decode cX6_toString 7 = .ok (.astore_n 1, 1) := dk_76 (dk_at dksX6_toString_0 7 rfl rfl)
theorem dX6_toString_8 : decode cX6_toString 8 = .ok (.aload_n 1, 1) := dk_43 (dk_at dksX6_toString_0 8 rfl rfl)
theorem dX6_toString_9 : decode cX6_toString 9 = .ok (.aload_n 0, 1) := dk_42 (dk_at dksX6_toString_0 9 rfl rfl)
theorem dX6_toString_10 : decode cX6_toString 10 = .ok (.getfield 31, 3) := dk_180 0 31 (dk_at dksX6_toString_0 10 rfl rfl)
theorem dX6_toString_13 : decode cX6_toString 13 = .ok (.invokevirtual 130, 3) := dk_182 0 130 (dk_at dksX6_toString_0 13 rfl rfl)
theorem dX6_toString_16 : decode cX6_toString 16 = .ok (.aload_n 0, 1) := dk_42 (dk_at dksX6_toString_0 16 rfl rfl)
theorem dX6_toString_17 : decode cX6_toString 17 = .ok (.getfield 28, 3) := dk_180 0 28 (dk_at dksX6_toString_0 17 rfl rfl)
theorem dX6_toString_20 : decode cX6_toString 20 = .ok (.getfield 134, 3) := dk_180 0 134 (dk_at dksX6_toString_0 20 rfl rfl)
theorem dX6_toString_23 : decode cX6_toString 23 = .ok (.invokevirtual 138, 3) := dk_182 0 138 (dk_at dksX6_toString_1 0 rfl rfl)
theorem dX6_toString_26 : decode cX6_toString 26 = .ok (.pop, 1) := dk_87 (dk_at dksX6_toString_1 3 rfl rfl)
theorem dX6_toString_27 : decode cX6_toString 27 = .ok (.iconst 0, 1) := dk_3 (dk_at dksX6_toString_1 4 rfl rfl)
theorem dX6_toString_28 : decode cX6_toString 28 = .ok (.istore_n 2, 1) := dk_61 (dk_at dksX6_toString_1 5 rfl rfl)
theorem dX6_toString_29 : decode cX6_toString 29 = .ok (.iload_n 2, 1) := dk_28 (dk_at dksX6_toString_1 6 rfl rfl)
theorem dX6_toString_30 : decode cX6_toString 30 = .ok (.aload_n 0, 1) := dk_42 (dk_at dksX6_toString_1 7 rfl rfl)
theorem dX6_toString_31 : decode cX6_toString 31 = .ok (.invokevirtual 64, 3) := dk_182 0 64 (dk_at dksX6_toString_1 8 rfl rfl)
theorem dX6_toString_34 : decode cX6_toString 34 = .ok (.if_icmp .ge 57, 3) := dk_162 0 57 (dk_at dksX6_toString_1 11 rfl rfl)
theorem dX6_toString_37 : decode cX6_toString 37 = .ok (.aload_n 1, 1) := dk_43 (dk_at dksX6_toString_1 14 rfl rfl)
theorem dX6_toString_38 : decode cX6_toString 38 = .ok (.bipush 32, 2) := dk_16 32 (dk_at dksX6_toString_1 15 rfl rfl)
theorem dX6_toString_40 : decode cX6_toString 40 = .ok (.invokevirtual 138, 3) := dk_182 0 138 (dk_at dksX6_toString_1 17 rfl rfl)
theorem dX6_toString_43 : decode cX6_toString 43 = .ok (.aload_n 0, 1) := dk_42 (dk_at dksX6_toString_1 20 rfl rfl)
theorem dX6_toString_44 : decode cX6_toString 44 = .ok (.getfield 12, 3) := dk_180 0 12 (dk_at dksX6_toString_1 21 rfl rfl)
theorem dX6_toString_47 : decode cX6_toString 47 = .ok (.iload_n 2, 1) := dk_28 (dk_at dksX6_toString_2 0 rfl rfl)
theorem dX6_toString_48 : decode cX6_toString 48 = .ok (.invokevirtual 42, 3) := dk_182 0 42 (dk_at dksX6_toString_2 1 rfl rfl)
theorem dX6_toString_51 : decode cX6_toString 51 = .ok (.checkcast 46, 3) := dk_192 0 46 (dk_at dksX6_toString_2 4 rfl rfl)
theorem dX6_toString_54 : decode cX6_toString 54 = .ok (.invokevirtual 141, 3) := dk_182 0 141 (dk_at dksX6_toString_2 7 rfl rfl)
theorem dX6_toString_57 : decode cX6_toString 57 = .ok (.invokevirtual 145, 3) := dk_182 0 145 (dk_at dksX6_toString_2 10 rfl rfl)
theorem dX6_toString_60 : decode cX6_toString 60 = .ok (.pop, 1) := dk_87 (dk_at dksX6_toString_2 13 rfl rfl)
theorem dX6_toString_61 : decode cX6_toString 61 = .ok (.iload_n 2, 1) := dk_28 (dk_at dksX6_toString_2 14 rfl rfl)
theorem dX6_toString_62 : decode cX6_toString 62 = .ok (.aload_n 0, 1) := dk_42 (dk_at dksX6_toString_2 15 rfl rfl)
theorem dX6_toString_63 : decode cX6_toString 63 = .ok (.invokevirtual 84, 3) := dk_182 0 84 (dk_at dksX6_toString_2 16 rfl rfl)
theorem dX6_toString_66 : decode cX6_toString 66 = .ok (.if_icmp .ge 19, 3) := dk_162 0 19 (dk_at dksX6_toString_2 19 rfl rfl)
theorem dX6_toString_69 : decode cX6_toString 69 = .ok (.aload_n 1, 1) := dk_43 (dk_at dksX6_toString_2 22 rfl rfl)
theorem dX6_toString_70 : decode cX6_toString 70 = .ok (.bipush 126, 2) := dk_16 126 (dk_at dksX6_toString_3 0 rfl rfl)
theorem dX6_toString_72 : decode cX6_toString 72 = .ok (.invokevirtual 138, 3) := dk_182 0 138 (dk_at dksX6_toString_3 2 rfl rfl)
theorem dX6_toString_75 : decode cX6_toString 75 = .ok (.aload_n 0, 1) := dk_42 (dk_at dksX6_toString_3 5 rfl rfl)
theorem dX6_toString_76 : decode cX6_toString 76 = .ok (.getfield 18, 3) := dk_180 0 18 (dk_at dksX6_toString_3 6 rfl rfl)
theorem dX6_toString_79 : decode cX6_toString 79 = .ok (.iload_n 2, 1) := dk_28 (dk_at dksX6_toString_3 9 rfl rfl)
theorem dX6_toString_80 : decode cX6_toString 80 = .ok (.iaload, 1) := dk_46 (dk_at dksX6_toString_3 10 rfl rfl)
theorem dX6_toString_81 : decode cX6_toString 81 = .ok (.invokevirtual 130, 3) := dk_182 0 130 (dk_at dksX6_toString_3 11 rfl rfl)
theorem dX6_toString_84 : decode cX6_toString 84 = .ok (.pop, 1) := dk_87 (dk_at dksX6_toString_3 14 rfl rfl)
theorem dX6_toString_85 : decode cX6_toString 85 = .ok (.iinc 2 1, 3) := dk_132 2 1 (dk_at dksX6_toString_3 15 rfl rfl)
theorem dX6_toString_88 : decode cX6_toString 88 = .ok (.goto (-59), 3) := dk_167 255 197 (dk_at dksX6_toString_3 18 rfl rfl)
theorem dX6_toString_91 : decode cX6_toString 91 = .ok (.aload_n 1, 1) := dk_43 (dk_at dksX6_toString_3 21 rfl rfl)
theorem dX6_toString_92 : decode cX6_toString 92 = .ok (.invokevirtual 148, 3) := dk_182 0 148 (dk_at dksX6_toString_4 0 rfl rfl)
theorem dX6_toString_95 : decode cX6_toString 95 = .ok (.areturn, 1) := dk_176 (dk_at dksX6_toString_4 3 rfl rfl)
def tX6_is : pb_T := [(0, .aload_n 0, 1, 0), (1, .getfield 28, 4, 0), (4, .aload_n 1, 5, 0), (5, .if_acmp .ne 7, 8, 12), (8, .iconst 1, 9, 0), (9, .goto 4, 12, 13), (12, .iconst 0, 13, 0), (13, .ireturn, 14, 0)]
theorem tX6_is_ok : pb_Tok cX6_is tX6_is := pb_Tok.cons dX6_is_0 rfl (pb_Tok.cons dX6_is_1 rfl (pb_Tok.cons dX6_is_4 rfl (pb_Tok.cons dX6_is_5 rfl (pb_Tok.cons dX6_is_8 rfl (pb_Tok.cons dX6_is_9 rfl (pb_Tok.cons dX6_is_12 rfl (pb_Tok.cons dX6_is_13 rfl pb_Tok.nil)))))))
def tX6_size : pb_T := [(0, .aload_n 0, 1, 0), (1, .getfield 12, 4, 0), (4, .invokevirtual 38, 7, 0), (7, .ireturn, 8, 0)]
theorem tX6_size_ok : pb_Tok cX6_size tX6_size := pb_Tok.cons dX6_size_0 rfl (pb_Tok.cons dX6_size_1 rfl (pb_Tok.cons dX6_size_4 rfl (pb_Tok.cons dX6_size_7 rfl pb_Tok.nil)))
def tX6_init : pb_T := [(0, .aload_n 0, 1, 0), (1, .aload_n 1, 2, 0), (2, .getfield 31, 5, 0), (5, .invokespecial 35, 8, 0), (8, .iconst 0, 9, 0), (9, .istore_n 2, 10, 0), (10, .iload_n 2, 11, 1), (11, .aload_n 1, 12, 0), (12, .getfield 12, 15, 0), (15, .invokevirtual 38, 18, 0), (18, .if_icmp .ge 28, 21, 46), (21, .aload_n 0, 22, 0), (22, .getfield 12, 25, 0), (25, .aload_n 1, 26, 0), (26, .getfield 12, 29, 0), (29, .iload_n 2, 30, 0), (30, .invokevirtual 42, 33, 0), (33, .checkcast 46, 36, 0), (36, .invokevirtual 48, 39, 0), (39, .istore_n 3, 40, 0), (40, .iinc 2 1, 43, 0), (43, .goto (-33), 46, 10), (46, .aload_n 1, 47, 0), (47, .getfield 18, 50, 0), (50, .iconst 0, 51, 0), (51, .aload_n 0, 52, 0), (52, .getfield 18, 55, 0), (55, .iconst 0, 56, 0), (56, .bipush 8, 58, 0), (58, .invokestatic 52, 61, 0), (61, .aload_n 0, 62, 0), (62, .aload_n 1, 63, 0), (63, .getfield 28, 66, 0), (66, .putfield 28, 69, 0), (69, .aload_n 0, 70, 0), (70, .aload_n 1, 71, 0), (71, .getfield 58, 74, 0), (74, .putfield 58, 77, 0), (77, .aload_n 0, 78, 0), (78, .aload_n 1, 79, 0), (79, .getfield 61, 82, 0), (82, .putfield 61, 85, 0), (85, .return_, 86, 0)]
theorem tX6_init_ok : pb_Tok cX6_init tX6_init := pb_Tok.cons dX6_init_0 rfl (pb_Tok.cons dX6_init_1 rfl (pb_Tok.cons dX6_init_2 rfl (pb_Tok.cons dX6_init_5 rfl (pb_Tok.cons dX6_init_8 rfl (pb_Tok.cons dX6_init_9 rfl (pb_Tok.cons dX6_init_10 rfl (pb_Tok.cons dX6_init_11 rfl (pb_Tok.cons dX6_init_12 rfl (pb_Tok.cons dX6_init_15 rfl (pb_Tok.cons dX6_init_18 rfl (pb_Tok.cons dX6_init_21 rfl (pb_Tok.cons dX6_init_22 rfl (pb_Tok.cons dX6_init_25 rfl (pb_Tok.cons dX6_init_26 rfl (pb_Tok.cons dX6_init_29 rfl (pb_Tok.cons dX6_init_30 rfl (pb_Tok.cons dX6_init_33 rfl (pb_Tok.cons dX6_init_36 rfl (pb_Tok.cons dX6_init_39 rfl (pb_Tok.cons dX6_init_40 rfl (pb_Tok.cons dX6_init_43 rfl (pb_Tok.cons dX6_init_46 rfl (pb_Tok.cons dX6_init_47 rfl (pb_Tok.cons dX6_init_50 rfl (pb_Tok.cons dX6_init_51 rfl (pb_Tok.cons dX6_init_52 rfl (pb_Tok.cons dX6_init_55 rfl (pb_Tok.cons dX6_init_56 rfl (pb_Tok.cons dX6_init_58 rfl (pb_Tok.cons dX6_init_61 rfl (pb_Tok.cons dX6_init_62 rfl (pb_Tok.cons dX6_init_63 rfl (pb_Tok.cons dX6_init_66 rfl (pb_Tok.cons dX6_init_69 rfl (pb_Tok.cons dX6_init_70 rfl (pb_Tok.cons dX6_init_71 rfl (pb_Tok.cons dX6_init_74 rfl (pb_Tok.cons dX6_init_77 rfl (pb_Tok.cons dX6_init_78 rfl (pb_Tok.cons dX6_init_79 rfl (pb_Tok.cons dX6_init_82 rfl (pb_Tok.cons dX6_init_85 rfl pb_Tok.nil))))))))))))))))))))))))))))))))))))))))))
def tX6_init_2 : pb_T := [(0, .aload_n 0, 1, 0), (1, .invokespecial 3, 4, 0), (4, .aload_n 0, 5, 0), (5, .new 9, 8, 0), (8, .dup, 9, 0), (9, .invokespecial 11, 12, 0), (12, .putfield 12, 15, 0), (15, .aload_n 0, 16, 0), (16, .bipush 8, 18, 0), (18, .newarray .int, 20, 0), (20, .putfield 18, 23, 0), (23, .aload_n 0, 24, 0), (24, .getstatic 22, 27, 0), (27, .putfield 28, 30, 0), (30, .iconst 0, 31, 0), (31, .istore_n 2, 32, 0), (32, .iload_n 2, 33, 1), (33, .bipush 8, 35, 0), (35, .if_icmp .ge 17, 38, 52), (38, .aload_n 0, 39, 0), (39, .getfield 18, 42, 0), (42, .iload_n 2, 43, 0), (43, .bipush 9, 45, 0), (45, .iastore, 46, 0), (46, .iinc 2 1, 49, 0), (49, .goto (-17), 52, 32), (52, .aload_n 0, 53, 0), (53, .iload_n 1, 54, 0), (54, .putfield 31, 57, 0), (57, .return_, 58, 0)]
theorem tX6_init_2_ok : pb_Tok cX6_init_2 tX6_init_2 := pb_Tok.cons dX6_init_2_0 rfl (pb_Tok.cons dX6_init_2_1 rfl (pb_Tok.cons dX6_init_2_4 rfl (pb_Tok.cons dX6_init_2_5 rfl (pb_Tok.cons dX6_init_2_8 rfl (pb_Tok.cons dX6_init_2_9 rfl (pb_Tok.cons dX6_init_2_12 rfl (pb_Tok.cons dX6_init_2_15 rfl (pb_Tok.cons dX6_init_2_16 rfl (pb_Tok.cons dX6_init_2_18 rfl (pb_Tok.cons dX6_init_2_20 rfl (pb_Tok.cons dX6_init_2_23 rfl (pb_Tok.cons dX6_init_2_24 rfl (pb_Tok.cons dX6_init_2_27 rfl (pb_Tok.cons dX6_init_2_30 rfl (pb_Tok.cons dX6_init_2_31 rfl (pb_Tok.cons dX6_init_2_32 rfl (pb_Tok.cons dX6_init_2_33 rfl (pb_Tok.cons dX6_init_2_35 rfl (pb_Tok.cons dX6_init_2_38 rfl (pb_Tok.cons dX6_init_2_39 rfl (pb_Tok.cons dX6_init_2_42 rfl (pb_Tok.cons dX6_init_2_43 rfl (pb_Tok.cons dX6_init_2_45 rfl (pb_Tok.cons dX6_init_2_46 rfl (pb_Tok.cons dX6_init_2_49 rfl (pb_Tok.cons dX6_init_2_52 rfl (pb_Tok.cons dX6_init_2_53 rfl (pb_Tok.cons dX6_init_2_54 rfl (pb_Tok.cons dX6_init_2_57 rfl pb_Tok.nil)))))))))))))))))))))))))))))
def tX6_mirror : pb_T := [(0, .iconst 0, 1, 0), (1, .istore_n 1, 2, 0), (2, .iconst 0, 3, 0), (3, .istore_n 2, 4, 0), (4, .iload_n 2, 5, 1), (5, .aload_n 0, 6, 0), (6, .invokevirtual 64, 9, 0), (9, .if_icmp .ge 57, 12, 66), (12, .aload_n 0, 13, 0), (13, .getfield 12, 16, 0), (16, .iload_n 2, 17, 0), (17, .invokevirtual 42, 20, 0), (20, .checkcast 46, 23, 0), (23, .astore_n 3, 24, 0), (24, .aload_n 0, 25, 0), (25, .getfield 12, 28, 0), (28, .iload_n 2, 29, 0), (29, .aload_n 3, 30, 0), (30, .invokevirtual 101, 33, 0), (33, .invokevirtual 105, 36, 0), (36, .checkcast 46, 39, 0), (39, .astore 4, 41, 0), (41, .iload_n 1, 42, 0), (42, .aload_n 3, 43, 0), (43, .getfield 78, 46, 0), (46, .aload_n 3, 47, 0), (47, .getfield 81, 50, 0), (50, .if_icmp .ne 7, 53, 57), (53, .iconst 0, 54, 0), (54, .goto 4, 57, 58), (57, .iconst 1, 58, 0), (58, .iadd, 59, 0), (59, .istore_n 1, 60, 0), (60, .iinc 2 1, 63, 0), (63, .goto (-59), 66, 4), (66, .iload_n 1, 67, 0), (67, .ireturn, 68, 0)]
theorem tX6_mirror_ok : pb_Tok cX6_mirror tX6_mirror := pb_Tok.cons dX6_mirror_0 rfl (pb_Tok.cons dX6_mirror_1 rfl (pb_Tok.cons dX6_mirror_2 rfl (pb_Tok.cons dX6_mirror_3 rfl (pb_Tok.cons dX6_mirror_4 rfl (pb_Tok.cons dX6_mirror_5 rfl (pb_Tok.cons dX6_mirror_6 rfl (pb_Tok.cons dX6_mirror_9 rfl (pb_Tok.cons dX6_mirror_12 rfl (pb_Tok.cons dX6_mirror_13 rfl (pb_Tok.cons dX6_mirror_16 rfl (pb_Tok.cons dX6_mirror_17 rfl (pb_Tok.cons dX6_mirror_20 rfl (pb_Tok.cons dX6_mirror_23 rfl (pb_Tok.cons dX6_mirror_24 rfl (pb_Tok.cons dX6_mirror_25 rfl (pb_Tok.cons dX6_mirror_28 rfl (pb_Tok.cons dX6_mirror_29 rfl (pb_Tok.cons dX6_mirror_30 rfl (pb_Tok.cons dX6_mirror_33 rfl (pb_Tok.cons dX6_mirror_36 rfl (pb_Tok.cons dX6_mirror_39 rfl (pb_Tok.cons dX6_mirror_41 rfl (pb_Tok.cons dX6_mirror_42 rfl (pb_Tok.cons dX6_mirror_43 rfl (pb_Tok.cons dX6_mirror_46 rfl (pb_Tok.cons dX6_mirror_47 rfl (pb_Tok.cons dX6_mirror_50 rfl (pb_Tok.cons dX6_mirror_53 rfl (pb_Tok.cons dX6_mirror_54 rfl (pb_Tok.cons dX6_mirror_57 rfl (pb_Tok.cons dX6_mirror_58 rfl (pb_Tok.cons dX6_mirror_59 rfl (pb_Tok.cons dX6_mirror_60 rfl (pb_Tok.cons dX6_mirror_63 rfl (pb_Tok.cons dX6_mirror_66 rfl (pb_Tok.cons dX6_mirror_67 rfl pb_Tok.nil))))))))))))))))))))))))))))))))))))
def tX6_draught : pb_T := [(0, .iconst 0, 1, 0), (1, .istore_n 1, 2, 0), (2, .iload_n 1, 3, 1), (3, .bipush 40, 5, 0), (5, .if_icmp .gt 19, 8, 24), (8, .aload_n 0, 9, 0), (9, .iload_n 1, 10, 0), (10, .invokevirtual 93, 13, 0), (13, .ifCond .eq 5, 16, 18), (16, .iload_n 1, 17, 0), (17, .ireturn, 18, 0), (18, .iinc 1 1, 21, 0), (21, .goto (-19), 24, 2), (24, .iconst (-1), 25, 0), (25, .ireturn, 26, 0)]
theorem tX6_draught_ok : pb_Tok cX6_draught tX6_draught := pb_Tok.cons dX6_draught_0 rfl (pb_Tok.cons dX6_draught_1 rfl (pb_Tok.cons dX6_draught_2 rfl (pb_Tok.cons dX6_draught_3 rfl (pb_Tok.cons dX6_draught_5 rfl (pb_Tok.cons dX6_draught_8 rfl (pb_Tok.cons dX6_draught_9 rfl (pb_Tok.cons dX6_draught_10 rfl (pb_Tok.cons dX6_draught_13 rfl (pb_Tok.cons dX6_draught_16 rfl (pb_Tok.cons dX6_draught_17 rfl (pb_Tok.cons dX6_draught_18 rfl (pb_Tok.cons dX6_draught_21 rfl (pb_Tok.cons dX6_draught_24 rfl (pb_Tok.cons dX6_draught_25 rfl pb_Tok.nil))))))))))))))
def tX6_floatsAt : pb_T := [(0, .aload_n 0, 1, 0), (1, .invokevirtual 87, 4, 0), (4, .iload_n 1, 5, 0), (5, .imul, 6, 0), (6, .iconst 2, 7, 0), (7, .idiv, 8, 0), (8, .aload_n 0, 9, 0), (9, .invokevirtual 90, 12, 0), (12, .if_icmp .lt 7, 15, 19), (15, .iconst 1, 16, 0), (16, .goto 4, 19, 20), (19, .iconst 0, 20, 0), (20, .ireturn, 21, 0)]
theorem tX6_floatsAt_ok : pb_Tok cX6_floatsAt tX6_floatsAt := pb_Tok.cons dX6_floatsAt_0 rfl (pb_Tok.cons dX6_floatsAt_1 rfl (pb_Tok.cons dX6_floatsAt_4 rfl (pb_Tok.cons dX6_floatsAt_5 rfl (pb_Tok.cons dX6_floatsAt_6 rfl (pb_Tok.cons dX6_floatsAt_7 rfl (pb_Tok.cons dX6_floatsAt_8 rfl (pb_Tok.cons dX6_floatsAt_9 rfl (pb_Tok.cons dX6_floatsAt_12 rfl (pb_Tok.cons dX6_floatsAt_15 rfl (pb_Tok.cons dX6_floatsAt_16 rfl (pb_Tok.cons dX6_floatsAt_19 rfl (pb_Tok.cons dX6_floatsAt_20 rfl pb_Tok.nil))))))))))))
def tX6_seamWidths : pb_T := [(0, .iconst 0, 1, 0), (1, .istore_n 1, 2, 0), (2, .iconst 0, 3, 0), (3, .istore_n 2, 4, 0), (4, .iload_n 2, 5, 1), (5, .aload_n 0, 6, 0), (6, .invokevirtual 84, 9, 0), (9, .if_icmp .ge 43, 12, 52), (12, .iload_n 1, 13, 0), (13, .aload_n 0, 14, 0), (14, .getfield 12, 17, 0), (17, .iload_n 2, 18, 0), (18, .invokevirtual 42, 21, 0), (21, .checkcast 46, 24, 0), (24, .invokevirtual 75, 27, 0), (27, .aload_n 0, 28, 0), (28, .getfield 12, 31, 0), (31, .iload_n 2, 32, 0), (32, .iconst 1, 33, 0), (33, .iadd, 34, 0), (34, .invokevirtual 42, 37, 0), (37, .checkcast 46, 40, 0), (40, .invokevirtual 75, 43, 0), (43, .iadd, 44, 0), (44, .iadd, 45, 0), (45, .istore_n 1, 46, 0), (46, .iinc 2 1, 49, 0), (49, .goto (-45), 52, 4), (52, .iload_n 1, 53, 0), (53, .ireturn, 54, 0)]
theorem tX6_seamWidths_ok : pb_Tok cX6_seamWidths tX6_seamWidths := pb_Tok.cons dX6_seamWidths_0 rfl (pb_Tok.cons dX6_seamWidths_1 rfl (pb_Tok.cons dX6_seamWidths_2 rfl (pb_Tok.cons dX6_seamWidths_3 rfl (pb_Tok.cons dX6_seamWidths_4 rfl (pb_Tok.cons dX6_seamWidths_5 rfl (pb_Tok.cons dX6_seamWidths_6 rfl (pb_Tok.cons dX6_seamWidths_9 rfl (pb_Tok.cons dX6_seamWidths_12 rfl (pb_Tok.cons dX6_seamWidths_13 rfl (pb_Tok.cons dX6_seamWidths_14 rfl (pb_Tok.cons dX6_seamWidths_17 rfl (pb_Tok.cons dX6_seamWidths_18 rfl (pb_Tok.cons dX6_seamWidths_21 rfl (pb_Tok.cons dX6_seamWidths_24 rfl (pb_Tok.cons dX6_seamWidths_27 rfl (pb_Tok.cons dX6_seamWidths_28 rfl (pb_Tok.cons dX6_seamWidths_31 rfl (pb_Tok.cons dX6_seamWidths_32 rfl (pb_Tok.cons dX6_seamWidths_33 rfl (pb_Tok.cons dX6_seamWidths_34 rfl (pb_Tok.cons dX6_seamWidths_37 rfl (pb_Tok.cons dX6_seamWidths_40 rfl (pb_Tok.cons dX6_seamWidths_43 rfl (pb_Tok.cons dX6_seamWidths_44 rfl (pb_Tok.cons dX6_seamWidths_45 rfl (pb_Tok.cons dX6_seamWidths_46 rfl (pb_Tok.cons dX6_seamWidths_49 rfl (pb_Tok.cons dX6_seamWidths_52 rfl (pb_Tok.cons dX6_seamWidths_53 rfl pb_Tok.nil)))))))))))))))))))))))))))))
def tX6_seams : pb_T := [(0, .iconst 0, 1, 0), (1, .aload_n 0, 2, 0), (2, .invokevirtual 64, 5, 0), (5, .iconst 1, 6, 0), (6, .isub, 7, 0), (7, .invokestatic 65, 10, 0), (10, .ireturn, 11, 0)]
theorem tX6_seams_ok : pb_Tok cX6_seams tX6_seams := pb_Tok.cons dX6_seams_0 rfl (pb_Tok.cons dX6_seams_1 rfl (pb_Tok.cons dX6_seams_2 rfl (pb_Tok.cons dX6_seams_5 rfl (pb_Tok.cons dX6_seams_6 rfl (pb_Tok.cons dX6_seams_7 rfl (pb_Tok.cons dX6_seams_10 rfl pb_Tok.nil))))))
def tX6_weight : pb_T := [(0, .iconst 2, 1, 0), (1, .newarray .int, 3, 0), (3, .dup, 4, 0), (4, .iconst 0, 5, 0), (5, .aload_n 0, 6, 0), (6, .getfield 58, 9, 0), (9, .iastore, 10, 0), (10, .dup, 11, 0), (11, .iconst 1, 12, 0), (12, .aload_n 0, 13, 0), (13, .getfield 61, 16, 0), (16, .iastore, 17, 0), (17, .invokestatic 71, 20, 0), (20, .istore_n 1, 21, 0), (21, .iconst 0, 22, 0), (22, .istore_n 2, 23, 0), (23, .iload_n 2, 24, 1), (24, .aload_n 0, 25, 0), (25, .invokevirtual 64, 28, 0), (28, .if_icmp .ge 26, 31, 54), (31, .iload_n 1, 32, 0), (32, .aload_n 0, 33, 0), (33, .getfield 12, 36, 0), (36, .iload_n 2, 37, 0), (37, .invokevirtual 42, 40, 0), (40, .checkcast 46, 43, 0), (43, .invokevirtual 75, 46, 0), (46, .iadd, 47, 0), (47, .istore_n 1, 48, 0), (48, .iinc 2 1, 51, 0), (51, .goto (-28), 54, 23), (54, .iload_n 1, 55, 0), (55, .ireturn, 56, 0)]
theorem tX6_weight_ok : pb_Tok cX6_weight tX6_weight := pb_Tok.cons dX6_weight_0 rfl (pb_Tok.cons dX6_weight_1 rfl (pb_Tok.cons dX6_weight_3 rfl (pb_Tok.cons dX6_weight_4 rfl (pb_Tok.cons dX6_weight_5 rfl (pb_Tok.cons dX6_weight_6 rfl (pb_Tok.cons dX6_weight_9 rfl (pb_Tok.cons dX6_weight_10 rfl (pb_Tok.cons dX6_weight_11 rfl (pb_Tok.cons dX6_weight_12 rfl (pb_Tok.cons dX6_weight_13 rfl (pb_Tok.cons dX6_weight_16 rfl (pb_Tok.cons dX6_weight_17 rfl (pb_Tok.cons dX6_weight_20 rfl (pb_Tok.cons dX6_weight_21 rfl (pb_Tok.cons dX6_weight_22 rfl (pb_Tok.cons dX6_weight_23 rfl (pb_Tok.cons dX6_weight_24 rfl (pb_Tok.cons dX6_weight_25 rfl (pb_Tok.cons dX6_weight_28 rfl (pb_Tok.cons dX6_weight_31 rfl (pb_Tok.cons dX6_weight_32 rfl (pb_Tok.cons dX6_weight_33 rfl (pb_Tok.cons dX6_weight_36 rfl (pb_Tok.cons dX6_weight_37 rfl (pb_Tok.cons dX6_weight_40 rfl (pb_Tok.cons dX6_weight_43 rfl (pb_Tok.cons dX6_weight_46 rfl (pb_Tok.cons dX6_weight_47 rfl (pb_Tok.cons dX6_weight_48 rfl (pb_Tok.cons dX6_weight_51 rfl (pb_Tok.cons dX6_weight_54 rfl (pb_Tok.cons dX6_weight_55 rfl pb_Tok.nil))))))))))))))))))))))))))))))))
def tX6_sinksIn : pb_T := [(0, .aload_n 0, 1, 0), (1, .getstatic 117, 4, 0), (4, .invokevirtual 120, 7, 0), (7, .ifCond .ne 5, 10, 12), (10, .iconst 0, 11, 0), (11, .ireturn, 12, 0), (12, .iconst 0, 13, 0), (13, .istore_n 2, 14, 0), (14, .iload_n 2, 15, 1), (15, .aload_n 0, 16, 0), (16, .invokevirtual 84, 19, 0), (19, .if_icmp .ge 57, 22, 76), (22, .aload_n 0, 23, 0), (23, .dup, 24, 0), (24, .getfield 61, 27, 0), (27, .bipush 9, 29, 0), (29, .aload_n 0, 30, 0), (30, .getfield 18, 33, 0), (33, .iload_n 2, 34, 0), (34, .iaload, 35, 0), (35, .isub, 36, 0), (36, .iadd, 37, 0), (37, .putfield 61, 40, 0), (40, .aload_n 0, 41, 0), (41, .getfield 18, 44, 0), (44, .iload_n 2, 45, 0), (45, .dup2, 46, 0), (46, .iaload, 47, 0), (47, .iload_n 1, 48, 0), (48, .bipush 6, 50, 0), (50, .irem, 51, 0), (51, .ifCond .ne 16, 54, 67), (54, .aload_n 0, 55, 0), (55, .getfield 18, 58, 0), (58, .iload_n 2, 59, 0), (59, .iaload, 60, 0), (60, .ifCond .le 7, 63, 67), (63, .iconst 1, 64, 0), (64, .goto 4, 67, 68), (67, .iconst 0, 68, 0), (68, .isub, 69, 0), (69, .iastore, 70, 0), (70, .iinc 2 1, 73, 0), (73, .goto (-59), 76, 14), (76, .aload_n 0, 77, 0), (77, .invokevirtual 97, 80, 0), (80, .ifCond .ne 10, 83, 90), (83, .aload_n 0, 84, 0), (84, .getstatic 124, 87, 0), (87, .putfield 28, 90, 0), (90, .aload_n 0, 91, 0), (91, .getstatic 124, 94, 0), (94, .invokevirtual 120, 97, 0), (97, .ireturn, 98, 0)]
theorem tX6_sinksIn_ok : pb_Tok cX6_sinksIn tX6_sinksIn := pb_Tok.cons dX6_sinksIn_0 rfl (pb_Tok.cons dX6_sinksIn_1 rfl (pb_Tok.cons dX6_sinksIn_4 rfl (pb_Tok.cons dX6_sinksIn_7 rfl (pb_Tok.cons dX6_sinksIn_10 rfl (pb_Tok.cons dX6_sinksIn_11 rfl (pb_Tok.cons dX6_sinksIn_12 rfl (pb_Tok.cons dX6_sinksIn_13 rfl (pb_Tok.cons dX6_sinksIn_14 rfl (pb_Tok.cons dX6_sinksIn_15 rfl (pb_Tok.cons dX6_sinksIn_16 rfl (pb_Tok.cons dX6_sinksIn_19 rfl (pb_Tok.cons dX6_sinksIn_22 rfl (pb_Tok.cons dX6_sinksIn_23 rfl (pb_Tok.cons dX6_sinksIn_24 rfl (pb_Tok.cons dX6_sinksIn_27 rfl (pb_Tok.cons dX6_sinksIn_29 rfl (pb_Tok.cons dX6_sinksIn_30 rfl (pb_Tok.cons dX6_sinksIn_33 rfl (pb_Tok.cons dX6_sinksIn_34 rfl (pb_Tok.cons dX6_sinksIn_35 rfl (pb_Tok.cons dX6_sinksIn_36 rfl (pb_Tok.cons dX6_sinksIn_37 rfl (pb_Tok.cons dX6_sinksIn_40 rfl (pb_Tok.cons dX6_sinksIn_41 rfl (pb_Tok.cons dX6_sinksIn_44 rfl (pb_Tok.cons dX6_sinksIn_45 rfl (pb_Tok.cons dX6_sinksIn_46 rfl (pb_Tok.cons dX6_sinksIn_47 rfl (pb_Tok.cons dX6_sinksIn_48 rfl (pb_Tok.cons dX6_sinksIn_50 rfl (pb_Tok.cons dX6_sinksIn_51 rfl (pb_Tok.cons dX6_sinksIn_54 rfl (pb_Tok.cons dX6_sinksIn_55 rfl (pb_Tok.cons dX6_sinksIn_58 rfl (pb_Tok.cons dX6_sinksIn_59 rfl (pb_Tok.cons dX6_sinksIn_60 rfl (pb_Tok.cons dX6_sinksIn_63 rfl (pb_Tok.cons dX6_sinksIn_64 rfl (pb_Tok.cons dX6_sinksIn_67 rfl (pb_Tok.cons dX6_sinksIn_68 rfl (pb_Tok.cons dX6_sinksIn_69 rfl (pb_Tok.cons dX6_sinksIn_70 rfl (pb_Tok.cons dX6_sinksIn_73 rfl (pb_Tok.cons dX6_sinksIn_76 rfl (pb_Tok.cons dX6_sinksIn_77 rfl (pb_Tok.cons dX6_sinksIn_80 rfl (pb_Tok.cons dX6_sinksIn_83 rfl (pb_Tok.cons dX6_sinksIn_84 rfl (pb_Tok.cons dX6_sinksIn_87 rfl (pb_Tok.cons dX6_sinksIn_90 rfl (pb_Tok.cons dX6_sinksIn_91 rfl (pb_Tok.cons dX6_sinksIn_94 rfl (pb_Tok.cons dX6_sinksIn_97 rfl pb_Tok.nil)))))))))))))))))))))))))))))))))))))))))))))))))))))
def tX6_canFloat : pb_T := [(0, .aload_n 0, 1, 0), (1, .bipush 40, 3, 0), (3, .invokevirtual 93, 6, 0), (6, .ireturn, 7, 0)]
theorem tX6_canFloat_ok : pb_Tok cX6_canFloat tX6_canFloat := pb_Tok.cons dX6_canFloat_0 rfl (pb_Tok.cons dX6_canFloat_1 rfl (pb_Tok.cons dX6_canFloat_3 rfl (pb_Tok.cons dX6_canFloat_6 rfl pb_Tok.nil)))
def tX6_draughtByHalving : pb_T := [(0, .aload_n 0, 1, 0), (1, .invokevirtual 97, 4, 0), (4, .ifCond .ne 5, 7, 9), (7, .iconst (-1), 8, 0), (8, .ireturn, 9, 0), (9, .iconst 0, 10, 0), (10, .istore_n 1, 11, 0), (11, .bipush 40, 13, 0), (13, .istore_n 2, 14, 0), (14, .iload_n 1, 15, 1), (15, .iload_n 2, 16, 0), (16, .if_icmp .ge 29, 19, 45), (19, .iload_n 1, 20, 0), (20, .iload_n 2, 21, 0), (21, .iadd, 22, 0), (22, .iconst 2, 23, 0), (23, .idiv, 24, 0), (24, .istore_n 3, 25, 0), (25, .aload_n 0, 26, 0), (26, .iload_n 3, 27, 0), (27, .invokevirtual 93, 30, 0), (30, .ifCond .eq 8, 33, 38), (33, .iload_n 3, 34, 0), (34, .istore_n 2, 35, 0), (35, .goto 7, 38, 42), (38, .iload_n 3, 39, 0), (39, .iconst 1, 40, 0), (40, .iadd, 41, 0), (41, .istore_n 1, 42, 0), (42, .goto (-28), 45, 14), (45, .iload_n 1, 46, 0), (46, .ireturn, 47, 0)]
theorem tX6_draughtByHalving_ok : pb_Tok cX6_draughtByHalving tX6_draughtByHalving := pb_Tok.cons dX6_draughtByHalving_0 rfl (pb_Tok.cons dX6_draughtByHalving_1 rfl (pb_Tok.cons dX6_draughtByHalving_4 rfl (pb_Tok.cons dX6_draughtByHalving_7 rfl (pb_Tok.cons dX6_draughtByHalving_8 rfl (pb_Tok.cons dX6_draughtByHalving_9 rfl (pb_Tok.cons dX6_draughtByHalving_10 rfl (pb_Tok.cons dX6_draughtByHalving_11 rfl (pb_Tok.cons dX6_draughtByHalving_13 rfl (pb_Tok.cons dX6_draughtByHalving_14 rfl (pb_Tok.cons dX6_draughtByHalving_15 rfl (pb_Tok.cons dX6_draughtByHalving_16 rfl (pb_Tok.cons dX6_draughtByHalving_19 rfl (pb_Tok.cons dX6_draughtByHalving_20 rfl (pb_Tok.cons dX6_draughtByHalving_21 rfl (pb_Tok.cons dX6_draughtByHalving_22 rfl (pb_Tok.cons dX6_draughtByHalving_23 rfl (pb_Tok.cons dX6_draughtByHalving_24 rfl (pb_Tok.cons dX6_draughtByHalving_25 rfl (pb_Tok.cons dX6_draughtByHalving_26 rfl (pb_Tok.cons dX6_draughtByHalving_27 rfl (pb_Tok.cons dX6_draughtByHalving_30 rfl (pb_Tok.cons dX6_draughtByHalving_33 rfl (pb_Tok.cons dX6_draughtByHalving_34 rfl (pb_Tok.cons dX6_draughtByHalving_35 rfl (pb_Tok.cons dX6_draughtByHalving_38 rfl (pb_Tok.cons dX6_draughtByHalving_39 rfl (pb_Tok.cons dX6_draughtByHalving_40 rfl (pb_Tok.cons dX6_draughtByHalving_41 rfl (pb_Tok.cons dX6_draughtByHalving_42 rfl (pb_Tok.cons dX6_draughtByHalving_45 rfl (pb_Tok.cons dX6_draughtByHalving_46 rfl pb_Tok.nil)))))))))))))))))))))))))))))))
def tX6_heel : pb_T := [(0, .iconst 0, 1, 0), (1, .istore_n 1, 2, 0), (2, .iconst 0, 3, 0), (3, .istore_n 2, 4, 0), (4, .iload_n 2, 5, 1), (5, .aload_n 0, 6, 0), (6, .invokevirtual 64, 9, 0), (9, .if_icmp .ge 41, 12, 50), (12, .iload_n 1, 13, 0), (13, .aload_n 0, 14, 0), (14, .getfield 12, 17, 0), (17, .iload_n 2, 18, 0), (18, .invokevirtual 42, 21, 0), (21, .checkcast 46, 24, 0), (24, .getfield 78, 27, 0), (27, .aload_n 0, 28, 0), (28, .getfield 12, 31, 0), (31, .iload_n 2, 32, 0), (32, .invokevirtual 42, 35, 0), (35, .checkcast 46, 38, 0), (38, .getfield 81, 41, 0), (41, .isub, 42, 0), (42, .iadd, 43, 0), (43, .istore_n 1, 44, 0), (44, .iinc 2 1, 47, 0), (47, .goto (-43), 50, 4), (50, .iload_n 1, 51, 0), (51, .ireturn, 52, 0)]
theorem tX6_heel_ok : pb_Tok cX6_heel tX6_heel := pb_Tok.cons dX6_heel_0 rfl (pb_Tok.cons dX6_heel_1 rfl (pb_Tok.cons dX6_heel_2 rfl (pb_Tok.cons dX6_heel_3 rfl (pb_Tok.cons dX6_heel_4 rfl (pb_Tok.cons dX6_heel_5 rfl (pb_Tok.cons dX6_heel_6 rfl (pb_Tok.cons dX6_heel_9 rfl (pb_Tok.cons dX6_heel_12 rfl (pb_Tok.cons dX6_heel_13 rfl (pb_Tok.cons dX6_heel_14 rfl (pb_Tok.cons dX6_heel_17 rfl (pb_Tok.cons dX6_heel_18 rfl (pb_Tok.cons dX6_heel_21 rfl (pb_Tok.cons dX6_heel_24 rfl (pb_Tok.cons dX6_heel_27 rfl (pb_Tok.cons dX6_heel_28 rfl (pb_Tok.cons dX6_heel_31 rfl (pb_Tok.cons dX6_heel_32 rfl (pb_Tok.cons dX6_heel_35 rfl (pb_Tok.cons dX6_heel_38 rfl (pb_Tok.cons dX6_heel_41 rfl (pb_Tok.cons dX6_heel_42 rfl (pb_Tok.cons dX6_heel_43 rfl (pb_Tok.cons dX6_heel_44 rfl (pb_Tok.cons dX6_heel_47 rfl (pb_Tok.cons dX6_heel_50 rfl (pb_Tok.cons dX6_heel_51 rfl pb_Tok.nil)))))))))))))))))))))))))))
def tX6_isReflectionOf : pb_T := [(0, .aload_n 0, 1, 0), (1, .invokevirtual 64, 4, 0), (4, .aload_n 1, 5, 0), (5, .invokevirtual 64, 8, 0), (8, .if_icmp .eq 5, 11, 13), (11, .iconst 0, 12, 0), (12, .ireturn, 13, 0), (13, .iconst 0, 14, 0), (14, .istore_n 2, 15, 0), (15, .iload_n 2, 16, 1), (16, .aload_n 0, 17, 0), (17, .invokevirtual 64, 20, 0), (20, .if_icmp .ge 39, 23, 59), (23, .aload_n 0, 24, 0), (24, .getfield 12, 27, 0), (27, .iload_n 2, 28, 0), (28, .invokevirtual 42, 31, 0), (31, .checkcast 46, 34, 0), (34, .aload_n 1, 35, 0), (35, .getfield 12, 38, 0), (38, .iload_n 2, 39, 0), (39, .invokevirtual 42, 42, 0), (42, .checkcast 46, 45, 0), (45, .invokevirtual 109, 48, 0), (48, .ifCond .ne 5, 51, 53), (51, .iconst 0, 52, 0), (52, .ireturn, 53, 0), (53, .iinc 2 1, 56, 0), (56, .goto (-41), 59, 15), (59, .iconst 1, 60, 0), (60, .ireturn, 61, 0)]
theorem tX6_isReflectionOf_ok : pb_Tok cX6_isReflectionOf tX6_isReflectionOf := pb_Tok.cons dX6_isReflectionOf_0 rfl (pb_Tok.cons dX6_isReflectionOf_1 rfl (pb_Tok.cons dX6_isReflectionOf_4 rfl (pb_Tok.cons dX6_isReflectionOf_5 rfl (pb_Tok.cons dX6_isReflectionOf_8 rfl (pb_Tok.cons dX6_isReflectionOf_11 rfl (pb_Tok.cons dX6_isReflectionOf_12 rfl (pb_Tok.cons dX6_isReflectionOf_13 rfl (pb_Tok.cons dX6_isReflectionOf_14 rfl (pb_Tok.cons dX6_isReflectionOf_15 rfl (pb_Tok.cons dX6_isReflectionOf_16 rfl (pb_Tok.cons dX6_isReflectionOf_17 rfl (pb_Tok.cons dX6_isReflectionOf_20 rfl (pb_Tok.cons dX6_isReflectionOf_23 rfl (pb_Tok.cons dX6_isReflectionOf_24 rfl (pb_Tok.cons dX6_isReflectionOf_27 rfl (pb_Tok.cons dX6_isReflectionOf_28 rfl (pb_Tok.cons dX6_isReflectionOf_31 rfl (pb_Tok.cons dX6_isReflectionOf_34 rfl (pb_Tok.cons dX6_isReflectionOf_35 rfl (pb_Tok.cons dX6_isReflectionOf_38 rfl (pb_Tok.cons dX6_isReflectionOf_39 rfl (pb_Tok.cons dX6_isReflectionOf_42 rfl (pb_Tok.cons dX6_isReflectionOf_45 rfl (pb_Tok.cons dX6_isReflectionOf_48 rfl (pb_Tok.cons dX6_isReflectionOf_51 rfl (pb_Tok.cons dX6_isReflectionOf_52 rfl (pb_Tok.cons dX6_isReflectionOf_53 rfl (pb_Tok.cons dX6_isReflectionOf_56 rfl (pb_Tok.cons dX6_isReflectionOf_59 rfl (pb_Tok.cons dX6_isReflectionOf_60 rfl pb_Tok.nil))))))))))))))))))))))))))))))
def tX6_commonStretch : pb_T := [(0, .aload_n 1, 1, 0), (1, .invokevirtual 64, 4, 0), (4, .iconst 1, 5, 0), (5, .iadd, 6, 0), (6, .newarray .int, 8, 0), (8, .astore_n 2, 9, 0), (9, .iconst 0, 10, 0), (10, .istore_n 3, 11, 0), (11, .iconst 0, 12, 0), (12, .istore 4, 14, 0), (14, .iload 4, 16, 1), (16, .aload_n 0, 17, 0), (17, .invokevirtual 64, 20, 0), (20, .if_icmp .ge 83, 23, 103), (23, .aload_n 1, 24, 0), (24, .invokevirtual 64, 27, 0), (27, .istore 5, 29, 0), (29, .iload 5, 31, 1), (31, .ifCond .le 66, 34, 97), (34, .aload_n 2, 35, 0), (35, .iload 5, 37, 0), (37, .aload_n 0, 38, 0), (38, .getfield 12, 41, 0), (41, .iload 4, 43, 0), (43, .invokevirtual 42, 46, 0), (46, .checkcast 46, 49, 0), (49, .aload_n 1, 50, 0), (50, .getfield 12, 53, 0), (53, .iload 5, 55, 0), (55, .iconst 1, 56, 0), (56, .isub, 57, 0), (57, .invokevirtual 42, 60, 0), (60, .checkcast 46, 63, 0), (63, .invokevirtual 109, 66, 0), (66, .ifCond .eq 14, 69, 80), (69, .aload_n 2, 70, 0), (70, .iload 5, 72, 0), (72, .iconst 1, 73, 0), (73, .isub, 74, 0), (74, .iaload, 75, 0), (75, .iconst 1, 76, 0), (76, .iadd, 77, 0), (77, .goto 4, 80, 81), (80, .iconst 0, 81, 0), (81, .iastore, 82, 0), (82, .iload_n 3, 83, 0), (83, .aload_n 2, 84, 0), (84, .iload 5, 86, 0), (86, .iaload, 87, 0), (87, .invokestatic 65, 90, 0), (90, .istore_n 3, 91, 0), (91, .iinc 5 (-1), 94, 0), (94, .goto (-65), 97, 29), (97, .iinc 4 1, 100, 0), (100, .goto (-86), 103, 14), (103, .iload_n 3, 104, 0), (104, .ireturn, 105, 0)]
theorem tX6_commonStretch_ok : pb_Tok cX6_commonStretch tX6_commonStretch := pb_Tok.cons dX6_commonStretch_0 rfl (pb_Tok.cons dX6_commonStretch_1 rfl (pb_Tok.cons dX6_commonStretch_4 rfl (pb_Tok.cons dX6_commonStretch_5 rfl (pb_Tok.cons dX6_commonStretch_6 rfl (pb_Tok.cons dX6_commonStretch_8 rfl (pb_Tok.cons dX6_commonStretch_9 rfl (pb_Tok.cons dX6_commonStretch_10 rfl (pb_Tok.cons dX6_commonStretch_11 rfl (pb_Tok.cons dX6_commonStretch_12 rfl (pb_Tok.cons dX6_commonStretch_14 rfl (pb_Tok.cons dX6_commonStretch_16 rfl (pb_Tok.cons dX6_commonStretch_17 rfl (pb_Tok.cons dX6_commonStretch_20 rfl (pb_Tok.cons dX6_commonStretch_23 rfl (pb_Tok.cons dX6_commonStretch_24 rfl (pb_Tok.cons dX6_commonStretch_27 rfl (pb_Tok.cons dX6_commonStretch_29 rfl (pb_Tok.cons dX6_commonStretch_31 rfl (pb_Tok.cons dX6_commonStretch_34 rfl (pb_Tok.cons dX6_commonStretch_35 rfl (pb_Tok.cons dX6_commonStretch_37 rfl (pb_Tok.cons dX6_commonStretch_38 rfl (pb_Tok.cons dX6_commonStretch_41 rfl (pb_Tok.cons dX6_commonStretch_43 rfl (pb_Tok.cons dX6_commonStretch_46 rfl (pb_Tok.cons dX6_commonStretch_49 rfl (pb_Tok.cons dX6_commonStretch_50 rfl (pb_Tok.cons dX6_commonStretch_53 rfl (pb_Tok.cons dX6_commonStretch_55 rfl (pb_Tok.cons dX6_commonStretch_56 rfl (pb_Tok.cons dX6_commonStretch_57 rfl (pb_Tok.cons dX6_commonStretch_60 rfl (pb_Tok.cons dX6_commonStretch_63 rfl (pb_Tok.cons dX6_commonStretch_66 rfl (pb_Tok.cons dX6_commonStretch_69 rfl (pb_Tok.cons dX6_commonStretch_70 rfl (pb_Tok.cons dX6_commonStretch_72 rfl (pb_Tok.cons dX6_commonStretch_73 rfl (pb_Tok.cons dX6_commonStretch_74 rfl (pb_Tok.cons dX6_commonStretch_75 rfl (pb_Tok.cons dX6_commonStretch_76 rfl (pb_Tok.cons dX6_commonStretch_77 rfl (pb_Tok.cons dX6_commonStretch_80 rfl (pb_Tok.cons dX6_commonStretch_81 rfl (pb_Tok.cons dX6_commonStretch_82 rfl (pb_Tok.cons dX6_commonStretch_83 rfl (pb_Tok.cons dX6_commonStretch_84 rfl (pb_Tok.cons dX6_commonStretch_86 rfl (pb_Tok.cons dX6_commonStretch_87 rfl (pb_Tok.cons dX6_commonStretch_90 rfl (pb_Tok.cons dX6_commonStretch_91 rfl (pb_Tok.cons dX6_commonStretch_94 rfl (pb_Tok.cons dX6_commonStretch_97 rfl (pb_Tok.cons dX6_commonStretch_100 rfl (pb_Tok.cons dX6_commonStretch_103 rfl (pb_Tok.cons dX6_commonStretch_104 rfl pb_Tok.nil))))))))))))))))))))))))))))))))))))))))))))))))))))))))
def tX6_commonStretchByTrying : pb_T := [(0, .iconst 0, 1, 0), (1, .istore_n 2, 2, 0), (2, .iconst 0, 3, 0), (3, .istore_n 3, 4, 0), (4, .iload_n 3, 5, 1), (5, .aload_n 0, 6, 0), (6, .invokevirtual 64, 9, 0), (9, .if_icmp .ge 40, 12, 49), (12, .iconst 0, 13, 0), (13, .istore 4, 15, 0), (15, .iload 4, 17, 1), (17, .aload_n 1, 18, 0), (18, .invokevirtual 64, 21, 0), (21, .if_icmp .ge 22, 24, 43), (24, .iload_n 2, 25, 0), (25, .aload_n 0, 26, 0), (26, .iload_n 3, 27, 0), (27, .aload_n 1, 28, 0), (28, .iload 4, 30, 0), (30, .invokevirtual 113, 33, 0), (33, .invokestatic 65, 36, 0), (36, .istore_n 2, 37, 0), (37, .iinc 4 1, 40, 0), (40, .goto (-25), 43, 15), (43, .iinc 3 1, 46, 0), (46, .goto (-42), 49, 4), (49, .iload_n 2, 50, 0), (50, .ireturn, 51, 0)]
theorem tX6_commonStretchByTrying_ok : pb_Tok cX6_commonStretchByTrying tX6_commonStretchByTrying := pb_Tok.cons dX6_commonStretchByTrying_0 rfl (pb_Tok.cons dX6_commonStretchByTrying_1 rfl (pb_Tok.cons dX6_commonStretchByTrying_2 rfl (pb_Tok.cons dX6_commonStretchByTrying_3 rfl (pb_Tok.cons dX6_commonStretchByTrying_4 rfl (pb_Tok.cons dX6_commonStretchByTrying_5 rfl (pb_Tok.cons dX6_commonStretchByTrying_6 rfl (pb_Tok.cons dX6_commonStretchByTrying_9 rfl (pb_Tok.cons dX6_commonStretchByTrying_12 rfl (pb_Tok.cons dX6_commonStretchByTrying_13 rfl (pb_Tok.cons dX6_commonStretchByTrying_15 rfl (pb_Tok.cons dX6_commonStretchByTrying_17 rfl (pb_Tok.cons dX6_commonStretchByTrying_18 rfl (pb_Tok.cons dX6_commonStretchByTrying_21 rfl (pb_Tok.cons dX6_commonStretchByTrying_24 rfl (pb_Tok.cons dX6_commonStretchByTrying_25 rfl (pb_Tok.cons dX6_commonStretchByTrying_26 rfl (pb_Tok.cons dX6_commonStretchByTrying_27 rfl (pb_Tok.cons dX6_commonStretchByTrying_28 rfl (pb_Tok.cons dX6_commonStretchByTrying_30 rfl (pb_Tok.cons dX6_commonStretchByTrying_33 rfl (pb_Tok.cons dX6_commonStretchByTrying_36 rfl (pb_Tok.cons dX6_commonStretchByTrying_37 rfl (pb_Tok.cons dX6_commonStretchByTrying_40 rfl (pb_Tok.cons dX6_commonStretchByTrying_43 rfl (pb_Tok.cons dX6_commonStretchByTrying_46 rfl (pb_Tok.cons dX6_commonStretchByTrying_49 rfl (pb_Tok.cons dX6_commonStretchByTrying_50 rfl pb_Tok.nil)))))))))))))))))))))))))))
def tX6_stretch : pb_T := [(0, .iconst 0, 1, 0), (1, .istore 4, 3, 0), (3, .iload_n 1, 4, 1), (4, .iload 4, 6, 0), (6, .iadd, 7, 0), (7, .aload_n 0, 8, 0), (8, .invokevirtual 64, 11, 0), (11, .if_icmp .ge 54, 14, 65), (14, .iload_n 3, 15, 0), (15, .iload 4, 17, 0), (17, .iadd, 18, 0), (18, .aload_n 2, 19, 0), (19, .invokevirtual 64, 22, 0), (22, .if_icmp .ge 43, 25, 65), (25, .aload_n 0, 26, 0), (26, .getfield 12, 29, 0), (29, .iload_n 1, 30, 0), (30, .iload 4, 32, 0), (32, .iadd, 33, 0), (33, .invokevirtual 42, 36, 0), (36, .checkcast 46, 39, 0), (39, .aload_n 2, 40, 0), (40, .getfield 12, 43, 0), (43, .iload_n 3, 44, 0), (44, .iload 4, 46, 0), (46, .iadd, 47, 0), (47, .invokevirtual 42, 50, 0), (50, .checkcast 46, 53, 0), (53, .invokevirtual 109, 56, 0), (56, .ifCond .eq 9, 59, 65), (59, .iinc 4 1, 62, 0), (62, .goto (-59), 65, 3), (65, .iload 4, 67, 0), (67, .ireturn, 68, 0)]
theorem tX6_stretch_ok : pb_Tok cX6_stretch tX6_stretch := pb_Tok.cons dX6_stretch_0 rfl (pb_Tok.cons dX6_stretch_1 rfl (pb_Tok.cons dX6_stretch_3 rfl (pb_Tok.cons dX6_stretch_4 rfl (pb_Tok.cons dX6_stretch_6 rfl (pb_Tok.cons dX6_stretch_7 rfl (pb_Tok.cons dX6_stretch_8 rfl (pb_Tok.cons dX6_stretch_11 rfl (pb_Tok.cons dX6_stretch_14 rfl (pb_Tok.cons dX6_stretch_15 rfl (pb_Tok.cons dX6_stretch_17 rfl (pb_Tok.cons dX6_stretch_18 rfl (pb_Tok.cons dX6_stretch_19 rfl (pb_Tok.cons dX6_stretch_22 rfl (pb_Tok.cons dX6_stretch_25 rfl (pb_Tok.cons dX6_stretch_26 rfl (pb_Tok.cons dX6_stretch_29 rfl (pb_Tok.cons dX6_stretch_30 rfl (pb_Tok.cons dX6_stretch_32 rfl (pb_Tok.cons dX6_stretch_33 rfl (pb_Tok.cons dX6_stretch_36 rfl (pb_Tok.cons dX6_stretch_39 rfl (pb_Tok.cons dX6_stretch_40 rfl (pb_Tok.cons dX6_stretch_43 rfl (pb_Tok.cons dX6_stretch_44 rfl (pb_Tok.cons dX6_stretch_46 rfl (pb_Tok.cons dX6_stretch_47 rfl (pb_Tok.cons dX6_stretch_50 rfl (pb_Tok.cons dX6_stretch_53 rfl (pb_Tok.cons dX6_stretch_56 rfl (pb_Tok.cons dX6_stretch_59 rfl (pb_Tok.cons dX6_stretch_62 rfl (pb_Tok.cons dX6_stretch_65 rfl (pb_Tok.cons dX6_stretch_67 rfl pb_Tok.nil)))))))))))))))))))))))))))))))))
def tX6_toString : pb_T := [(0, .new 127, 3, 0), (3, .dup, 4, 0), (4, .invokespecial 129, 7, 0), (7, .astore_n 1, 8, 0), (8, .aload_n 1, 9, 0), (9, .aload_n 0, 10, 0), (10, .getfield 31, 13, 0), (13, .invokevirtual 130, 16, 0), (16, .aload_n 0, 17, 0), (17, .getfield 28, 20, 0), (20, .getfield 134, 23, 0), (23, .invokevirtual 138, 26, 0), (26, .pop, 27, 0), (27, .iconst 0, 28, 0), (28, .istore_n 2, 29, 0), (29, .iload_n 2, 30, 1), (30, .aload_n 0, 31, 0), (31, .invokevirtual 64, 34, 0), (34, .if_icmp .ge 57, 37, 91), (37, .aload_n 1, 38, 0), (38, .bipush 32, 40, 0), (40, .invokevirtual 138, 43, 0), (43, .aload_n 0, 44, 0), (44, .getfield 12, 47, 0), (47, .iload_n 2, 48, 0), (48, .invokevirtual 42, 51, 0), (51, .checkcast 46, 54, 0), (54, .invokevirtual 141, 57, 0), (57, .invokevirtual 145, 60, 0), (60, .pop, 61, 0), (61, .iload_n 2, 62, 0), (62, .aload_n 0, 63, 0), (63, .invokevirtual 84, 66, 0), (66, .if_icmp .ge 19, 69, 85), (69, .aload_n 1, 70, 0), (70, .bipush 126, 72, 0), (72, .invokevirtual 138, 75, 0), (75, .aload_n 0, 76, 0), (76, .getfield 18, 79, 0), (79, .iload_n 2, 80, 0), (80, .iaload, 81, 0), (81, .invokevirtual 130, 84, 0), (84, .pop, 85, 0), (85, .iinc 2 1, 88, 0), (88, .goto (-59), 91, 29), (91, .aload_n 1, 92, 0), (92, .invokevirtual 148, 95, 0), (95, .areturn, 96, 0)]
theorem tX6_toString_ok : pb_Tok cX6_toString tX6_toString := pb_Tok.cons dX6_toString_0 rfl (pb_Tok.cons dX6_toString_3 rfl (pb_Tok.cons dX6_toString_4 rfl (pb_Tok.cons dX6_toString_7 rfl (pb_Tok.cons dX6_toString_8 rfl (pb_Tok.cons dX6_toString_9 rfl (pb_Tok.cons dX6_toString_10 rfl (pb_Tok.cons dX6_toString_13 rfl (pb_Tok.cons dX6_toString_16 rfl (pb_Tok.cons dX6_toString_17 rfl (pb_Tok.cons dX6_toString_20 rfl (pb_Tok.cons dX6_toString_23 rfl (pb_Tok.cons dX6_toString_26 rfl (pb_Tok.cons dX6_toString_27 rfl (pb_Tok.cons dX6_toString_28 rfl (pb_Tok.cons dX6_toString_29 rfl (pb_Tok.cons dX6_toString_30 rfl (pb_Tok.cons dX6_toString_31 rfl (pb_Tok.cons dX6_toString_34 rfl (pb_Tok.cons dX6_toString_37 rfl (pb_Tok.cons dX6_toString_38 rfl (pb_Tok.cons dX6_toString_40 rfl (pb_Tok.cons dX6_toString_43 rfl (pb_Tok.cons dX6_toString_44 rfl (pb_Tok.cons dX6_toString_47 rfl (pb_Tok.cons dX6_toString_48 rfl (pb_Tok.cons dX6_toString_51 rfl (pb_Tok.cons dX6_toString_54 rfl (pb_Tok.cons dX6_toString_57 rfl (pb_Tok.cons dX6_toString_60 rfl (pb_Tok.cons dX6_toString_61 rfl (pb_Tok.cons dX6_toString_62 rfl (pb_Tok.cons dX6_toString_63 rfl (pb_Tok.cons dX6_toString_66 rfl (pb_Tok.cons dX6_toString_69 rfl (pb_Tok.cons dX6_toString_70 rfl (pb_Tok.cons dX6_toString_72 rfl (pb_Tok.cons dX6_toString_75 rfl (pb_Tok.cons dX6_toString_76 rfl (pb_Tok.cons dX6_toString_79 rfl (pb_Tok.cons dX6_toString_80 rfl (pb_Tok.cons dX6_toString_81 rfl (pb_Tok.cons dX6_toString_84 rfl (pb_Tok.cons dX6_toString_85 rfl (pb_Tok.cons dX6_toString_88 rfl (pb_Tok.cons dX6_toString_91 rfl (pb_Tok.cons dX6_toString_92 rfl (pb_Tok.cons dX6_toString_95 rfl pb_Tok.nil)))))))))))))))))))))))))))))))))))))))))))))))
def dkwX7_state_0 : List UInt8 := [26, 154, 0, 11, 187, 0, 10, 89, 183, 0, 12, 191, 177]
abbrev dktX7_state_0 : List UInt8 := dkwX7_state_0 ++ []
theorem dksX7_state_0 : cX7_state.data.toList.drop 0 = dktX7_state_0 := by decide +kernel
theorem dX7_state_0 : decode cX7_state 0 = .ok (.iload_n 0, 1) := dk_26 (dk_at dksX7_state_0 0 rfl rfl)
theorem dX7_state_1 : decode cX7_state 1 = .ok (.ifCond .ne 11, 3) := dk_154 0 11 (dk_at dksX7_state_0 1 rfl rfl)
theorem dX7_state_4 : decode cX7_state 4 = .ok (.new 10, 3) := dk_187 0 10 (dk_at dksX7_state_0 4 rfl rfl)
theorem dX7_state_7 : decode cX7_state 7 = .ok (.dup, 1) := dk_89 (dk_at dksX7_state_0 7 rfl rfl)
theorem dX7_state_8 : decode cX7_state 8 = .ok (.invokespecial 12, 3) := dk_183 0 12 (dk_at dksX7_state_0 8 rfl rfl)
theorem dX7_state_11 : decode cX7_state 11 = .ok (.athrow, 1) := dk_191 (dk_at dksX7_state_0 11 rfl rfl)
theorem dX7_state_12 : decode cX7_state 12 = .ok (.return_, 1) := dk_177 (dk_at dksX7_state_0 12 rfl rfl)
def dkwX7_isBetween_0 : List UInt8 := [26, 27, 161, 0, 12, 26, 28, 163, 0, 7, 4, 167, 0, 4, 3, 172]
abbrev dktX7_isBetween_0 : List UInt8 := dkwX7_isBetween_0 ++ []
theorem dksX7_isBetween_0 : cX7_isBetween.data.toList.drop 0 = dktX7_isBetween_0 := by decide +kernel
theorem dX7_isBetween_0 : decode cX7_isBetween 0 = .ok (.iload_n 0, 1) := dk_26 (dk_at dksX7_isBetween_0 0 rfl rfl)
theorem dX7_isBetween_1 : decode cX7_isBetween 1 = .ok (.iload_n 1, 1) := dk_27 (dk_at dksX7_isBetween_0 1 rfl rfl)
theorem dX7_isBetween_2 : decode cX7_isBetween 2 = .ok (.if_icmp .lt 12, 3) := dk_161 0 12 (dk_at dksX7_isBetween_0 2 rfl rfl)
theorem dX7_isBetween_5 : decode cX7_isBetween 5 = .ok (.iload_n 0, 1) := dk_26 (dk_at dksX7_isBetween_0 5 rfl rfl)
theorem dX7_isBetween_6 : decode cX7_isBetween 6 = .ok (.iload_n 2, 1) := dk_28 (dk_at dksX7_isBetween_0 6 rfl rfl)
theorem dX7_isBetween_7 : decode cX7_isBetween 7 = .ok (.if_icmp .gt 7, 3) := dk_163 0 7 (dk_at dksX7_isBetween_0 7 rfl rfl)
theorem dX7_isBetween_10 : decode cX7_isBetween 10 = .ok (.iconst 1, 1) := dk_4 (dk_at dksX7_isBetween_0 10 rfl rfl)
theorem dX7_isBetween_11 : decode cX7_isBetween 11 = .ok (.goto 4, 3) := dk_167 0 4 (dk_at dksX7_isBetween_0 11 rfl rfl)
theorem dX7_isBetween_14 : decode cX7_isBetween 14 = .ok (.iconst 0, 1) := dk_3 (dk_at dksX7_isBetween_0 14 rfl rfl)
theorem dX7_isBetween_15 : decode cX7_isBetween 15 = .ok (.ireturn, 1) := dk_172 (dk_at dksX7_isBetween_0 15 rfl rfl)
def dkwX7_index_0 : List UInt8 := [26, 154, 0, 11, 187, 0, 1, 89, 183, 0, 3, 191, 177]
abbrev dktX7_index_0 : List UInt8 := dkwX7_index_0 ++ []
theorem dksX7_index_0 : cX7_index.data.toList.drop 0 = dktX7_index_0 := by decide +kernel
theorem dX7_index_0 : decode cX7_index 0 = .ok (.iload_n 0, 1) := dk_26 (dk_at dksX7_index_0 0 rfl rfl)
theorem dX7_index_1 : decode cX7_index 1 = .ok (.ifCond .ne 11, 3) := dk_154 0 11 (dk_at dksX7_index_0 1 rfl rfl)
theorem dX7_index_4 : decode cX7_index 4 = .ok (.new 1, 3) := dk_187 0 1 (dk_at dksX7_index_0 4 rfl rfl)
theorem dX7_index_7 : decode cX7_index 7 = .ok (.dup, 1) := dk_89 (dk_at dksX7_index_0 7 rfl rfl)
theorem dX7_index_8 : decode cX7_index 8 = .ok (.invokespecial 3, 3) := dk_183 0 3 (dk_at dksX7_index_0 8 rfl rfl)
theorem dX7_index_11 : decode cX7_index 11 = .ok (.athrow, 1) := dk_191 (dk_at dksX7_index_0 11 rfl rfl)
theorem dX7_index_12 : decode cX7_index 12 = .ok (.return_, 1) := dk_177 (dk_at dksX7_index_0 12 rfl rfl)
def dkwX7_argument_1 : List UInt8 := [187, 0, 7, 89, 183, 0, 9, 191, 132, 3, 1, 167, 255, 230, 177]
abbrev dktX7_argument_1 : List UInt8 := dkwX7_argument_1 ++ []
def dkwX7_argument_0 : List UInt8 := [42, 76, 43, 190, 61, 3, 62, 29, 28, 162, 0, 27, 43, 29, 51, 54, 4, 21, 4, 154, 0, 11]
abbrev dktX7_argument_0 : List UInt8 := dkwX7_argument_0 ++ dktX7_argument_1
theorem dksX7_argument_0 : cX7_argument.data.toList.drop 0 = dktX7_argument_0 := by decide +kernel
theorem dksX7_argument_1 : cX7_argument.data.toList.drop 22 = dktX7_argument_1 := dk_seg dksX7_argument_0 22 rfl rfl
theorem dX7_argument_0 : decode cX7_argument 0 = .ok (.aload_n 0, 1) := dk_42 (dk_at dksX7_argument_0 0 rfl rfl)
theorem dX7_argument_1 : decode cX7_argument 1 = .ok (.astore_n 1, 1) := dk_76 (dk_at dksX7_argument_0 1 rfl rfl)
theorem dX7_argument_2 : decode cX7_argument 2 = .ok (.aload_n 1, 1) := dk_43 (dk_at dksX7_argument_0 2 rfl rfl)
theorem dX7_argument_3 : decode cX7_argument 3 = .ok (.arraylength, 1) := dk_190 (dk_at dksX7_argument_0 3 rfl rfl)
theorem dX7_argument_4 : decode cX7_argument 4 = .ok (.istore_n 2, 1) := dk_61 (dk_at dksX7_argument_0 4 rfl rfl)
theorem dX7_argument_5 : decode cX7_argument 5 = .ok (.iconst 0, 1) := dk_3 (dk_at dksX7_argument_0 5 rfl rfl)
theorem dX7_argument_6 : decode cX7_argument 6 = .ok (.istore_n 3, 1) := dk_62 (dk_at dksX7_argument_0 6 rfl rfl)
theorem dX7_argument_7 : decode cX7_argument 7 = .ok (.iload_n 3, 1) := dk_29 (dk_at dksX7_argument_0 7 rfl rfl)
theorem dX7_argument_8 : decode cX7_argument 8 = .ok (.iload_n 2, 1) := dk_28 (dk_at dksX7_argument_0 8 rfl rfl)
theorem dX7_argument_9 : decode cX7_argument 9 = .ok (.if_icmp .ge 27, 3) := dk_162 0 27 (dk_at dksX7_argument_0 9 rfl rfl)
theorem dX7_argument_12 : decode cX7_argument 12 = .ok (.aload_n 1, 1) := dk_43 (dk_at dksX7_argument_0 12 rfl rfl)
theorem dX7_argument_13 : decode cX7_argument 13 = .ok (.iload_n 3, 1) := dk_29 (dk_at dksX7_argument_0 13 rfl rfl)
theorem dX7_argument_14 : decode cX7_argument 14 = .ok (.baload, 1) := dk_51 (dk_at dksX7_argument_0 14 rfl rfl)
theorem dX7_argument_15 : decode cX7_argument 15 = .ok (.istore 4, 2) := dk_54 4 (dk_at dksX7_argument_0 15 rfl rfl)
theorem dX7_argument_17 : decode cX7_argument 17 = .ok (.iload 4, 2) := dk_21 4 (dk_at dksX7_argument_0 17 rfl rfl)
theorem dX7_argument_19 : decode cX7_argument 19 = .ok (.ifCond .ne 11, 3) := dk_154 0 11 (dk_at dksX7_argument_0 19 rfl rfl)
theorem dX7_argument_22 : decode cX7_argument 22 = .ok (.new 7, 3) := dk_187 0 7 (dk_at dksX7_argument_1 0 rfl rfl)
theorem dX7_argument_25 : decode cX7_argument 25 = .ok (.dup, 1) := dk_89 (dk_at dksX7_argument_1 3 rfl rfl)
theorem dX7_argument_26 : decode cX7_argument 26 = .ok (.invokespecial 9, 3) := dk_183 0 9 (dk_at dksX7_argument_1 4 rfl rfl)
theorem dX7_argument_29 : decode cX7_argument 29 = .ok (.athrow, 1) := dk_191 (dk_at dksX7_argument_1 7 rfl rfl)
theorem dX7_argument_30 : decode cX7_argument 30 = .ok (.iinc 3 1, 3) := dk_132 3 1 (dk_at dksX7_argument_1 8 rfl rfl)
theorem dX7_argument_33 : decode cX7_argument 33 = .ok (.goto (-26), 3) := dk_167 255 230 (dk_at dksX7_argument_1 11 rfl rfl)
theorem dX7_argument_36 : decode cX7_argument 36 = .ok (.return_, 1) := dk_177 (dk_at dksX7_argument_1 14 rfl rfl)
def dkwX7_element_0 : List UInt8 := [26, 154, 0, 11, 187, 0, 13, 89, 183, 0, 15, 191, 177]
abbrev dktX7_element_0 : List UInt8 := dkwX7_element_0 ++ []
theorem dksX7_element_0 : cX7_element.data.toList.drop 0 = dktX7_element_0 := by decide +kernel
theorem dX7_element_0 : decode cX7_element 0 = .ok (.iload_n 0, 1) := dk_26 (dk_at dksX7_element_0 0 rfl rfl)
theorem dX7_element_1 : decode cX7_element 1 = .ok (.ifCond .ne 11, 3) := dk_154 0 11 (dk_at dksX7_element_0 1 rfl rfl)
theorem dX7_element_4 : decode cX7_element 4 = .ok (.new 13, 3) := dk_187 0 13 (dk_at dksX7_element_0 4 rfl rfl)
theorem dX7_element_7 : decode cX7_element 7 = .ok (.dup, 1) := dk_89 (dk_at dksX7_element_0 7 rfl rfl)
theorem dX7_element_8 : decode cX7_element 8 = .ok (.invokespecial 15, 3) := dk_183 0 15 (dk_at dksX7_element_0 8 rfl rfl)
theorem dX7_element_11 : decode cX7_element 11 = .ok (.athrow, 1) := dk_191 (dk_at dksX7_element_0 11 rfl rfl)
theorem dX7_element_12 : decode cX7_element 12 = .ok (.return_, 1) := dk_177 (dk_at dksX7_element_0 12 rfl rfl)
def tX7_state : pb_T := [(0, .iload_n 0, 1, 0), (1, .ifCond .ne 11, 4, 12), (4, .new 10, 7, 0), (7, .dup, 8, 0), (8, .invokespecial 12, 11, 0), (11, .athrow, 12, 0), (12, .return_, 13, 0)]
theorem tX7_state_ok : pb_Tok cX7_state tX7_state := pb_Tok.cons dX7_state_0 rfl (pb_Tok.cons dX7_state_1 rfl (pb_Tok.cons dX7_state_4 rfl (pb_Tok.cons dX7_state_7 rfl (pb_Tok.cons dX7_state_8 rfl (pb_Tok.cons dX7_state_11 rfl (pb_Tok.cons dX7_state_12 rfl pb_Tok.nil))))))
def tX7_isBetween : pb_T := [(0, .iload_n 0, 1, 0), (1, .iload_n 1, 2, 0), (2, .if_icmp .lt 12, 5, 14), (5, .iload_n 0, 6, 0), (6, .iload_n 2, 7, 0), (7, .if_icmp .gt 7, 10, 14), (10, .iconst 1, 11, 0), (11, .goto 4, 14, 15), (14, .iconst 0, 15, 0), (15, .ireturn, 16, 0)]
theorem tX7_isBetween_ok : pb_Tok cX7_isBetween tX7_isBetween := pb_Tok.cons dX7_isBetween_0 rfl (pb_Tok.cons dX7_isBetween_1 rfl (pb_Tok.cons dX7_isBetween_2 rfl (pb_Tok.cons dX7_isBetween_5 rfl (pb_Tok.cons dX7_isBetween_6 rfl (pb_Tok.cons dX7_isBetween_7 rfl (pb_Tok.cons dX7_isBetween_10 rfl (pb_Tok.cons dX7_isBetween_11 rfl (pb_Tok.cons dX7_isBetween_14 rfl (pb_Tok.cons dX7_isBetween_15 rfl pb_Tok.nil)))))))))
def tX7_index : pb_T := [(0, .iload_n 0, 1, 0), (1, .ifCond .ne 11, 4, 12), (4, .new 1, 7, 0), (7, .dup, 8, 0), (8, .invokespecial 3, 11, 0), (11, .athrow, 12, 0), (12, .return_, 13, 0)]
theorem tX7_index_ok : pb_Tok cX7_index tX7_index := pb_Tok.cons dX7_index_0 rfl (pb_Tok.cons dX7_index_1 rfl (pb_Tok.cons dX7_index_4 rfl (pb_Tok.cons dX7_index_7 rfl (pb_Tok.cons dX7_index_8 rfl (pb_Tok.cons dX7_index_11 rfl (pb_Tok.cons dX7_index_12 rfl pb_Tok.nil))))))
def tX7_argument : pb_T := [(0, .aload_n 0, 1, 0), (1, .astore_n 1, 2, 0), (2, .aload_n 1, 3, 0), (3, .arraylength, 4, 0), (4, .istore_n 2, 5, 0), (5, .iconst 0, 6, 0), (6, .istore_n 3, 7, 0), (7, .iload_n 3, 8, 1), (8, .iload_n 2, 9, 0), (9, .if_icmp .ge 27, 12, 36), (12, .aload_n 1, 13, 0), (13, .iload_n 3, 14, 0), (14, .baload, 15, 0), (15, .istore 4, 17, 0), (17, .iload 4, 19, 0), (19, .ifCond .ne 11, 22, 30), (22, .new 7, 25, 0), (25, .dup, 26, 0), (26, .invokespecial 9, 29, 0), (29, .athrow, 30, 0), (30, .iinc 3 1, 33, 0), (33, .goto (-26), 36, 7), (36, .return_, 37, 0)]
theorem tX7_argument_ok : pb_Tok cX7_argument tX7_argument := pb_Tok.cons dX7_argument_0 rfl (pb_Tok.cons dX7_argument_1 rfl (pb_Tok.cons dX7_argument_2 rfl (pb_Tok.cons dX7_argument_3 rfl (pb_Tok.cons dX7_argument_4 rfl (pb_Tok.cons dX7_argument_5 rfl (pb_Tok.cons dX7_argument_6 rfl (pb_Tok.cons dX7_argument_7 rfl (pb_Tok.cons dX7_argument_8 rfl (pb_Tok.cons dX7_argument_9 rfl (pb_Tok.cons dX7_argument_12 rfl (pb_Tok.cons dX7_argument_13 rfl (pb_Tok.cons dX7_argument_14 rfl (pb_Tok.cons dX7_argument_15 rfl (pb_Tok.cons dX7_argument_17 rfl (pb_Tok.cons dX7_argument_19 rfl (pb_Tok.cons dX7_argument_22 rfl (pb_Tok.cons dX7_argument_25 rfl (pb_Tok.cons dX7_argument_26 rfl (pb_Tok.cons dX7_argument_29 rfl (pb_Tok.cons dX7_argument_30 rfl (pb_Tok.cons dX7_argument_33 rfl (pb_Tok.cons dX7_argument_36 rfl pb_Tok.nil))))))))))))))))))))))
def tX7_element : pb_T := [(0, .iload_n 0, 1, 0), (1, .ifCond .ne 11, 4, 12), (4, .new 13, 7, 0), (7, .dup, 8, 0), (8, .invokespecial 15, 11, 0), (11, .athrow, 12, 0), (12, .return_, 13, 0)]
theorem tX7_element_ok : pb_Tok cX7_element tX7_element := pb_Tok.cons dX7_element_0 rfl (pb_Tok.cons dX7_element_1 rfl (pb_Tok.cons dX7_element_4 rfl (pb_Tok.cons dX7_element_7 rfl (pb_Tok.cons dX7_element_8 rfl (pb_Tok.cons dX7_element_11 rfl (pb_Tok.cons dX7_element_12 rfl pb_Tok.nil))))))
def dkwX8_init_0 : List UInt8 := [42, 183, 0, 1, 42, 27, 181, 0, 7, 42, 28, 181, 0, 13, 177]
abbrev dktX8_init_0 : List UInt8 := dkwX8_init_0 ++ []
theorem dksX8_init_0 : cX8_init.data.toList.drop 0 = dktX8_init_0 := by decide +kernel
theorem dX8_init_0 : decode cX8_init 0 = .ok (.aload_n 0, 1) := dk_42 (dk_at dksX8_init_0 0 rfl rfl)
theorem dX8_init_1 : decode cX8_init 1 = .ok (.invokespecial 1, 3) := dk_183 0 1 (dk_at dksX8_init_0 1 rfl rfl)
theorem dX8_init_4 : decode cX8_init 4 = .ok (.aload_n 0, 1) := dk_42 (dk_at dksX8_init_0 4 rfl rfl)
theorem dX8_init_5 : decode cX8_init 5 = .ok (.iload_n 1, 1) := dk_27 (dk_at dksX8_init_0 5 rfl rfl)
theorem dX8_init_6 : decode cX8_init 6 = .ok (.putfield 7, 3) := dk_181 0 7 (dk_at dksX8_init_0 6 rfl rfl)
theorem dX8_init_9 : decode cX8_init 9 = .ok (.aload_n 0, 1) := dk_42 (dk_at dksX8_init_0 9 rfl rfl)
theorem dX8_init_10 : decode cX8_init 10 = .ok (.iload_n 2, 1) := dk_28 (dk_at dksX8_init_0 10 rfl rfl)
theorem dX8_init_11 : decode cX8_init 11 = .ok (.putfield 13, 3) := dk_181 0 13 (dk_at dksX8_init_0 11 rfl rfl)
theorem dX8_init_14 : decode cX8_init 14 = .ok (.return_, 1) := dk_177 (dk_at dksX8_init_0 14 rfl rfl)
def dkwX8_mirrored_0 : List UInt8 := [187, 0, 8, 89, 42, 180, 0, 13, 42, 180, 0, 7, 183, 0, 16, 176]
abbrev dktX8_mirrored_0 : List UInt8 := dkwX8_mirrored_0 ++ []
theorem dksX8_mirrored_0 : cX8_mirrored.data.toList.drop 0 = dktX8_mirrored_0 := by decide +kernel
theorem dX8_mirrored_0 : decode cX8_mirrored 0 = .ok (.new 8, 3) := dk_187 0 8 (dk_at dksX8_mirrored_0 0 rfl rfl)
theorem dX8_mirrored_3 : decode cX8_mirrored 3 = .ok (.dup, 1) := dk_89 (dk_at dksX8_mirrored_0 3 rfl rfl)
theorem dX8_mirrored_4 : decode cX8_mirrored 4 = .ok (.aload_n 0, 1) := dk_42 (dk_at dksX8_mirrored_0 4 rfl rfl)
theorem dX8_mirrored_5 : decode cX8_mirrored 5 = .ok (.getfield 13, 3) := dk_180 0 13 (dk_at dksX8_mirrored_0 5 rfl rfl)
theorem dX8_mirrored_8 : decode cX8_mirrored 8 = .ok (.aload_n 0, 1) := dk_42 (dk_at dksX8_mirrored_0 8 rfl rfl)
theorem dX8_mirrored_9 : decode cX8_mirrored 9 = .ok (.getfield 7, 3) := dk_180 0 7 (dk_at dksX8_mirrored_0 9 rfl rfl)
theorem dX8_mirrored_12 : decode cX8_mirrored 12 = .ok (.invokespecial 16, 3) := dk_183 0 16 (dk_at dksX8_mirrored_0 12 rfl rfl)
theorem dX8_mirrored_15 : decode cX8_mirrored 15 = .ok (.areturn, 1) := dk_176 (dk_at dksX8_mirrored_0 15 rfl rfl)
def dkwX8_width_0 : List UInt8 := [42, 180, 0, 7, 42, 180, 0, 13, 96, 172]
abbrev dktX8_width_0 : List UInt8 := dkwX8_width_0 ++ []
theorem dksX8_width_0 : cX8_width.data.toList.drop 0 = dktX8_width_0 := by decide +kernel
theorem dX8_width_0 : decode cX8_width 0 = .ok (.aload_n 0, 1) := dk_42 (dk_at dksX8_width_0 0 rfl rfl)
theorem dX8_width_1 : decode cX8_width 1 = .ok (.getfield 7, 3) := dk_180 0 7 (dk_at dksX8_width_0 1 rfl rfl)
theorem dX8_width_4 : decode cX8_width 4 = .ok (.aload_n 0, 1) := dk_42 (dk_at dksX8_width_0 4 rfl rfl)
theorem dX8_width_5 : decode cX8_width 5 = .ok (.getfield 13, 3) := dk_180 0 13 (dk_at dksX8_width_0 5 rfl rfl)
theorem dX8_width_8 : decode cX8_width 8 = .ok (.iadd, 1) := dk_96 (dk_at dksX8_width_0 8 rfl rfl)
theorem dX8_width_9 : decode cX8_width 9 = .ok (.ireturn, 1) := dk_172 (dk_at dksX8_width_0 9 rfl rfl)
def dkwX8_isMirrorOf_1 : List UInt8 := [167, 0, 4, 3, 172]
abbrev dktX8_isMirrorOf_1 : List UInt8 := dkwX8_isMirrorOf_1 ++ []
def dkwX8_isMirrorOf_0 : List UInt8 := [42, 180, 0, 7, 43, 180, 0, 13, 160, 0, 18, 42, 180, 0, 13, 43, 180, 0, 7, 160, 0, 7, 4]
abbrev dktX8_isMirrorOf_0 : List UInt8 := dkwX8_isMirrorOf_0 ++ dktX8_isMirrorOf_1
theorem dksX8_isMirrorOf_0 : cX8_isMirrorOf.data.toList.drop 0 = dktX8_isMirrorOf_0 := by decide +kernel
theorem dksX8_isMirrorOf_1 : cX8_isMirrorOf.data.toList.drop 23 = dktX8_isMirrorOf_1 := dk_seg dksX8_isMirrorOf_0 23 rfl rfl
theorem dX8_isMirrorOf_0 : decode cX8_isMirrorOf 0 = .ok (.aload_n 0, 1) := dk_42 (dk_at dksX8_isMirrorOf_0 0 rfl rfl)
theorem dX8_isMirrorOf_1 : decode cX8_isMirrorOf 1 = .ok (.getfield 7, 3) := dk_180 0 7 (dk_at dksX8_isMirrorOf_0 1 rfl rfl)
theorem dX8_isMirrorOf_4 : decode cX8_isMirrorOf 4 = .ok (.aload_n 1, 1) := dk_43 (dk_at dksX8_isMirrorOf_0 4 rfl rfl)
theorem dX8_isMirrorOf_5 : decode cX8_isMirrorOf 5 = .ok (.getfield 13, 3) := dk_180 0 13 (dk_at dksX8_isMirrorOf_0 5 rfl rfl)
theorem dX8_isMirrorOf_8 : decode cX8_isMirrorOf 8 = .ok (.if_icmp .ne 18, 3) := dk_160 0 18 (dk_at dksX8_isMirrorOf_0 8 rfl rfl)
theorem dX8_isMirrorOf_11 : decode cX8_isMirrorOf 11 = .ok (.aload_n 0, 1) := dk_42 (dk_at dksX8_isMirrorOf_0 11 rfl rfl)
theorem dX8_isMirrorOf_12 : decode cX8_isMirrorOf 12 = .ok (.getfield 13, 3) := dk_180 0 13 (dk_at dksX8_isMirrorOf_0 12 rfl rfl)
theorem dX8_isMirrorOf_15 : decode cX8_isMirrorOf 15 = .ok (.aload_n 1, 1) := dk_43 (dk_at dksX8_isMirrorOf_0 15 rfl rfl)
theorem dX8_isMirrorOf_16 : decode cX8_isMirrorOf 16 = .ok (.getfield 7, 3) := dk_180 0 7 (dk_at dksX8_isMirrorOf_0 16 rfl rfl)
theorem dX8_isMirrorOf_19 : decode cX8_isMirrorOf 19 = .ok (.if_icmp .ne 7, 3) := dk_160 0 7 (dk_at dksX8_isMirrorOf_0 19 rfl rfl)
theorem dX8_isMirrorOf_22 : decode cX8_isMirrorOf 22 = .ok (.iconst 1, 1) := dk_4 (dk_at dksX8_isMirrorOf_0 22 rfl rfl)
theorem dX8_isMirrorOf_23 : decode cX8_isMirrorOf 23 = .ok (.goto 4, 3) := dk_167 0 4 (dk_at dksX8_isMirrorOf_1 0 rfl rfl)
theorem dX8_isMirrorOf_26 : decode cX8_isMirrorOf 26 = .ok (.iconst 0, 1) := dk_3 (dk_at dksX8_isMirrorOf_1 3 rfl rfl)
theorem dX8_isMirrorOf_27 : decode cX8_isMirrorOf 27 = .ok (.ireturn, 1) := dk_172 (dk_at dksX8_isMirrorOf_1 4 rfl rfl)
def dkwX8_toString_1 : List UInt8 := [182, 0, 22, 182, 0, 31, 176]
abbrev dktX8_toString_1 : List UInt8 := dkwX8_toString_1 ++ []
def dkwX8_toString_0 : List UInt8 := [187, 0, 19, 89, 183, 0, 21, 42, 180, 0, 7, 182, 0, 22, 18, 26, 182, 0, 28, 42, 180, 0, 13]
abbrev dktX8_toString_0 : List UInt8 := dkwX8_toString_0 ++ dktX8_toString_1
theorem dksX8_toString_0 : cX8_toString.data.toList.drop 0 = dktX8_toString_0 := by decide +kernel
theorem dksX8_toString_1 : cX8_toString.data.toList.drop 23 = dktX8_toString_1 := dk_seg dksX8_toString_0 23 rfl rfl
theorem dX8_toString_0 : decode cX8_toString 0 = .ok (.new 19, 3) := dk_187 0 19 (dk_at dksX8_toString_0 0 rfl rfl)
theorem dX8_toString_3 : decode cX8_toString 3 = .ok (.dup, 1) := dk_89 (dk_at dksX8_toString_0 3 rfl rfl)
theorem dX8_toString_4 : decode cX8_toString 4 = .ok (.invokespecial 21, 3) := dk_183 0 21 (dk_at dksX8_toString_0 4 rfl rfl)
theorem dX8_toString_7 : decode cX8_toString 7 = .ok (.aload_n 0, 1) := dk_42 (dk_at dksX8_toString_0 7 rfl rfl)
theorem dX8_toString_8 : decode cX8_toString 8 = .ok (.getfield 7, 3) := dk_180 0 7 (dk_at dksX8_toString_0 8 rfl rfl)
theorem dX8_toString_11 : decode cX8_toString 11 = .ok (.invokevirtual 22, 3) := dk_182 0 22 (dk_at dksX8_toString_0 11 rfl rfl)
theorem dX8_toString_14 : decode cX8_toString 14 = .ok (.ldc 26, 2) := dk_18 26 (dk_at dksX8_toString_0 14 rfl rfl)
theorem dX8_toString_16 : decode cX8_toString 16 = .ok (.invokevirtual 28, 3) := dk_182 0 28 (dk_at dksX8_toString_0 16 rfl rfl)
theorem dX8_toString_19 : decode cX8_toString 19 = .ok (.aload_n 0, 1) := dk_42 (dk_at dksX8_toString_0 19 rfl rfl)
theorem dX8_toString_20 : decode cX8_toString 20 = .ok (.getfield 13, 3) := dk_180 0 13 (dk_at dksX8_toString_0 20 rfl rfl)
theorem dX8_toString_23 : decode cX8_toString 23 = .ok (.invokevirtual 22, 3) := dk_182 0 22 (dk_at dksX8_toString_1 0 rfl rfl)
theorem dX8_toString_26 : decode cX8_toString 26 = .ok (.invokevirtual 31, 3) := dk_182 0 31 (dk_at dksX8_toString_1 3 rfl rfl)
theorem dX8_toString_29 : decode cX8_toString 29 = .ok (.areturn, 1) := dk_176 (dk_at dksX8_toString_1 6 rfl rfl)
def tX8_init : pb_T := [(0, .aload_n 0, 1, 0), (1, .invokespecial 1, 4, 0), (4, .aload_n 0, 5, 0), (5, .iload_n 1, 6, 0), (6, .putfield 7, 9, 0), (9, .aload_n 0, 10, 0), (10, .iload_n 2, 11, 0), (11, .putfield 13, 14, 0), (14, .return_, 15, 0)]
theorem tX8_init_ok : pb_Tok cX8_init tX8_init := pb_Tok.cons dX8_init_0 rfl (pb_Tok.cons dX8_init_1 rfl (pb_Tok.cons dX8_init_4 rfl (pb_Tok.cons dX8_init_5 rfl (pb_Tok.cons dX8_init_6 rfl (pb_Tok.cons dX8_init_9 rfl (pb_Tok.cons dX8_init_10 rfl (pb_Tok.cons dX8_init_11 rfl (pb_Tok.cons dX8_init_14 rfl pb_Tok.nil))))))))
def tX8_mirrored : pb_T := [(0, .new 8, 3, 0), (3, .dup, 4, 0), (4, .aload_n 0, 5, 0), (5, .getfield 13, 8, 0), (8, .aload_n 0, 9, 0), (9, .getfield 7, 12, 0), (12, .invokespecial 16, 15, 0), (15, .areturn, 16, 0)]
theorem tX8_mirrored_ok : pb_Tok cX8_mirrored tX8_mirrored := pb_Tok.cons dX8_mirrored_0 rfl (pb_Tok.cons dX8_mirrored_3 rfl (pb_Tok.cons dX8_mirrored_4 rfl (pb_Tok.cons dX8_mirrored_5 rfl (pb_Tok.cons dX8_mirrored_8 rfl (pb_Tok.cons dX8_mirrored_9 rfl (pb_Tok.cons dX8_mirrored_12 rfl (pb_Tok.cons dX8_mirrored_15 rfl pb_Tok.nil)))))))
def tX8_width : pb_T := [(0, .aload_n 0, 1, 0), (1, .getfield 7, 4, 0), (4, .aload_n 0, 5, 0), (5, .getfield 13, 8, 0), (8, .iadd, 9, 0), (9, .ireturn, 10, 0)]
theorem tX8_width_ok : pb_Tok cX8_width tX8_width := pb_Tok.cons dX8_width_0 rfl (pb_Tok.cons dX8_width_1 rfl (pb_Tok.cons dX8_width_4 rfl (pb_Tok.cons dX8_width_5 rfl (pb_Tok.cons dX8_width_8 rfl (pb_Tok.cons dX8_width_9 rfl pb_Tok.nil)))))
def tX8_isMirrorOf : pb_T := [(0, .aload_n 0, 1, 0), (1, .getfield 7, 4, 0), (4, .aload_n 1, 5, 0), (5, .getfield 13, 8, 0), (8, .if_icmp .ne 18, 11, 26), (11, .aload_n 0, 12, 0), (12, .getfield 13, 15, 0), (15, .aload_n 1, 16, 0), (16, .getfield 7, 19, 0), (19, .if_icmp .ne 7, 22, 26), (22, .iconst 1, 23, 0), (23, .goto 4, 26, 27), (26, .iconst 0, 27, 0), (27, .ireturn, 28, 0)]
theorem tX8_isMirrorOf_ok : pb_Tok cX8_isMirrorOf tX8_isMirrorOf := pb_Tok.cons dX8_isMirrorOf_0 rfl (pb_Tok.cons dX8_isMirrorOf_1 rfl (pb_Tok.cons dX8_isMirrorOf_4 rfl (pb_Tok.cons dX8_isMirrorOf_5 rfl (pb_Tok.cons dX8_isMirrorOf_8 rfl (pb_Tok.cons dX8_isMirrorOf_11 rfl (pb_Tok.cons dX8_isMirrorOf_12 rfl (pb_Tok.cons dX8_isMirrorOf_15 rfl (pb_Tok.cons dX8_isMirrorOf_16 rfl (pb_Tok.cons dX8_isMirrorOf_19 rfl (pb_Tok.cons dX8_isMirrorOf_22 rfl (pb_Tok.cons dX8_isMirrorOf_23 rfl (pb_Tok.cons dX8_isMirrorOf_26 rfl (pb_Tok.cons dX8_isMirrorOf_27 rfl pb_Tok.nil)))))))))))))
def tX8_toString : pb_T := [(0, .new 19, 3, 0), (3, .dup, 4, 0), (4, .invokespecial 21, 7, 0), (7, .aload_n 0, 8, 0), (8, .getfield 7, 11, 0), (11, .invokevirtual 22, 14, 0), (14, .ldc 26, 16, 0), (16, .invokevirtual 28, 19, 0), (19, .aload_n 0, 20, 0), (20, .getfield 13, 23, 0), (23, .invokevirtual 22, 26, 0), (26, .invokevirtual 31, 29, 0), (29, .areturn, 30, 0)]
theorem tX8_toString_ok : pb_Tok cX8_toString tX8_toString := pb_Tok.cons dX8_toString_0 rfl (pb_Tok.cons dX8_toString_3 rfl (pb_Tok.cons dX8_toString_4 rfl (pb_Tok.cons dX8_toString_7 rfl (pb_Tok.cons dX8_toString_8 rfl (pb_Tok.cons dX8_toString_11 rfl (pb_Tok.cons dX8_toString_14 rfl (pb_Tok.cons dX8_toString_16 rfl (pb_Tok.cons dX8_toString_19 rfl (pb_Tok.cons dX8_toString_20 rfl (pb_Tok.cons dX8_toString_23 rfl (pb_Tok.cons dX8_toString_26 rfl (pb_Tok.cons dX8_toString_29 rfl pb_Tok.nil))))))))))))
def dkwX9_init_0 : List UInt8 := [42, 183, 0, 1, 42, 27, 181, 0, 7, 177]
abbrev dktX9_init_0 : List UInt8 := dkwX9_init_0 ++ []
theorem dksX9_init_0 : cX9_init.data.toList.drop 0 = dktX9_init_0 := by decide +kernel
theorem dX9_init_0 : decode cX9_init 0 = .ok (.aload_n 0, 1) := dk_42 (dk_at dksX9_init_0 0 rfl rfl)
theorem dX9_init_1 : decode cX9_init 1 = .ok (.invokespecial 1, 3) := dk_183 0 1 (dk_at dksX9_init_0 1 rfl rfl)
theorem dX9_init_4 : decode cX9_init 4 = .ok (.aload_n 0, 1) := dk_42 (dk_at dksX9_init_0 4 rfl rfl)
theorem dX9_init_5 : decode cX9_init 5 = .ok (.iload_n 1, 1) := dk_27 (dk_at dksX9_init_0 5 rfl rfl)
theorem dX9_init_6 : decode cX9_init 6 = .ok (.putfield 7, 3) := dk_181 0 7 (dk_at dksX9_init_0 6 rfl rfl)
theorem dX9_init_9 : decode cX9_init 9 = .ok (.return_, 1) := dk_177 (dk_at dksX9_init_0 9 rfl rfl)
def tX9_init : pb_T := [(0, .aload_n 0, 1, 0), (1, .invokespecial 1, 4, 0), (4, .aload_n 0, 5, 0), (5, .iload_n 1, 6, 0), (6, .putfield 7, 9, 0), (9, .return_, 10, 0)]
theorem tX9_init_ok : pb_Tok cX9_init tX9_init := pb_Tok.cons dX9_init_0 rfl (pb_Tok.cons dX9_init_1 rfl (pb_Tok.cons dX9_init_4 rfl (pb_Tok.cons dX9_init_5 rfl (pb_Tok.cons dX9_init_6 rfl (pb_Tok.cons dX9_init_9 rfl pb_Tok.nil)))))
def dkwX10_coinsAt_0 : List UInt8 := [3, 42, 180, 0, 19, 3, 27, 42, 180, 0, 16, 100, 184, 0, 22, 100, 184, 0, 22, 172]
abbrev dktX10_coinsAt_0 : List UInt8 := dkwX10_coinsAt_0 ++ []
theorem dksX10_coinsAt_0 : cX10_coinsAt.data.toList.drop 0 = dktX10_coinsAt_0 := by decide +kernel
theorem dX10_coinsAt_0 : decode cX10_coinsAt 0 = .ok (.iconst 0, 1) := dk_3 (dk_at dksX10_coinsAt_0 0 rfl rfl)
theorem dX10_coinsAt_1 : decode cX10_coinsAt 1 = .ok (.aload_n 0, 1) := dk_42 (dk_at dksX10_coinsAt_0 1 rfl rfl)
theorem dX10_coinsAt_2 : decode cX10_coinsAt 2 = .ok (.getfield 19, 3) := dk_180 0 19 (dk_at dksX10_coinsAt_0 2 rfl rfl)
theorem dX10_coinsAt_5 : decode cX10_coinsAt 5 = .ok (.iconst 0, 1) := dk_3 (dk_at dksX10_coinsAt_0 5 rfl rfl)
theorem dX10_coinsAt_6 : decode cX10_coinsAt 6 = .ok (.iload_n 1, 1) := dk_27 (dk_at dksX10_coinsAt_0 6 rfl rfl)
theorem dX10_coinsAt_7 : decode cX10_coinsAt 7 = .ok (.aload_n 0, 1) := dk_42 (dk_at dksX10_coinsAt_0 7 rfl rfl)
theorem dX10_coinsAt_8 : decode cX10_coinsAt 8 = .ok (.getfield 16, 3) := dk_180 0 16 (dk_at dksX10_coinsAt_0 8 rfl rfl)
theorem dX10_coinsAt_11 : decode cX10_coinsAt 11 = .ok (.isub, 1) := dk_100 (dk_at dksX10_coinsAt_0 11 rfl rfl)
theorem dX10_coinsAt_12 : decode cX10_coinsAt 12 = .ok (.invokestatic 22, 3) := dk_184 0 22 (dk_at dksX10_coinsAt_0 12 rfl rfl)
theorem dX10_coinsAt_15 : decode cX10_coinsAt 15 = .ok (.isub, 1) := dk_100 (dk_at dksX10_coinsAt_0 15 rfl rfl)
theorem dX10_coinsAt_16 : decode cX10_coinsAt 16 = .ok (.invokestatic 22, 3) := dk_184 0 22 (dk_at dksX10_coinsAt_0 16 rfl rfl)
theorem dX10_coinsAt_19 : decode cX10_coinsAt 19 = .ok (.ireturn, 1) := dk_172 (dk_at dksX10_coinsAt_0 19 rfl rfl)
def dkwX10_init_1 : List UInt8 := [181, 0, 19, 177]
abbrev dktX10_init_1 : List UInt8 := dkwX10_init_1 ++ []
def dkwX10_init_0 : List UInt8 := [42, 183, 0, 1, 42, 27, 181, 0, 7, 42, 28, 181, 0, 13, 42, 29, 181, 0, 16, 42, 21, 4]
abbrev dktX10_init_0 : List UInt8 := dkwX10_init_0 ++ dktX10_init_1
theorem dksX10_init_0 : cX10_init.data.toList.drop 0 = dktX10_init_0 := by decide +kernel
theorem dksX10_init_1 : cX10_init.data.toList.drop 22 = dktX10_init_1 := dk_seg dksX10_init_0 22 rfl rfl
theorem dX10_init_0 : decode cX10_init 0 = .ok (.aload_n 0, 1) := dk_42 (dk_at dksX10_init_0 0 rfl rfl)
theorem dX10_init_1 : decode cX10_init 1 = .ok (.invokespecial 1, 3) := dk_183 0 1 (dk_at dksX10_init_0 1 rfl rfl)
theorem dX10_init_4 : decode cX10_init 4 = .ok (.aload_n 0, 1) := dk_42 (dk_at dksX10_init_0 4 rfl rfl)
theorem dX10_init_5 : decode cX10_init 5 = .ok (.iload_n 1, 1) := dk_27 (dk_at dksX10_init_0 5 rfl rfl)
theorem dX10_init_6 : decode cX10_init 6 = .ok (.putfield 7, 3) := dk_181 0 7 (dk_at dksX10_init_0 6 rfl rfl)
theorem dX10_init_9 : decode cX10_init 9 = .ok (.aload_n 0, 1) := dk_42 (dk_at dksX10_init_0 9 rfl rfl)
theorem dX10_init_10 : decode cX10_init 10 = .ok (.iload_n 2, 1) := dk_28 (dk_at dksX10_init_0 10 rfl rfl)
theorem dX10_init_11 : decode cX10_init 11 = .ok (.putfield 13, 3) := dk_181 0 13 (dk_at dksX10_init_0 11 rfl rfl)
theorem dX10_init_14 : decode cX10_init 14 = .ok (.aload_n 0, 1) := dk_42 (dk_at dksX10_init_0 14 rfl rfl)
theorem dX10_init_15 : decode cX10_init 15 = .ok (.iload_n 3, 1) := dk_29 (dk_at dksX10_init_0 15 rfl rfl)
theorem dX10_init_16 : decode cX10_init 16 = .ok (.putfield 16, 3) := dk_181 0 16 (dk_at dksX10_init_0 16 rfl rfl)
theorem dX10_init_19 : decode cX10_init 19 = .ok (.aload_n 0, 1) := dk_42 (dk_at dksX10_init_0 19 rfl rfl)
theorem dX10_init_20 : decode cX10_init 20 = .ok (.iload 4, 2) := dk_21 4 (dk_at dksX10_init_0 20 rfl rfl)
theorem dX10_init_22 : decode cX10_init 22 = .ok (.putfield 19, 3) := dk_181 0 19 (dk_at dksX10_init_1 0 rfl rfl)
theorem dX10_init_25 : decode cX10_init 25 = .ok (.return_, 1) := dk_177 (dk_at dksX10_init_1 3 rfl rfl)
def tX10_coinsAt : pb_T := [(0, .iconst 0, 1, 0), (1, .aload_n 0, 2, 0), (2, .getfield 19, 5, 0), (5, .iconst 0, 6, 0), (6, .iload_n 1, 7, 0), (7, .aload_n 0, 8, 0), (8, .getfield 16, 11, 0), (11, .isub, 12, 0), (12, .invokestatic 22, 15, 0), (15, .isub, 16, 0), (16, .invokestatic 22, 19, 0), (19, .ireturn, 20, 0)]
theorem tX10_coinsAt_ok : pb_Tok cX10_coinsAt tX10_coinsAt := pb_Tok.cons dX10_coinsAt_0 rfl (pb_Tok.cons dX10_coinsAt_1 rfl (pb_Tok.cons dX10_coinsAt_2 rfl (pb_Tok.cons dX10_coinsAt_5 rfl (pb_Tok.cons dX10_coinsAt_6 rfl (pb_Tok.cons dX10_coinsAt_7 rfl (pb_Tok.cons dX10_coinsAt_8 rfl (pb_Tok.cons dX10_coinsAt_11 rfl (pb_Tok.cons dX10_coinsAt_12 rfl (pb_Tok.cons dX10_coinsAt_15 rfl (pb_Tok.cons dX10_coinsAt_16 rfl (pb_Tok.cons dX10_coinsAt_19 rfl pb_Tok.nil)))))))))))
def tX10_init : pb_T := [(0, .aload_n 0, 1, 0), (1, .invokespecial 1, 4, 0), (4, .aload_n 0, 5, 0), (5, .iload_n 1, 6, 0), (6, .putfield 7, 9, 0), (9, .aload_n 0, 10, 0), (10, .iload_n 2, 11, 0), (11, .putfield 13, 14, 0), (14, .aload_n 0, 15, 0), (15, .iload_n 3, 16, 0), (16, .putfield 16, 19, 0), (19, .aload_n 0, 20, 0), (20, .iload 4, 22, 0), (22, .putfield 19, 25, 0), (25, .return_, 26, 0)]
theorem tX10_init_ok : pb_Tok cX10_init tX10_init := pb_Tok.cons dX10_init_0 rfl (pb_Tok.cons dX10_init_1 rfl (pb_Tok.cons dX10_init_4 rfl (pb_Tok.cons dX10_init_5 rfl (pb_Tok.cons dX10_init_6 rfl (pb_Tok.cons dX10_init_9 rfl (pb_Tok.cons dX10_init_10 rfl (pb_Tok.cons dX10_init_11 rfl (pb_Tok.cons dX10_init_14 rfl (pb_Tok.cons dX10_init_15 rfl (pb_Tok.cons dX10_init_16 rfl (pb_Tok.cons dX10_init_19 rfl (pb_Tok.cons dX10_init_20 rfl (pb_Tok.cons dX10_init_22 rfl (pb_Tok.cons dX10_init_25 rfl pb_Tok.nil))))))))))))))
def dkwX11_init_4 : List UInt8 := [96, 181, 0, 35, 132, 2, 1, 167, 255, 200, 177]
abbrev dktX11_init_4 : List UInt8 := dkwX11_init_4 ++ []
def dkwX11_init_3 : List UInt8 := [132, 3, 1, 167, 255, 241, 42, 89, 180, 0, 35, 42, 28, 182, 0, 38, 153, 0, 7, 4, 167, 0, 4, 3]
abbrev dktX11_init_3 : List UInt8 := dkwX11_init_3 ++ dktX11_init_4
def dkwX11_init_2 : List UInt8 := [180, 0, 23, 182, 0, 29, 162, 0, 51, 3, 62, 29, 7, 162, 0, 16, 42, 180, 0, 19, 29, 3, 84]
abbrev dktX11_init_2 : List UInt8 := dkwX11_init_2 ++ dktX11_init_3
def dkwX11_init_1 : List UInt8 := [61, 28, 7, 162, 0, 16, 42, 180, 0, 15, 28, 2, 79, 132, 2, 1, 167, 255, 241, 3, 61, 28, 43]
abbrev dktX11_init_1 : List UInt8 := dkwX11_init_1 ++ dktX11_init_2
def dkwX11_init_0 : List UInt8 := [42, 43, 181, 0, 3, 42, 183, 0, 9, 42, 7, 188, 10, 181, 0, 15, 42, 7, 188, 4, 181, 0, 19, 3]
abbrev dktX11_init_0 : List UInt8 := dkwX11_init_0 ++ dktX11_init_1
theorem dksX11_init_0 : cX11_init.data.toList.drop 0 = dktX11_init_0 := by decide +kernel
theorem dksX11_init_1 : cX11_init.data.toList.drop 24 = dktX11_init_1 := dk_seg dksX11_init_0 24 rfl rfl
theorem dksX11_init_2 : cX11_init.data.toList.drop 47 = dktX11_init_2 := dk_seg dksX11_init_1 23 rfl rfl
theorem dksX11_init_3 : cX11_init.data.toList.drop 70 = dktX11_init_3 := dk_seg dksX11_init_2 23 rfl rfl
theorem dksX11_init_4 : cX11_init.data.toList.drop 94 = dktX11_init_4 := dk_seg dksX11_init_3 24 rfl rfl
theorem dX11_init_0 : decode cX11_init 0 = .ok (.aload_n 0, 1) := dk_42 (dk_at dksX11_init_0 0 rfl rfl)
theorem dX11_init_1 : decode cX11_init 1 = .ok (.aload_n 1, 1) := dk_43 (dk_at dksX11_init_0 1 rfl rfl)
theorem dX11_init_2 : decode cX11_init 2 = .ok (.putfield 3, 3) := dk_181 0 3 (dk_at dksX11_init_0 2 rfl rfl)
theorem dX11_init_5 : decode cX11_init 5 = .ok (.aload_n 0, 1) := dk_42 (dk_at dksX11_init_0 5 rfl rfl)
theorem dX11_init_6 : decode cX11_init 6 = .ok (.invokespecial 9, 3) := dk_183 0 9 (dk_at dksX11_init_0 6 rfl rfl)
theorem dX11_init_9 : decode cX11_init 9 = .ok (.aload_n 0, 1) := dk_42 (dk_at dksX11_init_0 9 rfl rfl)
theorem dX11_init_10 : decode cX11_init 10 = .ok (.iconst 4, 1) := dk_7 (dk_at dksX11_init_0 10 rfl rfl)
theorem dX11_init_11 : decode cX11_init 11 = .ok (.newarray .int, 2) := dk_188_10 (dk_at dksX11_init_0 11 rfl rfl)
theorem dX11_init_13 : decode cX11_init 13 = .ok (.putfield 15, 3) := dk_181 0 15 (dk_at dksX11_init_0 13 rfl rfl)
theorem dX11_init_16 : decode cX11_init 16 = .ok (.aload_n 0, 1) := dk_42 (dk_at dksX11_init_0 16 rfl rfl)
theorem dX11_init_17 : decode cX11_init 17 = .ok (.iconst 4, 1) := dk_7 (dk_at dksX11_init_0 17 rfl rfl)
theorem dX11_init_18 : decode cX11_init 18 = .ok (.newarray .boolean, 2) := dk_188_4 (dk_at dksX11_init_0 18 rfl rfl)
theorem dX11_init_20 : decode cX11_init 20 = .ok (.putfield 19, 3) := dk_181 0 19 (dk_at dksX11_init_0 20 rfl rfl)
theorem dX11_init_23 : decode cX11_init 23 = .ok (.iconst 0, 1) := dk_3 (dk_at dksX11_init_0 23 rfl rfl)
theorem dX11_init_24 : decode cX11_init 24 = .ok (.istore_n 2, 1) := dk_61 (dk_at dksX11_init_1 0 rfl rfl)
theorem dX11_init_25 : decode cX11_init 25 = .ok (.iload_n 2, 1) := dk_28 (dk_at dksX11_init_1 1 rfl rfl)
theorem dX11_init_26 : decode cX11_init 26 = .ok (.iconst 4, 1) := dk_7 (dk_at dksX11_init_1 2 rfl rfl)
theorem dX11_init_27 : decode cX11_init 27 = .ok (.if_icmp .ge 16, 3) := dk_162 0 16 (dk_at dksX11_init_1 3 rfl rfl)
theorem dX11_init_30 : decode cX11_init 30 = .ok (.aload_n 0, 1) := dk_42 (dk_at dksX11_init_1 6 rfl rfl)
theorem dX11_init_31 : decode cX11_init 31 = .ok (.getfield 15, 3) := dk_180 0 15 (dk_at dksX11_init_1 7 rfl rfl)
theorem dX11_init_34 : decode cX11_init 34 = .ok (.iload_n 2, 1) := dk_28 (dk_at dksX11_init_1 10 rfl rfl)
theorem dX11_init_35 : decode cX11_init 35 = .ok (.iconst (-1), 1) := dk_2 (dk_at dksX11_init_1 11 rfl rfl)
theorem dX11_init_36 : decode cX11_init 36 = .ok (.iastore, 1) := dk_79 (dk_at dksX11_init_1 12 rfl rfl)
theorem dX11_init_37 : decode cX11_init 37 = .ok (.iinc 2 1, 3) := dk_132 2 1 (dk_at dksX11_init_1 13 rfl rfl)
theorem dX11_init_40 : decode cX11_init 40 = .ok (.goto (-15), 3) := dk_167 255 241 (dk_at dksX11_init_1 16 rfl rfl)
theorem dX11_init_43 : decode cX11_init 43 = .ok (.iconst 0, 1) := dk_3 (dk_at dksX11_init_1 19 rfl rfl)
theorem dX11_init_44 : decode cX11_init 44 = .ok (.istore_n 2, 1) := dk_61 (dk_at dksX11_init_1 20 rfl rfl)
theorem dX11_init_45 : decode cX11_init 45 = .ok (.iload_n 2, 1) := dk_28 (dk_at dksX11_init_1 21 rfl rfl)
theorem dX11_init_46 : decode cX11_init 46 = .ok (.aload_n 1, 1) := dk_43 (dk_at dksX11_init_1 22 rfl rfl)
theorem dX11_init_47 : decode cX11_init 47 = .ok (.getfield 23, 3) := dk_180 0 23 (dk_at dksX11_init_2 0 rfl rfl)
theorem dX11_init_50 : decode cX11_init 50 = .ok (.invokevirtual 29, 3) := dk_182 0 29 (dk_at dksX11_init_2 3 rfl rfl)
theorem dX11_init_53 : decode cX11_init 53 = .ok (.if_icmp .ge 51, 3) := dk_162 0 51 (dk_at dksX11_init_2 6 rfl rfl)
theorem dX11_init_56 : decode cX11_init 56 = .ok (.iconst 0, 1) := dk_3 (dk_at dksX11_init_2 9 rfl rfl)
theorem dX11_init_57 : decode cX11_init 57 = .ok (.istore_n 3, 1) := dk_62 (dk_at dksX11_init_2 10 rfl rfl)
theorem dX11_init_58 : decode cX11_init 58 = .ok (.iload_n 3, 1) := dk_29 (dk_at dksX11_init_2 11 rfl rfl)
theorem dX11_init_59 : decode cX11_init 59 = .ok (.iconst 4, 1) := dk_7 (dk_at dksX11_init_2 12 rfl rfl)
theorem dX11_init_60 : decode cX11_init 60 = .ok (.if_icmp .ge 16, 3) := dk_162 0 16 (dk_at dksX11_init_2 13 rfl rfl)
theorem dX11_init_63 : decode cX11_init 63 = .ok (.aload_n 0, 1) := dk_42 (dk_at dksX11_init_2 16 rfl rfl)
theorem dX11_init_64 : decode cX11_init 64 = .ok (.getfield 19, 3) := dk_180 0 19 (dk_at dksX11_init_2 17 rfl rfl)
theorem dX11_init_67 : decode cX11_init 67 = .ok (.iload_n 3, 1) := dk_29 (dk_at dksX11_init_2 20 rfl rfl)
theorem dX11_init_68 : decode cX11_init 68 = .ok (.iconst 0, 1) := dk_3 (dk_at dksX11_init_2 21 rfl rfl)
theorem dX11_init_69 : decode cX11_init 69 = .ok (.bastore, 1) := dk_84 (dk_at dksX11_init_2 22 rfl rfl)
theorem dX11_init_70 : decode cX11_init 70 = .ok (.iinc 3 1, 3) := dk_132 3 1 (dk_at dksX11_init_3 0 rfl rfl)
theorem dX11_init_73 : decode cX11_init 73 = .ok (.goto (-15), 3) := dk_167 255 241 (dk_at dksX11_init_3 3 rfl rfl)
theorem dX11_init_76 : decode cX11_init 76 = .ok (.aload_n 0, 1) := dk_42 (dk_at dksX11_init_3 6 rfl rfl)
theorem dX11_init_77 : decode cX11_init 77 = .ok (.dup, 1) := dk_89 (dk_at dksX11_init_3 7 rfl rfl)
theorem dX11_init_78 : decode cX11_init 78 = .ok (.getfield 35, 3) := dk_180 0 35 (dk_at dksX11_init_3 8 rfl rfl)
theorem dX11_init_81 : decode cX11_init 81 = .ok (.aload_n 0, 1) := dk_42 (dk_at dksX11_init_3 11 rfl rfl)
theorem dX11_init_82 : decode cX11_init 82 = .ok (.iload_n 2, 1) := dk_28 (dk_at dksX11_init_3 12 rfl rfl)
theorem dX11_init_83 : decode cX11_init 83 = .ok (.invokevirtual 38, 3) := dk_182 0 38 (dk_at dksX11_init_3 13 rfl rfl)
theorem dX11_init_86 : decode cX11_init 86 = .ok (.ifCond .eq 7, 3) := dk_153 0 7 (dk_at dksX11_init_3 16 rfl rfl)
theorem dX11_init_89 : decode cX11_init 89 = .ok (.iconst 1, 1) := dk_4 (dk_at dksX11_init_3 19 rfl rfl)
theorem dX11_init_90 : decode cX11_init 90 = .ok (.goto 4, 3) := dk_167 0 4 (dk_at dksX11_init_3 20 rfl rfl)
theorem dX11_init_93 : decode cX11_init 93 = .ok (.iconst 0, 1) := dk_3 (dk_at dksX11_init_3 23 rfl rfl)
theorem dX11_init_94 : decode cX11_init 94 = .ok (.iadd, 1) := dk_96 (dk_at dksX11_init_4 0 rfl rfl)
theorem dX11_init_95 : decode cX11_init 95 = .ok (.putfield 35, 3) := dk_181 0 35 (dk_at dksX11_init_4 1 rfl rfl)
theorem dX11_init_98 : decode cX11_init 98 = .ok (.iinc 2 1, 3) := dk_132 2 1 (dk_at dksX11_init_4 4 rfl rfl)
theorem dX11_init_101 : decode cX11_init 101 = .ok (.goto (-56), 3) := dk_167 255 200 (dk_at dksX11_init_4 7 rfl rfl)
theorem dX11_init_104 : decode cX11_init 104 = .ok (.return_, 1) := dk_177 (dk_at dksX11_init_4 10 rfl rfl)
def dkwX11_finds_3 : List UInt8 := [27, 79, 4, 172, 132, 2, 1, 167, 255, 182, 3, 172]
abbrev dktX11_finds_3 : List UInt8 := dkwX11_finds_3 ++ []
def dkwX11_finds_2 : List UInt8 := [159, 0, 19, 42, 42, 180, 0, 15, 28, 46, 182, 0, 38, 154, 0, 6, 167, 0, 12, 42, 180, 0, 15, 28]
abbrev dktX11_finds_2 : List UInt8 := dkwX11_finds_2 ++ dktX11_finds_3
def dkwX11_finds_1 : List UInt8 := [182, 0, 42, 154, 0, 6, 167, 0, 45, 42, 180, 0, 19, 28, 4, 84, 42, 180, 0, 15, 28, 46, 2]
abbrev dktX11_finds_1 : List UInt8 := dkwX11_finds_1 ++ dktX11_finds_2
def dkwX11_finds_0 : List UInt8 := [3, 61, 28, 7, 162, 0, 75, 42, 180, 0, 19, 28, 51, 154, 0, 60, 42, 180, 0, 3, 27, 28]
abbrev dktX11_finds_0 : List UInt8 := dkwX11_finds_0 ++ dktX11_finds_1
theorem dksX11_finds_0 : cX11_finds.data.toList.drop 0 = dktX11_finds_0 := by decide +kernel
theorem dksX11_finds_1 : cX11_finds.data.toList.drop 22 = dktX11_finds_1 := dk_seg dksX11_finds_0 22 rfl rfl
theorem dksX11_finds_2 : cX11_finds.data.toList.drop 45 = dktX11_finds_2 := dk_seg dksX11_finds_1 23 rfl rfl
theorem dksX11_finds_3 : cX11_finds.data.toList.drop 69 = dktX11_finds_3 := dk_seg dksX11_finds_2 24 rfl rfl
theorem dX11_finds_0 : decode cX11_finds 0 = .ok (.iconst 0, 1) := dk_3 (dk_at dksX11_finds_0 0 rfl rfl)
theorem dX11_finds_1 : decode cX11_finds 1 = .ok (.istore_n 2, 1) := dk_61 (dk_at dksX11_finds_0 1 rfl rfl)
theorem dX11_finds_2 : decode cX11_finds 2 = .ok (.iload_n 2, 1) := dk_28 (dk_at dksX11_finds_0 2 rfl rfl)
theorem dX11_finds_3 : decode cX11_finds 3 = .ok (.iconst 4, 1) := dk_7 (dk_at dksX11_finds_0 3 rfl rfl)
theorem dX11_finds_4 : decode cX11_finds 4 = .ok (.if_icmp .ge 75, 3) := dk_162 0 75 (dk_at dksX11_finds_0 4 rfl rfl)
theorem dX11_finds_7 : decode cX11_finds 7 = .ok (.aload_n 0, 1) := dk_42 (dk_at dksX11_finds_0 7 rfl rfl)
theorem dX11_finds_8 : decode cX11_finds 8 = .ok (.getfield 19, 3) := dk_180 0 19 (dk_at dksX11_finds_0 8 rfl rfl)
theorem dX11_finds_11 : decode cX11_finds 11 = .ok (.iload_n 2, 1) := dk_28 (dk_at dksX11_finds_0 11 rfl rfl)
theorem dX11_finds_12 : decode cX11_finds 12 = .ok (.baload, 1) := dk_51 (dk_at dksX11_finds_0 12 rfl rfl)
theorem dX11_finds_13 : decode cX11_finds 13 = .ok (.ifCond .ne 60, 3) := dk_154 0 60 (dk_at dksX11_finds_0 13 rfl rfl)
theorem dX11_finds_16 : decode cX11_finds 16 = .ok (.aload_n 0, 1) := dk_42 (dk_at dksX11_finds_0 16 rfl rfl)
theorem dX11_finds_17 : decode cX11_finds 17 = .ok (.getfield 3, 3) := dk_180 0 3 (dk_at dksX11_finds_0 17 rfl rfl)
theorem dX11_finds_20 : decode cX11_finds 20 = .ok (.iload_n 1, 1) := dk_27 (dk_at dksX11_finds_0 20 rfl rfl)
theorem dX11_finds_21 : decode cX11_finds 21 = .ok (.iload_n 2, 1) := dk_28 (dk_at dksX11_finds_0 21 rfl rfl)
theorem dX11_finds_22 : decode cX11_finds 22 = .ok (.invokevirtual 42, 3) := dk_182 0 42 (dk_at dksX11_finds_1 0 rfl rfl)
theorem dX11_finds_25 : decode cX11_finds 25 = .ok (.ifCond .ne 6, 3) := dk_154 0 6 (dk_at dksX11_finds_1 3 rfl rfl)
theorem dX11_finds_28 : decode cX11_finds 28 = .ok (.goto 45, 3) := dk_167 0 45 (dk_at dksX11_finds_1 6 rfl rfl)
theorem dX11_finds_31 : decode cX11_finds 31 = .ok (.aload_n 0, 1) := dk_42 (dk_at dksX11_finds_1 9 rfl rfl)
theorem dX11_finds_32 : decode cX11_finds 32 = .ok (.getfield 19, 3) := dk_180 0 19 (dk_at dksX11_finds_1 10 rfl rfl)
theorem dX11_finds_35 : decode cX11_finds 35 = .ok (.iload_n 2, 1) := dk_28 (dk_at dksX11_finds_1 13 rfl rfl)
theorem dX11_finds_36 : decode cX11_finds 36 = .ok (.iconst 1, 1) := dk_4 (dk_at dksX11_finds_1 14 rfl rfl)
theorem dX11_finds_37 : decode cX11_finds 37 = .ok (.bastore, 1) := dk_84 (dk_at dksX11_finds_1 15 rfl rfl)
theorem dX11_finds_38 : decode cX11_finds 38 = .ok (.aload_n 0, 1) := dk_42 (dk_at dksX11_finds_1 16 rfl rfl)
theorem dX11_finds_39 : decode cX11_finds 39 = .ok (.getfield 15, 3) := dk_180 0 15 (dk_at dksX11_finds_1 17 rfl rfl)
theorem dX11_finds_42 : decode cX11_finds 42 = .ok (.iload_n 2, 1) := dk_28 (dk_at dksX11_finds_1 20 rfl rfl)
theorem dX11_finds_43 : decode cX11_finds 43 = .ok (.iaload, 1) := dk_46 (dk_at dksX11_finds_1 21 rfl rfl)
theorem dX11_finds_44 : decode cX11_finds 44 = .ok (.iconst (-1), 1) := dk_2 (dk_at dksX11_finds_1 22 rfl rfl)
theorem dX11_finds_45 : decode cX11_finds 45 = .ok (.if_icmp .eq 19, 3) := dk_159 0 19 (dk_at dksX11_finds_2 0 rfl rfl)
theorem dX11_finds_48 : decode cX11_finds 48 = .ok (.aload_n 0, 1) := dk_42 (dk_at dksX11_finds_2 3 rfl rfl)
theorem dX11_finds_49 : decode cX11_finds 49 = .ok (.aload_n 0, 1) := dk_42 (dk_at dksX11_finds_2 4 rfl rfl)
theorem dX11_finds_50 : decode cX11_finds 50 = .ok (.getfield 15, 3) := dk_180 0 15 (dk_at dksX11_finds_2 5 rfl rfl)
theorem dX11_finds_53 : decode cX11_finds 53 = .ok (.iload_n 2, 1) := dk_28 (dk_at dksX11_finds_2 8 rfl rfl)
theorem dX11_finds_54 : decode cX11_finds 54 = .ok (.iaload, 1) := dk_46 (dk_at dksX11_finds_2 9 rfl rfl)
theorem dX11_finds_55 : decode cX11_finds 55 = .ok (.invokevirtual 38, 3) := dk_182 0 38 (dk_at dksX11_finds_2 10 rfl rfl)
theorem dX11_finds_58 : decode cX11_finds 58 = .ok (.ifCond .ne 6, 3) := dk_154 0 6 (dk_at dksX11_finds_2 13 rfl rfl)
theorem dX11_finds_61 : decode cX11_finds 61 = .ok (.goto 12, 3) := dk_167 0 12 (dk_at dksX11_finds_2 16 rfl rfl)
theorem dX11_finds_64 : decode cX11_finds 64 = .ok (.aload_n 0, 1) := dk_42 (dk_at dksX11_finds_2 19 rfl rfl)
theorem dX11_finds_65 : decode cX11_finds 65 = .ok (.getfield 15, 3) := dk_180 0 15 (dk_at dksX11_finds_2 20 rfl rfl)
theorem dX11_finds_68 : decode cX11_finds 68 = .ok (.iload_n 2, 1) := dk_28 (dk_at dksX11_finds_2 23 rfl rfl)
theorem dX11_finds_69 : decode cX11_finds 69 = .ok (.iload_n 1, 1) := dk_27 (dk_at dksX11_finds_3 0 rfl rfl)
theorem dX11_finds_70 : decode cX11_finds 70 = .ok (.iastore, 1) := dk_79 (dk_at dksX11_finds_3 1 rfl rfl)
theorem dX11_finds_71 : decode cX11_finds 71 = .ok (.iconst 1, 1) := dk_4 (dk_at dksX11_finds_3 2 rfl rfl)
theorem dX11_finds_72 : decode cX11_finds 72 = .ok (.ireturn, 1) := dk_172 (dk_at dksX11_finds_3 3 rfl rfl)
theorem dX11_finds_73 : decode cX11_finds 73 = .ok (.iinc 2 1, 3) := dk_132 2 1 (dk_at dksX11_finds_3 4 rfl rfl)
theorem dX11_finds_76 : decode cX11_finds 76 = .ok (.goto (-74), 3) := dk_167 255 182 (dk_at dksX11_finds_3 7 rfl rfl)
theorem dX11_finds_79 : decode cX11_finds 79 = .ok (.iconst 0, 1) := dk_3 (dk_at dksX11_finds_3 10 rfl rfl)
theorem dX11_finds_80 : decode cX11_finds 80 = .ok (.ireturn, 1) := dk_172 (dk_at dksX11_finds_3 11 rfl rfl)
def tX11_init : pb_T := [(0, .aload_n 0, 1, 0), (1, .aload_n 1, 2, 0), (2, .putfield 3, 5, 0), (5, .aload_n 0, 6, 0), (6, .invokespecial 9, 9, 0), (9, .aload_n 0, 10, 0), (10, .iconst 4, 11, 0), (11, .newarray .int, 13, 0), (13, .putfield 15, 16, 0), (16, .aload_n 0, 17, 0), (17, .iconst 4, 18, 0), (18, .newarray .boolean, 20, 0), (20, .putfield 19, 23, 0), (23, .iconst 0, 24, 0), (24, .istore_n 2, 25, 0), (25, .iload_n 2, 26, 1), (26, .iconst 4, 27, 0), (27, .if_icmp .ge 16, 30, 43), (30, .aload_n 0, 31, 0), (31, .getfield 15, 34, 0), (34, .iload_n 2, 35, 0), (35, .iconst (-1), 36, 0), (36, .iastore, 37, 0), (37, .iinc 2 1, 40, 0), (40, .goto (-15), 43, 25), (43, .iconst 0, 44, 0), (44, .istore_n 2, 45, 0), (45, .iload_n 2, 46, 1), (46, .aload_n 1, 47, 0), (47, .getfield 23, 50, 0), (50, .invokevirtual 29, 53, 0), (53, .if_icmp .ge 51, 56, 104), (56, .iconst 0, 57, 0), (57, .istore_n 3, 58, 0), (58, .iload_n 3, 59, 1), (59, .iconst 4, 60, 0), (60, .if_icmp .ge 16, 63, 76), (63, .aload_n 0, 64, 0), (64, .getfield 19, 67, 0), (67, .iload_n 3, 68, 0), (68, .iconst 0, 69, 0), (69, .bastore, 70, 0), (70, .iinc 3 1, 73, 0), (73, .goto (-15), 76, 58), (76, .aload_n 0, 77, 0), (77, .dup, 78, 0), (78, .getfield 35, 81, 0), (81, .aload_n 0, 82, 0), (82, .iload_n 2, 83, 0), (83, .invokevirtual 38, 86, 0), (86, .ifCond .eq 7, 89, 93), (89, .iconst 1, 90, 0), (90, .goto 4, 93, 94), (93, .iconst 0, 94, 0), (94, .iadd, 95, 0), (95, .putfield 35, 98, 0), (98, .iinc 2 1, 101, 0), (101, .goto (-56), 104, 45), (104, .return_, 105, 0)]
theorem tX11_init_ok : pb_Tok cX11_init tX11_init := pb_Tok.cons dX11_init_0 rfl (pb_Tok.cons dX11_init_1 rfl (pb_Tok.cons dX11_init_2 rfl (pb_Tok.cons dX11_init_5 rfl (pb_Tok.cons dX11_init_6 rfl (pb_Tok.cons dX11_init_9 rfl (pb_Tok.cons dX11_init_10 rfl (pb_Tok.cons dX11_init_11 rfl (pb_Tok.cons dX11_init_13 rfl (pb_Tok.cons dX11_init_16 rfl (pb_Tok.cons dX11_init_17 rfl (pb_Tok.cons dX11_init_18 rfl (pb_Tok.cons dX11_init_20 rfl (pb_Tok.cons dX11_init_23 rfl (pb_Tok.cons dX11_init_24 rfl (pb_Tok.cons dX11_init_25 rfl (pb_Tok.cons dX11_init_26 rfl (pb_Tok.cons dX11_init_27 rfl (pb_Tok.cons dX11_init_30 rfl (pb_Tok.cons dX11_init_31 rfl (pb_Tok.cons dX11_init_34 rfl (pb_Tok.cons dX11_init_35 rfl (pb_Tok.cons dX11_init_36 rfl (pb_Tok.cons dX11_init_37 rfl (pb_Tok.cons dX11_init_40 rfl (pb_Tok.cons dX11_init_43 rfl (pb_Tok.cons dX11_init_44 rfl (pb_Tok.cons dX11_init_45 rfl (pb_Tok.cons dX11_init_46 rfl (pb_Tok.cons dX11_init_47 rfl (pb_Tok.cons dX11_init_50 rfl (pb_Tok.cons dX11_init_53 rfl (pb_Tok.cons dX11_init_56 rfl (pb_Tok.cons dX11_init_57 rfl (pb_Tok.cons dX11_init_58 rfl (pb_Tok.cons dX11_init_59 rfl (pb_Tok.cons dX11_init_60 rfl (pb_Tok.cons dX11_init_63 rfl (pb_Tok.cons dX11_init_64 rfl (pb_Tok.cons dX11_init_67 rfl (pb_Tok.cons dX11_init_68 rfl (pb_Tok.cons dX11_init_69 rfl (pb_Tok.cons dX11_init_70 rfl (pb_Tok.cons dX11_init_73 rfl (pb_Tok.cons dX11_init_76 rfl (pb_Tok.cons dX11_init_77 rfl (pb_Tok.cons dX11_init_78 rfl (pb_Tok.cons dX11_init_81 rfl (pb_Tok.cons dX11_init_82 rfl (pb_Tok.cons dX11_init_83 rfl (pb_Tok.cons dX11_init_86 rfl (pb_Tok.cons dX11_init_89 rfl (pb_Tok.cons dX11_init_90 rfl (pb_Tok.cons dX11_init_93 rfl (pb_Tok.cons dX11_init_94 rfl (pb_Tok.cons dX11_init_95 rfl (pb_Tok.cons dX11_init_98 rfl (pb_Tok.cons dX11_init_101 rfl (pb_Tok.cons dX11_init_104 rfl pb_Tok.nil))))))))))))))))))))))))))))))))))))))))))))))))))))))))))
def tX11_finds : pb_T := [(0, .iconst 0, 1, 0), (1, .istore_n 2, 2, 0), (2, .iload_n 2, 3, 1), (3, .iconst 4, 4, 0), (4, .if_icmp .ge 75, 7, 79), (7, .aload_n 0, 8, 0), (8, .getfield 19, 11, 0), (11, .iload_n 2, 12, 0), (12, .baload, 13, 0), (13, .ifCond .ne 60, 16, 73), (16, .aload_n 0, 17, 0), (17, .getfield 3, 20, 0), (20, .iload_n 1, 21, 0), (21, .iload_n 2, 22, 0), (22, .invokevirtual 42, 25, 0), (25, .ifCond .ne 6, 28, 31), (28, .goto 45, 31, 73), (31, .aload_n 0, 32, 0), (32, .getfield 19, 35, 0), (35, .iload_n 2, 36, 0), (36, .iconst 1, 37, 0), (37, .bastore, 38, 0), (38, .aload_n 0, 39, 0), (39, .getfield 15, 42, 0), (42, .iload_n 2, 43, 0), (43, .iaload, 44, 0), (44, .iconst (-1), 45, 0), (45, .if_icmp .eq 19, 48, 64), (48, .aload_n 0, 49, 0), (49, .aload_n 0, 50, 0), (50, .getfield 15, 53, 0), (53, .iload_n 2, 54, 0), (54, .iaload, 55, 0), (55, .invokevirtual 38, 58, 0), (58, .ifCond .ne 6, 61, 64), (61, .goto 12, 64, 73), (64, .aload_n 0, 65, 0), (65, .getfield 15, 68, 0), (68, .iload_n 2, 69, 0), (69, .iload_n 1, 70, 0), (70, .iastore, 71, 0), (71, .iconst 1, 72, 0), (72, .ireturn, 73, 0), (73, .iinc 2 1, 76, 0), (76, .goto (-74), 79, 2), (79, .iconst 0, 80, 0), (80, .ireturn, 81, 0)]
theorem tX11_finds_ok : pb_Tok cX11_finds tX11_finds := pb_Tok.cons dX11_finds_0 rfl (pb_Tok.cons dX11_finds_1 rfl (pb_Tok.cons dX11_finds_2 rfl (pb_Tok.cons dX11_finds_3 rfl (pb_Tok.cons dX11_finds_4 rfl (pb_Tok.cons dX11_finds_7 rfl (pb_Tok.cons dX11_finds_8 rfl (pb_Tok.cons dX11_finds_11 rfl (pb_Tok.cons dX11_finds_12 rfl (pb_Tok.cons dX11_finds_13 rfl (pb_Tok.cons dX11_finds_16 rfl (pb_Tok.cons dX11_finds_17 rfl (pb_Tok.cons dX11_finds_20 rfl (pb_Tok.cons dX11_finds_21 rfl (pb_Tok.cons dX11_finds_22 rfl (pb_Tok.cons dX11_finds_25 rfl (pb_Tok.cons dX11_finds_28 rfl (pb_Tok.cons dX11_finds_31 rfl (pb_Tok.cons dX11_finds_32 rfl (pb_Tok.cons dX11_finds_35 rfl (pb_Tok.cons dX11_finds_36 rfl (pb_Tok.cons dX11_finds_37 rfl (pb_Tok.cons dX11_finds_38 rfl (pb_Tok.cons dX11_finds_39 rfl (pb_Tok.cons dX11_finds_42 rfl (pb_Tok.cons dX11_finds_43 rfl (pb_Tok.cons dX11_finds_44 rfl (pb_Tok.cons dX11_finds_45 rfl (pb_Tok.cons dX11_finds_48 rfl (pb_Tok.cons dX11_finds_49 rfl (pb_Tok.cons dX11_finds_50 rfl (pb_Tok.cons dX11_finds_53 rfl (pb_Tok.cons dX11_finds_54 rfl (pb_Tok.cons dX11_finds_55 rfl (pb_Tok.cons dX11_finds_58 rfl (pb_Tok.cons dX11_finds_61 rfl (pb_Tok.cons dX11_finds_64 rfl (pb_Tok.cons dX11_finds_65 rfl (pb_Tok.cons dX11_finds_68 rfl (pb_Tok.cons dX11_finds_69 rfl (pb_Tok.cons dX11_finds_70 rfl (pb_Tok.cons dX11_finds_71 rfl (pb_Tok.cons dX11_finds_72 rfl (pb_Tok.cons dX11_finds_73 rfl (pb_Tok.cons dX11_finds_76 rfl (pb_Tok.cons dX11_finds_79 rfl (pb_Tok.cons dX11_finds_80 rfl pb_Tok.nil))))))))))))))))))))))))))))))))))))))))))))))
def dkwX12_init_0 : List UInt8 := [42, 183, 0, 1, 42, 43, 181, 0, 7, 177]
abbrev dktX12_init_0 : List UInt8 := dkwX12_init_0 ++ []
theorem dksX12_init_0 : cX12_init.data.toList.drop 0 = dktX12_init_0 := by decide +kernel
theorem dX12_init_0 : decode cX12_init 0 = .ok (.aload_n 0, 1) := dk_42 (dk_at dksX12_init_0 0 rfl rfl)
theorem dX12_init_1 : decode cX12_init 1 = .ok (.invokespecial 1, 3) := dk_183 0 1 (dk_at dksX12_init_0 1 rfl rfl)
theorem dX12_init_4 : decode cX12_init 4 = .ok (.aload_n 0, 1) := dk_42 (dk_at dksX12_init_0 4 rfl rfl)
theorem dX12_init_5 : decode cX12_init 5 = .ok (.aload_n 1, 1) := dk_43 (dk_at dksX12_init_0 5 rfl rfl)
theorem dX12_init_6 : decode cX12_init 6 = .ok (.putfield 7, 3) := dk_181 0 7 (dk_at dksX12_init_0 6 rfl rfl)
theorem dX12_init_9 : decode cX12_init 9 = .ok (.return_, 1) := dk_177 (dk_at dksX12_init_0 9 rfl rfl)
def dkwX12_program_2 : List UInt8 := [167, 255, 227, 43, 176]
abbrev dktX12_program_2 : List UInt8 := dkwX12_program_2 ++ []
def dkwX12_program_1 : List UInt8 := [180, 0, 7, 182, 0, 17, 162, 0, 21, 42, 18, 102, 182, 0, 36, 43, 42, 182, 0, 95, 182, 0, 98, 61]
abbrev dktX12_program_1 : List UInt8 := dkwX12_program_1 ++ dktX12_program_2
def dkwX12_program_0 : List UInt8 := [187, 0, 92, 89, 183, 0, 94, 76, 43, 42, 182, 0, 95, 182, 0, 98, 61, 42, 180, 0, 13, 42]
abbrev dktX12_program_0 : List UInt8 := dkwX12_program_0 ++ dktX12_program_1
theorem dksX12_program_0 : cX12_program.data.toList.drop 0 = dktX12_program_0 := by decide +kernel
theorem dksX12_program_1 : cX12_program.data.toList.drop 22 = dktX12_program_1 := dk_seg dksX12_program_0 22 rfl rfl
theorem dksX12_program_2 : cX12_program.data.toList.drop 46 = dktX12_program_2 := dk_seg dksX12_program_1 24 rfl rfl
theorem dX12_program_0 : decode cX12_program 0 = .ok (.new 92, 3) := dk_187 0 92 (dk_at dksX12_program_0 0 rfl rfl)
theorem dX12_program_3 : decode cX12_program 3 = .ok (.dup, 1) := dk_89 (dk_at dksX12_program_0 3 rfl rfl)
theorem dX12_program_4 : decode cX12_program 4 = .ok (.invokespecial 94, 3) := dk_183 0 94 (dk_at dksX12_program_0 4 rfl rfl)
theorem dX12_program_7 : decode cX12_program 7 = .ok (.astore_n 1, 1) := dk_76 (dk_at dksX12_program_0 7 rfl rfl)
theorem dX12_program_8 : decode cX12_program 8 = .ok (.aload_n 1, 1) := dk_43 (dk_at dksX12_program_0 8 rfl rfl)
theorem dX12_program_9 : decode cX12_program 9 = .ok (.aload_n 0, 1) := dk_42 (dk_at dksX12_program_0 9 rfl rfl)
theorem dX12_program_10 : decode cX12_program 10 = .ok (.invokevirtual 95, 3) := dk_182 0 95 (dk_at dksX12_program_0 10 rfl rfl)
theorem dX12_program_13 : decode cX12_program 13 = .ok (.invokevirtual 98, 3) := dk_182 0 98 (dk_at dksX12_program_0 13 rfl rfl)
theorem dX12_program_16 : decode cX12_program 16 = .ok (.istore_n 2, 1) := dk_61 (dk_at dksX12_program_0 16 rfl rfl)
theorem dX12_program_17 : decode cX12_program 17 = .ok (.aload_n 0, 1) := dk_42 (dk_at dksX12_program_0 17 rfl rfl)
theorem dX12_program_18 : decode cX12_program 18 = .ok (.getfield 13, 3) := dk_180 0 13 (dk_at dksX12_program_0 18 rfl rfl)
theorem dX12_program_21 : decode cX12_program 21 = .ok (.aload_n 0, 1) := dk_42 (dk_at dksX12_program_0 21 rfl rfl)
theorem dX12_program_22 : decode cX12_program 22 = .ok (.getfield 7, 3) := dk_180 0 7 (dk_at dksX12_program_1 0 rfl rfl)
theorem dX12_program_25 : decode cX12_program 25 = .ok (.invokevirtual 17, 3) := dk_182 0 17 (dk_at dksX12_program_1 3 rfl rfl)
theorem dX12_program_28 : decode cX12_program 28 = .ok (.if_icmp .ge 21, 3) := dk_162 0 21 (dk_at dksX12_program_1 6 rfl rfl)
theorem dX12_program_31 : decode cX12_program 31 = .ok (.aload_n 0, 1) := dk_42 (dk_at dksX12_program_1 9 rfl rfl)
theorem dX12_program_32 : decode cX12_program 32 = .ok (.ldc 102, 2) := dk_18 102 (dk_at dksX12_program_1 10 rfl rfl)
theorem dX12_program_34 : decode cX12_program 34 = .ok (.invokevirtual 36, 3) := dk_182 0 36 (dk_at dksX12_program_1 12 rfl rfl)
theorem dX12_program_37 : decode cX12_program 37 = .ok (.aload_n 1, 1) := dk_43 (dk_at dksX12_program_1 15 rfl rfl)
theorem dX12_program_38 : decode cX12_program 38 = .ok (.aload_n 0, 1) := dk_42 (dk_at dksX12_program_1 16 rfl rfl)
theorem dX12_program_39 : decode cX12_program 39 = .ok (.invokevirtual 95, 3) := dk_182 0 95 (dk_at dksX12_program_1 17 rfl rfl)
theorem dX12_program_42 : decode cX12_program 42 = .ok (.invokevirtual 98, 3) := dk_182 0 98 (dk_at dksX12_program_1 20 rfl rfl)
theorem dX12_program_45 : decode cX12_program 45 = .ok (.istore_n 2, 1) := dk_61 (dk_at dksX12_program_1 23 rfl rfl)
theorem dX12_program_46 : decode cX12_program 46 = .ok (.goto (-29), 3) := dk_167 255 227 (dk_at dksX12_program_2 0 rfl rfl)
theorem dX12_program_49 : decode cX12_program 49 = .ok (.aload_n 1, 1) := dk_43 (dk_at dksX12_program_2 3 rfl rfl)
theorem dX12_program_50 : decode cX12_program 50 = .ok (.areturn, 1) := dk_176 (dk_at dksX12_program_2 4 rfl rfl)
def dkwX12_command_12 : List UInt8 := [79, 183, 0, 56, 176, 187, 0, 31, 89, 42, 180, 0, 13, 183, 0, 33, 191]
abbrev dktX12_command_12 : List UInt8 := dkwX12_command_12 ++ []
def dkwX12_command_11 : List UInt8 := [16, 100, 5, 188, 10, 89, 3, 42, 18, 90, 6, 182, 0, 52, 79, 89, 4, 42, 18, 65, 4, 182, 0, 52]
abbrev dktX12_command_11 : List UInt8 := dkwX12_command_11 ++ dktX12_command_12
def dkwX12_command_10 : List UInt8 := [6, 182, 0, 52, 79, 89, 5, 42, 18, 65, 6, 182, 0, 52, 79, 183, 0, 56, 176, 187, 0, 48, 89]
abbrev dktX12_command_10 : List UInt8 := dkwX12_command_10 ++ dktX12_command_11
def dkwX12_command_9 : List UInt8 := [187, 0, 48, 89, 16, 111, 6, 188, 10, 89, 3, 42, 18, 88, 4, 182, 0, 52, 79, 89, 4, 42, 18, 65]
abbrev dktX12_command_9 : List UInt8 := dkwX12_command_9 ++ dktX12_command_10
def dkwX12_command_8 : List UInt8 := [42, 18, 86, 6, 182, 0, 52, 79, 89, 4, 42, 18, 65, 6, 182, 0, 52, 79, 183, 0, 56, 176]
abbrev dktX12_command_8 : List UInt8 := dkwX12_command_8 ++ dktX12_command_9
def dkwX12_command_7 : List UInt8 := [4, 42, 18, 65, 6, 182, 0, 52, 79, 183, 0, 56, 176, 187, 0, 48, 89, 16, 116, 5, 188, 10, 89, 3]
abbrev dktX12_command_7 : List UInt8 := dkwX12_command_7 ++ dktX12_command_8
def dkwX12_command_6 : List UInt8 := [183, 0, 56, 176, 187, 0, 48, 89, 16, 112, 5, 188, 10, 89, 3, 42, 18, 84, 4, 182, 0, 52, 79, 89]
abbrev dktX12_command_6 : List UInt8 := dkwX12_command_6 ++ dktX12_command_7
def dkwX12_command_5 : List UInt8 := [182, 0, 79, 176, 187, 0, 48, 89, 16, 108, 4, 188, 10, 89, 3, 42, 18, 82, 4, 182, 0, 52, 79]
abbrev dktX12_command_5 : List UInt8 := dkwX12_command_5 ++ dktX12_command_6
def dkwX12_command_4 : List UInt8 := [187, 0, 48, 89, 16, 109, 4, 188, 10, 89, 3, 42, 18, 77, 4, 182, 0, 52, 79, 183, 0, 56, 176, 42]
abbrev dktX12_command_4 : List UInt8 := dkwX12_command_4 ++ dktX12_command_5
def dkwX12_command_3 : List UInt8 := [89, 4, 42, 18, 65, 6, 182, 0, 52, 79, 89, 5, 42, 18, 75, 6, 182, 0, 52, 79, 183, 0, 56, 176]
abbrev dktX12_command_3 : List UInt8 := dkwX12_command_3 ++ dktX12_command_4
def dkwX12_command_2 : List UInt8 := [42, 182, 0, 69, 176, 187, 0, 48, 89, 16, 102, 6, 188, 10, 89, 3, 42, 18, 73, 4, 182, 0, 52, 79]
abbrev dktX12_command_2 : List UInt8 := dkwX12_command_2 ++ dktX12_command_3
def dkwX12_command_1 : List UInt8 := [170, 0, 0, 0, 0, 0, 1, 73, 0, 0, 0, 99, 0, 0, 0, 116, 0, 0, 0, 159, 0, 0, 1, 40, 0, 0, 1, 73, 0, 0, 0, 93, 0, 0, 1, 73, 0, 0, 0, 88, 0, 0, 1, 73, 0, 0, 1, 73, 0, 0, 1, 73, 0, 0, 0, 164, 0, 0, 0, 136, 0, 0, 1, 73, 0, 0, 0, 253, 0, 0, 0, 187, 0, 0, 1, 73, 0, 0, 1, 73, 0, 0, 1, 73, 0, 0, 0, 220]
abbrev dktX12_command_1 : List UInt8 := dkwX12_command_1 ++ dktX12_command_2
def dkwX12_command_0 : List UInt8 := [42, 182, 0, 27]
abbrev dktX12_command_0 : List UInt8 := dkwX12_command_0 ++ dktX12_command_1
theorem dksX12_command_0 : cX12_command.data.toList.drop 0 = dktX12_command_0 := by decide +kernel
theorem dksX12_command_1 : cX12_command.data.toList.drop 4 = dktX12_command_1 := dk_seg dksX12_command_0 4 rfl rfl
theorem dksX12_command_2 : cX12_command.data.toList.drop 92 = dktX12_command_2 := dk_seg dksX12_command_1 88 rfl rfl
theorem dksX12_command_3 : cX12_command.data.toList.drop 116 = dktX12_command_3 := dk_seg dksX12_command_2 24 rfl rfl
theorem dksX12_command_4 : cX12_command.data.toList.drop 140 = dktX12_command_4 := dk_seg dksX12_command_3 24 rfl rfl
theorem dksX12_command_5 : cX12_command.data.toList.drop 164 = dktX12_command_5 := dk_seg dksX12_command_4 24 rfl rfl
theorem dksX12_command_6 : cX12_command.data.toList.drop 187 = dktX12_command_6 := dk_seg dksX12_command_5 23 rfl rfl
theorem dksX12_command_7 : cX12_command.data.toList.drop 211 = dktX12_command_7 := dk_seg dksX12_command_6 24 rfl rfl
theorem dksX12_command_8 : cX12_command.data.toList.drop 235 = dktX12_command_8 := dk_seg dksX12_command_7 24 rfl rfl
theorem dksX12_command_9 : cX12_command.data.toList.drop 257 = dktX12_command_9 := dk_seg dksX12_command_8 22 rfl rfl
theorem dksX12_command_10 : cX12_command.data.toList.drop 281 = dktX12_command_10 := dk_seg dksX12_command_9 24 rfl rfl
theorem dksX12_command_11 : cX12_command.data.toList.drop 304 = dktX12_command_11 := dk_seg dksX12_command_10 23 rfl rfl
theorem dksX12_command_12 : cX12_command.data.toList.drop 328 = dktX12_command_12 := dk_seg dksX12_command_11 24 rfl rfl
theorem dX12_command_0 : decode cX12_command 0 = .ok (.aload_n 0, 1) := dk_42 (dk_at dksX12_command_0 0 rfl rfl)
theorem dX12_command_1 : decode cX12_command 1 = .ok (.invokevirtual 27, 3) := dk_182 0 27 (dk_at dksX12_command_0 1 rfl rfl)
theorem dX12_command_4 : decode cX12_command 4 = .ok (.tableswitch 329 99 116 #[159, 296, 329, 93, 329, 88, 329, 329, 329, 164, 136, 329, 253, 187, 329, 329, 329, 220], 88) := by decide +kernel
theorem dX12_command_92 : decode cX12_command 92 = .ok (.aload_n 0, 1) := dk_42 (dk_at dksX12_command_2 0 rfl rfl)
theorem dX12_command_93 : decode cX12_command 93 = .ok (.invokevirtual 69, 3) := dk_182 0 69 (dk_at dksX12_command_2 1 rfl rfl)
theorem dX12_command_96 : decode cX12_command 96 = .ok (.areturn, 1) := dk_176 (dk_at dksX12_command_2 4 rfl rfl)
theorem dX12_command_97 : decode cX12_command 97 = .ok (.new 48, 3) := dk_187 0 48 (dk_at dksX12_command_2 5 rfl rfl)
theorem dX12_command_100 : decode cX12_command 100 = .ok (.dup, 1) := dk_89 (dk_at dksX12_command_2 8 rfl rfl)
theorem dX12_command_101 : decode cX12_command 101 = .ok (.bipush 102, 2) := dk_16 102 (dk_at dksX12_command_2 9 rfl rfl)
theorem dX12_command_103 : decode cX12_command 103 = .ok (.iconst 3, 1) := dk_6 (dk_at dksX12_command_2 11 rfl rfl)
theorem dX12_command_104 : decode cX12_command 104 = .ok (.newarray .int, 2) := dk_188_10 (dk_at dksX12_command_2 12 rfl rfl)
theorem dX12_command_106 : decode cX12_command 106 = .ok (.dup, 1) := dk_89 (dk_at dksX12_command_2 14 rfl rfl)
theorem dX12_command_107 : decode cX12_command 107 = .ok (.iconst 0, 1) := dk_3 (dk_at dksX12_command_2 15 rfl rfl)
theorem dX12_command_108 : decode cX12_command 108 = .ok (.aload_n 0, 1) := dk_42 (dk_at dksX12_command_2 16 rfl rfl)
theorem dX12_command_109 : decode cX12_command 109 = .ok (.ldc 73, 2) := dk_18 73 (dk_at dksX12_command_2 17 rfl rfl)
theorem dX12_command_111 : decode cX12_command 111 = .ok (.iconst 1, 1) := dk_4 (dk_at dksX12_command_2 19 rfl rfl)
theorem dX12_command_112 : decode cX12_command 112 = .ok (.invokevirtual 52, 3) := dk_182 0 52 (dk_at dksX12_command_2 20 rfl rfl)
theorem dX12_command_115 : decode cX12_command 115 = .ok (.iastore, 1) := dk_79 (dk_at dksX12_command_2 23 rfl rfl)
theorem dX12_command_116 : decode cX12_command 116 = .ok (.dup, 1) := dk_89 (dk_at dksX12_command_3 0 rfl rfl)
theorem dX12_command_117 : decode cX12_command 117 = .ok (.iconst 1, 1) := dk_4 (dk_at dksX12_command_3 1 rfl rfl)
theorem dX12_command_118 : decode cX12_command 118 = .ok (.aload_n 0, 1) := dk_42 (dk_at dksX12_command_3 2 rfl rfl)
theorem dX12_command_119 : decode cX12_command 119 = .ok (.ldc 65, 2) := dk_18 65 (dk_at dksX12_command_3 3 rfl rfl)
theorem dX12_command_121 : decode cX12_command 121 = .ok (.iconst 3, 1) := dk_6 (dk_at dksX12_command_3 5 rfl rfl)
theorem dX12_command_122 : decode cX12_command 122 = .ok (.invokevirtual 52, 3) := dk_182 0 52 (dk_at dksX12_command_3 6 rfl rfl)
theorem dX12_command_125 : decode cX12_command 125 = .ok (.iastore, 1) := dk_79 (dk_at dksX12_command_3 9 rfl rfl)
theorem dX12_command_126 : decode cX12_command 126 = .ok (.dup, 1) := dk_89 (dk_at dksX12_command_3 10 rfl rfl)
theorem dX12_command_127 : decode cX12_command 127 = .ok (.iconst 2, 1) := dk_5 (dk_at dksX12_command_3 11 rfl rfl)
theorem dX12_command_128 : decode cX12_command 128 = .ok (.aload_n 0, 1) := dk_42 (dk_at dksX12_command_3 12 rfl rfl)
theorem dX12_command_129 : decode cX12_command 129 = .ok (.ldc 75, 2) := dk_18 75 (dk_at dksX12_command_3 13 rfl rfl)
theorem dX12_command_131 : decode cX12_command 131 = .ok (.iconst 3, 1) := dk_6 (dk_at dksX12_command_3 15 rfl rfl)
theorem dX12_command_132 : decode cX12_command 132 = .ok (.invokevirtual 52, 3) := dk_182 0 52 (dk_at dksX12_command_3 16 rfl rfl)
theorem dX12_command_135 : decode cX12_command 135 = .ok (.iastore, 1) := dk_79 (dk_at dksX12_command_3 19 rfl rfl)
theorem dX12_command_136 : decode cX12_command 136 = .ok (.invokespecial 56, 3) := dk_183 0 56 (dk_at dksX12_command_3 20 rfl rfl)
theorem dX12_command_139 : decode cX12_command 139 = .ok (.areturn, 1) := dk_176 (dk_at dksX12_command_3 23 rfl rfl)
theorem dX12_command_140 : decode cX12_command 140 = .ok (.new 48, 3) := dk_187 0 48 (dk_at dksX12_command_4 0 rfl rfl)
theorem dX12_command_143 : decode cX12_command 143 = .ok (.dup, 1) := dk_89 (dk_at dksX12_command_4 3 rfl rfl)
theorem dX12_command_144 : decode cX12_command 144 = .ok (.bipush 109, 2) := dk_16 109 (dk_at dksX12_command_4 4 rfl rfl)
theorem dX12_command_146 : decode cX12_command 146 = .ok (.iconst 1, 1) := dk_4 (dk_at dksX12_command_4 6 rfl rfl)
theorem dX12_command_147 : decode cX12_command 147 = .ok (.newarray .int, 2) := dk_188_10 (dk_at dksX12_command_4 7 rfl rfl)
theorem dX12_command_149 : decode cX12_command 149 = .ok (.dup, 1) := dk_89 (dk_at dksX12_command_4 9 rfl rfl)
theorem dX12_command_150 : decode cX12_command 150 = .ok (.iconst 0, 1) := dk_3 (dk_at dksX12_command_4 10 rfl rfl)
theorem dX12_command_151 : decode cX12_command 151 = .ok (.aload_n 0, 1) := dk_42 (dk_at dksX12_command_4 11 rfl rfl)
theorem dX12_command_152 : decode cX12_command 152 = .ok (.ldc 77, 2) := dk_18 77 (dk_at dksX12_command_4 12 rfl rfl)
theorem dX12_command_154 : decode cX12_command 154 = .ok (.iconst 1, 1) := dk_4 (dk_at dksX12_command_4 14 rfl rfl)
theorem dX12_command_155 : decode cX12_command 155 = .ok (.invokevirtual 52, 3) := dk_182 0 52 (dk_at dksX12_command_4 15 rfl rfl)
theorem dX12_command_158 : decode cX12_command 158 = .ok (.iastore, 1) := dk_79 (dk_at dksX12_command_4 18 rfl rfl)
theorem dX12_command_159 : decode cX12_command 159 = .ok (.invokespecial 56, 3) := dk_183 0 56 (dk_at dksX12_command_4 19 rfl rfl)
theorem dX12_command_162 : decode cX12_command 162 = .ok (.areturn, 1) := dk_176 (dk_at dksX12_command_4 22 rfl rfl)
theorem dX12_command_163 : decode cX12_command 163 = .ok (.aload_n 0, 1) := dk_42 (dk_at dksX12_command_4 23 rfl rfl)
theorem dX12_command_164 : decode cX12_command 164 = .ok (.invokevirtual 79, 3) := dk_182 0 79 (dk_at dksX12_command_5 0 rfl rfl)
theorem dX12_command_167 : decode cX12_command 167 = .ok (.areturn, 1) := dk_176 (dk_at dksX12_command_5 3 rfl rfl)
theorem dX12_command_168 : decode cX12_command 168 = .ok (.new 48, 3) := dk_187 0 48 (dk_at dksX12_command_5 4 rfl rfl)
theorem dX12_command_171 : decode cX12_command 171 = .ok (.dup, 1) := dk_89 (dk_at dksX12_command_5 7 rfl rfl)
theorem dX12_command_172 : decode cX12_command 172 = .ok (.bipush 108, 2) := dk_16 108 (dk_at dksX12_command_5 8 rfl rfl)
theorem dX12_command_174 : decode cX12_command 174 = .ok (.iconst 1, 1) := dk_4 (dk_at dksX12_command_5 10 rfl rfl)
theorem dX12_command_175 : decode cX12_command 175 = .ok (.newarray .int, 2) := dk_188_10 (dk_at dksX12_command_5 11 rfl rfl)
theorem dX12_command_177 : decode cX12_command 177 = .ok (.dup, 1) := dk_89 (dk_at dksX12_command_5 13 rfl rfl)
theorem dX12_command_178 : decode cX12_command 178 = .ok (.iconst 0, 1) := dk_3 (dk_at dksX12_command_5 14 rfl rfl)
theorem dX12_command_179 : decode cX12_command 179 = .ok (.aload_n 0, 1) := dk_42 (dk_at dksX12_command_5 15 rfl rfl)
theorem dX12_command_180 : decode cX12_command 180 = .ok (.ldc 82, 2) := dk_18 82 (dk_at dksX12_command_5 16 rfl rfl)
theorem dX12_command_182 : decode cX12_command 182 = .ok (.iconst 1, 1) := dk_4 (dk_at dksX12_command_5 18 rfl rfl)
theorem dX12_command_183 : decode cX12_command 183 = .ok (.invokevirtual 52, 3) := dk_182 0 52 (dk_at dksX12_command_5 19 rfl rfl)
theorem dX12_command_186 : decode cX12_command 186 = .ok (.iastore, 1) := dk_79 (dk_at dksX12_command_5 22 rfl rfl)
theorem dX12_command_187 : decode cX12_command 187 = .ok (.invokespecial 56, 3) := dk_183 0 56 (dk_at dksX12_command_6 0 rfl rfl)
theorem dX12_command_190 : decode cX12_command 190 = .ok (.areturn, 1) := dk_176 (dk_at dksX12_command_6 3 rfl rfl)
theorem dX12_command_191 : decode cX12_command 191 = .ok (.new 48, 3) := dk_187 0 48 (dk_at dksX12_command_6 4 rfl rfl)
theorem dX12_command_194 : decode cX12_command 194 = .ok (.dup, 1) := dk_89 (dk_at dksX12_command_6 7 rfl rfl)
theorem dX12_command_195 : decode cX12_command 195 = .ok (.bipush 112, 2) := dk_16 112 (dk_at dksX12_command_6 8 rfl rfl)
theorem dX12_command_197 : decode cX12_command 197 = .ok (.iconst 2, 1) := dk_5 (dk_at dksX12_command_6 10 rfl rfl)
theorem dX12_command_198 : decode cX12_command 198 = .ok (.newarray .int, 2) := dk_188_10 (dk_at dksX12_command_6 11 rfl rfl)
theorem dX12_command_200 : decode cX12_command 200 = .ok (.dup, 1) := dk_89 (dk_at dksX12_command_6 13 rfl rfl)
theorem dX12_command_201 : decode cX12_command 201 = .ok (.iconst 0, 1) := dk_3 (dk_at dksX12_command_6 14 rfl rfl)
theorem dX12_command_202 : decode cX12_command 202 = .ok (.aload_n 0, 1) := dk_42 (dk_at dksX12_command_6 15 rfl rfl)
theorem dX12_command_203 : decode cX12_command 203 = .ok (.ldc 84, 2) := dk_18 84 (dk_at dksX12_command_6 16 rfl rfl)
theorem dX12_command_205 : decode cX12_command 205 = .ok (.iconst 1, 1) := dk_4 (dk_at dksX12_command_6 18 rfl rfl)
theorem dX12_command_206 : decode cX12_command 206 = .ok (.invokevirtual 52, 3) := dk_182 0 52 (dk_at dksX12_command_6 19 rfl rfl)
theorem dX12_command_209 : decode cX12_command 209 = .ok (.iastore, 1) := dk_79 (dk_at dksX12_command_6 22 rfl rfl)
theorem dX12_command_210 : decode cX12_command 210 = .ok (.dup, 1) := dk_89 (dk_at dksX12_command_6 23 rfl rfl)
theorem dX12_command_211 : decode cX12_command 211 = .ok (.iconst 1, 1) := dk_4 (dk_at dksX12_command_7 0 rfl rfl)
theorem dX12_command_212 : decode cX12_command 212 = .ok (.aload_n 0, 1) := dk_42 (dk_at dksX12_command_7 1 rfl rfl)
theorem dX12_command_213 : decode cX12_command 213 = .ok (.ldc 65, 2) := dk_18 65 (dk_at dksX12_command_7 2 rfl rfl)
theorem dX12_command_215 : decode cX12_command 215 = .ok (.iconst 3, 1) := dk_6 (dk_at dksX12_command_7 4 rfl rfl)
theorem dX12_command_216 : decode cX12_command 216 = .ok (.invokevirtual 52, 3) := dk_182 0 52 (dk_at dksX12_command_7 5 rfl rfl)
theorem dX12_command_219 : decode cX12_command 219 = .ok (.iastore, 1) := dk_79 (dk_at dksX12_command_7 8 rfl rfl)
theorem dX12_command_220 : decode cX12_command 220 = .ok (.invokespecial 56, 3) := dk_183 0 56 (dk_at dksX12_command_7 9 rfl rfl)
theorem dX12_command_223 : decode cX12_command 223 = .ok (.areturn, 1) := dk_176 (dk_at dksX12_command_7 12 rfl rfl)
theorem dX12_command_224 : decode cX12_command 224 = .ok (.new 48, 3) := dk_187 0 48 (dk_at dksX12_command_7 13 rfl rfl)
theorem dX12_command_227 : decode cX12_command 227 = .ok (.dup, 1) := dk_89 (dk_at dksX12_command_7 16 rfl rfl)
theorem dX12_command_228 : decode cX12_command 228 = .ok (.bipush 116, 2) := dk_16 116 (dk_at dksX12_command_7 17 rfl rfl)
theorem dX12_command_230 : decode cX12_command 230 = .ok (.iconst 2, 1) := dk_5 (dk_at dksX12_command_7 19 rfl rfl)
theorem dX12_command_231 : decode cX12_command 231 = .ok (.newarray .int, 2) := dk_188_10 (dk_at dksX12_command_7 20 rfl rfl)
theorem dX12_command_233 : decode cX12_command 233 = .ok (.dup, 1) := dk_89 (dk_at dksX12_command_7 22 rfl rfl)
theorem dX12_command_234 : decode cX12_command 234 = .ok (.iconst 0, 1) := dk_3 (dk_at dksX12_command_7 23 rfl rfl)
theorem dX12_command_235 : decode cX12_command 235 = .ok (.aload_n 0, 1) := dk_42 (dk_at dksX12_command_8 0 rfl rfl)
theorem dX12_command_236 : decode cX12_command 236 = .ok (.ldc 86, 2) := dk_18 86 (dk_at dksX12_command_8 1 rfl rfl)
theorem dX12_command_238 : decode cX12_command 238 = .ok (.iconst 3, 1) := dk_6 (dk_at dksX12_command_8 3 rfl rfl)
theorem dX12_command_239 : decode cX12_command 239 = .ok (.invokevirtual 52, 3) := dk_182 0 52 (dk_at dksX12_command_8 4 rfl rfl)
theorem dX12_command_242 : decode cX12_command 242 = .ok (.iastore, 1) := dk_79 (dk_at dksX12_command_8 7 rfl rfl)
theorem dX12_command_243 : decode cX12_command 243 = .ok (.dup, 1) := dk_89 (dk_at dksX12_command_8 8 rfl rfl)
theorem dX12_command_244 : decode cX12_command 244 = .ok (.iconst 1, 1) := dk_4 (dk_at dksX12_command_8 9 rfl rfl)
theorem dX12_command_245 : decode cX12_command 245 = .ok (.aload_n 0, 1) := dk_42 (dk_at dksX12_command_8 10 rfl rfl)
theorem dX12_command_246 : decode cX12_command 246 = .ok (.ldc 65, 2) := dk_18 65 (dk_at dksX12_command_8 11 rfl rfl)
theorem dX12_command_248 : decode cX12_command 248 = .ok (.iconst 3, 1) := dk_6 (dk_at dksX12_command_8 13 rfl rfl)
theorem dX12_command_249 : decode cX12_command 249 = .ok (.invokevirtual 52, 3) := dk_182 0 52 (dk_at dksX12_command_8 14 rfl rfl)
theorem dX12_command_252 : decode cX12_command 252 = .ok (.iastore, 1) := dk_79 (dk_at dksX12_command_8 17 rfl rfl)
theorem dX12_command_253 : decode cX12_command 253 = .ok (.invokespecial 56, 3) := dk_183 0 56 (dk_at dksX12_command_8 18 rfl rfl)
theorem dX12_command_256 : decode cX12_command 256 = .ok (.areturn, 1) := dk_176 (dk_at dksX12_command_8 21 rfl rfl)
theorem dX12_command_257 : decode cX12_command 257 = .ok (.new 48, 3) := dk_187 0 48 (dk_at dksX12_command_9 0 rfl rfl)
theorem dX12_command_260 : decode cX12_command 260 = .ok (.dup, 1) := dk_89 (dk_at dksX12_command_9 3 rfl rfl)
theorem dX12_command_261 : decode cX12_command 261 = .ok (.bipush 111, 2) := dk_16 111 (dk_at dksX12_command_9 4 rfl rfl)
theorem dX12_command_263 : decode cX12_command 263 = .ok (.iconst 3, 1) := dk_6 (dk_at dksX12_command_9 6 rfl rfl)
theorem dX12_command_264 : decode cX12_command 264 = .ok (.newarray .int, 2) := dk_188_10 (dk_at dksX12_command_9 7 rfl rfl)
theorem dX12_command_266 : decode cX12_command 266 = .ok (.dup, 1) := dk_89 (dk_at dksX12_command_9 9 rfl rfl)
theorem dX12_command_267 : decode cX12_command 267 = .ok (.iconst 0, 1) := dk_3 (dk_at dksX12_command_9 10 rfl rfl)
theorem dX12_command_268 : decode cX12_command 268 = .ok (.aload_n 0, 1) := dk_42 (dk_at dksX12_command_9 11 rfl rfl)
theorem dX12_command_269 : decode cX12_command 269 = .ok (.ldc 88, 2) := dk_18 88 (dk_at dksX12_command_9 12 rfl rfl)
theorem dX12_command_271 : decode cX12_command 271 = .ok (.iconst 1, 1) := dk_4 (dk_at dksX12_command_9 14 rfl rfl)
theorem dX12_command_272 : decode cX12_command 272 = .ok (.invokevirtual 52, 3) := dk_182 0 52 (dk_at dksX12_command_9 15 rfl rfl)
theorem dX12_command_275 : decode cX12_command 275 = .ok (.iastore, 1) := dk_79 (dk_at dksX12_command_9 18 rfl rfl)
theorem dX12_command_276 : decode cX12_command 276 = .ok (.dup, 1) := dk_89 (dk_at dksX12_command_9 19 rfl rfl)
theorem dX12_command_277 : decode cX12_command 277 = .ok (.iconst 1, 1) := dk_4 (dk_at dksX12_command_9 20 rfl rfl)
theorem dX12_command_278 : decode cX12_command 278 = .ok (.aload_n 0, 1) := dk_42 (dk_at dksX12_command_9 21 rfl rfl)
theorem dX12_command_279 : decode cX12_command 279 = .ok (.ldc 65, 2) := dk_18 65 (dk_at dksX12_command_9 22 rfl rfl)
theorem dX12_command_281 : decode cX12_command 281 = .ok (.iconst 3, 1) := dk_6 (dk_at dksX12_command_10 0 rfl rfl)
theorem dX12_command_282 : decode cX12_command 282 = .ok (.invokevirtual 52, 3) := dk_182 0 52 (dk_at dksX12_command_10 1 rfl rfl)
theorem dX12_command_285 : decode cX12_command 285 = .ok (.iastore, 1) := dk_79 (dk_at dksX12_command_10 4 rfl rfl)
theorem dX12_command_286 : decode cX12_command 286 = .ok (.dup, 1) := dk_89 (dk_at dksX12_command_10 5 rfl rfl)
theorem dX12_command_287 : decode cX12_command 287 = .ok (.iconst 2, 1) := dk_5 (dk_at dksX12_command_10 6 rfl rfl)
theorem dX12_command_288 : decode cX12_command 288 = .ok (.aload_n 0, 1) := dk_42 (dk_at dksX12_command_10 7 rfl rfl)
theorem dX12_command_289 : decode cX12_command 289 = .ok (.ldc 65, 2) := dk_18 65 (dk_at dksX12_command_10 8 rfl rfl)
theorem dX12_command_291 : decode cX12_command 291 = .ok (.iconst 3, 1) := dk_6 (dk_at dksX12_command_10 10 rfl rfl)
theorem dX12_command_292 : decode cX12_command 292 = .ok (.invokevirtual 52, 3) := dk_182 0 52 (dk_at dksX12_command_10 11 rfl rfl)
theorem dX12_command_295 : decode cX12_command 295 = .ok (.iastore, 1) := dk_79 (dk_at dksX12_command_10 14 rfl rfl)
theorem dX12_command_296 : decode cX12_command 296 = .ok (.invokespecial 56, 3) := dk_183 0 56 (dk_at dksX12_command_10 15 rfl rfl)
theorem dX12_command_299 : decode cX12_command 299 = .ok (.areturn, 1) := dk_176 (dk_at dksX12_command_10 18 rfl rfl)
theorem dX12_command_300 : decode cX12_command 300 = .ok (.new 48, 3) := dk_187 0 48 (dk_at dksX12_command_10 19 rfl rfl)
theorem dX12_command_303 : decode cX12_command 303 = .ok (.dup, 1) := dk_89 (dk_at dksX12_command_10 22 rfl rfl)
theorem dX12_command_304 : decode cX12_command 304 = .ok (.bipush 100, 2) := dk_16 100 (dk_at dksX12_command_11 0 rfl rfl)
theorem dX12_command_306 : decode cX12_command 306 = .ok (.iconst 2, 1) := dk_5 (dk_at dksX12_command_11 2 rfl rfl)
theorem dX12_command_307 : decode cX12_command 307 = .ok (.newarray .int, 2) := dk_188_10 (dk_at dksX12_command_11 3 rfl rfl)
theorem dX12_command_309 : decode cX12_command 309 = .ok (.dup, 1) := dk_89 (dk_at dksX12_command_11 5 rfl rfl)
theorem dX12_command_310 : decode cX12_command 310 = .ok (.iconst 0, 1) := dk_3 (dk_at dksX12_command_11 6 rfl rfl)
theorem dX12_command_311 : decode cX12_command 311 = .ok (.aload_n 0, 1) := dk_42 (dk_at dksX12_command_11 7 rfl rfl)
theorem dX12_command_312 : decode cX12_command 312 = .ok (.ldc 90, 2) := dk_18 90 (dk_at dksX12_command_11 8 rfl rfl)
theorem dX12_command_314 : decode cX12_command 314 = .ok (.iconst 3, 1) := dk_6 (dk_at dksX12_command_11 10 rfl rfl)
theorem dX12_command_315 : decode cX12_command 315 = .ok (.invokevirtual 52, 3) := dk_182 0 52 (dk_at dksX12_command_11 11 rfl rfl)
theorem dX12_command_318 : decode cX12_command 318 = .ok (.iastore, 1) := dk_79 (dk_at dksX12_command_11 14 rfl rfl)
theorem dX12_command_319 : decode cX12_command 319 = .ok (.dup, 1) := dk_89 (dk_at dksX12_command_11 15 rfl rfl)
theorem dX12_command_320 : decode cX12_command 320 = .ok (.iconst 1, 1) := dk_4 (dk_at dksX12_command_11 16 rfl rfl)
theorem dX12_command_321 : decode cX12_command 321 = .ok (.aload_n 0, 1) := dk_42 (dk_at dksX12_command_11 17 rfl rfl)
theorem dX12_command_322 : decode cX12_command 322 = .ok (.ldc 65, 2) := dk_18 65 (dk_at dksX12_command_11 18 rfl rfl)
theorem dX12_command_324 : decode cX12_command 324 = .ok (.iconst 1, 1) := dk_4 (dk_at dksX12_command_11 20 rfl rfl)
theorem dX12_command_325 : decode cX12_command 325 = .ok (.invokevirtual 52, 3) := dk_182 0 52 (dk_at dksX12_command_11 21 rfl rfl)
theorem dX12_command_328 : decode cX12_command 328 = .ok (.iastore, 1) := dk_79 (dk_at dksX12_command_12 0 rfl rfl)
theorem dX12_command_329 : decode cX12_command 329 = .ok (.invokespecial 56, 3) := dk_183 0 56 (dk_at dksX12_command_12 1 rfl rfl)
theorem dX12_command_332 : decode cX12_command 332 = .ok (.areturn, 1) := dk_176 (dk_at dksX12_command_12 4 rfl rfl)
theorem dX12_command_333 : decode cX12_command 333 = .ok (.new 31, 3) := dk_187 0 31 (dk_at dksX12_command_12 5 rfl rfl)
theorem dX12_command_336 : decode cX12_command 336 = .ok (.dup, 1) := dk_89 (dk_at dksX12_command_12 8 rfl rfl)
theorem dX12_command_337 : decode cX12_command 337 = .ok (.aload_n 0, 1) := dk_42 (dk_at dksX12_command_12 9 rfl rfl)
theorem dX12_command_338 : decode cX12_command 338 = .ok (.getfield 13, 3) := dk_180 0 13 (dk_at dksX12_command_12 10 rfl rfl)
theorem dX12_command_341 : decode cX12_command 341 = .ok (.invokespecial 33, 3) := dk_183 0 33 (dk_at dksX12_command_12 13 rfl rfl)
theorem dX12_command_344 : decode cX12_command 344 = .ok (.athrow, 1) := dk_191 (dk_at dksX12_command_12 16 rfl rfl)
def dkwX12_peek_1 : List UInt8 := [182, 0, 23, 167, 0, 5, 16, 10, 172]
abbrev dktX12_peek_1 : List UInt8 := dkwX12_peek_1 ++ []
def dkwX12_peek_0 : List UInt8 := [42, 180, 0, 13, 42, 180, 0, 7, 182, 0, 17, 162, 0, 17, 42, 180, 0, 7, 42, 180, 0, 13]
abbrev dktX12_peek_0 : List UInt8 := dkwX12_peek_0 ++ dktX12_peek_1
theorem dksX12_peek_0 : cX12_peek.data.toList.drop 0 = dktX12_peek_0 := by decide +kernel
theorem dksX12_peek_1 : cX12_peek.data.toList.drop 22 = dktX12_peek_1 := dk_seg dksX12_peek_0 22 rfl rfl
theorem dX12_peek_0 : decode cX12_peek 0 = .ok (.aload_n 0, 1) := dk_42 (dk_at dksX12_peek_0 0 rfl rfl)
theorem dX12_peek_1 : decode cX12_peek 1 = .ok (.getfield 13, 3) := dk_180 0 13 (dk_at dksX12_peek_0 1 rfl rfl)
theorem dX12_peek_4 : decode cX12_peek 4 = .ok (.aload_n 0, 1) := dk_42 (dk_at dksX12_peek_0 4 rfl rfl)
theorem dX12_peek_5 : decode cX12_peek 5 = .ok (.getfield 7, 3) := dk_180 0 7 (dk_at dksX12_peek_0 5 rfl rfl)
theorem dX12_peek_8 : decode cX12_peek 8 = .ok (.invokevirtual 17, 3) := dk_182 0 17 (dk_at dksX12_peek_0 8 rfl rfl)
theorem dX12_peek_11 : decode cX12_peek 11 = .ok (.if_icmp .ge 17, 3) := dk_162 0 17 (dk_at dksX12_peek_0 11 rfl rfl)
theorem dX12_peek_14 : decode cX12_peek 14 = .ok (.aload_n 0, 1) := dk_42 (dk_at dksX12_peek_0 14 rfl rfl)
theorem dX12_peek_15 : decode cX12_peek 15 = .ok (.getfield 7, 3) := dk_180 0 7 (dk_at dksX12_peek_0 15 rfl rfl)
theorem dX12_peek_18 : decode cX12_peek 18 = .ok (.aload_n 0, 1) := dk_42 (dk_at dksX12_peek_0 18 rfl rfl)
theorem dX12_peek_19 : decode cX12_peek 19 = .ok (.getfield 13, 3) := dk_180 0 13 (dk_at dksX12_peek_0 19 rfl rfl)
theorem dX12_peek_22 : decode cX12_peek 22 = .ok (.invokevirtual 23, 3) := dk_182 0 23 (dk_at dksX12_peek_1 0 rfl rfl)
theorem dX12_peek_25 : decode cX12_peek 25 = .ok (.goto 5, 3) := dk_167 0 5 (dk_at dksX12_peek_1 3 rfl rfl)
theorem dX12_peek_28 : decode cX12_peek 28 = .ok (.bipush 10, 2) := dk_16 10 (dk_at dksX12_peek_1 6 rfl rfl)
theorem dX12_peek_30 : decode cX12_peek 30 = .ok (.ireturn, 1) := dk_172 (dk_at dksX12_peek_1 8 rfl rfl)
def dkwX12_hullOrHours_2 : List UInt8 := [16, 98, 3, 188, 10, 183, 0, 56, 176]
abbrev dktX12_hullOrHours_2 : List UInt8 := dkwX12_hullOrHours_2 ++ []
def dkwX12_hullOrHours_1 : List UInt8 := [89, 3, 42, 18, 50, 6, 182, 0, 52, 79, 183, 0, 56, 176, 42, 18, 59, 182, 0, 36, 187, 0, 48, 89]
abbrev dktX12_hullOrHours_1 : List UInt8 := dkwX12_hullOrHours_1 ++ dktX12_hullOrHours_2
def dkwX12_hullOrHours_0 : List UInt8 := [42, 18, 46, 182, 0, 36, 42, 182, 0, 27, 16, 111, 160, 0, 26, 187, 0, 48, 89, 16, 104, 4, 188, 10]
abbrev dktX12_hullOrHours_0 : List UInt8 := dkwX12_hullOrHours_0 ++ dktX12_hullOrHours_1
theorem dksX12_hullOrHours_0 : cX12_hullOrHours.data.toList.drop 0 = dktX12_hullOrHours_0 := by decide +kernel
theorem dksX12_hullOrHours_1 : cX12_hullOrHours.data.toList.drop 24 = dktX12_hullOrHours_1 := dk_seg dksX12_hullOrHours_0 24 rfl rfl
theorem dksX12_hullOrHours_2 : cX12_hullOrHours.data.toList.drop 48 = dktX12_hullOrHours_2 := dk_seg dksX12_hullOrHours_1 24 rfl rfl
theorem dX12_hullOrHours_0 : decode cX12_hullOrHours 0 = .ok (.aload_n 0, 1) := dk_42 (dk_at dksX12_hullOrHours_0 0 rfl rfl)
theorem dX12_hullOrHours_1 : decode cX12_hullOrHours 1 = .ok (.ldc 46, 2) := dk_18 46 (dk_at dksX12_hullOrHours_0 1 rfl rfl)
theorem dX12_hullOrHours_3 : decode cX12_hullOrHours 3 = .ok (.invokevirtual 36, 3) := dk_182 0 36 (dk_at dksX12_hullOrHours_0 3 rfl rfl)
theorem dX12_hullOrHours_6 : decode cX12_hullOrHours 6 = .ok (.aload_n 0, 1) := dk_42 (dk_at dksX12_hullOrHours_0 6 rfl rfl)
theorem dX12_hullOrHours_7 : decode cX12_hullOrHours 7 = .ok (.invokevirtual 27, 3) := dk_182 0 27 (dk_at dksX12_hullOrHours_0 7 rfl rfl)
theorem dX12_hullOrHours_10 : decode cX12_hullOrHours 10 = .ok (.bipush 111, 2) := dk_16 111 (dk_at dksX12_hullOrHours_0 10 rfl rfl)
theorem dX12_hullOrHours_12 : decode cX12_hullOrHours 12 = .ok (.if_icmp .ne 26, 3) := dk_160 0 26 (dk_at dksX12_hullOrHours_0 12 rfl rfl)
theorem dX12_hullOrHours_15 : decode cX12_hullOrHours 15 = .ok (.new 48, 3) := dk_187 0 48 (dk_at dksX12_hullOrHours_0 15 rfl rfl)
theorem dX12_hullOrHours_18 : decode cX12_hullOrHours 18 = .ok (.dup, 1) := dk_89 (dk_at dksX12_hullOrHours_0 18 rfl rfl)
theorem dX12_hullOrHours_19 : decode cX12_hullOrHours 19 = .ok (.bipush 104, 2) := dk_16 104 (dk_at dksX12_hullOrHours_0 19 rfl rfl)
theorem dX12_hullOrHours_21 : decode cX12_hullOrHours 21 = .ok (.iconst 1, 1) := dk_4 (dk_at dksX12_hullOrHours_0 21 rfl rfl)
theorem dX12_hullOrHours_22 : decode cX12_hullOrHours 22 = .ok (.newarray .int, 2) := dk_188_10 (dk_at dksX12_hullOrHours_0 22 rfl rfl)
theorem dX12_hullOrHours_24 : decode cX12_hullOrHours 24 = .ok (.dup, 1) := dk_89 (dk_at dksX12_hullOrHours_1 0 rfl rfl)
theorem dX12_hullOrHours_25 : decode cX12_hullOrHours 25 = .ok (.iconst 0, 1) := dk_3 (dk_at dksX12_hullOrHours_1 1 rfl rfl)
theorem dX12_hullOrHours_26 : decode cX12_hullOrHours 26 = .ok (.aload_n 0, 1) := dk_42 (dk_at dksX12_hullOrHours_1 2 rfl rfl)
theorem dX12_hullOrHours_27 : decode cX12_hullOrHours 27 = .ok (.ldc 50, 2) := dk_18 50 (dk_at dksX12_hullOrHours_1 3 rfl rfl)
theorem dX12_hullOrHours_29 : decode cX12_hullOrHours 29 = .ok (.iconst 3, 1) := dk_6 (dk_at dksX12_hullOrHours_1 5 rfl rfl)
theorem dX12_hullOrHours_30 : decode cX12_hullOrHours 30 = .ok (.invokevirtual 52, 3) := dk_182 0 52 (dk_at dksX12_hullOrHours_1 6 rfl rfl)
theorem dX12_hullOrHours_33 : decode cX12_hullOrHours 33 = .ok (.iastore, 1) := dk_79 (dk_at dksX12_hullOrHours_1 9 rfl rfl)
theorem dX12_hullOrHours_34 : decode cX12_hullOrHours 34 = .ok (.invokespecial 56, 3) := dk_183 0 56 (dk_at dksX12_hullOrHours_1 10 rfl rfl)
theorem dX12_hullOrHours_37 : decode cX12_hullOrHours 37 = .ok (.areturn, 1) := dk_176 (dk_at dksX12_hullOrHours_1 13 rfl rfl)
theorem dX12_hullOrHours_38 : decode cX12_hullOrHours 38 = .ok (.aload_n 0, 1) := dk_42 (dk_at dksX12_hullOrHours_1 14 rfl rfl)
theorem dX12_hullOrHours_39 : decode cX12_hullOrHours 39 = .ok (.ldc 59, 2) := dk_18 59 (dk_at dksX12_hullOrHours_1 15 rfl rfl)
theorem dX12_hullOrHours_41 : decode cX12_hullOrHours 41 = .ok (.invokevirtual 36, 3) := dk_182 0 36 (dk_at dksX12_hullOrHours_1 17 rfl rfl)
theorem dX12_hullOrHours_44 : decode cX12_hullOrHours 44 = .ok (.new 48, 3) := dk_187 0 48 (dk_at dksX12_hullOrHours_1 20 rfl rfl)
theorem dX12_hullOrHours_47 : decode cX12_hullOrHours 47 = .ok (.dup, 1) := dk_89 (dk_at dksX12_hullOrHours_1 23 rfl rfl)
theorem dX12_hullOrHours_48 : decode cX12_hullOrHours 48 = .ok (.bipush 98, 2) := dk_16 98 (dk_at dksX12_hullOrHours_2 0 rfl rfl)
theorem dX12_hullOrHours_50 : decode cX12_hullOrHours 50 = .ok (.iconst 0, 1) := dk_3 (dk_at dksX12_hullOrHours_2 2 rfl rfl)
theorem dX12_hullOrHours_51 : decode cX12_hullOrHours 51 = .ok (.newarray .int, 2) := dk_188_10 (dk_at dksX12_hullOrHours_2 3 rfl rfl)
theorem dX12_hullOrHours_53 : decode cX12_hullOrHours 53 = .ok (.invokespecial 56, 3) := dk_183 0 56 (dk_at dksX12_hullOrHours_2 5 rfl rfl)
theorem dX12_hullOrHours_56 : decode cX12_hullOrHours 56 = .ok (.areturn, 1) := dk_176 (dk_at dksX12_hullOrHours_2 8 rfl rfl)
def dkwX12_expect_2 : List UInt8 := [132, 2, 1, 167, 255, 211, 177]
abbrev dktX12_expect_2 : List UInt8 := dkwX12_expect_2 ++ []
def dkwX12_expect_1 : List UInt8 := [187, 0, 31, 89, 42, 180, 0, 13, 183, 0, 33, 191, 42, 89, 180, 0, 13, 4, 96, 181, 0, 13]
abbrev dktX12_expect_1 : List UInt8 := dkwX12_expect_1 ++ dktX12_expect_2
def dkwX12_expect_0 : List UInt8 := [3, 61, 28, 43, 182, 0, 17, 162, 0, 43, 42, 182, 0, 27, 43, 28, 182, 0, 23, 159, 0, 15]
abbrev dktX12_expect_0 : List UInt8 := dkwX12_expect_0 ++ dktX12_expect_1
theorem dksX12_expect_0 : cX12_expect.data.toList.drop 0 = dktX12_expect_0 := by decide +kernel
theorem dksX12_expect_1 : cX12_expect.data.toList.drop 22 = dktX12_expect_1 := dk_seg dksX12_expect_0 22 rfl rfl
theorem dksX12_expect_2 : cX12_expect.data.toList.drop 44 = dktX12_expect_2 := dk_seg dksX12_expect_1 22 rfl rfl
theorem dX12_expect_0 : decode cX12_expect 0 = .ok (.iconst 0, 1) := dk_3 (dk_at dksX12_expect_0 0 rfl rfl)
theorem dX12_expect_1 : decode cX12_expect 1 = .ok (.istore_n 2, 1) := dk_61 (dk_at dksX12_expect_0 1 rfl rfl)
theorem dX12_expect_2 : decode cX12_expect 2 = .ok (.iload_n 2, 1) := dk_28 (dk_at dksX12_expect_0 2 rfl rfl)
theorem dX12_expect_3 : decode cX12_expect 3 = .ok (.aload_n 1, 1) := dk_43 (dk_at dksX12_expect_0 3 rfl rfl)
theorem dX12_expect_4 : decode cX12_expect 4 = .ok (.invokevirtual 17, 3) := dk_182 0 17 (dk_at dksX12_expect_0 4 rfl rfl)
theorem dX12_expect_7 : decode cX12_expect 7 = .ok (.if_icmp .ge 43, 3) := dk_162 0 43 (dk_at dksX12_expect_0 7 rfl rfl)
theorem dX12_expect_10 : decode cX12_expect 10 = .ok (.aload_n 0, 1) := dk_42 (dk_at dksX12_expect_0 10 rfl rfl)
theorem dX12_expect_11 : decode cX12_expect 11 = .ok (.invokevirtual 27, 3) := dk_182 0 27 (dk_at dksX12_expect_0 11 rfl rfl)
theorem dX12_expect_14 : decode cX12_expect 14 = .ok (.aload_n 1, 1) := dk_43 (dk_at dksX12_expect_0 14 rfl rfl)
theorem dX12_expect_15 : decode cX12_expect 15 = .ok (.iload_n 2, 1) := dk_28 (dk_at dksX12_expect_0 15 rfl rfl)
theorem dX12_expect_16 : decode cX12_expect 16 = .ok (.invokevirtual 23, 3) := dk_182 0 23 (dk_at dksX12_expect_0 16 rfl rfl)
theorem dX12_expect_19 : decode cX12_expect 19 = .ok (.if_icmp .eq 15, 3) := dk_159 0 15 (dk_at dksX12_expect_0 19 rfl rfl)
theorem dX12_expect_22 : decode cX12_expect 22 = .ok (.new 31, 3) := dk_187 0 31 (dk_at dksX12_expect_1 0 rfl rfl)
theorem dX12_expect_25 : decode cX12_expect 25 = .ok (.dup, 1) := dk_89 (dk_at dksX12_expect_1 3 rfl rfl)
theorem dX12_expect_26 : decode cX12_expect 26 = .ok (.aload_n 0, 1) := dk_42 (dk_at dksX12_expect_1 4 rfl rfl)
theorem dX12_expect_27 : decode cX12_expect 27 = .ok (.getfield 13, 3) := dk_180 0 13 (dk_at dksX12_expect_1 5 rfl rfl)
theorem dX12_expect_30 : decode cX12_expect 30 = .ok (.invokespecial 33, 3) := dk_183 0 33 (dk_at dksX12_expect_1 8 rfl rfl)
theorem dX12_expect_33 : decode cX12_expect 33 = .ok (.athrow, 1) := dk_191 (dk_at dksX12_expect_1 11 rfl rfl)
theorem dX12_expect_34 : decode cX12_expect 34 = .ok (.aload_n 0, 1) := dk_42 (dk_at dksX12_expect_1 12 rfl rfl)
theorem dX12_expect_35 : decode cX12_expect 35 = .ok (.dup, 1) := dk_89 (dk_at dksX12_expect_1 13 rfl rfl)
theorem dX12_expect_36 : decode cX12_expect 36 = .ok (.getfield 13, 3) := dk_180 0 13 (dk_at dksX12_expect_1 14 rfl rfl)
theorem dX12_expect_39 : decode cX12_expect 39 = .ok (.iconst 1, 1) := dk_4 (dk_at dksX12_expect_1 17 rfl rfl)
theorem dX12_expect_40 : decode cX12_expect 40 = .ok (.iadd, 1) := dk_96 (dk_at dksX12_expect_1 18 rfl rfl)
theorem dX12_expect_41 : decode cX12_expect 41 = .ok (.putfield 13, 3) := dk_181 0 13 (dk_at dksX12_expect_1 19 rfl rfl)
theorem dX12_expect_44 : decode cX12_expect 44 = .ok (.iinc 2 1, 3) := dk_132 2 1 (dk_at dksX12_expect_2 0 rfl rfl)
theorem dX12_expect_47 : decode cX12_expect 47 = .ok (.goto (-45), 3) := dk_167 255 211 (dk_at dksX12_expect_2 3 rfl rfl)
theorem dX12_expect_50 : decode cX12_expect 50 = .ok (.return_, 1) := dk_177 (dk_at dksX12_expect_2 6 rfl rfl)
def dkwX12_number_3 : List UInt8 := [180, 0, 13, 4, 96, 181, 0, 13, 132, 4, 1, 167, 255, 210, 29, 172]
abbrev dktX12_number_3 : List UInt8 := dkwX12_number_3 ++ []
def dkwX12_number_2 : List UInt8 := [16, 57, 184, 0, 40, 153, 0, 32, 16, 10, 29, 104, 42, 182, 0, 27, 96, 16, 48, 100, 62, 42, 89]
abbrev dktX12_number_2 : List UInt8 := dkwX12_number_2 ++ dktX12_number_3
def dkwX12_number_1 : List UInt8 := [180, 0, 13, 183, 0, 33, 191, 3, 62, 3, 54, 4, 21, 4, 28, 162, 0, 46, 42, 182, 0, 27, 16, 48]
abbrev dktX12_number_1 : List UInt8 := dkwX12_number_1 ++ dktX12_number_2
def dkwX12_number_0 : List UInt8 := [42, 43, 182, 0, 36, 42, 182, 0, 27, 16, 48, 16, 57, 184, 0, 40, 154, 0, 15, 187, 0, 31, 89, 42]
abbrev dktX12_number_0 : List UInt8 := dkwX12_number_0 ++ dktX12_number_1
theorem dksX12_number_0 : cX12_number.data.toList.drop 0 = dktX12_number_0 := by decide +kernel
theorem dksX12_number_1 : cX12_number.data.toList.drop 24 = dktX12_number_1 := dk_seg dksX12_number_0 24 rfl rfl
theorem dksX12_number_2 : cX12_number.data.toList.drop 48 = dktX12_number_2 := dk_seg dksX12_number_1 24 rfl rfl
theorem dksX12_number_3 : cX12_number.data.toList.drop 71 = dktX12_number_3 := dk_seg dksX12_number_2 23 rfl rfl
theorem dX12_number_0 : decode cX12_number 0 = .ok (.aload_n 0, 1) := dk_42 (dk_at dksX12_number_0 0 rfl rfl)
theorem dX12_number_1 : decode cX12_number 1 = .ok (.aload_n 1, 1) := dk_43 (dk_at dksX12_number_0 1 rfl rfl)
theorem dX12_number_2 : decode cX12_number 2 = .ok (.invokevirtual 36, 3) := dk_182 0 36 (dk_at dksX12_number_0 2 rfl rfl)
theorem dX12_number_5 : decode cX12_number 5 = .ok (.aload_n 0, 1) := dk_42 (dk_at dksX12_number_0 5 rfl rfl)
theorem dX12_number_6 : decode cX12_number 6 = .ok (.invokevirtual 27, 3) := dk_182 0 27 (dk_at dksX12_number_0 6 rfl rfl)
theorem dX12_number_9 : decode cX12_number 9 = .ok (.bipush 48, 2) := dk_16 48 (dk_at dksX12_number_0 9 rfl rfl)
theorem dX12_number_11 : decode cX12_number 11 = .ok (.bipush 57, 2) := dk_16 57 (dk_at dksX12_number_0 11 rfl rfl)
theorem dX12_number_13 : decode cX12_number 13 = .ok (.invokestatic 40, 3) := dk_184 0 40 (dk_at dksX12_number_0 13 rfl rfl)
theorem dX12_number_16 : decode cX12_number 16 = .ok (.ifCond .ne 15, 3) := dk_154 0 15 (dk_at dksX12_number_0 16 rfl rfl)
theorem dX12_number_19 : decode cX12_number 19 = .ok (.new 31, 3) := dk_187 0 31 (dk_at dksX12_number_0 19 rfl rfl)
theorem dX12_number_22 : decode cX12_number 22 = .ok (.dup, 1) := dk_89 (dk_at dksX12_number_0 22 rfl rfl)
theorem dX12_number_23 : decode cX12_number 23 = .ok (.aload_n 0, 1) := dk_42 (dk_at dksX12_number_0 23 rfl rfl)
theorem dX12_number_24 : decode cX12_number 24 = .ok (.getfield 13, 3) := dk_180 0 13 (dk_at dksX12_number_1 0 rfl rfl)
theorem dX12_number_27 : decode cX12_number 27 = .ok (.invokespecial 33, 3) := dk_183 0 33 (dk_at dksX12_number_1 3 rfl rfl)
theorem dX12_number_30 : decode cX12_number 30 = .ok (.athrow, 1) := dk_191 (dk_at dksX12_number_1 6 rfl rfl)
theorem dX12_number_31 : decode cX12_number 31 = .ok (.iconst 0, 1) := dk_3 (dk_at dksX12_number_1 7 rfl rfl)
theorem dX12_number_32 : decode cX12_number 32 = .ok (.istore_n 3, 1) := dk_62 (dk_at dksX12_number_1 8 rfl rfl)
theorem dX12_number_33 : decode cX12_number 33 = .ok (.iconst 0, 1) := dk_3 (dk_at dksX12_number_1 9 rfl rfl)
theorem dX12_number_34 : decode cX12_number 34 = .ok (.istore 4, 2) := dk_54 4 (dk_at dksX12_number_1 10 rfl rfl)
theorem dX12_number_36 : decode cX12_number 36 = .ok (.iload 4, 2) := dk_21 4 (dk_at dksX12_number_1 12 rfl rfl)
theorem dX12_number_38 : decode cX12_number 38 = .ok (.iload_n 2, 1) := dk_28 (dk_at dksX12_number_1 14 rfl rfl)
theorem dX12_number_39 : decode cX12_number 39 = .ok (.if_icmp .ge 46, 3) := dk_162 0 46 (dk_at dksX12_number_1 15 rfl rfl)
theorem dX12_number_42 : decode cX12_number 42 = .ok (.aload_n 0, 1) := dk_42 (dk_at dksX12_number_1 18 rfl rfl)
theorem dX12_number_43 : decode cX12_number 43 = .ok (.invokevirtual 27, 3) := dk_182 0 27 (dk_at dksX12_number_1 19 rfl rfl)
theorem dX12_number_46 : decode cX12_number 46 = .ok (.bipush 48, 2) := dk_16 48 (dk_at dksX12_number_1 22 rfl rfl)
theorem dX12_number_48 : decode cX12_number 48 = .ok (.bipush 57, 2) := dk_16 57 (dk_at dksX12_number_2 0 rfl rfl)
theorem dX12_number_50 : decode cX12_number 50 = .ok (.invokestatic 40, 3) := dk_184 0 40 (dk_at dksX12_number_2 2 rfl rfl)
theorem dX12_number_53 : decode cX12_number 53 = .ok (.ifCond .eq 32, 3) := dk_153 0 32 (dk_at dksX12_number_2 5 rfl rfl)
theorem dX12_number_56 : decode cX12_number 56 = .ok (.bipush 10, 2) := dk_16 10 (dk_at dksX12_number_2 8 rfl rfl)
theorem dX12_number_58 : decode cX12_number 58 = .ok (.iload_n 3, 1) := dk_29 (dk_at dksX12_number_2 10 rfl rfl)
theorem dX12_number_59 : decode cX12_number 59 = .ok (.imul, 1) := dk_104 (dk_at dksX12_number_2 11 rfl rfl)
theorem dX12_number_60 : decode cX12_number 60 = .ok (.aload_n 0, 1) := dk_42 (dk_at dksX12_number_2 12 rfl rfl)
theorem dX12_number_61 : decode cX12_number 61 = .ok (.invokevirtual 27, 3) := dk_182 0 27 (dk_at dksX12_number_2 13 rfl rfl)
theorem dX12_number_64 : decode cX12_number 64 = .ok (.iadd, 1) := dk_96 (dk_at dksX12_number_2 16 rfl rfl)
theorem dX12_number_65 : decode cX12_number 65 = .ok (.bipush 48, 2) := dk_16 48 (dk_at dksX12_number_2 17 rfl rfl)
theorem dX12_number_67 : decode cX12_number 67 = .ok (.isub, 1) := dk_100 (dk_at dksX12_number_2 19 rfl rfl)
theorem dX12_number_68 : decode cX12_number 68 = .ok (.istore_n 3, 1) := dk_62 (dk_at dksX12_number_2 20 rfl rfl)
theorem dX12_number_69 : decode cX12_number 69 = .ok (.aload_n 0, 1) := dk_42 (dk_at dksX12_number_2 21 rfl rfl)
theorem dX12_number_70 : decode cX12_number 70 = .ok (.dup, 1) := dk_89 (dk_at dksX12_number_2 22 rfl rfl)
theorem dX12_number_71 : decode cX12_number 71 = .ok (.getfield 13, 3) := dk_180 0 13 (dk_at dksX12_number_3 0 rfl rfl)
theorem dX12_number_74 : decode cX12_number 74 = .ok (.iconst 1, 1) := dk_4 (dk_at dksX12_number_3 3 rfl rfl)
theorem dX12_number_75 : decode cX12_number 75 = .ok (.iadd, 1) := dk_96 (dk_at dksX12_number_3 4 rfl rfl)
theorem dX12_number_76 : decode cX12_number 76 = .ok (.putfield 13, 3) := dk_181 0 13 (dk_at dksX12_number_3 5 rfl rfl)
theorem dX12_number_79 : decode cX12_number 79 = .ok (.iinc 4 1, 3) := dk_132 4 1 (dk_at dksX12_number_3 8 rfl rfl)
theorem dX12_number_82 : decode cX12_number 82 = .ok (.goto (-46), 3) := dk_167 255 210 (dk_at dksX12_number_3 11 rfl rfl)
theorem dX12_number_85 : decode cX12_number 85 = .ok (.iload_n 3, 1) := dk_29 (dk_at dksX12_number_3 14 rfl rfl)
theorem dX12_number_86 : decode cX12_number 86 = .ok (.ireturn, 1) := dk_172 (dk_at dksX12_number_3 15 rfl rfl)
def dkwX12_cargoOrCaulk_3 : List UInt8 := [42, 18, 65, 6, 182, 0, 52, 79, 183, 0, 56, 176]
abbrev dktX12_cargoOrCaulk_3 : List UInt8 := dkwX12_cargoOrCaulk_3 ++ []
def dkwX12_cargoOrCaulk_2 : List UInt8 := [167, 0, 35, 187, 0, 48, 89, 16, 103, 5, 188, 10, 89, 3, 42, 18, 67, 4, 182, 0, 52, 79, 89, 4]
abbrev dktX12_cargoOrCaulk_2 : List UInt8 := dkwX12_cargoOrCaulk_2 ++ dktX12_cargoOrCaulk_3
def dkwX12_cargoOrCaulk_1 : List UInt8 := [89, 3, 42, 18, 63, 4, 182, 0, 52, 79, 89, 4, 42, 18, 65, 4, 182, 0, 52, 79, 183, 0, 56]
abbrev dktX12_cargoOrCaulk_1 : List UInt8 := dkwX12_cargoOrCaulk_1 ++ dktX12_cargoOrCaulk_2
def dkwX12_cargoOrCaulk_0 : List UInt8 := [42, 18, 61, 182, 0, 36, 42, 182, 0, 27, 16, 117, 160, 0, 38, 187, 0, 48, 89, 16, 99, 5, 188, 10]
abbrev dktX12_cargoOrCaulk_0 : List UInt8 := dkwX12_cargoOrCaulk_0 ++ dktX12_cargoOrCaulk_1
theorem dksX12_cargoOrCaulk_0 : cX12_cargoOrCaulk.data.toList.drop 0 = dktX12_cargoOrCaulk_0 := by decide +kernel
theorem dksX12_cargoOrCaulk_1 : cX12_cargoOrCaulk.data.toList.drop 24 = dktX12_cargoOrCaulk_1 := dk_seg dksX12_cargoOrCaulk_0 24 rfl rfl
theorem dksX12_cargoOrCaulk_2 : cX12_cargoOrCaulk.data.toList.drop 47 = dktX12_cargoOrCaulk_2 := dk_seg dksX12_cargoOrCaulk_1 23 rfl rfl
theorem dksX12_cargoOrCaulk_3 : cX12_cargoOrCaulk.data.toList.drop 71 = dktX12_cargoOrCaulk_3 := dk_seg dksX12_cargoOrCaulk_2 24 rfl rfl
theorem dX12_cargoOrCaulk_0 : decode cX12_cargoOrCaulk 0 = .ok (.aload_n 0, 1) := dk_42 (dk_at dksX12_cargoOrCaulk_0 0 rfl rfl)
theorem dX12_cargoOrCaulk_1 : decode cX12_cargoOrCaulk 1 = .ok (.ldc 61, 2) := dk_18 61 (dk_at dksX12_cargoOrCaulk_0 1 rfl rfl)
theorem dX12_cargoOrCaulk_3 : decode cX12_cargoOrCaulk 3 = .ok (.invokevirtual 36, 3) := dk_182 0 36 (dk_at dksX12_cargoOrCaulk_0 3 rfl rfl)
theorem dX12_cargoOrCaulk_6 : decode cX12_cargoOrCaulk 6 = .ok (.aload_n 0, 1) := dk_42 (dk_at dksX12_cargoOrCaulk_0 6 rfl rfl)
theorem dX12_cargoOrCaulk_7 : decode cX12_cargoOrCaulk 7 = .ok (.invokevirtual 27, 3) := dk_182 0 27 (dk_at dksX12_cargoOrCaulk_0 7 rfl rfl)
theorem dX12_cargoOrCaulk_10 : decode cX12_cargoOrCaulk 10 = .ok (.bipush 117, 2) := dk_16 117 (dk_at dksX12_cargoOrCaulk_0 10 rfl rfl)
theorem dX12_cargoOrCaulk_12 : decode cX12_cargoOrCaulk 12 = .ok (.if_icmp .ne 38, 3) := dk_160 0 38 (dk_at dksX12_cargoOrCaulk_0 12 rfl rfl)
theorem dX12_cargoOrCaulk_15 : decode cX12_cargoOrCaulk 15 = .ok (.new 48, 3) := dk_187 0 48 (dk_at dksX12_cargoOrCaulk_0 15 rfl rfl)
theorem dX12_cargoOrCaulk_18 : decode cX12_cargoOrCaulk 18 = .ok (.dup, 1) := dk_89 (dk_at dksX12_cargoOrCaulk_0 18 rfl rfl)
theorem dX12_cargoOrCaulk_19 : decode cX12_cargoOrCaulk 19 = .ok (.bipush 99, 2) := dk_16 99 (dk_at dksX12_cargoOrCaulk_0 19 rfl rfl)
theorem dX12_cargoOrCaulk_21 : decode cX12_cargoOrCaulk 21 = .ok (.iconst 2, 1) := dk_5 (dk_at dksX12_cargoOrCaulk_0 21 rfl rfl)
theorem dX12_cargoOrCaulk_22 : decode cX12_cargoOrCaulk 22 = .ok (.newarray .int, 2) := dk_188_10 (dk_at dksX12_cargoOrCaulk_0 22 rfl rfl)
theorem dX12_cargoOrCaulk_24 : decode cX12_cargoOrCaulk 24 = .ok (.dup, 1) := dk_89 (dk_at dksX12_cargoOrCaulk_1 0 rfl rfl)
theorem dX12_cargoOrCaulk_25 : decode cX12_cargoOrCaulk 25 = .ok (.iconst 0, 1) := dk_3 (dk_at dksX12_cargoOrCaulk_1 1 rfl rfl)
theorem dX12_cargoOrCaulk_26 : decode cX12_cargoOrCaulk 26 = .ok (.aload_n 0, 1) := dk_42 (dk_at dksX12_cargoOrCaulk_1 2 rfl rfl)
theorem dX12_cargoOrCaulk_27 : decode cX12_cargoOrCaulk 27 = .ok (.ldc 63, 2) := dk_18 63 (dk_at dksX12_cargoOrCaulk_1 3 rfl rfl)
theorem dX12_cargoOrCaulk_29 : decode cX12_cargoOrCaulk 29 = .ok (.iconst 1, 1) := dk_4 (dk_at dksX12_cargoOrCaulk_1 5 rfl rfl)
theorem dX12_cargoOrCaulk_30 : decode cX12_cargoOrCaulk 30 = .ok (.invokevirtual 52, 3) := dk_182 0 52 (dk_at dksX12_cargoOrCaulk_1 6 rfl rfl)
theorem dX12_cargoOrCaulk_33 : decode cX12_cargoOrCaulk 33 = .ok (.iastore, 1) := dk_79 (dk_at dksX12_cargoOrCaulk_1 9 rfl rfl)
theorem dX12_cargoOrCaulk_34 : decode cX12_cargoOrCaulk 34 = .ok (.dup, 1) := dk_89 (dk_at dksX12_cargoOrCaulk_1 10 rfl rfl)
theorem dX12_cargoOrCaulk_35 : decode cX12_cargoOrCaulk 35 = .ok (.iconst 1, 1) := dk_4 (dk_at dksX12_cargoOrCaulk_1 11 rfl rfl)
theorem dX12_cargoOrCaulk_36 : decode cX12_cargoOrCaulk 36 = .ok (.aload_n 0, 1) := dk_42 (dk_at dksX12_cargoOrCaulk_1 12 rfl rfl)
theorem dX12_cargoOrCaulk_37 : decode cX12_cargoOrCaulk 37 = .ok (.ldc 65, 2) := dk_18 65 (dk_at dksX12_cargoOrCaulk_1 13 rfl rfl)
theorem dX12_cargoOrCaulk_39 : decode cX12_cargoOrCaulk 39 = .ok (.iconst 1, 1) := dk_4 (dk_at dksX12_cargoOrCaulk_1 15 rfl rfl)
theorem dX12_cargoOrCaulk_40 : decode cX12_cargoOrCaulk 40 = .ok (.invokevirtual 52, 3) := dk_182 0 52 (dk_at dksX12_cargoOrCaulk_1 16 rfl rfl)
theorem dX12_cargoOrCaulk_43 : decode cX12_cargoOrCaulk 43 = .ok (.iastore, 1) := dk_79 (dk_at dksX12_cargoOrCaulk_1 19 rfl rfl)
theorem dX12_cargoOrCaulk_44 : decode cX12_cargoOrCaulk 44 = .ok (.invokespecial 56, 3) := dk_183 0 56 (dk_at dksX12_cargoOrCaulk_1 20 rfl rfl)
theorem dX12_cargoOrCaulk_47 : decode cX12_cargoOrCaulk 47 = .ok (.goto 35, 3) := dk_167 0 35 (dk_at dksX12_cargoOrCaulk_2 0 rfl rfl)
theorem dX12_cargoOrCaulk_50 : decode cX12_cargoOrCaulk 50 = .ok (.new 48, 3) := dk_187 0 48 (dk_at dksX12_cargoOrCaulk_2 3 rfl rfl)
theorem dX12_cargoOrCaulk_53 : decode cX12_cargoOrCaulk 53 = .ok (.dup, 1) := dk_89 (dk_at dksX12_cargoOrCaulk_2 6 rfl rfl)
theorem dX12_cargoOrCaulk_54 : decode cX12_cargoOrCaulk 54 = .ok (.bipush 103, 2) := dk_16 103 (dk_at dksX12_cargoOrCaulk_2 7 rfl rfl)
theorem dX12_cargoOrCaulk_56 : decode cX12_cargoOrCaulk 56 = .ok (.iconst 2, 1) := dk_5 (dk_at dksX12_cargoOrCaulk_2 9 rfl rfl)
theorem dX12_cargoOrCaulk_57 : decode cX12_cargoOrCaulk 57 = .ok (.newarray .int, 2) := dk_188_10 (dk_at dksX12_cargoOrCaulk_2 10 rfl rfl)
theorem dX12_cargoOrCaulk_59 : decode cX12_cargoOrCaulk 59 = .ok (.dup, 1) := dk_89 (dk_at dksX12_cargoOrCaulk_2 12 rfl rfl)
theorem dX12_cargoOrCaulk_60 : decode cX12_cargoOrCaulk 60 = .ok (.iconst 0, 1) := dk_3 (dk_at dksX12_cargoOrCaulk_2 13 rfl rfl)
theorem dX12_cargoOrCaulk_61 : decode cX12_cargoOrCaulk 61 = .ok (.aload_n 0, 1) := dk_42 (dk_at dksX12_cargoOrCaulk_2 14 rfl rfl)
theorem dX12_cargoOrCaulk_62 : decode cX12_cargoOrCaulk 62 = .ok (.ldc 67, 2) := dk_18 67 (dk_at dksX12_cargoOrCaulk_2 15 rfl rfl)
theorem dX12_cargoOrCaulk_64 : decode cX12_cargoOrCaulk 64 = .ok (.iconst 1, 1) := dk_4 (dk_at dksX12_cargoOrCaulk_2 17 rfl rfl)
theorem dX12_cargoOrCaulk_65 : decode cX12_cargoOrCaulk 65 = .ok (.invokevirtual 52, 3) := dk_182 0 52 (dk_at dksX12_cargoOrCaulk_2 18 rfl rfl)
theorem dX12_cargoOrCaulk_68 : decode cX12_cargoOrCaulk 68 = .ok (.iastore, 1) := dk_79 (dk_at dksX12_cargoOrCaulk_2 21 rfl rfl)
theorem dX12_cargoOrCaulk_69 : decode cX12_cargoOrCaulk 69 = .ok (.dup, 1) := dk_89 (dk_at dksX12_cargoOrCaulk_2 22 rfl rfl)
theorem dX12_cargoOrCaulk_70 : decode cX12_cargoOrCaulk 70 = .ok (.iconst 1, 1) := dk_4 (dk_at dksX12_cargoOrCaulk_2 23 rfl rfl)
theorem dX12_cargoOrCaulk_71 : decode cX12_cargoOrCaulk 71 = .ok (.aload_n 0, 1) := dk_42 (dk_at dksX12_cargoOrCaulk_3 0 rfl rfl)
theorem dX12_cargoOrCaulk_72 : decode cX12_cargoOrCaulk 72 = .ok (.ldc 65, 2) := dk_18 65 (dk_at dksX12_cargoOrCaulk_3 1 rfl rfl)
theorem dX12_cargoOrCaulk_74 : decode cX12_cargoOrCaulk 74 = .ok (.iconst 3, 1) := dk_6 (dk_at dksX12_cargoOrCaulk_3 3 rfl rfl)
theorem dX12_cargoOrCaulk_75 : decode cX12_cargoOrCaulk 75 = .ok (.invokevirtual 52, 3) := dk_182 0 52 (dk_at dksX12_cargoOrCaulk_3 4 rfl rfl)
theorem dX12_cargoOrCaulk_78 : decode cX12_cargoOrCaulk 78 = .ok (.iastore, 1) := dk_79 (dk_at dksX12_cargoOrCaulk_3 7 rfl rfl)
theorem dX12_cargoOrCaulk_79 : decode cX12_cargoOrCaulk 79 = .ok (.invokespecial 56, 3) := dk_183 0 56 (dk_at dksX12_cargoOrCaulk_3 8 rfl rfl)
theorem dX12_cargoOrCaulk_82 : decode cX12_cargoOrCaulk 82 = .ok (.areturn, 1) := dk_176 (dk_at dksX12_cargoOrCaulk_3 11 rfl rfl)
def tX12_init : pb_T := [(0, .aload_n 0, 1, 0), (1, .invokespecial 1, 4, 0), (4, .aload_n 0, 5, 0), (5, .aload_n 1, 6, 0), (6, .putfield 7, 9, 0), (9, .return_, 10, 0)]
theorem tX12_init_ok : pb_Tok cX12_init tX12_init := pb_Tok.cons dX12_init_0 rfl (pb_Tok.cons dX12_init_1 rfl (pb_Tok.cons dX12_init_4 rfl (pb_Tok.cons dX12_init_5 rfl (pb_Tok.cons dX12_init_6 rfl (pb_Tok.cons dX12_init_9 rfl pb_Tok.nil)))))
def tX12_program : pb_T := [(0, .new 92, 3, 0), (3, .dup, 4, 0), (4, .invokespecial 94, 7, 0), (7, .astore_n 1, 8, 0), (8, .aload_n 1, 9, 0), (9, .aload_n 0, 10, 0), (10, .invokevirtual 95, 13, 0), (13, .invokevirtual 98, 16, 0), (16, .istore_n 2, 17, 0), (17, .aload_n 0, 18, 1), (18, .getfield 13, 21, 0), (21, .aload_n 0, 22, 0), (22, .getfield 7, 25, 0), (25, .invokevirtual 17, 28, 0), (28, .if_icmp .ge 21, 31, 49), (31, .aload_n 0, 32, 0), (32, .ldc 102, 34, 0), (34, .invokevirtual 36, 37, 0), (37, .aload_n 1, 38, 0), (38, .aload_n 0, 39, 0), (39, .invokevirtual 95, 42, 0), (42, .invokevirtual 98, 45, 0), (45, .istore_n 2, 46, 0), (46, .goto (-29), 49, 17), (49, .aload_n 1, 50, 0), (50, .areturn, 51, 0)]
theorem tX12_program_ok : pb_Tok cX12_program tX12_program := pb_Tok.cons dX12_program_0 rfl (pb_Tok.cons dX12_program_3 rfl (pb_Tok.cons dX12_program_4 rfl (pb_Tok.cons dX12_program_7 rfl (pb_Tok.cons dX12_program_8 rfl (pb_Tok.cons dX12_program_9 rfl (pb_Tok.cons dX12_program_10 rfl (pb_Tok.cons dX12_program_13 rfl (pb_Tok.cons dX12_program_16 rfl (pb_Tok.cons dX12_program_17 rfl (pb_Tok.cons dX12_program_18 rfl (pb_Tok.cons dX12_program_21 rfl (pb_Tok.cons dX12_program_22 rfl (pb_Tok.cons dX12_program_25 rfl (pb_Tok.cons dX12_program_28 rfl (pb_Tok.cons dX12_program_31 rfl (pb_Tok.cons dX12_program_32 rfl (pb_Tok.cons dX12_program_34 rfl (pb_Tok.cons dX12_program_37 rfl (pb_Tok.cons dX12_program_38 rfl (pb_Tok.cons dX12_program_39 rfl (pb_Tok.cons dX12_program_42 rfl (pb_Tok.cons dX12_program_45 rfl (pb_Tok.cons dX12_program_46 rfl (pb_Tok.cons dX12_program_49 rfl (pb_Tok.cons dX12_program_50 rfl pb_Tok.nil)))))))))))))))))))))))))
def tX12_command_0 : pb_T := [(0, .aload_n 0, 1, 0), (1, .invokevirtual 27, 4, 0), (4, .tableswitch 329 99 116 #[159, 296, 329, 93, 329, 88, 329, 329, 329, 164, 136, 329, 253, 187, 329, 329, 329, 220], 92, 0), (92, .aload_n 0, 93, 0), (93, .invokevirtual 69, 96, 0), (96, .areturn, 97, 0), (97, .new 48, 100, 0), (100, .dup, 101, 0), (101, .bipush 102, 103, 0), (103, .iconst 3, 104, 0), (104, .newarray .int, 106, 0), (106, .dup, 107, 0), (107, .iconst 0, 108, 0), (108, .aload_n 0, 109, 0), (109, .ldc 73, 111, 0), (111, .iconst 1, 112, 0), (112, .invokevirtual 52, 115, 0), (115, .iastore, 116, 0), (116, .dup, 117, 0), (117, .iconst 1, 118, 0), (118, .aload_n 0, 119, 0), (119, .ldc 65, 121, 0), (121, .iconst 3, 122, 0), (122, .invokevirtual 52, 125, 0), (125, .iastore, 126, 0), (126, .dup, 127, 0), (127, .iconst 2, 128, 0), (128, .aload_n 0, 129, 0), (129, .ldc 75, 131, 0), (131, .iconst 3, 132, 0), (132, .invokevirtual 52, 135, 0), (135, .iastore, 136, 0), (136, .invokespecial 56, 139, 0), (139, .areturn, 140, 0), (140, .new 48, 143, 0), (143, .dup, 144, 0), (144, .bipush 109, 146, 0), (146, .iconst 1, 147, 0), (147, .newarray .int, 149, 0), (149, .dup, 150, 0), (150, .iconst 0, 151, 0), (151, .aload_n 0, 152, 0), (152, .ldc 77, 154, 0), (154, .iconst 1, 155, 0), (155, .invokevirtual 52, 158, 0), (158, .iastore, 159, 0), (159, .invokespecial 56, 162, 0), (162, .areturn, 163, 0), (163, .aload_n 0, 164, 0), (164, .invokevirtual 79, 167, 0), (167, .areturn, 168, 0), (168, .new 48, 171, 0), (171, .dup, 172, 0), (172, .bipush 108, 174, 0), (174, .iconst 1, 175, 0), (175, .newarray .int, 177, 0), (177, .dup, 178, 0), (178, .iconst 0, 179, 0), (179, .aload_n 0, 180, 0), (180, .ldc 82, 182, 0)]
theorem tX12_command_0_ok : pb_Tok cX12_command tX12_command_0 := pb_Tok.cons dX12_command_0 rfl (pb_Tok.cons dX12_command_1 rfl (pb_Tok.cons dX12_command_4 rfl (pb_Tok.cons dX12_command_92 rfl (pb_Tok.cons dX12_command_93 rfl (pb_Tok.cons dX12_command_96 rfl (pb_Tok.cons dX12_command_97 rfl (pb_Tok.cons dX12_command_100 rfl (pb_Tok.cons dX12_command_101 rfl (pb_Tok.cons dX12_command_103 rfl (pb_Tok.cons dX12_command_104 rfl (pb_Tok.cons dX12_command_106 rfl (pb_Tok.cons dX12_command_107 rfl (pb_Tok.cons dX12_command_108 rfl (pb_Tok.cons dX12_command_109 rfl (pb_Tok.cons dX12_command_111 rfl (pb_Tok.cons dX12_command_112 rfl (pb_Tok.cons dX12_command_115 rfl (pb_Tok.cons dX12_command_116 rfl (pb_Tok.cons dX12_command_117 rfl (pb_Tok.cons dX12_command_118 rfl (pb_Tok.cons dX12_command_119 rfl (pb_Tok.cons dX12_command_121 rfl (pb_Tok.cons dX12_command_122 rfl (pb_Tok.cons dX12_command_125 rfl (pb_Tok.cons dX12_command_126 rfl (pb_Tok.cons dX12_command_127 rfl (pb_Tok.cons dX12_command_128 rfl (pb_Tok.cons dX12_command_129 rfl (pb_Tok.cons dX12_command_131 rfl (pb_Tok.cons dX12_command_132 rfl (pb_Tok.cons dX12_command_135 rfl (pb_Tok.cons dX12_command_136 rfl (pb_Tok.cons dX12_command_139 rfl (pb_Tok.cons dX12_command_140 rfl (pb_Tok.cons dX12_command_143 rfl (pb_Tok.cons dX12_command_144 rfl (pb_Tok.cons dX12_command_146 rfl (pb_Tok.cons dX12_command_147 rfl (pb_Tok.cons dX12_command_149 rfl (pb_Tok.cons dX12_command_150 rfl (pb_Tok.cons dX12_command_151 rfl (pb_Tok.cons dX12_command_152 rfl (pb_Tok.cons dX12_command_154 rfl (pb_Tok.cons dX12_command_155 rfl (pb_Tok.cons dX12_command_158 rfl (pb_Tok.cons dX12_command_159 rfl (pb_Tok.cons dX12_command_162 rfl (pb_Tok.cons dX12_command_163 rfl (pb_Tok.cons dX12_command_164 rfl (pb_Tok.cons dX12_command_167 rfl (pb_Tok.cons dX12_command_168 rfl (pb_Tok.cons dX12_command_171 rfl (pb_Tok.cons dX12_command_172 rfl (pb_Tok.cons dX12_command_174 rfl (pb_Tok.cons dX12_command_175 rfl (pb_Tok.cons dX12_command_177 rfl (pb_Tok.cons dX12_command_178 rfl (pb_Tok.cons dX12_command_179 rfl (pb_Tok.cons dX12_command_180 rfl pb_Tok.nil)))))))))))))))))))))))))))))))))))))))))))))))))))))))))))
def tX12_command_1 : pb_T := [(182, .iconst 1, 183, 0), (183, .invokevirtual 52, 186, 0), (186, .iastore, 187, 0), (187, .invokespecial 56, 190, 0), (190, .areturn, 191, 0), (191, .new 48, 194, 0), (194, .dup, 195, 0), (195, .bipush 112, 197, 0), (197, .iconst 2, 198, 0), (198, .newarray .int, 200, 0), (200, .dup, 201, 0), (201, .iconst 0, 202, 0), (202, .aload_n 0, 203, 0), (203, .ldc 84, 205, 0), (205, .iconst 1, 206, 0), (206, .invokevirtual 52, 209, 0), (209, .iastore, 210, 0), (210, .dup, 211, 0), (211, .iconst 1, 212, 0), (212, .aload_n 0, 213, 0), (213, .ldc 65, 215, 0), (215, .iconst 3, 216, 0), (216, .invokevirtual 52, 219, 0), (219, .iastore, 220, 0), (220, .invokespecial 56, 223, 0), (223, .areturn, 224, 0), (224, .new 48, 227, 0), (227, .dup, 228, 0), (228, .bipush 116, 230, 0), (230, .iconst 2, 231, 0), (231, .newarray .int, 233, 0), (233, .dup, 234, 0), (234, .iconst 0, 235, 0), (235, .aload_n 0, 236, 0), (236, .ldc 86, 238, 0), (238, .iconst 3, 239, 0), (239, .invokevirtual 52, 242, 0), (242, .iastore, 243, 0), (243, .dup, 244, 0), (244, .iconst 1, 245, 0), (245, .aload_n 0, 246, 0), (246, .ldc 65, 248, 0), (248, .iconst 3, 249, 0), (249, .invokevirtual 52, 252, 0), (252, .iastore, 253, 0), (253, .invokespecial 56, 256, 0), (256, .areturn, 257, 0), (257, .new 48, 260, 0), (260, .dup, 261, 0), (261, .bipush 111, 263, 0), (263, .iconst 3, 264, 0), (264, .newarray .int, 266, 0), (266, .dup, 267, 0), (267, .iconst 0, 268, 0), (268, .aload_n 0, 269, 0), (269, .ldc 88, 271, 0), (271, .iconst 1, 272, 0), (272, .invokevirtual 52, 275, 0), (275, .iastore, 276, 0), (276, .dup, 277, 0)]
theorem tX12_command_1_ok : pb_Tok cX12_command tX12_command_1 := pb_Tok.cons dX12_command_182 rfl (pb_Tok.cons dX12_command_183 rfl (pb_Tok.cons dX12_command_186 rfl (pb_Tok.cons dX12_command_187 rfl (pb_Tok.cons dX12_command_190 rfl (pb_Tok.cons dX12_command_191 rfl (pb_Tok.cons dX12_command_194 rfl (pb_Tok.cons dX12_command_195 rfl (pb_Tok.cons dX12_command_197 rfl (pb_Tok.cons dX12_command_198 rfl (pb_Tok.cons dX12_command_200 rfl (pb_Tok.cons dX12_command_201 rfl (pb_Tok.cons dX12_command_202 rfl (pb_Tok.cons dX12_command_203 rfl (pb_Tok.cons dX12_command_205 rfl (pb_Tok.cons dX12_command_206 rfl (pb_Tok.cons dX12_command_209 rfl (pb_Tok.cons dX12_command_210 rfl (pb_Tok.cons dX12_command_211 rfl (pb_Tok.cons dX12_command_212 rfl (pb_Tok.cons dX12_command_213 rfl (pb_Tok.cons dX12_command_215 rfl (pb_Tok.cons dX12_command_216 rfl (pb_Tok.cons dX12_command_219 rfl (pb_Tok.cons dX12_command_220 rfl (pb_Tok.cons dX12_command_223 rfl (pb_Tok.cons dX12_command_224 rfl (pb_Tok.cons dX12_command_227 rfl (pb_Tok.cons dX12_command_228 rfl (pb_Tok.cons dX12_command_230 rfl (pb_Tok.cons dX12_command_231 rfl (pb_Tok.cons dX12_command_233 rfl (pb_Tok.cons dX12_command_234 rfl (pb_Tok.cons dX12_command_235 rfl (pb_Tok.cons dX12_command_236 rfl (pb_Tok.cons dX12_command_238 rfl (pb_Tok.cons dX12_command_239 rfl (pb_Tok.cons dX12_command_242 rfl (pb_Tok.cons dX12_command_243 rfl (pb_Tok.cons dX12_command_244 rfl (pb_Tok.cons dX12_command_245 rfl (pb_Tok.cons dX12_command_246 rfl (pb_Tok.cons dX12_command_248 rfl (pb_Tok.cons dX12_command_249 rfl (pb_Tok.cons dX12_command_252 rfl (pb_Tok.cons dX12_command_253 rfl (pb_Tok.cons dX12_command_256 rfl (pb_Tok.cons dX12_command_257 rfl (pb_Tok.cons dX12_command_260 rfl (pb_Tok.cons dX12_command_261 rfl (pb_Tok.cons dX12_command_263 rfl (pb_Tok.cons dX12_command_264 rfl (pb_Tok.cons dX12_command_266 rfl (pb_Tok.cons dX12_command_267 rfl (pb_Tok.cons dX12_command_268 rfl (pb_Tok.cons dX12_command_269 rfl (pb_Tok.cons dX12_command_271 rfl (pb_Tok.cons dX12_command_272 rfl (pb_Tok.cons dX12_command_275 rfl (pb_Tok.cons dX12_command_276 rfl pb_Tok.nil)))))))))))))))))))))))))))))))))))))))))))))))))))))))))))
def tX12_command_2 : pb_T := [(277, .iconst 1, 278, 0), (278, .aload_n 0, 279, 0), (279, .ldc 65, 281, 0), (281, .iconst 3, 282, 0), (282, .invokevirtual 52, 285, 0), (285, .iastore, 286, 0), (286, .dup, 287, 0), (287, .iconst 2, 288, 0), (288, .aload_n 0, 289, 0), (289, .ldc 65, 291, 0), (291, .iconst 3, 292, 0), (292, .invokevirtual 52, 295, 0), (295, .iastore, 296, 0), (296, .invokespecial 56, 299, 0), (299, .areturn, 300, 0), (300, .new 48, 303, 0), (303, .dup, 304, 0), (304, .bipush 100, 306, 0), (306, .iconst 2, 307, 0), (307, .newarray .int, 309, 0), (309, .dup, 310, 0), (310, .iconst 0, 311, 0), (311, .aload_n 0, 312, 0), (312, .ldc 90, 314, 0), (314, .iconst 3, 315, 0), (315, .invokevirtual 52, 318, 0), (318, .iastore, 319, 0), (319, .dup, 320, 0), (320, .iconst 1, 321, 0), (321, .aload_n 0, 322, 0), (322, .ldc 65, 324, 0), (324, .iconst 1, 325, 0), (325, .invokevirtual 52, 328, 0), (328, .iastore, 329, 0), (329, .invokespecial 56, 332, 0), (332, .areturn, 333, 0), (333, .new 31, 336, 0), (336, .dup, 337, 0), (337, .aload_n 0, 338, 0), (338, .getfield 13, 341, 0), (341, .invokespecial 33, 344, 0), (344, .athrow, 345, 0)]
theorem tX12_command_2_ok : pb_Tok cX12_command tX12_command_2 := pb_Tok.cons dX12_command_277 rfl (pb_Tok.cons dX12_command_278 rfl (pb_Tok.cons dX12_command_279 rfl (pb_Tok.cons dX12_command_281 rfl (pb_Tok.cons dX12_command_282 rfl (pb_Tok.cons dX12_command_285 rfl (pb_Tok.cons dX12_command_286 rfl (pb_Tok.cons dX12_command_287 rfl (pb_Tok.cons dX12_command_288 rfl (pb_Tok.cons dX12_command_289 rfl (pb_Tok.cons dX12_command_291 rfl (pb_Tok.cons dX12_command_292 rfl (pb_Tok.cons dX12_command_295 rfl (pb_Tok.cons dX12_command_296 rfl (pb_Tok.cons dX12_command_299 rfl (pb_Tok.cons dX12_command_300 rfl (pb_Tok.cons dX12_command_303 rfl (pb_Tok.cons dX12_command_304 rfl (pb_Tok.cons dX12_command_306 rfl (pb_Tok.cons dX12_command_307 rfl (pb_Tok.cons dX12_command_309 rfl (pb_Tok.cons dX12_command_310 rfl (pb_Tok.cons dX12_command_311 rfl (pb_Tok.cons dX12_command_312 rfl (pb_Tok.cons dX12_command_314 rfl (pb_Tok.cons dX12_command_315 rfl (pb_Tok.cons dX12_command_318 rfl (pb_Tok.cons dX12_command_319 rfl (pb_Tok.cons dX12_command_320 rfl (pb_Tok.cons dX12_command_321 rfl (pb_Tok.cons dX12_command_322 rfl (pb_Tok.cons dX12_command_324 rfl (pb_Tok.cons dX12_command_325 rfl (pb_Tok.cons dX12_command_328 rfl (pb_Tok.cons dX12_command_329 rfl (pb_Tok.cons dX12_command_332 rfl (pb_Tok.cons dX12_command_333 rfl (pb_Tok.cons dX12_command_336 rfl (pb_Tok.cons dX12_command_337 rfl (pb_Tok.cons dX12_command_338 rfl (pb_Tok.cons dX12_command_341 rfl (pb_Tok.cons dX12_command_344 rfl pb_Tok.nil)))))))))))))))))))))))))))))))))))))))))
def tX12_command : pb_T := tX12_command_0 ++ (tX12_command_1 ++ (tX12_command_2))
theorem tX12_command_ok : pb_Tok cX12_command tX12_command := pb_Tok.app tX12_command_0_ok (pb_Tok.app tX12_command_1_ok (tX12_command_2_ok))
def tX12_peek : pb_T := [(0, .aload_n 0, 1, 0), (1, .getfield 13, 4, 0), (4, .aload_n 0, 5, 0), (5, .getfield 7, 8, 0), (8, .invokevirtual 17, 11, 0), (11, .if_icmp .ge 17, 14, 28), (14, .aload_n 0, 15, 0), (15, .getfield 7, 18, 0), (18, .aload_n 0, 19, 0), (19, .getfield 13, 22, 0), (22, .invokevirtual 23, 25, 0), (25, .goto 5, 28, 30), (28, .bipush 10, 30, 0), (30, .ireturn, 31, 0)]
theorem tX12_peek_ok : pb_Tok cX12_peek tX12_peek := pb_Tok.cons dX12_peek_0 rfl (pb_Tok.cons dX12_peek_1 rfl (pb_Tok.cons dX12_peek_4 rfl (pb_Tok.cons dX12_peek_5 rfl (pb_Tok.cons dX12_peek_8 rfl (pb_Tok.cons dX12_peek_11 rfl (pb_Tok.cons dX12_peek_14 rfl (pb_Tok.cons dX12_peek_15 rfl (pb_Tok.cons dX12_peek_18 rfl (pb_Tok.cons dX12_peek_19 rfl (pb_Tok.cons dX12_peek_22 rfl (pb_Tok.cons dX12_peek_25 rfl (pb_Tok.cons dX12_peek_28 rfl (pb_Tok.cons dX12_peek_30 rfl pb_Tok.nil)))))))))))))
def tX12_hullOrHours : pb_T := [(0, .aload_n 0, 1, 0), (1, .ldc 46, 3, 0), (3, .invokevirtual 36, 6, 0), (6, .aload_n 0, 7, 0), (7, .invokevirtual 27, 10, 0), (10, .bipush 111, 12, 0), (12, .if_icmp .ne 26, 15, 38), (15, .new 48, 18, 0), (18, .dup, 19, 0), (19, .bipush 104, 21, 0), (21, .iconst 1, 22, 0), (22, .newarray .int, 24, 0), (24, .dup, 25, 0), (25, .iconst 0, 26, 0), (26, .aload_n 0, 27, 0), (27, .ldc 50, 29, 0), (29, .iconst 3, 30, 0), (30, .invokevirtual 52, 33, 0), (33, .iastore, 34, 0), (34, .invokespecial 56, 37, 0), (37, .areturn, 38, 0), (38, .aload_n 0, 39, 0), (39, .ldc 59, 41, 0), (41, .invokevirtual 36, 44, 0), (44, .new 48, 47, 0), (47, .dup, 48, 0), (48, .bipush 98, 50, 0), (50, .iconst 0, 51, 0), (51, .newarray .int, 53, 0), (53, .invokespecial 56, 56, 0), (56, .areturn, 57, 0)]
theorem tX12_hullOrHours_ok : pb_Tok cX12_hullOrHours tX12_hullOrHours := pb_Tok.cons dX12_hullOrHours_0 rfl (pb_Tok.cons dX12_hullOrHours_1 rfl (pb_Tok.cons dX12_hullOrHours_3 rfl (pb_Tok.cons dX12_hullOrHours_6 rfl (pb_Tok.cons dX12_hullOrHours_7 rfl (pb_Tok.cons dX12_hullOrHours_10 rfl (pb_Tok.cons dX12_hullOrHours_12 rfl (pb_Tok.cons dX12_hullOrHours_15 rfl (pb_Tok.cons dX12_hullOrHours_18 rfl (pb_Tok.cons dX12_hullOrHours_19 rfl (pb_Tok.cons dX12_hullOrHours_21 rfl (pb_Tok.cons dX12_hullOrHours_22 rfl (pb_Tok.cons dX12_hullOrHours_24 rfl (pb_Tok.cons dX12_hullOrHours_25 rfl (pb_Tok.cons dX12_hullOrHours_26 rfl (pb_Tok.cons dX12_hullOrHours_27 rfl (pb_Tok.cons dX12_hullOrHours_29 rfl (pb_Tok.cons dX12_hullOrHours_30 rfl (pb_Tok.cons dX12_hullOrHours_33 rfl (pb_Tok.cons dX12_hullOrHours_34 rfl (pb_Tok.cons dX12_hullOrHours_37 rfl (pb_Tok.cons dX12_hullOrHours_38 rfl (pb_Tok.cons dX12_hullOrHours_39 rfl (pb_Tok.cons dX12_hullOrHours_41 rfl (pb_Tok.cons dX12_hullOrHours_44 rfl (pb_Tok.cons dX12_hullOrHours_47 rfl (pb_Tok.cons dX12_hullOrHours_48 rfl (pb_Tok.cons dX12_hullOrHours_50 rfl (pb_Tok.cons dX12_hullOrHours_51 rfl (pb_Tok.cons dX12_hullOrHours_53 rfl (pb_Tok.cons dX12_hullOrHours_56 rfl pb_Tok.nil))))))))))))))))))))))))))))))
def tX12_expect : pb_T := [(0, .iconst 0, 1, 0), (1, .istore_n 2, 2, 0), (2, .iload_n 2, 3, 1), (3, .aload_n 1, 4, 0), (4, .invokevirtual 17, 7, 0), (7, .if_icmp .ge 43, 10, 50), (10, .aload_n 0, 11, 0), (11, .invokevirtual 27, 14, 0), (14, .aload_n 1, 15, 0), (15, .iload_n 2, 16, 0), (16, .invokevirtual 23, 19, 0), (19, .if_icmp .eq 15, 22, 34), (22, .new 31, 25, 0), (25, .dup, 26, 0), (26, .aload_n 0, 27, 0), (27, .getfield 13, 30, 0), (30, .invokespecial 33, 33, 0), (33, .athrow, 34, 0), (34, .aload_n 0, 35, 0), (35, .dup, 36, 0), (36, .getfield 13, 39, 0), (39, .iconst 1, 40, 0), (40, .iadd, 41, 0), (41, .putfield 13, 44, 0), (44, .iinc 2 1, 47, 0), (47, .goto (-45), 50, 2), (50, .return_, 51, 0)]
theorem tX12_expect_ok : pb_Tok cX12_expect tX12_expect := pb_Tok.cons dX12_expect_0 rfl (pb_Tok.cons dX12_expect_1 rfl (pb_Tok.cons dX12_expect_2 rfl (pb_Tok.cons dX12_expect_3 rfl (pb_Tok.cons dX12_expect_4 rfl (pb_Tok.cons dX12_expect_7 rfl (pb_Tok.cons dX12_expect_10 rfl (pb_Tok.cons dX12_expect_11 rfl (pb_Tok.cons dX12_expect_14 rfl (pb_Tok.cons dX12_expect_15 rfl (pb_Tok.cons dX12_expect_16 rfl (pb_Tok.cons dX12_expect_19 rfl (pb_Tok.cons dX12_expect_22 rfl (pb_Tok.cons dX12_expect_25 rfl (pb_Tok.cons dX12_expect_26 rfl (pb_Tok.cons dX12_expect_27 rfl (pb_Tok.cons dX12_expect_30 rfl (pb_Tok.cons dX12_expect_33 rfl (pb_Tok.cons dX12_expect_34 rfl (pb_Tok.cons dX12_expect_35 rfl (pb_Tok.cons dX12_expect_36 rfl (pb_Tok.cons dX12_expect_39 rfl (pb_Tok.cons dX12_expect_40 rfl (pb_Tok.cons dX12_expect_41 rfl (pb_Tok.cons dX12_expect_44 rfl (pb_Tok.cons dX12_expect_47 rfl (pb_Tok.cons dX12_expect_50 rfl pb_Tok.nil))))))))))))))))))))))))))
def tX12_number : pb_T := [(0, .aload_n 0, 1, 0), (1, .aload_n 1, 2, 0), (2, .invokevirtual 36, 5, 0), (5, .aload_n 0, 6, 0), (6, .invokevirtual 27, 9, 0), (9, .bipush 48, 11, 0), (11, .bipush 57, 13, 0), (13, .invokestatic 40, 16, 0), (16, .ifCond .ne 15, 19, 31), (19, .new 31, 22, 0), (22, .dup, 23, 0), (23, .aload_n 0, 24, 0), (24, .getfield 13, 27, 0), (27, .invokespecial 33, 30, 0), (30, .athrow, 31, 0), (31, .iconst 0, 32, 0), (32, .istore_n 3, 33, 0), (33, .iconst 0, 34, 0), (34, .istore 4, 36, 0), (36, .iload 4, 38, 1), (38, .iload_n 2, 39, 0), (39, .if_icmp .ge 46, 42, 85), (42, .aload_n 0, 43, 0), (43, .invokevirtual 27, 46, 0), (46, .bipush 48, 48, 0), (48, .bipush 57, 50, 0), (50, .invokestatic 40, 53, 0), (53, .ifCond .eq 32, 56, 85), (56, .bipush 10, 58, 0), (58, .iload_n 3, 59, 0), (59, .imul, 60, 0), (60, .aload_n 0, 61, 0), (61, .invokevirtual 27, 64, 0), (64, .iadd, 65, 0), (65, .bipush 48, 67, 0), (67, .isub, 68, 0), (68, .istore_n 3, 69, 0), (69, .aload_n 0, 70, 0), (70, .dup, 71, 0), (71, .getfield 13, 74, 0), (74, .iconst 1, 75, 0), (75, .iadd, 76, 0), (76, .putfield 13, 79, 0), (79, .iinc 4 1, 82, 0), (82, .goto (-46), 85, 36), (85, .iload_n 3, 86, 0), (86, .ireturn, 87, 0)]
theorem tX12_number_ok : pb_Tok cX12_number tX12_number := pb_Tok.cons dX12_number_0 rfl (pb_Tok.cons dX12_number_1 rfl (pb_Tok.cons dX12_number_2 rfl (pb_Tok.cons dX12_number_5 rfl (pb_Tok.cons dX12_number_6 rfl (pb_Tok.cons dX12_number_9 rfl (pb_Tok.cons dX12_number_11 rfl (pb_Tok.cons dX12_number_13 rfl (pb_Tok.cons dX12_number_16 rfl (pb_Tok.cons dX12_number_19 rfl (pb_Tok.cons dX12_number_22 rfl (pb_Tok.cons dX12_number_23 rfl (pb_Tok.cons dX12_number_24 rfl (pb_Tok.cons dX12_number_27 rfl (pb_Tok.cons dX12_number_30 rfl (pb_Tok.cons dX12_number_31 rfl (pb_Tok.cons dX12_number_32 rfl (pb_Tok.cons dX12_number_33 rfl (pb_Tok.cons dX12_number_34 rfl (pb_Tok.cons dX12_number_36 rfl (pb_Tok.cons dX12_number_38 rfl (pb_Tok.cons dX12_number_39 rfl (pb_Tok.cons dX12_number_42 rfl (pb_Tok.cons dX12_number_43 rfl (pb_Tok.cons dX12_number_46 rfl (pb_Tok.cons dX12_number_48 rfl (pb_Tok.cons dX12_number_50 rfl (pb_Tok.cons dX12_number_53 rfl (pb_Tok.cons dX12_number_56 rfl (pb_Tok.cons dX12_number_58 rfl (pb_Tok.cons dX12_number_59 rfl (pb_Tok.cons dX12_number_60 rfl (pb_Tok.cons dX12_number_61 rfl (pb_Tok.cons dX12_number_64 rfl (pb_Tok.cons dX12_number_65 rfl (pb_Tok.cons dX12_number_67 rfl (pb_Tok.cons dX12_number_68 rfl (pb_Tok.cons dX12_number_69 rfl (pb_Tok.cons dX12_number_70 rfl (pb_Tok.cons dX12_number_71 rfl (pb_Tok.cons dX12_number_74 rfl (pb_Tok.cons dX12_number_75 rfl (pb_Tok.cons dX12_number_76 rfl (pb_Tok.cons dX12_number_79 rfl (pb_Tok.cons dX12_number_82 rfl (pb_Tok.cons dX12_number_85 rfl (pb_Tok.cons dX12_number_86 rfl pb_Tok.nil))))))))))))))))))))))))))))))))))))))))))))))
def tX12_cargoOrCaulk : pb_T := [(0, .aload_n 0, 1, 0), (1, .ldc 61, 3, 0), (3, .invokevirtual 36, 6, 0), (6, .aload_n 0, 7, 0), (7, .invokevirtual 27, 10, 0), (10, .bipush 117, 12, 0), (12, .if_icmp .ne 38, 15, 50), (15, .new 48, 18, 0), (18, .dup, 19, 0), (19, .bipush 99, 21, 0), (21, .iconst 2, 22, 0), (22, .newarray .int, 24, 0), (24, .dup, 25, 0), (25, .iconst 0, 26, 0), (26, .aload_n 0, 27, 0), (27, .ldc 63, 29, 0), (29, .iconst 1, 30, 0), (30, .invokevirtual 52, 33, 0), (33, .iastore, 34, 0), (34, .dup, 35, 0), (35, .iconst 1, 36, 0), (36, .aload_n 0, 37, 0), (37, .ldc 65, 39, 0), (39, .iconst 1, 40, 0), (40, .invokevirtual 52, 43, 0), (43, .iastore, 44, 0), (44, .invokespecial 56, 47, 0), (47, .goto 35, 50, 82), (50, .new 48, 53, 0), (53, .dup, 54, 0), (54, .bipush 103, 56, 0), (56, .iconst 2, 57, 0), (57, .newarray .int, 59, 0), (59, .dup, 60, 0), (60, .iconst 0, 61, 0), (61, .aload_n 0, 62, 0), (62, .ldc 67, 64, 0), (64, .iconst 1, 65, 0), (65, .invokevirtual 52, 68, 0), (68, .iastore, 69, 0), (69, .dup, 70, 0), (70, .iconst 1, 71, 0), (71, .aload_n 0, 72, 0), (72, .ldc 65, 74, 0), (74, .iconst 3, 75, 0), (75, .invokevirtual 52, 78, 0), (78, .iastore, 79, 0), (79, .invokespecial 56, 82, 0), (82, .areturn, 83, 0)]
theorem tX12_cargoOrCaulk_ok : pb_Tok cX12_cargoOrCaulk tX12_cargoOrCaulk := pb_Tok.cons dX12_cargoOrCaulk_0 rfl (pb_Tok.cons dX12_cargoOrCaulk_1 rfl (pb_Tok.cons dX12_cargoOrCaulk_3 rfl (pb_Tok.cons dX12_cargoOrCaulk_6 rfl (pb_Tok.cons dX12_cargoOrCaulk_7 rfl (pb_Tok.cons dX12_cargoOrCaulk_10 rfl (pb_Tok.cons dX12_cargoOrCaulk_12 rfl (pb_Tok.cons dX12_cargoOrCaulk_15 rfl (pb_Tok.cons dX12_cargoOrCaulk_18 rfl (pb_Tok.cons dX12_cargoOrCaulk_19 rfl (pb_Tok.cons dX12_cargoOrCaulk_21 rfl (pb_Tok.cons dX12_cargoOrCaulk_22 rfl (pb_Tok.cons dX12_cargoOrCaulk_24 rfl (pb_Tok.cons dX12_cargoOrCaulk_25 rfl (pb_Tok.cons dX12_cargoOrCaulk_26 rfl (pb_Tok.cons dX12_cargoOrCaulk_27 rfl (pb_Tok.cons dX12_cargoOrCaulk_29 rfl (pb_Tok.cons dX12_cargoOrCaulk_30 rfl (pb_Tok.cons dX12_cargoOrCaulk_33 rfl (pb_Tok.cons dX12_cargoOrCaulk_34 rfl (pb_Tok.cons dX12_cargoOrCaulk_35 rfl (pb_Tok.cons dX12_cargoOrCaulk_36 rfl (pb_Tok.cons dX12_cargoOrCaulk_37 rfl (pb_Tok.cons dX12_cargoOrCaulk_39 rfl (pb_Tok.cons dX12_cargoOrCaulk_40 rfl (pb_Tok.cons dX12_cargoOrCaulk_43 rfl (pb_Tok.cons dX12_cargoOrCaulk_44 rfl (pb_Tok.cons dX12_cargoOrCaulk_47 rfl (pb_Tok.cons dX12_cargoOrCaulk_50 rfl (pb_Tok.cons dX12_cargoOrCaulk_53 rfl (pb_Tok.cons dX12_cargoOrCaulk_54 rfl (pb_Tok.cons dX12_cargoOrCaulk_56 rfl (pb_Tok.cons dX12_cargoOrCaulk_57 rfl (pb_Tok.cons dX12_cargoOrCaulk_59 rfl (pb_Tok.cons dX12_cargoOrCaulk_60 rfl (pb_Tok.cons dX12_cargoOrCaulk_61 rfl (pb_Tok.cons dX12_cargoOrCaulk_62 rfl (pb_Tok.cons dX12_cargoOrCaulk_64 rfl (pb_Tok.cons dX12_cargoOrCaulk_65 rfl (pb_Tok.cons dX12_cargoOrCaulk_68 rfl (pb_Tok.cons dX12_cargoOrCaulk_69 rfl (pb_Tok.cons dX12_cargoOrCaulk_70 rfl (pb_Tok.cons dX12_cargoOrCaulk_71 rfl (pb_Tok.cons dX12_cargoOrCaulk_72 rfl (pb_Tok.cons dX12_cargoOrCaulk_74 rfl (pb_Tok.cons dX12_cargoOrCaulk_75 rfl (pb_Tok.cons dX12_cargoOrCaulk_78 rfl (pb_Tok.cons dX12_cargoOrCaulk_79 rfl (pb_Tok.cons dX12_cargoOrCaulk_82 rfl pb_Tok.nil))))))))))))))))))))))))))))))))))))))))))))))))
def dkwX13_init_0 : List UInt8 := [42, 183, 0, 1, 42, 27, 181, 0, 7, 177]
abbrev dktX13_init_0 : List UInt8 := dkwX13_init_0 ++ []
theorem dksX13_init_0 : cX13_init.data.toList.drop 0 = dktX13_init_0 := by decide +kernel
theorem dX13_init_0 : decode cX13_init 0 = .ok (.aload_n 0, 1) := dk_42 (dk_at dksX13_init_0 0 rfl rfl)
theorem dX13_init_1 : decode cX13_init 1 = .ok (.invokespecial 1, 3) := dk_183 0 1 (dk_at dksX13_init_0 1 rfl rfl)
theorem dX13_init_4 : decode cX13_init 4 = .ok (.aload_n 0, 1) := dk_42 (dk_at dksX13_init_0 4 rfl rfl)
theorem dX13_init_5 : decode cX13_init 5 = .ok (.iload_n 1, 1) := dk_27 (dk_at dksX13_init_0 5 rfl rfl)
theorem dX13_init_6 : decode cX13_init 6 = .ok (.putfield 7, 3) := dk_181 0 7 (dk_at dksX13_init_0 6 rfl rfl)
theorem dX13_init_9 : decode cX13_init 9 = .ok (.return_, 1) := dk_177 (dk_at dksX13_init_0 9 rfl rfl)
def tX13_init : pb_T := [(0, .aload_n 0, 1, 0), (1, .invokespecial 1, 4, 0), (4, .aload_n 0, 5, 0), (5, .iload_n 1, 6, 0), (6, .putfield 7, 9, 0), (9, .return_, 10, 0)]
theorem tX13_init_ok : pb_Tok cX13_init tX13_init := pb_Tok.cons dX13_init_0 rfl (pb_Tok.cons dX13_init_1 rfl (pb_Tok.cons dX13_init_4 rfl (pb_Tok.cons dX13_init_5 rfl (pb_Tok.cons dX13_init_6 rfl (pb_Tok.cons dX13_init_9 rfl pb_Tok.nil)))))
theorem dX14_canBeWorkedOn_0 : decode cX14_canBeWorkedOn 0 = .ok (.iconst 1, 1) := by decide +kernel
theorem dX14_canBeWorkedOn_1 : decode cX14_canBeWorkedOn 1 = .ok (.ireturn, 1) := by decide +kernel
def tX14_canBeWorkedOn : pb_T := [(0, .iconst 1, 1, 0), (1, .ireturn, 2, 0)]
theorem tX14_canBeWorkedOn_ok : pb_Tok cX14_canBeWorkedOn tX14_canBeWorkedOn := pb_Tok.cons dX14_canBeWorkedOn_0 rfl (pb_Tok.cons dX14_canBeWorkedOn_1 rfl pb_Tok.nil)
theorem dX15_canBeWorkedOn_0 : decode cX15_canBeWorkedOn 0 = .ok (.iconst 1, 1) := by decide +kernel
theorem dX15_canBeWorkedOn_1 : decode cX15_canBeWorkedOn 1 = .ok (.ireturn, 1) := by decide +kernel
def tX15_canBeWorkedOn : pb_T := [(0, .iconst 1, 1, 0), (1, .ireturn, 2, 0)]
theorem tX15_canBeWorkedOn_ok : pb_Tok cX15_canBeWorkedOn tX15_canBeWorkedOn := pb_Tok.cons dX15_canBeWorkedOn_0 rfl (pb_Tok.cons dX15_canBeWorkedOn_1 rfl pb_Tok.nil)
theorem dX16_canBeWorkedOn_0 : decode cX16_canBeWorkedOn 0 = .ok (.iconst 0, 1) := by decide +kernel
theorem dX16_canBeWorkedOn_1 : decode cX16_canBeWorkedOn 1 = .ok (.ireturn, 1) := by decide +kernel
def tX16_canBeWorkedOn : pb_T := [(0, .iconst 0, 1, 0), (1, .ireturn, 2, 0)]
theorem tX16_canBeWorkedOn_ok : pb_Tok cX16_canBeWorkedOn tX16_canBeWorkedOn := pb_Tok.cons dX16_canBeWorkedOn_0 rfl (pb_Tok.cons dX16_canBeWorkedOn_1 rfl pb_Tok.nil)
theorem dX17_canBeWorkedOn_0 : decode cX17_canBeWorkedOn 0 = .ok (.iconst 0, 1) := by decide +kernel
theorem dX17_canBeWorkedOn_1 : decode cX17_canBeWorkedOn 1 = .ok (.ireturn, 1) := by decide +kernel
def tX17_canBeWorkedOn : pb_T := [(0, .iconst 0, 1, 0), (1, .ireturn, 2, 0)]
theorem tX17_canBeWorkedOn_ok : pb_Tok cX17_canBeWorkedOn tX17_canBeWorkedOn := pb_Tok.cons dX17_canBeWorkedOn_0 rfl (pb_Tok.cons dX17_canBeWorkedOn_1 rfl pb_Tok.nil)
