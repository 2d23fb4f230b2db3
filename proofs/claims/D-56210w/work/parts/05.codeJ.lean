set_option maxRecDepth 100000
theorem dJ0_init_0 : decode cJ0_init 0 = .ok (.aload_n 0, 1) := by decide +kernel
theorem dJ0_init_1 : decode cJ0_init 1 = .ok (.invokespecial 1, 3) := by decide +kernel
theorem dJ0_init_4 : decode cJ0_init 4 = .ok (.return_, 1) := by decide +kernel
def tJ0_init : pb_T := [(0, .aload_n 0, 1, 0), (1, .invokespecial 1, 4, 0), (4, .return_, 5, 0)]
theorem tJ0_init_ok : pb_Tok cJ0_init tJ0_init := pb_Tok.cons dJ0_init_0 rfl (pb_Tok.cons dJ0_init_1 rfl (pb_Tok.cons dJ0_init_4 rfl pb_Tok.nil))
def dkwJ1_init_0 : List UInt8 := [42, 183, 0, 1, 42, 3, 181, 0, 7, 177]
abbrev dktJ1_init_0 : List UInt8 := dkwJ1_init_0 ++ []
theorem dksJ1_init_0 : cJ1_init.data.toList.drop 0 = dktJ1_init_0 := by decide +kernel
theorem dJ1_init_0 : decode cJ1_init 0 = .ok (.aload_n 0, 1) := dk_42 (dk_at dksJ1_init_0 0 rfl rfl)
theorem dJ1_init_1 : decode cJ1_init 1 = .ok (.invokespecial 1, 3) := dk_183 0 1 (dk_at dksJ1_init_0 1 rfl rfl)
theorem dJ1_init_4 : decode cJ1_init 4 = .ok (.aload_n 0, 1) := dk_42 (dk_at dksJ1_init_0 4 rfl rfl)
theorem dJ1_init_5 : decode cJ1_init 5 = .ok (.iconst 0, 1) := dk_3 (dk_at dksJ1_init_0 5 rfl rfl)
theorem dJ1_init_6 : decode cJ1_init 6 = .ok (.putfield 7, 3) := dk_181 0 7 (dk_at dksJ1_init_0 6 rfl rfl)
theorem dJ1_init_9 : decode cJ1_init 9 = .ok (.return_, 1) := dk_177 (dk_at dksJ1_init_0 9 rfl rfl)
def tJ1_init : pb_T := [(0, .aload_n 0, 1, 0), (1, .invokespecial 1, 4, 0), (4, .aload_n 0, 5, 0), (5, .iconst 0, 6, 0), (6, .putfield 7, 9, 0), (9, .return_, 10, 0)]
theorem tJ1_init_ok : pb_Tok cJ1_init tJ1_init := pb_Tok.cons dJ1_init_0 rfl (pb_Tok.cons dJ1_init_1 rfl (pb_Tok.cons dJ1_init_4 rfl (pb_Tok.cons dJ1_init_5 rfl (pb_Tok.cons dJ1_init_6 rfl (pb_Tok.cons dJ1_init_9 rfl pb_Tok.nil)))))
def dkwJ2_init_0 : List UInt8 := [42, 183, 0, 1, 42, 178, 0, 39, 181, 0, 9, 177]
abbrev dktJ2_init_0 : List UInt8 := dkwJ2_init_0 ++ []
theorem dksJ2_init_0 : cJ2_init.data.toList.drop 0 = dktJ2_init_0 := by decide +kernel
theorem dJ2_init_0 : decode cJ2_init 0 = .ok (.aload_n 0, 1) := dk_42 (dk_at dksJ2_init_0 0 rfl rfl)
theorem dJ2_init_1 : decode cJ2_init 1 = .ok (.invokespecial 1, 3) := dk_183 0 1 (dk_at dksJ2_init_0 1 rfl rfl)
theorem dJ2_init_4 : decode cJ2_init 4 = .ok (.aload_n 0, 1) := dk_42 (dk_at dksJ2_init_0 4 rfl rfl)
theorem dJ2_init_5 : decode cJ2_init 5 = .ok (.getstatic 39, 3) := dk_178 0 39 (dk_at dksJ2_init_0 5 rfl rfl)
theorem dJ2_init_8 : decode cJ2_init 8 = .ok (.putfield 9, 3) := dk_181 0 9 (dk_at dksJ2_init_0 8 rfl rfl)
theorem dJ2_init_11 : decode cJ2_init 11 = .ok (.return_, 1) := dk_177 (dk_at dksJ2_init_0 11 rfl rfl)
theorem dJ2_size_0 : decode cJ2_size 0 = .ok (.aload_n 0, 1) := by decide +kernel
theorem dJ2_size_1 : decode cJ2_size 1 = .ok (.getfield 48, 3) := by decide +kernel
theorem dJ2_size_4 : decode cJ2_size 4 = .ok (.ireturn, 1) := by decide +kernel
def dkwJ2_get_0 : List UInt8 := [27, 42, 180, 0, 48, 184, 0, 118, 87, 42, 27, 182, 0, 123, 176]
abbrev dktJ2_get_0 : List UInt8 := dkwJ2_get_0 ++ []
theorem dksJ2_get_0 : cJ2_get.data.toList.drop 0 = dktJ2_get_0 := by decide +kernel
theorem dJ2_get_0 : decode cJ2_get 0 = .ok (.iload_n 1, 1) := dk_27 (dk_at dksJ2_get_0 0 rfl rfl)
theorem dJ2_get_1 : decode cJ2_get 1 = .ok (.aload_n 0, 1) := dk_42 (dk_at dksJ2_get_0 1 rfl rfl)
theorem dJ2_get_2 : decode cJ2_get 2 = .ok (.getfield 48, 3) := dk_180 0 48 (dk_at dksJ2_get_0 2 rfl rfl)
theorem dJ2_get_5 : decode cJ2_get 5 = .ok (.invokestatic 118, 3) := dk_184 0 118 (dk_at dksJ2_get_0 5 rfl rfl)
theorem dJ2_get_8 : decode cJ2_get 8 = .ok (.pop, 1) := dk_87 (dk_at dksJ2_get_0 8 rfl rfl)
theorem dJ2_get_9 : decode cJ2_get 9 = .ok (.aload_n 0, 1) := dk_42 (dk_at dksJ2_get_0 9 rfl rfl)
theorem dJ2_get_10 : decode cJ2_get 10 = .ok (.iload_n 1, 1) := dk_27 (dk_at dksJ2_get_0 10 rfl rfl)
theorem dJ2_get_11 : decode cJ2_get 11 = .ok (.invokevirtual 123, 3) := dk_182 0 123 (dk_at dksJ2_get_0 11 rfl rfl)
theorem dJ2_get_14 : decode cJ2_get 14 = .ok (.areturn, 1) := dk_176 (dk_at dksJ2_get_0 14 rfl rfl)
def dkwJ2_elementData_0 : List UInt8 := [42, 180, 0, 9, 27, 50, 176]
abbrev dktJ2_elementData_0 : List UInt8 := dkwJ2_elementData_0 ++ []
theorem dksJ2_elementData_0 : cJ2_elementData.data.toList.drop 0 = dktJ2_elementData_0 := by decide +kernel
theorem dJ2_elementData_0 : decode cJ2_elementData 0 = .ok (.aload_n 0, 1) := dk_42 (dk_at dksJ2_elementData_0 0 rfl rfl)
theorem dJ2_elementData_1 : decode cJ2_elementData 1 = .ok (.getfield 9, 3) := dk_180 0 9 (dk_at dksJ2_elementData_0 1 rfl rfl)
theorem dJ2_elementData_4 : decode cJ2_elementData 4 = .ok (.iload_n 1, 1) := dk_27 (dk_at dksJ2_elementData_0 4 rfl rfl)
theorem dJ2_elementData_5 : decode cJ2_elementData 5 = .ok (.aaload, 1) := dk_50 (dk_at dksJ2_elementData_0 5 rfl rfl)
theorem dJ2_elementData_6 : decode cJ2_elementData 6 = .ok (.areturn, 1) := dk_176 (dk_at dksJ2_elementData_0 6 rfl rfl)
def dkwJ2_add_1 : List UInt8 := [172]
abbrev dktJ2_add_1 : List UInt8 := dkwJ2_add_1 ++ []
def dkwJ2_add_0 : List UInt8 := [42, 89, 180, 0, 63, 4, 96, 181, 0, 63, 42, 43, 42, 180, 0, 9, 42, 180, 0, 48, 182, 0, 131, 4]
abbrev dktJ2_add_0 : List UInt8 := dkwJ2_add_0 ++ dktJ2_add_1
theorem dksJ2_add_0 : cJ2_add.data.toList.drop 0 = dktJ2_add_0 := by decide +kernel
theorem dksJ2_add_1 : cJ2_add.data.toList.drop 24 = dktJ2_add_1 := dk_seg dksJ2_add_0 24 rfl rfl
theorem dJ2_add_0 : decode cJ2_add 0 = .ok (.aload_n 0, 1) := dk_42 (dk_at dksJ2_add_0 0 rfl rfl)
theorem dJ2_add_1 : decode cJ2_add 1 = .ok (.dup, 1) := dk_89 (dk_at dksJ2_add_0 1 rfl rfl)
theorem dJ2_add_2 : decode cJ2_add 2 = .ok (.getfield 63, 3) := dk_180 0 63 (dk_at dksJ2_add_0 2 rfl rfl)
theorem dJ2_add_5 : decode cJ2_add 5 = .ok (.iconst 1, 1) := dk_4 (dk_at dksJ2_add_0 5 rfl rfl)
theorem dJ2_add_6 : decode cJ2_add 6 = .ok (.iadd, 1) := dk_96 (dk_at dksJ2_add_0 6 rfl rfl)
theorem dJ2_add_7 : decode cJ2_add 7 = .ok (.putfield 63, 3) := dk_181 0 63 (dk_at dksJ2_add_0 7 rfl rfl)
theorem dJ2_add_10 : decode cJ2_add 10 = .ok (.aload_n 0, 1) := dk_42 (dk_at dksJ2_add_0 10 rfl rfl)
theorem dJ2_add_11 : decode cJ2_add 11 = .ok (.aload_n 1, 1) := dk_43 (dk_at dksJ2_add_0 11 rfl rfl)
theorem dJ2_add_12 : decode cJ2_add 12 = .ok (.aload_n 0, 1) := dk_42 (dk_at dksJ2_add_0 12 rfl rfl)
theorem dJ2_add_13 : decode cJ2_add 13 = .ok (.getfield 9, 3) := dk_180 0 9 (dk_at dksJ2_add_0 13 rfl rfl)
theorem dJ2_add_16 : decode cJ2_add 16 = .ok (.aload_n 0, 1) := dk_42 (dk_at dksJ2_add_0 16 rfl rfl)
theorem dJ2_add_17 : decode cJ2_add 17 = .ok (.getfield 48, 3) := dk_180 0 48 (dk_at dksJ2_add_0 17 rfl rfl)
theorem dJ2_add_20 : decode cJ2_add 20 = .ok (.invokevirtual 131, 3) := dk_182 0 131 (dk_at dksJ2_add_0 20 rfl rfl)
theorem dJ2_add_23 : decode cJ2_add 23 = .ok (.iconst 1, 1) := dk_4 (dk_at dksJ2_add_0 23 rfl rfl)
theorem dJ2_add_24 : decode cJ2_add 24 = .ok (.ireturn, 1) := dk_172 (dk_at dksJ2_add_1 0 rfl rfl)
def dkwJ2_add_2_0 : List UInt8 := [29, 44, 190, 160, 0, 8, 42, 182, 0, 129, 77, 44, 29, 43, 83, 42, 29, 4, 96, 181, 0, 48, 177]
abbrev dktJ2_add_2_0 : List UInt8 := dkwJ2_add_2_0 ++ []
theorem dksJ2_add_2_0 : cJ2_add_2.data.toList.drop 0 = dktJ2_add_2_0 := by decide +kernel
theorem dJ2_add_2_0 : decode cJ2_add_2 0 = .ok (.iload_n 3, 1) := dk_29 (dk_at dksJ2_add_2_0 0 rfl rfl)
theorem dJ2_add_2_1 : decode cJ2_add_2 1 = .ok (.aload_n 2, 1) := dk_44 (dk_at dksJ2_add_2_0 1 rfl rfl)
theorem dJ2_add_2_2 : decode cJ2_add_2 2 = .ok (.arraylength, 1) := dk_190 (dk_at dksJ2_add_2_0 2 rfl rfl)
theorem dJ2_add_2_3 : decode cJ2_add_2 3 = .ok (.if_icmp .ne 8, 3) := dk_160 0 8 (dk_at dksJ2_add_2_0 3 rfl rfl)
theorem dJ2_add_2_6 : decode cJ2_add_2 6 = .ok (.aload_n 0, 1) := dk_42 (dk_at dksJ2_add_2_0 6 rfl rfl)
theorem dJ2_add_2_7 : decode cJ2_add_2 7 = .ok (.invokevirtual 129, 3) := dk_182 0 129 (dk_at dksJ2_add_2_0 7 rfl rfl)
theorem dJ2_add_2_10 : decode cJ2_add_2 10 = .ok (.astore_n 2, 1) := dk_77 (dk_at dksJ2_add_2_0 10 rfl rfl)
theorem dJ2_add_2_11 : decode cJ2_add_2 11 = .ok (.aload_n 2, 1) := dk_44 (dk_at dksJ2_add_2_0 11 rfl rfl)
theorem dJ2_add_2_12 : decode cJ2_add_2 12 = .ok (.iload_n 3, 1) := dk_29 (dk_at dksJ2_add_2_0 12 rfl rfl)
theorem dJ2_add_2_13 : decode cJ2_add_2 13 = .ok (.aload_n 1, 1) := dk_43 (dk_at dksJ2_add_2_0 13 rfl rfl)
theorem dJ2_add_2_14 : decode cJ2_add_2 14 = .ok (.aastore, 1) := dk_83 (dk_at dksJ2_add_2_0 14 rfl rfl)
theorem dJ2_add_2_15 : decode cJ2_add_2 15 = .ok (.aload_n 0, 1) := dk_42 (dk_at dksJ2_add_2_0 15 rfl rfl)
theorem dJ2_add_2_16 : decode cJ2_add_2 16 = .ok (.iload_n 3, 1) := dk_29 (dk_at dksJ2_add_2_0 16 rfl rfl)
theorem dJ2_add_2_17 : decode cJ2_add_2 17 = .ok (.iconst 1, 1) := dk_4 (dk_at dksJ2_add_2_0 17 rfl rfl)
theorem dJ2_add_2_18 : decode cJ2_add_2 18 = .ok (.iadd, 1) := dk_96 (dk_at dksJ2_add_2_0 18 rfl rfl)
theorem dJ2_add_2_19 : decode cJ2_add_2 19 = .ok (.putfield 48, 3) := dk_181 0 48 (dk_at dksJ2_add_2_0 19 rfl rfl)
theorem dJ2_add_2_22 : decode cJ2_add_2 22 = .ok (.return_, 1) := dk_177 (dk_at dksJ2_add_2_0 22 rfl rfl)
def dkwJ2_grow_0 : List UInt8 := [42, 42, 180, 0, 48, 4, 96, 182, 0, 69, 176]
abbrev dktJ2_grow_0 : List UInt8 := dkwJ2_grow_0 ++ []
theorem dksJ2_grow_0 : cJ2_grow.data.toList.drop 0 = dktJ2_grow_0 := by decide +kernel
theorem dJ2_grow_0 : decode cJ2_grow 0 = .ok (.aload_n 0, 1) := dk_42 (dk_at dksJ2_grow_0 0 rfl rfl)
theorem dJ2_grow_1 : decode cJ2_grow 1 = .ok (.aload_n 0, 1) := dk_42 (dk_at dksJ2_grow_0 1 rfl rfl)
theorem dJ2_grow_2 : decode cJ2_grow 2 = .ok (.getfield 48, 3) := dk_180 0 48 (dk_at dksJ2_grow_0 2 rfl rfl)
theorem dJ2_grow_5 : decode cJ2_grow 5 = .ok (.iconst 1, 1) := dk_4 (dk_at dksJ2_grow_0 5 rfl rfl)
theorem dJ2_grow_6 : decode cJ2_grow 6 = .ok (.iadd, 1) := dk_96 (dk_at dksJ2_grow_0 6 rfl rfl)
theorem dJ2_grow_7 : decode cJ2_grow 7 = .ok (.invokevirtual 69, 3) := dk_182 0 69 (dk_at dksJ2_grow_0 7 rfl rfl)
theorem dJ2_grow_10 : decode cJ2_grow 10 = .ok (.areturn, 1) := dk_176 (dk_at dksJ2_grow_0 10 rfl rfl)
def dkwJ2_grow_2_2 : List UInt8 := [27, 184, 0, 79, 189, 0, 7, 90, 181, 0, 9, 176]
abbrev dktJ2_grow_2_2 : List UInt8 := dkwJ2_grow_2_2 ++ []
def dkwJ2_grow_2_1 : List UInt8 := [28, 4, 122, 184, 0, 73, 62, 42, 42, 180, 0, 9, 29, 184, 0, 66, 90, 181, 0, 9, 176, 42, 16, 10]
abbrev dktJ2_grow_2_1 : List UInt8 := dkwJ2_grow_2_1 ++ dktJ2_grow_2_2
def dkwJ2_grow_2_0 : List UInt8 := [42, 180, 0, 9, 190, 61, 28, 157, 0, 13, 42, 180, 0, 9, 178, 0, 39, 165, 0, 28, 28, 27, 28, 100]
abbrev dktJ2_grow_2_0 : List UInt8 := dkwJ2_grow_2_0 ++ dktJ2_grow_2_1
theorem dksJ2_grow_2_0 : cJ2_grow_2.data.toList.drop 0 = dktJ2_grow_2_0 := by decide +kernel
theorem dksJ2_grow_2_1 : cJ2_grow_2.data.toList.drop 24 = dktJ2_grow_2_1 := dk_seg dksJ2_grow_2_0 24 rfl rfl
theorem dksJ2_grow_2_2 : cJ2_grow_2.data.toList.drop 48 = dktJ2_grow_2_2 := dk_seg dksJ2_grow_2_1 24 rfl rfl
theorem dJ2_grow_2_0 : decode cJ2_grow_2 0 = .ok (.aload_n 0, 1) := dk_42 (dk_at dksJ2_grow_2_0 0 rfl rfl)
theorem dJ2_grow_2_1 : decode cJ2_grow_2 1 = .ok (.getfield 9, 3) := dk_180 0 9 (dk_at dksJ2_grow_2_0 1 rfl rfl)
theorem dJ2_grow_2_4 : decode cJ2_grow_2 4 = .ok (.arraylength, 1) := dk_190 (dk_at dksJ2_grow_2_0 4 rfl rfl)
theorem dJ2_grow_2_5 : decode cJ2_grow_2 5 = .ok (.istore_n 2, 1) := dk_61 (dk_at dksJ2_grow_2_0 5 rfl rfl)
theorem dJ2_grow_2_6 : decode cJ2_grow_2 6 = .ok (.iload_n 2, 1) := dk_28 (dk_at dksJ2_grow_2_0 6 rfl rfl)
theorem dJ2_grow_2_7 : decode cJ2_grow_2 7 = .ok (.ifCond .gt 13, 3) := dk_157 0 13 (dk_at dksJ2_grow_2_0 7 rfl rfl)
theorem dJ2_grow_2_10 : decode cJ2_grow_2 10 = .ok (.aload_n 0, 1) := dk_42 (dk_at dksJ2_grow_2_0 10 rfl rfl)
theorem dJ2_grow_2_11 : decode cJ2_grow_2 11 = .ok (.getfield 9, 3) := dk_180 0 9 (dk_at dksJ2_grow_2_0 11 rfl rfl)
theorem dJ2_grow_2_14 : decode cJ2_grow_2 14 = .ok (.getstatic 39, 3) := dk_178 0 39 (dk_at dksJ2_grow_2_0 14 rfl rfl)
theorem dJ2_grow_2_17 : decode cJ2_grow_2 17 = .ok (.if_acmp .eq 28, 3) := dk_165 0 28 (dk_at dksJ2_grow_2_0 17 rfl rfl)
theorem dJ2_grow_2_20 : decode cJ2_grow_2 20 = .ok (.iload_n 2, 1) := dk_28 (dk_at dksJ2_grow_2_0 20 rfl rfl)
theorem dJ2_grow_2_21 : decode cJ2_grow_2 21 = .ok (.iload_n 1, 1) := dk_27 (dk_at dksJ2_grow_2_0 21 rfl rfl)
theorem dJ2_grow_2_22 : decode cJ2_grow_2 22 = .ok (.iload_n 2, 1) := dk_28 (dk_at dksJ2_grow_2_0 22 rfl rfl)
theorem dJ2_grow_2_23 : decode cJ2_grow_2 23 = .ok (.isub, 1) := dk_100 (dk_at dksJ2_grow_2_0 23 rfl rfl)
theorem dJ2_grow_2_24 : decode cJ2_grow_2 24 = .ok (.iload_n 2, 1) := dk_28 (dk_at dksJ2_grow_2_1 0 rfl rfl)
theorem dJ2_grow_2_25 : decode cJ2_grow_2 25 = .ok (.iconst 1, 1) := dk_4 (dk_at dksJ2_grow_2_1 1 rfl rfl)
theorem dJ2_grow_2_26 : decode cJ2_grow_2 26 = .ok (.ishr, 1) := dk_122 (dk_at dksJ2_grow_2_1 2 rfl rfl)
theorem dJ2_grow_2_27 : decode cJ2_grow_2 27 = .ok (.invokestatic 73, 3) := dk_184 0 73 (dk_at dksJ2_grow_2_1 3 rfl rfl)
theorem dJ2_grow_2_30 : decode cJ2_grow_2 30 = .ok (.istore_n 3, 1) := dk_62 (dk_at dksJ2_grow_2_1 6 rfl rfl)
theorem dJ2_grow_2_31 : decode cJ2_grow_2 31 = .ok (.aload_n 0, 1) := dk_42 (dk_at dksJ2_grow_2_1 7 rfl rfl)
theorem dJ2_grow_2_32 : decode cJ2_grow_2 32 = .ok (.aload_n 0, 1) := dk_42 (dk_at dksJ2_grow_2_1 8 rfl rfl)
theorem dJ2_grow_2_33 : decode cJ2_grow_2 33 = .ok (.getfield 9, 3) := dk_180 0 9 (dk_at dksJ2_grow_2_1 9 rfl rfl)
theorem dJ2_grow_2_36 : decode cJ2_grow_2 36 = .ok (.iload_n 3, 1) := dk_29 (dk_at dksJ2_grow_2_1 12 rfl rfl)
theorem dJ2_grow_2_37 : decode cJ2_grow_2 37 = .ok (.invokestatic 66, 3) := dk_184 0 66 (dk_at dksJ2_grow_2_1 13 rfl rfl)
theorem dJ2_grow_2_40 : decode cJ2_grow_2 40 = .ok (.dup_x1, 1) := dk_90 (dk_at dksJ2_grow_2_1 16 rfl rfl)
theorem dJ2_grow_2_41 : decode cJ2_grow_2 41 = .ok (.putfield 9, 3) := dk_181 0 9 (dk_at dksJ2_grow_2_1 17 rfl rfl)
theorem dJ2_grow_2_44 : decode cJ2_grow_2 44 = .ok (.areturn, 1) := dk_176 (dk_at dksJ2_grow_2_1 20 rfl rfl)
theorem dJ2_grow_2_45 : decode cJ2_grow_2 45 = .ok (.aload_n 0, 1) := dk_42 (dk_at dksJ2_grow_2_1 21 rfl rfl)
theorem dJ2_grow_2_46 : decode cJ2_grow_2 46 = .ok (.bipush 10, 2) := dk_16 10 (dk_at dksJ2_grow_2_1 22 rfl rfl)
theorem dJ2_grow_2_48 : decode cJ2_grow_2 48 = .ok (.iload_n 1, 1) := dk_27 (dk_at dksJ2_grow_2_2 0 rfl rfl)
theorem dJ2_grow_2_49 : decode cJ2_grow_2 49 = .ok (.invokestatic 79, 3) := dk_184 0 79 (dk_at dksJ2_grow_2_2 1 rfl rfl)
theorem dJ2_grow_2_52 : decode cJ2_grow_2 52 = .ok (.anewarray 7, 3) := dk_189 0 7 (dk_at dksJ2_grow_2_2 4 rfl rfl)
theorem dJ2_grow_2_55 : decode cJ2_grow_2 55 = .ok (.dup_x1, 1) := dk_90 (dk_at dksJ2_grow_2_2 7 rfl rfl)
theorem dJ2_grow_2_56 : decode cJ2_grow_2 56 = .ok (.putfield 9, 3) := dk_181 0 9 (dk_at dksJ2_grow_2_2 8 rfl rfl)
theorem dJ2_grow_2_59 : decode cJ2_grow_2 59 = .ok (.areturn, 1) := dk_176 (dk_at dksJ2_grow_2_2 11 rfl rfl)
def dkwJ2_set_0 : List UInt8 := [27, 42, 180, 0, 48, 184, 0, 118, 87, 42, 27, 182, 0, 123, 78, 42, 180, 0, 9, 27, 44, 83, 45, 176]
abbrev dktJ2_set_0 : List UInt8 := dkwJ2_set_0 ++ []
theorem dksJ2_set_0 : cJ2_set.data.toList.drop 0 = dktJ2_set_0 := by decide +kernel
theorem dJ2_set_0 : decode cJ2_set 0 = .ok (.iload_n 1, 1) := dk_27 (dk_at dksJ2_set_0 0 rfl rfl)
theorem dJ2_set_1 : decode cJ2_set 1 = .ok (.aload_n 0, 1) := dk_42 (dk_at dksJ2_set_0 1 rfl rfl)
theorem dJ2_set_2 : decode cJ2_set 2 = .ok (.getfield 48, 3) := dk_180 0 48 (dk_at dksJ2_set_0 2 rfl rfl)
theorem dJ2_set_5 : decode cJ2_set 5 = .ok (.invokestatic 118, 3) := dk_184 0 118 (dk_at dksJ2_set_0 5 rfl rfl)
theorem dJ2_set_8 : decode cJ2_set 8 = .ok (.pop, 1) := dk_87 (dk_at dksJ2_set_0 8 rfl rfl)
theorem dJ2_set_9 : decode cJ2_set 9 = .ok (.aload_n 0, 1) := dk_42 (dk_at dksJ2_set_0 9 rfl rfl)
theorem dJ2_set_10 : decode cJ2_set 10 = .ok (.iload_n 1, 1) := dk_27 (dk_at dksJ2_set_0 10 rfl rfl)
theorem dJ2_set_11 : decode cJ2_set 11 = .ok (.invokevirtual 123, 3) := dk_182 0 123 (dk_at dksJ2_set_0 11 rfl rfl)
theorem dJ2_set_14 : decode cJ2_set 14 = .ok (.astore_n 3, 1) := dk_78 (dk_at dksJ2_set_0 14 rfl rfl)
theorem dJ2_set_15 : decode cJ2_set 15 = .ok (.aload_n 0, 1) := dk_42 (dk_at dksJ2_set_0 15 rfl rfl)
theorem dJ2_set_16 : decode cJ2_set 16 = .ok (.getfield 9, 3) := dk_180 0 9 (dk_at dksJ2_set_0 16 rfl rfl)
theorem dJ2_set_19 : decode cJ2_set 19 = .ok (.iload_n 1, 1) := dk_27 (dk_at dksJ2_set_0 19 rfl rfl)
theorem dJ2_set_20 : decode cJ2_set 20 = .ok (.aload_n 2, 1) := dk_44 (dk_at dksJ2_set_0 20 rfl rfl)
theorem dJ2_set_21 : decode cJ2_set 21 = .ok (.aastore, 1) := dk_83 (dk_at dksJ2_set_0 21 rfl rfl)
theorem dJ2_set_22 : decode cJ2_set 22 = .ok (.aload_n 3, 1) := dk_45 (dk_at dksJ2_set_0 22 rfl rfl)
theorem dJ2_set_23 : decode cJ2_set 23 = .ok (.areturn, 1) := dk_176 (dk_at dksJ2_set_0 23 rfl rfl)
def dkwJ2_remove_3 : List UInt8 := [182, 0, 144, 4, 172]
abbrev dktJ2_remove_3 : List UInt8 := dkwJ2_remove_3 ++ []
def dkwJ2_remove_2 : List UInt8 := [21, 4, 50, 182, 0, 93, 153, 0, 6, 167, 0, 11, 132, 4, 1, 167, 255, 233, 3, 172, 42, 44, 21, 4]
abbrev dktJ2_remove_2 : List UInt8 := dkwJ2_remove_2 ++ dktJ2_remove_3
def dkwJ2_remove_1 : List UInt8 := [21, 4, 50, 199, 0, 6, 167, 0, 37, 132, 4, 1, 167, 255, 237, 21, 4, 29, 162, 0, 23, 43, 44]
abbrev dktJ2_remove_1 : List UInt8 := dkwJ2_remove_1 ++ dktJ2_remove_2
def dkwJ2_remove_0 : List UInt8 := [42, 180, 0, 9, 77, 42, 180, 0, 48, 62, 3, 54, 4, 43, 199, 0, 25, 21, 4, 29, 162, 0, 45, 44]
abbrev dktJ2_remove_0 : List UInt8 := dkwJ2_remove_0 ++ dktJ2_remove_1
theorem dksJ2_remove_0 : cJ2_remove.data.toList.drop 0 = dktJ2_remove_0 := by decide +kernel
theorem dksJ2_remove_1 : cJ2_remove.data.toList.drop 24 = dktJ2_remove_1 := dk_seg dksJ2_remove_0 24 rfl rfl
theorem dksJ2_remove_2 : cJ2_remove.data.toList.drop 47 = dktJ2_remove_2 := dk_seg dksJ2_remove_1 23 rfl rfl
theorem dksJ2_remove_3 : cJ2_remove.data.toList.drop 71 = dktJ2_remove_3 := dk_seg dksJ2_remove_2 24 rfl rfl
theorem dJ2_remove_0 : decode cJ2_remove 0 = .ok (.aload_n 0, 1) := dk_42 (dk_at dksJ2_remove_0 0 rfl rfl)
theorem dJ2_remove_1 : decode cJ2_remove 1 = .ok (.getfield 9, 3) := dk_180 0 9 (dk_at dksJ2_remove_0 1 rfl rfl)
theorem dJ2_remove_4 : decode cJ2_remove 4 = .ok (.astore_n 2, 1) := dk_77 (dk_at dksJ2_remove_0 4 rfl rfl)
theorem dJ2_remove_5 : decode cJ2_remove 5 = .ok (.aload_n 0, 1) := dk_42 (dk_at dksJ2_remove_0 5 rfl rfl)
theorem dJ2_remove_6 : decode cJ2_remove 6 = .ok (.getfield 48, 3) := dk_180 0 48 (dk_at dksJ2_remove_0 6 rfl rfl)
theorem dJ2_remove_9 : decode cJ2_remove 9 = .ok (.istore_n 3, 1) := dk_62 (dk_at dksJ2_remove_0 9 rfl rfl)
theorem dJ2_remove_10 : decode cJ2_remove 10 = .ok (.iconst 0, 1) := dk_3 (dk_at dksJ2_remove_0 10 rfl rfl)
theorem dJ2_remove_11 : decode cJ2_remove 11 = .ok (.istore 4, 2) := dk_54 4 (dk_at dksJ2_remove_0 11 rfl rfl)
theorem dJ2_remove_13 : decode cJ2_remove 13 = .ok (.aload_n 1, 1) := dk_43 (dk_at dksJ2_remove_0 13 rfl rfl)
theorem dJ2_remove_14 : decode cJ2_remove 14 = .ok (.ifnonnull 25, 3) := dk_199 0 25 (dk_at dksJ2_remove_0 14 rfl rfl)
theorem dJ2_remove_17 : decode cJ2_remove 17 = .ok (.iload 4, 2) := dk_21 4 (dk_at dksJ2_remove_0 17 rfl rfl)
theorem dJ2_remove_19 : decode cJ2_remove 19 = .ok (.iload_n 3, 1) := dk_29 (dk_at dksJ2_remove_0 19 rfl rfl)
theorem dJ2_remove_20 : decode cJ2_remove 20 = .ok (.if_icmp .ge 45, 3) := dk_162 0 45 (dk_at dksJ2_remove_0 20 rfl rfl)
theorem dJ2_remove_23 : decode cJ2_remove 23 = .ok (.aload_n 2, 1) := dk_44 (dk_at dksJ2_remove_0 23 rfl rfl)
theorem dJ2_remove_24 : decode cJ2_remove 24 = .ok (.iload 4, 2) := dk_21 4 (dk_at dksJ2_remove_1 0 rfl rfl)
theorem dJ2_remove_26 : decode cJ2_remove 26 = .ok (.aaload, 1) := dk_50 (dk_at dksJ2_remove_1 2 rfl rfl)
theorem dJ2_remove_27 : decode cJ2_remove 27 = .ok (.ifnonnull 6, 3) := dk_199 0 6 (dk_at dksJ2_remove_1 3 rfl rfl)
theorem dJ2_remove_30 : decode cJ2_remove 30 = .ok (.goto 37, 3) := dk_167 0 37 (dk_at dksJ2_remove_1 6 rfl rfl)
theorem dJ2_remove_33 : decode cJ2_remove 33 = .ok (.iinc 4 1, 3) := dk_132 4 1 (dk_at dksJ2_remove_1 9 rfl rfl)
theorem dJ2_remove_36 : decode cJ2_remove 36 = .ok (.goto (-19), 3) := dk_167 255 237 (dk_at dksJ2_remove_1 12 rfl rfl)
theorem dJ2_remove_39 : decode cJ2_remove 39 = .ok (.iload 4, 2) := dk_21 4 (dk_at dksJ2_remove_1 15 rfl rfl)
theorem dJ2_remove_41 : decode cJ2_remove 41 = .ok (.iload_n 3, 1) := dk_29 (dk_at dksJ2_remove_1 17 rfl rfl)
theorem dJ2_remove_42 : decode cJ2_remove 42 = .ok (.if_icmp .ge 23, 3) := dk_162 0 23 (dk_at dksJ2_remove_1 18 rfl rfl)
theorem dJ2_remove_45 : decode cJ2_remove 45 = .ok (.aload_n 1, 1) := dk_43 (dk_at dksJ2_remove_1 21 rfl rfl)
theorem dJ2_remove_46 : decode cJ2_remove 46 = .ok (.aload_n 2, 1) := dk_44 (dk_at dksJ2_remove_1 22 rfl rfl)
theorem dJ2_remove_47 : decode cJ2_remove 47 = .ok (.iload 4, 2) := dk_21 4 (dk_at dksJ2_remove_2 0 rfl rfl)
theorem dJ2_remove_49 : decode cJ2_remove 49 = .ok (.aaload, 1) := dk_50 (dk_at dksJ2_remove_2 2 rfl rfl)
theorem dJ2_remove_50 : decode cJ2_remove 50 = .ok (.invokevirtual 93, 3) := dk_182 0 93 (dk_at dksJ2_remove_2 3 rfl rfl)
theorem dJ2_remove_53 : decode cJ2_remove 53 = .ok (.ifCond .eq 6, 3) := dk_153 0 6 (dk_at dksJ2_remove_2 6 rfl rfl)
theorem dJ2_remove_56 : decode cJ2_remove 56 = .ok (.goto 11, 3) := dk_167 0 11 (dk_at dksJ2_remove_2 9 rfl rfl)
theorem dJ2_remove_59 : decode cJ2_remove 59 = .ok (.iinc 4 1, 3) := dk_132 4 1 (dk_at dksJ2_remove_2 12 rfl rfl)
theorem dJ2_remove_62 : decode cJ2_remove 62 = .ok (.goto (-23), 3) := dk_167 255 233 (dk_at dksJ2_remove_2 15 rfl rfl)
theorem dJ2_remove_65 : decode cJ2_remove 65 = .ok (.iconst 0, 1) := dk_3 (dk_at dksJ2_remove_2 18 rfl rfl)
theorem dJ2_remove_66 : decode cJ2_remove 66 = .ok (.ireturn, 1) := dk_172 (dk_at dksJ2_remove_2 19 rfl rfl)
theorem dJ2_remove_67 : decode cJ2_remove 67 = .ok (.aload_n 0, 1) := dk_42 (dk_at dksJ2_remove_2 20 rfl rfl)
theorem dJ2_remove_68 : decode cJ2_remove 68 = .ok (.aload_n 2, 1) := dk_44 (dk_at dksJ2_remove_2 21 rfl rfl)
theorem dJ2_remove_69 : decode cJ2_remove 69 = .ok (.iload 4, 2) := dk_21 4 (dk_at dksJ2_remove_2 22 rfl rfl)
theorem dJ2_remove_71 : decode cJ2_remove 71 = .ok (.invokevirtual 144, 3) := dk_182 0 144 (dk_at dksJ2_remove_3 0 rfl rfl)
theorem dJ2_remove_74 : decode cJ2_remove 74 = .ok (.iconst 1, 1) := dk_4 (dk_at dksJ2_remove_3 3 rfl rfl)
theorem dJ2_remove_75 : decode cJ2_remove 75 = .ok (.ireturn, 1) := dk_172 (dk_at dksJ2_remove_3 4 rfl rfl)
def dkwJ2_fastRemove_1 : List UInt8 := [4, 96, 43, 28, 29, 28, 100, 184, 0, 112, 43, 42, 29, 90, 181, 0, 48, 1, 83, 177]
abbrev dktJ2_fastRemove_1 : List UInt8 := dkwJ2_fastRemove_1 ++ []
def dkwJ2_fastRemove_0 : List UInt8 := [42, 89, 180, 0, 63, 4, 96, 181, 0, 63, 42, 180, 0, 48, 4, 100, 89, 62, 28, 164, 0, 15, 43, 28]
abbrev dktJ2_fastRemove_0 : List UInt8 := dkwJ2_fastRemove_0 ++ dktJ2_fastRemove_1
theorem dksJ2_fastRemove_0 : cJ2_fastRemove.data.toList.drop 0 = dktJ2_fastRemove_0 := by decide +kernel
theorem dksJ2_fastRemove_1 : cJ2_fastRemove.data.toList.drop 24 = dktJ2_fastRemove_1 := dk_seg dksJ2_fastRemove_0 24 rfl rfl
theorem dJ2_fastRemove_0 : decode cJ2_fastRemove 0 = .ok (.aload_n 0, 1) := dk_42 (dk_at dksJ2_fastRemove_0 0 rfl rfl)
theorem dJ2_fastRemove_1 : decode cJ2_fastRemove 1 = .ok (.dup, 1) := dk_89 (dk_at dksJ2_fastRemove_0 1 rfl rfl)
theorem dJ2_fastRemove_2 : decode cJ2_fastRemove 2 = .ok (.getfield 63, 3) := dk_180 0 63 (dk_at dksJ2_fastRemove_0 2 rfl rfl)
theorem dJ2_fastRemove_5 : decode cJ2_fastRemove 5 = .ok (.iconst 1, 1) := dk_4 (dk_at dksJ2_fastRemove_0 5 rfl rfl)
theorem dJ2_fastRemove_6 : decode cJ2_fastRemove 6 = .ok (.iadd, 1) := dk_96 (dk_at dksJ2_fastRemove_0 6 rfl rfl)
theorem dJ2_fastRemove_7 : decode cJ2_fastRemove 7 = .ok (.putfield 63, 3) := dk_181 0 63 (dk_at dksJ2_fastRemove_0 7 rfl rfl)
theorem dJ2_fastRemove_10 : decode cJ2_fastRemove 10 = .ok (.aload_n 0, 1) := dk_42 (dk_at dksJ2_fastRemove_0 10 rfl rfl)
theorem dJ2_fastRemove_11 : decode cJ2_fastRemove 11 = .ok (.getfield 48, 3) := dk_180 0 48 (dk_at dksJ2_fastRemove_0 11 rfl rfl)
theorem dJ2_fastRemove_14 : decode cJ2_fastRemove 14 = .ok (.iconst 1, 1) := dk_4 (dk_at dksJ2_fastRemove_0 14 rfl rfl)
theorem dJ2_fastRemove_15 : decode cJ2_fastRemove 15 = .ok (.isub, 1) := dk_100 (dk_at dksJ2_fastRemove_0 15 rfl rfl)
theorem dJ2_fastRemove_16 : decode cJ2_fastRemove 16 = .ok (.dup, 1) := dk_89 (dk_at dksJ2_fastRemove_0 16 rfl rfl)
theorem dJ2_fastRemove_17 : decode cJ2_fastRemove 17 = .ok (.istore_n 3, 1) := dk_62 (dk_at dksJ2_fastRemove_0 17 rfl rfl)
theorem dJ2_fastRemove_18 : decode cJ2_fastRemove 18 = .ok (.iload_n 2, 1) := dk_28 (dk_at dksJ2_fastRemove_0 18 rfl rfl)
theorem dJ2_fastRemove_19 : decode cJ2_fastRemove 19 = .ok (.if_icmp .le 15, 3) := dk_164 0 15 (dk_at dksJ2_fastRemove_0 19 rfl rfl)
theorem dJ2_fastRemove_22 : decode cJ2_fastRemove 22 = .ok (.aload_n 1, 1) := dk_43 (dk_at dksJ2_fastRemove_0 22 rfl rfl)
theorem dJ2_fastRemove_23 : decode cJ2_fastRemove 23 = .ok (.iload_n 2, 1) := dk_28 (dk_at dksJ2_fastRemove_0 23 rfl rfl)
theorem dJ2_fastRemove_24 : decode cJ2_fastRemove 24 = .ok (.iconst 1, 1) := dk_4 (dk_at dksJ2_fastRemove_1 0 rfl rfl)
theorem dJ2_fastRemove_25 : decode cJ2_fastRemove 25 = .ok (.iadd, 1) := dk_96 (dk_at dksJ2_fastRemove_1 1 rfl rfl)
theorem dJ2_fastRemove_26 : decode cJ2_fastRemove 26 = .ok (.aload_n 1, 1) := dk_43 (dk_at dksJ2_fastRemove_1 2 rfl rfl)
theorem dJ2_fastRemove_27 : decode cJ2_fastRemove 27 = .ok (.iload_n 2, 1) := dk_28 (dk_at dksJ2_fastRemove_1 3 rfl rfl)
theorem dJ2_fastRemove_28 : decode cJ2_fastRemove 28 = .ok (.iload_n 3, 1) := dk_29 (dk_at dksJ2_fastRemove_1 4 rfl rfl)
theorem dJ2_fastRemove_29 : decode cJ2_fastRemove 29 = .ok (.iload_n 2, 1) := dk_28 (dk_at dksJ2_fastRemove_1 5 rfl rfl)
theorem dJ2_fastRemove_30 : decode cJ2_fastRemove 30 = .ok (.isub, 1) := dk_100 (dk_at dksJ2_fastRemove_1 6 rfl rfl)
theorem dJ2_fastRemove_31 : decode cJ2_fastRemove 31 = .ok (.invokestatic 112, 3) := dk_184 0 112 (dk_at dksJ2_fastRemove_1 7 rfl rfl)
theorem dJ2_fastRemove_34 : decode cJ2_fastRemove 34 = .ok (.aload_n 1, 1) := dk_43 (dk_at dksJ2_fastRemove_1 10 rfl rfl)
theorem dJ2_fastRemove_35 : decode cJ2_fastRemove 35 = .ok (.aload_n 0, 1) := dk_42 (dk_at dksJ2_fastRemove_1 11 rfl rfl)
theorem dJ2_fastRemove_36 : decode cJ2_fastRemove 36 = .ok (.iload_n 3, 1) := dk_29 (dk_at dksJ2_fastRemove_1 12 rfl rfl)
theorem dJ2_fastRemove_37 : decode cJ2_fastRemove 37 = .ok (.dup_x1, 1) := dk_90 (dk_at dksJ2_fastRemove_1 13 rfl rfl)
theorem dJ2_fastRemove_38 : decode cJ2_fastRemove 38 = .ok (.putfield 48, 3) := dk_181 0 48 (dk_at dksJ2_fastRemove_1 14 rfl rfl)
theorem dJ2_fastRemove_41 : decode cJ2_fastRemove 41 = .ok (.aconst_null, 1) := dk_1 (dk_at dksJ2_fastRemove_1 17 rfl rfl)
theorem dJ2_fastRemove_42 : decode cJ2_fastRemove 42 = .ok (.aastore, 1) := dk_83 (dk_at dksJ2_fastRemove_1 18 rfl rfl)
theorem dJ2_fastRemove_43 : decode cJ2_fastRemove 43 = .ok (.return_, 1) := dk_177 (dk_at dksJ2_fastRemove_1 19 rfl rfl)
def dkwJ2_isEmpty_0 : List UInt8 := [42, 180, 0, 48, 154, 0, 7, 4, 167, 0, 4, 3, 172]
abbrev dktJ2_isEmpty_0 : List UInt8 := dkwJ2_isEmpty_0 ++ []
theorem dksJ2_isEmpty_0 : cJ2_isEmpty.data.toList.drop 0 = dktJ2_isEmpty_0 := by decide +kernel
theorem dJ2_isEmpty_0 : decode cJ2_isEmpty 0 = .ok (.aload_n 0, 1) := dk_42 (dk_at dksJ2_isEmpty_0 0 rfl rfl)
theorem dJ2_isEmpty_1 : decode cJ2_isEmpty 1 = .ok (.getfield 48, 3) := dk_180 0 48 (dk_at dksJ2_isEmpty_0 1 rfl rfl)
theorem dJ2_isEmpty_4 : decode cJ2_isEmpty 4 = .ok (.ifCond .ne 7, 3) := dk_154 0 7 (dk_at dksJ2_isEmpty_0 4 rfl rfl)
theorem dJ2_isEmpty_7 : decode cJ2_isEmpty 7 = .ok (.iconst 1, 1) := dk_4 (dk_at dksJ2_isEmpty_0 7 rfl rfl)
theorem dJ2_isEmpty_8 : decode cJ2_isEmpty 8 = .ok (.goto 4, 3) := dk_167 0 4 (dk_at dksJ2_isEmpty_0 8 rfl rfl)
theorem dJ2_isEmpty_11 : decode cJ2_isEmpty 11 = .ok (.iconst 0, 1) := dk_3 (dk_at dksJ2_isEmpty_0 11 rfl rfl)
theorem dJ2_isEmpty_12 : decode cJ2_isEmpty 12 = .ok (.ireturn, 1) := dk_172 (dk_at dksJ2_isEmpty_0 12 rfl rfl)
def tJ2_init : pb_T := [(0, .aload_n 0, 1, 0), (1, .invokespecial 1, 4, 0), (4, .aload_n 0, 5, 0), (5, .getstatic 39, 8, 0), (8, .putfield 9, 11, 0), (11, .return_, 12, 0)]
theorem tJ2_init_ok : pb_Tok cJ2_init tJ2_init := pb_Tok.cons dJ2_init_0 rfl (pb_Tok.cons dJ2_init_1 rfl (pb_Tok.cons dJ2_init_4 rfl (pb_Tok.cons dJ2_init_5 rfl (pb_Tok.cons dJ2_init_8 rfl (pb_Tok.cons dJ2_init_11 rfl pb_Tok.nil)))))
def tJ2_size : pb_T := [(0, .aload_n 0, 1, 0), (1, .getfield 48, 4, 0), (4, .ireturn, 5, 0)]
theorem tJ2_size_ok : pb_Tok cJ2_size tJ2_size := pb_Tok.cons dJ2_size_0 rfl (pb_Tok.cons dJ2_size_1 rfl (pb_Tok.cons dJ2_size_4 rfl pb_Tok.nil))
def tJ2_get : pb_T := [(0, .iload_n 1, 1, 0), (1, .aload_n 0, 2, 0), (2, .getfield 48, 5, 0), (5, .invokestatic 118, 8, 0), (8, .pop, 9, 0), (9, .aload_n 0, 10, 0), (10, .iload_n 1, 11, 0), (11, .invokevirtual 123, 14, 0), (14, .areturn, 15, 0)]
theorem tJ2_get_ok : pb_Tok cJ2_get tJ2_get := pb_Tok.cons dJ2_get_0 rfl (pb_Tok.cons dJ2_get_1 rfl (pb_Tok.cons dJ2_get_2 rfl (pb_Tok.cons dJ2_get_5 rfl (pb_Tok.cons dJ2_get_8 rfl (pb_Tok.cons dJ2_get_9 rfl (pb_Tok.cons dJ2_get_10 rfl (pb_Tok.cons dJ2_get_11 rfl (pb_Tok.cons dJ2_get_14 rfl pb_Tok.nil))))))))
def tJ2_elementData : pb_T := [(0, .aload_n 0, 1, 0), (1, .getfield 9, 4, 0), (4, .iload_n 1, 5, 0), (5, .aaload, 6, 0), (6, .areturn, 7, 0)]
theorem tJ2_elementData_ok : pb_Tok cJ2_elementData tJ2_elementData := pb_Tok.cons dJ2_elementData_0 rfl (pb_Tok.cons dJ2_elementData_1 rfl (pb_Tok.cons dJ2_elementData_4 rfl (pb_Tok.cons dJ2_elementData_5 rfl (pb_Tok.cons dJ2_elementData_6 rfl pb_Tok.nil))))
def tJ2_add : pb_T := [(0, .aload_n 0, 1, 0), (1, .dup, 2, 0), (2, .getfield 63, 5, 0), (5, .iconst 1, 6, 0), (6, .iadd, 7, 0), (7, .putfield 63, 10, 0), (10, .aload_n 0, 11, 0), (11, .aload_n 1, 12, 0), (12, .aload_n 0, 13, 0), (13, .getfield 9, 16, 0), (16, .aload_n 0, 17, 0), (17, .getfield 48, 20, 0), (20, .invokevirtual 131, 23, 0), (23, .iconst 1, 24, 0), (24, .ireturn, 25, 0)]
theorem tJ2_add_ok : pb_Tok cJ2_add tJ2_add := pb_Tok.cons dJ2_add_0 rfl (pb_Tok.cons dJ2_add_1 rfl (pb_Tok.cons dJ2_add_2 rfl (pb_Tok.cons dJ2_add_5 rfl (pb_Tok.cons dJ2_add_6 rfl (pb_Tok.cons dJ2_add_7 rfl (pb_Tok.cons dJ2_add_10 rfl (pb_Tok.cons dJ2_add_11 rfl (pb_Tok.cons dJ2_add_12 rfl (pb_Tok.cons dJ2_add_13 rfl (pb_Tok.cons dJ2_add_16 rfl (pb_Tok.cons dJ2_add_17 rfl (pb_Tok.cons dJ2_add_20 rfl (pb_Tok.cons dJ2_add_23 rfl (pb_Tok.cons dJ2_add_24 rfl pb_Tok.nil))))))))))))))
def tJ2_add_2 : pb_T := [(0, .iload_n 3, 1, 0), (1, .aload_n 2, 2, 0), (2, .arraylength, 3, 0), (3, .if_icmp .ne 8, 6, 11), (6, .aload_n 0, 7, 0), (7, .invokevirtual 129, 10, 0), (10, .astore_n 2, 11, 0), (11, .aload_n 2, 12, 0), (12, .iload_n 3, 13, 0), (13, .aload_n 1, 14, 0), (14, .aastore, 15, 0), (15, .aload_n 0, 16, 0), (16, .iload_n 3, 17, 0), (17, .iconst 1, 18, 0), (18, .iadd, 19, 0), (19, .putfield 48, 22, 0), (22, .return_, 23, 0)]
theorem tJ2_add_2_ok : pb_Tok cJ2_add_2 tJ2_add_2 := pb_Tok.cons dJ2_add_2_0 rfl (pb_Tok.cons dJ2_add_2_1 rfl (pb_Tok.cons dJ2_add_2_2 rfl (pb_Tok.cons dJ2_add_2_3 rfl (pb_Tok.cons dJ2_add_2_6 rfl (pb_Tok.cons dJ2_add_2_7 rfl (pb_Tok.cons dJ2_add_2_10 rfl (pb_Tok.cons dJ2_add_2_11 rfl (pb_Tok.cons dJ2_add_2_12 rfl (pb_Tok.cons dJ2_add_2_13 rfl (pb_Tok.cons dJ2_add_2_14 rfl (pb_Tok.cons dJ2_add_2_15 rfl (pb_Tok.cons dJ2_add_2_16 rfl (pb_Tok.cons dJ2_add_2_17 rfl (pb_Tok.cons dJ2_add_2_18 rfl (pb_Tok.cons dJ2_add_2_19 rfl (pb_Tok.cons dJ2_add_2_22 rfl pb_Tok.nil))))))))))))))))
def tJ2_grow : pb_T := [(0, .aload_n 0, 1, 0), (1, .aload_n 0, 2, 0), (2, .getfield 48, 5, 0), (5, .iconst 1, 6, 0), (6, .iadd, 7, 0), (7, .invokevirtual 69, 10, 0), (10, .areturn, 11, 0)]
theorem tJ2_grow_ok : pb_Tok cJ2_grow tJ2_grow := pb_Tok.cons dJ2_grow_0 rfl (pb_Tok.cons dJ2_grow_1 rfl (pb_Tok.cons dJ2_grow_2 rfl (pb_Tok.cons dJ2_grow_5 rfl (pb_Tok.cons dJ2_grow_6 rfl (pb_Tok.cons dJ2_grow_7 rfl (pb_Tok.cons dJ2_grow_10 rfl pb_Tok.nil))))))
def tJ2_grow_2 : pb_T := [(0, .aload_n 0, 1, 0), (1, .getfield 9, 4, 0), (4, .arraylength, 5, 0), (5, .istore_n 2, 6, 0), (6, .iload_n 2, 7, 0), (7, .ifCond .gt 13, 10, 20), (10, .aload_n 0, 11, 0), (11, .getfield 9, 14, 0), (14, .getstatic 39, 17, 0), (17, .if_acmp .eq 28, 20, 45), (20, .iload_n 2, 21, 0), (21, .iload_n 1, 22, 0), (22, .iload_n 2, 23, 0), (23, .isub, 24, 0), (24, .iload_n 2, 25, 0), (25, .iconst 1, 26, 0), (26, .ishr, 27, 0), (27, .invokestatic 73, 30, 0), (30, .istore_n 3, 31, 0), (31, .aload_n 0, 32, 0), (32, .aload_n 0, 33, 0), (33, .getfield 9, 36, 0), (36, .iload_n 3, 37, 0), (37, .invokestatic 66, 40, 0), (40, .dup_x1, 41, 0), (41, .putfield 9, 44, 0), (44, .areturn, 45, 0), (45, .aload_n 0, 46, 0), (46, .bipush 10, 48, 0), (48, .iload_n 1, 49, 0), (49, .invokestatic 79, 52, 0), (52, .anewarray 7, 55, 0), (55, .dup_x1, 56, 0), (56, .putfield 9, 59, 0), (59, .areturn, 60, 0)]
theorem tJ2_grow_2_ok : pb_Tok cJ2_grow_2 tJ2_grow_2 := pb_Tok.cons dJ2_grow_2_0 rfl (pb_Tok.cons dJ2_grow_2_1 rfl (pb_Tok.cons dJ2_grow_2_4 rfl (pb_Tok.cons dJ2_grow_2_5 rfl (pb_Tok.cons dJ2_grow_2_6 rfl (pb_Tok.cons dJ2_grow_2_7 rfl (pb_Tok.cons dJ2_grow_2_10 rfl (pb_Tok.cons dJ2_grow_2_11 rfl (pb_Tok.cons dJ2_grow_2_14 rfl (pb_Tok.cons dJ2_grow_2_17 rfl (pb_Tok.cons dJ2_grow_2_20 rfl (pb_Tok.cons dJ2_grow_2_21 rfl (pb_Tok.cons dJ2_grow_2_22 rfl (pb_Tok.cons dJ2_grow_2_23 rfl (pb_Tok.cons dJ2_grow_2_24 rfl (pb_Tok.cons dJ2_grow_2_25 rfl (pb_Tok.cons dJ2_grow_2_26 rfl (pb_Tok.cons dJ2_grow_2_27 rfl (pb_Tok.cons dJ2_grow_2_30 rfl (pb_Tok.cons dJ2_grow_2_31 rfl (pb_Tok.cons dJ2_grow_2_32 rfl (pb_Tok.cons dJ2_grow_2_33 rfl (pb_Tok.cons dJ2_grow_2_36 rfl (pb_Tok.cons dJ2_grow_2_37 rfl (pb_Tok.cons dJ2_grow_2_40 rfl (pb_Tok.cons dJ2_grow_2_41 rfl (pb_Tok.cons dJ2_grow_2_44 rfl (pb_Tok.cons dJ2_grow_2_45 rfl (pb_Tok.cons dJ2_grow_2_46 rfl (pb_Tok.cons dJ2_grow_2_48 rfl (pb_Tok.cons dJ2_grow_2_49 rfl (pb_Tok.cons dJ2_grow_2_52 rfl (pb_Tok.cons dJ2_grow_2_55 rfl (pb_Tok.cons dJ2_grow_2_56 rfl (pb_Tok.cons dJ2_grow_2_59 rfl pb_Tok.nil))))))))))))))))))))))))))))))))))
def tJ2_set : pb_T := [(0, .iload_n 1, 1, 0), (1, .aload_n 0, 2, 0), (2, .getfield 48, 5, 0), (5, .invokestatic 118, 8, 0), (8, .pop, 9, 0), (9, .aload_n 0, 10, 0), (10, .iload_n 1, 11, 0), (11, .invokevirtual 123, 14, 0), (14, .astore_n 3, 15, 0), (15, .aload_n 0, 16, 0), (16, .getfield 9, 19, 0), (19, .iload_n 1, 20, 0), (20, .aload_n 2, 21, 0), (21, .aastore, 22, 0), (22, .aload_n 3, 23, 0), (23, .areturn, 24, 0)]
theorem tJ2_set_ok : pb_Tok cJ2_set tJ2_set := pb_Tok.cons dJ2_set_0 rfl (pb_Tok.cons dJ2_set_1 rfl (pb_Tok.cons dJ2_set_2 rfl (pb_Tok.cons dJ2_set_5 rfl (pb_Tok.cons dJ2_set_8 rfl (pb_Tok.cons dJ2_set_9 rfl (pb_Tok.cons dJ2_set_10 rfl (pb_Tok.cons dJ2_set_11 rfl (pb_Tok.cons dJ2_set_14 rfl (pb_Tok.cons dJ2_set_15 rfl (pb_Tok.cons dJ2_set_16 rfl (pb_Tok.cons dJ2_set_19 rfl (pb_Tok.cons dJ2_set_20 rfl (pb_Tok.cons dJ2_set_21 rfl (pb_Tok.cons dJ2_set_22 rfl (pb_Tok.cons dJ2_set_23 rfl pb_Tok.nil)))))))))))))))
def tJ2_remove : pb_T := [(0, .aload_n 0, 1, 0), (1, .getfield 9, 4, 0), (4, .astore_n 2, 5, 0), (5, .aload_n 0, 6, 0), (6, .getfield 48, 9, 0), (9, .istore_n 3, 10, 0), (10, .iconst 0, 11, 0), (11, .istore 4, 13, 0), (13, .aload_n 1, 14, 0), (14, .ifnonnull 25, 17, 39), (17, .iload 4, 19, 1), (19, .iload_n 3, 20, 0), (20, .if_icmp .ge 45, 23, 65), (23, .aload_n 2, 24, 0), (24, .iload 4, 26, 0), (26, .aaload, 27, 0), (27, .ifnonnull 6, 30, 33), (30, .goto 37, 33, 67), (33, .iinc 4 1, 36, 0), (36, .goto (-19), 39, 17), (39, .iload 4, 41, 1), (41, .iload_n 3, 42, 0), (42, .if_icmp .ge 23, 45, 65), (45, .aload_n 1, 46, 0), (46, .aload_n 2, 47, 0), (47, .iload 4, 49, 0), (49, .aaload, 50, 0), (50, .invokevirtual 93, 53, 0), (53, .ifCond .eq 6, 56, 59), (56, .goto 11, 59, 67), (59, .iinc 4 1, 62, 0), (62, .goto (-23), 65, 39), (65, .iconst 0, 66, 0), (66, .ireturn, 67, 0), (67, .aload_n 0, 68, 0), (68, .aload_n 2, 69, 0), (69, .iload 4, 71, 0), (71, .invokevirtual 144, 74, 0), (74, .iconst 1, 75, 0), (75, .ireturn, 76, 0)]
theorem tJ2_remove_ok : pb_Tok cJ2_remove tJ2_remove := pb_Tok.cons dJ2_remove_0 rfl (pb_Tok.cons dJ2_remove_1 rfl (pb_Tok.cons dJ2_remove_4 rfl (pb_Tok.cons dJ2_remove_5 rfl (pb_Tok.cons dJ2_remove_6 rfl (pb_Tok.cons dJ2_remove_9 rfl (pb_Tok.cons dJ2_remove_10 rfl (pb_Tok.cons dJ2_remove_11 rfl (pb_Tok.cons dJ2_remove_13 rfl (pb_Tok.cons dJ2_remove_14 rfl (pb_Tok.cons dJ2_remove_17 rfl (pb_Tok.cons dJ2_remove_19 rfl (pb_Tok.cons dJ2_remove_20 rfl (pb_Tok.cons dJ2_remove_23 rfl (pb_Tok.cons dJ2_remove_24 rfl (pb_Tok.cons dJ2_remove_26 rfl (pb_Tok.cons dJ2_remove_27 rfl (pb_Tok.cons dJ2_remove_30 rfl (pb_Tok.cons dJ2_remove_33 rfl (pb_Tok.cons dJ2_remove_36 rfl (pb_Tok.cons dJ2_remove_39 rfl (pb_Tok.cons dJ2_remove_41 rfl (pb_Tok.cons dJ2_remove_42 rfl (pb_Tok.cons dJ2_remove_45 rfl (pb_Tok.cons dJ2_remove_46 rfl (pb_Tok.cons dJ2_remove_47 rfl (pb_Tok.cons dJ2_remove_49 rfl (pb_Tok.cons dJ2_remove_50 rfl (pb_Tok.cons dJ2_remove_53 rfl (pb_Tok.cons dJ2_remove_56 rfl (pb_Tok.cons dJ2_remove_59 rfl (pb_Tok.cons dJ2_remove_62 rfl (pb_Tok.cons dJ2_remove_65 rfl (pb_Tok.cons dJ2_remove_66 rfl (pb_Tok.cons dJ2_remove_67 rfl (pb_Tok.cons dJ2_remove_68 rfl (pb_Tok.cons dJ2_remove_69 rfl (pb_Tok.cons dJ2_remove_71 rfl (pb_Tok.cons dJ2_remove_74 rfl (pb_Tok.cons dJ2_remove_75 rfl pb_Tok.nil)))))))))))))))))))))))))))))))))))))))
def tJ2_fastRemove : pb_T := [(0, .aload_n 0, 1, 0), (1, .dup, 2, 0), (2, .getfield 63, 5, 0), (5, .iconst 1, 6, 0), (6, .iadd, 7, 0), (7, .putfield 63, 10, 0), (10, .aload_n 0, 11, 0), (11, .getfield 48, 14, 0), (14, .iconst 1, 15, 0), (15, .isub, 16, 0), (16, .dup, 17, 0), (17, .istore_n 3, 18, 0), (18, .iload_n 2, 19, 0), (19, .if_icmp .le 15, 22, 34), (22, .aload_n 1, 23, 0), (23, .iload_n 2, 24, 0), (24, .iconst 1, 25, 0), (25, .iadd, 26, 0), (26, .aload_n 1, 27, 0), (27, .iload_n 2, 28, 0), (28, .iload_n 3, 29, 0), (29, .iload_n 2, 30, 0), (30, .isub, 31, 0), (31, .invokestatic 112, 34, 0), (34, .aload_n 1, 35, 0), (35, .aload_n 0, 36, 0), (36, .iload_n 3, 37, 0), (37, .dup_x1, 38, 0), (38, .putfield 48, 41, 0), (41, .aconst_null, 42, 0), (42, .aastore, 43, 0), (43, .return_, 44, 0)]
theorem tJ2_fastRemove_ok : pb_Tok cJ2_fastRemove tJ2_fastRemove := pb_Tok.cons dJ2_fastRemove_0 rfl (pb_Tok.cons dJ2_fastRemove_1 rfl (pb_Tok.cons dJ2_fastRemove_2 rfl (pb_Tok.cons dJ2_fastRemove_5 rfl (pb_Tok.cons dJ2_fastRemove_6 rfl (pb_Tok.cons dJ2_fastRemove_7 rfl (pb_Tok.cons dJ2_fastRemove_10 rfl (pb_Tok.cons dJ2_fastRemove_11 rfl (pb_Tok.cons dJ2_fastRemove_14 rfl (pb_Tok.cons dJ2_fastRemove_15 rfl (pb_Tok.cons dJ2_fastRemove_16 rfl (pb_Tok.cons dJ2_fastRemove_17 rfl (pb_Tok.cons dJ2_fastRemove_18 rfl (pb_Tok.cons dJ2_fastRemove_19 rfl (pb_Tok.cons dJ2_fastRemove_22 rfl (pb_Tok.cons dJ2_fastRemove_23 rfl (pb_Tok.cons dJ2_fastRemove_24 rfl (pb_Tok.cons dJ2_fastRemove_25 rfl (pb_Tok.cons dJ2_fastRemove_26 rfl (pb_Tok.cons dJ2_fastRemove_27 rfl (pb_Tok.cons dJ2_fastRemove_28 rfl (pb_Tok.cons dJ2_fastRemove_29 rfl (pb_Tok.cons dJ2_fastRemove_30 rfl (pb_Tok.cons dJ2_fastRemove_31 rfl (pb_Tok.cons dJ2_fastRemove_34 rfl (pb_Tok.cons dJ2_fastRemove_35 rfl (pb_Tok.cons dJ2_fastRemove_36 rfl (pb_Tok.cons dJ2_fastRemove_37 rfl (pb_Tok.cons dJ2_fastRemove_38 rfl (pb_Tok.cons dJ2_fastRemove_41 rfl (pb_Tok.cons dJ2_fastRemove_42 rfl (pb_Tok.cons dJ2_fastRemove_43 rfl pb_Tok.nil)))))))))))))))))))))))))))))))
def tJ2_isEmpty : pb_T := [(0, .aload_n 0, 1, 0), (1, .getfield 48, 4, 0), (4, .ifCond .ne 7, 7, 11), (7, .iconst 1, 8, 0), (8, .goto 4, 11, 12), (11, .iconst 0, 12, 0), (12, .ireturn, 13, 0)]
theorem tJ2_isEmpty_ok : pb_Tok cJ2_isEmpty tJ2_isEmpty := pb_Tok.cons dJ2_isEmpty_0 rfl (pb_Tok.cons dJ2_isEmpty_1 rfl (pb_Tok.cons dJ2_isEmpty_4 rfl (pb_Tok.cons dJ2_isEmpty_7 rfl (pb_Tok.cons dJ2_isEmpty_8 rfl (pb_Tok.cons dJ2_isEmpty_11 rfl (pb_Tok.cons dJ2_isEmpty_12 rfl pb_Tok.nil))))))
def dkwJ3_min_0 : List UInt8 := [26, 27, 163, 0, 7, 26, 167, 0, 4, 27, 172]
abbrev dktJ3_min_0 : List UInt8 := dkwJ3_min_0 ++ []
theorem dksJ3_min_0 : cJ3_min.data.toList.drop 0 = dktJ3_min_0 := by decide +kernel
theorem dJ3_min_0 : decode cJ3_min 0 = .ok (.iload_n 0, 1) := dk_26 (dk_at dksJ3_min_0 0 rfl rfl)
theorem dJ3_min_1 : decode cJ3_min 1 = .ok (.iload_n 1, 1) := dk_27 (dk_at dksJ3_min_0 1 rfl rfl)
theorem dJ3_min_2 : decode cJ3_min 2 = .ok (.if_icmp .gt 7, 3) := dk_163 0 7 (dk_at dksJ3_min_0 2 rfl rfl)
theorem dJ3_min_5 : decode cJ3_min 5 = .ok (.iload_n 0, 1) := dk_26 (dk_at dksJ3_min_0 5 rfl rfl)
theorem dJ3_min_6 : decode cJ3_min 6 = .ok (.goto 4, 3) := dk_167 0 4 (dk_at dksJ3_min_0 6 rfl rfl)
theorem dJ3_min_9 : decode cJ3_min 9 = .ok (.iload_n 1, 1) := dk_27 (dk_at dksJ3_min_0 9 rfl rfl)
theorem dJ3_min_10 : decode cJ3_min 10 = .ok (.ireturn, 1) := dk_172 (dk_at dksJ3_min_0 10 rfl rfl)
def dkwJ3_max_0 : List UInt8 := [26, 27, 161, 0, 7, 26, 167, 0, 4, 27, 172]
abbrev dktJ3_max_0 : List UInt8 := dkwJ3_max_0 ++ []
theorem dksJ3_max_0 : cJ3_max.data.toList.drop 0 = dktJ3_max_0 := by decide +kernel
theorem dJ3_max_0 : decode cJ3_max 0 = .ok (.iload_n 0, 1) := dk_26 (dk_at dksJ3_max_0 0 rfl rfl)
theorem dJ3_max_1 : decode cJ3_max 1 = .ok (.iload_n 1, 1) := dk_27 (dk_at dksJ3_max_0 1 rfl rfl)
theorem dJ3_max_2 : decode cJ3_max 2 = .ok (.if_icmp .lt 7, 3) := dk_161 0 7 (dk_at dksJ3_max_0 2 rfl rfl)
theorem dJ3_max_5 : decode cJ3_max 5 = .ok (.iload_n 0, 1) := dk_26 (dk_at dksJ3_max_0 5 rfl rfl)
theorem dJ3_max_6 : decode cJ3_max 6 = .ok (.goto 4, 3) := dk_167 0 4 (dk_at dksJ3_max_0 6 rfl rfl)
theorem dJ3_max_9 : decode cJ3_max 9 = .ok (.iload_n 1, 1) := dk_27 (dk_at dksJ3_max_0 9 rfl rfl)
theorem dJ3_max_10 : decode cJ3_max 10 = .ok (.ireturn, 1) := dk_172 (dk_at dksJ3_max_0 10 rfl rfl)
def tJ3_min : pb_T := [(0, .iload_n 0, 1, 0), (1, .iload_n 1, 2, 0), (2, .if_icmp .gt 7, 5, 9), (5, .iload_n 0, 6, 0), (6, .goto 4, 9, 10), (9, .iload_n 1, 10, 0), (10, .ireturn, 11, 0)]
theorem tJ3_min_ok : pb_Tok cJ3_min tJ3_min := pb_Tok.cons dJ3_min_0 rfl (pb_Tok.cons dJ3_min_1 rfl (pb_Tok.cons dJ3_min_2 rfl (pb_Tok.cons dJ3_min_5 rfl (pb_Tok.cons dJ3_min_6 rfl (pb_Tok.cons dJ3_min_9 rfl (pb_Tok.cons dJ3_min_10 rfl pb_Tok.nil))))))
def tJ3_max : pb_T := [(0, .iload_n 0, 1, 0), (1, .iload_n 1, 2, 0), (2, .if_icmp .lt 7, 5, 9), (5, .iload_n 0, 6, 0), (6, .goto 4, 9, 10), (9, .iload_n 1, 10, 0), (10, .ireturn, 11, 0)]
theorem tJ3_max_ok : pb_Tok cJ3_max tJ3_max := pb_Tok.cons dJ3_max_0 rfl (pb_Tok.cons dJ3_max_1 rfl (pb_Tok.cons dJ3_max_2 rfl (pb_Tok.cons dJ3_max_5 rfl (pb_Tok.cons dJ3_max_6 rfl (pb_Tok.cons dJ3_max_9 rfl (pb_Tok.cons dJ3_max_10 rfl pb_Tok.nil))))))
def dkwJ4_init_0 : List UInt8 := [42, 183, 0, 42, 42, 16, 17, 189, 0, 47, 181, 0, 3, 177]
abbrev dktJ4_init_0 : List UInt8 := dkwJ4_init_0 ++ []
theorem dksJ4_init_0 : cJ4_init.data.toList.drop 0 = dktJ4_init_0 := by decide +kernel
theorem dJ4_init_0 : decode cJ4_init 0 = .ok (.aload_n 0, 1) := dk_42 (dk_at dksJ4_init_0 0 rfl rfl)
theorem dJ4_init_1 : decode cJ4_init 1 = .ok (.invokespecial 42, 3) := dk_183 0 42 (dk_at dksJ4_init_0 1 rfl rfl)
theorem dJ4_init_4 : decode cJ4_init 4 = .ok (.aload_n 0, 1) := dk_42 (dk_at dksJ4_init_0 4 rfl rfl)
theorem dJ4_init_5 : decode cJ4_init 5 = .ok (.bipush 17, 2) := dk_16 17 (dk_at dksJ4_init_0 5 rfl rfl)
theorem dJ4_init_7 : decode cJ4_init 7 = .ok (.anewarray 47, 3) := dk_189 0 47 (dk_at dksJ4_init_0 7 rfl rfl)
theorem dJ4_init_10 : decode cJ4_init 10 = .ok (.putfield 3, 3) := dk_181 0 3 (dk_at dksJ4_init_0 10 rfl rfl)
theorem dJ4_init_13 : decode cJ4_init 13 = .ok (.return_, 1) := dk_177 (dk_at dksJ4_init_0 13 rfl rfl)
def dkwJ4_size_0 : List UInt8 := [42, 180, 0, 20, 42, 180, 0, 24, 42, 180, 0, 3, 190, 184, 0, 127, 172]
abbrev dktJ4_size_0 : List UInt8 := dkwJ4_size_0 ++ []
theorem dksJ4_size_0 : cJ4_size.data.toList.drop 0 = dktJ4_size_0 := by decide +kernel
theorem dJ4_size_0 : decode cJ4_size 0 = .ok (.aload_n 0, 1) := dk_42 (dk_at dksJ4_size_0 0 rfl rfl)
theorem dJ4_size_1 : decode cJ4_size 1 = .ok (.getfield 20, 3) := dk_180 0 20 (dk_at dksJ4_size_0 1 rfl rfl)
theorem dJ4_size_4 : decode cJ4_size 4 = .ok (.aload_n 0, 1) := dk_42 (dk_at dksJ4_size_0 4 rfl rfl)
theorem dJ4_size_5 : decode cJ4_size 5 = .ok (.getfield 24, 3) := dk_180 0 24 (dk_at dksJ4_size_0 5 rfl rfl)
theorem dJ4_size_8 : decode cJ4_size 8 = .ok (.aload_n 0, 1) := dk_42 (dk_at dksJ4_size_0 8 rfl rfl)
theorem dJ4_size_9 : decode cJ4_size 9 = .ok (.getfield 3, 3) := dk_180 0 3 (dk_at dksJ4_size_0 9 rfl rfl)
theorem dJ4_size_12 : decode cJ4_size 12 = .ok (.arraylength, 1) := dk_190 (dk_at dksJ4_size_0 12 rfl rfl)
theorem dJ4_size_13 : decode cJ4_size 13 = .ok (.invokestatic 127, 3) := dk_184 0 127 (dk_at dksJ4_size_0 13 rfl rfl)
theorem dJ4_size_16 : decode cJ4_size 16 = .ok (.ireturn, 1) := dk_172 (dk_at dksJ4_size_0 16 rfl rfl)
def dkwJ4_sub_0 : List UInt8 := [26, 27, 100, 89, 59, 156, 0, 7, 26, 28, 96, 59, 26, 172]
abbrev dktJ4_sub_0 : List UInt8 := dkwJ4_sub_0 ++ []
theorem dksJ4_sub_0 : cJ4_sub.data.toList.drop 0 = dktJ4_sub_0 := by decide +kernel
theorem dJ4_sub_0 : decode cJ4_sub 0 = .ok (.iload_n 0, 1) := dk_26 (dk_at dksJ4_sub_0 0 rfl rfl)
theorem dJ4_sub_1 : decode cJ4_sub 1 = .ok (.iload_n 1, 1) := dk_27 (dk_at dksJ4_sub_0 1 rfl rfl)
theorem dJ4_sub_2 : decode cJ4_sub 2 = .ok (.isub, 1) := dk_100 (dk_at dksJ4_sub_0 2 rfl rfl)
theorem dJ4_sub_3 : decode cJ4_sub 3 = .ok (.dup, 1) := dk_89 (dk_at dksJ4_sub_0 3 rfl rfl)
theorem dJ4_sub_4 : decode cJ4_sub 4 = .ok (.istore_n 0, 1) := dk_59 (dk_at dksJ4_sub_0 4 rfl rfl)
theorem dJ4_sub_5 : decode cJ4_sub 5 = .ok (.ifCond .ge 7, 3) := dk_156 0 7 (dk_at dksJ4_sub_0 5 rfl rfl)
theorem dJ4_sub_8 : decode cJ4_sub 8 = .ok (.iload_n 0, 1) := dk_26 (dk_at dksJ4_sub_0 8 rfl rfl)
theorem dJ4_sub_9 : decode cJ4_sub 9 = .ok (.iload_n 2, 1) := dk_28 (dk_at dksJ4_sub_0 9 rfl rfl)
theorem dJ4_sub_10 : decode cJ4_sub 10 = .ok (.iadd, 1) := dk_96 (dk_at dksJ4_sub_0 10 rfl rfl)
theorem dJ4_sub_11 : decode cJ4_sub 11 = .ok (.istore_n 0, 1) := dk_59 (dk_at dksJ4_sub_0 11 rfl rfl)
theorem dJ4_sub_12 : decode cJ4_sub 12 = .ok (.iload_n 0, 1) := dk_26 (dk_at dksJ4_sub_0 12 rfl rfl)
theorem dJ4_sub_13 : decode cJ4_sub 13 = .ok (.ireturn, 1) := dk_172 (dk_at dksJ4_sub_0 13 rfl rfl)
def dkwJ4_removeLast_0 : List UInt8 := [42, 182, 0, 100, 76, 43, 199, 0, 11, 187, 0, 97, 89, 183, 0, 99, 191, 43, 176]
abbrev dktJ4_removeLast_0 : List UInt8 := dkwJ4_removeLast_0 ++ []
theorem dksJ4_removeLast_0 : cJ4_removeLast.data.toList.drop 0 = dktJ4_removeLast_0 := by decide +kernel
theorem dJ4_removeLast_0 : decode cJ4_removeLast 0 = .ok (.aload_n 0, 1) := dk_42 (dk_at dksJ4_removeLast_0 0 rfl rfl)
theorem dJ4_removeLast_1 : decode cJ4_removeLast 1 = .ok (.invokevirtual 100, 3) := dk_182 0 100 (dk_at dksJ4_removeLast_0 1 rfl rfl)
theorem dJ4_removeLast_4 : decode cJ4_removeLast 4 = .ok (.astore_n 1, 1) := dk_76 (dk_at dksJ4_removeLast_0 4 rfl rfl)
theorem dJ4_removeLast_5 : decode cJ4_removeLast 5 = .ok (.aload_n 1, 1) := dk_43 (dk_at dksJ4_removeLast_0 5 rfl rfl)
theorem dJ4_removeLast_6 : decode cJ4_removeLast 6 = .ok (.ifnonnull 11, 3) := dk_199 0 11 (dk_at dksJ4_removeLast_0 6 rfl rfl)
theorem dJ4_removeLast_9 : decode cJ4_removeLast 9 = .ok (.new 97, 3) := dk_187 0 97 (dk_at dksJ4_removeLast_0 9 rfl rfl)
theorem dJ4_removeLast_12 : decode cJ4_removeLast 12 = .ok (.dup, 1) := dk_89 (dk_at dksJ4_removeLast_0 12 rfl rfl)
theorem dJ4_removeLast_13 : decode cJ4_removeLast 13 = .ok (.invokespecial 99, 3) := dk_183 0 99 (dk_at dksJ4_removeLast_0 13 rfl rfl)
theorem dJ4_removeLast_16 : decode cJ4_removeLast 16 = .ok (.athrow, 1) := dk_191 (dk_at dksJ4_removeLast_0 16 rfl rfl)
theorem dJ4_removeLast_17 : decode cJ4_removeLast 17 = .ok (.aload_n 1, 1) := dk_43 (dk_at dksJ4_removeLast_0 17 rfl rfl)
theorem dJ4_removeLast_18 : decode cJ4_removeLast 18 = .ok (.areturn, 1) := dk_176 (dk_at dksJ4_removeLast_0 18 rfl rfl)
def dkwJ4_pollLast_1 : List UInt8 := [198, 0, 12, 43, 42, 28, 90, 181, 0, 20, 1, 83, 45, 176]
abbrev dktJ4_pollLast_1 : List UInt8 := dkwJ4_pollLast_1 ++ []
def dkwJ4_pollLast_0 : List UInt8 := [42, 180, 0, 3, 89, 76, 42, 180, 0, 20, 43, 190, 184, 0, 68, 89, 61, 184, 0, 103, 78, 45]
abbrev dktJ4_pollLast_0 : List UInt8 := dkwJ4_pollLast_0 ++ dktJ4_pollLast_1
theorem dksJ4_pollLast_0 : cJ4_pollLast.data.toList.drop 0 = dktJ4_pollLast_0 := by decide +kernel
theorem dksJ4_pollLast_1 : cJ4_pollLast.data.toList.drop 22 = dktJ4_pollLast_1 := dk_seg dksJ4_pollLast_0 22 rfl rfl
theorem dJ4_pollLast_0 : decode cJ4_pollLast 0 = .ok (.aload_n 0, 1) := dk_42 (dk_at dksJ4_pollLast_0 0 rfl rfl)
theorem dJ4_pollLast_1 : decode cJ4_pollLast 1 = .ok (.getfield 3, 3) := dk_180 0 3 (dk_at dksJ4_pollLast_0 1 rfl rfl)
theorem dJ4_pollLast_4 : decode cJ4_pollLast 4 = .ok (.dup, 1) := dk_89 (dk_at dksJ4_pollLast_0 4 rfl rfl)
theorem dJ4_pollLast_5 : decode cJ4_pollLast 5 = .ok (.astore_n 1, 1) := dk_76 (dk_at dksJ4_pollLast_0 5 rfl rfl)
theorem dJ4_pollLast_6 : decode cJ4_pollLast 6 = .ok (.aload_n 0, 1) := dk_42 (dk_at dksJ4_pollLast_0 6 rfl rfl)
theorem dJ4_pollLast_7 : decode cJ4_pollLast 7 = .ok (.getfield 20, 3) := dk_180 0 20 (dk_at dksJ4_pollLast_0 7 rfl rfl)
theorem dJ4_pollLast_10 : decode cJ4_pollLast 10 = .ok (.aload_n 1, 1) := dk_43 (dk_at dksJ4_pollLast_0 10 rfl rfl)
theorem dJ4_pollLast_11 : decode cJ4_pollLast 11 = .ok (.arraylength, 1) := dk_190 (dk_at dksJ4_pollLast_0 11 rfl rfl)
theorem dJ4_pollLast_12 : decode cJ4_pollLast 12 = .ok (.invokestatic 68, 3) := dk_184 0 68 (dk_at dksJ4_pollLast_0 12 rfl rfl)
theorem dJ4_pollLast_15 : decode cJ4_pollLast 15 = .ok (.dup, 1) := dk_89 (dk_at dksJ4_pollLast_0 15 rfl rfl)
theorem dJ4_pollLast_16 : decode cJ4_pollLast 16 = .ok (.istore_n 2, 1) := dk_61 (dk_at dksJ4_pollLast_0 16 rfl rfl)
theorem dJ4_pollLast_17 : decode cJ4_pollLast 17 = .ok (.invokestatic 103, 3) := dk_184 0 103 (dk_at dksJ4_pollLast_0 17 rfl rfl)
theorem dJ4_pollLast_20 : decode cJ4_pollLast 20 = .ok (.astore_n 3, 1) := dk_78 (dk_at dksJ4_pollLast_0 20 rfl rfl)
theorem dJ4_pollLast_21 : decode cJ4_pollLast 21 = .ok (.aload_n 3, 1) := dk_45 (dk_at dksJ4_pollLast_0 21 rfl rfl)
theorem dJ4_pollLast_22 : decode cJ4_pollLast 22 = .ok (.ifnull 12, 3) := dk_198 0 12 (dk_at dksJ4_pollLast_1 0 rfl rfl)
theorem dJ4_pollLast_25 : decode cJ4_pollLast 25 = .ok (.aload_n 1, 1) := dk_43 (dk_at dksJ4_pollLast_1 3 rfl rfl)
theorem dJ4_pollLast_26 : decode cJ4_pollLast 26 = .ok (.aload_n 0, 1) := dk_42 (dk_at dksJ4_pollLast_1 4 rfl rfl)
theorem dJ4_pollLast_27 : decode cJ4_pollLast 27 = .ok (.iload_n 2, 1) := dk_28 (dk_at dksJ4_pollLast_1 5 rfl rfl)
theorem dJ4_pollLast_28 : decode cJ4_pollLast 28 = .ok (.dup_x1, 1) := dk_90 (dk_at dksJ4_pollLast_1 6 rfl rfl)
theorem dJ4_pollLast_29 : decode cJ4_pollLast 29 = .ok (.putfield 20, 3) := dk_181 0 20 (dk_at dksJ4_pollLast_1 7 rfl rfl)
theorem dJ4_pollLast_32 : decode cJ4_pollLast 32 = .ok (.aconst_null, 1) := dk_1 (dk_at dksJ4_pollLast_1 10 rfl rfl)
theorem dJ4_pollLast_33 : decode cJ4_pollLast 33 = .ok (.aastore, 1) := dk_83 (dk_at dksJ4_pollLast_1 11 rfl rfl)
theorem dJ4_pollLast_34 : decode cJ4_pollLast 34 = .ok (.aload_n 3, 1) := dk_45 (dk_at dksJ4_pollLast_1 12 rfl rfl)
theorem dJ4_pollLast_35 : decode cJ4_pollLast 35 = .ok (.areturn, 1) := dk_176 (dk_at dksJ4_pollLast_1 13 rfl rfl)
def dkwJ4_dec_0 : List UInt8 := [132, 0, 255, 26, 156, 0, 7, 27, 4, 100, 59, 26, 172]
abbrev dktJ4_dec_0 : List UInt8 := dkwJ4_dec_0 ++ []
theorem dksJ4_dec_0 : cJ4_dec.data.toList.drop 0 = dktJ4_dec_0 := by decide +kernel
theorem dJ4_dec_0 : decode cJ4_dec 0 = .ok (.iinc 0 (-1), 3) := dk_132 0 255 (dk_at dksJ4_dec_0 0 rfl rfl)
theorem dJ4_dec_3 : decode cJ4_dec 3 = .ok (.iload_n 0, 1) := dk_26 (dk_at dksJ4_dec_0 3 rfl rfl)
theorem dJ4_dec_4 : decode cJ4_dec 4 = .ok (.ifCond .ge 7, 3) := dk_156 0 7 (dk_at dksJ4_dec_0 4 rfl rfl)
theorem dJ4_dec_7 : decode cJ4_dec 7 = .ok (.iload_n 1, 1) := dk_27 (dk_at dksJ4_dec_0 7 rfl rfl)
theorem dJ4_dec_8 : decode cJ4_dec 8 = .ok (.iconst 1, 1) := dk_4 (dk_at dksJ4_dec_0 8 rfl rfl)
theorem dJ4_dec_9 : decode cJ4_dec 9 = .ok (.isub, 1) := dk_100 (dk_at dksJ4_dec_0 9 rfl rfl)
theorem dJ4_dec_10 : decode cJ4_dec 10 = .ok (.istore_n 0, 1) := dk_59 (dk_at dksJ4_dec_0 10 rfl rfl)
theorem dJ4_dec_11 : decode cJ4_dec 11 = .ok (.iload_n 0, 1) := dk_26 (dk_at dksJ4_dec_0 11 rfl rfl)
theorem dJ4_dec_12 : decode cJ4_dec 12 = .ok (.ireturn, 1) := dk_172 (dk_at dksJ4_dec_0 12 rfl rfl)
def dkwJ4_elementAt_0 : List UInt8 := [42, 27, 50, 176]
abbrev dktJ4_elementAt_0 : List UInt8 := dkwJ4_elementAt_0 ++ []
theorem dksJ4_elementAt_0 : cJ4_elementAt.data.toList.drop 0 = dktJ4_elementAt_0 := by decide +kernel
theorem dJ4_elementAt_0 : decode cJ4_elementAt 0 = .ok (.aload_n 0, 1) := dk_42 (dk_at dksJ4_elementAt_0 0 rfl rfl)
theorem dJ4_elementAt_1 : decode cJ4_elementAt 1 = .ok (.iload_n 1, 1) := dk_27 (dk_at dksJ4_elementAt_0 1 rfl rfl)
theorem dJ4_elementAt_2 : decode cJ4_elementAt 2 = .ok (.aaload, 1) := dk_50 (dk_at dksJ4_elementAt_0 2 rfl rfl)
theorem dJ4_elementAt_3 : decode cJ4_elementAt 3 = .ok (.areturn, 1) := dk_176 (dk_at dksJ4_elementAt_0 3 rfl rfl)
def dkwJ4_push_0 : List UInt8 := [42, 43, 182, 0, 86, 177]
abbrev dktJ4_push_0 : List UInt8 := dkwJ4_push_0 ++ []
theorem dksJ4_push_0 : cJ4_push.data.toList.drop 0 = dktJ4_push_0 := by decide +kernel
theorem dJ4_push_0 : decode cJ4_push 0 = .ok (.aload_n 0, 1) := dk_42 (dk_at dksJ4_push_0 0 rfl rfl)
theorem dJ4_push_1 : decode cJ4_push 1 = .ok (.aload_n 1, 1) := dk_43 (dk_at dksJ4_push_0 1 rfl rfl)
theorem dJ4_push_2 : decode cJ4_push 2 = .ok (.invokevirtual 86, 3) := dk_182 0 86 (dk_at dksJ4_push_0 2 rfl rfl)
theorem dJ4_push_5 : decode cJ4_push 5 = .ok (.return_, 1) := dk_177 (dk_at dksJ4_push_0 5 rfl rfl)
def dkwJ4_addFirst_2 : List UInt8 := [182, 0, 71, 177]
abbrev dktJ4_addFirst_2 : List UInt8 := dkwJ4_addFirst_2 ++ []
def dkwJ4_addFirst_1 : List UInt8 := [190, 184, 0, 68, 90, 181, 0, 24, 43, 83, 42, 180, 0, 24, 42, 180, 0, 20, 160, 0, 8, 42, 4]
abbrev dktJ4_addFirst_1 : List UInt8 := dkwJ4_addFirst_1 ++ dktJ4_addFirst_2
def dkwJ4_addFirst_0 : List UInt8 := [43, 199, 0, 11, 187, 0, 65, 89, 183, 0, 67, 191, 42, 180, 0, 3, 77, 44, 42, 42, 180, 0, 24, 44]
abbrev dktJ4_addFirst_0 : List UInt8 := dkwJ4_addFirst_0 ++ dktJ4_addFirst_1
theorem dksJ4_addFirst_0 : cJ4_addFirst.data.toList.drop 0 = dktJ4_addFirst_0 := by decide +kernel
theorem dksJ4_addFirst_1 : cJ4_addFirst.data.toList.drop 24 = dktJ4_addFirst_1 := dk_seg dksJ4_addFirst_0 24 rfl rfl
theorem dksJ4_addFirst_2 : cJ4_addFirst.data.toList.drop 47 = dktJ4_addFirst_2 := dk_seg dksJ4_addFirst_1 23 rfl rfl
theorem dJ4_addFirst_0 : decode cJ4_addFirst 0 = .ok (.aload_n 1, 1) := dk_43 (dk_at dksJ4_addFirst_0 0 rfl rfl)
theorem dJ4_addFirst_1 : decode cJ4_addFirst 1 = .ok (.ifnonnull 11, 3) := dk_199 0 11 (dk_at dksJ4_addFirst_0 1 rfl rfl)
theorem dJ4_addFirst_4 : decode cJ4_addFirst 4 = .ok (.new 65, 3) := dk_187 0 65 (dk_at dksJ4_addFirst_0 4 rfl rfl)
theorem dJ4_addFirst_7 : decode cJ4_addFirst 7 = .ok (.dup, 1) := dk_89 (dk_at dksJ4_addFirst_0 7 rfl rfl)
theorem dJ4_addFirst_8 : decode cJ4_addFirst 8 = .ok (.invokespecial 67, 3) := dk_183 0 67 (dk_at dksJ4_addFirst_0 8 rfl rfl)
theorem dJ4_addFirst_11 : decode cJ4_addFirst 11 = .ok (.athrow, 1) := dk_191 (dk_at dksJ4_addFirst_0 11 rfl rfl)
theorem dJ4_addFirst_12 : decode cJ4_addFirst 12 = .ok (.aload_n 0, 1) := dk_42 (dk_at dksJ4_addFirst_0 12 rfl rfl)
theorem dJ4_addFirst_13 : decode cJ4_addFirst 13 = .ok (.getfield 3, 3) := dk_180 0 3 (dk_at dksJ4_addFirst_0 13 rfl rfl)
theorem dJ4_addFirst_16 : decode cJ4_addFirst 16 = .ok (.astore_n 2, 1) := dk_77 (dk_at dksJ4_addFirst_0 16 rfl rfl)
theorem dJ4_addFirst_17 : decode cJ4_addFirst 17 = .ok (.aload_n 2, 1) := dk_44 (dk_at dksJ4_addFirst_0 17 rfl rfl)
theorem dJ4_addFirst_18 : decode cJ4_addFirst 18 = .ok (.aload_n 0, 1) := dk_42 (dk_at dksJ4_addFirst_0 18 rfl rfl)
theorem dJ4_addFirst_19 : decode cJ4_addFirst 19 = .ok (.aload_n 0, 1) := dk_42 (dk_at dksJ4_addFirst_0 19 rfl rfl)
theorem dJ4_addFirst_20 : decode cJ4_addFirst 20 = .ok (.getfield 24, 3) := dk_180 0 24 (dk_at dksJ4_addFirst_0 20 rfl rfl)
theorem dJ4_addFirst_23 : decode cJ4_addFirst 23 = .ok (.aload_n 2, 1) := dk_44 (dk_at dksJ4_addFirst_0 23 rfl rfl)
theorem dJ4_addFirst_24 : decode cJ4_addFirst 24 = .ok (.arraylength, 1) := dk_190 (dk_at dksJ4_addFirst_1 0 rfl rfl)
theorem dJ4_addFirst_25 : decode cJ4_addFirst 25 = .ok (.invokestatic 68, 3) := dk_184 0 68 (dk_at dksJ4_addFirst_1 1 rfl rfl)
theorem dJ4_addFirst_28 : decode cJ4_addFirst 28 = .ok (.dup_x1, 1) := dk_90 (dk_at dksJ4_addFirst_1 4 rfl rfl)
theorem dJ4_addFirst_29 : decode cJ4_addFirst 29 = .ok (.putfield 24, 3) := dk_181 0 24 (dk_at dksJ4_addFirst_1 5 rfl rfl)
theorem dJ4_addFirst_32 : decode cJ4_addFirst 32 = .ok (.aload_n 1, 1) := dk_43 (dk_at dksJ4_addFirst_1 8 rfl rfl)
theorem dJ4_addFirst_33 : decode cJ4_addFirst 33 = .ok (.aastore, 1) := dk_83 (dk_at dksJ4_addFirst_1 9 rfl rfl)
theorem dJ4_addFirst_34 : decode cJ4_addFirst 34 = .ok (.aload_n 0, 1) := dk_42 (dk_at dksJ4_addFirst_1 10 rfl rfl)
theorem dJ4_addFirst_35 : decode cJ4_addFirst 35 = .ok (.getfield 24, 3) := dk_180 0 24 (dk_at dksJ4_addFirst_1 11 rfl rfl)
theorem dJ4_addFirst_38 : decode cJ4_addFirst 38 = .ok (.aload_n 0, 1) := dk_42 (dk_at dksJ4_addFirst_1 14 rfl rfl)
theorem dJ4_addFirst_39 : decode cJ4_addFirst 39 = .ok (.getfield 20, 3) := dk_180 0 20 (dk_at dksJ4_addFirst_1 15 rfl rfl)
theorem dJ4_addFirst_42 : decode cJ4_addFirst 42 = .ok (.if_icmp .ne 8, 3) := dk_160 0 8 (dk_at dksJ4_addFirst_1 18 rfl rfl)
theorem dJ4_addFirst_45 : decode cJ4_addFirst 45 = .ok (.aload_n 0, 1) := dk_42 (dk_at dksJ4_addFirst_1 21 rfl rfl)
theorem dJ4_addFirst_46 : decode cJ4_addFirst 46 = .ok (.iconst 1, 1) := dk_4 (dk_at dksJ4_addFirst_1 22 rfl rfl)
theorem dJ4_addFirst_47 : decode cJ4_addFirst 47 = .ok (.invokevirtual 71, 3) := dk_182 0 71 (dk_at dksJ4_addFirst_2 0 rfl rfl)
theorem dJ4_addFirst_50 : decode cJ4_addFirst 50 = .ok (.return_, 1) := dk_177 (dk_at dksJ4_addFirst_2 3 rfl rfl)
def dkwJ4_grow_7 : List UInt8 := [177]
abbrev dktJ4_grow_7 : List UInt8 := dkwJ4_grow_7 ++ []
def dkwJ4_grow_6 : List UInt8 := [181, 0, 24, 54, 8, 21, 7, 21, 8, 162, 0, 15, 25, 5, 21, 7, 1, 83, 132, 7, 1, 167, 255, 240]
abbrev dktJ4_grow_6 : List UInt8 := dkwJ4_grow_6 ++ dktJ4_grow_7
def dkwJ4_grow_5 : List UInt8 := [42, 180, 0, 24, 100, 184, 0, 27, 42, 180, 0, 24, 54, 7, 42, 89, 180, 0, 24, 21, 6, 96, 90]
abbrev dktJ4_grow_5 : List UInt8 := dkwJ4_grow_5 ++ dktJ4_grow_6
def dkwJ4_grow_4 : List UInt8 := [198, 0, 71, 29, 28, 100, 54, 6, 25, 5, 42, 180, 0, 24, 25, 5, 42, 180, 0, 24, 21, 6, 96, 28]
abbrev dktJ4_grow_4 : List UInt8 := dkwJ4_grow_4 ++ dktJ4_grow_5
def dkwJ4_grow_3 : List UInt8 := [180, 0, 24, 161, 0, 24, 42, 180, 0, 20, 42, 180, 0, 24, 160, 0, 81, 25, 5, 42, 180, 0, 24, 50]
abbrev dktJ4_grow_3 : List UInt8 := dkwJ4_grow_3 ++ dktJ4_grow_4
def dkwJ4_grow_2 : List UInt8 := [182, 0, 10, 62, 42, 42, 180, 0, 3, 29, 184, 0, 14, 90, 181, 0, 3, 58, 5, 42, 180, 0, 20, 42]
abbrev dktJ4_grow_2 : List UInt8 := dkwJ4_grow_2 ++ dktJ4_grow_3
def dkwJ4_grow_1 : List UInt8 := [21, 4, 27, 161, 0, 15, 28, 21, 4, 96, 89, 62, 18, 9, 100, 158, 0, 11, 42, 27, 21, 4]
abbrev dktJ4_grow_1 : List UInt8 := dkwJ4_grow_1 ++ dktJ4_grow_2
def dkwJ4_grow_0 : List UInt8 := [42, 180, 0, 3, 190, 61, 28, 16, 64, 162, 0, 9, 28, 5, 96, 167, 0, 6, 28, 4, 122, 54, 4]
abbrev dktJ4_grow_0 : List UInt8 := dkwJ4_grow_0 ++ dktJ4_grow_1
theorem dksJ4_grow_0 : cJ4_grow.data.toList.drop 0 = dktJ4_grow_0 := by decide +kernel
theorem dksJ4_grow_1 : cJ4_grow.data.toList.drop 23 = dktJ4_grow_1 := dk_seg dksJ4_grow_0 23 rfl rfl
theorem dksJ4_grow_2 : cJ4_grow.data.toList.drop 45 = dktJ4_grow_2 := dk_seg dksJ4_grow_1 22 rfl rfl
theorem dksJ4_grow_3 : cJ4_grow.data.toList.drop 69 = dktJ4_grow_3 := dk_seg dksJ4_grow_2 24 rfl rfl
theorem dksJ4_grow_4 : cJ4_grow.data.toList.drop 93 = dktJ4_grow_4 := dk_seg dksJ4_grow_3 24 rfl rfl
theorem dksJ4_grow_5 : cJ4_grow.data.toList.drop 117 = dktJ4_grow_5 := dk_seg dksJ4_grow_4 24 rfl rfl
theorem dksJ4_grow_6 : cJ4_grow.data.toList.drop 140 = dktJ4_grow_6 := dk_seg dksJ4_grow_5 23 rfl rfl
theorem dksJ4_grow_7 : cJ4_grow.data.toList.drop 164 = dktJ4_grow_7 := dk_seg dksJ4_grow_6 24 rfl rfl
theorem dJ4_grow_0 : decode cJ4_grow 0 = .ok (.aload_n 0, 1) := dk_42 (dk_at dksJ4_grow_0 0 rfl rfl)
theorem dJ4_grow_1 : decode cJ4_grow 1 = .ok (.getfield 3, 3) := dk_180 0 3 (dk_at dksJ4_grow_0 1 rfl rfl)
theorem dJ4_grow_4 : decode cJ4_grow 4 = .ok (.arraylength, 1) := dk_190 (dk_at dksJ4_grow_0 4 rfl rfl)
theorem dJ4_grow_5 : decode cJ4_grow 5 = .ok (.istore_n 2, 1) := dk_61 (dk_at dksJ4_grow_0 5 rfl rfl)
theorem dJ4_grow_6 : decode cJ4_grow 6 = .ok (.iload_n 2, 1) := dk_28 (dk_at dksJ4_grow_0 6 rfl rfl)
theorem dJ4_grow_7 : decode cJ4_grow 7 = .ok (.bipush 64, 2) := dk_16 64 (dk_at dksJ4_grow_0 7 rfl rfl)
theorem dJ4_grow_9 : decode cJ4_grow 9 = .ok (.if_icmp .ge 9, 3) := dk_162 0 9 (dk_at dksJ4_grow_0 9 rfl rfl)
theorem dJ4_grow_12 : decode cJ4_grow 12 = .ok (.iload_n 2, 1) := dk_28 (dk_at dksJ4_grow_0 12 rfl rfl)
theorem dJ4_grow_13 : decode cJ4_grow 13 = .ok (.iconst 2, 1) := dk_5 (dk_at dksJ4_grow_0 13 rfl rfl)
theorem dJ4_grow_14 : decode cJ4_grow 14 = .ok (.iadd, 1) := dk_96 (dk_at dksJ4_grow_0 14 rfl rfl)
theorem dJ4_grow_15 : decode cJ4_grow 15 = .ok (.goto 6, 3) := dk_167 0 6 (dk_at dksJ4_grow_0 15 rfl rfl)
theorem dJ4_grow_18 : decode cJ4_grow 18 = .ok (.iload_n 2, 1) := dk_28 (dk_at dksJ4_grow_0 18 rfl rfl)
theorem dJ4_grow_19 : decode cJ4_grow 19 = .ok (.iconst 1, 1) := dk_4 (dk_at dksJ4_grow_0 19 rfl rfl)
theorem dJ4_grow_20 : decode cJ4_grow 20 = .ok (.ishr, 1) := dk_122 (dk_at dksJ4_grow_0 20 rfl rfl)
theorem dJ4_grow_21 : decode cJ4_grow 21 = .ok (.istore 4, 2) := dk_54 4 (dk_at dksJ4_grow_0 21 rfl rfl)
theorem dJ4_grow_23 : decode cJ4_grow 23 = .ok (.iload 4, 2) := dk_21 4 (dk_at dksJ4_grow_1 0 rfl rfl)
theorem dJ4_grow_25 : decode cJ4_grow 25 = .ok (.iload_n 1, 1) := dk_27 (dk_at dksJ4_grow_1 2 rfl rfl)
theorem dJ4_grow_26 : decode cJ4_grow 26 = .ok (.if_icmp .lt 15, 3) := dk_161 0 15 (dk_at dksJ4_grow_1 3 rfl rfl)
theorem dJ4_grow_29 : decode cJ4_grow 29 = .ok (.iload_n 2, 1) := dk_28 (dk_at dksJ4_grow_1 6 rfl rfl)
theorem dJ4_grow_30 : decode cJ4_grow 30 = .ok (.iload 4, 2) := dk_21 4 (dk_at dksJ4_grow_1 7 rfl rfl)
theorem dJ4_grow_32 : decode cJ4_grow 32 = .ok (.iadd, 1) := dk_96 (dk_at dksJ4_grow_1 9 rfl rfl)
theorem dJ4_grow_33 : decode cJ4_grow 33 = .ok (.dup, 1) := dk_89 (dk_at dksJ4_grow_1 10 rfl rfl)
theorem dJ4_grow_34 : decode cJ4_grow 34 = .ok (.istore_n 3, 1) := dk_62 (dk_at dksJ4_grow_1 11 rfl rfl)
theorem dJ4_grow_35 : decode cJ4_grow 35 = .ok (.ldc 9, 2) := dk_18 9 (dk_at dksJ4_grow_1 12 rfl rfl)
theorem dJ4_grow_37 : decode cJ4_grow 37 = .ok (.isub, 1) := dk_100 (dk_at dksJ4_grow_1 14 rfl rfl)
theorem dJ4_grow_38 : decode cJ4_grow 38 = .ok (.ifCond .le 11, 3) := dk_158 0 11 (dk_at dksJ4_grow_1 15 rfl rfl)
theorem dJ4_grow_41 : decode cJ4_grow 41 = .ok (.aload_n 0, 1) := dk_42 (dk_at dksJ4_grow_1 18 rfl rfl)
theorem dJ4_grow_42 : decode cJ4_grow 42 = .ok (.iload_n 1, 1) := dk_27 (dk_at dksJ4_grow_1 19 rfl rfl)
theorem dJ4_grow_43 : decode cJ4_grow 43 = .ok (.iload 4, 2) := dk_21 4 (dk_at dksJ4_grow_1 20 rfl rfl)
theorem dJ4_grow_45 : decode cJ4_grow 45 = .ok (.invokevirtual 10, 3) := dk_182 0 10 (dk_at dksJ4_grow_2 0 rfl rfl)
theorem dJ4_grow_48 : decode cJ4_grow 48 = .ok (.istore_n 3, 1) := dk_62 (dk_at dksJ4_grow_2 3 rfl rfl)
theorem dJ4_grow_49 : decode cJ4_grow 49 = .ok (.aload_n 0, 1) := dk_42 (dk_at dksJ4_grow_2 4 rfl rfl)
theorem dJ4_grow_50 : decode cJ4_grow 50 = .ok (.aload_n 0, 1) := dk_42 (dk_at dksJ4_grow_2 5 rfl rfl)
theorem dJ4_grow_51 : decode cJ4_grow 51 = .ok (.getfield 3, 3) := dk_180 0 3 (dk_at dksJ4_grow_2 6 rfl rfl)
theorem dJ4_grow_54 : decode cJ4_grow 54 = .ok (.iload_n 3, 1) := dk_29 (dk_at dksJ4_grow_2 9 rfl rfl)
theorem dJ4_grow_55 : decode cJ4_grow 55 = .ok (.invokestatic 14, 3) := dk_184 0 14 (dk_at dksJ4_grow_2 10 rfl rfl)
theorem dJ4_grow_58 : decode cJ4_grow 58 = .ok (.dup_x1, 1) := dk_90 (dk_at dksJ4_grow_2 13 rfl rfl)
theorem dJ4_grow_59 : decode cJ4_grow 59 = .ok (.putfield 3, 3) := dk_181 0 3 (dk_at dksJ4_grow_2 14 rfl rfl)
theorem dJ4_grow_62 : decode cJ4_grow 62 = .ok (.astore 5, 2) := dk_58 5 (dk_at dksJ4_grow_2 17 rfl rfl)
theorem dJ4_grow_64 : decode cJ4_grow 64 = .ok (.aload_n 0, 1) := dk_42 (dk_at dksJ4_grow_2 19 rfl rfl)
theorem dJ4_grow_65 : decode cJ4_grow 65 = .ok (.getfield 20, 3) := dk_180 0 20 (dk_at dksJ4_grow_2 20 rfl rfl)
theorem dJ4_grow_68 : decode cJ4_grow 68 = .ok (.aload_n 0, 1) := dk_42 (dk_at dksJ4_grow_2 23 rfl rfl)
theorem dJ4_grow_69 : decode cJ4_grow 69 = .ok (.getfield 24, 3) := dk_180 0 24 (dk_at dksJ4_grow_3 0 rfl rfl)
theorem dJ4_grow_72 : decode cJ4_grow 72 = .ok (.if_icmp .lt 24, 3) := dk_161 0 24 (dk_at dksJ4_grow_3 3 rfl rfl)
theorem dJ4_grow_75 : decode cJ4_grow 75 = .ok (.aload_n 0, 1) := dk_42 (dk_at dksJ4_grow_3 6 rfl rfl)
theorem dJ4_grow_76 : decode cJ4_grow 76 = .ok (.getfield 20, 3) := dk_180 0 20 (dk_at dksJ4_grow_3 7 rfl rfl)
theorem dJ4_grow_79 : decode cJ4_grow 79 = .ok (.aload_n 0, 1) := dk_42 (dk_at dksJ4_grow_3 10 rfl rfl)
theorem dJ4_grow_80 : decode cJ4_grow 80 = .ok (.getfield 24, 3) := dk_180 0 24 (dk_at dksJ4_grow_3 11 rfl rfl)
theorem dJ4_grow_83 : decode cJ4_grow 83 = .ok (.if_icmp .ne 81, 3) := dk_160 0 81 (dk_at dksJ4_grow_3 14 rfl rfl)
theorem dJ4_grow_86 : decode cJ4_grow 86 = .ok (.aload 5, 2) := dk_25 5 (dk_at dksJ4_grow_3 17 rfl rfl)
theorem dJ4_grow_88 : decode cJ4_grow 88 = .ok (.aload_n 0, 1) := dk_42 (dk_at dksJ4_grow_3 19 rfl rfl)
theorem dJ4_grow_89 : decode cJ4_grow 89 = .ok (.getfield 24, 3) := dk_180 0 24 (dk_at dksJ4_grow_3 20 rfl rfl)
theorem dJ4_grow_92 : decode cJ4_grow 92 = .ok (.aaload, 1) := dk_50 (dk_at dksJ4_grow_3 23 rfl rfl)
theorem dJ4_grow_93 : decode cJ4_grow 93 = .ok (.ifnull 71, 3) := dk_198 0 71 (dk_at dksJ4_grow_4 0 rfl rfl)
theorem dJ4_grow_96 : decode cJ4_grow 96 = .ok (.iload_n 3, 1) := dk_29 (dk_at dksJ4_grow_4 3 rfl rfl)
theorem dJ4_grow_97 : decode cJ4_grow 97 = .ok (.iload_n 2, 1) := dk_28 (dk_at dksJ4_grow_4 4 rfl rfl)
theorem dJ4_grow_98 : decode cJ4_grow 98 = .ok (.isub, 1) := dk_100 (dk_at dksJ4_grow_4 5 rfl rfl)
theorem dJ4_grow_99 : decode cJ4_grow 99 = .ok (.istore 6, 2) := dk_54 6 (dk_at dksJ4_grow_4 6 rfl rfl)
theorem dJ4_grow_101 : decode cJ4_grow 101 = .ok (.aload 5, 2) := dk_25 5 (dk_at dksJ4_grow_4 8 rfl rfl)
theorem dJ4_grow_103 : decode cJ4_grow 103 = .ok (.aload_n 0, 1) := dk_42 (dk_at dksJ4_grow_4 10 rfl rfl)
theorem dJ4_grow_104 : decode cJ4_grow 104 = .ok (.getfield 24, 3) := dk_180 0 24 (dk_at dksJ4_grow_4 11 rfl rfl)
theorem dJ4_grow_107 : decode cJ4_grow 107 = .ok (.aload 5, 2) := dk_25 5 (dk_at dksJ4_grow_4 14 rfl rfl)
theorem dJ4_grow_109 : decode cJ4_grow 109 = .ok (.aload_n 0, 1) := dk_42 (dk_at dksJ4_grow_4 16 rfl rfl)
theorem dJ4_grow_110 : decode cJ4_grow 110 = .ok (.getfield 24, 3) := dk_180 0 24 (dk_at dksJ4_grow_4 17 rfl rfl)
theorem dJ4_grow_113 : decode cJ4_grow 113 = .ok (.iload 6, 2) := dk_21 6 (dk_at dksJ4_grow_4 20 rfl rfl)
theorem dJ4_grow_115 : decode cJ4_grow 115 = .ok (.iadd, 1) := dk_96 (dk_at dksJ4_grow_4 22 rfl rfl)
theorem dJ4_grow_116 : decode cJ4_grow 116 = .ok (.iload_n 2, 1) := dk_28 (dk_at dksJ4_grow_4 23 rfl rfl)
theorem dJ4_grow_117 : decode cJ4_grow 117 = .ok (.aload_n 0, 1) := dk_42 (dk_at dksJ4_grow_5 0 rfl rfl)
theorem dJ4_grow_118 : decode cJ4_grow 118 = .ok (.getfield 24, 3) := dk_180 0 24 (dk_at dksJ4_grow_5 1 rfl rfl)
theorem dJ4_grow_121 : decode cJ4_grow 121 = .ok (.isub, 1) := dk_100 (dk_at dksJ4_grow_5 4 rfl rfl)
theorem dJ4_grow_122 : decode cJ4_grow 122 = .ok (.invokestatic 27, 3) := dk_184 0 27 (dk_at dksJ4_grow_5 5 rfl rfl)
theorem dJ4_grow_125 : decode cJ4_grow 125 = .ok (.aload_n 0, 1) := dk_42 (dk_at dksJ4_grow_5 8 rfl rfl)
theorem dJ4_grow_126 : decode cJ4_grow 126 = .ok (.getfield 24, 3) := dk_180 0 24 (dk_at dksJ4_grow_5 9 rfl rfl)
theorem dJ4_grow_129 : decode cJ4_grow 129 = .ok (.istore 7, 2) := dk_54 7 (dk_at dksJ4_grow_5 12 rfl rfl)
theorem dJ4_grow_131 : decode cJ4_grow 131 = .ok (.aload_n 0, 1) := dk_42 (dk_at dksJ4_grow_5 14 rfl rfl)
theorem dJ4_grow_132 : decode cJ4_grow 132 = .ok (.dup, 1) := dk_89 (dk_at dksJ4_grow_5 15 rfl rfl)
theorem dJ4_grow_133 : decode cJ4_grow 133 = .ok (.getfield 24, 3) := dk_180 0 24 (dk_at dksJ4_grow_5 16 rfl rfl)
theorem dJ4_grow_136 : decode cJ4_grow 136 = .ok (.iload 6, 2) := dk_21 6 (dk_at dksJ4_grow_5 19 rfl rfl)
theorem dJ4_grow_138 : decode cJ4_grow 138 = .ok (.iadd, 1) := dk_96 (dk_at dksJ4_grow_5 21 rfl rfl)
theorem dJ4_grow_139 : decode cJ4_grow 139 = .ok (.dup_x1, 1) := dk_90 (dk_at dksJ4_grow_5 22 rfl rfl)
theorem dJ4_grow_140 : decode cJ4_grow 140 = .ok (.putfield 24, 3) := dk_181 0 24 (dk_at dksJ4_grow_6 0 rfl rfl)
theorem dJ4_grow_143 : decode cJ4_grow 143 = .ok (.istore 8, 2) := dk_54 8 (dk_at dksJ4_grow_6 3 rfl rfl)
theorem dJ4_grow_145 : decode cJ4_grow 145 = .ok (.iload 7, 2) := dk_21 7 (dk_at dksJ4_grow_6 5 rfl rfl)
theorem dJ4_grow_147 : decode cJ4_grow 147 = .ok (.iload 8, 2) := dk_21 8 (dk_at dksJ4_grow_6 7 rfl rfl)
theorem dJ4_grow_149 : decode cJ4_grow 149 = .ok (.if_icmp .ge 15, 3) := dk_162 0 15 (dk_at dksJ4_grow_6 9 rfl rfl)
theorem dJ4_grow_152 : decode cJ4_grow 152 = .ok (.aload 5, 2) := dk_25 5 (dk_at dksJ4_grow_6 12 rfl rfl)
theorem dJ4_grow_154 : decode cJ4_grow 154 = .ok (.iload 7, 2) := dk_21 7 (dk_at dksJ4_grow_6 14 rfl rfl)
theorem dJ4_grow_156 : decode cJ4_grow 156 = .ok (.aconst_null, 1) := dk_1 (dk_at dksJ4_grow_6 16 rfl rfl)
theorem dJ4_grow_157 : decode cJ4_grow 157 = .ok (.aastore, 1) := dk_83 (dk_at dksJ4_grow_6 17 rfl rfl)
theorem dJ4_grow_158 : decode cJ4_grow 158 = .ok (.iinc 7 1, 3) := dk_132 7 1 (dk_at dksJ4_grow_6 18 rfl rfl)
theorem dJ4_grow_161 : decode cJ4_grow 161 = .ok (.goto (-16), 3) := dk_167 255 240 (dk_at dksJ4_grow_6 21 rfl rfl)
theorem dJ4_grow_164 : decode cJ4_grow 164 = .ok (.return_, 1) := dk_177 (dk_at dksJ4_grow_7 0 rfl rfl)
def dkwJ4_newCapacity_2 : List UInt8 := [18, 9, 100, 156, 0, 9, 29, 28, 96, 167, 0, 5, 18, 9, 172]
abbrev dktJ4_newCapacity_2 : List UInt8 := dkwJ4_newCapacity_2 ++ []
def dkwJ4_newCapacity_1 : List UInt8 := [187, 0, 33, 89, 18, 35, 183, 0, 37, 191, 18, 41, 172, 27, 28, 164, 0, 6, 21, 4, 172, 29, 28, 96]
abbrev dktJ4_newCapacity_1 : List UInt8 := dkwJ4_newCapacity_1 ++ dktJ4_newCapacity_2
def dkwJ4_newCapacity_0 : List UInt8 := [42, 180, 0, 3, 190, 62, 29, 27, 96, 89, 54, 4, 18, 9, 100, 158, 0, 21, 21, 4, 156, 0, 13]
abbrev dktJ4_newCapacity_0 : List UInt8 := dkwJ4_newCapacity_0 ++ dktJ4_newCapacity_1
theorem dksJ4_newCapacity_0 : cJ4_newCapacity.data.toList.drop 0 = dktJ4_newCapacity_0 := by decide +kernel
theorem dksJ4_newCapacity_1 : cJ4_newCapacity.data.toList.drop 23 = dktJ4_newCapacity_1 := dk_seg dksJ4_newCapacity_0 23 rfl rfl
theorem dksJ4_newCapacity_2 : cJ4_newCapacity.data.toList.drop 47 = dktJ4_newCapacity_2 := dk_seg dksJ4_newCapacity_1 24 rfl rfl
theorem dJ4_newCapacity_0 : decode cJ4_newCapacity 0 = .ok (.aload_n 0, 1) := dk_42 (dk_at dksJ4_newCapacity_0 0 rfl rfl)
theorem dJ4_newCapacity_1 : decode cJ4_newCapacity 1 = .ok (.getfield 3, 3) := dk_180 0 3 (dk_at dksJ4_newCapacity_0 1 rfl rfl)
theorem dJ4_newCapacity_4 : decode cJ4_newCapacity 4 = .ok (.arraylength, 1) := dk_190 (dk_at dksJ4_newCapacity_0 4 rfl rfl)
theorem dJ4_newCapacity_5 : decode cJ4_newCapacity 5 = .ok (.istore_n 3, 1) := dk_62 (dk_at dksJ4_newCapacity_0 5 rfl rfl)
theorem dJ4_newCapacity_6 : decode cJ4_newCapacity 6 = .ok (.iload_n 3, 1) := dk_29 (dk_at dksJ4_newCapacity_0 6 rfl rfl)
theorem dJ4_newCapacity_7 : decode cJ4_newCapacity 7 = .ok (.iload_n 1, 1) := dk_27 (dk_at dksJ4_newCapacity_0 7 rfl rfl)
theorem dJ4_newCapacity_8 : decode cJ4_newCapacity 8 = .ok (.iadd, 1) := dk_96 (dk_at dksJ4_newCapacity_0 8 rfl rfl)
theorem dJ4_newCapacity_9 : decode cJ4_newCapacity 9 = .ok (.dup, 1) := dk_89 (dk_at dksJ4_newCapacity_0 9 rfl rfl)
theorem dJ4_newCapacity_10 : decode cJ4_newCapacity 10 = .ok (.istore 4, 2) := dk_54 4 (dk_at dksJ4_newCapacity_0 10 rfl rfl)
theorem dJ4_newCapacity_12 : decode cJ4_newCapacity 12 = .ok (.ldc 9, 2) := dk_18 9 (dk_at dksJ4_newCapacity_0 12 rfl rfl)
theorem dJ4_newCapacity_14 : decode cJ4_newCapacity 14 = .ok (.isub, 1) := dk_100 (dk_at dksJ4_newCapacity_0 14 rfl rfl)
theorem dJ4_newCapacity_15 : decode cJ4_newCapacity 15 = .ok (.ifCond .le 21, 3) := dk_158 0 21 (dk_at dksJ4_newCapacity_0 15 rfl rfl)
theorem dJ4_newCapacity_18 : decode cJ4_newCapacity 18 = .ok (.iload 4, 2) := dk_21 4 (dk_at dksJ4_newCapacity_0 18 rfl rfl)
theorem dJ4_newCapacity_20 : decode cJ4_newCapacity 20 = .ok (.ifCond .ge 13, 3) := dk_156 0 13 (dk_at dksJ4_newCapacity_0 20 rfl rfl)
theorem dJ4_newCapacity_23 : decode cJ4_newCapacity 23 = .ok (.new 33, 3) := dk_187 0 33 (dk_at dksJ4_newCapacity_1 0 rfl rfl)
theorem dJ4_newCapacity_26 : decode cJ4_newCapacity 26 = .ok (.dup, 1) := dk_89 (dk_at dksJ4_newCapacity_1 3 rfl rfl)
theorem dJ4_newCapacity_27 : decode cJ4_newCapacity 27 = .ok (.ldc 35, 2) := dk_18 35 (dk_at dksJ4_newCapacity_1 4 rfl rfl)
theorem dJ4_newCapacity_29 : decode cJ4_newCapacity 29 = .ok (.invokespecial 37, 3) := dk_183 0 37 (dk_at dksJ4_newCapacity_1 6 rfl rfl)
theorem dJ4_newCapacity_32 : decode cJ4_newCapacity 32 = .ok (.athrow, 1) := dk_191 (dk_at dksJ4_newCapacity_1 9 rfl rfl)
theorem dJ4_newCapacity_33 : decode cJ4_newCapacity 33 = .ok (.ldc 41, 2) := dk_18 41 (dk_at dksJ4_newCapacity_1 10 rfl rfl)
theorem dJ4_newCapacity_35 : decode cJ4_newCapacity 35 = .ok (.ireturn, 1) := dk_172 (dk_at dksJ4_newCapacity_1 12 rfl rfl)
theorem dJ4_newCapacity_36 : decode cJ4_newCapacity 36 = .ok (.iload_n 1, 1) := dk_27 (dk_at dksJ4_newCapacity_1 13 rfl rfl)
theorem dJ4_newCapacity_37 : decode cJ4_newCapacity 37 = .ok (.iload_n 2, 1) := dk_28 (dk_at dksJ4_newCapacity_1 14 rfl rfl)
theorem dJ4_newCapacity_38 : decode cJ4_newCapacity 38 = .ok (.if_icmp .le 6, 3) := dk_164 0 6 (dk_at dksJ4_newCapacity_1 15 rfl rfl)
theorem dJ4_newCapacity_41 : decode cJ4_newCapacity 41 = .ok (.iload 4, 2) := dk_21 4 (dk_at dksJ4_newCapacity_1 18 rfl rfl)
theorem dJ4_newCapacity_43 : decode cJ4_newCapacity 43 = .ok (.ireturn, 1) := dk_172 (dk_at dksJ4_newCapacity_1 20 rfl rfl)
theorem dJ4_newCapacity_44 : decode cJ4_newCapacity 44 = .ok (.iload_n 3, 1) := dk_29 (dk_at dksJ4_newCapacity_1 21 rfl rfl)
theorem dJ4_newCapacity_45 : decode cJ4_newCapacity 45 = .ok (.iload_n 2, 1) := dk_28 (dk_at dksJ4_newCapacity_1 22 rfl rfl)
theorem dJ4_newCapacity_46 : decode cJ4_newCapacity 46 = .ok (.iadd, 1) := dk_96 (dk_at dksJ4_newCapacity_1 23 rfl rfl)
theorem dJ4_newCapacity_47 : decode cJ4_newCapacity 47 = .ok (.ldc 9, 2) := dk_18 9 (dk_at dksJ4_newCapacity_2 0 rfl rfl)
theorem dJ4_newCapacity_49 : decode cJ4_newCapacity 49 = .ok (.isub, 1) := dk_100 (dk_at dksJ4_newCapacity_2 2 rfl rfl)
theorem dJ4_newCapacity_50 : decode cJ4_newCapacity 50 = .ok (.ifCond .ge 9, 3) := dk_156 0 9 (dk_at dksJ4_newCapacity_2 3 rfl rfl)
theorem dJ4_newCapacity_53 : decode cJ4_newCapacity 53 = .ok (.iload_n 3, 1) := dk_29 (dk_at dksJ4_newCapacity_2 6 rfl rfl)
theorem dJ4_newCapacity_54 : decode cJ4_newCapacity 54 = .ok (.iload_n 2, 1) := dk_28 (dk_at dksJ4_newCapacity_2 7 rfl rfl)
theorem dJ4_newCapacity_55 : decode cJ4_newCapacity 55 = .ok (.iadd, 1) := dk_96 (dk_at dksJ4_newCapacity_2 8 rfl rfl)
theorem dJ4_newCapacity_56 : decode cJ4_newCapacity 56 = .ok (.goto 5, 3) := dk_167 0 5 (dk_at dksJ4_newCapacity_2 9 rfl rfl)
theorem dJ4_newCapacity_59 : decode cJ4_newCapacity 59 = .ok (.ldc 9, 2) := dk_18 9 (dk_at dksJ4_newCapacity_2 12 rfl rfl)
theorem dJ4_newCapacity_61 : decode cJ4_newCapacity 61 = .ok (.ireturn, 1) := dk_172 (dk_at dksJ4_newCapacity_2 14 rfl rfl)
def dkwJ4_isEmpty_0 : List UInt8 := [42, 180, 0, 24, 42, 180, 0, 20, 160, 0, 7, 4, 167, 0, 4, 3, 172]
abbrev dktJ4_isEmpty_0 : List UInt8 := dkwJ4_isEmpty_0 ++ []
theorem dksJ4_isEmpty_0 : cJ4_isEmpty.data.toList.drop 0 = dktJ4_isEmpty_0 := by decide +kernel
theorem dJ4_isEmpty_0 : decode cJ4_isEmpty 0 = .ok (.aload_n 0, 1) := dk_42 (dk_at dksJ4_isEmpty_0 0 rfl rfl)
theorem dJ4_isEmpty_1 : decode cJ4_isEmpty 1 = .ok (.getfield 24, 3) := dk_180 0 24 (dk_at dksJ4_isEmpty_0 1 rfl rfl)
theorem dJ4_isEmpty_4 : decode cJ4_isEmpty 4 = .ok (.aload_n 0, 1) := dk_42 (dk_at dksJ4_isEmpty_0 4 rfl rfl)
theorem dJ4_isEmpty_5 : decode cJ4_isEmpty 5 = .ok (.getfield 20, 3) := dk_180 0 20 (dk_at dksJ4_isEmpty_0 5 rfl rfl)
theorem dJ4_isEmpty_8 : decode cJ4_isEmpty 8 = .ok (.if_icmp .ne 7, 3) := dk_160 0 7 (dk_at dksJ4_isEmpty_0 8 rfl rfl)
theorem dJ4_isEmpty_11 : decode cJ4_isEmpty 11 = .ok (.iconst 1, 1) := dk_4 (dk_at dksJ4_isEmpty_0 11 rfl rfl)
theorem dJ4_isEmpty_12 : decode cJ4_isEmpty 12 = .ok (.goto 4, 3) := dk_167 0 4 (dk_at dksJ4_isEmpty_0 12 rfl rfl)
theorem dJ4_isEmpty_15 : decode cJ4_isEmpty 15 = .ok (.iconst 0, 1) := dk_3 (dk_at dksJ4_isEmpty_0 15 rfl rfl)
theorem dJ4_isEmpty_16 : decode cJ4_isEmpty 16 = .ok (.ireturn, 1) := dk_172 (dk_at dksJ4_isEmpty_0 16 rfl rfl)
theorem dJ4_pop_0 : decode cJ4_pop 0 = .ok (.aload_n 0, 1) := by decide +kernel
theorem dJ4_pop_1 : decode cJ4_pop 1 = .ok (.invokevirtual 118, 3) := by decide +kernel
theorem dJ4_pop_4 : decode cJ4_pop 4 = .ok (.areturn, 1) := by decide +kernel
def dkwJ4_removeFirst_0 : List UInt8 := [42, 182, 0, 93, 76, 43, 199, 0, 11, 187, 0, 97, 89, 183, 0, 99, 191, 43, 176]
abbrev dktJ4_removeFirst_0 : List UInt8 := dkwJ4_removeFirst_0 ++ []
theorem dksJ4_removeFirst_0 : cJ4_removeFirst.data.toList.drop 0 = dktJ4_removeFirst_0 := by decide +kernel
theorem dJ4_removeFirst_0 : decode cJ4_removeFirst 0 = .ok (.aload_n 0, 1) := dk_42 (dk_at dksJ4_removeFirst_0 0 rfl rfl)
theorem dJ4_removeFirst_1 : decode cJ4_removeFirst 1 = .ok (.invokevirtual 93, 3) := dk_182 0 93 (dk_at dksJ4_removeFirst_0 1 rfl rfl)
theorem dJ4_removeFirst_4 : decode cJ4_removeFirst 4 = .ok (.astore_n 1, 1) := dk_76 (dk_at dksJ4_removeFirst_0 4 rfl rfl)
theorem dJ4_removeFirst_5 : decode cJ4_removeFirst 5 = .ok (.aload_n 1, 1) := dk_43 (dk_at dksJ4_removeFirst_0 5 rfl rfl)
theorem dJ4_removeFirst_6 : decode cJ4_removeFirst 6 = .ok (.ifnonnull 11, 3) := dk_199 0 11 (dk_at dksJ4_removeFirst_0 6 rfl rfl)
theorem dJ4_removeFirst_9 : decode cJ4_removeFirst 9 = .ok (.new 97, 3) := dk_187 0 97 (dk_at dksJ4_removeFirst_0 9 rfl rfl)
theorem dJ4_removeFirst_12 : decode cJ4_removeFirst 12 = .ok (.dup, 1) := dk_89 (dk_at dksJ4_removeFirst_0 12 rfl rfl)
theorem dJ4_removeFirst_13 : decode cJ4_removeFirst 13 = .ok (.invokespecial 99, 3) := dk_183 0 99 (dk_at dksJ4_removeFirst_0 13 rfl rfl)
theorem dJ4_removeFirst_16 : decode cJ4_removeFirst 16 = .ok (.athrow, 1) := dk_191 (dk_at dksJ4_removeFirst_0 16 rfl rfl)
theorem dJ4_removeFirst_17 : decode cJ4_removeFirst 17 = .ok (.aload_n 1, 1) := dk_43 (dk_at dksJ4_removeFirst_0 17 rfl rfl)
theorem dJ4_removeFirst_18 : decode cJ4_removeFirst 18 = .ok (.areturn, 1) := dk_176 (dk_at dksJ4_removeFirst_0 18 rfl rfl)
def dkwJ4_pollFirst_1 : List UInt8 := [42, 28, 43, 190, 184, 0, 74, 181, 0, 24, 45, 176]
abbrev dktJ4_pollFirst_1 : List UInt8 := dkwJ4_pollFirst_1 ++ []
def dkwJ4_pollFirst_0 : List UInt8 := [42, 180, 0, 3, 89, 76, 42, 180, 0, 24, 89, 61, 184, 0, 103, 78, 45, 198, 0, 17, 43, 28, 1, 83]
abbrev dktJ4_pollFirst_0 : List UInt8 := dkwJ4_pollFirst_0 ++ dktJ4_pollFirst_1
theorem dksJ4_pollFirst_0 : cJ4_pollFirst.data.toList.drop 0 = dktJ4_pollFirst_0 := by decide +kernel
theorem dksJ4_pollFirst_1 : cJ4_pollFirst.data.toList.drop 24 = dktJ4_pollFirst_1 := dk_seg dksJ4_pollFirst_0 24 rfl rfl
theorem dJ4_pollFirst_0 : decode cJ4_pollFirst 0 = .ok (.aload_n 0, 1) := dk_42 (dk_at dksJ4_pollFirst_0 0 rfl rfl)
theorem dJ4_pollFirst_1 : decode cJ4_pollFirst 1 = .ok (.getfield 3, 3) := dk_180 0 3 (dk_at dksJ4_pollFirst_0 1 rfl rfl)
theorem dJ4_pollFirst_4 : decode cJ4_pollFirst 4 = .ok (.dup, 1) := dk_89 (dk_at dksJ4_pollFirst_0 4 rfl rfl)
theorem dJ4_pollFirst_5 : decode cJ4_pollFirst 5 = .ok (.astore_n 1, 1) := dk_76 (dk_at dksJ4_pollFirst_0 5 rfl rfl)
theorem dJ4_pollFirst_6 : decode cJ4_pollFirst 6 = .ok (.aload_n 0, 1) := dk_42 (dk_at dksJ4_pollFirst_0 6 rfl rfl)
theorem dJ4_pollFirst_7 : decode cJ4_pollFirst 7 = .ok (.getfield 24, 3) := dk_180 0 24 (dk_at dksJ4_pollFirst_0 7 rfl rfl)
theorem dJ4_pollFirst_10 : decode cJ4_pollFirst 10 = .ok (.dup, 1) := dk_89 (dk_at dksJ4_pollFirst_0 10 rfl rfl)
theorem dJ4_pollFirst_11 : decode cJ4_pollFirst 11 = .ok (.istore_n 2, 1) := dk_61 (dk_at dksJ4_pollFirst_0 11 rfl rfl)
theorem dJ4_pollFirst_12 : decode cJ4_pollFirst 12 = .ok (.invokestatic 103, 3) := dk_184 0 103 (dk_at dksJ4_pollFirst_0 12 rfl rfl)
theorem dJ4_pollFirst_15 : decode cJ4_pollFirst 15 = .ok (.astore_n 3, 1) := dk_78 (dk_at dksJ4_pollFirst_0 15 rfl rfl)
theorem dJ4_pollFirst_16 : decode cJ4_pollFirst 16 = .ok (.aload_n 3, 1) := dk_45 (dk_at dksJ4_pollFirst_0 16 rfl rfl)
theorem dJ4_pollFirst_17 : decode cJ4_pollFirst 17 = .ok (.ifnull 17, 3) := dk_198 0 17 (dk_at dksJ4_pollFirst_0 17 rfl rfl)
theorem dJ4_pollFirst_20 : decode cJ4_pollFirst 20 = .ok (.aload_n 1, 1) := dk_43 (dk_at dksJ4_pollFirst_0 20 rfl rfl)
theorem dJ4_pollFirst_21 : decode cJ4_pollFirst 21 = .ok (.iload_n 2, 1) := dk_28 (dk_at dksJ4_pollFirst_0 21 rfl rfl)
theorem dJ4_pollFirst_22 : decode cJ4_pollFirst 22 = .ok (.aconst_null, 1) := dk_1 (dk_at dksJ4_pollFirst_0 22 rfl rfl)
theorem dJ4_pollFirst_23 : decode cJ4_pollFirst 23 = .ok (.aastore, 1) := dk_83 (dk_at dksJ4_pollFirst_0 23 rfl rfl)
theorem dJ4_pollFirst_24 : decode cJ4_pollFirst 24 = .ok (.aload_n 0, 1) := dk_42 (dk_at dksJ4_pollFirst_1 0 rfl rfl)
theorem dJ4_pollFirst_25 : decode cJ4_pollFirst 25 = .ok (.iload_n 2, 1) := dk_28 (dk_at dksJ4_pollFirst_1 1 rfl rfl)
theorem dJ4_pollFirst_26 : decode cJ4_pollFirst 26 = .ok (.aload_n 1, 1) := dk_43 (dk_at dksJ4_pollFirst_1 2 rfl rfl)
theorem dJ4_pollFirst_27 : decode cJ4_pollFirst 27 = .ok (.arraylength, 1) := dk_190 (dk_at dksJ4_pollFirst_1 3 rfl rfl)
theorem dJ4_pollFirst_28 : decode cJ4_pollFirst 28 = .ok (.invokestatic 74, 3) := dk_184 0 74 (dk_at dksJ4_pollFirst_1 4 rfl rfl)
theorem dJ4_pollFirst_31 : decode cJ4_pollFirst 31 = .ok (.putfield 24, 3) := dk_181 0 24 (dk_at dksJ4_pollFirst_1 7 rfl rfl)
theorem dJ4_pollFirst_34 : decode cJ4_pollFirst 34 = .ok (.aload_n 3, 1) := dk_45 (dk_at dksJ4_pollFirst_1 10 rfl rfl)
theorem dJ4_pollFirst_35 : decode cJ4_pollFirst 35 = .ok (.areturn, 1) := dk_176 (dk_at dksJ4_pollFirst_1 11 rfl rfl)
def dkwJ4_inc_0 : List UInt8 := [132, 0, 1, 26, 27, 161, 0, 5, 3, 59, 26, 172]
abbrev dktJ4_inc_0 : List UInt8 := dkwJ4_inc_0 ++ []
theorem dksJ4_inc_0 : cJ4_inc.data.toList.drop 0 = dktJ4_inc_0 := by decide +kernel
theorem dJ4_inc_0 : decode cJ4_inc 0 = .ok (.iinc 0 1, 3) := dk_132 0 1 (dk_at dksJ4_inc_0 0 rfl rfl)
theorem dJ4_inc_3 : decode cJ4_inc 3 = .ok (.iload_n 0, 1) := dk_26 (dk_at dksJ4_inc_0 3 rfl rfl)
theorem dJ4_inc_4 : decode cJ4_inc 4 = .ok (.iload_n 1, 1) := dk_27 (dk_at dksJ4_inc_0 4 rfl rfl)
theorem dJ4_inc_5 : decode cJ4_inc 5 = .ok (.if_icmp .lt 5, 3) := dk_161 0 5 (dk_at dksJ4_inc_0 5 rfl rfl)
theorem dJ4_inc_8 : decode cJ4_inc 8 = .ok (.iconst 0, 1) := dk_3 (dk_at dksJ4_inc_0 8 rfl rfl)
theorem dJ4_inc_9 : decode cJ4_inc 9 = .ok (.istore_n 0, 1) := dk_59 (dk_at dksJ4_inc_0 9 rfl rfl)
theorem dJ4_inc_10 : decode cJ4_inc 10 = .ok (.iload_n 0, 1) := dk_26 (dk_at dksJ4_inc_0 10 rfl rfl)
theorem dJ4_inc_11 : decode cJ4_inc 11 = .ok (.ireturn, 1) := dk_172 (dk_at dksJ4_inc_0 11 rfl rfl)
def dkwJ4_clear_1 : List UInt8 := [181, 0, 24, 177]
abbrev dktJ4_clear_1 : List UInt8 := dkwJ4_clear_1 ++ []
def dkwJ4_clear_0 : List UInt8 := [42, 180, 0, 3, 42, 180, 0, 24, 42, 180, 0, 20, 184, 0, 181, 42, 42, 3, 90, 181, 0, 20]
abbrev dktJ4_clear_0 : List UInt8 := dkwJ4_clear_0 ++ dktJ4_clear_1
theorem dksJ4_clear_0 : cJ4_clear.data.toList.drop 0 = dktJ4_clear_0 := by decide +kernel
theorem dksJ4_clear_1 : cJ4_clear.data.toList.drop 22 = dktJ4_clear_1 := dk_seg dksJ4_clear_0 22 rfl rfl
theorem dJ4_clear_0 : decode cJ4_clear 0 = .ok (.aload_n 0, 1) := dk_42 (dk_at dksJ4_clear_0 0 rfl rfl)
theorem dJ4_clear_1 : decode cJ4_clear 1 = .ok (.getfield 3, 3) := dk_180 0 3 (dk_at dksJ4_clear_0 1 rfl rfl)
theorem dJ4_clear_4 : decode cJ4_clear 4 = .ok (.aload_n 0, 1) := dk_42 (dk_at dksJ4_clear_0 4 rfl rfl)
theorem dJ4_clear_5 : decode cJ4_clear 5 = .ok (.getfield 24, 3) := dk_180 0 24 (dk_at dksJ4_clear_0 5 rfl rfl)
theorem dJ4_clear_8 : decode cJ4_clear 8 = .ok (.aload_n 0, 1) := dk_42 (dk_at dksJ4_clear_0 8 rfl rfl)
theorem dJ4_clear_9 : decode cJ4_clear 9 = .ok (.getfield 20, 3) := dk_180 0 20 (dk_at dksJ4_clear_0 9 rfl rfl)
theorem dJ4_clear_12 : decode cJ4_clear 12 = .ok (.invokestatic 181, 3) := dk_184 0 181 (dk_at dksJ4_clear_0 12 rfl rfl)
theorem dJ4_clear_15 : decode cJ4_clear 15 = .ok (.aload_n 0, 1) := dk_42 (dk_at dksJ4_clear_0 15 rfl rfl)
theorem dJ4_clear_16 : decode cJ4_clear 16 = .ok (.aload_n 0, 1) := dk_42 (dk_at dksJ4_clear_0 16 rfl rfl)
theorem dJ4_clear_17 : decode cJ4_clear 17 = .ok (.iconst 0, 1) := dk_3 (dk_at dksJ4_clear_0 17 rfl rfl)
theorem dJ4_clear_18 : decode cJ4_clear 18 = .ok (.dup_x1, 1) := dk_90 (dk_at dksJ4_clear_0 18 rfl rfl)
theorem dJ4_clear_19 : decode cJ4_clear 19 = .ok (.putfield 20, 3) := dk_181 0 20 (dk_at dksJ4_clear_0 19 rfl rfl)
theorem dJ4_clear_22 : decode cJ4_clear 22 = .ok (.putfield 24, 3) := dk_181 0 24 (dk_at dksJ4_clear_1 0 rfl rfl)
theorem dJ4_clear_25 : decode cJ4_clear 25 = .ok (.return_, 1) := dk_177 (dk_at dksJ4_clear_1 3 rfl rfl)
def dkwJ4_circularClear_1 : List UInt8 := [167, 255, 244, 29, 28, 160, 0, 6, 167, 0, 10, 3, 60, 28, 62, 167, 255, 229, 177]
abbrev dktJ4_circularClear_1 : List UInt8 := dkwJ4_circularClear_1 ++ []
def dkwJ4_circularClear_0 : List UInt8 := [27, 28, 163, 0, 7, 28, 167, 0, 5, 42, 190, 62, 27, 29, 162, 0, 13, 42, 27, 1, 83, 132, 1, 1]
abbrev dktJ4_circularClear_0 : List UInt8 := dkwJ4_circularClear_0 ++ dktJ4_circularClear_1
theorem dksJ4_circularClear_0 : cJ4_circularClear.data.toList.drop 0 = dktJ4_circularClear_0 := by decide +kernel
theorem dksJ4_circularClear_1 : cJ4_circularClear.data.toList.drop 24 = dktJ4_circularClear_1 := dk_seg dksJ4_circularClear_0 24 rfl rfl
theorem dJ4_circularClear_0 : decode cJ4_circularClear 0 = .ok (.iload_n 1, 1) := dk_27 (dk_at dksJ4_circularClear_0 0 rfl rfl)
theorem dJ4_circularClear_1 : decode cJ4_circularClear 1 = .ok (.iload_n 2, 1) := dk_28 (dk_at dksJ4_circularClear_0 1 rfl rfl)
theorem dJ4_circularClear_2 : decode cJ4_circularClear 2 = .ok (.if_icmp .gt 7, 3) := dk_163 0 7 (dk_at dksJ4_circularClear_0 2 rfl rfl)
theorem dJ4_circularClear_5 : decode cJ4_circularClear 5 = .ok (.iload_n 2, 1) := dk_28 (dk_at dksJ4_circularClear_0 5 rfl rfl)
theorem dJ4_circularClear_6 : decode cJ4_circularClear 6 = .ok (.goto 5, 3) := dk_167 0 5 (dk_at dksJ4_circularClear_0 6 rfl rfl)
theorem dJ4_circularClear_9 : decode cJ4_circularClear 9 = .ok (.aload_n 0, 1) := dk_42 (dk_at dksJ4_circularClear_0 9 rfl rfl)
theorem dJ4_circularClear_10 : decode cJ4_circularClear 10 = .ok (.arraylength, 1) := dk_190 (dk_at dksJ4_circularClear_0 10 rfl rfl)
theorem dJ4_circularClear_11 : decode cJ4_circularClear 11 = .ok (.istore_n 3, 1) := dk_62 (dk_at dksJ4_circularClear_0 11 rfl rfl)
theorem dJ4_circularClear_12 : decode cJ4_circularClear 12 = .ok (.iload_n 1, 1) := dk_27 (dk_at dksJ4_circularClear_0 12 rfl rfl)
theorem dJ4_circularClear_13 : decode cJ4_circularClear 13 = .ok (.iload_n 3, 1) := dk_29 (dk_at dksJ4_circularClear_0 13 rfl rfl)
theorem dJ4_circularClear_14 : decode cJ4_circularClear 14 = .ok (.if_icmp .ge 13, 3) := dk_162 0 13 (dk_at dksJ4_circularClear_0 14 rfl rfl)
theorem dJ4_circularClear_17 : decode cJ4_circularClear 17 = .ok (.aload_n 0, 1) := dk_42 (dk_at dksJ4_circularClear_0 17 rfl rfl)
theorem dJ4_circularClear_18 : decode cJ4_circularClear 18 = .ok (.iload_n 1, 1) := dk_27 (dk_at dksJ4_circularClear_0 18 rfl rfl)
theorem dJ4_circularClear_19 : decode cJ4_circularClear 19 = .ok (.aconst_null, 1) := dk_1 (dk_at dksJ4_circularClear_0 19 rfl rfl)
theorem dJ4_circularClear_20 : decode cJ4_circularClear 20 = .ok (.aastore, 1) := dk_83 (dk_at dksJ4_circularClear_0 20 rfl rfl)
theorem dJ4_circularClear_21 : decode cJ4_circularClear 21 = .ok (.iinc 1 1, 3) := dk_132 1 1 (dk_at dksJ4_circularClear_0 21 rfl rfl)
theorem dJ4_circularClear_24 : decode cJ4_circularClear 24 = .ok (.goto (-12), 3) := dk_167 255 244 (dk_at dksJ4_circularClear_1 0 rfl rfl)
theorem dJ4_circularClear_27 : decode cJ4_circularClear 27 = .ok (.iload_n 3, 1) := dk_29 (dk_at dksJ4_circularClear_1 3 rfl rfl)
theorem dJ4_circularClear_28 : decode cJ4_circularClear 28 = .ok (.iload_n 2, 1) := dk_28 (dk_at dksJ4_circularClear_1 4 rfl rfl)
theorem dJ4_circularClear_29 : decode cJ4_circularClear 29 = .ok (.if_icmp .ne 6, 3) := dk_160 0 6 (dk_at dksJ4_circularClear_1 5 rfl rfl)
theorem dJ4_circularClear_32 : decode cJ4_circularClear 32 = .ok (.goto 10, 3) := dk_167 0 10 (dk_at dksJ4_circularClear_1 8 rfl rfl)
theorem dJ4_circularClear_35 : decode cJ4_circularClear 35 = .ok (.iconst 0, 1) := dk_3 (dk_at dksJ4_circularClear_1 11 rfl rfl)
theorem dJ4_circularClear_36 : decode cJ4_circularClear 36 = .ok (.istore_n 1, 1) := dk_60 (dk_at dksJ4_circularClear_1 12 rfl rfl)
theorem dJ4_circularClear_37 : decode cJ4_circularClear 37 = .ok (.iload_n 2, 1) := dk_28 (dk_at dksJ4_circularClear_1 13 rfl rfl)
theorem dJ4_circularClear_38 : decode cJ4_circularClear 38 = .ok (.istore_n 3, 1) := dk_62 (dk_at dksJ4_circularClear_1 14 rfl rfl)
theorem dJ4_circularClear_39 : decode cJ4_circularClear 39 = .ok (.goto (-27), 3) := dk_167 255 229 (dk_at dksJ4_circularClear_1 15 rfl rfl)
theorem dJ4_circularClear_42 : decode cJ4_circularClear 42 = .ok (.return_, 1) := dk_177 (dk_at dksJ4_circularClear_1 18 rfl rfl)
def tJ4_init : pb_T := [(0, .aload_n 0, 1, 0), (1, .invokespecial 42, 4, 0), (4, .aload_n 0, 5, 0), (5, .bipush 17, 7, 0), (7, .anewarray 47, 10, 0), (10, .putfield 3, 13, 0), (13, .return_, 14, 0)]
theorem tJ4_init_ok : pb_Tok cJ4_init tJ4_init := pb_Tok.cons dJ4_init_0 rfl (pb_Tok.cons dJ4_init_1 rfl (pb_Tok.cons dJ4_init_4 rfl (pb_Tok.cons dJ4_init_5 rfl (pb_Tok.cons dJ4_init_7 rfl (pb_Tok.cons dJ4_init_10 rfl (pb_Tok.cons dJ4_init_13 rfl pb_Tok.nil))))))
def tJ4_size : pb_T := [(0, .aload_n 0, 1, 0), (1, .getfield 20, 4, 0), (4, .aload_n 0, 5, 0), (5, .getfield 24, 8, 0), (8, .aload_n 0, 9, 0), (9, .getfield 3, 12, 0), (12, .arraylength, 13, 0), (13, .invokestatic 127, 16, 0), (16, .ireturn, 17, 0)]
theorem tJ4_size_ok : pb_Tok cJ4_size tJ4_size := pb_Tok.cons dJ4_size_0 rfl (pb_Tok.cons dJ4_size_1 rfl (pb_Tok.cons dJ4_size_4 rfl (pb_Tok.cons dJ4_size_5 rfl (pb_Tok.cons dJ4_size_8 rfl (pb_Tok.cons dJ4_size_9 rfl (pb_Tok.cons dJ4_size_12 rfl (pb_Tok.cons dJ4_size_13 rfl (pb_Tok.cons dJ4_size_16 rfl pb_Tok.nil))))))))
def tJ4_sub : pb_T := [(0, .iload_n 0, 1, 0), (1, .iload_n 1, 2, 0), (2, .isub, 3, 0), (3, .dup, 4, 0), (4, .istore_n 0, 5, 0), (5, .ifCond .ge 7, 8, 12), (8, .iload_n 0, 9, 0), (9, .iload_n 2, 10, 0), (10, .iadd, 11, 0), (11, .istore_n 0, 12, 0), (12, .iload_n 0, 13, 0), (13, .ireturn, 14, 0)]
theorem tJ4_sub_ok : pb_Tok cJ4_sub tJ4_sub := pb_Tok.cons dJ4_sub_0 rfl (pb_Tok.cons dJ4_sub_1 rfl (pb_Tok.cons dJ4_sub_2 rfl (pb_Tok.cons dJ4_sub_3 rfl (pb_Tok.cons dJ4_sub_4 rfl (pb_Tok.cons dJ4_sub_5 rfl (pb_Tok.cons dJ4_sub_8 rfl (pb_Tok.cons dJ4_sub_9 rfl (pb_Tok.cons dJ4_sub_10 rfl (pb_Tok.cons dJ4_sub_11 rfl (pb_Tok.cons dJ4_sub_12 rfl (pb_Tok.cons dJ4_sub_13 rfl pb_Tok.nil)))))))))))
def tJ4_removeLast : pb_T := [(0, .aload_n 0, 1, 0), (1, .invokevirtual 100, 4, 0), (4, .astore_n 1, 5, 0), (5, .aload_n 1, 6, 0), (6, .ifnonnull 11, 9, 17), (9, .new 97, 12, 0), (12, .dup, 13, 0), (13, .invokespecial 99, 16, 0), (16, .athrow, 17, 0), (17, .aload_n 1, 18, 0), (18, .areturn, 19, 0)]
theorem tJ4_removeLast_ok : pb_Tok cJ4_removeLast tJ4_removeLast := pb_Tok.cons dJ4_removeLast_0 rfl (pb_Tok.cons dJ4_removeLast_1 rfl (pb_Tok.cons dJ4_removeLast_4 rfl (pb_Tok.cons dJ4_removeLast_5 rfl (pb_Tok.cons dJ4_removeLast_6 rfl (pb_Tok.cons dJ4_removeLast_9 rfl (pb_Tok.cons dJ4_removeLast_12 rfl (pb_Tok.cons dJ4_removeLast_13 rfl (pb_Tok.cons dJ4_removeLast_16 rfl (pb_Tok.cons dJ4_removeLast_17 rfl (pb_Tok.cons dJ4_removeLast_18 rfl pb_Tok.nil))))))))))
def tJ4_pollLast : pb_T := [(0, .aload_n 0, 1, 0), (1, .getfield 3, 4, 0), (4, .dup, 5, 0), (5, .astore_n 1, 6, 0), (6, .aload_n 0, 7, 0), (7, .getfield 20, 10, 0), (10, .aload_n 1, 11, 0), (11, .arraylength, 12, 0), (12, .invokestatic 68, 15, 0), (15, .dup, 16, 0), (16, .istore_n 2, 17, 0), (17, .invokestatic 103, 20, 0), (20, .astore_n 3, 21, 0), (21, .aload_n 3, 22, 0), (22, .ifnull 12, 25, 34), (25, .aload_n 1, 26, 0), (26, .aload_n 0, 27, 0), (27, .iload_n 2, 28, 0), (28, .dup_x1, 29, 0), (29, .putfield 20, 32, 0), (32, .aconst_null, 33, 0), (33, .aastore, 34, 0), (34, .aload_n 3, 35, 0), (35, .areturn, 36, 0)]
theorem tJ4_pollLast_ok : pb_Tok cJ4_pollLast tJ4_pollLast := pb_Tok.cons dJ4_pollLast_0 rfl (pb_Tok.cons dJ4_pollLast_1 rfl (pb_Tok.cons dJ4_pollLast_4 rfl (pb_Tok.cons dJ4_pollLast_5 rfl (pb_Tok.cons dJ4_pollLast_6 rfl (pb_Tok.cons dJ4_pollLast_7 rfl (pb_Tok.cons dJ4_pollLast_10 rfl (pb_Tok.cons dJ4_pollLast_11 rfl (pb_Tok.cons dJ4_pollLast_12 rfl (pb_Tok.cons dJ4_pollLast_15 rfl (pb_Tok.cons dJ4_pollLast_16 rfl (pb_Tok.cons dJ4_pollLast_17 rfl (pb_Tok.cons dJ4_pollLast_20 rfl (pb_Tok.cons dJ4_pollLast_21 rfl (pb_Tok.cons dJ4_pollLast_22 rfl (pb_Tok.cons dJ4_pollLast_25 rfl (pb_Tok.cons dJ4_pollLast_26 rfl (pb_Tok.cons dJ4_pollLast_27 rfl (pb_Tok.cons dJ4_pollLast_28 rfl (pb_Tok.cons dJ4_pollLast_29 rfl (pb_Tok.cons dJ4_pollLast_32 rfl (pb_Tok.cons dJ4_pollLast_33 rfl (pb_Tok.cons dJ4_pollLast_34 rfl (pb_Tok.cons dJ4_pollLast_35 rfl pb_Tok.nil)))))))))))))))))))))))
def tJ4_dec : pb_T := [(0, .iinc 0 (-1), 3, 0), (3, .iload_n 0, 4, 0), (4, .ifCond .ge 7, 7, 11), (7, .iload_n 1, 8, 0), (8, .iconst 1, 9, 0), (9, .isub, 10, 0), (10, .istore_n 0, 11, 0), (11, .iload_n 0, 12, 0), (12, .ireturn, 13, 0)]
theorem tJ4_dec_ok : pb_Tok cJ4_dec tJ4_dec := pb_Tok.cons dJ4_dec_0 rfl (pb_Tok.cons dJ4_dec_3 rfl (pb_Tok.cons dJ4_dec_4 rfl (pb_Tok.cons dJ4_dec_7 rfl (pb_Tok.cons dJ4_dec_8 rfl (pb_Tok.cons dJ4_dec_9 rfl (pb_Tok.cons dJ4_dec_10 rfl (pb_Tok.cons dJ4_dec_11 rfl (pb_Tok.cons dJ4_dec_12 rfl pb_Tok.nil))))))))
def tJ4_elementAt : pb_T := [(0, .aload_n 0, 1, 0), (1, .iload_n 1, 2, 0), (2, .aaload, 3, 0), (3, .areturn, 4, 0)]
theorem tJ4_elementAt_ok : pb_Tok cJ4_elementAt tJ4_elementAt := pb_Tok.cons dJ4_elementAt_0 rfl (pb_Tok.cons dJ4_elementAt_1 rfl (pb_Tok.cons dJ4_elementAt_2 rfl (pb_Tok.cons dJ4_elementAt_3 rfl pb_Tok.nil)))
def tJ4_push : pb_T := [(0, .aload_n 0, 1, 0), (1, .aload_n 1, 2, 0), (2, .invokevirtual 86, 5, 0), (5, .return_, 6, 0)]
theorem tJ4_push_ok : pb_Tok cJ4_push tJ4_push := pb_Tok.cons dJ4_push_0 rfl (pb_Tok.cons dJ4_push_1 rfl (pb_Tok.cons dJ4_push_2 rfl (pb_Tok.cons dJ4_push_5 rfl pb_Tok.nil)))
def tJ4_addFirst : pb_T := [(0, .aload_n 1, 1, 0), (1, .ifnonnull 11, 4, 12), (4, .new 65, 7, 0), (7, .dup, 8, 0), (8, .invokespecial 67, 11, 0), (11, .athrow, 12, 0), (12, .aload_n 0, 13, 0), (13, .getfield 3, 16, 0), (16, .astore_n 2, 17, 0), (17, .aload_n 2, 18, 0), (18, .aload_n 0, 19, 0), (19, .aload_n 0, 20, 0), (20, .getfield 24, 23, 0), (23, .aload_n 2, 24, 0), (24, .arraylength, 25, 0), (25, .invokestatic 68, 28, 0), (28, .dup_x1, 29, 0), (29, .putfield 24, 32, 0), (32, .aload_n 1, 33, 0), (33, .aastore, 34, 0), (34, .aload_n 0, 35, 0), (35, .getfield 24, 38, 0), (38, .aload_n 0, 39, 0), (39, .getfield 20, 42, 0), (42, .if_icmp .ne 8, 45, 50), (45, .aload_n 0, 46, 0), (46, .iconst 1, 47, 0), (47, .invokevirtual 71, 50, 0), (50, .return_, 51, 0)]
theorem tJ4_addFirst_ok : pb_Tok cJ4_addFirst tJ4_addFirst := pb_Tok.cons dJ4_addFirst_0 rfl (pb_Tok.cons dJ4_addFirst_1 rfl (pb_Tok.cons dJ4_addFirst_4 rfl (pb_Tok.cons dJ4_addFirst_7 rfl (pb_Tok.cons dJ4_addFirst_8 rfl (pb_Tok.cons dJ4_addFirst_11 rfl (pb_Tok.cons dJ4_addFirst_12 rfl (pb_Tok.cons dJ4_addFirst_13 rfl (pb_Tok.cons dJ4_addFirst_16 rfl (pb_Tok.cons dJ4_addFirst_17 rfl (pb_Tok.cons dJ4_addFirst_18 rfl (pb_Tok.cons dJ4_addFirst_19 rfl (pb_Tok.cons dJ4_addFirst_20 rfl (pb_Tok.cons dJ4_addFirst_23 rfl (pb_Tok.cons dJ4_addFirst_24 rfl (pb_Tok.cons dJ4_addFirst_25 rfl (pb_Tok.cons dJ4_addFirst_28 rfl (pb_Tok.cons dJ4_addFirst_29 rfl (pb_Tok.cons dJ4_addFirst_32 rfl (pb_Tok.cons dJ4_addFirst_33 rfl (pb_Tok.cons dJ4_addFirst_34 rfl (pb_Tok.cons dJ4_addFirst_35 rfl (pb_Tok.cons dJ4_addFirst_38 rfl (pb_Tok.cons dJ4_addFirst_39 rfl (pb_Tok.cons dJ4_addFirst_42 rfl (pb_Tok.cons dJ4_addFirst_45 rfl (pb_Tok.cons dJ4_addFirst_46 rfl (pb_Tok.cons dJ4_addFirst_47 rfl (pb_Tok.cons dJ4_addFirst_50 rfl pb_Tok.nil))))))))))))))))))))))))))))
def tJ4_grow_0 : pb_T := [(0, .aload_n 0, 1, 0), (1, .getfield 3, 4, 0), (4, .arraylength, 5, 0), (5, .istore_n 2, 6, 0), (6, .iload_n 2, 7, 0), (7, .bipush 64, 9, 0), (9, .if_icmp .ge 9, 12, 18), (12, .iload_n 2, 13, 0), (13, .iconst 2, 14, 0), (14, .iadd, 15, 0), (15, .goto 6, 18, 21), (18, .iload_n 2, 19, 0), (19, .iconst 1, 20, 0), (20, .ishr, 21, 0), (21, .istore 4, 23, 0), (23, .iload 4, 25, 0), (25, .iload_n 1, 26, 0), (26, .if_icmp .lt 15, 29, 41), (29, .iload_n 2, 30, 0), (30, .iload 4, 32, 0), (32, .iadd, 33, 0), (33, .dup, 34, 0), (34, .istore_n 3, 35, 0), (35, .ldc 9, 37, 0), (37, .isub, 38, 0), (38, .ifCond .le 11, 41, 49), (41, .aload_n 0, 42, 0), (42, .iload_n 1, 43, 0), (43, .iload 4, 45, 0), (45, .invokevirtual 10, 48, 0), (48, .istore_n 3, 49, 0), (49, .aload_n 0, 50, 0), (50, .aload_n 0, 51, 0), (51, .getfield 3, 54, 0), (54, .iload_n 3, 55, 0), (55, .invokestatic 14, 58, 0), (58, .dup_x1, 59, 0), (59, .putfield 3, 62, 0), (62, .astore 5, 64, 0), (64, .aload_n 0, 65, 0), (65, .getfield 20, 68, 0), (68, .aload_n 0, 69, 0), (69, .getfield 24, 72, 0), (72, .if_icmp .lt 24, 75, 96), (75, .aload_n 0, 76, 0), (76, .getfield 20, 79, 0), (79, .aload_n 0, 80, 0), (80, .getfield 24, 83, 0), (83, .if_icmp .ne 81, 86, 164), (86, .aload 5, 88, 0), (88, .aload_n 0, 89, 0), (89, .getfield 24, 92, 0), (92, .aaload, 93, 0), (93, .ifnull 71, 96, 164), (96, .iload_n 3, 97, 0), (97, .iload_n 2, 98, 0), (98, .isub, 99, 0), (99, .istore 6, 101, 0), (101, .aload 5, 103, 0), (103, .aload_n 0, 104, 0)]
theorem tJ4_grow_0_ok : pb_Tok cJ4_grow tJ4_grow_0 := pb_Tok.cons dJ4_grow_0 rfl (pb_Tok.cons dJ4_grow_1 rfl (pb_Tok.cons dJ4_grow_4 rfl (pb_Tok.cons dJ4_grow_5 rfl (pb_Tok.cons dJ4_grow_6 rfl (pb_Tok.cons dJ4_grow_7 rfl (pb_Tok.cons dJ4_grow_9 rfl (pb_Tok.cons dJ4_grow_12 rfl (pb_Tok.cons dJ4_grow_13 rfl (pb_Tok.cons dJ4_grow_14 rfl (pb_Tok.cons dJ4_grow_15 rfl (pb_Tok.cons dJ4_grow_18 rfl (pb_Tok.cons dJ4_grow_19 rfl (pb_Tok.cons dJ4_grow_20 rfl (pb_Tok.cons dJ4_grow_21 rfl (pb_Tok.cons dJ4_grow_23 rfl (pb_Tok.cons dJ4_grow_25 rfl (pb_Tok.cons dJ4_grow_26 rfl (pb_Tok.cons dJ4_grow_29 rfl (pb_Tok.cons dJ4_grow_30 rfl (pb_Tok.cons dJ4_grow_32 rfl (pb_Tok.cons dJ4_grow_33 rfl (pb_Tok.cons dJ4_grow_34 rfl (pb_Tok.cons dJ4_grow_35 rfl (pb_Tok.cons dJ4_grow_37 rfl (pb_Tok.cons dJ4_grow_38 rfl (pb_Tok.cons dJ4_grow_41 rfl (pb_Tok.cons dJ4_grow_42 rfl (pb_Tok.cons dJ4_grow_43 rfl (pb_Tok.cons dJ4_grow_45 rfl (pb_Tok.cons dJ4_grow_48 rfl (pb_Tok.cons dJ4_grow_49 rfl (pb_Tok.cons dJ4_grow_50 rfl (pb_Tok.cons dJ4_grow_51 rfl (pb_Tok.cons dJ4_grow_54 rfl (pb_Tok.cons dJ4_grow_55 rfl (pb_Tok.cons dJ4_grow_58 rfl (pb_Tok.cons dJ4_grow_59 rfl (pb_Tok.cons dJ4_grow_62 rfl (pb_Tok.cons dJ4_grow_64 rfl (pb_Tok.cons dJ4_grow_65 rfl (pb_Tok.cons dJ4_grow_68 rfl (pb_Tok.cons dJ4_grow_69 rfl (pb_Tok.cons dJ4_grow_72 rfl (pb_Tok.cons dJ4_grow_75 rfl (pb_Tok.cons dJ4_grow_76 rfl (pb_Tok.cons dJ4_grow_79 rfl (pb_Tok.cons dJ4_grow_80 rfl (pb_Tok.cons dJ4_grow_83 rfl (pb_Tok.cons dJ4_grow_86 rfl (pb_Tok.cons dJ4_grow_88 rfl (pb_Tok.cons dJ4_grow_89 rfl (pb_Tok.cons dJ4_grow_92 rfl (pb_Tok.cons dJ4_grow_93 rfl (pb_Tok.cons dJ4_grow_96 rfl (pb_Tok.cons dJ4_grow_97 rfl (pb_Tok.cons dJ4_grow_98 rfl (pb_Tok.cons dJ4_grow_99 rfl (pb_Tok.cons dJ4_grow_101 rfl (pb_Tok.cons dJ4_grow_103 rfl pb_Tok.nil)))))))))))))))))))))))))))))))))))))))))))))))))))))))))))
def tJ4_grow_1 : pb_T := [(104, .getfield 24, 107, 0), (107, .aload 5, 109, 0), (109, .aload_n 0, 110, 0), (110, .getfield 24, 113, 0), (113, .iload 6, 115, 0), (115, .iadd, 116, 0), (116, .iload_n 2, 117, 0), (117, .aload_n 0, 118, 0), (118, .getfield 24, 121, 0), (121, .isub, 122, 0), (122, .invokestatic 27, 125, 0), (125, .aload_n 0, 126, 0), (126, .getfield 24, 129, 0), (129, .istore 7, 131, 0), (131, .aload_n 0, 132, 0), (132, .dup, 133, 0), (133, .getfield 24, 136, 0), (136, .iload 6, 138, 0), (138, .iadd, 139, 0), (139, .dup_x1, 140, 0), (140, .putfield 24, 143, 0), (143, .istore 8, 145, 0), (145, .iload 7, 147, 1), (147, .iload 8, 149, 0), (149, .if_icmp .ge 15, 152, 164), (152, .aload 5, 154, 0), (154, .iload 7, 156, 0), (156, .aconst_null, 157, 0), (157, .aastore, 158, 0), (158, .iinc 7 1, 161, 0), (161, .goto (-16), 164, 145), (164, .return_, 165, 0)]
theorem tJ4_grow_1_ok : pb_Tok cJ4_grow tJ4_grow_1 := pb_Tok.cons dJ4_grow_104 rfl (pb_Tok.cons dJ4_grow_107 rfl (pb_Tok.cons dJ4_grow_109 rfl (pb_Tok.cons dJ4_grow_110 rfl (pb_Tok.cons dJ4_grow_113 rfl (pb_Tok.cons dJ4_grow_115 rfl (pb_Tok.cons dJ4_grow_116 rfl (pb_Tok.cons dJ4_grow_117 rfl (pb_Tok.cons dJ4_grow_118 rfl (pb_Tok.cons dJ4_grow_121 rfl (pb_Tok.cons dJ4_grow_122 rfl (pb_Tok.cons dJ4_grow_125 rfl (pb_Tok.cons dJ4_grow_126 rfl (pb_Tok.cons dJ4_grow_129 rfl (pb_Tok.cons dJ4_grow_131 rfl (pb_Tok.cons dJ4_grow_132 rfl (pb_Tok.cons dJ4_grow_133 rfl (pb_Tok.cons dJ4_grow_136 rfl (pb_Tok.cons dJ4_grow_138 rfl (pb_Tok.cons dJ4_grow_139 rfl (pb_Tok.cons dJ4_grow_140 rfl (pb_Tok.cons dJ4_grow_143 rfl (pb_Tok.cons dJ4_grow_145 rfl (pb_Tok.cons dJ4_grow_147 rfl (pb_Tok.cons dJ4_grow_149 rfl (pb_Tok.cons dJ4_grow_152 rfl (pb_Tok.cons dJ4_grow_154 rfl (pb_Tok.cons dJ4_grow_156 rfl (pb_Tok.cons dJ4_grow_157 rfl (pb_Tok.cons dJ4_grow_158 rfl (pb_Tok.cons dJ4_grow_161 rfl (pb_Tok.cons dJ4_grow_164 rfl pb_Tok.nil)))))))))))))))))))))))))))))))
def tJ4_grow : pb_T := tJ4_grow_0 ++ (tJ4_grow_1)
theorem tJ4_grow_ok : pb_Tok cJ4_grow tJ4_grow := pb_Tok.app tJ4_grow_0_ok (tJ4_grow_1_ok)
def tJ4_newCapacity : pb_T := [(0, .aload_n 0, 1, 0), (1, .getfield 3, 4, 0), (4, .arraylength, 5, 0), (5, .istore_n 3, 6, 0), (6, .iload_n 3, 7, 0), (7, .iload_n 1, 8, 0), (8, .iadd, 9, 0), (9, .dup, 10, 0), (10, .istore 4, 12, 0), (12, .ldc 9, 14, 0), (14, .isub, 15, 0), (15, .ifCond .le 21, 18, 36), (18, .iload 4, 20, 0), (20, .ifCond .ge 13, 23, 33), (23, .new 33, 26, 0), (26, .dup, 27, 0), (27, .ldc 35, 29, 0), (29, .invokespecial 37, 32, 0), (32, .athrow, 33, 0), (33, .ldc 41, 35, 0), (35, .ireturn, 36, 0), (36, .iload_n 1, 37, 0), (37, .iload_n 2, 38, 0), (38, .if_icmp .le 6, 41, 44), (41, .iload 4, 43, 0), (43, .ireturn, 44, 0), (44, .iload_n 3, 45, 0), (45, .iload_n 2, 46, 0), (46, .iadd, 47, 0), (47, .ldc 9, 49, 0), (49, .isub, 50, 0), (50, .ifCond .ge 9, 53, 59), (53, .iload_n 3, 54, 0), (54, .iload_n 2, 55, 0), (55, .iadd, 56, 0), (56, .goto 5, 59, 61), (59, .ldc 9, 61, 0), (61, .ireturn, 62, 0)]
theorem tJ4_newCapacity_ok : pb_Tok cJ4_newCapacity tJ4_newCapacity := pb_Tok.cons dJ4_newCapacity_0 rfl (pb_Tok.cons dJ4_newCapacity_1 rfl (pb_Tok.cons dJ4_newCapacity_4 rfl (pb_Tok.cons dJ4_newCapacity_5 rfl (pb_Tok.cons dJ4_newCapacity_6 rfl (pb_Tok.cons dJ4_newCapacity_7 rfl (pb_Tok.cons dJ4_newCapacity_8 rfl (pb_Tok.cons dJ4_newCapacity_9 rfl (pb_Tok.cons dJ4_newCapacity_10 rfl (pb_Tok.cons dJ4_newCapacity_12 rfl (pb_Tok.cons dJ4_newCapacity_14 rfl (pb_Tok.cons dJ4_newCapacity_15 rfl (pb_Tok.cons dJ4_newCapacity_18 rfl (pb_Tok.cons dJ4_newCapacity_20 rfl (pb_Tok.cons dJ4_newCapacity_23 rfl (pb_Tok.cons dJ4_newCapacity_26 rfl (pb_Tok.cons dJ4_newCapacity_27 rfl (pb_Tok.cons dJ4_newCapacity_29 rfl (pb_Tok.cons dJ4_newCapacity_32 rfl (pb_Tok.cons dJ4_newCapacity_33 rfl (pb_Tok.cons dJ4_newCapacity_35 rfl (pb_Tok.cons dJ4_newCapacity_36 rfl (pb_Tok.cons dJ4_newCapacity_37 rfl (pb_Tok.cons dJ4_newCapacity_38 rfl (pb_Tok.cons dJ4_newCapacity_41 rfl (pb_Tok.cons dJ4_newCapacity_43 rfl (pb_Tok.cons dJ4_newCapacity_44 rfl (pb_Tok.cons dJ4_newCapacity_45 rfl (pb_Tok.cons dJ4_newCapacity_46 rfl (pb_Tok.cons dJ4_newCapacity_47 rfl (pb_Tok.cons dJ4_newCapacity_49 rfl (pb_Tok.cons dJ4_newCapacity_50 rfl (pb_Tok.cons dJ4_newCapacity_53 rfl (pb_Tok.cons dJ4_newCapacity_54 rfl (pb_Tok.cons dJ4_newCapacity_55 rfl (pb_Tok.cons dJ4_newCapacity_56 rfl (pb_Tok.cons dJ4_newCapacity_59 rfl (pb_Tok.cons dJ4_newCapacity_61 rfl pb_Tok.nil)))))))))))))))))))))))))))))))))))))
def tJ4_isEmpty : pb_T := [(0, .aload_n 0, 1, 0), (1, .getfield 24, 4, 0), (4, .aload_n 0, 5, 0), (5, .getfield 20, 8, 0), (8, .if_icmp .ne 7, 11, 15), (11, .iconst 1, 12, 0), (12, .goto 4, 15, 16), (15, .iconst 0, 16, 0), (16, .ireturn, 17, 0)]
theorem tJ4_isEmpty_ok : pb_Tok cJ4_isEmpty tJ4_isEmpty := pb_Tok.cons dJ4_isEmpty_0 rfl (pb_Tok.cons dJ4_isEmpty_1 rfl (pb_Tok.cons dJ4_isEmpty_4 rfl (pb_Tok.cons dJ4_isEmpty_5 rfl (pb_Tok.cons dJ4_isEmpty_8 rfl (pb_Tok.cons dJ4_isEmpty_11 rfl (pb_Tok.cons dJ4_isEmpty_12 rfl (pb_Tok.cons dJ4_isEmpty_15 rfl (pb_Tok.cons dJ4_isEmpty_16 rfl pb_Tok.nil))))))))
def tJ4_pop : pb_T := [(0, .aload_n 0, 1, 0), (1, .invokevirtual 118, 4, 0), (4, .areturn, 5, 0)]
theorem tJ4_pop_ok : pb_Tok cJ4_pop tJ4_pop := pb_Tok.cons dJ4_pop_0 rfl (pb_Tok.cons dJ4_pop_1 rfl (pb_Tok.cons dJ4_pop_4 rfl pb_Tok.nil))
def tJ4_removeFirst : pb_T := [(0, .aload_n 0, 1, 0), (1, .invokevirtual 93, 4, 0), (4, .astore_n 1, 5, 0), (5, .aload_n 1, 6, 0), (6, .ifnonnull 11, 9, 17), (9, .new 97, 12, 0), (12, .dup, 13, 0), (13, .invokespecial 99, 16, 0), (16, .athrow, 17, 0), (17, .aload_n 1, 18, 0), (18, .areturn, 19, 0)]
theorem tJ4_removeFirst_ok : pb_Tok cJ4_removeFirst tJ4_removeFirst := pb_Tok.cons dJ4_removeFirst_0 rfl (pb_Tok.cons dJ4_removeFirst_1 rfl (pb_Tok.cons dJ4_removeFirst_4 rfl (pb_Tok.cons dJ4_removeFirst_5 rfl (pb_Tok.cons dJ4_removeFirst_6 rfl (pb_Tok.cons dJ4_removeFirst_9 rfl (pb_Tok.cons dJ4_removeFirst_12 rfl (pb_Tok.cons dJ4_removeFirst_13 rfl (pb_Tok.cons dJ4_removeFirst_16 rfl (pb_Tok.cons dJ4_removeFirst_17 rfl (pb_Tok.cons dJ4_removeFirst_18 rfl pb_Tok.nil))))))))))
def tJ4_pollFirst : pb_T := [(0, .aload_n 0, 1, 0), (1, .getfield 3, 4, 0), (4, .dup, 5, 0), (5, .astore_n 1, 6, 0), (6, .aload_n 0, 7, 0), (7, .getfield 24, 10, 0), (10, .dup, 11, 0), (11, .istore_n 2, 12, 0), (12, .invokestatic 103, 15, 0), (15, .astore_n 3, 16, 0), (16, .aload_n 3, 17, 0), (17, .ifnull 17, 20, 34), (20, .aload_n 1, 21, 0), (21, .iload_n 2, 22, 0), (22, .aconst_null, 23, 0), (23, .aastore, 24, 0), (24, .aload_n 0, 25, 0), (25, .iload_n 2, 26, 0), (26, .aload_n 1, 27, 0), (27, .arraylength, 28, 0), (28, .invokestatic 74, 31, 0), (31, .putfield 24, 34, 0), (34, .aload_n 3, 35, 0), (35, .areturn, 36, 0)]
theorem tJ4_pollFirst_ok : pb_Tok cJ4_pollFirst tJ4_pollFirst := pb_Tok.cons dJ4_pollFirst_0 rfl (pb_Tok.cons dJ4_pollFirst_1 rfl (pb_Tok.cons dJ4_pollFirst_4 rfl (pb_Tok.cons dJ4_pollFirst_5 rfl (pb_Tok.cons dJ4_pollFirst_6 rfl (pb_Tok.cons dJ4_pollFirst_7 rfl (pb_Tok.cons dJ4_pollFirst_10 rfl (pb_Tok.cons dJ4_pollFirst_11 rfl (pb_Tok.cons dJ4_pollFirst_12 rfl (pb_Tok.cons dJ4_pollFirst_15 rfl (pb_Tok.cons dJ4_pollFirst_16 rfl (pb_Tok.cons dJ4_pollFirst_17 rfl (pb_Tok.cons dJ4_pollFirst_20 rfl (pb_Tok.cons dJ4_pollFirst_21 rfl (pb_Tok.cons dJ4_pollFirst_22 rfl (pb_Tok.cons dJ4_pollFirst_23 rfl (pb_Tok.cons dJ4_pollFirst_24 rfl (pb_Tok.cons dJ4_pollFirst_25 rfl (pb_Tok.cons dJ4_pollFirst_26 rfl (pb_Tok.cons dJ4_pollFirst_27 rfl (pb_Tok.cons dJ4_pollFirst_28 rfl (pb_Tok.cons dJ4_pollFirst_31 rfl (pb_Tok.cons dJ4_pollFirst_34 rfl (pb_Tok.cons dJ4_pollFirst_35 rfl pb_Tok.nil)))))))))))))))))))))))
def tJ4_inc : pb_T := [(0, .iinc 0 1, 3, 0), (3, .iload_n 0, 4, 0), (4, .iload_n 1, 5, 0), (5, .if_icmp .lt 5, 8, 10), (8, .iconst 0, 9, 0), (9, .istore_n 0, 10, 0), (10, .iload_n 0, 11, 0), (11, .ireturn, 12, 0)]
theorem tJ4_inc_ok : pb_Tok cJ4_inc tJ4_inc := pb_Tok.cons dJ4_inc_0 rfl (pb_Tok.cons dJ4_inc_3 rfl (pb_Tok.cons dJ4_inc_4 rfl (pb_Tok.cons dJ4_inc_5 rfl (pb_Tok.cons dJ4_inc_8 rfl (pb_Tok.cons dJ4_inc_9 rfl (pb_Tok.cons dJ4_inc_10 rfl (pb_Tok.cons dJ4_inc_11 rfl pb_Tok.nil)))))))
def tJ4_clear : pb_T := [(0, .aload_n 0, 1, 0), (1, .getfield 3, 4, 0), (4, .aload_n 0, 5, 0), (5, .getfield 24, 8, 0), (8, .aload_n 0, 9, 0), (9, .getfield 20, 12, 0), (12, .invokestatic 181, 15, 0), (15, .aload_n 0, 16, 0), (16, .aload_n 0, 17, 0), (17, .iconst 0, 18, 0), (18, .dup_x1, 19, 0), (19, .putfield 20, 22, 0), (22, .putfield 24, 25, 0), (25, .return_, 26, 0)]
theorem tJ4_clear_ok : pb_Tok cJ4_clear tJ4_clear := pb_Tok.cons dJ4_clear_0 rfl (pb_Tok.cons dJ4_clear_1 rfl (pb_Tok.cons dJ4_clear_4 rfl (pb_Tok.cons dJ4_clear_5 rfl (pb_Tok.cons dJ4_clear_8 rfl (pb_Tok.cons dJ4_clear_9 rfl (pb_Tok.cons dJ4_clear_12 rfl (pb_Tok.cons dJ4_clear_15 rfl (pb_Tok.cons dJ4_clear_16 rfl (pb_Tok.cons dJ4_clear_17 rfl (pb_Tok.cons dJ4_clear_18 rfl (pb_Tok.cons dJ4_clear_19 rfl (pb_Tok.cons dJ4_clear_22 rfl (pb_Tok.cons dJ4_clear_25 rfl pb_Tok.nil)))))))))))))
def tJ4_circularClear : pb_T := [(0, .iload_n 1, 1, 0), (1, .iload_n 2, 2, 0), (2, .if_icmp .gt 7, 5, 9), (5, .iload_n 2, 6, 0), (6, .goto 5, 9, 11), (9, .aload_n 0, 10, 0), (10, .arraylength, 11, 0), (11, .istore_n 3, 12, 0), (12, .iload_n 1, 13, 1), (13, .iload_n 3, 14, 0), (14, .if_icmp .ge 13, 17, 27), (17, .aload_n 0, 18, 0), (18, .iload_n 1, 19, 0), (19, .aconst_null, 20, 0), (20, .aastore, 21, 0), (21, .iinc 1 1, 24, 0), (24, .goto (-12), 27, 12), (27, .iload_n 3, 28, 0), (28, .iload_n 2, 29, 0), (29, .if_icmp .ne 6, 32, 35), (32, .goto 10, 35, 42), (35, .iconst 0, 36, 0), (36, .istore_n 1, 37, 0), (37, .iload_n 2, 38, 0), (38, .istore_n 3, 39, 0), (39, .goto (-27), 42, 12), (42, .return_, 43, 0)]
theorem tJ4_circularClear_ok : pb_Tok cJ4_circularClear tJ4_circularClear := pb_Tok.cons dJ4_circularClear_0 rfl (pb_Tok.cons dJ4_circularClear_1 rfl (pb_Tok.cons dJ4_circularClear_2 rfl (pb_Tok.cons dJ4_circularClear_5 rfl (pb_Tok.cons dJ4_circularClear_6 rfl (pb_Tok.cons dJ4_circularClear_9 rfl (pb_Tok.cons dJ4_circularClear_10 rfl (pb_Tok.cons dJ4_circularClear_11 rfl (pb_Tok.cons dJ4_circularClear_12 rfl (pb_Tok.cons dJ4_circularClear_13 rfl (pb_Tok.cons dJ4_circularClear_14 rfl (pb_Tok.cons dJ4_circularClear_17 rfl (pb_Tok.cons dJ4_circularClear_18 rfl (pb_Tok.cons dJ4_circularClear_19 rfl (pb_Tok.cons dJ4_circularClear_20 rfl (pb_Tok.cons dJ4_circularClear_21 rfl (pb_Tok.cons dJ4_circularClear_24 rfl (pb_Tok.cons dJ4_circularClear_27 rfl (pb_Tok.cons dJ4_circularClear_28 rfl (pb_Tok.cons dJ4_circularClear_29 rfl (pb_Tok.cons dJ4_circularClear_32 rfl (pb_Tok.cons dJ4_circularClear_35 rfl (pb_Tok.cons dJ4_circularClear_36 rfl (pb_Tok.cons dJ4_circularClear_37 rfl (pb_Tok.cons dJ4_circularClear_38 rfl (pb_Tok.cons dJ4_circularClear_39 rfl (pb_Tok.cons dJ4_circularClear_42 rfl pb_Tok.nil))))))))))))))))))))))))))
def dkwJ5_init_1 : List UInt8 := [167, 0, 16, 42, 27, 184, 0, 26, 181, 0, 15, 42, 4, 181, 0, 22, 177]
abbrev dktJ5_init_1 : List UInt8 := dkwJ5_init_1 ++ []
def dkwJ5_init_0 : List UInt8 := [42, 183, 0, 3, 178, 0, 18, 153, 0, 18, 42, 27, 188, 8, 181, 0, 15, 42, 3, 181, 0, 22]
abbrev dktJ5_init_0 : List UInt8 := dkwJ5_init_0 ++ dktJ5_init_1
theorem dksJ5_init_0 : cJ5_init.data.toList.drop 0 = dktJ5_init_0 := by decide +kernel
theorem dksJ5_init_1 : cJ5_init.data.toList.drop 22 = dktJ5_init_1 := dk_seg dksJ5_init_0 22 rfl rfl
theorem dJ5_init_0 : decode cJ5_init 0 = .ok (.aload_n 0, 1) := dk_42 (dk_at dksJ5_init_0 0 rfl rfl)
theorem dJ5_init_1 : decode cJ5_init 1 = .ok (.invokespecial 3, 3) := dk_183 0 3 (dk_at dksJ5_init_0 1 rfl rfl)
theorem dJ5_init_4 : decode cJ5_init 4 = .ok (.getstatic 18, 3) := dk_178 0 18 (dk_at dksJ5_init_0 4 rfl rfl)
theorem dJ5_init_7 : decode cJ5_init 7 = .ok (.ifCond .eq 18, 3) := dk_153 0 18 (dk_at dksJ5_init_0 7 rfl rfl)
theorem dJ5_init_10 : decode cJ5_init 10 = .ok (.aload_n 0, 1) := dk_42 (dk_at dksJ5_init_0 10 rfl rfl)
theorem dJ5_init_11 : decode cJ5_init 11 = .ok (.iload_n 1, 1) := dk_27 (dk_at dksJ5_init_0 11 rfl rfl)
theorem dJ5_init_12 : decode cJ5_init 12 = .ok (.newarray .byte, 2) := dk_188_8 (dk_at dksJ5_init_0 12 rfl rfl)
theorem dJ5_init_14 : decode cJ5_init 14 = .ok (.putfield 15, 3) := dk_181 0 15 (dk_at dksJ5_init_0 14 rfl rfl)
theorem dJ5_init_17 : decode cJ5_init 17 = .ok (.aload_n 0, 1) := dk_42 (dk_at dksJ5_init_0 17 rfl rfl)
theorem dJ5_init_18 : decode cJ5_init 18 = .ok (.iconst 0, 1) := dk_3 (dk_at dksJ5_init_0 18 rfl rfl)
theorem dJ5_init_19 : decode cJ5_init 19 = .ok (.putfield 22, 3) := dk_181 0 22 (dk_at dksJ5_init_0 19 rfl rfl)
theorem dJ5_init_22 : decode cJ5_init 22 = .ok (.goto 16, 3) := dk_167 0 16 (dk_at dksJ5_init_1 0 rfl rfl)
theorem dJ5_init_25 : decode cJ5_init 25 = .ok (.aload_n 0, 1) := dk_42 (dk_at dksJ5_init_1 3 rfl rfl)
theorem dJ5_init_26 : decode cJ5_init 26 = .ok (.iload_n 1, 1) := dk_27 (dk_at dksJ5_init_1 4 rfl rfl)
theorem dJ5_init_27 : decode cJ5_init 27 = .ok (.invokestatic 26, 3) := dk_184 0 26 (dk_at dksJ5_init_1 5 rfl rfl)
theorem dJ5_init_30 : decode cJ5_init 30 = .ok (.putfield 15, 3) := dk_181 0 15 (dk_at dksJ5_init_1 8 rfl rfl)
theorem dJ5_init_33 : decode cJ5_init 33 = .ok (.aload_n 0, 1) := dk_42 (dk_at dksJ5_init_1 11 rfl rfl)
theorem dJ5_init_34 : decode cJ5_init 34 = .ok (.iconst 1, 1) := dk_4 (dk_at dksJ5_init_1 12 rfl rfl)
theorem dJ5_init_35 : decode cJ5_init 35 = .ok (.putfield 22, 3) := dk_181 0 22 (dk_at dksJ5_init_1 13 rfl rfl)
theorem dJ5_init_38 : decode cJ5_init 38 = .ok (.return_, 1) := dk_177 (dk_at dksJ5_init_1 16 rfl rfl)
def dkwJ5_append_2 : List UInt8 := [42, 29, 181, 0, 79, 42, 176]
abbrev dktJ5_append_2 : List UInt8 := dkwJ5_append_2 ++ []
def dkwJ5_append_1 : List UInt8 := [27, 29, 42, 180, 0, 15, 184, 0, 248, 87, 167, 0, 14, 27, 28, 29, 42, 180, 0, 15, 184, 0, 251, 87]
abbrev dktJ5_append_1 : List UInt8 := dkwJ5_append_1 ++ dktJ5_append_2
def dkwJ5_append_0 : List UInt8 := [42, 180, 0, 79, 61, 28, 27, 184, 0, 245, 96, 62, 42, 29, 182, 0, 100, 42, 182, 0, 83, 153, 0, 16]
abbrev dktJ5_append_0 : List UInt8 := dkwJ5_append_0 ++ dktJ5_append_1
theorem dksJ5_append_0 : cJ5_append.data.toList.drop 0 = dktJ5_append_0 := by decide +kernel
theorem dksJ5_append_1 : cJ5_append.data.toList.drop 24 = dktJ5_append_1 := dk_seg dksJ5_append_0 24 rfl rfl
theorem dksJ5_append_2 : cJ5_append.data.toList.drop 48 = dktJ5_append_2 := dk_seg dksJ5_append_1 24 rfl rfl
theorem dJ5_append_0 : decode cJ5_append 0 = .ok (.aload_n 0, 1) := dk_42 (dk_at dksJ5_append_0 0 rfl rfl)
theorem dJ5_append_1 : decode cJ5_append 1 = .ok (.getfield 79, 3) := dk_180 0 79 (dk_at dksJ5_append_0 1 rfl rfl)
theorem dJ5_append_4 : decode cJ5_append 4 = .ok (.istore_n 2, 1) := dk_61 (dk_at dksJ5_append_0 4 rfl rfl)
theorem dJ5_append_5 : decode cJ5_append 5 = .ok (.iload_n 2, 1) := dk_28 (dk_at dksJ5_append_0 5 rfl rfl)
theorem dJ5_append_6 : decode cJ5_append 6 = .ok (.iload_n 1, 1) := dk_27 (dk_at dksJ5_append_0 6 rfl rfl)
theorem dJ5_append_7 : decode cJ5_append 7 = .ok (.invokestatic 245, 3) := dk_184 0 245 (dk_at dksJ5_append_0 7 rfl rfl)
theorem dJ5_append_10 : decode cJ5_append 10 = .ok (.iadd, 1) := dk_96 (dk_at dksJ5_append_0 10 rfl rfl)
theorem dJ5_append_11 : decode cJ5_append 11 = .ok (.istore_n 3, 1) := dk_62 (dk_at dksJ5_append_0 11 rfl rfl)
theorem dJ5_append_12 : decode cJ5_append 12 = .ok (.aload_n 0, 1) := dk_42 (dk_at dksJ5_append_0 12 rfl rfl)
theorem dJ5_append_13 : decode cJ5_append 13 = .ok (.iload_n 3, 1) := dk_29 (dk_at dksJ5_append_0 13 rfl rfl)
theorem dJ5_append_14 : decode cJ5_append 14 = .ok (.invokevirtual 100, 3) := dk_182 0 100 (dk_at dksJ5_append_0 14 rfl rfl)
theorem dJ5_append_17 : decode cJ5_append 17 = .ok (.aload_n 0, 1) := dk_42 (dk_at dksJ5_append_0 17 rfl rfl)
theorem dJ5_append_18 : decode cJ5_append 18 = .ok (.invokevirtual 83, 3) := dk_182 0 83 (dk_at dksJ5_append_0 18 rfl rfl)
theorem dJ5_append_21 : decode cJ5_append 21 = .ok (.ifCond .eq 16, 3) := dk_153 0 16 (dk_at dksJ5_append_0 21 rfl rfl)
theorem dJ5_append_24 : decode cJ5_append 24 = .ok (.iload_n 1, 1) := dk_27 (dk_at dksJ5_append_1 0 rfl rfl)
theorem dJ5_append_25 : decode cJ5_append 25 = .ok (.iload_n 3, 1) := dk_29 (dk_at dksJ5_append_1 1 rfl rfl)
theorem dJ5_append_26 : decode cJ5_append 26 = .ok (.aload_n 0, 1) := dk_42 (dk_at dksJ5_append_1 2 rfl rfl)
theorem dJ5_append_27 : decode cJ5_append 27 = .ok (.getfield 15, 3) := dk_180 0 15 (dk_at dksJ5_append_1 3 rfl rfl)
theorem dJ5_append_30 : decode cJ5_append 30 = .ok (.invokestatic 248, 3) := dk_184 0 248 (dk_at dksJ5_append_1 6 rfl rfl)
theorem dJ5_append_33 : decode cJ5_append 33 = .ok (.pop, 1) := dk_87 (dk_at dksJ5_append_1 9 rfl rfl)
theorem dJ5_append_34 : decode cJ5_append 34 = .ok (.goto 14, 3) := dk_167 0 14 (dk_at dksJ5_append_1 10 rfl rfl)
theorem dJ5_append_37 : decode cJ5_append 37 = .ok (.iload_n 1, 1) := dk_27 (dk_at dksJ5_append_1 13 rfl rfl)
theorem dJ5_append_38 : decode cJ5_append 38 = .ok (.iload_n 2, 1) := dk_28 (dk_at dksJ5_append_1 14 rfl rfl)
theorem dJ5_append_39 : decode cJ5_append 39 = .ok (.iload_n 3, 1) := dk_29 (dk_at dksJ5_append_1 15 rfl rfl)
theorem dJ5_append_40 : decode cJ5_append 40 = .ok (.aload_n 0, 1) := dk_42 (dk_at dksJ5_append_1 16 rfl rfl)
theorem dJ5_append_41 : decode cJ5_append 41 = .ok (.getfield 15, 3) := dk_180 0 15 (dk_at dksJ5_append_1 17 rfl rfl)
theorem dJ5_append_44 : decode cJ5_append 44 = .ok (.invokestatic 251, 3) := dk_184 0 251 (dk_at dksJ5_append_1 20 rfl rfl)
theorem dJ5_append_47 : decode cJ5_append 47 = .ok (.pop, 1) := dk_87 (dk_at dksJ5_append_1 23 rfl rfl)
theorem dJ5_append_48 : decode cJ5_append 48 = .ok (.aload_n 0, 1) := dk_42 (dk_at dksJ5_append_2 0 rfl rfl)
theorem dJ5_append_49 : decode cJ5_append 49 = .ok (.iload_n 3, 1) := dk_29 (dk_at dksJ5_append_2 1 rfl rfl)
theorem dJ5_append_50 : decode cJ5_append 50 = .ok (.putfield 79, 3) := dk_181 0 79 (dk_at dksJ5_append_2 2 rfl rfl)
theorem dJ5_append_53 : decode cJ5_append 53 = .ok (.aload_n 0, 1) := dk_42 (dk_at dksJ5_append_2 5 rfl rfl)
theorem dJ5_append_54 : decode cJ5_append 54 = .ok (.areturn, 1) := dk_176 (dk_at dksJ5_append_2 6 rfl rfl)
def dkwJ5_ensureCapacityInternal_1 : List UInt8 := [182, 0, 104, 42, 180, 0, 22, 120, 184, 0, 108, 181, 0, 15, 177]
abbrev dktJ5_ensureCapacityInternal_1 : List UInt8 := dkwJ5_ensureCapacityInternal_1 ++ []
def dkwJ5_ensureCapacityInternal_0 : List UInt8 := [42, 180, 0, 15, 190, 42, 180, 0, 22, 122, 61, 27, 28, 100, 158, 0, 24, 42, 42, 180, 0, 15, 42, 27]
abbrev dktJ5_ensureCapacityInternal_0 : List UInt8 := dkwJ5_ensureCapacityInternal_0 ++ dktJ5_ensureCapacityInternal_1
theorem dksJ5_ensureCapacityInternal_0 : cJ5_ensureCapacityInternal.data.toList.drop 0 = dktJ5_ensureCapacityInternal_0 := by decide +kernel
theorem dksJ5_ensureCapacityInternal_1 : cJ5_ensureCapacityInternal.data.toList.drop 24 = dktJ5_ensureCapacityInternal_1 := dk_seg dksJ5_ensureCapacityInternal_0 24 rfl rfl
theorem dJ5_ensureCapacityInternal_0 : decode cJ5_ensureCapacityInternal 0 = .ok (.aload_n 0, 1) := dk_42 (dk_at dksJ5_ensureCapacityInternal_0 0 rfl rfl)
theorem dJ5_ensureCapacityInternal_1 : decode cJ5_ensureCapacityInternal 1 = .ok (.getfield 15, 3) := dk_180 0 15 (dk_at dksJ5_ensureCapacityInternal_0 1 rfl rfl)
theorem dJ5_ensureCapacityInternal_4 : decode cJ5_ensureCapacityInternal 4 = .ok (.arraylength, 1) := dk_190 (dk_at dksJ5_ensureCapacityInternal_0 4 rfl rfl)
theorem dJ5_ensureCapacityInternal_5 : decode cJ5_ensureCapacityInternal 5 = .ok (.aload_n 0, 1) := dk_42 (dk_at dksJ5_ensureCapacityInternal_0 5 rfl rfl)
theorem dJ5_ensureCapacityInternal_6 : decode cJ5_ensureCapacityInternal 6 = .ok (.getfield 22, 3) := dk_180 0 22 (dk_at dksJ5_ensureCapacityInternal_0 6 rfl rfl)
theorem dJ5_ensureCapacityInternal_9 : decode cJ5_ensureCapacityInternal 9 = .ok (.ishr, 1) := dk_122 (dk_at dksJ5_ensureCapacityInternal_0 9 rfl rfl)
theorem dJ5_ensureCapacityInternal_10 : decode cJ5_ensureCapacityInternal 10 = .ok (.istore_n 2, 1) := dk_61 (dk_at dksJ5_ensureCapacityInternal_0 10 rfl rfl)
theorem dJ5_ensureCapacityInternal_11 : decode cJ5_ensureCapacityInternal 11 = .ok (.iload_n 1, 1) := dk_27 (dk_at dksJ5_ensureCapacityInternal_0 11 rfl rfl)
theorem dJ5_ensureCapacityInternal_12 : decode cJ5_ensureCapacityInternal 12 = .ok (.iload_n 2, 1) := dk_28 (dk_at dksJ5_ensureCapacityInternal_0 12 rfl rfl)
theorem dJ5_ensureCapacityInternal_13 : decode cJ5_ensureCapacityInternal 13 = .ok (.isub, 1) := dk_100 (dk_at dksJ5_ensureCapacityInternal_0 13 rfl rfl)
theorem dJ5_ensureCapacityInternal_14 : decode cJ5_ensureCapacityInternal 14 = .ok (.ifCond .le 24, 3) := dk_158 0 24 (dk_at dksJ5_ensureCapacityInternal_0 14 rfl rfl)
theorem dJ5_ensureCapacityInternal_17 : decode cJ5_ensureCapacityInternal 17 = .ok (.aload_n 0, 1) := dk_42 (dk_at dksJ5_ensureCapacityInternal_0 17 rfl rfl)
theorem dJ5_ensureCapacityInternal_18 : decode cJ5_ensureCapacityInternal 18 = .ok (.aload_n 0, 1) := dk_42 (dk_at dksJ5_ensureCapacityInternal_0 18 rfl rfl)
theorem dJ5_ensureCapacityInternal_19 : decode cJ5_ensureCapacityInternal 19 = .ok (.getfield 15, 3) := dk_180 0 15 (dk_at dksJ5_ensureCapacityInternal_0 19 rfl rfl)
theorem dJ5_ensureCapacityInternal_22 : decode cJ5_ensureCapacityInternal 22 = .ok (.aload_n 0, 1) := dk_42 (dk_at dksJ5_ensureCapacityInternal_0 22 rfl rfl)
theorem dJ5_ensureCapacityInternal_23 : decode cJ5_ensureCapacityInternal 23 = .ok (.iload_n 1, 1) := dk_27 (dk_at dksJ5_ensureCapacityInternal_0 23 rfl rfl)
theorem dJ5_ensureCapacityInternal_24 : decode cJ5_ensureCapacityInternal 24 = .ok (.invokevirtual 104, 3) := dk_182 0 104 (dk_at dksJ5_ensureCapacityInternal_1 0 rfl rfl)
theorem dJ5_ensureCapacityInternal_27 : decode cJ5_ensureCapacityInternal 27 = .ok (.aload_n 0, 1) := dk_42 (dk_at dksJ5_ensureCapacityInternal_1 3 rfl rfl)
theorem dJ5_ensureCapacityInternal_28 : decode cJ5_ensureCapacityInternal 28 = .ok (.getfield 22, 3) := dk_180 0 22 (dk_at dksJ5_ensureCapacityInternal_1 4 rfl rfl)
theorem dJ5_ensureCapacityInternal_31 : decode cJ5_ensureCapacityInternal 31 = .ok (.ishl, 1) := dk_120 (dk_at dksJ5_ensureCapacityInternal_1 7 rfl rfl)
theorem dJ5_ensureCapacityInternal_32 : decode cJ5_ensureCapacityInternal 32 = .ok (.invokestatic 108, 3) := dk_184 0 108 (dk_at dksJ5_ensureCapacityInternal_1 8 rfl rfl)
theorem dJ5_ensureCapacityInternal_35 : decode cJ5_ensureCapacityInternal 35 = .ok (.putfield 15, 3) := dk_181 0 15 (dk_at dksJ5_ensureCapacityInternal_1 11 rfl rfl)
theorem dJ5_ensureCapacityInternal_38 : decode cJ5_ensureCapacityInternal 38 = .ok (.return_, 1) := dk_177 (dk_at dksJ5_ensureCapacityInternal_1 14 rfl rfl)
def dkwJ5_newCapacity_2 : List UInt8 := [183, 0, 124, 191, 21, 5, 42, 180, 0, 22, 122, 172]
abbrev dktJ5_newCapacity_2 : List UInt8 := dkwJ5_newCapacity_2 ++ []
def dkwJ5_newCapacity_1 : List UInt8 := [180, 0, 22, 120, 96, 184, 0, 114, 54, 5, 21, 5, 18, 39, 160, 0, 13, 187, 0, 120, 89, 18, 122]
abbrev dktJ5_newCapacity_1 : List UInt8 := dkwJ5_newCapacity_1 ++ dktJ5_newCapacity_2
def dkwJ5_newCapacity_0 : List UInt8 := [42, 180, 0, 15, 190, 61, 27, 42, 180, 0, 22, 120, 62, 29, 28, 100, 54, 4, 28, 21, 4, 28, 5, 42]
abbrev dktJ5_newCapacity_0 : List UInt8 := dkwJ5_newCapacity_0 ++ dktJ5_newCapacity_1
theorem dksJ5_newCapacity_0 : cJ5_newCapacity.data.toList.drop 0 = dktJ5_newCapacity_0 := by decide +kernel
theorem dksJ5_newCapacity_1 : cJ5_newCapacity.data.toList.drop 24 = dktJ5_newCapacity_1 := dk_seg dksJ5_newCapacity_0 24 rfl rfl
theorem dksJ5_newCapacity_2 : cJ5_newCapacity.data.toList.drop 47 = dktJ5_newCapacity_2 := dk_seg dksJ5_newCapacity_1 23 rfl rfl
theorem dJ5_newCapacity_0 : decode cJ5_newCapacity 0 = .ok (.aload_n 0, 1) := dk_42 (dk_at dksJ5_newCapacity_0 0 rfl rfl)
theorem dJ5_newCapacity_1 : decode cJ5_newCapacity 1 = .ok (.getfield 15, 3) := dk_180 0 15 (dk_at dksJ5_newCapacity_0 1 rfl rfl)
theorem dJ5_newCapacity_4 : decode cJ5_newCapacity 4 = .ok (.arraylength, 1) := dk_190 (dk_at dksJ5_newCapacity_0 4 rfl rfl)
theorem dJ5_newCapacity_5 : decode cJ5_newCapacity 5 = .ok (.istore_n 2, 1) := dk_61 (dk_at dksJ5_newCapacity_0 5 rfl rfl)
theorem dJ5_newCapacity_6 : decode cJ5_newCapacity 6 = .ok (.iload_n 1, 1) := dk_27 (dk_at dksJ5_newCapacity_0 6 rfl rfl)
theorem dJ5_newCapacity_7 : decode cJ5_newCapacity 7 = .ok (.aload_n 0, 1) := dk_42 (dk_at dksJ5_newCapacity_0 7 rfl rfl)
theorem dJ5_newCapacity_8 : decode cJ5_newCapacity 8 = .ok (.getfield 22, 3) := dk_180 0 22 (dk_at dksJ5_newCapacity_0 8 rfl rfl)
theorem dJ5_newCapacity_11 : decode cJ5_newCapacity 11 = .ok (.ishl, 1) := dk_120 (dk_at dksJ5_newCapacity_0 11 rfl rfl)
theorem dJ5_newCapacity_12 : decode cJ5_newCapacity 12 = .ok (.istore_n 3, 1) := dk_62 (dk_at dksJ5_newCapacity_0 12 rfl rfl)
theorem dJ5_newCapacity_13 : decode cJ5_newCapacity 13 = .ok (.iload_n 3, 1) := dk_29 (dk_at dksJ5_newCapacity_0 13 rfl rfl)
theorem dJ5_newCapacity_14 : decode cJ5_newCapacity 14 = .ok (.iload_n 2, 1) := dk_28 (dk_at dksJ5_newCapacity_0 14 rfl rfl)
theorem dJ5_newCapacity_15 : decode cJ5_newCapacity 15 = .ok (.isub, 1) := dk_100 (dk_at dksJ5_newCapacity_0 15 rfl rfl)
theorem dJ5_newCapacity_16 : decode cJ5_newCapacity 16 = .ok (.istore 4, 2) := dk_54 4 (dk_at dksJ5_newCapacity_0 16 rfl rfl)
theorem dJ5_newCapacity_18 : decode cJ5_newCapacity 18 = .ok (.iload_n 2, 1) := dk_28 (dk_at dksJ5_newCapacity_0 18 rfl rfl)
theorem dJ5_newCapacity_19 : decode cJ5_newCapacity 19 = .ok (.iload 4, 2) := dk_21 4 (dk_at dksJ5_newCapacity_0 19 rfl rfl)
theorem dJ5_newCapacity_21 : decode cJ5_newCapacity 21 = .ok (.iload_n 2, 1) := dk_28 (dk_at dksJ5_newCapacity_0 21 rfl rfl)
theorem dJ5_newCapacity_22 : decode cJ5_newCapacity 22 = .ok (.iconst 2, 1) := dk_5 (dk_at dksJ5_newCapacity_0 22 rfl rfl)
theorem dJ5_newCapacity_23 : decode cJ5_newCapacity 23 = .ok (.aload_n 0, 1) := dk_42 (dk_at dksJ5_newCapacity_0 23 rfl rfl)
theorem dJ5_newCapacity_24 : decode cJ5_newCapacity 24 = .ok (.getfield 22, 3) := dk_180 0 22 (dk_at dksJ5_newCapacity_1 0 rfl rfl)
theorem dJ5_newCapacity_27 : decode cJ5_newCapacity 27 = .ok (.ishl, 1) := dk_120 (dk_at dksJ5_newCapacity_1 3 rfl rfl)
theorem dJ5_newCapacity_28 : decode cJ5_newCapacity 28 = .ok (.iadd, 1) := dk_96 (dk_at dksJ5_newCapacity_1 4 rfl rfl)
theorem dJ5_newCapacity_29 : decode cJ5_newCapacity 29 = .ok (.invokestatic 114, 3) := dk_184 0 114 (dk_at dksJ5_newCapacity_1 5 rfl rfl)
theorem dJ5_newCapacity_32 : decode cJ5_newCapacity 32 = .ok (.istore 5, 2) := dk_54 5 (dk_at dksJ5_newCapacity_1 8 rfl rfl)
theorem dJ5_newCapacity_34 : decode cJ5_newCapacity 34 = .ok (.iload 5, 2) := dk_21 5 (dk_at dksJ5_newCapacity_1 10 rfl rfl)
theorem dJ5_newCapacity_36 : decode cJ5_newCapacity 36 = .ok (.ldc 39, 2) := dk_18 39 (dk_at dksJ5_newCapacity_1 12 rfl rfl)
theorem dJ5_newCapacity_38 : decode cJ5_newCapacity 38 = .ok (.if_icmp .ne 13, 3) := dk_160 0 13 (dk_at dksJ5_newCapacity_1 14 rfl rfl)
theorem dJ5_newCapacity_41 : decode cJ5_newCapacity 41 = .ok (.new 120, 3) := dk_187 0 120 (dk_at dksJ5_newCapacity_1 17 rfl rfl)
theorem dJ5_newCapacity_44 : decode cJ5_newCapacity 44 = .ok (.dup, 1) := dk_89 (dk_at dksJ5_newCapacity_1 20 rfl rfl)
theorem dJ5_newCapacity_45 : decode cJ5_newCapacity 45 = .ok (.ldc 122, 2) := dk_18 122 (dk_at dksJ5_newCapacity_1 21 rfl rfl)
theorem dJ5_newCapacity_47 : decode cJ5_newCapacity 47 = .ok (.invokespecial 124, 3) := dk_183 0 124 (dk_at dksJ5_newCapacity_2 0 rfl rfl)
theorem dJ5_newCapacity_50 : decode cJ5_newCapacity 50 = .ok (.athrow, 1) := dk_191 (dk_at dksJ5_newCapacity_2 3 rfl rfl)
theorem dJ5_newCapacity_51 : decode cJ5_newCapacity 51 = .ok (.iload 5, 2) := dk_21 5 (dk_at dksJ5_newCapacity_2 4 rfl rfl)
theorem dJ5_newCapacity_53 : decode cJ5_newCapacity 53 = .ok (.aload_n 0, 1) := dk_42 (dk_at dksJ5_newCapacity_2 6 rfl rfl)
theorem dJ5_newCapacity_54 : decode cJ5_newCapacity 54 = .ok (.getfield 22, 3) := dk_180 0 22 (dk_at dksJ5_newCapacity_2 7 rfl rfl)
theorem dJ5_newCapacity_57 : decode cJ5_newCapacity 57 = .ok (.ishr, 1) := dk_122 (dk_at dksJ5_newCapacity_2 10 rfl rfl)
theorem dJ5_newCapacity_58 : decode cJ5_newCapacity 58 = .ok (.ireturn, 1) := dk_172 (dk_at dksJ5_newCapacity_2 11 rfl rfl)
def dkwJ5_isLatin1_0 : List UInt8 := [178, 0, 18, 153, 0, 14, 42, 180, 0, 22, 154, 0, 7, 4, 167, 0, 4, 3, 172]
abbrev dktJ5_isLatin1_0 : List UInt8 := dkwJ5_isLatin1_0 ++ []
theorem dksJ5_isLatin1_0 : cJ5_isLatin1.data.toList.drop 0 = dktJ5_isLatin1_0 := by decide +kernel
theorem dJ5_isLatin1_0 : decode cJ5_isLatin1 0 = .ok (.getstatic 18, 3) := dk_178 0 18 (dk_at dksJ5_isLatin1_0 0 rfl rfl)
theorem dJ5_isLatin1_3 : decode cJ5_isLatin1 3 = .ok (.ifCond .eq 14, 3) := dk_153 0 14 (dk_at dksJ5_isLatin1_0 3 rfl rfl)
theorem dJ5_isLatin1_6 : decode cJ5_isLatin1 6 = .ok (.aload_n 0, 1) := dk_42 (dk_at dksJ5_isLatin1_0 6 rfl rfl)
theorem dJ5_isLatin1_7 : decode cJ5_isLatin1 7 = .ok (.getfield 22, 3) := dk_180 0 22 (dk_at dksJ5_isLatin1_0 7 rfl rfl)
theorem dJ5_isLatin1_10 : decode cJ5_isLatin1 10 = .ok (.ifCond .ne 7, 3) := dk_154 0 7 (dk_at dksJ5_isLatin1_0 10 rfl rfl)
theorem dJ5_isLatin1_13 : decode cJ5_isLatin1 13 = .ok (.iconst 1, 1) := dk_4 (dk_at dksJ5_isLatin1_0 13 rfl rfl)
theorem dJ5_isLatin1_14 : decode cJ5_isLatin1 14 = .ok (.goto 4, 3) := dk_167 0 4 (dk_at dksJ5_isLatin1_0 14 rfl rfl)
theorem dJ5_isLatin1_17 : decode cJ5_isLatin1 17 = .ok (.iconst 0, 1) := dk_3 (dk_at dksJ5_isLatin1_0 17 rfl rfl)
theorem dJ5_isLatin1_18 : decode cJ5_isLatin1 18 = .ok (.ireturn, 1) := dk_172 (dk_at dksJ5_isLatin1_0 18 rfl rfl)
def dkwJ5_append_2_3 : List UInt8 := [181, 0, 79, 27, 184, 0, 197, 42, 176]
abbrev dktJ5_append_2_3 : List UInt8 := dkwJ5_append_2_3 ++ []
def dkwJ5_append_2_2 : List UInt8 := [182, 0, 83, 153, 0, 7, 42, 182, 0, 195, 42, 180, 0, 15, 42, 89, 180, 0, 79, 90, 4, 96]
abbrev dktJ5_append_2_2 : List UInt8 := dkwJ5_append_2_2 ++ dktJ5_append_2_3
def dkwJ5_append_2_1 : List UInt8 := [42, 180, 0, 15, 42, 89, 180, 0, 79, 90, 4, 96, 181, 0, 79, 27, 145, 84, 167, 0, 33, 42]
abbrev dktJ5_append_2_1 : List UInt8 := dkwJ5_append_2_1 ++ dktJ5_append_2_2
def dkwJ5_append_2_0 : List UInt8 := [42, 42, 180, 0, 79, 4, 96, 182, 0, 100, 42, 182, 0, 83, 153, 0, 31, 27, 184, 0, 191, 153, 0, 24]
abbrev dktJ5_append_2_0 : List UInt8 := dkwJ5_append_2_0 ++ dktJ5_append_2_1
theorem dksJ5_append_2_0 : cJ5_append_2.data.toList.drop 0 = dktJ5_append_2_0 := by decide +kernel
theorem dksJ5_append_2_1 : cJ5_append_2.data.toList.drop 24 = dktJ5_append_2_1 := dk_seg dksJ5_append_2_0 24 rfl rfl
theorem dksJ5_append_2_2 : cJ5_append_2.data.toList.drop 46 = dktJ5_append_2_2 := dk_seg dksJ5_append_2_1 22 rfl rfl
theorem dksJ5_append_2_3 : cJ5_append_2.data.toList.drop 68 = dktJ5_append_2_3 := dk_seg dksJ5_append_2_2 22 rfl rfl
theorem dJ5_append_2_0 : decode cJ5_append_2 0 = .ok (.aload_n 0, 1) := dk_42 (dk_at dksJ5_append_2_0 0 rfl rfl)
theorem dJ5_append_2_1 : decode cJ5_append_2 1 = .ok (.aload_n 0, 1) := dk_42 (dk_at dksJ5_append_2_0 1 rfl rfl)
theorem dJ5_append_2_2 : decode cJ5_append_2 2 = .ok (.getfield 79, 3) := dk_180 0 79 (dk_at dksJ5_append_2_0 2 rfl rfl)
theorem dJ5_append_2_5 : decode cJ5_append_2 5 = .ok (.iconst 1, 1) := dk_4 (dk_at dksJ5_append_2_0 5 rfl rfl)
theorem dJ5_append_2_6 : decode cJ5_append_2 6 = .ok (.iadd, 1) := dk_96 (dk_at dksJ5_append_2_0 6 rfl rfl)
theorem dJ5_append_2_7 : decode cJ5_append_2 7 = .ok (.invokevirtual 100, 3) := dk_182 0 100 (dk_at dksJ5_append_2_0 7 rfl rfl)
theorem dJ5_append_2_10 : decode cJ5_append_2 10 = .ok (.aload_n 0, 1) := dk_42 (dk_at dksJ5_append_2_0 10 rfl rfl)
theorem dJ5_append_2_11 : decode cJ5_append_2 11 = .ok (.invokevirtual 83, 3) := dk_182 0 83 (dk_at dksJ5_append_2_0 11 rfl rfl)
theorem dJ5_append_2_14 : decode cJ5_append_2 14 = .ok (.ifCond .eq 31, 3) := dk_153 0 31 (dk_at dksJ5_append_2_0 14 rfl rfl)
theorem dJ5_append_2_17 : decode cJ5_append_2 17 = .ok (.iload_n 1, 1) := dk_27 (dk_at dksJ5_append_2_0 17 rfl rfl)
theorem dJ5_append_2_18 : decode cJ5_append_2 18 = .ok (.invokestatic 191, 3) := dk_184 0 191 (dk_at dksJ5_append_2_0 18 rfl rfl)
theorem dJ5_append_2_21 : decode cJ5_append_2 21 = .ok (.ifCond .eq 24, 3) := dk_153 0 24 (dk_at dksJ5_append_2_0 21 rfl rfl)
theorem dJ5_append_2_24 : decode cJ5_append_2 24 = .ok (.aload_n 0, 1) := dk_42 (dk_at dksJ5_append_2_1 0 rfl rfl)
theorem dJ5_append_2_25 : decode cJ5_append_2 25 = .ok (.getfield 15, 3) := dk_180 0 15 (dk_at dksJ5_append_2_1 1 rfl rfl)
theorem dJ5_append_2_28 : decode cJ5_append_2 28 = .ok (.aload_n 0, 1) := dk_42 (dk_at dksJ5_append_2_1 4 rfl rfl)
theorem dJ5_append_2_29 : decode cJ5_append_2 29 = .ok (.dup, 1) := dk_89 (dk_at dksJ5_append_2_1 5 rfl rfl)
theorem dJ5_append_2_30 : decode cJ5_append_2 30 = .ok (.getfield 79, 3) := dk_180 0 79 (dk_at dksJ5_append_2_1 6 rfl rfl)
theorem dJ5_append_2_33 : decode cJ5_append_2 33 = .ok (.dup_x1, 1) := dk_90 (dk_at dksJ5_append_2_1 9 rfl rfl)
theorem dJ5_append_2_34 : decode cJ5_append_2 34 = .ok (.iconst 1, 1) := dk_4 (dk_at dksJ5_append_2_1 10 rfl rfl)
theorem dJ5_append_2_35 : decode cJ5_append_2 35 = .ok (.iadd, 1) := dk_96 (dk_at dksJ5_append_2_1 11 rfl rfl)
theorem dJ5_append_2_36 : decode cJ5_append_2 36 = .ok (.putfield 79, 3) := dk_181 0 79 (dk_at dksJ5_append_2_1 12 rfl rfl)
theorem dJ5_append_2_39 : decode cJ5_append_2 39 = .ok (.iload_n 1, 1) := dk_27 (dk_at dksJ5_append_2_1 15 rfl rfl)
theorem dJ5_append_2_40 : decode cJ5_append_2 40 = .ok (.i2b, 1) := dk_145 (dk_at dksJ5_append_2_1 16 rfl rfl)
theorem dJ5_append_2_41 : decode cJ5_append_2 41 = .ok (.bastore, 1) := dk_84 (dk_at dksJ5_append_2_1 17 rfl rfl)
theorem dJ5_append_2_42 : decode cJ5_append_2 42 = .ok (.goto 33, 3) := dk_167 0 33 (dk_at dksJ5_append_2_1 18 rfl rfl)
theorem dJ5_append_2_45 : decode cJ5_append_2 45 = .ok (.aload_n 0, 1) := dk_42 (dk_at dksJ5_append_2_1 21 rfl rfl)
theorem dJ5_append_2_46 : decode cJ5_append_2 46 = .ok (.invokevirtual 83, 3) := dk_182 0 83 (dk_at dksJ5_append_2_2 0 rfl rfl)
theorem dJ5_append_2_49 : decode cJ5_append_2 49 = .ok (.ifCond .eq 7, 3) := dk_153 0 7 (dk_at dksJ5_append_2_2 3 rfl rfl)
theorem dJ5_append_2_52 : decode cJ5_append_2 52 = .ok (.aload_n 0, 1) := dk_42 (dk_at dksJ5_append_2_2 6 rfl rfl)
theorem dJ5_append_2_53 : decode cJ5_append_2 53 = .ok (.invokevirtual 195, 3) := dk_182 0 195 (dk_at dksJ5_append_2_2 7 rfl rfl)
theorem dJ5_append_2_56 : decode cJ5_append_2 56 = .ok (.aload_n 0, 1) := dk_42 (dk_at dksJ5_append_2_2 10 rfl rfl)
theorem dJ5_append_2_57 : decode cJ5_append_2 57 = .ok (.getfield 15, 3) := dk_180 0 15 (dk_at dksJ5_append_2_2 11 rfl rfl)
theorem dJ5_append_2_60 : decode cJ5_append_2 60 = .ok (.aload_n 0, 1) := dk_42 (dk_at dksJ5_append_2_2 14 rfl rfl)
theorem dJ5_append_2_61 : decode cJ5_append_2 61 = .ok (.dup, 1) := dk_89 (dk_at dksJ5_append_2_2 15 rfl rfl)
theorem dJ5_append_2_62 : decode cJ5_append_2 62 = .ok (.getfield 79, 3) := dk_180 0 79 (dk_at dksJ5_append_2_2 16 rfl rfl)
theorem dJ5_append_2_65 : decode cJ5_append_2 65 = .ok (.dup_x1, 1) := dk_90 (dk_at dksJ5_append_2_2 19 rfl rfl)
theorem dJ5_append_2_66 : decode cJ5_append_2 66 = .ok (.iconst 1, 1) := dk_4 (dk_at dksJ5_append_2_2 20 rfl rfl)
theorem dJ5_append_2_67 : decode cJ5_append_2 67 = .ok (.iadd, 1) := dk_96 (dk_at dksJ5_append_2_2 21 rfl rfl)
theorem dJ5_append_2_68 : decode cJ5_append_2 68 = .ok (.putfield 79, 3) := dk_181 0 79 (dk_at dksJ5_append_2_3 0 rfl rfl)
theorem dJ5_append_2_71 : decode cJ5_append_2 71 = .ok (.iload_n 1, 1) := dk_27 (dk_at dksJ5_append_2_3 3 rfl rfl)
theorem dJ5_append_2_72 : decode cJ5_append_2 72 = .ok (.invokestatic 197, 3) := dk_184 0 197 (dk_at dksJ5_append_2_3 4 rfl rfl)
theorem dJ5_append_2_75 : decode cJ5_append_2 75 = .ok (.aload_n 0, 1) := dk_42 (dk_at dksJ5_append_2_3 7 rfl rfl)
theorem dJ5_append_2_76 : decode cJ5_append_2 76 = .ok (.areturn, 1) := dk_176 (dk_at dksJ5_append_2_3 8 rfl rfl)
def dkwJ5_inflate_1 : List UInt8 := [42, 180, 0, 79, 184, 0, 125, 42, 43, 181, 0, 15, 42, 4, 181, 0, 22, 177]
abbrev dktJ5_inflate_1 : List UInt8 := dkwJ5_inflate_1 ++ []
def dkwJ5_inflate_0 : List UInt8 := [42, 182, 0, 83, 154, 0, 4, 177, 42, 180, 0, 15, 190, 184, 0, 26, 76, 42, 180, 0, 15, 3, 43, 3]
abbrev dktJ5_inflate_0 : List UInt8 := dkwJ5_inflate_0 ++ dktJ5_inflate_1
theorem dksJ5_inflate_0 : cJ5_inflate.data.toList.drop 0 = dktJ5_inflate_0 := by decide +kernel
theorem dksJ5_inflate_1 : cJ5_inflate.data.toList.drop 24 = dktJ5_inflate_1 := dk_seg dksJ5_inflate_0 24 rfl rfl
theorem dJ5_inflate_0 : decode cJ5_inflate 0 = .ok (.aload_n 0, 1) := dk_42 (dk_at dksJ5_inflate_0 0 rfl rfl)
theorem dJ5_inflate_1 : decode cJ5_inflate 1 = .ok (.invokevirtual 83, 3) := dk_182 0 83 (dk_at dksJ5_inflate_0 1 rfl rfl)
theorem dJ5_inflate_4 : decode cJ5_inflate 4 = .ok (.ifCond .ne 4, 3) := dk_154 0 4 (dk_at dksJ5_inflate_0 4 rfl rfl)
theorem dJ5_inflate_7 : decode cJ5_inflate 7 = .ok (.return_, 1) := dk_177 (dk_at dksJ5_inflate_0 7 rfl rfl)
theorem dJ5_inflate_8 : decode cJ5_inflate 8 = .ok (.aload_n 0, 1) := dk_42 (dk_at dksJ5_inflate_0 8 rfl rfl)
theorem dJ5_inflate_9 : decode cJ5_inflate 9 = .ok (.getfield 15, 3) := dk_180 0 15 (dk_at dksJ5_inflate_0 9 rfl rfl)
theorem dJ5_inflate_12 : decode cJ5_inflate 12 = .ok (.arraylength, 1) := dk_190 (dk_at dksJ5_inflate_0 12 rfl rfl)
theorem dJ5_inflate_13 : decode cJ5_inflate 13 = .ok (.invokestatic 26, 3) := dk_184 0 26 (dk_at dksJ5_inflate_0 13 rfl rfl)
theorem dJ5_inflate_16 : decode cJ5_inflate 16 = .ok (.astore_n 1, 1) := dk_76 (dk_at dksJ5_inflate_0 16 rfl rfl)
theorem dJ5_inflate_17 : decode cJ5_inflate 17 = .ok (.aload_n 0, 1) := dk_42 (dk_at dksJ5_inflate_0 17 rfl rfl)
theorem dJ5_inflate_18 : decode cJ5_inflate 18 = .ok (.getfield 15, 3) := dk_180 0 15 (dk_at dksJ5_inflate_0 18 rfl rfl)
theorem dJ5_inflate_21 : decode cJ5_inflate 21 = .ok (.iconst 0, 1) := dk_3 (dk_at dksJ5_inflate_0 21 rfl rfl)
theorem dJ5_inflate_22 : decode cJ5_inflate 22 = .ok (.aload_n 1, 1) := dk_43 (dk_at dksJ5_inflate_0 22 rfl rfl)
theorem dJ5_inflate_23 : decode cJ5_inflate 23 = .ok (.iconst 0, 1) := dk_3 (dk_at dksJ5_inflate_0 23 rfl rfl)
theorem dJ5_inflate_24 : decode cJ5_inflate 24 = .ok (.aload_n 0, 1) := dk_42 (dk_at dksJ5_inflate_1 0 rfl rfl)
theorem dJ5_inflate_25 : decode cJ5_inflate 25 = .ok (.getfield 79, 3) := dk_180 0 79 (dk_at dksJ5_inflate_1 1 rfl rfl)
theorem dJ5_inflate_28 : decode cJ5_inflate 28 = .ok (.invokestatic 125, 3) := dk_184 0 125 (dk_at dksJ5_inflate_1 4 rfl rfl)
theorem dJ5_inflate_31 : decode cJ5_inflate 31 = .ok (.aload_n 0, 1) := dk_42 (dk_at dksJ5_inflate_1 7 rfl rfl)
theorem dJ5_inflate_32 : decode cJ5_inflate 32 = .ok (.aload_n 1, 1) := dk_43 (dk_at dksJ5_inflate_1 8 rfl rfl)
theorem dJ5_inflate_33 : decode cJ5_inflate 33 = .ok (.putfield 15, 3) := dk_181 0 15 (dk_at dksJ5_inflate_1 9 rfl rfl)
theorem dJ5_inflate_36 : decode cJ5_inflate 36 = .ok (.aload_n 0, 1) := dk_42 (dk_at dksJ5_inflate_1 12 rfl rfl)
theorem dJ5_inflate_37 : decode cJ5_inflate 37 = .ok (.iconst 1, 1) := dk_4 (dk_at dksJ5_inflate_1 13 rfl rfl)
theorem dJ5_inflate_38 : decode cJ5_inflate 38 = .ok (.putfield 22, 3) := dk_181 0 22 (dk_at dksJ5_inflate_1 14 rfl rfl)
theorem dJ5_inflate_41 : decode cJ5_inflate 41 = .ok (.return_, 1) := dk_177 (dk_at dksJ5_inflate_1 17 rfl rfl)
def dkwJ5_append_3_1 : List UInt8 := [42, 42, 180, 0, 79, 43, 182, 0, 208, 42, 89, 180, 0, 79, 28, 96, 181, 0, 79, 42, 176]
abbrev dktJ5_append_3_1 : List UInt8 := dkwJ5_append_3_1 ++ []
def dkwJ5_append_3_0 : List UInt8 := [43, 199, 0, 8, 42, 182, 0, 204, 176, 43, 182, 0, 32, 61, 42, 42, 180, 0, 79, 28, 96, 182, 0, 100]
abbrev dktJ5_append_3_0 : List UInt8 := dkwJ5_append_3_0 ++ dktJ5_append_3_1
theorem dksJ5_append_3_0 : cJ5_append_3.data.toList.drop 0 = dktJ5_append_3_0 := by decide +kernel
theorem dksJ5_append_3_1 : cJ5_append_3.data.toList.drop 24 = dktJ5_append_3_1 := dk_seg dksJ5_append_3_0 24 rfl rfl
theorem dJ5_append_3_0 : decode cJ5_append_3 0 = .ok (.aload_n 1, 1) := dk_43 (dk_at dksJ5_append_3_0 0 rfl rfl)
theorem dJ5_append_3_1 : decode cJ5_append_3 1 = .ok (.ifnonnull 8, 3) := dk_199 0 8 (dk_at dksJ5_append_3_0 1 rfl rfl)
theorem dJ5_append_3_4 : decode cJ5_append_3 4 = .ok (.aload_n 0, 1) := dk_42 (dk_at dksJ5_append_3_0 4 rfl rfl)
theorem dJ5_append_3_5 : decode cJ5_append_3 5 = .ok (.invokevirtual 204, 3) := dk_182 0 204 (dk_at dksJ5_append_3_0 5 rfl rfl)
theorem dJ5_append_3_8 : decode cJ5_append_3 8 = .ok (.areturn, 1) := dk_176 (dk_at dksJ5_append_3_0 8 rfl rfl)
theorem dJ5_append_3_9 : decode cJ5_append_3 9 = .ok (.aload_n 1, 1) := dk_43 (dk_at dksJ5_append_3_0 9 rfl rfl)
theorem dJ5_append_3_10 : decode cJ5_append_3 10 = .ok (.invokevirtual 32, 3) := dk_182 0 32 (dk_at dksJ5_append_3_0 10 rfl rfl)
theorem dJ5_append_3_13 : decode cJ5_append_3 13 = .ok (.istore_n 2, 1) := dk_61 (dk_at dksJ5_append_3_0 13 rfl rfl)
theorem dJ5_append_3_14 : decode cJ5_append_3 14 = .ok (.aload_n 0, 1) := dk_42 (dk_at dksJ5_append_3_0 14 rfl rfl)
theorem dJ5_append_3_15 : decode cJ5_append_3 15 = .ok (.aload_n 0, 1) := dk_42 (dk_at dksJ5_append_3_0 15 rfl rfl)
theorem dJ5_append_3_16 : decode cJ5_append_3 16 = .ok (.getfield 79, 3) := dk_180 0 79 (dk_at dksJ5_append_3_0 16 rfl rfl)
theorem dJ5_append_3_19 : decode cJ5_append_3 19 = .ok (.iload_n 2, 1) := dk_28 (dk_at dksJ5_append_3_0 19 rfl rfl)
theorem dJ5_append_3_20 : decode cJ5_append_3 20 = .ok (.iadd, 1) := dk_96 (dk_at dksJ5_append_3_0 20 rfl rfl)
theorem dJ5_append_3_21 : decode cJ5_append_3 21 = .ok (.invokevirtual 100, 3) := dk_182 0 100 (dk_at dksJ5_append_3_0 21 rfl rfl)
theorem dJ5_append_3_24 : decode cJ5_append_3 24 = .ok (.aload_n 0, 1) := dk_42 (dk_at dksJ5_append_3_1 0 rfl rfl)
theorem dJ5_append_3_25 : decode cJ5_append_3 25 = .ok (.aload_n 0, 1) := dk_42 (dk_at dksJ5_append_3_1 1 rfl rfl)
theorem dJ5_append_3_26 : decode cJ5_append_3 26 = .ok (.getfield 79, 3) := dk_180 0 79 (dk_at dksJ5_append_3_1 2 rfl rfl)
theorem dJ5_append_3_29 : decode cJ5_append_3 29 = .ok (.aload_n 1, 1) := dk_43 (dk_at dksJ5_append_3_1 5 rfl rfl)
theorem dJ5_append_3_30 : decode cJ5_append_3 30 = .ok (.invokevirtual 208, 3) := dk_182 0 208 (dk_at dksJ5_append_3_1 6 rfl rfl)
theorem dJ5_append_3_33 : decode cJ5_append_3 33 = .ok (.aload_n 0, 1) := dk_42 (dk_at dksJ5_append_3_1 9 rfl rfl)
theorem dJ5_append_3_34 : decode cJ5_append_3 34 = .ok (.dup, 1) := dk_89 (dk_at dksJ5_append_3_1 10 rfl rfl)
theorem dJ5_append_3_35 : decode cJ5_append_3 35 = .ok (.getfield 79, 3) := dk_180 0 79 (dk_at dksJ5_append_3_1 11 rfl rfl)
theorem dJ5_append_3_38 : decode cJ5_append_3 38 = .ok (.iload_n 2, 1) := dk_28 (dk_at dksJ5_append_3_1 14 rfl rfl)
theorem dJ5_append_3_39 : decode cJ5_append_3 39 = .ok (.iadd, 1) := dk_96 (dk_at dksJ5_append_3_1 15 rfl rfl)
theorem dJ5_append_3_40 : decode cJ5_append_3 40 = .ok (.putfield 79, 3) := dk_181 0 79 (dk_at dksJ5_append_3_1 16 rfl rfl)
theorem dJ5_append_3_43 : decode cJ5_append_3 43 = .ok (.aload_n 0, 1) := dk_42 (dk_at dksJ5_append_3_1 19 rfl rfl)
theorem dJ5_append_3_44 : decode cJ5_append_3 44 = .ok (.areturn, 1) := dk_176 (dk_at dksJ5_append_3_1 20 rfl rfl)
def dkwJ5_appendNull_3 : List UInt8 := [184, 0, 226, 60, 42, 27, 181, 0, 79, 42, 176]
abbrev dktJ5_appendNull_3 : List UInt8 := dkwJ5_appendNull_3 ++ []
def dkwJ5_appendNull_2 : List UInt8 := [16, 108, 84, 44, 27, 132, 1, 1, 16, 108, 84, 167, 0, 17, 44, 27, 16, 110, 16, 117, 16, 108, 16, 108]
abbrev dktJ5_appendNull_2 : List UInt8 := dkwJ5_appendNull_2 ++ dktJ5_appendNull_3
def dkwJ5_appendNull_1 : List UInt8 := [153, 0, 38, 44, 27, 132, 1, 1, 16, 110, 84, 44, 27, 132, 1, 1, 16, 117, 84, 44, 27, 132, 1, 1]
abbrev dktJ5_appendNull_1 : List UInt8 := dkwJ5_appendNull_1 ++ dktJ5_appendNull_2
def dkwJ5_appendNull_0 : List UInt8 := [42, 42, 180, 0, 79, 7, 96, 182, 0, 100, 42, 180, 0, 79, 60, 42, 180, 0, 15, 77, 42, 182, 0, 83]
abbrev dktJ5_appendNull_0 : List UInt8 := dkwJ5_appendNull_0 ++ dktJ5_appendNull_1
theorem dksJ5_appendNull_0 : cJ5_appendNull.data.toList.drop 0 = dktJ5_appendNull_0 := by decide +kernel
theorem dksJ5_appendNull_1 : cJ5_appendNull.data.toList.drop 24 = dktJ5_appendNull_1 := dk_seg dksJ5_appendNull_0 24 rfl rfl
theorem dksJ5_appendNull_2 : cJ5_appendNull.data.toList.drop 48 = dktJ5_appendNull_2 := dk_seg dksJ5_appendNull_1 24 rfl rfl
theorem dksJ5_appendNull_3 : cJ5_appendNull.data.toList.drop 72 = dktJ5_appendNull_3 := dk_seg dksJ5_appendNull_2 24 rfl rfl
theorem dJ5_appendNull_0 : decode cJ5_appendNull 0 = .ok (.aload_n 0, 1) := dk_42 (dk_at dksJ5_appendNull_0 0 rfl rfl)
theorem dJ5_appendNull_1 : decode cJ5_appendNull 1 = .ok (.aload_n 0, 1) := dk_42 (dk_at dksJ5_appendNull_0 1 rfl rfl)
theorem dJ5_appendNull_2 : decode cJ5_appendNull 2 = .ok (.getfield 79, 3) := dk_180 0 79 (dk_at dksJ5_appendNull_0 2 rfl rfl)
theorem dJ5_appendNull_5 : decode cJ5_appendNull 5 = .ok (.iconst 4, 1) := dk_7 (dk_at dksJ5_appendNull_0 5 rfl rfl)
theorem dJ5_appendNull_6 : decode cJ5_appendNull 6 = .ok (.iadd, 1) := dk_96 (dk_at dksJ5_appendNull_0 6 rfl rfl)
theorem dJ5_appendNull_7 : decode cJ5_appendNull 7 = .ok (.invokevirtual 100, 3) := dk_182 0 100 (dk_at dksJ5_appendNull_0 7 rfl rfl)
theorem dJ5_appendNull_10 : decode cJ5_appendNull 10 = .ok (.aload_n 0, 1) := dk_42 (dk_at dksJ5_appendNull_0 10 rfl rfl)
theorem dJ5_appendNull_11 : decode cJ5_appendNull 11 = .ok (.getfield 79, 3) := dk_180 0 79 (dk_at dksJ5_appendNull_0 11 rfl rfl)
theorem dJ5_appendNull_14 : decode cJ5_appendNull 14 = .ok (.istore_n 1, 1) := dk_60 (dk_at dksJ5_appendNull_0 14 rfl rfl)
theorem dJ5_appendNull_15 : decode cJ5_appendNull 15 = .ok (.aload_n 0, 1) := dk_42 (dk_at dksJ5_appendNull_0 15 rfl rfl)
theorem dJ5_appendNull_16 : decode cJ5_appendNull 16 = .ok (.getfield 15, 3) := dk_180 0 15 (dk_at dksJ5_appendNull_0 16 rfl rfl)
theorem dJ5_appendNull_19 : decode cJ5_appendNull 19 = .ok (.astore_n 2, 1) := dk_77 (dk_at dksJ5_appendNull_0 19 rfl rfl)
theorem dJ5_appendNull_20 : decode cJ5_appendNull 20 = .ok (.aload_n 0, 1) := dk_42 (dk_at dksJ5_appendNull_0 20 rfl rfl)
theorem dJ5_appendNull_21 : decode cJ5_appendNull 21 = .ok (.invokevirtual 83, 3) := dk_182 0 83 (dk_at dksJ5_appendNull_0 21 rfl rfl)
theorem dJ5_appendNull_24 : decode cJ5_appendNull 24 = .ok (.ifCond .eq 38, 3) := dk_153 0 38 (dk_at dksJ5_appendNull_1 0 rfl rfl)
theorem dJ5_appendNull_27 : decode cJ5_appendNull 27 = .ok (.aload_n 2, 1) := dk_44 (dk_at dksJ5_appendNull_1 3 rfl rfl)
theorem dJ5_appendNull_28 : decode cJ5_appendNull 28 = .ok (.iload_n 1, 1) := dk_27 (dk_at dksJ5_appendNull_1 4 rfl rfl)
theorem dJ5_appendNull_29 : decode cJ5_appendNull 29 = .ok (.iinc 1 1, 3) := dk_132 1 1 (dk_at dksJ5_appendNull_1 5 rfl rfl)
theorem dJ5_appendNull_32 : decode cJ5_appendNull 32 = .ok (.bipush 110, 2) := dk_16 110 (dk_at dksJ5_appendNull_1 8 rfl rfl)
theorem dJ5_appendNull_34 : decode cJ5_appendNull 34 = .ok (.bastore, 1) := dk_84 (dk_at dksJ5_appendNull_1 10 rfl rfl)
theorem dJ5_appendNull_35 : decode cJ5_appendNull 35 = .ok (.aload_n 2, 1) := dk_44 (dk_at dksJ5_appendNull_1 11 rfl rfl)
theorem dJ5_appendNull_36 : decode cJ5_appendNull 36 = .ok (.iload_n 1, 1) := dk_27 (dk_at dksJ5_appendNull_1 12 rfl rfl)
theorem dJ5_appendNull_37 : decode cJ5_appendNull 37 = .ok (.iinc 1 1, 3) := dk_132 1 1 (dk_at dksJ5_appendNull_1 13 rfl rfl)
theorem dJ5_appendNull_40 : decode cJ5_appendNull 40 = .ok (.bipush 117, 2) := dk_16 117 (dk_at dksJ5_appendNull_1 16 rfl rfl)
theorem dJ5_appendNull_42 : decode cJ5_appendNull 42 = .ok (.bastore, 1) := dk_84 (dk_at dksJ5_appendNull_1 18 rfl rfl)
theorem dJ5_appendNull_43 : decode cJ5_appendNull 43 = .ok (.aload_n 2, 1) := dk_44 (dk_at dksJ5_appendNull_1 19 rfl rfl)
theorem dJ5_appendNull_44 : decode cJ5_appendNull 44 = .ok (.iload_n 1, 1) := dk_27 (dk_at dksJ5_appendNull_1 20 rfl rfl)
theorem dJ5_appendNull_45 : decode cJ5_appendNull 45 = .ok (.iinc 1 1, 3) := dk_132 1 1 (dk_at dksJ5_appendNull_1 21 rfl rfl)
theorem dJ5_appendNull_48 : decode cJ5_appendNull 48 = .ok (.bipush 108, 2) := dk_16 108 (dk_at dksJ5_appendNull_2 0 rfl rfl)
theorem dJ5_appendNull_50 : decode cJ5_appendNull 50 = .ok (.bastore, 1) := dk_84 (dk_at dksJ5_appendNull_2 2 rfl rfl)
theorem dJ5_appendNull_51 : decode cJ5_appendNull 51 = .ok (.aload_n 2, 1) := dk_44 (dk_at dksJ5_appendNull_2 3 rfl rfl)
theorem dJ5_appendNull_52 : decode cJ5_appendNull 52 = .ok (.iload_n 1, 1) := dk_27 (dk_at dksJ5_appendNull_2 4 rfl rfl)
theorem dJ5_appendNull_53 : decode cJ5_appendNull 53 = .ok (.iinc 1 1, 3) := dk_132 1 1 (dk_at dksJ5_appendNull_2 5 rfl rfl)
theorem dJ5_appendNull_56 : decode cJ5_appendNull 56 = .ok (.bipush 108, 2) := dk_16 108 (dk_at dksJ5_appendNull_2 8 rfl rfl)
theorem dJ5_appendNull_58 : decode cJ5_appendNull 58 = .ok (.bastore, 1) := dk_84 (dk_at dksJ5_appendNull_2 10 rfl rfl)
theorem dJ5_appendNull_59 : decode cJ5_appendNull 59 = .ok (.goto 17, 3) := dk_167 0 17 (dk_at dksJ5_appendNull_2 11 rfl rfl)
theorem dJ5_appendNull_62 : decode cJ5_appendNull 62 = .ok (.aload_n 2, 1) := dk_44 (dk_at dksJ5_appendNull_2 14 rfl rfl)
theorem dJ5_appendNull_63 : decode cJ5_appendNull 63 = .ok (.iload_n 1, 1) := dk_27 (dk_at dksJ5_appendNull_2 15 rfl rfl)
theorem dJ5_appendNull_64 : decode cJ5_appendNull 64 = .ok (.bipush 110, 2) := dk_16 110 (dk_at dksJ5_appendNull_2 16 rfl rfl)
theorem dJ5_appendNull_66 : decode cJ5_appendNull 66 = .ok (.bipush 117, 2) := dk_16 117 (dk_at dksJ5_appendNull_2 18 rfl rfl)
theorem dJ5_appendNull_68 : decode cJ5_appendNull 68 = .ok (.bipush 108, 2) := dk_16 108 (dk_at dksJ5_appendNull_2 20 rfl rfl)
theorem dJ5_appendNull_70 : decode cJ5_appendNull 70 = .ok (.bipush 108, 2) := dk_16 108 (dk_at dksJ5_appendNull_2 22 rfl rfl)
theorem dJ5_appendNull_72 : decode cJ5_appendNull 72 = .ok (.invokestatic 226, 3) := dk_184 0 226 (dk_at dksJ5_appendNull_3 0 rfl rfl)
theorem dJ5_appendNull_75 : decode cJ5_appendNull 75 = .ok (.istore_n 1, 1) := dk_60 (dk_at dksJ5_appendNull_3 3 rfl rfl)
theorem dJ5_appendNull_76 : decode cJ5_appendNull 76 = .ok (.aload_n 0, 1) := dk_42 (dk_at dksJ5_appendNull_3 4 rfl rfl)
theorem dJ5_appendNull_77 : decode cJ5_appendNull 77 = .ok (.iload_n 1, 1) := dk_27 (dk_at dksJ5_appendNull_3 5 rfl rfl)
theorem dJ5_appendNull_78 : decode cJ5_appendNull 78 = .ok (.putfield 79, 3) := dk_181 0 79 (dk_at dksJ5_appendNull_3 6 rfl rfl)
theorem dJ5_appendNull_81 : decode cJ5_appendNull 81 = .ok (.aload_n 0, 1) := dk_42 (dk_at dksJ5_appendNull_3 9 rfl rfl)
theorem dJ5_appendNull_82 : decode cJ5_appendNull 82 = .ok (.areturn, 1) := dk_176 (dk_at dksJ5_appendNull_3 10 rfl rfl)
def dkwJ5_putStringAt_0 : List UInt8 := [42, 44, 182, 1, 141, 44, 42, 180, 0, 15, 27, 42, 180, 0, 22, 182, 1, 143, 177]
abbrev dktJ5_putStringAt_0 : List UInt8 := dkwJ5_putStringAt_0 ++ []
theorem dksJ5_putStringAt_0 : cJ5_putStringAt.data.toList.drop 0 = dktJ5_putStringAt_0 := by decide +kernel
theorem dJ5_putStringAt_0 : decode cJ5_putStringAt 0 = .ok (.aload_n 0, 1) := dk_42 (dk_at dksJ5_putStringAt_0 0 rfl rfl)
theorem dJ5_putStringAt_1 : decode cJ5_putStringAt 1 = .ok (.aload_n 2, 1) := dk_44 (dk_at dksJ5_putStringAt_0 1 rfl rfl)
theorem dJ5_putStringAt_2 : decode cJ5_putStringAt 2 = .ok (.invokevirtual 397, 3) := dk_182 1 141 (dk_at dksJ5_putStringAt_0 2 rfl rfl)
theorem dJ5_putStringAt_5 : decode cJ5_putStringAt 5 = .ok (.aload_n 2, 1) := dk_44 (dk_at dksJ5_putStringAt_0 5 rfl rfl)
theorem dJ5_putStringAt_6 : decode cJ5_putStringAt 6 = .ok (.aload_n 0, 1) := dk_42 (dk_at dksJ5_putStringAt_0 6 rfl rfl)
theorem dJ5_putStringAt_7 : decode cJ5_putStringAt 7 = .ok (.getfield 15, 3) := dk_180 0 15 (dk_at dksJ5_putStringAt_0 7 rfl rfl)
theorem dJ5_putStringAt_10 : decode cJ5_putStringAt 10 = .ok (.iload_n 1, 1) := dk_27 (dk_at dksJ5_putStringAt_0 10 rfl rfl)
theorem dJ5_putStringAt_11 : decode cJ5_putStringAt 11 = .ok (.aload_n 0, 1) := dk_42 (dk_at dksJ5_putStringAt_0 11 rfl rfl)
theorem dJ5_putStringAt_12 : decode cJ5_putStringAt 12 = .ok (.getfield 22, 3) := dk_180 0 22 (dk_at dksJ5_putStringAt_0 12 rfl rfl)
theorem dJ5_putStringAt_15 : decode cJ5_putStringAt 15 = .ok (.invokevirtual 399, 3) := dk_182 1 143 (dk_at dksJ5_putStringAt_0 15 rfl rfl)
theorem dJ5_putStringAt_18 : decode cJ5_putStringAt 18 = .ok (.return_, 1) := dk_177 (dk_at dksJ5_putStringAt_0 18 rfl rfl)
def dkwJ5_inflateIfNeededFor_0 : List UInt8 := [178, 0, 18, 153, 0, 18, 42, 180, 0, 22, 43, 182, 0, 40, 159, 0, 7, 42, 182, 0, 195, 177]
abbrev dktJ5_inflateIfNeededFor_0 : List UInt8 := dkwJ5_inflateIfNeededFor_0 ++ []
theorem dksJ5_inflateIfNeededFor_0 : cJ5_inflateIfNeededFor.data.toList.drop 0 = dktJ5_inflateIfNeededFor_0 := by decide +kernel
theorem dJ5_inflateIfNeededFor_0 : decode cJ5_inflateIfNeededFor 0 = .ok (.getstatic 18, 3) := dk_178 0 18 (dk_at dksJ5_inflateIfNeededFor_0 0 rfl rfl)
theorem dJ5_inflateIfNeededFor_3 : decode cJ5_inflateIfNeededFor 3 = .ok (.ifCond .eq 18, 3) := dk_153 0 18 (dk_at dksJ5_inflateIfNeededFor_0 3 rfl rfl)
theorem dJ5_inflateIfNeededFor_6 : decode cJ5_inflateIfNeededFor 6 = .ok (.aload_n 0, 1) := dk_42 (dk_at dksJ5_inflateIfNeededFor_0 6 rfl rfl)
theorem dJ5_inflateIfNeededFor_7 : decode cJ5_inflateIfNeededFor 7 = .ok (.getfield 22, 3) := dk_180 0 22 (dk_at dksJ5_inflateIfNeededFor_0 7 rfl rfl)
theorem dJ5_inflateIfNeededFor_10 : decode cJ5_inflateIfNeededFor 10 = .ok (.aload_n 1, 1) := dk_43 (dk_at dksJ5_inflateIfNeededFor_0 10 rfl rfl)
theorem dJ5_inflateIfNeededFor_11 : decode cJ5_inflateIfNeededFor 11 = .ok (.invokevirtual 40, 3) := dk_182 0 40 (dk_at dksJ5_inflateIfNeededFor_0 11 rfl rfl)
theorem dJ5_inflateIfNeededFor_14 : decode cJ5_inflateIfNeededFor 14 = .ok (.if_icmp .eq 7, 3) := dk_159 0 7 (dk_at dksJ5_inflateIfNeededFor_0 14 rfl rfl)
theorem dJ5_inflateIfNeededFor_17 : decode cJ5_inflateIfNeededFor 17 = .ok (.aload_n 0, 1) := dk_42 (dk_at dksJ5_inflateIfNeededFor_0 17 rfl rfl)
theorem dJ5_inflateIfNeededFor_18 : decode cJ5_inflateIfNeededFor 18 = .ok (.invokevirtual 195, 3) := dk_182 0 195 (dk_at dksJ5_inflateIfNeededFor_0 18 rfl rfl)
theorem dJ5_inflateIfNeededFor_21 : decode cJ5_inflateIfNeededFor 21 = .ok (.return_, 1) := dk_177 (dk_at dksJ5_inflateIfNeededFor_0 21 rfl rfl)
theorem dJ5_getValue_0 : decode cJ5_getValue 0 = .ok (.aload_n 0, 1) := by decide +kernel
theorem dJ5_getValue_1 : decode cJ5_getValue 1 = .ok (.getfield 15, 3) := by decide +kernel
theorem dJ5_getValue_4 : decode cJ5_getValue 4 = .ok (.areturn, 1) := by decide +kernel
theorem dJ5_length_0 : decode cJ5_length 0 = .ok (.aload_n 0, 1) := by decide +kernel
theorem dJ5_length_1 : decode cJ5_length 1 = .ok (.getfield 79, 3) := by decide +kernel
theorem dJ5_length_4 : decode cJ5_length 4 = .ok (.ireturn, 1) := by decide +kernel
def dkwJ5_setLength_3 : List UInt8 := [164, 0, 8, 42, 4, 181, 0, 73, 42, 27, 181, 0, 79, 177]
abbrev dktJ5_setLength_3 : List UInt8 := dkwJ5_setLength_3 ++ []
def dkwJ5_setLength_2 : List UInt8 := [167, 0, 31, 42, 180, 0, 15, 42, 180, 0, 79, 27, 184, 0, 137, 167, 0, 16, 42, 180, 0, 79, 27]
abbrev dktJ5_setLength_2 : List UInt8 := dkwJ5_setLength_2 ++ dktJ5_setLength_3
def dkwJ5_setLength_1 : List UInt8 := [162, 0, 40, 42, 182, 0, 83, 153, 0, 18, 42, 180, 0, 15, 42, 180, 0, 79, 27, 184, 0, 133]
abbrev dktJ5_setLength_1 : List UInt8 := dkwJ5_setLength_1 ++ dktJ5_setLength_2
def dkwJ5_setLength_0 : List UInt8 := [27, 156, 0, 12, 187, 0, 129, 89, 27, 183, 0, 131, 191, 42, 27, 182, 0, 100, 42, 180, 0, 79, 27]
abbrev dktJ5_setLength_0 : List UInt8 := dkwJ5_setLength_0 ++ dktJ5_setLength_1
theorem dksJ5_setLength_0 : cJ5_setLength.data.toList.drop 0 = dktJ5_setLength_0 := by decide +kernel
theorem dksJ5_setLength_1 : cJ5_setLength.data.toList.drop 23 = dktJ5_setLength_1 := dk_seg dksJ5_setLength_0 23 rfl rfl
theorem dksJ5_setLength_2 : cJ5_setLength.data.toList.drop 45 = dktJ5_setLength_2 := dk_seg dksJ5_setLength_1 22 rfl rfl
theorem dksJ5_setLength_3 : cJ5_setLength.data.toList.drop 68 = dktJ5_setLength_3 := dk_seg dksJ5_setLength_2 23 rfl rfl
theorem dJ5_setLength_0 : decode cJ5_setLength 0 = .ok (.iload_n 1, 1) := dk_27 (dk_at dksJ5_setLength_0 0 rfl rfl)
theorem dJ5_setLength_1 : decode cJ5_setLength 1 = .ok (.ifCond .ge 12, 3) := dk_156 0 12 (dk_at dksJ5_setLength_0 1 rfl rfl)
theorem dJ5_setLength_4 : decode cJ5_setLength 4 = .ok (.new 129, 3) := dk_187 0 129 (dk_at dksJ5_setLength_0 4 rfl rfl)
theorem dJ5_setLength_7 : decode cJ5_setLength 7 = .ok (.dup, 1) := dk_89 (dk_at dksJ5_setLength_0 7 rfl rfl)
theorem dJ5_setLength_8 : decode cJ5_setLength 8 = .ok (.iload_n 1, 1) := dk_27 (dk_at dksJ5_setLength_0 8 rfl rfl)
theorem dJ5_setLength_9 : decode cJ5_setLength 9 = .ok (.invokespecial 131, 3) := dk_183 0 131 (dk_at dksJ5_setLength_0 9 rfl rfl)
theorem dJ5_setLength_12 : decode cJ5_setLength 12 = .ok (.athrow, 1) := dk_191 (dk_at dksJ5_setLength_0 12 rfl rfl)
theorem dJ5_setLength_13 : decode cJ5_setLength 13 = .ok (.aload_n 0, 1) := dk_42 (dk_at dksJ5_setLength_0 13 rfl rfl)
theorem dJ5_setLength_14 : decode cJ5_setLength 14 = .ok (.iload_n 1, 1) := dk_27 (dk_at dksJ5_setLength_0 14 rfl rfl)
theorem dJ5_setLength_15 : decode cJ5_setLength 15 = .ok (.invokevirtual 100, 3) := dk_182 0 100 (dk_at dksJ5_setLength_0 15 rfl rfl)
theorem dJ5_setLength_18 : decode cJ5_setLength 18 = .ok (.aload_n 0, 1) := dk_42 (dk_at dksJ5_setLength_0 18 rfl rfl)
theorem dJ5_setLength_19 : decode cJ5_setLength 19 = .ok (.getfield 79, 3) := dk_180 0 79 (dk_at dksJ5_setLength_0 19 rfl rfl)
theorem dJ5_setLength_22 : decode cJ5_setLength 22 = .ok (.iload_n 1, 1) := dk_27 (dk_at dksJ5_setLength_0 22 rfl rfl)
theorem dJ5_setLength_23 : decode cJ5_setLength 23 = .ok (.if_icmp .ge 40, 3) := dk_162 0 40 (dk_at dksJ5_setLength_1 0 rfl rfl)
theorem dJ5_setLength_26 : decode cJ5_setLength 26 = .ok (.aload_n 0, 1) := dk_42 (dk_at dksJ5_setLength_1 3 rfl rfl)
theorem dJ5_setLength_27 : decode cJ5_setLength 27 = .ok (.invokevirtual 83, 3) := dk_182 0 83 (dk_at dksJ5_setLength_1 4 rfl rfl)
theorem dJ5_setLength_30 : decode cJ5_setLength 30 = .ok (.ifCond .eq 18, 3) := dk_153 0 18 (dk_at dksJ5_setLength_1 7 rfl rfl)
theorem dJ5_setLength_33 : decode cJ5_setLength 33 = .ok (.aload_n 0, 1) := dk_42 (dk_at dksJ5_setLength_1 10 rfl rfl)
theorem dJ5_setLength_34 : decode cJ5_setLength 34 = .ok (.getfield 15, 3) := dk_180 0 15 (dk_at dksJ5_setLength_1 11 rfl rfl)
theorem dJ5_setLength_37 : decode cJ5_setLength 37 = .ok (.aload_n 0, 1) := dk_42 (dk_at dksJ5_setLength_1 14 rfl rfl)
theorem dJ5_setLength_38 : decode cJ5_setLength 38 = .ok (.getfield 79, 3) := dk_180 0 79 (dk_at dksJ5_setLength_1 15 rfl rfl)
theorem dJ5_setLength_41 : decode cJ5_setLength 41 = .ok (.iload_n 1, 1) := dk_27 (dk_at dksJ5_setLength_1 18 rfl rfl)
theorem dJ5_setLength_42 : decode cJ5_setLength 42 = .ok (.invokestatic 133, 3) := dk_184 0 133 (dk_at dksJ5_setLength_1 19 rfl rfl)
theorem dJ5_setLength_45 : decode cJ5_setLength 45 = .ok (.goto 31, 3) := dk_167 0 31 (dk_at dksJ5_setLength_2 0 rfl rfl)
theorem dJ5_setLength_48 : decode cJ5_setLength 48 = .ok (.aload_n 0, 1) := dk_42 (dk_at dksJ5_setLength_2 3 rfl rfl)
theorem dJ5_setLength_49 : decode cJ5_setLength 49 = .ok (.getfield 15, 3) := dk_180 0 15 (dk_at dksJ5_setLength_2 4 rfl rfl)
theorem dJ5_setLength_52 : decode cJ5_setLength 52 = .ok (.aload_n 0, 1) := dk_42 (dk_at dksJ5_setLength_2 7 rfl rfl)
theorem dJ5_setLength_53 : decode cJ5_setLength 53 = .ok (.getfield 79, 3) := dk_180 0 79 (dk_at dksJ5_setLength_2 8 rfl rfl)
theorem dJ5_setLength_56 : decode cJ5_setLength 56 = .ok (.iload_n 1, 1) := dk_27 (dk_at dksJ5_setLength_2 11 rfl rfl)
theorem dJ5_setLength_57 : decode cJ5_setLength 57 = .ok (.invokestatic 137, 3) := dk_184 0 137 (dk_at dksJ5_setLength_2 12 rfl rfl)
theorem dJ5_setLength_60 : decode cJ5_setLength 60 = .ok (.goto 16, 3) := dk_167 0 16 (dk_at dksJ5_setLength_2 15 rfl rfl)
theorem dJ5_setLength_63 : decode cJ5_setLength 63 = .ok (.aload_n 0, 1) := dk_42 (dk_at dksJ5_setLength_2 18 rfl rfl)
theorem dJ5_setLength_64 : decode cJ5_setLength 64 = .ok (.getfield 79, 3) := dk_180 0 79 (dk_at dksJ5_setLength_2 19 rfl rfl)
theorem dJ5_setLength_67 : decode cJ5_setLength 67 = .ok (.iload_n 1, 1) := dk_27 (dk_at dksJ5_setLength_2 22 rfl rfl)
theorem dJ5_setLength_68 : decode cJ5_setLength 68 = .ok (.if_icmp .le 8, 3) := dk_164 0 8 (dk_at dksJ5_setLength_3 0 rfl rfl)
theorem dJ5_setLength_71 : decode cJ5_setLength 71 = .ok (.aload_n 0, 1) := dk_42 (dk_at dksJ5_setLength_3 3 rfl rfl)
theorem dJ5_setLength_72 : decode cJ5_setLength 72 = .ok (.iconst 1, 1) := dk_4 (dk_at dksJ5_setLength_3 4 rfl rfl)
theorem dJ5_setLength_73 : decode cJ5_setLength 73 = .ok (.putfield 73, 3) := dk_181 0 73 (dk_at dksJ5_setLength_3 5 rfl rfl)
theorem dJ5_setLength_76 : decode cJ5_setLength 76 = .ok (.aload_n 0, 1) := dk_42 (dk_at dksJ5_setLength_3 8 rfl rfl)
theorem dJ5_setLength_77 : decode cJ5_setLength 77 = .ok (.iload_n 1, 1) := dk_27 (dk_at dksJ5_setLength_3 9 rfl rfl)
theorem dJ5_setLength_78 : decode cJ5_setLength 78 = .ok (.putfield 79, 3) := dk_181 0 79 (dk_at dksJ5_setLength_3 10 rfl rfl)
theorem dJ5_setLength_81 : decode cJ5_setLength 81 = .ok (.return_, 1) := dk_177 (dk_at dksJ5_setLength_3 13 rfl rfl)
def tJ5_init : pb_T := [(0, .aload_n 0, 1, 0), (1, .invokespecial 3, 4, 0), (4, .getstatic 18, 7, 0), (7, .ifCond .eq 18, 10, 25), (10, .aload_n 0, 11, 0), (11, .iload_n 1, 12, 0), (12, .newarray .byte, 14, 0), (14, .putfield 15, 17, 0), (17, .aload_n 0, 18, 0), (18, .iconst 0, 19, 0), (19, .putfield 22, 22, 0), (22, .goto 16, 25, 38), (25, .aload_n 0, 26, 0), (26, .iload_n 1, 27, 0), (27, .invokestatic 26, 30, 0), (30, .putfield 15, 33, 0), (33, .aload_n 0, 34, 0), (34, .iconst 1, 35, 0), (35, .putfield 22, 38, 0), (38, .return_, 39, 0)]
theorem tJ5_init_ok : pb_Tok cJ5_init tJ5_init := pb_Tok.cons dJ5_init_0 rfl (pb_Tok.cons dJ5_init_1 rfl (pb_Tok.cons dJ5_init_4 rfl (pb_Tok.cons dJ5_init_7 rfl (pb_Tok.cons dJ5_init_10 rfl (pb_Tok.cons dJ5_init_11 rfl (pb_Tok.cons dJ5_init_12 rfl (pb_Tok.cons dJ5_init_14 rfl (pb_Tok.cons dJ5_init_17 rfl (pb_Tok.cons dJ5_init_18 rfl (pb_Tok.cons dJ5_init_19 rfl (pb_Tok.cons dJ5_init_22 rfl (pb_Tok.cons dJ5_init_25 rfl (pb_Tok.cons dJ5_init_26 rfl (pb_Tok.cons dJ5_init_27 rfl (pb_Tok.cons dJ5_init_30 rfl (pb_Tok.cons dJ5_init_33 rfl (pb_Tok.cons dJ5_init_34 rfl (pb_Tok.cons dJ5_init_35 rfl (pb_Tok.cons dJ5_init_38 rfl pb_Tok.nil)))))))))))))))))))
def tJ5_append : pb_T := [(0, .aload_n 0, 1, 0), (1, .getfield 79, 4, 0), (4, .istore_n 2, 5, 0), (5, .iload_n 2, 6, 0), (6, .iload_n 1, 7, 0), (7, .invokestatic 245, 10, 0), (10, .iadd, 11, 0), (11, .istore_n 3, 12, 0), (12, .aload_n 0, 13, 0), (13, .iload_n 3, 14, 0), (14, .invokevirtual 100, 17, 0), (17, .aload_n 0, 18, 0), (18, .invokevirtual 83, 21, 0), (21, .ifCond .eq 16, 24, 37), (24, .iload_n 1, 25, 0), (25, .iload_n 3, 26, 0), (26, .aload_n 0, 27, 0), (27, .getfield 15, 30, 0), (30, .invokestatic 248, 33, 0), (33, .pop, 34, 0), (34, .goto 14, 37, 48), (37, .iload_n 1, 38, 0), (38, .iload_n 2, 39, 0), (39, .iload_n 3, 40, 0), (40, .aload_n 0, 41, 0), (41, .getfield 15, 44, 0), (44, .invokestatic 251, 47, 0), (47, .pop, 48, 0), (48, .aload_n 0, 49, 0), (49, .iload_n 3, 50, 0), (50, .putfield 79, 53, 0), (53, .aload_n 0, 54, 0), (54, .areturn, 55, 0)]
theorem tJ5_append_ok : pb_Tok cJ5_append tJ5_append := pb_Tok.cons dJ5_append_0 rfl (pb_Tok.cons dJ5_append_1 rfl (pb_Tok.cons dJ5_append_4 rfl (pb_Tok.cons dJ5_append_5 rfl (pb_Tok.cons dJ5_append_6 rfl (pb_Tok.cons dJ5_append_7 rfl (pb_Tok.cons dJ5_append_10 rfl (pb_Tok.cons dJ5_append_11 rfl (pb_Tok.cons dJ5_append_12 rfl (pb_Tok.cons dJ5_append_13 rfl (pb_Tok.cons dJ5_append_14 rfl (pb_Tok.cons dJ5_append_17 rfl (pb_Tok.cons dJ5_append_18 rfl (pb_Tok.cons dJ5_append_21 rfl (pb_Tok.cons dJ5_append_24 rfl (pb_Tok.cons dJ5_append_25 rfl (pb_Tok.cons dJ5_append_26 rfl (pb_Tok.cons dJ5_append_27 rfl (pb_Tok.cons dJ5_append_30 rfl (pb_Tok.cons dJ5_append_33 rfl (pb_Tok.cons dJ5_append_34 rfl (pb_Tok.cons dJ5_append_37 rfl (pb_Tok.cons dJ5_append_38 rfl (pb_Tok.cons dJ5_append_39 rfl (pb_Tok.cons dJ5_append_40 rfl (pb_Tok.cons dJ5_append_41 rfl (pb_Tok.cons dJ5_append_44 rfl (pb_Tok.cons dJ5_append_47 rfl (pb_Tok.cons dJ5_append_48 rfl (pb_Tok.cons dJ5_append_49 rfl (pb_Tok.cons dJ5_append_50 rfl (pb_Tok.cons dJ5_append_53 rfl (pb_Tok.cons dJ5_append_54 rfl pb_Tok.nil))))))))))))))))))))))))))))))))
def tJ5_ensureCapacityInternal : pb_T := [(0, .aload_n 0, 1, 0), (1, .getfield 15, 4, 0), (4, .arraylength, 5, 0), (5, .aload_n 0, 6, 0), (6, .getfield 22, 9, 0), (9, .ishr, 10, 0), (10, .istore_n 2, 11, 0), (11, .iload_n 1, 12, 0), (12, .iload_n 2, 13, 0), (13, .isub, 14, 0), (14, .ifCond .le 24, 17, 38), (17, .aload_n 0, 18, 0), (18, .aload_n 0, 19, 0), (19, .getfield 15, 22, 0), (22, .aload_n 0, 23, 0), (23, .iload_n 1, 24, 0), (24, .invokevirtual 104, 27, 0), (27, .aload_n 0, 28, 0), (28, .getfield 22, 31, 0), (31, .ishl, 32, 0), (32, .invokestatic 108, 35, 0), (35, .putfield 15, 38, 0), (38, .return_, 39, 0)]
theorem tJ5_ensureCapacityInternal_ok : pb_Tok cJ5_ensureCapacityInternal tJ5_ensureCapacityInternal := pb_Tok.cons dJ5_ensureCapacityInternal_0 rfl (pb_Tok.cons dJ5_ensureCapacityInternal_1 rfl (pb_Tok.cons dJ5_ensureCapacityInternal_4 rfl (pb_Tok.cons dJ5_ensureCapacityInternal_5 rfl (pb_Tok.cons dJ5_ensureCapacityInternal_6 rfl (pb_Tok.cons dJ5_ensureCapacityInternal_9 rfl (pb_Tok.cons dJ5_ensureCapacityInternal_10 rfl (pb_Tok.cons dJ5_ensureCapacityInternal_11 rfl (pb_Tok.cons dJ5_ensureCapacityInternal_12 rfl (pb_Tok.cons dJ5_ensureCapacityInternal_13 rfl (pb_Tok.cons dJ5_ensureCapacityInternal_14 rfl (pb_Tok.cons dJ5_ensureCapacityInternal_17 rfl (pb_Tok.cons dJ5_ensureCapacityInternal_18 rfl (pb_Tok.cons dJ5_ensureCapacityInternal_19 rfl (pb_Tok.cons dJ5_ensureCapacityInternal_22 rfl (pb_Tok.cons dJ5_ensureCapacityInternal_23 rfl (pb_Tok.cons dJ5_ensureCapacityInternal_24 rfl (pb_Tok.cons dJ5_ensureCapacityInternal_27 rfl (pb_Tok.cons dJ5_ensureCapacityInternal_28 rfl (pb_Tok.cons dJ5_ensureCapacityInternal_31 rfl (pb_Tok.cons dJ5_ensureCapacityInternal_32 rfl (pb_Tok.cons dJ5_ensureCapacityInternal_35 rfl (pb_Tok.cons dJ5_ensureCapacityInternal_38 rfl pb_Tok.nil))))))))))))))))))))))
def tJ5_newCapacity : pb_T := [(0, .aload_n 0, 1, 0), (1, .getfield 15, 4, 0), (4, .arraylength, 5, 0), (5, .istore_n 2, 6, 0), (6, .iload_n 1, 7, 0), (7, .aload_n 0, 8, 0), (8, .getfield 22, 11, 0), (11, .ishl, 12, 0), (12, .istore_n 3, 13, 0), (13, .iload_n 3, 14, 0), (14, .iload_n 2, 15, 0), (15, .isub, 16, 0), (16, .istore 4, 18, 0), (18, .iload_n 2, 19, 0), (19, .iload 4, 21, 0), (21, .iload_n 2, 22, 0), (22, .iconst 2, 23, 0), (23, .aload_n 0, 24, 0), (24, .getfield 22, 27, 0), (27, .ishl, 28, 0), (28, .iadd, 29, 0), (29, .invokestatic 114, 32, 0), (32, .istore 5, 34, 0), (34, .iload 5, 36, 0), (36, .ldc 39, 38, 0), (38, .if_icmp .ne 13, 41, 51), (41, .new 120, 44, 0), (44, .dup, 45, 0), (45, .ldc 122, 47, 0), (47, .invokespecial 124, 50, 0), (50, .athrow, 51, 0), (51, .iload 5, 53, 0), (53, .aload_n 0, 54, 0), (54, .getfield 22, 57, 0), (57, .ishr, 58, 0), (58, .ireturn, 59, 0)]
theorem tJ5_newCapacity_ok : pb_Tok cJ5_newCapacity tJ5_newCapacity := pb_Tok.cons dJ5_newCapacity_0 rfl (pb_Tok.cons dJ5_newCapacity_1 rfl (pb_Tok.cons dJ5_newCapacity_4 rfl (pb_Tok.cons dJ5_newCapacity_5 rfl (pb_Tok.cons dJ5_newCapacity_6 rfl (pb_Tok.cons dJ5_newCapacity_7 rfl (pb_Tok.cons dJ5_newCapacity_8 rfl (pb_Tok.cons dJ5_newCapacity_11 rfl (pb_Tok.cons dJ5_newCapacity_12 rfl (pb_Tok.cons dJ5_newCapacity_13 rfl (pb_Tok.cons dJ5_newCapacity_14 rfl (pb_Tok.cons dJ5_newCapacity_15 rfl (pb_Tok.cons dJ5_newCapacity_16 rfl (pb_Tok.cons dJ5_newCapacity_18 rfl (pb_Tok.cons dJ5_newCapacity_19 rfl (pb_Tok.cons dJ5_newCapacity_21 rfl (pb_Tok.cons dJ5_newCapacity_22 rfl (pb_Tok.cons dJ5_newCapacity_23 rfl (pb_Tok.cons dJ5_newCapacity_24 rfl (pb_Tok.cons dJ5_newCapacity_27 rfl (pb_Tok.cons dJ5_newCapacity_28 rfl (pb_Tok.cons dJ5_newCapacity_29 rfl (pb_Tok.cons dJ5_newCapacity_32 rfl (pb_Tok.cons dJ5_newCapacity_34 rfl (pb_Tok.cons dJ5_newCapacity_36 rfl (pb_Tok.cons dJ5_newCapacity_38 rfl (pb_Tok.cons dJ5_newCapacity_41 rfl (pb_Tok.cons dJ5_newCapacity_44 rfl (pb_Tok.cons dJ5_newCapacity_45 rfl (pb_Tok.cons dJ5_newCapacity_47 rfl (pb_Tok.cons dJ5_newCapacity_50 rfl (pb_Tok.cons dJ5_newCapacity_51 rfl (pb_Tok.cons dJ5_newCapacity_53 rfl (pb_Tok.cons dJ5_newCapacity_54 rfl (pb_Tok.cons dJ5_newCapacity_57 rfl (pb_Tok.cons dJ5_newCapacity_58 rfl pb_Tok.nil)))))))))))))))))))))))))))))))))))
def tJ5_isLatin1 : pb_T := [(0, .getstatic 18, 3, 0), (3, .ifCond .eq 14, 6, 17), (6, .aload_n 0, 7, 0), (7, .getfield 22, 10, 0), (10, .ifCond .ne 7, 13, 17), (13, .iconst 1, 14, 0), (14, .goto 4, 17, 18), (17, .iconst 0, 18, 0), (18, .ireturn, 19, 0)]
theorem tJ5_isLatin1_ok : pb_Tok cJ5_isLatin1 tJ5_isLatin1 := pb_Tok.cons dJ5_isLatin1_0 rfl (pb_Tok.cons dJ5_isLatin1_3 rfl (pb_Tok.cons dJ5_isLatin1_6 rfl (pb_Tok.cons dJ5_isLatin1_7 rfl (pb_Tok.cons dJ5_isLatin1_10 rfl (pb_Tok.cons dJ5_isLatin1_13 rfl (pb_Tok.cons dJ5_isLatin1_14 rfl (pb_Tok.cons dJ5_isLatin1_17 rfl (pb_Tok.cons dJ5_isLatin1_18 rfl pb_Tok.nil))))))))
def tJ5_append_2 : pb_T := [(0, .aload_n 0, 1, 0), (1, .aload_n 0, 2, 0), (2, .getfield 79, 5, 0), (5, .iconst 1, 6, 0), (6, .iadd, 7, 0), (7, .invokevirtual 100, 10, 0), (10, .aload_n 0, 11, 0), (11, .invokevirtual 83, 14, 0), (14, .ifCond .eq 31, 17, 45), (17, .iload_n 1, 18, 0), (18, .invokestatic 191, 21, 0), (21, .ifCond .eq 24, 24, 45), (24, .aload_n 0, 25, 0), (25, .getfield 15, 28, 0), (28, .aload_n 0, 29, 0), (29, .dup, 30, 0), (30, .getfield 79, 33, 0), (33, .dup_x1, 34, 0), (34, .iconst 1, 35, 0), (35, .iadd, 36, 0), (36, .putfield 79, 39, 0), (39, .iload_n 1, 40, 0), (40, .i2b, 41, 0), (41, .bastore, 42, 0), (42, .goto 33, 45, 75), (45, .aload_n 0, 46, 0), (46, .invokevirtual 83, 49, 0), (49, .ifCond .eq 7, 52, 56), (52, .aload_n 0, 53, 0), (53, .invokevirtual 195, 56, 0), (56, .aload_n 0, 57, 0), (57, .getfield 15, 60, 0), (60, .aload_n 0, 61, 0), (61, .dup, 62, 0), (62, .getfield 79, 65, 0), (65, .dup_x1, 66, 0), (66, .iconst 1, 67, 0), (67, .iadd, 68, 0), (68, .putfield 79, 71, 0), (71, .iload_n 1, 72, 0), (72, .invokestatic 197, 75, 0), (75, .aload_n 0, 76, 0), (76, .areturn, 77, 0)]
theorem tJ5_append_2_ok : pb_Tok cJ5_append_2 tJ5_append_2 := pb_Tok.cons dJ5_append_2_0 rfl (pb_Tok.cons dJ5_append_2_1 rfl (pb_Tok.cons dJ5_append_2_2 rfl (pb_Tok.cons dJ5_append_2_5 rfl (pb_Tok.cons dJ5_append_2_6 rfl (pb_Tok.cons dJ5_append_2_7 rfl (pb_Tok.cons dJ5_append_2_10 rfl (pb_Tok.cons dJ5_append_2_11 rfl (pb_Tok.cons dJ5_append_2_14 rfl (pb_Tok.cons dJ5_append_2_17 rfl (pb_Tok.cons dJ5_append_2_18 rfl (pb_Tok.cons dJ5_append_2_21 rfl (pb_Tok.cons dJ5_append_2_24 rfl (pb_Tok.cons dJ5_append_2_25 rfl (pb_Tok.cons dJ5_append_2_28 rfl (pb_Tok.cons dJ5_append_2_29 rfl (pb_Tok.cons dJ5_append_2_30 rfl (pb_Tok.cons dJ5_append_2_33 rfl (pb_Tok.cons dJ5_append_2_34 rfl (pb_Tok.cons dJ5_append_2_35 rfl (pb_Tok.cons dJ5_append_2_36 rfl (pb_Tok.cons dJ5_append_2_39 rfl (pb_Tok.cons dJ5_append_2_40 rfl (pb_Tok.cons dJ5_append_2_41 rfl (pb_Tok.cons dJ5_append_2_42 rfl (pb_Tok.cons dJ5_append_2_45 rfl (pb_Tok.cons dJ5_append_2_46 rfl (pb_Tok.cons dJ5_append_2_49 rfl (pb_Tok.cons dJ5_append_2_52 rfl (pb_Tok.cons dJ5_append_2_53 rfl (pb_Tok.cons dJ5_append_2_56 rfl (pb_Tok.cons dJ5_append_2_57 rfl (pb_Tok.cons dJ5_append_2_60 rfl (pb_Tok.cons dJ5_append_2_61 rfl (pb_Tok.cons dJ5_append_2_62 rfl (pb_Tok.cons dJ5_append_2_65 rfl (pb_Tok.cons dJ5_append_2_66 rfl (pb_Tok.cons dJ5_append_2_67 rfl (pb_Tok.cons dJ5_append_2_68 rfl (pb_Tok.cons dJ5_append_2_71 rfl (pb_Tok.cons dJ5_append_2_72 rfl (pb_Tok.cons dJ5_append_2_75 rfl (pb_Tok.cons dJ5_append_2_76 rfl pb_Tok.nil))))))))))))))))))))))))))))))))))))))))))
def tJ5_inflate : pb_T := [(0, .aload_n 0, 1, 0), (1, .invokevirtual 83, 4, 0), (4, .ifCond .ne 4, 7, 8), (7, .return_, 8, 0), (8, .aload_n 0, 9, 0), (9, .getfield 15, 12, 0), (12, .arraylength, 13, 0), (13, .invokestatic 26, 16, 0), (16, .astore_n 1, 17, 0), (17, .aload_n 0, 18, 0), (18, .getfield 15, 21, 0), (21, .iconst 0, 22, 0), (22, .aload_n 1, 23, 0), (23, .iconst 0, 24, 0), (24, .aload_n 0, 25, 0), (25, .getfield 79, 28, 0), (28, .invokestatic 125, 31, 0), (31, .aload_n 0, 32, 0), (32, .aload_n 1, 33, 0), (33, .putfield 15, 36, 0), (36, .aload_n 0, 37, 0), (37, .iconst 1, 38, 0), (38, .putfield 22, 41, 0), (41, .return_, 42, 0)]
theorem tJ5_inflate_ok : pb_Tok cJ5_inflate tJ5_inflate := pb_Tok.cons dJ5_inflate_0 rfl (pb_Tok.cons dJ5_inflate_1 rfl (pb_Tok.cons dJ5_inflate_4 rfl (pb_Tok.cons dJ5_inflate_7 rfl (pb_Tok.cons dJ5_inflate_8 rfl (pb_Tok.cons dJ5_inflate_9 rfl (pb_Tok.cons dJ5_inflate_12 rfl (pb_Tok.cons dJ5_inflate_13 rfl (pb_Tok.cons dJ5_inflate_16 rfl (pb_Tok.cons dJ5_inflate_17 rfl (pb_Tok.cons dJ5_inflate_18 rfl (pb_Tok.cons dJ5_inflate_21 rfl (pb_Tok.cons dJ5_inflate_22 rfl (pb_Tok.cons dJ5_inflate_23 rfl (pb_Tok.cons dJ5_inflate_24 rfl (pb_Tok.cons dJ5_inflate_25 rfl (pb_Tok.cons dJ5_inflate_28 rfl (pb_Tok.cons dJ5_inflate_31 rfl (pb_Tok.cons dJ5_inflate_32 rfl (pb_Tok.cons dJ5_inflate_33 rfl (pb_Tok.cons dJ5_inflate_36 rfl (pb_Tok.cons dJ5_inflate_37 rfl (pb_Tok.cons dJ5_inflate_38 rfl (pb_Tok.cons dJ5_inflate_41 rfl pb_Tok.nil)))))))))))))))))))))))
def tJ5_append_3 : pb_T := [(0, .aload_n 1, 1, 0), (1, .ifnonnull 8, 4, 9), (4, .aload_n 0, 5, 0), (5, .invokevirtual 204, 8, 0), (8, .areturn, 9, 0), (9, .aload_n 1, 10, 0), (10, .invokevirtual 32, 13, 0), (13, .istore_n 2, 14, 0), (14, .aload_n 0, 15, 0), (15, .aload_n 0, 16, 0), (16, .getfield 79, 19, 0), (19, .iload_n 2, 20, 0), (20, .iadd, 21, 0), (21, .invokevirtual 100, 24, 0), (24, .aload_n 0, 25, 0), (25, .aload_n 0, 26, 0), (26, .getfield 79, 29, 0), (29, .aload_n 1, 30, 0), (30, .invokevirtual 208, 33, 0), (33, .aload_n 0, 34, 0), (34, .dup, 35, 0), (35, .getfield 79, 38, 0), (38, .iload_n 2, 39, 0), (39, .iadd, 40, 0), (40, .putfield 79, 43, 0), (43, .aload_n 0, 44, 0), (44, .areturn, 45, 0)]
theorem tJ5_append_3_ok : pb_Tok cJ5_append_3 tJ5_append_3 := pb_Tok.cons dJ5_append_3_0 rfl (pb_Tok.cons dJ5_append_3_1 rfl (pb_Tok.cons dJ5_append_3_4 rfl (pb_Tok.cons dJ5_append_3_5 rfl (pb_Tok.cons dJ5_append_3_8 rfl (pb_Tok.cons dJ5_append_3_9 rfl (pb_Tok.cons dJ5_append_3_10 rfl (pb_Tok.cons dJ5_append_3_13 rfl (pb_Tok.cons dJ5_append_3_14 rfl (pb_Tok.cons dJ5_append_3_15 rfl (pb_Tok.cons dJ5_append_3_16 rfl (pb_Tok.cons dJ5_append_3_19 rfl (pb_Tok.cons dJ5_append_3_20 rfl (pb_Tok.cons dJ5_append_3_21 rfl (pb_Tok.cons dJ5_append_3_24 rfl (pb_Tok.cons dJ5_append_3_25 rfl (pb_Tok.cons dJ5_append_3_26 rfl (pb_Tok.cons dJ5_append_3_29 rfl (pb_Tok.cons dJ5_append_3_30 rfl (pb_Tok.cons dJ5_append_3_33 rfl (pb_Tok.cons dJ5_append_3_34 rfl (pb_Tok.cons dJ5_append_3_35 rfl (pb_Tok.cons dJ5_append_3_38 rfl (pb_Tok.cons dJ5_append_3_39 rfl (pb_Tok.cons dJ5_append_3_40 rfl (pb_Tok.cons dJ5_append_3_43 rfl (pb_Tok.cons dJ5_append_3_44 rfl pb_Tok.nil))))))))))))))))))))))))))
def tJ5_appendNull : pb_T := [(0, .aload_n 0, 1, 0), (1, .aload_n 0, 2, 0), (2, .getfield 79, 5, 0), (5, .iconst 4, 6, 0), (6, .iadd, 7, 0), (7, .invokevirtual 100, 10, 0), (10, .aload_n 0, 11, 0), (11, .getfield 79, 14, 0), (14, .istore_n 1, 15, 0), (15, .aload_n 0, 16, 0), (16, .getfield 15, 19, 0), (19, .astore_n 2, 20, 0), (20, .aload_n 0, 21, 0), (21, .invokevirtual 83, 24, 0), (24, .ifCond .eq 38, 27, 62), (27, .aload_n 2, 28, 0), (28, .iload_n 1, 29, 0), (29, .iinc 1 1, 32, 0), (32, .bipush 110, 34, 0), (34, .bastore, 35, 0), (35, .aload_n 2, 36, 0), (36, .iload_n 1, 37, 0), (37, .iinc 1 1, 40, 0), (40, .bipush 117, 42, 0), (42, .bastore, 43, 0), (43, .aload_n 2, 44, 0), (44, .iload_n 1, 45, 0), (45, .iinc 1 1, 48, 0), (48, .bipush 108, 50, 0), (50, .bastore, 51, 0), (51, .aload_n 2, 52, 0), (52, .iload_n 1, 53, 0), (53, .iinc 1 1, 56, 0), (56, .bipush 108, 58, 0), (58, .bastore, 59, 0), (59, .goto 17, 62, 76), (62, .aload_n 2, 63, 0), (63, .iload_n 1, 64, 0), (64, .bipush 110, 66, 0), (66, .bipush 117, 68, 0), (68, .bipush 108, 70, 0), (70, .bipush 108, 72, 0), (72, .invokestatic 226, 75, 0), (75, .istore_n 1, 76, 0), (76, .aload_n 0, 77, 0), (77, .iload_n 1, 78, 0), (78, .putfield 79, 81, 0), (81, .aload_n 0, 82, 0), (82, .areturn, 83, 0)]
theorem tJ5_appendNull_ok : pb_Tok cJ5_appendNull tJ5_appendNull := pb_Tok.cons dJ5_appendNull_0 rfl (pb_Tok.cons dJ5_appendNull_1 rfl (pb_Tok.cons dJ5_appendNull_2 rfl (pb_Tok.cons dJ5_appendNull_5 rfl (pb_Tok.cons dJ5_appendNull_6 rfl (pb_Tok.cons dJ5_appendNull_7 rfl (pb_Tok.cons dJ5_appendNull_10 rfl (pb_Tok.cons dJ5_appendNull_11 rfl (pb_Tok.cons dJ5_appendNull_14 rfl (pb_Tok.cons dJ5_appendNull_15 rfl (pb_Tok.cons dJ5_appendNull_16 rfl (pb_Tok.cons dJ5_appendNull_19 rfl (pb_Tok.cons dJ5_appendNull_20 rfl (pb_Tok.cons dJ5_appendNull_21 rfl (pb_Tok.cons dJ5_appendNull_24 rfl (pb_Tok.cons dJ5_appendNull_27 rfl (pb_Tok.cons dJ5_appendNull_28 rfl (pb_Tok.cons dJ5_appendNull_29 rfl (pb_Tok.cons dJ5_appendNull_32 rfl (pb_Tok.cons dJ5_appendNull_34 rfl (pb_Tok.cons dJ5_appendNull_35 rfl (pb_Tok.cons dJ5_appendNull_36 rfl (pb_Tok.cons dJ5_appendNull_37 rfl (pb_Tok.cons dJ5_appendNull_40 rfl (pb_Tok.cons dJ5_appendNull_42 rfl (pb_Tok.cons dJ5_appendNull_43 rfl (pb_Tok.cons dJ5_appendNull_44 rfl (pb_Tok.cons dJ5_appendNull_45 rfl (pb_Tok.cons dJ5_appendNull_48 rfl (pb_Tok.cons dJ5_appendNull_50 rfl (pb_Tok.cons dJ5_appendNull_51 rfl (pb_Tok.cons dJ5_appendNull_52 rfl (pb_Tok.cons dJ5_appendNull_53 rfl (pb_Tok.cons dJ5_appendNull_56 rfl (pb_Tok.cons dJ5_appendNull_58 rfl (pb_Tok.cons dJ5_appendNull_59 rfl (pb_Tok.cons dJ5_appendNull_62 rfl (pb_Tok.cons dJ5_appendNull_63 rfl (pb_Tok.cons dJ5_appendNull_64 rfl (pb_Tok.cons dJ5_appendNull_66 rfl (pb_Tok.cons dJ5_appendNull_68 rfl (pb_Tok.cons dJ5_appendNull_70 rfl (pb_Tok.cons dJ5_appendNull_72 rfl (pb_Tok.cons dJ5_appendNull_75 rfl (pb_Tok.cons dJ5_appendNull_76 rfl (pb_Tok.cons dJ5_appendNull_77 rfl (pb_Tok.cons dJ5_appendNull_78 rfl (pb_Tok.cons dJ5_appendNull_81 rfl (pb_Tok.cons dJ5_appendNull_82 rfl pb_Tok.nil))))))))))))))))))))))))))))))))))))))))))))))))
def tJ5_putStringAt : pb_T := [(0, .aload_n 0, 1, 0), (1, .aload_n 2, 2, 0), (2, .invokevirtual 397, 5, 0), (5, .aload_n 2, 6, 0), (6, .aload_n 0, 7, 0), (7, .getfield 15, 10, 0), (10, .iload_n 1, 11, 0), (11, .aload_n 0, 12, 0), (12, .getfield 22, 15, 0), (15, .invokevirtual 399, 18, 0), (18, .return_, 19, 0)]
theorem tJ5_putStringAt_ok : pb_Tok cJ5_putStringAt tJ5_putStringAt := pb_Tok.cons dJ5_putStringAt_0 rfl (pb_Tok.cons dJ5_putStringAt_1 rfl (pb_Tok.cons dJ5_putStringAt_2 rfl (pb_Tok.cons dJ5_putStringAt_5 rfl (pb_Tok.cons dJ5_putStringAt_6 rfl (pb_Tok.cons dJ5_putStringAt_7 rfl (pb_Tok.cons dJ5_putStringAt_10 rfl (pb_Tok.cons dJ5_putStringAt_11 rfl (pb_Tok.cons dJ5_putStringAt_12 rfl (pb_Tok.cons dJ5_putStringAt_15 rfl (pb_Tok.cons dJ5_putStringAt_18 rfl pb_Tok.nil))))))))))
def tJ5_inflateIfNeededFor : pb_T := [(0, .getstatic 18, 3, 0), (3, .ifCond .eq 18, 6, 21), (6, .aload_n 0, 7, 0), (7, .getfield 22, 10, 0), (10, .aload_n 1, 11, 0), (11, .invokevirtual 40, 14, 0), (14, .if_icmp .eq 7, 17, 21), (17, .aload_n 0, 18, 0), (18, .invokevirtual 195, 21, 0), (21, .return_, 22, 0)]
theorem tJ5_inflateIfNeededFor_ok : pb_Tok cJ5_inflateIfNeededFor tJ5_inflateIfNeededFor := pb_Tok.cons dJ5_inflateIfNeededFor_0 rfl (pb_Tok.cons dJ5_inflateIfNeededFor_3 rfl (pb_Tok.cons dJ5_inflateIfNeededFor_6 rfl (pb_Tok.cons dJ5_inflateIfNeededFor_7 rfl (pb_Tok.cons dJ5_inflateIfNeededFor_10 rfl (pb_Tok.cons dJ5_inflateIfNeededFor_11 rfl (pb_Tok.cons dJ5_inflateIfNeededFor_14 rfl (pb_Tok.cons dJ5_inflateIfNeededFor_17 rfl (pb_Tok.cons dJ5_inflateIfNeededFor_18 rfl (pb_Tok.cons dJ5_inflateIfNeededFor_21 rfl pb_Tok.nil)))))))))
def tJ5_getValue : pb_T := [(0, .aload_n 0, 1, 0), (1, .getfield 15, 4, 0), (4, .areturn, 5, 0)]
theorem tJ5_getValue_ok : pb_Tok cJ5_getValue tJ5_getValue := pb_Tok.cons dJ5_getValue_0 rfl (pb_Tok.cons dJ5_getValue_1 rfl (pb_Tok.cons dJ5_getValue_4 rfl pb_Tok.nil))
def tJ5_length : pb_T := [(0, .aload_n 0, 1, 0), (1, .getfield 79, 4, 0), (4, .ireturn, 5, 0)]
theorem tJ5_length_ok : pb_Tok cJ5_length tJ5_length := pb_Tok.cons dJ5_length_0 rfl (pb_Tok.cons dJ5_length_1 rfl (pb_Tok.cons dJ5_length_4 rfl pb_Tok.nil))
def tJ5_setLength : pb_T := [(0, .iload_n 1, 1, 0), (1, .ifCond .ge 12, 4, 13), (4, .new 129, 7, 0), (7, .dup, 8, 0), (8, .iload_n 1, 9, 0), (9, .invokespecial 131, 12, 0), (12, .athrow, 13, 0), (13, .aload_n 0, 14, 0), (14, .iload_n 1, 15, 0), (15, .invokevirtual 100, 18, 0), (18, .aload_n 0, 19, 0), (19, .getfield 79, 22, 0), (22, .iload_n 1, 23, 0), (23, .if_icmp .ge 40, 26, 63), (26, .aload_n 0, 27, 0), (27, .invokevirtual 83, 30, 0), (30, .ifCond .eq 18, 33, 48), (33, .aload_n 0, 34, 0), (34, .getfield 15, 37, 0), (37, .aload_n 0, 38, 0), (38, .getfield 79, 41, 0), (41, .iload_n 1, 42, 0), (42, .invokestatic 133, 45, 0), (45, .goto 31, 48, 76), (48, .aload_n 0, 49, 0), (49, .getfield 15, 52, 0), (52, .aload_n 0, 53, 0), (53, .getfield 79, 56, 0), (56, .iload_n 1, 57, 0), (57, .invokestatic 137, 60, 0), (60, .goto 16, 63, 76), (63, .aload_n 0, 64, 0), (64, .getfield 79, 67, 0), (67, .iload_n 1, 68, 0), (68, .if_icmp .le 8, 71, 76), (71, .aload_n 0, 72, 0), (72, .iconst 1, 73, 0), (73, .putfield 73, 76, 0), (76, .aload_n 0, 77, 0), (77, .iload_n 1, 78, 0), (78, .putfield 79, 81, 0), (81, .return_, 82, 0)]
theorem tJ5_setLength_ok : pb_Tok cJ5_setLength tJ5_setLength := pb_Tok.cons dJ5_setLength_0 rfl (pb_Tok.cons dJ5_setLength_1 rfl (pb_Tok.cons dJ5_setLength_4 rfl (pb_Tok.cons dJ5_setLength_7 rfl (pb_Tok.cons dJ5_setLength_8 rfl (pb_Tok.cons dJ5_setLength_9 rfl (pb_Tok.cons dJ5_setLength_12 rfl (pb_Tok.cons dJ5_setLength_13 rfl (pb_Tok.cons dJ5_setLength_14 rfl (pb_Tok.cons dJ5_setLength_15 rfl (pb_Tok.cons dJ5_setLength_18 rfl (pb_Tok.cons dJ5_setLength_19 rfl (pb_Tok.cons dJ5_setLength_22 rfl (pb_Tok.cons dJ5_setLength_23 rfl (pb_Tok.cons dJ5_setLength_26 rfl (pb_Tok.cons dJ5_setLength_27 rfl (pb_Tok.cons dJ5_setLength_30 rfl (pb_Tok.cons dJ5_setLength_33 rfl (pb_Tok.cons dJ5_setLength_34 rfl (pb_Tok.cons dJ5_setLength_37 rfl (pb_Tok.cons dJ5_setLength_38 rfl (pb_Tok.cons dJ5_setLength_41 rfl (pb_Tok.cons dJ5_setLength_42 rfl (pb_Tok.cons dJ5_setLength_45 rfl (pb_Tok.cons dJ5_setLength_48 rfl (pb_Tok.cons dJ5_setLength_49 rfl (pb_Tok.cons dJ5_setLength_52 rfl (pb_Tok.cons dJ5_setLength_53 rfl (pb_Tok.cons dJ5_setLength_56 rfl (pb_Tok.cons dJ5_setLength_57 rfl (pb_Tok.cons dJ5_setLength_60 rfl (pb_Tok.cons dJ5_setLength_63 rfl (pb_Tok.cons dJ5_setLength_64 rfl (pb_Tok.cons dJ5_setLength_67 rfl (pb_Tok.cons dJ5_setLength_68 rfl (pb_Tok.cons dJ5_setLength_71 rfl (pb_Tok.cons dJ5_setLength_72 rfl (pb_Tok.cons dJ5_setLength_73 rfl (pb_Tok.cons dJ5_setLength_76 rfl (pb_Tok.cons dJ5_setLength_77 rfl (pb_Tok.cons dJ5_setLength_78 rfl (pb_Tok.cons dJ5_setLength_81 rfl pb_Tok.nil)))))))))))))))))))))))))))))))))))))))))
def dkwJ6_init_0 : List UInt8 := [42, 16, 16, 183, 0, 1, 177]
abbrev dktJ6_init_0 : List UInt8 := dkwJ6_init_0 ++ []
theorem dksJ6_init_0 : cJ6_init.data.toList.drop 0 = dktJ6_init_0 := by decide +kernel
theorem dJ6_init_0 : decode cJ6_init 0 = .ok (.aload_n 0, 1) := dk_42 (dk_at dksJ6_init_0 0 rfl rfl)
theorem dJ6_init_1 : decode cJ6_init 1 = .ok (.bipush 16, 2) := dk_16 16 (dk_at dksJ6_init_0 1 rfl rfl)
theorem dJ6_init_3 : decode cJ6_init 3 = .ok (.invokespecial 1, 3) := dk_183 0 1 (dk_at dksJ6_init_0 3 rfl rfl)
theorem dJ6_init_6 : decode cJ6_init 6 = .ok (.return_, 1) := dk_177 (dk_at dksJ6_init_0 6 rfl rfl)
def dkwJ6_append_0 : List UInt8 := [42, 27, 183, 0, 53, 87, 42, 176]
abbrev dktJ6_append_0 : List UInt8 := dkwJ6_append_0 ++ []
theorem dksJ6_append_0 : cJ6_append.data.toList.drop 0 = dktJ6_append_0 := by decide +kernel
theorem dJ6_append_0 : decode cJ6_append 0 = .ok (.aload_n 0, 1) := dk_42 (dk_at dksJ6_append_0 0 rfl rfl)
theorem dJ6_append_1 : decode cJ6_append 1 = .ok (.iload_n 1, 1) := dk_27 (dk_at dksJ6_append_0 1 rfl rfl)
theorem dJ6_append_2 : decode cJ6_append 2 = .ok (.invokespecial 53, 3) := dk_183 0 53 (dk_at dksJ6_append_0 2 rfl rfl)
theorem dJ6_append_5 : decode cJ6_append 5 = .ok (.pop, 1) := dk_87 (dk_at dksJ6_append_0 5 rfl rfl)
theorem dJ6_append_6 : decode cJ6_append 6 = .ok (.aload_n 0, 1) := dk_42 (dk_at dksJ6_append_0 6 rfl rfl)
theorem dJ6_append_7 : decode cJ6_append 7 = .ok (.areturn, 1) := dk_176 (dk_at dksJ6_append_0 7 rfl rfl)
def dkwJ6_append_2_0 : List UInt8 := [42, 27, 183, 0, 50, 87, 42, 176]
abbrev dktJ6_append_2_0 : List UInt8 := dkwJ6_append_2_0 ++ []
theorem dksJ6_append_2_0 : cJ6_append_2.data.toList.drop 0 = dktJ6_append_2_0 := by decide +kernel
theorem dJ6_append_2_0 : decode cJ6_append_2 0 = .ok (.aload_n 0, 1) := dk_42 (dk_at dksJ6_append_2_0 0 rfl rfl)
theorem dJ6_append_2_1 : decode cJ6_append_2 1 = .ok (.iload_n 1, 1) := dk_27 (dk_at dksJ6_append_2_0 1 rfl rfl)
theorem dJ6_append_2_2 : decode cJ6_append_2 2 = .ok (.invokespecial 50, 3) := dk_183 0 50 (dk_at dksJ6_append_2_0 2 rfl rfl)
theorem dJ6_append_2_5 : decode cJ6_append_2 5 = .ok (.pop, 1) := dk_87 (dk_at dksJ6_append_2_0 5 rfl rfl)
theorem dJ6_append_2_6 : decode cJ6_append_2 6 = .ok (.aload_n 0, 1) := dk_42 (dk_at dksJ6_append_2_0 6 rfl rfl)
theorem dJ6_append_2_7 : decode cJ6_append_2 7 = .ok (.areturn, 1) := dk_176 (dk_at dksJ6_append_2_0 7 rfl rfl)
def dkwJ6_append_3_0 : List UInt8 := [42, 43, 183, 0, 29, 87, 42, 176]
abbrev dktJ6_append_3_0 : List UInt8 := dkwJ6_append_3_0 ++ []
theorem dksJ6_append_3_0 : cJ6_append_3.data.toList.drop 0 = dktJ6_append_3_0 := by decide +kernel
theorem dJ6_append_3_0 : decode cJ6_append_3 0 = .ok (.aload_n 0, 1) := dk_42 (dk_at dksJ6_append_3_0 0 rfl rfl)
theorem dJ6_append_3_1 : decode cJ6_append_3 1 = .ok (.aload_n 1, 1) := dk_43 (dk_at dksJ6_append_3_0 1 rfl rfl)
theorem dJ6_append_3_2 : decode cJ6_append_3 2 = .ok (.invokespecial 29, 3) := dk_183 0 29 (dk_at dksJ6_append_3_0 2 rfl rfl)
theorem dJ6_append_3_5 : decode cJ6_append_3 5 = .ok (.pop, 1) := dk_87 (dk_at dksJ6_append_3_0 5 rfl rfl)
theorem dJ6_append_3_6 : decode cJ6_append_3 6 = .ok (.aload_n 0, 1) := dk_42 (dk_at dksJ6_append_3_0 6 rfl rfl)
theorem dJ6_append_3_7 : decode cJ6_append_3 7 = .ok (.areturn, 1) := dk_176 (dk_at dksJ6_append_3_0 7 rfl rfl)
def dkwJ6_toString_0 : List UInt8 := [187, 0, 18, 89, 42, 183, 0, 137, 176]
abbrev dktJ6_toString_0 : List UInt8 := dkwJ6_toString_0 ++ []
theorem dksJ6_toString_0 : cJ6_toString.data.toList.drop 0 = dktJ6_toString_0 := by decide +kernel
theorem dJ6_toString_0 : decode cJ6_toString 0 = .ok (.new 18, 3) := dk_187 0 18 (dk_at dksJ6_toString_0 0 rfl rfl)
theorem dJ6_toString_3 : decode cJ6_toString 3 = .ok (.dup, 1) := dk_89 (dk_at dksJ6_toString_0 3 rfl rfl)
theorem dJ6_toString_4 : decode cJ6_toString 4 = .ok (.aload_n 0, 1) := dk_42 (dk_at dksJ6_toString_0 4 rfl rfl)
theorem dJ6_toString_5 : decode cJ6_toString 5 = .ok (.invokespecial 137, 3) := dk_183 0 137 (dk_at dksJ6_toString_0 5 rfl rfl)
theorem dJ6_toString_8 : decode cJ6_toString 8 = .ok (.areturn, 1) := dk_176 (dk_at dksJ6_toString_0 8 rfl rfl)
theorem dJ6_length_0 : decode cJ6_length 0 = .ok (.aload_n 0, 1) := by decide +kernel
theorem dJ6_length_1 : decode cJ6_length 1 = .ok (.invokespecial 343, 3) := by decide +kernel
theorem dJ6_length_4 : decode cJ6_length 4 = .ok (.ireturn, 1) := by decide +kernel
def dkwJ6_setLength_0 : List UInt8 := [42, 27, 183, 1, 77, 177]
abbrev dktJ6_setLength_0 : List UInt8 := dkwJ6_setLength_0 ++ []
theorem dksJ6_setLength_0 : cJ6_setLength.data.toList.drop 0 = dktJ6_setLength_0 := by decide +kernel
theorem dJ6_setLength_0 : decode cJ6_setLength 0 = .ok (.aload_n 0, 1) := dk_42 (dk_at dksJ6_setLength_0 0 rfl rfl)
theorem dJ6_setLength_1 : decode cJ6_setLength 1 = .ok (.iload_n 1, 1) := dk_27 (dk_at dksJ6_setLength_0 1 rfl rfl)
theorem dJ6_setLength_2 : decode cJ6_setLength 2 = .ok (.invokespecial 333, 3) := dk_183 1 77 (dk_at dksJ6_setLength_0 2 rfl rfl)
theorem dJ6_setLength_5 : decode cJ6_setLength 5 = .ok (.return_, 1) := dk_177 (dk_at dksJ6_setLength_0 5 rfl rfl)
def tJ6_init : pb_T := [(0, .aload_n 0, 1, 0), (1, .bipush 16, 3, 0), (3, .invokespecial 1, 6, 0), (6, .return_, 7, 0)]
theorem tJ6_init_ok : pb_Tok cJ6_init tJ6_init := pb_Tok.cons dJ6_init_0 rfl (pb_Tok.cons dJ6_init_1 rfl (pb_Tok.cons dJ6_init_3 rfl (pb_Tok.cons dJ6_init_6 rfl pb_Tok.nil)))
def tJ6_append : pb_T := [(0, .aload_n 0, 1, 0), (1, .iload_n 1, 2, 0), (2, .invokespecial 53, 5, 0), (5, .pop, 6, 0), (6, .aload_n 0, 7, 0), (7, .areturn, 8, 0)]
theorem tJ6_append_ok : pb_Tok cJ6_append tJ6_append := pb_Tok.cons dJ6_append_0 rfl (pb_Tok.cons dJ6_append_1 rfl (pb_Tok.cons dJ6_append_2 rfl (pb_Tok.cons dJ6_append_5 rfl (pb_Tok.cons dJ6_append_6 rfl (pb_Tok.cons dJ6_append_7 rfl pb_Tok.nil)))))
def tJ6_append_2 : pb_T := [(0, .aload_n 0, 1, 0), (1, .iload_n 1, 2, 0), (2, .invokespecial 50, 5, 0), (5, .pop, 6, 0), (6, .aload_n 0, 7, 0), (7, .areturn, 8, 0)]
theorem tJ6_append_2_ok : pb_Tok cJ6_append_2 tJ6_append_2 := pb_Tok.cons dJ6_append_2_0 rfl (pb_Tok.cons dJ6_append_2_1 rfl (pb_Tok.cons dJ6_append_2_2 rfl (pb_Tok.cons dJ6_append_2_5 rfl (pb_Tok.cons dJ6_append_2_6 rfl (pb_Tok.cons dJ6_append_2_7 rfl pb_Tok.nil)))))
def tJ6_append_3 : pb_T := [(0, .aload_n 0, 1, 0), (1, .aload_n 1, 2, 0), (2, .invokespecial 29, 5, 0), (5, .pop, 6, 0), (6, .aload_n 0, 7, 0), (7, .areturn, 8, 0)]
theorem tJ6_append_3_ok : pb_Tok cJ6_append_3 tJ6_append_3 := pb_Tok.cons dJ6_append_3_0 rfl (pb_Tok.cons dJ6_append_3_1 rfl (pb_Tok.cons dJ6_append_3_2 rfl (pb_Tok.cons dJ6_append_3_5 rfl (pb_Tok.cons dJ6_append_3_6 rfl (pb_Tok.cons dJ6_append_3_7 rfl pb_Tok.nil)))))
def tJ6_toString : pb_T := [(0, .new 18, 3, 0), (3, .dup, 4, 0), (4, .aload_n 0, 5, 0), (5, .invokespecial 137, 8, 0), (8, .areturn, 9, 0)]
theorem tJ6_toString_ok : pb_Tok cJ6_toString tJ6_toString := pb_Tok.cons dJ6_toString_0 rfl (pb_Tok.cons dJ6_toString_3 rfl (pb_Tok.cons dJ6_toString_4 rfl (pb_Tok.cons dJ6_toString_5 rfl (pb_Tok.cons dJ6_toString_8 rfl pb_Tok.nil))))
def tJ6_length : pb_T := [(0, .aload_n 0, 1, 0), (1, .invokespecial 343, 4, 0), (4, .ireturn, 5, 0)]
theorem tJ6_length_ok : pb_Tok cJ6_length tJ6_length := pb_Tok.cons dJ6_length_0 rfl (pb_Tok.cons dJ6_length_1 rfl (pb_Tok.cons dJ6_length_4 rfl pb_Tok.nil))
def tJ6_setLength : pb_T := [(0, .aload_n 0, 1, 0), (1, .iload_n 1, 2, 0), (2, .invokespecial 333, 5, 0), (5, .return_, 6, 0)]
theorem tJ6_setLength_ok : pb_Tok cJ6_setLength tJ6_setLength := pb_Tok.cons dJ6_setLength_0 rfl (pb_Tok.cons dJ6_setLength_1 rfl (pb_Tok.cons dJ6_setLength_2 rfl (pb_Tok.cons dJ6_setLength_5 rfl pb_Tok.nil)))
def dkwJ7_equals_2 : List UInt8 := [184, 2, 29, 153, 0, 7, 4, 167, 0, 4, 3, 172]
abbrev dktJ7_equals_2 : List UInt8 := dkwJ7_equals_2 ++ []
def dkwJ7_equals_1 : List UInt8 := [153, 0, 14, 42, 180, 0, 15, 44, 180, 0, 15, 160, 0, 21, 42, 180, 0, 9, 44, 180, 0, 9]
abbrev dktJ7_equals_1 : List UInt8 := dkwJ7_equals_1 ++ dktJ7_equals_2
def dkwJ7_equals_0 : List UInt8 := [42, 43, 166, 0, 5, 4, 172, 43, 193, 0, 10, 153, 0, 43, 43, 192, 0, 10, 77, 178, 0, 38]
abbrev dktJ7_equals_0 : List UInt8 := dkwJ7_equals_0 ++ dktJ7_equals_1
theorem dksJ7_equals_0 : cJ7_equals.data.toList.drop 0 = dktJ7_equals_0 := by decide +kernel
theorem dksJ7_equals_1 : cJ7_equals.data.toList.drop 22 = dktJ7_equals_1 := dk_seg dksJ7_equals_0 22 rfl rfl
theorem dksJ7_equals_2 : cJ7_equals.data.toList.drop 44 = dktJ7_equals_2 := dk_seg dksJ7_equals_1 22 rfl rfl
theorem dJ7_equals_0 : decode cJ7_equals 0 = .ok (.aload_n 0, 1) := dk_42 (dk_at dksJ7_equals_0 0 rfl rfl)
theorem dJ7_equals_1 : decode cJ7_equals 1 = .ok (.aload_n 1, 1) := dk_43 (dk_at dksJ7_equals_0 1 rfl rfl)
theorem dJ7_equals_2 : decode cJ7_equals 2 = .ok (.if_acmp .ne 5, 3) := dk_166 0 5 (dk_at dksJ7_equals_0 2 rfl rfl)
theorem dJ7_equals_5 : decode cJ7_equals 5 = .ok (.iconst 1, 1) := dk_4 (dk_at dksJ7_equals_0 5 rfl rfl)
theorem dJ7_equals_6 : decode cJ7_equals 6 = .ok (.ireturn, 1) := dk_172 (dk_at dksJ7_equals_0 6 rfl rfl)
theorem dJ7_equals_7 : decode cJ7_equals 7 = .ok (.aload_n 1, 1) := dk_43 (dk_at dksJ7_equals_0 7 rfl rfl)
theorem dJ7_equals_8 : decode cJ7_equals 8 = .ok (.instanceof 10, 3) := dk_193 0 10 (dk_at dksJ7_equals_0 8 rfl rfl)
theorem dJ7_equals_11 : decode cJ7_equals 11 = .ok (.ifCond .eq 43, 3) := dk_153 0 43 (dk_at dksJ7_equals_0 11 rfl rfl)
theorem dJ7_equals_14 : decode cJ7_equals 14 = .ok (.aload_n 1, 1) := dk_43 (dk_at dksJ7_equals_0 14 rfl rfl)
theorem dJ7_equals_15 : decode cJ7_equals 15 = .ok (.checkcast 10, 3) := dk_192 0 10 (dk_at dksJ7_equals_0 15 rfl rfl)
theorem dJ7_equals_18 : decode cJ7_equals 18 = .ok (.astore_n 2, 1) := dk_77 (dk_at dksJ7_equals_0 18 rfl rfl)
theorem dJ7_equals_19 : decode cJ7_equals 19 = .ok (.getstatic 38, 3) := dk_178 0 38 (dk_at dksJ7_equals_0 19 rfl rfl)
theorem dJ7_equals_22 : decode cJ7_equals 22 = .ok (.ifCond .eq 14, 3) := dk_153 0 14 (dk_at dksJ7_equals_1 0 rfl rfl)
theorem dJ7_equals_25 : decode cJ7_equals 25 = .ok (.aload_n 0, 1) := dk_42 (dk_at dksJ7_equals_1 3 rfl rfl)
theorem dJ7_equals_26 : decode cJ7_equals 26 = .ok (.getfield 15, 3) := dk_180 0 15 (dk_at dksJ7_equals_1 4 rfl rfl)
theorem dJ7_equals_29 : decode cJ7_equals 29 = .ok (.aload_n 2, 1) := dk_44 (dk_at dksJ7_equals_1 7 rfl rfl)
theorem dJ7_equals_30 : decode cJ7_equals 30 = .ok (.getfield 15, 3) := dk_180 0 15 (dk_at dksJ7_equals_1 8 rfl rfl)
theorem dJ7_equals_33 : decode cJ7_equals 33 = .ok (.if_icmp .ne 21, 3) := dk_160 0 21 (dk_at dksJ7_equals_1 11 rfl rfl)
theorem dJ7_equals_36 : decode cJ7_equals 36 = .ok (.aload_n 0, 1) := dk_42 (dk_at dksJ7_equals_1 14 rfl rfl)
theorem dJ7_equals_37 : decode cJ7_equals 37 = .ok (.getfield 9, 3) := dk_180 0 9 (dk_at dksJ7_equals_1 15 rfl rfl)
theorem dJ7_equals_40 : decode cJ7_equals 40 = .ok (.aload_n 2, 1) := dk_44 (dk_at dksJ7_equals_1 18 rfl rfl)
theorem dJ7_equals_41 : decode cJ7_equals 41 = .ok (.getfield 9, 3) := dk_180 0 9 (dk_at dksJ7_equals_1 19 rfl rfl)
theorem dJ7_equals_44 : decode cJ7_equals 44 = .ok (.invokestatic 541, 3) := dk_184 2 29 (dk_at dksJ7_equals_2 0 rfl rfl)
theorem dJ7_equals_47 : decode cJ7_equals 47 = .ok (.ifCond .eq 7, 3) := dk_153 0 7 (dk_at dksJ7_equals_2 3 rfl rfl)
theorem dJ7_equals_50 : decode cJ7_equals 50 = .ok (.iconst 1, 1) := dk_4 (dk_at dksJ7_equals_2 6 rfl rfl)
theorem dJ7_equals_51 : decode cJ7_equals 51 = .ok (.goto 4, 3) := dk_167 0 4 (dk_at dksJ7_equals_2 7 rfl rfl)
theorem dJ7_equals_54 : decode cJ7_equals 54 = .ok (.iconst 0, 1) := dk_3 (dk_at dksJ7_equals_2 10 rfl rfl)
theorem dJ7_equals_55 : decode cJ7_equals 55 = .ok (.ireturn, 1) := dk_172 (dk_at dksJ7_equals_2 11 rfl rfl)
def dkwJ7_checkBoundsBeginEnd_0 : List UInt8 := [26, 27, 28, 178, 4, 29, 184, 4, 38, 87, 177]
abbrev dktJ7_checkBoundsBeginEnd_0 : List UInt8 := dkwJ7_checkBoundsBeginEnd_0 ++ []
theorem dksJ7_checkBoundsBeginEnd_0 : cJ7_checkBoundsBeginEnd.data.toList.drop 0 = dktJ7_checkBoundsBeginEnd_0 := by decide +kernel
theorem dJ7_checkBoundsBeginEnd_0 : decode cJ7_checkBoundsBeginEnd 0 = .ok (.iload_n 0, 1) := dk_26 (dk_at dksJ7_checkBoundsBeginEnd_0 0 rfl rfl)
theorem dJ7_checkBoundsBeginEnd_1 : decode cJ7_checkBoundsBeginEnd 1 = .ok (.iload_n 1, 1) := dk_27 (dk_at dksJ7_checkBoundsBeginEnd_0 1 rfl rfl)
theorem dJ7_checkBoundsBeginEnd_2 : decode cJ7_checkBoundsBeginEnd 2 = .ok (.iload_n 2, 1) := dk_28 (dk_at dksJ7_checkBoundsBeginEnd_0 2 rfl rfl)
theorem dJ7_checkBoundsBeginEnd_3 : decode cJ7_checkBoundsBeginEnd 3 = .ok (.getstatic 1053, 3) := dk_178 4 29 (dk_at dksJ7_checkBoundsBeginEnd_0 3 rfl rfl)
theorem dJ7_checkBoundsBeginEnd_6 : decode cJ7_checkBoundsBeginEnd 6 = .ok (.invokestatic 1062, 3) := dk_184 4 38 (dk_at dksJ7_checkBoundsBeginEnd_0 6 rfl rfl)
theorem dJ7_checkBoundsBeginEnd_9 : decode cJ7_checkBoundsBeginEnd 9 = .ok (.pop, 1) := dk_87 (dk_at dksJ7_checkBoundsBeginEnd_0 9 rfl rfl)
theorem dJ7_checkBoundsBeginEnd_10 : decode cJ7_checkBoundsBeginEnd 10 = .ok (.return_, 1) := dk_177 (dk_at dksJ7_checkBoundsBeginEnd_0 10 rfl rfl)
def dkwJ7_checkBoundsOffCount_0 : List UInt8 := [26, 27, 28, 178, 4, 29, 184, 4, 41, 172]
abbrev dktJ7_checkBoundsOffCount_0 : List UInt8 := dkwJ7_checkBoundsOffCount_0 ++ []
theorem dksJ7_checkBoundsOffCount_0 : cJ7_checkBoundsOffCount.data.toList.drop 0 = dktJ7_checkBoundsOffCount_0 := by decide +kernel
theorem dJ7_checkBoundsOffCount_0 : decode cJ7_checkBoundsOffCount 0 = .ok (.iload_n 0, 1) := dk_26 (dk_at dksJ7_checkBoundsOffCount_0 0 rfl rfl)
theorem dJ7_checkBoundsOffCount_1 : decode cJ7_checkBoundsOffCount 1 = .ok (.iload_n 1, 1) := dk_27 (dk_at dksJ7_checkBoundsOffCount_0 1 rfl rfl)
theorem dJ7_checkBoundsOffCount_2 : decode cJ7_checkBoundsOffCount 2 = .ok (.iload_n 2, 1) := dk_28 (dk_at dksJ7_checkBoundsOffCount_0 2 rfl rfl)
theorem dJ7_checkBoundsOffCount_3 : decode cJ7_checkBoundsOffCount 3 = .ok (.getstatic 1053, 3) := dk_178 4 29 (dk_at dksJ7_checkBoundsOffCount_0 3 rfl rfl)
theorem dJ7_checkBoundsOffCount_6 : decode cJ7_checkBoundsOffCount 6 = .ok (.invokestatic 1065, 3) := dk_184 4 41 (dk_at dksJ7_checkBoundsOffCount_0 6 rfl rfl)
theorem dJ7_checkBoundsOffCount_9 : decode cJ7_checkBoundsOffCount 9 = .ok (.ireturn, 1) := dk_172 (dk_at dksJ7_checkBoundsOffCount_0 9 rfl rfl)
def dkwJ7_checkIndex_0 : List UInt8 := [26, 27, 178, 4, 29, 184, 4, 35, 87, 177]
abbrev dktJ7_checkIndex_0 : List UInt8 := dkwJ7_checkIndex_0 ++ []
theorem dksJ7_checkIndex_0 : cJ7_checkIndex.data.toList.drop 0 = dktJ7_checkIndex_0 := by decide +kernel
theorem dJ7_checkIndex_0 : decode cJ7_checkIndex 0 = .ok (.iload_n 0, 1) := dk_26 (dk_at dksJ7_checkIndex_0 0 rfl rfl)
theorem dJ7_checkIndex_1 : decode cJ7_checkIndex 1 = .ok (.iload_n 1, 1) := dk_27 (dk_at dksJ7_checkIndex_0 1 rfl rfl)
theorem dJ7_checkIndex_2 : decode cJ7_checkIndex 2 = .ok (.getstatic 1053, 3) := dk_178 4 29 (dk_at dksJ7_checkIndex_0 2 rfl rfl)
theorem dJ7_checkIndex_5 : decode cJ7_checkIndex 5 = .ok (.invokestatic 1059, 3) := dk_184 4 35 (dk_at dksJ7_checkIndex_0 5 rfl rfl)
theorem dJ7_checkIndex_8 : decode cJ7_checkIndex 8 = .ok (.pop, 1) := dk_87 (dk_at dksJ7_checkIndex_0 8 rfl rfl)
theorem dJ7_checkIndex_9 : decode cJ7_checkIndex 9 = .ok (.return_, 1) := dk_177 (dk_at dksJ7_checkIndex_0 9 rfl rfl)
def dkwJ7_length_0 : List UInt8 := [42, 180, 0, 9, 190, 42, 182, 1, 79, 122, 172]
abbrev dktJ7_length_0 : List UInt8 := dkwJ7_length_0 ++ []
theorem dksJ7_length_0 : cJ7_length.data.toList.drop 0 = dktJ7_length_0 := by decide +kernel
theorem dJ7_length_0 : decode cJ7_length 0 = .ok (.aload_n 0, 1) := dk_42 (dk_at dksJ7_length_0 0 rfl rfl)
theorem dJ7_length_1 : decode cJ7_length 1 = .ok (.getfield 9, 3) := dk_180 0 9 (dk_at dksJ7_length_0 1 rfl rfl)
theorem dJ7_length_4 : decode cJ7_length 4 = .ok (.arraylength, 1) := dk_190 (dk_at dksJ7_length_0 4 rfl rfl)
theorem dJ7_length_5 : decode cJ7_length 5 = .ok (.aload_n 0, 1) := dk_42 (dk_at dksJ7_length_0 5 rfl rfl)
theorem dJ7_length_6 : decode cJ7_length 6 = .ok (.invokevirtual 335, 3) := dk_182 1 79 (dk_at dksJ7_length_0 6 rfl rfl)
theorem dJ7_length_9 : decode cJ7_length 9 = .ok (.ishr, 1) := dk_122 (dk_at dksJ7_length_0 9 rfl rfl)
theorem dJ7_length_10 : decode cJ7_length 10 = .ok (.ireturn, 1) := dk_172 (dk_at dksJ7_length_0 10 rfl rfl)
def dkwJ7_coder_0 : List UInt8 := [178, 0, 38, 153, 0, 10, 42, 180, 0, 15, 167, 0, 4, 4, 172]
abbrev dktJ7_coder_0 : List UInt8 := dkwJ7_coder_0 ++ []
theorem dksJ7_coder_0 : cJ7_coder.data.toList.drop 0 = dktJ7_coder_0 := by decide +kernel
theorem dJ7_coder_0 : decode cJ7_coder 0 = .ok (.getstatic 38, 3) := dk_178 0 38 (dk_at dksJ7_coder_0 0 rfl rfl)
theorem dJ7_coder_3 : decode cJ7_coder 3 = .ok (.ifCond .eq 10, 3) := dk_153 0 10 (dk_at dksJ7_coder_0 3 rfl rfl)
theorem dJ7_coder_6 : decode cJ7_coder 6 = .ok (.aload_n 0, 1) := dk_42 (dk_at dksJ7_coder_0 6 rfl rfl)
theorem dJ7_coder_7 : decode cJ7_coder 7 = .ok (.getfield 15, 3) := dk_180 0 15 (dk_at dksJ7_coder_0 7 rfl rfl)
theorem dJ7_coder_10 : decode cJ7_coder 10 = .ok (.goto 4, 3) := dk_167 0 4 (dk_at dksJ7_coder_0 10 rfl rfl)
theorem dJ7_coder_13 : decode cJ7_coder 13 = .ok (.iconst 1, 1) := dk_4 (dk_at dksJ7_coder_0 13 rfl rfl)
theorem dJ7_coder_14 : decode cJ7_coder 14 = .ok (.ireturn, 1) := dk_172 (dk_at dksJ7_coder_0 14 rfl rfl)
def dkwJ7_getBytes_1 : List UInt8 := [184, 0, 212, 167, 0, 18, 42, 180, 0, 9, 3, 43, 28, 42, 180, 0, 9, 190, 184, 0, 106, 177]
abbrev dktJ7_getBytes_1 : List UInt8 := dkwJ7_getBytes_1 ++ []
def dkwJ7_getBytes_0 : List UInt8 := [42, 182, 1, 79, 29, 160, 0, 23, 42, 180, 0, 9, 3, 43, 28, 29, 120, 42, 180, 0, 9, 190]
abbrev dktJ7_getBytes_0 : List UInt8 := dkwJ7_getBytes_0 ++ dktJ7_getBytes_1
theorem dksJ7_getBytes_0 : cJ7_getBytes.data.toList.drop 0 = dktJ7_getBytes_0 := by decide +kernel
theorem dksJ7_getBytes_1 : cJ7_getBytes.data.toList.drop 22 = dktJ7_getBytes_1 := dk_seg dksJ7_getBytes_0 22 rfl rfl
theorem dJ7_getBytes_0 : decode cJ7_getBytes 0 = .ok (.aload_n 0, 1) := dk_42 (dk_at dksJ7_getBytes_0 0 rfl rfl)
theorem dJ7_getBytes_1 : decode cJ7_getBytes 1 = .ok (.invokevirtual 335, 3) := dk_182 1 79 (dk_at dksJ7_getBytes_0 1 rfl rfl)
theorem dJ7_getBytes_4 : decode cJ7_getBytes 4 = .ok (.iload_n 3, 1) := dk_29 (dk_at dksJ7_getBytes_0 4 rfl rfl)
theorem dJ7_getBytes_5 : decode cJ7_getBytes 5 = .ok (.if_icmp .ne 23, 3) := dk_160 0 23 (dk_at dksJ7_getBytes_0 5 rfl rfl)
theorem dJ7_getBytes_8 : decode cJ7_getBytes 8 = .ok (.aload_n 0, 1) := dk_42 (dk_at dksJ7_getBytes_0 8 rfl rfl)
theorem dJ7_getBytes_9 : decode cJ7_getBytes 9 = .ok (.getfield 9, 3) := dk_180 0 9 (dk_at dksJ7_getBytes_0 9 rfl rfl)
theorem dJ7_getBytes_12 : decode cJ7_getBytes 12 = .ok (.iconst 0, 1) := dk_3 (dk_at dksJ7_getBytes_0 12 rfl rfl)
theorem dJ7_getBytes_13 : decode cJ7_getBytes 13 = .ok (.aload_n 1, 1) := dk_43 (dk_at dksJ7_getBytes_0 13 rfl rfl)
theorem dJ7_getBytes_14 : decode cJ7_getBytes 14 = .ok (.iload_n 2, 1) := dk_28 (dk_at dksJ7_getBytes_0 14 rfl rfl)
theorem dJ7_getBytes_15 : decode cJ7_getBytes 15 = .ok (.iload_n 3, 1) := dk_29 (dk_at dksJ7_getBytes_0 15 rfl rfl)
theorem dJ7_getBytes_16 : decode cJ7_getBytes 16 = .ok (.ishl, 1) := dk_120 (dk_at dksJ7_getBytes_0 16 rfl rfl)
theorem dJ7_getBytes_17 : decode cJ7_getBytes 17 = .ok (.aload_n 0, 1) := dk_42 (dk_at dksJ7_getBytes_0 17 rfl rfl)
theorem dJ7_getBytes_18 : decode cJ7_getBytes 18 = .ok (.getfield 9, 3) := dk_180 0 9 (dk_at dksJ7_getBytes_0 18 rfl rfl)
theorem dJ7_getBytes_21 : decode cJ7_getBytes 21 = .ok (.arraylength, 1) := dk_190 (dk_at dksJ7_getBytes_0 21 rfl rfl)
theorem dJ7_getBytes_22 : decode cJ7_getBytes 22 = .ok (.invokestatic 212, 3) := dk_184 0 212 (dk_at dksJ7_getBytes_1 0 rfl rfl)
theorem dJ7_getBytes_25 : decode cJ7_getBytes 25 = .ok (.goto 18, 3) := dk_167 0 18 (dk_at dksJ7_getBytes_1 3 rfl rfl)
theorem dJ7_getBytes_28 : decode cJ7_getBytes 28 = .ok (.aload_n 0, 1) := dk_42 (dk_at dksJ7_getBytes_1 6 rfl rfl)
theorem dJ7_getBytes_29 : decode cJ7_getBytes 29 = .ok (.getfield 9, 3) := dk_180 0 9 (dk_at dksJ7_getBytes_1 7 rfl rfl)
theorem dJ7_getBytes_32 : decode cJ7_getBytes 32 = .ok (.iconst 0, 1) := dk_3 (dk_at dksJ7_getBytes_1 10 rfl rfl)
theorem dJ7_getBytes_33 : decode cJ7_getBytes 33 = .ok (.aload_n 1, 1) := dk_43 (dk_at dksJ7_getBytes_1 11 rfl rfl)
theorem dJ7_getBytes_34 : decode cJ7_getBytes 34 = .ok (.iload_n 2, 1) := dk_28 (dk_at dksJ7_getBytes_1 12 rfl rfl)
theorem dJ7_getBytes_35 : decode cJ7_getBytes 35 = .ok (.aload_n 0, 1) := dk_42 (dk_at dksJ7_getBytes_1 13 rfl rfl)
theorem dJ7_getBytes_36 : decode cJ7_getBytes 36 = .ok (.getfield 9, 3) := dk_180 0 9 (dk_at dksJ7_getBytes_1 14 rfl rfl)
theorem dJ7_getBytes_39 : decode cJ7_getBytes 39 = .ok (.arraylength, 1) := dk_190 (dk_at dksJ7_getBytes_1 17 rfl rfl)
theorem dJ7_getBytes_40 : decode cJ7_getBytes 40 = .ok (.invokestatic 106, 3) := dk_184 0 106 (dk_at dksJ7_getBytes_1 18 rfl rfl)
theorem dJ7_getBytes_43 : decode cJ7_getBytes 43 = .ok (.return_, 1) := dk_177 (dk_at dksJ7_getBytes_1 21 rfl rfl)
def dkwJ7_init_0 : List UInt8 := [42, 43, 1, 183, 1, 233, 177]
abbrev dktJ7_init_0 : List UInt8 := dkwJ7_init_0 ++ []
theorem dksJ7_init_0 : cJ7_init.data.toList.drop 0 = dktJ7_init_0 := by decide +kernel
theorem dJ7_init_0 : decode cJ7_init 0 = .ok (.aload_n 0, 1) := dk_42 (dk_at dksJ7_init_0 0 rfl rfl)
theorem dJ7_init_1 : decode cJ7_init 1 = .ok (.aload_n 1, 1) := dk_43 (dk_at dksJ7_init_0 1 rfl rfl)
theorem dJ7_init_2 : decode cJ7_init 2 = .ok (.aconst_null, 1) := dk_1 (dk_at dksJ7_init_0 2 rfl rfl)
theorem dJ7_init_3 : decode cJ7_init 3 = .ok (.invokespecial 489, 3) := dk_183 1 233 (dk_at dksJ7_init_0 3 rfl rfl)
theorem dJ7_init_6 : decode cJ7_init 6 = .ok (.return_, 1) := dk_177 (dk_at dksJ7_init_0 6 rfl rfl)
def dkwJ7_init_2_4 : List UInt8 := [181, 0, 9, 177]
abbrev dktJ7_init_2_4 : List UInt8 := dkwJ7_init_2_4 ++ []
def dkwJ7_init_2_3 : List UInt8 := [184, 0, 47, 181, 0, 15, 177, 42, 4, 181, 0, 15, 42, 45, 3, 21, 4, 4, 120, 184, 0, 54]
abbrev dktJ7_init_2_3 : List UInt8 := dkwJ7_init_2_3 ++ dktJ7_init_2_4
def dkwJ7_init_2_2 : List UInt8 := [180, 4, 24, 153, 0, 28, 42, 45, 3, 21, 4, 184, 4, 27, 181, 0, 9, 42, 42, 180, 0, 9, 21, 4]
abbrev dktJ7_init_2_2 : List UInt8 := dkwJ7_init_2_2 ++ dktJ7_init_2_3
def dkwJ7_init_2_1 : List UInt8 := [181, 0, 15, 42, 45, 3, 21, 4, 184, 0, 54, 181, 0, 9, 167, 0, 59, 178, 0, 38, 153, 0, 35, 43]
abbrev dktJ7_init_2_1 : List UInt8 := dkwJ7_init_2_1 ++ dktJ7_init_2_2
def dkwJ7_init_2_0 : List UInt8 := [42, 183, 0, 1, 43, 182, 2, 40, 78, 43, 182, 2, 37, 54, 4, 43, 182, 4, 23, 153, 0, 22, 42, 3]
abbrev dktJ7_init_2_0 : List UInt8 := dkwJ7_init_2_0 ++ dktJ7_init_2_1
theorem dksJ7_init_2_0 : cJ7_init_2.data.toList.drop 0 = dktJ7_init_2_0 := by decide +kernel
theorem dksJ7_init_2_1 : cJ7_init_2.data.toList.drop 24 = dktJ7_init_2_1 := dk_seg dksJ7_init_2_0 24 rfl rfl
theorem dksJ7_init_2_2 : cJ7_init_2.data.toList.drop 48 = dktJ7_init_2_2 := dk_seg dksJ7_init_2_1 24 rfl rfl
theorem dksJ7_init_2_3 : cJ7_init_2.data.toList.drop 72 = dktJ7_init_2_3 := dk_seg dksJ7_init_2_2 24 rfl rfl
theorem dksJ7_init_2_4 : cJ7_init_2.data.toList.drop 94 = dktJ7_init_2_4 := dk_seg dksJ7_init_2_3 22 rfl rfl
theorem dJ7_init_2_0 : decode cJ7_init_2 0 = .ok (.aload_n 0, 1) := dk_42 (dk_at dksJ7_init_2_0 0 rfl rfl)
theorem dJ7_init_2_1 : decode cJ7_init_2 1 = .ok (.invokespecial 1, 3) := dk_183 0 1 (dk_at dksJ7_init_2_0 1 rfl rfl)
theorem dJ7_init_2_4 : decode cJ7_init_2 4 = .ok (.aload_n 1, 1) := dk_43 (dk_at dksJ7_init_2_0 4 rfl rfl)
theorem dJ7_init_2_5 : decode cJ7_init_2 5 = .ok (.invokevirtual 552, 3) := dk_182 2 40 (dk_at dksJ7_init_2_0 5 rfl rfl)
theorem dJ7_init_2_8 : decode cJ7_init_2 8 = .ok (.astore_n 3, 1) := dk_78 (dk_at dksJ7_init_2_0 8 rfl rfl)
theorem dJ7_init_2_9 : decode cJ7_init_2 9 = .ok (.aload_n 1, 1) := dk_43 (dk_at dksJ7_init_2_0 9 rfl rfl)
theorem dJ7_init_2_10 : decode cJ7_init_2 10 = .ok (.invokevirtual 549, 3) := dk_182 2 37 (dk_at dksJ7_init_2_0 10 rfl rfl)
theorem dJ7_init_2_13 : decode cJ7_init_2 13 = .ok (.istore 4, 2) := dk_54 4 (dk_at dksJ7_init_2_0 13 rfl rfl)
theorem dJ7_init_2_15 : decode cJ7_init_2 15 = .ok (.aload_n 1, 1) := dk_43 (dk_at dksJ7_init_2_0 15 rfl rfl)
theorem dJ7_init_2_16 : decode cJ7_init_2 16 = .ok (.invokevirtual 1047, 3) := dk_182 4 23 (dk_at dksJ7_init_2_0 16 rfl rfl)
theorem dJ7_init_2_19 : decode cJ7_init_2 19 = .ok (.ifCond .eq 22, 3) := dk_153 0 22 (dk_at dksJ7_init_2_0 19 rfl rfl)
theorem dJ7_init_2_22 : decode cJ7_init_2 22 = .ok (.aload_n 0, 1) := dk_42 (dk_at dksJ7_init_2_0 22 rfl rfl)
theorem dJ7_init_2_23 : decode cJ7_init_2 23 = .ok (.iconst 0, 1) := dk_3 (dk_at dksJ7_init_2_0 23 rfl rfl)
theorem dJ7_init_2_24 : decode cJ7_init_2 24 = .ok (.putfield 15, 3) := dk_181 0 15 (dk_at dksJ7_init_2_1 0 rfl rfl)
theorem dJ7_init_2_27 : decode cJ7_init_2 27 = .ok (.aload_n 0, 1) := dk_42 (dk_at dksJ7_init_2_1 3 rfl rfl)
theorem dJ7_init_2_28 : decode cJ7_init_2 28 = .ok (.aload_n 3, 1) := dk_45 (dk_at dksJ7_init_2_1 4 rfl rfl)
theorem dJ7_init_2_29 : decode cJ7_init_2 29 = .ok (.iconst 0, 1) := dk_3 (dk_at dksJ7_init_2_1 5 rfl rfl)
theorem dJ7_init_2_30 : decode cJ7_init_2 30 = .ok (.iload 4, 2) := dk_21 4 (dk_at dksJ7_init_2_1 6 rfl rfl)
theorem dJ7_init_2_32 : decode cJ7_init_2 32 = .ok (.invokestatic 54, 3) := dk_184 0 54 (dk_at dksJ7_init_2_1 8 rfl rfl)
theorem dJ7_init_2_35 : decode cJ7_init_2 35 = .ok (.putfield 9, 3) := dk_181 0 9 (dk_at dksJ7_init_2_1 11 rfl rfl)
theorem dJ7_init_2_38 : decode cJ7_init_2 38 = .ok (.goto 59, 3) := dk_167 0 59 (dk_at dksJ7_init_2_1 14 rfl rfl)
theorem dJ7_init_2_41 : decode cJ7_init_2 41 = .ok (.getstatic 38, 3) := dk_178 0 38 (dk_at dksJ7_init_2_1 17 rfl rfl)
theorem dJ7_init_2_44 : decode cJ7_init_2 44 = .ok (.ifCond .eq 35, 3) := dk_153 0 35 (dk_at dksJ7_init_2_1 20 rfl rfl)
theorem dJ7_init_2_47 : decode cJ7_init_2 47 = .ok (.aload_n 1, 1) := dk_43 (dk_at dksJ7_init_2_1 23 rfl rfl)
theorem dJ7_init_2_48 : decode cJ7_init_2 48 = .ok (.getfield 1048, 3) := dk_180 4 24 (dk_at dksJ7_init_2_2 0 rfl rfl)
theorem dJ7_init_2_51 : decode cJ7_init_2 51 = .ok (.ifCond .eq 28, 3) := dk_153 0 28 (dk_at dksJ7_init_2_2 3 rfl rfl)
theorem dJ7_init_2_54 : decode cJ7_init_2 54 = .ok (.aload_n 0, 1) := dk_42 (dk_at dksJ7_init_2_2 6 rfl rfl)
theorem dJ7_init_2_55 : decode cJ7_init_2 55 = .ok (.aload_n 3, 1) := dk_45 (dk_at dksJ7_init_2_2 7 rfl rfl)
theorem dJ7_init_2_56 : decode cJ7_init_2 56 = .ok (.iconst 0, 1) := dk_3 (dk_at dksJ7_init_2_2 8 rfl rfl)
theorem dJ7_init_2_57 : decode cJ7_init_2 57 = .ok (.iload 4, 2) := dk_21 4 (dk_at dksJ7_init_2_2 9 rfl rfl)
theorem dJ7_init_2_59 : decode cJ7_init_2 59 = .ok (.invokestatic 1051, 3) := dk_184 4 27 (dk_at dksJ7_init_2_2 11 rfl rfl)
theorem dJ7_init_2_62 : decode cJ7_init_2 62 = .ok (.putfield 9, 3) := dk_181 0 9 (dk_at dksJ7_init_2_2 14 rfl rfl)
theorem dJ7_init_2_65 : decode cJ7_init_2 65 = .ok (.aload_n 0, 1) := dk_42 (dk_at dksJ7_init_2_2 17 rfl rfl)
theorem dJ7_init_2_66 : decode cJ7_init_2 66 = .ok (.aload_n 0, 1) := dk_42 (dk_at dksJ7_init_2_2 18 rfl rfl)
theorem dJ7_init_2_67 : decode cJ7_init_2 67 = .ok (.getfield 9, 3) := dk_180 0 9 (dk_at dksJ7_init_2_2 19 rfl rfl)
theorem dJ7_init_2_70 : decode cJ7_init_2 70 = .ok (.iload 4, 2) := dk_21 4 (dk_at dksJ7_init_2_2 22 rfl rfl)
theorem dJ7_init_2_72 : decode cJ7_init_2 72 = .ok (.invokestatic 47, 3) := dk_184 0 47 (dk_at dksJ7_init_2_3 0 rfl rfl)
theorem dJ7_init_2_75 : decode cJ7_init_2 75 = .ok (.putfield 15, 3) := dk_181 0 15 (dk_at dksJ7_init_2_3 3 rfl rfl)
theorem dJ7_init_2_78 : decode cJ7_init_2 78 = .ok (.return_, 1) := dk_177 (dk_at dksJ7_init_2_3 6 rfl rfl)
theorem dJ7_init_2_79 : decode cJ7_init_2 79 = .ok (.aload_n 0, 1) := dk_42 (dk_at dksJ7_init_2_3 7 rfl rfl)
theorem dJ7_init_2_80 : decode cJ7_init_2 80 = .ok (.iconst 1, 1) := dk_4 (dk_at dksJ7_init_2_3 8 rfl rfl)
theorem dJ7_init_2_81 : decode cJ7_init_2 81 = .ok (.putfield 15, 3) := dk_181 0 15 (dk_at dksJ7_init_2_3 9 rfl rfl)
theorem dJ7_init_2_84 : decode cJ7_init_2 84 = .ok (.aload_n 0, 1) := dk_42 (dk_at dksJ7_init_2_3 12 rfl rfl)
theorem dJ7_init_2_85 : decode cJ7_init_2 85 = .ok (.aload_n 3, 1) := dk_45 (dk_at dksJ7_init_2_3 13 rfl rfl)
theorem dJ7_init_2_86 : decode cJ7_init_2 86 = .ok (.iconst 0, 1) := dk_3 (dk_at dksJ7_init_2_3 14 rfl rfl)
theorem dJ7_init_2_87 : decode cJ7_init_2 87 = .ok (.iload 4, 2) := dk_21 4 (dk_at dksJ7_init_2_3 15 rfl rfl)
theorem dJ7_init_2_89 : decode cJ7_init_2 89 = .ok (.iconst 1, 1) := dk_4 (dk_at dksJ7_init_2_3 17 rfl rfl)
theorem dJ7_init_2_90 : decode cJ7_init_2 90 = .ok (.ishl, 1) := dk_120 (dk_at dksJ7_init_2_3 18 rfl rfl)
theorem dJ7_init_2_91 : decode cJ7_init_2 91 = .ok (.invokestatic 54, 3) := dk_184 0 54 (dk_at dksJ7_init_2_3 19 rfl rfl)
theorem dJ7_init_2_94 : decode cJ7_init_2 94 = .ok (.putfield 9, 3) := dk_181 0 9 (dk_at dksJ7_init_2_4 0 rfl rfl)
theorem dJ7_init_2_97 : decode cJ7_init_2 97 = .ok (.return_, 1) := dk_177 (dk_at dksJ7_init_2_4 3 rfl rfl)
def dkwJ7_charAt_1 : List UInt8 := [172]
abbrev dktJ7_charAt_1 : List UInt8 := dkwJ7_charAt_1 ++ []
def dkwJ7_charAt_0 : List UInt8 := [42, 182, 1, 236, 153, 0, 12, 42, 180, 0, 9, 27, 184, 1, 239, 172, 42, 180, 0, 9, 27, 184, 1, 242]
abbrev dktJ7_charAt_0 : List UInt8 := dkwJ7_charAt_0 ++ dktJ7_charAt_1
theorem dksJ7_charAt_0 : cJ7_charAt.data.toList.drop 0 = dktJ7_charAt_0 := by decide +kernel
theorem dksJ7_charAt_1 : cJ7_charAt.data.toList.drop 24 = dktJ7_charAt_1 := dk_seg dksJ7_charAt_0 24 rfl rfl
theorem dJ7_charAt_0 : decode cJ7_charAt 0 = .ok (.aload_n 0, 1) := dk_42 (dk_at dksJ7_charAt_0 0 rfl rfl)
theorem dJ7_charAt_1 : decode cJ7_charAt 1 = .ok (.invokevirtual 492, 3) := dk_182 1 236 (dk_at dksJ7_charAt_0 1 rfl rfl)
theorem dJ7_charAt_4 : decode cJ7_charAt 4 = .ok (.ifCond .eq 12, 3) := dk_153 0 12 (dk_at dksJ7_charAt_0 4 rfl rfl)
theorem dJ7_charAt_7 : decode cJ7_charAt 7 = .ok (.aload_n 0, 1) := dk_42 (dk_at dksJ7_charAt_0 7 rfl rfl)
theorem dJ7_charAt_8 : decode cJ7_charAt 8 = .ok (.getfield 9, 3) := dk_180 0 9 (dk_at dksJ7_charAt_0 8 rfl rfl)
theorem dJ7_charAt_11 : decode cJ7_charAt 11 = .ok (.iload_n 1, 1) := dk_27 (dk_at dksJ7_charAt_0 11 rfl rfl)
theorem dJ7_charAt_12 : decode cJ7_charAt 12 = .ok (.invokestatic 495, 3) := dk_184 1 239 (dk_at dksJ7_charAt_0 12 rfl rfl)
theorem dJ7_charAt_15 : decode cJ7_charAt 15 = .ok (.ireturn, 1) := dk_172 (dk_at dksJ7_charAt_0 15 rfl rfl)
theorem dJ7_charAt_16 : decode cJ7_charAt 16 = .ok (.aload_n 0, 1) := dk_42 (dk_at dksJ7_charAt_0 16 rfl rfl)
theorem dJ7_charAt_17 : decode cJ7_charAt 17 = .ok (.getfield 9, 3) := dk_180 0 9 (dk_at dksJ7_charAt_0 17 rfl rfl)
theorem dJ7_charAt_20 : decode cJ7_charAt 20 = .ok (.iload_n 1, 1) := dk_27 (dk_at dksJ7_charAt_0 20 rfl rfl)
theorem dJ7_charAt_21 : decode cJ7_charAt 21 = .ok (.invokestatic 498, 3) := dk_184 1 242 (dk_at dksJ7_charAt_0 21 rfl rfl)
theorem dJ7_charAt_24 : decode cJ7_charAt 24 = .ok (.ireturn, 1) := dk_172 (dk_at dksJ7_charAt_1 0 rfl rfl)
def dkwJ7_isLatin1_0 : List UInt8 := [178, 0, 38, 153, 0, 14, 42, 180, 0, 15, 154, 0, 7, 4, 167, 0, 4, 3, 172]
abbrev dktJ7_isLatin1_0 : List UInt8 := dkwJ7_isLatin1_0 ++ []
theorem dksJ7_isLatin1_0 : cJ7_isLatin1.data.toList.drop 0 = dktJ7_isLatin1_0 := by decide +kernel
theorem dJ7_isLatin1_0 : decode cJ7_isLatin1 0 = .ok (.getstatic 38, 3) := dk_178 0 38 (dk_at dksJ7_isLatin1_0 0 rfl rfl)
theorem dJ7_isLatin1_3 : decode cJ7_isLatin1 3 = .ok (.ifCond .eq 14, 3) := dk_153 0 14 (dk_at dksJ7_isLatin1_0 3 rfl rfl)
theorem dJ7_isLatin1_6 : decode cJ7_isLatin1 6 = .ok (.aload_n 0, 1) := dk_42 (dk_at dksJ7_isLatin1_0 6 rfl rfl)
theorem dJ7_isLatin1_7 : decode cJ7_isLatin1 7 = .ok (.getfield 15, 3) := dk_180 0 15 (dk_at dksJ7_isLatin1_0 7 rfl rfl)
theorem dJ7_isLatin1_10 : decode cJ7_isLatin1 10 = .ok (.ifCond .ne 7, 3) := dk_154 0 7 (dk_at dksJ7_isLatin1_0 10 rfl rfl)
theorem dJ7_isLatin1_13 : decode cJ7_isLatin1 13 = .ok (.iconst 1, 1) := dk_4 (dk_at dksJ7_isLatin1_0 13 rfl rfl)
theorem dJ7_isLatin1_14 : decode cJ7_isLatin1 14 = .ok (.goto 4, 3) := dk_167 0 4 (dk_at dksJ7_isLatin1_0 14 rfl rfl)
theorem dJ7_isLatin1_17 : decode cJ7_isLatin1 17 = .ok (.iconst 0, 1) := dk_3 (dk_at dksJ7_isLatin1_0 17 rfl rfl)
theorem dJ7_isLatin1_18 : decode cJ7_isLatin1 18 = .ok (.ireturn, 1) := dk_172 (dk_at dksJ7_isLatin1_0 18 rfl rfl)
def tJ7_equals : pb_T := [(0, .aload_n 0, 1, 0), (1, .aload_n 1, 2, 0), (2, .if_acmp .ne 5, 5, 7), (5, .iconst 1, 6, 0), (6, .ireturn, 7, 0), (7, .aload_n 1, 8, 0), (8, .instanceof 10, 11, 0), (11, .ifCond .eq 43, 14, 54), (14, .aload_n 1, 15, 0), (15, .checkcast 10, 18, 0), (18, .astore_n 2, 19, 0), (19, .getstatic 38, 22, 0), (22, .ifCond .eq 14, 25, 36), (25, .aload_n 0, 26, 0), (26, .getfield 15, 29, 0), (29, .aload_n 2, 30, 0), (30, .getfield 15, 33, 0), (33, .if_icmp .ne 21, 36, 54), (36, .aload_n 0, 37, 0), (37, .getfield 9, 40, 0), (40, .aload_n 2, 41, 0), (41, .getfield 9, 44, 0), (44, .invokestatic 541, 47, 0), (47, .ifCond .eq 7, 50, 54), (50, .iconst 1, 51, 0), (51, .goto 4, 54, 55), (54, .iconst 0, 55, 0), (55, .ireturn, 56, 0)]
theorem tJ7_equals_ok : pb_Tok cJ7_equals tJ7_equals := pb_Tok.cons dJ7_equals_0 rfl (pb_Tok.cons dJ7_equals_1 rfl (pb_Tok.cons dJ7_equals_2 rfl (pb_Tok.cons dJ7_equals_5 rfl (pb_Tok.cons dJ7_equals_6 rfl (pb_Tok.cons dJ7_equals_7 rfl (pb_Tok.cons dJ7_equals_8 rfl (pb_Tok.cons dJ7_equals_11 rfl (pb_Tok.cons dJ7_equals_14 rfl (pb_Tok.cons dJ7_equals_15 rfl (pb_Tok.cons dJ7_equals_18 rfl (pb_Tok.cons dJ7_equals_19 rfl (pb_Tok.cons dJ7_equals_22 rfl (pb_Tok.cons dJ7_equals_25 rfl (pb_Tok.cons dJ7_equals_26 rfl (pb_Tok.cons dJ7_equals_29 rfl (pb_Tok.cons dJ7_equals_30 rfl (pb_Tok.cons dJ7_equals_33 rfl (pb_Tok.cons dJ7_equals_36 rfl (pb_Tok.cons dJ7_equals_37 rfl (pb_Tok.cons dJ7_equals_40 rfl (pb_Tok.cons dJ7_equals_41 rfl (pb_Tok.cons dJ7_equals_44 rfl (pb_Tok.cons dJ7_equals_47 rfl (pb_Tok.cons dJ7_equals_50 rfl (pb_Tok.cons dJ7_equals_51 rfl (pb_Tok.cons dJ7_equals_54 rfl (pb_Tok.cons dJ7_equals_55 rfl pb_Tok.nil)))))))))))))))))))))))))))
def tJ7_checkBoundsBeginEnd : pb_T := [(0, .iload_n 0, 1, 0), (1, .iload_n 1, 2, 0), (2, .iload_n 2, 3, 0), (3, .getstatic 1053, 6, 0), (6, .invokestatic 1062, 9, 0), (9, .pop, 10, 0), (10, .return_, 11, 0)]
theorem tJ7_checkBoundsBeginEnd_ok : pb_Tok cJ7_checkBoundsBeginEnd tJ7_checkBoundsBeginEnd := pb_Tok.cons dJ7_checkBoundsBeginEnd_0 rfl (pb_Tok.cons dJ7_checkBoundsBeginEnd_1 rfl (pb_Tok.cons dJ7_checkBoundsBeginEnd_2 rfl (pb_Tok.cons dJ7_checkBoundsBeginEnd_3 rfl (pb_Tok.cons dJ7_checkBoundsBeginEnd_6 rfl (pb_Tok.cons dJ7_checkBoundsBeginEnd_9 rfl (pb_Tok.cons dJ7_checkBoundsBeginEnd_10 rfl pb_Tok.nil))))))
def tJ7_checkBoundsOffCount : pb_T := [(0, .iload_n 0, 1, 0), (1, .iload_n 1, 2, 0), (2, .iload_n 2, 3, 0), (3, .getstatic 1053, 6, 0), (6, .invokestatic 1065, 9, 0), (9, .ireturn, 10, 0)]
theorem tJ7_checkBoundsOffCount_ok : pb_Tok cJ7_checkBoundsOffCount tJ7_checkBoundsOffCount := pb_Tok.cons dJ7_checkBoundsOffCount_0 rfl (pb_Tok.cons dJ7_checkBoundsOffCount_1 rfl (pb_Tok.cons dJ7_checkBoundsOffCount_2 rfl (pb_Tok.cons dJ7_checkBoundsOffCount_3 rfl (pb_Tok.cons dJ7_checkBoundsOffCount_6 rfl (pb_Tok.cons dJ7_checkBoundsOffCount_9 rfl pb_Tok.nil)))))
def tJ7_checkIndex : pb_T := [(0, .iload_n 0, 1, 0), (1, .iload_n 1, 2, 0), (2, .getstatic 1053, 5, 0), (5, .invokestatic 1059, 8, 0), (8, .pop, 9, 0), (9, .return_, 10, 0)]
theorem tJ7_checkIndex_ok : pb_Tok cJ7_checkIndex tJ7_checkIndex := pb_Tok.cons dJ7_checkIndex_0 rfl (pb_Tok.cons dJ7_checkIndex_1 rfl (pb_Tok.cons dJ7_checkIndex_2 rfl (pb_Tok.cons dJ7_checkIndex_5 rfl (pb_Tok.cons dJ7_checkIndex_8 rfl (pb_Tok.cons dJ7_checkIndex_9 rfl pb_Tok.nil)))))
def tJ7_length : pb_T := [(0, .aload_n 0, 1, 0), (1, .getfield 9, 4, 0), (4, .arraylength, 5, 0), (5, .aload_n 0, 6, 0), (6, .invokevirtual 335, 9, 0), (9, .ishr, 10, 0), (10, .ireturn, 11, 0)]
theorem tJ7_length_ok : pb_Tok cJ7_length tJ7_length := pb_Tok.cons dJ7_length_0 rfl (pb_Tok.cons dJ7_length_1 rfl (pb_Tok.cons dJ7_length_4 rfl (pb_Tok.cons dJ7_length_5 rfl (pb_Tok.cons dJ7_length_6 rfl (pb_Tok.cons dJ7_length_9 rfl (pb_Tok.cons dJ7_length_10 rfl pb_Tok.nil))))))
def tJ7_coder : pb_T := [(0, .getstatic 38, 3, 0), (3, .ifCond .eq 10, 6, 13), (6, .aload_n 0, 7, 0), (7, .getfield 15, 10, 0), (10, .goto 4, 13, 14), (13, .iconst 1, 14, 0), (14, .ireturn, 15, 0)]
theorem tJ7_coder_ok : pb_Tok cJ7_coder tJ7_coder := pb_Tok.cons dJ7_coder_0 rfl (pb_Tok.cons dJ7_coder_3 rfl (pb_Tok.cons dJ7_coder_6 rfl (pb_Tok.cons dJ7_coder_7 rfl (pb_Tok.cons dJ7_coder_10 rfl (pb_Tok.cons dJ7_coder_13 rfl (pb_Tok.cons dJ7_coder_14 rfl pb_Tok.nil))))))
def tJ7_getBytes : pb_T := [(0, .aload_n 0, 1, 0), (1, .invokevirtual 335, 4, 0), (4, .iload_n 3, 5, 0), (5, .if_icmp .ne 23, 8, 28), (8, .aload_n 0, 9, 0), (9, .getfield 9, 12, 0), (12, .iconst 0, 13, 0), (13, .aload_n 1, 14, 0), (14, .iload_n 2, 15, 0), (15, .iload_n 3, 16, 0), (16, .ishl, 17, 0), (17, .aload_n 0, 18, 0), (18, .getfield 9, 21, 0), (21, .arraylength, 22, 0), (22, .invokestatic 212, 25, 0), (25, .goto 18, 28, 43), (28, .aload_n 0, 29, 0), (29, .getfield 9, 32, 0), (32, .iconst 0, 33, 0), (33, .aload_n 1, 34, 0), (34, .iload_n 2, 35, 0), (35, .aload_n 0, 36, 0), (36, .getfield 9, 39, 0), (39, .arraylength, 40, 0), (40, .invokestatic 106, 43, 0), (43, .return_, 44, 0)]
theorem tJ7_getBytes_ok : pb_Tok cJ7_getBytes tJ7_getBytes := pb_Tok.cons dJ7_getBytes_0 rfl (pb_Tok.cons dJ7_getBytes_1 rfl (pb_Tok.cons dJ7_getBytes_4 rfl (pb_Tok.cons dJ7_getBytes_5 rfl (pb_Tok.cons dJ7_getBytes_8 rfl (pb_Tok.cons dJ7_getBytes_9 rfl (pb_Tok.cons dJ7_getBytes_12 rfl (pb_Tok.cons dJ7_getBytes_13 rfl (pb_Tok.cons dJ7_getBytes_14 rfl (pb_Tok.cons dJ7_getBytes_15 rfl (pb_Tok.cons dJ7_getBytes_16 rfl (pb_Tok.cons dJ7_getBytes_17 rfl (pb_Tok.cons dJ7_getBytes_18 rfl (pb_Tok.cons dJ7_getBytes_21 rfl (pb_Tok.cons dJ7_getBytes_22 rfl (pb_Tok.cons dJ7_getBytes_25 rfl (pb_Tok.cons dJ7_getBytes_28 rfl (pb_Tok.cons dJ7_getBytes_29 rfl (pb_Tok.cons dJ7_getBytes_32 rfl (pb_Tok.cons dJ7_getBytes_33 rfl (pb_Tok.cons dJ7_getBytes_34 rfl (pb_Tok.cons dJ7_getBytes_35 rfl (pb_Tok.cons dJ7_getBytes_36 rfl (pb_Tok.cons dJ7_getBytes_39 rfl (pb_Tok.cons dJ7_getBytes_40 rfl (pb_Tok.cons dJ7_getBytes_43 rfl pb_Tok.nil)))))))))))))))))))))))))
def tJ7_init : pb_T := [(0, .aload_n 0, 1, 0), (1, .aload_n 1, 2, 0), (2, .aconst_null, 3, 0), (3, .invokespecial 489, 6, 0), (6, .return_, 7, 0)]
theorem tJ7_init_ok : pb_Tok cJ7_init tJ7_init := pb_Tok.cons dJ7_init_0 rfl (pb_Tok.cons dJ7_init_1 rfl (pb_Tok.cons dJ7_init_2 rfl (pb_Tok.cons dJ7_init_3 rfl (pb_Tok.cons dJ7_init_6 rfl pb_Tok.nil))))
def tJ7_init_2 : pb_T := [(0, .aload_n 0, 1, 0), (1, .invokespecial 1, 4, 0), (4, .aload_n 1, 5, 0), (5, .invokevirtual 552, 8, 0), (8, .astore_n 3, 9, 0), (9, .aload_n 1, 10, 0), (10, .invokevirtual 549, 13, 0), (13, .istore 4, 15, 0), (15, .aload_n 1, 16, 0), (16, .invokevirtual 1047, 19, 0), (19, .ifCond .eq 22, 22, 41), (22, .aload_n 0, 23, 0), (23, .iconst 0, 24, 0), (24, .putfield 15, 27, 0), (27, .aload_n 0, 28, 0), (28, .aload_n 3, 29, 0), (29, .iconst 0, 30, 0), (30, .iload 4, 32, 0), (32, .invokestatic 54, 35, 0), (35, .putfield 9, 38, 0), (38, .goto 59, 41, 97), (41, .getstatic 38, 44, 0), (44, .ifCond .eq 35, 47, 79), (47, .aload_n 1, 48, 0), (48, .getfield 1048, 51, 0), (51, .ifCond .eq 28, 54, 79), (54, .aload_n 0, 55, 0), (55, .aload_n 3, 56, 0), (56, .iconst 0, 57, 0), (57, .iload 4, 59, 0), (59, .invokestatic 1051, 62, 0), (62, .putfield 9, 65, 0), (65, .aload_n 0, 66, 0), (66, .aload_n 0, 67, 0), (67, .getfield 9, 70, 0), (70, .iload 4, 72, 0), (72, .invokestatic 47, 75, 0), (75, .putfield 15, 78, 0), (78, .return_, 79, 0), (79, .aload_n 0, 80, 0), (80, .iconst 1, 81, 0), (81, .putfield 15, 84, 0), (84, .aload_n 0, 85, 0), (85, .aload_n 3, 86, 0), (86, .iconst 0, 87, 0), (87, .iload 4, 89, 0), (89, .iconst 1, 90, 0), (90, .ishl, 91, 0), (91, .invokestatic 54, 94, 0), (94, .putfield 9, 97, 0), (97, .return_, 98, 0)]
theorem tJ7_init_2_ok : pb_Tok cJ7_init_2 tJ7_init_2 := pb_Tok.cons dJ7_init_2_0 rfl (pb_Tok.cons dJ7_init_2_1 rfl (pb_Tok.cons dJ7_init_2_4 rfl (pb_Tok.cons dJ7_init_2_5 rfl (pb_Tok.cons dJ7_init_2_8 rfl (pb_Tok.cons dJ7_init_2_9 rfl (pb_Tok.cons dJ7_init_2_10 rfl (pb_Tok.cons dJ7_init_2_13 rfl (pb_Tok.cons dJ7_init_2_15 rfl (pb_Tok.cons dJ7_init_2_16 rfl (pb_Tok.cons dJ7_init_2_19 rfl (pb_Tok.cons dJ7_init_2_22 rfl (pb_Tok.cons dJ7_init_2_23 rfl (pb_Tok.cons dJ7_init_2_24 rfl (pb_Tok.cons dJ7_init_2_27 rfl (pb_Tok.cons dJ7_init_2_28 rfl (pb_Tok.cons dJ7_init_2_29 rfl (pb_Tok.cons dJ7_init_2_30 rfl (pb_Tok.cons dJ7_init_2_32 rfl (pb_Tok.cons dJ7_init_2_35 rfl (pb_Tok.cons dJ7_init_2_38 rfl (pb_Tok.cons dJ7_init_2_41 rfl (pb_Tok.cons dJ7_init_2_44 rfl (pb_Tok.cons dJ7_init_2_47 rfl (pb_Tok.cons dJ7_init_2_48 rfl (pb_Tok.cons dJ7_init_2_51 rfl (pb_Tok.cons dJ7_init_2_54 rfl (pb_Tok.cons dJ7_init_2_55 rfl (pb_Tok.cons dJ7_init_2_56 rfl (pb_Tok.cons dJ7_init_2_57 rfl (pb_Tok.cons dJ7_init_2_59 rfl (pb_Tok.cons dJ7_init_2_62 rfl (pb_Tok.cons dJ7_init_2_65 rfl (pb_Tok.cons dJ7_init_2_66 rfl (pb_Tok.cons dJ7_init_2_67 rfl (pb_Tok.cons dJ7_init_2_70 rfl (pb_Tok.cons dJ7_init_2_72 rfl (pb_Tok.cons dJ7_init_2_75 rfl (pb_Tok.cons dJ7_init_2_78 rfl (pb_Tok.cons dJ7_init_2_79 rfl (pb_Tok.cons dJ7_init_2_80 rfl (pb_Tok.cons dJ7_init_2_81 rfl (pb_Tok.cons dJ7_init_2_84 rfl (pb_Tok.cons dJ7_init_2_85 rfl (pb_Tok.cons dJ7_init_2_86 rfl (pb_Tok.cons dJ7_init_2_87 rfl (pb_Tok.cons dJ7_init_2_89 rfl (pb_Tok.cons dJ7_init_2_90 rfl (pb_Tok.cons dJ7_init_2_91 rfl (pb_Tok.cons dJ7_init_2_94 rfl (pb_Tok.cons dJ7_init_2_97 rfl pb_Tok.nil))))))))))))))))))))))))))))))))))))))))))))))))))
def tJ7_charAt : pb_T := [(0, .aload_n 0, 1, 0), (1, .invokevirtual 492, 4, 0), (4, .ifCond .eq 12, 7, 16), (7, .aload_n 0, 8, 0), (8, .getfield 9, 11, 0), (11, .iload_n 1, 12, 0), (12, .invokestatic 495, 15, 0), (15, .ireturn, 16, 0), (16, .aload_n 0, 17, 0), (17, .getfield 9, 20, 0), (20, .iload_n 1, 21, 0), (21, .invokestatic 498, 24, 0), (24, .ireturn, 25, 0)]
theorem tJ7_charAt_ok : pb_Tok cJ7_charAt tJ7_charAt := pb_Tok.cons dJ7_charAt_0 rfl (pb_Tok.cons dJ7_charAt_1 rfl (pb_Tok.cons dJ7_charAt_4 rfl (pb_Tok.cons dJ7_charAt_7 rfl (pb_Tok.cons dJ7_charAt_8 rfl (pb_Tok.cons dJ7_charAt_11 rfl (pb_Tok.cons dJ7_charAt_12 rfl (pb_Tok.cons dJ7_charAt_15 rfl (pb_Tok.cons dJ7_charAt_16 rfl (pb_Tok.cons dJ7_charAt_17 rfl (pb_Tok.cons dJ7_charAt_20 rfl (pb_Tok.cons dJ7_charAt_21 rfl (pb_Tok.cons dJ7_charAt_24 rfl pb_Tok.nil))))))))))))
def tJ7_isLatin1 : pb_T := [(0, .getstatic 38, 3, 0), (3, .ifCond .eq 14, 6, 17), (6, .aload_n 0, 7, 0), (7, .getfield 15, 10, 0), (10, .ifCond .ne 7, 13, 17), (13, .iconst 1, 14, 0), (14, .goto 4, 17, 18), (17, .iconst 0, 18, 0), (18, .ireturn, 19, 0)]
theorem tJ7_isLatin1_ok : pb_Tok cJ7_isLatin1 tJ7_isLatin1 := pb_Tok.cons dJ7_isLatin1_0 rfl (pb_Tok.cons dJ7_isLatin1_3 rfl (pb_Tok.cons dJ7_isLatin1_6 rfl (pb_Tok.cons dJ7_isLatin1_7 rfl (pb_Tok.cons dJ7_isLatin1_10 rfl (pb_Tok.cons dJ7_isLatin1_13 rfl (pb_Tok.cons dJ7_isLatin1_14 rfl (pb_Tok.cons dJ7_isLatin1_17 rfl (pb_Tok.cons dJ7_isLatin1_18 rfl pb_Tok.nil))))))))
def dkwJ9_checkIndex_0 : List UInt8 := [26, 27, 1, 184, 0, 105, 172]
abbrev dktJ9_checkIndex_0 : List UInt8 := dkwJ9_checkIndex_0 ++ []
theorem dksJ9_checkIndex_0 : cJ9_checkIndex.data.toList.drop 0 = dktJ9_checkIndex_0 := by decide +kernel
theorem dJ9_checkIndex_0 : decode cJ9_checkIndex 0 = .ok (.iload_n 0, 1) := dk_26 (dk_at dksJ9_checkIndex_0 0 rfl rfl)
theorem dJ9_checkIndex_1 : decode cJ9_checkIndex 1 = .ok (.iload_n 1, 1) := dk_27 (dk_at dksJ9_checkIndex_0 1 rfl rfl)
theorem dJ9_checkIndex_2 : decode cJ9_checkIndex 2 = .ok (.aconst_null, 1) := dk_1 (dk_at dksJ9_checkIndex_0 2 rfl rfl)
theorem dJ9_checkIndex_3 : decode cJ9_checkIndex 3 = .ok (.invokestatic 105, 3) := dk_184 0 105 (dk_at dksJ9_checkIndex_0 3 rfl rfl)
theorem dJ9_checkIndex_6 : decode cJ9_checkIndex 6 = .ok (.ireturn, 1) := dk_172 (dk_at dksJ9_checkIndex_0 6 rfl rfl)
def tJ9_checkIndex : pb_T := [(0, .iload_n 0, 1, 0), (1, .iload_n 1, 2, 0), (2, .aconst_null, 3, 0), (3, .invokestatic 105, 6, 0), (6, .ireturn, 7, 0)]
theorem tJ9_checkIndex_ok : pb_Tok cJ9_checkIndex tJ9_checkIndex := pb_Tok.cons dJ9_checkIndex_0 rfl (pb_Tok.cons dJ9_checkIndex_1 rfl (pb_Tok.cons dJ9_checkIndex_2 rfl (pb_Tok.cons dJ9_checkIndex_3 rfl (pb_Tok.cons dJ9_checkIndex_6 rfl pb_Tok.nil))))
def dkwJ10_checkIndex_0 : List UInt8 := [26, 155, 0, 8, 26, 27, 161, 0, 10, 44, 26, 27, 184, 0, 95, 191, 26, 172]
abbrev dktJ10_checkIndex_0 : List UInt8 := dkwJ10_checkIndex_0 ++ []
theorem dksJ10_checkIndex_0 : cJ10_checkIndex.data.toList.drop 0 = dktJ10_checkIndex_0 := by decide +kernel
theorem dJ10_checkIndex_0 : decode cJ10_checkIndex 0 = .ok (.iload_n 0, 1) := dk_26 (dk_at dksJ10_checkIndex_0 0 rfl rfl)
theorem dJ10_checkIndex_1 : decode cJ10_checkIndex 1 = .ok (.ifCond .lt 8, 3) := dk_155 0 8 (dk_at dksJ10_checkIndex_0 1 rfl rfl)
theorem dJ10_checkIndex_4 : decode cJ10_checkIndex 4 = .ok (.iload_n 0, 1) := dk_26 (dk_at dksJ10_checkIndex_0 4 rfl rfl)
theorem dJ10_checkIndex_5 : decode cJ10_checkIndex 5 = .ok (.iload_n 1, 1) := dk_27 (dk_at dksJ10_checkIndex_0 5 rfl rfl)
theorem dJ10_checkIndex_6 : decode cJ10_checkIndex 6 = .ok (.if_icmp .lt 10, 3) := dk_161 0 10 (dk_at dksJ10_checkIndex_0 6 rfl rfl)
theorem dJ10_checkIndex_9 : decode cJ10_checkIndex 9 = .ok (.aload_n 2, 1) := dk_44 (dk_at dksJ10_checkIndex_0 9 rfl rfl)
theorem dJ10_checkIndex_10 : decode cJ10_checkIndex 10 = .ok (.iload_n 0, 1) := dk_26 (dk_at dksJ10_checkIndex_0 10 rfl rfl)
theorem dJ10_checkIndex_11 : decode cJ10_checkIndex 11 = .ok (.iload_n 1, 1) := dk_27 (dk_at dksJ10_checkIndex_0 11 rfl rfl)
theorem dJ10_checkIndex_12 : decode cJ10_checkIndex 12 = .ok (.invokestatic 95, 3) := dk_184 0 95 (dk_at dksJ10_checkIndex_0 12 rfl rfl)
theorem dJ10_checkIndex_15 : decode cJ10_checkIndex 15 = .ok (.athrow, 1) := dk_191 (dk_at dksJ10_checkIndex_0 15 rfl rfl)
theorem dJ10_checkIndex_16 : decode cJ10_checkIndex 16 = .ok (.iload_n 0, 1) := dk_26 (dk_at dksJ10_checkIndex_0 16 rfl rfl)
theorem dJ10_checkIndex_17 : decode cJ10_checkIndex 17 = .ok (.ireturn, 1) := dk_172 (dk_at dksJ10_checkIndex_0 17 rfl rfl)
def dkwJ10_checkFromToIndex_0 : List UInt8 := [26, 155, 0, 13, 26, 27, 163, 0, 8, 27, 28, 164, 0, 11, 45, 26, 27, 28, 184, 0, 99, 191, 26, 172]
abbrev dktJ10_checkFromToIndex_0 : List UInt8 := dkwJ10_checkFromToIndex_0 ++ []
theorem dksJ10_checkFromToIndex_0 : cJ10_checkFromToIndex.data.toList.drop 0 = dktJ10_checkFromToIndex_0 := by decide +kernel
theorem dJ10_checkFromToIndex_0 : decode cJ10_checkFromToIndex 0 = .ok (.iload_n 0, 1) := dk_26 (dk_at dksJ10_checkFromToIndex_0 0 rfl rfl)
theorem dJ10_checkFromToIndex_1 : decode cJ10_checkFromToIndex 1 = .ok (.ifCond .lt 13, 3) := dk_155 0 13 (dk_at dksJ10_checkFromToIndex_0 1 rfl rfl)
theorem dJ10_checkFromToIndex_4 : decode cJ10_checkFromToIndex 4 = .ok (.iload_n 0, 1) := dk_26 (dk_at dksJ10_checkFromToIndex_0 4 rfl rfl)
theorem dJ10_checkFromToIndex_5 : decode cJ10_checkFromToIndex 5 = .ok (.iload_n 1, 1) := dk_27 (dk_at dksJ10_checkFromToIndex_0 5 rfl rfl)
theorem dJ10_checkFromToIndex_6 : decode cJ10_checkFromToIndex 6 = .ok (.if_icmp .gt 8, 3) := dk_163 0 8 (dk_at dksJ10_checkFromToIndex_0 6 rfl rfl)
theorem dJ10_checkFromToIndex_9 : decode cJ10_checkFromToIndex 9 = .ok (.iload_n 1, 1) := dk_27 (dk_at dksJ10_checkFromToIndex_0 9 rfl rfl)
theorem dJ10_checkFromToIndex_10 : decode cJ10_checkFromToIndex 10 = .ok (.iload_n 2, 1) := dk_28 (dk_at dksJ10_checkFromToIndex_0 10 rfl rfl)
theorem dJ10_checkFromToIndex_11 : decode cJ10_checkFromToIndex 11 = .ok (.if_icmp .le 11, 3) := dk_164 0 11 (dk_at dksJ10_checkFromToIndex_0 11 rfl rfl)
theorem dJ10_checkFromToIndex_14 : decode cJ10_checkFromToIndex 14 = .ok (.aload_n 3, 1) := dk_45 (dk_at dksJ10_checkFromToIndex_0 14 rfl rfl)
theorem dJ10_checkFromToIndex_15 : decode cJ10_checkFromToIndex 15 = .ok (.iload_n 0, 1) := dk_26 (dk_at dksJ10_checkFromToIndex_0 15 rfl rfl)
theorem dJ10_checkFromToIndex_16 : decode cJ10_checkFromToIndex 16 = .ok (.iload_n 1, 1) := dk_27 (dk_at dksJ10_checkFromToIndex_0 16 rfl rfl)
theorem dJ10_checkFromToIndex_17 : decode cJ10_checkFromToIndex 17 = .ok (.iload_n 2, 1) := dk_28 (dk_at dksJ10_checkFromToIndex_0 17 rfl rfl)
theorem dJ10_checkFromToIndex_18 : decode cJ10_checkFromToIndex 18 = .ok (.invokestatic 99, 3) := dk_184 0 99 (dk_at dksJ10_checkFromToIndex_0 18 rfl rfl)
theorem dJ10_checkFromToIndex_21 : decode cJ10_checkFromToIndex 21 = .ok (.athrow, 1) := dk_191 (dk_at dksJ10_checkFromToIndex_0 21 rfl rfl)
theorem dJ10_checkFromToIndex_22 : decode cJ10_checkFromToIndex 22 = .ok (.iload_n 0, 1) := dk_26 (dk_at dksJ10_checkFromToIndex_0 22 rfl rfl)
theorem dJ10_checkFromToIndex_23 : decode cJ10_checkFromToIndex 23 = .ok (.ireturn, 1) := dk_172 (dk_at dksJ10_checkFromToIndex_0 23 rfl rfl)
def dkwJ10_checkFromIndexSize_1 : List UInt8 := [172]
abbrev dktJ10_checkFromIndexSize_1 : List UInt8 := dkwJ10_checkFromIndexSize_1 ++ []
def dkwJ10_checkFromIndexSize_0 : List UInt8 := [28, 26, 128, 27, 128, 155, 0, 10, 27, 28, 26, 100, 164, 0, 11, 45, 26, 27, 28, 184, 0, 103, 191, 26]
abbrev dktJ10_checkFromIndexSize_0 : List UInt8 := dkwJ10_checkFromIndexSize_0 ++ dktJ10_checkFromIndexSize_1
theorem dksJ10_checkFromIndexSize_0 : cJ10_checkFromIndexSize.data.toList.drop 0 = dktJ10_checkFromIndexSize_0 := by decide +kernel
theorem dksJ10_checkFromIndexSize_1 : cJ10_checkFromIndexSize.data.toList.drop 24 = dktJ10_checkFromIndexSize_1 := dk_seg dksJ10_checkFromIndexSize_0 24 rfl rfl
theorem dJ10_checkFromIndexSize_0 : decode cJ10_checkFromIndexSize 0 = .ok (.iload_n 2, 1) := dk_28 (dk_at dksJ10_checkFromIndexSize_0 0 rfl rfl)
theorem dJ10_checkFromIndexSize_1 : decode cJ10_checkFromIndexSize 1 = .ok (.iload_n 0, 1) := dk_26 (dk_at dksJ10_checkFromIndexSize_0 1 rfl rfl)
theorem dJ10_checkFromIndexSize_2 : decode cJ10_checkFromIndexSize 2 = .ok (.ior, 1) := dk_128 (dk_at dksJ10_checkFromIndexSize_0 2 rfl rfl)
theorem dJ10_checkFromIndexSize_3 : decode cJ10_checkFromIndexSize 3 = .ok (.iload_n 1, 1) := dk_27 (dk_at dksJ10_checkFromIndexSize_0 3 rfl rfl)
theorem dJ10_checkFromIndexSize_4 : decode cJ10_checkFromIndexSize 4 = .ok (.ior, 1) := dk_128 (dk_at dksJ10_checkFromIndexSize_0 4 rfl rfl)
theorem dJ10_checkFromIndexSize_5 : decode cJ10_checkFromIndexSize 5 = .ok (.ifCond .lt 10, 3) := dk_155 0 10 (dk_at dksJ10_checkFromIndexSize_0 5 rfl rfl)
theorem dJ10_checkFromIndexSize_8 : decode cJ10_checkFromIndexSize 8 = .ok (.iload_n 1, 1) := dk_27 (dk_at dksJ10_checkFromIndexSize_0 8 rfl rfl)
theorem dJ10_checkFromIndexSize_9 : decode cJ10_checkFromIndexSize 9 = .ok (.iload_n 2, 1) := dk_28 (dk_at dksJ10_checkFromIndexSize_0 9 rfl rfl)
theorem dJ10_checkFromIndexSize_10 : decode cJ10_checkFromIndexSize 10 = .ok (.iload_n 0, 1) := dk_26 (dk_at dksJ10_checkFromIndexSize_0 10 rfl rfl)
theorem dJ10_checkFromIndexSize_11 : decode cJ10_checkFromIndexSize 11 = .ok (.isub, 1) := dk_100 (dk_at dksJ10_checkFromIndexSize_0 11 rfl rfl)
theorem dJ10_checkFromIndexSize_12 : decode cJ10_checkFromIndexSize 12 = .ok (.if_icmp .le 11, 3) := dk_164 0 11 (dk_at dksJ10_checkFromIndexSize_0 12 rfl rfl)
theorem dJ10_checkFromIndexSize_15 : decode cJ10_checkFromIndexSize 15 = .ok (.aload_n 3, 1) := dk_45 (dk_at dksJ10_checkFromIndexSize_0 15 rfl rfl)
theorem dJ10_checkFromIndexSize_16 : decode cJ10_checkFromIndexSize 16 = .ok (.iload_n 0, 1) := dk_26 (dk_at dksJ10_checkFromIndexSize_0 16 rfl rfl)
theorem dJ10_checkFromIndexSize_17 : decode cJ10_checkFromIndexSize 17 = .ok (.iload_n 1, 1) := dk_27 (dk_at dksJ10_checkFromIndexSize_0 17 rfl rfl)
theorem dJ10_checkFromIndexSize_18 : decode cJ10_checkFromIndexSize 18 = .ok (.iload_n 2, 1) := dk_28 (dk_at dksJ10_checkFromIndexSize_0 18 rfl rfl)
theorem dJ10_checkFromIndexSize_19 : decode cJ10_checkFromIndexSize 19 = .ok (.invokestatic 103, 3) := dk_184 0 103 (dk_at dksJ10_checkFromIndexSize_0 19 rfl rfl)
theorem dJ10_checkFromIndexSize_22 : decode cJ10_checkFromIndexSize 22 = .ok (.athrow, 1) := dk_191 (dk_at dksJ10_checkFromIndexSize_0 22 rfl rfl)
theorem dJ10_checkFromIndexSize_23 : decode cJ10_checkFromIndexSize 23 = .ok (.iload_n 0, 1) := dk_26 (dk_at dksJ10_checkFromIndexSize_0 23 rfl rfl)
theorem dJ10_checkFromIndexSize_24 : decode cJ10_checkFromIndexSize 24 = .ok (.ireturn, 1) := dk_172 (dk_at dksJ10_checkFromIndexSize_1 0 rfl rfl)
def tJ10_checkIndex : pb_T := [(0, .iload_n 0, 1, 0), (1, .ifCond .lt 8, 4, 9), (4, .iload_n 0, 5, 0), (5, .iload_n 1, 6, 0), (6, .if_icmp .lt 10, 9, 16), (9, .aload_n 2, 10, 0), (10, .iload_n 0, 11, 0), (11, .iload_n 1, 12, 0), (12, .invokestatic 95, 15, 0), (15, .athrow, 16, 0), (16, .iload_n 0, 17, 0), (17, .ireturn, 18, 0)]
theorem tJ10_checkIndex_ok : pb_Tok cJ10_checkIndex tJ10_checkIndex := pb_Tok.cons dJ10_checkIndex_0 rfl (pb_Tok.cons dJ10_checkIndex_1 rfl (pb_Tok.cons dJ10_checkIndex_4 rfl (pb_Tok.cons dJ10_checkIndex_5 rfl (pb_Tok.cons dJ10_checkIndex_6 rfl (pb_Tok.cons dJ10_checkIndex_9 rfl (pb_Tok.cons dJ10_checkIndex_10 rfl (pb_Tok.cons dJ10_checkIndex_11 rfl (pb_Tok.cons dJ10_checkIndex_12 rfl (pb_Tok.cons dJ10_checkIndex_15 rfl (pb_Tok.cons dJ10_checkIndex_16 rfl (pb_Tok.cons dJ10_checkIndex_17 rfl pb_Tok.nil)))))))))))
def tJ10_checkFromToIndex : pb_T := [(0, .iload_n 0, 1, 0), (1, .ifCond .lt 13, 4, 14), (4, .iload_n 0, 5, 0), (5, .iload_n 1, 6, 0), (6, .if_icmp .gt 8, 9, 14), (9, .iload_n 1, 10, 0), (10, .iload_n 2, 11, 0), (11, .if_icmp .le 11, 14, 22), (14, .aload_n 3, 15, 0), (15, .iload_n 0, 16, 0), (16, .iload_n 1, 17, 0), (17, .iload_n 2, 18, 0), (18, .invokestatic 99, 21, 0), (21, .athrow, 22, 0), (22, .iload_n 0, 23, 0), (23, .ireturn, 24, 0)]
theorem tJ10_checkFromToIndex_ok : pb_Tok cJ10_checkFromToIndex tJ10_checkFromToIndex := pb_Tok.cons dJ10_checkFromToIndex_0 rfl (pb_Tok.cons dJ10_checkFromToIndex_1 rfl (pb_Tok.cons dJ10_checkFromToIndex_4 rfl (pb_Tok.cons dJ10_checkFromToIndex_5 rfl (pb_Tok.cons dJ10_checkFromToIndex_6 rfl (pb_Tok.cons dJ10_checkFromToIndex_9 rfl (pb_Tok.cons dJ10_checkFromToIndex_10 rfl (pb_Tok.cons dJ10_checkFromToIndex_11 rfl (pb_Tok.cons dJ10_checkFromToIndex_14 rfl (pb_Tok.cons dJ10_checkFromToIndex_15 rfl (pb_Tok.cons dJ10_checkFromToIndex_16 rfl (pb_Tok.cons dJ10_checkFromToIndex_17 rfl (pb_Tok.cons dJ10_checkFromToIndex_18 rfl (pb_Tok.cons dJ10_checkFromToIndex_21 rfl (pb_Tok.cons dJ10_checkFromToIndex_22 rfl (pb_Tok.cons dJ10_checkFromToIndex_23 rfl pb_Tok.nil)))))))))))))))
def tJ10_checkFromIndexSize : pb_T := [(0, .iload_n 2, 1, 0), (1, .iload_n 0, 2, 0), (2, .ior, 3, 0), (3, .iload_n 1, 4, 0), (4, .ior, 5, 0), (5, .ifCond .lt 10, 8, 15), (8, .iload_n 1, 9, 0), (9, .iload_n 2, 10, 0), (10, .iload_n 0, 11, 0), (11, .isub, 12, 0), (12, .if_icmp .le 11, 15, 23), (15, .aload_n 3, 16, 0), (16, .iload_n 0, 17, 0), (17, .iload_n 1, 18, 0), (18, .iload_n 2, 19, 0), (19, .invokestatic 103, 22, 0), (22, .athrow, 23, 0), (23, .iload_n 0, 24, 0), (24, .ireturn, 25, 0)]
theorem tJ10_checkFromIndexSize_ok : pb_Tok cJ10_checkFromIndexSize tJ10_checkFromIndexSize := pb_Tok.cons dJ10_checkFromIndexSize_0 rfl (pb_Tok.cons dJ10_checkFromIndexSize_1 rfl (pb_Tok.cons dJ10_checkFromIndexSize_2 rfl (pb_Tok.cons dJ10_checkFromIndexSize_3 rfl (pb_Tok.cons dJ10_checkFromIndexSize_4 rfl (pb_Tok.cons dJ10_checkFromIndexSize_5 rfl (pb_Tok.cons dJ10_checkFromIndexSize_8 rfl (pb_Tok.cons dJ10_checkFromIndexSize_9 rfl (pb_Tok.cons dJ10_checkFromIndexSize_10 rfl (pb_Tok.cons dJ10_checkFromIndexSize_11 rfl (pb_Tok.cons dJ10_checkFromIndexSize_12 rfl (pb_Tok.cons dJ10_checkFromIndexSize_15 rfl (pb_Tok.cons dJ10_checkFromIndexSize_16 rfl (pb_Tok.cons dJ10_checkFromIndexSize_17 rfl (pb_Tok.cons dJ10_checkFromIndexSize_18 rfl (pb_Tok.cons dJ10_checkFromIndexSize_19 rfl (pb_Tok.cons dJ10_checkFromIndexSize_22 rfl (pb_Tok.cons dJ10_checkFromIndexSize_23 rfl (pb_Tok.cons dJ10_checkFromIndexSize_24 rfl pb_Tok.nil))))))))))))))))))
def dkwJ11_equals_0 : List UInt8 := [42, 43, 166, 0, 7, 4, 167, 0, 4, 3, 172]
abbrev dktJ11_equals_0 : List UInt8 := dkwJ11_equals_0 ++ []
theorem dksJ11_equals_0 : cJ11_equals.data.toList.drop 0 = dktJ11_equals_0 := by decide +kernel
theorem dJ11_equals_0 : decode cJ11_equals 0 = .ok (.aload_n 0, 1) := dk_42 (dk_at dksJ11_equals_0 0 rfl rfl)
theorem dJ11_equals_1 : decode cJ11_equals 1 = .ok (.aload_n 1, 1) := dk_43 (dk_at dksJ11_equals_0 1 rfl rfl)
theorem dJ11_equals_2 : decode cJ11_equals 2 = .ok (.if_acmp .ne 7, 3) := dk_166 0 7 (dk_at dksJ11_equals_0 2 rfl rfl)
theorem dJ11_equals_5 : decode cJ11_equals 5 = .ok (.iconst 1, 1) := dk_4 (dk_at dksJ11_equals_0 5 rfl rfl)
theorem dJ11_equals_6 : decode cJ11_equals 6 = .ok (.goto 4, 3) := dk_167 0 4 (dk_at dksJ11_equals_0 6 rfl rfl)
theorem dJ11_equals_9 : decode cJ11_equals 9 = .ok (.iconst 0, 1) := dk_3 (dk_at dksJ11_equals_0 9 rfl rfl)
theorem dJ11_equals_10 : decode cJ11_equals 10 = .ok (.ireturn, 1) := dk_172 (dk_at dksJ11_equals_0 10 rfl rfl)
theorem dJ11_ordinal_0 : decode cJ11_ordinal 0 = .ok (.aload_n 0, 1) := by decide +kernel
theorem dJ11_ordinal_1 : decode cJ11_ordinal 1 = .ok (.getfield 7, 3) := by decide +kernel
theorem dJ11_ordinal_4 : decode cJ11_ordinal 4 = .ok (.ireturn, 1) := by decide +kernel
def tJ11_equals : pb_T := [(0, .aload_n 0, 1, 0), (1, .aload_n 1, 2, 0), (2, .if_acmp .ne 7, 5, 9), (5, .iconst 1, 6, 0), (6, .goto 4, 9, 10), (9, .iconst 0, 10, 0), (10, .ireturn, 11, 0)]
theorem tJ11_equals_ok : pb_Tok cJ11_equals tJ11_equals := pb_Tok.cons dJ11_equals_0 rfl (pb_Tok.cons dJ11_equals_1 rfl (pb_Tok.cons dJ11_equals_2 rfl (pb_Tok.cons dJ11_equals_5 rfl (pb_Tok.cons dJ11_equals_6 rfl (pb_Tok.cons dJ11_equals_9 rfl (pb_Tok.cons dJ11_equals_10 rfl pb_Tok.nil))))))
def tJ11_ordinal : pb_T := [(0, .aload_n 0, 1, 0), (1, .getfield 7, 4, 0), (4, .ireturn, 5, 0)]
theorem tJ11_ordinal_ok : pb_Tok cJ11_ordinal tJ11_ordinal := pb_Tok.cons dJ11_ordinal_0 rfl (pb_Tok.cons dJ11_ordinal_1 rfl (pb_Tok.cons dJ11_ordinal_4 rfl pb_Tok.nil))
def dkwJ12_newLength_1 : List UInt8 := [184, 0, 201, 172]
abbrev dktJ12_newLength_1 : List UInt8 := dkwJ12_newLength_1 ++ []
def dkwJ12_newLength_0 : List UInt8 := [26, 27, 28, 184, 0, 194, 96, 62, 3, 29, 162, 0, 11, 29, 18, 200, 163, 0, 5, 29, 172, 26, 27]
abbrev dktJ12_newLength_0 : List UInt8 := dkwJ12_newLength_0 ++ dktJ12_newLength_1
theorem dksJ12_newLength_0 : cJ12_newLength.data.toList.drop 0 = dktJ12_newLength_0 := by decide +kernel
theorem dksJ12_newLength_1 : cJ12_newLength.data.toList.drop 23 = dktJ12_newLength_1 := dk_seg dksJ12_newLength_0 23 rfl rfl
theorem dJ12_newLength_0 : decode cJ12_newLength 0 = .ok (.iload_n 0, 1) := dk_26 (dk_at dksJ12_newLength_0 0 rfl rfl)
theorem dJ12_newLength_1 : decode cJ12_newLength 1 = .ok (.iload_n 1, 1) := dk_27 (dk_at dksJ12_newLength_0 1 rfl rfl)
theorem dJ12_newLength_2 : decode cJ12_newLength 2 = .ok (.iload_n 2, 1) := dk_28 (dk_at dksJ12_newLength_0 2 rfl rfl)
theorem dJ12_newLength_3 : decode cJ12_newLength 3 = .ok (.invokestatic 194, 3) := dk_184 0 194 (dk_at dksJ12_newLength_0 3 rfl rfl)
theorem dJ12_newLength_6 : decode cJ12_newLength 6 = .ok (.iadd, 1) := dk_96 (dk_at dksJ12_newLength_0 6 rfl rfl)
theorem dJ12_newLength_7 : decode cJ12_newLength 7 = .ok (.istore_n 3, 1) := dk_62 (dk_at dksJ12_newLength_0 7 rfl rfl)
theorem dJ12_newLength_8 : decode cJ12_newLength 8 = .ok (.iconst 0, 1) := dk_3 (dk_at dksJ12_newLength_0 8 rfl rfl)
theorem dJ12_newLength_9 : decode cJ12_newLength 9 = .ok (.iload_n 3, 1) := dk_29 (dk_at dksJ12_newLength_0 9 rfl rfl)
theorem dJ12_newLength_10 : decode cJ12_newLength 10 = .ok (.if_icmp .ge 11, 3) := dk_162 0 11 (dk_at dksJ12_newLength_0 10 rfl rfl)
theorem dJ12_newLength_13 : decode cJ12_newLength 13 = .ok (.iload_n 3, 1) := dk_29 (dk_at dksJ12_newLength_0 13 rfl rfl)
theorem dJ12_newLength_14 : decode cJ12_newLength 14 = .ok (.ldc 200, 2) := dk_18 200 (dk_at dksJ12_newLength_0 14 rfl rfl)
theorem dJ12_newLength_16 : decode cJ12_newLength 16 = .ok (.if_icmp .gt 5, 3) := dk_163 0 5 (dk_at dksJ12_newLength_0 16 rfl rfl)
theorem dJ12_newLength_19 : decode cJ12_newLength 19 = .ok (.iload_n 3, 1) := dk_29 (dk_at dksJ12_newLength_0 19 rfl rfl)
theorem dJ12_newLength_20 : decode cJ12_newLength 20 = .ok (.ireturn, 1) := dk_172 (dk_at dksJ12_newLength_0 20 rfl rfl)
theorem dJ12_newLength_21 : decode cJ12_newLength 21 = .ok (.iload_n 0, 1) := dk_26 (dk_at dksJ12_newLength_0 21 rfl rfl)
theorem dJ12_newLength_22 : decode cJ12_newLength 22 = .ok (.iload_n 1, 1) := dk_27 (dk_at dksJ12_newLength_0 22 rfl rfl)
theorem dJ12_newLength_23 : decode cJ12_newLength 23 = .ok (.invokestatic 201, 3) := dk_184 0 201 (dk_at dksJ12_newLength_1 0 rfl rfl)
theorem dJ12_newLength_26 : decode cJ12_newLength 26 = .ok (.ireturn, 1) := dk_172 (dk_at dksJ12_newLength_1 3 rfl rfl)
def dkwJ12_hugeLength_2 : List UInt8 := [191, 28, 18, 200, 163, 0, 6, 18, 200, 172, 28, 172]
abbrev dktJ12_hugeLength_2 : List UInt8 := dkwJ12_hugeLength_2 ++ []
def dkwJ12_hugeLength_1 : List UInt8 := [26, 182, 0, 98, 18, 208, 182, 0, 94, 27, 182, 0, 98, 18, 210, 182, 0, 94, 182, 0, 101, 183, 0, 212]
abbrev dktJ12_hugeLength_1 : List UInt8 := dkwJ12_hugeLength_1 ++ dktJ12_hugeLength_2
def dkwJ12_hugeLength_0 : List UInt8 := [26, 27, 96, 61, 28, 156, 0, 44, 187, 0, 204, 89, 187, 0, 89, 89, 183, 0, 91, 18, 206, 182, 0, 94]
abbrev dktJ12_hugeLength_0 : List UInt8 := dkwJ12_hugeLength_0 ++ dktJ12_hugeLength_1
theorem dksJ12_hugeLength_0 : cJ12_hugeLength.data.toList.drop 0 = dktJ12_hugeLength_0 := by decide +kernel
theorem dksJ12_hugeLength_1 : cJ12_hugeLength.data.toList.drop 24 = dktJ12_hugeLength_1 := dk_seg dksJ12_hugeLength_0 24 rfl rfl
theorem dksJ12_hugeLength_2 : cJ12_hugeLength.data.toList.drop 48 = dktJ12_hugeLength_2 := dk_seg dksJ12_hugeLength_1 24 rfl rfl
theorem dJ12_hugeLength_0 : decode cJ12_hugeLength 0 = .ok (.iload_n 0, 1) := dk_26 (dk_at dksJ12_hugeLength_0 0 rfl rfl)
theorem dJ12_hugeLength_1 : decode cJ12_hugeLength 1 = .ok (.iload_n 1, 1) := dk_27 (dk_at dksJ12_hugeLength_0 1 rfl rfl)
theorem dJ12_hugeLength_2 : decode cJ12_hugeLength 2 = .ok (.iadd, 1) := dk_96 (dk_at dksJ12_hugeLength_0 2 rfl rfl)
theorem dJ12_hugeLength_3 : decode cJ12_hugeLength 3 = .ok (.istore_n 2, 1) := dk_61 (dk_at dksJ12_hugeLength_0 3 rfl rfl)
theorem dJ12_hugeLength_4 : decode cJ12_hugeLength 4 = .ok (.iload_n 2, 1) := dk_28 (dk_at dksJ12_hugeLength_0 4 rfl rfl)
theorem dJ12_hugeLength_5 : decode cJ12_hugeLength 5 = .ok (.ifCond .ge 44, 3) := dk_156 0 44 (dk_at dksJ12_hugeLength_0 5 rfl rfl)
theorem dJ12_hugeLength_8 : decode cJ12_hugeLength 8 = .ok (.new 204, 3) := dk_187 0 204 (dk_at dksJ12_hugeLength_0 8 rfl rfl)
theorem dJ12_hugeLength_11 : decode cJ12_hugeLength 11 = .ok (.dup, 1) := dk_89 (dk_at dksJ12_hugeLength_0 11 rfl rfl)
theorem dJ12_hugeLength_12 : decode cJ12_hugeLength 12 = .ok (.new 89, 3) := dk_187 0 89 (dk_at dksJ12_hugeLength_0 12 rfl rfl)
theorem dJ12_hugeLength_15 : decode cJ12_hugeLength 15 = .ok (.dup, 1) := dk_89 (dk_at dksJ12_hugeLength_0 15 rfl rfl)
theorem dJ12_hugeLength_16 : decode cJ12_hugeLength 16 = .ok (.invokespecial 91, 3) := dk_183 0 91 (dk_at dksJ12_hugeLength_0 16 rfl rfl)
theorem dJ12_hugeLength_19 : decode cJ12_hugeLength 19 = .ok (.ldc 206, 2) := dk_18 206 (dk_at dksJ12_hugeLength_0 19 rfl rfl)
theorem dJ12_hugeLength_21 : decode cJ12_hugeLength 21 = .ok (.invokevirtual 94, 3) := dk_182 0 94 (dk_at dksJ12_hugeLength_0 21 rfl rfl)
theorem dJ12_hugeLength_24 : decode cJ12_hugeLength 24 = .ok (.iload_n 0, 1) := dk_26 (dk_at dksJ12_hugeLength_1 0 rfl rfl)
theorem dJ12_hugeLength_25 : decode cJ12_hugeLength 25 = .ok (.invokevirtual 98, 3) := dk_182 0 98 (dk_at dksJ12_hugeLength_1 1 rfl rfl)
theorem dJ12_hugeLength_28 : decode cJ12_hugeLength 28 = .ok (.ldc 208, 2) := dk_18 208 (dk_at dksJ12_hugeLength_1 4 rfl rfl)
theorem dJ12_hugeLength_30 : decode cJ12_hugeLength 30 = .ok (.invokevirtual 94, 3) := dk_182 0 94 (dk_at dksJ12_hugeLength_1 6 rfl rfl)
theorem dJ12_hugeLength_33 : decode cJ12_hugeLength 33 = .ok (.iload_n 1, 1) := dk_27 (dk_at dksJ12_hugeLength_1 9 rfl rfl)
theorem dJ12_hugeLength_34 : decode cJ12_hugeLength 34 = .ok (.invokevirtual 98, 3) := dk_182 0 98 (dk_at dksJ12_hugeLength_1 10 rfl rfl)
theorem dJ12_hugeLength_37 : decode cJ12_hugeLength 37 = .ok (.ldc 210, 2) := dk_18 210 (dk_at dksJ12_hugeLength_1 13 rfl rfl)
theorem dJ12_hugeLength_39 : decode cJ12_hugeLength 39 = .ok (.invokevirtual 94, 3) := dk_182 0 94 (dk_at dksJ12_hugeLength_1 15 rfl rfl)
theorem dJ12_hugeLength_42 : decode cJ12_hugeLength 42 = .ok (.invokevirtual 101, 3) := dk_182 0 101 (dk_at dksJ12_hugeLength_1 18 rfl rfl)
theorem dJ12_hugeLength_45 : decode cJ12_hugeLength 45 = .ok (.invokespecial 212, 3) := dk_183 0 212 (dk_at dksJ12_hugeLength_1 21 rfl rfl)
theorem dJ12_hugeLength_48 : decode cJ12_hugeLength 48 = .ok (.athrow, 1) := dk_191 (dk_at dksJ12_hugeLength_2 0 rfl rfl)
theorem dJ12_hugeLength_49 : decode cJ12_hugeLength 49 = .ok (.iload_n 2, 1) := dk_28 (dk_at dksJ12_hugeLength_2 1 rfl rfl)
theorem dJ12_hugeLength_50 : decode cJ12_hugeLength 50 = .ok (.ldc 200, 2) := dk_18 200 (dk_at dksJ12_hugeLength_2 2 rfl rfl)
theorem dJ12_hugeLength_52 : decode cJ12_hugeLength 52 = .ok (.if_icmp .gt 6, 3) := dk_163 0 6 (dk_at dksJ12_hugeLength_2 4 rfl rfl)
theorem dJ12_hugeLength_55 : decode cJ12_hugeLength 55 = .ok (.ldc 200, 2) := dk_18 200 (dk_at dksJ12_hugeLength_2 7 rfl rfl)
theorem dJ12_hugeLength_57 : decode cJ12_hugeLength 57 = .ok (.ireturn, 1) := dk_172 (dk_at dksJ12_hugeLength_2 9 rfl rfl)
theorem dJ12_hugeLength_58 : decode cJ12_hugeLength 58 = .ok (.iload_n 2, 1) := dk_28 (dk_at dksJ12_hugeLength_2 10 rfl rfl)
theorem dJ12_hugeLength_59 : decode cJ12_hugeLength 59 = .ok (.ireturn, 1) := dk_172 (dk_at dksJ12_hugeLength_2 11 rfl rfl)
def tJ12_newLength : pb_T := [(0, .iload_n 0, 1, 0), (1, .iload_n 1, 2, 0), (2, .iload_n 2, 3, 0), (3, .invokestatic 194, 6, 0), (6, .iadd, 7, 0), (7, .istore_n 3, 8, 0), (8, .iconst 0, 9, 0), (9, .iload_n 3, 10, 0), (10, .if_icmp .ge 11, 13, 21), (13, .iload_n 3, 14, 0), (14, .ldc 200, 16, 0), (16, .if_icmp .gt 5, 19, 21), (19, .iload_n 3, 20, 0), (20, .ireturn, 21, 0), (21, .iload_n 0, 22, 0), (22, .iload_n 1, 23, 0), (23, .invokestatic 201, 26, 0), (26, .ireturn, 27, 0)]
theorem tJ12_newLength_ok : pb_Tok cJ12_newLength tJ12_newLength := pb_Tok.cons dJ12_newLength_0 rfl (pb_Tok.cons dJ12_newLength_1 rfl (pb_Tok.cons dJ12_newLength_2 rfl (pb_Tok.cons dJ12_newLength_3 rfl (pb_Tok.cons dJ12_newLength_6 rfl (pb_Tok.cons dJ12_newLength_7 rfl (pb_Tok.cons dJ12_newLength_8 rfl (pb_Tok.cons dJ12_newLength_9 rfl (pb_Tok.cons dJ12_newLength_10 rfl (pb_Tok.cons dJ12_newLength_13 rfl (pb_Tok.cons dJ12_newLength_14 rfl (pb_Tok.cons dJ12_newLength_16 rfl (pb_Tok.cons dJ12_newLength_19 rfl (pb_Tok.cons dJ12_newLength_20 rfl (pb_Tok.cons dJ12_newLength_21 rfl (pb_Tok.cons dJ12_newLength_22 rfl (pb_Tok.cons dJ12_newLength_23 rfl (pb_Tok.cons dJ12_newLength_26 rfl pb_Tok.nil)))))))))))))))))
def tJ12_hugeLength : pb_T := [(0, .iload_n 0, 1, 0), (1, .iload_n 1, 2, 0), (2, .iadd, 3, 0), (3, .istore_n 2, 4, 0), (4, .iload_n 2, 5, 0), (5, .ifCond .ge 44, 8, 49), (8, .new 204, 11, 0), (11, .dup, 12, 0), (12, .new 89, 15, 0), (15, .dup, 16, 0), (16, .invokespecial 91, 19, 0), (19, .ldc 206, 21, 0), (21, .invokevirtual 94, 24, 0), (24, .iload_n 0, 25, 0), (25, .invokevirtual 98, 28, 0), (28, .ldc 208, 30, 0), (30, .invokevirtual 94, 33, 0), (33, .iload_n 1, 34, 0), (34, .invokevirtual 98, 37, 0), (37, .ldc 210, 39, 0), (39, .invokevirtual 94, 42, 0), (42, .invokevirtual 101, 45, 0), (45, .invokespecial 212, 48, 0), (48, .athrow, 49, 0), (49, .iload_n 2, 50, 0), (50, .ldc 200, 52, 0), (52, .if_icmp .gt 6, 55, 58), (55, .ldc 200, 57, 0), (57, .ireturn, 58, 0), (58, .iload_n 2, 59, 0), (59, .ireturn, 60, 0)]
theorem tJ12_hugeLength_ok : pb_Tok cJ12_hugeLength tJ12_hugeLength := pb_Tok.cons dJ12_hugeLength_0 rfl (pb_Tok.cons dJ12_hugeLength_1 rfl (pb_Tok.cons dJ12_hugeLength_2 rfl (pb_Tok.cons dJ12_hugeLength_3 rfl (pb_Tok.cons dJ12_hugeLength_4 rfl (pb_Tok.cons dJ12_hugeLength_5 rfl (pb_Tok.cons dJ12_hugeLength_8 rfl (pb_Tok.cons dJ12_hugeLength_11 rfl (pb_Tok.cons dJ12_hugeLength_12 rfl (pb_Tok.cons dJ12_hugeLength_15 rfl (pb_Tok.cons dJ12_hugeLength_16 rfl (pb_Tok.cons dJ12_hugeLength_19 rfl (pb_Tok.cons dJ12_hugeLength_21 rfl (pb_Tok.cons dJ12_hugeLength_24 rfl (pb_Tok.cons dJ12_hugeLength_25 rfl (pb_Tok.cons dJ12_hugeLength_28 rfl (pb_Tok.cons dJ12_hugeLength_30 rfl (pb_Tok.cons dJ12_hugeLength_33 rfl (pb_Tok.cons dJ12_hugeLength_34 rfl (pb_Tok.cons dJ12_hugeLength_37 rfl (pb_Tok.cons dJ12_hugeLength_39 rfl (pb_Tok.cons dJ12_hugeLength_42 rfl (pb_Tok.cons dJ12_hugeLength_45 rfl (pb_Tok.cons dJ12_hugeLength_48 rfl (pb_Tok.cons dJ12_hugeLength_49 rfl (pb_Tok.cons dJ12_hugeLength_50 rfl (pb_Tok.cons dJ12_hugeLength_52 rfl (pb_Tok.cons dJ12_hugeLength_55 rfl (pb_Tok.cons dJ12_hugeLength_57 rfl (pb_Tok.cons dJ12_hugeLength_58 rfl (pb_Tok.cons dJ12_hugeLength_59 rfl pb_Tok.nil))))))))))))))))))))))))))))))
def dkwJ13_copyOf_0 : List UInt8 := [42, 27, 42, 182, 0, 86, 184, 1, 44, 176]
abbrev dktJ13_copyOf_0 : List UInt8 := dkwJ13_copyOf_0 ++ []
theorem dksJ13_copyOf_0 : cJ13_copyOf.data.toList.drop 0 = dktJ13_copyOf_0 := by decide +kernel
theorem dJ13_copyOf_0 : decode cJ13_copyOf 0 = .ok (.aload_n 0, 1) := dk_42 (dk_at dksJ13_copyOf_0 0 rfl rfl)
theorem dJ13_copyOf_1 : decode cJ13_copyOf 1 = .ok (.iload_n 1, 1) := dk_27 (dk_at dksJ13_copyOf_0 1 rfl rfl)
theorem dJ13_copyOf_2 : decode cJ13_copyOf 2 = .ok (.aload_n 0, 1) := dk_42 (dk_at dksJ13_copyOf_0 2 rfl rfl)
theorem dJ13_copyOf_3 : decode cJ13_copyOf 3 = .ok (.invokevirtual 86, 3) := dk_182 0 86 (dk_at dksJ13_copyOf_0 3 rfl rfl)
theorem dJ13_copyOf_6 : decode cJ13_copyOf 6 = .ok (.invokestatic 300, 3) := dk_184 1 44 (dk_at dksJ13_copyOf_0 6 rfl rfl)
theorem dJ13_copyOf_9 : decode cJ13_copyOf 9 = .ok (.areturn, 1) := dk_176 (dk_at dksJ13_copyOf_0 9 rfl rfl)
def dkwJ13_copyOf_2_1 : List UInt8 := [78, 42, 3, 45, 3, 42, 190, 27, 184, 1, 48, 184, 0, 150, 45, 176]
abbrev dktJ13_copyOf_2_1 : List UInt8 := dkwJ13_copyOf_2_1 ++ []
def dkwJ13_copyOf_2_0 : List UInt8 := [44, 18, 110, 166, 0, 10, 27, 189, 0, 2, 167, 0, 14, 44, 182, 0, 90, 27, 184, 0, 95, 192, 0, 110]
abbrev dktJ13_copyOf_2_0 : List UInt8 := dkwJ13_copyOf_2_0 ++ dktJ13_copyOf_2_1
theorem dksJ13_copyOf_2_0 : cJ13_copyOf_2.data.toList.drop 0 = dktJ13_copyOf_2_0 := by decide +kernel
theorem dksJ13_copyOf_2_1 : cJ13_copyOf_2.data.toList.drop 24 = dktJ13_copyOf_2_1 := dk_seg dksJ13_copyOf_2_0 24 rfl rfl
theorem dJ13_copyOf_2_0 : decode cJ13_copyOf_2 0 = .ok (.aload_n 2, 1) := dk_44 (dk_at dksJ13_copyOf_2_0 0 rfl rfl)
theorem dJ13_copyOf_2_1 : decode cJ13_copyOf_2 1 = .ok (.ldc 110, 2) := dk_18 110 (dk_at dksJ13_copyOf_2_0 1 rfl rfl)
theorem dJ13_copyOf_2_3 : decode cJ13_copyOf_2 3 = .ok (.if_acmp .ne 10, 3) := dk_166 0 10 (dk_at dksJ13_copyOf_2_0 3 rfl rfl)
theorem dJ13_copyOf_2_6 : decode cJ13_copyOf_2 6 = .ok (.iload_n 1, 1) := dk_27 (dk_at dksJ13_copyOf_2_0 6 rfl rfl)
theorem dJ13_copyOf_2_7 : decode cJ13_copyOf_2 7 = .ok (.anewarray 2, 3) := dk_189 0 2 (dk_at dksJ13_copyOf_2_0 7 rfl rfl)
theorem dJ13_copyOf_2_10 : decode cJ13_copyOf_2 10 = .ok (.goto 14, 3) := dk_167 0 14 (dk_at dksJ13_copyOf_2_0 10 rfl rfl)
theorem dJ13_copyOf_2_13 : decode cJ13_copyOf_2 13 = .ok (.aload_n 2, 1) := dk_44 (dk_at dksJ13_copyOf_2_0 13 rfl rfl)
theorem dJ13_copyOf_2_14 : decode cJ13_copyOf_2 14 = .ok (.invokevirtual 90, 3) := dk_182 0 90 (dk_at dksJ13_copyOf_2_0 14 rfl rfl)
theorem dJ13_copyOf_2_17 : decode cJ13_copyOf_2 17 = .ok (.iload_n 1, 1) := dk_27 (dk_at dksJ13_copyOf_2_0 17 rfl rfl)
theorem dJ13_copyOf_2_18 : decode cJ13_copyOf_2 18 = .ok (.invokestatic 95, 3) := dk_184 0 95 (dk_at dksJ13_copyOf_2_0 18 rfl rfl)
theorem dJ13_copyOf_2_21 : decode cJ13_copyOf_2 21 = .ok (.checkcast 110, 3) := dk_192 0 110 (dk_at dksJ13_copyOf_2_0 21 rfl rfl)
theorem dJ13_copyOf_2_24 : decode cJ13_copyOf_2 24 = .ok (.astore_n 3, 1) := dk_78 (dk_at dksJ13_copyOf_2_1 0 rfl rfl)
theorem dJ13_copyOf_2_25 : decode cJ13_copyOf_2 25 = .ok (.aload_n 0, 1) := dk_42 (dk_at dksJ13_copyOf_2_1 1 rfl rfl)
theorem dJ13_copyOf_2_26 : decode cJ13_copyOf_2 26 = .ok (.iconst 0, 1) := dk_3 (dk_at dksJ13_copyOf_2_1 2 rfl rfl)
theorem dJ13_copyOf_2_27 : decode cJ13_copyOf_2 27 = .ok (.aload_n 3, 1) := dk_45 (dk_at dksJ13_copyOf_2_1 3 rfl rfl)
theorem dJ13_copyOf_2_28 : decode cJ13_copyOf_2 28 = .ok (.iconst 0, 1) := dk_3 (dk_at dksJ13_copyOf_2_1 4 rfl rfl)
theorem dJ13_copyOf_2_29 : decode cJ13_copyOf_2 29 = .ok (.aload_n 0, 1) := dk_42 (dk_at dksJ13_copyOf_2_1 5 rfl rfl)
theorem dJ13_copyOf_2_30 : decode cJ13_copyOf_2 30 = .ok (.arraylength, 1) := dk_190 (dk_at dksJ13_copyOf_2_1 6 rfl rfl)
theorem dJ13_copyOf_2_31 : decode cJ13_copyOf_2 31 = .ok (.iload_n 1, 1) := dk_27 (dk_at dksJ13_copyOf_2_1 7 rfl rfl)
theorem dJ13_copyOf_2_32 : decode cJ13_copyOf_2 32 = .ok (.invokestatic 304, 3) := dk_184 1 48 (dk_at dksJ13_copyOf_2_1 8 rfl rfl)
theorem dJ13_copyOf_2_35 : decode cJ13_copyOf_2 35 = .ok (.invokestatic 150, 3) := dk_184 0 150 (dk_at dksJ13_copyOf_2_1 11 rfl rfl)
theorem dJ13_copyOf_2_38 : decode cJ13_copyOf_2 38 = .ok (.aload_n 3, 1) := dk_45 (dk_at dksJ13_copyOf_2_1 14 rfl rfl)
theorem dJ13_copyOf_2_39 : decode cJ13_copyOf_2 39 = .ok (.areturn, 1) := dk_176 (dk_at dksJ13_copyOf_2_1 15 rfl rfl)
def dkwJ13_copyOf_3_1 : List UInt8 := [27, 184, 1, 48, 184, 0, 150, 44, 176]
abbrev dktJ13_copyOf_3_1 : List UInt8 := dkwJ13_copyOf_3_1 ++ []
def dkwJ13_copyOf_3_0 : List UInt8 := [27, 42, 190, 160, 0, 11, 42, 182, 1, 54, 192, 1, 55, 176, 27, 188, 8, 77, 42, 3, 44, 3, 42, 190]
abbrev dktJ13_copyOf_3_0 : List UInt8 := dkwJ13_copyOf_3_0 ++ dktJ13_copyOf_3_1
theorem dksJ13_copyOf_3_0 : cJ13_copyOf_3.data.toList.drop 0 = dktJ13_copyOf_3_0 := by decide +kernel
theorem dksJ13_copyOf_3_1 : cJ13_copyOf_3.data.toList.drop 24 = dktJ13_copyOf_3_1 := dk_seg dksJ13_copyOf_3_0 24 rfl rfl
theorem dJ13_copyOf_3_0 : decode cJ13_copyOf_3 0 = .ok (.iload_n 1, 1) := dk_27 (dk_at dksJ13_copyOf_3_0 0 rfl rfl)
theorem dJ13_copyOf_3_1 : decode cJ13_copyOf_3 1 = .ok (.aload_n 0, 1) := dk_42 (dk_at dksJ13_copyOf_3_0 1 rfl rfl)
theorem dJ13_copyOf_3_2 : decode cJ13_copyOf_3 2 = .ok (.arraylength, 1) := dk_190 (dk_at dksJ13_copyOf_3_0 2 rfl rfl)
theorem dJ13_copyOf_3_3 : decode cJ13_copyOf_3 3 = .ok (.if_icmp .ne 11, 3) := dk_160 0 11 (dk_at dksJ13_copyOf_3_0 3 rfl rfl)
theorem dJ13_copyOf_3_6 : decode cJ13_copyOf_3 6 = .ok (.aload_n 0, 1) := dk_42 (dk_at dksJ13_copyOf_3_0 6 rfl rfl)
theorem dJ13_copyOf_3_7 : decode cJ13_copyOf_3 7 = .ok (.invokevirtual 310, 3) := dk_182 1 54 (dk_at dksJ13_copyOf_3_0 7 rfl rfl)
theorem dJ13_copyOf_3_10 : decode cJ13_copyOf_3 10 = .ok (.checkcast 311, 3) := dk_192 1 55 (dk_at dksJ13_copyOf_3_0 10 rfl rfl)
theorem dJ13_copyOf_3_13 : decode cJ13_copyOf_3 13 = .ok (.areturn, 1) := dk_176 (dk_at dksJ13_copyOf_3_0 13 rfl rfl)
theorem dJ13_copyOf_3_14 : decode cJ13_copyOf_3 14 = .ok (.iload_n 1, 1) := dk_27 (dk_at dksJ13_copyOf_3_0 14 rfl rfl)
theorem dJ13_copyOf_3_15 : decode cJ13_copyOf_3 15 = .ok (.newarray .byte, 2) := dk_188_8 (dk_at dksJ13_copyOf_3_0 15 rfl rfl)
theorem dJ13_copyOf_3_17 : decode cJ13_copyOf_3 17 = .ok (.astore_n 2, 1) := dk_77 (dk_at dksJ13_copyOf_3_0 17 rfl rfl)
theorem dJ13_copyOf_3_18 : decode cJ13_copyOf_3 18 = .ok (.aload_n 0, 1) := dk_42 (dk_at dksJ13_copyOf_3_0 18 rfl rfl)
theorem dJ13_copyOf_3_19 : decode cJ13_copyOf_3 19 = .ok (.iconst 0, 1) := dk_3 (dk_at dksJ13_copyOf_3_0 19 rfl rfl)
theorem dJ13_copyOf_3_20 : decode cJ13_copyOf_3 20 = .ok (.aload_n 2, 1) := dk_44 (dk_at dksJ13_copyOf_3_0 20 rfl rfl)
theorem dJ13_copyOf_3_21 : decode cJ13_copyOf_3 21 = .ok (.iconst 0, 1) := dk_3 (dk_at dksJ13_copyOf_3_0 21 rfl rfl)
theorem dJ13_copyOf_3_22 : decode cJ13_copyOf_3 22 = .ok (.aload_n 0, 1) := dk_42 (dk_at dksJ13_copyOf_3_0 22 rfl rfl)
theorem dJ13_copyOf_3_23 : decode cJ13_copyOf_3 23 = .ok (.arraylength, 1) := dk_190 (dk_at dksJ13_copyOf_3_0 23 rfl rfl)
theorem dJ13_copyOf_3_24 : decode cJ13_copyOf_3 24 = .ok (.iload_n 1, 1) := dk_27 (dk_at dksJ13_copyOf_3_1 0 rfl rfl)
theorem dJ13_copyOf_3_25 : decode cJ13_copyOf_3 25 = .ok (.invokestatic 304, 3) := dk_184 1 48 (dk_at dksJ13_copyOf_3_1 1 rfl rfl)
theorem dJ13_copyOf_3_28 : decode cJ13_copyOf_3 28 = .ok (.invokestatic 150, 3) := dk_184 0 150 (dk_at dksJ13_copyOf_3_1 4 rfl rfl)
theorem dJ13_copyOf_3_31 : decode cJ13_copyOf_3 31 = .ok (.aload_n 2, 1) := dk_44 (dk_at dksJ13_copyOf_3_1 7 rfl rfl)
theorem dJ13_copyOf_3_32 : decode cJ13_copyOf_3 32 = .ok (.areturn, 1) := dk_176 (dk_at dksJ13_copyOf_3_1 8 rfl rfl)
def dkwJ13_copyOfRange_1 : List UInt8 := [176]
abbrev dktJ13_copyOfRange_1 : List UInt8 := dkwJ13_copyOfRange_1 ++ []
def dkwJ13_copyOfRange_0 : List UInt8 := [27, 154, 0, 9, 28, 42, 190, 159, 0, 10, 42, 27, 28, 184, 1, 83, 176, 42, 182, 1, 54, 192, 1, 55]
abbrev dktJ13_copyOfRange_0 : List UInt8 := dkwJ13_copyOfRange_0 ++ dktJ13_copyOfRange_1
theorem dksJ13_copyOfRange_0 : cJ13_copyOfRange.data.toList.drop 0 = dktJ13_copyOfRange_0 := by decide +kernel
theorem dksJ13_copyOfRange_1 : cJ13_copyOfRange.data.toList.drop 24 = dktJ13_copyOfRange_1 := dk_seg dksJ13_copyOfRange_0 24 rfl rfl
theorem dJ13_copyOfRange_0 : decode cJ13_copyOfRange 0 = .ok (.iload_n 1, 1) := dk_27 (dk_at dksJ13_copyOfRange_0 0 rfl rfl)
theorem dJ13_copyOfRange_1 : decode cJ13_copyOfRange 1 = .ok (.ifCond .ne 9, 3) := dk_154 0 9 (dk_at dksJ13_copyOfRange_0 1 rfl rfl)
theorem dJ13_copyOfRange_4 : decode cJ13_copyOfRange 4 = .ok (.iload_n 2, 1) := dk_28 (dk_at dksJ13_copyOfRange_0 4 rfl rfl)
theorem dJ13_copyOfRange_5 : decode cJ13_copyOfRange 5 = .ok (.aload_n 0, 1) := dk_42 (dk_at dksJ13_copyOfRange_0 5 rfl rfl)
theorem dJ13_copyOfRange_6 : decode cJ13_copyOfRange 6 = .ok (.arraylength, 1) := dk_190 (dk_at dksJ13_copyOfRange_0 6 rfl rfl)
theorem dJ13_copyOfRange_7 : decode cJ13_copyOfRange 7 = .ok (.if_icmp .eq 10, 3) := dk_159 0 10 (dk_at dksJ13_copyOfRange_0 7 rfl rfl)
theorem dJ13_copyOfRange_10 : decode cJ13_copyOfRange 10 = .ok (.aload_n 0, 1) := dk_42 (dk_at dksJ13_copyOfRange_0 10 rfl rfl)
theorem dJ13_copyOfRange_11 : decode cJ13_copyOfRange 11 = .ok (.iload_n 1, 1) := dk_27 (dk_at dksJ13_copyOfRange_0 11 rfl rfl)
theorem dJ13_copyOfRange_12 : decode cJ13_copyOfRange 12 = .ok (.iload_n 2, 1) := dk_28 (dk_at dksJ13_copyOfRange_0 12 rfl rfl)
theorem dJ13_copyOfRange_13 : decode cJ13_copyOfRange 13 = .ok (.invokestatic 339, 3) := dk_184 1 83 (dk_at dksJ13_copyOfRange_0 13 rfl rfl)
theorem dJ13_copyOfRange_16 : decode cJ13_copyOfRange 16 = .ok (.areturn, 1) := dk_176 (dk_at dksJ13_copyOfRange_0 16 rfl rfl)
theorem dJ13_copyOfRange_17 : decode cJ13_copyOfRange 17 = .ok (.aload_n 0, 1) := dk_42 (dk_at dksJ13_copyOfRange_0 17 rfl rfl)
theorem dJ13_copyOfRange_18 : decode cJ13_copyOfRange 18 = .ok (.invokevirtual 310, 3) := dk_182 1 54 (dk_at dksJ13_copyOfRange_0 18 rfl rfl)
theorem dJ13_copyOfRange_21 : decode cJ13_copyOfRange 21 = .ok (.checkcast 311, 3) := dk_192 1 55 (dk_at dksJ13_copyOfRange_0 21 rfl rfl)
theorem dJ13_copyOfRange_24 : decode cJ13_copyOfRange 24 = .ok (.areturn, 1) := dk_176 (dk_at dksJ13_copyOfRange_1 0 rfl rfl)
def dkwJ13_copyOfRangeByte_1 : List UInt8 := [184, 1, 48, 184, 0, 150, 25, 4, 176]
abbrev dktJ13_copyOfRangeByte_1 : List UInt8 := dkwJ13_copyOfRangeByte_1 ++ []
def dkwJ13_copyOfRangeByte_0 : List UInt8 := [27, 28, 184, 1, 87, 28, 27, 100, 62, 29, 188, 8, 58, 4, 42, 27, 25, 4, 3, 42, 190, 27, 100, 29]
abbrev dktJ13_copyOfRangeByte_0 : List UInt8 := dkwJ13_copyOfRangeByte_0 ++ dktJ13_copyOfRangeByte_1
theorem dksJ13_copyOfRangeByte_0 : cJ13_copyOfRangeByte.data.toList.drop 0 = dktJ13_copyOfRangeByte_0 := by decide +kernel
theorem dksJ13_copyOfRangeByte_1 : cJ13_copyOfRangeByte.data.toList.drop 24 = dktJ13_copyOfRangeByte_1 := dk_seg dksJ13_copyOfRangeByte_0 24 rfl rfl
theorem dJ13_copyOfRangeByte_0 : decode cJ13_copyOfRangeByte 0 = .ok (.iload_n 1, 1) := dk_27 (dk_at dksJ13_copyOfRangeByte_0 0 rfl rfl)
theorem dJ13_copyOfRangeByte_1 : decode cJ13_copyOfRangeByte 1 = .ok (.iload_n 2, 1) := dk_28 (dk_at dksJ13_copyOfRangeByte_0 1 rfl rfl)
theorem dJ13_copyOfRangeByte_2 : decode cJ13_copyOfRangeByte 2 = .ok (.invokestatic 343, 3) := dk_184 1 87 (dk_at dksJ13_copyOfRangeByte_0 2 rfl rfl)
theorem dJ13_copyOfRangeByte_5 : decode cJ13_copyOfRangeByte 5 = .ok (.iload_n 2, 1) := dk_28 (dk_at dksJ13_copyOfRangeByte_0 5 rfl rfl)
theorem dJ13_copyOfRangeByte_6 : decode cJ13_copyOfRangeByte 6 = .ok (.iload_n 1, 1) := dk_27 (dk_at dksJ13_copyOfRangeByte_0 6 rfl rfl)
theorem dJ13_copyOfRangeByte_7 : decode cJ13_copyOfRangeByte 7 = .ok (.isub, 1) := dk_100 (dk_at dksJ13_copyOfRangeByte_0 7 rfl rfl)
theorem dJ13_copyOfRangeByte_8 : decode cJ13_copyOfRangeByte 8 = .ok (.istore_n 3, 1) := dk_62 (dk_at dksJ13_copyOfRangeByte_0 8 rfl rfl)
theorem dJ13_copyOfRangeByte_9 : decode cJ13_copyOfRangeByte 9 = .ok (.iload_n 3, 1) := dk_29 (dk_at dksJ13_copyOfRangeByte_0 9 rfl rfl)
theorem dJ13_copyOfRangeByte_10 : decode cJ13_copyOfRangeByte 10 = .ok (.newarray .byte, 2) := dk_188_8 (dk_at dksJ13_copyOfRangeByte_0 10 rfl rfl)
theorem dJ13_copyOfRangeByte_12 : decode cJ13_copyOfRangeByte 12 = .ok (.astore 4, 2) := dk_58 4 (dk_at dksJ13_copyOfRangeByte_0 12 rfl rfl)
theorem dJ13_copyOfRangeByte_14 : decode cJ13_copyOfRangeByte 14 = .ok (.aload_n 0, 1) := dk_42 (dk_at dksJ13_copyOfRangeByte_0 14 rfl rfl)
theorem dJ13_copyOfRangeByte_15 : decode cJ13_copyOfRangeByte 15 = .ok (.iload_n 1, 1) := dk_27 (dk_at dksJ13_copyOfRangeByte_0 15 rfl rfl)
theorem dJ13_copyOfRangeByte_16 : decode cJ13_copyOfRangeByte 16 = .ok (.aload 4, 2) := dk_25 4 (dk_at dksJ13_copyOfRangeByte_0 16 rfl rfl)
theorem dJ13_copyOfRangeByte_18 : decode cJ13_copyOfRangeByte 18 = .ok (.iconst 0, 1) := dk_3 (dk_at dksJ13_copyOfRangeByte_0 18 rfl rfl)
theorem dJ13_copyOfRangeByte_19 : decode cJ13_copyOfRangeByte 19 = .ok (.aload_n 0, 1) := dk_42 (dk_at dksJ13_copyOfRangeByte_0 19 rfl rfl)
theorem dJ13_copyOfRangeByte_20 : decode cJ13_copyOfRangeByte 20 = .ok (.arraylength, 1) := dk_190 (dk_at dksJ13_copyOfRangeByte_0 20 rfl rfl)
theorem dJ13_copyOfRangeByte_21 : decode cJ13_copyOfRangeByte 21 = .ok (.iload_n 1, 1) := dk_27 (dk_at dksJ13_copyOfRangeByte_0 21 rfl rfl)
theorem dJ13_copyOfRangeByte_22 : decode cJ13_copyOfRangeByte 22 = .ok (.isub, 1) := dk_100 (dk_at dksJ13_copyOfRangeByte_0 22 rfl rfl)
theorem dJ13_copyOfRangeByte_23 : decode cJ13_copyOfRangeByte 23 = .ok (.iload_n 3, 1) := dk_29 (dk_at dksJ13_copyOfRangeByte_0 23 rfl rfl)
theorem dJ13_copyOfRangeByte_24 : decode cJ13_copyOfRangeByte 24 = .ok (.invokestatic 304, 3) := dk_184 1 48 (dk_at dksJ13_copyOfRangeByte_1 0 rfl rfl)
theorem dJ13_copyOfRangeByte_27 : decode cJ13_copyOfRangeByte 27 = .ok (.invokestatic 150, 3) := dk_184 0 150 (dk_at dksJ13_copyOfRangeByte_1 3 rfl rfl)
theorem dJ13_copyOfRangeByte_30 : decode cJ13_copyOfRangeByte 30 = .ok (.aload 4, 2) := dk_25 4 (dk_at dksJ13_copyOfRangeByte_1 6 rfl rfl)
theorem dJ13_copyOfRangeByte_32 : decode cJ13_copyOfRangeByte 32 = .ok (.areturn, 1) := dk_176 (dk_at dksJ13_copyOfRangeByte_1 8 rfl rfl)
def dkwJ13_checkLength_1 : List UInt8 := [182, 0, 50, 27, 182, 0, 54, 182, 0, 61, 183, 0, 65, 191, 177]
abbrev dktJ13_checkLength_1 : List UInt8 := dkwJ13_checkLength_1 ++ []
def dkwJ13_checkLength_0 : List UInt8 := [27, 26, 162, 0, 35, 187, 0, 43, 89, 187, 0, 45, 89, 183, 0, 47, 26, 182, 0, 54, 19, 1, 81]
abbrev dktJ13_checkLength_0 : List UInt8 := dkwJ13_checkLength_0 ++ dktJ13_checkLength_1
theorem dksJ13_checkLength_0 : cJ13_checkLength.data.toList.drop 0 = dktJ13_checkLength_0 := by decide +kernel
theorem dksJ13_checkLength_1 : cJ13_checkLength.data.toList.drop 23 = dktJ13_checkLength_1 := dk_seg dksJ13_checkLength_0 23 rfl rfl
theorem dJ13_checkLength_0 : decode cJ13_checkLength 0 = .ok (.iload_n 1, 1) := dk_27 (dk_at dksJ13_checkLength_0 0 rfl rfl)
theorem dJ13_checkLength_1 : decode cJ13_checkLength 1 = .ok (.iload_n 0, 1) := dk_26 (dk_at dksJ13_checkLength_0 1 rfl rfl)
theorem dJ13_checkLength_2 : decode cJ13_checkLength 2 = .ok (.if_icmp .ge 35, 3) := dk_162 0 35 (dk_at dksJ13_checkLength_0 2 rfl rfl)
theorem dJ13_checkLength_5 : decode cJ13_checkLength 5 = .ok (.new 43, 3) := dk_187 0 43 (dk_at dksJ13_checkLength_0 5 rfl rfl)
theorem dJ13_checkLength_8 : decode cJ13_checkLength 8 = .ok (.dup, 1) := dk_89 (dk_at dksJ13_checkLength_0 8 rfl rfl)
theorem dJ13_checkLength_9 : decode cJ13_checkLength 9 = .ok (.new 45, 3) := dk_187 0 45 (dk_at dksJ13_checkLength_0 9 rfl rfl)
theorem dJ13_checkLength_12 : decode cJ13_checkLength 12 = .ok (.dup, 1) := dk_89 (dk_at dksJ13_checkLength_0 12 rfl rfl)
theorem dJ13_checkLength_13 : decode cJ13_checkLength 13 = .ok (.invokespecial 47, 3) := dk_183 0 47 (dk_at dksJ13_checkLength_0 13 rfl rfl)
theorem dJ13_checkLength_16 : decode cJ13_checkLength 16 = .ok (.iload_n 0, 1) := dk_26 (dk_at dksJ13_checkLength_0 16 rfl rfl)
theorem dJ13_checkLength_17 : decode cJ13_checkLength 17 = .ok (.invokevirtual 54, 3) := dk_182 0 54 (dk_at dksJ13_checkLength_0 17 rfl rfl)
theorem dJ13_checkLength_20 : decode cJ13_checkLength 20 = .ok (.ldc_w 337, 3) := dk_19 1 81 (dk_at dksJ13_checkLength_0 20 rfl rfl)
theorem dJ13_checkLength_23 : decode cJ13_checkLength 23 = .ok (.invokevirtual 50, 3) := dk_182 0 50 (dk_at dksJ13_checkLength_1 0 rfl rfl)
theorem dJ13_checkLength_26 : decode cJ13_checkLength 26 = .ok (.iload_n 1, 1) := dk_27 (dk_at dksJ13_checkLength_1 3 rfl rfl)
theorem dJ13_checkLength_27 : decode cJ13_checkLength 27 = .ok (.invokevirtual 54, 3) := dk_182 0 54 (dk_at dksJ13_checkLength_1 4 rfl rfl)
theorem dJ13_checkLength_30 : decode cJ13_checkLength 30 = .ok (.invokevirtual 61, 3) := dk_182 0 61 (dk_at dksJ13_checkLength_1 7 rfl rfl)
theorem dJ13_checkLength_33 : decode cJ13_checkLength 33 = .ok (.invokespecial 65, 3) := dk_183 0 65 (dk_at dksJ13_checkLength_1 10 rfl rfl)
theorem dJ13_checkLength_36 : decode cJ13_checkLength 36 = .ok (.athrow, 1) := dk_191 (dk_at dksJ13_checkLength_1 13 rfl rfl)
theorem dJ13_checkLength_37 : decode cJ13_checkLength 37 = .ok (.return_, 1) := dk_177 (dk_at dksJ13_checkLength_1 14 rfl rfl)
def dkwJ13_fill_1 : List UInt8 := [167, 255, 242, 177]
abbrev dktJ13_fill_1 : List UInt8 := dkwJ13_fill_1 ++ []
def dkwJ13_fill_0 : List UInt8 := [42, 190, 27, 28, 184, 0, 13, 27, 54, 4, 21, 4, 28, 162, 0, 14, 42, 21, 4, 29, 84, 132, 4, 1]
abbrev dktJ13_fill_0 : List UInt8 := dkwJ13_fill_0 ++ dktJ13_fill_1
theorem dksJ13_fill_0 : cJ13_fill.data.toList.drop 0 = dktJ13_fill_0 := by decide +kernel
theorem dksJ13_fill_1 : cJ13_fill.data.toList.drop 24 = dktJ13_fill_1 := dk_seg dksJ13_fill_0 24 rfl rfl
theorem dJ13_fill_0 : decode cJ13_fill 0 = .ok (.aload_n 0, 1) := dk_42 (dk_at dksJ13_fill_0 0 rfl rfl)
theorem dJ13_fill_1 : decode cJ13_fill 1 = .ok (.arraylength, 1) := dk_190 (dk_at dksJ13_fill_0 1 rfl rfl)
theorem dJ13_fill_2 : decode cJ13_fill 2 = .ok (.iload_n 1, 1) := dk_27 (dk_at dksJ13_fill_0 2 rfl rfl)
theorem dJ13_fill_3 : decode cJ13_fill 3 = .ok (.iload_n 2, 1) := dk_28 (dk_at dksJ13_fill_0 3 rfl rfl)
theorem dJ13_fill_4 : decode cJ13_fill 4 = .ok (.invokestatic 13, 3) := dk_184 0 13 (dk_at dksJ13_fill_0 4 rfl rfl)
theorem dJ13_fill_7 : decode cJ13_fill 7 = .ok (.iload_n 1, 1) := dk_27 (dk_at dksJ13_fill_0 7 rfl rfl)
theorem dJ13_fill_8 : decode cJ13_fill 8 = .ok (.istore 4, 2) := dk_54 4 (dk_at dksJ13_fill_0 8 rfl rfl)
theorem dJ13_fill_10 : decode cJ13_fill 10 = .ok (.iload 4, 2) := dk_21 4 (dk_at dksJ13_fill_0 10 rfl rfl)
theorem dJ13_fill_12 : decode cJ13_fill 12 = .ok (.iload_n 2, 1) := dk_28 (dk_at dksJ13_fill_0 12 rfl rfl)
theorem dJ13_fill_13 : decode cJ13_fill 13 = .ok (.if_icmp .ge 14, 3) := dk_162 0 14 (dk_at dksJ13_fill_0 13 rfl rfl)
theorem dJ13_fill_16 : decode cJ13_fill 16 = .ok (.aload_n 0, 1) := dk_42 (dk_at dksJ13_fill_0 16 rfl rfl)
theorem dJ13_fill_17 : decode cJ13_fill 17 = .ok (.iload 4, 2) := dk_21 4 (dk_at dksJ13_fill_0 17 rfl rfl)
theorem dJ13_fill_19 : decode cJ13_fill 19 = .ok (.iload_n 3, 1) := dk_29 (dk_at dksJ13_fill_0 19 rfl rfl)
theorem dJ13_fill_20 : decode cJ13_fill 20 = .ok (.bastore, 1) := dk_84 (dk_at dksJ13_fill_0 20 rfl rfl)
theorem dJ13_fill_21 : decode cJ13_fill 21 = .ok (.iinc 4 1, 3) := dk_132 4 1 (dk_at dksJ13_fill_0 21 rfl rfl)
theorem dJ13_fill_24 : decode cJ13_fill 24 = .ok (.goto (-14), 3) := dk_167 255 242 (dk_at dksJ13_fill_1 0 rfl rfl)
theorem dJ13_fill_27 : decode cJ13_fill 27 = .ok (.return_, 1) := dk_177 (dk_at dksJ13_fill_1 3 rfl rfl)
def dkwJ13_rangeCheck_3 : List UInt8 := [183, 0, 70, 191, 177]
abbrev dktJ13_rangeCheck_3 : List UInt8 := dkwJ13_rangeCheck_3 ++ []
def dkwJ13_rangeCheck_2 : List UInt8 := [27, 156, 0, 12, 187, 0, 68, 89, 27, 183, 0, 70, 191, 28, 26, 164, 0, 12, 187, 0, 68, 89, 28]
abbrev dktJ13_rangeCheck_2 : List UInt8 := dkwJ13_rangeCheck_2 ++ dktJ13_rangeCheck_3
def dkwJ13_rangeCheck_1 : List UInt8 := [182, 0, 54, 18, 57, 182, 0, 50, 28, 182, 0, 54, 18, 59, 182, 0, 50, 182, 0, 61, 183, 0, 65, 191]
abbrev dktJ13_rangeCheck_1 : List UInt8 := dkwJ13_rangeCheck_1 ++ dktJ13_rangeCheck_2
def dkwJ13_rangeCheck_0 : List UInt8 := [27, 28, 164, 0, 44, 187, 0, 43, 89, 187, 0, 45, 89, 183, 0, 47, 18, 48, 182, 0, 50, 27]
abbrev dktJ13_rangeCheck_0 : List UInt8 := dkwJ13_rangeCheck_0 ++ dktJ13_rangeCheck_1
theorem dksJ13_rangeCheck_0 : cJ13_rangeCheck.data.toList.drop 0 = dktJ13_rangeCheck_0 := by decide +kernel
theorem dksJ13_rangeCheck_1 : cJ13_rangeCheck.data.toList.drop 22 = dktJ13_rangeCheck_1 := dk_seg dksJ13_rangeCheck_0 22 rfl rfl
theorem dksJ13_rangeCheck_2 : cJ13_rangeCheck.data.toList.drop 46 = dktJ13_rangeCheck_2 := dk_seg dksJ13_rangeCheck_1 24 rfl rfl
theorem dksJ13_rangeCheck_3 : cJ13_rangeCheck.data.toList.drop 69 = dktJ13_rangeCheck_3 := dk_seg dksJ13_rangeCheck_2 23 rfl rfl
theorem dJ13_rangeCheck_0 : decode cJ13_rangeCheck 0 = .ok (.iload_n 1, 1) := dk_27 (dk_at dksJ13_rangeCheck_0 0 rfl rfl)
theorem dJ13_rangeCheck_1 : decode cJ13_rangeCheck 1 = .ok (.iload_n 2, 1) := dk_28 (dk_at dksJ13_rangeCheck_0 1 rfl rfl)
theorem dJ13_rangeCheck_2 : decode cJ13_rangeCheck 2 = .ok (.if_icmp .le 44, 3) := dk_164 0 44 (dk_at dksJ13_rangeCheck_0 2 rfl rfl)
theorem dJ13_rangeCheck_5 : decode cJ13_rangeCheck 5 = .ok (.new 43, 3) := dk_187 0 43 (dk_at dksJ13_rangeCheck_0 5 rfl rfl)
theorem dJ13_rangeCheck_8 : decode cJ13_rangeCheck 8 = .ok (.dup, 1) := dk_89 (dk_at dksJ13_rangeCheck_0 8 rfl rfl)
theorem dJ13_rangeCheck_9 : decode cJ13_rangeCheck 9 = .ok (.new 45, 3) := dk_187 0 45 (dk_at dksJ13_rangeCheck_0 9 rfl rfl)
theorem dJ13_rangeCheck_12 : decode cJ13_rangeCheck 12 = .ok (.dup, 1) := dk_89 (dk_at dksJ13_rangeCheck_0 12 rfl rfl)
theorem dJ13_rangeCheck_13 : decode cJ13_rangeCheck 13 = .ok (.invokespecial 47, 3) := dk_183 0 47 (dk_at dksJ13_rangeCheck_0 13 rfl rfl)
theorem dJ13_rangeCheck_16 : decode cJ13_rangeCheck 16 = .ok (.ldc 48, 2) := dk_18 48 (dk_at dksJ13_rangeCheck_0 16 rfl rfl)
theorem dJ13_rangeCheck_18 : decode cJ13_rangeCheck 18 = .ok (.invokevirtual 50, 3) := dk_182 0 50 (dk_at dksJ13_rangeCheck_0 18 rfl rfl)
theorem dJ13_rangeCheck_21 : decode cJ13_rangeCheck 21 = .ok (.iload_n 1, 1) := dk_27 (dk_at dksJ13_rangeCheck_0 21 rfl rfl)
theorem dJ13_rangeCheck_22 : decode cJ13_rangeCheck 22 = .ok (.invokevirtual 54, 3) := dk_182 0 54 (dk_at dksJ13_rangeCheck_1 0 rfl rfl)
theorem dJ13_rangeCheck_25 : decode cJ13_rangeCheck 25 = .ok (.ldc 57, 2) := dk_18 57 (dk_at dksJ13_rangeCheck_1 3 rfl rfl)
theorem dJ13_rangeCheck_27 : decode cJ13_rangeCheck 27 = .ok (.invokevirtual 50, 3) := dk_182 0 50 (dk_at dksJ13_rangeCheck_1 5 rfl rfl)
theorem dJ13_rangeCheck_30 : decode cJ13_rangeCheck 30 = .ok (.iload_n 2, 1) := dk_28 (dk_at dksJ13_rangeCheck_1 8 rfl rfl)
theorem dJ13_rangeCheck_31 : decode cJ13_rangeCheck 31 = .ok (.invokevirtual 54, 3) := dk_182 0 54 (dk_at dksJ13_rangeCheck_1 9 rfl rfl)
theorem dJ13_rangeCheck_34 : decode cJ13_rangeCheck 34 = .ok (.ldc 59, 2) := dk_18 59 (dk_at dksJ13_rangeCheck_1 12 rfl rfl)
theorem dJ13_rangeCheck_36 : decode cJ13_rangeCheck 36 = .ok (.invokevirtual 50, 3) := dk_182 0 50 (dk_at dksJ13_rangeCheck_1 14 rfl rfl)
theorem dJ13_rangeCheck_39 : decode cJ13_rangeCheck 39 = .ok (.invokevirtual 61, 3) := dk_182 0 61 (dk_at dksJ13_rangeCheck_1 17 rfl rfl)
theorem dJ13_rangeCheck_42 : decode cJ13_rangeCheck 42 = .ok (.invokespecial 65, 3) := dk_183 0 65 (dk_at dksJ13_rangeCheck_1 20 rfl rfl)
theorem dJ13_rangeCheck_45 : decode cJ13_rangeCheck 45 = .ok (.athrow, 1) := dk_191 (dk_at dksJ13_rangeCheck_1 23 rfl rfl)
theorem dJ13_rangeCheck_46 : decode cJ13_rangeCheck 46 = .ok (.iload_n 1, 1) := dk_27 (dk_at dksJ13_rangeCheck_2 0 rfl rfl)
theorem dJ13_rangeCheck_47 : decode cJ13_rangeCheck 47 = .ok (.ifCond .ge 12, 3) := dk_156 0 12 (dk_at dksJ13_rangeCheck_2 1 rfl rfl)
theorem dJ13_rangeCheck_50 : decode cJ13_rangeCheck 50 = .ok (.new 68, 3) := dk_187 0 68 (dk_at dksJ13_rangeCheck_2 4 rfl rfl)
theorem dJ13_rangeCheck_53 : decode cJ13_rangeCheck 53 = .ok (.dup, 1) := dk_89 (dk_at dksJ13_rangeCheck_2 7 rfl rfl)
theorem dJ13_rangeCheck_54 : decode cJ13_rangeCheck 54 = .ok (.iload_n 1, 1) := dk_27 (dk_at dksJ13_rangeCheck_2 8 rfl rfl)
theorem dJ13_rangeCheck_55 : decode cJ13_rangeCheck 55 = .ok (.invokespecial 70, 3) := dk_183 0 70 (dk_at dksJ13_rangeCheck_2 9 rfl rfl)
theorem dJ13_rangeCheck_58 : decode cJ13_rangeCheck 58 = .ok (.athrow, 1) := dk_191 (dk_at dksJ13_rangeCheck_2 12 rfl rfl)
theorem dJ13_rangeCheck_59 : decode cJ13_rangeCheck 59 = .ok (.iload_n 2, 1) := dk_28 (dk_at dksJ13_rangeCheck_2 13 rfl rfl)
theorem dJ13_rangeCheck_60 : decode cJ13_rangeCheck 60 = .ok (.iload_n 0, 1) := dk_26 (dk_at dksJ13_rangeCheck_2 14 rfl rfl)
theorem dJ13_rangeCheck_61 : decode cJ13_rangeCheck 61 = .ok (.if_icmp .le 12, 3) := dk_164 0 12 (dk_at dksJ13_rangeCheck_2 15 rfl rfl)
theorem dJ13_rangeCheck_64 : decode cJ13_rangeCheck 64 = .ok (.new 68, 3) := dk_187 0 68 (dk_at dksJ13_rangeCheck_2 18 rfl rfl)
theorem dJ13_rangeCheck_67 : decode cJ13_rangeCheck 67 = .ok (.dup, 1) := dk_89 (dk_at dksJ13_rangeCheck_2 21 rfl rfl)
theorem dJ13_rangeCheck_68 : decode cJ13_rangeCheck 68 = .ok (.iload_n 2, 1) := dk_28 (dk_at dksJ13_rangeCheck_2 22 rfl rfl)
theorem dJ13_rangeCheck_69 : decode cJ13_rangeCheck 69 = .ok (.invokespecial 70, 3) := dk_183 0 70 (dk_at dksJ13_rangeCheck_3 0 rfl rfl)
theorem dJ13_rangeCheck_72 : decode cJ13_rangeCheck 72 = .ok (.athrow, 1) := dk_191 (dk_at dksJ13_rangeCheck_3 3 rfl rfl)
theorem dJ13_rangeCheck_73 : decode cJ13_rangeCheck 73 = .ok (.return_, 1) := dk_177 (dk_at dksJ13_rangeCheck_3 4 rfl rfl)
def tJ13_copyOf : pb_T := [(0, .aload_n 0, 1, 0), (1, .iload_n 1, 2, 0), (2, .aload_n 0, 3, 0), (3, .invokevirtual 86, 6, 0), (6, .invokestatic 300, 9, 0), (9, .areturn, 10, 0)]
theorem tJ13_copyOf_ok : pb_Tok cJ13_copyOf tJ13_copyOf := pb_Tok.cons dJ13_copyOf_0 rfl (pb_Tok.cons dJ13_copyOf_1 rfl (pb_Tok.cons dJ13_copyOf_2 rfl (pb_Tok.cons dJ13_copyOf_3 rfl (pb_Tok.cons dJ13_copyOf_6 rfl (pb_Tok.cons dJ13_copyOf_9 rfl pb_Tok.nil)))))
def tJ13_copyOf_2 : pb_T := [(0, .aload_n 2, 1, 0), (1, .ldc 110, 3, 0), (3, .if_acmp .ne 10, 6, 13), (6, .iload_n 1, 7, 0), (7, .anewarray 2, 10, 0), (10, .goto 14, 13, 24), (13, .aload_n 2, 14, 0), (14, .invokevirtual 90, 17, 0), (17, .iload_n 1, 18, 0), (18, .invokestatic 95, 21, 0), (21, .checkcast 110, 24, 0), (24, .astore_n 3, 25, 0), (25, .aload_n 0, 26, 0), (26, .iconst 0, 27, 0), (27, .aload_n 3, 28, 0), (28, .iconst 0, 29, 0), (29, .aload_n 0, 30, 0), (30, .arraylength, 31, 0), (31, .iload_n 1, 32, 0), (32, .invokestatic 304, 35, 0), (35, .invokestatic 150, 38, 0), (38, .aload_n 3, 39, 0), (39, .areturn, 40, 0)]
theorem tJ13_copyOf_2_ok : pb_Tok cJ13_copyOf_2 tJ13_copyOf_2 := pb_Tok.cons dJ13_copyOf_2_0 rfl (pb_Tok.cons dJ13_copyOf_2_1 rfl (pb_Tok.cons dJ13_copyOf_2_3 rfl (pb_Tok.cons dJ13_copyOf_2_6 rfl (pb_Tok.cons dJ13_copyOf_2_7 rfl (pb_Tok.cons dJ13_copyOf_2_10 rfl (pb_Tok.cons dJ13_copyOf_2_13 rfl (pb_Tok.cons dJ13_copyOf_2_14 rfl (pb_Tok.cons dJ13_copyOf_2_17 rfl (pb_Tok.cons dJ13_copyOf_2_18 rfl (pb_Tok.cons dJ13_copyOf_2_21 rfl (pb_Tok.cons dJ13_copyOf_2_24 rfl (pb_Tok.cons dJ13_copyOf_2_25 rfl (pb_Tok.cons dJ13_copyOf_2_26 rfl (pb_Tok.cons dJ13_copyOf_2_27 rfl (pb_Tok.cons dJ13_copyOf_2_28 rfl (pb_Tok.cons dJ13_copyOf_2_29 rfl (pb_Tok.cons dJ13_copyOf_2_30 rfl (pb_Tok.cons dJ13_copyOf_2_31 rfl (pb_Tok.cons dJ13_copyOf_2_32 rfl (pb_Tok.cons dJ13_copyOf_2_35 rfl (pb_Tok.cons dJ13_copyOf_2_38 rfl (pb_Tok.cons dJ13_copyOf_2_39 rfl pb_Tok.nil))))))))))))))))))))))
def tJ13_copyOf_3 : pb_T := [(0, .iload_n 1, 1, 0), (1, .aload_n 0, 2, 0), (2, .arraylength, 3, 0), (3, .if_icmp .ne 11, 6, 14), (6, .aload_n 0, 7, 0), (7, .invokevirtual 310, 10, 0), (10, .checkcast 311, 13, 0), (13, .areturn, 14, 0), (14, .iload_n 1, 15, 0), (15, .newarray .byte, 17, 0), (17, .astore_n 2, 18, 0), (18, .aload_n 0, 19, 0), (19, .iconst 0, 20, 0), (20, .aload_n 2, 21, 0), (21, .iconst 0, 22, 0), (22, .aload_n 0, 23, 0), (23, .arraylength, 24, 0), (24, .iload_n 1, 25, 0), (25, .invokestatic 304, 28, 0), (28, .invokestatic 150, 31, 0), (31, .aload_n 2, 32, 0), (32, .areturn, 33, 0)]
theorem tJ13_copyOf_3_ok : pb_Tok cJ13_copyOf_3 tJ13_copyOf_3 := pb_Tok.cons dJ13_copyOf_3_0 rfl (pb_Tok.cons dJ13_copyOf_3_1 rfl (pb_Tok.cons dJ13_copyOf_3_2 rfl (pb_Tok.cons dJ13_copyOf_3_3 rfl (pb_Tok.cons dJ13_copyOf_3_6 rfl (pb_Tok.cons dJ13_copyOf_3_7 rfl (pb_Tok.cons dJ13_copyOf_3_10 rfl (pb_Tok.cons dJ13_copyOf_3_13 rfl (pb_Tok.cons dJ13_copyOf_3_14 rfl (pb_Tok.cons dJ13_copyOf_3_15 rfl (pb_Tok.cons dJ13_copyOf_3_17 rfl (pb_Tok.cons dJ13_copyOf_3_18 rfl (pb_Tok.cons dJ13_copyOf_3_19 rfl (pb_Tok.cons dJ13_copyOf_3_20 rfl (pb_Tok.cons dJ13_copyOf_3_21 rfl (pb_Tok.cons dJ13_copyOf_3_22 rfl (pb_Tok.cons dJ13_copyOf_3_23 rfl (pb_Tok.cons dJ13_copyOf_3_24 rfl (pb_Tok.cons dJ13_copyOf_3_25 rfl (pb_Tok.cons dJ13_copyOf_3_28 rfl (pb_Tok.cons dJ13_copyOf_3_31 rfl (pb_Tok.cons dJ13_copyOf_3_32 rfl pb_Tok.nil)))))))))))))))))))))
def tJ13_copyOfRange : pb_T := [(0, .iload_n 1, 1, 0), (1, .ifCond .ne 9, 4, 10), (4, .iload_n 2, 5, 0), (5, .aload_n 0, 6, 0), (6, .arraylength, 7, 0), (7, .if_icmp .eq 10, 10, 17), (10, .aload_n 0, 11, 0), (11, .iload_n 1, 12, 0), (12, .iload_n 2, 13, 0), (13, .invokestatic 339, 16, 0), (16, .areturn, 17, 0), (17, .aload_n 0, 18, 0), (18, .invokevirtual 310, 21, 0), (21, .checkcast 311, 24, 0), (24, .areturn, 25, 0)]
theorem tJ13_copyOfRange_ok : pb_Tok cJ13_copyOfRange tJ13_copyOfRange := pb_Tok.cons dJ13_copyOfRange_0 rfl (pb_Tok.cons dJ13_copyOfRange_1 rfl (pb_Tok.cons dJ13_copyOfRange_4 rfl (pb_Tok.cons dJ13_copyOfRange_5 rfl (pb_Tok.cons dJ13_copyOfRange_6 rfl (pb_Tok.cons dJ13_copyOfRange_7 rfl (pb_Tok.cons dJ13_copyOfRange_10 rfl (pb_Tok.cons dJ13_copyOfRange_11 rfl (pb_Tok.cons dJ13_copyOfRange_12 rfl (pb_Tok.cons dJ13_copyOfRange_13 rfl (pb_Tok.cons dJ13_copyOfRange_16 rfl (pb_Tok.cons dJ13_copyOfRange_17 rfl (pb_Tok.cons dJ13_copyOfRange_18 rfl (pb_Tok.cons dJ13_copyOfRange_21 rfl (pb_Tok.cons dJ13_copyOfRange_24 rfl pb_Tok.nil))))))))))))))
def tJ13_copyOfRangeByte : pb_T := [(0, .iload_n 1, 1, 0), (1, .iload_n 2, 2, 0), (2, .invokestatic 343, 5, 0), (5, .iload_n 2, 6, 0), (6, .iload_n 1, 7, 0), (7, .isub, 8, 0), (8, .istore_n 3, 9, 0), (9, .iload_n 3, 10, 0), (10, .newarray .byte, 12, 0), (12, .astore 4, 14, 0), (14, .aload_n 0, 15, 0), (15, .iload_n 1, 16, 0), (16, .aload 4, 18, 0), (18, .iconst 0, 19, 0), (19, .aload_n 0, 20, 0), (20, .arraylength, 21, 0), (21, .iload_n 1, 22, 0), (22, .isub, 23, 0), (23, .iload_n 3, 24, 0), (24, .invokestatic 304, 27, 0), (27, .invokestatic 150, 30, 0), (30, .aload 4, 32, 0), (32, .areturn, 33, 0)]
theorem tJ13_copyOfRangeByte_ok : pb_Tok cJ13_copyOfRangeByte tJ13_copyOfRangeByte := pb_Tok.cons dJ13_copyOfRangeByte_0 rfl (pb_Tok.cons dJ13_copyOfRangeByte_1 rfl (pb_Tok.cons dJ13_copyOfRangeByte_2 rfl (pb_Tok.cons dJ13_copyOfRangeByte_5 rfl (pb_Tok.cons dJ13_copyOfRangeByte_6 rfl (pb_Tok.cons dJ13_copyOfRangeByte_7 rfl (pb_Tok.cons dJ13_copyOfRangeByte_8 rfl (pb_Tok.cons dJ13_copyOfRangeByte_9 rfl (pb_Tok.cons dJ13_copyOfRangeByte_10 rfl (pb_Tok.cons dJ13_copyOfRangeByte_12 rfl (pb_Tok.cons dJ13_copyOfRangeByte_14 rfl (pb_Tok.cons dJ13_copyOfRangeByte_15 rfl (pb_Tok.cons dJ13_copyOfRangeByte_16 rfl (pb_Tok.cons dJ13_copyOfRangeByte_18 rfl (pb_Tok.cons dJ13_copyOfRangeByte_19 rfl (pb_Tok.cons dJ13_copyOfRangeByte_20 rfl (pb_Tok.cons dJ13_copyOfRangeByte_21 rfl (pb_Tok.cons dJ13_copyOfRangeByte_22 rfl (pb_Tok.cons dJ13_copyOfRangeByte_23 rfl (pb_Tok.cons dJ13_copyOfRangeByte_24 rfl (pb_Tok.cons dJ13_copyOfRangeByte_27 rfl (pb_Tok.cons dJ13_copyOfRangeByte_30 rfl (pb_Tok.cons dJ13_copyOfRangeByte_32 rfl pb_Tok.nil))))))))))))))))))))))
def tJ13_checkLength : pb_T := [(0, .iload_n 1, 1, 0), (1, .iload_n 0, 2, 0), (2, .if_icmp .ge 35, 5, 37), (5, .new 43, 8, 0), (8, .dup, 9, 0), (9, .new 45, 12, 0), (12, .dup, 13, 0), (13, .invokespecial 47, 16, 0), (16, .iload_n 0, 17, 0), (17, .invokevirtual 54, 20, 0), (20, .ldc_w 337, 23, 0), (23, .invokevirtual 50, 26, 0), (26, .iload_n 1, 27, 0), (27, .invokevirtual 54, 30, 0), (30, .invokevirtual 61, 33, 0), (33, .invokespecial 65, 36, 0), (36, .athrow, 37, 0), (37, .return_, 38, 0)]
theorem tJ13_checkLength_ok : pb_Tok cJ13_checkLength tJ13_checkLength := pb_Tok.cons dJ13_checkLength_0 rfl (pb_Tok.cons dJ13_checkLength_1 rfl (pb_Tok.cons dJ13_checkLength_2 rfl (pb_Tok.cons dJ13_checkLength_5 rfl (pb_Tok.cons dJ13_checkLength_8 rfl (pb_Tok.cons dJ13_checkLength_9 rfl (pb_Tok.cons dJ13_checkLength_12 rfl (pb_Tok.cons dJ13_checkLength_13 rfl (pb_Tok.cons dJ13_checkLength_16 rfl (pb_Tok.cons dJ13_checkLength_17 rfl (pb_Tok.cons dJ13_checkLength_20 rfl (pb_Tok.cons dJ13_checkLength_23 rfl (pb_Tok.cons dJ13_checkLength_26 rfl (pb_Tok.cons dJ13_checkLength_27 rfl (pb_Tok.cons dJ13_checkLength_30 rfl (pb_Tok.cons dJ13_checkLength_33 rfl (pb_Tok.cons dJ13_checkLength_36 rfl (pb_Tok.cons dJ13_checkLength_37 rfl pb_Tok.nil)))))))))))))))))
def tJ13_fill : pb_T := [(0, .aload_n 0, 1, 0), (1, .arraylength, 2, 0), (2, .iload_n 1, 3, 0), (3, .iload_n 2, 4, 0), (4, .invokestatic 13, 7, 0), (7, .iload_n 1, 8, 0), (8, .istore 4, 10, 0), (10, .iload 4, 12, 1), (12, .iload_n 2, 13, 0), (13, .if_icmp .ge 14, 16, 27), (16, .aload_n 0, 17, 0), (17, .iload 4, 19, 0), (19, .iload_n 3, 20, 0), (20, .bastore, 21, 0), (21, .iinc 4 1, 24, 0), (24, .goto (-14), 27, 10), (27, .return_, 28, 0)]
theorem tJ13_fill_ok : pb_Tok cJ13_fill tJ13_fill := pb_Tok.cons dJ13_fill_0 rfl (pb_Tok.cons dJ13_fill_1 rfl (pb_Tok.cons dJ13_fill_2 rfl (pb_Tok.cons dJ13_fill_3 rfl (pb_Tok.cons dJ13_fill_4 rfl (pb_Tok.cons dJ13_fill_7 rfl (pb_Tok.cons dJ13_fill_8 rfl (pb_Tok.cons dJ13_fill_10 rfl (pb_Tok.cons dJ13_fill_12 rfl (pb_Tok.cons dJ13_fill_13 rfl (pb_Tok.cons dJ13_fill_16 rfl (pb_Tok.cons dJ13_fill_17 rfl (pb_Tok.cons dJ13_fill_19 rfl (pb_Tok.cons dJ13_fill_20 rfl (pb_Tok.cons dJ13_fill_21 rfl (pb_Tok.cons dJ13_fill_24 rfl (pb_Tok.cons dJ13_fill_27 rfl pb_Tok.nil))))))))))))))))
def tJ13_rangeCheck : pb_T := [(0, .iload_n 1, 1, 0), (1, .iload_n 2, 2, 0), (2, .if_icmp .le 44, 5, 46), (5, .new 43, 8, 0), (8, .dup, 9, 0), (9, .new 45, 12, 0), (12, .dup, 13, 0), (13, .invokespecial 47, 16, 0), (16, .ldc 48, 18, 0), (18, .invokevirtual 50, 21, 0), (21, .iload_n 1, 22, 0), (22, .invokevirtual 54, 25, 0), (25, .ldc 57, 27, 0), (27, .invokevirtual 50, 30, 0), (30, .iload_n 2, 31, 0), (31, .invokevirtual 54, 34, 0), (34, .ldc 59, 36, 0), (36, .invokevirtual 50, 39, 0), (39, .invokevirtual 61, 42, 0), (42, .invokespecial 65, 45, 0), (45, .athrow, 46, 0), (46, .iload_n 1, 47, 0), (47, .ifCond .ge 12, 50, 59), (50, .new 68, 53, 0), (53, .dup, 54, 0), (54, .iload_n 1, 55, 0), (55, .invokespecial 70, 58, 0), (58, .athrow, 59, 0), (59, .iload_n 2, 60, 0), (60, .iload_n 0, 61, 0), (61, .if_icmp .le 12, 64, 73), (64, .new 68, 67, 0), (67, .dup, 68, 0), (68, .iload_n 2, 69, 0), (69, .invokespecial 70, 72, 0), (72, .athrow, 73, 0), (73, .return_, 74, 0)]
theorem tJ13_rangeCheck_ok : pb_Tok cJ13_rangeCheck tJ13_rangeCheck := pb_Tok.cons dJ13_rangeCheck_0 rfl (pb_Tok.cons dJ13_rangeCheck_1 rfl (pb_Tok.cons dJ13_rangeCheck_2 rfl (pb_Tok.cons dJ13_rangeCheck_5 rfl (pb_Tok.cons dJ13_rangeCheck_8 rfl (pb_Tok.cons dJ13_rangeCheck_9 rfl (pb_Tok.cons dJ13_rangeCheck_12 rfl (pb_Tok.cons dJ13_rangeCheck_13 rfl (pb_Tok.cons dJ13_rangeCheck_16 rfl (pb_Tok.cons dJ13_rangeCheck_18 rfl (pb_Tok.cons dJ13_rangeCheck_21 rfl (pb_Tok.cons dJ13_rangeCheck_22 rfl (pb_Tok.cons dJ13_rangeCheck_25 rfl (pb_Tok.cons dJ13_rangeCheck_27 rfl (pb_Tok.cons dJ13_rangeCheck_30 rfl (pb_Tok.cons dJ13_rangeCheck_31 rfl (pb_Tok.cons dJ13_rangeCheck_34 rfl (pb_Tok.cons dJ13_rangeCheck_36 rfl (pb_Tok.cons dJ13_rangeCheck_39 rfl (pb_Tok.cons dJ13_rangeCheck_42 rfl (pb_Tok.cons dJ13_rangeCheck_45 rfl (pb_Tok.cons dJ13_rangeCheck_46 rfl (pb_Tok.cons dJ13_rangeCheck_47 rfl (pb_Tok.cons dJ13_rangeCheck_50 rfl (pb_Tok.cons dJ13_rangeCheck_53 rfl (pb_Tok.cons dJ13_rangeCheck_54 rfl (pb_Tok.cons dJ13_rangeCheck_55 rfl (pb_Tok.cons dJ13_rangeCheck_58 rfl (pb_Tok.cons dJ13_rangeCheck_59 rfl (pb_Tok.cons dJ13_rangeCheck_60 rfl (pb_Tok.cons dJ13_rangeCheck_61 rfl (pb_Tok.cons dJ13_rangeCheck_64 rfl (pb_Tok.cons dJ13_rangeCheck_67 rfl (pb_Tok.cons dJ13_rangeCheck_68 rfl (pb_Tok.cons dJ13_rangeCheck_69 rfl (pb_Tok.cons dJ13_rangeCheck_72 rfl (pb_Tok.cons dJ13_rangeCheck_73 rfl pb_Tok.nil))))))))))))))))))))))))))))))))))))
def dkwJ21_equals_1 : List UInt8 := [3, 172, 132, 2, 1, 167, 255, 236, 4, 172, 3, 172]
abbrev dktJ21_equals_1 : List UInt8 := dkwJ21_equals_1 ++ []
def dkwJ21_equals_0 : List UInt8 := [42, 190, 43, 190, 160, 0, 30, 3, 61, 28, 42, 190, 162, 0, 20, 42, 28, 51, 43, 28, 51, 159, 0, 5]
abbrev dktJ21_equals_0 : List UInt8 := dkwJ21_equals_0 ++ dktJ21_equals_1
theorem dksJ21_equals_0 : cJ21_equals.data.toList.drop 0 = dktJ21_equals_0 := by decide +kernel
theorem dksJ21_equals_1 : cJ21_equals.data.toList.drop 24 = dktJ21_equals_1 := dk_seg dksJ21_equals_0 24 rfl rfl
theorem dJ21_equals_0 : decode cJ21_equals 0 = .ok (.aload_n 0, 1) := dk_42 (dk_at dksJ21_equals_0 0 rfl rfl)
theorem dJ21_equals_1 : decode cJ21_equals 1 = .ok (.arraylength, 1) := dk_190 (dk_at dksJ21_equals_0 1 rfl rfl)
theorem dJ21_equals_2 : decode cJ21_equals 2 = .ok (.aload_n 1, 1) := dk_43 (dk_at dksJ21_equals_0 2 rfl rfl)
theorem dJ21_equals_3 : decode cJ21_equals 3 = .ok (.arraylength, 1) := dk_190 (dk_at dksJ21_equals_0 3 rfl rfl)
theorem dJ21_equals_4 : decode cJ21_equals 4 = .ok (.if_icmp .ne 30, 3) := dk_160 0 30 (dk_at dksJ21_equals_0 4 rfl rfl)
theorem dJ21_equals_7 : decode cJ21_equals 7 = .ok (.iconst 0, 1) := dk_3 (dk_at dksJ21_equals_0 7 rfl rfl)
theorem dJ21_equals_8 : decode cJ21_equals 8 = .ok (.istore_n 2, 1) := dk_61 (dk_at dksJ21_equals_0 8 rfl rfl)
theorem dJ21_equals_9 : decode cJ21_equals 9 = .ok (.iload_n 2, 1) := dk_28 (dk_at dksJ21_equals_0 9 rfl rfl)
theorem dJ21_equals_10 : decode cJ21_equals 10 = .ok (.aload_n 0, 1) := dk_42 (dk_at dksJ21_equals_0 10 rfl rfl)
theorem dJ21_equals_11 : decode cJ21_equals 11 = .ok (.arraylength, 1) := dk_190 (dk_at dksJ21_equals_0 11 rfl rfl)
theorem dJ21_equals_12 : decode cJ21_equals 12 = .ok (.if_icmp .ge 20, 3) := dk_162 0 20 (dk_at dksJ21_equals_0 12 rfl rfl)
theorem dJ21_equals_15 : decode cJ21_equals 15 = .ok (.aload_n 0, 1) := dk_42 (dk_at dksJ21_equals_0 15 rfl rfl)
theorem dJ21_equals_16 : decode cJ21_equals 16 = .ok (.iload_n 2, 1) := dk_28 (dk_at dksJ21_equals_0 16 rfl rfl)
theorem dJ21_equals_17 : decode cJ21_equals 17 = .ok (.baload, 1) := dk_51 (dk_at dksJ21_equals_0 17 rfl rfl)
theorem dJ21_equals_18 : decode cJ21_equals 18 = .ok (.aload_n 1, 1) := dk_43 (dk_at dksJ21_equals_0 18 rfl rfl)
theorem dJ21_equals_19 : decode cJ21_equals 19 = .ok (.iload_n 2, 1) := dk_28 (dk_at dksJ21_equals_0 19 rfl rfl)
theorem dJ21_equals_20 : decode cJ21_equals 20 = .ok (.baload, 1) := dk_51 (dk_at dksJ21_equals_0 20 rfl rfl)
theorem dJ21_equals_21 : decode cJ21_equals 21 = .ok (.if_icmp .eq 5, 3) := dk_159 0 5 (dk_at dksJ21_equals_0 21 rfl rfl)
theorem dJ21_equals_24 : decode cJ21_equals 24 = .ok (.iconst 0, 1) := dk_3 (dk_at dksJ21_equals_1 0 rfl rfl)
theorem dJ21_equals_25 : decode cJ21_equals 25 = .ok (.ireturn, 1) := dk_172 (dk_at dksJ21_equals_1 1 rfl rfl)
theorem dJ21_equals_26 : decode cJ21_equals 26 = .ok (.iinc 2 1, 3) := dk_132 2 1 (dk_at dksJ21_equals_1 2 rfl rfl)
theorem dJ21_equals_29 : decode cJ21_equals 29 = .ok (.goto (-20), 3) := dk_167 255 236 (dk_at dksJ21_equals_1 5 rfl rfl)
theorem dJ21_equals_32 : decode cJ21_equals 32 = .ok (.iconst 1, 1) := dk_4 (dk_at dksJ21_equals_1 8 rfl rfl)
theorem dJ21_equals_33 : decode cJ21_equals 33 = .ok (.ireturn, 1) := dk_172 (dk_at dksJ21_equals_1 9 rfl rfl)
theorem dJ21_equals_34 : decode cJ21_equals 34 = .ok (.iconst 0, 1) := dk_3 (dk_at dksJ21_equals_1 10 rfl rfl)
theorem dJ21_equals_35 : decode cJ21_equals 35 = .ok (.ireturn, 1) := dk_172 (dk_at dksJ21_equals_1 11 rfl rfl)
def dkwJ21_canEncode_0 : List UInt8 := [26, 17, 0, 255, 163, 0, 7, 4, 167, 0, 4, 3, 172]
abbrev dktJ21_canEncode_0 : List UInt8 := dkwJ21_canEncode_0 ++ []
theorem dksJ21_canEncode_0 : cJ21_canEncode.data.toList.drop 0 = dktJ21_canEncode_0 := by decide +kernel
theorem dJ21_canEncode_0 : decode cJ21_canEncode 0 = .ok (.iload_n 0, 1) := dk_26 (dk_at dksJ21_canEncode_0 0 rfl rfl)
theorem dJ21_canEncode_1 : decode cJ21_canEncode 1 = .ok (.sipush 255, 3) := dk_17 0 255 (dk_at dksJ21_canEncode_0 1 rfl rfl)
theorem dJ21_canEncode_4 : decode cJ21_canEncode 4 = .ok (.if_icmp .gt 7, 3) := dk_163 0 7 (dk_at dksJ21_canEncode_0 4 rfl rfl)
theorem dJ21_canEncode_7 : decode cJ21_canEncode 7 = .ok (.iconst 1, 1) := dk_4 (dk_at dksJ21_canEncode_0 7 rfl rfl)
theorem dJ21_canEncode_8 : decode cJ21_canEncode 8 = .ok (.goto 4, 3) := dk_167 0 4 (dk_at dksJ21_canEncode_0 8 rfl rfl)
theorem dJ21_canEncode_11 : decode cJ21_canEncode 11 = .ok (.iconst 0, 1) := dk_3 (dk_at dksJ21_canEncode_0 11 rfl rfl)
theorem dJ21_canEncode_12 : decode cJ21_canEncode 12 = .ok (.ireturn, 1) := dk_172 (dk_at dksJ21_canEncode_0 12 rfl rfl)
def dkwJ21_inflate_0 : List UInt8 := [42, 27, 44, 29, 21, 4, 184, 0, 240, 177]
abbrev dktJ21_inflate_0 : List UInt8 := dkwJ21_inflate_0 ++ []
theorem dksJ21_inflate_0 : cJ21_inflate.data.toList.drop 0 = dktJ21_inflate_0 := by decide +kernel
theorem dJ21_inflate_0 : decode cJ21_inflate 0 = .ok (.aload_n 0, 1) := dk_42 (dk_at dksJ21_inflate_0 0 rfl rfl)
theorem dJ21_inflate_1 : decode cJ21_inflate 1 = .ok (.iload_n 1, 1) := dk_27 (dk_at dksJ21_inflate_0 1 rfl rfl)
theorem dJ21_inflate_2 : decode cJ21_inflate 2 = .ok (.aload_n 2, 1) := dk_44 (dk_at dksJ21_inflate_0 2 rfl rfl)
theorem dJ21_inflate_3 : decode cJ21_inflate 3 = .ok (.iload_n 3, 1) := dk_29 (dk_at dksJ21_inflate_0 3 rfl rfl)
theorem dJ21_inflate_4 : decode cJ21_inflate 4 = .ok (.iload 4, 2) := dk_21 4 (dk_at dksJ21_inflate_0 4 rfl rfl)
theorem dJ21_inflate_6 : decode cJ21_inflate 6 = .ok (.invokestatic 240, 3) := dk_184 0 240 (dk_at dksJ21_inflate_0 6 rfl rfl)
theorem dJ21_inflate_9 : decode cJ21_inflate 9 = .ok (.return_, 1) := dk_177 (dk_at dksJ21_inflate_0 9 rfl rfl)
def dkwJ21_charAt_0 : List UInt8 := [27, 42, 190, 184, 0, 9, 42, 27, 51, 17, 0, 255, 126, 146, 172]
abbrev dktJ21_charAt_0 : List UInt8 := dkwJ21_charAt_0 ++ []
theorem dksJ21_charAt_0 : cJ21_charAt.data.toList.drop 0 = dktJ21_charAt_0 := by decide +kernel
theorem dJ21_charAt_0 : decode cJ21_charAt 0 = .ok (.iload_n 1, 1) := dk_27 (dk_at dksJ21_charAt_0 0 rfl rfl)
theorem dJ21_charAt_1 : decode cJ21_charAt 1 = .ok (.aload_n 0, 1) := dk_42 (dk_at dksJ21_charAt_0 1 rfl rfl)
theorem dJ21_charAt_2 : decode cJ21_charAt 2 = .ok (.arraylength, 1) := dk_190 (dk_at dksJ21_charAt_0 2 rfl rfl)
theorem dJ21_charAt_3 : decode cJ21_charAt 3 = .ok (.invokestatic 9, 3) := dk_184 0 9 (dk_at dksJ21_charAt_0 3 rfl rfl)
theorem dJ21_charAt_6 : decode cJ21_charAt 6 = .ok (.aload_n 0, 1) := dk_42 (dk_at dksJ21_charAt_0 6 rfl rfl)
theorem dJ21_charAt_7 : decode cJ21_charAt 7 = .ok (.iload_n 1, 1) := dk_27 (dk_at dksJ21_charAt_0 7 rfl rfl)
theorem dJ21_charAt_8 : decode cJ21_charAt 8 = .ok (.baload, 1) := dk_51 (dk_at dksJ21_charAt_0 8 rfl rfl)
theorem dJ21_charAt_9 : decode cJ21_charAt 9 = .ok (.sipush 255, 3) := dk_17 0 255 (dk_at dksJ21_charAt_0 9 rfl rfl)
theorem dJ21_charAt_12 : decode cJ21_charAt 12 = .ok (.iand, 1) := dk_126 (dk_at dksJ21_charAt_0 12 rfl rfl)
theorem dJ21_charAt_13 : decode cJ21_charAt 13 = .ok (.i2c, 1) := dk_146 (dk_at dksJ21_charAt_0 13 rfl rfl)
theorem dJ21_charAt_14 : decode cJ21_charAt 14 = .ok (.ireturn, 1) := dk_172 (dk_at dksJ21_charAt_0 14 rfl rfl)
def dkwJ21_fillNull_0 : List UInt8 := [42, 27, 28, 3, 184, 0, 236, 177]
abbrev dktJ21_fillNull_0 : List UInt8 := dkwJ21_fillNull_0 ++ []
theorem dksJ21_fillNull_0 : cJ21_fillNull.data.toList.drop 0 = dktJ21_fillNull_0 := by decide +kernel
theorem dJ21_fillNull_0 : decode cJ21_fillNull 0 = .ok (.aload_n 0, 1) := dk_42 (dk_at dksJ21_fillNull_0 0 rfl rfl)
theorem dJ21_fillNull_1 : decode cJ21_fillNull 1 = .ok (.iload_n 1, 1) := dk_27 (dk_at dksJ21_fillNull_0 1 rfl rfl)
theorem dJ21_fillNull_2 : decode cJ21_fillNull 2 = .ok (.iload_n 2, 1) := dk_28 (dk_at dksJ21_fillNull_0 2 rfl rfl)
theorem dJ21_fillNull_3 : decode cJ21_fillNull 3 = .ok (.iconst 0, 1) := dk_3 (dk_at dksJ21_fillNull_0 3 rfl rfl)
theorem dJ21_fillNull_4 : decode cJ21_fillNull 4 = .ok (.invokestatic 236, 3) := dk_184 0 236 (dk_at dksJ21_fillNull_0 4 rfl rfl)
theorem dJ21_fillNull_7 : decode cJ21_fillNull 7 = .ok (.return_, 1) := dk_177 (dk_at dksJ21_fillNull_0 7 rfl rfl)
def tJ21_equals : pb_T := [(0, .aload_n 0, 1, 0), (1, .arraylength, 2, 0), (2, .aload_n 1, 3, 0), (3, .arraylength, 4, 0), (4, .if_icmp .ne 30, 7, 34), (7, .iconst 0, 8, 0), (8, .istore_n 2, 9, 0), (9, .iload_n 2, 10, 1), (10, .aload_n 0, 11, 0), (11, .arraylength, 12, 0), (12, .if_icmp .ge 20, 15, 32), (15, .aload_n 0, 16, 0), (16, .iload_n 2, 17, 0), (17, .baload, 18, 0), (18, .aload_n 1, 19, 0), (19, .iload_n 2, 20, 0), (20, .baload, 21, 0), (21, .if_icmp .eq 5, 24, 26), (24, .iconst 0, 25, 0), (25, .ireturn, 26, 0), (26, .iinc 2 1, 29, 0), (29, .goto (-20), 32, 9), (32, .iconst 1, 33, 0), (33, .ireturn, 34, 0), (34, .iconst 0, 35, 0), (35, .ireturn, 36, 0)]
theorem tJ21_equals_ok : pb_Tok cJ21_equals tJ21_equals := pb_Tok.cons dJ21_equals_0 rfl (pb_Tok.cons dJ21_equals_1 rfl (pb_Tok.cons dJ21_equals_2 rfl (pb_Tok.cons dJ21_equals_3 rfl (pb_Tok.cons dJ21_equals_4 rfl (pb_Tok.cons dJ21_equals_7 rfl (pb_Tok.cons dJ21_equals_8 rfl (pb_Tok.cons dJ21_equals_9 rfl (pb_Tok.cons dJ21_equals_10 rfl (pb_Tok.cons dJ21_equals_11 rfl (pb_Tok.cons dJ21_equals_12 rfl (pb_Tok.cons dJ21_equals_15 rfl (pb_Tok.cons dJ21_equals_16 rfl (pb_Tok.cons dJ21_equals_17 rfl (pb_Tok.cons dJ21_equals_18 rfl (pb_Tok.cons dJ21_equals_19 rfl (pb_Tok.cons dJ21_equals_20 rfl (pb_Tok.cons dJ21_equals_21 rfl (pb_Tok.cons dJ21_equals_24 rfl (pb_Tok.cons dJ21_equals_25 rfl (pb_Tok.cons dJ21_equals_26 rfl (pb_Tok.cons dJ21_equals_29 rfl (pb_Tok.cons dJ21_equals_32 rfl (pb_Tok.cons dJ21_equals_33 rfl (pb_Tok.cons dJ21_equals_34 rfl (pb_Tok.cons dJ21_equals_35 rfl pb_Tok.nil)))))))))))))))))))))))))
def tJ21_canEncode : pb_T := [(0, .iload_n 0, 1, 0), (1, .sipush 255, 4, 0), (4, .if_icmp .gt 7, 7, 11), (7, .iconst 1, 8, 0), (8, .goto 4, 11, 12), (11, .iconst 0, 12, 0), (12, .ireturn, 13, 0)]
theorem tJ21_canEncode_ok : pb_Tok cJ21_canEncode tJ21_canEncode := pb_Tok.cons dJ21_canEncode_0 rfl (pb_Tok.cons dJ21_canEncode_1 rfl (pb_Tok.cons dJ21_canEncode_4 rfl (pb_Tok.cons dJ21_canEncode_7 rfl (pb_Tok.cons dJ21_canEncode_8 rfl (pb_Tok.cons dJ21_canEncode_11 rfl (pb_Tok.cons dJ21_canEncode_12 rfl pb_Tok.nil))))))
def tJ21_inflate : pb_T := [(0, .aload_n 0, 1, 0), (1, .iload_n 1, 2, 0), (2, .aload_n 2, 3, 0), (3, .iload_n 3, 4, 0), (4, .iload 4, 6, 0), (6, .invokestatic 240, 9, 0), (9, .return_, 10, 0)]
theorem tJ21_inflate_ok : pb_Tok cJ21_inflate tJ21_inflate := pb_Tok.cons dJ21_inflate_0 rfl (pb_Tok.cons dJ21_inflate_1 rfl (pb_Tok.cons dJ21_inflate_2 rfl (pb_Tok.cons dJ21_inflate_3 rfl (pb_Tok.cons dJ21_inflate_4 rfl (pb_Tok.cons dJ21_inflate_6 rfl (pb_Tok.cons dJ21_inflate_9 rfl pb_Tok.nil))))))
def tJ21_charAt : pb_T := [(0, .iload_n 1, 1, 0), (1, .aload_n 0, 2, 0), (2, .arraylength, 3, 0), (3, .invokestatic 9, 6, 0), (6, .aload_n 0, 7, 0), (7, .iload_n 1, 8, 0), (8, .baload, 9, 0), (9, .sipush 255, 12, 0), (12, .iand, 13, 0), (13, .i2c, 14, 0), (14, .ireturn, 15, 0)]
theorem tJ21_charAt_ok : pb_Tok cJ21_charAt tJ21_charAt := pb_Tok.cons dJ21_charAt_0 rfl (pb_Tok.cons dJ21_charAt_1 rfl (pb_Tok.cons dJ21_charAt_2 rfl (pb_Tok.cons dJ21_charAt_3 rfl (pb_Tok.cons dJ21_charAt_6 rfl (pb_Tok.cons dJ21_charAt_7 rfl (pb_Tok.cons dJ21_charAt_8 rfl (pb_Tok.cons dJ21_charAt_9 rfl (pb_Tok.cons dJ21_charAt_12 rfl (pb_Tok.cons dJ21_charAt_13 rfl (pb_Tok.cons dJ21_charAt_14 rfl pb_Tok.nil))))))))))
def tJ21_fillNull : pb_T := [(0, .aload_n 0, 1, 0), (1, .iload_n 1, 2, 0), (2, .iload_n 2, 3, 0), (3, .iconst 0, 4, 0), (4, .invokestatic 236, 7, 0), (7, .return_, 8, 0)]
theorem tJ21_fillNull_ok : pb_Tok cJ21_fillNull tJ21_fillNull := pb_Tok.cons dJ21_fillNull_0 rfl (pb_Tok.cons dJ21_fillNull_1 rfl (pb_Tok.cons dJ21_fillNull_2 rfl (pb_Tok.cons dJ21_fillNull_3 rfl (pb_Tok.cons dJ21_fillNull_4 rfl (pb_Tok.cons dJ21_fillNull_7 rfl pb_Tok.nil)))))
def dkwJ25_stringSize_1 : List UInt8 := [164, 0, 7, 29, 27, 96, 172, 16, 10, 28, 104, 61, 132, 3, 1, 167, 255, 233, 16, 10, 27, 96, 172]
abbrev dktJ25_stringSize_1 : List UInt8 := dkwJ25_stringSize_1 ++ []
def dkwJ25_stringSize_0 : List UInt8 := [4, 60, 26, 155, 0, 8, 3, 60, 26, 116, 59, 16, 246, 61, 4, 62, 29, 16, 10, 162, 0, 23, 26, 28]
abbrev dktJ25_stringSize_0 : List UInt8 := dkwJ25_stringSize_0 ++ dktJ25_stringSize_1
theorem dksJ25_stringSize_0 : cJ25_stringSize.data.toList.drop 0 = dktJ25_stringSize_0 := by decide +kernel
theorem dksJ25_stringSize_1 : cJ25_stringSize.data.toList.drop 24 = dktJ25_stringSize_1 := dk_seg dksJ25_stringSize_0 24 rfl rfl
theorem dJ25_stringSize_0 : decode cJ25_stringSize 0 = .ok (.iconst 1, 1) := dk_4 (dk_at dksJ25_stringSize_0 0 rfl rfl)
theorem dJ25_stringSize_1 : decode cJ25_stringSize 1 = .ok (.istore_n 1, 1) := dk_60 (dk_at dksJ25_stringSize_0 1 rfl rfl)
theorem dJ25_stringSize_2 : decode cJ25_stringSize 2 = .ok (.iload_n 0, 1) := dk_26 (dk_at dksJ25_stringSize_0 2 rfl rfl)
theorem dJ25_stringSize_3 : decode cJ25_stringSize 3 = .ok (.ifCond .lt 8, 3) := dk_155 0 8 (dk_at dksJ25_stringSize_0 3 rfl rfl)
theorem dJ25_stringSize_6 : decode cJ25_stringSize 6 = .ok (.iconst 0, 1) := dk_3 (dk_at dksJ25_stringSize_0 6 rfl rfl)
theorem dJ25_stringSize_7 : decode cJ25_stringSize 7 = .ok (.istore_n 1, 1) := dk_60 (dk_at dksJ25_stringSize_0 7 rfl rfl)
theorem dJ25_stringSize_8 : decode cJ25_stringSize 8 = .ok (.iload_n 0, 1) := dk_26 (dk_at dksJ25_stringSize_0 8 rfl rfl)
theorem dJ25_stringSize_9 : decode cJ25_stringSize 9 = .ok (.ineg, 1) := dk_116 (dk_at dksJ25_stringSize_0 9 rfl rfl)
theorem dJ25_stringSize_10 : decode cJ25_stringSize 10 = .ok (.istore_n 0, 1) := dk_59 (dk_at dksJ25_stringSize_0 10 rfl rfl)
theorem dJ25_stringSize_11 : decode cJ25_stringSize 11 = .ok (.bipush (-10), 2) := dk_16 246 (dk_at dksJ25_stringSize_0 11 rfl rfl)
theorem dJ25_stringSize_13 : decode cJ25_stringSize 13 = .ok (.istore_n 2, 1) := dk_61 (dk_at dksJ25_stringSize_0 13 rfl rfl)
theorem dJ25_stringSize_14 : decode cJ25_stringSize 14 = .ok (.iconst 1, 1) := dk_4 (dk_at dksJ25_stringSize_0 14 rfl rfl)
theorem dJ25_stringSize_15 : decode cJ25_stringSize 15 = .ok (.istore_n 3, 1) := dk_62 (dk_at dksJ25_stringSize_0 15 rfl rfl)
theorem dJ25_stringSize_16 : decode cJ25_stringSize 16 = .ok (.iload_n 3, 1) := dk_29 (dk_at dksJ25_stringSize_0 16 rfl rfl)
theorem dJ25_stringSize_17 : decode cJ25_stringSize 17 = .ok (.bipush 10, 2) := dk_16 10 (dk_at dksJ25_stringSize_0 17 rfl rfl)
theorem dJ25_stringSize_19 : decode cJ25_stringSize 19 = .ok (.if_icmp .ge 23, 3) := dk_162 0 23 (dk_at dksJ25_stringSize_0 19 rfl rfl)
theorem dJ25_stringSize_22 : decode cJ25_stringSize 22 = .ok (.iload_n 0, 1) := dk_26 (dk_at dksJ25_stringSize_0 22 rfl rfl)
theorem dJ25_stringSize_23 : decode cJ25_stringSize 23 = .ok (.iload_n 2, 1) := dk_28 (dk_at dksJ25_stringSize_0 23 rfl rfl)
theorem dJ25_stringSize_24 : decode cJ25_stringSize 24 = .ok (.if_icmp .le 7, 3) := dk_164 0 7 (dk_at dksJ25_stringSize_1 0 rfl rfl)
theorem dJ25_stringSize_27 : decode cJ25_stringSize 27 = .ok (.iload_n 3, 1) := dk_29 (dk_at dksJ25_stringSize_1 3 rfl rfl)
theorem dJ25_stringSize_28 : decode cJ25_stringSize 28 = .ok (.iload_n 1, 1) := dk_27 (dk_at dksJ25_stringSize_1 4 rfl rfl)
theorem dJ25_stringSize_29 : decode cJ25_stringSize 29 = .ok (.iadd, 1) := dk_96 (dk_at dksJ25_stringSize_1 5 rfl rfl)
theorem dJ25_stringSize_30 : decode cJ25_stringSize 30 = .ok (.ireturn, 1) := dk_172 (dk_at dksJ25_stringSize_1 6 rfl rfl)
theorem dJ25_stringSize_31 : decode cJ25_stringSize 31 = .ok (.bipush 10, 2) := dk_16 10 (dk_at dksJ25_stringSize_1 7 rfl rfl)
theorem dJ25_stringSize_33 : decode cJ25_stringSize 33 = .ok (.iload_n 2, 1) := dk_28 (dk_at dksJ25_stringSize_1 9 rfl rfl)
theorem dJ25_stringSize_34 : decode cJ25_stringSize 34 = .ok (.imul, 1) := dk_104 (dk_at dksJ25_stringSize_1 10 rfl rfl)
theorem dJ25_stringSize_35 : decode cJ25_stringSize 35 = .ok (.istore_n 2, 1) := dk_61 (dk_at dksJ25_stringSize_1 11 rfl rfl)
theorem dJ25_stringSize_36 : decode cJ25_stringSize 36 = .ok (.iinc 3 1, 3) := dk_132 3 1 (dk_at dksJ25_stringSize_1 12 rfl rfl)
theorem dJ25_stringSize_39 : decode cJ25_stringSize 39 = .ok (.goto (-23), 3) := dk_167 255 233 (dk_at dksJ25_stringSize_1 15 rfl rfl)
theorem dJ25_stringSize_42 : decode cJ25_stringSize 42 = .ok (.bipush 10, 2) := dk_16 10 (dk_at dksJ25_stringSize_1 18 rfl rfl)
theorem dJ25_stringSize_44 : decode cJ25_stringSize 44 = .ok (.iload_n 1, 1) := dk_27 (dk_at dksJ25_stringSize_1 20 rfl rfl)
theorem dJ25_stringSize_45 : decode cJ25_stringSize 45 = .ok (.iadd, 1) := dk_96 (dk_at dksJ25_stringSize_1 21 rfl rfl)
theorem dJ25_stringSize_46 : decode cJ25_stringSize 46 = .ok (.ireturn, 1) := dk_172 (dk_at dksJ25_stringSize_1 22 rfl rfl)
def dkwJ25_getChars_5 : List UInt8 := [16, 45, 84, 21, 5, 172]
abbrev dktJ25_getChars_5 : List UInt8 := dkwJ25_getChars_5 ++ []
def dkwJ25_getChars_4 : List UInt8 := [132, 5, 255, 21, 5, 178, 0, 87, 26, 116, 51, 84, 21, 6, 153, 0, 12, 44, 132, 5, 255, 21, 5]
abbrev dktJ25_getChars_4 : List UInt8 := dkwJ25_getChars_4 ++ dktJ25_getChars_5
def dkwJ25_getChars_3 : List UInt8 := [167, 255, 209, 44, 132, 5, 255, 21, 5, 178, 0, 83, 26, 116, 51, 84, 26, 16, 247, 162, 0, 16, 44]
abbrev dktJ25_getChars_3 : List UInt8 := dkwJ25_getChars_3 ++ dktJ25_getChars_4
def dkwJ25_getChars_2 : List UInt8 := [21, 5, 178, 0, 83, 21, 4, 51, 84, 44, 132, 5, 255, 21, 5, 178, 0, 87, 21, 4, 51, 84]
abbrev dktJ25_getChars_2 : List UInt8 := dkwJ25_getChars_2 ++ dktJ25_getChars_3
def dkwJ25_getChars_1 : List UInt8 := [16, 156, 163, 0, 47, 26, 16, 100, 108, 62, 29, 16, 100, 104, 26, 100, 54, 4, 29, 59, 44, 132, 5, 255]
abbrev dktJ25_getChars_1 : List UInt8 := dkwJ25_getChars_1 ++ dktJ25_getChars_2
def dkwJ25_getChars_0 : List UInt8 := [27, 54, 5, 26, 156, 0, 7, 4, 167, 0, 4, 3, 54, 6, 21, 6, 154, 0, 6, 26, 116, 59, 26]
abbrev dktJ25_getChars_0 : List UInt8 := dkwJ25_getChars_0 ++ dktJ25_getChars_1
theorem dksJ25_getChars_0 : cJ25_getChars.data.toList.drop 0 = dktJ25_getChars_0 := by decide +kernel
theorem dksJ25_getChars_1 : cJ25_getChars.data.toList.drop 23 = dktJ25_getChars_1 := dk_seg dksJ25_getChars_0 23 rfl rfl
theorem dksJ25_getChars_2 : cJ25_getChars.data.toList.drop 47 = dktJ25_getChars_2 := dk_seg dksJ25_getChars_1 24 rfl rfl
theorem dksJ25_getChars_3 : cJ25_getChars.data.toList.drop 69 = dktJ25_getChars_3 := dk_seg dksJ25_getChars_2 22 rfl rfl
theorem dksJ25_getChars_4 : cJ25_getChars.data.toList.drop 92 = dktJ25_getChars_4 := dk_seg dksJ25_getChars_3 23 rfl rfl
theorem dksJ25_getChars_5 : cJ25_getChars.data.toList.drop 115 = dktJ25_getChars_5 := dk_seg dksJ25_getChars_4 23 rfl rfl
theorem dJ25_getChars_0 : decode cJ25_getChars 0 = .ok (.iload_n 1, 1) := dk_27 (dk_at dksJ25_getChars_0 0 rfl rfl)
theorem dJ25_getChars_1 : decode cJ25_getChars 1 = .ok (.istore 5, 2) := dk_54 5 (dk_at dksJ25_getChars_0 1 rfl rfl)
theorem dJ25_getChars_3 : decode cJ25_getChars 3 = .ok (.iload_n 0, 1) := dk_26 (dk_at dksJ25_getChars_0 3 rfl rfl)
theorem dJ25_getChars_4 : decode cJ25_getChars 4 = .ok (.ifCond .ge 7, 3) := dk_156 0 7 (dk_at dksJ25_getChars_0 4 rfl rfl)
theorem dJ25_getChars_7 : decode cJ25_getChars 7 = .ok (.iconst 1, 1) := dk_4 (dk_at dksJ25_getChars_0 7 rfl rfl)
theorem dJ25_getChars_8 : decode cJ25_getChars 8 = .ok (.goto 4, 3) := dk_167 0 4 (dk_at dksJ25_getChars_0 8 rfl rfl)
theorem dJ25_getChars_11 : decode cJ25_getChars 11 = .ok (.iconst 0, 1) := dk_3 (dk_at dksJ25_getChars_0 11 rfl rfl)
theorem dJ25_getChars_12 : decode cJ25_getChars 12 = .ok (.istore 6, 2) := dk_54 6 (dk_at dksJ25_getChars_0 12 rfl rfl)
theorem dJ25_getChars_14 : decode cJ25_getChars 14 = .ok (.iload 6, 2) := dk_21 6 (dk_at dksJ25_getChars_0 14 rfl rfl)
theorem dJ25_getChars_16 : decode cJ25_getChars 16 = .ok (.ifCond .ne 6, 3) := dk_154 0 6 (dk_at dksJ25_getChars_0 16 rfl rfl)
theorem dJ25_getChars_19 : decode cJ25_getChars 19 = .ok (.iload_n 0, 1) := dk_26 (dk_at dksJ25_getChars_0 19 rfl rfl)
theorem dJ25_getChars_20 : decode cJ25_getChars 20 = .ok (.ineg, 1) := dk_116 (dk_at dksJ25_getChars_0 20 rfl rfl)
theorem dJ25_getChars_21 : decode cJ25_getChars 21 = .ok (.istore_n 0, 1) := dk_59 (dk_at dksJ25_getChars_0 21 rfl rfl)
theorem dJ25_getChars_22 : decode cJ25_getChars 22 = .ok (.iload_n 0, 1) := dk_26 (dk_at dksJ25_getChars_0 22 rfl rfl)
theorem dJ25_getChars_23 : decode cJ25_getChars 23 = .ok (.bipush (-100), 2) := dk_16 156 (dk_at dksJ25_getChars_1 0 rfl rfl)
theorem dJ25_getChars_25 : decode cJ25_getChars 25 = .ok (.if_icmp .gt 47, 3) := dk_163 0 47 (dk_at dksJ25_getChars_1 2 rfl rfl)
theorem dJ25_getChars_28 : decode cJ25_getChars 28 = .ok (.iload_n 0, 1) := dk_26 (dk_at dksJ25_getChars_1 5 rfl rfl)
theorem dJ25_getChars_29 : decode cJ25_getChars 29 = .ok (.bipush 100, 2) := dk_16 100 (dk_at dksJ25_getChars_1 6 rfl rfl)
theorem dJ25_getChars_31 : decode cJ25_getChars 31 = .ok (.idiv, 1) := dk_108 (dk_at dksJ25_getChars_1 8 rfl rfl)
theorem dJ25_getChars_32 : decode cJ25_getChars 32 = .ok (.istore_n 3, 1) := dk_62 (dk_at dksJ25_getChars_1 9 rfl rfl)
theorem dJ25_getChars_33 : decode cJ25_getChars 33 = .ok (.iload_n 3, 1) := dk_29 (dk_at dksJ25_getChars_1 10 rfl rfl)
theorem dJ25_getChars_34 : decode cJ25_getChars 34 = .ok (.bipush 100, 2) := dk_16 100 (dk_at dksJ25_getChars_1 11 rfl rfl)
theorem dJ25_getChars_36 : decode cJ25_getChars 36 = .ok (.imul, 1) := dk_104 (dk_at dksJ25_getChars_1 13 rfl rfl)
theorem dJ25_getChars_37 : decode cJ25_getChars 37 = .ok (.iload_n 0, 1) := dk_26 (dk_at dksJ25_getChars_1 14 rfl rfl)
theorem dJ25_getChars_38 : decode cJ25_getChars 38 = .ok (.isub, 1) := dk_100 (dk_at dksJ25_getChars_1 15 rfl rfl)
theorem dJ25_getChars_39 : decode cJ25_getChars 39 = .ok (.istore 4, 2) := dk_54 4 (dk_at dksJ25_getChars_1 16 rfl rfl)
theorem dJ25_getChars_41 : decode cJ25_getChars 41 = .ok (.iload_n 3, 1) := dk_29 (dk_at dksJ25_getChars_1 18 rfl rfl)
theorem dJ25_getChars_42 : decode cJ25_getChars 42 = .ok (.istore_n 0, 1) := dk_59 (dk_at dksJ25_getChars_1 19 rfl rfl)
theorem dJ25_getChars_43 : decode cJ25_getChars 43 = .ok (.aload_n 2, 1) := dk_44 (dk_at dksJ25_getChars_1 20 rfl rfl)
theorem dJ25_getChars_44 : decode cJ25_getChars 44 = .ok (.iinc 5 (-1), 3) := dk_132 5 255 (dk_at dksJ25_getChars_1 21 rfl rfl)
theorem dJ25_getChars_47 : decode cJ25_getChars 47 = .ok (.iload 5, 2) := dk_21 5 (dk_at dksJ25_getChars_2 0 rfl rfl)
theorem dJ25_getChars_49 : decode cJ25_getChars 49 = .ok (.getstatic 83, 3) := dk_178 0 83 (dk_at dksJ25_getChars_2 2 rfl rfl)
theorem dJ25_getChars_52 : decode cJ25_getChars 52 = .ok (.iload 4, 2) := dk_21 4 (dk_at dksJ25_getChars_2 5 rfl rfl)
theorem dJ25_getChars_54 : decode cJ25_getChars 54 = .ok (.baload, 1) := dk_51 (dk_at dksJ25_getChars_2 7 rfl rfl)
theorem dJ25_getChars_55 : decode cJ25_getChars 55 = .ok (.bastore, 1) := dk_84 (dk_at dksJ25_getChars_2 8 rfl rfl)
theorem dJ25_getChars_56 : decode cJ25_getChars 56 = .ok (.aload_n 2, 1) := dk_44 (dk_at dksJ25_getChars_2 9 rfl rfl)
theorem dJ25_getChars_57 : decode cJ25_getChars 57 = .ok (.iinc 5 (-1), 3) := dk_132 5 255 (dk_at dksJ25_getChars_2 10 rfl rfl)
theorem dJ25_getChars_60 : decode cJ25_getChars 60 = .ok (.iload 5, 2) := dk_21 5 (dk_at dksJ25_getChars_2 13 rfl rfl)
theorem dJ25_getChars_62 : decode cJ25_getChars 62 = .ok (.getstatic 87, 3) := dk_178 0 87 (dk_at dksJ25_getChars_2 15 rfl rfl)
theorem dJ25_getChars_65 : decode cJ25_getChars 65 = .ok (.iload 4, 2) := dk_21 4 (dk_at dksJ25_getChars_2 18 rfl rfl)
theorem dJ25_getChars_67 : decode cJ25_getChars 67 = .ok (.baload, 1) := dk_51 (dk_at dksJ25_getChars_2 20 rfl rfl)
theorem dJ25_getChars_68 : decode cJ25_getChars 68 = .ok (.bastore, 1) := dk_84 (dk_at dksJ25_getChars_2 21 rfl rfl)
theorem dJ25_getChars_69 : decode cJ25_getChars 69 = .ok (.goto (-47), 3) := dk_167 255 209 (dk_at dksJ25_getChars_3 0 rfl rfl)
theorem dJ25_getChars_72 : decode cJ25_getChars 72 = .ok (.aload_n 2, 1) := dk_44 (dk_at dksJ25_getChars_3 3 rfl rfl)
theorem dJ25_getChars_73 : decode cJ25_getChars 73 = .ok (.iinc 5 (-1), 3) := dk_132 5 255 (dk_at dksJ25_getChars_3 4 rfl rfl)
theorem dJ25_getChars_76 : decode cJ25_getChars 76 = .ok (.iload 5, 2) := dk_21 5 (dk_at dksJ25_getChars_3 7 rfl rfl)
theorem dJ25_getChars_78 : decode cJ25_getChars 78 = .ok (.getstatic 83, 3) := dk_178 0 83 (dk_at dksJ25_getChars_3 9 rfl rfl)
theorem dJ25_getChars_81 : decode cJ25_getChars 81 = .ok (.iload_n 0, 1) := dk_26 (dk_at dksJ25_getChars_3 12 rfl rfl)
theorem dJ25_getChars_82 : decode cJ25_getChars 82 = .ok (.ineg, 1) := dk_116 (dk_at dksJ25_getChars_3 13 rfl rfl)
theorem dJ25_getChars_83 : decode cJ25_getChars 83 = .ok (.baload, 1) := dk_51 (dk_at dksJ25_getChars_3 14 rfl rfl)
theorem dJ25_getChars_84 : decode cJ25_getChars 84 = .ok (.bastore, 1) := dk_84 (dk_at dksJ25_getChars_3 15 rfl rfl)
theorem dJ25_getChars_85 : decode cJ25_getChars 85 = .ok (.iload_n 0, 1) := dk_26 (dk_at dksJ25_getChars_3 16 rfl rfl)
theorem dJ25_getChars_86 : decode cJ25_getChars 86 = .ok (.bipush (-9), 2) := dk_16 247 (dk_at dksJ25_getChars_3 17 rfl rfl)
theorem dJ25_getChars_88 : decode cJ25_getChars 88 = .ok (.if_icmp .ge 16, 3) := dk_162 0 16 (dk_at dksJ25_getChars_3 19 rfl rfl)
theorem dJ25_getChars_91 : decode cJ25_getChars 91 = .ok (.aload_n 2, 1) := dk_44 (dk_at dksJ25_getChars_3 22 rfl rfl)
theorem dJ25_getChars_92 : decode cJ25_getChars 92 = .ok (.iinc 5 (-1), 3) := dk_132 5 255 (dk_at dksJ25_getChars_4 0 rfl rfl)
theorem dJ25_getChars_95 : decode cJ25_getChars 95 = .ok (.iload 5, 2) := dk_21 5 (dk_at dksJ25_getChars_4 3 rfl rfl)
theorem dJ25_getChars_97 : decode cJ25_getChars 97 = .ok (.getstatic 87, 3) := dk_178 0 87 (dk_at dksJ25_getChars_4 5 rfl rfl)
theorem dJ25_getChars_100 : decode cJ25_getChars 100 = .ok (.iload_n 0, 1) := dk_26 (dk_at dksJ25_getChars_4 8 rfl rfl)
theorem dJ25_getChars_101 : decode cJ25_getChars 101 = .ok (.ineg, 1) := dk_116 (dk_at dksJ25_getChars_4 9 rfl rfl)
theorem dJ25_getChars_102 : decode cJ25_getChars 102 = .ok (.baload, 1) := dk_51 (dk_at dksJ25_getChars_4 10 rfl rfl)
theorem dJ25_getChars_103 : decode cJ25_getChars 103 = .ok (.bastore, 1) := dk_84 (dk_at dksJ25_getChars_4 11 rfl rfl)
theorem dJ25_getChars_104 : decode cJ25_getChars 104 = .ok (.iload 6, 2) := dk_21 6 (dk_at dksJ25_getChars_4 12 rfl rfl)
theorem dJ25_getChars_106 : decode cJ25_getChars 106 = .ok (.ifCond .eq 12, 3) := dk_153 0 12 (dk_at dksJ25_getChars_4 14 rfl rfl)
theorem dJ25_getChars_109 : decode cJ25_getChars 109 = .ok (.aload_n 2, 1) := dk_44 (dk_at dksJ25_getChars_4 17 rfl rfl)
theorem dJ25_getChars_110 : decode cJ25_getChars 110 = .ok (.iinc 5 (-1), 3) := dk_132 5 255 (dk_at dksJ25_getChars_4 18 rfl rfl)
theorem dJ25_getChars_113 : decode cJ25_getChars 113 = .ok (.iload 5, 2) := dk_21 5 (dk_at dksJ25_getChars_4 21 rfl rfl)
theorem dJ25_getChars_115 : decode cJ25_getChars 115 = .ok (.bipush 45, 2) := dk_16 45 (dk_at dksJ25_getChars_5 0 rfl rfl)
theorem dJ25_getChars_117 : decode cJ25_getChars 117 = .ok (.bastore, 1) := dk_84 (dk_at dksJ25_getChars_5 2 rfl rfl)
theorem dJ25_getChars_118 : decode cJ25_getChars 118 = .ok (.iload 5, 2) := dk_21 5 (dk_at dksJ25_getChars_5 3 rfl rfl)
theorem dJ25_getChars_120 : decode cJ25_getChars 120 = .ok (.ireturn, 1) := dk_172 (dk_at dksJ25_getChars_5 5 rfl rfl)
def tJ25_stringSize : pb_T := [(0, .iconst 1, 1, 0), (1, .istore_n 1, 2, 0), (2, .iload_n 0, 3, 0), (3, .ifCond .lt 8, 6, 11), (6, .iconst 0, 7, 0), (7, .istore_n 1, 8, 0), (8, .iload_n 0, 9, 0), (9, .ineg, 10, 0), (10, .istore_n 0, 11, 0), (11, .bipush (-10), 13, 0), (13, .istore_n 2, 14, 0), (14, .iconst 1, 15, 0), (15, .istore_n 3, 16, 0), (16, .iload_n 3, 17, 1), (17, .bipush 10, 19, 0), (19, .if_icmp .ge 23, 22, 42), (22, .iload_n 0, 23, 0), (23, .iload_n 2, 24, 0), (24, .if_icmp .le 7, 27, 31), (27, .iload_n 3, 28, 0), (28, .iload_n 1, 29, 0), (29, .iadd, 30, 0), (30, .ireturn, 31, 0), (31, .bipush 10, 33, 0), (33, .iload_n 2, 34, 0), (34, .imul, 35, 0), (35, .istore_n 2, 36, 0), (36, .iinc 3 1, 39, 0), (39, .goto (-23), 42, 16), (42, .bipush 10, 44, 0), (44, .iload_n 1, 45, 0), (45, .iadd, 46, 0), (46, .ireturn, 47, 0)]
theorem tJ25_stringSize_ok : pb_Tok cJ25_stringSize tJ25_stringSize := pb_Tok.cons dJ25_stringSize_0 rfl (pb_Tok.cons dJ25_stringSize_1 rfl (pb_Tok.cons dJ25_stringSize_2 rfl (pb_Tok.cons dJ25_stringSize_3 rfl (pb_Tok.cons dJ25_stringSize_6 rfl (pb_Tok.cons dJ25_stringSize_7 rfl (pb_Tok.cons dJ25_stringSize_8 rfl (pb_Tok.cons dJ25_stringSize_9 rfl (pb_Tok.cons dJ25_stringSize_10 rfl (pb_Tok.cons dJ25_stringSize_11 rfl (pb_Tok.cons dJ25_stringSize_13 rfl (pb_Tok.cons dJ25_stringSize_14 rfl (pb_Tok.cons dJ25_stringSize_15 rfl (pb_Tok.cons dJ25_stringSize_16 rfl (pb_Tok.cons dJ25_stringSize_17 rfl (pb_Tok.cons dJ25_stringSize_19 rfl (pb_Tok.cons dJ25_stringSize_22 rfl (pb_Tok.cons dJ25_stringSize_23 rfl (pb_Tok.cons dJ25_stringSize_24 rfl (pb_Tok.cons dJ25_stringSize_27 rfl (pb_Tok.cons dJ25_stringSize_28 rfl (pb_Tok.cons dJ25_stringSize_29 rfl (pb_Tok.cons dJ25_stringSize_30 rfl (pb_Tok.cons dJ25_stringSize_31 rfl (pb_Tok.cons dJ25_stringSize_33 rfl (pb_Tok.cons dJ25_stringSize_34 rfl (pb_Tok.cons dJ25_stringSize_35 rfl (pb_Tok.cons dJ25_stringSize_36 rfl (pb_Tok.cons dJ25_stringSize_39 rfl (pb_Tok.cons dJ25_stringSize_42 rfl (pb_Tok.cons dJ25_stringSize_44 rfl (pb_Tok.cons dJ25_stringSize_45 rfl (pb_Tok.cons dJ25_stringSize_46 rfl pb_Tok.nil))))))))))))))))))))))))))))))))
def tJ25_getChars_0 : pb_T := [(0, .iload_n 1, 1, 0), (1, .istore 5, 3, 0), (3, .iload_n 0, 4, 0), (4, .ifCond .ge 7, 7, 11), (7, .iconst 1, 8, 0), (8, .goto 4, 11, 12), (11, .iconst 0, 12, 0), (12, .istore 6, 14, 0), (14, .iload 6, 16, 0), (16, .ifCond .ne 6, 19, 22), (19, .iload_n 0, 20, 0), (20, .ineg, 21, 0), (21, .istore_n 0, 22, 0), (22, .iload_n 0, 23, 1), (23, .bipush (-100), 25, 0), (25, .if_icmp .gt 47, 28, 72), (28, .iload_n 0, 29, 0), (29, .bipush 100, 31, 0), (31, .idiv, 32, 0), (32, .istore_n 3, 33, 0), (33, .iload_n 3, 34, 0), (34, .bipush 100, 36, 0), (36, .imul, 37, 0), (37, .iload_n 0, 38, 0), (38, .isub, 39, 0), (39, .istore 4, 41, 0), (41, .iload_n 3, 42, 0), (42, .istore_n 0, 43, 0), (43, .aload_n 2, 44, 0), (44, .iinc 5 (-1), 47, 0), (47, .iload 5, 49, 0), (49, .getstatic 83, 52, 0), (52, .iload 4, 54, 0), (54, .baload, 55, 0), (55, .bastore, 56, 0), (56, .aload_n 2, 57, 0), (57, .iinc 5 (-1), 60, 0), (60, .iload 5, 62, 0), (62, .getstatic 87, 65, 0), (65, .iload 4, 67, 0), (67, .baload, 68, 0), (68, .bastore, 69, 0), (69, .goto (-47), 72, 22), (72, .aload_n 2, 73, 0), (73, .iinc 5 (-1), 76, 0), (76, .iload 5, 78, 0), (78, .getstatic 83, 81, 0), (81, .iload_n 0, 82, 0), (82, .ineg, 83, 0), (83, .baload, 84, 0), (84, .bastore, 85, 0), (85, .iload_n 0, 86, 0), (86, .bipush (-9), 88, 0), (88, .if_icmp .ge 16, 91, 104), (91, .aload_n 2, 92, 0), (92, .iinc 5 (-1), 95, 0), (95, .iload 5, 97, 0), (97, .getstatic 87, 100, 0), (100, .iload_n 0, 101, 0), (101, .ineg, 102, 0)]
theorem tJ25_getChars_0_ok : pb_Tok cJ25_getChars tJ25_getChars_0 := pb_Tok.cons dJ25_getChars_0 rfl (pb_Tok.cons dJ25_getChars_1 rfl (pb_Tok.cons dJ25_getChars_3 rfl (pb_Tok.cons dJ25_getChars_4 rfl (pb_Tok.cons dJ25_getChars_7 rfl (pb_Tok.cons dJ25_getChars_8 rfl (pb_Tok.cons dJ25_getChars_11 rfl (pb_Tok.cons dJ25_getChars_12 rfl (pb_Tok.cons dJ25_getChars_14 rfl (pb_Tok.cons dJ25_getChars_16 rfl (pb_Tok.cons dJ25_getChars_19 rfl (pb_Tok.cons dJ25_getChars_20 rfl (pb_Tok.cons dJ25_getChars_21 rfl (pb_Tok.cons dJ25_getChars_22 rfl (pb_Tok.cons dJ25_getChars_23 rfl (pb_Tok.cons dJ25_getChars_25 rfl (pb_Tok.cons dJ25_getChars_28 rfl (pb_Tok.cons dJ25_getChars_29 rfl (pb_Tok.cons dJ25_getChars_31 rfl (pb_Tok.cons dJ25_getChars_32 rfl (pb_Tok.cons dJ25_getChars_33 rfl (pb_Tok.cons dJ25_getChars_34 rfl (pb_Tok.cons dJ25_getChars_36 rfl (pb_Tok.cons dJ25_getChars_37 rfl (pb_Tok.cons dJ25_getChars_38 rfl (pb_Tok.cons dJ25_getChars_39 rfl (pb_Tok.cons dJ25_getChars_41 rfl (pb_Tok.cons dJ25_getChars_42 rfl (pb_Tok.cons dJ25_getChars_43 rfl (pb_Tok.cons dJ25_getChars_44 rfl (pb_Tok.cons dJ25_getChars_47 rfl (pb_Tok.cons dJ25_getChars_49 rfl (pb_Tok.cons dJ25_getChars_52 rfl (pb_Tok.cons dJ25_getChars_54 rfl (pb_Tok.cons dJ25_getChars_55 rfl (pb_Tok.cons dJ25_getChars_56 rfl (pb_Tok.cons dJ25_getChars_57 rfl (pb_Tok.cons dJ25_getChars_60 rfl (pb_Tok.cons dJ25_getChars_62 rfl (pb_Tok.cons dJ25_getChars_65 rfl (pb_Tok.cons dJ25_getChars_67 rfl (pb_Tok.cons dJ25_getChars_68 rfl (pb_Tok.cons dJ25_getChars_69 rfl (pb_Tok.cons dJ25_getChars_72 rfl (pb_Tok.cons dJ25_getChars_73 rfl (pb_Tok.cons dJ25_getChars_76 rfl (pb_Tok.cons dJ25_getChars_78 rfl (pb_Tok.cons dJ25_getChars_81 rfl (pb_Tok.cons dJ25_getChars_82 rfl (pb_Tok.cons dJ25_getChars_83 rfl (pb_Tok.cons dJ25_getChars_84 rfl (pb_Tok.cons dJ25_getChars_85 rfl (pb_Tok.cons dJ25_getChars_86 rfl (pb_Tok.cons dJ25_getChars_88 rfl (pb_Tok.cons dJ25_getChars_91 rfl (pb_Tok.cons dJ25_getChars_92 rfl (pb_Tok.cons dJ25_getChars_95 rfl (pb_Tok.cons dJ25_getChars_97 rfl (pb_Tok.cons dJ25_getChars_100 rfl (pb_Tok.cons dJ25_getChars_101 rfl pb_Tok.nil)))))))))))))))))))))))))))))))))))))))))))))))))))))))))))
def tJ25_getChars_1 : pb_T := [(102, .baload, 103, 0), (103, .bastore, 104, 0), (104, .iload 6, 106, 0), (106, .ifCond .eq 12, 109, 118), (109, .aload_n 2, 110, 0), (110, .iinc 5 (-1), 113, 0), (113, .iload 5, 115, 0), (115, .bipush 45, 117, 0), (117, .bastore, 118, 0), (118, .iload 5, 120, 0), (120, .ireturn, 121, 0)]
theorem tJ25_getChars_1_ok : pb_Tok cJ25_getChars tJ25_getChars_1 := pb_Tok.cons dJ25_getChars_102 rfl (pb_Tok.cons dJ25_getChars_103 rfl (pb_Tok.cons dJ25_getChars_104 rfl (pb_Tok.cons dJ25_getChars_106 rfl (pb_Tok.cons dJ25_getChars_109 rfl (pb_Tok.cons dJ25_getChars_110 rfl (pb_Tok.cons dJ25_getChars_113 rfl (pb_Tok.cons dJ25_getChars_115 rfl (pb_Tok.cons dJ25_getChars_117 rfl (pb_Tok.cons dJ25_getChars_118 rfl (pb_Tok.cons dJ25_getChars_120 rfl pb_Tok.nil))))))))))
def tJ25_getChars : pb_T := tJ25_getChars_0 ++ (tJ25_getChars_1)
theorem tJ25_getChars_ok : pb_Tok cJ25_getChars tJ25_getChars := pb_Tok.app tJ25_getChars_0_ok (tJ25_getChars_1_ok)
