/-! decode rows of the small JDK classes and of Village, HairRope's small ones -/
set_option maxRecDepth 100000
def dkwJ5_init_0 : List UInt8 := [42, 183, 0, 1, 42, 178, 0, 39, 181, 0, 9, 177]
abbrev dktJ5_init_0 : List UInt8 := dkwJ5_init_0 ++ []
theorem dksJ5_init_0 : cJ5_init.data.toList.drop 0 = dktJ5_init_0 := by decide +kernel
theorem dJ5_init_0 : decode cJ5_init 0 = .ok (.aload_n 0, 1) := dk_42 (dk_at dksJ5_init_0 0 rfl rfl)
theorem dJ5_init_1 : decode cJ5_init 1 = .ok (.invokespecial 1, 3) := dk_183 0 1 (dk_at dksJ5_init_0 1 rfl rfl)
theorem dJ5_init_4 : decode cJ5_init 4 = .ok (.aload_n 0, 1) := dk_42 (dk_at dksJ5_init_0 4 rfl rfl)
theorem dJ5_init_5 : decode cJ5_init 5 = .ok (.getstatic 39, 3) := dk_178 0 39 (dk_at dksJ5_init_0 5 rfl rfl)
theorem dJ5_init_8 : decode cJ5_init 8 = .ok (.putfield 9, 3) := dk_181 0 9 (dk_at dksJ5_init_0 8 rfl rfl)
theorem dJ5_init_11 : decode cJ5_init 11 = .ok (.return_, 1) := dk_177 (dk_at dksJ5_init_0 11 rfl rfl)
theorem dJ5_size_0 : decode cJ5_size 0 = .ok (.aload_n 0, 1) := by decide +kernel
theorem dJ5_size_1 : decode cJ5_size 1 = .ok (.getfield 48, 3) := by decide +kernel
theorem dJ5_size_4 : decode cJ5_size 4 = .ok (.ireturn, 1) := by decide +kernel
def dkwJ5_get_0 : List UInt8 := [27, 42, 180, 0, 48, 184, 0, 118, 87, 42, 27, 182, 0, 123, 176]
abbrev dktJ5_get_0 : List UInt8 := dkwJ5_get_0 ++ []
theorem dksJ5_get_0 : cJ5_get.data.toList.drop 0 = dktJ5_get_0 := by decide +kernel
theorem dJ5_get_0 : decode cJ5_get 0 = .ok (.iload_n 1, 1) := dk_27 (dk_at dksJ5_get_0 0 rfl rfl)
theorem dJ5_get_1 : decode cJ5_get 1 = .ok (.aload_n 0, 1) := dk_42 (dk_at dksJ5_get_0 1 rfl rfl)
theorem dJ5_get_2 : decode cJ5_get 2 = .ok (.getfield 48, 3) := dk_180 0 48 (dk_at dksJ5_get_0 2 rfl rfl)
theorem dJ5_get_5 : decode cJ5_get 5 = .ok (.invokestatic 118, 3) := dk_184 0 118 (dk_at dksJ5_get_0 5 rfl rfl)
theorem dJ5_get_8 : decode cJ5_get 8 = .ok (.pop, 1) := dk_87 (dk_at dksJ5_get_0 8 rfl rfl)
theorem dJ5_get_9 : decode cJ5_get 9 = .ok (.aload_n 0, 1) := dk_42 (dk_at dksJ5_get_0 9 rfl rfl)
theorem dJ5_get_10 : decode cJ5_get 10 = .ok (.iload_n 1, 1) := dk_27 (dk_at dksJ5_get_0 10 rfl rfl)
theorem dJ5_get_11 : decode cJ5_get 11 = .ok (.invokevirtual 123, 3) := dk_182 0 123 (dk_at dksJ5_get_0 11 rfl rfl)
theorem dJ5_get_14 : decode cJ5_get 14 = .ok (.areturn, 1) := dk_176 (dk_at dksJ5_get_0 14 rfl rfl)
def dkwJ5_elementData_0 : List UInt8 := [42, 180, 0, 9, 27, 50, 176]
abbrev dktJ5_elementData_0 : List UInt8 := dkwJ5_elementData_0 ++ []
theorem dksJ5_elementData_0 : cJ5_elementData.data.toList.drop 0 = dktJ5_elementData_0 := by decide +kernel
theorem dJ5_elementData_0 : decode cJ5_elementData 0 = .ok (.aload_n 0, 1) := dk_42 (dk_at dksJ5_elementData_0 0 rfl rfl)
theorem dJ5_elementData_1 : decode cJ5_elementData 1 = .ok (.getfield 9, 3) := dk_180 0 9 (dk_at dksJ5_elementData_0 1 rfl rfl)
theorem dJ5_elementData_4 : decode cJ5_elementData 4 = .ok (.iload_n 1, 1) := dk_27 (dk_at dksJ5_elementData_0 4 rfl rfl)
theorem dJ5_elementData_5 : decode cJ5_elementData 5 = .ok (.aaload, 1) := dk_50 (dk_at dksJ5_elementData_0 5 rfl rfl)
theorem dJ5_elementData_6 : decode cJ5_elementData 6 = .ok (.areturn, 1) := dk_176 (dk_at dksJ5_elementData_0 6 rfl rfl)
def dkwJ5_add_1 : List UInt8 := [172]
abbrev dktJ5_add_1 : List UInt8 := dkwJ5_add_1 ++ []
def dkwJ5_add_0 : List UInt8 := [42, 89, 180, 0, 63, 4, 96, 181, 0, 63, 42, 43, 42, 180, 0, 9, 42, 180, 0, 48, 182, 0, 131, 4]
abbrev dktJ5_add_0 : List UInt8 := dkwJ5_add_0 ++ dktJ5_add_1
theorem dksJ5_add_0 : cJ5_add.data.toList.drop 0 = dktJ5_add_0 := by decide +kernel
theorem dksJ5_add_1 : cJ5_add.data.toList.drop 24 = dktJ5_add_1 := dk_seg dksJ5_add_0 24 rfl rfl
theorem dJ5_add_0 : decode cJ5_add 0 = .ok (.aload_n 0, 1) := dk_42 (dk_at dksJ5_add_0 0 rfl rfl)
theorem dJ5_add_1 : decode cJ5_add 1 = .ok (.dup, 1) := dk_89 (dk_at dksJ5_add_0 1 rfl rfl)
theorem dJ5_add_2 : decode cJ5_add 2 = .ok (.getfield 63, 3) := dk_180 0 63 (dk_at dksJ5_add_0 2 rfl rfl)
theorem dJ5_add_5 : decode cJ5_add 5 = .ok (.iconst 1, 1) := dk_4 (dk_at dksJ5_add_0 5 rfl rfl)
theorem dJ5_add_6 : decode cJ5_add 6 = .ok (.iadd, 1) := dk_96 (dk_at dksJ5_add_0 6 rfl rfl)
theorem dJ5_add_7 : decode cJ5_add 7 = .ok (.putfield 63, 3) := dk_181 0 63 (dk_at dksJ5_add_0 7 rfl rfl)
theorem dJ5_add_10 : decode cJ5_add 10 = .ok (.aload_n 0, 1) := dk_42 (dk_at dksJ5_add_0 10 rfl rfl)
theorem dJ5_add_11 : decode cJ5_add 11 = .ok (.aload_n 1, 1) := dk_43 (dk_at dksJ5_add_0 11 rfl rfl)
theorem dJ5_add_12 : decode cJ5_add 12 = .ok (.aload_n 0, 1) := dk_42 (dk_at dksJ5_add_0 12 rfl rfl)
theorem dJ5_add_13 : decode cJ5_add 13 = .ok (.getfield 9, 3) := dk_180 0 9 (dk_at dksJ5_add_0 13 rfl rfl)
theorem dJ5_add_16 : decode cJ5_add 16 = .ok (.aload_n 0, 1) := dk_42 (dk_at dksJ5_add_0 16 rfl rfl)
theorem dJ5_add_17 : decode cJ5_add 17 = .ok (.getfield 48, 3) := dk_180 0 48 (dk_at dksJ5_add_0 17 rfl rfl)
theorem dJ5_add_20 : decode cJ5_add 20 = .ok (.invokevirtual 131, 3) := dk_182 0 131 (dk_at dksJ5_add_0 20 rfl rfl)
theorem dJ5_add_23 : decode cJ5_add 23 = .ok (.iconst 1, 1) := dk_4 (dk_at dksJ5_add_0 23 rfl rfl)
theorem dJ5_add_24 : decode cJ5_add 24 = .ok (.ireturn, 1) := dk_172 (dk_at dksJ5_add_1 0 rfl rfl)
def dkwJ5_add_2_0 : List UInt8 := [29, 44, 190, 160, 0, 8, 42, 182, 0, 129, 77, 44, 29, 43, 83, 42, 29, 4, 96, 181, 0, 48, 177]
abbrev dktJ5_add_2_0 : List UInt8 := dkwJ5_add_2_0 ++ []
theorem dksJ5_add_2_0 : cJ5_add_2.data.toList.drop 0 = dktJ5_add_2_0 := by decide +kernel
theorem dJ5_add_2_0 : decode cJ5_add_2 0 = .ok (.iload_n 3, 1) := dk_29 (dk_at dksJ5_add_2_0 0 rfl rfl)
theorem dJ5_add_2_1 : decode cJ5_add_2 1 = .ok (.aload_n 2, 1) := dk_44 (dk_at dksJ5_add_2_0 1 rfl rfl)
theorem dJ5_add_2_2 : decode cJ5_add_2 2 = .ok (.arraylength, 1) := dk_190 (dk_at dksJ5_add_2_0 2 rfl rfl)
theorem dJ5_add_2_3 : decode cJ5_add_2 3 = .ok (.if_icmp .ne 8, 3) := dk_160 0 8 (dk_at dksJ5_add_2_0 3 rfl rfl)
theorem dJ5_add_2_6 : decode cJ5_add_2 6 = .ok (.aload_n 0, 1) := dk_42 (dk_at dksJ5_add_2_0 6 rfl rfl)
theorem dJ5_add_2_7 : decode cJ5_add_2 7 = .ok (.invokevirtual 129, 3) := dk_182 0 129 (dk_at dksJ5_add_2_0 7 rfl rfl)
theorem dJ5_add_2_10 : decode cJ5_add_2 10 = .ok (.astore_n 2, 1) := dk_77 (dk_at dksJ5_add_2_0 10 rfl rfl)
theorem dJ5_add_2_11 : decode cJ5_add_2 11 = .ok (.aload_n 2, 1) := dk_44 (dk_at dksJ5_add_2_0 11 rfl rfl)
theorem dJ5_add_2_12 : decode cJ5_add_2 12 = .ok (.iload_n 3, 1) := dk_29 (dk_at dksJ5_add_2_0 12 rfl rfl)
theorem dJ5_add_2_13 : decode cJ5_add_2 13 = .ok (.aload_n 1, 1) := dk_43 (dk_at dksJ5_add_2_0 13 rfl rfl)
theorem dJ5_add_2_14 : decode cJ5_add_2 14 = .ok (.aastore, 1) := dk_83 (dk_at dksJ5_add_2_0 14 rfl rfl)
theorem dJ5_add_2_15 : decode cJ5_add_2 15 = .ok (.aload_n 0, 1) := dk_42 (dk_at dksJ5_add_2_0 15 rfl rfl)
theorem dJ5_add_2_16 : decode cJ5_add_2 16 = .ok (.iload_n 3, 1) := dk_29 (dk_at dksJ5_add_2_0 16 rfl rfl)
theorem dJ5_add_2_17 : decode cJ5_add_2 17 = .ok (.iconst 1, 1) := dk_4 (dk_at dksJ5_add_2_0 17 rfl rfl)
theorem dJ5_add_2_18 : decode cJ5_add_2 18 = .ok (.iadd, 1) := dk_96 (dk_at dksJ5_add_2_0 18 rfl rfl)
theorem dJ5_add_2_19 : decode cJ5_add_2 19 = .ok (.putfield 48, 3) := dk_181 0 48 (dk_at dksJ5_add_2_0 19 rfl rfl)
theorem dJ5_add_2_22 : decode cJ5_add_2 22 = .ok (.return_, 1) := dk_177 (dk_at dksJ5_add_2_0 22 rfl rfl)
def dkwJ5_grow_0 : List UInt8 := [42, 42, 180, 0, 48, 4, 96, 182, 0, 69, 176]
abbrev dktJ5_grow_0 : List UInt8 := dkwJ5_grow_0 ++ []
theorem dksJ5_grow_0 : cJ5_grow.data.toList.drop 0 = dktJ5_grow_0 := by decide +kernel
theorem dJ5_grow_0 : decode cJ5_grow 0 = .ok (.aload_n 0, 1) := dk_42 (dk_at dksJ5_grow_0 0 rfl rfl)
theorem dJ5_grow_1 : decode cJ5_grow 1 = .ok (.aload_n 0, 1) := dk_42 (dk_at dksJ5_grow_0 1 rfl rfl)
theorem dJ5_grow_2 : decode cJ5_grow 2 = .ok (.getfield 48, 3) := dk_180 0 48 (dk_at dksJ5_grow_0 2 rfl rfl)
theorem dJ5_grow_5 : decode cJ5_grow 5 = .ok (.iconst 1, 1) := dk_4 (dk_at dksJ5_grow_0 5 rfl rfl)
theorem dJ5_grow_6 : decode cJ5_grow 6 = .ok (.iadd, 1) := dk_96 (dk_at dksJ5_grow_0 6 rfl rfl)
theorem dJ5_grow_7 : decode cJ5_grow 7 = .ok (.invokevirtual 69, 3) := dk_182 0 69 (dk_at dksJ5_grow_0 7 rfl rfl)
theorem dJ5_grow_10 : decode cJ5_grow 10 = .ok (.areturn, 1) := dk_176 (dk_at dksJ5_grow_0 10 rfl rfl)
def dkwJ5_grow_2_2 : List UInt8 := [27, 184, 0, 79, 189, 0, 7, 90, 181, 0, 9, 176]
abbrev dktJ5_grow_2_2 : List UInt8 := dkwJ5_grow_2_2 ++ []
def dkwJ5_grow_2_1 : List UInt8 := [28, 4, 122, 184, 0, 73, 62, 42, 42, 180, 0, 9, 29, 184, 0, 66, 90, 181, 0, 9, 176, 42, 16, 10]
abbrev dktJ5_grow_2_1 : List UInt8 := dkwJ5_grow_2_1 ++ dktJ5_grow_2_2
def dkwJ5_grow_2_0 : List UInt8 := [42, 180, 0, 9, 190, 61, 28, 157, 0, 13, 42, 180, 0, 9, 178, 0, 39, 165, 0, 28, 28, 27, 28, 100]
abbrev dktJ5_grow_2_0 : List UInt8 := dkwJ5_grow_2_0 ++ dktJ5_grow_2_1
theorem dksJ5_grow_2_0 : cJ5_grow_2.data.toList.drop 0 = dktJ5_grow_2_0 := by decide +kernel
theorem dksJ5_grow_2_1 : cJ5_grow_2.data.toList.drop 24 = dktJ5_grow_2_1 := dk_seg dksJ5_grow_2_0 24 rfl rfl
theorem dksJ5_grow_2_2 : cJ5_grow_2.data.toList.drop 48 = dktJ5_grow_2_2 := dk_seg dksJ5_grow_2_1 24 rfl rfl
theorem dJ5_grow_2_0 : decode cJ5_grow_2 0 = .ok (.aload_n 0, 1) := dk_42 (dk_at dksJ5_grow_2_0 0 rfl rfl)
theorem dJ5_grow_2_1 : decode cJ5_grow_2 1 = .ok (.getfield 9, 3) := dk_180 0 9 (dk_at dksJ5_grow_2_0 1 rfl rfl)
theorem dJ5_grow_2_4 : decode cJ5_grow_2 4 = .ok (.arraylength, 1) := dk_190 (dk_at dksJ5_grow_2_0 4 rfl rfl)
theorem dJ5_grow_2_5 : decode cJ5_grow_2 5 = .ok (.istore_n 2, 1) := dk_61 (dk_at dksJ5_grow_2_0 5 rfl rfl)
theorem dJ5_grow_2_6 : decode cJ5_grow_2 6 = .ok (.iload_n 2, 1) := dk_28 (dk_at dksJ5_grow_2_0 6 rfl rfl)
theorem dJ5_grow_2_7 : decode cJ5_grow_2 7 = .ok (.ifCond .gt 13, 3) := dk_157 0 13 (dk_at dksJ5_grow_2_0 7 rfl rfl)
theorem dJ5_grow_2_10 : decode cJ5_grow_2 10 = .ok (.aload_n 0, 1) := dk_42 (dk_at dksJ5_grow_2_0 10 rfl rfl)
theorem dJ5_grow_2_11 : decode cJ5_grow_2 11 = .ok (.getfield 9, 3) := dk_180 0 9 (dk_at dksJ5_grow_2_0 11 rfl rfl)
theorem dJ5_grow_2_14 : decode cJ5_grow_2 14 = .ok (.getstatic 39, 3) := dk_178 0 39 (dk_at dksJ5_grow_2_0 14 rfl rfl)
theorem dJ5_grow_2_17 : decode cJ5_grow_2 17 = .ok (.if_acmp .eq 28, 3) := dk_165 0 28 (dk_at dksJ5_grow_2_0 17 rfl rfl)
theorem dJ5_grow_2_20 : decode cJ5_grow_2 20 = .ok (.iload_n 2, 1) := dk_28 (dk_at dksJ5_grow_2_0 20 rfl rfl)
theorem dJ5_grow_2_21 : decode cJ5_grow_2 21 = .ok (.iload_n 1, 1) := dk_27 (dk_at dksJ5_grow_2_0 21 rfl rfl)
theorem dJ5_grow_2_22 : decode cJ5_grow_2 22 = .ok (.iload_n 2, 1) := dk_28 (dk_at dksJ5_grow_2_0 22 rfl rfl)
theorem dJ5_grow_2_23 : decode cJ5_grow_2 23 = .ok (.isub, 1) := dk_100 (dk_at dksJ5_grow_2_0 23 rfl rfl)
theorem dJ5_grow_2_24 : decode cJ5_grow_2 24 = .ok (.iload_n 2, 1) := dk_28 (dk_at dksJ5_grow_2_1 0 rfl rfl)
theorem dJ5_grow_2_25 : decode cJ5_grow_2 25 = .ok (.iconst 1, 1) := dk_4 (dk_at dksJ5_grow_2_1 1 rfl rfl)
theorem dJ5_grow_2_26 : decode cJ5_grow_2 26 = .ok (.ishr, 1) := dk_122 (dk_at dksJ5_grow_2_1 2 rfl rfl)
theorem dJ5_grow_2_27 : decode cJ5_grow_2 27 = .ok (.invokestatic 73, 3) := dk_184 0 73 (dk_at dksJ5_grow_2_1 3 rfl rfl)
theorem dJ5_grow_2_30 : decode cJ5_grow_2 30 = .ok (.istore_n 3, 1) := dk_62 (dk_at dksJ5_grow_2_1 6 rfl rfl)
theorem dJ5_grow_2_31 : decode cJ5_grow_2 31 = .ok (.aload_n 0, 1) := dk_42 (dk_at dksJ5_grow_2_1 7 rfl rfl)
theorem dJ5_grow_2_32 : decode cJ5_grow_2 32 = .ok (.aload_n 0, 1) := dk_42 (dk_at dksJ5_grow_2_1 8 rfl rfl)
theorem dJ5_grow_2_33 : decode cJ5_grow_2 33 = .ok (.getfield 9, 3) := dk_180 0 9 (dk_at dksJ5_grow_2_1 9 rfl rfl)
theorem dJ5_grow_2_36 : decode cJ5_grow_2 36 = .ok (.iload_n 3, 1) := dk_29 (dk_at dksJ5_grow_2_1 12 rfl rfl)
theorem dJ5_grow_2_37 : decode cJ5_grow_2 37 = .ok (.invokestatic 66, 3) := dk_184 0 66 (dk_at dksJ5_grow_2_1 13 rfl rfl)
theorem dJ5_grow_2_40 : decode cJ5_grow_2 40 = .ok (.dup_x1, 1) := dk_90 (dk_at dksJ5_grow_2_1 16 rfl rfl)
theorem dJ5_grow_2_41 : decode cJ5_grow_2 41 = .ok (.putfield 9, 3) := dk_181 0 9 (dk_at dksJ5_grow_2_1 17 rfl rfl)
theorem dJ5_grow_2_44 : decode cJ5_grow_2 44 = .ok (.areturn, 1) := dk_176 (dk_at dksJ5_grow_2_1 20 rfl rfl)
theorem dJ5_grow_2_45 : decode cJ5_grow_2 45 = .ok (.aload_n 0, 1) := dk_42 (dk_at dksJ5_grow_2_1 21 rfl rfl)
theorem dJ5_grow_2_46 : decode cJ5_grow_2 46 = .ok (.bipush 10, 2) := dk_16 10 (dk_at dksJ5_grow_2_1 22 rfl rfl)
theorem dJ5_grow_2_48 : decode cJ5_grow_2 48 = .ok (.iload_n 1, 1) := dk_27 (dk_at dksJ5_grow_2_2 0 rfl rfl)
theorem dJ5_grow_2_49 : decode cJ5_grow_2 49 = .ok (.invokestatic 79, 3) := dk_184 0 79 (dk_at dksJ5_grow_2_2 1 rfl rfl)
theorem dJ5_grow_2_52 : decode cJ5_grow_2 52 = .ok (.anewarray 7, 3) := dk_189 0 7 (dk_at dksJ5_grow_2_2 4 rfl rfl)
theorem dJ5_grow_2_55 : decode cJ5_grow_2 55 = .ok (.dup_x1, 1) := dk_90 (dk_at dksJ5_grow_2_2 7 rfl rfl)
theorem dJ5_grow_2_56 : decode cJ5_grow_2 56 = .ok (.putfield 9, 3) := dk_181 0 9 (dk_at dksJ5_grow_2_2 8 rfl rfl)
theorem dJ5_grow_2_59 : decode cJ5_grow_2 59 = .ok (.areturn, 1) := dk_176 (dk_at dksJ5_grow_2_2 11 rfl rfl)
def dkwJ6_checkIndex_0 : List UInt8 := [26, 27, 1, 184, 0, 105, 172]
abbrev dktJ6_checkIndex_0 : List UInt8 := dkwJ6_checkIndex_0 ++ []
theorem dksJ6_checkIndex_0 : cJ6_checkIndex.data.toList.drop 0 = dktJ6_checkIndex_0 := by decide +kernel
theorem dJ6_checkIndex_0 : decode cJ6_checkIndex 0 = .ok (.iload_n 0, 1) := dk_26 (dk_at dksJ6_checkIndex_0 0 rfl rfl)
theorem dJ6_checkIndex_1 : decode cJ6_checkIndex 1 = .ok (.iload_n 1, 1) := dk_27 (dk_at dksJ6_checkIndex_0 1 rfl rfl)
theorem dJ6_checkIndex_2 : decode cJ6_checkIndex 2 = .ok (.aconst_null, 1) := dk_1 (dk_at dksJ6_checkIndex_0 2 rfl rfl)
theorem dJ6_checkIndex_3 : decode cJ6_checkIndex 3 = .ok (.invokestatic 105, 3) := dk_184 0 105 (dk_at dksJ6_checkIndex_0 3 rfl rfl)
theorem dJ6_checkIndex_6 : decode cJ6_checkIndex 6 = .ok (.ireturn, 1) := dk_172 (dk_at dksJ6_checkIndex_0 6 rfl rfl)
def dkwJ7_checkIndex_0 : List UInt8 := [26, 155, 0, 8, 26, 27, 161, 0, 10, 44, 26, 27, 184, 0, 95, 191, 26, 172]
abbrev dktJ7_checkIndex_0 : List UInt8 := dkwJ7_checkIndex_0 ++ []
theorem dksJ7_checkIndex_0 : cJ7_checkIndex.data.toList.drop 0 = dktJ7_checkIndex_0 := by decide +kernel
theorem dJ7_checkIndex_0 : decode cJ7_checkIndex 0 = .ok (.iload_n 0, 1) := dk_26 (dk_at dksJ7_checkIndex_0 0 rfl rfl)
theorem dJ7_checkIndex_1 : decode cJ7_checkIndex 1 = .ok (.ifCond .lt 8, 3) := dk_155 0 8 (dk_at dksJ7_checkIndex_0 1 rfl rfl)
theorem dJ7_checkIndex_4 : decode cJ7_checkIndex 4 = .ok (.iload_n 0, 1) := dk_26 (dk_at dksJ7_checkIndex_0 4 rfl rfl)
theorem dJ7_checkIndex_5 : decode cJ7_checkIndex 5 = .ok (.iload_n 1, 1) := dk_27 (dk_at dksJ7_checkIndex_0 5 rfl rfl)
theorem dJ7_checkIndex_6 : decode cJ7_checkIndex 6 = .ok (.if_icmp .lt 10, 3) := dk_161 0 10 (dk_at dksJ7_checkIndex_0 6 rfl rfl)
theorem dJ7_checkIndex_9 : decode cJ7_checkIndex 9 = .ok (.aload_n 2, 1) := dk_44 (dk_at dksJ7_checkIndex_0 9 rfl rfl)
theorem dJ7_checkIndex_10 : decode cJ7_checkIndex 10 = .ok (.iload_n 0, 1) := dk_26 (dk_at dksJ7_checkIndex_0 10 rfl rfl)
theorem dJ7_checkIndex_11 : decode cJ7_checkIndex 11 = .ok (.iload_n 1, 1) := dk_27 (dk_at dksJ7_checkIndex_0 11 rfl rfl)
theorem dJ7_checkIndex_12 : decode cJ7_checkIndex 12 = .ok (.invokestatic 95, 3) := dk_184 0 95 (dk_at dksJ7_checkIndex_0 12 rfl rfl)
theorem dJ7_checkIndex_15 : decode cJ7_checkIndex 15 = .ok (.athrow, 1) := dk_191 (dk_at dksJ7_checkIndex_0 15 rfl rfl)
theorem dJ7_checkIndex_16 : decode cJ7_checkIndex 16 = .ok (.iload_n 0, 1) := dk_26 (dk_at dksJ7_checkIndex_0 16 rfl rfl)
theorem dJ7_checkIndex_17 : decode cJ7_checkIndex 17 = .ok (.ireturn, 1) := dk_172 (dk_at dksJ7_checkIndex_0 17 rfl rfl)
def dkwJ7_checkFromIndexSize_1 : List UInt8 := [172]
abbrev dktJ7_checkFromIndexSize_1 : List UInt8 := dkwJ7_checkFromIndexSize_1 ++ []
def dkwJ7_checkFromIndexSize_0 : List UInt8 := [28, 26, 128, 27, 128, 155, 0, 10, 27, 28, 26, 100, 164, 0, 11, 45, 26, 27, 28, 184, 0, 103, 191, 26]
abbrev dktJ7_checkFromIndexSize_0 : List UInt8 := dkwJ7_checkFromIndexSize_0 ++ dktJ7_checkFromIndexSize_1
theorem dksJ7_checkFromIndexSize_0 : cJ7_checkFromIndexSize.data.toList.drop 0 = dktJ7_checkFromIndexSize_0 := by decide +kernel
theorem dksJ7_checkFromIndexSize_1 : cJ7_checkFromIndexSize.data.toList.drop 24 = dktJ7_checkFromIndexSize_1 := dk_seg dksJ7_checkFromIndexSize_0 24 rfl rfl
theorem dJ7_checkFromIndexSize_0 : decode cJ7_checkFromIndexSize 0 = .ok (.iload_n 2, 1) := dk_28 (dk_at dksJ7_checkFromIndexSize_0 0 rfl rfl)
theorem dJ7_checkFromIndexSize_1 : decode cJ7_checkFromIndexSize 1 = .ok (.iload_n 0, 1) := dk_26 (dk_at dksJ7_checkFromIndexSize_0 1 rfl rfl)
theorem dJ7_checkFromIndexSize_2 : decode cJ7_checkFromIndexSize 2 = .ok (.ior, 1) := dk_128 (dk_at dksJ7_checkFromIndexSize_0 2 rfl rfl)
theorem dJ7_checkFromIndexSize_3 : decode cJ7_checkFromIndexSize 3 = .ok (.iload_n 1, 1) := dk_27 (dk_at dksJ7_checkFromIndexSize_0 3 rfl rfl)
theorem dJ7_checkFromIndexSize_4 : decode cJ7_checkFromIndexSize 4 = .ok (.ior, 1) := dk_128 (dk_at dksJ7_checkFromIndexSize_0 4 rfl rfl)
theorem dJ7_checkFromIndexSize_5 : decode cJ7_checkFromIndexSize 5 = .ok (.ifCond .lt 10, 3) := dk_155 0 10 (dk_at dksJ7_checkFromIndexSize_0 5 rfl rfl)
theorem dJ7_checkFromIndexSize_8 : decode cJ7_checkFromIndexSize 8 = .ok (.iload_n 1, 1) := dk_27 (dk_at dksJ7_checkFromIndexSize_0 8 rfl rfl)
theorem dJ7_checkFromIndexSize_9 : decode cJ7_checkFromIndexSize 9 = .ok (.iload_n 2, 1) := dk_28 (dk_at dksJ7_checkFromIndexSize_0 9 rfl rfl)
theorem dJ7_checkFromIndexSize_10 : decode cJ7_checkFromIndexSize 10 = .ok (.iload_n 0, 1) := dk_26 (dk_at dksJ7_checkFromIndexSize_0 10 rfl rfl)
theorem dJ7_checkFromIndexSize_11 : decode cJ7_checkFromIndexSize 11 = .ok (.isub, 1) := dk_100 (dk_at dksJ7_checkFromIndexSize_0 11 rfl rfl)
theorem dJ7_checkFromIndexSize_12 : decode cJ7_checkFromIndexSize 12 = .ok (.if_icmp .le 11, 3) := dk_164 0 11 (dk_at dksJ7_checkFromIndexSize_0 12 rfl rfl)
theorem dJ7_checkFromIndexSize_15 : decode cJ7_checkFromIndexSize 15 = .ok (.aload_n 3, 1) := dk_45 (dk_at dksJ7_checkFromIndexSize_0 15 rfl rfl)
theorem dJ7_checkFromIndexSize_16 : decode cJ7_checkFromIndexSize 16 = .ok (.iload_n 0, 1) := dk_26 (dk_at dksJ7_checkFromIndexSize_0 16 rfl rfl)
theorem dJ7_checkFromIndexSize_17 : decode cJ7_checkFromIndexSize 17 = .ok (.iload_n 1, 1) := dk_27 (dk_at dksJ7_checkFromIndexSize_0 17 rfl rfl)
theorem dJ7_checkFromIndexSize_18 : decode cJ7_checkFromIndexSize 18 = .ok (.iload_n 2, 1) := dk_28 (dk_at dksJ7_checkFromIndexSize_0 18 rfl rfl)
theorem dJ7_checkFromIndexSize_19 : decode cJ7_checkFromIndexSize 19 = .ok (.invokestatic 103, 3) := dk_184 0 103 (dk_at dksJ7_checkFromIndexSize_0 19 rfl rfl)
theorem dJ7_checkFromIndexSize_22 : decode cJ7_checkFromIndexSize 22 = .ok (.athrow, 1) := dk_191 (dk_at dksJ7_checkFromIndexSize_0 22 rfl rfl)
theorem dJ7_checkFromIndexSize_23 : decode cJ7_checkFromIndexSize 23 = .ok (.iload_n 0, 1) := dk_26 (dk_at dksJ7_checkFromIndexSize_0 23 rfl rfl)
theorem dJ7_checkFromIndexSize_24 : decode cJ7_checkFromIndexSize 24 = .ok (.ireturn, 1) := dk_172 (dk_at dksJ7_checkFromIndexSize_1 0 rfl rfl)
def dkwJ14_max_0 : List UInt8 := [26, 27, 161, 0, 7, 26, 167, 0, 4, 27, 172]
abbrev dktJ14_max_0 : List UInt8 := dkwJ14_max_0 ++ []
theorem dksJ14_max_0 : cJ14_max.data.toList.drop 0 = dktJ14_max_0 := by decide +kernel
theorem dJ14_max_0 : decode cJ14_max 0 = .ok (.iload_n 0, 1) := dk_26 (dk_at dksJ14_max_0 0 rfl rfl)
theorem dJ14_max_1 : decode cJ14_max 1 = .ok (.iload_n 1, 1) := dk_27 (dk_at dksJ14_max_0 1 rfl rfl)
theorem dJ14_max_2 : decode cJ14_max 2 = .ok (.if_icmp .lt 7, 3) := dk_161 0 7 (dk_at dksJ14_max_0 2 rfl rfl)
theorem dJ14_max_5 : decode cJ14_max 5 = .ok (.iload_n 0, 1) := dk_26 (dk_at dksJ14_max_0 5 rfl rfl)
theorem dJ14_max_6 : decode cJ14_max 6 = .ok (.goto 4, 3) := dk_167 0 4 (dk_at dksJ14_max_0 6 rfl rfl)
theorem dJ14_max_9 : decode cJ14_max 9 = .ok (.iload_n 1, 1) := dk_27 (dk_at dksJ14_max_0 9 rfl rfl)
theorem dJ14_max_10 : decode cJ14_max 10 = .ok (.ireturn, 1) := dk_172 (dk_at dksJ14_max_0 10 rfl rfl)
def dkwJ14_min_0 : List UInt8 := [26, 27, 163, 0, 7, 26, 167, 0, 4, 27, 172]
abbrev dktJ14_min_0 : List UInt8 := dkwJ14_min_0 ++ []
theorem dksJ14_min_0 : cJ14_min.data.toList.drop 0 = dktJ14_min_0 := by decide +kernel
theorem dJ14_min_0 : decode cJ14_min 0 = .ok (.iload_n 0, 1) := dk_26 (dk_at dksJ14_min_0 0 rfl rfl)
theorem dJ14_min_1 : decode cJ14_min 1 = .ok (.iload_n 1, 1) := dk_27 (dk_at dksJ14_min_0 1 rfl rfl)
theorem dJ14_min_2 : decode cJ14_min 2 = .ok (.if_icmp .gt 7, 3) := dk_163 0 7 (dk_at dksJ14_min_0 2 rfl rfl)
theorem dJ14_min_5 : decode cJ14_min 5 = .ok (.iload_n 0, 1) := dk_26 (dk_at dksJ14_min_0 5 rfl rfl)
theorem dJ14_min_6 : decode cJ14_min 6 = .ok (.goto 4, 3) := dk_167 0 4 (dk_at dksJ14_min_0 6 rfl rfl)
theorem dJ14_min_9 : decode cJ14_min 9 = .ok (.iload_n 1, 1) := dk_27 (dk_at dksJ14_min_0 9 rfl rfl)
theorem dJ14_min_10 : decode cJ14_min 10 = .ok (.ireturn, 1) := dk_172 (dk_at dksJ14_min_0 10 rfl rfl)
def dkwJ16_numberOfTrailingZeros_3 : List UInt8 := [5, 124, 59, 27, 26, 4, 124, 96, 172]
abbrev dktJ16_numberOfTrailingZeros_3 : List UInt8 := dkwJ16_numberOfTrailingZeros_3 ++ []
def dkwJ16_numberOfTrailingZeros_2 : List UInt8 := [124, 59, 26, 16, 16, 164, 0, 10, 132, 1, 4, 26, 7, 124, 59, 26, 7, 164, 0, 10, 132, 1, 2, 26]
abbrev dktJ16_numberOfTrailingZeros_2 : List UInt8 := dkwJ16_numberOfTrailingZeros_2 ++ dktJ16_numberOfTrailingZeros_3
def dkwJ16_numberOfTrailingZeros_1 : List UInt8 := [164, 0, 11, 132, 1, 16, 26, 16, 16, 124, 59, 26, 17, 1, 0, 164, 0, 11, 132, 1, 8, 26, 16, 8]
abbrev dktJ16_numberOfTrailingZeros_1 : List UInt8 := dkwJ16_numberOfTrailingZeros_1 ++ dktJ16_numberOfTrailingZeros_2
def dkwJ16_numberOfTrailingZeros_0 : List UInt8 := [26, 2, 130, 26, 4, 100, 126, 59, 26, 157, 0, 8, 26, 16, 32, 126, 172, 4, 60, 26, 19, 1, 8]
abbrev dktJ16_numberOfTrailingZeros_0 : List UInt8 := dkwJ16_numberOfTrailingZeros_0 ++ dktJ16_numberOfTrailingZeros_1
theorem dksJ16_numberOfTrailingZeros_0 : cJ16_numberOfTrailingZeros.data.toList.drop 0 = dktJ16_numberOfTrailingZeros_0 := by decide +kernel
theorem dksJ16_numberOfTrailingZeros_1 : cJ16_numberOfTrailingZeros.data.toList.drop 23 = dktJ16_numberOfTrailingZeros_1 := dk_seg dksJ16_numberOfTrailingZeros_0 23 rfl rfl
theorem dksJ16_numberOfTrailingZeros_2 : cJ16_numberOfTrailingZeros.data.toList.drop 47 = dktJ16_numberOfTrailingZeros_2 := dk_seg dksJ16_numberOfTrailingZeros_1 24 rfl rfl
theorem dksJ16_numberOfTrailingZeros_3 : cJ16_numberOfTrailingZeros.data.toList.drop 71 = dktJ16_numberOfTrailingZeros_3 := dk_seg dksJ16_numberOfTrailingZeros_2 24 rfl rfl
theorem dJ16_numberOfTrailingZeros_0 : decode cJ16_numberOfTrailingZeros 0 = .ok (.iload_n 0, 1) := dk_26 (dk_at dksJ16_numberOfTrailingZeros_0 0 rfl rfl)
theorem dJ16_numberOfTrailingZeros_1 : decode cJ16_numberOfTrailingZeros 1 = .ok (.iconst (-1), 1) := dk_2 (dk_at dksJ16_numberOfTrailingZeros_0 1 rfl rfl)
theorem dJ16_numberOfTrailingZeros_2 : decode cJ16_numberOfTrailingZeros 2 = .ok (.ixor, 1) := dk_130 (dk_at dksJ16_numberOfTrailingZeros_0 2 rfl rfl)
theorem dJ16_numberOfTrailingZeros_3 : decode cJ16_numberOfTrailingZeros 3 = .ok (.iload_n 0, 1) := dk_26 (dk_at dksJ16_numberOfTrailingZeros_0 3 rfl rfl)
theorem dJ16_numberOfTrailingZeros_4 : decode cJ16_numberOfTrailingZeros 4 = .ok (.iconst 1, 1) := dk_4 (dk_at dksJ16_numberOfTrailingZeros_0 4 rfl rfl)
theorem dJ16_numberOfTrailingZeros_5 : decode cJ16_numberOfTrailingZeros 5 = .ok (.isub, 1) := dk_100 (dk_at dksJ16_numberOfTrailingZeros_0 5 rfl rfl)
theorem dJ16_numberOfTrailingZeros_6 : decode cJ16_numberOfTrailingZeros 6 = .ok (.iand, 1) := dk_126 (dk_at dksJ16_numberOfTrailingZeros_0 6 rfl rfl)
theorem dJ16_numberOfTrailingZeros_7 : decode cJ16_numberOfTrailingZeros 7 = .ok (.istore_n 0, 1) := dk_59 (dk_at dksJ16_numberOfTrailingZeros_0 7 rfl rfl)
theorem dJ16_numberOfTrailingZeros_8 : decode cJ16_numberOfTrailingZeros 8 = .ok (.iload_n 0, 1) := dk_26 (dk_at dksJ16_numberOfTrailingZeros_0 8 rfl rfl)
theorem dJ16_numberOfTrailingZeros_9 : decode cJ16_numberOfTrailingZeros 9 = .ok (.ifCond .gt 8, 3) := dk_157 0 8 (dk_at dksJ16_numberOfTrailingZeros_0 9 rfl rfl)
theorem dJ16_numberOfTrailingZeros_12 : decode cJ16_numberOfTrailingZeros 12 = .ok (.iload_n 0, 1) := dk_26 (dk_at dksJ16_numberOfTrailingZeros_0 12 rfl rfl)
theorem dJ16_numberOfTrailingZeros_13 : decode cJ16_numberOfTrailingZeros 13 = .ok (.bipush 32, 2) := dk_16 32 (dk_at dksJ16_numberOfTrailingZeros_0 13 rfl rfl)
theorem dJ16_numberOfTrailingZeros_15 : decode cJ16_numberOfTrailingZeros 15 = .ok (.iand, 1) := dk_126 (dk_at dksJ16_numberOfTrailingZeros_0 15 rfl rfl)
theorem dJ16_numberOfTrailingZeros_16 : decode cJ16_numberOfTrailingZeros 16 = .ok (.ireturn, 1) := dk_172 (dk_at dksJ16_numberOfTrailingZeros_0 16 rfl rfl)
theorem dJ16_numberOfTrailingZeros_17 : decode cJ16_numberOfTrailingZeros 17 = .ok (.iconst 1, 1) := dk_4 (dk_at dksJ16_numberOfTrailingZeros_0 17 rfl rfl)
theorem dJ16_numberOfTrailingZeros_18 : decode cJ16_numberOfTrailingZeros 18 = .ok (.istore_n 1, 1) := dk_60 (dk_at dksJ16_numberOfTrailingZeros_0 18 rfl rfl)
theorem dJ16_numberOfTrailingZeros_19 : decode cJ16_numberOfTrailingZeros 19 = .ok (.iload_n 0, 1) := dk_26 (dk_at dksJ16_numberOfTrailingZeros_0 19 rfl rfl)
theorem dJ16_numberOfTrailingZeros_20 : decode cJ16_numberOfTrailingZeros 20 = .ok (.ldc_w 264, 3) := dk_19 1 8 (dk_at dksJ16_numberOfTrailingZeros_0 20 rfl rfl)
theorem dJ16_numberOfTrailingZeros_23 : decode cJ16_numberOfTrailingZeros 23 = .ok (.if_icmp .le 11, 3) := dk_164 0 11 (dk_at dksJ16_numberOfTrailingZeros_1 0 rfl rfl)
theorem dJ16_numberOfTrailingZeros_26 : decode cJ16_numberOfTrailingZeros 26 = .ok (.iinc 1 16, 3) := dk_132 1 16 (dk_at dksJ16_numberOfTrailingZeros_1 3 rfl rfl)
theorem dJ16_numberOfTrailingZeros_29 : decode cJ16_numberOfTrailingZeros 29 = .ok (.iload_n 0, 1) := dk_26 (dk_at dksJ16_numberOfTrailingZeros_1 6 rfl rfl)
theorem dJ16_numberOfTrailingZeros_30 : decode cJ16_numberOfTrailingZeros 30 = .ok (.bipush 16, 2) := dk_16 16 (dk_at dksJ16_numberOfTrailingZeros_1 7 rfl rfl)
theorem dJ16_numberOfTrailingZeros_32 : decode cJ16_numberOfTrailingZeros 32 = .ok (.iushr, 1) := dk_124 (dk_at dksJ16_numberOfTrailingZeros_1 9 rfl rfl)
theorem dJ16_numberOfTrailingZeros_33 : decode cJ16_numberOfTrailingZeros 33 = .ok (.istore_n 0, 1) := dk_59 (dk_at dksJ16_numberOfTrailingZeros_1 10 rfl rfl)
theorem dJ16_numberOfTrailingZeros_34 : decode cJ16_numberOfTrailingZeros 34 = .ok (.iload_n 0, 1) := dk_26 (dk_at dksJ16_numberOfTrailingZeros_1 11 rfl rfl)
theorem dJ16_numberOfTrailingZeros_35 : decode cJ16_numberOfTrailingZeros 35 = .ok (.sipush 256, 3) := dk_17 1 0 (dk_at dksJ16_numberOfTrailingZeros_1 12 rfl rfl)
theorem dJ16_numberOfTrailingZeros_38 : decode cJ16_numberOfTrailingZeros 38 = .ok (.if_icmp .le 11, 3) := dk_164 0 11 (dk_at dksJ16_numberOfTrailingZeros_1 15 rfl rfl)
theorem dJ16_numberOfTrailingZeros_41 : decode cJ16_numberOfTrailingZeros 41 = .ok (.iinc 1 8, 3) := dk_132 1 8 (dk_at dksJ16_numberOfTrailingZeros_1 18 rfl rfl)
theorem dJ16_numberOfTrailingZeros_44 : decode cJ16_numberOfTrailingZeros 44 = .ok (.iload_n 0, 1) := dk_26 (dk_at dksJ16_numberOfTrailingZeros_1 21 rfl rfl)
theorem dJ16_numberOfTrailingZeros_45 : decode cJ16_numberOfTrailingZeros 45 = .ok (.bipush 8, 2) := dk_16 8 (dk_at dksJ16_numberOfTrailingZeros_1 22 rfl rfl)
theorem dJ16_numberOfTrailingZeros_47 : decode cJ16_numberOfTrailingZeros 47 = .ok (.iushr, 1) := dk_124 (dk_at dksJ16_numberOfTrailingZeros_2 0 rfl rfl)
theorem dJ16_numberOfTrailingZeros_48 : decode cJ16_numberOfTrailingZeros 48 = .ok (.istore_n 0, 1) := dk_59 (dk_at dksJ16_numberOfTrailingZeros_2 1 rfl rfl)
theorem dJ16_numberOfTrailingZeros_49 : decode cJ16_numberOfTrailingZeros 49 = .ok (.iload_n 0, 1) := dk_26 (dk_at dksJ16_numberOfTrailingZeros_2 2 rfl rfl)
theorem dJ16_numberOfTrailingZeros_50 : decode cJ16_numberOfTrailingZeros 50 = .ok (.bipush 16, 2) := dk_16 16 (dk_at dksJ16_numberOfTrailingZeros_2 3 rfl rfl)
theorem dJ16_numberOfTrailingZeros_52 : decode cJ16_numberOfTrailingZeros 52 = .ok (.if_icmp .le 10, 3) := dk_164 0 10 (dk_at dksJ16_numberOfTrailingZeros_2 5 rfl rfl)
theorem dJ16_numberOfTrailingZeros_55 : decode cJ16_numberOfTrailingZeros 55 = .ok (.iinc 1 4, 3) := dk_132 1 4 (dk_at dksJ16_numberOfTrailingZeros_2 8 rfl rfl)
theorem dJ16_numberOfTrailingZeros_58 : decode cJ16_numberOfTrailingZeros 58 = .ok (.iload_n 0, 1) := dk_26 (dk_at dksJ16_numberOfTrailingZeros_2 11 rfl rfl)
theorem dJ16_numberOfTrailingZeros_59 : decode cJ16_numberOfTrailingZeros 59 = .ok (.iconst 4, 1) := dk_7 (dk_at dksJ16_numberOfTrailingZeros_2 12 rfl rfl)
theorem dJ16_numberOfTrailingZeros_60 : decode cJ16_numberOfTrailingZeros 60 = .ok (.iushr, 1) := dk_124 (dk_at dksJ16_numberOfTrailingZeros_2 13 rfl rfl)
theorem dJ16_numberOfTrailingZeros_61 : decode cJ16_numberOfTrailingZeros 61 = .ok (.istore_n 0, 1) := dk_59 (dk_at dksJ16_numberOfTrailingZeros_2 14 rfl rfl)
theorem dJ16_numberOfTrailingZeros_62 : decode cJ16_numberOfTrailingZeros 62 = .ok (.iload_n 0, 1) := dk_26 (dk_at dksJ16_numberOfTrailingZeros_2 15 rfl rfl)
theorem dJ16_numberOfTrailingZeros_63 : decode cJ16_numberOfTrailingZeros 63 = .ok (.iconst 4, 1) := dk_7 (dk_at dksJ16_numberOfTrailingZeros_2 16 rfl rfl)
theorem dJ16_numberOfTrailingZeros_64 : decode cJ16_numberOfTrailingZeros 64 = .ok (.if_icmp .le 10, 3) := dk_164 0 10 (dk_at dksJ16_numberOfTrailingZeros_2 17 rfl rfl)
theorem dJ16_numberOfTrailingZeros_67 : decode cJ16_numberOfTrailingZeros 67 = .ok (.iinc 1 2, 3) := dk_132 1 2 (dk_at dksJ16_numberOfTrailingZeros_2 20 rfl rfl)
theorem dJ16_numberOfTrailingZeros_70 : decode cJ16_numberOfTrailingZeros 70 = .ok (.iload_n 0, 1) := dk_26 (dk_at dksJ16_numberOfTrailingZeros_2 23 rfl rfl)
theorem dJ16_numberOfTrailingZeros_71 : decode cJ16_numberOfTrailingZeros 71 = .ok (.iconst 2, 1) := dk_5 (dk_at dksJ16_numberOfTrailingZeros_3 0 rfl rfl)
theorem dJ16_numberOfTrailingZeros_72 : decode cJ16_numberOfTrailingZeros 72 = .ok (.iushr, 1) := dk_124 (dk_at dksJ16_numberOfTrailingZeros_3 1 rfl rfl)
theorem dJ16_numberOfTrailingZeros_73 : decode cJ16_numberOfTrailingZeros 73 = .ok (.istore_n 0, 1) := dk_59 (dk_at dksJ16_numberOfTrailingZeros_3 2 rfl rfl)
theorem dJ16_numberOfTrailingZeros_74 : decode cJ16_numberOfTrailingZeros 74 = .ok (.iload_n 1, 1) := dk_27 (dk_at dksJ16_numberOfTrailingZeros_3 3 rfl rfl)
theorem dJ16_numberOfTrailingZeros_75 : decode cJ16_numberOfTrailingZeros 75 = .ok (.iload_n 0, 1) := dk_26 (dk_at dksJ16_numberOfTrailingZeros_3 4 rfl rfl)
theorem dJ16_numberOfTrailingZeros_76 : decode cJ16_numberOfTrailingZeros 76 = .ok (.iconst 1, 1) := dk_4 (dk_at dksJ16_numberOfTrailingZeros_3 5 rfl rfl)
theorem dJ16_numberOfTrailingZeros_77 : decode cJ16_numberOfTrailingZeros 77 = .ok (.iushr, 1) := dk_124 (dk_at dksJ16_numberOfTrailingZeros_3 6 rfl rfl)
theorem dJ16_numberOfTrailingZeros_78 : decode cJ16_numberOfTrailingZeros 78 = .ok (.iadd, 1) := dk_96 (dk_at dksJ16_numberOfTrailingZeros_3 7 rfl rfl)
theorem dJ16_numberOfTrailingZeros_79 : decode cJ16_numberOfTrailingZeros 79 = .ok (.ireturn, 1) := dk_172 (dk_at dksJ16_numberOfTrailingZeros_3 8 rfl rfl)
def dkwJ16_bitCount_2 : List UInt8 := [26, 16, 63, 126, 172]
abbrev dktJ16_bitCount_2 : List UInt8 := dkwJ16_bitCount_2 ++ []
def dkwJ16_bitCount_1 : List UInt8 := [26, 26, 7, 124, 96, 19, 1, 11, 126, 59, 26, 26, 16, 8, 124, 96, 59, 26, 26, 16, 16, 124, 96, 59]
abbrev dktJ16_bitCount_1 : List UInt8 := dkwJ16_bitCount_1 ++ dktJ16_bitCount_2
def dkwJ16_bitCount_0 : List UInt8 := [26, 26, 4, 124, 19, 1, 9, 126, 100, 59, 26, 19, 1, 10, 126, 26, 5, 124, 19, 1, 10, 126, 96, 59]
abbrev dktJ16_bitCount_0 : List UInt8 := dkwJ16_bitCount_0 ++ dktJ16_bitCount_1
theorem dksJ16_bitCount_0 : cJ16_bitCount.data.toList.drop 0 = dktJ16_bitCount_0 := by decide +kernel
theorem dksJ16_bitCount_1 : cJ16_bitCount.data.toList.drop 24 = dktJ16_bitCount_1 := dk_seg dksJ16_bitCount_0 24 rfl rfl
theorem dksJ16_bitCount_2 : cJ16_bitCount.data.toList.drop 48 = dktJ16_bitCount_2 := dk_seg dksJ16_bitCount_1 24 rfl rfl
theorem dJ16_bitCount_0 : decode cJ16_bitCount 0 = .ok (.iload_n 0, 1) := dk_26 (dk_at dksJ16_bitCount_0 0 rfl rfl)
theorem dJ16_bitCount_1 : decode cJ16_bitCount 1 = .ok (.iload_n 0, 1) := dk_26 (dk_at dksJ16_bitCount_0 1 rfl rfl)
theorem dJ16_bitCount_2 : decode cJ16_bitCount 2 = .ok (.iconst 1, 1) := dk_4 (dk_at dksJ16_bitCount_0 2 rfl rfl)
theorem dJ16_bitCount_3 : decode cJ16_bitCount 3 = .ok (.iushr, 1) := dk_124 (dk_at dksJ16_bitCount_0 3 rfl rfl)
theorem dJ16_bitCount_4 : decode cJ16_bitCount 4 = .ok (.ldc_w 265, 3) := dk_19 1 9 (dk_at dksJ16_bitCount_0 4 rfl rfl)
theorem dJ16_bitCount_7 : decode cJ16_bitCount 7 = .ok (.iand, 1) := dk_126 (dk_at dksJ16_bitCount_0 7 rfl rfl)
theorem dJ16_bitCount_8 : decode cJ16_bitCount 8 = .ok (.isub, 1) := dk_100 (dk_at dksJ16_bitCount_0 8 rfl rfl)
theorem dJ16_bitCount_9 : decode cJ16_bitCount 9 = .ok (.istore_n 0, 1) := dk_59 (dk_at dksJ16_bitCount_0 9 rfl rfl)
theorem dJ16_bitCount_10 : decode cJ16_bitCount 10 = .ok (.iload_n 0, 1) := dk_26 (dk_at dksJ16_bitCount_0 10 rfl rfl)
theorem dJ16_bitCount_11 : decode cJ16_bitCount 11 = .ok (.ldc_w 266, 3) := dk_19 1 10 (dk_at dksJ16_bitCount_0 11 rfl rfl)
theorem dJ16_bitCount_14 : decode cJ16_bitCount 14 = .ok (.iand, 1) := dk_126 (dk_at dksJ16_bitCount_0 14 rfl rfl)
theorem dJ16_bitCount_15 : decode cJ16_bitCount 15 = .ok (.iload_n 0, 1) := dk_26 (dk_at dksJ16_bitCount_0 15 rfl rfl)
theorem dJ16_bitCount_16 : decode cJ16_bitCount 16 = .ok (.iconst 2, 1) := dk_5 (dk_at dksJ16_bitCount_0 16 rfl rfl)
theorem dJ16_bitCount_17 : decode cJ16_bitCount 17 = .ok (.iushr, 1) := dk_124 (dk_at dksJ16_bitCount_0 17 rfl rfl)
theorem dJ16_bitCount_18 : decode cJ16_bitCount 18 = .ok (.ldc_w 266, 3) := dk_19 1 10 (dk_at dksJ16_bitCount_0 18 rfl rfl)
theorem dJ16_bitCount_21 : decode cJ16_bitCount 21 = .ok (.iand, 1) := dk_126 (dk_at dksJ16_bitCount_0 21 rfl rfl)
theorem dJ16_bitCount_22 : decode cJ16_bitCount 22 = .ok (.iadd, 1) := dk_96 (dk_at dksJ16_bitCount_0 22 rfl rfl)
theorem dJ16_bitCount_23 : decode cJ16_bitCount 23 = .ok (.istore_n 0, 1) := dk_59 (dk_at dksJ16_bitCount_0 23 rfl rfl)
theorem dJ16_bitCount_24 : decode cJ16_bitCount 24 = .ok (.iload_n 0, 1) := dk_26 (dk_at dksJ16_bitCount_1 0 rfl rfl)
theorem dJ16_bitCount_25 : decode cJ16_bitCount 25 = .ok (.iload_n 0, 1) := dk_26 (dk_at dksJ16_bitCount_1 1 rfl rfl)
theorem dJ16_bitCount_26 : decode cJ16_bitCount 26 = .ok (.iconst 4, 1) := dk_7 (dk_at dksJ16_bitCount_1 2 rfl rfl)
theorem dJ16_bitCount_27 : decode cJ16_bitCount 27 = .ok (.iushr, 1) := dk_124 (dk_at dksJ16_bitCount_1 3 rfl rfl)
theorem dJ16_bitCount_28 : decode cJ16_bitCount 28 = .ok (.iadd, 1) := dk_96 (dk_at dksJ16_bitCount_1 4 rfl rfl)
theorem dJ16_bitCount_29 : decode cJ16_bitCount 29 = .ok (.ldc_w 267, 3) := dk_19 1 11 (dk_at dksJ16_bitCount_1 5 rfl rfl)
theorem dJ16_bitCount_32 : decode cJ16_bitCount 32 = .ok (.iand, 1) := dk_126 (dk_at dksJ16_bitCount_1 8 rfl rfl)
theorem dJ16_bitCount_33 : decode cJ16_bitCount 33 = .ok (.istore_n 0, 1) := dk_59 (dk_at dksJ16_bitCount_1 9 rfl rfl)
theorem dJ16_bitCount_34 : decode cJ16_bitCount 34 = .ok (.iload_n 0, 1) := dk_26 (dk_at dksJ16_bitCount_1 10 rfl rfl)
theorem dJ16_bitCount_35 : decode cJ16_bitCount 35 = .ok (.iload_n 0, 1) := dk_26 (dk_at dksJ16_bitCount_1 11 rfl rfl)
theorem dJ16_bitCount_36 : decode cJ16_bitCount 36 = .ok (.bipush 8, 2) := dk_16 8 (dk_at dksJ16_bitCount_1 12 rfl rfl)
theorem dJ16_bitCount_38 : decode cJ16_bitCount 38 = .ok (.iushr, 1) := dk_124 (dk_at dksJ16_bitCount_1 14 rfl rfl)
theorem dJ16_bitCount_39 : decode cJ16_bitCount 39 = .ok (.iadd, 1) := dk_96 (dk_at dksJ16_bitCount_1 15 rfl rfl)
theorem dJ16_bitCount_40 : decode cJ16_bitCount 40 = .ok (.istore_n 0, 1) := dk_59 (dk_at dksJ16_bitCount_1 16 rfl rfl)
theorem dJ16_bitCount_41 : decode cJ16_bitCount 41 = .ok (.iload_n 0, 1) := dk_26 (dk_at dksJ16_bitCount_1 17 rfl rfl)
theorem dJ16_bitCount_42 : decode cJ16_bitCount 42 = .ok (.iload_n 0, 1) := dk_26 (dk_at dksJ16_bitCount_1 18 rfl rfl)
theorem dJ16_bitCount_43 : decode cJ16_bitCount 43 = .ok (.bipush 16, 2) := dk_16 16 (dk_at dksJ16_bitCount_1 19 rfl rfl)
theorem dJ16_bitCount_45 : decode cJ16_bitCount 45 = .ok (.iushr, 1) := dk_124 (dk_at dksJ16_bitCount_1 21 rfl rfl)
theorem dJ16_bitCount_46 : decode cJ16_bitCount 46 = .ok (.iadd, 1) := dk_96 (dk_at dksJ16_bitCount_1 22 rfl rfl)
theorem dJ16_bitCount_47 : decode cJ16_bitCount 47 = .ok (.istore_n 0, 1) := dk_59 (dk_at dksJ16_bitCount_1 23 rfl rfl)
theorem dJ16_bitCount_48 : decode cJ16_bitCount 48 = .ok (.iload_n 0, 1) := dk_26 (dk_at dksJ16_bitCount_2 0 rfl rfl)
theorem dJ16_bitCount_49 : decode cJ16_bitCount 49 = .ok (.bipush 63, 2) := dk_16 63 (dk_at dksJ16_bitCount_2 1 rfl rfl)
theorem dJ16_bitCount_51 : decode cJ16_bitCount 51 = .ok (.iand, 1) := dk_126 (dk_at dksJ16_bitCount_2 3 rfl rfl)
theorem dJ16_bitCount_52 : decode cJ16_bitCount 52 = .ok (.ireturn, 1) := dk_172 (dk_at dksJ16_bitCount_2 4 rfl rfl)
def dkwX5_init_3 : List UInt8 := [177]
abbrev dktX5_init_3 : List UInt8 := dkwX5_init_3 ++ []
def dkwX5_init_2 : List UInt8 := [188, 10, 181, 0, 27, 42, 16, 6, 188, 10, 181, 0, 30, 42, 187, 0, 33, 89, 183, 0, 35, 181, 0, 36]
abbrev dktX5_init_2 : List UInt8 := dkwX5_init_2 ++ dktX5_init_3
def dkwX5_init_1 : List UInt8 := [188, 10, 181, 0, 18, 42, 16, 6, 188, 10, 181, 0, 21, 42, 16, 6, 188, 10, 181, 0, 24, 42, 16, 6]
abbrev dktX5_init_1 : List UInt8 := dkwX5_init_1 ++ dktX5_init_2
def dkwX5_init_0 : List UInt8 := [42, 183, 0, 3, 42, 16, 6, 188, 10, 181, 0, 9, 42, 16, 6, 188, 10, 181, 0, 15, 42, 16, 6]
abbrev dktX5_init_0 : List UInt8 := dkwX5_init_0 ++ dktX5_init_1
theorem dksX5_init_0 : cX5_init.data.toList.drop 0 = dktX5_init_0 := by decide +kernel
theorem dksX5_init_1 : cX5_init.data.toList.drop 23 = dktX5_init_1 := dk_seg dksX5_init_0 23 rfl rfl
theorem dksX5_init_2 : cX5_init.data.toList.drop 47 = dktX5_init_2 := dk_seg dksX5_init_1 24 rfl rfl
theorem dksX5_init_3 : cX5_init.data.toList.drop 71 = dktX5_init_3 := dk_seg dksX5_init_2 24 rfl rfl
theorem dX5_init_0 : decode cX5_init 0 = .ok (.aload_n 0, 1) := dk_42 (dk_at dksX5_init_0 0 rfl rfl)
theorem dX5_init_1 : decode cX5_init 1 = .ok (.invokespecial 3, 3) := dk_183 0 3 (dk_at dksX5_init_0 1 rfl rfl)
theorem dX5_init_4 : decode cX5_init 4 = .ok (.aload_n 0, 1) := dk_42 (dk_at dksX5_init_0 4 rfl rfl)
theorem dX5_init_5 : decode cX5_init 5 = .ok (.bipush 6, 2) := dk_16 6 (dk_at dksX5_init_0 5 rfl rfl)
theorem dX5_init_7 : decode cX5_init 7 = .ok (.newarray .int, 2) := dk_188_10 (dk_at dksX5_init_0 7 rfl rfl)
theorem dX5_init_9 : decode cX5_init 9 = .ok (.putfield 9, 3) := dk_181 0 9 (dk_at dksX5_init_0 9 rfl rfl)
theorem dX5_init_12 : decode cX5_init 12 = .ok (.aload_n 0, 1) := dk_42 (dk_at dksX5_init_0 12 rfl rfl)
theorem dX5_init_13 : decode cX5_init 13 = .ok (.bipush 6, 2) := dk_16 6 (dk_at dksX5_init_0 13 rfl rfl)
theorem dX5_init_15 : decode cX5_init 15 = .ok (.newarray .int, 2) := dk_188_10 (dk_at dksX5_init_0 15 rfl rfl)
theorem dX5_init_17 : decode cX5_init 17 = .ok (.putfield 15, 3) := dk_181 0 15 (dk_at dksX5_init_0 17 rfl rfl)
theorem dX5_init_20 : decode cX5_init 20 = .ok (.aload_n 0, 1) := dk_42 (dk_at dksX5_init_0 20 rfl rfl)
theorem dX5_init_21 : decode cX5_init 21 = .ok (.bipush 6, 2) := dk_16 6 (dk_at dksX5_init_0 21 rfl rfl)
theorem dX5_init_23 : decode cX5_init 23 = .ok (.newarray .int, 2) := dk_188_10 (dk_at dksX5_init_1 0 rfl rfl)
theorem dX5_init_25 : decode cX5_init 25 = .ok (.putfield 18, 3) := dk_181 0 18 (dk_at dksX5_init_1 2 rfl rfl)
theorem dX5_init_28 : decode cX5_init 28 = .ok (.aload_n 0, 1) := dk_42 (dk_at dksX5_init_1 5 rfl rfl)
theorem dX5_init_29 : decode cX5_init 29 = .ok (.bipush 6, 2) := dk_16 6 (dk_at dksX5_init_1 6 rfl rfl)
theorem dX5_init_31 : decode cX5_init 31 = .ok (.newarray .int, 2) := dk_188_10 (dk_at dksX5_init_1 8 rfl rfl)
theorem dX5_init_33 : decode cX5_init 33 = .ok (.putfield 21, 3) := dk_181 0 21 (dk_at dksX5_init_1 10 rfl rfl)
theorem dX5_init_36 : decode cX5_init 36 = .ok (.aload_n 0, 1) := dk_42 (dk_at dksX5_init_1 13 rfl rfl)
theorem dX5_init_37 : decode cX5_init 37 = .ok (.bipush 6, 2) := dk_16 6 (dk_at dksX5_init_1 14 rfl rfl)
theorem dX5_init_39 : decode cX5_init 39 = .ok (.newarray .int, 2) := dk_188_10 (dk_at dksX5_init_1 16 rfl rfl)
theorem dX5_init_41 : decode cX5_init 41 = .ok (.putfield 24, 3) := dk_181 0 24 (dk_at dksX5_init_1 18 rfl rfl)
theorem dX5_init_44 : decode cX5_init 44 = .ok (.aload_n 0, 1) := dk_42 (dk_at dksX5_init_1 21 rfl rfl)
theorem dX5_init_45 : decode cX5_init 45 = .ok (.bipush 6, 2) := dk_16 6 (dk_at dksX5_init_1 22 rfl rfl)
theorem dX5_init_47 : decode cX5_init 47 = .ok (.newarray .int, 2) := dk_188_10 (dk_at dksX5_init_2 0 rfl rfl)
theorem dX5_init_49 : decode cX5_init 49 = .ok (.putfield 27, 3) := dk_181 0 27 (dk_at dksX5_init_2 2 rfl rfl)
theorem dX5_init_52 : decode cX5_init 52 = .ok (.aload_n 0, 1) := dk_42 (dk_at dksX5_init_2 5 rfl rfl)
theorem dX5_init_53 : decode cX5_init 53 = .ok (.bipush 6, 2) := dk_16 6 (dk_at dksX5_init_2 6 rfl rfl)
theorem dX5_init_55 : decode cX5_init 55 = .ok (.newarray .int, 2) := dk_188_10 (dk_at dksX5_init_2 8 rfl rfl)
theorem dX5_init_57 : decode cX5_init 57 = .ok (.putfield 30, 3) := dk_181 0 30 (dk_at dksX5_init_2 10 rfl rfl)
theorem dX5_init_60 : decode cX5_init 60 = .ok (.aload_n 0, 1) := dk_42 (dk_at dksX5_init_2 13 rfl rfl)
theorem dX5_init_61 : decode cX5_init 61 = .ok (.new 33, 3) := dk_187 0 33 (dk_at dksX5_init_2 14 rfl rfl)
theorem dX5_init_64 : decode cX5_init 64 = .ok (.dup, 1) := dk_89 (dk_at dksX5_init_2 17 rfl rfl)
theorem dX5_init_65 : decode cX5_init 65 = .ok (.invokespecial 35, 3) := dk_183 0 35 (dk_at dksX5_init_2 18 rfl rfl)
theorem dX5_init_68 : decode cX5_init 68 = .ok (.putfield 36, 3) := dk_181 0 36 (dk_at dksX5_init_2 21 rfl rfl)
theorem dX5_init_71 : decode cX5_init 71 = .ok (.return_, 1) := dk_177 (dk_at dksX5_init_3 0 rfl rfl)
def dkwX5_begins_4 : List UInt8 := [180, 0, 70, 181, 0, 73, 177]
abbrev dktX5_begins_4 : List UInt8 := dkwX5_begins_4 ++ []
def dkwX5_begins_3 : List UInt8 := [132, 2, 1, 167, 255, 184, 42, 3, 181, 0, 61, 42, 3, 181, 0, 64, 42, 3, 181, 0, 67, 42, 43]
abbrev dktX5_begins_3 : List UInt8 := dkwX5_begins_3 ++ dktX5_begins_4
def dkwX5_begins_2 : List UInt8 := [3, 79, 42, 180, 0, 18, 28, 3, 79, 42, 180, 0, 21, 28, 3, 79, 42, 180, 0, 24, 28, 3, 79]
abbrev dktX5_begins_2 : List UInt8 := dkwX5_begins_2 ++ dktX5_begins_3
def dkwX5_begins_1 : List UInt8 := [43, 180, 0, 40, 28, 182, 0, 52, 192, 0, 56, 180, 0, 58, 167, 0, 4, 3, 79, 42, 180, 0, 15, 28]
abbrev dktX5_begins_1 : List UInt8 := dkwX5_begins_1 ++ dktX5_begins_2
def dkwX5_begins_0 : List UInt8 := [3, 61, 28, 16, 6, 162, 0, 72, 42, 180, 0, 9, 28, 28, 43, 180, 0, 40, 182, 0, 46, 162, 0, 20]
abbrev dktX5_begins_0 : List UInt8 := dkwX5_begins_0 ++ dktX5_begins_1
theorem dksX5_begins_0 : cX5_begins.data.toList.drop 0 = dktX5_begins_0 := by decide +kernel
theorem dksX5_begins_1 : cX5_begins.data.toList.drop 24 = dktX5_begins_1 := dk_seg dksX5_begins_0 24 rfl rfl
theorem dksX5_begins_2 : cX5_begins.data.toList.drop 48 = dktX5_begins_2 := dk_seg dksX5_begins_1 24 rfl rfl
theorem dksX5_begins_3 : cX5_begins.data.toList.drop 71 = dktX5_begins_3 := dk_seg dksX5_begins_2 23 rfl rfl
theorem dksX5_begins_4 : cX5_begins.data.toList.drop 94 = dktX5_begins_4 := dk_seg dksX5_begins_3 23 rfl rfl
theorem dX5_begins_0 : decode cX5_begins 0 = .ok (.iconst 0, 1) := dk_3 (dk_at dksX5_begins_0 0 rfl rfl)
theorem dX5_begins_1 : decode cX5_begins 1 = .ok (.istore_n 2, 1) := dk_61 (dk_at dksX5_begins_0 1 rfl rfl)
theorem dX5_begins_2 : decode cX5_begins 2 = .ok (.iload_n 2, 1) := dk_28 (dk_at dksX5_begins_0 2 rfl rfl)
theorem dX5_begins_3 : decode cX5_begins 3 = .ok (.bipush 6, 2) := dk_16 6 (dk_at dksX5_begins_0 3 rfl rfl)
theorem dX5_begins_5 : decode cX5_begins 5 = .ok (.if_icmp .ge 72, 3) := dk_162 0 72 (dk_at dksX5_begins_0 5 rfl rfl)
theorem dX5_begins_8 : decode cX5_begins 8 = .ok (.aload_n 0, 1) := dk_42 (dk_at dksX5_begins_0 8 rfl rfl)
theorem dX5_begins_9 : decode cX5_begins 9 = .ok (.getfield 9, 3) := dk_180 0 9 (dk_at dksX5_begins_0 9 rfl rfl)
theorem dX5_begins_12 : decode cX5_begins 12 = .ok (.iload_n 2, 1) := dk_28 (dk_at dksX5_begins_0 12 rfl rfl)
theorem dX5_begins_13 : decode cX5_begins 13 = .ok (.iload_n 2, 1) := dk_28 (dk_at dksX5_begins_0 13 rfl rfl)
theorem dX5_begins_14 : decode cX5_begins 14 = .ok (.aload_n 1, 1) := dk_43 (dk_at dksX5_begins_0 14 rfl rfl)
theorem dX5_begins_15 : decode cX5_begins 15 = .ok (.getfield 40, 3) := dk_180 0 40 (dk_at dksX5_begins_0 15 rfl rfl)
theorem dX5_begins_18 : decode cX5_begins 18 = .ok (.invokevirtual 46, 3) := dk_182 0 46 (dk_at dksX5_begins_0 18 rfl rfl)
theorem dX5_begins_21 : decode cX5_begins 21 = .ok (.if_icmp .ge 20, 3) := dk_162 0 20 (dk_at dksX5_begins_0 21 rfl rfl)
theorem dX5_begins_24 : decode cX5_begins 24 = .ok (.aload_n 1, 1) := dk_43 (dk_at dksX5_begins_1 0 rfl rfl)
theorem dX5_begins_25 : decode cX5_begins 25 = .ok (.getfield 40, 3) := dk_180 0 40 (dk_at dksX5_begins_1 1 rfl rfl)
theorem dX5_begins_28 : decode cX5_begins 28 = .ok (.iload_n 2, 1) := dk_28 (dk_at dksX5_begins_1 4 rfl rfl)
theorem dX5_begins_29 : decode cX5_begins 29 = .ok (.invokevirtual 52, 3) := dk_182 0 52 (dk_at dksX5_begins_1 5 rfl rfl)
theorem dX5_begins_32 : decode cX5_begins 32 = .ok (.checkcast 56, 3) := dk_192 0 56 (dk_at dksX5_begins_1 8 rfl rfl)
theorem dX5_begins_35 : decode cX5_begins 35 = .ok (.getfield 58, 3) := dk_180 0 58 (dk_at dksX5_begins_1 11 rfl rfl)
theorem dX5_begins_38 : decode cX5_begins 38 = .ok (.goto 4, 3) := dk_167 0 4 (dk_at dksX5_begins_1 14 rfl rfl)
theorem dX5_begins_41 : decode cX5_begins 41 = .ok (.iconst 0, 1) := dk_3 (dk_at dksX5_begins_1 17 rfl rfl)
theorem dX5_begins_42 : decode cX5_begins 42 = .ok (.iastore, 1) := dk_79 (dk_at dksX5_begins_1 18 rfl rfl)
theorem dX5_begins_43 : decode cX5_begins 43 = .ok (.aload_n 0, 1) := dk_42 (dk_at dksX5_begins_1 19 rfl rfl)
theorem dX5_begins_44 : decode cX5_begins 44 = .ok (.getfield 15, 3) := dk_180 0 15 (dk_at dksX5_begins_1 20 rfl rfl)
theorem dX5_begins_47 : decode cX5_begins 47 = .ok (.iload_n 2, 1) := dk_28 (dk_at dksX5_begins_1 23 rfl rfl)
theorem dX5_begins_48 : decode cX5_begins 48 = .ok (.iconst 0, 1) := dk_3 (dk_at dksX5_begins_2 0 rfl rfl)
theorem dX5_begins_49 : decode cX5_begins 49 = .ok (.iastore, 1) := dk_79 (dk_at dksX5_begins_2 1 rfl rfl)
theorem dX5_begins_50 : decode cX5_begins 50 = .ok (.aload_n 0, 1) := dk_42 (dk_at dksX5_begins_2 2 rfl rfl)
theorem dX5_begins_51 : decode cX5_begins 51 = .ok (.getfield 18, 3) := dk_180 0 18 (dk_at dksX5_begins_2 3 rfl rfl)
theorem dX5_begins_54 : decode cX5_begins 54 = .ok (.iload_n 2, 1) := dk_28 (dk_at dksX5_begins_2 6 rfl rfl)
theorem dX5_begins_55 : decode cX5_begins 55 = .ok (.iconst 0, 1) := dk_3 (dk_at dksX5_begins_2 7 rfl rfl)
theorem dX5_begins_56 : decode cX5_begins 56 = .ok (.iastore, 1) := dk_79 (dk_at dksX5_begins_2 8 rfl rfl)
theorem dX5_begins_57 : decode cX5_begins 57 = .ok (.aload_n 0, 1) := dk_42 (dk_at dksX5_begins_2 9 rfl rfl)
theorem dX5_begins_58 : decode cX5_begins 58 = .ok (.getfield 21, 3) := dk_180 0 21 (dk_at dksX5_begins_2 10 rfl rfl)
theorem dX5_begins_61 : decode cX5_begins 61 = .ok (.iload_n 2, 1) := dk_28 (dk_at dksX5_begins_2 13 rfl rfl)
theorem dX5_begins_62 : decode cX5_begins 62 = .ok (.iconst 0, 1) := dk_3 (dk_at dksX5_begins_2 14 rfl rfl)
theorem dX5_begins_63 : decode cX5_begins 63 = .ok (.iastore, 1) := dk_79 (dk_at dksX5_begins_2 15 rfl rfl)
theorem dX5_begins_64 : decode cX5_begins 64 = .ok (.aload_n 0, 1) := dk_42 (dk_at dksX5_begins_2 16 rfl rfl)
theorem dX5_begins_65 : decode cX5_begins 65 = .ok (.getfield 24, 3) := dk_180 0 24 (dk_at dksX5_begins_2 17 rfl rfl)
theorem dX5_begins_68 : decode cX5_begins 68 = .ok (.iload_n 2, 1) := dk_28 (dk_at dksX5_begins_2 20 rfl rfl)
theorem dX5_begins_69 : decode cX5_begins 69 = .ok (.iconst 0, 1) := dk_3 (dk_at dksX5_begins_2 21 rfl rfl)
theorem dX5_begins_70 : decode cX5_begins 70 = .ok (.iastore, 1) := dk_79 (dk_at dksX5_begins_2 22 rfl rfl)
theorem dX5_begins_71 : decode cX5_begins 71 = .ok (.iinc 2 1, 3) := dk_132 2 1 (dk_at dksX5_begins_3 0 rfl rfl)
theorem dX5_begins_74 : decode cX5_begins 74 = .ok (.goto (-72), 3) := dk_167 255 184 (dk_at dksX5_begins_3 3 rfl rfl)
theorem dX5_begins_77 : decode cX5_begins 77 = .ok (.aload_n 0, 1) := dk_42 (dk_at dksX5_begins_3 6 rfl rfl)
theorem dX5_begins_78 : decode cX5_begins 78 = .ok (.iconst 0, 1) := dk_3 (dk_at dksX5_begins_3 7 rfl rfl)
theorem dX5_begins_79 : decode cX5_begins 79 = .ok (.putfield 61, 3) := dk_181 0 61 (dk_at dksX5_begins_3 8 rfl rfl)
theorem dX5_begins_82 : decode cX5_begins 82 = .ok (.aload_n 0, 1) := dk_42 (dk_at dksX5_begins_3 11 rfl rfl)
theorem dX5_begins_83 : decode cX5_begins 83 = .ok (.iconst 0, 1) := dk_3 (dk_at dksX5_begins_3 12 rfl rfl)
theorem dX5_begins_84 : decode cX5_begins 84 = .ok (.putfield 64, 3) := dk_181 0 64 (dk_at dksX5_begins_3 13 rfl rfl)
theorem dX5_begins_87 : decode cX5_begins 87 = .ok (.aload_n 0, 1) := dk_42 (dk_at dksX5_begins_3 16 rfl rfl)
theorem dX5_begins_88 : decode cX5_begins 88 = .ok (.iconst 0, 1) := dk_3 (dk_at dksX5_begins_3 17 rfl rfl)
theorem dX5_begins_89 : decode cX5_begins 89 = .ok (.putfield 67, 3) := dk_181 0 67 (dk_at dksX5_begins_3 18 rfl rfl)
theorem dX5_begins_92 : decode cX5_begins 92 = .ok (.aload_n 0, 1) := dk_42 (dk_at dksX5_begins_3 21 rfl rfl)
theorem dX5_begins_93 : decode cX5_begins 93 = .ok (.aload_n 1, 1) := dk_43 (dk_at dksX5_begins_3 22 rfl rfl)
theorem dX5_begins_94 : decode cX5_begins 94 = .ok (.getfield 70, 3) := dk_180 0 70 (dk_at dksX5_begins_4 0 rfl rfl)
theorem dX5_begins_97 : decode cX5_begins 97 = .ok (.putfield 73, 3) := dk_181 0 73 (dk_at dksX5_begins_4 3 rfl rfl)
theorem dX5_begins_100 : decode cX5_begins 100 = .ok (.return_, 1) := dk_177 (dk_at dksX5_begins_4 6 rfl rfl)
def dkwX5_placeOf_1 : List UInt8 := [132, 2, 1, 167, 255, 233, 16, 254, 172]
abbrev dktX5_placeOf_1 : List UInt8 := dkwX5_placeOf_1 ++ []
def dkwX5_placeOf_0 : List UInt8 := [3, 61, 28, 42, 180, 0, 61, 162, 0, 21, 42, 180, 0, 24, 28, 46, 27, 160, 0, 5, 28, 172]
abbrev dktX5_placeOf_0 : List UInt8 := dkwX5_placeOf_0 ++ dktX5_placeOf_1
theorem dksX5_placeOf_0 : cX5_placeOf.data.toList.drop 0 = dktX5_placeOf_0 := by decide +kernel
theorem dksX5_placeOf_1 : cX5_placeOf.data.toList.drop 22 = dktX5_placeOf_1 := dk_seg dksX5_placeOf_0 22 rfl rfl
theorem dX5_placeOf_0 : decode cX5_placeOf 0 = .ok (.iconst 0, 1) := dk_3 (dk_at dksX5_placeOf_0 0 rfl rfl)
theorem dX5_placeOf_1 : decode cX5_placeOf 1 = .ok (.istore_n 2, 1) := dk_61 (dk_at dksX5_placeOf_0 1 rfl rfl)
theorem dX5_placeOf_2 : decode cX5_placeOf 2 = .ok (.iload_n 2, 1) := dk_28 (dk_at dksX5_placeOf_0 2 rfl rfl)
theorem dX5_placeOf_3 : decode cX5_placeOf 3 = .ok (.aload_n 0, 1) := dk_42 (dk_at dksX5_placeOf_0 3 rfl rfl)
theorem dX5_placeOf_4 : decode cX5_placeOf 4 = .ok (.getfield 61, 3) := dk_180 0 61 (dk_at dksX5_placeOf_0 4 rfl rfl)
theorem dX5_placeOf_7 : decode cX5_placeOf 7 = .ok (.if_icmp .ge 21, 3) := dk_162 0 21 (dk_at dksX5_placeOf_0 7 rfl rfl)
theorem dX5_placeOf_10 : decode cX5_placeOf 10 = .ok (.aload_n 0, 1) := dk_42 (dk_at dksX5_placeOf_0 10 rfl rfl)
theorem dX5_placeOf_11 : decode cX5_placeOf 11 = .ok (.getfield 24, 3) := dk_180 0 24 (dk_at dksX5_placeOf_0 11 rfl rfl)
theorem dX5_placeOf_14 : decode cX5_placeOf 14 = .ok (.iload_n 2, 1) := dk_28 (dk_at dksX5_placeOf_0 14 rfl rfl)
theorem dX5_placeOf_15 : decode cX5_placeOf 15 = .ok (.iaload, 1) := dk_46 (dk_at dksX5_placeOf_0 15 rfl rfl)
theorem dX5_placeOf_16 : decode cX5_placeOf 16 = .ok (.iload_n 1, 1) := dk_27 (dk_at dksX5_placeOf_0 16 rfl rfl)
theorem dX5_placeOf_17 : decode cX5_placeOf 17 = .ok (.if_icmp .ne 5, 3) := dk_160 0 5 (dk_at dksX5_placeOf_0 17 rfl rfl)
theorem dX5_placeOf_20 : decode cX5_placeOf 20 = .ok (.iload_n 2, 1) := dk_28 (dk_at dksX5_placeOf_0 20 rfl rfl)
theorem dX5_placeOf_21 : decode cX5_placeOf 21 = .ok (.ireturn, 1) := dk_172 (dk_at dksX5_placeOf_0 21 rfl rfl)
theorem dX5_placeOf_22 : decode cX5_placeOf 22 = .ok (.iinc 2 1, 3) := dk_132 2 1 (dk_at dksX5_placeOf_1 0 rfl rfl)
theorem dX5_placeOf_25 : decode cX5_placeOf 25 = .ok (.goto (-23), 3) := dk_167 255 233 (dk_at dksX5_placeOf_1 3 rfl rfl)
theorem dX5_placeOf_28 : decode cX5_placeOf 28 = .ok (.bipush (-2), 2) := dk_16 254 (dk_at dksX5_placeOf_1 6 rfl rfl)
theorem dX5_placeOf_30 : decode cX5_placeOf 30 = .ok (.ireturn, 1) := dk_172 (dk_at dksX5_placeOf_1 8 rfl rfl)
def dkwX5_grows_1 : List UInt8 := [184, 0, 121, 172]
abbrev dktX5_grows_1 : List UInt8 := dkwX5_grows_1 ++ []
def dkwX5_grows_0 : List UInt8 := [43, 180, 0, 107, 3, 50, 199, 0, 7, 4, 167, 0, 17, 16, 99, 42, 43, 3, 28, 3, 3, 182, 0, 117]
abbrev dktX5_grows_0 : List UInt8 := dkwX5_grows_0 ++ dktX5_grows_1
theorem dksX5_grows_0 : cX5_grows.data.toList.drop 0 = dktX5_grows_0 := by decide +kernel
theorem dksX5_grows_1 : cX5_grows.data.toList.drop 24 = dktX5_grows_1 := dk_seg dksX5_grows_0 24 rfl rfl
theorem dX5_grows_0 : decode cX5_grows 0 = .ok (.aload_n 1, 1) := dk_43 (dk_at dksX5_grows_0 0 rfl rfl)
theorem dX5_grows_1 : decode cX5_grows 1 = .ok (.getfield 107, 3) := dk_180 0 107 (dk_at dksX5_grows_0 1 rfl rfl)
theorem dX5_grows_4 : decode cX5_grows 4 = .ok (.iconst 0, 1) := dk_3 (dk_at dksX5_grows_0 4 rfl rfl)
theorem dX5_grows_5 : decode cX5_grows 5 = .ok (.aaload, 1) := dk_50 (dk_at dksX5_grows_0 5 rfl rfl)
theorem dX5_grows_6 : decode cX5_grows 6 = .ok (.ifnonnull 7, 3) := dk_199 0 7 (dk_at dksX5_grows_0 6 rfl rfl)
theorem dX5_grows_9 : decode cX5_grows 9 = .ok (.iconst 1, 1) := dk_4 (dk_at dksX5_grows_0 9 rfl rfl)
theorem dX5_grows_10 : decode cX5_grows 10 = .ok (.goto 17, 3) := dk_167 0 17 (dk_at dksX5_grows_0 10 rfl rfl)
theorem dX5_grows_13 : decode cX5_grows 13 = .ok (.bipush 99, 2) := dk_16 99 (dk_at dksX5_grows_0 13 rfl rfl)
theorem dX5_grows_15 : decode cX5_grows 15 = .ok (.aload_n 0, 1) := dk_42 (dk_at dksX5_grows_0 15 rfl rfl)
theorem dX5_grows_16 : decode cX5_grows 16 = .ok (.aload_n 1, 1) := dk_43 (dk_at dksX5_grows_0 16 rfl rfl)
theorem dX5_grows_17 : decode cX5_grows 17 = .ok (.iconst 0, 1) := dk_3 (dk_at dksX5_grows_0 17 rfl rfl)
theorem dX5_grows_18 : decode cX5_grows 18 = .ok (.iload_n 2, 1) := dk_28 (dk_at dksX5_grows_0 18 rfl rfl)
theorem dX5_grows_19 : decode cX5_grows 19 = .ok (.iconst 0, 1) := dk_3 (dk_at dksX5_grows_0 19 rfl rfl)
theorem dX5_grows_20 : decode cX5_grows 20 = .ok (.iconst 0, 1) := dk_3 (dk_at dksX5_grows_0 20 rfl rfl)
theorem dX5_grows_21 : decode cX5_grows 21 = .ok (.invokevirtual 117, 3) := dk_182 0 117 (dk_at dksX5_grows_0 21 rfl rfl)
theorem dX5_grows_24 : decode cX5_grows 24 = .ok (.invokestatic 121, 3) := dk_184 0 121 (dk_at dksX5_grows_1 0 rfl rfl)
theorem dX5_grows_27 : decode cX5_grows 27 = .ok (.ireturn, 1) := dk_172 (dk_at dksX5_grows_1 3 rfl rfl)
def dkwX5_told_5 : List UInt8 := [16, 8, 21, 5, 79, 43, 180, 0, 107, 28, 50, 42, 180, 0, 36, 182, 0, 111, 172]
abbrev dktX5_told_5 : List UInt8 := dkwX5_told_5 ++ []
def dkwX5_told_4 : List UInt8 := [42, 180, 0, 36, 180, 0, 90, 16, 7, 42, 180, 0, 21, 29, 46, 79, 42, 180, 0, 36, 180, 0, 90]
abbrev dktX5_told_4 : List UInt8 := dkwX5_told_4 ++ dktX5_told_5
def dkwX5_told_3 : List UInt8 := [42, 180, 0, 36, 180, 0, 90, 8, 29, 79, 42, 180, 0, 36, 180, 0, 90, 16, 6, 42, 180, 0, 61, 79]
abbrev dktX5_told_3 : List UInt8 := dkwX5_told_3 ++ dktX5_told_4
def dkwX5_told_2 : List UInt8 := [6, 42, 180, 0, 64, 79, 42, 180, 0, 36, 180, 0, 90, 7, 3, 42, 29, 182, 0, 97, 184, 0, 101, 79]
abbrev dktX5_told_2 : List UInt8 := dkwX5_told_2 ++ dktX5_told_3
def dkwX5_told_1 : List UInt8 := [43, 29, 182, 0, 93, 79, 42, 180, 0, 36, 180, 0, 90, 5, 21, 4, 79, 42, 180, 0, 36, 180, 0, 90]
abbrev dktX5_told_1 : List UInt8 := dkwX5_told_1 ++ dktX5_told_2
def dkwX5_told_0 : List UInt8 := [42, 180, 0, 36, 180, 0, 90, 3, 42, 180, 0, 9, 29, 46, 79, 42, 180, 0, 36, 180, 0, 90, 4, 42]
abbrev dktX5_told_0 : List UInt8 := dkwX5_told_0 ++ dktX5_told_1
theorem dksX5_told_0 : cX5_told.data.toList.drop 0 = dktX5_told_0 := by decide +kernel
theorem dksX5_told_1 : cX5_told.data.toList.drop 24 = dktX5_told_1 := dk_seg dksX5_told_0 24 rfl rfl
theorem dksX5_told_2 : cX5_told.data.toList.drop 48 = dktX5_told_2 := dk_seg dksX5_told_1 24 rfl rfl
theorem dksX5_told_3 : cX5_told.data.toList.drop 72 = dktX5_told_3 := dk_seg dksX5_told_2 24 rfl rfl
theorem dksX5_told_4 : cX5_told.data.toList.drop 96 = dktX5_told_4 := dk_seg dksX5_told_3 24 rfl rfl
theorem dksX5_told_5 : cX5_told.data.toList.drop 119 = dktX5_told_5 := dk_seg dksX5_told_4 23 rfl rfl
theorem dX5_told_0 : decode cX5_told 0 = .ok (.aload_n 0, 1) := dk_42 (dk_at dksX5_told_0 0 rfl rfl)
theorem dX5_told_1 : decode cX5_told 1 = .ok (.getfield 36, 3) := dk_180 0 36 (dk_at dksX5_told_0 1 rfl rfl)
theorem dX5_told_4 : decode cX5_told 4 = .ok (.getfield 90, 3) := dk_180 0 90 (dk_at dksX5_told_0 4 rfl rfl)
theorem dX5_told_7 : decode cX5_told 7 = .ok (.iconst 0, 1) := dk_3 (dk_at dksX5_told_0 7 rfl rfl)
theorem dX5_told_8 : decode cX5_told 8 = .ok (.aload_n 0, 1) := dk_42 (dk_at dksX5_told_0 8 rfl rfl)
theorem dX5_told_9 : decode cX5_told 9 = .ok (.getfield 9, 3) := dk_180 0 9 (dk_at dksX5_told_0 9 rfl rfl)
theorem dX5_told_12 : decode cX5_told 12 = .ok (.iload_n 3, 1) := dk_29 (dk_at dksX5_told_0 12 rfl rfl)
theorem dX5_told_13 : decode cX5_told 13 = .ok (.iaload, 1) := dk_46 (dk_at dksX5_told_0 13 rfl rfl)
theorem dX5_told_14 : decode cX5_told 14 = .ok (.iastore, 1) := dk_79 (dk_at dksX5_told_0 14 rfl rfl)
theorem dX5_told_15 : decode cX5_told 15 = .ok (.aload_n 0, 1) := dk_42 (dk_at dksX5_told_0 15 rfl rfl)
theorem dX5_told_16 : decode cX5_told 16 = .ok (.getfield 36, 3) := dk_180 0 36 (dk_at dksX5_told_0 16 rfl rfl)
theorem dX5_told_19 : decode cX5_told 19 = .ok (.getfield 90, 3) := dk_180 0 90 (dk_at dksX5_told_0 19 rfl rfl)
theorem dX5_told_22 : decode cX5_told 22 = .ok (.iconst 1, 1) := dk_4 (dk_at dksX5_told_0 22 rfl rfl)
theorem dX5_told_23 : decode cX5_told 23 = .ok (.aload_n 0, 1) := dk_42 (dk_at dksX5_told_0 23 rfl rfl)
theorem dX5_told_24 : decode cX5_told 24 = .ok (.aload_n 1, 1) := dk_43 (dk_at dksX5_told_1 0 rfl rfl)
theorem dX5_told_25 : decode cX5_told 25 = .ok (.iload_n 3, 1) := dk_29 (dk_at dksX5_told_1 1 rfl rfl)
theorem dX5_told_26 : decode cX5_told 26 = .ok (.invokevirtual 93, 3) := dk_182 0 93 (dk_at dksX5_told_1 2 rfl rfl)
theorem dX5_told_29 : decode cX5_told 29 = .ok (.iastore, 1) := dk_79 (dk_at dksX5_told_1 5 rfl rfl)
theorem dX5_told_30 : decode cX5_told 30 = .ok (.aload_n 0, 1) := dk_42 (dk_at dksX5_told_1 6 rfl rfl)
theorem dX5_told_31 : decode cX5_told 31 = .ok (.getfield 36, 3) := dk_180 0 36 (dk_at dksX5_told_1 7 rfl rfl)
theorem dX5_told_34 : decode cX5_told 34 = .ok (.getfield 90, 3) := dk_180 0 90 (dk_at dksX5_told_1 10 rfl rfl)
theorem dX5_told_37 : decode cX5_told 37 = .ok (.iconst 2, 1) := dk_5 (dk_at dksX5_told_1 13 rfl rfl)
theorem dX5_told_38 : decode cX5_told 38 = .ok (.iload 4, 2) := dk_21 4 (dk_at dksX5_told_1 14 rfl rfl)
theorem dX5_told_40 : decode cX5_told 40 = .ok (.iastore, 1) := dk_79 (dk_at dksX5_told_1 16 rfl rfl)
theorem dX5_told_41 : decode cX5_told 41 = .ok (.aload_n 0, 1) := dk_42 (dk_at dksX5_told_1 17 rfl rfl)
theorem dX5_told_42 : decode cX5_told 42 = .ok (.getfield 36, 3) := dk_180 0 36 (dk_at dksX5_told_1 18 rfl rfl)
theorem dX5_told_45 : decode cX5_told 45 = .ok (.getfield 90, 3) := dk_180 0 90 (dk_at dksX5_told_1 21 rfl rfl)
theorem dX5_told_48 : decode cX5_told 48 = .ok (.iconst 3, 1) := dk_6 (dk_at dksX5_told_2 0 rfl rfl)
theorem dX5_told_49 : decode cX5_told 49 = .ok (.aload_n 0, 1) := dk_42 (dk_at dksX5_told_2 1 rfl rfl)
theorem dX5_told_50 : decode cX5_told 50 = .ok (.getfield 64, 3) := dk_180 0 64 (dk_at dksX5_told_2 2 rfl rfl)
theorem dX5_told_53 : decode cX5_told 53 = .ok (.iastore, 1) := dk_79 (dk_at dksX5_told_2 5 rfl rfl)
theorem dX5_told_54 : decode cX5_told 54 = .ok (.aload_n 0, 1) := dk_42 (dk_at dksX5_told_2 6 rfl rfl)
theorem dX5_told_55 : decode cX5_told 55 = .ok (.getfield 36, 3) := dk_180 0 36 (dk_at dksX5_told_2 7 rfl rfl)
theorem dX5_told_58 : decode cX5_told 58 = .ok (.getfield 90, 3) := dk_180 0 90 (dk_at dksX5_told_2 10 rfl rfl)
theorem dX5_told_61 : decode cX5_told 61 = .ok (.iconst 4, 1) := dk_7 (dk_at dksX5_told_2 13 rfl rfl)
theorem dX5_told_62 : decode cX5_told 62 = .ok (.iconst 0, 1) := dk_3 (dk_at dksX5_told_2 14 rfl rfl)
theorem dX5_told_63 : decode cX5_told 63 = .ok (.aload_n 0, 1) := dk_42 (dk_at dksX5_told_2 15 rfl rfl)
theorem dX5_told_64 : decode cX5_told 64 = .ok (.iload_n 3, 1) := dk_29 (dk_at dksX5_told_2 16 rfl rfl)
theorem dX5_told_65 : decode cX5_told 65 = .ok (.invokevirtual 97, 3) := dk_182 0 97 (dk_at dksX5_told_2 17 rfl rfl)
theorem dX5_told_68 : decode cX5_told 68 = .ok (.invokestatic 101, 3) := dk_184 0 101 (dk_at dksX5_told_2 20 rfl rfl)
theorem dX5_told_71 : decode cX5_told 71 = .ok (.iastore, 1) := dk_79 (dk_at dksX5_told_2 23 rfl rfl)
theorem dX5_told_72 : decode cX5_told 72 = .ok (.aload_n 0, 1) := dk_42 (dk_at dksX5_told_3 0 rfl rfl)
theorem dX5_told_73 : decode cX5_told 73 = .ok (.getfield 36, 3) := dk_180 0 36 (dk_at dksX5_told_3 1 rfl rfl)
theorem dX5_told_76 : decode cX5_told 76 = .ok (.getfield 90, 3) := dk_180 0 90 (dk_at dksX5_told_3 4 rfl rfl)
theorem dX5_told_79 : decode cX5_told 79 = .ok (.iconst 5, 1) := dk_8 (dk_at dksX5_told_3 7 rfl rfl)
theorem dX5_told_80 : decode cX5_told 80 = .ok (.iload_n 3, 1) := dk_29 (dk_at dksX5_told_3 8 rfl rfl)
theorem dX5_told_81 : decode cX5_told 81 = .ok (.iastore, 1) := dk_79 (dk_at dksX5_told_3 9 rfl rfl)
theorem dX5_told_82 : decode cX5_told 82 = .ok (.aload_n 0, 1) := dk_42 (dk_at dksX5_told_3 10 rfl rfl)
theorem dX5_told_83 : decode cX5_told 83 = .ok (.getfield 36, 3) := dk_180 0 36 (dk_at dksX5_told_3 11 rfl rfl)
theorem dX5_told_86 : decode cX5_told 86 = .ok (.getfield 90, 3) := dk_180 0 90 (dk_at dksX5_told_3 14 rfl rfl)
theorem dX5_told_89 : decode cX5_told 89 = .ok (.bipush 6, 2) := dk_16 6 (dk_at dksX5_told_3 17 rfl rfl)
theorem dX5_told_91 : decode cX5_told 91 = .ok (.aload_n 0, 1) := dk_42 (dk_at dksX5_told_3 19 rfl rfl)
theorem dX5_told_92 : decode cX5_told 92 = .ok (.getfield 61, 3) := dk_180 0 61 (dk_at dksX5_told_3 20 rfl rfl)
theorem dX5_told_95 : decode cX5_told 95 = .ok (.iastore, 1) := dk_79 (dk_at dksX5_told_3 23 rfl rfl)
theorem dX5_told_96 : decode cX5_told 96 = .ok (.aload_n 0, 1) := dk_42 (dk_at dksX5_told_4 0 rfl rfl)
theorem dX5_told_97 : decode cX5_told 97 = .ok (.getfield 36, 3) := dk_180 0 36 (dk_at dksX5_told_4 1 rfl rfl)
theorem dX5_told_100 : decode cX5_told 100 = .ok (.getfield 90, 3) := dk_180 0 90 (dk_at dksX5_told_4 4 rfl rfl)
theorem dX5_told_103 : decode cX5_told 103 = .ok (.bipush 7, 2) := dk_16 7 (dk_at dksX5_told_4 7 rfl rfl)
theorem dX5_told_105 : decode cX5_told 105 = .ok (.aload_n 0, 1) := dk_42 (dk_at dksX5_told_4 9 rfl rfl)
theorem dX5_told_106 : decode cX5_told 106 = .ok (.getfield 21, 3) := dk_180 0 21 (dk_at dksX5_told_4 10 rfl rfl)
theorem dX5_told_109 : decode cX5_told 109 = .ok (.iload_n 3, 1) := dk_29 (dk_at dksX5_told_4 13 rfl rfl)
theorem dX5_told_110 : decode cX5_told 110 = .ok (.iaload, 1) := dk_46 (dk_at dksX5_told_4 14 rfl rfl)
theorem dX5_told_111 : decode cX5_told 111 = .ok (.iastore, 1) := dk_79 (dk_at dksX5_told_4 15 rfl rfl)
theorem dX5_told_112 : decode cX5_told 112 = .ok (.aload_n 0, 1) := dk_42 (dk_at dksX5_told_4 16 rfl rfl)
theorem dX5_told_113 : decode cX5_told 113 = .ok (.getfield 36, 3) := dk_180 0 36 (dk_at dksX5_told_4 17 rfl rfl)
theorem dX5_told_116 : decode cX5_told 116 = .ok (.getfield 90, 3) := dk_180 0 90 (dk_at dksX5_told_4 20 rfl rfl)
theorem dX5_told_119 : decode cX5_told 119 = .ok (.bipush 8, 2) := dk_16 8 (dk_at dksX5_told_5 0 rfl rfl)
theorem dX5_told_121 : decode cX5_told 121 = .ok (.iload 5, 2) := dk_21 5 (dk_at dksX5_told_5 2 rfl rfl)
theorem dX5_told_123 : decode cX5_told 123 = .ok (.iastore, 1) := dk_79 (dk_at dksX5_told_5 4 rfl rfl)
theorem dX5_told_124 : decode cX5_told 124 = .ok (.aload_n 1, 1) := dk_43 (dk_at dksX5_told_5 5 rfl rfl)
theorem dX5_told_125 : decode cX5_told 125 = .ok (.getfield 107, 3) := dk_180 0 107 (dk_at dksX5_told_5 6 rfl rfl)
theorem dX5_told_128 : decode cX5_told 128 = .ok (.iload_n 2, 1) := dk_28 (dk_at dksX5_told_5 9 rfl rfl)
theorem dX5_told_129 : decode cX5_told 129 = .ok (.aaload, 1) := dk_50 (dk_at dksX5_told_5 10 rfl rfl)
theorem dX5_told_130 : decode cX5_told 130 = .ok (.aload_n 0, 1) := dk_42 (dk_at dksX5_told_5 11 rfl rfl)
theorem dX5_told_131 : decode cX5_told 131 = .ok (.getfield 36, 3) := dk_180 0 36 (dk_at dksX5_told_5 12 rfl rfl)
theorem dX5_told_134 : decode cX5_told 134 = .ok (.invokevirtual 111, 3) := dk_182 0 111 (dk_at dksX5_told_5 15 rfl rfl)
theorem dX5_told_137 : decode cX5_told 137 = .ok (.ireturn, 1) := dk_172 (dk_at dksX5_told_5 18 rfl rfl)
def dkwX5_strength_1 : List UInt8 := [182, 0, 52, 192, 0, 56, 180, 0, 88, 172]
abbrev dktX5_strength_1 : List UInt8 := dkwX5_strength_1 ++ []
def dkwX5_strength_0 : List UInt8 := [42, 28, 182, 0, 84, 153, 0, 12, 42, 180, 0, 18, 28, 46, 167, 0, 17, 43, 180, 0, 40, 28]
abbrev dktX5_strength_0 : List UInt8 := dkwX5_strength_0 ++ dktX5_strength_1
theorem dksX5_strength_0 : cX5_strength.data.toList.drop 0 = dktX5_strength_0 := by decide +kernel
theorem dksX5_strength_1 : cX5_strength.data.toList.drop 22 = dktX5_strength_1 := dk_seg dksX5_strength_0 22 rfl rfl
theorem dX5_strength_0 : decode cX5_strength 0 = .ok (.aload_n 0, 1) := dk_42 (dk_at dksX5_strength_0 0 rfl rfl)
theorem dX5_strength_1 : decode cX5_strength 1 = .ok (.iload_n 2, 1) := dk_28 (dk_at dksX5_strength_0 1 rfl rfl)
theorem dX5_strength_2 : decode cX5_strength 2 = .ok (.invokevirtual 84, 3) := dk_182 0 84 (dk_at dksX5_strength_0 2 rfl rfl)
theorem dX5_strength_5 : decode cX5_strength 5 = .ok (.ifCond .eq 12, 3) := dk_153 0 12 (dk_at dksX5_strength_0 5 rfl rfl)
theorem dX5_strength_8 : decode cX5_strength 8 = .ok (.aload_n 0, 1) := dk_42 (dk_at dksX5_strength_0 8 rfl rfl)
theorem dX5_strength_9 : decode cX5_strength 9 = .ok (.getfield 18, 3) := dk_180 0 18 (dk_at dksX5_strength_0 9 rfl rfl)
theorem dX5_strength_12 : decode cX5_strength 12 = .ok (.iload_n 2, 1) := dk_28 (dk_at dksX5_strength_0 12 rfl rfl)
theorem dX5_strength_13 : decode cX5_strength 13 = .ok (.iaload, 1) := dk_46 (dk_at dksX5_strength_0 13 rfl rfl)
theorem dX5_strength_14 : decode cX5_strength 14 = .ok (.goto 17, 3) := dk_167 0 17 (dk_at dksX5_strength_0 14 rfl rfl)
theorem dX5_strength_17 : decode cX5_strength 17 = .ok (.aload_n 1, 1) := dk_43 (dk_at dksX5_strength_0 17 rfl rfl)
theorem dX5_strength_18 : decode cX5_strength 18 = .ok (.getfield 40, 3) := dk_180 0 40 (dk_at dksX5_strength_0 18 rfl rfl)
theorem dX5_strength_21 : decode cX5_strength 21 = .ok (.iload_n 2, 1) := dk_28 (dk_at dksX5_strength_0 21 rfl rfl)
theorem dX5_strength_22 : decode cX5_strength 22 = .ok (.invokevirtual 52, 3) := dk_182 0 52 (dk_at dksX5_strength_1 0 rfl rfl)
theorem dX5_strength_25 : decode cX5_strength 25 = .ok (.checkcast 56, 3) := dk_192 0 56 (dk_at dksX5_strength_1 3 rfl rfl)
theorem dX5_strength_28 : decode cX5_strength 28 = .ok (.getfield 88, 3) := dk_180 0 88 (dk_at dksX5_strength_1 6 rfl rfl)
theorem dX5_strength_31 : decode cX5_strength 31 = .ok (.ireturn, 1) := dk_172 (dk_at dksX5_strength_1 9 rfl rfl)
def dkwX5_has_0 : List UInt8 := [42, 180, 0, 15, 27, 46, 158, 0, 7, 4, 167, 0, 4, 3, 172]
abbrev dktX5_has_0 : List UInt8 := dkwX5_has_0 ++ []
theorem dksX5_has_0 : cX5_has.data.toList.drop 0 = dktX5_has_0 := by decide +kernel
theorem dX5_has_0 : decode cX5_has 0 = .ok (.aload_n 0, 1) := dk_42 (dk_at dksX5_has_0 0 rfl rfl)
theorem dX5_has_1 : decode cX5_has 1 = .ok (.getfield 15, 3) := dk_180 0 15 (dk_at dksX5_has_0 1 rfl rfl)
theorem dX5_has_4 : decode cX5_has 4 = .ok (.iload_n 1, 1) := dk_27 (dk_at dksX5_has_0 4 rfl rfl)
theorem dX5_has_5 : decode cX5_has 5 = .ok (.iaload, 1) := dk_46 (dk_at dksX5_has_0 5 rfl rfl)
theorem dX5_has_6 : decode cX5_has 6 = .ok (.ifCond .le 7, 3) := dk_158 0 7 (dk_at dksX5_has_0 6 rfl rfl)
theorem dX5_has_9 : decode cX5_has 9 = .ok (.iconst 1, 1) := dk_4 (dk_at dksX5_has_0 9 rfl rfl)
theorem dX5_has_10 : decode cX5_has 10 = .ok (.goto 4, 3) := dk_167 0 4 (dk_at dksX5_has_0 10 rfl rfl)
theorem dX5_has_13 : decode cX5_has 13 = .ok (.iconst 0, 1) := dk_3 (dk_at dksX5_has_0 13 rfl rfl)
theorem dX5_has_14 : decode cX5_has 14 = .ok (.ireturn, 1) := dk_172 (dk_at dksX5_has_0 14 rfl rfl)
def dkwX5_weakens_1 : List UInt8 := [184, 0, 121, 172]
abbrev dktX5_weakens_1 : List UInt8 := dkwX5_weakens_1 ++ []
def dkwX5_weakens_0 : List UInt8 := [43, 180, 0, 107, 4, 50, 199, 0, 7, 4, 167, 0, 17, 16, 99, 42, 43, 4, 28, 3, 3, 182, 0, 117]
abbrev dktX5_weakens_0 : List UInt8 := dkwX5_weakens_0 ++ dktX5_weakens_1
theorem dksX5_weakens_0 : cX5_weakens.data.toList.drop 0 = dktX5_weakens_0 := by decide +kernel
theorem dksX5_weakens_1 : cX5_weakens.data.toList.drop 24 = dktX5_weakens_1 := dk_seg dksX5_weakens_0 24 rfl rfl
theorem dX5_weakens_0 : decode cX5_weakens 0 = .ok (.aload_n 1, 1) := dk_43 (dk_at dksX5_weakens_0 0 rfl rfl)
theorem dX5_weakens_1 : decode cX5_weakens 1 = .ok (.getfield 107, 3) := dk_180 0 107 (dk_at dksX5_weakens_0 1 rfl rfl)
theorem dX5_weakens_4 : decode cX5_weakens 4 = .ok (.iconst 1, 1) := dk_4 (dk_at dksX5_weakens_0 4 rfl rfl)
theorem dX5_weakens_5 : decode cX5_weakens 5 = .ok (.aaload, 1) := dk_50 (dk_at dksX5_weakens_0 5 rfl rfl)
theorem dX5_weakens_6 : decode cX5_weakens 6 = .ok (.ifnonnull 7, 3) := dk_199 0 7 (dk_at dksX5_weakens_0 6 rfl rfl)
theorem dX5_weakens_9 : decode cX5_weakens 9 = .ok (.iconst 1, 1) := dk_4 (dk_at dksX5_weakens_0 9 rfl rfl)
theorem dX5_weakens_10 : decode cX5_weakens 10 = .ok (.goto 17, 3) := dk_167 0 17 (dk_at dksX5_weakens_0 10 rfl rfl)
theorem dX5_weakens_13 : decode cX5_weakens 13 = .ok (.bipush 99, 2) := dk_16 99 (dk_at dksX5_weakens_0 13 rfl rfl)
theorem dX5_weakens_15 : decode cX5_weakens 15 = .ok (.aload_n 0, 1) := dk_42 (dk_at dksX5_weakens_0 15 rfl rfl)
theorem dX5_weakens_16 : decode cX5_weakens 16 = .ok (.aload_n 1, 1) := dk_43 (dk_at dksX5_weakens_0 16 rfl rfl)
theorem dX5_weakens_17 : decode cX5_weakens 17 = .ok (.iconst 1, 1) := dk_4 (dk_at dksX5_weakens_0 17 rfl rfl)
theorem dX5_weakens_18 : decode cX5_weakens 18 = .ok (.iload_n 2, 1) := dk_28 (dk_at dksX5_weakens_0 18 rfl rfl)
theorem dX5_weakens_19 : decode cX5_weakens 19 = .ok (.iconst 0, 1) := dk_3 (dk_at dksX5_weakens_0 19 rfl rfl)
theorem dX5_weakens_20 : decode cX5_weakens 20 = .ok (.iconst 0, 1) := dk_3 (dk_at dksX5_weakens_0 20 rfl rfl)
theorem dX5_weakens_21 : decode cX5_weakens 21 = .ok (.invokevirtual 117, 3) := dk_182 0 117 (dk_at dksX5_weakens_0 21 rfl rfl)
theorem dX5_weakens_24 : decode cX5_weakens 24 = .ok (.invokestatic 121, 3) := dk_184 0 121 (dk_at dksX5_weakens_1 0 rfl rfl)
theorem dX5_weakens_27 : decode cX5_weakens 27 = .ok (.ireturn, 1) := dk_172 (dk_at dksX5_weakens_1 3 rfl rfl)
def dkwX5_costs_1 : List UInt8 := [3, 3, 182, 0, 117, 184, 0, 121, 172]
abbrev dktX5_costs_1 : List UInt8 := dkwX5_costs_1 ++ []
def dkwX5_costs_0 : List UInt8 := [16, 99, 43, 180, 0, 107, 6, 50, 199, 0, 12, 42, 180, 0, 9, 28, 46, 167, 0, 12, 42, 43, 6, 28]
abbrev dktX5_costs_0 : List UInt8 := dkwX5_costs_0 ++ dktX5_costs_1
theorem dksX5_costs_0 : cX5_costs.data.toList.drop 0 = dktX5_costs_0 := by decide +kernel
theorem dksX5_costs_1 : cX5_costs.data.toList.drop 24 = dktX5_costs_1 := dk_seg dksX5_costs_0 24 rfl rfl
theorem dX5_costs_0 : decode cX5_costs 0 = .ok (.bipush 99, 2) := dk_16 99 (dk_at dksX5_costs_0 0 rfl rfl)
theorem dX5_costs_2 : decode cX5_costs 2 = .ok (.aload_n 1, 1) := dk_43 (dk_at dksX5_costs_0 2 rfl rfl)
theorem dX5_costs_3 : decode cX5_costs 3 = .ok (.getfield 107, 3) := dk_180 0 107 (dk_at dksX5_costs_0 3 rfl rfl)
theorem dX5_costs_6 : decode cX5_costs 6 = .ok (.iconst 3, 1) := dk_6 (dk_at dksX5_costs_0 6 rfl rfl)
theorem dX5_costs_7 : decode cX5_costs 7 = .ok (.aaload, 1) := dk_50 (dk_at dksX5_costs_0 7 rfl rfl)
theorem dX5_costs_8 : decode cX5_costs 8 = .ok (.ifnonnull 12, 3) := dk_199 0 12 (dk_at dksX5_costs_0 8 rfl rfl)
theorem dX5_costs_11 : decode cX5_costs 11 = .ok (.aload_n 0, 1) := dk_42 (dk_at dksX5_costs_0 11 rfl rfl)
theorem dX5_costs_12 : decode cX5_costs 12 = .ok (.getfield 9, 3) := dk_180 0 9 (dk_at dksX5_costs_0 12 rfl rfl)
theorem dX5_costs_15 : decode cX5_costs 15 = .ok (.iload_n 2, 1) := dk_28 (dk_at dksX5_costs_0 15 rfl rfl)
theorem dX5_costs_16 : decode cX5_costs 16 = .ok (.iaload, 1) := dk_46 (dk_at dksX5_costs_0 16 rfl rfl)
theorem dX5_costs_17 : decode cX5_costs 17 = .ok (.goto 12, 3) := dk_167 0 12 (dk_at dksX5_costs_0 17 rfl rfl)
theorem dX5_costs_20 : decode cX5_costs 20 = .ok (.aload_n 0, 1) := dk_42 (dk_at dksX5_costs_0 20 rfl rfl)
theorem dX5_costs_21 : decode cX5_costs 21 = .ok (.aload_n 1, 1) := dk_43 (dk_at dksX5_costs_0 21 rfl rfl)
theorem dX5_costs_22 : decode cX5_costs 22 = .ok (.iconst 3, 1) := dk_6 (dk_at dksX5_costs_0 22 rfl rfl)
theorem dX5_costs_23 : decode cX5_costs 23 = .ok (.iload_n 2, 1) := dk_28 (dk_at dksX5_costs_0 23 rfl rfl)
theorem dX5_costs_24 : decode cX5_costs 24 = .ok (.iconst 0, 1) := dk_3 (dk_at dksX5_costs_1 0 rfl rfl)
theorem dX5_costs_25 : decode cX5_costs 25 = .ok (.iconst 0, 1) := dk_3 (dk_at dksX5_costs_1 1 rfl rfl)
theorem dX5_costs_26 : decode cX5_costs 26 = .ok (.invokevirtual 117, 3) := dk_182 0 117 (dk_at dksX5_costs_1 2 rfl rfl)
theorem dX5_costs_29 : decode cX5_costs 29 = .ok (.invokestatic 121, 3) := dk_184 0 121 (dk_at dksX5_costs_1 5 rfl rfl)
theorem dX5_costs_32 : decode cX5_costs 32 = .ok (.ireturn, 1) := dk_172 (dk_at dksX5_costs_1 8 rfl rfl)
def dkwX5_joins_1 : List UInt8 := [21, 4, 42, 43, 29, 182, 0, 93, 182, 0, 117, 184, 0, 121, 172]
abbrev dktX5_joins_1 : List UInt8 := dkwX5_joins_1 ++ []
def dkwX5_joins_0 : List UInt8 := [43, 180, 0, 107, 5, 50, 199, 0, 11, 16, 10, 21, 4, 104, 167, 0, 24, 17, 3, 231, 42, 43, 5, 28]
abbrev dktX5_joins_0 : List UInt8 := dkwX5_joins_0 ++ dktX5_joins_1
theorem dksX5_joins_0 : cX5_joins.data.toList.drop 0 = dktX5_joins_0 := by decide +kernel
theorem dksX5_joins_1 : cX5_joins.data.toList.drop 24 = dktX5_joins_1 := dk_seg dksX5_joins_0 24 rfl rfl
theorem dX5_joins_0 : decode cX5_joins 0 = .ok (.aload_n 1, 1) := dk_43 (dk_at dksX5_joins_0 0 rfl rfl)
theorem dX5_joins_1 : decode cX5_joins 1 = .ok (.getfield 107, 3) := dk_180 0 107 (dk_at dksX5_joins_0 1 rfl rfl)
theorem dX5_joins_4 : decode cX5_joins 4 = .ok (.iconst 2, 1) := dk_5 (dk_at dksX5_joins_0 4 rfl rfl)
theorem dX5_joins_5 : decode cX5_joins 5 = .ok (.aaload, 1) := dk_50 (dk_at dksX5_joins_0 5 rfl rfl)
theorem dX5_joins_6 : decode cX5_joins 6 = .ok (.ifnonnull 11, 3) := dk_199 0 11 (dk_at dksX5_joins_0 6 rfl rfl)
theorem dX5_joins_9 : decode cX5_joins 9 = .ok (.bipush 10, 2) := dk_16 10 (dk_at dksX5_joins_0 9 rfl rfl)
theorem dX5_joins_11 : decode cX5_joins 11 = .ok (.iload 4, 2) := dk_21 4 (dk_at dksX5_joins_0 11 rfl rfl)
theorem dX5_joins_13 : decode cX5_joins 13 = .ok (.imul, 1) := dk_104 (dk_at dksX5_joins_0 13 rfl rfl)
theorem dX5_joins_14 : decode cX5_joins 14 = .ok (.goto 24, 3) := dk_167 0 24 (dk_at dksX5_joins_0 14 rfl rfl)
theorem dX5_joins_17 : decode cX5_joins 17 = .ok (.sipush 999, 3) := dk_17 3 231 (dk_at dksX5_joins_0 17 rfl rfl)
theorem dX5_joins_20 : decode cX5_joins 20 = .ok (.aload_n 0, 1) := dk_42 (dk_at dksX5_joins_0 20 rfl rfl)
theorem dX5_joins_21 : decode cX5_joins 21 = .ok (.aload_n 1, 1) := dk_43 (dk_at dksX5_joins_0 21 rfl rfl)
theorem dX5_joins_22 : decode cX5_joins 22 = .ok (.iconst 2, 1) := dk_5 (dk_at dksX5_joins_0 22 rfl rfl)
theorem dX5_joins_23 : decode cX5_joins 23 = .ok (.iload_n 2, 1) := dk_28 (dk_at dksX5_joins_0 23 rfl rfl)
theorem dX5_joins_24 : decode cX5_joins 24 = .ok (.iload 4, 2) := dk_21 4 (dk_at dksX5_joins_1 0 rfl rfl)
theorem dX5_joins_26 : decode cX5_joins 26 = .ok (.aload_n 0, 1) := dk_42 (dk_at dksX5_joins_1 2 rfl rfl)
theorem dX5_joins_27 : decode cX5_joins 27 = .ok (.aload_n 1, 1) := dk_43 (dk_at dksX5_joins_1 3 rfl rfl)
theorem dX5_joins_28 : decode cX5_joins 28 = .ok (.iload_n 3, 1) := dk_29 (dk_at dksX5_joins_1 4 rfl rfl)
theorem dX5_joins_29 : decode cX5_joins 29 = .ok (.invokevirtual 93, 3) := dk_182 0 93 (dk_at dksX5_joins_1 5 rfl rfl)
theorem dX5_joins_32 : decode cX5_joins 32 = .ok (.invokevirtual 117, 3) := dk_182 0 117 (dk_at dksX5_joins_1 8 rfl rfl)
theorem dX5_joins_35 : decode cX5_joins 35 = .ok (.invokestatic 121, 3) := dk_184 0 121 (dk_at dksX5_joins_1 11 rfl rfl)
theorem dX5_joins_38 : decode cX5_joins 38 = .ok (.ireturn, 1) := dk_172 (dk_at dksX5_joins_1 14 rfl rfl)
def dkwX5_becomes_3 : List UInt8 := [181, 0, 64, 42, 43, 180, 0, 67, 181, 0, 67, 42, 43, 180, 0, 73, 181, 0, 73, 177]
abbrev dktX5_becomes_3 : List UInt8 := dkwX5_becomes_3 ++ []
def dkwX5_becomes_2 : List UInt8 := [180, 0, 24, 42, 180, 0, 24, 184, 0, 80, 42, 43, 180, 0, 61, 181, 0, 61, 42, 43, 180, 0, 64]
abbrev dktX5_becomes_2 : List UInt8 := dkwX5_becomes_2 ++ dktX5_becomes_3
def dkwX5_becomes_1 : List UInt8 := [180, 0, 18, 42, 180, 0, 18, 184, 0, 80, 43, 180, 0, 21, 42, 180, 0, 21, 184, 0, 80, 43]
abbrev dktX5_becomes_1 : List UInt8 := dkwX5_becomes_1 ++ dktX5_becomes_2
def dkwX5_becomes_0 : List UInt8 := [43, 180, 0, 9, 42, 180, 0, 9, 184, 0, 80, 43, 180, 0, 15, 42, 180, 0, 15, 184, 0, 80, 43]
abbrev dktX5_becomes_0 : List UInt8 := dkwX5_becomes_0 ++ dktX5_becomes_1
theorem dksX5_becomes_0 : cX5_becomes.data.toList.drop 0 = dktX5_becomes_0 := by decide +kernel
theorem dksX5_becomes_1 : cX5_becomes.data.toList.drop 23 = dktX5_becomes_1 := dk_seg dksX5_becomes_0 23 rfl rfl
theorem dksX5_becomes_2 : cX5_becomes.data.toList.drop 45 = dktX5_becomes_2 := dk_seg dksX5_becomes_1 22 rfl rfl
theorem dksX5_becomes_3 : cX5_becomes.data.toList.drop 68 = dktX5_becomes_3 := dk_seg dksX5_becomes_2 23 rfl rfl
theorem dX5_becomes_0 : decode cX5_becomes 0 = .ok (.aload_n 1, 1) := dk_43 (dk_at dksX5_becomes_0 0 rfl rfl)
theorem dX5_becomes_1 : decode cX5_becomes 1 = .ok (.getfield 9, 3) := dk_180 0 9 (dk_at dksX5_becomes_0 1 rfl rfl)
theorem dX5_becomes_4 : decode cX5_becomes 4 = .ok (.aload_n 0, 1) := dk_42 (dk_at dksX5_becomes_0 4 rfl rfl)
theorem dX5_becomes_5 : decode cX5_becomes 5 = .ok (.getfield 9, 3) := dk_180 0 9 (dk_at dksX5_becomes_0 5 rfl rfl)
theorem dX5_becomes_8 : decode cX5_becomes 8 = .ok (.invokestatic 80, 3) := dk_184 0 80 (dk_at dksX5_becomes_0 8 rfl rfl)
theorem dX5_becomes_11 : decode cX5_becomes 11 = .ok (.aload_n 1, 1) := dk_43 (dk_at dksX5_becomes_0 11 rfl rfl)
theorem dX5_becomes_12 : decode cX5_becomes 12 = .ok (.getfield 15, 3) := dk_180 0 15 (dk_at dksX5_becomes_0 12 rfl rfl)
theorem dX5_becomes_15 : decode cX5_becomes 15 = .ok (.aload_n 0, 1) := dk_42 (dk_at dksX5_becomes_0 15 rfl rfl)
theorem dX5_becomes_16 : decode cX5_becomes 16 = .ok (.getfield 15, 3) := dk_180 0 15 (dk_at dksX5_becomes_0 16 rfl rfl)
theorem dX5_becomes_19 : decode cX5_becomes 19 = .ok (.invokestatic 80, 3) := dk_184 0 80 (dk_at dksX5_becomes_0 19 rfl rfl)
theorem dX5_becomes_22 : decode cX5_becomes 22 = .ok (.aload_n 1, 1) := dk_43 (dk_at dksX5_becomes_0 22 rfl rfl)
theorem dX5_becomes_23 : decode cX5_becomes 23 = .ok (.getfield 18, 3) := dk_180 0 18 (dk_at dksX5_becomes_1 0 rfl rfl)
theorem dX5_becomes_26 : decode cX5_becomes 26 = .ok (.aload_n 0, 1) := dk_42 (dk_at dksX5_becomes_1 3 rfl rfl)
theorem dX5_becomes_27 : decode cX5_becomes 27 = .ok (.getfield 18, 3) := dk_180 0 18 (dk_at dksX5_becomes_1 4 rfl rfl)
theorem dX5_becomes_30 : decode cX5_becomes 30 = .ok (.invokestatic 80, 3) := dk_184 0 80 (dk_at dksX5_becomes_1 7 rfl rfl)
theorem dX5_becomes_33 : decode cX5_becomes 33 = .ok (.aload_n 1, 1) := dk_43 (dk_at dksX5_becomes_1 10 rfl rfl)
theorem dX5_becomes_34 : decode cX5_becomes 34 = .ok (.getfield 21, 3) := dk_180 0 21 (dk_at dksX5_becomes_1 11 rfl rfl)
theorem dX5_becomes_37 : decode cX5_becomes 37 = .ok (.aload_n 0, 1) := dk_42 (dk_at dksX5_becomes_1 14 rfl rfl)
theorem dX5_becomes_38 : decode cX5_becomes 38 = .ok (.getfield 21, 3) := dk_180 0 21 (dk_at dksX5_becomes_1 15 rfl rfl)
theorem dX5_becomes_41 : decode cX5_becomes 41 = .ok (.invokestatic 80, 3) := dk_184 0 80 (dk_at dksX5_becomes_1 18 rfl rfl)
theorem dX5_becomes_44 : decode cX5_becomes 44 = .ok (.aload_n 1, 1) := dk_43 (dk_at dksX5_becomes_1 21 rfl rfl)
theorem dX5_becomes_45 : decode cX5_becomes 45 = .ok (.getfield 24, 3) := dk_180 0 24 (dk_at dksX5_becomes_2 0 rfl rfl)
theorem dX5_becomes_48 : decode cX5_becomes 48 = .ok (.aload_n 0, 1) := dk_42 (dk_at dksX5_becomes_2 3 rfl rfl)
theorem dX5_becomes_49 : decode cX5_becomes 49 = .ok (.getfield 24, 3) := dk_180 0 24 (dk_at dksX5_becomes_2 4 rfl rfl)
theorem dX5_becomes_52 : decode cX5_becomes 52 = .ok (.invokestatic 80, 3) := dk_184 0 80 (dk_at dksX5_becomes_2 7 rfl rfl)
theorem dX5_becomes_55 : decode cX5_becomes 55 = .ok (.aload_n 0, 1) := dk_42 (dk_at dksX5_becomes_2 10 rfl rfl)
theorem dX5_becomes_56 : decode cX5_becomes 56 = .ok (.aload_n 1, 1) := dk_43 (dk_at dksX5_becomes_2 11 rfl rfl)
theorem dX5_becomes_57 : decode cX5_becomes 57 = .ok (.getfield 61, 3) := dk_180 0 61 (dk_at dksX5_becomes_2 12 rfl rfl)
theorem dX5_becomes_60 : decode cX5_becomes 60 = .ok (.putfield 61, 3) := dk_181 0 61 (dk_at dksX5_becomes_2 15 rfl rfl)
theorem dX5_becomes_63 : decode cX5_becomes 63 = .ok (.aload_n 0, 1) := dk_42 (dk_at dksX5_becomes_2 18 rfl rfl)
theorem dX5_becomes_64 : decode cX5_becomes 64 = .ok (.aload_n 1, 1) := dk_43 (dk_at dksX5_becomes_2 19 rfl rfl)
theorem dX5_becomes_65 : decode cX5_becomes 65 = .ok (.getfield 64, 3) := dk_180 0 64 (dk_at dksX5_becomes_2 20 rfl rfl)
theorem dX5_becomes_68 : decode cX5_becomes 68 = .ok (.putfield 64, 3) := dk_181 0 64 (dk_at dksX5_becomes_3 0 rfl rfl)
theorem dX5_becomes_71 : decode cX5_becomes 71 = .ok (.aload_n 0, 1) := dk_42 (dk_at dksX5_becomes_3 3 rfl rfl)
theorem dX5_becomes_72 : decode cX5_becomes 72 = .ok (.aload_n 1, 1) := dk_43 (dk_at dksX5_becomes_3 4 rfl rfl)
theorem dX5_becomes_73 : decode cX5_becomes 73 = .ok (.getfield 67, 3) := dk_180 0 67 (dk_at dksX5_becomes_3 5 rfl rfl)
theorem dX5_becomes_76 : decode cX5_becomes 76 = .ok (.putfield 67, 3) := dk_181 0 67 (dk_at dksX5_becomes_3 8 rfl rfl)
theorem dX5_becomes_79 : decode cX5_becomes 79 = .ok (.aload_n 0, 1) := dk_42 (dk_at dksX5_becomes_3 11 rfl rfl)
theorem dX5_becomes_80 : decode cX5_becomes 80 = .ok (.aload_n 1, 1) := dk_43 (dk_at dksX5_becomes_3 12 rfl rfl)
theorem dX5_becomes_81 : decode cX5_becomes 81 = .ok (.getfield 73, 3) := dk_180 0 73 (dk_at dksX5_becomes_3 13 rfl rfl)
theorem dX5_becomes_84 : decode cX5_becomes 84 = .ok (.putfield 73, 3) := dk_181 0 73 (dk_at dksX5_becomes_3 16 rfl rfl)
theorem dX5_becomes_87 : decode cX5_becomes 87 = .ok (.return_, 1) := dk_177 (dk_at dksX5_becomes_3 19 rfl rfl)
def dkwX5_copies_0 : List UInt8 := [42, 3, 43, 3, 42, 190, 184, 0, 74, 177]
abbrev dktX5_copies_0 : List UInt8 := dkwX5_copies_0 ++ []
theorem dksX5_copies_0 : cX5_copies.data.toList.drop 0 = dktX5_copies_0 := by decide +kernel
theorem dX5_copies_0 : decode cX5_copies 0 = .ok (.aload_n 0, 1) := dk_42 (dk_at dksX5_copies_0 0 rfl rfl)
theorem dX5_copies_1 : decode cX5_copies 1 = .ok (.iconst 0, 1) := dk_3 (dk_at dksX5_copies_0 1 rfl rfl)
theorem dX5_copies_2 : decode cX5_copies 2 = .ok (.aload_n 1, 1) := dk_43 (dk_at dksX5_copies_0 2 rfl rfl)
theorem dX5_copies_3 : decode cX5_copies 3 = .ok (.iconst 0, 1) := dk_3 (dk_at dksX5_copies_0 3 rfl rfl)
theorem dX5_copies_4 : decode cX5_copies 4 = .ok (.aload_n 0, 1) := dk_42 (dk_at dksX5_copies_0 4 rfl rfl)
theorem dX5_copies_5 : decode cX5_copies 5 = .ok (.arraylength, 1) := dk_190 (dk_at dksX5_copies_0 5 rfl rfl)
theorem dX5_copies_6 : decode cX5_copies 6 = .ok (.invokestatic 74, 3) := dk_184 0 74 (dk_at dksX5_copies_0 6 rfl rfl)
theorem dX5_copies_9 : decode cX5_copies 9 = .ok (.return_, 1) := dk_177 (dk_at dksX5_copies_0 9 rfl rfl)
def dkwX5_splices_2 : List UInt8 := [4, 96, 79, 42, 180, 0, 24, 42, 180, 0, 61, 28, 79, 42, 89, 180, 0, 61, 4, 96, 181, 0, 61, 177]
abbrev dktX5_splices_2 : List UInt8 := dkwX5_splices_2 ++ []
def dkwX5_splices_1 : List UInt8 := [182, 0, 52, 192, 0, 56, 180, 0, 88, 79, 42, 180, 0, 9, 28, 3, 79, 42, 180, 0, 21, 28, 92, 46]
abbrev dktX5_splices_1 : List UInt8 := dkwX5_splices_1 ++ dktX5_splices_2
def dkwX5_splices_0 : List UInt8 := [42, 180, 0, 15, 28, 42, 180, 0, 9, 28, 46, 79, 42, 180, 0, 18, 28, 43, 180, 0, 40, 28]
abbrev dktX5_splices_0 : List UInt8 := dkwX5_splices_0 ++ dktX5_splices_1
theorem dksX5_splices_0 : cX5_splices.data.toList.drop 0 = dktX5_splices_0 := by decide +kernel
theorem dksX5_splices_1 : cX5_splices.data.toList.drop 22 = dktX5_splices_1 := dk_seg dksX5_splices_0 22 rfl rfl
theorem dksX5_splices_2 : cX5_splices.data.toList.drop 46 = dktX5_splices_2 := dk_seg dksX5_splices_1 24 rfl rfl
theorem dX5_splices_0 : decode cX5_splices 0 = .ok (.aload_n 0, 1) := dk_42 (dk_at dksX5_splices_0 0 rfl rfl)
theorem dX5_splices_1 : decode cX5_splices 1 = .ok (.getfield 15, 3) := dk_180 0 15 (dk_at dksX5_splices_0 1 rfl rfl)
theorem dX5_splices_4 : decode cX5_splices 4 = .ok (.iload_n 2, 1) := dk_28 (dk_at dksX5_splices_0 4 rfl rfl)
theorem dX5_splices_5 : decode cX5_splices 5 = .ok (.aload_n 0, 1) := dk_42 (dk_at dksX5_splices_0 5 rfl rfl)
theorem dX5_splices_6 : decode cX5_splices 6 = .ok (.getfield 9, 3) := dk_180 0 9 (dk_at dksX5_splices_0 6 rfl rfl)
theorem dX5_splices_9 : decode cX5_splices 9 = .ok (.iload_n 2, 1) := dk_28 (dk_at dksX5_splices_0 9 rfl rfl)
theorem dX5_splices_10 : decode cX5_splices 10 = .ok (.iaload, 1) := dk_46 (dk_at dksX5_splices_0 10 rfl rfl)
theorem dX5_splices_11 : decode cX5_splices 11 = .ok (.iastore, 1) := dk_79 (dk_at dksX5_splices_0 11 rfl rfl)
theorem dX5_splices_12 : decode cX5_splices 12 = .ok (.aload_n 0, 1) := dk_42 (dk_at dksX5_splices_0 12 rfl rfl)
theorem dX5_splices_13 : decode cX5_splices 13 = .ok (.getfield 18, 3) := dk_180 0 18 (dk_at dksX5_splices_0 13 rfl rfl)
theorem dX5_splices_16 : decode cX5_splices 16 = .ok (.iload_n 2, 1) := dk_28 (dk_at dksX5_splices_0 16 rfl rfl)
theorem dX5_splices_17 : decode cX5_splices 17 = .ok (.aload_n 1, 1) := dk_43 (dk_at dksX5_splices_0 17 rfl rfl)
theorem dX5_splices_18 : decode cX5_splices 18 = .ok (.getfield 40, 3) := dk_180 0 40 (dk_at dksX5_splices_0 18 rfl rfl)
theorem dX5_splices_21 : decode cX5_splices 21 = .ok (.iload_n 2, 1) := dk_28 (dk_at dksX5_splices_0 21 rfl rfl)
theorem dX5_splices_22 : decode cX5_splices 22 = .ok (.invokevirtual 52, 3) := dk_182 0 52 (dk_at dksX5_splices_1 0 rfl rfl)
theorem dX5_splices_25 : decode cX5_splices 25 = .ok (.checkcast 56, 3) := dk_192 0 56 (dk_at dksX5_splices_1 3 rfl rfl)
theorem dX5_splices_28 : decode cX5_splices 28 = .ok (.getfield 88, 3) := dk_180 0 88 (dk_at dksX5_splices_1 6 rfl rfl)
theorem dX5_splices_31 : decode cX5_splices 31 = .ok (.iastore, 1) := dk_79 (dk_at dksX5_splices_1 9 rfl rfl)
theorem dX5_splices_32 : decode cX5_splices 32 = .ok (.aload_n 0, 1) := dk_42 (dk_at dksX5_splices_1 10 rfl rfl)
theorem dX5_splices_33 : decode cX5_splices 33 = .ok (.getfield 9, 3) := dk_180 0 9 (dk_at dksX5_splices_1 11 rfl rfl)
theorem dX5_splices_36 : decode cX5_splices 36 = .ok (.iload_n 2, 1) := dk_28 (dk_at dksX5_splices_1 14 rfl rfl)
theorem dX5_splices_37 : decode cX5_splices 37 = .ok (.iconst 0, 1) := dk_3 (dk_at dksX5_splices_1 15 rfl rfl)
theorem dX5_splices_38 : decode cX5_splices 38 = .ok (.iastore, 1) := dk_79 (dk_at dksX5_splices_1 16 rfl rfl)
theorem dX5_splices_39 : decode cX5_splices 39 = .ok (.aload_n 0, 1) := dk_42 (dk_at dksX5_splices_1 17 rfl rfl)
theorem dX5_splices_40 : decode cX5_splices 40 = .ok (.getfield 21, 3) := dk_180 0 21 (dk_at dksX5_splices_1 18 rfl rfl)
theorem dX5_splices_43 : decode cX5_splices 43 = .ok (.iload_n 2, 1) := dk_28 (dk_at dksX5_splices_1 21 rfl rfl)
theorem dX5_splices_44 : decode cX5_splices 44 = .ok (.dup2, 1) := dk_92 (dk_at dksX5_splices_1 22 rfl rfl)
theorem dX5_splices_45 : decode cX5_splices 45 = .ok (.iaload, 1) := dk_46 (dk_at dksX5_splices_1 23 rfl rfl)
theorem dX5_splices_46 : decode cX5_splices 46 = .ok (.iconst 1, 1) := dk_4 (dk_at dksX5_splices_2 0 rfl rfl)
theorem dX5_splices_47 : decode cX5_splices 47 = .ok (.iadd, 1) := dk_96 (dk_at dksX5_splices_2 1 rfl rfl)
theorem dX5_splices_48 : decode cX5_splices 48 = .ok (.iastore, 1) := dk_79 (dk_at dksX5_splices_2 2 rfl rfl)
theorem dX5_splices_49 : decode cX5_splices 49 = .ok (.aload_n 0, 1) := dk_42 (dk_at dksX5_splices_2 3 rfl rfl)
theorem dX5_splices_50 : decode cX5_splices 50 = .ok (.getfield 24, 3) := dk_180 0 24 (dk_at dksX5_splices_2 4 rfl rfl)
theorem dX5_splices_53 : decode cX5_splices 53 = .ok (.aload_n 0, 1) := dk_42 (dk_at dksX5_splices_2 7 rfl rfl)
theorem dX5_splices_54 : decode cX5_splices 54 = .ok (.getfield 61, 3) := dk_180 0 61 (dk_at dksX5_splices_2 8 rfl rfl)
theorem dX5_splices_57 : decode cX5_splices 57 = .ok (.iload_n 2, 1) := dk_28 (dk_at dksX5_splices_2 11 rfl rfl)
theorem dX5_splices_58 : decode cX5_splices 58 = .ok (.iastore, 1) := dk_79 (dk_at dksX5_splices_2 12 rfl rfl)
theorem dX5_splices_59 : decode cX5_splices 59 = .ok (.aload_n 0, 1) := dk_42 (dk_at dksX5_splices_2 13 rfl rfl)
theorem dX5_splices_60 : decode cX5_splices 60 = .ok (.dup, 1) := dk_89 (dk_at dksX5_splices_2 14 rfl rfl)
theorem dX5_splices_61 : decode cX5_splices 61 = .ok (.getfield 61, 3) := dk_180 0 61 (dk_at dksX5_splices_2 15 rfl rfl)
theorem dX5_splices_64 : decode cX5_splices 64 = .ok (.iconst 1, 1) := dk_4 (dk_at dksX5_splices_2 18 rfl rfl)
theorem dX5_splices_65 : decode cX5_splices 65 = .ok (.iadd, 1) := dk_96 (dk_at dksX5_splices_2 19 rfl rfl)
theorem dX5_splices_66 : decode cX5_splices 66 = .ok (.putfield 61, 3) := dk_181 0 61 (dk_at dksX5_splices_2 20 rfl rfl)
theorem dX5_splices_69 : decode cX5_splices 69 = .ok (.return_, 1) := dk_177 (dk_at dksX5_splices_2 23 rfl rfl)
def dkwX5_ropeLong_1 : List UInt8 := [96, 60, 132, 2, 1, 167, 255, 231, 27, 172]
abbrev dktX5_ropeLong_1 : List UInt8 := dkwX5_ropeLong_1 ++ []
def dkwX5_ropeLong_0 : List UInt8 := [3, 60, 3, 61, 28, 42, 180, 0, 61, 162, 0, 23, 27, 42, 180, 0, 15, 42, 180, 0, 24, 28, 46, 46]
abbrev dktX5_ropeLong_0 : List UInt8 := dkwX5_ropeLong_0 ++ dktX5_ropeLong_1
theorem dksX5_ropeLong_0 : cX5_ropeLong.data.toList.drop 0 = dktX5_ropeLong_0 := by decide +kernel
theorem dksX5_ropeLong_1 : cX5_ropeLong.data.toList.drop 24 = dktX5_ropeLong_1 := dk_seg dksX5_ropeLong_0 24 rfl rfl
theorem dX5_ropeLong_0 : decode cX5_ropeLong 0 = .ok (.iconst 0, 1) := dk_3 (dk_at dksX5_ropeLong_0 0 rfl rfl)
theorem dX5_ropeLong_1 : decode cX5_ropeLong 1 = .ok (.istore_n 1, 1) := dk_60 (dk_at dksX5_ropeLong_0 1 rfl rfl)
theorem dX5_ropeLong_2 : decode cX5_ropeLong 2 = .ok (.iconst 0, 1) := dk_3 (dk_at dksX5_ropeLong_0 2 rfl rfl)
theorem dX5_ropeLong_3 : decode cX5_ropeLong 3 = .ok (.istore_n 2, 1) := dk_61 (dk_at dksX5_ropeLong_0 3 rfl rfl)
theorem dX5_ropeLong_4 : decode cX5_ropeLong 4 = .ok (.iload_n 2, 1) := dk_28 (dk_at dksX5_ropeLong_0 4 rfl rfl)
theorem dX5_ropeLong_5 : decode cX5_ropeLong 5 = .ok (.aload_n 0, 1) := dk_42 (dk_at dksX5_ropeLong_0 5 rfl rfl)
theorem dX5_ropeLong_6 : decode cX5_ropeLong 6 = .ok (.getfield 61, 3) := dk_180 0 61 (dk_at dksX5_ropeLong_0 6 rfl rfl)
theorem dX5_ropeLong_9 : decode cX5_ropeLong 9 = .ok (.if_icmp .ge 23, 3) := dk_162 0 23 (dk_at dksX5_ropeLong_0 9 rfl rfl)
theorem dX5_ropeLong_12 : decode cX5_ropeLong 12 = .ok (.iload_n 1, 1) := dk_27 (dk_at dksX5_ropeLong_0 12 rfl rfl)
theorem dX5_ropeLong_13 : decode cX5_ropeLong 13 = .ok (.aload_n 0, 1) := dk_42 (dk_at dksX5_ropeLong_0 13 rfl rfl)
theorem dX5_ropeLong_14 : decode cX5_ropeLong 14 = .ok (.getfield 15, 3) := dk_180 0 15 (dk_at dksX5_ropeLong_0 14 rfl rfl)
theorem dX5_ropeLong_17 : decode cX5_ropeLong 17 = .ok (.aload_n 0, 1) := dk_42 (dk_at dksX5_ropeLong_0 17 rfl rfl)
theorem dX5_ropeLong_18 : decode cX5_ropeLong 18 = .ok (.getfield 24, 3) := dk_180 0 24 (dk_at dksX5_ropeLong_0 18 rfl rfl)
theorem dX5_ropeLong_21 : decode cX5_ropeLong 21 = .ok (.iload_n 2, 1) := dk_28 (dk_at dksX5_ropeLong_0 21 rfl rfl)
theorem dX5_ropeLong_22 : decode cX5_ropeLong 22 = .ok (.iaload, 1) := dk_46 (dk_at dksX5_ropeLong_0 22 rfl rfl)
theorem dX5_ropeLong_23 : decode cX5_ropeLong 23 = .ok (.iaload, 1) := dk_46 (dk_at dksX5_ropeLong_0 23 rfl rfl)
theorem dX5_ropeLong_24 : decode cX5_ropeLong 24 = .ok (.iadd, 1) := dk_96 (dk_at dksX5_ropeLong_1 0 rfl rfl)
theorem dX5_ropeLong_25 : decode cX5_ropeLong 25 = .ok (.istore_n 1, 1) := dk_60 (dk_at dksX5_ropeLong_1 1 rfl rfl)
theorem dX5_ropeLong_26 : decode cX5_ropeLong 26 = .ok (.iinc 2 1, 3) := dk_132 2 1 (dk_at dksX5_ropeLong_1 2 rfl rfl)
theorem dX5_ropeLong_29 : decode cX5_ropeLong 29 = .ok (.goto (-25), 3) := dk_167 255 231 (dk_at dksX5_ropeLong_1 5 rfl rfl)
theorem dX5_ropeLong_32 : decode cX5_ropeLong 32 = .ok (.iload_n 1, 1) := dk_27 (dk_at dksX5_ropeLong_1 8 rfl rfl)
theorem dX5_ropeLong_33 : decode cX5_ropeLong 33 = .ok (.ireturn, 1) := dk_172 (dk_at dksX5_ropeLong_1 9 rfl rfl)
def dkwX5_loses_2 : List UInt8 := [79, 167, 255, 208, 177]
abbrev dktX5_loses_2 : List UInt8 := dkwX5_loses_2 ++ []
def dkwX5_loses_1 : List UInt8 := [180, 0, 24, 42, 180, 0, 61, 46, 3, 79, 42, 180, 0, 18, 42, 180, 0, 24, 42, 180, 0, 61, 46, 3]
abbrev dktX5_loses_1 : List UInt8 := dkwX5_loses_1 ++ dktX5_loses_2
def dkwX5_loses_0 : List UInt8 := [42, 180, 0, 61, 27, 164, 0, 46, 42, 89, 180, 0, 61, 4, 100, 181, 0, 61, 42, 180, 0, 15, 42]
abbrev dktX5_loses_0 : List UInt8 := dkwX5_loses_0 ++ dktX5_loses_1
theorem dksX5_loses_0 : cX5_loses.data.toList.drop 0 = dktX5_loses_0 := by decide +kernel
theorem dksX5_loses_1 : cX5_loses.data.toList.drop 23 = dktX5_loses_1 := dk_seg dksX5_loses_0 23 rfl rfl
theorem dksX5_loses_2 : cX5_loses.data.toList.drop 47 = dktX5_loses_2 := dk_seg dksX5_loses_1 24 rfl rfl
theorem dX5_loses_0 : decode cX5_loses 0 = .ok (.aload_n 0, 1) := dk_42 (dk_at dksX5_loses_0 0 rfl rfl)
theorem dX5_loses_1 : decode cX5_loses 1 = .ok (.getfield 61, 3) := dk_180 0 61 (dk_at dksX5_loses_0 1 rfl rfl)
theorem dX5_loses_4 : decode cX5_loses 4 = .ok (.iload_n 1, 1) := dk_27 (dk_at dksX5_loses_0 4 rfl rfl)
theorem dX5_loses_5 : decode cX5_loses 5 = .ok (.if_icmp .le 46, 3) := dk_164 0 46 (dk_at dksX5_loses_0 5 rfl rfl)
theorem dX5_loses_8 : decode cX5_loses 8 = .ok (.aload_n 0, 1) := dk_42 (dk_at dksX5_loses_0 8 rfl rfl)
theorem dX5_loses_9 : decode cX5_loses 9 = .ok (.dup, 1) := dk_89 (dk_at dksX5_loses_0 9 rfl rfl)
theorem dX5_loses_10 : decode cX5_loses 10 = .ok (.getfield 61, 3) := dk_180 0 61 (dk_at dksX5_loses_0 10 rfl rfl)
theorem dX5_loses_13 : decode cX5_loses 13 = .ok (.iconst 1, 1) := dk_4 (dk_at dksX5_loses_0 13 rfl rfl)
theorem dX5_loses_14 : decode cX5_loses 14 = .ok (.isub, 1) := dk_100 (dk_at dksX5_loses_0 14 rfl rfl)
theorem dX5_loses_15 : decode cX5_loses 15 = .ok (.putfield 61, 3) := dk_181 0 61 (dk_at dksX5_loses_0 15 rfl rfl)
theorem dX5_loses_18 : decode cX5_loses 18 = .ok (.aload_n 0, 1) := dk_42 (dk_at dksX5_loses_0 18 rfl rfl)
theorem dX5_loses_19 : decode cX5_loses 19 = .ok (.getfield 15, 3) := dk_180 0 15 (dk_at dksX5_loses_0 19 rfl rfl)
theorem dX5_loses_22 : decode cX5_loses 22 = .ok (.aload_n 0, 1) := dk_42 (dk_at dksX5_loses_0 22 rfl rfl)
theorem dX5_loses_23 : decode cX5_loses 23 = .ok (.getfield 24, 3) := dk_180 0 24 (dk_at dksX5_loses_1 0 rfl rfl)
theorem dX5_loses_26 : decode cX5_loses 26 = .ok (.aload_n 0, 1) := dk_42 (dk_at dksX5_loses_1 3 rfl rfl)
theorem dX5_loses_27 : decode cX5_loses 27 = .ok (.getfield 61, 3) := dk_180 0 61 (dk_at dksX5_loses_1 4 rfl rfl)
theorem dX5_loses_30 : decode cX5_loses 30 = .ok (.iaload, 1) := dk_46 (dk_at dksX5_loses_1 7 rfl rfl)
theorem dX5_loses_31 : decode cX5_loses 31 = .ok (.iconst 0, 1) := dk_3 (dk_at dksX5_loses_1 8 rfl rfl)
theorem dX5_loses_32 : decode cX5_loses 32 = .ok (.iastore, 1) := dk_79 (dk_at dksX5_loses_1 9 rfl rfl)
theorem dX5_loses_33 : decode cX5_loses 33 = .ok (.aload_n 0, 1) := dk_42 (dk_at dksX5_loses_1 10 rfl rfl)
theorem dX5_loses_34 : decode cX5_loses 34 = .ok (.getfield 18, 3) := dk_180 0 18 (dk_at dksX5_loses_1 11 rfl rfl)
theorem dX5_loses_37 : decode cX5_loses 37 = .ok (.aload_n 0, 1) := dk_42 (dk_at dksX5_loses_1 14 rfl rfl)
theorem dX5_loses_38 : decode cX5_loses 38 = .ok (.getfield 24, 3) := dk_180 0 24 (dk_at dksX5_loses_1 15 rfl rfl)
theorem dX5_loses_41 : decode cX5_loses 41 = .ok (.aload_n 0, 1) := dk_42 (dk_at dksX5_loses_1 18 rfl rfl)
theorem dX5_loses_42 : decode cX5_loses 42 = .ok (.getfield 61, 3) := dk_180 0 61 (dk_at dksX5_loses_1 19 rfl rfl)
theorem dX5_loses_45 : decode cX5_loses 45 = .ok (.iaload, 1) := dk_46 (dk_at dksX5_loses_1 22 rfl rfl)
theorem dX5_loses_46 : decode cX5_loses 46 = .ok (.iconst 0, 1) := dk_3 (dk_at dksX5_loses_1 23 rfl rfl)
theorem dX5_loses_47 : decode cX5_loses 47 = .ok (.iastore, 1) := dk_79 (dk_at dksX5_loses_2 0 rfl rfl)
theorem dX5_loses_48 : decode cX5_loses 48 = .ok (.goto (-48), 3) := dk_167 255 208 (dk_at dksX5_loses_2 1 rfl rfl)
theorem dX5_loses_51 : decode cX5_loses 51 = .ok (.return_, 1) := dk_177 (dk_at dksX5_loses_2 4 rfl rfl)
def dkwX5_breaksAt_4 : List UInt8 := [172, 132, 3, 1, 167, 255, 158, 2, 172]
abbrev dktX5_breaksAt_4 : List UInt8 := dkwX5_breaksAt_4 ++ []
def dkwX5_breaksAt_3 : List UInt8 := [164, 0, 7, 5, 29, 104, 172, 21, 5, 42, 180, 0, 18, 21, 4, 46, 164, 0, 9, 5, 29, 104, 4, 96]
abbrev dktX5_breaksAt_3 : List UInt8 := dkwX5_breaksAt_3 ++ dktX5_breaksAt_4
def dkwX5_breaksAt_2 : List UInt8 := [4, 100, 46, 21, 4, 43, 180, 0, 127, 42, 180, 0, 24, 29, 4, 100, 46, 50, 21, 4, 46, 182, 0, 131]
abbrev dktX5_breaksAt_2 : List UInt8 := dkwX5_breaksAt_2 ++ dktX5_breaksAt_3
def dkwX5_breaksAt_1 : List UInt8 := [96, 54, 5, 29, 158, 0, 51, 21, 5, 42, 180, 0, 15, 21, 4, 46, 96, 42, 43, 42, 180, 0, 24, 29]
abbrev dktX5_breaksAt_1 : List UInt8 := dkwX5_breaksAt_1 ++ dktX5_breaksAt_2
def dkwX5_breaksAt_0 : List UInt8 := [3, 62, 29, 42, 180, 0, 61, 162, 0, 96, 42, 180, 0, 24, 29, 46, 54, 4, 28, 42, 29, 182, 0, 124]
abbrev dktX5_breaksAt_0 : List UInt8 := dkwX5_breaksAt_0 ++ dktX5_breaksAt_1
theorem dksX5_breaksAt_0 : cX5_breaksAt.data.toList.drop 0 = dktX5_breaksAt_0 := by decide +kernel
theorem dksX5_breaksAt_1 : cX5_breaksAt.data.toList.drop 24 = dktX5_breaksAt_1 := dk_seg dksX5_breaksAt_0 24 rfl rfl
theorem dksX5_breaksAt_2 : cX5_breaksAt.data.toList.drop 48 = dktX5_breaksAt_2 := dk_seg dksX5_breaksAt_1 24 rfl rfl
theorem dksX5_breaksAt_3 : cX5_breaksAt.data.toList.drop 72 = dktX5_breaksAt_3 := dk_seg dksX5_breaksAt_2 24 rfl rfl
theorem dksX5_breaksAt_4 : cX5_breaksAt.data.toList.drop 96 = dktX5_breaksAt_4 := dk_seg dksX5_breaksAt_3 24 rfl rfl
theorem dX5_breaksAt_0 : decode cX5_breaksAt 0 = .ok (.iconst 0, 1) := dk_3 (dk_at dksX5_breaksAt_0 0 rfl rfl)
theorem dX5_breaksAt_1 : decode cX5_breaksAt 1 = .ok (.istore_n 3, 1) := dk_62 (dk_at dksX5_breaksAt_0 1 rfl rfl)
theorem dX5_breaksAt_2 : decode cX5_breaksAt 2 = .ok (.iload_n 3, 1) := dk_29 (dk_at dksX5_breaksAt_0 2 rfl rfl)
theorem dX5_breaksAt_3 : decode cX5_breaksAt 3 = .ok (.aload_n 0, 1) := dk_42 (dk_at dksX5_breaksAt_0 3 rfl rfl)
theorem dX5_breaksAt_4 : decode cX5_breaksAt 4 = .ok (.getfield 61, 3) := dk_180 0 61 (dk_at dksX5_breaksAt_0 4 rfl rfl)
theorem dX5_breaksAt_7 : decode cX5_breaksAt 7 = .ok (.if_icmp .ge 96, 3) := dk_162 0 96 (dk_at dksX5_breaksAt_0 7 rfl rfl)
theorem dX5_breaksAt_10 : decode cX5_breaksAt 10 = .ok (.aload_n 0, 1) := dk_42 (dk_at dksX5_breaksAt_0 10 rfl rfl)
theorem dX5_breaksAt_11 : decode cX5_breaksAt 11 = .ok (.getfield 24, 3) := dk_180 0 24 (dk_at dksX5_breaksAt_0 11 rfl rfl)
theorem dX5_breaksAt_14 : decode cX5_breaksAt 14 = .ok (.iload_n 3, 1) := dk_29 (dk_at dksX5_breaksAt_0 14 rfl rfl)
theorem dX5_breaksAt_15 : decode cX5_breaksAt 15 = .ok (.iaload, 1) := dk_46 (dk_at dksX5_breaksAt_0 15 rfl rfl)
theorem dX5_breaksAt_16 : decode cX5_breaksAt 16 = .ok (.istore 4, 2) := dk_54 4 (dk_at dksX5_breaksAt_0 16 rfl rfl)
theorem dX5_breaksAt_18 : decode cX5_breaksAt 18 = .ok (.iload_n 2, 1) := dk_28 (dk_at dksX5_breaksAt_0 18 rfl rfl)
theorem dX5_breaksAt_19 : decode cX5_breaksAt 19 = .ok (.aload_n 0, 1) := dk_42 (dk_at dksX5_breaksAt_0 19 rfl rfl)
theorem dX5_breaksAt_20 : decode cX5_breaksAt 20 = .ok (.iload_n 3, 1) := dk_29 (dk_at dksX5_breaksAt_0 20 rfl rfl)
theorem dX5_breaksAt_21 : decode cX5_breaksAt 21 = .ok (.invokevirtual 124, 3) := dk_182 0 124 (dk_at dksX5_breaksAt_0 21 rfl rfl)
theorem dX5_breaksAt_24 : decode cX5_breaksAt 24 = .ok (.iadd, 1) := dk_96 (dk_at dksX5_breaksAt_1 0 rfl rfl)
theorem dX5_breaksAt_25 : decode cX5_breaksAt 25 = .ok (.istore 5, 2) := dk_54 5 (dk_at dksX5_breaksAt_1 1 rfl rfl)
theorem dX5_breaksAt_27 : decode cX5_breaksAt 27 = .ok (.iload_n 3, 1) := dk_29 (dk_at dksX5_breaksAt_1 3 rfl rfl)
theorem dX5_breaksAt_28 : decode cX5_breaksAt 28 = .ok (.ifCond .le 51, 3) := dk_158 0 51 (dk_at dksX5_breaksAt_1 4 rfl rfl)
theorem dX5_breaksAt_31 : decode cX5_breaksAt 31 = .ok (.iload 5, 2) := dk_21 5 (dk_at dksX5_breaksAt_1 7 rfl rfl)
theorem dX5_breaksAt_33 : decode cX5_breaksAt 33 = .ok (.aload_n 0, 1) := dk_42 (dk_at dksX5_breaksAt_1 9 rfl rfl)
theorem dX5_breaksAt_34 : decode cX5_breaksAt 34 = .ok (.getfield 15, 3) := dk_180 0 15 (dk_at dksX5_breaksAt_1 10 rfl rfl)
theorem dX5_breaksAt_37 : decode cX5_breaksAt 37 = .ok (.iload 4, 2) := dk_21 4 (dk_at dksX5_breaksAt_1 13 rfl rfl)
theorem dX5_breaksAt_39 : decode cX5_breaksAt 39 = .ok (.iaload, 1) := dk_46 (dk_at dksX5_breaksAt_1 15 rfl rfl)
theorem dX5_breaksAt_40 : decode cX5_breaksAt 40 = .ok (.iadd, 1) := dk_96 (dk_at dksX5_breaksAt_1 16 rfl rfl)
theorem dX5_breaksAt_41 : decode cX5_breaksAt 41 = .ok (.aload_n 0, 1) := dk_42 (dk_at dksX5_breaksAt_1 17 rfl rfl)
theorem dX5_breaksAt_42 : decode cX5_breaksAt 42 = .ok (.aload_n 1, 1) := dk_43 (dk_at dksX5_breaksAt_1 18 rfl rfl)
theorem dX5_breaksAt_43 : decode cX5_breaksAt 43 = .ok (.aload_n 0, 1) := dk_42 (dk_at dksX5_breaksAt_1 19 rfl rfl)
theorem dX5_breaksAt_44 : decode cX5_breaksAt 44 = .ok (.getfield 24, 3) := dk_180 0 24 (dk_at dksX5_breaksAt_1 20 rfl rfl)
theorem dX5_breaksAt_47 : decode cX5_breaksAt 47 = .ok (.iload_n 3, 1) := dk_29 (dk_at dksX5_breaksAt_1 23 rfl rfl)
theorem dX5_breaksAt_48 : decode cX5_breaksAt 48 = .ok (.iconst 1, 1) := dk_4 (dk_at dksX5_breaksAt_2 0 rfl rfl)
theorem dX5_breaksAt_49 : decode cX5_breaksAt 49 = .ok (.isub, 1) := dk_100 (dk_at dksX5_breaksAt_2 1 rfl rfl)
theorem dX5_breaksAt_50 : decode cX5_breaksAt 50 = .ok (.iaload, 1) := dk_46 (dk_at dksX5_breaksAt_2 2 rfl rfl)
theorem dX5_breaksAt_51 : decode cX5_breaksAt 51 = .ok (.iload 4, 2) := dk_21 4 (dk_at dksX5_breaksAt_2 3 rfl rfl)
theorem dX5_breaksAt_53 : decode cX5_breaksAt 53 = .ok (.aload_n 1, 1) := dk_43 (dk_at dksX5_breaksAt_2 5 rfl rfl)
theorem dX5_breaksAt_54 : decode cX5_breaksAt 54 = .ok (.getfield 127, 3) := dk_180 0 127 (dk_at dksX5_breaksAt_2 6 rfl rfl)
theorem dX5_breaksAt_57 : decode cX5_breaksAt 57 = .ok (.aload_n 0, 1) := dk_42 (dk_at dksX5_breaksAt_2 9 rfl rfl)
theorem dX5_breaksAt_58 : decode cX5_breaksAt 58 = .ok (.getfield 24, 3) := dk_180 0 24 (dk_at dksX5_breaksAt_2 10 rfl rfl)
theorem dX5_breaksAt_61 : decode cX5_breaksAt 61 = .ok (.iload_n 3, 1) := dk_29 (dk_at dksX5_breaksAt_2 13 rfl rfl)
theorem dX5_breaksAt_62 : decode cX5_breaksAt 62 = .ok (.iconst 1, 1) := dk_4 (dk_at dksX5_breaksAt_2 14 rfl rfl)
theorem dX5_breaksAt_63 : decode cX5_breaksAt 63 = .ok (.isub, 1) := dk_100 (dk_at dksX5_breaksAt_2 15 rfl rfl)
theorem dX5_breaksAt_64 : decode cX5_breaksAt 64 = .ok (.iaload, 1) := dk_46 (dk_at dksX5_breaksAt_2 16 rfl rfl)
theorem dX5_breaksAt_65 : decode cX5_breaksAt 65 = .ok (.aaload, 1) := dk_50 (dk_at dksX5_breaksAt_2 17 rfl rfl)
theorem dX5_breaksAt_66 : decode cX5_breaksAt 66 = .ok (.iload 4, 2) := dk_21 4 (dk_at dksX5_breaksAt_2 18 rfl rfl)
theorem dX5_breaksAt_68 : decode cX5_breaksAt 68 = .ok (.iaload, 1) := dk_46 (dk_at dksX5_breaksAt_2 20 rfl rfl)
theorem dX5_breaksAt_69 : decode cX5_breaksAt 69 = .ok (.invokevirtual 131, 3) := dk_182 0 131 (dk_at dksX5_breaksAt_2 21 rfl rfl)
theorem dX5_breaksAt_72 : decode cX5_breaksAt 72 = .ok (.if_icmp .le 7, 3) := dk_164 0 7 (dk_at dksX5_breaksAt_3 0 rfl rfl)
theorem dX5_breaksAt_75 : decode cX5_breaksAt 75 = .ok (.iconst 2, 1) := dk_5 (dk_at dksX5_breaksAt_3 3 rfl rfl)
theorem dX5_breaksAt_76 : decode cX5_breaksAt 76 = .ok (.iload_n 3, 1) := dk_29 (dk_at dksX5_breaksAt_3 4 rfl rfl)
theorem dX5_breaksAt_77 : decode cX5_breaksAt 77 = .ok (.imul, 1) := dk_104 (dk_at dksX5_breaksAt_3 5 rfl rfl)
theorem dX5_breaksAt_78 : decode cX5_breaksAt 78 = .ok (.ireturn, 1) := dk_172 (dk_at dksX5_breaksAt_3 6 rfl rfl)
theorem dX5_breaksAt_79 : decode cX5_breaksAt 79 = .ok (.iload 5, 2) := dk_21 5 (dk_at dksX5_breaksAt_3 7 rfl rfl)
theorem dX5_breaksAt_81 : decode cX5_breaksAt 81 = .ok (.aload_n 0, 1) := dk_42 (dk_at dksX5_breaksAt_3 9 rfl rfl)
theorem dX5_breaksAt_82 : decode cX5_breaksAt 82 = .ok (.getfield 18, 3) := dk_180 0 18 (dk_at dksX5_breaksAt_3 10 rfl rfl)
theorem dX5_breaksAt_85 : decode cX5_breaksAt 85 = .ok (.iload 4, 2) := dk_21 4 (dk_at dksX5_breaksAt_3 13 rfl rfl)
theorem dX5_breaksAt_87 : decode cX5_breaksAt 87 = .ok (.iaload, 1) := dk_46 (dk_at dksX5_breaksAt_3 15 rfl rfl)
theorem dX5_breaksAt_88 : decode cX5_breaksAt 88 = .ok (.if_icmp .le 9, 3) := dk_164 0 9 (dk_at dksX5_breaksAt_3 16 rfl rfl)
theorem dX5_breaksAt_91 : decode cX5_breaksAt 91 = .ok (.iconst 2, 1) := dk_5 (dk_at dksX5_breaksAt_3 19 rfl rfl)
theorem dX5_breaksAt_92 : decode cX5_breaksAt 92 = .ok (.iload_n 3, 1) := dk_29 (dk_at dksX5_breaksAt_3 20 rfl rfl)
theorem dX5_breaksAt_93 : decode cX5_breaksAt 93 = .ok (.imul, 1) := dk_104 (dk_at dksX5_breaksAt_3 21 rfl rfl)
theorem dX5_breaksAt_94 : decode cX5_breaksAt 94 = .ok (.iconst 1, 1) := dk_4 (dk_at dksX5_breaksAt_3 22 rfl rfl)
theorem dX5_breaksAt_95 : decode cX5_breaksAt 95 = .ok (.iadd, 1) := dk_96 (dk_at dksX5_breaksAt_3 23 rfl rfl)
theorem dX5_breaksAt_96 : decode cX5_breaksAt 96 = .ok (.ireturn, 1) := dk_172 (dk_at dksX5_breaksAt_4 0 rfl rfl)
theorem dX5_breaksAt_97 : decode cX5_breaksAt 97 = .ok (.iinc 3 1, 3) := dk_132 3 1 (dk_at dksX5_breaksAt_4 1 rfl rfl)
theorem dX5_breaksAt_100 : decode cX5_breaksAt 100 = .ok (.goto (-98), 3) := dk_167 255 158 (dk_at dksX5_breaksAt_4 4 rfl rfl)
theorem dX5_breaksAt_103 : decode cX5_breaksAt 103 = .ok (.iconst (-1), 1) := dk_2 (dk_at dksX5_breaksAt_4 7 rfl rfl)
theorem dX5_breaksAt_104 : decode cX5_breaksAt 104 = .ok (.ireturn, 1) := dk_172 (dk_at dksX5_breaksAt_4 8 rfl rfl)
def dkwX5_below_1 : List UInt8 := [46, 46, 96, 61, 132, 3, 1, 167, 255, 231, 28, 172]
abbrev dktX5_below_1 : List UInt8 := dkwX5_below_1 ++ []
def dkwX5_below_0 : List UInt8 := [3, 61, 27, 4, 96, 62, 29, 42, 180, 0, 61, 162, 0, 23, 28, 42, 180, 0, 15, 42, 180, 0, 24, 29]
abbrev dktX5_below_0 : List UInt8 := dkwX5_below_0 ++ dktX5_below_1
theorem dksX5_below_0 : cX5_below.data.toList.drop 0 = dktX5_below_0 := by decide +kernel
theorem dksX5_below_1 : cX5_below.data.toList.drop 24 = dktX5_below_1 := dk_seg dksX5_below_0 24 rfl rfl
theorem dX5_below_0 : decode cX5_below 0 = .ok (.iconst 0, 1) := dk_3 (dk_at dksX5_below_0 0 rfl rfl)
theorem dX5_below_1 : decode cX5_below 1 = .ok (.istore_n 2, 1) := dk_61 (dk_at dksX5_below_0 1 rfl rfl)
theorem dX5_below_2 : decode cX5_below 2 = .ok (.iload_n 1, 1) := dk_27 (dk_at dksX5_below_0 2 rfl rfl)
theorem dX5_below_3 : decode cX5_below 3 = .ok (.iconst 1, 1) := dk_4 (dk_at dksX5_below_0 3 rfl rfl)
theorem dX5_below_4 : decode cX5_below 4 = .ok (.iadd, 1) := dk_96 (dk_at dksX5_below_0 4 rfl rfl)
theorem dX5_below_5 : decode cX5_below 5 = .ok (.istore_n 3, 1) := dk_62 (dk_at dksX5_below_0 5 rfl rfl)
theorem dX5_below_6 : decode cX5_below 6 = .ok (.iload_n 3, 1) := dk_29 (dk_at dksX5_below_0 6 rfl rfl)
theorem dX5_below_7 : decode cX5_below 7 = .ok (.aload_n 0, 1) := dk_42 (dk_at dksX5_below_0 7 rfl rfl)
theorem dX5_below_8 : decode cX5_below 8 = .ok (.getfield 61, 3) := dk_180 0 61 (dk_at dksX5_below_0 8 rfl rfl)
theorem dX5_below_11 : decode cX5_below 11 = .ok (.if_icmp .ge 23, 3) := dk_162 0 23 (dk_at dksX5_below_0 11 rfl rfl)
theorem dX5_below_14 : decode cX5_below 14 = .ok (.iload_n 2, 1) := dk_28 (dk_at dksX5_below_0 14 rfl rfl)
theorem dX5_below_15 : decode cX5_below 15 = .ok (.aload_n 0, 1) := dk_42 (dk_at dksX5_below_0 15 rfl rfl)
theorem dX5_below_16 : decode cX5_below 16 = .ok (.getfield 15, 3) := dk_180 0 15 (dk_at dksX5_below_0 16 rfl rfl)
theorem dX5_below_19 : decode cX5_below 19 = .ok (.aload_n 0, 1) := dk_42 (dk_at dksX5_below_0 19 rfl rfl)
theorem dX5_below_20 : decode cX5_below 20 = .ok (.getfield 24, 3) := dk_180 0 24 (dk_at dksX5_below_0 20 rfl rfl)
theorem dX5_below_23 : decode cX5_below 23 = .ok (.iload_n 3, 1) := dk_29 (dk_at dksX5_below_0 23 rfl rfl)
theorem dX5_below_24 : decode cX5_below 24 = .ok (.iaload, 1) := dk_46 (dk_at dksX5_below_1 0 rfl rfl)
theorem dX5_below_25 : decode cX5_below 25 = .ok (.iaload, 1) := dk_46 (dk_at dksX5_below_1 1 rfl rfl)
theorem dX5_below_26 : decode cX5_below 26 = .ok (.iadd, 1) := dk_96 (dk_at dksX5_below_1 2 rfl rfl)
theorem dX5_below_27 : decode cX5_below 27 = .ok (.istore_n 2, 1) := dk_61 (dk_at dksX5_below_1 3 rfl rfl)
theorem dX5_below_28 : decode cX5_below 28 = .ok (.iinc 3 1, 3) := dk_132 3 1 (dk_at dksX5_below_1 4 rfl rfl)
theorem dX5_below_31 : decode cX5_below 31 = .ok (.goto (-25), 3) := dk_167 255 231 (dk_at dksX5_below_1 7 rfl rfl)
theorem dX5_below_34 : decode cX5_below 34 = .ok (.iload_n 2, 1) := dk_28 (dk_at dksX5_below_1 10 rfl rfl)
theorem dX5_below_35 : decode cX5_below 35 = .ok (.ireturn, 1) := dk_172 (dk_at dksX5_below_1 11 rfl rfl)
def dkwX5_goesBy_8 : List UInt8 := [181, 0, 64, 177]
abbrev dktX5_goesBy_8 : List UInt8 := dkwX5_goesBy_8 ++ []
def dkwX5_goesBy_7 : List UInt8 := [180, 0, 30, 21, 4, 46, 100, 184, 0, 101, 79, 132, 4, 1, 167, 255, 166, 42, 89, 180, 0, 64, 4, 96]
abbrev dktX5_goesBy_7 : List UInt8 := dkwX5_goesBy_7 ++ dktX5_goesBy_8
def dkwX5_goesBy_6 : List UInt8 := [21, 4, 46, 96, 184, 0, 121, 79, 42, 180, 0, 18, 21, 4, 3, 42, 180, 0, 18, 21, 4, 46, 42]
abbrev dktX5_goesBy_6 : List UInt8 := dkwX5_goesBy_6 ++ dktX5_goesBy_7
def dkwX5_goesBy_5 : List UInt8 := [180, 0, 9, 21, 4, 46, 5, 108, 167, 0, 23, 16, 99, 42, 180, 0, 9, 21, 4, 46, 42, 180, 0, 27]
abbrev dktX5_goesBy_5 : List UInt8 := dkwX5_goesBy_5 ++ dktX5_goesBy_6
def dkwX5_goesBy_4 : List UInt8 := [182, 0, 46, 162, 0, 84, 42, 180, 0, 9, 21, 4, 29, 21, 4, 122, 4, 126, 4, 160, 0, 15, 42]
abbrev dktX5_goesBy_4 : List UInt8 := dkwX5_goesBy_4 ++ dktX5_goesBy_5
def dkwX5_goesBy_3 : List UInt8 := [21, 4, 120, 167, 0, 4, 3, 128, 62, 132, 4, 1, 167, 255, 178, 3, 54, 4, 21, 4, 43, 180, 0, 40]
abbrev dktX5_goesBy_3 : List UInt8 := dkwX5_goesBy_3 ++ dktX5_goesBy_4
def dkwX5_goesBy_2 : List UInt8 := [21, 4, 182, 0, 138, 167, 0, 4, 3, 79, 29, 44, 42, 43, 21, 4, 182, 0, 141, 153, 0, 10, 4]
abbrev dktX5_goesBy_2 : List UInt8 := dkwX5_goesBy_2 ++ dktX5_goesBy_3
def dkwX5_goesBy_1 : List UInt8 := [43, 21, 4, 182, 0, 135, 79, 42, 180, 0, 30, 21, 4, 42, 21, 4, 182, 0, 84, 153, 0, 13, 42, 43]
abbrev dktX5_goesBy_1 : List UInt8 := dkwX5_goesBy_1 ++ dktX5_goesBy_2
def dkwX5_goesBy_0 : List UInt8 := [3, 62, 3, 54, 4, 21, 4, 43, 180, 0, 40, 182, 0, 46, 162, 0, 72, 42, 180, 0, 27, 21, 4, 42]
abbrev dktX5_goesBy_0 : List UInt8 := dkwX5_goesBy_0 ++ dktX5_goesBy_1
theorem dksX5_goesBy_0 : cX5_goesBy.data.toList.drop 0 = dktX5_goesBy_0 := by decide +kernel
theorem dksX5_goesBy_1 : cX5_goesBy.data.toList.drop 24 = dktX5_goesBy_1 := dk_seg dksX5_goesBy_0 24 rfl rfl
theorem dksX5_goesBy_2 : cX5_goesBy.data.toList.drop 48 = dktX5_goesBy_2 := dk_seg dksX5_goesBy_1 24 rfl rfl
theorem dksX5_goesBy_3 : cX5_goesBy.data.toList.drop 71 = dktX5_goesBy_3 := dk_seg dksX5_goesBy_2 23 rfl rfl
theorem dksX5_goesBy_4 : cX5_goesBy.data.toList.drop 95 = dktX5_goesBy_4 := dk_seg dksX5_goesBy_3 24 rfl rfl
theorem dksX5_goesBy_5 : cX5_goesBy.data.toList.drop 118 = dktX5_goesBy_5 := dk_seg dksX5_goesBy_4 23 rfl rfl
theorem dksX5_goesBy_6 : cX5_goesBy.data.toList.drop 142 = dktX5_goesBy_6 := dk_seg dksX5_goesBy_5 24 rfl rfl
theorem dksX5_goesBy_7 : cX5_goesBy.data.toList.drop 165 = dktX5_goesBy_7 := dk_seg dksX5_goesBy_6 23 rfl rfl
theorem dksX5_goesBy_8 : cX5_goesBy.data.toList.drop 189 = dktX5_goesBy_8 := dk_seg dksX5_goesBy_7 24 rfl rfl
theorem dX5_goesBy_0 : decode cX5_goesBy 0 = .ok (.iconst 0, 1) := dk_3 (dk_at dksX5_goesBy_0 0 rfl rfl)
theorem dX5_goesBy_1 : decode cX5_goesBy 1 = .ok (.istore_n 3, 1) := dk_62 (dk_at dksX5_goesBy_0 1 rfl rfl)
theorem dX5_goesBy_2 : decode cX5_goesBy 2 = .ok (.iconst 0, 1) := dk_3 (dk_at dksX5_goesBy_0 2 rfl rfl)
theorem dX5_goesBy_3 : decode cX5_goesBy 3 = .ok (.istore 4, 2) := dk_54 4 (dk_at dksX5_goesBy_0 3 rfl rfl)
theorem dX5_goesBy_5 : decode cX5_goesBy 5 = .ok (.iload 4, 2) := dk_21 4 (dk_at dksX5_goesBy_0 5 rfl rfl)
theorem dX5_goesBy_7 : decode cX5_goesBy 7 = .ok (.aload_n 1, 1) := dk_43 (dk_at dksX5_goesBy_0 7 rfl rfl)
theorem dX5_goesBy_8 : decode cX5_goesBy 8 = .ok (.getfield 40, 3) := dk_180 0 40 (dk_at dksX5_goesBy_0 8 rfl rfl)
theorem dX5_goesBy_11 : decode cX5_goesBy 11 = .ok (.invokevirtual 46, 3) := dk_182 0 46 (dk_at dksX5_goesBy_0 11 rfl rfl)
theorem dX5_goesBy_14 : decode cX5_goesBy 14 = .ok (.if_icmp .ge 72, 3) := dk_162 0 72 (dk_at dksX5_goesBy_0 14 rfl rfl)
theorem dX5_goesBy_17 : decode cX5_goesBy 17 = .ok (.aload_n 0, 1) := dk_42 (dk_at dksX5_goesBy_0 17 rfl rfl)
theorem dX5_goesBy_18 : decode cX5_goesBy 18 = .ok (.getfield 27, 3) := dk_180 0 27 (dk_at dksX5_goesBy_0 18 rfl rfl)
theorem dX5_goesBy_21 : decode cX5_goesBy 21 = .ok (.iload 4, 2) := dk_21 4 (dk_at dksX5_goesBy_0 21 rfl rfl)
theorem dX5_goesBy_23 : decode cX5_goesBy 23 = .ok (.aload_n 0, 1) := dk_42 (dk_at dksX5_goesBy_0 23 rfl rfl)
theorem dX5_goesBy_24 : decode cX5_goesBy 24 = .ok (.aload_n 1, 1) := dk_43 (dk_at dksX5_goesBy_1 0 rfl rfl)
theorem dX5_goesBy_25 : decode cX5_goesBy 25 = .ok (.iload 4, 2) := dk_21 4 (dk_at dksX5_goesBy_1 1 rfl rfl)
theorem dX5_goesBy_27 : decode cX5_goesBy 27 = .ok (.invokevirtual 135, 3) := dk_182 0 135 (dk_at dksX5_goesBy_1 3 rfl rfl)
theorem dX5_goesBy_30 : decode cX5_goesBy 30 = .ok (.iastore, 1) := dk_79 (dk_at dksX5_goesBy_1 6 rfl rfl)
theorem dX5_goesBy_31 : decode cX5_goesBy 31 = .ok (.aload_n 0, 1) := dk_42 (dk_at dksX5_goesBy_1 7 rfl rfl)
theorem dX5_goesBy_32 : decode cX5_goesBy 32 = .ok (.getfield 30, 3) := dk_180 0 30 (dk_at dksX5_goesBy_1 8 rfl rfl)
theorem dX5_goesBy_35 : decode cX5_goesBy 35 = .ok (.iload 4, 2) := dk_21 4 (dk_at dksX5_goesBy_1 11 rfl rfl)
theorem dX5_goesBy_37 : decode cX5_goesBy 37 = .ok (.aload_n 0, 1) := dk_42 (dk_at dksX5_goesBy_1 13 rfl rfl)
theorem dX5_goesBy_38 : decode cX5_goesBy 38 = .ok (.iload 4, 2) := dk_21 4 (dk_at dksX5_goesBy_1 14 rfl rfl)
theorem dX5_goesBy_40 : decode cX5_goesBy 40 = .ok (.invokevirtual 84, 3) := dk_182 0 84 (dk_at dksX5_goesBy_1 16 rfl rfl)
theorem dX5_goesBy_43 : decode cX5_goesBy 43 = .ok (.ifCond .eq 13, 3) := dk_153 0 13 (dk_at dksX5_goesBy_1 19 rfl rfl)
theorem dX5_goesBy_46 : decode cX5_goesBy 46 = .ok (.aload_n 0, 1) := dk_42 (dk_at dksX5_goesBy_1 22 rfl rfl)
theorem dX5_goesBy_47 : decode cX5_goesBy 47 = .ok (.aload_n 1, 1) := dk_43 (dk_at dksX5_goesBy_1 23 rfl rfl)
theorem dX5_goesBy_48 : decode cX5_goesBy 48 = .ok (.iload 4, 2) := dk_21 4 (dk_at dksX5_goesBy_2 0 rfl rfl)
theorem dX5_goesBy_50 : decode cX5_goesBy 50 = .ok (.invokevirtual 138, 3) := dk_182 0 138 (dk_at dksX5_goesBy_2 2 rfl rfl)
theorem dX5_goesBy_53 : decode cX5_goesBy 53 = .ok (.goto 4, 3) := dk_167 0 4 (dk_at dksX5_goesBy_2 5 rfl rfl)
theorem dX5_goesBy_56 : decode cX5_goesBy 56 = .ok (.iconst 0, 1) := dk_3 (dk_at dksX5_goesBy_2 8 rfl rfl)
theorem dX5_goesBy_57 : decode cX5_goesBy 57 = .ok (.iastore, 1) := dk_79 (dk_at dksX5_goesBy_2 9 rfl rfl)
theorem dX5_goesBy_58 : decode cX5_goesBy 58 = .ok (.iload_n 3, 1) := dk_29 (dk_at dksX5_goesBy_2 10 rfl rfl)
theorem dX5_goesBy_59 : decode cX5_goesBy 59 = .ok (.aload_n 2, 1) := dk_44 (dk_at dksX5_goesBy_2 11 rfl rfl)
theorem dX5_goesBy_60 : decode cX5_goesBy 60 = .ok (.aload_n 0, 1) := dk_42 (dk_at dksX5_goesBy_2 12 rfl rfl)
theorem dX5_goesBy_61 : decode cX5_goesBy 61 = .ok (.aload_n 1, 1) := dk_43 (dk_at dksX5_goesBy_2 13 rfl rfl)
theorem dX5_goesBy_62 : decode cX5_goesBy 62 = .ok (.iload 4, 2) := dk_21 4 (dk_at dksX5_goesBy_2 14 rfl rfl)
theorem dX5_goesBy_64 : decode cX5_goesBy 64 = .ok (.invokevirtual 141, 3) := dk_182 0 141 (dk_at dksX5_goesBy_2 16 rfl rfl)
theorem dX5_goesBy_67 : decode cX5_goesBy 67 = .ok (.ifCond .eq 10, 3) := dk_153 0 10 (dk_at dksX5_goesBy_2 19 rfl rfl)
theorem dX5_goesBy_70 : decode cX5_goesBy 70 = .ok (.iconst 1, 1) := dk_4 (dk_at dksX5_goesBy_2 22 rfl rfl)
theorem dX5_goesBy_71 : decode cX5_goesBy 71 = .ok (.iload 4, 2) := dk_21 4 (dk_at dksX5_goesBy_3 0 rfl rfl)
theorem dX5_goesBy_73 : decode cX5_goesBy 73 = .ok (.ishl, 1) := dk_120 (dk_at dksX5_goesBy_3 2 rfl rfl)
theorem dX5_goesBy_74 : decode cX5_goesBy 74 = .ok (.goto 4, 3) := dk_167 0 4 (dk_at dksX5_goesBy_3 3 rfl rfl)
theorem dX5_goesBy_77 : decode cX5_goesBy 77 = .ok (.iconst 0, 1) := dk_3 (dk_at dksX5_goesBy_3 6 rfl rfl)
theorem dX5_goesBy_78 : decode cX5_goesBy 78 = .ok (.ior, 1) := dk_128 (dk_at dksX5_goesBy_3 7 rfl rfl)
theorem dX5_goesBy_79 : decode cX5_goesBy 79 = .ok (.istore_n 3, 1) := dk_62 (dk_at dksX5_goesBy_3 8 rfl rfl)
theorem dX5_goesBy_80 : decode cX5_goesBy 80 = .ok (.iinc 4 1, 3) := dk_132 4 1 (dk_at dksX5_goesBy_3 9 rfl rfl)
theorem dX5_goesBy_83 : decode cX5_goesBy 83 = .ok (.goto (-78), 3) := dk_167 255 178 (dk_at dksX5_goesBy_3 12 rfl rfl)
theorem dX5_goesBy_86 : decode cX5_goesBy 86 = .ok (.iconst 0, 1) := dk_3 (dk_at dksX5_goesBy_3 15 rfl rfl)
theorem dX5_goesBy_87 : decode cX5_goesBy 87 = .ok (.istore 4, 2) := dk_54 4 (dk_at dksX5_goesBy_3 16 rfl rfl)
theorem dX5_goesBy_89 : decode cX5_goesBy 89 = .ok (.iload 4, 2) := dk_21 4 (dk_at dksX5_goesBy_3 18 rfl rfl)
theorem dX5_goesBy_91 : decode cX5_goesBy 91 = .ok (.aload_n 1, 1) := dk_43 (dk_at dksX5_goesBy_3 20 rfl rfl)
theorem dX5_goesBy_92 : decode cX5_goesBy 92 = .ok (.getfield 40, 3) := dk_180 0 40 (dk_at dksX5_goesBy_3 21 rfl rfl)
theorem dX5_goesBy_95 : decode cX5_goesBy 95 = .ok (.invokevirtual 46, 3) := dk_182 0 46 (dk_at dksX5_goesBy_4 0 rfl rfl)
theorem dX5_goesBy_98 : decode cX5_goesBy 98 = .ok (.if_icmp .ge 84, 3) := dk_162 0 84 (dk_at dksX5_goesBy_4 3 rfl rfl)
theorem dX5_goesBy_101 : decode cX5_goesBy 101 = .ok (.aload_n 0, 1) := dk_42 (dk_at dksX5_goesBy_4 6 rfl rfl)
theorem dX5_goesBy_102 : decode cX5_goesBy 102 = .ok (.getfield 9, 3) := dk_180 0 9 (dk_at dksX5_goesBy_4 7 rfl rfl)
theorem dX5_goesBy_105 : decode cX5_goesBy 105 = .ok (.iload 4, 2) := dk_21 4 (dk_at dksX5_goesBy_4 10 rfl rfl)
theorem dX5_goesBy_107 : decode cX5_goesBy 107 = .ok (.iload_n 3, 1) := dk_29 (dk_at dksX5_goesBy_4 12 rfl rfl)
theorem dX5_goesBy_108 : decode cX5_goesBy 108 = .ok (.iload 4, 2) := dk_21 4 (dk_at dksX5_goesBy_4 13 rfl rfl)
theorem dX5_goesBy_110 : decode cX5_goesBy 110 = .ok (.ishr, 1) := dk_122 (dk_at dksX5_goesBy_4 15 rfl rfl)
theorem dX5_goesBy_111 : decode cX5_goesBy 111 = .ok (.iconst 1, 1) := dk_4 (dk_at dksX5_goesBy_4 16 rfl rfl)
theorem dX5_goesBy_112 : decode cX5_goesBy 112 = .ok (.iand, 1) := dk_126 (dk_at dksX5_goesBy_4 17 rfl rfl)
theorem dX5_goesBy_113 : decode cX5_goesBy 113 = .ok (.iconst 1, 1) := dk_4 (dk_at dksX5_goesBy_4 18 rfl rfl)
theorem dX5_goesBy_114 : decode cX5_goesBy 114 = .ok (.if_icmp .ne 15, 3) := dk_160 0 15 (dk_at dksX5_goesBy_4 19 rfl rfl)
theorem dX5_goesBy_117 : decode cX5_goesBy 117 = .ok (.aload_n 0, 1) := dk_42 (dk_at dksX5_goesBy_4 22 rfl rfl)
theorem dX5_goesBy_118 : decode cX5_goesBy 118 = .ok (.getfield 9, 3) := dk_180 0 9 (dk_at dksX5_goesBy_5 0 rfl rfl)
theorem dX5_goesBy_121 : decode cX5_goesBy 121 = .ok (.iload 4, 2) := dk_21 4 (dk_at dksX5_goesBy_5 3 rfl rfl)
theorem dX5_goesBy_123 : decode cX5_goesBy 123 = .ok (.iaload, 1) := dk_46 (dk_at dksX5_goesBy_5 5 rfl rfl)
theorem dX5_goesBy_124 : decode cX5_goesBy 124 = .ok (.iconst 2, 1) := dk_5 (dk_at dksX5_goesBy_5 6 rfl rfl)
theorem dX5_goesBy_125 : decode cX5_goesBy 125 = .ok (.idiv, 1) := dk_108 (dk_at dksX5_goesBy_5 7 rfl rfl)
theorem dX5_goesBy_126 : decode cX5_goesBy 126 = .ok (.goto 23, 3) := dk_167 0 23 (dk_at dksX5_goesBy_5 8 rfl rfl)
theorem dX5_goesBy_129 : decode cX5_goesBy 129 = .ok (.bipush 99, 2) := dk_16 99 (dk_at dksX5_goesBy_5 11 rfl rfl)
theorem dX5_goesBy_131 : decode cX5_goesBy 131 = .ok (.aload_n 0, 1) := dk_42 (dk_at dksX5_goesBy_5 13 rfl rfl)
theorem dX5_goesBy_132 : decode cX5_goesBy 132 = .ok (.getfield 9, 3) := dk_180 0 9 (dk_at dksX5_goesBy_5 14 rfl rfl)
theorem dX5_goesBy_135 : decode cX5_goesBy 135 = .ok (.iload 4, 2) := dk_21 4 (dk_at dksX5_goesBy_5 17 rfl rfl)
theorem dX5_goesBy_137 : decode cX5_goesBy 137 = .ok (.iaload, 1) := dk_46 (dk_at dksX5_goesBy_5 19 rfl rfl)
theorem dX5_goesBy_138 : decode cX5_goesBy 138 = .ok (.aload_n 0, 1) := dk_42 (dk_at dksX5_goesBy_5 20 rfl rfl)
theorem dX5_goesBy_139 : decode cX5_goesBy 139 = .ok (.getfield 27, 3) := dk_180 0 27 (dk_at dksX5_goesBy_5 21 rfl rfl)
theorem dX5_goesBy_142 : decode cX5_goesBy 142 = .ok (.iload 4, 2) := dk_21 4 (dk_at dksX5_goesBy_6 0 rfl rfl)
theorem dX5_goesBy_144 : decode cX5_goesBy 144 = .ok (.iaload, 1) := dk_46 (dk_at dksX5_goesBy_6 2 rfl rfl)
theorem dX5_goesBy_145 : decode cX5_goesBy 145 = .ok (.iadd, 1) := dk_96 (dk_at dksX5_goesBy_6 3 rfl rfl)
theorem dX5_goesBy_146 : decode cX5_goesBy 146 = .ok (.invokestatic 121, 3) := dk_184 0 121 (dk_at dksX5_goesBy_6 4 rfl rfl)
theorem dX5_goesBy_149 : decode cX5_goesBy 149 = .ok (.iastore, 1) := dk_79 (dk_at dksX5_goesBy_6 7 rfl rfl)
theorem dX5_goesBy_150 : decode cX5_goesBy 150 = .ok (.aload_n 0, 1) := dk_42 (dk_at dksX5_goesBy_6 8 rfl rfl)
theorem dX5_goesBy_151 : decode cX5_goesBy 151 = .ok (.getfield 18, 3) := dk_180 0 18 (dk_at dksX5_goesBy_6 9 rfl rfl)
theorem dX5_goesBy_154 : decode cX5_goesBy 154 = .ok (.iload 4, 2) := dk_21 4 (dk_at dksX5_goesBy_6 12 rfl rfl)
theorem dX5_goesBy_156 : decode cX5_goesBy 156 = .ok (.iconst 0, 1) := dk_3 (dk_at dksX5_goesBy_6 14 rfl rfl)
theorem dX5_goesBy_157 : decode cX5_goesBy 157 = .ok (.aload_n 0, 1) := dk_42 (dk_at dksX5_goesBy_6 15 rfl rfl)
theorem dX5_goesBy_158 : decode cX5_goesBy 158 = .ok (.getfield 18, 3) := dk_180 0 18 (dk_at dksX5_goesBy_6 16 rfl rfl)
theorem dX5_goesBy_161 : decode cX5_goesBy 161 = .ok (.iload 4, 2) := dk_21 4 (dk_at dksX5_goesBy_6 19 rfl rfl)
theorem dX5_goesBy_163 : decode cX5_goesBy 163 = .ok (.iaload, 1) := dk_46 (dk_at dksX5_goesBy_6 21 rfl rfl)
theorem dX5_goesBy_164 : decode cX5_goesBy 164 = .ok (.aload_n 0, 1) := dk_42 (dk_at dksX5_goesBy_6 22 rfl rfl)
theorem dX5_goesBy_165 : decode cX5_goesBy 165 = .ok (.getfield 30, 3) := dk_180 0 30 (dk_at dksX5_goesBy_7 0 rfl rfl)
theorem dX5_goesBy_168 : decode cX5_goesBy 168 = .ok (.iload 4, 2) := dk_21 4 (dk_at dksX5_goesBy_7 3 rfl rfl)
theorem dX5_goesBy_170 : decode cX5_goesBy 170 = .ok (.iaload, 1) := dk_46 (dk_at dksX5_goesBy_7 5 rfl rfl)
theorem dX5_goesBy_171 : decode cX5_goesBy 171 = .ok (.isub, 1) := dk_100 (dk_at dksX5_goesBy_7 6 rfl rfl)
theorem dX5_goesBy_172 : decode cX5_goesBy 172 = .ok (.invokestatic 101, 3) := dk_184 0 101 (dk_at dksX5_goesBy_7 7 rfl rfl)
theorem dX5_goesBy_175 : decode cX5_goesBy 175 = .ok (.iastore, 1) := dk_79 (dk_at dksX5_goesBy_7 10 rfl rfl)
theorem dX5_goesBy_176 : decode cX5_goesBy 176 = .ok (.iinc 4 1, 3) := dk_132 4 1 (dk_at dksX5_goesBy_7 11 rfl rfl)
theorem dX5_goesBy_179 : decode cX5_goesBy 179 = .ok (.goto (-90), 3) := dk_167 255 166 (dk_at dksX5_goesBy_7 14 rfl rfl)
theorem dX5_goesBy_182 : decode cX5_goesBy 182 = .ok (.aload_n 0, 1) := dk_42 (dk_at dksX5_goesBy_7 17 rfl rfl)
theorem dX5_goesBy_183 : decode cX5_goesBy 183 = .ok (.dup, 1) := dk_89 (dk_at dksX5_goesBy_7 18 rfl rfl)
theorem dX5_goesBy_184 : decode cX5_goesBy 184 = .ok (.getfield 64, 3) := dk_180 0 64 (dk_at dksX5_goesBy_7 19 rfl rfl)
theorem dX5_goesBy_187 : decode cX5_goesBy 187 = .ok (.iconst 1, 1) := dk_4 (dk_at dksX5_goesBy_7 22 rfl rfl)
theorem dX5_goesBy_188 : decode cX5_goesBy 188 = .ok (.iadd, 1) := dk_96 (dk_at dksX5_goesBy_7 23 rfl rfl)
theorem dX5_goesBy_189 : decode cX5_goesBy 189 = .ok (.putfield 64, 3) := dk_181 0 64 (dk_at dksX5_goesBy_8 0 rfl rfl)
theorem dX5_goesBy_192 : decode cX5_goesBy 192 = .ok (.return_, 1) := dk_177 (dk_at dksX5_goesBy_8 3 rfl rfl)
def dkwX5_longOf_0 : List UInt8 := [42, 27, 182, 0, 84, 153, 0, 12, 42, 180, 0, 15, 27, 46, 167, 0, 9, 42, 180, 0, 9, 27, 46, 172]
abbrev dktX5_longOf_0 : List UInt8 := dkwX5_longOf_0 ++ []
theorem dksX5_longOf_0 : cX5_longOf.data.toList.drop 0 = dktX5_longOf_0 := by decide +kernel
theorem dX5_longOf_0 : decode cX5_longOf 0 = .ok (.aload_n 0, 1) := dk_42 (dk_at dksX5_longOf_0 0 rfl rfl)
theorem dX5_longOf_1 : decode cX5_longOf 1 = .ok (.iload_n 1, 1) := dk_27 (dk_at dksX5_longOf_0 1 rfl rfl)
theorem dX5_longOf_2 : decode cX5_longOf 2 = .ok (.invokevirtual 84, 3) := dk_182 0 84 (dk_at dksX5_longOf_0 2 rfl rfl)
theorem dX5_longOf_5 : decode cX5_longOf 5 = .ok (.ifCond .eq 12, 3) := dk_153 0 12 (dk_at dksX5_longOf_0 5 rfl rfl)
theorem dX5_longOf_8 : decode cX5_longOf 8 = .ok (.aload_n 0, 1) := dk_42 (dk_at dksX5_longOf_0 8 rfl rfl)
theorem dX5_longOf_9 : decode cX5_longOf 9 = .ok (.getfield 15, 3) := dk_180 0 15 (dk_at dksX5_longOf_0 9 rfl rfl)
theorem dX5_longOf_12 : decode cX5_longOf 12 = .ok (.iload_n 1, 1) := dk_27 (dk_at dksX5_longOf_0 12 rfl rfl)
theorem dX5_longOf_13 : decode cX5_longOf 13 = .ok (.iaload, 1) := dk_46 (dk_at dksX5_longOf_0 13 rfl rfl)
theorem dX5_longOf_14 : decode cX5_longOf 14 = .ok (.goto 9, 3) := dk_167 0 9 (dk_at dksX5_longOf_0 14 rfl rfl)
theorem dX5_longOf_17 : decode cX5_longOf 17 = .ok (.aload_n 0, 1) := dk_42 (dk_at dksX5_longOf_0 17 rfl rfl)
theorem dX5_longOf_18 : decode cX5_longOf 18 = .ok (.getfield 9, 3) := dk_180 0 9 (dk_at dksX5_longOf_0 18 rfl rfl)
theorem dX5_longOf_21 : decode cX5_longOf 21 = .ok (.iload_n 1, 1) := dk_27 (dk_at dksX5_longOf_0 21 rfl rfl)
theorem dX5_longOf_22 : decode cX5_longOf 22 = .ok (.iaload, 1) := dk_46 (dk_at dksX5_longOf_0 22 rfl rfl)
theorem dX5_longOf_23 : decode cX5_longOf 23 = .ok (.ireturn, 1) := dk_172 (dk_at dksX5_longOf_0 23 rfl rfl)
def dkwX6_init_0 : List UInt8 := [42, 183, 0, 1, 42, 16, 9, 188, 10, 181, 0, 7, 177]
abbrev dktX6_init_0 : List UInt8 := dkwX6_init_0 ++ []
theorem dksX6_init_0 : cX6_init.data.toList.drop 0 = dktX6_init_0 := by decide +kernel
theorem dX6_init_0 : decode cX6_init 0 = .ok (.aload_n 0, 1) := dk_42 (dk_at dksX6_init_0 0 rfl rfl)
theorem dX6_init_1 : decode cX6_init 1 = .ok (.invokespecial 1, 3) := dk_183 0 1 (dk_at dksX6_init_0 1 rfl rfl)
theorem dX6_init_4 : decode cX6_init 4 = .ok (.aload_n 0, 1) := dk_42 (dk_at dksX6_init_0 4 rfl rfl)
theorem dX6_init_5 : decode cX6_init 5 = .ok (.bipush 9, 2) := dk_16 9 (dk_at dksX6_init_0 5 rfl rfl)
theorem dX6_init_7 : decode cX6_init 7 = .ok (.newarray .int, 2) := dk_188_10 (dk_at dksX6_init_0 7 rfl rfl)
theorem dX6_init_9 : decode cX6_init 9 = .ok (.putfield 7, 3) := dk_181 0 7 (dk_at dksX6_init_0 9 rfl rfl)
theorem dX6_init_12 : decode cX6_init 12 = .ok (.return_, 1) := dk_177 (dk_at dksX6_init_0 12 rfl rfl)
theorem dX7_init_0 : decode cX7_init 0 = .ok (.aload_n 0, 1) := by decide +kernel
theorem dX7_init_1 : decode cX7_init 1 = .ok (.invokespecial 1, 3) := by decide +kernel
theorem dX7_init_4 : decode cX7_init 4 = .ok (.return_, 1) := by decide +kernel
theorem dX8_init_0 : decode cX8_init 0 = .ok (.aload_n 0, 1) := by decide +kernel
theorem dX8_init_1 : decode cX8_init 1 = .ok (.invokespecial 1, 3) := by decide +kernel
theorem dX8_init_4 : decode cX8_init 4 = .ok (.return_, 1) := by decide +kernel
def dkwX8_blights_1 : List UInt8 := [162, 0, 7, 4, 167, 0, 4, 3, 172]
abbrev dktX8_blights_1 : List UInt8 := dkwX8_blights_1 ++ []
def dkwX8_blights_0 : List UInt8 := [43, 180, 0, 7, 16, 8, 43, 180, 0, 13, 104, 29, 96, 16, 100, 184, 0, 16, 44, 180, 0, 22]
abbrev dktX8_blights_0 : List UInt8 := dkwX8_blights_0 ++ dktX8_blights_1
theorem dksX8_blights_0 : cX8_blights.data.toList.drop 0 = dktX8_blights_0 := by decide +kernel
theorem dksX8_blights_1 : cX8_blights.data.toList.drop 22 = dktX8_blights_1 := dk_seg dksX8_blights_0 22 rfl rfl
theorem dX8_blights_0 : decode cX8_blights 0 = .ok (.aload_n 1, 1) := dk_43 (dk_at dksX8_blights_0 0 rfl rfl)
theorem dX8_blights_1 : decode cX8_blights 1 = .ok (.getfield 7, 3) := dk_180 0 7 (dk_at dksX8_blights_0 1 rfl rfl)
theorem dX8_blights_4 : decode cX8_blights 4 = .ok (.bipush 8, 2) := dk_16 8 (dk_at dksX8_blights_0 4 rfl rfl)
theorem dX8_blights_6 : decode cX8_blights 6 = .ok (.aload_n 1, 1) := dk_43 (dk_at dksX8_blights_0 6 rfl rfl)
theorem dX8_blights_7 : decode cX8_blights 7 = .ok (.getfield 13, 3) := dk_180 0 13 (dk_at dksX8_blights_0 7 rfl rfl)
theorem dX8_blights_10 : decode cX8_blights 10 = .ok (.imul, 1) := dk_104 (dk_at dksX8_blights_0 10 rfl rfl)
theorem dX8_blights_11 : decode cX8_blights 11 = .ok (.iload_n 3, 1) := dk_29 (dk_at dksX8_blights_0 11 rfl rfl)
theorem dX8_blights_12 : decode cX8_blights 12 = .ok (.iadd, 1) := dk_96 (dk_at dksX8_blights_0 12 rfl rfl)
theorem dX8_blights_13 : decode cX8_blights 13 = .ok (.bipush 100, 2) := dk_16 100 (dk_at dksX8_blights_0 13 rfl rfl)
theorem dX8_blights_15 : decode cX8_blights 15 = .ok (.invokestatic 16, 3) := dk_184 0 16 (dk_at dksX8_blights_0 15 rfl rfl)
theorem dX8_blights_18 : decode cX8_blights 18 = .ok (.aload_n 2, 1) := dk_44 (dk_at dksX8_blights_0 18 rfl rfl)
theorem dX8_blights_19 : decode cX8_blights 19 = .ok (.getfield 22, 3) := dk_180 0 22 (dk_at dksX8_blights_0 19 rfl rfl)
theorem dX8_blights_22 : decode cX8_blights 22 = .ok (.if_icmp .ge 7, 3) := dk_162 0 7 (dk_at dksX8_blights_1 0 rfl rfl)
theorem dX8_blights_25 : decode cX8_blights 25 = .ok (.iconst 1, 1) := dk_4 (dk_at dksX8_blights_1 3 rfl rfl)
theorem dX8_blights_26 : decode cX8_blights 26 = .ok (.goto 4, 3) := dk_167 0 4 (dk_at dksX8_blights_1 4 rfl rfl)
theorem dX8_blights_29 : decode cX8_blights 29 = .ok (.iconst 0, 1) := dk_3 (dk_at dksX8_blights_1 7 rfl rfl)
theorem dX8_blights_30 : decode cX8_blights 30 = .ok (.ireturn, 1) := dk_172 (dk_at dksX8_blights_1 8 rfl rfl)
theorem dX9_init_0 : decode cX9_init 0 = .ok (.aload_n 0, 1) := by decide +kernel
theorem dX9_init_1 : decode cX9_init 1 = .ok (.invokespecial 1, 3) := by decide +kernel
theorem dX9_init_4 : decode cX9_init 4 = .ok (.return_, 1) := by decide +kernel
theorem dX9_blights_0 : decode cX9_blights 0 = .ok (.iconst 0, 1) := by decide +kernel
theorem dX9_blights_1 : decode cX9_blights 1 = .ok (.ireturn, 1) := by decide +kernel
def dkwX11_init_1 : List UInt8 := [189, 0, 9, 181, 0, 20, 177]
abbrev dktX11_init_1 : List UInt8 := dkwX11_init_1 ++ []
def dkwX11_init_0 : List UInt8 := [42, 183, 0, 3, 42, 7, 189, 0, 9, 181, 0, 11, 42, 7, 189, 0, 9, 181, 0, 17, 42, 8]
abbrev dktX11_init_0 : List UInt8 := dkwX11_init_0 ++ dktX11_init_1
theorem dksX11_init_0 : cX11_init.data.toList.drop 0 = dktX11_init_0 := by decide +kernel
theorem dksX11_init_1 : cX11_init.data.toList.drop 22 = dktX11_init_1 := dk_seg dksX11_init_0 22 rfl rfl
theorem dX11_init_0 : decode cX11_init 0 = .ok (.aload_n 0, 1) := dk_42 (dk_at dksX11_init_0 0 rfl rfl)
theorem dX11_init_1 : decode cX11_init 1 = .ok (.invokespecial 3, 3) := dk_183 0 3 (dk_at dksX11_init_0 1 rfl rfl)
theorem dX11_init_4 : decode cX11_init 4 = .ok (.aload_n 0, 1) := dk_42 (dk_at dksX11_init_0 4 rfl rfl)
theorem dX11_init_5 : decode cX11_init 5 = .ok (.iconst 4, 1) := dk_7 (dk_at dksX11_init_0 5 rfl rfl)
theorem dX11_init_6 : decode cX11_init 6 = .ok (.anewarray 9, 3) := dk_189 0 9 (dk_at dksX11_init_0 6 rfl rfl)
theorem dX11_init_9 : decode cX11_init 9 = .ok (.putfield 11, 3) := dk_181 0 11 (dk_at dksX11_init_0 9 rfl rfl)
theorem dX11_init_12 : decode cX11_init 12 = .ok (.aload_n 0, 1) := dk_42 (dk_at dksX11_init_0 12 rfl rfl)
theorem dX11_init_13 : decode cX11_init 13 = .ok (.iconst 4, 1) := dk_7 (dk_at dksX11_init_0 13 rfl rfl)
theorem dX11_init_14 : decode cX11_init 14 = .ok (.anewarray 9, 3) := dk_189 0 9 (dk_at dksX11_init_0 14 rfl rfl)
theorem dX11_init_17 : decode cX11_init 17 = .ok (.putfield 17, 3) := dk_181 0 17 (dk_at dksX11_init_0 17 rfl rfl)
theorem dX11_init_20 : decode cX11_init 20 = .ok (.aload_n 0, 1) := dk_42 (dk_at dksX11_init_0 20 rfl rfl)
theorem dX11_init_21 : decode cX11_init 21 = .ok (.iconst 5, 1) := dk_8 (dk_at dksX11_init_0 21 rfl rfl)
theorem dX11_init_22 : decode cX11_init 22 = .ok (.anewarray 9, 3) := dk_189 0 9 (dk_at dksX11_init_1 0 rfl rfl)
theorem dX11_init_25 : decode cX11_init 25 = .ok (.putfield 20, 3) := dk_181 0 20 (dk_at dksX11_init_1 3 rfl rfl)
theorem dX11_init_28 : decode cX11_init 28 = .ok (.return_, 1) := dk_177 (dk_at dksX11_init_1 6 rfl rfl)
def dkwX11_of_3 : List UInt8 := [184, 0, 37, 172]
abbrev dktX11_of_3 : List UInt8 := dkwX11_of_3 ++ []
def dkwX11_of_2 : List UInt8 := [180, 0, 20, 28, 50, 43, 182, 0, 33, 62, 43, 180, 0, 23, 153, 0, 7, 3, 167, 0, 8, 3, 29]
abbrev dktX11_of_2 : List UInt8 := dkwX11_of_2 ++ dktX11_of_3
def dkwX11_of_1 : List UInt8 := [182, 0, 33, 42, 180, 0, 17, 28, 50, 43, 182, 0, 33, 161, 0, 9, 132, 2, 1, 167, 255, 222, 42]
abbrev dktX11_of_1 : List UInt8 := dkwX11_of_1 ++ dktX11_of_2
def dkwX11_of_0 : List UInt8 := [43, 3, 181, 0, 23, 3, 61, 28, 42, 180, 0, 29, 162, 0, 32, 42, 180, 0, 11, 28, 50, 43]
abbrev dktX11_of_0 : List UInt8 := dkwX11_of_0 ++ dktX11_of_1
theorem dksX11_of_0 : cX11_of.data.toList.drop 0 = dktX11_of_0 := by decide +kernel
theorem dksX11_of_1 : cX11_of.data.toList.drop 22 = dktX11_of_1 := dk_seg dksX11_of_0 22 rfl rfl
theorem dksX11_of_2 : cX11_of.data.toList.drop 45 = dktX11_of_2 := dk_seg dksX11_of_1 23 rfl rfl
theorem dksX11_of_3 : cX11_of.data.toList.drop 68 = dktX11_of_3 := dk_seg dksX11_of_2 23 rfl rfl
theorem dX11_of_0 : decode cX11_of 0 = .ok (.aload_n 1, 1) := dk_43 (dk_at dksX11_of_0 0 rfl rfl)
theorem dX11_of_1 : decode cX11_of 1 = .ok (.iconst 0, 1) := dk_3 (dk_at dksX11_of_0 1 rfl rfl)
theorem dX11_of_2 : decode cX11_of 2 = .ok (.putfield 23, 3) := dk_181 0 23 (dk_at dksX11_of_0 2 rfl rfl)
theorem dX11_of_5 : decode cX11_of 5 = .ok (.iconst 0, 1) := dk_3 (dk_at dksX11_of_0 5 rfl rfl)
theorem dX11_of_6 : decode cX11_of 6 = .ok (.istore_n 2, 1) := dk_61 (dk_at dksX11_of_0 6 rfl rfl)
theorem dX11_of_7 : decode cX11_of 7 = .ok (.iload_n 2, 1) := dk_28 (dk_at dksX11_of_0 7 rfl rfl)
theorem dX11_of_8 : decode cX11_of 8 = .ok (.aload_n 0, 1) := dk_42 (dk_at dksX11_of_0 8 rfl rfl)
theorem dX11_of_9 : decode cX11_of 9 = .ok (.getfield 29, 3) := dk_180 0 29 (dk_at dksX11_of_0 9 rfl rfl)
theorem dX11_of_12 : decode cX11_of 12 = .ok (.if_icmp .ge 32, 3) := dk_162 0 32 (dk_at dksX11_of_0 12 rfl rfl)
theorem dX11_of_15 : decode cX11_of 15 = .ok (.aload_n 0, 1) := dk_42 (dk_at dksX11_of_0 15 rfl rfl)
theorem dX11_of_16 : decode cX11_of 16 = .ok (.getfield 11, 3) := dk_180 0 11 (dk_at dksX11_of_0 16 rfl rfl)
theorem dX11_of_19 : decode cX11_of 19 = .ok (.iload_n 2, 1) := dk_28 (dk_at dksX11_of_0 19 rfl rfl)
theorem dX11_of_20 : decode cX11_of 20 = .ok (.aaload, 1) := dk_50 (dk_at dksX11_of_0 20 rfl rfl)
theorem dX11_of_21 : decode cX11_of 21 = .ok (.aload_n 1, 1) := dk_43 (dk_at dksX11_of_0 21 rfl rfl)
theorem dX11_of_22 : decode cX11_of 22 = .ok (.invokevirtual 33, 3) := dk_182 0 33 (dk_at dksX11_of_1 0 rfl rfl)
theorem dX11_of_25 : decode cX11_of 25 = .ok (.aload_n 0, 1) := dk_42 (dk_at dksX11_of_1 3 rfl rfl)
theorem dX11_of_26 : decode cX11_of 26 = .ok (.getfield 17, 3) := dk_180 0 17 (dk_at dksX11_of_1 4 rfl rfl)
theorem dX11_of_29 : decode cX11_of 29 = .ok (.iload_n 2, 1) := dk_28 (dk_at dksX11_of_1 7 rfl rfl)
theorem dX11_of_30 : decode cX11_of 30 = .ok (.aaload, 1) := dk_50 (dk_at dksX11_of_1 8 rfl rfl)
theorem dX11_of_31 : decode cX11_of 31 = .ok (.aload_n 1, 1) := dk_43 (dk_at dksX11_of_1 9 rfl rfl)
theorem dX11_of_32 : decode cX11_of 32 = .ok (.invokevirtual 33, 3) := dk_182 0 33 (dk_at dksX11_of_1 10 rfl rfl)
theorem dX11_of_35 : decode cX11_of 35 = .ok (.if_icmp .lt 9, 3) := dk_161 0 9 (dk_at dksX11_of_1 13 rfl rfl)
theorem dX11_of_38 : decode cX11_of 38 = .ok (.iinc 2 1, 3) := dk_132 2 1 (dk_at dksX11_of_1 16 rfl rfl)
theorem dX11_of_41 : decode cX11_of 41 = .ok (.goto (-34), 3) := dk_167 255 222 (dk_at dksX11_of_1 19 rfl rfl)
theorem dX11_of_44 : decode cX11_of 44 = .ok (.aload_n 0, 1) := dk_42 (dk_at dksX11_of_1 22 rfl rfl)
theorem dX11_of_45 : decode cX11_of 45 = .ok (.getfield 20, 3) := dk_180 0 20 (dk_at dksX11_of_2 0 rfl rfl)
theorem dX11_of_48 : decode cX11_of 48 = .ok (.iload_n 2, 1) := dk_28 (dk_at dksX11_of_2 3 rfl rfl)
theorem dX11_of_49 : decode cX11_of 49 = .ok (.aaload, 1) := dk_50 (dk_at dksX11_of_2 4 rfl rfl)
theorem dX11_of_50 : decode cX11_of 50 = .ok (.aload_n 1, 1) := dk_43 (dk_at dksX11_of_2 5 rfl rfl)
theorem dX11_of_51 : decode cX11_of 51 = .ok (.invokevirtual 33, 3) := dk_182 0 33 (dk_at dksX11_of_2 6 rfl rfl)
theorem dX11_of_54 : decode cX11_of 54 = .ok (.istore_n 3, 1) := dk_62 (dk_at dksX11_of_2 9 rfl rfl)
theorem dX11_of_55 : decode cX11_of 55 = .ok (.aload_n 1, 1) := dk_43 (dk_at dksX11_of_2 10 rfl rfl)
theorem dX11_of_56 : decode cX11_of 56 = .ok (.getfield 23, 3) := dk_180 0 23 (dk_at dksX11_of_2 11 rfl rfl)
theorem dX11_of_59 : decode cX11_of 59 = .ok (.ifCond .eq 7, 3) := dk_153 0 7 (dk_at dksX11_of_2 14 rfl rfl)
theorem dX11_of_62 : decode cX11_of 62 = .ok (.iconst 0, 1) := dk_3 (dk_at dksX11_of_2 17 rfl rfl)
theorem dX11_of_63 : decode cX11_of 63 = .ok (.goto 8, 3) := dk_167 0 8 (dk_at dksX11_of_2 18 rfl rfl)
theorem dX11_of_66 : decode cX11_of 66 = .ok (.iconst 0, 1) := dk_3 (dk_at dksX11_of_2 21 rfl rfl)
theorem dX11_of_67 : decode cX11_of 67 = .ok (.iload_n 3, 1) := dk_29 (dk_at dksX11_of_2 22 rfl rfl)
theorem dX11_of_68 : decode cX11_of 68 = .ok (.invokestatic 37, 3) := dk_184 0 37 (dk_at dksX11_of_3 0 rfl rfl)
theorem dX11_of_71 : decode cX11_of 71 = .ok (.ireturn, 1) := dk_172 (dk_at dksX11_of_3 3 rfl rfl)
theorem dX12_init_0 : decode cX12_init 0 = .ok (.aload_n 0, 1) := by decide +kernel
theorem dX12_init_1 : decode cX12_init 1 = .ok (.invokespecial 1, 3) := by decide +kernel
theorem dX12_init_4 : decode cX12_init 4 = .ok (.return_, 1) := by decide +kernel
def dkwX13_init_0 : List UInt8 := [42, 183, 0, 1, 42, 27, 181, 0, 7, 177]
abbrev dktX13_init_0 : List UInt8 := dkwX13_init_0 ++ []
theorem dksX13_init_0 : cX13_init.data.toList.drop 0 = dktX13_init_0 := by decide +kernel
theorem dX13_init_0 : decode cX13_init 0 = .ok (.aload_n 0, 1) := dk_42 (dk_at dksX13_init_0 0 rfl rfl)
theorem dX13_init_1 : decode cX13_init 1 = .ok (.invokespecial 1, 3) := dk_183 0 1 (dk_at dksX13_init_0 1 rfl rfl)
theorem dX13_init_4 : decode cX13_init 4 = .ok (.aload_n 0, 1) := dk_42 (dk_at dksX13_init_0 4 rfl rfl)
theorem dX13_init_5 : decode cX13_init 5 = .ok (.iload_n 1, 1) := dk_27 (dk_at dksX13_init_0 5 rfl rfl)
theorem dX13_init_6 : decode cX13_init 6 = .ok (.putfield 7, 3) := dk_181 0 7 (dk_at dksX13_init_0 6 rfl rfl)
theorem dX13_init_9 : decode cX13_init 9 = .ok (.return_, 1) := dk_177 (dk_at dksX13_init_0 9 rfl rfl)
theorem dX13_of_0 : decode cX13_of 0 = .ok (.aload_n 0, 1) := by decide +kernel
theorem dX13_of_1 : decode cX13_of 1 = .ok (.getfield 7, 3) := by decide +kernel
theorem dX13_of_4 : decode cX13_of 4 = .ok (.ireturn, 1) := by decide +kernel
def dkwX14_init_0 : List UInt8 := [42, 183, 0, 1, 42, 27, 181, 0, 7, 177]
abbrev dktX14_init_0 : List UInt8 := dkwX14_init_0 ++ []
theorem dksX14_init_0 : cX14_init.data.toList.drop 0 = dktX14_init_0 := by decide +kernel
theorem dX14_init_0 : decode cX14_init 0 = .ok (.aload_n 0, 1) := dk_42 (dk_at dksX14_init_0 0 rfl rfl)
theorem dX14_init_1 : decode cX14_init 1 = .ok (.invokespecial 1, 3) := dk_183 0 1 (dk_at dksX14_init_0 1 rfl rfl)
theorem dX14_init_4 : decode cX14_init 4 = .ok (.aload_n 0, 1) := dk_42 (dk_at dksX14_init_0 4 rfl rfl)
theorem dX14_init_5 : decode cX14_init 5 = .ok (.iload_n 1, 1) := dk_27 (dk_at dksX14_init_0 5 rfl rfl)
theorem dX14_init_6 : decode cX14_init 6 = .ok (.putfield 7, 3) := dk_181 0 7 (dk_at dksX14_init_0 6 rfl rfl)
theorem dX14_init_9 : decode cX14_init 9 = .ok (.return_, 1) := dk_177 (dk_at dksX14_init_0 9 rfl rfl)
def dkwX14_of_0 : List UInt8 := [43, 180, 0, 13, 42, 180, 0, 7, 46, 172]
abbrev dktX14_of_0 : List UInt8 := dkwX14_of_0 ++ []
theorem dksX14_of_0 : cX14_of.data.toList.drop 0 = dktX14_of_0 := by decide +kernel
theorem dX14_of_0 : decode cX14_of 0 = .ok (.aload_n 1, 1) := dk_43 (dk_at dksX14_of_0 0 rfl rfl)
theorem dX14_of_1 : decode cX14_of 1 = .ok (.getfield 13, 3) := dk_180 0 13 (dk_at dksX14_of_0 1 rfl rfl)
theorem dX14_of_4 : decode cX14_of 4 = .ok (.aload_n 0, 1) := dk_42 (dk_at dksX14_of_0 4 rfl rfl)
theorem dX14_of_5 : decode cX14_of 5 = .ok (.getfield 7, 3) := dk_180 0 7 (dk_at dksX14_of_0 5 rfl rfl)
theorem dX14_of_8 : decode cX14_of 8 = .ok (.iaload, 1) := dk_46 (dk_at dksX14_of_0 8 rfl rfl)
theorem dX14_of_9 : decode cX14_of 9 = .ok (.ireturn, 1) := dk_172 (dk_at dksX14_of_0 9 rfl rfl)
def dkwX15_init_0 : List UInt8 := [42, 183, 0, 1, 42, 27, 181, 0, 7, 42, 44, 181, 0, 13, 42, 45, 181, 0, 17, 177]
abbrev dktX15_init_0 : List UInt8 := dkwX15_init_0 ++ []
theorem dksX15_init_0 : cX15_init.data.toList.drop 0 = dktX15_init_0 := by decide +kernel
theorem dX15_init_0 : decode cX15_init 0 = .ok (.aload_n 0, 1) := dk_42 (dk_at dksX15_init_0 0 rfl rfl)
theorem dX15_init_1 : decode cX15_init 1 = .ok (.invokespecial 1, 3) := dk_183 0 1 (dk_at dksX15_init_0 1 rfl rfl)
theorem dX15_init_4 : decode cX15_init 4 = .ok (.aload_n 0, 1) := dk_42 (dk_at dksX15_init_0 4 rfl rfl)
theorem dX15_init_5 : decode cX15_init 5 = .ok (.iload_n 1, 1) := dk_27 (dk_at dksX15_init_0 5 rfl rfl)
theorem dX15_init_6 : decode cX15_init 6 = .ok (.putfield 7, 3) := dk_181 0 7 (dk_at dksX15_init_0 6 rfl rfl)
theorem dX15_init_9 : decode cX15_init 9 = .ok (.aload_n 0, 1) := dk_42 (dk_at dksX15_init_0 9 rfl rfl)
theorem dX15_init_10 : decode cX15_init 10 = .ok (.aload_n 2, 1) := dk_44 (dk_at dksX15_init_0 10 rfl rfl)
theorem dX15_init_11 : decode cX15_init 11 = .ok (.putfield 13, 3) := dk_181 0 13 (dk_at dksX15_init_0 11 rfl rfl)
theorem dX15_init_14 : decode cX15_init 14 = .ok (.aload_n 0, 1) := dk_42 (dk_at dksX15_init_0 14 rfl rfl)
theorem dX15_init_15 : decode cX15_init 15 = .ok (.aload_n 3, 1) := dk_45 (dk_at dksX15_init_0 15 rfl rfl)
theorem dX15_init_16 : decode cX15_init 16 = .ok (.putfield 17, 3) := dk_181 0 17 (dk_at dksX15_init_0 16 rfl rfl)
theorem dX15_init_19 : decode cX15_init 19 = .ok (.return_, 1) := dk_177 (dk_at dksX15_init_0 19 rfl rfl)
def dkwX15_of_3 : List UInt8 := [181, 0, 24, 3, 172]
abbrev dktX15_of_3 : List UInt8 := dkwX15_of_3 ++ []
def dkwX15_of_2 : List UInt8 := [28, 29, 96, 172, 28, 29, 100, 172, 28, 29, 104, 172, 29, 153, 0, 7, 28, 29, 108, 172, 43, 4]
abbrev dktX15_of_2 : List UInt8 := dkwX15_of_2 ++ dktX15_of_3
def dkwX15_of_1 : List UInt8 := [170, 0, 0, 0, 0, 42, 0, 0, 0, 42, 0, 0, 0, 45, 0, 0, 0, 38, 0, 0, 0, 30, 0, 0, 0, 42, 0, 0, 0, 34]
abbrev dktX15_of_1 : List UInt8 := dkwX15_of_1 ++ dktX15_of_2
def dkwX15_of_0 : List UInt8 := [42, 180, 0, 13, 43, 182, 0, 20, 61, 42, 180, 0, 17, 43, 182, 0, 20, 62, 42, 180, 0, 7]
abbrev dktX15_of_0 : List UInt8 := dkwX15_of_0 ++ dktX15_of_1
theorem dksX15_of_0 : cX15_of.data.toList.drop 0 = dktX15_of_0 := by decide +kernel
theorem dksX15_of_1 : cX15_of.data.toList.drop 22 = dktX15_of_1 := dk_seg dksX15_of_0 22 rfl rfl
theorem dksX15_of_2 : cX15_of.data.toList.drop 52 = dktX15_of_2 := dk_seg dksX15_of_1 30 rfl rfl
theorem dksX15_of_3 : cX15_of.data.toList.drop 74 = dktX15_of_3 := dk_seg dksX15_of_2 22 rfl rfl
theorem dX15_of_0 : decode cX15_of 0 = .ok (.aload_n 0, 1) := dk_42 (dk_at dksX15_of_0 0 rfl rfl)
theorem dX15_of_1 : decode cX15_of 1 = .ok (.getfield 13, 3) := dk_180 0 13 (dk_at dksX15_of_0 1 rfl rfl)
theorem dX15_of_4 : decode cX15_of 4 = .ok (.aload_n 1, 1) := dk_43 (dk_at dksX15_of_0 4 rfl rfl)
theorem dX15_of_5 : decode cX15_of 5 = .ok (.invokevirtual 20, 3) := dk_182 0 20 (dk_at dksX15_of_0 5 rfl rfl)
theorem dX15_of_8 : decode cX15_of 8 = .ok (.istore_n 2, 1) := dk_61 (dk_at dksX15_of_0 8 rfl rfl)
theorem dX15_of_9 : decode cX15_of 9 = .ok (.aload_n 0, 1) := dk_42 (dk_at dksX15_of_0 9 rfl rfl)
theorem dX15_of_10 : decode cX15_of 10 = .ok (.getfield 17, 3) := dk_180 0 17 (dk_at dksX15_of_0 10 rfl rfl)
theorem dX15_of_13 : decode cX15_of 13 = .ok (.aload_n 1, 1) := dk_43 (dk_at dksX15_of_0 13 rfl rfl)
theorem dX15_of_14 : decode cX15_of 14 = .ok (.invokevirtual 20, 3) := dk_182 0 20 (dk_at dksX15_of_0 14 rfl rfl)
theorem dX15_of_17 : decode cX15_of 17 = .ok (.istore_n 3, 1) := dk_62 (dk_at dksX15_of_0 17 rfl rfl)
theorem dX15_of_18 : decode cX15_of 18 = .ok (.aload_n 0, 1) := dk_42 (dk_at dksX15_of_0 18 rfl rfl)
theorem dX15_of_19 : decode cX15_of 19 = .ok (.getfield 7, 3) := dk_180 0 7 (dk_at dksX15_of_0 19 rfl rfl)
theorem dX15_of_22 : decode cX15_of 22 = .ok (.tableswitch 42 42 45 #[38, 30, 42, 34], 30) := by decide +kernel
theorem dX15_of_52 : decode cX15_of 52 = .ok (.iload_n 2, 1) := dk_28 (dk_at dksX15_of_2 0 rfl rfl)
theorem dX15_of_53 : decode cX15_of 53 = .ok (.iload_n 3, 1) := dk_29 (dk_at dksX15_of_2 1 rfl rfl)
theorem dX15_of_54 : decode cX15_of 54 = .ok (.iadd, 1) := dk_96 (dk_at dksX15_of_2 2 rfl rfl)
theorem dX15_of_55 : decode cX15_of 55 = .ok (.ireturn, 1) := dk_172 (dk_at dksX15_of_2 3 rfl rfl)
theorem dX15_of_56 : decode cX15_of 56 = .ok (.iload_n 2, 1) := dk_28 (dk_at dksX15_of_2 4 rfl rfl)
theorem dX15_of_57 : decode cX15_of 57 = .ok (.iload_n 3, 1) := dk_29 (dk_at dksX15_of_2 5 rfl rfl)
theorem dX15_of_58 : decode cX15_of 58 = .ok (.isub, 1) := dk_100 (dk_at dksX15_of_2 6 rfl rfl)
theorem dX15_of_59 : decode cX15_of 59 = .ok (.ireturn, 1) := dk_172 (dk_at dksX15_of_2 7 rfl rfl)
theorem dX15_of_60 : decode cX15_of 60 = .ok (.iload_n 2, 1) := dk_28 (dk_at dksX15_of_2 8 rfl rfl)
theorem dX15_of_61 : decode cX15_of 61 = .ok (.iload_n 3, 1) := dk_29 (dk_at dksX15_of_2 9 rfl rfl)
theorem dX15_of_62 : decode cX15_of 62 = .ok (.imul, 1) := dk_104 (dk_at dksX15_of_2 10 rfl rfl)
theorem dX15_of_63 : decode cX15_of 63 = .ok (.ireturn, 1) := dk_172 (dk_at dksX15_of_2 11 rfl rfl)
theorem dX15_of_64 : decode cX15_of 64 = .ok (.iload_n 3, 1) := dk_29 (dk_at dksX15_of_2 12 rfl rfl)
theorem dX15_of_65 : decode cX15_of 65 = .ok (.ifCond .eq 7, 3) := dk_153 0 7 (dk_at dksX15_of_2 13 rfl rfl)
theorem dX15_of_68 : decode cX15_of 68 = .ok (.iload_n 2, 1) := dk_28 (dk_at dksX15_of_2 16 rfl rfl)
theorem dX15_of_69 : decode cX15_of 69 = .ok (.iload_n 3, 1) := dk_29 (dk_at dksX15_of_2 17 rfl rfl)
theorem dX15_of_70 : decode cX15_of 70 = .ok (.idiv, 1) := dk_108 (dk_at dksX15_of_2 18 rfl rfl)
theorem dX15_of_71 : decode cX15_of 71 = .ok (.ireturn, 1) := dk_172 (dk_at dksX15_of_2 19 rfl rfl)
theorem dX15_of_72 : decode cX15_of 72 = .ok (.aload_n 1, 1) := dk_43 (dk_at dksX15_of_2 20 rfl rfl)
theorem dX15_of_73 : decode cX15_of 73 = .ok (.iconst 1, 1) := dk_4 (dk_at dksX15_of_2 21 rfl rfl)
theorem dX15_of_74 : decode cX15_of 74 = .ok (.putfield 24, 3) := dk_181 0 24 (dk_at dksX15_of_3 0 rfl rfl)
theorem dX15_of_77 : decode cX15_of 77 = .ok (.iconst 0, 1) := dk_3 (dk_at dksX15_of_3 3 rfl rfl)
theorem dX15_of_78 : decode cX15_of 78 = .ok (.ireturn, 1) := dk_172 (dk_at dksX15_of_3 4 rfl rfl)
