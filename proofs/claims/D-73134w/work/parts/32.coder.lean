/-! decode rows of what the reader reaches -/
set_option maxRecDepth 100000
def dkwJ11_init_1 : List UInt8 := [167, 0, 16, 42, 27, 184, 0, 26, 181, 0, 15, 42, 4, 181, 0, 22, 177]
abbrev dktJ11_init_1 : List UInt8 := dkwJ11_init_1 ++ []
def dkwJ11_init_0 : List UInt8 := [42, 183, 0, 3, 178, 0, 18, 153, 0, 18, 42, 27, 188, 8, 181, 0, 15, 42, 3, 181, 0, 22]
abbrev dktJ11_init_0 : List UInt8 := dkwJ11_init_0 ++ dktJ11_init_1
theorem dksJ11_init_0 : cJ11_init.data.toList.drop 0 = dktJ11_init_0 := by decide +kernel
theorem dksJ11_init_1 : cJ11_init.data.toList.drop 22 = dktJ11_init_1 := dk_seg dksJ11_init_0 22 rfl rfl
theorem dJ11_init_0 : decode cJ11_init 0 = .ok (.aload_n 0, 1) := dk_42 (dk_at dksJ11_init_0 0 rfl rfl)
theorem dJ11_init_1 : decode cJ11_init 1 = .ok (.invokespecial 3, 3) := dk_183 0 3 (dk_at dksJ11_init_0 1 rfl rfl)
theorem dJ11_init_4 : decode cJ11_init 4 = .ok (.getstatic 18, 3) := dk_178 0 18 (dk_at dksJ11_init_0 4 rfl rfl)
theorem dJ11_init_7 : decode cJ11_init 7 = .ok (.ifCond .eq 18, 3) := dk_153 0 18 (dk_at dksJ11_init_0 7 rfl rfl)
theorem dJ11_init_10 : decode cJ11_init 10 = .ok (.aload_n 0, 1) := dk_42 (dk_at dksJ11_init_0 10 rfl rfl)
theorem dJ11_init_11 : decode cJ11_init 11 = .ok (.iload_n 1, 1) := dk_27 (dk_at dksJ11_init_0 11 rfl rfl)
theorem dJ11_init_12 : decode cJ11_init 12 = .ok (.newarray .byte, 2) := dk_188_8 (dk_at dksJ11_init_0 12 rfl rfl)
theorem dJ11_init_14 : decode cJ11_init 14 = .ok (.putfield 15, 3) := dk_181 0 15 (dk_at dksJ11_init_0 14 rfl rfl)
theorem dJ11_init_17 : decode cJ11_init 17 = .ok (.aload_n 0, 1) := dk_42 (dk_at dksJ11_init_0 17 rfl rfl)
theorem dJ11_init_18 : decode cJ11_init 18 = .ok (.iconst 0, 1) := dk_3 (dk_at dksJ11_init_0 18 rfl rfl)
theorem dJ11_init_19 : decode cJ11_init 19 = .ok (.putfield 22, 3) := dk_181 0 22 (dk_at dksJ11_init_0 19 rfl rfl)
theorem dJ11_init_22 : decode cJ11_init 22 = .ok (.goto 16, 3) := dk_167 0 16 (dk_at dksJ11_init_1 0 rfl rfl)
theorem dJ11_init_25 : decode cJ11_init 25 = .ok (.aload_n 0, 1) := dk_42 (dk_at dksJ11_init_1 3 rfl rfl)
theorem dJ11_init_26 : decode cJ11_init 26 = .ok (.iload_n 1, 1) := dk_27 (dk_at dksJ11_init_1 4 rfl rfl)
theorem dJ11_init_27 : decode cJ11_init 27 = .ok (.invokestatic 26, 3) := dk_184 0 26 (dk_at dksJ11_init_1 5 rfl rfl)
theorem dJ11_init_30 : decode cJ11_init 30 = .ok (.putfield 15, 3) := dk_181 0 15 (dk_at dksJ11_init_1 8 rfl rfl)
theorem dJ11_init_33 : decode cJ11_init 33 = .ok (.aload_n 0, 1) := dk_42 (dk_at dksJ11_init_1 11 rfl rfl)
theorem dJ11_init_34 : decode cJ11_init 34 = .ok (.iconst 1, 1) := dk_4 (dk_at dksJ11_init_1 12 rfl rfl)
theorem dJ11_init_35 : decode cJ11_init 35 = .ok (.putfield 22, 3) := dk_181 0 22 (dk_at dksJ11_init_1 13 rfl rfl)
theorem dJ11_init_38 : decode cJ11_init 38 = .ok (.return_, 1) := dk_177 (dk_at dksJ11_init_1 16 rfl rfl)
def dkwJ11_append_3 : List UInt8 := [181, 0, 79, 27, 184, 0, 197, 42, 176]
abbrev dktJ11_append_3 : List UInt8 := dkwJ11_append_3 ++ []
def dkwJ11_append_2 : List UInt8 := [182, 0, 83, 153, 0, 7, 42, 182, 0, 195, 42, 180, 0, 15, 42, 89, 180, 0, 79, 90, 4, 96]
abbrev dktJ11_append_2 : List UInt8 := dkwJ11_append_2 ++ dktJ11_append_3
def dkwJ11_append_1 : List UInt8 := [42, 180, 0, 15, 42, 89, 180, 0, 79, 90, 4, 96, 181, 0, 79, 27, 145, 84, 167, 0, 33, 42]
abbrev dktJ11_append_1 : List UInt8 := dkwJ11_append_1 ++ dktJ11_append_2
def dkwJ11_append_0 : List UInt8 := [42, 42, 180, 0, 79, 4, 96, 182, 0, 100, 42, 182, 0, 83, 153, 0, 31, 27, 184, 0, 191, 153, 0, 24]
abbrev dktJ11_append_0 : List UInt8 := dkwJ11_append_0 ++ dktJ11_append_1
theorem dksJ11_append_0 : cJ11_append.data.toList.drop 0 = dktJ11_append_0 := by decide +kernel
theorem dksJ11_append_1 : cJ11_append.data.toList.drop 24 = dktJ11_append_1 := dk_seg dksJ11_append_0 24 rfl rfl
theorem dksJ11_append_2 : cJ11_append.data.toList.drop 46 = dktJ11_append_2 := dk_seg dksJ11_append_1 22 rfl rfl
theorem dksJ11_append_3 : cJ11_append.data.toList.drop 68 = dktJ11_append_3 := dk_seg dksJ11_append_2 22 rfl rfl
theorem dJ11_append_0 : decode cJ11_append 0 = .ok (.aload_n 0, 1) := dk_42 (dk_at dksJ11_append_0 0 rfl rfl)
theorem dJ11_append_1 : decode cJ11_append 1 = .ok (.aload_n 0, 1) := dk_42 (dk_at dksJ11_append_0 1 rfl rfl)
theorem dJ11_append_2 : decode cJ11_append 2 = .ok (.getfield 79, 3) := dk_180 0 79 (dk_at dksJ11_append_0 2 rfl rfl)
theorem dJ11_append_5 : decode cJ11_append 5 = .ok (.iconst 1, 1) := dk_4 (dk_at dksJ11_append_0 5 rfl rfl)
theorem dJ11_append_6 : decode cJ11_append 6 = .ok (.iadd, 1) := dk_96 (dk_at dksJ11_append_0 6 rfl rfl)
theorem dJ11_append_7 : decode cJ11_append 7 = .ok (.invokevirtual 100, 3) := dk_182 0 100 (dk_at dksJ11_append_0 7 rfl rfl)
theorem dJ11_append_10 : decode cJ11_append 10 = .ok (.aload_n 0, 1) := dk_42 (dk_at dksJ11_append_0 10 rfl rfl)
theorem dJ11_append_11 : decode cJ11_append 11 = .ok (.invokevirtual 83, 3) := dk_182 0 83 (dk_at dksJ11_append_0 11 rfl rfl)
theorem dJ11_append_14 : decode cJ11_append 14 = .ok (.ifCond .eq 31, 3) := dk_153 0 31 (dk_at dksJ11_append_0 14 rfl rfl)
theorem dJ11_append_17 : decode cJ11_append 17 = .ok (.iload_n 1, 1) := dk_27 (dk_at dksJ11_append_0 17 rfl rfl)
theorem dJ11_append_18 : decode cJ11_append 18 = .ok (.invokestatic 191, 3) := dk_184 0 191 (dk_at dksJ11_append_0 18 rfl rfl)
theorem dJ11_append_21 : decode cJ11_append 21 = .ok (.ifCond .eq 24, 3) := dk_153 0 24 (dk_at dksJ11_append_0 21 rfl rfl)
theorem dJ11_append_24 : decode cJ11_append 24 = .ok (.aload_n 0, 1) := dk_42 (dk_at dksJ11_append_1 0 rfl rfl)
theorem dJ11_append_25 : decode cJ11_append 25 = .ok (.getfield 15, 3) := dk_180 0 15 (dk_at dksJ11_append_1 1 rfl rfl)
theorem dJ11_append_28 : decode cJ11_append 28 = .ok (.aload_n 0, 1) := dk_42 (dk_at dksJ11_append_1 4 rfl rfl)
theorem dJ11_append_29 : decode cJ11_append 29 = .ok (.dup, 1) := dk_89 (dk_at dksJ11_append_1 5 rfl rfl)
theorem dJ11_append_30 : decode cJ11_append 30 = .ok (.getfield 79, 3) := dk_180 0 79 (dk_at dksJ11_append_1 6 rfl rfl)
theorem dJ11_append_33 : decode cJ11_append 33 = .ok (.dup_x1, 1) := dk_90 (dk_at dksJ11_append_1 9 rfl rfl)
theorem dJ11_append_34 : decode cJ11_append 34 = .ok (.iconst 1, 1) := dk_4 (dk_at dksJ11_append_1 10 rfl rfl)
theorem dJ11_append_35 : decode cJ11_append 35 = .ok (.iadd, 1) := dk_96 (dk_at dksJ11_append_1 11 rfl rfl)
theorem dJ11_append_36 : decode cJ11_append 36 = .ok (.putfield 79, 3) := dk_181 0 79 (dk_at dksJ11_append_1 12 rfl rfl)
theorem dJ11_append_39 : decode cJ11_append 39 = .ok (.iload_n 1, 1) := dk_27 (dk_at dksJ11_append_1 15 rfl rfl)
theorem dJ11_append_40 : decode cJ11_append 40 = .ok (.i2b, 1) := dk_145 (dk_at dksJ11_append_1 16 rfl rfl)
theorem dJ11_append_41 : decode cJ11_append 41 = .ok (.bastore, 1) := dk_84 (dk_at dksJ11_append_1 17 rfl rfl)
theorem dJ11_append_42 : decode cJ11_append 42 = .ok (.goto 33, 3) := dk_167 0 33 (dk_at dksJ11_append_1 18 rfl rfl)
theorem dJ11_append_45 : decode cJ11_append 45 = .ok (.aload_n 0, 1) := dk_42 (dk_at dksJ11_append_1 21 rfl rfl)
theorem dJ11_append_46 : decode cJ11_append 46 = .ok (.invokevirtual 83, 3) := dk_182 0 83 (dk_at dksJ11_append_2 0 rfl rfl)
theorem dJ11_append_49 : decode cJ11_append 49 = .ok (.ifCond .eq 7, 3) := dk_153 0 7 (dk_at dksJ11_append_2 3 rfl rfl)
theorem dJ11_append_52 : decode cJ11_append 52 = .ok (.aload_n 0, 1) := dk_42 (dk_at dksJ11_append_2 6 rfl rfl)
theorem dJ11_append_53 : decode cJ11_append 53 = .ok (.invokevirtual 195, 3) := dk_182 0 195 (dk_at dksJ11_append_2 7 rfl rfl)
theorem dJ11_append_56 : decode cJ11_append 56 = .ok (.aload_n 0, 1) := dk_42 (dk_at dksJ11_append_2 10 rfl rfl)
theorem dJ11_append_57 : decode cJ11_append 57 = .ok (.getfield 15, 3) := dk_180 0 15 (dk_at dksJ11_append_2 11 rfl rfl)
theorem dJ11_append_60 : decode cJ11_append 60 = .ok (.aload_n 0, 1) := dk_42 (dk_at dksJ11_append_2 14 rfl rfl)
theorem dJ11_append_61 : decode cJ11_append 61 = .ok (.dup, 1) := dk_89 (dk_at dksJ11_append_2 15 rfl rfl)
theorem dJ11_append_62 : decode cJ11_append 62 = .ok (.getfield 79, 3) := dk_180 0 79 (dk_at dksJ11_append_2 16 rfl rfl)
theorem dJ11_append_65 : decode cJ11_append 65 = .ok (.dup_x1, 1) := dk_90 (dk_at dksJ11_append_2 19 rfl rfl)
theorem dJ11_append_66 : decode cJ11_append 66 = .ok (.iconst 1, 1) := dk_4 (dk_at dksJ11_append_2 20 rfl rfl)
theorem dJ11_append_67 : decode cJ11_append 67 = .ok (.iadd, 1) := dk_96 (dk_at dksJ11_append_2 21 rfl rfl)
theorem dJ11_append_68 : decode cJ11_append 68 = .ok (.putfield 79, 3) := dk_181 0 79 (dk_at dksJ11_append_3 0 rfl rfl)
theorem dJ11_append_71 : decode cJ11_append 71 = .ok (.iload_n 1, 1) := dk_27 (dk_at dksJ11_append_3 3 rfl rfl)
theorem dJ11_append_72 : decode cJ11_append 72 = .ok (.invokestatic 197, 3) := dk_184 0 197 (dk_at dksJ11_append_3 4 rfl rfl)
theorem dJ11_append_75 : decode cJ11_append 75 = .ok (.aload_n 0, 1) := dk_42 (dk_at dksJ11_append_3 7 rfl rfl)
theorem dJ11_append_76 : decode cJ11_append 76 = .ok (.areturn, 1) := dk_176 (dk_at dksJ11_append_3 8 rfl rfl)
def dkwJ11_ensureCapacityInternal_1 : List UInt8 := [182, 0, 104, 42, 180, 0, 22, 120, 184, 0, 108, 181, 0, 15, 177]
abbrev dktJ11_ensureCapacityInternal_1 : List UInt8 := dkwJ11_ensureCapacityInternal_1 ++ []
def dkwJ11_ensureCapacityInternal_0 : List UInt8 := [42, 180, 0, 15, 190, 42, 180, 0, 22, 122, 61, 27, 28, 100, 158, 0, 24, 42, 42, 180, 0, 15, 42, 27]
abbrev dktJ11_ensureCapacityInternal_0 : List UInt8 := dkwJ11_ensureCapacityInternal_0 ++ dktJ11_ensureCapacityInternal_1
theorem dksJ11_ensureCapacityInternal_0 : cJ11_ensureCapacityInternal.data.toList.drop 0 = dktJ11_ensureCapacityInternal_0 := by decide +kernel
theorem dksJ11_ensureCapacityInternal_1 : cJ11_ensureCapacityInternal.data.toList.drop 24 = dktJ11_ensureCapacityInternal_1 := dk_seg dksJ11_ensureCapacityInternal_0 24 rfl rfl
theorem dJ11_ensureCapacityInternal_0 : decode cJ11_ensureCapacityInternal 0 = .ok (.aload_n 0, 1) := dk_42 (dk_at dksJ11_ensureCapacityInternal_0 0 rfl rfl)
theorem dJ11_ensureCapacityInternal_1 : decode cJ11_ensureCapacityInternal 1 = .ok (.getfield 15, 3) := dk_180 0 15 (dk_at dksJ11_ensureCapacityInternal_0 1 rfl rfl)
theorem dJ11_ensureCapacityInternal_4 : decode cJ11_ensureCapacityInternal 4 = .ok (.arraylength, 1) := dk_190 (dk_at dksJ11_ensureCapacityInternal_0 4 rfl rfl)
theorem dJ11_ensureCapacityInternal_5 : decode cJ11_ensureCapacityInternal 5 = .ok (.aload_n 0, 1) := dk_42 (dk_at dksJ11_ensureCapacityInternal_0 5 rfl rfl)
theorem dJ11_ensureCapacityInternal_6 : decode cJ11_ensureCapacityInternal 6 = .ok (.getfield 22, 3) := dk_180 0 22 (dk_at dksJ11_ensureCapacityInternal_0 6 rfl rfl)
theorem dJ11_ensureCapacityInternal_9 : decode cJ11_ensureCapacityInternal 9 = .ok (.ishr, 1) := dk_122 (dk_at dksJ11_ensureCapacityInternal_0 9 rfl rfl)
theorem dJ11_ensureCapacityInternal_10 : decode cJ11_ensureCapacityInternal 10 = .ok (.istore_n 2, 1) := dk_61 (dk_at dksJ11_ensureCapacityInternal_0 10 rfl rfl)
theorem dJ11_ensureCapacityInternal_11 : decode cJ11_ensureCapacityInternal 11 = .ok (.iload_n 1, 1) := dk_27 (dk_at dksJ11_ensureCapacityInternal_0 11 rfl rfl)
theorem dJ11_ensureCapacityInternal_12 : decode cJ11_ensureCapacityInternal 12 = .ok (.iload_n 2, 1) := dk_28 (dk_at dksJ11_ensureCapacityInternal_0 12 rfl rfl)
theorem dJ11_ensureCapacityInternal_13 : decode cJ11_ensureCapacityInternal 13 = .ok (.isub, 1) := dk_100 (dk_at dksJ11_ensureCapacityInternal_0 13 rfl rfl)
theorem dJ11_ensureCapacityInternal_14 : decode cJ11_ensureCapacityInternal 14 = .ok (.ifCond .le 24, 3) := dk_158 0 24 (dk_at dksJ11_ensureCapacityInternal_0 14 rfl rfl)
theorem dJ11_ensureCapacityInternal_17 : decode cJ11_ensureCapacityInternal 17 = .ok (.aload_n 0, 1) := dk_42 (dk_at dksJ11_ensureCapacityInternal_0 17 rfl rfl)
theorem dJ11_ensureCapacityInternal_18 : decode cJ11_ensureCapacityInternal 18 = .ok (.aload_n 0, 1) := dk_42 (dk_at dksJ11_ensureCapacityInternal_0 18 rfl rfl)
theorem dJ11_ensureCapacityInternal_19 : decode cJ11_ensureCapacityInternal 19 = .ok (.getfield 15, 3) := dk_180 0 15 (dk_at dksJ11_ensureCapacityInternal_0 19 rfl rfl)
theorem dJ11_ensureCapacityInternal_22 : decode cJ11_ensureCapacityInternal 22 = .ok (.aload_n 0, 1) := dk_42 (dk_at dksJ11_ensureCapacityInternal_0 22 rfl rfl)
theorem dJ11_ensureCapacityInternal_23 : decode cJ11_ensureCapacityInternal 23 = .ok (.iload_n 1, 1) := dk_27 (dk_at dksJ11_ensureCapacityInternal_0 23 rfl rfl)
theorem dJ11_ensureCapacityInternal_24 : decode cJ11_ensureCapacityInternal 24 = .ok (.invokevirtual 104, 3) := dk_182 0 104 (dk_at dksJ11_ensureCapacityInternal_1 0 rfl rfl)
theorem dJ11_ensureCapacityInternal_27 : decode cJ11_ensureCapacityInternal 27 = .ok (.aload_n 0, 1) := dk_42 (dk_at dksJ11_ensureCapacityInternal_1 3 rfl rfl)
theorem dJ11_ensureCapacityInternal_28 : decode cJ11_ensureCapacityInternal 28 = .ok (.getfield 22, 3) := dk_180 0 22 (dk_at dksJ11_ensureCapacityInternal_1 4 rfl rfl)
theorem dJ11_ensureCapacityInternal_31 : decode cJ11_ensureCapacityInternal 31 = .ok (.ishl, 1) := dk_120 (dk_at dksJ11_ensureCapacityInternal_1 7 rfl rfl)
theorem dJ11_ensureCapacityInternal_32 : decode cJ11_ensureCapacityInternal 32 = .ok (.invokestatic 108, 3) := dk_184 0 108 (dk_at dksJ11_ensureCapacityInternal_1 8 rfl rfl)
theorem dJ11_ensureCapacityInternal_35 : decode cJ11_ensureCapacityInternal 35 = .ok (.putfield 15, 3) := dk_181 0 15 (dk_at dksJ11_ensureCapacityInternal_1 11 rfl rfl)
theorem dJ11_ensureCapacityInternal_38 : decode cJ11_ensureCapacityInternal 38 = .ok (.return_, 1) := dk_177 (dk_at dksJ11_ensureCapacityInternal_1 14 rfl rfl)
def dkwJ11_newCapacity_2 : List UInt8 := [183, 0, 124, 191, 21, 5, 42, 180, 0, 22, 122, 172]
abbrev dktJ11_newCapacity_2 : List UInt8 := dkwJ11_newCapacity_2 ++ []
def dkwJ11_newCapacity_1 : List UInt8 := [180, 0, 22, 120, 96, 184, 0, 114, 54, 5, 21, 5, 18, 39, 160, 0, 13, 187, 0, 120, 89, 18, 122]
abbrev dktJ11_newCapacity_1 : List UInt8 := dkwJ11_newCapacity_1 ++ dktJ11_newCapacity_2
def dkwJ11_newCapacity_0 : List UInt8 := [42, 180, 0, 15, 190, 61, 27, 42, 180, 0, 22, 120, 62, 29, 28, 100, 54, 4, 28, 21, 4, 28, 5, 42]
abbrev dktJ11_newCapacity_0 : List UInt8 := dkwJ11_newCapacity_0 ++ dktJ11_newCapacity_1
theorem dksJ11_newCapacity_0 : cJ11_newCapacity.data.toList.drop 0 = dktJ11_newCapacity_0 := by decide +kernel
theorem dksJ11_newCapacity_1 : cJ11_newCapacity.data.toList.drop 24 = dktJ11_newCapacity_1 := dk_seg dksJ11_newCapacity_0 24 rfl rfl
theorem dksJ11_newCapacity_2 : cJ11_newCapacity.data.toList.drop 47 = dktJ11_newCapacity_2 := dk_seg dksJ11_newCapacity_1 23 rfl rfl
theorem dJ11_newCapacity_0 : decode cJ11_newCapacity 0 = .ok (.aload_n 0, 1) := dk_42 (dk_at dksJ11_newCapacity_0 0 rfl rfl)
theorem dJ11_newCapacity_1 : decode cJ11_newCapacity 1 = .ok (.getfield 15, 3) := dk_180 0 15 (dk_at dksJ11_newCapacity_0 1 rfl rfl)
theorem dJ11_newCapacity_4 : decode cJ11_newCapacity 4 = .ok (.arraylength, 1) := dk_190 (dk_at dksJ11_newCapacity_0 4 rfl rfl)
theorem dJ11_newCapacity_5 : decode cJ11_newCapacity 5 = .ok (.istore_n 2, 1) := dk_61 (dk_at dksJ11_newCapacity_0 5 rfl rfl)
theorem dJ11_newCapacity_6 : decode cJ11_newCapacity 6 = .ok (.iload_n 1, 1) := dk_27 (dk_at dksJ11_newCapacity_0 6 rfl rfl)
theorem dJ11_newCapacity_7 : decode cJ11_newCapacity 7 = .ok (.aload_n 0, 1) := dk_42 (dk_at dksJ11_newCapacity_0 7 rfl rfl)
theorem dJ11_newCapacity_8 : decode cJ11_newCapacity 8 = .ok (.getfield 22, 3) := dk_180 0 22 (dk_at dksJ11_newCapacity_0 8 rfl rfl)
theorem dJ11_newCapacity_11 : decode cJ11_newCapacity 11 = .ok (.ishl, 1) := dk_120 (dk_at dksJ11_newCapacity_0 11 rfl rfl)
theorem dJ11_newCapacity_12 : decode cJ11_newCapacity 12 = .ok (.istore_n 3, 1) := dk_62 (dk_at dksJ11_newCapacity_0 12 rfl rfl)
theorem dJ11_newCapacity_13 : decode cJ11_newCapacity 13 = .ok (.iload_n 3, 1) := dk_29 (dk_at dksJ11_newCapacity_0 13 rfl rfl)
theorem dJ11_newCapacity_14 : decode cJ11_newCapacity 14 = .ok (.iload_n 2, 1) := dk_28 (dk_at dksJ11_newCapacity_0 14 rfl rfl)
theorem dJ11_newCapacity_15 : decode cJ11_newCapacity 15 = .ok (.isub, 1) := dk_100 (dk_at dksJ11_newCapacity_0 15 rfl rfl)
theorem dJ11_newCapacity_16 : decode cJ11_newCapacity 16 = .ok (.istore 4, 2) := dk_54 4 (dk_at dksJ11_newCapacity_0 16 rfl rfl)
theorem dJ11_newCapacity_18 : decode cJ11_newCapacity 18 = .ok (.iload_n 2, 1) := dk_28 (dk_at dksJ11_newCapacity_0 18 rfl rfl)
theorem dJ11_newCapacity_19 : decode cJ11_newCapacity 19 = .ok (.iload 4, 2) := dk_21 4 (dk_at dksJ11_newCapacity_0 19 rfl rfl)
theorem dJ11_newCapacity_21 : decode cJ11_newCapacity 21 = .ok (.iload_n 2, 1) := dk_28 (dk_at dksJ11_newCapacity_0 21 rfl rfl)
theorem dJ11_newCapacity_22 : decode cJ11_newCapacity 22 = .ok (.iconst 2, 1) := dk_5 (dk_at dksJ11_newCapacity_0 22 rfl rfl)
theorem dJ11_newCapacity_23 : decode cJ11_newCapacity 23 = .ok (.aload_n 0, 1) := dk_42 (dk_at dksJ11_newCapacity_0 23 rfl rfl)
theorem dJ11_newCapacity_24 : decode cJ11_newCapacity 24 = .ok (.getfield 22, 3) := dk_180 0 22 (dk_at dksJ11_newCapacity_1 0 rfl rfl)
theorem dJ11_newCapacity_27 : decode cJ11_newCapacity 27 = .ok (.ishl, 1) := dk_120 (dk_at dksJ11_newCapacity_1 3 rfl rfl)
theorem dJ11_newCapacity_28 : decode cJ11_newCapacity 28 = .ok (.iadd, 1) := dk_96 (dk_at dksJ11_newCapacity_1 4 rfl rfl)
theorem dJ11_newCapacity_29 : decode cJ11_newCapacity 29 = .ok (.invokestatic 114, 3) := dk_184 0 114 (dk_at dksJ11_newCapacity_1 5 rfl rfl)
theorem dJ11_newCapacity_32 : decode cJ11_newCapacity 32 = .ok (.istore 5, 2) := dk_54 5 (dk_at dksJ11_newCapacity_1 8 rfl rfl)
theorem dJ11_newCapacity_34 : decode cJ11_newCapacity 34 = .ok (.iload 5, 2) := dk_21 5 (dk_at dksJ11_newCapacity_1 10 rfl rfl)
theorem dJ11_newCapacity_36 : decode cJ11_newCapacity 36 = .ok (.ldc 39, 2) := dk_18 39 (dk_at dksJ11_newCapacity_1 12 rfl rfl)
theorem dJ11_newCapacity_38 : decode cJ11_newCapacity 38 = .ok (.if_icmp .ne 13, 3) := dk_160 0 13 (dk_at dksJ11_newCapacity_1 14 rfl rfl)
theorem dJ11_newCapacity_41 : decode cJ11_newCapacity 41 = .ok (.new 120, 3) := dk_187 0 120 (dk_at dksJ11_newCapacity_1 17 rfl rfl)
theorem dJ11_newCapacity_44 : decode cJ11_newCapacity 44 = .ok (.dup, 1) := dk_89 (dk_at dksJ11_newCapacity_1 20 rfl rfl)
theorem dJ11_newCapacity_45 : decode cJ11_newCapacity 45 = .ok (.ldc 122, 2) := dk_18 122 (dk_at dksJ11_newCapacity_1 21 rfl rfl)
theorem dJ11_newCapacity_47 : decode cJ11_newCapacity 47 = .ok (.invokespecial 124, 3) := dk_183 0 124 (dk_at dksJ11_newCapacity_2 0 rfl rfl)
theorem dJ11_newCapacity_50 : decode cJ11_newCapacity 50 = .ok (.athrow, 1) := dk_191 (dk_at dksJ11_newCapacity_2 3 rfl rfl)
theorem dJ11_newCapacity_51 : decode cJ11_newCapacity 51 = .ok (.iload 5, 2) := dk_21 5 (dk_at dksJ11_newCapacity_2 4 rfl rfl)
theorem dJ11_newCapacity_53 : decode cJ11_newCapacity 53 = .ok (.aload_n 0, 1) := dk_42 (dk_at dksJ11_newCapacity_2 6 rfl rfl)
theorem dJ11_newCapacity_54 : decode cJ11_newCapacity 54 = .ok (.getfield 22, 3) := dk_180 0 22 (dk_at dksJ11_newCapacity_2 7 rfl rfl)
theorem dJ11_newCapacity_57 : decode cJ11_newCapacity 57 = .ok (.ishr, 1) := dk_122 (dk_at dksJ11_newCapacity_2 10 rfl rfl)
theorem dJ11_newCapacity_58 : decode cJ11_newCapacity 58 = .ok (.ireturn, 1) := dk_172 (dk_at dksJ11_newCapacity_2 11 rfl rfl)
def dkwJ11_isLatin1_0 : List UInt8 := [178, 0, 18, 153, 0, 14, 42, 180, 0, 22, 154, 0, 7, 4, 167, 0, 4, 3, 172]
abbrev dktJ11_isLatin1_0 : List UInt8 := dkwJ11_isLatin1_0 ++ []
theorem dksJ11_isLatin1_0 : cJ11_isLatin1.data.toList.drop 0 = dktJ11_isLatin1_0 := by decide +kernel
theorem dJ11_isLatin1_0 : decode cJ11_isLatin1 0 = .ok (.getstatic 18, 3) := dk_178 0 18 (dk_at dksJ11_isLatin1_0 0 rfl rfl)
theorem dJ11_isLatin1_3 : decode cJ11_isLatin1 3 = .ok (.ifCond .eq 14, 3) := dk_153 0 14 (dk_at dksJ11_isLatin1_0 3 rfl rfl)
theorem dJ11_isLatin1_6 : decode cJ11_isLatin1 6 = .ok (.aload_n 0, 1) := dk_42 (dk_at dksJ11_isLatin1_0 6 rfl rfl)
theorem dJ11_isLatin1_7 : decode cJ11_isLatin1 7 = .ok (.getfield 22, 3) := dk_180 0 22 (dk_at dksJ11_isLatin1_0 7 rfl rfl)
theorem dJ11_isLatin1_10 : decode cJ11_isLatin1 10 = .ok (.ifCond .ne 7, 3) := dk_154 0 7 (dk_at dksJ11_isLatin1_0 10 rfl rfl)
theorem dJ11_isLatin1_13 : decode cJ11_isLatin1 13 = .ok (.iconst 1, 1) := dk_4 (dk_at dksJ11_isLatin1_0 13 rfl rfl)
theorem dJ11_isLatin1_14 : decode cJ11_isLatin1 14 = .ok (.goto 4, 3) := dk_167 0 4 (dk_at dksJ11_isLatin1_0 14 rfl rfl)
theorem dJ11_isLatin1_17 : decode cJ11_isLatin1 17 = .ok (.iconst 0, 1) := dk_3 (dk_at dksJ11_isLatin1_0 17 rfl rfl)
theorem dJ11_isLatin1_18 : decode cJ11_isLatin1 18 = .ok (.ireturn, 1) := dk_172 (dk_at dksJ11_isLatin1_0 18 rfl rfl)
def dkwJ11_inflate_1 : List UInt8 := [42, 180, 0, 79, 184, 0, 125, 42, 43, 181, 0, 15, 42, 4, 181, 0, 22, 177]
abbrev dktJ11_inflate_1 : List UInt8 := dkwJ11_inflate_1 ++ []
def dkwJ11_inflate_0 : List UInt8 := [42, 182, 0, 83, 154, 0, 4, 177, 42, 180, 0, 15, 190, 184, 0, 26, 76, 42, 180, 0, 15, 3, 43, 3]
abbrev dktJ11_inflate_0 : List UInt8 := dkwJ11_inflate_0 ++ dktJ11_inflate_1
theorem dksJ11_inflate_0 : cJ11_inflate.data.toList.drop 0 = dktJ11_inflate_0 := by decide +kernel
theorem dksJ11_inflate_1 : cJ11_inflate.data.toList.drop 24 = dktJ11_inflate_1 := dk_seg dksJ11_inflate_0 24 rfl rfl
theorem dJ11_inflate_0 : decode cJ11_inflate 0 = .ok (.aload_n 0, 1) := dk_42 (dk_at dksJ11_inflate_0 0 rfl rfl)
theorem dJ11_inflate_1 : decode cJ11_inflate 1 = .ok (.invokevirtual 83, 3) := dk_182 0 83 (dk_at dksJ11_inflate_0 1 rfl rfl)
theorem dJ11_inflate_4 : decode cJ11_inflate 4 = .ok (.ifCond .ne 4, 3) := dk_154 0 4 (dk_at dksJ11_inflate_0 4 rfl rfl)
theorem dJ11_inflate_7 : decode cJ11_inflate 7 = .ok (.return_, 1) := dk_177 (dk_at dksJ11_inflate_0 7 rfl rfl)
theorem dJ11_inflate_8 : decode cJ11_inflate 8 = .ok (.aload_n 0, 1) := dk_42 (dk_at dksJ11_inflate_0 8 rfl rfl)
theorem dJ11_inflate_9 : decode cJ11_inflate 9 = .ok (.getfield 15, 3) := dk_180 0 15 (dk_at dksJ11_inflate_0 9 rfl rfl)
theorem dJ11_inflate_12 : decode cJ11_inflate 12 = .ok (.arraylength, 1) := dk_190 (dk_at dksJ11_inflate_0 12 rfl rfl)
theorem dJ11_inflate_13 : decode cJ11_inflate 13 = .ok (.invokestatic 26, 3) := dk_184 0 26 (dk_at dksJ11_inflate_0 13 rfl rfl)
theorem dJ11_inflate_16 : decode cJ11_inflate 16 = .ok (.astore_n 1, 1) := dk_76 (dk_at dksJ11_inflate_0 16 rfl rfl)
theorem dJ11_inflate_17 : decode cJ11_inflate 17 = .ok (.aload_n 0, 1) := dk_42 (dk_at dksJ11_inflate_0 17 rfl rfl)
theorem dJ11_inflate_18 : decode cJ11_inflate 18 = .ok (.getfield 15, 3) := dk_180 0 15 (dk_at dksJ11_inflate_0 18 rfl rfl)
theorem dJ11_inflate_21 : decode cJ11_inflate 21 = .ok (.iconst 0, 1) := dk_3 (dk_at dksJ11_inflate_0 21 rfl rfl)
theorem dJ11_inflate_22 : decode cJ11_inflate 22 = .ok (.aload_n 1, 1) := dk_43 (dk_at dksJ11_inflate_0 22 rfl rfl)
theorem dJ11_inflate_23 : decode cJ11_inflate 23 = .ok (.iconst 0, 1) := dk_3 (dk_at dksJ11_inflate_0 23 rfl rfl)
theorem dJ11_inflate_24 : decode cJ11_inflate 24 = .ok (.aload_n 0, 1) := dk_42 (dk_at dksJ11_inflate_1 0 rfl rfl)
theorem dJ11_inflate_25 : decode cJ11_inflate 25 = .ok (.getfield 79, 3) := dk_180 0 79 (dk_at dksJ11_inflate_1 1 rfl rfl)
theorem dJ11_inflate_28 : decode cJ11_inflate 28 = .ok (.invokestatic 125, 3) := dk_184 0 125 (dk_at dksJ11_inflate_1 4 rfl rfl)
theorem dJ11_inflate_31 : decode cJ11_inflate 31 = .ok (.aload_n 0, 1) := dk_42 (dk_at dksJ11_inflate_1 7 rfl rfl)
theorem dJ11_inflate_32 : decode cJ11_inflate 32 = .ok (.aload_n 1, 1) := dk_43 (dk_at dksJ11_inflate_1 8 rfl rfl)
theorem dJ11_inflate_33 : decode cJ11_inflate 33 = .ok (.putfield 15, 3) := dk_181 0 15 (dk_at dksJ11_inflate_1 9 rfl rfl)
theorem dJ11_inflate_36 : decode cJ11_inflate 36 = .ok (.aload_n 0, 1) := dk_42 (dk_at dksJ11_inflate_1 12 rfl rfl)
theorem dJ11_inflate_37 : decode cJ11_inflate 37 = .ok (.iconst 1, 1) := dk_4 (dk_at dksJ11_inflate_1 13 rfl rfl)
theorem dJ11_inflate_38 : decode cJ11_inflate 38 = .ok (.putfield 22, 3) := dk_181 0 22 (dk_at dksJ11_inflate_1 14 rfl rfl)
theorem dJ11_inflate_41 : decode cJ11_inflate 41 = .ok (.return_, 1) := dk_177 (dk_at dksJ11_inflate_1 17 rfl rfl)
theorem dJ11_getValue_0 : decode cJ11_getValue 0 = .ok (.aload_n 0, 1) := by decide +kernel
theorem dJ11_getValue_1 : decode cJ11_getValue 1 = .ok (.getfield 15, 3) := by decide +kernel
theorem dJ11_getValue_4 : decode cJ11_getValue 4 = .ok (.areturn, 1) := by decide +kernel
theorem dJ11_length_0 : decode cJ11_length 0 = .ok (.aload_n 0, 1) := by decide +kernel
theorem dJ11_length_1 : decode cJ11_length 1 = .ok (.getfield 79, 3) := by decide +kernel
theorem dJ11_length_4 : decode cJ11_length 4 = .ok (.ireturn, 1) := by decide +kernel
def dkwJ12_init_0 : List UInt8 := [42, 16, 16, 183, 0, 1, 177]
abbrev dktJ12_init_0 : List UInt8 := dkwJ12_init_0 ++ []
theorem dksJ12_init_0 : cJ12_init.data.toList.drop 0 = dktJ12_init_0 := by decide +kernel
theorem dJ12_init_0 : decode cJ12_init 0 = .ok (.aload_n 0, 1) := dk_42 (dk_at dksJ12_init_0 0 rfl rfl)
theorem dJ12_init_1 : decode cJ12_init 1 = .ok (.bipush 16, 2) := dk_16 16 (dk_at dksJ12_init_0 1 rfl rfl)
theorem dJ12_init_3 : decode cJ12_init 3 = .ok (.invokespecial 1, 3) := dk_183 0 1 (dk_at dksJ12_init_0 3 rfl rfl)
theorem dJ12_init_6 : decode cJ12_init 6 = .ok (.return_, 1) := dk_177 (dk_at dksJ12_init_0 6 rfl rfl)
def dkwJ12_append_0 : List UInt8 := [42, 27, 183, 0, 50, 87, 42, 176]
abbrev dktJ12_append_0 : List UInt8 := dkwJ12_append_0 ++ []
theorem dksJ12_append_0 : cJ12_append.data.toList.drop 0 = dktJ12_append_0 := by decide +kernel
theorem dJ12_append_0 : decode cJ12_append 0 = .ok (.aload_n 0, 1) := dk_42 (dk_at dksJ12_append_0 0 rfl rfl)
theorem dJ12_append_1 : decode cJ12_append 1 = .ok (.iload_n 1, 1) := dk_27 (dk_at dksJ12_append_0 1 rfl rfl)
theorem dJ12_append_2 : decode cJ12_append 2 = .ok (.invokespecial 50, 3) := dk_183 0 50 (dk_at dksJ12_append_0 2 rfl rfl)
theorem dJ12_append_5 : decode cJ12_append 5 = .ok (.pop, 1) := dk_87 (dk_at dksJ12_append_0 5 rfl rfl)
theorem dJ12_append_6 : decode cJ12_append 6 = .ok (.aload_n 0, 1) := dk_42 (dk_at dksJ12_append_0 6 rfl rfl)
theorem dJ12_append_7 : decode cJ12_append 7 = .ok (.areturn, 1) := dk_176 (dk_at dksJ12_append_0 7 rfl rfl)
def dkwJ12_toString_0 : List UInt8 := [187, 0, 18, 89, 42, 183, 0, 137, 176]
abbrev dktJ12_toString_0 : List UInt8 := dkwJ12_toString_0 ++ []
theorem dksJ12_toString_0 : cJ12_toString.data.toList.drop 0 = dktJ12_toString_0 := by decide +kernel
theorem dJ12_toString_0 : decode cJ12_toString 0 = .ok (.new 18, 3) := dk_187 0 18 (dk_at dksJ12_toString_0 0 rfl rfl)
theorem dJ12_toString_3 : decode cJ12_toString 3 = .ok (.dup, 1) := dk_89 (dk_at dksJ12_toString_0 3 rfl rfl)
theorem dJ12_toString_4 : decode cJ12_toString 4 = .ok (.aload_n 0, 1) := dk_42 (dk_at dksJ12_toString_0 4 rfl rfl)
theorem dJ12_toString_5 : decode cJ12_toString 5 = .ok (.invokespecial 137, 3) := dk_183 0 137 (dk_at dksJ12_toString_0 5 rfl rfl)
theorem dJ12_toString_8 : decode cJ12_toString 8 = .ok (.areturn, 1) := dk_176 (dk_at dksJ12_toString_0 8 rfl rfl)
theorem dJ12_length_0 : decode cJ12_length 0 = .ok (.aload_n 0, 1) := by decide +kernel
theorem dJ12_length_1 : decode cJ12_length 1 = .ok (.invokespecial 343, 3) := by decide +kernel
theorem dJ12_length_4 : decode cJ12_length 4 = .ok (.ireturn, 1) := by decide +kernel
def dkwJ15_copyOf_1 : List UInt8 := [27, 184, 1, 48, 184, 0, 150, 44, 176]
abbrev dktJ15_copyOf_1 : List UInt8 := dkwJ15_copyOf_1 ++ []
def dkwJ15_copyOf_0 : List UInt8 := [27, 42, 190, 160, 0, 11, 42, 182, 1, 54, 192, 1, 55, 176, 27, 188, 8, 77, 42, 3, 44, 3, 42, 190]
abbrev dktJ15_copyOf_0 : List UInt8 := dkwJ15_copyOf_0 ++ dktJ15_copyOf_1
theorem dksJ15_copyOf_0 : cJ15_copyOf.data.toList.drop 0 = dktJ15_copyOf_0 := by decide +kernel
theorem dksJ15_copyOf_1 : cJ15_copyOf.data.toList.drop 24 = dktJ15_copyOf_1 := dk_seg dksJ15_copyOf_0 24 rfl rfl
theorem dJ15_copyOf_0 : decode cJ15_copyOf 0 = .ok (.iload_n 1, 1) := dk_27 (dk_at dksJ15_copyOf_0 0 rfl rfl)
theorem dJ15_copyOf_1 : decode cJ15_copyOf 1 = .ok (.aload_n 0, 1) := dk_42 (dk_at dksJ15_copyOf_0 1 rfl rfl)
theorem dJ15_copyOf_2 : decode cJ15_copyOf 2 = .ok (.arraylength, 1) := dk_190 (dk_at dksJ15_copyOf_0 2 rfl rfl)
theorem dJ15_copyOf_3 : decode cJ15_copyOf 3 = .ok (.if_icmp .ne 11, 3) := dk_160 0 11 (dk_at dksJ15_copyOf_0 3 rfl rfl)
theorem dJ15_copyOf_6 : decode cJ15_copyOf 6 = .ok (.aload_n 0, 1) := dk_42 (dk_at dksJ15_copyOf_0 6 rfl rfl)
theorem dJ15_copyOf_7 : decode cJ15_copyOf 7 = .ok (.invokevirtual 310, 3) := dk_182 1 54 (dk_at dksJ15_copyOf_0 7 rfl rfl)
theorem dJ15_copyOf_10 : decode cJ15_copyOf 10 = .ok (.checkcast 311, 3) := dk_192 1 55 (dk_at dksJ15_copyOf_0 10 rfl rfl)
theorem dJ15_copyOf_13 : decode cJ15_copyOf 13 = .ok (.areturn, 1) := dk_176 (dk_at dksJ15_copyOf_0 13 rfl rfl)
theorem dJ15_copyOf_14 : decode cJ15_copyOf 14 = .ok (.iload_n 1, 1) := dk_27 (dk_at dksJ15_copyOf_0 14 rfl rfl)
theorem dJ15_copyOf_15 : decode cJ15_copyOf 15 = .ok (.newarray .byte, 2) := dk_188_8 (dk_at dksJ15_copyOf_0 15 rfl rfl)
theorem dJ15_copyOf_17 : decode cJ15_copyOf 17 = .ok (.astore_n 2, 1) := dk_77 (dk_at dksJ15_copyOf_0 17 rfl rfl)
theorem dJ15_copyOf_18 : decode cJ15_copyOf 18 = .ok (.aload_n 0, 1) := dk_42 (dk_at dksJ15_copyOf_0 18 rfl rfl)
theorem dJ15_copyOf_19 : decode cJ15_copyOf 19 = .ok (.iconst 0, 1) := dk_3 (dk_at dksJ15_copyOf_0 19 rfl rfl)
theorem dJ15_copyOf_20 : decode cJ15_copyOf 20 = .ok (.aload_n 2, 1) := dk_44 (dk_at dksJ15_copyOf_0 20 rfl rfl)
theorem dJ15_copyOf_21 : decode cJ15_copyOf 21 = .ok (.iconst 0, 1) := dk_3 (dk_at dksJ15_copyOf_0 21 rfl rfl)
theorem dJ15_copyOf_22 : decode cJ15_copyOf 22 = .ok (.aload_n 0, 1) := dk_42 (dk_at dksJ15_copyOf_0 22 rfl rfl)
theorem dJ15_copyOf_23 : decode cJ15_copyOf 23 = .ok (.arraylength, 1) := dk_190 (dk_at dksJ15_copyOf_0 23 rfl rfl)
theorem dJ15_copyOf_24 : decode cJ15_copyOf 24 = .ok (.iload_n 1, 1) := dk_27 (dk_at dksJ15_copyOf_1 0 rfl rfl)
theorem dJ15_copyOf_25 : decode cJ15_copyOf 25 = .ok (.invokestatic 304, 3) := dk_184 1 48 (dk_at dksJ15_copyOf_1 1 rfl rfl)
theorem dJ15_copyOf_28 : decode cJ15_copyOf 28 = .ok (.invokestatic 150, 3) := dk_184 0 150 (dk_at dksJ15_copyOf_1 4 rfl rfl)
theorem dJ15_copyOf_31 : decode cJ15_copyOf 31 = .ok (.aload_n 2, 1) := dk_44 (dk_at dksJ15_copyOf_1 7 rfl rfl)
theorem dJ15_copyOf_32 : decode cJ15_copyOf 32 = .ok (.areturn, 1) := dk_176 (dk_at dksJ15_copyOf_1 8 rfl rfl)
def dkwJ15_copyOfRange_1 : List UInt8 := [176]
abbrev dktJ15_copyOfRange_1 : List UInt8 := dkwJ15_copyOfRange_1 ++ []
def dkwJ15_copyOfRange_0 : List UInt8 := [27, 154, 0, 9, 28, 42, 190, 159, 0, 10, 42, 27, 28, 184, 1, 83, 176, 42, 182, 1, 54, 192, 1, 55]
abbrev dktJ15_copyOfRange_0 : List UInt8 := dkwJ15_copyOfRange_0 ++ dktJ15_copyOfRange_1
theorem dksJ15_copyOfRange_0 : cJ15_copyOfRange.data.toList.drop 0 = dktJ15_copyOfRange_0 := by decide +kernel
theorem dksJ15_copyOfRange_1 : cJ15_copyOfRange.data.toList.drop 24 = dktJ15_copyOfRange_1 := dk_seg dksJ15_copyOfRange_0 24 rfl rfl
theorem dJ15_copyOfRange_0 : decode cJ15_copyOfRange 0 = .ok (.iload_n 1, 1) := dk_27 (dk_at dksJ15_copyOfRange_0 0 rfl rfl)
theorem dJ15_copyOfRange_1 : decode cJ15_copyOfRange 1 = .ok (.ifCond .ne 9, 3) := dk_154 0 9 (dk_at dksJ15_copyOfRange_0 1 rfl rfl)
theorem dJ15_copyOfRange_4 : decode cJ15_copyOfRange 4 = .ok (.iload_n 2, 1) := dk_28 (dk_at dksJ15_copyOfRange_0 4 rfl rfl)
theorem dJ15_copyOfRange_5 : decode cJ15_copyOfRange 5 = .ok (.aload_n 0, 1) := dk_42 (dk_at dksJ15_copyOfRange_0 5 rfl rfl)
theorem dJ15_copyOfRange_6 : decode cJ15_copyOfRange 6 = .ok (.arraylength, 1) := dk_190 (dk_at dksJ15_copyOfRange_0 6 rfl rfl)
theorem dJ15_copyOfRange_7 : decode cJ15_copyOfRange 7 = .ok (.if_icmp .eq 10, 3) := dk_159 0 10 (dk_at dksJ15_copyOfRange_0 7 rfl rfl)
theorem dJ15_copyOfRange_10 : decode cJ15_copyOfRange 10 = .ok (.aload_n 0, 1) := dk_42 (dk_at dksJ15_copyOfRange_0 10 rfl rfl)
theorem dJ15_copyOfRange_11 : decode cJ15_copyOfRange 11 = .ok (.iload_n 1, 1) := dk_27 (dk_at dksJ15_copyOfRange_0 11 rfl rfl)
theorem dJ15_copyOfRange_12 : decode cJ15_copyOfRange 12 = .ok (.iload_n 2, 1) := dk_28 (dk_at dksJ15_copyOfRange_0 12 rfl rfl)
theorem dJ15_copyOfRange_13 : decode cJ15_copyOfRange 13 = .ok (.invokestatic 339, 3) := dk_184 1 83 (dk_at dksJ15_copyOfRange_0 13 rfl rfl)
theorem dJ15_copyOfRange_16 : decode cJ15_copyOfRange 16 = .ok (.areturn, 1) := dk_176 (dk_at dksJ15_copyOfRange_0 16 rfl rfl)
theorem dJ15_copyOfRange_17 : decode cJ15_copyOfRange 17 = .ok (.aload_n 0, 1) := dk_42 (dk_at dksJ15_copyOfRange_0 17 rfl rfl)
theorem dJ15_copyOfRange_18 : decode cJ15_copyOfRange 18 = .ok (.invokevirtual 310, 3) := dk_182 1 54 (dk_at dksJ15_copyOfRange_0 18 rfl rfl)
theorem dJ15_copyOfRange_21 : decode cJ15_copyOfRange 21 = .ok (.checkcast 311, 3) := dk_192 1 55 (dk_at dksJ15_copyOfRange_0 21 rfl rfl)
theorem dJ15_copyOfRange_24 : decode cJ15_copyOfRange 24 = .ok (.areturn, 1) := dk_176 (dk_at dksJ15_copyOfRange_1 0 rfl rfl)
def dkwJ15_copyOfRangeByte_1 : List UInt8 := [184, 1, 48, 184, 0, 150, 25, 4, 176]
abbrev dktJ15_copyOfRangeByte_1 : List UInt8 := dkwJ15_copyOfRangeByte_1 ++ []
def dkwJ15_copyOfRangeByte_0 : List UInt8 := [27, 28, 184, 1, 87, 28, 27, 100, 62, 29, 188, 8, 58, 4, 42, 27, 25, 4, 3, 42, 190, 27, 100, 29]
abbrev dktJ15_copyOfRangeByte_0 : List UInt8 := dkwJ15_copyOfRangeByte_0 ++ dktJ15_copyOfRangeByte_1
theorem dksJ15_copyOfRangeByte_0 : cJ15_copyOfRangeByte.data.toList.drop 0 = dktJ15_copyOfRangeByte_0 := by decide +kernel
theorem dksJ15_copyOfRangeByte_1 : cJ15_copyOfRangeByte.data.toList.drop 24 = dktJ15_copyOfRangeByte_1 := dk_seg dksJ15_copyOfRangeByte_0 24 rfl rfl
theorem dJ15_copyOfRangeByte_0 : decode cJ15_copyOfRangeByte 0 = .ok (.iload_n 1, 1) := dk_27 (dk_at dksJ15_copyOfRangeByte_0 0 rfl rfl)
theorem dJ15_copyOfRangeByte_1 : decode cJ15_copyOfRangeByte 1 = .ok (.iload_n 2, 1) := dk_28 (dk_at dksJ15_copyOfRangeByte_0 1 rfl rfl)
theorem dJ15_copyOfRangeByte_2 : decode cJ15_copyOfRangeByte 2 = .ok (.invokestatic 343, 3) := dk_184 1 87 (dk_at dksJ15_copyOfRangeByte_0 2 rfl rfl)
theorem dJ15_copyOfRangeByte_5 : decode cJ15_copyOfRangeByte 5 = .ok (.iload_n 2, 1) := dk_28 (dk_at dksJ15_copyOfRangeByte_0 5 rfl rfl)
theorem dJ15_copyOfRangeByte_6 : decode cJ15_copyOfRangeByte 6 = .ok (.iload_n 1, 1) := dk_27 (dk_at dksJ15_copyOfRangeByte_0 6 rfl rfl)
theorem dJ15_copyOfRangeByte_7 : decode cJ15_copyOfRangeByte 7 = .ok (.isub, 1) := dk_100 (dk_at dksJ15_copyOfRangeByte_0 7 rfl rfl)
theorem dJ15_copyOfRangeByte_8 : decode cJ15_copyOfRangeByte 8 = .ok (.istore_n 3, 1) := dk_62 (dk_at dksJ15_copyOfRangeByte_0 8 rfl rfl)
theorem dJ15_copyOfRangeByte_9 : decode cJ15_copyOfRangeByte 9 = .ok (.iload_n 3, 1) := dk_29 (dk_at dksJ15_copyOfRangeByte_0 9 rfl rfl)
theorem dJ15_copyOfRangeByte_10 : decode cJ15_copyOfRangeByte 10 = .ok (.newarray .byte, 2) := dk_188_8 (dk_at dksJ15_copyOfRangeByte_0 10 rfl rfl)
theorem dJ15_copyOfRangeByte_12 : decode cJ15_copyOfRangeByte 12 = .ok (.astore 4, 2) := dk_58 4 (dk_at dksJ15_copyOfRangeByte_0 12 rfl rfl)
theorem dJ15_copyOfRangeByte_14 : decode cJ15_copyOfRangeByte 14 = .ok (.aload_n 0, 1) := dk_42 (dk_at dksJ15_copyOfRangeByte_0 14 rfl rfl)
theorem dJ15_copyOfRangeByte_15 : decode cJ15_copyOfRangeByte 15 = .ok (.iload_n 1, 1) := dk_27 (dk_at dksJ15_copyOfRangeByte_0 15 rfl rfl)
theorem dJ15_copyOfRangeByte_16 : decode cJ15_copyOfRangeByte 16 = .ok (.aload 4, 2) := dk_25 4 (dk_at dksJ15_copyOfRangeByte_0 16 rfl rfl)
theorem dJ15_copyOfRangeByte_18 : decode cJ15_copyOfRangeByte 18 = .ok (.iconst 0, 1) := dk_3 (dk_at dksJ15_copyOfRangeByte_0 18 rfl rfl)
theorem dJ15_copyOfRangeByte_19 : decode cJ15_copyOfRangeByte 19 = .ok (.aload_n 0, 1) := dk_42 (dk_at dksJ15_copyOfRangeByte_0 19 rfl rfl)
theorem dJ15_copyOfRangeByte_20 : decode cJ15_copyOfRangeByte 20 = .ok (.arraylength, 1) := dk_190 (dk_at dksJ15_copyOfRangeByte_0 20 rfl rfl)
theorem dJ15_copyOfRangeByte_21 : decode cJ15_copyOfRangeByte 21 = .ok (.iload_n 1, 1) := dk_27 (dk_at dksJ15_copyOfRangeByte_0 21 rfl rfl)
theorem dJ15_copyOfRangeByte_22 : decode cJ15_copyOfRangeByte 22 = .ok (.isub, 1) := dk_100 (dk_at dksJ15_copyOfRangeByte_0 22 rfl rfl)
theorem dJ15_copyOfRangeByte_23 : decode cJ15_copyOfRangeByte 23 = .ok (.iload_n 3, 1) := dk_29 (dk_at dksJ15_copyOfRangeByte_0 23 rfl rfl)
theorem dJ15_copyOfRangeByte_24 : decode cJ15_copyOfRangeByte 24 = .ok (.invokestatic 304, 3) := dk_184 1 48 (dk_at dksJ15_copyOfRangeByte_1 0 rfl rfl)
theorem dJ15_copyOfRangeByte_27 : decode cJ15_copyOfRangeByte 27 = .ok (.invokestatic 150, 3) := dk_184 0 150 (dk_at dksJ15_copyOfRangeByte_1 3 rfl rfl)
theorem dJ15_copyOfRangeByte_30 : decode cJ15_copyOfRangeByte 30 = .ok (.aload 4, 2) := dk_25 4 (dk_at dksJ15_copyOfRangeByte_1 6 rfl rfl)
theorem dJ15_copyOfRangeByte_32 : decode cJ15_copyOfRangeByte 32 = .ok (.areturn, 1) := dk_176 (dk_at dksJ15_copyOfRangeByte_1 8 rfl rfl)
def dkwJ15_checkLength_1 : List UInt8 := [182, 0, 50, 27, 182, 0, 54, 182, 0, 61, 183, 0, 65, 191, 177]
abbrev dktJ15_checkLength_1 : List UInt8 := dkwJ15_checkLength_1 ++ []
def dkwJ15_checkLength_0 : List UInt8 := [27, 26, 162, 0, 35, 187, 0, 43, 89, 187, 0, 45, 89, 183, 0, 47, 26, 182, 0, 54, 19, 1, 81]
abbrev dktJ15_checkLength_0 : List UInt8 := dkwJ15_checkLength_0 ++ dktJ15_checkLength_1
theorem dksJ15_checkLength_0 : cJ15_checkLength.data.toList.drop 0 = dktJ15_checkLength_0 := by decide +kernel
theorem dksJ15_checkLength_1 : cJ15_checkLength.data.toList.drop 23 = dktJ15_checkLength_1 := dk_seg dksJ15_checkLength_0 23 rfl rfl
theorem dJ15_checkLength_0 : decode cJ15_checkLength 0 = .ok (.iload_n 1, 1) := dk_27 (dk_at dksJ15_checkLength_0 0 rfl rfl)
theorem dJ15_checkLength_1 : decode cJ15_checkLength 1 = .ok (.iload_n 0, 1) := dk_26 (dk_at dksJ15_checkLength_0 1 rfl rfl)
theorem dJ15_checkLength_2 : decode cJ15_checkLength 2 = .ok (.if_icmp .ge 35, 3) := dk_162 0 35 (dk_at dksJ15_checkLength_0 2 rfl rfl)
theorem dJ15_checkLength_5 : decode cJ15_checkLength 5 = .ok (.new 43, 3) := dk_187 0 43 (dk_at dksJ15_checkLength_0 5 rfl rfl)
theorem dJ15_checkLength_8 : decode cJ15_checkLength 8 = .ok (.dup, 1) := dk_89 (dk_at dksJ15_checkLength_0 8 rfl rfl)
theorem dJ15_checkLength_9 : decode cJ15_checkLength 9 = .ok (.new 45, 3) := dk_187 0 45 (dk_at dksJ15_checkLength_0 9 rfl rfl)
theorem dJ15_checkLength_12 : decode cJ15_checkLength 12 = .ok (.dup, 1) := dk_89 (dk_at dksJ15_checkLength_0 12 rfl rfl)
theorem dJ15_checkLength_13 : decode cJ15_checkLength 13 = .ok (.invokespecial 47, 3) := dk_183 0 47 (dk_at dksJ15_checkLength_0 13 rfl rfl)
theorem dJ15_checkLength_16 : decode cJ15_checkLength 16 = .ok (.iload_n 0, 1) := dk_26 (dk_at dksJ15_checkLength_0 16 rfl rfl)
theorem dJ15_checkLength_17 : decode cJ15_checkLength 17 = .ok (.invokevirtual 54, 3) := dk_182 0 54 (dk_at dksJ15_checkLength_0 17 rfl rfl)
theorem dJ15_checkLength_20 : decode cJ15_checkLength 20 = .ok (.ldc_w 337, 3) := dk_19 1 81 (dk_at dksJ15_checkLength_0 20 rfl rfl)
theorem dJ15_checkLength_23 : decode cJ15_checkLength 23 = .ok (.invokevirtual 50, 3) := dk_182 0 50 (dk_at dksJ15_checkLength_1 0 rfl rfl)
theorem dJ15_checkLength_26 : decode cJ15_checkLength 26 = .ok (.iload_n 1, 1) := dk_27 (dk_at dksJ15_checkLength_1 3 rfl rfl)
theorem dJ15_checkLength_27 : decode cJ15_checkLength 27 = .ok (.invokevirtual 54, 3) := dk_182 0 54 (dk_at dksJ15_checkLength_1 4 rfl rfl)
theorem dJ15_checkLength_30 : decode cJ15_checkLength 30 = .ok (.invokevirtual 61, 3) := dk_182 0 61 (dk_at dksJ15_checkLength_1 7 rfl rfl)
theorem dJ15_checkLength_33 : decode cJ15_checkLength 33 = .ok (.invokespecial 65, 3) := dk_183 0 65 (dk_at dksJ15_checkLength_1 10 rfl rfl)
theorem dJ15_checkLength_36 : decode cJ15_checkLength 36 = .ok (.athrow, 1) := dk_191 (dk_at dksJ15_checkLength_1 13 rfl rfl)
theorem dJ15_checkLength_37 : decode cJ15_checkLength 37 = .ok (.return_, 1) := dk_177 (dk_at dksJ15_checkLength_1 14 rfl rfl)
def dkwJ15_copyOf_2_0 : List UInt8 := [42, 27, 42, 182, 0, 86, 184, 1, 44, 176]
abbrev dktJ15_copyOf_2_0 : List UInt8 := dkwJ15_copyOf_2_0 ++ []
theorem dksJ15_copyOf_2_0 : cJ15_copyOf_2.data.toList.drop 0 = dktJ15_copyOf_2_0 := by decide +kernel
theorem dJ15_copyOf_2_0 : decode cJ15_copyOf_2 0 = .ok (.aload_n 0, 1) := dk_42 (dk_at dksJ15_copyOf_2_0 0 rfl rfl)
theorem dJ15_copyOf_2_1 : decode cJ15_copyOf_2 1 = .ok (.iload_n 1, 1) := dk_27 (dk_at dksJ15_copyOf_2_0 1 rfl rfl)
theorem dJ15_copyOf_2_2 : decode cJ15_copyOf_2 2 = .ok (.aload_n 0, 1) := dk_42 (dk_at dksJ15_copyOf_2_0 2 rfl rfl)
theorem dJ15_copyOf_2_3 : decode cJ15_copyOf_2 3 = .ok (.invokevirtual 86, 3) := dk_182 0 86 (dk_at dksJ15_copyOf_2_0 3 rfl rfl)
theorem dJ15_copyOf_2_6 : decode cJ15_copyOf_2 6 = .ok (.invokestatic 300, 3) := dk_184 1 44 (dk_at dksJ15_copyOf_2_0 6 rfl rfl)
theorem dJ15_copyOf_2_9 : decode cJ15_copyOf_2 9 = .ok (.areturn, 1) := dk_176 (dk_at dksJ15_copyOf_2_0 9 rfl rfl)
def dkwJ15_copyOf_3_1 : List UInt8 := [78, 42, 3, 45, 3, 42, 190, 27, 184, 1, 48, 184, 0, 150, 45, 176]
abbrev dktJ15_copyOf_3_1 : List UInt8 := dkwJ15_copyOf_3_1 ++ []
def dkwJ15_copyOf_3_0 : List UInt8 := [44, 18, 110, 166, 0, 10, 27, 189, 0, 2, 167, 0, 14, 44, 182, 0, 90, 27, 184, 0, 95, 192, 0, 110]
abbrev dktJ15_copyOf_3_0 : List UInt8 := dkwJ15_copyOf_3_0 ++ dktJ15_copyOf_3_1
theorem dksJ15_copyOf_3_0 : cJ15_copyOf_3.data.toList.drop 0 = dktJ15_copyOf_3_0 := by decide +kernel
theorem dksJ15_copyOf_3_1 : cJ15_copyOf_3.data.toList.drop 24 = dktJ15_copyOf_3_1 := dk_seg dksJ15_copyOf_3_0 24 rfl rfl
theorem dJ15_copyOf_3_0 : decode cJ15_copyOf_3 0 = .ok (.aload_n 2, 1) := dk_44 (dk_at dksJ15_copyOf_3_0 0 rfl rfl)
theorem dJ15_copyOf_3_1 : decode cJ15_copyOf_3 1 = .ok (.ldc 110, 2) := dk_18 110 (dk_at dksJ15_copyOf_3_0 1 rfl rfl)
theorem dJ15_copyOf_3_3 : decode cJ15_copyOf_3 3 = .ok (.if_acmp .ne 10, 3) := dk_166 0 10 (dk_at dksJ15_copyOf_3_0 3 rfl rfl)
theorem dJ15_copyOf_3_6 : decode cJ15_copyOf_3 6 = .ok (.iload_n 1, 1) := dk_27 (dk_at dksJ15_copyOf_3_0 6 rfl rfl)
theorem dJ15_copyOf_3_7 : decode cJ15_copyOf_3 7 = .ok (.anewarray 2, 3) := dk_189 0 2 (dk_at dksJ15_copyOf_3_0 7 rfl rfl)
theorem dJ15_copyOf_3_10 : decode cJ15_copyOf_3 10 = .ok (.goto 14, 3) := dk_167 0 14 (dk_at dksJ15_copyOf_3_0 10 rfl rfl)
theorem dJ15_copyOf_3_13 : decode cJ15_copyOf_3 13 = .ok (.aload_n 2, 1) := dk_44 (dk_at dksJ15_copyOf_3_0 13 rfl rfl)
theorem dJ15_copyOf_3_14 : decode cJ15_copyOf_3 14 = .ok (.invokevirtual 90, 3) := dk_182 0 90 (dk_at dksJ15_copyOf_3_0 14 rfl rfl)
theorem dJ15_copyOf_3_17 : decode cJ15_copyOf_3 17 = .ok (.iload_n 1, 1) := dk_27 (dk_at dksJ15_copyOf_3_0 17 rfl rfl)
theorem dJ15_copyOf_3_18 : decode cJ15_copyOf_3 18 = .ok (.invokestatic 95, 3) := dk_184 0 95 (dk_at dksJ15_copyOf_3_0 18 rfl rfl)
theorem dJ15_copyOf_3_21 : decode cJ15_copyOf_3 21 = .ok (.checkcast 110, 3) := dk_192 0 110 (dk_at dksJ15_copyOf_3_0 21 rfl rfl)
theorem dJ15_copyOf_3_24 : decode cJ15_copyOf_3 24 = .ok (.astore_n 3, 1) := dk_78 (dk_at dksJ15_copyOf_3_1 0 rfl rfl)
theorem dJ15_copyOf_3_25 : decode cJ15_copyOf_3 25 = .ok (.aload_n 0, 1) := dk_42 (dk_at dksJ15_copyOf_3_1 1 rfl rfl)
theorem dJ15_copyOf_3_26 : decode cJ15_copyOf_3 26 = .ok (.iconst 0, 1) := dk_3 (dk_at dksJ15_copyOf_3_1 2 rfl rfl)
theorem dJ15_copyOf_3_27 : decode cJ15_copyOf_3 27 = .ok (.aload_n 3, 1) := dk_45 (dk_at dksJ15_copyOf_3_1 3 rfl rfl)
theorem dJ15_copyOf_3_28 : decode cJ15_copyOf_3 28 = .ok (.iconst 0, 1) := dk_3 (dk_at dksJ15_copyOf_3_1 4 rfl rfl)
theorem dJ15_copyOf_3_29 : decode cJ15_copyOf_3 29 = .ok (.aload_n 0, 1) := dk_42 (dk_at dksJ15_copyOf_3_1 5 rfl rfl)
theorem dJ15_copyOf_3_30 : decode cJ15_copyOf_3 30 = .ok (.arraylength, 1) := dk_190 (dk_at dksJ15_copyOf_3_1 6 rfl rfl)
theorem dJ15_copyOf_3_31 : decode cJ15_copyOf_3 31 = .ok (.iload_n 1, 1) := dk_27 (dk_at dksJ15_copyOf_3_1 7 rfl rfl)
theorem dJ15_copyOf_3_32 : decode cJ15_copyOf_3 32 = .ok (.invokestatic 304, 3) := dk_184 1 48 (dk_at dksJ15_copyOf_3_1 8 rfl rfl)
theorem dJ15_copyOf_3_35 : decode cJ15_copyOf_3 35 = .ok (.invokestatic 150, 3) := dk_184 0 150 (dk_at dksJ15_copyOf_3_1 11 rfl rfl)
theorem dJ15_copyOf_3_38 : decode cJ15_copyOf_3 38 = .ok (.aload_n 3, 1) := dk_45 (dk_at dksJ15_copyOf_3_1 14 rfl rfl)
theorem dJ15_copyOf_3_39 : decode cJ15_copyOf_3 39 = .ok (.areturn, 1) := dk_176 (dk_at dksJ15_copyOf_3_1 15 rfl rfl)
theorem dJ3_init_0 : decode cJ3_init 0 = .ok (.aload_n 0, 1) := by decide +kernel
theorem dJ3_init_1 : decode cJ3_init 1 = .ok (.invokespecial 1, 3) := by decide +kernel
theorem dJ3_init_4 : decode cJ3_init 4 = .ok (.return_, 1) := by decide +kernel
def dkwJ4_init_0 : List UInt8 := [42, 183, 0, 1, 42, 3, 181, 0, 7, 177]
abbrev dktJ4_init_0 : List UInt8 := dkwJ4_init_0 ++ []
theorem dksJ4_init_0 : cJ4_init.data.toList.drop 0 = dktJ4_init_0 := by decide +kernel
theorem dJ4_init_0 : decode cJ4_init 0 = .ok (.aload_n 0, 1) := dk_42 (dk_at dksJ4_init_0 0 rfl rfl)
theorem dJ4_init_1 : decode cJ4_init 1 = .ok (.invokespecial 1, 3) := dk_183 0 1 (dk_at dksJ4_init_0 1 rfl rfl)
theorem dJ4_init_4 : decode cJ4_init 4 = .ok (.aload_n 0, 1) := dk_42 (dk_at dksJ4_init_0 4 rfl rfl)
theorem dJ4_init_5 : decode cJ4_init 5 = .ok (.iconst 0, 1) := dk_3 (dk_at dksJ4_init_0 5 rfl rfl)
theorem dJ4_init_6 : decode cJ4_init 6 = .ok (.putfield 7, 3) := dk_181 0 7 (dk_at dksJ4_init_0 6 rfl rfl)
theorem dJ4_init_9 : decode cJ4_init 9 = .ok (.return_, 1) := dk_177 (dk_at dksJ4_init_0 9 rfl rfl)
def dkwJ8_length_0 : List UInt8 := [42, 180, 0, 9, 190, 42, 182, 1, 79, 122, 172]
abbrev dktJ8_length_0 : List UInt8 := dkwJ8_length_0 ++ []
theorem dksJ8_length_0 : cJ8_length.data.toList.drop 0 = dktJ8_length_0 := by decide +kernel
theorem dJ8_length_0 : decode cJ8_length 0 = .ok (.aload_n 0, 1) := dk_42 (dk_at dksJ8_length_0 0 rfl rfl)
theorem dJ8_length_1 : decode cJ8_length 1 = .ok (.getfield 9, 3) := dk_180 0 9 (dk_at dksJ8_length_0 1 rfl rfl)
theorem dJ8_length_4 : decode cJ8_length 4 = .ok (.arraylength, 1) := dk_190 (dk_at dksJ8_length_0 4 rfl rfl)
theorem dJ8_length_5 : decode cJ8_length 5 = .ok (.aload_n 0, 1) := dk_42 (dk_at dksJ8_length_0 5 rfl rfl)
theorem dJ8_length_6 : decode cJ8_length 6 = .ok (.invokevirtual 335, 3) := dk_182 1 79 (dk_at dksJ8_length_0 6 rfl rfl)
theorem dJ8_length_9 : decode cJ8_length 9 = .ok (.ishr, 1) := dk_122 (dk_at dksJ8_length_0 9 rfl rfl)
theorem dJ8_length_10 : decode cJ8_length 10 = .ok (.ireturn, 1) := dk_172 (dk_at dksJ8_length_0 10 rfl rfl)
def dkwJ8_coder_0 : List UInt8 := [178, 0, 38, 153, 0, 10, 42, 180, 0, 15, 167, 0, 4, 4, 172]
abbrev dktJ8_coder_0 : List UInt8 := dkwJ8_coder_0 ++ []
theorem dksJ8_coder_0 : cJ8_coder.data.toList.drop 0 = dktJ8_coder_0 := by decide +kernel
theorem dJ8_coder_0 : decode cJ8_coder 0 = .ok (.getstatic 38, 3) := dk_178 0 38 (dk_at dksJ8_coder_0 0 rfl rfl)
theorem dJ8_coder_3 : decode cJ8_coder 3 = .ok (.ifCond .eq 10, 3) := dk_153 0 10 (dk_at dksJ8_coder_0 3 rfl rfl)
theorem dJ8_coder_6 : decode cJ8_coder 6 = .ok (.aload_n 0, 1) := dk_42 (dk_at dksJ8_coder_0 6 rfl rfl)
theorem dJ8_coder_7 : decode cJ8_coder 7 = .ok (.getfield 15, 3) := dk_180 0 15 (dk_at dksJ8_coder_0 7 rfl rfl)
theorem dJ8_coder_10 : decode cJ8_coder 10 = .ok (.goto 4, 3) := dk_167 0 4 (dk_at dksJ8_coder_0 10 rfl rfl)
theorem dJ8_coder_13 : decode cJ8_coder 13 = .ok (.iconst 1, 1) := dk_4 (dk_at dksJ8_coder_0 13 rfl rfl)
theorem dJ8_coder_14 : decode cJ8_coder 14 = .ok (.ireturn, 1) := dk_172 (dk_at dksJ8_coder_0 14 rfl rfl)
def dkwJ8_charAt_1 : List UInt8 := [172]
abbrev dktJ8_charAt_1 : List UInt8 := dkwJ8_charAt_1 ++ []
def dkwJ8_charAt_0 : List UInt8 := [42, 182, 1, 236, 153, 0, 12, 42, 180, 0, 9, 27, 184, 1, 239, 172, 42, 180, 0, 9, 27, 184, 1, 242]
abbrev dktJ8_charAt_0 : List UInt8 := dkwJ8_charAt_0 ++ dktJ8_charAt_1
theorem dksJ8_charAt_0 : cJ8_charAt.data.toList.drop 0 = dktJ8_charAt_0 := by decide +kernel
theorem dksJ8_charAt_1 : cJ8_charAt.data.toList.drop 24 = dktJ8_charAt_1 := dk_seg dksJ8_charAt_0 24 rfl rfl
theorem dJ8_charAt_0 : decode cJ8_charAt 0 = .ok (.aload_n 0, 1) := dk_42 (dk_at dksJ8_charAt_0 0 rfl rfl)
theorem dJ8_charAt_1 : decode cJ8_charAt 1 = .ok (.invokevirtual 492, 3) := dk_182 1 236 (dk_at dksJ8_charAt_0 1 rfl rfl)
theorem dJ8_charAt_4 : decode cJ8_charAt 4 = .ok (.ifCond .eq 12, 3) := dk_153 0 12 (dk_at dksJ8_charAt_0 4 rfl rfl)
theorem dJ8_charAt_7 : decode cJ8_charAt 7 = .ok (.aload_n 0, 1) := dk_42 (dk_at dksJ8_charAt_0 7 rfl rfl)
theorem dJ8_charAt_8 : decode cJ8_charAt 8 = .ok (.getfield 9, 3) := dk_180 0 9 (dk_at dksJ8_charAt_0 8 rfl rfl)
theorem dJ8_charAt_11 : decode cJ8_charAt 11 = .ok (.iload_n 1, 1) := dk_27 (dk_at dksJ8_charAt_0 11 rfl rfl)
theorem dJ8_charAt_12 : decode cJ8_charAt 12 = .ok (.invokestatic 495, 3) := dk_184 1 239 (dk_at dksJ8_charAt_0 12 rfl rfl)
theorem dJ8_charAt_15 : decode cJ8_charAt 15 = .ok (.ireturn, 1) := dk_172 (dk_at dksJ8_charAt_0 15 rfl rfl)
theorem dJ8_charAt_16 : decode cJ8_charAt 16 = .ok (.aload_n 0, 1) := dk_42 (dk_at dksJ8_charAt_0 16 rfl rfl)
theorem dJ8_charAt_17 : decode cJ8_charAt 17 = .ok (.getfield 9, 3) := dk_180 0 9 (dk_at dksJ8_charAt_0 17 rfl rfl)
theorem dJ8_charAt_20 : decode cJ8_charAt 20 = .ok (.iload_n 1, 1) := dk_27 (dk_at dksJ8_charAt_0 20 rfl rfl)
theorem dJ8_charAt_21 : decode cJ8_charAt 21 = .ok (.invokestatic 498, 3) := dk_184 1 242 (dk_at dksJ8_charAt_0 21 rfl rfl)
theorem dJ8_charAt_24 : decode cJ8_charAt 24 = .ok (.ireturn, 1) := dk_172 (dk_at dksJ8_charAt_1 0 rfl rfl)
def dkwJ8_isLatin1_0 : List UInt8 := [178, 0, 38, 153, 0, 14, 42, 180, 0, 15, 154, 0, 7, 4, 167, 0, 4, 3, 172]
abbrev dktJ8_isLatin1_0 : List UInt8 := dkwJ8_isLatin1_0 ++ []
theorem dksJ8_isLatin1_0 : cJ8_isLatin1.data.toList.drop 0 = dktJ8_isLatin1_0 := by decide +kernel
theorem dJ8_isLatin1_0 : decode cJ8_isLatin1 0 = .ok (.getstatic 38, 3) := dk_178 0 38 (dk_at dksJ8_isLatin1_0 0 rfl rfl)
theorem dJ8_isLatin1_3 : decode cJ8_isLatin1 3 = .ok (.ifCond .eq 14, 3) := dk_153 0 14 (dk_at dksJ8_isLatin1_0 3 rfl rfl)
theorem dJ8_isLatin1_6 : decode cJ8_isLatin1 6 = .ok (.aload_n 0, 1) := dk_42 (dk_at dksJ8_isLatin1_0 6 rfl rfl)
theorem dJ8_isLatin1_7 : decode cJ8_isLatin1 7 = .ok (.getfield 15, 3) := dk_180 0 15 (dk_at dksJ8_isLatin1_0 7 rfl rfl)
theorem dJ8_isLatin1_10 : decode cJ8_isLatin1 10 = .ok (.ifCond .ne 7, 3) := dk_154 0 7 (dk_at dksJ8_isLatin1_0 10 rfl rfl)
theorem dJ8_isLatin1_13 : decode cJ8_isLatin1 13 = .ok (.iconst 1, 1) := dk_4 (dk_at dksJ8_isLatin1_0 13 rfl rfl)
theorem dJ8_isLatin1_14 : decode cJ8_isLatin1 14 = .ok (.goto 4, 3) := dk_167 0 4 (dk_at dksJ8_isLatin1_0 14 rfl rfl)
theorem dJ8_isLatin1_17 : decode cJ8_isLatin1 17 = .ok (.iconst 0, 1) := dk_3 (dk_at dksJ8_isLatin1_0 17 rfl rfl)
theorem dJ8_isLatin1_18 : decode cJ8_isLatin1 18 = .ok (.ireturn, 1) := dk_172 (dk_at dksJ8_isLatin1_0 18 rfl rfl)
def dkwJ8_checkIndex_0 : List UInt8 := [26, 27, 178, 4, 29, 184, 4, 35, 87, 177]
abbrev dktJ8_checkIndex_0 : List UInt8 := dkwJ8_checkIndex_0 ++ []
theorem dksJ8_checkIndex_0 : cJ8_checkIndex.data.toList.drop 0 = dktJ8_checkIndex_0 := by decide +kernel
theorem dJ8_checkIndex_0 : decode cJ8_checkIndex 0 = .ok (.iload_n 0, 1) := dk_26 (dk_at dksJ8_checkIndex_0 0 rfl rfl)
theorem dJ8_checkIndex_1 : decode cJ8_checkIndex 1 = .ok (.iload_n 1, 1) := dk_27 (dk_at dksJ8_checkIndex_0 1 rfl rfl)
theorem dJ8_checkIndex_2 : decode cJ8_checkIndex 2 = .ok (.getstatic 1053, 3) := dk_178 4 29 (dk_at dksJ8_checkIndex_0 2 rfl rfl)
theorem dJ8_checkIndex_5 : decode cJ8_checkIndex 5 = .ok (.invokestatic 1059, 3) := dk_184 4 35 (dk_at dksJ8_checkIndex_0 5 rfl rfl)
theorem dJ8_checkIndex_8 : decode cJ8_checkIndex 8 = .ok (.pop, 1) := dk_87 (dk_at dksJ8_checkIndex_0 8 rfl rfl)
theorem dJ8_checkIndex_9 : decode cJ8_checkIndex 9 = .ok (.return_, 1) := dk_177 (dk_at dksJ8_checkIndex_0 9 rfl rfl)
def dkwJ8_checkBoundsOffCount_0 : List UInt8 := [26, 27, 28, 178, 4, 29, 184, 4, 41, 172]
abbrev dktJ8_checkBoundsOffCount_0 : List UInt8 := dkwJ8_checkBoundsOffCount_0 ++ []
theorem dksJ8_checkBoundsOffCount_0 : cJ8_checkBoundsOffCount.data.toList.drop 0 = dktJ8_checkBoundsOffCount_0 := by decide +kernel
theorem dJ8_checkBoundsOffCount_0 : decode cJ8_checkBoundsOffCount 0 = .ok (.iload_n 0, 1) := dk_26 (dk_at dksJ8_checkBoundsOffCount_0 0 rfl rfl)
theorem dJ8_checkBoundsOffCount_1 : decode cJ8_checkBoundsOffCount 1 = .ok (.iload_n 1, 1) := dk_27 (dk_at dksJ8_checkBoundsOffCount_0 1 rfl rfl)
theorem dJ8_checkBoundsOffCount_2 : decode cJ8_checkBoundsOffCount 2 = .ok (.iload_n 2, 1) := dk_28 (dk_at dksJ8_checkBoundsOffCount_0 2 rfl rfl)
theorem dJ8_checkBoundsOffCount_3 : decode cJ8_checkBoundsOffCount 3 = .ok (.getstatic 1053, 3) := dk_178 4 29 (dk_at dksJ8_checkBoundsOffCount_0 3 rfl rfl)
theorem dJ8_checkBoundsOffCount_6 : decode cJ8_checkBoundsOffCount 6 = .ok (.invokestatic 1065, 3) := dk_184 4 41 (dk_at dksJ8_checkBoundsOffCount_0 6 rfl rfl)
theorem dJ8_checkBoundsOffCount_9 : decode cJ8_checkBoundsOffCount 9 = .ok (.ireturn, 1) := dk_172 (dk_at dksJ8_checkBoundsOffCount_0 9 rfl rfl)
def dkwJ8_init_0 : List UInt8 := [42, 43, 1, 183, 1, 233, 177]
abbrev dktJ8_init_0 : List UInt8 := dkwJ8_init_0 ++ []
theorem dksJ8_init_0 : cJ8_init.data.toList.drop 0 = dktJ8_init_0 := by decide +kernel
theorem dJ8_init_0 : decode cJ8_init 0 = .ok (.aload_n 0, 1) := dk_42 (dk_at dksJ8_init_0 0 rfl rfl)
theorem dJ8_init_1 : decode cJ8_init 1 = .ok (.aload_n 1, 1) := dk_43 (dk_at dksJ8_init_0 1 rfl rfl)
theorem dJ8_init_2 : decode cJ8_init 2 = .ok (.aconst_null, 1) := dk_1 (dk_at dksJ8_init_0 2 rfl rfl)
theorem dJ8_init_3 : decode cJ8_init 3 = .ok (.invokespecial 489, 3) := dk_183 1 233 (dk_at dksJ8_init_0 3 rfl rfl)
theorem dJ8_init_6 : decode cJ8_init 6 = .ok (.return_, 1) := dk_177 (dk_at dksJ8_init_0 6 rfl rfl)
def dkwJ8_init_2_4 : List UInt8 := [181, 0, 9, 177]
abbrev dktJ8_init_2_4 : List UInt8 := dkwJ8_init_2_4 ++ []
def dkwJ8_init_2_3 : List UInt8 := [184, 0, 47, 181, 0, 15, 177, 42, 4, 181, 0, 15, 42, 45, 3, 21, 4, 4, 120, 184, 0, 54]
abbrev dktJ8_init_2_3 : List UInt8 := dkwJ8_init_2_3 ++ dktJ8_init_2_4
def dkwJ8_init_2_2 : List UInt8 := [180, 4, 24, 153, 0, 28, 42, 45, 3, 21, 4, 184, 4, 27, 181, 0, 9, 42, 42, 180, 0, 9, 21, 4]
abbrev dktJ8_init_2_2 : List UInt8 := dkwJ8_init_2_2 ++ dktJ8_init_2_3
def dkwJ8_init_2_1 : List UInt8 := [181, 0, 15, 42, 45, 3, 21, 4, 184, 0, 54, 181, 0, 9, 167, 0, 59, 178, 0, 38, 153, 0, 35, 43]
abbrev dktJ8_init_2_1 : List UInt8 := dkwJ8_init_2_1 ++ dktJ8_init_2_2
def dkwJ8_init_2_0 : List UInt8 := [42, 183, 0, 1, 43, 182, 2, 40, 78, 43, 182, 2, 37, 54, 4, 43, 182, 4, 23, 153, 0, 22, 42, 3]
abbrev dktJ8_init_2_0 : List UInt8 := dkwJ8_init_2_0 ++ dktJ8_init_2_1
theorem dksJ8_init_2_0 : cJ8_init_2.data.toList.drop 0 = dktJ8_init_2_0 := by decide +kernel
theorem dksJ8_init_2_1 : cJ8_init_2.data.toList.drop 24 = dktJ8_init_2_1 := dk_seg dksJ8_init_2_0 24 rfl rfl
theorem dksJ8_init_2_2 : cJ8_init_2.data.toList.drop 48 = dktJ8_init_2_2 := dk_seg dksJ8_init_2_1 24 rfl rfl
theorem dksJ8_init_2_3 : cJ8_init_2.data.toList.drop 72 = dktJ8_init_2_3 := dk_seg dksJ8_init_2_2 24 rfl rfl
theorem dksJ8_init_2_4 : cJ8_init_2.data.toList.drop 94 = dktJ8_init_2_4 := dk_seg dksJ8_init_2_3 22 rfl rfl
theorem dJ8_init_2_0 : decode cJ8_init_2 0 = .ok (.aload_n 0, 1) := dk_42 (dk_at dksJ8_init_2_0 0 rfl rfl)
theorem dJ8_init_2_1 : decode cJ8_init_2 1 = .ok (.invokespecial 1, 3) := dk_183 0 1 (dk_at dksJ8_init_2_0 1 rfl rfl)
theorem dJ8_init_2_4 : decode cJ8_init_2 4 = .ok (.aload_n 1, 1) := dk_43 (dk_at dksJ8_init_2_0 4 rfl rfl)
theorem dJ8_init_2_5 : decode cJ8_init_2 5 = .ok (.invokevirtual 552, 3) := dk_182 2 40 (dk_at dksJ8_init_2_0 5 rfl rfl)
theorem dJ8_init_2_8 : decode cJ8_init_2 8 = .ok (.astore_n 3, 1) := dk_78 (dk_at dksJ8_init_2_0 8 rfl rfl)
theorem dJ8_init_2_9 : decode cJ8_init_2 9 = .ok (.aload_n 1, 1) := dk_43 (dk_at dksJ8_init_2_0 9 rfl rfl)
theorem dJ8_init_2_10 : decode cJ8_init_2 10 = .ok (.invokevirtual 549, 3) := dk_182 2 37 (dk_at dksJ8_init_2_0 10 rfl rfl)
theorem dJ8_init_2_13 : decode cJ8_init_2 13 = .ok (.istore 4, 2) := dk_54 4 (dk_at dksJ8_init_2_0 13 rfl rfl)
theorem dJ8_init_2_15 : decode cJ8_init_2 15 = .ok (.aload_n 1, 1) := dk_43 (dk_at dksJ8_init_2_0 15 rfl rfl)
theorem dJ8_init_2_16 : decode cJ8_init_2 16 = .ok (.invokevirtual 1047, 3) := dk_182 4 23 (dk_at dksJ8_init_2_0 16 rfl rfl)
theorem dJ8_init_2_19 : decode cJ8_init_2 19 = .ok (.ifCond .eq 22, 3) := dk_153 0 22 (dk_at dksJ8_init_2_0 19 rfl rfl)
theorem dJ8_init_2_22 : decode cJ8_init_2 22 = .ok (.aload_n 0, 1) := dk_42 (dk_at dksJ8_init_2_0 22 rfl rfl)
theorem dJ8_init_2_23 : decode cJ8_init_2 23 = .ok (.iconst 0, 1) := dk_3 (dk_at dksJ8_init_2_0 23 rfl rfl)
theorem dJ8_init_2_24 : decode cJ8_init_2 24 = .ok (.putfield 15, 3) := dk_181 0 15 (dk_at dksJ8_init_2_1 0 rfl rfl)
theorem dJ8_init_2_27 : decode cJ8_init_2 27 = .ok (.aload_n 0, 1) := dk_42 (dk_at dksJ8_init_2_1 3 rfl rfl)
theorem dJ8_init_2_28 : decode cJ8_init_2 28 = .ok (.aload_n 3, 1) := dk_45 (dk_at dksJ8_init_2_1 4 rfl rfl)
theorem dJ8_init_2_29 : decode cJ8_init_2 29 = .ok (.iconst 0, 1) := dk_3 (dk_at dksJ8_init_2_1 5 rfl rfl)
theorem dJ8_init_2_30 : decode cJ8_init_2 30 = .ok (.iload 4, 2) := dk_21 4 (dk_at dksJ8_init_2_1 6 rfl rfl)
theorem dJ8_init_2_32 : decode cJ8_init_2 32 = .ok (.invokestatic 54, 3) := dk_184 0 54 (dk_at dksJ8_init_2_1 8 rfl rfl)
theorem dJ8_init_2_35 : decode cJ8_init_2 35 = .ok (.putfield 9, 3) := dk_181 0 9 (dk_at dksJ8_init_2_1 11 rfl rfl)
theorem dJ8_init_2_38 : decode cJ8_init_2 38 = .ok (.goto 59, 3) := dk_167 0 59 (dk_at dksJ8_init_2_1 14 rfl rfl)
theorem dJ8_init_2_41 : decode cJ8_init_2 41 = .ok (.getstatic 38, 3) := dk_178 0 38 (dk_at dksJ8_init_2_1 17 rfl rfl)
theorem dJ8_init_2_44 : decode cJ8_init_2 44 = .ok (.ifCond .eq 35, 3) := dk_153 0 35 (dk_at dksJ8_init_2_1 20 rfl rfl)
theorem dJ8_init_2_47 : decode cJ8_init_2 47 = .ok (.aload_n 1, 1) := dk_43 (dk_at dksJ8_init_2_1 23 rfl rfl)
theorem dJ8_init_2_48 : decode cJ8_init_2 48 = .ok (.getfield 1048, 3) := dk_180 4 24 (dk_at dksJ8_init_2_2 0 rfl rfl)
theorem dJ8_init_2_51 : decode cJ8_init_2 51 = .ok (.ifCond .eq 28, 3) := dk_153 0 28 (dk_at dksJ8_init_2_2 3 rfl rfl)
theorem dJ8_init_2_54 : decode cJ8_init_2 54 = .ok (.aload_n 0, 1) := dk_42 (dk_at dksJ8_init_2_2 6 rfl rfl)
theorem dJ8_init_2_55 : decode cJ8_init_2 55 = .ok (.aload_n 3, 1) := dk_45 (dk_at dksJ8_init_2_2 7 rfl rfl)
theorem dJ8_init_2_56 : decode cJ8_init_2 56 = .ok (.iconst 0, 1) := dk_3 (dk_at dksJ8_init_2_2 8 rfl rfl)
theorem dJ8_init_2_57 : decode cJ8_init_2 57 = .ok (.iload 4, 2) := dk_21 4 (dk_at dksJ8_init_2_2 9 rfl rfl)
theorem dJ8_init_2_59 : decode cJ8_init_2 59 = .ok (.invokestatic 1051, 3) := dk_184 4 27 (dk_at dksJ8_init_2_2 11 rfl rfl)
theorem dJ8_init_2_62 : decode cJ8_init_2 62 = .ok (.putfield 9, 3) := dk_181 0 9 (dk_at dksJ8_init_2_2 14 rfl rfl)
theorem dJ8_init_2_65 : decode cJ8_init_2 65 = .ok (.aload_n 0, 1) := dk_42 (dk_at dksJ8_init_2_2 17 rfl rfl)
theorem dJ8_init_2_66 : decode cJ8_init_2 66 = .ok (.aload_n 0, 1) := dk_42 (dk_at dksJ8_init_2_2 18 rfl rfl)
theorem dJ8_init_2_67 : decode cJ8_init_2 67 = .ok (.getfield 9, 3) := dk_180 0 9 (dk_at dksJ8_init_2_2 19 rfl rfl)
theorem dJ8_init_2_70 : decode cJ8_init_2 70 = .ok (.iload 4, 2) := dk_21 4 (dk_at dksJ8_init_2_2 22 rfl rfl)
theorem dJ8_init_2_72 : decode cJ8_init_2 72 = .ok (.invokestatic 47, 3) := dk_184 0 47 (dk_at dksJ8_init_2_3 0 rfl rfl)
theorem dJ8_init_2_75 : decode cJ8_init_2 75 = .ok (.putfield 15, 3) := dk_181 0 15 (dk_at dksJ8_init_2_3 3 rfl rfl)
theorem dJ8_init_2_78 : decode cJ8_init_2 78 = .ok (.return_, 1) := dk_177 (dk_at dksJ8_init_2_3 6 rfl rfl)
theorem dJ8_init_2_79 : decode cJ8_init_2 79 = .ok (.aload_n 0, 1) := dk_42 (dk_at dksJ8_init_2_3 7 rfl rfl)
theorem dJ8_init_2_80 : decode cJ8_init_2 80 = .ok (.iconst 1, 1) := dk_4 (dk_at dksJ8_init_2_3 8 rfl rfl)
theorem dJ8_init_2_81 : decode cJ8_init_2 81 = .ok (.putfield 15, 3) := dk_181 0 15 (dk_at dksJ8_init_2_3 9 rfl rfl)
theorem dJ8_init_2_84 : decode cJ8_init_2 84 = .ok (.aload_n 0, 1) := dk_42 (dk_at dksJ8_init_2_3 12 rfl rfl)
theorem dJ8_init_2_85 : decode cJ8_init_2 85 = .ok (.aload_n 3, 1) := dk_45 (dk_at dksJ8_init_2_3 13 rfl rfl)
theorem dJ8_init_2_86 : decode cJ8_init_2 86 = .ok (.iconst 0, 1) := dk_3 (dk_at dksJ8_init_2_3 14 rfl rfl)
theorem dJ8_init_2_87 : decode cJ8_init_2 87 = .ok (.iload 4, 2) := dk_21 4 (dk_at dksJ8_init_2_3 15 rfl rfl)
theorem dJ8_init_2_89 : decode cJ8_init_2 89 = .ok (.iconst 1, 1) := dk_4 (dk_at dksJ8_init_2_3 17 rfl rfl)
theorem dJ8_init_2_90 : decode cJ8_init_2 90 = .ok (.ishl, 1) := dk_120 (dk_at dksJ8_init_2_3 18 rfl rfl)
theorem dJ8_init_2_91 : decode cJ8_init_2 91 = .ok (.invokestatic 54, 3) := dk_184 0 54 (dk_at dksJ8_init_2_3 19 rfl rfl)
theorem dJ8_init_2_94 : decode cJ8_init_2 94 = .ok (.putfield 9, 3) := dk_181 0 9 (dk_at dksJ8_init_2_4 0 rfl rfl)
theorem dJ8_init_2_97 : decode cJ8_init_2 97 = .ok (.return_, 1) := dk_177 (dk_at dksJ8_init_2_4 3 rfl rfl)
def dkwJ8_equals_2 : List UInt8 := [184, 2, 29, 153, 0, 7, 4, 167, 0, 4, 3, 172]
abbrev dktJ8_equals_2 : List UInt8 := dkwJ8_equals_2 ++ []
def dkwJ8_equals_1 : List UInt8 := [153, 0, 14, 42, 180, 0, 15, 44, 180, 0, 15, 160, 0, 21, 42, 180, 0, 9, 44, 180, 0, 9]
abbrev dktJ8_equals_1 : List UInt8 := dkwJ8_equals_1 ++ dktJ8_equals_2
def dkwJ8_equals_0 : List UInt8 := [42, 43, 166, 0, 5, 4, 172, 43, 193, 0, 10, 153, 0, 43, 43, 192, 0, 10, 77, 178, 0, 38]
abbrev dktJ8_equals_0 : List UInt8 := dkwJ8_equals_0 ++ dktJ8_equals_1
theorem dksJ8_equals_0 : cJ8_equals.data.toList.drop 0 = dktJ8_equals_0 := by decide +kernel
theorem dksJ8_equals_1 : cJ8_equals.data.toList.drop 22 = dktJ8_equals_1 := dk_seg dksJ8_equals_0 22 rfl rfl
theorem dksJ8_equals_2 : cJ8_equals.data.toList.drop 44 = dktJ8_equals_2 := dk_seg dksJ8_equals_1 22 rfl rfl
theorem dJ8_equals_0 : decode cJ8_equals 0 = .ok (.aload_n 0, 1) := dk_42 (dk_at dksJ8_equals_0 0 rfl rfl)
theorem dJ8_equals_1 : decode cJ8_equals 1 = .ok (.aload_n 1, 1) := dk_43 (dk_at dksJ8_equals_0 1 rfl rfl)
theorem dJ8_equals_2 : decode cJ8_equals 2 = .ok (.if_acmp .ne 5, 3) := dk_166 0 5 (dk_at dksJ8_equals_0 2 rfl rfl)
theorem dJ8_equals_5 : decode cJ8_equals 5 = .ok (.iconst 1, 1) := dk_4 (dk_at dksJ8_equals_0 5 rfl rfl)
theorem dJ8_equals_6 : decode cJ8_equals 6 = .ok (.ireturn, 1) := dk_172 (dk_at dksJ8_equals_0 6 rfl rfl)
theorem dJ8_equals_7 : decode cJ8_equals 7 = .ok (.aload_n 1, 1) := dk_43 (dk_at dksJ8_equals_0 7 rfl rfl)
theorem dJ8_equals_8 : decode cJ8_equals 8 = .ok (.instanceof 10, 3) := dk_193 0 10 (dk_at dksJ8_equals_0 8 rfl rfl)
theorem dJ8_equals_11 : decode cJ8_equals 11 = .ok (.ifCond .eq 43, 3) := dk_153 0 43 (dk_at dksJ8_equals_0 11 rfl rfl)
theorem dJ8_equals_14 : decode cJ8_equals 14 = .ok (.aload_n 1, 1) := dk_43 (dk_at dksJ8_equals_0 14 rfl rfl)
theorem dJ8_equals_15 : decode cJ8_equals 15 = .ok (.checkcast 10, 3) := dk_192 0 10 (dk_at dksJ8_equals_0 15 rfl rfl)
theorem dJ8_equals_18 : decode cJ8_equals 18 = .ok (.astore_n 2, 1) := dk_77 (dk_at dksJ8_equals_0 18 rfl rfl)
theorem dJ8_equals_19 : decode cJ8_equals 19 = .ok (.getstatic 38, 3) := dk_178 0 38 (dk_at dksJ8_equals_0 19 rfl rfl)
theorem dJ8_equals_22 : decode cJ8_equals 22 = .ok (.ifCond .eq 14, 3) := dk_153 0 14 (dk_at dksJ8_equals_1 0 rfl rfl)
theorem dJ8_equals_25 : decode cJ8_equals 25 = .ok (.aload_n 0, 1) := dk_42 (dk_at dksJ8_equals_1 3 rfl rfl)
theorem dJ8_equals_26 : decode cJ8_equals 26 = .ok (.getfield 15, 3) := dk_180 0 15 (dk_at dksJ8_equals_1 4 rfl rfl)
theorem dJ8_equals_29 : decode cJ8_equals 29 = .ok (.aload_n 2, 1) := dk_44 (dk_at dksJ8_equals_1 7 rfl rfl)
theorem dJ8_equals_30 : decode cJ8_equals 30 = .ok (.getfield 15, 3) := dk_180 0 15 (dk_at dksJ8_equals_1 8 rfl rfl)
theorem dJ8_equals_33 : decode cJ8_equals 33 = .ok (.if_icmp .ne 21, 3) := dk_160 0 21 (dk_at dksJ8_equals_1 11 rfl rfl)
theorem dJ8_equals_36 : decode cJ8_equals 36 = .ok (.aload_n 0, 1) := dk_42 (dk_at dksJ8_equals_1 14 rfl rfl)
theorem dJ8_equals_37 : decode cJ8_equals 37 = .ok (.getfield 9, 3) := dk_180 0 9 (dk_at dksJ8_equals_1 15 rfl rfl)
theorem dJ8_equals_40 : decode cJ8_equals 40 = .ok (.aload_n 2, 1) := dk_44 (dk_at dksJ8_equals_1 18 rfl rfl)
theorem dJ8_equals_41 : decode cJ8_equals 41 = .ok (.getfield 9, 3) := dk_180 0 9 (dk_at dksJ8_equals_1 19 rfl rfl)
theorem dJ8_equals_44 : decode cJ8_equals 44 = .ok (.invokestatic 541, 3) := dk_184 2 29 (dk_at dksJ8_equals_2 0 rfl rfl)
theorem dJ8_equals_47 : decode cJ8_equals 47 = .ok (.ifCond .eq 7, 3) := dk_153 0 7 (dk_at dksJ8_equals_2 3 rfl rfl)
theorem dJ8_equals_50 : decode cJ8_equals 50 = .ok (.iconst 1, 1) := dk_4 (dk_at dksJ8_equals_2 6 rfl rfl)
theorem dJ8_equals_51 : decode cJ8_equals 51 = .ok (.goto 4, 3) := dk_167 0 4 (dk_at dksJ8_equals_2 7 rfl rfl)
theorem dJ8_equals_54 : decode cJ8_equals 54 = .ok (.iconst 0, 1) := dk_3 (dk_at dksJ8_equals_2 10 rfl rfl)
theorem dJ8_equals_55 : decode cJ8_equals 55 = .ok (.ireturn, 1) := dk_172 (dk_at dksJ8_equals_2 11 rfl rfl)
def dkwJ9_charAt_0 : List UInt8 := [27, 42, 190, 184, 0, 9, 42, 27, 51, 17, 0, 255, 126, 146, 172]
abbrev dktJ9_charAt_0 : List UInt8 := dkwJ9_charAt_0 ++ []
theorem dksJ9_charAt_0 : cJ9_charAt.data.toList.drop 0 = dktJ9_charAt_0 := by decide +kernel
theorem dJ9_charAt_0 : decode cJ9_charAt 0 = .ok (.iload_n 1, 1) := dk_27 (dk_at dksJ9_charAt_0 0 rfl rfl)
theorem dJ9_charAt_1 : decode cJ9_charAt 1 = .ok (.aload_n 0, 1) := dk_42 (dk_at dksJ9_charAt_0 1 rfl rfl)
theorem dJ9_charAt_2 : decode cJ9_charAt 2 = .ok (.arraylength, 1) := dk_190 (dk_at dksJ9_charAt_0 2 rfl rfl)
theorem dJ9_charAt_3 : decode cJ9_charAt 3 = .ok (.invokestatic 9, 3) := dk_184 0 9 (dk_at dksJ9_charAt_0 3 rfl rfl)
theorem dJ9_charAt_6 : decode cJ9_charAt 6 = .ok (.aload_n 0, 1) := dk_42 (dk_at dksJ9_charAt_0 6 rfl rfl)
theorem dJ9_charAt_7 : decode cJ9_charAt 7 = .ok (.iload_n 1, 1) := dk_27 (dk_at dksJ9_charAt_0 7 rfl rfl)
theorem dJ9_charAt_8 : decode cJ9_charAt 8 = .ok (.baload, 1) := dk_51 (dk_at dksJ9_charAt_0 8 rfl rfl)
theorem dJ9_charAt_9 : decode cJ9_charAt 9 = .ok (.sipush 255, 3) := dk_17 0 255 (dk_at dksJ9_charAt_0 9 rfl rfl)
theorem dJ9_charAt_12 : decode cJ9_charAt 12 = .ok (.iand, 1) := dk_126 (dk_at dksJ9_charAt_0 12 rfl rfl)
theorem dJ9_charAt_13 : decode cJ9_charAt 13 = .ok (.i2c, 1) := dk_146 (dk_at dksJ9_charAt_0 13 rfl rfl)
theorem dJ9_charAt_14 : decode cJ9_charAt 14 = .ok (.ireturn, 1) := dk_172 (dk_at dksJ9_charAt_0 14 rfl rfl)
def dkwJ9_canEncode_0 : List UInt8 := [26, 17, 0, 255, 163, 0, 7, 4, 167, 0, 4, 3, 172]
abbrev dktJ9_canEncode_0 : List UInt8 := dkwJ9_canEncode_0 ++ []
theorem dksJ9_canEncode_0 : cJ9_canEncode.data.toList.drop 0 = dktJ9_canEncode_0 := by decide +kernel
theorem dJ9_canEncode_0 : decode cJ9_canEncode 0 = .ok (.iload_n 0, 1) := dk_26 (dk_at dksJ9_canEncode_0 0 rfl rfl)
theorem dJ9_canEncode_1 : decode cJ9_canEncode 1 = .ok (.sipush 255, 3) := dk_17 0 255 (dk_at dksJ9_canEncode_0 1 rfl rfl)
theorem dJ9_canEncode_4 : decode cJ9_canEncode 4 = .ok (.if_icmp .gt 7, 3) := dk_163 0 7 (dk_at dksJ9_canEncode_0 4 rfl rfl)
theorem dJ9_canEncode_7 : decode cJ9_canEncode 7 = .ok (.iconst 1, 1) := dk_4 (dk_at dksJ9_canEncode_0 7 rfl rfl)
theorem dJ9_canEncode_8 : decode cJ9_canEncode 8 = .ok (.goto 4, 3) := dk_167 0 4 (dk_at dksJ9_canEncode_0 8 rfl rfl)
theorem dJ9_canEncode_11 : decode cJ9_canEncode 11 = .ok (.iconst 0, 1) := dk_3 (dk_at dksJ9_canEncode_0 11 rfl rfl)
theorem dJ9_canEncode_12 : decode cJ9_canEncode 12 = .ok (.ireturn, 1) := dk_172 (dk_at dksJ9_canEncode_0 12 rfl rfl)
def dkwJ9_inflate_0 : List UInt8 := [42, 27, 44, 29, 21, 4, 184, 0, 240, 177]
abbrev dktJ9_inflate_0 : List UInt8 := dkwJ9_inflate_0 ++ []
theorem dksJ9_inflate_0 : cJ9_inflate.data.toList.drop 0 = dktJ9_inflate_0 := by decide +kernel
theorem dJ9_inflate_0 : decode cJ9_inflate 0 = .ok (.aload_n 0, 1) := dk_42 (dk_at dksJ9_inflate_0 0 rfl rfl)
theorem dJ9_inflate_1 : decode cJ9_inflate 1 = .ok (.iload_n 1, 1) := dk_27 (dk_at dksJ9_inflate_0 1 rfl rfl)
theorem dJ9_inflate_2 : decode cJ9_inflate 2 = .ok (.aload_n 2, 1) := dk_44 (dk_at dksJ9_inflate_0 2 rfl rfl)
theorem dJ9_inflate_3 : decode cJ9_inflate 3 = .ok (.iload_n 3, 1) := dk_29 (dk_at dksJ9_inflate_0 3 rfl rfl)
theorem dJ9_inflate_4 : decode cJ9_inflate 4 = .ok (.iload 4, 2) := dk_21 4 (dk_at dksJ9_inflate_0 4 rfl rfl)
theorem dJ9_inflate_6 : decode cJ9_inflate 6 = .ok (.invokestatic 240, 3) := dk_184 0 240 (dk_at dksJ9_inflate_0 6 rfl rfl)
theorem dJ9_inflate_9 : decode cJ9_inflate 9 = .ok (.return_, 1) := dk_177 (dk_at dksJ9_inflate_0 9 rfl rfl)
def dkwJ9_equals_1 : List UInt8 := [3, 172, 132, 2, 1, 167, 255, 236, 4, 172, 3, 172]
abbrev dktJ9_equals_1 : List UInt8 := dkwJ9_equals_1 ++ []
def dkwJ9_equals_0 : List UInt8 := [42, 190, 43, 190, 160, 0, 30, 3, 61, 28, 42, 190, 162, 0, 20, 42, 28, 51, 43, 28, 51, 159, 0, 5]
abbrev dktJ9_equals_0 : List UInt8 := dkwJ9_equals_0 ++ dktJ9_equals_1
theorem dksJ9_equals_0 : cJ9_equals.data.toList.drop 0 = dktJ9_equals_0 := by decide +kernel
theorem dksJ9_equals_1 : cJ9_equals.data.toList.drop 24 = dktJ9_equals_1 := dk_seg dksJ9_equals_0 24 rfl rfl
theorem dJ9_equals_0 : decode cJ9_equals 0 = .ok (.aload_n 0, 1) := dk_42 (dk_at dksJ9_equals_0 0 rfl rfl)
theorem dJ9_equals_1 : decode cJ9_equals 1 = .ok (.arraylength, 1) := dk_190 (dk_at dksJ9_equals_0 1 rfl rfl)
theorem dJ9_equals_2 : decode cJ9_equals 2 = .ok (.aload_n 1, 1) := dk_43 (dk_at dksJ9_equals_0 2 rfl rfl)
theorem dJ9_equals_3 : decode cJ9_equals 3 = .ok (.arraylength, 1) := dk_190 (dk_at dksJ9_equals_0 3 rfl rfl)
theorem dJ9_equals_4 : decode cJ9_equals 4 = .ok (.if_icmp .ne 30, 3) := dk_160 0 30 (dk_at dksJ9_equals_0 4 rfl rfl)
theorem dJ9_equals_7 : decode cJ9_equals 7 = .ok (.iconst 0, 1) := dk_3 (dk_at dksJ9_equals_0 7 rfl rfl)
theorem dJ9_equals_8 : decode cJ9_equals 8 = .ok (.istore_n 2, 1) := dk_61 (dk_at dksJ9_equals_0 8 rfl rfl)
theorem dJ9_equals_9 : decode cJ9_equals 9 = .ok (.iload_n 2, 1) := dk_28 (dk_at dksJ9_equals_0 9 rfl rfl)
theorem dJ9_equals_10 : decode cJ9_equals 10 = .ok (.aload_n 0, 1) := dk_42 (dk_at dksJ9_equals_0 10 rfl rfl)
theorem dJ9_equals_11 : decode cJ9_equals 11 = .ok (.arraylength, 1) := dk_190 (dk_at dksJ9_equals_0 11 rfl rfl)
theorem dJ9_equals_12 : decode cJ9_equals 12 = .ok (.if_icmp .ge 20, 3) := dk_162 0 20 (dk_at dksJ9_equals_0 12 rfl rfl)
theorem dJ9_equals_15 : decode cJ9_equals 15 = .ok (.aload_n 0, 1) := dk_42 (dk_at dksJ9_equals_0 15 rfl rfl)
theorem dJ9_equals_16 : decode cJ9_equals 16 = .ok (.iload_n 2, 1) := dk_28 (dk_at dksJ9_equals_0 16 rfl rfl)
theorem dJ9_equals_17 : decode cJ9_equals 17 = .ok (.baload, 1) := dk_51 (dk_at dksJ9_equals_0 17 rfl rfl)
theorem dJ9_equals_18 : decode cJ9_equals 18 = .ok (.aload_n 1, 1) := dk_43 (dk_at dksJ9_equals_0 18 rfl rfl)
theorem dJ9_equals_19 : decode cJ9_equals 19 = .ok (.iload_n 2, 1) := dk_28 (dk_at dksJ9_equals_0 19 rfl rfl)
theorem dJ9_equals_20 : decode cJ9_equals 20 = .ok (.baload, 1) := dk_51 (dk_at dksJ9_equals_0 20 rfl rfl)
theorem dJ9_equals_21 : decode cJ9_equals 21 = .ok (.if_icmp .eq 5, 3) := dk_159 0 5 (dk_at dksJ9_equals_0 21 rfl rfl)
theorem dJ9_equals_24 : decode cJ9_equals 24 = .ok (.iconst 0, 1) := dk_3 (dk_at dksJ9_equals_1 0 rfl rfl)
theorem dJ9_equals_25 : decode cJ9_equals 25 = .ok (.ireturn, 1) := dk_172 (dk_at dksJ9_equals_1 1 rfl rfl)
theorem dJ9_equals_26 : decode cJ9_equals 26 = .ok (.iinc 2 1, 3) := dk_132 2 1 (dk_at dksJ9_equals_1 2 rfl rfl)
theorem dJ9_equals_29 : decode cJ9_equals 29 = .ok (.goto (-20), 3) := dk_167 255 236 (dk_at dksJ9_equals_1 5 rfl rfl)
theorem dJ9_equals_32 : decode cJ9_equals 32 = .ok (.iconst 1, 1) := dk_4 (dk_at dksJ9_equals_1 8 rfl rfl)
theorem dJ9_equals_33 : decode cJ9_equals 33 = .ok (.ireturn, 1) := dk_172 (dk_at dksJ9_equals_1 9 rfl rfl)
theorem dJ9_equals_34 : decode cJ9_equals 34 = .ok (.iconst 0, 1) := dk_3 (dk_at dksJ9_equals_1 10 rfl rfl)
theorem dJ9_equals_35 : decode cJ9_equals 35 = .ok (.ireturn, 1) := dk_172 (dk_at dksJ9_equals_1 11 rfl rfl)
def dkwX1_init_0 : List UInt8 := [42, 18, 1, 1, 3, 3, 183, 0, 3, 177]
abbrev dktX1_init_0 : List UInt8 := dkwX1_init_0 ++ []
theorem dksX1_init_0 : cX1_init.data.toList.drop 0 = dktX1_init_0 := by decide +kernel
theorem dX1_init_0 : decode cX1_init 0 = .ok (.aload_n 0, 1) := dk_42 (dk_at dksX1_init_0 0 rfl rfl)
theorem dX1_init_1 : decode cX1_init 1 = .ok (.ldc 1, 2) := dk_18 1 (dk_at dksX1_init_0 1 rfl rfl)
theorem dX1_init_3 : decode cX1_init 3 = .ok (.aconst_null, 1) := dk_1 (dk_at dksX1_init_0 3 rfl rfl)
theorem dX1_init_4 : decode cX1_init 4 = .ok (.iconst 0, 1) := dk_3 (dk_at dksX1_init_0 4 rfl rfl)
theorem dX1_init_5 : decode cX1_init 5 = .ok (.iconst 0, 1) := dk_3 (dk_at dksX1_init_0 5 rfl rfl)
theorem dX1_init_6 : decode cX1_init 6 = .ok (.invokespecial 3, 3) := dk_183 0 3 (dk_at dksX1_init_0 6 rfl rfl)
theorem dX1_init_9 : decode cX1_init 9 = .ok (.return_, 1) := dk_177 (dk_at dksX1_init_0 9 rfl rfl)
def dkwX1_of_0 : List UInt8 := [42, 27, 181, 0, 9, 42, 28, 181, 0, 15, 42, 176]
abbrev dktX1_of_0 : List UInt8 := dkwX1_of_0 ++ []
theorem dksX1_of_0 : cX1_of.data.toList.drop 0 = dktX1_of_0 := by decide +kernel
theorem dX1_of_0 : decode cX1_of 0 = .ok (.aload_n 0, 1) := dk_42 (dk_at dksX1_of_0 0 rfl rfl)
theorem dX1_of_1 : decode cX1_of 1 = .ok (.iload_n 1, 1) := dk_27 (dk_at dksX1_of_0 1 rfl rfl)
theorem dX1_of_2 : decode cX1_of 2 = .ok (.putfield 9, 3) := dk_181 0 9 (dk_at dksX1_of_0 2 rfl rfl)
theorem dX1_of_5 : decode cX1_of 5 = .ok (.aload_n 0, 1) := dk_42 (dk_at dksX1_of_0 5 rfl rfl)
theorem dX1_of_6 : decode cX1_of 6 = .ok (.iload_n 2, 1) := dk_28 (dk_at dksX1_of_0 6 rfl rfl)
theorem dX1_of_7 : decode cX1_of 7 = .ok (.putfield 15, 3) := dk_181 0 15 (dk_at dksX1_of_0 7 rfl rfl)
theorem dX1_of_10 : decode cX1_of 10 = .ok (.aload_n 0, 1) := dk_42 (dk_at dksX1_of_0 10 rfl rfl)
theorem dX1_of_11 : decode cX1_of 11 = .ok (.areturn, 1) := dk_176 (dk_at dksX1_of_0 11 rfl rfl)
def dkwX16_init_0 : List UInt8 := [42, 183, 0, 1, 42, 43, 181, 0, 7, 177]
abbrev dktX16_init_0 : List UInt8 := dkwX16_init_0 ++ []
theorem dksX16_init_0 : cX16_init.data.toList.drop 0 = dktX16_init_0 := by decide +kernel
theorem dX16_init_0 : decode cX16_init 0 = .ok (.aload_n 0, 1) := dk_42 (dk_at dksX16_init_0 0 rfl rfl)
theorem dX16_init_1 : decode cX16_init 1 = .ok (.invokespecial 1, 3) := dk_183 0 1 (dk_at dksX16_init_0 1 rfl rfl)
theorem dX16_init_4 : decode cX16_init 4 = .ok (.aload_n 0, 1) := dk_42 (dk_at dksX16_init_0 4 rfl rfl)
theorem dX16_init_5 : decode cX16_init 5 = .ok (.aload_n 1, 1) := dk_43 (dk_at dksX16_init_0 5 rfl rfl)
theorem dX16_init_6 : decode cX16_init 6 = .ok (.putfield 7, 3) := dk_181 0 7 (dk_at dksX16_init_0 6 rfl rfl)
theorem dX16_init_9 : decode cX16_init 9 = .ok (.return_, 1) := dk_177 (dk_at dksX16_init_0 9 rfl rfl)
def dkwX2_init_7 : List UInt8 := [17, 7, 209, 188, 9, 181, 0, 72, 42, 17, 7, 209, 188, 9, 181, 0, 75, 177]
abbrev dktX2_init_7 : List UInt8 := dkwX2_init_7 ++ []
def dkwX2_init_6 : List UInt8 := [188, 8, 181, 0, 61, 42, 17, 7, 209, 188, 8, 181, 0, 65, 42, 17, 7, 209, 188, 9, 181, 0, 68, 42]
abbrev dktX2_init_6 : List UInt8 := dkwX2_init_6 ++ dktX2_init_7
def dkwX2_init_5 : List UInt8 := [16, 19, 18, 49, 83, 89, 16, 20, 18, 51, 83, 89, 16, 21, 18, 53, 83, 181, 0, 55, 42, 17, 7, 208]
abbrev dktX2_init_5 : List UInt8 := dkwX2_init_5 ++ dktX2_init_6
def dkwX2_init_4 : List UInt8 := [16, 15, 18, 41, 83, 89, 16, 16, 18, 43, 83, 89, 16, 17, 18, 45, 83, 89, 16, 18, 18, 47, 83, 89]
abbrev dktX2_init_4 : List UInt8 := dkwX2_init_4 ++ dktX2_init_5
def dkwX2_init_3 : List UInt8 := [16, 11, 18, 33, 83, 89, 16, 12, 18, 35, 83, 89, 16, 13, 18, 37, 83, 89, 16, 14, 18, 39, 83, 89]
abbrev dktX2_init_3 : List UInt8 := dkwX2_init_3 ++ dktX2_init_4
def dkwX2_init_2 : List UInt8 := [16, 7, 18, 25, 83, 89, 16, 8, 18, 27, 83, 89, 16, 9, 18, 29, 83, 89, 16, 10, 18, 31, 83, 89]
abbrev dktX2_init_2 : List UInt8 := dkwX2_init_2 ++ dktX2_init_3
def dkwX2_init_1 : List UInt8 := [83, 89, 6, 18, 17, 83, 89, 7, 18, 19, 83, 89, 8, 18, 21, 83, 89, 16, 6, 18, 23, 83, 89]
abbrev dktX2_init_1 : List UInt8 := dkwX2_init_1 ++ dktX2_init_2
def dkwX2_init_0 : List UInt8 := [42, 183, 0, 3, 42, 16, 22, 189, 0, 9, 89, 3, 18, 11, 83, 89, 4, 18, 13, 83, 89, 5, 18, 15]
abbrev dktX2_init_0 : List UInt8 := dkwX2_init_0 ++ dktX2_init_1
theorem dksX2_init_0 : cX2_init.data.toList.drop 0 = dktX2_init_0 := by decide +kernel
theorem dksX2_init_1 : cX2_init.data.toList.drop 24 = dktX2_init_1 := dk_seg dksX2_init_0 24 rfl rfl
theorem dksX2_init_2 : cX2_init.data.toList.drop 47 = dktX2_init_2 := dk_seg dksX2_init_1 23 rfl rfl
theorem dksX2_init_3 : cX2_init.data.toList.drop 71 = dktX2_init_3 := dk_seg dksX2_init_2 24 rfl rfl
theorem dksX2_init_4 : cX2_init.data.toList.drop 95 = dktX2_init_4 := dk_seg dksX2_init_3 24 rfl rfl
theorem dksX2_init_5 : cX2_init.data.toList.drop 119 = dktX2_init_5 := dk_seg dksX2_init_4 24 rfl rfl
theorem dksX2_init_6 : cX2_init.data.toList.drop 143 = dktX2_init_6 := dk_seg dksX2_init_5 24 rfl rfl
theorem dksX2_init_7 : cX2_init.data.toList.drop 167 = dktX2_init_7 := dk_seg dksX2_init_6 24 rfl rfl
theorem dX2_init_0 : decode cX2_init 0 = .ok (.aload_n 0, 1) := dk_42 (dk_at dksX2_init_0 0 rfl rfl)
theorem dX2_init_1 : decode cX2_init 1 = .ok (.invokespecial 3, 3) := dk_183 0 3 (dk_at dksX2_init_0 1 rfl rfl)
theorem dX2_init_4 : decode cX2_init 4 = .ok (.aload_n 0, 1) := dk_42 (dk_at dksX2_init_0 4 rfl rfl)
theorem dX2_init_5 : decode cX2_init 5 = .ok (.bipush 22, 2) := dk_16 22 (dk_at dksX2_init_0 5 rfl rfl)
theorem dX2_init_7 : decode cX2_init 7 = .ok (.anewarray 9, 3) := dk_189 0 9 (dk_at dksX2_init_0 7 rfl rfl)
theorem dX2_init_10 : decode cX2_init 10 = .ok (.dup, 1) := dk_89 (dk_at dksX2_init_0 10 rfl rfl)
theorem dX2_init_11 : decode cX2_init 11 = .ok (.iconst 0, 1) := dk_3 (dk_at dksX2_init_0 11 rfl rfl)
theorem dX2_init_12 : decode cX2_init 12 = .ok (.ldc 11, 2) := dk_18 11 (dk_at dksX2_init_0 12 rfl rfl)
theorem dX2_init_14 : decode cX2_init 14 = .ok (.aastore, 1) := dk_83 (dk_at dksX2_init_0 14 rfl rfl)
theorem dX2_init_15 : decode cX2_init 15 = .ok (.dup, 1) := dk_89 (dk_at dksX2_init_0 15 rfl rfl)
theorem dX2_init_16 : decode cX2_init 16 = .ok (.iconst 1, 1) := dk_4 (dk_at dksX2_init_0 16 rfl rfl)
theorem dX2_init_17 : decode cX2_init 17 = .ok (.ldc 13, 2) := dk_18 13 (dk_at dksX2_init_0 17 rfl rfl)
theorem dX2_init_19 : decode cX2_init 19 = .ok (.aastore, 1) := dk_83 (dk_at dksX2_init_0 19 rfl rfl)
theorem dX2_init_20 : decode cX2_init 20 = .ok (.dup, 1) := dk_89 (dk_at dksX2_init_0 20 rfl rfl)
theorem dX2_init_21 : decode cX2_init 21 = .ok (.iconst 2, 1) := dk_5 (dk_at dksX2_init_0 21 rfl rfl)
theorem dX2_init_22 : decode cX2_init 22 = .ok (.ldc 15, 2) := dk_18 15 (dk_at dksX2_init_0 22 rfl rfl)
theorem dX2_init_24 : decode cX2_init 24 = .ok (.aastore, 1) := dk_83 (dk_at dksX2_init_1 0 rfl rfl)
theorem dX2_init_25 : decode cX2_init 25 = .ok (.dup, 1) := dk_89 (dk_at dksX2_init_1 1 rfl rfl)
theorem dX2_init_26 : decode cX2_init 26 = .ok (.iconst 3, 1) := dk_6 (dk_at dksX2_init_1 2 rfl rfl)
theorem dX2_init_27 : decode cX2_init 27 = .ok (.ldc 17, 2) := dk_18 17 (dk_at dksX2_init_1 3 rfl rfl)
theorem dX2_init_29 : decode cX2_init 29 = .ok (.aastore, 1) := dk_83 (dk_at dksX2_init_1 5 rfl rfl)
theorem dX2_init_30 : decode cX2_init 30 = .ok (.dup, 1) := dk_89 (dk_at dksX2_init_1 6 rfl rfl)
theorem dX2_init_31 : decode cX2_init 31 = .ok (.iconst 4, 1) := dk_7 (dk_at dksX2_init_1 7 rfl rfl)
theorem dX2_init_32 : decode cX2_init 32 = .ok (.ldc 19, 2) := dk_18 19 (dk_at dksX2_init_1 8 rfl rfl)
theorem dX2_init_34 : decode cX2_init 34 = .ok (.aastore, 1) := dk_83 (dk_at dksX2_init_1 10 rfl rfl)
theorem dX2_init_35 : decode cX2_init 35 = .ok (.dup, 1) := dk_89 (dk_at dksX2_init_1 11 rfl rfl)
theorem dX2_init_36 : decode cX2_init 36 = .ok (.iconst 5, 1) := dk_8 (dk_at dksX2_init_1 12 rfl rfl)
theorem dX2_init_37 : decode cX2_init 37 = .ok (.ldc 21, 2) := dk_18 21 (dk_at dksX2_init_1 13 rfl rfl)
theorem dX2_init_39 : decode cX2_init 39 = .ok (.aastore, 1) := dk_83 (dk_at dksX2_init_1 15 rfl rfl)
theorem dX2_init_40 : decode cX2_init 40 = .ok (.dup, 1) := dk_89 (dk_at dksX2_init_1 16 rfl rfl)
theorem dX2_init_41 : decode cX2_init 41 = .ok (.bipush 6, 2) := dk_16 6 (dk_at dksX2_init_1 17 rfl rfl)
theorem dX2_init_43 : decode cX2_init 43 = .ok (.ldc 23, 2) := dk_18 23 (dk_at dksX2_init_1 19 rfl rfl)
theorem dX2_init_45 : decode cX2_init 45 = .ok (.aastore, 1) := dk_83 (dk_at dksX2_init_1 21 rfl rfl)
theorem dX2_init_46 : decode cX2_init 46 = .ok (.dup, 1) := dk_89 (dk_at dksX2_init_1 22 rfl rfl)
theorem dX2_init_47 : decode cX2_init 47 = .ok (.bipush 7, 2) := dk_16 7 (dk_at dksX2_init_2 0 rfl rfl)
theorem dX2_init_49 : decode cX2_init 49 = .ok (.ldc 25, 2) := dk_18 25 (dk_at dksX2_init_2 2 rfl rfl)
theorem dX2_init_51 : decode cX2_init 51 = .ok (.aastore, 1) := dk_83 (dk_at dksX2_init_2 4 rfl rfl)
theorem dX2_init_52 : decode cX2_init 52 = .ok (.dup, 1) := dk_89 (dk_at dksX2_init_2 5 rfl rfl)
theorem dX2_init_53 : decode cX2_init 53 = .ok (.bipush 8, 2) := dk_16 8 (dk_at dksX2_init_2 6 rfl rfl)
theorem dX2_init_55 : decode cX2_init 55 = .ok (.ldc 27, 2) := dk_18 27 (dk_at dksX2_init_2 8 rfl rfl)
theorem dX2_init_57 : decode cX2_init 57 = .ok (.aastore, 1) := dk_83 (dk_at dksX2_init_2 10 rfl rfl)
theorem dX2_init_58 : decode cX2_init 58 = .ok (.dup, 1) := dk_89 (dk_at dksX2_init_2 11 rfl rfl)
theorem dX2_init_59 : decode cX2_init 59 = .ok (.bipush 9, 2) := dk_16 9 (dk_at dksX2_init_2 12 rfl rfl)
theorem dX2_init_61 : decode cX2_init 61 = .ok (.ldc 29, 2) := dk_18 29 (dk_at dksX2_init_2 14 rfl rfl)
theorem dX2_init_63 : decode cX2_init 63 = .ok (.aastore, 1) := dk_83 (dk_at dksX2_init_2 16 rfl rfl)
theorem dX2_init_64 : decode cX2_init 64 = .ok (.dup, 1) := dk_89 (dk_at dksX2_init_2 17 rfl rfl)
theorem dX2_init_65 : decode cX2_init 65 = .ok (.bipush 10, 2) := dk_16 10 (dk_at dksX2_init_2 18 rfl rfl)
theorem dX2_init_67 : decode cX2_init 67 = .ok (.ldc 31, 2) := dk_18 31 (dk_at dksX2_init_2 20 rfl rfl)
theorem dX2_init_69 : decode cX2_init 69 = .ok (.aastore, 1) := dk_83 (dk_at dksX2_init_2 22 rfl rfl)
theorem dX2_init_70 : decode cX2_init 70 = .ok (.dup, 1) := dk_89 (dk_at dksX2_init_2 23 rfl rfl)
theorem dX2_init_71 : decode cX2_init 71 = .ok (.bipush 11, 2) := dk_16 11 (dk_at dksX2_init_3 0 rfl rfl)
theorem dX2_init_73 : decode cX2_init 73 = .ok (.ldc 33, 2) := dk_18 33 (dk_at dksX2_init_3 2 rfl rfl)
theorem dX2_init_75 : decode cX2_init 75 = .ok (.aastore, 1) := dk_83 (dk_at dksX2_init_3 4 rfl rfl)
theorem dX2_init_76 : decode cX2_init 76 = .ok (.dup, 1) := dk_89 (dk_at dksX2_init_3 5 rfl rfl)
theorem dX2_init_77 : decode cX2_init 77 = .ok (.bipush 12, 2) := dk_16 12 (dk_at dksX2_init_3 6 rfl rfl)
theorem dX2_init_79 : decode cX2_init 79 = .ok (.ldc 35, 2) := dk_18 35 (dk_at dksX2_init_3 8 rfl rfl)
theorem dX2_init_81 : decode cX2_init 81 = .ok (.aastore, 1) := dk_83 (dk_at dksX2_init_3 10 rfl rfl)
theorem dX2_init_82 : decode cX2_init 82 = .ok (.dup, 1) := dk_89 (dk_at dksX2_init_3 11 rfl rfl)
theorem dX2_init_83 : decode cX2_init 83 = .ok (.bipush 13, 2) := dk_16 13 (dk_at dksX2_init_3 12 rfl rfl)
theorem dX2_init_85 : decode cX2_init 85 = .ok (.ldc 37, 2) := dk_18 37 (dk_at dksX2_init_3 14 rfl rfl)
theorem dX2_init_87 : decode cX2_init 87 = .ok (.aastore, 1) := dk_83 (dk_at dksX2_init_3 16 rfl rfl)
theorem dX2_init_88 : decode cX2_init 88 = .ok (.dup, 1) := dk_89 (dk_at dksX2_init_3 17 rfl rfl)
theorem dX2_init_89 : decode cX2_init 89 = .ok (.bipush 14, 2) := dk_16 14 (dk_at dksX2_init_3 18 rfl rfl)
theorem dX2_init_91 : decode cX2_init 91 = .ok (.ldc 39, 2) := dk_18 39 (dk_at dksX2_init_3 20 rfl rfl)
theorem dX2_init_93 : decode cX2_init 93 = .ok (.aastore, 1) := dk_83 (dk_at dksX2_init_3 22 rfl rfl)
theorem dX2_init_94 : decode cX2_init 94 = .ok (.dup, 1) := dk_89 (dk_at dksX2_init_3 23 rfl rfl)
theorem dX2_init_95 : decode cX2_init 95 = .ok (.bipush 15, 2) := dk_16 15 (dk_at dksX2_init_4 0 rfl rfl)
theorem dX2_init_97 : decode cX2_init 97 = .ok (.ldc 41, 2) := dk_18 41 (dk_at dksX2_init_4 2 rfl rfl)
theorem dX2_init_99 : decode cX2_init 99 = .ok (.aastore, 1) := dk_83 (dk_at dksX2_init_4 4 rfl rfl)
theorem dX2_init_100 : decode cX2_init 100 = .ok (.dup, 1) := dk_89 (dk_at dksX2_init_4 5 rfl rfl)
theorem dX2_init_101 : decode cX2_init 101 = .ok (.bipush 16, 2) := dk_16 16 (dk_at dksX2_init_4 6 rfl rfl)
theorem dX2_init_103 : decode cX2_init 103 = .ok (.ldc 43, 2) := dk_18 43 (dk_at dksX2_init_4 8 rfl rfl)
theorem dX2_init_105 : decode cX2_init 105 = .ok (.aastore, 1) := dk_83 (dk_at dksX2_init_4 10 rfl rfl)
theorem dX2_init_106 : decode cX2_init 106 = .ok (.dup, 1) := dk_89 (dk_at dksX2_init_4 11 rfl rfl)
theorem dX2_init_107 : decode cX2_init 107 = .ok (.bipush 17, 2) := dk_16 17 (dk_at dksX2_init_4 12 rfl rfl)
theorem dX2_init_109 : decode cX2_init 109 = .ok (.ldc 45, 2) := dk_18 45 (dk_at dksX2_init_4 14 rfl rfl)
theorem dX2_init_111 : decode cX2_init 111 = .ok (.aastore, 1) := dk_83 (dk_at dksX2_init_4 16 rfl rfl)
theorem dX2_init_112 : decode cX2_init 112 = .ok (.dup, 1) := dk_89 (dk_at dksX2_init_4 17 rfl rfl)
theorem dX2_init_113 : decode cX2_init 113 = .ok (.bipush 18, 2) := dk_16 18 (dk_at dksX2_init_4 18 rfl rfl)
theorem dX2_init_115 : decode cX2_init 115 = .ok (.ldc 47, 2) := dk_18 47 (dk_at dksX2_init_4 20 rfl rfl)
theorem dX2_init_117 : decode cX2_init 117 = .ok (.aastore, 1) := dk_83 (dk_at dksX2_init_4 22 rfl rfl)
theorem dX2_init_118 : decode cX2_init 118 = .ok (.dup, 1) := dk_89 (dk_at dksX2_init_4 23 rfl rfl)
theorem dX2_init_119 : decode cX2_init 119 = .ok (.bipush 19, 2) := dk_16 19 (dk_at dksX2_init_5 0 rfl rfl)
theorem dX2_init_121 : decode cX2_init 121 = .ok (.ldc 49, 2) := dk_18 49 (dk_at dksX2_init_5 2 rfl rfl)
theorem dX2_init_123 : decode cX2_init 123 = .ok (.aastore, 1) := dk_83 (dk_at dksX2_init_5 4 rfl rfl)
theorem dX2_init_124 : decode cX2_init 124 = .ok (.dup, 1) := dk_89 (dk_at dksX2_init_5 5 rfl rfl)
theorem dX2_init_125 : decode cX2_init 125 = .ok (.bipush 20, 2) := dk_16 20 (dk_at dksX2_init_5 6 rfl rfl)
theorem dX2_init_127 : decode cX2_init 127 = .ok (.ldc 51, 2) := dk_18 51 (dk_at dksX2_init_5 8 rfl rfl)
theorem dX2_init_129 : decode cX2_init 129 = .ok (.aastore, 1) := dk_83 (dk_at dksX2_init_5 10 rfl rfl)
theorem dX2_init_130 : decode cX2_init 130 = .ok (.dup, 1) := dk_89 (dk_at dksX2_init_5 11 rfl rfl)
theorem dX2_init_131 : decode cX2_init 131 = .ok (.bipush 21, 2) := dk_16 21 (dk_at dksX2_init_5 12 rfl rfl)
theorem dX2_init_133 : decode cX2_init 133 = .ok (.ldc 53, 2) := dk_18 53 (dk_at dksX2_init_5 14 rfl rfl)
theorem dX2_init_135 : decode cX2_init 135 = .ok (.aastore, 1) := dk_83 (dk_at dksX2_init_5 16 rfl rfl)
theorem dX2_init_136 : decode cX2_init 136 = .ok (.putfield 55, 3) := dk_181 0 55 (dk_at dksX2_init_5 17 rfl rfl)
theorem dX2_init_139 : decode cX2_init 139 = .ok (.aload_n 0, 1) := dk_42 (dk_at dksX2_init_5 20 rfl rfl)
theorem dX2_init_140 : decode cX2_init 140 = .ok (.sipush 2000, 3) := dk_17 7 208 (dk_at dksX2_init_5 21 rfl rfl)
theorem dX2_init_143 : decode cX2_init 143 = .ok (.newarray .byte, 2) := dk_188_8 (dk_at dksX2_init_6 0 rfl rfl)
theorem dX2_init_145 : decode cX2_init 145 = .ok (.putfield 61, 3) := dk_181 0 61 (dk_at dksX2_init_6 2 rfl rfl)
theorem dX2_init_148 : decode cX2_init 148 = .ok (.aload_n 0, 1) := dk_42 (dk_at dksX2_init_6 5 rfl rfl)
theorem dX2_init_149 : decode cX2_init 149 = .ok (.sipush 2001, 3) := dk_17 7 209 (dk_at dksX2_init_6 6 rfl rfl)
theorem dX2_init_152 : decode cX2_init 152 = .ok (.newarray .byte, 2) := dk_188_8 (dk_at dksX2_init_6 9 rfl rfl)
theorem dX2_init_154 : decode cX2_init 154 = .ok (.putfield 65, 3) := dk_181 0 65 (dk_at dksX2_init_6 11 rfl rfl)
theorem dX2_init_157 : decode cX2_init 157 = .ok (.aload_n 0, 1) := dk_42 (dk_at dksX2_init_6 14 rfl rfl)
theorem dX2_init_158 : decode cX2_init 158 = .ok (.sipush 2001, 3) := dk_17 7 209 (dk_at dksX2_init_6 15 rfl rfl)
theorem dX2_init_161 : decode cX2_init 161 = .ok (.newarray .short, 2) := dk_188_9 (dk_at dksX2_init_6 18 rfl rfl)
theorem dX2_init_163 : decode cX2_init 163 = .ok (.putfield 68, 3) := dk_181 0 68 (dk_at dksX2_init_6 20 rfl rfl)
theorem dX2_init_166 : decode cX2_init 166 = .ok (.aload_n 0, 1) := dk_42 (dk_at dksX2_init_6 23 rfl rfl)
theorem dX2_init_167 : decode cX2_init 167 = .ok (.sipush 2001, 3) := dk_17 7 209 (dk_at dksX2_init_7 0 rfl rfl)
theorem dX2_init_170 : decode cX2_init 170 = .ok (.newarray .short, 2) := dk_188_9 (dk_at dksX2_init_7 3 rfl rfl)
theorem dX2_init_172 : decode cX2_init 172 = .ok (.putfield 72, 3) := dk_181 0 72 (dk_at dksX2_init_7 5 rfl rfl)
theorem dX2_init_175 : decode cX2_init 175 = .ok (.aload_n 0, 1) := dk_42 (dk_at dksX2_init_7 8 rfl rfl)
theorem dX2_init_176 : decode cX2_init 176 = .ok (.sipush 2001, 3) := dk_17 7 209 (dk_at dksX2_init_7 9 rfl rfl)
theorem dX2_init_179 : decode cX2_init 179 = .ok (.newarray .short, 2) := dk_188_9 (dk_at dksX2_init_7 12 rfl rfl)
theorem dX2_init_181 : decode cX2_init 181 = .ok (.putfield 75, 3) := dk_181 0 75 (dk_at dksX2_init_7 14 rfl rfl)
theorem dX2_init_184 : decode cX2_init 184 = .ok (.return_, 1) := dk_177 (dk_at dksX2_init_7 17 rfl rfl)
def dkwX2_read_9 : List UInt8 := [61, 21, 4, 60, 167, 255, 53, 28, 153, 0, 11, 42, 7, 27, 27, 3, 182, 0, 111, 177]
abbrev dktX2_read_9 : List UInt8 := dkwX2_read_9 ++ []
def dkwX2_read_8 : List UInt8 := [54, 5, 42, 21, 5, 27, 21, 4, 21, 6, 182, 0, 111, 21, 5, 8, 159, 0, 7, 4, 167, 0, 4, 3]
abbrev dktX2_read_8 : List UInt8 := dkwX2_read_8 ++ dktX2_read_9
def dkwX2_read_7 : List UInt8 := [4, 54, 5, 167, 0, 22, 42, 27, 182, 0, 108, 54, 6, 21, 6, 154, 0, 7, 8, 167, 0, 4, 5]
abbrev dktX2_read_7 : List UInt8 := dkwX2_read_7 ++ dktX2_read_8
def dkwX2_read_6 : List UInt8 := [182, 0, 105, 153, 0, 9, 132, 4, 1, 167, 255, 244, 21, 4, 27, 100, 7, 164, 0, 7, 8, 167, 0, 4]
abbrev dktX2_read_6 : List UInt8 := dkwX2_read_6 ++ dktX2_read_7
def dkwX2_read_5 : List UInt8 := [164, 0, 7, 8, 167, 0, 4, 3, 54, 5, 167, 0, 63, 42, 27, 182, 0, 105, 153, 0, 36, 42, 21, 4]
abbrev dktX2_read_5 : List UInt8 := dkwX2_read_5 ++ dktX2_read_6
def dkwX2_read_4 : List UInt8 := [21, 4, 182, 0, 101, 54, 6, 21, 6, 155, 0, 7, 6, 167, 0, 17, 21, 4, 27, 100, 16, 8]
abbrev dktX2_read_4 : List UInt8 := dkwX2_read_4 ++ dktX2_read_5
def dkwX2_read_3 : List UInt8 := [182, 0, 97, 153, 0, 55, 42, 21, 4, 182, 0, 97, 153, 0, 9, 132, 4, 1, 167, 255, 244, 42, 27]
abbrev dktX2_read_3 : List UInt8 := dkwX2_read_3 ++ dktX2_read_4
def dkwX2_read_2 : List UInt8 := [16, 10, 159, 0, 9, 29, 16, 13, 160, 0, 9, 132, 1, 1, 167, 255, 205, 3, 54, 6, 42, 27]
abbrev dktX2_read_2 : List UInt8 := dkwX2_read_2 ++ dktX2_read_3
def dkwX2_read_1 : List UInt8 := [180, 0, 61, 27, 51, 62, 27, 4, 96, 54, 4, 29, 16, 32, 159, 0, 21, 29, 16, 9, 159, 0, 15, 29]
abbrev dktX2_read_1 : List UInt8 := dkwX2_read_1 ++ dktX2_read_2
def dkwX2_read_0 : List UInt8 := [42, 3, 181, 0, 86, 3, 60, 4, 61, 27, 42, 180, 0, 78, 162, 0, 201, 28, 153, 0, 197, 42]
abbrev dktX2_read_0 : List UInt8 := dkwX2_read_0 ++ dktX2_read_1
theorem dksX2_read_0 : cX2_read.data.toList.drop 0 = dktX2_read_0 := by decide +kernel
theorem dksX2_read_1 : cX2_read.data.toList.drop 22 = dktX2_read_1 := dk_seg dksX2_read_0 22 rfl rfl
theorem dksX2_read_2 : cX2_read.data.toList.drop 46 = dktX2_read_2 := dk_seg dksX2_read_1 24 rfl rfl
theorem dksX2_read_3 : cX2_read.data.toList.drop 68 = dktX2_read_3 := dk_seg dksX2_read_2 22 rfl rfl
theorem dksX2_read_4 : cX2_read.data.toList.drop 91 = dktX2_read_4 := dk_seg dksX2_read_3 23 rfl rfl
theorem dksX2_read_5 : cX2_read.data.toList.drop 113 = dktX2_read_5 := dk_seg dksX2_read_4 22 rfl rfl
theorem dksX2_read_6 : cX2_read.data.toList.drop 137 = dktX2_read_6 := dk_seg dksX2_read_5 24 rfl rfl
theorem dksX2_read_7 : cX2_read.data.toList.drop 161 = dktX2_read_7 := dk_seg dksX2_read_6 24 rfl rfl
theorem dksX2_read_8 : cX2_read.data.toList.drop 184 = dktX2_read_8 := dk_seg dksX2_read_7 23 rfl rfl
theorem dksX2_read_9 : cX2_read.data.toList.drop 208 = dktX2_read_9 := dk_seg dksX2_read_8 24 rfl rfl
theorem dX2_read_0 : decode cX2_read 0 = .ok (.aload_n 0, 1) := dk_42 (dk_at dksX2_read_0 0 rfl rfl)
theorem dX2_read_1 : decode cX2_read 1 = .ok (.iconst 0, 1) := dk_3 (dk_at dksX2_read_0 1 rfl rfl)
theorem dX2_read_2 : decode cX2_read 2 = .ok (.putfield 86, 3) := dk_181 0 86 (dk_at dksX2_read_0 2 rfl rfl)
theorem dX2_read_5 : decode cX2_read 5 = .ok (.iconst 0, 1) := dk_3 (dk_at dksX2_read_0 5 rfl rfl)
theorem dX2_read_6 : decode cX2_read 6 = .ok (.istore_n 1, 1) := dk_60 (dk_at dksX2_read_0 6 rfl rfl)
theorem dX2_read_7 : decode cX2_read 7 = .ok (.iconst 1, 1) := dk_4 (dk_at dksX2_read_0 7 rfl rfl)
theorem dX2_read_8 : decode cX2_read 8 = .ok (.istore_n 2, 1) := dk_61 (dk_at dksX2_read_0 8 rfl rfl)
theorem dX2_read_9 : decode cX2_read 9 = .ok (.iload_n 1, 1) := dk_27 (dk_at dksX2_read_0 9 rfl rfl)
theorem dX2_read_10 : decode cX2_read 10 = .ok (.aload_n 0, 1) := dk_42 (dk_at dksX2_read_0 10 rfl rfl)
theorem dX2_read_11 : decode cX2_read 11 = .ok (.getfield 78, 3) := dk_180 0 78 (dk_at dksX2_read_0 11 rfl rfl)
theorem dX2_read_14 : decode cX2_read 14 = .ok (.if_icmp .ge 201, 3) := dk_162 0 201 (dk_at dksX2_read_0 14 rfl rfl)
theorem dX2_read_17 : decode cX2_read 17 = .ok (.iload_n 2, 1) := dk_28 (dk_at dksX2_read_0 17 rfl rfl)
theorem dX2_read_18 : decode cX2_read 18 = .ok (.ifCond .eq 197, 3) := dk_153 0 197 (dk_at dksX2_read_0 18 rfl rfl)
theorem dX2_read_21 : decode cX2_read 21 = .ok (.aload_n 0, 1) := dk_42 (dk_at dksX2_read_0 21 rfl rfl)
theorem dX2_read_22 : decode cX2_read 22 = .ok (.getfield 61, 3) := dk_180 0 61 (dk_at dksX2_read_1 0 rfl rfl)
theorem dX2_read_25 : decode cX2_read 25 = .ok (.iload_n 1, 1) := dk_27 (dk_at dksX2_read_1 3 rfl rfl)
theorem dX2_read_26 : decode cX2_read 26 = .ok (.baload, 1) := dk_51 (dk_at dksX2_read_1 4 rfl rfl)
theorem dX2_read_27 : decode cX2_read 27 = .ok (.istore_n 3, 1) := dk_62 (dk_at dksX2_read_1 5 rfl rfl)
theorem dX2_read_28 : decode cX2_read 28 = .ok (.iload_n 1, 1) := dk_27 (dk_at dksX2_read_1 6 rfl rfl)
theorem dX2_read_29 : decode cX2_read 29 = .ok (.iconst 1, 1) := dk_4 (dk_at dksX2_read_1 7 rfl rfl)
theorem dX2_read_30 : decode cX2_read 30 = .ok (.iadd, 1) := dk_96 (dk_at dksX2_read_1 8 rfl rfl)
theorem dX2_read_31 : decode cX2_read 31 = .ok (.istore 4, 2) := dk_54 4 (dk_at dksX2_read_1 9 rfl rfl)
theorem dX2_read_33 : decode cX2_read 33 = .ok (.iload_n 3, 1) := dk_29 (dk_at dksX2_read_1 11 rfl rfl)
theorem dX2_read_34 : decode cX2_read 34 = .ok (.bipush 32, 2) := dk_16 32 (dk_at dksX2_read_1 12 rfl rfl)
theorem dX2_read_36 : decode cX2_read 36 = .ok (.if_icmp .eq 21, 3) := dk_159 0 21 (dk_at dksX2_read_1 14 rfl rfl)
theorem dX2_read_39 : decode cX2_read 39 = .ok (.iload_n 3, 1) := dk_29 (dk_at dksX2_read_1 17 rfl rfl)
theorem dX2_read_40 : decode cX2_read 40 = .ok (.bipush 9, 2) := dk_16 9 (dk_at dksX2_read_1 18 rfl rfl)
theorem dX2_read_42 : decode cX2_read 42 = .ok (.if_icmp .eq 15, 3) := dk_159 0 15 (dk_at dksX2_read_1 20 rfl rfl)
theorem dX2_read_45 : decode cX2_read 45 = .ok (.iload_n 3, 1) := dk_29 (dk_at dksX2_read_1 23 rfl rfl)
theorem dX2_read_46 : decode cX2_read 46 = .ok (.bipush 10, 2) := dk_16 10 (dk_at dksX2_read_2 0 rfl rfl)
theorem dX2_read_48 : decode cX2_read 48 = .ok (.if_icmp .eq 9, 3) := dk_159 0 9 (dk_at dksX2_read_2 2 rfl rfl)
theorem dX2_read_51 : decode cX2_read 51 = .ok (.iload_n 3, 1) := dk_29 (dk_at dksX2_read_2 5 rfl rfl)
theorem dX2_read_52 : decode cX2_read 52 = .ok (.bipush 13, 2) := dk_16 13 (dk_at dksX2_read_2 6 rfl rfl)
theorem dX2_read_54 : decode cX2_read 54 = .ok (.if_icmp .ne 9, 3) := dk_160 0 9 (dk_at dksX2_read_2 8 rfl rfl)
theorem dX2_read_57 : decode cX2_read 57 = .ok (.iinc 1 1, 3) := dk_132 1 1 (dk_at dksX2_read_2 11 rfl rfl)
theorem dX2_read_60 : decode cX2_read 60 = .ok (.goto (-51), 3) := dk_167 255 205 (dk_at dksX2_read_2 14 rfl rfl)
theorem dX2_read_63 : decode cX2_read 63 = .ok (.iconst 0, 1) := dk_3 (dk_at dksX2_read_2 17 rfl rfl)
theorem dX2_read_64 : decode cX2_read 64 = .ok (.istore 6, 2) := dk_54 6 (dk_at dksX2_read_2 18 rfl rfl)
theorem dX2_read_66 : decode cX2_read 66 = .ok (.aload_n 0, 1) := dk_42 (dk_at dksX2_read_2 20 rfl rfl)
theorem dX2_read_67 : decode cX2_read 67 = .ok (.iload_n 1, 1) := dk_27 (dk_at dksX2_read_2 21 rfl rfl)
theorem dX2_read_68 : decode cX2_read 68 = .ok (.invokevirtual 97, 3) := dk_182 0 97 (dk_at dksX2_read_3 0 rfl rfl)
theorem dX2_read_71 : decode cX2_read 71 = .ok (.ifCond .eq 55, 3) := dk_153 0 55 (dk_at dksX2_read_3 3 rfl rfl)
theorem dX2_read_74 : decode cX2_read 74 = .ok (.aload_n 0, 1) := dk_42 (dk_at dksX2_read_3 6 rfl rfl)
theorem dX2_read_75 : decode cX2_read 75 = .ok (.iload 4, 2) := dk_21 4 (dk_at dksX2_read_3 7 rfl rfl)
theorem dX2_read_77 : decode cX2_read 77 = .ok (.invokevirtual 97, 3) := dk_182 0 97 (dk_at dksX2_read_3 9 rfl rfl)
theorem dX2_read_80 : decode cX2_read 80 = .ok (.ifCond .eq 9, 3) := dk_153 0 9 (dk_at dksX2_read_3 12 rfl rfl)
theorem dX2_read_83 : decode cX2_read 83 = .ok (.iinc 4 1, 3) := dk_132 4 1 (dk_at dksX2_read_3 15 rfl rfl)
theorem dX2_read_86 : decode cX2_read 86 = .ok (.goto (-12), 3) := dk_167 255 244 (dk_at dksX2_read_3 18 rfl rfl)
theorem dX2_read_89 : decode cX2_read 89 = .ok (.aload_n 0, 1) := dk_42 (dk_at dksX2_read_3 21 rfl rfl)
theorem dX2_read_90 : decode cX2_read 90 = .ok (.iload_n 1, 1) := dk_27 (dk_at dksX2_read_3 22 rfl rfl)
theorem dX2_read_91 : decode cX2_read 91 = .ok (.iload 4, 2) := dk_21 4 (dk_at dksX2_read_4 0 rfl rfl)
theorem dX2_read_93 : decode cX2_read 93 = .ok (.invokevirtual 101, 3) := dk_182 0 101 (dk_at dksX2_read_4 2 rfl rfl)
theorem dX2_read_96 : decode cX2_read 96 = .ok (.istore 6, 2) := dk_54 6 (dk_at dksX2_read_4 5 rfl rfl)
theorem dX2_read_98 : decode cX2_read 98 = .ok (.iload 6, 2) := dk_21 6 (dk_at dksX2_read_4 7 rfl rfl)
theorem dX2_read_100 : decode cX2_read 100 = .ok (.ifCond .lt 7, 3) := dk_155 0 7 (dk_at dksX2_read_4 9 rfl rfl)
theorem dX2_read_103 : decode cX2_read 103 = .ok (.iconst 3, 1) := dk_6 (dk_at dksX2_read_4 12 rfl rfl)
theorem dX2_read_104 : decode cX2_read 104 = .ok (.goto 17, 3) := dk_167 0 17 (dk_at dksX2_read_4 13 rfl rfl)
theorem dX2_read_107 : decode cX2_read 107 = .ok (.iload 4, 2) := dk_21 4 (dk_at dksX2_read_4 16 rfl rfl)
theorem dX2_read_109 : decode cX2_read 109 = .ok (.iload_n 1, 1) := dk_27 (dk_at dksX2_read_4 18 rfl rfl)
theorem dX2_read_110 : decode cX2_read 110 = .ok (.isub, 1) := dk_100 (dk_at dksX2_read_4 19 rfl rfl)
theorem dX2_read_111 : decode cX2_read 111 = .ok (.bipush 8, 2) := dk_16 8 (dk_at dksX2_read_4 20 rfl rfl)
theorem dX2_read_113 : decode cX2_read 113 = .ok (.if_icmp .le 7, 3) := dk_164 0 7 (dk_at dksX2_read_5 0 rfl rfl)
theorem dX2_read_116 : decode cX2_read 116 = .ok (.iconst 5, 1) := dk_8 (dk_at dksX2_read_5 3 rfl rfl)
theorem dX2_read_117 : decode cX2_read 117 = .ok (.goto 4, 3) := dk_167 0 4 (dk_at dksX2_read_5 4 rfl rfl)
theorem dX2_read_120 : decode cX2_read 120 = .ok (.iconst 0, 1) := dk_3 (dk_at dksX2_read_5 7 rfl rfl)
theorem dX2_read_121 : decode cX2_read 121 = .ok (.istore 5, 2) := dk_54 5 (dk_at dksX2_read_5 8 rfl rfl)
theorem dX2_read_123 : decode cX2_read 123 = .ok (.goto 63, 3) := dk_167 0 63 (dk_at dksX2_read_5 10 rfl rfl)
theorem dX2_read_126 : decode cX2_read 126 = .ok (.aload_n 0, 1) := dk_42 (dk_at dksX2_read_5 13 rfl rfl)
theorem dX2_read_127 : decode cX2_read 127 = .ok (.iload_n 1, 1) := dk_27 (dk_at dksX2_read_5 14 rfl rfl)
theorem dX2_read_128 : decode cX2_read 128 = .ok (.invokevirtual 105, 3) := dk_182 0 105 (dk_at dksX2_read_5 15 rfl rfl)
theorem dX2_read_131 : decode cX2_read 131 = .ok (.ifCond .eq 36, 3) := dk_153 0 36 (dk_at dksX2_read_5 18 rfl rfl)
theorem dX2_read_134 : decode cX2_read 134 = .ok (.aload_n 0, 1) := dk_42 (dk_at dksX2_read_5 21 rfl rfl)
theorem dX2_read_135 : decode cX2_read 135 = .ok (.iload 4, 2) := dk_21 4 (dk_at dksX2_read_5 22 rfl rfl)
theorem dX2_read_137 : decode cX2_read 137 = .ok (.invokevirtual 105, 3) := dk_182 0 105 (dk_at dksX2_read_6 0 rfl rfl)
theorem dX2_read_140 : decode cX2_read 140 = .ok (.ifCond .eq 9, 3) := dk_153 0 9 (dk_at dksX2_read_6 3 rfl rfl)
theorem dX2_read_143 : decode cX2_read 143 = .ok (.iinc 4 1, 3) := dk_132 4 1 (dk_at dksX2_read_6 6 rfl rfl)
theorem dX2_read_146 : decode cX2_read 146 = .ok (.goto (-12), 3) := dk_167 255 244 (dk_at dksX2_read_6 9 rfl rfl)
theorem dX2_read_149 : decode cX2_read 149 = .ok (.iload 4, 2) := dk_21 4 (dk_at dksX2_read_6 12 rfl rfl)
theorem dX2_read_151 : decode cX2_read 151 = .ok (.iload_n 1, 1) := dk_27 (dk_at dksX2_read_6 14 rfl rfl)
theorem dX2_read_152 : decode cX2_read 152 = .ok (.isub, 1) := dk_100 (dk_at dksX2_read_6 15 rfl rfl)
theorem dX2_read_153 : decode cX2_read 153 = .ok (.iconst 4, 1) := dk_7 (dk_at dksX2_read_6 16 rfl rfl)
theorem dX2_read_154 : decode cX2_read 154 = .ok (.if_icmp .le 7, 3) := dk_164 0 7 (dk_at dksX2_read_6 17 rfl rfl)
theorem dX2_read_157 : decode cX2_read 157 = .ok (.iconst 5, 1) := dk_8 (dk_at dksX2_read_6 20 rfl rfl)
theorem dX2_read_158 : decode cX2_read 158 = .ok (.goto 4, 3) := dk_167 0 4 (dk_at dksX2_read_6 21 rfl rfl)
theorem dX2_read_161 : decode cX2_read 161 = .ok (.iconst 1, 1) := dk_4 (dk_at dksX2_read_7 0 rfl rfl)
theorem dX2_read_162 : decode cX2_read 162 = .ok (.istore 5, 2) := dk_54 5 (dk_at dksX2_read_7 1 rfl rfl)
theorem dX2_read_164 : decode cX2_read 164 = .ok (.goto 22, 3) := dk_167 0 22 (dk_at dksX2_read_7 3 rfl rfl)
theorem dX2_read_167 : decode cX2_read 167 = .ok (.aload_n 0, 1) := dk_42 (dk_at dksX2_read_7 6 rfl rfl)
theorem dX2_read_168 : decode cX2_read 168 = .ok (.iload_n 1, 1) := dk_27 (dk_at dksX2_read_7 7 rfl rfl)
theorem dX2_read_169 : decode cX2_read 169 = .ok (.invokevirtual 108, 3) := dk_182 0 108 (dk_at dksX2_read_7 8 rfl rfl)
theorem dX2_read_172 : decode cX2_read 172 = .ok (.istore 6, 2) := dk_54 6 (dk_at dksX2_read_7 11 rfl rfl)
theorem dX2_read_174 : decode cX2_read 174 = .ok (.iload 6, 2) := dk_21 6 (dk_at dksX2_read_7 13 rfl rfl)
theorem dX2_read_176 : decode cX2_read 176 = .ok (.ifCond .ne 7, 3) := dk_154 0 7 (dk_at dksX2_read_7 15 rfl rfl)
theorem dX2_read_179 : decode cX2_read 179 = .ok (.iconst 5, 1) := dk_8 (dk_at dksX2_read_7 18 rfl rfl)
theorem dX2_read_180 : decode cX2_read 180 = .ok (.goto 4, 3) := dk_167 0 4 (dk_at dksX2_read_7 19 rfl rfl)
theorem dX2_read_183 : decode cX2_read 183 = .ok (.iconst 2, 1) := dk_5 (dk_at dksX2_read_7 22 rfl rfl)
theorem dX2_read_184 : decode cX2_read 184 = .ok (.istore 5, 2) := dk_54 5 (dk_at dksX2_read_8 0 rfl rfl)
theorem dX2_read_186 : decode cX2_read 186 = .ok (.aload_n 0, 1) := dk_42 (dk_at dksX2_read_8 2 rfl rfl)
theorem dX2_read_187 : decode cX2_read 187 = .ok (.iload 5, 2) := dk_21 5 (dk_at dksX2_read_8 3 rfl rfl)
theorem dX2_read_189 : decode cX2_read 189 = .ok (.iload_n 1, 1) := dk_27 (dk_at dksX2_read_8 5 rfl rfl)
theorem dX2_read_190 : decode cX2_read 190 = .ok (.iload 4, 2) := dk_21 4 (dk_at dksX2_read_8 6 rfl rfl)
theorem dX2_read_192 : decode cX2_read 192 = .ok (.iload 6, 2) := dk_21 6 (dk_at dksX2_read_8 8 rfl rfl)
theorem dX2_read_194 : decode cX2_read 194 = .ok (.invokevirtual 111, 3) := dk_182 0 111 (dk_at dksX2_read_8 10 rfl rfl)
theorem dX2_read_197 : decode cX2_read 197 = .ok (.iload 5, 2) := dk_21 5 (dk_at dksX2_read_8 13 rfl rfl)
theorem dX2_read_199 : decode cX2_read 199 = .ok (.iconst 5, 1) := dk_8 (dk_at dksX2_read_8 15 rfl rfl)
theorem dX2_read_200 : decode cX2_read 200 = .ok (.if_icmp .eq 7, 3) := dk_159 0 7 (dk_at dksX2_read_8 16 rfl rfl)
theorem dX2_read_203 : decode cX2_read 203 = .ok (.iconst 1, 1) := dk_4 (dk_at dksX2_read_8 19 rfl rfl)
theorem dX2_read_204 : decode cX2_read 204 = .ok (.goto 4, 3) := dk_167 0 4 (dk_at dksX2_read_8 20 rfl rfl)
theorem dX2_read_207 : decode cX2_read 207 = .ok (.iconst 0, 1) := dk_3 (dk_at dksX2_read_8 23 rfl rfl)
theorem dX2_read_208 : decode cX2_read 208 = .ok (.istore_n 2, 1) := dk_61 (dk_at dksX2_read_9 0 rfl rfl)
theorem dX2_read_209 : decode cX2_read 209 = .ok (.iload 4, 2) := dk_21 4 (dk_at dksX2_read_9 1 rfl rfl)
theorem dX2_read_211 : decode cX2_read 211 = .ok (.istore_n 1, 1) := dk_60 (dk_at dksX2_read_9 3 rfl rfl)
theorem dX2_read_212 : decode cX2_read 212 = .ok (.goto (-203), 3) := dk_167 255 53 (dk_at dksX2_read_9 4 rfl rfl)
theorem dX2_read_215 : decode cX2_read 215 = .ok (.iload_n 2, 1) := dk_28 (dk_at dksX2_read_9 7 rfl rfl)
theorem dX2_read_216 : decode cX2_read 216 = .ok (.ifCond .eq 11, 3) := dk_153 0 11 (dk_at dksX2_read_9 8 rfl rfl)
theorem dX2_read_219 : decode cX2_read 219 = .ok (.aload_n 0, 1) := dk_42 (dk_at dksX2_read_9 11 rfl rfl)
theorem dX2_read_220 : decode cX2_read 220 = .ok (.iconst 4, 1) := dk_7 (dk_at dksX2_read_9 12 rfl rfl)
theorem dX2_read_221 : decode cX2_read 221 = .ok (.iload_n 1, 1) := dk_27 (dk_at dksX2_read_9 13 rfl rfl)
theorem dX2_read_222 : decode cX2_read 222 = .ok (.iload_n 1, 1) := dk_27 (dk_at dksX2_read_9 14 rfl rfl)
theorem dX2_read_223 : decode cX2_read 223 = .ok (.iconst 0, 1) := dk_3 (dk_at dksX2_read_9 15 rfl rfl)
theorem dX2_read_224 : decode cX2_read 224 = .ok (.invokevirtual 111, 3) := dk_182 0 111 (dk_at dksX2_read_9 16 rfl rfl)
theorem dX2_read_227 : decode cX2_read 227 = .ok (.return_, 1) := dk_177 (dk_at dksX2_read_9 19 rfl rfl)
def dkwX2_isLetter_1 : List UInt8 := [3, 172]
abbrev dktX2_isLetter_1 : List UInt8 := dkwX2_isLetter_1 ++ []
def dkwX2_isLetter_0 : List UInt8 := [42, 27, 182, 0, 82, 16, 97, 161, 0, 17, 42, 27, 182, 0, 82, 16, 122, 163, 0, 7, 4, 167, 0, 4]
abbrev dktX2_isLetter_0 : List UInt8 := dkwX2_isLetter_0 ++ dktX2_isLetter_1
theorem dksX2_isLetter_0 : cX2_isLetter.data.toList.drop 0 = dktX2_isLetter_0 := by decide +kernel
theorem dksX2_isLetter_1 : cX2_isLetter.data.toList.drop 24 = dktX2_isLetter_1 := dk_seg dksX2_isLetter_0 24 rfl rfl
theorem dX2_isLetter_0 : decode cX2_isLetter 0 = .ok (.aload_n 0, 1) := dk_42 (dk_at dksX2_isLetter_0 0 rfl rfl)
theorem dX2_isLetter_1 : decode cX2_isLetter 1 = .ok (.iload_n 1, 1) := dk_27 (dk_at dksX2_isLetter_0 1 rfl rfl)
theorem dX2_isLetter_2 : decode cX2_isLetter 2 = .ok (.invokevirtual 82, 3) := dk_182 0 82 (dk_at dksX2_isLetter_0 2 rfl rfl)
theorem dX2_isLetter_5 : decode cX2_isLetter 5 = .ok (.bipush 97, 2) := dk_16 97 (dk_at dksX2_isLetter_0 5 rfl rfl)
theorem dX2_isLetter_7 : decode cX2_isLetter 7 = .ok (.if_icmp .lt 17, 3) := dk_161 0 17 (dk_at dksX2_isLetter_0 7 rfl rfl)
theorem dX2_isLetter_10 : decode cX2_isLetter 10 = .ok (.aload_n 0, 1) := dk_42 (dk_at dksX2_isLetter_0 10 rfl rfl)
theorem dX2_isLetter_11 : decode cX2_isLetter 11 = .ok (.iload_n 1, 1) := dk_27 (dk_at dksX2_isLetter_0 11 rfl rfl)
theorem dX2_isLetter_12 : decode cX2_isLetter 12 = .ok (.invokevirtual 82, 3) := dk_182 0 82 (dk_at dksX2_isLetter_0 12 rfl rfl)
theorem dX2_isLetter_15 : decode cX2_isLetter 15 = .ok (.bipush 122, 2) := dk_16 122 (dk_at dksX2_isLetter_0 15 rfl rfl)
theorem dX2_isLetter_17 : decode cX2_isLetter 17 = .ok (.if_icmp .gt 7, 3) := dk_163 0 7 (dk_at dksX2_isLetter_0 17 rfl rfl)
theorem dX2_isLetter_20 : decode cX2_isLetter 20 = .ok (.iconst 1, 1) := dk_4 (dk_at dksX2_isLetter_0 20 rfl rfl)
theorem dX2_isLetter_21 : decode cX2_isLetter 21 = .ok (.goto 4, 3) := dk_167 0 4 (dk_at dksX2_isLetter_0 21 rfl rfl)
theorem dX2_isLetter_24 : decode cX2_isLetter 24 = .ok (.iconst 0, 1) := dk_3 (dk_at dksX2_isLetter_1 0 rfl rfl)
theorem dX2_isLetter_25 : decode cX2_isLetter 25 = .ok (.ireturn, 1) := dk_172 (dk_at dksX2_isLetter_1 1 rfl rfl)
def dkwX2_at_0 : List UInt8 := [27, 42, 180, 0, 78, 162, 0, 12, 42, 180, 0, 61, 27, 51, 167, 0, 4, 3, 172]
abbrev dktX2_at_0 : List UInt8 := dkwX2_at_0 ++ []
theorem dksX2_at_0 : cX2_at.data.toList.drop 0 = dktX2_at_0 := by decide +kernel
theorem dX2_at_0 : decode cX2_at 0 = .ok (.iload_n 1, 1) := dk_27 (dk_at dksX2_at_0 0 rfl rfl)
theorem dX2_at_1 : decode cX2_at 1 = .ok (.aload_n 0, 1) := dk_42 (dk_at dksX2_at_0 1 rfl rfl)
theorem dX2_at_2 : decode cX2_at 2 = .ok (.getfield 78, 3) := dk_180 0 78 (dk_at dksX2_at_0 2 rfl rfl)
theorem dX2_at_5 : decode cX2_at 5 = .ok (.if_icmp .ge 12, 3) := dk_162 0 12 (dk_at dksX2_at_0 5 rfl rfl)
theorem dX2_at_8 : decode cX2_at 8 = .ok (.aload_n 0, 1) := dk_42 (dk_at dksX2_at_0 8 rfl rfl)
theorem dX2_at_9 : decode cX2_at 9 = .ok (.getfield 61, 3) := dk_180 0 61 (dk_at dksX2_at_0 9 rfl rfl)
theorem dX2_at_12 : decode cX2_at 12 = .ok (.iload_n 1, 1) := dk_27 (dk_at dksX2_at_0 12 rfl rfl)
theorem dX2_at_13 : decode cX2_at 13 = .ok (.baload, 1) := dk_51 (dk_at dksX2_at_0 13 rfl rfl)
theorem dX2_at_14 : decode cX2_at 14 = .ok (.goto 4, 3) := dk_167 0 4 (dk_at dksX2_at_0 14 rfl rfl)
theorem dX2_at_17 : decode cX2_at 17 = .ok (.iconst 0, 1) := dk_3 (dk_at dksX2_at_0 17 rfl rfl)
theorem dX2_at_18 : decode cX2_at 18 = .ok (.ireturn, 1) := dk_172 (dk_at dksX2_at_0 18 rfl rfl)
def dkwX2_word_4 : List UInt8 := [167, 255, 165, 2, 172]
abbrev dktX2_word_4 : List UInt8 := dkwX2_word_4 ++ []
def dkwX2_word_3 : List UInt8 := [167, 0, 4, 3, 54, 4, 132, 5, 1, 167, 255, 212, 21, 4, 153, 0, 5, 29, 172, 132, 3, 1]
abbrev dktX2_word_3 : List UInt8 := dkwX2_word_3 ++ dktX2_word_4
def dkwX2_word_2 : List UInt8 := [42, 180, 0, 55, 29, 50, 21, 5, 27, 100, 182, 0, 93, 42, 180, 0, 61, 21, 5, 51, 160, 0, 7, 4]
abbrev dktX2_word_2 : List UInt8 := dkwX2_word_2 ++ dktX2_word_3
def dkwX2_word_1 : List UInt8 := [160, 0, 7, 4, 167, 0, 4, 3, 54, 4, 27, 54, 5, 21, 5, 28, 162, 0, 44, 21, 4, 153, 0, 39]
abbrev dktX2_word_1 : List UInt8 := dkwX2_word_1 ++ dktX2_word_2
def dkwX2_word_0 : List UInt8 := [3, 62, 29, 42, 180, 0, 55, 190, 162, 0, 88, 42, 180, 0, 55, 29, 50, 182, 0, 89, 28, 27, 100]
abbrev dktX2_word_0 : List UInt8 := dkwX2_word_0 ++ dktX2_word_1
theorem dksX2_word_0 : cX2_word.data.toList.drop 0 = dktX2_word_0 := by decide +kernel
theorem dksX2_word_1 : cX2_word.data.toList.drop 23 = dktX2_word_1 := dk_seg dksX2_word_0 23 rfl rfl
theorem dksX2_word_2 : cX2_word.data.toList.drop 47 = dktX2_word_2 := dk_seg dksX2_word_1 24 rfl rfl
theorem dksX2_word_3 : cX2_word.data.toList.drop 71 = dktX2_word_3 := dk_seg dksX2_word_2 24 rfl rfl
theorem dksX2_word_4 : cX2_word.data.toList.drop 93 = dktX2_word_4 := dk_seg dksX2_word_3 22 rfl rfl
theorem dX2_word_0 : decode cX2_word 0 = .ok (.iconst 0, 1) := dk_3 (dk_at dksX2_word_0 0 rfl rfl)
theorem dX2_word_1 : decode cX2_word 1 = .ok (.istore_n 3, 1) := dk_62 (dk_at dksX2_word_0 1 rfl rfl)
theorem dX2_word_2 : decode cX2_word 2 = .ok (.iload_n 3, 1) := dk_29 (dk_at dksX2_word_0 2 rfl rfl)
theorem dX2_word_3 : decode cX2_word 3 = .ok (.aload_n 0, 1) := dk_42 (dk_at dksX2_word_0 3 rfl rfl)
theorem dX2_word_4 : decode cX2_word 4 = .ok (.getfield 55, 3) := dk_180 0 55 (dk_at dksX2_word_0 4 rfl rfl)
theorem dX2_word_7 : decode cX2_word 7 = .ok (.arraylength, 1) := dk_190 (dk_at dksX2_word_0 7 rfl rfl)
theorem dX2_word_8 : decode cX2_word 8 = .ok (.if_icmp .ge 88, 3) := dk_162 0 88 (dk_at dksX2_word_0 8 rfl rfl)
theorem dX2_word_11 : decode cX2_word 11 = .ok (.aload_n 0, 1) := dk_42 (dk_at dksX2_word_0 11 rfl rfl)
theorem dX2_word_12 : decode cX2_word 12 = .ok (.getfield 55, 3) := dk_180 0 55 (dk_at dksX2_word_0 12 rfl rfl)
theorem dX2_word_15 : decode cX2_word 15 = .ok (.iload_n 3, 1) := dk_29 (dk_at dksX2_word_0 15 rfl rfl)
theorem dX2_word_16 : decode cX2_word 16 = .ok (.aaload, 1) := dk_50 (dk_at dksX2_word_0 16 rfl rfl)
theorem dX2_word_17 : decode cX2_word 17 = .ok (.invokevirtual 89, 3) := dk_182 0 89 (dk_at dksX2_word_0 17 rfl rfl)
theorem dX2_word_20 : decode cX2_word 20 = .ok (.iload_n 2, 1) := dk_28 (dk_at dksX2_word_0 20 rfl rfl)
theorem dX2_word_21 : decode cX2_word 21 = .ok (.iload_n 1, 1) := dk_27 (dk_at dksX2_word_0 21 rfl rfl)
theorem dX2_word_22 : decode cX2_word 22 = .ok (.isub, 1) := dk_100 (dk_at dksX2_word_0 22 rfl rfl)
theorem dX2_word_23 : decode cX2_word 23 = .ok (.if_icmp .ne 7, 3) := dk_160 0 7 (dk_at dksX2_word_1 0 rfl rfl)
theorem dX2_word_26 : decode cX2_word 26 = .ok (.iconst 1, 1) := dk_4 (dk_at dksX2_word_1 3 rfl rfl)
theorem dX2_word_27 : decode cX2_word 27 = .ok (.goto 4, 3) := dk_167 0 4 (dk_at dksX2_word_1 4 rfl rfl)
theorem dX2_word_30 : decode cX2_word 30 = .ok (.iconst 0, 1) := dk_3 (dk_at dksX2_word_1 7 rfl rfl)
theorem dX2_word_31 : decode cX2_word 31 = .ok (.istore 4, 2) := dk_54 4 (dk_at dksX2_word_1 8 rfl rfl)
theorem dX2_word_33 : decode cX2_word 33 = .ok (.iload_n 1, 1) := dk_27 (dk_at dksX2_word_1 10 rfl rfl)
theorem dX2_word_34 : decode cX2_word 34 = .ok (.istore 5, 2) := dk_54 5 (dk_at dksX2_word_1 11 rfl rfl)
theorem dX2_word_36 : decode cX2_word 36 = .ok (.iload 5, 2) := dk_21 5 (dk_at dksX2_word_1 13 rfl rfl)
theorem dX2_word_38 : decode cX2_word 38 = .ok (.iload_n 2, 1) := dk_28 (dk_at dksX2_word_1 15 rfl rfl)
theorem dX2_word_39 : decode cX2_word 39 = .ok (.if_icmp .ge 44, 3) := dk_162 0 44 (dk_at dksX2_word_1 16 rfl rfl)
theorem dX2_word_42 : decode cX2_word 42 = .ok (.iload 4, 2) := dk_21 4 (dk_at dksX2_word_1 19 rfl rfl)
theorem dX2_word_44 : decode cX2_word 44 = .ok (.ifCond .eq 39, 3) := dk_153 0 39 (dk_at dksX2_word_1 21 rfl rfl)
theorem dX2_word_47 : decode cX2_word 47 = .ok (.aload_n 0, 1) := dk_42 (dk_at dksX2_word_2 0 rfl rfl)
theorem dX2_word_48 : decode cX2_word 48 = .ok (.getfield 55, 3) := dk_180 0 55 (dk_at dksX2_word_2 1 rfl rfl)
theorem dX2_word_51 : decode cX2_word 51 = .ok (.iload_n 3, 1) := dk_29 (dk_at dksX2_word_2 4 rfl rfl)
theorem dX2_word_52 : decode cX2_word 52 = .ok (.aaload, 1) := dk_50 (dk_at dksX2_word_2 5 rfl rfl)
theorem dX2_word_53 : decode cX2_word 53 = .ok (.iload 5, 2) := dk_21 5 (dk_at dksX2_word_2 6 rfl rfl)
theorem dX2_word_55 : decode cX2_word 55 = .ok (.iload_n 1, 1) := dk_27 (dk_at dksX2_word_2 8 rfl rfl)
theorem dX2_word_56 : decode cX2_word 56 = .ok (.isub, 1) := dk_100 (dk_at dksX2_word_2 9 rfl rfl)
theorem dX2_word_57 : decode cX2_word 57 = .ok (.invokevirtual 93, 3) := dk_182 0 93 (dk_at dksX2_word_2 10 rfl rfl)
theorem dX2_word_60 : decode cX2_word 60 = .ok (.aload_n 0, 1) := dk_42 (dk_at dksX2_word_2 13 rfl rfl)
theorem dX2_word_61 : decode cX2_word 61 = .ok (.getfield 61, 3) := dk_180 0 61 (dk_at dksX2_word_2 14 rfl rfl)
theorem dX2_word_64 : decode cX2_word 64 = .ok (.iload 5, 2) := dk_21 5 (dk_at dksX2_word_2 17 rfl rfl)
theorem dX2_word_66 : decode cX2_word 66 = .ok (.baload, 1) := dk_51 (dk_at dksX2_word_2 19 rfl rfl)
theorem dX2_word_67 : decode cX2_word 67 = .ok (.if_icmp .ne 7, 3) := dk_160 0 7 (dk_at dksX2_word_2 20 rfl rfl)
theorem dX2_word_70 : decode cX2_word 70 = .ok (.iconst 1, 1) := dk_4 (dk_at dksX2_word_2 23 rfl rfl)
theorem dX2_word_71 : decode cX2_word 71 = .ok (.goto 4, 3) := dk_167 0 4 (dk_at dksX2_word_3 0 rfl rfl)
theorem dX2_word_74 : decode cX2_word 74 = .ok (.iconst 0, 1) := dk_3 (dk_at dksX2_word_3 3 rfl rfl)
theorem dX2_word_75 : decode cX2_word 75 = .ok (.istore 4, 2) := dk_54 4 (dk_at dksX2_word_3 4 rfl rfl)
theorem dX2_word_77 : decode cX2_word 77 = .ok (.iinc 5 1, 3) := dk_132 5 1 (dk_at dksX2_word_3 6 rfl rfl)
theorem dX2_word_80 : decode cX2_word 80 = .ok (.goto (-44), 3) := dk_167 255 212 (dk_at dksX2_word_3 9 rfl rfl)
theorem dX2_word_83 : decode cX2_word 83 = .ok (.iload 4, 2) := dk_21 4 (dk_at dksX2_word_3 12 rfl rfl)
theorem dX2_word_85 : decode cX2_word 85 = .ok (.ifCond .eq 5, 3) := dk_153 0 5 (dk_at dksX2_word_3 14 rfl rfl)
theorem dX2_word_88 : decode cX2_word 88 = .ok (.iload_n 3, 1) := dk_29 (dk_at dksX2_word_3 17 rfl rfl)
theorem dX2_word_89 : decode cX2_word 89 = .ok (.ireturn, 1) := dk_172 (dk_at dksX2_word_3 18 rfl rfl)
theorem dX2_word_90 : decode cX2_word 90 = .ok (.iinc 3 1, 3) := dk_132 3 1 (dk_at dksX2_word_3 19 rfl rfl)
theorem dX2_word_93 : decode cX2_word 93 = .ok (.goto (-91), 3) := dk_167 255 165 (dk_at dksX2_word_4 0 rfl rfl)
theorem dX2_word_96 : decode cX2_word 96 = .ok (.iconst (-1), 1) := dk_2 (dk_at dksX2_word_4 3 rfl rfl)
theorem dX2_word_97 : decode cX2_word 97 = .ok (.ireturn, 1) := dk_172 (dk_at dksX2_word_4 4 rfl rfl)
def dkwX2_isDigit_1 : List UInt8 := [3, 172]
abbrev dktX2_isDigit_1 : List UInt8 := dkwX2_isDigit_1 ++ []
def dkwX2_isDigit_0 : List UInt8 := [42, 27, 182, 0, 82, 16, 48, 161, 0, 17, 42, 27, 182, 0, 82, 16, 57, 163, 0, 7, 4, 167, 0, 4]
abbrev dktX2_isDigit_0 : List UInt8 := dkwX2_isDigit_0 ++ dktX2_isDigit_1
theorem dksX2_isDigit_0 : cX2_isDigit.data.toList.drop 0 = dktX2_isDigit_0 := by decide +kernel
theorem dksX2_isDigit_1 : cX2_isDigit.data.toList.drop 24 = dktX2_isDigit_1 := dk_seg dksX2_isDigit_0 24 rfl rfl
theorem dX2_isDigit_0 : decode cX2_isDigit 0 = .ok (.aload_n 0, 1) := dk_42 (dk_at dksX2_isDigit_0 0 rfl rfl)
theorem dX2_isDigit_1 : decode cX2_isDigit 1 = .ok (.iload_n 1, 1) := dk_27 (dk_at dksX2_isDigit_0 1 rfl rfl)
theorem dX2_isDigit_2 : decode cX2_isDigit 2 = .ok (.invokevirtual 82, 3) := dk_182 0 82 (dk_at dksX2_isDigit_0 2 rfl rfl)
theorem dX2_isDigit_5 : decode cX2_isDigit 5 = .ok (.bipush 48, 2) := dk_16 48 (dk_at dksX2_isDigit_0 5 rfl rfl)
theorem dX2_isDigit_7 : decode cX2_isDigit 7 = .ok (.if_icmp .lt 17, 3) := dk_161 0 17 (dk_at dksX2_isDigit_0 7 rfl rfl)
theorem dX2_isDigit_10 : decode cX2_isDigit 10 = .ok (.aload_n 0, 1) := dk_42 (dk_at dksX2_isDigit_0 10 rfl rfl)
theorem dX2_isDigit_11 : decode cX2_isDigit 11 = .ok (.iload_n 1, 1) := dk_27 (dk_at dksX2_isDigit_0 11 rfl rfl)
theorem dX2_isDigit_12 : decode cX2_isDigit 12 = .ok (.invokevirtual 82, 3) := dk_182 0 82 (dk_at dksX2_isDigit_0 12 rfl rfl)
theorem dX2_isDigit_15 : decode cX2_isDigit 15 = .ok (.bipush 57, 2) := dk_16 57 (dk_at dksX2_isDigit_0 15 rfl rfl)
theorem dX2_isDigit_17 : decode cX2_isDigit 17 = .ok (.if_icmp .gt 7, 3) := dk_163 0 7 (dk_at dksX2_isDigit_0 17 rfl rfl)
theorem dX2_isDigit_20 : decode cX2_isDigit 20 = .ok (.iconst 1, 1) := dk_4 (dk_at dksX2_isDigit_0 20 rfl rfl)
theorem dX2_isDigit_21 : decode cX2_isDigit 21 = .ok (.goto 4, 3) := dk_167 0 4 (dk_at dksX2_isDigit_0 21 rfl rfl)
theorem dX2_isDigit_24 : decode cX2_isDigit 24 = .ok (.iconst 0, 1) := dk_3 (dk_at dksX2_isDigit_1 0 rfl rfl)
theorem dX2_isDigit_25 : decode cX2_isDigit 25 = .ok (.ireturn, 1) := dk_172 (dk_at dksX2_isDigit_1 1 rfl rfl)
def dkwX2_sign_2 : List UInt8 := [28, 172, 3, 172]
abbrev dktX2_sign_2 : List UInt8 := dkwX2_sign_2 ++ []
def dkwX2_sign_1 : List UInt8 := [170, 0, 0, 0, 103, 0, 0, 0, 40, 0, 0, 0, 61, 0, 0, 0, 101, 0, 0, 0, 101, 0, 0, 0, 101, 0, 0, 0, 101, 0, 0, 0, 103, 0, 0, 0, 101, 0, 0, 0, 103, 0, 0, 0, 101, 0, 0, 0, 103, 0, 0, 0, 103, 0, 0, 0, 103, 0, 0, 0, 103, 0, 0, 0, 103, 0, 0, 0, 103, 0, 0, 0, 103, 0, 0, 0, 103, 0, 0, 0, 103, 0, 0, 0, 103, 0, 0, 0, 103, 0, 0, 0, 101, 0, 0, 0, 101, 0, 0, 0, 101]
abbrev dktX2_sign_1 : List UInt8 := dkwX2_sign_1 ++ dktX2_sign_2
def dkwX2_sign_0 : List UInt8 := [42, 27, 182, 0, 82, 61, 28]
abbrev dktX2_sign_0 : List UInt8 := dkwX2_sign_0 ++ dktX2_sign_1
theorem dksX2_sign_0 : cX2_sign.data.toList.drop 0 = dktX2_sign_0 := by decide +kernel
theorem dksX2_sign_1 : cX2_sign.data.toList.drop 7 = dktX2_sign_1 := dk_seg dksX2_sign_0 7 rfl rfl
theorem dksX2_sign_2 : cX2_sign.data.toList.drop 108 = dktX2_sign_2 := dk_seg dksX2_sign_1 101 rfl rfl
theorem dX2_sign_0 : decode cX2_sign 0 = .ok (.aload_n 0, 1) := dk_42 (dk_at dksX2_sign_0 0 rfl rfl)
theorem dX2_sign_1 : decode cX2_sign 1 = .ok (.iload_n 1, 1) := dk_27 (dk_at dksX2_sign_0 1 rfl rfl)
theorem dX2_sign_2 : decode cX2_sign 2 = .ok (.invokevirtual 82, 3) := dk_182 0 82 (dk_at dksX2_sign_0 2 rfl rfl)
theorem dX2_sign_5 : decode cX2_sign 5 = .ok (.istore_n 2, 1) := dk_61 (dk_at dksX2_sign_0 5 rfl rfl)
theorem dX2_sign_6 : decode cX2_sign 6 = .ok (.iload_n 2, 1) := dk_28 (dk_at dksX2_sign_0 6 rfl rfl)
theorem dX2_sign_7 : decode cX2_sign 7 = .ok (.tableswitch 103 40 61 #[101, 101, 101, 101, 103, 101, 103, 101, 103, 103, 103, 103, 103, 103, 103, 103, 103, 103, 103, 101, 101, 101], 101) := by decide +kernel
theorem dX2_sign_108 : decode cX2_sign 108 = .ok (.iload_n 2, 1) := dk_28 (dk_at dksX2_sign_2 0 rfl rfl)
theorem dX2_sign_109 : decode cX2_sign 109 = .ok (.ireturn, 1) := dk_172 (dk_at dksX2_sign_2 1 rfl rfl)
theorem dX2_sign_110 : decode cX2_sign 110 = .ok (.iconst 0, 1) := dk_3 (dk_at dksX2_sign_2 2 rfl rfl)
theorem dX2_sign_111 : decode cX2_sign 111 = .ok (.ireturn, 1) := dk_172 (dk_at dksX2_sign_2 3 rfl rfl)
def dkwX2_add_2 : List UInt8 := [180, 0, 86, 4, 96, 181, 0, 86, 177]
abbrev dktX2_add_2 : List UInt8 := dkwX2_add_2 ++ []
def dkwX2_add_1 : List UInt8 := [180, 0, 72, 42, 180, 0, 86, 29, 147, 86, 42, 180, 0, 75, 42, 180, 0, 86, 21, 4, 147, 86, 42, 89]
abbrev dktX2_add_1 : List UInt8 := dkwX2_add_1 ++ dktX2_add_2
def dkwX2_add_0 : List UInt8 := [42, 180, 0, 65, 42, 180, 0, 86, 27, 145, 84, 42, 180, 0, 68, 42, 180, 0, 86, 28, 147, 86, 42]
abbrev dktX2_add_0 : List UInt8 := dkwX2_add_0 ++ dktX2_add_1
theorem dksX2_add_0 : cX2_add.data.toList.drop 0 = dktX2_add_0 := by decide +kernel
theorem dksX2_add_1 : cX2_add.data.toList.drop 23 = dktX2_add_1 := dk_seg dksX2_add_0 23 rfl rfl
theorem dksX2_add_2 : cX2_add.data.toList.drop 47 = dktX2_add_2 := dk_seg dksX2_add_1 24 rfl rfl
theorem dX2_add_0 : decode cX2_add 0 = .ok (.aload_n 0, 1) := dk_42 (dk_at dksX2_add_0 0 rfl rfl)
theorem dX2_add_1 : decode cX2_add 1 = .ok (.getfield 65, 3) := dk_180 0 65 (dk_at dksX2_add_0 1 rfl rfl)
theorem dX2_add_4 : decode cX2_add 4 = .ok (.aload_n 0, 1) := dk_42 (dk_at dksX2_add_0 4 rfl rfl)
theorem dX2_add_5 : decode cX2_add 5 = .ok (.getfield 86, 3) := dk_180 0 86 (dk_at dksX2_add_0 5 rfl rfl)
theorem dX2_add_8 : decode cX2_add 8 = .ok (.iload_n 1, 1) := dk_27 (dk_at dksX2_add_0 8 rfl rfl)
theorem dX2_add_9 : decode cX2_add 9 = .ok (.i2b, 1) := dk_145 (dk_at dksX2_add_0 9 rfl rfl)
theorem dX2_add_10 : decode cX2_add 10 = .ok (.bastore, 1) := dk_84 (dk_at dksX2_add_0 10 rfl rfl)
theorem dX2_add_11 : decode cX2_add 11 = .ok (.aload_n 0, 1) := dk_42 (dk_at dksX2_add_0 11 rfl rfl)
theorem dX2_add_12 : decode cX2_add 12 = .ok (.getfield 68, 3) := dk_180 0 68 (dk_at dksX2_add_0 12 rfl rfl)
theorem dX2_add_15 : decode cX2_add 15 = .ok (.aload_n 0, 1) := dk_42 (dk_at dksX2_add_0 15 rfl rfl)
theorem dX2_add_16 : decode cX2_add 16 = .ok (.getfield 86, 3) := dk_180 0 86 (dk_at dksX2_add_0 16 rfl rfl)
theorem dX2_add_19 : decode cX2_add 19 = .ok (.iload_n 2, 1) := dk_28 (dk_at dksX2_add_0 19 rfl rfl)
theorem dX2_add_20 : decode cX2_add 20 = .ok (.i2s, 1) := dk_147 (dk_at dksX2_add_0 20 rfl rfl)
theorem dX2_add_21 : decode cX2_add 21 = .ok (.sastore, 1) := dk_86 (dk_at dksX2_add_0 21 rfl rfl)
theorem dX2_add_22 : decode cX2_add 22 = .ok (.aload_n 0, 1) := dk_42 (dk_at dksX2_add_0 22 rfl rfl)
theorem dX2_add_23 : decode cX2_add 23 = .ok (.getfield 72, 3) := dk_180 0 72 (dk_at dksX2_add_1 0 rfl rfl)
theorem dX2_add_26 : decode cX2_add 26 = .ok (.aload_n 0, 1) := dk_42 (dk_at dksX2_add_1 3 rfl rfl)
theorem dX2_add_27 : decode cX2_add 27 = .ok (.getfield 86, 3) := dk_180 0 86 (dk_at dksX2_add_1 4 rfl rfl)
theorem dX2_add_30 : decode cX2_add 30 = .ok (.iload_n 3, 1) := dk_29 (dk_at dksX2_add_1 7 rfl rfl)
theorem dX2_add_31 : decode cX2_add 31 = .ok (.i2s, 1) := dk_147 (dk_at dksX2_add_1 8 rfl rfl)
theorem dX2_add_32 : decode cX2_add 32 = .ok (.sastore, 1) := dk_86 (dk_at dksX2_add_1 9 rfl rfl)
theorem dX2_add_33 : decode cX2_add 33 = .ok (.aload_n 0, 1) := dk_42 (dk_at dksX2_add_1 10 rfl rfl)
theorem dX2_add_34 : decode cX2_add 34 = .ok (.getfield 75, 3) := dk_180 0 75 (dk_at dksX2_add_1 11 rfl rfl)
theorem dX2_add_37 : decode cX2_add 37 = .ok (.aload_n 0, 1) := dk_42 (dk_at dksX2_add_1 14 rfl rfl)
theorem dX2_add_38 : decode cX2_add 38 = .ok (.getfield 86, 3) := dk_180 0 86 (dk_at dksX2_add_1 15 rfl rfl)
theorem dX2_add_41 : decode cX2_add 41 = .ok (.iload 4, 2) := dk_21 4 (dk_at dksX2_add_1 18 rfl rfl)
theorem dX2_add_43 : decode cX2_add 43 = .ok (.i2s, 1) := dk_147 (dk_at dksX2_add_1 20 rfl rfl)
theorem dX2_add_44 : decode cX2_add 44 = .ok (.sastore, 1) := dk_86 (dk_at dksX2_add_1 21 rfl rfl)
theorem dX2_add_45 : decode cX2_add 45 = .ok (.aload_n 0, 1) := dk_42 (dk_at dksX2_add_1 22 rfl rfl)
theorem dX2_add_46 : decode cX2_add 46 = .ok (.dup, 1) := dk_89 (dk_at dksX2_add_1 23 rfl rfl)
theorem dX2_add_47 : decode cX2_add 47 = .ok (.getfield 86, 3) := dk_180 0 86 (dk_at dksX2_add_2 0 rfl rfl)
theorem dX2_add_50 : decode cX2_add 50 = .ok (.iconst 1, 1) := dk_4 (dk_at dksX2_add_2 3 rfl rfl)
theorem dX2_add_51 : decode cX2_add 51 = .ok (.iadd, 1) := dk_96 (dk_at dksX2_add_2 4 rfl rfl)
theorem dX2_add_52 : decode cX2_add 52 = .ok (.putfield 86, 3) := dk_181 0 86 (dk_at dksX2_add_2 5 rfl rfl)
theorem dX2_add_55 : decode cX2_add 55 = .ok (.return_, 1) := dk_177 (dk_at dksX2_add_2 8 rfl rfl)
def dkwX2_number_1 : List UInt8 := [180, 0, 61, 29, 51, 96, 16, 48, 100, 61, 132, 3, 1, 167, 255, 228, 28, 172]
abbrev dktX2_number_1 : List UInt8 := dkwX2_number_1 ++ []
def dkwX2_number_0 : List UInt8 := [3, 61, 42, 180, 0, 68, 27, 53, 62, 29, 42, 180, 0, 72, 27, 53, 162, 0, 24, 16, 10, 28, 104, 42]
abbrev dktX2_number_0 : List UInt8 := dkwX2_number_0 ++ dktX2_number_1
theorem dksX2_number_0 : cX2_number.data.toList.drop 0 = dktX2_number_0 := by decide +kernel
theorem dksX2_number_1 : cX2_number.data.toList.drop 24 = dktX2_number_1 := dk_seg dksX2_number_0 24 rfl rfl
theorem dX2_number_0 : decode cX2_number 0 = .ok (.iconst 0, 1) := dk_3 (dk_at dksX2_number_0 0 rfl rfl)
theorem dX2_number_1 : decode cX2_number 1 = .ok (.istore_n 2, 1) := dk_61 (dk_at dksX2_number_0 1 rfl rfl)
theorem dX2_number_2 : decode cX2_number 2 = .ok (.aload_n 0, 1) := dk_42 (dk_at dksX2_number_0 2 rfl rfl)
theorem dX2_number_3 : decode cX2_number 3 = .ok (.getfield 68, 3) := dk_180 0 68 (dk_at dksX2_number_0 3 rfl rfl)
theorem dX2_number_6 : decode cX2_number 6 = .ok (.iload_n 1, 1) := dk_27 (dk_at dksX2_number_0 6 rfl rfl)
theorem dX2_number_7 : decode cX2_number 7 = .ok (.saload, 1) := dk_53 (dk_at dksX2_number_0 7 rfl rfl)
theorem dX2_number_8 : decode cX2_number 8 = .ok (.istore_n 3, 1) := dk_62 (dk_at dksX2_number_0 8 rfl rfl)
theorem dX2_number_9 : decode cX2_number 9 = .ok (.iload_n 3, 1) := dk_29 (dk_at dksX2_number_0 9 rfl rfl)
theorem dX2_number_10 : decode cX2_number 10 = .ok (.aload_n 0, 1) := dk_42 (dk_at dksX2_number_0 10 rfl rfl)
theorem dX2_number_11 : decode cX2_number 11 = .ok (.getfield 72, 3) := dk_180 0 72 (dk_at dksX2_number_0 11 rfl rfl)
theorem dX2_number_14 : decode cX2_number 14 = .ok (.iload_n 1, 1) := dk_27 (dk_at dksX2_number_0 14 rfl rfl)
theorem dX2_number_15 : decode cX2_number 15 = .ok (.saload, 1) := dk_53 (dk_at dksX2_number_0 15 rfl rfl)
theorem dX2_number_16 : decode cX2_number 16 = .ok (.if_icmp .ge 24, 3) := dk_162 0 24 (dk_at dksX2_number_0 16 rfl rfl)
theorem dX2_number_19 : decode cX2_number 19 = .ok (.bipush 10, 2) := dk_16 10 (dk_at dksX2_number_0 19 rfl rfl)
theorem dX2_number_21 : decode cX2_number 21 = .ok (.iload_n 2, 1) := dk_28 (dk_at dksX2_number_0 21 rfl rfl)
theorem dX2_number_22 : decode cX2_number 22 = .ok (.imul, 1) := dk_104 (dk_at dksX2_number_0 22 rfl rfl)
theorem dX2_number_23 : decode cX2_number 23 = .ok (.aload_n 0, 1) := dk_42 (dk_at dksX2_number_0 23 rfl rfl)
theorem dX2_number_24 : decode cX2_number 24 = .ok (.getfield 61, 3) := dk_180 0 61 (dk_at dksX2_number_1 0 rfl rfl)
theorem dX2_number_27 : decode cX2_number 27 = .ok (.iload_n 3, 1) := dk_29 (dk_at dksX2_number_1 3 rfl rfl)
theorem dX2_number_28 : decode cX2_number 28 = .ok (.baload, 1) := dk_51 (dk_at dksX2_number_1 4 rfl rfl)
theorem dX2_number_29 : decode cX2_number 29 = .ok (.iadd, 1) := dk_96 (dk_at dksX2_number_1 5 rfl rfl)
theorem dX2_number_30 : decode cX2_number 30 = .ok (.bipush 48, 2) := dk_16 48 (dk_at dksX2_number_1 6 rfl rfl)
theorem dX2_number_32 : decode cX2_number 32 = .ok (.isub, 1) := dk_100 (dk_at dksX2_number_1 8 rfl rfl)
theorem dX2_number_33 : decode cX2_number 33 = .ok (.istore_n 2, 1) := dk_61 (dk_at dksX2_number_1 9 rfl rfl)
theorem dX2_number_34 : decode cX2_number 34 = .ok (.iinc 3 1, 3) := dk_132 3 1 (dk_at dksX2_number_1 10 rfl rfl)
theorem dX2_number_37 : decode cX2_number 37 = .ok (.goto (-28), 3) := dk_167 255 228 (dk_at dksX2_number_1 13 rfl rfl)
theorem dX2_number_40 : decode cX2_number 40 = .ok (.iload_n 2, 1) := dk_28 (dk_at dksX2_number_1 16 rfl rfl)
theorem dX2_number_41 : decode cX2_number 41 = .ok (.ireturn, 1) := dk_172 (dk_at dksX2_number_1 17 rfl rfl)
def dkwX2_text_2 : List UInt8 := [182, 0, 122, 176]
abbrev dktX2_text_2 : List UInt8 := dkwX2_text_2 ++ []
def dkwX2_text_1 : List UInt8 := [162, 0, 21, 44, 42, 180, 0, 61, 29, 51, 146, 182, 0, 118, 87, 132, 3, 1, 167, 255, 231, 44]
abbrev dktX2_text_1 : List UInt8 := dkwX2_text_1 ++ dktX2_text_2
def dkwX2_text_0 : List UInt8 := [187, 0, 115, 89, 183, 0, 117, 77, 42, 180, 0, 68, 27, 53, 62, 29, 42, 180, 0, 72, 27, 53]
abbrev dktX2_text_0 : List UInt8 := dkwX2_text_0 ++ dktX2_text_1
theorem dksX2_text_0 : cX2_text.data.toList.drop 0 = dktX2_text_0 := by decide +kernel
theorem dksX2_text_1 : cX2_text.data.toList.drop 22 = dktX2_text_1 := dk_seg dksX2_text_0 22 rfl rfl
theorem dksX2_text_2 : cX2_text.data.toList.drop 44 = dktX2_text_2 := dk_seg dksX2_text_1 22 rfl rfl
theorem dX2_text_0 : decode cX2_text 0 = .ok (.new 115, 3) := dk_187 0 115 (dk_at dksX2_text_0 0 rfl rfl)
theorem dX2_text_3 : decode cX2_text 3 = .ok (.dup, 1) := dk_89 (dk_at dksX2_text_0 3 rfl rfl)
theorem dX2_text_4 : decode cX2_text 4 = .ok (.invokespecial 117, 3) := dk_183 0 117 (dk_at dksX2_text_0 4 rfl rfl)
theorem dX2_text_7 : decode cX2_text 7 = .ok (.astore_n 2, 1) := dk_77 (dk_at dksX2_text_0 7 rfl rfl)
theorem dX2_text_8 : decode cX2_text 8 = .ok (.aload_n 0, 1) := dk_42 (dk_at dksX2_text_0 8 rfl rfl)
theorem dX2_text_9 : decode cX2_text 9 = .ok (.getfield 68, 3) := dk_180 0 68 (dk_at dksX2_text_0 9 rfl rfl)
theorem dX2_text_12 : decode cX2_text 12 = .ok (.iload_n 1, 1) := dk_27 (dk_at dksX2_text_0 12 rfl rfl)
theorem dX2_text_13 : decode cX2_text 13 = .ok (.saload, 1) := dk_53 (dk_at dksX2_text_0 13 rfl rfl)
theorem dX2_text_14 : decode cX2_text 14 = .ok (.istore_n 3, 1) := dk_62 (dk_at dksX2_text_0 14 rfl rfl)
theorem dX2_text_15 : decode cX2_text 15 = .ok (.iload_n 3, 1) := dk_29 (dk_at dksX2_text_0 15 rfl rfl)
theorem dX2_text_16 : decode cX2_text 16 = .ok (.aload_n 0, 1) := dk_42 (dk_at dksX2_text_0 16 rfl rfl)
theorem dX2_text_17 : decode cX2_text 17 = .ok (.getfield 72, 3) := dk_180 0 72 (dk_at dksX2_text_0 17 rfl rfl)
theorem dX2_text_20 : decode cX2_text 20 = .ok (.iload_n 1, 1) := dk_27 (dk_at dksX2_text_0 20 rfl rfl)
theorem dX2_text_21 : decode cX2_text 21 = .ok (.saload, 1) := dk_53 (dk_at dksX2_text_0 21 rfl rfl)
theorem dX2_text_22 : decode cX2_text 22 = .ok (.if_icmp .ge 21, 3) := dk_162 0 21 (dk_at dksX2_text_1 0 rfl rfl)
theorem dX2_text_25 : decode cX2_text 25 = .ok (.aload_n 2, 1) := dk_44 (dk_at dksX2_text_1 3 rfl rfl)
theorem dX2_text_26 : decode cX2_text 26 = .ok (.aload_n 0, 1) := dk_42 (dk_at dksX2_text_1 4 rfl rfl)
theorem dX2_text_27 : decode cX2_text 27 = .ok (.getfield 61, 3) := dk_180 0 61 (dk_at dksX2_text_1 5 rfl rfl)
theorem dX2_text_30 : decode cX2_text 30 = .ok (.iload_n 3, 1) := dk_29 (dk_at dksX2_text_1 8 rfl rfl)
theorem dX2_text_31 : decode cX2_text 31 = .ok (.baload, 1) := dk_51 (dk_at dksX2_text_1 9 rfl rfl)
theorem dX2_text_32 : decode cX2_text 32 = .ok (.i2c, 1) := dk_146 (dk_at dksX2_text_1 10 rfl rfl)
theorem dX2_text_33 : decode cX2_text 33 = .ok (.invokevirtual 118, 3) := dk_182 0 118 (dk_at dksX2_text_1 11 rfl rfl)
theorem dX2_text_36 : decode cX2_text 36 = .ok (.pop, 1) := dk_87 (dk_at dksX2_text_1 14 rfl rfl)
theorem dX2_text_37 : decode cX2_text 37 = .ok (.iinc 3 1, 3) := dk_132 3 1 (dk_at dksX2_text_1 15 rfl rfl)
theorem dX2_text_40 : decode cX2_text 40 = .ok (.goto (-25), 3) := dk_167 255 231 (dk_at dksX2_text_1 18 rfl rfl)
theorem dX2_text_43 : decode cX2_text 43 = .ok (.aload_n 2, 1) := dk_44 (dk_at dksX2_text_1 21 rfl rfl)
theorem dX2_text_44 : decode cX2_text 44 = .ok (.invokevirtual 122, 3) := dk_182 0 122 (dk_at dksX2_text_2 0 rfl rfl)
theorem dX2_text_47 : decode cX2_text 47 = .ok (.areturn, 1) := dk_176 (dk_at dksX2_text_2 3 rfl rfl)
def dkwX3_init_0 : List UInt8 := [42, 183, 0, 3, 42, 43, 181, 0, 9, 42, 44, 181, 0, 15, 177]
abbrev dktX3_init_0 : List UInt8 := dkwX3_init_0 ++ []
theorem dksX3_init_0 : cX3_init.data.toList.drop 0 = dktX3_init_0 := by decide +kernel
theorem dX3_init_0 : decode cX3_init 0 = .ok (.aload_n 0, 1) := dk_42 (dk_at dksX3_init_0 0 rfl rfl)
theorem dX3_init_1 : decode cX3_init 1 = .ok (.invokespecial 3, 3) := dk_183 0 3 (dk_at dksX3_init_0 1 rfl rfl)
theorem dX3_init_4 : decode cX3_init 4 = .ok (.aload_n 0, 1) := dk_42 (dk_at dksX3_init_0 4 rfl rfl)
theorem dX3_init_5 : decode cX3_init 5 = .ok (.aload_n 1, 1) := dk_43 (dk_at dksX3_init_0 5 rfl rfl)
theorem dX3_init_6 : decode cX3_init 6 = .ok (.putfield 9, 3) := dk_181 0 9 (dk_at dksX3_init_0 6 rfl rfl)
theorem dX3_init_9 : decode cX3_init 9 = .ok (.aload_n 0, 1) := dk_42 (dk_at dksX3_init_0 9 rfl rfl)
theorem dX3_init_10 : decode cX3_init 10 = .ok (.aload_n 2, 1) := dk_44 (dk_at dksX3_init_0 10 rfl rfl)
theorem dX3_init_11 : decode cX3_init 11 = .ok (.putfield 15, 3) := dk_181 0 15 (dk_at dksX3_init_0 11 rfl rfl)
theorem dX3_init_14 : decode cX3_init 14 = .ok (.return_, 1) := dk_177 (dk_at dksX3_init_0 14 rfl rfl)
def dkwX3_read_3 : List UInt8 := [182, 0, 35, 191, 42, 180, 0, 83, 176]
abbrev dktX3_read_3 : List UInt8 := dkwX3_read_3 ++ []
def dkwX3_read_2 : List UInt8 := [182, 0, 105, 167, 255, 238, 42, 180, 0, 38, 153, 0, 16, 42, 42, 180, 0, 38, 42, 180, 0, 41]
abbrev dktX3_read_2 : List UInt8 := dkwX3_read_2 ++ dktX3_read_3
def dkwX3_read_1 : List UInt8 := [3, 181, 0, 99, 42, 3, 181, 0, 38, 42, 182, 0, 65, 7, 159, 0, 16, 42, 182, 0, 102, 42, 16, 59]
abbrev dktX3_read_1 : List UInt8 := dkwX3_read_1 ++ dktX3_read_2
def dkwX3_read_0 : List UInt8 := [42, 180, 0, 9, 182, 0, 95, 42, 187, 0, 87, 89, 183, 0, 98, 181, 0, 83, 42, 3, 181, 0, 31, 42]
abbrev dktX3_read_0 : List UInt8 := dkwX3_read_0 ++ dktX3_read_1
theorem dksX3_read_0 : cX3_read.data.toList.drop 0 = dktX3_read_0 := by decide +kernel
theorem dksX3_read_1 : cX3_read.data.toList.drop 24 = dktX3_read_1 := dk_seg dksX3_read_0 24 rfl rfl
theorem dksX3_read_2 : cX3_read.data.toList.drop 48 = dktX3_read_2 := dk_seg dksX3_read_1 24 rfl rfl
theorem dksX3_read_3 : cX3_read.data.toList.drop 70 = dktX3_read_3 := dk_seg dksX3_read_2 22 rfl rfl
theorem dX3_read_0 : decode cX3_read 0 = .ok (.aload_n 0, 1) := dk_42 (dk_at dksX3_read_0 0 rfl rfl)
theorem dX3_read_1 : decode cX3_read 1 = .ok (.getfield 9, 3) := dk_180 0 9 (dk_at dksX3_read_0 1 rfl rfl)
theorem dX3_read_4 : decode cX3_read 4 = .ok (.invokevirtual 95, 3) := dk_182 0 95 (dk_at dksX3_read_0 4 rfl rfl)
theorem dX3_read_7 : decode cX3_read 7 = .ok (.aload_n 0, 1) := dk_42 (dk_at dksX3_read_0 7 rfl rfl)
theorem dX3_read_8 : decode cX3_read 8 = .ok (.new 87, 3) := dk_187 0 87 (dk_at dksX3_read_0 8 rfl rfl)
theorem dX3_read_11 : decode cX3_read 11 = .ok (.dup, 1) := dk_89 (dk_at dksX3_read_0 11 rfl rfl)
theorem dX3_read_12 : decode cX3_read 12 = .ok (.invokespecial 98, 3) := dk_183 0 98 (dk_at dksX3_read_0 12 rfl rfl)
theorem dX3_read_15 : decode cX3_read 15 = .ok (.putfield 83, 3) := dk_181 0 83 (dk_at dksX3_read_0 15 rfl rfl)
theorem dX3_read_18 : decode cX3_read 18 = .ok (.aload_n 0, 1) := dk_42 (dk_at dksX3_read_0 18 rfl rfl)
theorem dX3_read_19 : decode cX3_read 19 = .ok (.iconst 0, 1) := dk_3 (dk_at dksX3_read_0 19 rfl rfl)
theorem dX3_read_20 : decode cX3_read 20 = .ok (.putfield 31, 3) := dk_181 0 31 (dk_at dksX3_read_0 20 rfl rfl)
theorem dX3_read_23 : decode cX3_read 23 = .ok (.aload_n 0, 1) := dk_42 (dk_at dksX3_read_0 23 rfl rfl)
theorem dX3_read_24 : decode cX3_read 24 = .ok (.iconst 0, 1) := dk_3 (dk_at dksX3_read_1 0 rfl rfl)
theorem dX3_read_25 : decode cX3_read 25 = .ok (.putfield 99, 3) := dk_181 0 99 (dk_at dksX3_read_1 1 rfl rfl)
theorem dX3_read_28 : decode cX3_read 28 = .ok (.aload_n 0, 1) := dk_42 (dk_at dksX3_read_1 4 rfl rfl)
theorem dX3_read_29 : decode cX3_read 29 = .ok (.iconst 0, 1) := dk_3 (dk_at dksX3_read_1 5 rfl rfl)
theorem dX3_read_30 : decode cX3_read 30 = .ok (.putfield 38, 3) := dk_181 0 38 (dk_at dksX3_read_1 6 rfl rfl)
theorem dX3_read_33 : decode cX3_read 33 = .ok (.aload_n 0, 1) := dk_42 (dk_at dksX3_read_1 9 rfl rfl)
theorem dX3_read_34 : decode cX3_read 34 = .ok (.invokevirtual 65, 3) := dk_182 0 65 (dk_at dksX3_read_1 10 rfl rfl)
theorem dX3_read_37 : decode cX3_read 37 = .ok (.iconst 4, 1) := dk_7 (dk_at dksX3_read_1 13 rfl rfl)
theorem dX3_read_38 : decode cX3_read 38 = .ok (.if_icmp .eq 16, 3) := dk_159 0 16 (dk_at dksX3_read_1 14 rfl rfl)
theorem dX3_read_41 : decode cX3_read 41 = .ok (.aload_n 0, 1) := dk_42 (dk_at dksX3_read_1 17 rfl rfl)
theorem dX3_read_42 : decode cX3_read 42 = .ok (.invokevirtual 102, 3) := dk_182 0 102 (dk_at dksX3_read_1 18 rfl rfl)
theorem dX3_read_45 : decode cX3_read 45 = .ok (.aload_n 0, 1) := dk_42 (dk_at dksX3_read_1 21 rfl rfl)
theorem dX3_read_46 : decode cX3_read 46 = .ok (.bipush 59, 2) := dk_16 59 (dk_at dksX3_read_1 22 rfl rfl)
theorem dX3_read_48 : decode cX3_read 48 = .ok (.invokevirtual 105, 3) := dk_182 0 105 (dk_at dksX3_read_2 0 rfl rfl)
theorem dX3_read_51 : decode cX3_read 51 = .ok (.goto (-18), 3) := dk_167 255 238 (dk_at dksX3_read_2 3 rfl rfl)
theorem dX3_read_54 : decode cX3_read 54 = .ok (.aload_n 0, 1) := dk_42 (dk_at dksX3_read_2 6 rfl rfl)
theorem dX3_read_55 : decode cX3_read 55 = .ok (.getfield 38, 3) := dk_180 0 38 (dk_at dksX3_read_2 7 rfl rfl)
theorem dX3_read_58 : decode cX3_read 58 = .ok (.ifCond .eq 16, 3) := dk_153 0 16 (dk_at dksX3_read_2 10 rfl rfl)
theorem dX3_read_61 : decode cX3_read 61 = .ok (.aload_n 0, 1) := dk_42 (dk_at dksX3_read_2 13 rfl rfl)
theorem dX3_read_62 : decode cX3_read 62 = .ok (.aload_n 0, 1) := dk_42 (dk_at dksX3_read_2 14 rfl rfl)
theorem dX3_read_63 : decode cX3_read 63 = .ok (.getfield 38, 3) := dk_180 0 38 (dk_at dksX3_read_2 15 rfl rfl)
theorem dX3_read_66 : decode cX3_read 66 = .ok (.aload_n 0, 1) := dk_42 (dk_at dksX3_read_2 18 rfl rfl)
theorem dX3_read_67 : decode cX3_read 67 = .ok (.getfield 41, 3) := dk_180 0 41 (dk_at dksX3_read_2 19 rfl rfl)
theorem dX3_read_70 : decode cX3_read 70 = .ok (.invokevirtual 35, 3) := dk_182 0 35 (dk_at dksX3_read_3 0 rfl rfl)
theorem dX3_read_73 : decode cX3_read 73 = .ok (.athrow, 1) := dk_191 (dk_at dksX3_read_3 3 rfl rfl)
theorem dX3_read_74 : decode cX3_read 74 = .ok (.aload_n 0, 1) := dk_42 (dk_at dksX3_read_3 4 rfl rfl)
theorem dX3_read_75 : decode cX3_read 75 = .ok (.getfield 83, 3) := dk_180 0 83 (dk_at dksX3_read_3 5 rfl rfl)
theorem dX3_read_78 : decode cX3_read 78 = .ok (.areturn, 1) := dk_176 (dk_at dksX3_read_3 8 rfl rfl)
def dkwX3_sort_1 : List UInt8 := [180, 0, 9, 180, 0, 44, 42, 180, 0, 31, 51, 172]
abbrev dktX3_sort_1 : List UInt8 := dkwX3_sort_1 ++ []
def dkwX3_sort_0 : List UInt8 := [42, 180, 0, 9, 180, 0, 44, 42, 180, 0, 31, 51, 8, 160, 0, 9, 42, 4, 182, 0, 48, 191, 42]
abbrev dktX3_sort_0 : List UInt8 := dkwX3_sort_0 ++ dktX3_sort_1
theorem dksX3_sort_0 : cX3_sort.data.toList.drop 0 = dktX3_sort_0 := by decide +kernel
theorem dksX3_sort_1 : cX3_sort.data.toList.drop 23 = dktX3_sort_1 := dk_seg dksX3_sort_0 23 rfl rfl
theorem dX3_sort_0 : decode cX3_sort 0 = .ok (.aload_n 0, 1) := dk_42 (dk_at dksX3_sort_0 0 rfl rfl)
theorem dX3_sort_1 : decode cX3_sort 1 = .ok (.getfield 9, 3) := dk_180 0 9 (dk_at dksX3_sort_0 1 rfl rfl)
theorem dX3_sort_4 : decode cX3_sort 4 = .ok (.getfield 44, 3) := dk_180 0 44 (dk_at dksX3_sort_0 4 rfl rfl)
theorem dX3_sort_7 : decode cX3_sort 7 = .ok (.aload_n 0, 1) := dk_42 (dk_at dksX3_sort_0 7 rfl rfl)
theorem dX3_sort_8 : decode cX3_sort 8 = .ok (.getfield 31, 3) := dk_180 0 31 (dk_at dksX3_sort_0 8 rfl rfl)
theorem dX3_sort_11 : decode cX3_sort 11 = .ok (.baload, 1) := dk_51 (dk_at dksX3_sort_0 11 rfl rfl)
theorem dX3_sort_12 : decode cX3_sort 12 = .ok (.iconst 5, 1) := dk_8 (dk_at dksX3_sort_0 12 rfl rfl)
theorem dX3_sort_13 : decode cX3_sort 13 = .ok (.if_icmp .ne 9, 3) := dk_160 0 9 (dk_at dksX3_sort_0 13 rfl rfl)
theorem dX3_sort_16 : decode cX3_sort 16 = .ok (.aload_n 0, 1) := dk_42 (dk_at dksX3_sort_0 16 rfl rfl)
theorem dX3_sort_17 : decode cX3_sort 17 = .ok (.iconst 1, 1) := dk_4 (dk_at dksX3_sort_0 17 rfl rfl)
theorem dX3_sort_18 : decode cX3_sort 18 = .ok (.invokevirtual 48, 3) := dk_182 0 48 (dk_at dksX3_sort_0 18 rfl rfl)
theorem dX3_sort_21 : decode cX3_sort 21 = .ok (.athrow, 1) := dk_191 (dk_at dksX3_sort_0 21 rfl rfl)
theorem dX3_sort_22 : decode cX3_sort 22 = .ok (.aload_n 0, 1) := dk_42 (dk_at dksX3_sort_0 22 rfl rfl)
theorem dX3_sort_23 : decode cX3_sort 23 = .ok (.getfield 9, 3) := dk_180 0 9 (dk_at dksX3_sort_1 0 rfl rfl)
theorem dX3_sort_26 : decode cX3_sort 26 = .ok (.getfield 44, 3) := dk_180 0 44 (dk_at dksX3_sort_1 3 rfl rfl)
theorem dX3_sort_29 : decode cX3_sort 29 = .ok (.aload_n 0, 1) := dk_42 (dk_at dksX3_sort_1 6 rfl rfl)
theorem dX3_sort_30 : decode cX3_sort 30 = .ok (.getfield 31, 3) := dk_180 0 31 (dk_at dksX3_sort_1 7 rfl rfl)
theorem dX3_sort_33 : decode cX3_sort 33 = .ok (.baload, 1) := dk_51 (dk_at dksX3_sort_1 10 rfl rfl)
theorem dX3_sort_34 : decode cX3_sort 34 = .ok (.ireturn, 1) := dk_172 (dk_at dksX3_sort_1 11 rfl rfl)
def dkwX3_wrong_0 : List UInt8 := [42, 27, 42, 180, 0, 31, 182, 0, 35, 176]
abbrev dktX3_wrong_0 : List UInt8 := dkwX3_wrong_0 ++ []
theorem dksX3_wrong_0 : cX3_wrong.data.toList.drop 0 = dktX3_wrong_0 := by decide +kernel
theorem dX3_wrong_0 : decode cX3_wrong 0 = .ok (.aload_n 0, 1) := dk_42 (dk_at dksX3_wrong_0 0 rfl rfl)
theorem dX3_wrong_1 : decode cX3_wrong 1 = .ok (.iload_n 1, 1) := dk_27 (dk_at dksX3_wrong_0 1 rfl rfl)
theorem dX3_wrong_2 : decode cX3_wrong 2 = .ok (.aload_n 0, 1) := dk_42 (dk_at dksX3_wrong_0 2 rfl rfl)
theorem dX3_wrong_3 : decode cX3_wrong 3 = .ok (.getfield 31, 3) := dk_180 0 31 (dk_at dksX3_wrong_0 3 rfl rfl)
theorem dX3_wrong_6 : decode cX3_wrong 6 = .ok (.invokevirtual 35, 3) := dk_182 0 35 (dk_at dksX3_wrong_0 6 rfl rfl)
theorem dX3_wrong_9 : decode cX3_wrong 9 = .ok (.areturn, 1) := dk_176 (dk_at dksX3_wrong_0 9 rfl rfl)
def dkwX3_wrongAt_0 : List UInt8 := [42, 180, 0, 15, 27, 42, 180, 0, 9, 180, 0, 19, 28, 53, 182, 0, 25, 176]
abbrev dktX3_wrongAt_0 : List UInt8 := dkwX3_wrongAt_0 ++ []
theorem dksX3_wrongAt_0 : cX3_wrongAt.data.toList.drop 0 = dktX3_wrongAt_0 := by decide +kernel
theorem dX3_wrongAt_0 : decode cX3_wrongAt 0 = .ok (.aload_n 0, 1) := dk_42 (dk_at dksX3_wrongAt_0 0 rfl rfl)
theorem dX3_wrongAt_1 : decode cX3_wrongAt 1 = .ok (.getfield 15, 3) := dk_180 0 15 (dk_at dksX3_wrongAt_0 1 rfl rfl)
theorem dX3_wrongAt_4 : decode cX3_wrongAt 4 = .ok (.iload_n 1, 1) := dk_27 (dk_at dksX3_wrongAt_0 4 rfl rfl)
theorem dX3_wrongAt_5 : decode cX3_wrongAt 5 = .ok (.aload_n 0, 1) := dk_42 (dk_at dksX3_wrongAt_0 5 rfl rfl)
theorem dX3_wrongAt_6 : decode cX3_wrongAt 6 = .ok (.getfield 9, 3) := dk_180 0 9 (dk_at dksX3_wrongAt_0 6 rfl rfl)
theorem dX3_wrongAt_9 : decode cX3_wrongAt 9 = .ok (.getfield 19, 3) := dk_180 0 19 (dk_at dksX3_wrongAt_0 9 rfl rfl)
theorem dX3_wrongAt_12 : decode cX3_wrongAt 12 = .ok (.iload_n 2, 1) := dk_28 (dk_at dksX3_wrongAt_0 12 rfl rfl)
theorem dX3_wrongAt_13 : decode cX3_wrongAt 13 = .ok (.saload, 1) := dk_53 (dk_at dksX3_wrongAt_0 13 rfl rfl)
theorem dX3_wrongAt_14 : decode cX3_wrongAt 14 = .ok (.invokevirtual 25, 3) := dk_182 0 25 (dk_at dksX3_wrongAt_0 14 rfl rfl)
theorem dX3_wrongAt_17 : decode cX3_wrongAt 17 = .ok (.areturn, 1) := dk_176 (dk_at dksX3_wrongAt_0 17 rfl rfl)
def dkwX3_told_16 : List UInt8 := [182, 0, 48, 191, 177]
abbrev dktX3_told_16 : List UInt8 := dkwX3_told_16 ++ []
def dkwX3_told_15 : List UInt8 := [182, 0, 59, 42, 180, 0, 83, 42, 3, 17, 39, 15, 182, 0, 138, 181, 0, 171, 167, 0, 9, 42, 4]
abbrev dktX3_told_15 : List UInt8 := dkwX3_told_15 ++ dktX3_told_16
def dkwX3_told_14 : List UInt8 := [42, 182, 0, 59, 42, 180, 0, 83, 42, 3, 16, 100, 182, 0, 138, 181, 0, 168, 167, 0, 31, 42]
abbrev dktX3_told_14 : List UInt8 := dkwX3_told_14 ++ dktX3_told_15
def dkwX3_told_13 : List UInt8 := [167, 0, 73, 42, 182, 0, 59, 42, 180, 0, 83, 42, 3, 16, 99, 182, 0, 138, 181, 0, 165, 167, 0, 52]
abbrev dktX3_told_13 : List UInt8 := dkwX3_told_13 ++ dktX3_told_14
def dkwX3_told_12 : List UInt8 := [181, 0, 151, 167, 0, 94, 42, 182, 0, 59, 42, 180, 0, 83, 42, 4, 16, 99, 182, 0, 138, 181, 0, 162]
abbrev dktX3_told_12 : List UInt8 := dkwX3_told_12 ++ dktX3_told_13
def dkwX3_told_11 : List UInt8 := [180, 0, 83, 180, 0, 158, 21, 4, 50, 28, 21, 5, 79, 42, 180, 0, 83, 89, 180, 0, 151, 4, 96]
abbrev dktX3_told_11 : List UInt8 := dkwX3_told_11 ++ dktX3_told_12
def dkwX3_told_10 : List UInt8 := [42, 180, 0, 83, 180, 0, 158, 28, 50, 21, 4, 21, 5, 79, 28, 155, 0, 22, 21, 4, 155, 0, 17, 42]
abbrev dktX3_told_10 : List UInt8 := dkwX3_told_10 ++ dktX3_told_11
def dkwX3_told_9 : List UInt8 := [42, 6, 29, 182, 0, 75, 42, 3, 16, 9, 182, 0, 138, 54, 5, 28, 155, 0, 22, 21, 4, 155, 0, 17]
abbrev dktX3_told_9 : List UInt8 := dkwX3_told_9 ++ dktX3_told_10
def dkwX3_told_8 : List UInt8 := [62, 42, 42, 180, 0, 83, 180, 0, 117, 182, 0, 154, 54, 4, 28, 155, 0, 15, 28, 21, 4, 160, 0, 9]
abbrev dktX3_told_8 : List UInt8 := dkwX3_told_8 ++ dktX3_told_9
def dkwX3_told_7 : List UInt8 := [180, 0, 151, 16, 20, 182, 0, 126, 42, 42, 180, 0, 83, 180, 0, 117, 182, 0, 154, 61, 42, 180, 0, 31]
abbrev dktX3_told_7 : List UInt8 := dkwX3_told_7 ++ dktX3_told_8
def dkwX3_told_6 : List UInt8 := [181, 0, 144, 42, 180, 0, 83, 180, 0, 117, 44, 182, 0, 147, 87, 167, 0, 224, 42, 42, 180, 0, 83]
abbrev dktX3_told_6 : List UInt8 := dkwX3_told_6 ++ dktX3_told_7
def dkwX3_told_5 : List UInt8 := [183, 0, 135, 77, 44, 42, 3, 16, 20, 182, 0, 138, 181, 0, 141, 44, 42, 4, 16, 99, 182, 0, 138]
abbrev dktX3_told_5 : List UInt8 := dkwX3_told_5 ++ dktX3_told_6
def dkwX3_told_4 : List UInt8 := [42, 42, 180, 0, 83, 180, 0, 117, 182, 0, 121, 16, 6, 182, 0, 126, 187, 0, 129, 89, 42, 182, 0, 131]
abbrev dktX3_told_4 : List UInt8 := dkwX3_told_4 ++ dktX3_told_5
def dkwX3_told_3 : List UInt8 := [170, 0, 0, 0, 0, 1, 79, 0, 0, 0, 0, 0, 0, 0, 9, 0, 0, 0, 55, 0, 0, 0, 120, 0, 0, 0, 250, 0, 0, 1, 15, 0, 0, 1, 79, 0, 0, 1, 79, 0, 0, 1, 79, 0, 0, 1, 79, 0, 0, 1, 36, 0, 0, 1, 57]
abbrev dktX3_told_3 : List UInt8 := dkwX3_told_3 ++ dktX3_told_4
def dkwX3_told_2 : List UInt8 := [7, 100, 42, 182, 0, 113, 83, 177, 27]
abbrev dktX3_told_2 : List UInt8 := dkwX3_told_2 ++ dktX3_told_3
def dkwX3_told_1 : List UInt8 := [60, 27, 7, 161, 0, 29, 27, 16, 7, 163, 0, 23, 42, 182, 0, 59, 42, 180, 0, 83, 180, 0, 109, 27]
abbrev dktX3_told_1 : List UInt8 := dkwX3_told_1 ++ dktX3_told_2
def dkwX3_told_0 : List UInt8 := [42, 182, 0, 65, 6, 160, 0, 18, 42, 180, 0, 9, 180, 0, 52, 42, 180, 0, 31, 53, 167, 0, 4, 2]
abbrev dktX3_told_0 : List UInt8 := dkwX3_told_0 ++ dktX3_told_1
theorem dksX3_told_0 : cX3_told.data.toList.drop 0 = dktX3_told_0 := by decide +kernel
theorem dksX3_told_1 : cX3_told.data.toList.drop 24 = dktX3_told_1 := dk_seg dksX3_told_0 24 rfl rfl
theorem dksX3_told_2 : cX3_told.data.toList.drop 48 = dktX3_told_2 := dk_seg dksX3_told_1 24 rfl rfl
theorem dksX3_told_3 : cX3_told.data.toList.drop 57 = dktX3_told_3 := dk_seg dksX3_told_2 9 rfl rfl
theorem dksX3_told_4 : cX3_told.data.toList.drop 112 = dktX3_told_4 := dk_seg dksX3_told_3 55 rfl rfl
theorem dksX3_told_5 : cX3_told.data.toList.drop 136 = dktX3_told_5 := dk_seg dksX3_told_4 24 rfl rfl
theorem dksX3_told_6 : cX3_told.data.toList.drop 159 = dktX3_told_6 := dk_seg dksX3_told_5 23 rfl rfl
theorem dksX3_told_7 : cX3_told.data.toList.drop 182 = dktX3_told_7 := dk_seg dksX3_told_6 23 rfl rfl
theorem dksX3_told_8 : cX3_told.data.toList.drop 206 = dktX3_told_8 := dk_seg dksX3_told_7 24 rfl rfl
theorem dksX3_told_9 : cX3_told.data.toList.drop 230 = dktX3_told_9 := dk_seg dksX3_told_8 24 rfl rfl
theorem dksX3_told_10 : cX3_told.data.toList.drop 254 = dktX3_told_10 := dk_seg dksX3_told_9 24 rfl rfl
theorem dksX3_told_11 : cX3_told.data.toList.drop 278 = dktX3_told_11 := dk_seg dksX3_told_10 24 rfl rfl
theorem dksX3_told_12 : cX3_told.data.toList.drop 301 = dktX3_told_12 := dk_seg dksX3_told_11 23 rfl rfl
theorem dksX3_told_13 : cX3_told.data.toList.drop 325 = dktX3_told_13 := dk_seg dksX3_told_12 24 rfl rfl
theorem dksX3_told_14 : cX3_told.data.toList.drop 349 = dktX3_told_14 := dk_seg dksX3_told_13 24 rfl rfl
theorem dksX3_told_15 : cX3_told.data.toList.drop 371 = dktX3_told_15 := dk_seg dksX3_told_14 22 rfl rfl
theorem dksX3_told_16 : cX3_told.data.toList.drop 394 = dktX3_told_16 := dk_seg dksX3_told_15 23 rfl rfl
theorem dX3_told_0 : decode cX3_told 0 = .ok (.aload_n 0, 1) := dk_42 (dk_at dksX3_told_0 0 rfl rfl)
theorem dX3_told_1 : decode cX3_told 1 = .ok (.invokevirtual 65, 3) := dk_182 0 65 (dk_at dksX3_told_0 1 rfl rfl)
theorem dX3_told_4 : decode cX3_told 4 = .ok (.iconst 3, 1) := dk_6 (dk_at dksX3_told_0 4 rfl rfl)
theorem dX3_told_5 : decode cX3_told 5 = .ok (.if_icmp .ne 18, 3) := dk_160 0 18 (dk_at dksX3_told_0 5 rfl rfl)
theorem dX3_told_8 : decode cX3_told 8 = .ok (.aload_n 0, 1) := dk_42 (dk_at dksX3_told_0 8 rfl rfl)
theorem dX3_told_9 : decode cX3_told 9 = .ok (.getfield 9, 3) := dk_180 0 9 (dk_at dksX3_told_0 9 rfl rfl)
theorem dX3_told_12 : decode cX3_told 12 = .ok (.getfield 52, 3) := dk_180 0 52 (dk_at dksX3_told_0 12 rfl rfl)
theorem dX3_told_15 : decode cX3_told 15 = .ok (.aload_n 0, 1) := dk_42 (dk_at dksX3_told_0 15 rfl rfl)
theorem dX3_told_16 : decode cX3_told 16 = .ok (.getfield 31, 3) := dk_180 0 31 (dk_at dksX3_told_0 16 rfl rfl)
theorem dX3_told_19 : decode cX3_told 19 = .ok (.saload, 1) := dk_53 (dk_at dksX3_told_0 19 rfl rfl)
theorem dX3_told_20 : decode cX3_told 20 = .ok (.goto 4, 3) := dk_167 0 4 (dk_at dksX3_told_0 20 rfl rfl)
theorem dX3_told_23 : decode cX3_told 23 = .ok (.iconst (-1), 1) := dk_2 (dk_at dksX3_told_0 23 rfl rfl)
theorem dX3_told_24 : decode cX3_told 24 = .ok (.istore_n 1, 1) := dk_60 (dk_at dksX3_told_1 0 rfl rfl)
theorem dX3_told_25 : decode cX3_told 25 = .ok (.iload_n 1, 1) := dk_27 (dk_at dksX3_told_1 1 rfl rfl)
theorem dX3_told_26 : decode cX3_told 26 = .ok (.iconst 4, 1) := dk_7 (dk_at dksX3_told_1 2 rfl rfl)
theorem dX3_told_27 : decode cX3_told 27 = .ok (.if_icmp .lt 29, 3) := dk_161 0 29 (dk_at dksX3_told_1 3 rfl rfl)
theorem dX3_told_30 : decode cX3_told 30 = .ok (.iload_n 1, 1) := dk_27 (dk_at dksX3_told_1 6 rfl rfl)
theorem dX3_told_31 : decode cX3_told 31 = .ok (.bipush 7, 2) := dk_16 7 (dk_at dksX3_told_1 7 rfl rfl)
theorem dX3_told_33 : decode cX3_told 33 = .ok (.if_icmp .gt 23, 3) := dk_163 0 23 (dk_at dksX3_told_1 9 rfl rfl)
theorem dX3_told_36 : decode cX3_told 36 = .ok (.aload_n 0, 1) := dk_42 (dk_at dksX3_told_1 12 rfl rfl)
theorem dX3_told_37 : decode cX3_told 37 = .ok (.invokevirtual 59, 3) := dk_182 0 59 (dk_at dksX3_told_1 13 rfl rfl)
theorem dX3_told_40 : decode cX3_told 40 = .ok (.aload_n 0, 1) := dk_42 (dk_at dksX3_told_1 16 rfl rfl)
theorem dX3_told_41 : decode cX3_told 41 = .ok (.getfield 83, 3) := dk_180 0 83 (dk_at dksX3_told_1 17 rfl rfl)
theorem dX3_told_44 : decode cX3_told 44 = .ok (.getfield 109, 3) := dk_180 0 109 (dk_at dksX3_told_1 20 rfl rfl)
theorem dX3_told_47 : decode cX3_told 47 = .ok (.iload_n 1, 1) := dk_27 (dk_at dksX3_told_1 23 rfl rfl)
theorem dX3_told_48 : decode cX3_told 48 = .ok (.iconst 4, 1) := dk_7 (dk_at dksX3_told_2 0 rfl rfl)
theorem dX3_told_49 : decode cX3_told 49 = .ok (.isub, 1) := dk_100 (dk_at dksX3_told_2 1 rfl rfl)
theorem dX3_told_50 : decode cX3_told 50 = .ok (.aload_n 0, 1) := dk_42 (dk_at dksX3_told_2 2 rfl rfl)
theorem dX3_told_51 : decode cX3_told 51 = .ok (.invokevirtual 113, 3) := dk_182 0 113 (dk_at dksX3_told_2 3 rfl rfl)
theorem dX3_told_54 : decode cX3_told 54 = .ok (.aastore, 1) := dk_83 (dk_at dksX3_told_2 6 rfl rfl)
theorem dX3_told_55 : decode cX3_told 55 = .ok (.return_, 1) := dk_177 (dk_at dksX3_told_2 7 rfl rfl)
theorem dX3_told_56 : decode cX3_told 56 = .ok (.iload_n 1, 1) := dk_27 (dk_at dksX3_told_2 8 rfl rfl)
theorem dX3_told_57 : decode cX3_told 57 = .ok (.tableswitch 335 0 9 #[55, 120, 250, 271, 335, 335, 335, 335, 292, 313], 55) := by decide +kernel
theorem dX3_told_112 : decode cX3_told 112 = .ok (.aload_n 0, 1) := dk_42 (dk_at dksX3_told_4 0 rfl rfl)
theorem dX3_told_113 : decode cX3_told 113 = .ok (.aload_n 0, 1) := dk_42 (dk_at dksX3_told_4 1 rfl rfl)
theorem dX3_told_114 : decode cX3_told 114 = .ok (.getfield 83, 3) := dk_180 0 83 (dk_at dksX3_told_4 2 rfl rfl)
theorem dX3_told_117 : decode cX3_told 117 = .ok (.getfield 117, 3) := dk_180 0 117 (dk_at dksX3_told_4 5 rfl rfl)
theorem dX3_told_120 : decode cX3_told 120 = .ok (.invokevirtual 121, 3) := dk_182 0 121 (dk_at dksX3_told_4 8 rfl rfl)
theorem dX3_told_123 : decode cX3_told 123 = .ok (.bipush 6, 2) := dk_16 6 (dk_at dksX3_told_4 11 rfl rfl)
theorem dX3_told_125 : decode cX3_told 125 = .ok (.invokevirtual 126, 3) := dk_182 0 126 (dk_at dksX3_told_4 13 rfl rfl)
theorem dX3_told_128 : decode cX3_told 128 = .ok (.new 129, 3) := dk_187 0 129 (dk_at dksX3_told_4 16 rfl rfl)
theorem dX3_told_131 : decode cX3_told 131 = .ok (.dup, 1) := dk_89 (dk_at dksX3_told_4 19 rfl rfl)
theorem dX3_told_132 : decode cX3_told 132 = .ok (.aload_n 0, 1) := dk_42 (dk_at dksX3_told_4 20 rfl rfl)
theorem dX3_told_133 : decode cX3_told 133 = .ok (.invokevirtual 131, 3) := dk_182 0 131 (dk_at dksX3_told_4 21 rfl rfl)
theorem dX3_told_136 : decode cX3_told 136 = .ok (.invokespecial 135, 3) := dk_183 0 135 (dk_at dksX3_told_5 0 rfl rfl)
theorem dX3_told_139 : decode cX3_told 139 = .ok (.astore_n 2, 1) := dk_77 (dk_at dksX3_told_5 3 rfl rfl)
theorem dX3_told_140 : decode cX3_told 140 = .ok (.aload_n 2, 1) := dk_44 (dk_at dksX3_told_5 4 rfl rfl)
theorem dX3_told_141 : decode cX3_told 141 = .ok (.aload_n 0, 1) := dk_42 (dk_at dksX3_told_5 5 rfl rfl)
theorem dX3_told_142 : decode cX3_told 142 = .ok (.iconst 0, 1) := dk_3 (dk_at dksX3_told_5 6 rfl rfl)
theorem dX3_told_143 : decode cX3_told 143 = .ok (.bipush 20, 2) := dk_16 20 (dk_at dksX3_told_5 7 rfl rfl)
theorem dX3_told_145 : decode cX3_told 145 = .ok (.invokevirtual 138, 3) := dk_182 0 138 (dk_at dksX3_told_5 9 rfl rfl)
theorem dX3_told_148 : decode cX3_told 148 = .ok (.putfield 141, 3) := dk_181 0 141 (dk_at dksX3_told_5 12 rfl rfl)
theorem dX3_told_151 : decode cX3_told 151 = .ok (.aload_n 2, 1) := dk_44 (dk_at dksX3_told_5 15 rfl rfl)
theorem dX3_told_152 : decode cX3_told 152 = .ok (.aload_n 0, 1) := dk_42 (dk_at dksX3_told_5 16 rfl rfl)
theorem dX3_told_153 : decode cX3_told 153 = .ok (.iconst 1, 1) := dk_4 (dk_at dksX3_told_5 17 rfl rfl)
theorem dX3_told_154 : decode cX3_told 154 = .ok (.bipush 99, 2) := dk_16 99 (dk_at dksX3_told_5 18 rfl rfl)
theorem dX3_told_156 : decode cX3_told 156 = .ok (.invokevirtual 138, 3) := dk_182 0 138 (dk_at dksX3_told_5 20 rfl rfl)
theorem dX3_told_159 : decode cX3_told 159 = .ok (.putfield 144, 3) := dk_181 0 144 (dk_at dksX3_told_6 0 rfl rfl)
theorem dX3_told_162 : decode cX3_told 162 = .ok (.aload_n 0, 1) := dk_42 (dk_at dksX3_told_6 3 rfl rfl)
theorem dX3_told_163 : decode cX3_told 163 = .ok (.getfield 83, 3) := dk_180 0 83 (dk_at dksX3_told_6 4 rfl rfl)
theorem dX3_told_166 : decode cX3_told 166 = .ok (.getfield 117, 3) := dk_180 0 117 (dk_at dksX3_told_6 7 rfl rfl)
theorem dX3_told_169 : decode cX3_told 169 = .ok (.aload_n 2, 1) := dk_44 (dk_at dksX3_told_6 10 rfl rfl)
theorem dX3_told_170 : decode cX3_told 170 = .ok (.invokevirtual 147, 3) := dk_182 0 147 (dk_at dksX3_told_6 11 rfl rfl)
theorem dX3_told_173 : decode cX3_told 173 = .ok (.pop, 1) := dk_87 (dk_at dksX3_told_6 14 rfl rfl)
theorem dX3_told_174 : decode cX3_told 174 = .ok (.goto 224, 3) := dk_167 0 224 (dk_at dksX3_told_6 15 rfl rfl)
theorem dX3_told_177 : decode cX3_told 177 = .ok (.aload_n 0, 1) := dk_42 (dk_at dksX3_told_6 18 rfl rfl)
theorem dX3_told_178 : decode cX3_told 178 = .ok (.aload_n 0, 1) := dk_42 (dk_at dksX3_told_6 19 rfl rfl)
theorem dX3_told_179 : decode cX3_told 179 = .ok (.getfield 83, 3) := dk_180 0 83 (dk_at dksX3_told_6 20 rfl rfl)
theorem dX3_told_182 : decode cX3_told 182 = .ok (.getfield 151, 3) := dk_180 0 151 (dk_at dksX3_told_7 0 rfl rfl)
theorem dX3_told_185 : decode cX3_told 185 = .ok (.bipush 20, 2) := dk_16 20 (dk_at dksX3_told_7 3 rfl rfl)
theorem dX3_told_187 : decode cX3_told 187 = .ok (.invokevirtual 126, 3) := dk_182 0 126 (dk_at dksX3_told_7 5 rfl rfl)
theorem dX3_told_190 : decode cX3_told 190 = .ok (.aload_n 0, 1) := dk_42 (dk_at dksX3_told_7 8 rfl rfl)
theorem dX3_told_191 : decode cX3_told 191 = .ok (.aload_n 0, 1) := dk_42 (dk_at dksX3_told_7 9 rfl rfl)
theorem dX3_told_192 : decode cX3_told 192 = .ok (.getfield 83, 3) := dk_180 0 83 (dk_at dksX3_told_7 10 rfl rfl)
theorem dX3_told_195 : decode cX3_told 195 = .ok (.getfield 117, 3) := dk_180 0 117 (dk_at dksX3_told_7 13 rfl rfl)
theorem dX3_told_198 : decode cX3_told 198 = .ok (.invokevirtual 154, 3) := dk_182 0 154 (dk_at dksX3_told_7 16 rfl rfl)
theorem dX3_told_201 : decode cX3_told 201 = .ok (.istore_n 2, 1) := dk_61 (dk_at dksX3_told_7 19 rfl rfl)
theorem dX3_told_202 : decode cX3_told 202 = .ok (.aload_n 0, 1) := dk_42 (dk_at dksX3_told_7 20 rfl rfl)
theorem dX3_told_203 : decode cX3_told 203 = .ok (.getfield 31, 3) := dk_180 0 31 (dk_at dksX3_told_7 21 rfl rfl)
theorem dX3_told_206 : decode cX3_told 206 = .ok (.istore_n 3, 1) := dk_62 (dk_at dksX3_told_8 0 rfl rfl)
theorem dX3_told_207 : decode cX3_told 207 = .ok (.aload_n 0, 1) := dk_42 (dk_at dksX3_told_8 1 rfl rfl)
theorem dX3_told_208 : decode cX3_told 208 = .ok (.aload_n 0, 1) := dk_42 (dk_at dksX3_told_8 2 rfl rfl)
theorem dX3_told_209 : decode cX3_told 209 = .ok (.getfield 83, 3) := dk_180 0 83 (dk_at dksX3_told_8 3 rfl rfl)
theorem dX3_told_212 : decode cX3_told 212 = .ok (.getfield 117, 3) := dk_180 0 117 (dk_at dksX3_told_8 6 rfl rfl)
theorem dX3_told_215 : decode cX3_told 215 = .ok (.invokevirtual 154, 3) := dk_182 0 154 (dk_at dksX3_told_8 9 rfl rfl)
theorem dX3_told_218 : decode cX3_told 218 = .ok (.istore 4, 2) := dk_54 4 (dk_at dksX3_told_8 12 rfl rfl)
theorem dX3_told_220 : decode cX3_told 220 = .ok (.iload_n 2, 1) := dk_28 (dk_at dksX3_told_8 14 rfl rfl)
theorem dX3_told_221 : decode cX3_told 221 = .ok (.ifCond .lt 15, 3) := dk_155 0 15 (dk_at dksX3_told_8 15 rfl rfl)
theorem dX3_told_224 : decode cX3_told 224 = .ok (.iload_n 2, 1) := dk_28 (dk_at dksX3_told_8 18 rfl rfl)
theorem dX3_told_225 : decode cX3_told 225 = .ok (.iload 4, 2) := dk_21 4 (dk_at dksX3_told_8 19 rfl rfl)
theorem dX3_told_227 : decode cX3_told 227 = .ok (.if_icmp .ne 9, 3) := dk_160 0 9 (dk_at dksX3_told_8 21 rfl rfl)
theorem dX3_told_230 : decode cX3_told 230 = .ok (.aload_n 0, 1) := dk_42 (dk_at dksX3_told_9 0 rfl rfl)
theorem dX3_told_231 : decode cX3_told 231 = .ok (.iconst 3, 1) := dk_6 (dk_at dksX3_told_9 1 rfl rfl)
theorem dX3_told_232 : decode cX3_told 232 = .ok (.iload_n 3, 1) := dk_29 (dk_at dksX3_told_9 2 rfl rfl)
theorem dX3_told_233 : decode cX3_told 233 = .ok (.invokevirtual 75, 3) := dk_182 0 75 (dk_at dksX3_told_9 3 rfl rfl)
theorem dX3_told_236 : decode cX3_told 236 = .ok (.aload_n 0, 1) := dk_42 (dk_at dksX3_told_9 6 rfl rfl)
theorem dX3_told_237 : decode cX3_told 237 = .ok (.iconst 0, 1) := dk_3 (dk_at dksX3_told_9 7 rfl rfl)
theorem dX3_told_238 : decode cX3_told 238 = .ok (.bipush 9, 2) := dk_16 9 (dk_at dksX3_told_9 8 rfl rfl)
theorem dX3_told_240 : decode cX3_told 240 = .ok (.invokevirtual 138, 3) := dk_182 0 138 (dk_at dksX3_told_9 10 rfl rfl)
theorem dX3_told_243 : decode cX3_told 243 = .ok (.istore 5, 2) := dk_54 5 (dk_at dksX3_told_9 13 rfl rfl)
theorem dX3_told_245 : decode cX3_told 245 = .ok (.iload_n 2, 1) := dk_28 (dk_at dksX3_told_9 15 rfl rfl)
theorem dX3_told_246 : decode cX3_told 246 = .ok (.ifCond .lt 22, 3) := dk_155 0 22 (dk_at dksX3_told_9 16 rfl rfl)
theorem dX3_told_249 : decode cX3_told 249 = .ok (.iload 4, 2) := dk_21 4 (dk_at dksX3_told_9 19 rfl rfl)
theorem dX3_told_251 : decode cX3_told 251 = .ok (.ifCond .lt 17, 3) := dk_155 0 17 (dk_at dksX3_told_9 21 rfl rfl)
theorem dX3_told_254 : decode cX3_told 254 = .ok (.aload_n 0, 1) := dk_42 (dk_at dksX3_told_10 0 rfl rfl)
theorem dX3_told_255 : decode cX3_told 255 = .ok (.getfield 83, 3) := dk_180 0 83 (dk_at dksX3_told_10 1 rfl rfl)
theorem dX3_told_258 : decode cX3_told 258 = .ok (.getfield 158, 3) := dk_180 0 158 (dk_at dksX3_told_10 4 rfl rfl)
theorem dX3_told_261 : decode cX3_told 261 = .ok (.iload_n 2, 1) := dk_28 (dk_at dksX3_told_10 7 rfl rfl)
theorem dX3_told_262 : decode cX3_told 262 = .ok (.aaload, 1) := dk_50 (dk_at dksX3_told_10 8 rfl rfl)
theorem dX3_told_263 : decode cX3_told 263 = .ok (.iload 4, 2) := dk_21 4 (dk_at dksX3_told_10 9 rfl rfl)
theorem dX3_told_265 : decode cX3_told 265 = .ok (.iload 5, 2) := dk_21 5 (dk_at dksX3_told_10 11 rfl rfl)
theorem dX3_told_267 : decode cX3_told 267 = .ok (.iastore, 1) := dk_79 (dk_at dksX3_told_10 13 rfl rfl)
theorem dX3_told_268 : decode cX3_told 268 = .ok (.iload_n 2, 1) := dk_28 (dk_at dksX3_told_10 14 rfl rfl)
theorem dX3_told_269 : decode cX3_told 269 = .ok (.ifCond .lt 22, 3) := dk_155 0 22 (dk_at dksX3_told_10 15 rfl rfl)
theorem dX3_told_272 : decode cX3_told 272 = .ok (.iload 4, 2) := dk_21 4 (dk_at dksX3_told_10 18 rfl rfl)
theorem dX3_told_274 : decode cX3_told 274 = .ok (.ifCond .lt 17, 3) := dk_155 0 17 (dk_at dksX3_told_10 20 rfl rfl)
theorem dX3_told_277 : decode cX3_told 277 = .ok (.aload_n 0, 1) := dk_42 (dk_at dksX3_told_10 23 rfl rfl)
theorem dX3_told_278 : decode cX3_told 278 = .ok (.getfield 83, 3) := dk_180 0 83 (dk_at dksX3_told_11 0 rfl rfl)
theorem dX3_told_281 : decode cX3_told 281 = .ok (.getfield 158, 3) := dk_180 0 158 (dk_at dksX3_told_11 3 rfl rfl)
theorem dX3_told_284 : decode cX3_told 284 = .ok (.iload 4, 2) := dk_21 4 (dk_at dksX3_told_11 6 rfl rfl)
theorem dX3_told_286 : decode cX3_told 286 = .ok (.aaload, 1) := dk_50 (dk_at dksX3_told_11 8 rfl rfl)
theorem dX3_told_287 : decode cX3_told 287 = .ok (.iload_n 2, 1) := dk_28 (dk_at dksX3_told_11 9 rfl rfl)
theorem dX3_told_288 : decode cX3_told 288 = .ok (.iload 5, 2) := dk_21 5 (dk_at dksX3_told_11 10 rfl rfl)
theorem dX3_told_290 : decode cX3_told 290 = .ok (.iastore, 1) := dk_79 (dk_at dksX3_told_11 12 rfl rfl)
theorem dX3_told_291 : decode cX3_told 291 = .ok (.aload_n 0, 1) := dk_42 (dk_at dksX3_told_11 13 rfl rfl)
theorem dX3_told_292 : decode cX3_told 292 = .ok (.getfield 83, 3) := dk_180 0 83 (dk_at dksX3_told_11 14 rfl rfl)
theorem dX3_told_295 : decode cX3_told 295 = .ok (.dup, 1) := dk_89 (dk_at dksX3_told_11 17 rfl rfl)
theorem dX3_told_296 : decode cX3_told 296 = .ok (.getfield 151, 3) := dk_180 0 151 (dk_at dksX3_told_11 18 rfl rfl)
theorem dX3_told_299 : decode cX3_told 299 = .ok (.iconst 1, 1) := dk_4 (dk_at dksX3_told_11 21 rfl rfl)
theorem dX3_told_300 : decode cX3_told 300 = .ok (.iadd, 1) := dk_96 (dk_at dksX3_told_11 22 rfl rfl)
theorem dX3_told_301 : decode cX3_told 301 = .ok (.putfield 151, 3) := dk_181 0 151 (dk_at dksX3_told_12 0 rfl rfl)
theorem dX3_told_304 : decode cX3_told 304 = .ok (.goto 94, 3) := dk_167 0 94 (dk_at dksX3_told_12 3 rfl rfl)
theorem dX3_told_307 : decode cX3_told 307 = .ok (.aload_n 0, 1) := dk_42 (dk_at dksX3_told_12 6 rfl rfl)
theorem dX3_told_308 : decode cX3_told 308 = .ok (.invokevirtual 59, 3) := dk_182 0 59 (dk_at dksX3_told_12 7 rfl rfl)
theorem dX3_told_311 : decode cX3_told 311 = .ok (.aload_n 0, 1) := dk_42 (dk_at dksX3_told_12 10 rfl rfl)
theorem dX3_told_312 : decode cX3_told 312 = .ok (.getfield 83, 3) := dk_180 0 83 (dk_at dksX3_told_12 11 rfl rfl)
theorem dX3_told_315 : decode cX3_told 315 = .ok (.aload_n 0, 1) := dk_42 (dk_at dksX3_told_12 14 rfl rfl)
theorem dX3_told_316 : decode cX3_told 316 = .ok (.iconst 1, 1) := dk_4 (dk_at dksX3_told_12 15 rfl rfl)
theorem dX3_told_317 : decode cX3_told 317 = .ok (.bipush 99, 2) := dk_16 99 (dk_at dksX3_told_12 16 rfl rfl)
theorem dX3_told_319 : decode cX3_told 319 = .ok (.invokevirtual 138, 3) := dk_182 0 138 (dk_at dksX3_told_12 18 rfl rfl)
theorem dX3_told_322 : decode cX3_told 322 = .ok (.putfield 162, 3) := dk_181 0 162 (dk_at dksX3_told_12 21 rfl rfl)
theorem dX3_told_325 : decode cX3_told 325 = .ok (.goto 73, 3) := dk_167 0 73 (dk_at dksX3_told_13 0 rfl rfl)
theorem dX3_told_328 : decode cX3_told 328 = .ok (.aload_n 0, 1) := dk_42 (dk_at dksX3_told_13 3 rfl rfl)
theorem dX3_told_329 : decode cX3_told 329 = .ok (.invokevirtual 59, 3) := dk_182 0 59 (dk_at dksX3_told_13 4 rfl rfl)
theorem dX3_told_332 : decode cX3_told 332 = .ok (.aload_n 0, 1) := dk_42 (dk_at dksX3_told_13 7 rfl rfl)
theorem dX3_told_333 : decode cX3_told 333 = .ok (.getfield 83, 3) := dk_180 0 83 (dk_at dksX3_told_13 8 rfl rfl)
theorem dX3_told_336 : decode cX3_told 336 = .ok (.aload_n 0, 1) := dk_42 (dk_at dksX3_told_13 11 rfl rfl)
theorem dX3_told_337 : decode cX3_told 337 = .ok (.iconst 0, 1) := dk_3 (dk_at dksX3_told_13 12 rfl rfl)
theorem dX3_told_338 : decode cX3_told 338 = .ok (.bipush 99, 2) := dk_16 99 (dk_at dksX3_told_13 13 rfl rfl)
theorem dX3_told_340 : decode cX3_told 340 = .ok (.invokevirtual 138, 3) := dk_182 0 138 (dk_at dksX3_told_13 15 rfl rfl)
theorem dX3_told_343 : decode cX3_told 343 = .ok (.putfield 165, 3) := dk_181 0 165 (dk_at dksX3_told_13 18 rfl rfl)
theorem dX3_told_346 : decode cX3_told 346 = .ok (.goto 52, 3) := dk_167 0 52 (dk_at dksX3_told_13 21 rfl rfl)
theorem dX3_told_349 : decode cX3_told 349 = .ok (.aload_n 0, 1) := dk_42 (dk_at dksX3_told_14 0 rfl rfl)
theorem dX3_told_350 : decode cX3_told 350 = .ok (.invokevirtual 59, 3) := dk_182 0 59 (dk_at dksX3_told_14 1 rfl rfl)
theorem dX3_told_353 : decode cX3_told 353 = .ok (.aload_n 0, 1) := dk_42 (dk_at dksX3_told_14 4 rfl rfl)
theorem dX3_told_354 : decode cX3_told 354 = .ok (.getfield 83, 3) := dk_180 0 83 (dk_at dksX3_told_14 5 rfl rfl)
theorem dX3_told_357 : decode cX3_told 357 = .ok (.aload_n 0, 1) := dk_42 (dk_at dksX3_told_14 8 rfl rfl)
theorem dX3_told_358 : decode cX3_told 358 = .ok (.iconst 0, 1) := dk_3 (dk_at dksX3_told_14 9 rfl rfl)
theorem dX3_told_359 : decode cX3_told 359 = .ok (.bipush 100, 2) := dk_16 100 (dk_at dksX3_told_14 10 rfl rfl)
theorem dX3_told_361 : decode cX3_told 361 = .ok (.invokevirtual 138, 3) := dk_182 0 138 (dk_at dksX3_told_14 12 rfl rfl)
theorem dX3_told_364 : decode cX3_told 364 = .ok (.putfield 168, 3) := dk_181 0 168 (dk_at dksX3_told_14 15 rfl rfl)
theorem dX3_told_367 : decode cX3_told 367 = .ok (.goto 31, 3) := dk_167 0 31 (dk_at dksX3_told_14 18 rfl rfl)
theorem dX3_told_370 : decode cX3_told 370 = .ok (.aload_n 0, 1) := dk_42 (dk_at dksX3_told_14 21 rfl rfl)
theorem dX3_told_371 : decode cX3_told 371 = .ok (.invokevirtual 59, 3) := dk_182 0 59 (dk_at dksX3_told_15 0 rfl rfl)
theorem dX3_told_374 : decode cX3_told 374 = .ok (.aload_n 0, 1) := dk_42 (dk_at dksX3_told_15 3 rfl rfl)
theorem dX3_told_375 : decode cX3_told 375 = .ok (.getfield 83, 3) := dk_180 0 83 (dk_at dksX3_told_15 4 rfl rfl)
theorem dX3_told_378 : decode cX3_told 378 = .ok (.aload_n 0, 1) := dk_42 (dk_at dksX3_told_15 7 rfl rfl)
theorem dX3_told_379 : decode cX3_told 379 = .ok (.iconst 0, 1) := dk_3 (dk_at dksX3_told_15 8 rfl rfl)
theorem dX3_told_380 : decode cX3_told 380 = .ok (.sipush 9999, 3) := dk_17 39 15 (dk_at dksX3_told_15 9 rfl rfl)
theorem dX3_told_383 : decode cX3_told 383 = .ok (.invokevirtual 138, 3) := dk_182 0 138 (dk_at dksX3_told_15 12 rfl rfl)
theorem dX3_told_386 : decode cX3_told 386 = .ok (.putfield 171, 3) := dk_181 0 171 (dk_at dksX3_told_15 15 rfl rfl)
theorem dX3_told_389 : decode cX3_told 389 = .ok (.goto 9, 3) := dk_167 0 9 (dk_at dksX3_told_15 18 rfl rfl)
theorem dX3_told_392 : decode cX3_told 392 = .ok (.aload_n 0, 1) := dk_42 (dk_at dksX3_told_15 21 rfl rfl)
theorem dX3_told_393 : decode cX3_told 393 = .ok (.iconst 1, 1) := dk_4 (dk_at dksX3_told_15 22 rfl rfl)
theorem dX3_told_394 : decode cX3_told 394 = .ok (.invokevirtual 48, 3) := dk_182 0 48 (dk_at dksX3_told_16 0 rfl rfl)
theorem dX3_told_397 : decode cX3_told 397 = .ok (.athrow, 1) := dk_191 (dk_at dksX3_told_16 3 rfl rfl)
theorem dX3_told_398 : decode cX3_told 398 = .ok (.return_, 1) := dk_177 (dk_at dksX3_told_16 4 rfl rfl)
def dkwX3_pass_1 : List UInt8 := [181, 0, 31, 177]
abbrev dktX3_pass_1 : List UInt8 := dkwX3_pass_1 ++ []
def dkwX3_pass_0 : List UInt8 := [42, 180, 0, 31, 17, 1, 144, 161, 0, 9, 42, 5, 182, 0, 48, 191, 42, 89, 180, 0, 31, 4, 96]
abbrev dktX3_pass_0 : List UInt8 := dkwX3_pass_0 ++ dktX3_pass_1
theorem dksX3_pass_0 : cX3_pass.data.toList.drop 0 = dktX3_pass_0 := by decide +kernel
theorem dksX3_pass_1 : cX3_pass.data.toList.drop 23 = dktX3_pass_1 := dk_seg dksX3_pass_0 23 rfl rfl
theorem dX3_pass_0 : decode cX3_pass 0 = .ok (.aload_n 0, 1) := dk_42 (dk_at dksX3_pass_0 0 rfl rfl)
theorem dX3_pass_1 : decode cX3_pass 1 = .ok (.getfield 31, 3) := dk_180 0 31 (dk_at dksX3_pass_0 1 rfl rfl)
theorem dX3_pass_4 : decode cX3_pass 4 = .ok (.sipush 400, 3) := dk_17 1 144 (dk_at dksX3_pass_0 4 rfl rfl)
theorem dX3_pass_7 : decode cX3_pass 7 = .ok (.if_icmp .lt 9, 3) := dk_161 0 9 (dk_at dksX3_pass_0 7 rfl rfl)
theorem dX3_pass_10 : decode cX3_pass 10 = .ok (.aload_n 0, 1) := dk_42 (dk_at dksX3_pass_0 10 rfl rfl)
theorem dX3_pass_11 : decode cX3_pass 11 = .ok (.iconst 2, 1) := dk_5 (dk_at dksX3_pass_0 11 rfl rfl)
theorem dX3_pass_12 : decode cX3_pass 12 = .ok (.invokevirtual 48, 3) := dk_182 0 48 (dk_at dksX3_pass_0 12 rfl rfl)
theorem dX3_pass_15 : decode cX3_pass 15 = .ok (.athrow, 1) := dk_191 (dk_at dksX3_pass_0 15 rfl rfl)
theorem dX3_pass_16 : decode cX3_pass 16 = .ok (.aload_n 0, 1) := dk_42 (dk_at dksX3_pass_0 16 rfl rfl)
theorem dX3_pass_17 : decode cX3_pass 17 = .ok (.dup, 1) := dk_89 (dk_at dksX3_pass_0 17 rfl rfl)
theorem dX3_pass_18 : decode cX3_pass 18 = .ok (.getfield 31, 3) := dk_180 0 31 (dk_at dksX3_pass_0 18 rfl rfl)
theorem dX3_pass_21 : decode cX3_pass 21 = .ok (.iconst 1, 1) := dk_4 (dk_at dksX3_pass_0 21 rfl rfl)
theorem dX3_pass_22 : decode cX3_pass 22 = .ok (.iadd, 1) := dk_96 (dk_at dksX3_pass_0 22 rfl rfl)
theorem dX3_pass_23 : decode cX3_pass 23 = .ok (.putfield 31, 3) := dk_181 0 31 (dk_at dksX3_pass_1 0 rfl rfl)
theorem dX3_pass_26 : decode cX3_pass 26 = .ok (.return_, 1) := dk_177 (dk_at dksX3_pass_1 3 rfl rfl)
def dkwX3_law_4 : List UInt8 := [96, 181, 0, 177, 167, 255, 171, 43, 180, 0, 194, 43, 180, 0, 177, 42, 182, 0, 184, 83, 43, 176]
abbrev dktX3_law_4 : List UInt8 := dkwX3_law_4 ++ []
def dkwX3_law_3 : List UInt8 := [180, 0, 194, 43, 180, 0, 177, 42, 182, 0, 184, 83, 42, 16, 12, 182, 0, 191, 43, 89, 180, 0, 177, 4]
abbrev dktX3_law_3 : List UInt8 := dkwX3_law_3 ++ dktX3_law_4
def dkwX3_law_2 : List UInt8 := [182, 0, 105, 43, 180, 0, 188, 43, 180, 0, 177, 42, 182, 0, 184, 83, 42, 16, 11, 182, 0, 191, 43]
abbrev dktX3_law_2 : List UInt8 := dkwX3_law_2 ++ dktX3_law_3
def dkwX3_law_1 : List UInt8 := [43, 180, 0, 177, 7, 182, 0, 126, 43, 180, 0, 180, 43, 180, 0, 177, 42, 182, 0, 184, 83, 42, 16, 60]
abbrev dktX3_law_1 : List UInt8 := dkwX3_law_1 ++ dktX3_law_2
def dkwX3_law_0 : List UInt8 := [187, 0, 174, 89, 183, 0, 176, 76, 42, 16, 61, 182, 0, 105, 42, 16, 10, 182, 0, 62, 153, 0, 82, 42]
abbrev dktX3_law_0 : List UInt8 := dkwX3_law_0 ++ dktX3_law_1
theorem dksX3_law_0 : cX3_law.data.toList.drop 0 = dktX3_law_0 := by decide +kernel
theorem dksX3_law_1 : cX3_law.data.toList.drop 24 = dktX3_law_1 := dk_seg dksX3_law_0 24 rfl rfl
theorem dksX3_law_2 : cX3_law.data.toList.drop 48 = dktX3_law_2 := dk_seg dksX3_law_1 24 rfl rfl
theorem dksX3_law_3 : cX3_law.data.toList.drop 71 = dktX3_law_3 := dk_seg dksX3_law_2 23 rfl rfl
theorem dksX3_law_4 : cX3_law.data.toList.drop 95 = dktX3_law_4 := dk_seg dksX3_law_3 24 rfl rfl
theorem dX3_law_0 : decode cX3_law 0 = .ok (.new 174, 3) := dk_187 0 174 (dk_at dksX3_law_0 0 rfl rfl)
theorem dX3_law_3 : decode cX3_law 3 = .ok (.dup, 1) := dk_89 (dk_at dksX3_law_0 3 rfl rfl)
theorem dX3_law_4 : decode cX3_law 4 = .ok (.invokespecial 176, 3) := dk_183 0 176 (dk_at dksX3_law_0 4 rfl rfl)
theorem dX3_law_7 : decode cX3_law 7 = .ok (.astore_n 1, 1) := dk_76 (dk_at dksX3_law_0 7 rfl rfl)
theorem dX3_law_8 : decode cX3_law 8 = .ok (.aload_n 0, 1) := dk_42 (dk_at dksX3_law_0 8 rfl rfl)
theorem dX3_law_9 : decode cX3_law 9 = .ok (.bipush 61, 2) := dk_16 61 (dk_at dksX3_law_0 9 rfl rfl)
theorem dX3_law_11 : decode cX3_law 11 = .ok (.invokevirtual 105, 3) := dk_182 0 105 (dk_at dksX3_law_0 11 rfl rfl)
theorem dX3_law_14 : decode cX3_law 14 = .ok (.aload_n 0, 1) := dk_42 (dk_at dksX3_law_0 14 rfl rfl)
theorem dX3_law_15 : decode cX3_law 15 = .ok (.bipush 10, 2) := dk_16 10 (dk_at dksX3_law_0 15 rfl rfl)
theorem dX3_law_17 : decode cX3_law 17 = .ok (.invokevirtual 62, 3) := dk_182 0 62 (dk_at dksX3_law_0 17 rfl rfl)
theorem dX3_law_20 : decode cX3_law 20 = .ok (.ifCond .eq 82, 3) := dk_153 0 82 (dk_at dksX3_law_0 20 rfl rfl)
theorem dX3_law_23 : decode cX3_law 23 = .ok (.aload_n 0, 1) := dk_42 (dk_at dksX3_law_0 23 rfl rfl)
theorem dX3_law_24 : decode cX3_law 24 = .ok (.aload_n 1, 1) := dk_43 (dk_at dksX3_law_1 0 rfl rfl)
theorem dX3_law_25 : decode cX3_law 25 = .ok (.getfield 177, 3) := dk_180 0 177 (dk_at dksX3_law_1 1 rfl rfl)
theorem dX3_law_28 : decode cX3_law 28 = .ok (.iconst 4, 1) := dk_7 (dk_at dksX3_law_1 4 rfl rfl)
theorem dX3_law_29 : decode cX3_law 29 = .ok (.invokevirtual 126, 3) := dk_182 0 126 (dk_at dksX3_law_1 5 rfl rfl)
theorem dX3_law_32 : decode cX3_law 32 = .ok (.aload_n 1, 1) := dk_43 (dk_at dksX3_law_1 8 rfl rfl)
theorem dX3_law_33 : decode cX3_law 33 = .ok (.getfield 180, 3) := dk_180 0 180 (dk_at dksX3_law_1 9 rfl rfl)
theorem dX3_law_36 : decode cX3_law 36 = .ok (.aload_n 1, 1) := dk_43 (dk_at dksX3_law_1 12 rfl rfl)
theorem dX3_law_37 : decode cX3_law 37 = .ok (.getfield 177, 3) := dk_180 0 177 (dk_at dksX3_law_1 13 rfl rfl)
theorem dX3_law_40 : decode cX3_law 40 = .ok (.aload_n 0, 1) := dk_42 (dk_at dksX3_law_1 16 rfl rfl)
theorem dX3_law_41 : decode cX3_law 41 = .ok (.invokevirtual 184, 3) := dk_182 0 184 (dk_at dksX3_law_1 17 rfl rfl)
theorem dX3_law_44 : decode cX3_law 44 = .ok (.aastore, 1) := dk_83 (dk_at dksX3_law_1 20 rfl rfl)
theorem dX3_law_45 : decode cX3_law 45 = .ok (.aload_n 0, 1) := dk_42 (dk_at dksX3_law_1 21 rfl rfl)
theorem dX3_law_46 : decode cX3_law 46 = .ok (.bipush 60, 2) := dk_16 60 (dk_at dksX3_law_1 22 rfl rfl)
theorem dX3_law_48 : decode cX3_law 48 = .ok (.invokevirtual 105, 3) := dk_182 0 105 (dk_at dksX3_law_2 0 rfl rfl)
theorem dX3_law_51 : decode cX3_law 51 = .ok (.aload_n 1, 1) := dk_43 (dk_at dksX3_law_2 3 rfl rfl)
theorem dX3_law_52 : decode cX3_law 52 = .ok (.getfield 188, 3) := dk_180 0 188 (dk_at dksX3_law_2 4 rfl rfl)
theorem dX3_law_55 : decode cX3_law 55 = .ok (.aload_n 1, 1) := dk_43 (dk_at dksX3_law_2 7 rfl rfl)
theorem dX3_law_56 : decode cX3_law 56 = .ok (.getfield 177, 3) := dk_180 0 177 (dk_at dksX3_law_2 8 rfl rfl)
theorem dX3_law_59 : decode cX3_law 59 = .ok (.aload_n 0, 1) := dk_42 (dk_at dksX3_law_2 11 rfl rfl)
theorem dX3_law_60 : decode cX3_law 60 = .ok (.invokevirtual 184, 3) := dk_182 0 184 (dk_at dksX3_law_2 12 rfl rfl)
theorem dX3_law_63 : decode cX3_law 63 = .ok (.aastore, 1) := dk_83 (dk_at dksX3_law_2 15 rfl rfl)
theorem dX3_law_64 : decode cX3_law 64 = .ok (.aload_n 0, 1) := dk_42 (dk_at dksX3_law_2 16 rfl rfl)
theorem dX3_law_65 : decode cX3_law 65 = .ok (.bipush 11, 2) := dk_16 11 (dk_at dksX3_law_2 17 rfl rfl)
theorem dX3_law_67 : decode cX3_law 67 = .ok (.invokevirtual 191, 3) := dk_182 0 191 (dk_at dksX3_law_2 19 rfl rfl)
theorem dX3_law_70 : decode cX3_law 70 = .ok (.aload_n 1, 1) := dk_43 (dk_at dksX3_law_2 22 rfl rfl)
theorem dX3_law_71 : decode cX3_law 71 = .ok (.getfield 194, 3) := dk_180 0 194 (dk_at dksX3_law_3 0 rfl rfl)
theorem dX3_law_74 : decode cX3_law 74 = .ok (.aload_n 1, 1) := dk_43 (dk_at dksX3_law_3 3 rfl rfl)
theorem dX3_law_75 : decode cX3_law 75 = .ok (.getfield 177, 3) := dk_180 0 177 (dk_at dksX3_law_3 4 rfl rfl)
theorem dX3_law_78 : decode cX3_law 78 = .ok (.aload_n 0, 1) := dk_42 (dk_at dksX3_law_3 7 rfl rfl)
theorem dX3_law_79 : decode cX3_law 79 = .ok (.invokevirtual 184, 3) := dk_182 0 184 (dk_at dksX3_law_3 8 rfl rfl)
theorem dX3_law_82 : decode cX3_law 82 = .ok (.aastore, 1) := dk_83 (dk_at dksX3_law_3 11 rfl rfl)
theorem dX3_law_83 : decode cX3_law 83 = .ok (.aload_n 0, 1) := dk_42 (dk_at dksX3_law_3 12 rfl rfl)
theorem dX3_law_84 : decode cX3_law 84 = .ok (.bipush 12, 2) := dk_16 12 (dk_at dksX3_law_3 13 rfl rfl)
theorem dX3_law_86 : decode cX3_law 86 = .ok (.invokevirtual 191, 3) := dk_182 0 191 (dk_at dksX3_law_3 15 rfl rfl)
theorem dX3_law_89 : decode cX3_law 89 = .ok (.aload_n 1, 1) := dk_43 (dk_at dksX3_law_3 18 rfl rfl)
theorem dX3_law_90 : decode cX3_law 90 = .ok (.dup, 1) := dk_89 (dk_at dksX3_law_3 19 rfl rfl)
theorem dX3_law_91 : decode cX3_law 91 = .ok (.getfield 177, 3) := dk_180 0 177 (dk_at dksX3_law_3 20 rfl rfl)
theorem dX3_law_94 : decode cX3_law 94 = .ok (.iconst 1, 1) := dk_4 (dk_at dksX3_law_3 23 rfl rfl)
theorem dX3_law_95 : decode cX3_law 95 = .ok (.iadd, 1) := dk_96 (dk_at dksX3_law_4 0 rfl rfl)
theorem dX3_law_96 : decode cX3_law 96 = .ok (.putfield 177, 3) := dk_181 0 177 (dk_at dksX3_law_4 1 rfl rfl)
theorem dX3_law_99 : decode cX3_law 99 = .ok (.goto (-85), 3) := dk_167 255 171 (dk_at dksX3_law_4 4 rfl rfl)
theorem dX3_law_102 : decode cX3_law 102 = .ok (.aload_n 1, 1) := dk_43 (dk_at dksX3_law_4 7 rfl rfl)
theorem dX3_law_103 : decode cX3_law 103 = .ok (.getfield 194, 3) := dk_180 0 194 (dk_at dksX3_law_4 8 rfl rfl)
theorem dX3_law_106 : decode cX3_law 106 = .ok (.aload_n 1, 1) := dk_43 (dk_at dksX3_law_4 11 rfl rfl)
theorem dX3_law_107 : decode cX3_law 107 = .ok (.getfield 177, 3) := dk_180 0 177 (dk_at dksX3_law_4 12 rfl rfl)
theorem dX3_law_110 : decode cX3_law 110 = .ok (.aload_n 0, 1) := dk_42 (dk_at dksX3_law_4 15 rfl rfl)
theorem dX3_law_111 : decode cX3_law 111 = .ok (.invokevirtual 184, 3) := dk_182 0 184 (dk_at dksX3_law_4 16 rfl rfl)
theorem dX3_law_114 : decode cX3_law 114 = .ok (.aastore, 1) := dk_83 (dk_at dksX3_law_4 19 rfl rfl)
theorem dX3_law_115 : decode cX3_law 115 = .ok (.aload_n 1, 1) := dk_43 (dk_at dksX3_law_4 20 rfl rfl)
theorem dX3_law_116 : decode cX3_law 116 = .ok (.areturn, 1) := dk_176 (dk_at dksX3_law_4 21 rfl rfl)
def dkwX3_sign_0 : List UInt8 := [42, 27, 182, 0, 55, 154, 0, 9, 42, 4, 182, 0, 48, 191, 42, 182, 0, 59, 177]
abbrev dktX3_sign_0 : List UInt8 := dkwX3_sign_0 ++ []
theorem dksX3_sign_0 : cX3_sign.data.toList.drop 0 = dktX3_sign_0 := by decide +kernel
theorem dX3_sign_0 : decode cX3_sign 0 = .ok (.aload_n 0, 1) := dk_42 (dk_at dksX3_sign_0 0 rfl rfl)
theorem dX3_sign_1 : decode cX3_sign 1 = .ok (.iload_n 1, 1) := dk_27 (dk_at dksX3_sign_0 1 rfl rfl)
theorem dX3_sign_2 : decode cX3_sign 2 = .ok (.invokevirtual 55, 3) := dk_182 0 55 (dk_at dksX3_sign_0 2 rfl rfl)
theorem dX3_sign_5 : decode cX3_sign 5 = .ok (.ifCond .ne 9, 3) := dk_154 0 9 (dk_at dksX3_sign_0 5 rfl rfl)
theorem dX3_sign_8 : decode cX3_sign 8 = .ok (.aload_n 0, 1) := dk_42 (dk_at dksX3_sign_0 8 rfl rfl)
theorem dX3_sign_9 : decode cX3_sign 9 = .ok (.iconst 1, 1) := dk_4 (dk_at dksX3_sign_0 9 rfl rfl)
theorem dX3_sign_10 : decode cX3_sign 10 = .ok (.invokevirtual 48, 3) := dk_182 0 48 (dk_at dksX3_sign_0 10 rfl rfl)
theorem dX3_sign_13 : decode cX3_sign 13 = .ok (.athrow, 1) := dk_191 (dk_at dksX3_sign_0 13 rfl rfl)
theorem dX3_sign_14 : decode cX3_sign 14 = .ok (.aload_n 0, 1) := dk_42 (dk_at dksX3_sign_0 14 rfl rfl)
theorem dX3_sign_15 : decode cX3_sign 15 = .ok (.invokevirtual 59, 3) := dk_182 0 59 (dk_at dksX3_sign_0 15 rfl rfl)
theorem dX3_sign_18 : decode cX3_sign 18 = .ok (.return_, 1) := dk_177 (dk_at dksX3_sign_0 18 rfl rfl)
def dkwX3_isSign_1 : List UInt8 := [180, 0, 31, 53, 27, 160, 0, 7, 4, 167, 0, 4, 3, 172]
abbrev dktX3_isSign_1 : List UInt8 := dkwX3_isSign_1 ++ []
def dkwX3_isSign_0 : List UInt8 := [42, 180, 0, 9, 180, 0, 44, 42, 180, 0, 31, 51, 5, 160, 0, 23, 42, 180, 0, 9, 180, 0, 52, 42]
abbrev dktX3_isSign_0 : List UInt8 := dkwX3_isSign_0 ++ dktX3_isSign_1
theorem dksX3_isSign_0 : cX3_isSign.data.toList.drop 0 = dktX3_isSign_0 := by decide +kernel
theorem dksX3_isSign_1 : cX3_isSign.data.toList.drop 24 = dktX3_isSign_1 := dk_seg dksX3_isSign_0 24 rfl rfl
theorem dX3_isSign_0 : decode cX3_isSign 0 = .ok (.aload_n 0, 1) := dk_42 (dk_at dksX3_isSign_0 0 rfl rfl)
theorem dX3_isSign_1 : decode cX3_isSign 1 = .ok (.getfield 9, 3) := dk_180 0 9 (dk_at dksX3_isSign_0 1 rfl rfl)
theorem dX3_isSign_4 : decode cX3_isSign 4 = .ok (.getfield 44, 3) := dk_180 0 44 (dk_at dksX3_isSign_0 4 rfl rfl)
theorem dX3_isSign_7 : decode cX3_isSign 7 = .ok (.aload_n 0, 1) := dk_42 (dk_at dksX3_isSign_0 7 rfl rfl)
theorem dX3_isSign_8 : decode cX3_isSign 8 = .ok (.getfield 31, 3) := dk_180 0 31 (dk_at dksX3_isSign_0 8 rfl rfl)
theorem dX3_isSign_11 : decode cX3_isSign 11 = .ok (.baload, 1) := dk_51 (dk_at dksX3_isSign_0 11 rfl rfl)
theorem dX3_isSign_12 : decode cX3_isSign 12 = .ok (.iconst 2, 1) := dk_5 (dk_at dksX3_isSign_0 12 rfl rfl)
theorem dX3_isSign_13 : decode cX3_isSign 13 = .ok (.if_icmp .ne 23, 3) := dk_160 0 23 (dk_at dksX3_isSign_0 13 rfl rfl)
theorem dX3_isSign_16 : decode cX3_isSign 16 = .ok (.aload_n 0, 1) := dk_42 (dk_at dksX3_isSign_0 16 rfl rfl)
theorem dX3_isSign_17 : decode cX3_isSign 17 = .ok (.getfield 9, 3) := dk_180 0 9 (dk_at dksX3_isSign_0 17 rfl rfl)
theorem dX3_isSign_20 : decode cX3_isSign 20 = .ok (.getfield 52, 3) := dk_180 0 52 (dk_at dksX3_isSign_0 20 rfl rfl)
theorem dX3_isSign_23 : decode cX3_isSign 23 = .ok (.aload_n 0, 1) := dk_42 (dk_at dksX3_isSign_0 23 rfl rfl)
theorem dX3_isSign_24 : decode cX3_isSign 24 = .ok (.getfield 31, 3) := dk_180 0 31 (dk_at dksX3_isSign_1 0 rfl rfl)
theorem dX3_isSign_27 : decode cX3_isSign 27 = .ok (.saload, 1) := dk_53 (dk_at dksX3_isSign_1 3 rfl rfl)
theorem dX3_isSign_28 : decode cX3_isSign 28 = .ok (.iload_n 1, 1) := dk_27 (dk_at dksX3_isSign_1 4 rfl rfl)
theorem dX3_isSign_29 : decode cX3_isSign 29 = .ok (.if_icmp .ne 7, 3) := dk_160 0 7 (dk_at dksX3_isSign_1 5 rfl rfl)
theorem dX3_isSign_32 : decode cX3_isSign 32 = .ok (.iconst 1, 1) := dk_4 (dk_at dksX3_isSign_1 8 rfl rfl)
theorem dX3_isSign_33 : decode cX3_isSign 33 = .ok (.goto 4, 3) := dk_167 0 4 (dk_at dksX3_isSign_1 9 rfl rfl)
theorem dX3_isSign_36 : decode cX3_isSign 36 = .ok (.iconst 0, 1) := dk_3 (dk_at dksX3_isSign_1 12 rfl rfl)
theorem dX3_isSign_37 : decode cX3_isSign 37 = .ok (.ireturn, 1) := dk_172 (dk_at dksX3_isSign_1 13 rfl rfl)
def dkwX3_isWord_1 : List UInt8 := [180, 0, 31, 53, 27, 160, 0, 7, 4, 167, 0, 4, 3, 172]
abbrev dktX3_isWord_1 : List UInt8 := dkwX3_isWord_1 ++ []
def dkwX3_isWord_0 : List UInt8 := [42, 180, 0, 9, 180, 0, 44, 42, 180, 0, 31, 51, 6, 160, 0, 23, 42, 180, 0, 9, 180, 0, 52, 42]
abbrev dktX3_isWord_0 : List UInt8 := dkwX3_isWord_0 ++ dktX3_isWord_1
theorem dksX3_isWord_0 : cX3_isWord.data.toList.drop 0 = dktX3_isWord_0 := by decide +kernel
theorem dksX3_isWord_1 : cX3_isWord.data.toList.drop 24 = dktX3_isWord_1 := dk_seg dksX3_isWord_0 24 rfl rfl
theorem dX3_isWord_0 : decode cX3_isWord 0 = .ok (.aload_n 0, 1) := dk_42 (dk_at dksX3_isWord_0 0 rfl rfl)
theorem dX3_isWord_1 : decode cX3_isWord 1 = .ok (.getfield 9, 3) := dk_180 0 9 (dk_at dksX3_isWord_0 1 rfl rfl)
theorem dX3_isWord_4 : decode cX3_isWord 4 = .ok (.getfield 44, 3) := dk_180 0 44 (dk_at dksX3_isWord_0 4 rfl rfl)
theorem dX3_isWord_7 : decode cX3_isWord 7 = .ok (.aload_n 0, 1) := dk_42 (dk_at dksX3_isWord_0 7 rfl rfl)
theorem dX3_isWord_8 : decode cX3_isWord 8 = .ok (.getfield 31, 3) := dk_180 0 31 (dk_at dksX3_isWord_0 8 rfl rfl)
theorem dX3_isWord_11 : decode cX3_isWord 11 = .ok (.baload, 1) := dk_51 (dk_at dksX3_isWord_0 11 rfl rfl)
theorem dX3_isWord_12 : decode cX3_isWord 12 = .ok (.iconst 3, 1) := dk_6 (dk_at dksX3_isWord_0 12 rfl rfl)
theorem dX3_isWord_13 : decode cX3_isWord 13 = .ok (.if_icmp .ne 23, 3) := dk_160 0 23 (dk_at dksX3_isWord_0 13 rfl rfl)
theorem dX3_isWord_16 : decode cX3_isWord 16 = .ok (.aload_n 0, 1) := dk_42 (dk_at dksX3_isWord_0 16 rfl rfl)
theorem dX3_isWord_17 : decode cX3_isWord 17 = .ok (.getfield 9, 3) := dk_180 0 9 (dk_at dksX3_isWord_0 17 rfl rfl)
theorem dX3_isWord_20 : decode cX3_isWord 20 = .ok (.getfield 52, 3) := dk_180 0 52 (dk_at dksX3_isWord_0 20 rfl rfl)
theorem dX3_isWord_23 : decode cX3_isWord 23 = .ok (.aload_n 0, 1) := dk_42 (dk_at dksX3_isWord_0 23 rfl rfl)
theorem dX3_isWord_24 : decode cX3_isWord 24 = .ok (.getfield 31, 3) := dk_180 0 31 (dk_at dksX3_isWord_1 0 rfl rfl)
theorem dX3_isWord_27 : decode cX3_isWord 27 = .ok (.saload, 1) := dk_53 (dk_at dksX3_isWord_1 3 rfl rfl)
theorem dX3_isWord_28 : decode cX3_isWord 28 = .ok (.iload_n 1, 1) := dk_27 (dk_at dksX3_isWord_1 4 rfl rfl)
theorem dX3_isWord_29 : decode cX3_isWord 29 = .ok (.if_icmp .ne 7, 3) := dk_160 0 7 (dk_at dksX3_isWord_1 5 rfl rfl)
theorem dX3_isWord_32 : decode cX3_isWord 32 = .ok (.iconst 1, 1) := dk_4 (dk_at dksX3_isWord_1 8 rfl rfl)
theorem dX3_isWord_33 : decode cX3_isWord 33 = .ok (.goto 4, 3) := dk_167 0 4 (dk_at dksX3_isWord_1 9 rfl rfl)
theorem dX3_isWord_36 : decode cX3_isWord 36 = .ok (.iconst 0, 1) := dk_3 (dk_at dksX3_isWord_1 12 rfl rfl)
theorem dX3_isWord_37 : decode cX3_isWord 37 = .ok (.ireturn, 1) := dk_172 (dk_at dksX3_isWord_1 13 rfl rfl)
def dkwX3_begins_0 : List UInt8 := [27, 28, 160, 0, 9, 42, 5, 182, 0, 48, 191, 42, 182, 0, 59, 177]
abbrev dktX3_begins_0 : List UInt8 := dkwX3_begins_0 ++ []
theorem dksX3_begins_0 : cX3_begins.data.toList.drop 0 = dktX3_begins_0 := by decide +kernel
theorem dX3_begins_0 : decode cX3_begins 0 = .ok (.iload_n 1, 1) := dk_27 (dk_at dksX3_begins_0 0 rfl rfl)
theorem dX3_begins_1 : decode cX3_begins 1 = .ok (.iload_n 2, 1) := dk_28 (dk_at dksX3_begins_0 1 rfl rfl)
theorem dX3_begins_2 : decode cX3_begins 2 = .ok (.if_icmp .ne 9, 3) := dk_160 0 9 (dk_at dksX3_begins_0 2 rfl rfl)
theorem dX3_begins_5 : decode cX3_begins 5 = .ok (.aload_n 0, 1) := dk_42 (dk_at dksX3_begins_0 5 rfl rfl)
theorem dX3_begins_6 : decode cX3_begins 6 = .ok (.iconst 2, 1) := dk_5 (dk_at dksX3_begins_0 6 rfl rfl)
theorem dX3_begins_7 : decode cX3_begins 7 = .ok (.invokevirtual 48, 3) := dk_182 0 48 (dk_at dksX3_begins_0 7 rfl rfl)
theorem dX3_begins_10 : decode cX3_begins 10 = .ok (.athrow, 1) := dk_191 (dk_at dksX3_begins_0 10 rfl rfl)
theorem dX3_begins_11 : decode cX3_begins 11 = .ok (.aload_n 0, 1) := dk_42 (dk_at dksX3_begins_0 11 rfl rfl)
theorem dX3_begins_12 : decode cX3_begins 12 = .ok (.invokevirtual 59, 3) := dk_182 0 59 (dk_at dksX3_begins_0 12 rfl rfl)
theorem dX3_begins_15 : decode cX3_begins 15 = .ok (.return_, 1) := dk_177 (dk_at dksX3_begins_0 15 rfl rfl)
def dkwX3_sum_2 : List UInt8 := [182, 0, 197, 183, 0, 202, 76, 167, 255, 207, 43, 176]
abbrev dktX3_sum_2 : List UInt8 := dkwX3_sum_2 ++ []
def dkwX3_sum_1 : List UInt8 := [180, 0, 9, 180, 0, 52, 42, 180, 0, 31, 53, 61, 42, 182, 0, 59, 187, 0, 200, 89, 28, 43, 42]
abbrev dktX3_sum_1 : List UInt8 := dkwX3_sum_1 ++ dktX3_sum_2
def dkwX3_sum_0 : List UInt8 := [42, 182, 0, 197, 76, 42, 16, 43, 182, 0, 55, 154, 0, 12, 42, 16, 45, 182, 0, 55, 153, 0, 37, 42]
abbrev dktX3_sum_0 : List UInt8 := dkwX3_sum_0 ++ dktX3_sum_1
theorem dksX3_sum_0 : cX3_sum.data.toList.drop 0 = dktX3_sum_0 := by decide +kernel
theorem dksX3_sum_1 : cX3_sum.data.toList.drop 24 = dktX3_sum_1 := dk_seg dksX3_sum_0 24 rfl rfl
theorem dksX3_sum_2 : cX3_sum.data.toList.drop 47 = dktX3_sum_2 := dk_seg dksX3_sum_1 23 rfl rfl
theorem dX3_sum_0 : decode cX3_sum 0 = .ok (.aload_n 0, 1) := dk_42 (dk_at dksX3_sum_0 0 rfl rfl)
theorem dX3_sum_1 : decode cX3_sum 1 = .ok (.invokevirtual 197, 3) := dk_182 0 197 (dk_at dksX3_sum_0 1 rfl rfl)
theorem dX3_sum_4 : decode cX3_sum 4 = .ok (.astore_n 1, 1) := dk_76 (dk_at dksX3_sum_0 4 rfl rfl)
theorem dX3_sum_5 : decode cX3_sum 5 = .ok (.aload_n 0, 1) := dk_42 (dk_at dksX3_sum_0 5 rfl rfl)
theorem dX3_sum_6 : decode cX3_sum 6 = .ok (.bipush 43, 2) := dk_16 43 (dk_at dksX3_sum_0 6 rfl rfl)
theorem dX3_sum_8 : decode cX3_sum 8 = .ok (.invokevirtual 55, 3) := dk_182 0 55 (dk_at dksX3_sum_0 8 rfl rfl)
theorem dX3_sum_11 : decode cX3_sum 11 = .ok (.ifCond .ne 12, 3) := dk_154 0 12 (dk_at dksX3_sum_0 11 rfl rfl)
theorem dX3_sum_14 : decode cX3_sum 14 = .ok (.aload_n 0, 1) := dk_42 (dk_at dksX3_sum_0 14 rfl rfl)
theorem dX3_sum_15 : decode cX3_sum 15 = .ok (.bipush 45, 2) := dk_16 45 (dk_at dksX3_sum_0 15 rfl rfl)
theorem dX3_sum_17 : decode cX3_sum 17 = .ok (.invokevirtual 55, 3) := dk_182 0 55 (dk_at dksX3_sum_0 17 rfl rfl)
theorem dX3_sum_20 : decode cX3_sum 20 = .ok (.ifCond .eq 37, 3) := dk_153 0 37 (dk_at dksX3_sum_0 20 rfl rfl)
theorem dX3_sum_23 : decode cX3_sum 23 = .ok (.aload_n 0, 1) := dk_42 (dk_at dksX3_sum_0 23 rfl rfl)
theorem dX3_sum_24 : decode cX3_sum 24 = .ok (.getfield 9, 3) := dk_180 0 9 (dk_at dksX3_sum_1 0 rfl rfl)
theorem dX3_sum_27 : decode cX3_sum 27 = .ok (.getfield 52, 3) := dk_180 0 52 (dk_at dksX3_sum_1 3 rfl rfl)
theorem dX3_sum_30 : decode cX3_sum 30 = .ok (.aload_n 0, 1) := dk_42 (dk_at dksX3_sum_1 6 rfl rfl)
theorem dX3_sum_31 : decode cX3_sum 31 = .ok (.getfield 31, 3) := dk_180 0 31 (dk_at dksX3_sum_1 7 rfl rfl)
theorem dX3_sum_34 : decode cX3_sum 34 = .ok (.saload, 1) := dk_53 (dk_at dksX3_sum_1 10 rfl rfl)
theorem dX3_sum_35 : decode cX3_sum 35 = .ok (.istore_n 2, 1) := dk_61 (dk_at dksX3_sum_1 11 rfl rfl)
theorem dX3_sum_36 : decode cX3_sum 36 = .ok (.aload_n 0, 1) := dk_42 (dk_at dksX3_sum_1 12 rfl rfl)
theorem dX3_sum_37 : decode cX3_sum 37 = .ok (.invokevirtual 59, 3) := dk_182 0 59 (dk_at dksX3_sum_1 13 rfl rfl)
theorem dX3_sum_40 : decode cX3_sum 40 = .ok (.new 200, 3) := dk_187 0 200 (dk_at dksX3_sum_1 16 rfl rfl)
theorem dX3_sum_43 : decode cX3_sum 43 = .ok (.dup, 1) := dk_89 (dk_at dksX3_sum_1 19 rfl rfl)
theorem dX3_sum_44 : decode cX3_sum 44 = .ok (.iload_n 2, 1) := dk_28 (dk_at dksX3_sum_1 20 rfl rfl)
theorem dX3_sum_45 : decode cX3_sum 45 = .ok (.aload_n 1, 1) := dk_43 (dk_at dksX3_sum_1 21 rfl rfl)
theorem dX3_sum_46 : decode cX3_sum 46 = .ok (.aload_n 0, 1) := dk_42 (dk_at dksX3_sum_1 22 rfl rfl)
theorem dX3_sum_47 : decode cX3_sum 47 = .ok (.invokevirtual 197, 3) := dk_182 0 197 (dk_at dksX3_sum_2 0 rfl rfl)
theorem dX3_sum_50 : decode cX3_sum 50 = .ok (.invokespecial 202, 3) := dk_183 0 202 (dk_at dksX3_sum_2 3 rfl rfl)
theorem dX3_sum_53 : decode cX3_sum 53 = .ok (.astore_n 1, 1) := dk_76 (dk_at dksX3_sum_2 6 rfl rfl)
theorem dX3_sum_54 : decode cX3_sum 54 = .ok (.goto (-49), 3) := dk_167 255 207 (dk_at dksX3_sum_2 7 rfl rfl)
theorem dX3_sum_57 : decode cX3_sum 57 = .ok (.aload_n 1, 1) := dk_43 (dk_at dksX3_sum_2 10 rfl rfl)
theorem dX3_sum_58 : decode cX3_sum 58 = .ok (.areturn, 1) := dk_176 (dk_at dksX3_sum_2 11 rfl rfl)
def dkwX3_part_2 : List UInt8 := [182, 0, 205, 183, 0, 202, 76, 167, 255, 207, 43, 176]
abbrev dktX3_part_2 : List UInt8 := dkwX3_part_2 ++ []
def dkwX3_part_1 : List UInt8 := [180, 0, 9, 180, 0, 52, 42, 180, 0, 31, 53, 61, 42, 182, 0, 59, 187, 0, 200, 89, 28, 43, 42]
abbrev dktX3_part_1 : List UInt8 := dkwX3_part_1 ++ dktX3_part_2
def dkwX3_part_0 : List UInt8 := [42, 182, 0, 205, 76, 42, 16, 42, 182, 0, 55, 154, 0, 12, 42, 16, 47, 182, 0, 55, 153, 0, 37, 42]
abbrev dktX3_part_0 : List UInt8 := dkwX3_part_0 ++ dktX3_part_1
theorem dksX3_part_0 : cX3_part.data.toList.drop 0 = dktX3_part_0 := by decide +kernel
theorem dksX3_part_1 : cX3_part.data.toList.drop 24 = dktX3_part_1 := dk_seg dksX3_part_0 24 rfl rfl
theorem dksX3_part_2 : cX3_part.data.toList.drop 47 = dktX3_part_2 := dk_seg dksX3_part_1 23 rfl rfl
theorem dX3_part_0 : decode cX3_part 0 = .ok (.aload_n 0, 1) := dk_42 (dk_at dksX3_part_0 0 rfl rfl)
theorem dX3_part_1 : decode cX3_part 1 = .ok (.invokevirtual 205, 3) := dk_182 0 205 (dk_at dksX3_part_0 1 rfl rfl)
theorem dX3_part_4 : decode cX3_part 4 = .ok (.astore_n 1, 1) := dk_76 (dk_at dksX3_part_0 4 rfl rfl)
theorem dX3_part_5 : decode cX3_part 5 = .ok (.aload_n 0, 1) := dk_42 (dk_at dksX3_part_0 5 rfl rfl)
theorem dX3_part_6 : decode cX3_part 6 = .ok (.bipush 42, 2) := dk_16 42 (dk_at dksX3_part_0 6 rfl rfl)
theorem dX3_part_8 : decode cX3_part 8 = .ok (.invokevirtual 55, 3) := dk_182 0 55 (dk_at dksX3_part_0 8 rfl rfl)
theorem dX3_part_11 : decode cX3_part 11 = .ok (.ifCond .ne 12, 3) := dk_154 0 12 (dk_at dksX3_part_0 11 rfl rfl)
theorem dX3_part_14 : decode cX3_part 14 = .ok (.aload_n 0, 1) := dk_42 (dk_at dksX3_part_0 14 rfl rfl)
theorem dX3_part_15 : decode cX3_part 15 = .ok (.bipush 47, 2) := dk_16 47 (dk_at dksX3_part_0 15 rfl rfl)
theorem dX3_part_17 : decode cX3_part 17 = .ok (.invokevirtual 55, 3) := dk_182 0 55 (dk_at dksX3_part_0 17 rfl rfl)
theorem dX3_part_20 : decode cX3_part 20 = .ok (.ifCond .eq 37, 3) := dk_153 0 37 (dk_at dksX3_part_0 20 rfl rfl)
theorem dX3_part_23 : decode cX3_part 23 = .ok (.aload_n 0, 1) := dk_42 (dk_at dksX3_part_0 23 rfl rfl)
theorem dX3_part_24 : decode cX3_part 24 = .ok (.getfield 9, 3) := dk_180 0 9 (dk_at dksX3_part_1 0 rfl rfl)
theorem dX3_part_27 : decode cX3_part 27 = .ok (.getfield 52, 3) := dk_180 0 52 (dk_at dksX3_part_1 3 rfl rfl)
theorem dX3_part_30 : decode cX3_part 30 = .ok (.aload_n 0, 1) := dk_42 (dk_at dksX3_part_1 6 rfl rfl)
theorem dX3_part_31 : decode cX3_part 31 = .ok (.getfield 31, 3) := dk_180 0 31 (dk_at dksX3_part_1 7 rfl rfl)
theorem dX3_part_34 : decode cX3_part 34 = .ok (.saload, 1) := dk_53 (dk_at dksX3_part_1 10 rfl rfl)
theorem dX3_part_35 : decode cX3_part 35 = .ok (.istore_n 2, 1) := dk_61 (dk_at dksX3_part_1 11 rfl rfl)
theorem dX3_part_36 : decode cX3_part 36 = .ok (.aload_n 0, 1) := dk_42 (dk_at dksX3_part_1 12 rfl rfl)
theorem dX3_part_37 : decode cX3_part 37 = .ok (.invokevirtual 59, 3) := dk_182 0 59 (dk_at dksX3_part_1 13 rfl rfl)
theorem dX3_part_40 : decode cX3_part 40 = .ok (.new 200, 3) := dk_187 0 200 (dk_at dksX3_part_1 16 rfl rfl)
theorem dX3_part_43 : decode cX3_part 43 = .ok (.dup, 1) := dk_89 (dk_at dksX3_part_1 19 rfl rfl)
theorem dX3_part_44 : decode cX3_part 44 = .ok (.iload_n 2, 1) := dk_28 (dk_at dksX3_part_1 20 rfl rfl)
theorem dX3_part_45 : decode cX3_part 45 = .ok (.aload_n 1, 1) := dk_43 (dk_at dksX3_part_1 21 rfl rfl)
theorem dX3_part_46 : decode cX3_part 46 = .ok (.aload_n 0, 1) := dk_42 (dk_at dksX3_part_1 22 rfl rfl)
theorem dX3_part_47 : decode cX3_part 47 = .ok (.invokevirtual 205, 3) := dk_182 0 205 (dk_at dksX3_part_2 0 rfl rfl)
theorem dX3_part_50 : decode cX3_part 50 = .ok (.invokespecial 202, 3) := dk_183 0 202 (dk_at dksX3_part_2 3 rfl rfl)
theorem dX3_part_53 : decode cX3_part 53 = .ok (.astore_n 1, 1) := dk_76 (dk_at dksX3_part_2 6 rfl rfl)
theorem dX3_part_54 : decode cX3_part 54 = .ok (.goto (-49), 3) := dk_167 255 207 (dk_at dksX3_part_2 7 rfl rfl)
theorem dX3_part_57 : decode cX3_part 57 = .ok (.aload_n 1, 1) := dk_43 (dk_at dksX3_part_2 10 rfl rfl)
theorem dX3_part_58 : decode cX3_part 58 = .ok (.areturn, 1) := dk_176 (dk_at dksX3_part_2 11 rfl rfl)
def dkwX3_unit_6 : List UInt8 := [182, 0, 105, 42, 89, 180, 0, 99, 4, 100, 181, 0, 99, 43, 176]
abbrev dktX3_unit_6 : List UInt8 := dkwX3_unit_6 ++ []
def dkwX3_unit_5 : List UInt8 := [42, 89, 180, 0, 99, 4, 96, 181, 0, 99, 42, 182, 0, 59, 42, 182, 0, 184, 76, 42, 16, 41]
abbrev dktX3_unit_5 : List UInt8 := dkwX3_unit_5 ++ dktX3_unit_6
def dkwX3_unit_4 : List UInt8 := [154, 0, 9, 42, 4, 182, 0, 48, 191, 42, 180, 0, 99, 16, 6, 160, 0, 9, 42, 5, 182, 0, 48, 191]
abbrev dktX3_unit_4 : List UInt8 := dkwX3_unit_4 ++ dktX3_unit_5
def dkwX3_unit_3 : List UInt8 := [180, 0, 52, 42, 180, 0, 31, 4, 100, 53, 16, 13, 100, 183, 0, 214, 176, 42, 16, 40, 182, 0, 55]
abbrev dktX3_unit_3 : List UInt8 := dkwX3_unit_3 ++ dktX3_unit_4
def dkwX3_unit_2 : List UInt8 := [42, 180, 0, 31, 53, 16, 13, 161, 0, 32, 42, 182, 0, 59, 187, 0, 212, 89, 42, 180, 0, 9]
abbrev dktX3_unit_2 : List UInt8 := dkwX3_unit_2 ++ dktX3_unit_3
def dkwX3_unit_1 : List UInt8 := [4, 100, 182, 0, 72, 183, 0, 210, 176, 42, 182, 0, 65, 6, 160, 0, 49, 42, 180, 0, 9, 180, 0, 52]
abbrev dktX3_unit_1 : List UInt8 := dkwX3_unit_1 ++ dktX3_unit_2
def dkwX3_unit_0 : List UInt8 := [42, 182, 0, 65, 4, 160, 0, 28, 42, 182, 0, 59, 187, 0, 208, 89, 42, 180, 0, 9, 42, 180, 0, 31]
abbrev dktX3_unit_0 : List UInt8 := dkwX3_unit_0 ++ dktX3_unit_1
theorem dksX3_unit_0 : cX3_unit.data.toList.drop 0 = dktX3_unit_0 := by decide +kernel
theorem dksX3_unit_1 : cX3_unit.data.toList.drop 24 = dktX3_unit_1 := dk_seg dksX3_unit_0 24 rfl rfl
theorem dksX3_unit_2 : cX3_unit.data.toList.drop 48 = dktX3_unit_2 := dk_seg dksX3_unit_1 24 rfl rfl
theorem dksX3_unit_3 : cX3_unit.data.toList.drop 70 = dktX3_unit_3 := dk_seg dksX3_unit_2 22 rfl rfl
theorem dksX3_unit_4 : cX3_unit.data.toList.drop 93 = dktX3_unit_4 := dk_seg dksX3_unit_3 23 rfl rfl
theorem dksX3_unit_5 : cX3_unit.data.toList.drop 117 = dktX3_unit_5 := dk_seg dksX3_unit_4 24 rfl rfl
theorem dksX3_unit_6 : cX3_unit.data.toList.drop 139 = dktX3_unit_6 := dk_seg dksX3_unit_5 22 rfl rfl
theorem dX3_unit_0 : decode cX3_unit 0 = .ok (.aload_n 0, 1) := dk_42 (dk_at dksX3_unit_0 0 rfl rfl)
theorem dX3_unit_1 : decode cX3_unit 1 = .ok (.invokevirtual 65, 3) := dk_182 0 65 (dk_at dksX3_unit_0 1 rfl rfl)
theorem dX3_unit_4 : decode cX3_unit 4 = .ok (.iconst 1, 1) := dk_4 (dk_at dksX3_unit_0 4 rfl rfl)
theorem dX3_unit_5 : decode cX3_unit 5 = .ok (.if_icmp .ne 28, 3) := dk_160 0 28 (dk_at dksX3_unit_0 5 rfl rfl)
theorem dX3_unit_8 : decode cX3_unit 8 = .ok (.aload_n 0, 1) := dk_42 (dk_at dksX3_unit_0 8 rfl rfl)
theorem dX3_unit_9 : decode cX3_unit 9 = .ok (.invokevirtual 59, 3) := dk_182 0 59 (dk_at dksX3_unit_0 9 rfl rfl)
theorem dX3_unit_12 : decode cX3_unit 12 = .ok (.new 208, 3) := dk_187 0 208 (dk_at dksX3_unit_0 12 rfl rfl)
theorem dX3_unit_15 : decode cX3_unit 15 = .ok (.dup, 1) := dk_89 (dk_at dksX3_unit_0 15 rfl rfl)
theorem dX3_unit_16 : decode cX3_unit 16 = .ok (.aload_n 0, 1) := dk_42 (dk_at dksX3_unit_0 16 rfl rfl)
theorem dX3_unit_17 : decode cX3_unit 17 = .ok (.getfield 9, 3) := dk_180 0 9 (dk_at dksX3_unit_0 17 rfl rfl)
theorem dX3_unit_20 : decode cX3_unit 20 = .ok (.aload_n 0, 1) := dk_42 (dk_at dksX3_unit_0 20 rfl rfl)
theorem dX3_unit_21 : decode cX3_unit 21 = .ok (.getfield 31, 3) := dk_180 0 31 (dk_at dksX3_unit_0 21 rfl rfl)
theorem dX3_unit_24 : decode cX3_unit 24 = .ok (.iconst 1, 1) := dk_4 (dk_at dksX3_unit_1 0 rfl rfl)
theorem dX3_unit_25 : decode cX3_unit 25 = .ok (.isub, 1) := dk_100 (dk_at dksX3_unit_1 1 rfl rfl)
theorem dX3_unit_26 : decode cX3_unit 26 = .ok (.invokevirtual 72, 3) := dk_182 0 72 (dk_at dksX3_unit_1 2 rfl rfl)
theorem dX3_unit_29 : decode cX3_unit 29 = .ok (.invokespecial 210, 3) := dk_183 0 210 (dk_at dksX3_unit_1 5 rfl rfl)
theorem dX3_unit_32 : decode cX3_unit 32 = .ok (.areturn, 1) := dk_176 (dk_at dksX3_unit_1 8 rfl rfl)
theorem dX3_unit_33 : decode cX3_unit 33 = .ok (.aload_n 0, 1) := dk_42 (dk_at dksX3_unit_1 9 rfl rfl)
theorem dX3_unit_34 : decode cX3_unit 34 = .ok (.invokevirtual 65, 3) := dk_182 0 65 (dk_at dksX3_unit_1 10 rfl rfl)
theorem dX3_unit_37 : decode cX3_unit 37 = .ok (.iconst 3, 1) := dk_6 (dk_at dksX3_unit_1 13 rfl rfl)
theorem dX3_unit_38 : decode cX3_unit 38 = .ok (.if_icmp .ne 49, 3) := dk_160 0 49 (dk_at dksX3_unit_1 14 rfl rfl)
theorem dX3_unit_41 : decode cX3_unit 41 = .ok (.aload_n 0, 1) := dk_42 (dk_at dksX3_unit_1 17 rfl rfl)
theorem dX3_unit_42 : decode cX3_unit 42 = .ok (.getfield 9, 3) := dk_180 0 9 (dk_at dksX3_unit_1 18 rfl rfl)
theorem dX3_unit_45 : decode cX3_unit 45 = .ok (.getfield 52, 3) := dk_180 0 52 (dk_at dksX3_unit_1 21 rfl rfl)
theorem dX3_unit_48 : decode cX3_unit 48 = .ok (.aload_n 0, 1) := dk_42 (dk_at dksX3_unit_2 0 rfl rfl)
theorem dX3_unit_49 : decode cX3_unit 49 = .ok (.getfield 31, 3) := dk_180 0 31 (dk_at dksX3_unit_2 1 rfl rfl)
theorem dX3_unit_52 : decode cX3_unit 52 = .ok (.saload, 1) := dk_53 (dk_at dksX3_unit_2 4 rfl rfl)
theorem dX3_unit_53 : decode cX3_unit 53 = .ok (.bipush 13, 2) := dk_16 13 (dk_at dksX3_unit_2 5 rfl rfl)
theorem dX3_unit_55 : decode cX3_unit 55 = .ok (.if_icmp .lt 32, 3) := dk_161 0 32 (dk_at dksX3_unit_2 7 rfl rfl)
theorem dX3_unit_58 : decode cX3_unit 58 = .ok (.aload_n 0, 1) := dk_42 (dk_at dksX3_unit_2 10 rfl rfl)
theorem dX3_unit_59 : decode cX3_unit 59 = .ok (.invokevirtual 59, 3) := dk_182 0 59 (dk_at dksX3_unit_2 11 rfl rfl)
theorem dX3_unit_62 : decode cX3_unit 62 = .ok (.new 212, 3) := dk_187 0 212 (dk_at dksX3_unit_2 14 rfl rfl)
theorem dX3_unit_65 : decode cX3_unit 65 = .ok (.dup, 1) := dk_89 (dk_at dksX3_unit_2 17 rfl rfl)
theorem dX3_unit_66 : decode cX3_unit 66 = .ok (.aload_n 0, 1) := dk_42 (dk_at dksX3_unit_2 18 rfl rfl)
theorem dX3_unit_67 : decode cX3_unit 67 = .ok (.getfield 9, 3) := dk_180 0 9 (dk_at dksX3_unit_2 19 rfl rfl)
theorem dX3_unit_70 : decode cX3_unit 70 = .ok (.getfield 52, 3) := dk_180 0 52 (dk_at dksX3_unit_3 0 rfl rfl)
theorem dX3_unit_73 : decode cX3_unit 73 = .ok (.aload_n 0, 1) := dk_42 (dk_at dksX3_unit_3 3 rfl rfl)
theorem dX3_unit_74 : decode cX3_unit 74 = .ok (.getfield 31, 3) := dk_180 0 31 (dk_at dksX3_unit_3 4 rfl rfl)
theorem dX3_unit_77 : decode cX3_unit 77 = .ok (.iconst 1, 1) := dk_4 (dk_at dksX3_unit_3 7 rfl rfl)
theorem dX3_unit_78 : decode cX3_unit 78 = .ok (.isub, 1) := dk_100 (dk_at dksX3_unit_3 8 rfl rfl)
theorem dX3_unit_79 : decode cX3_unit 79 = .ok (.saload, 1) := dk_53 (dk_at dksX3_unit_3 9 rfl rfl)
theorem dX3_unit_80 : decode cX3_unit 80 = .ok (.bipush 13, 2) := dk_16 13 (dk_at dksX3_unit_3 10 rfl rfl)
theorem dX3_unit_82 : decode cX3_unit 82 = .ok (.isub, 1) := dk_100 (dk_at dksX3_unit_3 12 rfl rfl)
theorem dX3_unit_83 : decode cX3_unit 83 = .ok (.invokespecial 214, 3) := dk_183 0 214 (dk_at dksX3_unit_3 13 rfl rfl)
theorem dX3_unit_86 : decode cX3_unit 86 = .ok (.areturn, 1) := dk_176 (dk_at dksX3_unit_3 16 rfl rfl)
theorem dX3_unit_87 : decode cX3_unit 87 = .ok (.aload_n 0, 1) := dk_42 (dk_at dksX3_unit_3 17 rfl rfl)
theorem dX3_unit_88 : decode cX3_unit 88 = .ok (.bipush 40, 2) := dk_16 40 (dk_at dksX3_unit_3 18 rfl rfl)
theorem dX3_unit_90 : decode cX3_unit 90 = .ok (.invokevirtual 55, 3) := dk_182 0 55 (dk_at dksX3_unit_3 20 rfl rfl)
theorem dX3_unit_93 : decode cX3_unit 93 = .ok (.ifCond .ne 9, 3) := dk_154 0 9 (dk_at dksX3_unit_4 0 rfl rfl)
theorem dX3_unit_96 : decode cX3_unit 96 = .ok (.aload_n 0, 1) := dk_42 (dk_at dksX3_unit_4 3 rfl rfl)
theorem dX3_unit_97 : decode cX3_unit 97 = .ok (.iconst 1, 1) := dk_4 (dk_at dksX3_unit_4 4 rfl rfl)
theorem dX3_unit_98 : decode cX3_unit 98 = .ok (.invokevirtual 48, 3) := dk_182 0 48 (dk_at dksX3_unit_4 5 rfl rfl)
theorem dX3_unit_101 : decode cX3_unit 101 = .ok (.athrow, 1) := dk_191 (dk_at dksX3_unit_4 8 rfl rfl)
theorem dX3_unit_102 : decode cX3_unit 102 = .ok (.aload_n 0, 1) := dk_42 (dk_at dksX3_unit_4 9 rfl rfl)
theorem dX3_unit_103 : decode cX3_unit 103 = .ok (.getfield 99, 3) := dk_180 0 99 (dk_at dksX3_unit_4 10 rfl rfl)
theorem dX3_unit_106 : decode cX3_unit 106 = .ok (.bipush 6, 2) := dk_16 6 (dk_at dksX3_unit_4 13 rfl rfl)
theorem dX3_unit_108 : decode cX3_unit 108 = .ok (.if_icmp .ne 9, 3) := dk_160 0 9 (dk_at dksX3_unit_4 15 rfl rfl)
theorem dX3_unit_111 : decode cX3_unit 111 = .ok (.aload_n 0, 1) := dk_42 (dk_at dksX3_unit_4 18 rfl rfl)
theorem dX3_unit_112 : decode cX3_unit 112 = .ok (.iconst 2, 1) := dk_5 (dk_at dksX3_unit_4 19 rfl rfl)
theorem dX3_unit_113 : decode cX3_unit 113 = .ok (.invokevirtual 48, 3) := dk_182 0 48 (dk_at dksX3_unit_4 20 rfl rfl)
theorem dX3_unit_116 : decode cX3_unit 116 = .ok (.athrow, 1) := dk_191 (dk_at dksX3_unit_4 23 rfl rfl)
theorem dX3_unit_117 : decode cX3_unit 117 = .ok (.aload_n 0, 1) := dk_42 (dk_at dksX3_unit_5 0 rfl rfl)
theorem dX3_unit_118 : decode cX3_unit 118 = .ok (.dup, 1) := dk_89 (dk_at dksX3_unit_5 1 rfl rfl)
theorem dX3_unit_119 : decode cX3_unit 119 = .ok (.getfield 99, 3) := dk_180 0 99 (dk_at dksX3_unit_5 2 rfl rfl)
theorem dX3_unit_122 : decode cX3_unit 122 = .ok (.iconst 1, 1) := dk_4 (dk_at dksX3_unit_5 5 rfl rfl)
theorem dX3_unit_123 : decode cX3_unit 123 = .ok (.iadd, 1) := dk_96 (dk_at dksX3_unit_5 6 rfl rfl)
theorem dX3_unit_124 : decode cX3_unit 124 = .ok (.putfield 99, 3) := dk_181 0 99 (dk_at dksX3_unit_5 7 rfl rfl)
theorem dX3_unit_127 : decode cX3_unit 127 = .ok (.aload_n 0, 1) := dk_42 (dk_at dksX3_unit_5 10 rfl rfl)
theorem dX3_unit_128 : decode cX3_unit 128 = .ok (.invokevirtual 59, 3) := dk_182 0 59 (dk_at dksX3_unit_5 11 rfl rfl)
theorem dX3_unit_131 : decode cX3_unit 131 = .ok (.aload_n 0, 1) := dk_42 (dk_at dksX3_unit_5 14 rfl rfl)
theorem dX3_unit_132 : decode cX3_unit 132 = .ok (.invokevirtual 184, 3) := dk_182 0 184 (dk_at dksX3_unit_5 15 rfl rfl)
theorem dX3_unit_135 : decode cX3_unit 135 = .ok (.astore_n 1, 1) := dk_76 (dk_at dksX3_unit_5 18 rfl rfl)
theorem dX3_unit_136 : decode cX3_unit 136 = .ok (.aload_n 0, 1) := dk_42 (dk_at dksX3_unit_5 19 rfl rfl)
theorem dX3_unit_137 : decode cX3_unit 137 = .ok (.bipush 41, 2) := dk_16 41 (dk_at dksX3_unit_5 20 rfl rfl)
theorem dX3_unit_139 : decode cX3_unit 139 = .ok (.invokevirtual 105, 3) := dk_182 0 105 (dk_at dksX3_unit_6 0 rfl rfl)
theorem dX3_unit_142 : decode cX3_unit 142 = .ok (.aload_n 0, 1) := dk_42 (dk_at dksX3_unit_6 3 rfl rfl)
theorem dX3_unit_143 : decode cX3_unit 143 = .ok (.dup, 1) := dk_89 (dk_at dksX3_unit_6 4 rfl rfl)
theorem dX3_unit_144 : decode cX3_unit 144 = .ok (.getfield 99, 3) := dk_180 0 99 (dk_at dksX3_unit_6 5 rfl rfl)
theorem dX3_unit_147 : decode cX3_unit 147 = .ok (.iconst 1, 1) := dk_4 (dk_at dksX3_unit_6 8 rfl rfl)
theorem dX3_unit_148 : decode cX3_unit 148 = .ok (.isub, 1) := dk_100 (dk_at dksX3_unit_6 9 rfl rfl)
theorem dX3_unit_149 : decode cX3_unit 149 = .ok (.putfield 99, 3) := dk_181 0 99 (dk_at dksX3_unit_6 10 rfl rfl)
theorem dX3_unit_152 : decode cX3_unit 152 = .ok (.aload_n 1, 1) := dk_43 (dk_at dksX3_unit_6 13 rfl rfl)
theorem dX3_unit_153 : decode cX3_unit 153 = .ok (.areturn, 1) := dk_176 (dk_at dksX3_unit_6 14 rfl rfl)
def dkwX3_word_0 : List UInt8 := [42, 27, 182, 0, 62, 154, 0, 9, 42, 4, 182, 0, 48, 191, 42, 182, 0, 59, 177]
abbrev dktX3_word_0 : List UInt8 := dkwX3_word_0 ++ []
theorem dksX3_word_0 : cX3_word.data.toList.drop 0 = dktX3_word_0 := by decide +kernel
theorem dX3_word_0 : decode cX3_word 0 = .ok (.aload_n 0, 1) := dk_42 (dk_at dksX3_word_0 0 rfl rfl)
theorem dX3_word_1 : decode cX3_word 1 = .ok (.iload_n 1, 1) := dk_27 (dk_at dksX3_word_0 1 rfl rfl)
theorem dX3_word_2 : decode cX3_word 2 = .ok (.invokevirtual 62, 3) := dk_182 0 62 (dk_at dksX3_word_0 2 rfl rfl)
theorem dX3_word_5 : decode cX3_word 5 = .ok (.ifCond .ne 9, 3) := dk_154 0 9 (dk_at dksX3_word_0 5 rfl rfl)
theorem dX3_word_8 : decode cX3_word 8 = .ok (.aload_n 0, 1) := dk_42 (dk_at dksX3_word_0 8 rfl rfl)
theorem dX3_word_9 : decode cX3_word 9 = .ok (.iconst 1, 1) := dk_4 (dk_at dksX3_word_0 9 rfl rfl)
theorem dX3_word_10 : decode cX3_word 10 = .ok (.invokevirtual 48, 3) := dk_182 0 48 (dk_at dksX3_word_0 10 rfl rfl)
theorem dX3_word_13 : decode cX3_word 13 = .ok (.athrow, 1) := dk_191 (dk_at dksX3_word_0 13 rfl rfl)
theorem dX3_word_14 : decode cX3_word 14 = .ok (.aload_n 0, 1) := dk_42 (dk_at dksX3_word_0 14 rfl rfl)
theorem dX3_word_15 : decode cX3_word 15 = .ok (.invokevirtual 59, 3) := dk_182 0 59 (dk_at dksX3_word_0 15 rfl rfl)
theorem dX3_word_18 : decode cX3_word 18 = .ok (.return_, 1) := dk_177 (dk_at dksX3_word_0 18 rfl rfl)
def dkwX3_name_1 : List UInt8 := [153, 0, 9, 42, 6, 27, 182, 0, 75, 44, 176]
abbrev dktX3_name_1 : List UInt8 := dkwX3_name_1 ++ []
def dkwX3_name_0 : List UInt8 := [42, 3, 182, 0, 68, 60, 42, 180, 0, 9, 27, 182, 0, 79, 77, 42, 180, 0, 83, 44, 182, 0, 86]
abbrev dktX3_name_0 : List UInt8 := dkwX3_name_0 ++ dktX3_name_1
theorem dksX3_name_0 : cX3_name.data.toList.drop 0 = dktX3_name_0 := by decide +kernel
theorem dksX3_name_1 : cX3_name.data.toList.drop 23 = dktX3_name_1 := dk_seg dksX3_name_0 23 rfl rfl
theorem dX3_name_0 : decode cX3_name 0 = .ok (.aload_n 0, 1) := dk_42 (dk_at dksX3_name_0 0 rfl rfl)
theorem dX3_name_1 : decode cX3_name 1 = .ok (.iconst 0, 1) := dk_3 (dk_at dksX3_name_0 1 rfl rfl)
theorem dX3_name_2 : decode cX3_name 2 = .ok (.invokevirtual 68, 3) := dk_182 0 68 (dk_at dksX3_name_0 2 rfl rfl)
theorem dX3_name_5 : decode cX3_name 5 = .ok (.istore_n 1, 1) := dk_60 (dk_at dksX3_name_0 5 rfl rfl)
theorem dX3_name_6 : decode cX3_name 6 = .ok (.aload_n 0, 1) := dk_42 (dk_at dksX3_name_0 6 rfl rfl)
theorem dX3_name_7 : decode cX3_name 7 = .ok (.getfield 9, 3) := dk_180 0 9 (dk_at dksX3_name_0 7 rfl rfl)
theorem dX3_name_10 : decode cX3_name 10 = .ok (.iload_n 1, 1) := dk_27 (dk_at dksX3_name_0 10 rfl rfl)
theorem dX3_name_11 : decode cX3_name 11 = .ok (.invokevirtual 79, 3) := dk_182 0 79 (dk_at dksX3_name_0 11 rfl rfl)
theorem dX3_name_14 : decode cX3_name 14 = .ok (.astore_n 2, 1) := dk_77 (dk_at dksX3_name_0 14 rfl rfl)
theorem dX3_name_15 : decode cX3_name 15 = .ok (.aload_n 0, 1) := dk_42 (dk_at dksX3_name_0 15 rfl rfl)
theorem dX3_name_16 : decode cX3_name 16 = .ok (.getfield 83, 3) := dk_180 0 83 (dk_at dksX3_name_0 16 rfl rfl)
theorem dX3_name_19 : decode cX3_name 19 = .ok (.aload_n 2, 1) := dk_44 (dk_at dksX3_name_0 19 rfl rfl)
theorem dX3_name_20 : decode cX3_name 20 = .ok (.invokevirtual 86, 3) := dk_182 0 86 (dk_at dksX3_name_0 20 rfl rfl)
theorem dX3_name_23 : decode cX3_name 23 = .ok (.ifCond .eq 9, 3) := dk_153 0 9 (dk_at dksX3_name_1 0 rfl rfl)
theorem dX3_name_26 : decode cX3_name 26 = .ok (.aload_n 0, 1) := dk_42 (dk_at dksX3_name_1 3 rfl rfl)
theorem dX3_name_27 : decode cX3_name 27 = .ok (.iconst 3, 1) := dk_6 (dk_at dksX3_name_1 4 rfl rfl)
theorem dX3_name_28 : decode cX3_name 28 = .ok (.iload_n 1, 1) := dk_27 (dk_at dksX3_name_1 5 rfl rfl)
theorem dX3_name_29 : decode cX3_name 29 = .ok (.invokevirtual 75, 3) := dk_182 0 75 (dk_at dksX3_name_1 6 rfl rfl)
theorem dX3_name_32 : decode cX3_name 32 = .ok (.aload_n 2, 1) := dk_44 (dk_at dksX3_name_1 9 rfl rfl)
theorem dX3_name_33 : decode cX3_name 33 = .ok (.areturn, 1) := dk_176 (dk_at dksX3_name_1 10 rfl rfl)
def dkwX3_take_1 : List UInt8 := [172]
abbrev dktX3_take_1 : List UInt8 := dkwX3_take_1 ++ []
def dkwX3_take_0 : List UInt8 := [42, 182, 0, 65, 27, 159, 0, 9, 42, 4, 182, 0, 48, 191, 42, 182, 0, 59, 42, 180, 0, 31, 4, 100]
abbrev dktX3_take_0 : List UInt8 := dkwX3_take_0 ++ dktX3_take_1
theorem dksX3_take_0 : cX3_take.data.toList.drop 0 = dktX3_take_0 := by decide +kernel
theorem dksX3_take_1 : cX3_take.data.toList.drop 24 = dktX3_take_1 := dk_seg dksX3_take_0 24 rfl rfl
theorem dX3_take_0 : decode cX3_take 0 = .ok (.aload_n 0, 1) := dk_42 (dk_at dksX3_take_0 0 rfl rfl)
theorem dX3_take_1 : decode cX3_take 1 = .ok (.invokevirtual 65, 3) := dk_182 0 65 (dk_at dksX3_take_0 1 rfl rfl)
theorem dX3_take_4 : decode cX3_take 4 = .ok (.iload_n 1, 1) := dk_27 (dk_at dksX3_take_0 4 rfl rfl)
theorem dX3_take_5 : decode cX3_take 5 = .ok (.if_icmp .eq 9, 3) := dk_159 0 9 (dk_at dksX3_take_0 5 rfl rfl)
theorem dX3_take_8 : decode cX3_take 8 = .ok (.aload_n 0, 1) := dk_42 (dk_at dksX3_take_0 8 rfl rfl)
theorem dX3_take_9 : decode cX3_take 9 = .ok (.iconst 1, 1) := dk_4 (dk_at dksX3_take_0 9 rfl rfl)
theorem dX3_take_10 : decode cX3_take 10 = .ok (.invokevirtual 48, 3) := dk_182 0 48 (dk_at dksX3_take_0 10 rfl rfl)
theorem dX3_take_13 : decode cX3_take 13 = .ok (.athrow, 1) := dk_191 (dk_at dksX3_take_0 13 rfl rfl)
theorem dX3_take_14 : decode cX3_take 14 = .ok (.aload_n 0, 1) := dk_42 (dk_at dksX3_take_0 14 rfl rfl)
theorem dX3_take_15 : decode cX3_take 15 = .ok (.invokevirtual 59, 3) := dk_182 0 59 (dk_at dksX3_take_0 15 rfl rfl)
theorem dX3_take_18 : decode cX3_take 18 = .ok (.aload_n 0, 1) := dk_42 (dk_at dksX3_take_0 18 rfl rfl)
theorem dX3_take_19 : decode cX3_take 19 = .ok (.getfield 31, 3) := dk_180 0 31 (dk_at dksX3_take_0 19 rfl rfl)
theorem dX3_take_22 : decode cX3_take 22 = .ok (.iconst 1, 1) := dk_4 (dk_at dksX3_take_0 22 rfl rfl)
theorem dX3_take_23 : decode cX3_take 23 = .ok (.isub, 1) := dk_100 (dk_at dksX3_take_0 23 rfl rfl)
theorem dX3_take_24 : decode cX3_take 24 = .ok (.ireturn, 1) := dk_172 (dk_at dksX3_take_1 0 rfl rfl)
def dkwX3_tell_1 : List UInt8 := [42, 180, 0, 38, 161, 0, 4, 177, 42, 27, 181, 0, 38, 42, 28, 181, 0, 41, 177]
abbrev dktX3_tell_1 : List UInt8 := dkwX3_tell_1 ++ []
def dkwX3_tell_0 : List UInt8 := [42, 180, 0, 38, 153, 0, 28, 28, 42, 180, 0, 41, 163, 0, 19, 28, 42, 180, 0, 41, 160, 0, 12, 27]
abbrev dktX3_tell_0 : List UInt8 := dkwX3_tell_0 ++ dktX3_tell_1
theorem dksX3_tell_0 : cX3_tell.data.toList.drop 0 = dktX3_tell_0 := by decide +kernel
theorem dksX3_tell_1 : cX3_tell.data.toList.drop 24 = dktX3_tell_1 := dk_seg dksX3_tell_0 24 rfl rfl
theorem dX3_tell_0 : decode cX3_tell 0 = .ok (.aload_n 0, 1) := dk_42 (dk_at dksX3_tell_0 0 rfl rfl)
theorem dX3_tell_1 : decode cX3_tell 1 = .ok (.getfield 38, 3) := dk_180 0 38 (dk_at dksX3_tell_0 1 rfl rfl)
theorem dX3_tell_4 : decode cX3_tell 4 = .ok (.ifCond .eq 28, 3) := dk_153 0 28 (dk_at dksX3_tell_0 4 rfl rfl)
theorem dX3_tell_7 : decode cX3_tell 7 = .ok (.iload_n 2, 1) := dk_28 (dk_at dksX3_tell_0 7 rfl rfl)
theorem dX3_tell_8 : decode cX3_tell 8 = .ok (.aload_n 0, 1) := dk_42 (dk_at dksX3_tell_0 8 rfl rfl)
theorem dX3_tell_9 : decode cX3_tell 9 = .ok (.getfield 41, 3) := dk_180 0 41 (dk_at dksX3_tell_0 9 rfl rfl)
theorem dX3_tell_12 : decode cX3_tell 12 = .ok (.if_icmp .gt 19, 3) := dk_163 0 19 (dk_at dksX3_tell_0 12 rfl rfl)
theorem dX3_tell_15 : decode cX3_tell 15 = .ok (.iload_n 2, 1) := dk_28 (dk_at dksX3_tell_0 15 rfl rfl)
theorem dX3_tell_16 : decode cX3_tell 16 = .ok (.aload_n 0, 1) := dk_42 (dk_at dksX3_tell_0 16 rfl rfl)
theorem dX3_tell_17 : decode cX3_tell 17 = .ok (.getfield 41, 3) := dk_180 0 41 (dk_at dksX3_tell_0 17 rfl rfl)
theorem dX3_tell_20 : decode cX3_tell 20 = .ok (.if_icmp .ne 12, 3) := dk_160 0 12 (dk_at dksX3_tell_0 20 rfl rfl)
theorem dX3_tell_23 : decode cX3_tell 23 = .ok (.iload_n 1, 1) := dk_27 (dk_at dksX3_tell_0 23 rfl rfl)
theorem dX3_tell_24 : decode cX3_tell 24 = .ok (.aload_n 0, 1) := dk_42 (dk_at dksX3_tell_1 0 rfl rfl)
theorem dX3_tell_25 : decode cX3_tell 25 = .ok (.getfield 38, 3) := dk_180 0 38 (dk_at dksX3_tell_1 1 rfl rfl)
theorem dX3_tell_28 : decode cX3_tell 28 = .ok (.if_icmp .lt 4, 3) := dk_161 0 4 (dk_at dksX3_tell_1 4 rfl rfl)
theorem dX3_tell_31 : decode cX3_tell 31 = .ok (.return_, 1) := dk_177 (dk_at dksX3_tell_1 7 rfl rfl)
theorem dX3_tell_32 : decode cX3_tell 32 = .ok (.aload_n 0, 1) := dk_42 (dk_at dksX3_tell_1 8 rfl rfl)
theorem dX3_tell_33 : decode cX3_tell 33 = .ok (.iload_n 1, 1) := dk_27 (dk_at dksX3_tell_1 9 rfl rfl)
theorem dX3_tell_34 : decode cX3_tell 34 = .ok (.putfield 38, 3) := dk_181 0 38 (dk_at dksX3_tell_1 10 rfl rfl)
theorem dX3_tell_37 : decode cX3_tell 37 = .ok (.aload_n 0, 1) := dk_42 (dk_at dksX3_tell_1 13 rfl rfl)
theorem dX3_tell_38 : decode cX3_tell 38 = .ok (.iload_n 2, 1) := dk_28 (dk_at dksX3_tell_1 14 rfl rfl)
theorem dX3_tell_39 : decode cX3_tell 39 = .ok (.putfield 41, 3) := dk_181 0 41 (dk_at dksX3_tell_1 15 rfl rfl)
theorem dX3_tell_42 : decode cX3_tell 42 = .ok (.return_, 1) := dk_177 (dk_at dksX3_tell_1 18 rfl rfl)
def dkwX3_number_1 : List UInt8 := [28, 164, 0, 9, 42, 8, 29, 182, 0, 75, 21, 4, 172]
abbrev dktX3_number_1 : List UInt8 := dkwX3_number_1 ++ []
def dkwX3_number_0 : List UInt8 := [42, 4, 182, 0, 68, 62, 42, 180, 0, 9, 29, 182, 0, 72, 54, 4, 21, 4, 27, 161, 0, 9, 21, 4]
abbrev dktX3_number_0 : List UInt8 := dkwX3_number_0 ++ dktX3_number_1
theorem dksX3_number_0 : cX3_number.data.toList.drop 0 = dktX3_number_0 := by decide +kernel
theorem dksX3_number_1 : cX3_number.data.toList.drop 24 = dktX3_number_1 := dk_seg dksX3_number_0 24 rfl rfl
theorem dX3_number_0 : decode cX3_number 0 = .ok (.aload_n 0, 1) := dk_42 (dk_at dksX3_number_0 0 rfl rfl)
theorem dX3_number_1 : decode cX3_number 1 = .ok (.iconst 1, 1) := dk_4 (dk_at dksX3_number_0 1 rfl rfl)
theorem dX3_number_2 : decode cX3_number 2 = .ok (.invokevirtual 68, 3) := dk_182 0 68 (dk_at dksX3_number_0 2 rfl rfl)
theorem dX3_number_5 : decode cX3_number 5 = .ok (.istore_n 3, 1) := dk_62 (dk_at dksX3_number_0 5 rfl rfl)
theorem dX3_number_6 : decode cX3_number 6 = .ok (.aload_n 0, 1) := dk_42 (dk_at dksX3_number_0 6 rfl rfl)
theorem dX3_number_7 : decode cX3_number 7 = .ok (.getfield 9, 3) := dk_180 0 9 (dk_at dksX3_number_0 7 rfl rfl)
theorem dX3_number_10 : decode cX3_number 10 = .ok (.iload_n 3, 1) := dk_29 (dk_at dksX3_number_0 10 rfl rfl)
theorem dX3_number_11 : decode cX3_number 11 = .ok (.invokevirtual 72, 3) := dk_182 0 72 (dk_at dksX3_number_0 11 rfl rfl)
theorem dX3_number_14 : decode cX3_number 14 = .ok (.istore 4, 2) := dk_54 4 (dk_at dksX3_number_0 14 rfl rfl)
theorem dX3_number_16 : decode cX3_number 16 = .ok (.iload 4, 2) := dk_21 4 (dk_at dksX3_number_0 16 rfl rfl)
theorem dX3_number_18 : decode cX3_number 18 = .ok (.iload_n 1, 1) := dk_27 (dk_at dksX3_number_0 18 rfl rfl)
theorem dX3_number_19 : decode cX3_number 19 = .ok (.if_icmp .lt 9, 3) := dk_161 0 9 (dk_at dksX3_number_0 19 rfl rfl)
theorem dX3_number_22 : decode cX3_number 22 = .ok (.iload 4, 2) := dk_21 4 (dk_at dksX3_number_0 22 rfl rfl)
theorem dX3_number_24 : decode cX3_number 24 = .ok (.iload_n 2, 1) := dk_28 (dk_at dksX3_number_1 0 rfl rfl)
theorem dX3_number_25 : decode cX3_number 25 = .ok (.if_icmp .le 9, 3) := dk_164 0 9 (dk_at dksX3_number_1 1 rfl rfl)
theorem dX3_number_28 : decode cX3_number 28 = .ok (.aload_n 0, 1) := dk_42 (dk_at dksX3_number_1 4 rfl rfl)
theorem dX3_number_29 : decode cX3_number 29 = .ok (.iconst 5, 1) := dk_8 (dk_at dksX3_number_1 5 rfl rfl)
theorem dX3_number_30 : decode cX3_number 30 = .ok (.iload_n 3, 1) := dk_29 (dk_at dksX3_number_1 6 rfl rfl)
theorem dX3_number_31 : decode cX3_number 31 = .ok (.invokevirtual 75, 3) := dk_182 0 75 (dk_at dksX3_number_1 7 rfl rfl)
theorem dX3_number_34 : decode cX3_number 34 = .ok (.iload 4, 2) := dk_21 4 (dk_at dksX3_number_1 10 rfl rfl)
theorem dX3_number_36 : decode cX3_number 36 = .ok (.ireturn, 1) := dk_172 (dk_at dksX3_number_1 12 rfl rfl)
def dkwX3_known_1 : List UInt8 := [7, 28, 182, 0, 75, 29, 172]
abbrev dktX3_known_1 : List UInt8 := dkwX3_known_1 ++ []
def dkwX3_known_0 : List UInt8 := [42, 3, 182, 0, 68, 61, 43, 42, 180, 0, 9, 28, 182, 0, 79, 184, 0, 92, 62, 29, 156, 0, 9, 42]
abbrev dktX3_known_0 : List UInt8 := dkwX3_known_0 ++ dktX3_known_1
theorem dksX3_known_0 : cX3_known.data.toList.drop 0 = dktX3_known_0 := by decide +kernel
theorem dksX3_known_1 : cX3_known.data.toList.drop 24 = dktX3_known_1 := dk_seg dksX3_known_0 24 rfl rfl
theorem dX3_known_0 : decode cX3_known 0 = .ok (.aload_n 0, 1) := dk_42 (dk_at dksX3_known_0 0 rfl rfl)
theorem dX3_known_1 : decode cX3_known 1 = .ok (.iconst 0, 1) := dk_3 (dk_at dksX3_known_0 1 rfl rfl)
theorem dX3_known_2 : decode cX3_known 2 = .ok (.invokevirtual 68, 3) := dk_182 0 68 (dk_at dksX3_known_0 2 rfl rfl)
theorem dX3_known_5 : decode cX3_known 5 = .ok (.istore_n 2, 1) := dk_61 (dk_at dksX3_known_0 5 rfl rfl)
theorem dX3_known_6 : decode cX3_known 6 = .ok (.aload_n 1, 1) := dk_43 (dk_at dksX3_known_0 6 rfl rfl)
theorem dX3_known_7 : decode cX3_known 7 = .ok (.aload_n 0, 1) := dk_42 (dk_at dksX3_known_0 7 rfl rfl)
theorem dX3_known_8 : decode cX3_known 8 = .ok (.getfield 9, 3) := dk_180 0 9 (dk_at dksX3_known_0 8 rfl rfl)
theorem dX3_known_11 : decode cX3_known 11 = .ok (.iload_n 2, 1) := dk_28 (dk_at dksX3_known_0 11 rfl rfl)
theorem dX3_known_12 : decode cX3_known 12 = .ok (.invokevirtual 79, 3) := dk_182 0 79 (dk_at dksX3_known_0 12 rfl rfl)
theorem dX3_known_15 : decode cX3_known 15 = .ok (.invokestatic 92, 3) := dk_184 0 92 (dk_at dksX3_known_0 15 rfl rfl)
theorem dX3_known_18 : decode cX3_known 18 = .ok (.istore_n 3, 1) := dk_62 (dk_at dksX3_known_0 18 rfl rfl)
theorem dX3_known_19 : decode cX3_known 19 = .ok (.iload_n 3, 1) := dk_29 (dk_at dksX3_known_0 19 rfl rfl)
theorem dX3_known_20 : decode cX3_known 20 = .ok (.ifCond .ge 9, 3) := dk_156 0 9 (dk_at dksX3_known_0 20 rfl rfl)
theorem dX3_known_23 : decode cX3_known 23 = .ok (.aload_n 0, 1) := dk_42 (dk_at dksX3_known_0 23 rfl rfl)
theorem dX3_known_24 : decode cX3_known 24 = .ok (.iconst 4, 1) := dk_7 (dk_at dksX3_known_1 0 rfl rfl)
theorem dX3_known_25 : decode cX3_known 25 = .ok (.iload_n 2, 1) := dk_28 (dk_at dksX3_known_1 1 rfl rfl)
theorem dX3_known_26 : decode cX3_known 26 = .ok (.invokevirtual 75, 3) := dk_182 0 75 (dk_at dksX3_known_1 2 rfl rfl)
theorem dX3_known_29 : decode cX3_known 29 = .ok (.iload_n 3, 1) := dk_29 (dk_at dksX3_known_1 5 rfl rfl)
theorem dX3_known_30 : decode cX3_known 30 = .ok (.ireturn, 1) := dk_172 (dk_at dksX3_known_1 6 rfl rfl)
def dkwX4_init_3 : List UInt8 := [132, 2, 1, 167, 255, 238, 132, 1, 1, 167, 255, 224, 177]
abbrev dktX4_init_3 : List UInt8 := dkwX4_init_3 ++ []
def dkwX4_init_2 : List UInt8 := [60, 27, 16, 6, 162, 0, 32, 3, 61, 28, 16, 6, 162, 0, 18, 42, 180, 0, 26, 27, 50, 28, 8, 79]
abbrev dktX4_init_2 : List UInt8 := dkwX4_init_2 ++ dktX4_init_3
def dkwX4_init_1 : List UInt8 := [16, 6, 16, 6, 197, 0, 24, 2, 181, 0, 26, 42, 16, 20, 181, 0, 29, 42, 16, 10, 181, 0, 33, 3]
abbrev dktX4_init_1 : List UInt8 := dkwX4_init_1 ++ dktX4_init_2
def dkwX4_init_0 : List UInt8 := [42, 183, 0, 3, 42, 187, 0, 9, 89, 183, 0, 11, 181, 0, 12, 42, 7, 189, 0, 18, 181, 0, 20, 42]
abbrev dktX4_init_0 : List UInt8 := dkwX4_init_0 ++ dktX4_init_1
theorem dksX4_init_0 : cX4_init.data.toList.drop 0 = dktX4_init_0 := by decide +kernel
theorem dksX4_init_1 : cX4_init.data.toList.drop 24 = dktX4_init_1 := dk_seg dksX4_init_0 24 rfl rfl
theorem dksX4_init_2 : cX4_init.data.toList.drop 48 = dktX4_init_2 := dk_seg dksX4_init_1 24 rfl rfl
theorem dksX4_init_3 : cX4_init.data.toList.drop 72 = dktX4_init_3 := dk_seg dksX4_init_2 24 rfl rfl
theorem dX4_init_0 : decode cX4_init 0 = .ok (.aload_n 0, 1) := dk_42 (dk_at dksX4_init_0 0 rfl rfl)
theorem dX4_init_1 : decode cX4_init 1 = .ok (.invokespecial 3, 3) := dk_183 0 3 (dk_at dksX4_init_0 1 rfl rfl)
theorem dX4_init_4 : decode cX4_init 4 = .ok (.aload_n 0, 1) := dk_42 (dk_at dksX4_init_0 4 rfl rfl)
theorem dX4_init_5 : decode cX4_init 5 = .ok (.new 9, 3) := dk_187 0 9 (dk_at dksX4_init_0 5 rfl rfl)
theorem dX4_init_8 : decode cX4_init 8 = .ok (.dup, 1) := dk_89 (dk_at dksX4_init_0 8 rfl rfl)
theorem dX4_init_9 : decode cX4_init 9 = .ok (.invokespecial 11, 3) := dk_183 0 11 (dk_at dksX4_init_0 9 rfl rfl)
theorem dX4_init_12 : decode cX4_init 12 = .ok (.putfield 12, 3) := dk_181 0 12 (dk_at dksX4_init_0 12 rfl rfl)
theorem dX4_init_15 : decode cX4_init 15 = .ok (.aload_n 0, 1) := dk_42 (dk_at dksX4_init_0 15 rfl rfl)
theorem dX4_init_16 : decode cX4_init 16 = .ok (.iconst 4, 1) := dk_7 (dk_at dksX4_init_0 16 rfl rfl)
theorem dX4_init_17 : decode cX4_init 17 = .ok (.anewarray 18, 3) := dk_189 0 18 (dk_at dksX4_init_0 17 rfl rfl)
theorem dX4_init_20 : decode cX4_init 20 = .ok (.putfield 20, 3) := dk_181 0 20 (dk_at dksX4_init_0 20 rfl rfl)
theorem dX4_init_23 : decode cX4_init 23 = .ok (.aload_n 0, 1) := dk_42 (dk_at dksX4_init_0 23 rfl rfl)
theorem dX4_init_24 : decode cX4_init 24 = .ok (.bipush 6, 2) := dk_16 6 (dk_at dksX4_init_1 0 rfl rfl)
theorem dX4_init_26 : decode cX4_init 26 = .ok (.bipush 6, 2) := dk_16 6 (dk_at dksX4_init_1 2 rfl rfl)
theorem dX4_init_28 : decode cX4_init 28 = .ok (.multianewarray 24 2, 4) := by decide +kernel
theorem dX4_init_32 : decode cX4_init 32 = .ok (.putfield 26, 3) := dk_181 0 26 (dk_at dksX4_init_1 8 rfl rfl)
theorem dX4_init_35 : decode cX4_init 35 = .ok (.aload_n 0, 1) := dk_42 (dk_at dksX4_init_1 11 rfl rfl)
theorem dX4_init_36 : decode cX4_init 36 = .ok (.bipush 20, 2) := dk_16 20 (dk_at dksX4_init_1 12 rfl rfl)
theorem dX4_init_38 : decode cX4_init 38 = .ok (.putfield 29, 3) := dk_181 0 29 (dk_at dksX4_init_1 14 rfl rfl)
theorem dX4_init_41 : decode cX4_init 41 = .ok (.aload_n 0, 1) := dk_42 (dk_at dksX4_init_1 17 rfl rfl)
theorem dX4_init_42 : decode cX4_init 42 = .ok (.bipush 10, 2) := dk_16 10 (dk_at dksX4_init_1 18 rfl rfl)
theorem dX4_init_44 : decode cX4_init 44 = .ok (.putfield 33, 3) := dk_181 0 33 (dk_at dksX4_init_1 20 rfl rfl)
theorem dX4_init_47 : decode cX4_init 47 = .ok (.iconst 0, 1) := dk_3 (dk_at dksX4_init_1 23 rfl rfl)
theorem dX4_init_48 : decode cX4_init 48 = .ok (.istore_n 1, 1) := dk_60 (dk_at dksX4_init_2 0 rfl rfl)
theorem dX4_init_49 : decode cX4_init 49 = .ok (.iload_n 1, 1) := dk_27 (dk_at dksX4_init_2 1 rfl rfl)
theorem dX4_init_50 : decode cX4_init 50 = .ok (.bipush 6, 2) := dk_16 6 (dk_at dksX4_init_2 2 rfl rfl)
theorem dX4_init_52 : decode cX4_init 52 = .ok (.if_icmp .ge 32, 3) := dk_162 0 32 (dk_at dksX4_init_2 4 rfl rfl)
theorem dX4_init_55 : decode cX4_init 55 = .ok (.iconst 0, 1) := dk_3 (dk_at dksX4_init_2 7 rfl rfl)
theorem dX4_init_56 : decode cX4_init 56 = .ok (.istore_n 2, 1) := dk_61 (dk_at dksX4_init_2 8 rfl rfl)
theorem dX4_init_57 : decode cX4_init 57 = .ok (.iload_n 2, 1) := dk_28 (dk_at dksX4_init_2 9 rfl rfl)
theorem dX4_init_58 : decode cX4_init 58 = .ok (.bipush 6, 2) := dk_16 6 (dk_at dksX4_init_2 10 rfl rfl)
theorem dX4_init_60 : decode cX4_init 60 = .ok (.if_icmp .ge 18, 3) := dk_162 0 18 (dk_at dksX4_init_2 12 rfl rfl)
theorem dX4_init_63 : decode cX4_init 63 = .ok (.aload_n 0, 1) := dk_42 (dk_at dksX4_init_2 15 rfl rfl)
theorem dX4_init_64 : decode cX4_init 64 = .ok (.getfield 26, 3) := dk_180 0 26 (dk_at dksX4_init_2 16 rfl rfl)
theorem dX4_init_67 : decode cX4_init 67 = .ok (.iload_n 1, 1) := dk_27 (dk_at dksX4_init_2 19 rfl rfl)
theorem dX4_init_68 : decode cX4_init 68 = .ok (.aaload, 1) := dk_50 (dk_at dksX4_init_2 20 rfl rfl)
theorem dX4_init_69 : decode cX4_init 69 = .ok (.iload_n 2, 1) := dk_28 (dk_at dksX4_init_2 21 rfl rfl)
theorem dX4_init_70 : decode cX4_init 70 = .ok (.iconst 5, 1) := dk_8 (dk_at dksX4_init_2 22 rfl rfl)
theorem dX4_init_71 : decode cX4_init 71 = .ok (.iastore, 1) := dk_79 (dk_at dksX4_init_2 23 rfl rfl)
theorem dX4_init_72 : decode cX4_init 72 = .ok (.iinc 2 1, 3) := dk_132 2 1 (dk_at dksX4_init_3 0 rfl rfl)
theorem dX4_init_75 : decode cX4_init 75 = .ok (.goto (-18), 3) := dk_167 255 238 (dk_at dksX4_init_3 3 rfl rfl)
theorem dX4_init_78 : decode cX4_init 78 = .ok (.iinc 1 1, 3) := dk_132 1 1 (dk_at dksX4_init_3 6 rfl rfl)
theorem dX4_init_81 : decode cX4_init 81 = .ok (.goto (-32), 3) := dk_167 255 224 (dk_at dksX4_init_3 9 rfl rfl)
theorem dX4_init_84 : decode cX4_init 84 = .ok (.return_, 1) := dk_177 (dk_at dksX4_init_3 12 rfl rfl)
def dkwX4_has_0 : List UInt8 := [42, 180, 0, 12, 43, 184, 0, 56, 155, 0, 7, 4, 167, 0, 4, 3, 172]
abbrev dktX4_has_0 : List UInt8 := dkwX4_has_0 ++ []
theorem dksX4_has_0 : cX4_has.data.toList.drop 0 = dktX4_has_0 := by decide +kernel
theorem dX4_has_0 : decode cX4_has 0 = .ok (.aload_n 0, 1) := dk_42 (dk_at dksX4_has_0 0 rfl rfl)
theorem dX4_has_1 : decode cX4_has 1 = .ok (.getfield 12, 3) := dk_180 0 12 (dk_at dksX4_has_0 1 rfl rfl)
theorem dX4_has_4 : decode cX4_has 4 = .ok (.aload_n 1, 1) := dk_43 (dk_at dksX4_has_0 4 rfl rfl)
theorem dX4_has_5 : decode cX4_has 5 = .ok (.invokestatic 56, 3) := dk_184 0 56 (dk_at dksX4_has_0 5 rfl rfl)
theorem dX4_has_8 : decode cX4_has 8 = .ok (.ifCond .lt 7, 3) := dk_155 0 7 (dk_at dksX4_has_0 8 rfl rfl)
theorem dX4_has_11 : decode cX4_has 11 = .ok (.iconst 1, 1) := dk_4 (dk_at dksX4_has_0 11 rfl rfl)
theorem dX4_has_12 : decode cX4_has 12 = .ok (.goto 4, 3) := dk_167 0 4 (dk_at dksX4_has_0 12 rfl rfl)
theorem dX4_has_15 : decode cX4_has 15 = .ok (.iconst 0, 1) := dk_3 (dk_at dksX4_has_0 15 rfl rfl)
theorem dX4_has_16 : decode cX4_has 16 = .ok (.ireturn, 1) := dk_172 (dk_at dksX4_has_0 16 rfl rfl)
def dkwX4_at_1 : List UInt8 := [182, 0, 50, 153, 0, 5, 28, 172, 132, 2, 1, 167, 255, 225, 2, 172]
abbrev dktX4_at_1 : List UInt8 := dkwX4_at_1 ++ []
def dkwX4_at_0 : List UInt8 := [3, 61, 28, 42, 182, 0, 36, 162, 0, 29, 42, 28, 182, 0, 40, 192, 0, 44, 180, 0, 46, 43]
abbrev dktX4_at_0 : List UInt8 := dkwX4_at_0 ++ dktX4_at_1
theorem dksX4_at_0 : cX4_at.data.toList.drop 0 = dktX4_at_0 := by decide +kernel
theorem dksX4_at_1 : cX4_at.data.toList.drop 22 = dktX4_at_1 := dk_seg dksX4_at_0 22 rfl rfl
theorem dX4_at_0 : decode cX4_at 0 = .ok (.iconst 0, 1) := dk_3 (dk_at dksX4_at_0 0 rfl rfl)
theorem dX4_at_1 : decode cX4_at 1 = .ok (.istore_n 2, 1) := dk_61 (dk_at dksX4_at_0 1 rfl rfl)
theorem dX4_at_2 : decode cX4_at 2 = .ok (.iload_n 2, 1) := dk_28 (dk_at dksX4_at_0 2 rfl rfl)
theorem dX4_at_3 : decode cX4_at 3 = .ok (.aload_n 0, 1) := dk_42 (dk_at dksX4_at_0 3 rfl rfl)
theorem dX4_at_4 : decode cX4_at 4 = .ok (.invokevirtual 36, 3) := dk_182 0 36 (dk_at dksX4_at_0 4 rfl rfl)
theorem dX4_at_7 : decode cX4_at 7 = .ok (.if_icmp .ge 29, 3) := dk_162 0 29 (dk_at dksX4_at_0 7 rfl rfl)
theorem dX4_at_10 : decode cX4_at 10 = .ok (.aload_n 0, 1) := dk_42 (dk_at dksX4_at_0 10 rfl rfl)
theorem dX4_at_11 : decode cX4_at 11 = .ok (.iload_n 2, 1) := dk_28 (dk_at dksX4_at_0 11 rfl rfl)
theorem dX4_at_12 : decode cX4_at 12 = .ok (.invokevirtual 40, 3) := dk_182 0 40 (dk_at dksX4_at_0 12 rfl rfl)
theorem dX4_at_15 : decode cX4_at 15 = .ok (.checkcast 44, 3) := dk_192 0 44 (dk_at dksX4_at_0 15 rfl rfl)
theorem dX4_at_18 : decode cX4_at 18 = .ok (.getfield 46, 3) := dk_180 0 46 (dk_at dksX4_at_0 18 rfl rfl)
theorem dX4_at_21 : decode cX4_at 21 = .ok (.aload_n 1, 1) := dk_43 (dk_at dksX4_at_0 21 rfl rfl)
theorem dX4_at_22 : decode cX4_at 22 = .ok (.invokevirtual 50, 3) := dk_182 0 50 (dk_at dksX4_at_1 0 rfl rfl)
theorem dX4_at_25 : decode cX4_at 25 = .ok (.ifCond .eq 5, 3) := dk_153 0 5 (dk_at dksX4_at_1 3 rfl rfl)
theorem dX4_at_28 : decode cX4_at 28 = .ok (.iload_n 2, 1) := dk_28 (dk_at dksX4_at_1 6 rfl rfl)
theorem dX4_at_29 : decode cX4_at 29 = .ok (.ireturn, 1) := dk_172 (dk_at dksX4_at_1 7 rfl rfl)
theorem dX4_at_30 : decode cX4_at 30 = .ok (.iinc 2 1, 3) := dk_132 2 1 (dk_at dksX4_at_1 8 rfl rfl)
theorem dX4_at_33 : decode cX4_at 33 = .ok (.goto (-31), 3) := dk_167 255 225 (dk_at dksX4_at_1 11 rfl rfl)
theorem dX4_at_36 : decode cX4_at 36 = .ok (.iconst (-1), 1) := dk_2 (dk_at dksX4_at_1 14 rfl rfl)
theorem dX4_at_37 : decode cX4_at 37 = .ok (.ireturn, 1) := dk_172 (dk_at dksX4_at_1 15 rfl rfl)
