/-! decode rows of HairRopeModel -/
set_option maxRecDepth 100000
def dkwX10_init_38 : List UInt8 := [184, 0, 168, 80, 42, 182, 0, 172, 42, 182, 0, 175, 177]
abbrev dktX10_init_38 : List UInt8 := dkwX10_init_38 ++ []
def dkwX10_init_37 : List UInt8 := [184, 0, 168, 80, 42, 180, 0, 34, 16, 21, 16, 111, 16, 116, 16, 104, 16, 101, 16, 114, 3, 3]
abbrev dktX10_init_37 : List UInt8 := dkwX10_init_37 ++ dktX10_init_38
def dkwX10_init_36 : List UInt8 := [16, 100, 184, 0, 168, 80, 42, 180, 0, 34, 16, 20, 16, 103, 16, 105, 16, 118, 16, 101, 16, 110, 3, 3]
abbrev dktX10_init_36 : List UInt8 := dkwX10_init_36 ++ dktX10_init_37
def dkwX10_init_35 : List UInt8 := [3, 3, 184, 0, 168, 80, 42, 180, 0, 34, 16, 19, 16, 115, 16, 112, 16, 108, 16, 105, 16, 99, 16, 101]
abbrev dktX10_init_35 : List UInt8 := dkwX10_init_35 ++ dktX10_init_36
def dkwX10_init_34 : List UInt8 := [16, 101, 3, 3, 184, 0, 168, 80, 42, 180, 0, 34, 16, 18, 16, 119, 16, 104, 16, 105, 16, 99, 16, 104]
abbrev dktX10_init_34 : List UInt8 := dkwX10_init_34 ++ dktX10_init_35
def dkwX10_init_33 : List UInt8 := [16, 114, 3, 3, 3, 184, 0, 168, 80, 42, 180, 0, 34, 16, 17, 16, 112, 16, 108, 16, 97, 16, 99]
abbrev dktX10_init_33 : List UInt8 := dkwX10_init_33 ++ dktX10_init_34
def dkwX10_init_32 : List UInt8 := [16, 107, 16, 101, 3, 3, 3, 184, 0, 168, 80, 42, 180, 0, 34, 16, 16, 16, 121, 16, 101, 16, 97]
abbrev dktX10_init_32 : List UInt8 := dkwX10_init_32 ++ dktX10_init_33
def dkwX10_init_31 : List UInt8 := [16, 114, 16, 111, 16, 110, 16, 103, 3, 184, 0, 168, 80, 42, 180, 0, 34, 16, 15, 16, 108, 16, 105]
abbrev dktX10_init_31 : List UInt8 := dkwX10_init_31 ++ dktX10_init_32
def dkwX10_init_30 : List UInt8 := [16, 97, 16, 105, 16, 114, 3, 3, 3, 184, 0, 168, 80, 42, 180, 0, 34, 16, 14, 16, 115, 16, 116]
abbrev dktX10_init_30 : List UInt8 := dkwX10_init_30 ++ dktX10_init_31
def dkwX10_init_29 : List UInt8 := [16, 101, 16, 108, 16, 115, 16, 101, 3, 3, 3, 184, 0, 168, 80, 42, 180, 0, 34, 16, 13, 16, 104]
abbrev dktX10_init_29 : List UInt8 := dkwX10_init_29 ++ dktX10_init_30
def dkwX10_init_28 : List UInt8 := [16, 11, 16, 116, 16, 104, 16, 101, 16, 110, 3, 3, 3, 184, 0, 168, 80, 42, 180, 0, 34, 16, 12]
abbrev dktX10_init_28 : List UInt8 := dkwX10_init_28 ++ dktX10_init_29
def dkwX10_init_27 : List UInt8 := [80, 42, 180, 0, 34, 16, 10, 16, 105, 16, 102, 3, 3, 3, 3, 3, 184, 0, 168, 80, 42, 180, 0, 34]
abbrev dktX10_init_27 : List UInt8 := dkwX10_init_27 ++ dktX10_init_28
def dkwX10_init_26 : List UInt8 := [184, 0, 168, 80, 42, 180, 0, 34, 16, 9, 16, 115, 16, 101, 16, 101, 16, 100, 3, 3, 3, 184, 0, 168]
abbrev dktX10_init_26 : List UInt8 := dkwX10_init_26 ++ dktX10_init_27
def dkwX10_init_25 : List UInt8 := [184, 0, 168, 80, 42, 180, 0, 34, 16, 8, 16, 98, 16, 108, 16, 105, 16, 103, 16, 104, 16, 116, 3]
abbrev dktX10_init_25 : List UInt8 := dkwX10_init_25 ++ dktX10_init_26
def dkwX10_init_24 : List UInt8 := [184, 0, 168, 80, 42, 180, 0, 34, 16, 7, 16, 99, 16, 111, 16, 115, 16, 116, 16, 115, 3, 3]
abbrev dktX10_init_24 : List UInt8 := dkwX10_init_24 ++ dktX10_init_25
def dkwX10_init_23 : List UInt8 := [184, 0, 168, 80, 42, 180, 0, 34, 16, 6, 16, 106, 16, 111, 16, 105, 16, 110, 16, 115, 3, 3]
abbrev dktX10_init_23 : List UInt8 := dkwX10_init_23 ++ dktX10_init_24
def dkwX10_init_22 : List UInt8 := [184, 0, 168, 80, 42, 180, 0, 34, 8, 16, 119, 16, 101, 16, 97, 16, 107, 16, 101, 16, 110, 16, 115]
abbrev dktX10_init_22 : List UInt8 := dkwX10_init_22 ++ dktX10_init_23
def dkwX10_init_21 : List UInt8 := [3, 3, 184, 0, 168, 80, 42, 180, 0, 34, 7, 16, 103, 16, 114, 16, 111, 16, 119, 16, 115, 3, 3]
abbrev dktX10_init_21 : List UInt8 := dkwX10_init_21 ++ dktX10_init_22
def dkwX10_init_20 : List UInt8 := [16, 108, 3, 3, 3, 184, 0, 168, 80, 42, 180, 0, 34, 6, 16, 119, 16, 97, 16, 116, 16, 101, 16, 114]
abbrev dktX10_init_20 : List UInt8 := dkwX10_init_20 ++ dktX10_init_21
def dkwX10_init_19 : List UInt8 := [16, 107, 16, 101, 16, 115, 3, 3, 184, 0, 168, 80, 42, 180, 0, 34, 5, 16, 119, 16, 101, 16, 108]
abbrev dktX10_init_19 : List UInt8 := dkwX10_init_19 ++ dktX10_init_20
def dkwX10_init_18 : List UInt8 := [16, 111, 16, 117, 16, 115, 16, 101, 3, 3, 184, 0, 168, 80, 42, 180, 0, 34, 4, 16, 108, 16, 105]
abbrev dktX10_init_18 : List UInt8 := dkwX10_init_18 ++ dktX10_init_19
def dkwX10_init_17 : List UInt8 := [16, 99, 188, 10, 181, 0, 161, 42, 3, 182, 0, 164, 42, 4, 182, 0, 164, 42, 180, 0, 34, 3, 16, 104]
abbrev dktX10_init_17 : List UInt8 := dkwX10_init_17 ++ dktX10_init_18
def dkwX10_init_16 : List UInt8 := [16, 6, 188, 10, 181, 0, 152, 42, 16, 6, 188, 10, 181, 0, 155, 42, 6, 188, 4, 181, 0, 158, 42]
abbrev dktX10_init_16 : List UInt8 := dkwX10_init_16 ++ dktX10_init_17
def dkwX10_init_15 : List UInt8 := [16, 20, 188, 10, 181, 0, 143, 42, 16, 20, 188, 10, 181, 0, 146, 42, 16, 20, 188, 4, 181, 0, 149, 42]
abbrev dktX10_init_15 : List UInt8 := dkwX10_init_15 ++ dktX10_init_16
def dkwX10_init_14 : List UInt8 := [16, 36, 188, 10, 181, 0, 134, 42, 16, 6, 188, 10, 181, 0, 137, 42, 16, 6, 188, 10, 181, 0, 140, 42]
abbrev dktX10_init_14 : List UInt8 := dkwX10_init_14 ++ dktX10_init_15
def dkwX10_init_13 : List UInt8 := [16, 6, 188, 10, 181, 0, 125, 42, 16, 36, 188, 10, 181, 0, 128, 42, 16, 36, 188, 10, 181, 0, 131, 42]
abbrev dktX10_init_13 : List UInt8 := dkwX10_init_13 ++ dktX10_init_14
def dkwX10_init_12 : List UInt8 := [188, 10, 181, 0, 116, 42, 17, 5, 40, 188, 10, 181, 0, 119, 42, 16, 6, 188, 10, 181, 0, 122, 42]
abbrev dktX10_init_12 : List UInt8 := dkwX10_init_12 ++ dktX10_init_13
def dkwX10_init_11 : List UInt8 := [188, 10, 181, 0, 107, 42, 16, 33, 188, 10, 181, 0, 110, 42, 16, 6, 188, 10, 181, 0, 113, 42, 16, 6]
abbrev dktX10_init_11 : List UInt8 := dkwX10_init_11 ++ dktX10_init_12
def dkwX10_init_10 : List UInt8 := [181, 0, 98, 42, 16, 9, 188, 10, 181, 0, 101, 42, 17, 1, 144, 188, 10, 181, 0, 104, 42, 16, 33]
abbrev dktX10_init_10 : List UInt8 := dkwX10_init_10 ++ dktX10_init_11
def dkwX10_init_9 : List UInt8 := [17, 3, 72, 188, 10, 181, 0, 92, 42, 17, 3, 72, 188, 10, 181, 0, 95, 42, 16, 64, 188, 10]
abbrev dktX10_init_9 : List UInt8 := dkwX10_init_9 ++ dktX10_init_10
def dkwX10_init_8 : List UInt8 := [181, 0, 83, 42, 17, 1, 4, 188, 10, 181, 0, 86, 42, 17, 1, 4, 188, 10, 181, 0, 89, 42]
abbrev dktX10_init_8 : List UInt8 := dkwX10_init_8 ++ dktX10_init_9
def dkwX10_init_7 : List UInt8 := [17, 1, 4, 188, 4, 181, 0, 76, 42, 17, 1, 4, 188, 10, 181, 0, 80, 42, 17, 1, 4, 188, 10]
abbrev dktX10_init_7 : List UInt8 := dkwX10_init_7 ++ dktX10_init_8
def dkwX10_init_6 : List UInt8 := [42, 5, 188, 10, 181, 0, 67, 42, 16, 8, 188, 10, 181, 0, 70, 42, 16, 8, 188, 10, 181, 0, 73, 42]
abbrev dktX10_init_6 : List UInt8 := dkwX10_init_6 ++ dktX10_init_7
def dkwX10_init_5 : List UInt8 := [181, 0, 55, 42, 5, 188, 10, 181, 0, 58, 42, 5, 188, 10, 181, 0, 61, 42, 5, 188, 10, 181, 0, 64]
abbrev dktX10_init_5 : List UInt8 := dkwX10_init_5 ++ dktX10_init_6
def dkwX10_init_4 : List UInt8 := [181, 0, 46, 42, 16, 12, 188, 10, 181, 0, 49, 42, 5, 188, 10, 181, 0, 52, 42, 16, 72, 188, 10]
abbrev dktX10_init_4 : List UInt8 := dkwX10_init_4 ++ dktX10_init_5
def dkwX10_init_3 : List UInt8 := [181, 0, 37, 42, 16, 6, 188, 11, 181, 0, 40, 42, 5, 188, 10, 181, 0, 43, 42, 16, 12, 188, 10]
abbrev dktX10_init_3 : List UInt8 := dkwX10_init_3 ++ dktX10_init_4
def dkwX10_init_2 : List UInt8 := [181, 0, 27, 42, 17, 1, 147, 188, 11, 181, 0, 30, 42, 16, 22, 188, 11, 181, 0, 34, 42, 2]
abbrev dktX10_init_2 : List UInt8 := dkwX10_init_2 ++ dktX10_init_3
def dkwX10_init_1 : List UInt8 := [17, 1, 147, 188, 10, 181, 0, 20, 42, 17, 1, 147, 188, 10, 181, 0, 24, 42, 17, 1, 147, 188, 10]
abbrev dktX10_init_1 : List UInt8 := dkwX10_init_1 ++ dktX10_init_2
def dkwX10_init_0 : List UInt8 := [42, 183, 0, 7, 42, 17, 7, 208, 188, 8, 181, 0, 13, 42, 17, 7, 208, 188, 8, 181, 0, 17, 42]
abbrev dktX10_init_0 : List UInt8 := dkwX10_init_0 ++ dktX10_init_1
theorem dksX10_init_0 : cX10_init.data.toList.drop 0 = dktX10_init_0 := by decide +kernel
theorem dksX10_init_1 : cX10_init.data.toList.drop 23 = dktX10_init_1 := dk_seg dksX10_init_0 23 rfl rfl
theorem dksX10_init_2 : cX10_init.data.toList.drop 46 = dktX10_init_2 := dk_seg dksX10_init_1 23 rfl rfl
theorem dksX10_init_3 : cX10_init.data.toList.drop 68 = dktX10_init_3 := dk_seg dksX10_init_2 22 rfl rfl
theorem dksX10_init_4 : cX10_init.data.toList.drop 91 = dktX10_init_4 := dk_seg dksX10_init_3 23 rfl rfl
theorem dksX10_init_5 : cX10_init.data.toList.drop 114 = dktX10_init_5 := dk_seg dksX10_init_4 23 rfl rfl
theorem dksX10_init_6 : cX10_init.data.toList.drop 138 = dktX10_init_6 := dk_seg dksX10_init_5 24 rfl rfl
theorem dksX10_init_7 : cX10_init.data.toList.drop 162 = dktX10_init_7 := dk_seg dksX10_init_6 24 rfl rfl
theorem dksX10_init_8 : cX10_init.data.toList.drop 185 = dktX10_init_8 := dk_seg dksX10_init_7 23 rfl rfl
theorem dksX10_init_9 : cX10_init.data.toList.drop 207 = dktX10_init_9 := dk_seg dksX10_init_8 22 rfl rfl
theorem dksX10_init_10 : cX10_init.data.toList.drop 229 = dktX10_init_10 := dk_seg dksX10_init_9 22 rfl rfl
theorem dksX10_init_11 : cX10_init.data.toList.drop 252 = dktX10_init_11 := dk_seg dksX10_init_10 23 rfl rfl
theorem dksX10_init_12 : cX10_init.data.toList.drop 276 = dktX10_init_12 := dk_seg dksX10_init_11 24 rfl rfl
theorem dksX10_init_13 : cX10_init.data.toList.drop 299 = dktX10_init_13 := dk_seg dksX10_init_12 23 rfl rfl
theorem dksX10_init_14 : cX10_init.data.toList.drop 323 = dktX10_init_14 := dk_seg dksX10_init_13 24 rfl rfl
theorem dksX10_init_15 : cX10_init.data.toList.drop 347 = dktX10_init_15 := dk_seg dksX10_init_14 24 rfl rfl
theorem dksX10_init_16 : cX10_init.data.toList.drop 371 = dktX10_init_16 := dk_seg dksX10_init_15 24 rfl rfl
theorem dksX10_init_17 : cX10_init.data.toList.drop 394 = dktX10_init_17 := dk_seg dksX10_init_16 23 rfl rfl
theorem dksX10_init_18 : cX10_init.data.toList.drop 418 = dktX10_init_18 := dk_seg dksX10_init_17 24 rfl rfl
theorem dksX10_init_19 : cX10_init.data.toList.drop 441 = dktX10_init_19 := dk_seg dksX10_init_18 23 rfl rfl
theorem dksX10_init_20 : cX10_init.data.toList.drop 464 = dktX10_init_20 := dk_seg dksX10_init_19 23 rfl rfl
theorem dksX10_init_21 : cX10_init.data.toList.drop 488 = dktX10_init_21 := dk_seg dksX10_init_20 24 rfl rfl
theorem dksX10_init_22 : cX10_init.data.toList.drop 511 = dktX10_init_22 := dk_seg dksX10_init_21 23 rfl rfl
theorem dksX10_init_23 : cX10_init.data.toList.drop 534 = dktX10_init_23 := dk_seg dksX10_init_22 23 rfl rfl
theorem dksX10_init_24 : cX10_init.data.toList.drop 556 = dktX10_init_24 := dk_seg dksX10_init_23 22 rfl rfl
theorem dksX10_init_25 : cX10_init.data.toList.drop 578 = dktX10_init_25 := dk_seg dksX10_init_24 22 rfl rfl
theorem dksX10_init_26 : cX10_init.data.toList.drop 601 = dktX10_init_26 := dk_seg dksX10_init_25 23 rfl rfl
theorem dksX10_init_27 : cX10_init.data.toList.drop 625 = dktX10_init_27 := dk_seg dksX10_init_26 24 rfl rfl
theorem dksX10_init_28 : cX10_init.data.toList.drop 649 = dktX10_init_28 := dk_seg dksX10_init_27 24 rfl rfl
theorem dksX10_init_29 : cX10_init.data.toList.drop 672 = dktX10_init_29 := dk_seg dksX10_init_28 23 rfl rfl
theorem dksX10_init_30 : cX10_init.data.toList.drop 695 = dktX10_init_30 := dk_seg dksX10_init_29 23 rfl rfl
theorem dksX10_init_31 : cX10_init.data.toList.drop 718 = dktX10_init_31 := dk_seg dksX10_init_30 23 rfl rfl
theorem dksX10_init_32 : cX10_init.data.toList.drop 741 = dktX10_init_32 := dk_seg dksX10_init_31 23 rfl rfl
theorem dksX10_init_33 : cX10_init.data.toList.drop 764 = dktX10_init_33 := dk_seg dksX10_init_32 23 rfl rfl
theorem dksX10_init_34 : cX10_init.data.toList.drop 787 = dktX10_init_34 := dk_seg dksX10_init_33 23 rfl rfl
theorem dksX10_init_35 : cX10_init.data.toList.drop 811 = dktX10_init_35 := dk_seg dksX10_init_34 24 rfl rfl
theorem dksX10_init_36 : cX10_init.data.toList.drop 835 = dktX10_init_36 := dk_seg dksX10_init_35 24 rfl rfl
theorem dksX10_init_37 : cX10_init.data.toList.drop 859 = dktX10_init_37 := dk_seg dksX10_init_36 24 rfl rfl
theorem dksX10_init_38 : cX10_init.data.toList.drop 881 = dktX10_init_38 := dk_seg dksX10_init_37 22 rfl rfl
theorem dX10_init_0 : decode cX10_init 0 = .ok (.aload_n 0, 1) := dk_42 (dk_at dksX10_init_0 0 rfl rfl)
theorem dX10_init_1 : decode cX10_init 1 = .ok (.invokespecial 7, 3) := dk_183 0 7 (dk_at dksX10_init_0 1 rfl rfl)
theorem dX10_init_4 : decode cX10_init 4 = .ok (.aload_n 0, 1) := dk_42 (dk_at dksX10_init_0 4 rfl rfl)
theorem dX10_init_5 : decode cX10_init 5 = .ok (.sipush 2000, 3) := dk_17 7 208 (dk_at dksX10_init_0 5 rfl rfl)
theorem dX10_init_8 : decode cX10_init 8 = .ok (.newarray .byte, 2) := dk_188_8 (dk_at dksX10_init_0 8 rfl rfl)
theorem dX10_init_10 : decode cX10_init 10 = .ok (.putfield 13, 3) := dk_181 0 13 (dk_at dksX10_init_0 10 rfl rfl)
theorem dX10_init_13 : decode cX10_init 13 = .ok (.aload_n 0, 1) := dk_42 (dk_at dksX10_init_0 13 rfl rfl)
theorem dX10_init_14 : decode cX10_init 14 = .ok (.sipush 2000, 3) := dk_17 7 208 (dk_at dksX10_init_0 14 rfl rfl)
theorem dX10_init_17 : decode cX10_init 17 = .ok (.newarray .byte, 2) := dk_188_8 (dk_at dksX10_init_0 17 rfl rfl)
theorem dX10_init_19 : decode cX10_init 19 = .ok (.putfield 17, 3) := dk_181 0 17 (dk_at dksX10_init_0 19 rfl rfl)
theorem dX10_init_22 : decode cX10_init 22 = .ok (.aload_n 0, 1) := dk_42 (dk_at dksX10_init_0 22 rfl rfl)
theorem dX10_init_23 : decode cX10_init 23 = .ok (.sipush 403, 3) := dk_17 1 147 (dk_at dksX10_init_1 0 rfl rfl)
theorem dX10_init_26 : decode cX10_init 26 = .ok (.newarray .int, 2) := dk_188_10 (dk_at dksX10_init_1 3 rfl rfl)
theorem dX10_init_28 : decode cX10_init 28 = .ok (.putfield 20, 3) := dk_181 0 20 (dk_at dksX10_init_1 5 rfl rfl)
theorem dX10_init_31 : decode cX10_init 31 = .ok (.aload_n 0, 1) := dk_42 (dk_at dksX10_init_1 8 rfl rfl)
theorem dX10_init_32 : decode cX10_init 32 = .ok (.sipush 403, 3) := dk_17 1 147 (dk_at dksX10_init_1 9 rfl rfl)
theorem dX10_init_35 : decode cX10_init 35 = .ok (.newarray .int, 2) := dk_188_10 (dk_at dksX10_init_1 12 rfl rfl)
theorem dX10_init_37 : decode cX10_init 37 = .ok (.putfield 24, 3) := dk_181 0 24 (dk_at dksX10_init_1 14 rfl rfl)
theorem dX10_init_40 : decode cX10_init 40 = .ok (.aload_n 0, 1) := dk_42 (dk_at dksX10_init_1 17 rfl rfl)
theorem dX10_init_41 : decode cX10_init 41 = .ok (.sipush 403, 3) := dk_17 1 147 (dk_at dksX10_init_1 18 rfl rfl)
theorem dX10_init_44 : decode cX10_init 44 = .ok (.newarray .int, 2) := dk_188_10 (dk_at dksX10_init_1 21 rfl rfl)
theorem dX10_init_46 : decode cX10_init 46 = .ok (.putfield 27, 3) := dk_181 0 27 (dk_at dksX10_init_2 0 rfl rfl)
theorem dX10_init_49 : decode cX10_init 49 = .ok (.aload_n 0, 1) := dk_42 (dk_at dksX10_init_2 3 rfl rfl)
theorem dX10_init_50 : decode cX10_init 50 = .ok (.sipush 403, 3) := dk_17 1 147 (dk_at dksX10_init_2 4 rfl rfl)
theorem dX10_init_53 : decode cX10_init 53 = .ok (.newarray .long, 2) := dk_188_11 (dk_at dksX10_init_2 7 rfl rfl)
theorem dX10_init_55 : decode cX10_init 55 = .ok (.putfield 30, 3) := dk_181 0 30 (dk_at dksX10_init_2 9 rfl rfl)
theorem dX10_init_58 : decode cX10_init 58 = .ok (.aload_n 0, 1) := dk_42 (dk_at dksX10_init_2 12 rfl rfl)
theorem dX10_init_59 : decode cX10_init 59 = .ok (.bipush 22, 2) := dk_16 22 (dk_at dksX10_init_2 13 rfl rfl)
theorem dX10_init_61 : decode cX10_init 61 = .ok (.newarray .long, 2) := dk_188_11 (dk_at dksX10_init_2 15 rfl rfl)
theorem dX10_init_63 : decode cX10_init 63 = .ok (.putfield 34, 3) := dk_181 0 34 (dk_at dksX10_init_2 17 rfl rfl)
theorem dX10_init_66 : decode cX10_init 66 = .ok (.aload_n 0, 1) := dk_42 (dk_at dksX10_init_2 20 rfl rfl)
theorem dX10_init_67 : decode cX10_init 67 = .ok (.iconst (-1), 1) := dk_2 (dk_at dksX10_init_2 21 rfl rfl)
theorem dX10_init_68 : decode cX10_init 68 = .ok (.putfield 37, 3) := dk_181 0 37 (dk_at dksX10_init_3 0 rfl rfl)
theorem dX10_init_71 : decode cX10_init 71 = .ok (.aload_n 0, 1) := dk_42 (dk_at dksX10_init_3 3 rfl rfl)
theorem dX10_init_72 : decode cX10_init 72 = .ok (.bipush 6, 2) := dk_16 6 (dk_at dksX10_init_3 4 rfl rfl)
theorem dX10_init_74 : decode cX10_init 74 = .ok (.newarray .long, 2) := dk_188_11 (dk_at dksX10_init_3 6 rfl rfl)
theorem dX10_init_76 : decode cX10_init 76 = .ok (.putfield 40, 3) := dk_181 0 40 (dk_at dksX10_init_3 8 rfl rfl)
theorem dX10_init_79 : decode cX10_init 79 = .ok (.aload_n 0, 1) := dk_42 (dk_at dksX10_init_3 11 rfl rfl)
theorem dX10_init_80 : decode cX10_init 80 = .ok (.iconst 2, 1) := dk_5 (dk_at dksX10_init_3 12 rfl rfl)
theorem dX10_init_81 : decode cX10_init 81 = .ok (.newarray .int, 2) := dk_188_10 (dk_at dksX10_init_3 13 rfl rfl)
theorem dX10_init_83 : decode cX10_init 83 = .ok (.putfield 43, 3) := dk_181 0 43 (dk_at dksX10_init_3 15 rfl rfl)
theorem dX10_init_86 : decode cX10_init 86 = .ok (.aload_n 0, 1) := dk_42 (dk_at dksX10_init_3 18 rfl rfl)
theorem dX10_init_87 : decode cX10_init 87 = .ok (.bipush 12, 2) := dk_16 12 (dk_at dksX10_init_3 19 rfl rfl)
theorem dX10_init_89 : decode cX10_init 89 = .ok (.newarray .int, 2) := dk_188_10 (dk_at dksX10_init_3 21 rfl rfl)
theorem dX10_init_91 : decode cX10_init 91 = .ok (.putfield 46, 3) := dk_181 0 46 (dk_at dksX10_init_4 0 rfl rfl)
theorem dX10_init_94 : decode cX10_init 94 = .ok (.aload_n 0, 1) := dk_42 (dk_at dksX10_init_4 3 rfl rfl)
theorem dX10_init_95 : decode cX10_init 95 = .ok (.bipush 12, 2) := dk_16 12 (dk_at dksX10_init_4 4 rfl rfl)
theorem dX10_init_97 : decode cX10_init 97 = .ok (.newarray .int, 2) := dk_188_10 (dk_at dksX10_init_4 6 rfl rfl)
theorem dX10_init_99 : decode cX10_init 99 = .ok (.putfield 49, 3) := dk_181 0 49 (dk_at dksX10_init_4 8 rfl rfl)
theorem dX10_init_102 : decode cX10_init 102 = .ok (.aload_n 0, 1) := dk_42 (dk_at dksX10_init_4 11 rfl rfl)
theorem dX10_init_103 : decode cX10_init 103 = .ok (.iconst 2, 1) := dk_5 (dk_at dksX10_init_4 12 rfl rfl)
theorem dX10_init_104 : decode cX10_init 104 = .ok (.newarray .int, 2) := dk_188_10 (dk_at dksX10_init_4 13 rfl rfl)
theorem dX10_init_106 : decode cX10_init 106 = .ok (.putfield 52, 3) := dk_181 0 52 (dk_at dksX10_init_4 15 rfl rfl)
theorem dX10_init_109 : decode cX10_init 109 = .ok (.aload_n 0, 1) := dk_42 (dk_at dksX10_init_4 18 rfl rfl)
theorem dX10_init_110 : decode cX10_init 110 = .ok (.bipush 72, 2) := dk_16 72 (dk_at dksX10_init_4 19 rfl rfl)
theorem dX10_init_112 : decode cX10_init 112 = .ok (.newarray .int, 2) := dk_188_10 (dk_at dksX10_init_4 21 rfl rfl)
theorem dX10_init_114 : decode cX10_init 114 = .ok (.putfield 55, 3) := dk_181 0 55 (dk_at dksX10_init_5 0 rfl rfl)
theorem dX10_init_117 : decode cX10_init 117 = .ok (.aload_n 0, 1) := dk_42 (dk_at dksX10_init_5 3 rfl rfl)
theorem dX10_init_118 : decode cX10_init 118 = .ok (.iconst 2, 1) := dk_5 (dk_at dksX10_init_5 4 rfl rfl)
theorem dX10_init_119 : decode cX10_init 119 = .ok (.newarray .int, 2) := dk_188_10 (dk_at dksX10_init_5 5 rfl rfl)
theorem dX10_init_121 : decode cX10_init 121 = .ok (.putfield 58, 3) := dk_181 0 58 (dk_at dksX10_init_5 7 rfl rfl)
theorem dX10_init_124 : decode cX10_init 124 = .ok (.aload_n 0, 1) := dk_42 (dk_at dksX10_init_5 10 rfl rfl)
theorem dX10_init_125 : decode cX10_init 125 = .ok (.iconst 2, 1) := dk_5 (dk_at dksX10_init_5 11 rfl rfl)
theorem dX10_init_126 : decode cX10_init 126 = .ok (.newarray .int, 2) := dk_188_10 (dk_at dksX10_init_5 12 rfl rfl)
theorem dX10_init_128 : decode cX10_init 128 = .ok (.putfield 61, 3) := dk_181 0 61 (dk_at dksX10_init_5 14 rfl rfl)
theorem dX10_init_131 : decode cX10_init 131 = .ok (.aload_n 0, 1) := dk_42 (dk_at dksX10_init_5 17 rfl rfl)
theorem dX10_init_132 : decode cX10_init 132 = .ok (.iconst 2, 1) := dk_5 (dk_at dksX10_init_5 18 rfl rfl)
theorem dX10_init_133 : decode cX10_init 133 = .ok (.newarray .int, 2) := dk_188_10 (dk_at dksX10_init_5 19 rfl rfl)
theorem dX10_init_135 : decode cX10_init 135 = .ok (.putfield 64, 3) := dk_181 0 64 (dk_at dksX10_init_5 21 rfl rfl)
theorem dX10_init_138 : decode cX10_init 138 = .ok (.aload_n 0, 1) := dk_42 (dk_at dksX10_init_6 0 rfl rfl)
theorem dX10_init_139 : decode cX10_init 139 = .ok (.iconst 2, 1) := dk_5 (dk_at dksX10_init_6 1 rfl rfl)
theorem dX10_init_140 : decode cX10_init 140 = .ok (.newarray .int, 2) := dk_188_10 (dk_at dksX10_init_6 2 rfl rfl)
theorem dX10_init_142 : decode cX10_init 142 = .ok (.putfield 67, 3) := dk_181 0 67 (dk_at dksX10_init_6 4 rfl rfl)
theorem dX10_init_145 : decode cX10_init 145 = .ok (.aload_n 0, 1) := dk_42 (dk_at dksX10_init_6 7 rfl rfl)
theorem dX10_init_146 : decode cX10_init 146 = .ok (.bipush 8, 2) := dk_16 8 (dk_at dksX10_init_6 8 rfl rfl)
theorem dX10_init_148 : decode cX10_init 148 = .ok (.newarray .int, 2) := dk_188_10 (dk_at dksX10_init_6 10 rfl rfl)
theorem dX10_init_150 : decode cX10_init 150 = .ok (.putfield 70, 3) := dk_181 0 70 (dk_at dksX10_init_6 12 rfl rfl)
theorem dX10_init_153 : decode cX10_init 153 = .ok (.aload_n 0, 1) := dk_42 (dk_at dksX10_init_6 15 rfl rfl)
theorem dX10_init_154 : decode cX10_init 154 = .ok (.bipush 8, 2) := dk_16 8 (dk_at dksX10_init_6 16 rfl rfl)
theorem dX10_init_156 : decode cX10_init 156 = .ok (.newarray .int, 2) := dk_188_10 (dk_at dksX10_init_6 18 rfl rfl)
theorem dX10_init_158 : decode cX10_init 158 = .ok (.putfield 73, 3) := dk_181 0 73 (dk_at dksX10_init_6 20 rfl rfl)
theorem dX10_init_161 : decode cX10_init 161 = .ok (.aload_n 0, 1) := dk_42 (dk_at dksX10_init_6 23 rfl rfl)
theorem dX10_init_162 : decode cX10_init 162 = .ok (.sipush 260, 3) := dk_17 1 4 (dk_at dksX10_init_7 0 rfl rfl)
theorem dX10_init_165 : decode cX10_init 165 = .ok (.newarray .boolean, 2) := dk_188_4 (dk_at dksX10_init_7 3 rfl rfl)
theorem dX10_init_167 : decode cX10_init 167 = .ok (.putfield 76, 3) := dk_181 0 76 (dk_at dksX10_init_7 5 rfl rfl)
theorem dX10_init_170 : decode cX10_init 170 = .ok (.aload_n 0, 1) := dk_42 (dk_at dksX10_init_7 8 rfl rfl)
theorem dX10_init_171 : decode cX10_init 171 = .ok (.sipush 260, 3) := dk_17 1 4 (dk_at dksX10_init_7 9 rfl rfl)
theorem dX10_init_174 : decode cX10_init 174 = .ok (.newarray .int, 2) := dk_188_10 (dk_at dksX10_init_7 12 rfl rfl)
theorem dX10_init_176 : decode cX10_init 176 = .ok (.putfield 80, 3) := dk_181 0 80 (dk_at dksX10_init_7 14 rfl rfl)
theorem dX10_init_179 : decode cX10_init 179 = .ok (.aload_n 0, 1) := dk_42 (dk_at dksX10_init_7 17 rfl rfl)
theorem dX10_init_180 : decode cX10_init 180 = .ok (.sipush 260, 3) := dk_17 1 4 (dk_at dksX10_init_7 18 rfl rfl)
theorem dX10_init_183 : decode cX10_init 183 = .ok (.newarray .int, 2) := dk_188_10 (dk_at dksX10_init_7 21 rfl rfl)
theorem dX10_init_185 : decode cX10_init 185 = .ok (.putfield 83, 3) := dk_181 0 83 (dk_at dksX10_init_8 0 rfl rfl)
theorem dX10_init_188 : decode cX10_init 188 = .ok (.aload_n 0, 1) := dk_42 (dk_at dksX10_init_8 3 rfl rfl)
theorem dX10_init_189 : decode cX10_init 189 = .ok (.sipush 260, 3) := dk_17 1 4 (dk_at dksX10_init_8 4 rfl rfl)
theorem dX10_init_192 : decode cX10_init 192 = .ok (.newarray .int, 2) := dk_188_10 (dk_at dksX10_init_8 7 rfl rfl)
theorem dX10_init_194 : decode cX10_init 194 = .ok (.putfield 86, 3) := dk_181 0 86 (dk_at dksX10_init_8 9 rfl rfl)
theorem dX10_init_197 : decode cX10_init 197 = .ok (.aload_n 0, 1) := dk_42 (dk_at dksX10_init_8 12 rfl rfl)
theorem dX10_init_198 : decode cX10_init 198 = .ok (.sipush 260, 3) := dk_17 1 4 (dk_at dksX10_init_8 13 rfl rfl)
theorem dX10_init_201 : decode cX10_init 201 = .ok (.newarray .int, 2) := dk_188_10 (dk_at dksX10_init_8 16 rfl rfl)
theorem dX10_init_203 : decode cX10_init 203 = .ok (.putfield 89, 3) := dk_181 0 89 (dk_at dksX10_init_8 18 rfl rfl)
theorem dX10_init_206 : decode cX10_init 206 = .ok (.aload_n 0, 1) := dk_42 (dk_at dksX10_init_8 21 rfl rfl)
theorem dX10_init_207 : decode cX10_init 207 = .ok (.sipush 840, 3) := dk_17 3 72 (dk_at dksX10_init_9 0 rfl rfl)
theorem dX10_init_210 : decode cX10_init 210 = .ok (.newarray .int, 2) := dk_188_10 (dk_at dksX10_init_9 3 rfl rfl)
theorem dX10_init_212 : decode cX10_init 212 = .ok (.putfield 92, 3) := dk_181 0 92 (dk_at dksX10_init_9 5 rfl rfl)
theorem dX10_init_215 : decode cX10_init 215 = .ok (.aload_n 0, 1) := dk_42 (dk_at dksX10_init_9 8 rfl rfl)
theorem dX10_init_216 : decode cX10_init 216 = .ok (.sipush 840, 3) := dk_17 3 72 (dk_at dksX10_init_9 9 rfl rfl)
theorem dX10_init_219 : decode cX10_init 219 = .ok (.newarray .int, 2) := dk_188_10 (dk_at dksX10_init_9 12 rfl rfl)
theorem dX10_init_221 : decode cX10_init 221 = .ok (.putfield 95, 3) := dk_181 0 95 (dk_at dksX10_init_9 14 rfl rfl)
theorem dX10_init_224 : decode cX10_init 224 = .ok (.aload_n 0, 1) := dk_42 (dk_at dksX10_init_9 17 rfl rfl)
theorem dX10_init_225 : decode cX10_init 225 = .ok (.bipush 64, 2) := dk_16 64 (dk_at dksX10_init_9 18 rfl rfl)
theorem dX10_init_227 : decode cX10_init 227 = .ok (.newarray .int, 2) := dk_188_10 (dk_at dksX10_init_9 20 rfl rfl)
theorem dX10_init_229 : decode cX10_init 229 = .ok (.putfield 98, 3) := dk_181 0 98 (dk_at dksX10_init_10 0 rfl rfl)
theorem dX10_init_232 : decode cX10_init 232 = .ok (.aload_n 0, 1) := dk_42 (dk_at dksX10_init_10 3 rfl rfl)
theorem dX10_init_233 : decode cX10_init 233 = .ok (.bipush 9, 2) := dk_16 9 (dk_at dksX10_init_10 4 rfl rfl)
theorem dX10_init_235 : decode cX10_init 235 = .ok (.newarray .int, 2) := dk_188_10 (dk_at dksX10_init_10 6 rfl rfl)
theorem dX10_init_237 : decode cX10_init 237 = .ok (.putfield 101, 3) := dk_181 0 101 (dk_at dksX10_init_10 8 rfl rfl)
theorem dX10_init_240 : decode cX10_init 240 = .ok (.aload_n 0, 1) := dk_42 (dk_at dksX10_init_10 11 rfl rfl)
theorem dX10_init_241 : decode cX10_init 241 = .ok (.sipush 400, 3) := dk_17 1 144 (dk_at dksX10_init_10 12 rfl rfl)
theorem dX10_init_244 : decode cX10_init 244 = .ok (.newarray .int, 2) := dk_188_10 (dk_at dksX10_init_10 15 rfl rfl)
theorem dX10_init_246 : decode cX10_init 246 = .ok (.putfield 104, 3) := dk_181 0 104 (dk_at dksX10_init_10 17 rfl rfl)
theorem dX10_init_249 : decode cX10_init 249 = .ok (.aload_n 0, 1) := dk_42 (dk_at dksX10_init_10 20 rfl rfl)
theorem dX10_init_250 : decode cX10_init 250 = .ok (.bipush 33, 2) := dk_16 33 (dk_at dksX10_init_10 21 rfl rfl)
theorem dX10_init_252 : decode cX10_init 252 = .ok (.newarray .int, 2) := dk_188_10 (dk_at dksX10_init_11 0 rfl rfl)
theorem dX10_init_254 : decode cX10_init 254 = .ok (.putfield 107, 3) := dk_181 0 107 (dk_at dksX10_init_11 2 rfl rfl)
theorem dX10_init_257 : decode cX10_init 257 = .ok (.aload_n 0, 1) := dk_42 (dk_at dksX10_init_11 5 rfl rfl)
theorem dX10_init_258 : decode cX10_init 258 = .ok (.bipush 33, 2) := dk_16 33 (dk_at dksX10_init_11 6 rfl rfl)
theorem dX10_init_260 : decode cX10_init 260 = .ok (.newarray .int, 2) := dk_188_10 (dk_at dksX10_init_11 8 rfl rfl)
theorem dX10_init_262 : decode cX10_init 262 = .ok (.putfield 110, 3) := dk_181 0 110 (dk_at dksX10_init_11 10 rfl rfl)
theorem dX10_init_265 : decode cX10_init 265 = .ok (.aload_n 0, 1) := dk_42 (dk_at dksX10_init_11 13 rfl rfl)
theorem dX10_init_266 : decode cX10_init 266 = .ok (.bipush 6, 2) := dk_16 6 (dk_at dksX10_init_11 14 rfl rfl)
theorem dX10_init_268 : decode cX10_init 268 = .ok (.newarray .int, 2) := dk_188_10 (dk_at dksX10_init_11 16 rfl rfl)
theorem dX10_init_270 : decode cX10_init 270 = .ok (.putfield 113, 3) := dk_181 0 113 (dk_at dksX10_init_11 18 rfl rfl)
theorem dX10_init_273 : decode cX10_init 273 = .ok (.aload_n 0, 1) := dk_42 (dk_at dksX10_init_11 21 rfl rfl)
theorem dX10_init_274 : decode cX10_init 274 = .ok (.bipush 6, 2) := dk_16 6 (dk_at dksX10_init_11 22 rfl rfl)
theorem dX10_init_276 : decode cX10_init 276 = .ok (.newarray .int, 2) := dk_188_10 (dk_at dksX10_init_12 0 rfl rfl)
theorem dX10_init_278 : decode cX10_init 278 = .ok (.putfield 116, 3) := dk_181 0 116 (dk_at dksX10_init_12 2 rfl rfl)
theorem dX10_init_281 : decode cX10_init 281 = .ok (.aload_n 0, 1) := dk_42 (dk_at dksX10_init_12 5 rfl rfl)
theorem dX10_init_282 : decode cX10_init 282 = .ok (.sipush 1320, 3) := dk_17 5 40 (dk_at dksX10_init_12 6 rfl rfl)
theorem dX10_init_285 : decode cX10_init 285 = .ok (.newarray .int, 2) := dk_188_10 (dk_at dksX10_init_12 9 rfl rfl)
theorem dX10_init_287 : decode cX10_init 287 = .ok (.putfield 119, 3) := dk_181 0 119 (dk_at dksX10_init_12 11 rfl rfl)
theorem dX10_init_290 : decode cX10_init 290 = .ok (.aload_n 0, 1) := dk_42 (dk_at dksX10_init_12 14 rfl rfl)
theorem dX10_init_291 : decode cX10_init 291 = .ok (.bipush 6, 2) := dk_16 6 (dk_at dksX10_init_12 15 rfl rfl)
theorem dX10_init_293 : decode cX10_init 293 = .ok (.newarray .int, 2) := dk_188_10 (dk_at dksX10_init_12 17 rfl rfl)
theorem dX10_init_295 : decode cX10_init 295 = .ok (.putfield 122, 3) := dk_181 0 122 (dk_at dksX10_init_12 19 rfl rfl)
theorem dX10_init_298 : decode cX10_init 298 = .ok (.aload_n 0, 1) := dk_42 (dk_at dksX10_init_12 22 rfl rfl)
theorem dX10_init_299 : decode cX10_init 299 = .ok (.bipush 6, 2) := dk_16 6 (dk_at dksX10_init_13 0 rfl rfl)
theorem dX10_init_301 : decode cX10_init 301 = .ok (.newarray .int, 2) := dk_188_10 (dk_at dksX10_init_13 2 rfl rfl)
theorem dX10_init_303 : decode cX10_init 303 = .ok (.putfield 125, 3) := dk_181 0 125 (dk_at dksX10_init_13 4 rfl rfl)
theorem dX10_init_306 : decode cX10_init 306 = .ok (.aload_n 0, 1) := dk_42 (dk_at dksX10_init_13 7 rfl rfl)
theorem dX10_init_307 : decode cX10_init 307 = .ok (.bipush 36, 2) := dk_16 36 (dk_at dksX10_init_13 8 rfl rfl)
theorem dX10_init_309 : decode cX10_init 309 = .ok (.newarray .int, 2) := dk_188_10 (dk_at dksX10_init_13 10 rfl rfl)
theorem dX10_init_311 : decode cX10_init 311 = .ok (.putfield 128, 3) := dk_181 0 128 (dk_at dksX10_init_13 12 rfl rfl)
theorem dX10_init_314 : decode cX10_init 314 = .ok (.aload_n 0, 1) := dk_42 (dk_at dksX10_init_13 15 rfl rfl)
theorem dX10_init_315 : decode cX10_init 315 = .ok (.bipush 36, 2) := dk_16 36 (dk_at dksX10_init_13 16 rfl rfl)
theorem dX10_init_317 : decode cX10_init 317 = .ok (.newarray .int, 2) := dk_188_10 (dk_at dksX10_init_13 18 rfl rfl)
theorem dX10_init_319 : decode cX10_init 319 = .ok (.putfield 131, 3) := dk_181 0 131 (dk_at dksX10_init_13 20 rfl rfl)
theorem dX10_init_322 : decode cX10_init 322 = .ok (.aload_n 0, 1) := dk_42 (dk_at dksX10_init_13 23 rfl rfl)
theorem dX10_init_323 : decode cX10_init 323 = .ok (.bipush 36, 2) := dk_16 36 (dk_at dksX10_init_14 0 rfl rfl)
theorem dX10_init_325 : decode cX10_init 325 = .ok (.newarray .int, 2) := dk_188_10 (dk_at dksX10_init_14 2 rfl rfl)
theorem dX10_init_327 : decode cX10_init 327 = .ok (.putfield 134, 3) := dk_181 0 134 (dk_at dksX10_init_14 4 rfl rfl)
theorem dX10_init_330 : decode cX10_init 330 = .ok (.aload_n 0, 1) := dk_42 (dk_at dksX10_init_14 7 rfl rfl)
theorem dX10_init_331 : decode cX10_init 331 = .ok (.bipush 6, 2) := dk_16 6 (dk_at dksX10_init_14 8 rfl rfl)
theorem dX10_init_333 : decode cX10_init 333 = .ok (.newarray .int, 2) := dk_188_10 (dk_at dksX10_init_14 10 rfl rfl)
theorem dX10_init_335 : decode cX10_init 335 = .ok (.putfield 137, 3) := dk_181 0 137 (dk_at dksX10_init_14 12 rfl rfl)
theorem dX10_init_338 : decode cX10_init 338 = .ok (.aload_n 0, 1) := dk_42 (dk_at dksX10_init_14 15 rfl rfl)
theorem dX10_init_339 : decode cX10_init 339 = .ok (.bipush 6, 2) := dk_16 6 (dk_at dksX10_init_14 16 rfl rfl)
theorem dX10_init_341 : decode cX10_init 341 = .ok (.newarray .int, 2) := dk_188_10 (dk_at dksX10_init_14 18 rfl rfl)
theorem dX10_init_343 : decode cX10_init 343 = .ok (.putfield 140, 3) := dk_181 0 140 (dk_at dksX10_init_14 20 rfl rfl)
theorem dX10_init_346 : decode cX10_init 346 = .ok (.aload_n 0, 1) := dk_42 (dk_at dksX10_init_14 23 rfl rfl)
theorem dX10_init_347 : decode cX10_init 347 = .ok (.bipush 20, 2) := dk_16 20 (dk_at dksX10_init_15 0 rfl rfl)
theorem dX10_init_349 : decode cX10_init 349 = .ok (.newarray .int, 2) := dk_188_10 (dk_at dksX10_init_15 2 rfl rfl)
theorem dX10_init_351 : decode cX10_init 351 = .ok (.putfield 143, 3) := dk_181 0 143 (dk_at dksX10_init_15 4 rfl rfl)
theorem dX10_init_354 : decode cX10_init 354 = .ok (.aload_n 0, 1) := dk_42 (dk_at dksX10_init_15 7 rfl rfl)
theorem dX10_init_355 : decode cX10_init 355 = .ok (.bipush 20, 2) := dk_16 20 (dk_at dksX10_init_15 8 rfl rfl)
theorem dX10_init_357 : decode cX10_init 357 = .ok (.newarray .int, 2) := dk_188_10 (dk_at dksX10_init_15 10 rfl rfl)
theorem dX10_init_359 : decode cX10_init 359 = .ok (.putfield 146, 3) := dk_181 0 146 (dk_at dksX10_init_15 12 rfl rfl)
theorem dX10_init_362 : decode cX10_init 362 = .ok (.aload_n 0, 1) := dk_42 (dk_at dksX10_init_15 15 rfl rfl)
theorem dX10_init_363 : decode cX10_init 363 = .ok (.bipush 20, 2) := dk_16 20 (dk_at dksX10_init_15 16 rfl rfl)
theorem dX10_init_365 : decode cX10_init 365 = .ok (.newarray .boolean, 2) := dk_188_4 (dk_at dksX10_init_15 18 rfl rfl)
theorem dX10_init_367 : decode cX10_init 367 = .ok (.putfield 149, 3) := dk_181 0 149 (dk_at dksX10_init_15 20 rfl rfl)
theorem dX10_init_370 : decode cX10_init 370 = .ok (.aload_n 0, 1) := dk_42 (dk_at dksX10_init_15 23 rfl rfl)
theorem dX10_init_371 : decode cX10_init 371 = .ok (.bipush 6, 2) := dk_16 6 (dk_at dksX10_init_16 0 rfl rfl)
theorem dX10_init_373 : decode cX10_init 373 = .ok (.newarray .int, 2) := dk_188_10 (dk_at dksX10_init_16 2 rfl rfl)
theorem dX10_init_375 : decode cX10_init 375 = .ok (.putfield 152, 3) := dk_181 0 152 (dk_at dksX10_init_16 4 rfl rfl)
theorem dX10_init_378 : decode cX10_init 378 = .ok (.aload_n 0, 1) := dk_42 (dk_at dksX10_init_16 7 rfl rfl)
theorem dX10_init_379 : decode cX10_init 379 = .ok (.bipush 6, 2) := dk_16 6 (dk_at dksX10_init_16 8 rfl rfl)
theorem dX10_init_381 : decode cX10_init 381 = .ok (.newarray .int, 2) := dk_188_10 (dk_at dksX10_init_16 10 rfl rfl)
theorem dX10_init_383 : decode cX10_init 383 = .ok (.putfield 155, 3) := dk_181 0 155 (dk_at dksX10_init_16 12 rfl rfl)
theorem dX10_init_386 : decode cX10_init 386 = .ok (.aload_n 0, 1) := dk_42 (dk_at dksX10_init_16 15 rfl rfl)
theorem dX10_init_387 : decode cX10_init 387 = .ok (.iconst 3, 1) := dk_6 (dk_at dksX10_init_16 16 rfl rfl)
theorem dX10_init_388 : decode cX10_init 388 = .ok (.newarray .boolean, 2) := dk_188_4 (dk_at dksX10_init_16 17 rfl rfl)
theorem dX10_init_390 : decode cX10_init 390 = .ok (.putfield 158, 3) := dk_181 0 158 (dk_at dksX10_init_16 19 rfl rfl)
theorem dX10_init_393 : decode cX10_init 393 = .ok (.aload_n 0, 1) := dk_42 (dk_at dksX10_init_16 22 rfl rfl)
theorem dX10_init_394 : decode cX10_init 394 = .ok (.bipush 99, 2) := dk_16 99 (dk_at dksX10_init_17 0 rfl rfl)
theorem dX10_init_396 : decode cX10_init 396 = .ok (.newarray .int, 2) := dk_188_10 (dk_at dksX10_init_17 2 rfl rfl)
theorem dX10_init_398 : decode cX10_init 398 = .ok (.putfield 161, 3) := dk_181 0 161 (dk_at dksX10_init_17 4 rfl rfl)
theorem dX10_init_401 : decode cX10_init 401 = .ok (.aload_n 0, 1) := dk_42 (dk_at dksX10_init_17 7 rfl rfl)
theorem dX10_init_402 : decode cX10_init 402 = .ok (.iconst 0, 1) := dk_3 (dk_at dksX10_init_17 8 rfl rfl)
theorem dX10_init_403 : decode cX10_init 403 = .ok (.invokevirtual 164, 3) := dk_182 0 164 (dk_at dksX10_init_17 9 rfl rfl)
theorem dX10_init_406 : decode cX10_init 406 = .ok (.aload_n 0, 1) := dk_42 (dk_at dksX10_init_17 12 rfl rfl)
theorem dX10_init_407 : decode cX10_init 407 = .ok (.iconst 1, 1) := dk_4 (dk_at dksX10_init_17 13 rfl rfl)
theorem dX10_init_408 : decode cX10_init 408 = .ok (.invokevirtual 164, 3) := dk_182 0 164 (dk_at dksX10_init_17 14 rfl rfl)
theorem dX10_init_411 : decode cX10_init 411 = .ok (.aload_n 0, 1) := dk_42 (dk_at dksX10_init_17 17 rfl rfl)
theorem dX10_init_412 : decode cX10_init 412 = .ok (.getfield 34, 3) := dk_180 0 34 (dk_at dksX10_init_17 18 rfl rfl)
theorem dX10_init_415 : decode cX10_init 415 = .ok (.iconst 0, 1) := dk_3 (dk_at dksX10_init_17 21 rfl rfl)
theorem dX10_init_416 : decode cX10_init 416 = .ok (.bipush 104, 2) := dk_16 104 (dk_at dksX10_init_17 22 rfl rfl)
theorem dX10_init_418 : decode cX10_init 418 = .ok (.bipush 111, 2) := dk_16 111 (dk_at dksX10_init_18 0 rfl rfl)
theorem dX10_init_420 : decode cX10_init 420 = .ok (.bipush 117, 2) := dk_16 117 (dk_at dksX10_init_18 2 rfl rfl)
theorem dX10_init_422 : decode cX10_init 422 = .ok (.bipush 115, 2) := dk_16 115 (dk_at dksX10_init_18 4 rfl rfl)
theorem dX10_init_424 : decode cX10_init 424 = .ok (.bipush 101, 2) := dk_16 101 (dk_at dksX10_init_18 6 rfl rfl)
theorem dX10_init_426 : decode cX10_init 426 = .ok (.iconst 0, 1) := dk_3 (dk_at dksX10_init_18 8 rfl rfl)
theorem dX10_init_427 : decode cX10_init 427 = .ok (.iconst 0, 1) := dk_3 (dk_at dksX10_init_18 9 rfl rfl)
theorem dX10_init_428 : decode cX10_init 428 = .ok (.invokestatic 168, 3) := dk_184 0 168 (dk_at dksX10_init_18 10 rfl rfl)
theorem dX10_init_431 : decode cX10_init 431 = .ok (.lastore, 1) := dk_80 (dk_at dksX10_init_18 13 rfl rfl)
theorem dX10_init_432 : decode cX10_init 432 = .ok (.aload_n 0, 1) := dk_42 (dk_at dksX10_init_18 14 rfl rfl)
theorem dX10_init_433 : decode cX10_init 433 = .ok (.getfield 34, 3) := dk_180 0 34 (dk_at dksX10_init_18 15 rfl rfl)
theorem dX10_init_436 : decode cX10_init 436 = .ok (.iconst 1, 1) := dk_4 (dk_at dksX10_init_18 18 rfl rfl)
theorem dX10_init_437 : decode cX10_init 437 = .ok (.bipush 108, 2) := dk_16 108 (dk_at dksX10_init_18 19 rfl rfl)
theorem dX10_init_439 : decode cX10_init 439 = .ok (.bipush 105, 2) := dk_16 105 (dk_at dksX10_init_18 21 rfl rfl)
theorem dX10_init_441 : decode cX10_init 441 = .ok (.bipush 107, 2) := dk_16 107 (dk_at dksX10_init_19 0 rfl rfl)
theorem dX10_init_443 : decode cX10_init 443 = .ok (.bipush 101, 2) := dk_16 101 (dk_at dksX10_init_19 2 rfl rfl)
theorem dX10_init_445 : decode cX10_init 445 = .ok (.bipush 115, 2) := dk_16 115 (dk_at dksX10_init_19 4 rfl rfl)
theorem dX10_init_447 : decode cX10_init 447 = .ok (.iconst 0, 1) := dk_3 (dk_at dksX10_init_19 6 rfl rfl)
theorem dX10_init_448 : decode cX10_init 448 = .ok (.iconst 0, 1) := dk_3 (dk_at dksX10_init_19 7 rfl rfl)
theorem dX10_init_449 : decode cX10_init 449 = .ok (.invokestatic 168, 3) := dk_184 0 168 (dk_at dksX10_init_19 8 rfl rfl)
theorem dX10_init_452 : decode cX10_init 452 = .ok (.lastore, 1) := dk_80 (dk_at dksX10_init_19 11 rfl rfl)
theorem dX10_init_453 : decode cX10_init 453 = .ok (.aload_n 0, 1) := dk_42 (dk_at dksX10_init_19 12 rfl rfl)
theorem dX10_init_454 : decode cX10_init 454 = .ok (.getfield 34, 3) := dk_180 0 34 (dk_at dksX10_init_19 13 rfl rfl)
theorem dX10_init_457 : decode cX10_init 457 = .ok (.iconst 2, 1) := dk_5 (dk_at dksX10_init_19 16 rfl rfl)
theorem dX10_init_458 : decode cX10_init 458 = .ok (.bipush 119, 2) := dk_16 119 (dk_at dksX10_init_19 17 rfl rfl)
theorem dX10_init_460 : decode cX10_init 460 = .ok (.bipush 101, 2) := dk_16 101 (dk_at dksX10_init_19 19 rfl rfl)
theorem dX10_init_462 : decode cX10_init 462 = .ok (.bipush 108, 2) := dk_16 108 (dk_at dksX10_init_19 21 rfl rfl)
theorem dX10_init_464 : decode cX10_init 464 = .ok (.bipush 108, 2) := dk_16 108 (dk_at dksX10_init_20 0 rfl rfl)
theorem dX10_init_466 : decode cX10_init 466 = .ok (.iconst 0, 1) := dk_3 (dk_at dksX10_init_20 2 rfl rfl)
theorem dX10_init_467 : decode cX10_init 467 = .ok (.iconst 0, 1) := dk_3 (dk_at dksX10_init_20 3 rfl rfl)
theorem dX10_init_468 : decode cX10_init 468 = .ok (.iconst 0, 1) := dk_3 (dk_at dksX10_init_20 4 rfl rfl)
theorem dX10_init_469 : decode cX10_init 469 = .ok (.invokestatic 168, 3) := dk_184 0 168 (dk_at dksX10_init_20 5 rfl rfl)
theorem dX10_init_472 : decode cX10_init 472 = .ok (.lastore, 1) := dk_80 (dk_at dksX10_init_20 8 rfl rfl)
theorem dX10_init_473 : decode cX10_init 473 = .ok (.aload_n 0, 1) := dk_42 (dk_at dksX10_init_20 9 rfl rfl)
theorem dX10_init_474 : decode cX10_init 474 = .ok (.getfield 34, 3) := dk_180 0 34 (dk_at dksX10_init_20 10 rfl rfl)
theorem dX10_init_477 : decode cX10_init 477 = .ok (.iconst 3, 1) := dk_6 (dk_at dksX10_init_20 13 rfl rfl)
theorem dX10_init_478 : decode cX10_init 478 = .ok (.bipush 119, 2) := dk_16 119 (dk_at dksX10_init_20 14 rfl rfl)
theorem dX10_init_480 : decode cX10_init 480 = .ok (.bipush 97, 2) := dk_16 97 (dk_at dksX10_init_20 16 rfl rfl)
theorem dX10_init_482 : decode cX10_init 482 = .ok (.bipush 116, 2) := dk_16 116 (dk_at dksX10_init_20 18 rfl rfl)
theorem dX10_init_484 : decode cX10_init 484 = .ok (.bipush 101, 2) := dk_16 101 (dk_at dksX10_init_20 20 rfl rfl)
theorem dX10_init_486 : decode cX10_init 486 = .ok (.bipush 114, 2) := dk_16 114 (dk_at dksX10_init_20 22 rfl rfl)
theorem dX10_init_488 : decode cX10_init 488 = .ok (.iconst 0, 1) := dk_3 (dk_at dksX10_init_21 0 rfl rfl)
theorem dX10_init_489 : decode cX10_init 489 = .ok (.iconst 0, 1) := dk_3 (dk_at dksX10_init_21 1 rfl rfl)
theorem dX10_init_490 : decode cX10_init 490 = .ok (.invokestatic 168, 3) := dk_184 0 168 (dk_at dksX10_init_21 2 rfl rfl)
theorem dX10_init_493 : decode cX10_init 493 = .ok (.lastore, 1) := dk_80 (dk_at dksX10_init_21 5 rfl rfl)
theorem dX10_init_494 : decode cX10_init 494 = .ok (.aload_n 0, 1) := dk_42 (dk_at dksX10_init_21 6 rfl rfl)
theorem dX10_init_495 : decode cX10_init 495 = .ok (.getfield 34, 3) := dk_180 0 34 (dk_at dksX10_init_21 7 rfl rfl)
theorem dX10_init_498 : decode cX10_init 498 = .ok (.iconst 4, 1) := dk_7 (dk_at dksX10_init_21 10 rfl rfl)
theorem dX10_init_499 : decode cX10_init 499 = .ok (.bipush 103, 2) := dk_16 103 (dk_at dksX10_init_21 11 rfl rfl)
theorem dX10_init_501 : decode cX10_init 501 = .ok (.bipush 114, 2) := dk_16 114 (dk_at dksX10_init_21 13 rfl rfl)
theorem dX10_init_503 : decode cX10_init 503 = .ok (.bipush 111, 2) := dk_16 111 (dk_at dksX10_init_21 15 rfl rfl)
theorem dX10_init_505 : decode cX10_init 505 = .ok (.bipush 119, 2) := dk_16 119 (dk_at dksX10_init_21 17 rfl rfl)
theorem dX10_init_507 : decode cX10_init 507 = .ok (.bipush 115, 2) := dk_16 115 (dk_at dksX10_init_21 19 rfl rfl)
theorem dX10_init_509 : decode cX10_init 509 = .ok (.iconst 0, 1) := dk_3 (dk_at dksX10_init_21 21 rfl rfl)
theorem dX10_init_510 : decode cX10_init 510 = .ok (.iconst 0, 1) := dk_3 (dk_at dksX10_init_21 22 rfl rfl)
theorem dX10_init_511 : decode cX10_init 511 = .ok (.invokestatic 168, 3) := dk_184 0 168 (dk_at dksX10_init_22 0 rfl rfl)
theorem dX10_init_514 : decode cX10_init 514 = .ok (.lastore, 1) := dk_80 (dk_at dksX10_init_22 3 rfl rfl)
theorem dX10_init_515 : decode cX10_init 515 = .ok (.aload_n 0, 1) := dk_42 (dk_at dksX10_init_22 4 rfl rfl)
theorem dX10_init_516 : decode cX10_init 516 = .ok (.getfield 34, 3) := dk_180 0 34 (dk_at dksX10_init_22 5 rfl rfl)
theorem dX10_init_519 : decode cX10_init 519 = .ok (.iconst 5, 1) := dk_8 (dk_at dksX10_init_22 8 rfl rfl)
theorem dX10_init_520 : decode cX10_init 520 = .ok (.bipush 119, 2) := dk_16 119 (dk_at dksX10_init_22 9 rfl rfl)
theorem dX10_init_522 : decode cX10_init 522 = .ok (.bipush 101, 2) := dk_16 101 (dk_at dksX10_init_22 11 rfl rfl)
theorem dX10_init_524 : decode cX10_init 524 = .ok (.bipush 97, 2) := dk_16 97 (dk_at dksX10_init_22 13 rfl rfl)
theorem dX10_init_526 : decode cX10_init 526 = .ok (.bipush 107, 2) := dk_16 107 (dk_at dksX10_init_22 15 rfl rfl)
theorem dX10_init_528 : decode cX10_init 528 = .ok (.bipush 101, 2) := dk_16 101 (dk_at dksX10_init_22 17 rfl rfl)
theorem dX10_init_530 : decode cX10_init 530 = .ok (.bipush 110, 2) := dk_16 110 (dk_at dksX10_init_22 19 rfl rfl)
theorem dX10_init_532 : decode cX10_init 532 = .ok (.bipush 115, 2) := dk_16 115 (dk_at dksX10_init_22 21 rfl rfl)
theorem dX10_init_534 : decode cX10_init 534 = .ok (.invokestatic 168, 3) := dk_184 0 168 (dk_at dksX10_init_23 0 rfl rfl)
theorem dX10_init_537 : decode cX10_init 537 = .ok (.lastore, 1) := dk_80 (dk_at dksX10_init_23 3 rfl rfl)
theorem dX10_init_538 : decode cX10_init 538 = .ok (.aload_n 0, 1) := dk_42 (dk_at dksX10_init_23 4 rfl rfl)
theorem dX10_init_539 : decode cX10_init 539 = .ok (.getfield 34, 3) := dk_180 0 34 (dk_at dksX10_init_23 5 rfl rfl)
theorem dX10_init_542 : decode cX10_init 542 = .ok (.bipush 6, 2) := dk_16 6 (dk_at dksX10_init_23 8 rfl rfl)
theorem dX10_init_544 : decode cX10_init 544 = .ok (.bipush 106, 2) := dk_16 106 (dk_at dksX10_init_23 10 rfl rfl)
theorem dX10_init_546 : decode cX10_init 546 = .ok (.bipush 111, 2) := dk_16 111 (dk_at dksX10_init_23 12 rfl rfl)
theorem dX10_init_548 : decode cX10_init 548 = .ok (.bipush 105, 2) := dk_16 105 (dk_at dksX10_init_23 14 rfl rfl)
theorem dX10_init_550 : decode cX10_init 550 = .ok (.bipush 110, 2) := dk_16 110 (dk_at dksX10_init_23 16 rfl rfl)
theorem dX10_init_552 : decode cX10_init 552 = .ok (.bipush 115, 2) := dk_16 115 (dk_at dksX10_init_23 18 rfl rfl)
theorem dX10_init_554 : decode cX10_init 554 = .ok (.iconst 0, 1) := dk_3 (dk_at dksX10_init_23 20 rfl rfl)
theorem dX10_init_555 : decode cX10_init 555 = .ok (.iconst 0, 1) := dk_3 (dk_at dksX10_init_23 21 rfl rfl)
theorem dX10_init_556 : decode cX10_init 556 = .ok (.invokestatic 168, 3) := dk_184 0 168 (dk_at dksX10_init_24 0 rfl rfl)
theorem dX10_init_559 : decode cX10_init 559 = .ok (.lastore, 1) := dk_80 (dk_at dksX10_init_24 3 rfl rfl)
theorem dX10_init_560 : decode cX10_init 560 = .ok (.aload_n 0, 1) := dk_42 (dk_at dksX10_init_24 4 rfl rfl)
theorem dX10_init_561 : decode cX10_init 561 = .ok (.getfield 34, 3) := dk_180 0 34 (dk_at dksX10_init_24 5 rfl rfl)
theorem dX10_init_564 : decode cX10_init 564 = .ok (.bipush 7, 2) := dk_16 7 (dk_at dksX10_init_24 8 rfl rfl)
theorem dX10_init_566 : decode cX10_init 566 = .ok (.bipush 99, 2) := dk_16 99 (dk_at dksX10_init_24 10 rfl rfl)
theorem dX10_init_568 : decode cX10_init 568 = .ok (.bipush 111, 2) := dk_16 111 (dk_at dksX10_init_24 12 rfl rfl)
theorem dX10_init_570 : decode cX10_init 570 = .ok (.bipush 115, 2) := dk_16 115 (dk_at dksX10_init_24 14 rfl rfl)
theorem dX10_init_572 : decode cX10_init 572 = .ok (.bipush 116, 2) := dk_16 116 (dk_at dksX10_init_24 16 rfl rfl)
theorem dX10_init_574 : decode cX10_init 574 = .ok (.bipush 115, 2) := dk_16 115 (dk_at dksX10_init_24 18 rfl rfl)
theorem dX10_init_576 : decode cX10_init 576 = .ok (.iconst 0, 1) := dk_3 (dk_at dksX10_init_24 20 rfl rfl)
theorem dX10_init_577 : decode cX10_init 577 = .ok (.iconst 0, 1) := dk_3 (dk_at dksX10_init_24 21 rfl rfl)
theorem dX10_init_578 : decode cX10_init 578 = .ok (.invokestatic 168, 3) := dk_184 0 168 (dk_at dksX10_init_25 0 rfl rfl)
theorem dX10_init_581 : decode cX10_init 581 = .ok (.lastore, 1) := dk_80 (dk_at dksX10_init_25 3 rfl rfl)
theorem dX10_init_582 : decode cX10_init 582 = .ok (.aload_n 0, 1) := dk_42 (dk_at dksX10_init_25 4 rfl rfl)
theorem dX10_init_583 : decode cX10_init 583 = .ok (.getfield 34, 3) := dk_180 0 34 (dk_at dksX10_init_25 5 rfl rfl)
theorem dX10_init_586 : decode cX10_init 586 = .ok (.bipush 8, 2) := dk_16 8 (dk_at dksX10_init_25 8 rfl rfl)
theorem dX10_init_588 : decode cX10_init 588 = .ok (.bipush 98, 2) := dk_16 98 (dk_at dksX10_init_25 10 rfl rfl)
theorem dX10_init_590 : decode cX10_init 590 = .ok (.bipush 108, 2) := dk_16 108 (dk_at dksX10_init_25 12 rfl rfl)
theorem dX10_init_592 : decode cX10_init 592 = .ok (.bipush 105, 2) := dk_16 105 (dk_at dksX10_init_25 14 rfl rfl)
theorem dX10_init_594 : decode cX10_init 594 = .ok (.bipush 103, 2) := dk_16 103 (dk_at dksX10_init_25 16 rfl rfl)
theorem dX10_init_596 : decode cX10_init 596 = .ok (.bipush 104, 2) := dk_16 104 (dk_at dksX10_init_25 18 rfl rfl)
theorem dX10_init_598 : decode cX10_init 598 = .ok (.bipush 116, 2) := dk_16 116 (dk_at dksX10_init_25 20 rfl rfl)
theorem dX10_init_600 : decode cX10_init 600 = .ok (.iconst 0, 1) := dk_3 (dk_at dksX10_init_25 22 rfl rfl)
theorem dX10_init_601 : decode cX10_init 601 = .ok (.invokestatic 168, 3) := dk_184 0 168 (dk_at dksX10_init_26 0 rfl rfl)
theorem dX10_init_604 : decode cX10_init 604 = .ok (.lastore, 1) := dk_80 (dk_at dksX10_init_26 3 rfl rfl)
theorem dX10_init_605 : decode cX10_init 605 = .ok (.aload_n 0, 1) := dk_42 (dk_at dksX10_init_26 4 rfl rfl)
theorem dX10_init_606 : decode cX10_init 606 = .ok (.getfield 34, 3) := dk_180 0 34 (dk_at dksX10_init_26 5 rfl rfl)
theorem dX10_init_609 : decode cX10_init 609 = .ok (.bipush 9, 2) := dk_16 9 (dk_at dksX10_init_26 8 rfl rfl)
theorem dX10_init_611 : decode cX10_init 611 = .ok (.bipush 115, 2) := dk_16 115 (dk_at dksX10_init_26 10 rfl rfl)
theorem dX10_init_613 : decode cX10_init 613 = .ok (.bipush 101, 2) := dk_16 101 (dk_at dksX10_init_26 12 rfl rfl)
theorem dX10_init_615 : decode cX10_init 615 = .ok (.bipush 101, 2) := dk_16 101 (dk_at dksX10_init_26 14 rfl rfl)
theorem dX10_init_617 : decode cX10_init 617 = .ok (.bipush 100, 2) := dk_16 100 (dk_at dksX10_init_26 16 rfl rfl)
theorem dX10_init_619 : decode cX10_init 619 = .ok (.iconst 0, 1) := dk_3 (dk_at dksX10_init_26 18 rfl rfl)
theorem dX10_init_620 : decode cX10_init 620 = .ok (.iconst 0, 1) := dk_3 (dk_at dksX10_init_26 19 rfl rfl)
theorem dX10_init_621 : decode cX10_init 621 = .ok (.iconst 0, 1) := dk_3 (dk_at dksX10_init_26 20 rfl rfl)
theorem dX10_init_622 : decode cX10_init 622 = .ok (.invokestatic 168, 3) := dk_184 0 168 (dk_at dksX10_init_26 21 rfl rfl)
theorem dX10_init_625 : decode cX10_init 625 = .ok (.lastore, 1) := dk_80 (dk_at dksX10_init_27 0 rfl rfl)
theorem dX10_init_626 : decode cX10_init 626 = .ok (.aload_n 0, 1) := dk_42 (dk_at dksX10_init_27 1 rfl rfl)
theorem dX10_init_627 : decode cX10_init 627 = .ok (.getfield 34, 3) := dk_180 0 34 (dk_at dksX10_init_27 2 rfl rfl)
theorem dX10_init_630 : decode cX10_init 630 = .ok (.bipush 10, 2) := dk_16 10 (dk_at dksX10_init_27 5 rfl rfl)
theorem dX10_init_632 : decode cX10_init 632 = .ok (.bipush 105, 2) := dk_16 105 (dk_at dksX10_init_27 7 rfl rfl)
theorem dX10_init_634 : decode cX10_init 634 = .ok (.bipush 102, 2) := dk_16 102 (dk_at dksX10_init_27 9 rfl rfl)
theorem dX10_init_636 : decode cX10_init 636 = .ok (.iconst 0, 1) := dk_3 (dk_at dksX10_init_27 11 rfl rfl)
theorem dX10_init_637 : decode cX10_init 637 = .ok (.iconst 0, 1) := dk_3 (dk_at dksX10_init_27 12 rfl rfl)
theorem dX10_init_638 : decode cX10_init 638 = .ok (.iconst 0, 1) := dk_3 (dk_at dksX10_init_27 13 rfl rfl)
theorem dX10_init_639 : decode cX10_init 639 = .ok (.iconst 0, 1) := dk_3 (dk_at dksX10_init_27 14 rfl rfl)
theorem dX10_init_640 : decode cX10_init 640 = .ok (.iconst 0, 1) := dk_3 (dk_at dksX10_init_27 15 rfl rfl)
theorem dX10_init_641 : decode cX10_init 641 = .ok (.invokestatic 168, 3) := dk_184 0 168 (dk_at dksX10_init_27 16 rfl rfl)
theorem dX10_init_644 : decode cX10_init 644 = .ok (.lastore, 1) := dk_80 (dk_at dksX10_init_27 19 rfl rfl)
theorem dX10_init_645 : decode cX10_init 645 = .ok (.aload_n 0, 1) := dk_42 (dk_at dksX10_init_27 20 rfl rfl)
theorem dX10_init_646 : decode cX10_init 646 = .ok (.getfield 34, 3) := dk_180 0 34 (dk_at dksX10_init_27 21 rfl rfl)
theorem dX10_init_649 : decode cX10_init 649 = .ok (.bipush 11, 2) := dk_16 11 (dk_at dksX10_init_28 0 rfl rfl)
theorem dX10_init_651 : decode cX10_init 651 = .ok (.bipush 116, 2) := dk_16 116 (dk_at dksX10_init_28 2 rfl rfl)
theorem dX10_init_653 : decode cX10_init 653 = .ok (.bipush 104, 2) := dk_16 104 (dk_at dksX10_init_28 4 rfl rfl)
theorem dX10_init_655 : decode cX10_init 655 = .ok (.bipush 101, 2) := dk_16 101 (dk_at dksX10_init_28 6 rfl rfl)
theorem dX10_init_657 : decode cX10_init 657 = .ok (.bipush 110, 2) := dk_16 110 (dk_at dksX10_init_28 8 rfl rfl)
theorem dX10_init_659 : decode cX10_init 659 = .ok (.iconst 0, 1) := dk_3 (dk_at dksX10_init_28 10 rfl rfl)
theorem dX10_init_660 : decode cX10_init 660 = .ok (.iconst 0, 1) := dk_3 (dk_at dksX10_init_28 11 rfl rfl)
theorem dX10_init_661 : decode cX10_init 661 = .ok (.iconst 0, 1) := dk_3 (dk_at dksX10_init_28 12 rfl rfl)
theorem dX10_init_662 : decode cX10_init 662 = .ok (.invokestatic 168, 3) := dk_184 0 168 (dk_at dksX10_init_28 13 rfl rfl)
theorem dX10_init_665 : decode cX10_init 665 = .ok (.lastore, 1) := dk_80 (dk_at dksX10_init_28 16 rfl rfl)
theorem dX10_init_666 : decode cX10_init 666 = .ok (.aload_n 0, 1) := dk_42 (dk_at dksX10_init_28 17 rfl rfl)
theorem dX10_init_667 : decode cX10_init 667 = .ok (.getfield 34, 3) := dk_180 0 34 (dk_at dksX10_init_28 18 rfl rfl)
theorem dX10_init_670 : decode cX10_init 670 = .ok (.bipush 12, 2) := dk_16 12 (dk_at dksX10_init_28 21 rfl rfl)
theorem dX10_init_672 : decode cX10_init 672 = .ok (.bipush 101, 2) := dk_16 101 (dk_at dksX10_init_29 0 rfl rfl)
theorem dX10_init_674 : decode cX10_init 674 = .ok (.bipush 108, 2) := dk_16 108 (dk_at dksX10_init_29 2 rfl rfl)
theorem dX10_init_676 : decode cX10_init 676 = .ok (.bipush 115, 2) := dk_16 115 (dk_at dksX10_init_29 4 rfl rfl)
theorem dX10_init_678 : decode cX10_init 678 = .ok (.bipush 101, 2) := dk_16 101 (dk_at dksX10_init_29 6 rfl rfl)
theorem dX10_init_680 : decode cX10_init 680 = .ok (.iconst 0, 1) := dk_3 (dk_at dksX10_init_29 8 rfl rfl)
theorem dX10_init_681 : decode cX10_init 681 = .ok (.iconst 0, 1) := dk_3 (dk_at dksX10_init_29 9 rfl rfl)
theorem dX10_init_682 : decode cX10_init 682 = .ok (.iconst 0, 1) := dk_3 (dk_at dksX10_init_29 10 rfl rfl)
theorem dX10_init_683 : decode cX10_init 683 = .ok (.invokestatic 168, 3) := dk_184 0 168 (dk_at dksX10_init_29 11 rfl rfl)
theorem dX10_init_686 : decode cX10_init 686 = .ok (.lastore, 1) := dk_80 (dk_at dksX10_init_29 14 rfl rfl)
theorem dX10_init_687 : decode cX10_init 687 = .ok (.aload_n 0, 1) := dk_42 (dk_at dksX10_init_29 15 rfl rfl)
theorem dX10_init_688 : decode cX10_init 688 = .ok (.getfield 34, 3) := dk_180 0 34 (dk_at dksX10_init_29 16 rfl rfl)
theorem dX10_init_691 : decode cX10_init 691 = .ok (.bipush 13, 2) := dk_16 13 (dk_at dksX10_init_29 19 rfl rfl)
theorem dX10_init_693 : decode cX10_init 693 = .ok (.bipush 104, 2) := dk_16 104 (dk_at dksX10_init_29 21 rfl rfl)
theorem dX10_init_695 : decode cX10_init 695 = .ok (.bipush 97, 2) := dk_16 97 (dk_at dksX10_init_30 0 rfl rfl)
theorem dX10_init_697 : decode cX10_init 697 = .ok (.bipush 105, 2) := dk_16 105 (dk_at dksX10_init_30 2 rfl rfl)
theorem dX10_init_699 : decode cX10_init 699 = .ok (.bipush 114, 2) := dk_16 114 (dk_at dksX10_init_30 4 rfl rfl)
theorem dX10_init_701 : decode cX10_init 701 = .ok (.iconst 0, 1) := dk_3 (dk_at dksX10_init_30 6 rfl rfl)
theorem dX10_init_702 : decode cX10_init 702 = .ok (.iconst 0, 1) := dk_3 (dk_at dksX10_init_30 7 rfl rfl)
theorem dX10_init_703 : decode cX10_init 703 = .ok (.iconst 0, 1) := dk_3 (dk_at dksX10_init_30 8 rfl rfl)
theorem dX10_init_704 : decode cX10_init 704 = .ok (.invokestatic 168, 3) := dk_184 0 168 (dk_at dksX10_init_30 9 rfl rfl)
theorem dX10_init_707 : decode cX10_init 707 = .ok (.lastore, 1) := dk_80 (dk_at dksX10_init_30 12 rfl rfl)
theorem dX10_init_708 : decode cX10_init 708 = .ok (.aload_n 0, 1) := dk_42 (dk_at dksX10_init_30 13 rfl rfl)
theorem dX10_init_709 : decode cX10_init 709 = .ok (.getfield 34, 3) := dk_180 0 34 (dk_at dksX10_init_30 14 rfl rfl)
theorem dX10_init_712 : decode cX10_init 712 = .ok (.bipush 14, 2) := dk_16 14 (dk_at dksX10_init_30 17 rfl rfl)
theorem dX10_init_714 : decode cX10_init 714 = .ok (.bipush 115, 2) := dk_16 115 (dk_at dksX10_init_30 19 rfl rfl)
theorem dX10_init_716 : decode cX10_init 716 = .ok (.bipush 116, 2) := dk_16 116 (dk_at dksX10_init_30 21 rfl rfl)
theorem dX10_init_718 : decode cX10_init 718 = .ok (.bipush 114, 2) := dk_16 114 (dk_at dksX10_init_31 0 rfl rfl)
theorem dX10_init_720 : decode cX10_init 720 = .ok (.bipush 111, 2) := dk_16 111 (dk_at dksX10_init_31 2 rfl rfl)
theorem dX10_init_722 : decode cX10_init 722 = .ok (.bipush 110, 2) := dk_16 110 (dk_at dksX10_init_31 4 rfl rfl)
theorem dX10_init_724 : decode cX10_init 724 = .ok (.bipush 103, 2) := dk_16 103 (dk_at dksX10_init_31 6 rfl rfl)
theorem dX10_init_726 : decode cX10_init 726 = .ok (.iconst 0, 1) := dk_3 (dk_at dksX10_init_31 8 rfl rfl)
theorem dX10_init_727 : decode cX10_init 727 = .ok (.invokestatic 168, 3) := dk_184 0 168 (dk_at dksX10_init_31 9 rfl rfl)
theorem dX10_init_730 : decode cX10_init 730 = .ok (.lastore, 1) := dk_80 (dk_at dksX10_init_31 12 rfl rfl)
theorem dX10_init_731 : decode cX10_init 731 = .ok (.aload_n 0, 1) := dk_42 (dk_at dksX10_init_31 13 rfl rfl)
theorem dX10_init_732 : decode cX10_init 732 = .ok (.getfield 34, 3) := dk_180 0 34 (dk_at dksX10_init_31 14 rfl rfl)
theorem dX10_init_735 : decode cX10_init 735 = .ok (.bipush 15, 2) := dk_16 15 (dk_at dksX10_init_31 17 rfl rfl)
theorem dX10_init_737 : decode cX10_init 737 = .ok (.bipush 108, 2) := dk_16 108 (dk_at dksX10_init_31 19 rfl rfl)
theorem dX10_init_739 : decode cX10_init 739 = .ok (.bipush 105, 2) := dk_16 105 (dk_at dksX10_init_31 21 rfl rfl)
theorem dX10_init_741 : decode cX10_init 741 = .ok (.bipush 107, 2) := dk_16 107 (dk_at dksX10_init_32 0 rfl rfl)
theorem dX10_init_743 : decode cX10_init 743 = .ok (.bipush 101, 2) := dk_16 101 (dk_at dksX10_init_32 2 rfl rfl)
theorem dX10_init_745 : decode cX10_init 745 = .ok (.iconst 0, 1) := dk_3 (dk_at dksX10_init_32 4 rfl rfl)
theorem dX10_init_746 : decode cX10_init 746 = .ok (.iconst 0, 1) := dk_3 (dk_at dksX10_init_32 5 rfl rfl)
theorem dX10_init_747 : decode cX10_init 747 = .ok (.iconst 0, 1) := dk_3 (dk_at dksX10_init_32 6 rfl rfl)
theorem dX10_init_748 : decode cX10_init 748 = .ok (.invokestatic 168, 3) := dk_184 0 168 (dk_at dksX10_init_32 7 rfl rfl)
theorem dX10_init_751 : decode cX10_init 751 = .ok (.lastore, 1) := dk_80 (dk_at dksX10_init_32 10 rfl rfl)
theorem dX10_init_752 : decode cX10_init 752 = .ok (.aload_n 0, 1) := dk_42 (dk_at dksX10_init_32 11 rfl rfl)
theorem dX10_init_753 : decode cX10_init 753 = .ok (.getfield 34, 3) := dk_180 0 34 (dk_at dksX10_init_32 12 rfl rfl)
theorem dX10_init_756 : decode cX10_init 756 = .ok (.bipush 16, 2) := dk_16 16 (dk_at dksX10_init_32 15 rfl rfl)
theorem dX10_init_758 : decode cX10_init 758 = .ok (.bipush 121, 2) := dk_16 121 (dk_at dksX10_init_32 17 rfl rfl)
theorem dX10_init_760 : decode cX10_init 760 = .ok (.bipush 101, 2) := dk_16 101 (dk_at dksX10_init_32 19 rfl rfl)
theorem dX10_init_762 : decode cX10_init 762 = .ok (.bipush 97, 2) := dk_16 97 (dk_at dksX10_init_32 21 rfl rfl)
theorem dX10_init_764 : decode cX10_init 764 = .ok (.bipush 114, 2) := dk_16 114 (dk_at dksX10_init_33 0 rfl rfl)
theorem dX10_init_766 : decode cX10_init 766 = .ok (.iconst 0, 1) := dk_3 (dk_at dksX10_init_33 2 rfl rfl)
theorem dX10_init_767 : decode cX10_init 767 = .ok (.iconst 0, 1) := dk_3 (dk_at dksX10_init_33 3 rfl rfl)
theorem dX10_init_768 : decode cX10_init 768 = .ok (.iconst 0, 1) := dk_3 (dk_at dksX10_init_33 4 rfl rfl)
theorem dX10_init_769 : decode cX10_init 769 = .ok (.invokestatic 168, 3) := dk_184 0 168 (dk_at dksX10_init_33 5 rfl rfl)
theorem dX10_init_772 : decode cX10_init 772 = .ok (.lastore, 1) := dk_80 (dk_at dksX10_init_33 8 rfl rfl)
theorem dX10_init_773 : decode cX10_init 773 = .ok (.aload_n 0, 1) := dk_42 (dk_at dksX10_init_33 9 rfl rfl)
theorem dX10_init_774 : decode cX10_init 774 = .ok (.getfield 34, 3) := dk_180 0 34 (dk_at dksX10_init_33 10 rfl rfl)
theorem dX10_init_777 : decode cX10_init 777 = .ok (.bipush 17, 2) := dk_16 17 (dk_at dksX10_init_33 13 rfl rfl)
theorem dX10_init_779 : decode cX10_init 779 = .ok (.bipush 112, 2) := dk_16 112 (dk_at dksX10_init_33 15 rfl rfl)
theorem dX10_init_781 : decode cX10_init 781 = .ok (.bipush 108, 2) := dk_16 108 (dk_at dksX10_init_33 17 rfl rfl)
theorem dX10_init_783 : decode cX10_init 783 = .ok (.bipush 97, 2) := dk_16 97 (dk_at dksX10_init_33 19 rfl rfl)
theorem dX10_init_785 : decode cX10_init 785 = .ok (.bipush 99, 2) := dk_16 99 (dk_at dksX10_init_33 21 rfl rfl)
theorem dX10_init_787 : decode cX10_init 787 = .ok (.bipush 101, 2) := dk_16 101 (dk_at dksX10_init_34 0 rfl rfl)
theorem dX10_init_789 : decode cX10_init 789 = .ok (.iconst 0, 1) := dk_3 (dk_at dksX10_init_34 2 rfl rfl)
theorem dX10_init_790 : decode cX10_init 790 = .ok (.iconst 0, 1) := dk_3 (dk_at dksX10_init_34 3 rfl rfl)
theorem dX10_init_791 : decode cX10_init 791 = .ok (.invokestatic 168, 3) := dk_184 0 168 (dk_at dksX10_init_34 4 rfl rfl)
theorem dX10_init_794 : decode cX10_init 794 = .ok (.lastore, 1) := dk_80 (dk_at dksX10_init_34 7 rfl rfl)
theorem dX10_init_795 : decode cX10_init 795 = .ok (.aload_n 0, 1) := dk_42 (dk_at dksX10_init_34 8 rfl rfl)
theorem dX10_init_796 : decode cX10_init 796 = .ok (.getfield 34, 3) := dk_180 0 34 (dk_at dksX10_init_34 9 rfl rfl)
theorem dX10_init_799 : decode cX10_init 799 = .ok (.bipush 18, 2) := dk_16 18 (dk_at dksX10_init_34 12 rfl rfl)
theorem dX10_init_801 : decode cX10_init 801 = .ok (.bipush 119, 2) := dk_16 119 (dk_at dksX10_init_34 14 rfl rfl)
theorem dX10_init_803 : decode cX10_init 803 = .ok (.bipush 104, 2) := dk_16 104 (dk_at dksX10_init_34 16 rfl rfl)
theorem dX10_init_805 : decode cX10_init 805 = .ok (.bipush 105, 2) := dk_16 105 (dk_at dksX10_init_34 18 rfl rfl)
theorem dX10_init_807 : decode cX10_init 807 = .ok (.bipush 99, 2) := dk_16 99 (dk_at dksX10_init_34 20 rfl rfl)
theorem dX10_init_809 : decode cX10_init 809 = .ok (.bipush 104, 2) := dk_16 104 (dk_at dksX10_init_34 22 rfl rfl)
theorem dX10_init_811 : decode cX10_init 811 = .ok (.iconst 0, 1) := dk_3 (dk_at dksX10_init_35 0 rfl rfl)
theorem dX10_init_812 : decode cX10_init 812 = .ok (.iconst 0, 1) := dk_3 (dk_at dksX10_init_35 1 rfl rfl)
theorem dX10_init_813 : decode cX10_init 813 = .ok (.invokestatic 168, 3) := dk_184 0 168 (dk_at dksX10_init_35 2 rfl rfl)
theorem dX10_init_816 : decode cX10_init 816 = .ok (.lastore, 1) := dk_80 (dk_at dksX10_init_35 5 rfl rfl)
theorem dX10_init_817 : decode cX10_init 817 = .ok (.aload_n 0, 1) := dk_42 (dk_at dksX10_init_35 6 rfl rfl)
theorem dX10_init_818 : decode cX10_init 818 = .ok (.getfield 34, 3) := dk_180 0 34 (dk_at dksX10_init_35 7 rfl rfl)
theorem dX10_init_821 : decode cX10_init 821 = .ok (.bipush 19, 2) := dk_16 19 (dk_at dksX10_init_35 10 rfl rfl)
theorem dX10_init_823 : decode cX10_init 823 = .ok (.bipush 115, 2) := dk_16 115 (dk_at dksX10_init_35 12 rfl rfl)
theorem dX10_init_825 : decode cX10_init 825 = .ok (.bipush 112, 2) := dk_16 112 (dk_at dksX10_init_35 14 rfl rfl)
theorem dX10_init_827 : decode cX10_init 827 = .ok (.bipush 108, 2) := dk_16 108 (dk_at dksX10_init_35 16 rfl rfl)
theorem dX10_init_829 : decode cX10_init 829 = .ok (.bipush 105, 2) := dk_16 105 (dk_at dksX10_init_35 18 rfl rfl)
theorem dX10_init_831 : decode cX10_init 831 = .ok (.bipush 99, 2) := dk_16 99 (dk_at dksX10_init_35 20 rfl rfl)
theorem dX10_init_833 : decode cX10_init 833 = .ok (.bipush 101, 2) := dk_16 101 (dk_at dksX10_init_35 22 rfl rfl)
theorem dX10_init_835 : decode cX10_init 835 = .ok (.bipush 100, 2) := dk_16 100 (dk_at dksX10_init_36 0 rfl rfl)
theorem dX10_init_837 : decode cX10_init 837 = .ok (.invokestatic 168, 3) := dk_184 0 168 (dk_at dksX10_init_36 2 rfl rfl)
theorem dX10_init_840 : decode cX10_init 840 = .ok (.lastore, 1) := dk_80 (dk_at dksX10_init_36 5 rfl rfl)
theorem dX10_init_841 : decode cX10_init 841 = .ok (.aload_n 0, 1) := dk_42 (dk_at dksX10_init_36 6 rfl rfl)
theorem dX10_init_842 : decode cX10_init 842 = .ok (.getfield 34, 3) := dk_180 0 34 (dk_at dksX10_init_36 7 rfl rfl)
theorem dX10_init_845 : decode cX10_init 845 = .ok (.bipush 20, 2) := dk_16 20 (dk_at dksX10_init_36 10 rfl rfl)
theorem dX10_init_847 : decode cX10_init 847 = .ok (.bipush 103, 2) := dk_16 103 (dk_at dksX10_init_36 12 rfl rfl)
theorem dX10_init_849 : decode cX10_init 849 = .ok (.bipush 105, 2) := dk_16 105 (dk_at dksX10_init_36 14 rfl rfl)
theorem dX10_init_851 : decode cX10_init 851 = .ok (.bipush 118, 2) := dk_16 118 (dk_at dksX10_init_36 16 rfl rfl)
theorem dX10_init_853 : decode cX10_init 853 = .ok (.bipush 101, 2) := dk_16 101 (dk_at dksX10_init_36 18 rfl rfl)
theorem dX10_init_855 : decode cX10_init 855 = .ok (.bipush 110, 2) := dk_16 110 (dk_at dksX10_init_36 20 rfl rfl)
theorem dX10_init_857 : decode cX10_init 857 = .ok (.iconst 0, 1) := dk_3 (dk_at dksX10_init_36 22 rfl rfl)
theorem dX10_init_858 : decode cX10_init 858 = .ok (.iconst 0, 1) := dk_3 (dk_at dksX10_init_36 23 rfl rfl)
theorem dX10_init_859 : decode cX10_init 859 = .ok (.invokestatic 168, 3) := dk_184 0 168 (dk_at dksX10_init_37 0 rfl rfl)
theorem dX10_init_862 : decode cX10_init 862 = .ok (.lastore, 1) := dk_80 (dk_at dksX10_init_37 3 rfl rfl)
theorem dX10_init_863 : decode cX10_init 863 = .ok (.aload_n 0, 1) := dk_42 (dk_at dksX10_init_37 4 rfl rfl)
theorem dX10_init_864 : decode cX10_init 864 = .ok (.getfield 34, 3) := dk_180 0 34 (dk_at dksX10_init_37 5 rfl rfl)
theorem dX10_init_867 : decode cX10_init 867 = .ok (.bipush 21, 2) := dk_16 21 (dk_at dksX10_init_37 8 rfl rfl)
theorem dX10_init_869 : decode cX10_init 869 = .ok (.bipush 111, 2) := dk_16 111 (dk_at dksX10_init_37 10 rfl rfl)
theorem dX10_init_871 : decode cX10_init 871 = .ok (.bipush 116, 2) := dk_16 116 (dk_at dksX10_init_37 12 rfl rfl)
theorem dX10_init_873 : decode cX10_init 873 = .ok (.bipush 104, 2) := dk_16 104 (dk_at dksX10_init_37 14 rfl rfl)
theorem dX10_init_875 : decode cX10_init 875 = .ok (.bipush 101, 2) := dk_16 101 (dk_at dksX10_init_37 16 rfl rfl)
theorem dX10_init_877 : decode cX10_init 877 = .ok (.bipush 114, 2) := dk_16 114 (dk_at dksX10_init_37 18 rfl rfl)
theorem dX10_init_879 : decode cX10_init 879 = .ok (.iconst 0, 1) := dk_3 (dk_at dksX10_init_37 20 rfl rfl)
theorem dX10_init_880 : decode cX10_init 880 = .ok (.iconst 0, 1) := dk_3 (dk_at dksX10_init_37 21 rfl rfl)
theorem dX10_init_881 : decode cX10_init 881 = .ok (.invokestatic 168, 3) := dk_184 0 168 (dk_at dksX10_init_38 0 rfl rfl)
theorem dX10_init_884 : decode cX10_init 884 = .ok (.lastore, 1) := dk_80 (dk_at dksX10_init_38 3 rfl rfl)
theorem dX10_init_885 : decode cX10_init 885 = .ok (.aload_n 0, 1) := dk_42 (dk_at dksX10_init_38 4 rfl rfl)
theorem dX10_init_886 : decode cX10_init 886 = .ok (.invokevirtual 172, 3) := dk_182 0 172 (dk_at dksX10_init_38 5 rfl rfl)
theorem dX10_init_889 : decode cX10_init 889 = .ok (.aload_n 0, 1) := dk_42 (dk_at dksX10_init_38 8 rfl rfl)
theorem dX10_init_890 : decode cX10_init 890 = .ok (.invokevirtual 175, 3) := dk_182 0 175 (dk_at dksX10_init_38 9 rfl rfl)
theorem dX10_init_893 : decode cX10_init 893 = .ok (.return_, 1) := dk_177 (dk_at dksX10_init_38 12 rfl rfl)
def dkwX10_plain_4 : List UInt8 := [28, 96, 3, 79, 132, 2, 1, 167, 255, 226, 177]
abbrev dktX10_plain_4 : List UInt8 := dkwX10_plain_4 ++ []
def dkwX10_plain_3 : List UInt8 := [61, 28, 7, 162, 0, 31, 42, 180, 0, 70, 7, 27, 104, 28, 96, 3, 79, 42, 180, 0, 73, 7, 27, 104]
abbrev dktX10_plain_3 : List UInt8 := dkwX10_plain_3 ++ dktX10_plain_4
def dkwX10_plain_2 : List UInt8 := [79, 42, 180, 0, 61, 27, 16, 10, 79, 42, 180, 0, 64, 27, 3, 79, 42, 180, 0, 67, 27, 3, 79, 3]
abbrev dktX10_plain_2 : List UInt8 := dkwX10_plain_2 ++ dktX10_plain_3
def dkwX10_plain_1 : List UInt8 := [180, 0, 55, 16, 36, 27, 104, 28, 96, 8, 79, 132, 2, 1, 167, 255, 235, 42, 180, 0, 58, 27, 16, 20]
abbrev dktX10_plain_1 : List UInt8 := dkwX10_plain_1 ++ dktX10_plain_2
def dkwX10_plain_0 : List UInt8 := [42, 180, 0, 43, 27, 3, 79, 42, 180, 0, 52, 27, 3, 79, 3, 61, 28, 16, 36, 162, 0, 21, 42]
abbrev dktX10_plain_0 : List UInt8 := dkwX10_plain_0 ++ dktX10_plain_1
theorem dksX10_plain_0 : cX10_plain.data.toList.drop 0 = dktX10_plain_0 := by decide +kernel
theorem dksX10_plain_1 : cX10_plain.data.toList.drop 23 = dktX10_plain_1 := dk_seg dksX10_plain_0 23 rfl rfl
theorem dksX10_plain_2 : cX10_plain.data.toList.drop 47 = dktX10_plain_2 := dk_seg dksX10_plain_1 24 rfl rfl
theorem dksX10_plain_3 : cX10_plain.data.toList.drop 71 = dktX10_plain_3 := dk_seg dksX10_plain_2 24 rfl rfl
theorem dksX10_plain_4 : cX10_plain.data.toList.drop 95 = dktX10_plain_4 := dk_seg dksX10_plain_3 24 rfl rfl
theorem dX10_plain_0 : decode cX10_plain 0 = .ok (.aload_n 0, 1) := dk_42 (dk_at dksX10_plain_0 0 rfl rfl)
theorem dX10_plain_1 : decode cX10_plain 1 = .ok (.getfield 43, 3) := dk_180 0 43 (dk_at dksX10_plain_0 1 rfl rfl)
theorem dX10_plain_4 : decode cX10_plain 4 = .ok (.iload_n 1, 1) := dk_27 (dk_at dksX10_plain_0 4 rfl rfl)
theorem dX10_plain_5 : decode cX10_plain 5 = .ok (.iconst 0, 1) := dk_3 (dk_at dksX10_plain_0 5 rfl rfl)
theorem dX10_plain_6 : decode cX10_plain 6 = .ok (.iastore, 1) := dk_79 (dk_at dksX10_plain_0 6 rfl rfl)
theorem dX10_plain_7 : decode cX10_plain 7 = .ok (.aload_n 0, 1) := dk_42 (dk_at dksX10_plain_0 7 rfl rfl)
theorem dX10_plain_8 : decode cX10_plain 8 = .ok (.getfield 52, 3) := dk_180 0 52 (dk_at dksX10_plain_0 8 rfl rfl)
theorem dX10_plain_11 : decode cX10_plain 11 = .ok (.iload_n 1, 1) := dk_27 (dk_at dksX10_plain_0 11 rfl rfl)
theorem dX10_plain_12 : decode cX10_plain 12 = .ok (.iconst 0, 1) := dk_3 (dk_at dksX10_plain_0 12 rfl rfl)
theorem dX10_plain_13 : decode cX10_plain 13 = .ok (.iastore, 1) := dk_79 (dk_at dksX10_plain_0 13 rfl rfl)
theorem dX10_plain_14 : decode cX10_plain 14 = .ok (.iconst 0, 1) := dk_3 (dk_at dksX10_plain_0 14 rfl rfl)
theorem dX10_plain_15 : decode cX10_plain 15 = .ok (.istore_n 2, 1) := dk_61 (dk_at dksX10_plain_0 15 rfl rfl)
theorem dX10_plain_16 : decode cX10_plain 16 = .ok (.iload_n 2, 1) := dk_28 (dk_at dksX10_plain_0 16 rfl rfl)
theorem dX10_plain_17 : decode cX10_plain 17 = .ok (.bipush 36, 2) := dk_16 36 (dk_at dksX10_plain_0 17 rfl rfl)
theorem dX10_plain_19 : decode cX10_plain 19 = .ok (.if_icmp .ge 21, 3) := dk_162 0 21 (dk_at dksX10_plain_0 19 rfl rfl)
theorem dX10_plain_22 : decode cX10_plain 22 = .ok (.aload_n 0, 1) := dk_42 (dk_at dksX10_plain_0 22 rfl rfl)
theorem dX10_plain_23 : decode cX10_plain 23 = .ok (.getfield 55, 3) := dk_180 0 55 (dk_at dksX10_plain_1 0 rfl rfl)
theorem dX10_plain_26 : decode cX10_plain 26 = .ok (.bipush 36, 2) := dk_16 36 (dk_at dksX10_plain_1 3 rfl rfl)
theorem dX10_plain_28 : decode cX10_plain 28 = .ok (.iload_n 1, 1) := dk_27 (dk_at dksX10_plain_1 5 rfl rfl)
theorem dX10_plain_29 : decode cX10_plain 29 = .ok (.imul, 1) := dk_104 (dk_at dksX10_plain_1 6 rfl rfl)
theorem dX10_plain_30 : decode cX10_plain 30 = .ok (.iload_n 2, 1) := dk_28 (dk_at dksX10_plain_1 7 rfl rfl)
theorem dX10_plain_31 : decode cX10_plain 31 = .ok (.iadd, 1) := dk_96 (dk_at dksX10_plain_1 8 rfl rfl)
theorem dX10_plain_32 : decode cX10_plain 32 = .ok (.iconst 5, 1) := dk_8 (dk_at dksX10_plain_1 9 rfl rfl)
theorem dX10_plain_33 : decode cX10_plain 33 = .ok (.iastore, 1) := dk_79 (dk_at dksX10_plain_1 10 rfl rfl)
theorem dX10_plain_34 : decode cX10_plain 34 = .ok (.iinc 2 1, 3) := dk_132 2 1 (dk_at dksX10_plain_1 11 rfl rfl)
theorem dX10_plain_37 : decode cX10_plain 37 = .ok (.goto (-21), 3) := dk_167 255 235 (dk_at dksX10_plain_1 14 rfl rfl)
theorem dX10_plain_40 : decode cX10_plain 40 = .ok (.aload_n 0, 1) := dk_42 (dk_at dksX10_plain_1 17 rfl rfl)
theorem dX10_plain_41 : decode cX10_plain 41 = .ok (.getfield 58, 3) := dk_180 0 58 (dk_at dksX10_plain_1 18 rfl rfl)
theorem dX10_plain_44 : decode cX10_plain 44 = .ok (.iload_n 1, 1) := dk_27 (dk_at dksX10_plain_1 21 rfl rfl)
theorem dX10_plain_45 : decode cX10_plain 45 = .ok (.bipush 20, 2) := dk_16 20 (dk_at dksX10_plain_1 22 rfl rfl)
theorem dX10_plain_47 : decode cX10_plain 47 = .ok (.iastore, 1) := dk_79 (dk_at dksX10_plain_2 0 rfl rfl)
theorem dX10_plain_48 : decode cX10_plain 48 = .ok (.aload_n 0, 1) := dk_42 (dk_at dksX10_plain_2 1 rfl rfl)
theorem dX10_plain_49 : decode cX10_plain 49 = .ok (.getfield 61, 3) := dk_180 0 61 (dk_at dksX10_plain_2 2 rfl rfl)
theorem dX10_plain_52 : decode cX10_plain 52 = .ok (.iload_n 1, 1) := dk_27 (dk_at dksX10_plain_2 5 rfl rfl)
theorem dX10_plain_53 : decode cX10_plain 53 = .ok (.bipush 10, 2) := dk_16 10 (dk_at dksX10_plain_2 6 rfl rfl)
theorem dX10_plain_55 : decode cX10_plain 55 = .ok (.iastore, 1) := dk_79 (dk_at dksX10_plain_2 8 rfl rfl)
theorem dX10_plain_56 : decode cX10_plain 56 = .ok (.aload_n 0, 1) := dk_42 (dk_at dksX10_plain_2 9 rfl rfl)
theorem dX10_plain_57 : decode cX10_plain 57 = .ok (.getfield 64, 3) := dk_180 0 64 (dk_at dksX10_plain_2 10 rfl rfl)
theorem dX10_plain_60 : decode cX10_plain 60 = .ok (.iload_n 1, 1) := dk_27 (dk_at dksX10_plain_2 13 rfl rfl)
theorem dX10_plain_61 : decode cX10_plain 61 = .ok (.iconst 0, 1) := dk_3 (dk_at dksX10_plain_2 14 rfl rfl)
theorem dX10_plain_62 : decode cX10_plain 62 = .ok (.iastore, 1) := dk_79 (dk_at dksX10_plain_2 15 rfl rfl)
theorem dX10_plain_63 : decode cX10_plain 63 = .ok (.aload_n 0, 1) := dk_42 (dk_at dksX10_plain_2 16 rfl rfl)
theorem dX10_plain_64 : decode cX10_plain 64 = .ok (.getfield 67, 3) := dk_180 0 67 (dk_at dksX10_plain_2 17 rfl rfl)
theorem dX10_plain_67 : decode cX10_plain 67 = .ok (.iload_n 1, 1) := dk_27 (dk_at dksX10_plain_2 20 rfl rfl)
theorem dX10_plain_68 : decode cX10_plain 68 = .ok (.iconst 0, 1) := dk_3 (dk_at dksX10_plain_2 21 rfl rfl)
theorem dX10_plain_69 : decode cX10_plain 69 = .ok (.iastore, 1) := dk_79 (dk_at dksX10_plain_2 22 rfl rfl)
theorem dX10_plain_70 : decode cX10_plain 70 = .ok (.iconst 0, 1) := dk_3 (dk_at dksX10_plain_2 23 rfl rfl)
theorem dX10_plain_71 : decode cX10_plain 71 = .ok (.istore_n 2, 1) := dk_61 (dk_at dksX10_plain_3 0 rfl rfl)
theorem dX10_plain_72 : decode cX10_plain 72 = .ok (.iload_n 2, 1) := dk_28 (dk_at dksX10_plain_3 1 rfl rfl)
theorem dX10_plain_73 : decode cX10_plain 73 = .ok (.iconst 4, 1) := dk_7 (dk_at dksX10_plain_3 2 rfl rfl)
theorem dX10_plain_74 : decode cX10_plain 74 = .ok (.if_icmp .ge 31, 3) := dk_162 0 31 (dk_at dksX10_plain_3 3 rfl rfl)
theorem dX10_plain_77 : decode cX10_plain 77 = .ok (.aload_n 0, 1) := dk_42 (dk_at dksX10_plain_3 6 rfl rfl)
theorem dX10_plain_78 : decode cX10_plain 78 = .ok (.getfield 70, 3) := dk_180 0 70 (dk_at dksX10_plain_3 7 rfl rfl)
theorem dX10_plain_81 : decode cX10_plain 81 = .ok (.iconst 4, 1) := dk_7 (dk_at dksX10_plain_3 10 rfl rfl)
theorem dX10_plain_82 : decode cX10_plain 82 = .ok (.iload_n 1, 1) := dk_27 (dk_at dksX10_plain_3 11 rfl rfl)
theorem dX10_plain_83 : decode cX10_plain 83 = .ok (.imul, 1) := dk_104 (dk_at dksX10_plain_3 12 rfl rfl)
theorem dX10_plain_84 : decode cX10_plain 84 = .ok (.iload_n 2, 1) := dk_28 (dk_at dksX10_plain_3 13 rfl rfl)
theorem dX10_plain_85 : decode cX10_plain 85 = .ok (.iadd, 1) := dk_96 (dk_at dksX10_plain_3 14 rfl rfl)
theorem dX10_plain_86 : decode cX10_plain 86 = .ok (.iconst 0, 1) := dk_3 (dk_at dksX10_plain_3 15 rfl rfl)
theorem dX10_plain_87 : decode cX10_plain 87 = .ok (.iastore, 1) := dk_79 (dk_at dksX10_plain_3 16 rfl rfl)
theorem dX10_plain_88 : decode cX10_plain 88 = .ok (.aload_n 0, 1) := dk_42 (dk_at dksX10_plain_3 17 rfl rfl)
theorem dX10_plain_89 : decode cX10_plain 89 = .ok (.getfield 73, 3) := dk_180 0 73 (dk_at dksX10_plain_3 18 rfl rfl)
theorem dX10_plain_92 : decode cX10_plain 92 = .ok (.iconst 4, 1) := dk_7 (dk_at dksX10_plain_3 21 rfl rfl)
theorem dX10_plain_93 : decode cX10_plain 93 = .ok (.iload_n 1, 1) := dk_27 (dk_at dksX10_plain_3 22 rfl rfl)
theorem dX10_plain_94 : decode cX10_plain 94 = .ok (.imul, 1) := dk_104 (dk_at dksX10_plain_3 23 rfl rfl)
theorem dX10_plain_95 : decode cX10_plain 95 = .ok (.iload_n 2, 1) := dk_28 (dk_at dksX10_plain_4 0 rfl rfl)
theorem dX10_plain_96 : decode cX10_plain 96 = .ok (.iadd, 1) := dk_96 (dk_at dksX10_plain_4 1 rfl rfl)
theorem dX10_plain_97 : decode cX10_plain 97 = .ok (.iconst 0, 1) := dk_3 (dk_at dksX10_plain_4 2 rfl rfl)
theorem dX10_plain_98 : decode cX10_plain 98 = .ok (.iastore, 1) := dk_79 (dk_at dksX10_plain_4 3 rfl rfl)
theorem dX10_plain_99 : decode cX10_plain 99 = .ok (.iinc 2 1, 3) := dk_132 2 1 (dk_at dksX10_plain_4 4 rfl rfl)
theorem dX10_plain_102 : decode cX10_plain 102 = .ok (.goto (-30), 3) := dk_167 255 226 (dk_at dksX10_plain_4 7 rfl rfl)
theorem dX10_plain_105 : decode cX10_plain 105 = .ok (.return_, 1) := dk_177 (dk_at dksX10_plain_4 10 rfl rfl)
def dkwX10_letters_1 : List UInt8 := [184, 0, 189, 21, 6, 184, 0, 189, 173]
abbrev dktX10_letters_1 : List UInt8 := dkwX10_letters_1 ++ []
def dkwX10_letters_0 : List UInt8 := [9, 26, 184, 0, 189, 27, 184, 0, 189, 28, 184, 0, 189, 29, 184, 0, 189, 21, 4, 184, 0, 189, 21, 5]
abbrev dktX10_letters_0 : List UInt8 := dkwX10_letters_0 ++ dktX10_letters_1
theorem dksX10_letters_0 : cX10_letters.data.toList.drop 0 = dktX10_letters_0 := by decide +kernel
theorem dksX10_letters_1 : cX10_letters.data.toList.drop 24 = dktX10_letters_1 := dk_seg dksX10_letters_0 24 rfl rfl
theorem dX10_letters_0 : decode cX10_letters 0 = .ok (.lconst 0, 1) := dk_9 (dk_at dksX10_letters_0 0 rfl rfl)
theorem dX10_letters_1 : decode cX10_letters 1 = .ok (.iload_n 0, 1) := dk_26 (dk_at dksX10_letters_0 1 rfl rfl)
theorem dX10_letters_2 : decode cX10_letters 2 = .ok (.invokestatic 189, 3) := dk_184 0 189 (dk_at dksX10_letters_0 2 rfl rfl)
theorem dX10_letters_5 : decode cX10_letters 5 = .ok (.iload_n 1, 1) := dk_27 (dk_at dksX10_letters_0 5 rfl rfl)
theorem dX10_letters_6 : decode cX10_letters 6 = .ok (.invokestatic 189, 3) := dk_184 0 189 (dk_at dksX10_letters_0 6 rfl rfl)
theorem dX10_letters_9 : decode cX10_letters 9 = .ok (.iload_n 2, 1) := dk_28 (dk_at dksX10_letters_0 9 rfl rfl)
theorem dX10_letters_10 : decode cX10_letters 10 = .ok (.invokestatic 189, 3) := dk_184 0 189 (dk_at dksX10_letters_0 10 rfl rfl)
theorem dX10_letters_13 : decode cX10_letters 13 = .ok (.iload_n 3, 1) := dk_29 (dk_at dksX10_letters_0 13 rfl rfl)
theorem dX10_letters_14 : decode cX10_letters 14 = .ok (.invokestatic 189, 3) := dk_184 0 189 (dk_at dksX10_letters_0 14 rfl rfl)
theorem dX10_letters_17 : decode cX10_letters 17 = .ok (.iload 4, 2) := dk_21 4 (dk_at dksX10_letters_0 17 rfl rfl)
theorem dX10_letters_19 : decode cX10_letters 19 = .ok (.invokestatic 189, 3) := dk_184 0 189 (dk_at dksX10_letters_0 19 rfl rfl)
theorem dX10_letters_22 : decode cX10_letters 22 = .ok (.iload 5, 2) := dk_21 5 (dk_at dksX10_letters_0 22 rfl rfl)
theorem dX10_letters_24 : decode cX10_letters 24 = .ok (.invokestatic 189, 3) := dk_184 0 189 (dk_at dksX10_letters_1 0 rfl rfl)
theorem dX10_letters_27 : decode cX10_letters 27 = .ok (.iload 6, 2) := dk_21 6 (dk_at dksX10_letters_1 3 rfl rfl)
theorem dX10_letters_29 : decode cX10_letters 29 = .ok (.invokestatic 189, 3) := dk_184 0 189 (dk_at dksX10_letters_1 5 rfl rfl)
theorem dX10_letters_32 : decode cX10_letters 32 = .ok (.lreturn, 1) := dk_173 (dk_at dksX10_letters_1 8 rfl rfl)
def dkwX10_appends_0 : List UInt8 := [28, 154, 0, 7, 30, 167, 0, 16, 20, 0, 187, 30, 105, 28, 16, 97, 100, 4, 96, 133, 97, 173]
abbrev dktX10_appends_0 : List UInt8 := dkwX10_appends_0 ++ []
theorem dksX10_appends_0 : cX10_appends.data.toList.drop 0 = dktX10_appends_0 := by decide +kernel
theorem dX10_appends_0 : decode cX10_appends 0 = .ok (.iload_n 2, 1) := dk_28 (dk_at dksX10_appends_0 0 rfl rfl)
theorem dX10_appends_1 : decode cX10_appends 1 = .ok (.ifCond .ne 7, 3) := dk_154 0 7 (dk_at dksX10_appends_0 1 rfl rfl)
theorem dX10_appends_4 : decode cX10_appends 4 = .ok (.lload_n 0, 1) := dk_30 (dk_at dksX10_appends_0 4 rfl rfl)
theorem dX10_appends_5 : decode cX10_appends 5 = .ok (.goto 16, 3) := dk_167 0 16 (dk_at dksX10_appends_0 5 rfl rfl)
theorem dX10_appends_8 : decode cX10_appends 8 = .ok (.ldc2_w 187, 3) := dk_20 0 187 (dk_at dksX10_appends_0 8 rfl rfl)
theorem dX10_appends_11 : decode cX10_appends 11 = .ok (.lload_n 0, 1) := dk_30 (dk_at dksX10_appends_0 11 rfl rfl)
theorem dX10_appends_12 : decode cX10_appends 12 = .ok (.lmul, 1) := dk_105 (dk_at dksX10_appends_0 12 rfl rfl)
theorem dX10_appends_13 : decode cX10_appends 13 = .ok (.iload_n 2, 1) := dk_28 (dk_at dksX10_appends_0 13 rfl rfl)
theorem dX10_appends_14 : decode cX10_appends 14 = .ok (.bipush 97, 2) := dk_16 97 (dk_at dksX10_appends_0 14 rfl rfl)
theorem dX10_appends_16 : decode cX10_appends 16 = .ok (.isub, 1) := dk_100 (dk_at dksX10_appends_0 16 rfl rfl)
theorem dX10_appends_17 : decode cX10_appends 17 = .ok (.iconst 1, 1) := dk_4 (dk_at dksX10_appends_0 17 rfl rfl)
theorem dX10_appends_18 : decode cX10_appends 18 = .ok (.iadd, 1) := dk_96 (dk_at dksX10_appends_0 18 rfl rfl)
theorem dX10_appends_19 : decode cX10_appends 19 = .ok (.i2l, 1) := dk_133 (dk_at dksX10_appends_0 19 rfl rfl)
theorem dX10_appends_20 : decode cX10_appends 20 = .ok (.ladd, 1) := dk_97 (dk_at dksX10_appends_0 20 rfl rfl)
theorem dX10_appends_21 : decode cX10_appends 21 = .ok (.lreturn, 1) := dk_173 (dk_at dksX10_appends_0 21 rfl rfl)
def dkwX10_begins_3 : List UInt8 := [181, 1, 70, 42, 3, 181, 1, 73, 177]
abbrev dktX10_begins_3 : List UInt8 := dkwX10_begins_3 ++ []
def dkwX10_begins_2 : List UInt8 := [180, 0, 245, 104, 27, 96, 46, 79, 132, 1, 1, 167, 255, 220, 42, 42, 180, 0, 67, 42, 180, 0, 245, 46]
abbrev dktX10_begins_2 : List UInt8 := dkwX10_begins_2 ++ dktX10_begins_3
def dkwX10_begins_1 : List UInt8 := [42, 180, 0, 43, 42, 180, 0, 245, 46, 162, 0, 29, 42, 180, 0, 110, 27, 42, 180, 0, 46, 16, 6, 42]
abbrev dktX10_begins_1 : List UInt8 := dkwX10_begins_1 ++ dktX10_begins_2
def dkwX10_begins_0 : List UInt8 := [3, 60, 27, 16, 33, 162, 0, 16, 42, 180, 0, 110, 27, 3, 79, 132, 1, 1, 167, 255, 240, 3, 60, 27]
abbrev dktX10_begins_0 : List UInt8 := dkwX10_begins_0 ++ dktX10_begins_1
theorem dksX10_begins_0 : cX10_begins.data.toList.drop 0 = dktX10_begins_0 := by decide +kernel
theorem dksX10_begins_1 : cX10_begins.data.toList.drop 24 = dktX10_begins_1 := dk_seg dksX10_begins_0 24 rfl rfl
theorem dksX10_begins_2 : cX10_begins.data.toList.drop 48 = dktX10_begins_2 := dk_seg dksX10_begins_1 24 rfl rfl
theorem dksX10_begins_3 : cX10_begins.data.toList.drop 72 = dktX10_begins_3 := dk_seg dksX10_begins_2 24 rfl rfl
theorem dX10_begins_0 : decode cX10_begins 0 = .ok (.iconst 0, 1) := dk_3 (dk_at dksX10_begins_0 0 rfl rfl)
theorem dX10_begins_1 : decode cX10_begins 1 = .ok (.istore_n 1, 1) := dk_60 (dk_at dksX10_begins_0 1 rfl rfl)
theorem dX10_begins_2 : decode cX10_begins 2 = .ok (.iload_n 1, 1) := dk_27 (dk_at dksX10_begins_0 2 rfl rfl)
theorem dX10_begins_3 : decode cX10_begins 3 = .ok (.bipush 33, 2) := dk_16 33 (dk_at dksX10_begins_0 3 rfl rfl)
theorem dX10_begins_5 : decode cX10_begins 5 = .ok (.if_icmp .ge 16, 3) := dk_162 0 16 (dk_at dksX10_begins_0 5 rfl rfl)
theorem dX10_begins_8 : decode cX10_begins 8 = .ok (.aload_n 0, 1) := dk_42 (dk_at dksX10_begins_0 8 rfl rfl)
theorem dX10_begins_9 : decode cX10_begins 9 = .ok (.getfield 110, 3) := dk_180 0 110 (dk_at dksX10_begins_0 9 rfl rfl)
theorem dX10_begins_12 : decode cX10_begins 12 = .ok (.iload_n 1, 1) := dk_27 (dk_at dksX10_begins_0 12 rfl rfl)
theorem dX10_begins_13 : decode cX10_begins 13 = .ok (.iconst 0, 1) := dk_3 (dk_at dksX10_begins_0 13 rfl rfl)
theorem dX10_begins_14 : decode cX10_begins 14 = .ok (.iastore, 1) := dk_79 (dk_at dksX10_begins_0 14 rfl rfl)
theorem dX10_begins_15 : decode cX10_begins 15 = .ok (.iinc 1 1, 3) := dk_132 1 1 (dk_at dksX10_begins_0 15 rfl rfl)
theorem dX10_begins_18 : decode cX10_begins 18 = .ok (.goto (-16), 3) := dk_167 255 240 (dk_at dksX10_begins_0 18 rfl rfl)
theorem dX10_begins_21 : decode cX10_begins 21 = .ok (.iconst 0, 1) := dk_3 (dk_at dksX10_begins_0 21 rfl rfl)
theorem dX10_begins_22 : decode cX10_begins 22 = .ok (.istore_n 1, 1) := dk_60 (dk_at dksX10_begins_0 22 rfl rfl)
theorem dX10_begins_23 : decode cX10_begins 23 = .ok (.iload_n 1, 1) := dk_27 (dk_at dksX10_begins_0 23 rfl rfl)
theorem dX10_begins_24 : decode cX10_begins 24 = .ok (.aload_n 0, 1) := dk_42 (dk_at dksX10_begins_1 0 rfl rfl)
theorem dX10_begins_25 : decode cX10_begins 25 = .ok (.getfield 43, 3) := dk_180 0 43 (dk_at dksX10_begins_1 1 rfl rfl)
theorem dX10_begins_28 : decode cX10_begins 28 = .ok (.aload_n 0, 1) := dk_42 (dk_at dksX10_begins_1 4 rfl rfl)
theorem dX10_begins_29 : decode cX10_begins 29 = .ok (.getfield 245, 3) := dk_180 0 245 (dk_at dksX10_begins_1 5 rfl rfl)
theorem dX10_begins_32 : decode cX10_begins 32 = .ok (.iaload, 1) := dk_46 (dk_at dksX10_begins_1 8 rfl rfl)
theorem dX10_begins_33 : decode cX10_begins 33 = .ok (.if_icmp .ge 29, 3) := dk_162 0 29 (dk_at dksX10_begins_1 9 rfl rfl)
theorem dX10_begins_36 : decode cX10_begins 36 = .ok (.aload_n 0, 1) := dk_42 (dk_at dksX10_begins_1 12 rfl rfl)
theorem dX10_begins_37 : decode cX10_begins 37 = .ok (.getfield 110, 3) := dk_180 0 110 (dk_at dksX10_begins_1 13 rfl rfl)
theorem dX10_begins_40 : decode cX10_begins 40 = .ok (.iload_n 1, 1) := dk_27 (dk_at dksX10_begins_1 16 rfl rfl)
theorem dX10_begins_41 : decode cX10_begins 41 = .ok (.aload_n 0, 1) := dk_42 (dk_at dksX10_begins_1 17 rfl rfl)
theorem dX10_begins_42 : decode cX10_begins 42 = .ok (.getfield 46, 3) := dk_180 0 46 (dk_at dksX10_begins_1 18 rfl rfl)
theorem dX10_begins_45 : decode cX10_begins 45 = .ok (.bipush 6, 2) := dk_16 6 (dk_at dksX10_begins_1 21 rfl rfl)
theorem dX10_begins_47 : decode cX10_begins 47 = .ok (.aload_n 0, 1) := dk_42 (dk_at dksX10_begins_1 23 rfl rfl)
theorem dX10_begins_48 : decode cX10_begins 48 = .ok (.getfield 245, 3) := dk_180 0 245 (dk_at dksX10_begins_2 0 rfl rfl)
theorem dX10_begins_51 : decode cX10_begins 51 = .ok (.imul, 1) := dk_104 (dk_at dksX10_begins_2 3 rfl rfl)
theorem dX10_begins_52 : decode cX10_begins 52 = .ok (.iload_n 1, 1) := dk_27 (dk_at dksX10_begins_2 4 rfl rfl)
theorem dX10_begins_53 : decode cX10_begins 53 = .ok (.iadd, 1) := dk_96 (dk_at dksX10_begins_2 5 rfl rfl)
theorem dX10_begins_54 : decode cX10_begins 54 = .ok (.iaload, 1) := dk_46 (dk_at dksX10_begins_2 6 rfl rfl)
theorem dX10_begins_55 : decode cX10_begins 55 = .ok (.iastore, 1) := dk_79 (dk_at dksX10_begins_2 7 rfl rfl)
theorem dX10_begins_56 : decode cX10_begins 56 = .ok (.iinc 1 1, 3) := dk_132 1 1 (dk_at dksX10_begins_2 8 rfl rfl)
theorem dX10_begins_59 : decode cX10_begins 59 = .ok (.goto (-36), 3) := dk_167 255 220 (dk_at dksX10_begins_2 11 rfl rfl)
theorem dX10_begins_62 : decode cX10_begins 62 = .ok (.aload_n 0, 1) := dk_42 (dk_at dksX10_begins_2 14 rfl rfl)
theorem dX10_begins_63 : decode cX10_begins 63 = .ok (.aload_n 0, 1) := dk_42 (dk_at dksX10_begins_2 15 rfl rfl)
theorem dX10_begins_64 : decode cX10_begins 64 = .ok (.getfield 67, 3) := dk_180 0 67 (dk_at dksX10_begins_2 16 rfl rfl)
theorem dX10_begins_67 : decode cX10_begins 67 = .ok (.aload_n 0, 1) := dk_42 (dk_at dksX10_begins_2 19 rfl rfl)
theorem dX10_begins_68 : decode cX10_begins 68 = .ok (.getfield 245, 3) := dk_180 0 245 (dk_at dksX10_begins_2 20 rfl rfl)
theorem dX10_begins_71 : decode cX10_begins 71 = .ok (.iaload, 1) := dk_46 (dk_at dksX10_begins_2 23 rfl rfl)
theorem dX10_begins_72 : decode cX10_begins 72 = .ok (.putfield 326, 3) := dk_181 1 70 (dk_at dksX10_begins_3 0 rfl rfl)
theorem dX10_begins_75 : decode cX10_begins 75 = .ok (.aload_n 0, 1) := dk_42 (dk_at dksX10_begins_3 3 rfl rfl)
theorem dX10_begins_76 : decode cX10_begins 76 = .ok (.iconst 0, 1) := dk_3 (dk_at dksX10_begins_3 4 rfl rfl)
theorem dX10_begins_77 : decode cX10_begins 77 = .ok (.putfield 329, 3) := dk_181 1 73 (dk_at dksX10_begins_3 5 rfl rfl)
theorem dX10_begins_80 : decode cX10_begins 80 = .ok (.return_, 1) := dk_177 (dk_at dksX10_begins_3 8 rfl rfl)
def dkwX10_keepsRow_1 : List UInt8 := [167, 255, 235, 177]
abbrev dktX10_keepsRow_1 : List UInt8 := dkwX10_keepsRow_1 ++ []
def dkwX10_keepsRow_0 : List UInt8 := [3, 60, 27, 16, 33, 162, 0, 21, 42, 180, 0, 107, 27, 42, 180, 0, 110, 27, 46, 79, 132, 1, 1]
abbrev dktX10_keepsRow_0 : List UInt8 := dkwX10_keepsRow_0 ++ dktX10_keepsRow_1
theorem dksX10_keepsRow_0 : cX10_keepsRow.data.toList.drop 0 = dktX10_keepsRow_0 := by decide +kernel
theorem dksX10_keepsRow_1 : cX10_keepsRow.data.toList.drop 23 = dktX10_keepsRow_1 := dk_seg dksX10_keepsRow_0 23 rfl rfl
theorem dX10_keepsRow_0 : decode cX10_keepsRow 0 = .ok (.iconst 0, 1) := dk_3 (dk_at dksX10_keepsRow_0 0 rfl rfl)
theorem dX10_keepsRow_1 : decode cX10_keepsRow 1 = .ok (.istore_n 1, 1) := dk_60 (dk_at dksX10_keepsRow_0 1 rfl rfl)
theorem dX10_keepsRow_2 : decode cX10_keepsRow 2 = .ok (.iload_n 1, 1) := dk_27 (dk_at dksX10_keepsRow_0 2 rfl rfl)
theorem dX10_keepsRow_3 : decode cX10_keepsRow 3 = .ok (.bipush 33, 2) := dk_16 33 (dk_at dksX10_keepsRow_0 3 rfl rfl)
theorem dX10_keepsRow_5 : decode cX10_keepsRow 5 = .ok (.if_icmp .ge 21, 3) := dk_162 0 21 (dk_at dksX10_keepsRow_0 5 rfl rfl)
theorem dX10_keepsRow_8 : decode cX10_keepsRow 8 = .ok (.aload_n 0, 1) := dk_42 (dk_at dksX10_keepsRow_0 8 rfl rfl)
theorem dX10_keepsRow_9 : decode cX10_keepsRow 9 = .ok (.getfield 107, 3) := dk_180 0 107 (dk_at dksX10_keepsRow_0 9 rfl rfl)
theorem dX10_keepsRow_12 : decode cX10_keepsRow 12 = .ok (.iload_n 1, 1) := dk_27 (dk_at dksX10_keepsRow_0 12 rfl rfl)
theorem dX10_keepsRow_13 : decode cX10_keepsRow 13 = .ok (.aload_n 0, 1) := dk_42 (dk_at dksX10_keepsRow_0 13 rfl rfl)
theorem dX10_keepsRow_14 : decode cX10_keepsRow 14 = .ok (.getfield 110, 3) := dk_180 0 110 (dk_at dksX10_keepsRow_0 14 rfl rfl)
theorem dX10_keepsRow_17 : decode cX10_keepsRow 17 = .ok (.iload_n 1, 1) := dk_27 (dk_at dksX10_keepsRow_0 17 rfl rfl)
theorem dX10_keepsRow_18 : decode cX10_keepsRow 18 = .ok (.iaload, 1) := dk_46 (dk_at dksX10_keepsRow_0 18 rfl rfl)
theorem dX10_keepsRow_19 : decode cX10_keepsRow 19 = .ok (.iastore, 1) := dk_79 (dk_at dksX10_keepsRow_0 19 rfl rfl)
theorem dX10_keepsRow_20 : decode cX10_keepsRow 20 = .ok (.iinc 1 1, 3) := dk_132 1 1 (dk_at dksX10_keepsRow_0 20 rfl rfl)
theorem dX10_keepsRow_23 : decode cX10_keepsRow 23 = .ok (.goto (-21), 3) := dk_167 255 235 (dk_at dksX10_keepsRow_1 0 rfl rfl)
theorem dX10_keepsRow_26 : decode cX10_keepsRow 26 = .ok (.return_, 1) := dk_177 (dk_at dksX10_keepsRow_1 3 rfl rfl)
def dkwX10_feed_2 : List UInt8 := [172]
abbrev dktX10_feed_2 : List UInt8 := dkwX10_feed_2 ++ []
def dkwX10_feed_1 : List UInt8 := [182, 0, 181, 42, 29, 182, 0, 181, 42, 21, 4, 182, 0, 181, 42, 21, 5, 182, 0, 181, 42, 180, 0, 178]
abbrev dktX10_feed_1 : List UInt8 := dkwX10_feed_1 ++ dktX10_feed_2
def dkwX10_feed_0 : List UInt8 := [42, 180, 0, 178, 16, 20, 96, 17, 7, 208, 164, 0, 5, 2, 172, 42, 27, 182, 0, 181, 42, 28]
abbrev dktX10_feed_0 : List UInt8 := dkwX10_feed_0 ++ dktX10_feed_1
theorem dksX10_feed_0 : cX10_feed.data.toList.drop 0 = dktX10_feed_0 := by decide +kernel
theorem dksX10_feed_1 : cX10_feed.data.toList.drop 22 = dktX10_feed_1 := dk_seg dksX10_feed_0 22 rfl rfl
theorem dksX10_feed_2 : cX10_feed.data.toList.drop 46 = dktX10_feed_2 := dk_seg dksX10_feed_1 24 rfl rfl
theorem dX10_feed_0 : decode cX10_feed 0 = .ok (.aload_n 0, 1) := dk_42 (dk_at dksX10_feed_0 0 rfl rfl)
theorem dX10_feed_1 : decode cX10_feed 1 = .ok (.getfield 178, 3) := dk_180 0 178 (dk_at dksX10_feed_0 1 rfl rfl)
theorem dX10_feed_4 : decode cX10_feed 4 = .ok (.bipush 20, 2) := dk_16 20 (dk_at dksX10_feed_0 4 rfl rfl)
theorem dX10_feed_6 : decode cX10_feed 6 = .ok (.iadd, 1) := dk_96 (dk_at dksX10_feed_0 6 rfl rfl)
theorem dX10_feed_7 : decode cX10_feed 7 = .ok (.sipush 2000, 3) := dk_17 7 208 (dk_at dksX10_feed_0 7 rfl rfl)
theorem dX10_feed_10 : decode cX10_feed 10 = .ok (.if_icmp .le 5, 3) := dk_164 0 5 (dk_at dksX10_feed_0 10 rfl rfl)
theorem dX10_feed_13 : decode cX10_feed 13 = .ok (.iconst (-1), 1) := dk_2 (dk_at dksX10_feed_0 13 rfl rfl)
theorem dX10_feed_14 : decode cX10_feed 14 = .ok (.ireturn, 1) := dk_172 (dk_at dksX10_feed_0 14 rfl rfl)
theorem dX10_feed_15 : decode cX10_feed 15 = .ok (.aload_n 0, 1) := dk_42 (dk_at dksX10_feed_0 15 rfl rfl)
theorem dX10_feed_16 : decode cX10_feed 16 = .ok (.iload_n 1, 1) := dk_27 (dk_at dksX10_feed_0 16 rfl rfl)
theorem dX10_feed_17 : decode cX10_feed 17 = .ok (.invokevirtual 181, 3) := dk_182 0 181 (dk_at dksX10_feed_0 17 rfl rfl)
theorem dX10_feed_20 : decode cX10_feed 20 = .ok (.aload_n 0, 1) := dk_42 (dk_at dksX10_feed_0 20 rfl rfl)
theorem dX10_feed_21 : decode cX10_feed 21 = .ok (.iload_n 2, 1) := dk_28 (dk_at dksX10_feed_0 21 rfl rfl)
theorem dX10_feed_22 : decode cX10_feed 22 = .ok (.invokevirtual 181, 3) := dk_182 0 181 (dk_at dksX10_feed_1 0 rfl rfl)
theorem dX10_feed_25 : decode cX10_feed 25 = .ok (.aload_n 0, 1) := dk_42 (dk_at dksX10_feed_1 3 rfl rfl)
theorem dX10_feed_26 : decode cX10_feed 26 = .ok (.iload_n 3, 1) := dk_29 (dk_at dksX10_feed_1 4 rfl rfl)
theorem dX10_feed_27 : decode cX10_feed 27 = .ok (.invokevirtual 181, 3) := dk_182 0 181 (dk_at dksX10_feed_1 5 rfl rfl)
theorem dX10_feed_30 : decode cX10_feed 30 = .ok (.aload_n 0, 1) := dk_42 (dk_at dksX10_feed_1 8 rfl rfl)
theorem dX10_feed_31 : decode cX10_feed 31 = .ok (.iload 4, 2) := dk_21 4 (dk_at dksX10_feed_1 9 rfl rfl)
theorem dX10_feed_33 : decode cX10_feed 33 = .ok (.invokevirtual 181, 3) := dk_182 0 181 (dk_at dksX10_feed_1 11 rfl rfl)
theorem dX10_feed_36 : decode cX10_feed 36 = .ok (.aload_n 0, 1) := dk_42 (dk_at dksX10_feed_1 14 rfl rfl)
theorem dX10_feed_37 : decode cX10_feed 37 = .ok (.iload 5, 2) := dk_21 5 (dk_at dksX10_feed_1 15 rfl rfl)
theorem dX10_feed_39 : decode cX10_feed 39 = .ok (.invokevirtual 181, 3) := dk_182 0 181 (dk_at dksX10_feed_1 17 rfl rfl)
theorem dX10_feed_42 : decode cX10_feed 42 = .ok (.aload_n 0, 1) := dk_42 (dk_at dksX10_feed_1 20 rfl rfl)
theorem dX10_feed_43 : decode cX10_feed 43 = .ok (.getfield 178, 3) := dk_180 0 178 (dk_at dksX10_feed_1 21 rfl rfl)
theorem dX10_feed_46 : decode cX10_feed 46 = .ok (.ireturn, 1) := dk_172 (dk_at dksX10_feed_2 0 rfl rfl)
def dkwX10_lays_1 : List UInt8 := [180, 0, 178, 4, 96, 181, 0, 178, 132, 2, 248, 167, 255, 226, 177]
abbrev dktX10_lays_1 : List UInt8 := dkwX10_lays_1 ++ []
def dkwX10_lays_0 : List UInt8 := [16, 24, 61, 28, 155, 0, 32, 42, 180, 0, 13, 42, 180, 0, 178, 27, 28, 122, 145, 84, 42, 89]
abbrev dktX10_lays_0 : List UInt8 := dkwX10_lays_0 ++ dktX10_lays_1
theorem dksX10_lays_0 : cX10_lays.data.toList.drop 0 = dktX10_lays_0 := by decide +kernel
theorem dksX10_lays_1 : cX10_lays.data.toList.drop 22 = dktX10_lays_1 := dk_seg dksX10_lays_0 22 rfl rfl
theorem dX10_lays_0 : decode cX10_lays 0 = .ok (.bipush 24, 2) := dk_16 24 (dk_at dksX10_lays_0 0 rfl rfl)
theorem dX10_lays_2 : decode cX10_lays 2 = .ok (.istore_n 2, 1) := dk_61 (dk_at dksX10_lays_0 2 rfl rfl)
theorem dX10_lays_3 : decode cX10_lays 3 = .ok (.iload_n 2, 1) := dk_28 (dk_at dksX10_lays_0 3 rfl rfl)
theorem dX10_lays_4 : decode cX10_lays 4 = .ok (.ifCond .lt 32, 3) := dk_155 0 32 (dk_at dksX10_lays_0 4 rfl rfl)
theorem dX10_lays_7 : decode cX10_lays 7 = .ok (.aload_n 0, 1) := dk_42 (dk_at dksX10_lays_0 7 rfl rfl)
theorem dX10_lays_8 : decode cX10_lays 8 = .ok (.getfield 13, 3) := dk_180 0 13 (dk_at dksX10_lays_0 8 rfl rfl)
theorem dX10_lays_11 : decode cX10_lays 11 = .ok (.aload_n 0, 1) := dk_42 (dk_at dksX10_lays_0 11 rfl rfl)
theorem dX10_lays_12 : decode cX10_lays 12 = .ok (.getfield 178, 3) := dk_180 0 178 (dk_at dksX10_lays_0 12 rfl rfl)
theorem dX10_lays_15 : decode cX10_lays 15 = .ok (.iload_n 1, 1) := dk_27 (dk_at dksX10_lays_0 15 rfl rfl)
theorem dX10_lays_16 : decode cX10_lays 16 = .ok (.iload_n 2, 1) := dk_28 (dk_at dksX10_lays_0 16 rfl rfl)
theorem dX10_lays_17 : decode cX10_lays 17 = .ok (.ishr, 1) := dk_122 (dk_at dksX10_lays_0 17 rfl rfl)
theorem dX10_lays_18 : decode cX10_lays 18 = .ok (.i2b, 1) := dk_145 (dk_at dksX10_lays_0 18 rfl rfl)
theorem dX10_lays_19 : decode cX10_lays 19 = .ok (.bastore, 1) := dk_84 (dk_at dksX10_lays_0 19 rfl rfl)
theorem dX10_lays_20 : decode cX10_lays 20 = .ok (.aload_n 0, 1) := dk_42 (dk_at dksX10_lays_0 20 rfl rfl)
theorem dX10_lays_21 : decode cX10_lays 21 = .ok (.dup, 1) := dk_89 (dk_at dksX10_lays_0 21 rfl rfl)
theorem dX10_lays_22 : decode cX10_lays 22 = .ok (.getfield 178, 3) := dk_180 0 178 (dk_at dksX10_lays_1 0 rfl rfl)
theorem dX10_lays_25 : decode cX10_lays 25 = .ok (.iconst 1, 1) := dk_4 (dk_at dksX10_lays_1 3 rfl rfl)
theorem dX10_lays_26 : decode cX10_lays 26 = .ok (.iadd, 1) := dk_96 (dk_at dksX10_lays_1 4 rfl rfl)
theorem dX10_lays_27 : decode cX10_lays 27 = .ok (.putfield 178, 3) := dk_181 0 178 (dk_at dksX10_lays_1 5 rfl rfl)
theorem dX10_lays_30 : decode cX10_lays 30 = .ok (.iinc 2 (-8), 3) := dk_132 2 248 (dk_at dksX10_lays_1 8 rfl rfl)
theorem dX10_lays_33 : decode cX10_lays 33 = .ok (.goto (-30), 3) := dk_167 255 226 (dk_at dksX10_lays_1 11 rfl rfl)
theorem dX10_lays_36 : decode cX10_lays 36 = .ok (.return_, 1) := dk_177 (dk_at dksX10_lays_1 14 rfl rfl)
def dkwX10_back_1 : List UInt8 := [42, 180, 0, 178, 172]
abbrev dktX10_back_1 : List UInt8 := dkwX10_back_1 ++ []
def dkwX10_back_0 : List UInt8 := [27, 155, 0, 11, 27, 42, 180, 0, 178, 164, 0, 5, 2, 172, 42, 89, 180, 0, 178, 27, 100, 181, 0, 178]
abbrev dktX10_back_0 : List UInt8 := dkwX10_back_0 ++ dktX10_back_1
theorem dksX10_back_0 : cX10_back.data.toList.drop 0 = dktX10_back_0 := by decide +kernel
theorem dksX10_back_1 : cX10_back.data.toList.drop 24 = dktX10_back_1 := dk_seg dksX10_back_0 24 rfl rfl
theorem dX10_back_0 : decode cX10_back 0 = .ok (.iload_n 1, 1) := dk_27 (dk_at dksX10_back_0 0 rfl rfl)
theorem dX10_back_1 : decode cX10_back 1 = .ok (.ifCond .lt 11, 3) := dk_155 0 11 (dk_at dksX10_back_0 1 rfl rfl)
theorem dX10_back_4 : decode cX10_back 4 = .ok (.iload_n 1, 1) := dk_27 (dk_at dksX10_back_0 4 rfl rfl)
theorem dX10_back_5 : decode cX10_back 5 = .ok (.aload_n 0, 1) := dk_42 (dk_at dksX10_back_0 5 rfl rfl)
theorem dX10_back_6 : decode cX10_back 6 = .ok (.getfield 178, 3) := dk_180 0 178 (dk_at dksX10_back_0 6 rfl rfl)
theorem dX10_back_9 : decode cX10_back 9 = .ok (.if_icmp .le 5, 3) := dk_164 0 5 (dk_at dksX10_back_0 9 rfl rfl)
theorem dX10_back_12 : decode cX10_back 12 = .ok (.iconst (-1), 1) := dk_2 (dk_at dksX10_back_0 12 rfl rfl)
theorem dX10_back_13 : decode cX10_back 13 = .ok (.ireturn, 1) := dk_172 (dk_at dksX10_back_0 13 rfl rfl)
theorem dX10_back_14 : decode cX10_back 14 = .ok (.aload_n 0, 1) := dk_42 (dk_at dksX10_back_0 14 rfl rfl)
theorem dX10_back_15 : decode cX10_back 15 = .ok (.dup, 1) := dk_89 (dk_at dksX10_back_0 15 rfl rfl)
theorem dX10_back_16 : decode cX10_back 16 = .ok (.getfield 178, 3) := dk_180 0 178 (dk_at dksX10_back_0 16 rfl rfl)
theorem dX10_back_19 : decode cX10_back 19 = .ok (.iload_n 1, 1) := dk_27 (dk_at dksX10_back_0 19 rfl rfl)
theorem dX10_back_20 : decode cX10_back 20 = .ok (.isub, 1) := dk_100 (dk_at dksX10_back_0 20 rfl rfl)
theorem dX10_back_21 : decode cX10_back 21 = .ok (.putfield 178, 3) := dk_181 0 178 (dk_at dksX10_back_0 21 rfl rfl)
theorem dX10_back_24 : decode cX10_back 24 = .ok (.aload_n 0, 1) := dk_42 (dk_at dksX10_back_1 0 rfl rfl)
theorem dX10_back_25 : decode cX10_back 25 = .ok (.getfield 178, 3) := dk_180 0 178 (dk_at dksX10_back_1 1 rfl rfl)
theorem dX10_back_28 : decode cX10_back 28 = .ok (.ireturn, 1) := dk_172 (dk_at dksX10_back_1 4 rfl rfl)
def dkwX10_read_10 : List UInt8 := [132, 1, 1, 167, 255, 241, 3, 172]
abbrev dktX10_read_10 : List UInt8 := dkwX10_read_10 ++ []
def dkwX10_read_9 : List UInt8 := [181, 1, 7, 42, 3, 181, 1, 10, 3, 60, 27, 6, 162, 0, 16, 42, 180, 0, 158, 27, 3, 84]
abbrev dktX10_read_9 : List UInt8 := dkwX10_read_9 ++ dktX10_read_10
def dkwX10_read_8 : List UInt8 := [180, 0, 224, 172, 42, 42, 180, 0, 248, 181, 0, 245, 42, 182, 0, 172, 42, 182, 0, 175, 42, 3]
abbrev dktX10_read_8 : List UInt8 := dkwX10_read_8 ++ dktX10_read_9
def dkwX10_read_7 : List UInt8 := [2, 181, 0, 37, 42, 180, 0, 215, 158, 0, 8, 42, 180, 0, 215, 172, 42, 180, 0, 224, 158, 0, 8, 42]
abbrev dktX10_read_7 : List UInt8 := dkwX10_read_7 ++ dktX10_read_8
def dkwX10_read_6 : List UInt8 := [158, 0, 10, 42, 180, 0, 221, 167, 0, 18, 42, 180, 0, 224, 158, 0, 10, 42, 180, 0, 227, 167, 0, 4]
abbrev dktX10_read_6 : List UInt8 := dkwX10_read_6 ++ dktX10_read_7
def dkwX10_read_5 : List UInt8 := [154, 0, 18, 42, 3, 182, 0, 233, 154, 0, 10, 42, 182, 1, 4, 167, 255, 237, 42, 42, 180, 0, 215]
abbrev dktX10_read_5 : List UInt8 := dkwX10_read_5 ++ dktX10_read_6
def dkwX10_read_4 : List UInt8 := [180, 0, 248, 104, 181, 0, 254, 42, 17, 1, 164, 42, 180, 0, 248, 104, 181, 1, 1, 42, 180, 0, 215]
abbrev dktX10_read_4 : List UInt8 := dkwX10_read_4 ++ dktX10_read_5
def dkwX10_read_3 : List UInt8 := [100, 181, 0, 248, 42, 3, 181, 0, 251, 42, 42, 180, 0, 248, 182, 0, 164, 42, 17, 0, 130, 42]
abbrev dktX10_read_3 : List UInt8 := dkwX10_read_3 ++ dktX10_read_4
def dkwX10_read_2 : List UInt8 := [181, 0, 218, 42, 3, 181, 0, 242, 42, 3, 181, 0, 215, 42, 3, 181, 0, 224, 42, 4, 42, 180, 0, 245]
abbrev dktX10_read_2 : List UInt8 := dkwX10_read_2 ++ dktX10_read_3
def dkwX10_read_1 : List UInt8 := [180, 0, 13, 27, 51, 84, 132, 1, 1, 167, 255, 233, 42, 3, 181, 0, 178, 42, 182, 0, 239, 42, 3]
abbrev dktX10_read_1 : List UInt8 := dkwX10_read_1 ++ dktX10_read_2
def dkwX10_read_0 : List UInt8 := [42, 42, 180, 0, 178, 181, 0, 184, 3, 60, 27, 42, 180, 0, 184, 162, 0, 21, 42, 180, 0, 17, 27, 42]
abbrev dktX10_read_0 : List UInt8 := dkwX10_read_0 ++ dktX10_read_1
theorem dksX10_read_0 : cX10_read.data.toList.drop 0 = dktX10_read_0 := by decide +kernel
theorem dksX10_read_1 : cX10_read.data.toList.drop 24 = dktX10_read_1 := dk_seg dksX10_read_0 24 rfl rfl
theorem dksX10_read_2 : cX10_read.data.toList.drop 47 = dktX10_read_2 := dk_seg dksX10_read_1 23 rfl rfl
theorem dksX10_read_3 : cX10_read.data.toList.drop 71 = dktX10_read_3 := dk_seg dksX10_read_2 24 rfl rfl
theorem dksX10_read_4 : cX10_read.data.toList.drop 93 = dktX10_read_4 := dk_seg dksX10_read_3 22 rfl rfl
theorem dksX10_read_5 : cX10_read.data.toList.drop 116 = dktX10_read_5 := dk_seg dksX10_read_4 23 rfl rfl
theorem dksX10_read_6 : cX10_read.data.toList.drop 139 = dktX10_read_6 := dk_seg dksX10_read_5 23 rfl rfl
theorem dksX10_read_7 : cX10_read.data.toList.drop 163 = dktX10_read_7 := dk_seg dksX10_read_6 24 rfl rfl
theorem dksX10_read_8 : cX10_read.data.toList.drop 187 = dktX10_read_8 := dk_seg dksX10_read_7 24 rfl rfl
theorem dksX10_read_9 : cX10_read.data.toList.drop 209 = dktX10_read_9 := dk_seg dksX10_read_8 22 rfl rfl
theorem dksX10_read_10 : cX10_read.data.toList.drop 231 = dktX10_read_10 := dk_seg dksX10_read_9 22 rfl rfl
theorem dX10_read_0 : decode cX10_read 0 = .ok (.aload_n 0, 1) := dk_42 (dk_at dksX10_read_0 0 rfl rfl)
theorem dX10_read_1 : decode cX10_read 1 = .ok (.aload_n 0, 1) := dk_42 (dk_at dksX10_read_0 1 rfl rfl)
theorem dX10_read_2 : decode cX10_read 2 = .ok (.getfield 178, 3) := dk_180 0 178 (dk_at dksX10_read_0 2 rfl rfl)
theorem dX10_read_5 : decode cX10_read 5 = .ok (.putfield 184, 3) := dk_181 0 184 (dk_at dksX10_read_0 5 rfl rfl)
theorem dX10_read_8 : decode cX10_read 8 = .ok (.iconst 0, 1) := dk_3 (dk_at dksX10_read_0 8 rfl rfl)
theorem dX10_read_9 : decode cX10_read 9 = .ok (.istore_n 1, 1) := dk_60 (dk_at dksX10_read_0 9 rfl rfl)
theorem dX10_read_10 : decode cX10_read 10 = .ok (.iload_n 1, 1) := dk_27 (dk_at dksX10_read_0 10 rfl rfl)
theorem dX10_read_11 : decode cX10_read 11 = .ok (.aload_n 0, 1) := dk_42 (dk_at dksX10_read_0 11 rfl rfl)
theorem dX10_read_12 : decode cX10_read 12 = .ok (.getfield 184, 3) := dk_180 0 184 (dk_at dksX10_read_0 12 rfl rfl)
theorem dX10_read_15 : decode cX10_read 15 = .ok (.if_icmp .ge 21, 3) := dk_162 0 21 (dk_at dksX10_read_0 15 rfl rfl)
theorem dX10_read_18 : decode cX10_read 18 = .ok (.aload_n 0, 1) := dk_42 (dk_at dksX10_read_0 18 rfl rfl)
theorem dX10_read_19 : decode cX10_read 19 = .ok (.getfield 17, 3) := dk_180 0 17 (dk_at dksX10_read_0 19 rfl rfl)
theorem dX10_read_22 : decode cX10_read 22 = .ok (.iload_n 1, 1) := dk_27 (dk_at dksX10_read_0 22 rfl rfl)
theorem dX10_read_23 : decode cX10_read 23 = .ok (.aload_n 0, 1) := dk_42 (dk_at dksX10_read_0 23 rfl rfl)
theorem dX10_read_24 : decode cX10_read 24 = .ok (.getfield 13, 3) := dk_180 0 13 (dk_at dksX10_read_1 0 rfl rfl)
theorem dX10_read_27 : decode cX10_read 27 = .ok (.iload_n 1, 1) := dk_27 (dk_at dksX10_read_1 3 rfl rfl)
theorem dX10_read_28 : decode cX10_read 28 = .ok (.baload, 1) := dk_51 (dk_at dksX10_read_1 4 rfl rfl)
theorem dX10_read_29 : decode cX10_read 29 = .ok (.bastore, 1) := dk_84 (dk_at dksX10_read_1 5 rfl rfl)
theorem dX10_read_30 : decode cX10_read 30 = .ok (.iinc 1 1, 3) := dk_132 1 1 (dk_at dksX10_read_1 6 rfl rfl)
theorem dX10_read_33 : decode cX10_read 33 = .ok (.goto (-23), 3) := dk_167 255 233 (dk_at dksX10_read_1 9 rfl rfl)
theorem dX10_read_36 : decode cX10_read 36 = .ok (.aload_n 0, 1) := dk_42 (dk_at dksX10_read_1 12 rfl rfl)
theorem dX10_read_37 : decode cX10_read 37 = .ok (.iconst 0, 1) := dk_3 (dk_at dksX10_read_1 13 rfl rfl)
theorem dX10_read_38 : decode cX10_read 38 = .ok (.putfield 178, 3) := dk_181 0 178 (dk_at dksX10_read_1 14 rfl rfl)
theorem dX10_read_41 : decode cX10_read 41 = .ok (.aload_n 0, 1) := dk_42 (dk_at dksX10_read_1 17 rfl rfl)
theorem dX10_read_42 : decode cX10_read 42 = .ok (.invokevirtual 239, 3) := dk_182 0 239 (dk_at dksX10_read_1 18 rfl rfl)
theorem dX10_read_45 : decode cX10_read 45 = .ok (.aload_n 0, 1) := dk_42 (dk_at dksX10_read_1 21 rfl rfl)
theorem dX10_read_46 : decode cX10_read 46 = .ok (.iconst 0, 1) := dk_3 (dk_at dksX10_read_1 22 rfl rfl)
theorem dX10_read_47 : decode cX10_read 47 = .ok (.putfield 218, 3) := dk_181 0 218 (dk_at dksX10_read_2 0 rfl rfl)
theorem dX10_read_50 : decode cX10_read 50 = .ok (.aload_n 0, 1) := dk_42 (dk_at dksX10_read_2 3 rfl rfl)
theorem dX10_read_51 : decode cX10_read 51 = .ok (.iconst 0, 1) := dk_3 (dk_at dksX10_read_2 4 rfl rfl)
theorem dX10_read_52 : decode cX10_read 52 = .ok (.putfield 242, 3) := dk_181 0 242 (dk_at dksX10_read_2 5 rfl rfl)
theorem dX10_read_55 : decode cX10_read 55 = .ok (.aload_n 0, 1) := dk_42 (dk_at dksX10_read_2 8 rfl rfl)
theorem dX10_read_56 : decode cX10_read 56 = .ok (.iconst 0, 1) := dk_3 (dk_at dksX10_read_2 9 rfl rfl)
theorem dX10_read_57 : decode cX10_read 57 = .ok (.putfield 215, 3) := dk_181 0 215 (dk_at dksX10_read_2 10 rfl rfl)
theorem dX10_read_60 : decode cX10_read 60 = .ok (.aload_n 0, 1) := dk_42 (dk_at dksX10_read_2 13 rfl rfl)
theorem dX10_read_61 : decode cX10_read 61 = .ok (.iconst 0, 1) := dk_3 (dk_at dksX10_read_2 14 rfl rfl)
theorem dX10_read_62 : decode cX10_read 62 = .ok (.putfield 224, 3) := dk_181 0 224 (dk_at dksX10_read_2 15 rfl rfl)
theorem dX10_read_65 : decode cX10_read 65 = .ok (.aload_n 0, 1) := dk_42 (dk_at dksX10_read_2 18 rfl rfl)
theorem dX10_read_66 : decode cX10_read 66 = .ok (.iconst 1, 1) := dk_4 (dk_at dksX10_read_2 19 rfl rfl)
theorem dX10_read_67 : decode cX10_read 67 = .ok (.aload_n 0, 1) := dk_42 (dk_at dksX10_read_2 20 rfl rfl)
theorem dX10_read_68 : decode cX10_read 68 = .ok (.getfield 245, 3) := dk_180 0 245 (dk_at dksX10_read_2 21 rfl rfl)
theorem dX10_read_71 : decode cX10_read 71 = .ok (.isub, 1) := dk_100 (dk_at dksX10_read_3 0 rfl rfl)
theorem dX10_read_72 : decode cX10_read 72 = .ok (.putfield 248, 3) := dk_181 0 248 (dk_at dksX10_read_3 1 rfl rfl)
theorem dX10_read_75 : decode cX10_read 75 = .ok (.aload_n 0, 1) := dk_42 (dk_at dksX10_read_3 4 rfl rfl)
theorem dX10_read_76 : decode cX10_read 76 = .ok (.iconst 0, 1) := dk_3 (dk_at dksX10_read_3 5 rfl rfl)
theorem dX10_read_77 : decode cX10_read 77 = .ok (.putfield 251, 3) := dk_181 0 251 (dk_at dksX10_read_3 6 rfl rfl)
theorem dX10_read_80 : decode cX10_read 80 = .ok (.aload_n 0, 1) := dk_42 (dk_at dksX10_read_3 9 rfl rfl)
theorem dX10_read_81 : decode cX10_read 81 = .ok (.aload_n 0, 1) := dk_42 (dk_at dksX10_read_3 10 rfl rfl)
theorem dX10_read_82 : decode cX10_read 82 = .ok (.getfield 248, 3) := dk_180 0 248 (dk_at dksX10_read_3 11 rfl rfl)
theorem dX10_read_85 : decode cX10_read 85 = .ok (.invokevirtual 164, 3) := dk_182 0 164 (dk_at dksX10_read_3 14 rfl rfl)
theorem dX10_read_88 : decode cX10_read 88 = .ok (.aload_n 0, 1) := dk_42 (dk_at dksX10_read_3 17 rfl rfl)
theorem dX10_read_89 : decode cX10_read 89 = .ok (.sipush 130, 3) := dk_17 0 130 (dk_at dksX10_read_3 18 rfl rfl)
theorem dX10_read_92 : decode cX10_read 92 = .ok (.aload_n 0, 1) := dk_42 (dk_at dksX10_read_3 21 rfl rfl)
theorem dX10_read_93 : decode cX10_read 93 = .ok (.getfield 248, 3) := dk_180 0 248 (dk_at dksX10_read_4 0 rfl rfl)
theorem dX10_read_96 : decode cX10_read 96 = .ok (.imul, 1) := dk_104 (dk_at dksX10_read_4 3 rfl rfl)
theorem dX10_read_97 : decode cX10_read 97 = .ok (.putfield 254, 3) := dk_181 0 254 (dk_at dksX10_read_4 4 rfl rfl)
theorem dX10_read_100 : decode cX10_read 100 = .ok (.aload_n 0, 1) := dk_42 (dk_at dksX10_read_4 7 rfl rfl)
theorem dX10_read_101 : decode cX10_read 101 = .ok (.sipush 420, 3) := dk_17 1 164 (dk_at dksX10_read_4 8 rfl rfl)
theorem dX10_read_104 : decode cX10_read 104 = .ok (.aload_n 0, 1) := dk_42 (dk_at dksX10_read_4 11 rfl rfl)
theorem dX10_read_105 : decode cX10_read 105 = .ok (.getfield 248, 3) := dk_180 0 248 (dk_at dksX10_read_4 12 rfl rfl)
theorem dX10_read_108 : decode cX10_read 108 = .ok (.imul, 1) := dk_104 (dk_at dksX10_read_4 15 rfl rfl)
theorem dX10_read_109 : decode cX10_read 109 = .ok (.putfield 257, 3) := dk_181 1 1 (dk_at dksX10_read_4 16 rfl rfl)
theorem dX10_read_112 : decode cX10_read 112 = .ok (.aload_n 0, 1) := dk_42 (dk_at dksX10_read_4 19 rfl rfl)
theorem dX10_read_113 : decode cX10_read 113 = .ok (.getfield 215, 3) := dk_180 0 215 (dk_at dksX10_read_4 20 rfl rfl)
theorem dX10_read_116 : decode cX10_read 116 = .ok (.ifCond .ne 18, 3) := dk_154 0 18 (dk_at dksX10_read_5 0 rfl rfl)
theorem dX10_read_119 : decode cX10_read 119 = .ok (.aload_n 0, 1) := dk_42 (dk_at dksX10_read_5 3 rfl rfl)
theorem dX10_read_120 : decode cX10_read 120 = .ok (.iconst 0, 1) := dk_3 (dk_at dksX10_read_5 4 rfl rfl)
theorem dX10_read_121 : decode cX10_read 121 = .ok (.invokevirtual 233, 3) := dk_182 0 233 (dk_at dksX10_read_5 5 rfl rfl)
theorem dX10_read_124 : decode cX10_read 124 = .ok (.ifCond .ne 10, 3) := dk_154 0 10 (dk_at dksX10_read_5 8 rfl rfl)
theorem dX10_read_127 : decode cX10_read 127 = .ok (.aload_n 0, 1) := dk_42 (dk_at dksX10_read_5 11 rfl rfl)
theorem dX10_read_128 : decode cX10_read 128 = .ok (.invokevirtual 260, 3) := dk_182 1 4 (dk_at dksX10_read_5 12 rfl rfl)
theorem dX10_read_131 : decode cX10_read 131 = .ok (.goto (-19), 3) := dk_167 255 237 (dk_at dksX10_read_5 15 rfl rfl)
theorem dX10_read_134 : decode cX10_read 134 = .ok (.aload_n 0, 1) := dk_42 (dk_at dksX10_read_5 18 rfl rfl)
theorem dX10_read_135 : decode cX10_read 135 = .ok (.aload_n 0, 1) := dk_42 (dk_at dksX10_read_5 19 rfl rfl)
theorem dX10_read_136 : decode cX10_read 136 = .ok (.getfield 215, 3) := dk_180 0 215 (dk_at dksX10_read_5 20 rfl rfl)
theorem dX10_read_139 : decode cX10_read 139 = .ok (.ifCond .le 10, 3) := dk_158 0 10 (dk_at dksX10_read_6 0 rfl rfl)
theorem dX10_read_142 : decode cX10_read 142 = .ok (.aload_n 0, 1) := dk_42 (dk_at dksX10_read_6 3 rfl rfl)
theorem dX10_read_143 : decode cX10_read 143 = .ok (.getfield 221, 3) := dk_180 0 221 (dk_at dksX10_read_6 4 rfl rfl)
theorem dX10_read_146 : decode cX10_read 146 = .ok (.goto 18, 3) := dk_167 0 18 (dk_at dksX10_read_6 7 rfl rfl)
theorem dX10_read_149 : decode cX10_read 149 = .ok (.aload_n 0, 1) := dk_42 (dk_at dksX10_read_6 10 rfl rfl)
theorem dX10_read_150 : decode cX10_read 150 = .ok (.getfield 224, 3) := dk_180 0 224 (dk_at dksX10_read_6 11 rfl rfl)
theorem dX10_read_153 : decode cX10_read 153 = .ok (.ifCond .le 10, 3) := dk_158 0 10 (dk_at dksX10_read_6 14 rfl rfl)
theorem dX10_read_156 : decode cX10_read 156 = .ok (.aload_n 0, 1) := dk_42 (dk_at dksX10_read_6 17 rfl rfl)
theorem dX10_read_157 : decode cX10_read 157 = .ok (.getfield 227, 3) := dk_180 0 227 (dk_at dksX10_read_6 18 rfl rfl)
theorem dX10_read_160 : decode cX10_read 160 = .ok (.goto 4, 3) := dk_167 0 4 (dk_at dksX10_read_6 21 rfl rfl)
theorem dX10_read_163 : decode cX10_read 163 = .ok (.iconst (-1), 1) := dk_2 (dk_at dksX10_read_7 0 rfl rfl)
theorem dX10_read_164 : decode cX10_read 164 = .ok (.putfield 37, 3) := dk_181 0 37 (dk_at dksX10_read_7 1 rfl rfl)
theorem dX10_read_167 : decode cX10_read 167 = .ok (.aload_n 0, 1) := dk_42 (dk_at dksX10_read_7 4 rfl rfl)
theorem dX10_read_168 : decode cX10_read 168 = .ok (.getfield 215, 3) := dk_180 0 215 (dk_at dksX10_read_7 5 rfl rfl)
theorem dX10_read_171 : decode cX10_read 171 = .ok (.ifCond .le 8, 3) := dk_158 0 8 (dk_at dksX10_read_7 8 rfl rfl)
theorem dX10_read_174 : decode cX10_read 174 = .ok (.aload_n 0, 1) := dk_42 (dk_at dksX10_read_7 11 rfl rfl)
theorem dX10_read_175 : decode cX10_read 175 = .ok (.getfield 215, 3) := dk_180 0 215 (dk_at dksX10_read_7 12 rfl rfl)
theorem dX10_read_178 : decode cX10_read 178 = .ok (.ireturn, 1) := dk_172 (dk_at dksX10_read_7 15 rfl rfl)
theorem dX10_read_179 : decode cX10_read 179 = .ok (.aload_n 0, 1) := dk_42 (dk_at dksX10_read_7 16 rfl rfl)
theorem dX10_read_180 : decode cX10_read 180 = .ok (.getfield 224, 3) := dk_180 0 224 (dk_at dksX10_read_7 17 rfl rfl)
theorem dX10_read_183 : decode cX10_read 183 = .ok (.ifCond .le 8, 3) := dk_158 0 8 (dk_at dksX10_read_7 20 rfl rfl)
theorem dX10_read_186 : decode cX10_read 186 = .ok (.aload_n 0, 1) := dk_42 (dk_at dksX10_read_7 23 rfl rfl)
theorem dX10_read_187 : decode cX10_read 187 = .ok (.getfield 224, 3) := dk_180 0 224 (dk_at dksX10_read_8 0 rfl rfl)
theorem dX10_read_190 : decode cX10_read 190 = .ok (.ireturn, 1) := dk_172 (dk_at dksX10_read_8 3 rfl rfl)
theorem dX10_read_191 : decode cX10_read 191 = .ok (.aload_n 0, 1) := dk_42 (dk_at dksX10_read_8 4 rfl rfl)
theorem dX10_read_192 : decode cX10_read 192 = .ok (.aload_n 0, 1) := dk_42 (dk_at dksX10_read_8 5 rfl rfl)
theorem dX10_read_193 : decode cX10_read 193 = .ok (.getfield 248, 3) := dk_180 0 248 (dk_at dksX10_read_8 6 rfl rfl)
theorem dX10_read_196 : decode cX10_read 196 = .ok (.putfield 245, 3) := dk_181 0 245 (dk_at dksX10_read_8 9 rfl rfl)
theorem dX10_read_199 : decode cX10_read 199 = .ok (.aload_n 0, 1) := dk_42 (dk_at dksX10_read_8 12 rfl rfl)
theorem dX10_read_200 : decode cX10_read 200 = .ok (.invokevirtual 172, 3) := dk_182 0 172 (dk_at dksX10_read_8 13 rfl rfl)
theorem dX10_read_203 : decode cX10_read 203 = .ok (.aload_n 0, 1) := dk_42 (dk_at dksX10_read_8 16 rfl rfl)
theorem dX10_read_204 : decode cX10_read 204 = .ok (.invokevirtual 175, 3) := dk_182 0 175 (dk_at dksX10_read_8 17 rfl rfl)
theorem dX10_read_207 : decode cX10_read 207 = .ok (.aload_n 0, 1) := dk_42 (dk_at dksX10_read_8 20 rfl rfl)
theorem dX10_read_208 : decode cX10_read 208 = .ok (.iconst 0, 1) := dk_3 (dk_at dksX10_read_8 21 rfl rfl)
theorem dX10_read_209 : decode cX10_read 209 = .ok (.putfield 263, 3) := dk_181 1 7 (dk_at dksX10_read_9 0 rfl rfl)
theorem dX10_read_212 : decode cX10_read 212 = .ok (.aload_n 0, 1) := dk_42 (dk_at dksX10_read_9 3 rfl rfl)
theorem dX10_read_213 : decode cX10_read 213 = .ok (.iconst 0, 1) := dk_3 (dk_at dksX10_read_9 4 rfl rfl)
theorem dX10_read_214 : decode cX10_read 214 = .ok (.putfield 266, 3) := dk_181 1 10 (dk_at dksX10_read_9 5 rfl rfl)
theorem dX10_read_217 : decode cX10_read 217 = .ok (.iconst 0, 1) := dk_3 (dk_at dksX10_read_9 8 rfl rfl)
theorem dX10_read_218 : decode cX10_read 218 = .ok (.istore_n 1, 1) := dk_60 (dk_at dksX10_read_9 9 rfl rfl)
theorem dX10_read_219 : decode cX10_read 219 = .ok (.iload_n 1, 1) := dk_27 (dk_at dksX10_read_9 10 rfl rfl)
theorem dX10_read_220 : decode cX10_read 220 = .ok (.iconst 3, 1) := dk_6 (dk_at dksX10_read_9 11 rfl rfl)
theorem dX10_read_221 : decode cX10_read 221 = .ok (.if_icmp .ge 16, 3) := dk_162 0 16 (dk_at dksX10_read_9 12 rfl rfl)
theorem dX10_read_224 : decode cX10_read 224 = .ok (.aload_n 0, 1) := dk_42 (dk_at dksX10_read_9 15 rfl rfl)
theorem dX10_read_225 : decode cX10_read 225 = .ok (.getfield 158, 3) := dk_180 0 158 (dk_at dksX10_read_9 16 rfl rfl)
theorem dX10_read_228 : decode cX10_read 228 = .ok (.iload_n 1, 1) := dk_27 (dk_at dksX10_read_9 19 rfl rfl)
theorem dX10_read_229 : decode cX10_read 229 = .ok (.iconst 0, 1) := dk_3 (dk_at dksX10_read_9 20 rfl rfl)
theorem dX10_read_230 : decode cX10_read 230 = .ok (.bastore, 1) := dk_84 (dk_at dksX10_read_9 21 rfl rfl)
theorem dX10_read_231 : decode cX10_read 231 = .ok (.iinc 1 1, 3) := dk_132 1 1 (dk_at dksX10_read_10 0 rfl rfl)
theorem dX10_read_234 : decode cX10_read 234 = .ok (.goto (-15), 3) := dk_167 255 241 (dk_at dksX10_read_10 3 rfl rfl)
theorem dX10_read_237 : decode cX10_read 237 = .ok (.iconst 0, 1) := dk_3 (dk_at dksX10_read_10 6 rfl rfl)
theorem dX10_read_238 : decode cX10_read 238 = .ok (.ireturn, 1) := dk_172 (dk_at dksX10_read_10 7 rfl rfl)
def dkwX10_cut_12 : List UInt8 := [4, 96, 182, 0, 196, 182, 0, 211, 96, 60, 167, 254, 228, 177]
abbrev dktX10_cut_12 : List UInt8 := dkwX10_cut_12 ++ []
def dkwX10_cut_11 : List UInt8 := [167, 0, 4, 5, 27, 21, 4, 9, 182, 0, 200, 27, 29, 96, 60, 167, 0, 19, 27, 42, 27, 28, 42, 27]
abbrev dktX10_cut_11 : List UInt8 := dkwX10_cut_11 ++ dktX10_cut_12
def dkwX10_cut_10 : List UInt8 := [96, 182, 0, 196, 96, 16, 48, 100, 54, 4, 132, 3, 1, 167, 255, 217, 42, 29, 7, 164, 0, 7, 6]
abbrev dktX10_cut_10 : List UInt8 := dkwX10_cut_10 ++ dktX10_cut_11
def dkwX10_cut_9 : List UInt8 := [29, 96, 182, 0, 196, 184, 0, 208, 153, 0, 32, 29, 7, 162, 0, 21, 16, 10, 21, 4, 104, 42, 27, 29]
abbrev dktX10_cut_9 : List UInt8 := dkwX10_cut_9 ++ dktX10_cut_10
def dkwX10_cut_8 : List UInt8 := [182, 0, 200, 27, 29, 96, 60, 167, 0, 98, 28, 184, 0, 208, 153, 0, 75, 3, 62, 3, 54, 4, 42, 27]
abbrev dktX10_cut_8 : List UInt8 := dkwX10_cut_8 ++ dktX10_cut_9
def dkwX10_cut_7 : List UInt8 := [154, 0, 10, 16, 20, 21, 7, 96, 54, 6, 132, 7, 1, 167, 255, 226, 42, 21, 6, 27, 3, 22, 4]
abbrev dktX10_cut_7 : List UInt8 := dkwX10_cut_7 ++ dktX10_cut_8
def dkwX10_cut_6 : List UInt8 := [163, 0, 39, 3, 54, 7, 21, 7, 16, 22, 162, 0, 29, 42, 180, 0, 34, 21, 7, 47, 22, 4, 148]
abbrev dktX10_cut_6 : List UInt8 := dkwX10_cut_6 ++ dktX10_cut_7
def dkwX10_cut_5 : List UInt8 := [55, 4, 132, 3, 1, 167, 255, 220, 29, 16, 8, 164, 0, 7, 6, 167, 0, 4, 4, 54, 6, 29, 16, 8]
abbrev dktX10_cut_5 : List UInt8 := dkwX10_cut_5 ++ dktX10_cut_6
def dkwX10_cut_4 : List UInt8 := [184, 0, 204, 153, 0, 29, 29, 16, 8, 162, 0, 17, 22, 4, 42, 27, 29, 96, 182, 0, 196, 184, 0, 189]
abbrev dktX10_cut_4 : List UInt8 := dkwX10_cut_4 ++ dktX10_cut_5
def dkwX10_cut_3 : List UInt8 := [167, 0, 221, 28, 184, 0, 204, 153, 0, 119, 3, 62, 9, 55, 4, 42, 27, 29, 96, 182, 0, 196]
abbrev dktX10_cut_3 : List UInt8 := dkwX10_cut_3 ++ dktX10_cut_4
def dkwX10_cut_2 : List UInt8 := [159, 0, 21, 28, 16, 10, 159, 0, 15, 28, 16, 13, 159, 0, 9, 28, 16, 32, 160, 0, 9, 132, 1, 1]
abbrev dktX10_cut_2 : List UInt8 := dkwX10_cut_2 ++ dktX10_cut_3
def dkwX10_cut_1 : List UInt8 := [42, 180, 0, 184, 161, 0, 15, 42, 3, 42, 180, 0, 184, 3, 9, 182, 0, 200, 177, 28, 16, 9]
abbrev dktX10_cut_1 : List UInt8 := dkwX10_cut_1 ++ dktX10_cut_2
def dkwX10_cut_0 : List UInt8 := [42, 3, 181, 0, 193, 3, 60, 42, 180, 0, 193, 17, 1, 144, 163, 1, 24, 42, 27, 182, 0, 196, 61, 27]
abbrev dktX10_cut_0 : List UInt8 := dkwX10_cut_0 ++ dktX10_cut_1
theorem dksX10_cut_0 : cX10_cut.data.toList.drop 0 = dktX10_cut_0 := by decide +kernel
theorem dksX10_cut_1 : cX10_cut.data.toList.drop 24 = dktX10_cut_1 := dk_seg dksX10_cut_0 24 rfl rfl
theorem dksX10_cut_2 : cX10_cut.data.toList.drop 46 = dktX10_cut_2 := dk_seg dksX10_cut_1 22 rfl rfl
theorem dksX10_cut_3 : cX10_cut.data.toList.drop 70 = dktX10_cut_3 := dk_seg dksX10_cut_2 24 rfl rfl
theorem dksX10_cut_4 : cX10_cut.data.toList.drop 92 = dktX10_cut_4 := dk_seg dksX10_cut_3 22 rfl rfl
theorem dksX10_cut_5 : cX10_cut.data.toList.drop 116 = dktX10_cut_5 := dk_seg dksX10_cut_4 24 rfl rfl
theorem dksX10_cut_6 : cX10_cut.data.toList.drop 140 = dktX10_cut_6 := dk_seg dksX10_cut_5 24 rfl rfl
theorem dksX10_cut_7 : cX10_cut.data.toList.drop 163 = dktX10_cut_7 := dk_seg dksX10_cut_6 23 rfl rfl
theorem dksX10_cut_8 : cX10_cut.data.toList.drop 186 = dktX10_cut_8 := dk_seg dksX10_cut_7 23 rfl rfl
theorem dksX10_cut_9 : cX10_cut.data.toList.drop 210 = dktX10_cut_9 := dk_seg dksX10_cut_8 24 rfl rfl
theorem dksX10_cut_10 : cX10_cut.data.toList.drop 234 = dktX10_cut_10 := dk_seg dksX10_cut_9 24 rfl rfl
theorem dksX10_cut_11 : cX10_cut.data.toList.drop 257 = dktX10_cut_11 := dk_seg dksX10_cut_10 23 rfl rfl
theorem dksX10_cut_12 : cX10_cut.data.toList.drop 281 = dktX10_cut_12 := dk_seg dksX10_cut_11 24 rfl rfl
theorem dX10_cut_0 : decode cX10_cut 0 = .ok (.aload_n 0, 1) := dk_42 (dk_at dksX10_cut_0 0 rfl rfl)
theorem dX10_cut_1 : decode cX10_cut 1 = .ok (.iconst 0, 1) := dk_3 (dk_at dksX10_cut_0 1 rfl rfl)
theorem dX10_cut_2 : decode cX10_cut 2 = .ok (.putfield 193, 3) := dk_181 0 193 (dk_at dksX10_cut_0 2 rfl rfl)
theorem dX10_cut_5 : decode cX10_cut 5 = .ok (.iconst 0, 1) := dk_3 (dk_at dksX10_cut_0 5 rfl rfl)
theorem dX10_cut_6 : decode cX10_cut 6 = .ok (.istore_n 1, 1) := dk_60 (dk_at dksX10_cut_0 6 rfl rfl)
theorem dX10_cut_7 : decode cX10_cut 7 = .ok (.aload_n 0, 1) := dk_42 (dk_at dksX10_cut_0 7 rfl rfl)
theorem dX10_cut_8 : decode cX10_cut 8 = .ok (.getfield 193, 3) := dk_180 0 193 (dk_at dksX10_cut_0 8 rfl rfl)
theorem dX10_cut_11 : decode cX10_cut 11 = .ok (.sipush 400, 3) := dk_17 1 144 (dk_at dksX10_cut_0 11 rfl rfl)
theorem dX10_cut_14 : decode cX10_cut 14 = .ok (.if_icmp .gt 280, 3) := dk_163 1 24 (dk_at dksX10_cut_0 14 rfl rfl)
theorem dX10_cut_17 : decode cX10_cut 17 = .ok (.aload_n 0, 1) := dk_42 (dk_at dksX10_cut_0 17 rfl rfl)
theorem dX10_cut_18 : decode cX10_cut 18 = .ok (.iload_n 1, 1) := dk_27 (dk_at dksX10_cut_0 18 rfl rfl)
theorem dX10_cut_19 : decode cX10_cut 19 = .ok (.invokevirtual 196, 3) := dk_182 0 196 (dk_at dksX10_cut_0 19 rfl rfl)
theorem dX10_cut_22 : decode cX10_cut 22 = .ok (.istore_n 2, 1) := dk_61 (dk_at dksX10_cut_0 22 rfl rfl)
theorem dX10_cut_23 : decode cX10_cut 23 = .ok (.iload_n 1, 1) := dk_27 (dk_at dksX10_cut_0 23 rfl rfl)
theorem dX10_cut_24 : decode cX10_cut 24 = .ok (.aload_n 0, 1) := dk_42 (dk_at dksX10_cut_1 0 rfl rfl)
theorem dX10_cut_25 : decode cX10_cut 25 = .ok (.getfield 184, 3) := dk_180 0 184 (dk_at dksX10_cut_1 1 rfl rfl)
theorem dX10_cut_28 : decode cX10_cut 28 = .ok (.if_icmp .lt 15, 3) := dk_161 0 15 (dk_at dksX10_cut_1 4 rfl rfl)
theorem dX10_cut_31 : decode cX10_cut 31 = .ok (.aload_n 0, 1) := dk_42 (dk_at dksX10_cut_1 7 rfl rfl)
theorem dX10_cut_32 : decode cX10_cut 32 = .ok (.iconst 0, 1) := dk_3 (dk_at dksX10_cut_1 8 rfl rfl)
theorem dX10_cut_33 : decode cX10_cut 33 = .ok (.aload_n 0, 1) := dk_42 (dk_at dksX10_cut_1 9 rfl rfl)
theorem dX10_cut_34 : decode cX10_cut 34 = .ok (.getfield 184, 3) := dk_180 0 184 (dk_at dksX10_cut_1 10 rfl rfl)
theorem dX10_cut_37 : decode cX10_cut 37 = .ok (.iconst 0, 1) := dk_3 (dk_at dksX10_cut_1 13 rfl rfl)
theorem dX10_cut_38 : decode cX10_cut 38 = .ok (.lconst 0, 1) := dk_9 (dk_at dksX10_cut_1 14 rfl rfl)
theorem dX10_cut_39 : decode cX10_cut 39 = .ok (.invokevirtual 200, 3) := dk_182 0 200 (dk_at dksX10_cut_1 15 rfl rfl)
theorem dX10_cut_42 : decode cX10_cut 42 = .ok (.return_, 1) := dk_177 (dk_at dksX10_cut_1 18 rfl rfl)
theorem dX10_cut_43 : decode cX10_cut 43 = .ok (.iload_n 2, 1) := dk_28 (dk_at dksX10_cut_1 19 rfl rfl)
theorem dX10_cut_44 : decode cX10_cut 44 = .ok (.bipush 9, 2) := dk_16 9 (dk_at dksX10_cut_1 20 rfl rfl)
theorem dX10_cut_46 : decode cX10_cut 46 = .ok (.if_icmp .eq 21, 3) := dk_159 0 21 (dk_at dksX10_cut_2 0 rfl rfl)
theorem dX10_cut_49 : decode cX10_cut 49 = .ok (.iload_n 2, 1) := dk_28 (dk_at dksX10_cut_2 3 rfl rfl)
theorem dX10_cut_50 : decode cX10_cut 50 = .ok (.bipush 10, 2) := dk_16 10 (dk_at dksX10_cut_2 4 rfl rfl)
theorem dX10_cut_52 : decode cX10_cut 52 = .ok (.if_icmp .eq 15, 3) := dk_159 0 15 (dk_at dksX10_cut_2 6 rfl rfl)
theorem dX10_cut_55 : decode cX10_cut 55 = .ok (.iload_n 2, 1) := dk_28 (dk_at dksX10_cut_2 9 rfl rfl)
theorem dX10_cut_56 : decode cX10_cut 56 = .ok (.bipush 13, 2) := dk_16 13 (dk_at dksX10_cut_2 10 rfl rfl)
theorem dX10_cut_58 : decode cX10_cut 58 = .ok (.if_icmp .eq 9, 3) := dk_159 0 9 (dk_at dksX10_cut_2 12 rfl rfl)
theorem dX10_cut_61 : decode cX10_cut 61 = .ok (.iload_n 2, 1) := dk_28 (dk_at dksX10_cut_2 15 rfl rfl)
theorem dX10_cut_62 : decode cX10_cut 62 = .ok (.bipush 32, 2) := dk_16 32 (dk_at dksX10_cut_2 16 rfl rfl)
theorem dX10_cut_64 : decode cX10_cut 64 = .ok (.if_icmp .ne 9, 3) := dk_160 0 9 (dk_at dksX10_cut_2 18 rfl rfl)
theorem dX10_cut_67 : decode cX10_cut 67 = .ok (.iinc 1 1, 3) := dk_132 1 1 (dk_at dksX10_cut_2 21 rfl rfl)
theorem dX10_cut_70 : decode cX10_cut 70 = .ok (.goto 221, 3) := dk_167 0 221 (dk_at dksX10_cut_3 0 rfl rfl)
theorem dX10_cut_73 : decode cX10_cut 73 = .ok (.iload_n 2, 1) := dk_28 (dk_at dksX10_cut_3 3 rfl rfl)
theorem dX10_cut_74 : decode cX10_cut 74 = .ok (.invokestatic 204, 3) := dk_184 0 204 (dk_at dksX10_cut_3 4 rfl rfl)
theorem dX10_cut_77 : decode cX10_cut 77 = .ok (.ifCond .eq 119, 3) := dk_153 0 119 (dk_at dksX10_cut_3 7 rfl rfl)
theorem dX10_cut_80 : decode cX10_cut 80 = .ok (.iconst 0, 1) := dk_3 (dk_at dksX10_cut_3 10 rfl rfl)
theorem dX10_cut_81 : decode cX10_cut 81 = .ok (.istore_n 3, 1) := dk_62 (dk_at dksX10_cut_3 11 rfl rfl)
theorem dX10_cut_82 : decode cX10_cut 82 = .ok (.lconst 0, 1) := dk_9 (dk_at dksX10_cut_3 12 rfl rfl)
theorem dX10_cut_83 : decode cX10_cut 83 = .ok (.lstore 4, 2) := dk_55 4 (dk_at dksX10_cut_3 13 rfl rfl)
theorem dX10_cut_85 : decode cX10_cut 85 = .ok (.aload_n 0, 1) := dk_42 (dk_at dksX10_cut_3 15 rfl rfl)
theorem dX10_cut_86 : decode cX10_cut 86 = .ok (.iload_n 1, 1) := dk_27 (dk_at dksX10_cut_3 16 rfl rfl)
theorem dX10_cut_87 : decode cX10_cut 87 = .ok (.iload_n 3, 1) := dk_29 (dk_at dksX10_cut_3 17 rfl rfl)
theorem dX10_cut_88 : decode cX10_cut 88 = .ok (.iadd, 1) := dk_96 (dk_at dksX10_cut_3 18 rfl rfl)
theorem dX10_cut_89 : decode cX10_cut 89 = .ok (.invokevirtual 196, 3) := dk_182 0 196 (dk_at dksX10_cut_3 19 rfl rfl)
theorem dX10_cut_92 : decode cX10_cut 92 = .ok (.invokestatic 204, 3) := dk_184 0 204 (dk_at dksX10_cut_4 0 rfl rfl)
theorem dX10_cut_95 : decode cX10_cut 95 = .ok (.ifCond .eq 29, 3) := dk_153 0 29 (dk_at dksX10_cut_4 3 rfl rfl)
theorem dX10_cut_98 : decode cX10_cut 98 = .ok (.iload_n 3, 1) := dk_29 (dk_at dksX10_cut_4 6 rfl rfl)
theorem dX10_cut_99 : decode cX10_cut 99 = .ok (.bipush 8, 2) := dk_16 8 (dk_at dksX10_cut_4 7 rfl rfl)
theorem dX10_cut_101 : decode cX10_cut 101 = .ok (.if_icmp .ge 17, 3) := dk_162 0 17 (dk_at dksX10_cut_4 9 rfl rfl)
theorem dX10_cut_104 : decode cX10_cut 104 = .ok (.lload 4, 2) := dk_22 4 (dk_at dksX10_cut_4 12 rfl rfl)
theorem dX10_cut_106 : decode cX10_cut 106 = .ok (.aload_n 0, 1) := dk_42 (dk_at dksX10_cut_4 14 rfl rfl)
theorem dX10_cut_107 : decode cX10_cut 107 = .ok (.iload_n 1, 1) := dk_27 (dk_at dksX10_cut_4 15 rfl rfl)
theorem dX10_cut_108 : decode cX10_cut 108 = .ok (.iload_n 3, 1) := dk_29 (dk_at dksX10_cut_4 16 rfl rfl)
theorem dX10_cut_109 : decode cX10_cut 109 = .ok (.iadd, 1) := dk_96 (dk_at dksX10_cut_4 17 rfl rfl)
theorem dX10_cut_110 : decode cX10_cut 110 = .ok (.invokevirtual 196, 3) := dk_182 0 196 (dk_at dksX10_cut_4 18 rfl rfl)
theorem dX10_cut_113 : decode cX10_cut 113 = .ok (.invokestatic 189, 3) := dk_184 0 189 (dk_at dksX10_cut_4 21 rfl rfl)
theorem dX10_cut_116 : decode cX10_cut 116 = .ok (.lstore 4, 2) := dk_55 4 (dk_at dksX10_cut_5 0 rfl rfl)
theorem dX10_cut_118 : decode cX10_cut 118 = .ok (.iinc 3 1, 3) := dk_132 3 1 (dk_at dksX10_cut_5 2 rfl rfl)
theorem dX10_cut_121 : decode cX10_cut 121 = .ok (.goto (-36), 3) := dk_167 255 220 (dk_at dksX10_cut_5 5 rfl rfl)
theorem dX10_cut_124 : decode cX10_cut 124 = .ok (.iload_n 3, 1) := dk_29 (dk_at dksX10_cut_5 8 rfl rfl)
theorem dX10_cut_125 : decode cX10_cut 125 = .ok (.bipush 8, 2) := dk_16 8 (dk_at dksX10_cut_5 9 rfl rfl)
theorem dX10_cut_127 : decode cX10_cut 127 = .ok (.if_icmp .le 7, 3) := dk_164 0 7 (dk_at dksX10_cut_5 11 rfl rfl)
theorem dX10_cut_130 : decode cX10_cut 130 = .ok (.iconst 3, 1) := dk_6 (dk_at dksX10_cut_5 14 rfl rfl)
theorem dX10_cut_131 : decode cX10_cut 131 = .ok (.goto 4, 3) := dk_167 0 4 (dk_at dksX10_cut_5 15 rfl rfl)
theorem dX10_cut_134 : decode cX10_cut 134 = .ok (.iconst 1, 1) := dk_4 (dk_at dksX10_cut_5 18 rfl rfl)
theorem dX10_cut_135 : decode cX10_cut 135 = .ok (.istore 6, 2) := dk_54 6 (dk_at dksX10_cut_5 19 rfl rfl)
theorem dX10_cut_137 : decode cX10_cut 137 = .ok (.iload_n 3, 1) := dk_29 (dk_at dksX10_cut_5 21 rfl rfl)
theorem dX10_cut_138 : decode cX10_cut 138 = .ok (.bipush 8, 2) := dk_16 8 (dk_at dksX10_cut_5 22 rfl rfl)
theorem dX10_cut_140 : decode cX10_cut 140 = .ok (.if_icmp .gt 39, 3) := dk_163 0 39 (dk_at dksX10_cut_6 0 rfl rfl)
theorem dX10_cut_143 : decode cX10_cut 143 = .ok (.iconst 0, 1) := dk_3 (dk_at dksX10_cut_6 3 rfl rfl)
theorem dX10_cut_144 : decode cX10_cut 144 = .ok (.istore 7, 2) := dk_54 7 (dk_at dksX10_cut_6 4 rfl rfl)
theorem dX10_cut_146 : decode cX10_cut 146 = .ok (.iload 7, 2) := dk_21 7 (dk_at dksX10_cut_6 6 rfl rfl)
theorem dX10_cut_148 : decode cX10_cut 148 = .ok (.bipush 22, 2) := dk_16 22 (dk_at dksX10_cut_6 8 rfl rfl)
theorem dX10_cut_150 : decode cX10_cut 150 = .ok (.if_icmp .ge 29, 3) := dk_162 0 29 (dk_at dksX10_cut_6 10 rfl rfl)
theorem dX10_cut_153 : decode cX10_cut 153 = .ok (.aload_n 0, 1) := dk_42 (dk_at dksX10_cut_6 13 rfl rfl)
theorem dX10_cut_154 : decode cX10_cut 154 = .ok (.getfield 34, 3) := dk_180 0 34 (dk_at dksX10_cut_6 14 rfl rfl)
theorem dX10_cut_157 : decode cX10_cut 157 = .ok (.iload 7, 2) := dk_21 7 (dk_at dksX10_cut_6 17 rfl rfl)
theorem dX10_cut_159 : decode cX10_cut 159 = .ok (.laload, 1) := dk_47 (dk_at dksX10_cut_6 19 rfl rfl)
theorem dX10_cut_160 : decode cX10_cut 160 = .ok (.lload 4, 2) := dk_22 4 (dk_at dksX10_cut_6 20 rfl rfl)
theorem dX10_cut_162 : decode cX10_cut 162 = .ok (.lcmp, 1) := dk_148 (dk_at dksX10_cut_6 22 rfl rfl)
theorem dX10_cut_163 : decode cX10_cut 163 = .ok (.ifCond .ne 10, 3) := dk_154 0 10 (dk_at dksX10_cut_7 0 rfl rfl)
theorem dX10_cut_166 : decode cX10_cut 166 = .ok (.bipush 20, 2) := dk_16 20 (dk_at dksX10_cut_7 3 rfl rfl)
theorem dX10_cut_168 : decode cX10_cut 168 = .ok (.iload 7, 2) := dk_21 7 (dk_at dksX10_cut_7 5 rfl rfl)
theorem dX10_cut_170 : decode cX10_cut 170 = .ok (.iadd, 1) := dk_96 (dk_at dksX10_cut_7 7 rfl rfl)
theorem dX10_cut_171 : decode cX10_cut 171 = .ok (.istore 6, 2) := dk_54 6 (dk_at dksX10_cut_7 8 rfl rfl)
theorem dX10_cut_173 : decode cX10_cut 173 = .ok (.iinc 7 1, 3) := dk_132 7 1 (dk_at dksX10_cut_7 10 rfl rfl)
theorem dX10_cut_176 : decode cX10_cut 176 = .ok (.goto (-30), 3) := dk_167 255 226 (dk_at dksX10_cut_7 13 rfl rfl)
theorem dX10_cut_179 : decode cX10_cut 179 = .ok (.aload_n 0, 1) := dk_42 (dk_at dksX10_cut_7 16 rfl rfl)
theorem dX10_cut_180 : decode cX10_cut 180 = .ok (.iload 6, 2) := dk_21 6 (dk_at dksX10_cut_7 17 rfl rfl)
theorem dX10_cut_182 : decode cX10_cut 182 = .ok (.iload_n 1, 1) := dk_27 (dk_at dksX10_cut_7 19 rfl rfl)
theorem dX10_cut_183 : decode cX10_cut 183 = .ok (.iconst 0, 1) := dk_3 (dk_at dksX10_cut_7 20 rfl rfl)
theorem dX10_cut_184 : decode cX10_cut 184 = .ok (.lload 4, 2) := dk_22 4 (dk_at dksX10_cut_7 21 rfl rfl)
theorem dX10_cut_186 : decode cX10_cut 186 = .ok (.invokevirtual 200, 3) := dk_182 0 200 (dk_at dksX10_cut_8 0 rfl rfl)
theorem dX10_cut_189 : decode cX10_cut 189 = .ok (.iload_n 1, 1) := dk_27 (dk_at dksX10_cut_8 3 rfl rfl)
theorem dX10_cut_190 : decode cX10_cut 190 = .ok (.iload_n 3, 1) := dk_29 (dk_at dksX10_cut_8 4 rfl rfl)
theorem dX10_cut_191 : decode cX10_cut 191 = .ok (.iadd, 1) := dk_96 (dk_at dksX10_cut_8 5 rfl rfl)
theorem dX10_cut_192 : decode cX10_cut 192 = .ok (.istore_n 1, 1) := dk_60 (dk_at dksX10_cut_8 6 rfl rfl)
theorem dX10_cut_193 : decode cX10_cut 193 = .ok (.goto 98, 3) := dk_167 0 98 (dk_at dksX10_cut_8 7 rfl rfl)
theorem dX10_cut_196 : decode cX10_cut 196 = .ok (.iload_n 2, 1) := dk_28 (dk_at dksX10_cut_8 10 rfl rfl)
theorem dX10_cut_197 : decode cX10_cut 197 = .ok (.invokestatic 208, 3) := dk_184 0 208 (dk_at dksX10_cut_8 11 rfl rfl)
theorem dX10_cut_200 : decode cX10_cut 200 = .ok (.ifCond .eq 75, 3) := dk_153 0 75 (dk_at dksX10_cut_8 14 rfl rfl)
theorem dX10_cut_203 : decode cX10_cut 203 = .ok (.iconst 0, 1) := dk_3 (dk_at dksX10_cut_8 17 rfl rfl)
theorem dX10_cut_204 : decode cX10_cut 204 = .ok (.istore_n 3, 1) := dk_62 (dk_at dksX10_cut_8 18 rfl rfl)
theorem dX10_cut_205 : decode cX10_cut 205 = .ok (.iconst 0, 1) := dk_3 (dk_at dksX10_cut_8 19 rfl rfl)
theorem dX10_cut_206 : decode cX10_cut 206 = .ok (.istore 4, 2) := dk_54 4 (dk_at dksX10_cut_8 20 rfl rfl)
theorem dX10_cut_208 : decode cX10_cut 208 = .ok (.aload_n 0, 1) := dk_42 (dk_at dksX10_cut_8 22 rfl rfl)
theorem dX10_cut_209 : decode cX10_cut 209 = .ok (.iload_n 1, 1) := dk_27 (dk_at dksX10_cut_8 23 rfl rfl)
theorem dX10_cut_210 : decode cX10_cut 210 = .ok (.iload_n 3, 1) := dk_29 (dk_at dksX10_cut_9 0 rfl rfl)
theorem dX10_cut_211 : decode cX10_cut 211 = .ok (.iadd, 1) := dk_96 (dk_at dksX10_cut_9 1 rfl rfl)
theorem dX10_cut_212 : decode cX10_cut 212 = .ok (.invokevirtual 196, 3) := dk_182 0 196 (dk_at dksX10_cut_9 2 rfl rfl)
theorem dX10_cut_215 : decode cX10_cut 215 = .ok (.invokestatic 208, 3) := dk_184 0 208 (dk_at dksX10_cut_9 5 rfl rfl)
theorem dX10_cut_218 : decode cX10_cut 218 = .ok (.ifCond .eq 32, 3) := dk_153 0 32 (dk_at dksX10_cut_9 8 rfl rfl)
theorem dX10_cut_221 : decode cX10_cut 221 = .ok (.iload_n 3, 1) := dk_29 (dk_at dksX10_cut_9 11 rfl rfl)
theorem dX10_cut_222 : decode cX10_cut 222 = .ok (.iconst 4, 1) := dk_7 (dk_at dksX10_cut_9 12 rfl rfl)
theorem dX10_cut_223 : decode cX10_cut 223 = .ok (.if_icmp .ge 21, 3) := dk_162 0 21 (dk_at dksX10_cut_9 13 rfl rfl)
theorem dX10_cut_226 : decode cX10_cut 226 = .ok (.bipush 10, 2) := dk_16 10 (dk_at dksX10_cut_9 16 rfl rfl)
theorem dX10_cut_228 : decode cX10_cut 228 = .ok (.iload 4, 2) := dk_21 4 (dk_at dksX10_cut_9 18 rfl rfl)
theorem dX10_cut_230 : decode cX10_cut 230 = .ok (.imul, 1) := dk_104 (dk_at dksX10_cut_9 20 rfl rfl)
theorem dX10_cut_231 : decode cX10_cut 231 = .ok (.aload_n 0, 1) := dk_42 (dk_at dksX10_cut_9 21 rfl rfl)
theorem dX10_cut_232 : decode cX10_cut 232 = .ok (.iload_n 1, 1) := dk_27 (dk_at dksX10_cut_9 22 rfl rfl)
theorem dX10_cut_233 : decode cX10_cut 233 = .ok (.iload_n 3, 1) := dk_29 (dk_at dksX10_cut_9 23 rfl rfl)
theorem dX10_cut_234 : decode cX10_cut 234 = .ok (.iadd, 1) := dk_96 (dk_at dksX10_cut_10 0 rfl rfl)
theorem dX10_cut_235 : decode cX10_cut 235 = .ok (.invokevirtual 196, 3) := dk_182 0 196 (dk_at dksX10_cut_10 1 rfl rfl)
theorem dX10_cut_238 : decode cX10_cut 238 = .ok (.iadd, 1) := dk_96 (dk_at dksX10_cut_10 4 rfl rfl)
theorem dX10_cut_239 : decode cX10_cut 239 = .ok (.bipush 48, 2) := dk_16 48 (dk_at dksX10_cut_10 5 rfl rfl)
theorem dX10_cut_241 : decode cX10_cut 241 = .ok (.isub, 1) := dk_100 (dk_at dksX10_cut_10 7 rfl rfl)
theorem dX10_cut_242 : decode cX10_cut 242 = .ok (.istore 4, 2) := dk_54 4 (dk_at dksX10_cut_10 8 rfl rfl)
theorem dX10_cut_244 : decode cX10_cut 244 = .ok (.iinc 3 1, 3) := dk_132 3 1 (dk_at dksX10_cut_10 10 rfl rfl)
theorem dX10_cut_247 : decode cX10_cut 247 = .ok (.goto (-39), 3) := dk_167 255 217 (dk_at dksX10_cut_10 13 rfl rfl)
theorem dX10_cut_250 : decode cX10_cut 250 = .ok (.aload_n 0, 1) := dk_42 (dk_at dksX10_cut_10 16 rfl rfl)
theorem dX10_cut_251 : decode cX10_cut 251 = .ok (.iload_n 3, 1) := dk_29 (dk_at dksX10_cut_10 17 rfl rfl)
theorem dX10_cut_252 : decode cX10_cut 252 = .ok (.iconst 4, 1) := dk_7 (dk_at dksX10_cut_10 18 rfl rfl)
theorem dX10_cut_253 : decode cX10_cut 253 = .ok (.if_icmp .le 7, 3) := dk_164 0 7 (dk_at dksX10_cut_10 19 rfl rfl)
theorem dX10_cut_256 : decode cX10_cut 256 = .ok (.iconst 3, 1) := dk_6 (dk_at dksX10_cut_10 22 rfl rfl)
theorem dX10_cut_257 : decode cX10_cut 257 = .ok (.goto 4, 3) := dk_167 0 4 (dk_at dksX10_cut_11 0 rfl rfl)
theorem dX10_cut_260 : decode cX10_cut 260 = .ok (.iconst 2, 1) := dk_5 (dk_at dksX10_cut_11 3 rfl rfl)
theorem dX10_cut_261 : decode cX10_cut 261 = .ok (.iload_n 1, 1) := dk_27 (dk_at dksX10_cut_11 4 rfl rfl)
theorem dX10_cut_262 : decode cX10_cut 262 = .ok (.iload 4, 2) := dk_21 4 (dk_at dksX10_cut_11 5 rfl rfl)
theorem dX10_cut_264 : decode cX10_cut 264 = .ok (.lconst 0, 1) := dk_9 (dk_at dksX10_cut_11 7 rfl rfl)
theorem dX10_cut_265 : decode cX10_cut 265 = .ok (.invokevirtual 200, 3) := dk_182 0 200 (dk_at dksX10_cut_11 8 rfl rfl)
theorem dX10_cut_268 : decode cX10_cut 268 = .ok (.iload_n 1, 1) := dk_27 (dk_at dksX10_cut_11 11 rfl rfl)
theorem dX10_cut_269 : decode cX10_cut 269 = .ok (.iload_n 3, 1) := dk_29 (dk_at dksX10_cut_11 12 rfl rfl)
theorem dX10_cut_270 : decode cX10_cut 270 = .ok (.iadd, 1) := dk_96 (dk_at dksX10_cut_11 13 rfl rfl)
theorem dX10_cut_271 : decode cX10_cut 271 = .ok (.istore_n 1, 1) := dk_60 (dk_at dksX10_cut_11 14 rfl rfl)
theorem dX10_cut_272 : decode cX10_cut 272 = .ok (.goto 19, 3) := dk_167 0 19 (dk_at dksX10_cut_11 15 rfl rfl)
theorem dX10_cut_275 : decode cX10_cut 275 = .ok (.iload_n 1, 1) := dk_27 (dk_at dksX10_cut_11 18 rfl rfl)
theorem dX10_cut_276 : decode cX10_cut 276 = .ok (.aload_n 0, 1) := dk_42 (dk_at dksX10_cut_11 19 rfl rfl)
theorem dX10_cut_277 : decode cX10_cut 277 = .ok (.iload_n 1, 1) := dk_27 (dk_at dksX10_cut_11 20 rfl rfl)
theorem dX10_cut_278 : decode cX10_cut 278 = .ok (.iload_n 2, 1) := dk_28 (dk_at dksX10_cut_11 21 rfl rfl)
theorem dX10_cut_279 : decode cX10_cut 279 = .ok (.aload_n 0, 1) := dk_42 (dk_at dksX10_cut_11 22 rfl rfl)
theorem dX10_cut_280 : decode cX10_cut 280 = .ok (.iload_n 1, 1) := dk_27 (dk_at dksX10_cut_11 23 rfl rfl)
theorem dX10_cut_281 : decode cX10_cut 281 = .ok (.iconst 1, 1) := dk_4 (dk_at dksX10_cut_12 0 rfl rfl)
theorem dX10_cut_282 : decode cX10_cut 282 = .ok (.iadd, 1) := dk_96 (dk_at dksX10_cut_12 1 rfl rfl)
theorem dX10_cut_283 : decode cX10_cut 283 = .ok (.invokevirtual 196, 3) := dk_182 0 196 (dk_at dksX10_cut_12 2 rfl rfl)
theorem dX10_cut_286 : decode cX10_cut 286 = .ok (.invokevirtual 211, 3) := dk_182 0 211 (dk_at dksX10_cut_12 5 rfl rfl)
theorem dX10_cut_289 : decode cX10_cut 289 = .ok (.iadd, 1) := dk_96 (dk_at dksX10_cut_12 8 rfl rfl)
theorem dX10_cut_290 : decode cX10_cut 290 = .ok (.istore_n 1, 1) := dk_60 (dk_at dksX10_cut_12 9 rfl rfl)
theorem dX10_cut_291 : decode cX10_cut 291 = .ok (.goto (-284), 3) := dk_167 254 228 (dk_at dksX10_cut_12 10 rfl rfl)
theorem dX10_cut_294 : decode cX10_cut 294 = .ok (.return_, 1) := dk_177 (dk_at dksX10_cut_12 13 rfl rfl)
def dkwX10_byteAt_0 : List UInt8 := [27, 42, 180, 0, 184, 162, 0, 16, 42, 180, 0, 17, 27, 51, 17, 0, 255, 126, 167, 0, 4, 3, 172]
abbrev dktX10_byteAt_0 : List UInt8 := dkwX10_byteAt_0 ++ []
theorem dksX10_byteAt_0 : cX10_byteAt.data.toList.drop 0 = dktX10_byteAt_0 := by decide +kernel
theorem dX10_byteAt_0 : decode cX10_byteAt 0 = .ok (.iload_n 1, 1) := dk_27 (dk_at dksX10_byteAt_0 0 rfl rfl)
theorem dX10_byteAt_1 : decode cX10_byteAt 1 = .ok (.aload_n 0, 1) := dk_42 (dk_at dksX10_byteAt_0 1 rfl rfl)
theorem dX10_byteAt_2 : decode cX10_byteAt 2 = .ok (.getfield 184, 3) := dk_180 0 184 (dk_at dksX10_byteAt_0 2 rfl rfl)
theorem dX10_byteAt_5 : decode cX10_byteAt 5 = .ok (.if_icmp .ge 16, 3) := dk_162 0 16 (dk_at dksX10_byteAt_0 5 rfl rfl)
theorem dX10_byteAt_8 : decode cX10_byteAt 8 = .ok (.aload_n 0, 1) := dk_42 (dk_at dksX10_byteAt_0 8 rfl rfl)
theorem dX10_byteAt_9 : decode cX10_byteAt 9 = .ok (.getfield 17, 3) := dk_180 0 17 (dk_at dksX10_byteAt_0 9 rfl rfl)
theorem dX10_byteAt_12 : decode cX10_byteAt 12 = .ok (.iload_n 1, 1) := dk_27 (dk_at dksX10_byteAt_0 12 rfl rfl)
theorem dX10_byteAt_13 : decode cX10_byteAt 13 = .ok (.baload, 1) := dk_51 (dk_at dksX10_byteAt_0 13 rfl rfl)
theorem dX10_byteAt_14 : decode cX10_byteAt 14 = .ok (.sipush 255, 3) := dk_17 0 255 (dk_at dksX10_byteAt_0 14 rfl rfl)
theorem dX10_byteAt_17 : decode cX10_byteAt 17 = .ok (.iand, 1) := dk_126 (dk_at dksX10_byteAt_0 17 rfl rfl)
theorem dX10_byteAt_18 : decode cX10_byteAt 18 = .ok (.goto 4, 3) := dk_167 0 4 (dk_at dksX10_byteAt_0 18 rfl rfl)
theorem dX10_byteAt_21 : decode cX10_byteAt 21 = .ok (.iconst 0, 1) := dk_3 (dk_at dksX10_byteAt_0 21 rfl rfl)
theorem dX10_byteAt_22 : decode cX10_byteAt 22 = .ok (.ireturn, 1) := dk_172 (dk_at dksX10_byteAt_0 22 rfl rfl)
def dkwX10_token_2 : List UInt8 := [181, 0, 193, 177]
abbrev dktX10_token_2 : List UInt8 := dkwX10_token_2 ++ []
def dkwX10_token_1 : List UInt8 := [42, 180, 0, 193, 29, 79, 42, 180, 0, 30, 42, 180, 0, 193, 22, 4, 80, 42, 89, 180, 0, 193, 4, 96]
abbrev dktX10_token_1 : List UInt8 := dkwX10_token_1 ++ dktX10_token_2
def dkwX10_token_0 : List UInt8 := [42, 180, 0, 20, 42, 180, 0, 193, 27, 79, 42, 180, 0, 24, 42, 180, 0, 193, 28, 79, 42, 180, 0, 27]
abbrev dktX10_token_0 : List UInt8 := dkwX10_token_0 ++ dktX10_token_1
theorem dksX10_token_0 : cX10_token.data.toList.drop 0 = dktX10_token_0 := by decide +kernel
theorem dksX10_token_1 : cX10_token.data.toList.drop 24 = dktX10_token_1 := dk_seg dksX10_token_0 24 rfl rfl
theorem dksX10_token_2 : cX10_token.data.toList.drop 48 = dktX10_token_2 := dk_seg dksX10_token_1 24 rfl rfl
theorem dX10_token_0 : decode cX10_token 0 = .ok (.aload_n 0, 1) := dk_42 (dk_at dksX10_token_0 0 rfl rfl)
theorem dX10_token_1 : decode cX10_token 1 = .ok (.getfield 20, 3) := dk_180 0 20 (dk_at dksX10_token_0 1 rfl rfl)
theorem dX10_token_4 : decode cX10_token 4 = .ok (.aload_n 0, 1) := dk_42 (dk_at dksX10_token_0 4 rfl rfl)
theorem dX10_token_5 : decode cX10_token 5 = .ok (.getfield 193, 3) := dk_180 0 193 (dk_at dksX10_token_0 5 rfl rfl)
theorem dX10_token_8 : decode cX10_token 8 = .ok (.iload_n 1, 1) := dk_27 (dk_at dksX10_token_0 8 rfl rfl)
theorem dX10_token_9 : decode cX10_token 9 = .ok (.iastore, 1) := dk_79 (dk_at dksX10_token_0 9 rfl rfl)
theorem dX10_token_10 : decode cX10_token 10 = .ok (.aload_n 0, 1) := dk_42 (dk_at dksX10_token_0 10 rfl rfl)
theorem dX10_token_11 : decode cX10_token 11 = .ok (.getfield 24, 3) := dk_180 0 24 (dk_at dksX10_token_0 11 rfl rfl)
theorem dX10_token_14 : decode cX10_token 14 = .ok (.aload_n 0, 1) := dk_42 (dk_at dksX10_token_0 14 rfl rfl)
theorem dX10_token_15 : decode cX10_token 15 = .ok (.getfield 193, 3) := dk_180 0 193 (dk_at dksX10_token_0 15 rfl rfl)
theorem dX10_token_18 : decode cX10_token 18 = .ok (.iload_n 2, 1) := dk_28 (dk_at dksX10_token_0 18 rfl rfl)
theorem dX10_token_19 : decode cX10_token 19 = .ok (.iastore, 1) := dk_79 (dk_at dksX10_token_0 19 rfl rfl)
theorem dX10_token_20 : decode cX10_token 20 = .ok (.aload_n 0, 1) := dk_42 (dk_at dksX10_token_0 20 rfl rfl)
theorem dX10_token_21 : decode cX10_token 21 = .ok (.getfield 27, 3) := dk_180 0 27 (dk_at dksX10_token_0 21 rfl rfl)
theorem dX10_token_24 : decode cX10_token 24 = .ok (.aload_n 0, 1) := dk_42 (dk_at dksX10_token_1 0 rfl rfl)
theorem dX10_token_25 : decode cX10_token 25 = .ok (.getfield 193, 3) := dk_180 0 193 (dk_at dksX10_token_1 1 rfl rfl)
theorem dX10_token_28 : decode cX10_token 28 = .ok (.iload_n 3, 1) := dk_29 (dk_at dksX10_token_1 4 rfl rfl)
theorem dX10_token_29 : decode cX10_token 29 = .ok (.iastore, 1) := dk_79 (dk_at dksX10_token_1 5 rfl rfl)
theorem dX10_token_30 : decode cX10_token 30 = .ok (.aload_n 0, 1) := dk_42 (dk_at dksX10_token_1 6 rfl rfl)
theorem dX10_token_31 : decode cX10_token 31 = .ok (.getfield 30, 3) := dk_180 0 30 (dk_at dksX10_token_1 7 rfl rfl)
theorem dX10_token_34 : decode cX10_token 34 = .ok (.aload_n 0, 1) := dk_42 (dk_at dksX10_token_1 10 rfl rfl)
theorem dX10_token_35 : decode cX10_token 35 = .ok (.getfield 193, 3) := dk_180 0 193 (dk_at dksX10_token_1 11 rfl rfl)
theorem dX10_token_38 : decode cX10_token 38 = .ok (.lload 4, 2) := dk_22 4 (dk_at dksX10_token_1 14 rfl rfl)
theorem dX10_token_40 : decode cX10_token 40 = .ok (.lastore, 1) := dk_80 (dk_at dksX10_token_1 16 rfl rfl)
theorem dX10_token_41 : decode cX10_token 41 = .ok (.aload_n 0, 1) := dk_42 (dk_at dksX10_token_1 17 rfl rfl)
theorem dX10_token_42 : decode cX10_token 42 = .ok (.dup, 1) := dk_89 (dk_at dksX10_token_1 18 rfl rfl)
theorem dX10_token_43 : decode cX10_token 43 = .ok (.getfield 193, 3) := dk_180 0 193 (dk_at dksX10_token_1 19 rfl rfl)
theorem dX10_token_46 : decode cX10_token 46 = .ok (.iconst 1, 1) := dk_4 (dk_at dksX10_token_1 22 rfl rfl)
theorem dX10_token_47 : decode cX10_token 47 = .ok (.iadd, 1) := dk_96 (dk_at dksX10_token_1 23 rfl rfl)
theorem dX10_token_48 : decode cX10_token 48 = .ok (.putfield 193, 3) := dk_181 0 193 (dk_at dksX10_token_2 0 rfl rfl)
theorem dX10_token_51 : decode cX10_token 51 = .ok (.return_, 1) := dk_177 (dk_at dksX10_token_2 3 rfl rfl)
def dkwX10_isLetter_0 : List UInt8 := [26, 16, 97, 161, 0, 13, 26, 16, 122, 163, 0, 7, 4, 167, 0, 4, 3, 172]
abbrev dktX10_isLetter_0 : List UInt8 := dkwX10_isLetter_0 ++ []
theorem dksX10_isLetter_0 : cX10_isLetter.data.toList.drop 0 = dktX10_isLetter_0 := by decide +kernel
theorem dX10_isLetter_0 : decode cX10_isLetter 0 = .ok (.iload_n 0, 1) := dk_26 (dk_at dksX10_isLetter_0 0 rfl rfl)
theorem dX10_isLetter_1 : decode cX10_isLetter 1 = .ok (.bipush 97, 2) := dk_16 97 (dk_at dksX10_isLetter_0 1 rfl rfl)
theorem dX10_isLetter_3 : decode cX10_isLetter 3 = .ok (.if_icmp .lt 13, 3) := dk_161 0 13 (dk_at dksX10_isLetter_0 3 rfl rfl)
theorem dX10_isLetter_6 : decode cX10_isLetter 6 = .ok (.iload_n 0, 1) := dk_26 (dk_at dksX10_isLetter_0 6 rfl rfl)
theorem dX10_isLetter_7 : decode cX10_isLetter 7 = .ok (.bipush 122, 2) := dk_16 122 (dk_at dksX10_isLetter_0 7 rfl rfl)
theorem dX10_isLetter_9 : decode cX10_isLetter 9 = .ok (.if_icmp .gt 7, 3) := dk_163 0 7 (dk_at dksX10_isLetter_0 9 rfl rfl)
theorem dX10_isLetter_12 : decode cX10_isLetter 12 = .ok (.iconst 1, 1) := dk_4 (dk_at dksX10_isLetter_0 12 rfl rfl)
theorem dX10_isLetter_13 : decode cX10_isLetter 13 = .ok (.goto 4, 3) := dk_167 0 4 (dk_at dksX10_isLetter_0 13 rfl rfl)
theorem dX10_isLetter_16 : decode cX10_isLetter 16 = .ok (.iconst 0, 1) := dk_3 (dk_at dksX10_isLetter_0 16 rfl rfl)
theorem dX10_isLetter_17 : decode cX10_isLetter 17 = .ok (.ireturn, 1) := dk_172 (dk_at dksX10_isLetter_0 17 rfl rfl)
def dkwX10_isDigit_0 : List UInt8 := [26, 16, 48, 161, 0, 13, 26, 16, 57, 163, 0, 7, 4, 167, 0, 4, 3, 172]
abbrev dktX10_isDigit_0 : List UInt8 := dkwX10_isDigit_0 ++ []
theorem dksX10_isDigit_0 : cX10_isDigit.data.toList.drop 0 = dktX10_isDigit_0 := by decide +kernel
theorem dX10_isDigit_0 : decode cX10_isDigit 0 = .ok (.iload_n 0, 1) := dk_26 (dk_at dksX10_isDigit_0 0 rfl rfl)
theorem dX10_isDigit_1 : decode cX10_isDigit 1 = .ok (.bipush 48, 2) := dk_16 48 (dk_at dksX10_isDigit_0 1 rfl rfl)
theorem dX10_isDigit_3 : decode cX10_isDigit 3 = .ok (.if_icmp .lt 13, 3) := dk_161 0 13 (dk_at dksX10_isDigit_0 3 rfl rfl)
theorem dX10_isDigit_6 : decode cX10_isDigit 6 = .ok (.iload_n 0, 1) := dk_26 (dk_at dksX10_isDigit_0 6 rfl rfl)
theorem dX10_isDigit_7 : decode cX10_isDigit 7 = .ok (.bipush 57, 2) := dk_16 57 (dk_at dksX10_isDigit_0 7 rfl rfl)
theorem dX10_isDigit_9 : decode cX10_isDigit 9 = .ok (.if_icmp .gt 7, 3) := dk_163 0 7 (dk_at dksX10_isDigit_0 9 rfl rfl)
theorem dX10_isDigit_12 : decode cX10_isDigit 12 = .ok (.iconst 1, 1) := dk_4 (dk_at dksX10_isDigit_0 12 rfl rfl)
theorem dX10_isDigit_13 : decode cX10_isDigit 13 = .ok (.goto 4, 3) := dk_167 0 4 (dk_at dksX10_isDigit_0 13 rfl rfl)
theorem dX10_isDigit_16 : decode cX10_isDigit 16 = .ok (.iconst 0, 1) := dk_3 (dk_at dksX10_isDigit_0 16 rfl rfl)
theorem dX10_isDigit_17 : decode cX10_isDigit 17 = .ok (.ireturn, 1) := dk_172 (dk_at dksX10_isDigit_0 17 rfl rfl)
def dkwX10_sign_4 : List UInt8 := [16, 13, 54, 4, 42, 21, 4, 27, 3, 9, 182, 0, 200, 4, 172]
abbrev dktX10_sign_4 : List UInt8 := dkwX10_sign_4 ++ []
def dkwX10_sign_3 : List UInt8 := [160, 0, 7, 16, 10, 54, 4, 28, 16, 47, 160, 0, 7, 16, 15, 54, 4, 28, 16, 60, 160, 0, 7]
abbrev dktX10_sign_3 : List UInt8 := dkwX10_sign_3 ++ dktX10_sign_4
def dkwX10_sign_2 : List UInt8 := [16, 43, 160, 0, 7, 16, 8, 54, 4, 28, 16, 45, 160, 0, 7, 16, 9, 54, 4, 28, 16, 42]
abbrev dktX10_sign_2 : List UInt8 := dkwX10_sign_2 ++ dktX10_sign_3
def dkwX10_sign_1 : List UInt8 := [160, 0, 8, 16, 6, 167, 0, 15, 28, 16, 41, 160, 0, 8, 16, 7, 167, 0, 4, 6, 54, 4, 28]
abbrev dktX10_sign_1 : List UInt8 := dkwX10_sign_1 ++ dktX10_sign_2
def dkwX10_sign_0 : List UInt8 := [28, 16, 59, 160, 0, 7, 7, 167, 0, 36, 28, 16, 61, 160, 0, 7, 8, 167, 0, 26, 28, 16, 40]
abbrev dktX10_sign_0 : List UInt8 := dkwX10_sign_0 ++ dktX10_sign_1
theorem dksX10_sign_0 : cX10_sign.data.toList.drop 0 = dktX10_sign_0 := by decide +kernel
theorem dksX10_sign_1 : cX10_sign.data.toList.drop 23 = dktX10_sign_1 := dk_seg dksX10_sign_0 23 rfl rfl
theorem dksX10_sign_2 : cX10_sign.data.toList.drop 46 = dktX10_sign_2 := dk_seg dksX10_sign_1 23 rfl rfl
theorem dksX10_sign_3 : cX10_sign.data.toList.drop 68 = dktX10_sign_3 := dk_seg dksX10_sign_2 22 rfl rfl
theorem dksX10_sign_4 : cX10_sign.data.toList.drop 91 = dktX10_sign_4 := dk_seg dksX10_sign_3 23 rfl rfl
theorem dX10_sign_0 : decode cX10_sign 0 = .ok (.iload_n 2, 1) := dk_28 (dk_at dksX10_sign_0 0 rfl rfl)
theorem dX10_sign_1 : decode cX10_sign 1 = .ok (.bipush 59, 2) := dk_16 59 (dk_at dksX10_sign_0 1 rfl rfl)
theorem dX10_sign_3 : decode cX10_sign 3 = .ok (.if_icmp .ne 7, 3) := dk_160 0 7 (dk_at dksX10_sign_0 3 rfl rfl)
theorem dX10_sign_6 : decode cX10_sign 6 = .ok (.iconst 4, 1) := dk_7 (dk_at dksX10_sign_0 6 rfl rfl)
theorem dX10_sign_7 : decode cX10_sign 7 = .ok (.goto 36, 3) := dk_167 0 36 (dk_at dksX10_sign_0 7 rfl rfl)
theorem dX10_sign_10 : decode cX10_sign 10 = .ok (.iload_n 2, 1) := dk_28 (dk_at dksX10_sign_0 10 rfl rfl)
theorem dX10_sign_11 : decode cX10_sign 11 = .ok (.bipush 61, 2) := dk_16 61 (dk_at dksX10_sign_0 11 rfl rfl)
theorem dX10_sign_13 : decode cX10_sign 13 = .ok (.if_icmp .ne 7, 3) := dk_160 0 7 (dk_at dksX10_sign_0 13 rfl rfl)
theorem dX10_sign_16 : decode cX10_sign 16 = .ok (.iconst 5, 1) := dk_8 (dk_at dksX10_sign_0 16 rfl rfl)
theorem dX10_sign_17 : decode cX10_sign 17 = .ok (.goto 26, 3) := dk_167 0 26 (dk_at dksX10_sign_0 17 rfl rfl)
theorem dX10_sign_20 : decode cX10_sign 20 = .ok (.iload_n 2, 1) := dk_28 (dk_at dksX10_sign_0 20 rfl rfl)
theorem dX10_sign_21 : decode cX10_sign 21 = .ok (.bipush 40, 2) := dk_16 40 (dk_at dksX10_sign_0 21 rfl rfl)
theorem dX10_sign_23 : decode cX10_sign 23 = .ok (.if_icmp .ne 8, 3) := dk_160 0 8 (dk_at dksX10_sign_1 0 rfl rfl)
theorem dX10_sign_26 : decode cX10_sign 26 = .ok (.bipush 6, 2) := dk_16 6 (dk_at dksX10_sign_1 3 rfl rfl)
theorem dX10_sign_28 : decode cX10_sign 28 = .ok (.goto 15, 3) := dk_167 0 15 (dk_at dksX10_sign_1 5 rfl rfl)
theorem dX10_sign_31 : decode cX10_sign 31 = .ok (.iload_n 2, 1) := dk_28 (dk_at dksX10_sign_1 8 rfl rfl)
theorem dX10_sign_32 : decode cX10_sign 32 = .ok (.bipush 41, 2) := dk_16 41 (dk_at dksX10_sign_1 9 rfl rfl)
theorem dX10_sign_34 : decode cX10_sign 34 = .ok (.if_icmp .ne 8, 3) := dk_160 0 8 (dk_at dksX10_sign_1 11 rfl rfl)
theorem dX10_sign_37 : decode cX10_sign 37 = .ok (.bipush 7, 2) := dk_16 7 (dk_at dksX10_sign_1 14 rfl rfl)
theorem dX10_sign_39 : decode cX10_sign 39 = .ok (.goto 4, 3) := dk_167 0 4 (dk_at dksX10_sign_1 16 rfl rfl)
theorem dX10_sign_42 : decode cX10_sign 42 = .ok (.iconst 3, 1) := dk_6 (dk_at dksX10_sign_1 19 rfl rfl)
theorem dX10_sign_43 : decode cX10_sign 43 = .ok (.istore 4, 2) := dk_54 4 (dk_at dksX10_sign_1 20 rfl rfl)
theorem dX10_sign_45 : decode cX10_sign 45 = .ok (.iload_n 2, 1) := dk_28 (dk_at dksX10_sign_1 22 rfl rfl)
theorem dX10_sign_46 : decode cX10_sign 46 = .ok (.bipush 43, 2) := dk_16 43 (dk_at dksX10_sign_2 0 rfl rfl)
theorem dX10_sign_48 : decode cX10_sign 48 = .ok (.if_icmp .ne 7, 3) := dk_160 0 7 (dk_at dksX10_sign_2 2 rfl rfl)
theorem dX10_sign_51 : decode cX10_sign 51 = .ok (.bipush 8, 2) := dk_16 8 (dk_at dksX10_sign_2 5 rfl rfl)
theorem dX10_sign_53 : decode cX10_sign 53 = .ok (.istore 4, 2) := dk_54 4 (dk_at dksX10_sign_2 7 rfl rfl)
theorem dX10_sign_55 : decode cX10_sign 55 = .ok (.iload_n 2, 1) := dk_28 (dk_at dksX10_sign_2 9 rfl rfl)
theorem dX10_sign_56 : decode cX10_sign 56 = .ok (.bipush 45, 2) := dk_16 45 (dk_at dksX10_sign_2 10 rfl rfl)
theorem dX10_sign_58 : decode cX10_sign 58 = .ok (.if_icmp .ne 7, 3) := dk_160 0 7 (dk_at dksX10_sign_2 12 rfl rfl)
theorem dX10_sign_61 : decode cX10_sign 61 = .ok (.bipush 9, 2) := dk_16 9 (dk_at dksX10_sign_2 15 rfl rfl)
theorem dX10_sign_63 : decode cX10_sign 63 = .ok (.istore 4, 2) := dk_54 4 (dk_at dksX10_sign_2 17 rfl rfl)
theorem dX10_sign_65 : decode cX10_sign 65 = .ok (.iload_n 2, 1) := dk_28 (dk_at dksX10_sign_2 19 rfl rfl)
theorem dX10_sign_66 : decode cX10_sign 66 = .ok (.bipush 42, 2) := dk_16 42 (dk_at dksX10_sign_2 20 rfl rfl)
theorem dX10_sign_68 : decode cX10_sign 68 = .ok (.if_icmp .ne 7, 3) := dk_160 0 7 (dk_at dksX10_sign_3 0 rfl rfl)
theorem dX10_sign_71 : decode cX10_sign 71 = .ok (.bipush 10, 2) := dk_16 10 (dk_at dksX10_sign_3 3 rfl rfl)
theorem dX10_sign_73 : decode cX10_sign 73 = .ok (.istore 4, 2) := dk_54 4 (dk_at dksX10_sign_3 5 rfl rfl)
theorem dX10_sign_75 : decode cX10_sign 75 = .ok (.iload_n 2, 1) := dk_28 (dk_at dksX10_sign_3 7 rfl rfl)
theorem dX10_sign_76 : decode cX10_sign 76 = .ok (.bipush 47, 2) := dk_16 47 (dk_at dksX10_sign_3 8 rfl rfl)
theorem dX10_sign_78 : decode cX10_sign 78 = .ok (.if_icmp .ne 7, 3) := dk_160 0 7 (dk_at dksX10_sign_3 10 rfl rfl)
theorem dX10_sign_81 : decode cX10_sign 81 = .ok (.bipush 15, 2) := dk_16 15 (dk_at dksX10_sign_3 13 rfl rfl)
theorem dX10_sign_83 : decode cX10_sign 83 = .ok (.istore 4, 2) := dk_54 4 (dk_at dksX10_sign_3 15 rfl rfl)
theorem dX10_sign_85 : decode cX10_sign 85 = .ok (.iload_n 2, 1) := dk_28 (dk_at dksX10_sign_3 17 rfl rfl)
theorem dX10_sign_86 : decode cX10_sign 86 = .ok (.bipush 60, 2) := dk_16 60 (dk_at dksX10_sign_3 18 rfl rfl)
theorem dX10_sign_88 : decode cX10_sign 88 = .ok (.if_icmp .ne 7, 3) := dk_160 0 7 (dk_at dksX10_sign_3 20 rfl rfl)
theorem dX10_sign_91 : decode cX10_sign 91 = .ok (.bipush 13, 2) := dk_16 13 (dk_at dksX10_sign_4 0 rfl rfl)
theorem dX10_sign_93 : decode cX10_sign 93 = .ok (.istore 4, 2) := dk_54 4 (dk_at dksX10_sign_4 2 rfl rfl)
theorem dX10_sign_95 : decode cX10_sign 95 = .ok (.aload_n 0, 1) := dk_42 (dk_at dksX10_sign_4 4 rfl rfl)
theorem dX10_sign_96 : decode cX10_sign 96 = .ok (.iload 4, 2) := dk_21 4 (dk_at dksX10_sign_4 5 rfl rfl)
theorem dX10_sign_98 : decode cX10_sign 98 = .ok (.iload_n 1, 1) := dk_27 (dk_at dksX10_sign_4 7 rfl rfl)
theorem dX10_sign_99 : decode cX10_sign 99 = .ok (.iconst 0, 1) := dk_3 (dk_at dksX10_sign_4 8 rfl rfl)
theorem dX10_sign_100 : decode cX10_sign 100 = .ok (.lconst 0, 1) := dk_9 (dk_at dksX10_sign_4 9 rfl rfl)
theorem dX10_sign_101 : decode cX10_sign 101 = .ok (.invokevirtual 200, 3) := dk_182 0 200 (dk_at dksX10_sign_4 10 rfl rfl)
theorem dX10_sign_104 : decode cX10_sign 104 = .ok (.iconst 1, 1) := dk_4 (dk_at dksX10_sign_4 13 rfl rfl)
theorem dX10_sign_105 : decode cX10_sign 105 = .ok (.ireturn, 1) := dk_172 (dk_at dksX10_sign_4 14 rfl rfl)
def dkwX10_is_1 : List UInt8 := [3, 172]
abbrev dktX10_is_1 : List UInt8 := dkwX10_is_1 ++ []
def dkwX10_is_0 : List UInt8 := [42, 180, 0, 215, 154, 0, 20, 42, 180, 0, 20, 42, 180, 0, 218, 46, 27, 160, 0, 7, 4, 167, 0, 4]
abbrev dktX10_is_0 : List UInt8 := dkwX10_is_0 ++ dktX10_is_1
theorem dksX10_is_0 : cX10_is.data.toList.drop 0 = dktX10_is_0 := by decide +kernel
theorem dksX10_is_1 : cX10_is.data.toList.drop 24 = dktX10_is_1 := dk_seg dksX10_is_0 24 rfl rfl
theorem dX10_is_0 : decode cX10_is 0 = .ok (.aload_n 0, 1) := dk_42 (dk_at dksX10_is_0 0 rfl rfl)
theorem dX10_is_1 : decode cX10_is 1 = .ok (.getfield 215, 3) := dk_180 0 215 (dk_at dksX10_is_0 1 rfl rfl)
theorem dX10_is_4 : decode cX10_is 4 = .ok (.ifCond .ne 20, 3) := dk_154 0 20 (dk_at dksX10_is_0 4 rfl rfl)
theorem dX10_is_7 : decode cX10_is 7 = .ok (.aload_n 0, 1) := dk_42 (dk_at dksX10_is_0 7 rfl rfl)
theorem dX10_is_8 : decode cX10_is 8 = .ok (.getfield 20, 3) := dk_180 0 20 (dk_at dksX10_is_0 8 rfl rfl)
theorem dX10_is_11 : decode cX10_is 11 = .ok (.aload_n 0, 1) := dk_42 (dk_at dksX10_is_0 11 rfl rfl)
theorem dX10_is_12 : decode cX10_is 12 = .ok (.getfield 218, 3) := dk_180 0 218 (dk_at dksX10_is_0 12 rfl rfl)
theorem dX10_is_15 : decode cX10_is 15 = .ok (.iaload, 1) := dk_46 (dk_at dksX10_is_0 15 rfl rfl)
theorem dX10_is_16 : decode cX10_is 16 = .ok (.iload_n 1, 1) := dk_27 (dk_at dksX10_is_0 16 rfl rfl)
theorem dX10_is_17 : decode cX10_is 17 = .ok (.if_icmp .ne 7, 3) := dk_160 0 7 (dk_at dksX10_is_0 17 rfl rfl)
theorem dX10_is_20 : decode cX10_is 20 = .ok (.iconst 1, 1) := dk_4 (dk_at dksX10_is_0 20 rfl rfl)
theorem dX10_is_21 : decode cX10_is 21 = .ok (.goto 4, 3) := dk_167 0 4 (dk_at dksX10_is_0 21 rfl rfl)
theorem dX10_is_24 : decode cX10_is 24 = .ok (.iconst 0, 1) := dk_3 (dk_at dksX10_is_1 0 rfl rfl)
theorem dX10_is_25 : decode cX10_is 25 = .ok (.ireturn, 1) := dk_172 (dk_at dksX10_is_1 1 rfl rfl)
def dkwX10_tellOne_10 : List UInt8 := [182, 1, 33, 177]
abbrev dktX10_tellOne_10 : List UInt8 := dkwX10_tellOne_10 ++ []
def dkwX10_tellOne_9 : List UInt8 := [164, 0, 8, 42, 4, 182, 0, 230, 42, 180, 0, 215, 158, 0, 4, 177, 42, 182, 0, 236, 42, 27]
abbrev dktX10_tellOne_9 : List UInt8 := dkwX10_tellOne_9 ++ dktX10_tellOne_10
def dkwX10_tellOne_8 : List UInt8 := [180, 0, 218, 46, 16, 24, 100, 60, 27, 155, 0, 17, 42, 180, 0, 20, 42, 180, 0, 218, 46, 16, 27]
abbrev dktX10_tellOne_8 : List UInt8 := dkwX10_tellOne_8 ++ dktX10_tellOne_9
def dkwX10_tellOne_7 : List UInt8 := [180, 0, 67, 42, 180, 0, 248, 42, 3, 17, 39, 15, 182, 1, 30, 79, 167, 0, 56, 42, 180, 0, 20, 42]
abbrev dktX10_tellOne_7 : List UInt8 := dkwX10_tellOne_7 ++ dktX10_tellOne_8
def dkwX10_tellOne_6 : List UInt8 := [79, 167, 0, 95, 42, 180, 0, 64, 42, 180, 0, 248, 42, 3, 16, 100, 182, 1, 30, 79, 167, 0, 76, 42]
abbrev dktX10_tellOne_6 : List UInt8 := dkwX10_tellOne_6 ++ dktX10_tellOne_7
def dkwX10_tellOne_5 : List UInt8 := [16, 99, 182, 1, 30, 79, 167, 0, 114, 42, 180, 0, 61, 42, 180, 0, 248, 42, 3, 16, 99, 182, 1, 30]
abbrev dktX10_tellOne_5 : List UInt8 := dkwX10_tellOne_5 ++ dktX10_tellOne_6
def dkwX10_tellOne_4 : List UInt8 := [180, 0, 215, 154, 0, 140, 42, 182, 1, 27, 167, 0, 133, 42, 180, 0, 58, 42, 180, 0, 248, 42, 4]
abbrev dktX10_tellOne_4 : List UInt8 := dkwX10_tellOne_4 ++ dktX10_tellOne_5
def dkwX10_tellOne_3 : List UInt8 := [182, 1, 24, 167, 0, 162, 42, 42, 180, 0, 52, 42, 180, 0, 248, 46, 16, 20, 182, 1, 20, 42]
abbrev dktX10_tellOne_3 : List UInt8 := dkwX10_tellOne_3 ++ dktX10_tellOne_4
def dkwX10_tellOne_2 : List UInt8 := [42, 42, 180, 0, 43, 42, 180, 0, 248, 46, 16, 6, 182, 1, 20, 42, 180, 0, 215, 154, 0, 169, 42]
abbrev dktX10_tellOne_2 : List UInt8 := dkwX10_tellOne_2 ++ dktX10_tellOne_3
def dkwX10_tellOne_1 : List UInt8 := [170, 0, 0, 0, 0, 0, 190, 0, 0, 0, 20, 0, 0, 0, 29, 0, 0, 0, 55, 0, 0, 0, 84, 0, 0, 0, 113, 0, 0, 0, 132, 0, 0, 0, 190, 0, 0, 0, 190, 0, 0, 0, 190, 0, 0, 0, 190, 0, 0, 0, 151, 0, 0, 0, 170]
abbrev dktX10_tellOne_1 : List UInt8 := dkwX10_tellOne_1 ++ dktX10_tellOne_2
def dkwX10_tellOne_0 : List UInt8 := [42, 180, 0, 20, 42, 180, 0, 218, 46]
abbrev dktX10_tellOne_0 : List UInt8 := dkwX10_tellOne_0 ++ dktX10_tellOne_1
theorem dksX10_tellOne_0 : cX10_tellOne.data.toList.drop 0 = dktX10_tellOne_0 := by decide +kernel
theorem dksX10_tellOne_1 : cX10_tellOne.data.toList.drop 9 = dktX10_tellOne_1 := dk_seg dksX10_tellOne_0 9 rfl rfl
theorem dksX10_tellOne_2 : cX10_tellOne.data.toList.drop 64 = dktX10_tellOne_2 := dk_seg dksX10_tellOne_1 55 rfl rfl
theorem dksX10_tellOne_3 : cX10_tellOne.data.toList.drop 87 = dktX10_tellOne_3 := dk_seg dksX10_tellOne_2 23 rfl rfl
theorem dksX10_tellOne_4 : cX10_tellOne.data.toList.drop 109 = dktX10_tellOne_4 := dk_seg dksX10_tellOne_3 22 rfl rfl
theorem dksX10_tellOne_5 : cX10_tellOne.data.toList.drop 132 = dktX10_tellOne_5 := dk_seg dksX10_tellOne_4 23 rfl rfl
theorem dksX10_tellOne_6 : cX10_tellOne.data.toList.drop 156 = dktX10_tellOne_6 := dk_seg dksX10_tellOne_5 24 rfl rfl
theorem dksX10_tellOne_7 : cX10_tellOne.data.toList.drop 180 = dktX10_tellOne_7 := dk_seg dksX10_tellOne_6 24 rfl rfl
theorem dksX10_tellOne_8 : cX10_tellOne.data.toList.drop 204 = dktX10_tellOne_8 := dk_seg dksX10_tellOne_7 24 rfl rfl
theorem dksX10_tellOne_9 : cX10_tellOne.data.toList.drop 227 = dktX10_tellOne_9 := dk_seg dksX10_tellOne_8 23 rfl rfl
theorem dksX10_tellOne_10 : cX10_tellOne.data.toList.drop 249 = dktX10_tellOne_10 := dk_seg dksX10_tellOne_9 22 rfl rfl
theorem dX10_tellOne_0 : decode cX10_tellOne 0 = .ok (.aload_n 0, 1) := dk_42 (dk_at dksX10_tellOne_0 0 rfl rfl)
theorem dX10_tellOne_1 : decode cX10_tellOne 1 = .ok (.getfield 20, 3) := dk_180 0 20 (dk_at dksX10_tellOne_0 1 rfl rfl)
theorem dX10_tellOne_4 : decode cX10_tellOne 4 = .ok (.aload_n 0, 1) := dk_42 (dk_at dksX10_tellOne_0 4 rfl rfl)
theorem dX10_tellOne_5 : decode cX10_tellOne 5 = .ok (.getfield 218, 3) := dk_180 0 218 (dk_at dksX10_tellOne_0 5 rfl rfl)
theorem dX10_tellOne_8 : decode cX10_tellOne 8 = .ok (.iaload, 1) := dk_46 (dk_at dksX10_tellOne_0 8 rfl rfl)
theorem dX10_tellOne_9 : decode cX10_tellOne 9 = .ok (.tableswitch 190 20 29 #[55, 84, 113, 132, 190, 190, 190, 190, 151, 170], 55) := by decide +kernel
theorem dX10_tellOne_64 : decode cX10_tellOne 64 = .ok (.aload_n 0, 1) := dk_42 (dk_at dksX10_tellOne_2 0 rfl rfl)
theorem dX10_tellOne_65 : decode cX10_tellOne 65 = .ok (.aload_n 0, 1) := dk_42 (dk_at dksX10_tellOne_2 1 rfl rfl)
theorem dX10_tellOne_66 : decode cX10_tellOne 66 = .ok (.getfield 43, 3) := dk_180 0 43 (dk_at dksX10_tellOne_2 2 rfl rfl)
theorem dX10_tellOne_69 : decode cX10_tellOne 69 = .ok (.aload_n 0, 1) := dk_42 (dk_at dksX10_tellOne_2 5 rfl rfl)
theorem dX10_tellOne_70 : decode cX10_tellOne 70 = .ok (.getfield 248, 3) := dk_180 0 248 (dk_at dksX10_tellOne_2 6 rfl rfl)
theorem dX10_tellOne_73 : decode cX10_tellOne 73 = .ok (.iaload, 1) := dk_46 (dk_at dksX10_tellOne_2 9 rfl rfl)
theorem dX10_tellOne_74 : decode cX10_tellOne 74 = .ok (.bipush 6, 2) := dk_16 6 (dk_at dksX10_tellOne_2 10 rfl rfl)
theorem dX10_tellOne_76 : decode cX10_tellOne 76 = .ok (.invokevirtual 276, 3) := dk_182 1 20 (dk_at dksX10_tellOne_2 12 rfl rfl)
theorem dX10_tellOne_79 : decode cX10_tellOne 79 = .ok (.aload_n 0, 1) := dk_42 (dk_at dksX10_tellOne_2 15 rfl rfl)
theorem dX10_tellOne_80 : decode cX10_tellOne 80 = .ok (.getfield 215, 3) := dk_180 0 215 (dk_at dksX10_tellOne_2 16 rfl rfl)
theorem dX10_tellOne_83 : decode cX10_tellOne 83 = .ok (.ifCond .ne 169, 3) := dk_154 0 169 (dk_at dksX10_tellOne_2 19 rfl rfl)
theorem dX10_tellOne_86 : decode cX10_tellOne 86 = .ok (.aload_n 0, 1) := dk_42 (dk_at dksX10_tellOne_2 22 rfl rfl)
theorem dX10_tellOne_87 : decode cX10_tellOne 87 = .ok (.invokevirtual 280, 3) := dk_182 1 24 (dk_at dksX10_tellOne_3 0 rfl rfl)
theorem dX10_tellOne_90 : decode cX10_tellOne 90 = .ok (.goto 162, 3) := dk_167 0 162 (dk_at dksX10_tellOne_3 3 rfl rfl)
theorem dX10_tellOne_93 : decode cX10_tellOne 93 = .ok (.aload_n 0, 1) := dk_42 (dk_at dksX10_tellOne_3 6 rfl rfl)
theorem dX10_tellOne_94 : decode cX10_tellOne 94 = .ok (.aload_n 0, 1) := dk_42 (dk_at dksX10_tellOne_3 7 rfl rfl)
theorem dX10_tellOne_95 : decode cX10_tellOne 95 = .ok (.getfield 52, 3) := dk_180 0 52 (dk_at dksX10_tellOne_3 8 rfl rfl)
theorem dX10_tellOne_98 : decode cX10_tellOne 98 = .ok (.aload_n 0, 1) := dk_42 (dk_at dksX10_tellOne_3 11 rfl rfl)
theorem dX10_tellOne_99 : decode cX10_tellOne 99 = .ok (.getfield 248, 3) := dk_180 0 248 (dk_at dksX10_tellOne_3 12 rfl rfl)
theorem dX10_tellOne_102 : decode cX10_tellOne 102 = .ok (.iaload, 1) := dk_46 (dk_at dksX10_tellOne_3 15 rfl rfl)
theorem dX10_tellOne_103 : decode cX10_tellOne 103 = .ok (.bipush 20, 2) := dk_16 20 (dk_at dksX10_tellOne_3 16 rfl rfl)
theorem dX10_tellOne_105 : decode cX10_tellOne 105 = .ok (.invokevirtual 276, 3) := dk_182 1 20 (dk_at dksX10_tellOne_3 18 rfl rfl)
theorem dX10_tellOne_108 : decode cX10_tellOne 108 = .ok (.aload_n 0, 1) := dk_42 (dk_at dksX10_tellOne_3 21 rfl rfl)
theorem dX10_tellOne_109 : decode cX10_tellOne 109 = .ok (.getfield 215, 3) := dk_180 0 215 (dk_at dksX10_tellOne_4 0 rfl rfl)
theorem dX10_tellOne_112 : decode cX10_tellOne 112 = .ok (.ifCond .ne 140, 3) := dk_154 0 140 (dk_at dksX10_tellOne_4 3 rfl rfl)
theorem dX10_tellOne_115 : decode cX10_tellOne 115 = .ok (.aload_n 0, 1) := dk_42 (dk_at dksX10_tellOne_4 6 rfl rfl)
theorem dX10_tellOne_116 : decode cX10_tellOne 116 = .ok (.invokevirtual 283, 3) := dk_182 1 27 (dk_at dksX10_tellOne_4 7 rfl rfl)
theorem dX10_tellOne_119 : decode cX10_tellOne 119 = .ok (.goto 133, 3) := dk_167 0 133 (dk_at dksX10_tellOne_4 10 rfl rfl)
theorem dX10_tellOne_122 : decode cX10_tellOne 122 = .ok (.aload_n 0, 1) := dk_42 (dk_at dksX10_tellOne_4 13 rfl rfl)
theorem dX10_tellOne_123 : decode cX10_tellOne 123 = .ok (.getfield 58, 3) := dk_180 0 58 (dk_at dksX10_tellOne_4 14 rfl rfl)
theorem dX10_tellOne_126 : decode cX10_tellOne 126 = .ok (.aload_n 0, 1) := dk_42 (dk_at dksX10_tellOne_4 17 rfl rfl)
theorem dX10_tellOne_127 : decode cX10_tellOne 127 = .ok (.getfield 248, 3) := dk_180 0 248 (dk_at dksX10_tellOne_4 18 rfl rfl)
theorem dX10_tellOne_130 : decode cX10_tellOne 130 = .ok (.aload_n 0, 1) := dk_42 (dk_at dksX10_tellOne_4 21 rfl rfl)
theorem dX10_tellOne_131 : decode cX10_tellOne 131 = .ok (.iconst 1, 1) := dk_4 (dk_at dksX10_tellOne_4 22 rfl rfl)
theorem dX10_tellOne_132 : decode cX10_tellOne 132 = .ok (.bipush 99, 2) := dk_16 99 (dk_at dksX10_tellOne_5 0 rfl rfl)
theorem dX10_tellOne_134 : decode cX10_tellOne 134 = .ok (.invokevirtual 286, 3) := dk_182 1 30 (dk_at dksX10_tellOne_5 2 rfl rfl)
theorem dX10_tellOne_137 : decode cX10_tellOne 137 = .ok (.iastore, 1) := dk_79 (dk_at dksX10_tellOne_5 5 rfl rfl)
theorem dX10_tellOne_138 : decode cX10_tellOne 138 = .ok (.goto 114, 3) := dk_167 0 114 (dk_at dksX10_tellOne_5 6 rfl rfl)
theorem dX10_tellOne_141 : decode cX10_tellOne 141 = .ok (.aload_n 0, 1) := dk_42 (dk_at dksX10_tellOne_5 9 rfl rfl)
theorem dX10_tellOne_142 : decode cX10_tellOne 142 = .ok (.getfield 61, 3) := dk_180 0 61 (dk_at dksX10_tellOne_5 10 rfl rfl)
theorem dX10_tellOne_145 : decode cX10_tellOne 145 = .ok (.aload_n 0, 1) := dk_42 (dk_at dksX10_tellOne_5 13 rfl rfl)
theorem dX10_tellOne_146 : decode cX10_tellOne 146 = .ok (.getfield 248, 3) := dk_180 0 248 (dk_at dksX10_tellOne_5 14 rfl rfl)
theorem dX10_tellOne_149 : decode cX10_tellOne 149 = .ok (.aload_n 0, 1) := dk_42 (dk_at dksX10_tellOne_5 17 rfl rfl)
theorem dX10_tellOne_150 : decode cX10_tellOne 150 = .ok (.iconst 0, 1) := dk_3 (dk_at dksX10_tellOne_5 18 rfl rfl)
theorem dX10_tellOne_151 : decode cX10_tellOne 151 = .ok (.bipush 99, 2) := dk_16 99 (dk_at dksX10_tellOne_5 19 rfl rfl)
theorem dX10_tellOne_153 : decode cX10_tellOne 153 = .ok (.invokevirtual 286, 3) := dk_182 1 30 (dk_at dksX10_tellOne_5 21 rfl rfl)
theorem dX10_tellOne_156 : decode cX10_tellOne 156 = .ok (.iastore, 1) := dk_79 (dk_at dksX10_tellOne_6 0 rfl rfl)
theorem dX10_tellOne_157 : decode cX10_tellOne 157 = .ok (.goto 95, 3) := dk_167 0 95 (dk_at dksX10_tellOne_6 1 rfl rfl)
theorem dX10_tellOne_160 : decode cX10_tellOne 160 = .ok (.aload_n 0, 1) := dk_42 (dk_at dksX10_tellOne_6 4 rfl rfl)
theorem dX10_tellOne_161 : decode cX10_tellOne 161 = .ok (.getfield 64, 3) := dk_180 0 64 (dk_at dksX10_tellOne_6 5 rfl rfl)
theorem dX10_tellOne_164 : decode cX10_tellOne 164 = .ok (.aload_n 0, 1) := dk_42 (dk_at dksX10_tellOne_6 8 rfl rfl)
theorem dX10_tellOne_165 : decode cX10_tellOne 165 = .ok (.getfield 248, 3) := dk_180 0 248 (dk_at dksX10_tellOne_6 9 rfl rfl)
theorem dX10_tellOne_168 : decode cX10_tellOne 168 = .ok (.aload_n 0, 1) := dk_42 (dk_at dksX10_tellOne_6 12 rfl rfl)
theorem dX10_tellOne_169 : decode cX10_tellOne 169 = .ok (.iconst 0, 1) := dk_3 (dk_at dksX10_tellOne_6 13 rfl rfl)
theorem dX10_tellOne_170 : decode cX10_tellOne 170 = .ok (.bipush 100, 2) := dk_16 100 (dk_at dksX10_tellOne_6 14 rfl rfl)
theorem dX10_tellOne_172 : decode cX10_tellOne 172 = .ok (.invokevirtual 286, 3) := dk_182 1 30 (dk_at dksX10_tellOne_6 16 rfl rfl)
theorem dX10_tellOne_175 : decode cX10_tellOne 175 = .ok (.iastore, 1) := dk_79 (dk_at dksX10_tellOne_6 19 rfl rfl)
theorem dX10_tellOne_176 : decode cX10_tellOne 176 = .ok (.goto 76, 3) := dk_167 0 76 (dk_at dksX10_tellOne_6 20 rfl rfl)
theorem dX10_tellOne_179 : decode cX10_tellOne 179 = .ok (.aload_n 0, 1) := dk_42 (dk_at dksX10_tellOne_6 23 rfl rfl)
theorem dX10_tellOne_180 : decode cX10_tellOne 180 = .ok (.getfield 67, 3) := dk_180 0 67 (dk_at dksX10_tellOne_7 0 rfl rfl)
theorem dX10_tellOne_183 : decode cX10_tellOne 183 = .ok (.aload_n 0, 1) := dk_42 (dk_at dksX10_tellOne_7 3 rfl rfl)
theorem dX10_tellOne_184 : decode cX10_tellOne 184 = .ok (.getfield 248, 3) := dk_180 0 248 (dk_at dksX10_tellOne_7 4 rfl rfl)
theorem dX10_tellOne_187 : decode cX10_tellOne 187 = .ok (.aload_n 0, 1) := dk_42 (dk_at dksX10_tellOne_7 7 rfl rfl)
theorem dX10_tellOne_188 : decode cX10_tellOne 188 = .ok (.iconst 0, 1) := dk_3 (dk_at dksX10_tellOne_7 8 rfl rfl)
theorem dX10_tellOne_189 : decode cX10_tellOne 189 = .ok (.sipush 9999, 3) := dk_17 39 15 (dk_at dksX10_tellOne_7 9 rfl rfl)
theorem dX10_tellOne_192 : decode cX10_tellOne 192 = .ok (.invokevirtual 286, 3) := dk_182 1 30 (dk_at dksX10_tellOne_7 12 rfl rfl)
theorem dX10_tellOne_195 : decode cX10_tellOne 195 = .ok (.iastore, 1) := dk_79 (dk_at dksX10_tellOne_7 15 rfl rfl)
theorem dX10_tellOne_196 : decode cX10_tellOne 196 = .ok (.goto 56, 3) := dk_167 0 56 (dk_at dksX10_tellOne_7 16 rfl rfl)
theorem dX10_tellOne_199 : decode cX10_tellOne 199 = .ok (.aload_n 0, 1) := dk_42 (dk_at dksX10_tellOne_7 19 rfl rfl)
theorem dX10_tellOne_200 : decode cX10_tellOne 200 = .ok (.getfield 20, 3) := dk_180 0 20 (dk_at dksX10_tellOne_7 20 rfl rfl)
theorem dX10_tellOne_203 : decode cX10_tellOne 203 = .ok (.aload_n 0, 1) := dk_42 (dk_at dksX10_tellOne_7 23 rfl rfl)
theorem dX10_tellOne_204 : decode cX10_tellOne 204 = .ok (.getfield 218, 3) := dk_180 0 218 (dk_at dksX10_tellOne_8 0 rfl rfl)
theorem dX10_tellOne_207 : decode cX10_tellOne 207 = .ok (.iaload, 1) := dk_46 (dk_at dksX10_tellOne_8 3 rfl rfl)
theorem dX10_tellOne_208 : decode cX10_tellOne 208 = .ok (.bipush 24, 2) := dk_16 24 (dk_at dksX10_tellOne_8 4 rfl rfl)
theorem dX10_tellOne_210 : decode cX10_tellOne 210 = .ok (.isub, 1) := dk_100 (dk_at dksX10_tellOne_8 6 rfl rfl)
theorem dX10_tellOne_211 : decode cX10_tellOne 211 = .ok (.istore_n 1, 1) := dk_60 (dk_at dksX10_tellOne_8 7 rfl rfl)
theorem dX10_tellOne_212 : decode cX10_tellOne 212 = .ok (.iload_n 1, 1) := dk_27 (dk_at dksX10_tellOne_8 8 rfl rfl)
theorem dX10_tellOne_213 : decode cX10_tellOne 213 = .ok (.ifCond .lt 17, 3) := dk_155 0 17 (dk_at dksX10_tellOne_8 9 rfl rfl)
theorem dX10_tellOne_216 : decode cX10_tellOne 216 = .ok (.aload_n 0, 1) := dk_42 (dk_at dksX10_tellOne_8 12 rfl rfl)
theorem dX10_tellOne_217 : decode cX10_tellOne 217 = .ok (.getfield 20, 3) := dk_180 0 20 (dk_at dksX10_tellOne_8 13 rfl rfl)
theorem dX10_tellOne_220 : decode cX10_tellOne 220 = .ok (.aload_n 0, 1) := dk_42 (dk_at dksX10_tellOne_8 16 rfl rfl)
theorem dX10_tellOne_221 : decode cX10_tellOne 221 = .ok (.getfield 218, 3) := dk_180 0 218 (dk_at dksX10_tellOne_8 17 rfl rfl)
theorem dX10_tellOne_224 : decode cX10_tellOne 224 = .ok (.iaload, 1) := dk_46 (dk_at dksX10_tellOne_8 20 rfl rfl)
theorem dX10_tellOne_225 : decode cX10_tellOne 225 = .ok (.bipush 27, 2) := dk_16 27 (dk_at dksX10_tellOne_8 21 rfl rfl)
theorem dX10_tellOne_227 : decode cX10_tellOne 227 = .ok (.if_icmp .le 8, 3) := dk_164 0 8 (dk_at dksX10_tellOne_9 0 rfl rfl)
theorem dX10_tellOne_230 : decode cX10_tellOne 230 = .ok (.aload_n 0, 1) := dk_42 (dk_at dksX10_tellOne_9 3 rfl rfl)
theorem dX10_tellOne_231 : decode cX10_tellOne 231 = .ok (.iconst 1, 1) := dk_4 (dk_at dksX10_tellOne_9 4 rfl rfl)
theorem dX10_tellOne_232 : decode cX10_tellOne 232 = .ok (.invokevirtual 230, 3) := dk_182 0 230 (dk_at dksX10_tellOne_9 5 rfl rfl)
theorem dX10_tellOne_235 : decode cX10_tellOne 235 = .ok (.aload_n 0, 1) := dk_42 (dk_at dksX10_tellOne_9 8 rfl rfl)
theorem dX10_tellOne_236 : decode cX10_tellOne 236 = .ok (.getfield 215, 3) := dk_180 0 215 (dk_at dksX10_tellOne_9 9 rfl rfl)
theorem dX10_tellOne_239 : decode cX10_tellOne 239 = .ok (.ifCond .le 4, 3) := dk_158 0 4 (dk_at dksX10_tellOne_9 12 rfl rfl)
theorem dX10_tellOne_242 : decode cX10_tellOne 242 = .ok (.return_, 1) := dk_177 (dk_at dksX10_tellOne_9 15 rfl rfl)
theorem dX10_tellOne_243 : decode cX10_tellOne 243 = .ok (.aload_n 0, 1) := dk_42 (dk_at dksX10_tellOne_9 16 rfl rfl)
theorem dX10_tellOne_244 : decode cX10_tellOne 244 = .ok (.invokevirtual 236, 3) := dk_182 0 236 (dk_at dksX10_tellOne_9 17 rfl rfl)
theorem dX10_tellOne_247 : decode cX10_tellOne 247 = .ok (.aload_n 0, 1) := dk_42 (dk_at dksX10_tellOne_9 20 rfl rfl)
theorem dX10_tellOne_248 : decode cX10_tellOne 248 = .ok (.iload_n 1, 1) := dk_27 (dk_at dksX10_tellOne_9 21 rfl rfl)
theorem dX10_tellOne_249 : decode cX10_tellOne 249 = .ok (.invokevirtual 289, 3) := dk_182 1 33 (dk_at dksX10_tellOne_10 0 rfl rfl)
theorem dX10_tellOne_252 : decode cX10_tellOne 252 = .ok (.return_, 1) := dk_177 (dk_at dksX10_tellOne_10 3 rfl rfl)
def dkwX10_roomFor_0 : List UInt8 := [27, 28, 160, 0, 8, 42, 5, 182, 0, 230, 42, 180, 0, 215, 154, 0, 7, 42, 182, 0, 236, 177]
abbrev dktX10_roomFor_0 : List UInt8 := dkwX10_roomFor_0 ++ []
theorem dksX10_roomFor_0 : cX10_roomFor.data.toList.drop 0 = dktX10_roomFor_0 := by decide +kernel
theorem dX10_roomFor_0 : decode cX10_roomFor 0 = .ok (.iload_n 1, 1) := dk_27 (dk_at dksX10_roomFor_0 0 rfl rfl)
theorem dX10_roomFor_1 : decode cX10_roomFor 1 = .ok (.iload_n 2, 1) := dk_28 (dk_at dksX10_roomFor_0 1 rfl rfl)
theorem dX10_roomFor_2 : decode cX10_roomFor 2 = .ok (.if_icmp .ne 8, 3) := dk_160 0 8 (dk_at dksX10_roomFor_0 2 rfl rfl)
theorem dX10_roomFor_5 : decode cX10_roomFor 5 = .ok (.aload_n 0, 1) := dk_42 (dk_at dksX10_roomFor_0 5 rfl rfl)
theorem dX10_roomFor_6 : decode cX10_roomFor 6 = .ok (.iconst 2, 1) := dk_5 (dk_at dksX10_roomFor_0 6 rfl rfl)
theorem dX10_roomFor_7 : decode cX10_roomFor 7 = .ok (.invokevirtual 230, 3) := dk_182 0 230 (dk_at dksX10_roomFor_0 7 rfl rfl)
theorem dX10_roomFor_10 : decode cX10_roomFor 10 = .ok (.aload_n 0, 1) := dk_42 (dk_at dksX10_roomFor_0 10 rfl rfl)
theorem dX10_roomFor_11 : decode cX10_roomFor 11 = .ok (.getfield 215, 3) := dk_180 0 215 (dk_at dksX10_roomFor_0 11 rfl rfl)
theorem dX10_roomFor_14 : decode cX10_roomFor 14 = .ok (.ifCond .ne 7, 3) := dk_154 0 7 (dk_at dksX10_roomFor_0 14 rfl rfl)
theorem dX10_roomFor_17 : decode cX10_roomFor 17 = .ok (.aload_n 0, 1) := dk_42 (dk_at dksX10_roomFor_0 17 rfl rfl)
theorem dX10_roomFor_18 : decode cX10_roomFor 18 = .ok (.invokevirtual 236, 3) := dk_182 0 236 (dk_at dksX10_roomFor_0 18 rfl rfl)
theorem dX10_roomFor_21 : decode cX10_roomFor 21 = .ok (.return_, 1) := dk_177 (dk_at dksX10_roomFor_0 21 rfl rfl)
def dkwX10_fail_1 : List UInt8 := [181, 0, 221, 177]
abbrev dktX10_fail_1 : List UInt8 := dkwX10_fail_1 ++ []
def dkwX10_fail_0 : List UInt8 := [42, 180, 0, 215, 158, 0, 4, 177, 42, 27, 181, 0, 215, 42, 42, 180, 0, 24, 42, 180, 0, 218, 46]
abbrev dktX10_fail_0 : List UInt8 := dkwX10_fail_0 ++ dktX10_fail_1
theorem dksX10_fail_0 : cX10_fail.data.toList.drop 0 = dktX10_fail_0 := by decide +kernel
theorem dksX10_fail_1 : cX10_fail.data.toList.drop 23 = dktX10_fail_1 := dk_seg dksX10_fail_0 23 rfl rfl
theorem dX10_fail_0 : decode cX10_fail 0 = .ok (.aload_n 0, 1) := dk_42 (dk_at dksX10_fail_0 0 rfl rfl)
theorem dX10_fail_1 : decode cX10_fail 1 = .ok (.getfield 215, 3) := dk_180 0 215 (dk_at dksX10_fail_0 1 rfl rfl)
theorem dX10_fail_4 : decode cX10_fail 4 = .ok (.ifCond .le 4, 3) := dk_158 0 4 (dk_at dksX10_fail_0 4 rfl rfl)
theorem dX10_fail_7 : decode cX10_fail 7 = .ok (.return_, 1) := dk_177 (dk_at dksX10_fail_0 7 rfl rfl)
theorem dX10_fail_8 : decode cX10_fail 8 = .ok (.aload_n 0, 1) := dk_42 (dk_at dksX10_fail_0 8 rfl rfl)
theorem dX10_fail_9 : decode cX10_fail 9 = .ok (.iload_n 1, 1) := dk_27 (dk_at dksX10_fail_0 9 rfl rfl)
theorem dX10_fail_10 : decode cX10_fail 10 = .ok (.putfield 215, 3) := dk_181 0 215 (dk_at dksX10_fail_0 10 rfl rfl)
theorem dX10_fail_13 : decode cX10_fail 13 = .ok (.aload_n 0, 1) := dk_42 (dk_at dksX10_fail_0 13 rfl rfl)
theorem dX10_fail_14 : decode cX10_fail 14 = .ok (.aload_n 0, 1) := dk_42 (dk_at dksX10_fail_0 14 rfl rfl)
theorem dX10_fail_15 : decode cX10_fail 15 = .ok (.getfield 24, 3) := dk_180 0 24 (dk_at dksX10_fail_0 15 rfl rfl)
theorem dX10_fail_18 : decode cX10_fail 18 = .ok (.aload_n 0, 1) := dk_42 (dk_at dksX10_fail_0 18 rfl rfl)
theorem dX10_fail_19 : decode cX10_fail 19 = .ok (.getfield 218, 3) := dk_180 0 218 (dk_at dksX10_fail_0 19 rfl rfl)
theorem dX10_fail_22 : decode cX10_fail 22 = .ok (.iaload, 1) := dk_46 (dk_at dksX10_fail_0 22 rfl rfl)
theorem dX10_fail_23 : decode cX10_fail 23 = .ok (.putfield 221, 3) := dk_181 0 221 (dk_at dksX10_fail_1 0 rfl rfl)
theorem dX10_fail_26 : decode cX10_fail 26 = .ok (.return_, 1) := dk_177 (dk_at dksX10_fail_1 3 rfl rfl)
def dkwX10_goesOn_1 : List UInt8 := [96, 181, 0, 218, 177]
abbrev dktX10_goesOn_1 : List UInt8 := dkwX10_goesOn_1 ++ []
def dkwX10_goesOn_0 : List UInt8 := [42, 180, 0, 218, 17, 1, 144, 160, 0, 11, 42, 5, 182, 0, 230, 167, 0, 13, 42, 89, 180, 0, 218, 4]
abbrev dktX10_goesOn_0 : List UInt8 := dkwX10_goesOn_0 ++ dktX10_goesOn_1
theorem dksX10_goesOn_0 : cX10_goesOn.data.toList.drop 0 = dktX10_goesOn_0 := by decide +kernel
theorem dksX10_goesOn_1 : cX10_goesOn.data.toList.drop 24 = dktX10_goesOn_1 := dk_seg dksX10_goesOn_0 24 rfl rfl
theorem dX10_goesOn_0 : decode cX10_goesOn 0 = .ok (.aload_n 0, 1) := dk_42 (dk_at dksX10_goesOn_0 0 rfl rfl)
theorem dX10_goesOn_1 : decode cX10_goesOn 1 = .ok (.getfield 218, 3) := dk_180 0 218 (dk_at dksX10_goesOn_0 1 rfl rfl)
theorem dX10_goesOn_4 : decode cX10_goesOn 4 = .ok (.sipush 400, 3) := dk_17 1 144 (dk_at dksX10_goesOn_0 4 rfl rfl)
theorem dX10_goesOn_7 : decode cX10_goesOn 7 = .ok (.if_icmp .ne 11, 3) := dk_160 0 11 (dk_at dksX10_goesOn_0 7 rfl rfl)
theorem dX10_goesOn_10 : decode cX10_goesOn 10 = .ok (.aload_n 0, 1) := dk_42 (dk_at dksX10_goesOn_0 10 rfl rfl)
theorem dX10_goesOn_11 : decode cX10_goesOn 11 = .ok (.iconst 2, 1) := dk_5 (dk_at dksX10_goesOn_0 11 rfl rfl)
theorem dX10_goesOn_12 : decode cX10_goesOn 12 = .ok (.invokevirtual 230, 3) := dk_182 0 230 (dk_at dksX10_goesOn_0 12 rfl rfl)
theorem dX10_goesOn_15 : decode cX10_goesOn 15 = .ok (.goto 13, 3) := dk_167 0 13 (dk_at dksX10_goesOn_0 15 rfl rfl)
theorem dX10_goesOn_18 : decode cX10_goesOn 18 = .ok (.aload_n 0, 1) := dk_42 (dk_at dksX10_goesOn_0 18 rfl rfl)
theorem dX10_goesOn_19 : decode cX10_goesOn 19 = .ok (.dup, 1) := dk_89 (dk_at dksX10_goesOn_0 19 rfl rfl)
theorem dX10_goesOn_20 : decode cX10_goesOn 20 = .ok (.getfield 218, 3) := dk_180 0 218 (dk_at dksX10_goesOn_0 20 rfl rfl)
theorem dX10_goesOn_23 : decode cX10_goesOn 23 = .ok (.iconst 1, 1) := dk_4 (dk_at dksX10_goesOn_0 23 rfl rfl)
theorem dX10_goesOn_24 : decode cX10_goesOn 24 = .ok (.iadd, 1) := dk_96 (dk_at dksX10_goesOn_1 0 rfl rfl)
theorem dX10_goesOn_25 : decode cX10_goesOn 25 = .ok (.putfield 218, 3) := dk_181 0 218 (dk_at dksX10_goesOn_1 1 rfl rfl)
theorem dX10_goesOn_28 : decode cX10_goesOn 28 = .ok (.return_, 1) := dk_177 (dk_at dksX10_goesOn_1 4 rfl rfl)
def dkwX10_tellHouse_6 : List UInt8 := [42, 180, 0, 248, 92, 46, 4, 96, 79, 177]
abbrev dktX10_tellHouse_6 : List UInt8 := dkwX10_tellHouse_6 ++ []
def dkwX10_tellHouse_5 : List UInt8 := [180, 0, 251, 42, 180, 0, 30, 28, 47, 80, 42, 89, 180, 0, 251, 4, 96, 181, 0, 251, 42, 180, 0, 43]
abbrev dktX10_tellHouse_5 : List UInt8 := dkwX10_tellHouse_5 ++ dktX10_tellHouse_6
def dkwX10_tellHouse_4 : List UInt8 := [16, 99, 182, 1, 13, 79, 42, 7, 182, 1, 17, 42, 180, 0, 215, 158, 0, 4, 177, 42, 180, 0, 40, 42]
abbrev dktX10_tellHouse_4 : List UInt8 := dkwX10_tellHouse_4 ++ dktX10_tellHouse_5
def dkwX10_tellHouse_3 : List UInt8 := [167, 255, 216, 42, 180, 0, 46, 27, 42, 3, 16, 20, 182, 1, 13, 79, 42, 180, 0, 49, 27, 42, 4]
abbrev dktX10_tellHouse_3 : List UInt8 := dkwX10_tellHouse_3 ++ dktX10_tellHouse_4
def dkwX10_tellHouse_2 : List UInt8 := [180, 0, 40, 29, 47, 42, 180, 0, 30, 28, 47, 148, 154, 0, 9, 42, 6, 28, 182, 1, 36, 132, 3, 1]
abbrev dktX10_tellHouse_2 : List UInt8 := dkwX10_tellHouse_2 ++ dktX10_tellHouse_3
def dkwX10_tellHouse_1 : List UInt8 := [4, 182, 1, 17, 3, 62, 29, 42, 180, 0, 251, 162, 0, 38, 42, 180, 0, 215, 154, 0, 31, 42]
abbrev dktX10_tellHouse_1 : List UInt8 := dkwX10_tellHouse_1 ++ dktX10_tellHouse_2
def dkwX10_tellHouse_0 : List UInt8 := [16, 6, 42, 180, 0, 248, 104, 42, 180, 0, 43, 42, 180, 0, 248, 46, 96, 60, 42, 180, 0, 218, 61, 42]
abbrev dktX10_tellHouse_0 : List UInt8 := dkwX10_tellHouse_0 ++ dktX10_tellHouse_1
theorem dksX10_tellHouse_0 : cX10_tellHouse.data.toList.drop 0 = dktX10_tellHouse_0 := by decide +kernel
theorem dksX10_tellHouse_1 : cX10_tellHouse.data.toList.drop 24 = dktX10_tellHouse_1 := dk_seg dksX10_tellHouse_0 24 rfl rfl
theorem dksX10_tellHouse_2 : cX10_tellHouse.data.toList.drop 46 = dktX10_tellHouse_2 := dk_seg dksX10_tellHouse_1 22 rfl rfl
theorem dksX10_tellHouse_3 : cX10_tellHouse.data.toList.drop 70 = dktX10_tellHouse_3 := dk_seg dksX10_tellHouse_2 24 rfl rfl
theorem dksX10_tellHouse_4 : cX10_tellHouse.data.toList.drop 93 = dktX10_tellHouse_4 := dk_seg dksX10_tellHouse_3 23 rfl rfl
theorem dksX10_tellHouse_5 : cX10_tellHouse.data.toList.drop 117 = dktX10_tellHouse_5 := dk_seg dksX10_tellHouse_4 24 rfl rfl
theorem dksX10_tellHouse_6 : cX10_tellHouse.data.toList.drop 141 = dktX10_tellHouse_6 := dk_seg dksX10_tellHouse_5 24 rfl rfl
theorem dX10_tellHouse_0 : decode cX10_tellHouse 0 = .ok (.bipush 6, 2) := dk_16 6 (dk_at dksX10_tellHouse_0 0 rfl rfl)
theorem dX10_tellHouse_2 : decode cX10_tellHouse 2 = .ok (.aload_n 0, 1) := dk_42 (dk_at dksX10_tellHouse_0 2 rfl rfl)
theorem dX10_tellHouse_3 : decode cX10_tellHouse 3 = .ok (.getfield 248, 3) := dk_180 0 248 (dk_at dksX10_tellHouse_0 3 rfl rfl)
theorem dX10_tellHouse_6 : decode cX10_tellHouse 6 = .ok (.imul, 1) := dk_104 (dk_at dksX10_tellHouse_0 6 rfl rfl)
theorem dX10_tellHouse_7 : decode cX10_tellHouse 7 = .ok (.aload_n 0, 1) := dk_42 (dk_at dksX10_tellHouse_0 7 rfl rfl)
theorem dX10_tellHouse_8 : decode cX10_tellHouse 8 = .ok (.getfield 43, 3) := dk_180 0 43 (dk_at dksX10_tellHouse_0 8 rfl rfl)
theorem dX10_tellHouse_11 : decode cX10_tellHouse 11 = .ok (.aload_n 0, 1) := dk_42 (dk_at dksX10_tellHouse_0 11 rfl rfl)
theorem dX10_tellHouse_12 : decode cX10_tellHouse 12 = .ok (.getfield 248, 3) := dk_180 0 248 (dk_at dksX10_tellHouse_0 12 rfl rfl)
theorem dX10_tellHouse_15 : decode cX10_tellHouse 15 = .ok (.iaload, 1) := dk_46 (dk_at dksX10_tellHouse_0 15 rfl rfl)
theorem dX10_tellHouse_16 : decode cX10_tellHouse 16 = .ok (.iadd, 1) := dk_96 (dk_at dksX10_tellHouse_0 16 rfl rfl)
theorem dX10_tellHouse_17 : decode cX10_tellHouse 17 = .ok (.istore_n 1, 1) := dk_60 (dk_at dksX10_tellHouse_0 17 rfl rfl)
theorem dX10_tellHouse_18 : decode cX10_tellHouse 18 = .ok (.aload_n 0, 1) := dk_42 (dk_at dksX10_tellHouse_0 18 rfl rfl)
theorem dX10_tellHouse_19 : decode cX10_tellHouse 19 = .ok (.getfield 218, 3) := dk_180 0 218 (dk_at dksX10_tellHouse_0 19 rfl rfl)
theorem dX10_tellHouse_22 : decode cX10_tellHouse 22 = .ok (.istore_n 2, 1) := dk_61 (dk_at dksX10_tellHouse_0 22 rfl rfl)
theorem dX10_tellHouse_23 : decode cX10_tellHouse 23 = .ok (.aload_n 0, 1) := dk_42 (dk_at dksX10_tellHouse_0 23 rfl rfl)
theorem dX10_tellHouse_24 : decode cX10_tellHouse 24 = .ok (.iconst 1, 1) := dk_4 (dk_at dksX10_tellHouse_1 0 rfl rfl)
theorem dX10_tellHouse_25 : decode cX10_tellHouse 25 = .ok (.invokevirtual 273, 3) := dk_182 1 17 (dk_at dksX10_tellHouse_1 1 rfl rfl)
theorem dX10_tellHouse_28 : decode cX10_tellHouse 28 = .ok (.iconst 0, 1) := dk_3 (dk_at dksX10_tellHouse_1 4 rfl rfl)
theorem dX10_tellHouse_29 : decode cX10_tellHouse 29 = .ok (.istore_n 3, 1) := dk_62 (dk_at dksX10_tellHouse_1 5 rfl rfl)
theorem dX10_tellHouse_30 : decode cX10_tellHouse 30 = .ok (.iload_n 3, 1) := dk_29 (dk_at dksX10_tellHouse_1 6 rfl rfl)
theorem dX10_tellHouse_31 : decode cX10_tellHouse 31 = .ok (.aload_n 0, 1) := dk_42 (dk_at dksX10_tellHouse_1 7 rfl rfl)
theorem dX10_tellHouse_32 : decode cX10_tellHouse 32 = .ok (.getfield 251, 3) := dk_180 0 251 (dk_at dksX10_tellHouse_1 8 rfl rfl)
theorem dX10_tellHouse_35 : decode cX10_tellHouse 35 = .ok (.if_icmp .ge 38, 3) := dk_162 0 38 (dk_at dksX10_tellHouse_1 11 rfl rfl)
theorem dX10_tellHouse_38 : decode cX10_tellHouse 38 = .ok (.aload_n 0, 1) := dk_42 (dk_at dksX10_tellHouse_1 14 rfl rfl)
theorem dX10_tellHouse_39 : decode cX10_tellHouse 39 = .ok (.getfield 215, 3) := dk_180 0 215 (dk_at dksX10_tellHouse_1 15 rfl rfl)
theorem dX10_tellHouse_42 : decode cX10_tellHouse 42 = .ok (.ifCond .ne 31, 3) := dk_154 0 31 (dk_at dksX10_tellHouse_1 18 rfl rfl)
theorem dX10_tellHouse_45 : decode cX10_tellHouse 45 = .ok (.aload_n 0, 1) := dk_42 (dk_at dksX10_tellHouse_1 21 rfl rfl)
theorem dX10_tellHouse_46 : decode cX10_tellHouse 46 = .ok (.getfield 40, 3) := dk_180 0 40 (dk_at dksX10_tellHouse_2 0 rfl rfl)
theorem dX10_tellHouse_49 : decode cX10_tellHouse 49 = .ok (.iload_n 3, 1) := dk_29 (dk_at dksX10_tellHouse_2 3 rfl rfl)
theorem dX10_tellHouse_50 : decode cX10_tellHouse 50 = .ok (.laload, 1) := dk_47 (dk_at dksX10_tellHouse_2 4 rfl rfl)
theorem dX10_tellHouse_51 : decode cX10_tellHouse 51 = .ok (.aload_n 0, 1) := dk_42 (dk_at dksX10_tellHouse_2 5 rfl rfl)
theorem dX10_tellHouse_52 : decode cX10_tellHouse 52 = .ok (.getfield 30, 3) := dk_180 0 30 (dk_at dksX10_tellHouse_2 6 rfl rfl)
theorem dX10_tellHouse_55 : decode cX10_tellHouse 55 = .ok (.iload_n 2, 1) := dk_28 (dk_at dksX10_tellHouse_2 9 rfl rfl)
theorem dX10_tellHouse_56 : decode cX10_tellHouse 56 = .ok (.laload, 1) := dk_47 (dk_at dksX10_tellHouse_2 10 rfl rfl)
theorem dX10_tellHouse_57 : decode cX10_tellHouse 57 = .ok (.lcmp, 1) := dk_148 (dk_at dksX10_tellHouse_2 11 rfl rfl)
theorem dX10_tellHouse_58 : decode cX10_tellHouse 58 = .ok (.ifCond .ne 9, 3) := dk_154 0 9 (dk_at dksX10_tellHouse_2 12 rfl rfl)
theorem dX10_tellHouse_61 : decode cX10_tellHouse 61 = .ok (.aload_n 0, 1) := dk_42 (dk_at dksX10_tellHouse_2 15 rfl rfl)
theorem dX10_tellHouse_62 : decode cX10_tellHouse 62 = .ok (.iconst 3, 1) := dk_6 (dk_at dksX10_tellHouse_2 16 rfl rfl)
theorem dX10_tellHouse_63 : decode cX10_tellHouse 63 = .ok (.iload_n 2, 1) := dk_28 (dk_at dksX10_tellHouse_2 17 rfl rfl)
theorem dX10_tellHouse_64 : decode cX10_tellHouse 64 = .ok (.invokevirtual 292, 3) := dk_182 1 36 (dk_at dksX10_tellHouse_2 18 rfl rfl)
theorem dX10_tellHouse_67 : decode cX10_tellHouse 67 = .ok (.iinc 3 1, 3) := dk_132 3 1 (dk_at dksX10_tellHouse_2 21 rfl rfl)
theorem dX10_tellHouse_70 : decode cX10_tellHouse 70 = .ok (.goto (-40), 3) := dk_167 255 216 (dk_at dksX10_tellHouse_3 0 rfl rfl)
theorem dX10_tellHouse_73 : decode cX10_tellHouse 73 = .ok (.aload_n 0, 1) := dk_42 (dk_at dksX10_tellHouse_3 3 rfl rfl)
theorem dX10_tellHouse_74 : decode cX10_tellHouse 74 = .ok (.getfield 46, 3) := dk_180 0 46 (dk_at dksX10_tellHouse_3 4 rfl rfl)
theorem dX10_tellHouse_77 : decode cX10_tellHouse 77 = .ok (.iload_n 1, 1) := dk_27 (dk_at dksX10_tellHouse_3 7 rfl rfl)
theorem dX10_tellHouse_78 : decode cX10_tellHouse 78 = .ok (.aload_n 0, 1) := dk_42 (dk_at dksX10_tellHouse_3 8 rfl rfl)
theorem dX10_tellHouse_79 : decode cX10_tellHouse 79 = .ok (.iconst 0, 1) := dk_3 (dk_at dksX10_tellHouse_3 9 rfl rfl)
theorem dX10_tellHouse_80 : decode cX10_tellHouse 80 = .ok (.bipush 20, 2) := dk_16 20 (dk_at dksX10_tellHouse_3 10 rfl rfl)
theorem dX10_tellHouse_82 : decode cX10_tellHouse 82 = .ok (.invokevirtual 269, 3) := dk_182 1 13 (dk_at dksX10_tellHouse_3 12 rfl rfl)
theorem dX10_tellHouse_85 : decode cX10_tellHouse 85 = .ok (.iastore, 1) := dk_79 (dk_at dksX10_tellHouse_3 15 rfl rfl)
theorem dX10_tellHouse_86 : decode cX10_tellHouse 86 = .ok (.aload_n 0, 1) := dk_42 (dk_at dksX10_tellHouse_3 16 rfl rfl)
theorem dX10_tellHouse_87 : decode cX10_tellHouse 87 = .ok (.getfield 49, 3) := dk_180 0 49 (dk_at dksX10_tellHouse_3 17 rfl rfl)
theorem dX10_tellHouse_90 : decode cX10_tellHouse 90 = .ok (.iload_n 1, 1) := dk_27 (dk_at dksX10_tellHouse_3 20 rfl rfl)
theorem dX10_tellHouse_91 : decode cX10_tellHouse 91 = .ok (.aload_n 0, 1) := dk_42 (dk_at dksX10_tellHouse_3 21 rfl rfl)
theorem dX10_tellHouse_92 : decode cX10_tellHouse 92 = .ok (.iconst 1, 1) := dk_4 (dk_at dksX10_tellHouse_3 22 rfl rfl)
theorem dX10_tellHouse_93 : decode cX10_tellHouse 93 = .ok (.bipush 99, 2) := dk_16 99 (dk_at dksX10_tellHouse_4 0 rfl rfl)
theorem dX10_tellHouse_95 : decode cX10_tellHouse 95 = .ok (.invokevirtual 269, 3) := dk_182 1 13 (dk_at dksX10_tellHouse_4 2 rfl rfl)
theorem dX10_tellHouse_98 : decode cX10_tellHouse 98 = .ok (.iastore, 1) := dk_79 (dk_at dksX10_tellHouse_4 5 rfl rfl)
theorem dX10_tellHouse_99 : decode cX10_tellHouse 99 = .ok (.aload_n 0, 1) := dk_42 (dk_at dksX10_tellHouse_4 6 rfl rfl)
theorem dX10_tellHouse_100 : decode cX10_tellHouse 100 = .ok (.iconst 4, 1) := dk_7 (dk_at dksX10_tellHouse_4 7 rfl rfl)
theorem dX10_tellHouse_101 : decode cX10_tellHouse 101 = .ok (.invokevirtual 273, 3) := dk_182 1 17 (dk_at dksX10_tellHouse_4 8 rfl rfl)
theorem dX10_tellHouse_104 : decode cX10_tellHouse 104 = .ok (.aload_n 0, 1) := dk_42 (dk_at dksX10_tellHouse_4 11 rfl rfl)
theorem dX10_tellHouse_105 : decode cX10_tellHouse 105 = .ok (.getfield 215, 3) := dk_180 0 215 (dk_at dksX10_tellHouse_4 12 rfl rfl)
theorem dX10_tellHouse_108 : decode cX10_tellHouse 108 = .ok (.ifCond .le 4, 3) := dk_158 0 4 (dk_at dksX10_tellHouse_4 15 rfl rfl)
theorem dX10_tellHouse_111 : decode cX10_tellHouse 111 = .ok (.return_, 1) := dk_177 (dk_at dksX10_tellHouse_4 18 rfl rfl)
theorem dX10_tellHouse_112 : decode cX10_tellHouse 112 = .ok (.aload_n 0, 1) := dk_42 (dk_at dksX10_tellHouse_4 19 rfl rfl)
theorem dX10_tellHouse_113 : decode cX10_tellHouse 113 = .ok (.getfield 40, 3) := dk_180 0 40 (dk_at dksX10_tellHouse_4 20 rfl rfl)
theorem dX10_tellHouse_116 : decode cX10_tellHouse 116 = .ok (.aload_n 0, 1) := dk_42 (dk_at dksX10_tellHouse_4 23 rfl rfl)
theorem dX10_tellHouse_117 : decode cX10_tellHouse 117 = .ok (.getfield 251, 3) := dk_180 0 251 (dk_at dksX10_tellHouse_5 0 rfl rfl)
theorem dX10_tellHouse_120 : decode cX10_tellHouse 120 = .ok (.aload_n 0, 1) := dk_42 (dk_at dksX10_tellHouse_5 3 rfl rfl)
theorem dX10_tellHouse_121 : decode cX10_tellHouse 121 = .ok (.getfield 30, 3) := dk_180 0 30 (dk_at dksX10_tellHouse_5 4 rfl rfl)
theorem dX10_tellHouse_124 : decode cX10_tellHouse 124 = .ok (.iload_n 2, 1) := dk_28 (dk_at dksX10_tellHouse_5 7 rfl rfl)
theorem dX10_tellHouse_125 : decode cX10_tellHouse 125 = .ok (.laload, 1) := dk_47 (dk_at dksX10_tellHouse_5 8 rfl rfl)
theorem dX10_tellHouse_126 : decode cX10_tellHouse 126 = .ok (.lastore, 1) := dk_80 (dk_at dksX10_tellHouse_5 9 rfl rfl)
theorem dX10_tellHouse_127 : decode cX10_tellHouse 127 = .ok (.aload_n 0, 1) := dk_42 (dk_at dksX10_tellHouse_5 10 rfl rfl)
theorem dX10_tellHouse_128 : decode cX10_tellHouse 128 = .ok (.dup, 1) := dk_89 (dk_at dksX10_tellHouse_5 11 rfl rfl)
theorem dX10_tellHouse_129 : decode cX10_tellHouse 129 = .ok (.getfield 251, 3) := dk_180 0 251 (dk_at dksX10_tellHouse_5 12 rfl rfl)
theorem dX10_tellHouse_132 : decode cX10_tellHouse 132 = .ok (.iconst 1, 1) := dk_4 (dk_at dksX10_tellHouse_5 15 rfl rfl)
theorem dX10_tellHouse_133 : decode cX10_tellHouse 133 = .ok (.iadd, 1) := dk_96 (dk_at dksX10_tellHouse_5 16 rfl rfl)
theorem dX10_tellHouse_134 : decode cX10_tellHouse 134 = .ok (.putfield 251, 3) := dk_181 0 251 (dk_at dksX10_tellHouse_5 17 rfl rfl)
theorem dX10_tellHouse_137 : decode cX10_tellHouse 137 = .ok (.aload_n 0, 1) := dk_42 (dk_at dksX10_tellHouse_5 20 rfl rfl)
theorem dX10_tellHouse_138 : decode cX10_tellHouse 138 = .ok (.getfield 43, 3) := dk_180 0 43 (dk_at dksX10_tellHouse_5 21 rfl rfl)
theorem dX10_tellHouse_141 : decode cX10_tellHouse 141 = .ok (.aload_n 0, 1) := dk_42 (dk_at dksX10_tellHouse_6 0 rfl rfl)
theorem dX10_tellHouse_142 : decode cX10_tellHouse 142 = .ok (.getfield 248, 3) := dk_180 0 248 (dk_at dksX10_tellHouse_6 1 rfl rfl)
theorem dX10_tellHouse_145 : decode cX10_tellHouse 145 = .ok (.dup2, 1) := dk_92 (dk_at dksX10_tellHouse_6 4 rfl rfl)
theorem dX10_tellHouse_146 : decode cX10_tellHouse 146 = .ok (.iaload, 1) := dk_46 (dk_at dksX10_tellHouse_6 5 rfl rfl)
theorem dX10_tellHouse_147 : decode cX10_tellHouse 147 = .ok (.iconst 1, 1) := dk_4 (dk_at dksX10_tellHouse_6 6 rfl rfl)
theorem dX10_tellHouse_148 : decode cX10_tellHouse 148 = .ok (.iadd, 1) := dk_96 (dk_at dksX10_tellHouse_6 7 rfl rfl)
theorem dX10_tellHouse_149 : decode cX10_tellHouse 149 = .ok (.iastore, 1) := dk_79 (dk_at dksX10_tellHouse_6 8 rfl rfl)
theorem dX10_tellHouse_150 : decode cX10_tellHouse 150 = .ok (.return_, 1) := dk_177 (dk_at dksX10_tellHouse_6 9 rfl rfl)
def dkwX10_must_0 : List UInt8 := [42, 27, 182, 0, 233, 153, 0, 10, 42, 182, 0, 236, 167, 0, 8, 42, 4, 182, 0, 230, 177]
abbrev dktX10_must_0 : List UInt8 := dkwX10_must_0 ++ []
theorem dksX10_must_0 : cX10_must.data.toList.drop 0 = dktX10_must_0 := by decide +kernel
theorem dX10_must_0 : decode cX10_must 0 = .ok (.aload_n 0, 1) := dk_42 (dk_at dksX10_must_0 0 rfl rfl)
theorem dX10_must_1 : decode cX10_must 1 = .ok (.iload_n 1, 1) := dk_27 (dk_at dksX10_must_0 1 rfl rfl)
theorem dX10_must_2 : decode cX10_must 2 = .ok (.invokevirtual 233, 3) := dk_182 0 233 (dk_at dksX10_must_0 2 rfl rfl)
theorem dX10_must_5 : decode cX10_must 5 = .ok (.ifCond .eq 10, 3) := dk_153 0 10 (dk_at dksX10_must_0 5 rfl rfl)
theorem dX10_must_8 : decode cX10_must 8 = .ok (.aload_n 0, 1) := dk_42 (dk_at dksX10_must_0 8 rfl rfl)
theorem dX10_must_9 : decode cX10_must 9 = .ok (.invokevirtual 236, 3) := dk_182 0 236 (dk_at dksX10_must_0 9 rfl rfl)
theorem dX10_must_12 : decode cX10_must 12 = .ok (.goto 8, 3) := dk_167 0 8 (dk_at dksX10_must_0 12 rfl rfl)
theorem dX10_must_15 : decode cX10_must 15 = .ok (.aload_n 0, 1) := dk_42 (dk_at dksX10_must_0 15 rfl rfl)
theorem dX10_must_16 : decode cX10_must 16 = .ok (.iconst 1, 1) := dk_4 (dk_at dksX10_must_0 16 rfl rfl)
theorem dX10_must_17 : decode cX10_must 17 = .ok (.invokevirtual 230, 3) := dk_182 0 230 (dk_at dksX10_must_0 17 rfl rfl)
theorem dX10_must_20 : decode cX10_must 20 = .ok (.return_, 1) := dk_177 (dk_at dksX10_must_0 20 rfl rfl)
def dkwX10_wrong_2 : List UInt8 := [27, 181, 0, 224, 42, 29, 181, 0, 227, 177]
abbrev dktX10_wrong_2 : List UInt8 := dkwX10_wrong_2 ++ []
def dkwX10_wrong_1 : List UInt8 := [180, 0, 227, 163, 0, 19, 29, 42, 180, 0, 227, 160, 0, 12, 27, 42, 180, 0, 224, 161, 0, 4, 177, 42]
abbrev dktX10_wrong_1 : List UInt8 := dkwX10_wrong_1 ++ dktX10_wrong_2
def dkwX10_wrong_0 : List UInt8 := [42, 180, 0, 24, 28, 46, 62, 42, 180, 0, 215, 157, 0, 34, 42, 180, 0, 224, 153, 0, 28, 29, 42]
abbrev dktX10_wrong_0 : List UInt8 := dkwX10_wrong_0 ++ dktX10_wrong_1
theorem dksX10_wrong_0 : cX10_wrong.data.toList.drop 0 = dktX10_wrong_0 := by decide +kernel
theorem dksX10_wrong_1 : cX10_wrong.data.toList.drop 23 = dktX10_wrong_1 := dk_seg dksX10_wrong_0 23 rfl rfl
theorem dksX10_wrong_2 : cX10_wrong.data.toList.drop 47 = dktX10_wrong_2 := dk_seg dksX10_wrong_1 24 rfl rfl
theorem dX10_wrong_0 : decode cX10_wrong 0 = .ok (.aload_n 0, 1) := dk_42 (dk_at dksX10_wrong_0 0 rfl rfl)
theorem dX10_wrong_1 : decode cX10_wrong 1 = .ok (.getfield 24, 3) := dk_180 0 24 (dk_at dksX10_wrong_0 1 rfl rfl)
theorem dX10_wrong_4 : decode cX10_wrong 4 = .ok (.iload_n 2, 1) := dk_28 (dk_at dksX10_wrong_0 4 rfl rfl)
theorem dX10_wrong_5 : decode cX10_wrong 5 = .ok (.iaload, 1) := dk_46 (dk_at dksX10_wrong_0 5 rfl rfl)
theorem dX10_wrong_6 : decode cX10_wrong 6 = .ok (.istore_n 3, 1) := dk_62 (dk_at dksX10_wrong_0 6 rfl rfl)
theorem dX10_wrong_7 : decode cX10_wrong 7 = .ok (.aload_n 0, 1) := dk_42 (dk_at dksX10_wrong_0 7 rfl rfl)
theorem dX10_wrong_8 : decode cX10_wrong 8 = .ok (.getfield 215, 3) := dk_180 0 215 (dk_at dksX10_wrong_0 8 rfl rfl)
theorem dX10_wrong_11 : decode cX10_wrong 11 = .ok (.ifCond .gt 34, 3) := dk_157 0 34 (dk_at dksX10_wrong_0 11 rfl rfl)
theorem dX10_wrong_14 : decode cX10_wrong 14 = .ok (.aload_n 0, 1) := dk_42 (dk_at dksX10_wrong_0 14 rfl rfl)
theorem dX10_wrong_15 : decode cX10_wrong 15 = .ok (.getfield 224, 3) := dk_180 0 224 (dk_at dksX10_wrong_0 15 rfl rfl)
theorem dX10_wrong_18 : decode cX10_wrong 18 = .ok (.ifCond .eq 28, 3) := dk_153 0 28 (dk_at dksX10_wrong_0 18 rfl rfl)
theorem dX10_wrong_21 : decode cX10_wrong 21 = .ok (.iload_n 3, 1) := dk_29 (dk_at dksX10_wrong_0 21 rfl rfl)
theorem dX10_wrong_22 : decode cX10_wrong 22 = .ok (.aload_n 0, 1) := dk_42 (dk_at dksX10_wrong_0 22 rfl rfl)
theorem dX10_wrong_23 : decode cX10_wrong 23 = .ok (.getfield 227, 3) := dk_180 0 227 (dk_at dksX10_wrong_1 0 rfl rfl)
theorem dX10_wrong_26 : decode cX10_wrong 26 = .ok (.if_icmp .gt 19, 3) := dk_163 0 19 (dk_at dksX10_wrong_1 3 rfl rfl)
theorem dX10_wrong_29 : decode cX10_wrong 29 = .ok (.iload_n 3, 1) := dk_29 (dk_at dksX10_wrong_1 6 rfl rfl)
theorem dX10_wrong_30 : decode cX10_wrong 30 = .ok (.aload_n 0, 1) := dk_42 (dk_at dksX10_wrong_1 7 rfl rfl)
theorem dX10_wrong_31 : decode cX10_wrong 31 = .ok (.getfield 227, 3) := dk_180 0 227 (dk_at dksX10_wrong_1 8 rfl rfl)
theorem dX10_wrong_34 : decode cX10_wrong 34 = .ok (.if_icmp .ne 12, 3) := dk_160 0 12 (dk_at dksX10_wrong_1 11 rfl rfl)
theorem dX10_wrong_37 : decode cX10_wrong 37 = .ok (.iload_n 1, 1) := dk_27 (dk_at dksX10_wrong_1 14 rfl rfl)
theorem dX10_wrong_38 : decode cX10_wrong 38 = .ok (.aload_n 0, 1) := dk_42 (dk_at dksX10_wrong_1 15 rfl rfl)
theorem dX10_wrong_39 : decode cX10_wrong 39 = .ok (.getfield 224, 3) := dk_180 0 224 (dk_at dksX10_wrong_1 16 rfl rfl)
theorem dX10_wrong_42 : decode cX10_wrong 42 = .ok (.if_icmp .lt 4, 3) := dk_161 0 4 (dk_at dksX10_wrong_1 19 rfl rfl)
theorem dX10_wrong_45 : decode cX10_wrong 45 = .ok (.return_, 1) := dk_177 (dk_at dksX10_wrong_1 22 rfl rfl)
theorem dX10_wrong_46 : decode cX10_wrong 46 = .ok (.aload_n 0, 1) := dk_42 (dk_at dksX10_wrong_1 23 rfl rfl)
theorem dX10_wrong_47 : decode cX10_wrong 47 = .ok (.iload_n 1, 1) := dk_27 (dk_at dksX10_wrong_2 0 rfl rfl)
theorem dX10_wrong_48 : decode cX10_wrong 48 = .ok (.putfield 224, 3) := dk_181 0 224 (dk_at dksX10_wrong_2 1 rfl rfl)
theorem dX10_wrong_51 : decode cX10_wrong 51 = .ok (.aload_n 0, 1) := dk_42 (dk_at dksX10_wrong_2 4 rfl rfl)
theorem dX10_wrong_52 : decode cX10_wrong 52 = .ok (.iload_n 3, 1) := dk_29 (dk_at dksX10_wrong_2 5 rfl rfl)
theorem dX10_wrong_53 : decode cX10_wrong 53 = .ok (.putfield 227, 3) := dk_181 0 227 (dk_at dksX10_wrong_2 6 rfl rfl)
theorem dX10_wrong_56 : decode cX10_wrong 56 = .ok (.return_, 1) := dk_177 (dk_at dksX10_wrong_2 9 rfl rfl)
def dkwX10_bounded_2 : List UInt8 := [180, 0, 218, 182, 1, 36, 42, 182, 0, 236, 29, 172]
abbrev dktX10_bounded_2 : List UInt8 := dkwX10_bounded_2 ++ []
def dkwX10_bounded_1 : List UInt8 := [180, 0, 27, 42, 180, 0, 218, 46, 62, 29, 27, 161, 0, 8, 29, 28, 164, 0, 12, 42, 8, 42]
abbrev dktX10_bounded_1 : List UInt8 := dkwX10_bounded_1 ++ dktX10_bounded_2
def dkwX10_bounded_0 : List UInt8 := [42, 180, 0, 215, 157, 0, 11, 42, 5, 182, 0, 233, 154, 0, 10, 42, 4, 182, 0, 230, 27, 172, 42]
abbrev dktX10_bounded_0 : List UInt8 := dkwX10_bounded_0 ++ dktX10_bounded_1
theorem dksX10_bounded_0 : cX10_bounded.data.toList.drop 0 = dktX10_bounded_0 := by decide +kernel
theorem dksX10_bounded_1 : cX10_bounded.data.toList.drop 23 = dktX10_bounded_1 := dk_seg dksX10_bounded_0 23 rfl rfl
theorem dksX10_bounded_2 : cX10_bounded.data.toList.drop 45 = dktX10_bounded_2 := dk_seg dksX10_bounded_1 22 rfl rfl
theorem dX10_bounded_0 : decode cX10_bounded 0 = .ok (.aload_n 0, 1) := dk_42 (dk_at dksX10_bounded_0 0 rfl rfl)
theorem dX10_bounded_1 : decode cX10_bounded 1 = .ok (.getfield 215, 3) := dk_180 0 215 (dk_at dksX10_bounded_0 1 rfl rfl)
theorem dX10_bounded_4 : decode cX10_bounded 4 = .ok (.ifCond .gt 11, 3) := dk_157 0 11 (dk_at dksX10_bounded_0 4 rfl rfl)
theorem dX10_bounded_7 : decode cX10_bounded 7 = .ok (.aload_n 0, 1) := dk_42 (dk_at dksX10_bounded_0 7 rfl rfl)
theorem dX10_bounded_8 : decode cX10_bounded 8 = .ok (.iconst 2, 1) := dk_5 (dk_at dksX10_bounded_0 8 rfl rfl)
theorem dX10_bounded_9 : decode cX10_bounded 9 = .ok (.invokevirtual 233, 3) := dk_182 0 233 (dk_at dksX10_bounded_0 9 rfl rfl)
theorem dX10_bounded_12 : decode cX10_bounded 12 = .ok (.ifCond .ne 10, 3) := dk_154 0 10 (dk_at dksX10_bounded_0 12 rfl rfl)
theorem dX10_bounded_15 : decode cX10_bounded 15 = .ok (.aload_n 0, 1) := dk_42 (dk_at dksX10_bounded_0 15 rfl rfl)
theorem dX10_bounded_16 : decode cX10_bounded 16 = .ok (.iconst 1, 1) := dk_4 (dk_at dksX10_bounded_0 16 rfl rfl)
theorem dX10_bounded_17 : decode cX10_bounded 17 = .ok (.invokevirtual 230, 3) := dk_182 0 230 (dk_at dksX10_bounded_0 17 rfl rfl)
theorem dX10_bounded_20 : decode cX10_bounded 20 = .ok (.iload_n 1, 1) := dk_27 (dk_at dksX10_bounded_0 20 rfl rfl)
theorem dX10_bounded_21 : decode cX10_bounded 21 = .ok (.ireturn, 1) := dk_172 (dk_at dksX10_bounded_0 21 rfl rfl)
theorem dX10_bounded_22 : decode cX10_bounded 22 = .ok (.aload_n 0, 1) := dk_42 (dk_at dksX10_bounded_0 22 rfl rfl)
theorem dX10_bounded_23 : decode cX10_bounded 23 = .ok (.getfield 27, 3) := dk_180 0 27 (dk_at dksX10_bounded_1 0 rfl rfl)
theorem dX10_bounded_26 : decode cX10_bounded 26 = .ok (.aload_n 0, 1) := dk_42 (dk_at dksX10_bounded_1 3 rfl rfl)
theorem dX10_bounded_27 : decode cX10_bounded 27 = .ok (.getfield 218, 3) := dk_180 0 218 (dk_at dksX10_bounded_1 4 rfl rfl)
theorem dX10_bounded_30 : decode cX10_bounded 30 = .ok (.iaload, 1) := dk_46 (dk_at dksX10_bounded_1 7 rfl rfl)
theorem dX10_bounded_31 : decode cX10_bounded 31 = .ok (.istore_n 3, 1) := dk_62 (dk_at dksX10_bounded_1 8 rfl rfl)
theorem dX10_bounded_32 : decode cX10_bounded 32 = .ok (.iload_n 3, 1) := dk_29 (dk_at dksX10_bounded_1 9 rfl rfl)
theorem dX10_bounded_33 : decode cX10_bounded 33 = .ok (.iload_n 1, 1) := dk_27 (dk_at dksX10_bounded_1 10 rfl rfl)
theorem dX10_bounded_34 : decode cX10_bounded 34 = .ok (.if_icmp .lt 8, 3) := dk_161 0 8 (dk_at dksX10_bounded_1 11 rfl rfl)
theorem dX10_bounded_37 : decode cX10_bounded 37 = .ok (.iload_n 3, 1) := dk_29 (dk_at dksX10_bounded_1 14 rfl rfl)
theorem dX10_bounded_38 : decode cX10_bounded 38 = .ok (.iload_n 2, 1) := dk_28 (dk_at dksX10_bounded_1 15 rfl rfl)
theorem dX10_bounded_39 : decode cX10_bounded 39 = .ok (.if_icmp .le 12, 3) := dk_164 0 12 (dk_at dksX10_bounded_1 16 rfl rfl)
theorem dX10_bounded_42 : decode cX10_bounded 42 = .ok (.aload_n 0, 1) := dk_42 (dk_at dksX10_bounded_1 19 rfl rfl)
theorem dX10_bounded_43 : decode cX10_bounded 43 = .ok (.iconst 5, 1) := dk_8 (dk_at dksX10_bounded_1 20 rfl rfl)
theorem dX10_bounded_44 : decode cX10_bounded 44 = .ok (.aload_n 0, 1) := dk_42 (dk_at dksX10_bounded_1 21 rfl rfl)
theorem dX10_bounded_45 : decode cX10_bounded 45 = .ok (.getfield 218, 3) := dk_180 0 218 (dk_at dksX10_bounded_2 0 rfl rfl)
theorem dX10_bounded_48 : decode cX10_bounded 48 = .ok (.invokevirtual 292, 3) := dk_182 1 36 (dk_at dksX10_bounded_2 3 rfl rfl)
theorem dX10_bounded_51 : decode cX10_bounded 51 = .ok (.aload_n 0, 1) := dk_42 (dk_at dksX10_bounded_2 6 rfl rfl)
theorem dX10_bounded_52 : decode cX10_bounded 52 = .ok (.invokevirtual 236, 3) := dk_182 0 236 (dk_at dksX10_bounded_2 7 rfl rfl)
theorem dX10_bounded_55 : decode cX10_bounded 55 = .ok (.iload_n 3, 1) := dk_29 (dk_at dksX10_bounded_2 10 rfl rfl)
theorem dX10_bounded_56 : decode cX10_bounded 56 = .ok (.ireturn, 1) := dk_172 (dk_at dksX10_bounded_2 11 rfl rfl)
def dkwX10_tellLikes_5 : List UInt8 := [96, 21, 4, 79, 177]
abbrev dktX10_tellLikes_5 : List UInt8 := dkwX10_tellLikes_5 ++ []
def dkwX10_tellLikes_4 : List UInt8 := [104, 96, 29, 96, 21, 4, 79, 42, 180, 0, 55, 16, 36, 42, 180, 0, 248, 104, 16, 6, 29, 104, 96, 27]
abbrev dktX10_tellLikes_4 : List UInt8 := dkwX10_tellLikes_4 ++ dktX10_tellLikes_5
def dkwX10_tellLikes_3 : List UInt8 := [79, 27, 155, 0, 7, 29, 156, 0, 4, 177, 42, 180, 0, 55, 16, 36, 42, 180, 0, 248, 104, 16, 6, 27]
abbrev dktX10_tellLikes_3 : List UInt8 := dkwX10_tellLikes_3 ++ dktX10_tellLikes_4
def dkwX10_tellLikes_2 : List UInt8 := [7, 182, 1, 17, 42, 180, 0, 215, 158, 0, 4, 177, 42, 180, 0, 52, 42, 180, 0, 248, 92, 46, 4, 96]
abbrev dktX10_tellLikes_2 : List UInt8 := dkwX10_tellLikes_2 ++ dktX10_tellLikes_3
def dkwX10_tellLikes_1 : List UInt8 := [155, 0, 14, 27, 29, 160, 0, 9, 42, 6, 28, 182, 1, 36, 42, 3, 16, 9, 182, 1, 13, 54, 4, 42]
abbrev dktX10_tellLikes_1 : List UInt8 := dkwX10_tellLikes_1 ++ dktX10_tellLikes_2
def dkwX10_tellLikes_0 : List UInt8 := [42, 182, 1, 39, 60, 42, 180, 0, 218, 61, 42, 182, 1, 39, 62, 42, 180, 0, 215, 154, 0, 18, 27]
abbrev dktX10_tellLikes_0 : List UInt8 := dkwX10_tellLikes_0 ++ dktX10_tellLikes_1
theorem dksX10_tellLikes_0 : cX10_tellLikes.data.toList.drop 0 = dktX10_tellLikes_0 := by decide +kernel
theorem dksX10_tellLikes_1 : cX10_tellLikes.data.toList.drop 23 = dktX10_tellLikes_1 := dk_seg dksX10_tellLikes_0 23 rfl rfl
theorem dksX10_tellLikes_2 : cX10_tellLikes.data.toList.drop 47 = dktX10_tellLikes_2 := dk_seg dksX10_tellLikes_1 24 rfl rfl
theorem dksX10_tellLikes_3 : cX10_tellLikes.data.toList.drop 71 = dktX10_tellLikes_3 := dk_seg dksX10_tellLikes_2 24 rfl rfl
theorem dksX10_tellLikes_4 : cX10_tellLikes.data.toList.drop 95 = dktX10_tellLikes_4 := dk_seg dksX10_tellLikes_3 24 rfl rfl
theorem dksX10_tellLikes_5 : cX10_tellLikes.data.toList.drop 119 = dktX10_tellLikes_5 := dk_seg dksX10_tellLikes_4 24 rfl rfl
theorem dX10_tellLikes_0 : decode cX10_tellLikes 0 = .ok (.aload_n 0, 1) := dk_42 (dk_at dksX10_tellLikes_0 0 rfl rfl)
theorem dX10_tellLikes_1 : decode cX10_tellLikes 1 = .ok (.invokevirtual 295, 3) := dk_182 1 39 (dk_at dksX10_tellLikes_0 1 rfl rfl)
theorem dX10_tellLikes_4 : decode cX10_tellLikes 4 = .ok (.istore_n 1, 1) := dk_60 (dk_at dksX10_tellLikes_0 4 rfl rfl)
theorem dX10_tellLikes_5 : decode cX10_tellLikes 5 = .ok (.aload_n 0, 1) := dk_42 (dk_at dksX10_tellLikes_0 5 rfl rfl)
theorem dX10_tellLikes_6 : decode cX10_tellLikes 6 = .ok (.getfield 218, 3) := dk_180 0 218 (dk_at dksX10_tellLikes_0 6 rfl rfl)
theorem dX10_tellLikes_9 : decode cX10_tellLikes 9 = .ok (.istore_n 2, 1) := dk_61 (dk_at dksX10_tellLikes_0 9 rfl rfl)
theorem dX10_tellLikes_10 : decode cX10_tellLikes 10 = .ok (.aload_n 0, 1) := dk_42 (dk_at dksX10_tellLikes_0 10 rfl rfl)
theorem dX10_tellLikes_11 : decode cX10_tellLikes 11 = .ok (.invokevirtual 295, 3) := dk_182 1 39 (dk_at dksX10_tellLikes_0 11 rfl rfl)
theorem dX10_tellLikes_14 : decode cX10_tellLikes 14 = .ok (.istore_n 3, 1) := dk_62 (dk_at dksX10_tellLikes_0 14 rfl rfl)
theorem dX10_tellLikes_15 : decode cX10_tellLikes 15 = .ok (.aload_n 0, 1) := dk_42 (dk_at dksX10_tellLikes_0 15 rfl rfl)
theorem dX10_tellLikes_16 : decode cX10_tellLikes 16 = .ok (.getfield 215, 3) := dk_180 0 215 (dk_at dksX10_tellLikes_0 16 rfl rfl)
theorem dX10_tellLikes_19 : decode cX10_tellLikes 19 = .ok (.ifCond .ne 18, 3) := dk_154 0 18 (dk_at dksX10_tellLikes_0 19 rfl rfl)
theorem dX10_tellLikes_22 : decode cX10_tellLikes 22 = .ok (.iload_n 1, 1) := dk_27 (dk_at dksX10_tellLikes_0 22 rfl rfl)
theorem dX10_tellLikes_23 : decode cX10_tellLikes 23 = .ok (.ifCond .lt 14, 3) := dk_155 0 14 (dk_at dksX10_tellLikes_1 0 rfl rfl)
theorem dX10_tellLikes_26 : decode cX10_tellLikes 26 = .ok (.iload_n 1, 1) := dk_27 (dk_at dksX10_tellLikes_1 3 rfl rfl)
theorem dX10_tellLikes_27 : decode cX10_tellLikes 27 = .ok (.iload_n 3, 1) := dk_29 (dk_at dksX10_tellLikes_1 4 rfl rfl)
theorem dX10_tellLikes_28 : decode cX10_tellLikes 28 = .ok (.if_icmp .ne 9, 3) := dk_160 0 9 (dk_at dksX10_tellLikes_1 5 rfl rfl)
theorem dX10_tellLikes_31 : decode cX10_tellLikes 31 = .ok (.aload_n 0, 1) := dk_42 (dk_at dksX10_tellLikes_1 8 rfl rfl)
theorem dX10_tellLikes_32 : decode cX10_tellLikes 32 = .ok (.iconst 3, 1) := dk_6 (dk_at dksX10_tellLikes_1 9 rfl rfl)
theorem dX10_tellLikes_33 : decode cX10_tellLikes 33 = .ok (.iload_n 2, 1) := dk_28 (dk_at dksX10_tellLikes_1 10 rfl rfl)
theorem dX10_tellLikes_34 : decode cX10_tellLikes 34 = .ok (.invokevirtual 292, 3) := dk_182 1 36 (dk_at dksX10_tellLikes_1 11 rfl rfl)
theorem dX10_tellLikes_37 : decode cX10_tellLikes 37 = .ok (.aload_n 0, 1) := dk_42 (dk_at dksX10_tellLikes_1 14 rfl rfl)
theorem dX10_tellLikes_38 : decode cX10_tellLikes 38 = .ok (.iconst 0, 1) := dk_3 (dk_at dksX10_tellLikes_1 15 rfl rfl)
theorem dX10_tellLikes_39 : decode cX10_tellLikes 39 = .ok (.bipush 9, 2) := dk_16 9 (dk_at dksX10_tellLikes_1 16 rfl rfl)
theorem dX10_tellLikes_41 : decode cX10_tellLikes 41 = .ok (.invokevirtual 269, 3) := dk_182 1 13 (dk_at dksX10_tellLikes_1 18 rfl rfl)
theorem dX10_tellLikes_44 : decode cX10_tellLikes 44 = .ok (.istore 4, 2) := dk_54 4 (dk_at dksX10_tellLikes_1 21 rfl rfl)
theorem dX10_tellLikes_46 : decode cX10_tellLikes 46 = .ok (.aload_n 0, 1) := dk_42 (dk_at dksX10_tellLikes_1 23 rfl rfl)
theorem dX10_tellLikes_47 : decode cX10_tellLikes 47 = .ok (.iconst 4, 1) := dk_7 (dk_at dksX10_tellLikes_2 0 rfl rfl)
theorem dX10_tellLikes_48 : decode cX10_tellLikes 48 = .ok (.invokevirtual 273, 3) := dk_182 1 17 (dk_at dksX10_tellLikes_2 1 rfl rfl)
theorem dX10_tellLikes_51 : decode cX10_tellLikes 51 = .ok (.aload_n 0, 1) := dk_42 (dk_at dksX10_tellLikes_2 4 rfl rfl)
theorem dX10_tellLikes_52 : decode cX10_tellLikes 52 = .ok (.getfield 215, 3) := dk_180 0 215 (dk_at dksX10_tellLikes_2 5 rfl rfl)
theorem dX10_tellLikes_55 : decode cX10_tellLikes 55 = .ok (.ifCond .le 4, 3) := dk_158 0 4 (dk_at dksX10_tellLikes_2 8 rfl rfl)
theorem dX10_tellLikes_58 : decode cX10_tellLikes 58 = .ok (.return_, 1) := dk_177 (dk_at dksX10_tellLikes_2 11 rfl rfl)
theorem dX10_tellLikes_59 : decode cX10_tellLikes 59 = .ok (.aload_n 0, 1) := dk_42 (dk_at dksX10_tellLikes_2 12 rfl rfl)
theorem dX10_tellLikes_60 : decode cX10_tellLikes 60 = .ok (.getfield 52, 3) := dk_180 0 52 (dk_at dksX10_tellLikes_2 13 rfl rfl)
theorem dX10_tellLikes_63 : decode cX10_tellLikes 63 = .ok (.aload_n 0, 1) := dk_42 (dk_at dksX10_tellLikes_2 16 rfl rfl)
theorem dX10_tellLikes_64 : decode cX10_tellLikes 64 = .ok (.getfield 248, 3) := dk_180 0 248 (dk_at dksX10_tellLikes_2 17 rfl rfl)
theorem dX10_tellLikes_67 : decode cX10_tellLikes 67 = .ok (.dup2, 1) := dk_92 (dk_at dksX10_tellLikes_2 20 rfl rfl)
theorem dX10_tellLikes_68 : decode cX10_tellLikes 68 = .ok (.iaload, 1) := dk_46 (dk_at dksX10_tellLikes_2 21 rfl rfl)
theorem dX10_tellLikes_69 : decode cX10_tellLikes 69 = .ok (.iconst 1, 1) := dk_4 (dk_at dksX10_tellLikes_2 22 rfl rfl)
theorem dX10_tellLikes_70 : decode cX10_tellLikes 70 = .ok (.iadd, 1) := dk_96 (dk_at dksX10_tellLikes_2 23 rfl rfl)
theorem dX10_tellLikes_71 : decode cX10_tellLikes 71 = .ok (.iastore, 1) := dk_79 (dk_at dksX10_tellLikes_3 0 rfl rfl)
theorem dX10_tellLikes_72 : decode cX10_tellLikes 72 = .ok (.iload_n 1, 1) := dk_27 (dk_at dksX10_tellLikes_3 1 rfl rfl)
theorem dX10_tellLikes_73 : decode cX10_tellLikes 73 = .ok (.ifCond .lt 7, 3) := dk_155 0 7 (dk_at dksX10_tellLikes_3 2 rfl rfl)
theorem dX10_tellLikes_76 : decode cX10_tellLikes 76 = .ok (.iload_n 3, 1) := dk_29 (dk_at dksX10_tellLikes_3 5 rfl rfl)
theorem dX10_tellLikes_77 : decode cX10_tellLikes 77 = .ok (.ifCond .ge 4, 3) := dk_156 0 4 (dk_at dksX10_tellLikes_3 6 rfl rfl)
theorem dX10_tellLikes_80 : decode cX10_tellLikes 80 = .ok (.return_, 1) := dk_177 (dk_at dksX10_tellLikes_3 9 rfl rfl)
theorem dX10_tellLikes_81 : decode cX10_tellLikes 81 = .ok (.aload_n 0, 1) := dk_42 (dk_at dksX10_tellLikes_3 10 rfl rfl)
theorem dX10_tellLikes_82 : decode cX10_tellLikes 82 = .ok (.getfield 55, 3) := dk_180 0 55 (dk_at dksX10_tellLikes_3 11 rfl rfl)
theorem dX10_tellLikes_85 : decode cX10_tellLikes 85 = .ok (.bipush 36, 2) := dk_16 36 (dk_at dksX10_tellLikes_3 14 rfl rfl)
theorem dX10_tellLikes_87 : decode cX10_tellLikes 87 = .ok (.aload_n 0, 1) := dk_42 (dk_at dksX10_tellLikes_3 16 rfl rfl)
theorem dX10_tellLikes_88 : decode cX10_tellLikes 88 = .ok (.getfield 248, 3) := dk_180 0 248 (dk_at dksX10_tellLikes_3 17 rfl rfl)
theorem dX10_tellLikes_91 : decode cX10_tellLikes 91 = .ok (.imul, 1) := dk_104 (dk_at dksX10_tellLikes_3 20 rfl rfl)
theorem dX10_tellLikes_92 : decode cX10_tellLikes 92 = .ok (.bipush 6, 2) := dk_16 6 (dk_at dksX10_tellLikes_3 21 rfl rfl)
theorem dX10_tellLikes_94 : decode cX10_tellLikes 94 = .ok (.iload_n 1, 1) := dk_27 (dk_at dksX10_tellLikes_3 23 rfl rfl)
theorem dX10_tellLikes_95 : decode cX10_tellLikes 95 = .ok (.imul, 1) := dk_104 (dk_at dksX10_tellLikes_4 0 rfl rfl)
theorem dX10_tellLikes_96 : decode cX10_tellLikes 96 = .ok (.iadd, 1) := dk_96 (dk_at dksX10_tellLikes_4 1 rfl rfl)
theorem dX10_tellLikes_97 : decode cX10_tellLikes 97 = .ok (.iload_n 3, 1) := dk_29 (dk_at dksX10_tellLikes_4 2 rfl rfl)
theorem dX10_tellLikes_98 : decode cX10_tellLikes 98 = .ok (.iadd, 1) := dk_96 (dk_at dksX10_tellLikes_4 3 rfl rfl)
theorem dX10_tellLikes_99 : decode cX10_tellLikes 99 = .ok (.iload 4, 2) := dk_21 4 (dk_at dksX10_tellLikes_4 4 rfl rfl)
theorem dX10_tellLikes_101 : decode cX10_tellLikes 101 = .ok (.iastore, 1) := dk_79 (dk_at dksX10_tellLikes_4 6 rfl rfl)
theorem dX10_tellLikes_102 : decode cX10_tellLikes 102 = .ok (.aload_n 0, 1) := dk_42 (dk_at dksX10_tellLikes_4 7 rfl rfl)
theorem dX10_tellLikes_103 : decode cX10_tellLikes 103 = .ok (.getfield 55, 3) := dk_180 0 55 (dk_at dksX10_tellLikes_4 8 rfl rfl)
theorem dX10_tellLikes_106 : decode cX10_tellLikes 106 = .ok (.bipush 36, 2) := dk_16 36 (dk_at dksX10_tellLikes_4 11 rfl rfl)
theorem dX10_tellLikes_108 : decode cX10_tellLikes 108 = .ok (.aload_n 0, 1) := dk_42 (dk_at dksX10_tellLikes_4 13 rfl rfl)
theorem dX10_tellLikes_109 : decode cX10_tellLikes 109 = .ok (.getfield 248, 3) := dk_180 0 248 (dk_at dksX10_tellLikes_4 14 rfl rfl)
theorem dX10_tellLikes_112 : decode cX10_tellLikes 112 = .ok (.imul, 1) := dk_104 (dk_at dksX10_tellLikes_4 17 rfl rfl)
theorem dX10_tellLikes_113 : decode cX10_tellLikes 113 = .ok (.bipush 6, 2) := dk_16 6 (dk_at dksX10_tellLikes_4 18 rfl rfl)
theorem dX10_tellLikes_115 : decode cX10_tellLikes 115 = .ok (.iload_n 3, 1) := dk_29 (dk_at dksX10_tellLikes_4 20 rfl rfl)
theorem dX10_tellLikes_116 : decode cX10_tellLikes 116 = .ok (.imul, 1) := dk_104 (dk_at dksX10_tellLikes_4 21 rfl rfl)
theorem dX10_tellLikes_117 : decode cX10_tellLikes 117 = .ok (.iadd, 1) := dk_96 (dk_at dksX10_tellLikes_4 22 rfl rfl)
theorem dX10_tellLikes_118 : decode cX10_tellLikes 118 = .ok (.iload_n 1, 1) := dk_27 (dk_at dksX10_tellLikes_4 23 rfl rfl)
theorem dX10_tellLikes_119 : decode cX10_tellLikes 119 = .ok (.iadd, 1) := dk_96 (dk_at dksX10_tellLikes_5 0 rfl rfl)
theorem dX10_tellLikes_120 : decode cX10_tellLikes 120 = .ok (.iload 4, 2) := dk_21 4 (dk_at dksX10_tellLikes_5 1 rfl rfl)
theorem dX10_tellLikes_122 : decode cX10_tellLikes 122 = .ok (.iastore, 1) := dk_79 (dk_at dksX10_tellLikes_5 3 rfl rfl)
theorem dX10_tellLikes_123 : decode cX10_tellLikes 123 = .ok (.return_, 1) := dk_177 (dk_at dksX10_tellLikes_5 4 rfl rfl)
def dkwX10_known_2 : List UInt8 := [132, 2, 1, 167, 255, 227, 42, 7, 27, 182, 1, 36, 2, 172]
abbrev dktX10_known_2 : List UInt8 := dkwX10_known_2 ++ []
def dkwX10_known_1 : List UInt8 := [180, 0, 251, 162, 0, 27, 42, 180, 0, 40, 28, 47, 42, 180, 0, 30, 27, 47, 148, 154, 0, 5, 28, 172]
abbrev dktX10_known_1 : List UInt8 := dkwX10_known_1 ++ dktX10_known_2
def dkwX10_known_0 : List UInt8 := [42, 180, 0, 218, 60, 42, 4, 182, 1, 17, 42, 180, 0, 215, 158, 0, 5, 2, 172, 3, 61, 28, 42]
abbrev dktX10_known_0 : List UInt8 := dkwX10_known_0 ++ dktX10_known_1
theorem dksX10_known_0 : cX10_known.data.toList.drop 0 = dktX10_known_0 := by decide +kernel
theorem dksX10_known_1 : cX10_known.data.toList.drop 23 = dktX10_known_1 := dk_seg dksX10_known_0 23 rfl rfl
theorem dksX10_known_2 : cX10_known.data.toList.drop 47 = dktX10_known_2 := dk_seg dksX10_known_1 24 rfl rfl
theorem dX10_known_0 : decode cX10_known 0 = .ok (.aload_n 0, 1) := dk_42 (dk_at dksX10_known_0 0 rfl rfl)
theorem dX10_known_1 : decode cX10_known 1 = .ok (.getfield 218, 3) := dk_180 0 218 (dk_at dksX10_known_0 1 rfl rfl)
theorem dX10_known_4 : decode cX10_known 4 = .ok (.istore_n 1, 1) := dk_60 (dk_at dksX10_known_0 4 rfl rfl)
theorem dX10_known_5 : decode cX10_known 5 = .ok (.aload_n 0, 1) := dk_42 (dk_at dksX10_known_0 5 rfl rfl)
theorem dX10_known_6 : decode cX10_known 6 = .ok (.iconst 1, 1) := dk_4 (dk_at dksX10_known_0 6 rfl rfl)
theorem dX10_known_7 : decode cX10_known 7 = .ok (.invokevirtual 273, 3) := dk_182 1 17 (dk_at dksX10_known_0 7 rfl rfl)
theorem dX10_known_10 : decode cX10_known 10 = .ok (.aload_n 0, 1) := dk_42 (dk_at dksX10_known_0 10 rfl rfl)
theorem dX10_known_11 : decode cX10_known 11 = .ok (.getfield 215, 3) := dk_180 0 215 (dk_at dksX10_known_0 11 rfl rfl)
theorem dX10_known_14 : decode cX10_known 14 = .ok (.ifCond .le 5, 3) := dk_158 0 5 (dk_at dksX10_known_0 14 rfl rfl)
theorem dX10_known_17 : decode cX10_known 17 = .ok (.iconst (-1), 1) := dk_2 (dk_at dksX10_known_0 17 rfl rfl)
theorem dX10_known_18 : decode cX10_known 18 = .ok (.ireturn, 1) := dk_172 (dk_at dksX10_known_0 18 rfl rfl)
theorem dX10_known_19 : decode cX10_known 19 = .ok (.iconst 0, 1) := dk_3 (dk_at dksX10_known_0 19 rfl rfl)
theorem dX10_known_20 : decode cX10_known 20 = .ok (.istore_n 2, 1) := dk_61 (dk_at dksX10_known_0 20 rfl rfl)
theorem dX10_known_21 : decode cX10_known 21 = .ok (.iload_n 2, 1) := dk_28 (dk_at dksX10_known_0 21 rfl rfl)
theorem dX10_known_22 : decode cX10_known 22 = .ok (.aload_n 0, 1) := dk_42 (dk_at dksX10_known_0 22 rfl rfl)
theorem dX10_known_23 : decode cX10_known 23 = .ok (.getfield 251, 3) := dk_180 0 251 (dk_at dksX10_known_1 0 rfl rfl)
theorem dX10_known_26 : decode cX10_known 26 = .ok (.if_icmp .ge 27, 3) := dk_162 0 27 (dk_at dksX10_known_1 3 rfl rfl)
theorem dX10_known_29 : decode cX10_known 29 = .ok (.aload_n 0, 1) := dk_42 (dk_at dksX10_known_1 6 rfl rfl)
theorem dX10_known_30 : decode cX10_known 30 = .ok (.getfield 40, 3) := dk_180 0 40 (dk_at dksX10_known_1 7 rfl rfl)
theorem dX10_known_33 : decode cX10_known 33 = .ok (.iload_n 2, 1) := dk_28 (dk_at dksX10_known_1 10 rfl rfl)
theorem dX10_known_34 : decode cX10_known 34 = .ok (.laload, 1) := dk_47 (dk_at dksX10_known_1 11 rfl rfl)
theorem dX10_known_35 : decode cX10_known 35 = .ok (.aload_n 0, 1) := dk_42 (dk_at dksX10_known_1 12 rfl rfl)
theorem dX10_known_36 : decode cX10_known 36 = .ok (.getfield 30, 3) := dk_180 0 30 (dk_at dksX10_known_1 13 rfl rfl)
theorem dX10_known_39 : decode cX10_known 39 = .ok (.iload_n 1, 1) := dk_27 (dk_at dksX10_known_1 16 rfl rfl)
theorem dX10_known_40 : decode cX10_known 40 = .ok (.laload, 1) := dk_47 (dk_at dksX10_known_1 17 rfl rfl)
theorem dX10_known_41 : decode cX10_known 41 = .ok (.lcmp, 1) := dk_148 (dk_at dksX10_known_1 18 rfl rfl)
theorem dX10_known_42 : decode cX10_known 42 = .ok (.ifCond .ne 5, 3) := dk_154 0 5 (dk_at dksX10_known_1 19 rfl rfl)
theorem dX10_known_45 : decode cX10_known 45 = .ok (.iload_n 2, 1) := dk_28 (dk_at dksX10_known_1 22 rfl rfl)
theorem dX10_known_46 : decode cX10_known 46 = .ok (.ireturn, 1) := dk_172 (dk_at dksX10_known_1 23 rfl rfl)
theorem dX10_known_47 : decode cX10_known 47 = .ok (.iinc 2 1, 3) := dk_132 2 1 (dk_at dksX10_known_2 0 rfl rfl)
theorem dX10_known_50 : decode cX10_known 50 = .ok (.goto (-29), 3) := dk_167 255 227 (dk_at dksX10_known_2 3 rfl rfl)
theorem dX10_known_53 : decode cX10_known 53 = .ok (.aload_n 0, 1) := dk_42 (dk_at dksX10_known_2 6 rfl rfl)
theorem dX10_known_54 : decode cX10_known 54 = .ok (.iconst 4, 1) := dk_7 (dk_at dksX10_known_2 7 rfl rfl)
theorem dX10_known_55 : decode cX10_known 55 = .ok (.iload_n 1, 1) := dk_27 (dk_at dksX10_known_2 8 rfl rfl)
theorem dX10_known_56 : decode cX10_known 56 = .ok (.invokevirtual 292, 3) := dk_182 1 36 (dk_at dksX10_known_2 9 rfl rfl)
theorem dX10_known_59 : decode cX10_known 59 = .ok (.iconst (-1), 1) := dk_2 (dk_at dksX10_known_2 12 rfl rfl)
theorem dX10_known_60 : decode cX10_known 60 = .ok (.ireturn, 1) := dk_172 (dk_at dksX10_known_2 13 rfl rfl)
def dkwX10_toldInt_0 : List UInt8 := [42, 182, 0, 236, 42, 27, 28, 182, 1, 13, 62, 42, 7, 182, 1, 17, 29, 172]
abbrev dktX10_toldInt_0 : List UInt8 := dkwX10_toldInt_0 ++ []
theorem dksX10_toldInt_0 : cX10_toldInt.data.toList.drop 0 = dktX10_toldInt_0 := by decide +kernel
theorem dX10_toldInt_0 : decode cX10_toldInt 0 = .ok (.aload_n 0, 1) := dk_42 (dk_at dksX10_toldInt_0 0 rfl rfl)
theorem dX10_toldInt_1 : decode cX10_toldInt 1 = .ok (.invokevirtual 236, 3) := dk_182 0 236 (dk_at dksX10_toldInt_0 1 rfl rfl)
theorem dX10_toldInt_4 : decode cX10_toldInt 4 = .ok (.aload_n 0, 1) := dk_42 (dk_at dksX10_toldInt_0 4 rfl rfl)
theorem dX10_toldInt_5 : decode cX10_toldInt 5 = .ok (.iload_n 1, 1) := dk_27 (dk_at dksX10_toldInt_0 5 rfl rfl)
theorem dX10_toldInt_6 : decode cX10_toldInt 6 = .ok (.iload_n 2, 1) := dk_28 (dk_at dksX10_toldInt_0 6 rfl rfl)
theorem dX10_toldInt_7 : decode cX10_toldInt 7 = .ok (.invokevirtual 269, 3) := dk_182 1 13 (dk_at dksX10_toldInt_0 7 rfl rfl)
theorem dX10_toldInt_10 : decode cX10_toldInt 10 = .ok (.istore_n 3, 1) := dk_62 (dk_at dksX10_toldInt_0 10 rfl rfl)
theorem dX10_toldInt_11 : decode cX10_toldInt 11 = .ok (.aload_n 0, 1) := dk_42 (dk_at dksX10_toldInt_0 11 rfl rfl)
theorem dX10_toldInt_12 : decode cX10_toldInt 12 = .ok (.iconst 4, 1) := dk_7 (dk_at dksX10_toldInt_0 12 rfl rfl)
theorem dX10_toldInt_13 : decode cX10_toldInt 13 = .ok (.invokevirtual 273, 3) := dk_182 1 17 (dk_at dksX10_toldInt_0 13 rfl rfl)
theorem dX10_toldInt_16 : decode cX10_toldInt 16 = .ok (.iload_n 3, 1) := dk_29 (dk_at dksX10_toldInt_0 16 rfl rfl)
theorem dX10_toldInt_17 : decode cX10_toldInt 17 = .ok (.ireturn, 1) := dk_172 (dk_at dksX10_toldInt_0 17 rfl rfl)
def dkwX10_tellLaw_8 : List UInt8 := [180, 0, 254, 79, 177]
abbrev dktX10_tellLaw_8 : List UInt8 := dkwX10_tellLaw_8 ++ []
def dkwX10_tellLaw_7 : List UInt8 := [42, 180, 0, 248, 104, 27, 96, 28, 79, 42, 180, 0, 73, 7, 42, 180, 0, 248, 104, 27, 96, 42]
abbrev dktX10_tellLaw_7 : List UInt8 := dkwX10_tellLaw_7 ++ dktX10_tellLaw_8
def dkwX10_tellLaw_6 : List UInt8 := [3, 84, 42, 182, 1, 46, 42, 7, 182, 1, 17, 42, 180, 0, 215, 158, 0, 4, 177, 42, 180, 0, 70, 7]
abbrev dktX10_tellLaw_6 : List UInt8 := dkwX10_tellLaw_6 ++ dktX10_tellLaw_7
def dkwX10_tellLaw_5 : List UInt8 := [182, 1, 17, 42, 182, 1, 46, 42, 16, 32, 182, 1, 17, 167, 255, 142, 42, 180, 0, 76, 42, 180, 0, 254]
abbrev dktX10_tellLaw_5 : List UInt8 := dkwX10_tellLaw_5 ++ dktX10_tellLaw_6
def dkwX10_tellLaw_4 : List UInt8 := [180, 0, 254, 42, 180, 1, 1, 79, 42, 180, 0, 215, 154, 0, 7, 42, 182, 1, 43, 42, 16, 31]
abbrev dktX10_tellLaw_4 : List UInt8 := dkwX10_tellLaw_4 ++ dktX10_tellLaw_5
def dkwX10_tellLaw_3 : List UInt8 := [180, 0, 254, 42, 180, 1, 1, 79, 42, 182, 1, 43, 42, 16, 13, 182, 1, 17, 42, 180, 0, 83, 42]
abbrev dktX10_tellLaw_3 : List UInt8 := dkwX10_tellLaw_3 ++ dktX10_tellLaw_4
def dkwX10_tellLaw_2 : List UInt8 := [132, 3, 1, 42, 182, 0, 236, 42, 180, 0, 76, 42, 180, 0, 254, 4, 84, 42, 180, 0, 80, 42]
abbrev dktX10_tellLaw_2 : List UInt8 := dkwX10_tellLaw_2 ++ dktX10_tellLaw_3
def dkwX10_tellLaw_1 : List UInt8 := [182, 0, 233, 153, 0, 104, 29, 7, 160, 0, 8, 42, 5, 182, 0, 230, 42, 180, 0, 215, 158, 0, 4, 177]
abbrev dktX10_tellLaw_1 : List UInt8 := dkwX10_tellLaw_1 ++ dktX10_tellLaw_2
def dkwX10_tellLaw_0 : List UInt8 := [42, 8, 182, 1, 17, 42, 180, 0, 254, 61, 3, 62, 42, 180, 0, 215, 154, 0, 113, 42, 16, 30]
abbrev dktX10_tellLaw_0 : List UInt8 := dkwX10_tellLaw_0 ++ dktX10_tellLaw_1
theorem dksX10_tellLaw_0 : cX10_tellLaw.data.toList.drop 0 = dktX10_tellLaw_0 := by decide +kernel
theorem dksX10_tellLaw_1 : cX10_tellLaw.data.toList.drop 22 = dktX10_tellLaw_1 := dk_seg dksX10_tellLaw_0 22 rfl rfl
theorem dksX10_tellLaw_2 : cX10_tellLaw.data.toList.drop 46 = dktX10_tellLaw_2 := dk_seg dksX10_tellLaw_1 24 rfl rfl
theorem dksX10_tellLaw_3 : cX10_tellLaw.data.toList.drop 68 = dktX10_tellLaw_3 := dk_seg dksX10_tellLaw_2 22 rfl rfl
theorem dksX10_tellLaw_4 : cX10_tellLaw.data.toList.drop 91 = dktX10_tellLaw_4 := dk_seg dksX10_tellLaw_3 23 rfl rfl
theorem dksX10_tellLaw_5 : cX10_tellLaw.data.toList.drop 113 = dktX10_tellLaw_5 := dk_seg dksX10_tellLaw_4 22 rfl rfl
theorem dksX10_tellLaw_6 : cX10_tellLaw.data.toList.drop 137 = dktX10_tellLaw_6 := dk_seg dksX10_tellLaw_5 24 rfl rfl
theorem dksX10_tellLaw_7 : cX10_tellLaw.data.toList.drop 161 = dktX10_tellLaw_7 := dk_seg dksX10_tellLaw_6 24 rfl rfl
theorem dksX10_tellLaw_8 : cX10_tellLaw.data.toList.drop 183 = dktX10_tellLaw_8 := dk_seg dksX10_tellLaw_7 22 rfl rfl
theorem dX10_tellLaw_0 : decode cX10_tellLaw 0 = .ok (.aload_n 0, 1) := dk_42 (dk_at dksX10_tellLaw_0 0 rfl rfl)
theorem dX10_tellLaw_1 : decode cX10_tellLaw 1 = .ok (.iconst 5, 1) := dk_8 (dk_at dksX10_tellLaw_0 1 rfl rfl)
theorem dX10_tellLaw_2 : decode cX10_tellLaw 2 = .ok (.invokevirtual 273, 3) := dk_182 1 17 (dk_at dksX10_tellLaw_0 2 rfl rfl)
theorem dX10_tellLaw_5 : decode cX10_tellLaw 5 = .ok (.aload_n 0, 1) := dk_42 (dk_at dksX10_tellLaw_0 5 rfl rfl)
theorem dX10_tellLaw_6 : decode cX10_tellLaw 6 = .ok (.getfield 254, 3) := dk_180 0 254 (dk_at dksX10_tellLaw_0 6 rfl rfl)
theorem dX10_tellLaw_9 : decode cX10_tellLaw 9 = .ok (.istore_n 2, 1) := dk_61 (dk_at dksX10_tellLaw_0 9 rfl rfl)
theorem dX10_tellLaw_10 : decode cX10_tellLaw 10 = .ok (.iconst 0, 1) := dk_3 (dk_at dksX10_tellLaw_0 10 rfl rfl)
theorem dX10_tellLaw_11 : decode cX10_tellLaw 11 = .ok (.istore_n 3, 1) := dk_62 (dk_at dksX10_tellLaw_0 11 rfl rfl)
theorem dX10_tellLaw_12 : decode cX10_tellLaw 12 = .ok (.aload_n 0, 1) := dk_42 (dk_at dksX10_tellLaw_0 12 rfl rfl)
theorem dX10_tellLaw_13 : decode cX10_tellLaw 13 = .ok (.getfield 215, 3) := dk_180 0 215 (dk_at dksX10_tellLaw_0 13 rfl rfl)
theorem dX10_tellLaw_16 : decode cX10_tellLaw 16 = .ok (.ifCond .ne 113, 3) := dk_154 0 113 (dk_at dksX10_tellLaw_0 16 rfl rfl)
theorem dX10_tellLaw_19 : decode cX10_tellLaw 19 = .ok (.aload_n 0, 1) := dk_42 (dk_at dksX10_tellLaw_0 19 rfl rfl)
theorem dX10_tellLaw_20 : decode cX10_tellLaw 20 = .ok (.bipush 30, 2) := dk_16 30 (dk_at dksX10_tellLaw_0 20 rfl rfl)
theorem dX10_tellLaw_22 : decode cX10_tellLaw 22 = .ok (.invokevirtual 233, 3) := dk_182 0 233 (dk_at dksX10_tellLaw_1 0 rfl rfl)
theorem dX10_tellLaw_25 : decode cX10_tellLaw 25 = .ok (.ifCond .eq 104, 3) := dk_153 0 104 (dk_at dksX10_tellLaw_1 3 rfl rfl)
theorem dX10_tellLaw_28 : decode cX10_tellLaw 28 = .ok (.iload_n 3, 1) := dk_29 (dk_at dksX10_tellLaw_1 6 rfl rfl)
theorem dX10_tellLaw_29 : decode cX10_tellLaw 29 = .ok (.iconst 4, 1) := dk_7 (dk_at dksX10_tellLaw_1 7 rfl rfl)
theorem dX10_tellLaw_30 : decode cX10_tellLaw 30 = .ok (.if_icmp .ne 8, 3) := dk_160 0 8 (dk_at dksX10_tellLaw_1 8 rfl rfl)
theorem dX10_tellLaw_33 : decode cX10_tellLaw 33 = .ok (.aload_n 0, 1) := dk_42 (dk_at dksX10_tellLaw_1 11 rfl rfl)
theorem dX10_tellLaw_34 : decode cX10_tellLaw 34 = .ok (.iconst 2, 1) := dk_5 (dk_at dksX10_tellLaw_1 12 rfl rfl)
theorem dX10_tellLaw_35 : decode cX10_tellLaw 35 = .ok (.invokevirtual 230, 3) := dk_182 0 230 (dk_at dksX10_tellLaw_1 13 rfl rfl)
theorem dX10_tellLaw_38 : decode cX10_tellLaw 38 = .ok (.aload_n 0, 1) := dk_42 (dk_at dksX10_tellLaw_1 16 rfl rfl)
theorem dX10_tellLaw_39 : decode cX10_tellLaw 39 = .ok (.getfield 215, 3) := dk_180 0 215 (dk_at dksX10_tellLaw_1 17 rfl rfl)
theorem dX10_tellLaw_42 : decode cX10_tellLaw 42 = .ok (.ifCond .le 4, 3) := dk_158 0 4 (dk_at dksX10_tellLaw_1 20 rfl rfl)
theorem dX10_tellLaw_45 : decode cX10_tellLaw 45 = .ok (.return_, 1) := dk_177 (dk_at dksX10_tellLaw_1 23 rfl rfl)
theorem dX10_tellLaw_46 : decode cX10_tellLaw 46 = .ok (.iinc 3 1, 3) := dk_132 3 1 (dk_at dksX10_tellLaw_2 0 rfl rfl)
theorem dX10_tellLaw_49 : decode cX10_tellLaw 49 = .ok (.aload_n 0, 1) := dk_42 (dk_at dksX10_tellLaw_2 3 rfl rfl)
theorem dX10_tellLaw_50 : decode cX10_tellLaw 50 = .ok (.invokevirtual 236, 3) := dk_182 0 236 (dk_at dksX10_tellLaw_2 4 rfl rfl)
theorem dX10_tellLaw_53 : decode cX10_tellLaw 53 = .ok (.aload_n 0, 1) := dk_42 (dk_at dksX10_tellLaw_2 7 rfl rfl)
theorem dX10_tellLaw_54 : decode cX10_tellLaw 54 = .ok (.getfield 76, 3) := dk_180 0 76 (dk_at dksX10_tellLaw_2 8 rfl rfl)
theorem dX10_tellLaw_57 : decode cX10_tellLaw 57 = .ok (.aload_n 0, 1) := dk_42 (dk_at dksX10_tellLaw_2 11 rfl rfl)
theorem dX10_tellLaw_58 : decode cX10_tellLaw 58 = .ok (.getfield 254, 3) := dk_180 0 254 (dk_at dksX10_tellLaw_2 12 rfl rfl)
theorem dX10_tellLaw_61 : decode cX10_tellLaw 61 = .ok (.iconst 1, 1) := dk_4 (dk_at dksX10_tellLaw_2 15 rfl rfl)
theorem dX10_tellLaw_62 : decode cX10_tellLaw 62 = .ok (.bastore, 1) := dk_84 (dk_at dksX10_tellLaw_2 16 rfl rfl)
theorem dX10_tellLaw_63 : decode cX10_tellLaw 63 = .ok (.aload_n 0, 1) := dk_42 (dk_at dksX10_tellLaw_2 17 rfl rfl)
theorem dX10_tellLaw_64 : decode cX10_tellLaw 64 = .ok (.getfield 80, 3) := dk_180 0 80 (dk_at dksX10_tellLaw_2 18 rfl rfl)
theorem dX10_tellLaw_67 : decode cX10_tellLaw 67 = .ok (.aload_n 0, 1) := dk_42 (dk_at dksX10_tellLaw_2 21 rfl rfl)
theorem dX10_tellLaw_68 : decode cX10_tellLaw 68 = .ok (.getfield 254, 3) := dk_180 0 254 (dk_at dksX10_tellLaw_3 0 rfl rfl)
theorem dX10_tellLaw_71 : decode cX10_tellLaw 71 = .ok (.aload_n 0, 1) := dk_42 (dk_at dksX10_tellLaw_3 3 rfl rfl)
theorem dX10_tellLaw_72 : decode cX10_tellLaw 72 = .ok (.getfield 257, 3) := dk_180 1 1 (dk_at dksX10_tellLaw_3 4 rfl rfl)
theorem dX10_tellLaw_75 : decode cX10_tellLaw 75 = .ok (.iastore, 1) := dk_79 (dk_at dksX10_tellLaw_3 7 rfl rfl)
theorem dX10_tellLaw_76 : decode cX10_tellLaw 76 = .ok (.aload_n 0, 1) := dk_42 (dk_at dksX10_tellLaw_3 8 rfl rfl)
theorem dX10_tellLaw_77 : decode cX10_tellLaw 77 = .ok (.invokevirtual 299, 3) := dk_182 1 43 (dk_at dksX10_tellLaw_3 9 rfl rfl)
theorem dX10_tellLaw_80 : decode cX10_tellLaw 80 = .ok (.aload_n 0, 1) := dk_42 (dk_at dksX10_tellLaw_3 12 rfl rfl)
theorem dX10_tellLaw_81 : decode cX10_tellLaw 81 = .ok (.bipush 13, 2) := dk_16 13 (dk_at dksX10_tellLaw_3 13 rfl rfl)
theorem dX10_tellLaw_83 : decode cX10_tellLaw 83 = .ok (.invokevirtual 273, 3) := dk_182 1 17 (dk_at dksX10_tellLaw_3 15 rfl rfl)
theorem dX10_tellLaw_86 : decode cX10_tellLaw 86 = .ok (.aload_n 0, 1) := dk_42 (dk_at dksX10_tellLaw_3 18 rfl rfl)
theorem dX10_tellLaw_87 : decode cX10_tellLaw 87 = .ok (.getfield 83, 3) := dk_180 0 83 (dk_at dksX10_tellLaw_3 19 rfl rfl)
theorem dX10_tellLaw_90 : decode cX10_tellLaw 90 = .ok (.aload_n 0, 1) := dk_42 (dk_at dksX10_tellLaw_3 22 rfl rfl)
theorem dX10_tellLaw_91 : decode cX10_tellLaw 91 = .ok (.getfield 254, 3) := dk_180 0 254 (dk_at dksX10_tellLaw_4 0 rfl rfl)
theorem dX10_tellLaw_94 : decode cX10_tellLaw 94 = .ok (.aload_n 0, 1) := dk_42 (dk_at dksX10_tellLaw_4 3 rfl rfl)
theorem dX10_tellLaw_95 : decode cX10_tellLaw 95 = .ok (.getfield 257, 3) := dk_180 1 1 (dk_at dksX10_tellLaw_4 4 rfl rfl)
theorem dX10_tellLaw_98 : decode cX10_tellLaw 98 = .ok (.iastore, 1) := dk_79 (dk_at dksX10_tellLaw_4 7 rfl rfl)
theorem dX10_tellLaw_99 : decode cX10_tellLaw 99 = .ok (.aload_n 0, 1) := dk_42 (dk_at dksX10_tellLaw_4 8 rfl rfl)
theorem dX10_tellLaw_100 : decode cX10_tellLaw 100 = .ok (.getfield 215, 3) := dk_180 0 215 (dk_at dksX10_tellLaw_4 9 rfl rfl)
theorem dX10_tellLaw_103 : decode cX10_tellLaw 103 = .ok (.ifCond .ne 7, 3) := dk_154 0 7 (dk_at dksX10_tellLaw_4 12 rfl rfl)
theorem dX10_tellLaw_106 : decode cX10_tellLaw 106 = .ok (.aload_n 0, 1) := dk_42 (dk_at dksX10_tellLaw_4 15 rfl rfl)
theorem dX10_tellLaw_107 : decode cX10_tellLaw 107 = .ok (.invokevirtual 299, 3) := dk_182 1 43 (dk_at dksX10_tellLaw_4 16 rfl rfl)
theorem dX10_tellLaw_110 : decode cX10_tellLaw 110 = .ok (.aload_n 0, 1) := dk_42 (dk_at dksX10_tellLaw_4 19 rfl rfl)
theorem dX10_tellLaw_111 : decode cX10_tellLaw 111 = .ok (.bipush 31, 2) := dk_16 31 (dk_at dksX10_tellLaw_4 20 rfl rfl)
theorem dX10_tellLaw_113 : decode cX10_tellLaw 113 = .ok (.invokevirtual 273, 3) := dk_182 1 17 (dk_at dksX10_tellLaw_5 0 rfl rfl)
theorem dX10_tellLaw_116 : decode cX10_tellLaw 116 = .ok (.aload_n 0, 1) := dk_42 (dk_at dksX10_tellLaw_5 3 rfl rfl)
theorem dX10_tellLaw_117 : decode cX10_tellLaw 117 = .ok (.invokevirtual 302, 3) := dk_182 1 46 (dk_at dksX10_tellLaw_5 4 rfl rfl)
theorem dX10_tellLaw_120 : decode cX10_tellLaw 120 = .ok (.aload_n 0, 1) := dk_42 (dk_at dksX10_tellLaw_5 7 rfl rfl)
theorem dX10_tellLaw_121 : decode cX10_tellLaw 121 = .ok (.bipush 32, 2) := dk_16 32 (dk_at dksX10_tellLaw_5 8 rfl rfl)
theorem dX10_tellLaw_123 : decode cX10_tellLaw 123 = .ok (.invokevirtual 273, 3) := dk_182 1 17 (dk_at dksX10_tellLaw_5 10 rfl rfl)
theorem dX10_tellLaw_126 : decode cX10_tellLaw 126 = .ok (.goto (-114), 3) := dk_167 255 142 (dk_at dksX10_tellLaw_5 13 rfl rfl)
theorem dX10_tellLaw_129 : decode cX10_tellLaw 129 = .ok (.aload_n 0, 1) := dk_42 (dk_at dksX10_tellLaw_5 16 rfl rfl)
theorem dX10_tellLaw_130 : decode cX10_tellLaw 130 = .ok (.getfield 76, 3) := dk_180 0 76 (dk_at dksX10_tellLaw_5 17 rfl rfl)
theorem dX10_tellLaw_133 : decode cX10_tellLaw 133 = .ok (.aload_n 0, 1) := dk_42 (dk_at dksX10_tellLaw_5 20 rfl rfl)
theorem dX10_tellLaw_134 : decode cX10_tellLaw 134 = .ok (.getfield 254, 3) := dk_180 0 254 (dk_at dksX10_tellLaw_5 21 rfl rfl)
theorem dX10_tellLaw_137 : decode cX10_tellLaw 137 = .ok (.iconst 0, 1) := dk_3 (dk_at dksX10_tellLaw_6 0 rfl rfl)
theorem dX10_tellLaw_138 : decode cX10_tellLaw 138 = .ok (.bastore, 1) := dk_84 (dk_at dksX10_tellLaw_6 1 rfl rfl)
theorem dX10_tellLaw_139 : decode cX10_tellLaw 139 = .ok (.aload_n 0, 1) := dk_42 (dk_at dksX10_tellLaw_6 2 rfl rfl)
theorem dX10_tellLaw_140 : decode cX10_tellLaw 140 = .ok (.invokevirtual 302, 3) := dk_182 1 46 (dk_at dksX10_tellLaw_6 3 rfl rfl)
theorem dX10_tellLaw_143 : decode cX10_tellLaw 143 = .ok (.aload_n 0, 1) := dk_42 (dk_at dksX10_tellLaw_6 6 rfl rfl)
theorem dX10_tellLaw_144 : decode cX10_tellLaw 144 = .ok (.iconst 4, 1) := dk_7 (dk_at dksX10_tellLaw_6 7 rfl rfl)
theorem dX10_tellLaw_145 : decode cX10_tellLaw 145 = .ok (.invokevirtual 273, 3) := dk_182 1 17 (dk_at dksX10_tellLaw_6 8 rfl rfl)
theorem dX10_tellLaw_148 : decode cX10_tellLaw 148 = .ok (.aload_n 0, 1) := dk_42 (dk_at dksX10_tellLaw_6 11 rfl rfl)
theorem dX10_tellLaw_149 : decode cX10_tellLaw 149 = .ok (.getfield 215, 3) := dk_180 0 215 (dk_at dksX10_tellLaw_6 12 rfl rfl)
theorem dX10_tellLaw_152 : decode cX10_tellLaw 152 = .ok (.ifCond .le 4, 3) := dk_158 0 4 (dk_at dksX10_tellLaw_6 15 rfl rfl)
theorem dX10_tellLaw_155 : decode cX10_tellLaw 155 = .ok (.return_, 1) := dk_177 (dk_at dksX10_tellLaw_6 18 rfl rfl)
theorem dX10_tellLaw_156 : decode cX10_tellLaw 156 = .ok (.aload_n 0, 1) := dk_42 (dk_at dksX10_tellLaw_6 19 rfl rfl)
theorem dX10_tellLaw_157 : decode cX10_tellLaw 157 = .ok (.getfield 70, 3) := dk_180 0 70 (dk_at dksX10_tellLaw_6 20 rfl rfl)
theorem dX10_tellLaw_160 : decode cX10_tellLaw 160 = .ok (.iconst 4, 1) := dk_7 (dk_at dksX10_tellLaw_6 23 rfl rfl)
theorem dX10_tellLaw_161 : decode cX10_tellLaw 161 = .ok (.aload_n 0, 1) := dk_42 (dk_at dksX10_tellLaw_7 0 rfl rfl)
theorem dX10_tellLaw_162 : decode cX10_tellLaw 162 = .ok (.getfield 248, 3) := dk_180 0 248 (dk_at dksX10_tellLaw_7 1 rfl rfl)
theorem dX10_tellLaw_165 : decode cX10_tellLaw 165 = .ok (.imul, 1) := dk_104 (dk_at dksX10_tellLaw_7 4 rfl rfl)
theorem dX10_tellLaw_166 : decode cX10_tellLaw 166 = .ok (.iload_n 1, 1) := dk_27 (dk_at dksX10_tellLaw_7 5 rfl rfl)
theorem dX10_tellLaw_167 : decode cX10_tellLaw 167 = .ok (.iadd, 1) := dk_96 (dk_at dksX10_tellLaw_7 6 rfl rfl)
theorem dX10_tellLaw_168 : decode cX10_tellLaw 168 = .ok (.iload_n 2, 1) := dk_28 (dk_at dksX10_tellLaw_7 7 rfl rfl)
theorem dX10_tellLaw_169 : decode cX10_tellLaw 169 = .ok (.iastore, 1) := dk_79 (dk_at dksX10_tellLaw_7 8 rfl rfl)
theorem dX10_tellLaw_170 : decode cX10_tellLaw 170 = .ok (.aload_n 0, 1) := dk_42 (dk_at dksX10_tellLaw_7 9 rfl rfl)
theorem dX10_tellLaw_171 : decode cX10_tellLaw 171 = .ok (.getfield 73, 3) := dk_180 0 73 (dk_at dksX10_tellLaw_7 10 rfl rfl)
theorem dX10_tellLaw_174 : decode cX10_tellLaw 174 = .ok (.iconst 4, 1) := dk_7 (dk_at dksX10_tellLaw_7 13 rfl rfl)
theorem dX10_tellLaw_175 : decode cX10_tellLaw 175 = .ok (.aload_n 0, 1) := dk_42 (dk_at dksX10_tellLaw_7 14 rfl rfl)
theorem dX10_tellLaw_176 : decode cX10_tellLaw 176 = .ok (.getfield 248, 3) := dk_180 0 248 (dk_at dksX10_tellLaw_7 15 rfl rfl)
theorem dX10_tellLaw_179 : decode cX10_tellLaw 179 = .ok (.imul, 1) := dk_104 (dk_at dksX10_tellLaw_7 18 rfl rfl)
theorem dX10_tellLaw_180 : decode cX10_tellLaw 180 = .ok (.iload_n 1, 1) := dk_27 (dk_at dksX10_tellLaw_7 19 rfl rfl)
theorem dX10_tellLaw_181 : decode cX10_tellLaw 181 = .ok (.iadd, 1) := dk_96 (dk_at dksX10_tellLaw_7 20 rfl rfl)
theorem dX10_tellLaw_182 : decode cX10_tellLaw 182 = .ok (.aload_n 0, 1) := dk_42 (dk_at dksX10_tellLaw_7 21 rfl rfl)
theorem dX10_tellLaw_183 : decode cX10_tellLaw 183 = .ok (.getfield 254, 3) := dk_180 0 254 (dk_at dksX10_tellLaw_8 0 rfl rfl)
theorem dX10_tellLaw_186 : decode cX10_tellLaw 186 = .ok (.iastore, 1) := dk_79 (dk_at dksX10_tellLaw_8 3 rfl rfl)
theorem dX10_tellLaw_187 : decode cX10_tellLaw 187 = .ok (.return_, 1) := dk_177 (dk_at dksX10_tellLaw_8 4 rfl rfl)
def dkwX10_expression_11 : List UInt8 := [180, 1, 49, 4, 96, 181, 1, 49, 42, 182, 0, 236, 167, 254, 255, 177]
abbrev dktX10_expression_11 : List UInt8 := dkwX10_expression_11 ++ []
def dkwX10_expression_10 : List UInt8 := [182, 1, 58, 42, 180, 0, 98, 42, 180, 1, 49, 42, 180, 0, 20, 42, 180, 0, 218, 46, 79, 42, 89]
abbrev dktX10_expression_10 : List UInt8 := dkwX10_expression_10 ++ dktX10_expression_11
def dkwX10_expression_9 : List UInt8 := [16, 10, 182, 0, 233, 154, 0, 12, 42, 16, 15, 182, 0, 233, 153, 0, 7, 4, 167, 0, 4, 3]
abbrev dktX10_expression_9 : List UInt8 := dkwX10_expression_9 ++ dktX10_expression_10
def dkwX10_expression_8 : List UInt8 := [154, 0, 22, 42, 180, 0, 242, 27, 164, 0, 8, 42, 4, 182, 0, 230, 42, 3, 182, 1, 58, 177, 42, 42]
abbrev dktX10_expression_8 : List UInt8 := dkwX10_expression_8 ++ dktX10_expression_9
def dkwX10_expression_7 : List UInt8 := [182, 0, 233, 154, 0, 12, 42, 16, 15, 182, 0, 233, 153, 0, 7, 4, 167, 0, 4, 3, 61, 28]
abbrev dktX10_expression_7 : List UInt8 := dkwX10_expression_7 ++ dktX10_expression_8
def dkwX10_expression_6 : List UInt8 := [167, 255, 210, 42, 16, 8, 182, 0, 233, 154, 0, 30, 42, 16, 9, 182, 0, 233, 154, 0, 21, 42, 16, 10]
abbrev dktX10_expression_6 : List UInt8 := dkwX10_expression_6 ++ dktX10_expression_7
def dkwX10_expression_5 : List UInt8 := [180, 1, 49, 4, 100, 181, 1, 49, 42, 89, 180, 0, 242, 4, 100, 181, 0, 242, 42, 182, 0, 236]
abbrev dktX10_expression_5 : List UInt8 := dkwX10_expression_5 ++ dktX10_expression_6
def dkwX10_expression_4 : List UInt8 := [42, 16, 7, 182, 0, 233, 153, 0, 43, 42, 180, 0, 242, 27, 164, 0, 35, 42, 3, 182, 1, 58, 42, 89]
abbrev dktX10_expression_4 : List UInt8 := dkwX10_expression_4 ++ dktX10_expression_5
def dkwX10_expression_3 : List UInt8 := [89, 180, 1, 49, 4, 96, 181, 1, 49, 167, 255, 198, 42, 182, 1, 55, 42, 180, 0, 215, 158, 0, 4, 177]
abbrev dktX10_expression_3 : List UInt8 := dkwX10_expression_3 ++ dktX10_expression_4
def dkwX10_expression_2 : List UInt8 := [180, 0, 242, 4, 96, 181, 0, 242, 42, 182, 0, 236, 42, 180, 0, 98, 42, 180, 1, 49, 16, 6, 79, 42]
abbrev dktX10_expression_2 : List UInt8 := dkwX10_expression_2 ++ dktX10_expression_3
def dkwX10_expression_1 : List UInt8 := [16, 6, 182, 0, 233, 153, 0, 55, 42, 180, 0, 242, 16, 6, 160, 0, 8, 42, 5, 182, 0, 230, 42, 89]
abbrev dktX10_expression_1 : List UInt8 := dkwX10_expression_1 ++ dktX10_expression_2
def dkwX10_expression_0 : List UInt8 := [42, 3, 181, 1, 49, 42, 180, 0, 242, 60, 4, 61, 28, 153, 1, 3, 42, 180, 0, 215, 154, 0, 252, 42]
abbrev dktX10_expression_0 : List UInt8 := dkwX10_expression_0 ++ dktX10_expression_1
theorem dksX10_expression_0 : cX10_expression.data.toList.drop 0 = dktX10_expression_0 := by decide +kernel
theorem dksX10_expression_1 : cX10_expression.data.toList.drop 24 = dktX10_expression_1 := dk_seg dksX10_expression_0 24 rfl rfl
theorem dksX10_expression_2 : cX10_expression.data.toList.drop 48 = dktX10_expression_2 := dk_seg dksX10_expression_1 24 rfl rfl
theorem dksX10_expression_3 : cX10_expression.data.toList.drop 72 = dktX10_expression_3 := dk_seg dksX10_expression_2 24 rfl rfl
theorem dksX10_expression_4 : cX10_expression.data.toList.drop 96 = dktX10_expression_4 := dk_seg dksX10_expression_3 24 rfl rfl
theorem dksX10_expression_5 : cX10_expression.data.toList.drop 120 = dktX10_expression_5 := dk_seg dksX10_expression_4 24 rfl rfl
theorem dksX10_expression_6 : cX10_expression.data.toList.drop 142 = dktX10_expression_6 := dk_seg dksX10_expression_5 22 rfl rfl
theorem dksX10_expression_7 : cX10_expression.data.toList.drop 166 = dktX10_expression_7 := dk_seg dksX10_expression_6 24 rfl rfl
theorem dksX10_expression_8 : cX10_expression.data.toList.drop 188 = dktX10_expression_8 := dk_seg dksX10_expression_7 22 rfl rfl
theorem dksX10_expression_9 : cX10_expression.data.toList.drop 212 = dktX10_expression_9 := dk_seg dksX10_expression_8 24 rfl rfl
theorem dksX10_expression_10 : cX10_expression.data.toList.drop 234 = dktX10_expression_10 := dk_seg dksX10_expression_9 22 rfl rfl
theorem dksX10_expression_11 : cX10_expression.data.toList.drop 257 = dktX10_expression_11 := dk_seg dksX10_expression_10 23 rfl rfl
theorem dX10_expression_0 : decode cX10_expression 0 = .ok (.aload_n 0, 1) := dk_42 (dk_at dksX10_expression_0 0 rfl rfl)
theorem dX10_expression_1 : decode cX10_expression 1 = .ok (.iconst 0, 1) := dk_3 (dk_at dksX10_expression_0 1 rfl rfl)
theorem dX10_expression_2 : decode cX10_expression 2 = .ok (.putfield 305, 3) := dk_181 1 49 (dk_at dksX10_expression_0 2 rfl rfl)
theorem dX10_expression_5 : decode cX10_expression 5 = .ok (.aload_n 0, 1) := dk_42 (dk_at dksX10_expression_0 5 rfl rfl)
theorem dX10_expression_6 : decode cX10_expression 6 = .ok (.getfield 242, 3) := dk_180 0 242 (dk_at dksX10_expression_0 6 rfl rfl)
theorem dX10_expression_9 : decode cX10_expression 9 = .ok (.istore_n 1, 1) := dk_60 (dk_at dksX10_expression_0 9 rfl rfl)
theorem dX10_expression_10 : decode cX10_expression 10 = .ok (.iconst 1, 1) := dk_4 (dk_at dksX10_expression_0 10 rfl rfl)
theorem dX10_expression_11 : decode cX10_expression 11 = .ok (.istore_n 2, 1) := dk_61 (dk_at dksX10_expression_0 11 rfl rfl)
theorem dX10_expression_12 : decode cX10_expression 12 = .ok (.iload_n 2, 1) := dk_28 (dk_at dksX10_expression_0 12 rfl rfl)
theorem dX10_expression_13 : decode cX10_expression 13 = .ok (.ifCond .eq 259, 3) := dk_153 1 3 (dk_at dksX10_expression_0 13 rfl rfl)
theorem dX10_expression_16 : decode cX10_expression 16 = .ok (.aload_n 0, 1) := dk_42 (dk_at dksX10_expression_0 16 rfl rfl)
theorem dX10_expression_17 : decode cX10_expression 17 = .ok (.getfield 215, 3) := dk_180 0 215 (dk_at dksX10_expression_0 17 rfl rfl)
theorem dX10_expression_20 : decode cX10_expression 20 = .ok (.ifCond .ne 252, 3) := dk_154 0 252 (dk_at dksX10_expression_0 20 rfl rfl)
theorem dX10_expression_23 : decode cX10_expression 23 = .ok (.aload_n 0, 1) := dk_42 (dk_at dksX10_expression_0 23 rfl rfl)
theorem dX10_expression_24 : decode cX10_expression 24 = .ok (.bipush 6, 2) := dk_16 6 (dk_at dksX10_expression_1 0 rfl rfl)
theorem dX10_expression_26 : decode cX10_expression 26 = .ok (.invokevirtual 233, 3) := dk_182 0 233 (dk_at dksX10_expression_1 2 rfl rfl)
theorem dX10_expression_29 : decode cX10_expression 29 = .ok (.ifCond .eq 55, 3) := dk_153 0 55 (dk_at dksX10_expression_1 5 rfl rfl)
theorem dX10_expression_32 : decode cX10_expression 32 = .ok (.aload_n 0, 1) := dk_42 (dk_at dksX10_expression_1 8 rfl rfl)
theorem dX10_expression_33 : decode cX10_expression 33 = .ok (.getfield 242, 3) := dk_180 0 242 (dk_at dksX10_expression_1 9 rfl rfl)
theorem dX10_expression_36 : decode cX10_expression 36 = .ok (.bipush 6, 2) := dk_16 6 (dk_at dksX10_expression_1 12 rfl rfl)
theorem dX10_expression_38 : decode cX10_expression 38 = .ok (.if_icmp .ne 8, 3) := dk_160 0 8 (dk_at dksX10_expression_1 14 rfl rfl)
theorem dX10_expression_41 : decode cX10_expression 41 = .ok (.aload_n 0, 1) := dk_42 (dk_at dksX10_expression_1 17 rfl rfl)
theorem dX10_expression_42 : decode cX10_expression 42 = .ok (.iconst 2, 1) := dk_5 (dk_at dksX10_expression_1 18 rfl rfl)
theorem dX10_expression_43 : decode cX10_expression 43 = .ok (.invokevirtual 230, 3) := dk_182 0 230 (dk_at dksX10_expression_1 19 rfl rfl)
theorem dX10_expression_46 : decode cX10_expression 46 = .ok (.aload_n 0, 1) := dk_42 (dk_at dksX10_expression_1 22 rfl rfl)
theorem dX10_expression_47 : decode cX10_expression 47 = .ok (.dup, 1) := dk_89 (dk_at dksX10_expression_1 23 rfl rfl)
theorem dX10_expression_48 : decode cX10_expression 48 = .ok (.getfield 242, 3) := dk_180 0 242 (dk_at dksX10_expression_2 0 rfl rfl)
theorem dX10_expression_51 : decode cX10_expression 51 = .ok (.iconst 1, 1) := dk_4 (dk_at dksX10_expression_2 3 rfl rfl)
theorem dX10_expression_52 : decode cX10_expression 52 = .ok (.iadd, 1) := dk_96 (dk_at dksX10_expression_2 4 rfl rfl)
theorem dX10_expression_53 : decode cX10_expression 53 = .ok (.putfield 242, 3) := dk_181 0 242 (dk_at dksX10_expression_2 5 rfl rfl)
theorem dX10_expression_56 : decode cX10_expression 56 = .ok (.aload_n 0, 1) := dk_42 (dk_at dksX10_expression_2 8 rfl rfl)
theorem dX10_expression_57 : decode cX10_expression 57 = .ok (.invokevirtual 236, 3) := dk_182 0 236 (dk_at dksX10_expression_2 9 rfl rfl)
theorem dX10_expression_60 : decode cX10_expression 60 = .ok (.aload_n 0, 1) := dk_42 (dk_at dksX10_expression_2 12 rfl rfl)
theorem dX10_expression_61 : decode cX10_expression 61 = .ok (.getfield 98, 3) := dk_180 0 98 (dk_at dksX10_expression_2 13 rfl rfl)
theorem dX10_expression_64 : decode cX10_expression 64 = .ok (.aload_n 0, 1) := dk_42 (dk_at dksX10_expression_2 16 rfl rfl)
theorem dX10_expression_65 : decode cX10_expression 65 = .ok (.getfield 305, 3) := dk_180 1 49 (dk_at dksX10_expression_2 17 rfl rfl)
theorem dX10_expression_68 : decode cX10_expression 68 = .ok (.bipush 6, 2) := dk_16 6 (dk_at dksX10_expression_2 20 rfl rfl)
theorem dX10_expression_70 : decode cX10_expression 70 = .ok (.iastore, 1) := dk_79 (dk_at dksX10_expression_2 22 rfl rfl)
theorem dX10_expression_71 : decode cX10_expression 71 = .ok (.aload_n 0, 1) := dk_42 (dk_at dksX10_expression_2 23 rfl rfl)
theorem dX10_expression_72 : decode cX10_expression 72 = .ok (.dup, 1) := dk_89 (dk_at dksX10_expression_3 0 rfl rfl)
theorem dX10_expression_73 : decode cX10_expression 73 = .ok (.getfield 305, 3) := dk_180 1 49 (dk_at dksX10_expression_3 1 rfl rfl)
theorem dX10_expression_76 : decode cX10_expression 76 = .ok (.iconst 1, 1) := dk_4 (dk_at dksX10_expression_3 4 rfl rfl)
theorem dX10_expression_77 : decode cX10_expression 77 = .ok (.iadd, 1) := dk_96 (dk_at dksX10_expression_3 5 rfl rfl)
theorem dX10_expression_78 : decode cX10_expression 78 = .ok (.putfield 305, 3) := dk_181 1 49 (dk_at dksX10_expression_3 6 rfl rfl)
theorem dX10_expression_81 : decode cX10_expression 81 = .ok (.goto (-58), 3) := dk_167 255 198 (dk_at dksX10_expression_3 9 rfl rfl)
theorem dX10_expression_84 : decode cX10_expression 84 = .ok (.aload_n 0, 1) := dk_42 (dk_at dksX10_expression_3 12 rfl rfl)
theorem dX10_expression_85 : decode cX10_expression 85 = .ok (.invokevirtual 311, 3) := dk_182 1 55 (dk_at dksX10_expression_3 13 rfl rfl)
theorem dX10_expression_88 : decode cX10_expression 88 = .ok (.aload_n 0, 1) := dk_42 (dk_at dksX10_expression_3 16 rfl rfl)
theorem dX10_expression_89 : decode cX10_expression 89 = .ok (.getfield 215, 3) := dk_180 0 215 (dk_at dksX10_expression_3 17 rfl rfl)
theorem dX10_expression_92 : decode cX10_expression 92 = .ok (.ifCond .le 4, 3) := dk_158 0 4 (dk_at dksX10_expression_3 20 rfl rfl)
theorem dX10_expression_95 : decode cX10_expression 95 = .ok (.return_, 1) := dk_177 (dk_at dksX10_expression_3 23 rfl rfl)
theorem dX10_expression_96 : decode cX10_expression 96 = .ok (.aload_n 0, 1) := dk_42 (dk_at dksX10_expression_4 0 rfl rfl)
theorem dX10_expression_97 : decode cX10_expression 97 = .ok (.bipush 7, 2) := dk_16 7 (dk_at dksX10_expression_4 1 rfl rfl)
theorem dX10_expression_99 : decode cX10_expression 99 = .ok (.invokevirtual 233, 3) := dk_182 0 233 (dk_at dksX10_expression_4 3 rfl rfl)
theorem dX10_expression_102 : decode cX10_expression 102 = .ok (.ifCond .eq 43, 3) := dk_153 0 43 (dk_at dksX10_expression_4 6 rfl rfl)
theorem dX10_expression_105 : decode cX10_expression 105 = .ok (.aload_n 0, 1) := dk_42 (dk_at dksX10_expression_4 9 rfl rfl)
theorem dX10_expression_106 : decode cX10_expression 106 = .ok (.getfield 242, 3) := dk_180 0 242 (dk_at dksX10_expression_4 10 rfl rfl)
theorem dX10_expression_109 : decode cX10_expression 109 = .ok (.iload_n 1, 1) := dk_27 (dk_at dksX10_expression_4 13 rfl rfl)
theorem dX10_expression_110 : decode cX10_expression 110 = .ok (.if_icmp .le 35, 3) := dk_164 0 35 (dk_at dksX10_expression_4 14 rfl rfl)
theorem dX10_expression_113 : decode cX10_expression 113 = .ok (.aload_n 0, 1) := dk_42 (dk_at dksX10_expression_4 17 rfl rfl)
theorem dX10_expression_114 : decode cX10_expression 114 = .ok (.iconst 0, 1) := dk_3 (dk_at dksX10_expression_4 18 rfl rfl)
theorem dX10_expression_115 : decode cX10_expression 115 = .ok (.invokevirtual 314, 3) := dk_182 1 58 (dk_at dksX10_expression_4 19 rfl rfl)
theorem dX10_expression_118 : decode cX10_expression 118 = .ok (.aload_n 0, 1) := dk_42 (dk_at dksX10_expression_4 22 rfl rfl)
theorem dX10_expression_119 : decode cX10_expression 119 = .ok (.dup, 1) := dk_89 (dk_at dksX10_expression_4 23 rfl rfl)
theorem dX10_expression_120 : decode cX10_expression 120 = .ok (.getfield 305, 3) := dk_180 1 49 (dk_at dksX10_expression_5 0 rfl rfl)
theorem dX10_expression_123 : decode cX10_expression 123 = .ok (.iconst 1, 1) := dk_4 (dk_at dksX10_expression_5 3 rfl rfl)
theorem dX10_expression_124 : decode cX10_expression 124 = .ok (.isub, 1) := dk_100 (dk_at dksX10_expression_5 4 rfl rfl)
theorem dX10_expression_125 : decode cX10_expression 125 = .ok (.putfield 305, 3) := dk_181 1 49 (dk_at dksX10_expression_5 5 rfl rfl)
theorem dX10_expression_128 : decode cX10_expression 128 = .ok (.aload_n 0, 1) := dk_42 (dk_at dksX10_expression_5 8 rfl rfl)
theorem dX10_expression_129 : decode cX10_expression 129 = .ok (.dup, 1) := dk_89 (dk_at dksX10_expression_5 9 rfl rfl)
theorem dX10_expression_130 : decode cX10_expression 130 = .ok (.getfield 242, 3) := dk_180 0 242 (dk_at dksX10_expression_5 10 rfl rfl)
theorem dX10_expression_133 : decode cX10_expression 133 = .ok (.iconst 1, 1) := dk_4 (dk_at dksX10_expression_5 13 rfl rfl)
theorem dX10_expression_134 : decode cX10_expression 134 = .ok (.isub, 1) := dk_100 (dk_at dksX10_expression_5 14 rfl rfl)
theorem dX10_expression_135 : decode cX10_expression 135 = .ok (.putfield 242, 3) := dk_181 0 242 (dk_at dksX10_expression_5 15 rfl rfl)
theorem dX10_expression_138 : decode cX10_expression 138 = .ok (.aload_n 0, 1) := dk_42 (dk_at dksX10_expression_5 18 rfl rfl)
theorem dX10_expression_139 : decode cX10_expression 139 = .ok (.invokevirtual 236, 3) := dk_182 0 236 (dk_at dksX10_expression_5 19 rfl rfl)
theorem dX10_expression_142 : decode cX10_expression 142 = .ok (.goto (-46), 3) := dk_167 255 210 (dk_at dksX10_expression_6 0 rfl rfl)
theorem dX10_expression_145 : decode cX10_expression 145 = .ok (.aload_n 0, 1) := dk_42 (dk_at dksX10_expression_6 3 rfl rfl)
theorem dX10_expression_146 : decode cX10_expression 146 = .ok (.bipush 8, 2) := dk_16 8 (dk_at dksX10_expression_6 4 rfl rfl)
theorem dX10_expression_148 : decode cX10_expression 148 = .ok (.invokevirtual 233, 3) := dk_182 0 233 (dk_at dksX10_expression_6 6 rfl rfl)
theorem dX10_expression_151 : decode cX10_expression 151 = .ok (.ifCond .ne 30, 3) := dk_154 0 30 (dk_at dksX10_expression_6 9 rfl rfl)
theorem dX10_expression_154 : decode cX10_expression 154 = .ok (.aload_n 0, 1) := dk_42 (dk_at dksX10_expression_6 12 rfl rfl)
theorem dX10_expression_155 : decode cX10_expression 155 = .ok (.bipush 9, 2) := dk_16 9 (dk_at dksX10_expression_6 13 rfl rfl)
theorem dX10_expression_157 : decode cX10_expression 157 = .ok (.invokevirtual 233, 3) := dk_182 0 233 (dk_at dksX10_expression_6 15 rfl rfl)
theorem dX10_expression_160 : decode cX10_expression 160 = .ok (.ifCond .ne 21, 3) := dk_154 0 21 (dk_at dksX10_expression_6 18 rfl rfl)
theorem dX10_expression_163 : decode cX10_expression 163 = .ok (.aload_n 0, 1) := dk_42 (dk_at dksX10_expression_6 21 rfl rfl)
theorem dX10_expression_164 : decode cX10_expression 164 = .ok (.bipush 10, 2) := dk_16 10 (dk_at dksX10_expression_6 22 rfl rfl)
theorem dX10_expression_166 : decode cX10_expression 166 = .ok (.invokevirtual 233, 3) := dk_182 0 233 (dk_at dksX10_expression_7 0 rfl rfl)
theorem dX10_expression_169 : decode cX10_expression 169 = .ok (.ifCond .ne 12, 3) := dk_154 0 12 (dk_at dksX10_expression_7 3 rfl rfl)
theorem dX10_expression_172 : decode cX10_expression 172 = .ok (.aload_n 0, 1) := dk_42 (dk_at dksX10_expression_7 6 rfl rfl)
theorem dX10_expression_173 : decode cX10_expression 173 = .ok (.bipush 15, 2) := dk_16 15 (dk_at dksX10_expression_7 7 rfl rfl)
theorem dX10_expression_175 : decode cX10_expression 175 = .ok (.invokevirtual 233, 3) := dk_182 0 233 (dk_at dksX10_expression_7 9 rfl rfl)
theorem dX10_expression_178 : decode cX10_expression 178 = .ok (.ifCond .eq 7, 3) := dk_153 0 7 (dk_at dksX10_expression_7 12 rfl rfl)
theorem dX10_expression_181 : decode cX10_expression 181 = .ok (.iconst 1, 1) := dk_4 (dk_at dksX10_expression_7 15 rfl rfl)
theorem dX10_expression_182 : decode cX10_expression 182 = .ok (.goto 4, 3) := dk_167 0 4 (dk_at dksX10_expression_7 16 rfl rfl)
theorem dX10_expression_185 : decode cX10_expression 185 = .ok (.iconst 0, 1) := dk_3 (dk_at dksX10_expression_7 19 rfl rfl)
theorem dX10_expression_186 : decode cX10_expression 186 = .ok (.istore_n 2, 1) := dk_61 (dk_at dksX10_expression_7 20 rfl rfl)
theorem dX10_expression_187 : decode cX10_expression 187 = .ok (.iload_n 2, 1) := dk_28 (dk_at dksX10_expression_7 21 rfl rfl)
theorem dX10_expression_188 : decode cX10_expression 188 = .ok (.ifCond .ne 22, 3) := dk_154 0 22 (dk_at dksX10_expression_8 0 rfl rfl)
theorem dX10_expression_191 : decode cX10_expression 191 = .ok (.aload_n 0, 1) := dk_42 (dk_at dksX10_expression_8 3 rfl rfl)
theorem dX10_expression_192 : decode cX10_expression 192 = .ok (.getfield 242, 3) := dk_180 0 242 (dk_at dksX10_expression_8 4 rfl rfl)
theorem dX10_expression_195 : decode cX10_expression 195 = .ok (.iload_n 1, 1) := dk_27 (dk_at dksX10_expression_8 7 rfl rfl)
theorem dX10_expression_196 : decode cX10_expression 196 = .ok (.if_icmp .le 8, 3) := dk_164 0 8 (dk_at dksX10_expression_8 8 rfl rfl)
theorem dX10_expression_199 : decode cX10_expression 199 = .ok (.aload_n 0, 1) := dk_42 (dk_at dksX10_expression_8 11 rfl rfl)
theorem dX10_expression_200 : decode cX10_expression 200 = .ok (.iconst 1, 1) := dk_4 (dk_at dksX10_expression_8 12 rfl rfl)
theorem dX10_expression_201 : decode cX10_expression 201 = .ok (.invokevirtual 230, 3) := dk_182 0 230 (dk_at dksX10_expression_8 13 rfl rfl)
theorem dX10_expression_204 : decode cX10_expression 204 = .ok (.aload_n 0, 1) := dk_42 (dk_at dksX10_expression_8 16 rfl rfl)
theorem dX10_expression_205 : decode cX10_expression 205 = .ok (.iconst 0, 1) := dk_3 (dk_at dksX10_expression_8 17 rfl rfl)
theorem dX10_expression_206 : decode cX10_expression 206 = .ok (.invokevirtual 314, 3) := dk_182 1 58 (dk_at dksX10_expression_8 18 rfl rfl)
theorem dX10_expression_209 : decode cX10_expression 209 = .ok (.return_, 1) := dk_177 (dk_at dksX10_expression_8 21 rfl rfl)
theorem dX10_expression_210 : decode cX10_expression 210 = .ok (.aload_n 0, 1) := dk_42 (dk_at dksX10_expression_8 22 rfl rfl)
theorem dX10_expression_211 : decode cX10_expression 211 = .ok (.aload_n 0, 1) := dk_42 (dk_at dksX10_expression_8 23 rfl rfl)
theorem dX10_expression_212 : decode cX10_expression 212 = .ok (.bipush 10, 2) := dk_16 10 (dk_at dksX10_expression_9 0 rfl rfl)
theorem dX10_expression_214 : decode cX10_expression 214 = .ok (.invokevirtual 233, 3) := dk_182 0 233 (dk_at dksX10_expression_9 2 rfl rfl)
theorem dX10_expression_217 : decode cX10_expression 217 = .ok (.ifCond .ne 12, 3) := dk_154 0 12 (dk_at dksX10_expression_9 5 rfl rfl)
theorem dX10_expression_220 : decode cX10_expression 220 = .ok (.aload_n 0, 1) := dk_42 (dk_at dksX10_expression_9 8 rfl rfl)
theorem dX10_expression_221 : decode cX10_expression 221 = .ok (.bipush 15, 2) := dk_16 15 (dk_at dksX10_expression_9 9 rfl rfl)
theorem dX10_expression_223 : decode cX10_expression 223 = .ok (.invokevirtual 233, 3) := dk_182 0 233 (dk_at dksX10_expression_9 11 rfl rfl)
theorem dX10_expression_226 : decode cX10_expression 226 = .ok (.ifCond .eq 7, 3) := dk_153 0 7 (dk_at dksX10_expression_9 14 rfl rfl)
theorem dX10_expression_229 : decode cX10_expression 229 = .ok (.iconst 1, 1) := dk_4 (dk_at dksX10_expression_9 17 rfl rfl)
theorem dX10_expression_230 : decode cX10_expression 230 = .ok (.goto 4, 3) := dk_167 0 4 (dk_at dksX10_expression_9 18 rfl rfl)
theorem dX10_expression_233 : decode cX10_expression 233 = .ok (.iconst 0, 1) := dk_3 (dk_at dksX10_expression_9 21 rfl rfl)
theorem dX10_expression_234 : decode cX10_expression 234 = .ok (.invokevirtual 314, 3) := dk_182 1 58 (dk_at dksX10_expression_10 0 rfl rfl)
theorem dX10_expression_237 : decode cX10_expression 237 = .ok (.aload_n 0, 1) := dk_42 (dk_at dksX10_expression_10 3 rfl rfl)
theorem dX10_expression_238 : decode cX10_expression 238 = .ok (.getfield 98, 3) := dk_180 0 98 (dk_at dksX10_expression_10 4 rfl rfl)
theorem dX10_expression_241 : decode cX10_expression 241 = .ok (.aload_n 0, 1) := dk_42 (dk_at dksX10_expression_10 7 rfl rfl)
theorem dX10_expression_242 : decode cX10_expression 242 = .ok (.getfield 305, 3) := dk_180 1 49 (dk_at dksX10_expression_10 8 rfl rfl)
theorem dX10_expression_245 : decode cX10_expression 245 = .ok (.aload_n 0, 1) := dk_42 (dk_at dksX10_expression_10 11 rfl rfl)
theorem dX10_expression_246 : decode cX10_expression 246 = .ok (.getfield 20, 3) := dk_180 0 20 (dk_at dksX10_expression_10 12 rfl rfl)
theorem dX10_expression_249 : decode cX10_expression 249 = .ok (.aload_n 0, 1) := dk_42 (dk_at dksX10_expression_10 15 rfl rfl)
theorem dX10_expression_250 : decode cX10_expression 250 = .ok (.getfield 218, 3) := dk_180 0 218 (dk_at dksX10_expression_10 16 rfl rfl)
theorem dX10_expression_253 : decode cX10_expression 253 = .ok (.iaload, 1) := dk_46 (dk_at dksX10_expression_10 19 rfl rfl)
theorem dX10_expression_254 : decode cX10_expression 254 = .ok (.iastore, 1) := dk_79 (dk_at dksX10_expression_10 20 rfl rfl)
theorem dX10_expression_255 : decode cX10_expression 255 = .ok (.aload_n 0, 1) := dk_42 (dk_at dksX10_expression_10 21 rfl rfl)
theorem dX10_expression_256 : decode cX10_expression 256 = .ok (.dup, 1) := dk_89 (dk_at dksX10_expression_10 22 rfl rfl)
theorem dX10_expression_257 : decode cX10_expression 257 = .ok (.getfield 305, 3) := dk_180 1 49 (dk_at dksX10_expression_11 0 rfl rfl)
theorem dX10_expression_260 : decode cX10_expression 260 = .ok (.iconst 1, 1) := dk_4 (dk_at dksX10_expression_11 3 rfl rfl)
theorem dX10_expression_261 : decode cX10_expression 261 = .ok (.iadd, 1) := dk_96 (dk_at dksX10_expression_11 4 rfl rfl)
theorem dX10_expression_262 : decode cX10_expression 262 = .ok (.putfield 305, 3) := dk_181 1 49 (dk_at dksX10_expression_11 5 rfl rfl)
theorem dX10_expression_265 : decode cX10_expression 265 = .ok (.aload_n 0, 1) := dk_42 (dk_at dksX10_expression_11 8 rfl rfl)
theorem dX10_expression_266 : decode cX10_expression 266 = .ok (.invokevirtual 236, 3) := dk_182 0 236 (dk_at dksX10_expression_11 9 rfl rfl)
theorem dX10_expression_269 : decode cX10_expression 269 = .ok (.goto (-257), 3) := dk_167 254 255 (dk_at dksX10_expression_11 12 rfl rfl)
theorem dX10_expression_272 : decode cX10_expression 272 = .ok (.return_, 1) := dk_177 (dk_at dksX10_expression_11 15 rfl rfl)
def dkwX10_unit_3 : List UInt8 := [180, 0, 218, 46, 16, 33, 100, 182, 1, 52, 42, 182, 0, 236, 167, 0, 8, 42, 4, 182, 0, 230, 177]
abbrev dktX10_unit_3 : List UInt8 := dkwX10_unit_3 ++ []
def dkwX10_unit_2 : List UInt8 := [161, 0, 41, 42, 180, 0, 20, 42, 180, 0, 218, 46, 16, 41, 163, 0, 27, 42, 4, 42, 180, 0, 20, 42]
abbrev dktX10_unit_2 : List UInt8 := dkwX10_unit_2 ++ dktX10_unit_3
def dkwX10_unit_1 : List UInt8 := [182, 0, 236, 167, 0, 67, 42, 180, 0, 215, 154, 0, 55, 42, 180, 0, 20, 42, 180, 0, 218, 46, 16, 33]
abbrev dktX10_unit_1 : List UInt8 := dkwX10_unit_1 ++ dktX10_unit_2
def dkwX10_unit_0 : List UInt8 := [42, 5, 182, 0, 233, 153, 0, 24, 42, 3, 42, 180, 0, 27, 42, 180, 0, 218, 46, 182, 1, 52, 42]
abbrev dktX10_unit_0 : List UInt8 := dkwX10_unit_0 ++ dktX10_unit_1
theorem dksX10_unit_0 : cX10_unit.data.toList.drop 0 = dktX10_unit_0 := by decide +kernel
theorem dksX10_unit_1 : cX10_unit.data.toList.drop 23 = dktX10_unit_1 := dk_seg dksX10_unit_0 23 rfl rfl
theorem dksX10_unit_2 : cX10_unit.data.toList.drop 47 = dktX10_unit_2 := dk_seg dksX10_unit_1 24 rfl rfl
theorem dksX10_unit_3 : cX10_unit.data.toList.drop 71 = dktX10_unit_3 := dk_seg dksX10_unit_2 24 rfl rfl
theorem dX10_unit_0 : decode cX10_unit 0 = .ok (.aload_n 0, 1) := dk_42 (dk_at dksX10_unit_0 0 rfl rfl)
theorem dX10_unit_1 : decode cX10_unit 1 = .ok (.iconst 2, 1) := dk_5 (dk_at dksX10_unit_0 1 rfl rfl)
theorem dX10_unit_2 : decode cX10_unit 2 = .ok (.invokevirtual 233, 3) := dk_182 0 233 (dk_at dksX10_unit_0 2 rfl rfl)
theorem dX10_unit_5 : decode cX10_unit 5 = .ok (.ifCond .eq 24, 3) := dk_153 0 24 (dk_at dksX10_unit_0 5 rfl rfl)
theorem dX10_unit_8 : decode cX10_unit 8 = .ok (.aload_n 0, 1) := dk_42 (dk_at dksX10_unit_0 8 rfl rfl)
theorem dX10_unit_9 : decode cX10_unit 9 = .ok (.iconst 0, 1) := dk_3 (dk_at dksX10_unit_0 9 rfl rfl)
theorem dX10_unit_10 : decode cX10_unit 10 = .ok (.aload_n 0, 1) := dk_42 (dk_at dksX10_unit_0 10 rfl rfl)
theorem dX10_unit_11 : decode cX10_unit 11 = .ok (.getfield 27, 3) := dk_180 0 27 (dk_at dksX10_unit_0 11 rfl rfl)
theorem dX10_unit_14 : decode cX10_unit 14 = .ok (.aload_n 0, 1) := dk_42 (dk_at dksX10_unit_0 14 rfl rfl)
theorem dX10_unit_15 : decode cX10_unit 15 = .ok (.getfield 218, 3) := dk_180 0 218 (dk_at dksX10_unit_0 15 rfl rfl)
theorem dX10_unit_18 : decode cX10_unit 18 = .ok (.iaload, 1) := dk_46 (dk_at dksX10_unit_0 18 rfl rfl)
theorem dX10_unit_19 : decode cX10_unit 19 = .ok (.invokevirtual 308, 3) := dk_182 1 52 (dk_at dksX10_unit_0 19 rfl rfl)
theorem dX10_unit_22 : decode cX10_unit 22 = .ok (.aload_n 0, 1) := dk_42 (dk_at dksX10_unit_0 22 rfl rfl)
theorem dX10_unit_23 : decode cX10_unit 23 = .ok (.invokevirtual 236, 3) := dk_182 0 236 (dk_at dksX10_unit_1 0 rfl rfl)
theorem dX10_unit_26 : decode cX10_unit 26 = .ok (.goto 67, 3) := dk_167 0 67 (dk_at dksX10_unit_1 3 rfl rfl)
theorem dX10_unit_29 : decode cX10_unit 29 = .ok (.aload_n 0, 1) := dk_42 (dk_at dksX10_unit_1 6 rfl rfl)
theorem dX10_unit_30 : decode cX10_unit 30 = .ok (.getfield 215, 3) := dk_180 0 215 (dk_at dksX10_unit_1 7 rfl rfl)
theorem dX10_unit_33 : decode cX10_unit 33 = .ok (.ifCond .ne 55, 3) := dk_154 0 55 (dk_at dksX10_unit_1 10 rfl rfl)
theorem dX10_unit_36 : decode cX10_unit 36 = .ok (.aload_n 0, 1) := dk_42 (dk_at dksX10_unit_1 13 rfl rfl)
theorem dX10_unit_37 : decode cX10_unit 37 = .ok (.getfield 20, 3) := dk_180 0 20 (dk_at dksX10_unit_1 14 rfl rfl)
theorem dX10_unit_40 : decode cX10_unit 40 = .ok (.aload_n 0, 1) := dk_42 (dk_at dksX10_unit_1 17 rfl rfl)
theorem dX10_unit_41 : decode cX10_unit 41 = .ok (.getfield 218, 3) := dk_180 0 218 (dk_at dksX10_unit_1 18 rfl rfl)
theorem dX10_unit_44 : decode cX10_unit 44 = .ok (.iaload, 1) := dk_46 (dk_at dksX10_unit_1 21 rfl rfl)
theorem dX10_unit_45 : decode cX10_unit 45 = .ok (.bipush 33, 2) := dk_16 33 (dk_at dksX10_unit_1 22 rfl rfl)
theorem dX10_unit_47 : decode cX10_unit 47 = .ok (.if_icmp .lt 41, 3) := dk_161 0 41 (dk_at dksX10_unit_2 0 rfl rfl)
theorem dX10_unit_50 : decode cX10_unit 50 = .ok (.aload_n 0, 1) := dk_42 (dk_at dksX10_unit_2 3 rfl rfl)
theorem dX10_unit_51 : decode cX10_unit 51 = .ok (.getfield 20, 3) := dk_180 0 20 (dk_at dksX10_unit_2 4 rfl rfl)
theorem dX10_unit_54 : decode cX10_unit 54 = .ok (.aload_n 0, 1) := dk_42 (dk_at dksX10_unit_2 7 rfl rfl)
theorem dX10_unit_55 : decode cX10_unit 55 = .ok (.getfield 218, 3) := dk_180 0 218 (dk_at dksX10_unit_2 8 rfl rfl)
theorem dX10_unit_58 : decode cX10_unit 58 = .ok (.iaload, 1) := dk_46 (dk_at dksX10_unit_2 11 rfl rfl)
theorem dX10_unit_59 : decode cX10_unit 59 = .ok (.bipush 41, 2) := dk_16 41 (dk_at dksX10_unit_2 12 rfl rfl)
theorem dX10_unit_61 : decode cX10_unit 61 = .ok (.if_icmp .gt 27, 3) := dk_163 0 27 (dk_at dksX10_unit_2 14 rfl rfl)
theorem dX10_unit_64 : decode cX10_unit 64 = .ok (.aload_n 0, 1) := dk_42 (dk_at dksX10_unit_2 17 rfl rfl)
theorem dX10_unit_65 : decode cX10_unit 65 = .ok (.iconst 1, 1) := dk_4 (dk_at dksX10_unit_2 18 rfl rfl)
theorem dX10_unit_66 : decode cX10_unit 66 = .ok (.aload_n 0, 1) := dk_42 (dk_at dksX10_unit_2 19 rfl rfl)
theorem dX10_unit_67 : decode cX10_unit 67 = .ok (.getfield 20, 3) := dk_180 0 20 (dk_at dksX10_unit_2 20 rfl rfl)
theorem dX10_unit_70 : decode cX10_unit 70 = .ok (.aload_n 0, 1) := dk_42 (dk_at dksX10_unit_2 23 rfl rfl)
theorem dX10_unit_71 : decode cX10_unit 71 = .ok (.getfield 218, 3) := dk_180 0 218 (dk_at dksX10_unit_3 0 rfl rfl)
theorem dX10_unit_74 : decode cX10_unit 74 = .ok (.iaload, 1) := dk_46 (dk_at dksX10_unit_3 3 rfl rfl)
theorem dX10_unit_75 : decode cX10_unit 75 = .ok (.bipush 33, 2) := dk_16 33 (dk_at dksX10_unit_3 4 rfl rfl)
theorem dX10_unit_77 : decode cX10_unit 77 = .ok (.isub, 1) := dk_100 (dk_at dksX10_unit_3 6 rfl rfl)
theorem dX10_unit_78 : decode cX10_unit 78 = .ok (.invokevirtual 308, 3) := dk_182 1 52 (dk_at dksX10_unit_3 7 rfl rfl)
theorem dX10_unit_81 : decode cX10_unit 81 = .ok (.aload_n 0, 1) := dk_42 (dk_at dksX10_unit_3 10 rfl rfl)
theorem dX10_unit_82 : decode cX10_unit 82 = .ok (.invokevirtual 236, 3) := dk_182 0 236 (dk_at dksX10_unit_3 11 rfl rfl)
theorem dX10_unit_85 : decode cX10_unit 85 = .ok (.goto 8, 3) := dk_167 0 8 (dk_at dksX10_unit_3 14 rfl rfl)
theorem dX10_unit_88 : decode cX10_unit 88 = .ok (.aload_n 0, 1) := dk_42 (dk_at dksX10_unit_3 17 rfl rfl)
theorem dX10_unit_89 : decode cX10_unit 89 = .ok (.iconst 1, 1) := dk_4 (dk_at dksX10_unit_3 18 rfl rfl)
theorem dX10_unit_90 : decode cX10_unit 90 = .ok (.invokevirtual 230, 3) := dk_182 0 230 (dk_at dksX10_unit_3 19 rfl rfl)
theorem dX10_unit_93 : decode cX10_unit 93 = .ok (.return_, 1) := dk_177 (dk_at dksX10_unit_3 22 rfl rfl)
def dkwX10_emit_1 : List UInt8 := [180, 1, 1, 4, 96, 181, 1, 1, 177]
abbrev dktX10_emit_1 : List UInt8 := dkwX10_emit_1 ++ []
def dkwX10_emit_0 : List UInt8 := [42, 180, 0, 92, 42, 180, 1, 1, 27, 79, 42, 180, 0, 95, 42, 180, 1, 1, 28, 79, 42, 89]
abbrev dktX10_emit_0 : List UInt8 := dkwX10_emit_0 ++ dktX10_emit_1
theorem dksX10_emit_0 : cX10_emit.data.toList.drop 0 = dktX10_emit_0 := by decide +kernel
theorem dksX10_emit_1 : cX10_emit.data.toList.drop 22 = dktX10_emit_1 := dk_seg dksX10_emit_0 22 rfl rfl
theorem dX10_emit_0 : decode cX10_emit 0 = .ok (.aload_n 0, 1) := dk_42 (dk_at dksX10_emit_0 0 rfl rfl)
theorem dX10_emit_1 : decode cX10_emit 1 = .ok (.getfield 92, 3) := dk_180 0 92 (dk_at dksX10_emit_0 1 rfl rfl)
theorem dX10_emit_4 : decode cX10_emit 4 = .ok (.aload_n 0, 1) := dk_42 (dk_at dksX10_emit_0 4 rfl rfl)
theorem dX10_emit_5 : decode cX10_emit 5 = .ok (.getfield 257, 3) := dk_180 1 1 (dk_at dksX10_emit_0 5 rfl rfl)
theorem dX10_emit_8 : decode cX10_emit 8 = .ok (.iload_n 1, 1) := dk_27 (dk_at dksX10_emit_0 8 rfl rfl)
theorem dX10_emit_9 : decode cX10_emit 9 = .ok (.iastore, 1) := dk_79 (dk_at dksX10_emit_0 9 rfl rfl)
theorem dX10_emit_10 : decode cX10_emit 10 = .ok (.aload_n 0, 1) := dk_42 (dk_at dksX10_emit_0 10 rfl rfl)
theorem dX10_emit_11 : decode cX10_emit 11 = .ok (.getfield 95, 3) := dk_180 0 95 (dk_at dksX10_emit_0 11 rfl rfl)
theorem dX10_emit_14 : decode cX10_emit 14 = .ok (.aload_n 0, 1) := dk_42 (dk_at dksX10_emit_0 14 rfl rfl)
theorem dX10_emit_15 : decode cX10_emit 15 = .ok (.getfield 257, 3) := dk_180 1 1 (dk_at dksX10_emit_0 15 rfl rfl)
theorem dX10_emit_18 : decode cX10_emit 18 = .ok (.iload_n 2, 1) := dk_28 (dk_at dksX10_emit_0 18 rfl rfl)
theorem dX10_emit_19 : decode cX10_emit 19 = .ok (.iastore, 1) := dk_79 (dk_at dksX10_emit_0 19 rfl rfl)
theorem dX10_emit_20 : decode cX10_emit 20 = .ok (.aload_n 0, 1) := dk_42 (dk_at dksX10_emit_0 20 rfl rfl)
theorem dX10_emit_21 : decode cX10_emit 21 = .ok (.dup, 1) := dk_89 (dk_at dksX10_emit_0 21 rfl rfl)
theorem dX10_emit_22 : decode cX10_emit 22 = .ok (.getfield 257, 3) := dk_180 1 1 (dk_at dksX10_emit_1 0 rfl rfl)
theorem dX10_emit_25 : decode cX10_emit 25 = .ok (.iconst 1, 1) := dk_4 (dk_at dksX10_emit_1 3 rfl rfl)
theorem dX10_emit_26 : decode cX10_emit 26 = .ok (.iadd, 1) := dk_96 (dk_at dksX10_emit_1 4 rfl rfl)
theorem dX10_emit_27 : decode cX10_emit 27 = .ok (.putfield 257, 3) := dk_181 1 1 (dk_at dksX10_emit_1 5 rfl rfl)
theorem dX10_emit_30 : decode cX10_emit 30 = .ok (.return_, 1) := dk_177 (dk_at dksX10_emit_1 8 rfl rfl)
def dkwX10_comesOut_4 : List UInt8 := [167, 255, 168, 177]
abbrev dktX10_comesOut_4 : List UInt8 := dkwX10_comesOut_4 ++ []
def dkwX10_comesOut_3 : List UInt8 := [160, 0, 7, 6, 167, 0, 14, 28, 16, 10, 160, 0, 7, 7, 167, 0, 4, 8, 3, 182, 1, 52]
abbrev dktX10_comesOut_3 : List UInt8 := dkwX10_comesOut_3 ++ dktX10_comesOut_4
def dkwX10_comesOut_2 : List UInt8 := [180, 1, 49, 4, 100, 181, 1, 49, 42, 28, 16, 8, 160, 0, 7, 5, 167, 0, 24, 28, 16, 9]
abbrev dktX10_comesOut_2 : List UInt8 := dkwX10_comesOut_2 ++ dktX10_comesOut_3
def dkwX10_comesOut_1 : List UInt8 := [159, 0, 19, 27, 153, 0, 16, 28, 16, 8, 159, 0, 9, 28, 16, 9, 160, 0, 4, 177, 42, 89]
abbrev dktX10_comesOut_1 : List UInt8 := dkwX10_comesOut_1 ++ dktX10_comesOut_2
def dkwX10_comesOut_0 : List UInt8 := [42, 180, 1, 49, 158, 0, 87, 42, 180, 0, 98, 42, 180, 1, 49, 4, 100, 46, 61, 28, 16, 6]
abbrev dktX10_comesOut_0 : List UInt8 := dkwX10_comesOut_0 ++ dktX10_comesOut_1
theorem dksX10_comesOut_0 : cX10_comesOut.data.toList.drop 0 = dktX10_comesOut_0 := by decide +kernel
theorem dksX10_comesOut_1 : cX10_comesOut.data.toList.drop 22 = dktX10_comesOut_1 := dk_seg dksX10_comesOut_0 22 rfl rfl
theorem dksX10_comesOut_2 : cX10_comesOut.data.toList.drop 44 = dktX10_comesOut_2 := dk_seg dksX10_comesOut_1 22 rfl rfl
theorem dksX10_comesOut_3 : cX10_comesOut.data.toList.drop 66 = dktX10_comesOut_3 := dk_seg dksX10_comesOut_2 22 rfl rfl
theorem dksX10_comesOut_4 : cX10_comesOut.data.toList.drop 88 = dktX10_comesOut_4 := dk_seg dksX10_comesOut_3 22 rfl rfl
theorem dX10_comesOut_0 : decode cX10_comesOut 0 = .ok (.aload_n 0, 1) := dk_42 (dk_at dksX10_comesOut_0 0 rfl rfl)
theorem dX10_comesOut_1 : decode cX10_comesOut 1 = .ok (.getfield 305, 3) := dk_180 1 49 (dk_at dksX10_comesOut_0 1 rfl rfl)
theorem dX10_comesOut_4 : decode cX10_comesOut 4 = .ok (.ifCond .le 87, 3) := dk_158 0 87 (dk_at dksX10_comesOut_0 4 rfl rfl)
theorem dX10_comesOut_7 : decode cX10_comesOut 7 = .ok (.aload_n 0, 1) := dk_42 (dk_at dksX10_comesOut_0 7 rfl rfl)
theorem dX10_comesOut_8 : decode cX10_comesOut 8 = .ok (.getfield 98, 3) := dk_180 0 98 (dk_at dksX10_comesOut_0 8 rfl rfl)
theorem dX10_comesOut_11 : decode cX10_comesOut 11 = .ok (.aload_n 0, 1) := dk_42 (dk_at dksX10_comesOut_0 11 rfl rfl)
theorem dX10_comesOut_12 : decode cX10_comesOut 12 = .ok (.getfield 305, 3) := dk_180 1 49 (dk_at dksX10_comesOut_0 12 rfl rfl)
theorem dX10_comesOut_15 : decode cX10_comesOut 15 = .ok (.iconst 1, 1) := dk_4 (dk_at dksX10_comesOut_0 15 rfl rfl)
theorem dX10_comesOut_16 : decode cX10_comesOut 16 = .ok (.isub, 1) := dk_100 (dk_at dksX10_comesOut_0 16 rfl rfl)
theorem dX10_comesOut_17 : decode cX10_comesOut 17 = .ok (.iaload, 1) := dk_46 (dk_at dksX10_comesOut_0 17 rfl rfl)
theorem dX10_comesOut_18 : decode cX10_comesOut 18 = .ok (.istore_n 2, 1) := dk_61 (dk_at dksX10_comesOut_0 18 rfl rfl)
theorem dX10_comesOut_19 : decode cX10_comesOut 19 = .ok (.iload_n 2, 1) := dk_28 (dk_at dksX10_comesOut_0 19 rfl rfl)
theorem dX10_comesOut_20 : decode cX10_comesOut 20 = .ok (.bipush 6, 2) := dk_16 6 (dk_at dksX10_comesOut_0 20 rfl rfl)
theorem dX10_comesOut_22 : decode cX10_comesOut 22 = .ok (.if_icmp .eq 19, 3) := dk_159 0 19 (dk_at dksX10_comesOut_1 0 rfl rfl)
theorem dX10_comesOut_25 : decode cX10_comesOut 25 = .ok (.iload_n 1, 1) := dk_27 (dk_at dksX10_comesOut_1 3 rfl rfl)
theorem dX10_comesOut_26 : decode cX10_comesOut 26 = .ok (.ifCond .eq 16, 3) := dk_153 0 16 (dk_at dksX10_comesOut_1 4 rfl rfl)
theorem dX10_comesOut_29 : decode cX10_comesOut 29 = .ok (.iload_n 2, 1) := dk_28 (dk_at dksX10_comesOut_1 7 rfl rfl)
theorem dX10_comesOut_30 : decode cX10_comesOut 30 = .ok (.bipush 8, 2) := dk_16 8 (dk_at dksX10_comesOut_1 8 rfl rfl)
theorem dX10_comesOut_32 : decode cX10_comesOut 32 = .ok (.if_icmp .eq 9, 3) := dk_159 0 9 (dk_at dksX10_comesOut_1 10 rfl rfl)
theorem dX10_comesOut_35 : decode cX10_comesOut 35 = .ok (.iload_n 2, 1) := dk_28 (dk_at dksX10_comesOut_1 13 rfl rfl)
theorem dX10_comesOut_36 : decode cX10_comesOut 36 = .ok (.bipush 9, 2) := dk_16 9 (dk_at dksX10_comesOut_1 14 rfl rfl)
theorem dX10_comesOut_38 : decode cX10_comesOut 38 = .ok (.if_icmp .ne 4, 3) := dk_160 0 4 (dk_at dksX10_comesOut_1 16 rfl rfl)
theorem dX10_comesOut_41 : decode cX10_comesOut 41 = .ok (.return_, 1) := dk_177 (dk_at dksX10_comesOut_1 19 rfl rfl)
theorem dX10_comesOut_42 : decode cX10_comesOut 42 = .ok (.aload_n 0, 1) := dk_42 (dk_at dksX10_comesOut_1 20 rfl rfl)
theorem dX10_comesOut_43 : decode cX10_comesOut 43 = .ok (.dup, 1) := dk_89 (dk_at dksX10_comesOut_1 21 rfl rfl)
theorem dX10_comesOut_44 : decode cX10_comesOut 44 = .ok (.getfield 305, 3) := dk_180 1 49 (dk_at dksX10_comesOut_2 0 rfl rfl)
theorem dX10_comesOut_47 : decode cX10_comesOut 47 = .ok (.iconst 1, 1) := dk_4 (dk_at dksX10_comesOut_2 3 rfl rfl)
theorem dX10_comesOut_48 : decode cX10_comesOut 48 = .ok (.isub, 1) := dk_100 (dk_at dksX10_comesOut_2 4 rfl rfl)
theorem dX10_comesOut_49 : decode cX10_comesOut 49 = .ok (.putfield 305, 3) := dk_181 1 49 (dk_at dksX10_comesOut_2 5 rfl rfl)
theorem dX10_comesOut_52 : decode cX10_comesOut 52 = .ok (.aload_n 0, 1) := dk_42 (dk_at dksX10_comesOut_2 8 rfl rfl)
theorem dX10_comesOut_53 : decode cX10_comesOut 53 = .ok (.iload_n 2, 1) := dk_28 (dk_at dksX10_comesOut_2 9 rfl rfl)
theorem dX10_comesOut_54 : decode cX10_comesOut 54 = .ok (.bipush 8, 2) := dk_16 8 (dk_at dksX10_comesOut_2 10 rfl rfl)
theorem dX10_comesOut_56 : decode cX10_comesOut 56 = .ok (.if_icmp .ne 7, 3) := dk_160 0 7 (dk_at dksX10_comesOut_2 12 rfl rfl)
theorem dX10_comesOut_59 : decode cX10_comesOut 59 = .ok (.iconst 2, 1) := dk_5 (dk_at dksX10_comesOut_2 15 rfl rfl)
theorem dX10_comesOut_60 : decode cX10_comesOut 60 = .ok (.goto 24, 3) := dk_167 0 24 (dk_at dksX10_comesOut_2 16 rfl rfl)
theorem dX10_comesOut_63 : decode cX10_comesOut 63 = .ok (.iload_n 2, 1) := dk_28 (dk_at dksX10_comesOut_2 19 rfl rfl)
theorem dX10_comesOut_64 : decode cX10_comesOut 64 = .ok (.bipush 9, 2) := dk_16 9 (dk_at dksX10_comesOut_2 20 rfl rfl)
theorem dX10_comesOut_66 : decode cX10_comesOut 66 = .ok (.if_icmp .ne 7, 3) := dk_160 0 7 (dk_at dksX10_comesOut_3 0 rfl rfl)
theorem dX10_comesOut_69 : decode cX10_comesOut 69 = .ok (.iconst 3, 1) := dk_6 (dk_at dksX10_comesOut_3 3 rfl rfl)
theorem dX10_comesOut_70 : decode cX10_comesOut 70 = .ok (.goto 14, 3) := dk_167 0 14 (dk_at dksX10_comesOut_3 4 rfl rfl)
theorem dX10_comesOut_73 : decode cX10_comesOut 73 = .ok (.iload_n 2, 1) := dk_28 (dk_at dksX10_comesOut_3 7 rfl rfl)
theorem dX10_comesOut_74 : decode cX10_comesOut 74 = .ok (.bipush 10, 2) := dk_16 10 (dk_at dksX10_comesOut_3 8 rfl rfl)
theorem dX10_comesOut_76 : decode cX10_comesOut 76 = .ok (.if_icmp .ne 7, 3) := dk_160 0 7 (dk_at dksX10_comesOut_3 10 rfl rfl)
theorem dX10_comesOut_79 : decode cX10_comesOut 79 = .ok (.iconst 4, 1) := dk_7 (dk_at dksX10_comesOut_3 13 rfl rfl)
theorem dX10_comesOut_80 : decode cX10_comesOut 80 = .ok (.goto 4, 3) := dk_167 0 4 (dk_at dksX10_comesOut_3 14 rfl rfl)
theorem dX10_comesOut_83 : decode cX10_comesOut 83 = .ok (.iconst 5, 1) := dk_8 (dk_at dksX10_comesOut_3 17 rfl rfl)
theorem dX10_comesOut_84 : decode cX10_comesOut 84 = .ok (.iconst 0, 1) := dk_3 (dk_at dksX10_comesOut_3 18 rfl rfl)
theorem dX10_comesOut_85 : decode cX10_comesOut 85 = .ok (.invokevirtual 308, 3) := dk_182 1 52 (dk_at dksX10_comesOut_3 19 rfl rfl)
theorem dX10_comesOut_88 : decode cX10_comesOut 88 = .ok (.goto (-88), 3) := dk_167 255 168 (dk_at dksX10_comesOut_4 0 rfl rfl)
theorem dX10_comesOut_91 : decode cX10_comesOut 91 = .ok (.return_, 1) := dk_177 (dk_at dksX10_comesOut_4 3 rfl rfl)
def dkwX10_term_1 : List UInt8 := [42, 180, 0, 89, 42, 180, 0, 254, 42, 180, 1, 1, 79, 42, 89, 180, 0, 254, 4, 96, 181, 0, 254, 177]
abbrev dktX10_term_1 : List UInt8 := dkwX10_term_1 ++ []
def dkwX10_term_0 : List UInt8 := [42, 180, 0, 86, 42, 180, 0, 254, 42, 180, 1, 1, 79, 42, 180, 0, 215, 154, 0, 7, 42, 182, 1, 43]
abbrev dktX10_term_0 : List UInt8 := dkwX10_term_0 ++ dktX10_term_1
theorem dksX10_term_0 : cX10_term.data.toList.drop 0 = dktX10_term_0 := by decide +kernel
theorem dksX10_term_1 : cX10_term.data.toList.drop 24 = dktX10_term_1 := dk_seg dksX10_term_0 24 rfl rfl
theorem dX10_term_0 : decode cX10_term 0 = .ok (.aload_n 0, 1) := dk_42 (dk_at dksX10_term_0 0 rfl rfl)
theorem dX10_term_1 : decode cX10_term 1 = .ok (.getfield 86, 3) := dk_180 0 86 (dk_at dksX10_term_0 1 rfl rfl)
theorem dX10_term_4 : decode cX10_term 4 = .ok (.aload_n 0, 1) := dk_42 (dk_at dksX10_term_0 4 rfl rfl)
theorem dX10_term_5 : decode cX10_term 5 = .ok (.getfield 254, 3) := dk_180 0 254 (dk_at dksX10_term_0 5 rfl rfl)
theorem dX10_term_8 : decode cX10_term 8 = .ok (.aload_n 0, 1) := dk_42 (dk_at dksX10_term_0 8 rfl rfl)
theorem dX10_term_9 : decode cX10_term 9 = .ok (.getfield 257, 3) := dk_180 1 1 (dk_at dksX10_term_0 9 rfl rfl)
theorem dX10_term_12 : decode cX10_term 12 = .ok (.iastore, 1) := dk_79 (dk_at dksX10_term_0 12 rfl rfl)
theorem dX10_term_13 : decode cX10_term 13 = .ok (.aload_n 0, 1) := dk_42 (dk_at dksX10_term_0 13 rfl rfl)
theorem dX10_term_14 : decode cX10_term 14 = .ok (.getfield 215, 3) := dk_180 0 215 (dk_at dksX10_term_0 14 rfl rfl)
theorem dX10_term_17 : decode cX10_term 17 = .ok (.ifCond .ne 7, 3) := dk_154 0 7 (dk_at dksX10_term_0 17 rfl rfl)
theorem dX10_term_20 : decode cX10_term 20 = .ok (.aload_n 0, 1) := dk_42 (dk_at dksX10_term_0 20 rfl rfl)
theorem dX10_term_21 : decode cX10_term 21 = .ok (.invokevirtual 299, 3) := dk_182 1 43 (dk_at dksX10_term_0 21 rfl rfl)
theorem dX10_term_24 : decode cX10_term 24 = .ok (.aload_n 0, 1) := dk_42 (dk_at dksX10_term_1 0 rfl rfl)
theorem dX10_term_25 : decode cX10_term 25 = .ok (.getfield 89, 3) := dk_180 0 89 (dk_at dksX10_term_1 1 rfl rfl)
theorem dX10_term_28 : decode cX10_term 28 = .ok (.aload_n 0, 1) := dk_42 (dk_at dksX10_term_1 4 rfl rfl)
theorem dX10_term_29 : decode cX10_term 29 = .ok (.getfield 254, 3) := dk_180 0 254 (dk_at dksX10_term_1 5 rfl rfl)
theorem dX10_term_32 : decode cX10_term 32 = .ok (.aload_n 0, 1) := dk_42 (dk_at dksX10_term_1 8 rfl rfl)
theorem dX10_term_33 : decode cX10_term 33 = .ok (.getfield 257, 3) := dk_180 1 1 (dk_at dksX10_term_1 9 rfl rfl)
theorem dX10_term_36 : decode cX10_term 36 = .ok (.iastore, 1) := dk_79 (dk_at dksX10_term_1 12 rfl rfl)
theorem dX10_term_37 : decode cX10_term 37 = .ok (.aload_n 0, 1) := dk_42 (dk_at dksX10_term_1 13 rfl rfl)
theorem dX10_term_38 : decode cX10_term 38 = .ok (.dup, 1) := dk_89 (dk_at dksX10_term_1 14 rfl rfl)
theorem dX10_term_39 : decode cX10_term 39 = .ok (.getfield 254, 3) := dk_180 0 254 (dk_at dksX10_term_1 15 rfl rfl)
theorem dX10_term_42 : decode cX10_term 42 = .ok (.iconst 1, 1) := dk_4 (dk_at dksX10_term_1 18 rfl rfl)
theorem dX10_term_43 : decode cX10_term 43 = .ok (.iadd, 1) := dk_96 (dk_at dksX10_term_1 19 rfl rfl)
theorem dX10_term_44 : decode cX10_term 44 = .ok (.putfield 254, 3) := dk_181 0 254 (dk_at dksX10_term_1 20 rfl rfl)
theorem dX10_term_47 : decode cX10_term 47 = .ok (.return_, 1) := dk_177 (dk_at dksX10_term_1 23 rfl rfl)
theorem dX10_place_0 : decode cX10_place 0 = .ok (.aload_n 0, 1) := by decide +kernel
theorem dX10_place_1 : decode cX10_place 1 = .ok (.getfield 37, 3) := by decide +kernel
theorem dX10_place_4 : decode cX10_place 4 = .ok (.ireturn, 1) := by decide +kernel
def dkwX10_house_5 : List UInt8 := [42, 180, 0, 110, 16, 18, 27, 96, 46, 172, 2, 172]
abbrev dktX10_house_5 : List UInt8 := dkwX10_house_5 ++ []
def dkwX10_house_4 : List UInt8 := [16, 12, 27, 96, 46, 172, 42, 27, 182, 1, 125, 172, 42, 27, 182, 1, 128, 172, 42, 27, 182, 1, 140, 172]
abbrev dktX10_house_4 : List UInt8 := dkwX10_house_4 ++ dktX10_house_5
def dkwX10_house_3 : List UInt8 := [182, 1, 95, 167, 0, 5, 16, 254, 172, 42, 180, 0, 110, 16, 6, 27, 96, 46, 172, 42, 180, 0, 110]
abbrev dktX10_house_3 : List UInt8 := dkwX10_house_3 ++ dktX10_house_4
def dkwX10_house_2 : List UInt8 := [42, 180, 0, 110, 27, 46, 172, 42, 27, 182, 1, 86, 172, 42, 27, 182, 1, 83, 153, 0, 11, 42, 27]
abbrev dktX10_house_2 : List UInt8 := dkwX10_house_2 ++ dktX10_house_3
def dkwX10_house_1 : List UInt8 := [170, 0, 0, 0, 129, 0, 0, 0, 0, 0, 0, 0, 8, 0, 0, 0, 49, 0, 0, 0, 56, 0, 0, 0, 62, 0, 0, 0, 81, 0, 0, 0, 91, 0, 0, 0, 101, 0, 0, 0, 107, 0, 0, 0, 113, 0, 0, 0, 119]
abbrev dktX10_house_1 : List UInt8 := dkwX10_house_1 ++ dktX10_house_2
def dkwX10_house_0 : List UInt8 := [42, 27, 182, 1, 137, 154, 0, 5, 2, 172, 42, 182, 1, 76, 28]
abbrev dktX10_house_0 : List UInt8 := dkwX10_house_0 ++ dktX10_house_1
theorem dksX10_house_0 : cX10_house.data.toList.drop 0 = dktX10_house_0 := by decide +kernel
theorem dksX10_house_1 : cX10_house.data.toList.drop 15 = dktX10_house_1 := dk_seg dksX10_house_0 15 rfl rfl
theorem dksX10_house_2 : cX10_house.data.toList.drop 64 = dktX10_house_2 := dk_seg dksX10_house_1 49 rfl rfl
theorem dksX10_house_3 : cX10_house.data.toList.drop 87 = dktX10_house_3 := dk_seg dksX10_house_2 23 rfl rfl
theorem dksX10_house_4 : cX10_house.data.toList.drop 110 = dktX10_house_4 := dk_seg dksX10_house_3 23 rfl rfl
theorem dksX10_house_5 : cX10_house.data.toList.drop 134 = dktX10_house_5 := dk_seg dksX10_house_4 24 rfl rfl
theorem dX10_house_0 : decode cX10_house 0 = .ok (.aload_n 0, 1) := dk_42 (dk_at dksX10_house_0 0 rfl rfl)
theorem dX10_house_1 : decode cX10_house 1 = .ok (.iload_n 1, 1) := dk_27 (dk_at dksX10_house_0 1 rfl rfl)
theorem dX10_house_2 : decode cX10_house 2 = .ok (.invokevirtual 393, 3) := dk_182 1 137 (dk_at dksX10_house_0 2 rfl rfl)
theorem dX10_house_5 : decode cX10_house 5 = .ok (.ifCond .ne 5, 3) := dk_154 0 5 (dk_at dksX10_house_0 5 rfl rfl)
theorem dX10_house_8 : decode cX10_house 8 = .ok (.iconst (-1), 1) := dk_2 (dk_at dksX10_house_0 8 rfl rfl)
theorem dX10_house_9 : decode cX10_house 9 = .ok (.ireturn, 1) := dk_172 (dk_at dksX10_house_0 9 rfl rfl)
theorem dX10_house_10 : decode cX10_house 10 = .ok (.aload_n 0, 1) := dk_42 (dk_at dksX10_house_0 10 rfl rfl)
theorem dX10_house_11 : decode cX10_house 11 = .ok (.invokevirtual 332, 3) := dk_182 1 76 (dk_at dksX10_house_0 11 rfl rfl)
theorem dX10_house_14 : decode cX10_house 14 = .ok (.iload_n 2, 1) := dk_28 (dk_at dksX10_house_0 14 rfl rfl)
theorem dX10_house_15 : decode cX10_house 15 = .ok (.tableswitch 129 0 8 #[49, 56, 62, 81, 91, 101, 107, 113, 119], 49) := by decide +kernel
theorem dX10_house_64 : decode cX10_house 64 = .ok (.aload_n 0, 1) := dk_42 (dk_at dksX10_house_2 0 rfl rfl)
theorem dX10_house_65 : decode cX10_house 65 = .ok (.getfield 110, 3) := dk_180 0 110 (dk_at dksX10_house_2 1 rfl rfl)
theorem dX10_house_68 : decode cX10_house 68 = .ok (.iload_n 1, 1) := dk_27 (dk_at dksX10_house_2 4 rfl rfl)
theorem dX10_house_69 : decode cX10_house 69 = .ok (.iaload, 1) := dk_46 (dk_at dksX10_house_2 5 rfl rfl)
theorem dX10_house_70 : decode cX10_house 70 = .ok (.ireturn, 1) := dk_172 (dk_at dksX10_house_2 6 rfl rfl)
theorem dX10_house_71 : decode cX10_house 71 = .ok (.aload_n 0, 1) := dk_42 (dk_at dksX10_house_2 7 rfl rfl)
theorem dX10_house_72 : decode cX10_house 72 = .ok (.iload_n 1, 1) := dk_27 (dk_at dksX10_house_2 8 rfl rfl)
theorem dX10_house_73 : decode cX10_house 73 = .ok (.invokevirtual 342, 3) := dk_182 1 86 (dk_at dksX10_house_2 9 rfl rfl)
theorem dX10_house_76 : decode cX10_house 76 = .ok (.ireturn, 1) := dk_172 (dk_at dksX10_house_2 12 rfl rfl)
theorem dX10_house_77 : decode cX10_house 77 = .ok (.aload_n 0, 1) := dk_42 (dk_at dksX10_house_2 13 rfl rfl)
theorem dX10_house_78 : decode cX10_house 78 = .ok (.iload_n 1, 1) := dk_27 (dk_at dksX10_house_2 14 rfl rfl)
theorem dX10_house_79 : decode cX10_house 79 = .ok (.invokevirtual 339, 3) := dk_182 1 83 (dk_at dksX10_house_2 15 rfl rfl)
theorem dX10_house_82 : decode cX10_house 82 = .ok (.ifCond .eq 11, 3) := dk_153 0 11 (dk_at dksX10_house_2 18 rfl rfl)
theorem dX10_house_85 : decode cX10_house 85 = .ok (.aload_n 0, 1) := dk_42 (dk_at dksX10_house_2 21 rfl rfl)
theorem dX10_house_86 : decode cX10_house 86 = .ok (.iload_n 1, 1) := dk_27 (dk_at dksX10_house_2 22 rfl rfl)
theorem dX10_house_87 : decode cX10_house 87 = .ok (.invokevirtual 351, 3) := dk_182 1 95 (dk_at dksX10_house_3 0 rfl rfl)
theorem dX10_house_90 : decode cX10_house 90 = .ok (.goto 5, 3) := dk_167 0 5 (dk_at dksX10_house_3 3 rfl rfl)
theorem dX10_house_93 : decode cX10_house 93 = .ok (.bipush (-2), 2) := dk_16 254 (dk_at dksX10_house_3 6 rfl rfl)
theorem dX10_house_95 : decode cX10_house 95 = .ok (.ireturn, 1) := dk_172 (dk_at dksX10_house_3 8 rfl rfl)
theorem dX10_house_96 : decode cX10_house 96 = .ok (.aload_n 0, 1) := dk_42 (dk_at dksX10_house_3 9 rfl rfl)
theorem dX10_house_97 : decode cX10_house 97 = .ok (.getfield 110, 3) := dk_180 0 110 (dk_at dksX10_house_3 10 rfl rfl)
theorem dX10_house_100 : decode cX10_house 100 = .ok (.bipush 6, 2) := dk_16 6 (dk_at dksX10_house_3 13 rfl rfl)
theorem dX10_house_102 : decode cX10_house 102 = .ok (.iload_n 1, 1) := dk_27 (dk_at dksX10_house_3 15 rfl rfl)
theorem dX10_house_103 : decode cX10_house 103 = .ok (.iadd, 1) := dk_96 (dk_at dksX10_house_3 16 rfl rfl)
theorem dX10_house_104 : decode cX10_house 104 = .ok (.iaload, 1) := dk_46 (dk_at dksX10_house_3 17 rfl rfl)
theorem dX10_house_105 : decode cX10_house 105 = .ok (.ireturn, 1) := dk_172 (dk_at dksX10_house_3 18 rfl rfl)
theorem dX10_house_106 : decode cX10_house 106 = .ok (.aload_n 0, 1) := dk_42 (dk_at dksX10_house_3 19 rfl rfl)
theorem dX10_house_107 : decode cX10_house 107 = .ok (.getfield 110, 3) := dk_180 0 110 (dk_at dksX10_house_3 20 rfl rfl)
theorem dX10_house_110 : decode cX10_house 110 = .ok (.bipush 12, 2) := dk_16 12 (dk_at dksX10_house_4 0 rfl rfl)
theorem dX10_house_112 : decode cX10_house 112 = .ok (.iload_n 1, 1) := dk_27 (dk_at dksX10_house_4 2 rfl rfl)
theorem dX10_house_113 : decode cX10_house 113 = .ok (.iadd, 1) := dk_96 (dk_at dksX10_house_4 3 rfl rfl)
theorem dX10_house_114 : decode cX10_house 114 = .ok (.iaload, 1) := dk_46 (dk_at dksX10_house_4 4 rfl rfl)
theorem dX10_house_115 : decode cX10_house 115 = .ok (.ireturn, 1) := dk_172 (dk_at dksX10_house_4 5 rfl rfl)
theorem dX10_house_116 : decode cX10_house 116 = .ok (.aload_n 0, 1) := dk_42 (dk_at dksX10_house_4 6 rfl rfl)
theorem dX10_house_117 : decode cX10_house 117 = .ok (.iload_n 1, 1) := dk_27 (dk_at dksX10_house_4 7 rfl rfl)
theorem dX10_house_118 : decode cX10_house 118 = .ok (.invokevirtual 381, 3) := dk_182 1 125 (dk_at dksX10_house_4 8 rfl rfl)
theorem dX10_house_121 : decode cX10_house 121 = .ok (.ireturn, 1) := dk_172 (dk_at dksX10_house_4 11 rfl rfl)
theorem dX10_house_122 : decode cX10_house 122 = .ok (.aload_n 0, 1) := dk_42 (dk_at dksX10_house_4 12 rfl rfl)
theorem dX10_house_123 : decode cX10_house 123 = .ok (.iload_n 1, 1) := dk_27 (dk_at dksX10_house_4 13 rfl rfl)
theorem dX10_house_124 : decode cX10_house 124 = .ok (.invokevirtual 384, 3) := dk_182 1 128 (dk_at dksX10_house_4 14 rfl rfl)
theorem dX10_house_127 : decode cX10_house 127 = .ok (.ireturn, 1) := dk_172 (dk_at dksX10_house_4 17 rfl rfl)
theorem dX10_house_128 : decode cX10_house 128 = .ok (.aload_n 0, 1) := dk_42 (dk_at dksX10_house_4 18 rfl rfl)
theorem dX10_house_129 : decode cX10_house 129 = .ok (.iload_n 1, 1) := dk_27 (dk_at dksX10_house_4 19 rfl rfl)
theorem dX10_house_130 : decode cX10_house 130 = .ok (.invokevirtual 396, 3) := dk_182 1 140 (dk_at dksX10_house_4 20 rfl rfl)
theorem dX10_house_133 : decode cX10_house 133 = .ok (.ireturn, 1) := dk_172 (dk_at dksX10_house_4 23 rfl rfl)
theorem dX10_house_134 : decode cX10_house 134 = .ok (.aload_n 0, 1) := dk_42 (dk_at dksX10_house_5 0 rfl rfl)
theorem dX10_house_135 : decode cX10_house 135 = .ok (.getfield 110, 3) := dk_180 0 110 (dk_at dksX10_house_5 1 rfl rfl)
theorem dX10_house_138 : decode cX10_house 138 = .ok (.bipush 18, 2) := dk_16 18 (dk_at dksX10_house_5 4 rfl rfl)
theorem dX10_house_140 : decode cX10_house 140 = .ok (.iload_n 1, 1) := dk_27 (dk_at dksX10_house_5 6 rfl rfl)
theorem dX10_house_141 : decode cX10_house 141 = .ok (.iadd, 1) := dk_96 (dk_at dksX10_house_5 7 rfl rfl)
theorem dX10_house_142 : decode cX10_house 142 = .ok (.iaload, 1) := dk_46 (dk_at dksX10_house_5 8 rfl rfl)
theorem dX10_house_143 : decode cX10_house 143 = .ok (.ireturn, 1) := dk_172 (dk_at dksX10_house_5 9 rfl rfl)
theorem dX10_house_144 : decode cX10_house 144 = .ok (.iconst (-1), 1) := dk_2 (dk_at dksX10_house_5 10 rfl rfl)
theorem dX10_house_145 : decode cX10_house 145 = .ok (.ireturn, 1) := dk_172 (dk_at dksX10_house_5 11 rfl rfl)
def dkwX10_isHouse_0 : List UInt8 := [27, 3, 42, 180, 0, 43, 42, 180, 0, 245, 46, 4, 100, 184, 1, 66, 172]
abbrev dktX10_isHouse_0 : List UInt8 := dkwX10_isHouse_0 ++ []
theorem dksX10_isHouse_0 : cX10_isHouse.data.toList.drop 0 = dktX10_isHouse_0 := by decide +kernel
theorem dX10_isHouse_0 : decode cX10_isHouse 0 = .ok (.iload_n 1, 1) := dk_27 (dk_at dksX10_isHouse_0 0 rfl rfl)
theorem dX10_isHouse_1 : decode cX10_isHouse 1 = .ok (.iconst 0, 1) := dk_3 (dk_at dksX10_isHouse_0 1 rfl rfl)
theorem dX10_isHouse_2 : decode cX10_isHouse 2 = .ok (.aload_n 0, 1) := dk_42 (dk_at dksX10_isHouse_0 2 rfl rfl)
theorem dX10_isHouse_3 : decode cX10_isHouse 3 = .ok (.getfield 43, 3) := dk_180 0 43 (dk_at dksX10_isHouse_0 3 rfl rfl)
theorem dX10_isHouse_6 : decode cX10_isHouse 6 = .ok (.aload_n 0, 1) := dk_42 (dk_at dksX10_isHouse_0 6 rfl rfl)
theorem dX10_isHouse_7 : decode cX10_isHouse 7 = .ok (.getfield 245, 3) := dk_180 0 245 (dk_at dksX10_isHouse_0 7 rfl rfl)
theorem dX10_isHouse_10 : decode cX10_isHouse 10 = .ok (.iaload, 1) := dk_46 (dk_at dksX10_isHouse_0 10 rfl rfl)
theorem dX10_isHouse_11 : decode cX10_isHouse 11 = .ok (.iconst 1, 1) := dk_4 (dk_at dksX10_isHouse_0 11 rfl rfl)
theorem dX10_isHouse_12 : decode cX10_isHouse 12 = .ok (.isub, 1) := dk_100 (dk_at dksX10_isHouse_0 12 rfl rfl)
theorem dX10_isHouse_13 : decode cX10_isHouse 13 = .ok (.invokestatic 322, 3) := dk_184 1 66 (dk_at dksX10_isHouse_0 13 rfl rfl)
theorem dX10_isHouse_16 : decode cX10_isHouse 16 = .ok (.ireturn, 1) := dk_172 (dk_at dksX10_isHouse_0 16 rfl rfl)
def dkwX10_in_0 : List UInt8 := [26, 27, 161, 0, 12, 26, 28, 163, 0, 7, 4, 167, 0, 4, 3, 172]
abbrev dktX10_in_0 : List UInt8 := dkwX10_in_0 ++ []
theorem dksX10_in_0 : cX10_in.data.toList.drop 0 = dktX10_in_0 := by decide +kernel
theorem dX10_in_0 : decode cX10_in 0 = .ok (.iload_n 0, 1) := dk_26 (dk_at dksX10_in_0 0 rfl rfl)
theorem dX10_in_1 : decode cX10_in 1 = .ok (.iload_n 1, 1) := dk_27 (dk_at dksX10_in_0 1 rfl rfl)
theorem dX10_in_2 : decode cX10_in 2 = .ok (.if_icmp .lt 12, 3) := dk_161 0 12 (dk_at dksX10_in_0 2 rfl rfl)
theorem dX10_in_5 : decode cX10_in 5 = .ok (.iload_n 0, 1) := dk_26 (dk_at dksX10_in_0 5 rfl rfl)
theorem dX10_in_6 : decode cX10_in 6 = .ok (.iload_n 2, 1) := dk_28 (dk_at dksX10_in_0 6 rfl rfl)
theorem dX10_in_7 : decode cX10_in 7 = .ok (.if_icmp .gt 7, 3) := dk_163 0 7 (dk_at dksX10_in_0 7 rfl rfl)
theorem dX10_in_10 : decode cX10_in 10 = .ok (.iconst 1, 1) := dk_4 (dk_at dksX10_in_0 10 rfl rfl)
theorem dX10_in_11 : decode cX10_in 11 = .ok (.goto 4, 3) := dk_167 0 4 (dk_at dksX10_in_0 11 rfl rfl)
theorem dX10_in_14 : decode cX10_in 14 = .ok (.iconst 0, 1) := dk_3 (dk_at dksX10_in_0 14 rfl rfl)
theorem dX10_in_15 : decode cX10_in 15 = .ok (.ireturn, 1) := dk_172 (dk_at dksX10_in_0 15 rfl rfl)
def dkwX10_copies_1 : List UInt8 := [167, 255, 235, 42, 42, 180, 0, 67, 42, 180, 0, 245, 46, 181, 1, 70, 42, 3, 181, 1, 73, 177]
abbrev dktX10_copies_1 : List UInt8 := dkwX10_copies_1 ++ []
def dkwX10_copies_0 : List UInt8 := [3, 60, 27, 16, 33, 162, 0, 21, 42, 180, 0, 110, 27, 42, 180, 0, 107, 27, 46, 79, 132, 1, 1]
abbrev dktX10_copies_0 : List UInt8 := dkwX10_copies_0 ++ dktX10_copies_1
theorem dksX10_copies_0 : cX10_copies.data.toList.drop 0 = dktX10_copies_0 := by decide +kernel
theorem dksX10_copies_1 : cX10_copies.data.toList.drop 23 = dktX10_copies_1 := dk_seg dksX10_copies_0 23 rfl rfl
theorem dX10_copies_0 : decode cX10_copies 0 = .ok (.iconst 0, 1) := dk_3 (dk_at dksX10_copies_0 0 rfl rfl)
theorem dX10_copies_1 : decode cX10_copies 1 = .ok (.istore_n 1, 1) := dk_60 (dk_at dksX10_copies_0 1 rfl rfl)
theorem dX10_copies_2 : decode cX10_copies 2 = .ok (.iload_n 1, 1) := dk_27 (dk_at dksX10_copies_0 2 rfl rfl)
theorem dX10_copies_3 : decode cX10_copies 3 = .ok (.bipush 33, 2) := dk_16 33 (dk_at dksX10_copies_0 3 rfl rfl)
theorem dX10_copies_5 : decode cX10_copies 5 = .ok (.if_icmp .ge 21, 3) := dk_162 0 21 (dk_at dksX10_copies_0 5 rfl rfl)
theorem dX10_copies_8 : decode cX10_copies 8 = .ok (.aload_n 0, 1) := dk_42 (dk_at dksX10_copies_0 8 rfl rfl)
theorem dX10_copies_9 : decode cX10_copies 9 = .ok (.getfield 110, 3) := dk_180 0 110 (dk_at dksX10_copies_0 9 rfl rfl)
theorem dX10_copies_12 : decode cX10_copies 12 = .ok (.iload_n 1, 1) := dk_27 (dk_at dksX10_copies_0 12 rfl rfl)
theorem dX10_copies_13 : decode cX10_copies 13 = .ok (.aload_n 0, 1) := dk_42 (dk_at dksX10_copies_0 13 rfl rfl)
theorem dX10_copies_14 : decode cX10_copies 14 = .ok (.getfield 107, 3) := dk_180 0 107 (dk_at dksX10_copies_0 14 rfl rfl)
theorem dX10_copies_17 : decode cX10_copies 17 = .ok (.iload_n 1, 1) := dk_27 (dk_at dksX10_copies_0 17 rfl rfl)
theorem dX10_copies_18 : decode cX10_copies 18 = .ok (.iaload, 1) := dk_46 (dk_at dksX10_copies_0 18 rfl rfl)
theorem dX10_copies_19 : decode cX10_copies 19 = .ok (.iastore, 1) := dk_79 (dk_at dksX10_copies_0 19 rfl rfl)
theorem dX10_copies_20 : decode cX10_copies 20 = .ok (.iinc 1 1, 3) := dk_132 1 1 (dk_at dksX10_copies_0 20 rfl rfl)
theorem dX10_copies_23 : decode cX10_copies 23 = .ok (.goto (-21), 3) := dk_167 255 235 (dk_at dksX10_copies_1 0 rfl rfl)
theorem dX10_copies_26 : decode cX10_copies 26 = .ok (.aload_n 0, 1) := dk_42 (dk_at dksX10_copies_1 3 rfl rfl)
theorem dX10_copies_27 : decode cX10_copies 27 = .ok (.aload_n 0, 1) := dk_42 (dk_at dksX10_copies_1 4 rfl rfl)
theorem dX10_copies_28 : decode cX10_copies 28 = .ok (.getfield 67, 3) := dk_180 0 67 (dk_at dksX10_copies_1 5 rfl rfl)
theorem dX10_copies_31 : decode cX10_copies 31 = .ok (.aload_n 0, 1) := dk_42 (dk_at dksX10_copies_1 8 rfl rfl)
theorem dX10_copies_32 : decode cX10_copies 32 = .ok (.getfield 245, 3) := dk_180 0 245 (dk_at dksX10_copies_1 9 rfl rfl)
theorem dX10_copies_35 : decode cX10_copies 35 = .ok (.iaload, 1) := dk_46 (dk_at dksX10_copies_1 12 rfl rfl)
theorem dX10_copies_36 : decode cX10_copies 36 = .ok (.putfield 326, 3) := dk_181 1 70 (dk_at dksX10_copies_1 13 rfl rfl)
theorem dX10_copies_39 : decode cX10_copies 39 = .ok (.aload_n 0, 1) := dk_42 (dk_at dksX10_copies_1 16 rfl rfl)
theorem dX10_copies_40 : decode cX10_copies 40 = .ok (.iconst 0, 1) := dk_3 (dk_at dksX10_copies_1 17 rfl rfl)
theorem dX10_copies_41 : decode cX10_copies 41 = .ok (.putfield 329, 3) := dk_181 1 73 (dk_at dksX10_copies_1 18 rfl rfl)
theorem dX10_copies_44 : decode cX10_copies 44 = .ok (.return_, 1) := dk_177 (dk_at dksX10_copies_1 21 rfl rfl)
def dkwX10_strongFirst_0 : List UInt8 := [42, 180, 0, 49, 16, 6, 42, 180, 0, 245, 104, 27, 96, 46, 172]
abbrev dktX10_strongFirst_0 : List UInt8 := dkwX10_strongFirst_0 ++ []
theorem dksX10_strongFirst_0 : cX10_strongFirst.data.toList.drop 0 = dktX10_strongFirst_0 := by decide +kernel
theorem dX10_strongFirst_0 : decode cX10_strongFirst 0 = .ok (.aload_n 0, 1) := dk_42 (dk_at dksX10_strongFirst_0 0 rfl rfl)
theorem dX10_strongFirst_1 : decode cX10_strongFirst 1 = .ok (.getfield 49, 3) := dk_180 0 49 (dk_at dksX10_strongFirst_0 1 rfl rfl)
theorem dX10_strongFirst_4 : decode cX10_strongFirst 4 = .ok (.bipush 6, 2) := dk_16 6 (dk_at dksX10_strongFirst_0 4 rfl rfl)
theorem dX10_strongFirst_6 : decode cX10_strongFirst 6 = .ok (.aload_n 0, 1) := dk_42 (dk_at dksX10_strongFirst_0 6 rfl rfl)
theorem dX10_strongFirst_7 : decode cX10_strongFirst 7 = .ok (.getfield 245, 3) := dk_180 0 245 (dk_at dksX10_strongFirst_0 7 rfl rfl)
theorem dX10_strongFirst_10 : decode cX10_strongFirst 10 = .ok (.imul, 1) := dk_104 (dk_at dksX10_strongFirst_0 10 rfl rfl)
theorem dX10_strongFirst_11 : decode cX10_strongFirst 11 = .ok (.iload_n 1, 1) := dk_27 (dk_at dksX10_strongFirst_0 11 rfl rfl)
theorem dX10_strongFirst_12 : decode cX10_strongFirst 12 = .ok (.iadd, 1) := dk_96 (dk_at dksX10_strongFirst_0 12 rfl rfl)
theorem dX10_strongFirst_13 : decode cX10_strongFirst 13 = .ok (.iaload, 1) := dk_46 (dk_at dksX10_strongFirst_0 13 rfl rfl)
theorem dX10_strongFirst_14 : decode cX10_strongFirst 14 = .ok (.ireturn, 1) := dk_172 (dk_at dksX10_strongFirst_0 14 rfl rfl)
def dkwX10_hasPlait_0 : List UInt8 := [42, 180, 0, 110, 16, 6, 27, 96, 46, 158, 0, 7, 4, 167, 0, 4, 3, 172]
abbrev dktX10_hasPlait_0 : List UInt8 := dkwX10_hasPlait_0 ++ []
theorem dksX10_hasPlait_0 : cX10_hasPlait.data.toList.drop 0 = dktX10_hasPlait_0 := by decide +kernel
theorem dX10_hasPlait_0 : decode cX10_hasPlait 0 = .ok (.aload_n 0, 1) := dk_42 (dk_at dksX10_hasPlait_0 0 rfl rfl)
theorem dX10_hasPlait_1 : decode cX10_hasPlait 1 = .ok (.getfield 110, 3) := dk_180 0 110 (dk_at dksX10_hasPlait_0 1 rfl rfl)
theorem dX10_hasPlait_4 : decode cX10_hasPlait 4 = .ok (.bipush 6, 2) := dk_16 6 (dk_at dksX10_hasPlait_0 4 rfl rfl)
theorem dX10_hasPlait_6 : decode cX10_hasPlait 6 = .ok (.iload_n 1, 1) := dk_27 (dk_at dksX10_hasPlait_0 6 rfl rfl)
theorem dX10_hasPlait_7 : decode cX10_hasPlait 7 = .ok (.iadd, 1) := dk_96 (dk_at dksX10_hasPlait_0 7 rfl rfl)
theorem dX10_hasPlait_8 : decode cX10_hasPlait 8 = .ok (.iaload, 1) := dk_46 (dk_at dksX10_hasPlait_0 8 rfl rfl)
theorem dX10_hasPlait_9 : decode cX10_hasPlait 9 = .ok (.ifCond .le 7, 3) := dk_158 0 7 (dk_at dksX10_hasPlait_0 9 rfl rfl)
theorem dX10_hasPlait_12 : decode cX10_hasPlait 12 = .ok (.iconst 1, 1) := dk_4 (dk_at dksX10_hasPlait_0 12 rfl rfl)
theorem dX10_hasPlait_13 : decode cX10_hasPlait 13 = .ok (.goto 4, 3) := dk_167 0 4 (dk_at dksX10_hasPlait_0 13 rfl rfl)
theorem dX10_hasPlait_16 : decode cX10_hasPlait 16 = .ok (.iconst 0, 1) := dk_3 (dk_at dksX10_hasPlait_0 16 rfl rfl)
theorem dX10_hasPlait_17 : decode cX10_hasPlait 17 = .ok (.ireturn, 1) := dk_172 (dk_at dksX10_hasPlait_0 17 rfl rfl)
def dkwX10_placeOf_1 : List UInt8 := [160, 0, 5, 28, 172, 132, 2, 1, 167, 255, 227, 2, 172]
abbrev dktX10_placeOf_1 : List UInt8 := dkwX10_placeOf_1 ++ []
def dkwX10_placeOf_0 : List UInt8 := [3, 61, 28, 42, 180, 0, 110, 16, 24, 46, 162, 0, 24, 42, 180, 0, 110, 16, 25, 28, 96, 46, 27]
abbrev dktX10_placeOf_0 : List UInt8 := dkwX10_placeOf_0 ++ dktX10_placeOf_1
theorem dksX10_placeOf_0 : cX10_placeOf.data.toList.drop 0 = dktX10_placeOf_0 := by decide +kernel
theorem dksX10_placeOf_1 : cX10_placeOf.data.toList.drop 23 = dktX10_placeOf_1 := dk_seg dksX10_placeOf_0 23 rfl rfl
theorem dX10_placeOf_0 : decode cX10_placeOf 0 = .ok (.iconst 0, 1) := dk_3 (dk_at dksX10_placeOf_0 0 rfl rfl)
theorem dX10_placeOf_1 : decode cX10_placeOf 1 = .ok (.istore_n 2, 1) := dk_61 (dk_at dksX10_placeOf_0 1 rfl rfl)
theorem dX10_placeOf_2 : decode cX10_placeOf 2 = .ok (.iload_n 2, 1) := dk_28 (dk_at dksX10_placeOf_0 2 rfl rfl)
theorem dX10_placeOf_3 : decode cX10_placeOf 3 = .ok (.aload_n 0, 1) := dk_42 (dk_at dksX10_placeOf_0 3 rfl rfl)
theorem dX10_placeOf_4 : decode cX10_placeOf 4 = .ok (.getfield 110, 3) := dk_180 0 110 (dk_at dksX10_placeOf_0 4 rfl rfl)
theorem dX10_placeOf_7 : decode cX10_placeOf 7 = .ok (.bipush 24, 2) := dk_16 24 (dk_at dksX10_placeOf_0 7 rfl rfl)
theorem dX10_placeOf_9 : decode cX10_placeOf 9 = .ok (.iaload, 1) := dk_46 (dk_at dksX10_placeOf_0 9 rfl rfl)
theorem dX10_placeOf_10 : decode cX10_placeOf 10 = .ok (.if_icmp .ge 24, 3) := dk_162 0 24 (dk_at dksX10_placeOf_0 10 rfl rfl)
theorem dX10_placeOf_13 : decode cX10_placeOf 13 = .ok (.aload_n 0, 1) := dk_42 (dk_at dksX10_placeOf_0 13 rfl rfl)
theorem dX10_placeOf_14 : decode cX10_placeOf 14 = .ok (.getfield 110, 3) := dk_180 0 110 (dk_at dksX10_placeOf_0 14 rfl rfl)
theorem dX10_placeOf_17 : decode cX10_placeOf 17 = .ok (.bipush 25, 2) := dk_16 25 (dk_at dksX10_placeOf_0 17 rfl rfl)
theorem dX10_placeOf_19 : decode cX10_placeOf 19 = .ok (.iload_n 2, 1) := dk_28 (dk_at dksX10_placeOf_0 19 rfl rfl)
theorem dX10_placeOf_20 : decode cX10_placeOf 20 = .ok (.iadd, 1) := dk_96 (dk_at dksX10_placeOf_0 20 rfl rfl)
theorem dX10_placeOf_21 : decode cX10_placeOf 21 = .ok (.iaload, 1) := dk_46 (dk_at dksX10_placeOf_0 21 rfl rfl)
theorem dX10_placeOf_22 : decode cX10_placeOf 22 = .ok (.iload_n 1, 1) := dk_27 (dk_at dksX10_placeOf_0 22 rfl rfl)
theorem dX10_placeOf_23 : decode cX10_placeOf 23 = .ok (.if_icmp .ne 5, 3) := dk_160 0 5 (dk_at dksX10_placeOf_1 0 rfl rfl)
theorem dX10_placeOf_26 : decode cX10_placeOf 26 = .ok (.iload_n 2, 1) := dk_28 (dk_at dksX10_placeOf_1 3 rfl rfl)
theorem dX10_placeOf_27 : decode cX10_placeOf 27 = .ok (.ireturn, 1) := dk_172 (dk_at dksX10_placeOf_1 4 rfl rfl)
theorem dX10_placeOf_28 : decode cX10_placeOf 28 = .ok (.iinc 2 1, 3) := dk_132 2 1 (dk_at dksX10_placeOf_1 5 rfl rfl)
theorem dX10_placeOf_31 : decode cX10_placeOf 31 = .ok (.goto (-29), 3) := dk_167 255 227 (dk_at dksX10_placeOf_1 8 rfl rfl)
theorem dX10_placeOf_34 : decode cX10_placeOf 34 = .ok (.iconst (-1), 1) := dk_2 (dk_at dksX10_placeOf_1 11 rfl rfl)
theorem dX10_placeOf_35 : decode cX10_placeOf 35 = .ok (.ireturn, 1) := dk_172 (dk_at dksX10_placeOf_1 12 rfl rfl)
def dkwX10_growsOf_0 : List UInt8 := [42, 27, 182, 1, 98, 42, 3, 4, 182, 1, 101, 3, 16, 99, 184, 1, 104, 172]
abbrev dktX10_growsOf_0 : List UInt8 := dkwX10_growsOf_0 ++ []
theorem dksX10_growsOf_0 : cX10_growsOf.data.toList.drop 0 = dktX10_growsOf_0 := by decide +kernel
theorem dX10_growsOf_0 : decode cX10_growsOf 0 = .ok (.aload_n 0, 1) := dk_42 (dk_at dksX10_growsOf_0 0 rfl rfl)
theorem dX10_growsOf_1 : decode cX10_growsOf 1 = .ok (.iload_n 1, 1) := dk_27 (dk_at dksX10_growsOf_0 1 rfl rfl)
theorem dX10_growsOf_2 : decode cX10_growsOf 2 = .ok (.invokevirtual 354, 3) := dk_182 1 98 (dk_at dksX10_growsOf_0 2 rfl rfl)
theorem dX10_growsOf_5 : decode cX10_growsOf 5 = .ok (.aload_n 0, 1) := dk_42 (dk_at dksX10_growsOf_0 5 rfl rfl)
theorem dX10_growsOf_6 : decode cX10_growsOf 6 = .ok (.iconst 0, 1) := dk_3 (dk_at dksX10_growsOf_0 6 rfl rfl)
theorem dX10_growsOf_7 : decode cX10_growsOf 7 = .ok (.iconst 1, 1) := dk_4 (dk_at dksX10_growsOf_0 7 rfl rfl)
theorem dX10_growsOf_8 : decode cX10_growsOf 8 = .ok (.invokevirtual 357, 3) := dk_182 1 101 (dk_at dksX10_growsOf_0 8 rfl rfl)
theorem dX10_growsOf_11 : decode cX10_growsOf 11 = .ok (.iconst 0, 1) := dk_3 (dk_at dksX10_growsOf_0 11 rfl rfl)
theorem dX10_growsOf_12 : decode cX10_growsOf 12 = .ok (.bipush 99, 2) := dk_16 99 (dk_at dksX10_growsOf_0 12 rfl rfl)
theorem dX10_growsOf_14 : decode cX10_growsOf 14 = .ok (.invokestatic 360, 3) := dk_184 1 104 (dk_at dksX10_growsOf_0 14 rfl rfl)
theorem dX10_growsOf_17 : decode cX10_growsOf 17 = .ok (.ireturn, 1) := dk_172 (dk_at dksX10_growsOf_0 17 rfl rfl)
def dkwX10_views_4 : List UInt8 := [180, 0, 110, 16, 18, 27, 96, 46, 79, 42, 180, 0, 101, 16, 8, 3, 79, 177]
abbrev dktX10_views_4 : List UInt8 := dkwX10_views_4 ++ []
def dkwX10_views_3 : List UInt8 := [79, 42, 180, 0, 101, 16, 6, 42, 180, 0, 110, 16, 24, 46, 79, 42, 180, 0, 101, 16, 7, 42]
abbrev dktX10_views_3 : List UInt8 := dkwX10_views_3 ++ dktX10_views_4
def dkwX10_views_2 : List UInt8 := [42, 27, 182, 1, 83, 153, 0, 11, 42, 27, 182, 1, 95, 167, 0, 4, 3, 79, 42, 180, 0, 101, 8, 27]
abbrev dktX10_views_2 : List UInt8 := dkwX10_views_2 ++ dktX10_views_3
def dkwX10_views_1 : List UInt8 := [180, 0, 101, 5, 3, 79, 42, 180, 0, 101, 6, 42, 180, 0, 110, 16, 31, 46, 79, 42, 180, 0, 101, 7]
abbrev dktX10_views_1 : List UInt8 := dkwX10_views_1 ++ dktX10_views_2
def dkwX10_views_0 : List UInt8 := [42, 180, 0, 101, 3, 42, 180, 0, 110, 27, 46, 79, 42, 180, 0, 101, 4, 42, 27, 182, 1, 92, 79, 42]
abbrev dktX10_views_0 : List UInt8 := dkwX10_views_0 ++ dktX10_views_1
theorem dksX10_views_0 : cX10_views.data.toList.drop 0 = dktX10_views_0 := by decide +kernel
theorem dksX10_views_1 : cX10_views.data.toList.drop 24 = dktX10_views_1 := dk_seg dksX10_views_0 24 rfl rfl
theorem dksX10_views_2 : cX10_views.data.toList.drop 48 = dktX10_views_2 := dk_seg dksX10_views_1 24 rfl rfl
theorem dksX10_views_3 : cX10_views.data.toList.drop 72 = dktX10_views_3 := dk_seg dksX10_views_2 24 rfl rfl
theorem dksX10_views_4 : cX10_views.data.toList.drop 94 = dktX10_views_4 := dk_seg dksX10_views_3 22 rfl rfl
theorem dX10_views_0 : decode cX10_views 0 = .ok (.aload_n 0, 1) := dk_42 (dk_at dksX10_views_0 0 rfl rfl)
theorem dX10_views_1 : decode cX10_views 1 = .ok (.getfield 101, 3) := dk_180 0 101 (dk_at dksX10_views_0 1 rfl rfl)
theorem dX10_views_4 : decode cX10_views 4 = .ok (.iconst 0, 1) := dk_3 (dk_at dksX10_views_0 4 rfl rfl)
theorem dX10_views_5 : decode cX10_views 5 = .ok (.aload_n 0, 1) := dk_42 (dk_at dksX10_views_0 5 rfl rfl)
theorem dX10_views_6 : decode cX10_views 6 = .ok (.getfield 110, 3) := dk_180 0 110 (dk_at dksX10_views_0 6 rfl rfl)
theorem dX10_views_9 : decode cX10_views 9 = .ok (.iload_n 1, 1) := dk_27 (dk_at dksX10_views_0 9 rfl rfl)
theorem dX10_views_10 : decode cX10_views 10 = .ok (.iaload, 1) := dk_46 (dk_at dksX10_views_0 10 rfl rfl)
theorem dX10_views_11 : decode cX10_views 11 = .ok (.iastore, 1) := dk_79 (dk_at dksX10_views_0 11 rfl rfl)
theorem dX10_views_12 : decode cX10_views 12 = .ok (.aload_n 0, 1) := dk_42 (dk_at dksX10_views_0 12 rfl rfl)
theorem dX10_views_13 : decode cX10_views 13 = .ok (.getfield 101, 3) := dk_180 0 101 (dk_at dksX10_views_0 13 rfl rfl)
theorem dX10_views_16 : decode cX10_views 16 = .ok (.iconst 1, 1) := dk_4 (dk_at dksX10_views_0 16 rfl rfl)
theorem dX10_views_17 : decode cX10_views 17 = .ok (.aload_n 0, 1) := dk_42 (dk_at dksX10_views_0 17 rfl rfl)
theorem dX10_views_18 : decode cX10_views 18 = .ok (.iload_n 1, 1) := dk_27 (dk_at dksX10_views_0 18 rfl rfl)
theorem dX10_views_19 : decode cX10_views 19 = .ok (.invokevirtual 348, 3) := dk_182 1 92 (dk_at dksX10_views_0 19 rfl rfl)
theorem dX10_views_22 : decode cX10_views 22 = .ok (.iastore, 1) := dk_79 (dk_at dksX10_views_0 22 rfl rfl)
theorem dX10_views_23 : decode cX10_views 23 = .ok (.aload_n 0, 1) := dk_42 (dk_at dksX10_views_0 23 rfl rfl)
theorem dX10_views_24 : decode cX10_views 24 = .ok (.getfield 101, 3) := dk_180 0 101 (dk_at dksX10_views_1 0 rfl rfl)
theorem dX10_views_27 : decode cX10_views 27 = .ok (.iconst 2, 1) := dk_5 (dk_at dksX10_views_1 3 rfl rfl)
theorem dX10_views_28 : decode cX10_views 28 = .ok (.iconst 0, 1) := dk_3 (dk_at dksX10_views_1 4 rfl rfl)
theorem dX10_views_29 : decode cX10_views 29 = .ok (.iastore, 1) := dk_79 (dk_at dksX10_views_1 5 rfl rfl)
theorem dX10_views_30 : decode cX10_views 30 = .ok (.aload_n 0, 1) := dk_42 (dk_at dksX10_views_1 6 rfl rfl)
theorem dX10_views_31 : decode cX10_views 31 = .ok (.getfield 101, 3) := dk_180 0 101 (dk_at dksX10_views_1 7 rfl rfl)
theorem dX10_views_34 : decode cX10_views 34 = .ok (.iconst 3, 1) := dk_6 (dk_at dksX10_views_1 10 rfl rfl)
theorem dX10_views_35 : decode cX10_views 35 = .ok (.aload_n 0, 1) := dk_42 (dk_at dksX10_views_1 11 rfl rfl)
theorem dX10_views_36 : decode cX10_views 36 = .ok (.getfield 110, 3) := dk_180 0 110 (dk_at dksX10_views_1 12 rfl rfl)
theorem dX10_views_39 : decode cX10_views 39 = .ok (.bipush 31, 2) := dk_16 31 (dk_at dksX10_views_1 15 rfl rfl)
theorem dX10_views_41 : decode cX10_views 41 = .ok (.iaload, 1) := dk_46 (dk_at dksX10_views_1 17 rfl rfl)
theorem dX10_views_42 : decode cX10_views 42 = .ok (.iastore, 1) := dk_79 (dk_at dksX10_views_1 18 rfl rfl)
theorem dX10_views_43 : decode cX10_views 43 = .ok (.aload_n 0, 1) := dk_42 (dk_at dksX10_views_1 19 rfl rfl)
theorem dX10_views_44 : decode cX10_views 44 = .ok (.getfield 101, 3) := dk_180 0 101 (dk_at dksX10_views_1 20 rfl rfl)
theorem dX10_views_47 : decode cX10_views 47 = .ok (.iconst 4, 1) := dk_7 (dk_at dksX10_views_1 23 rfl rfl)
theorem dX10_views_48 : decode cX10_views 48 = .ok (.aload_n 0, 1) := dk_42 (dk_at dksX10_views_2 0 rfl rfl)
theorem dX10_views_49 : decode cX10_views 49 = .ok (.iload_n 1, 1) := dk_27 (dk_at dksX10_views_2 1 rfl rfl)
theorem dX10_views_50 : decode cX10_views 50 = .ok (.invokevirtual 339, 3) := dk_182 1 83 (dk_at dksX10_views_2 2 rfl rfl)
theorem dX10_views_53 : decode cX10_views 53 = .ok (.ifCond .eq 11, 3) := dk_153 0 11 (dk_at dksX10_views_2 5 rfl rfl)
theorem dX10_views_56 : decode cX10_views 56 = .ok (.aload_n 0, 1) := dk_42 (dk_at dksX10_views_2 8 rfl rfl)
theorem dX10_views_57 : decode cX10_views 57 = .ok (.iload_n 1, 1) := dk_27 (dk_at dksX10_views_2 9 rfl rfl)
theorem dX10_views_58 : decode cX10_views 58 = .ok (.invokevirtual 351, 3) := dk_182 1 95 (dk_at dksX10_views_2 10 rfl rfl)
theorem dX10_views_61 : decode cX10_views 61 = .ok (.goto 4, 3) := dk_167 0 4 (dk_at dksX10_views_2 13 rfl rfl)
theorem dX10_views_64 : decode cX10_views 64 = .ok (.iconst 0, 1) := dk_3 (dk_at dksX10_views_2 16 rfl rfl)
theorem dX10_views_65 : decode cX10_views 65 = .ok (.iastore, 1) := dk_79 (dk_at dksX10_views_2 17 rfl rfl)
theorem dX10_views_66 : decode cX10_views 66 = .ok (.aload_n 0, 1) := dk_42 (dk_at dksX10_views_2 18 rfl rfl)
theorem dX10_views_67 : decode cX10_views 67 = .ok (.getfield 101, 3) := dk_180 0 101 (dk_at dksX10_views_2 19 rfl rfl)
theorem dX10_views_70 : decode cX10_views 70 = .ok (.iconst 5, 1) := dk_8 (dk_at dksX10_views_2 22 rfl rfl)
theorem dX10_views_71 : decode cX10_views 71 = .ok (.iload_n 1, 1) := dk_27 (dk_at dksX10_views_2 23 rfl rfl)
theorem dX10_views_72 : decode cX10_views 72 = .ok (.iastore, 1) := dk_79 (dk_at dksX10_views_3 0 rfl rfl)
theorem dX10_views_73 : decode cX10_views 73 = .ok (.aload_n 0, 1) := dk_42 (dk_at dksX10_views_3 1 rfl rfl)
theorem dX10_views_74 : decode cX10_views 74 = .ok (.getfield 101, 3) := dk_180 0 101 (dk_at dksX10_views_3 2 rfl rfl)
theorem dX10_views_77 : decode cX10_views 77 = .ok (.bipush 6, 2) := dk_16 6 (dk_at dksX10_views_3 5 rfl rfl)
theorem dX10_views_79 : decode cX10_views 79 = .ok (.aload_n 0, 1) := dk_42 (dk_at dksX10_views_3 7 rfl rfl)
theorem dX10_views_80 : decode cX10_views 80 = .ok (.getfield 110, 3) := dk_180 0 110 (dk_at dksX10_views_3 8 rfl rfl)
theorem dX10_views_83 : decode cX10_views 83 = .ok (.bipush 24, 2) := dk_16 24 (dk_at dksX10_views_3 11 rfl rfl)
theorem dX10_views_85 : decode cX10_views 85 = .ok (.iaload, 1) := dk_46 (dk_at dksX10_views_3 13 rfl rfl)
theorem dX10_views_86 : decode cX10_views 86 = .ok (.iastore, 1) := dk_79 (dk_at dksX10_views_3 14 rfl rfl)
theorem dX10_views_87 : decode cX10_views 87 = .ok (.aload_n 0, 1) := dk_42 (dk_at dksX10_views_3 15 rfl rfl)
theorem dX10_views_88 : decode cX10_views 88 = .ok (.getfield 101, 3) := dk_180 0 101 (dk_at dksX10_views_3 16 rfl rfl)
theorem dX10_views_91 : decode cX10_views 91 = .ok (.bipush 7, 2) := dk_16 7 (dk_at dksX10_views_3 19 rfl rfl)
theorem dX10_views_93 : decode cX10_views 93 = .ok (.aload_n 0, 1) := dk_42 (dk_at dksX10_views_3 21 rfl rfl)
theorem dX10_views_94 : decode cX10_views 94 = .ok (.getfield 110, 3) := dk_180 0 110 (dk_at dksX10_views_4 0 rfl rfl)
theorem dX10_views_97 : decode cX10_views 97 = .ok (.bipush 18, 2) := dk_16 18 (dk_at dksX10_views_4 3 rfl rfl)
theorem dX10_views_99 : decode cX10_views 99 = .ok (.iload_n 1, 1) := dk_27 (dk_at dksX10_views_4 5 rfl rfl)
theorem dX10_views_100 : decode cX10_views 100 = .ok (.iadd, 1) := dk_96 (dk_at dksX10_views_4 6 rfl rfl)
theorem dX10_views_101 : decode cX10_views 101 = .ok (.iaload, 1) := dk_46 (dk_at dksX10_views_4 7 rfl rfl)
theorem dX10_views_102 : decode cX10_views 102 = .ok (.iastore, 1) := dk_79 (dk_at dksX10_views_4 8 rfl rfl)
theorem dX10_views_103 : decode cX10_views 103 = .ok (.aload_n 0, 1) := dk_42 (dk_at dksX10_views_4 9 rfl rfl)
theorem dX10_views_104 : decode cX10_views 104 = .ok (.getfield 101, 3) := dk_180 0 101 (dk_at dksX10_views_4 10 rfl rfl)
theorem dX10_views_107 : decode cX10_views 107 = .ok (.bipush 8, 2) := dk_16 8 (dk_at dksX10_views_4 13 rfl rfl)
theorem dX10_views_109 : decode cX10_views 109 = .ok (.iconst 0, 1) := dk_3 (dk_at dksX10_views_4 15 rfl rfl)
theorem dX10_views_110 : decode cX10_views 110 = .ok (.iastore, 1) := dk_79 (dk_at dksX10_views_4 16 rfl rfl)
theorem dX10_views_111 : decode cX10_views 111 = .ok (.return_, 1) := dk_177 (dk_at dksX10_views_4 17 rfl rfl)
def dkwX10_strongOf_1 : List UInt8 := [182, 1, 86, 172]
abbrev dktX10_strongOf_1 : List UInt8 := dkwX10_strongOf_1 ++ []
def dkwX10_strongOf_0 : List UInt8 := [42, 27, 182, 1, 83, 153, 0, 15, 42, 180, 0, 110, 16, 12, 27, 96, 46, 167, 0, 8, 42, 27]
abbrev dktX10_strongOf_0 : List UInt8 := dkwX10_strongOf_0 ++ dktX10_strongOf_1
theorem dksX10_strongOf_0 : cX10_strongOf.data.toList.drop 0 = dktX10_strongOf_0 := by decide +kernel
theorem dksX10_strongOf_1 : cX10_strongOf.data.toList.drop 22 = dktX10_strongOf_1 := dk_seg dksX10_strongOf_0 22 rfl rfl
theorem dX10_strongOf_0 : decode cX10_strongOf 0 = .ok (.aload_n 0, 1) := dk_42 (dk_at dksX10_strongOf_0 0 rfl rfl)
theorem dX10_strongOf_1 : decode cX10_strongOf 1 = .ok (.iload_n 1, 1) := dk_27 (dk_at dksX10_strongOf_0 1 rfl rfl)
theorem dX10_strongOf_2 : decode cX10_strongOf 2 = .ok (.invokevirtual 339, 3) := dk_182 1 83 (dk_at dksX10_strongOf_0 2 rfl rfl)
theorem dX10_strongOf_5 : decode cX10_strongOf 5 = .ok (.ifCond .eq 15, 3) := dk_153 0 15 (dk_at dksX10_strongOf_0 5 rfl rfl)
theorem dX10_strongOf_8 : decode cX10_strongOf 8 = .ok (.aload_n 0, 1) := dk_42 (dk_at dksX10_strongOf_0 8 rfl rfl)
theorem dX10_strongOf_9 : decode cX10_strongOf 9 = .ok (.getfield 110, 3) := dk_180 0 110 (dk_at dksX10_strongOf_0 9 rfl rfl)
theorem dX10_strongOf_12 : decode cX10_strongOf 12 = .ok (.bipush 12, 2) := dk_16 12 (dk_at dksX10_strongOf_0 12 rfl rfl)
theorem dX10_strongOf_14 : decode cX10_strongOf 14 = .ok (.iload_n 1, 1) := dk_27 (dk_at dksX10_strongOf_0 14 rfl rfl)
theorem dX10_strongOf_15 : decode cX10_strongOf 15 = .ok (.iadd, 1) := dk_96 (dk_at dksX10_strongOf_0 15 rfl rfl)
theorem dX10_strongOf_16 : decode cX10_strongOf 16 = .ok (.iaload, 1) := dk_46 (dk_at dksX10_strongOf_0 16 rfl rfl)
theorem dX10_strongOf_17 : decode cX10_strongOf 17 = .ok (.goto 8, 3) := dk_167 0 8 (dk_at dksX10_strongOf_0 17 rfl rfl)
theorem dX10_strongOf_20 : decode cX10_strongOf 20 = .ok (.aload_n 0, 1) := dk_42 (dk_at dksX10_strongOf_0 20 rfl rfl)
theorem dX10_strongOf_21 : decode cX10_strongOf 21 = .ok (.iload_n 1, 1) := dk_27 (dk_at dksX10_strongOf_0 21 rfl rfl)
theorem dX10_strongOf_22 : decode cX10_strongOf 22 = .ok (.invokevirtual 342, 3) := dk_182 1 86 (dk_at dksX10_strongOf_1 0 rfl rfl)
theorem dX10_strongOf_25 : decode cX10_strongOf 25 = .ok (.ireturn, 1) := dk_172 (dk_at dksX10_strongOf_1 3 rfl rfl)
def dkwX10_lawTells_6 : List UInt8 := [180, 1, 62, 153, 0, 7, 3, 167, 0, 5, 21, 5, 172, 132, 4, 1, 167, 255, 139, 3, 172]
abbrev dktX10_lawTells_6 : List UInt8 := dkwX10_lawTells_6 ++ []
def dkwX10_lawTells_5 : List UInt8 := [167, 0, 37, 42, 42, 180, 0, 86, 21, 4, 46, 42, 180, 0, 89, 21, 4, 46, 182, 1, 89, 54, 5, 42]
abbrev dktX10_lawTells_5 : List UInt8 := dkwX10_lawTells_5 ++ dktX10_lawTells_6
def dkwX10_lawTells_4 : List UInt8 := [21, 4, 46, 182, 1, 89, 54, 6, 42, 180, 1, 62, 153, 0, 5, 3, 172, 21, 5, 21, 6, 161, 0, 6]
abbrev dktX10_lawTells_4 : List UInt8 := dkwX10_lawTells_4 ++ dktX10_lawTells_5
def dkwX10_lawTells_3 : List UInt8 := [180, 0, 83, 21, 4, 46, 182, 1, 89, 54, 5, 42, 42, 180, 0, 83, 21, 4, 46, 42, 180, 0, 86]
abbrev dktX10_lawTells_3 : List UInt8 := dkwX10_lawTells_3 ++ dktX10_lawTells_4
def dkwX10_lawTells_2 : List UInt8 := [162, 0, 112, 42, 180, 0, 76, 21, 4, 51, 153, 0, 62, 42, 42, 180, 0, 80, 21, 4, 46, 42]
abbrev dktX10_lawTells_2 : List UInt8 := dkwX10_lawTells_2 ++ dktX10_lawTells_3
def dkwX10_lawTells_1 : List UInt8 := [28, 172, 42, 3, 181, 1, 62, 42, 180, 0, 70, 29, 46, 54, 4, 21, 4, 42, 180, 0, 73, 29, 46]
abbrev dktX10_lawTells_1 : List UInt8 := dkwX10_lawTells_1 ++ dktX10_lawTells_2
def dkwX10_lawTells_0 : List UInt8 := [7, 42, 180, 0, 245, 104, 27, 96, 62, 42, 180, 0, 70, 29, 46, 42, 180, 0, 73, 29, 46, 160, 0, 5]
abbrev dktX10_lawTells_0 : List UInt8 := dkwX10_lawTells_0 ++ dktX10_lawTells_1
theorem dksX10_lawTells_0 : cX10_lawTells.data.toList.drop 0 = dktX10_lawTells_0 := by decide +kernel
theorem dksX10_lawTells_1 : cX10_lawTells.data.toList.drop 24 = dktX10_lawTells_1 := dk_seg dksX10_lawTells_0 24 rfl rfl
theorem dksX10_lawTells_2 : cX10_lawTells.data.toList.drop 47 = dktX10_lawTells_2 := dk_seg dksX10_lawTells_1 23 rfl rfl
theorem dksX10_lawTells_3 : cX10_lawTells.data.toList.drop 69 = dktX10_lawTells_3 := dk_seg dksX10_lawTells_2 22 rfl rfl
theorem dksX10_lawTells_4 : cX10_lawTells.data.toList.drop 92 = dktX10_lawTells_4 := dk_seg dksX10_lawTells_3 23 rfl rfl
theorem dksX10_lawTells_5 : cX10_lawTells.data.toList.drop 116 = dktX10_lawTells_5 := dk_seg dksX10_lawTells_4 24 rfl rfl
theorem dksX10_lawTells_6 : cX10_lawTells.data.toList.drop 140 = dktX10_lawTells_6 := dk_seg dksX10_lawTells_5 24 rfl rfl
theorem dX10_lawTells_0 : decode cX10_lawTells 0 = .ok (.iconst 4, 1) := dk_7 (dk_at dksX10_lawTells_0 0 rfl rfl)
theorem dX10_lawTells_1 : decode cX10_lawTells 1 = .ok (.aload_n 0, 1) := dk_42 (dk_at dksX10_lawTells_0 1 rfl rfl)
theorem dX10_lawTells_2 : decode cX10_lawTells 2 = .ok (.getfield 245, 3) := dk_180 0 245 (dk_at dksX10_lawTells_0 2 rfl rfl)
theorem dX10_lawTells_5 : decode cX10_lawTells 5 = .ok (.imul, 1) := dk_104 (dk_at dksX10_lawTells_0 5 rfl rfl)
theorem dX10_lawTells_6 : decode cX10_lawTells 6 = .ok (.iload_n 1, 1) := dk_27 (dk_at dksX10_lawTells_0 6 rfl rfl)
theorem dX10_lawTells_7 : decode cX10_lawTells 7 = .ok (.iadd, 1) := dk_96 (dk_at dksX10_lawTells_0 7 rfl rfl)
theorem dX10_lawTells_8 : decode cX10_lawTells 8 = .ok (.istore_n 3, 1) := dk_62 (dk_at dksX10_lawTells_0 8 rfl rfl)
theorem dX10_lawTells_9 : decode cX10_lawTells 9 = .ok (.aload_n 0, 1) := dk_42 (dk_at dksX10_lawTells_0 9 rfl rfl)
theorem dX10_lawTells_10 : decode cX10_lawTells 10 = .ok (.getfield 70, 3) := dk_180 0 70 (dk_at dksX10_lawTells_0 10 rfl rfl)
theorem dX10_lawTells_13 : decode cX10_lawTells 13 = .ok (.iload_n 3, 1) := dk_29 (dk_at dksX10_lawTells_0 13 rfl rfl)
theorem dX10_lawTells_14 : decode cX10_lawTells 14 = .ok (.iaload, 1) := dk_46 (dk_at dksX10_lawTells_0 14 rfl rfl)
theorem dX10_lawTells_15 : decode cX10_lawTells 15 = .ok (.aload_n 0, 1) := dk_42 (dk_at dksX10_lawTells_0 15 rfl rfl)
theorem dX10_lawTells_16 : decode cX10_lawTells 16 = .ok (.getfield 73, 3) := dk_180 0 73 (dk_at dksX10_lawTells_0 16 rfl rfl)
theorem dX10_lawTells_19 : decode cX10_lawTells 19 = .ok (.iload_n 3, 1) := dk_29 (dk_at dksX10_lawTells_0 19 rfl rfl)
theorem dX10_lawTells_20 : decode cX10_lawTells 20 = .ok (.iaload, 1) := dk_46 (dk_at dksX10_lawTells_0 20 rfl rfl)
theorem dX10_lawTells_21 : decode cX10_lawTells 21 = .ok (.if_icmp .ne 5, 3) := dk_160 0 5 (dk_at dksX10_lawTells_0 21 rfl rfl)
theorem dX10_lawTells_24 : decode cX10_lawTells 24 = .ok (.iload_n 2, 1) := dk_28 (dk_at dksX10_lawTells_1 0 rfl rfl)
theorem dX10_lawTells_25 : decode cX10_lawTells 25 = .ok (.ireturn, 1) := dk_172 (dk_at dksX10_lawTells_1 1 rfl rfl)
theorem dX10_lawTells_26 : decode cX10_lawTells 26 = .ok (.aload_n 0, 1) := dk_42 (dk_at dksX10_lawTells_1 2 rfl rfl)
theorem dX10_lawTells_27 : decode cX10_lawTells 27 = .ok (.iconst 0, 1) := dk_3 (dk_at dksX10_lawTells_1 3 rfl rfl)
theorem dX10_lawTells_28 : decode cX10_lawTells 28 = .ok (.putfield 318, 3) := dk_181 1 62 (dk_at dksX10_lawTells_1 4 rfl rfl)
theorem dX10_lawTells_31 : decode cX10_lawTells 31 = .ok (.aload_n 0, 1) := dk_42 (dk_at dksX10_lawTells_1 7 rfl rfl)
theorem dX10_lawTells_32 : decode cX10_lawTells 32 = .ok (.getfield 70, 3) := dk_180 0 70 (dk_at dksX10_lawTells_1 8 rfl rfl)
theorem dX10_lawTells_35 : decode cX10_lawTells 35 = .ok (.iload_n 3, 1) := dk_29 (dk_at dksX10_lawTells_1 11 rfl rfl)
theorem dX10_lawTells_36 : decode cX10_lawTells 36 = .ok (.iaload, 1) := dk_46 (dk_at dksX10_lawTells_1 12 rfl rfl)
theorem dX10_lawTells_37 : decode cX10_lawTells 37 = .ok (.istore 4, 2) := dk_54 4 (dk_at dksX10_lawTells_1 13 rfl rfl)
theorem dX10_lawTells_39 : decode cX10_lawTells 39 = .ok (.iload 4, 2) := dk_21 4 (dk_at dksX10_lawTells_1 15 rfl rfl)
theorem dX10_lawTells_41 : decode cX10_lawTells 41 = .ok (.aload_n 0, 1) := dk_42 (dk_at dksX10_lawTells_1 17 rfl rfl)
theorem dX10_lawTells_42 : decode cX10_lawTells 42 = .ok (.getfield 73, 3) := dk_180 0 73 (dk_at dksX10_lawTells_1 18 rfl rfl)
theorem dX10_lawTells_45 : decode cX10_lawTells 45 = .ok (.iload_n 3, 1) := dk_29 (dk_at dksX10_lawTells_1 21 rfl rfl)
theorem dX10_lawTells_46 : decode cX10_lawTells 46 = .ok (.iaload, 1) := dk_46 (dk_at dksX10_lawTells_1 22 rfl rfl)
theorem dX10_lawTells_47 : decode cX10_lawTells 47 = .ok (.if_icmp .ge 112, 3) := dk_162 0 112 (dk_at dksX10_lawTells_2 0 rfl rfl)
theorem dX10_lawTells_50 : decode cX10_lawTells 50 = .ok (.aload_n 0, 1) := dk_42 (dk_at dksX10_lawTells_2 3 rfl rfl)
theorem dX10_lawTells_51 : decode cX10_lawTells 51 = .ok (.getfield 76, 3) := dk_180 0 76 (dk_at dksX10_lawTells_2 4 rfl rfl)
theorem dX10_lawTells_54 : decode cX10_lawTells 54 = .ok (.iload 4, 2) := dk_21 4 (dk_at dksX10_lawTells_2 7 rfl rfl)
theorem dX10_lawTells_56 : decode cX10_lawTells 56 = .ok (.baload, 1) := dk_51 (dk_at dksX10_lawTells_2 9 rfl rfl)
theorem dX10_lawTells_57 : decode cX10_lawTells 57 = .ok (.ifCond .eq 62, 3) := dk_153 0 62 (dk_at dksX10_lawTells_2 10 rfl rfl)
theorem dX10_lawTells_60 : decode cX10_lawTells 60 = .ok (.aload_n 0, 1) := dk_42 (dk_at dksX10_lawTells_2 13 rfl rfl)
theorem dX10_lawTells_61 : decode cX10_lawTells 61 = .ok (.aload_n 0, 1) := dk_42 (dk_at dksX10_lawTells_2 14 rfl rfl)
theorem dX10_lawTells_62 : decode cX10_lawTells 62 = .ok (.getfield 80, 3) := dk_180 0 80 (dk_at dksX10_lawTells_2 15 rfl rfl)
theorem dX10_lawTells_65 : decode cX10_lawTells 65 = .ok (.iload 4, 2) := dk_21 4 (dk_at dksX10_lawTells_2 18 rfl rfl)
theorem dX10_lawTells_67 : decode cX10_lawTells 67 = .ok (.iaload, 1) := dk_46 (dk_at dksX10_lawTells_2 20 rfl rfl)
theorem dX10_lawTells_68 : decode cX10_lawTells 68 = .ok (.aload_n 0, 1) := dk_42 (dk_at dksX10_lawTells_2 21 rfl rfl)
theorem dX10_lawTells_69 : decode cX10_lawTells 69 = .ok (.getfield 83, 3) := dk_180 0 83 (dk_at dksX10_lawTells_3 0 rfl rfl)
theorem dX10_lawTells_72 : decode cX10_lawTells 72 = .ok (.iload 4, 2) := dk_21 4 (dk_at dksX10_lawTells_3 3 rfl rfl)
theorem dX10_lawTells_74 : decode cX10_lawTells 74 = .ok (.iaload, 1) := dk_46 (dk_at dksX10_lawTells_3 5 rfl rfl)
theorem dX10_lawTells_75 : decode cX10_lawTells 75 = .ok (.invokevirtual 345, 3) := dk_182 1 89 (dk_at dksX10_lawTells_3 6 rfl rfl)
theorem dX10_lawTells_78 : decode cX10_lawTells 78 = .ok (.istore 5, 2) := dk_54 5 (dk_at dksX10_lawTells_3 9 rfl rfl)
theorem dX10_lawTells_80 : decode cX10_lawTells 80 = .ok (.aload_n 0, 1) := dk_42 (dk_at dksX10_lawTells_3 11 rfl rfl)
theorem dX10_lawTells_81 : decode cX10_lawTells 81 = .ok (.aload_n 0, 1) := dk_42 (dk_at dksX10_lawTells_3 12 rfl rfl)
theorem dX10_lawTells_82 : decode cX10_lawTells 82 = .ok (.getfield 83, 3) := dk_180 0 83 (dk_at dksX10_lawTells_3 13 rfl rfl)
theorem dX10_lawTells_85 : decode cX10_lawTells 85 = .ok (.iload 4, 2) := dk_21 4 (dk_at dksX10_lawTells_3 16 rfl rfl)
theorem dX10_lawTells_87 : decode cX10_lawTells 87 = .ok (.iaload, 1) := dk_46 (dk_at dksX10_lawTells_3 18 rfl rfl)
theorem dX10_lawTells_88 : decode cX10_lawTells 88 = .ok (.aload_n 0, 1) := dk_42 (dk_at dksX10_lawTells_3 19 rfl rfl)
theorem dX10_lawTells_89 : decode cX10_lawTells 89 = .ok (.getfield 86, 3) := dk_180 0 86 (dk_at dksX10_lawTells_3 20 rfl rfl)
theorem dX10_lawTells_92 : decode cX10_lawTells 92 = .ok (.iload 4, 2) := dk_21 4 (dk_at dksX10_lawTells_4 0 rfl rfl)
theorem dX10_lawTells_94 : decode cX10_lawTells 94 = .ok (.iaload, 1) := dk_46 (dk_at dksX10_lawTells_4 2 rfl rfl)
theorem dX10_lawTells_95 : decode cX10_lawTells 95 = .ok (.invokevirtual 345, 3) := dk_182 1 89 (dk_at dksX10_lawTells_4 3 rfl rfl)
theorem dX10_lawTells_98 : decode cX10_lawTells 98 = .ok (.istore 6, 2) := dk_54 6 (dk_at dksX10_lawTells_4 6 rfl rfl)
theorem dX10_lawTells_100 : decode cX10_lawTells 100 = .ok (.aload_n 0, 1) := dk_42 (dk_at dksX10_lawTells_4 8 rfl rfl)
theorem dX10_lawTells_101 : decode cX10_lawTells 101 = .ok (.getfield 318, 3) := dk_180 1 62 (dk_at dksX10_lawTells_4 9 rfl rfl)
theorem dX10_lawTells_104 : decode cX10_lawTells 104 = .ok (.ifCond .eq 5, 3) := dk_153 0 5 (dk_at dksX10_lawTells_4 12 rfl rfl)
theorem dX10_lawTells_107 : decode cX10_lawTells 107 = .ok (.iconst 0, 1) := dk_3 (dk_at dksX10_lawTells_4 15 rfl rfl)
theorem dX10_lawTells_108 : decode cX10_lawTells 108 = .ok (.ireturn, 1) := dk_172 (dk_at dksX10_lawTells_4 16 rfl rfl)
theorem dX10_lawTells_109 : decode cX10_lawTells 109 = .ok (.iload 5, 2) := dk_21 5 (dk_at dksX10_lawTells_4 17 rfl rfl)
theorem dX10_lawTells_111 : decode cX10_lawTells 111 = .ok (.iload 6, 2) := dk_21 6 (dk_at dksX10_lawTells_4 19 rfl rfl)
theorem dX10_lawTells_113 : decode cX10_lawTells 113 = .ok (.if_icmp .lt 6, 3) := dk_161 0 6 (dk_at dksX10_lawTells_4 21 rfl rfl)
theorem dX10_lawTells_116 : decode cX10_lawTells 116 = .ok (.goto 37, 3) := dk_167 0 37 (dk_at dksX10_lawTells_5 0 rfl rfl)
theorem dX10_lawTells_119 : decode cX10_lawTells 119 = .ok (.aload_n 0, 1) := dk_42 (dk_at dksX10_lawTells_5 3 rfl rfl)
theorem dX10_lawTells_120 : decode cX10_lawTells 120 = .ok (.aload_n 0, 1) := dk_42 (dk_at dksX10_lawTells_5 4 rfl rfl)
theorem dX10_lawTells_121 : decode cX10_lawTells 121 = .ok (.getfield 86, 3) := dk_180 0 86 (dk_at dksX10_lawTells_5 5 rfl rfl)
theorem dX10_lawTells_124 : decode cX10_lawTells 124 = .ok (.iload 4, 2) := dk_21 4 (dk_at dksX10_lawTells_5 8 rfl rfl)
theorem dX10_lawTells_126 : decode cX10_lawTells 126 = .ok (.iaload, 1) := dk_46 (dk_at dksX10_lawTells_5 10 rfl rfl)
theorem dX10_lawTells_127 : decode cX10_lawTells 127 = .ok (.aload_n 0, 1) := dk_42 (dk_at dksX10_lawTells_5 11 rfl rfl)
theorem dX10_lawTells_128 : decode cX10_lawTells 128 = .ok (.getfield 89, 3) := dk_180 0 89 (dk_at dksX10_lawTells_5 12 rfl rfl)
theorem dX10_lawTells_131 : decode cX10_lawTells 131 = .ok (.iload 4, 2) := dk_21 4 (dk_at dksX10_lawTells_5 15 rfl rfl)
theorem dX10_lawTells_133 : decode cX10_lawTells 133 = .ok (.iaload, 1) := dk_46 (dk_at dksX10_lawTells_5 17 rfl rfl)
theorem dX10_lawTells_134 : decode cX10_lawTells 134 = .ok (.invokevirtual 345, 3) := dk_182 1 89 (dk_at dksX10_lawTells_5 18 rfl rfl)
theorem dX10_lawTells_137 : decode cX10_lawTells 137 = .ok (.istore 5, 2) := dk_54 5 (dk_at dksX10_lawTells_5 21 rfl rfl)
theorem dX10_lawTells_139 : decode cX10_lawTells 139 = .ok (.aload_n 0, 1) := dk_42 (dk_at dksX10_lawTells_5 23 rfl rfl)
theorem dX10_lawTells_140 : decode cX10_lawTells 140 = .ok (.getfield 318, 3) := dk_180 1 62 (dk_at dksX10_lawTells_6 0 rfl rfl)
theorem dX10_lawTells_143 : decode cX10_lawTells 143 = .ok (.ifCond .eq 7, 3) := dk_153 0 7 (dk_at dksX10_lawTells_6 3 rfl rfl)
theorem dX10_lawTells_146 : decode cX10_lawTells 146 = .ok (.iconst 0, 1) := dk_3 (dk_at dksX10_lawTells_6 6 rfl rfl)
theorem dX10_lawTells_147 : decode cX10_lawTells 147 = .ok (.goto 5, 3) := dk_167 0 5 (dk_at dksX10_lawTells_6 7 rfl rfl)
theorem dX10_lawTells_150 : decode cX10_lawTells 150 = .ok (.iload 5, 2) := dk_21 5 (dk_at dksX10_lawTells_6 10 rfl rfl)
theorem dX10_lawTells_152 : decode cX10_lawTells 152 = .ok (.ireturn, 1) := dk_172 (dk_at dksX10_lawTells_6 12 rfl rfl)
theorem dX10_lawTells_153 : decode cX10_lawTells 153 = .ok (.iinc 4 1, 3) := dk_132 4 1 (dk_at dksX10_lawTells_6 13 rfl rfl)
theorem dX10_lawTells_156 : decode cX10_lawTells 156 = .ok (.goto (-117), 3) := dk_167 255 139 (dk_at dksX10_lawTells_6 16 rfl rfl)
theorem dX10_lawTells_159 : decode cX10_lawTells 159 = .ok (.iconst 0, 1) := dk_3 (dk_at dksX10_lawTells_6 19 rfl rfl)
theorem dX10_lawTells_160 : decode cX10_lawTells 160 = .ok (.ireturn, 1) := dk_172 (dk_at dksX10_lawTells_6 20 rfl rfl)
def dkwX10_termOf_7 : List UInt8 := [132, 4, 1, 167, 255, 99, 42, 180, 0, 104, 3, 46, 172]
abbrev dktX10_termOf_7 : List UInt8 := dkwX10_termOf_7 ++ []
def dkwX10_termOf_6 : List UInt8 := [167, 0, 22, 21, 5, 7, 160, 0, 11, 21, 6, 21, 7, 104, 167, 0, 8, 21, 6, 21, 7, 108, 79]
abbrev dktX10_termOf_6 : List UInt8 := dkwX10_termOf_6 ++ dktX10_termOf_7
def dkwX10_termOf_5 : List UInt8 := [160, 0, 11, 21, 6, 21, 7, 96, 167, 0, 36, 21, 5, 6, 160, 0, 11, 21, 6, 21, 7, 100]
abbrev dktX10_termOf_5 : List UInt8 := dkwX10_termOf_5 ++ dktX10_termOf_6
def dkwX10_termOf_4 : List UInt8 := [21, 7, 154, 0, 10, 42, 4, 181, 1, 62, 3, 172, 42, 180, 0, 104, 29, 4, 100, 21, 5, 5]
abbrev dktX10_termOf_4 : List UInt8 := dkwX10_termOf_4 ++ dktX10_termOf_5
def dkwX10_termOf_3 : List UInt8 := [180, 0, 104, 29, 4, 100, 46, 54, 6, 42, 180, 0, 104, 29, 46, 54, 7, 21, 5, 8, 160, 0, 15]
abbrev dktX10_termOf_3 : List UInt8 := dkwX10_termOf_3 ++ dktX10_termOf_4
def dkwX10_termOf_2 : List UInt8 := [180, 0, 101, 42, 180, 0, 95, 21, 4, 46, 46, 79, 132, 3, 1, 167, 0, 97, 132, 3, 255, 42]
abbrev dktX10_termOf_2 : List UInt8 := dkwX10_termOf_2 ++ dktX10_termOf_3
def dkwX10_termOf_1 : List UInt8 := [162, 0, 42, 42, 180, 0, 104, 29, 21, 5, 154, 0, 13, 42, 180, 0, 95, 21, 4, 46, 167, 0, 15, 42]
abbrev dktX10_termOf_1 : List UInt8 := dkwX10_termOf_1 ++ dktX10_termOf_2
def dkwX10_termOf_0 : List UInt8 := [3, 62, 27, 54, 4, 21, 4, 28, 162, 0, 157, 42, 180, 0, 92, 21, 4, 46, 54, 5, 21, 5, 5]
abbrev dktX10_termOf_0 : List UInt8 := dkwX10_termOf_0 ++ dktX10_termOf_1
theorem dksX10_termOf_0 : cX10_termOf.data.toList.drop 0 = dktX10_termOf_0 := by decide +kernel
theorem dksX10_termOf_1 : cX10_termOf.data.toList.drop 23 = dktX10_termOf_1 := dk_seg dksX10_termOf_0 23 rfl rfl
theorem dksX10_termOf_2 : cX10_termOf.data.toList.drop 47 = dktX10_termOf_2 := dk_seg dksX10_termOf_1 24 rfl rfl
theorem dksX10_termOf_3 : cX10_termOf.data.toList.drop 69 = dktX10_termOf_3 := dk_seg dksX10_termOf_2 22 rfl rfl
theorem dksX10_termOf_4 : cX10_termOf.data.toList.drop 92 = dktX10_termOf_4 := dk_seg dksX10_termOf_3 23 rfl rfl
theorem dksX10_termOf_5 : cX10_termOf.data.toList.drop 114 = dktX10_termOf_5 := dk_seg dksX10_termOf_4 22 rfl rfl
theorem dksX10_termOf_6 : cX10_termOf.data.toList.drop 136 = dktX10_termOf_6 := dk_seg dksX10_termOf_5 22 rfl rfl
theorem dksX10_termOf_7 : cX10_termOf.data.toList.drop 159 = dktX10_termOf_7 := dk_seg dksX10_termOf_6 23 rfl rfl
theorem dX10_termOf_0 : decode cX10_termOf 0 = .ok (.iconst 0, 1) := dk_3 (dk_at dksX10_termOf_0 0 rfl rfl)
theorem dX10_termOf_1 : decode cX10_termOf 1 = .ok (.istore_n 3, 1) := dk_62 (dk_at dksX10_termOf_0 1 rfl rfl)
theorem dX10_termOf_2 : decode cX10_termOf 2 = .ok (.iload_n 1, 1) := dk_27 (dk_at dksX10_termOf_0 2 rfl rfl)
theorem dX10_termOf_3 : decode cX10_termOf 3 = .ok (.istore 4, 2) := dk_54 4 (dk_at dksX10_termOf_0 3 rfl rfl)
theorem dX10_termOf_5 : decode cX10_termOf 5 = .ok (.iload 4, 2) := dk_21 4 (dk_at dksX10_termOf_0 5 rfl rfl)
theorem dX10_termOf_7 : decode cX10_termOf 7 = .ok (.iload_n 2, 1) := dk_28 (dk_at dksX10_termOf_0 7 rfl rfl)
theorem dX10_termOf_8 : decode cX10_termOf 8 = .ok (.if_icmp .ge 157, 3) := dk_162 0 157 (dk_at dksX10_termOf_0 8 rfl rfl)
theorem dX10_termOf_11 : decode cX10_termOf 11 = .ok (.aload_n 0, 1) := dk_42 (dk_at dksX10_termOf_0 11 rfl rfl)
theorem dX10_termOf_12 : decode cX10_termOf 12 = .ok (.getfield 92, 3) := dk_180 0 92 (dk_at dksX10_termOf_0 12 rfl rfl)
theorem dX10_termOf_15 : decode cX10_termOf 15 = .ok (.iload 4, 2) := dk_21 4 (dk_at dksX10_termOf_0 15 rfl rfl)
theorem dX10_termOf_17 : decode cX10_termOf 17 = .ok (.iaload, 1) := dk_46 (dk_at dksX10_termOf_0 17 rfl rfl)
theorem dX10_termOf_18 : decode cX10_termOf 18 = .ok (.istore 5, 2) := dk_54 5 (dk_at dksX10_termOf_0 18 rfl rfl)
theorem dX10_termOf_20 : decode cX10_termOf 20 = .ok (.iload 5, 2) := dk_21 5 (dk_at dksX10_termOf_0 20 rfl rfl)
theorem dX10_termOf_22 : decode cX10_termOf 22 = .ok (.iconst 2, 1) := dk_5 (dk_at dksX10_termOf_0 22 rfl rfl)
theorem dX10_termOf_23 : decode cX10_termOf 23 = .ok (.if_icmp .ge 42, 3) := dk_162 0 42 (dk_at dksX10_termOf_1 0 rfl rfl)
theorem dX10_termOf_26 : decode cX10_termOf 26 = .ok (.aload_n 0, 1) := dk_42 (dk_at dksX10_termOf_1 3 rfl rfl)
theorem dX10_termOf_27 : decode cX10_termOf 27 = .ok (.getfield 104, 3) := dk_180 0 104 (dk_at dksX10_termOf_1 4 rfl rfl)
theorem dX10_termOf_30 : decode cX10_termOf 30 = .ok (.iload_n 3, 1) := dk_29 (dk_at dksX10_termOf_1 7 rfl rfl)
theorem dX10_termOf_31 : decode cX10_termOf 31 = .ok (.iload 5, 2) := dk_21 5 (dk_at dksX10_termOf_1 8 rfl rfl)
theorem dX10_termOf_33 : decode cX10_termOf 33 = .ok (.ifCond .ne 13, 3) := dk_154 0 13 (dk_at dksX10_termOf_1 10 rfl rfl)
theorem dX10_termOf_36 : decode cX10_termOf 36 = .ok (.aload_n 0, 1) := dk_42 (dk_at dksX10_termOf_1 13 rfl rfl)
theorem dX10_termOf_37 : decode cX10_termOf 37 = .ok (.getfield 95, 3) := dk_180 0 95 (dk_at dksX10_termOf_1 14 rfl rfl)
theorem dX10_termOf_40 : decode cX10_termOf 40 = .ok (.iload 4, 2) := dk_21 4 (dk_at dksX10_termOf_1 17 rfl rfl)
theorem dX10_termOf_42 : decode cX10_termOf 42 = .ok (.iaload, 1) := dk_46 (dk_at dksX10_termOf_1 19 rfl rfl)
theorem dX10_termOf_43 : decode cX10_termOf 43 = .ok (.goto 15, 3) := dk_167 0 15 (dk_at dksX10_termOf_1 20 rfl rfl)
theorem dX10_termOf_46 : decode cX10_termOf 46 = .ok (.aload_n 0, 1) := dk_42 (dk_at dksX10_termOf_1 23 rfl rfl)
theorem dX10_termOf_47 : decode cX10_termOf 47 = .ok (.getfield 101, 3) := dk_180 0 101 (dk_at dksX10_termOf_2 0 rfl rfl)
theorem dX10_termOf_50 : decode cX10_termOf 50 = .ok (.aload_n 0, 1) := dk_42 (dk_at dksX10_termOf_2 3 rfl rfl)
theorem dX10_termOf_51 : decode cX10_termOf 51 = .ok (.getfield 95, 3) := dk_180 0 95 (dk_at dksX10_termOf_2 4 rfl rfl)
theorem dX10_termOf_54 : decode cX10_termOf 54 = .ok (.iload 4, 2) := dk_21 4 (dk_at dksX10_termOf_2 7 rfl rfl)
theorem dX10_termOf_56 : decode cX10_termOf 56 = .ok (.iaload, 1) := dk_46 (dk_at dksX10_termOf_2 9 rfl rfl)
theorem dX10_termOf_57 : decode cX10_termOf 57 = .ok (.iaload, 1) := dk_46 (dk_at dksX10_termOf_2 10 rfl rfl)
theorem dX10_termOf_58 : decode cX10_termOf 58 = .ok (.iastore, 1) := dk_79 (dk_at dksX10_termOf_2 11 rfl rfl)
theorem dX10_termOf_59 : decode cX10_termOf 59 = .ok (.iinc 3 1, 3) := dk_132 3 1 (dk_at dksX10_termOf_2 12 rfl rfl)
theorem dX10_termOf_62 : decode cX10_termOf 62 = .ok (.goto 97, 3) := dk_167 0 97 (dk_at dksX10_termOf_2 15 rfl rfl)
theorem dX10_termOf_65 : decode cX10_termOf 65 = .ok (.iinc 3 (-1), 3) := dk_132 3 255 (dk_at dksX10_termOf_2 18 rfl rfl)
theorem dX10_termOf_68 : decode cX10_termOf 68 = .ok (.aload_n 0, 1) := dk_42 (dk_at dksX10_termOf_2 21 rfl rfl)
theorem dX10_termOf_69 : decode cX10_termOf 69 = .ok (.getfield 104, 3) := dk_180 0 104 (dk_at dksX10_termOf_3 0 rfl rfl)
theorem dX10_termOf_72 : decode cX10_termOf 72 = .ok (.iload_n 3, 1) := dk_29 (dk_at dksX10_termOf_3 3 rfl rfl)
theorem dX10_termOf_73 : decode cX10_termOf 73 = .ok (.iconst 1, 1) := dk_4 (dk_at dksX10_termOf_3 4 rfl rfl)
theorem dX10_termOf_74 : decode cX10_termOf 74 = .ok (.isub, 1) := dk_100 (dk_at dksX10_termOf_3 5 rfl rfl)
theorem dX10_termOf_75 : decode cX10_termOf 75 = .ok (.iaload, 1) := dk_46 (dk_at dksX10_termOf_3 6 rfl rfl)
theorem dX10_termOf_76 : decode cX10_termOf 76 = .ok (.istore 6, 2) := dk_54 6 (dk_at dksX10_termOf_3 7 rfl rfl)
theorem dX10_termOf_78 : decode cX10_termOf 78 = .ok (.aload_n 0, 1) := dk_42 (dk_at dksX10_termOf_3 9 rfl rfl)
theorem dX10_termOf_79 : decode cX10_termOf 79 = .ok (.getfield 104, 3) := dk_180 0 104 (dk_at dksX10_termOf_3 10 rfl rfl)
theorem dX10_termOf_82 : decode cX10_termOf 82 = .ok (.iload_n 3, 1) := dk_29 (dk_at dksX10_termOf_3 13 rfl rfl)
theorem dX10_termOf_83 : decode cX10_termOf 83 = .ok (.iaload, 1) := dk_46 (dk_at dksX10_termOf_3 14 rfl rfl)
theorem dX10_termOf_84 : decode cX10_termOf 84 = .ok (.istore 7, 2) := dk_54 7 (dk_at dksX10_termOf_3 15 rfl rfl)
theorem dX10_termOf_86 : decode cX10_termOf 86 = .ok (.iload 5, 2) := dk_21 5 (dk_at dksX10_termOf_3 17 rfl rfl)
theorem dX10_termOf_88 : decode cX10_termOf 88 = .ok (.iconst 5, 1) := dk_8 (dk_at dksX10_termOf_3 19 rfl rfl)
theorem dX10_termOf_89 : decode cX10_termOf 89 = .ok (.if_icmp .ne 15, 3) := dk_160 0 15 (dk_at dksX10_termOf_3 20 rfl rfl)
theorem dX10_termOf_92 : decode cX10_termOf 92 = .ok (.iload 7, 2) := dk_21 7 (dk_at dksX10_termOf_4 0 rfl rfl)
theorem dX10_termOf_94 : decode cX10_termOf 94 = .ok (.ifCond .ne 10, 3) := dk_154 0 10 (dk_at dksX10_termOf_4 2 rfl rfl)
theorem dX10_termOf_97 : decode cX10_termOf 97 = .ok (.aload_n 0, 1) := dk_42 (dk_at dksX10_termOf_4 5 rfl rfl)
theorem dX10_termOf_98 : decode cX10_termOf 98 = .ok (.iconst 1, 1) := dk_4 (dk_at dksX10_termOf_4 6 rfl rfl)
theorem dX10_termOf_99 : decode cX10_termOf 99 = .ok (.putfield 318, 3) := dk_181 1 62 (dk_at dksX10_termOf_4 7 rfl rfl)
theorem dX10_termOf_102 : decode cX10_termOf 102 = .ok (.iconst 0, 1) := dk_3 (dk_at dksX10_termOf_4 10 rfl rfl)
theorem dX10_termOf_103 : decode cX10_termOf 103 = .ok (.ireturn, 1) := dk_172 (dk_at dksX10_termOf_4 11 rfl rfl)
theorem dX10_termOf_104 : decode cX10_termOf 104 = .ok (.aload_n 0, 1) := dk_42 (dk_at dksX10_termOf_4 12 rfl rfl)
theorem dX10_termOf_105 : decode cX10_termOf 105 = .ok (.getfield 104, 3) := dk_180 0 104 (dk_at dksX10_termOf_4 13 rfl rfl)
theorem dX10_termOf_108 : decode cX10_termOf 108 = .ok (.iload_n 3, 1) := dk_29 (dk_at dksX10_termOf_4 16 rfl rfl)
theorem dX10_termOf_109 : decode cX10_termOf 109 = .ok (.iconst 1, 1) := dk_4 (dk_at dksX10_termOf_4 17 rfl rfl)
theorem dX10_termOf_110 : decode cX10_termOf 110 = .ok (.isub, 1) := dk_100 (dk_at dksX10_termOf_4 18 rfl rfl)
theorem dX10_termOf_111 : decode cX10_termOf 111 = .ok (.iload 5, 2) := dk_21 5 (dk_at dksX10_termOf_4 19 rfl rfl)
theorem dX10_termOf_113 : decode cX10_termOf 113 = .ok (.iconst 2, 1) := dk_5 (dk_at dksX10_termOf_4 21 rfl rfl)
theorem dX10_termOf_114 : decode cX10_termOf 114 = .ok (.if_icmp .ne 11, 3) := dk_160 0 11 (dk_at dksX10_termOf_5 0 rfl rfl)
theorem dX10_termOf_117 : decode cX10_termOf 117 = .ok (.iload 6, 2) := dk_21 6 (dk_at dksX10_termOf_5 3 rfl rfl)
theorem dX10_termOf_119 : decode cX10_termOf 119 = .ok (.iload 7, 2) := dk_21 7 (dk_at dksX10_termOf_5 5 rfl rfl)
theorem dX10_termOf_121 : decode cX10_termOf 121 = .ok (.iadd, 1) := dk_96 (dk_at dksX10_termOf_5 7 rfl rfl)
theorem dX10_termOf_122 : decode cX10_termOf 122 = .ok (.goto 36, 3) := dk_167 0 36 (dk_at dksX10_termOf_5 8 rfl rfl)
theorem dX10_termOf_125 : decode cX10_termOf 125 = .ok (.iload 5, 2) := dk_21 5 (dk_at dksX10_termOf_5 11 rfl rfl)
theorem dX10_termOf_127 : decode cX10_termOf 127 = .ok (.iconst 3, 1) := dk_6 (dk_at dksX10_termOf_5 13 rfl rfl)
theorem dX10_termOf_128 : decode cX10_termOf 128 = .ok (.if_icmp .ne 11, 3) := dk_160 0 11 (dk_at dksX10_termOf_5 14 rfl rfl)
theorem dX10_termOf_131 : decode cX10_termOf 131 = .ok (.iload 6, 2) := dk_21 6 (dk_at dksX10_termOf_5 17 rfl rfl)
theorem dX10_termOf_133 : decode cX10_termOf 133 = .ok (.iload 7, 2) := dk_21 7 (dk_at dksX10_termOf_5 19 rfl rfl)
theorem dX10_termOf_135 : decode cX10_termOf 135 = .ok (.isub, 1) := dk_100 (dk_at dksX10_termOf_5 21 rfl rfl)
theorem dX10_termOf_136 : decode cX10_termOf 136 = .ok (.goto 22, 3) := dk_167 0 22 (dk_at dksX10_termOf_6 0 rfl rfl)
theorem dX10_termOf_139 : decode cX10_termOf 139 = .ok (.iload 5, 2) := dk_21 5 (dk_at dksX10_termOf_6 3 rfl rfl)
theorem dX10_termOf_141 : decode cX10_termOf 141 = .ok (.iconst 4, 1) := dk_7 (dk_at dksX10_termOf_6 5 rfl rfl)
theorem dX10_termOf_142 : decode cX10_termOf 142 = .ok (.if_icmp .ne 11, 3) := dk_160 0 11 (dk_at dksX10_termOf_6 6 rfl rfl)
theorem dX10_termOf_145 : decode cX10_termOf 145 = .ok (.iload 6, 2) := dk_21 6 (dk_at dksX10_termOf_6 9 rfl rfl)
theorem dX10_termOf_147 : decode cX10_termOf 147 = .ok (.iload 7, 2) := dk_21 7 (dk_at dksX10_termOf_6 11 rfl rfl)
theorem dX10_termOf_149 : decode cX10_termOf 149 = .ok (.imul, 1) := dk_104 (dk_at dksX10_termOf_6 13 rfl rfl)
theorem dX10_termOf_150 : decode cX10_termOf 150 = .ok (.goto 8, 3) := dk_167 0 8 (dk_at dksX10_termOf_6 14 rfl rfl)
theorem dX10_termOf_153 : decode cX10_termOf 153 = .ok (.iload 6, 2) := dk_21 6 (dk_at dksX10_termOf_6 17 rfl rfl)
theorem dX10_termOf_155 : decode cX10_termOf 155 = .ok (.iload 7, 2) := dk_21 7 (dk_at dksX10_termOf_6 19 rfl rfl)
theorem dX10_termOf_157 : decode cX10_termOf 157 = .ok (.idiv, 1) := dk_108 (dk_at dksX10_termOf_6 21 rfl rfl)
theorem dX10_termOf_158 : decode cX10_termOf 158 = .ok (.iastore, 1) := dk_79 (dk_at dksX10_termOf_6 22 rfl rfl)
theorem dX10_termOf_159 : decode cX10_termOf 159 = .ok (.iinc 4 1, 3) := dk_132 4 1 (dk_at dksX10_termOf_7 0 rfl rfl)
theorem dX10_termOf_162 : decode cX10_termOf 162 = .ok (.goto (-157), 3) := dk_167 255 99 (dk_at dksX10_termOf_7 3 rfl rfl)
theorem dX10_termOf_165 : decode cX10_termOf 165 = .ok (.aload_n 0, 1) := dk_42 (dk_at dksX10_termOf_7 6 rfl rfl)
theorem dX10_termOf_166 : decode cX10_termOf 166 = .ok (.getfield 104, 3) := dk_180 0 104 (dk_at dksX10_termOf_7 7 rfl rfl)
theorem dX10_termOf_169 : decode cX10_termOf 169 = .ok (.iconst 0, 1) := dk_3 (dk_at dksX10_termOf_7 10 rfl rfl)
theorem dX10_termOf_170 : decode cX10_termOf 170 = .ok (.iaload, 1) := dk_46 (dk_at dksX10_termOf_7 11 rfl rfl)
theorem dX10_termOf_171 : decode cX10_termOf 171 = .ok (.ireturn, 1) := dk_172 (dk_at dksX10_termOf_7 12 rfl rfl)
def dkwX10_within_0 : List UInt8 := [26, 27, 162, 0, 7, 27, 167, 0, 13, 26, 28, 164, 0, 7, 28, 167, 0, 4, 26, 172]
abbrev dktX10_within_0 : List UInt8 := dkwX10_within_0 ++ []
theorem dksX10_within_0 : cX10_within.data.toList.drop 0 = dktX10_within_0 := by decide +kernel
theorem dX10_within_0 : decode cX10_within 0 = .ok (.iload_n 0, 1) := dk_26 (dk_at dksX10_within_0 0 rfl rfl)
theorem dX10_within_1 : decode cX10_within 1 = .ok (.iload_n 1, 1) := dk_27 (dk_at dksX10_within_0 1 rfl rfl)
theorem dX10_within_2 : decode cX10_within 2 = .ok (.if_icmp .ge 7, 3) := dk_162 0 7 (dk_at dksX10_within_0 2 rfl rfl)
theorem dX10_within_5 : decode cX10_within 5 = .ok (.iload_n 1, 1) := dk_27 (dk_at dksX10_within_0 5 rfl rfl)
theorem dX10_within_6 : decode cX10_within 6 = .ok (.goto 13, 3) := dk_167 0 13 (dk_at dksX10_within_0 6 rfl rfl)
theorem dX10_within_9 : decode cX10_within 9 = .ok (.iload_n 0, 1) := dk_26 (dk_at dksX10_within_0 9 rfl rfl)
theorem dX10_within_10 : decode cX10_within 10 = .ok (.iload_n 2, 1) := dk_28 (dk_at dksX10_within_0 10 rfl rfl)
theorem dX10_within_11 : decode cX10_within 11 = .ok (.if_icmp .le 7, 3) := dk_164 0 7 (dk_at dksX10_within_0 11 rfl rfl)
theorem dX10_within_14 : decode cX10_within 14 = .ok (.iload_n 2, 1) := dk_28 (dk_at dksX10_within_0 14 rfl rfl)
theorem dX10_within_15 : decode cX10_within 15 = .ok (.goto 4, 3) := dk_167 0 4 (dk_at dksX10_within_0 15 rfl rfl)
theorem dX10_within_18 : decode cX10_within 18 = .ok (.iload_n 0, 1) := dk_26 (dk_at dksX10_within_0 18 rfl rfl)
theorem dX10_within_19 : decode cX10_within 19 = .ok (.ireturn, 1) := dk_172 (dk_at dksX10_within_0 19 rfl rfl)
def dkwX10_weakensOf_0 : List UInt8 := [42, 27, 182, 1, 98, 42, 4, 4, 182, 1, 101, 3, 16, 99, 184, 1, 104, 172]
abbrev dktX10_weakensOf_0 : List UInt8 := dkwX10_weakensOf_0 ++ []
theorem dksX10_weakensOf_0 : cX10_weakensOf.data.toList.drop 0 = dktX10_weakensOf_0 := by decide +kernel
theorem dX10_weakensOf_0 : decode cX10_weakensOf 0 = .ok (.aload_n 0, 1) := dk_42 (dk_at dksX10_weakensOf_0 0 rfl rfl)
theorem dX10_weakensOf_1 : decode cX10_weakensOf 1 = .ok (.iload_n 1, 1) := dk_27 (dk_at dksX10_weakensOf_0 1 rfl rfl)
theorem dX10_weakensOf_2 : decode cX10_weakensOf 2 = .ok (.invokevirtual 354, 3) := dk_182 1 98 (dk_at dksX10_weakensOf_0 2 rfl rfl)
theorem dX10_weakensOf_5 : decode cX10_weakensOf 5 = .ok (.aload_n 0, 1) := dk_42 (dk_at dksX10_weakensOf_0 5 rfl rfl)
theorem dX10_weakensOf_6 : decode cX10_weakensOf 6 = .ok (.iconst 1, 1) := dk_4 (dk_at dksX10_weakensOf_0 6 rfl rfl)
theorem dX10_weakensOf_7 : decode cX10_weakensOf 7 = .ok (.iconst 1, 1) := dk_4 (dk_at dksX10_weakensOf_0 7 rfl rfl)
theorem dX10_weakensOf_8 : decode cX10_weakensOf 8 = .ok (.invokevirtual 357, 3) := dk_182 1 101 (dk_at dksX10_weakensOf_0 8 rfl rfl)
theorem dX10_weakensOf_11 : decode cX10_weakensOf 11 = .ok (.iconst 0, 1) := dk_3 (dk_at dksX10_weakensOf_0 11 rfl rfl)
theorem dX10_weakensOf_12 : decode cX10_weakensOf 12 = .ok (.bipush 99, 2) := dk_16 99 (dk_at dksX10_weakensOf_0 12 rfl rfl)
theorem dX10_weakensOf_14 : decode cX10_weakensOf 14 = .ok (.invokestatic 360, 3) := dk_184 1 104 (dk_at dksX10_weakensOf_0 14 rfl rfl)
theorem dX10_weakensOf_17 : decode cX10_weakensOf 17 = .ok (.ireturn, 1) := dk_172 (dk_at dksX10_weakensOf_0 17 rfl rfl)
def dkwX10_costsOf_0 : List UInt8 := [42, 27, 182, 1, 98, 42, 6, 42, 180, 0, 101, 3, 46, 182, 1, 101, 3, 16, 99, 184, 1, 104, 172]
abbrev dktX10_costsOf_0 : List UInt8 := dkwX10_costsOf_0 ++ []
theorem dksX10_costsOf_0 : cX10_costsOf.data.toList.drop 0 = dktX10_costsOf_0 := by decide +kernel
theorem dX10_costsOf_0 : decode cX10_costsOf 0 = .ok (.aload_n 0, 1) := dk_42 (dk_at dksX10_costsOf_0 0 rfl rfl)
theorem dX10_costsOf_1 : decode cX10_costsOf 1 = .ok (.iload_n 1, 1) := dk_27 (dk_at dksX10_costsOf_0 1 rfl rfl)
theorem dX10_costsOf_2 : decode cX10_costsOf 2 = .ok (.invokevirtual 354, 3) := dk_182 1 98 (dk_at dksX10_costsOf_0 2 rfl rfl)
theorem dX10_costsOf_5 : decode cX10_costsOf 5 = .ok (.aload_n 0, 1) := dk_42 (dk_at dksX10_costsOf_0 5 rfl rfl)
theorem dX10_costsOf_6 : decode cX10_costsOf 6 = .ok (.iconst 3, 1) := dk_6 (dk_at dksX10_costsOf_0 6 rfl rfl)
theorem dX10_costsOf_7 : decode cX10_costsOf 7 = .ok (.aload_n 0, 1) := dk_42 (dk_at dksX10_costsOf_0 7 rfl rfl)
theorem dX10_costsOf_8 : decode cX10_costsOf 8 = .ok (.getfield 101, 3) := dk_180 0 101 (dk_at dksX10_costsOf_0 8 rfl rfl)
theorem dX10_costsOf_11 : decode cX10_costsOf 11 = .ok (.iconst 0, 1) := dk_3 (dk_at dksX10_costsOf_0 11 rfl rfl)
theorem dX10_costsOf_12 : decode cX10_costsOf 12 = .ok (.iaload, 1) := dk_46 (dk_at dksX10_costsOf_0 12 rfl rfl)
theorem dX10_costsOf_13 : decode cX10_costsOf 13 = .ok (.invokevirtual 357, 3) := dk_182 1 101 (dk_at dksX10_costsOf_0 13 rfl rfl)
theorem dX10_costsOf_16 : decode cX10_costsOf 16 = .ok (.iconst 0, 1) := dk_3 (dk_at dksX10_costsOf_0 16 rfl rfl)
theorem dX10_costsOf_17 : decode cX10_costsOf 17 = .ok (.bipush 99, 2) := dk_16 99 (dk_at dksX10_costsOf_0 17 rfl rfl)
theorem dX10_costsOf_19 : decode cX10_costsOf 19 = .ok (.invokestatic 360, 3) := dk_184 1 104 (dk_at dksX10_costsOf_0 19 rfl rfl)
theorem dX10_costsOf_22 : decode cX10_costsOf 22 = .ok (.ireturn, 1) := dk_172 (dk_at dksX10_costsOf_0 22 rfl rfl)
def dkwX10_likes_0 : List UInt8 := [42, 27, 28, 182, 1, 143, 153, 0, 12, 42, 27, 28, 182, 1, 107, 167, 0, 4, 2, 172]
abbrev dktX10_likes_0 : List UInt8 := dkwX10_likes_0 ++ []
theorem dksX10_likes_0 : cX10_likes.data.toList.drop 0 = dktX10_likes_0 := by decide +kernel
theorem dX10_likes_0 : decode cX10_likes 0 = .ok (.aload_n 0, 1) := dk_42 (dk_at dksX10_likes_0 0 rfl rfl)
theorem dX10_likes_1 : decode cX10_likes 1 = .ok (.iload_n 1, 1) := dk_27 (dk_at dksX10_likes_0 1 rfl rfl)
theorem dX10_likes_2 : decode cX10_likes 2 = .ok (.iload_n 2, 1) := dk_28 (dk_at dksX10_likes_0 2 rfl rfl)
theorem dX10_likes_3 : decode cX10_likes 3 = .ok (.invokevirtual 399, 3) := dk_182 1 143 (dk_at dksX10_likes_0 3 rfl rfl)
theorem dX10_likes_6 : decode cX10_likes 6 = .ok (.ifCond .eq 12, 3) := dk_153 0 12 (dk_at dksX10_likes_0 6 rfl rfl)
theorem dX10_likes_9 : decode cX10_likes 9 = .ok (.aload_n 0, 1) := dk_42 (dk_at dksX10_likes_0 9 rfl rfl)
theorem dX10_likes_10 : decode cX10_likes 10 = .ok (.iload_n 1, 1) := dk_27 (dk_at dksX10_likes_0 10 rfl rfl)
theorem dX10_likes_11 : decode cX10_likes 11 = .ok (.iload_n 2, 1) := dk_28 (dk_at dksX10_likes_0 11 rfl rfl)
theorem dX10_likes_12 : decode cX10_likes 12 = .ok (.invokevirtual 363, 3) := dk_182 1 107 (dk_at dksX10_likes_0 12 rfl rfl)
theorem dX10_likes_15 : decode cX10_likes 15 = .ok (.goto 4, 3) := dk_167 0 4 (dk_at dksX10_likes_0 15 rfl rfl)
theorem dX10_likes_18 : decode cX10_likes 18 = .ok (.iconst (-1), 1) := dk_2 (dk_at dksX10_likes_0 18 rfl rfl)
theorem dX10_likes_19 : decode cX10_likes 19 = .ok (.ireturn, 1) := dk_172 (dk_at dksX10_likes_0 19 rfl rfl)
def dkwX10_areTwo_1 : List UInt8 := [167, 0, 4, 3, 172]
abbrev dktX10_areTwo_1 : List UInt8 := dkwX10_areTwo_1 ++ []
def dkwX10_areTwo_0 : List UInt8 := [42, 27, 182, 1, 137, 153, 0, 20, 42, 28, 182, 1, 137, 153, 0, 12, 27, 28, 159, 0, 7, 4]
abbrev dktX10_areTwo_0 : List UInt8 := dkwX10_areTwo_0 ++ dktX10_areTwo_1
theorem dksX10_areTwo_0 : cX10_areTwo.data.toList.drop 0 = dktX10_areTwo_0 := by decide +kernel
theorem dksX10_areTwo_1 : cX10_areTwo.data.toList.drop 22 = dktX10_areTwo_1 := dk_seg dksX10_areTwo_0 22 rfl rfl
theorem dX10_areTwo_0 : decode cX10_areTwo 0 = .ok (.aload_n 0, 1) := dk_42 (dk_at dksX10_areTwo_0 0 rfl rfl)
theorem dX10_areTwo_1 : decode cX10_areTwo 1 = .ok (.iload_n 1, 1) := dk_27 (dk_at dksX10_areTwo_0 1 rfl rfl)
theorem dX10_areTwo_2 : decode cX10_areTwo 2 = .ok (.invokevirtual 393, 3) := dk_182 1 137 (dk_at dksX10_areTwo_0 2 rfl rfl)
theorem dX10_areTwo_5 : decode cX10_areTwo 5 = .ok (.ifCond .eq 20, 3) := dk_153 0 20 (dk_at dksX10_areTwo_0 5 rfl rfl)
theorem dX10_areTwo_8 : decode cX10_areTwo 8 = .ok (.aload_n 0, 1) := dk_42 (dk_at dksX10_areTwo_0 8 rfl rfl)
theorem dX10_areTwo_9 : decode cX10_areTwo 9 = .ok (.iload_n 2, 1) := dk_28 (dk_at dksX10_areTwo_0 9 rfl rfl)
theorem dX10_areTwo_10 : decode cX10_areTwo 10 = .ok (.invokevirtual 393, 3) := dk_182 1 137 (dk_at dksX10_areTwo_0 10 rfl rfl)
theorem dX10_areTwo_13 : decode cX10_areTwo 13 = .ok (.ifCond .eq 12, 3) := dk_153 0 12 (dk_at dksX10_areTwo_0 13 rfl rfl)
theorem dX10_areTwo_16 : decode cX10_areTwo 16 = .ok (.iload_n 1, 1) := dk_27 (dk_at dksX10_areTwo_0 16 rfl rfl)
theorem dX10_areTwo_17 : decode cX10_areTwo 17 = .ok (.iload_n 2, 1) := dk_28 (dk_at dksX10_areTwo_0 17 rfl rfl)
theorem dX10_areTwo_18 : decode cX10_areTwo 18 = .ok (.if_icmp .eq 7, 3) := dk_159 0 7 (dk_at dksX10_areTwo_0 18 rfl rfl)
theorem dX10_areTwo_21 : decode cX10_areTwo 21 = .ok (.iconst 1, 1) := dk_4 (dk_at dksX10_areTwo_0 21 rfl rfl)
theorem dX10_areTwo_22 : decode cX10_areTwo 22 = .ok (.goto 4, 3) := dk_167 0 4 (dk_at dksX10_areTwo_1 0 rfl rfl)
theorem dX10_areTwo_25 : decode cX10_areTwo 25 = .ok (.iconst 0, 1) := dk_3 (dk_at dksX10_areTwo_1 3 rfl rfl)
theorem dX10_areTwo_26 : decode cX10_areTwo 26 = .ok (.ireturn, 1) := dk_172 (dk_at dksX10_areTwo_1 4 rfl rfl)
def dkwX10_likeOf_0 : List UInt8 := [42, 180, 0, 55, 16, 36, 42, 180, 0, 245, 104, 16, 6, 27, 104, 96, 28, 96, 46, 172]
abbrev dktX10_likeOf_0 : List UInt8 := dkwX10_likeOf_0 ++ []
theorem dksX10_likeOf_0 : cX10_likeOf.data.toList.drop 0 = dktX10_likeOf_0 := by decide +kernel
theorem dX10_likeOf_0 : decode cX10_likeOf 0 = .ok (.aload_n 0, 1) := dk_42 (dk_at dksX10_likeOf_0 0 rfl rfl)
theorem dX10_likeOf_1 : decode cX10_likeOf 1 = .ok (.getfield 55, 3) := dk_180 0 55 (dk_at dksX10_likeOf_0 1 rfl rfl)
theorem dX10_likeOf_4 : decode cX10_likeOf 4 = .ok (.bipush 36, 2) := dk_16 36 (dk_at dksX10_likeOf_0 4 rfl rfl)
theorem dX10_likeOf_6 : decode cX10_likeOf 6 = .ok (.aload_n 0, 1) := dk_42 (dk_at dksX10_likeOf_0 6 rfl rfl)
theorem dX10_likeOf_7 : decode cX10_likeOf 7 = .ok (.getfield 245, 3) := dk_180 0 245 (dk_at dksX10_likeOf_0 7 rfl rfl)
theorem dX10_likeOf_10 : decode cX10_likeOf 10 = .ok (.imul, 1) := dk_104 (dk_at dksX10_likeOf_0 10 rfl rfl)
theorem dX10_likeOf_11 : decode cX10_likeOf 11 = .ok (.bipush 6, 2) := dk_16 6 (dk_at dksX10_likeOf_0 11 rfl rfl)
theorem dX10_likeOf_13 : decode cX10_likeOf 13 = .ok (.iload_n 1, 1) := dk_27 (dk_at dksX10_likeOf_0 13 rfl rfl)
theorem dX10_likeOf_14 : decode cX10_likeOf 14 = .ok (.imul, 1) := dk_104 (dk_at dksX10_likeOf_0 14 rfl rfl)
theorem dX10_likeOf_15 : decode cX10_likeOf 15 = .ok (.iadd, 1) := dk_96 (dk_at dksX10_likeOf_0 15 rfl rfl)
theorem dX10_likeOf_16 : decode cX10_likeOf 16 = .ok (.iload_n 2, 1) := dk_28 (dk_at dksX10_likeOf_0 16 rfl rfl)
theorem dX10_likeOf_17 : decode cX10_likeOf 17 = .ok (.iadd, 1) := dk_96 (dk_at dksX10_likeOf_0 17 rfl rfl)
theorem dX10_likeOf_18 : decode cX10_likeOf 18 = .ok (.iaload, 1) := dk_46 (dk_at dksX10_likeOf_0 18 rfl rfl)
theorem dX10_likeOf_19 : decode cX10_likeOf 19 = .ok (.ireturn, 1) := dk_172 (dk_at dksX10_likeOf_0 19 rfl rfl)
def dkwX10_joins_0 : List UInt8 := [42, 27, 28, 182, 1, 143, 154, 0, 5, 2, 172, 42, 182, 1, 76, 42, 27, 28, 182, 1, 116, 172]
abbrev dktX10_joins_0 : List UInt8 := dkwX10_joins_0 ++ []
theorem dksX10_joins_0 : cX10_joins.data.toList.drop 0 = dktX10_joins_0 := by decide +kernel
theorem dX10_joins_0 : decode cX10_joins 0 = .ok (.aload_n 0, 1) := dk_42 (dk_at dksX10_joins_0 0 rfl rfl)
theorem dX10_joins_1 : decode cX10_joins 1 = .ok (.iload_n 1, 1) := dk_27 (dk_at dksX10_joins_0 1 rfl rfl)
theorem dX10_joins_2 : decode cX10_joins 2 = .ok (.iload_n 2, 1) := dk_28 (dk_at dksX10_joins_0 2 rfl rfl)
theorem dX10_joins_3 : decode cX10_joins 3 = .ok (.invokevirtual 399, 3) := dk_182 1 143 (dk_at dksX10_joins_0 3 rfl rfl)
theorem dX10_joins_6 : decode cX10_joins 6 = .ok (.ifCond .ne 5, 3) := dk_154 0 5 (dk_at dksX10_joins_0 6 rfl rfl)
theorem dX10_joins_9 : decode cX10_joins 9 = .ok (.iconst (-1), 1) := dk_2 (dk_at dksX10_joins_0 9 rfl rfl)
theorem dX10_joins_10 : decode cX10_joins 10 = .ok (.ireturn, 1) := dk_172 (dk_at dksX10_joins_0 10 rfl rfl)
theorem dX10_joins_11 : decode cX10_joins 11 = .ok (.aload_n 0, 1) := dk_42 (dk_at dksX10_joins_0 11 rfl rfl)
theorem dX10_joins_12 : decode cX10_joins 12 = .ok (.invokevirtual 332, 3) := dk_182 1 76 (dk_at dksX10_joins_0 12 rfl rfl)
theorem dX10_joins_15 : decode cX10_joins 15 = .ok (.aload_n 0, 1) := dk_42 (dk_at dksX10_joins_0 15 rfl rfl)
theorem dX10_joins_16 : decode cX10_joins 16 = .ok (.iload_n 1, 1) := dk_27 (dk_at dksX10_joins_0 16 rfl rfl)
theorem dX10_joins_17 : decode cX10_joins 17 = .ok (.iload_n 2, 1) := dk_28 (dk_at dksX10_joins_0 17 rfl rfl)
theorem dX10_joins_18 : decode cX10_joins 18 = .ok (.invokevirtual 372, 3) := dk_182 1 116 (dk_at dksX10_joins_0 18 rfl rfl)
theorem dX10_joins_21 : decode cX10_joins 21 = .ok (.ireturn, 1) := dk_172 (dk_at dksX10_joins_0 21 rfl rfl)
def dkwX10_joinsOf_0 : List UInt8 := [42, 27, 28, 42, 27, 28, 182, 1, 107, 182, 1, 110, 172]
abbrev dktX10_joinsOf_0 : List UInt8 := dkwX10_joinsOf_0 ++ []
theorem dksX10_joinsOf_0 : cX10_joinsOf.data.toList.drop 0 = dktX10_joinsOf_0 := by decide +kernel
theorem dX10_joinsOf_0 : decode cX10_joinsOf 0 = .ok (.aload_n 0, 1) := dk_42 (dk_at dksX10_joinsOf_0 0 rfl rfl)
theorem dX10_joinsOf_1 : decode cX10_joinsOf 1 = .ok (.iload_n 1, 1) := dk_27 (dk_at dksX10_joinsOf_0 1 rfl rfl)
theorem dX10_joinsOf_2 : decode cX10_joinsOf 2 = .ok (.iload_n 2, 1) := dk_28 (dk_at dksX10_joinsOf_0 2 rfl rfl)
theorem dX10_joinsOf_3 : decode cX10_joinsOf 3 = .ok (.aload_n 0, 1) := dk_42 (dk_at dksX10_joinsOf_0 3 rfl rfl)
theorem dX10_joinsOf_4 : decode cX10_joinsOf 4 = .ok (.iload_n 1, 1) := dk_27 (dk_at dksX10_joinsOf_0 4 rfl rfl)
theorem dX10_joinsOf_5 : decode cX10_joinsOf 5 = .ok (.iload_n 2, 1) := dk_28 (dk_at dksX10_joinsOf_0 5 rfl rfl)
theorem dX10_joinsOf_6 : decode cX10_joinsOf 6 = .ok (.invokevirtual 363, 3) := dk_182 1 107 (dk_at dksX10_joinsOf_0 6 rfl rfl)
theorem dX10_joinsOf_9 : decode cX10_joinsOf 9 = .ok (.invokevirtual 366, 3) := dk_182 1 110 (dk_at dksX10_joinsOf_0 9 rfl rfl)
theorem dX10_joinsOf_12 : decode cX10_joinsOf 12 = .ok (.ireturn, 1) := dk_172 (dk_at dksX10_joinsOf_0 12 rfl rfl)
def dkwX10_joinsBy_1 : List UInt8 := [42, 5, 16, 10, 29, 104, 182, 1, 101, 3, 17, 3, 231, 184, 1, 104, 172]
abbrev dktX10_joinsBy_1 : List UInt8 := dkwX10_joinsBy_1 ++ []
def dkwX10_joinsBy_0 : List UInt8 := [42, 27, 182, 1, 98, 42, 180, 0, 101, 5, 29, 79, 42, 180, 0, 101, 16, 8, 42, 28, 182, 1, 92, 79]
abbrev dktX10_joinsBy_0 : List UInt8 := dkwX10_joinsBy_0 ++ dktX10_joinsBy_1
theorem dksX10_joinsBy_0 : cX10_joinsBy.data.toList.drop 0 = dktX10_joinsBy_0 := by decide +kernel
theorem dksX10_joinsBy_1 : cX10_joinsBy.data.toList.drop 24 = dktX10_joinsBy_1 := dk_seg dksX10_joinsBy_0 24 rfl rfl
theorem dX10_joinsBy_0 : decode cX10_joinsBy 0 = .ok (.aload_n 0, 1) := dk_42 (dk_at dksX10_joinsBy_0 0 rfl rfl)
theorem dX10_joinsBy_1 : decode cX10_joinsBy 1 = .ok (.iload_n 1, 1) := dk_27 (dk_at dksX10_joinsBy_0 1 rfl rfl)
theorem dX10_joinsBy_2 : decode cX10_joinsBy 2 = .ok (.invokevirtual 354, 3) := dk_182 1 98 (dk_at dksX10_joinsBy_0 2 rfl rfl)
theorem dX10_joinsBy_5 : decode cX10_joinsBy 5 = .ok (.aload_n 0, 1) := dk_42 (dk_at dksX10_joinsBy_0 5 rfl rfl)
theorem dX10_joinsBy_6 : decode cX10_joinsBy 6 = .ok (.getfield 101, 3) := dk_180 0 101 (dk_at dksX10_joinsBy_0 6 rfl rfl)
theorem dX10_joinsBy_9 : decode cX10_joinsBy 9 = .ok (.iconst 2, 1) := dk_5 (dk_at dksX10_joinsBy_0 9 rfl rfl)
theorem dX10_joinsBy_10 : decode cX10_joinsBy 10 = .ok (.iload_n 3, 1) := dk_29 (dk_at dksX10_joinsBy_0 10 rfl rfl)
theorem dX10_joinsBy_11 : decode cX10_joinsBy 11 = .ok (.iastore, 1) := dk_79 (dk_at dksX10_joinsBy_0 11 rfl rfl)
theorem dX10_joinsBy_12 : decode cX10_joinsBy 12 = .ok (.aload_n 0, 1) := dk_42 (dk_at dksX10_joinsBy_0 12 rfl rfl)
theorem dX10_joinsBy_13 : decode cX10_joinsBy 13 = .ok (.getfield 101, 3) := dk_180 0 101 (dk_at dksX10_joinsBy_0 13 rfl rfl)
theorem dX10_joinsBy_16 : decode cX10_joinsBy 16 = .ok (.bipush 8, 2) := dk_16 8 (dk_at dksX10_joinsBy_0 16 rfl rfl)
theorem dX10_joinsBy_18 : decode cX10_joinsBy 18 = .ok (.aload_n 0, 1) := dk_42 (dk_at dksX10_joinsBy_0 18 rfl rfl)
theorem dX10_joinsBy_19 : decode cX10_joinsBy 19 = .ok (.iload_n 2, 1) := dk_28 (dk_at dksX10_joinsBy_0 19 rfl rfl)
theorem dX10_joinsBy_20 : decode cX10_joinsBy 20 = .ok (.invokevirtual 348, 3) := dk_182 1 92 (dk_at dksX10_joinsBy_0 20 rfl rfl)
theorem dX10_joinsBy_23 : decode cX10_joinsBy 23 = .ok (.iastore, 1) := dk_79 (dk_at dksX10_joinsBy_0 23 rfl rfl)
theorem dX10_joinsBy_24 : decode cX10_joinsBy 24 = .ok (.aload_n 0, 1) := dk_42 (dk_at dksX10_joinsBy_1 0 rfl rfl)
theorem dX10_joinsBy_25 : decode cX10_joinsBy 25 = .ok (.iconst 2, 1) := dk_5 (dk_at dksX10_joinsBy_1 1 rfl rfl)
theorem dX10_joinsBy_26 : decode cX10_joinsBy 26 = .ok (.bipush 10, 2) := dk_16 10 (dk_at dksX10_joinsBy_1 2 rfl rfl)
theorem dX10_joinsBy_28 : decode cX10_joinsBy 28 = .ok (.iload_n 3, 1) := dk_29 (dk_at dksX10_joinsBy_1 4 rfl rfl)
theorem dX10_joinsBy_29 : decode cX10_joinsBy 29 = .ok (.imul, 1) := dk_104 (dk_at dksX10_joinsBy_1 5 rfl rfl)
theorem dX10_joinsBy_30 : decode cX10_joinsBy 30 = .ok (.invokevirtual 357, 3) := dk_182 1 101 (dk_at dksX10_joinsBy_1 6 rfl rfl)
theorem dX10_joinsBy_33 : decode cX10_joinsBy 33 = .ok (.iconst 0, 1) := dk_3 (dk_at dksX10_joinsBy_1 9 rfl rfl)
theorem dX10_joinsBy_34 : decode cX10_joinsBy 34 = .ok (.sipush 999, 3) := dk_17 3 231 (dk_at dksX10_joinsBy_1 10 rfl rfl)
theorem dX10_joinsBy_37 : decode cX10_joinsBy 37 = .ok (.invokestatic 360, 3) := dk_184 1 104 (dk_at dksX10_joinsBy_1 13 rfl rfl)
theorem dX10_joinsBy_40 : decode cX10_joinsBy 40 = .ok (.ireturn, 1) := dk_172 (dk_at dksX10_joinsBy_1 16 rfl rfl)
def dkwX10_at_1 : List UInt8 := [96, 46, 167, 0, 4, 2, 172]
abbrev dktX10_at_1 : List UInt8 := dkwX10_at_1 ++ []
def dkwX10_at_0 : List UInt8 := [27, 3, 42, 180, 0, 107, 16, 24, 46, 4, 100, 184, 1, 66, 153, 0, 15, 42, 180, 0, 107, 16, 25, 27]
abbrev dktX10_at_0 : List UInt8 := dkwX10_at_0 ++ dktX10_at_1
theorem dksX10_at_0 : cX10_at.data.toList.drop 0 = dktX10_at_0 := by decide +kernel
theorem dksX10_at_1 : cX10_at.data.toList.drop 24 = dktX10_at_1 := dk_seg dksX10_at_0 24 rfl rfl
theorem dX10_at_0 : decode cX10_at 0 = .ok (.iload_n 1, 1) := dk_27 (dk_at dksX10_at_0 0 rfl rfl)
theorem dX10_at_1 : decode cX10_at 1 = .ok (.iconst 0, 1) := dk_3 (dk_at dksX10_at_0 1 rfl rfl)
theorem dX10_at_2 : decode cX10_at 2 = .ok (.aload_n 0, 1) := dk_42 (dk_at dksX10_at_0 2 rfl rfl)
theorem dX10_at_3 : decode cX10_at 3 = .ok (.getfield 107, 3) := dk_180 0 107 (dk_at dksX10_at_0 3 rfl rfl)
theorem dX10_at_6 : decode cX10_at 6 = .ok (.bipush 24, 2) := dk_16 24 (dk_at dksX10_at_0 6 rfl rfl)
theorem dX10_at_8 : decode cX10_at 8 = .ok (.iaload, 1) := dk_46 (dk_at dksX10_at_0 8 rfl rfl)
theorem dX10_at_9 : decode cX10_at 9 = .ok (.iconst 1, 1) := dk_4 (dk_at dksX10_at_0 9 rfl rfl)
theorem dX10_at_10 : decode cX10_at 10 = .ok (.isub, 1) := dk_100 (dk_at dksX10_at_0 10 rfl rfl)
theorem dX10_at_11 : decode cX10_at 11 = .ok (.invokestatic 322, 3) := dk_184 1 66 (dk_at dksX10_at_0 11 rfl rfl)
theorem dX10_at_14 : decode cX10_at 14 = .ok (.ifCond .eq 15, 3) := dk_153 0 15 (dk_at dksX10_at_0 14 rfl rfl)
theorem dX10_at_17 : decode cX10_at 17 = .ok (.aload_n 0, 1) := dk_42 (dk_at dksX10_at_0 17 rfl rfl)
theorem dX10_at_18 : decode cX10_at 18 = .ok (.getfield 107, 3) := dk_180 0 107 (dk_at dksX10_at_0 18 rfl rfl)
theorem dX10_at_21 : decode cX10_at 21 = .ok (.bipush 25, 2) := dk_16 25 (dk_at dksX10_at_0 21 rfl rfl)
theorem dX10_at_23 : decode cX10_at 23 = .ok (.iload_n 1, 1) := dk_27 (dk_at dksX10_at_0 23 rfl rfl)
theorem dX10_at_24 : decode cX10_at 24 = .ok (.iadd, 1) := dk_96 (dk_at dksX10_at_1 0 rfl rfl)
theorem dX10_at_25 : decode cX10_at 25 = .ok (.iaload, 1) := dk_46 (dk_at dksX10_at_1 1 rfl rfl)
theorem dX10_at_26 : decode cX10_at 26 = .ok (.goto 4, 3) := dk_167 0 4 (dk_at dksX10_at_1 2 rfl rfl)
theorem dX10_at_29 : decode cX10_at 29 = .ok (.iconst (-1), 1) := dk_2 (dk_at dksX10_at_1 5 rfl rfl)
theorem dX10_at_30 : decode cX10_at 30 = .ok (.ireturn, 1) := dk_172 (dk_at dksX10_at_1 6 rfl rfl)
def dkwX10_splice_4 : List UInt8 := [79, 42, 180, 0, 110, 16, 24, 92, 46, 4, 96, 79, 42, 182, 1, 147, 42, 182, 1, 150, 172]
abbrev dktX10_splice_4 : List UInt8 := dkwX10_splice_4 ++ []
def dkwX10_splice_3 : List UInt8 := [96, 79, 42, 180, 0, 110, 27, 3, 79, 42, 180, 0, 110, 16, 25, 42, 180, 0, 110, 16, 24, 46, 96, 27]
abbrev dktX10_splice_3 : List UInt8 := dkwX10_splice_3 ++ dktX10_splice_4
def dkwX10_splice_2 : List UInt8 := [180, 0, 110, 16, 12, 27, 96, 42, 27, 182, 1, 86, 79, 42, 180, 0, 110, 16, 18, 27, 96, 92, 46, 4]
abbrev dktX10_splice_2 : List UInt8 := dkwX10_splice_2 ++ dktX10_splice_3
def dkwX10_splice_1 : List UInt8 := [27, 46, 154, 0, 5, 2, 172, 42, 180, 0, 110, 16, 6, 27, 96, 42, 180, 0, 110, 27, 46, 79, 42]
abbrev dktX10_splice_1 : List UInt8 := dkwX10_splice_1 ++ dktX10_splice_2
def dkwX10_splice_0 : List UInt8 := [42, 182, 1, 76, 42, 27, 182, 1, 137, 153, 0, 20, 42, 27, 182, 1, 83, 154, 0, 12, 42, 180, 0, 110]
abbrev dktX10_splice_0 : List UInt8 := dkwX10_splice_0 ++ dktX10_splice_1
theorem dksX10_splice_0 : cX10_splice.data.toList.drop 0 = dktX10_splice_0 := by decide +kernel
theorem dksX10_splice_1 : cX10_splice.data.toList.drop 24 = dktX10_splice_1 := dk_seg dksX10_splice_0 24 rfl rfl
theorem dksX10_splice_2 : cX10_splice.data.toList.drop 47 = dktX10_splice_2 := dk_seg dksX10_splice_1 23 rfl rfl
theorem dksX10_splice_3 : cX10_splice.data.toList.drop 71 = dktX10_splice_3 := dk_seg dksX10_splice_2 24 rfl rfl
theorem dksX10_splice_4 : cX10_splice.data.toList.drop 95 = dktX10_splice_4 := dk_seg dksX10_splice_3 24 rfl rfl
theorem dX10_splice_0 : decode cX10_splice 0 = .ok (.aload_n 0, 1) := dk_42 (dk_at dksX10_splice_0 0 rfl rfl)
theorem dX10_splice_1 : decode cX10_splice 1 = .ok (.invokevirtual 332, 3) := dk_182 1 76 (dk_at dksX10_splice_0 1 rfl rfl)
theorem dX10_splice_4 : decode cX10_splice 4 = .ok (.aload_n 0, 1) := dk_42 (dk_at dksX10_splice_0 4 rfl rfl)
theorem dX10_splice_5 : decode cX10_splice 5 = .ok (.iload_n 1, 1) := dk_27 (dk_at dksX10_splice_0 5 rfl rfl)
theorem dX10_splice_6 : decode cX10_splice 6 = .ok (.invokevirtual 393, 3) := dk_182 1 137 (dk_at dksX10_splice_0 6 rfl rfl)
theorem dX10_splice_9 : decode cX10_splice 9 = .ok (.ifCond .eq 20, 3) := dk_153 0 20 (dk_at dksX10_splice_0 9 rfl rfl)
theorem dX10_splice_12 : decode cX10_splice 12 = .ok (.aload_n 0, 1) := dk_42 (dk_at dksX10_splice_0 12 rfl rfl)
theorem dX10_splice_13 : decode cX10_splice 13 = .ok (.iload_n 1, 1) := dk_27 (dk_at dksX10_splice_0 13 rfl rfl)
theorem dX10_splice_14 : decode cX10_splice 14 = .ok (.invokevirtual 339, 3) := dk_182 1 83 (dk_at dksX10_splice_0 14 rfl rfl)
theorem dX10_splice_17 : decode cX10_splice 17 = .ok (.ifCond .ne 12, 3) := dk_154 0 12 (dk_at dksX10_splice_0 17 rfl rfl)
theorem dX10_splice_20 : decode cX10_splice 20 = .ok (.aload_n 0, 1) := dk_42 (dk_at dksX10_splice_0 20 rfl rfl)
theorem dX10_splice_21 : decode cX10_splice 21 = .ok (.getfield 110, 3) := dk_180 0 110 (dk_at dksX10_splice_0 21 rfl rfl)
theorem dX10_splice_24 : decode cX10_splice 24 = .ok (.iload_n 1, 1) := dk_27 (dk_at dksX10_splice_1 0 rfl rfl)
theorem dX10_splice_25 : decode cX10_splice 25 = .ok (.iaload, 1) := dk_46 (dk_at dksX10_splice_1 1 rfl rfl)
theorem dX10_splice_26 : decode cX10_splice 26 = .ok (.ifCond .ne 5, 3) := dk_154 0 5 (dk_at dksX10_splice_1 2 rfl rfl)
theorem dX10_splice_29 : decode cX10_splice 29 = .ok (.iconst (-1), 1) := dk_2 (dk_at dksX10_splice_1 5 rfl rfl)
theorem dX10_splice_30 : decode cX10_splice 30 = .ok (.ireturn, 1) := dk_172 (dk_at dksX10_splice_1 6 rfl rfl)
theorem dX10_splice_31 : decode cX10_splice 31 = .ok (.aload_n 0, 1) := dk_42 (dk_at dksX10_splice_1 7 rfl rfl)
theorem dX10_splice_32 : decode cX10_splice 32 = .ok (.getfield 110, 3) := dk_180 0 110 (dk_at dksX10_splice_1 8 rfl rfl)
theorem dX10_splice_35 : decode cX10_splice 35 = .ok (.bipush 6, 2) := dk_16 6 (dk_at dksX10_splice_1 11 rfl rfl)
theorem dX10_splice_37 : decode cX10_splice 37 = .ok (.iload_n 1, 1) := dk_27 (dk_at dksX10_splice_1 13 rfl rfl)
theorem dX10_splice_38 : decode cX10_splice 38 = .ok (.iadd, 1) := dk_96 (dk_at dksX10_splice_1 14 rfl rfl)
theorem dX10_splice_39 : decode cX10_splice 39 = .ok (.aload_n 0, 1) := dk_42 (dk_at dksX10_splice_1 15 rfl rfl)
theorem dX10_splice_40 : decode cX10_splice 40 = .ok (.getfield 110, 3) := dk_180 0 110 (dk_at dksX10_splice_1 16 rfl rfl)
theorem dX10_splice_43 : decode cX10_splice 43 = .ok (.iload_n 1, 1) := dk_27 (dk_at dksX10_splice_1 19 rfl rfl)
theorem dX10_splice_44 : decode cX10_splice 44 = .ok (.iaload, 1) := dk_46 (dk_at dksX10_splice_1 20 rfl rfl)
theorem dX10_splice_45 : decode cX10_splice 45 = .ok (.iastore, 1) := dk_79 (dk_at dksX10_splice_1 21 rfl rfl)
theorem dX10_splice_46 : decode cX10_splice 46 = .ok (.aload_n 0, 1) := dk_42 (dk_at dksX10_splice_1 22 rfl rfl)
theorem dX10_splice_47 : decode cX10_splice 47 = .ok (.getfield 110, 3) := dk_180 0 110 (dk_at dksX10_splice_2 0 rfl rfl)
theorem dX10_splice_50 : decode cX10_splice 50 = .ok (.bipush 12, 2) := dk_16 12 (dk_at dksX10_splice_2 3 rfl rfl)
theorem dX10_splice_52 : decode cX10_splice 52 = .ok (.iload_n 1, 1) := dk_27 (dk_at dksX10_splice_2 5 rfl rfl)
theorem dX10_splice_53 : decode cX10_splice 53 = .ok (.iadd, 1) := dk_96 (dk_at dksX10_splice_2 6 rfl rfl)
theorem dX10_splice_54 : decode cX10_splice 54 = .ok (.aload_n 0, 1) := dk_42 (dk_at dksX10_splice_2 7 rfl rfl)
theorem dX10_splice_55 : decode cX10_splice 55 = .ok (.iload_n 1, 1) := dk_27 (dk_at dksX10_splice_2 8 rfl rfl)
theorem dX10_splice_56 : decode cX10_splice 56 = .ok (.invokevirtual 342, 3) := dk_182 1 86 (dk_at dksX10_splice_2 9 rfl rfl)
theorem dX10_splice_59 : decode cX10_splice 59 = .ok (.iastore, 1) := dk_79 (dk_at dksX10_splice_2 12 rfl rfl)
theorem dX10_splice_60 : decode cX10_splice 60 = .ok (.aload_n 0, 1) := dk_42 (dk_at dksX10_splice_2 13 rfl rfl)
theorem dX10_splice_61 : decode cX10_splice 61 = .ok (.getfield 110, 3) := dk_180 0 110 (dk_at dksX10_splice_2 14 rfl rfl)
theorem dX10_splice_64 : decode cX10_splice 64 = .ok (.bipush 18, 2) := dk_16 18 (dk_at dksX10_splice_2 17 rfl rfl)
theorem dX10_splice_66 : decode cX10_splice 66 = .ok (.iload_n 1, 1) := dk_27 (dk_at dksX10_splice_2 19 rfl rfl)
theorem dX10_splice_67 : decode cX10_splice 67 = .ok (.iadd, 1) := dk_96 (dk_at dksX10_splice_2 20 rfl rfl)
theorem dX10_splice_68 : decode cX10_splice 68 = .ok (.dup2, 1) := dk_92 (dk_at dksX10_splice_2 21 rfl rfl)
theorem dX10_splice_69 : decode cX10_splice 69 = .ok (.iaload, 1) := dk_46 (dk_at dksX10_splice_2 22 rfl rfl)
theorem dX10_splice_70 : decode cX10_splice 70 = .ok (.iconst 1, 1) := dk_4 (dk_at dksX10_splice_2 23 rfl rfl)
theorem dX10_splice_71 : decode cX10_splice 71 = .ok (.iadd, 1) := dk_96 (dk_at dksX10_splice_3 0 rfl rfl)
theorem dX10_splice_72 : decode cX10_splice 72 = .ok (.iastore, 1) := dk_79 (dk_at dksX10_splice_3 1 rfl rfl)
theorem dX10_splice_73 : decode cX10_splice 73 = .ok (.aload_n 0, 1) := dk_42 (dk_at dksX10_splice_3 2 rfl rfl)
theorem dX10_splice_74 : decode cX10_splice 74 = .ok (.getfield 110, 3) := dk_180 0 110 (dk_at dksX10_splice_3 3 rfl rfl)
theorem dX10_splice_77 : decode cX10_splice 77 = .ok (.iload_n 1, 1) := dk_27 (dk_at dksX10_splice_3 6 rfl rfl)
theorem dX10_splice_78 : decode cX10_splice 78 = .ok (.iconst 0, 1) := dk_3 (dk_at dksX10_splice_3 7 rfl rfl)
theorem dX10_splice_79 : decode cX10_splice 79 = .ok (.iastore, 1) := dk_79 (dk_at dksX10_splice_3 8 rfl rfl)
theorem dX10_splice_80 : decode cX10_splice 80 = .ok (.aload_n 0, 1) := dk_42 (dk_at dksX10_splice_3 9 rfl rfl)
theorem dX10_splice_81 : decode cX10_splice 81 = .ok (.getfield 110, 3) := dk_180 0 110 (dk_at dksX10_splice_3 10 rfl rfl)
theorem dX10_splice_84 : decode cX10_splice 84 = .ok (.bipush 25, 2) := dk_16 25 (dk_at dksX10_splice_3 13 rfl rfl)
theorem dX10_splice_86 : decode cX10_splice 86 = .ok (.aload_n 0, 1) := dk_42 (dk_at dksX10_splice_3 15 rfl rfl)
theorem dX10_splice_87 : decode cX10_splice 87 = .ok (.getfield 110, 3) := dk_180 0 110 (dk_at dksX10_splice_3 16 rfl rfl)
theorem dX10_splice_90 : decode cX10_splice 90 = .ok (.bipush 24, 2) := dk_16 24 (dk_at dksX10_splice_3 19 rfl rfl)
theorem dX10_splice_92 : decode cX10_splice 92 = .ok (.iaload, 1) := dk_46 (dk_at dksX10_splice_3 21 rfl rfl)
theorem dX10_splice_93 : decode cX10_splice 93 = .ok (.iadd, 1) := dk_96 (dk_at dksX10_splice_3 22 rfl rfl)
theorem dX10_splice_94 : decode cX10_splice 94 = .ok (.iload_n 1, 1) := dk_27 (dk_at dksX10_splice_3 23 rfl rfl)
theorem dX10_splice_95 : decode cX10_splice 95 = .ok (.iastore, 1) := dk_79 (dk_at dksX10_splice_4 0 rfl rfl)
theorem dX10_splice_96 : decode cX10_splice 96 = .ok (.aload_n 0, 1) := dk_42 (dk_at dksX10_splice_4 1 rfl rfl)
theorem dX10_splice_97 : decode cX10_splice 97 = .ok (.getfield 110, 3) := dk_180 0 110 (dk_at dksX10_splice_4 2 rfl rfl)
theorem dX10_splice_100 : decode cX10_splice 100 = .ok (.bipush 24, 2) := dk_16 24 (dk_at dksX10_splice_4 5 rfl rfl)
theorem dX10_splice_102 : decode cX10_splice 102 = .ok (.dup2, 1) := dk_92 (dk_at dksX10_splice_4 7 rfl rfl)
theorem dX10_splice_103 : decode cX10_splice 103 = .ok (.iaload, 1) := dk_46 (dk_at dksX10_splice_4 8 rfl rfl)
theorem dX10_splice_104 : decode cX10_splice 104 = .ok (.iconst 1, 1) := dk_4 (dk_at dksX10_splice_4 9 rfl rfl)
theorem dX10_splice_105 : decode cX10_splice 105 = .ok (.iadd, 1) := dk_96 (dk_at dksX10_splice_4 10 rfl rfl)
theorem dX10_splice_106 : decode cX10_splice 106 = .ok (.iastore, 1) := dk_79 (dk_at dksX10_splice_4 11 rfl rfl)
theorem dX10_splice_107 : decode cX10_splice 107 = .ok (.aload_n 0, 1) := dk_42 (dk_at dksX10_splice_4 12 rfl rfl)
theorem dX10_splice_108 : decode cX10_splice 108 = .ok (.invokevirtual 403, 3) := dk_182 1 147 (dk_at dksX10_splice_4 13 rfl rfl)
theorem dX10_splice_111 : decode cX10_splice 111 = .ok (.aload_n 0, 1) := dk_42 (dk_at dksX10_splice_4 16 rfl rfl)
theorem dX10_splice_112 : decode cX10_splice 112 = .ok (.invokevirtual 406, 3) := dk_182 1 150 (dk_at dksX10_splice_4 17 rfl rfl)
theorem dX10_splice_115 : decode cX10_splice 115 = .ok (.ireturn, 1) := dk_172 (dk_at dksX10_splice_4 20 rfl rfl)
def dkwX10_records_4 : List UInt8 := [182, 0, 175, 177]
abbrev dktX10_records_4 : List UInt8 := dkwX10_records_4 ++ []
def dkwX10_records_3 : List UInt8 := [42, 180, 0, 107, 27, 46, 79, 132, 1, 1, 167, 255, 227, 42, 89, 180, 1, 7, 4, 96, 181, 1, 7, 42]
abbrev dktX10_records_3 : List UInt8 := dkwX10_records_3 ++ dktX10_records_4
def dkwX10_records_2 : List UInt8 := [181, 1, 7, 3, 60, 27, 16, 33, 162, 0, 29, 42, 180, 0, 119, 16, 33, 42, 180, 1, 7, 104, 27, 96]
abbrev dktX10_records_2 : List UInt8 := dkwX10_records_2 ++ dktX10_records_3
def dkwX10_records_1 : List UInt8 := [180, 0, 119, 27, 16, 33, 96, 46, 79, 132, 1, 1, 167, 255, 231, 42, 89, 180, 1, 7, 4, 100]
abbrev dktX10_records_1 : List UInt8 := dkwX10_records_1 ++ dktX10_records_2
def dkwX10_records_0 : List UInt8 := [42, 180, 1, 7, 16, 40, 160, 0, 43, 3, 60, 27, 17, 5, 7, 162, 0, 24, 42, 180, 0, 119, 27, 42]
abbrev dktX10_records_0 : List UInt8 := dkwX10_records_0 ++ dktX10_records_1
theorem dksX10_records_0 : cX10_records.data.toList.drop 0 = dktX10_records_0 := by decide +kernel
theorem dksX10_records_1 : cX10_records.data.toList.drop 24 = dktX10_records_1 := dk_seg dksX10_records_0 24 rfl rfl
theorem dksX10_records_2 : cX10_records.data.toList.drop 46 = dktX10_records_2 := dk_seg dksX10_records_1 22 rfl rfl
theorem dksX10_records_3 : cX10_records.data.toList.drop 70 = dktX10_records_3 := dk_seg dksX10_records_2 24 rfl rfl
theorem dksX10_records_4 : cX10_records.data.toList.drop 94 = dktX10_records_4 := dk_seg dksX10_records_3 24 rfl rfl
theorem dX10_records_0 : decode cX10_records 0 = .ok (.aload_n 0, 1) := dk_42 (dk_at dksX10_records_0 0 rfl rfl)
theorem dX10_records_1 : decode cX10_records 1 = .ok (.getfield 263, 3) := dk_180 1 7 (dk_at dksX10_records_0 1 rfl rfl)
theorem dX10_records_4 : decode cX10_records 4 = .ok (.bipush 40, 2) := dk_16 40 (dk_at dksX10_records_0 4 rfl rfl)
theorem dX10_records_6 : decode cX10_records 6 = .ok (.if_icmp .ne 43, 3) := dk_160 0 43 (dk_at dksX10_records_0 6 rfl rfl)
theorem dX10_records_9 : decode cX10_records 9 = .ok (.iconst 0, 1) := dk_3 (dk_at dksX10_records_0 9 rfl rfl)
theorem dX10_records_10 : decode cX10_records 10 = .ok (.istore_n 1, 1) := dk_60 (dk_at dksX10_records_0 10 rfl rfl)
theorem dX10_records_11 : decode cX10_records 11 = .ok (.iload_n 1, 1) := dk_27 (dk_at dksX10_records_0 11 rfl rfl)
theorem dX10_records_12 : decode cX10_records 12 = .ok (.sipush 1287, 3) := dk_17 5 7 (dk_at dksX10_records_0 12 rfl rfl)
theorem dX10_records_15 : decode cX10_records 15 = .ok (.if_icmp .ge 24, 3) := dk_162 0 24 (dk_at dksX10_records_0 15 rfl rfl)
theorem dX10_records_18 : decode cX10_records 18 = .ok (.aload_n 0, 1) := dk_42 (dk_at dksX10_records_0 18 rfl rfl)
theorem dX10_records_19 : decode cX10_records 19 = .ok (.getfield 119, 3) := dk_180 0 119 (dk_at dksX10_records_0 19 rfl rfl)
theorem dX10_records_22 : decode cX10_records 22 = .ok (.iload_n 1, 1) := dk_27 (dk_at dksX10_records_0 22 rfl rfl)
theorem dX10_records_23 : decode cX10_records 23 = .ok (.aload_n 0, 1) := dk_42 (dk_at dksX10_records_0 23 rfl rfl)
theorem dX10_records_24 : decode cX10_records 24 = .ok (.getfield 119, 3) := dk_180 0 119 (dk_at dksX10_records_1 0 rfl rfl)
theorem dX10_records_27 : decode cX10_records 27 = .ok (.iload_n 1, 1) := dk_27 (dk_at dksX10_records_1 3 rfl rfl)
theorem dX10_records_28 : decode cX10_records 28 = .ok (.bipush 33, 2) := dk_16 33 (dk_at dksX10_records_1 4 rfl rfl)
theorem dX10_records_30 : decode cX10_records 30 = .ok (.iadd, 1) := dk_96 (dk_at dksX10_records_1 6 rfl rfl)
theorem dX10_records_31 : decode cX10_records 31 = .ok (.iaload, 1) := dk_46 (dk_at dksX10_records_1 7 rfl rfl)
theorem dX10_records_32 : decode cX10_records 32 = .ok (.iastore, 1) := dk_79 (dk_at dksX10_records_1 8 rfl rfl)
theorem dX10_records_33 : decode cX10_records 33 = .ok (.iinc 1 1, 3) := dk_132 1 1 (dk_at dksX10_records_1 9 rfl rfl)
theorem dX10_records_36 : decode cX10_records 36 = .ok (.goto (-25), 3) := dk_167 255 231 (dk_at dksX10_records_1 12 rfl rfl)
theorem dX10_records_39 : decode cX10_records 39 = .ok (.aload_n 0, 1) := dk_42 (dk_at dksX10_records_1 15 rfl rfl)
theorem dX10_records_40 : decode cX10_records 40 = .ok (.dup, 1) := dk_89 (dk_at dksX10_records_1 16 rfl rfl)
theorem dX10_records_41 : decode cX10_records 41 = .ok (.getfield 263, 3) := dk_180 1 7 (dk_at dksX10_records_1 17 rfl rfl)
theorem dX10_records_44 : decode cX10_records 44 = .ok (.iconst 1, 1) := dk_4 (dk_at dksX10_records_1 20 rfl rfl)
theorem dX10_records_45 : decode cX10_records 45 = .ok (.isub, 1) := dk_100 (dk_at dksX10_records_1 21 rfl rfl)
theorem dX10_records_46 : decode cX10_records 46 = .ok (.putfield 263, 3) := dk_181 1 7 (dk_at dksX10_records_2 0 rfl rfl)
theorem dX10_records_49 : decode cX10_records 49 = .ok (.iconst 0, 1) := dk_3 (dk_at dksX10_records_2 3 rfl rfl)
theorem dX10_records_50 : decode cX10_records 50 = .ok (.istore_n 1, 1) := dk_60 (dk_at dksX10_records_2 4 rfl rfl)
theorem dX10_records_51 : decode cX10_records 51 = .ok (.iload_n 1, 1) := dk_27 (dk_at dksX10_records_2 5 rfl rfl)
theorem dX10_records_52 : decode cX10_records 52 = .ok (.bipush 33, 2) := dk_16 33 (dk_at dksX10_records_2 6 rfl rfl)
theorem dX10_records_54 : decode cX10_records 54 = .ok (.if_icmp .ge 29, 3) := dk_162 0 29 (dk_at dksX10_records_2 8 rfl rfl)
theorem dX10_records_57 : decode cX10_records 57 = .ok (.aload_n 0, 1) := dk_42 (dk_at dksX10_records_2 11 rfl rfl)
theorem dX10_records_58 : decode cX10_records 58 = .ok (.getfield 119, 3) := dk_180 0 119 (dk_at dksX10_records_2 12 rfl rfl)
theorem dX10_records_61 : decode cX10_records 61 = .ok (.bipush 33, 2) := dk_16 33 (dk_at dksX10_records_2 15 rfl rfl)
theorem dX10_records_63 : decode cX10_records 63 = .ok (.aload_n 0, 1) := dk_42 (dk_at dksX10_records_2 17 rfl rfl)
theorem dX10_records_64 : decode cX10_records 64 = .ok (.getfield 263, 3) := dk_180 1 7 (dk_at dksX10_records_2 18 rfl rfl)
theorem dX10_records_67 : decode cX10_records 67 = .ok (.imul, 1) := dk_104 (dk_at dksX10_records_2 21 rfl rfl)
theorem dX10_records_68 : decode cX10_records 68 = .ok (.iload_n 1, 1) := dk_27 (dk_at dksX10_records_2 22 rfl rfl)
theorem dX10_records_69 : decode cX10_records 69 = .ok (.iadd, 1) := dk_96 (dk_at dksX10_records_2 23 rfl rfl)
theorem dX10_records_70 : decode cX10_records 70 = .ok (.aload_n 0, 1) := dk_42 (dk_at dksX10_records_3 0 rfl rfl)
theorem dX10_records_71 : decode cX10_records 71 = .ok (.getfield 107, 3) := dk_180 0 107 (dk_at dksX10_records_3 1 rfl rfl)
theorem dX10_records_74 : decode cX10_records 74 = .ok (.iload_n 1, 1) := dk_27 (dk_at dksX10_records_3 4 rfl rfl)
theorem dX10_records_75 : decode cX10_records 75 = .ok (.iaload, 1) := dk_46 (dk_at dksX10_records_3 5 rfl rfl)
theorem dX10_records_76 : decode cX10_records 76 = .ok (.iastore, 1) := dk_79 (dk_at dksX10_records_3 6 rfl rfl)
theorem dX10_records_77 : decode cX10_records 77 = .ok (.iinc 1 1, 3) := dk_132 1 1 (dk_at dksX10_records_3 7 rfl rfl)
theorem dX10_records_80 : decode cX10_records 80 = .ok (.goto (-29), 3) := dk_167 255 227 (dk_at dksX10_records_3 10 rfl rfl)
theorem dX10_records_83 : decode cX10_records 83 = .ok (.aload_n 0, 1) := dk_42 (dk_at dksX10_records_3 13 rfl rfl)
theorem dX10_records_84 : decode cX10_records 84 = .ok (.dup, 1) := dk_89 (dk_at dksX10_records_3 14 rfl rfl)
theorem dX10_records_85 : decode cX10_records 85 = .ok (.getfield 263, 3) := dk_180 1 7 (dk_at dksX10_records_3 15 rfl rfl)
theorem dX10_records_88 : decode cX10_records 88 = .ok (.iconst 1, 1) := dk_4 (dk_at dksX10_records_3 18 rfl rfl)
theorem dX10_records_89 : decode cX10_records 89 = .ok (.iadd, 1) := dk_96 (dk_at dksX10_records_3 19 rfl rfl)
theorem dX10_records_90 : decode cX10_records 90 = .ok (.putfield 263, 3) := dk_181 1 7 (dk_at dksX10_records_3 20 rfl rfl)
theorem dX10_records_93 : decode cX10_records 93 = .ok (.aload_n 0, 1) := dk_42 (dk_at dksX10_records_3 23 rfl rfl)
theorem dX10_records_94 : decode cX10_records 94 = .ok (.invokevirtual 175, 3) := dk_182 0 175 (dk_at dksX10_records_4 0 rfl rfl)
theorem dX10_records_97 : decode cX10_records 97 = .ok (.return_, 1) := dk_177 (dk_at dksX10_records_4 3 rfl rfl)
def dkwX10_ropeLong_1 : List UInt8 := [180, 0, 110, 16, 9, 46, 96, 42, 180, 0, 110, 16, 10, 46, 96, 42, 180, 0, 110, 16, 11, 46, 96, 172]
abbrev dktX10_ropeLong_1 : List UInt8 := dkwX10_ropeLong_1 ++ []
def dkwX10_ropeLong_0 : List UInt8 := [42, 180, 0, 110, 16, 6, 46, 42, 180, 0, 110, 16, 7, 46, 96, 42, 180, 0, 110, 16, 8, 46, 96, 42]
abbrev dktX10_ropeLong_0 : List UInt8 := dkwX10_ropeLong_0 ++ dktX10_ropeLong_1
theorem dksX10_ropeLong_0 : cX10_ropeLong.data.toList.drop 0 = dktX10_ropeLong_0 := by decide +kernel
theorem dksX10_ropeLong_1 : cX10_ropeLong.data.toList.drop 24 = dktX10_ropeLong_1 := dk_seg dksX10_ropeLong_0 24 rfl rfl
theorem dX10_ropeLong_0 : decode cX10_ropeLong 0 = .ok (.aload_n 0, 1) := dk_42 (dk_at dksX10_ropeLong_0 0 rfl rfl)
theorem dX10_ropeLong_1 : decode cX10_ropeLong 1 = .ok (.getfield 110, 3) := dk_180 0 110 (dk_at dksX10_ropeLong_0 1 rfl rfl)
theorem dX10_ropeLong_4 : decode cX10_ropeLong 4 = .ok (.bipush 6, 2) := dk_16 6 (dk_at dksX10_ropeLong_0 4 rfl rfl)
theorem dX10_ropeLong_6 : decode cX10_ropeLong 6 = .ok (.iaload, 1) := dk_46 (dk_at dksX10_ropeLong_0 6 rfl rfl)
theorem dX10_ropeLong_7 : decode cX10_ropeLong 7 = .ok (.aload_n 0, 1) := dk_42 (dk_at dksX10_ropeLong_0 7 rfl rfl)
theorem dX10_ropeLong_8 : decode cX10_ropeLong 8 = .ok (.getfield 110, 3) := dk_180 0 110 (dk_at dksX10_ropeLong_0 8 rfl rfl)
theorem dX10_ropeLong_11 : decode cX10_ropeLong 11 = .ok (.bipush 7, 2) := dk_16 7 (dk_at dksX10_ropeLong_0 11 rfl rfl)
theorem dX10_ropeLong_13 : decode cX10_ropeLong 13 = .ok (.iaload, 1) := dk_46 (dk_at dksX10_ropeLong_0 13 rfl rfl)
theorem dX10_ropeLong_14 : decode cX10_ropeLong 14 = .ok (.iadd, 1) := dk_96 (dk_at dksX10_ropeLong_0 14 rfl rfl)
theorem dX10_ropeLong_15 : decode cX10_ropeLong 15 = .ok (.aload_n 0, 1) := dk_42 (dk_at dksX10_ropeLong_0 15 rfl rfl)
theorem dX10_ropeLong_16 : decode cX10_ropeLong 16 = .ok (.getfield 110, 3) := dk_180 0 110 (dk_at dksX10_ropeLong_0 16 rfl rfl)
theorem dX10_ropeLong_19 : decode cX10_ropeLong 19 = .ok (.bipush 8, 2) := dk_16 8 (dk_at dksX10_ropeLong_0 19 rfl rfl)
theorem dX10_ropeLong_21 : decode cX10_ropeLong 21 = .ok (.iaload, 1) := dk_46 (dk_at dksX10_ropeLong_0 21 rfl rfl)
theorem dX10_ropeLong_22 : decode cX10_ropeLong 22 = .ok (.iadd, 1) := dk_96 (dk_at dksX10_ropeLong_0 22 rfl rfl)
theorem dX10_ropeLong_23 : decode cX10_ropeLong 23 = .ok (.aload_n 0, 1) := dk_42 (dk_at dksX10_ropeLong_0 23 rfl rfl)
theorem dX10_ropeLong_24 : decode cX10_ropeLong 24 = .ok (.getfield 110, 3) := dk_180 0 110 (dk_at dksX10_ropeLong_1 0 rfl rfl)
theorem dX10_ropeLong_27 : decode cX10_ropeLong 27 = .ok (.bipush 9, 2) := dk_16 9 (dk_at dksX10_ropeLong_1 3 rfl rfl)
theorem dX10_ropeLong_29 : decode cX10_ropeLong 29 = .ok (.iaload, 1) := dk_46 (dk_at dksX10_ropeLong_1 5 rfl rfl)
theorem dX10_ropeLong_30 : decode cX10_ropeLong 30 = .ok (.iadd, 1) := dk_96 (dk_at dksX10_ropeLong_1 6 rfl rfl)
theorem dX10_ropeLong_31 : decode cX10_ropeLong 31 = .ok (.aload_n 0, 1) := dk_42 (dk_at dksX10_ropeLong_1 7 rfl rfl)
theorem dX10_ropeLong_32 : decode cX10_ropeLong 32 = .ok (.getfield 110, 3) := dk_180 0 110 (dk_at dksX10_ropeLong_1 8 rfl rfl)
theorem dX10_ropeLong_35 : decode cX10_ropeLong 35 = .ok (.bipush 10, 2) := dk_16 10 (dk_at dksX10_ropeLong_1 11 rfl rfl)
theorem dX10_ropeLong_37 : decode cX10_ropeLong 37 = .ok (.iaload, 1) := dk_46 (dk_at dksX10_ropeLong_1 13 rfl rfl)
theorem dX10_ropeLong_38 : decode cX10_ropeLong 38 = .ok (.iadd, 1) := dk_96 (dk_at dksX10_ropeLong_1 14 rfl rfl)
theorem dX10_ropeLong_39 : decode cX10_ropeLong 39 = .ok (.aload_n 0, 1) := dk_42 (dk_at dksX10_ropeLong_1 15 rfl rfl)
theorem dX10_ropeLong_40 : decode cX10_ropeLong 40 = .ok (.getfield 110, 3) := dk_180 0 110 (dk_at dksX10_ropeLong_1 16 rfl rfl)
theorem dX10_ropeLong_43 : decode cX10_ropeLong 43 = .ok (.bipush 11, 2) := dk_16 11 (dk_at dksX10_ropeLong_1 19 rfl rfl)
theorem dX10_ropeLong_45 : decode cX10_ropeLong 45 = .ok (.iaload, 1) := dk_46 (dk_at dksX10_ropeLong_1 21 rfl rfl)
theorem dX10_ropeLong_46 : decode cX10_ropeLong 46 = .ok (.iadd, 1) := dk_96 (dk_at dksX10_ropeLong_1 22 rfl rfl)
theorem dX10_ropeLong_47 : decode cX10_ropeLong 47 = .ok (.ireturn, 1) := dk_172 (dk_at dksX10_ropeLong_1 23 rfl rfl)
def dkwX10_unsplice_2 : List UInt8 := [182, 1, 147, 27, 172]
abbrev dktX10_unsplice_2 : List UInt8 := dkwX10_unsplice_2 ++ []
def dkwX10_unsplice_1 : List UInt8 := [180, 0, 110, 16, 24, 46, 96, 46, 60, 42, 42, 180, 0, 110, 16, 24, 46, 4, 100, 182, 1, 153, 42]
abbrev dktX10_unsplice_1 : List UInt8 := dkwX10_unsplice_1 ++ dktX10_unsplice_2
def dkwX10_unsplice_0 : List UInt8 := [42, 182, 1, 76, 42, 180, 0, 110, 16, 24, 46, 154, 0, 5, 2, 172, 42, 180, 0, 110, 16, 24, 42]
abbrev dktX10_unsplice_0 : List UInt8 := dkwX10_unsplice_0 ++ dktX10_unsplice_1
theorem dksX10_unsplice_0 : cX10_unsplice.data.toList.drop 0 = dktX10_unsplice_0 := by decide +kernel
theorem dksX10_unsplice_1 : cX10_unsplice.data.toList.drop 23 = dktX10_unsplice_1 := dk_seg dksX10_unsplice_0 23 rfl rfl
theorem dksX10_unsplice_2 : cX10_unsplice.data.toList.drop 46 = dktX10_unsplice_2 := dk_seg dksX10_unsplice_1 23 rfl rfl
theorem dX10_unsplice_0 : decode cX10_unsplice 0 = .ok (.aload_n 0, 1) := dk_42 (dk_at dksX10_unsplice_0 0 rfl rfl)
theorem dX10_unsplice_1 : decode cX10_unsplice 1 = .ok (.invokevirtual 332, 3) := dk_182 1 76 (dk_at dksX10_unsplice_0 1 rfl rfl)
theorem dX10_unsplice_4 : decode cX10_unsplice 4 = .ok (.aload_n 0, 1) := dk_42 (dk_at dksX10_unsplice_0 4 rfl rfl)
theorem dX10_unsplice_5 : decode cX10_unsplice 5 = .ok (.getfield 110, 3) := dk_180 0 110 (dk_at dksX10_unsplice_0 5 rfl rfl)
theorem dX10_unsplice_8 : decode cX10_unsplice 8 = .ok (.bipush 24, 2) := dk_16 24 (dk_at dksX10_unsplice_0 8 rfl rfl)
theorem dX10_unsplice_10 : decode cX10_unsplice 10 = .ok (.iaload, 1) := dk_46 (dk_at dksX10_unsplice_0 10 rfl rfl)
theorem dX10_unsplice_11 : decode cX10_unsplice 11 = .ok (.ifCond .ne 5, 3) := dk_154 0 5 (dk_at dksX10_unsplice_0 11 rfl rfl)
theorem dX10_unsplice_14 : decode cX10_unsplice 14 = .ok (.iconst (-1), 1) := dk_2 (dk_at dksX10_unsplice_0 14 rfl rfl)
theorem dX10_unsplice_15 : decode cX10_unsplice 15 = .ok (.ireturn, 1) := dk_172 (dk_at dksX10_unsplice_0 15 rfl rfl)
theorem dX10_unsplice_16 : decode cX10_unsplice 16 = .ok (.aload_n 0, 1) := dk_42 (dk_at dksX10_unsplice_0 16 rfl rfl)
theorem dX10_unsplice_17 : decode cX10_unsplice 17 = .ok (.getfield 110, 3) := dk_180 0 110 (dk_at dksX10_unsplice_0 17 rfl rfl)
theorem dX10_unsplice_20 : decode cX10_unsplice 20 = .ok (.bipush 24, 2) := dk_16 24 (dk_at dksX10_unsplice_0 20 rfl rfl)
theorem dX10_unsplice_22 : decode cX10_unsplice 22 = .ok (.aload_n 0, 1) := dk_42 (dk_at dksX10_unsplice_0 22 rfl rfl)
theorem dX10_unsplice_23 : decode cX10_unsplice 23 = .ok (.getfield 110, 3) := dk_180 0 110 (dk_at dksX10_unsplice_1 0 rfl rfl)
theorem dX10_unsplice_26 : decode cX10_unsplice 26 = .ok (.bipush 24, 2) := dk_16 24 (dk_at dksX10_unsplice_1 3 rfl rfl)
theorem dX10_unsplice_28 : decode cX10_unsplice 28 = .ok (.iaload, 1) := dk_46 (dk_at dksX10_unsplice_1 5 rfl rfl)
theorem dX10_unsplice_29 : decode cX10_unsplice 29 = .ok (.iadd, 1) := dk_96 (dk_at dksX10_unsplice_1 6 rfl rfl)
theorem dX10_unsplice_30 : decode cX10_unsplice 30 = .ok (.iaload, 1) := dk_46 (dk_at dksX10_unsplice_1 7 rfl rfl)
theorem dX10_unsplice_31 : decode cX10_unsplice 31 = .ok (.istore_n 1, 1) := dk_60 (dk_at dksX10_unsplice_1 8 rfl rfl)
theorem dX10_unsplice_32 : decode cX10_unsplice 32 = .ok (.aload_n 0, 1) := dk_42 (dk_at dksX10_unsplice_1 9 rfl rfl)
theorem dX10_unsplice_33 : decode cX10_unsplice 33 = .ok (.aload_n 0, 1) := dk_42 (dk_at dksX10_unsplice_1 10 rfl rfl)
theorem dX10_unsplice_34 : decode cX10_unsplice 34 = .ok (.getfield 110, 3) := dk_180 0 110 (dk_at dksX10_unsplice_1 11 rfl rfl)
theorem dX10_unsplice_37 : decode cX10_unsplice 37 = .ok (.bipush 24, 2) := dk_16 24 (dk_at dksX10_unsplice_1 14 rfl rfl)
theorem dX10_unsplice_39 : decode cX10_unsplice 39 = .ok (.iaload, 1) := dk_46 (dk_at dksX10_unsplice_1 16 rfl rfl)
theorem dX10_unsplice_40 : decode cX10_unsplice 40 = .ok (.iconst 1, 1) := dk_4 (dk_at dksX10_unsplice_1 17 rfl rfl)
theorem dX10_unsplice_41 : decode cX10_unsplice 41 = .ok (.isub, 1) := dk_100 (dk_at dksX10_unsplice_1 18 rfl rfl)
theorem dX10_unsplice_42 : decode cX10_unsplice 42 = .ok (.invokevirtual 409, 3) := dk_182 1 153 (dk_at dksX10_unsplice_1 19 rfl rfl)
theorem dX10_unsplice_45 : decode cX10_unsplice 45 = .ok (.aload_n 0, 1) := dk_42 (dk_at dksX10_unsplice_1 22 rfl rfl)
theorem dX10_unsplice_46 : decode cX10_unsplice 46 = .ok (.invokevirtual 403, 3) := dk_182 1 147 (dk_at dksX10_unsplice_2 0 rfl rfl)
theorem dX10_unsplice_49 : decode cX10_unsplice 49 = .ok (.iload_n 1, 1) := dk_27 (dk_at dksX10_unsplice_2 3 rfl rfl)
theorem dX10_unsplice_50 : decode cX10_unsplice 50 = .ok (.ireturn, 1) := dk_172 (dk_at dksX10_unsplice_2 4 rfl rfl)
def dkwX10_loses_3 : List UInt8 := [16, 12, 28, 96, 3, 79, 167, 255, 182, 177]
abbrev dktX10_loses_3 : List UInt8 := dkwX10_loses_3 ++ []
def dkwX10_loses_2 : List UInt8 := [180, 0, 110, 16, 24, 46, 96, 3, 79, 42, 180, 0, 110, 16, 6, 28, 96, 3, 79, 42, 180, 0, 110]
abbrev dktX10_loses_2 : List UInt8 := dkwX10_loses_2 ++ dktX10_loses_3
def dkwX10_loses_1 : List UInt8 := [180, 0, 110, 16, 25, 42, 180, 0, 110, 16, 24, 46, 96, 46, 61, 42, 180, 0, 110, 16, 25, 42]
abbrev dktX10_loses_1 : List UInt8 := dkwX10_loses_1 ++ dktX10_loses_2
def dkwX10_loses_0 : List UInt8 := [42, 180, 0, 110, 16, 24, 46, 27, 164, 0, 69, 42, 180, 0, 110, 16, 24, 92, 46, 4, 100, 79, 42]
abbrev dktX10_loses_0 : List UInt8 := dkwX10_loses_0 ++ dktX10_loses_1
theorem dksX10_loses_0 : cX10_loses.data.toList.drop 0 = dktX10_loses_0 := by decide +kernel
theorem dksX10_loses_1 : cX10_loses.data.toList.drop 23 = dktX10_loses_1 := dk_seg dksX10_loses_0 23 rfl rfl
theorem dksX10_loses_2 : cX10_loses.data.toList.drop 45 = dktX10_loses_2 := dk_seg dksX10_loses_1 22 rfl rfl
theorem dksX10_loses_3 : cX10_loses.data.toList.drop 68 = dktX10_loses_3 := dk_seg dksX10_loses_2 23 rfl rfl
theorem dX10_loses_0 : decode cX10_loses 0 = .ok (.aload_n 0, 1) := dk_42 (dk_at dksX10_loses_0 0 rfl rfl)
theorem dX10_loses_1 : decode cX10_loses 1 = .ok (.getfield 110, 3) := dk_180 0 110 (dk_at dksX10_loses_0 1 rfl rfl)
theorem dX10_loses_4 : decode cX10_loses 4 = .ok (.bipush 24, 2) := dk_16 24 (dk_at dksX10_loses_0 4 rfl rfl)
theorem dX10_loses_6 : decode cX10_loses 6 = .ok (.iaload, 1) := dk_46 (dk_at dksX10_loses_0 6 rfl rfl)
theorem dX10_loses_7 : decode cX10_loses 7 = .ok (.iload_n 1, 1) := dk_27 (dk_at dksX10_loses_0 7 rfl rfl)
theorem dX10_loses_8 : decode cX10_loses 8 = .ok (.if_icmp .le 69, 3) := dk_164 0 69 (dk_at dksX10_loses_0 8 rfl rfl)
theorem dX10_loses_11 : decode cX10_loses 11 = .ok (.aload_n 0, 1) := dk_42 (dk_at dksX10_loses_0 11 rfl rfl)
theorem dX10_loses_12 : decode cX10_loses 12 = .ok (.getfield 110, 3) := dk_180 0 110 (dk_at dksX10_loses_0 12 rfl rfl)
theorem dX10_loses_15 : decode cX10_loses 15 = .ok (.bipush 24, 2) := dk_16 24 (dk_at dksX10_loses_0 15 rfl rfl)
theorem dX10_loses_17 : decode cX10_loses 17 = .ok (.dup2, 1) := dk_92 (dk_at dksX10_loses_0 17 rfl rfl)
theorem dX10_loses_18 : decode cX10_loses 18 = .ok (.iaload, 1) := dk_46 (dk_at dksX10_loses_0 18 rfl rfl)
theorem dX10_loses_19 : decode cX10_loses 19 = .ok (.iconst 1, 1) := dk_4 (dk_at dksX10_loses_0 19 rfl rfl)
theorem dX10_loses_20 : decode cX10_loses 20 = .ok (.isub, 1) := dk_100 (dk_at dksX10_loses_0 20 rfl rfl)
theorem dX10_loses_21 : decode cX10_loses 21 = .ok (.iastore, 1) := dk_79 (dk_at dksX10_loses_0 21 rfl rfl)
theorem dX10_loses_22 : decode cX10_loses 22 = .ok (.aload_n 0, 1) := dk_42 (dk_at dksX10_loses_0 22 rfl rfl)
theorem dX10_loses_23 : decode cX10_loses 23 = .ok (.getfield 110, 3) := dk_180 0 110 (dk_at dksX10_loses_1 0 rfl rfl)
theorem dX10_loses_26 : decode cX10_loses 26 = .ok (.bipush 25, 2) := dk_16 25 (dk_at dksX10_loses_1 3 rfl rfl)
theorem dX10_loses_28 : decode cX10_loses 28 = .ok (.aload_n 0, 1) := dk_42 (dk_at dksX10_loses_1 5 rfl rfl)
theorem dX10_loses_29 : decode cX10_loses 29 = .ok (.getfield 110, 3) := dk_180 0 110 (dk_at dksX10_loses_1 6 rfl rfl)
theorem dX10_loses_32 : decode cX10_loses 32 = .ok (.bipush 24, 2) := dk_16 24 (dk_at dksX10_loses_1 9 rfl rfl)
theorem dX10_loses_34 : decode cX10_loses 34 = .ok (.iaload, 1) := dk_46 (dk_at dksX10_loses_1 11 rfl rfl)
theorem dX10_loses_35 : decode cX10_loses 35 = .ok (.iadd, 1) := dk_96 (dk_at dksX10_loses_1 12 rfl rfl)
theorem dX10_loses_36 : decode cX10_loses 36 = .ok (.iaload, 1) := dk_46 (dk_at dksX10_loses_1 13 rfl rfl)
theorem dX10_loses_37 : decode cX10_loses 37 = .ok (.istore_n 2, 1) := dk_61 (dk_at dksX10_loses_1 14 rfl rfl)
theorem dX10_loses_38 : decode cX10_loses 38 = .ok (.aload_n 0, 1) := dk_42 (dk_at dksX10_loses_1 15 rfl rfl)
theorem dX10_loses_39 : decode cX10_loses 39 = .ok (.getfield 110, 3) := dk_180 0 110 (dk_at dksX10_loses_1 16 rfl rfl)
theorem dX10_loses_42 : decode cX10_loses 42 = .ok (.bipush 25, 2) := dk_16 25 (dk_at dksX10_loses_1 19 rfl rfl)
theorem dX10_loses_44 : decode cX10_loses 44 = .ok (.aload_n 0, 1) := dk_42 (dk_at dksX10_loses_1 21 rfl rfl)
theorem dX10_loses_45 : decode cX10_loses 45 = .ok (.getfield 110, 3) := dk_180 0 110 (dk_at dksX10_loses_2 0 rfl rfl)
theorem dX10_loses_48 : decode cX10_loses 48 = .ok (.bipush 24, 2) := dk_16 24 (dk_at dksX10_loses_2 3 rfl rfl)
theorem dX10_loses_50 : decode cX10_loses 50 = .ok (.iaload, 1) := dk_46 (dk_at dksX10_loses_2 5 rfl rfl)
theorem dX10_loses_51 : decode cX10_loses 51 = .ok (.iadd, 1) := dk_96 (dk_at dksX10_loses_2 6 rfl rfl)
theorem dX10_loses_52 : decode cX10_loses 52 = .ok (.iconst 0, 1) := dk_3 (dk_at dksX10_loses_2 7 rfl rfl)
theorem dX10_loses_53 : decode cX10_loses 53 = .ok (.iastore, 1) := dk_79 (dk_at dksX10_loses_2 8 rfl rfl)
theorem dX10_loses_54 : decode cX10_loses 54 = .ok (.aload_n 0, 1) := dk_42 (dk_at dksX10_loses_2 9 rfl rfl)
theorem dX10_loses_55 : decode cX10_loses 55 = .ok (.getfield 110, 3) := dk_180 0 110 (dk_at dksX10_loses_2 10 rfl rfl)
theorem dX10_loses_58 : decode cX10_loses 58 = .ok (.bipush 6, 2) := dk_16 6 (dk_at dksX10_loses_2 13 rfl rfl)
theorem dX10_loses_60 : decode cX10_loses 60 = .ok (.iload_n 2, 1) := dk_28 (dk_at dksX10_loses_2 15 rfl rfl)
theorem dX10_loses_61 : decode cX10_loses 61 = .ok (.iadd, 1) := dk_96 (dk_at dksX10_loses_2 16 rfl rfl)
theorem dX10_loses_62 : decode cX10_loses 62 = .ok (.iconst 0, 1) := dk_3 (dk_at dksX10_loses_2 17 rfl rfl)
theorem dX10_loses_63 : decode cX10_loses 63 = .ok (.iastore, 1) := dk_79 (dk_at dksX10_loses_2 18 rfl rfl)
theorem dX10_loses_64 : decode cX10_loses 64 = .ok (.aload_n 0, 1) := dk_42 (dk_at dksX10_loses_2 19 rfl rfl)
theorem dX10_loses_65 : decode cX10_loses 65 = .ok (.getfield 110, 3) := dk_180 0 110 (dk_at dksX10_loses_2 20 rfl rfl)
theorem dX10_loses_68 : decode cX10_loses 68 = .ok (.bipush 12, 2) := dk_16 12 (dk_at dksX10_loses_3 0 rfl rfl)
theorem dX10_loses_70 : decode cX10_loses 70 = .ok (.iload_n 2, 1) := dk_28 (dk_at dksX10_loses_3 2 rfl rfl)
theorem dX10_loses_71 : decode cX10_loses 71 = .ok (.iadd, 1) := dk_96 (dk_at dksX10_loses_3 3 rfl rfl)
theorem dX10_loses_72 : decode cX10_loses 72 = .ok (.iconst 0, 1) := dk_3 (dk_at dksX10_loses_3 4 rfl rfl)
theorem dX10_loses_73 : decode cX10_loses 73 = .ok (.iastore, 1) := dk_79 (dk_at dksX10_loses_3 5 rfl rfl)
theorem dX10_loses_74 : decode cX10_loses 74 = .ok (.goto (-74), 3) := dk_167 255 182 (dk_at dksX10_loses_3 6 rfl rfl)
theorem dX10_loses_77 : decode cX10_loses 77 = .ok (.return_, 1) := dk_177 (dk_at dksX10_loses_3 9 rfl rfl)
def dkwX10_haul_2 : List UInt8 := [96, 79, 167, 0, 10, 42, 28, 5, 108, 182, 1, 153, 42, 182, 1, 147, 42, 180, 0, 107, 16, 24, 46, 172]
abbrev dktX10_haul_2 : List UInt8 := dkwX10_haul_2 ++ []
def dkwX10_haul_1 : List UInt8 := [162, 0, 5, 2, 172, 42, 27, 182, 1, 159, 61, 28, 156, 0, 17, 42, 180, 0, 110, 16, 32, 92, 46, 27]
abbrev dktX10_haul_1 : List UInt8 := dkwX10_haul_1 ++ dktX10_haul_2
def dkwX10_haul_0 : List UInt8 := [42, 182, 1, 76, 27, 184, 1, 156, 153, 0, 19, 42, 182, 1, 150, 42, 180, 0, 58, 42, 180, 0, 245, 46]
abbrev dktX10_haul_0 : List UInt8 := dkwX10_haul_0 ++ dktX10_haul_1
theorem dksX10_haul_0 : cX10_haul.data.toList.drop 0 = dktX10_haul_0 := by decide +kernel
theorem dksX10_haul_1 : cX10_haul.data.toList.drop 24 = dktX10_haul_1 := dk_seg dksX10_haul_0 24 rfl rfl
theorem dksX10_haul_2 : cX10_haul.data.toList.drop 48 = dktX10_haul_2 := dk_seg dksX10_haul_1 24 rfl rfl
theorem dX10_haul_0 : decode cX10_haul 0 = .ok (.aload_n 0, 1) := dk_42 (dk_at dksX10_haul_0 0 rfl rfl)
theorem dX10_haul_1 : decode cX10_haul 1 = .ok (.invokevirtual 332, 3) := dk_182 1 76 (dk_at dksX10_haul_0 1 rfl rfl)
theorem dX10_haul_4 : decode cX10_haul 4 = .ok (.iload_n 1, 1) := dk_27 (dk_at dksX10_haul_0 4 rfl rfl)
theorem dX10_haul_5 : decode cX10_haul 5 = .ok (.invokestatic 412, 3) := dk_184 1 156 (dk_at dksX10_haul_0 5 rfl rfl)
theorem dX10_haul_8 : decode cX10_haul 8 = .ok (.ifCond .eq 19, 3) := dk_153 0 19 (dk_at dksX10_haul_0 8 rfl rfl)
theorem dX10_haul_11 : decode cX10_haul 11 = .ok (.aload_n 0, 1) := dk_42 (dk_at dksX10_haul_0 11 rfl rfl)
theorem dX10_haul_12 : decode cX10_haul 12 = .ok (.invokevirtual 406, 3) := dk_182 1 150 (dk_at dksX10_haul_0 12 rfl rfl)
theorem dX10_haul_15 : decode cX10_haul 15 = .ok (.aload_n 0, 1) := dk_42 (dk_at dksX10_haul_0 15 rfl rfl)
theorem dX10_haul_16 : decode cX10_haul 16 = .ok (.getfield 58, 3) := dk_180 0 58 (dk_at dksX10_haul_0 16 rfl rfl)
theorem dX10_haul_19 : decode cX10_haul 19 = .ok (.aload_n 0, 1) := dk_42 (dk_at dksX10_haul_0 19 rfl rfl)
theorem dX10_haul_20 : decode cX10_haul 20 = .ok (.getfield 245, 3) := dk_180 0 245 (dk_at dksX10_haul_0 20 rfl rfl)
theorem dX10_haul_23 : decode cX10_haul 23 = .ok (.iaload, 1) := dk_46 (dk_at dksX10_haul_0 23 rfl rfl)
theorem dX10_haul_24 : decode cX10_haul 24 = .ok (.if_icmp .ge 5, 3) := dk_162 0 5 (dk_at dksX10_haul_1 0 rfl rfl)
theorem dX10_haul_27 : decode cX10_haul 27 = .ok (.iconst (-1), 1) := dk_2 (dk_at dksX10_haul_1 3 rfl rfl)
theorem dX10_haul_28 : decode cX10_haul 28 = .ok (.ireturn, 1) := dk_172 (dk_at dksX10_haul_1 4 rfl rfl)
theorem dX10_haul_29 : decode cX10_haul 29 = .ok (.aload_n 0, 1) := dk_42 (dk_at dksX10_haul_1 5 rfl rfl)
theorem dX10_haul_30 : decode cX10_haul 30 = .ok (.iload_n 1, 1) := dk_27 (dk_at dksX10_haul_1 6 rfl rfl)
theorem dX10_haul_31 : decode cX10_haul 31 = .ok (.invokevirtual 415, 3) := dk_182 1 159 (dk_at dksX10_haul_1 7 rfl rfl)
theorem dX10_haul_34 : decode cX10_haul 34 = .ok (.istore_n 2, 1) := dk_61 (dk_at dksX10_haul_1 10 rfl rfl)
theorem dX10_haul_35 : decode cX10_haul 35 = .ok (.iload_n 2, 1) := dk_28 (dk_at dksX10_haul_1 11 rfl rfl)
theorem dX10_haul_36 : decode cX10_haul 36 = .ok (.ifCond .ge 17, 3) := dk_156 0 17 (dk_at dksX10_haul_1 12 rfl rfl)
theorem dX10_haul_39 : decode cX10_haul 39 = .ok (.aload_n 0, 1) := dk_42 (dk_at dksX10_haul_1 15 rfl rfl)
theorem dX10_haul_40 : decode cX10_haul 40 = .ok (.getfield 110, 3) := dk_180 0 110 (dk_at dksX10_haul_1 16 rfl rfl)
theorem dX10_haul_43 : decode cX10_haul 43 = .ok (.bipush 32, 2) := dk_16 32 (dk_at dksX10_haul_1 19 rfl rfl)
theorem dX10_haul_45 : decode cX10_haul 45 = .ok (.dup2, 1) := dk_92 (dk_at dksX10_haul_1 21 rfl rfl)
theorem dX10_haul_46 : decode cX10_haul 46 = .ok (.iaload, 1) := dk_46 (dk_at dksX10_haul_1 22 rfl rfl)
theorem dX10_haul_47 : decode cX10_haul 47 = .ok (.iload_n 1, 1) := dk_27 (dk_at dksX10_haul_1 23 rfl rfl)
theorem dX10_haul_48 : decode cX10_haul 48 = .ok (.iadd, 1) := dk_96 (dk_at dksX10_haul_2 0 rfl rfl)
theorem dX10_haul_49 : decode cX10_haul 49 = .ok (.iastore, 1) := dk_79 (dk_at dksX10_haul_2 1 rfl rfl)
theorem dX10_haul_50 : decode cX10_haul 50 = .ok (.goto 10, 3) := dk_167 0 10 (dk_at dksX10_haul_2 2 rfl rfl)
theorem dX10_haul_53 : decode cX10_haul 53 = .ok (.aload_n 0, 1) := dk_42 (dk_at dksX10_haul_2 5 rfl rfl)
theorem dX10_haul_54 : decode cX10_haul 54 = .ok (.iload_n 2, 1) := dk_28 (dk_at dksX10_haul_2 6 rfl rfl)
theorem dX10_haul_55 : decode cX10_haul 55 = .ok (.iconst 2, 1) := dk_5 (dk_at dksX10_haul_2 7 rfl rfl)
theorem dX10_haul_56 : decode cX10_haul 56 = .ok (.idiv, 1) := dk_108 (dk_at dksX10_haul_2 8 rfl rfl)
theorem dX10_haul_57 : decode cX10_haul 57 = .ok (.invokevirtual 409, 3) := dk_182 1 153 (dk_at dksX10_haul_2 9 rfl rfl)
theorem dX10_haul_60 : decode cX10_haul 60 = .ok (.aload_n 0, 1) := dk_42 (dk_at dksX10_haul_2 12 rfl rfl)
theorem dX10_haul_61 : decode cX10_haul 61 = .ok (.invokevirtual 403, 3) := dk_182 1 147 (dk_at dksX10_haul_2 13 rfl rfl)
theorem dX10_haul_64 : decode cX10_haul 64 = .ok (.aload_n 0, 1) := dk_42 (dk_at dksX10_haul_2 16 rfl rfl)
theorem dX10_haul_65 : decode cX10_haul 65 = .ok (.getfield 107, 3) := dk_180 0 107 (dk_at dksX10_haul_2 17 rfl rfl)
theorem dX10_haul_68 : decode cX10_haul 68 = .ok (.bipush 24, 2) := dk_16 24 (dk_at dksX10_haul_2 20 rfl rfl)
theorem dX10_haul_70 : decode cX10_haul 70 = .ok (.iaload, 1) := dk_46 (dk_at dksX10_haul_2 22 rfl rfl)
theorem dX10_haul_71 : decode cX10_haul 71 = .ok (.ireturn, 1) := dk_172 (dk_at dksX10_haul_2 23 rfl rfl)
def dkwX10_isWeight_0 : List UInt8 := [26, 3, 17, 3, 231, 184, 1, 66, 172]
abbrev dktX10_isWeight_0 : List UInt8 := dkwX10_isWeight_0 ++ []
theorem dksX10_isWeight_0 : cX10_isWeight.data.toList.drop 0 = dktX10_isWeight_0 := by decide +kernel
theorem dX10_isWeight_0 : decode cX10_isWeight 0 = .ok (.iload_n 0, 1) := dk_26 (dk_at dksX10_isWeight_0 0 rfl rfl)
theorem dX10_isWeight_1 : decode cX10_isWeight 1 = .ok (.iconst 0, 1) := dk_3 (dk_at dksX10_isWeight_0 1 rfl rfl)
theorem dX10_isWeight_2 : decode cX10_isWeight 2 = .ok (.sipush 999, 3) := dk_17 3 231 (dk_at dksX10_isWeight_0 2 rfl rfl)
theorem dX10_isWeight_5 : decode cX10_isWeight 5 = .ok (.invokestatic 322, 3) := dk_184 1 66 (dk_at dksX10_isWeight_0 5 rfl rfl)
theorem dX10_isWeight_8 : decode cX10_isWeight 8 = .ok (.ireturn, 1) := dk_172 (dk_at dksX10_isWeight_0 8 rfl rfl)
def dkwX10_breaksAt_1 : List UInt8 := [28, 172, 132, 2, 1, 167, 255, 229, 2, 172]
abbrev dktX10_breaksAt_1 : List UInt8 := dkwX10_breaksAt_1 ++ []
def dkwX10_breaksAt_0 : List UInt8 := [3, 61, 28, 5, 42, 180, 0, 110, 16, 24, 46, 104, 162, 0, 20, 42, 28, 182, 1, 119, 27, 162, 0, 5]
abbrev dktX10_breaksAt_0 : List UInt8 := dkwX10_breaksAt_0 ++ dktX10_breaksAt_1
theorem dksX10_breaksAt_0 : cX10_breaksAt.data.toList.drop 0 = dktX10_breaksAt_0 := by decide +kernel
theorem dksX10_breaksAt_1 : cX10_breaksAt.data.toList.drop 24 = dktX10_breaksAt_1 := dk_seg dksX10_breaksAt_0 24 rfl rfl
theorem dX10_breaksAt_0 : decode cX10_breaksAt 0 = .ok (.iconst 0, 1) := dk_3 (dk_at dksX10_breaksAt_0 0 rfl rfl)
theorem dX10_breaksAt_1 : decode cX10_breaksAt 1 = .ok (.istore_n 2, 1) := dk_61 (dk_at dksX10_breaksAt_0 1 rfl rfl)
theorem dX10_breaksAt_2 : decode cX10_breaksAt 2 = .ok (.iload_n 2, 1) := dk_28 (dk_at dksX10_breaksAt_0 2 rfl rfl)
theorem dX10_breaksAt_3 : decode cX10_breaksAt 3 = .ok (.iconst 2, 1) := dk_5 (dk_at dksX10_breaksAt_0 3 rfl rfl)
theorem dX10_breaksAt_4 : decode cX10_breaksAt 4 = .ok (.aload_n 0, 1) := dk_42 (dk_at dksX10_breaksAt_0 4 rfl rfl)
theorem dX10_breaksAt_5 : decode cX10_breaksAt 5 = .ok (.getfield 110, 3) := dk_180 0 110 (dk_at dksX10_breaksAt_0 5 rfl rfl)
theorem dX10_breaksAt_8 : decode cX10_breaksAt 8 = .ok (.bipush 24, 2) := dk_16 24 (dk_at dksX10_breaksAt_0 8 rfl rfl)
theorem dX10_breaksAt_10 : decode cX10_breaksAt 10 = .ok (.iaload, 1) := dk_46 (dk_at dksX10_breaksAt_0 10 rfl rfl)
theorem dX10_breaksAt_11 : decode cX10_breaksAt 11 = .ok (.imul, 1) := dk_104 (dk_at dksX10_breaksAt_0 11 rfl rfl)
theorem dX10_breaksAt_12 : decode cX10_breaksAt 12 = .ok (.if_icmp .ge 20, 3) := dk_162 0 20 (dk_at dksX10_breaksAt_0 12 rfl rfl)
theorem dX10_breaksAt_15 : decode cX10_breaksAt 15 = .ok (.aload_n 0, 1) := dk_42 (dk_at dksX10_breaksAt_0 15 rfl rfl)
theorem dX10_breaksAt_16 : decode cX10_breaksAt 16 = .ok (.iload_n 2, 1) := dk_28 (dk_at dksX10_breaksAt_0 16 rfl rfl)
theorem dX10_breaksAt_17 : decode cX10_breaksAt 17 = .ok (.invokevirtual 375, 3) := dk_182 1 119 (dk_at dksX10_breaksAt_0 17 rfl rfl)
theorem dX10_breaksAt_20 : decode cX10_breaksAt 20 = .ok (.iload_n 1, 1) := dk_27 (dk_at dksX10_breaksAt_0 20 rfl rfl)
theorem dX10_breaksAt_21 : decode cX10_breaksAt 21 = .ok (.if_icmp .ge 5, 3) := dk_162 0 5 (dk_at dksX10_breaksAt_0 21 rfl rfl)
theorem dX10_breaksAt_24 : decode cX10_breaksAt 24 = .ok (.iload_n 2, 1) := dk_28 (dk_at dksX10_breaksAt_1 0 rfl rfl)
theorem dX10_breaksAt_25 : decode cX10_breaksAt 25 = .ok (.ireturn, 1) := dk_172 (dk_at dksX10_breaksAt_1 1 rfl rfl)
theorem dX10_breaksAt_26 : decode cX10_breaksAt 26 = .ok (.iinc 2 1, 3) := dk_132 2 1 (dk_at dksX10_breaksAt_1 2 rfl rfl)
theorem dX10_breaksAt_29 : decode cX10_breaksAt 29 = .ok (.goto (-27), 3) := dk_167 255 229 (dk_at dksX10_breaksAt_1 5 rfl rfl)
theorem dX10_breaksAt_32 : decode cX10_breaksAt 32 = .ok (.iconst (-1), 1) := dk_2 (dk_at dksX10_breaksAt_1 8 rfl rfl)
theorem dX10_breaksAt_33 : decode cX10_breaksAt 33 = .ok (.ireturn, 1) := dk_172 (dk_at dksX10_breaksAt_1 9 rfl rfl)
def dkwX10_spareAt_3 : List UInt8 := [180, 0, 110, 16, 6, 29, 96, 46, 100, 172]
abbrev dktX10_spareAt_3 : List UInt8 := dkwX10_spareAt_3 ++ []
def dkwX10_spareAt_2 : List UInt8 := [167, 0, 33, 42, 42, 180, 0, 110, 16, 24, 28, 96, 46, 29, 182, 1, 116, 42, 28, 182, 1, 113, 100, 42]
abbrev dktX10_spareAt_2 : List UInt8 := dkwX10_spareAt_2 ++ dktX10_spareAt_3
def dkwX10_spareAt_1 : List UInt8 := [180, 0, 110, 16, 12, 29, 96, 46, 42, 28, 182, 1, 113, 100, 172, 28, 154, 0, 9, 17, 39, 15]
abbrev dktX10_spareAt_1 : List UInt8 := dkwX10_spareAt_1 ++ dktX10_spareAt_2
def dkwX10_spareAt_0 : List UInt8 := [27, 5, 108, 61, 42, 180, 0, 110, 16, 25, 28, 96, 46, 62, 27, 5, 112, 4, 160, 0, 19, 42]
abbrev dktX10_spareAt_0 : List UInt8 := dkwX10_spareAt_0 ++ dktX10_spareAt_1
theorem dksX10_spareAt_0 : cX10_spareAt.data.toList.drop 0 = dktX10_spareAt_0 := by decide +kernel
theorem dksX10_spareAt_1 : cX10_spareAt.data.toList.drop 22 = dktX10_spareAt_1 := dk_seg dksX10_spareAt_0 22 rfl rfl
theorem dksX10_spareAt_2 : cX10_spareAt.data.toList.drop 44 = dktX10_spareAt_2 := dk_seg dksX10_spareAt_1 22 rfl rfl
theorem dksX10_spareAt_3 : cX10_spareAt.data.toList.drop 68 = dktX10_spareAt_3 := dk_seg dksX10_spareAt_2 24 rfl rfl
theorem dX10_spareAt_0 : decode cX10_spareAt 0 = .ok (.iload_n 1, 1) := dk_27 (dk_at dksX10_spareAt_0 0 rfl rfl)
theorem dX10_spareAt_1 : decode cX10_spareAt 1 = .ok (.iconst 2, 1) := dk_5 (dk_at dksX10_spareAt_0 1 rfl rfl)
theorem dX10_spareAt_2 : decode cX10_spareAt 2 = .ok (.idiv, 1) := dk_108 (dk_at dksX10_spareAt_0 2 rfl rfl)
theorem dX10_spareAt_3 : decode cX10_spareAt 3 = .ok (.istore_n 2, 1) := dk_61 (dk_at dksX10_spareAt_0 3 rfl rfl)
theorem dX10_spareAt_4 : decode cX10_spareAt 4 = .ok (.aload_n 0, 1) := dk_42 (dk_at dksX10_spareAt_0 4 rfl rfl)
theorem dX10_spareAt_5 : decode cX10_spareAt 5 = .ok (.getfield 110, 3) := dk_180 0 110 (dk_at dksX10_spareAt_0 5 rfl rfl)
theorem dX10_spareAt_8 : decode cX10_spareAt 8 = .ok (.bipush 25, 2) := dk_16 25 (dk_at dksX10_spareAt_0 8 rfl rfl)
theorem dX10_spareAt_10 : decode cX10_spareAt 10 = .ok (.iload_n 2, 1) := dk_28 (dk_at dksX10_spareAt_0 10 rfl rfl)
theorem dX10_spareAt_11 : decode cX10_spareAt 11 = .ok (.iadd, 1) := dk_96 (dk_at dksX10_spareAt_0 11 rfl rfl)
theorem dX10_spareAt_12 : decode cX10_spareAt 12 = .ok (.iaload, 1) := dk_46 (dk_at dksX10_spareAt_0 12 rfl rfl)
theorem dX10_spareAt_13 : decode cX10_spareAt 13 = .ok (.istore_n 3, 1) := dk_62 (dk_at dksX10_spareAt_0 13 rfl rfl)
theorem dX10_spareAt_14 : decode cX10_spareAt 14 = .ok (.iload_n 1, 1) := dk_27 (dk_at dksX10_spareAt_0 14 rfl rfl)
theorem dX10_spareAt_15 : decode cX10_spareAt 15 = .ok (.iconst 2, 1) := dk_5 (dk_at dksX10_spareAt_0 15 rfl rfl)
theorem dX10_spareAt_16 : decode cX10_spareAt 16 = .ok (.irem, 1) := dk_112 (dk_at dksX10_spareAt_0 16 rfl rfl)
theorem dX10_spareAt_17 : decode cX10_spareAt 17 = .ok (.iconst 1, 1) := dk_4 (dk_at dksX10_spareAt_0 17 rfl rfl)
theorem dX10_spareAt_18 : decode cX10_spareAt 18 = .ok (.if_icmp .ne 19, 3) := dk_160 0 19 (dk_at dksX10_spareAt_0 18 rfl rfl)
theorem dX10_spareAt_21 : decode cX10_spareAt 21 = .ok (.aload_n 0, 1) := dk_42 (dk_at dksX10_spareAt_0 21 rfl rfl)
theorem dX10_spareAt_22 : decode cX10_spareAt 22 = .ok (.getfield 110, 3) := dk_180 0 110 (dk_at dksX10_spareAt_1 0 rfl rfl)
theorem dX10_spareAt_25 : decode cX10_spareAt 25 = .ok (.bipush 12, 2) := dk_16 12 (dk_at dksX10_spareAt_1 3 rfl rfl)
theorem dX10_spareAt_27 : decode cX10_spareAt 27 = .ok (.iload_n 3, 1) := dk_29 (dk_at dksX10_spareAt_1 5 rfl rfl)
theorem dX10_spareAt_28 : decode cX10_spareAt 28 = .ok (.iadd, 1) := dk_96 (dk_at dksX10_spareAt_1 6 rfl rfl)
theorem dX10_spareAt_29 : decode cX10_spareAt 29 = .ok (.iaload, 1) := dk_46 (dk_at dksX10_spareAt_1 7 rfl rfl)
theorem dX10_spareAt_30 : decode cX10_spareAt 30 = .ok (.aload_n 0, 1) := dk_42 (dk_at dksX10_spareAt_1 8 rfl rfl)
theorem dX10_spareAt_31 : decode cX10_spareAt 31 = .ok (.iload_n 2, 1) := dk_28 (dk_at dksX10_spareAt_1 9 rfl rfl)
theorem dX10_spareAt_32 : decode cX10_spareAt 32 = .ok (.invokevirtual 369, 3) := dk_182 1 113 (dk_at dksX10_spareAt_1 10 rfl rfl)
theorem dX10_spareAt_35 : decode cX10_spareAt 35 = .ok (.isub, 1) := dk_100 (dk_at dksX10_spareAt_1 13 rfl rfl)
theorem dX10_spareAt_36 : decode cX10_spareAt 36 = .ok (.ireturn, 1) := dk_172 (dk_at dksX10_spareAt_1 14 rfl rfl)
theorem dX10_spareAt_37 : decode cX10_spareAt 37 = .ok (.iload_n 2, 1) := dk_28 (dk_at dksX10_spareAt_1 15 rfl rfl)
theorem dX10_spareAt_38 : decode cX10_spareAt 38 = .ok (.ifCond .ne 9, 3) := dk_154 0 9 (dk_at dksX10_spareAt_1 16 rfl rfl)
theorem dX10_spareAt_41 : decode cX10_spareAt 41 = .ok (.sipush 9999, 3) := dk_17 39 15 (dk_at dksX10_spareAt_1 19 rfl rfl)
theorem dX10_spareAt_44 : decode cX10_spareAt 44 = .ok (.goto 33, 3) := dk_167 0 33 (dk_at dksX10_spareAt_2 0 rfl rfl)
theorem dX10_spareAt_47 : decode cX10_spareAt 47 = .ok (.aload_n 0, 1) := dk_42 (dk_at dksX10_spareAt_2 3 rfl rfl)
theorem dX10_spareAt_48 : decode cX10_spareAt 48 = .ok (.aload_n 0, 1) := dk_42 (dk_at dksX10_spareAt_2 4 rfl rfl)
theorem dX10_spareAt_49 : decode cX10_spareAt 49 = .ok (.getfield 110, 3) := dk_180 0 110 (dk_at dksX10_spareAt_2 5 rfl rfl)
theorem dX10_spareAt_52 : decode cX10_spareAt 52 = .ok (.bipush 24, 2) := dk_16 24 (dk_at dksX10_spareAt_2 8 rfl rfl)
theorem dX10_spareAt_54 : decode cX10_spareAt 54 = .ok (.iload_n 2, 1) := dk_28 (dk_at dksX10_spareAt_2 10 rfl rfl)
theorem dX10_spareAt_55 : decode cX10_spareAt 55 = .ok (.iadd, 1) := dk_96 (dk_at dksX10_spareAt_2 11 rfl rfl)
theorem dX10_spareAt_56 : decode cX10_spareAt 56 = .ok (.iaload, 1) := dk_46 (dk_at dksX10_spareAt_2 12 rfl rfl)
theorem dX10_spareAt_57 : decode cX10_spareAt 57 = .ok (.iload_n 3, 1) := dk_29 (dk_at dksX10_spareAt_2 13 rfl rfl)
theorem dX10_spareAt_58 : decode cX10_spareAt 58 = .ok (.invokevirtual 372, 3) := dk_182 1 116 (dk_at dksX10_spareAt_2 14 rfl rfl)
theorem dX10_spareAt_61 : decode cX10_spareAt 61 = .ok (.aload_n 0, 1) := dk_42 (dk_at dksX10_spareAt_2 17 rfl rfl)
theorem dX10_spareAt_62 : decode cX10_spareAt 62 = .ok (.iload_n 2, 1) := dk_28 (dk_at dksX10_spareAt_2 18 rfl rfl)
theorem dX10_spareAt_63 : decode cX10_spareAt 63 = .ok (.invokevirtual 369, 3) := dk_182 1 113 (dk_at dksX10_spareAt_2 19 rfl rfl)
theorem dX10_spareAt_66 : decode cX10_spareAt 66 = .ok (.isub, 1) := dk_100 (dk_at dksX10_spareAt_2 22 rfl rfl)
theorem dX10_spareAt_67 : decode cX10_spareAt 67 = .ok (.aload_n 0, 1) := dk_42 (dk_at dksX10_spareAt_2 23 rfl rfl)
theorem dX10_spareAt_68 : decode cX10_spareAt 68 = .ok (.getfield 110, 3) := dk_180 0 110 (dk_at dksX10_spareAt_3 0 rfl rfl)
theorem dX10_spareAt_71 : decode cX10_spareAt 71 = .ok (.bipush 6, 2) := dk_16 6 (dk_at dksX10_spareAt_3 3 rfl rfl)
theorem dX10_spareAt_73 : decode cX10_spareAt 73 = .ok (.iload_n 3, 1) := dk_29 (dk_at dksX10_spareAt_3 5 rfl rfl)
theorem dX10_spareAt_74 : decode cX10_spareAt 74 = .ok (.iadd, 1) := dk_96 (dk_at dksX10_spareAt_3 6 rfl rfl)
theorem dX10_spareAt_75 : decode cX10_spareAt 75 = .ok (.iaload, 1) := dk_46 (dk_at dksX10_spareAt_3 7 rfl rfl)
theorem dX10_spareAt_76 : decode cX10_spareAt 76 = .ok (.isub, 1) := dk_100 (dk_at dksX10_spareAt_3 8 rfl rfl)
theorem dX10_spareAt_77 : decode cX10_spareAt 77 = .ok (.ireturn, 1) := dk_172 (dk_at dksX10_spareAt_3 9 rfl rfl)
def dkwX10_belowOf_1 : List UInt8 := [42, 180, 0, 110, 16, 25, 29, 96, 46, 96, 46, 96, 61, 132, 3, 1, 167, 255, 222, 28, 172]
abbrev dktX10_belowOf_1 : List UInt8 := dkwX10_belowOf_1 ++ []
def dkwX10_belowOf_0 : List UInt8 := [3, 61, 27, 4, 96, 62, 29, 42, 180, 0, 110, 16, 24, 46, 162, 0, 29, 28, 42, 180, 0, 110, 16, 6]
abbrev dktX10_belowOf_0 : List UInt8 := dkwX10_belowOf_0 ++ dktX10_belowOf_1
theorem dksX10_belowOf_0 : cX10_belowOf.data.toList.drop 0 = dktX10_belowOf_0 := by decide +kernel
theorem dksX10_belowOf_1 : cX10_belowOf.data.toList.drop 24 = dktX10_belowOf_1 := dk_seg dksX10_belowOf_0 24 rfl rfl
theorem dX10_belowOf_0 : decode cX10_belowOf 0 = .ok (.iconst 0, 1) := dk_3 (dk_at dksX10_belowOf_0 0 rfl rfl)
theorem dX10_belowOf_1 : decode cX10_belowOf 1 = .ok (.istore_n 2, 1) := dk_61 (dk_at dksX10_belowOf_0 1 rfl rfl)
theorem dX10_belowOf_2 : decode cX10_belowOf 2 = .ok (.iload_n 1, 1) := dk_27 (dk_at dksX10_belowOf_0 2 rfl rfl)
theorem dX10_belowOf_3 : decode cX10_belowOf 3 = .ok (.iconst 1, 1) := dk_4 (dk_at dksX10_belowOf_0 3 rfl rfl)
theorem dX10_belowOf_4 : decode cX10_belowOf 4 = .ok (.iadd, 1) := dk_96 (dk_at dksX10_belowOf_0 4 rfl rfl)
theorem dX10_belowOf_5 : decode cX10_belowOf 5 = .ok (.istore_n 3, 1) := dk_62 (dk_at dksX10_belowOf_0 5 rfl rfl)
theorem dX10_belowOf_6 : decode cX10_belowOf 6 = .ok (.iload_n 3, 1) := dk_29 (dk_at dksX10_belowOf_0 6 rfl rfl)
theorem dX10_belowOf_7 : decode cX10_belowOf 7 = .ok (.aload_n 0, 1) := dk_42 (dk_at dksX10_belowOf_0 7 rfl rfl)
theorem dX10_belowOf_8 : decode cX10_belowOf 8 = .ok (.getfield 110, 3) := dk_180 0 110 (dk_at dksX10_belowOf_0 8 rfl rfl)
theorem dX10_belowOf_11 : decode cX10_belowOf 11 = .ok (.bipush 24, 2) := dk_16 24 (dk_at dksX10_belowOf_0 11 rfl rfl)
theorem dX10_belowOf_13 : decode cX10_belowOf 13 = .ok (.iaload, 1) := dk_46 (dk_at dksX10_belowOf_0 13 rfl rfl)
theorem dX10_belowOf_14 : decode cX10_belowOf 14 = .ok (.if_icmp .ge 29, 3) := dk_162 0 29 (dk_at dksX10_belowOf_0 14 rfl rfl)
theorem dX10_belowOf_17 : decode cX10_belowOf 17 = .ok (.iload_n 2, 1) := dk_28 (dk_at dksX10_belowOf_0 17 rfl rfl)
theorem dX10_belowOf_18 : decode cX10_belowOf 18 = .ok (.aload_n 0, 1) := dk_42 (dk_at dksX10_belowOf_0 18 rfl rfl)
theorem dX10_belowOf_19 : decode cX10_belowOf 19 = .ok (.getfield 110, 3) := dk_180 0 110 (dk_at dksX10_belowOf_0 19 rfl rfl)
theorem dX10_belowOf_22 : decode cX10_belowOf 22 = .ok (.bipush 6, 2) := dk_16 6 (dk_at dksX10_belowOf_0 22 rfl rfl)
theorem dX10_belowOf_24 : decode cX10_belowOf 24 = .ok (.aload_n 0, 1) := dk_42 (dk_at dksX10_belowOf_1 0 rfl rfl)
theorem dX10_belowOf_25 : decode cX10_belowOf 25 = .ok (.getfield 110, 3) := dk_180 0 110 (dk_at dksX10_belowOf_1 1 rfl rfl)
theorem dX10_belowOf_28 : decode cX10_belowOf 28 = .ok (.bipush 25, 2) := dk_16 25 (dk_at dksX10_belowOf_1 4 rfl rfl)
theorem dX10_belowOf_30 : decode cX10_belowOf 30 = .ok (.iload_n 3, 1) := dk_29 (dk_at dksX10_belowOf_1 6 rfl rfl)
theorem dX10_belowOf_31 : decode cX10_belowOf 31 = .ok (.iadd, 1) := dk_96 (dk_at dksX10_belowOf_1 7 rfl rfl)
theorem dX10_belowOf_32 : decode cX10_belowOf 32 = .ok (.iaload, 1) := dk_46 (dk_at dksX10_belowOf_1 8 rfl rfl)
theorem dX10_belowOf_33 : decode cX10_belowOf 33 = .ok (.iadd, 1) := dk_96 (dk_at dksX10_belowOf_1 9 rfl rfl)
theorem dX10_belowOf_34 : decode cX10_belowOf 34 = .ok (.iaload, 1) := dk_46 (dk_at dksX10_belowOf_1 10 rfl rfl)
theorem dX10_belowOf_35 : decode cX10_belowOf 35 = .ok (.iadd, 1) := dk_96 (dk_at dksX10_belowOf_1 11 rfl rfl)
theorem dX10_belowOf_36 : decode cX10_belowOf 36 = .ok (.istore_n 2, 1) := dk_61 (dk_at dksX10_belowOf_1 12 rfl rfl)
theorem dX10_belowOf_37 : decode cX10_belowOf 37 = .ok (.iinc 3 1, 3) := dk_132 3 1 (dk_at dksX10_belowOf_1 13 rfl rfl)
theorem dX10_belowOf_40 : decode cX10_belowOf 40 = .ok (.goto (-34), 3) := dk_167 255 222 (dk_at dksX10_belowOf_1 16 rfl rfl)
theorem dX10_belowOf_43 : decode cX10_belowOf 43 = .ok (.iload_n 2, 1) := dk_28 (dk_at dksX10_belowOf_1 19 rfl rfl)
theorem dX10_belowOf_44 : decode cX10_belowOf 44 = .ok (.ireturn, 1) := dk_172 (dk_at dksX10_belowOf_1 20 rfl rfl)
def dkwX10_years_1 : List UInt8 := [182, 1, 76, 42, 27, 182, 1, 165, 42, 182, 1, 147, 42, 180, 0, 107, 16, 31, 46, 172]
abbrev dktX10_years_1 : List UInt8 := dkwX10_years_1 ++ []
def dkwX10_years_0 : List UInt8 := [27, 184, 1, 162, 154, 0, 5, 2, 172, 27, 154, 0, 11, 42, 180, 0, 107, 16, 31, 46, 172, 42]
abbrev dktX10_years_0 : List UInt8 := dkwX10_years_0 ++ dktX10_years_1
theorem dksX10_years_0 : cX10_years.data.toList.drop 0 = dktX10_years_0 := by decide +kernel
theorem dksX10_years_1 : cX10_years.data.toList.drop 22 = dktX10_years_1 := dk_seg dksX10_years_0 22 rfl rfl
theorem dX10_years_0 : decode cX10_years 0 = .ok (.iload_n 1, 1) := dk_27 (dk_at dksX10_years_0 0 rfl rfl)
theorem dX10_years_1 : decode cX10_years 1 = .ok (.invokestatic 418, 3) := dk_184 1 162 (dk_at dksX10_years_0 1 rfl rfl)
theorem dX10_years_4 : decode cX10_years 4 = .ok (.ifCond .ne 5, 3) := dk_154 0 5 (dk_at dksX10_years_0 4 rfl rfl)
theorem dX10_years_7 : decode cX10_years 7 = .ok (.iconst (-1), 1) := dk_2 (dk_at dksX10_years_0 7 rfl rfl)
theorem dX10_years_8 : decode cX10_years 8 = .ok (.ireturn, 1) := dk_172 (dk_at dksX10_years_0 8 rfl rfl)
theorem dX10_years_9 : decode cX10_years 9 = .ok (.iload_n 1, 1) := dk_27 (dk_at dksX10_years_0 9 rfl rfl)
theorem dX10_years_10 : decode cX10_years 10 = .ok (.ifCond .ne 11, 3) := dk_154 0 11 (dk_at dksX10_years_0 10 rfl rfl)
theorem dX10_years_13 : decode cX10_years 13 = .ok (.aload_n 0, 1) := dk_42 (dk_at dksX10_years_0 13 rfl rfl)
theorem dX10_years_14 : decode cX10_years 14 = .ok (.getfield 107, 3) := dk_180 0 107 (dk_at dksX10_years_0 14 rfl rfl)
theorem dX10_years_17 : decode cX10_years 17 = .ok (.bipush 31, 2) := dk_16 31 (dk_at dksX10_years_0 17 rfl rfl)
theorem dX10_years_19 : decode cX10_years 19 = .ok (.iaload, 1) := dk_46 (dk_at dksX10_years_0 19 rfl rfl)
theorem dX10_years_20 : decode cX10_years 20 = .ok (.ireturn, 1) := dk_172 (dk_at dksX10_years_0 20 rfl rfl)
theorem dX10_years_21 : decode cX10_years 21 = .ok (.aload_n 0, 1) := dk_42 (dk_at dksX10_years_0 21 rfl rfl)
theorem dX10_years_22 : decode cX10_years 22 = .ok (.invokevirtual 332, 3) := dk_182 1 76 (dk_at dksX10_years_1 0 rfl rfl)
theorem dX10_years_25 : decode cX10_years 25 = .ok (.aload_n 0, 1) := dk_42 (dk_at dksX10_years_1 3 rfl rfl)
theorem dX10_years_26 : decode cX10_years 26 = .ok (.iload_n 1, 1) := dk_27 (dk_at dksX10_years_1 4 rfl rfl)
theorem dX10_years_27 : decode cX10_years 27 = .ok (.invokevirtual 421, 3) := dk_182 1 165 (dk_at dksX10_years_1 5 rfl rfl)
theorem dX10_years_30 : decode cX10_years 30 = .ok (.aload_n 0, 1) := dk_42 (dk_at dksX10_years_1 8 rfl rfl)
theorem dX10_years_31 : decode cX10_years 31 = .ok (.invokevirtual 403, 3) := dk_182 1 147 (dk_at dksX10_years_1 9 rfl rfl)
theorem dX10_years_34 : decode cX10_years 34 = .ok (.aload_n 0, 1) := dk_42 (dk_at dksX10_years_1 12 rfl rfl)
theorem dX10_years_35 : decode cX10_years 35 = .ok (.getfield 107, 3) := dk_180 0 107 (dk_at dksX10_years_1 13 rfl rfl)
theorem dX10_years_38 : decode cX10_years 38 = .ok (.bipush 31, 2) := dk_16 31 (dk_at dksX10_years_1 16 rfl rfl)
theorem dX10_years_40 : decode cX10_years 40 = .ok (.iaload, 1) := dk_46 (dk_at dksX10_years_1 18 rfl rfl)
theorem dX10_years_41 : decode cX10_years 41 = .ok (.ireturn, 1) := dk_172 (dk_at dksX10_years_1 19 rfl rfl)
def dkwX10_isLong_0 : List UInt8 := [26, 3, 16, 60, 184, 1, 66, 172]
abbrev dktX10_isLong_0 : List UInt8 := dkwX10_isLong_0 ++ []
theorem dksX10_isLong_0 : cX10_isLong.data.toList.drop 0 = dktX10_isLong_0 := by decide +kernel
theorem dX10_isLong_0 : decode cX10_isLong 0 = .ok (.iload_n 0, 1) := dk_26 (dk_at dksX10_isLong_0 0 rfl rfl)
theorem dX10_isLong_1 : decode cX10_isLong 1 = .ok (.iconst 0, 1) := dk_3 (dk_at dksX10_isLong_0 1 rfl rfl)
theorem dX10_isLong_2 : decode cX10_isLong 2 = .ok (.bipush 60, 2) := dk_16 60 (dk_at dksX10_isLong_0 2 rfl rfl)
theorem dX10_isLong_4 : decode cX10_isLong 4 = .ok (.invokestatic 322, 3) := dk_184 1 66 (dk_at dksX10_isLong_0 4 rfl rfl)
theorem dX10_isLong_7 : decode cX10_isLong 7 = .ok (.ireturn, 1) := dk_172 (dk_at dksX10_isLong_0 7 rfl rfl)
def dkwX10_goes_0 : List UInt8 := [3, 61, 28, 27, 162, 0, 13, 42, 182, 1, 134, 132, 2, 1, 167, 255, 244, 177]
abbrev dktX10_goes_0 : List UInt8 := dkwX10_goes_0 ++ []
theorem dksX10_goes_0 : cX10_goes.data.toList.drop 0 = dktX10_goes_0 := by decide +kernel
theorem dX10_goes_0 : decode cX10_goes 0 = .ok (.iconst 0, 1) := dk_3 (dk_at dksX10_goes_0 0 rfl rfl)
theorem dX10_goes_1 : decode cX10_goes 1 = .ok (.istore_n 2, 1) := dk_61 (dk_at dksX10_goes_0 1 rfl rfl)
theorem dX10_goes_2 : decode cX10_goes 2 = .ok (.iload_n 2, 1) := dk_28 (dk_at dksX10_goes_0 2 rfl rfl)
theorem dX10_goes_3 : decode cX10_goes 3 = .ok (.iload_n 1, 1) := dk_27 (dk_at dksX10_goes_0 3 rfl rfl)
theorem dX10_goes_4 : decode cX10_goes 4 = .ok (.if_icmp .ge 13, 3) := dk_162 0 13 (dk_at dksX10_goes_0 4 rfl rfl)
theorem dX10_goes_7 : decode cX10_goes 7 = .ok (.aload_n 0, 1) := dk_42 (dk_at dksX10_goes_0 7 rfl rfl)
theorem dX10_goes_8 : decode cX10_goes 8 = .ok (.invokevirtual 390, 3) := dk_182 1 134 (dk_at dksX10_goes_0 8 rfl rfl)
theorem dX10_goes_11 : decode cX10_goes 11 = .ok (.iinc 2 1, 3) := dk_132 2 1 (dk_at dksX10_goes_0 11 rfl rfl)
theorem dX10_goes_14 : decode cX10_goes 14 = .ok (.goto (-12), 3) := dk_167 255 244 (dk_at dksX10_goes_0 14 rfl rfl)
theorem dX10_goes_17 : decode cX10_goes 17 = .ok (.return_, 1) := dk_177 (dk_at dksX10_goes_0 17 rfl rfl)
def dkwX10_yearGoes_6 : List UInt8 := [79, 132, 1, 1, 167, 255, 157, 42, 180, 0, 110, 16, 31, 92, 46, 4, 96, 79, 177]
abbrev dktX10_yearGoes_6 : List UInt8 := dkwX10_yearGoes_6 ++ []
def dkwX10_yearGoes_5 : List UInt8 := [27, 96, 42, 180, 0, 110, 16, 12, 27, 96, 46, 42, 180, 0, 116, 27, 46, 100, 3, 16, 99, 184, 1, 104]
abbrev dktX10_yearGoes_5 : List UInt8 := dkwX10_yearGoes_5 ++ dktX10_yearGoes_6
def dkwX10_yearGoes_4 : List UInt8 := [27, 46, 96, 3, 16, 99, 184, 1, 104, 79, 42, 27, 182, 1, 83, 153, 0, 34, 42, 180, 0, 110, 16, 12]
abbrev dktX10_yearGoes_4 : List UInt8 := dkwX10_yearGoes_4 ++ dktX10_yearGoes_5
def dkwX10_yearGoes_3 : List UInt8 := [153, 0, 14, 42, 180, 0, 110, 27, 46, 5, 108, 167, 0, 22, 42, 180, 0, 110, 27, 46, 42, 180, 0, 113]
abbrev dktX10_yearGoes_3 : List UInt8 := dkwX10_yearGoes_3 ++ dktX10_yearGoes_4
def dkwX10_yearGoes_2 : List UInt8 := [42, 180, 0, 43, 42, 180, 0, 245, 46, 162, 0, 92, 42, 180, 0, 110, 27, 42, 27, 182, 1, 131]
abbrev dktX10_yearGoes_2 : List UInt8 := dkwX10_yearGoes_2 ++ dktX10_yearGoes_3
def dkwX10_yearGoes_1 : List UInt8 := [182, 1, 125, 79, 42, 180, 0, 116, 27, 42, 27, 182, 1, 128, 79, 132, 1, 1, 167, 255, 218, 3, 60, 27]
abbrev dktX10_yearGoes_1 : List UInt8 := dkwX10_yearGoes_1 ++ dktX10_yearGoes_2
def dkwX10_yearGoes_0 : List UInt8 := [3, 60, 27, 42, 180, 0, 43, 42, 180, 0, 245, 46, 162, 0, 31, 42, 180, 0, 113, 27, 42, 27]
abbrev dktX10_yearGoes_0 : List UInt8 := dkwX10_yearGoes_0 ++ dktX10_yearGoes_1
theorem dksX10_yearGoes_0 : cX10_yearGoes.data.toList.drop 0 = dktX10_yearGoes_0 := by decide +kernel
theorem dksX10_yearGoes_1 : cX10_yearGoes.data.toList.drop 22 = dktX10_yearGoes_1 := dk_seg dksX10_yearGoes_0 22 rfl rfl
theorem dksX10_yearGoes_2 : cX10_yearGoes.data.toList.drop 46 = dktX10_yearGoes_2 := dk_seg dksX10_yearGoes_1 24 rfl rfl
theorem dksX10_yearGoes_3 : cX10_yearGoes.data.toList.drop 68 = dktX10_yearGoes_3 := dk_seg dksX10_yearGoes_2 22 rfl rfl
theorem dksX10_yearGoes_4 : cX10_yearGoes.data.toList.drop 92 = dktX10_yearGoes_4 := dk_seg dksX10_yearGoes_3 24 rfl rfl
theorem dksX10_yearGoes_5 : cX10_yearGoes.data.toList.drop 116 = dktX10_yearGoes_5 := dk_seg dksX10_yearGoes_4 24 rfl rfl
theorem dksX10_yearGoes_6 : cX10_yearGoes.data.toList.drop 140 = dktX10_yearGoes_6 := dk_seg dksX10_yearGoes_5 24 rfl rfl
theorem dX10_yearGoes_0 : decode cX10_yearGoes 0 = .ok (.iconst 0, 1) := dk_3 (dk_at dksX10_yearGoes_0 0 rfl rfl)
theorem dX10_yearGoes_1 : decode cX10_yearGoes 1 = .ok (.istore_n 1, 1) := dk_60 (dk_at dksX10_yearGoes_0 1 rfl rfl)
theorem dX10_yearGoes_2 : decode cX10_yearGoes 2 = .ok (.iload_n 1, 1) := dk_27 (dk_at dksX10_yearGoes_0 2 rfl rfl)
theorem dX10_yearGoes_3 : decode cX10_yearGoes 3 = .ok (.aload_n 0, 1) := dk_42 (dk_at dksX10_yearGoes_0 3 rfl rfl)
theorem dX10_yearGoes_4 : decode cX10_yearGoes 4 = .ok (.getfield 43, 3) := dk_180 0 43 (dk_at dksX10_yearGoes_0 4 rfl rfl)
theorem dX10_yearGoes_7 : decode cX10_yearGoes 7 = .ok (.aload_n 0, 1) := dk_42 (dk_at dksX10_yearGoes_0 7 rfl rfl)
theorem dX10_yearGoes_8 : decode cX10_yearGoes 8 = .ok (.getfield 245, 3) := dk_180 0 245 (dk_at dksX10_yearGoes_0 8 rfl rfl)
theorem dX10_yearGoes_11 : decode cX10_yearGoes 11 = .ok (.iaload, 1) := dk_46 (dk_at dksX10_yearGoes_0 11 rfl rfl)
theorem dX10_yearGoes_12 : decode cX10_yearGoes 12 = .ok (.if_icmp .ge 31, 3) := dk_162 0 31 (dk_at dksX10_yearGoes_0 12 rfl rfl)
theorem dX10_yearGoes_15 : decode cX10_yearGoes 15 = .ok (.aload_n 0, 1) := dk_42 (dk_at dksX10_yearGoes_0 15 rfl rfl)
theorem dX10_yearGoes_16 : decode cX10_yearGoes 16 = .ok (.getfield 113, 3) := dk_180 0 113 (dk_at dksX10_yearGoes_0 16 rfl rfl)
theorem dX10_yearGoes_19 : decode cX10_yearGoes 19 = .ok (.iload_n 1, 1) := dk_27 (dk_at dksX10_yearGoes_0 19 rfl rfl)
theorem dX10_yearGoes_20 : decode cX10_yearGoes 20 = .ok (.aload_n 0, 1) := dk_42 (dk_at dksX10_yearGoes_0 20 rfl rfl)
theorem dX10_yearGoes_21 : decode cX10_yearGoes 21 = .ok (.iload_n 1, 1) := dk_27 (dk_at dksX10_yearGoes_0 21 rfl rfl)
theorem dX10_yearGoes_22 : decode cX10_yearGoes 22 = .ok (.invokevirtual 381, 3) := dk_182 1 125 (dk_at dksX10_yearGoes_1 0 rfl rfl)
theorem dX10_yearGoes_25 : decode cX10_yearGoes 25 = .ok (.iastore, 1) := dk_79 (dk_at dksX10_yearGoes_1 3 rfl rfl)
theorem dX10_yearGoes_26 : decode cX10_yearGoes 26 = .ok (.aload_n 0, 1) := dk_42 (dk_at dksX10_yearGoes_1 4 rfl rfl)
theorem dX10_yearGoes_27 : decode cX10_yearGoes 27 = .ok (.getfield 116, 3) := dk_180 0 116 (dk_at dksX10_yearGoes_1 5 rfl rfl)
theorem dX10_yearGoes_30 : decode cX10_yearGoes 30 = .ok (.iload_n 1, 1) := dk_27 (dk_at dksX10_yearGoes_1 8 rfl rfl)
theorem dX10_yearGoes_31 : decode cX10_yearGoes 31 = .ok (.aload_n 0, 1) := dk_42 (dk_at dksX10_yearGoes_1 9 rfl rfl)
theorem dX10_yearGoes_32 : decode cX10_yearGoes 32 = .ok (.iload_n 1, 1) := dk_27 (dk_at dksX10_yearGoes_1 10 rfl rfl)
theorem dX10_yearGoes_33 : decode cX10_yearGoes 33 = .ok (.invokevirtual 384, 3) := dk_182 1 128 (dk_at dksX10_yearGoes_1 11 rfl rfl)
theorem dX10_yearGoes_36 : decode cX10_yearGoes 36 = .ok (.iastore, 1) := dk_79 (dk_at dksX10_yearGoes_1 14 rfl rfl)
theorem dX10_yearGoes_37 : decode cX10_yearGoes 37 = .ok (.iinc 1 1, 3) := dk_132 1 1 (dk_at dksX10_yearGoes_1 15 rfl rfl)
theorem dX10_yearGoes_40 : decode cX10_yearGoes 40 = .ok (.goto (-38), 3) := dk_167 255 218 (dk_at dksX10_yearGoes_1 18 rfl rfl)
theorem dX10_yearGoes_43 : decode cX10_yearGoes 43 = .ok (.iconst 0, 1) := dk_3 (dk_at dksX10_yearGoes_1 21 rfl rfl)
theorem dX10_yearGoes_44 : decode cX10_yearGoes 44 = .ok (.istore_n 1, 1) := dk_60 (dk_at dksX10_yearGoes_1 22 rfl rfl)
theorem dX10_yearGoes_45 : decode cX10_yearGoes 45 = .ok (.iload_n 1, 1) := dk_27 (dk_at dksX10_yearGoes_1 23 rfl rfl)
theorem dX10_yearGoes_46 : decode cX10_yearGoes 46 = .ok (.aload_n 0, 1) := dk_42 (dk_at dksX10_yearGoes_2 0 rfl rfl)
theorem dX10_yearGoes_47 : decode cX10_yearGoes 47 = .ok (.getfield 43, 3) := dk_180 0 43 (dk_at dksX10_yearGoes_2 1 rfl rfl)
theorem dX10_yearGoes_50 : decode cX10_yearGoes 50 = .ok (.aload_n 0, 1) := dk_42 (dk_at dksX10_yearGoes_2 4 rfl rfl)
theorem dX10_yearGoes_51 : decode cX10_yearGoes 51 = .ok (.getfield 245, 3) := dk_180 0 245 (dk_at dksX10_yearGoes_2 5 rfl rfl)
theorem dX10_yearGoes_54 : decode cX10_yearGoes 54 = .ok (.iaload, 1) := dk_46 (dk_at dksX10_yearGoes_2 8 rfl rfl)
theorem dX10_yearGoes_55 : decode cX10_yearGoes 55 = .ok (.if_icmp .ge 92, 3) := dk_162 0 92 (dk_at dksX10_yearGoes_2 9 rfl rfl)
theorem dX10_yearGoes_58 : decode cX10_yearGoes 58 = .ok (.aload_n 0, 1) := dk_42 (dk_at dksX10_yearGoes_2 12 rfl rfl)
theorem dX10_yearGoes_59 : decode cX10_yearGoes 59 = .ok (.getfield 110, 3) := dk_180 0 110 (dk_at dksX10_yearGoes_2 13 rfl rfl)
theorem dX10_yearGoes_62 : decode cX10_yearGoes 62 = .ok (.iload_n 1, 1) := dk_27 (dk_at dksX10_yearGoes_2 16 rfl rfl)
theorem dX10_yearGoes_63 : decode cX10_yearGoes 63 = .ok (.aload_n 0, 1) := dk_42 (dk_at dksX10_yearGoes_2 17 rfl rfl)
theorem dX10_yearGoes_64 : decode cX10_yearGoes 64 = .ok (.iload_n 1, 1) := dk_27 (dk_at dksX10_yearGoes_2 18 rfl rfl)
theorem dX10_yearGoes_65 : decode cX10_yearGoes 65 = .ok (.invokevirtual 387, 3) := dk_182 1 131 (dk_at dksX10_yearGoes_2 19 rfl rfl)
theorem dX10_yearGoes_68 : decode cX10_yearGoes 68 = .ok (.ifCond .eq 14, 3) := dk_153 0 14 (dk_at dksX10_yearGoes_3 0 rfl rfl)
theorem dX10_yearGoes_71 : decode cX10_yearGoes 71 = .ok (.aload_n 0, 1) := dk_42 (dk_at dksX10_yearGoes_3 3 rfl rfl)
theorem dX10_yearGoes_72 : decode cX10_yearGoes 72 = .ok (.getfield 110, 3) := dk_180 0 110 (dk_at dksX10_yearGoes_3 4 rfl rfl)
theorem dX10_yearGoes_75 : decode cX10_yearGoes 75 = .ok (.iload_n 1, 1) := dk_27 (dk_at dksX10_yearGoes_3 7 rfl rfl)
theorem dX10_yearGoes_76 : decode cX10_yearGoes 76 = .ok (.iaload, 1) := dk_46 (dk_at dksX10_yearGoes_3 8 rfl rfl)
theorem dX10_yearGoes_77 : decode cX10_yearGoes 77 = .ok (.iconst 2, 1) := dk_5 (dk_at dksX10_yearGoes_3 9 rfl rfl)
theorem dX10_yearGoes_78 : decode cX10_yearGoes 78 = .ok (.idiv, 1) := dk_108 (dk_at dksX10_yearGoes_3 10 rfl rfl)
theorem dX10_yearGoes_79 : decode cX10_yearGoes 79 = .ok (.goto 22, 3) := dk_167 0 22 (dk_at dksX10_yearGoes_3 11 rfl rfl)
theorem dX10_yearGoes_82 : decode cX10_yearGoes 82 = .ok (.aload_n 0, 1) := dk_42 (dk_at dksX10_yearGoes_3 14 rfl rfl)
theorem dX10_yearGoes_83 : decode cX10_yearGoes 83 = .ok (.getfield 110, 3) := dk_180 0 110 (dk_at dksX10_yearGoes_3 15 rfl rfl)
theorem dX10_yearGoes_86 : decode cX10_yearGoes 86 = .ok (.iload_n 1, 1) := dk_27 (dk_at dksX10_yearGoes_3 18 rfl rfl)
theorem dX10_yearGoes_87 : decode cX10_yearGoes 87 = .ok (.iaload, 1) := dk_46 (dk_at dksX10_yearGoes_3 19 rfl rfl)
theorem dX10_yearGoes_88 : decode cX10_yearGoes 88 = .ok (.aload_n 0, 1) := dk_42 (dk_at dksX10_yearGoes_3 20 rfl rfl)
theorem dX10_yearGoes_89 : decode cX10_yearGoes 89 = .ok (.getfield 113, 3) := dk_180 0 113 (dk_at dksX10_yearGoes_3 21 rfl rfl)
theorem dX10_yearGoes_92 : decode cX10_yearGoes 92 = .ok (.iload_n 1, 1) := dk_27 (dk_at dksX10_yearGoes_4 0 rfl rfl)
theorem dX10_yearGoes_93 : decode cX10_yearGoes 93 = .ok (.iaload, 1) := dk_46 (dk_at dksX10_yearGoes_4 1 rfl rfl)
theorem dX10_yearGoes_94 : decode cX10_yearGoes 94 = .ok (.iadd, 1) := dk_96 (dk_at dksX10_yearGoes_4 2 rfl rfl)
theorem dX10_yearGoes_95 : decode cX10_yearGoes 95 = .ok (.iconst 0, 1) := dk_3 (dk_at dksX10_yearGoes_4 3 rfl rfl)
theorem dX10_yearGoes_96 : decode cX10_yearGoes 96 = .ok (.bipush 99, 2) := dk_16 99 (dk_at dksX10_yearGoes_4 4 rfl rfl)
theorem dX10_yearGoes_98 : decode cX10_yearGoes 98 = .ok (.invokestatic 360, 3) := dk_184 1 104 (dk_at dksX10_yearGoes_4 6 rfl rfl)
theorem dX10_yearGoes_101 : decode cX10_yearGoes 101 = .ok (.iastore, 1) := dk_79 (dk_at dksX10_yearGoes_4 9 rfl rfl)
theorem dX10_yearGoes_102 : decode cX10_yearGoes 102 = .ok (.aload_n 0, 1) := dk_42 (dk_at dksX10_yearGoes_4 10 rfl rfl)
theorem dX10_yearGoes_103 : decode cX10_yearGoes 103 = .ok (.iload_n 1, 1) := dk_27 (dk_at dksX10_yearGoes_4 11 rfl rfl)
theorem dX10_yearGoes_104 : decode cX10_yearGoes 104 = .ok (.invokevirtual 339, 3) := dk_182 1 83 (dk_at dksX10_yearGoes_4 12 rfl rfl)
theorem dX10_yearGoes_107 : decode cX10_yearGoes 107 = .ok (.ifCond .eq 34, 3) := dk_153 0 34 (dk_at dksX10_yearGoes_4 15 rfl rfl)
theorem dX10_yearGoes_110 : decode cX10_yearGoes 110 = .ok (.aload_n 0, 1) := dk_42 (dk_at dksX10_yearGoes_4 18 rfl rfl)
theorem dX10_yearGoes_111 : decode cX10_yearGoes 111 = .ok (.getfield 110, 3) := dk_180 0 110 (dk_at dksX10_yearGoes_4 19 rfl rfl)
theorem dX10_yearGoes_114 : decode cX10_yearGoes 114 = .ok (.bipush 12, 2) := dk_16 12 (dk_at dksX10_yearGoes_4 22 rfl rfl)
theorem dX10_yearGoes_116 : decode cX10_yearGoes 116 = .ok (.iload_n 1, 1) := dk_27 (dk_at dksX10_yearGoes_5 0 rfl rfl)
theorem dX10_yearGoes_117 : decode cX10_yearGoes 117 = .ok (.iadd, 1) := dk_96 (dk_at dksX10_yearGoes_5 1 rfl rfl)
theorem dX10_yearGoes_118 : decode cX10_yearGoes 118 = .ok (.aload_n 0, 1) := dk_42 (dk_at dksX10_yearGoes_5 2 rfl rfl)
theorem dX10_yearGoes_119 : decode cX10_yearGoes 119 = .ok (.getfield 110, 3) := dk_180 0 110 (dk_at dksX10_yearGoes_5 3 rfl rfl)
theorem dX10_yearGoes_122 : decode cX10_yearGoes 122 = .ok (.bipush 12, 2) := dk_16 12 (dk_at dksX10_yearGoes_5 6 rfl rfl)
theorem dX10_yearGoes_124 : decode cX10_yearGoes 124 = .ok (.iload_n 1, 1) := dk_27 (dk_at dksX10_yearGoes_5 8 rfl rfl)
theorem dX10_yearGoes_125 : decode cX10_yearGoes 125 = .ok (.iadd, 1) := dk_96 (dk_at dksX10_yearGoes_5 9 rfl rfl)
theorem dX10_yearGoes_126 : decode cX10_yearGoes 126 = .ok (.iaload, 1) := dk_46 (dk_at dksX10_yearGoes_5 10 rfl rfl)
theorem dX10_yearGoes_127 : decode cX10_yearGoes 127 = .ok (.aload_n 0, 1) := dk_42 (dk_at dksX10_yearGoes_5 11 rfl rfl)
theorem dX10_yearGoes_128 : decode cX10_yearGoes 128 = .ok (.getfield 116, 3) := dk_180 0 116 (dk_at dksX10_yearGoes_5 12 rfl rfl)
theorem dX10_yearGoes_131 : decode cX10_yearGoes 131 = .ok (.iload_n 1, 1) := dk_27 (dk_at dksX10_yearGoes_5 15 rfl rfl)
theorem dX10_yearGoes_132 : decode cX10_yearGoes 132 = .ok (.iaload, 1) := dk_46 (dk_at dksX10_yearGoes_5 16 rfl rfl)
theorem dX10_yearGoes_133 : decode cX10_yearGoes 133 = .ok (.isub, 1) := dk_100 (dk_at dksX10_yearGoes_5 17 rfl rfl)
theorem dX10_yearGoes_134 : decode cX10_yearGoes 134 = .ok (.iconst 0, 1) := dk_3 (dk_at dksX10_yearGoes_5 18 rfl rfl)
theorem dX10_yearGoes_135 : decode cX10_yearGoes 135 = .ok (.bipush 99, 2) := dk_16 99 (dk_at dksX10_yearGoes_5 19 rfl rfl)
theorem dX10_yearGoes_137 : decode cX10_yearGoes 137 = .ok (.invokestatic 360, 3) := dk_184 1 104 (dk_at dksX10_yearGoes_5 21 rfl rfl)
theorem dX10_yearGoes_140 : decode cX10_yearGoes 140 = .ok (.iastore, 1) := dk_79 (dk_at dksX10_yearGoes_6 0 rfl rfl)
theorem dX10_yearGoes_141 : decode cX10_yearGoes 141 = .ok (.iinc 1 1, 3) := dk_132 1 1 (dk_at dksX10_yearGoes_6 1 rfl rfl)
theorem dX10_yearGoes_144 : decode cX10_yearGoes 144 = .ok (.goto (-99), 3) := dk_167 255 157 (dk_at dksX10_yearGoes_6 4 rfl rfl)
theorem dX10_yearGoes_147 : decode cX10_yearGoes 147 = .ok (.aload_n 0, 1) := dk_42 (dk_at dksX10_yearGoes_6 7 rfl rfl)
theorem dX10_yearGoes_148 : decode cX10_yearGoes 148 = .ok (.getfield 110, 3) := dk_180 0 110 (dk_at dksX10_yearGoes_6 8 rfl rfl)
theorem dX10_yearGoes_151 : decode cX10_yearGoes 151 = .ok (.bipush 31, 2) := dk_16 31 (dk_at dksX10_yearGoes_6 11 rfl rfl)
theorem dX10_yearGoes_153 : decode cX10_yearGoes 153 = .ok (.dup2, 1) := dk_92 (dk_at dksX10_yearGoes_6 13 rfl rfl)
theorem dX10_yearGoes_154 : decode cX10_yearGoes 154 = .ok (.iaload, 1) := dk_46 (dk_at dksX10_yearGoes_6 14 rfl rfl)
theorem dX10_yearGoes_155 : decode cX10_yearGoes 155 = .ok (.iconst 1, 1) := dk_4 (dk_at dksX10_yearGoes_6 15 rfl rfl)
theorem dX10_yearGoes_156 : decode cX10_yearGoes 156 = .ok (.iadd, 1) := dk_96 (dk_at dksX10_yearGoes_6 16 rfl rfl)
theorem dX10_yearGoes_157 : decode cX10_yearGoes 157 = .ok (.iastore, 1) := dk_79 (dk_at dksX10_yearGoes_6 17 rfl rfl)
theorem dX10_yearGoes_158 : decode cX10_yearGoes 158 = .ok (.return_, 1) := dk_177 (dk_at dksX10_yearGoes_6 18 rfl rfl)
def dkwX10_isBlighted_1 : List UInt8 := [180, 0, 64, 42, 180, 0, 245, 46, 162, 0, 7, 4, 167, 0, 4, 3, 172]
abbrev dktX10_isBlighted_1 : List UInt8 := dkwX10_isBlighted_1 ++ []
def dkwX10_isBlighted_0 : List UInt8 := [42, 180, 1, 73, 154, 0, 35, 42, 16, 8, 42, 180, 0, 110, 16, 31, 46, 104, 27, 96, 182, 1, 122, 42]
abbrev dktX10_isBlighted_0 : List UInt8 := dkwX10_isBlighted_0 ++ dktX10_isBlighted_1
theorem dksX10_isBlighted_0 : cX10_isBlighted.data.toList.drop 0 = dktX10_isBlighted_0 := by decide +kernel
theorem dksX10_isBlighted_1 : cX10_isBlighted.data.toList.drop 24 = dktX10_isBlighted_1 := dk_seg dksX10_isBlighted_0 24 rfl rfl
theorem dX10_isBlighted_0 : decode cX10_isBlighted 0 = .ok (.aload_n 0, 1) := dk_42 (dk_at dksX10_isBlighted_0 0 rfl rfl)
theorem dX10_isBlighted_1 : decode cX10_isBlighted 1 = .ok (.getfield 329, 3) := dk_180 1 73 (dk_at dksX10_isBlighted_0 1 rfl rfl)
theorem dX10_isBlighted_4 : decode cX10_isBlighted 4 = .ok (.ifCond .ne 35, 3) := dk_154 0 35 (dk_at dksX10_isBlighted_0 4 rfl rfl)
theorem dX10_isBlighted_7 : decode cX10_isBlighted 7 = .ok (.aload_n 0, 1) := dk_42 (dk_at dksX10_isBlighted_0 7 rfl rfl)
theorem dX10_isBlighted_8 : decode cX10_isBlighted 8 = .ok (.bipush 8, 2) := dk_16 8 (dk_at dksX10_isBlighted_0 8 rfl rfl)
theorem dX10_isBlighted_10 : decode cX10_isBlighted 10 = .ok (.aload_n 0, 1) := dk_42 (dk_at dksX10_isBlighted_0 10 rfl rfl)
theorem dX10_isBlighted_11 : decode cX10_isBlighted 11 = .ok (.getfield 110, 3) := dk_180 0 110 (dk_at dksX10_isBlighted_0 11 rfl rfl)
theorem dX10_isBlighted_14 : decode cX10_isBlighted 14 = .ok (.bipush 31, 2) := dk_16 31 (dk_at dksX10_isBlighted_0 14 rfl rfl)
theorem dX10_isBlighted_16 : decode cX10_isBlighted 16 = .ok (.iaload, 1) := dk_46 (dk_at dksX10_isBlighted_0 16 rfl rfl)
theorem dX10_isBlighted_17 : decode cX10_isBlighted 17 = .ok (.imul, 1) := dk_104 (dk_at dksX10_isBlighted_0 17 rfl rfl)
theorem dX10_isBlighted_18 : decode cX10_isBlighted 18 = .ok (.iload_n 1, 1) := dk_27 (dk_at dksX10_isBlighted_0 18 rfl rfl)
theorem dX10_isBlighted_19 : decode cX10_isBlighted 19 = .ok (.iadd, 1) := dk_96 (dk_at dksX10_isBlighted_0 19 rfl rfl)
theorem dX10_isBlighted_20 : decode cX10_isBlighted 20 = .ok (.invokevirtual 378, 3) := dk_182 1 122 (dk_at dksX10_isBlighted_0 20 rfl rfl)
theorem dX10_isBlighted_23 : decode cX10_isBlighted 23 = .ok (.aload_n 0, 1) := dk_42 (dk_at dksX10_isBlighted_0 23 rfl rfl)
theorem dX10_isBlighted_24 : decode cX10_isBlighted 24 = .ok (.getfield 64, 3) := dk_180 0 64 (dk_at dksX10_isBlighted_1 0 rfl rfl)
theorem dX10_isBlighted_27 : decode cX10_isBlighted 27 = .ok (.aload_n 0, 1) := dk_42 (dk_at dksX10_isBlighted_1 3 rfl rfl)
theorem dX10_isBlighted_28 : decode cX10_isBlighted 28 = .ok (.getfield 245, 3) := dk_180 0 245 (dk_at dksX10_isBlighted_1 4 rfl rfl)
theorem dX10_isBlighted_31 : decode cX10_isBlighted 31 = .ok (.iaload, 1) := dk_46 (dk_at dksX10_isBlighted_1 7 rfl rfl)
theorem dX10_isBlighted_32 : decode cX10_isBlighted 32 = .ok (.if_icmp .ge 7, 3) := dk_162 0 7 (dk_at dksX10_isBlighted_1 8 rfl rfl)
theorem dX10_isBlighted_35 : decode cX10_isBlighted 35 = .ok (.iconst 1, 1) := dk_4 (dk_at dksX10_isBlighted_1 11 rfl rfl)
theorem dX10_isBlighted_36 : decode cX10_isBlighted 36 = .ok (.goto 4, 3) := dk_167 0 4 (dk_at dksX10_isBlighted_1 12 rfl rfl)
theorem dX10_isBlighted_39 : decode cX10_isBlighted 39 = .ok (.iconst 0, 1) := dk_3 (dk_at dksX10_isBlighted_1 15 rfl rfl)
theorem dX10_isBlighted_40 : decode cX10_isBlighted 40 = .ok (.ireturn, 1) := dk_172 (dk_at dksX10_isBlighted_1 16 rfl rfl)
def dkwX10_lotOf_0 : List UInt8 := [42, 180, 1, 70, 17, 0, 219, 184, 1, 80, 27, 184, 1, 80, 4, 124, 16, 100, 112, 172]
abbrev dktX10_lotOf_0 : List UInt8 := dkwX10_lotOf_0 ++ []
theorem dksX10_lotOf_0 : cX10_lotOf.data.toList.drop 0 = dktX10_lotOf_0 := by decide +kernel
theorem dX10_lotOf_0 : decode cX10_lotOf 0 = .ok (.aload_n 0, 1) := dk_42 (dk_at dksX10_lotOf_0 0 rfl rfl)
theorem dX10_lotOf_1 : decode cX10_lotOf 1 = .ok (.getfield 326, 3) := dk_180 1 70 (dk_at dksX10_lotOf_0 1 rfl rfl)
theorem dX10_lotOf_4 : decode cX10_lotOf 4 = .ok (.sipush 219, 3) := dk_17 0 219 (dk_at dksX10_lotOf_0 4 rfl rfl)
theorem dX10_lotOf_7 : decode cX10_lotOf 7 = .ok (.invokestatic 336, 3) := dk_184 1 80 (dk_at dksX10_lotOf_0 7 rfl rfl)
theorem dX10_lotOf_10 : decode cX10_lotOf 10 = .ok (.iload_n 1, 1) := dk_27 (dk_at dksX10_lotOf_0 10 rfl rfl)
theorem dX10_lotOf_11 : decode cX10_lotOf 11 = .ok (.invokestatic 336, 3) := dk_184 1 80 (dk_at dksX10_lotOf_0 11 rfl rfl)
theorem dX10_lotOf_14 : decode cX10_lotOf 14 = .ok (.iconst 1, 1) := dk_4 (dk_at dksX10_lotOf_0 14 rfl rfl)
theorem dX10_lotOf_15 : decode cX10_lotOf 15 = .ok (.iushr, 1) := dk_124 (dk_at dksX10_lotOf_0 15 rfl rfl)
theorem dX10_lotOf_16 : decode cX10_lotOf 16 = .ok (.bipush 100, 2) := dk_16 100 (dk_at dksX10_lotOf_0 16 rfl rfl)
theorem dX10_lotOf_18 : decode cX10_lotOf 18 = .ok (.irem, 1) := dk_112 (dk_at dksX10_lotOf_0 18 rfl rfl)
theorem dX10_lotOf_19 : decode cX10_lotOf 19 = .ok (.ireturn, 1) := dk_172 (dk_at dksX10_lotOf_0 19 rfl rfl)
def dkwX10_mixed_0 : List UInt8 := [26, 27, 130, 19, 1, 79, 104, 17, 48, 57, 96, 61, 28, 28, 16, 15, 124, 130, 172]
abbrev dktX10_mixed_0 : List UInt8 := dkwX10_mixed_0 ++ []
theorem dksX10_mixed_0 : cX10_mixed.data.toList.drop 0 = dktX10_mixed_0 := by decide +kernel
theorem dX10_mixed_0 : decode cX10_mixed 0 = .ok (.iload_n 0, 1) := dk_26 (dk_at dksX10_mixed_0 0 rfl rfl)
theorem dX10_mixed_1 : decode cX10_mixed 1 = .ok (.iload_n 1, 1) := dk_27 (dk_at dksX10_mixed_0 1 rfl rfl)
theorem dX10_mixed_2 : decode cX10_mixed 2 = .ok (.ixor, 1) := dk_130 (dk_at dksX10_mixed_0 2 rfl rfl)
theorem dX10_mixed_3 : decode cX10_mixed 3 = .ok (.ldc_w 335, 3) := dk_19 1 79 (dk_at dksX10_mixed_0 3 rfl rfl)
theorem dX10_mixed_6 : decode cX10_mixed 6 = .ok (.imul, 1) := dk_104 (dk_at dksX10_mixed_0 6 rfl rfl)
theorem dX10_mixed_7 : decode cX10_mixed 7 = .ok (.sipush 12345, 3) := dk_17 48 57 (dk_at dksX10_mixed_0 7 rfl rfl)
theorem dX10_mixed_10 : decode cX10_mixed 10 = .ok (.iadd, 1) := dk_96 (dk_at dksX10_mixed_0 10 rfl rfl)
theorem dX10_mixed_11 : decode cX10_mixed 11 = .ok (.istore_n 2, 1) := dk_61 (dk_at dksX10_mixed_0 11 rfl rfl)
theorem dX10_mixed_12 : decode cX10_mixed 12 = .ok (.iload_n 2, 1) := dk_28 (dk_at dksX10_mixed_0 12 rfl rfl)
theorem dX10_mixed_13 : decode cX10_mixed 13 = .ok (.iload_n 2, 1) := dk_28 (dk_at dksX10_mixed_0 13 rfl rfl)
theorem dX10_mixed_14 : decode cX10_mixed 14 = .ok (.bipush 15, 2) := dk_16 15 (dk_at dksX10_mixed_0 14 rfl rfl)
theorem dX10_mixed_16 : decode cX10_mixed 16 = .ok (.iushr, 1) := dk_124 (dk_at dksX10_mixed_0 16 rfl rfl)
theorem dX10_mixed_17 : decode cX10_mixed 17 = .ok (.ixor, 1) := dk_130 (dk_at dksX10_mixed_0 17 rfl rfl)
theorem dX10_mixed_18 : decode cX10_mixed 18 = .ok (.ireturn, 1) := dk_172 (dk_at dksX10_mixed_0 18 rfl rfl)
def dkwX10_undo_2 : List UInt8 := [132, 1, 1, 167, 255, 227, 4, 172]
abbrev dktX10_undo_2 : List UInt8 := dkwX10_undo_2 ++ []
def dkwX10_undo_1 : List UInt8 := [162, 0, 29, 42, 180, 0, 107, 27, 42, 180, 0, 119, 16, 33, 42, 180, 1, 7, 104, 27, 96, 46, 79]
abbrev dktX10_undo_1 : List UInt8 := dkwX10_undo_1 ++ dktX10_undo_2
def dkwX10_undo_0 : List UInt8 := [42, 180, 1, 7, 154, 0, 5, 3, 172, 42, 89, 180, 1, 7, 4, 100, 181, 1, 7, 3, 60, 27, 16, 33]
abbrev dktX10_undo_0 : List UInt8 := dkwX10_undo_0 ++ dktX10_undo_1
theorem dksX10_undo_0 : cX10_undo.data.toList.drop 0 = dktX10_undo_0 := by decide +kernel
theorem dksX10_undo_1 : cX10_undo.data.toList.drop 24 = dktX10_undo_1 := dk_seg dksX10_undo_0 24 rfl rfl
theorem dksX10_undo_2 : cX10_undo.data.toList.drop 47 = dktX10_undo_2 := dk_seg dksX10_undo_1 23 rfl rfl
theorem dX10_undo_0 : decode cX10_undo 0 = .ok (.aload_n 0, 1) := dk_42 (dk_at dksX10_undo_0 0 rfl rfl)
theorem dX10_undo_1 : decode cX10_undo 1 = .ok (.getfield 263, 3) := dk_180 1 7 (dk_at dksX10_undo_0 1 rfl rfl)
theorem dX10_undo_4 : decode cX10_undo 4 = .ok (.ifCond .ne 5, 3) := dk_154 0 5 (dk_at dksX10_undo_0 4 rfl rfl)
theorem dX10_undo_7 : decode cX10_undo 7 = .ok (.iconst 0, 1) := dk_3 (dk_at dksX10_undo_0 7 rfl rfl)
theorem dX10_undo_8 : decode cX10_undo 8 = .ok (.ireturn, 1) := dk_172 (dk_at dksX10_undo_0 8 rfl rfl)
theorem dX10_undo_9 : decode cX10_undo 9 = .ok (.aload_n 0, 1) := dk_42 (dk_at dksX10_undo_0 9 rfl rfl)
theorem dX10_undo_10 : decode cX10_undo 10 = .ok (.dup, 1) := dk_89 (dk_at dksX10_undo_0 10 rfl rfl)
theorem dX10_undo_11 : decode cX10_undo 11 = .ok (.getfield 263, 3) := dk_180 1 7 (dk_at dksX10_undo_0 11 rfl rfl)
theorem dX10_undo_14 : decode cX10_undo 14 = .ok (.iconst 1, 1) := dk_4 (dk_at dksX10_undo_0 14 rfl rfl)
theorem dX10_undo_15 : decode cX10_undo 15 = .ok (.isub, 1) := dk_100 (dk_at dksX10_undo_0 15 rfl rfl)
theorem dX10_undo_16 : decode cX10_undo 16 = .ok (.putfield 263, 3) := dk_181 1 7 (dk_at dksX10_undo_0 16 rfl rfl)
theorem dX10_undo_19 : decode cX10_undo 19 = .ok (.iconst 0, 1) := dk_3 (dk_at dksX10_undo_0 19 rfl rfl)
theorem dX10_undo_20 : decode cX10_undo 20 = .ok (.istore_n 1, 1) := dk_60 (dk_at dksX10_undo_0 20 rfl rfl)
theorem dX10_undo_21 : decode cX10_undo 21 = .ok (.iload_n 1, 1) := dk_27 (dk_at dksX10_undo_0 21 rfl rfl)
theorem dX10_undo_22 : decode cX10_undo 22 = .ok (.bipush 33, 2) := dk_16 33 (dk_at dksX10_undo_0 22 rfl rfl)
theorem dX10_undo_24 : decode cX10_undo 24 = .ok (.if_icmp .ge 29, 3) := dk_162 0 29 (dk_at dksX10_undo_1 0 rfl rfl)
theorem dX10_undo_27 : decode cX10_undo 27 = .ok (.aload_n 0, 1) := dk_42 (dk_at dksX10_undo_1 3 rfl rfl)
theorem dX10_undo_28 : decode cX10_undo 28 = .ok (.getfield 107, 3) := dk_180 0 107 (dk_at dksX10_undo_1 4 rfl rfl)
theorem dX10_undo_31 : decode cX10_undo 31 = .ok (.iload_n 1, 1) := dk_27 (dk_at dksX10_undo_1 7 rfl rfl)
theorem dX10_undo_32 : decode cX10_undo 32 = .ok (.aload_n 0, 1) := dk_42 (dk_at dksX10_undo_1 8 rfl rfl)
theorem dX10_undo_33 : decode cX10_undo 33 = .ok (.getfield 119, 3) := dk_180 0 119 (dk_at dksX10_undo_1 9 rfl rfl)
theorem dX10_undo_36 : decode cX10_undo 36 = .ok (.bipush 33, 2) := dk_16 33 (dk_at dksX10_undo_1 12 rfl rfl)
theorem dX10_undo_38 : decode cX10_undo 38 = .ok (.aload_n 0, 1) := dk_42 (dk_at dksX10_undo_1 14 rfl rfl)
theorem dX10_undo_39 : decode cX10_undo 39 = .ok (.getfield 263, 3) := dk_180 1 7 (dk_at dksX10_undo_1 15 rfl rfl)
theorem dX10_undo_42 : decode cX10_undo 42 = .ok (.imul, 1) := dk_104 (dk_at dksX10_undo_1 18 rfl rfl)
theorem dX10_undo_43 : decode cX10_undo 43 = .ok (.iload_n 1, 1) := dk_27 (dk_at dksX10_undo_1 19 rfl rfl)
theorem dX10_undo_44 : decode cX10_undo 44 = .ok (.iadd, 1) := dk_96 (dk_at dksX10_undo_1 20 rfl rfl)
theorem dX10_undo_45 : decode cX10_undo 45 = .ok (.iaload, 1) := dk_46 (dk_at dksX10_undo_1 21 rfl rfl)
theorem dX10_undo_46 : decode cX10_undo 46 = .ok (.iastore, 1) := dk_79 (dk_at dksX10_undo_1 22 rfl rfl)
theorem dX10_undo_47 : decode cX10_undo 47 = .ok (.iinc 1 1, 3) := dk_132 1 1 (dk_at dksX10_undo_2 0 rfl rfl)
theorem dX10_undo_50 : decode cX10_undo 50 = .ok (.goto (-29), 3) := dk_167 255 227 (dk_at dksX10_undo_2 3 rfl rfl)
theorem dX10_undo_53 : decode cX10_undo 53 = .ok (.iconst 1, 1) := dk_4 (dk_at dksX10_undo_2 6 rfl rfl)
theorem dX10_undo_54 : decode cX10_undo 54 = .ok (.ireturn, 1) := dk_172 (dk_at dksX10_undo_2 7 rfl rfl)
def dkwX10_most_0 : List UInt8 := [42, 182, 1, 76, 42, 182, 1, 171, 172]
abbrev dktX10_most_0 : List UInt8 := dkwX10_most_0 ++ []
theorem dksX10_most_0 : cX10_most.data.toList.drop 0 = dktX10_most_0 := by decide +kernel
theorem dX10_most_0 : decode cX10_most 0 = .ok (.aload_n 0, 1) := dk_42 (dk_at dksX10_most_0 0 rfl rfl)
theorem dX10_most_1 : decode cX10_most 1 = .ok (.invokevirtual 332, 3) := dk_182 1 76 (dk_at dksX10_most_0 1 rfl rfl)
theorem dX10_most_4 : decode cX10_most 4 = .ok (.aload_n 0, 1) := dk_42 (dk_at dksX10_most_0 4 rfl rfl)
theorem dX10_most_5 : decode cX10_most 5 = .ok (.invokevirtual 427, 3) := dk_182 1 171 (dk_at dksX10_most_0 5 rfl rfl)
theorem dX10_most_8 : decode cX10_most 8 = .ok (.ireturn, 1) := dk_172 (dk_at dksX10_most_0 8 rfl rfl)
def dkwX10_mostOf_1 : List UInt8 := [167, 0, 4, 27, 172]
abbrev dktX10_mostOf_1 : List UInt8 := dkwX10_mostOf_1 ++ []
def dkwX10_mostOf_0 : List UInt8 := [42, 182, 1, 168, 60, 27, 156, 0, 8, 16, 254, 167, 0, 17, 27, 17, 3, 231, 164, 0, 9, 17, 3, 231]
abbrev dktX10_mostOf_0 : List UInt8 := dkwX10_mostOf_0 ++ dktX10_mostOf_1
theorem dksX10_mostOf_0 : cX10_mostOf.data.toList.drop 0 = dktX10_mostOf_0 := by decide +kernel
theorem dksX10_mostOf_1 : cX10_mostOf.data.toList.drop 24 = dktX10_mostOf_1 := dk_seg dksX10_mostOf_0 24 rfl rfl
theorem dX10_mostOf_0 : decode cX10_mostOf 0 = .ok (.aload_n 0, 1) := dk_42 (dk_at dksX10_mostOf_0 0 rfl rfl)
theorem dX10_mostOf_1 : decode cX10_mostOf 1 = .ok (.invokevirtual 424, 3) := dk_182 1 168 (dk_at dksX10_mostOf_0 1 rfl rfl)
theorem dX10_mostOf_4 : decode cX10_mostOf 4 = .ok (.istore_n 1, 1) := dk_60 (dk_at dksX10_mostOf_0 4 rfl rfl)
theorem dX10_mostOf_5 : decode cX10_mostOf 5 = .ok (.iload_n 1, 1) := dk_27 (dk_at dksX10_mostOf_0 5 rfl rfl)
theorem dX10_mostOf_6 : decode cX10_mostOf 6 = .ok (.ifCond .ge 8, 3) := dk_156 0 8 (dk_at dksX10_mostOf_0 6 rfl rfl)
theorem dX10_mostOf_9 : decode cX10_mostOf 9 = .ok (.bipush (-2), 2) := dk_16 254 (dk_at dksX10_mostOf_0 9 rfl rfl)
theorem dX10_mostOf_11 : decode cX10_mostOf 11 = .ok (.goto 17, 3) := dk_167 0 17 (dk_at dksX10_mostOf_0 11 rfl rfl)
theorem dX10_mostOf_14 : decode cX10_mostOf 14 = .ok (.iload_n 1, 1) := dk_27 (dk_at dksX10_mostOf_0 14 rfl rfl)
theorem dX10_mostOf_15 : decode cX10_mostOf 15 = .ok (.sipush 999, 3) := dk_17 3 231 (dk_at dksX10_mostOf_0 15 rfl rfl)
theorem dX10_mostOf_18 : decode cX10_mostOf 18 = .ok (.if_icmp .le 9, 3) := dk_164 0 9 (dk_at dksX10_mostOf_0 18 rfl rfl)
theorem dX10_mostOf_21 : decode cX10_mostOf 21 = .ok (.sipush 999, 3) := dk_17 3 231 (dk_at dksX10_mostOf_0 21 rfl rfl)
theorem dX10_mostOf_24 : decode cX10_mostOf 24 = .ok (.goto 4, 3) := dk_167 0 4 (dk_at dksX10_mostOf_1 0 rfl rfl)
theorem dX10_mostOf_27 : decode cX10_mostOf 27 = .ok (.iload_n 1, 1) := dk_27 (dk_at dksX10_mostOf_1 3 rfl rfl)
theorem dX10_mostOf_28 : decode cX10_mostOf 28 = .ok (.ireturn, 1) := dk_172 (dk_at dksX10_mostOf_1 4 rfl rfl)
def dkwX10_spareLeast_1 : List UInt8 := [27, 162, 0, 9, 42, 28, 182, 1, 119, 60, 132, 2, 1, 167, 255, 225, 27, 172]
abbrev dktX10_spareLeast_1 : List UInt8 := dkwX10_spareLeast_1 ++ []
def dkwX10_spareLeast_0 : List UInt8 := [17, 39, 15, 60, 3, 61, 28, 5, 42, 180, 0, 110, 16, 24, 46, 104, 162, 0, 24, 42, 28, 182, 1, 119]
abbrev dktX10_spareLeast_0 : List UInt8 := dkwX10_spareLeast_0 ++ dktX10_spareLeast_1
theorem dksX10_spareLeast_0 : cX10_spareLeast.data.toList.drop 0 = dktX10_spareLeast_0 := by decide +kernel
theorem dksX10_spareLeast_1 : cX10_spareLeast.data.toList.drop 24 = dktX10_spareLeast_1 := dk_seg dksX10_spareLeast_0 24 rfl rfl
theorem dX10_spareLeast_0 : decode cX10_spareLeast 0 = .ok (.sipush 9999, 3) := dk_17 39 15 (dk_at dksX10_spareLeast_0 0 rfl rfl)
theorem dX10_spareLeast_3 : decode cX10_spareLeast 3 = .ok (.istore_n 1, 1) := dk_60 (dk_at dksX10_spareLeast_0 3 rfl rfl)
theorem dX10_spareLeast_4 : decode cX10_spareLeast 4 = .ok (.iconst 0, 1) := dk_3 (dk_at dksX10_spareLeast_0 4 rfl rfl)
theorem dX10_spareLeast_5 : decode cX10_spareLeast 5 = .ok (.istore_n 2, 1) := dk_61 (dk_at dksX10_spareLeast_0 5 rfl rfl)
theorem dX10_spareLeast_6 : decode cX10_spareLeast 6 = .ok (.iload_n 2, 1) := dk_28 (dk_at dksX10_spareLeast_0 6 rfl rfl)
theorem dX10_spareLeast_7 : decode cX10_spareLeast 7 = .ok (.iconst 2, 1) := dk_5 (dk_at dksX10_spareLeast_0 7 rfl rfl)
theorem dX10_spareLeast_8 : decode cX10_spareLeast 8 = .ok (.aload_n 0, 1) := dk_42 (dk_at dksX10_spareLeast_0 8 rfl rfl)
theorem dX10_spareLeast_9 : decode cX10_spareLeast 9 = .ok (.getfield 110, 3) := dk_180 0 110 (dk_at dksX10_spareLeast_0 9 rfl rfl)
theorem dX10_spareLeast_12 : decode cX10_spareLeast 12 = .ok (.bipush 24, 2) := dk_16 24 (dk_at dksX10_spareLeast_0 12 rfl rfl)
theorem dX10_spareLeast_14 : decode cX10_spareLeast 14 = .ok (.iaload, 1) := dk_46 (dk_at dksX10_spareLeast_0 14 rfl rfl)
theorem dX10_spareLeast_15 : decode cX10_spareLeast 15 = .ok (.imul, 1) := dk_104 (dk_at dksX10_spareLeast_0 15 rfl rfl)
theorem dX10_spareLeast_16 : decode cX10_spareLeast 16 = .ok (.if_icmp .ge 24, 3) := dk_162 0 24 (dk_at dksX10_spareLeast_0 16 rfl rfl)
theorem dX10_spareLeast_19 : decode cX10_spareLeast 19 = .ok (.aload_n 0, 1) := dk_42 (dk_at dksX10_spareLeast_0 19 rfl rfl)
theorem dX10_spareLeast_20 : decode cX10_spareLeast 20 = .ok (.iload_n 2, 1) := dk_28 (dk_at dksX10_spareLeast_0 20 rfl rfl)
theorem dX10_spareLeast_21 : decode cX10_spareLeast 21 = .ok (.invokevirtual 375, 3) := dk_182 1 119 (dk_at dksX10_spareLeast_0 21 rfl rfl)
theorem dX10_spareLeast_24 : decode cX10_spareLeast 24 = .ok (.iload_n 1, 1) := dk_27 (dk_at dksX10_spareLeast_1 0 rfl rfl)
theorem dX10_spareLeast_25 : decode cX10_spareLeast 25 = .ok (.if_icmp .ge 9, 3) := dk_162 0 9 (dk_at dksX10_spareLeast_1 1 rfl rfl)
theorem dX10_spareLeast_28 : decode cX10_spareLeast 28 = .ok (.aload_n 0, 1) := dk_42 (dk_at dksX10_spareLeast_1 4 rfl rfl)
theorem dX10_spareLeast_29 : decode cX10_spareLeast 29 = .ok (.iload_n 2, 1) := dk_28 (dk_at dksX10_spareLeast_1 5 rfl rfl)
theorem dX10_spareLeast_30 : decode cX10_spareLeast 30 = .ok (.invokevirtual 375, 3) := dk_182 1 119 (dk_at dksX10_spareLeast_1 6 rfl rfl)
theorem dX10_spareLeast_33 : decode cX10_spareLeast 33 = .ok (.istore_n 1, 1) := dk_60 (dk_at dksX10_spareLeast_1 9 rfl rfl)
theorem dX10_spareLeast_34 : decode cX10_spareLeast 34 = .ok (.iinc 2 1, 3) := dk_132 2 1 (dk_at dksX10_spareLeast_1 10 rfl rfl)
theorem dX10_spareLeast_37 : decode cX10_spareLeast 37 = .ok (.goto (-31), 3) := dk_167 255 225 (dk_at dksX10_spareLeast_1 13 rfl rfl)
theorem dX10_spareLeast_40 : decode cX10_spareLeast 40 = .ok (.iload_n 1, 1) := dk_27 (dk_at dksX10_spareLeast_1 16 rfl rfl)
theorem dX10_spareLeast_41 : decode cX10_spareLeast 41 = .ok (.ireturn, 1) := dk_172 (dk_at dksX10_spareLeast_1 17 rfl rfl)
def dkwX10_weakest_2 : List UInt8 := [154, 0, 9, 28, 5, 108, 167, 0, 8, 4, 28, 5, 112, 100, 172]
abbrev dktX10_weakest_2 : List UInt8 := dkwX10_weakest_2 ++ []
def dkwX10_weakest_1 : List UInt8 := [167, 0, 9, 42, 182, 1, 171, 4, 96, 182, 1, 159, 61, 28, 156, 0, 8, 16, 254, 167, 0, 18, 27]
abbrev dktX10_weakest_1 : List UInt8 := dkwX10_weakest_1 ++ dktX10_weakest_2
def dkwX10_weakest_0 : List UInt8 := [27, 3, 4, 184, 1, 66, 154, 0, 5, 2, 172, 42, 182, 1, 76, 42, 42, 182, 1, 171, 156, 0, 7, 3]
abbrev dktX10_weakest_0 : List UInt8 := dkwX10_weakest_0 ++ dktX10_weakest_1
theorem dksX10_weakest_0 : cX10_weakest.data.toList.drop 0 = dktX10_weakest_0 := by decide +kernel
theorem dksX10_weakest_1 : cX10_weakest.data.toList.drop 24 = dktX10_weakest_1 := dk_seg dksX10_weakest_0 24 rfl rfl
theorem dksX10_weakest_2 : cX10_weakest.data.toList.drop 47 = dktX10_weakest_2 := dk_seg dksX10_weakest_1 23 rfl rfl
theorem dX10_weakest_0 : decode cX10_weakest 0 = .ok (.iload_n 1, 1) := dk_27 (dk_at dksX10_weakest_0 0 rfl rfl)
theorem dX10_weakest_1 : decode cX10_weakest 1 = .ok (.iconst 0, 1) := dk_3 (dk_at dksX10_weakest_0 1 rfl rfl)
theorem dX10_weakest_2 : decode cX10_weakest 2 = .ok (.iconst 1, 1) := dk_4 (dk_at dksX10_weakest_0 2 rfl rfl)
theorem dX10_weakest_3 : decode cX10_weakest 3 = .ok (.invokestatic 322, 3) := dk_184 1 66 (dk_at dksX10_weakest_0 3 rfl rfl)
theorem dX10_weakest_6 : decode cX10_weakest 6 = .ok (.ifCond .ne 5, 3) := dk_154 0 5 (dk_at dksX10_weakest_0 6 rfl rfl)
theorem dX10_weakest_9 : decode cX10_weakest 9 = .ok (.iconst (-1), 1) := dk_2 (dk_at dksX10_weakest_0 9 rfl rfl)
theorem dX10_weakest_10 : decode cX10_weakest 10 = .ok (.ireturn, 1) := dk_172 (dk_at dksX10_weakest_0 10 rfl rfl)
theorem dX10_weakest_11 : decode cX10_weakest 11 = .ok (.aload_n 0, 1) := dk_42 (dk_at dksX10_weakest_0 11 rfl rfl)
theorem dX10_weakest_12 : decode cX10_weakest 12 = .ok (.invokevirtual 332, 3) := dk_182 1 76 (dk_at dksX10_weakest_0 12 rfl rfl)
theorem dX10_weakest_15 : decode cX10_weakest 15 = .ok (.aload_n 0, 1) := dk_42 (dk_at dksX10_weakest_0 15 rfl rfl)
theorem dX10_weakest_16 : decode cX10_weakest 16 = .ok (.aload_n 0, 1) := dk_42 (dk_at dksX10_weakest_0 16 rfl rfl)
theorem dX10_weakest_17 : decode cX10_weakest 17 = .ok (.invokevirtual 427, 3) := dk_182 1 171 (dk_at dksX10_weakest_0 17 rfl rfl)
theorem dX10_weakest_20 : decode cX10_weakest 20 = .ok (.ifCond .ge 7, 3) := dk_156 0 7 (dk_at dksX10_weakest_0 20 rfl rfl)
theorem dX10_weakest_23 : decode cX10_weakest 23 = .ok (.iconst 0, 1) := dk_3 (dk_at dksX10_weakest_0 23 rfl rfl)
theorem dX10_weakest_24 : decode cX10_weakest 24 = .ok (.goto 9, 3) := dk_167 0 9 (dk_at dksX10_weakest_1 0 rfl rfl)
theorem dX10_weakest_27 : decode cX10_weakest 27 = .ok (.aload_n 0, 1) := dk_42 (dk_at dksX10_weakest_1 3 rfl rfl)
theorem dX10_weakest_28 : decode cX10_weakest 28 = .ok (.invokevirtual 427, 3) := dk_182 1 171 (dk_at dksX10_weakest_1 4 rfl rfl)
theorem dX10_weakest_31 : decode cX10_weakest 31 = .ok (.iconst 1, 1) := dk_4 (dk_at dksX10_weakest_1 7 rfl rfl)
theorem dX10_weakest_32 : decode cX10_weakest 32 = .ok (.iadd, 1) := dk_96 (dk_at dksX10_weakest_1 8 rfl rfl)
theorem dX10_weakest_33 : decode cX10_weakest 33 = .ok (.invokevirtual 415, 3) := dk_182 1 159 (dk_at dksX10_weakest_1 9 rfl rfl)
theorem dX10_weakest_36 : decode cX10_weakest 36 = .ok (.istore_n 2, 1) := dk_61 (dk_at dksX10_weakest_1 12 rfl rfl)
theorem dX10_weakest_37 : decode cX10_weakest 37 = .ok (.iload_n 2, 1) := dk_28 (dk_at dksX10_weakest_1 13 rfl rfl)
theorem dX10_weakest_38 : decode cX10_weakest 38 = .ok (.ifCond .ge 8, 3) := dk_156 0 8 (dk_at dksX10_weakest_1 14 rfl rfl)
theorem dX10_weakest_41 : decode cX10_weakest 41 = .ok (.bipush (-2), 2) := dk_16 254 (dk_at dksX10_weakest_1 17 rfl rfl)
theorem dX10_weakest_43 : decode cX10_weakest 43 = .ok (.goto 18, 3) := dk_167 0 18 (dk_at dksX10_weakest_1 19 rfl rfl)
theorem dX10_weakest_46 : decode cX10_weakest 46 = .ok (.iload_n 1, 1) := dk_27 (dk_at dksX10_weakest_1 22 rfl rfl)
theorem dX10_weakest_47 : decode cX10_weakest 47 = .ok (.ifCond .ne 9, 3) := dk_154 0 9 (dk_at dksX10_weakest_2 0 rfl rfl)
theorem dX10_weakest_50 : decode cX10_weakest 50 = .ok (.iload_n 2, 1) := dk_28 (dk_at dksX10_weakest_2 3 rfl rfl)
theorem dX10_weakest_51 : decode cX10_weakest 51 = .ok (.iconst 2, 1) := dk_5 (dk_at dksX10_weakest_2 4 rfl rfl)
theorem dX10_weakest_52 : decode cX10_weakest 52 = .ok (.idiv, 1) := dk_108 (dk_at dksX10_weakest_2 5 rfl rfl)
theorem dX10_weakest_53 : decode cX10_weakest 53 = .ok (.goto 8, 3) := dk_167 0 8 (dk_at dksX10_weakest_2 6 rfl rfl)
theorem dX10_weakest_56 : decode cX10_weakest 56 = .ok (.iconst 1, 1) := dk_4 (dk_at dksX10_weakest_2 9 rfl rfl)
theorem dX10_weakest_57 : decode cX10_weakest 57 = .ok (.iload_n 2, 1) := dk_28 (dk_at dksX10_weakest_2 10 rfl rfl)
theorem dX10_weakest_58 : decode cX10_weakest 58 = .ok (.iconst 2, 1) := dk_5 (dk_at dksX10_weakest_2 11 rfl rfl)
theorem dX10_weakest_59 : decode cX10_weakest 59 = .ok (.irem, 1) := dk_112 (dk_at dksX10_weakest_2 12 rfl rfl)
theorem dX10_weakest_60 : decode cX10_weakest 60 = .ok (.isub, 1) := dk_100 (dk_at dksX10_weakest_2 13 rfl rfl)
theorem dX10_weakest_61 : decode cX10_weakest 61 = .ok (.ireturn, 1) := dk_172 (dk_at dksX10_weakest_2 14 rfl rfl)
def dkwX10_below_1 : List UInt8 := [182, 1, 113, 167, 0, 4, 2, 172]
abbrev dktX10_below_1 : List UInt8 := dkwX10_below_1 ++ []
def dkwX10_below_0 : List UInt8 := [42, 182, 1, 76, 27, 3, 42, 180, 0, 110, 16, 24, 46, 4, 100, 184, 1, 66, 153, 0, 11, 42, 27]
abbrev dktX10_below_0 : List UInt8 := dkwX10_below_0 ++ dktX10_below_1
theorem dksX10_below_0 : cX10_below.data.toList.drop 0 = dktX10_below_0 := by decide +kernel
theorem dksX10_below_1 : cX10_below.data.toList.drop 23 = dktX10_below_1 := dk_seg dksX10_below_0 23 rfl rfl
theorem dX10_below_0 : decode cX10_below 0 = .ok (.aload_n 0, 1) := dk_42 (dk_at dksX10_below_0 0 rfl rfl)
theorem dX10_below_1 : decode cX10_below 1 = .ok (.invokevirtual 332, 3) := dk_182 1 76 (dk_at dksX10_below_0 1 rfl rfl)
theorem dX10_below_4 : decode cX10_below 4 = .ok (.iload_n 1, 1) := dk_27 (dk_at dksX10_below_0 4 rfl rfl)
theorem dX10_below_5 : decode cX10_below 5 = .ok (.iconst 0, 1) := dk_3 (dk_at dksX10_below_0 5 rfl rfl)
theorem dX10_below_6 : decode cX10_below 6 = .ok (.aload_n 0, 1) := dk_42 (dk_at dksX10_below_0 6 rfl rfl)
theorem dX10_below_7 : decode cX10_below 7 = .ok (.getfield 110, 3) := dk_180 0 110 (dk_at dksX10_below_0 7 rfl rfl)
theorem dX10_below_10 : decode cX10_below 10 = .ok (.bipush 24, 2) := dk_16 24 (dk_at dksX10_below_0 10 rfl rfl)
theorem dX10_below_12 : decode cX10_below 12 = .ok (.iaload, 1) := dk_46 (dk_at dksX10_below_0 12 rfl rfl)
theorem dX10_below_13 : decode cX10_below 13 = .ok (.iconst 1, 1) := dk_4 (dk_at dksX10_below_0 13 rfl rfl)
theorem dX10_below_14 : decode cX10_below 14 = .ok (.isub, 1) := dk_100 (dk_at dksX10_below_0 14 rfl rfl)
theorem dX10_below_15 : decode cX10_below 15 = .ok (.invokestatic 322, 3) := dk_184 1 66 (dk_at dksX10_below_0 15 rfl rfl)
theorem dX10_below_18 : decode cX10_below 18 = .ok (.ifCond .eq 11, 3) := dk_153 0 11 (dk_at dksX10_below_0 18 rfl rfl)
theorem dX10_below_21 : decode cX10_below 21 = .ok (.aload_n 0, 1) := dk_42 (dk_at dksX10_below_0 21 rfl rfl)
theorem dX10_below_22 : decode cX10_below 22 = .ok (.iload_n 1, 1) := dk_27 (dk_at dksX10_below_0 22 rfl rfl)
theorem dX10_below_23 : decode cX10_below 23 = .ok (.invokevirtual 369, 3) := dk_182 1 113 (dk_at dksX10_below_1 0 rfl rfl)
theorem dX10_below_26 : decode cX10_below 26 = .ok (.goto 4, 3) := dk_167 0 4 (dk_at dksX10_below_1 3 rfl rfl)
theorem dX10_below_29 : decode cX10_below 29 = .ok (.iconst (-1), 1) := dk_2 (dk_at dksX10_below_1 6 rfl rfl)
theorem dX10_below_30 : decode cX10_below 30 = .ok (.ireturn, 1) := dk_172 (dk_at dksX10_below_1 7 rfl rfl)
def dkwX10_lasts_1 : List UInt8 := [182, 1, 159, 155, 0, 5, 28, 172, 42, 182, 1, 134, 132, 2, 1, 167, 255, 233, 16, 254, 172]
abbrev dktX10_lasts_1 : List UInt8 := dkwX10_lasts_1 ++ []
def dkwX10_lasts_0 : List UInt8 := [27, 184, 1, 156, 154, 0, 5, 2, 172, 42, 182, 1, 174, 3, 61, 28, 16, 60, 163, 0, 23, 42, 27]
abbrev dktX10_lasts_0 : List UInt8 := dkwX10_lasts_0 ++ dktX10_lasts_1
theorem dksX10_lasts_0 : cX10_lasts.data.toList.drop 0 = dktX10_lasts_0 := by decide +kernel
theorem dksX10_lasts_1 : cX10_lasts.data.toList.drop 23 = dktX10_lasts_1 := dk_seg dksX10_lasts_0 23 rfl rfl
theorem dX10_lasts_0 : decode cX10_lasts 0 = .ok (.iload_n 1, 1) := dk_27 (dk_at dksX10_lasts_0 0 rfl rfl)
theorem dX10_lasts_1 : decode cX10_lasts 1 = .ok (.invokestatic 412, 3) := dk_184 1 156 (dk_at dksX10_lasts_0 1 rfl rfl)
theorem dX10_lasts_4 : decode cX10_lasts 4 = .ok (.ifCond .ne 5, 3) := dk_154 0 5 (dk_at dksX10_lasts_0 4 rfl rfl)
theorem dX10_lasts_7 : decode cX10_lasts 7 = .ok (.iconst (-1), 1) := dk_2 (dk_at dksX10_lasts_0 7 rfl rfl)
theorem dX10_lasts_8 : decode cX10_lasts 8 = .ok (.ireturn, 1) := dk_172 (dk_at dksX10_lasts_0 8 rfl rfl)
theorem dX10_lasts_9 : decode cX10_lasts 9 = .ok (.aload_n 0, 1) := dk_42 (dk_at dksX10_lasts_0 9 rfl rfl)
theorem dX10_lasts_10 : decode cX10_lasts 10 = .ok (.invokevirtual 430, 3) := dk_182 1 174 (dk_at dksX10_lasts_0 10 rfl rfl)
theorem dX10_lasts_13 : decode cX10_lasts 13 = .ok (.iconst 0, 1) := dk_3 (dk_at dksX10_lasts_0 13 rfl rfl)
theorem dX10_lasts_14 : decode cX10_lasts 14 = .ok (.istore_n 2, 1) := dk_61 (dk_at dksX10_lasts_0 14 rfl rfl)
theorem dX10_lasts_15 : decode cX10_lasts 15 = .ok (.iload_n 2, 1) := dk_28 (dk_at dksX10_lasts_0 15 rfl rfl)
theorem dX10_lasts_16 : decode cX10_lasts 16 = .ok (.bipush 60, 2) := dk_16 60 (dk_at dksX10_lasts_0 16 rfl rfl)
theorem dX10_lasts_18 : decode cX10_lasts 18 = .ok (.if_icmp .gt 23, 3) := dk_163 0 23 (dk_at dksX10_lasts_0 18 rfl rfl)
theorem dX10_lasts_21 : decode cX10_lasts 21 = .ok (.aload_n 0, 1) := dk_42 (dk_at dksX10_lasts_0 21 rfl rfl)
theorem dX10_lasts_22 : decode cX10_lasts 22 = .ok (.iload_n 1, 1) := dk_27 (dk_at dksX10_lasts_0 22 rfl rfl)
theorem dX10_lasts_23 : decode cX10_lasts 23 = .ok (.invokevirtual 415, 3) := dk_182 1 159 (dk_at dksX10_lasts_1 0 rfl rfl)
theorem dX10_lasts_26 : decode cX10_lasts 26 = .ok (.ifCond .lt 5, 3) := dk_155 0 5 (dk_at dksX10_lasts_1 3 rfl rfl)
theorem dX10_lasts_29 : decode cX10_lasts 29 = .ok (.iload_n 2, 1) := dk_28 (dk_at dksX10_lasts_1 6 rfl rfl)
theorem dX10_lasts_30 : decode cX10_lasts 30 = .ok (.ireturn, 1) := dk_172 (dk_at dksX10_lasts_1 7 rfl rfl)
theorem dX10_lasts_31 : decode cX10_lasts 31 = .ok (.aload_n 0, 1) := dk_42 (dk_at dksX10_lasts_1 8 rfl rfl)
theorem dX10_lasts_32 : decode cX10_lasts 32 = .ok (.invokevirtual 390, 3) := dk_182 1 134 (dk_at dksX10_lasts_1 9 rfl rfl)
theorem dX10_lasts_35 : decode cX10_lasts 35 = .ok (.iinc 2 1, 3) := dk_132 2 1 (dk_at dksX10_lasts_1 12 rfl rfl)
theorem dX10_lasts_38 : decode cX10_lasts 38 = .ok (.goto (-23), 3) := dk_167 255 233 (dk_at dksX10_lasts_1 15 rfl rfl)
theorem dX10_lasts_41 : decode cX10_lasts 41 = .ok (.bipush (-2), 2) := dk_16 254 (dk_at dksX10_lasts_1 18 rfl rfl)
theorem dX10_lasts_43 : decode cX10_lasts 43 = .ok (.ireturn, 1) := dk_172 (dk_at dksX10_lasts_1 20 rfl rfl)
def dkwX10_copiesStill_0 : List UInt8 := [42, 182, 1, 76, 42, 4, 181, 1, 73, 177]
abbrev dktX10_copiesStill_0 : List UInt8 := dkwX10_copiesStill_0 ++ []
theorem dksX10_copiesStill_0 : cX10_copiesStill.data.toList.drop 0 = dktX10_copiesStill_0 := by decide +kernel
theorem dX10_copiesStill_0 : decode cX10_copiesStill 0 = .ok (.aload_n 0, 1) := dk_42 (dk_at dksX10_copiesStill_0 0 rfl rfl)
theorem dX10_copiesStill_1 : decode cX10_copiesStill 1 = .ok (.invokevirtual 332, 3) := dk_182 1 76 (dk_at dksX10_copiesStill_0 1 rfl rfl)
theorem dX10_copiesStill_4 : decode cX10_copiesStill 4 = .ok (.aload_n 0, 1) := dk_42 (dk_at dksX10_copiesStill_0 4 rfl rfl)
theorem dX10_copiesStill_5 : decode cX10_copiesStill 5 = .ok (.iconst 1, 1) := dk_4 (dk_at dksX10_copiesStill_0 5 rfl rfl)
theorem dX10_copiesStill_6 : decode cX10_copiesStill 6 = .ok (.putfield 329, 3) := dk_181 1 73 (dk_at dksX10_copiesStill_0 6 rfl rfl)
theorem dX10_copiesStill_9 : decode cX10_copiesStill 9 = .ok (.return_, 1) := dk_177 (dk_at dksX10_copiesStill_0 9 rfl rfl)
def dkwX10_quarrel_4 : List UInt8 := [172]
abbrev dktX10_quarrel_4 : List UInt8 := dkwX10_quarrel_4 ++ []
def dkwX10_quarrel_3 : List UInt8 := [167, 0, 9, 21, 4, 61, 21, 5, 62, 132, 4, 1, 167, 255, 196, 27, 154, 0, 7, 28, 167, 0, 4, 29]
abbrev dktX10_quarrel_3 : List UInt8 := dkwX10_quarrel_3 ++ dktX10_quarrel_4
def dkwX10_quarrel_2 : List UInt8 := [180, 0, 110, 16, 25, 21, 4, 96, 46, 182, 1, 116, 54, 5, 28, 155, 0, 12, 21, 5, 29, 161, 0, 6]
abbrev dktX10_quarrel_2 : List UInt8 := dkwX10_quarrel_2 ++ dktX10_quarrel_3
def dkwX10_quarrel_1 : List UInt8 := [21, 4, 42, 180, 0, 110, 16, 24, 46, 162, 0, 54, 42, 42, 180, 0, 110, 16, 24, 21, 4, 96, 46, 42]
abbrev dktX10_quarrel_1 : List UInt8 := dkwX10_quarrel_1 ++ dktX10_quarrel_2
def dkwX10_quarrel_0 : List UInt8 := [27, 3, 4, 184, 1, 66, 154, 0, 5, 2, 172, 42, 182, 1, 76, 16, 254, 61, 16, 254, 62, 4, 54, 4]
abbrev dktX10_quarrel_0 : List UInt8 := dkwX10_quarrel_0 ++ dktX10_quarrel_1
theorem dksX10_quarrel_0 : cX10_quarrel.data.toList.drop 0 = dktX10_quarrel_0 := by decide +kernel
theorem dksX10_quarrel_1 : cX10_quarrel.data.toList.drop 24 = dktX10_quarrel_1 := dk_seg dksX10_quarrel_0 24 rfl rfl
theorem dksX10_quarrel_2 : cX10_quarrel.data.toList.drop 48 = dktX10_quarrel_2 := dk_seg dksX10_quarrel_1 24 rfl rfl
theorem dksX10_quarrel_3 : cX10_quarrel.data.toList.drop 72 = dktX10_quarrel_3 := dk_seg dksX10_quarrel_2 24 rfl rfl
theorem dksX10_quarrel_4 : cX10_quarrel.data.toList.drop 96 = dktX10_quarrel_4 := dk_seg dksX10_quarrel_3 24 rfl rfl
theorem dX10_quarrel_0 : decode cX10_quarrel 0 = .ok (.iload_n 1, 1) := dk_27 (dk_at dksX10_quarrel_0 0 rfl rfl)
theorem dX10_quarrel_1 : decode cX10_quarrel 1 = .ok (.iconst 0, 1) := dk_3 (dk_at dksX10_quarrel_0 1 rfl rfl)
theorem dX10_quarrel_2 : decode cX10_quarrel 2 = .ok (.iconst 1, 1) := dk_4 (dk_at dksX10_quarrel_0 2 rfl rfl)
theorem dX10_quarrel_3 : decode cX10_quarrel 3 = .ok (.invokestatic 322, 3) := dk_184 1 66 (dk_at dksX10_quarrel_0 3 rfl rfl)
theorem dX10_quarrel_6 : decode cX10_quarrel 6 = .ok (.ifCond .ne 5, 3) := dk_154 0 5 (dk_at dksX10_quarrel_0 6 rfl rfl)
theorem dX10_quarrel_9 : decode cX10_quarrel 9 = .ok (.iconst (-1), 1) := dk_2 (dk_at dksX10_quarrel_0 9 rfl rfl)
theorem dX10_quarrel_10 : decode cX10_quarrel 10 = .ok (.ireturn, 1) := dk_172 (dk_at dksX10_quarrel_0 10 rfl rfl)
theorem dX10_quarrel_11 : decode cX10_quarrel 11 = .ok (.aload_n 0, 1) := dk_42 (dk_at dksX10_quarrel_0 11 rfl rfl)
theorem dX10_quarrel_12 : decode cX10_quarrel 12 = .ok (.invokevirtual 332, 3) := dk_182 1 76 (dk_at dksX10_quarrel_0 12 rfl rfl)
theorem dX10_quarrel_15 : decode cX10_quarrel 15 = .ok (.bipush (-2), 2) := dk_16 254 (dk_at dksX10_quarrel_0 15 rfl rfl)
theorem dX10_quarrel_17 : decode cX10_quarrel 17 = .ok (.istore_n 2, 1) := dk_61 (dk_at dksX10_quarrel_0 17 rfl rfl)
theorem dX10_quarrel_18 : decode cX10_quarrel 18 = .ok (.bipush (-2), 2) := dk_16 254 (dk_at dksX10_quarrel_0 18 rfl rfl)
theorem dX10_quarrel_20 : decode cX10_quarrel 20 = .ok (.istore_n 3, 1) := dk_62 (dk_at dksX10_quarrel_0 20 rfl rfl)
theorem dX10_quarrel_21 : decode cX10_quarrel 21 = .ok (.iconst 1, 1) := dk_4 (dk_at dksX10_quarrel_0 21 rfl rfl)
theorem dX10_quarrel_22 : decode cX10_quarrel 22 = .ok (.istore 4, 2) := dk_54 4 (dk_at dksX10_quarrel_0 22 rfl rfl)
theorem dX10_quarrel_24 : decode cX10_quarrel 24 = .ok (.iload 4, 2) := dk_21 4 (dk_at dksX10_quarrel_1 0 rfl rfl)
theorem dX10_quarrel_26 : decode cX10_quarrel 26 = .ok (.aload_n 0, 1) := dk_42 (dk_at dksX10_quarrel_1 2 rfl rfl)
theorem dX10_quarrel_27 : decode cX10_quarrel 27 = .ok (.getfield 110, 3) := dk_180 0 110 (dk_at dksX10_quarrel_1 3 rfl rfl)
theorem dX10_quarrel_30 : decode cX10_quarrel 30 = .ok (.bipush 24, 2) := dk_16 24 (dk_at dksX10_quarrel_1 6 rfl rfl)
theorem dX10_quarrel_32 : decode cX10_quarrel 32 = .ok (.iaload, 1) := dk_46 (dk_at dksX10_quarrel_1 8 rfl rfl)
theorem dX10_quarrel_33 : decode cX10_quarrel 33 = .ok (.if_icmp .ge 54, 3) := dk_162 0 54 (dk_at dksX10_quarrel_1 9 rfl rfl)
theorem dX10_quarrel_36 : decode cX10_quarrel 36 = .ok (.aload_n 0, 1) := dk_42 (dk_at dksX10_quarrel_1 12 rfl rfl)
theorem dX10_quarrel_37 : decode cX10_quarrel 37 = .ok (.aload_n 0, 1) := dk_42 (dk_at dksX10_quarrel_1 13 rfl rfl)
theorem dX10_quarrel_38 : decode cX10_quarrel 38 = .ok (.getfield 110, 3) := dk_180 0 110 (dk_at dksX10_quarrel_1 14 rfl rfl)
theorem dX10_quarrel_41 : decode cX10_quarrel 41 = .ok (.bipush 24, 2) := dk_16 24 (dk_at dksX10_quarrel_1 17 rfl rfl)
theorem dX10_quarrel_43 : decode cX10_quarrel 43 = .ok (.iload 4, 2) := dk_21 4 (dk_at dksX10_quarrel_1 19 rfl rfl)
theorem dX10_quarrel_45 : decode cX10_quarrel 45 = .ok (.iadd, 1) := dk_96 (dk_at dksX10_quarrel_1 21 rfl rfl)
theorem dX10_quarrel_46 : decode cX10_quarrel 46 = .ok (.iaload, 1) := dk_46 (dk_at dksX10_quarrel_1 22 rfl rfl)
theorem dX10_quarrel_47 : decode cX10_quarrel 47 = .ok (.aload_n 0, 1) := dk_42 (dk_at dksX10_quarrel_1 23 rfl rfl)
theorem dX10_quarrel_48 : decode cX10_quarrel 48 = .ok (.getfield 110, 3) := dk_180 0 110 (dk_at dksX10_quarrel_2 0 rfl rfl)
theorem dX10_quarrel_51 : decode cX10_quarrel 51 = .ok (.bipush 25, 2) := dk_16 25 (dk_at dksX10_quarrel_2 3 rfl rfl)
theorem dX10_quarrel_53 : decode cX10_quarrel 53 = .ok (.iload 4, 2) := dk_21 4 (dk_at dksX10_quarrel_2 5 rfl rfl)
theorem dX10_quarrel_55 : decode cX10_quarrel 55 = .ok (.iadd, 1) := dk_96 (dk_at dksX10_quarrel_2 7 rfl rfl)
theorem dX10_quarrel_56 : decode cX10_quarrel 56 = .ok (.iaload, 1) := dk_46 (dk_at dksX10_quarrel_2 8 rfl rfl)
theorem dX10_quarrel_57 : decode cX10_quarrel 57 = .ok (.invokevirtual 372, 3) := dk_182 1 116 (dk_at dksX10_quarrel_2 9 rfl rfl)
theorem dX10_quarrel_60 : decode cX10_quarrel 60 = .ok (.istore 5, 2) := dk_54 5 (dk_at dksX10_quarrel_2 12 rfl rfl)
theorem dX10_quarrel_62 : decode cX10_quarrel 62 = .ok (.iload_n 2, 1) := dk_28 (dk_at dksX10_quarrel_2 14 rfl rfl)
theorem dX10_quarrel_63 : decode cX10_quarrel 63 = .ok (.ifCond .lt 12, 3) := dk_155 0 12 (dk_at dksX10_quarrel_2 15 rfl rfl)
theorem dX10_quarrel_66 : decode cX10_quarrel 66 = .ok (.iload 5, 2) := dk_21 5 (dk_at dksX10_quarrel_2 18 rfl rfl)
theorem dX10_quarrel_68 : decode cX10_quarrel 68 = .ok (.iload_n 3, 1) := dk_29 (dk_at dksX10_quarrel_2 20 rfl rfl)
theorem dX10_quarrel_69 : decode cX10_quarrel 69 = .ok (.if_icmp .lt 6, 3) := dk_161 0 6 (dk_at dksX10_quarrel_2 21 rfl rfl)
theorem dX10_quarrel_72 : decode cX10_quarrel 72 = .ok (.goto 9, 3) := dk_167 0 9 (dk_at dksX10_quarrel_3 0 rfl rfl)
theorem dX10_quarrel_75 : decode cX10_quarrel 75 = .ok (.iload 4, 2) := dk_21 4 (dk_at dksX10_quarrel_3 3 rfl rfl)
theorem dX10_quarrel_77 : decode cX10_quarrel 77 = .ok (.istore_n 2, 1) := dk_61 (dk_at dksX10_quarrel_3 5 rfl rfl)
theorem dX10_quarrel_78 : decode cX10_quarrel 78 = .ok (.iload 5, 2) := dk_21 5 (dk_at dksX10_quarrel_3 6 rfl rfl)
theorem dX10_quarrel_80 : decode cX10_quarrel 80 = .ok (.istore_n 3, 1) := dk_62 (dk_at dksX10_quarrel_3 8 rfl rfl)
theorem dX10_quarrel_81 : decode cX10_quarrel 81 = .ok (.iinc 4 1, 3) := dk_132 4 1 (dk_at dksX10_quarrel_3 9 rfl rfl)
theorem dX10_quarrel_84 : decode cX10_quarrel 84 = .ok (.goto (-60), 3) := dk_167 255 196 (dk_at dksX10_quarrel_3 12 rfl rfl)
theorem dX10_quarrel_87 : decode cX10_quarrel 87 = .ok (.iload_n 1, 1) := dk_27 (dk_at dksX10_quarrel_3 15 rfl rfl)
theorem dX10_quarrel_88 : decode cX10_quarrel 88 = .ok (.ifCond .ne 7, 3) := dk_154 0 7 (dk_at dksX10_quarrel_3 16 rfl rfl)
theorem dX10_quarrel_91 : decode cX10_quarrel 91 = .ok (.iload_n 2, 1) := dk_28 (dk_at dksX10_quarrel_3 19 rfl rfl)
theorem dX10_quarrel_92 : decode cX10_quarrel 92 = .ok (.goto 4, 3) := dk_167 0 4 (dk_at dksX10_quarrel_3 20 rfl rfl)
theorem dX10_quarrel_95 : decode cX10_quarrel 95 = .ok (.iload_n 3, 1) := dk_29 (dk_at dksX10_quarrel_3 23 rfl rfl)
theorem dX10_quarrel_96 : decode cX10_quarrel 96 = .ok (.ireturn, 1) := dk_172 (dk_at dksX10_quarrel_4 0 rfl rfl)
def dkwX10_greyest_4 : List UInt8 := [42, 180, 0, 107, 16, 25, 28, 96, 46, 96, 46, 172]
abbrev dktX10_greyest_4 : List UInt8 := dkwX10_greyest_4 ++ []
def dkwX10_greyest_3 : List UInt8 := [132, 3, 1, 167, 255, 199, 28, 155, 0, 7, 27, 154, 0, 7, 28, 167, 0, 20, 42, 180, 0, 107, 16, 12]
abbrev dktX10_greyest_3 : List UInt8 := dkwX10_greyest_3 ++ dktX10_greyest_4
def dkwX10_greyest_2 : List UInt8 := [42, 180, 0, 107, 16, 12, 42, 180, 0, 107, 16, 25, 28, 96, 46, 96, 46, 162, 0, 5, 29, 61]
abbrev dktX10_greyest_2 : List UInt8 := dkwX10_greyest_2 ++ dktX10_greyest_3
def dkwX10_greyest_1 : List UInt8 := [162, 0, 52, 28, 155, 0, 40, 42, 180, 0, 107, 16, 12, 42, 180, 0, 107, 16, 25, 29, 96, 46, 96, 46]
abbrev dktX10_greyest_1 : List UInt8 := dkwX10_greyest_1 ++ dktX10_greyest_2
def dkwX10_greyest_0 : List UInt8 := [27, 3, 4, 184, 1, 66, 154, 0, 5, 2, 172, 16, 254, 61, 3, 62, 29, 42, 180, 0, 107, 16, 24, 46]
abbrev dktX10_greyest_0 : List UInt8 := dkwX10_greyest_0 ++ dktX10_greyest_1
theorem dksX10_greyest_0 : cX10_greyest.data.toList.drop 0 = dktX10_greyest_0 := by decide +kernel
theorem dksX10_greyest_1 : cX10_greyest.data.toList.drop 24 = dktX10_greyest_1 := dk_seg dksX10_greyest_0 24 rfl rfl
theorem dksX10_greyest_2 : cX10_greyest.data.toList.drop 48 = dktX10_greyest_2 := dk_seg dksX10_greyest_1 24 rfl rfl
theorem dksX10_greyest_3 : cX10_greyest.data.toList.drop 70 = dktX10_greyest_3 := dk_seg dksX10_greyest_2 22 rfl rfl
theorem dksX10_greyest_4 : cX10_greyest.data.toList.drop 94 = dktX10_greyest_4 := dk_seg dksX10_greyest_3 24 rfl rfl
theorem dX10_greyest_0 : decode cX10_greyest 0 = .ok (.iload_n 1, 1) := dk_27 (dk_at dksX10_greyest_0 0 rfl rfl)
theorem dX10_greyest_1 : decode cX10_greyest 1 = .ok (.iconst 0, 1) := dk_3 (dk_at dksX10_greyest_0 1 rfl rfl)
theorem dX10_greyest_2 : decode cX10_greyest 2 = .ok (.iconst 1, 1) := dk_4 (dk_at dksX10_greyest_0 2 rfl rfl)
theorem dX10_greyest_3 : decode cX10_greyest 3 = .ok (.invokestatic 322, 3) := dk_184 1 66 (dk_at dksX10_greyest_0 3 rfl rfl)
theorem dX10_greyest_6 : decode cX10_greyest 6 = .ok (.ifCond .ne 5, 3) := dk_154 0 5 (dk_at dksX10_greyest_0 6 rfl rfl)
theorem dX10_greyest_9 : decode cX10_greyest 9 = .ok (.iconst (-1), 1) := dk_2 (dk_at dksX10_greyest_0 9 rfl rfl)
theorem dX10_greyest_10 : decode cX10_greyest 10 = .ok (.ireturn, 1) := dk_172 (dk_at dksX10_greyest_0 10 rfl rfl)
theorem dX10_greyest_11 : decode cX10_greyest 11 = .ok (.bipush (-2), 2) := dk_16 254 (dk_at dksX10_greyest_0 11 rfl rfl)
theorem dX10_greyest_13 : decode cX10_greyest 13 = .ok (.istore_n 2, 1) := dk_61 (dk_at dksX10_greyest_0 13 rfl rfl)
theorem dX10_greyest_14 : decode cX10_greyest 14 = .ok (.iconst 0, 1) := dk_3 (dk_at dksX10_greyest_0 14 rfl rfl)
theorem dX10_greyest_15 : decode cX10_greyest 15 = .ok (.istore_n 3, 1) := dk_62 (dk_at dksX10_greyest_0 15 rfl rfl)
theorem dX10_greyest_16 : decode cX10_greyest 16 = .ok (.iload_n 3, 1) := dk_29 (dk_at dksX10_greyest_0 16 rfl rfl)
theorem dX10_greyest_17 : decode cX10_greyest 17 = .ok (.aload_n 0, 1) := dk_42 (dk_at dksX10_greyest_0 17 rfl rfl)
theorem dX10_greyest_18 : decode cX10_greyest 18 = .ok (.getfield 107, 3) := dk_180 0 107 (dk_at dksX10_greyest_0 18 rfl rfl)
theorem dX10_greyest_21 : decode cX10_greyest 21 = .ok (.bipush 24, 2) := dk_16 24 (dk_at dksX10_greyest_0 21 rfl rfl)
theorem dX10_greyest_23 : decode cX10_greyest 23 = .ok (.iaload, 1) := dk_46 (dk_at dksX10_greyest_0 23 rfl rfl)
theorem dX10_greyest_24 : decode cX10_greyest 24 = .ok (.if_icmp .ge 52, 3) := dk_162 0 52 (dk_at dksX10_greyest_1 0 rfl rfl)
theorem dX10_greyest_27 : decode cX10_greyest 27 = .ok (.iload_n 2, 1) := dk_28 (dk_at dksX10_greyest_1 3 rfl rfl)
theorem dX10_greyest_28 : decode cX10_greyest 28 = .ok (.ifCond .lt 40, 3) := dk_155 0 40 (dk_at dksX10_greyest_1 4 rfl rfl)
theorem dX10_greyest_31 : decode cX10_greyest 31 = .ok (.aload_n 0, 1) := dk_42 (dk_at dksX10_greyest_1 7 rfl rfl)
theorem dX10_greyest_32 : decode cX10_greyest 32 = .ok (.getfield 107, 3) := dk_180 0 107 (dk_at dksX10_greyest_1 8 rfl rfl)
theorem dX10_greyest_35 : decode cX10_greyest 35 = .ok (.bipush 12, 2) := dk_16 12 (dk_at dksX10_greyest_1 11 rfl rfl)
theorem dX10_greyest_37 : decode cX10_greyest 37 = .ok (.aload_n 0, 1) := dk_42 (dk_at dksX10_greyest_1 13 rfl rfl)
theorem dX10_greyest_38 : decode cX10_greyest 38 = .ok (.getfield 107, 3) := dk_180 0 107 (dk_at dksX10_greyest_1 14 rfl rfl)
theorem dX10_greyest_41 : decode cX10_greyest 41 = .ok (.bipush 25, 2) := dk_16 25 (dk_at dksX10_greyest_1 17 rfl rfl)
theorem dX10_greyest_43 : decode cX10_greyest 43 = .ok (.iload_n 3, 1) := dk_29 (dk_at dksX10_greyest_1 19 rfl rfl)
theorem dX10_greyest_44 : decode cX10_greyest 44 = .ok (.iadd, 1) := dk_96 (dk_at dksX10_greyest_1 20 rfl rfl)
theorem dX10_greyest_45 : decode cX10_greyest 45 = .ok (.iaload, 1) := dk_46 (dk_at dksX10_greyest_1 21 rfl rfl)
theorem dX10_greyest_46 : decode cX10_greyest 46 = .ok (.iadd, 1) := dk_96 (dk_at dksX10_greyest_1 22 rfl rfl)
theorem dX10_greyest_47 : decode cX10_greyest 47 = .ok (.iaload, 1) := dk_46 (dk_at dksX10_greyest_1 23 rfl rfl)
theorem dX10_greyest_48 : decode cX10_greyest 48 = .ok (.aload_n 0, 1) := dk_42 (dk_at dksX10_greyest_2 0 rfl rfl)
theorem dX10_greyest_49 : decode cX10_greyest 49 = .ok (.getfield 107, 3) := dk_180 0 107 (dk_at dksX10_greyest_2 1 rfl rfl)
theorem dX10_greyest_52 : decode cX10_greyest 52 = .ok (.bipush 12, 2) := dk_16 12 (dk_at dksX10_greyest_2 4 rfl rfl)
theorem dX10_greyest_54 : decode cX10_greyest 54 = .ok (.aload_n 0, 1) := dk_42 (dk_at dksX10_greyest_2 6 rfl rfl)
theorem dX10_greyest_55 : decode cX10_greyest 55 = .ok (.getfield 107, 3) := dk_180 0 107 (dk_at dksX10_greyest_2 7 rfl rfl)
theorem dX10_greyest_58 : decode cX10_greyest 58 = .ok (.bipush 25, 2) := dk_16 25 (dk_at dksX10_greyest_2 10 rfl rfl)
theorem dX10_greyest_60 : decode cX10_greyest 60 = .ok (.iload_n 2, 1) := dk_28 (dk_at dksX10_greyest_2 12 rfl rfl)
theorem dX10_greyest_61 : decode cX10_greyest 61 = .ok (.iadd, 1) := dk_96 (dk_at dksX10_greyest_2 13 rfl rfl)
theorem dX10_greyest_62 : decode cX10_greyest 62 = .ok (.iaload, 1) := dk_46 (dk_at dksX10_greyest_2 14 rfl rfl)
theorem dX10_greyest_63 : decode cX10_greyest 63 = .ok (.iadd, 1) := dk_96 (dk_at dksX10_greyest_2 15 rfl rfl)
theorem dX10_greyest_64 : decode cX10_greyest 64 = .ok (.iaload, 1) := dk_46 (dk_at dksX10_greyest_2 16 rfl rfl)
theorem dX10_greyest_65 : decode cX10_greyest 65 = .ok (.if_icmp .ge 5, 3) := dk_162 0 5 (dk_at dksX10_greyest_2 17 rfl rfl)
theorem dX10_greyest_68 : decode cX10_greyest 68 = .ok (.iload_n 3, 1) := dk_29 (dk_at dksX10_greyest_2 20 rfl rfl)
theorem dX10_greyest_69 : decode cX10_greyest 69 = .ok (.istore_n 2, 1) := dk_61 (dk_at dksX10_greyest_2 21 rfl rfl)
theorem dX10_greyest_70 : decode cX10_greyest 70 = .ok (.iinc 3 1, 3) := dk_132 3 1 (dk_at dksX10_greyest_3 0 rfl rfl)
theorem dX10_greyest_73 : decode cX10_greyest 73 = .ok (.goto (-57), 3) := dk_167 255 199 (dk_at dksX10_greyest_3 3 rfl rfl)
theorem dX10_greyest_76 : decode cX10_greyest 76 = .ok (.iload_n 2, 1) := dk_28 (dk_at dksX10_greyest_3 6 rfl rfl)
theorem dX10_greyest_77 : decode cX10_greyest 77 = .ok (.ifCond .lt 7, 3) := dk_155 0 7 (dk_at dksX10_greyest_3 7 rfl rfl)
theorem dX10_greyest_80 : decode cX10_greyest 80 = .ok (.iload_n 1, 1) := dk_27 (dk_at dksX10_greyest_3 10 rfl rfl)
theorem dX10_greyest_81 : decode cX10_greyest 81 = .ok (.ifCond .ne 7, 3) := dk_154 0 7 (dk_at dksX10_greyest_3 11 rfl rfl)
theorem dX10_greyest_84 : decode cX10_greyest 84 = .ok (.iload_n 2, 1) := dk_28 (dk_at dksX10_greyest_3 14 rfl rfl)
theorem dX10_greyest_85 : decode cX10_greyest 85 = .ok (.goto 20, 3) := dk_167 0 20 (dk_at dksX10_greyest_3 15 rfl rfl)
theorem dX10_greyest_88 : decode cX10_greyest 88 = .ok (.aload_n 0, 1) := dk_42 (dk_at dksX10_greyest_3 18 rfl rfl)
theorem dX10_greyest_89 : decode cX10_greyest 89 = .ok (.getfield 107, 3) := dk_180 0 107 (dk_at dksX10_greyest_3 19 rfl rfl)
theorem dX10_greyest_92 : decode cX10_greyest 92 = .ok (.bipush 12, 2) := dk_16 12 (dk_at dksX10_greyest_3 22 rfl rfl)
theorem dX10_greyest_94 : decode cX10_greyest 94 = .ok (.aload_n 0, 1) := dk_42 (dk_at dksX10_greyest_4 0 rfl rfl)
theorem dX10_greyest_95 : decode cX10_greyest 95 = .ok (.getfield 107, 3) := dk_180 0 107 (dk_at dksX10_greyest_4 1 rfl rfl)
theorem dX10_greyest_98 : decode cX10_greyest 98 = .ok (.bipush 25, 2) := dk_16 25 (dk_at dksX10_greyest_4 4 rfl rfl)
theorem dX10_greyest_100 : decode cX10_greyest 100 = .ok (.iload_n 2, 1) := dk_28 (dk_at dksX10_greyest_4 6 rfl rfl)
theorem dX10_greyest_101 : decode cX10_greyest 101 = .ok (.iadd, 1) := dk_96 (dk_at dksX10_greyest_4 7 rfl rfl)
theorem dX10_greyest_102 : decode cX10_greyest 102 = .ok (.iaload, 1) := dk_46 (dk_at dksX10_greyest_4 8 rfl rfl)
theorem dX10_greyest_103 : decode cX10_greyest 103 = .ok (.iadd, 1) := dk_96 (dk_at dksX10_greyest_4 9 rfl rfl)
theorem dX10_greyest_104 : decode cX10_greyest 104 = .ok (.iaload, 1) := dk_46 (dk_at dksX10_greyest_4 10 rfl rfl)
theorem dX10_greyest_105 : decode cX10_greyest 105 = .ok (.ireturn, 1) := dk_172 (dk_at dksX10_greyest_4 11 rfl rfl)
def dkwX10_share_1 : List UInt8 := [17, 3, 232, 42, 180, 0, 110, 16, 6, 27, 96, 46, 104, 42, 182, 1, 150, 108, 167, 0, 4, 3, 172]
abbrev dktX10_share_1 : List UInt8 := dkwX10_share_1 ++ []
def dkwX10_share_0 : List UInt8 := [42, 27, 182, 1, 137, 154, 0, 5, 2, 172, 42, 182, 1, 76, 42, 27, 182, 1, 83, 153, 0, 24]
abbrev dktX10_share_0 : List UInt8 := dkwX10_share_0 ++ dktX10_share_1
theorem dksX10_share_0 : cX10_share.data.toList.drop 0 = dktX10_share_0 := by decide +kernel
theorem dksX10_share_1 : cX10_share.data.toList.drop 22 = dktX10_share_1 := dk_seg dksX10_share_0 22 rfl rfl
theorem dX10_share_0 : decode cX10_share 0 = .ok (.aload_n 0, 1) := dk_42 (dk_at dksX10_share_0 0 rfl rfl)
theorem dX10_share_1 : decode cX10_share 1 = .ok (.iload_n 1, 1) := dk_27 (dk_at dksX10_share_0 1 rfl rfl)
theorem dX10_share_2 : decode cX10_share 2 = .ok (.invokevirtual 393, 3) := dk_182 1 137 (dk_at dksX10_share_0 2 rfl rfl)
theorem dX10_share_5 : decode cX10_share 5 = .ok (.ifCond .ne 5, 3) := dk_154 0 5 (dk_at dksX10_share_0 5 rfl rfl)
theorem dX10_share_8 : decode cX10_share 8 = .ok (.iconst (-1), 1) := dk_2 (dk_at dksX10_share_0 8 rfl rfl)
theorem dX10_share_9 : decode cX10_share 9 = .ok (.ireturn, 1) := dk_172 (dk_at dksX10_share_0 9 rfl rfl)
theorem dX10_share_10 : decode cX10_share 10 = .ok (.aload_n 0, 1) := dk_42 (dk_at dksX10_share_0 10 rfl rfl)
theorem dX10_share_11 : decode cX10_share 11 = .ok (.invokevirtual 332, 3) := dk_182 1 76 (dk_at dksX10_share_0 11 rfl rfl)
theorem dX10_share_14 : decode cX10_share 14 = .ok (.aload_n 0, 1) := dk_42 (dk_at dksX10_share_0 14 rfl rfl)
theorem dX10_share_15 : decode cX10_share 15 = .ok (.iload_n 1, 1) := dk_27 (dk_at dksX10_share_0 15 rfl rfl)
theorem dX10_share_16 : decode cX10_share 16 = .ok (.invokevirtual 339, 3) := dk_182 1 83 (dk_at dksX10_share_0 16 rfl rfl)
theorem dX10_share_19 : decode cX10_share 19 = .ok (.ifCond .eq 24, 3) := dk_153 0 24 (dk_at dksX10_share_0 19 rfl rfl)
theorem dX10_share_22 : decode cX10_share 22 = .ok (.sipush 1000, 3) := dk_17 3 232 (dk_at dksX10_share_1 0 rfl rfl)
theorem dX10_share_25 : decode cX10_share 25 = .ok (.aload_n 0, 1) := dk_42 (dk_at dksX10_share_1 3 rfl rfl)
theorem dX10_share_26 : decode cX10_share 26 = .ok (.getfield 110, 3) := dk_180 0 110 (dk_at dksX10_share_1 4 rfl rfl)
theorem dX10_share_29 : decode cX10_share 29 = .ok (.bipush 6, 2) := dk_16 6 (dk_at dksX10_share_1 7 rfl rfl)
theorem dX10_share_31 : decode cX10_share 31 = .ok (.iload_n 1, 1) := dk_27 (dk_at dksX10_share_1 9 rfl rfl)
theorem dX10_share_32 : decode cX10_share 32 = .ok (.iadd, 1) := dk_96 (dk_at dksX10_share_1 10 rfl rfl)
theorem dX10_share_33 : decode cX10_share 33 = .ok (.iaload, 1) := dk_46 (dk_at dksX10_share_1 11 rfl rfl)
theorem dX10_share_34 : decode cX10_share 34 = .ok (.imul, 1) := dk_104 (dk_at dksX10_share_1 12 rfl rfl)
theorem dX10_share_35 : decode cX10_share 35 = .ok (.aload_n 0, 1) := dk_42 (dk_at dksX10_share_1 13 rfl rfl)
theorem dX10_share_36 : decode cX10_share 36 = .ok (.invokevirtual 406, 3) := dk_182 1 150 (dk_at dksX10_share_1 14 rfl rfl)
theorem dX10_share_39 : decode cX10_share 39 = .ok (.idiv, 1) := dk_108 (dk_at dksX10_share_1 17 rfl rfl)
theorem dX10_share_40 : decode cX10_share 40 = .ok (.goto 4, 3) := dk_167 0 4 (dk_at dksX10_share_1 18 rfl rfl)
theorem dX10_share_43 : decode cX10_share 43 = .ok (.iconst 0, 1) := dk_3 (dk_at dksX10_share_1 21 rfl rfl)
theorem dX10_share_44 : decode cX10_share 44 = .ok (.ireturn, 1) := dk_172 (dk_at dksX10_share_1 22 rfl rfl)
def dkwX10_swap_5 : List UInt8 := [132, 3, 1, 167, 255, 153, 28, 172]
abbrev dktX10_swap_5 : List UInt8 := dkwX10_swap_5 ++ []
def dkwX10_swap_4 : List UInt8 := [167, 0, 16, 16, 10, 29, 104, 21, 4, 96, 61, 42, 182, 1, 171, 60, 132, 4, 1, 167, 255, 175]
abbrev dktX10_swap_4 : List UInt8 := dkwX10_swap_4 ++ dktX10_swap_5
def dkwX10_swap_3 : List UInt8 := [16, 25, 21, 4, 96, 42, 180, 0, 107, 16, 25, 29, 96, 46, 79, 42, 182, 1, 171, 27, 163, 0, 6]
abbrev dktX10_swap_3 : List UInt8 := dkwX10_swap_3 ++ dktX10_swap_4
def dkwX10_swap_2 : List UInt8 := [42, 180, 0, 110, 16, 25, 29, 96, 42, 180, 0, 107, 16, 25, 21, 4, 96, 46, 79, 42, 180, 0, 110]
abbrev dktX10_swap_2 : List UInt8 := dkwX10_swap_2 ++ dktX10_swap_3
def dkwX10_swap_1 : List UInt8 := [162, 0, 98, 29, 4, 96, 54, 4, 21, 4, 42, 180, 0, 107, 16, 24, 46, 162, 0, 75, 42, 182, 1, 76]
abbrev dktX10_swap_1 : List UInt8 := dkwX10_swap_1 ++ dktX10_swap_2
def dkwX10_swap_0 : List UInt8 := [42, 182, 1, 76, 42, 182, 1, 171, 60, 16, 254, 61, 3, 62, 29, 42, 180, 0, 107, 16, 24, 46]
abbrev dktX10_swap_0 : List UInt8 := dkwX10_swap_0 ++ dktX10_swap_1
theorem dksX10_swap_0 : cX10_swap.data.toList.drop 0 = dktX10_swap_0 := by decide +kernel
theorem dksX10_swap_1 : cX10_swap.data.toList.drop 22 = dktX10_swap_1 := dk_seg dksX10_swap_0 22 rfl rfl
theorem dksX10_swap_2 : cX10_swap.data.toList.drop 46 = dktX10_swap_2 := dk_seg dksX10_swap_1 24 rfl rfl
theorem dksX10_swap_3 : cX10_swap.data.toList.drop 69 = dktX10_swap_3 := dk_seg dksX10_swap_2 23 rfl rfl
theorem dksX10_swap_4 : cX10_swap.data.toList.drop 92 = dktX10_swap_4 := dk_seg dksX10_swap_3 23 rfl rfl
theorem dksX10_swap_5 : cX10_swap.data.toList.drop 114 = dktX10_swap_5 := dk_seg dksX10_swap_4 22 rfl rfl
theorem dX10_swap_0 : decode cX10_swap 0 = .ok (.aload_n 0, 1) := dk_42 (dk_at dksX10_swap_0 0 rfl rfl)
theorem dX10_swap_1 : decode cX10_swap 1 = .ok (.invokevirtual 332, 3) := dk_182 1 76 (dk_at dksX10_swap_0 1 rfl rfl)
theorem dX10_swap_4 : decode cX10_swap 4 = .ok (.aload_n 0, 1) := dk_42 (dk_at dksX10_swap_0 4 rfl rfl)
theorem dX10_swap_5 : decode cX10_swap 5 = .ok (.invokevirtual 427, 3) := dk_182 1 171 (dk_at dksX10_swap_0 5 rfl rfl)
theorem dX10_swap_8 : decode cX10_swap 8 = .ok (.istore_n 1, 1) := dk_60 (dk_at dksX10_swap_0 8 rfl rfl)
theorem dX10_swap_9 : decode cX10_swap 9 = .ok (.bipush (-2), 2) := dk_16 254 (dk_at dksX10_swap_0 9 rfl rfl)
theorem dX10_swap_11 : decode cX10_swap 11 = .ok (.istore_n 2, 1) := dk_61 (dk_at dksX10_swap_0 11 rfl rfl)
theorem dX10_swap_12 : decode cX10_swap 12 = .ok (.iconst 0, 1) := dk_3 (dk_at dksX10_swap_0 12 rfl rfl)
theorem dX10_swap_13 : decode cX10_swap 13 = .ok (.istore_n 3, 1) := dk_62 (dk_at dksX10_swap_0 13 rfl rfl)
theorem dX10_swap_14 : decode cX10_swap 14 = .ok (.iload_n 3, 1) := dk_29 (dk_at dksX10_swap_0 14 rfl rfl)
theorem dX10_swap_15 : decode cX10_swap 15 = .ok (.aload_n 0, 1) := dk_42 (dk_at dksX10_swap_0 15 rfl rfl)
theorem dX10_swap_16 : decode cX10_swap 16 = .ok (.getfield 107, 3) := dk_180 0 107 (dk_at dksX10_swap_0 16 rfl rfl)
theorem dX10_swap_19 : decode cX10_swap 19 = .ok (.bipush 24, 2) := dk_16 24 (dk_at dksX10_swap_0 19 rfl rfl)
theorem dX10_swap_21 : decode cX10_swap 21 = .ok (.iaload, 1) := dk_46 (dk_at dksX10_swap_0 21 rfl rfl)
theorem dX10_swap_22 : decode cX10_swap 22 = .ok (.if_icmp .ge 98, 3) := dk_162 0 98 (dk_at dksX10_swap_1 0 rfl rfl)
theorem dX10_swap_25 : decode cX10_swap 25 = .ok (.iload_n 3, 1) := dk_29 (dk_at dksX10_swap_1 3 rfl rfl)
theorem dX10_swap_26 : decode cX10_swap 26 = .ok (.iconst 1, 1) := dk_4 (dk_at dksX10_swap_1 4 rfl rfl)
theorem dX10_swap_27 : decode cX10_swap 27 = .ok (.iadd, 1) := dk_96 (dk_at dksX10_swap_1 5 rfl rfl)
theorem dX10_swap_28 : decode cX10_swap 28 = .ok (.istore 4, 2) := dk_54 4 (dk_at dksX10_swap_1 6 rfl rfl)
theorem dX10_swap_30 : decode cX10_swap 30 = .ok (.iload 4, 2) := dk_21 4 (dk_at dksX10_swap_1 8 rfl rfl)
theorem dX10_swap_32 : decode cX10_swap 32 = .ok (.aload_n 0, 1) := dk_42 (dk_at dksX10_swap_1 10 rfl rfl)
theorem dX10_swap_33 : decode cX10_swap 33 = .ok (.getfield 107, 3) := dk_180 0 107 (dk_at dksX10_swap_1 11 rfl rfl)
theorem dX10_swap_36 : decode cX10_swap 36 = .ok (.bipush 24, 2) := dk_16 24 (dk_at dksX10_swap_1 14 rfl rfl)
theorem dX10_swap_38 : decode cX10_swap 38 = .ok (.iaload, 1) := dk_46 (dk_at dksX10_swap_1 16 rfl rfl)
theorem dX10_swap_39 : decode cX10_swap 39 = .ok (.if_icmp .ge 75, 3) := dk_162 0 75 (dk_at dksX10_swap_1 17 rfl rfl)
theorem dX10_swap_42 : decode cX10_swap 42 = .ok (.aload_n 0, 1) := dk_42 (dk_at dksX10_swap_1 20 rfl rfl)
theorem dX10_swap_43 : decode cX10_swap 43 = .ok (.invokevirtual 332, 3) := dk_182 1 76 (dk_at dksX10_swap_1 21 rfl rfl)
theorem dX10_swap_46 : decode cX10_swap 46 = .ok (.aload_n 0, 1) := dk_42 (dk_at dksX10_swap_2 0 rfl rfl)
theorem dX10_swap_47 : decode cX10_swap 47 = .ok (.getfield 110, 3) := dk_180 0 110 (dk_at dksX10_swap_2 1 rfl rfl)
theorem dX10_swap_50 : decode cX10_swap 50 = .ok (.bipush 25, 2) := dk_16 25 (dk_at dksX10_swap_2 4 rfl rfl)
theorem dX10_swap_52 : decode cX10_swap 52 = .ok (.iload_n 3, 1) := dk_29 (dk_at dksX10_swap_2 6 rfl rfl)
theorem dX10_swap_53 : decode cX10_swap 53 = .ok (.iadd, 1) := dk_96 (dk_at dksX10_swap_2 7 rfl rfl)
theorem dX10_swap_54 : decode cX10_swap 54 = .ok (.aload_n 0, 1) := dk_42 (dk_at dksX10_swap_2 8 rfl rfl)
theorem dX10_swap_55 : decode cX10_swap 55 = .ok (.getfield 107, 3) := dk_180 0 107 (dk_at dksX10_swap_2 9 rfl rfl)
theorem dX10_swap_58 : decode cX10_swap 58 = .ok (.bipush 25, 2) := dk_16 25 (dk_at dksX10_swap_2 12 rfl rfl)
theorem dX10_swap_60 : decode cX10_swap 60 = .ok (.iload 4, 2) := dk_21 4 (dk_at dksX10_swap_2 14 rfl rfl)
theorem dX10_swap_62 : decode cX10_swap 62 = .ok (.iadd, 1) := dk_96 (dk_at dksX10_swap_2 16 rfl rfl)
theorem dX10_swap_63 : decode cX10_swap 63 = .ok (.iaload, 1) := dk_46 (dk_at dksX10_swap_2 17 rfl rfl)
theorem dX10_swap_64 : decode cX10_swap 64 = .ok (.iastore, 1) := dk_79 (dk_at dksX10_swap_2 18 rfl rfl)
theorem dX10_swap_65 : decode cX10_swap 65 = .ok (.aload_n 0, 1) := dk_42 (dk_at dksX10_swap_2 19 rfl rfl)
theorem dX10_swap_66 : decode cX10_swap 66 = .ok (.getfield 110, 3) := dk_180 0 110 (dk_at dksX10_swap_2 20 rfl rfl)
theorem dX10_swap_69 : decode cX10_swap 69 = .ok (.bipush 25, 2) := dk_16 25 (dk_at dksX10_swap_3 0 rfl rfl)
theorem dX10_swap_71 : decode cX10_swap 71 = .ok (.iload 4, 2) := dk_21 4 (dk_at dksX10_swap_3 2 rfl rfl)
theorem dX10_swap_73 : decode cX10_swap 73 = .ok (.iadd, 1) := dk_96 (dk_at dksX10_swap_3 4 rfl rfl)
theorem dX10_swap_74 : decode cX10_swap 74 = .ok (.aload_n 0, 1) := dk_42 (dk_at dksX10_swap_3 5 rfl rfl)
theorem dX10_swap_75 : decode cX10_swap 75 = .ok (.getfield 107, 3) := dk_180 0 107 (dk_at dksX10_swap_3 6 rfl rfl)
theorem dX10_swap_78 : decode cX10_swap 78 = .ok (.bipush 25, 2) := dk_16 25 (dk_at dksX10_swap_3 9 rfl rfl)
theorem dX10_swap_80 : decode cX10_swap 80 = .ok (.iload_n 3, 1) := dk_29 (dk_at dksX10_swap_3 11 rfl rfl)
theorem dX10_swap_81 : decode cX10_swap 81 = .ok (.iadd, 1) := dk_96 (dk_at dksX10_swap_3 12 rfl rfl)
theorem dX10_swap_82 : decode cX10_swap 82 = .ok (.iaload, 1) := dk_46 (dk_at dksX10_swap_3 13 rfl rfl)
theorem dX10_swap_83 : decode cX10_swap 83 = .ok (.iastore, 1) := dk_79 (dk_at dksX10_swap_3 14 rfl rfl)
theorem dX10_swap_84 : decode cX10_swap 84 = .ok (.aload_n 0, 1) := dk_42 (dk_at dksX10_swap_3 15 rfl rfl)
theorem dX10_swap_85 : decode cX10_swap 85 = .ok (.invokevirtual 427, 3) := dk_182 1 171 (dk_at dksX10_swap_3 16 rfl rfl)
theorem dX10_swap_88 : decode cX10_swap 88 = .ok (.iload_n 1, 1) := dk_27 (dk_at dksX10_swap_3 19 rfl rfl)
theorem dX10_swap_89 : decode cX10_swap 89 = .ok (.if_icmp .gt 6, 3) := dk_163 0 6 (dk_at dksX10_swap_3 20 rfl rfl)
theorem dX10_swap_92 : decode cX10_swap 92 = .ok (.goto 16, 3) := dk_167 0 16 (dk_at dksX10_swap_4 0 rfl rfl)
theorem dX10_swap_95 : decode cX10_swap 95 = .ok (.bipush 10, 2) := dk_16 10 (dk_at dksX10_swap_4 3 rfl rfl)
theorem dX10_swap_97 : decode cX10_swap 97 = .ok (.iload_n 3, 1) := dk_29 (dk_at dksX10_swap_4 5 rfl rfl)
theorem dX10_swap_98 : decode cX10_swap 98 = .ok (.imul, 1) := dk_104 (dk_at dksX10_swap_4 6 rfl rfl)
theorem dX10_swap_99 : decode cX10_swap 99 = .ok (.iload 4, 2) := dk_21 4 (dk_at dksX10_swap_4 7 rfl rfl)
theorem dX10_swap_101 : decode cX10_swap 101 = .ok (.iadd, 1) := dk_96 (dk_at dksX10_swap_4 9 rfl rfl)
theorem dX10_swap_102 : decode cX10_swap 102 = .ok (.istore_n 2, 1) := dk_61 (dk_at dksX10_swap_4 10 rfl rfl)
theorem dX10_swap_103 : decode cX10_swap 103 = .ok (.aload_n 0, 1) := dk_42 (dk_at dksX10_swap_4 11 rfl rfl)
theorem dX10_swap_104 : decode cX10_swap 104 = .ok (.invokevirtual 427, 3) := dk_182 1 171 (dk_at dksX10_swap_4 12 rfl rfl)
theorem dX10_swap_107 : decode cX10_swap 107 = .ok (.istore_n 1, 1) := dk_60 (dk_at dksX10_swap_4 15 rfl rfl)
theorem dX10_swap_108 : decode cX10_swap 108 = .ok (.iinc 4 1, 3) := dk_132 4 1 (dk_at dksX10_swap_4 16 rfl rfl)
theorem dX10_swap_111 : decode cX10_swap 111 = .ok (.goto (-81), 3) := dk_167 255 175 (dk_at dksX10_swap_4 19 rfl rfl)
theorem dX10_swap_114 : decode cX10_swap 114 = .ok (.iinc 3 1, 3) := dk_132 3 1 (dk_at dksX10_swap_5 0 rfl rfl)
theorem dX10_swap_117 : decode cX10_swap 117 = .ok (.goto (-103), 3) := dk_167 255 153 (dk_at dksX10_swap_5 3 rfl rfl)
theorem dX10_swap_120 : decode cX10_swap 120 = .ok (.iload_n 2, 1) := dk_28 (dk_at dksX10_swap_5 6 rfl rfl)
theorem dX10_swap_121 : decode cX10_swap 121 = .ok (.ireturn, 1) := dk_172 (dk_at dksX10_swap_5 7 rfl rfl)
def dkwX10_orders_1 : List UInt8 := [42, 182, 1, 189, 153, 0, 17, 42, 182, 1, 193, 27, 161, 255, 244, 132, 2, 1, 167, 255, 238, 28, 172]
abbrev dktX10_orders_1 : List UInt8 := dkwX10_orders_1 ++ []
def dkwX10_orders_0 : List UInt8 := [27, 184, 1, 156, 154, 0, 5, 2, 172, 42, 182, 1, 76, 42, 182, 1, 186, 3, 61, 42, 3, 181, 1, 177]
abbrev dktX10_orders_0 : List UInt8 := dkwX10_orders_0 ++ dktX10_orders_1
theorem dksX10_orders_0 : cX10_orders.data.toList.drop 0 = dktX10_orders_0 := by decide +kernel
theorem dksX10_orders_1 : cX10_orders.data.toList.drop 24 = dktX10_orders_1 := dk_seg dksX10_orders_0 24 rfl rfl
theorem dX10_orders_0 : decode cX10_orders 0 = .ok (.iload_n 1, 1) := dk_27 (dk_at dksX10_orders_0 0 rfl rfl)
theorem dX10_orders_1 : decode cX10_orders 1 = .ok (.invokestatic 412, 3) := dk_184 1 156 (dk_at dksX10_orders_0 1 rfl rfl)
theorem dX10_orders_4 : decode cX10_orders 4 = .ok (.ifCond .ne 5, 3) := dk_154 0 5 (dk_at dksX10_orders_0 4 rfl rfl)
theorem dX10_orders_7 : decode cX10_orders 7 = .ok (.iconst (-1), 1) := dk_2 (dk_at dksX10_orders_0 7 rfl rfl)
theorem dX10_orders_8 : decode cX10_orders 8 = .ok (.ireturn, 1) := dk_172 (dk_at dksX10_orders_0 8 rfl rfl)
theorem dX10_orders_9 : decode cX10_orders 9 = .ok (.aload_n 0, 1) := dk_42 (dk_at dksX10_orders_0 9 rfl rfl)
theorem dX10_orders_10 : decode cX10_orders 10 = .ok (.invokevirtual 332, 3) := dk_182 1 76 (dk_at dksX10_orders_0 10 rfl rfl)
theorem dX10_orders_13 : decode cX10_orders 13 = .ok (.aload_n 0, 1) := dk_42 (dk_at dksX10_orders_0 13 rfl rfl)
theorem dX10_orders_14 : decode cX10_orders 14 = .ok (.invokevirtual 442, 3) := dk_182 1 186 (dk_at dksX10_orders_0 14 rfl rfl)
theorem dX10_orders_17 : decode cX10_orders 17 = .ok (.iconst 0, 1) := dk_3 (dk_at dksX10_orders_0 17 rfl rfl)
theorem dX10_orders_18 : decode cX10_orders 18 = .ok (.istore_n 2, 1) := dk_61 (dk_at dksX10_orders_0 18 rfl rfl)
theorem dX10_orders_19 : decode cX10_orders 19 = .ok (.aload_n 0, 1) := dk_42 (dk_at dksX10_orders_0 19 rfl rfl)
theorem dX10_orders_20 : decode cX10_orders 20 = .ok (.iconst 0, 1) := dk_3 (dk_at dksX10_orders_0 20 rfl rfl)
theorem dX10_orders_21 : decode cX10_orders 21 = .ok (.putfield 433, 3) := dk_181 1 177 (dk_at dksX10_orders_0 21 rfl rfl)
theorem dX10_orders_24 : decode cX10_orders 24 = .ok (.aload_n 0, 1) := dk_42 (dk_at dksX10_orders_1 0 rfl rfl)
theorem dX10_orders_25 : decode cX10_orders 25 = .ok (.invokevirtual 445, 3) := dk_182 1 189 (dk_at dksX10_orders_1 1 rfl rfl)
theorem dX10_orders_28 : decode cX10_orders 28 = .ok (.ifCond .eq 17, 3) := dk_153 0 17 (dk_at dksX10_orders_1 4 rfl rfl)
theorem dX10_orders_31 : decode cX10_orders 31 = .ok (.aload_n 0, 1) := dk_42 (dk_at dksX10_orders_1 7 rfl rfl)
theorem dX10_orders_32 : decode cX10_orders 32 = .ok (.invokevirtual 449, 3) := dk_182 1 193 (dk_at dksX10_orders_1 8 rfl rfl)
theorem dX10_orders_35 : decode cX10_orders 35 = .ok (.iload_n 1, 1) := dk_27 (dk_at dksX10_orders_1 11 rfl rfl)
theorem dX10_orders_36 : decode cX10_orders 36 = .ok (.if_icmp .lt (-12), 3) := dk_161 255 244 (dk_at dksX10_orders_1 12 rfl rfl)
theorem dX10_orders_39 : decode cX10_orders 39 = .ok (.iinc 2 1, 3) := dk_132 2 1 (dk_at dksX10_orders_1 15 rfl rfl)
theorem dX10_orders_42 : decode cX10_orders 42 = .ok (.goto (-18), 3) := dk_167 255 238 (dk_at dksX10_orders_1 18 rfl rfl)
theorem dX10_orders_45 : decode cX10_orders 45 = .ok (.iload_n 2, 1) := dk_28 (dk_at dksX10_orders_1 21 rfl rfl)
theorem dX10_orders_46 : decode cX10_orders 46 = .ok (.ireturn, 1) := dk_172 (dk_at dksX10_orders_1 22 rfl rfl)
def dkwX10_fillsPlans_6 : List UInt8 := [182, 1, 110, 79, 42, 180, 0, 134, 27, 42, 180, 0, 128, 27, 46, 79, 132, 1, 1, 167, 255, 179, 177]
abbrev dktX10_fillsPlans_6 : List UInt8 := dkwX10_fillsPlans_6 ++ []
def dkwX10_fillsPlans_5 : List UInt8 := [16, 6, 112, 182, 1, 116, 79, 42, 180, 0, 131, 27, 42, 27, 16, 6, 108, 27, 16, 6, 112, 16, 9]
abbrev dktX10_fillsPlans_5 : List UInt8 := dkwX10_fillsPlans_5 ++ dktX10_fillsPlans_6
def dkwX10_fillsPlans_4 : List UInt8 := [27, 16, 6, 112, 182, 1, 143, 154, 0, 6, 167, 0, 53, 42, 180, 0, 128, 27, 42, 27, 16, 6, 108, 27]
abbrev dktX10_fillsPlans_4 : List UInt8 := dkwX10_fillsPlans_4 ++ dktX10_fillsPlans_5
def dkwX10_fillsPlans_3 : List UInt8 := [167, 0, 4, 3, 79, 132, 1, 1, 167, 255, 180, 3, 60, 27, 16, 36, 162, 0, 77, 42, 27, 16, 6, 108]
abbrev dktX10_fillsPlans_3 : List UInt8 := dkwX10_fillsPlans_3 ++ dktX10_fillsPlans_4
def dkwX10_fillsPlans_2 : List UInt8 := [167, 0, 4, 3, 79, 42, 180, 0, 125, 27, 42, 27, 182, 1, 137, 153, 0, 11, 42, 27, 182, 1, 92]
abbrev dktX10_fillsPlans_2 : List UInt8 := dkwX10_fillsPlans_2 ++ dktX10_fillsPlans_3
def dkwX10_fillsPlans_1 : List UInt8 := [182, 1, 83, 153, 0, 15, 42, 180, 0, 110, 16, 6, 27, 96, 46, 167, 0, 13, 42, 180, 0, 110, 27, 46]
abbrev dktX10_fillsPlans_1 : List UInt8 := dkwX10_fillsPlans_1 ++ dktX10_fillsPlans_2
def dkwX10_fillsPlans_0 : List UInt8 := [3, 60, 27, 16, 6, 162, 0, 76, 42, 180, 0, 122, 27, 42, 27, 182, 1, 137, 153, 0, 32, 42, 27]
abbrev dktX10_fillsPlans_0 : List UInt8 := dkwX10_fillsPlans_0 ++ dktX10_fillsPlans_1
theorem dksX10_fillsPlans_0 : cX10_fillsPlans.data.toList.drop 0 = dktX10_fillsPlans_0 := by decide +kernel
theorem dksX10_fillsPlans_1 : cX10_fillsPlans.data.toList.drop 23 = dktX10_fillsPlans_1 := dk_seg dksX10_fillsPlans_0 23 rfl rfl
theorem dksX10_fillsPlans_2 : cX10_fillsPlans.data.toList.drop 47 = dktX10_fillsPlans_2 := dk_seg dksX10_fillsPlans_1 24 rfl rfl
theorem dksX10_fillsPlans_3 : cX10_fillsPlans.data.toList.drop 70 = dktX10_fillsPlans_3 := dk_seg dksX10_fillsPlans_2 23 rfl rfl
theorem dksX10_fillsPlans_4 : cX10_fillsPlans.data.toList.drop 94 = dktX10_fillsPlans_4 := dk_seg dksX10_fillsPlans_3 24 rfl rfl
theorem dksX10_fillsPlans_5 : cX10_fillsPlans.data.toList.drop 118 = dktX10_fillsPlans_5 := dk_seg dksX10_fillsPlans_4 24 rfl rfl
theorem dksX10_fillsPlans_6 : cX10_fillsPlans.data.toList.drop 141 = dktX10_fillsPlans_6 := dk_seg dksX10_fillsPlans_5 23 rfl rfl
theorem dX10_fillsPlans_0 : decode cX10_fillsPlans 0 = .ok (.iconst 0, 1) := dk_3 (dk_at dksX10_fillsPlans_0 0 rfl rfl)
theorem dX10_fillsPlans_1 : decode cX10_fillsPlans 1 = .ok (.istore_n 1, 1) := dk_60 (dk_at dksX10_fillsPlans_0 1 rfl rfl)
theorem dX10_fillsPlans_2 : decode cX10_fillsPlans 2 = .ok (.iload_n 1, 1) := dk_27 (dk_at dksX10_fillsPlans_0 2 rfl rfl)
theorem dX10_fillsPlans_3 : decode cX10_fillsPlans 3 = .ok (.bipush 6, 2) := dk_16 6 (dk_at dksX10_fillsPlans_0 3 rfl rfl)
theorem dX10_fillsPlans_5 : decode cX10_fillsPlans 5 = .ok (.if_icmp .ge 76, 3) := dk_162 0 76 (dk_at dksX10_fillsPlans_0 5 rfl rfl)
theorem dX10_fillsPlans_8 : decode cX10_fillsPlans 8 = .ok (.aload_n 0, 1) := dk_42 (dk_at dksX10_fillsPlans_0 8 rfl rfl)
theorem dX10_fillsPlans_9 : decode cX10_fillsPlans 9 = .ok (.getfield 122, 3) := dk_180 0 122 (dk_at dksX10_fillsPlans_0 9 rfl rfl)
theorem dX10_fillsPlans_12 : decode cX10_fillsPlans 12 = .ok (.iload_n 1, 1) := dk_27 (dk_at dksX10_fillsPlans_0 12 rfl rfl)
theorem dX10_fillsPlans_13 : decode cX10_fillsPlans 13 = .ok (.aload_n 0, 1) := dk_42 (dk_at dksX10_fillsPlans_0 13 rfl rfl)
theorem dX10_fillsPlans_14 : decode cX10_fillsPlans 14 = .ok (.iload_n 1, 1) := dk_27 (dk_at dksX10_fillsPlans_0 14 rfl rfl)
theorem dX10_fillsPlans_15 : decode cX10_fillsPlans 15 = .ok (.invokevirtual 393, 3) := dk_182 1 137 (dk_at dksX10_fillsPlans_0 15 rfl rfl)
theorem dX10_fillsPlans_18 : decode cX10_fillsPlans 18 = .ok (.ifCond .eq 32, 3) := dk_153 0 32 (dk_at dksX10_fillsPlans_0 18 rfl rfl)
theorem dX10_fillsPlans_21 : decode cX10_fillsPlans 21 = .ok (.aload_n 0, 1) := dk_42 (dk_at dksX10_fillsPlans_0 21 rfl rfl)
theorem dX10_fillsPlans_22 : decode cX10_fillsPlans 22 = .ok (.iload_n 1, 1) := dk_27 (dk_at dksX10_fillsPlans_0 22 rfl rfl)
theorem dX10_fillsPlans_23 : decode cX10_fillsPlans 23 = .ok (.invokevirtual 339, 3) := dk_182 1 83 (dk_at dksX10_fillsPlans_1 0 rfl rfl)
theorem dX10_fillsPlans_26 : decode cX10_fillsPlans 26 = .ok (.ifCond .eq 15, 3) := dk_153 0 15 (dk_at dksX10_fillsPlans_1 3 rfl rfl)
theorem dX10_fillsPlans_29 : decode cX10_fillsPlans 29 = .ok (.aload_n 0, 1) := dk_42 (dk_at dksX10_fillsPlans_1 6 rfl rfl)
theorem dX10_fillsPlans_30 : decode cX10_fillsPlans 30 = .ok (.getfield 110, 3) := dk_180 0 110 (dk_at dksX10_fillsPlans_1 7 rfl rfl)
theorem dX10_fillsPlans_33 : decode cX10_fillsPlans 33 = .ok (.bipush 6, 2) := dk_16 6 (dk_at dksX10_fillsPlans_1 10 rfl rfl)
theorem dX10_fillsPlans_35 : decode cX10_fillsPlans 35 = .ok (.iload_n 1, 1) := dk_27 (dk_at dksX10_fillsPlans_1 12 rfl rfl)
theorem dX10_fillsPlans_36 : decode cX10_fillsPlans 36 = .ok (.iadd, 1) := dk_96 (dk_at dksX10_fillsPlans_1 13 rfl rfl)
theorem dX10_fillsPlans_37 : decode cX10_fillsPlans 37 = .ok (.iaload, 1) := dk_46 (dk_at dksX10_fillsPlans_1 14 rfl rfl)
theorem dX10_fillsPlans_38 : decode cX10_fillsPlans 38 = .ok (.goto 13, 3) := dk_167 0 13 (dk_at dksX10_fillsPlans_1 15 rfl rfl)
theorem dX10_fillsPlans_41 : decode cX10_fillsPlans 41 = .ok (.aload_n 0, 1) := dk_42 (dk_at dksX10_fillsPlans_1 18 rfl rfl)
theorem dX10_fillsPlans_42 : decode cX10_fillsPlans 42 = .ok (.getfield 110, 3) := dk_180 0 110 (dk_at dksX10_fillsPlans_1 19 rfl rfl)
theorem dX10_fillsPlans_45 : decode cX10_fillsPlans 45 = .ok (.iload_n 1, 1) := dk_27 (dk_at dksX10_fillsPlans_1 22 rfl rfl)
theorem dX10_fillsPlans_46 : decode cX10_fillsPlans 46 = .ok (.iaload, 1) := dk_46 (dk_at dksX10_fillsPlans_1 23 rfl rfl)
theorem dX10_fillsPlans_47 : decode cX10_fillsPlans 47 = .ok (.goto 4, 3) := dk_167 0 4 (dk_at dksX10_fillsPlans_2 0 rfl rfl)
theorem dX10_fillsPlans_50 : decode cX10_fillsPlans 50 = .ok (.iconst 0, 1) := dk_3 (dk_at dksX10_fillsPlans_2 3 rfl rfl)
theorem dX10_fillsPlans_51 : decode cX10_fillsPlans 51 = .ok (.iastore, 1) := dk_79 (dk_at dksX10_fillsPlans_2 4 rfl rfl)
theorem dX10_fillsPlans_52 : decode cX10_fillsPlans 52 = .ok (.aload_n 0, 1) := dk_42 (dk_at dksX10_fillsPlans_2 5 rfl rfl)
theorem dX10_fillsPlans_53 : decode cX10_fillsPlans 53 = .ok (.getfield 125, 3) := dk_180 0 125 (dk_at dksX10_fillsPlans_2 6 rfl rfl)
theorem dX10_fillsPlans_56 : decode cX10_fillsPlans 56 = .ok (.iload_n 1, 1) := dk_27 (dk_at dksX10_fillsPlans_2 9 rfl rfl)
theorem dX10_fillsPlans_57 : decode cX10_fillsPlans 57 = .ok (.aload_n 0, 1) := dk_42 (dk_at dksX10_fillsPlans_2 10 rfl rfl)
theorem dX10_fillsPlans_58 : decode cX10_fillsPlans 58 = .ok (.iload_n 1, 1) := dk_27 (dk_at dksX10_fillsPlans_2 11 rfl rfl)
theorem dX10_fillsPlans_59 : decode cX10_fillsPlans 59 = .ok (.invokevirtual 393, 3) := dk_182 1 137 (dk_at dksX10_fillsPlans_2 12 rfl rfl)
theorem dX10_fillsPlans_62 : decode cX10_fillsPlans 62 = .ok (.ifCond .eq 11, 3) := dk_153 0 11 (dk_at dksX10_fillsPlans_2 15 rfl rfl)
theorem dX10_fillsPlans_65 : decode cX10_fillsPlans 65 = .ok (.aload_n 0, 1) := dk_42 (dk_at dksX10_fillsPlans_2 18 rfl rfl)
theorem dX10_fillsPlans_66 : decode cX10_fillsPlans 66 = .ok (.iload_n 1, 1) := dk_27 (dk_at dksX10_fillsPlans_2 19 rfl rfl)
theorem dX10_fillsPlans_67 : decode cX10_fillsPlans 67 = .ok (.invokevirtual 348, 3) := dk_182 1 92 (dk_at dksX10_fillsPlans_2 20 rfl rfl)
theorem dX10_fillsPlans_70 : decode cX10_fillsPlans 70 = .ok (.goto 4, 3) := dk_167 0 4 (dk_at dksX10_fillsPlans_3 0 rfl rfl)
theorem dX10_fillsPlans_73 : decode cX10_fillsPlans 73 = .ok (.iconst 0, 1) := dk_3 (dk_at dksX10_fillsPlans_3 3 rfl rfl)
theorem dX10_fillsPlans_74 : decode cX10_fillsPlans 74 = .ok (.iastore, 1) := dk_79 (dk_at dksX10_fillsPlans_3 4 rfl rfl)
theorem dX10_fillsPlans_75 : decode cX10_fillsPlans 75 = .ok (.iinc 1 1, 3) := dk_132 1 1 (dk_at dksX10_fillsPlans_3 5 rfl rfl)
theorem dX10_fillsPlans_78 : decode cX10_fillsPlans 78 = .ok (.goto (-76), 3) := dk_167 255 180 (dk_at dksX10_fillsPlans_3 8 rfl rfl)
theorem dX10_fillsPlans_81 : decode cX10_fillsPlans 81 = .ok (.iconst 0, 1) := dk_3 (dk_at dksX10_fillsPlans_3 11 rfl rfl)
theorem dX10_fillsPlans_82 : decode cX10_fillsPlans 82 = .ok (.istore_n 1, 1) := dk_60 (dk_at dksX10_fillsPlans_3 12 rfl rfl)
theorem dX10_fillsPlans_83 : decode cX10_fillsPlans 83 = .ok (.iload_n 1, 1) := dk_27 (dk_at dksX10_fillsPlans_3 13 rfl rfl)
theorem dX10_fillsPlans_84 : decode cX10_fillsPlans 84 = .ok (.bipush 36, 2) := dk_16 36 (dk_at dksX10_fillsPlans_3 14 rfl rfl)
theorem dX10_fillsPlans_86 : decode cX10_fillsPlans 86 = .ok (.if_icmp .ge 77, 3) := dk_162 0 77 (dk_at dksX10_fillsPlans_3 16 rfl rfl)
theorem dX10_fillsPlans_89 : decode cX10_fillsPlans 89 = .ok (.aload_n 0, 1) := dk_42 (dk_at dksX10_fillsPlans_3 19 rfl rfl)
theorem dX10_fillsPlans_90 : decode cX10_fillsPlans 90 = .ok (.iload_n 1, 1) := dk_27 (dk_at dksX10_fillsPlans_3 20 rfl rfl)
theorem dX10_fillsPlans_91 : decode cX10_fillsPlans 91 = .ok (.bipush 6, 2) := dk_16 6 (dk_at dksX10_fillsPlans_3 21 rfl rfl)
theorem dX10_fillsPlans_93 : decode cX10_fillsPlans 93 = .ok (.idiv, 1) := dk_108 (dk_at dksX10_fillsPlans_3 23 rfl rfl)
theorem dX10_fillsPlans_94 : decode cX10_fillsPlans 94 = .ok (.iload_n 1, 1) := dk_27 (dk_at dksX10_fillsPlans_4 0 rfl rfl)
theorem dX10_fillsPlans_95 : decode cX10_fillsPlans 95 = .ok (.bipush 6, 2) := dk_16 6 (dk_at dksX10_fillsPlans_4 1 rfl rfl)
theorem dX10_fillsPlans_97 : decode cX10_fillsPlans 97 = .ok (.irem, 1) := dk_112 (dk_at dksX10_fillsPlans_4 3 rfl rfl)
theorem dX10_fillsPlans_98 : decode cX10_fillsPlans 98 = .ok (.invokevirtual 399, 3) := dk_182 1 143 (dk_at dksX10_fillsPlans_4 4 rfl rfl)
theorem dX10_fillsPlans_101 : decode cX10_fillsPlans 101 = .ok (.ifCond .ne 6, 3) := dk_154 0 6 (dk_at dksX10_fillsPlans_4 7 rfl rfl)
theorem dX10_fillsPlans_104 : decode cX10_fillsPlans 104 = .ok (.goto 53, 3) := dk_167 0 53 (dk_at dksX10_fillsPlans_4 10 rfl rfl)
theorem dX10_fillsPlans_107 : decode cX10_fillsPlans 107 = .ok (.aload_n 0, 1) := dk_42 (dk_at dksX10_fillsPlans_4 13 rfl rfl)
theorem dX10_fillsPlans_108 : decode cX10_fillsPlans 108 = .ok (.getfield 128, 3) := dk_180 0 128 (dk_at dksX10_fillsPlans_4 14 rfl rfl)
theorem dX10_fillsPlans_111 : decode cX10_fillsPlans 111 = .ok (.iload_n 1, 1) := dk_27 (dk_at dksX10_fillsPlans_4 17 rfl rfl)
theorem dX10_fillsPlans_112 : decode cX10_fillsPlans 112 = .ok (.aload_n 0, 1) := dk_42 (dk_at dksX10_fillsPlans_4 18 rfl rfl)
theorem dX10_fillsPlans_113 : decode cX10_fillsPlans 113 = .ok (.iload_n 1, 1) := dk_27 (dk_at dksX10_fillsPlans_4 19 rfl rfl)
theorem dX10_fillsPlans_114 : decode cX10_fillsPlans 114 = .ok (.bipush 6, 2) := dk_16 6 (dk_at dksX10_fillsPlans_4 20 rfl rfl)
theorem dX10_fillsPlans_116 : decode cX10_fillsPlans 116 = .ok (.idiv, 1) := dk_108 (dk_at dksX10_fillsPlans_4 22 rfl rfl)
theorem dX10_fillsPlans_117 : decode cX10_fillsPlans 117 = .ok (.iload_n 1, 1) := dk_27 (dk_at dksX10_fillsPlans_4 23 rfl rfl)
theorem dX10_fillsPlans_118 : decode cX10_fillsPlans 118 = .ok (.bipush 6, 2) := dk_16 6 (dk_at dksX10_fillsPlans_5 0 rfl rfl)
theorem dX10_fillsPlans_120 : decode cX10_fillsPlans 120 = .ok (.irem, 1) := dk_112 (dk_at dksX10_fillsPlans_5 2 rfl rfl)
theorem dX10_fillsPlans_121 : decode cX10_fillsPlans 121 = .ok (.invokevirtual 372, 3) := dk_182 1 116 (dk_at dksX10_fillsPlans_5 3 rfl rfl)
theorem dX10_fillsPlans_124 : decode cX10_fillsPlans 124 = .ok (.iastore, 1) := dk_79 (dk_at dksX10_fillsPlans_5 6 rfl rfl)
theorem dX10_fillsPlans_125 : decode cX10_fillsPlans 125 = .ok (.aload_n 0, 1) := dk_42 (dk_at dksX10_fillsPlans_5 7 rfl rfl)
theorem dX10_fillsPlans_126 : decode cX10_fillsPlans 126 = .ok (.getfield 131, 3) := dk_180 0 131 (dk_at dksX10_fillsPlans_5 8 rfl rfl)
theorem dX10_fillsPlans_129 : decode cX10_fillsPlans 129 = .ok (.iload_n 1, 1) := dk_27 (dk_at dksX10_fillsPlans_5 11 rfl rfl)
theorem dX10_fillsPlans_130 : decode cX10_fillsPlans 130 = .ok (.aload_n 0, 1) := dk_42 (dk_at dksX10_fillsPlans_5 12 rfl rfl)
theorem dX10_fillsPlans_131 : decode cX10_fillsPlans 131 = .ok (.iload_n 1, 1) := dk_27 (dk_at dksX10_fillsPlans_5 13 rfl rfl)
theorem dX10_fillsPlans_132 : decode cX10_fillsPlans 132 = .ok (.bipush 6, 2) := dk_16 6 (dk_at dksX10_fillsPlans_5 14 rfl rfl)
theorem dX10_fillsPlans_134 : decode cX10_fillsPlans 134 = .ok (.idiv, 1) := dk_108 (dk_at dksX10_fillsPlans_5 16 rfl rfl)
theorem dX10_fillsPlans_135 : decode cX10_fillsPlans 135 = .ok (.iload_n 1, 1) := dk_27 (dk_at dksX10_fillsPlans_5 17 rfl rfl)
theorem dX10_fillsPlans_136 : decode cX10_fillsPlans 136 = .ok (.bipush 6, 2) := dk_16 6 (dk_at dksX10_fillsPlans_5 18 rfl rfl)
theorem dX10_fillsPlans_138 : decode cX10_fillsPlans 138 = .ok (.irem, 1) := dk_112 (dk_at dksX10_fillsPlans_5 20 rfl rfl)
theorem dX10_fillsPlans_139 : decode cX10_fillsPlans 139 = .ok (.bipush 9, 2) := dk_16 9 (dk_at dksX10_fillsPlans_5 21 rfl rfl)
theorem dX10_fillsPlans_141 : decode cX10_fillsPlans 141 = .ok (.invokevirtual 366, 3) := dk_182 1 110 (dk_at dksX10_fillsPlans_6 0 rfl rfl)
theorem dX10_fillsPlans_144 : decode cX10_fillsPlans 144 = .ok (.iastore, 1) := dk_79 (dk_at dksX10_fillsPlans_6 3 rfl rfl)
theorem dX10_fillsPlans_145 : decode cX10_fillsPlans 145 = .ok (.aload_n 0, 1) := dk_42 (dk_at dksX10_fillsPlans_6 4 rfl rfl)
theorem dX10_fillsPlans_146 : decode cX10_fillsPlans 146 = .ok (.getfield 134, 3) := dk_180 0 134 (dk_at dksX10_fillsPlans_6 5 rfl rfl)
theorem dX10_fillsPlans_149 : decode cX10_fillsPlans 149 = .ok (.iload_n 1, 1) := dk_27 (dk_at dksX10_fillsPlans_6 8 rfl rfl)
theorem dX10_fillsPlans_150 : decode cX10_fillsPlans 150 = .ok (.aload_n 0, 1) := dk_42 (dk_at dksX10_fillsPlans_6 9 rfl rfl)
theorem dX10_fillsPlans_151 : decode cX10_fillsPlans 151 = .ok (.getfield 128, 3) := dk_180 0 128 (dk_at dksX10_fillsPlans_6 10 rfl rfl)
theorem dX10_fillsPlans_154 : decode cX10_fillsPlans 154 = .ok (.iload_n 1, 1) := dk_27 (dk_at dksX10_fillsPlans_6 13 rfl rfl)
theorem dX10_fillsPlans_155 : decode cX10_fillsPlans 155 = .ok (.iaload, 1) := dk_46 (dk_at dksX10_fillsPlans_6 14 rfl rfl)
theorem dX10_fillsPlans_156 : decode cX10_fillsPlans 156 = .ok (.iastore, 1) := dk_79 (dk_at dksX10_fillsPlans_6 15 rfl rfl)
theorem dX10_fillsPlans_157 : decode cX10_fillsPlans 157 = .ok (.iinc 1 1, 3) := dk_132 1 1 (dk_at dksX10_fillsPlans_6 16 rfl rfl)
theorem dX10_fillsPlans_160 : decode cX10_fillsPlans 160 = .ok (.goto (-77), 3) := dk_167 255 179 (dk_at dksX10_fillsPlans_6 19 rfl rfl)
theorem dX10_fillsPlans_163 : decode cX10_fillsPlans 163 = .ok (.return_, 1) := dk_177 (dk_at dksX10_fillsPlans_6 22 rfl rfl)
def dkwX10_goesToNext_3 : List UInt8 := [181, 1, 177, 4, 172]
abbrev dktX10_goesToNext_3 : List UInt8 := dkwX10_goesToNext_3 ++ []
def dkwX10_goesToNext_2 : List UInt8 := [156, 0, 5, 3, 172, 42, 180, 0, 137, 42, 180, 1, 177, 27, 79, 42, 89, 180, 1, 177, 4, 96]
abbrev dktX10_goesToNext_2 : List UInt8 := dkwX10_goesToNext_2 ++ dktX10_goesToNext_3
def dkwX10_goesToNext_1 : List UInt8 := [181, 1, 177, 42, 42, 180, 0, 137, 42, 180, 1, 177, 46, 4, 96, 182, 1, 183, 60, 167, 255, 219, 27]
abbrev dktX10_goesToNext_1 : List UInt8 := dkwX10_goesToNext_1 ++ dktX10_goesToNext_2
def dkwX10_goesToNext_0 : List UInt8 := [42, 3, 182, 1, 183, 60, 27, 156, 0, 39, 42, 180, 1, 177, 158, 0, 32, 42, 89, 180, 1, 177, 4, 100]
abbrev dktX10_goesToNext_0 : List UInt8 := dkwX10_goesToNext_0 ++ dktX10_goesToNext_1
theorem dksX10_goesToNext_0 : cX10_goesToNext.data.toList.drop 0 = dktX10_goesToNext_0 := by decide +kernel
theorem dksX10_goesToNext_1 : cX10_goesToNext.data.toList.drop 24 = dktX10_goesToNext_1 := dk_seg dksX10_goesToNext_0 24 rfl rfl
theorem dksX10_goesToNext_2 : cX10_goesToNext.data.toList.drop 47 = dktX10_goesToNext_2 := dk_seg dksX10_goesToNext_1 23 rfl rfl
theorem dksX10_goesToNext_3 : cX10_goesToNext.data.toList.drop 69 = dktX10_goesToNext_3 := dk_seg dksX10_goesToNext_2 22 rfl rfl
theorem dX10_goesToNext_0 : decode cX10_goesToNext 0 = .ok (.aload_n 0, 1) := dk_42 (dk_at dksX10_goesToNext_0 0 rfl rfl)
theorem dX10_goesToNext_1 : decode cX10_goesToNext 1 = .ok (.iconst 0, 1) := dk_3 (dk_at dksX10_goesToNext_0 1 rfl rfl)
theorem dX10_goesToNext_2 : decode cX10_goesToNext 2 = .ok (.invokevirtual 439, 3) := dk_182 1 183 (dk_at dksX10_goesToNext_0 2 rfl rfl)
theorem dX10_goesToNext_5 : decode cX10_goesToNext 5 = .ok (.istore_n 1, 1) := dk_60 (dk_at dksX10_goesToNext_0 5 rfl rfl)
theorem dX10_goesToNext_6 : decode cX10_goesToNext 6 = .ok (.iload_n 1, 1) := dk_27 (dk_at dksX10_goesToNext_0 6 rfl rfl)
theorem dX10_goesToNext_7 : decode cX10_goesToNext 7 = .ok (.ifCond .ge 39, 3) := dk_156 0 39 (dk_at dksX10_goesToNext_0 7 rfl rfl)
theorem dX10_goesToNext_10 : decode cX10_goesToNext 10 = .ok (.aload_n 0, 1) := dk_42 (dk_at dksX10_goesToNext_0 10 rfl rfl)
theorem dX10_goesToNext_11 : decode cX10_goesToNext 11 = .ok (.getfield 433, 3) := dk_180 1 177 (dk_at dksX10_goesToNext_0 11 rfl rfl)
theorem dX10_goesToNext_14 : decode cX10_goesToNext 14 = .ok (.ifCond .le 32, 3) := dk_158 0 32 (dk_at dksX10_goesToNext_0 14 rfl rfl)
theorem dX10_goesToNext_17 : decode cX10_goesToNext 17 = .ok (.aload_n 0, 1) := dk_42 (dk_at dksX10_goesToNext_0 17 rfl rfl)
theorem dX10_goesToNext_18 : decode cX10_goesToNext 18 = .ok (.dup, 1) := dk_89 (dk_at dksX10_goesToNext_0 18 rfl rfl)
theorem dX10_goesToNext_19 : decode cX10_goesToNext 19 = .ok (.getfield 433, 3) := dk_180 1 177 (dk_at dksX10_goesToNext_0 19 rfl rfl)
theorem dX10_goesToNext_22 : decode cX10_goesToNext 22 = .ok (.iconst 1, 1) := dk_4 (dk_at dksX10_goesToNext_0 22 rfl rfl)
theorem dX10_goesToNext_23 : decode cX10_goesToNext 23 = .ok (.isub, 1) := dk_100 (dk_at dksX10_goesToNext_0 23 rfl rfl)
theorem dX10_goesToNext_24 : decode cX10_goesToNext 24 = .ok (.putfield 433, 3) := dk_181 1 177 (dk_at dksX10_goesToNext_1 0 rfl rfl)
theorem dX10_goesToNext_27 : decode cX10_goesToNext 27 = .ok (.aload_n 0, 1) := dk_42 (dk_at dksX10_goesToNext_1 3 rfl rfl)
theorem dX10_goesToNext_28 : decode cX10_goesToNext 28 = .ok (.aload_n 0, 1) := dk_42 (dk_at dksX10_goesToNext_1 4 rfl rfl)
theorem dX10_goesToNext_29 : decode cX10_goesToNext 29 = .ok (.getfield 137, 3) := dk_180 0 137 (dk_at dksX10_goesToNext_1 5 rfl rfl)
theorem dX10_goesToNext_32 : decode cX10_goesToNext 32 = .ok (.aload_n 0, 1) := dk_42 (dk_at dksX10_goesToNext_1 8 rfl rfl)
theorem dX10_goesToNext_33 : decode cX10_goesToNext 33 = .ok (.getfield 433, 3) := dk_180 1 177 (dk_at dksX10_goesToNext_1 9 rfl rfl)
theorem dX10_goesToNext_36 : decode cX10_goesToNext 36 = .ok (.iaload, 1) := dk_46 (dk_at dksX10_goesToNext_1 12 rfl rfl)
theorem dX10_goesToNext_37 : decode cX10_goesToNext 37 = .ok (.iconst 1, 1) := dk_4 (dk_at dksX10_goesToNext_1 13 rfl rfl)
theorem dX10_goesToNext_38 : decode cX10_goesToNext 38 = .ok (.iadd, 1) := dk_96 (dk_at dksX10_goesToNext_1 14 rfl rfl)
theorem dX10_goesToNext_39 : decode cX10_goesToNext 39 = .ok (.invokevirtual 439, 3) := dk_182 1 183 (dk_at dksX10_goesToNext_1 15 rfl rfl)
theorem dX10_goesToNext_42 : decode cX10_goesToNext 42 = .ok (.istore_n 1, 1) := dk_60 (dk_at dksX10_goesToNext_1 18 rfl rfl)
theorem dX10_goesToNext_43 : decode cX10_goesToNext 43 = .ok (.goto (-37), 3) := dk_167 255 219 (dk_at dksX10_goesToNext_1 19 rfl rfl)
theorem dX10_goesToNext_46 : decode cX10_goesToNext 46 = .ok (.iload_n 1, 1) := dk_27 (dk_at dksX10_goesToNext_1 22 rfl rfl)
theorem dX10_goesToNext_47 : decode cX10_goesToNext 47 = .ok (.ifCond .ge 5, 3) := dk_156 0 5 (dk_at dksX10_goesToNext_2 0 rfl rfl)
theorem dX10_goesToNext_50 : decode cX10_goesToNext 50 = .ok (.iconst 0, 1) := dk_3 (dk_at dksX10_goesToNext_2 3 rfl rfl)
theorem dX10_goesToNext_51 : decode cX10_goesToNext 51 = .ok (.ireturn, 1) := dk_172 (dk_at dksX10_goesToNext_2 4 rfl rfl)
theorem dX10_goesToNext_52 : decode cX10_goesToNext 52 = .ok (.aload_n 0, 1) := dk_42 (dk_at dksX10_goesToNext_2 5 rfl rfl)
theorem dX10_goesToNext_53 : decode cX10_goesToNext 53 = .ok (.getfield 137, 3) := dk_180 0 137 (dk_at dksX10_goesToNext_2 6 rfl rfl)
theorem dX10_goesToNext_56 : decode cX10_goesToNext 56 = .ok (.aload_n 0, 1) := dk_42 (dk_at dksX10_goesToNext_2 9 rfl rfl)
theorem dX10_goesToNext_57 : decode cX10_goesToNext 57 = .ok (.getfield 433, 3) := dk_180 1 177 (dk_at dksX10_goesToNext_2 10 rfl rfl)
theorem dX10_goesToNext_60 : decode cX10_goesToNext 60 = .ok (.iload_n 1, 1) := dk_27 (dk_at dksX10_goesToNext_2 13 rfl rfl)
theorem dX10_goesToNext_61 : decode cX10_goesToNext 61 = .ok (.iastore, 1) := dk_79 (dk_at dksX10_goesToNext_2 14 rfl rfl)
theorem dX10_goesToNext_62 : decode cX10_goesToNext 62 = .ok (.aload_n 0, 1) := dk_42 (dk_at dksX10_goesToNext_2 15 rfl rfl)
theorem dX10_goesToNext_63 : decode cX10_goesToNext 63 = .ok (.dup, 1) := dk_89 (dk_at dksX10_goesToNext_2 16 rfl rfl)
theorem dX10_goesToNext_64 : decode cX10_goesToNext 64 = .ok (.getfield 433, 3) := dk_180 1 177 (dk_at dksX10_goesToNext_2 17 rfl rfl)
theorem dX10_goesToNext_67 : decode cX10_goesToNext 67 = .ok (.iconst 1, 1) := dk_4 (dk_at dksX10_goesToNext_2 20 rfl rfl)
theorem dX10_goesToNext_68 : decode cX10_goesToNext 68 = .ok (.iadd, 1) := dk_96 (dk_at dksX10_goesToNext_2 21 rfl rfl)
theorem dX10_goesToNext_69 : decode cX10_goesToNext 69 = .ok (.putfield 433, 3) := dk_181 1 177 (dk_at dksX10_goesToNext_3 0 rfl rfl)
theorem dX10_goesToNext_72 : decode cX10_goesToNext 72 = .ok (.iconst 1, 1) := dk_4 (dk_at dksX10_goesToNext_3 3 rfl rfl)
theorem dX10_goesToNext_73 : decode cX10_goesToNext 73 = .ok (.ireturn, 1) := dk_172 (dk_at dksX10_goesToNext_3 4 rfl rfl)
def dkwX10_nextFrom_1 : List UInt8 := [154, 0, 5, 28, 172, 132, 2, 1, 167, 255, 228, 2, 172]
abbrev dktX10_nextFrom_1 : List UInt8 := dkwX10_nextFrom_1 ++ []
def dkwX10_nextFrom_0 : List UInt8 := [27, 61, 28, 16, 6, 162, 0, 28, 42, 180, 0, 122, 28, 46, 158, 0, 13, 42, 28, 182, 1, 180]
abbrev dktX10_nextFrom_0 : List UInt8 := dkwX10_nextFrom_0 ++ dktX10_nextFrom_1
theorem dksX10_nextFrom_0 : cX10_nextFrom.data.toList.drop 0 = dktX10_nextFrom_0 := by decide +kernel
theorem dksX10_nextFrom_1 : cX10_nextFrom.data.toList.drop 22 = dktX10_nextFrom_1 := dk_seg dksX10_nextFrom_0 22 rfl rfl
theorem dX10_nextFrom_0 : decode cX10_nextFrom 0 = .ok (.iload_n 1, 1) := dk_27 (dk_at dksX10_nextFrom_0 0 rfl rfl)
theorem dX10_nextFrom_1 : decode cX10_nextFrom 1 = .ok (.istore_n 2, 1) := dk_61 (dk_at dksX10_nextFrom_0 1 rfl rfl)
theorem dX10_nextFrom_2 : decode cX10_nextFrom 2 = .ok (.iload_n 2, 1) := dk_28 (dk_at dksX10_nextFrom_0 2 rfl rfl)
theorem dX10_nextFrom_3 : decode cX10_nextFrom 3 = .ok (.bipush 6, 2) := dk_16 6 (dk_at dksX10_nextFrom_0 3 rfl rfl)
theorem dX10_nextFrom_5 : decode cX10_nextFrom 5 = .ok (.if_icmp .ge 28, 3) := dk_162 0 28 (dk_at dksX10_nextFrom_0 5 rfl rfl)
theorem dX10_nextFrom_8 : decode cX10_nextFrom 8 = .ok (.aload_n 0, 1) := dk_42 (dk_at dksX10_nextFrom_0 8 rfl rfl)
theorem dX10_nextFrom_9 : decode cX10_nextFrom 9 = .ok (.getfield 122, 3) := dk_180 0 122 (dk_at dksX10_nextFrom_0 9 rfl rfl)
theorem dX10_nextFrom_12 : decode cX10_nextFrom 12 = .ok (.iload_n 2, 1) := dk_28 (dk_at dksX10_nextFrom_0 12 rfl rfl)
theorem dX10_nextFrom_13 : decode cX10_nextFrom 13 = .ok (.iaload, 1) := dk_46 (dk_at dksX10_nextFrom_0 13 rfl rfl)
theorem dX10_nextFrom_14 : decode cX10_nextFrom 14 = .ok (.ifCond .le 13, 3) := dk_158 0 13 (dk_at dksX10_nextFrom_0 14 rfl rfl)
theorem dX10_nextFrom_17 : decode cX10_nextFrom 17 = .ok (.aload_n 0, 1) := dk_42 (dk_at dksX10_nextFrom_0 17 rfl rfl)
theorem dX10_nextFrom_18 : decode cX10_nextFrom 18 = .ok (.iload_n 2, 1) := dk_28 (dk_at dksX10_nextFrom_0 18 rfl rfl)
theorem dX10_nextFrom_19 : decode cX10_nextFrom 19 = .ok (.invokevirtual 436, 3) := dk_182 1 180 (dk_at dksX10_nextFrom_0 19 rfl rfl)
theorem dX10_nextFrom_22 : decode cX10_nextFrom 22 = .ok (.ifCond .ne 5, 3) := dk_154 0 5 (dk_at dksX10_nextFrom_1 0 rfl rfl)
theorem dX10_nextFrom_25 : decode cX10_nextFrom 25 = .ok (.iload_n 2, 1) := dk_28 (dk_at dksX10_nextFrom_1 3 rfl rfl)
theorem dX10_nextFrom_26 : decode cX10_nextFrom 26 = .ok (.ireturn, 1) := dk_172 (dk_at dksX10_nextFrom_1 4 rfl rfl)
theorem dX10_nextFrom_27 : decode cX10_nextFrom 27 = .ok (.iinc 2 1, 3) := dk_132 2 1 (dk_at dksX10_nextFrom_1 5 rfl rfl)
theorem dX10_nextFrom_30 : decode cX10_nextFrom 30 = .ok (.goto (-28), 3) := dk_167 255 228 (dk_at dksX10_nextFrom_1 8 rfl rfl)
theorem dX10_nextFrom_33 : decode cX10_nextFrom 33 = .ok (.iconst (-1), 1) := dk_2 (dk_at dksX10_nextFrom_1 11 rfl rfl)
theorem dX10_nextFrom_34 : decode cX10_nextFrom 34 = .ok (.ireturn, 1) := dk_172 (dk_at dksX10_nextFrom_1 12 rfl rfl)
def dkwX10_isIn_1 : List UInt8 := [132, 2, 1, 167, 255, 233, 3, 172]
abbrev dktX10_isIn_1 : List UInt8 := dkwX10_isIn_1 ++ []
def dkwX10_isIn_0 : List UInt8 := [3, 61, 28, 42, 180, 1, 177, 162, 0, 21, 42, 180, 0, 137, 28, 46, 27, 160, 0, 5, 4, 172]
abbrev dktX10_isIn_0 : List UInt8 := dkwX10_isIn_0 ++ dktX10_isIn_1
theorem dksX10_isIn_0 : cX10_isIn.data.toList.drop 0 = dktX10_isIn_0 := by decide +kernel
theorem dksX10_isIn_1 : cX10_isIn.data.toList.drop 22 = dktX10_isIn_1 := dk_seg dksX10_isIn_0 22 rfl rfl
theorem dX10_isIn_0 : decode cX10_isIn 0 = .ok (.iconst 0, 1) := dk_3 (dk_at dksX10_isIn_0 0 rfl rfl)
theorem dX10_isIn_1 : decode cX10_isIn 1 = .ok (.istore_n 2, 1) := dk_61 (dk_at dksX10_isIn_0 1 rfl rfl)
theorem dX10_isIn_2 : decode cX10_isIn 2 = .ok (.iload_n 2, 1) := dk_28 (dk_at dksX10_isIn_0 2 rfl rfl)
theorem dX10_isIn_3 : decode cX10_isIn 3 = .ok (.aload_n 0, 1) := dk_42 (dk_at dksX10_isIn_0 3 rfl rfl)
theorem dX10_isIn_4 : decode cX10_isIn 4 = .ok (.getfield 433, 3) := dk_180 1 177 (dk_at dksX10_isIn_0 4 rfl rfl)
theorem dX10_isIn_7 : decode cX10_isIn 7 = .ok (.if_icmp .ge 21, 3) := dk_162 0 21 (dk_at dksX10_isIn_0 7 rfl rfl)
theorem dX10_isIn_10 : decode cX10_isIn 10 = .ok (.aload_n 0, 1) := dk_42 (dk_at dksX10_isIn_0 10 rfl rfl)
theorem dX10_isIn_11 : decode cX10_isIn 11 = .ok (.getfield 137, 3) := dk_180 0 137 (dk_at dksX10_isIn_0 11 rfl rfl)
theorem dX10_isIn_14 : decode cX10_isIn 14 = .ok (.iload_n 2, 1) := dk_28 (dk_at dksX10_isIn_0 14 rfl rfl)
theorem dX10_isIn_15 : decode cX10_isIn 15 = .ok (.iaload, 1) := dk_46 (dk_at dksX10_isIn_0 15 rfl rfl)
theorem dX10_isIn_16 : decode cX10_isIn 16 = .ok (.iload_n 1, 1) := dk_27 (dk_at dksX10_isIn_0 16 rfl rfl)
theorem dX10_isIn_17 : decode cX10_isIn 17 = .ok (.if_icmp .ne 5, 3) := dk_160 0 5 (dk_at dksX10_isIn_0 17 rfl rfl)
theorem dX10_isIn_20 : decode cX10_isIn 20 = .ok (.iconst 1, 1) := dk_4 (dk_at dksX10_isIn_0 20 rfl rfl)
theorem dX10_isIn_21 : decode cX10_isIn 21 = .ok (.ireturn, 1) := dk_172 (dk_at dksX10_isIn_0 21 rfl rfl)
theorem dX10_isIn_22 : decode cX10_isIn 22 = .ok (.iinc 2 1, 3) := dk_132 2 1 (dk_at dksX10_isIn_1 0 rfl rfl)
theorem dX10_isIn_25 : decode cX10_isIn 25 = .ok (.goto (-23), 3) := dk_167 255 233 (dk_at dksX10_isIn_1 3 rfl rfl)
theorem dX10_isIn_28 : decode cX10_isIn 28 = .ok (.iconst 0, 1) := dk_3 (dk_at dksX10_isIn_1 6 rfl rfl)
theorem dX10_isIn_29 : decode cX10_isIn 29 = .ok (.ireturn, 1) := dk_172 (dk_at dksX10_isIn_1 7 rfl rfl)
def dkwX10_orderSpare_5 : List UInt8 := [180, 0, 58, 42, 180, 0, 245, 46, 161, 0, 7, 27, 156, 0, 7, 2, 167, 0, 4, 27, 172]
abbrev dktX10_orderSpare_5 : List UInt8 := dkwX10_orderSpare_5 ++ []
def dkwX10_orderSpare_4 : List UInt8 := [42, 180, 0, 137, 29, 4, 100, 46, 104, 21, 4, 96, 46, 28, 100, 60, 132, 3, 255, 167, 255, 157, 28, 42]
abbrev dktX10_orderSpare_4 : List UInt8 := dkwX10_orderSpare_4 ++ dktX10_orderSpare_5
def dkwX10_orderSpare_3 : List UInt8 := [180, 0, 137, 29, 4, 100, 46, 104, 21, 4, 96, 46, 28, 100, 27, 162, 0, 25, 42, 180, 0, 134, 16, 6]
abbrev dktX10_orderSpare_3 : List UInt8 := dkwX10_orderSpare_3 ++ dktX10_orderSpare_4
def dkwX10_orderSpare_2 : List UInt8 := [60, 28, 42, 180, 0, 122, 21, 4, 46, 96, 61, 29, 158, 0, 50, 42, 180, 0, 134, 16, 6, 42]
abbrev dktX10_orderSpare_2 : List UInt8 := dkwX10_orderSpare_2 ++ dktX10_orderSpare_3
def dkwX10_orderSpare_1 : List UInt8 := [54, 4, 42, 180, 0, 125, 21, 4, 46, 28, 100, 27, 162, 0, 13, 42, 180, 0, 125, 21, 4, 46, 28, 100]
abbrev dktX10_orderSpare_1 : List UInt8 := dkwX10_orderSpare_1 ++ dktX10_orderSpare_2
def dkwX10_orderSpare_0 : List UInt8 := [17, 3, 231, 60, 3, 61, 42, 180, 1, 177, 4, 100, 62, 29, 155, 0, 101, 42, 180, 0, 137, 29, 46]
abbrev dktX10_orderSpare_0 : List UInt8 := dkwX10_orderSpare_0 ++ dktX10_orderSpare_1
theorem dksX10_orderSpare_0 : cX10_orderSpare.data.toList.drop 0 = dktX10_orderSpare_0 := by decide +kernel
theorem dksX10_orderSpare_1 : cX10_orderSpare.data.toList.drop 23 = dktX10_orderSpare_1 := dk_seg dksX10_orderSpare_0 23 rfl rfl
theorem dksX10_orderSpare_2 : cX10_orderSpare.data.toList.drop 47 = dktX10_orderSpare_2 := dk_seg dksX10_orderSpare_1 24 rfl rfl
theorem dksX10_orderSpare_3 : cX10_orderSpare.data.toList.drop 69 = dktX10_orderSpare_3 := dk_seg dksX10_orderSpare_2 22 rfl rfl
theorem dksX10_orderSpare_4 : cX10_orderSpare.data.toList.drop 93 = dktX10_orderSpare_4 := dk_seg dksX10_orderSpare_3 24 rfl rfl
theorem dksX10_orderSpare_5 : cX10_orderSpare.data.toList.drop 117 = dktX10_orderSpare_5 := dk_seg dksX10_orderSpare_4 24 rfl rfl
theorem dX10_orderSpare_0 : decode cX10_orderSpare 0 = .ok (.sipush 999, 3) := dk_17 3 231 (dk_at dksX10_orderSpare_0 0 rfl rfl)
theorem dX10_orderSpare_3 : decode cX10_orderSpare 3 = .ok (.istore_n 1, 1) := dk_60 (dk_at dksX10_orderSpare_0 3 rfl rfl)
theorem dX10_orderSpare_4 : decode cX10_orderSpare 4 = .ok (.iconst 0, 1) := dk_3 (dk_at dksX10_orderSpare_0 4 rfl rfl)
theorem dX10_orderSpare_5 : decode cX10_orderSpare 5 = .ok (.istore_n 2, 1) := dk_61 (dk_at dksX10_orderSpare_0 5 rfl rfl)
theorem dX10_orderSpare_6 : decode cX10_orderSpare 6 = .ok (.aload_n 0, 1) := dk_42 (dk_at dksX10_orderSpare_0 6 rfl rfl)
theorem dX10_orderSpare_7 : decode cX10_orderSpare 7 = .ok (.getfield 433, 3) := dk_180 1 177 (dk_at dksX10_orderSpare_0 7 rfl rfl)
theorem dX10_orderSpare_10 : decode cX10_orderSpare 10 = .ok (.iconst 1, 1) := dk_4 (dk_at dksX10_orderSpare_0 10 rfl rfl)
theorem dX10_orderSpare_11 : decode cX10_orderSpare 11 = .ok (.isub, 1) := dk_100 (dk_at dksX10_orderSpare_0 11 rfl rfl)
theorem dX10_orderSpare_12 : decode cX10_orderSpare 12 = .ok (.istore_n 3, 1) := dk_62 (dk_at dksX10_orderSpare_0 12 rfl rfl)
theorem dX10_orderSpare_13 : decode cX10_orderSpare 13 = .ok (.iload_n 3, 1) := dk_29 (dk_at dksX10_orderSpare_0 13 rfl rfl)
theorem dX10_orderSpare_14 : decode cX10_orderSpare 14 = .ok (.ifCond .lt 101, 3) := dk_155 0 101 (dk_at dksX10_orderSpare_0 14 rfl rfl)
theorem dX10_orderSpare_17 : decode cX10_orderSpare 17 = .ok (.aload_n 0, 1) := dk_42 (dk_at dksX10_orderSpare_0 17 rfl rfl)
theorem dX10_orderSpare_18 : decode cX10_orderSpare 18 = .ok (.getfield 137, 3) := dk_180 0 137 (dk_at dksX10_orderSpare_0 18 rfl rfl)
theorem dX10_orderSpare_21 : decode cX10_orderSpare 21 = .ok (.iload_n 3, 1) := dk_29 (dk_at dksX10_orderSpare_0 21 rfl rfl)
theorem dX10_orderSpare_22 : decode cX10_orderSpare 22 = .ok (.iaload, 1) := dk_46 (dk_at dksX10_orderSpare_0 22 rfl rfl)
theorem dX10_orderSpare_23 : decode cX10_orderSpare 23 = .ok (.istore 4, 2) := dk_54 4 (dk_at dksX10_orderSpare_1 0 rfl rfl)
theorem dX10_orderSpare_25 : decode cX10_orderSpare 25 = .ok (.aload_n 0, 1) := dk_42 (dk_at dksX10_orderSpare_1 2 rfl rfl)
theorem dX10_orderSpare_26 : decode cX10_orderSpare 26 = .ok (.getfield 125, 3) := dk_180 0 125 (dk_at dksX10_orderSpare_1 3 rfl rfl)
theorem dX10_orderSpare_29 : decode cX10_orderSpare 29 = .ok (.iload 4, 2) := dk_21 4 (dk_at dksX10_orderSpare_1 6 rfl rfl)
theorem dX10_orderSpare_31 : decode cX10_orderSpare 31 = .ok (.iaload, 1) := dk_46 (dk_at dksX10_orderSpare_1 8 rfl rfl)
theorem dX10_orderSpare_32 : decode cX10_orderSpare 32 = .ok (.iload_n 2, 1) := dk_28 (dk_at dksX10_orderSpare_1 9 rfl rfl)
theorem dX10_orderSpare_33 : decode cX10_orderSpare 33 = .ok (.isub, 1) := dk_100 (dk_at dksX10_orderSpare_1 10 rfl rfl)
theorem dX10_orderSpare_34 : decode cX10_orderSpare 34 = .ok (.iload_n 1, 1) := dk_27 (dk_at dksX10_orderSpare_1 11 rfl rfl)
theorem dX10_orderSpare_35 : decode cX10_orderSpare 35 = .ok (.if_icmp .ge 13, 3) := dk_162 0 13 (dk_at dksX10_orderSpare_1 12 rfl rfl)
theorem dX10_orderSpare_38 : decode cX10_orderSpare 38 = .ok (.aload_n 0, 1) := dk_42 (dk_at dksX10_orderSpare_1 15 rfl rfl)
theorem dX10_orderSpare_39 : decode cX10_orderSpare 39 = .ok (.getfield 125, 3) := dk_180 0 125 (dk_at dksX10_orderSpare_1 16 rfl rfl)
theorem dX10_orderSpare_42 : decode cX10_orderSpare 42 = .ok (.iload 4, 2) := dk_21 4 (dk_at dksX10_orderSpare_1 19 rfl rfl)
theorem dX10_orderSpare_44 : decode cX10_orderSpare 44 = .ok (.iaload, 1) := dk_46 (dk_at dksX10_orderSpare_1 21 rfl rfl)
theorem dX10_orderSpare_45 : decode cX10_orderSpare 45 = .ok (.iload_n 2, 1) := dk_28 (dk_at dksX10_orderSpare_1 22 rfl rfl)
theorem dX10_orderSpare_46 : decode cX10_orderSpare 46 = .ok (.isub, 1) := dk_100 (dk_at dksX10_orderSpare_1 23 rfl rfl)
theorem dX10_orderSpare_47 : decode cX10_orderSpare 47 = .ok (.istore_n 1, 1) := dk_60 (dk_at dksX10_orderSpare_2 0 rfl rfl)
theorem dX10_orderSpare_48 : decode cX10_orderSpare 48 = .ok (.iload_n 2, 1) := dk_28 (dk_at dksX10_orderSpare_2 1 rfl rfl)
theorem dX10_orderSpare_49 : decode cX10_orderSpare 49 = .ok (.aload_n 0, 1) := dk_42 (dk_at dksX10_orderSpare_2 2 rfl rfl)
theorem dX10_orderSpare_50 : decode cX10_orderSpare 50 = .ok (.getfield 122, 3) := dk_180 0 122 (dk_at dksX10_orderSpare_2 3 rfl rfl)
theorem dX10_orderSpare_53 : decode cX10_orderSpare 53 = .ok (.iload 4, 2) := dk_21 4 (dk_at dksX10_orderSpare_2 6 rfl rfl)
theorem dX10_orderSpare_55 : decode cX10_orderSpare 55 = .ok (.iaload, 1) := dk_46 (dk_at dksX10_orderSpare_2 8 rfl rfl)
theorem dX10_orderSpare_56 : decode cX10_orderSpare 56 = .ok (.iadd, 1) := dk_96 (dk_at dksX10_orderSpare_2 9 rfl rfl)
theorem dX10_orderSpare_57 : decode cX10_orderSpare 57 = .ok (.istore_n 2, 1) := dk_61 (dk_at dksX10_orderSpare_2 10 rfl rfl)
theorem dX10_orderSpare_58 : decode cX10_orderSpare 58 = .ok (.iload_n 3, 1) := dk_29 (dk_at dksX10_orderSpare_2 11 rfl rfl)
theorem dX10_orderSpare_59 : decode cX10_orderSpare 59 = .ok (.ifCond .le 50, 3) := dk_158 0 50 (dk_at dksX10_orderSpare_2 12 rfl rfl)
theorem dX10_orderSpare_62 : decode cX10_orderSpare 62 = .ok (.aload_n 0, 1) := dk_42 (dk_at dksX10_orderSpare_2 15 rfl rfl)
theorem dX10_orderSpare_63 : decode cX10_orderSpare 63 = .ok (.getfield 134, 3) := dk_180 0 134 (dk_at dksX10_orderSpare_2 16 rfl rfl)
theorem dX10_orderSpare_66 : decode cX10_orderSpare 66 = .ok (.bipush 6, 2) := dk_16 6 (dk_at dksX10_orderSpare_2 19 rfl rfl)
theorem dX10_orderSpare_68 : decode cX10_orderSpare 68 = .ok (.aload_n 0, 1) := dk_42 (dk_at dksX10_orderSpare_2 21 rfl rfl)
theorem dX10_orderSpare_69 : decode cX10_orderSpare 69 = .ok (.getfield 137, 3) := dk_180 0 137 (dk_at dksX10_orderSpare_3 0 rfl rfl)
theorem dX10_orderSpare_72 : decode cX10_orderSpare 72 = .ok (.iload_n 3, 1) := dk_29 (dk_at dksX10_orderSpare_3 3 rfl rfl)
theorem dX10_orderSpare_73 : decode cX10_orderSpare 73 = .ok (.iconst 1, 1) := dk_4 (dk_at dksX10_orderSpare_3 4 rfl rfl)
theorem dX10_orderSpare_74 : decode cX10_orderSpare 74 = .ok (.isub, 1) := dk_100 (dk_at dksX10_orderSpare_3 5 rfl rfl)
theorem dX10_orderSpare_75 : decode cX10_orderSpare 75 = .ok (.iaload, 1) := dk_46 (dk_at dksX10_orderSpare_3 6 rfl rfl)
theorem dX10_orderSpare_76 : decode cX10_orderSpare 76 = .ok (.imul, 1) := dk_104 (dk_at dksX10_orderSpare_3 7 rfl rfl)
theorem dX10_orderSpare_77 : decode cX10_orderSpare 77 = .ok (.iload 4, 2) := dk_21 4 (dk_at dksX10_orderSpare_3 8 rfl rfl)
theorem dX10_orderSpare_79 : decode cX10_orderSpare 79 = .ok (.iadd, 1) := dk_96 (dk_at dksX10_orderSpare_3 10 rfl rfl)
theorem dX10_orderSpare_80 : decode cX10_orderSpare 80 = .ok (.iaload, 1) := dk_46 (dk_at dksX10_orderSpare_3 11 rfl rfl)
theorem dX10_orderSpare_81 : decode cX10_orderSpare 81 = .ok (.iload_n 2, 1) := dk_28 (dk_at dksX10_orderSpare_3 12 rfl rfl)
theorem dX10_orderSpare_82 : decode cX10_orderSpare 82 = .ok (.isub, 1) := dk_100 (dk_at dksX10_orderSpare_3 13 rfl rfl)
theorem dX10_orderSpare_83 : decode cX10_orderSpare 83 = .ok (.iload_n 1, 1) := dk_27 (dk_at dksX10_orderSpare_3 14 rfl rfl)
theorem dX10_orderSpare_84 : decode cX10_orderSpare 84 = .ok (.if_icmp .ge 25, 3) := dk_162 0 25 (dk_at dksX10_orderSpare_3 15 rfl rfl)
theorem dX10_orderSpare_87 : decode cX10_orderSpare 87 = .ok (.aload_n 0, 1) := dk_42 (dk_at dksX10_orderSpare_3 18 rfl rfl)
theorem dX10_orderSpare_88 : decode cX10_orderSpare 88 = .ok (.getfield 134, 3) := dk_180 0 134 (dk_at dksX10_orderSpare_3 19 rfl rfl)
theorem dX10_orderSpare_91 : decode cX10_orderSpare 91 = .ok (.bipush 6, 2) := dk_16 6 (dk_at dksX10_orderSpare_3 22 rfl rfl)
theorem dX10_orderSpare_93 : decode cX10_orderSpare 93 = .ok (.aload_n 0, 1) := dk_42 (dk_at dksX10_orderSpare_4 0 rfl rfl)
theorem dX10_orderSpare_94 : decode cX10_orderSpare 94 = .ok (.getfield 137, 3) := dk_180 0 137 (dk_at dksX10_orderSpare_4 1 rfl rfl)
theorem dX10_orderSpare_97 : decode cX10_orderSpare 97 = .ok (.iload_n 3, 1) := dk_29 (dk_at dksX10_orderSpare_4 4 rfl rfl)
theorem dX10_orderSpare_98 : decode cX10_orderSpare 98 = .ok (.iconst 1, 1) := dk_4 (dk_at dksX10_orderSpare_4 5 rfl rfl)
theorem dX10_orderSpare_99 : decode cX10_orderSpare 99 = .ok (.isub, 1) := dk_100 (dk_at dksX10_orderSpare_4 6 rfl rfl)
theorem dX10_orderSpare_100 : decode cX10_orderSpare 100 = .ok (.iaload, 1) := dk_46 (dk_at dksX10_orderSpare_4 7 rfl rfl)
theorem dX10_orderSpare_101 : decode cX10_orderSpare 101 = .ok (.imul, 1) := dk_104 (dk_at dksX10_orderSpare_4 8 rfl rfl)
theorem dX10_orderSpare_102 : decode cX10_orderSpare 102 = .ok (.iload 4, 2) := dk_21 4 (dk_at dksX10_orderSpare_4 9 rfl rfl)
theorem dX10_orderSpare_104 : decode cX10_orderSpare 104 = .ok (.iadd, 1) := dk_96 (dk_at dksX10_orderSpare_4 11 rfl rfl)
theorem dX10_orderSpare_105 : decode cX10_orderSpare 105 = .ok (.iaload, 1) := dk_46 (dk_at dksX10_orderSpare_4 12 rfl rfl)
theorem dX10_orderSpare_106 : decode cX10_orderSpare 106 = .ok (.iload_n 2, 1) := dk_28 (dk_at dksX10_orderSpare_4 13 rfl rfl)
theorem dX10_orderSpare_107 : decode cX10_orderSpare 107 = .ok (.isub, 1) := dk_100 (dk_at dksX10_orderSpare_4 14 rfl rfl)
theorem dX10_orderSpare_108 : decode cX10_orderSpare 108 = .ok (.istore_n 1, 1) := dk_60 (dk_at dksX10_orderSpare_4 15 rfl rfl)
theorem dX10_orderSpare_109 : decode cX10_orderSpare 109 = .ok (.iinc 3 (-1), 3) := dk_132 3 255 (dk_at dksX10_orderSpare_4 16 rfl rfl)
theorem dX10_orderSpare_112 : decode cX10_orderSpare 112 = .ok (.goto (-99), 3) := dk_167 255 157 (dk_at dksX10_orderSpare_4 19 rfl rfl)
theorem dX10_orderSpare_115 : decode cX10_orderSpare 115 = .ok (.iload_n 2, 1) := dk_28 (dk_at dksX10_orderSpare_4 22 rfl rfl)
theorem dX10_orderSpare_116 : decode cX10_orderSpare 116 = .ok (.aload_n 0, 1) := dk_42 (dk_at dksX10_orderSpare_4 23 rfl rfl)
theorem dX10_orderSpare_117 : decode cX10_orderSpare 117 = .ok (.getfield 58, 3) := dk_180 0 58 (dk_at dksX10_orderSpare_5 0 rfl rfl)
theorem dX10_orderSpare_120 : decode cX10_orderSpare 120 = .ok (.aload_n 0, 1) := dk_42 (dk_at dksX10_orderSpare_5 3 rfl rfl)
theorem dX10_orderSpare_121 : decode cX10_orderSpare 121 = .ok (.getfield 245, 3) := dk_180 0 245 (dk_at dksX10_orderSpare_5 4 rfl rfl)
theorem dX10_orderSpare_124 : decode cX10_orderSpare 124 = .ok (.iaload, 1) := dk_46 (dk_at dksX10_orderSpare_5 7 rfl rfl)
theorem dX10_orderSpare_125 : decode cX10_orderSpare 125 = .ok (.if_icmp .lt 7, 3) := dk_161 0 7 (dk_at dksX10_orderSpare_5 8 rfl rfl)
theorem dX10_orderSpare_128 : decode cX10_orderSpare 128 = .ok (.iload_n 1, 1) := dk_27 (dk_at dksX10_orderSpare_5 11 rfl rfl)
theorem dX10_orderSpare_129 : decode cX10_orderSpare 129 = .ok (.ifCond .ge 7, 3) := dk_156 0 7 (dk_at dksX10_orderSpare_5 12 rfl rfl)
theorem dX10_orderSpare_132 : decode cX10_orderSpare 132 = .ok (.iconst (-1), 1) := dk_2 (dk_at dksX10_orderSpare_5 15 rfl rfl)
theorem dX10_orderSpare_133 : decode cX10_orderSpare 133 = .ok (.goto 4, 3) := dk_167 0 4 (dk_at dksX10_orderSpare_5 16 rfl rfl)
theorem dX10_orderSpare_136 : decode cX10_orderSpare 136 = .ok (.iload_n 1, 1) := dk_27 (dk_at dksX10_orderSpare_5 19 rfl rfl)
theorem dX10_orderSpare_137 : decode cX10_orderSpare 137 = .ok (.ireturn, 1) := dk_172 (dk_at dksX10_orderSpare_5 20 rfl rfl)
def dkwX10_peak_0 : List UInt8 := [42, 182, 1, 76, 42, 182, 1, 186, 42, 182, 1, 196, 172]
abbrev dktX10_peak_0 : List UInt8 := dkwX10_peak_0 ++ []
theorem dksX10_peak_0 : cX10_peak.data.toList.drop 0 = dktX10_peak_0 := by decide +kernel
theorem dX10_peak_0 : decode cX10_peak 0 = .ok (.aload_n 0, 1) := dk_42 (dk_at dksX10_peak_0 0 rfl rfl)
theorem dX10_peak_1 : decode cX10_peak 1 = .ok (.invokevirtual 332, 3) := dk_182 1 76 (dk_at dksX10_peak_0 1 rfl rfl)
theorem dX10_peak_4 : decode cX10_peak 4 = .ok (.aload_n 0, 1) := dk_42 (dk_at dksX10_peak_0 4 rfl rfl)
theorem dX10_peak_5 : decode cX10_peak 5 = .ok (.invokevirtual 442, 3) := dk_182 1 186 (dk_at dksX10_peak_0 5 rfl rfl)
theorem dX10_peak_8 : decode cX10_peak 8 = .ok (.aload_n 0, 1) := dk_42 (dk_at dksX10_peak_0 8 rfl rfl)
theorem dX10_peak_9 : decode cX10_peak 9 = .ok (.invokevirtual 452, 3) := dk_182 1 196 (dk_at dksX10_peak_0 9 rfl rfl)
theorem dX10_peak_12 : decode cX10_peak 12 = .ok (.ireturn, 1) := dk_172 (dk_at dksX10_peak_0 12 rfl rfl)
def dkwX10_peakOf_1 : List UInt8 := [28, 27, 164, 0, 5, 28, 60, 167, 255, 233, 27, 172]
abbrev dktX10_peakOf_1 : List UInt8 := dkwX10_peakOf_1 ++ []
def dkwX10_peakOf_0 : List UInt8 := [16, 254, 60, 42, 3, 181, 1, 177, 42, 182, 1, 189, 153, 0, 22, 42, 182, 1, 193, 61, 28, 155, 0, 10]
abbrev dktX10_peakOf_0 : List UInt8 := dkwX10_peakOf_0 ++ dktX10_peakOf_1
theorem dksX10_peakOf_0 : cX10_peakOf.data.toList.drop 0 = dktX10_peakOf_0 := by decide +kernel
theorem dksX10_peakOf_1 : cX10_peakOf.data.toList.drop 24 = dktX10_peakOf_1 := dk_seg dksX10_peakOf_0 24 rfl rfl
theorem dX10_peakOf_0 : decode cX10_peakOf 0 = .ok (.bipush (-2), 2) := dk_16 254 (dk_at dksX10_peakOf_0 0 rfl rfl)
theorem dX10_peakOf_2 : decode cX10_peakOf 2 = .ok (.istore_n 1, 1) := dk_60 (dk_at dksX10_peakOf_0 2 rfl rfl)
theorem dX10_peakOf_3 : decode cX10_peakOf 3 = .ok (.aload_n 0, 1) := dk_42 (dk_at dksX10_peakOf_0 3 rfl rfl)
theorem dX10_peakOf_4 : decode cX10_peakOf 4 = .ok (.iconst 0, 1) := dk_3 (dk_at dksX10_peakOf_0 4 rfl rfl)
theorem dX10_peakOf_5 : decode cX10_peakOf 5 = .ok (.putfield 433, 3) := dk_181 1 177 (dk_at dksX10_peakOf_0 5 rfl rfl)
theorem dX10_peakOf_8 : decode cX10_peakOf 8 = .ok (.aload_n 0, 1) := dk_42 (dk_at dksX10_peakOf_0 8 rfl rfl)
theorem dX10_peakOf_9 : decode cX10_peakOf 9 = .ok (.invokevirtual 445, 3) := dk_182 1 189 (dk_at dksX10_peakOf_0 9 rfl rfl)
theorem dX10_peakOf_12 : decode cX10_peakOf 12 = .ok (.ifCond .eq 22, 3) := dk_153 0 22 (dk_at dksX10_peakOf_0 12 rfl rfl)
theorem dX10_peakOf_15 : decode cX10_peakOf 15 = .ok (.aload_n 0, 1) := dk_42 (dk_at dksX10_peakOf_0 15 rfl rfl)
theorem dX10_peakOf_16 : decode cX10_peakOf 16 = .ok (.invokevirtual 449, 3) := dk_182 1 193 (dk_at dksX10_peakOf_0 16 rfl rfl)
theorem dX10_peakOf_19 : decode cX10_peakOf 19 = .ok (.istore_n 2, 1) := dk_61 (dk_at dksX10_peakOf_0 19 rfl rfl)
theorem dX10_peakOf_20 : decode cX10_peakOf 20 = .ok (.iload_n 2, 1) := dk_28 (dk_at dksX10_peakOf_0 20 rfl rfl)
theorem dX10_peakOf_21 : decode cX10_peakOf 21 = .ok (.ifCond .lt 10, 3) := dk_155 0 10 (dk_at dksX10_peakOf_0 21 rfl rfl)
theorem dX10_peakOf_24 : decode cX10_peakOf 24 = .ok (.iload_n 2, 1) := dk_28 (dk_at dksX10_peakOf_1 0 rfl rfl)
theorem dX10_peakOf_25 : decode cX10_peakOf 25 = .ok (.iload_n 1, 1) := dk_27 (dk_at dksX10_peakOf_1 1 rfl rfl)
theorem dX10_peakOf_26 : decode cX10_peakOf 26 = .ok (.if_icmp .le 5, 3) := dk_164 0 5 (dk_at dksX10_peakOf_1 2 rfl rfl)
theorem dX10_peakOf_29 : decode cX10_peakOf 29 = .ok (.iload_n 2, 1) := dk_28 (dk_at dksX10_peakOf_1 5 rfl rfl)
theorem dX10_peakOf_30 : decode cX10_peakOf 30 = .ok (.istore_n 1, 1) := dk_60 (dk_at dksX10_peakOf_1 6 rfl rfl)
theorem dX10_peakOf_31 : decode cX10_peakOf 31 = .ok (.goto (-23), 3) := dk_167 255 233 (dk_at dksX10_peakOf_1 7 rfl rfl)
theorem dX10_peakOf_34 : decode cX10_peakOf 34 = .ok (.iload_n 1, 1) := dk_27 (dk_at dksX10_peakOf_1 10 rfl rfl)
theorem dX10_peakOf_35 : decode cX10_peakOf 35 = .ok (.ireturn, 1) := dk_172 (dk_at dksX10_peakOf_1 11 rfl rfl)
def dkwX10_fewest_2 : List UInt8 := [28, 46, 167, 0, 4, 2, 172]
abbrev dktX10_fewest_2 : List UInt8 := dkwX10_fewest_2 ++ []
def dkwX10_fewest_1 : List UInt8 := [182, 1, 199, 62, 29, 155, 0, 8, 28, 2, 160, 0, 5, 29, 172, 28, 29, 162, 0, 12, 42, 180, 0, 140]
abbrev dktX10_fewest_1 : List UInt8 := dkwX10_fewest_1 ++ dktX10_fewest_2
def dkwX10_fewest_0 : List UInt8 := [27, 184, 1, 156, 153, 0, 8, 28, 2, 162, 0, 5, 2, 172, 42, 182, 1, 76, 42, 182, 1, 186, 42, 27]
abbrev dktX10_fewest_0 : List UInt8 := dkwX10_fewest_0 ++ dktX10_fewest_1
theorem dksX10_fewest_0 : cX10_fewest.data.toList.drop 0 = dktX10_fewest_0 := by decide +kernel
theorem dksX10_fewest_1 : cX10_fewest.data.toList.drop 24 = dktX10_fewest_1 := dk_seg dksX10_fewest_0 24 rfl rfl
theorem dksX10_fewest_2 : cX10_fewest.data.toList.drop 48 = dktX10_fewest_2 := dk_seg dksX10_fewest_1 24 rfl rfl
theorem dX10_fewest_0 : decode cX10_fewest 0 = .ok (.iload_n 1, 1) := dk_27 (dk_at dksX10_fewest_0 0 rfl rfl)
theorem dX10_fewest_1 : decode cX10_fewest 1 = .ok (.invokestatic 412, 3) := dk_184 1 156 (dk_at dksX10_fewest_0 1 rfl rfl)
theorem dX10_fewest_4 : decode cX10_fewest 4 = .ok (.ifCond .eq 8, 3) := dk_153 0 8 (dk_at dksX10_fewest_0 4 rfl rfl)
theorem dX10_fewest_7 : decode cX10_fewest 7 = .ok (.iload_n 2, 1) := dk_28 (dk_at dksX10_fewest_0 7 rfl rfl)
theorem dX10_fewest_8 : decode cX10_fewest 8 = .ok (.iconst (-1), 1) := dk_2 (dk_at dksX10_fewest_0 8 rfl rfl)
theorem dX10_fewest_9 : decode cX10_fewest 9 = .ok (.if_icmp .ge 5, 3) := dk_162 0 5 (dk_at dksX10_fewest_0 9 rfl rfl)
theorem dX10_fewest_12 : decode cX10_fewest 12 = .ok (.iconst (-1), 1) := dk_2 (dk_at dksX10_fewest_0 12 rfl rfl)
theorem dX10_fewest_13 : decode cX10_fewest 13 = .ok (.ireturn, 1) := dk_172 (dk_at dksX10_fewest_0 13 rfl rfl)
theorem dX10_fewest_14 : decode cX10_fewest 14 = .ok (.aload_n 0, 1) := dk_42 (dk_at dksX10_fewest_0 14 rfl rfl)
theorem dX10_fewest_15 : decode cX10_fewest 15 = .ok (.invokevirtual 332, 3) := dk_182 1 76 (dk_at dksX10_fewest_0 15 rfl rfl)
theorem dX10_fewest_18 : decode cX10_fewest 18 = .ok (.aload_n 0, 1) := dk_42 (dk_at dksX10_fewest_0 18 rfl rfl)
theorem dX10_fewest_19 : decode cX10_fewest 19 = .ok (.invokevirtual 442, 3) := dk_182 1 186 (dk_at dksX10_fewest_0 19 rfl rfl)
theorem dX10_fewest_22 : decode cX10_fewest 22 = .ok (.aload_n 0, 1) := dk_42 (dk_at dksX10_fewest_0 22 rfl rfl)
theorem dX10_fewest_23 : decode cX10_fewest 23 = .ok (.iload_n 1, 1) := dk_27 (dk_at dksX10_fewest_0 23 rfl rfl)
theorem dX10_fewest_24 : decode cX10_fewest 24 = .ok (.invokevirtual 455, 3) := dk_182 1 199 (dk_at dksX10_fewest_1 0 rfl rfl)
theorem dX10_fewest_27 : decode cX10_fewest 27 = .ok (.istore_n 3, 1) := dk_62 (dk_at dksX10_fewest_1 3 rfl rfl)
theorem dX10_fewest_28 : decode cX10_fewest 28 = .ok (.iload_n 3, 1) := dk_29 (dk_at dksX10_fewest_1 4 rfl rfl)
theorem dX10_fewest_29 : decode cX10_fewest 29 = .ok (.ifCond .lt 8, 3) := dk_155 0 8 (dk_at dksX10_fewest_1 5 rfl rfl)
theorem dX10_fewest_32 : decode cX10_fewest 32 = .ok (.iload_n 2, 1) := dk_28 (dk_at dksX10_fewest_1 8 rfl rfl)
theorem dX10_fewest_33 : decode cX10_fewest 33 = .ok (.iconst (-1), 1) := dk_2 (dk_at dksX10_fewest_1 9 rfl rfl)
theorem dX10_fewest_34 : decode cX10_fewest 34 = .ok (.if_icmp .ne 5, 3) := dk_160 0 5 (dk_at dksX10_fewest_1 10 rfl rfl)
theorem dX10_fewest_37 : decode cX10_fewest 37 = .ok (.iload_n 3, 1) := dk_29 (dk_at dksX10_fewest_1 13 rfl rfl)
theorem dX10_fewest_38 : decode cX10_fewest 38 = .ok (.ireturn, 1) := dk_172 (dk_at dksX10_fewest_1 14 rfl rfl)
theorem dX10_fewest_39 : decode cX10_fewest 39 = .ok (.iload_n 2, 1) := dk_28 (dk_at dksX10_fewest_1 15 rfl rfl)
theorem dX10_fewest_40 : decode cX10_fewest 40 = .ok (.iload_n 3, 1) := dk_29 (dk_at dksX10_fewest_1 16 rfl rfl)
theorem dX10_fewest_41 : decode cX10_fewest 41 = .ok (.if_icmp .ge 12, 3) := dk_162 0 12 (dk_at dksX10_fewest_1 17 rfl rfl)
theorem dX10_fewest_44 : decode cX10_fewest 44 = .ok (.aload_n 0, 1) := dk_42 (dk_at dksX10_fewest_1 20 rfl rfl)
theorem dX10_fewest_45 : decode cX10_fewest 45 = .ok (.getfield 140, 3) := dk_180 0 140 (dk_at dksX10_fewest_1 21 rfl rfl)
theorem dX10_fewest_48 : decode cX10_fewest 48 = .ok (.iload_n 2, 1) := dk_28 (dk_at dksX10_fewest_2 0 rfl rfl)
theorem dX10_fewest_49 : decode cX10_fewest 49 = .ok (.iaload, 1) := dk_46 (dk_at dksX10_fewest_2 1 rfl rfl)
theorem dX10_fewest_50 : decode cX10_fewest 50 = .ok (.goto 4, 3) := dk_167 0 4 (dk_at dksX10_fewest_2 2 rfl rfl)
theorem dX10_fewest_53 : decode cX10_fewest 53 = .ok (.iconst (-1), 1) := dk_2 (dk_at dksX10_fewest_2 5 rfl rfl)
theorem dX10_fewest_54 : decode cX10_fewest 54 = .ok (.ireturn, 1) := dk_172 (dk_at dksX10_fewest_2 6 rfl rfl)
def dkwX10_fewestOf_3 : List UInt8 := [28, 172]
abbrev dktX10_fewestOf_3 : List UInt8 := dkwX10_fewestOf_3 ++ []
def dkwX10_fewestOf_2 : List UInt8 := [162, 0, 21, 42, 180, 0, 140, 29, 42, 180, 0, 137, 29, 46, 79, 132, 3, 1, 167, 255, 236, 167, 255, 196]
abbrev dktX10_fewestOf_2 : List UInt8 := dkwX10_fewestOf_2 ++ dktX10_fewestOf_3
def dkwX10_fewestOf_1 : List UInt8 := [162, 255, 240, 42, 182, 1, 193, 27, 162, 0, 6, 167, 255, 229, 42, 180, 1, 177, 61, 3, 62, 29, 28]
abbrev dktX10_fewestOf_1 : List UInt8 := dkwX10_fewestOf_1 ++ dktX10_fewestOf_2
def dkwX10_fewestOf_0 : List UInt8 := [16, 254, 61, 42, 3, 181, 1, 177, 42, 182, 1, 189, 153, 0, 59, 28, 155, 0, 11, 42, 180, 1, 177, 28]
abbrev dktX10_fewestOf_0 : List UInt8 := dkwX10_fewestOf_0 ++ dktX10_fewestOf_1
theorem dksX10_fewestOf_0 : cX10_fewestOf.data.toList.drop 0 = dktX10_fewestOf_0 := by decide +kernel
theorem dksX10_fewestOf_1 : cX10_fewestOf.data.toList.drop 24 = dktX10_fewestOf_1 := dk_seg dksX10_fewestOf_0 24 rfl rfl
theorem dksX10_fewestOf_2 : cX10_fewestOf.data.toList.drop 47 = dktX10_fewestOf_2 := dk_seg dksX10_fewestOf_1 23 rfl rfl
theorem dksX10_fewestOf_3 : cX10_fewestOf.data.toList.drop 71 = dktX10_fewestOf_3 := dk_seg dksX10_fewestOf_2 24 rfl rfl
theorem dX10_fewestOf_0 : decode cX10_fewestOf 0 = .ok (.bipush (-2), 2) := dk_16 254 (dk_at dksX10_fewestOf_0 0 rfl rfl)
theorem dX10_fewestOf_2 : decode cX10_fewestOf 2 = .ok (.istore_n 2, 1) := dk_61 (dk_at dksX10_fewestOf_0 2 rfl rfl)
theorem dX10_fewestOf_3 : decode cX10_fewestOf 3 = .ok (.aload_n 0, 1) := dk_42 (dk_at dksX10_fewestOf_0 3 rfl rfl)
theorem dX10_fewestOf_4 : decode cX10_fewestOf 4 = .ok (.iconst 0, 1) := dk_3 (dk_at dksX10_fewestOf_0 4 rfl rfl)
theorem dX10_fewestOf_5 : decode cX10_fewestOf 5 = .ok (.putfield 433, 3) := dk_181 1 177 (dk_at dksX10_fewestOf_0 5 rfl rfl)
theorem dX10_fewestOf_8 : decode cX10_fewestOf 8 = .ok (.aload_n 0, 1) := dk_42 (dk_at dksX10_fewestOf_0 8 rfl rfl)
theorem dX10_fewestOf_9 : decode cX10_fewestOf 9 = .ok (.invokevirtual 445, 3) := dk_182 1 189 (dk_at dksX10_fewestOf_0 9 rfl rfl)
theorem dX10_fewestOf_12 : decode cX10_fewestOf 12 = .ok (.ifCond .eq 59, 3) := dk_153 0 59 (dk_at dksX10_fewestOf_0 12 rfl rfl)
theorem dX10_fewestOf_15 : decode cX10_fewestOf 15 = .ok (.iload_n 2, 1) := dk_28 (dk_at dksX10_fewestOf_0 15 rfl rfl)
theorem dX10_fewestOf_16 : decode cX10_fewestOf 16 = .ok (.ifCond .lt 11, 3) := dk_155 0 11 (dk_at dksX10_fewestOf_0 16 rfl rfl)
theorem dX10_fewestOf_19 : decode cX10_fewestOf 19 = .ok (.aload_n 0, 1) := dk_42 (dk_at dksX10_fewestOf_0 19 rfl rfl)
theorem dX10_fewestOf_20 : decode cX10_fewestOf 20 = .ok (.getfield 433, 3) := dk_180 1 177 (dk_at dksX10_fewestOf_0 20 rfl rfl)
theorem dX10_fewestOf_23 : decode cX10_fewestOf 23 = .ok (.iload_n 2, 1) := dk_28 (dk_at dksX10_fewestOf_0 23 rfl rfl)
theorem dX10_fewestOf_24 : decode cX10_fewestOf 24 = .ok (.if_icmp .ge (-16), 3) := dk_162 255 240 (dk_at dksX10_fewestOf_1 0 rfl rfl)
theorem dX10_fewestOf_27 : decode cX10_fewestOf 27 = .ok (.aload_n 0, 1) := dk_42 (dk_at dksX10_fewestOf_1 3 rfl rfl)
theorem dX10_fewestOf_28 : decode cX10_fewestOf 28 = .ok (.invokevirtual 449, 3) := dk_182 1 193 (dk_at dksX10_fewestOf_1 4 rfl rfl)
theorem dX10_fewestOf_31 : decode cX10_fewestOf 31 = .ok (.iload_n 1, 1) := dk_27 (dk_at dksX10_fewestOf_1 7 rfl rfl)
theorem dX10_fewestOf_32 : decode cX10_fewestOf 32 = .ok (.if_icmp .ge 6, 3) := dk_162 0 6 (dk_at dksX10_fewestOf_1 8 rfl rfl)
theorem dX10_fewestOf_35 : decode cX10_fewestOf 35 = .ok (.goto (-27), 3) := dk_167 255 229 (dk_at dksX10_fewestOf_1 11 rfl rfl)
theorem dX10_fewestOf_38 : decode cX10_fewestOf 38 = .ok (.aload_n 0, 1) := dk_42 (dk_at dksX10_fewestOf_1 14 rfl rfl)
theorem dX10_fewestOf_39 : decode cX10_fewestOf 39 = .ok (.getfield 433, 3) := dk_180 1 177 (dk_at dksX10_fewestOf_1 15 rfl rfl)
theorem dX10_fewestOf_42 : decode cX10_fewestOf 42 = .ok (.istore_n 2, 1) := dk_61 (dk_at dksX10_fewestOf_1 18 rfl rfl)
theorem dX10_fewestOf_43 : decode cX10_fewestOf 43 = .ok (.iconst 0, 1) := dk_3 (dk_at dksX10_fewestOf_1 19 rfl rfl)
theorem dX10_fewestOf_44 : decode cX10_fewestOf 44 = .ok (.istore_n 3, 1) := dk_62 (dk_at dksX10_fewestOf_1 20 rfl rfl)
theorem dX10_fewestOf_45 : decode cX10_fewestOf 45 = .ok (.iload_n 3, 1) := dk_29 (dk_at dksX10_fewestOf_1 21 rfl rfl)
theorem dX10_fewestOf_46 : decode cX10_fewestOf 46 = .ok (.iload_n 2, 1) := dk_28 (dk_at dksX10_fewestOf_1 22 rfl rfl)
theorem dX10_fewestOf_47 : decode cX10_fewestOf 47 = .ok (.if_icmp .ge 21, 3) := dk_162 0 21 (dk_at dksX10_fewestOf_2 0 rfl rfl)
theorem dX10_fewestOf_50 : decode cX10_fewestOf 50 = .ok (.aload_n 0, 1) := dk_42 (dk_at dksX10_fewestOf_2 3 rfl rfl)
theorem dX10_fewestOf_51 : decode cX10_fewestOf 51 = .ok (.getfield 140, 3) := dk_180 0 140 (dk_at dksX10_fewestOf_2 4 rfl rfl)
theorem dX10_fewestOf_54 : decode cX10_fewestOf 54 = .ok (.iload_n 3, 1) := dk_29 (dk_at dksX10_fewestOf_2 7 rfl rfl)
theorem dX10_fewestOf_55 : decode cX10_fewestOf 55 = .ok (.aload_n 0, 1) := dk_42 (dk_at dksX10_fewestOf_2 8 rfl rfl)
theorem dX10_fewestOf_56 : decode cX10_fewestOf 56 = .ok (.getfield 137, 3) := dk_180 0 137 (dk_at dksX10_fewestOf_2 9 rfl rfl)
theorem dX10_fewestOf_59 : decode cX10_fewestOf 59 = .ok (.iload_n 3, 1) := dk_29 (dk_at dksX10_fewestOf_2 12 rfl rfl)
theorem dX10_fewestOf_60 : decode cX10_fewestOf 60 = .ok (.iaload, 1) := dk_46 (dk_at dksX10_fewestOf_2 13 rfl rfl)
theorem dX10_fewestOf_61 : decode cX10_fewestOf 61 = .ok (.iastore, 1) := dk_79 (dk_at dksX10_fewestOf_2 14 rfl rfl)
theorem dX10_fewestOf_62 : decode cX10_fewestOf 62 = .ok (.iinc 3 1, 3) := dk_132 3 1 (dk_at dksX10_fewestOf_2 15 rfl rfl)
theorem dX10_fewestOf_65 : decode cX10_fewestOf 65 = .ok (.goto (-20), 3) := dk_167 255 236 (dk_at dksX10_fewestOf_2 18 rfl rfl)
theorem dX10_fewestOf_68 : decode cX10_fewestOf 68 = .ok (.goto (-60), 3) := dk_167 255 196 (dk_at dksX10_fewestOf_2 21 rfl rfl)
theorem dX10_fewestOf_71 : decode cX10_fewestOf 71 = .ok (.iload_n 2, 1) := dk_28 (dk_at dksX10_fewestOf_3 0 rfl rfl)
theorem dX10_fewestOf_72 : decode cX10_fewestOf 72 = .ok (.ireturn, 1) := dk_172 (dk_at dksX10_fewestOf_3 1 rfl rfl)
def dkwX10_needed_4 : List UInt8 := [167, 0, 4, 28, 172]
abbrev dktX10_needed_4 : List UInt8 := dkwX10_needed_4 ++ []
def dkwX10_needed_3 : List UInt8 := [167, 255, 232, 28, 156, 0, 7, 29, 167, 0, 6, 28, 29, 126, 61, 167, 255, 194, 28, 156, 0, 8, 16, 254]
abbrev dktX10_needed_3 : List UInt8 := dkwX10_needed_3 ++ dktX10_needed_4
def dkwX10_needed_2 : List UInt8 := [21, 4, 42, 180, 1, 177, 162, 0, 21, 29, 4, 42, 180, 0, 137, 21, 4, 46, 120, 128, 62, 132, 4, 1]
abbrev dktX10_needed_2 : List UInt8 := dkwX10_needed_2 ++ dktX10_needed_3
def dkwX10_needed_1 : List UInt8 := [42, 182, 1, 189, 153, 0, 61, 42, 182, 1, 193, 27, 162, 0, 6, 167, 255, 241, 3, 62, 3, 54, 4]
abbrev dktX10_needed_1 : List UInt8 := dkwX10_needed_1 ++ dktX10_needed_2
def dkwX10_needed_0 : List UInt8 := [27, 184, 1, 156, 154, 0, 5, 2, 172, 42, 182, 1, 76, 42, 182, 1, 186, 2, 61, 42, 3, 181, 1, 177]
abbrev dktX10_needed_0 : List UInt8 := dkwX10_needed_0 ++ dktX10_needed_1
theorem dksX10_needed_0 : cX10_needed.data.toList.drop 0 = dktX10_needed_0 := by decide +kernel
theorem dksX10_needed_1 : cX10_needed.data.toList.drop 24 = dktX10_needed_1 := dk_seg dksX10_needed_0 24 rfl rfl
theorem dksX10_needed_2 : cX10_needed.data.toList.drop 47 = dktX10_needed_2 := dk_seg dksX10_needed_1 23 rfl rfl
theorem dksX10_needed_3 : cX10_needed.data.toList.drop 71 = dktX10_needed_3 := dk_seg dksX10_needed_2 24 rfl rfl
theorem dksX10_needed_4 : cX10_needed.data.toList.drop 95 = dktX10_needed_4 := dk_seg dksX10_needed_3 24 rfl rfl
theorem dX10_needed_0 : decode cX10_needed 0 = .ok (.iload_n 1, 1) := dk_27 (dk_at dksX10_needed_0 0 rfl rfl)
theorem dX10_needed_1 : decode cX10_needed 1 = .ok (.invokestatic 412, 3) := dk_184 1 156 (dk_at dksX10_needed_0 1 rfl rfl)
theorem dX10_needed_4 : decode cX10_needed 4 = .ok (.ifCond .ne 5, 3) := dk_154 0 5 (dk_at dksX10_needed_0 4 rfl rfl)
theorem dX10_needed_7 : decode cX10_needed 7 = .ok (.iconst (-1), 1) := dk_2 (dk_at dksX10_needed_0 7 rfl rfl)
theorem dX10_needed_8 : decode cX10_needed 8 = .ok (.ireturn, 1) := dk_172 (dk_at dksX10_needed_0 8 rfl rfl)
theorem dX10_needed_9 : decode cX10_needed 9 = .ok (.aload_n 0, 1) := dk_42 (dk_at dksX10_needed_0 9 rfl rfl)
theorem dX10_needed_10 : decode cX10_needed 10 = .ok (.invokevirtual 332, 3) := dk_182 1 76 (dk_at dksX10_needed_0 10 rfl rfl)
theorem dX10_needed_13 : decode cX10_needed 13 = .ok (.aload_n 0, 1) := dk_42 (dk_at dksX10_needed_0 13 rfl rfl)
theorem dX10_needed_14 : decode cX10_needed 14 = .ok (.invokevirtual 442, 3) := dk_182 1 186 (dk_at dksX10_needed_0 14 rfl rfl)
theorem dX10_needed_17 : decode cX10_needed 17 = .ok (.iconst (-1), 1) := dk_2 (dk_at dksX10_needed_0 17 rfl rfl)
theorem dX10_needed_18 : decode cX10_needed 18 = .ok (.istore_n 2, 1) := dk_61 (dk_at dksX10_needed_0 18 rfl rfl)
theorem dX10_needed_19 : decode cX10_needed 19 = .ok (.aload_n 0, 1) := dk_42 (dk_at dksX10_needed_0 19 rfl rfl)
theorem dX10_needed_20 : decode cX10_needed 20 = .ok (.iconst 0, 1) := dk_3 (dk_at dksX10_needed_0 20 rfl rfl)
theorem dX10_needed_21 : decode cX10_needed 21 = .ok (.putfield 433, 3) := dk_181 1 177 (dk_at dksX10_needed_0 21 rfl rfl)
theorem dX10_needed_24 : decode cX10_needed 24 = .ok (.aload_n 0, 1) := dk_42 (dk_at dksX10_needed_1 0 rfl rfl)
theorem dX10_needed_25 : decode cX10_needed 25 = .ok (.invokevirtual 445, 3) := dk_182 1 189 (dk_at dksX10_needed_1 1 rfl rfl)
theorem dX10_needed_28 : decode cX10_needed 28 = .ok (.ifCond .eq 61, 3) := dk_153 0 61 (dk_at dksX10_needed_1 4 rfl rfl)
theorem dX10_needed_31 : decode cX10_needed 31 = .ok (.aload_n 0, 1) := dk_42 (dk_at dksX10_needed_1 7 rfl rfl)
theorem dX10_needed_32 : decode cX10_needed 32 = .ok (.invokevirtual 449, 3) := dk_182 1 193 (dk_at dksX10_needed_1 8 rfl rfl)
theorem dX10_needed_35 : decode cX10_needed 35 = .ok (.iload_n 1, 1) := dk_27 (dk_at dksX10_needed_1 11 rfl rfl)
theorem dX10_needed_36 : decode cX10_needed 36 = .ok (.if_icmp .ge 6, 3) := dk_162 0 6 (dk_at dksX10_needed_1 12 rfl rfl)
theorem dX10_needed_39 : decode cX10_needed 39 = .ok (.goto (-15), 3) := dk_167 255 241 (dk_at dksX10_needed_1 15 rfl rfl)
theorem dX10_needed_42 : decode cX10_needed 42 = .ok (.iconst 0, 1) := dk_3 (dk_at dksX10_needed_1 18 rfl rfl)
theorem dX10_needed_43 : decode cX10_needed 43 = .ok (.istore_n 3, 1) := dk_62 (dk_at dksX10_needed_1 19 rfl rfl)
theorem dX10_needed_44 : decode cX10_needed 44 = .ok (.iconst 0, 1) := dk_3 (dk_at dksX10_needed_1 20 rfl rfl)
theorem dX10_needed_45 : decode cX10_needed 45 = .ok (.istore 4, 2) := dk_54 4 (dk_at dksX10_needed_1 21 rfl rfl)
theorem dX10_needed_47 : decode cX10_needed 47 = .ok (.iload 4, 2) := dk_21 4 (dk_at dksX10_needed_2 0 rfl rfl)
theorem dX10_needed_49 : decode cX10_needed 49 = .ok (.aload_n 0, 1) := dk_42 (dk_at dksX10_needed_2 2 rfl rfl)
theorem dX10_needed_50 : decode cX10_needed 50 = .ok (.getfield 433, 3) := dk_180 1 177 (dk_at dksX10_needed_2 3 rfl rfl)
theorem dX10_needed_53 : decode cX10_needed 53 = .ok (.if_icmp .ge 21, 3) := dk_162 0 21 (dk_at dksX10_needed_2 6 rfl rfl)
theorem dX10_needed_56 : decode cX10_needed 56 = .ok (.iload_n 3, 1) := dk_29 (dk_at dksX10_needed_2 9 rfl rfl)
theorem dX10_needed_57 : decode cX10_needed 57 = .ok (.iconst 1, 1) := dk_4 (dk_at dksX10_needed_2 10 rfl rfl)
theorem dX10_needed_58 : decode cX10_needed 58 = .ok (.aload_n 0, 1) := dk_42 (dk_at dksX10_needed_2 11 rfl rfl)
theorem dX10_needed_59 : decode cX10_needed 59 = .ok (.getfield 137, 3) := dk_180 0 137 (dk_at dksX10_needed_2 12 rfl rfl)
theorem dX10_needed_62 : decode cX10_needed 62 = .ok (.iload 4, 2) := dk_21 4 (dk_at dksX10_needed_2 15 rfl rfl)
theorem dX10_needed_64 : decode cX10_needed 64 = .ok (.iaload, 1) := dk_46 (dk_at dksX10_needed_2 17 rfl rfl)
theorem dX10_needed_65 : decode cX10_needed 65 = .ok (.ishl, 1) := dk_120 (dk_at dksX10_needed_2 18 rfl rfl)
theorem dX10_needed_66 : decode cX10_needed 66 = .ok (.ior, 1) := dk_128 (dk_at dksX10_needed_2 19 rfl rfl)
theorem dX10_needed_67 : decode cX10_needed 67 = .ok (.istore_n 3, 1) := dk_62 (dk_at dksX10_needed_2 20 rfl rfl)
theorem dX10_needed_68 : decode cX10_needed 68 = .ok (.iinc 4 1, 3) := dk_132 4 1 (dk_at dksX10_needed_2 21 rfl rfl)
theorem dX10_needed_71 : decode cX10_needed 71 = .ok (.goto (-24), 3) := dk_167 255 232 (dk_at dksX10_needed_3 0 rfl rfl)
theorem dX10_needed_74 : decode cX10_needed 74 = .ok (.iload_n 2, 1) := dk_28 (dk_at dksX10_needed_3 3 rfl rfl)
theorem dX10_needed_75 : decode cX10_needed 75 = .ok (.ifCond .ge 7, 3) := dk_156 0 7 (dk_at dksX10_needed_3 4 rfl rfl)
theorem dX10_needed_78 : decode cX10_needed 78 = .ok (.iload_n 3, 1) := dk_29 (dk_at dksX10_needed_3 7 rfl rfl)
theorem dX10_needed_79 : decode cX10_needed 79 = .ok (.goto 6, 3) := dk_167 0 6 (dk_at dksX10_needed_3 8 rfl rfl)
theorem dX10_needed_82 : decode cX10_needed 82 = .ok (.iload_n 2, 1) := dk_28 (dk_at dksX10_needed_3 11 rfl rfl)
theorem dX10_needed_83 : decode cX10_needed 83 = .ok (.iload_n 3, 1) := dk_29 (dk_at dksX10_needed_3 12 rfl rfl)
theorem dX10_needed_84 : decode cX10_needed 84 = .ok (.iand, 1) := dk_126 (dk_at dksX10_needed_3 13 rfl rfl)
theorem dX10_needed_85 : decode cX10_needed 85 = .ok (.istore_n 2, 1) := dk_61 (dk_at dksX10_needed_3 14 rfl rfl)
theorem dX10_needed_86 : decode cX10_needed 86 = .ok (.goto (-62), 3) := dk_167 255 194 (dk_at dksX10_needed_3 15 rfl rfl)
theorem dX10_needed_89 : decode cX10_needed 89 = .ok (.iload_n 2, 1) := dk_28 (dk_at dksX10_needed_3 18 rfl rfl)
theorem dX10_needed_90 : decode cX10_needed 90 = .ok (.ifCond .ge 8, 3) := dk_156 0 8 (dk_at dksX10_needed_3 19 rfl rfl)
theorem dX10_needed_93 : decode cX10_needed 93 = .ok (.bipush (-2), 2) := dk_16 254 (dk_at dksX10_needed_3 22 rfl rfl)
theorem dX10_needed_95 : decode cX10_needed 95 = .ok (.goto 4, 3) := dk_167 0 4 (dk_at dksX10_needed_4 0 rfl rfl)
theorem dX10_needed_98 : decode cX10_needed 98 = .ok (.iload_n 2, 1) := dk_28 (dk_at dksX10_needed_4 3 rfl rfl)
theorem dX10_needed_99 : decode cX10_needed 99 = .ok (.ireturn, 1) := dk_172 (dk_at dksX10_needed_4 4 rfl rfl)
def dkwX10_soon_2 : List UInt8 := [16, 254, 172]
abbrev dktX10_soon_2 : List UInt8 := dkwX10_soon_2 ++ []
def dkwX10_soon_1 : List UInt8 := [182, 1, 186, 42, 182, 1, 196, 27, 161, 0, 5, 28, 172, 42, 182, 1, 134, 132, 2, 1, 167, 255, 229]
abbrev dktX10_soon_1 : List UInt8 := dkwX10_soon_1 ++ dktX10_soon_2
def dkwX10_soon_0 : List UInt8 := [27, 184, 1, 156, 154, 0, 5, 2, 172, 42, 182, 1, 174, 3, 61, 28, 16, 60, 163, 0, 27, 42]
abbrev dktX10_soon_0 : List UInt8 := dkwX10_soon_0 ++ dktX10_soon_1
theorem dksX10_soon_0 : cX10_soon.data.toList.drop 0 = dktX10_soon_0 := by decide +kernel
theorem dksX10_soon_1 : cX10_soon.data.toList.drop 22 = dktX10_soon_1 := dk_seg dksX10_soon_0 22 rfl rfl
theorem dksX10_soon_2 : cX10_soon.data.toList.drop 45 = dktX10_soon_2 := dk_seg dksX10_soon_1 23 rfl rfl
theorem dX10_soon_0 : decode cX10_soon 0 = .ok (.iload_n 1, 1) := dk_27 (dk_at dksX10_soon_0 0 rfl rfl)
theorem dX10_soon_1 : decode cX10_soon 1 = .ok (.invokestatic 412, 3) := dk_184 1 156 (dk_at dksX10_soon_0 1 rfl rfl)
theorem dX10_soon_4 : decode cX10_soon 4 = .ok (.ifCond .ne 5, 3) := dk_154 0 5 (dk_at dksX10_soon_0 4 rfl rfl)
theorem dX10_soon_7 : decode cX10_soon 7 = .ok (.iconst (-1), 1) := dk_2 (dk_at dksX10_soon_0 7 rfl rfl)
theorem dX10_soon_8 : decode cX10_soon 8 = .ok (.ireturn, 1) := dk_172 (dk_at dksX10_soon_0 8 rfl rfl)
theorem dX10_soon_9 : decode cX10_soon 9 = .ok (.aload_n 0, 1) := dk_42 (dk_at dksX10_soon_0 9 rfl rfl)
theorem dX10_soon_10 : decode cX10_soon 10 = .ok (.invokevirtual 430, 3) := dk_182 1 174 (dk_at dksX10_soon_0 10 rfl rfl)
theorem dX10_soon_13 : decode cX10_soon 13 = .ok (.iconst 0, 1) := dk_3 (dk_at dksX10_soon_0 13 rfl rfl)
theorem dX10_soon_14 : decode cX10_soon 14 = .ok (.istore_n 2, 1) := dk_61 (dk_at dksX10_soon_0 14 rfl rfl)
theorem dX10_soon_15 : decode cX10_soon 15 = .ok (.iload_n 2, 1) := dk_28 (dk_at dksX10_soon_0 15 rfl rfl)
theorem dX10_soon_16 : decode cX10_soon 16 = .ok (.bipush 60, 2) := dk_16 60 (dk_at dksX10_soon_0 16 rfl rfl)
theorem dX10_soon_18 : decode cX10_soon 18 = .ok (.if_icmp .gt 27, 3) := dk_163 0 27 (dk_at dksX10_soon_0 18 rfl rfl)
theorem dX10_soon_21 : decode cX10_soon 21 = .ok (.aload_n 0, 1) := dk_42 (dk_at dksX10_soon_0 21 rfl rfl)
theorem dX10_soon_22 : decode cX10_soon 22 = .ok (.invokevirtual 442, 3) := dk_182 1 186 (dk_at dksX10_soon_1 0 rfl rfl)
theorem dX10_soon_25 : decode cX10_soon 25 = .ok (.aload_n 0, 1) := dk_42 (dk_at dksX10_soon_1 3 rfl rfl)
theorem dX10_soon_26 : decode cX10_soon 26 = .ok (.invokevirtual 452, 3) := dk_182 1 196 (dk_at dksX10_soon_1 4 rfl rfl)
theorem dX10_soon_29 : decode cX10_soon 29 = .ok (.iload_n 1, 1) := dk_27 (dk_at dksX10_soon_1 7 rfl rfl)
theorem dX10_soon_30 : decode cX10_soon 30 = .ok (.if_icmp .lt 5, 3) := dk_161 0 5 (dk_at dksX10_soon_1 8 rfl rfl)
theorem dX10_soon_33 : decode cX10_soon 33 = .ok (.iload_n 2, 1) := dk_28 (dk_at dksX10_soon_1 11 rfl rfl)
theorem dX10_soon_34 : decode cX10_soon 34 = .ok (.ireturn, 1) := dk_172 (dk_at dksX10_soon_1 12 rfl rfl)
theorem dX10_soon_35 : decode cX10_soon 35 = .ok (.aload_n 0, 1) := dk_42 (dk_at dksX10_soon_1 13 rfl rfl)
theorem dX10_soon_36 : decode cX10_soon 36 = .ok (.invokevirtual 390, 3) := dk_182 1 134 (dk_at dksX10_soon_1 14 rfl rfl)
theorem dX10_soon_39 : decode cX10_soon 39 = .ok (.iinc 2 1, 3) := dk_132 2 1 (dk_at dksX10_soon_1 17 rfl rfl)
theorem dX10_soon_42 : decode cX10_soon 42 = .ok (.goto (-27), 3) := dk_167 255 229 (dk_at dksX10_soon_1 20 rfl rfl)
theorem dX10_soon_45 : decode cX10_soon 45 = .ok (.bipush (-2), 2) := dk_16 254 (dk_at dksX10_soon_2 0 rfl rfl)
theorem dX10_soon_47 : decode cX10_soon 47 = .ok (.ireturn, 1) := dk_172 (dk_at dksX10_soon_2 2 rfl rfl)
def dkwX10_peace_7 : List UInt8 := [167, 0, 5, 21, 4, 172, 132, 4, 1, 167, 255, 198, 132, 3, 1, 167, 255, 181, 16, 254, 172]
abbrev dktX10_peace_7 : List UInt8 := dkwX10_peace_7 ++ []
def dkwX10_peace_6 : List UInt8 := [21, 4, 182, 1, 205, 153, 0, 23, 28, 154, 0, 7, 5, 167, 0, 14, 28, 4, 160, 0, 7, 29]
abbrev dktX10_peace_6 : List UInt8 := dkwX10_peace_6 ++ dktX10_peace_7
def dkwX10_peace_5 : List UInt8 := [162, 0, 57, 42, 29, 182, 1, 208, 153, 0, 49, 42, 21, 4, 182, 1, 208, 153, 0, 34, 42, 27, 29]
abbrev dktX10_peace_5 : List UInt8 := dkwX10_peace_5 ++ dktX10_peace_6
def dkwX10_peace_4 : List UInt8 := [132, 3, 1, 167, 255, 210, 3, 62, 29, 16, 60, 162, 0, 75, 29, 4, 96, 54, 4, 21, 4, 16, 60]
abbrev dktX10_peace_4 : List UInt8 := dkwX10_peace_4 ++ dktX10_peace_5
def dkwX10_peace_3 : List UInt8 := [153, 0, 22, 28, 154, 0, 7, 4, 167, 0, 13, 28, 4, 160, 0, 7, 29, 167, 0, 4, 2, 172]
abbrev dktX10_peace_3 : List UInt8 := dkwX10_peace_3 ++ dktX10_peace_4
def dkwX10_peace_2 : List UInt8 := [62, 29, 16, 60, 162, 0, 46, 42, 29, 182, 1, 208, 153, 0, 32, 42, 27, 29, 2, 182, 1, 205]
abbrev dktX10_peace_2 : List UInt8 := dkwX10_peace_2 ++ dktX10_peace_3
def dkwX10_peace_1 : List UInt8 := [182, 1, 186, 42, 27, 2, 2, 182, 1, 205, 153, 0, 13, 28, 154, 0, 7, 3, 167, 0, 4, 2, 172, 3]
abbrev dktX10_peace_1 : List UInt8 := dkwX10_peace_1 ++ dktX10_peace_2
def dkwX10_peace_0 : List UInt8 := [27, 184, 1, 156, 153, 0, 12, 28, 3, 5, 184, 1, 66, 154, 0, 5, 2, 172, 42, 182, 1, 76, 42]
abbrev dktX10_peace_0 : List UInt8 := dkwX10_peace_0 ++ dktX10_peace_1
theorem dksX10_peace_0 : cX10_peace.data.toList.drop 0 = dktX10_peace_0 := by decide +kernel
theorem dksX10_peace_1 : cX10_peace.data.toList.drop 23 = dktX10_peace_1 := dk_seg dksX10_peace_0 23 rfl rfl
theorem dksX10_peace_2 : cX10_peace.data.toList.drop 47 = dktX10_peace_2 := dk_seg dksX10_peace_1 24 rfl rfl
theorem dksX10_peace_3 : cX10_peace.data.toList.drop 69 = dktX10_peace_3 := dk_seg dksX10_peace_2 22 rfl rfl
theorem dksX10_peace_4 : cX10_peace.data.toList.drop 91 = dktX10_peace_4 := dk_seg dksX10_peace_3 22 rfl rfl
theorem dksX10_peace_5 : cX10_peace.data.toList.drop 114 = dktX10_peace_5 := dk_seg dksX10_peace_4 23 rfl rfl
theorem dksX10_peace_6 : cX10_peace.data.toList.drop 137 = dktX10_peace_6 := dk_seg dksX10_peace_5 23 rfl rfl
theorem dksX10_peace_7 : cX10_peace.data.toList.drop 159 = dktX10_peace_7 := dk_seg dksX10_peace_6 22 rfl rfl
theorem dX10_peace_0 : decode cX10_peace 0 = .ok (.iload_n 1, 1) := dk_27 (dk_at dksX10_peace_0 0 rfl rfl)
theorem dX10_peace_1 : decode cX10_peace 1 = .ok (.invokestatic 412, 3) := dk_184 1 156 (dk_at dksX10_peace_0 1 rfl rfl)
theorem dX10_peace_4 : decode cX10_peace 4 = .ok (.ifCond .eq 12, 3) := dk_153 0 12 (dk_at dksX10_peace_0 4 rfl rfl)
theorem dX10_peace_7 : decode cX10_peace 7 = .ok (.iload_n 2, 1) := dk_28 (dk_at dksX10_peace_0 7 rfl rfl)
theorem dX10_peace_8 : decode cX10_peace 8 = .ok (.iconst 0, 1) := dk_3 (dk_at dksX10_peace_0 8 rfl rfl)
theorem dX10_peace_9 : decode cX10_peace 9 = .ok (.iconst 2, 1) := dk_5 (dk_at dksX10_peace_0 9 rfl rfl)
theorem dX10_peace_10 : decode cX10_peace 10 = .ok (.invokestatic 322, 3) := dk_184 1 66 (dk_at dksX10_peace_0 10 rfl rfl)
theorem dX10_peace_13 : decode cX10_peace 13 = .ok (.ifCond .ne 5, 3) := dk_154 0 5 (dk_at dksX10_peace_0 13 rfl rfl)
theorem dX10_peace_16 : decode cX10_peace 16 = .ok (.iconst (-1), 1) := dk_2 (dk_at dksX10_peace_0 16 rfl rfl)
theorem dX10_peace_17 : decode cX10_peace 17 = .ok (.ireturn, 1) := dk_172 (dk_at dksX10_peace_0 17 rfl rfl)
theorem dX10_peace_18 : decode cX10_peace 18 = .ok (.aload_n 0, 1) := dk_42 (dk_at dksX10_peace_0 18 rfl rfl)
theorem dX10_peace_19 : decode cX10_peace 19 = .ok (.invokevirtual 332, 3) := dk_182 1 76 (dk_at dksX10_peace_0 19 rfl rfl)
theorem dX10_peace_22 : decode cX10_peace 22 = .ok (.aload_n 0, 1) := dk_42 (dk_at dksX10_peace_0 22 rfl rfl)
theorem dX10_peace_23 : decode cX10_peace 23 = .ok (.invokevirtual 442, 3) := dk_182 1 186 (dk_at dksX10_peace_1 0 rfl rfl)
theorem dX10_peace_26 : decode cX10_peace 26 = .ok (.aload_n 0, 1) := dk_42 (dk_at dksX10_peace_1 3 rfl rfl)
theorem dX10_peace_27 : decode cX10_peace 27 = .ok (.iload_n 1, 1) := dk_27 (dk_at dksX10_peace_1 4 rfl rfl)
theorem dX10_peace_28 : decode cX10_peace 28 = .ok (.iconst (-1), 1) := dk_2 (dk_at dksX10_peace_1 5 rfl rfl)
theorem dX10_peace_29 : decode cX10_peace 29 = .ok (.iconst (-1), 1) := dk_2 (dk_at dksX10_peace_1 6 rfl rfl)
theorem dX10_peace_30 : decode cX10_peace 30 = .ok (.invokevirtual 461, 3) := dk_182 1 205 (dk_at dksX10_peace_1 7 rfl rfl)
theorem dX10_peace_33 : decode cX10_peace 33 = .ok (.ifCond .eq 13, 3) := dk_153 0 13 (dk_at dksX10_peace_1 10 rfl rfl)
theorem dX10_peace_36 : decode cX10_peace 36 = .ok (.iload_n 2, 1) := dk_28 (dk_at dksX10_peace_1 13 rfl rfl)
theorem dX10_peace_37 : decode cX10_peace 37 = .ok (.ifCond .ne 7, 3) := dk_154 0 7 (dk_at dksX10_peace_1 14 rfl rfl)
theorem dX10_peace_40 : decode cX10_peace 40 = .ok (.iconst 0, 1) := dk_3 (dk_at dksX10_peace_1 17 rfl rfl)
theorem dX10_peace_41 : decode cX10_peace 41 = .ok (.goto 4, 3) := dk_167 0 4 (dk_at dksX10_peace_1 18 rfl rfl)
theorem dX10_peace_44 : decode cX10_peace 44 = .ok (.iconst (-1), 1) := dk_2 (dk_at dksX10_peace_1 21 rfl rfl)
theorem dX10_peace_45 : decode cX10_peace 45 = .ok (.ireturn, 1) := dk_172 (dk_at dksX10_peace_1 22 rfl rfl)
theorem dX10_peace_46 : decode cX10_peace 46 = .ok (.iconst 0, 1) := dk_3 (dk_at dksX10_peace_1 23 rfl rfl)
theorem dX10_peace_47 : decode cX10_peace 47 = .ok (.istore_n 3, 1) := dk_62 (dk_at dksX10_peace_2 0 rfl rfl)
theorem dX10_peace_48 : decode cX10_peace 48 = .ok (.iload_n 3, 1) := dk_29 (dk_at dksX10_peace_2 1 rfl rfl)
theorem dX10_peace_49 : decode cX10_peace 49 = .ok (.bipush 60, 2) := dk_16 60 (dk_at dksX10_peace_2 2 rfl rfl)
theorem dX10_peace_51 : decode cX10_peace 51 = .ok (.if_icmp .ge 46, 3) := dk_162 0 46 (dk_at dksX10_peace_2 4 rfl rfl)
theorem dX10_peace_54 : decode cX10_peace 54 = .ok (.aload_n 0, 1) := dk_42 (dk_at dksX10_peace_2 7 rfl rfl)
theorem dX10_peace_55 : decode cX10_peace 55 = .ok (.iload_n 3, 1) := dk_29 (dk_at dksX10_peace_2 8 rfl rfl)
theorem dX10_peace_56 : decode cX10_peace 56 = .ok (.invokevirtual 464, 3) := dk_182 1 208 (dk_at dksX10_peace_2 9 rfl rfl)
theorem dX10_peace_59 : decode cX10_peace 59 = .ok (.ifCond .eq 32, 3) := dk_153 0 32 (dk_at dksX10_peace_2 12 rfl rfl)
theorem dX10_peace_62 : decode cX10_peace 62 = .ok (.aload_n 0, 1) := dk_42 (dk_at dksX10_peace_2 15 rfl rfl)
theorem dX10_peace_63 : decode cX10_peace 63 = .ok (.iload_n 1, 1) := dk_27 (dk_at dksX10_peace_2 16 rfl rfl)
theorem dX10_peace_64 : decode cX10_peace 64 = .ok (.iload_n 3, 1) := dk_29 (dk_at dksX10_peace_2 17 rfl rfl)
theorem dX10_peace_65 : decode cX10_peace 65 = .ok (.iconst (-1), 1) := dk_2 (dk_at dksX10_peace_2 18 rfl rfl)
theorem dX10_peace_66 : decode cX10_peace 66 = .ok (.invokevirtual 461, 3) := dk_182 1 205 (dk_at dksX10_peace_2 19 rfl rfl)
theorem dX10_peace_69 : decode cX10_peace 69 = .ok (.ifCond .eq 22, 3) := dk_153 0 22 (dk_at dksX10_peace_3 0 rfl rfl)
theorem dX10_peace_72 : decode cX10_peace 72 = .ok (.iload_n 2, 1) := dk_28 (dk_at dksX10_peace_3 3 rfl rfl)
theorem dX10_peace_73 : decode cX10_peace 73 = .ok (.ifCond .ne 7, 3) := dk_154 0 7 (dk_at dksX10_peace_3 4 rfl rfl)
theorem dX10_peace_76 : decode cX10_peace 76 = .ok (.iconst 1, 1) := dk_4 (dk_at dksX10_peace_3 7 rfl rfl)
theorem dX10_peace_77 : decode cX10_peace 77 = .ok (.goto 13, 3) := dk_167 0 13 (dk_at dksX10_peace_3 8 rfl rfl)
theorem dX10_peace_80 : decode cX10_peace 80 = .ok (.iload_n 2, 1) := dk_28 (dk_at dksX10_peace_3 11 rfl rfl)
theorem dX10_peace_81 : decode cX10_peace 81 = .ok (.iconst 1, 1) := dk_4 (dk_at dksX10_peace_3 12 rfl rfl)
theorem dX10_peace_82 : decode cX10_peace 82 = .ok (.if_icmp .ne 7, 3) := dk_160 0 7 (dk_at dksX10_peace_3 13 rfl rfl)
theorem dX10_peace_85 : decode cX10_peace 85 = .ok (.iload_n 3, 1) := dk_29 (dk_at dksX10_peace_3 16 rfl rfl)
theorem dX10_peace_86 : decode cX10_peace 86 = .ok (.goto 4, 3) := dk_167 0 4 (dk_at dksX10_peace_3 17 rfl rfl)
theorem dX10_peace_89 : decode cX10_peace 89 = .ok (.iconst (-1), 1) := dk_2 (dk_at dksX10_peace_3 20 rfl rfl)
theorem dX10_peace_90 : decode cX10_peace 90 = .ok (.ireturn, 1) := dk_172 (dk_at dksX10_peace_3 21 rfl rfl)
theorem dX10_peace_91 : decode cX10_peace 91 = .ok (.iinc 3 1, 3) := dk_132 3 1 (dk_at dksX10_peace_4 0 rfl rfl)
theorem dX10_peace_94 : decode cX10_peace 94 = .ok (.goto (-46), 3) := dk_167 255 210 (dk_at dksX10_peace_4 3 rfl rfl)
theorem dX10_peace_97 : decode cX10_peace 97 = .ok (.iconst 0, 1) := dk_3 (dk_at dksX10_peace_4 6 rfl rfl)
theorem dX10_peace_98 : decode cX10_peace 98 = .ok (.istore_n 3, 1) := dk_62 (dk_at dksX10_peace_4 7 rfl rfl)
theorem dX10_peace_99 : decode cX10_peace 99 = .ok (.iload_n 3, 1) := dk_29 (dk_at dksX10_peace_4 8 rfl rfl)
theorem dX10_peace_100 : decode cX10_peace 100 = .ok (.bipush 60, 2) := dk_16 60 (dk_at dksX10_peace_4 9 rfl rfl)
theorem dX10_peace_102 : decode cX10_peace 102 = .ok (.if_icmp .ge 75, 3) := dk_162 0 75 (dk_at dksX10_peace_4 11 rfl rfl)
theorem dX10_peace_105 : decode cX10_peace 105 = .ok (.iload_n 3, 1) := dk_29 (dk_at dksX10_peace_4 14 rfl rfl)
theorem dX10_peace_106 : decode cX10_peace 106 = .ok (.iconst 1, 1) := dk_4 (dk_at dksX10_peace_4 15 rfl rfl)
theorem dX10_peace_107 : decode cX10_peace 107 = .ok (.iadd, 1) := dk_96 (dk_at dksX10_peace_4 16 rfl rfl)
theorem dX10_peace_108 : decode cX10_peace 108 = .ok (.istore 4, 2) := dk_54 4 (dk_at dksX10_peace_4 17 rfl rfl)
theorem dX10_peace_110 : decode cX10_peace 110 = .ok (.iload 4, 2) := dk_21 4 (dk_at dksX10_peace_4 19 rfl rfl)
theorem dX10_peace_112 : decode cX10_peace 112 = .ok (.bipush 60, 2) := dk_16 60 (dk_at dksX10_peace_4 21 rfl rfl)
theorem dX10_peace_114 : decode cX10_peace 114 = .ok (.if_icmp .ge 57, 3) := dk_162 0 57 (dk_at dksX10_peace_5 0 rfl rfl)
theorem dX10_peace_117 : decode cX10_peace 117 = .ok (.aload_n 0, 1) := dk_42 (dk_at dksX10_peace_5 3 rfl rfl)
theorem dX10_peace_118 : decode cX10_peace 118 = .ok (.iload_n 3, 1) := dk_29 (dk_at dksX10_peace_5 4 rfl rfl)
theorem dX10_peace_119 : decode cX10_peace 119 = .ok (.invokevirtual 464, 3) := dk_182 1 208 (dk_at dksX10_peace_5 5 rfl rfl)
theorem dX10_peace_122 : decode cX10_peace 122 = .ok (.ifCond .eq 49, 3) := dk_153 0 49 (dk_at dksX10_peace_5 8 rfl rfl)
theorem dX10_peace_125 : decode cX10_peace 125 = .ok (.aload_n 0, 1) := dk_42 (dk_at dksX10_peace_5 11 rfl rfl)
theorem dX10_peace_126 : decode cX10_peace 126 = .ok (.iload 4, 2) := dk_21 4 (dk_at dksX10_peace_5 12 rfl rfl)
theorem dX10_peace_128 : decode cX10_peace 128 = .ok (.invokevirtual 464, 3) := dk_182 1 208 (dk_at dksX10_peace_5 14 rfl rfl)
theorem dX10_peace_131 : decode cX10_peace 131 = .ok (.ifCond .eq 34, 3) := dk_153 0 34 (dk_at dksX10_peace_5 17 rfl rfl)
theorem dX10_peace_134 : decode cX10_peace 134 = .ok (.aload_n 0, 1) := dk_42 (dk_at dksX10_peace_5 20 rfl rfl)
theorem dX10_peace_135 : decode cX10_peace 135 = .ok (.iload_n 1, 1) := dk_27 (dk_at dksX10_peace_5 21 rfl rfl)
theorem dX10_peace_136 : decode cX10_peace 136 = .ok (.iload_n 3, 1) := dk_29 (dk_at dksX10_peace_5 22 rfl rfl)
theorem dX10_peace_137 : decode cX10_peace 137 = .ok (.iload 4, 2) := dk_21 4 (dk_at dksX10_peace_6 0 rfl rfl)
theorem dX10_peace_139 : decode cX10_peace 139 = .ok (.invokevirtual 461, 3) := dk_182 1 205 (dk_at dksX10_peace_6 2 rfl rfl)
theorem dX10_peace_142 : decode cX10_peace 142 = .ok (.ifCond .eq 23, 3) := dk_153 0 23 (dk_at dksX10_peace_6 5 rfl rfl)
theorem dX10_peace_145 : decode cX10_peace 145 = .ok (.iload_n 2, 1) := dk_28 (dk_at dksX10_peace_6 8 rfl rfl)
theorem dX10_peace_146 : decode cX10_peace 146 = .ok (.ifCond .ne 7, 3) := dk_154 0 7 (dk_at dksX10_peace_6 9 rfl rfl)
theorem dX10_peace_149 : decode cX10_peace 149 = .ok (.iconst 2, 1) := dk_5 (dk_at dksX10_peace_6 12 rfl rfl)
theorem dX10_peace_150 : decode cX10_peace 150 = .ok (.goto 14, 3) := dk_167 0 14 (dk_at dksX10_peace_6 13 rfl rfl)
theorem dX10_peace_153 : decode cX10_peace 153 = .ok (.iload_n 2, 1) := dk_28 (dk_at dksX10_peace_6 16 rfl rfl)
theorem dX10_peace_154 : decode cX10_peace 154 = .ok (.iconst 1, 1) := dk_4 (dk_at dksX10_peace_6 17 rfl rfl)
theorem dX10_peace_155 : decode cX10_peace 155 = .ok (.if_icmp .ne 7, 3) := dk_160 0 7 (dk_at dksX10_peace_6 18 rfl rfl)
theorem dX10_peace_158 : decode cX10_peace 158 = .ok (.iload_n 3, 1) := dk_29 (dk_at dksX10_peace_6 21 rfl rfl)
theorem dX10_peace_159 : decode cX10_peace 159 = .ok (.goto 5, 3) := dk_167 0 5 (dk_at dksX10_peace_7 0 rfl rfl)
theorem dX10_peace_162 : decode cX10_peace 162 = .ok (.iload 4, 2) := dk_21 4 (dk_at dksX10_peace_7 3 rfl rfl)
theorem dX10_peace_164 : decode cX10_peace 164 = .ok (.ireturn, 1) := dk_172 (dk_at dksX10_peace_7 5 rfl rfl)
theorem dX10_peace_165 : decode cX10_peace 165 = .ok (.iinc 4 1, 3) := dk_132 4 1 (dk_at dksX10_peace_7 6 rfl rfl)
theorem dX10_peace_168 : decode cX10_peace 168 = .ok (.goto (-58), 3) := dk_167 255 198 (dk_at dksX10_peace_7 9 rfl rfl)
theorem dX10_peace_171 : decode cX10_peace 171 = .ok (.iinc 3 1, 3) := dk_132 3 1 (dk_at dksX10_peace_7 12 rfl rfl)
theorem dX10_peace_174 : decode cX10_peace 174 = .ok (.goto (-75), 3) := dk_167 255 181 (dk_at dksX10_peace_7 15 rfl rfl)
theorem dX10_peace_177 : decode cX10_peace 177 = .ok (.bipush (-2), 2) := dk_16 254 (dk_at dksX10_peace_7 18 rfl rfl)
theorem dX10_peace_179 : decode cX10_peace 179 = .ok (.ireturn, 1) := dk_172 (dk_at dksX10_peace_7 20 rfl rfl)
def dkwX10_isPeace_2 : List UInt8 := [4, 167, 0, 4, 3, 172]
abbrev dktX10_isPeace_2 : List UInt8 := dkwX10_isPeace_2 ++ []
def dkwX10_isPeace_1 : List UInt8 := [132, 4, 1, 167, 255, 232, 42, 28, 182, 1, 202, 42, 29, 182, 1, 202, 42, 182, 1, 196, 27, 161, 0, 7]
abbrev dktX10_isPeace_1 : List UInt8 := dkwX10_isPeace_1 ++ dktX10_isPeace_2
def dkwX10_isPeace_0 : List UInt8 := [3, 54, 4, 21, 4, 16, 36, 162, 0, 23, 42, 180, 0, 134, 21, 4, 42, 180, 0, 128, 21, 4, 46, 79]
abbrev dktX10_isPeace_0 : List UInt8 := dkwX10_isPeace_0 ++ dktX10_isPeace_1
theorem dksX10_isPeace_0 : cX10_isPeace.data.toList.drop 0 = dktX10_isPeace_0 := by decide +kernel
theorem dksX10_isPeace_1 : cX10_isPeace.data.toList.drop 24 = dktX10_isPeace_1 := dk_seg dksX10_isPeace_0 24 rfl rfl
theorem dksX10_isPeace_2 : cX10_isPeace.data.toList.drop 48 = dktX10_isPeace_2 := dk_seg dksX10_isPeace_1 24 rfl rfl
theorem dX10_isPeace_0 : decode cX10_isPeace 0 = .ok (.iconst 0, 1) := dk_3 (dk_at dksX10_isPeace_0 0 rfl rfl)
theorem dX10_isPeace_1 : decode cX10_isPeace 1 = .ok (.istore 4, 2) := dk_54 4 (dk_at dksX10_isPeace_0 1 rfl rfl)
theorem dX10_isPeace_3 : decode cX10_isPeace 3 = .ok (.iload 4, 2) := dk_21 4 (dk_at dksX10_isPeace_0 3 rfl rfl)
theorem dX10_isPeace_5 : decode cX10_isPeace 5 = .ok (.bipush 36, 2) := dk_16 36 (dk_at dksX10_isPeace_0 5 rfl rfl)
theorem dX10_isPeace_7 : decode cX10_isPeace 7 = .ok (.if_icmp .ge 23, 3) := dk_162 0 23 (dk_at dksX10_isPeace_0 7 rfl rfl)
theorem dX10_isPeace_10 : decode cX10_isPeace 10 = .ok (.aload_n 0, 1) := dk_42 (dk_at dksX10_isPeace_0 10 rfl rfl)
theorem dX10_isPeace_11 : decode cX10_isPeace 11 = .ok (.getfield 134, 3) := dk_180 0 134 (dk_at dksX10_isPeace_0 11 rfl rfl)
theorem dX10_isPeace_14 : decode cX10_isPeace 14 = .ok (.iload 4, 2) := dk_21 4 (dk_at dksX10_isPeace_0 14 rfl rfl)
theorem dX10_isPeace_16 : decode cX10_isPeace 16 = .ok (.aload_n 0, 1) := dk_42 (dk_at dksX10_isPeace_0 16 rfl rfl)
theorem dX10_isPeace_17 : decode cX10_isPeace 17 = .ok (.getfield 128, 3) := dk_180 0 128 (dk_at dksX10_isPeace_0 17 rfl rfl)
theorem dX10_isPeace_20 : decode cX10_isPeace 20 = .ok (.iload 4, 2) := dk_21 4 (dk_at dksX10_isPeace_0 20 rfl rfl)
theorem dX10_isPeace_22 : decode cX10_isPeace 22 = .ok (.iaload, 1) := dk_46 (dk_at dksX10_isPeace_0 22 rfl rfl)
theorem dX10_isPeace_23 : decode cX10_isPeace 23 = .ok (.iastore, 1) := dk_79 (dk_at dksX10_isPeace_0 23 rfl rfl)
theorem dX10_isPeace_24 : decode cX10_isPeace 24 = .ok (.iinc 4 1, 3) := dk_132 4 1 (dk_at dksX10_isPeace_1 0 rfl rfl)
theorem dX10_isPeace_27 : decode cX10_isPeace 27 = .ok (.goto (-24), 3) := dk_167 255 232 (dk_at dksX10_isPeace_1 3 rfl rfl)
theorem dX10_isPeace_30 : decode cX10_isPeace 30 = .ok (.aload_n 0, 1) := dk_42 (dk_at dksX10_isPeace_1 6 rfl rfl)
theorem dX10_isPeace_31 : decode cX10_isPeace 31 = .ok (.iload_n 2, 1) := dk_28 (dk_at dksX10_isPeace_1 7 rfl rfl)
theorem dX10_isPeace_32 : decode cX10_isPeace 32 = .ok (.invokevirtual 458, 3) := dk_182 1 202 (dk_at dksX10_isPeace_1 8 rfl rfl)
theorem dX10_isPeace_35 : decode cX10_isPeace 35 = .ok (.aload_n 0, 1) := dk_42 (dk_at dksX10_isPeace_1 11 rfl rfl)
theorem dX10_isPeace_36 : decode cX10_isPeace 36 = .ok (.iload_n 3, 1) := dk_29 (dk_at dksX10_isPeace_1 12 rfl rfl)
theorem dX10_isPeace_37 : decode cX10_isPeace 37 = .ok (.invokevirtual 458, 3) := dk_182 1 202 (dk_at dksX10_isPeace_1 13 rfl rfl)
theorem dX10_isPeace_40 : decode cX10_isPeace 40 = .ok (.aload_n 0, 1) := dk_42 (dk_at dksX10_isPeace_1 16 rfl rfl)
theorem dX10_isPeace_41 : decode cX10_isPeace 41 = .ok (.invokevirtual 452, 3) := dk_182 1 196 (dk_at dksX10_isPeace_1 17 rfl rfl)
theorem dX10_isPeace_44 : decode cX10_isPeace 44 = .ok (.iload_n 1, 1) := dk_27 (dk_at dksX10_isPeace_1 20 rfl rfl)
theorem dX10_isPeace_45 : decode cX10_isPeace 45 = .ok (.if_icmp .lt 7, 3) := dk_161 0 7 (dk_at dksX10_isPeace_1 21 rfl rfl)
theorem dX10_isPeace_48 : decode cX10_isPeace 48 = .ok (.iconst 1, 1) := dk_4 (dk_at dksX10_isPeace_2 0 rfl rfl)
theorem dX10_isPeace_49 : decode cX10_isPeace 49 = .ok (.goto 4, 3) := dk_167 0 4 (dk_at dksX10_isPeace_2 1 rfl rfl)
theorem dX10_isPeace_52 : decode cX10_isPeace 52 = .ok (.iconst 0, 1) := dk_3 (dk_at dksX10_isPeace_2 4 rfl rfl)
theorem dX10_isPeace_53 : decode cX10_isPeace 53 = .ok (.ireturn, 1) := dk_172 (dk_at dksX10_isPeace_2 5 rfl rfl)
def dkwX10_likesMost_2 : List UInt8 := [180, 0, 131, 16, 6, 29, 104, 28, 96, 46, 79, 177]
abbrev dktX10_likesMost_2 : List UInt8 := dkwX10_likesMost_2 ++ []
def dkwX10_likesMost_1 : List UInt8 := [96, 42, 180, 0, 131, 16, 6, 28, 104, 29, 96, 46, 79, 42, 180, 0, 134, 16, 6, 29, 104, 28, 96, 42]
abbrev dktX10_likesMost_1 : List UInt8 := dkwX10_likesMost_1 ++ dktX10_likesMost_2
def dkwX10_likesMost_0 : List UInt8 := [27, 156, 0, 4, 177, 27, 16, 10, 108, 61, 27, 16, 10, 112, 62, 42, 180, 0, 134, 16, 6, 28, 104, 29]
abbrev dktX10_likesMost_0 : List UInt8 := dkwX10_likesMost_0 ++ dktX10_likesMost_1
theorem dksX10_likesMost_0 : cX10_likesMost.data.toList.drop 0 = dktX10_likesMost_0 := by decide +kernel
theorem dksX10_likesMost_1 : cX10_likesMost.data.toList.drop 24 = dktX10_likesMost_1 := dk_seg dksX10_likesMost_0 24 rfl rfl
theorem dksX10_likesMost_2 : cX10_likesMost.data.toList.drop 48 = dktX10_likesMost_2 := dk_seg dksX10_likesMost_1 24 rfl rfl
theorem dX10_likesMost_0 : decode cX10_likesMost 0 = .ok (.iload_n 1, 1) := dk_27 (dk_at dksX10_likesMost_0 0 rfl rfl)
theorem dX10_likesMost_1 : decode cX10_likesMost 1 = .ok (.ifCond .ge 4, 3) := dk_156 0 4 (dk_at dksX10_likesMost_0 1 rfl rfl)
theorem dX10_likesMost_4 : decode cX10_likesMost 4 = .ok (.return_, 1) := dk_177 (dk_at dksX10_likesMost_0 4 rfl rfl)
theorem dX10_likesMost_5 : decode cX10_likesMost 5 = .ok (.iload_n 1, 1) := dk_27 (dk_at dksX10_likesMost_0 5 rfl rfl)
theorem dX10_likesMost_6 : decode cX10_likesMost 6 = .ok (.bipush 10, 2) := dk_16 10 (dk_at dksX10_likesMost_0 6 rfl rfl)
theorem dX10_likesMost_8 : decode cX10_likesMost 8 = .ok (.idiv, 1) := dk_108 (dk_at dksX10_likesMost_0 8 rfl rfl)
theorem dX10_likesMost_9 : decode cX10_likesMost 9 = .ok (.istore_n 2, 1) := dk_61 (dk_at dksX10_likesMost_0 9 rfl rfl)
theorem dX10_likesMost_10 : decode cX10_likesMost 10 = .ok (.iload_n 1, 1) := dk_27 (dk_at dksX10_likesMost_0 10 rfl rfl)
theorem dX10_likesMost_11 : decode cX10_likesMost 11 = .ok (.bipush 10, 2) := dk_16 10 (dk_at dksX10_likesMost_0 11 rfl rfl)
theorem dX10_likesMost_13 : decode cX10_likesMost 13 = .ok (.irem, 1) := dk_112 (dk_at dksX10_likesMost_0 13 rfl rfl)
theorem dX10_likesMost_14 : decode cX10_likesMost 14 = .ok (.istore_n 3, 1) := dk_62 (dk_at dksX10_likesMost_0 14 rfl rfl)
theorem dX10_likesMost_15 : decode cX10_likesMost 15 = .ok (.aload_n 0, 1) := dk_42 (dk_at dksX10_likesMost_0 15 rfl rfl)
theorem dX10_likesMost_16 : decode cX10_likesMost 16 = .ok (.getfield 134, 3) := dk_180 0 134 (dk_at dksX10_likesMost_0 16 rfl rfl)
theorem dX10_likesMost_19 : decode cX10_likesMost 19 = .ok (.bipush 6, 2) := dk_16 6 (dk_at dksX10_likesMost_0 19 rfl rfl)
theorem dX10_likesMost_21 : decode cX10_likesMost 21 = .ok (.iload_n 2, 1) := dk_28 (dk_at dksX10_likesMost_0 21 rfl rfl)
theorem dX10_likesMost_22 : decode cX10_likesMost 22 = .ok (.imul, 1) := dk_104 (dk_at dksX10_likesMost_0 22 rfl rfl)
theorem dX10_likesMost_23 : decode cX10_likesMost 23 = .ok (.iload_n 3, 1) := dk_29 (dk_at dksX10_likesMost_0 23 rfl rfl)
theorem dX10_likesMost_24 : decode cX10_likesMost 24 = .ok (.iadd, 1) := dk_96 (dk_at dksX10_likesMost_1 0 rfl rfl)
theorem dX10_likesMost_25 : decode cX10_likesMost 25 = .ok (.aload_n 0, 1) := dk_42 (dk_at dksX10_likesMost_1 1 rfl rfl)
theorem dX10_likesMost_26 : decode cX10_likesMost 26 = .ok (.getfield 131, 3) := dk_180 0 131 (dk_at dksX10_likesMost_1 2 rfl rfl)
theorem dX10_likesMost_29 : decode cX10_likesMost 29 = .ok (.bipush 6, 2) := dk_16 6 (dk_at dksX10_likesMost_1 5 rfl rfl)
theorem dX10_likesMost_31 : decode cX10_likesMost 31 = .ok (.iload_n 2, 1) := dk_28 (dk_at dksX10_likesMost_1 7 rfl rfl)
theorem dX10_likesMost_32 : decode cX10_likesMost 32 = .ok (.imul, 1) := dk_104 (dk_at dksX10_likesMost_1 8 rfl rfl)
theorem dX10_likesMost_33 : decode cX10_likesMost 33 = .ok (.iload_n 3, 1) := dk_29 (dk_at dksX10_likesMost_1 9 rfl rfl)
theorem dX10_likesMost_34 : decode cX10_likesMost 34 = .ok (.iadd, 1) := dk_96 (dk_at dksX10_likesMost_1 10 rfl rfl)
theorem dX10_likesMost_35 : decode cX10_likesMost 35 = .ok (.iaload, 1) := dk_46 (dk_at dksX10_likesMost_1 11 rfl rfl)
theorem dX10_likesMost_36 : decode cX10_likesMost 36 = .ok (.iastore, 1) := dk_79 (dk_at dksX10_likesMost_1 12 rfl rfl)
theorem dX10_likesMost_37 : decode cX10_likesMost 37 = .ok (.aload_n 0, 1) := dk_42 (dk_at dksX10_likesMost_1 13 rfl rfl)
theorem dX10_likesMost_38 : decode cX10_likesMost 38 = .ok (.getfield 134, 3) := dk_180 0 134 (dk_at dksX10_likesMost_1 14 rfl rfl)
theorem dX10_likesMost_41 : decode cX10_likesMost 41 = .ok (.bipush 6, 2) := dk_16 6 (dk_at dksX10_likesMost_1 17 rfl rfl)
theorem dX10_likesMost_43 : decode cX10_likesMost 43 = .ok (.iload_n 3, 1) := dk_29 (dk_at dksX10_likesMost_1 19 rfl rfl)
theorem dX10_likesMost_44 : decode cX10_likesMost 44 = .ok (.imul, 1) := dk_104 (dk_at dksX10_likesMost_1 20 rfl rfl)
theorem dX10_likesMost_45 : decode cX10_likesMost 45 = .ok (.iload_n 2, 1) := dk_28 (dk_at dksX10_likesMost_1 21 rfl rfl)
theorem dX10_likesMost_46 : decode cX10_likesMost 46 = .ok (.iadd, 1) := dk_96 (dk_at dksX10_likesMost_1 22 rfl rfl)
theorem dX10_likesMost_47 : decode cX10_likesMost 47 = .ok (.aload_n 0, 1) := dk_42 (dk_at dksX10_likesMost_1 23 rfl rfl)
theorem dX10_likesMost_48 : decode cX10_likesMost 48 = .ok (.getfield 131, 3) := dk_180 0 131 (dk_at dksX10_likesMost_2 0 rfl rfl)
theorem dX10_likesMost_51 : decode cX10_likesMost 51 = .ok (.bipush 6, 2) := dk_16 6 (dk_at dksX10_likesMost_2 3 rfl rfl)
theorem dX10_likesMost_53 : decode cX10_likesMost 53 = .ok (.iload_n 3, 1) := dk_29 (dk_at dksX10_likesMost_2 5 rfl rfl)
theorem dX10_likesMost_54 : decode cX10_likesMost 54 = .ok (.imul, 1) := dk_104 (dk_at dksX10_likesMost_2 6 rfl rfl)
theorem dX10_likesMost_55 : decode cX10_likesMost 55 = .ok (.iload_n 2, 1) := dk_28 (dk_at dksX10_likesMost_2 7 rfl rfl)
theorem dX10_likesMost_56 : decode cX10_likesMost 56 = .ok (.iadd, 1) := dk_96 (dk_at dksX10_likesMost_2 8 rfl rfl)
theorem dX10_likesMost_57 : decode cX10_likesMost 57 = .ok (.iaload, 1) := dk_46 (dk_at dksX10_likesMost_2 9 rfl rfl)
theorem dX10_likesMost_58 : decode cX10_likesMost 58 = .ok (.iastore, 1) := dk_79 (dk_at dksX10_likesMost_2 10 rfl rfl)
theorem dX10_likesMost_59 : decode cX10_likesMost 59 = .ok (.return_, 1) := dk_177 (dk_at dksX10_likesMost_2 11 rfl rfl)
def dkwX10_isPair_1 : List UInt8 := [167, 0, 4, 3, 172]
abbrev dktX10_isPair_1 : List UInt8 := dkwX10_isPair_1 ++ []
def dkwX10_isPair_0 : List UInt8 := [27, 16, 10, 108, 27, 16, 10, 112, 162, 0, 18, 42, 27, 16, 10, 112, 182, 1, 137, 153, 0, 7, 4]
abbrev dktX10_isPair_0 : List UInt8 := dkwX10_isPair_0 ++ dktX10_isPair_1
theorem dksX10_isPair_0 : cX10_isPair.data.toList.drop 0 = dktX10_isPair_0 := by decide +kernel
theorem dksX10_isPair_1 : cX10_isPair.data.toList.drop 23 = dktX10_isPair_1 := dk_seg dksX10_isPair_0 23 rfl rfl
theorem dX10_isPair_0 : decode cX10_isPair 0 = .ok (.iload_n 1, 1) := dk_27 (dk_at dksX10_isPair_0 0 rfl rfl)
theorem dX10_isPair_1 : decode cX10_isPair 1 = .ok (.bipush 10, 2) := dk_16 10 (dk_at dksX10_isPair_0 1 rfl rfl)
theorem dX10_isPair_3 : decode cX10_isPair 3 = .ok (.idiv, 1) := dk_108 (dk_at dksX10_isPair_0 3 rfl rfl)
theorem dX10_isPair_4 : decode cX10_isPair 4 = .ok (.iload_n 1, 1) := dk_27 (dk_at dksX10_isPair_0 4 rfl rfl)
theorem dX10_isPair_5 : decode cX10_isPair 5 = .ok (.bipush 10, 2) := dk_16 10 (dk_at dksX10_isPair_0 5 rfl rfl)
theorem dX10_isPair_7 : decode cX10_isPair 7 = .ok (.irem, 1) := dk_112 (dk_at dksX10_isPair_0 7 rfl rfl)
theorem dX10_isPair_8 : decode cX10_isPair 8 = .ok (.if_icmp .ge 18, 3) := dk_162 0 18 (dk_at dksX10_isPair_0 8 rfl rfl)
theorem dX10_isPair_11 : decode cX10_isPair 11 = .ok (.aload_n 0, 1) := dk_42 (dk_at dksX10_isPair_0 11 rfl rfl)
theorem dX10_isPair_12 : decode cX10_isPair 12 = .ok (.iload_n 1, 1) := dk_27 (dk_at dksX10_isPair_0 12 rfl rfl)
theorem dX10_isPair_13 : decode cX10_isPair 13 = .ok (.bipush 10, 2) := dk_16 10 (dk_at dksX10_isPair_0 13 rfl rfl)
theorem dX10_isPair_15 : decode cX10_isPair 15 = .ok (.irem, 1) := dk_112 (dk_at dksX10_isPair_0 15 rfl rfl)
theorem dX10_isPair_16 : decode cX10_isPair 16 = .ok (.invokevirtual 393, 3) := dk_182 1 137 (dk_at dksX10_isPair_0 16 rfl rfl)
theorem dX10_isPair_19 : decode cX10_isPair 19 = .ok (.ifCond .eq 7, 3) := dk_153 0 7 (dk_at dksX10_isPair_0 19 rfl rfl)
theorem dX10_isPair_22 : decode cX10_isPair 22 = .ok (.iconst 1, 1) := dk_4 (dk_at dksX10_isPair_0 22 rfl rfl)
theorem dX10_isPair_23 : decode cX10_isPair 23 = .ok (.goto 4, 3) := dk_167 0 4 (dk_at dksX10_isPair_1 0 rfl rfl)
theorem dX10_isPair_26 : decode cX10_isPair 26 = .ok (.iconst 0, 1) := dk_3 (dk_at dksX10_isPair_1 3 rfl rfl)
theorem dX10_isPair_27 : decode cX10_isPair 27 = .ok (.ireturn, 1) := dk_172 (dk_at dksX10_isPair_1 4 rfl rfl)
def dkwX10_rests_4 : List UInt8 := [172]
abbrev dktX10_rests_4 : List UInt8 := dkwX10_rests_4 ++ []
def dkwX10_rests_3 : List UInt8 := [184, 1, 226, 162, 0, 6, 21, 4, 62, 132, 4, 1, 167, 255, 200, 27, 154, 0, 7, 28, 167, 0, 4, 29]
abbrev dktX10_rests_3 : List UInt8 := dkwX10_rests_3 ++ dktX10_rests_4
def dkwX10_rests_2 : List UInt8 := [21, 4, 182, 1, 223, 154, 0, 6, 167, 0, 25, 132, 2, 1, 29, 155, 0, 15, 21, 4, 184, 1, 226, 29]
abbrev dktX10_rests_2 : List UInt8 := dkwX10_rests_2 ++ dktX10_rests_3
def dkwX10_rests_1 : List UInt8 := [3, 54, 4, 21, 4, 16, 64, 162, 0, 55, 21, 4, 42, 182, 1, 217, 2, 130, 126, 154, 0, 37, 42]
abbrev dktX10_rests_1 : List UInt8 := dkwX10_rests_1 ++ dktX10_rests_2
def dkwX10_rests_0 : List UInt8 := [27, 3, 4, 184, 1, 66, 154, 0, 5, 2, 172, 42, 182, 1, 76, 42, 182, 1, 186, 3, 61, 16, 254, 62]
abbrev dktX10_rests_0 : List UInt8 := dkwX10_rests_0 ++ dktX10_rests_1
theorem dksX10_rests_0 : cX10_rests.data.toList.drop 0 = dktX10_rests_0 := by decide +kernel
theorem dksX10_rests_1 : cX10_rests.data.toList.drop 24 = dktX10_rests_1 := dk_seg dksX10_rests_0 24 rfl rfl
theorem dksX10_rests_2 : cX10_rests.data.toList.drop 47 = dktX10_rests_2 := dk_seg dksX10_rests_1 23 rfl rfl
theorem dksX10_rests_3 : cX10_rests.data.toList.drop 71 = dktX10_rests_3 := dk_seg dksX10_rests_2 24 rfl rfl
theorem dksX10_rests_4 : cX10_rests.data.toList.drop 95 = dktX10_rests_4 := dk_seg dksX10_rests_3 24 rfl rfl
theorem dX10_rests_0 : decode cX10_rests 0 = .ok (.iload_n 1, 1) := dk_27 (dk_at dksX10_rests_0 0 rfl rfl)
theorem dX10_rests_1 : decode cX10_rests 1 = .ok (.iconst 0, 1) := dk_3 (dk_at dksX10_rests_0 1 rfl rfl)
theorem dX10_rests_2 : decode cX10_rests 2 = .ok (.iconst 1, 1) := dk_4 (dk_at dksX10_rests_0 2 rfl rfl)
theorem dX10_rests_3 : decode cX10_rests 3 = .ok (.invokestatic 322, 3) := dk_184 1 66 (dk_at dksX10_rests_0 3 rfl rfl)
theorem dX10_rests_6 : decode cX10_rests 6 = .ok (.ifCond .ne 5, 3) := dk_154 0 5 (dk_at dksX10_rests_0 6 rfl rfl)
theorem dX10_rests_9 : decode cX10_rests 9 = .ok (.iconst (-1), 1) := dk_2 (dk_at dksX10_rests_0 9 rfl rfl)
theorem dX10_rests_10 : decode cX10_rests 10 = .ok (.ireturn, 1) := dk_172 (dk_at dksX10_rests_0 10 rfl rfl)
theorem dX10_rests_11 : decode cX10_rests 11 = .ok (.aload_n 0, 1) := dk_42 (dk_at dksX10_rests_0 11 rfl rfl)
theorem dX10_rests_12 : decode cX10_rests 12 = .ok (.invokevirtual 332, 3) := dk_182 1 76 (dk_at dksX10_rests_0 12 rfl rfl)
theorem dX10_rests_15 : decode cX10_rests 15 = .ok (.aload_n 0, 1) := dk_42 (dk_at dksX10_rests_0 15 rfl rfl)
theorem dX10_rests_16 : decode cX10_rests 16 = .ok (.invokevirtual 442, 3) := dk_182 1 186 (dk_at dksX10_rests_0 16 rfl rfl)
theorem dX10_rests_19 : decode cX10_rests 19 = .ok (.iconst 0, 1) := dk_3 (dk_at dksX10_rests_0 19 rfl rfl)
theorem dX10_rests_20 : decode cX10_rests 20 = .ok (.istore_n 2, 1) := dk_61 (dk_at dksX10_rests_0 20 rfl rfl)
theorem dX10_rests_21 : decode cX10_rests 21 = .ok (.bipush (-2), 2) := dk_16 254 (dk_at dksX10_rests_0 21 rfl rfl)
theorem dX10_rests_23 : decode cX10_rests 23 = .ok (.istore_n 3, 1) := dk_62 (dk_at dksX10_rests_0 23 rfl rfl)
theorem dX10_rests_24 : decode cX10_rests 24 = .ok (.iconst 0, 1) := dk_3 (dk_at dksX10_rests_1 0 rfl rfl)
theorem dX10_rests_25 : decode cX10_rests 25 = .ok (.istore 4, 2) := dk_54 4 (dk_at dksX10_rests_1 1 rfl rfl)
theorem dX10_rests_27 : decode cX10_rests 27 = .ok (.iload 4, 2) := dk_21 4 (dk_at dksX10_rests_1 3 rfl rfl)
theorem dX10_rests_29 : decode cX10_rests 29 = .ok (.bipush 64, 2) := dk_16 64 (dk_at dksX10_rests_1 5 rfl rfl)
theorem dX10_rests_31 : decode cX10_rests 31 = .ok (.if_icmp .ge 55, 3) := dk_162 0 55 (dk_at dksX10_rests_1 7 rfl rfl)
theorem dX10_rests_34 : decode cX10_rests 34 = .ok (.iload 4, 2) := dk_21 4 (dk_at dksX10_rests_1 10 rfl rfl)
theorem dX10_rests_36 : decode cX10_rests 36 = .ok (.aload_n 0, 1) := dk_42 (dk_at dksX10_rests_1 12 rfl rfl)
theorem dX10_rests_37 : decode cX10_rests 37 = .ok (.invokevirtual 473, 3) := dk_182 1 217 (dk_at dksX10_rests_1 13 rfl rfl)
theorem dX10_rests_40 : decode cX10_rests 40 = .ok (.iconst (-1), 1) := dk_2 (dk_at dksX10_rests_1 16 rfl rfl)
theorem dX10_rests_41 : decode cX10_rests 41 = .ok (.ixor, 1) := dk_130 (dk_at dksX10_rests_1 17 rfl rfl)
theorem dX10_rests_42 : decode cX10_rests 42 = .ok (.iand, 1) := dk_126 (dk_at dksX10_rests_1 18 rfl rfl)
theorem dX10_rests_43 : decode cX10_rests 43 = .ok (.ifCond .ne 37, 3) := dk_154 0 37 (dk_at dksX10_rests_1 19 rfl rfl)
theorem dX10_rests_46 : decode cX10_rests 46 = .ok (.aload_n 0, 1) := dk_42 (dk_at dksX10_rests_1 22 rfl rfl)
theorem dX10_rests_47 : decode cX10_rests 47 = .ok (.iload 4, 2) := dk_21 4 (dk_at dksX10_rests_2 0 rfl rfl)
theorem dX10_rests_49 : decode cX10_rests 49 = .ok (.invokevirtual 479, 3) := dk_182 1 223 (dk_at dksX10_rests_2 2 rfl rfl)
theorem dX10_rests_52 : decode cX10_rests 52 = .ok (.ifCond .ne 6, 3) := dk_154 0 6 (dk_at dksX10_rests_2 5 rfl rfl)
theorem dX10_rests_55 : decode cX10_rests 55 = .ok (.goto 25, 3) := dk_167 0 25 (dk_at dksX10_rests_2 8 rfl rfl)
theorem dX10_rests_58 : decode cX10_rests 58 = .ok (.iinc 2 1, 3) := dk_132 2 1 (dk_at dksX10_rests_2 11 rfl rfl)
theorem dX10_rests_61 : decode cX10_rests 61 = .ok (.iload_n 3, 1) := dk_29 (dk_at dksX10_rests_2 14 rfl rfl)
theorem dX10_rests_62 : decode cX10_rests 62 = .ok (.ifCond .lt 15, 3) := dk_155 0 15 (dk_at dksX10_rests_2 15 rfl rfl)
theorem dX10_rests_65 : decode cX10_rests 65 = .ok (.iload 4, 2) := dk_21 4 (dk_at dksX10_rests_2 18 rfl rfl)
theorem dX10_rests_67 : decode cX10_rests 67 = .ok (.invokestatic 482, 3) := dk_184 1 226 (dk_at dksX10_rests_2 20 rfl rfl)
theorem dX10_rests_70 : decode cX10_rests 70 = .ok (.iload_n 3, 1) := dk_29 (dk_at dksX10_rests_2 23 rfl rfl)
theorem dX10_rests_71 : decode cX10_rests 71 = .ok (.invokestatic 482, 3) := dk_184 1 226 (dk_at dksX10_rests_3 0 rfl rfl)
theorem dX10_rests_74 : decode cX10_rests 74 = .ok (.if_icmp .ge 6, 3) := dk_162 0 6 (dk_at dksX10_rests_3 3 rfl rfl)
theorem dX10_rests_77 : decode cX10_rests 77 = .ok (.iload 4, 2) := dk_21 4 (dk_at dksX10_rests_3 6 rfl rfl)
theorem dX10_rests_79 : decode cX10_rests 79 = .ok (.istore_n 3, 1) := dk_62 (dk_at dksX10_rests_3 8 rfl rfl)
theorem dX10_rests_80 : decode cX10_rests 80 = .ok (.iinc 4 1, 3) := dk_132 4 1 (dk_at dksX10_rests_3 9 rfl rfl)
theorem dX10_rests_83 : decode cX10_rests 83 = .ok (.goto (-56), 3) := dk_167 255 200 (dk_at dksX10_rests_3 12 rfl rfl)
theorem dX10_rests_86 : decode cX10_rests 86 = .ok (.iload_n 1, 1) := dk_27 (dk_at dksX10_rests_3 15 rfl rfl)
theorem dX10_rests_87 : decode cX10_rests 87 = .ok (.ifCond .ne 7, 3) := dk_154 0 7 (dk_at dksX10_rests_3 16 rfl rfl)
theorem dX10_rests_90 : decode cX10_rests 90 = .ok (.iload_n 2, 1) := dk_28 (dk_at dksX10_rests_3 19 rfl rfl)
theorem dX10_rests_91 : decode cX10_rests 91 = .ok (.goto 4, 3) := dk_167 0 4 (dk_at dksX10_rests_3 20 rfl rfl)
theorem dX10_rests_94 : decode cX10_rests 94 = .ok (.iload_n 3, 1) := dk_29 (dk_at dksX10_rests_3 23 rfl rfl)
theorem dX10_rests_95 : decode cX10_rests 95 = .ok (.ireturn, 1) := dk_172 (dk_at dksX10_rests_4 0 rfl rfl)
def dkwX10_givesBits_1 : List UInt8 := [60, 132, 2, 1, 167, 255, 232, 27, 172]
abbrev dktX10_givesBits_1 : List UInt8 := dkwX10_givesBits_1 ++ []
def dkwX10_givesBits_0 : List UInt8 := [3, 60, 3, 61, 28, 16, 6, 162, 0, 24, 42, 180, 0, 122, 28, 46, 158, 0, 9, 27, 4, 28, 120, 128]
abbrev dktX10_givesBits_0 : List UInt8 := dkwX10_givesBits_0 ++ dktX10_givesBits_1
theorem dksX10_givesBits_0 : cX10_givesBits.data.toList.drop 0 = dktX10_givesBits_0 := by decide +kernel
theorem dksX10_givesBits_1 : cX10_givesBits.data.toList.drop 24 = dktX10_givesBits_1 := dk_seg dksX10_givesBits_0 24 rfl rfl
theorem dX10_givesBits_0 : decode cX10_givesBits 0 = .ok (.iconst 0, 1) := dk_3 (dk_at dksX10_givesBits_0 0 rfl rfl)
theorem dX10_givesBits_1 : decode cX10_givesBits 1 = .ok (.istore_n 1, 1) := dk_60 (dk_at dksX10_givesBits_0 1 rfl rfl)
theorem dX10_givesBits_2 : decode cX10_givesBits 2 = .ok (.iconst 0, 1) := dk_3 (dk_at dksX10_givesBits_0 2 rfl rfl)
theorem dX10_givesBits_3 : decode cX10_givesBits 3 = .ok (.istore_n 2, 1) := dk_61 (dk_at dksX10_givesBits_0 3 rfl rfl)
theorem dX10_givesBits_4 : decode cX10_givesBits 4 = .ok (.iload_n 2, 1) := dk_28 (dk_at dksX10_givesBits_0 4 rfl rfl)
theorem dX10_givesBits_5 : decode cX10_givesBits 5 = .ok (.bipush 6, 2) := dk_16 6 (dk_at dksX10_givesBits_0 5 rfl rfl)
theorem dX10_givesBits_7 : decode cX10_givesBits 7 = .ok (.if_icmp .ge 24, 3) := dk_162 0 24 (dk_at dksX10_givesBits_0 7 rfl rfl)
theorem dX10_givesBits_10 : decode cX10_givesBits 10 = .ok (.aload_n 0, 1) := dk_42 (dk_at dksX10_givesBits_0 10 rfl rfl)
theorem dX10_givesBits_11 : decode cX10_givesBits 11 = .ok (.getfield 122, 3) := dk_180 0 122 (dk_at dksX10_givesBits_0 11 rfl rfl)
theorem dX10_givesBits_14 : decode cX10_givesBits 14 = .ok (.iload_n 2, 1) := dk_28 (dk_at dksX10_givesBits_0 14 rfl rfl)
theorem dX10_givesBits_15 : decode cX10_givesBits 15 = .ok (.iaload, 1) := dk_46 (dk_at dksX10_givesBits_0 15 rfl rfl)
theorem dX10_givesBits_16 : decode cX10_givesBits 16 = .ok (.ifCond .le 9, 3) := dk_158 0 9 (dk_at dksX10_givesBits_0 16 rfl rfl)
theorem dX10_givesBits_19 : decode cX10_givesBits 19 = .ok (.iload_n 1, 1) := dk_27 (dk_at dksX10_givesBits_0 19 rfl rfl)
theorem dX10_givesBits_20 : decode cX10_givesBits 20 = .ok (.iconst 1, 1) := dk_4 (dk_at dksX10_givesBits_0 20 rfl rfl)
theorem dX10_givesBits_21 : decode cX10_givesBits 21 = .ok (.iload_n 2, 1) := dk_28 (dk_at dksX10_givesBits_0 21 rfl rfl)
theorem dX10_givesBits_22 : decode cX10_givesBits 22 = .ok (.ishl, 1) := dk_120 (dk_at dksX10_givesBits_0 22 rfl rfl)
theorem dX10_givesBits_23 : decode cX10_givesBits 23 = .ok (.ior, 1) := dk_128 (dk_at dksX10_givesBits_0 23 rfl rfl)
theorem dX10_givesBits_24 : decode cX10_givesBits 24 = .ok (.istore_n 1, 1) := dk_60 (dk_at dksX10_givesBits_1 0 rfl rfl)
theorem dX10_givesBits_25 : decode cX10_givesBits 25 = .ok (.iinc 2 1, 3) := dk_132 2 1 (dk_at dksX10_givesBits_1 1 rfl rfl)
theorem dX10_givesBits_28 : decode cX10_givesBits 28 = .ok (.goto (-24), 3) := dk_167 255 232 (dk_at dksX10_givesBits_1 4 rfl rfl)
theorem dX10_givesBits_31 : decode cX10_givesBits 31 = .ok (.iload_n 1, 1) := dk_27 (dk_at dksX10_givesBits_1 7 rfl rfl)
theorem dX10_givesBits_32 : decode cX10_givesBits 32 = .ok (.ireturn, 1) := dk_172 (dk_at dksX10_givesBits_1 8 rfl rfl)
def dkwX10_isRest_2 : List UInt8 := [3, 172, 132, 3, 1, 167, 255, 210, 4, 172]
abbrev dktX10_isRest_2 : List UInt8 := dkwX10_isRest_2 ++ []
def dkwX10_isRest_1 : List UInt8 := [126, 4, 160, 0, 24, 42, 29, 27, 4, 29, 120, 130, 182, 1, 220, 42, 29, 27, 182, 1, 220, 164, 0, 5]
abbrev dktX10_isRest_1 : List UInt8 := dkwX10_isRest_1 ++ dktX10_isRest_2
def dkwX10_isRest_0 : List UInt8 := [42, 182, 1, 217, 61, 3, 62, 29, 42, 180, 0, 43, 42, 180, 0, 245, 46, 162, 0, 39, 28, 29, 122, 4]
abbrev dktX10_isRest_0 : List UInt8 := dkwX10_isRest_0 ++ dktX10_isRest_1
theorem dksX10_isRest_0 : cX10_isRest.data.toList.drop 0 = dktX10_isRest_0 := by decide +kernel
theorem dksX10_isRest_1 : cX10_isRest.data.toList.drop 24 = dktX10_isRest_1 := dk_seg dksX10_isRest_0 24 rfl rfl
theorem dksX10_isRest_2 : cX10_isRest.data.toList.drop 48 = dktX10_isRest_2 := dk_seg dksX10_isRest_1 24 rfl rfl
theorem dX10_isRest_0 : decode cX10_isRest 0 = .ok (.aload_n 0, 1) := dk_42 (dk_at dksX10_isRest_0 0 rfl rfl)
theorem dX10_isRest_1 : decode cX10_isRest 1 = .ok (.invokevirtual 473, 3) := dk_182 1 217 (dk_at dksX10_isRest_0 1 rfl rfl)
theorem dX10_isRest_4 : decode cX10_isRest 4 = .ok (.istore_n 2, 1) := dk_61 (dk_at dksX10_isRest_0 4 rfl rfl)
theorem dX10_isRest_5 : decode cX10_isRest 5 = .ok (.iconst 0, 1) := dk_3 (dk_at dksX10_isRest_0 5 rfl rfl)
theorem dX10_isRest_6 : decode cX10_isRest 6 = .ok (.istore_n 3, 1) := dk_62 (dk_at dksX10_isRest_0 6 rfl rfl)
theorem dX10_isRest_7 : decode cX10_isRest 7 = .ok (.iload_n 3, 1) := dk_29 (dk_at dksX10_isRest_0 7 rfl rfl)
theorem dX10_isRest_8 : decode cX10_isRest 8 = .ok (.aload_n 0, 1) := dk_42 (dk_at dksX10_isRest_0 8 rfl rfl)
theorem dX10_isRest_9 : decode cX10_isRest 9 = .ok (.getfield 43, 3) := dk_180 0 43 (dk_at dksX10_isRest_0 9 rfl rfl)
theorem dX10_isRest_12 : decode cX10_isRest 12 = .ok (.aload_n 0, 1) := dk_42 (dk_at dksX10_isRest_0 12 rfl rfl)
theorem dX10_isRest_13 : decode cX10_isRest 13 = .ok (.getfield 245, 3) := dk_180 0 245 (dk_at dksX10_isRest_0 13 rfl rfl)
theorem dX10_isRest_16 : decode cX10_isRest 16 = .ok (.iaload, 1) := dk_46 (dk_at dksX10_isRest_0 16 rfl rfl)
theorem dX10_isRest_17 : decode cX10_isRest 17 = .ok (.if_icmp .ge 39, 3) := dk_162 0 39 (dk_at dksX10_isRest_0 17 rfl rfl)
theorem dX10_isRest_20 : decode cX10_isRest 20 = .ok (.iload_n 2, 1) := dk_28 (dk_at dksX10_isRest_0 20 rfl rfl)
theorem dX10_isRest_21 : decode cX10_isRest 21 = .ok (.iload_n 3, 1) := dk_29 (dk_at dksX10_isRest_0 21 rfl rfl)
theorem dX10_isRest_22 : decode cX10_isRest 22 = .ok (.ishr, 1) := dk_122 (dk_at dksX10_isRest_0 22 rfl rfl)
theorem dX10_isRest_23 : decode cX10_isRest 23 = .ok (.iconst 1, 1) := dk_4 (dk_at dksX10_isRest_0 23 rfl rfl)
theorem dX10_isRest_24 : decode cX10_isRest 24 = .ok (.iand, 1) := dk_126 (dk_at dksX10_isRest_1 0 rfl rfl)
theorem dX10_isRest_25 : decode cX10_isRest 25 = .ok (.iconst 1, 1) := dk_4 (dk_at dksX10_isRest_1 1 rfl rfl)
theorem dX10_isRest_26 : decode cX10_isRest 26 = .ok (.if_icmp .ne 24, 3) := dk_160 0 24 (dk_at dksX10_isRest_1 2 rfl rfl)
theorem dX10_isRest_29 : decode cX10_isRest 29 = .ok (.aload_n 0, 1) := dk_42 (dk_at dksX10_isRest_1 5 rfl rfl)
theorem dX10_isRest_30 : decode cX10_isRest 30 = .ok (.iload_n 3, 1) := dk_29 (dk_at dksX10_isRest_1 6 rfl rfl)
theorem dX10_isRest_31 : decode cX10_isRest 31 = .ok (.iload_n 1, 1) := dk_27 (dk_at dksX10_isRest_1 7 rfl rfl)
theorem dX10_isRest_32 : decode cX10_isRest 32 = .ok (.iconst 1, 1) := dk_4 (dk_at dksX10_isRest_1 8 rfl rfl)
theorem dX10_isRest_33 : decode cX10_isRest 33 = .ok (.iload_n 3, 1) := dk_29 (dk_at dksX10_isRest_1 9 rfl rfl)
theorem dX10_isRest_34 : decode cX10_isRest 34 = .ok (.ishl, 1) := dk_120 (dk_at dksX10_isRest_1 10 rfl rfl)
theorem dX10_isRest_35 : decode cX10_isRest 35 = .ok (.ixor, 1) := dk_130 (dk_at dksX10_isRest_1 11 rfl rfl)
theorem dX10_isRest_36 : decode cX10_isRest 36 = .ok (.invokevirtual 476, 3) := dk_182 1 220 (dk_at dksX10_isRest_1 12 rfl rfl)
theorem dX10_isRest_39 : decode cX10_isRest 39 = .ok (.aload_n 0, 1) := dk_42 (dk_at dksX10_isRest_1 15 rfl rfl)
theorem dX10_isRest_40 : decode cX10_isRest 40 = .ok (.iload_n 3, 1) := dk_29 (dk_at dksX10_isRest_1 16 rfl rfl)
theorem dX10_isRest_41 : decode cX10_isRest 41 = .ok (.iload_n 1, 1) := dk_27 (dk_at dksX10_isRest_1 17 rfl rfl)
theorem dX10_isRest_42 : decode cX10_isRest 42 = .ok (.invokevirtual 476, 3) := dk_182 1 220 (dk_at dksX10_isRest_1 18 rfl rfl)
theorem dX10_isRest_45 : decode cX10_isRest 45 = .ok (.if_icmp .le 5, 3) := dk_164 0 5 (dk_at dksX10_isRest_1 21 rfl rfl)
theorem dX10_isRest_48 : decode cX10_isRest 48 = .ok (.iconst 0, 1) := dk_3 (dk_at dksX10_isRest_2 0 rfl rfl)
theorem dX10_isRest_49 : decode cX10_isRest 49 = .ok (.ireturn, 1) := dk_172 (dk_at dksX10_isRest_2 1 rfl rfl)
theorem dX10_isRest_50 : decode cX10_isRest 50 = .ok (.iinc 3 1, 3) := dk_132 3 1 (dk_at dksX10_isRest_2 2 rfl rfl)
theorem dX10_isRest_53 : decode cX10_isRest 53 = .ok (.goto (-46), 3) := dk_167 255 210 (dk_at dksX10_isRest_2 5 rfl rfl)
theorem dX10_isRest_56 : decode cX10_isRest 56 = .ok (.iconst 1, 1) := dk_4 (dk_at dksX10_isRest_2 8 rfl rfl)
theorem dX10_isRest_57 : decode cX10_isRest 57 = .ok (.ireturn, 1) := dk_172 (dk_at dksX10_isRest_2 9 rfl rfl)
def dkwX10_hasOf_1 : List UInt8 := [4, 126, 4, 160, 0, 11, 42, 27, 182, 1, 214, 167, 0, 4, 3, 100, 172]
abbrev dktX10_hasOf_1 : List UInt8 := dkwX10_hasOf_1 ++ []
def dkwX10_hasOf_0 : List UInt8 := [42, 28, 182, 1, 211, 153, 0, 15, 42, 180, 0, 61, 42, 180, 0, 245, 46, 167, 0, 4, 3, 28, 27, 122]
abbrev dktX10_hasOf_0 : List UInt8 := dkwX10_hasOf_0 ++ dktX10_hasOf_1
theorem dksX10_hasOf_0 : cX10_hasOf.data.toList.drop 0 = dktX10_hasOf_0 := by decide +kernel
theorem dksX10_hasOf_1 : cX10_hasOf.data.toList.drop 24 = dktX10_hasOf_1 := dk_seg dksX10_hasOf_0 24 rfl rfl
theorem dX10_hasOf_0 : decode cX10_hasOf 0 = .ok (.aload_n 0, 1) := dk_42 (dk_at dksX10_hasOf_0 0 rfl rfl)
theorem dX10_hasOf_1 : decode cX10_hasOf 1 = .ok (.iload_n 2, 1) := dk_28 (dk_at dksX10_hasOf_0 1 rfl rfl)
theorem dX10_hasOf_2 : decode cX10_hasOf 2 = .ok (.invokevirtual 467, 3) := dk_182 1 211 (dk_at dksX10_hasOf_0 2 rfl rfl)
theorem dX10_hasOf_5 : decode cX10_hasOf 5 = .ok (.ifCond .eq 15, 3) := dk_153 0 15 (dk_at dksX10_hasOf_0 5 rfl rfl)
theorem dX10_hasOf_8 : decode cX10_hasOf 8 = .ok (.aload_n 0, 1) := dk_42 (dk_at dksX10_hasOf_0 8 rfl rfl)
theorem dX10_hasOf_9 : decode cX10_hasOf 9 = .ok (.getfield 61, 3) := dk_180 0 61 (dk_at dksX10_hasOf_0 9 rfl rfl)
theorem dX10_hasOf_12 : decode cX10_hasOf 12 = .ok (.aload_n 0, 1) := dk_42 (dk_at dksX10_hasOf_0 12 rfl rfl)
theorem dX10_hasOf_13 : decode cX10_hasOf 13 = .ok (.getfield 245, 3) := dk_180 0 245 (dk_at dksX10_hasOf_0 13 rfl rfl)
theorem dX10_hasOf_16 : decode cX10_hasOf 16 = .ok (.iaload, 1) := dk_46 (dk_at dksX10_hasOf_0 16 rfl rfl)
theorem dX10_hasOf_17 : decode cX10_hasOf 17 = .ok (.goto 4, 3) := dk_167 0 4 (dk_at dksX10_hasOf_0 17 rfl rfl)
theorem dX10_hasOf_20 : decode cX10_hasOf 20 = .ok (.iconst 0, 1) := dk_3 (dk_at dksX10_hasOf_0 20 rfl rfl)
theorem dX10_hasOf_21 : decode cX10_hasOf 21 = .ok (.iload_n 2, 1) := dk_28 (dk_at dksX10_hasOf_0 21 rfl rfl)
theorem dX10_hasOf_22 : decode cX10_hasOf 22 = .ok (.iload_n 1, 1) := dk_27 (dk_at dksX10_hasOf_0 22 rfl rfl)
theorem dX10_hasOf_23 : decode cX10_hasOf 23 = .ok (.ishr, 1) := dk_122 (dk_at dksX10_hasOf_0 23 rfl rfl)
theorem dX10_hasOf_24 : decode cX10_hasOf 24 = .ok (.iconst 1, 1) := dk_4 (dk_at dksX10_hasOf_1 0 rfl rfl)
theorem dX10_hasOf_25 : decode cX10_hasOf 25 = .ok (.iand, 1) := dk_126 (dk_at dksX10_hasOf_1 1 rfl rfl)
theorem dX10_hasOf_26 : decode cX10_hasOf 26 = .ok (.iconst 1, 1) := dk_4 (dk_at dksX10_hasOf_1 2 rfl rfl)
theorem dX10_hasOf_27 : decode cX10_hasOf 27 = .ok (.if_icmp .ne 11, 3) := dk_160 0 11 (dk_at dksX10_hasOf_1 3 rfl rfl)
theorem dX10_hasOf_30 : decode cX10_hasOf 30 = .ok (.aload_n 0, 1) := dk_42 (dk_at dksX10_hasOf_1 6 rfl rfl)
theorem dX10_hasOf_31 : decode cX10_hasOf 31 = .ok (.iload_n 1, 1) := dk_27 (dk_at dksX10_hasOf_1 7 rfl rfl)
theorem dX10_hasOf_32 : decode cX10_hasOf 32 = .ok (.invokevirtual 470, 3) := dk_182 1 214 (dk_at dksX10_hasOf_1 8 rfl rfl)
theorem dX10_hasOf_35 : decode cX10_hasOf 35 = .ok (.goto 4, 3) := dk_167 0 4 (dk_at dksX10_hasOf_1 11 rfl rfl)
theorem dX10_hasOf_38 : decode cX10_hasOf 38 = .ok (.iconst 0, 1) := dk_3 (dk_at dksX10_hasOf_1 14 rfl rfl)
theorem dX10_hasOf_39 : decode cX10_hasOf 39 = .ok (.isub, 1) := dk_100 (dk_at dksX10_hasOf_1 15 rfl rfl)
theorem dX10_hasOf_40 : decode cX10_hasOf 40 = .ok (.ireturn, 1) := dk_172 (dk_at dksX10_hasOf_1 16 rfl rfl)
def dkwX10_isEnough_2 : List UInt8 := [167, 0, 4, 3, 172]
abbrev dktX10_isEnough_2 : List UInt8 := dkwX10_isEnough_2 ++ []
def dkwX10_isEnough_1 : List UInt8 := [29, 46, 96, 61, 132, 3, 1, 167, 255, 229, 28, 42, 180, 0, 58, 42, 180, 0, 245, 46, 161, 0, 7, 4]
abbrev dktX10_isEnough_1 : List UInt8 := dkwX10_isEnough_1 ++ dktX10_isEnough_2
def dkwX10_isEnough_0 : List UInt8 := [3, 61, 3, 62, 29, 16, 6, 162, 0, 27, 27, 29, 122, 4, 126, 4, 160, 0, 12, 28, 42, 180, 0, 122]
abbrev dktX10_isEnough_0 : List UInt8 := dkwX10_isEnough_0 ++ dktX10_isEnough_1
theorem dksX10_isEnough_0 : cX10_isEnough.data.toList.drop 0 = dktX10_isEnough_0 := by decide +kernel
theorem dksX10_isEnough_1 : cX10_isEnough.data.toList.drop 24 = dktX10_isEnough_1 := dk_seg dksX10_isEnough_0 24 rfl rfl
theorem dksX10_isEnough_2 : cX10_isEnough.data.toList.drop 48 = dktX10_isEnough_2 := dk_seg dksX10_isEnough_1 24 rfl rfl
theorem dX10_isEnough_0 : decode cX10_isEnough 0 = .ok (.iconst 0, 1) := dk_3 (dk_at dksX10_isEnough_0 0 rfl rfl)
theorem dX10_isEnough_1 : decode cX10_isEnough 1 = .ok (.istore_n 2, 1) := dk_61 (dk_at dksX10_isEnough_0 1 rfl rfl)
theorem dX10_isEnough_2 : decode cX10_isEnough 2 = .ok (.iconst 0, 1) := dk_3 (dk_at dksX10_isEnough_0 2 rfl rfl)
theorem dX10_isEnough_3 : decode cX10_isEnough 3 = .ok (.istore_n 3, 1) := dk_62 (dk_at dksX10_isEnough_0 3 rfl rfl)
theorem dX10_isEnough_4 : decode cX10_isEnough 4 = .ok (.iload_n 3, 1) := dk_29 (dk_at dksX10_isEnough_0 4 rfl rfl)
theorem dX10_isEnough_5 : decode cX10_isEnough 5 = .ok (.bipush 6, 2) := dk_16 6 (dk_at dksX10_isEnough_0 5 rfl rfl)
theorem dX10_isEnough_7 : decode cX10_isEnough 7 = .ok (.if_icmp .ge 27, 3) := dk_162 0 27 (dk_at dksX10_isEnough_0 7 rfl rfl)
theorem dX10_isEnough_10 : decode cX10_isEnough 10 = .ok (.iload_n 1, 1) := dk_27 (dk_at dksX10_isEnough_0 10 rfl rfl)
theorem dX10_isEnough_11 : decode cX10_isEnough 11 = .ok (.iload_n 3, 1) := dk_29 (dk_at dksX10_isEnough_0 11 rfl rfl)
theorem dX10_isEnough_12 : decode cX10_isEnough 12 = .ok (.ishr, 1) := dk_122 (dk_at dksX10_isEnough_0 12 rfl rfl)
theorem dX10_isEnough_13 : decode cX10_isEnough 13 = .ok (.iconst 1, 1) := dk_4 (dk_at dksX10_isEnough_0 13 rfl rfl)
theorem dX10_isEnough_14 : decode cX10_isEnough 14 = .ok (.iand, 1) := dk_126 (dk_at dksX10_isEnough_0 14 rfl rfl)
theorem dX10_isEnough_15 : decode cX10_isEnough 15 = .ok (.iconst 1, 1) := dk_4 (dk_at dksX10_isEnough_0 15 rfl rfl)
theorem dX10_isEnough_16 : decode cX10_isEnough 16 = .ok (.if_icmp .ne 12, 3) := dk_160 0 12 (dk_at dksX10_isEnough_0 16 rfl rfl)
theorem dX10_isEnough_19 : decode cX10_isEnough 19 = .ok (.iload_n 2, 1) := dk_28 (dk_at dksX10_isEnough_0 19 rfl rfl)
theorem dX10_isEnough_20 : decode cX10_isEnough 20 = .ok (.aload_n 0, 1) := dk_42 (dk_at dksX10_isEnough_0 20 rfl rfl)
theorem dX10_isEnough_21 : decode cX10_isEnough 21 = .ok (.getfield 122, 3) := dk_180 0 122 (dk_at dksX10_isEnough_0 21 rfl rfl)
theorem dX10_isEnough_24 : decode cX10_isEnough 24 = .ok (.iload_n 3, 1) := dk_29 (dk_at dksX10_isEnough_1 0 rfl rfl)
theorem dX10_isEnough_25 : decode cX10_isEnough 25 = .ok (.iaload, 1) := dk_46 (dk_at dksX10_isEnough_1 1 rfl rfl)
theorem dX10_isEnough_26 : decode cX10_isEnough 26 = .ok (.iadd, 1) := dk_96 (dk_at dksX10_isEnough_1 2 rfl rfl)
theorem dX10_isEnough_27 : decode cX10_isEnough 27 = .ok (.istore_n 2, 1) := dk_61 (dk_at dksX10_isEnough_1 3 rfl rfl)
theorem dX10_isEnough_28 : decode cX10_isEnough 28 = .ok (.iinc 3 1, 3) := dk_132 3 1 (dk_at dksX10_isEnough_1 4 rfl rfl)
theorem dX10_isEnough_31 : decode cX10_isEnough 31 = .ok (.goto (-27), 3) := dk_167 255 229 (dk_at dksX10_isEnough_1 7 rfl rfl)
theorem dX10_isEnough_34 : decode cX10_isEnough 34 = .ok (.iload_n 2, 1) := dk_28 (dk_at dksX10_isEnough_1 10 rfl rfl)
theorem dX10_isEnough_35 : decode cX10_isEnough 35 = .ok (.aload_n 0, 1) := dk_42 (dk_at dksX10_isEnough_1 11 rfl rfl)
theorem dX10_isEnough_36 : decode cX10_isEnough 36 = .ok (.getfield 58, 3) := dk_180 0 58 (dk_at dksX10_isEnough_1 12 rfl rfl)
theorem dX10_isEnough_39 : decode cX10_isEnough 39 = .ok (.aload_n 0, 1) := dk_42 (dk_at dksX10_isEnough_1 15 rfl rfl)
theorem dX10_isEnough_40 : decode cX10_isEnough 40 = .ok (.getfield 245, 3) := dk_180 0 245 (dk_at dksX10_isEnough_1 16 rfl rfl)
theorem dX10_isEnough_43 : decode cX10_isEnough 43 = .ok (.iaload, 1) := dk_46 (dk_at dksX10_isEnough_1 19 rfl rfl)
theorem dX10_isEnough_44 : decode cX10_isEnough 44 = .ok (.if_icmp .lt 7, 3) := dk_161 0 7 (dk_at dksX10_isEnough_1 20 rfl rfl)
theorem dX10_isEnough_47 : decode cX10_isEnough 47 = .ok (.iconst 1, 1) := dk_4 (dk_at dksX10_isEnough_1 23 rfl rfl)
theorem dX10_isEnough_48 : decode cX10_isEnough 48 = .ok (.goto 4, 3) := dk_167 0 4 (dk_at dksX10_isEnough_2 0 rfl rfl)
theorem dX10_isEnough_51 : decode cX10_isEnough 51 = .ok (.iconst 0, 1) := dk_3 (dk_at dksX10_isEnough_2 3 rfl rfl)
theorem dX10_isEnough_52 : decode cX10_isEnough 52 = .ok (.ireturn, 1) := dk_172 (dk_at dksX10_isEnough_2 4 rfl rfl)
def dkwX10_givesCost_0 : List UInt8 := [42, 27, 182, 1, 83, 153, 0, 7, 3, 167, 0, 8, 42, 27, 182, 1, 140, 172]
abbrev dktX10_givesCost_0 : List UInt8 := dkwX10_givesCost_0 ++ []
theorem dksX10_givesCost_0 : cX10_givesCost.data.toList.drop 0 = dktX10_givesCost_0 := by decide +kernel
theorem dX10_givesCost_0 : decode cX10_givesCost 0 = .ok (.aload_n 0, 1) := dk_42 (dk_at dksX10_givesCost_0 0 rfl rfl)
theorem dX10_givesCost_1 : decode cX10_givesCost 1 = .ok (.iload_n 1, 1) := dk_27 (dk_at dksX10_givesCost_0 1 rfl rfl)
theorem dX10_givesCost_2 : decode cX10_givesCost 2 = .ok (.invokevirtual 339, 3) := dk_182 1 83 (dk_at dksX10_givesCost_0 2 rfl rfl)
theorem dX10_givesCost_5 : decode cX10_givesCost 5 = .ok (.ifCond .eq 7, 3) := dk_153 0 7 (dk_at dksX10_givesCost_0 5 rfl rfl)
theorem dX10_givesCost_8 : decode cX10_givesCost 8 = .ok (.iconst 0, 1) := dk_3 (dk_at dksX10_givesCost_0 8 rfl rfl)
theorem dX10_givesCost_9 : decode cX10_givesCost 9 = .ok (.goto 8, 3) := dk_167 0 8 (dk_at dksX10_givesCost_0 9 rfl rfl)
theorem dX10_givesCost_12 : decode cX10_givesCost 12 = .ok (.aload_n 0, 1) := dk_42 (dk_at dksX10_givesCost_0 12 rfl rfl)
theorem dX10_givesCost_13 : decode cX10_givesCost 13 = .ok (.iload_n 1, 1) := dk_27 (dk_at dksX10_givesCost_0 13 rfl rfl)
theorem dX10_givesCost_14 : decode cX10_givesCost 14 = .ok (.invokevirtual 396, 3) := dk_182 1 140 (dk_at dksX10_givesCost_0 14 rfl rfl)
theorem dX10_givesCost_17 : decode cX10_givesCost 17 = .ok (.ireturn, 1) := dk_172 (dk_at dksX10_givesCost_0 17 rfl rfl)
def dkwX10_bits_1 : List UInt8 := [27, 172]
abbrev dktX10_bits_1 : List UInt8 := dkwX10_bits_1 ++ []
def dkwX10_bits_0 : List UInt8 := [3, 60, 3, 61, 28, 16, 6, 162, 0, 17, 27, 26, 28, 122, 4, 126, 96, 60, 132, 2, 1, 167, 255, 239]
abbrev dktX10_bits_0 : List UInt8 := dkwX10_bits_0 ++ dktX10_bits_1
theorem dksX10_bits_0 : cX10_bits.data.toList.drop 0 = dktX10_bits_0 := by decide +kernel
theorem dksX10_bits_1 : cX10_bits.data.toList.drop 24 = dktX10_bits_1 := dk_seg dksX10_bits_0 24 rfl rfl
theorem dX10_bits_0 : decode cX10_bits 0 = .ok (.iconst 0, 1) := dk_3 (dk_at dksX10_bits_0 0 rfl rfl)
theorem dX10_bits_1 : decode cX10_bits 1 = .ok (.istore_n 1, 1) := dk_60 (dk_at dksX10_bits_0 1 rfl rfl)
theorem dX10_bits_2 : decode cX10_bits 2 = .ok (.iconst 0, 1) := dk_3 (dk_at dksX10_bits_0 2 rfl rfl)
theorem dX10_bits_3 : decode cX10_bits 3 = .ok (.istore_n 2, 1) := dk_61 (dk_at dksX10_bits_0 3 rfl rfl)
theorem dX10_bits_4 : decode cX10_bits 4 = .ok (.iload_n 2, 1) := dk_28 (dk_at dksX10_bits_0 4 rfl rfl)
theorem dX10_bits_5 : decode cX10_bits 5 = .ok (.bipush 6, 2) := dk_16 6 (dk_at dksX10_bits_0 5 rfl rfl)
theorem dX10_bits_7 : decode cX10_bits 7 = .ok (.if_icmp .ge 17, 3) := dk_162 0 17 (dk_at dksX10_bits_0 7 rfl rfl)
theorem dX10_bits_10 : decode cX10_bits 10 = .ok (.iload_n 1, 1) := dk_27 (dk_at dksX10_bits_0 10 rfl rfl)
theorem dX10_bits_11 : decode cX10_bits 11 = .ok (.iload_n 0, 1) := dk_26 (dk_at dksX10_bits_0 11 rfl rfl)
theorem dX10_bits_12 : decode cX10_bits 12 = .ok (.iload_n 2, 1) := dk_28 (dk_at dksX10_bits_0 12 rfl rfl)
theorem dX10_bits_13 : decode cX10_bits 13 = .ok (.ishr, 1) := dk_122 (dk_at dksX10_bits_0 13 rfl rfl)
theorem dX10_bits_14 : decode cX10_bits 14 = .ok (.iconst 1, 1) := dk_4 (dk_at dksX10_bits_0 14 rfl rfl)
theorem dX10_bits_15 : decode cX10_bits 15 = .ok (.iand, 1) := dk_126 (dk_at dksX10_bits_0 15 rfl rfl)
theorem dX10_bits_16 : decode cX10_bits 16 = .ok (.iadd, 1) := dk_96 (dk_at dksX10_bits_0 16 rfl rfl)
theorem dX10_bits_17 : decode cX10_bits 17 = .ok (.istore_n 1, 1) := dk_60 (dk_at dksX10_bits_0 17 rfl rfl)
theorem dX10_bits_18 : decode cX10_bits 18 = .ok (.iinc 2 1, 3) := dk_132 2 1 (dk_at dksX10_bits_0 18 rfl rfl)
theorem dX10_bits_21 : decode cX10_bits 21 = .ok (.goto (-17), 3) := dk_167 255 239 (dk_at dksX10_bits_0 21 rfl rfl)
theorem dX10_bits_24 : decode cX10_bits 24 = .ok (.iload_n 1, 1) := dk_27 (dk_at dksX10_bits_1 0 rfl rfl)
theorem dX10_bits_25 : decode cX10_bits 25 = .ok (.ireturn, 1) := dk_172 (dk_at dksX10_bits_1 1 rfl rfl)
def dkwX10_pivots_2 : List UInt8 := [128, 60, 132, 2, 1, 167, 255, 217, 27, 172]
abbrev dktX10_pivots_2 : List UInt8 := dkwX10_pivots_2 ++ []
def dkwX10_pivots_1 : List UInt8 := [162, 0, 32, 42, 42, 182, 1, 217, 4, 28, 120, 2, 130, 126, 182, 1, 211, 154, 0, 9, 27, 4, 28, 120]
abbrev dktX10_pivots_1 : List UInt8 := dkwX10_pivots_1 ++ dktX10_pivots_2
def dkwX10_pivots_0 : List UInt8 := [42, 182, 1, 76, 42, 182, 1, 186, 3, 60, 3, 61, 28, 42, 180, 0, 43, 42, 180, 0, 245, 46]
abbrev dktX10_pivots_0 : List UInt8 := dkwX10_pivots_0 ++ dktX10_pivots_1
theorem dksX10_pivots_0 : cX10_pivots.data.toList.drop 0 = dktX10_pivots_0 := by decide +kernel
theorem dksX10_pivots_1 : cX10_pivots.data.toList.drop 22 = dktX10_pivots_1 := dk_seg dksX10_pivots_0 22 rfl rfl
theorem dksX10_pivots_2 : cX10_pivots.data.toList.drop 46 = dktX10_pivots_2 := dk_seg dksX10_pivots_1 24 rfl rfl
theorem dX10_pivots_0 : decode cX10_pivots 0 = .ok (.aload_n 0, 1) := dk_42 (dk_at dksX10_pivots_0 0 rfl rfl)
theorem dX10_pivots_1 : decode cX10_pivots 1 = .ok (.invokevirtual 332, 3) := dk_182 1 76 (dk_at dksX10_pivots_0 1 rfl rfl)
theorem dX10_pivots_4 : decode cX10_pivots 4 = .ok (.aload_n 0, 1) := dk_42 (dk_at dksX10_pivots_0 4 rfl rfl)
theorem dX10_pivots_5 : decode cX10_pivots 5 = .ok (.invokevirtual 442, 3) := dk_182 1 186 (dk_at dksX10_pivots_0 5 rfl rfl)
theorem dX10_pivots_8 : decode cX10_pivots 8 = .ok (.iconst 0, 1) := dk_3 (dk_at dksX10_pivots_0 8 rfl rfl)
theorem dX10_pivots_9 : decode cX10_pivots 9 = .ok (.istore_n 1, 1) := dk_60 (dk_at dksX10_pivots_0 9 rfl rfl)
theorem dX10_pivots_10 : decode cX10_pivots 10 = .ok (.iconst 0, 1) := dk_3 (dk_at dksX10_pivots_0 10 rfl rfl)
theorem dX10_pivots_11 : decode cX10_pivots 11 = .ok (.istore_n 2, 1) := dk_61 (dk_at dksX10_pivots_0 11 rfl rfl)
theorem dX10_pivots_12 : decode cX10_pivots 12 = .ok (.iload_n 2, 1) := dk_28 (dk_at dksX10_pivots_0 12 rfl rfl)
theorem dX10_pivots_13 : decode cX10_pivots 13 = .ok (.aload_n 0, 1) := dk_42 (dk_at dksX10_pivots_0 13 rfl rfl)
theorem dX10_pivots_14 : decode cX10_pivots 14 = .ok (.getfield 43, 3) := dk_180 0 43 (dk_at dksX10_pivots_0 14 rfl rfl)
theorem dX10_pivots_17 : decode cX10_pivots 17 = .ok (.aload_n 0, 1) := dk_42 (dk_at dksX10_pivots_0 17 rfl rfl)
theorem dX10_pivots_18 : decode cX10_pivots 18 = .ok (.getfield 245, 3) := dk_180 0 245 (dk_at dksX10_pivots_0 18 rfl rfl)
theorem dX10_pivots_21 : decode cX10_pivots 21 = .ok (.iaload, 1) := dk_46 (dk_at dksX10_pivots_0 21 rfl rfl)
theorem dX10_pivots_22 : decode cX10_pivots 22 = .ok (.if_icmp .ge 32, 3) := dk_162 0 32 (dk_at dksX10_pivots_1 0 rfl rfl)
theorem dX10_pivots_25 : decode cX10_pivots 25 = .ok (.aload_n 0, 1) := dk_42 (dk_at dksX10_pivots_1 3 rfl rfl)
theorem dX10_pivots_26 : decode cX10_pivots 26 = .ok (.aload_n 0, 1) := dk_42 (dk_at dksX10_pivots_1 4 rfl rfl)
theorem dX10_pivots_27 : decode cX10_pivots 27 = .ok (.invokevirtual 473, 3) := dk_182 1 217 (dk_at dksX10_pivots_1 5 rfl rfl)
theorem dX10_pivots_30 : decode cX10_pivots 30 = .ok (.iconst 1, 1) := dk_4 (dk_at dksX10_pivots_1 8 rfl rfl)
theorem dX10_pivots_31 : decode cX10_pivots 31 = .ok (.iload_n 2, 1) := dk_28 (dk_at dksX10_pivots_1 9 rfl rfl)
theorem dX10_pivots_32 : decode cX10_pivots 32 = .ok (.ishl, 1) := dk_120 (dk_at dksX10_pivots_1 10 rfl rfl)
theorem dX10_pivots_33 : decode cX10_pivots 33 = .ok (.iconst (-1), 1) := dk_2 (dk_at dksX10_pivots_1 11 rfl rfl)
theorem dX10_pivots_34 : decode cX10_pivots 34 = .ok (.ixor, 1) := dk_130 (dk_at dksX10_pivots_1 12 rfl rfl)
theorem dX10_pivots_35 : decode cX10_pivots 35 = .ok (.iand, 1) := dk_126 (dk_at dksX10_pivots_1 13 rfl rfl)
theorem dX10_pivots_36 : decode cX10_pivots 36 = .ok (.invokevirtual 467, 3) := dk_182 1 211 (dk_at dksX10_pivots_1 14 rfl rfl)
theorem dX10_pivots_39 : decode cX10_pivots 39 = .ok (.ifCond .ne 9, 3) := dk_154 0 9 (dk_at dksX10_pivots_1 17 rfl rfl)
theorem dX10_pivots_42 : decode cX10_pivots 42 = .ok (.iload_n 1, 1) := dk_27 (dk_at dksX10_pivots_1 20 rfl rfl)
theorem dX10_pivots_43 : decode cX10_pivots 43 = .ok (.iconst 1, 1) := dk_4 (dk_at dksX10_pivots_1 21 rfl rfl)
theorem dX10_pivots_44 : decode cX10_pivots 44 = .ok (.iload_n 2, 1) := dk_28 (dk_at dksX10_pivots_1 22 rfl rfl)
theorem dX10_pivots_45 : decode cX10_pivots 45 = .ok (.ishl, 1) := dk_120 (dk_at dksX10_pivots_1 23 rfl rfl)
theorem dX10_pivots_46 : decode cX10_pivots 46 = .ok (.ior, 1) := dk_128 (dk_at dksX10_pivots_2 0 rfl rfl)
theorem dX10_pivots_47 : decode cX10_pivots 47 = .ok (.istore_n 1, 1) := dk_60 (dk_at dksX10_pivots_2 1 rfl rfl)
theorem dX10_pivots_48 : decode cX10_pivots 48 = .ok (.iinc 2 1, 3) := dk_132 2 1 (dk_at dksX10_pivots_2 2 rfl rfl)
theorem dX10_pivots_51 : decode cX10_pivots 51 = .ok (.goto (-39), 3) := dk_167 255 217 (dk_at dksX10_pivots_2 5 rfl rfl)
theorem dX10_pivots_54 : decode cX10_pivots 54 = .ok (.iload_n 1, 1) := dk_27 (dk_at dksX10_pivots_2 8 rfl rfl)
theorem dX10_pivots_55 : decode cX10_pivots 55 = .ok (.ireturn, 1) := dk_172 (dk_at dksX10_pivots_2 9 rfl rfl)
def dkwX10_harvest_3 : List UInt8 := [54, 5, 132, 6, 1, 167, 255, 219, 29, 154, 0, 8, 21, 4, 167, 0, 5, 21, 5, 172]
abbrev dktX10_harvest_3 : List UInt8 := dkwX10_harvest_3 ++ []
def dkwX10_harvest_2 : List UInt8 := [21, 6, 182, 1, 229, 54, 7, 21, 7, 21, 5, 163, 0, 6, 167, 0, 11, 21, 6, 54, 4, 21, 7]
abbrev dktX10_harvest_2 : List UInt8 := dkwX10_harvest_2 ++ dktX10_harvest_3
def dkwX10_harvest_1 : List UInt8 := [154, 0, 5, 2, 172, 3, 54, 4, 2, 54, 5, 4, 54, 6, 21, 6, 28, 163, 0, 37, 42, 27, 28]
abbrev dktX10_harvest_1 : List UInt8 := dkwX10_harvest_1 ++ dktX10_harvest_2
def dkwX10_harvest_0 : List UInt8 := [42, 27, 182, 1, 137, 153, 0, 22, 28, 4, 16, 60, 184, 1, 66, 153, 0, 12, 29, 3, 4, 184, 1, 66]
abbrev dktX10_harvest_0 : List UInt8 := dkwX10_harvest_0 ++ dktX10_harvest_1
theorem dksX10_harvest_0 : cX10_harvest.data.toList.drop 0 = dktX10_harvest_0 := by decide +kernel
theorem dksX10_harvest_1 : cX10_harvest.data.toList.drop 24 = dktX10_harvest_1 := dk_seg dksX10_harvest_0 24 rfl rfl
theorem dksX10_harvest_2 : cX10_harvest.data.toList.drop 47 = dktX10_harvest_2 := dk_seg dksX10_harvest_1 23 rfl rfl
theorem dksX10_harvest_3 : cX10_harvest.data.toList.drop 70 = dktX10_harvest_3 := dk_seg dksX10_harvest_2 23 rfl rfl
theorem dX10_harvest_0 : decode cX10_harvest 0 = .ok (.aload_n 0, 1) := dk_42 (dk_at dksX10_harvest_0 0 rfl rfl)
theorem dX10_harvest_1 : decode cX10_harvest 1 = .ok (.iload_n 1, 1) := dk_27 (dk_at dksX10_harvest_0 1 rfl rfl)
theorem dX10_harvest_2 : decode cX10_harvest 2 = .ok (.invokevirtual 393, 3) := dk_182 1 137 (dk_at dksX10_harvest_0 2 rfl rfl)
theorem dX10_harvest_5 : decode cX10_harvest 5 = .ok (.ifCond .eq 22, 3) := dk_153 0 22 (dk_at dksX10_harvest_0 5 rfl rfl)
theorem dX10_harvest_8 : decode cX10_harvest 8 = .ok (.iload_n 2, 1) := dk_28 (dk_at dksX10_harvest_0 8 rfl rfl)
theorem dX10_harvest_9 : decode cX10_harvest 9 = .ok (.iconst 1, 1) := dk_4 (dk_at dksX10_harvest_0 9 rfl rfl)
theorem dX10_harvest_10 : decode cX10_harvest 10 = .ok (.bipush 60, 2) := dk_16 60 (dk_at dksX10_harvest_0 10 rfl rfl)
theorem dX10_harvest_12 : decode cX10_harvest 12 = .ok (.invokestatic 322, 3) := dk_184 1 66 (dk_at dksX10_harvest_0 12 rfl rfl)
theorem dX10_harvest_15 : decode cX10_harvest 15 = .ok (.ifCond .eq 12, 3) := dk_153 0 12 (dk_at dksX10_harvest_0 15 rfl rfl)
theorem dX10_harvest_18 : decode cX10_harvest 18 = .ok (.iload_n 3, 1) := dk_29 (dk_at dksX10_harvest_0 18 rfl rfl)
theorem dX10_harvest_19 : decode cX10_harvest 19 = .ok (.iconst 0, 1) := dk_3 (dk_at dksX10_harvest_0 19 rfl rfl)
theorem dX10_harvest_20 : decode cX10_harvest 20 = .ok (.iconst 1, 1) := dk_4 (dk_at dksX10_harvest_0 20 rfl rfl)
theorem dX10_harvest_21 : decode cX10_harvest 21 = .ok (.invokestatic 322, 3) := dk_184 1 66 (dk_at dksX10_harvest_0 21 rfl rfl)
theorem dX10_harvest_24 : decode cX10_harvest 24 = .ok (.ifCond .ne 5, 3) := dk_154 0 5 (dk_at dksX10_harvest_1 0 rfl rfl)
theorem dX10_harvest_27 : decode cX10_harvest 27 = .ok (.iconst (-1), 1) := dk_2 (dk_at dksX10_harvest_1 3 rfl rfl)
theorem dX10_harvest_28 : decode cX10_harvest 28 = .ok (.ireturn, 1) := dk_172 (dk_at dksX10_harvest_1 4 rfl rfl)
theorem dX10_harvest_29 : decode cX10_harvest 29 = .ok (.iconst 0, 1) := dk_3 (dk_at dksX10_harvest_1 5 rfl rfl)
theorem dX10_harvest_30 : decode cX10_harvest 30 = .ok (.istore 4, 2) := dk_54 4 (dk_at dksX10_harvest_1 6 rfl rfl)
theorem dX10_harvest_32 : decode cX10_harvest 32 = .ok (.iconst (-1), 1) := dk_2 (dk_at dksX10_harvest_1 8 rfl rfl)
theorem dX10_harvest_33 : decode cX10_harvest 33 = .ok (.istore 5, 2) := dk_54 5 (dk_at dksX10_harvest_1 9 rfl rfl)
theorem dX10_harvest_35 : decode cX10_harvest 35 = .ok (.iconst 1, 1) := dk_4 (dk_at dksX10_harvest_1 11 rfl rfl)
theorem dX10_harvest_36 : decode cX10_harvest 36 = .ok (.istore 6, 2) := dk_54 6 (dk_at dksX10_harvest_1 12 rfl rfl)
theorem dX10_harvest_38 : decode cX10_harvest 38 = .ok (.iload 6, 2) := dk_21 6 (dk_at dksX10_harvest_1 14 rfl rfl)
theorem dX10_harvest_40 : decode cX10_harvest 40 = .ok (.iload_n 2, 1) := dk_28 (dk_at dksX10_harvest_1 16 rfl rfl)
theorem dX10_harvest_41 : decode cX10_harvest 41 = .ok (.if_icmp .gt 37, 3) := dk_163 0 37 (dk_at dksX10_harvest_1 17 rfl rfl)
theorem dX10_harvest_44 : decode cX10_harvest 44 = .ok (.aload_n 0, 1) := dk_42 (dk_at dksX10_harvest_1 20 rfl rfl)
theorem dX10_harvest_45 : decode cX10_harvest 45 = .ok (.iload_n 1, 1) := dk_27 (dk_at dksX10_harvest_1 21 rfl rfl)
theorem dX10_harvest_46 : decode cX10_harvest 46 = .ok (.iload_n 2, 1) := dk_28 (dk_at dksX10_harvest_1 22 rfl rfl)
theorem dX10_harvest_47 : decode cX10_harvest 47 = .ok (.iload 6, 2) := dk_21 6 (dk_at dksX10_harvest_2 0 rfl rfl)
theorem dX10_harvest_49 : decode cX10_harvest 49 = .ok (.invokevirtual 485, 3) := dk_182 1 229 (dk_at dksX10_harvest_2 2 rfl rfl)
theorem dX10_harvest_52 : decode cX10_harvest 52 = .ok (.istore 7, 2) := dk_54 7 (dk_at dksX10_harvest_2 5 rfl rfl)
theorem dX10_harvest_54 : decode cX10_harvest 54 = .ok (.iload 7, 2) := dk_21 7 (dk_at dksX10_harvest_2 7 rfl rfl)
theorem dX10_harvest_56 : decode cX10_harvest 56 = .ok (.iload 5, 2) := dk_21 5 (dk_at dksX10_harvest_2 9 rfl rfl)
theorem dX10_harvest_58 : decode cX10_harvest 58 = .ok (.if_icmp .gt 6, 3) := dk_163 0 6 (dk_at dksX10_harvest_2 11 rfl rfl)
theorem dX10_harvest_61 : decode cX10_harvest 61 = .ok (.goto 11, 3) := dk_167 0 11 (dk_at dksX10_harvest_2 14 rfl rfl)
theorem dX10_harvest_64 : decode cX10_harvest 64 = .ok (.iload 6, 2) := dk_21 6 (dk_at dksX10_harvest_2 17 rfl rfl)
theorem dX10_harvest_66 : decode cX10_harvest 66 = .ok (.istore 4, 2) := dk_54 4 (dk_at dksX10_harvest_2 19 rfl rfl)
theorem dX10_harvest_68 : decode cX10_harvest 68 = .ok (.iload 7, 2) := dk_21 7 (dk_at dksX10_harvest_2 21 rfl rfl)
theorem dX10_harvest_70 : decode cX10_harvest 70 = .ok (.istore 5, 2) := dk_54 5 (dk_at dksX10_harvest_3 0 rfl rfl)
theorem dX10_harvest_72 : decode cX10_harvest 72 = .ok (.iinc 6 1, 3) := dk_132 6 1 (dk_at dksX10_harvest_3 2 rfl rfl)
theorem dX10_harvest_75 : decode cX10_harvest 75 = .ok (.goto (-37), 3) := dk_167 255 219 (dk_at dksX10_harvest_3 5 rfl rfl)
theorem dX10_harvest_78 : decode cX10_harvest 78 = .ok (.iload_n 3, 1) := dk_29 (dk_at dksX10_harvest_3 8 rfl rfl)
theorem dX10_harvest_79 : decode cX10_harvest 79 = .ok (.ifCond .ne 8, 3) := dk_154 0 8 (dk_at dksX10_harvest_3 9 rfl rfl)
theorem dX10_harvest_82 : decode cX10_harvest 82 = .ok (.iload 4, 2) := dk_21 4 (dk_at dksX10_harvest_3 12 rfl rfl)
theorem dX10_harvest_84 : decode cX10_harvest 84 = .ok (.goto 5, 3) := dk_167 0 5 (dk_at dksX10_harvest_3 14 rfl rfl)
theorem dX10_harvest_87 : decode cX10_harvest 87 = .ok (.iload 5, 2) := dk_21 5 (dk_at dksX10_harvest_3 17 rfl rfl)
theorem dX10_harvest_89 : decode cX10_harvest 89 = .ok (.ireturn, 1) := dk_172 (dk_at dksX10_harvest_3 19 rfl rfl)
def dkwX10_harvestOf_2 : List UInt8 := [180, 0, 110, 27, 3, 79, 132, 5, 1, 167, 255, 209, 21, 4, 172]
abbrev dktX10_harvestOf_2 : List UInt8 := dkwX10_harvestOf_2 ++ []
def dkwX10_harvestOf_1 : List UInt8 := [158, 0, 12, 21, 5, 28, 162, 0, 6, 167, 0, 21, 21, 4, 42, 180, 0, 110, 27, 46, 96, 54, 4, 42]
abbrev dktX10_harvestOf_1 : List UInt8 := dkwX10_harvestOf_1 ++ dktX10_harvestOf_2
def dkwX10_harvestOf_0 : List UInt8 := [42, 182, 1, 174, 3, 54, 4, 4, 54, 5, 21, 5, 28, 163, 0, 47, 42, 182, 1, 134, 21, 5, 29, 112]
abbrev dktX10_harvestOf_0 : List UInt8 := dkwX10_harvestOf_0 ++ dktX10_harvestOf_1
theorem dksX10_harvestOf_0 : cX10_harvestOf.data.toList.drop 0 = dktX10_harvestOf_0 := by decide +kernel
theorem dksX10_harvestOf_1 : cX10_harvestOf.data.toList.drop 24 = dktX10_harvestOf_1 := dk_seg dksX10_harvestOf_0 24 rfl rfl
theorem dksX10_harvestOf_2 : cX10_harvestOf.data.toList.drop 48 = dktX10_harvestOf_2 := dk_seg dksX10_harvestOf_1 24 rfl rfl
theorem dX10_harvestOf_0 : decode cX10_harvestOf 0 = .ok (.aload_n 0, 1) := dk_42 (dk_at dksX10_harvestOf_0 0 rfl rfl)
theorem dX10_harvestOf_1 : decode cX10_harvestOf 1 = .ok (.invokevirtual 430, 3) := dk_182 1 174 (dk_at dksX10_harvestOf_0 1 rfl rfl)
theorem dX10_harvestOf_4 : decode cX10_harvestOf 4 = .ok (.iconst 0, 1) := dk_3 (dk_at dksX10_harvestOf_0 4 rfl rfl)
theorem dX10_harvestOf_5 : decode cX10_harvestOf 5 = .ok (.istore 4, 2) := dk_54 4 (dk_at dksX10_harvestOf_0 5 rfl rfl)
theorem dX10_harvestOf_7 : decode cX10_harvestOf 7 = .ok (.iconst 1, 1) := dk_4 (dk_at dksX10_harvestOf_0 7 rfl rfl)
theorem dX10_harvestOf_8 : decode cX10_harvestOf 8 = .ok (.istore 5, 2) := dk_54 5 (dk_at dksX10_harvestOf_0 8 rfl rfl)
theorem dX10_harvestOf_10 : decode cX10_harvestOf 10 = .ok (.iload 5, 2) := dk_21 5 (dk_at dksX10_harvestOf_0 10 rfl rfl)
theorem dX10_harvestOf_12 : decode cX10_harvestOf 12 = .ok (.iload_n 2, 1) := dk_28 (dk_at dksX10_harvestOf_0 12 rfl rfl)
theorem dX10_harvestOf_13 : decode cX10_harvestOf 13 = .ok (.if_icmp .gt 47, 3) := dk_163 0 47 (dk_at dksX10_harvestOf_0 13 rfl rfl)
theorem dX10_harvestOf_16 : decode cX10_harvestOf 16 = .ok (.aload_n 0, 1) := dk_42 (dk_at dksX10_harvestOf_0 16 rfl rfl)
theorem dX10_harvestOf_17 : decode cX10_harvestOf 17 = .ok (.invokevirtual 390, 3) := dk_182 1 134 (dk_at dksX10_harvestOf_0 17 rfl rfl)
theorem dX10_harvestOf_20 : decode cX10_harvestOf 20 = .ok (.iload 5, 2) := dk_21 5 (dk_at dksX10_harvestOf_0 20 rfl rfl)
theorem dX10_harvestOf_22 : decode cX10_harvestOf 22 = .ok (.iload_n 3, 1) := dk_29 (dk_at dksX10_harvestOf_0 22 rfl rfl)
theorem dX10_harvestOf_23 : decode cX10_harvestOf 23 = .ok (.irem, 1) := dk_112 (dk_at dksX10_harvestOf_0 23 rfl rfl)
theorem dX10_harvestOf_24 : decode cX10_harvestOf 24 = .ok (.ifCond .le 12, 3) := dk_158 0 12 (dk_at dksX10_harvestOf_1 0 rfl rfl)
theorem dX10_harvestOf_27 : decode cX10_harvestOf 27 = .ok (.iload 5, 2) := dk_21 5 (dk_at dksX10_harvestOf_1 3 rfl rfl)
theorem dX10_harvestOf_29 : decode cX10_harvestOf 29 = .ok (.iload_n 2, 1) := dk_28 (dk_at dksX10_harvestOf_1 5 rfl rfl)
theorem dX10_harvestOf_30 : decode cX10_harvestOf 30 = .ok (.if_icmp .ge 6, 3) := dk_162 0 6 (dk_at dksX10_harvestOf_1 6 rfl rfl)
theorem dX10_harvestOf_33 : decode cX10_harvestOf 33 = .ok (.goto 21, 3) := dk_167 0 21 (dk_at dksX10_harvestOf_1 9 rfl rfl)
theorem dX10_harvestOf_36 : decode cX10_harvestOf 36 = .ok (.iload 4, 2) := dk_21 4 (dk_at dksX10_harvestOf_1 12 rfl rfl)
theorem dX10_harvestOf_38 : decode cX10_harvestOf 38 = .ok (.aload_n 0, 1) := dk_42 (dk_at dksX10_harvestOf_1 14 rfl rfl)
theorem dX10_harvestOf_39 : decode cX10_harvestOf 39 = .ok (.getfield 110, 3) := dk_180 0 110 (dk_at dksX10_harvestOf_1 15 rfl rfl)
theorem dX10_harvestOf_42 : decode cX10_harvestOf 42 = .ok (.iload_n 1, 1) := dk_27 (dk_at dksX10_harvestOf_1 18 rfl rfl)
theorem dX10_harvestOf_43 : decode cX10_harvestOf 43 = .ok (.iaload, 1) := dk_46 (dk_at dksX10_harvestOf_1 19 rfl rfl)
theorem dX10_harvestOf_44 : decode cX10_harvestOf 44 = .ok (.iadd, 1) := dk_96 (dk_at dksX10_harvestOf_1 20 rfl rfl)
theorem dX10_harvestOf_45 : decode cX10_harvestOf 45 = .ok (.istore 4, 2) := dk_54 4 (dk_at dksX10_harvestOf_1 21 rfl rfl)
theorem dX10_harvestOf_47 : decode cX10_harvestOf 47 = .ok (.aload_n 0, 1) := dk_42 (dk_at dksX10_harvestOf_1 23 rfl rfl)
theorem dX10_harvestOf_48 : decode cX10_harvestOf 48 = .ok (.getfield 110, 3) := dk_180 0 110 (dk_at dksX10_harvestOf_2 0 rfl rfl)
theorem dX10_harvestOf_51 : decode cX10_harvestOf 51 = .ok (.iload_n 1, 1) := dk_27 (dk_at dksX10_harvestOf_2 3 rfl rfl)
theorem dX10_harvestOf_52 : decode cX10_harvestOf 52 = .ok (.iconst 0, 1) := dk_3 (dk_at dksX10_harvestOf_2 4 rfl rfl)
theorem dX10_harvestOf_53 : decode cX10_harvestOf 53 = .ok (.iastore, 1) := dk_79 (dk_at dksX10_harvestOf_2 5 rfl rfl)
theorem dX10_harvestOf_54 : decode cX10_harvestOf 54 = .ok (.iinc 5 1, 3) := dk_132 5 1 (dk_at dksX10_harvestOf_2 6 rfl rfl)
theorem dX10_harvestOf_57 : decode cX10_harvestOf 57 = .ok (.goto (-47), 3) := dk_167 255 209 (dk_at dksX10_harvestOf_2 9 rfl rfl)
theorem dX10_harvestOf_60 : decode cX10_harvestOf 60 = .ok (.iload 4, 2) := dk_21 4 (dk_at dksX10_harvestOf_2 12 rfl rfl)
theorem dX10_harvestOf_62 : decode cX10_harvestOf 62 = .ok (.ireturn, 1) := dk_172 (dk_at dksX10_harvestOf_2 14 rfl rfl)
def dkwX10_then_2 : List UInt8 := [42, 180, 0, 110, 16, 12, 27, 96, 46, 172]
abbrev dktX10_then_2 : List UInt8 := dkwX10_then_2 ++ []
def dkwX10_then_1 : List UInt8 := [2, 172, 42, 182, 1, 76, 42, 28, 182, 1, 165, 29, 154, 0, 12, 42, 180, 0, 110, 27, 46, 167, 0, 12]
abbrev dktX10_then_1 : List UInt8 := dkwX10_then_1 ++ dktX10_then_2
def dkwX10_then_0 : List UInt8 := [42, 27, 182, 1, 137, 153, 0, 19, 28, 184, 1, 162, 153, 0, 12, 29, 3, 4, 184, 1, 66, 154, 0, 5]
abbrev dktX10_then_0 : List UInt8 := dkwX10_then_0 ++ dktX10_then_1
theorem dksX10_then_0 : cX10_then.data.toList.drop 0 = dktX10_then_0 := by decide +kernel
theorem dksX10_then_1 : cX10_then.data.toList.drop 24 = dktX10_then_1 := dk_seg dksX10_then_0 24 rfl rfl
theorem dksX10_then_2 : cX10_then.data.toList.drop 48 = dktX10_then_2 := dk_seg dksX10_then_1 24 rfl rfl
theorem dX10_then_0 : decode cX10_then 0 = .ok (.aload_n 0, 1) := dk_42 (dk_at dksX10_then_0 0 rfl rfl)
theorem dX10_then_1 : decode cX10_then 1 = .ok (.iload_n 1, 1) := dk_27 (dk_at dksX10_then_0 1 rfl rfl)
theorem dX10_then_2 : decode cX10_then 2 = .ok (.invokevirtual 393, 3) := dk_182 1 137 (dk_at dksX10_then_0 2 rfl rfl)
theorem dX10_then_5 : decode cX10_then 5 = .ok (.ifCond .eq 19, 3) := dk_153 0 19 (dk_at dksX10_then_0 5 rfl rfl)
theorem dX10_then_8 : decode cX10_then 8 = .ok (.iload_n 2, 1) := dk_28 (dk_at dksX10_then_0 8 rfl rfl)
theorem dX10_then_9 : decode cX10_then 9 = .ok (.invokestatic 418, 3) := dk_184 1 162 (dk_at dksX10_then_0 9 rfl rfl)
theorem dX10_then_12 : decode cX10_then 12 = .ok (.ifCond .eq 12, 3) := dk_153 0 12 (dk_at dksX10_then_0 12 rfl rfl)
theorem dX10_then_15 : decode cX10_then 15 = .ok (.iload_n 3, 1) := dk_29 (dk_at dksX10_then_0 15 rfl rfl)
theorem dX10_then_16 : decode cX10_then 16 = .ok (.iconst 0, 1) := dk_3 (dk_at dksX10_then_0 16 rfl rfl)
theorem dX10_then_17 : decode cX10_then 17 = .ok (.iconst 1, 1) := dk_4 (dk_at dksX10_then_0 17 rfl rfl)
theorem dX10_then_18 : decode cX10_then 18 = .ok (.invokestatic 322, 3) := dk_184 1 66 (dk_at dksX10_then_0 18 rfl rfl)
theorem dX10_then_21 : decode cX10_then 21 = .ok (.ifCond .ne 5, 3) := dk_154 0 5 (dk_at dksX10_then_0 21 rfl rfl)
theorem dX10_then_24 : decode cX10_then 24 = .ok (.iconst (-1), 1) := dk_2 (dk_at dksX10_then_1 0 rfl rfl)
theorem dX10_then_25 : decode cX10_then 25 = .ok (.ireturn, 1) := dk_172 (dk_at dksX10_then_1 1 rfl rfl)
theorem dX10_then_26 : decode cX10_then 26 = .ok (.aload_n 0, 1) := dk_42 (dk_at dksX10_then_1 2 rfl rfl)
theorem dX10_then_27 : decode cX10_then 27 = .ok (.invokevirtual 332, 3) := dk_182 1 76 (dk_at dksX10_then_1 3 rfl rfl)
theorem dX10_then_30 : decode cX10_then 30 = .ok (.aload_n 0, 1) := dk_42 (dk_at dksX10_then_1 6 rfl rfl)
theorem dX10_then_31 : decode cX10_then 31 = .ok (.iload_n 2, 1) := dk_28 (dk_at dksX10_then_1 7 rfl rfl)
theorem dX10_then_32 : decode cX10_then 32 = .ok (.invokevirtual 421, 3) := dk_182 1 165 (dk_at dksX10_then_1 8 rfl rfl)
theorem dX10_then_35 : decode cX10_then 35 = .ok (.iload_n 3, 1) := dk_29 (dk_at dksX10_then_1 11 rfl rfl)
theorem dX10_then_36 : decode cX10_then 36 = .ok (.ifCond .ne 12, 3) := dk_154 0 12 (dk_at dksX10_then_1 12 rfl rfl)
theorem dX10_then_39 : decode cX10_then 39 = .ok (.aload_n 0, 1) := dk_42 (dk_at dksX10_then_1 15 rfl rfl)
theorem dX10_then_40 : decode cX10_then 40 = .ok (.getfield 110, 3) := dk_180 0 110 (dk_at dksX10_then_1 16 rfl rfl)
theorem dX10_then_43 : decode cX10_then 43 = .ok (.iload_n 1, 1) := dk_27 (dk_at dksX10_then_1 19 rfl rfl)
theorem dX10_then_44 : decode cX10_then 44 = .ok (.iaload, 1) := dk_46 (dk_at dksX10_then_1 20 rfl rfl)
theorem dX10_then_45 : decode cX10_then 45 = .ok (.goto 12, 3) := dk_167 0 12 (dk_at dksX10_then_1 21 rfl rfl)
theorem dX10_then_48 : decode cX10_then 48 = .ok (.aload_n 0, 1) := dk_42 (dk_at dksX10_then_2 0 rfl rfl)
theorem dX10_then_49 : decode cX10_then 49 = .ok (.getfield 110, 3) := dk_180 0 110 (dk_at dksX10_then_2 1 rfl rfl)
theorem dX10_then_52 : decode cX10_then 52 = .ok (.bipush 12, 2) := dk_16 12 (dk_at dksX10_then_2 4 rfl rfl)
theorem dX10_then_54 : decode cX10_then 54 = .ok (.iload_n 1, 1) := dk_27 (dk_at dksX10_then_2 6 rfl rfl)
theorem dX10_then_55 : decode cX10_then 55 = .ok (.iadd, 1) := dk_96 (dk_at dksX10_then_2 7 rfl rfl)
theorem dX10_then_56 : decode cX10_then 56 = .ok (.iaload, 1) := dk_46 (dk_at dksX10_then_2 8 rfl rfl)
theorem dX10_then_57 : decode cX10_then 57 = .ok (.ireturn, 1) := dk_172 (dk_at dksX10_then_2 9 rfl rfl)
def dkwX10_year_3 : List UInt8 := [27, 46, 28, 161, 0, 6, 132, 5, 1, 132, 6, 1, 167, 255, 213, 21, 5, 172]
abbrev dktX10_year_3 : List UInt8 := dkwX10_year_3 ++ []
def dkwX10_year_2 : List UInt8 := [42, 182, 1, 76, 42, 89, 180, 1, 70, 21, 6, 96, 181, 1, 70, 42, 29, 182, 1, 165, 42, 180, 0, 110]
abbrev dktX10_year_2 : List UInt8 := dkwX10_year_2 ++ dktX10_year_3
def dkwX10_year_1 : List UInt8 := [4, 16, 20, 184, 1, 66, 154, 0, 5, 2, 172, 3, 54, 5, 3, 54, 6, 21, 6, 21, 4, 162, 0, 42]
abbrev dktX10_year_1 : List UInt8 := dkwX10_year_1 ++ dktX10_year_2
def dkwX10_year_0 : List UInt8 := [42, 27, 182, 1, 137, 153, 0, 28, 28, 184, 1, 232, 153, 0, 21, 29, 184, 1, 162, 153, 0, 14, 21, 4]
abbrev dktX10_year_0 : List UInt8 := dkwX10_year_0 ++ dktX10_year_1
theorem dksX10_year_0 : cX10_year.data.toList.drop 0 = dktX10_year_0 := by decide +kernel
theorem dksX10_year_1 : cX10_year.data.toList.drop 24 = dktX10_year_1 := dk_seg dksX10_year_0 24 rfl rfl
theorem dksX10_year_2 : cX10_year.data.toList.drop 48 = dktX10_year_2 := dk_seg dksX10_year_1 24 rfl rfl
theorem dksX10_year_3 : cX10_year.data.toList.drop 72 = dktX10_year_3 := dk_seg dksX10_year_2 24 rfl rfl
theorem dX10_year_0 : decode cX10_year 0 = .ok (.aload_n 0, 1) := dk_42 (dk_at dksX10_year_0 0 rfl rfl)
theorem dX10_year_1 : decode cX10_year 1 = .ok (.iload_n 1, 1) := dk_27 (dk_at dksX10_year_0 1 rfl rfl)
theorem dX10_year_2 : decode cX10_year 2 = .ok (.invokevirtual 393, 3) := dk_182 1 137 (dk_at dksX10_year_0 2 rfl rfl)
theorem dX10_year_5 : decode cX10_year 5 = .ok (.ifCond .eq 28, 3) := dk_153 0 28 (dk_at dksX10_year_0 5 rfl rfl)
theorem dX10_year_8 : decode cX10_year 8 = .ok (.iload_n 2, 1) := dk_28 (dk_at dksX10_year_0 8 rfl rfl)
theorem dX10_year_9 : decode cX10_year 9 = .ok (.invokestatic 488, 3) := dk_184 1 232 (dk_at dksX10_year_0 9 rfl rfl)
theorem dX10_year_12 : decode cX10_year 12 = .ok (.ifCond .eq 21, 3) := dk_153 0 21 (dk_at dksX10_year_0 12 rfl rfl)
theorem dX10_year_15 : decode cX10_year 15 = .ok (.iload_n 3, 1) := dk_29 (dk_at dksX10_year_0 15 rfl rfl)
theorem dX10_year_16 : decode cX10_year 16 = .ok (.invokestatic 418, 3) := dk_184 1 162 (dk_at dksX10_year_0 16 rfl rfl)
theorem dX10_year_19 : decode cX10_year 19 = .ok (.ifCond .eq 14, 3) := dk_153 0 14 (dk_at dksX10_year_0 19 rfl rfl)
theorem dX10_year_22 : decode cX10_year 22 = .ok (.iload 4, 2) := dk_21 4 (dk_at dksX10_year_0 22 rfl rfl)
theorem dX10_year_24 : decode cX10_year 24 = .ok (.iconst 1, 1) := dk_4 (dk_at dksX10_year_1 0 rfl rfl)
theorem dX10_year_25 : decode cX10_year 25 = .ok (.bipush 20, 2) := dk_16 20 (dk_at dksX10_year_1 1 rfl rfl)
theorem dX10_year_27 : decode cX10_year 27 = .ok (.invokestatic 322, 3) := dk_184 1 66 (dk_at dksX10_year_1 3 rfl rfl)
theorem dX10_year_30 : decode cX10_year 30 = .ok (.ifCond .ne 5, 3) := dk_154 0 5 (dk_at dksX10_year_1 6 rfl rfl)
theorem dX10_year_33 : decode cX10_year 33 = .ok (.iconst (-1), 1) := dk_2 (dk_at dksX10_year_1 9 rfl rfl)
theorem dX10_year_34 : decode cX10_year 34 = .ok (.ireturn, 1) := dk_172 (dk_at dksX10_year_1 10 rfl rfl)
theorem dX10_year_35 : decode cX10_year 35 = .ok (.iconst 0, 1) := dk_3 (dk_at dksX10_year_1 11 rfl rfl)
theorem dX10_year_36 : decode cX10_year 36 = .ok (.istore 5, 2) := dk_54 5 (dk_at dksX10_year_1 12 rfl rfl)
theorem dX10_year_38 : decode cX10_year 38 = .ok (.iconst 0, 1) := dk_3 (dk_at dksX10_year_1 14 rfl rfl)
theorem dX10_year_39 : decode cX10_year 39 = .ok (.istore 6, 2) := dk_54 6 (dk_at dksX10_year_1 15 rfl rfl)
theorem dX10_year_41 : decode cX10_year 41 = .ok (.iload 6, 2) := dk_21 6 (dk_at dksX10_year_1 17 rfl rfl)
theorem dX10_year_43 : decode cX10_year 43 = .ok (.iload 4, 2) := dk_21 4 (dk_at dksX10_year_1 19 rfl rfl)
theorem dX10_year_45 : decode cX10_year 45 = .ok (.if_icmp .ge 42, 3) := dk_162 0 42 (dk_at dksX10_year_1 21 rfl rfl)
theorem dX10_year_48 : decode cX10_year 48 = .ok (.aload_n 0, 1) := dk_42 (dk_at dksX10_year_2 0 rfl rfl)
theorem dX10_year_49 : decode cX10_year 49 = .ok (.invokevirtual 332, 3) := dk_182 1 76 (dk_at dksX10_year_2 1 rfl rfl)
theorem dX10_year_52 : decode cX10_year 52 = .ok (.aload_n 0, 1) := dk_42 (dk_at dksX10_year_2 4 rfl rfl)
theorem dX10_year_53 : decode cX10_year 53 = .ok (.dup, 1) := dk_89 (dk_at dksX10_year_2 5 rfl rfl)
theorem dX10_year_54 : decode cX10_year 54 = .ok (.getfield 326, 3) := dk_180 1 70 (dk_at dksX10_year_2 6 rfl rfl)
theorem dX10_year_57 : decode cX10_year 57 = .ok (.iload 6, 2) := dk_21 6 (dk_at dksX10_year_2 9 rfl rfl)
theorem dX10_year_59 : decode cX10_year 59 = .ok (.iadd, 1) := dk_96 (dk_at dksX10_year_2 11 rfl rfl)
theorem dX10_year_60 : decode cX10_year 60 = .ok (.putfield 326, 3) := dk_181 1 70 (dk_at dksX10_year_2 12 rfl rfl)
theorem dX10_year_63 : decode cX10_year 63 = .ok (.aload_n 0, 1) := dk_42 (dk_at dksX10_year_2 15 rfl rfl)
theorem dX10_year_64 : decode cX10_year 64 = .ok (.iload_n 3, 1) := dk_29 (dk_at dksX10_year_2 16 rfl rfl)
theorem dX10_year_65 : decode cX10_year 65 = .ok (.invokevirtual 421, 3) := dk_182 1 165 (dk_at dksX10_year_2 17 rfl rfl)
theorem dX10_year_68 : decode cX10_year 68 = .ok (.aload_n 0, 1) := dk_42 (dk_at dksX10_year_2 20 rfl rfl)
theorem dX10_year_69 : decode cX10_year 69 = .ok (.getfield 110, 3) := dk_180 0 110 (dk_at dksX10_year_2 21 rfl rfl)
theorem dX10_year_72 : decode cX10_year 72 = .ok (.iload_n 1, 1) := dk_27 (dk_at dksX10_year_3 0 rfl rfl)
theorem dX10_year_73 : decode cX10_year 73 = .ok (.iaload, 1) := dk_46 (dk_at dksX10_year_3 1 rfl rfl)
theorem dX10_year_74 : decode cX10_year 74 = .ok (.iload_n 2, 1) := dk_28 (dk_at dksX10_year_3 2 rfl rfl)
theorem dX10_year_75 : decode cX10_year 75 = .ok (.if_icmp .lt 6, 3) := dk_161 0 6 (dk_at dksX10_year_3 3 rfl rfl)
theorem dX10_year_78 : decode cX10_year 78 = .ok (.iinc 5 1, 3) := dk_132 5 1 (dk_at dksX10_year_3 6 rfl rfl)
theorem dX10_year_81 : decode cX10_year 81 = .ok (.iinc 6 1, 3) := dk_132 6 1 (dk_at dksX10_year_3 9 rfl rfl)
theorem dX10_year_84 : decode cX10_year 84 = .ok (.goto (-43), 3) := dk_167 255 213 (dk_at dksX10_year_3 12 rfl rfl)
theorem dX10_year_87 : decode cX10_year 87 = .ok (.iload 5, 2) := dk_21 5 (dk_at dksX10_year_3 15 rfl rfl)
theorem dX10_year_89 : decode cX10_year 89 = .ok (.ireturn, 1) := dk_172 (dk_at dksX10_year_3 17 rfl rfl)
def dkwX10_isMark_0 : List UInt8 := [26, 3, 16, 99, 184, 1, 66, 172]
abbrev dktX10_isMark_0 : List UInt8 := dkwX10_isMark_0 ++ []
theorem dksX10_isMark_0 : cX10_isMark.data.toList.drop 0 = dktX10_isMark_0 := by decide +kernel
theorem dX10_isMark_0 : decode cX10_isMark 0 = .ok (.iload_n 0, 1) := dk_26 (dk_at dksX10_isMark_0 0 rfl rfl)
theorem dX10_isMark_1 : decode cX10_isMark 1 = .ok (.iconst 0, 1) := dk_3 (dk_at dksX10_isMark_0 1 rfl rfl)
theorem dX10_isMark_2 : decode cX10_isMark 2 = .ok (.bipush 99, 2) := dk_16 99 (dk_at dksX10_isMark_0 2 rfl rfl)
theorem dX10_isMark_4 : decode cX10_isMark 4 = .ok (.invokestatic 322, 3) := dk_184 1 66 (dk_at dksX10_isMark_0 4 rfl rfl)
theorem dX10_isMark_7 : decode cX10_isMark 7 = .ok (.ireturn, 1) := dk_172 (dk_at dksX10_isMark_0 7 rfl rfl)
def dkwX10_tell_3 : List UInt8 := [180, 1, 10, 4, 100, 172]
abbrev dktX10_tell_3 : List UInt8 := dkwX10_tell_3 ++ []
def dkwX10_tell_2 : List UInt8 := [79, 42, 180, 0, 149, 42, 180, 1, 10, 29, 84, 42, 89, 180, 1, 10, 4, 96, 181, 1, 10, 42]
abbrev dktX10_tell_2 : List UInt8 := dkwX10_tell_2 ++ dktX10_tell_3
def dkwX10_tell_1 : List UInt8 := [154, 0, 5, 2, 172, 42, 180, 0, 143, 42, 180, 1, 10, 27, 79, 42, 180, 0, 146, 42, 180, 1, 10, 28]
abbrev dktX10_tell_1 : List UInt8 := dkwX10_tell_1 ++ dktX10_tell_2
def dkwX10_tell_0 : List UInt8 := [42, 180, 1, 10, 16, 20, 159, 0, 19, 27, 3, 8, 184, 1, 66, 153, 0, 10, 28, 184, 1, 232]
abbrev dktX10_tell_0 : List UInt8 := dkwX10_tell_0 ++ dktX10_tell_1
theorem dksX10_tell_0 : cX10_tell.data.toList.drop 0 = dktX10_tell_0 := by decide +kernel
theorem dksX10_tell_1 : cX10_tell.data.toList.drop 22 = dktX10_tell_1 := dk_seg dksX10_tell_0 22 rfl rfl
theorem dksX10_tell_2 : cX10_tell.data.toList.drop 46 = dktX10_tell_2 := dk_seg dksX10_tell_1 24 rfl rfl
theorem dksX10_tell_3 : cX10_tell.data.toList.drop 68 = dktX10_tell_3 := dk_seg dksX10_tell_2 22 rfl rfl
theorem dX10_tell_0 : decode cX10_tell 0 = .ok (.aload_n 0, 1) := dk_42 (dk_at dksX10_tell_0 0 rfl rfl)
theorem dX10_tell_1 : decode cX10_tell 1 = .ok (.getfield 266, 3) := dk_180 1 10 (dk_at dksX10_tell_0 1 rfl rfl)
theorem dX10_tell_4 : decode cX10_tell 4 = .ok (.bipush 20, 2) := dk_16 20 (dk_at dksX10_tell_0 4 rfl rfl)
theorem dX10_tell_6 : decode cX10_tell 6 = .ok (.if_icmp .eq 19, 3) := dk_159 0 19 (dk_at dksX10_tell_0 6 rfl rfl)
theorem dX10_tell_9 : decode cX10_tell 9 = .ok (.iload_n 1, 1) := dk_27 (dk_at dksX10_tell_0 9 rfl rfl)
theorem dX10_tell_10 : decode cX10_tell 10 = .ok (.iconst 0, 1) := dk_3 (dk_at dksX10_tell_0 10 rfl rfl)
theorem dX10_tell_11 : decode cX10_tell 11 = .ok (.iconst 5, 1) := dk_8 (dk_at dksX10_tell_0 11 rfl rfl)
theorem dX10_tell_12 : decode cX10_tell 12 = .ok (.invokestatic 322, 3) := dk_184 1 66 (dk_at dksX10_tell_0 12 rfl rfl)
theorem dX10_tell_15 : decode cX10_tell 15 = .ok (.ifCond .eq 10, 3) := dk_153 0 10 (dk_at dksX10_tell_0 15 rfl rfl)
theorem dX10_tell_18 : decode cX10_tell 18 = .ok (.iload_n 2, 1) := dk_28 (dk_at dksX10_tell_0 18 rfl rfl)
theorem dX10_tell_19 : decode cX10_tell 19 = .ok (.invokestatic 488, 3) := dk_184 1 232 (dk_at dksX10_tell_0 19 rfl rfl)
theorem dX10_tell_22 : decode cX10_tell 22 = .ok (.ifCond .ne 5, 3) := dk_154 0 5 (dk_at dksX10_tell_1 0 rfl rfl)
theorem dX10_tell_25 : decode cX10_tell 25 = .ok (.iconst (-1), 1) := dk_2 (dk_at dksX10_tell_1 3 rfl rfl)
theorem dX10_tell_26 : decode cX10_tell 26 = .ok (.ireturn, 1) := dk_172 (dk_at dksX10_tell_1 4 rfl rfl)
theorem dX10_tell_27 : decode cX10_tell 27 = .ok (.aload_n 0, 1) := dk_42 (dk_at dksX10_tell_1 5 rfl rfl)
theorem dX10_tell_28 : decode cX10_tell 28 = .ok (.getfield 143, 3) := dk_180 0 143 (dk_at dksX10_tell_1 6 rfl rfl)
theorem dX10_tell_31 : decode cX10_tell 31 = .ok (.aload_n 0, 1) := dk_42 (dk_at dksX10_tell_1 9 rfl rfl)
theorem dX10_tell_32 : decode cX10_tell 32 = .ok (.getfield 266, 3) := dk_180 1 10 (dk_at dksX10_tell_1 10 rfl rfl)
theorem dX10_tell_35 : decode cX10_tell 35 = .ok (.iload_n 1, 1) := dk_27 (dk_at dksX10_tell_1 13 rfl rfl)
theorem dX10_tell_36 : decode cX10_tell 36 = .ok (.iastore, 1) := dk_79 (dk_at dksX10_tell_1 14 rfl rfl)
theorem dX10_tell_37 : decode cX10_tell 37 = .ok (.aload_n 0, 1) := dk_42 (dk_at dksX10_tell_1 15 rfl rfl)
theorem dX10_tell_38 : decode cX10_tell 38 = .ok (.getfield 146, 3) := dk_180 0 146 (dk_at dksX10_tell_1 16 rfl rfl)
theorem dX10_tell_41 : decode cX10_tell 41 = .ok (.aload_n 0, 1) := dk_42 (dk_at dksX10_tell_1 19 rfl rfl)
theorem dX10_tell_42 : decode cX10_tell 42 = .ok (.getfield 266, 3) := dk_180 1 10 (dk_at dksX10_tell_1 20 rfl rfl)
theorem dX10_tell_45 : decode cX10_tell 45 = .ok (.iload_n 2, 1) := dk_28 (dk_at dksX10_tell_1 23 rfl rfl)
theorem dX10_tell_46 : decode cX10_tell 46 = .ok (.iastore, 1) := dk_79 (dk_at dksX10_tell_2 0 rfl rfl)
theorem dX10_tell_47 : decode cX10_tell 47 = .ok (.aload_n 0, 1) := dk_42 (dk_at dksX10_tell_2 1 rfl rfl)
theorem dX10_tell_48 : decode cX10_tell 48 = .ok (.getfield 149, 3) := dk_180 0 149 (dk_at dksX10_tell_2 2 rfl rfl)
theorem dX10_tell_51 : decode cX10_tell 51 = .ok (.aload_n 0, 1) := dk_42 (dk_at dksX10_tell_2 5 rfl rfl)
theorem dX10_tell_52 : decode cX10_tell 52 = .ok (.getfield 266, 3) := dk_180 1 10 (dk_at dksX10_tell_2 6 rfl rfl)
theorem dX10_tell_55 : decode cX10_tell 55 = .ok (.iload_n 3, 1) := dk_29 (dk_at dksX10_tell_2 9 rfl rfl)
theorem dX10_tell_56 : decode cX10_tell 56 = .ok (.bastore, 1) := dk_84 (dk_at dksX10_tell_2 10 rfl rfl)
theorem dX10_tell_57 : decode cX10_tell 57 = .ok (.aload_n 0, 1) := dk_42 (dk_at dksX10_tell_2 11 rfl rfl)
theorem dX10_tell_58 : decode cX10_tell 58 = .ok (.dup, 1) := dk_89 (dk_at dksX10_tell_2 12 rfl rfl)
theorem dX10_tell_59 : decode cX10_tell 59 = .ok (.getfield 266, 3) := dk_180 1 10 (dk_at dksX10_tell_2 13 rfl rfl)
theorem dX10_tell_62 : decode cX10_tell 62 = .ok (.iconst 1, 1) := dk_4 (dk_at dksX10_tell_2 16 rfl rfl)
theorem dX10_tell_63 : decode cX10_tell 63 = .ok (.iadd, 1) := dk_96 (dk_at dksX10_tell_2 17 rfl rfl)
theorem dX10_tell_64 : decode cX10_tell 64 = .ok (.putfield 266, 3) := dk_181 1 10 (dk_at dksX10_tell_2 18 rfl rfl)
theorem dX10_tell_67 : decode cX10_tell 67 = .ok (.aload_n 0, 1) := dk_42 (dk_at dksX10_tell_2 21 rfl rfl)
theorem dX10_tell_68 : decode cX10_tell 68 = .ok (.getfield 266, 3) := dk_180 1 10 (dk_at dksX10_tell_3 0 rfl rfl)
theorem dX10_tell_71 : decode cX10_tell 71 = .ok (.iconst 1, 1) := dk_4 (dk_at dksX10_tell_3 3 rfl rfl)
theorem dX10_tell_72 : decode cX10_tell 72 = .ok (.isub, 1) := dk_100 (dk_at dksX10_tell_3 4 rfl rfl)
theorem dX10_tell_73 : decode cX10_tell 73 = .ok (.ireturn, 1) := dk_172 (dk_at dksX10_tell_3 5 rfl rfl)
def dkwX10_forget_0 : List UInt8 := [42, 180, 1, 10, 60, 42, 3, 181, 1, 10, 27, 172]
abbrev dktX10_forget_0 : List UInt8 := dkwX10_forget_0 ++ []
theorem dksX10_forget_0 : cX10_forget.data.toList.drop 0 = dktX10_forget_0 := by decide +kernel
theorem dX10_forget_0 : decode cX10_forget 0 = .ok (.aload_n 0, 1) := dk_42 (dk_at dksX10_forget_0 0 rfl rfl)
theorem dX10_forget_1 : decode cX10_forget 1 = .ok (.getfield 266, 3) := dk_180 1 10 (dk_at dksX10_forget_0 1 rfl rfl)
theorem dX10_forget_4 : decode cX10_forget 4 = .ok (.istore_n 1, 1) := dk_60 (dk_at dksX10_forget_0 4 rfl rfl)
theorem dX10_forget_5 : decode cX10_forget 5 = .ok (.aload_n 0, 1) := dk_42 (dk_at dksX10_forget_0 5 rfl rfl)
theorem dX10_forget_6 : decode cX10_forget 6 = .ok (.iconst 0, 1) := dk_3 (dk_at dksX10_forget_0 6 rfl rfl)
theorem dX10_forget_7 : decode cX10_forget 7 = .ok (.putfield 266, 3) := dk_181 1 10 (dk_at dksX10_forget_0 7 rfl rfl)
theorem dX10_forget_10 : decode cX10_forget 10 = .ok (.iload_n 1, 1) := dk_27 (dk_at dksX10_forget_0 10 rfl rfl)
theorem dX10_forget_11 : decode cX10_forget 11 = .ok (.ireturn, 1) := dk_172 (dk_at dksX10_forget_0 11 rfl rfl)
def dkwX10_rows_3 : List UInt8 := [167, 255, 227, 29, 154, 0, 8, 21, 4, 167, 0, 5, 21, 5, 172]
abbrev dktX10_rows_3 : List UInt8 := dkwX10_rows_3 ++ []
def dkwX10_rows_2 : List UInt8 := [42, 21, 6, 27, 28, 182, 1, 241, 154, 0, 6, 167, 0, 10, 132, 4, 1, 21, 6, 54, 5, 132, 6, 255]
abbrev dktX10_rows_2 : List UInt8 := dkwX10_rows_2 ++ dktX10_rows_3
def dkwX10_rows_1 : List UInt8 := [42, 182, 1, 186, 3, 54, 4, 16, 254, 54, 5, 28, 184, 1, 238, 4, 100, 54, 6, 21, 6, 155, 0, 30]
abbrev dktX10_rows_1 : List UInt8 := dkwX10_rows_1 ++ dktX10_rows_2
def dkwX10_rows_0 : List UInt8 := [42, 27, 28, 182, 1, 235, 153, 0, 12, 29, 3, 4, 184, 1, 66, 154, 0, 5, 2, 172, 42, 182, 1, 76]
abbrev dktX10_rows_0 : List UInt8 := dkwX10_rows_0 ++ dktX10_rows_1
theorem dksX10_rows_0 : cX10_rows.data.toList.drop 0 = dktX10_rows_0 := by decide +kernel
theorem dksX10_rows_1 : cX10_rows.data.toList.drop 24 = dktX10_rows_1 := dk_seg dksX10_rows_0 24 rfl rfl
theorem dksX10_rows_2 : cX10_rows.data.toList.drop 48 = dktX10_rows_2 := dk_seg dksX10_rows_1 24 rfl rfl
theorem dksX10_rows_3 : cX10_rows.data.toList.drop 72 = dktX10_rows_3 := dk_seg dksX10_rows_2 24 rfl rfl
theorem dX10_rows_0 : decode cX10_rows 0 = .ok (.aload_n 0, 1) := dk_42 (dk_at dksX10_rows_0 0 rfl rfl)
theorem dX10_rows_1 : decode cX10_rows 1 = .ok (.iload_n 1, 1) := dk_27 (dk_at dksX10_rows_0 1 rfl rfl)
theorem dX10_rows_2 : decode cX10_rows 2 = .ok (.iload_n 2, 1) := dk_28 (dk_at dksX10_rows_0 2 rfl rfl)
theorem dX10_rows_3 : decode cX10_rows 3 = .ok (.invokevirtual 491, 3) := dk_182 1 235 (dk_at dksX10_rows_0 3 rfl rfl)
theorem dX10_rows_6 : decode cX10_rows 6 = .ok (.ifCond .eq 12, 3) := dk_153 0 12 (dk_at dksX10_rows_0 6 rfl rfl)
theorem dX10_rows_9 : decode cX10_rows 9 = .ok (.iload_n 3, 1) := dk_29 (dk_at dksX10_rows_0 9 rfl rfl)
theorem dX10_rows_10 : decode cX10_rows 10 = .ok (.iconst 0, 1) := dk_3 (dk_at dksX10_rows_0 10 rfl rfl)
theorem dX10_rows_11 : decode cX10_rows 11 = .ok (.iconst 1, 1) := dk_4 (dk_at dksX10_rows_0 11 rfl rfl)
theorem dX10_rows_12 : decode cX10_rows 12 = .ok (.invokestatic 322, 3) := dk_184 1 66 (dk_at dksX10_rows_0 12 rfl rfl)
theorem dX10_rows_15 : decode cX10_rows 15 = .ok (.ifCond .ne 5, 3) := dk_154 0 5 (dk_at dksX10_rows_0 15 rfl rfl)
theorem dX10_rows_18 : decode cX10_rows 18 = .ok (.iconst (-1), 1) := dk_2 (dk_at dksX10_rows_0 18 rfl rfl)
theorem dX10_rows_19 : decode cX10_rows 19 = .ok (.ireturn, 1) := dk_172 (dk_at dksX10_rows_0 19 rfl rfl)
theorem dX10_rows_20 : decode cX10_rows 20 = .ok (.aload_n 0, 1) := dk_42 (dk_at dksX10_rows_0 20 rfl rfl)
theorem dX10_rows_21 : decode cX10_rows 21 = .ok (.invokevirtual 332, 3) := dk_182 1 76 (dk_at dksX10_rows_0 21 rfl rfl)
theorem dX10_rows_24 : decode cX10_rows 24 = .ok (.aload_n 0, 1) := dk_42 (dk_at dksX10_rows_1 0 rfl rfl)
theorem dX10_rows_25 : decode cX10_rows 25 = .ok (.invokevirtual 442, 3) := dk_182 1 186 (dk_at dksX10_rows_1 1 rfl rfl)
theorem dX10_rows_28 : decode cX10_rows 28 = .ok (.iconst 0, 1) := dk_3 (dk_at dksX10_rows_1 4 rfl rfl)
theorem dX10_rows_29 : decode cX10_rows 29 = .ok (.istore 4, 2) := dk_54 4 (dk_at dksX10_rows_1 5 rfl rfl)
theorem dX10_rows_31 : decode cX10_rows 31 = .ok (.bipush (-2), 2) := dk_16 254 (dk_at dksX10_rows_1 7 rfl rfl)
theorem dX10_rows_33 : decode cX10_rows 33 = .ok (.istore 5, 2) := dk_54 5 (dk_at dksX10_rows_1 9 rfl rfl)
theorem dX10_rows_35 : decode cX10_rows 35 = .ok (.iload_n 2, 1) := dk_28 (dk_at dksX10_rows_1 11 rfl rfl)
theorem dX10_rows_36 : decode cX10_rows 36 = .ok (.invokestatic 494, 3) := dk_184 1 238 (dk_at dksX10_rows_1 12 rfl rfl)
theorem dX10_rows_39 : decode cX10_rows 39 = .ok (.iconst 1, 1) := dk_4 (dk_at dksX10_rows_1 15 rfl rfl)
theorem dX10_rows_40 : decode cX10_rows 40 = .ok (.isub, 1) := dk_100 (dk_at dksX10_rows_1 16 rfl rfl)
theorem dX10_rows_41 : decode cX10_rows 41 = .ok (.istore 6, 2) := dk_54 6 (dk_at dksX10_rows_1 17 rfl rfl)
theorem dX10_rows_43 : decode cX10_rows 43 = .ok (.iload 6, 2) := dk_21 6 (dk_at dksX10_rows_1 19 rfl rfl)
theorem dX10_rows_45 : decode cX10_rows 45 = .ok (.ifCond .lt 30, 3) := dk_155 0 30 (dk_at dksX10_rows_1 21 rfl rfl)
theorem dX10_rows_48 : decode cX10_rows 48 = .ok (.aload_n 0, 1) := dk_42 (dk_at dksX10_rows_2 0 rfl rfl)
theorem dX10_rows_49 : decode cX10_rows 49 = .ok (.iload 6, 2) := dk_21 6 (dk_at dksX10_rows_2 1 rfl rfl)
theorem dX10_rows_51 : decode cX10_rows 51 = .ok (.iload_n 1, 1) := dk_27 (dk_at dksX10_rows_2 3 rfl rfl)
theorem dX10_rows_52 : decode cX10_rows 52 = .ok (.iload_n 2, 1) := dk_28 (dk_at dksX10_rows_2 4 rfl rfl)
theorem dX10_rows_53 : decode cX10_rows 53 = .ok (.invokevirtual 497, 3) := dk_182 1 241 (dk_at dksX10_rows_2 5 rfl rfl)
theorem dX10_rows_56 : decode cX10_rows 56 = .ok (.ifCond .ne 6, 3) := dk_154 0 6 (dk_at dksX10_rows_2 8 rfl rfl)
theorem dX10_rows_59 : decode cX10_rows 59 = .ok (.goto 10, 3) := dk_167 0 10 (dk_at dksX10_rows_2 11 rfl rfl)
theorem dX10_rows_62 : decode cX10_rows 62 = .ok (.iinc 4 1, 3) := dk_132 4 1 (dk_at dksX10_rows_2 14 rfl rfl)
theorem dX10_rows_65 : decode cX10_rows 65 = .ok (.iload 6, 2) := dk_21 6 (dk_at dksX10_rows_2 17 rfl rfl)
theorem dX10_rows_67 : decode cX10_rows 67 = .ok (.istore 5, 2) := dk_54 5 (dk_at dksX10_rows_2 19 rfl rfl)
theorem dX10_rows_69 : decode cX10_rows 69 = .ok (.iinc 6 (-1), 3) := dk_132 6 255 (dk_at dksX10_rows_2 21 rfl rfl)
theorem dX10_rows_72 : decode cX10_rows 72 = .ok (.goto (-29), 3) := dk_167 255 227 (dk_at dksX10_rows_3 0 rfl rfl)
theorem dX10_rows_75 : decode cX10_rows 75 = .ok (.iload_n 3, 1) := dk_29 (dk_at dksX10_rows_3 3 rfl rfl)
theorem dX10_rows_76 : decode cX10_rows 76 = .ok (.ifCond .ne 8, 3) := dk_154 0 8 (dk_at dksX10_rows_3 4 rfl rfl)
theorem dX10_rows_79 : decode cX10_rows 79 = .ok (.iload 4, 2) := dk_21 4 (dk_at dksX10_rows_3 7 rfl rfl)
theorem dX10_rows_81 : decode cX10_rows 81 = .ok (.goto 5, 3) := dk_167 0 5 (dk_at dksX10_rows_3 9 rfl rfl)
theorem dX10_rows_84 : decode cX10_rows 84 = .ok (.iload 5, 2) := dk_21 5 (dk_at dksX10_rows_3 12 rfl rfl)
theorem dX10_rows_86 : decode cX10_rows 86 = .ok (.ireturn, 1) := dk_172 (dk_at dksX10_rows_3 14 rfl rfl)
def dkwX10_isAsked_1 : List UInt8 := [167, 0, 4, 3, 172]
abbrev dktX10_isAsked_1 : List UInt8 := dkwX10_isAsked_1 ++ []
def dkwX10_isAsked_0 : List UInt8 := [27, 3, 42, 180, 1, 10, 184, 1, 66, 153, 0, 17, 28, 4, 16, 6, 184, 1, 66, 153, 0, 7, 4]
abbrev dktX10_isAsked_0 : List UInt8 := dkwX10_isAsked_0 ++ dktX10_isAsked_1
theorem dksX10_isAsked_0 : cX10_isAsked.data.toList.drop 0 = dktX10_isAsked_0 := by decide +kernel
theorem dksX10_isAsked_1 : cX10_isAsked.data.toList.drop 23 = dktX10_isAsked_1 := dk_seg dksX10_isAsked_0 23 rfl rfl
theorem dX10_isAsked_0 : decode cX10_isAsked 0 = .ok (.iload_n 1, 1) := dk_27 (dk_at dksX10_isAsked_0 0 rfl rfl)
theorem dX10_isAsked_1 : decode cX10_isAsked 1 = .ok (.iconst 0, 1) := dk_3 (dk_at dksX10_isAsked_0 1 rfl rfl)
theorem dX10_isAsked_2 : decode cX10_isAsked 2 = .ok (.aload_n 0, 1) := dk_42 (dk_at dksX10_isAsked_0 2 rfl rfl)
theorem dX10_isAsked_3 : decode cX10_isAsked 3 = .ok (.getfield 266, 3) := dk_180 1 10 (dk_at dksX10_isAsked_0 3 rfl rfl)
theorem dX10_isAsked_6 : decode cX10_isAsked 6 = .ok (.invokestatic 322, 3) := dk_184 1 66 (dk_at dksX10_isAsked_0 6 rfl rfl)
theorem dX10_isAsked_9 : decode cX10_isAsked 9 = .ok (.ifCond .eq 17, 3) := dk_153 0 17 (dk_at dksX10_isAsked_0 9 rfl rfl)
theorem dX10_isAsked_12 : decode cX10_isAsked 12 = .ok (.iload_n 2, 1) := dk_28 (dk_at dksX10_isAsked_0 12 rfl rfl)
theorem dX10_isAsked_13 : decode cX10_isAsked 13 = .ok (.iconst 1, 1) := dk_4 (dk_at dksX10_isAsked_0 13 rfl rfl)
theorem dX10_isAsked_14 : decode cX10_isAsked 14 = .ok (.bipush 6, 2) := dk_16 6 (dk_at dksX10_isAsked_0 14 rfl rfl)
theorem dX10_isAsked_16 : decode cX10_isAsked 16 = .ok (.invokestatic 322, 3) := dk_184 1 66 (dk_at dksX10_isAsked_0 16 rfl rfl)
theorem dX10_isAsked_19 : decode cX10_isAsked 19 = .ok (.ifCond .eq 7, 3) := dk_153 0 7 (dk_at dksX10_isAsked_0 19 rfl rfl)
theorem dX10_isAsked_22 : decode cX10_isAsked 22 = .ok (.iconst 1, 1) := dk_4 (dk_at dksX10_isAsked_0 22 rfl rfl)
theorem dX10_isAsked_23 : decode cX10_isAsked 23 = .ok (.goto 4, 3) := dk_167 0 4 (dk_at dksX10_isAsked_1 0 rfl rfl)
theorem dX10_isAsked_26 : decode cX10_isAsked 26 = .ok (.iconst 0, 1) := dk_3 (dk_at dksX10_isAsked_1 3 rfl rfl)
theorem dX10_isAsked_27 : decode cX10_isAsked 27 = .ok (.ireturn, 1) := dk_172 (dk_at dksX10_isAsked_1 4 rfl rfl)
def dkwX10_sixes_0 : List UInt8 := [4, 60, 3, 61, 28, 26, 162, 0, 14, 27, 16, 6, 104, 60, 132, 2, 1, 167, 255, 243, 27, 172]
abbrev dktX10_sixes_0 : List UInt8 := dkwX10_sixes_0 ++ []
theorem dksX10_sixes_0 : cX10_sixes.data.toList.drop 0 = dktX10_sixes_0 := by decide +kernel
theorem dX10_sixes_0 : decode cX10_sixes 0 = .ok (.iconst 1, 1) := dk_4 (dk_at dksX10_sixes_0 0 rfl rfl)
theorem dX10_sixes_1 : decode cX10_sixes 1 = .ok (.istore_n 1, 1) := dk_60 (dk_at dksX10_sixes_0 1 rfl rfl)
theorem dX10_sixes_2 : decode cX10_sixes 2 = .ok (.iconst 0, 1) := dk_3 (dk_at dksX10_sixes_0 2 rfl rfl)
theorem dX10_sixes_3 : decode cX10_sixes 3 = .ok (.istore_n 2, 1) := dk_61 (dk_at dksX10_sixes_0 3 rfl rfl)
theorem dX10_sixes_4 : decode cX10_sixes 4 = .ok (.iload_n 2, 1) := dk_28 (dk_at dksX10_sixes_0 4 rfl rfl)
theorem dX10_sixes_5 : decode cX10_sixes 5 = .ok (.iload_n 0, 1) := dk_26 (dk_at dksX10_sixes_0 5 rfl rfl)
theorem dX10_sixes_6 : decode cX10_sixes 6 = .ok (.if_icmp .ge 14, 3) := dk_162 0 14 (dk_at dksX10_sixes_0 6 rfl rfl)
theorem dX10_sixes_9 : decode cX10_sixes 9 = .ok (.iload_n 1, 1) := dk_27 (dk_at dksX10_sixes_0 9 rfl rfl)
theorem dX10_sixes_10 : decode cX10_sixes 10 = .ok (.bipush 6, 2) := dk_16 6 (dk_at dksX10_sixes_0 10 rfl rfl)
theorem dX10_sixes_12 : decode cX10_sixes 12 = .ok (.imul, 1) := dk_104 (dk_at dksX10_sixes_0 12 rfl rfl)
theorem dX10_sixes_13 : decode cX10_sixes 13 = .ok (.istore_n 1, 1) := dk_60 (dk_at dksX10_sixes_0 13 rfl rfl)
theorem dX10_sixes_14 : decode cX10_sixes 14 = .ok (.iinc 2 1, 3) := dk_132 2 1 (dk_at dksX10_sixes_0 14 rfl rfl)
theorem dX10_sixes_17 : decode cX10_sixes 17 = .ok (.goto (-13), 3) := dk_167 255 243 (dk_at dksX10_sixes_0 17 rfl rfl)
theorem dX10_sixes_20 : decode cX10_sixes 20 = .ok (.iload_n 1, 1) := dk_27 (dk_at dksX10_sixes_0 20 rfl rfl)
theorem dX10_sixes_21 : decode cX10_sixes 21 = .ok (.ireturn, 1) := dk_172 (dk_at dksX10_sixes_0 21 rfl rfl)
def dkwX10_doesFit_6 : List UInt8 := [180, 0, 149, 21, 6, 51, 159, 0, 5, 3, 172, 132, 6, 1, 167, 255, 192, 4, 172]
abbrev dktX10_doesFit_6 : List UInt8 := dkwX10_doesFit_6 ++ []
def dkwX10_doesFit_5 : List UInt8 := [180, 0, 143, 21, 6, 46, 46, 46, 42, 180, 0, 146, 21, 6, 46, 161, 0, 7, 4, 167, 0, 4, 3, 42]
abbrev dktX10_doesFit_5 : List UInt8 := dkwX10_doesFit_5 ++ dktX10_doesFit_6
def dkwX10_doesFit_4 : List UInt8 := [162, 0, 64, 42, 180, 0, 143, 21, 6, 46, 29, 162, 0, 45, 42, 180, 0, 125, 42, 180, 0, 152, 42]
abbrev dktX10_doesFit_4 : List UInt8 := dkwX10_doesFit_4 ++ dktX10_doesFit_5
def dkwX10_doesFit_3 : List UInt8 := [42, 180, 0, 152, 21, 6, 46, 120, 128, 54, 5, 132, 6, 255, 167, 255, 183, 3, 54, 6, 21, 6, 28]
abbrev dktX10_doesFit_3 : List UInt8 := dkwX10_doesFit_3 ++ dktX10_doesFit_4
def dkwX10_doesFit_2 : List UInt8 := [153, 0, 19, 21, 5, 42, 180, 0, 152, 21, 6, 46, 122, 4, 126, 4, 160, 0, 5, 3, 172, 21, 5, 4]
abbrev dktX10_doesFit_2 : List UInt8 := dkwX10_doesFit_2 ++ dktX10_doesFit_3
def dkwX10_doesFit_1 : List UInt8 := [16, 6, 112, 79, 21, 4, 16, 6, 108, 54, 4, 42, 42, 180, 0, 152, 21, 6, 46, 182, 1, 137]
abbrev dktX10_doesFit_1 : List UInt8 := dkwX10_doesFit_1 ++ dktX10_doesFit_2
def dkwX10_doesFit_0 : List UInt8 := [27, 54, 4, 3, 54, 5, 29, 4, 100, 54, 6, 21, 6, 155, 0, 74, 42, 180, 0, 152, 21, 6, 21, 4]
abbrev dktX10_doesFit_0 : List UInt8 := dkwX10_doesFit_0 ++ dktX10_doesFit_1
theorem dksX10_doesFit_0 : cX10_doesFit.data.toList.drop 0 = dktX10_doesFit_0 := by decide +kernel
theorem dksX10_doesFit_1 : cX10_doesFit.data.toList.drop 24 = dktX10_doesFit_1 := dk_seg dksX10_doesFit_0 24 rfl rfl
theorem dksX10_doesFit_2 : cX10_doesFit.data.toList.drop 46 = dktX10_doesFit_2 := dk_seg dksX10_doesFit_1 22 rfl rfl
theorem dksX10_doesFit_3 : cX10_doesFit.data.toList.drop 70 = dktX10_doesFit_3 := dk_seg dksX10_doesFit_2 24 rfl rfl
theorem dksX10_doesFit_4 : cX10_doesFit.data.toList.drop 93 = dktX10_doesFit_4 := dk_seg dksX10_doesFit_3 23 rfl rfl
theorem dksX10_doesFit_5 : cX10_doesFit.data.toList.drop 116 = dktX10_doesFit_5 := dk_seg dksX10_doesFit_4 23 rfl rfl
theorem dksX10_doesFit_6 : cX10_doesFit.data.toList.drop 140 = dktX10_doesFit_6 := dk_seg dksX10_doesFit_5 24 rfl rfl
theorem dX10_doesFit_0 : decode cX10_doesFit 0 = .ok (.iload_n 1, 1) := dk_27 (dk_at dksX10_doesFit_0 0 rfl rfl)
theorem dX10_doesFit_1 : decode cX10_doesFit 1 = .ok (.istore 4, 2) := dk_54 4 (dk_at dksX10_doesFit_0 1 rfl rfl)
theorem dX10_doesFit_3 : decode cX10_doesFit 3 = .ok (.iconst 0, 1) := dk_3 (dk_at dksX10_doesFit_0 3 rfl rfl)
theorem dX10_doesFit_4 : decode cX10_doesFit 4 = .ok (.istore 5, 2) := dk_54 5 (dk_at dksX10_doesFit_0 4 rfl rfl)
theorem dX10_doesFit_6 : decode cX10_doesFit 6 = .ok (.iload_n 3, 1) := dk_29 (dk_at dksX10_doesFit_0 6 rfl rfl)
theorem dX10_doesFit_7 : decode cX10_doesFit 7 = .ok (.iconst 1, 1) := dk_4 (dk_at dksX10_doesFit_0 7 rfl rfl)
theorem dX10_doesFit_8 : decode cX10_doesFit 8 = .ok (.isub, 1) := dk_100 (dk_at dksX10_doesFit_0 8 rfl rfl)
theorem dX10_doesFit_9 : decode cX10_doesFit 9 = .ok (.istore 6, 2) := dk_54 6 (dk_at dksX10_doesFit_0 9 rfl rfl)
theorem dX10_doesFit_11 : decode cX10_doesFit 11 = .ok (.iload 6, 2) := dk_21 6 (dk_at dksX10_doesFit_0 11 rfl rfl)
theorem dX10_doesFit_13 : decode cX10_doesFit 13 = .ok (.ifCond .lt 74, 3) := dk_155 0 74 (dk_at dksX10_doesFit_0 13 rfl rfl)
theorem dX10_doesFit_16 : decode cX10_doesFit 16 = .ok (.aload_n 0, 1) := dk_42 (dk_at dksX10_doesFit_0 16 rfl rfl)
theorem dX10_doesFit_17 : decode cX10_doesFit 17 = .ok (.getfield 152, 3) := dk_180 0 152 (dk_at dksX10_doesFit_0 17 rfl rfl)
theorem dX10_doesFit_20 : decode cX10_doesFit 20 = .ok (.iload 6, 2) := dk_21 6 (dk_at dksX10_doesFit_0 20 rfl rfl)
theorem dX10_doesFit_22 : decode cX10_doesFit 22 = .ok (.iload 4, 2) := dk_21 4 (dk_at dksX10_doesFit_0 22 rfl rfl)
theorem dX10_doesFit_24 : decode cX10_doesFit 24 = .ok (.bipush 6, 2) := dk_16 6 (dk_at dksX10_doesFit_1 0 rfl rfl)
theorem dX10_doesFit_26 : decode cX10_doesFit 26 = .ok (.irem, 1) := dk_112 (dk_at dksX10_doesFit_1 2 rfl rfl)
theorem dX10_doesFit_27 : decode cX10_doesFit 27 = .ok (.iastore, 1) := dk_79 (dk_at dksX10_doesFit_1 3 rfl rfl)
theorem dX10_doesFit_28 : decode cX10_doesFit 28 = .ok (.iload 4, 2) := dk_21 4 (dk_at dksX10_doesFit_1 4 rfl rfl)
theorem dX10_doesFit_30 : decode cX10_doesFit 30 = .ok (.bipush 6, 2) := dk_16 6 (dk_at dksX10_doesFit_1 6 rfl rfl)
theorem dX10_doesFit_32 : decode cX10_doesFit 32 = .ok (.idiv, 1) := dk_108 (dk_at dksX10_doesFit_1 8 rfl rfl)
theorem dX10_doesFit_33 : decode cX10_doesFit 33 = .ok (.istore 4, 2) := dk_54 4 (dk_at dksX10_doesFit_1 9 rfl rfl)
theorem dX10_doesFit_35 : decode cX10_doesFit 35 = .ok (.aload_n 0, 1) := dk_42 (dk_at dksX10_doesFit_1 11 rfl rfl)
theorem dX10_doesFit_36 : decode cX10_doesFit 36 = .ok (.aload_n 0, 1) := dk_42 (dk_at dksX10_doesFit_1 12 rfl rfl)
theorem dX10_doesFit_37 : decode cX10_doesFit 37 = .ok (.getfield 152, 3) := dk_180 0 152 (dk_at dksX10_doesFit_1 13 rfl rfl)
theorem dX10_doesFit_40 : decode cX10_doesFit 40 = .ok (.iload 6, 2) := dk_21 6 (dk_at dksX10_doesFit_1 16 rfl rfl)
theorem dX10_doesFit_42 : decode cX10_doesFit 42 = .ok (.iaload, 1) := dk_46 (dk_at dksX10_doesFit_1 18 rfl rfl)
theorem dX10_doesFit_43 : decode cX10_doesFit 43 = .ok (.invokevirtual 393, 3) := dk_182 1 137 (dk_at dksX10_doesFit_1 19 rfl rfl)
theorem dX10_doesFit_46 : decode cX10_doesFit 46 = .ok (.ifCond .eq 19, 3) := dk_153 0 19 (dk_at dksX10_doesFit_2 0 rfl rfl)
theorem dX10_doesFit_49 : decode cX10_doesFit 49 = .ok (.iload 5, 2) := dk_21 5 (dk_at dksX10_doesFit_2 3 rfl rfl)
theorem dX10_doesFit_51 : decode cX10_doesFit 51 = .ok (.aload_n 0, 1) := dk_42 (dk_at dksX10_doesFit_2 5 rfl rfl)
theorem dX10_doesFit_52 : decode cX10_doesFit 52 = .ok (.getfield 152, 3) := dk_180 0 152 (dk_at dksX10_doesFit_2 6 rfl rfl)
theorem dX10_doesFit_55 : decode cX10_doesFit 55 = .ok (.iload 6, 2) := dk_21 6 (dk_at dksX10_doesFit_2 9 rfl rfl)
theorem dX10_doesFit_57 : decode cX10_doesFit 57 = .ok (.iaload, 1) := dk_46 (dk_at dksX10_doesFit_2 11 rfl rfl)
theorem dX10_doesFit_58 : decode cX10_doesFit 58 = .ok (.ishr, 1) := dk_122 (dk_at dksX10_doesFit_2 12 rfl rfl)
theorem dX10_doesFit_59 : decode cX10_doesFit 59 = .ok (.iconst 1, 1) := dk_4 (dk_at dksX10_doesFit_2 13 rfl rfl)
theorem dX10_doesFit_60 : decode cX10_doesFit 60 = .ok (.iand, 1) := dk_126 (dk_at dksX10_doesFit_2 14 rfl rfl)
theorem dX10_doesFit_61 : decode cX10_doesFit 61 = .ok (.iconst 1, 1) := dk_4 (dk_at dksX10_doesFit_2 15 rfl rfl)
theorem dX10_doesFit_62 : decode cX10_doesFit 62 = .ok (.if_icmp .ne 5, 3) := dk_160 0 5 (dk_at dksX10_doesFit_2 16 rfl rfl)
theorem dX10_doesFit_65 : decode cX10_doesFit 65 = .ok (.iconst 0, 1) := dk_3 (dk_at dksX10_doesFit_2 19 rfl rfl)
theorem dX10_doesFit_66 : decode cX10_doesFit 66 = .ok (.ireturn, 1) := dk_172 (dk_at dksX10_doesFit_2 20 rfl rfl)
theorem dX10_doesFit_67 : decode cX10_doesFit 67 = .ok (.iload 5, 2) := dk_21 5 (dk_at dksX10_doesFit_2 21 rfl rfl)
theorem dX10_doesFit_69 : decode cX10_doesFit 69 = .ok (.iconst 1, 1) := dk_4 (dk_at dksX10_doesFit_2 23 rfl rfl)
theorem dX10_doesFit_70 : decode cX10_doesFit 70 = .ok (.aload_n 0, 1) := dk_42 (dk_at dksX10_doesFit_3 0 rfl rfl)
theorem dX10_doesFit_71 : decode cX10_doesFit 71 = .ok (.getfield 152, 3) := dk_180 0 152 (dk_at dksX10_doesFit_3 1 rfl rfl)
theorem dX10_doesFit_74 : decode cX10_doesFit 74 = .ok (.iload 6, 2) := dk_21 6 (dk_at dksX10_doesFit_3 4 rfl rfl)
theorem dX10_doesFit_76 : decode cX10_doesFit 76 = .ok (.iaload, 1) := dk_46 (dk_at dksX10_doesFit_3 6 rfl rfl)
theorem dX10_doesFit_77 : decode cX10_doesFit 77 = .ok (.ishl, 1) := dk_120 (dk_at dksX10_doesFit_3 7 rfl rfl)
theorem dX10_doesFit_78 : decode cX10_doesFit 78 = .ok (.ior, 1) := dk_128 (dk_at dksX10_doesFit_3 8 rfl rfl)
theorem dX10_doesFit_79 : decode cX10_doesFit 79 = .ok (.istore 5, 2) := dk_54 5 (dk_at dksX10_doesFit_3 9 rfl rfl)
theorem dX10_doesFit_81 : decode cX10_doesFit 81 = .ok (.iinc 6 (-1), 3) := dk_132 6 255 (dk_at dksX10_doesFit_3 11 rfl rfl)
theorem dX10_doesFit_84 : decode cX10_doesFit 84 = .ok (.goto (-73), 3) := dk_167 255 183 (dk_at dksX10_doesFit_3 14 rfl rfl)
theorem dX10_doesFit_87 : decode cX10_doesFit 87 = .ok (.iconst 0, 1) := dk_3 (dk_at dksX10_doesFit_3 17 rfl rfl)
theorem dX10_doesFit_88 : decode cX10_doesFit 88 = .ok (.istore 6, 2) := dk_54 6 (dk_at dksX10_doesFit_3 18 rfl rfl)
theorem dX10_doesFit_90 : decode cX10_doesFit 90 = .ok (.iload 6, 2) := dk_21 6 (dk_at dksX10_doesFit_3 20 rfl rfl)
theorem dX10_doesFit_92 : decode cX10_doesFit 92 = .ok (.iload_n 2, 1) := dk_28 (dk_at dksX10_doesFit_3 22 rfl rfl)
theorem dX10_doesFit_93 : decode cX10_doesFit 93 = .ok (.if_icmp .ge 64, 3) := dk_162 0 64 (dk_at dksX10_doesFit_4 0 rfl rfl)
theorem dX10_doesFit_96 : decode cX10_doesFit 96 = .ok (.aload_n 0, 1) := dk_42 (dk_at dksX10_doesFit_4 3 rfl rfl)
theorem dX10_doesFit_97 : decode cX10_doesFit 97 = .ok (.getfield 143, 3) := dk_180 0 143 (dk_at dksX10_doesFit_4 4 rfl rfl)
theorem dX10_doesFit_100 : decode cX10_doesFit 100 = .ok (.iload 6, 2) := dk_21 6 (dk_at dksX10_doesFit_4 7 rfl rfl)
theorem dX10_doesFit_102 : decode cX10_doesFit 102 = .ok (.iaload, 1) := dk_46 (dk_at dksX10_doesFit_4 9 rfl rfl)
theorem dX10_doesFit_103 : decode cX10_doesFit 103 = .ok (.iload_n 3, 1) := dk_29 (dk_at dksX10_doesFit_4 10 rfl rfl)
theorem dX10_doesFit_104 : decode cX10_doesFit 104 = .ok (.if_icmp .ge 45, 3) := dk_162 0 45 (dk_at dksX10_doesFit_4 11 rfl rfl)
theorem dX10_doesFit_107 : decode cX10_doesFit 107 = .ok (.aload_n 0, 1) := dk_42 (dk_at dksX10_doesFit_4 14 rfl rfl)
theorem dX10_doesFit_108 : decode cX10_doesFit 108 = .ok (.getfield 125, 3) := dk_180 0 125 (dk_at dksX10_doesFit_4 15 rfl rfl)
theorem dX10_doesFit_111 : decode cX10_doesFit 111 = .ok (.aload_n 0, 1) := dk_42 (dk_at dksX10_doesFit_4 18 rfl rfl)
theorem dX10_doesFit_112 : decode cX10_doesFit 112 = .ok (.getfield 152, 3) := dk_180 0 152 (dk_at dksX10_doesFit_4 19 rfl rfl)
theorem dX10_doesFit_115 : decode cX10_doesFit 115 = .ok (.aload_n 0, 1) := dk_42 (dk_at dksX10_doesFit_4 22 rfl rfl)
theorem dX10_doesFit_116 : decode cX10_doesFit 116 = .ok (.getfield 143, 3) := dk_180 0 143 (dk_at dksX10_doesFit_5 0 rfl rfl)
theorem dX10_doesFit_119 : decode cX10_doesFit 119 = .ok (.iload 6, 2) := dk_21 6 (dk_at dksX10_doesFit_5 3 rfl rfl)
theorem dX10_doesFit_121 : decode cX10_doesFit 121 = .ok (.iaload, 1) := dk_46 (dk_at dksX10_doesFit_5 5 rfl rfl)
theorem dX10_doesFit_122 : decode cX10_doesFit 122 = .ok (.iaload, 1) := dk_46 (dk_at dksX10_doesFit_5 6 rfl rfl)
theorem dX10_doesFit_123 : decode cX10_doesFit 123 = .ok (.iaload, 1) := dk_46 (dk_at dksX10_doesFit_5 7 rfl rfl)
theorem dX10_doesFit_124 : decode cX10_doesFit 124 = .ok (.aload_n 0, 1) := dk_42 (dk_at dksX10_doesFit_5 8 rfl rfl)
theorem dX10_doesFit_125 : decode cX10_doesFit 125 = .ok (.getfield 146, 3) := dk_180 0 146 (dk_at dksX10_doesFit_5 9 rfl rfl)
theorem dX10_doesFit_128 : decode cX10_doesFit 128 = .ok (.iload 6, 2) := dk_21 6 (dk_at dksX10_doesFit_5 12 rfl rfl)
theorem dX10_doesFit_130 : decode cX10_doesFit 130 = .ok (.iaload, 1) := dk_46 (dk_at dksX10_doesFit_5 14 rfl rfl)
theorem dX10_doesFit_131 : decode cX10_doesFit 131 = .ok (.if_icmp .lt 7, 3) := dk_161 0 7 (dk_at dksX10_doesFit_5 15 rfl rfl)
theorem dX10_doesFit_134 : decode cX10_doesFit 134 = .ok (.iconst 1, 1) := dk_4 (dk_at dksX10_doesFit_5 18 rfl rfl)
theorem dX10_doesFit_135 : decode cX10_doesFit 135 = .ok (.goto 4, 3) := dk_167 0 4 (dk_at dksX10_doesFit_5 19 rfl rfl)
theorem dX10_doesFit_138 : decode cX10_doesFit 138 = .ok (.iconst 0, 1) := dk_3 (dk_at dksX10_doesFit_5 22 rfl rfl)
theorem dX10_doesFit_139 : decode cX10_doesFit 139 = .ok (.aload_n 0, 1) := dk_42 (dk_at dksX10_doesFit_5 23 rfl rfl)
theorem dX10_doesFit_140 : decode cX10_doesFit 140 = .ok (.getfield 149, 3) := dk_180 0 149 (dk_at dksX10_doesFit_6 0 rfl rfl)
theorem dX10_doesFit_143 : decode cX10_doesFit 143 = .ok (.iload 6, 2) := dk_21 6 (dk_at dksX10_doesFit_6 3 rfl rfl)
theorem dX10_doesFit_145 : decode cX10_doesFit 145 = .ok (.baload, 1) := dk_51 (dk_at dksX10_doesFit_6 5 rfl rfl)
theorem dX10_doesFit_146 : decode cX10_doesFit 146 = .ok (.if_icmp .eq 5, 3) := dk_159 0 5 (dk_at dksX10_doesFit_6 6 rfl rfl)
theorem dX10_doesFit_149 : decode cX10_doesFit 149 = .ok (.iconst 0, 1) := dk_3 (dk_at dksX10_doesFit_6 9 rfl rfl)
theorem dX10_doesFit_150 : decode cX10_doesFit 150 = .ok (.ireturn, 1) := dk_172 (dk_at dksX10_doesFit_6 10 rfl rfl)
theorem dX10_doesFit_151 : decode cX10_doesFit 151 = .ok (.iinc 6 1, 3) := dk_132 6 1 (dk_at dksX10_doesFit_6 11 rfl rfl)
theorem dX10_doesFit_154 : decode cX10_doesFit 154 = .ok (.goto (-64), 3) := dk_167 255 192 (dk_at dksX10_doesFit_6 14 rfl rfl)
theorem dX10_doesFit_157 : decode cX10_doesFit 157 = .ok (.iconst 1, 1) := dk_4 (dk_at dksX10_doesFit_6 17 rfl rfl)
theorem dX10_doesFit_158 : decode cX10_doesFit 158 = .ok (.ireturn, 1) := dk_172 (dk_at dksX10_doesFit_6 18 rfl rfl)
def dkwX10_feel_9 : List UInt8 := [54, 5, 21, 8, 54, 6, 132, 7, 1, 167, 255, 177, 21, 5, 172]
abbrev dktX10_feel_9 : List UInt8 := dkwX10_feel_9 ++ []
def dkwX10_feel_8 : List UInt8 := [21, 7, 46, 100, 54, 8, 21, 5, 155, 0, 13, 21, 8, 21, 6, 161, 0, 6, 167, 0, 11, 21, 7]
abbrev dktX10_feel_8 : List UInt8 := dkwX10_feel_8 ++ dktX10_feel_9
def dkwX10_feel_7 : List UInt8 := [21, 7, 46, 100, 164, 0, 13, 42, 180, 0, 155, 21, 7, 46, 167, 0, 13, 21, 4, 42, 180, 0, 155]
abbrev dktX10_feel_7 : List UInt8 := dkwX10_feel_7 ++ dktX10_feel_8
def dkwX10_feel_6 : List UInt8 := [21, 7, 28, 162, 0, 79, 21, 4, 158, 0, 74, 42, 180, 0, 155, 21, 7, 46, 21, 4, 42, 180, 0, 155]
abbrev dktX10_feel_6 : List UInt8 := dkwX10_feel_6 ++ dktX10_feel_7
def dkwX10_feel_5 : List UInt8 := [96, 79, 132, 6, 1, 167, 255, 220, 132, 5, 1, 167, 255, 185, 16, 254, 54, 5, 3, 54, 6, 3, 54, 7]
abbrev dktX10_feel_5 : List UInt8 := dkwX10_feel_5 ++ dktX10_feel_6
def dkwX10_feel_4 : List UInt8 := [180, 0, 125, 42, 180, 0, 152, 21, 6, 46, 46, 29, 161, 0, 14, 42, 180, 0, 155, 21, 6, 92, 46, 4]
abbrev dktX10_feel_4 : List UInt8 := dkwX10_feel_4 ++ dktX10_feel_5
def dkwX10_feel_3 : List UInt8 := [182, 1, 241, 154, 0, 6, 167, 0, 48, 132, 4, 1, 3, 54, 6, 21, 6, 28, 162, 0, 36, 42]
abbrev dktX10_feel_3 : List UInt8 := dkwX10_feel_3 ++ dktX10_feel_4
def dkwX10_feel_2 : List UInt8 := [167, 255, 238, 3, 54, 4, 3, 54, 5, 21, 5, 28, 184, 1, 238, 162, 0, 68, 42, 21, 5, 27, 28]
abbrev dktX10_feel_2 : List UInt8 := dkwX10_feel_2 ++ dktX10_feel_3
def dkwX10_feel_1 : List UInt8 := [182, 1, 186, 3, 54, 4, 21, 4, 16, 6, 162, 0, 17, 42, 180, 0, 155, 21, 4, 3, 79, 132, 4, 1]
abbrev dktX10_feel_1 : List UInt8 := dkwX10_feel_1 ++ dktX10_feel_2
def dkwX10_feel_0 : List UInt8 := [42, 27, 28, 182, 1, 235, 153, 0, 10, 29, 184, 1, 232, 154, 0, 5, 2, 172, 42, 182, 1, 76, 42]
abbrev dktX10_feel_0 : List UInt8 := dkwX10_feel_0 ++ dktX10_feel_1
theorem dksX10_feel_0 : cX10_feel.data.toList.drop 0 = dktX10_feel_0 := by decide +kernel
theorem dksX10_feel_1 : cX10_feel.data.toList.drop 23 = dktX10_feel_1 := dk_seg dksX10_feel_0 23 rfl rfl
theorem dksX10_feel_2 : cX10_feel.data.toList.drop 47 = dktX10_feel_2 := dk_seg dksX10_feel_1 24 rfl rfl
theorem dksX10_feel_3 : cX10_feel.data.toList.drop 70 = dktX10_feel_3 := dk_seg dksX10_feel_2 23 rfl rfl
theorem dksX10_feel_4 : cX10_feel.data.toList.drop 92 = dktX10_feel_4 := dk_seg dksX10_feel_3 22 rfl rfl
theorem dksX10_feel_5 : cX10_feel.data.toList.drop 116 = dktX10_feel_5 := dk_seg dksX10_feel_4 24 rfl rfl
theorem dksX10_feel_6 : cX10_feel.data.toList.drop 140 = dktX10_feel_6 := dk_seg dksX10_feel_5 24 rfl rfl
theorem dksX10_feel_7 : cX10_feel.data.toList.drop 164 = dktX10_feel_7 := dk_seg dksX10_feel_6 24 rfl rfl
theorem dksX10_feel_8 : cX10_feel.data.toList.drop 187 = dktX10_feel_8 := dk_seg dksX10_feel_7 23 rfl rfl
theorem dksX10_feel_9 : cX10_feel.data.toList.drop 210 = dktX10_feel_9 := dk_seg dksX10_feel_8 23 rfl rfl
theorem dX10_feel_0 : decode cX10_feel 0 = .ok (.aload_n 0, 1) := dk_42 (dk_at dksX10_feel_0 0 rfl rfl)
theorem dX10_feel_1 : decode cX10_feel 1 = .ok (.iload_n 1, 1) := dk_27 (dk_at dksX10_feel_0 1 rfl rfl)
theorem dX10_feel_2 : decode cX10_feel 2 = .ok (.iload_n 2, 1) := dk_28 (dk_at dksX10_feel_0 2 rfl rfl)
theorem dX10_feel_3 : decode cX10_feel 3 = .ok (.invokevirtual 491, 3) := dk_182 1 235 (dk_at dksX10_feel_0 3 rfl rfl)
theorem dX10_feel_6 : decode cX10_feel 6 = .ok (.ifCond .eq 10, 3) := dk_153 0 10 (dk_at dksX10_feel_0 6 rfl rfl)
theorem dX10_feel_9 : decode cX10_feel 9 = .ok (.iload_n 3, 1) := dk_29 (dk_at dksX10_feel_0 9 rfl rfl)
theorem dX10_feel_10 : decode cX10_feel 10 = .ok (.invokestatic 488, 3) := dk_184 1 232 (dk_at dksX10_feel_0 10 rfl rfl)
theorem dX10_feel_13 : decode cX10_feel 13 = .ok (.ifCond .ne 5, 3) := dk_154 0 5 (dk_at dksX10_feel_0 13 rfl rfl)
theorem dX10_feel_16 : decode cX10_feel 16 = .ok (.iconst (-1), 1) := dk_2 (dk_at dksX10_feel_0 16 rfl rfl)
theorem dX10_feel_17 : decode cX10_feel 17 = .ok (.ireturn, 1) := dk_172 (dk_at dksX10_feel_0 17 rfl rfl)
theorem dX10_feel_18 : decode cX10_feel 18 = .ok (.aload_n 0, 1) := dk_42 (dk_at dksX10_feel_0 18 rfl rfl)
theorem dX10_feel_19 : decode cX10_feel 19 = .ok (.invokevirtual 332, 3) := dk_182 1 76 (dk_at dksX10_feel_0 19 rfl rfl)
theorem dX10_feel_22 : decode cX10_feel 22 = .ok (.aload_n 0, 1) := dk_42 (dk_at dksX10_feel_0 22 rfl rfl)
theorem dX10_feel_23 : decode cX10_feel 23 = .ok (.invokevirtual 442, 3) := dk_182 1 186 (dk_at dksX10_feel_1 0 rfl rfl)
theorem dX10_feel_26 : decode cX10_feel 26 = .ok (.iconst 0, 1) := dk_3 (dk_at dksX10_feel_1 3 rfl rfl)
theorem dX10_feel_27 : decode cX10_feel 27 = .ok (.istore 4, 2) := dk_54 4 (dk_at dksX10_feel_1 4 rfl rfl)
theorem dX10_feel_29 : decode cX10_feel 29 = .ok (.iload 4, 2) := dk_21 4 (dk_at dksX10_feel_1 6 rfl rfl)
theorem dX10_feel_31 : decode cX10_feel 31 = .ok (.bipush 6, 2) := dk_16 6 (dk_at dksX10_feel_1 8 rfl rfl)
theorem dX10_feel_33 : decode cX10_feel 33 = .ok (.if_icmp .ge 17, 3) := dk_162 0 17 (dk_at dksX10_feel_1 10 rfl rfl)
theorem dX10_feel_36 : decode cX10_feel 36 = .ok (.aload_n 0, 1) := dk_42 (dk_at dksX10_feel_1 13 rfl rfl)
theorem dX10_feel_37 : decode cX10_feel 37 = .ok (.getfield 155, 3) := dk_180 0 155 (dk_at dksX10_feel_1 14 rfl rfl)
theorem dX10_feel_40 : decode cX10_feel 40 = .ok (.iload 4, 2) := dk_21 4 (dk_at dksX10_feel_1 17 rfl rfl)
theorem dX10_feel_42 : decode cX10_feel 42 = .ok (.iconst 0, 1) := dk_3 (dk_at dksX10_feel_1 19 rfl rfl)
theorem dX10_feel_43 : decode cX10_feel 43 = .ok (.iastore, 1) := dk_79 (dk_at dksX10_feel_1 20 rfl rfl)
theorem dX10_feel_44 : decode cX10_feel 44 = .ok (.iinc 4 1, 3) := dk_132 4 1 (dk_at dksX10_feel_1 21 rfl rfl)
theorem dX10_feel_47 : decode cX10_feel 47 = .ok (.goto (-18), 3) := dk_167 255 238 (dk_at dksX10_feel_2 0 rfl rfl)
theorem dX10_feel_50 : decode cX10_feel 50 = .ok (.iconst 0, 1) := dk_3 (dk_at dksX10_feel_2 3 rfl rfl)
theorem dX10_feel_51 : decode cX10_feel 51 = .ok (.istore 4, 2) := dk_54 4 (dk_at dksX10_feel_2 4 rfl rfl)
theorem dX10_feel_53 : decode cX10_feel 53 = .ok (.iconst 0, 1) := dk_3 (dk_at dksX10_feel_2 6 rfl rfl)
theorem dX10_feel_54 : decode cX10_feel 54 = .ok (.istore 5, 2) := dk_54 5 (dk_at dksX10_feel_2 7 rfl rfl)
theorem dX10_feel_56 : decode cX10_feel 56 = .ok (.iload 5, 2) := dk_21 5 (dk_at dksX10_feel_2 9 rfl rfl)
theorem dX10_feel_58 : decode cX10_feel 58 = .ok (.iload_n 2, 1) := dk_28 (dk_at dksX10_feel_2 11 rfl rfl)
theorem dX10_feel_59 : decode cX10_feel 59 = .ok (.invokestatic 494, 3) := dk_184 1 238 (dk_at dksX10_feel_2 12 rfl rfl)
theorem dX10_feel_62 : decode cX10_feel 62 = .ok (.if_icmp .ge 68, 3) := dk_162 0 68 (dk_at dksX10_feel_2 15 rfl rfl)
theorem dX10_feel_65 : decode cX10_feel 65 = .ok (.aload_n 0, 1) := dk_42 (dk_at dksX10_feel_2 18 rfl rfl)
theorem dX10_feel_66 : decode cX10_feel 66 = .ok (.iload 5, 2) := dk_21 5 (dk_at dksX10_feel_2 19 rfl rfl)
theorem dX10_feel_68 : decode cX10_feel 68 = .ok (.iload_n 1, 1) := dk_27 (dk_at dksX10_feel_2 21 rfl rfl)
theorem dX10_feel_69 : decode cX10_feel 69 = .ok (.iload_n 2, 1) := dk_28 (dk_at dksX10_feel_2 22 rfl rfl)
theorem dX10_feel_70 : decode cX10_feel 70 = .ok (.invokevirtual 497, 3) := dk_182 1 241 (dk_at dksX10_feel_3 0 rfl rfl)
theorem dX10_feel_73 : decode cX10_feel 73 = .ok (.ifCond .ne 6, 3) := dk_154 0 6 (dk_at dksX10_feel_3 3 rfl rfl)
theorem dX10_feel_76 : decode cX10_feel 76 = .ok (.goto 48, 3) := dk_167 0 48 (dk_at dksX10_feel_3 6 rfl rfl)
theorem dX10_feel_79 : decode cX10_feel 79 = .ok (.iinc 4 1, 3) := dk_132 4 1 (dk_at dksX10_feel_3 9 rfl rfl)
theorem dX10_feel_82 : decode cX10_feel 82 = .ok (.iconst 0, 1) := dk_3 (dk_at dksX10_feel_3 12 rfl rfl)
theorem dX10_feel_83 : decode cX10_feel 83 = .ok (.istore 6, 2) := dk_54 6 (dk_at dksX10_feel_3 13 rfl rfl)
theorem dX10_feel_85 : decode cX10_feel 85 = .ok (.iload 6, 2) := dk_21 6 (dk_at dksX10_feel_3 15 rfl rfl)
theorem dX10_feel_87 : decode cX10_feel 87 = .ok (.iload_n 2, 1) := dk_28 (dk_at dksX10_feel_3 17 rfl rfl)
theorem dX10_feel_88 : decode cX10_feel 88 = .ok (.if_icmp .ge 36, 3) := dk_162 0 36 (dk_at dksX10_feel_3 18 rfl rfl)
theorem dX10_feel_91 : decode cX10_feel 91 = .ok (.aload_n 0, 1) := dk_42 (dk_at dksX10_feel_3 21 rfl rfl)
theorem dX10_feel_92 : decode cX10_feel 92 = .ok (.getfield 125, 3) := dk_180 0 125 (dk_at dksX10_feel_4 0 rfl rfl)
theorem dX10_feel_95 : decode cX10_feel 95 = .ok (.aload_n 0, 1) := dk_42 (dk_at dksX10_feel_4 3 rfl rfl)
theorem dX10_feel_96 : decode cX10_feel 96 = .ok (.getfield 152, 3) := dk_180 0 152 (dk_at dksX10_feel_4 4 rfl rfl)
theorem dX10_feel_99 : decode cX10_feel 99 = .ok (.iload 6, 2) := dk_21 6 (dk_at dksX10_feel_4 7 rfl rfl)
theorem dX10_feel_101 : decode cX10_feel 101 = .ok (.iaload, 1) := dk_46 (dk_at dksX10_feel_4 9 rfl rfl)
theorem dX10_feel_102 : decode cX10_feel 102 = .ok (.iaload, 1) := dk_46 (dk_at dksX10_feel_4 10 rfl rfl)
theorem dX10_feel_103 : decode cX10_feel 103 = .ok (.iload_n 3, 1) := dk_29 (dk_at dksX10_feel_4 11 rfl rfl)
theorem dX10_feel_104 : decode cX10_feel 104 = .ok (.if_icmp .lt 14, 3) := dk_161 0 14 (dk_at dksX10_feel_4 12 rfl rfl)
theorem dX10_feel_107 : decode cX10_feel 107 = .ok (.aload_n 0, 1) := dk_42 (dk_at dksX10_feel_4 15 rfl rfl)
theorem dX10_feel_108 : decode cX10_feel 108 = .ok (.getfield 155, 3) := dk_180 0 155 (dk_at dksX10_feel_4 16 rfl rfl)
theorem dX10_feel_111 : decode cX10_feel 111 = .ok (.iload 6, 2) := dk_21 6 (dk_at dksX10_feel_4 19 rfl rfl)
theorem dX10_feel_113 : decode cX10_feel 113 = .ok (.dup2, 1) := dk_92 (dk_at dksX10_feel_4 21 rfl rfl)
theorem dX10_feel_114 : decode cX10_feel 114 = .ok (.iaload, 1) := dk_46 (dk_at dksX10_feel_4 22 rfl rfl)
theorem dX10_feel_115 : decode cX10_feel 115 = .ok (.iconst 1, 1) := dk_4 (dk_at dksX10_feel_4 23 rfl rfl)
theorem dX10_feel_116 : decode cX10_feel 116 = .ok (.iadd, 1) := dk_96 (dk_at dksX10_feel_5 0 rfl rfl)
theorem dX10_feel_117 : decode cX10_feel 117 = .ok (.iastore, 1) := dk_79 (dk_at dksX10_feel_5 1 rfl rfl)
theorem dX10_feel_118 : decode cX10_feel 118 = .ok (.iinc 6 1, 3) := dk_132 6 1 (dk_at dksX10_feel_5 2 rfl rfl)
theorem dX10_feel_121 : decode cX10_feel 121 = .ok (.goto (-36), 3) := dk_167 255 220 (dk_at dksX10_feel_5 5 rfl rfl)
theorem dX10_feel_124 : decode cX10_feel 124 = .ok (.iinc 5 1, 3) := dk_132 5 1 (dk_at dksX10_feel_5 8 rfl rfl)
theorem dX10_feel_127 : decode cX10_feel 127 = .ok (.goto (-71), 3) := dk_167 255 185 (dk_at dksX10_feel_5 11 rfl rfl)
theorem dX10_feel_130 : decode cX10_feel 130 = .ok (.bipush (-2), 2) := dk_16 254 (dk_at dksX10_feel_5 14 rfl rfl)
theorem dX10_feel_132 : decode cX10_feel 132 = .ok (.istore 5, 2) := dk_54 5 (dk_at dksX10_feel_5 16 rfl rfl)
theorem dX10_feel_134 : decode cX10_feel 134 = .ok (.iconst 0, 1) := dk_3 (dk_at dksX10_feel_5 18 rfl rfl)
theorem dX10_feel_135 : decode cX10_feel 135 = .ok (.istore 6, 2) := dk_54 6 (dk_at dksX10_feel_5 19 rfl rfl)
theorem dX10_feel_137 : decode cX10_feel 137 = .ok (.iconst 0, 1) := dk_3 (dk_at dksX10_feel_5 21 rfl rfl)
theorem dX10_feel_138 : decode cX10_feel 138 = .ok (.istore 7, 2) := dk_54 7 (dk_at dksX10_feel_5 22 rfl rfl)
theorem dX10_feel_140 : decode cX10_feel 140 = .ok (.iload 7, 2) := dk_21 7 (dk_at dksX10_feel_6 0 rfl rfl)
theorem dX10_feel_142 : decode cX10_feel 142 = .ok (.iload_n 2, 1) := dk_28 (dk_at dksX10_feel_6 2 rfl rfl)
theorem dX10_feel_143 : decode cX10_feel 143 = .ok (.if_icmp .ge 79, 3) := dk_162 0 79 (dk_at dksX10_feel_6 3 rfl rfl)
theorem dX10_feel_146 : decode cX10_feel 146 = .ok (.iload 4, 2) := dk_21 4 (dk_at dksX10_feel_6 6 rfl rfl)
theorem dX10_feel_148 : decode cX10_feel 148 = .ok (.ifCond .le 74, 3) := dk_158 0 74 (dk_at dksX10_feel_6 8 rfl rfl)
theorem dX10_feel_151 : decode cX10_feel 151 = .ok (.aload_n 0, 1) := dk_42 (dk_at dksX10_feel_6 11 rfl rfl)
theorem dX10_feel_152 : decode cX10_feel 152 = .ok (.getfield 155, 3) := dk_180 0 155 (dk_at dksX10_feel_6 12 rfl rfl)
theorem dX10_feel_155 : decode cX10_feel 155 = .ok (.iload 7, 2) := dk_21 7 (dk_at dksX10_feel_6 15 rfl rfl)
theorem dX10_feel_157 : decode cX10_feel 157 = .ok (.iaload, 1) := dk_46 (dk_at dksX10_feel_6 17 rfl rfl)
theorem dX10_feel_158 : decode cX10_feel 158 = .ok (.iload 4, 2) := dk_21 4 (dk_at dksX10_feel_6 18 rfl rfl)
theorem dX10_feel_160 : decode cX10_feel 160 = .ok (.aload_n 0, 1) := dk_42 (dk_at dksX10_feel_6 20 rfl rfl)
theorem dX10_feel_161 : decode cX10_feel 161 = .ok (.getfield 155, 3) := dk_180 0 155 (dk_at dksX10_feel_6 21 rfl rfl)
theorem dX10_feel_164 : decode cX10_feel 164 = .ok (.iload 7, 2) := dk_21 7 (dk_at dksX10_feel_7 0 rfl rfl)
theorem dX10_feel_166 : decode cX10_feel 166 = .ok (.iaload, 1) := dk_46 (dk_at dksX10_feel_7 2 rfl rfl)
theorem dX10_feel_167 : decode cX10_feel 167 = .ok (.isub, 1) := dk_100 (dk_at dksX10_feel_7 3 rfl rfl)
theorem dX10_feel_168 : decode cX10_feel 168 = .ok (.if_icmp .le 13, 3) := dk_164 0 13 (dk_at dksX10_feel_7 4 rfl rfl)
theorem dX10_feel_171 : decode cX10_feel 171 = .ok (.aload_n 0, 1) := dk_42 (dk_at dksX10_feel_7 7 rfl rfl)
theorem dX10_feel_172 : decode cX10_feel 172 = .ok (.getfield 155, 3) := dk_180 0 155 (dk_at dksX10_feel_7 8 rfl rfl)
theorem dX10_feel_175 : decode cX10_feel 175 = .ok (.iload 7, 2) := dk_21 7 (dk_at dksX10_feel_7 11 rfl rfl)
theorem dX10_feel_177 : decode cX10_feel 177 = .ok (.iaload, 1) := dk_46 (dk_at dksX10_feel_7 13 rfl rfl)
theorem dX10_feel_178 : decode cX10_feel 178 = .ok (.goto 13, 3) := dk_167 0 13 (dk_at dksX10_feel_7 14 rfl rfl)
theorem dX10_feel_181 : decode cX10_feel 181 = .ok (.iload 4, 2) := dk_21 4 (dk_at dksX10_feel_7 17 rfl rfl)
theorem dX10_feel_183 : decode cX10_feel 183 = .ok (.aload_n 0, 1) := dk_42 (dk_at dksX10_feel_7 19 rfl rfl)
theorem dX10_feel_184 : decode cX10_feel 184 = .ok (.getfield 155, 3) := dk_180 0 155 (dk_at dksX10_feel_7 20 rfl rfl)
theorem dX10_feel_187 : decode cX10_feel 187 = .ok (.iload 7, 2) := dk_21 7 (dk_at dksX10_feel_8 0 rfl rfl)
theorem dX10_feel_189 : decode cX10_feel 189 = .ok (.iaload, 1) := dk_46 (dk_at dksX10_feel_8 2 rfl rfl)
theorem dX10_feel_190 : decode cX10_feel 190 = .ok (.isub, 1) := dk_100 (dk_at dksX10_feel_8 3 rfl rfl)
theorem dX10_feel_191 : decode cX10_feel 191 = .ok (.istore 8, 2) := dk_54 8 (dk_at dksX10_feel_8 4 rfl rfl)
theorem dX10_feel_193 : decode cX10_feel 193 = .ok (.iload 5, 2) := dk_21 5 (dk_at dksX10_feel_8 6 rfl rfl)
theorem dX10_feel_195 : decode cX10_feel 195 = .ok (.ifCond .lt 13, 3) := dk_155 0 13 (dk_at dksX10_feel_8 8 rfl rfl)
theorem dX10_feel_198 : decode cX10_feel 198 = .ok (.iload 8, 2) := dk_21 8 (dk_at dksX10_feel_8 11 rfl rfl)
theorem dX10_feel_200 : decode cX10_feel 200 = .ok (.iload 6, 2) := dk_21 6 (dk_at dksX10_feel_8 13 rfl rfl)
theorem dX10_feel_202 : decode cX10_feel 202 = .ok (.if_icmp .lt 6, 3) := dk_161 0 6 (dk_at dksX10_feel_8 15 rfl rfl)
theorem dX10_feel_205 : decode cX10_feel 205 = .ok (.goto 11, 3) := dk_167 0 11 (dk_at dksX10_feel_8 18 rfl rfl)
theorem dX10_feel_208 : decode cX10_feel 208 = .ok (.iload 7, 2) := dk_21 7 (dk_at dksX10_feel_8 21 rfl rfl)
theorem dX10_feel_210 : decode cX10_feel 210 = .ok (.istore 5, 2) := dk_54 5 (dk_at dksX10_feel_9 0 rfl rfl)
theorem dX10_feel_212 : decode cX10_feel 212 = .ok (.iload 8, 2) := dk_21 8 (dk_at dksX10_feel_9 2 rfl rfl)
theorem dX10_feel_214 : decode cX10_feel 214 = .ok (.istore 6, 2) := dk_54 6 (dk_at dksX10_feel_9 4 rfl rfl)
theorem dX10_feel_216 : decode cX10_feel 216 = .ok (.iinc 7 1, 3) := dk_132 7 1 (dk_at dksX10_feel_9 6 rfl rfl)
theorem dX10_feel_219 : decode cX10_feel 219 = .ok (.goto (-79), 3) := dk_167 255 177 (dk_at dksX10_feel_9 9 rfl rfl)
theorem dX10_feel_222 : decode cX10_feel 222 = .ok (.iload 5, 2) := dk_21 5 (dk_at dksX10_feel_9 12 rfl rfl)
theorem dX10_feel_224 : decode cX10_feel 224 = .ok (.ireturn, 1) := dk_172 (dk_at dksX10_feel_9 14 rfl rfl)
def dkwX10_hold_2 : List UInt8 := [167, 255, 230, 4, 172]
abbrev dktX10_hold_2 : List UInt8 := dkwX10_hold_2 ++ []
def dkwX10_hold_1 : List UInt8 := [162, 0, 26, 42, 180, 0, 161, 16, 33, 27, 104, 28, 96, 42, 180, 0, 107, 28, 46, 79, 132, 2, 1]
abbrev dktX10_hold_1 : List UInt8 := dkwX10_hold_1 ++ dktX10_hold_2
def dkwX10_hold_0 : List UInt8 := [27, 3, 5, 184, 1, 66, 154, 0, 5, 3, 172, 42, 180, 0, 158, 27, 4, 84, 3, 61, 28, 16, 33]
abbrev dktX10_hold_0 : List UInt8 := dkwX10_hold_0 ++ dktX10_hold_1
theorem dksX10_hold_0 : cX10_hold.data.toList.drop 0 = dktX10_hold_0 := by decide +kernel
theorem dksX10_hold_1 : cX10_hold.data.toList.drop 23 = dktX10_hold_1 := dk_seg dksX10_hold_0 23 rfl rfl
theorem dksX10_hold_2 : cX10_hold.data.toList.drop 46 = dktX10_hold_2 := dk_seg dksX10_hold_1 23 rfl rfl
theorem dX10_hold_0 : decode cX10_hold 0 = .ok (.iload_n 1, 1) := dk_27 (dk_at dksX10_hold_0 0 rfl rfl)
theorem dX10_hold_1 : decode cX10_hold 1 = .ok (.iconst 0, 1) := dk_3 (dk_at dksX10_hold_0 1 rfl rfl)
theorem dX10_hold_2 : decode cX10_hold 2 = .ok (.iconst 2, 1) := dk_5 (dk_at dksX10_hold_0 2 rfl rfl)
theorem dX10_hold_3 : decode cX10_hold 3 = .ok (.invokestatic 322, 3) := dk_184 1 66 (dk_at dksX10_hold_0 3 rfl rfl)
theorem dX10_hold_6 : decode cX10_hold 6 = .ok (.ifCond .ne 5, 3) := dk_154 0 5 (dk_at dksX10_hold_0 6 rfl rfl)
theorem dX10_hold_9 : decode cX10_hold 9 = .ok (.iconst 0, 1) := dk_3 (dk_at dksX10_hold_0 9 rfl rfl)
theorem dX10_hold_10 : decode cX10_hold 10 = .ok (.ireturn, 1) := dk_172 (dk_at dksX10_hold_0 10 rfl rfl)
theorem dX10_hold_11 : decode cX10_hold 11 = .ok (.aload_n 0, 1) := dk_42 (dk_at dksX10_hold_0 11 rfl rfl)
theorem dX10_hold_12 : decode cX10_hold 12 = .ok (.getfield 158, 3) := dk_180 0 158 (dk_at dksX10_hold_0 12 rfl rfl)
theorem dX10_hold_15 : decode cX10_hold 15 = .ok (.iload_n 1, 1) := dk_27 (dk_at dksX10_hold_0 15 rfl rfl)
theorem dX10_hold_16 : decode cX10_hold 16 = .ok (.iconst 1, 1) := dk_4 (dk_at dksX10_hold_0 16 rfl rfl)
theorem dX10_hold_17 : decode cX10_hold 17 = .ok (.bastore, 1) := dk_84 (dk_at dksX10_hold_0 17 rfl rfl)
theorem dX10_hold_18 : decode cX10_hold 18 = .ok (.iconst 0, 1) := dk_3 (dk_at dksX10_hold_0 18 rfl rfl)
theorem dX10_hold_19 : decode cX10_hold 19 = .ok (.istore_n 2, 1) := dk_61 (dk_at dksX10_hold_0 19 rfl rfl)
theorem dX10_hold_20 : decode cX10_hold 20 = .ok (.iload_n 2, 1) := dk_28 (dk_at dksX10_hold_0 20 rfl rfl)
theorem dX10_hold_21 : decode cX10_hold 21 = .ok (.bipush 33, 2) := dk_16 33 (dk_at dksX10_hold_0 21 rfl rfl)
theorem dX10_hold_23 : decode cX10_hold 23 = .ok (.if_icmp .ge 26, 3) := dk_162 0 26 (dk_at dksX10_hold_1 0 rfl rfl)
theorem dX10_hold_26 : decode cX10_hold 26 = .ok (.aload_n 0, 1) := dk_42 (dk_at dksX10_hold_1 3 rfl rfl)
theorem dX10_hold_27 : decode cX10_hold 27 = .ok (.getfield 161, 3) := dk_180 0 161 (dk_at dksX10_hold_1 4 rfl rfl)
theorem dX10_hold_30 : decode cX10_hold 30 = .ok (.bipush 33, 2) := dk_16 33 (dk_at dksX10_hold_1 7 rfl rfl)
theorem dX10_hold_32 : decode cX10_hold 32 = .ok (.iload_n 1, 1) := dk_27 (dk_at dksX10_hold_1 9 rfl rfl)
theorem dX10_hold_33 : decode cX10_hold 33 = .ok (.imul, 1) := dk_104 (dk_at dksX10_hold_1 10 rfl rfl)
theorem dX10_hold_34 : decode cX10_hold 34 = .ok (.iload_n 2, 1) := dk_28 (dk_at dksX10_hold_1 11 rfl rfl)
theorem dX10_hold_35 : decode cX10_hold 35 = .ok (.iadd, 1) := dk_96 (dk_at dksX10_hold_1 12 rfl rfl)
theorem dX10_hold_36 : decode cX10_hold 36 = .ok (.aload_n 0, 1) := dk_42 (dk_at dksX10_hold_1 13 rfl rfl)
theorem dX10_hold_37 : decode cX10_hold 37 = .ok (.getfield 107, 3) := dk_180 0 107 (dk_at dksX10_hold_1 14 rfl rfl)
theorem dX10_hold_40 : decode cX10_hold 40 = .ok (.iload_n 2, 1) := dk_28 (dk_at dksX10_hold_1 17 rfl rfl)
theorem dX10_hold_41 : decode cX10_hold 41 = .ok (.iaload, 1) := dk_46 (dk_at dksX10_hold_1 18 rfl rfl)
theorem dX10_hold_42 : decode cX10_hold 42 = .ok (.iastore, 1) := dk_79 (dk_at dksX10_hold_1 19 rfl rfl)
theorem dX10_hold_43 : decode cX10_hold 43 = .ok (.iinc 2 1, 3) := dk_132 2 1 (dk_at dksX10_hold_1 20 rfl rfl)
theorem dX10_hold_46 : decode cX10_hold 46 = .ok (.goto (-26), 3) := dk_167 255 230 (dk_at dksX10_hold_2 0 rfl rfl)
theorem dX10_hold_49 : decode cX10_hold 49 = .ok (.iconst 1, 1) := dk_4 (dk_at dksX10_hold_2 3 rfl rfl)
theorem dX10_hold_50 : decode cX10_hold 50 = .ok (.ireturn, 1) := dk_172 (dk_at dksX10_hold_2 4 rfl rfl)
def dkwX10_restore_2 : List UInt8 := [132, 2, 1, 167, 255, 230, 42, 3, 181, 1, 7, 4, 172]
abbrev dktX10_restore_2 : List UInt8 := dkwX10_restore_2 ++ []
def dkwX10_restore_1 : List UInt8 := [16, 33, 162, 0, 26, 42, 180, 0, 107, 28, 42, 180, 0, 161, 16, 33, 27, 104, 28, 96, 46, 79]
abbrev dktX10_restore_1 : List UInt8 := dkwX10_restore_1 ++ dktX10_restore_2
def dkwX10_restore_0 : List UInt8 := [27, 3, 5, 184, 1, 66, 153, 0, 12, 42, 180, 0, 158, 27, 51, 154, 0, 5, 3, 172, 3, 61, 28]
abbrev dktX10_restore_0 : List UInt8 := dkwX10_restore_0 ++ dktX10_restore_1
theorem dksX10_restore_0 : cX10_restore.data.toList.drop 0 = dktX10_restore_0 := by decide +kernel
theorem dksX10_restore_1 : cX10_restore.data.toList.drop 23 = dktX10_restore_1 := dk_seg dksX10_restore_0 23 rfl rfl
theorem dksX10_restore_2 : cX10_restore.data.toList.drop 45 = dktX10_restore_2 := dk_seg dksX10_restore_1 22 rfl rfl
theorem dX10_restore_0 : decode cX10_restore 0 = .ok (.iload_n 1, 1) := dk_27 (dk_at dksX10_restore_0 0 rfl rfl)
theorem dX10_restore_1 : decode cX10_restore 1 = .ok (.iconst 0, 1) := dk_3 (dk_at dksX10_restore_0 1 rfl rfl)
theorem dX10_restore_2 : decode cX10_restore 2 = .ok (.iconst 2, 1) := dk_5 (dk_at dksX10_restore_0 2 rfl rfl)
theorem dX10_restore_3 : decode cX10_restore 3 = .ok (.invokestatic 322, 3) := dk_184 1 66 (dk_at dksX10_restore_0 3 rfl rfl)
theorem dX10_restore_6 : decode cX10_restore 6 = .ok (.ifCond .eq 12, 3) := dk_153 0 12 (dk_at dksX10_restore_0 6 rfl rfl)
theorem dX10_restore_9 : decode cX10_restore 9 = .ok (.aload_n 0, 1) := dk_42 (dk_at dksX10_restore_0 9 rfl rfl)
theorem dX10_restore_10 : decode cX10_restore 10 = .ok (.getfield 158, 3) := dk_180 0 158 (dk_at dksX10_restore_0 10 rfl rfl)
theorem dX10_restore_13 : decode cX10_restore 13 = .ok (.iload_n 1, 1) := dk_27 (dk_at dksX10_restore_0 13 rfl rfl)
theorem dX10_restore_14 : decode cX10_restore 14 = .ok (.baload, 1) := dk_51 (dk_at dksX10_restore_0 14 rfl rfl)
theorem dX10_restore_15 : decode cX10_restore 15 = .ok (.ifCond .ne 5, 3) := dk_154 0 5 (dk_at dksX10_restore_0 15 rfl rfl)
theorem dX10_restore_18 : decode cX10_restore 18 = .ok (.iconst 0, 1) := dk_3 (dk_at dksX10_restore_0 18 rfl rfl)
theorem dX10_restore_19 : decode cX10_restore 19 = .ok (.ireturn, 1) := dk_172 (dk_at dksX10_restore_0 19 rfl rfl)
theorem dX10_restore_20 : decode cX10_restore 20 = .ok (.iconst 0, 1) := dk_3 (dk_at dksX10_restore_0 20 rfl rfl)
theorem dX10_restore_21 : decode cX10_restore 21 = .ok (.istore_n 2, 1) := dk_61 (dk_at dksX10_restore_0 21 rfl rfl)
theorem dX10_restore_22 : decode cX10_restore 22 = .ok (.iload_n 2, 1) := dk_28 (dk_at dksX10_restore_0 22 rfl rfl)
theorem dX10_restore_23 : decode cX10_restore 23 = .ok (.bipush 33, 2) := dk_16 33 (dk_at dksX10_restore_1 0 rfl rfl)
theorem dX10_restore_25 : decode cX10_restore 25 = .ok (.if_icmp .ge 26, 3) := dk_162 0 26 (dk_at dksX10_restore_1 2 rfl rfl)
theorem dX10_restore_28 : decode cX10_restore 28 = .ok (.aload_n 0, 1) := dk_42 (dk_at dksX10_restore_1 5 rfl rfl)
theorem dX10_restore_29 : decode cX10_restore 29 = .ok (.getfield 107, 3) := dk_180 0 107 (dk_at dksX10_restore_1 6 rfl rfl)
theorem dX10_restore_32 : decode cX10_restore 32 = .ok (.iload_n 2, 1) := dk_28 (dk_at dksX10_restore_1 9 rfl rfl)
theorem dX10_restore_33 : decode cX10_restore 33 = .ok (.aload_n 0, 1) := dk_42 (dk_at dksX10_restore_1 10 rfl rfl)
theorem dX10_restore_34 : decode cX10_restore 34 = .ok (.getfield 161, 3) := dk_180 0 161 (dk_at dksX10_restore_1 11 rfl rfl)
theorem dX10_restore_37 : decode cX10_restore 37 = .ok (.bipush 33, 2) := dk_16 33 (dk_at dksX10_restore_1 14 rfl rfl)
theorem dX10_restore_39 : decode cX10_restore 39 = .ok (.iload_n 1, 1) := dk_27 (dk_at dksX10_restore_1 16 rfl rfl)
theorem dX10_restore_40 : decode cX10_restore 40 = .ok (.imul, 1) := dk_104 (dk_at dksX10_restore_1 17 rfl rfl)
theorem dX10_restore_41 : decode cX10_restore 41 = .ok (.iload_n 2, 1) := dk_28 (dk_at dksX10_restore_1 18 rfl rfl)
theorem dX10_restore_42 : decode cX10_restore 42 = .ok (.iadd, 1) := dk_96 (dk_at dksX10_restore_1 19 rfl rfl)
theorem dX10_restore_43 : decode cX10_restore 43 = .ok (.iaload, 1) := dk_46 (dk_at dksX10_restore_1 20 rfl rfl)
theorem dX10_restore_44 : decode cX10_restore 44 = .ok (.iastore, 1) := dk_79 (dk_at dksX10_restore_1 21 rfl rfl)
theorem dX10_restore_45 : decode cX10_restore 45 = .ok (.iinc 2 1, 3) := dk_132 2 1 (dk_at dksX10_restore_2 0 rfl rfl)
theorem dX10_restore_48 : decode cX10_restore 48 = .ok (.goto (-26), 3) := dk_167 255 230 (dk_at dksX10_restore_2 3 rfl rfl)
theorem dX10_restore_51 : decode cX10_restore 51 = .ok (.aload_n 0, 1) := dk_42 (dk_at dksX10_restore_2 6 rfl rfl)
theorem dX10_restore_52 : decode cX10_restore 52 = .ok (.iconst 0, 1) := dk_3 (dk_at dksX10_restore_2 7 rfl rfl)
theorem dX10_restore_53 : decode cX10_restore 53 = .ok (.putfield 263, 3) := dk_181 1 7 (dk_at dksX10_restore_2 8 rfl rfl)
theorem dX10_restore_56 : decode cX10_restore 56 = .ok (.iconst 1, 1) := dk_4 (dk_at dksX10_restore_2 11 rfl rfl)
theorem dX10_restore_57 : decode cX10_restore 57 = .ok (.ireturn, 1) := dk_172 (dk_at dksX10_restore_2 12 rfl rfl)
def dkwX10_count_12 : List UInt8 := [172, 2, 172]
abbrev dktX10_count_12 : List UInt8 := dkwX10_count_12 ++ []
def dkwX10_count_11 : List UInt8 := [46, 154, 0, 9, 28, 4, 29, 120, 128, 61, 132, 3, 1, 167, 255, 225, 28, 172, 42, 16, 12, 182, 1, 244]
abbrev dktX10_count_11 : List UInt8 := dkwX10_count_11 ++ dktX10_count_12
def dkwX10_count_10 : List UInt8 := [182, 1, 244, 172, 3, 62, 29, 42, 180, 0, 43, 42, 180, 0, 245, 46, 162, 0, 24, 42, 180, 0, 110, 29]
abbrev dktX10_count_10 : List UInt8 := dkwX10_count_10 ++ dktX10_count_11
def dkwX10_count_9 : List UInt8 := [161, 0, 7, 4, 167, 0, 4, 3, 172, 42, 180, 0, 61, 42, 180, 0, 245, 46, 172, 42, 16, 18]
abbrev dktX10_count_9 : List UInt8 := dkwX10_count_9 ++ dktX10_count_10
def dkwX10_count_8 : List UInt8 := [153, 0, 7, 4, 167, 0, 4, 3, 96, 172, 42, 182, 1, 150, 42, 180, 0, 58, 42, 180, 0, 245, 46]
abbrev dktX10_count_8 : List UInt8 := dkwX10_count_8 ++ dktX10_count_9
def dkwX10_count_7 : List UInt8 := [3, 42, 180, 0, 158, 4, 51, 153, 0, 7, 4, 167, 0, 4, 3, 96, 42, 180, 0, 158, 5, 51]
abbrev dktX10_count_7 : List UInt8 := dkwX10_count_7 ++ dktX10_count_8
def dkwX10_count_6 : List UInt8 := [172, 42, 180, 1, 7, 172, 42, 180, 1, 10, 172, 42, 180, 0, 158, 3, 51, 153, 0, 7, 4, 167, 0, 4]
abbrev dktX10_count_6 : List UInt8 := dkwX10_count_6 ++ dktX10_count_7
def dkwX10_count_5 : List UInt8 := [182, 1, 83, 153, 0, 9, 28, 4, 29, 120, 128, 61, 132, 3, 1, 167, 255, 226, 28, 172, 42, 180, 0, 178]
abbrev dktX10_count_5 : List UInt8 := dkwX10_count_5 ++ dktX10_count_6
def dkwX10_count_4 : List UInt8 := [172, 42, 3, 182, 1, 244, 172, 3, 62, 29, 42, 180, 0, 43, 42, 180, 0, 245, 46, 162, 0, 23, 42, 29]
abbrev dktX10_count_4 : List UInt8 := dkwX10_count_4 ++ dktX10_count_5
def dkwX10_count_3 : List UInt8 := [16, 31, 46, 172, 42, 180, 0, 110, 16, 24, 46, 172, 42, 182, 1, 150, 172, 42, 180, 0, 110, 16, 32, 46]
abbrev dktX10_count_3 : List UInt8 := dkwX10_count_3 ++ dktX10_count_4
def dkwX10_count_2 : List UInt8 := [42, 180, 0, 43, 42, 180, 0, 245, 46, 172, 42, 180, 0, 58, 42, 180, 0, 245, 46, 172, 42, 180, 0, 110]
abbrev dktX10_count_2 : List UInt8 := dkwX10_count_2 ++ dktX10_count_3
def dkwX10_count_1 : List UInt8 := [170, 0, 0, 1, 61, 0, 0, 0, 0, 0, 0, 0, 16, 0, 0, 0, 81, 0, 0, 0, 91, 0, 0, 0, 101, 0, 0, 0, 109, 0, 0, 0, 117, 0, 0, 0, 122, 0, 0, 0, 130, 0, 0, 0, 136, 0, 0, 0, 173, 0, 0, 0, 178, 0, 0, 0, 183, 0, 0, 0, 188, 0, 0, 0, 233, 0, 0, 0, 255, 0, 0, 1, 9, 0, 0, 1, 16, 0, 0, 1, 54]
abbrev dktX10_count_1 : List UInt8 := dkwX10_count_1 ++ dktX10_count_2
def dkwX10_count_0 : List UInt8 := [42, 182, 1, 76, 3, 61, 27]
abbrev dktX10_count_0 : List UInt8 := dkwX10_count_0 ++ dktX10_count_1
theorem dksX10_count_0 : cX10_count.data.toList.drop 0 = dktX10_count_0 := by decide +kernel
theorem dksX10_count_1 : cX10_count.data.toList.drop 7 = dktX10_count_1 := dk_seg dksX10_count_0 7 rfl rfl
theorem dksX10_count_2 : cX10_count.data.toList.drop 88 = dktX10_count_2 := dk_seg dksX10_count_1 81 rfl rfl
theorem dksX10_count_3 : cX10_count.data.toList.drop 112 = dktX10_count_3 := dk_seg dksX10_count_2 24 rfl rfl
theorem dksX10_count_4 : cX10_count.data.toList.drop 136 = dktX10_count_4 := dk_seg dksX10_count_3 24 rfl rfl
theorem dksX10_count_5 : cX10_count.data.toList.drop 160 = dktX10_count_5 := dk_seg dksX10_count_4 24 rfl rfl
theorem dksX10_count_6 : cX10_count.data.toList.drop 184 = dktX10_count_6 := dk_seg dksX10_count_5 24 rfl rfl
theorem dksX10_count_7 : cX10_count.data.toList.drop 208 = dktX10_count_7 := dk_seg dksX10_count_6 24 rfl rfl
theorem dksX10_count_8 : cX10_count.data.toList.drop 230 = dktX10_count_8 := dk_seg dksX10_count_7 22 rfl rfl
theorem dksX10_count_9 : cX10_count.data.toList.drop 253 = dktX10_count_9 := dk_seg dksX10_count_8 23 rfl rfl
theorem dksX10_count_10 : cX10_count.data.toList.drop 275 = dktX10_count_10 := dk_seg dksX10_count_9 22 rfl rfl
theorem dksX10_count_11 : cX10_count.data.toList.drop 299 = dktX10_count_11 := dk_seg dksX10_count_10 24 rfl rfl
theorem dksX10_count_12 : cX10_count.data.toList.drop 323 = dktX10_count_12 := dk_seg dksX10_count_11 24 rfl rfl
theorem dX10_count_0 : decode cX10_count 0 = .ok (.aload_n 0, 1) := dk_42 (dk_at dksX10_count_0 0 rfl rfl)
theorem dX10_count_1 : decode cX10_count 1 = .ok (.invokevirtual 332, 3) := dk_182 1 76 (dk_at dksX10_count_0 1 rfl rfl)
theorem dX10_count_4 : decode cX10_count 4 = .ok (.iconst 0, 1) := dk_3 (dk_at dksX10_count_0 4 rfl rfl)
theorem dX10_count_5 : decode cX10_count 5 = .ok (.istore_n 2, 1) := dk_61 (dk_at dksX10_count_0 5 rfl rfl)
theorem dX10_count_6 : decode cX10_count 6 = .ok (.iload_n 1, 1) := dk_27 (dk_at dksX10_count_0 6 rfl rfl)
theorem dX10_count_7 : decode cX10_count 7 = .ok (.tableswitch 317 0 16 #[81, 91, 101, 109, 117, 122, 130, 136, 173, 178, 183, 188, 233, 255, 265, 272, 310], 81) := by decide +kernel
theorem dX10_count_88 : decode cX10_count 88 = .ok (.aload_n 0, 1) := dk_42 (dk_at dksX10_count_2 0 rfl rfl)
theorem dX10_count_89 : decode cX10_count 89 = .ok (.getfield 43, 3) := dk_180 0 43 (dk_at dksX10_count_2 1 rfl rfl)
theorem dX10_count_92 : decode cX10_count 92 = .ok (.aload_n 0, 1) := dk_42 (dk_at dksX10_count_2 4 rfl rfl)
theorem dX10_count_93 : decode cX10_count 93 = .ok (.getfield 245, 3) := dk_180 0 245 (dk_at dksX10_count_2 5 rfl rfl)
theorem dX10_count_96 : decode cX10_count 96 = .ok (.iaload, 1) := dk_46 (dk_at dksX10_count_2 8 rfl rfl)
theorem dX10_count_97 : decode cX10_count 97 = .ok (.ireturn, 1) := dk_172 (dk_at dksX10_count_2 9 rfl rfl)
theorem dX10_count_98 : decode cX10_count 98 = .ok (.aload_n 0, 1) := dk_42 (dk_at dksX10_count_2 10 rfl rfl)
theorem dX10_count_99 : decode cX10_count 99 = .ok (.getfield 58, 3) := dk_180 0 58 (dk_at dksX10_count_2 11 rfl rfl)
theorem dX10_count_102 : decode cX10_count 102 = .ok (.aload_n 0, 1) := dk_42 (dk_at dksX10_count_2 14 rfl rfl)
theorem dX10_count_103 : decode cX10_count 103 = .ok (.getfield 245, 3) := dk_180 0 245 (dk_at dksX10_count_2 15 rfl rfl)
theorem dX10_count_106 : decode cX10_count 106 = .ok (.iaload, 1) := dk_46 (dk_at dksX10_count_2 18 rfl rfl)
theorem dX10_count_107 : decode cX10_count 107 = .ok (.ireturn, 1) := dk_172 (dk_at dksX10_count_2 19 rfl rfl)
theorem dX10_count_108 : decode cX10_count 108 = .ok (.aload_n 0, 1) := dk_42 (dk_at dksX10_count_2 20 rfl rfl)
theorem dX10_count_109 : decode cX10_count 109 = .ok (.getfield 110, 3) := dk_180 0 110 (dk_at dksX10_count_2 21 rfl rfl)
theorem dX10_count_112 : decode cX10_count 112 = .ok (.bipush 31, 2) := dk_16 31 (dk_at dksX10_count_3 0 rfl rfl)
theorem dX10_count_114 : decode cX10_count 114 = .ok (.iaload, 1) := dk_46 (dk_at dksX10_count_3 2 rfl rfl)
theorem dX10_count_115 : decode cX10_count 115 = .ok (.ireturn, 1) := dk_172 (dk_at dksX10_count_3 3 rfl rfl)
theorem dX10_count_116 : decode cX10_count 116 = .ok (.aload_n 0, 1) := dk_42 (dk_at dksX10_count_3 4 rfl rfl)
theorem dX10_count_117 : decode cX10_count 117 = .ok (.getfield 110, 3) := dk_180 0 110 (dk_at dksX10_count_3 5 rfl rfl)
theorem dX10_count_120 : decode cX10_count 120 = .ok (.bipush 24, 2) := dk_16 24 (dk_at dksX10_count_3 8 rfl rfl)
theorem dX10_count_122 : decode cX10_count 122 = .ok (.iaload, 1) := dk_46 (dk_at dksX10_count_3 10 rfl rfl)
theorem dX10_count_123 : decode cX10_count 123 = .ok (.ireturn, 1) := dk_172 (dk_at dksX10_count_3 11 rfl rfl)
theorem dX10_count_124 : decode cX10_count 124 = .ok (.aload_n 0, 1) := dk_42 (dk_at dksX10_count_3 12 rfl rfl)
theorem dX10_count_125 : decode cX10_count 125 = .ok (.invokevirtual 406, 3) := dk_182 1 150 (dk_at dksX10_count_3 13 rfl rfl)
theorem dX10_count_128 : decode cX10_count 128 = .ok (.ireturn, 1) := dk_172 (dk_at dksX10_count_3 16 rfl rfl)
theorem dX10_count_129 : decode cX10_count 129 = .ok (.aload_n 0, 1) := dk_42 (dk_at dksX10_count_3 17 rfl rfl)
theorem dX10_count_130 : decode cX10_count 130 = .ok (.getfield 110, 3) := dk_180 0 110 (dk_at dksX10_count_3 18 rfl rfl)
theorem dX10_count_133 : decode cX10_count 133 = .ok (.bipush 32, 2) := dk_16 32 (dk_at dksX10_count_3 21 rfl rfl)
theorem dX10_count_135 : decode cX10_count 135 = .ok (.iaload, 1) := dk_46 (dk_at dksX10_count_3 23 rfl rfl)
theorem dX10_count_136 : decode cX10_count 136 = .ok (.ireturn, 1) := dk_172 (dk_at dksX10_count_4 0 rfl rfl)
theorem dX10_count_137 : decode cX10_count 137 = .ok (.aload_n 0, 1) := dk_42 (dk_at dksX10_count_4 1 rfl rfl)
theorem dX10_count_138 : decode cX10_count 138 = .ok (.iconst 0, 1) := dk_3 (dk_at dksX10_count_4 2 rfl rfl)
theorem dX10_count_139 : decode cX10_count 139 = .ok (.invokevirtual 500, 3) := dk_182 1 244 (dk_at dksX10_count_4 3 rfl rfl)
theorem dX10_count_142 : decode cX10_count 142 = .ok (.ireturn, 1) := dk_172 (dk_at dksX10_count_4 6 rfl rfl)
theorem dX10_count_143 : decode cX10_count 143 = .ok (.iconst 0, 1) := dk_3 (dk_at dksX10_count_4 7 rfl rfl)
theorem dX10_count_144 : decode cX10_count 144 = .ok (.istore_n 3, 1) := dk_62 (dk_at dksX10_count_4 8 rfl rfl)
theorem dX10_count_145 : decode cX10_count 145 = .ok (.iload_n 3, 1) := dk_29 (dk_at dksX10_count_4 9 rfl rfl)
theorem dX10_count_146 : decode cX10_count 146 = .ok (.aload_n 0, 1) := dk_42 (dk_at dksX10_count_4 10 rfl rfl)
theorem dX10_count_147 : decode cX10_count 147 = .ok (.getfield 43, 3) := dk_180 0 43 (dk_at dksX10_count_4 11 rfl rfl)
theorem dX10_count_150 : decode cX10_count 150 = .ok (.aload_n 0, 1) := dk_42 (dk_at dksX10_count_4 14 rfl rfl)
theorem dX10_count_151 : decode cX10_count 151 = .ok (.getfield 245, 3) := dk_180 0 245 (dk_at dksX10_count_4 15 rfl rfl)
theorem dX10_count_154 : decode cX10_count 154 = .ok (.iaload, 1) := dk_46 (dk_at dksX10_count_4 18 rfl rfl)
theorem dX10_count_155 : decode cX10_count 155 = .ok (.if_icmp .ge 23, 3) := dk_162 0 23 (dk_at dksX10_count_4 19 rfl rfl)
theorem dX10_count_158 : decode cX10_count 158 = .ok (.aload_n 0, 1) := dk_42 (dk_at dksX10_count_4 22 rfl rfl)
theorem dX10_count_159 : decode cX10_count 159 = .ok (.iload_n 3, 1) := dk_29 (dk_at dksX10_count_4 23 rfl rfl)
theorem dX10_count_160 : decode cX10_count 160 = .ok (.invokevirtual 339, 3) := dk_182 1 83 (dk_at dksX10_count_5 0 rfl rfl)
theorem dX10_count_163 : decode cX10_count 163 = .ok (.ifCond .eq 9, 3) := dk_153 0 9 (dk_at dksX10_count_5 3 rfl rfl)
theorem dX10_count_166 : decode cX10_count 166 = .ok (.iload_n 2, 1) := dk_28 (dk_at dksX10_count_5 6 rfl rfl)
theorem dX10_count_167 : decode cX10_count 167 = .ok (.iconst 1, 1) := dk_4 (dk_at dksX10_count_5 7 rfl rfl)
theorem dX10_count_168 : decode cX10_count 168 = .ok (.iload_n 3, 1) := dk_29 (dk_at dksX10_count_5 8 rfl rfl)
theorem dX10_count_169 : decode cX10_count 169 = .ok (.ishl, 1) := dk_120 (dk_at dksX10_count_5 9 rfl rfl)
theorem dX10_count_170 : decode cX10_count 170 = .ok (.ior, 1) := dk_128 (dk_at dksX10_count_5 10 rfl rfl)
theorem dX10_count_171 : decode cX10_count 171 = .ok (.istore_n 2, 1) := dk_61 (dk_at dksX10_count_5 11 rfl rfl)
theorem dX10_count_172 : decode cX10_count 172 = .ok (.iinc 3 1, 3) := dk_132 3 1 (dk_at dksX10_count_5 12 rfl rfl)
theorem dX10_count_175 : decode cX10_count 175 = .ok (.goto (-30), 3) := dk_167 255 226 (dk_at dksX10_count_5 15 rfl rfl)
theorem dX10_count_178 : decode cX10_count 178 = .ok (.iload_n 2, 1) := dk_28 (dk_at dksX10_count_5 18 rfl rfl)
theorem dX10_count_179 : decode cX10_count 179 = .ok (.ireturn, 1) := dk_172 (dk_at dksX10_count_5 19 rfl rfl)
theorem dX10_count_180 : decode cX10_count 180 = .ok (.aload_n 0, 1) := dk_42 (dk_at dksX10_count_5 20 rfl rfl)
theorem dX10_count_181 : decode cX10_count 181 = .ok (.getfield 178, 3) := dk_180 0 178 (dk_at dksX10_count_5 21 rfl rfl)
theorem dX10_count_184 : decode cX10_count 184 = .ok (.ireturn, 1) := dk_172 (dk_at dksX10_count_6 0 rfl rfl)
theorem dX10_count_185 : decode cX10_count 185 = .ok (.aload_n 0, 1) := dk_42 (dk_at dksX10_count_6 1 rfl rfl)
theorem dX10_count_186 : decode cX10_count 186 = .ok (.getfield 263, 3) := dk_180 1 7 (dk_at dksX10_count_6 2 rfl rfl)
theorem dX10_count_189 : decode cX10_count 189 = .ok (.ireturn, 1) := dk_172 (dk_at dksX10_count_6 5 rfl rfl)
theorem dX10_count_190 : decode cX10_count 190 = .ok (.aload_n 0, 1) := dk_42 (dk_at dksX10_count_6 6 rfl rfl)
theorem dX10_count_191 : decode cX10_count 191 = .ok (.getfield 266, 3) := dk_180 1 10 (dk_at dksX10_count_6 7 rfl rfl)
theorem dX10_count_194 : decode cX10_count 194 = .ok (.ireturn, 1) := dk_172 (dk_at dksX10_count_6 10 rfl rfl)
theorem dX10_count_195 : decode cX10_count 195 = .ok (.aload_n 0, 1) := dk_42 (dk_at dksX10_count_6 11 rfl rfl)
theorem dX10_count_196 : decode cX10_count 196 = .ok (.getfield 158, 3) := dk_180 0 158 (dk_at dksX10_count_6 12 rfl rfl)
theorem dX10_count_199 : decode cX10_count 199 = .ok (.iconst 0, 1) := dk_3 (dk_at dksX10_count_6 15 rfl rfl)
theorem dX10_count_200 : decode cX10_count 200 = .ok (.baload, 1) := dk_51 (dk_at dksX10_count_6 16 rfl rfl)
theorem dX10_count_201 : decode cX10_count 201 = .ok (.ifCond .eq 7, 3) := dk_153 0 7 (dk_at dksX10_count_6 17 rfl rfl)
theorem dX10_count_204 : decode cX10_count 204 = .ok (.iconst 1, 1) := dk_4 (dk_at dksX10_count_6 20 rfl rfl)
theorem dX10_count_205 : decode cX10_count 205 = .ok (.goto 4, 3) := dk_167 0 4 (dk_at dksX10_count_6 21 rfl rfl)
theorem dX10_count_208 : decode cX10_count 208 = .ok (.iconst 0, 1) := dk_3 (dk_at dksX10_count_7 0 rfl rfl)
theorem dX10_count_209 : decode cX10_count 209 = .ok (.aload_n 0, 1) := dk_42 (dk_at dksX10_count_7 1 rfl rfl)
theorem dX10_count_210 : decode cX10_count 210 = .ok (.getfield 158, 3) := dk_180 0 158 (dk_at dksX10_count_7 2 rfl rfl)
theorem dX10_count_213 : decode cX10_count 213 = .ok (.iconst 1, 1) := dk_4 (dk_at dksX10_count_7 5 rfl rfl)
theorem dX10_count_214 : decode cX10_count 214 = .ok (.baload, 1) := dk_51 (dk_at dksX10_count_7 6 rfl rfl)
theorem dX10_count_215 : decode cX10_count 215 = .ok (.ifCond .eq 7, 3) := dk_153 0 7 (dk_at dksX10_count_7 7 rfl rfl)
theorem dX10_count_218 : decode cX10_count 218 = .ok (.iconst 1, 1) := dk_4 (dk_at dksX10_count_7 10 rfl rfl)
theorem dX10_count_219 : decode cX10_count 219 = .ok (.goto 4, 3) := dk_167 0 4 (dk_at dksX10_count_7 11 rfl rfl)
theorem dX10_count_222 : decode cX10_count 222 = .ok (.iconst 0, 1) := dk_3 (dk_at dksX10_count_7 14 rfl rfl)
theorem dX10_count_223 : decode cX10_count 223 = .ok (.iadd, 1) := dk_96 (dk_at dksX10_count_7 15 rfl rfl)
theorem dX10_count_224 : decode cX10_count 224 = .ok (.aload_n 0, 1) := dk_42 (dk_at dksX10_count_7 16 rfl rfl)
theorem dX10_count_225 : decode cX10_count 225 = .ok (.getfield 158, 3) := dk_180 0 158 (dk_at dksX10_count_7 17 rfl rfl)
theorem dX10_count_228 : decode cX10_count 228 = .ok (.iconst 2, 1) := dk_5 (dk_at dksX10_count_7 20 rfl rfl)
theorem dX10_count_229 : decode cX10_count 229 = .ok (.baload, 1) := dk_51 (dk_at dksX10_count_7 21 rfl rfl)
theorem dX10_count_230 : decode cX10_count 230 = .ok (.ifCond .eq 7, 3) := dk_153 0 7 (dk_at dksX10_count_8 0 rfl rfl)
theorem dX10_count_233 : decode cX10_count 233 = .ok (.iconst 1, 1) := dk_4 (dk_at dksX10_count_8 3 rfl rfl)
theorem dX10_count_234 : decode cX10_count 234 = .ok (.goto 4, 3) := dk_167 0 4 (dk_at dksX10_count_8 4 rfl rfl)
theorem dX10_count_237 : decode cX10_count 237 = .ok (.iconst 0, 1) := dk_3 (dk_at dksX10_count_8 7 rfl rfl)
theorem dX10_count_238 : decode cX10_count 238 = .ok (.iadd, 1) := dk_96 (dk_at dksX10_count_8 8 rfl rfl)
theorem dX10_count_239 : decode cX10_count 239 = .ok (.ireturn, 1) := dk_172 (dk_at dksX10_count_8 9 rfl rfl)
theorem dX10_count_240 : decode cX10_count 240 = .ok (.aload_n 0, 1) := dk_42 (dk_at dksX10_count_8 10 rfl rfl)
theorem dX10_count_241 : decode cX10_count 241 = .ok (.invokevirtual 406, 3) := dk_182 1 150 (dk_at dksX10_count_8 11 rfl rfl)
theorem dX10_count_244 : decode cX10_count 244 = .ok (.aload_n 0, 1) := dk_42 (dk_at dksX10_count_8 14 rfl rfl)
theorem dX10_count_245 : decode cX10_count 245 = .ok (.getfield 58, 3) := dk_180 0 58 (dk_at dksX10_count_8 15 rfl rfl)
theorem dX10_count_248 : decode cX10_count 248 = .ok (.aload_n 0, 1) := dk_42 (dk_at dksX10_count_8 18 rfl rfl)
theorem dX10_count_249 : decode cX10_count 249 = .ok (.getfield 245, 3) := dk_180 0 245 (dk_at dksX10_count_8 19 rfl rfl)
theorem dX10_count_252 : decode cX10_count 252 = .ok (.iaload, 1) := dk_46 (dk_at dksX10_count_8 22 rfl rfl)
theorem dX10_count_253 : decode cX10_count 253 = .ok (.if_icmp .lt 7, 3) := dk_161 0 7 (dk_at dksX10_count_9 0 rfl rfl)
theorem dX10_count_256 : decode cX10_count 256 = .ok (.iconst 1, 1) := dk_4 (dk_at dksX10_count_9 3 rfl rfl)
theorem dX10_count_257 : decode cX10_count 257 = .ok (.goto 4, 3) := dk_167 0 4 (dk_at dksX10_count_9 4 rfl rfl)
theorem dX10_count_260 : decode cX10_count 260 = .ok (.iconst 0, 1) := dk_3 (dk_at dksX10_count_9 7 rfl rfl)
theorem dX10_count_261 : decode cX10_count 261 = .ok (.ireturn, 1) := dk_172 (dk_at dksX10_count_9 8 rfl rfl)
theorem dX10_count_262 : decode cX10_count 262 = .ok (.aload_n 0, 1) := dk_42 (dk_at dksX10_count_9 9 rfl rfl)
theorem dX10_count_263 : decode cX10_count 263 = .ok (.getfield 61, 3) := dk_180 0 61 (dk_at dksX10_count_9 10 rfl rfl)
theorem dX10_count_266 : decode cX10_count 266 = .ok (.aload_n 0, 1) := dk_42 (dk_at dksX10_count_9 13 rfl rfl)
theorem dX10_count_267 : decode cX10_count 267 = .ok (.getfield 245, 3) := dk_180 0 245 (dk_at dksX10_count_9 14 rfl rfl)
theorem dX10_count_270 : decode cX10_count 270 = .ok (.iaload, 1) := dk_46 (dk_at dksX10_count_9 17 rfl rfl)
theorem dX10_count_271 : decode cX10_count 271 = .ok (.ireturn, 1) := dk_172 (dk_at dksX10_count_9 18 rfl rfl)
theorem dX10_count_272 : decode cX10_count 272 = .ok (.aload_n 0, 1) := dk_42 (dk_at dksX10_count_9 19 rfl rfl)
theorem dX10_count_273 : decode cX10_count 273 = .ok (.bipush 18, 2) := dk_16 18 (dk_at dksX10_count_9 20 rfl rfl)
theorem dX10_count_275 : decode cX10_count 275 = .ok (.invokevirtual 500, 3) := dk_182 1 244 (dk_at dksX10_count_10 0 rfl rfl)
theorem dX10_count_278 : decode cX10_count 278 = .ok (.ireturn, 1) := dk_172 (dk_at dksX10_count_10 3 rfl rfl)
theorem dX10_count_279 : decode cX10_count 279 = .ok (.iconst 0, 1) := dk_3 (dk_at dksX10_count_10 4 rfl rfl)
theorem dX10_count_280 : decode cX10_count 280 = .ok (.istore_n 3, 1) := dk_62 (dk_at dksX10_count_10 5 rfl rfl)
theorem dX10_count_281 : decode cX10_count 281 = .ok (.iload_n 3, 1) := dk_29 (dk_at dksX10_count_10 6 rfl rfl)
theorem dX10_count_282 : decode cX10_count 282 = .ok (.aload_n 0, 1) := dk_42 (dk_at dksX10_count_10 7 rfl rfl)
theorem dX10_count_283 : decode cX10_count 283 = .ok (.getfield 43, 3) := dk_180 0 43 (dk_at dksX10_count_10 8 rfl rfl)
theorem dX10_count_286 : decode cX10_count 286 = .ok (.aload_n 0, 1) := dk_42 (dk_at dksX10_count_10 11 rfl rfl)
theorem dX10_count_287 : decode cX10_count 287 = .ok (.getfield 245, 3) := dk_180 0 245 (dk_at dksX10_count_10 12 rfl rfl)
theorem dX10_count_290 : decode cX10_count 290 = .ok (.iaload, 1) := dk_46 (dk_at dksX10_count_10 15 rfl rfl)
theorem dX10_count_291 : decode cX10_count 291 = .ok (.if_icmp .ge 24, 3) := dk_162 0 24 (dk_at dksX10_count_10 16 rfl rfl)
theorem dX10_count_294 : decode cX10_count 294 = .ok (.aload_n 0, 1) := dk_42 (dk_at dksX10_count_10 19 rfl rfl)
theorem dX10_count_295 : decode cX10_count 295 = .ok (.getfield 110, 3) := dk_180 0 110 (dk_at dksX10_count_10 20 rfl rfl)
theorem dX10_count_298 : decode cX10_count 298 = .ok (.iload_n 3, 1) := dk_29 (dk_at dksX10_count_10 23 rfl rfl)
theorem dX10_count_299 : decode cX10_count 299 = .ok (.iaload, 1) := dk_46 (dk_at dksX10_count_11 0 rfl rfl)
theorem dX10_count_300 : decode cX10_count 300 = .ok (.ifCond .ne 9, 3) := dk_154 0 9 (dk_at dksX10_count_11 1 rfl rfl)
theorem dX10_count_303 : decode cX10_count 303 = .ok (.iload_n 2, 1) := dk_28 (dk_at dksX10_count_11 4 rfl rfl)
theorem dX10_count_304 : decode cX10_count 304 = .ok (.iconst 1, 1) := dk_4 (dk_at dksX10_count_11 5 rfl rfl)
theorem dX10_count_305 : decode cX10_count 305 = .ok (.iload_n 3, 1) := dk_29 (dk_at dksX10_count_11 6 rfl rfl)
theorem dX10_count_306 : decode cX10_count 306 = .ok (.ishl, 1) := dk_120 (dk_at dksX10_count_11 7 rfl rfl)
theorem dX10_count_307 : decode cX10_count 307 = .ok (.ior, 1) := dk_128 (dk_at dksX10_count_11 8 rfl rfl)
theorem dX10_count_308 : decode cX10_count 308 = .ok (.istore_n 2, 1) := dk_61 (dk_at dksX10_count_11 9 rfl rfl)
theorem dX10_count_309 : decode cX10_count 309 = .ok (.iinc 3 1, 3) := dk_132 3 1 (dk_at dksX10_count_11 10 rfl rfl)
theorem dX10_count_312 : decode cX10_count 312 = .ok (.goto (-31), 3) := dk_167 255 225 (dk_at dksX10_count_11 13 rfl rfl)
theorem dX10_count_315 : decode cX10_count 315 = .ok (.iload_n 2, 1) := dk_28 (dk_at dksX10_count_11 16 rfl rfl)
theorem dX10_count_316 : decode cX10_count 316 = .ok (.ireturn, 1) := dk_172 (dk_at dksX10_count_11 17 rfl rfl)
theorem dX10_count_317 : decode cX10_count 317 = .ok (.aload_n 0, 1) := dk_42 (dk_at dksX10_count_11 18 rfl rfl)
theorem dX10_count_318 : decode cX10_count 318 = .ok (.bipush 12, 2) := dk_16 12 (dk_at dksX10_count_11 19 rfl rfl)
theorem dX10_count_320 : decode cX10_count 320 = .ok (.invokevirtual 500, 3) := dk_182 1 244 (dk_at dksX10_count_11 21 rfl rfl)
theorem dX10_count_323 : decode cX10_count 323 = .ok (.ireturn, 1) := dk_172 (dk_at dksX10_count_12 0 rfl rfl)
theorem dX10_count_324 : decode cX10_count 324 = .ok (.iconst (-1), 1) := dk_2 (dk_at dksX10_count_12 1 rfl rfl)
theorem dX10_count_325 : decode cX10_count 325 = .ok (.ireturn, 1) := dk_172 (dk_at dksX10_count_12 2 rfl rfl)
def dkwX10_sumNow_1 : List UInt8 := [167, 255, 236, 28, 172]
abbrev dktX10_sumNow_1 : List UInt8 := dkwX10_sumNow_1 ++ []
def dkwX10_sumNow_0 : List UInt8 := [3, 61, 27, 62, 29, 27, 16, 6, 96, 162, 0, 18, 28, 42, 180, 0, 107, 29, 46, 96, 61, 132, 3, 1]
abbrev dktX10_sumNow_0 : List UInt8 := dkwX10_sumNow_0 ++ dktX10_sumNow_1
theorem dksX10_sumNow_0 : cX10_sumNow.data.toList.drop 0 = dktX10_sumNow_0 := by decide +kernel
theorem dksX10_sumNow_1 : cX10_sumNow.data.toList.drop 24 = dktX10_sumNow_1 := dk_seg dksX10_sumNow_0 24 rfl rfl
theorem dX10_sumNow_0 : decode cX10_sumNow 0 = .ok (.iconst 0, 1) := dk_3 (dk_at dksX10_sumNow_0 0 rfl rfl)
theorem dX10_sumNow_1 : decode cX10_sumNow 1 = .ok (.istore_n 2, 1) := dk_61 (dk_at dksX10_sumNow_0 1 rfl rfl)
theorem dX10_sumNow_2 : decode cX10_sumNow 2 = .ok (.iload_n 1, 1) := dk_27 (dk_at dksX10_sumNow_0 2 rfl rfl)
theorem dX10_sumNow_3 : decode cX10_sumNow 3 = .ok (.istore_n 3, 1) := dk_62 (dk_at dksX10_sumNow_0 3 rfl rfl)
theorem dX10_sumNow_4 : decode cX10_sumNow 4 = .ok (.iload_n 3, 1) := dk_29 (dk_at dksX10_sumNow_0 4 rfl rfl)
theorem dX10_sumNow_5 : decode cX10_sumNow 5 = .ok (.iload_n 1, 1) := dk_27 (dk_at dksX10_sumNow_0 5 rfl rfl)
theorem dX10_sumNow_6 : decode cX10_sumNow 6 = .ok (.bipush 6, 2) := dk_16 6 (dk_at dksX10_sumNow_0 6 rfl rfl)
theorem dX10_sumNow_8 : decode cX10_sumNow 8 = .ok (.iadd, 1) := dk_96 (dk_at dksX10_sumNow_0 8 rfl rfl)
theorem dX10_sumNow_9 : decode cX10_sumNow 9 = .ok (.if_icmp .ge 18, 3) := dk_162 0 18 (dk_at dksX10_sumNow_0 9 rfl rfl)
theorem dX10_sumNow_12 : decode cX10_sumNow 12 = .ok (.iload_n 2, 1) := dk_28 (dk_at dksX10_sumNow_0 12 rfl rfl)
theorem dX10_sumNow_13 : decode cX10_sumNow 13 = .ok (.aload_n 0, 1) := dk_42 (dk_at dksX10_sumNow_0 13 rfl rfl)
theorem dX10_sumNow_14 : decode cX10_sumNow 14 = .ok (.getfield 107, 3) := dk_180 0 107 (dk_at dksX10_sumNow_0 14 rfl rfl)
theorem dX10_sumNow_17 : decode cX10_sumNow 17 = .ok (.iload_n 3, 1) := dk_29 (dk_at dksX10_sumNow_0 17 rfl rfl)
theorem dX10_sumNow_18 : decode cX10_sumNow 18 = .ok (.iaload, 1) := dk_46 (dk_at dksX10_sumNow_0 18 rfl rfl)
theorem dX10_sumNow_19 : decode cX10_sumNow 19 = .ok (.iadd, 1) := dk_96 (dk_at dksX10_sumNow_0 19 rfl rfl)
theorem dX10_sumNow_20 : decode cX10_sumNow 20 = .ok (.istore_n 2, 1) := dk_61 (dk_at dksX10_sumNow_0 20 rfl rfl)
theorem dX10_sumNow_21 : decode cX10_sumNow 21 = .ok (.iinc 3 1, 3) := dk_132 3 1 (dk_at dksX10_sumNow_0 21 rfl rfl)
theorem dX10_sumNow_24 : decode cX10_sumNow 24 = .ok (.goto (-20), 3) := dk_167 255 236 (dk_at dksX10_sumNow_1 0 rfl rfl)
theorem dX10_sumNow_27 : decode cX10_sumNow 27 = .ok (.iload_n 2, 1) := dk_28 (dk_at dksX10_sumNow_1 3 rfl rfl)
theorem dX10_sumNow_28 : decode cX10_sumNow 28 = .ok (.ireturn, 1) := dk_172 (dk_at dksX10_sumNow_1 4 rfl rfl)
