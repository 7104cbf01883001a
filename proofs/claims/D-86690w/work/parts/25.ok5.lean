set_option maxRecDepth 100000
abbrev cX9_init : ByteArray := prog_36_method_1_code
def dkwX9_init_28 : List UInt8 := [181, 0, 232, 42, 3, 181, 0, 235, 177]
abbrev dktX9_init_28 : List UInt8 := dkwX9_init_28 ++ []
def dkwX9_init_27 : List UInt8 := [42, 16, 60, 188, 10, 181, 0, 226, 42, 17, 4, 76, 188, 10, 181, 0, 229, 42, 17, 0, 244, 188, 10]
abbrev dktX9_init_27 : List UInt8 := dkwX9_init_27 ++ dktX9_init_28
def dkwX9_init_26 : List UInt8 := [17, 2, 48, 188, 10, 181, 0, 217, 42, 16, 60, 188, 10, 181, 0, 220, 42, 16, 60, 188, 10, 181, 0, 223]
abbrev dktX9_init_26 : List UInt8 := dkwX9_init_26 ++ dktX9_init_27
def dkwX9_init_25 : List UInt8 := [188, 10, 181, 0, 208, 42, 17, 1, 164, 188, 10, 181, 0, 211, 42, 17, 13, 32, 188, 10, 181, 0, 214, 42]
abbrev dktX9_init_25 : List UInt8 := dkwX9_init_25 ++ dktX9_init_26
def dkwX9_init_24 : List UInt8 := [188, 10, 181, 0, 199, 42, 16, 36, 188, 10, 181, 0, 202, 42, 16, 12, 188, 10, 181, 0, 205, 42, 16, 12]
abbrev dktX9_init_24 : List UInt8 := dkwX9_init_24 ++ dktX9_init_25
def dkwX9_init_23 : List UInt8 := [181, 0, 190, 42, 17, 1, 144, 188, 10, 181, 0, 193, 42, 17, 1, 144, 188, 10, 181, 0, 196, 42, 16, 72]
abbrev dktX9_init_23 : List UInt8 := dkwX9_init_23 ++ dktX9_init_24
def dkwX9_init_22 : List UInt8 := [17, 1, 144, 188, 10, 181, 0, 184, 42, 17, 1, 144, 188, 10, 181, 0, 187, 42, 17, 1, 144, 188, 10]
abbrev dktX9_init_22 : List UInt8 := dkwX9_init_22 ++ dktX9_init_23
def dkwX9_init_21 : List UInt8 := [181, 0, 175, 42, 17, 1, 144, 188, 10, 181, 0, 178, 42, 17, 1, 144, 188, 10, 181, 0, 181, 42]
abbrev dktX9_init_21 : List UInt8 := dkwX9_init_21 ++ dktX9_init_22
def dkwX9_init_20 : List UInt8 := [17, 4, 206, 188, 10, 181, 0, 169, 42, 17, 0, 240, 188, 10, 181, 0, 172, 42, 17, 1, 144, 188, 10]
abbrev dktX9_init_20 : List UInt8 := dkwX9_init_20 ++ dktX9_init_21
def dkwX9_init_19 : List UInt8 := [181, 0, 160, 42, 17, 4, 236, 188, 10, 181, 0, 163, 42, 17, 59, 16, 188, 10, 181, 0, 166, 42]
abbrev dktX9_init_19 : List UInt8 := dkwX9_init_19 ++ dktX9_init_20
def dkwX9_init_18 : List UInt8 := [17, 4, 236, 188, 10, 181, 0, 154, 42, 17, 4, 236, 188, 10, 181, 0, 157, 42, 17, 4, 236, 188, 10]
abbrev dktX9_init_18 : List UInt8 := dkwX9_init_18 ++ dktX9_init_19
def dkwX9_init_17 : List UInt8 := [188, 10, 181, 0, 145, 42, 17, 4, 236, 188, 10, 181, 0, 148, 42, 17, 4, 236, 188, 10, 181, 0, 151, 42]
abbrev dktX9_init_17 : List UInt8 := dkwX9_init_17 ++ dktX9_init_18
def dkwX9_init_16 : List UInt8 := [188, 10, 181, 0, 135, 42, 5, 188, 4, 181, 0, 138, 42, 16, 30, 188, 10, 181, 0, 142, 42, 17, 4, 206]
abbrev dktX9_init_16 : List UInt8 := dkwX9_init_16 ++ dktX9_init_17
def dkwX9_init_15 : List UInt8 := [188, 10, 181, 0, 126, 42, 16, 30, 188, 10, 181, 0, 129, 42, 16, 30, 188, 10, 181, 0, 132, 42, 16, 30]
abbrev dktX9_init_15 : List UInt8 := dkwX9_init_15 ++ dktX9_init_16
def dkwX9_init_14 : List UInt8 := [188, 10, 181, 0, 117, 42, 16, 12, 188, 10, 181, 0, 120, 42, 16, 12, 188, 10, 181, 0, 123, 42, 16, 30]
abbrev dktX9_init_14 : List UInt8 := dkwX9_init_14 ++ dktX9_init_15
def dkwX9_init_13 : List UInt8 := [181, 0, 108, 42, 17, 3, 232, 188, 10, 181, 0, 111, 42, 16, 12, 188, 10, 181, 0, 114, 42, 16, 12]
abbrev dktX9_init_13 : List UInt8 := dkwX9_init_13 ++ dktX9_init_14
def dkwX9_init_12 : List UInt8 := [17, 1, 244, 188, 10, 181, 0, 102, 42, 17, 1, 244, 188, 10, 181, 0, 105, 42, 17, 3, 232, 188, 10]
abbrev dktX9_init_12 : List UInt8 := dkwX9_init_12 ++ dktX9_init_13
def dkwX9_init_11 : List UInt8 := [188, 10, 181, 0, 93, 42, 5, 188, 10, 181, 0, 96, 42, 17, 1, 244, 188, 10, 181, 0, 99, 42]
abbrev dktX9_init_11 : List UInt8 := dkwX9_init_11 ++ dktX9_init_12
def dkwX9_init_10 : List UInt8 := [188, 10, 181, 0, 84, 42, 16, 16, 188, 10, 181, 0, 87, 42, 5, 188, 10, 181, 0, 90, 42, 16, 32]
abbrev dktX9_init_10 : List UInt8 := dkwX9_init_10 ++ dktX9_init_11
def dkwX9_init_9 : List UInt8 := [181, 0, 75, 42, 17, 1, 64, 188, 10, 181, 0, 78, 42, 17, 1, 64, 188, 10, 181, 0, 81, 42, 5]
abbrev dktX9_init_9 : List UInt8 := dkwX9_init_9 ++ dktX9_init_10
def dkwX9_init_8 : List UInt8 := [42, 17, 8, 152, 188, 10, 181, 0, 69, 42, 17, 3, 32, 188, 10, 181, 0, 72, 42, 17, 1, 64, 188, 10]
abbrev dktX9_init_8 : List UInt8 := dkwX9_init_8 ++ dktX9_init_9
def dkwX9_init_7 : List UInt8 := [17, 10, 0, 188, 10, 181, 0, 59, 42, 5, 188, 10, 181, 0, 63, 42, 17, 8, 152, 188, 10, 181, 0, 66]
abbrev dktX9_init_7 : List UInt8 := dkwX9_init_7 ++ dktX9_init_8
def dkwX9_init_6 : List UInt8 := [20, 0, 45, 80, 89, 16, 20, 20, 0, 47, 80, 181, 0, 49, 42, 17, 3, 232, 188, 8, 181, 0, 55, 42]
abbrev dktX9_init_6 : List UInt8 := dkwX9_init_6 ++ dktX9_init_7
def dkwX9_init_5 : List UInt8 := [16, 16, 20, 0, 39, 80, 89, 16, 17, 20, 0, 41, 80, 89, 16, 18, 20, 0, 43, 80, 89, 16, 19]
abbrev dktX9_init_5 : List UInt8 := dkwX9_init_5 ++ dktX9_init_6
def dkwX9_init_4 : List UInt8 := [80, 89, 16, 13, 20, 0, 33, 80, 89, 16, 14, 20, 0, 35, 80, 89, 16, 15, 20, 0, 37, 80, 89]
abbrev dktX9_init_4 : List UInt8 := dkwX9_init_4 ++ dktX9_init_5
def dkwX9_init_3 : List UInt8 := [20, 0, 25, 80, 89, 16, 10, 20, 0, 27, 80, 89, 16, 11, 20, 0, 29, 80, 89, 16, 12, 20, 0, 31]
abbrev dktX9_init_3 : List UInt8 := dkwX9_init_3 ++ dktX9_init_4
def dkwX9_init_2 : List UInt8 := [16, 6, 20, 0, 19, 80, 89, 16, 7, 20, 0, 21, 80, 89, 16, 8, 20, 0, 23, 80, 89, 16, 9]
abbrev dktX9_init_2 : List UInt8 := dkwX9_init_2 ++ dktX9_init_3
def dkwX9_init_1 : List UInt8 := [20, 0, 11, 80, 89, 6, 20, 0, 13, 80, 89, 7, 20, 0, 15, 80, 89, 8, 20, 0, 17, 80, 89]
abbrev dktX9_init_1 : List UInt8 := dkwX9_init_1 ++ dktX9_init_2
def dkwX9_init_0 : List UInt8 := [42, 183, 0, 1, 42, 16, 21, 188, 11, 89, 3, 20, 0, 7, 80, 89, 4, 20, 0, 9, 80, 89, 5]
abbrev dktX9_init_0 : List UInt8 := dkwX9_init_0 ++ dktX9_init_1
theorem dksX9_init_0 : cX9_init.data.toList.drop 0 = dktX9_init_0 := by decide +kernel
theorem dksX9_init_1 : cX9_init.data.toList.drop 23 = dktX9_init_1 := dk_seg dksX9_init_0 23 rfl rfl
theorem dksX9_init_2 : cX9_init.data.toList.drop 46 = dktX9_init_2 := dk_seg dksX9_init_1 23 rfl rfl
theorem dksX9_init_3 : cX9_init.data.toList.drop 69 = dktX9_init_3 := dk_seg dksX9_init_2 23 rfl rfl
theorem dksX9_init_4 : cX9_init.data.toList.drop 93 = dktX9_init_4 := dk_seg dksX9_init_3 24 rfl rfl
theorem dksX9_init_5 : cX9_init.data.toList.drop 116 = dktX9_init_5 := dk_seg dksX9_init_4 23 rfl rfl
theorem dksX9_init_6 : cX9_init.data.toList.drop 139 = dktX9_init_6 := dk_seg dksX9_init_5 23 rfl rfl
theorem dksX9_init_7 : cX9_init.data.toList.drop 163 = dktX9_init_7 := dk_seg dksX9_init_6 24 rfl rfl
theorem dksX9_init_8 : cX9_init.data.toList.drop 187 = dktX9_init_8 := dk_seg dksX9_init_7 24 rfl rfl
theorem dksX9_init_9 : cX9_init.data.toList.drop 211 = dktX9_init_9 := dk_seg dksX9_init_8 24 rfl rfl
theorem dksX9_init_10 : cX9_init.data.toList.drop 234 = dktX9_init_10 := dk_seg dksX9_init_9 23 rfl rfl
theorem dksX9_init_11 : cX9_init.data.toList.drop 257 = dktX9_init_11 := dk_seg dksX9_init_10 23 rfl rfl
theorem dksX9_init_12 : cX9_init.data.toList.drop 279 = dktX9_init_12 := dk_seg dksX9_init_11 22 rfl rfl
theorem dksX9_init_13 : cX9_init.data.toList.drop 302 = dktX9_init_13 := dk_seg dksX9_init_12 23 rfl rfl
theorem dksX9_init_14 : cX9_init.data.toList.drop 325 = dktX9_init_14 := dk_seg dksX9_init_13 23 rfl rfl
theorem dksX9_init_15 : cX9_init.data.toList.drop 349 = dktX9_init_15 := dk_seg dksX9_init_14 24 rfl rfl
theorem dksX9_init_16 : cX9_init.data.toList.drop 373 = dktX9_init_16 := dk_seg dksX9_init_15 24 rfl rfl
theorem dksX9_init_17 : cX9_init.data.toList.drop 397 = dktX9_init_17 := dk_seg dksX9_init_16 24 rfl rfl
theorem dksX9_init_18 : cX9_init.data.toList.drop 421 = dktX9_init_18 := dk_seg dksX9_init_17 24 rfl rfl
theorem dksX9_init_19 : cX9_init.data.toList.drop 444 = dktX9_init_19 := dk_seg dksX9_init_18 23 rfl rfl
theorem dksX9_init_20 : cX9_init.data.toList.drop 466 = dktX9_init_20 := dk_seg dksX9_init_19 22 rfl rfl
theorem dksX9_init_21 : cX9_init.data.toList.drop 489 = dktX9_init_21 := dk_seg dksX9_init_20 23 rfl rfl
theorem dksX9_init_22 : cX9_init.data.toList.drop 511 = dktX9_init_22 := dk_seg dksX9_init_21 22 rfl rfl
theorem dksX9_init_23 : cX9_init.data.toList.drop 534 = dktX9_init_23 := dk_seg dksX9_init_22 23 rfl rfl
theorem dksX9_init_24 : cX9_init.data.toList.drop 558 = dktX9_init_24 := dk_seg dksX9_init_23 24 rfl rfl
theorem dksX9_init_25 : cX9_init.data.toList.drop 582 = dktX9_init_25 := dk_seg dksX9_init_24 24 rfl rfl
theorem dksX9_init_26 : cX9_init.data.toList.drop 606 = dktX9_init_26 := dk_seg dksX9_init_25 24 rfl rfl
theorem dksX9_init_27 : cX9_init.data.toList.drop 630 = dktX9_init_27 := dk_seg dksX9_init_26 24 rfl rfl
theorem dksX9_init_28 : cX9_init.data.toList.drop 653 = dktX9_init_28 := dk_seg dksX9_init_27 23 rfl rfl
theorem dX9_init_0 : decode cX9_init 0 = .ok (.aload_n 0, 1) := dk_42 (dk_at dksX9_init_0 0 rfl rfl)
theorem dX9_init_1 : decode cX9_init 1 = .ok (.invokespecial 1, 3) := dk_183 0 1 (dk_at dksX9_init_0 1 rfl rfl)
theorem dX9_init_4 : decode cX9_init 4 = .ok (.aload_n 0, 1) := dk_42 (dk_at dksX9_init_0 4 rfl rfl)
theorem dX9_init_5 : decode cX9_init 5 = .ok (.bipush 21, 2) := dk_16 21 (dk_at dksX9_init_0 5 rfl rfl)
theorem dX9_init_7 : decode cX9_init 7 = .ok (.newarray .long, 2) := dk_188_11 (dk_at dksX9_init_0 7 rfl rfl)
theorem dX9_init_9 : decode cX9_init 9 = .ok (.dup, 1) := dk_89 (dk_at dksX9_init_0 9 rfl rfl)
theorem dX9_init_10 : decode cX9_init 10 = .ok (.iconst 0, 1) := dk_3 (dk_at dksX9_init_0 10 rfl rfl)
theorem dX9_init_11 : decode cX9_init 11 = .ok (.ldc2_w 7, 3) := dk_20 0 7 (dk_at dksX9_init_0 11 rfl rfl)
theorem dX9_init_14 : decode cX9_init 14 = .ok (.lastore, 1) := dk_80 (dk_at dksX9_init_0 14 rfl rfl)
theorem dX9_init_15 : decode cX9_init 15 = .ok (.dup, 1) := dk_89 (dk_at dksX9_init_0 15 rfl rfl)
theorem dX9_init_16 : decode cX9_init 16 = .ok (.iconst 1, 1) := dk_4 (dk_at dksX9_init_0 16 rfl rfl)
theorem dX9_init_17 : decode cX9_init 17 = .ok (.ldc2_w 9, 3) := dk_20 0 9 (dk_at dksX9_init_0 17 rfl rfl)
theorem dX9_init_20 : decode cX9_init 20 = .ok (.lastore, 1) := dk_80 (dk_at dksX9_init_0 20 rfl rfl)
theorem dX9_init_21 : decode cX9_init 21 = .ok (.dup, 1) := dk_89 (dk_at dksX9_init_0 21 rfl rfl)
theorem dX9_init_22 : decode cX9_init 22 = .ok (.iconst 2, 1) := dk_5 (dk_at dksX9_init_0 22 rfl rfl)
theorem dX9_init_23 : decode cX9_init 23 = .ok (.ldc2_w 11, 3) := dk_20 0 11 (dk_at dksX9_init_1 0 rfl rfl)
theorem dX9_init_26 : decode cX9_init 26 = .ok (.lastore, 1) := dk_80 (dk_at dksX9_init_1 3 rfl rfl)
theorem dX9_init_27 : decode cX9_init 27 = .ok (.dup, 1) := dk_89 (dk_at dksX9_init_1 4 rfl rfl)
theorem dX9_init_28 : decode cX9_init 28 = .ok (.iconst 3, 1) := dk_6 (dk_at dksX9_init_1 5 rfl rfl)
theorem dX9_init_29 : decode cX9_init 29 = .ok (.ldc2_w 13, 3) := dk_20 0 13 (dk_at dksX9_init_1 6 rfl rfl)
theorem dX9_init_32 : decode cX9_init 32 = .ok (.lastore, 1) := dk_80 (dk_at dksX9_init_1 9 rfl rfl)
theorem dX9_init_33 : decode cX9_init 33 = .ok (.dup, 1) := dk_89 (dk_at dksX9_init_1 10 rfl rfl)
theorem dX9_init_34 : decode cX9_init 34 = .ok (.iconst 4, 1) := dk_7 (dk_at dksX9_init_1 11 rfl rfl)
theorem dX9_init_35 : decode cX9_init 35 = .ok (.ldc2_w 15, 3) := dk_20 0 15 (dk_at dksX9_init_1 12 rfl rfl)
theorem dX9_init_38 : decode cX9_init 38 = .ok (.lastore, 1) := dk_80 (dk_at dksX9_init_1 15 rfl rfl)
theorem dX9_init_39 : decode cX9_init 39 = .ok (.dup, 1) := dk_89 (dk_at dksX9_init_1 16 rfl rfl)
theorem dX9_init_40 : decode cX9_init 40 = .ok (.iconst 5, 1) := dk_8 (dk_at dksX9_init_1 17 rfl rfl)
theorem dX9_init_41 : decode cX9_init 41 = .ok (.ldc2_w 17, 3) := dk_20 0 17 (dk_at dksX9_init_1 18 rfl rfl)
theorem dX9_init_44 : decode cX9_init 44 = .ok (.lastore, 1) := dk_80 (dk_at dksX9_init_1 21 rfl rfl)
theorem dX9_init_45 : decode cX9_init 45 = .ok (.dup, 1) := dk_89 (dk_at dksX9_init_1 22 rfl rfl)
theorem dX9_init_46 : decode cX9_init 46 = .ok (.bipush 6, 2) := dk_16 6 (dk_at dksX9_init_2 0 rfl rfl)
theorem dX9_init_48 : decode cX9_init 48 = .ok (.ldc2_w 19, 3) := dk_20 0 19 (dk_at dksX9_init_2 2 rfl rfl)
theorem dX9_init_51 : decode cX9_init 51 = .ok (.lastore, 1) := dk_80 (dk_at dksX9_init_2 5 rfl rfl)
theorem dX9_init_52 : decode cX9_init 52 = .ok (.dup, 1) := dk_89 (dk_at dksX9_init_2 6 rfl rfl)
theorem dX9_init_53 : decode cX9_init 53 = .ok (.bipush 7, 2) := dk_16 7 (dk_at dksX9_init_2 7 rfl rfl)
theorem dX9_init_55 : decode cX9_init 55 = .ok (.ldc2_w 21, 3) := dk_20 0 21 (dk_at dksX9_init_2 9 rfl rfl)
theorem dX9_init_58 : decode cX9_init 58 = .ok (.lastore, 1) := dk_80 (dk_at dksX9_init_2 12 rfl rfl)
theorem dX9_init_59 : decode cX9_init 59 = .ok (.dup, 1) := dk_89 (dk_at dksX9_init_2 13 rfl rfl)
theorem dX9_init_60 : decode cX9_init 60 = .ok (.bipush 8, 2) := dk_16 8 (dk_at dksX9_init_2 14 rfl rfl)
theorem dX9_init_62 : decode cX9_init 62 = .ok (.ldc2_w 23, 3) := dk_20 0 23 (dk_at dksX9_init_2 16 rfl rfl)
theorem dX9_init_65 : decode cX9_init 65 = .ok (.lastore, 1) := dk_80 (dk_at dksX9_init_2 19 rfl rfl)
theorem dX9_init_66 : decode cX9_init 66 = .ok (.dup, 1) := dk_89 (dk_at dksX9_init_2 20 rfl rfl)
theorem dX9_init_67 : decode cX9_init 67 = .ok (.bipush 9, 2) := dk_16 9 (dk_at dksX9_init_2 21 rfl rfl)
theorem dX9_init_69 : decode cX9_init 69 = .ok (.ldc2_w 25, 3) := dk_20 0 25 (dk_at dksX9_init_3 0 rfl rfl)
theorem dX9_init_72 : decode cX9_init 72 = .ok (.lastore, 1) := dk_80 (dk_at dksX9_init_3 3 rfl rfl)
theorem dX9_init_73 : decode cX9_init 73 = .ok (.dup, 1) := dk_89 (dk_at dksX9_init_3 4 rfl rfl)
theorem dX9_init_74 : decode cX9_init 74 = .ok (.bipush 10, 2) := dk_16 10 (dk_at dksX9_init_3 5 rfl rfl)
theorem dX9_init_76 : decode cX9_init 76 = .ok (.ldc2_w 27, 3) := dk_20 0 27 (dk_at dksX9_init_3 7 rfl rfl)
theorem dX9_init_79 : decode cX9_init 79 = .ok (.lastore, 1) := dk_80 (dk_at dksX9_init_3 10 rfl rfl)
theorem dX9_init_80 : decode cX9_init 80 = .ok (.dup, 1) := dk_89 (dk_at dksX9_init_3 11 rfl rfl)
theorem dX9_init_81 : decode cX9_init 81 = .ok (.bipush 11, 2) := dk_16 11 (dk_at dksX9_init_3 12 rfl rfl)
theorem dX9_init_83 : decode cX9_init 83 = .ok (.ldc2_w 29, 3) := dk_20 0 29 (dk_at dksX9_init_3 14 rfl rfl)
theorem dX9_init_86 : decode cX9_init 86 = .ok (.lastore, 1) := dk_80 (dk_at dksX9_init_3 17 rfl rfl)
theorem dX9_init_87 : decode cX9_init 87 = .ok (.dup, 1) := dk_89 (dk_at dksX9_init_3 18 rfl rfl)
theorem dX9_init_88 : decode cX9_init 88 = .ok (.bipush 12, 2) := dk_16 12 (dk_at dksX9_init_3 19 rfl rfl)
theorem dX9_init_90 : decode cX9_init 90 = .ok (.ldc2_w 31, 3) := dk_20 0 31 (dk_at dksX9_init_3 21 rfl rfl)
theorem dX9_init_93 : decode cX9_init 93 = .ok (.lastore, 1) := dk_80 (dk_at dksX9_init_4 0 rfl rfl)
theorem dX9_init_94 : decode cX9_init 94 = .ok (.dup, 1) := dk_89 (dk_at dksX9_init_4 1 rfl rfl)
theorem dX9_init_95 : decode cX9_init 95 = .ok (.bipush 13, 2) := dk_16 13 (dk_at dksX9_init_4 2 rfl rfl)
theorem dX9_init_97 : decode cX9_init 97 = .ok (.ldc2_w 33, 3) := dk_20 0 33 (dk_at dksX9_init_4 4 rfl rfl)
theorem dX9_init_100 : decode cX9_init 100 = .ok (.lastore, 1) := dk_80 (dk_at dksX9_init_4 7 rfl rfl)
theorem dX9_init_101 : decode cX9_init 101 = .ok (.dup, 1) := dk_89 (dk_at dksX9_init_4 8 rfl rfl)
theorem dX9_init_102 : decode cX9_init 102 = .ok (.bipush 14, 2) := dk_16 14 (dk_at dksX9_init_4 9 rfl rfl)
theorem dX9_init_104 : decode cX9_init 104 = .ok (.ldc2_w 35, 3) := dk_20 0 35 (dk_at dksX9_init_4 11 rfl rfl)
theorem dX9_init_107 : decode cX9_init 107 = .ok (.lastore, 1) := dk_80 (dk_at dksX9_init_4 14 rfl rfl)
theorem dX9_init_108 : decode cX9_init 108 = .ok (.dup, 1) := dk_89 (dk_at dksX9_init_4 15 rfl rfl)
theorem dX9_init_109 : decode cX9_init 109 = .ok (.bipush 15, 2) := dk_16 15 (dk_at dksX9_init_4 16 rfl rfl)
theorem dX9_init_111 : decode cX9_init 111 = .ok (.ldc2_w 37, 3) := dk_20 0 37 (dk_at dksX9_init_4 18 rfl rfl)
theorem dX9_init_114 : decode cX9_init 114 = .ok (.lastore, 1) := dk_80 (dk_at dksX9_init_4 21 rfl rfl)
theorem dX9_init_115 : decode cX9_init 115 = .ok (.dup, 1) := dk_89 (dk_at dksX9_init_4 22 rfl rfl)
theorem dX9_init_116 : decode cX9_init 116 = .ok (.bipush 16, 2) := dk_16 16 (dk_at dksX9_init_5 0 rfl rfl)
theorem dX9_init_118 : decode cX9_init 118 = .ok (.ldc2_w 39, 3) := dk_20 0 39 (dk_at dksX9_init_5 2 rfl rfl)
theorem dX9_init_121 : decode cX9_init 121 = .ok (.lastore, 1) := dk_80 (dk_at dksX9_init_5 5 rfl rfl)
theorem dX9_init_122 : decode cX9_init 122 = .ok (.dup, 1) := dk_89 (dk_at dksX9_init_5 6 rfl rfl)
theorem dX9_init_123 : decode cX9_init 123 = .ok (.bipush 17, 2) := dk_16 17 (dk_at dksX9_init_5 7 rfl rfl)
theorem dX9_init_125 : decode cX9_init 125 = .ok (.ldc2_w 41, 3) := dk_20 0 41 (dk_at dksX9_init_5 9 rfl rfl)
theorem dX9_init_128 : decode cX9_init 128 = .ok (.lastore, 1) := dk_80 (dk_at dksX9_init_5 12 rfl rfl)
theorem dX9_init_129 : decode cX9_init 129 = .ok (.dup, 1) := dk_89 (dk_at dksX9_init_5 13 rfl rfl)
theorem dX9_init_130 : decode cX9_init 130 = .ok (.bipush 18, 2) := dk_16 18 (dk_at dksX9_init_5 14 rfl rfl)
theorem dX9_init_132 : decode cX9_init 132 = .ok (.ldc2_w 43, 3) := dk_20 0 43 (dk_at dksX9_init_5 16 rfl rfl)
theorem dX9_init_135 : decode cX9_init 135 = .ok (.lastore, 1) := dk_80 (dk_at dksX9_init_5 19 rfl rfl)
theorem dX9_init_136 : decode cX9_init 136 = .ok (.dup, 1) := dk_89 (dk_at dksX9_init_5 20 rfl rfl)
theorem dX9_init_137 : decode cX9_init 137 = .ok (.bipush 19, 2) := dk_16 19 (dk_at dksX9_init_5 21 rfl rfl)
theorem dX9_init_139 : decode cX9_init 139 = .ok (.ldc2_w 45, 3) := dk_20 0 45 (dk_at dksX9_init_6 0 rfl rfl)
theorem dX9_init_142 : decode cX9_init 142 = .ok (.lastore, 1) := dk_80 (dk_at dksX9_init_6 3 rfl rfl)
theorem dX9_init_143 : decode cX9_init 143 = .ok (.dup, 1) := dk_89 (dk_at dksX9_init_6 4 rfl rfl)
theorem dX9_init_144 : decode cX9_init 144 = .ok (.bipush 20, 2) := dk_16 20 (dk_at dksX9_init_6 5 rfl rfl)
theorem dX9_init_146 : decode cX9_init 146 = .ok (.ldc2_w 47, 3) := dk_20 0 47 (dk_at dksX9_init_6 7 rfl rfl)
theorem dX9_init_149 : decode cX9_init 149 = .ok (.lastore, 1) := dk_80 (dk_at dksX9_init_6 10 rfl rfl)
theorem dX9_init_150 : decode cX9_init 150 = .ok (.putfield 49, 3) := dk_181 0 49 (dk_at dksX9_init_6 11 rfl rfl)
theorem dX9_init_153 : decode cX9_init 153 = .ok (.aload_n 0, 1) := dk_42 (dk_at dksX9_init_6 14 rfl rfl)
theorem dX9_init_154 : decode cX9_init 154 = .ok (.sipush 1000, 3) := dk_17 3 232 (dk_at dksX9_init_6 15 rfl rfl)
theorem dX9_init_157 : decode cX9_init 157 = .ok (.newarray .byte, 2) := dk_188_8 (dk_at dksX9_init_6 18 rfl rfl)
theorem dX9_init_159 : decode cX9_init 159 = .ok (.putfield 55, 3) := dk_181 0 55 (dk_at dksX9_init_6 20 rfl rfl)
theorem dX9_init_162 : decode cX9_init 162 = .ok (.aload_n 0, 1) := dk_42 (dk_at dksX9_init_6 23 rfl rfl)
theorem dX9_init_163 : decode cX9_init 163 = .ok (.sipush 2560, 3) := dk_17 10 0 (dk_at dksX9_init_7 0 rfl rfl)
theorem dX9_init_166 : decode cX9_init 166 = .ok (.newarray .int, 2) := dk_188_10 (dk_at dksX9_init_7 3 rfl rfl)
theorem dX9_init_168 : decode cX9_init 168 = .ok (.putfield 59, 3) := dk_181 0 59 (dk_at dksX9_init_7 5 rfl rfl)
theorem dX9_init_171 : decode cX9_init 171 = .ok (.aload_n 0, 1) := dk_42 (dk_at dksX9_init_7 8 rfl rfl)
theorem dX9_init_172 : decode cX9_init 172 = .ok (.iconst 2, 1) := dk_5 (dk_at dksX9_init_7 9 rfl rfl)
theorem dX9_init_173 : decode cX9_init 173 = .ok (.newarray .int, 2) := dk_188_10 (dk_at dksX9_init_7 10 rfl rfl)
theorem dX9_init_175 : decode cX9_init 175 = .ok (.putfield 63, 3) := dk_181 0 63 (dk_at dksX9_init_7 12 rfl rfl)
theorem dX9_init_178 : decode cX9_init 178 = .ok (.aload_n 0, 1) := dk_42 (dk_at dksX9_init_7 15 rfl rfl)
theorem dX9_init_179 : decode cX9_init 179 = .ok (.sipush 2200, 3) := dk_17 8 152 (dk_at dksX9_init_7 16 rfl rfl)
theorem dX9_init_182 : decode cX9_init 182 = .ok (.newarray .int, 2) := dk_188_10 (dk_at dksX9_init_7 19 rfl rfl)
theorem dX9_init_184 : decode cX9_init 184 = .ok (.putfield 66, 3) := dk_181 0 66 (dk_at dksX9_init_7 21 rfl rfl)
theorem dX9_init_187 : decode cX9_init 187 = .ok (.aload_n 0, 1) := dk_42 (dk_at dksX9_init_8 0 rfl rfl)
theorem dX9_init_188 : decode cX9_init 188 = .ok (.sipush 2200, 3) := dk_17 8 152 (dk_at dksX9_init_8 1 rfl rfl)
theorem dX9_init_191 : decode cX9_init 191 = .ok (.newarray .int, 2) := dk_188_10 (dk_at dksX9_init_8 4 rfl rfl)
theorem dX9_init_193 : decode cX9_init 193 = .ok (.putfield 69, 3) := dk_181 0 69 (dk_at dksX9_init_8 6 rfl rfl)
theorem dX9_init_196 : decode cX9_init 196 = .ok (.aload_n 0, 1) := dk_42 (dk_at dksX9_init_8 9 rfl rfl)
theorem dX9_init_197 : decode cX9_init 197 = .ok (.sipush 800, 3) := dk_17 3 32 (dk_at dksX9_init_8 10 rfl rfl)
theorem dX9_init_200 : decode cX9_init 200 = .ok (.newarray .int, 2) := dk_188_10 (dk_at dksX9_init_8 13 rfl rfl)
theorem dX9_init_202 : decode cX9_init 202 = .ok (.putfield 72, 3) := dk_181 0 72 (dk_at dksX9_init_8 15 rfl rfl)
theorem dX9_init_205 : decode cX9_init 205 = .ok (.aload_n 0, 1) := dk_42 (dk_at dksX9_init_8 18 rfl rfl)
theorem dX9_init_206 : decode cX9_init 206 = .ok (.sipush 320, 3) := dk_17 1 64 (dk_at dksX9_init_8 19 rfl rfl)
theorem dX9_init_209 : decode cX9_init 209 = .ok (.newarray .int, 2) := dk_188_10 (dk_at dksX9_init_8 22 rfl rfl)
theorem dX9_init_211 : decode cX9_init 211 = .ok (.putfield 75, 3) := dk_181 0 75 (dk_at dksX9_init_9 0 rfl rfl)
theorem dX9_init_214 : decode cX9_init 214 = .ok (.aload_n 0, 1) := dk_42 (dk_at dksX9_init_9 3 rfl rfl)
theorem dX9_init_215 : decode cX9_init 215 = .ok (.sipush 320, 3) := dk_17 1 64 (dk_at dksX9_init_9 4 rfl rfl)
theorem dX9_init_218 : decode cX9_init 218 = .ok (.newarray .int, 2) := dk_188_10 (dk_at dksX9_init_9 7 rfl rfl)
theorem dX9_init_220 : decode cX9_init 220 = .ok (.putfield 78, 3) := dk_181 0 78 (dk_at dksX9_init_9 9 rfl rfl)
theorem dX9_init_223 : decode cX9_init 223 = .ok (.aload_n 0, 1) := dk_42 (dk_at dksX9_init_9 12 rfl rfl)
theorem dX9_init_224 : decode cX9_init 224 = .ok (.sipush 320, 3) := dk_17 1 64 (dk_at dksX9_init_9 13 rfl rfl)
theorem dX9_init_227 : decode cX9_init 227 = .ok (.newarray .int, 2) := dk_188_10 (dk_at dksX9_init_9 16 rfl rfl)
theorem dX9_init_229 : decode cX9_init 229 = .ok (.putfield 81, 3) := dk_181 0 81 (dk_at dksX9_init_9 18 rfl rfl)
theorem dX9_init_232 : decode cX9_init 232 = .ok (.aload_n 0, 1) := dk_42 (dk_at dksX9_init_9 21 rfl rfl)
theorem dX9_init_233 : decode cX9_init 233 = .ok (.iconst 2, 1) := dk_5 (dk_at dksX9_init_9 22 rfl rfl)
theorem dX9_init_234 : decode cX9_init 234 = .ok (.newarray .int, 2) := dk_188_10 (dk_at dksX9_init_10 0 rfl rfl)
theorem dX9_init_236 : decode cX9_init 236 = .ok (.putfield 84, 3) := dk_181 0 84 (dk_at dksX9_init_10 2 rfl rfl)
theorem dX9_init_239 : decode cX9_init 239 = .ok (.aload_n 0, 1) := dk_42 (dk_at dksX9_init_10 5 rfl rfl)
theorem dX9_init_240 : decode cX9_init 240 = .ok (.bipush 16, 2) := dk_16 16 (dk_at dksX9_init_10 6 rfl rfl)
theorem dX9_init_242 : decode cX9_init 242 = .ok (.newarray .int, 2) := dk_188_10 (dk_at dksX9_init_10 8 rfl rfl)
theorem dX9_init_244 : decode cX9_init 244 = .ok (.putfield 87, 3) := dk_181 0 87 (dk_at dksX9_init_10 10 rfl rfl)
theorem dX9_init_247 : decode cX9_init 247 = .ok (.aload_n 0, 1) := dk_42 (dk_at dksX9_init_10 13 rfl rfl)
theorem dX9_init_248 : decode cX9_init 248 = .ok (.iconst 2, 1) := dk_5 (dk_at dksX9_init_10 14 rfl rfl)
theorem dX9_init_249 : decode cX9_init 249 = .ok (.newarray .int, 2) := dk_188_10 (dk_at dksX9_init_10 15 rfl rfl)
theorem dX9_init_251 : decode cX9_init 251 = .ok (.putfield 90, 3) := dk_181 0 90 (dk_at dksX9_init_10 17 rfl rfl)
theorem dX9_init_254 : decode cX9_init 254 = .ok (.aload_n 0, 1) := dk_42 (dk_at dksX9_init_10 20 rfl rfl)
theorem dX9_init_255 : decode cX9_init 255 = .ok (.bipush 32, 2) := dk_16 32 (dk_at dksX9_init_10 21 rfl rfl)
theorem dX9_init_257 : decode cX9_init 257 = .ok (.newarray .int, 2) := dk_188_10 (dk_at dksX9_init_11 0 rfl rfl)
theorem dX9_init_259 : decode cX9_init 259 = .ok (.putfield 93, 3) := dk_181 0 93 (dk_at dksX9_init_11 2 rfl rfl)
theorem dX9_init_262 : decode cX9_init 262 = .ok (.aload_n 0, 1) := dk_42 (dk_at dksX9_init_11 5 rfl rfl)
theorem dX9_init_263 : decode cX9_init 263 = .ok (.iconst 2, 1) := dk_5 (dk_at dksX9_init_11 6 rfl rfl)
theorem dX9_init_264 : decode cX9_init 264 = .ok (.newarray .int, 2) := dk_188_10 (dk_at dksX9_init_11 7 rfl rfl)
theorem dX9_init_266 : decode cX9_init 266 = .ok (.putfield 96, 3) := dk_181 0 96 (dk_at dksX9_init_11 9 rfl rfl)
theorem dX9_init_269 : decode cX9_init 269 = .ok (.aload_n 0, 1) := dk_42 (dk_at dksX9_init_11 12 rfl rfl)
theorem dX9_init_270 : decode cX9_init 270 = .ok (.sipush 500, 3) := dk_17 1 244 (dk_at dksX9_init_11 13 rfl rfl)
theorem dX9_init_273 : decode cX9_init 273 = .ok (.newarray .int, 2) := dk_188_10 (dk_at dksX9_init_11 16 rfl rfl)
theorem dX9_init_275 : decode cX9_init 275 = .ok (.putfield 99, 3) := dk_181 0 99 (dk_at dksX9_init_11 18 rfl rfl)
theorem dX9_init_278 : decode cX9_init 278 = .ok (.aload_n 0, 1) := dk_42 (dk_at dksX9_init_11 21 rfl rfl)
theorem dX9_init_279 : decode cX9_init 279 = .ok (.sipush 500, 3) := dk_17 1 244 (dk_at dksX9_init_12 0 rfl rfl)
theorem dX9_init_282 : decode cX9_init 282 = .ok (.newarray .int, 2) := dk_188_10 (dk_at dksX9_init_12 3 rfl rfl)
theorem dX9_init_284 : decode cX9_init 284 = .ok (.putfield 102, 3) := dk_181 0 102 (dk_at dksX9_init_12 5 rfl rfl)
theorem dX9_init_287 : decode cX9_init 287 = .ok (.aload_n 0, 1) := dk_42 (dk_at dksX9_init_12 8 rfl rfl)
theorem dX9_init_288 : decode cX9_init 288 = .ok (.sipush 500, 3) := dk_17 1 244 (dk_at dksX9_init_12 9 rfl rfl)
theorem dX9_init_291 : decode cX9_init 291 = .ok (.newarray .int, 2) := dk_188_10 (dk_at dksX9_init_12 12 rfl rfl)
theorem dX9_init_293 : decode cX9_init 293 = .ok (.putfield 105, 3) := dk_181 0 105 (dk_at dksX9_init_12 14 rfl rfl)
theorem dX9_init_296 : decode cX9_init 296 = .ok (.aload_n 0, 1) := dk_42 (dk_at dksX9_init_12 17 rfl rfl)
theorem dX9_init_297 : decode cX9_init 297 = .ok (.sipush 1000, 3) := dk_17 3 232 (dk_at dksX9_init_12 18 rfl rfl)
theorem dX9_init_300 : decode cX9_init 300 = .ok (.newarray .int, 2) := dk_188_10 (dk_at dksX9_init_12 21 rfl rfl)
theorem dX9_init_302 : decode cX9_init 302 = .ok (.putfield 108, 3) := dk_181 0 108 (dk_at dksX9_init_13 0 rfl rfl)
theorem dX9_init_305 : decode cX9_init 305 = .ok (.aload_n 0, 1) := dk_42 (dk_at dksX9_init_13 3 rfl rfl)
theorem dX9_init_306 : decode cX9_init 306 = .ok (.sipush 1000, 3) := dk_17 3 232 (dk_at dksX9_init_13 4 rfl rfl)
theorem dX9_init_309 : decode cX9_init 309 = .ok (.newarray .int, 2) := dk_188_10 (dk_at dksX9_init_13 7 rfl rfl)
theorem dX9_init_311 : decode cX9_init 311 = .ok (.putfield 111, 3) := dk_181 0 111 (dk_at dksX9_init_13 9 rfl rfl)
theorem dX9_init_314 : decode cX9_init 314 = .ok (.aload_n 0, 1) := dk_42 (dk_at dksX9_init_13 12 rfl rfl)
theorem dX9_init_315 : decode cX9_init 315 = .ok (.bipush 12, 2) := dk_16 12 (dk_at dksX9_init_13 13 rfl rfl)
theorem dX9_init_317 : decode cX9_init 317 = .ok (.newarray .int, 2) := dk_188_10 (dk_at dksX9_init_13 15 rfl rfl)
theorem dX9_init_319 : decode cX9_init 319 = .ok (.putfield 114, 3) := dk_181 0 114 (dk_at dksX9_init_13 17 rfl rfl)
theorem dX9_init_322 : decode cX9_init 322 = .ok (.aload_n 0, 1) := dk_42 (dk_at dksX9_init_13 20 rfl rfl)
theorem dX9_init_323 : decode cX9_init 323 = .ok (.bipush 12, 2) := dk_16 12 (dk_at dksX9_init_13 21 rfl rfl)
theorem dX9_init_325 : decode cX9_init 325 = .ok (.newarray .int, 2) := dk_188_10 (dk_at dksX9_init_14 0 rfl rfl)
theorem dX9_init_327 : decode cX9_init 327 = .ok (.putfield 117, 3) := dk_181 0 117 (dk_at dksX9_init_14 2 rfl rfl)
theorem dX9_init_330 : decode cX9_init 330 = .ok (.aload_n 0, 1) := dk_42 (dk_at dksX9_init_14 5 rfl rfl)
theorem dX9_init_331 : decode cX9_init 331 = .ok (.bipush 12, 2) := dk_16 12 (dk_at dksX9_init_14 6 rfl rfl)
theorem dX9_init_333 : decode cX9_init 333 = .ok (.newarray .int, 2) := dk_188_10 (dk_at dksX9_init_14 8 rfl rfl)
theorem dX9_init_335 : decode cX9_init 335 = .ok (.putfield 120, 3) := dk_181 0 120 (dk_at dksX9_init_14 10 rfl rfl)
theorem dX9_init_338 : decode cX9_init 338 = .ok (.aload_n 0, 1) := dk_42 (dk_at dksX9_init_14 13 rfl rfl)
theorem dX9_init_339 : decode cX9_init 339 = .ok (.bipush 12, 2) := dk_16 12 (dk_at dksX9_init_14 14 rfl rfl)
theorem dX9_init_341 : decode cX9_init 341 = .ok (.newarray .int, 2) := dk_188_10 (dk_at dksX9_init_14 16 rfl rfl)
theorem dX9_init_343 : decode cX9_init 343 = .ok (.putfield 123, 3) := dk_181 0 123 (dk_at dksX9_init_14 18 rfl rfl)
theorem dX9_init_346 : decode cX9_init 346 = .ok (.aload_n 0, 1) := dk_42 (dk_at dksX9_init_14 21 rfl rfl)
theorem dX9_init_347 : decode cX9_init 347 = .ok (.bipush 30, 2) := dk_16 30 (dk_at dksX9_init_14 22 rfl rfl)
theorem dX9_init_349 : decode cX9_init 349 = .ok (.newarray .int, 2) := dk_188_10 (dk_at dksX9_init_15 0 rfl rfl)
theorem dX9_init_351 : decode cX9_init 351 = .ok (.putfield 126, 3) := dk_181 0 126 (dk_at dksX9_init_15 2 rfl rfl)
theorem dX9_init_354 : decode cX9_init 354 = .ok (.aload_n 0, 1) := dk_42 (dk_at dksX9_init_15 5 rfl rfl)
theorem dX9_init_355 : decode cX9_init 355 = .ok (.bipush 30, 2) := dk_16 30 (dk_at dksX9_init_15 6 rfl rfl)
theorem dX9_init_357 : decode cX9_init 357 = .ok (.newarray .int, 2) := dk_188_10 (dk_at dksX9_init_15 8 rfl rfl)
theorem dX9_init_359 : decode cX9_init 359 = .ok (.putfield 129, 3) := dk_181 0 129 (dk_at dksX9_init_15 10 rfl rfl)
theorem dX9_init_362 : decode cX9_init 362 = .ok (.aload_n 0, 1) := dk_42 (dk_at dksX9_init_15 13 rfl rfl)
theorem dX9_init_363 : decode cX9_init 363 = .ok (.bipush 30, 2) := dk_16 30 (dk_at dksX9_init_15 14 rfl rfl)
theorem dX9_init_365 : decode cX9_init 365 = .ok (.newarray .int, 2) := dk_188_10 (dk_at dksX9_init_15 16 rfl rfl)
theorem dX9_init_367 : decode cX9_init 367 = .ok (.putfield 132, 3) := dk_181 0 132 (dk_at dksX9_init_15 18 rfl rfl)
theorem dX9_init_370 : decode cX9_init 370 = .ok (.aload_n 0, 1) := dk_42 (dk_at dksX9_init_15 21 rfl rfl)
theorem dX9_init_371 : decode cX9_init 371 = .ok (.bipush 30, 2) := dk_16 30 (dk_at dksX9_init_15 22 rfl rfl)
theorem dX9_init_373 : decode cX9_init 373 = .ok (.newarray .int, 2) := dk_188_10 (dk_at dksX9_init_16 0 rfl rfl)
theorem dX9_init_375 : decode cX9_init 375 = .ok (.putfield 135, 3) := dk_181 0 135 (dk_at dksX9_init_16 2 rfl rfl)
theorem dX9_init_378 : decode cX9_init 378 = .ok (.aload_n 0, 1) := dk_42 (dk_at dksX9_init_16 5 rfl rfl)
theorem dX9_init_379 : decode cX9_init 379 = .ok (.iconst 2, 1) := dk_5 (dk_at dksX9_init_16 6 rfl rfl)
theorem dX9_init_380 : decode cX9_init 380 = .ok (.newarray .boolean, 2) := dk_188_4 (dk_at dksX9_init_16 7 rfl rfl)
theorem dX9_init_382 : decode cX9_init 382 = .ok (.putfield 138, 3) := dk_181 0 138 (dk_at dksX9_init_16 9 rfl rfl)
theorem dX9_init_385 : decode cX9_init 385 = .ok (.aload_n 0, 1) := dk_42 (dk_at dksX9_init_16 12 rfl rfl)
theorem dX9_init_386 : decode cX9_init 386 = .ok (.bipush 30, 2) := dk_16 30 (dk_at dksX9_init_16 13 rfl rfl)
theorem dX9_init_388 : decode cX9_init 388 = .ok (.newarray .int, 2) := dk_188_10 (dk_at dksX9_init_16 15 rfl rfl)
theorem dX9_init_390 : decode cX9_init 390 = .ok (.putfield 142, 3) := dk_181 0 142 (dk_at dksX9_init_16 17 rfl rfl)
theorem dX9_init_393 : decode cX9_init 393 = .ok (.aload_n 0, 1) := dk_42 (dk_at dksX9_init_16 20 rfl rfl)
theorem dX9_init_394 : decode cX9_init 394 = .ok (.sipush 1230, 3) := dk_17 4 206 (dk_at dksX9_init_16 21 rfl rfl)
theorem dX9_init_397 : decode cX9_init 397 = .ok (.newarray .int, 2) := dk_188_10 (dk_at dksX9_init_17 0 rfl rfl)
theorem dX9_init_399 : decode cX9_init 399 = .ok (.putfield 145, 3) := dk_181 0 145 (dk_at dksX9_init_17 2 rfl rfl)
theorem dX9_init_402 : decode cX9_init 402 = .ok (.aload_n 0, 1) := dk_42 (dk_at dksX9_init_17 5 rfl rfl)
theorem dX9_init_403 : decode cX9_init 403 = .ok (.sipush 1260, 3) := dk_17 4 236 (dk_at dksX9_init_17 6 rfl rfl)
theorem dX9_init_406 : decode cX9_init 406 = .ok (.newarray .int, 2) := dk_188_10 (dk_at dksX9_init_17 9 rfl rfl)
theorem dX9_init_408 : decode cX9_init 408 = .ok (.putfield 148, 3) := dk_181 0 148 (dk_at dksX9_init_17 11 rfl rfl)
theorem dX9_init_411 : decode cX9_init 411 = .ok (.aload_n 0, 1) := dk_42 (dk_at dksX9_init_17 14 rfl rfl)
theorem dX9_init_412 : decode cX9_init 412 = .ok (.sipush 1260, 3) := dk_17 4 236 (dk_at dksX9_init_17 15 rfl rfl)
theorem dX9_init_415 : decode cX9_init 415 = .ok (.newarray .int, 2) := dk_188_10 (dk_at dksX9_init_17 18 rfl rfl)
theorem dX9_init_417 : decode cX9_init 417 = .ok (.putfield 151, 3) := dk_181 0 151 (dk_at dksX9_init_17 20 rfl rfl)
theorem dX9_init_420 : decode cX9_init 420 = .ok (.aload_n 0, 1) := dk_42 (dk_at dksX9_init_17 23 rfl rfl)
theorem dX9_init_421 : decode cX9_init 421 = .ok (.sipush 1260, 3) := dk_17 4 236 (dk_at dksX9_init_18 0 rfl rfl)
theorem dX9_init_424 : decode cX9_init 424 = .ok (.newarray .int, 2) := dk_188_10 (dk_at dksX9_init_18 3 rfl rfl)
theorem dX9_init_426 : decode cX9_init 426 = .ok (.putfield 154, 3) := dk_181 0 154 (dk_at dksX9_init_18 5 rfl rfl)
theorem dX9_init_429 : decode cX9_init 429 = .ok (.aload_n 0, 1) := dk_42 (dk_at dksX9_init_18 8 rfl rfl)
theorem dX9_init_430 : decode cX9_init 430 = .ok (.sipush 1260, 3) := dk_17 4 236 (dk_at dksX9_init_18 9 rfl rfl)
theorem dX9_init_433 : decode cX9_init 433 = .ok (.newarray .int, 2) := dk_188_10 (dk_at dksX9_init_18 12 rfl rfl)
theorem dX9_init_435 : decode cX9_init 435 = .ok (.putfield 157, 3) := dk_181 0 157 (dk_at dksX9_init_18 14 rfl rfl)
theorem dX9_init_438 : decode cX9_init 438 = .ok (.aload_n 0, 1) := dk_42 (dk_at dksX9_init_18 17 rfl rfl)
theorem dX9_init_439 : decode cX9_init 439 = .ok (.sipush 1260, 3) := dk_17 4 236 (dk_at dksX9_init_18 18 rfl rfl)
theorem dX9_init_442 : decode cX9_init 442 = .ok (.newarray .int, 2) := dk_188_10 (dk_at dksX9_init_18 21 rfl rfl)
theorem dX9_init_444 : decode cX9_init 444 = .ok (.putfield 160, 3) := dk_181 0 160 (dk_at dksX9_init_19 0 rfl rfl)
theorem dX9_init_447 : decode cX9_init 447 = .ok (.aload_n 0, 1) := dk_42 (dk_at dksX9_init_19 3 rfl rfl)
theorem dX9_init_448 : decode cX9_init 448 = .ok (.sipush 1260, 3) := dk_17 4 236 (dk_at dksX9_init_19 4 rfl rfl)
theorem dX9_init_451 : decode cX9_init 451 = .ok (.newarray .int, 2) := dk_188_10 (dk_at dksX9_init_19 7 rfl rfl)
theorem dX9_init_453 : decode cX9_init 453 = .ok (.putfield 163, 3) := dk_181 0 163 (dk_at dksX9_init_19 9 rfl rfl)
theorem dX9_init_456 : decode cX9_init 456 = .ok (.aload_n 0, 1) := dk_42 (dk_at dksX9_init_19 12 rfl rfl)
theorem dX9_init_457 : decode cX9_init 457 = .ok (.sipush 15120, 3) := dk_17 59 16 (dk_at dksX9_init_19 13 rfl rfl)
theorem dX9_init_460 : decode cX9_init 460 = .ok (.newarray .int, 2) := dk_188_10 (dk_at dksX9_init_19 16 rfl rfl)
theorem dX9_init_462 : decode cX9_init 462 = .ok (.putfield 166, 3) := dk_181 0 166 (dk_at dksX9_init_19 18 rfl rfl)
theorem dX9_init_465 : decode cX9_init 465 = .ok (.aload_n 0, 1) := dk_42 (dk_at dksX9_init_19 21 rfl rfl)
theorem dX9_init_466 : decode cX9_init 466 = .ok (.sipush 1230, 3) := dk_17 4 206 (dk_at dksX9_init_20 0 rfl rfl)
theorem dX9_init_469 : decode cX9_init 469 = .ok (.newarray .int, 2) := dk_188_10 (dk_at dksX9_init_20 3 rfl rfl)
theorem dX9_init_471 : decode cX9_init 471 = .ok (.putfield 169, 3) := dk_181 0 169 (dk_at dksX9_init_20 5 rfl rfl)
theorem dX9_init_474 : decode cX9_init 474 = .ok (.aload_n 0, 1) := dk_42 (dk_at dksX9_init_20 8 rfl rfl)
theorem dX9_init_475 : decode cX9_init 475 = .ok (.sipush 240, 3) := dk_17 0 240 (dk_at dksX9_init_20 9 rfl rfl)
theorem dX9_init_478 : decode cX9_init 478 = .ok (.newarray .int, 2) := dk_188_10 (dk_at dksX9_init_20 12 rfl rfl)
theorem dX9_init_480 : decode cX9_init 480 = .ok (.putfield 172, 3) := dk_181 0 172 (dk_at dksX9_init_20 14 rfl rfl)
theorem dX9_init_483 : decode cX9_init 483 = .ok (.aload_n 0, 1) := dk_42 (dk_at dksX9_init_20 17 rfl rfl)
theorem dX9_init_484 : decode cX9_init 484 = .ok (.sipush 400, 3) := dk_17 1 144 (dk_at dksX9_init_20 18 rfl rfl)
theorem dX9_init_487 : decode cX9_init 487 = .ok (.newarray .int, 2) := dk_188_10 (dk_at dksX9_init_20 21 rfl rfl)
theorem dX9_init_489 : decode cX9_init 489 = .ok (.putfield 175, 3) := dk_181 0 175 (dk_at dksX9_init_21 0 rfl rfl)
theorem dX9_init_492 : decode cX9_init 492 = .ok (.aload_n 0, 1) := dk_42 (dk_at dksX9_init_21 3 rfl rfl)
theorem dX9_init_493 : decode cX9_init 493 = .ok (.sipush 400, 3) := dk_17 1 144 (dk_at dksX9_init_21 4 rfl rfl)
theorem dX9_init_496 : decode cX9_init 496 = .ok (.newarray .int, 2) := dk_188_10 (dk_at dksX9_init_21 7 rfl rfl)
theorem dX9_init_498 : decode cX9_init 498 = .ok (.putfield 178, 3) := dk_181 0 178 (dk_at dksX9_init_21 9 rfl rfl)
theorem dX9_init_501 : decode cX9_init 501 = .ok (.aload_n 0, 1) := dk_42 (dk_at dksX9_init_21 12 rfl rfl)
theorem dX9_init_502 : decode cX9_init 502 = .ok (.sipush 400, 3) := dk_17 1 144 (dk_at dksX9_init_21 13 rfl rfl)
theorem dX9_init_505 : decode cX9_init 505 = .ok (.newarray .int, 2) := dk_188_10 (dk_at dksX9_init_21 16 rfl rfl)
theorem dX9_init_507 : decode cX9_init 507 = .ok (.putfield 181, 3) := dk_181 0 181 (dk_at dksX9_init_21 18 rfl rfl)
theorem dX9_init_510 : decode cX9_init 510 = .ok (.aload_n 0, 1) := dk_42 (dk_at dksX9_init_21 21 rfl rfl)
theorem dX9_init_511 : decode cX9_init 511 = .ok (.sipush 400, 3) := dk_17 1 144 (dk_at dksX9_init_22 0 rfl rfl)
theorem dX9_init_514 : decode cX9_init 514 = .ok (.newarray .int, 2) := dk_188_10 (dk_at dksX9_init_22 3 rfl rfl)
theorem dX9_init_516 : decode cX9_init 516 = .ok (.putfield 184, 3) := dk_181 0 184 (dk_at dksX9_init_22 5 rfl rfl)
theorem dX9_init_519 : decode cX9_init 519 = .ok (.aload_n 0, 1) := dk_42 (dk_at dksX9_init_22 8 rfl rfl)
theorem dX9_init_520 : decode cX9_init 520 = .ok (.sipush 400, 3) := dk_17 1 144 (dk_at dksX9_init_22 9 rfl rfl)
theorem dX9_init_523 : decode cX9_init 523 = .ok (.newarray .int, 2) := dk_188_10 (dk_at dksX9_init_22 12 rfl rfl)
theorem dX9_init_525 : decode cX9_init 525 = .ok (.putfield 187, 3) := dk_181 0 187 (dk_at dksX9_init_22 14 rfl rfl)
theorem dX9_init_528 : decode cX9_init 528 = .ok (.aload_n 0, 1) := dk_42 (dk_at dksX9_init_22 17 rfl rfl)
theorem dX9_init_529 : decode cX9_init 529 = .ok (.sipush 400, 3) := dk_17 1 144 (dk_at dksX9_init_22 18 rfl rfl)
theorem dX9_init_532 : decode cX9_init 532 = .ok (.newarray .int, 2) := dk_188_10 (dk_at dksX9_init_22 21 rfl rfl)
theorem dX9_init_534 : decode cX9_init 534 = .ok (.putfield 190, 3) := dk_181 0 190 (dk_at dksX9_init_23 0 rfl rfl)
theorem dX9_init_537 : decode cX9_init 537 = .ok (.aload_n 0, 1) := dk_42 (dk_at dksX9_init_23 3 rfl rfl)
theorem dX9_init_538 : decode cX9_init 538 = .ok (.sipush 400, 3) := dk_17 1 144 (dk_at dksX9_init_23 4 rfl rfl)
theorem dX9_init_541 : decode cX9_init 541 = .ok (.newarray .int, 2) := dk_188_10 (dk_at dksX9_init_23 7 rfl rfl)
theorem dX9_init_543 : decode cX9_init 543 = .ok (.putfield 193, 3) := dk_181 0 193 (dk_at dksX9_init_23 9 rfl rfl)
theorem dX9_init_546 : decode cX9_init 546 = .ok (.aload_n 0, 1) := dk_42 (dk_at dksX9_init_23 12 rfl rfl)
theorem dX9_init_547 : decode cX9_init 547 = .ok (.sipush 400, 3) := dk_17 1 144 (dk_at dksX9_init_23 13 rfl rfl)
theorem dX9_init_550 : decode cX9_init 550 = .ok (.newarray .int, 2) := dk_188_10 (dk_at dksX9_init_23 16 rfl rfl)
theorem dX9_init_552 : decode cX9_init 552 = .ok (.putfield 196, 3) := dk_181 0 196 (dk_at dksX9_init_23 18 rfl rfl)
theorem dX9_init_555 : decode cX9_init 555 = .ok (.aload_n 0, 1) := dk_42 (dk_at dksX9_init_23 21 rfl rfl)
theorem dX9_init_556 : decode cX9_init 556 = .ok (.bipush 72, 2) := dk_16 72 (dk_at dksX9_init_23 22 rfl rfl)
theorem dX9_init_558 : decode cX9_init 558 = .ok (.newarray .int, 2) := dk_188_10 (dk_at dksX9_init_24 0 rfl rfl)
theorem dX9_init_560 : decode cX9_init 560 = .ok (.putfield 199, 3) := dk_181 0 199 (dk_at dksX9_init_24 2 rfl rfl)
theorem dX9_init_563 : decode cX9_init 563 = .ok (.aload_n 0, 1) := dk_42 (dk_at dksX9_init_24 5 rfl rfl)
theorem dX9_init_564 : decode cX9_init 564 = .ok (.bipush 36, 2) := dk_16 36 (dk_at dksX9_init_24 6 rfl rfl)
theorem dX9_init_566 : decode cX9_init 566 = .ok (.newarray .int, 2) := dk_188_10 (dk_at dksX9_init_24 8 rfl rfl)
theorem dX9_init_568 : decode cX9_init 568 = .ok (.putfield 202, 3) := dk_181 0 202 (dk_at dksX9_init_24 10 rfl rfl)
theorem dX9_init_571 : decode cX9_init 571 = .ok (.aload_n 0, 1) := dk_42 (dk_at dksX9_init_24 13 rfl rfl)
theorem dX9_init_572 : decode cX9_init 572 = .ok (.bipush 12, 2) := dk_16 12 (dk_at dksX9_init_24 14 rfl rfl)
theorem dX9_init_574 : decode cX9_init 574 = .ok (.newarray .int, 2) := dk_188_10 (dk_at dksX9_init_24 16 rfl rfl)
theorem dX9_init_576 : decode cX9_init 576 = .ok (.putfield 205, 3) := dk_181 0 205 (dk_at dksX9_init_24 18 rfl rfl)
theorem dX9_init_579 : decode cX9_init 579 = .ok (.aload_n 0, 1) := dk_42 (dk_at dksX9_init_24 21 rfl rfl)
theorem dX9_init_580 : decode cX9_init 580 = .ok (.bipush 12, 2) := dk_16 12 (dk_at dksX9_init_24 22 rfl rfl)
theorem dX9_init_582 : decode cX9_init 582 = .ok (.newarray .int, 2) := dk_188_10 (dk_at dksX9_init_25 0 rfl rfl)
theorem dX9_init_584 : decode cX9_init 584 = .ok (.putfield 208, 3) := dk_181 0 208 (dk_at dksX9_init_25 2 rfl rfl)
theorem dX9_init_587 : decode cX9_init 587 = .ok (.aload_n 0, 1) := dk_42 (dk_at dksX9_init_25 5 rfl rfl)
theorem dX9_init_588 : decode cX9_init 588 = .ok (.sipush 420, 3) := dk_17 1 164 (dk_at dksX9_init_25 6 rfl rfl)
theorem dX9_init_591 : decode cX9_init 591 = .ok (.newarray .int, 2) := dk_188_10 (dk_at dksX9_init_25 9 rfl rfl)
theorem dX9_init_593 : decode cX9_init 593 = .ok (.putfield 211, 3) := dk_181 0 211 (dk_at dksX9_init_25 11 rfl rfl)
theorem dX9_init_596 : decode cX9_init 596 = .ok (.aload_n 0, 1) := dk_42 (dk_at dksX9_init_25 14 rfl rfl)
theorem dX9_init_597 : decode cX9_init 597 = .ok (.sipush 3360, 3) := dk_17 13 32 (dk_at dksX9_init_25 15 rfl rfl)
theorem dX9_init_600 : decode cX9_init 600 = .ok (.newarray .int, 2) := dk_188_10 (dk_at dksX9_init_25 18 rfl rfl)
theorem dX9_init_602 : decode cX9_init 602 = .ok (.putfield 214, 3) := dk_181 0 214 (dk_at dksX9_init_25 20 rfl rfl)
theorem dX9_init_605 : decode cX9_init 605 = .ok (.aload_n 0, 1) := dk_42 (dk_at dksX9_init_25 23 rfl rfl)
theorem dX9_init_606 : decode cX9_init 606 = .ok (.sipush 560, 3) := dk_17 2 48 (dk_at dksX9_init_26 0 rfl rfl)
theorem dX9_init_609 : decode cX9_init 609 = .ok (.newarray .int, 2) := dk_188_10 (dk_at dksX9_init_26 3 rfl rfl)
theorem dX9_init_611 : decode cX9_init 611 = .ok (.putfield 217, 3) := dk_181 0 217 (dk_at dksX9_init_26 5 rfl rfl)
theorem dX9_init_614 : decode cX9_init 614 = .ok (.aload_n 0, 1) := dk_42 (dk_at dksX9_init_26 8 rfl rfl)
theorem dX9_init_615 : decode cX9_init 615 = .ok (.bipush 60, 2) := dk_16 60 (dk_at dksX9_init_26 9 rfl rfl)
theorem dX9_init_617 : decode cX9_init 617 = .ok (.newarray .int, 2) := dk_188_10 (dk_at dksX9_init_26 11 rfl rfl)
theorem dX9_init_619 : decode cX9_init 619 = .ok (.putfield 220, 3) := dk_181 0 220 (dk_at dksX9_init_26 13 rfl rfl)
theorem dX9_init_622 : decode cX9_init 622 = .ok (.aload_n 0, 1) := dk_42 (dk_at dksX9_init_26 16 rfl rfl)
theorem dX9_init_623 : decode cX9_init 623 = .ok (.bipush 60, 2) := dk_16 60 (dk_at dksX9_init_26 17 rfl rfl)
theorem dX9_init_625 : decode cX9_init 625 = .ok (.newarray .int, 2) := dk_188_10 (dk_at dksX9_init_26 19 rfl rfl)
theorem dX9_init_627 : decode cX9_init 627 = .ok (.putfield 223, 3) := dk_181 0 223 (dk_at dksX9_init_26 21 rfl rfl)
theorem dX9_init_630 : decode cX9_init 630 = .ok (.aload_n 0, 1) := dk_42 (dk_at dksX9_init_27 0 rfl rfl)
theorem dX9_init_631 : decode cX9_init 631 = .ok (.bipush 60, 2) := dk_16 60 (dk_at dksX9_init_27 1 rfl rfl)
theorem dX9_init_633 : decode cX9_init 633 = .ok (.newarray .int, 2) := dk_188_10 (dk_at dksX9_init_27 3 rfl rfl)
theorem dX9_init_635 : decode cX9_init 635 = .ok (.putfield 226, 3) := dk_181 0 226 (dk_at dksX9_init_27 5 rfl rfl)
theorem dX9_init_638 : decode cX9_init 638 = .ok (.aload_n 0, 1) := dk_42 (dk_at dksX9_init_27 8 rfl rfl)
theorem dX9_init_639 : decode cX9_init 639 = .ok (.sipush 1100, 3) := dk_17 4 76 (dk_at dksX9_init_27 9 rfl rfl)
theorem dX9_init_642 : decode cX9_init 642 = .ok (.newarray .int, 2) := dk_188_10 (dk_at dksX9_init_27 12 rfl rfl)
theorem dX9_init_644 : decode cX9_init 644 = .ok (.putfield 229, 3) := dk_181 0 229 (dk_at dksX9_init_27 14 rfl rfl)
theorem dX9_init_647 : decode cX9_init 647 = .ok (.aload_n 0, 1) := dk_42 (dk_at dksX9_init_27 17 rfl rfl)
theorem dX9_init_648 : decode cX9_init 648 = .ok (.sipush 244, 3) := dk_17 0 244 (dk_at dksX9_init_27 18 rfl rfl)
theorem dX9_init_651 : decode cX9_init 651 = .ok (.newarray .int, 2) := dk_188_10 (dk_at dksX9_init_27 21 rfl rfl)
theorem dX9_init_653 : decode cX9_init 653 = .ok (.putfield 232, 3) := dk_181 0 232 (dk_at dksX9_init_28 0 rfl rfl)
theorem dX9_init_656 : decode cX9_init 656 = .ok (.aload_n 0, 1) := dk_42 (dk_at dksX9_init_28 3 rfl rfl)
theorem dX9_init_657 : decode cX9_init 657 = .ok (.iconst 0, 1) := dk_3 (dk_at dksX9_init_28 4 rfl rfl)
theorem dX9_init_658 : decode cX9_init 658 = .ok (.putfield 235, 3) := dk_181 0 235 (dk_at dksX9_init_28 5 rfl rfl)
theorem dX9_init_661 : decode cX9_init 661 = .ok (.return_, 1) := dk_177 (dk_at dksX9_init_28 8 rfl rfl)
theorem okX9_init_0 : XOkL xms rX9_init bX9_init_0 := xcP (xok_aload_n dX9_init_0 rfl) rfl (xcP (xok_objInit dX9_init_1 q1907 q186 q187) rfl (xcP (xok_aload_n dX9_init_4 rfl) rfl (xcP (xok_bipush dX9_init_5 rfl) rfl (xcP (xok_newarray (atype := .long) (by decide) rfl dX9_init_7 q2218) rfl (xcP (xok_dup dX9_init_9) rfl (xcP (xok_iconst dX9_init_10 rfl) rfl (xcP (xok_ldc2 dX9_init_11 q1908) rfl (xcP (xok_lastore dX9_init_14) rfl (xcP (xok_dup dX9_init_15) rfl (xcP (xok_iconst dX9_init_16 rfl) rfl (xcP (xok_ldc2 dX9_init_17 q1909) rfl (xcP (xok_lastore dX9_init_20) rfl (xcP (xok_dup dX9_init_21) rfl (xcP (xok_iconst dX9_init_22 rfl) rfl (xcP (xok_ldc2 dX9_init_23 q1910) rfl (xcP (xok_lastore dX9_init_26) rfl (xcP (xok_dup dX9_init_27) rfl (xcP (xok_iconst dX9_init_28 rfl) rfl (xcP (xok_ldc2 dX9_init_29 q1911) rfl (xcP (xok_lastore dX9_init_32) rfl (xcP (xok_dup dX9_init_33) rfl (xcP (xok_iconst dX9_init_34 rfl) rfl (xcP (xok_ldc2 dX9_init_35 q1912) rfl (xcP (xok_lastore dX9_init_38) rfl (xcP (xok_dup dX9_init_39) rfl (xcP (xok_iconst dX9_init_40 rfl) rfl (xcP (xok_ldc2 dX9_init_41 q1913) rfl (xcP (xok_lastore dX9_init_44) rfl (xcP (xok_dup dX9_init_45) rfl (xcP (xok_bipush dX9_init_46 rfl) rfl (xcP (xok_ldc2 dX9_init_48 q1914) rfl (xcP (xok_lastore dX9_init_51) rfl (xcP (xok_dup dX9_init_52) rfl (xcP (xok_bipush dX9_init_53 rfl) rfl (xcP (xok_ldc2 dX9_init_55 q1915) rfl (xcP (xok_lastore dX9_init_58) rfl (xcP (xok_dup dX9_init_59) rfl (xcP (xok_bipush dX9_init_60 rfl) rfl (xcP (xok_ldc2 dX9_init_62 q1916) rfl (xcP (xok_lastore dX9_init_65) rfl (xcP (xok_dup dX9_init_66) rfl (xcP (xok_bipush dX9_init_67 rfl) rfl (xcP (xok_ldc2 dX9_init_69 q1917) rfl (xcP (xok_lastore dX9_init_72) rfl (xcP (xok_dup dX9_init_73) rfl (xcP (xok_bipush dX9_init_74 rfl) rfl (xcP (xok_ldc2 dX9_init_76 q1918) rfl (xcP (xok_lastore dX9_init_79) rfl (xcP (xok_dup dX9_init_80) rfl (xcP (xok_bipush dX9_init_81 rfl) rfl (xcP (xok_ldc2 dX9_init_83 q1919) rfl (xcP (xok_lastore dX9_init_86) rfl (xcP (xok_dup dX9_init_87) rfl (xcP (xok_bipush dX9_init_88 rfl) rfl (xcP (xok_ldc2 dX9_init_90 q1920) rfl (xcP (xok_lastore dX9_init_93) rfl (xcP (xok_dup dX9_init_94) rfl (xcP (xok_bipush dX9_init_95 rfl) rfl (xcP (xok_ldc2 dX9_init_97 q1921) rfl (xcP (xok_lastore dX9_init_100) rfl (xcP (xok_dup dX9_init_101) rfl (xcP (xok_bipush dX9_init_102 rfl) rfl (xcP (xok_ldc2 dX9_init_104 q1922) rfl (xcP (xok_lastore dX9_init_107) rfl (xcP (xok_dup dX9_init_108) rfl (xcP (xok_bipush dX9_init_109 rfl) rfl (xcP (xok_ldc2 dX9_init_111 q1923) rfl (xcP (xok_lastore dX9_init_114) rfl (xcP (xok_dup dX9_init_115) rfl (xcP (xok_bipush dX9_init_116 rfl) rfl (xcP (xok_ldc2 dX9_init_118 q1924) rfl (xcP (xok_lastore dX9_init_121) rfl (xcP (xok_dup dX9_init_122) rfl (xcP (xok_bipush dX9_init_123 rfl) rfl (xcP (xok_ldc2 dX9_init_125 q1925) rfl (xcP (xok_lastore dX9_init_128) rfl (xcP (xok_dup dX9_init_129) rfl (xcP (xok_bipush dX9_init_130 rfl) rfl (xcP (xok_ldc2 dX9_init_132 q1926) rfl (xcP (xok_lastore dX9_init_135) rfl (xcP (xok_dup dX9_init_136) rfl (xcP (xok_bipush dX9_init_137 rfl) rfl (xcP (xok_ldc2 dX9_init_139 q1927) rfl (xcP (xok_lastore dX9_init_142) rfl (xcP (xok_dup dX9_init_143) rfl (xcP (xok_bipush dX9_init_144 rfl) rfl (xcP (xok_ldc2 dX9_init_146 q1928) rfl (xcP (xok_lastore dX9_init_149) rfl (xcP (xok_putfield (ref := "WaysAtlasModel") (Or.inr (Or.inr ⟨rfl, by decide, rfl⟩)) dX9_init_150 (Or.inl ⟨q1929, (Or.inl rfl)⟩) (Or.inr ⟨rfl, rfl, ⟨q1929, (Or.inl rfl)⟩⟩) xh1057) rfl (xcP (xok_aload_n dX9_init_153 rfl) rfl (xcP (xok_sipush dX9_init_154 rfl) rfl (xcP (xok_newarray (atype := .byte) (by decide) rfl dX9_init_157 q221) rfl (xcP (xok_putfield (ref := "WaysAtlasModel") (Or.inr (Or.inr ⟨rfl, by decide, rfl⟩)) dX9_init_159 (Or.inl ⟨q1930, (Or.inl rfl)⟩) (Or.inr ⟨rfl, rfl, ⟨q1930, (Or.inl rfl)⟩⟩) xh1058) rfl (xcP (xok_aload_n dX9_init_162 rfl) rfl (xcP (xok_sipush dX9_init_163 rfl) rfl (xcP (xok_newarray (atype := .int) (by decide) rfl dX9_init_166 q222) rfl (xcP (xok_putfield (ref := "WaysAtlasModel") (Or.inr (Or.inr ⟨rfl, by decide, rfl⟩)) dX9_init_168 (Or.inl ⟨q1940, (Or.inl rfl)⟩) (Or.inr ⟨rfl, rfl, ⟨q1940, (Or.inl rfl)⟩⟩) xh1059) rfl (xcP (xok_aload_n dX9_init_171 rfl) rfl (xcP (xok_iconst dX9_init_172 rfl) rfl (xcP (xok_newarray (atype := .int) (by decide) rfl dX9_init_173 q222) rfl (xcP (xok_putfield (ref := "WaysAtlasModel") (Or.inr (Or.inr ⟨rfl, by decide, rfl⟩)) dX9_init_175 (Or.inl ⟨q1941, (Or.inl rfl)⟩) (Or.inr ⟨rfl, rfl, ⟨q1941, (Or.inl rfl)⟩⟩) xh1060) rfl (xcP (xok_aload_n dX9_init_178 rfl) rfl (xcP (xok_sipush dX9_init_179 rfl) rfl (xcP (xok_newarray (atype := .int) (by decide) rfl dX9_init_182 q222) rfl (xcP (xok_putfield (ref := "WaysAtlasModel") (Or.inr (Or.inr ⟨rfl, by decide, rfl⟩)) dX9_init_184 (Or.inl ⟨q1942, (Or.inl rfl)⟩) (Or.inr ⟨rfl, rfl, ⟨q1942, (Or.inl rfl)⟩⟩) xh1061) rfl (xcP (xok_aload_n dX9_init_187 rfl) rfl (xcP (xok_sipush dX9_init_188 rfl) rfl (xcP (xok_newarray (atype := .int) (by decide) rfl dX9_init_191 q222) rfl (xcP (xok_putfield (ref := "WaysAtlasModel") (Or.inr (Or.inr ⟨rfl, by decide, rfl⟩)) dX9_init_193 (Or.inl ⟨q1943, (Or.inl rfl)⟩) (Or.inr ⟨rfl, rfl, ⟨q1943, (Or.inl rfl)⟩⟩) xh1062) rfl (xcP (xok_aload_n dX9_init_196 rfl) rfl (xcP (xok_sipush dX9_init_197 rfl) rfl (xcP (xok_newarray (atype := .int) (by decide) rfl dX9_init_200 q222) rfl (xcP (xok_putfield (ref := "WaysAtlasModel") (Or.inr (Or.inr ⟨rfl, by decide, rfl⟩)) dX9_init_202 (Or.inl ⟨q1944, (Or.inl rfl)⟩) (Or.inr ⟨rfl, rfl, ⟨q1944, (Or.inl rfl)⟩⟩) xh1063) rfl (xcP (xok_aload_n dX9_init_205 rfl) rfl (xcP (xok_sipush dX9_init_206 rfl) rfl (xcP (xok_newarray (atype := .int) (by decide) rfl dX9_init_209 q222) rfl (xcP (xok_putfield (ref := "WaysAtlasModel") (Or.inr (Or.inr ⟨rfl, by decide, rfl⟩)) dX9_init_211 (Or.inl ⟨q1945, (Or.inl rfl)⟩) (Or.inr ⟨rfl, rfl, ⟨q1945, (Or.inl rfl)⟩⟩) xh1064) rfl (xcP (xok_aload_n dX9_init_214 rfl) rfl (xcP (xok_sipush dX9_init_215 rfl) rfl (xcP (xok_newarray (atype := .int) (by decide) rfl dX9_init_218 q222) rfl (xcP (xok_putfield (ref := "WaysAtlasModel") (Or.inr (Or.inr ⟨rfl, by decide, rfl⟩)) dX9_init_220 (Or.inl ⟨q1946, (Or.inl rfl)⟩) (Or.inr ⟨rfl, rfl, ⟨q1946, (Or.inl rfl)⟩⟩) xh1065) rfl (xcP (xok_aload_n dX9_init_223 rfl) rfl (xcP (xok_sipush dX9_init_224 rfl) rfl (xcP (xok_newarray (atype := .int) (by decide) rfl dX9_init_227 q222) rfl (xcP (xok_putfield (ref := "WaysAtlasModel") (Or.inr (Or.inr ⟨rfl, by decide, rfl⟩)) dX9_init_229 (Or.inl ⟨q1947, (Or.inl rfl)⟩) (Or.inr ⟨rfl, rfl, ⟨q1947, (Or.inl rfl)⟩⟩) xh1066) rfl (xcP (xok_aload_n dX9_init_232 rfl) rfl (xcP (xok_iconst dX9_init_233 rfl) rfl (xcP (xok_newarray (atype := .int) (by decide) rfl dX9_init_234 q222) rfl (xcP (xok_putfield (ref := "WaysAtlasModel") (Or.inr (Or.inr ⟨rfl, by decide, rfl⟩)) dX9_init_236 (Or.inl ⟨q1948, (Or.inl rfl)⟩) (Or.inr ⟨rfl, rfl, ⟨q1948, (Or.inl rfl)⟩⟩) xh1067) rfl (xcP (xok_aload_n dX9_init_239 rfl) rfl (xcP (xok_bipush dX9_init_240 rfl) rfl (xcP (xok_newarray (atype := .int) (by decide) rfl dX9_init_242 q222) rfl (xcP (xok_putfield (ref := "WaysAtlasModel") (Or.inr (Or.inr ⟨rfl, by decide, rfl⟩)) dX9_init_244 (Or.inl ⟨q1949, (Or.inl rfl)⟩) (Or.inr ⟨rfl, rfl, ⟨q1949, (Or.inl rfl)⟩⟩) xh1068) rfl (xcP (xok_aload_n dX9_init_247 rfl) rfl (xcP (xok_iconst dX9_init_248 rfl) rfl (xcP (xok_newarray (atype := .int) (by decide) rfl dX9_init_249 q222) rfl (xcP (xok_putfield (ref := "WaysAtlasModel") (Or.inr (Or.inr ⟨rfl, by decide, rfl⟩)) dX9_init_251 (Or.inl ⟨q1950, (Or.inl rfl)⟩) (Or.inr ⟨rfl, rfl, ⟨q1950, (Or.inl rfl)⟩⟩) xh1069) rfl (xcP (xok_aload_n dX9_init_254 rfl) rfl (xcP (xok_bipush dX9_init_255 rfl) rfl (xcP (xok_newarray (atype := .int) (by decide) rfl dX9_init_257 q222) rfl (xcP (xok_putfield (ref := "WaysAtlasModel") (Or.inr (Or.inr ⟨rfl, by decide, rfl⟩)) dX9_init_259 (Or.inl ⟨q1951, (Or.inl rfl)⟩) (Or.inr ⟨rfl, rfl, ⟨q1951, (Or.inl rfl)⟩⟩) xh1070) rfl (xcP (xok_aload_n dX9_init_262 rfl) rfl (xcP (xok_iconst dX9_init_263 rfl) rfl (xcP (xok_newarray (atype := .int) (by decide) rfl dX9_init_264 q222) rfl (xcP (xok_putfield (ref := "WaysAtlasModel") (Or.inr (Or.inr ⟨rfl, by decide, rfl⟩)) dX9_init_266 (Or.inl ⟨q1952, (Or.inl rfl)⟩) (Or.inr ⟨rfl, rfl, ⟨q1952, (Or.inl rfl)⟩⟩) xh1071) rfl (xcP (xok_aload_n dX9_init_269 rfl) rfl (xcP (xok_sipush dX9_init_270 rfl) rfl (xcP (xok_newarray (atype := .int) (by decide) rfl dX9_init_273 q222) rfl (xcP (xok_putfield (ref := "WaysAtlasModel") (Or.inr (Or.inr ⟨rfl, by decide, rfl⟩)) dX9_init_275 (Or.inl ⟨q1959, (Or.inl rfl)⟩) (Or.inr ⟨rfl, rfl, ⟨q1959, (Or.inl rfl)⟩⟩) xh1072) rfl (xcP (xok_aload_n dX9_init_278 rfl) rfl (xcP (xok_sipush dX9_init_279 rfl) rfl (xcP (xok_newarray (atype := .int) (by decide) rfl dX9_init_282 q222) rfl (xcP (xok_putfield (ref := "WaysAtlasModel") (Or.inr (Or.inr ⟨rfl, by decide, rfl⟩)) dX9_init_284 (Or.inl ⟨q1960, (Or.inl rfl)⟩) (Or.inr ⟨rfl, rfl, ⟨q1960, (Or.inl rfl)⟩⟩) xh1073) rfl (xcP (xok_aload_n dX9_init_287 rfl) rfl (xcP (xok_sipush dX9_init_288 rfl) rfl (xcP (xok_newarray (atype := .int) (by decide) rfl dX9_init_291 q222) rfl (xcP (xok_putfield (ref := "WaysAtlasModel") (Or.inr (Or.inr ⟨rfl, by decide, rfl⟩)) dX9_init_293 (Or.inl ⟨q1961, (Or.inl rfl)⟩) (Or.inr ⟨rfl, rfl, ⟨q1961, (Or.inl rfl)⟩⟩) xh1074) rfl (xcP (xok_aload_n dX9_init_296 rfl) rfl (xcP (xok_sipush dX9_init_297 rfl) rfl (xcP (xok_newarray (atype := .int) (by decide) rfl dX9_init_300 q222) rfl (xcP (xok_putfield (ref := "WaysAtlasModel") (Or.inr (Or.inr ⟨rfl, by decide, rfl⟩)) dX9_init_302 (Or.inl ⟨q1963, (Or.inl rfl)⟩) (Or.inr ⟨rfl, rfl, ⟨q1963, (Or.inl rfl)⟩⟩) xh1075) rfl (xcP (xok_aload_n dX9_init_305 rfl) rfl (xcP (xok_sipush dX9_init_306 rfl) rfl (xcP (xok_newarray (atype := .int) (by decide) rfl dX9_init_309 q222) rfl (xcP (xok_putfield (ref := "WaysAtlasModel") (Or.inr (Or.inr ⟨rfl, by decide, rfl⟩)) dX9_init_311 (Or.inl ⟨q1964, (Or.inl rfl)⟩) (Or.inr ⟨rfl, rfl, ⟨q1964, (Or.inl rfl)⟩⟩) xh1076) rfl (xcP (xok_aload_n dX9_init_314 rfl) rfl (xcP (xok_bipush dX9_init_315 rfl) rfl (xcP (xok_newarray (atype := .int) (by decide) rfl dX9_init_317 q222) rfl (xcP (xok_putfield (ref := "WaysAtlasModel") (Or.inr (Or.inr ⟨rfl, by decide, rfl⟩)) dX9_init_319 (Or.inl ⟨q1968, (Or.inl rfl)⟩) (Or.inr ⟨rfl, rfl, ⟨q1968, (Or.inl rfl)⟩⟩) xh1077) rfl (xcP (xok_aload_n dX9_init_322 rfl) rfl (xcP (xok_bipush dX9_init_323 rfl) rfl (xcP (xok_newarray (atype := .int) (by decide) rfl dX9_init_325 q222) rfl (xcP (xok_putfield (ref := "WaysAtlasModel") (Or.inr (Or.inr ⟨rfl, by decide, rfl⟩)) dX9_init_327 (Or.inl ⟨q1969, (Or.inl rfl)⟩) (Or.inr ⟨rfl, rfl, ⟨q1969, (Or.inl rfl)⟩⟩) xh1078) rfl (xcP (xok_aload_n dX9_init_330 rfl) rfl (xcP (xok_bipush dX9_init_331 rfl) rfl (xcP (xok_newarray (atype := .int) (by decide) rfl dX9_init_333 q222) rfl (xcP (xok_putfield (ref := "WaysAtlasModel") (Or.inr (Or.inr ⟨rfl, by decide, rfl⟩)) dX9_init_335 (Or.inl ⟨q1970, (Or.inl rfl)⟩) (Or.inr ⟨rfl, rfl, ⟨q1970, (Or.inl rfl)⟩⟩) xh1079) rfl (xcP (xok_aload_n dX9_init_338 rfl) rfl (xcP (xok_bipush dX9_init_339 rfl) rfl (xcP (xok_newarray (atype := .int) (by decide) rfl dX9_init_341 q222) rfl (xcP (xok_putfield (ref := "WaysAtlasModel") (Or.inr (Or.inr ⟨rfl, by decide, rfl⟩)) dX9_init_343 (Or.inl ⟨q1971, (Or.inl rfl)⟩) (Or.inr ⟨rfl, rfl, ⟨q1971, (Or.inl rfl)⟩⟩) xh1080) rfl (xcP (xok_aload_n dX9_init_346 rfl) rfl (xcP (xok_bipush dX9_init_347 rfl) rfl (xcP (xok_newarray (atype := .int) (by decide) rfl dX9_init_349 q222) rfl (xcP (xok_putfield (ref := "WaysAtlasModel") (Or.inr (Or.inr ⟨rfl, by decide, rfl⟩)) dX9_init_351 (Or.inl ⟨q1973, (Or.inl rfl)⟩) (Or.inr ⟨rfl, rfl, ⟨q1973, (Or.inl rfl)⟩⟩) xh1081) rfl (xcP (xok_aload_n dX9_init_354 rfl) rfl (xcP (xok_bipush dX9_init_355 rfl) rfl (xcP (xok_newarray (atype := .int) (by decide) rfl dX9_init_357 q222) rfl (xcP (xok_putfield (ref := "WaysAtlasModel") (Or.inr (Or.inr ⟨rfl, by decide, rfl⟩)) dX9_init_359 (Or.inl ⟨q1974, (Or.inl rfl)⟩) (Or.inr ⟨rfl, rfl, ⟨q1974, (Or.inl rfl)⟩⟩) xh1082) rfl (xcP (xok_aload_n dX9_init_362 rfl) rfl (xcP (xok_bipush dX9_init_363 rfl) rfl (xcP (xok_newarray (atype := .int) (by decide) rfl dX9_init_365 q222) rfl (xcP (xok_putfield (ref := "WaysAtlasModel") (Or.inr (Or.inr ⟨rfl, by decide, rfl⟩)) dX9_init_367 (Or.inl ⟨q1975, (Or.inl rfl)⟩) (Or.inr ⟨rfl, rfl, ⟨q1975, (Or.inl rfl)⟩⟩) xh1083) rfl (xcP (xok_aload_n dX9_init_370 rfl) rfl (xcP (xok_bipush dX9_init_371 rfl) rfl (xcP (xok_newarray (atype := .int) (by decide) rfl dX9_init_373 q222) rfl (xcP (xok_putfield (ref := "WaysAtlasModel") (Or.inr (Or.inr ⟨rfl, by decide, rfl⟩)) dX9_init_375 (Or.inl ⟨q1976, (Or.inl rfl)⟩) (Or.inr ⟨rfl, rfl, ⟨q1976, (Or.inl rfl)⟩⟩) xh1084) rfl (xcP (xok_aload_n dX9_init_378 rfl) rfl (xcP (xok_iconst dX9_init_379 rfl) rfl (xcP (xok_newarray (atype := .boolean) (by decide) rfl dX9_init_380 q2219) rfl (xcP (xok_putfield (ref := "WaysAtlasModel") (Or.inr (Or.inr ⟨rfl, by decide, rfl⟩)) dX9_init_382 (Or.inl ⟨q1977, (Or.inl rfl)⟩) (Or.inr ⟨rfl, rfl, ⟨q1977, (Or.inl rfl)⟩⟩) xh1085) rfl (xcP (xok_aload_n dX9_init_385 rfl) rfl (xcP (xok_bipush dX9_init_386 rfl) rfl (xcP (xok_newarray (atype := .int) (by decide) rfl dX9_init_388 q222) rfl (xcP (xok_putfield (ref := "WaysAtlasModel") (Or.inr (Or.inr ⟨rfl, by decide, rfl⟩)) dX9_init_390 (Or.inl ⟨q1979, (Or.inl rfl)⟩) (Or.inr ⟨rfl, rfl, ⟨q1979, (Or.inl rfl)⟩⟩) xh1086) rfl (xcP (xok_aload_n dX9_init_393 rfl) rfl (xcP (xok_sipush dX9_init_394 rfl) rfl (xcP (xok_newarray (atype := .int) (by decide) rfl dX9_init_397 q222) rfl (xcP (xok_putfield (ref := "WaysAtlasModel") (Or.inr (Or.inr ⟨rfl, by decide, rfl⟩)) dX9_init_399 (Or.inl ⟨q1980, (Or.inl rfl)⟩) (Or.inr ⟨rfl, rfl, ⟨q1980, (Or.inl rfl)⟩⟩) xh1087) rfl (xcP (xok_aload_n dX9_init_402 rfl) rfl (xcP (xok_sipush dX9_init_403 rfl) rfl (xcP (xok_newarray (atype := .int) (by decide) rfl dX9_init_406 q222) rfl (xcP (xok_putfield (ref := "WaysAtlasModel") (Or.inr (Or.inr ⟨rfl, by decide, rfl⟩)) dX9_init_408 (Or.inl ⟨q1981, (Or.inl rfl)⟩) (Or.inr ⟨rfl, rfl, ⟨q1981, (Or.inl rfl)⟩⟩) xh1088) rfl (xcP (xok_aload_n dX9_init_411 rfl) rfl (xcP (xok_sipush dX9_init_412 rfl) rfl (xcP (xok_newarray (atype := .int) (by decide) rfl dX9_init_415 q222) rfl (xcP (xok_putfield (ref := "WaysAtlasModel") (Or.inr (Or.inr ⟨rfl, by decide, rfl⟩)) dX9_init_417 (Or.inl ⟨q1982, (Or.inl rfl)⟩) (Or.inr ⟨rfl, rfl, ⟨q1982, (Or.inl rfl)⟩⟩) xh1089) rfl (xcP (xok_aload_n dX9_init_420 rfl) rfl (xcP (xok_sipush dX9_init_421 rfl) rfl (xcP (xok_newarray (atype := .int) (by decide) rfl dX9_init_424 q222) rfl (xcP (xok_putfield (ref := "WaysAtlasModel") (Or.inr (Or.inr ⟨rfl, by decide, rfl⟩)) dX9_init_426 (Or.inl ⟨q1983, (Or.inl rfl)⟩) (Or.inr ⟨rfl, rfl, ⟨q1983, (Or.inl rfl)⟩⟩) xh1090) rfl (xcP (xok_aload_n dX9_init_429 rfl) rfl (xcP (xok_sipush dX9_init_430 rfl) rfl (xcP (xok_newarray (atype := .int) (by decide) rfl dX9_init_433 q222) rfl (xcP (xok_putfield (ref := "WaysAtlasModel") (Or.inr (Or.inr ⟨rfl, by decide, rfl⟩)) dX9_init_435 (Or.inl ⟨q1984, (Or.inl rfl)⟩) (Or.inr ⟨rfl, rfl, ⟨q1984, (Or.inl rfl)⟩⟩) xh1091) rfl (xcP (xok_aload_n dX9_init_438 rfl) rfl (xcP (xok_sipush dX9_init_439 rfl) rfl (xcP (xok_newarray (atype := .int) (by decide) rfl dX9_init_442 q222) rfl (xcP (xok_putfield (ref := "WaysAtlasModel") (Or.inr (Or.inr ⟨rfl, by decide, rfl⟩)) dX9_init_444 (Or.inl ⟨q1985, (Or.inl rfl)⟩) (Or.inr ⟨rfl, rfl, ⟨q1985, (Or.inl rfl)⟩⟩) xh1092) rfl (xcP (xok_aload_n dX9_init_447 rfl) rfl (xcP (xok_sipush dX9_init_448 rfl) rfl (xcP (xok_newarray (atype := .int) (by decide) rfl dX9_init_451 q222) rfl (xcP (xok_putfield (ref := "WaysAtlasModel") (Or.inr (Or.inr ⟨rfl, by decide, rfl⟩)) dX9_init_453 (Or.inl ⟨q1986, (Or.inl rfl)⟩) (Or.inr ⟨rfl, rfl, ⟨q1986, (Or.inl rfl)⟩⟩) xh1093) rfl (xcP (xok_aload_n dX9_init_456 rfl) rfl (xcP (xok_sipush dX9_init_457 rfl) rfl (xcP (xok_newarray (atype := .int) (by decide) rfl dX9_init_460 q222) rfl (xcP (xok_putfield (ref := "WaysAtlasModel") (Or.inr (Or.inr ⟨rfl, by decide, rfl⟩)) dX9_init_462 (Or.inl ⟨q1987, (Or.inl rfl)⟩) (Or.inr ⟨rfl, rfl, ⟨q1987, (Or.inl rfl)⟩⟩) xh1094) rfl (xcP (xok_aload_n dX9_init_465 rfl) rfl (xcP (xok_sipush dX9_init_466 rfl) rfl (xcP (xok_newarray (atype := .int) (by decide) rfl dX9_init_469 q222) rfl (xcP (xok_putfield (ref := "WaysAtlasModel") (Or.inr (Or.inr ⟨rfl, by decide, rfl⟩)) dX9_init_471 (Or.inl ⟨q1988, (Or.inl rfl)⟩) (Or.inr ⟨rfl, rfl, ⟨q1988, (Or.inl rfl)⟩⟩) xh1095) rfl (xcP (xok_aload_n dX9_init_474 rfl) rfl (xcP (xok_sipush dX9_init_475 rfl) rfl (xcP (xok_newarray (atype := .int) (by decide) rfl dX9_init_478 q222) rfl (xcP (xok_putfield (ref := "WaysAtlasModel") (Or.inr (Or.inr ⟨rfl, by decide, rfl⟩)) dX9_init_480 (Or.inl ⟨q1989, (Or.inl rfl)⟩) (Or.inr ⟨rfl, rfl, ⟨q1989, (Or.inl rfl)⟩⟩) xh1096) rfl (xcP (xok_aload_n dX9_init_483 rfl) rfl (xcP (xok_sipush dX9_init_484 rfl) rfl (xcP (xok_newarray (atype := .int) (by decide) rfl dX9_init_487 q222) rfl (xcP (xok_putfield (ref := "WaysAtlasModel") (Or.inr (Or.inr ⟨rfl, by decide, rfl⟩)) dX9_init_489 (Or.inl ⟨q1995, (Or.inl rfl)⟩) (Or.inr ⟨rfl, rfl, ⟨q1995, (Or.inl rfl)⟩⟩) xh1097) rfl (xcP (xok_aload_n dX9_init_492 rfl) rfl (xcP (xok_sipush dX9_init_493 rfl) rfl (xcP (xok_newarray (atype := .int) (by decide) rfl dX9_init_496 q222) rfl (xcP (xok_putfield (ref := "WaysAtlasModel") (Or.inr (Or.inr ⟨rfl, by decide, rfl⟩)) dX9_init_498 (Or.inl ⟨q1996, (Or.inl rfl)⟩) (Or.inr ⟨rfl, rfl, ⟨q1996, (Or.inl rfl)⟩⟩) xh1098) rfl (xcP (xok_aload_n dX9_init_501 rfl) rfl (xcP (xok_sipush dX9_init_502 rfl) rfl (xcP (xok_newarray (atype := .int) (by decide) rfl dX9_init_505 q222) rfl (xcP (xok_putfield (ref := "WaysAtlasModel") (Or.inr (Or.inr ⟨rfl, by decide, rfl⟩)) dX9_init_507 (Or.inl ⟨q1997, (Or.inl rfl)⟩) (Or.inr ⟨rfl, rfl, ⟨q1997, (Or.inl rfl)⟩⟩) xh1099) rfl (xcP (xok_aload_n dX9_init_510 rfl) rfl (xcP (xok_sipush dX9_init_511 rfl) rfl (xcP (xok_newarray (atype := .int) (by decide) rfl dX9_init_514 q222) rfl (xcP (xok_putfield (ref := "WaysAtlasModel") (Or.inr (Or.inr ⟨rfl, by decide, rfl⟩)) dX9_init_516 (Or.inl ⟨q1998, (Or.inl rfl)⟩) (Or.inr ⟨rfl, rfl, ⟨q1998, (Or.inl rfl)⟩⟩) xh1100) rfl (xcP (xok_aload_n dX9_init_519 rfl) rfl (xcP (xok_sipush dX9_init_520 rfl) rfl (xcP (xok_newarray (atype := .int) (by decide) rfl dX9_init_523 q222) rfl (xcP (xok_putfield (ref := "WaysAtlasModel") (Or.inr (Or.inr ⟨rfl, by decide, rfl⟩)) dX9_init_525 (Or.inl ⟨q1999, (Or.inl rfl)⟩) (Or.inr ⟨rfl, rfl, ⟨q1999, (Or.inl rfl)⟩⟩) xh1101) rfl (xcP (xok_aload_n dX9_init_528 rfl) rfl (xcP (xok_sipush dX9_init_529 rfl) rfl (xcP (xok_newarray (atype := .int) (by decide) rfl dX9_init_532 q222) rfl (xcP (xok_putfield (ref := "WaysAtlasModel") (Or.inr (Or.inr ⟨rfl, by decide, rfl⟩)) dX9_init_534 (Or.inl ⟨q2000, (Or.inl rfl)⟩) (Or.inr ⟨rfl, rfl, ⟨q2000, (Or.inl rfl)⟩⟩) xh1102) rfl (xcP (xok_aload_n dX9_init_537 rfl) rfl (xcP (xok_sipush dX9_init_538 rfl) rfl (xcP (xok_newarray (atype := .int) (by decide) rfl dX9_init_541 q222) rfl (xcP (xok_putfield (ref := "WaysAtlasModel") (Or.inr (Or.inr ⟨rfl, by decide, rfl⟩)) dX9_init_543 (Or.inl ⟨q2001, (Or.inl rfl)⟩) (Or.inr ⟨rfl, rfl, ⟨q2001, (Or.inl rfl)⟩⟩) xh1103) rfl (xcP (xok_aload_n dX9_init_546 rfl) rfl (xcP (xok_sipush dX9_init_547 rfl) rfl (xcP (xok_newarray (atype := .int) (by decide) rfl dX9_init_550 q222) rfl (xcP (xok_putfield (ref := "WaysAtlasModel") (Or.inr (Or.inr ⟨rfl, by decide, rfl⟩)) dX9_init_552 (Or.inl ⟨q2002, (Or.inl rfl)⟩) (Or.inr ⟨rfl, rfl, ⟨q2002, (Or.inl rfl)⟩⟩) xh1104) rfl (xcP (xok_aload_n dX9_init_555 rfl) rfl (xcP (xok_bipush dX9_init_556 rfl) rfl (xcP (xok_newarray (atype := .int) (by decide) rfl dX9_init_558 q222) rfl (xcP (xok_putfield (ref := "WaysAtlasModel") (Or.inr (Or.inr ⟨rfl, by decide, rfl⟩)) dX9_init_560 (Or.inl ⟨q2004, (Or.inl rfl)⟩) (Or.inr ⟨rfl, rfl, ⟨q2004, (Or.inl rfl)⟩⟩) xh1105) rfl (xcP (xok_aload_n dX9_init_563 rfl) rfl (xcP (xok_bipush dX9_init_564 rfl) rfl (xcP (xok_newarray (atype := .int) (by decide) rfl dX9_init_566 q222) rfl (xcP (xok_putfield (ref := "WaysAtlasModel") (Or.inr (Or.inr ⟨rfl, by decide, rfl⟩)) dX9_init_568 (Or.inl ⟨q2005, (Or.inl rfl)⟩) (Or.inr ⟨rfl, rfl, ⟨q2005, (Or.inl rfl)⟩⟩) xh1106) rfl (xcP (xok_aload_n dX9_init_571 rfl) rfl (xcP (xok_bipush dX9_init_572 rfl) rfl (xcP (xok_newarray (atype := .int) (by decide) rfl dX9_init_574 q222) rfl (xcP (xok_putfield (ref := "WaysAtlasModel") (Or.inr (Or.inr ⟨rfl, by decide, rfl⟩)) dX9_init_576 (Or.inl ⟨q2006, (Or.inl rfl)⟩) (Or.inr ⟨rfl, rfl, ⟨q2006, (Or.inl rfl)⟩⟩) xh1107) rfl (xcP (xok_aload_n dX9_init_579 rfl) rfl (xcP (xok_bipush dX9_init_580 rfl) rfl (xcP (xok_newarray (atype := .int) (by decide) rfl dX9_init_582 q222) rfl (xcP (xok_putfield (ref := "WaysAtlasModel") (Or.inr (Or.inr ⟨rfl, by decide, rfl⟩)) dX9_init_584 (Or.inl ⟨q2007, (Or.inl rfl)⟩) (Or.inr ⟨rfl, rfl, ⟨q2007, (Or.inl rfl)⟩⟩) xh1108) rfl (xcP (xok_aload_n dX9_init_587 rfl) rfl (xcP (xok_sipush dX9_init_588 rfl) rfl (xcP (xok_newarray (atype := .int) (by decide) rfl dX9_init_591 q222) rfl (xcP (xok_putfield (ref := "WaysAtlasModel") (Or.inr (Or.inr ⟨rfl, by decide, rfl⟩)) dX9_init_593 (Or.inl ⟨q2009, (Or.inl rfl)⟩) (Or.inr ⟨rfl, rfl, ⟨q2009, (Or.inl rfl)⟩⟩) xh1109) rfl (xcP (xok_aload_n dX9_init_596 rfl) rfl (xcP (xok_sipush dX9_init_597 rfl) rfl (xcP (xok_newarray (atype := .int) (by decide) rfl dX9_init_600 q222) rfl (xcP (xok_putfield (ref := "WaysAtlasModel") (Or.inr (Or.inr ⟨rfl, by decide, rfl⟩)) dX9_init_602 (Or.inl ⟨q2010, (Or.inl rfl)⟩) (Or.inr ⟨rfl, rfl, ⟨q2010, (Or.inl rfl)⟩⟩) xh1110) rfl (xcP (xok_aload_n dX9_init_605 rfl) rfl (xcP (xok_sipush dX9_init_606 rfl) rfl (xcP (xok_newarray (atype := .int) (by decide) rfl dX9_init_609 q222) rfl (xcP (xok_putfield (ref := "WaysAtlasModel") (Or.inr (Or.inr ⟨rfl, by decide, rfl⟩)) dX9_init_611 (Or.inl ⟨q2011, (Or.inl rfl)⟩) (Or.inr ⟨rfl, rfl, ⟨q2011, (Or.inl rfl)⟩⟩) xh1111) rfl (xcP (xok_aload_n dX9_init_614 rfl) rfl (xcP (xok_bipush dX9_init_615 rfl) rfl (xcP (xok_newarray (atype := .int) (by decide) rfl dX9_init_617 q222) rfl (xcP (xok_putfield (ref := "WaysAtlasModel") (Or.inr (Or.inr ⟨rfl, by decide, rfl⟩)) dX9_init_619 (Or.inl ⟨q2017, (Or.inl rfl)⟩) (Or.inr ⟨rfl, rfl, ⟨q2017, (Or.inl rfl)⟩⟩) xh1112) rfl (xcP (xok_aload_n dX9_init_622 rfl) rfl (xcP (xok_bipush dX9_init_623 rfl) rfl (xcP (xok_newarray (atype := .int) (by decide) rfl dX9_init_625 q222) rfl (xcP (xok_putfield (ref := "WaysAtlasModel") (Or.inr (Or.inr ⟨rfl, by decide, rfl⟩)) dX9_init_627 (Or.inl ⟨q2018, (Or.inl rfl)⟩) (Or.inr ⟨rfl, rfl, ⟨q2018, (Or.inl rfl)⟩⟩) xh1113) rfl (xcP (xok_aload_n dX9_init_630 rfl) rfl (xcP (xok_bipush dX9_init_631 rfl) rfl (xcP (xok_newarray (atype := .int) (by decide) rfl dX9_init_633 q222) rfl (xcP (xok_putfield (ref := "WaysAtlasModel") (Or.inr (Or.inr ⟨rfl, by decide, rfl⟩)) dX9_init_635 (Or.inl ⟨q2019, (Or.inl rfl)⟩) (Or.inr ⟨rfl, rfl, ⟨q2019, (Or.inl rfl)⟩⟩) xh1114) rfl (xcP (xok_aload_n dX9_init_638 rfl) rfl (xcP (xok_sipush dX9_init_639 rfl) rfl (xcP (xok_newarray (atype := .int) (by decide) rfl dX9_init_642 q222) rfl (xcP (xok_putfield (ref := "WaysAtlasModel") (Or.inr (Or.inr ⟨rfl, by decide, rfl⟩)) dX9_init_644 (Or.inl ⟨q2020, (Or.inl rfl)⟩) (Or.inr ⟨rfl, rfl, ⟨q2020, (Or.inl rfl)⟩⟩) xh1115) rfl (xcP (xok_aload_n dX9_init_647 rfl) rfl (xcP (xok_sipush dX9_init_648 rfl) rfl (xcP (xok_newarray (atype := .int) (by decide) rfl dX9_init_651 q222) rfl (xcP (xok_putfield (ref := "WaysAtlasModel") (Or.inr (Or.inr ⟨rfl, by decide, rfl⟩)) dX9_init_653 (Or.inl ⟨q2023, (Or.inl rfl)⟩) (Or.inr ⟨rfl, rfl, ⟨q2023, (Or.inl rfl)⟩⟩) xh1116) rfl (xcP (xok_aload_n dX9_init_656 rfl) rfl (xcP (xok_iconst dX9_init_657 rfl) rfl (xcP (xok_putfield (ref := "WaysAtlasModel") (Or.inl ⟨rfl, by decide, rfl⟩) dX9_init_658 (Or.inl ⟨q1937, (Or.inl rfl)⟩) (Or.inl rfl) xh44) rfl (xcR ⟨dX9_init_661, rfl⟩)))))))))))))))))))))))))))))))))))))))))))))))))))))))))))))))))))))))))))))))))))))))))))))))))))))))))))))))))))))))))))))))))))))))))))))))))))))))))))))))))))))))))))))))))))))))))))))))))))))))))))))))))))))))))))))))))))))))))))))))))))))))))))))))))))))))))))))))))))))))))))))))))))))))))))))))))))))))))))))))))))))))))
theorem okM_X9_init : XOkM xms rX9_init := xokM0 (List.forall_mem_cons.mpr ⟨⟨rfl, okX9_init_0⟩, fun _ h => nomatch h⟩) (xokH0 rfl (fun _ _ => rfl)) (by decide +kernel) (by decide)
abbrev cX9_say : ByteArray := prog_36_method_4_code
def dkwX9_say_3 : List UInt8 := [180, 0, 243, 172]
abbrev dktX9_say_3 : List UInt8 := dkwX9_say_3 ++ []
def dkwX9_say_2 : List UInt8 := [21, 4, 104, 123, 136, 145, 84, 42, 89, 180, 0, 243, 4, 96, 181, 0, 243, 132, 4, 255, 167, 255, 220, 42]
abbrev dktX9_say_2 : List UInt8 := dkwX9_say_2 ++ dktX9_say_3
def dkwX9_say_1 : List UInt8 := [16, 254, 172, 29, 4, 100, 54, 4, 21, 4, 155, 0, 37, 42, 180, 0, 55, 42, 180, 0, 243, 31, 16, 8]
abbrev dktX9_say_1 : List UInt8 := dkwX9_say_1 ++ dktX9_say_2
def dkwX9_say_0 : List UInt8 := [29, 4, 16, 8, 184, 0, 239, 154, 0, 5, 2, 172, 42, 180, 0, 243, 29, 96, 17, 3, 232, 164, 0, 6]
abbrev dktX9_say_0 : List UInt8 := dkwX9_say_0 ++ dktX9_say_1
theorem dksX9_say_0 : cX9_say.data.toList.drop 0 = dktX9_say_0 := by decide +kernel
theorem dksX9_say_1 : cX9_say.data.toList.drop 24 = dktX9_say_1 := dk_seg dksX9_say_0 24 rfl rfl
theorem dksX9_say_2 : cX9_say.data.toList.drop 48 = dktX9_say_2 := dk_seg dksX9_say_1 24 rfl rfl
theorem dksX9_say_3 : cX9_say.data.toList.drop 72 = dktX9_say_3 := dk_seg dksX9_say_2 24 rfl rfl
theorem dX9_say_0 : decode cX9_say 0 = .ok (.iload_n 3, 1) := dk_29 (dk_at dksX9_say_0 0 rfl rfl)
theorem dX9_say_1 : decode cX9_say 1 = .ok (.iconst 1, 1) := dk_4 (dk_at dksX9_say_0 1 rfl rfl)
theorem dX9_say_2 : decode cX9_say 2 = .ok (.bipush 8, 2) := dk_16 8 (dk_at dksX9_say_0 2 rfl rfl)
theorem dX9_say_4 : decode cX9_say 4 = .ok (.invokestatic 239, 3) := dk_184 0 239 (dk_at dksX9_say_0 4 rfl rfl)
theorem dX9_say_7 : decode cX9_say 7 = .ok (.ifCond .ne 5, 3) := dk_154 0 5 (dk_at dksX9_say_0 7 rfl rfl)
theorem dX9_say_10 : decode cX9_say 10 = .ok (.iconst (-1), 1) := dk_2 (dk_at dksX9_say_0 10 rfl rfl)
theorem dX9_say_11 : decode cX9_say 11 = .ok (.ireturn, 1) := dk_172 (dk_at dksX9_say_0 11 rfl rfl)
theorem dX9_say_12 : decode cX9_say 12 = .ok (.aload_n 0, 1) := dk_42 (dk_at dksX9_say_0 12 rfl rfl)
theorem dX9_say_13 : decode cX9_say 13 = .ok (.getfield 243, 3) := dk_180 0 243 (dk_at dksX9_say_0 13 rfl rfl)
theorem dX9_say_16 : decode cX9_say 16 = .ok (.iload_n 3, 1) := dk_29 (dk_at dksX9_say_0 16 rfl rfl)
theorem dX9_say_17 : decode cX9_say 17 = .ok (.iadd, 1) := dk_96 (dk_at dksX9_say_0 17 rfl rfl)
theorem dX9_say_18 : decode cX9_say 18 = .ok (.sipush 1000, 3) := dk_17 3 232 (dk_at dksX9_say_0 18 rfl rfl)
theorem dX9_say_21 : decode cX9_say 21 = .ok (.if_icmp .le 6, 3) := dk_164 0 6 (dk_at dksX9_say_0 21 rfl rfl)
theorem dX9_say_24 : decode cX9_say 24 = .ok (.bipush (-2), 2) := dk_16 254 (dk_at dksX9_say_1 0 rfl rfl)
theorem dX9_say_26 : decode cX9_say 26 = .ok (.ireturn, 1) := dk_172 (dk_at dksX9_say_1 2 rfl rfl)
theorem dX9_say_27 : decode cX9_say 27 = .ok (.iload_n 3, 1) := dk_29 (dk_at dksX9_say_1 3 rfl rfl)
theorem dX9_say_28 : decode cX9_say 28 = .ok (.iconst 1, 1) := dk_4 (dk_at dksX9_say_1 4 rfl rfl)
theorem dX9_say_29 : decode cX9_say 29 = .ok (.isub, 1) := dk_100 (dk_at dksX9_say_1 5 rfl rfl)
theorem dX9_say_30 : decode cX9_say 30 = .ok (.istore 4, 2) := dk_54 4 (dk_at dksX9_say_1 6 rfl rfl)
theorem dX9_say_32 : decode cX9_say 32 = .ok (.iload 4, 2) := dk_21 4 (dk_at dksX9_say_1 8 rfl rfl)
theorem dX9_say_34 : decode cX9_say 34 = .ok (.ifCond .lt 37, 3) := dk_155 0 37 (dk_at dksX9_say_1 10 rfl rfl)
theorem dX9_say_37 : decode cX9_say 37 = .ok (.aload_n 0, 1) := dk_42 (dk_at dksX9_say_1 13 rfl rfl)
theorem dX9_say_38 : decode cX9_say 38 = .ok (.getfield 55, 3) := dk_180 0 55 (dk_at dksX9_say_1 14 rfl rfl)
theorem dX9_say_41 : decode cX9_say 41 = .ok (.aload_n 0, 1) := dk_42 (dk_at dksX9_say_1 17 rfl rfl)
theorem dX9_say_42 : decode cX9_say 42 = .ok (.getfield 243, 3) := dk_180 0 243 (dk_at dksX9_say_1 18 rfl rfl)
theorem dX9_say_45 : decode cX9_say 45 = .ok (.lload_n 1, 1) := dk_31 (dk_at dksX9_say_1 21 rfl rfl)
theorem dX9_say_46 : decode cX9_say 46 = .ok (.bipush 8, 2) := dk_16 8 (dk_at dksX9_say_1 22 rfl rfl)
theorem dX9_say_48 : decode cX9_say 48 = .ok (.iload 4, 2) := dk_21 4 (dk_at dksX9_say_2 0 rfl rfl)
theorem dX9_say_50 : decode cX9_say 50 = .ok (.imul, 1) := dk_104 (dk_at dksX9_say_2 2 rfl rfl)
theorem dX9_say_51 : decode cX9_say 51 = .ok (.lshr, 1) := dk_123 (dk_at dksX9_say_2 3 rfl rfl)
theorem dX9_say_52 : decode cX9_say 52 = .ok (.l2i, 1) := dk_136 (dk_at dksX9_say_2 4 rfl rfl)
theorem dX9_say_53 : decode cX9_say 53 = .ok (.i2b, 1) := dk_145 (dk_at dksX9_say_2 5 rfl rfl)
theorem dX9_say_54 : decode cX9_say 54 = .ok (.bastore, 1) := dk_84 (dk_at dksX9_say_2 6 rfl rfl)
theorem dX9_say_55 : decode cX9_say 55 = .ok (.aload_n 0, 1) := dk_42 (dk_at dksX9_say_2 7 rfl rfl)
theorem dX9_say_56 : decode cX9_say 56 = .ok (.dup, 1) := dk_89 (dk_at dksX9_say_2 8 rfl rfl)
theorem dX9_say_57 : decode cX9_say 57 = .ok (.getfield 243, 3) := dk_180 0 243 (dk_at dksX9_say_2 9 rfl rfl)
theorem dX9_say_60 : decode cX9_say 60 = .ok (.iconst 1, 1) := dk_4 (dk_at dksX9_say_2 12 rfl rfl)
theorem dX9_say_61 : decode cX9_say 61 = .ok (.iadd, 1) := dk_96 (dk_at dksX9_say_2 13 rfl rfl)
theorem dX9_say_62 : decode cX9_say 62 = .ok (.putfield 243, 3) := dk_181 0 243 (dk_at dksX9_say_2 14 rfl rfl)
theorem dX9_say_65 : decode cX9_say 65 = .ok (.iinc 4 (-1), 3) := dk_132 4 255 (dk_at dksX9_say_2 17 rfl rfl)
theorem dX9_say_68 : decode cX9_say 68 = .ok (.goto (-36), 3) := dk_167 255 220 (dk_at dksX9_say_2 20 rfl rfl)
theorem dX9_say_71 : decode cX9_say 71 = .ok (.aload_n 0, 1) := dk_42 (dk_at dksX9_say_2 23 rfl rfl)
theorem dX9_say_72 : decode cX9_say 72 = .ok (.getfield 243, 3) := dk_180 0 243 (dk_at dksX9_say_3 0 rfl rfl)
theorem dX9_say_75 : decode cX9_say 75 = .ok (.ireturn, 1) := dk_172 (dk_at dksX9_say_3 3 rfl rfl)
theorem okX9_say_0 : XOkL xms rX9_say bX9_say_0 := xcP (xok_iload_n dX9_say_0 rfl) rfl (xcP (xok_iconst dX9_say_1 rfl) rfl (xcP (xok_bipush dX9_say_2 rfl) rfl (xcC0 (xokc_S xm99 rfl dX9_say_4 q2224 q2225 q149 q2226 (by decide +kernel)) rfl (xcP (xok_ifne dX9_say_7 (by decide)) rfl (xcP (xok_iconst dX9_say_10 rfl) rfl (xcR ⟨dX9_say_11, rfl⟩))))))
theorem okX9_say_12 : XOkL xms rX9_say bX9_say_12 := xcP (xok_aload_n dX9_say_12 rfl) rfl (xcP (xok_getfield (ref := "WaysAtlasModel") (Or.inl ⟨rfl, by decide⟩) dX9_say_13 (Or.inl ⟨q1931, (Or.inl rfl)⟩) xh38) rfl (xcP (xok_iload_n dX9_say_16 rfl) rfl (xcP (xok_iadd dX9_say_17) rfl (xcP (xok_sipush dX9_say_18 rfl) rfl (xcP (xok_icmple dX9_say_21 (by decide)) rfl (xcP (xok_bipush dX9_say_24 rfl) rfl (xcR ⟨dX9_say_26, rfl⟩)))))))
theorem okX9_say_27 : XOkL xms rX9_say bX9_say_27 := xcP (xok_iload_n dX9_say_27 rfl) rfl (xcP (xok_iconst dX9_say_28 rfl) rfl (xcP (xok_isub dX9_say_29) rfl (xcP (xok_istore dX9_say_30) rfl (xcP xok_fal rfl trivial))))
theorem okX9_say_32 : XOkL xms rX9_say bX9_say_32 := xcP (xok_iload dX9_say_32) rfl (xcP (xok_iflt dX9_say_34 (by decide)) rfl (xcP (xok_aload_n dX9_say_37 rfl) rfl (xcP (xok_getfield (ref := "WaysAtlasModel") (Or.inr ⟨rfl, by decide⟩) dX9_say_38 (Or.inl ⟨q1930, (Or.inl rfl)⟩) xh1058) rfl (xcP (xok_aload_n dX9_say_41 rfl) rfl (xcP (xok_getfield (ref := "WaysAtlasModel") (Or.inl ⟨rfl, by decide⟩) dX9_say_42 (Or.inl ⟨q1931, (Or.inl rfl)⟩) xh38) rfl (xcP (xok_lload_n dX9_say_45 rfl) rfl (xcP (xok_bipush dX9_say_46 rfl) rfl (xcP (xok_iload dX9_say_48) rfl (xcP (xok_imul dX9_say_50) rfl (xcP (xok_lshr dX9_say_51) rfl (xcP (xok_l2i dX9_say_52) rfl (xcP (xok_i2b dX9_say_53) rfl (xcP (xok_bastore dX9_say_54) rfl (xcP (xok_aload_n dX9_say_55 rfl) rfl (xcP (xok_dup dX9_say_56) rfl (xcP (xok_getfield (ref := "WaysAtlasModel") (Or.inl ⟨rfl, by decide⟩) dX9_say_57 (Or.inl ⟨q1931, (Or.inl rfl)⟩) xh38) rfl (xcP (xok_iconst dX9_say_60 rfl) rfl (xcP (xok_iadd dX9_say_61) rfl (xcP (xok_putfield (ref := "WaysAtlasModel") (Or.inl ⟨rfl, by decide, rfl⟩) dX9_say_62 (Or.inl ⟨q1931, (Or.inl rfl)⟩) (Or.inl rfl) xh38) rfl (xcP (xok_iinc dX9_say_65 rfl) rfl (xcP (xok_goto dX9_say_68 (by decide)) rfl trivial)))))))))))))))))))))
theorem okX9_say_71 : XOkL xms rX9_say bX9_say_71 := xcP (xok_aload_n dX9_say_71 rfl) rfl (xcP (xok_getfield (ref := "WaysAtlasModel") (Or.inl ⟨rfl, by decide⟩) dX9_say_72 (Or.inl ⟨q1931, (Or.inl rfl)⟩) xh38) rfl (xcR ⟨dX9_say_75, rfl⟩))
theorem okM_X9_say : XOkM xms rX9_say := xokM0 (List.forall_mem_cons.mpr ⟨⟨rfl, okX9_say_0⟩, List.forall_mem_cons.mpr ⟨⟨rfl, okX9_say_12⟩, List.forall_mem_cons.mpr ⟨⟨rfl, okX9_say_27⟩, List.forall_mem_cons.mpr ⟨⟨rfl, okX9_say_32⟩, List.forall_mem_cons.mpr ⟨⟨rfl, okX9_say_71⟩, fun _ h => nomatch h⟩⟩⟩⟩⟩) (xokH0 rfl (fun _ _ => rfl)) (by decide +kernel) (by decide)
abbrev cX9_in : ByteArray := prog_36_method_3_code
def dkwX9_in_0 : List UInt8 := [26, 27, 161, 0, 12, 26, 28, 163, 0, 7, 4, 167, 0, 4, 3, 172]
abbrev dktX9_in_0 : List UInt8 := dkwX9_in_0 ++ []
theorem dksX9_in_0 : cX9_in.data.toList.drop 0 = dktX9_in_0 := by decide +kernel
theorem dX9_in_0 : decode cX9_in 0 = .ok (.iload_n 0, 1) := dk_26 (dk_at dksX9_in_0 0 rfl rfl)
theorem dX9_in_1 : decode cX9_in 1 = .ok (.iload_n 1, 1) := dk_27 (dk_at dksX9_in_0 1 rfl rfl)
theorem dX9_in_2 : decode cX9_in 2 = .ok (.if_icmp .lt 12, 3) := dk_161 0 12 (dk_at dksX9_in_0 2 rfl rfl)
theorem dX9_in_5 : decode cX9_in 5 = .ok (.iload_n 0, 1) := dk_26 (dk_at dksX9_in_0 5 rfl rfl)
theorem dX9_in_6 : decode cX9_in 6 = .ok (.iload_n 2, 1) := dk_28 (dk_at dksX9_in_0 6 rfl rfl)
theorem dX9_in_7 : decode cX9_in 7 = .ok (.if_icmp .gt 7, 3) := dk_163 0 7 (dk_at dksX9_in_0 7 rfl rfl)
theorem dX9_in_10 : decode cX9_in 10 = .ok (.iconst 1, 1) := dk_4 (dk_at dksX9_in_0 10 rfl rfl)
theorem dX9_in_11 : decode cX9_in 11 = .ok (.goto 4, 3) := dk_167 0 4 (dk_at dksX9_in_0 11 rfl rfl)
theorem dX9_in_14 : decode cX9_in 14 = .ok (.iconst 0, 1) := dk_3 (dk_at dksX9_in_0 14 rfl rfl)
theorem dX9_in_15 : decode cX9_in 15 = .ok (.ireturn, 1) := dk_172 (dk_at dksX9_in_0 15 rfl rfl)
theorem okX9_in_0 : XOkL xms rX9_in bX9_in_0 := xcP (xok_iload_n dX9_in_0 rfl) rfl (xcP (xok_iload_n dX9_in_1 rfl) rfl (xcP (xok_icmplt dX9_in_2 (by decide)) rfl (xcP (xok_iload_n dX9_in_5 rfl) rfl (xcP (xok_iload_n dX9_in_6 rfl) rfl (xcP (xok_icmpgt dX9_in_7 (by decide)) rfl (xcP (xok_iconst dX9_in_10 rfl) rfl (xcP (xok_goto dX9_in_11 (by decide)) rfl trivial)))))))
theorem okX9_in_14 : XOkL xms rX9_in bX9_in_14 := xcP (xok_iconst dX9_in_14 rfl) rfl (xcP xok_fal rfl trivial)
theorem okX9_in_15 : XOkL xms rX9_in bX9_in_15 := xcR ⟨dX9_in_15, rfl⟩
theorem okM_X9_in : XOkM xms rX9_in := xokM0 (List.forall_mem_cons.mpr ⟨⟨rfl, okX9_in_0⟩, List.forall_mem_cons.mpr ⟨⟨rfl, okX9_in_14⟩, List.forall_mem_cons.mpr ⟨⟨rfl, okX9_in_15⟩, fun _ h => nomatch h⟩⟩⟩) (xokH0 rfl (fun _ _ => rfl)) (by decide +kernel) (by decide)
abbrev cX9_compile : ByteArray := prog_36_method_53_code
def dkwX9_compile_3 : List UInt8 := [180, 0, 138, 4, 3, 84, 42, 180, 0, 63, 42, 180, 0, 235, 46, 172]
abbrev dktX9_compile_3 : List UInt8 := dkwX9_compile_3 ++ []
def dkwX9_compile_2 : List UInt8 := [180, 1, 32, 181, 0, 235, 42, 4, 181, 1, 194, 42, 3, 181, 1, 197, 42, 180, 0, 138, 3, 3, 84, 42]
abbrev dktX9_compile_2 : List UInt8 := dkwX9_compile_2 ++ dktX9_compile_3
def dkwX9_compile_1 : List UInt8 := [42, 180, 1, 35, 181, 1, 191, 42, 180, 1, 35, 153, 0, 11, 16, 156, 42, 180, 1, 38, 100, 172, 42, 42]
abbrev dktX9_compile_1 : List UInt8 := dkwX9_compile_1 ++ dktX9_compile_2
def dkwX9_compile_0 : List UInt8 := [42, 4, 42, 180, 0, 235, 100, 181, 1, 32, 42, 182, 1, 185, 42, 182, 1, 188, 42, 3, 181, 0, 243, 42]
abbrev dktX9_compile_0 : List UInt8 := dkwX9_compile_0 ++ dktX9_compile_1
theorem dksX9_compile_0 : cX9_compile.data.toList.drop 0 = dktX9_compile_0 := by decide +kernel
theorem dksX9_compile_1 : cX9_compile.data.toList.drop 24 = dktX9_compile_1 := dk_seg dksX9_compile_0 24 rfl rfl
theorem dksX9_compile_2 : cX9_compile.data.toList.drop 48 = dktX9_compile_2 := dk_seg dksX9_compile_1 24 rfl rfl
theorem dksX9_compile_3 : cX9_compile.data.toList.drop 72 = dktX9_compile_3 := dk_seg dksX9_compile_2 24 rfl rfl
theorem dX9_compile_0 : decode cX9_compile 0 = .ok (.aload_n 0, 1) := dk_42 (dk_at dksX9_compile_0 0 rfl rfl)
theorem dX9_compile_1 : decode cX9_compile 1 = .ok (.iconst 1, 1) := dk_4 (dk_at dksX9_compile_0 1 rfl rfl)
theorem dX9_compile_2 : decode cX9_compile 2 = .ok (.aload_n 0, 1) := dk_42 (dk_at dksX9_compile_0 2 rfl rfl)
theorem dX9_compile_3 : decode cX9_compile 3 = .ok (.getfield 235, 3) := dk_180 0 235 (dk_at dksX9_compile_0 3 rfl rfl)
theorem dX9_compile_6 : decode cX9_compile 6 = .ok (.isub, 1) := dk_100 (dk_at dksX9_compile_0 6 rfl rfl)
theorem dX9_compile_7 : decode cX9_compile 7 = .ok (.putfield 288, 3) := dk_181 1 32 (dk_at dksX9_compile_0 7 rfl rfl)
theorem dX9_compile_10 : decode cX9_compile 10 = .ok (.aload_n 0, 1) := dk_42 (dk_at dksX9_compile_0 10 rfl rfl)
theorem dX9_compile_11 : decode cX9_compile 11 = .ok (.invokevirtual 441, 3) := dk_182 1 185 (dk_at dksX9_compile_0 11 rfl rfl)
theorem dX9_compile_14 : decode cX9_compile 14 = .ok (.aload_n 0, 1) := dk_42 (dk_at dksX9_compile_0 14 rfl rfl)
theorem dX9_compile_15 : decode cX9_compile 15 = .ok (.invokevirtual 444, 3) := dk_182 1 188 (dk_at dksX9_compile_0 15 rfl rfl)
theorem dX9_compile_18 : decode cX9_compile 18 = .ok (.aload_n 0, 1) := dk_42 (dk_at dksX9_compile_0 18 rfl rfl)
theorem dX9_compile_19 : decode cX9_compile 19 = .ok (.iconst 0, 1) := dk_3 (dk_at dksX9_compile_0 19 rfl rfl)
theorem dX9_compile_20 : decode cX9_compile 20 = .ok (.putfield 243, 3) := dk_181 0 243 (dk_at dksX9_compile_0 20 rfl rfl)
theorem dX9_compile_23 : decode cX9_compile 23 = .ok (.aload_n 0, 1) := dk_42 (dk_at dksX9_compile_0 23 rfl rfl)
theorem dX9_compile_24 : decode cX9_compile 24 = .ok (.aload_n 0, 1) := dk_42 (dk_at dksX9_compile_1 0 rfl rfl)
theorem dX9_compile_25 : decode cX9_compile 25 = .ok (.getfield 291, 3) := dk_180 1 35 (dk_at dksX9_compile_1 1 rfl rfl)
theorem dX9_compile_28 : decode cX9_compile 28 = .ok (.putfield 447, 3) := dk_181 1 191 (dk_at dksX9_compile_1 4 rfl rfl)
theorem dX9_compile_31 : decode cX9_compile 31 = .ok (.aload_n 0, 1) := dk_42 (dk_at dksX9_compile_1 7 rfl rfl)
theorem dX9_compile_32 : decode cX9_compile 32 = .ok (.getfield 291, 3) := dk_180 1 35 (dk_at dksX9_compile_1 8 rfl rfl)
theorem dX9_compile_35 : decode cX9_compile 35 = .ok (.ifCond .eq 11, 3) := dk_153 0 11 (dk_at dksX9_compile_1 11 rfl rfl)
theorem dX9_compile_38 : decode cX9_compile 38 = .ok (.bipush (-100), 2) := dk_16 156 (dk_at dksX9_compile_1 14 rfl rfl)
theorem dX9_compile_40 : decode cX9_compile 40 = .ok (.aload_n 0, 1) := dk_42 (dk_at dksX9_compile_1 16 rfl rfl)
theorem dX9_compile_41 : decode cX9_compile 41 = .ok (.getfield 294, 3) := dk_180 1 38 (dk_at dksX9_compile_1 17 rfl rfl)
theorem dX9_compile_44 : decode cX9_compile 44 = .ok (.isub, 1) := dk_100 (dk_at dksX9_compile_1 20 rfl rfl)
theorem dX9_compile_45 : decode cX9_compile 45 = .ok (.ireturn, 1) := dk_172 (dk_at dksX9_compile_1 21 rfl rfl)
theorem dX9_compile_46 : decode cX9_compile 46 = .ok (.aload_n 0, 1) := dk_42 (dk_at dksX9_compile_1 22 rfl rfl)
theorem dX9_compile_47 : decode cX9_compile 47 = .ok (.aload_n 0, 1) := dk_42 (dk_at dksX9_compile_1 23 rfl rfl)
theorem dX9_compile_48 : decode cX9_compile 48 = .ok (.getfield 288, 3) := dk_180 1 32 (dk_at dksX9_compile_2 0 rfl rfl)
theorem dX9_compile_51 : decode cX9_compile 51 = .ok (.putfield 235, 3) := dk_181 0 235 (dk_at dksX9_compile_2 3 rfl rfl)
theorem dX9_compile_54 : decode cX9_compile 54 = .ok (.aload_n 0, 1) := dk_42 (dk_at dksX9_compile_2 6 rfl rfl)
theorem dX9_compile_55 : decode cX9_compile 55 = .ok (.iconst 1, 1) := dk_4 (dk_at dksX9_compile_2 7 rfl rfl)
theorem dX9_compile_56 : decode cX9_compile 56 = .ok (.putfield 450, 3) := dk_181 1 194 (dk_at dksX9_compile_2 8 rfl rfl)
theorem dX9_compile_59 : decode cX9_compile 59 = .ok (.aload_n 0, 1) := dk_42 (dk_at dksX9_compile_2 11 rfl rfl)
theorem dX9_compile_60 : decode cX9_compile 60 = .ok (.iconst 0, 1) := dk_3 (dk_at dksX9_compile_2 12 rfl rfl)
theorem dX9_compile_61 : decode cX9_compile 61 = .ok (.putfield 453, 3) := dk_181 1 197 (dk_at dksX9_compile_2 13 rfl rfl)
theorem dX9_compile_64 : decode cX9_compile 64 = .ok (.aload_n 0, 1) := dk_42 (dk_at dksX9_compile_2 16 rfl rfl)
theorem dX9_compile_65 : decode cX9_compile 65 = .ok (.getfield 138, 3) := dk_180 0 138 (dk_at dksX9_compile_2 17 rfl rfl)
theorem dX9_compile_68 : decode cX9_compile 68 = .ok (.iconst 0, 1) := dk_3 (dk_at dksX9_compile_2 20 rfl rfl)
theorem dX9_compile_69 : decode cX9_compile 69 = .ok (.iconst 0, 1) := dk_3 (dk_at dksX9_compile_2 21 rfl rfl)
theorem dX9_compile_70 : decode cX9_compile 70 = .ok (.bastore, 1) := dk_84 (dk_at dksX9_compile_2 22 rfl rfl)
theorem dX9_compile_71 : decode cX9_compile 71 = .ok (.aload_n 0, 1) := dk_42 (dk_at dksX9_compile_2 23 rfl rfl)
theorem dX9_compile_72 : decode cX9_compile 72 = .ok (.getfield 138, 3) := dk_180 0 138 (dk_at dksX9_compile_3 0 rfl rfl)
theorem dX9_compile_75 : decode cX9_compile 75 = .ok (.iconst 1, 1) := dk_4 (dk_at dksX9_compile_3 3 rfl rfl)
theorem dX9_compile_76 : decode cX9_compile 76 = .ok (.iconst 0, 1) := dk_3 (dk_at dksX9_compile_3 4 rfl rfl)
theorem dX9_compile_77 : decode cX9_compile 77 = .ok (.bastore, 1) := dk_84 (dk_at dksX9_compile_3 5 rfl rfl)
theorem dX9_compile_78 : decode cX9_compile 78 = .ok (.aload_n 0, 1) := dk_42 (dk_at dksX9_compile_3 6 rfl rfl)
theorem dX9_compile_79 : decode cX9_compile 79 = .ok (.getfield 63, 3) := dk_180 0 63 (dk_at dksX9_compile_3 7 rfl rfl)
theorem dX9_compile_82 : decode cX9_compile 82 = .ok (.aload_n 0, 1) := dk_42 (dk_at dksX9_compile_3 10 rfl rfl)
theorem dX9_compile_83 : decode cX9_compile 83 = .ok (.getfield 235, 3) := dk_180 0 235 (dk_at dksX9_compile_3 11 rfl rfl)
theorem dX9_compile_86 : decode cX9_compile 86 = .ok (.iaload, 1) := dk_46 (dk_at dksX9_compile_3 14 rfl rfl)
theorem dX9_compile_87 : decode cX9_compile 87 = .ok (.ireturn, 1) := dk_172 (dk_at dksX9_compile_3 15 rfl rfl)
theorem okX9_compile_0 : XOkL xms rX9_compile bX9_compile_0 := xcP (xok_aload_n dX9_compile_0 rfl) rfl (xcP (xok_iconst dX9_compile_1 rfl) rfl (xcP (xok_aload_n dX9_compile_2 rfl) rfl (xcP (xok_getfield (ref := "WaysAtlasModel") (Or.inl ⟨rfl, by decide⟩) dX9_compile_3 (Or.inl ⟨q1937, (Or.inl rfl)⟩) xh44) rfl (xcP (xok_isub dX9_compile_6) rfl (xcP (xok_putfield (ref := "WaysAtlasModel") (Or.inl ⟨rfl, by decide, rfl⟩) dX9_compile_7 (Or.inl ⟨q1938, (Or.inl rfl)⟩) (Or.inl rfl) xh45) rfl (xcP (xok_aload_n dX9_compile_10 rfl) rfl (xcC0 (xokc_list (List.forall_mem_cons.mpr ⟨xokc_V (r := (RX9, TX9, 96)) xm101 (List.mem_of_getElem? (i := 9) rfl) (by decide) rfl dX9_compile_11 q2231 q2233 qs52 q149 q2234 (by decide +kernel), fun _ h => nomatch h⟩)) rfl (xcP (xok_aload_n dX9_compile_14 rfl) rfl (xcC0 (xokc_list (List.forall_mem_cons.mpr ⟨xokc_V (r := (RX9, TX9, 96)) xm147 (List.mem_of_getElem? (i := 9) rfl) (by decide) rfl dX9_compile_15 q2417 q2419 qs97 q149 q2420 (by decide +kernel), fun _ h => nomatch h⟩)) rfl (xcP (xok_aload_n dX9_compile_18 rfl) rfl (xcP (xok_iconst dX9_compile_19 rfl) rfl (xcP (xok_putfield (ref := "WaysAtlasModel") (Or.inl ⟨rfl, by decide, rfl⟩) dX9_compile_20 (Or.inl ⟨q1931, (Or.inl rfl)⟩) (Or.inl rfl) xh38) rfl (xcP (xok_aload_n dX9_compile_23 rfl) rfl (xcP (xok_aload_n dX9_compile_24 rfl) rfl (xcP (xok_getfield (ref := "WaysAtlasModel") (Or.inl ⟨rfl, by decide⟩) dX9_compile_25 (Or.inl ⟨q1955, (Or.inl rfl)⟩) xh49) rfl (xcP (xok_putfield (ref := "WaysAtlasModel") (Or.inl ⟨rfl, by decide, rfl⟩) dX9_compile_28 (Or.inl ⟨q1957, (Or.inl rfl)⟩) (Or.inl rfl) xh51) rfl (xcP (xok_aload_n dX9_compile_31 rfl) rfl (xcP (xok_getfield (ref := "WaysAtlasModel") (Or.inl ⟨rfl, by decide⟩) dX9_compile_32 (Or.inl ⟨q1955, (Or.inl rfl)⟩) xh49) rfl (xcP (xok_ifeq dX9_compile_35 (by decide)) rfl (xcP (xok_bipush dX9_compile_38 rfl) rfl (xcP (xok_aload_n dX9_compile_40 rfl) rfl (xcP (xok_getfield (ref := "WaysAtlasModel") (Or.inl ⟨rfl, by decide⟩) dX9_compile_41 (Or.inl ⟨q1956, (Or.inl rfl)⟩) xh50) rfl (xcP (xok_isub dX9_compile_44) rfl (xcR ⟨dX9_compile_45, rfl⟩))))))))))))))))))))))))
theorem okX9_compile_46 : XOkL xms rX9_compile bX9_compile_46 := xcP (xok_aload_n dX9_compile_46 rfl) rfl (xcP (xok_aload_n dX9_compile_47 rfl) rfl (xcP (xok_getfield (ref := "WaysAtlasModel") (Or.inl ⟨rfl, by decide⟩) dX9_compile_48 (Or.inl ⟨q1938, (Or.inl rfl)⟩) xh45) rfl (xcP (xok_putfield (ref := "WaysAtlasModel") (Or.inl ⟨rfl, by decide, rfl⟩) dX9_compile_51 (Or.inl ⟨q1937, (Or.inl rfl)⟩) (Or.inl rfl) xh44) rfl (xcP (xok_aload_n dX9_compile_54 rfl) rfl (xcP (xok_iconst dX9_compile_55 rfl) rfl (xcP (xok_putfield (ref := "WaysAtlasModel") (Or.inr (Or.inl ⟨rfl, by decide, rfl⟩)) dX9_compile_56 (Or.inl ⟨q1939, (Or.inl rfl)⟩) (Or.inl rfl) xh46) rfl (xcP (xok_aload_n dX9_compile_59 rfl) rfl (xcP (xok_iconst dX9_compile_60 rfl) rfl (xcP (xok_putfield (ref := "WaysAtlasModel") (Or.inl ⟨rfl, by decide, rfl⟩) dX9_compile_61 (Or.inl ⟨q1972, (Or.inl rfl)⟩) (Or.inl rfl) xh57) rfl (xcP (xok_aload_n dX9_compile_64 rfl) rfl (xcP (xok_getfield (ref := "WaysAtlasModel") (Or.inr ⟨rfl, by decide⟩) dX9_compile_65 (Or.inl ⟨q1977, (Or.inl rfl)⟩) xh1085) rfl (xcP (xok_iconst dX9_compile_68 rfl) rfl (xcP (xok_iconst dX9_compile_69 rfl) rfl (xcP (xok_zastore dX9_compile_70) rfl (xcP (xok_aload_n dX9_compile_71 rfl) rfl (xcP (xok_getfield (ref := "WaysAtlasModel") (Or.inr ⟨rfl, by decide⟩) dX9_compile_72 (Or.inl ⟨q1977, (Or.inl rfl)⟩) xh1085) rfl (xcP (xok_iconst dX9_compile_75 rfl) rfl (xcP (xok_iconst dX9_compile_76 rfl) rfl (xcP (xok_zastore dX9_compile_77) rfl (xcP (xok_aload_n dX9_compile_78 rfl) rfl (xcP (xok_getfield (ref := "WaysAtlasModel") (Or.inr ⟨rfl, by decide⟩) dX9_compile_79 (Or.inl ⟨q1941, (Or.inl rfl)⟩) xh1060) rfl (xcP (xok_aload_n dX9_compile_82 rfl) rfl (xcP (xok_getfield (ref := "WaysAtlasModel") (Or.inl ⟨rfl, by decide⟩) dX9_compile_83 (Or.inl ⟨q1937, (Or.inl rfl)⟩) xh44) rfl (xcP (xok_iaload dX9_compile_86) rfl (xcR ⟨dX9_compile_87, rfl⟩)))))))))))))))))))))))))
theorem okM_X9_compile : XOkM xms rX9_compile := xokM0 (List.forall_mem_cons.mpr ⟨⟨rfl, okX9_compile_0⟩, List.forall_mem_cons.mpr ⟨⟨rfl, okX9_compile_46⟩, fun _ h => nomatch h⟩⟩) (xokH0 rfl (fun _ _ => rfl)) (by decide +kernel) (by decide)
abbrev cX9_reads : ByteArray := prog_36_method_51_code
def dkwX9_reads_8 : List UInt8 := [167, 255, 196, 42, 182, 1, 182, 167, 255, 189, 177]
abbrev dktX9_reads_8 : List UInt8 := dkwX9_reads_8 ++ []
def dkwX9_reads_7 : List UInt8 := [154, 0, 10, 42, 182, 1, 176, 167, 255, 212, 42, 16, 125, 182, 1, 48, 153, 0, 10, 42, 182, 1, 179]
abbrev dktX9_reads_7 : List UInt8 := dkwX9_reads_7 ++ dktX9_reads_8
def dkwX9_reads_6 : List UInt8 := [180, 1, 114, 157, 0, 15, 42, 180, 0, 90, 42, 180, 1, 32, 46, 154, 0, 40, 42, 180, 1, 114]
abbrev dktX9_reads_6 : List UInt8 := dkwX9_reads_6 ++ dktX9_reads_7
def dkwX9_reads_5 : List UInt8 := [167, 255, 215, 42, 182, 1, 54, 42, 180, 1, 35, 154, 0, 66, 42, 180, 1, 13, 154, 0, 22, 42]
abbrev dktX9_reads_5 : List UInt8 := dkwX9_reads_5 ++ dktX9_reads_6
def dkwX9_reads_4 : List UInt8 := [27, 154, 0, 7, 2, 167, 0, 13, 27, 4, 160, 0, 7, 3, 167, 0, 4, 4, 79, 132, 1, 1]
abbrev dktX9_reads_4 : List UInt8 := dkwX9_reads_4 ++ dktX9_reads_5
def dkwX9_reads_3 : List UInt8 := [16, 7, 79, 3, 60, 27, 16, 7, 162, 0, 41, 42, 180, 0, 93, 16, 16, 42, 180, 1, 32, 104, 27, 96]
abbrev dktX9_reads_3 : List UInt8 := dkwX9_reads_3 ++ dktX9_reads_4
def dkwX9_reads_2 : List UInt8 := [180, 1, 32, 3, 79, 42, 180, 0, 90, 42, 180, 1, 32, 3, 79, 42, 180, 0, 96, 42, 180, 1, 32]
abbrev dktX9_reads_2 : List UInt8 := dkwX9_reads_2 ++ dktX9_reads_3
def dkwX9_reads_1 : List UInt8 := [181, 1, 117, 42, 3, 181, 1, 114, 42, 180, 0, 63, 42, 180, 1, 32, 3, 79, 42, 180, 0, 84, 42]
abbrev dktX9_reads_1 : List UInt8 := dkwX9_reads_1 ++ dktX9_reads_2
def dkwX9_reads_0 : List UInt8 := [42, 3, 181, 0, 253, 42, 3, 181, 1, 35, 42, 3, 181, 1, 45, 42, 3, 181, 1, 64, 42, 3]
abbrev dktX9_reads_0 : List UInt8 := dkwX9_reads_0 ++ dktX9_reads_1
theorem dksX9_reads_0 : cX9_reads.data.toList.drop 0 = dktX9_reads_0 := by decide +kernel
theorem dksX9_reads_1 : cX9_reads.data.toList.drop 22 = dktX9_reads_1 := dk_seg dksX9_reads_0 22 rfl rfl
theorem dksX9_reads_2 : cX9_reads.data.toList.drop 45 = dktX9_reads_2 := dk_seg dksX9_reads_1 23 rfl rfl
theorem dksX9_reads_3 : cX9_reads.data.toList.drop 68 = dktX9_reads_3 := dk_seg dksX9_reads_2 23 rfl rfl
theorem dksX9_reads_4 : cX9_reads.data.toList.drop 92 = dktX9_reads_4 := dk_seg dksX9_reads_3 24 rfl rfl
theorem dksX9_reads_5 : cX9_reads.data.toList.drop 114 = dktX9_reads_5 := dk_seg dksX9_reads_4 22 rfl rfl
theorem dksX9_reads_6 : cX9_reads.data.toList.drop 136 = dktX9_reads_6 := dk_seg dksX9_reads_5 22 rfl rfl
theorem dksX9_reads_7 : cX9_reads.data.toList.drop 158 = dktX9_reads_7 := dk_seg dksX9_reads_6 22 rfl rfl
theorem dksX9_reads_8 : cX9_reads.data.toList.drop 181 = dktX9_reads_8 := dk_seg dksX9_reads_7 23 rfl rfl
theorem dX9_reads_0 : decode cX9_reads 0 = .ok (.aload_n 0, 1) := dk_42 (dk_at dksX9_reads_0 0 rfl rfl)
theorem dX9_reads_1 : decode cX9_reads 1 = .ok (.iconst 0, 1) := dk_3 (dk_at dksX9_reads_0 1 rfl rfl)
theorem dX9_reads_2 : decode cX9_reads 2 = .ok (.putfield 253, 3) := dk_181 0 253 (dk_at dksX9_reads_0 2 rfl rfl)
theorem dX9_reads_5 : decode cX9_reads 5 = .ok (.aload_n 0, 1) := dk_42 (dk_at dksX9_reads_0 5 rfl rfl)
theorem dX9_reads_6 : decode cX9_reads 6 = .ok (.iconst 0, 1) := dk_3 (dk_at dksX9_reads_0 6 rfl rfl)
theorem dX9_reads_7 : decode cX9_reads 7 = .ok (.putfield 291, 3) := dk_181 1 35 (dk_at dksX9_reads_0 7 rfl rfl)
theorem dX9_reads_10 : decode cX9_reads 10 = .ok (.aload_n 0, 1) := dk_42 (dk_at dksX9_reads_0 10 rfl rfl)
theorem dX9_reads_11 : decode cX9_reads 11 = .ok (.iconst 0, 1) := dk_3 (dk_at dksX9_reads_0 11 rfl rfl)
theorem dX9_reads_12 : decode cX9_reads 12 = .ok (.putfield 301, 3) := dk_181 1 45 (dk_at dksX9_reads_0 12 rfl rfl)
theorem dX9_reads_15 : decode cX9_reads 15 = .ok (.aload_n 0, 1) := dk_42 (dk_at dksX9_reads_0 15 rfl rfl)
theorem dX9_reads_16 : decode cX9_reads 16 = .ok (.iconst 0, 1) := dk_3 (dk_at dksX9_reads_0 16 rfl rfl)
theorem dX9_reads_17 : decode cX9_reads 17 = .ok (.putfield 320, 3) := dk_181 1 64 (dk_at dksX9_reads_0 17 rfl rfl)
theorem dX9_reads_20 : decode cX9_reads 20 = .ok (.aload_n 0, 1) := dk_42 (dk_at dksX9_reads_0 20 rfl rfl)
theorem dX9_reads_21 : decode cX9_reads 21 = .ok (.iconst 0, 1) := dk_3 (dk_at dksX9_reads_0 21 rfl rfl)
theorem dX9_reads_22 : decode cX9_reads 22 = .ok (.putfield 373, 3) := dk_181 1 117 (dk_at dksX9_reads_1 0 rfl rfl)
theorem dX9_reads_25 : decode cX9_reads 25 = .ok (.aload_n 0, 1) := dk_42 (dk_at dksX9_reads_1 3 rfl rfl)
theorem dX9_reads_26 : decode cX9_reads 26 = .ok (.iconst 0, 1) := dk_3 (dk_at dksX9_reads_1 4 rfl rfl)
theorem dX9_reads_27 : decode cX9_reads 27 = .ok (.putfield 370, 3) := dk_181 1 114 (dk_at dksX9_reads_1 5 rfl rfl)
theorem dX9_reads_30 : decode cX9_reads 30 = .ok (.aload_n 0, 1) := dk_42 (dk_at dksX9_reads_1 8 rfl rfl)
theorem dX9_reads_31 : decode cX9_reads 31 = .ok (.getfield 63, 3) := dk_180 0 63 (dk_at dksX9_reads_1 9 rfl rfl)
theorem dX9_reads_34 : decode cX9_reads 34 = .ok (.aload_n 0, 1) := dk_42 (dk_at dksX9_reads_1 12 rfl rfl)
theorem dX9_reads_35 : decode cX9_reads 35 = .ok (.getfield 288, 3) := dk_180 1 32 (dk_at dksX9_reads_1 13 rfl rfl)
theorem dX9_reads_38 : decode cX9_reads 38 = .ok (.iconst 0, 1) := dk_3 (dk_at dksX9_reads_1 16 rfl rfl)
theorem dX9_reads_39 : decode cX9_reads 39 = .ok (.iastore, 1) := dk_79 (dk_at dksX9_reads_1 17 rfl rfl)
theorem dX9_reads_40 : decode cX9_reads 40 = .ok (.aload_n 0, 1) := dk_42 (dk_at dksX9_reads_1 18 rfl rfl)
theorem dX9_reads_41 : decode cX9_reads 41 = .ok (.getfield 84, 3) := dk_180 0 84 (dk_at dksX9_reads_1 19 rfl rfl)
theorem dX9_reads_44 : decode cX9_reads 44 = .ok (.aload_n 0, 1) := dk_42 (dk_at dksX9_reads_1 22 rfl rfl)
theorem dX9_reads_45 : decode cX9_reads 45 = .ok (.getfield 288, 3) := dk_180 1 32 (dk_at dksX9_reads_2 0 rfl rfl)
theorem dX9_reads_48 : decode cX9_reads 48 = .ok (.iconst 0, 1) := dk_3 (dk_at dksX9_reads_2 3 rfl rfl)
theorem dX9_reads_49 : decode cX9_reads 49 = .ok (.iastore, 1) := dk_79 (dk_at dksX9_reads_2 4 rfl rfl)
theorem dX9_reads_50 : decode cX9_reads 50 = .ok (.aload_n 0, 1) := dk_42 (dk_at dksX9_reads_2 5 rfl rfl)
theorem dX9_reads_51 : decode cX9_reads 51 = .ok (.getfield 90, 3) := dk_180 0 90 (dk_at dksX9_reads_2 6 rfl rfl)
theorem dX9_reads_54 : decode cX9_reads 54 = .ok (.aload_n 0, 1) := dk_42 (dk_at dksX9_reads_2 9 rfl rfl)
theorem dX9_reads_55 : decode cX9_reads 55 = .ok (.getfield 288, 3) := dk_180 1 32 (dk_at dksX9_reads_2 10 rfl rfl)
theorem dX9_reads_58 : decode cX9_reads 58 = .ok (.iconst 0, 1) := dk_3 (dk_at dksX9_reads_2 13 rfl rfl)
theorem dX9_reads_59 : decode cX9_reads 59 = .ok (.iastore, 1) := dk_79 (dk_at dksX9_reads_2 14 rfl rfl)
theorem dX9_reads_60 : decode cX9_reads 60 = .ok (.aload_n 0, 1) := dk_42 (dk_at dksX9_reads_2 15 rfl rfl)
theorem dX9_reads_61 : decode cX9_reads 61 = .ok (.getfield 96, 3) := dk_180 0 96 (dk_at dksX9_reads_2 16 rfl rfl)
theorem dX9_reads_64 : decode cX9_reads 64 = .ok (.aload_n 0, 1) := dk_42 (dk_at dksX9_reads_2 19 rfl rfl)
theorem dX9_reads_65 : decode cX9_reads 65 = .ok (.getfield 288, 3) := dk_180 1 32 (dk_at dksX9_reads_2 20 rfl rfl)
theorem dX9_reads_68 : decode cX9_reads 68 = .ok (.bipush 7, 2) := dk_16 7 (dk_at dksX9_reads_3 0 rfl rfl)
theorem dX9_reads_70 : decode cX9_reads 70 = .ok (.iastore, 1) := dk_79 (dk_at dksX9_reads_3 2 rfl rfl)
theorem dX9_reads_71 : decode cX9_reads 71 = .ok (.iconst 0, 1) := dk_3 (dk_at dksX9_reads_3 3 rfl rfl)
theorem dX9_reads_72 : decode cX9_reads 72 = .ok (.istore_n 1, 1) := dk_60 (dk_at dksX9_reads_3 4 rfl rfl)
theorem dX9_reads_73 : decode cX9_reads 73 = .ok (.iload_n 1, 1) := dk_27 (dk_at dksX9_reads_3 5 rfl rfl)
theorem dX9_reads_74 : decode cX9_reads 74 = .ok (.bipush 7, 2) := dk_16 7 (dk_at dksX9_reads_3 6 rfl rfl)
theorem dX9_reads_76 : decode cX9_reads 76 = .ok (.if_icmp .ge 41, 3) := dk_162 0 41 (dk_at dksX9_reads_3 8 rfl rfl)
theorem dX9_reads_79 : decode cX9_reads 79 = .ok (.aload_n 0, 1) := dk_42 (dk_at dksX9_reads_3 11 rfl rfl)
theorem dX9_reads_80 : decode cX9_reads 80 = .ok (.getfield 93, 3) := dk_180 0 93 (dk_at dksX9_reads_3 12 rfl rfl)
theorem dX9_reads_83 : decode cX9_reads 83 = .ok (.bipush 16, 2) := dk_16 16 (dk_at dksX9_reads_3 15 rfl rfl)
theorem dX9_reads_85 : decode cX9_reads 85 = .ok (.aload_n 0, 1) := dk_42 (dk_at dksX9_reads_3 17 rfl rfl)
theorem dX9_reads_86 : decode cX9_reads 86 = .ok (.getfield 288, 3) := dk_180 1 32 (dk_at dksX9_reads_3 18 rfl rfl)
theorem dX9_reads_89 : decode cX9_reads 89 = .ok (.imul, 1) := dk_104 (dk_at dksX9_reads_3 21 rfl rfl)
theorem dX9_reads_90 : decode cX9_reads 90 = .ok (.iload_n 1, 1) := dk_27 (dk_at dksX9_reads_3 22 rfl rfl)
theorem dX9_reads_91 : decode cX9_reads 91 = .ok (.iadd, 1) := dk_96 (dk_at dksX9_reads_3 23 rfl rfl)
theorem dX9_reads_92 : decode cX9_reads 92 = .ok (.iload_n 1, 1) := dk_27 (dk_at dksX9_reads_4 0 rfl rfl)
theorem dX9_reads_93 : decode cX9_reads 93 = .ok (.ifCond .ne 7, 3) := dk_154 0 7 (dk_at dksX9_reads_4 1 rfl rfl)
theorem dX9_reads_96 : decode cX9_reads 96 = .ok (.iconst (-1), 1) := dk_2 (dk_at dksX9_reads_4 4 rfl rfl)
theorem dX9_reads_97 : decode cX9_reads 97 = .ok (.goto 13, 3) := dk_167 0 13 (dk_at dksX9_reads_4 5 rfl rfl)
theorem dX9_reads_100 : decode cX9_reads 100 = .ok (.iload_n 1, 1) := dk_27 (dk_at dksX9_reads_4 8 rfl rfl)
theorem dX9_reads_101 : decode cX9_reads 101 = .ok (.iconst 1, 1) := dk_4 (dk_at dksX9_reads_4 9 rfl rfl)
theorem dX9_reads_102 : decode cX9_reads 102 = .ok (.if_icmp .ne 7, 3) := dk_160 0 7 (dk_at dksX9_reads_4 10 rfl rfl)
theorem dX9_reads_105 : decode cX9_reads 105 = .ok (.iconst 0, 1) := dk_3 (dk_at dksX9_reads_4 13 rfl rfl)
theorem dX9_reads_106 : decode cX9_reads 106 = .ok (.goto 4, 3) := dk_167 0 4 (dk_at dksX9_reads_4 14 rfl rfl)
theorem dX9_reads_109 : decode cX9_reads 109 = .ok (.iconst 1, 1) := dk_4 (dk_at dksX9_reads_4 17 rfl rfl)
theorem dX9_reads_110 : decode cX9_reads 110 = .ok (.iastore, 1) := dk_79 (dk_at dksX9_reads_4 18 rfl rfl)
theorem dX9_reads_111 : decode cX9_reads 111 = .ok (.iinc 1 1, 3) := dk_132 1 1 (dk_at dksX9_reads_4 19 rfl rfl)
theorem dX9_reads_114 : decode cX9_reads 114 = .ok (.goto (-41), 3) := dk_167 255 215 (dk_at dksX9_reads_5 0 rfl rfl)
theorem dX9_reads_117 : decode cX9_reads 117 = .ok (.aload_n 0, 1) := dk_42 (dk_at dksX9_reads_5 3 rfl rfl)
theorem dX9_reads_118 : decode cX9_reads 118 = .ok (.invokevirtual 310, 3) := dk_182 1 54 (dk_at dksX9_reads_5 4 rfl rfl)
theorem dX9_reads_121 : decode cX9_reads 121 = .ok (.aload_n 0, 1) := dk_42 (dk_at dksX9_reads_5 7 rfl rfl)
theorem dX9_reads_122 : decode cX9_reads 122 = .ok (.getfield 291, 3) := dk_180 1 35 (dk_at dksX9_reads_5 8 rfl rfl)
theorem dX9_reads_125 : decode cX9_reads 125 = .ok (.ifCond .ne 66, 3) := dk_154 0 66 (dk_at dksX9_reads_5 11 rfl rfl)
theorem dX9_reads_128 : decode cX9_reads 128 = .ok (.aload_n 0, 1) := dk_42 (dk_at dksX9_reads_5 14 rfl rfl)
theorem dX9_reads_129 : decode cX9_reads 129 = .ok (.getfield 269, 3) := dk_180 1 13 (dk_at dksX9_reads_5 15 rfl rfl)
theorem dX9_reads_132 : decode cX9_reads 132 = .ok (.ifCond .ne 22, 3) := dk_154 0 22 (dk_at dksX9_reads_5 18 rfl rfl)
theorem dX9_reads_135 : decode cX9_reads 135 = .ok (.aload_n 0, 1) := dk_42 (dk_at dksX9_reads_5 21 rfl rfl)
theorem dX9_reads_136 : decode cX9_reads 136 = .ok (.getfield 370, 3) := dk_180 1 114 (dk_at dksX9_reads_6 0 rfl rfl)
theorem dX9_reads_139 : decode cX9_reads 139 = .ok (.ifCond .gt 15, 3) := dk_157 0 15 (dk_at dksX9_reads_6 3 rfl rfl)
theorem dX9_reads_142 : decode cX9_reads 142 = .ok (.aload_n 0, 1) := dk_42 (dk_at dksX9_reads_6 6 rfl rfl)
theorem dX9_reads_143 : decode cX9_reads 143 = .ok (.getfield 90, 3) := dk_180 0 90 (dk_at dksX9_reads_6 7 rfl rfl)
theorem dX9_reads_146 : decode cX9_reads 146 = .ok (.aload_n 0, 1) := dk_42 (dk_at dksX9_reads_6 10 rfl rfl)
theorem dX9_reads_147 : decode cX9_reads 147 = .ok (.getfield 288, 3) := dk_180 1 32 (dk_at dksX9_reads_6 11 rfl rfl)
theorem dX9_reads_150 : decode cX9_reads 150 = .ok (.iaload, 1) := dk_46 (dk_at dksX9_reads_6 14 rfl rfl)
theorem dX9_reads_151 : decode cX9_reads 151 = .ok (.ifCond .ne 40, 3) := dk_154 0 40 (dk_at dksX9_reads_6 15 rfl rfl)
theorem dX9_reads_154 : decode cX9_reads 154 = .ok (.aload_n 0, 1) := dk_42 (dk_at dksX9_reads_6 18 rfl rfl)
theorem dX9_reads_155 : decode cX9_reads 155 = .ok (.getfield 370, 3) := dk_180 1 114 (dk_at dksX9_reads_6 19 rfl rfl)
theorem dX9_reads_158 : decode cX9_reads 158 = .ok (.ifCond .ne 10, 3) := dk_154 0 10 (dk_at dksX9_reads_7 0 rfl rfl)
theorem dX9_reads_161 : decode cX9_reads 161 = .ok (.aload_n 0, 1) := dk_42 (dk_at dksX9_reads_7 3 rfl rfl)
theorem dX9_reads_162 : decode cX9_reads 162 = .ok (.invokevirtual 432, 3) := dk_182 1 176 (dk_at dksX9_reads_7 4 rfl rfl)
theorem dX9_reads_165 : decode cX9_reads 165 = .ok (.goto (-44), 3) := dk_167 255 212 (dk_at dksX9_reads_7 7 rfl rfl)
theorem dX9_reads_168 : decode cX9_reads 168 = .ok (.aload_n 0, 1) := dk_42 (dk_at dksX9_reads_7 10 rfl rfl)
theorem dX9_reads_169 : decode cX9_reads 169 = .ok (.bipush 125, 2) := dk_16 125 (dk_at dksX9_reads_7 11 rfl rfl)
theorem dX9_reads_171 : decode cX9_reads 171 = .ok (.invokevirtual 304, 3) := dk_182 1 48 (dk_at dksX9_reads_7 13 rfl rfl)
theorem dX9_reads_174 : decode cX9_reads 174 = .ok (.ifCond .eq 10, 3) := dk_153 0 10 (dk_at dksX9_reads_7 16 rfl rfl)
theorem dX9_reads_177 : decode cX9_reads 177 = .ok (.aload_n 0, 1) := dk_42 (dk_at dksX9_reads_7 19 rfl rfl)
theorem dX9_reads_178 : decode cX9_reads 178 = .ok (.invokevirtual 435, 3) := dk_182 1 179 (dk_at dksX9_reads_7 20 rfl rfl)
theorem dX9_reads_181 : decode cX9_reads 181 = .ok (.goto (-60), 3) := dk_167 255 196 (dk_at dksX9_reads_8 0 rfl rfl)
theorem dX9_reads_184 : decode cX9_reads 184 = .ok (.aload_n 0, 1) := dk_42 (dk_at dksX9_reads_8 3 rfl rfl)
theorem dX9_reads_185 : decode cX9_reads 185 = .ok (.invokevirtual 438, 3) := dk_182 1 182 (dk_at dksX9_reads_8 4 rfl rfl)
theorem dX9_reads_188 : decode cX9_reads 188 = .ok (.goto (-67), 3) := dk_167 255 189 (dk_at dksX9_reads_8 7 rfl rfl)
theorem dX9_reads_191 : decode cX9_reads 191 = .ok (.return_, 1) := dk_177 (dk_at dksX9_reads_8 10 rfl rfl)
theorem okX9_reads_0 : XOkL xms rX9_reads bX9_reads_0 := xcP (xok_aload_n dX9_reads_0 rfl) rfl (xcP (xok_iconst dX9_reads_1 rfl) rfl (xcP (xok_putfield (ref := "WaysAtlasModel") (Or.inl ⟨rfl, by decide, rfl⟩) dX9_reads_2 (Or.inl ⟨q1932, (Or.inl rfl)⟩) (Or.inl rfl) xh39) rfl (xcP (xok_aload_n dX9_reads_5 rfl) rfl (xcP (xok_iconst dX9_reads_6 rfl) rfl (xcP (xok_putfield (ref := "WaysAtlasModel") (Or.inl ⟨rfl, by decide, rfl⟩) dX9_reads_7 (Or.inl ⟨q1955, (Or.inl rfl)⟩) (Or.inl rfl) xh49) rfl (xcP (xok_aload_n dX9_reads_10 rfl) rfl (xcP (xok_iconst dX9_reads_11 rfl) rfl (xcP (xok_putfield (ref := "WaysAtlasModel") (Or.inl ⟨rfl, by decide, rfl⟩) dX9_reads_12 (Or.inl ⟨q1958, (Or.inl rfl)⟩) (Or.inl rfl) xh52) rfl (xcP (xok_aload_n dX9_reads_15 rfl) rfl (xcP (xok_iconst dX9_reads_16 rfl) rfl (xcP (xok_putfield (ref := "WaysAtlasModel") (Or.inl ⟨rfl, by decide, rfl⟩) dX9_reads_17 (Or.inl ⟨q1953, (Or.inl rfl)⟩) (Or.inl rfl) xh47) rfl (xcP (xok_aload_n dX9_reads_20 rfl) rfl (xcP (xok_iconst dX9_reads_21 rfl) rfl (xcP (xok_putfield (ref := "WaysAtlasModel") (Or.inl ⟨rfl, by decide, rfl⟩) dX9_reads_22 (Or.inl ⟨q1954, (Or.inl rfl)⟩) (Or.inl rfl) xh48) rfl (xcP (xok_aload_n dX9_reads_25 rfl) rfl (xcP (xok_iconst dX9_reads_26 rfl) rfl (xcP (xok_putfield (ref := "WaysAtlasModel") (Or.inl ⟨rfl, by decide, rfl⟩) dX9_reads_27 (Or.inl ⟨q1967, (Or.inl rfl)⟩) (Or.inl rfl) xh56) rfl (xcP (xok_aload_n dX9_reads_30 rfl) rfl (xcP (xok_getfield (ref := "WaysAtlasModel") (Or.inr ⟨rfl, by decide⟩) dX9_reads_31 (Or.inl ⟨q1941, (Or.inl rfl)⟩) xh1060) rfl (xcP (xok_aload_n dX9_reads_34 rfl) rfl (xcP (xok_getfield (ref := "WaysAtlasModel") (Or.inl ⟨rfl, by decide⟩) dX9_reads_35 (Or.inl ⟨q1938, (Or.inl rfl)⟩) xh45) rfl (xcP (xok_iconst dX9_reads_38 rfl) rfl (xcP (xok_iastore dX9_reads_39) rfl (xcP (xok_aload_n dX9_reads_40 rfl) rfl (xcP (xok_getfield (ref := "WaysAtlasModel") (Or.inr ⟨rfl, by decide⟩) dX9_reads_41 (Or.inl ⟨q1948, (Or.inl rfl)⟩) xh1067) rfl (xcP (xok_aload_n dX9_reads_44 rfl) rfl (xcP (xok_getfield (ref := "WaysAtlasModel") (Or.inl ⟨rfl, by decide⟩) dX9_reads_45 (Or.inl ⟨q1938, (Or.inl rfl)⟩) xh45) rfl (xcP (xok_iconst dX9_reads_48 rfl) rfl (xcP (xok_iastore dX9_reads_49) rfl (xcP (xok_aload_n dX9_reads_50 rfl) rfl (xcP (xok_getfield (ref := "WaysAtlasModel") (Or.inr ⟨rfl, by decide⟩) dX9_reads_51 (Or.inl ⟨q1950, (Or.inl rfl)⟩) xh1069) rfl (xcP (xok_aload_n dX9_reads_54 rfl) rfl (xcP (xok_getfield (ref := "WaysAtlasModel") (Or.inl ⟨rfl, by decide⟩) dX9_reads_55 (Or.inl ⟨q1938, (Or.inl rfl)⟩) xh45) rfl (xcP (xok_iconst dX9_reads_58 rfl) rfl (xcP (xok_iastore dX9_reads_59) rfl (xcP (xok_aload_n dX9_reads_60 rfl) rfl (xcP (xok_getfield (ref := "WaysAtlasModel") (Or.inr ⟨rfl, by decide⟩) dX9_reads_61 (Or.inl ⟨q1952, (Or.inl rfl)⟩) xh1071) rfl (xcP (xok_aload_n dX9_reads_64 rfl) rfl (xcP (xok_getfield (ref := "WaysAtlasModel") (Or.inl ⟨rfl, by decide⟩) dX9_reads_65 (Or.inl ⟨q1938, (Or.inl rfl)⟩) xh45) rfl (xcP (xok_bipush dX9_reads_68 rfl) rfl (xcP (xok_iastore dX9_reads_70) rfl (xcP (xok_iconst dX9_reads_71 rfl) rfl (xcP (xok_istore_n dX9_reads_72 rfl) rfl (xcP xok_fal rfl trivial))))))))))))))))))))))))))))))))))))))))))))
theorem okX9_reads_73 : XOkL xms rX9_reads bX9_reads_73 := xcP (xok_iload_n dX9_reads_73 rfl) rfl (xcP (xok_bipush dX9_reads_74 rfl) rfl (xcP (xok_icmpge dX9_reads_76 (by decide)) rfl (xcP (xok_aload_n dX9_reads_79 rfl) rfl (xcP (xok_getfield (ref := "WaysAtlasModel") (Or.inr ⟨rfl, by decide⟩) dX9_reads_80 (Or.inl ⟨q1951, (Or.inl rfl)⟩) xh1070) rfl (xcP (xok_bipush dX9_reads_83 rfl) rfl (xcP (xok_aload_n dX9_reads_85 rfl) rfl (xcP (xok_getfield (ref := "WaysAtlasModel") (Or.inl ⟨rfl, by decide⟩) dX9_reads_86 (Or.inl ⟨q1938, (Or.inl rfl)⟩) xh45) rfl (xcP (xok_imul dX9_reads_89) rfl (xcP (xok_iload_n dX9_reads_90 rfl) rfl (xcP (xok_iadd dX9_reads_91) rfl (xcP (xok_iload_n dX9_reads_92 rfl) rfl (xcP (xok_ifne dX9_reads_93 (by decide)) rfl (xcP (xok_iconst dX9_reads_96 rfl) rfl (xcP (xok_goto dX9_reads_97 (by decide)) rfl trivial))))))))))))))
theorem okX9_reads_100 : XOkL xms rX9_reads bX9_reads_100 := xcP (xok_iload_n dX9_reads_100 rfl) rfl (xcP (xok_iconst dX9_reads_101 rfl) rfl (xcP (xok_icmpne dX9_reads_102 (by decide)) rfl (xcP (xok_iconst dX9_reads_105 rfl) rfl (xcP (xok_goto dX9_reads_106 (by decide)) rfl trivial))))
theorem okX9_reads_109 : XOkL xms rX9_reads bX9_reads_109 := xcP (xok_iconst dX9_reads_109 rfl) rfl (xcP xok_fal rfl trivial)
theorem okX9_reads_110 : XOkL xms rX9_reads bX9_reads_110 := xcP (xok_iastore dX9_reads_110) rfl (xcP (xok_iinc dX9_reads_111 rfl) rfl (xcP (xok_goto dX9_reads_114 (by decide)) rfl trivial))
theorem okX9_reads_117 : XOkL xms rX9_reads bX9_reads_117 := xcP (xok_aload_n dX9_reads_117 rfl) rfl (xcC0 (xokc_list (List.forall_mem_cons.mpr ⟨xokc_V (r := (RX9, TX9, 96)) xm102 (List.mem_of_getElem? (i := 9) rfl) (by decide) rfl dX9_reads_118 q2235 q2237 qs53 q149 q2238 (by decide +kernel), fun _ h => nomatch h⟩)) rfl (xcP xok_fal rfl trivial))
theorem okX9_reads_121 : XOkL xms rX9_reads bX9_reads_121 := xcP (xok_aload_n dX9_reads_121 rfl) rfl (xcP (xok_getfield (ref := "WaysAtlasModel") (Or.inl ⟨rfl, by decide⟩) dX9_reads_122 (Or.inl ⟨q1955, (Or.inl rfl)⟩) xh49) rfl (xcP (xok_ifne dX9_reads_125 (by decide)) rfl (xcP (xok_aload_n dX9_reads_128 rfl) rfl (xcP (xok_getfield (ref := "WaysAtlasModel") (Or.inl ⟨rfl, by decide⟩) dX9_reads_129 (Or.inl ⟨q1933, (Or.inl rfl)⟩) xh40) rfl (xcP (xok_ifne dX9_reads_132 (by decide)) rfl (xcP (xok_aload_n dX9_reads_135 rfl) rfl (xcP (xok_getfield (ref := "WaysAtlasModel") (Or.inl ⟨rfl, by decide⟩) dX9_reads_136 (Or.inl ⟨q1967, (Or.inl rfl)⟩) xh56) rfl (xcP (xok_ifgt dX9_reads_139 (by decide)) rfl (xcP (xok_aload_n dX9_reads_142 rfl) rfl (xcP (xok_getfield (ref := "WaysAtlasModel") (Or.inr ⟨rfl, by decide⟩) dX9_reads_143 (Or.inl ⟨q1950, (Or.inl rfl)⟩) xh1069) rfl (xcP (xok_aload_n dX9_reads_146 rfl) rfl (xcP (xok_getfield (ref := "WaysAtlasModel") (Or.inl ⟨rfl, by decide⟩) dX9_reads_147 (Or.inl ⟨q1938, (Or.inl rfl)⟩) xh45) rfl (xcP (xok_iaload dX9_reads_150) rfl (xcP (xok_ifne dX9_reads_151 (by decide)) rfl (xcP xok_fal rfl trivial)))))))))))))))
theorem okX9_reads_154 : XOkL xms rX9_reads bX9_reads_154 := xcP (xok_aload_n dX9_reads_154 rfl) rfl (xcP (xok_getfield (ref := "WaysAtlasModel") (Or.inl ⟨rfl, by decide⟩) dX9_reads_155 (Or.inl ⟨q1967, (Or.inl rfl)⟩) xh56) rfl (xcP (xok_ifne dX9_reads_158 (by decide)) rfl (xcP (xok_aload_n dX9_reads_161 rfl) rfl (xcC0 (xokc_list (List.forall_mem_cons.mpr ⟨xokc_V (r := (RX9, TX9, 96)) xm109 (List.mem_of_getElem? (i := 9) rfl) (by decide) rfl dX9_reads_162 q2265 q2267 qs59 q149 q2268 (by decide +kernel), fun _ h => nomatch h⟩)) rfl (xcP (xok_goto dX9_reads_165 (by decide)) rfl trivial)))))
theorem okX9_reads_168 : XOkL xms rX9_reads bX9_reads_168 := xcP (xok_aload_n dX9_reads_168 rfl) rfl (xcP (xok_bipush dX9_reads_169 rfl) rfl (xcC0 (xokc_list (List.forall_mem_cons.mpr ⟨xokc_V (r := (RX9, TX9, 96)) xm117 (List.mem_of_getElem? (i := 9) rfl) (by decide) rfl dX9_reads_171 q2297 q2299 qs67 q149 q2300 (by decide +kernel), fun _ h => nomatch h⟩)) rfl (xcP (xok_ifeq dX9_reads_174 (by decide)) rfl (xcP (xok_aload_n dX9_reads_177 rfl) rfl (xcC0 (xokc_list (List.forall_mem_cons.mpr ⟨xokc_V (r := (RX9, TX9, 96)) xm119 (List.mem_of_getElem? (i := 9) rfl) (by decide) rfl dX9_reads_178 q2305 q2307 qs69 q149 q2308 (by decide +kernel), fun _ h => nomatch h⟩)) rfl (xcP (xok_goto dX9_reads_181 (by decide)) rfl trivial))))))
theorem okX9_reads_184 : XOkL xms rX9_reads bX9_reads_184 := xcP (xok_aload_n dX9_reads_184 rfl) rfl (xcC0 (xokc_list (List.forall_mem_cons.mpr ⟨xokc_V (r := (RX9, TX9, 96)) xm122 (List.mem_of_getElem? (i := 9) rfl) (by decide) rfl dX9_reads_185 q2317 q2319 qs72 q149 q2320 (by decide +kernel), fun _ h => nomatch h⟩)) rfl (xcP (xok_goto dX9_reads_188 (by decide)) rfl trivial))
theorem okX9_reads_191 : XOkL xms rX9_reads bX9_reads_191 := xcR ⟨dX9_reads_191, rfl⟩
theorem okM_X9_reads : XOkM xms rX9_reads := xokM0 (List.forall_mem_cons.mpr ⟨⟨rfl, okX9_reads_0⟩, List.forall_mem_cons.mpr ⟨⟨rfl, okX9_reads_73⟩, List.forall_mem_cons.mpr ⟨⟨rfl, okX9_reads_100⟩, List.forall_mem_cons.mpr ⟨⟨rfl, okX9_reads_109⟩, List.forall_mem_cons.mpr ⟨⟨rfl, okX9_reads_110⟩, List.forall_mem_cons.mpr ⟨⟨rfl, okX9_reads_117⟩, List.forall_mem_cons.mpr ⟨⟨rfl, okX9_reads_121⟩, List.forall_mem_cons.mpr ⟨⟨rfl, okX9_reads_154⟩, List.forall_mem_cons.mpr ⟨⟨rfl, okX9_reads_168⟩, List.forall_mem_cons.mpr ⟨⟨rfl, okX9_reads_184⟩, List.forall_mem_cons.mpr ⟨⟨rfl, okX9_reads_191⟩, fun _ h => nomatch h⟩⟩⟩⟩⟩⟩⟩⟩⟩⟩⟩) (xokH0 rfl (fun _ _ => rfl)) (by decide +kernel) (by decide)
abbrev cX9_advance : ByteArray := prog_36_method_11_code
def dkwX9_advance_7 : List UInt8 := [181, 1, 16, 42, 89, 180, 0, 253, 4, 96, 181, 0, 253, 177]
abbrev dktX9_advance_7 : List UInt8 := dkwX9_advance_7 ++ []
def dkwX9_advance_6 : List UInt8 := [184, 1, 29, 153, 0, 7, 8, 167, 0, 4, 4, 181, 1, 13, 42, 42, 42, 180, 0, 253, 182, 0, 246]
abbrev dktX9_advance_6 : List UInt8 := dkwX9_advance_6 ++ dktX9_advance_7
def dkwX9_advance_5 : List UInt8 := [162, 0, 7, 7, 167, 0, 4, 4, 181, 1, 13, 167, 0, 48, 42, 42, 42, 180, 0, 253, 182, 0, 246]
abbrev dktX9_advance_5 : List UInt8 := dkwX9_advance_5 ++ dktX9_advance_6
def dkwX9_advance_4 : List UInt8 := [182, 1, 26, 167, 0, 79, 42, 42, 180, 0, 253, 182, 1, 0, 153, 0, 23, 42, 42, 182, 1, 19, 8]
abbrev dktX9_advance_4 : List UInt8 := dkwX9_advance_4 ++ dktX9_advance_5
def dkwX9_advance_3 : List UInt8 := [161, 0, 11, 42, 3, 181, 1, 13, 167, 0, 97, 42, 42, 180, 0, 253, 182, 1, 4, 153, 0, 10, 42]
abbrev dktX9_advance_3 : List UInt8 := dkwX9_advance_3 ++ dktX9_advance_4
def dkwX9_advance_2 : List UInt8 := [181, 0, 253, 167, 255, 207, 42, 42, 180, 0, 253, 181, 1, 23, 42, 180, 0, 253, 42, 180, 0, 243]
abbrev dktX9_advance_2 : List UInt8 := dkwX9_advance_2 ++ dktX9_advance_3
def dkwX9_advance_1 : List UInt8 := [159, 0, 17, 42, 180, 0, 55, 42, 180, 0, 253, 51, 16, 10, 160, 0, 16, 42, 89, 180, 0, 253, 4, 96]
abbrev dktX9_advance_1 : List UInt8 := dkwX9_advance_1 ++ dktX9_advance_2
def dkwX9_advance_0 : List UInt8 := [42, 180, 0, 253, 42, 180, 0, 243, 162, 0, 44, 42, 180, 0, 55, 42, 180, 0, 253, 51, 16, 32]
abbrev dktX9_advance_0 : List UInt8 := dkwX9_advance_0 ++ dktX9_advance_1
theorem dksX9_advance_0 : cX9_advance.data.toList.drop 0 = dktX9_advance_0 := by decide +kernel
theorem dksX9_advance_1 : cX9_advance.data.toList.drop 22 = dktX9_advance_1 := dk_seg dksX9_advance_0 22 rfl rfl
theorem dksX9_advance_2 : cX9_advance.data.toList.drop 46 = dktX9_advance_2 := dk_seg dksX9_advance_1 24 rfl rfl
theorem dksX9_advance_3 : cX9_advance.data.toList.drop 68 = dktX9_advance_3 := dk_seg dksX9_advance_2 22 rfl rfl
theorem dksX9_advance_4 : cX9_advance.data.toList.drop 91 = dktX9_advance_4 := dk_seg dksX9_advance_3 23 rfl rfl
theorem dksX9_advance_5 : cX9_advance.data.toList.drop 114 = dktX9_advance_5 := dk_seg dksX9_advance_4 23 rfl rfl
theorem dksX9_advance_6 : cX9_advance.data.toList.drop 137 = dktX9_advance_6 := dk_seg dksX9_advance_5 23 rfl rfl
theorem dksX9_advance_7 : cX9_advance.data.toList.drop 160 = dktX9_advance_7 := dk_seg dksX9_advance_6 23 rfl rfl
theorem dX9_advance_0 : decode cX9_advance 0 = .ok (.aload_n 0, 1) := dk_42 (dk_at dksX9_advance_0 0 rfl rfl)
theorem dX9_advance_1 : decode cX9_advance 1 = .ok (.getfield 253, 3) := dk_180 0 253 (dk_at dksX9_advance_0 1 rfl rfl)
theorem dX9_advance_4 : decode cX9_advance 4 = .ok (.aload_n 0, 1) := dk_42 (dk_at dksX9_advance_0 4 rfl rfl)
theorem dX9_advance_5 : decode cX9_advance 5 = .ok (.getfield 243, 3) := dk_180 0 243 (dk_at dksX9_advance_0 5 rfl rfl)
theorem dX9_advance_8 : decode cX9_advance 8 = .ok (.if_icmp .ge 44, 3) := dk_162 0 44 (dk_at dksX9_advance_0 8 rfl rfl)
theorem dX9_advance_11 : decode cX9_advance 11 = .ok (.aload_n 0, 1) := dk_42 (dk_at dksX9_advance_0 11 rfl rfl)
theorem dX9_advance_12 : decode cX9_advance 12 = .ok (.getfield 55, 3) := dk_180 0 55 (dk_at dksX9_advance_0 12 rfl rfl)
theorem dX9_advance_15 : decode cX9_advance 15 = .ok (.aload_n 0, 1) := dk_42 (dk_at dksX9_advance_0 15 rfl rfl)
theorem dX9_advance_16 : decode cX9_advance 16 = .ok (.getfield 253, 3) := dk_180 0 253 (dk_at dksX9_advance_0 16 rfl rfl)
theorem dX9_advance_19 : decode cX9_advance 19 = .ok (.baload, 1) := dk_51 (dk_at dksX9_advance_0 19 rfl rfl)
theorem dX9_advance_20 : decode cX9_advance 20 = .ok (.bipush 32, 2) := dk_16 32 (dk_at dksX9_advance_0 20 rfl rfl)
theorem dX9_advance_22 : decode cX9_advance 22 = .ok (.if_icmp .eq 17, 3) := dk_159 0 17 (dk_at dksX9_advance_1 0 rfl rfl)
theorem dX9_advance_25 : decode cX9_advance 25 = .ok (.aload_n 0, 1) := dk_42 (dk_at dksX9_advance_1 3 rfl rfl)
theorem dX9_advance_26 : decode cX9_advance 26 = .ok (.getfield 55, 3) := dk_180 0 55 (dk_at dksX9_advance_1 4 rfl rfl)
theorem dX9_advance_29 : decode cX9_advance 29 = .ok (.aload_n 0, 1) := dk_42 (dk_at dksX9_advance_1 7 rfl rfl)
theorem dX9_advance_30 : decode cX9_advance 30 = .ok (.getfield 253, 3) := dk_180 0 253 (dk_at dksX9_advance_1 8 rfl rfl)
theorem dX9_advance_33 : decode cX9_advance 33 = .ok (.baload, 1) := dk_51 (dk_at dksX9_advance_1 11 rfl rfl)
theorem dX9_advance_34 : decode cX9_advance 34 = .ok (.bipush 10, 2) := dk_16 10 (dk_at dksX9_advance_1 12 rfl rfl)
theorem dX9_advance_36 : decode cX9_advance 36 = .ok (.if_icmp .ne 16, 3) := dk_160 0 16 (dk_at dksX9_advance_1 14 rfl rfl)
theorem dX9_advance_39 : decode cX9_advance 39 = .ok (.aload_n 0, 1) := dk_42 (dk_at dksX9_advance_1 17 rfl rfl)
theorem dX9_advance_40 : decode cX9_advance 40 = .ok (.dup, 1) := dk_89 (dk_at dksX9_advance_1 18 rfl rfl)
theorem dX9_advance_41 : decode cX9_advance 41 = .ok (.getfield 253, 3) := dk_180 0 253 (dk_at dksX9_advance_1 19 rfl rfl)
theorem dX9_advance_44 : decode cX9_advance 44 = .ok (.iconst 1, 1) := dk_4 (dk_at dksX9_advance_1 22 rfl rfl)
theorem dX9_advance_45 : decode cX9_advance 45 = .ok (.iadd, 1) := dk_96 (dk_at dksX9_advance_1 23 rfl rfl)
theorem dX9_advance_46 : decode cX9_advance 46 = .ok (.putfield 253, 3) := dk_181 0 253 (dk_at dksX9_advance_2 0 rfl rfl)
theorem dX9_advance_49 : decode cX9_advance 49 = .ok (.goto (-49), 3) := dk_167 255 207 (dk_at dksX9_advance_2 3 rfl rfl)
theorem dX9_advance_52 : decode cX9_advance 52 = .ok (.aload_n 0, 1) := dk_42 (dk_at dksX9_advance_2 6 rfl rfl)
theorem dX9_advance_53 : decode cX9_advance 53 = .ok (.aload_n 0, 1) := dk_42 (dk_at dksX9_advance_2 7 rfl rfl)
theorem dX9_advance_54 : decode cX9_advance 54 = .ok (.getfield 253, 3) := dk_180 0 253 (dk_at dksX9_advance_2 8 rfl rfl)
theorem dX9_advance_57 : decode cX9_advance 57 = .ok (.putfield 279, 3) := dk_181 1 23 (dk_at dksX9_advance_2 11 rfl rfl)
theorem dX9_advance_60 : decode cX9_advance 60 = .ok (.aload_n 0, 1) := dk_42 (dk_at dksX9_advance_2 14 rfl rfl)
theorem dX9_advance_61 : decode cX9_advance 61 = .ok (.getfield 253, 3) := dk_180 0 253 (dk_at dksX9_advance_2 15 rfl rfl)
theorem dX9_advance_64 : decode cX9_advance 64 = .ok (.aload_n 0, 1) := dk_42 (dk_at dksX9_advance_2 18 rfl rfl)
theorem dX9_advance_65 : decode cX9_advance 65 = .ok (.getfield 243, 3) := dk_180 0 243 (dk_at dksX9_advance_2 19 rfl rfl)
theorem dX9_advance_68 : decode cX9_advance 68 = .ok (.if_icmp .lt 11, 3) := dk_161 0 11 (dk_at dksX9_advance_3 0 rfl rfl)
theorem dX9_advance_71 : decode cX9_advance 71 = .ok (.aload_n 0, 1) := dk_42 (dk_at dksX9_advance_3 3 rfl rfl)
theorem dX9_advance_72 : decode cX9_advance 72 = .ok (.iconst 0, 1) := dk_3 (dk_at dksX9_advance_3 4 rfl rfl)
theorem dX9_advance_73 : decode cX9_advance 73 = .ok (.putfield 269, 3) := dk_181 1 13 (dk_at dksX9_advance_3 5 rfl rfl)
theorem dX9_advance_76 : decode cX9_advance 76 = .ok (.goto 97, 3) := dk_167 0 97 (dk_at dksX9_advance_3 8 rfl rfl)
theorem dX9_advance_79 : decode cX9_advance 79 = .ok (.aload_n 0, 1) := dk_42 (dk_at dksX9_advance_3 11 rfl rfl)
theorem dX9_advance_80 : decode cX9_advance 80 = .ok (.aload_n 0, 1) := dk_42 (dk_at dksX9_advance_3 12 rfl rfl)
theorem dX9_advance_81 : decode cX9_advance 81 = .ok (.getfield 253, 3) := dk_180 0 253 (dk_at dksX9_advance_3 13 rfl rfl)
theorem dX9_advance_84 : decode cX9_advance 84 = .ok (.invokevirtual 260, 3) := dk_182 1 4 (dk_at dksX9_advance_3 16 rfl rfl)
theorem dX9_advance_87 : decode cX9_advance 87 = .ok (.ifCond .eq 10, 3) := dk_153 0 10 (dk_at dksX9_advance_3 19 rfl rfl)
theorem dX9_advance_90 : decode cX9_advance 90 = .ok (.aload_n 0, 1) := dk_42 (dk_at dksX9_advance_3 22 rfl rfl)
theorem dX9_advance_91 : decode cX9_advance 91 = .ok (.invokevirtual 282, 3) := dk_182 1 26 (dk_at dksX9_advance_4 0 rfl rfl)
theorem dX9_advance_94 : decode cX9_advance 94 = .ok (.goto 79, 3) := dk_167 0 79 (dk_at dksX9_advance_4 3 rfl rfl)
theorem dX9_advance_97 : decode cX9_advance 97 = .ok (.aload_n 0, 1) := dk_42 (dk_at dksX9_advance_4 6 rfl rfl)
theorem dX9_advance_98 : decode cX9_advance 98 = .ok (.aload_n 0, 1) := dk_42 (dk_at dksX9_advance_4 7 rfl rfl)
theorem dX9_advance_99 : decode cX9_advance 99 = .ok (.getfield 253, 3) := dk_180 0 253 (dk_at dksX9_advance_4 8 rfl rfl)
theorem dX9_advance_102 : decode cX9_advance 102 = .ok (.invokevirtual 256, 3) := dk_182 1 0 (dk_at dksX9_advance_4 11 rfl rfl)
theorem dX9_advance_105 : decode cX9_advance 105 = .ok (.ifCond .eq 23, 3) := dk_153 0 23 (dk_at dksX9_advance_4 14 rfl rfl)
theorem dX9_advance_108 : decode cX9_advance 108 = .ok (.aload_n 0, 1) := dk_42 (dk_at dksX9_advance_4 17 rfl rfl)
theorem dX9_advance_109 : decode cX9_advance 109 = .ok (.aload_n 0, 1) := dk_42 (dk_at dksX9_advance_4 18 rfl rfl)
theorem dX9_advance_110 : decode cX9_advance 110 = .ok (.invokevirtual 275, 3) := dk_182 1 19 (dk_at dksX9_advance_4 19 rfl rfl)
theorem dX9_advance_113 : decode cX9_advance 113 = .ok (.iconst 5, 1) := dk_8 (dk_at dksX9_advance_4 22 rfl rfl)
theorem dX9_advance_114 : decode cX9_advance 114 = .ok (.if_icmp .ge 7, 3) := dk_162 0 7 (dk_at dksX9_advance_5 0 rfl rfl)
theorem dX9_advance_117 : decode cX9_advance 117 = .ok (.iconst 4, 1) := dk_7 (dk_at dksX9_advance_5 3 rfl rfl)
theorem dX9_advance_118 : decode cX9_advance 118 = .ok (.goto 4, 3) := dk_167 0 4 (dk_at dksX9_advance_5 4 rfl rfl)
theorem dX9_advance_121 : decode cX9_advance 121 = .ok (.iconst 1, 1) := dk_4 (dk_at dksX9_advance_5 7 rfl rfl)
theorem dX9_advance_122 : decode cX9_advance 122 = .ok (.putfield 269, 3) := dk_181 1 13 (dk_at dksX9_advance_5 8 rfl rfl)
theorem dX9_advance_125 : decode cX9_advance 125 = .ok (.goto 48, 3) := dk_167 0 48 (dk_at dksX9_advance_5 11 rfl rfl)
theorem dX9_advance_128 : decode cX9_advance 128 = .ok (.aload_n 0, 1) := dk_42 (dk_at dksX9_advance_5 14 rfl rfl)
theorem dX9_advance_129 : decode cX9_advance 129 = .ok (.aload_n 0, 1) := dk_42 (dk_at dksX9_advance_5 15 rfl rfl)
theorem dX9_advance_130 : decode cX9_advance 130 = .ok (.aload_n 0, 1) := dk_42 (dk_at dksX9_advance_5 16 rfl rfl)
theorem dX9_advance_131 : decode cX9_advance 131 = .ok (.getfield 253, 3) := dk_180 0 253 (dk_at dksX9_advance_5 17 rfl rfl)
theorem dX9_advance_134 : decode cX9_advance 134 = .ok (.invokevirtual 246, 3) := dk_182 0 246 (dk_at dksX9_advance_5 20 rfl rfl)
theorem dX9_advance_137 : decode cX9_advance 137 = .ok (.invokestatic 285, 3) := dk_184 1 29 (dk_at dksX9_advance_6 0 rfl rfl)
theorem dX9_advance_140 : decode cX9_advance 140 = .ok (.ifCond .eq 7, 3) := dk_153 0 7 (dk_at dksX9_advance_6 3 rfl rfl)
theorem dX9_advance_143 : decode cX9_advance 143 = .ok (.iconst 5, 1) := dk_8 (dk_at dksX9_advance_6 6 rfl rfl)
theorem dX9_advance_144 : decode cX9_advance 144 = .ok (.goto 4, 3) := dk_167 0 4 (dk_at dksX9_advance_6 7 rfl rfl)
theorem dX9_advance_147 : decode cX9_advance 147 = .ok (.iconst 1, 1) := dk_4 (dk_at dksX9_advance_6 10 rfl rfl)
theorem dX9_advance_148 : decode cX9_advance 148 = .ok (.putfield 269, 3) := dk_181 1 13 (dk_at dksX9_advance_6 11 rfl rfl)
theorem dX9_advance_151 : decode cX9_advance 151 = .ok (.aload_n 0, 1) := dk_42 (dk_at dksX9_advance_6 14 rfl rfl)
theorem dX9_advance_152 : decode cX9_advance 152 = .ok (.aload_n 0, 1) := dk_42 (dk_at dksX9_advance_6 15 rfl rfl)
theorem dX9_advance_153 : decode cX9_advance 153 = .ok (.aload_n 0, 1) := dk_42 (dk_at dksX9_advance_6 16 rfl rfl)
theorem dX9_advance_154 : decode cX9_advance 154 = .ok (.getfield 253, 3) := dk_180 0 253 (dk_at dksX9_advance_6 17 rfl rfl)
theorem dX9_advance_157 : decode cX9_advance 157 = .ok (.invokevirtual 246, 3) := dk_182 0 246 (dk_at dksX9_advance_6 20 rfl rfl)
theorem dX9_advance_160 : decode cX9_advance 160 = .ok (.putfield 272, 3) := dk_181 1 16 (dk_at dksX9_advance_7 0 rfl rfl)
theorem dX9_advance_163 : decode cX9_advance 163 = .ok (.aload_n 0, 1) := dk_42 (dk_at dksX9_advance_7 3 rfl rfl)
theorem dX9_advance_164 : decode cX9_advance 164 = .ok (.dup, 1) := dk_89 (dk_at dksX9_advance_7 4 rfl rfl)
theorem dX9_advance_165 : decode cX9_advance 165 = .ok (.getfield 253, 3) := dk_180 0 253 (dk_at dksX9_advance_7 5 rfl rfl)
theorem dX9_advance_168 : decode cX9_advance 168 = .ok (.iconst 1, 1) := dk_4 (dk_at dksX9_advance_7 8 rfl rfl)
theorem dX9_advance_169 : decode cX9_advance 169 = .ok (.iadd, 1) := dk_96 (dk_at dksX9_advance_7 9 rfl rfl)
theorem dX9_advance_170 : decode cX9_advance 170 = .ok (.putfield 253, 3) := dk_181 0 253 (dk_at dksX9_advance_7 10 rfl rfl)
theorem dX9_advance_173 : decode cX9_advance 173 = .ok (.return_, 1) := dk_177 (dk_at dksX9_advance_7 13 rfl rfl)
theorem okX9_advance_0 : XOkL xms rX9_advance bX9_advance_0 := xcP (xok_aload_n dX9_advance_0 rfl) rfl (xcP (xok_getfield (ref := "WaysAtlasModel") (Or.inl ⟨rfl, by decide⟩) dX9_advance_1 (Or.inl ⟨q1932, (Or.inl rfl)⟩) xh39) rfl (xcP (xok_aload_n dX9_advance_4 rfl) rfl (xcP (xok_getfield (ref := "WaysAtlasModel") (Or.inl ⟨rfl, by decide⟩) dX9_advance_5 (Or.inl ⟨q1931, (Or.inl rfl)⟩) xh38) rfl (xcP (xok_icmpge dX9_advance_8 (by decide)) rfl (xcP (xok_aload_n dX9_advance_11 rfl) rfl (xcP (xok_getfield (ref := "WaysAtlasModel") (Or.inr ⟨rfl, by decide⟩) dX9_advance_12 (Or.inl ⟨q1930, (Or.inl rfl)⟩) xh1058) rfl (xcP (xok_aload_n dX9_advance_15 rfl) rfl (xcP (xok_getfield (ref := "WaysAtlasModel") (Or.inl ⟨rfl, by decide⟩) dX9_advance_16 (Or.inl ⟨q1932, (Or.inl rfl)⟩) xh39) rfl (xcP (xok_baload dX9_advance_19) rfl (xcP (xok_bipush dX9_advance_20 rfl) rfl (xcP (xok_icmpeq dX9_advance_22 (by decide)) rfl (xcP (xok_aload_n dX9_advance_25 rfl) rfl (xcP (xok_getfield (ref := "WaysAtlasModel") (Or.inr ⟨rfl, by decide⟩) dX9_advance_26 (Or.inl ⟨q1930, (Or.inl rfl)⟩) xh1058) rfl (xcP (xok_aload_n dX9_advance_29 rfl) rfl (xcP (xok_getfield (ref := "WaysAtlasModel") (Or.inl ⟨rfl, by decide⟩) dX9_advance_30 (Or.inl ⟨q1932, (Or.inl rfl)⟩) xh39) rfl (xcP (xok_baload dX9_advance_33) rfl (xcP (xok_bipush dX9_advance_34 rfl) rfl (xcP (xok_icmpne dX9_advance_36 (by decide)) rfl (xcP xok_fal rfl trivial)))))))))))))))))))
theorem okX9_advance_39 : XOkL xms rX9_advance bX9_advance_39 := xcP (xok_aload_n dX9_advance_39 rfl) rfl (xcP (xok_dup dX9_advance_40) rfl (xcP (xok_getfield (ref := "WaysAtlasModel") (Or.inl ⟨rfl, by decide⟩) dX9_advance_41 (Or.inl ⟨q1932, (Or.inl rfl)⟩) xh39) rfl (xcP (xok_iconst dX9_advance_44 rfl) rfl (xcP (xok_iadd dX9_advance_45) rfl (xcP (xok_putfield (ref := "WaysAtlasModel") (Or.inl ⟨rfl, by decide, rfl⟩) dX9_advance_46 (Or.inl ⟨q1932, (Or.inl rfl)⟩) (Or.inl rfl) xh39) rfl (xcP (xok_goto dX9_advance_49 (by decide)) rfl trivial))))))
theorem okX9_advance_52 : XOkL xms rX9_advance bX9_advance_52 := xcP (xok_aload_n dX9_advance_52 rfl) rfl (xcP (xok_aload_n dX9_advance_53 rfl) rfl (xcP (xok_getfield (ref := "WaysAtlasModel") (Or.inl ⟨rfl, by decide⟩) dX9_advance_54 (Or.inl ⟨q1932, (Or.inl rfl)⟩) xh39) rfl (xcP (xok_putfield (ref := "WaysAtlasModel") (Or.inl ⟨rfl, by decide, rfl⟩) dX9_advance_57 (Or.inl ⟨q1934, (Or.inl rfl)⟩) (Or.inl rfl) xh41) rfl (xcP (xok_aload_n dX9_advance_60 rfl) rfl (xcP (xok_getfield (ref := "WaysAtlasModel") (Or.inl ⟨rfl, by decide⟩) dX9_advance_61 (Or.inl ⟨q1932, (Or.inl rfl)⟩) xh39) rfl (xcP (xok_aload_n dX9_advance_64 rfl) rfl (xcP (xok_getfield (ref := "WaysAtlasModel") (Or.inl ⟨rfl, by decide⟩) dX9_advance_65 (Or.inl ⟨q1931, (Or.inl rfl)⟩) xh38) rfl (xcP (xok_icmplt dX9_advance_68 (by decide)) rfl (xcP (xok_aload_n dX9_advance_71 rfl) rfl (xcP (xok_iconst dX9_advance_72 rfl) rfl (xcP (xok_putfield (ref := "WaysAtlasModel") (Or.inl ⟨rfl, by decide, rfl⟩) dX9_advance_73 (Or.inl ⟨q1933, (Or.inl rfl)⟩) (Or.inl rfl) xh40) rfl (xcP (xok_goto dX9_advance_76 (by decide)) rfl trivial))))))))))))
theorem okX9_advance_79 : XOkL xms rX9_advance bX9_advance_79 := xcP (xok_aload_n dX9_advance_79 rfl) rfl (xcP (xok_aload_n dX9_advance_80 rfl) rfl (xcP (xok_getfield (ref := "WaysAtlasModel") (Or.inl ⟨rfl, by decide⟩) dX9_advance_81 (Or.inl ⟨q1932, (Or.inl rfl)⟩) xh39) rfl (xcC0 (xokc_list (List.forall_mem_cons.mpr ⟨xokc_V (r := (RX9, TX9, 96)) xm103 (List.mem_of_getElem? (i := 9) rfl) (by decide) rfl dX9_advance_84 q2239 q2241 qs54 q149 q2242 (by decide +kernel), fun _ h => nomatch h⟩)) rfl (xcP (xok_ifeq dX9_advance_87 (by decide)) rfl (xcP (xok_aload_n dX9_advance_90 rfl) rfl (xcC0 (xokc_list (List.forall_mem_cons.mpr ⟨xokc_V (r := (RX9, TX9, 96)) xm105 (List.mem_of_getElem? (i := 9) rfl) (by decide) rfl dX9_advance_91 q2247 q2249 qs56 q149 q2250 (by decide +kernel), fun _ h => nomatch h⟩)) rfl (xcP (xok_goto dX9_advance_94 (by decide)) rfl trivial)))))))
theorem okX9_advance_97 : XOkL xms rX9_advance bX9_advance_97 := xcP (xok_aload_n dX9_advance_97 rfl) rfl (xcP (xok_aload_n dX9_advance_98 rfl) rfl (xcP (xok_getfield (ref := "WaysAtlasModel") (Or.inl ⟨rfl, by decide⟩) dX9_advance_99 (Or.inl ⟨q1932, (Or.inl rfl)⟩) xh39) rfl (xcC0 (xokc_list (List.forall_mem_cons.mpr ⟨xokc_V (r := (RX9, TX9, 96)) xm106 (List.mem_of_getElem? (i := 9) rfl) (by decide) rfl dX9_advance_102 q2254 q2256 qs57 q149 q2257 (by decide +kernel), fun _ h => nomatch h⟩)) rfl (xcP (xok_ifeq dX9_advance_105 (by decide)) rfl (xcP (xok_aload_n dX9_advance_108 rfl) rfl (xcP (xok_aload_n dX9_advance_109 rfl) rfl (xcC0 (xokc_list (List.forall_mem_cons.mpr ⟨xokc_V (r := (RX9, TX9, 96)) xm107 (List.mem_of_getElem? (i := 9) rfl) (by decide) rfl dX9_advance_110 q2258 q2260 qs58 q149 q2261 (by decide +kernel), fun _ h => nomatch h⟩)) rfl (xcP (xok_iconst dX9_advance_113 rfl) rfl (xcP (xok_icmpge dX9_advance_114 (by decide)) rfl (xcP (xok_iconst dX9_advance_117 rfl) rfl (xcP (xok_goto dX9_advance_118 (by decide)) rfl trivial)))))))))))
theorem okX9_advance_121 : XOkL xms rX9_advance bX9_advance_121 := xcP (xok_iconst dX9_advance_121 rfl) rfl (xcP xok_fal rfl trivial)
theorem okX9_advance_122 : XOkL xms rX9_advance bX9_advance_122 := xcP (xok_putfield (ref := "WaysAtlasModel") (Or.inl ⟨rfl, by decide, rfl⟩) dX9_advance_122 (Or.inl ⟨q1933, (Or.inl rfl)⟩) (Or.inl rfl) xh40) rfl (xcP (xok_goto dX9_advance_125 (by decide)) rfl trivial)
theorem okX9_advance_128 : XOkL xms rX9_advance bX9_advance_128 := xcP (xok_aload_n dX9_advance_128 rfl) rfl (xcP (xok_aload_n dX9_advance_129 rfl) rfl (xcP (xok_aload_n dX9_advance_130 rfl) rfl (xcP (xok_getfield (ref := "WaysAtlasModel") (Or.inl ⟨rfl, by decide⟩) dX9_advance_131 (Or.inl ⟨q1932, (Or.inl rfl)⟩) xh39) rfl (xcC0 (xokc_list (List.forall_mem_cons.mpr ⟨xokc_V (r := (RX9, TX9, 96)) xm104 (List.mem_of_getElem? (i := 9) rfl) (by decide) rfl dX9_advance_134 q2243 q2245 qs55 q149 q2246 (by decide +kernel), fun _ h => nomatch h⟩)) rfl (xcC0 (xokc_S xm108 rfl dX9_advance_137 q2262 q2263 q149 q2264 (by decide +kernel)) rfl (xcP (xok_ifeq dX9_advance_140 (by decide)) rfl (xcP (xok_iconst dX9_advance_143 rfl) rfl (xcP (xok_goto dX9_advance_144 (by decide)) rfl trivial))))))))
theorem okX9_advance_147 : XOkL xms rX9_advance bX9_advance_147 := xcP (xok_iconst dX9_advance_147 rfl) rfl (xcP xok_fal rfl trivial)
theorem okX9_advance_148 : XOkL xms rX9_advance bX9_advance_148 := xcP (xok_putfield (ref := "WaysAtlasModel") (Or.inl ⟨rfl, by decide, rfl⟩) dX9_advance_148 (Or.inl ⟨q1933, (Or.inl rfl)⟩) (Or.inl rfl) xh40) rfl (xcP (xok_aload_n dX9_advance_151 rfl) rfl (xcP (xok_aload_n dX9_advance_152 rfl) rfl (xcP (xok_aload_n dX9_advance_153 rfl) rfl (xcP (xok_getfield (ref := "WaysAtlasModel") (Or.inl ⟨rfl, by decide⟩) dX9_advance_154 (Or.inl ⟨q1932, (Or.inl rfl)⟩) xh39) rfl (xcC0 (xokc_list (List.forall_mem_cons.mpr ⟨xokc_V (r := (RX9, TX9, 96)) xm104 (List.mem_of_getElem? (i := 9) rfl) (by decide) rfl dX9_advance_157 q2243 q2245 qs55 q149 q2246 (by decide +kernel), fun _ h => nomatch h⟩)) rfl (xcP (xok_putfield (ref := "WaysAtlasModel") (Or.inl ⟨rfl, by decide, rfl⟩) dX9_advance_160 (Or.inl ⟨q1935, (Or.inl rfl)⟩) (Or.inl rfl) xh42) rfl (xcP (xok_aload_n dX9_advance_163 rfl) rfl (xcP (xok_dup dX9_advance_164) rfl (xcP (xok_getfield (ref := "WaysAtlasModel") (Or.inl ⟨rfl, by decide⟩) dX9_advance_165 (Or.inl ⟨q1932, (Or.inl rfl)⟩) xh39) rfl (xcP (xok_iconst dX9_advance_168 rfl) rfl (xcP (xok_iadd dX9_advance_169) rfl (xcP (xok_putfield (ref := "WaysAtlasModel") (Or.inl ⟨rfl, by decide, rfl⟩) dX9_advance_170 (Or.inl ⟨q1932, (Or.inl rfl)⟩) (Or.inl rfl) xh39) rfl (xcP xok_fal rfl trivial)))))))))))))
theorem okX9_advance_173 : XOkL xms rX9_advance bX9_advance_173 := xcR ⟨dX9_advance_173, rfl⟩
theorem okM_X9_advance : XOkM xms rX9_advance := xokM0 (List.forall_mem_cons.mpr ⟨⟨rfl, okX9_advance_0⟩, List.forall_mem_cons.mpr ⟨⟨rfl, okX9_advance_39⟩, List.forall_mem_cons.mpr ⟨⟨rfl, okX9_advance_52⟩, List.forall_mem_cons.mpr ⟨⟨rfl, okX9_advance_79⟩, List.forall_mem_cons.mpr ⟨⟨rfl, okX9_advance_97⟩, List.forall_mem_cons.mpr ⟨⟨rfl, okX9_advance_121⟩, List.forall_mem_cons.mpr ⟨⟨rfl, okX9_advance_122⟩, List.forall_mem_cons.mpr ⟨⟨rfl, okX9_advance_128⟩, List.forall_mem_cons.mpr ⟨⟨rfl, okX9_advance_147⟩, List.forall_mem_cons.mpr ⟨⟨rfl, okX9_advance_148⟩, List.forall_mem_cons.mpr ⟨⟨rfl, okX9_advance_173⟩, fun _ h => nomatch h⟩⟩⟩⟩⟩⟩⟩⟩⟩⟩⟩) (xokH0 rfl (fun _ _ => rfl)) (by decide +kernel) (by decide)
abbrev cX9_isLetter : ByteArray := prog_36_method_6_code
def dkwX9_isLetter_0 : List UInt8 := [42, 27, 182, 0, 246, 16, 97, 16, 122, 184, 0, 239, 172]
abbrev dktX9_isLetter_0 : List UInt8 := dkwX9_isLetter_0 ++ []
theorem dksX9_isLetter_0 : cX9_isLetter.data.toList.drop 0 = dktX9_isLetter_0 := by decide +kernel
theorem dX9_isLetter_0 : decode cX9_isLetter 0 = .ok (.aload_n 0, 1) := dk_42 (dk_at dksX9_isLetter_0 0 rfl rfl)
theorem dX9_isLetter_1 : decode cX9_isLetter 1 = .ok (.iload_n 1, 1) := dk_27 (dk_at dksX9_isLetter_0 1 rfl rfl)
theorem dX9_isLetter_2 : decode cX9_isLetter 2 = .ok (.invokevirtual 246, 3) := dk_182 0 246 (dk_at dksX9_isLetter_0 2 rfl rfl)
theorem dX9_isLetter_5 : decode cX9_isLetter 5 = .ok (.bipush 97, 2) := dk_16 97 (dk_at dksX9_isLetter_0 5 rfl rfl)
theorem dX9_isLetter_7 : decode cX9_isLetter 7 = .ok (.bipush 122, 2) := dk_16 122 (dk_at dksX9_isLetter_0 7 rfl rfl)
theorem dX9_isLetter_9 : decode cX9_isLetter 9 = .ok (.invokestatic 239, 3) := dk_184 0 239 (dk_at dksX9_isLetter_0 9 rfl rfl)
theorem dX9_isLetter_12 : decode cX9_isLetter 12 = .ok (.ireturn, 1) := dk_172 (dk_at dksX9_isLetter_0 12 rfl rfl)
theorem okX9_isLetter_0 : XOkL xms rX9_isLetter bX9_isLetter_0 := xcP (xok_aload_n dX9_isLetter_0 rfl) rfl (xcP (xok_iload_n dX9_isLetter_1 rfl) rfl (xcC0 (xokc_list (List.forall_mem_cons.mpr ⟨xokc_V (r := (RX9, TX9, 96)) xm104 (List.mem_of_getElem? (i := 9) rfl) (by decide) rfl dX9_isLetter_2 q2243 q2245 qs55 q149 q2246 (by decide +kernel), fun _ h => nomatch h⟩)) rfl (xcP (xok_bipush dX9_isLetter_5 rfl) rfl (xcP (xok_bipush dX9_isLetter_7 rfl) rfl (xcC0 (xokc_S xm99 rfl dX9_isLetter_9 q2224 q2225 q149 q2226 (by decide +kernel)) rfl (xcR ⟨dX9_isLetter_12, rfl⟩))))))
theorem okM_X9_isLetter : XOkM xms rX9_isLetter := xokM0 (List.forall_mem_cons.mpr ⟨⟨rfl, okX9_isLetter_0⟩, fun _ h => nomatch h⟩) (xokH0 rfl (fun _ _ => rfl)) (by decide +kernel) (by decide)
abbrev cX9_byteAt : ByteArray := prog_36_method_5_code
def dkwX9_byteAt_0 : List UInt8 := [27, 42, 180, 0, 243, 162, 0, 16, 42, 180, 0, 55, 27, 51, 17, 0, 255, 126, 167, 0, 4, 3, 172]
abbrev dktX9_byteAt_0 : List UInt8 := dkwX9_byteAt_0 ++ []
theorem dksX9_byteAt_0 : cX9_byteAt.data.toList.drop 0 = dktX9_byteAt_0 := by decide +kernel
theorem dX9_byteAt_0 : decode cX9_byteAt 0 = .ok (.iload_n 1, 1) := dk_27 (dk_at dksX9_byteAt_0 0 rfl rfl)
theorem dX9_byteAt_1 : decode cX9_byteAt 1 = .ok (.aload_n 0, 1) := dk_42 (dk_at dksX9_byteAt_0 1 rfl rfl)
theorem dX9_byteAt_2 : decode cX9_byteAt 2 = .ok (.getfield 243, 3) := dk_180 0 243 (dk_at dksX9_byteAt_0 2 rfl rfl)
theorem dX9_byteAt_5 : decode cX9_byteAt 5 = .ok (.if_icmp .ge 16, 3) := dk_162 0 16 (dk_at dksX9_byteAt_0 5 rfl rfl)
theorem dX9_byteAt_8 : decode cX9_byteAt 8 = .ok (.aload_n 0, 1) := dk_42 (dk_at dksX9_byteAt_0 8 rfl rfl)
theorem dX9_byteAt_9 : decode cX9_byteAt 9 = .ok (.getfield 55, 3) := dk_180 0 55 (dk_at dksX9_byteAt_0 9 rfl rfl)
theorem dX9_byteAt_12 : decode cX9_byteAt 12 = .ok (.iload_n 1, 1) := dk_27 (dk_at dksX9_byteAt_0 12 rfl rfl)
theorem dX9_byteAt_13 : decode cX9_byteAt 13 = .ok (.baload, 1) := dk_51 (dk_at dksX9_byteAt_0 13 rfl rfl)
theorem dX9_byteAt_14 : decode cX9_byteAt 14 = .ok (.sipush 255, 3) := dk_17 0 255 (dk_at dksX9_byteAt_0 14 rfl rfl)
theorem dX9_byteAt_17 : decode cX9_byteAt 17 = .ok (.iand, 1) := dk_126 (dk_at dksX9_byteAt_0 17 rfl rfl)
theorem dX9_byteAt_18 : decode cX9_byteAt 18 = .ok (.goto 4, 3) := dk_167 0 4 (dk_at dksX9_byteAt_0 18 rfl rfl)
theorem dX9_byteAt_21 : decode cX9_byteAt 21 = .ok (.iconst 0, 1) := dk_3 (dk_at dksX9_byteAt_0 21 rfl rfl)
theorem dX9_byteAt_22 : decode cX9_byteAt 22 = .ok (.ireturn, 1) := dk_172 (dk_at dksX9_byteAt_0 22 rfl rfl)
theorem okX9_byteAt_0 : XOkL xms rX9_byteAt bX9_byteAt_0 := xcP (xok_iload_n dX9_byteAt_0 rfl) rfl (xcP (xok_aload_n dX9_byteAt_1 rfl) rfl (xcP (xok_getfield (ref := "WaysAtlasModel") (Or.inl ⟨rfl, by decide⟩) dX9_byteAt_2 (Or.inl ⟨q1931, (Or.inl rfl)⟩) xh38) rfl (xcP (xok_icmpge dX9_byteAt_5 (by decide)) rfl (xcP (xok_aload_n dX9_byteAt_8 rfl) rfl (xcP (xok_getfield (ref := "WaysAtlasModel") (Or.inr ⟨rfl, by decide⟩) dX9_byteAt_9 (Or.inl ⟨q1930, (Or.inl rfl)⟩) xh1058) rfl (xcP (xok_iload_n dX9_byteAt_12 rfl) rfl (xcP (xok_baload dX9_byteAt_13) rfl (xcP (xok_sipush dX9_byteAt_14 rfl) rfl (xcP (xok_iand dX9_byteAt_17) rfl (xcP (xok_goto dX9_byteAt_18 (by decide)) rfl trivial))))))))))
theorem okX9_byteAt_21 : XOkL xms rX9_byteAt bX9_byteAt_21 := xcP (xok_iconst dX9_byteAt_21 rfl) rfl (xcP xok_fal rfl trivial)
theorem okX9_byteAt_22 : XOkL xms rX9_byteAt bX9_byteAt_22 := xcR ⟨dX9_byteAt_22, rfl⟩
theorem okM_X9_byteAt : XOkM xms rX9_byteAt := xokM0 (List.forall_mem_cons.mpr ⟨⟨rfl, okX9_byteAt_0⟩, List.forall_mem_cons.mpr ⟨⟨rfl, okX9_byteAt_21⟩, List.forall_mem_cons.mpr ⟨⟨rfl, okX9_byteAt_22⟩, fun _ h => nomatch h⟩⟩⟩) (xokH0 rfl (fun _ _ => rfl)) (by decide +kernel) (by decide)
abbrev cX9_wordOrName : ByteArray := prog_36_method_9_code
def dkwX9_wordOrName_8 : List UInt8 := [21, 6, 6, 162, 0, 7, 6, 167, 0, 4, 4, 181, 1, 13, 42, 27, 181, 1, 16, 177]
abbrev dktX9_wordOrName_8 : List UInt8 := dkwX9_wordOrName_8 ++ []
def dkwX9_wordOrName_7 : List UInt8 := [16, 114, 160, 0, 7, 4, 167, 0, 4, 3, 54, 5, 42, 182, 1, 19, 54, 6, 42, 21, 5, 153, 0, 13]
abbrev dktX9_wordOrName_7 : List UInt8 := dkwX9_wordOrName_7 ++ dktX9_wordOrName_8
def dkwX9_wordOrName_6 : List UInt8 := [4, 160, 0, 31, 27, 16, 107, 159, 0, 21, 27, 16, 109, 159, 0, 15, 27, 16, 118, 159, 0, 9, 27]
abbrev dktX9_wordOrName_6 : List UInt8 := dkwX9_wordOrName_6 ++ dktX9_wordOrName_7
def dkwX9_wordOrName_5 : List UInt8 := [154, 0, 8, 21, 5, 167, 0, 7, 42, 180, 1, 16, 181, 1, 16, 132, 5, 1, 167, 255, 221, 177, 21, 4]
abbrev dktX9_wordOrName_5 : List UInt8 := dkwX9_wordOrName_5 ++ dktX9_wordOrName_6
def dkwX9_wordOrName_4 : List UInt8 := [181, 1, 16, 3, 54, 5, 21, 5, 16, 21, 162, 0, 34, 42, 42, 180, 0, 49, 21, 5, 47, 32, 148]
abbrev dktX9_wordOrName_4 : List UInt8 := dkwX9_wordOrName_4 ++ dktX9_wordOrName_5
def dkwX9_wordOrName_3 : List UInt8 := [181, 0, 253, 167, 255, 199, 42, 42, 180, 0, 253, 182, 1, 0, 154, 0, 55, 42, 5, 181, 1, 13, 42, 2]
abbrev dktX9_wordOrName_3 : List UInt8 := dkwX9_wordOrName_3 ++ dktX9_wordOrName_4
def dkwX9_wordOrName_2 : List UInt8 := [97, 20, 1, 9, 101, 167, 0, 6, 20, 1, 11, 65, 132, 4, 1, 42, 89, 180, 0, 253, 4, 96]
abbrev dktX9_wordOrName_2 : List UInt8 := dkwX9_wordOrName_2 ++ dktX9_wordOrName_3
def dkwX9_wordOrName_1 : List UInt8 := [153, 0, 52, 21, 4, 16, 12, 162, 0, 25, 32, 20, 1, 7, 105, 42, 42, 180, 0, 253, 182, 0, 246, 133]
abbrev dktX9_wordOrName_1 : List UInt8 := dkwX9_wordOrName_1 ++ dktX9_wordOrName_2
def dkwX9_wordOrName_0 : List UInt8 := [42, 42, 180, 0, 253, 182, 0, 246, 60, 9, 65, 3, 54, 4, 42, 42, 180, 0, 253, 182, 1, 4]
abbrev dktX9_wordOrName_0 : List UInt8 := dkwX9_wordOrName_0 ++ dktX9_wordOrName_1
theorem dksX9_wordOrName_0 : cX9_wordOrName.data.toList.drop 0 = dktX9_wordOrName_0 := by decide +kernel
theorem dksX9_wordOrName_1 : cX9_wordOrName.data.toList.drop 22 = dktX9_wordOrName_1 := dk_seg dksX9_wordOrName_0 22 rfl rfl
theorem dksX9_wordOrName_2 : cX9_wordOrName.data.toList.drop 46 = dktX9_wordOrName_2 := dk_seg dksX9_wordOrName_1 24 rfl rfl
theorem dksX9_wordOrName_3 : cX9_wordOrName.data.toList.drop 68 = dktX9_wordOrName_3 := dk_seg dksX9_wordOrName_2 22 rfl rfl
theorem dksX9_wordOrName_4 : cX9_wordOrName.data.toList.drop 92 = dktX9_wordOrName_4 := dk_seg dksX9_wordOrName_3 24 rfl rfl
theorem dksX9_wordOrName_5 : cX9_wordOrName.data.toList.drop 115 = dktX9_wordOrName_5 := dk_seg dksX9_wordOrName_4 23 rfl rfl
theorem dksX9_wordOrName_6 : cX9_wordOrName.data.toList.drop 139 = dktX9_wordOrName_6 := dk_seg dksX9_wordOrName_5 24 rfl rfl
theorem dksX9_wordOrName_7 : cX9_wordOrName.data.toList.drop 162 = dktX9_wordOrName_7 := dk_seg dksX9_wordOrName_6 23 rfl rfl
theorem dksX9_wordOrName_8 : cX9_wordOrName.data.toList.drop 186 = dktX9_wordOrName_8 := dk_seg dksX9_wordOrName_7 24 rfl rfl
theorem dX9_wordOrName_0 : decode cX9_wordOrName 0 = .ok (.aload_n 0, 1) := dk_42 (dk_at dksX9_wordOrName_0 0 rfl rfl)
theorem dX9_wordOrName_1 : decode cX9_wordOrName 1 = .ok (.aload_n 0, 1) := dk_42 (dk_at dksX9_wordOrName_0 1 rfl rfl)
theorem dX9_wordOrName_2 : decode cX9_wordOrName 2 = .ok (.getfield 253, 3) := dk_180 0 253 (dk_at dksX9_wordOrName_0 2 rfl rfl)
theorem dX9_wordOrName_5 : decode cX9_wordOrName 5 = .ok (.invokevirtual 246, 3) := dk_182 0 246 (dk_at dksX9_wordOrName_0 5 rfl rfl)
theorem dX9_wordOrName_8 : decode cX9_wordOrName 8 = .ok (.istore_n 1, 1) := dk_60 (dk_at dksX9_wordOrName_0 8 rfl rfl)
theorem dX9_wordOrName_9 : decode cX9_wordOrName 9 = .ok (.lconst 0, 1) := dk_9 (dk_at dksX9_wordOrName_0 9 rfl rfl)
theorem dX9_wordOrName_10 : decode cX9_wordOrName 10 = .ok (.lstore_n 2, 1) := dk_65 (dk_at dksX9_wordOrName_0 10 rfl rfl)
theorem dX9_wordOrName_11 : decode cX9_wordOrName 11 = .ok (.iconst 0, 1) := dk_3 (dk_at dksX9_wordOrName_0 11 rfl rfl)
theorem dX9_wordOrName_12 : decode cX9_wordOrName 12 = .ok (.istore 4, 2) := dk_54 4 (dk_at dksX9_wordOrName_0 12 rfl rfl)
theorem dX9_wordOrName_14 : decode cX9_wordOrName 14 = .ok (.aload_n 0, 1) := dk_42 (dk_at dksX9_wordOrName_0 14 rfl rfl)
theorem dX9_wordOrName_15 : decode cX9_wordOrName 15 = .ok (.aload_n 0, 1) := dk_42 (dk_at dksX9_wordOrName_0 15 rfl rfl)
theorem dX9_wordOrName_16 : decode cX9_wordOrName 16 = .ok (.getfield 253, 3) := dk_180 0 253 (dk_at dksX9_wordOrName_0 16 rfl rfl)
theorem dX9_wordOrName_19 : decode cX9_wordOrName 19 = .ok (.invokevirtual 260, 3) := dk_182 1 4 (dk_at dksX9_wordOrName_0 19 rfl rfl)
theorem dX9_wordOrName_22 : decode cX9_wordOrName 22 = .ok (.ifCond .eq 52, 3) := dk_153 0 52 (dk_at dksX9_wordOrName_1 0 rfl rfl)
theorem dX9_wordOrName_25 : decode cX9_wordOrName 25 = .ok (.iload 4, 2) := dk_21 4 (dk_at dksX9_wordOrName_1 3 rfl rfl)
theorem dX9_wordOrName_27 : decode cX9_wordOrName 27 = .ok (.bipush 12, 2) := dk_16 12 (dk_at dksX9_wordOrName_1 5 rfl rfl)
theorem dX9_wordOrName_29 : decode cX9_wordOrName 29 = .ok (.if_icmp .ge 25, 3) := dk_162 0 25 (dk_at dksX9_wordOrName_1 7 rfl rfl)
theorem dX9_wordOrName_32 : decode cX9_wordOrName 32 = .ok (.lload_n 2, 1) := dk_32 (dk_at dksX9_wordOrName_1 10 rfl rfl)
theorem dX9_wordOrName_33 : decode cX9_wordOrName 33 = .ok (.ldc2_w 263, 3) := dk_20 1 7 (dk_at dksX9_wordOrName_1 11 rfl rfl)
theorem dX9_wordOrName_36 : decode cX9_wordOrName 36 = .ok (.lmul, 1) := dk_105 (dk_at dksX9_wordOrName_1 14 rfl rfl)
theorem dX9_wordOrName_37 : decode cX9_wordOrName 37 = .ok (.aload_n 0, 1) := dk_42 (dk_at dksX9_wordOrName_1 15 rfl rfl)
theorem dX9_wordOrName_38 : decode cX9_wordOrName 38 = .ok (.aload_n 0, 1) := dk_42 (dk_at dksX9_wordOrName_1 16 rfl rfl)
theorem dX9_wordOrName_39 : decode cX9_wordOrName 39 = .ok (.getfield 253, 3) := dk_180 0 253 (dk_at dksX9_wordOrName_1 17 rfl rfl)
theorem dX9_wordOrName_42 : decode cX9_wordOrName 42 = .ok (.invokevirtual 246, 3) := dk_182 0 246 (dk_at dksX9_wordOrName_1 20 rfl rfl)
theorem dX9_wordOrName_45 : decode cX9_wordOrName 45 = .ok (.i2l, 1) := dk_133 (dk_at dksX9_wordOrName_1 23 rfl rfl)
theorem dX9_wordOrName_46 : decode cX9_wordOrName 46 = .ok (.ladd, 1) := dk_97 (dk_at dksX9_wordOrName_2 0 rfl rfl)
theorem dX9_wordOrName_47 : decode cX9_wordOrName 47 = .ok (.ldc2_w 265, 3) := dk_20 1 9 (dk_at dksX9_wordOrName_2 1 rfl rfl)
theorem dX9_wordOrName_50 : decode cX9_wordOrName 50 = .ok (.lsub, 1) := dk_101 (dk_at dksX9_wordOrName_2 4 rfl rfl)
theorem dX9_wordOrName_51 : decode cX9_wordOrName 51 = .ok (.goto 6, 3) := dk_167 0 6 (dk_at dksX9_wordOrName_2 5 rfl rfl)
theorem dX9_wordOrName_54 : decode cX9_wordOrName 54 = .ok (.ldc2_w 267, 3) := dk_20 1 11 (dk_at dksX9_wordOrName_2 8 rfl rfl)
theorem dX9_wordOrName_57 : decode cX9_wordOrName 57 = .ok (.lstore_n 2, 1) := dk_65 (dk_at dksX9_wordOrName_2 11 rfl rfl)
theorem dX9_wordOrName_58 : decode cX9_wordOrName 58 = .ok (.iinc 4 1, 3) := dk_132 4 1 (dk_at dksX9_wordOrName_2 12 rfl rfl)
theorem dX9_wordOrName_61 : decode cX9_wordOrName 61 = .ok (.aload_n 0, 1) := dk_42 (dk_at dksX9_wordOrName_2 15 rfl rfl)
theorem dX9_wordOrName_62 : decode cX9_wordOrName 62 = .ok (.dup, 1) := dk_89 (dk_at dksX9_wordOrName_2 16 rfl rfl)
theorem dX9_wordOrName_63 : decode cX9_wordOrName 63 = .ok (.getfield 253, 3) := dk_180 0 253 (dk_at dksX9_wordOrName_2 17 rfl rfl)
theorem dX9_wordOrName_66 : decode cX9_wordOrName 66 = .ok (.iconst 1, 1) := dk_4 (dk_at dksX9_wordOrName_2 20 rfl rfl)
theorem dX9_wordOrName_67 : decode cX9_wordOrName 67 = .ok (.iadd, 1) := dk_96 (dk_at dksX9_wordOrName_2 21 rfl rfl)
theorem dX9_wordOrName_68 : decode cX9_wordOrName 68 = .ok (.putfield 253, 3) := dk_181 0 253 (dk_at dksX9_wordOrName_3 0 rfl rfl)
theorem dX9_wordOrName_71 : decode cX9_wordOrName 71 = .ok (.goto (-57), 3) := dk_167 255 199 (dk_at dksX9_wordOrName_3 3 rfl rfl)
theorem dX9_wordOrName_74 : decode cX9_wordOrName 74 = .ok (.aload_n 0, 1) := dk_42 (dk_at dksX9_wordOrName_3 6 rfl rfl)
theorem dX9_wordOrName_75 : decode cX9_wordOrName 75 = .ok (.aload_n 0, 1) := dk_42 (dk_at dksX9_wordOrName_3 7 rfl rfl)
theorem dX9_wordOrName_76 : decode cX9_wordOrName 76 = .ok (.getfield 253, 3) := dk_180 0 253 (dk_at dksX9_wordOrName_3 8 rfl rfl)
theorem dX9_wordOrName_79 : decode cX9_wordOrName 79 = .ok (.invokevirtual 256, 3) := dk_182 1 0 (dk_at dksX9_wordOrName_3 11 rfl rfl)
theorem dX9_wordOrName_82 : decode cX9_wordOrName 82 = .ok (.ifCond .ne 55, 3) := dk_154 0 55 (dk_at dksX9_wordOrName_3 14 rfl rfl)
theorem dX9_wordOrName_85 : decode cX9_wordOrName 85 = .ok (.aload_n 0, 1) := dk_42 (dk_at dksX9_wordOrName_3 17 rfl rfl)
theorem dX9_wordOrName_86 : decode cX9_wordOrName 86 = .ok (.iconst 2, 1) := dk_5 (dk_at dksX9_wordOrName_3 18 rfl rfl)
theorem dX9_wordOrName_87 : decode cX9_wordOrName 87 = .ok (.putfield 269, 3) := dk_181 1 13 (dk_at dksX9_wordOrName_3 19 rfl rfl)
theorem dX9_wordOrName_90 : decode cX9_wordOrName 90 = .ok (.aload_n 0, 1) := dk_42 (dk_at dksX9_wordOrName_3 22 rfl rfl)
theorem dX9_wordOrName_91 : decode cX9_wordOrName 91 = .ok (.iconst (-1), 1) := dk_2 (dk_at dksX9_wordOrName_3 23 rfl rfl)
theorem dX9_wordOrName_92 : decode cX9_wordOrName 92 = .ok (.putfield 272, 3) := dk_181 1 16 (dk_at dksX9_wordOrName_4 0 rfl rfl)
theorem dX9_wordOrName_95 : decode cX9_wordOrName 95 = .ok (.iconst 0, 1) := dk_3 (dk_at dksX9_wordOrName_4 3 rfl rfl)
theorem dX9_wordOrName_96 : decode cX9_wordOrName 96 = .ok (.istore 5, 2) := dk_54 5 (dk_at dksX9_wordOrName_4 4 rfl rfl)
theorem dX9_wordOrName_98 : decode cX9_wordOrName 98 = .ok (.iload 5, 2) := dk_21 5 (dk_at dksX9_wordOrName_4 6 rfl rfl)
theorem dX9_wordOrName_100 : decode cX9_wordOrName 100 = .ok (.bipush 21, 2) := dk_16 21 (dk_at dksX9_wordOrName_4 8 rfl rfl)
theorem dX9_wordOrName_102 : decode cX9_wordOrName 102 = .ok (.if_icmp .ge 34, 3) := dk_162 0 34 (dk_at dksX9_wordOrName_4 10 rfl rfl)
theorem dX9_wordOrName_105 : decode cX9_wordOrName 105 = .ok (.aload_n 0, 1) := dk_42 (dk_at dksX9_wordOrName_4 13 rfl rfl)
theorem dX9_wordOrName_106 : decode cX9_wordOrName 106 = .ok (.aload_n 0, 1) := dk_42 (dk_at dksX9_wordOrName_4 14 rfl rfl)
theorem dX9_wordOrName_107 : decode cX9_wordOrName 107 = .ok (.getfield 49, 3) := dk_180 0 49 (dk_at dksX9_wordOrName_4 15 rfl rfl)
theorem dX9_wordOrName_110 : decode cX9_wordOrName 110 = .ok (.iload 5, 2) := dk_21 5 (dk_at dksX9_wordOrName_4 18 rfl rfl)
theorem dX9_wordOrName_112 : decode cX9_wordOrName 112 = .ok (.laload, 1) := dk_47 (dk_at dksX9_wordOrName_4 20 rfl rfl)
theorem dX9_wordOrName_113 : decode cX9_wordOrName 113 = .ok (.lload_n 2, 1) := dk_32 (dk_at dksX9_wordOrName_4 21 rfl rfl)
theorem dX9_wordOrName_114 : decode cX9_wordOrName 114 = .ok (.lcmp, 1) := dk_148 (dk_at dksX9_wordOrName_4 22 rfl rfl)
theorem dX9_wordOrName_115 : decode cX9_wordOrName 115 = .ok (.ifCond .ne 8, 3) := dk_154 0 8 (dk_at dksX9_wordOrName_5 0 rfl rfl)
theorem dX9_wordOrName_118 : decode cX9_wordOrName 118 = .ok (.iload 5, 2) := dk_21 5 (dk_at dksX9_wordOrName_5 3 rfl rfl)
theorem dX9_wordOrName_120 : decode cX9_wordOrName 120 = .ok (.goto 7, 3) := dk_167 0 7 (dk_at dksX9_wordOrName_5 5 rfl rfl)
theorem dX9_wordOrName_123 : decode cX9_wordOrName 123 = .ok (.aload_n 0, 1) := dk_42 (dk_at dksX9_wordOrName_5 8 rfl rfl)
theorem dX9_wordOrName_124 : decode cX9_wordOrName 124 = .ok (.getfield 272, 3) := dk_180 1 16 (dk_at dksX9_wordOrName_5 9 rfl rfl)
theorem dX9_wordOrName_127 : decode cX9_wordOrName 127 = .ok (.putfield 272, 3) := dk_181 1 16 (dk_at dksX9_wordOrName_5 12 rfl rfl)
theorem dX9_wordOrName_130 : decode cX9_wordOrName 130 = .ok (.iinc 5 1, 3) := dk_132 5 1 (dk_at dksX9_wordOrName_5 15 rfl rfl)
theorem dX9_wordOrName_133 : decode cX9_wordOrName 133 = .ok (.goto (-35), 3) := dk_167 255 221 (dk_at dksX9_wordOrName_5 18 rfl rfl)
theorem dX9_wordOrName_136 : decode cX9_wordOrName 136 = .ok (.return_, 1) := dk_177 (dk_at dksX9_wordOrName_5 21 rfl rfl)
theorem dX9_wordOrName_137 : decode cX9_wordOrName 137 = .ok (.iload 4, 2) := dk_21 4 (dk_at dksX9_wordOrName_5 22 rfl rfl)
theorem dX9_wordOrName_139 : decode cX9_wordOrName 139 = .ok (.iconst 1, 1) := dk_4 (dk_at dksX9_wordOrName_6 0 rfl rfl)
theorem dX9_wordOrName_140 : decode cX9_wordOrName 140 = .ok (.if_icmp .ne 31, 3) := dk_160 0 31 (dk_at dksX9_wordOrName_6 1 rfl rfl)
theorem dX9_wordOrName_143 : decode cX9_wordOrName 143 = .ok (.iload_n 1, 1) := dk_27 (dk_at dksX9_wordOrName_6 4 rfl rfl)
theorem dX9_wordOrName_144 : decode cX9_wordOrName 144 = .ok (.bipush 107, 2) := dk_16 107 (dk_at dksX9_wordOrName_6 5 rfl rfl)
theorem dX9_wordOrName_146 : decode cX9_wordOrName 146 = .ok (.if_icmp .eq 21, 3) := dk_159 0 21 (dk_at dksX9_wordOrName_6 7 rfl rfl)
theorem dX9_wordOrName_149 : decode cX9_wordOrName 149 = .ok (.iload_n 1, 1) := dk_27 (dk_at dksX9_wordOrName_6 10 rfl rfl)
theorem dX9_wordOrName_150 : decode cX9_wordOrName 150 = .ok (.bipush 109, 2) := dk_16 109 (dk_at dksX9_wordOrName_6 11 rfl rfl)
theorem dX9_wordOrName_152 : decode cX9_wordOrName 152 = .ok (.if_icmp .eq 15, 3) := dk_159 0 15 (dk_at dksX9_wordOrName_6 13 rfl rfl)
theorem dX9_wordOrName_155 : decode cX9_wordOrName 155 = .ok (.iload_n 1, 1) := dk_27 (dk_at dksX9_wordOrName_6 16 rfl rfl)
theorem dX9_wordOrName_156 : decode cX9_wordOrName 156 = .ok (.bipush 118, 2) := dk_16 118 (dk_at dksX9_wordOrName_6 17 rfl rfl)
theorem dX9_wordOrName_158 : decode cX9_wordOrName 158 = .ok (.if_icmp .eq 9, 3) := dk_159 0 9 (dk_at dksX9_wordOrName_6 19 rfl rfl)
theorem dX9_wordOrName_161 : decode cX9_wordOrName 161 = .ok (.iload_n 1, 1) := dk_27 (dk_at dksX9_wordOrName_6 22 rfl rfl)
theorem dX9_wordOrName_162 : decode cX9_wordOrName 162 = .ok (.bipush 114, 2) := dk_16 114 (dk_at dksX9_wordOrName_7 0 rfl rfl)
theorem dX9_wordOrName_164 : decode cX9_wordOrName 164 = .ok (.if_icmp .ne 7, 3) := dk_160 0 7 (dk_at dksX9_wordOrName_7 2 rfl rfl)
theorem dX9_wordOrName_167 : decode cX9_wordOrName 167 = .ok (.iconst 1, 1) := dk_4 (dk_at dksX9_wordOrName_7 5 rfl rfl)
theorem dX9_wordOrName_168 : decode cX9_wordOrName 168 = .ok (.goto 4, 3) := dk_167 0 4 (dk_at dksX9_wordOrName_7 6 rfl rfl)
theorem dX9_wordOrName_171 : decode cX9_wordOrName 171 = .ok (.iconst 0, 1) := dk_3 (dk_at dksX9_wordOrName_7 9 rfl rfl)
theorem dX9_wordOrName_172 : decode cX9_wordOrName 172 = .ok (.istore 5, 2) := dk_54 5 (dk_at dksX9_wordOrName_7 10 rfl rfl)
theorem dX9_wordOrName_174 : decode cX9_wordOrName 174 = .ok (.aload_n 0, 1) := dk_42 (dk_at dksX9_wordOrName_7 12 rfl rfl)
theorem dX9_wordOrName_175 : decode cX9_wordOrName 175 = .ok (.invokevirtual 275, 3) := dk_182 1 19 (dk_at dksX9_wordOrName_7 13 rfl rfl)
theorem dX9_wordOrName_178 : decode cX9_wordOrName 178 = .ok (.istore 6, 2) := dk_54 6 (dk_at dksX9_wordOrName_7 16 rfl rfl)
theorem dX9_wordOrName_180 : decode cX9_wordOrName 180 = .ok (.aload_n 0, 1) := dk_42 (dk_at dksX9_wordOrName_7 18 rfl rfl)
theorem dX9_wordOrName_181 : decode cX9_wordOrName 181 = .ok (.iload 5, 2) := dk_21 5 (dk_at dksX9_wordOrName_7 19 rfl rfl)
theorem dX9_wordOrName_183 : decode cX9_wordOrName 183 = .ok (.ifCond .eq 13, 3) := dk_153 0 13 (dk_at dksX9_wordOrName_7 21 rfl rfl)
theorem dX9_wordOrName_186 : decode cX9_wordOrName 186 = .ok (.iload 6, 2) := dk_21 6 (dk_at dksX9_wordOrName_8 0 rfl rfl)
theorem dX9_wordOrName_188 : decode cX9_wordOrName 188 = .ok (.iconst 3, 1) := dk_6 (dk_at dksX9_wordOrName_8 2 rfl rfl)
theorem dX9_wordOrName_189 : decode cX9_wordOrName 189 = .ok (.if_icmp .ge 7, 3) := dk_162 0 7 (dk_at dksX9_wordOrName_8 3 rfl rfl)
theorem dX9_wordOrName_192 : decode cX9_wordOrName 192 = .ok (.iconst 3, 1) := dk_6 (dk_at dksX9_wordOrName_8 6 rfl rfl)
theorem dX9_wordOrName_193 : decode cX9_wordOrName 193 = .ok (.goto 4, 3) := dk_167 0 4 (dk_at dksX9_wordOrName_8 7 rfl rfl)
theorem dX9_wordOrName_196 : decode cX9_wordOrName 196 = .ok (.iconst 1, 1) := dk_4 (dk_at dksX9_wordOrName_8 10 rfl rfl)
theorem dX9_wordOrName_197 : decode cX9_wordOrName 197 = .ok (.putfield 269, 3) := dk_181 1 13 (dk_at dksX9_wordOrName_8 11 rfl rfl)
theorem dX9_wordOrName_200 : decode cX9_wordOrName 200 = .ok (.aload_n 0, 1) := dk_42 (dk_at dksX9_wordOrName_8 14 rfl rfl)
theorem dX9_wordOrName_201 : decode cX9_wordOrName 201 = .ok (.iload_n 1, 1) := dk_27 (dk_at dksX9_wordOrName_8 15 rfl rfl)
theorem dX9_wordOrName_202 : decode cX9_wordOrName 202 = .ok (.putfield 272, 3) := dk_181 1 16 (dk_at dksX9_wordOrName_8 16 rfl rfl)
theorem dX9_wordOrName_205 : decode cX9_wordOrName 205 = .ok (.return_, 1) := dk_177 (dk_at dksX9_wordOrName_8 19 rfl rfl)
theorem okX9_wordOrName_0 : XOkL xms rX9_wordOrName bX9_wordOrName_0 := xcP (xok_aload_n dX9_wordOrName_0 rfl) rfl (xcP (xok_aload_n dX9_wordOrName_1 rfl) rfl (xcP (xok_getfield (ref := "WaysAtlasModel") (Or.inl ⟨rfl, by decide⟩) dX9_wordOrName_2 (Or.inl ⟨q1932, (Or.inl rfl)⟩) xh39) rfl (xcC0 (xokc_list (List.forall_mem_cons.mpr ⟨xokc_V (r := (RX9, TX9, 96)) xm104 (List.mem_of_getElem? (i := 9) rfl) (by decide) rfl dX9_wordOrName_5 q2243 q2245 qs55 q149 q2246 (by decide +kernel), fun _ h => nomatch h⟩)) rfl (xcP (xok_istore_n dX9_wordOrName_8 rfl) rfl (xcP (xok_lconst dX9_wordOrName_9 rfl) rfl (xcP (xok_lstore_n dX9_wordOrName_10 rfl) rfl (xcP (xok_iconst dX9_wordOrName_11 rfl) rfl (xcP (xok_istore dX9_wordOrName_12) rfl (xcP xok_fal rfl trivial)))))))))
theorem okX9_wordOrName_14 : XOkL xms rX9_wordOrName bX9_wordOrName_14 := xcP (xok_aload_n dX9_wordOrName_14 rfl) rfl (xcP (xok_aload_n dX9_wordOrName_15 rfl) rfl (xcP (xok_getfield (ref := "WaysAtlasModel") (Or.inl ⟨rfl, by decide⟩) dX9_wordOrName_16 (Or.inl ⟨q1932, (Or.inl rfl)⟩) xh39) rfl (xcC0 (xokc_list (List.forall_mem_cons.mpr ⟨xokc_V (r := (RX9, TX9, 96)) xm103 (List.mem_of_getElem? (i := 9) rfl) (by decide) rfl dX9_wordOrName_19 q2239 q2241 qs54 q149 q2242 (by decide +kernel), fun _ h => nomatch h⟩)) rfl (xcP (xok_ifeq dX9_wordOrName_22 (by decide)) rfl (xcP (xok_iload dX9_wordOrName_25) rfl (xcP (xok_bipush dX9_wordOrName_27 rfl) rfl (xcP (xok_icmpge dX9_wordOrName_29 (by decide)) rfl (xcP (xok_lload_n dX9_wordOrName_32 rfl) rfl (xcP (xok_ldc2 dX9_wordOrName_33 q2251) rfl (xcP (xok_lmul dX9_wordOrName_36) rfl (xcP (xok_aload_n dX9_wordOrName_37 rfl) rfl (xcP (xok_aload_n dX9_wordOrName_38 rfl) rfl (xcP (xok_getfield (ref := "WaysAtlasModel") (Or.inl ⟨rfl, by decide⟩) dX9_wordOrName_39 (Or.inl ⟨q1932, (Or.inl rfl)⟩) xh39) rfl (xcC0 (xokc_list (List.forall_mem_cons.mpr ⟨xokc_V (r := (RX9, TX9, 96)) xm104 (List.mem_of_getElem? (i := 9) rfl) (by decide) rfl dX9_wordOrName_42 q2243 q2245 qs55 q149 q2246 (by decide +kernel), fun _ h => nomatch h⟩)) rfl (xcP (xok_i2l dX9_wordOrName_45) rfl (xcP (xok_ladd dX9_wordOrName_46) rfl (xcP (xok_ldc2 dX9_wordOrName_47 q2252) rfl (xcP (xok_lsub dX9_wordOrName_50) rfl (xcP (xok_goto dX9_wordOrName_51 (by decide)) rfl trivial)))))))))))))))))))
theorem okX9_wordOrName_54 : XOkL xms rX9_wordOrName bX9_wordOrName_54 := xcP (xok_ldc2 dX9_wordOrName_54 q2253) rfl (xcP xok_fal rfl trivial)
theorem okX9_wordOrName_57 : XOkL xms rX9_wordOrName bX9_wordOrName_57 := xcP (xok_lstore_n dX9_wordOrName_57 rfl) rfl (xcP (xok_iinc dX9_wordOrName_58 rfl) rfl (xcP (xok_aload_n dX9_wordOrName_61 rfl) rfl (xcP (xok_dup dX9_wordOrName_62) rfl (xcP (xok_getfield (ref := "WaysAtlasModel") (Or.inl ⟨rfl, by decide⟩) dX9_wordOrName_63 (Or.inl ⟨q1932, (Or.inl rfl)⟩) xh39) rfl (xcP (xok_iconst dX9_wordOrName_66 rfl) rfl (xcP (xok_iadd dX9_wordOrName_67) rfl (xcP (xok_putfield (ref := "WaysAtlasModel") (Or.inl ⟨rfl, by decide, rfl⟩) dX9_wordOrName_68 (Or.inl ⟨q1932, (Or.inl rfl)⟩) (Or.inl rfl) xh39) rfl (xcP (xok_goto dX9_wordOrName_71 (by decide)) rfl trivial))))))))
theorem okX9_wordOrName_74 : XOkL xms rX9_wordOrName bX9_wordOrName_74 := xcP (xok_aload_n dX9_wordOrName_74 rfl) rfl (xcP (xok_aload_n dX9_wordOrName_75 rfl) rfl (xcP (xok_getfield (ref := "WaysAtlasModel") (Or.inl ⟨rfl, by decide⟩) dX9_wordOrName_76 (Or.inl ⟨q1932, (Or.inl rfl)⟩) xh39) rfl (xcC0 (xokc_list (List.forall_mem_cons.mpr ⟨xokc_V (r := (RX9, TX9, 96)) xm106 (List.mem_of_getElem? (i := 9) rfl) (by decide) rfl dX9_wordOrName_79 q2254 q2256 qs57 q149 q2257 (by decide +kernel), fun _ h => nomatch h⟩)) rfl (xcP (xok_ifne dX9_wordOrName_82 (by decide)) rfl (xcP (xok_aload_n dX9_wordOrName_85 rfl) rfl (xcP (xok_iconst dX9_wordOrName_86 rfl) rfl (xcP (xok_putfield (ref := "WaysAtlasModel") (Or.inl ⟨rfl, by decide, rfl⟩) dX9_wordOrName_87 (Or.inl ⟨q1933, (Or.inl rfl)⟩) (Or.inl rfl) xh40) rfl (xcP (xok_aload_n dX9_wordOrName_90 rfl) rfl (xcP (xok_iconst dX9_wordOrName_91 rfl) rfl (xcP (xok_putfield (ref := "WaysAtlasModel") (Or.inl ⟨rfl, by decide, rfl⟩) dX9_wordOrName_92 (Or.inl ⟨q1935, (Or.inl rfl)⟩) (Or.inl rfl) xh42) rfl (xcP (xok_iconst dX9_wordOrName_95 rfl) rfl (xcP (xok_istore dX9_wordOrName_96) rfl (xcP xok_fal rfl trivial)))))))))))))
theorem okX9_wordOrName_98 : XOkL xms rX9_wordOrName bX9_wordOrName_98 := xcP (xok_iload dX9_wordOrName_98) rfl (xcP (xok_bipush dX9_wordOrName_100 rfl) rfl (xcP (xok_icmpge dX9_wordOrName_102 (by decide)) rfl (xcP (xok_aload_n dX9_wordOrName_105 rfl) rfl (xcP (xok_aload_n dX9_wordOrName_106 rfl) rfl (xcP (xok_getfield (ref := "WaysAtlasModel") (Or.inr ⟨rfl, by decide⟩) dX9_wordOrName_107 (Or.inl ⟨q1929, (Or.inl rfl)⟩) xh1057) rfl (xcP (xok_iload dX9_wordOrName_110) rfl (xcP (xok_laload dX9_wordOrName_112) rfl (xcP (xok_lload_n dX9_wordOrName_113 rfl) rfl (xcP (xok_lcmp dX9_wordOrName_114) rfl (xcP (xok_ifne dX9_wordOrName_115 (by decide)) rfl (xcP (xok_iload dX9_wordOrName_118) rfl (xcP (xok_goto dX9_wordOrName_120 (by decide)) rfl trivial))))))))))))
theorem okX9_wordOrName_123 : XOkL xms rX9_wordOrName bX9_wordOrName_123 := xcP (xok_aload_n dX9_wordOrName_123 rfl) rfl (xcP (xok_getfield (ref := "WaysAtlasModel") (Or.inl ⟨rfl, by decide⟩) dX9_wordOrName_124 (Or.inl ⟨q1935, (Or.inl rfl)⟩) xh42) rfl (xcP xok_fal rfl trivial))
theorem okX9_wordOrName_127 : XOkL xms rX9_wordOrName bX9_wordOrName_127 := xcP (xok_putfield (ref := "WaysAtlasModel") (Or.inl ⟨rfl, by decide, rfl⟩) dX9_wordOrName_127 (Or.inl ⟨q1935, (Or.inl rfl)⟩) (Or.inl rfl) xh42) rfl (xcP (xok_iinc dX9_wordOrName_130 rfl) rfl (xcP (xok_goto dX9_wordOrName_133 (by decide)) rfl trivial))
theorem okX9_wordOrName_136 : XOkL xms rX9_wordOrName bX9_wordOrName_136 := xcR ⟨dX9_wordOrName_136, rfl⟩
theorem okX9_wordOrName_137 : XOkL xms rX9_wordOrName bX9_wordOrName_137 := xcP (xok_iload dX9_wordOrName_137) rfl (xcP (xok_iconst dX9_wordOrName_139 rfl) rfl (xcP (xok_icmpne dX9_wordOrName_140 (by decide)) rfl (xcP (xok_iload_n dX9_wordOrName_143 rfl) rfl (xcP (xok_bipush dX9_wordOrName_144 rfl) rfl (xcP (xok_icmpeq dX9_wordOrName_146 (by decide)) rfl (xcP (xok_iload_n dX9_wordOrName_149 rfl) rfl (xcP (xok_bipush dX9_wordOrName_150 rfl) rfl (xcP (xok_icmpeq dX9_wordOrName_152 (by decide)) rfl (xcP (xok_iload_n dX9_wordOrName_155 rfl) rfl (xcP (xok_bipush dX9_wordOrName_156 rfl) rfl (xcP (xok_icmpeq dX9_wordOrName_158 (by decide)) rfl (xcP (xok_iload_n dX9_wordOrName_161 rfl) rfl (xcP (xok_bipush dX9_wordOrName_162 rfl) rfl (xcP (xok_icmpne dX9_wordOrName_164 (by decide)) rfl (xcP xok_fal rfl trivial)))))))))))))))
theorem okX9_wordOrName_167 : XOkL xms rX9_wordOrName bX9_wordOrName_167 := xcP (xok_iconst dX9_wordOrName_167 rfl) rfl (xcP (xok_goto dX9_wordOrName_168 (by decide)) rfl trivial)
theorem okX9_wordOrName_171 : XOkL xms rX9_wordOrName bX9_wordOrName_171 := xcP (xok_iconst dX9_wordOrName_171 rfl) rfl (xcP xok_fal rfl trivial)
theorem okX9_wordOrName_172 : XOkL xms rX9_wordOrName bX9_wordOrName_172 := xcP (xok_istore dX9_wordOrName_172) rfl (xcP (xok_aload_n dX9_wordOrName_174 rfl) rfl (xcC0 (xokc_list (List.forall_mem_cons.mpr ⟨xokc_V (r := (RX9, TX9, 96)) xm107 (List.mem_of_getElem? (i := 9) rfl) (by decide) rfl dX9_wordOrName_175 q2258 q2260 qs58 q149 q2261 (by decide +kernel), fun _ h => nomatch h⟩)) rfl (xcP (xok_istore dX9_wordOrName_178) rfl (xcP (xok_aload_n dX9_wordOrName_180 rfl) rfl (xcP (xok_iload dX9_wordOrName_181) rfl (xcP (xok_ifeq dX9_wordOrName_183 (by decide)) rfl (xcP (xok_iload dX9_wordOrName_186) rfl (xcP (xok_iconst dX9_wordOrName_188 rfl) rfl (xcP (xok_icmpge dX9_wordOrName_189 (by decide)) rfl (xcP (xok_iconst dX9_wordOrName_192 rfl) rfl (xcP (xok_goto dX9_wordOrName_193 (by decide)) rfl trivial)))))))))))
theorem okX9_wordOrName_196 : XOkL xms rX9_wordOrName bX9_wordOrName_196 := xcP (xok_iconst dX9_wordOrName_196 rfl) rfl (xcP xok_fal rfl trivial)
theorem okX9_wordOrName_197 : XOkL xms rX9_wordOrName bX9_wordOrName_197 := xcP (xok_putfield (ref := "WaysAtlasModel") (Or.inl ⟨rfl, by decide, rfl⟩) dX9_wordOrName_197 (Or.inl ⟨q1933, (Or.inl rfl)⟩) (Or.inl rfl) xh40) rfl (xcP (xok_aload_n dX9_wordOrName_200 rfl) rfl (xcP (xok_iload_n dX9_wordOrName_201 rfl) rfl (xcP (xok_putfield (ref := "WaysAtlasModel") (Or.inl ⟨rfl, by decide, rfl⟩) dX9_wordOrName_202 (Or.inl ⟨q1935, (Or.inl rfl)⟩) (Or.inl rfl) xh42) rfl (xcR ⟨dX9_wordOrName_205, rfl⟩))))
theorem okM_X9_wordOrName : XOkM xms rX9_wordOrName := xokM0 (List.forall_mem_cons.mpr ⟨⟨rfl, okX9_wordOrName_0⟩, List.forall_mem_cons.mpr ⟨⟨rfl, okX9_wordOrName_14⟩, List.forall_mem_cons.mpr ⟨⟨rfl, okX9_wordOrName_54⟩, List.forall_mem_cons.mpr ⟨⟨rfl, okX9_wordOrName_57⟩, List.forall_mem_cons.mpr ⟨⟨rfl, okX9_wordOrName_74⟩, List.forall_mem_cons.mpr ⟨⟨rfl, okX9_wordOrName_98⟩, List.forall_mem_cons.mpr ⟨⟨rfl, okX9_wordOrName_123⟩, List.forall_mem_cons.mpr ⟨⟨rfl, okX9_wordOrName_127⟩, List.forall_mem_cons.mpr ⟨⟨rfl, okX9_wordOrName_136⟩, List.forall_mem_cons.mpr ⟨⟨rfl, okX9_wordOrName_137⟩, List.forall_mem_cons.mpr ⟨⟨rfl, okX9_wordOrName_167⟩, List.forall_mem_cons.mpr ⟨⟨rfl, okX9_wordOrName_171⟩, List.forall_mem_cons.mpr ⟨⟨rfl, okX9_wordOrName_172⟩, List.forall_mem_cons.mpr ⟨⟨rfl, okX9_wordOrName_196⟩, List.forall_mem_cons.mpr ⟨⟨rfl, okX9_wordOrName_197⟩, fun _ h => nomatch h⟩⟩⟩⟩⟩⟩⟩⟩⟩⟩⟩⟩⟩⟩⟩) (xokH0 rfl (fun _ _ => rfl)) (by decide +kernel) (by decide)
abbrev cX9_isDigit : ByteArray := prog_36_method_7_code
def dkwX9_isDigit_0 : List UInt8 := [42, 27, 182, 0, 246, 16, 48, 16, 57, 184, 0, 239, 172]
abbrev dktX9_isDigit_0 : List UInt8 := dkwX9_isDigit_0 ++ []
theorem dksX9_isDigit_0 : cX9_isDigit.data.toList.drop 0 = dktX9_isDigit_0 := by decide +kernel
theorem dX9_isDigit_0 : decode cX9_isDigit 0 = .ok (.aload_n 0, 1) := dk_42 (dk_at dksX9_isDigit_0 0 rfl rfl)
theorem dX9_isDigit_1 : decode cX9_isDigit 1 = .ok (.iload_n 1, 1) := dk_27 (dk_at dksX9_isDigit_0 1 rfl rfl)
theorem dX9_isDigit_2 : decode cX9_isDigit 2 = .ok (.invokevirtual 246, 3) := dk_182 0 246 (dk_at dksX9_isDigit_0 2 rfl rfl)
theorem dX9_isDigit_5 : decode cX9_isDigit 5 = .ok (.bipush 48, 2) := dk_16 48 (dk_at dksX9_isDigit_0 5 rfl rfl)
theorem dX9_isDigit_7 : decode cX9_isDigit 7 = .ok (.bipush 57, 2) := dk_16 57 (dk_at dksX9_isDigit_0 7 rfl rfl)
theorem dX9_isDigit_9 : decode cX9_isDigit 9 = .ok (.invokestatic 239, 3) := dk_184 0 239 (dk_at dksX9_isDigit_0 9 rfl rfl)
theorem dX9_isDigit_12 : decode cX9_isDigit 12 = .ok (.ireturn, 1) := dk_172 (dk_at dksX9_isDigit_0 12 rfl rfl)
theorem okX9_isDigit_0 : XOkL xms rX9_isDigit bX9_isDigit_0 := xcP (xok_aload_n dX9_isDigit_0 rfl) rfl (xcP (xok_iload_n dX9_isDigit_1 rfl) rfl (xcC0 (xokc_list (List.forall_mem_cons.mpr ⟨xokc_V (r := (RX9, TX9, 96)) xm104 (List.mem_of_getElem? (i := 9) rfl) (by decide) rfl dX9_isDigit_2 q2243 q2245 qs55 q149 q2246 (by decide +kernel), fun _ h => nomatch h⟩)) rfl (xcP (xok_bipush dX9_isDigit_5 rfl) rfl (xcP (xok_bipush dX9_isDigit_7 rfl) rfl (xcC0 (xokc_S xm99 rfl dX9_isDigit_9 q2224 q2225 q149 q2226 (by decide +kernel)) rfl (xcR ⟨dX9_isDigit_12, rfl⟩))))))
theorem okM_X9_isDigit : XOkM xms rX9_isDigit := xokM0 (List.forall_mem_cons.mpr ⟨⟨rfl, okX9_isDigit_0⟩, fun _ h => nomatch h⟩) (xokH0 rfl (fun _ _ => rfl)) (by decide +kernel) (by decide)
abbrev cX9_digits : ByteArray := prog_36_method_8_code
def dkwX9_digits_2 : List UInt8 := [180, 0, 250, 181, 0, 250, 132, 1, 1, 42, 89, 180, 0, 253, 4, 96, 181, 0, 253, 167, 255, 197, 27, 172]
abbrev dktX9_digits_2 : List UInt8 := dkwX9_digits_2 ++ []
def dkwX9_digits_1 : List UInt8 := [16, 10, 42, 180, 0, 250, 104, 42, 42, 180, 0, 253, 182, 0, 246, 96, 16, 48, 100, 167, 0, 7, 42]
abbrev dktX9_digits_1 : List UInt8 := dkwX9_digits_1 ++ dktX9_digits_2
def dkwX9_digits_0 : List UInt8 := [3, 60, 42, 3, 181, 0, 250, 42, 42, 180, 0, 253, 182, 1, 0, 153, 0, 54, 42, 27, 7, 162, 0, 25]
abbrev dktX9_digits_0 : List UInt8 := dkwX9_digits_0 ++ dktX9_digits_1
theorem dksX9_digits_0 : cX9_digits.data.toList.drop 0 = dktX9_digits_0 := by decide +kernel
theorem dksX9_digits_1 : cX9_digits.data.toList.drop 24 = dktX9_digits_1 := dk_seg dksX9_digits_0 24 rfl rfl
theorem dksX9_digits_2 : cX9_digits.data.toList.drop 47 = dktX9_digits_2 := dk_seg dksX9_digits_1 23 rfl rfl
theorem dX9_digits_0 : decode cX9_digits 0 = .ok (.iconst 0, 1) := dk_3 (dk_at dksX9_digits_0 0 rfl rfl)
theorem dX9_digits_1 : decode cX9_digits 1 = .ok (.istore_n 1, 1) := dk_60 (dk_at dksX9_digits_0 1 rfl rfl)
theorem dX9_digits_2 : decode cX9_digits 2 = .ok (.aload_n 0, 1) := dk_42 (dk_at dksX9_digits_0 2 rfl rfl)
theorem dX9_digits_3 : decode cX9_digits 3 = .ok (.iconst 0, 1) := dk_3 (dk_at dksX9_digits_0 3 rfl rfl)
theorem dX9_digits_4 : decode cX9_digits 4 = .ok (.putfield 250, 3) := dk_181 0 250 (dk_at dksX9_digits_0 4 rfl rfl)
theorem dX9_digits_7 : decode cX9_digits 7 = .ok (.aload_n 0, 1) := dk_42 (dk_at dksX9_digits_0 7 rfl rfl)
theorem dX9_digits_8 : decode cX9_digits 8 = .ok (.aload_n 0, 1) := dk_42 (dk_at dksX9_digits_0 8 rfl rfl)
theorem dX9_digits_9 : decode cX9_digits 9 = .ok (.getfield 253, 3) := dk_180 0 253 (dk_at dksX9_digits_0 9 rfl rfl)
theorem dX9_digits_12 : decode cX9_digits 12 = .ok (.invokevirtual 256, 3) := dk_182 1 0 (dk_at dksX9_digits_0 12 rfl rfl)
theorem dX9_digits_15 : decode cX9_digits 15 = .ok (.ifCond .eq 54, 3) := dk_153 0 54 (dk_at dksX9_digits_0 15 rfl rfl)
theorem dX9_digits_18 : decode cX9_digits 18 = .ok (.aload_n 0, 1) := dk_42 (dk_at dksX9_digits_0 18 rfl rfl)
theorem dX9_digits_19 : decode cX9_digits 19 = .ok (.iload_n 1, 1) := dk_27 (dk_at dksX9_digits_0 19 rfl rfl)
theorem dX9_digits_20 : decode cX9_digits 20 = .ok (.iconst 4, 1) := dk_7 (dk_at dksX9_digits_0 20 rfl rfl)
theorem dX9_digits_21 : decode cX9_digits 21 = .ok (.if_icmp .ge 25, 3) := dk_162 0 25 (dk_at dksX9_digits_0 21 rfl rfl)
theorem dX9_digits_24 : decode cX9_digits 24 = .ok (.bipush 10, 2) := dk_16 10 (dk_at dksX9_digits_1 0 rfl rfl)
theorem dX9_digits_26 : decode cX9_digits 26 = .ok (.aload_n 0, 1) := dk_42 (dk_at dksX9_digits_1 2 rfl rfl)
theorem dX9_digits_27 : decode cX9_digits 27 = .ok (.getfield 250, 3) := dk_180 0 250 (dk_at dksX9_digits_1 3 rfl rfl)
theorem dX9_digits_30 : decode cX9_digits 30 = .ok (.imul, 1) := dk_104 (dk_at dksX9_digits_1 6 rfl rfl)
theorem dX9_digits_31 : decode cX9_digits 31 = .ok (.aload_n 0, 1) := dk_42 (dk_at dksX9_digits_1 7 rfl rfl)
theorem dX9_digits_32 : decode cX9_digits 32 = .ok (.aload_n 0, 1) := dk_42 (dk_at dksX9_digits_1 8 rfl rfl)
theorem dX9_digits_33 : decode cX9_digits 33 = .ok (.getfield 253, 3) := dk_180 0 253 (dk_at dksX9_digits_1 9 rfl rfl)
theorem dX9_digits_36 : decode cX9_digits 36 = .ok (.invokevirtual 246, 3) := dk_182 0 246 (dk_at dksX9_digits_1 12 rfl rfl)
theorem dX9_digits_39 : decode cX9_digits 39 = .ok (.iadd, 1) := dk_96 (dk_at dksX9_digits_1 15 rfl rfl)
theorem dX9_digits_40 : decode cX9_digits 40 = .ok (.bipush 48, 2) := dk_16 48 (dk_at dksX9_digits_1 16 rfl rfl)
theorem dX9_digits_42 : decode cX9_digits 42 = .ok (.isub, 1) := dk_100 (dk_at dksX9_digits_1 18 rfl rfl)
theorem dX9_digits_43 : decode cX9_digits 43 = .ok (.goto 7, 3) := dk_167 0 7 (dk_at dksX9_digits_1 19 rfl rfl)
theorem dX9_digits_46 : decode cX9_digits 46 = .ok (.aload_n 0, 1) := dk_42 (dk_at dksX9_digits_1 22 rfl rfl)
theorem dX9_digits_47 : decode cX9_digits 47 = .ok (.getfield 250, 3) := dk_180 0 250 (dk_at dksX9_digits_2 0 rfl rfl)
theorem dX9_digits_50 : decode cX9_digits 50 = .ok (.putfield 250, 3) := dk_181 0 250 (dk_at dksX9_digits_2 3 rfl rfl)
theorem dX9_digits_53 : decode cX9_digits 53 = .ok (.iinc 1 1, 3) := dk_132 1 1 (dk_at dksX9_digits_2 6 rfl rfl)
theorem dX9_digits_56 : decode cX9_digits 56 = .ok (.aload_n 0, 1) := dk_42 (dk_at dksX9_digits_2 9 rfl rfl)
theorem dX9_digits_57 : decode cX9_digits 57 = .ok (.dup, 1) := dk_89 (dk_at dksX9_digits_2 10 rfl rfl)
theorem dX9_digits_58 : decode cX9_digits 58 = .ok (.getfield 253, 3) := dk_180 0 253 (dk_at dksX9_digits_2 11 rfl rfl)
theorem dX9_digits_61 : decode cX9_digits 61 = .ok (.iconst 1, 1) := dk_4 (dk_at dksX9_digits_2 14 rfl rfl)
theorem dX9_digits_62 : decode cX9_digits 62 = .ok (.iadd, 1) := dk_96 (dk_at dksX9_digits_2 15 rfl rfl)
theorem dX9_digits_63 : decode cX9_digits 63 = .ok (.putfield 253, 3) := dk_181 0 253 (dk_at dksX9_digits_2 16 rfl rfl)
theorem dX9_digits_66 : decode cX9_digits 66 = .ok (.goto (-59), 3) := dk_167 255 197 (dk_at dksX9_digits_2 19 rfl rfl)
theorem dX9_digits_69 : decode cX9_digits 69 = .ok (.iload_n 1, 1) := dk_27 (dk_at dksX9_digits_2 22 rfl rfl)
theorem dX9_digits_70 : decode cX9_digits 70 = .ok (.ireturn, 1) := dk_172 (dk_at dksX9_digits_2 23 rfl rfl)
theorem okX9_digits_0 : XOkL xms rX9_digits bX9_digits_0 := xcP (xok_iconst dX9_digits_0 rfl) rfl (xcP (xok_istore_n dX9_digits_1 rfl) rfl (xcP (xok_aload_n dX9_digits_2 rfl) rfl (xcP (xok_iconst dX9_digits_3 rfl) rfl (xcP (xok_putfield (ref := "WaysAtlasModel") (Or.inl ⟨rfl, by decide, rfl⟩) dX9_digits_4 (Or.inl ⟨q1936, (Or.inl rfl)⟩) (Or.inl rfl) xh43) rfl (xcP xok_fal rfl trivial)))))
theorem okX9_digits_7 : XOkL xms rX9_digits bX9_digits_7 := xcP (xok_aload_n dX9_digits_7 rfl) rfl (xcP (xok_aload_n dX9_digits_8 rfl) rfl (xcP (xok_getfield (ref := "WaysAtlasModel") (Or.inl ⟨rfl, by decide⟩) dX9_digits_9 (Or.inl ⟨q1932, (Or.inl rfl)⟩) xh39) rfl (xcC0 (xokc_list (List.forall_mem_cons.mpr ⟨xokc_V (r := (RX9, TX9, 96)) xm106 (List.mem_of_getElem? (i := 9) rfl) (by decide) rfl dX9_digits_12 q2254 q2256 qs57 q149 q2257 (by decide +kernel), fun _ h => nomatch h⟩)) rfl (xcP (xok_ifeq dX9_digits_15 (by decide)) rfl (xcP (xok_aload_n dX9_digits_18 rfl) rfl (xcP (xok_iload_n dX9_digits_19 rfl) rfl (xcP (xok_iconst dX9_digits_20 rfl) rfl (xcP (xok_icmpge dX9_digits_21 (by decide)) rfl (xcP (xok_bipush dX9_digits_24 rfl) rfl (xcP (xok_aload_n dX9_digits_26 rfl) rfl (xcP (xok_getfield (ref := "WaysAtlasModel") (Or.inl ⟨rfl, by decide⟩) dX9_digits_27 (Or.inl ⟨q1936, (Or.inl rfl)⟩) xh43) rfl (xcP (xok_imul dX9_digits_30) rfl (xcP (xok_aload_n dX9_digits_31 rfl) rfl (xcP (xok_aload_n dX9_digits_32 rfl) rfl (xcP (xok_getfield (ref := "WaysAtlasModel") (Or.inl ⟨rfl, by decide⟩) dX9_digits_33 (Or.inl ⟨q1932, (Or.inl rfl)⟩) xh39) rfl (xcC0 (xokc_list (List.forall_mem_cons.mpr ⟨xokc_V (r := (RX9, TX9, 96)) xm104 (List.mem_of_getElem? (i := 9) rfl) (by decide) rfl dX9_digits_36 q2243 q2245 qs55 q149 q2246 (by decide +kernel), fun _ h => nomatch h⟩)) rfl (xcP (xok_iadd dX9_digits_39) rfl (xcP (xok_bipush dX9_digits_40 rfl) rfl (xcP (xok_isub dX9_digits_42) rfl (xcP (xok_goto dX9_digits_43 (by decide)) rfl trivial))))))))))))))))))))
theorem okX9_digits_46 : XOkL xms rX9_digits bX9_digits_46 := xcP (xok_aload_n dX9_digits_46 rfl) rfl (xcP (xok_getfield (ref := "WaysAtlasModel") (Or.inl ⟨rfl, by decide⟩) dX9_digits_47 (Or.inl ⟨q1936, (Or.inl rfl)⟩) xh43) rfl (xcP xok_fal rfl trivial))
theorem okX9_digits_50 : XOkL xms rX9_digits bX9_digits_50 := xcP (xok_putfield (ref := "WaysAtlasModel") (Or.inl ⟨rfl, by decide, rfl⟩) dX9_digits_50 (Or.inl ⟨q1936, (Or.inl rfl)⟩) (Or.inl rfl) xh43) rfl (xcP (xok_iinc dX9_digits_53 rfl) rfl (xcP (xok_aload_n dX9_digits_56 rfl) rfl (xcP (xok_dup dX9_digits_57) rfl (xcP (xok_getfield (ref := "WaysAtlasModel") (Or.inl ⟨rfl, by decide⟩) dX9_digits_58 (Or.inl ⟨q1932, (Or.inl rfl)⟩) xh39) rfl (xcP (xok_iconst dX9_digits_61 rfl) rfl (xcP (xok_iadd dX9_digits_62) rfl (xcP (xok_putfield (ref := "WaysAtlasModel") (Or.inl ⟨rfl, by decide, rfl⟩) dX9_digits_63 (Or.inl ⟨q1932, (Or.inl rfl)⟩) (Or.inl rfl) xh39) rfl (xcP (xok_goto dX9_digits_66 (by decide)) rfl trivial))))))))
theorem okX9_digits_69 : XOkL xms rX9_digits bX9_digits_69 := xcP (xok_iload_n dX9_digits_69 rfl) rfl (xcR ⟨dX9_digits_70, rfl⟩)
theorem okM_X9_digits : XOkM xms rX9_digits := xokM0 (List.forall_mem_cons.mpr ⟨⟨rfl, okX9_digits_0⟩, List.forall_mem_cons.mpr ⟨⟨rfl, okX9_digits_7⟩, List.forall_mem_cons.mpr ⟨⟨rfl, okX9_digits_46⟩, List.forall_mem_cons.mpr ⟨⟨rfl, okX9_digits_50⟩, List.forall_mem_cons.mpr ⟨⟨rfl, okX9_digits_69⟩, fun _ h => nomatch h⟩⟩⟩⟩⟩) (xokH0 rfl (fun _ _ => rfl)) (by decide +kernel) (by decide)
abbrev cX9_isSignByte : ByteArray := prog_36_method_10_code
def dkwX9_isSignByte_4 : List UInt8 := [4, 167, 0, 4, 3, 172]
abbrev dktX9_isSignByte_4 : List UInt8 := dkwX9_isSignByte_4 ++ []
def dkwX9_isSignByte_3 : List UInt8 := [26, 16, 60, 159, 0, 21, 26, 16, 62, 159, 0, 15, 26, 16, 44, 159, 0, 9, 26, 16, 59, 160, 0, 7]
abbrev dktX9_isSignByte_3 : List UInt8 := dkwX9_isSignByte_3 ++ dktX9_isSignByte_4
def dkwX9_isSignByte_2 : List UInt8 := [26, 16, 93, 159, 0, 45, 26, 16, 123, 159, 0, 39, 26, 16, 125, 159, 0, 33, 26, 16, 61, 159, 0, 27]
abbrev dktX9_isSignByte_2 : List UInt8 := dkwX9_isSignByte_2 ++ dktX9_isSignByte_3
def dkwX9_isSignByte_1 : List UInt8 := [26, 16, 37, 159, 0, 69, 26, 16, 40, 159, 0, 63, 26, 16, 41, 159, 0, 57, 26, 16, 91, 159, 0, 51]
abbrev dktX9_isSignByte_1 : List UInt8 := dkwX9_isSignByte_1 ++ dktX9_isSignByte_2
def dkwX9_isSignByte_0 : List UInt8 := [26, 16, 43, 159, 0, 93, 26, 16, 45, 159, 0, 87, 26, 16, 42, 159, 0, 81, 26, 16, 47, 159, 0, 75]
abbrev dktX9_isSignByte_0 : List UInt8 := dkwX9_isSignByte_0 ++ dktX9_isSignByte_1
theorem dksX9_isSignByte_0 : cX9_isSignByte.data.toList.drop 0 = dktX9_isSignByte_0 := by decide +kernel
theorem dksX9_isSignByte_1 : cX9_isSignByte.data.toList.drop 24 = dktX9_isSignByte_1 := dk_seg dksX9_isSignByte_0 24 rfl rfl
theorem dksX9_isSignByte_2 : cX9_isSignByte.data.toList.drop 48 = dktX9_isSignByte_2 := dk_seg dksX9_isSignByte_1 24 rfl rfl
theorem dksX9_isSignByte_3 : cX9_isSignByte.data.toList.drop 72 = dktX9_isSignByte_3 := dk_seg dksX9_isSignByte_2 24 rfl rfl
theorem dksX9_isSignByte_4 : cX9_isSignByte.data.toList.drop 96 = dktX9_isSignByte_4 := dk_seg dksX9_isSignByte_3 24 rfl rfl
theorem dX9_isSignByte_0 : decode cX9_isSignByte 0 = .ok (.iload_n 0, 1) := dk_26 (dk_at dksX9_isSignByte_0 0 rfl rfl)
theorem dX9_isSignByte_1 : decode cX9_isSignByte 1 = .ok (.bipush 43, 2) := dk_16 43 (dk_at dksX9_isSignByte_0 1 rfl rfl)
theorem dX9_isSignByte_3 : decode cX9_isSignByte 3 = .ok (.if_icmp .eq 93, 3) := dk_159 0 93 (dk_at dksX9_isSignByte_0 3 rfl rfl)
theorem dX9_isSignByte_6 : decode cX9_isSignByte 6 = .ok (.iload_n 0, 1) := dk_26 (dk_at dksX9_isSignByte_0 6 rfl rfl)
theorem dX9_isSignByte_7 : decode cX9_isSignByte 7 = .ok (.bipush 45, 2) := dk_16 45 (dk_at dksX9_isSignByte_0 7 rfl rfl)
theorem dX9_isSignByte_9 : decode cX9_isSignByte 9 = .ok (.if_icmp .eq 87, 3) := dk_159 0 87 (dk_at dksX9_isSignByte_0 9 rfl rfl)
theorem dX9_isSignByte_12 : decode cX9_isSignByte 12 = .ok (.iload_n 0, 1) := dk_26 (dk_at dksX9_isSignByte_0 12 rfl rfl)
theorem dX9_isSignByte_13 : decode cX9_isSignByte 13 = .ok (.bipush 42, 2) := dk_16 42 (dk_at dksX9_isSignByte_0 13 rfl rfl)
theorem dX9_isSignByte_15 : decode cX9_isSignByte 15 = .ok (.if_icmp .eq 81, 3) := dk_159 0 81 (dk_at dksX9_isSignByte_0 15 rfl rfl)
theorem dX9_isSignByte_18 : decode cX9_isSignByte 18 = .ok (.iload_n 0, 1) := dk_26 (dk_at dksX9_isSignByte_0 18 rfl rfl)
theorem dX9_isSignByte_19 : decode cX9_isSignByte 19 = .ok (.bipush 47, 2) := dk_16 47 (dk_at dksX9_isSignByte_0 19 rfl rfl)
theorem dX9_isSignByte_21 : decode cX9_isSignByte 21 = .ok (.if_icmp .eq 75, 3) := dk_159 0 75 (dk_at dksX9_isSignByte_0 21 rfl rfl)
theorem dX9_isSignByte_24 : decode cX9_isSignByte 24 = .ok (.iload_n 0, 1) := dk_26 (dk_at dksX9_isSignByte_1 0 rfl rfl)
theorem dX9_isSignByte_25 : decode cX9_isSignByte 25 = .ok (.bipush 37, 2) := dk_16 37 (dk_at dksX9_isSignByte_1 1 rfl rfl)
theorem dX9_isSignByte_27 : decode cX9_isSignByte 27 = .ok (.if_icmp .eq 69, 3) := dk_159 0 69 (dk_at dksX9_isSignByte_1 3 rfl rfl)
theorem dX9_isSignByte_30 : decode cX9_isSignByte 30 = .ok (.iload_n 0, 1) := dk_26 (dk_at dksX9_isSignByte_1 6 rfl rfl)
theorem dX9_isSignByte_31 : decode cX9_isSignByte 31 = .ok (.bipush 40, 2) := dk_16 40 (dk_at dksX9_isSignByte_1 7 rfl rfl)
theorem dX9_isSignByte_33 : decode cX9_isSignByte 33 = .ok (.if_icmp .eq 63, 3) := dk_159 0 63 (dk_at dksX9_isSignByte_1 9 rfl rfl)
theorem dX9_isSignByte_36 : decode cX9_isSignByte 36 = .ok (.iload_n 0, 1) := dk_26 (dk_at dksX9_isSignByte_1 12 rfl rfl)
theorem dX9_isSignByte_37 : decode cX9_isSignByte 37 = .ok (.bipush 41, 2) := dk_16 41 (dk_at dksX9_isSignByte_1 13 rfl rfl)
theorem dX9_isSignByte_39 : decode cX9_isSignByte 39 = .ok (.if_icmp .eq 57, 3) := dk_159 0 57 (dk_at dksX9_isSignByte_1 15 rfl rfl)
theorem dX9_isSignByte_42 : decode cX9_isSignByte 42 = .ok (.iload_n 0, 1) := dk_26 (dk_at dksX9_isSignByte_1 18 rfl rfl)
theorem dX9_isSignByte_43 : decode cX9_isSignByte 43 = .ok (.bipush 91, 2) := dk_16 91 (dk_at dksX9_isSignByte_1 19 rfl rfl)
theorem dX9_isSignByte_45 : decode cX9_isSignByte 45 = .ok (.if_icmp .eq 51, 3) := dk_159 0 51 (dk_at dksX9_isSignByte_1 21 rfl rfl)
theorem dX9_isSignByte_48 : decode cX9_isSignByte 48 = .ok (.iload_n 0, 1) := dk_26 (dk_at dksX9_isSignByte_2 0 rfl rfl)
theorem dX9_isSignByte_49 : decode cX9_isSignByte 49 = .ok (.bipush 93, 2) := dk_16 93 (dk_at dksX9_isSignByte_2 1 rfl rfl)
theorem dX9_isSignByte_51 : decode cX9_isSignByte 51 = .ok (.if_icmp .eq 45, 3) := dk_159 0 45 (dk_at dksX9_isSignByte_2 3 rfl rfl)
theorem dX9_isSignByte_54 : decode cX9_isSignByte 54 = .ok (.iload_n 0, 1) := dk_26 (dk_at dksX9_isSignByte_2 6 rfl rfl)
theorem dX9_isSignByte_55 : decode cX9_isSignByte 55 = .ok (.bipush 123, 2) := dk_16 123 (dk_at dksX9_isSignByte_2 7 rfl rfl)
theorem dX9_isSignByte_57 : decode cX9_isSignByte 57 = .ok (.if_icmp .eq 39, 3) := dk_159 0 39 (dk_at dksX9_isSignByte_2 9 rfl rfl)
theorem dX9_isSignByte_60 : decode cX9_isSignByte 60 = .ok (.iload_n 0, 1) := dk_26 (dk_at dksX9_isSignByte_2 12 rfl rfl)
theorem dX9_isSignByte_61 : decode cX9_isSignByte 61 = .ok (.bipush 125, 2) := dk_16 125 (dk_at dksX9_isSignByte_2 13 rfl rfl)
theorem dX9_isSignByte_63 : decode cX9_isSignByte 63 = .ok (.if_icmp .eq 33, 3) := dk_159 0 33 (dk_at dksX9_isSignByte_2 15 rfl rfl)
theorem dX9_isSignByte_66 : decode cX9_isSignByte 66 = .ok (.iload_n 0, 1) := dk_26 (dk_at dksX9_isSignByte_2 18 rfl rfl)
theorem dX9_isSignByte_67 : decode cX9_isSignByte 67 = .ok (.bipush 61, 2) := dk_16 61 (dk_at dksX9_isSignByte_2 19 rfl rfl)
theorem dX9_isSignByte_69 : decode cX9_isSignByte 69 = .ok (.if_icmp .eq 27, 3) := dk_159 0 27 (dk_at dksX9_isSignByte_2 21 rfl rfl)
theorem dX9_isSignByte_72 : decode cX9_isSignByte 72 = .ok (.iload_n 0, 1) := dk_26 (dk_at dksX9_isSignByte_3 0 rfl rfl)
theorem dX9_isSignByte_73 : decode cX9_isSignByte 73 = .ok (.bipush 60, 2) := dk_16 60 (dk_at dksX9_isSignByte_3 1 rfl rfl)
theorem dX9_isSignByte_75 : decode cX9_isSignByte 75 = .ok (.if_icmp .eq 21, 3) := dk_159 0 21 (dk_at dksX9_isSignByte_3 3 rfl rfl)
theorem dX9_isSignByte_78 : decode cX9_isSignByte 78 = .ok (.iload_n 0, 1) := dk_26 (dk_at dksX9_isSignByte_3 6 rfl rfl)
theorem dX9_isSignByte_79 : decode cX9_isSignByte 79 = .ok (.bipush 62, 2) := dk_16 62 (dk_at dksX9_isSignByte_3 7 rfl rfl)
theorem dX9_isSignByte_81 : decode cX9_isSignByte 81 = .ok (.if_icmp .eq 15, 3) := dk_159 0 15 (dk_at dksX9_isSignByte_3 9 rfl rfl)
theorem dX9_isSignByte_84 : decode cX9_isSignByte 84 = .ok (.iload_n 0, 1) := dk_26 (dk_at dksX9_isSignByte_3 12 rfl rfl)
theorem dX9_isSignByte_85 : decode cX9_isSignByte 85 = .ok (.bipush 44, 2) := dk_16 44 (dk_at dksX9_isSignByte_3 13 rfl rfl)
theorem dX9_isSignByte_87 : decode cX9_isSignByte 87 = .ok (.if_icmp .eq 9, 3) := dk_159 0 9 (dk_at dksX9_isSignByte_3 15 rfl rfl)
theorem dX9_isSignByte_90 : decode cX9_isSignByte 90 = .ok (.iload_n 0, 1) := dk_26 (dk_at dksX9_isSignByte_3 18 rfl rfl)
theorem dX9_isSignByte_91 : decode cX9_isSignByte 91 = .ok (.bipush 59, 2) := dk_16 59 (dk_at dksX9_isSignByte_3 19 rfl rfl)
theorem dX9_isSignByte_93 : decode cX9_isSignByte 93 = .ok (.if_icmp .ne 7, 3) := dk_160 0 7 (dk_at dksX9_isSignByte_3 21 rfl rfl)
theorem dX9_isSignByte_96 : decode cX9_isSignByte 96 = .ok (.iconst 1, 1) := dk_4 (dk_at dksX9_isSignByte_4 0 rfl rfl)
theorem dX9_isSignByte_97 : decode cX9_isSignByte 97 = .ok (.goto 4, 3) := dk_167 0 4 (dk_at dksX9_isSignByte_4 1 rfl rfl)
theorem dX9_isSignByte_100 : decode cX9_isSignByte 100 = .ok (.iconst 0, 1) := dk_3 (dk_at dksX9_isSignByte_4 4 rfl rfl)
theorem dX9_isSignByte_101 : decode cX9_isSignByte 101 = .ok (.ireturn, 1) := dk_172 (dk_at dksX9_isSignByte_4 5 rfl rfl)
theorem okX9_isSignByte_0 : XOkL xms rX9_isSignByte bX9_isSignByte_0 := xcP (xok_iload_n dX9_isSignByte_0 rfl) rfl (xcP (xok_bipush dX9_isSignByte_1 rfl) rfl (xcP (xok_icmpeq dX9_isSignByte_3 (by decide)) rfl (xcP (xok_iload_n dX9_isSignByte_6 rfl) rfl (xcP (xok_bipush dX9_isSignByte_7 rfl) rfl (xcP (xok_icmpeq dX9_isSignByte_9 (by decide)) rfl (xcP (xok_iload_n dX9_isSignByte_12 rfl) rfl (xcP (xok_bipush dX9_isSignByte_13 rfl) rfl (xcP (xok_icmpeq dX9_isSignByte_15 (by decide)) rfl (xcP (xok_iload_n dX9_isSignByte_18 rfl) rfl (xcP (xok_bipush dX9_isSignByte_19 rfl) rfl (xcP (xok_icmpeq dX9_isSignByte_21 (by decide)) rfl (xcP (xok_iload_n dX9_isSignByte_24 rfl) rfl (xcP (xok_bipush dX9_isSignByte_25 rfl) rfl (xcP (xok_icmpeq dX9_isSignByte_27 (by decide)) rfl (xcP (xok_iload_n dX9_isSignByte_30 rfl) rfl (xcP (xok_bipush dX9_isSignByte_31 rfl) rfl (xcP (xok_icmpeq dX9_isSignByte_33 (by decide)) rfl (xcP (xok_iload_n dX9_isSignByte_36 rfl) rfl (xcP (xok_bipush dX9_isSignByte_37 rfl) rfl (xcP (xok_icmpeq dX9_isSignByte_39 (by decide)) rfl (xcP (xok_iload_n dX9_isSignByte_42 rfl) rfl (xcP (xok_bipush dX9_isSignByte_43 rfl) rfl (xcP (xok_icmpeq dX9_isSignByte_45 (by decide)) rfl (xcP (xok_iload_n dX9_isSignByte_48 rfl) rfl (xcP (xok_bipush dX9_isSignByte_49 rfl) rfl (xcP (xok_icmpeq dX9_isSignByte_51 (by decide)) rfl (xcP (xok_iload_n dX9_isSignByte_54 rfl) rfl (xcP (xok_bipush dX9_isSignByte_55 rfl) rfl (xcP (xok_icmpeq dX9_isSignByte_57 (by decide)) rfl (xcP (xok_iload_n dX9_isSignByte_60 rfl) rfl (xcP (xok_bipush dX9_isSignByte_61 rfl) rfl (xcP (xok_icmpeq dX9_isSignByte_63 (by decide)) rfl (xcP (xok_iload_n dX9_isSignByte_66 rfl) rfl (xcP (xok_bipush dX9_isSignByte_67 rfl) rfl (xcP (xok_icmpeq dX9_isSignByte_69 (by decide)) rfl (xcP (xok_iload_n dX9_isSignByte_72 rfl) rfl (xcP (xok_bipush dX9_isSignByte_73 rfl) rfl (xcP (xok_icmpeq dX9_isSignByte_75 (by decide)) rfl (xcP (xok_iload_n dX9_isSignByte_78 rfl) rfl (xcP (xok_bipush dX9_isSignByte_79 rfl) rfl (xcP (xok_icmpeq dX9_isSignByte_81 (by decide)) rfl (xcP (xok_iload_n dX9_isSignByte_84 rfl) rfl (xcP (xok_bipush dX9_isSignByte_85 rfl) rfl (xcP (xok_icmpeq dX9_isSignByte_87 (by decide)) rfl (xcP (xok_iload_n dX9_isSignByte_90 rfl) rfl (xcP (xok_bipush dX9_isSignByte_91 rfl) rfl (xcP (xok_icmpne dX9_isSignByte_93 (by decide)) rfl (xcP xok_fal rfl trivial))))))))))))))))))))))))))))))))))))))))))))))))
theorem okX9_isSignByte_96 : XOkL xms rX9_isSignByte bX9_isSignByte_96 := xcP (xok_iconst dX9_isSignByte_96 rfl) rfl (xcP (xok_goto dX9_isSignByte_97 (by decide)) rfl trivial)
theorem okX9_isSignByte_100 : XOkL xms rX9_isSignByte bX9_isSignByte_100 := xcP (xok_iconst dX9_isSignByte_100 rfl) rfl (xcP xok_fal rfl trivial)
theorem okX9_isSignByte_101 : XOkL xms rX9_isSignByte bX9_isSignByte_101 := xcR ⟨dX9_isSignByte_101, rfl⟩
theorem okM_X9_isSignByte : XOkM xms rX9_isSignByte := xokM0 (List.forall_mem_cons.mpr ⟨⟨rfl, okX9_isSignByte_0⟩, List.forall_mem_cons.mpr ⟨⟨rfl, okX9_isSignByte_96⟩, List.forall_mem_cons.mpr ⟨⟨rfl, okX9_isSignByte_100⟩, List.forall_mem_cons.mpr ⟨⟨rfl, okX9_isSignByte_101⟩, fun _ h => nomatch h⟩⟩⟩⟩) (xokH0 rfl (fun _ _ => rfl)) (by decide +kernel) (by decide)
